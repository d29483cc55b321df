/-! StatueRent -/
set_option maxRecDepth 100000
def RX1 : String := "StatueRent"
def TX1 : u_T := fun k => match k with
  | 0 => ("StatueRent", "tape", "[B", true)
  | 1 => ("StatueRent", "length", "I", false)
  | 2 => ("StatueRent", "size", "I", false)
  | 3 => ("StatueRent", "broken", "LStatueRent$Fault;", true)
  | 4 => ("StatueRent", "lines", "[Ljava/lang/String;", true)
  | 5 => ("StatueRent", "words", "[Ljava/lang/String;", true)
  | 6 => ("StatueRent", "city", "LStatueRent$City;", false)
  | 7 => ("StatueRent", "now", "LStatueRent$State;", true)
  | 8 => ("StatueRent", "tried", "LStatueRent$State;", true)
  | 9 => ("StatueRent", "cityReader", "LStatueRent$CityReader;", true)
  | 10 => ("StatueRent", "logReader", "LStatueRent$LogReader;", true)
  | 11 => ("StatueRent", "fault", "I", false)
  | 12 => ("StatueRent", "ahead", "[LStatueRent$State;", true)
  | 13 => ("StatueRent", "undoMany", "I", false)
  | 14 => ("StatueRent", "places", "[[I", true)
  | 15 => ("StatueRent", "route", "[I", true)
  | 16 => ("StatueRent", "routeRow", "[I", true)
  | 17 => ("StatueRent", "bribes", "[I", true)
  | 18 => ("StatueRent", "bidRow", "[I", true)
  | 19 => ("StatueRent", "routeBest", "I", false)
  | 20 => ("StatueRent", "routeMany", "I", false)
  | 21 => ("StatueRent", "routeTold", "I", false)
  | 22 => ("StatueRent", "bidMany", "I", false)
  | 23 => ("StatueRent", "routeKept", "[I", true)
  | 24 => ("StatueRent", "curedRow", "[I", true)
  | 25 => ("StatueRent", "hasCured", "Z", false)
  | 26 => ("StatueRent", "curing", "[I", true)
  | 27 => ("StatueRent", "surelySet", "I", false)
  | 28 => ("StatueRent", "tellsWhom", "I", false)
  | 29 => ("StatueRent", "hasTaste", "Z", false)
  | 30 => ("StatueRent", "plotSet", "I", false)
  | 31 => ("StatueRent", "hasPlot", "Z", false)
  | 32 => ("StatueRent", "troddenSet", "I", false)
  | 33 => ("StatueRent", "hasGrass", "Z", false)
  | 34 => ("StatueRent", "text", "[B", true)
  | 35 => ("StatueRent", "textMany", "I", false)
  | 36 => ("StatueRent", "loggedRow", "[I", true)
  | 37 => ("StatueRent", "hasLogged", "Z", false)
  | 38 => ("StatueRent", "sentenceReader", "LStatueRent$SentenceReader;", true)
  | 39 => ("StatueRent", "sentence", "LStatueRent$Cond;", false)
  | _ => ("StatueRent", "images", "[LStatueRent$Kept;", true)
def tyX1 : Nat → FieldType := fun k => match k with
  | 0 => .array .byte
  | 1 => .int
  | 2 => .int
  | 3 => .object "StatueRent$Fault"
  | 4 => .array (.object "java/lang/String")
  | 5 => .array (.object "java/lang/String")
  | 6 => .object "StatueRent$City"
  | 7 => .object "StatueRent$State"
  | 8 => .object "StatueRent$State"
  | 9 => .object "StatueRent$CityReader"
  | 10 => .object "StatueRent$LogReader"
  | 11 => .int
  | 12 => .array (.object "StatueRent$State")
  | 13 => .int
  | 14 => .array (.array .int)
  | 15 => .array .int
  | 16 => .array .int
  | 17 => .array .int
  | 18 => .array .int
  | 19 => .int
  | 20 => .int
  | 21 => .int
  | 22 => .int
  | 23 => .array .int
  | 24 => .array .int
  | 25 => .boolean
  | 26 => .array .int
  | 27 => .int
  | 28 => .int
  | 29 => .boolean
  | 30 => .int
  | 31 => .boolean
  | 32 => .int
  | 33 => .boolean
  | 34 => .array .byte
  | 35 => .int
  | 36 => .array .int
  | 37 => .boolean
  | 38 => .object "StatueRent$SentenceReader"
  | 39 => .object "StatueRent$Cond"
  | _ => .array (.object "StatueRent$Kept")
abbrev wsX10 : List Cond := u_ws RX1 TX1 41
set_option maxRecDepth 100000 in
theorem nmX1 : ∀ a, a < 41 → ∀ b, b < 41 → a ≠ b → (TX1 a).2.1 ≠ (TX1 b).2.1 := by decide +kernel
set_option maxRecDepth 100000 in
theorem tyX1_ok : ∀ k, k < 41 → parseFieldDescriptor (TX1 k).2.2.1 = some (tyX1 k) := by decide +kernel
abbrev cX1_init : ByteArray := prog_1_method_1_code
def yX1_init : MethodName := ⟨RX1, "<init>", "()V"⟩
def dkwX1_init_15 : List UInt8 := [183, 0, 160, 181, 0, 161, 42, 5, 189, 0, 165, 181, 0, 167, 177]
abbrev dktX1_init_15 : List UInt8 := dkwX1_init_15 ++ []
def dkwX1_init_14 : List UInt8 := [181, 0, 149, 42, 16, 40, 188, 8, 181, 0, 152, 42, 7, 188, 10, 181, 0, 155, 42, 187, 0, 158, 89, 42]
abbrev dktX1_init_14 : List UInt8 := dkwX1_init_14 ++ dktX1_init_15
def dkwX1_init_13 : List UInt8 := [181, 0, 140, 42, 16, 8, 188, 10, 181, 0, 143, 42, 6, 188, 10, 181, 0, 146, 42, 6, 188, 10]
abbrev dktX1_init_13 : List UInt8 := dkwX1_init_13 ++ dktX1_init_14
def dkwX1_init_12 : List UInt8 := [16, 8, 188, 10, 181, 0, 130, 42, 16, 8, 188, 10, 181, 0, 133, 42, 2, 181, 0, 136, 42, 2]
abbrev dktX1_init_12 : List UInt8 := dkwX1_init_12 ++ dktX1_init_13
def dkwX1_init_11 : List UInt8 := [197, 0, 118, 2, 181, 0, 120, 42, 16, 8, 188, 10, 181, 0, 123, 42, 16, 8, 188, 10, 181, 0, 127, 42]
abbrev dktX1_init_11 : List UInt8 := dkwX1_init_11 ++ dktX1_init_12
def dkwX1_init_10 : List UInt8 := [180, 0, 80, 182, 0, 110, 42, 16, 8, 189, 0, 84, 181, 0, 114, 42, 16, 9, 17, 1, 0]
abbrev dktX1_init_10 : List UInt8 := dkwX1_init_10 ++ dktX1_init_11
def dkwX1_init_9 : List UInt8 := [183, 0, 96, 181, 0, 99, 42, 187, 0, 103, 89, 42, 183, 0, 105, 181, 0, 106, 42, 180, 0, 87, 42]
abbrev dktX1_init_9 : List UInt8 := dkwX1_init_9 ++ dktX1_init_10
def dkwX1_init_8 : List UInt8 := [183, 0, 86, 181, 0, 87, 42, 187, 0, 84, 89, 183, 0, 86, 181, 0, 91, 42, 187, 0, 94, 89, 42]
abbrev dktX1_init_8 : List UInt8 := dkwX1_init_8 ++ dktX1_init_9
def dkwX1_init_7 : List UInt8 := [16, 16, 18, 72, 83, 181, 0, 74, 42, 187, 0, 77, 89, 183, 0, 79, 181, 0, 80, 42, 187, 0, 84, 89]
abbrev dktX1_init_7 : List UInt8 := dkwX1_init_7 ++ dktX1_init_8
def dkwX1_init_6 : List UInt8 := [16, 12, 18, 64, 83, 89, 16, 13, 18, 66, 83, 89, 16, 14, 18, 68, 83, 89, 16, 15, 18, 70, 83, 89]
abbrev dktX1_init_6 : List UInt8 := dkwX1_init_6 ++ dktX1_init_7
def dkwX1_init_5 : List UInt8 := [16, 8, 18, 56, 83, 89, 16, 9, 18, 58, 83, 89, 16, 10, 18, 60, 83, 89, 16, 11, 18, 62, 83, 89]
abbrev dktX1_init_5 : List UInt8 := dkwX1_init_5 ++ dktX1_init_6
def dkwX1_init_4 : List UInt8 := [83, 89, 7, 18, 48, 83, 89, 8, 18, 50, 83, 89, 16, 6, 18, 52, 83, 89, 16, 7, 18, 54, 83, 89]
abbrev dktX1_init_4 : List UInt8 := dkwX1_init_4 ++ dktX1_init_5
def dkwX1_init_3 : List UInt8 := [16, 17, 189, 0, 20, 89, 3, 18, 40, 83, 89, 4, 18, 42, 83, 89, 5, 18, 44, 83, 89, 6, 18, 46]
abbrev dktX1_init_3 : List UInt8 := dkwX1_init_3 ++ dktX1_init_4
def dkwX1_init_2 : List UInt8 := [18, 28, 83, 89, 7, 18, 30, 83, 89, 8, 18, 32, 83, 89, 16, 6, 18, 34, 83, 181, 0, 36, 42]
abbrev dktX1_init_2 : List UInt8 := dkwX1_init_2 ++ dktX1_init_3
def dkwX1_init_1 : List UInt8 := [42, 16, 7, 189, 0, 20, 89, 3, 18, 22, 83, 89, 4, 18, 24, 83, 89, 5, 18, 26, 83, 89, 6]
abbrev dktX1_init_1 : List UInt8 := dkwX1_init_1 ++ dktX1_init_2
def dkwX1_init_0 : List UInt8 := [42, 183, 0, 1, 42, 17, 3, 172, 188, 8, 181, 0, 9, 42, 187, 0, 13, 89, 183, 0, 15, 181, 0, 16]
abbrev dktX1_init_0 : List UInt8 := dkwX1_init_0 ++ dktX1_init_1
theorem dksX1_init_0 : cX1_init.data.toList.drop 0 = dktX1_init_0 := by decide +kernel
theorem dksX1_init_1 : cX1_init.data.toList.drop 24 = dktX1_init_1 := dk_seg dksX1_init_0 24 rfl rfl
theorem dksX1_init_2 : cX1_init.data.toList.drop 47 = dktX1_init_2 := dk_seg dksX1_init_1 23 rfl rfl
theorem dksX1_init_3 : cX1_init.data.toList.drop 70 = dktX1_init_3 := dk_seg dksX1_init_2 23 rfl rfl
theorem dksX1_init_4 : cX1_init.data.toList.drop 94 = dktX1_init_4 := dk_seg dksX1_init_3 24 rfl rfl
theorem dksX1_init_5 : cX1_init.data.toList.drop 118 = dktX1_init_5 := dk_seg dksX1_init_4 24 rfl rfl
theorem dksX1_init_6 : cX1_init.data.toList.drop 142 = dktX1_init_6 := dk_seg dksX1_init_5 24 rfl rfl
theorem dksX1_init_7 : cX1_init.data.toList.drop 166 = dktX1_init_7 := dk_seg dksX1_init_6 24 rfl rfl
theorem dksX1_init_8 : cX1_init.data.toList.drop 190 = dktX1_init_8 := dk_seg dksX1_init_7 24 rfl rfl
theorem dksX1_init_9 : cX1_init.data.toList.drop 213 = dktX1_init_9 := dk_seg dksX1_init_8 23 rfl rfl
theorem dksX1_init_10 : cX1_init.data.toList.drop 236 = dktX1_init_10 := dk_seg dksX1_init_9 23 rfl rfl
theorem dksX1_init_11 : cX1_init.data.toList.drop 257 = dktX1_init_11 := dk_seg dksX1_init_10 21 rfl rfl
theorem dksX1_init_12 : cX1_init.data.toList.drop 281 = dktX1_init_12 := dk_seg dksX1_init_11 24 rfl rfl
theorem dksX1_init_13 : cX1_init.data.toList.drop 303 = dktX1_init_13 := dk_seg dksX1_init_12 22 rfl rfl
theorem dksX1_init_14 : cX1_init.data.toList.drop 325 = dktX1_init_14 := dk_seg dksX1_init_13 22 rfl rfl
theorem dksX1_init_15 : cX1_init.data.toList.drop 349 = dktX1_init_15 := dk_seg dksX1_init_14 24 rfl rfl
theorem dX1_init_0 : decode cX1_init 0 = .ok (.aload_n 0, 1) := dk_42 (dk_at dksX1_init_0 0 rfl rfl)
theorem dX1_init_1 : decode cX1_init 1 = .ok (.invokespecial 1, 3) := dk_183 0 1 (dk_at dksX1_init_0 1 rfl rfl)
theorem dX1_init_4 : decode cX1_init 4 = .ok (.aload_n 0, 1) := dk_42 (dk_at dksX1_init_0 4 rfl rfl)
theorem dX1_init_5 : decode cX1_init 5 = .ok (.sipush 940, 3) := dk_17 3 172 (dk_at dksX1_init_0 5 rfl rfl)
theorem dX1_init_8 : decode cX1_init 8 = .ok (.newarray .byte, 2) := dk_188_8 (dk_at dksX1_init_0 8 rfl rfl)
theorem dX1_init_10 : decode cX1_init 10 = .ok (.putfield 9, 3) := dk_181 0 9 (dk_at dksX1_init_0 10 rfl rfl)
theorem dX1_init_13 : decode cX1_init 13 = .ok (.aload_n 0, 1) := dk_42 (dk_at dksX1_init_0 13 rfl rfl)
theorem dX1_init_14 : decode cX1_init 14 = .ok (.new 13, 3) := dk_187 0 13 (dk_at dksX1_init_0 14 rfl rfl)
theorem dX1_init_17 : decode cX1_init 17 = .ok (.dup, 1) := dk_89 (dk_at dksX1_init_0 17 rfl rfl)
theorem dX1_init_18 : decode cX1_init 18 = .ok (.invokespecial 15, 3) := dk_183 0 15 (dk_at dksX1_init_0 18 rfl rfl)
theorem dX1_init_21 : decode cX1_init 21 = .ok (.putfield 16, 3) := dk_181 0 16 (dk_at dksX1_init_0 21 rfl rfl)
theorem dX1_init_24 : decode cX1_init 24 = .ok (.aload_n 0, 1) := dk_42 (dk_at dksX1_init_1 0 rfl rfl)
theorem dX1_init_25 : decode cX1_init 25 = .ok (.bipush 7, 2) := dk_16 7 (dk_at dksX1_init_1 1 rfl rfl)
theorem dX1_init_27 : decode cX1_init 27 = .ok (.anewarray 20, 3) := dk_189 0 20 (dk_at dksX1_init_1 3 rfl rfl)
theorem dX1_init_30 : decode cX1_init 30 = .ok (.dup, 1) := dk_89 (dk_at dksX1_init_1 6 rfl rfl)
theorem dX1_init_31 : decode cX1_init 31 = .ok (.iconst 0, 1) := dk_3 (dk_at dksX1_init_1 7 rfl rfl)
theorem dX1_init_32 : decode cX1_init 32 = .ok (.ldc 22, 2) := dk_18 22 (dk_at dksX1_init_1 8 rfl rfl)
theorem dX1_init_34 : decode cX1_init 34 = .ok (.aastore, 1) := dk_83 (dk_at dksX1_init_1 10 rfl rfl)
theorem dX1_init_35 : decode cX1_init 35 = .ok (.dup, 1) := dk_89 (dk_at dksX1_init_1 11 rfl rfl)
theorem dX1_init_36 : decode cX1_init 36 = .ok (.iconst 1, 1) := dk_4 (dk_at dksX1_init_1 12 rfl rfl)
theorem dX1_init_37 : decode cX1_init 37 = .ok (.ldc 24, 2) := dk_18 24 (dk_at dksX1_init_1 13 rfl rfl)
theorem dX1_init_39 : decode cX1_init 39 = .ok (.aastore, 1) := dk_83 (dk_at dksX1_init_1 15 rfl rfl)
theorem dX1_init_40 : decode cX1_init 40 = .ok (.dup, 1) := dk_89 (dk_at dksX1_init_1 16 rfl rfl)
theorem dX1_init_41 : decode cX1_init 41 = .ok (.iconst 2, 1) := dk_5 (dk_at dksX1_init_1 17 rfl rfl)
theorem dX1_init_42 : decode cX1_init 42 = .ok (.ldc 26, 2) := dk_18 26 (dk_at dksX1_init_1 18 rfl rfl)
theorem dX1_init_44 : decode cX1_init 44 = .ok (.aastore, 1) := dk_83 (dk_at dksX1_init_1 20 rfl rfl)
theorem dX1_init_45 : decode cX1_init 45 = .ok (.dup, 1) := dk_89 (dk_at dksX1_init_1 21 rfl rfl)
theorem dX1_init_46 : decode cX1_init 46 = .ok (.iconst 3, 1) := dk_6 (dk_at dksX1_init_1 22 rfl rfl)
theorem dX1_init_47 : decode cX1_init 47 = .ok (.ldc 28, 2) := dk_18 28 (dk_at dksX1_init_2 0 rfl rfl)
theorem dX1_init_49 : decode cX1_init 49 = .ok (.aastore, 1) := dk_83 (dk_at dksX1_init_2 2 rfl rfl)
theorem dX1_init_50 : decode cX1_init 50 = .ok (.dup, 1) := dk_89 (dk_at dksX1_init_2 3 rfl rfl)
theorem dX1_init_51 : decode cX1_init 51 = .ok (.iconst 4, 1) := dk_7 (dk_at dksX1_init_2 4 rfl rfl)
theorem dX1_init_52 : decode cX1_init 52 = .ok (.ldc 30, 2) := dk_18 30 (dk_at dksX1_init_2 5 rfl rfl)
theorem dX1_init_54 : decode cX1_init 54 = .ok (.aastore, 1) := dk_83 (dk_at dksX1_init_2 7 rfl rfl)
theorem dX1_init_55 : decode cX1_init 55 = .ok (.dup, 1) := dk_89 (dk_at dksX1_init_2 8 rfl rfl)
theorem dX1_init_56 : decode cX1_init 56 = .ok (.iconst 5, 1) := dk_8 (dk_at dksX1_init_2 9 rfl rfl)
theorem dX1_init_57 : decode cX1_init 57 = .ok (.ldc 32, 2) := dk_18 32 (dk_at dksX1_init_2 10 rfl rfl)
theorem dX1_init_59 : decode cX1_init 59 = .ok (.aastore, 1) := dk_83 (dk_at dksX1_init_2 12 rfl rfl)
theorem dX1_init_60 : decode cX1_init 60 = .ok (.dup, 1) := dk_89 (dk_at dksX1_init_2 13 rfl rfl)
theorem dX1_init_61 : decode cX1_init 61 = .ok (.bipush 6, 2) := dk_16 6 (dk_at dksX1_init_2 14 rfl rfl)
theorem dX1_init_63 : decode cX1_init 63 = .ok (.ldc 34, 2) := dk_18 34 (dk_at dksX1_init_2 16 rfl rfl)
theorem dX1_init_65 : decode cX1_init 65 = .ok (.aastore, 1) := dk_83 (dk_at dksX1_init_2 18 rfl rfl)
theorem dX1_init_66 : decode cX1_init 66 = .ok (.putfield 36, 3) := dk_181 0 36 (dk_at dksX1_init_2 19 rfl rfl)
theorem dX1_init_69 : decode cX1_init 69 = .ok (.aload_n 0, 1) := dk_42 (dk_at dksX1_init_2 22 rfl rfl)
theorem dX1_init_70 : decode cX1_init 70 = .ok (.bipush 17, 2) := dk_16 17 (dk_at dksX1_init_3 0 rfl rfl)
theorem dX1_init_72 : decode cX1_init 72 = .ok (.anewarray 20, 3) := dk_189 0 20 (dk_at dksX1_init_3 2 rfl rfl)
theorem dX1_init_75 : decode cX1_init 75 = .ok (.dup, 1) := dk_89 (dk_at dksX1_init_3 5 rfl rfl)
theorem dX1_init_76 : decode cX1_init 76 = .ok (.iconst 0, 1) := dk_3 (dk_at dksX1_init_3 6 rfl rfl)
theorem dX1_init_77 : decode cX1_init 77 = .ok (.ldc 40, 2) := dk_18 40 (dk_at dksX1_init_3 7 rfl rfl)
theorem dX1_init_79 : decode cX1_init 79 = .ok (.aastore, 1) := dk_83 (dk_at dksX1_init_3 9 rfl rfl)
theorem dX1_init_80 : decode cX1_init 80 = .ok (.dup, 1) := dk_89 (dk_at dksX1_init_3 10 rfl rfl)
theorem dX1_init_81 : decode cX1_init 81 = .ok (.iconst 1, 1) := dk_4 (dk_at dksX1_init_3 11 rfl rfl)
theorem dX1_init_82 : decode cX1_init 82 = .ok (.ldc 42, 2) := dk_18 42 (dk_at dksX1_init_3 12 rfl rfl)
theorem dX1_init_84 : decode cX1_init 84 = .ok (.aastore, 1) := dk_83 (dk_at dksX1_init_3 14 rfl rfl)
theorem dX1_init_85 : decode cX1_init 85 = .ok (.dup, 1) := dk_89 (dk_at dksX1_init_3 15 rfl rfl)
theorem dX1_init_86 : decode cX1_init 86 = .ok (.iconst 2, 1) := dk_5 (dk_at dksX1_init_3 16 rfl rfl)
theorem dX1_init_87 : decode cX1_init 87 = .ok (.ldc 44, 2) := dk_18 44 (dk_at dksX1_init_3 17 rfl rfl)
theorem dX1_init_89 : decode cX1_init 89 = .ok (.aastore, 1) := dk_83 (dk_at dksX1_init_3 19 rfl rfl)
theorem dX1_init_90 : decode cX1_init 90 = .ok (.dup, 1) := dk_89 (dk_at dksX1_init_3 20 rfl rfl)
theorem dX1_init_91 : decode cX1_init 91 = .ok (.iconst 3, 1) := dk_6 (dk_at dksX1_init_3 21 rfl rfl)
theorem dX1_init_92 : decode cX1_init 92 = .ok (.ldc 46, 2) := dk_18 46 (dk_at dksX1_init_3 22 rfl rfl)
theorem dX1_init_94 : decode cX1_init 94 = .ok (.aastore, 1) := dk_83 (dk_at dksX1_init_4 0 rfl rfl)
theorem dX1_init_95 : decode cX1_init 95 = .ok (.dup, 1) := dk_89 (dk_at dksX1_init_4 1 rfl rfl)
theorem dX1_init_96 : decode cX1_init 96 = .ok (.iconst 4, 1) := dk_7 (dk_at dksX1_init_4 2 rfl rfl)
theorem dX1_init_97 : decode cX1_init 97 = .ok (.ldc 48, 2) := dk_18 48 (dk_at dksX1_init_4 3 rfl rfl)
theorem dX1_init_99 : decode cX1_init 99 = .ok (.aastore, 1) := dk_83 (dk_at dksX1_init_4 5 rfl rfl)
theorem dX1_init_100 : decode cX1_init 100 = .ok (.dup, 1) := dk_89 (dk_at dksX1_init_4 6 rfl rfl)
theorem dX1_init_101 : decode cX1_init 101 = .ok (.iconst 5, 1) := dk_8 (dk_at dksX1_init_4 7 rfl rfl)
theorem dX1_init_102 : decode cX1_init 102 = .ok (.ldc 50, 2) := dk_18 50 (dk_at dksX1_init_4 8 rfl rfl)
theorem dX1_init_104 : decode cX1_init 104 = .ok (.aastore, 1) := dk_83 (dk_at dksX1_init_4 10 rfl rfl)
theorem dX1_init_105 : decode cX1_init 105 = .ok (.dup, 1) := dk_89 (dk_at dksX1_init_4 11 rfl rfl)
theorem dX1_init_106 : decode cX1_init 106 = .ok (.bipush 6, 2) := dk_16 6 (dk_at dksX1_init_4 12 rfl rfl)
theorem dX1_init_108 : decode cX1_init 108 = .ok (.ldc 52, 2) := dk_18 52 (dk_at dksX1_init_4 14 rfl rfl)
theorem dX1_init_110 : decode cX1_init 110 = .ok (.aastore, 1) := dk_83 (dk_at dksX1_init_4 16 rfl rfl)
theorem dX1_init_111 : decode cX1_init 111 = .ok (.dup, 1) := dk_89 (dk_at dksX1_init_4 17 rfl rfl)
theorem dX1_init_112 : decode cX1_init 112 = .ok (.bipush 7, 2) := dk_16 7 (dk_at dksX1_init_4 18 rfl rfl)
theorem dX1_init_114 : decode cX1_init 114 = .ok (.ldc 54, 2) := dk_18 54 (dk_at dksX1_init_4 20 rfl rfl)
theorem dX1_init_116 : decode cX1_init 116 = .ok (.aastore, 1) := dk_83 (dk_at dksX1_init_4 22 rfl rfl)
theorem dX1_init_117 : decode cX1_init 117 = .ok (.dup, 1) := dk_89 (dk_at dksX1_init_4 23 rfl rfl)
theorem dX1_init_118 : decode cX1_init 118 = .ok (.bipush 8, 2) := dk_16 8 (dk_at dksX1_init_5 0 rfl rfl)
theorem dX1_init_120 : decode cX1_init 120 = .ok (.ldc 56, 2) := dk_18 56 (dk_at dksX1_init_5 2 rfl rfl)
theorem dX1_init_122 : decode cX1_init 122 = .ok (.aastore, 1) := dk_83 (dk_at dksX1_init_5 4 rfl rfl)
theorem dX1_init_123 : decode cX1_init 123 = .ok (.dup, 1) := dk_89 (dk_at dksX1_init_5 5 rfl rfl)
theorem dX1_init_124 : decode cX1_init 124 = .ok (.bipush 9, 2) := dk_16 9 (dk_at dksX1_init_5 6 rfl rfl)
theorem dX1_init_126 : decode cX1_init 126 = .ok (.ldc 58, 2) := dk_18 58 (dk_at dksX1_init_5 8 rfl rfl)
theorem dX1_init_128 : decode cX1_init 128 = .ok (.aastore, 1) := dk_83 (dk_at dksX1_init_5 10 rfl rfl)
theorem dX1_init_129 : decode cX1_init 129 = .ok (.dup, 1) := dk_89 (dk_at dksX1_init_5 11 rfl rfl)
theorem dX1_init_130 : decode cX1_init 130 = .ok (.bipush 10, 2) := dk_16 10 (dk_at dksX1_init_5 12 rfl rfl)
theorem dX1_init_132 : decode cX1_init 132 = .ok (.ldc 60, 2) := dk_18 60 (dk_at dksX1_init_5 14 rfl rfl)
theorem dX1_init_134 : decode cX1_init 134 = .ok (.aastore, 1) := dk_83 (dk_at dksX1_init_5 16 rfl rfl)
theorem dX1_init_135 : decode cX1_init 135 = .ok (.dup, 1) := dk_89 (dk_at dksX1_init_5 17 rfl rfl)
theorem dX1_init_136 : decode cX1_init 136 = .ok (.bipush 11, 2) := dk_16 11 (dk_at dksX1_init_5 18 rfl rfl)
theorem dX1_init_138 : decode cX1_init 138 = .ok (.ldc 62, 2) := dk_18 62 (dk_at dksX1_init_5 20 rfl rfl)
theorem dX1_init_140 : decode cX1_init 140 = .ok (.aastore, 1) := dk_83 (dk_at dksX1_init_5 22 rfl rfl)
theorem dX1_init_141 : decode cX1_init 141 = .ok (.dup, 1) := dk_89 (dk_at dksX1_init_5 23 rfl rfl)
theorem dX1_init_142 : decode cX1_init 142 = .ok (.bipush 12, 2) := dk_16 12 (dk_at dksX1_init_6 0 rfl rfl)
theorem dX1_init_144 : decode cX1_init 144 = .ok (.ldc 64, 2) := dk_18 64 (dk_at dksX1_init_6 2 rfl rfl)
theorem dX1_init_146 : decode cX1_init 146 = .ok (.aastore, 1) := dk_83 (dk_at dksX1_init_6 4 rfl rfl)
theorem dX1_init_147 : decode cX1_init 147 = .ok (.dup, 1) := dk_89 (dk_at dksX1_init_6 5 rfl rfl)
theorem dX1_init_148 : decode cX1_init 148 = .ok (.bipush 13, 2) := dk_16 13 (dk_at dksX1_init_6 6 rfl rfl)
theorem dX1_init_150 : decode cX1_init 150 = .ok (.ldc 66, 2) := dk_18 66 (dk_at dksX1_init_6 8 rfl rfl)
theorem dX1_init_152 : decode cX1_init 152 = .ok (.aastore, 1) := dk_83 (dk_at dksX1_init_6 10 rfl rfl)
theorem dX1_init_153 : decode cX1_init 153 = .ok (.dup, 1) := dk_89 (dk_at dksX1_init_6 11 rfl rfl)
theorem dX1_init_154 : decode cX1_init 154 = .ok (.bipush 14, 2) := dk_16 14 (dk_at dksX1_init_6 12 rfl rfl)
theorem dX1_init_156 : decode cX1_init 156 = .ok (.ldc 68, 2) := dk_18 68 (dk_at dksX1_init_6 14 rfl rfl)
theorem dX1_init_158 : decode cX1_init 158 = .ok (.aastore, 1) := dk_83 (dk_at dksX1_init_6 16 rfl rfl)
theorem dX1_init_159 : decode cX1_init 159 = .ok (.dup, 1) := dk_89 (dk_at dksX1_init_6 17 rfl rfl)
theorem dX1_init_160 : decode cX1_init 160 = .ok (.bipush 15, 2) := dk_16 15 (dk_at dksX1_init_6 18 rfl rfl)
theorem dX1_init_162 : decode cX1_init 162 = .ok (.ldc 70, 2) := dk_18 70 (dk_at dksX1_init_6 20 rfl rfl)
theorem dX1_init_164 : decode cX1_init 164 = .ok (.aastore, 1) := dk_83 (dk_at dksX1_init_6 22 rfl rfl)
theorem dX1_init_165 : decode cX1_init 165 = .ok (.dup, 1) := dk_89 (dk_at dksX1_init_6 23 rfl rfl)
theorem dX1_init_166 : decode cX1_init 166 = .ok (.bipush 16, 2) := dk_16 16 (dk_at dksX1_init_7 0 rfl rfl)
theorem dX1_init_168 : decode cX1_init 168 = .ok (.ldc 72, 2) := dk_18 72 (dk_at dksX1_init_7 2 rfl rfl)
theorem dX1_init_170 : decode cX1_init 170 = .ok (.aastore, 1) := dk_83 (dk_at dksX1_init_7 4 rfl rfl)
theorem dX1_init_171 : decode cX1_init 171 = .ok (.putfield 74, 3) := dk_181 0 74 (dk_at dksX1_init_7 5 rfl rfl)
theorem dX1_init_174 : decode cX1_init 174 = .ok (.aload_n 0, 1) := dk_42 (dk_at dksX1_init_7 8 rfl rfl)
theorem dX1_init_175 : decode cX1_init 175 = .ok (.new 77, 3) := dk_187 0 77 (dk_at dksX1_init_7 9 rfl rfl)
theorem dX1_init_178 : decode cX1_init 178 = .ok (.dup, 1) := dk_89 (dk_at dksX1_init_7 12 rfl rfl)
theorem dX1_init_179 : decode cX1_init 179 = .ok (.invokespecial 79, 3) := dk_183 0 79 (dk_at dksX1_init_7 13 rfl rfl)
theorem dX1_init_182 : decode cX1_init 182 = .ok (.putfield 80, 3) := dk_181 0 80 (dk_at dksX1_init_7 16 rfl rfl)
theorem dX1_init_185 : decode cX1_init 185 = .ok (.aload_n 0, 1) := dk_42 (dk_at dksX1_init_7 19 rfl rfl)
theorem dX1_init_186 : decode cX1_init 186 = .ok (.new 84, 3) := dk_187 0 84 (dk_at dksX1_init_7 20 rfl rfl)
theorem dX1_init_189 : decode cX1_init 189 = .ok (.dup, 1) := dk_89 (dk_at dksX1_init_7 23 rfl rfl)
theorem dX1_init_190 : decode cX1_init 190 = .ok (.invokespecial 86, 3) := dk_183 0 86 (dk_at dksX1_init_8 0 rfl rfl)
theorem dX1_init_193 : decode cX1_init 193 = .ok (.putfield 87, 3) := dk_181 0 87 (dk_at dksX1_init_8 3 rfl rfl)
theorem dX1_init_196 : decode cX1_init 196 = .ok (.aload_n 0, 1) := dk_42 (dk_at dksX1_init_8 6 rfl rfl)
theorem dX1_init_197 : decode cX1_init 197 = .ok (.new 84, 3) := dk_187 0 84 (dk_at dksX1_init_8 7 rfl rfl)
theorem dX1_init_200 : decode cX1_init 200 = .ok (.dup, 1) := dk_89 (dk_at dksX1_init_8 10 rfl rfl)
theorem dX1_init_201 : decode cX1_init 201 = .ok (.invokespecial 86, 3) := dk_183 0 86 (dk_at dksX1_init_8 11 rfl rfl)
theorem dX1_init_204 : decode cX1_init 204 = .ok (.putfield 91, 3) := dk_181 0 91 (dk_at dksX1_init_8 14 rfl rfl)
theorem dX1_init_207 : decode cX1_init 207 = .ok (.aload_n 0, 1) := dk_42 (dk_at dksX1_init_8 17 rfl rfl)
theorem dX1_init_208 : decode cX1_init 208 = .ok (.new 94, 3) := dk_187 0 94 (dk_at dksX1_init_8 18 rfl rfl)
theorem dX1_init_211 : decode cX1_init 211 = .ok (.dup, 1) := dk_89 (dk_at dksX1_init_8 21 rfl rfl)
theorem dX1_init_212 : decode cX1_init 212 = .ok (.aload_n 0, 1) := dk_42 (dk_at dksX1_init_8 22 rfl rfl)
theorem dX1_init_213 : decode cX1_init 213 = .ok (.invokespecial 96, 3) := dk_183 0 96 (dk_at dksX1_init_9 0 rfl rfl)
theorem dX1_init_216 : decode cX1_init 216 = .ok (.putfield 99, 3) := dk_181 0 99 (dk_at dksX1_init_9 3 rfl rfl)
theorem dX1_init_219 : decode cX1_init 219 = .ok (.aload_n 0, 1) := dk_42 (dk_at dksX1_init_9 6 rfl rfl)
theorem dX1_init_220 : decode cX1_init 220 = .ok (.new 103, 3) := dk_187 0 103 (dk_at dksX1_init_9 7 rfl rfl)
theorem dX1_init_223 : decode cX1_init 223 = .ok (.dup, 1) := dk_89 (dk_at dksX1_init_9 10 rfl rfl)
theorem dX1_init_224 : decode cX1_init 224 = .ok (.aload_n 0, 1) := dk_42 (dk_at dksX1_init_9 11 rfl rfl)
theorem dX1_init_225 : decode cX1_init 225 = .ok (.invokespecial 105, 3) := dk_183 0 105 (dk_at dksX1_init_9 12 rfl rfl)
theorem dX1_init_228 : decode cX1_init 228 = .ok (.putfield 106, 3) := dk_181 0 106 (dk_at dksX1_init_9 15 rfl rfl)
theorem dX1_init_231 : decode cX1_init 231 = .ok (.aload_n 0, 1) := dk_42 (dk_at dksX1_init_9 18 rfl rfl)
theorem dX1_init_232 : decode cX1_init 232 = .ok (.getfield 87, 3) := dk_180 0 87 (dk_at dksX1_init_9 19 rfl rfl)
theorem dX1_init_235 : decode cX1_init 235 = .ok (.aload_n 0, 1) := dk_42 (dk_at dksX1_init_9 22 rfl rfl)
theorem dX1_init_236 : decode cX1_init 236 = .ok (.getfield 80, 3) := dk_180 0 80 (dk_at dksX1_init_10 0 rfl rfl)
theorem dX1_init_239 : decode cX1_init 239 = .ok (.invokevirtual 110, 3) := dk_182 0 110 (dk_at dksX1_init_10 3 rfl rfl)
theorem dX1_init_242 : decode cX1_init 242 = .ok (.aload_n 0, 1) := dk_42 (dk_at dksX1_init_10 6 rfl rfl)
theorem dX1_init_243 : decode cX1_init 243 = .ok (.bipush 8, 2) := dk_16 8 (dk_at dksX1_init_10 7 rfl rfl)
theorem dX1_init_245 : decode cX1_init 245 = .ok (.anewarray 84, 3) := dk_189 0 84 (dk_at dksX1_init_10 9 rfl rfl)
theorem dX1_init_248 : decode cX1_init 248 = .ok (.putfield 114, 3) := dk_181 0 114 (dk_at dksX1_init_10 12 rfl rfl)
theorem dX1_init_251 : decode cX1_init 251 = .ok (.aload_n 0, 1) := dk_42 (dk_at dksX1_init_10 15 rfl rfl)
theorem dX1_init_252 : decode cX1_init 252 = .ok (.bipush 9, 2) := dk_16 9 (dk_at dksX1_init_10 16 rfl rfl)
theorem dX1_init_254 : decode cX1_init 254 = .ok (.sipush 256, 3) := dk_17 1 0 (dk_at dksX1_init_10 18 rfl rfl)
theorem dX1_init_257 : decode cX1_init 257 = .ok (.multianewarray 118 2, 4) := by decide +kernel
theorem dX1_init_261 : decode cX1_init 261 = .ok (.putfield 120, 3) := dk_181 0 120 (dk_at dksX1_init_11 4 rfl rfl)
theorem dX1_init_264 : decode cX1_init 264 = .ok (.aload_n 0, 1) := dk_42 (dk_at dksX1_init_11 7 rfl rfl)
theorem dX1_init_265 : decode cX1_init 265 = .ok (.bipush 8, 2) := dk_16 8 (dk_at dksX1_init_11 8 rfl rfl)
theorem dX1_init_267 : decode cX1_init 267 = .ok (.newarray .int, 2) := dk_188_10 (dk_at dksX1_init_11 10 rfl rfl)
theorem dX1_init_269 : decode cX1_init 269 = .ok (.putfield 123, 3) := dk_181 0 123 (dk_at dksX1_init_11 12 rfl rfl)
theorem dX1_init_272 : decode cX1_init 272 = .ok (.aload_n 0, 1) := dk_42 (dk_at dksX1_init_11 15 rfl rfl)
theorem dX1_init_273 : decode cX1_init 273 = .ok (.bipush 8, 2) := dk_16 8 (dk_at dksX1_init_11 16 rfl rfl)
theorem dX1_init_275 : decode cX1_init 275 = .ok (.newarray .int, 2) := dk_188_10 (dk_at dksX1_init_11 18 rfl rfl)
theorem dX1_init_277 : decode cX1_init 277 = .ok (.putfield 127, 3) := dk_181 0 127 (dk_at dksX1_init_11 20 rfl rfl)
theorem dX1_init_280 : decode cX1_init 280 = .ok (.aload_n 0, 1) := dk_42 (dk_at dksX1_init_11 23 rfl rfl)
theorem dX1_init_281 : decode cX1_init 281 = .ok (.bipush 8, 2) := dk_16 8 (dk_at dksX1_init_12 0 rfl rfl)
theorem dX1_init_283 : decode cX1_init 283 = .ok (.newarray .int, 2) := dk_188_10 (dk_at dksX1_init_12 2 rfl rfl)
theorem dX1_init_285 : decode cX1_init 285 = .ok (.putfield 130, 3) := dk_181 0 130 (dk_at dksX1_init_12 4 rfl rfl)
theorem dX1_init_288 : decode cX1_init 288 = .ok (.aload_n 0, 1) := dk_42 (dk_at dksX1_init_12 7 rfl rfl)
theorem dX1_init_289 : decode cX1_init 289 = .ok (.bipush 8, 2) := dk_16 8 (dk_at dksX1_init_12 8 rfl rfl)
theorem dX1_init_291 : decode cX1_init 291 = .ok (.newarray .int, 2) := dk_188_10 (dk_at dksX1_init_12 10 rfl rfl)
theorem dX1_init_293 : decode cX1_init 293 = .ok (.putfield 133, 3) := dk_181 0 133 (dk_at dksX1_init_12 12 rfl rfl)
theorem dX1_init_296 : decode cX1_init 296 = .ok (.aload_n 0, 1) := dk_42 (dk_at dksX1_init_12 15 rfl rfl)
theorem dX1_init_297 : decode cX1_init 297 = .ok (.iconst (-1), 1) := dk_2 (dk_at dksX1_init_12 16 rfl rfl)
theorem dX1_init_298 : decode cX1_init 298 = .ok (.putfield 136, 3) := dk_181 0 136 (dk_at dksX1_init_12 17 rfl rfl)
theorem dX1_init_301 : decode cX1_init 301 = .ok (.aload_n 0, 1) := dk_42 (dk_at dksX1_init_12 20 rfl rfl)
theorem dX1_init_302 : decode cX1_init 302 = .ok (.iconst (-1), 1) := dk_2 (dk_at dksX1_init_12 21 rfl rfl)
theorem dX1_init_303 : decode cX1_init 303 = .ok (.putfield 140, 3) := dk_181 0 140 (dk_at dksX1_init_13 0 rfl rfl)
theorem dX1_init_306 : decode cX1_init 306 = .ok (.aload_n 0, 1) := dk_42 (dk_at dksX1_init_13 3 rfl rfl)
theorem dX1_init_307 : decode cX1_init 307 = .ok (.bipush 8, 2) := dk_16 8 (dk_at dksX1_init_13 4 rfl rfl)
theorem dX1_init_309 : decode cX1_init 309 = .ok (.newarray .int, 2) := dk_188_10 (dk_at dksX1_init_13 6 rfl rfl)
theorem dX1_init_311 : decode cX1_init 311 = .ok (.putfield 143, 3) := dk_181 0 143 (dk_at dksX1_init_13 8 rfl rfl)
theorem dX1_init_314 : decode cX1_init 314 = .ok (.aload_n 0, 1) := dk_42 (dk_at dksX1_init_13 11 rfl rfl)
theorem dX1_init_315 : decode cX1_init 315 = .ok (.iconst 3, 1) := dk_6 (dk_at dksX1_init_13 12 rfl rfl)
theorem dX1_init_316 : decode cX1_init 316 = .ok (.newarray .int, 2) := dk_188_10 (dk_at dksX1_init_13 13 rfl rfl)
theorem dX1_init_318 : decode cX1_init 318 = .ok (.putfield 146, 3) := dk_181 0 146 (dk_at dksX1_init_13 15 rfl rfl)
theorem dX1_init_321 : decode cX1_init 321 = .ok (.aload_n 0, 1) := dk_42 (dk_at dksX1_init_13 18 rfl rfl)
theorem dX1_init_322 : decode cX1_init 322 = .ok (.iconst 3, 1) := dk_6 (dk_at dksX1_init_13 19 rfl rfl)
theorem dX1_init_323 : decode cX1_init 323 = .ok (.newarray .int, 2) := dk_188_10 (dk_at dksX1_init_13 20 rfl rfl)
theorem dX1_init_325 : decode cX1_init 325 = .ok (.putfield 149, 3) := dk_181 0 149 (dk_at dksX1_init_14 0 rfl rfl)
theorem dX1_init_328 : decode cX1_init 328 = .ok (.aload_n 0, 1) := dk_42 (dk_at dksX1_init_14 3 rfl rfl)
theorem dX1_init_329 : decode cX1_init 329 = .ok (.bipush 40, 2) := dk_16 40 (dk_at dksX1_init_14 4 rfl rfl)
theorem dX1_init_331 : decode cX1_init 331 = .ok (.newarray .byte, 2) := dk_188_8 (dk_at dksX1_init_14 6 rfl rfl)
theorem dX1_init_333 : decode cX1_init 333 = .ok (.putfield 152, 3) := dk_181 0 152 (dk_at dksX1_init_14 8 rfl rfl)
theorem dX1_init_336 : decode cX1_init 336 = .ok (.aload_n 0, 1) := dk_42 (dk_at dksX1_init_14 11 rfl rfl)
theorem dX1_init_337 : decode cX1_init 337 = .ok (.iconst 4, 1) := dk_7 (dk_at dksX1_init_14 12 rfl rfl)
theorem dX1_init_338 : decode cX1_init 338 = .ok (.newarray .int, 2) := dk_188_10 (dk_at dksX1_init_14 13 rfl rfl)
theorem dX1_init_340 : decode cX1_init 340 = .ok (.putfield 155, 3) := dk_181 0 155 (dk_at dksX1_init_14 15 rfl rfl)
theorem dX1_init_343 : decode cX1_init 343 = .ok (.aload_n 0, 1) := dk_42 (dk_at dksX1_init_14 18 rfl rfl)
theorem dX1_init_344 : decode cX1_init 344 = .ok (.new 158, 3) := dk_187 0 158 (dk_at dksX1_init_14 19 rfl rfl)
theorem dX1_init_347 : decode cX1_init 347 = .ok (.dup, 1) := dk_89 (dk_at dksX1_init_14 22 rfl rfl)
theorem dX1_init_348 : decode cX1_init 348 = .ok (.aload_n 0, 1) := dk_42 (dk_at dksX1_init_14 23 rfl rfl)
theorem dX1_init_349 : decode cX1_init 349 = .ok (.invokespecial 160, 3) := dk_183 0 160 (dk_at dksX1_init_15 0 rfl rfl)
theorem dX1_init_352 : decode cX1_init 352 = .ok (.putfield 161, 3) := dk_181 0 161 (dk_at dksX1_init_15 3 rfl rfl)
theorem dX1_init_355 : decode cX1_init 355 = .ok (.aload_n 0, 1) := dk_42 (dk_at dksX1_init_15 6 rfl rfl)
theorem dX1_init_356 : decode cX1_init 356 = .ok (.iconst 2, 1) := dk_5 (dk_at dksX1_init_15 7 rfl rfl)
theorem dX1_init_357 : decode cX1_init 357 = .ok (.anewarray 165, 3) := dk_189 0 165 (dk_at dksX1_init_15 8 rfl rfl)
theorem dX1_init_360 : decode cX1_init 360 = .ok (.putfield 167, 3) := dk_181 0 167 (dk_at dksX1_init_15 11 rfl rfl)
theorem dX1_init_363 : decode cX1_init 363 = .ok (.return_, 1) := dk_177 (dk_at dksX1_init_15 14 rfl rfl)
abbrev cX1_feed : ByteArray := prog_1_method_2_code
def yX1_feed : MethodName := ⟨RX1, "feed", "(IIIII)I"⟩
def dkwX1_feed_2 : List UInt8 := [172]
abbrev dktX1_feed_2 : List UInt8 := dkwX1_feed_2 ++ []
def dkwX1_feed_1 : List UInt8 := [182, 0, 174, 42, 29, 182, 0, 174, 42, 21, 4, 182, 0, 174, 42, 21, 5, 182, 0, 174, 42, 180, 0, 171]
abbrev dktX1_feed_1 : List UInt8 := dkwX1_feed_1 ++ dktX1_feed_2
def dkwX1_feed_0 : List UInt8 := [42, 180, 0, 171, 16, 20, 96, 17, 3, 172, 164, 0, 5, 2, 172, 42, 27, 182, 0, 174, 42, 28]
abbrev dktX1_feed_0 : List UInt8 := dkwX1_feed_0 ++ dktX1_feed_1
theorem dksX1_feed_0 : cX1_feed.data.toList.drop 0 = dktX1_feed_0 := by decide +kernel
theorem dksX1_feed_1 : cX1_feed.data.toList.drop 22 = dktX1_feed_1 := dk_seg dksX1_feed_0 22 rfl rfl
theorem dksX1_feed_2 : cX1_feed.data.toList.drop 46 = dktX1_feed_2 := dk_seg dksX1_feed_1 24 rfl rfl
theorem dX1_feed_0 : decode cX1_feed 0 = .ok (.aload_n 0, 1) := dk_42 (dk_at dksX1_feed_0 0 rfl rfl)
theorem dX1_feed_1 : decode cX1_feed 1 = .ok (.getfield 171, 3) := dk_180 0 171 (dk_at dksX1_feed_0 1 rfl rfl)
theorem dX1_feed_4 : decode cX1_feed 4 = .ok (.bipush 20, 2) := dk_16 20 (dk_at dksX1_feed_0 4 rfl rfl)
theorem dX1_feed_6 : decode cX1_feed 6 = .ok (.iadd, 1) := dk_96 (dk_at dksX1_feed_0 6 rfl rfl)
theorem dX1_feed_7 : decode cX1_feed 7 = .ok (.sipush 940, 3) := dk_17 3 172 (dk_at dksX1_feed_0 7 rfl rfl)
theorem dX1_feed_10 : decode cX1_feed 10 = .ok (.if_icmp .le 5, 3) := dk_164 0 5 (dk_at dksX1_feed_0 10 rfl rfl)
theorem dX1_feed_13 : decode cX1_feed 13 = .ok (.iconst (-1), 1) := dk_2 (dk_at dksX1_feed_0 13 rfl rfl)
theorem dX1_feed_14 : decode cX1_feed 14 = .ok (.ireturn, 1) := dk_172 (dk_at dksX1_feed_0 14 rfl rfl)
theorem dX1_feed_15 : decode cX1_feed 15 = .ok (.aload_n 0, 1) := dk_42 (dk_at dksX1_feed_0 15 rfl rfl)
theorem dX1_feed_16 : decode cX1_feed 16 = .ok (.iload_n 1, 1) := dk_27 (dk_at dksX1_feed_0 16 rfl rfl)
theorem dX1_feed_17 : decode cX1_feed 17 = .ok (.invokevirtual 174, 3) := dk_182 0 174 (dk_at dksX1_feed_0 17 rfl rfl)
theorem dX1_feed_20 : decode cX1_feed 20 = .ok (.aload_n 0, 1) := dk_42 (dk_at dksX1_feed_0 20 rfl rfl)
theorem dX1_feed_21 : decode cX1_feed 21 = .ok (.iload_n 2, 1) := dk_28 (dk_at dksX1_feed_0 21 rfl rfl)
theorem dX1_feed_22 : decode cX1_feed 22 = .ok (.invokevirtual 174, 3) := dk_182 0 174 (dk_at dksX1_feed_1 0 rfl rfl)
theorem dX1_feed_25 : decode cX1_feed 25 = .ok (.aload_n 0, 1) := dk_42 (dk_at dksX1_feed_1 3 rfl rfl)
theorem dX1_feed_26 : decode cX1_feed 26 = .ok (.iload_n 3, 1) := dk_29 (dk_at dksX1_feed_1 4 rfl rfl)
theorem dX1_feed_27 : decode cX1_feed 27 = .ok (.invokevirtual 174, 3) := dk_182 0 174 (dk_at dksX1_feed_1 5 rfl rfl)
theorem dX1_feed_30 : decode cX1_feed 30 = .ok (.aload_n 0, 1) := dk_42 (dk_at dksX1_feed_1 8 rfl rfl)
theorem dX1_feed_31 : decode cX1_feed 31 = .ok (.iload 4, 2) := dk_21 4 (dk_at dksX1_feed_1 9 rfl rfl)
theorem dX1_feed_33 : decode cX1_feed 33 = .ok (.invokevirtual 174, 3) := dk_182 0 174 (dk_at dksX1_feed_1 11 rfl rfl)
theorem dX1_feed_36 : decode cX1_feed 36 = .ok (.aload_n 0, 1) := dk_42 (dk_at dksX1_feed_1 14 rfl rfl)
theorem dX1_feed_37 : decode cX1_feed 37 = .ok (.iload 5, 2) := dk_21 5 (dk_at dksX1_feed_1 15 rfl rfl)
theorem dX1_feed_39 : decode cX1_feed 39 = .ok (.invokevirtual 174, 3) := dk_182 0 174 (dk_at dksX1_feed_1 17 rfl rfl)
theorem dX1_feed_42 : decode cX1_feed 42 = .ok (.aload_n 0, 1) := dk_42 (dk_at dksX1_feed_1 20 rfl rfl)
theorem dX1_feed_43 : decode cX1_feed 43 = .ok (.getfield 171, 3) := dk_180 0 171 (dk_at dksX1_feed_1 21 rfl rfl)
theorem dX1_feed_46 : decode cX1_feed 46 = .ok (.ireturn, 1) := dk_172 (dk_at dksX1_feed_2 0 rfl rfl)
abbrev cX1_four : ByteArray := prog_1_method_3_code
def yX1_four : MethodName := ⟨RX1, "four", "(I)V"⟩
def dkwX1_four_1 : List UInt8 := [180, 0, 171, 4, 96, 181, 0, 171, 132, 2, 248, 167, 255, 226, 177]
abbrev dktX1_four_1 : List UInt8 := dkwX1_four_1 ++ []
def dkwX1_four_0 : List UInt8 := [16, 24, 61, 28, 155, 0, 32, 42, 180, 0, 9, 42, 180, 0, 171, 27, 28, 122, 145, 84, 42, 89]
abbrev dktX1_four_0 : List UInt8 := dkwX1_four_0 ++ dktX1_four_1
theorem dksX1_four_0 : cX1_four.data.toList.drop 0 = dktX1_four_0 := by decide +kernel
theorem dksX1_four_1 : cX1_four.data.toList.drop 22 = dktX1_four_1 := dk_seg dksX1_four_0 22 rfl rfl
theorem dX1_four_0 : decode cX1_four 0 = .ok (.bipush 24, 2) := dk_16 24 (dk_at dksX1_four_0 0 rfl rfl)
theorem dX1_four_2 : decode cX1_four 2 = .ok (.istore_n 2, 1) := dk_61 (dk_at dksX1_four_0 2 rfl rfl)
theorem dX1_four_3 : decode cX1_four 3 = .ok (.iload_n 2, 1) := dk_28 (dk_at dksX1_four_0 3 rfl rfl)
theorem dX1_four_4 : decode cX1_four 4 = .ok (.ifCond .lt 32, 3) := dk_155 0 32 (dk_at dksX1_four_0 4 rfl rfl)
theorem dX1_four_7 : decode cX1_four 7 = .ok (.aload_n 0, 1) := dk_42 (dk_at dksX1_four_0 7 rfl rfl)
theorem dX1_four_8 : decode cX1_four 8 = .ok (.getfield 9, 3) := dk_180 0 9 (dk_at dksX1_four_0 8 rfl rfl)
theorem dX1_four_11 : decode cX1_four 11 = .ok (.aload_n 0, 1) := dk_42 (dk_at dksX1_four_0 11 rfl rfl)
theorem dX1_four_12 : decode cX1_four 12 = .ok (.getfield 171, 3) := dk_180 0 171 (dk_at dksX1_four_0 12 rfl rfl)
theorem dX1_four_15 : decode cX1_four 15 = .ok (.iload_n 1, 1) := dk_27 (dk_at dksX1_four_0 15 rfl rfl)
theorem dX1_four_16 : decode cX1_four 16 = .ok (.iload_n 2, 1) := dk_28 (dk_at dksX1_four_0 16 rfl rfl)
theorem dX1_four_17 : decode cX1_four 17 = .ok (.ishr, 1) := dk_122 (dk_at dksX1_four_0 17 rfl rfl)
theorem dX1_four_18 : decode cX1_four 18 = .ok (.i2b, 1) := dk_145 (dk_at dksX1_four_0 18 rfl rfl)
theorem dX1_four_19 : decode cX1_four 19 = .ok (.bastore, 1) := dk_84 (dk_at dksX1_four_0 19 rfl rfl)
theorem dX1_four_20 : decode cX1_four 20 = .ok (.aload_n 0, 1) := dk_42 (dk_at dksX1_four_0 20 rfl rfl)
theorem dX1_four_21 : decode cX1_four 21 = .ok (.dup, 1) := dk_89 (dk_at dksX1_four_0 21 rfl rfl)
theorem dX1_four_22 : decode cX1_four 22 = .ok (.getfield 171, 3) := dk_180 0 171 (dk_at dksX1_four_1 0 rfl rfl)
theorem dX1_four_25 : decode cX1_four 25 = .ok (.iconst 1, 1) := dk_4 (dk_at dksX1_four_1 3 rfl rfl)
theorem dX1_four_26 : decode cX1_four 26 = .ok (.iadd, 1) := dk_96 (dk_at dksX1_four_1 4 rfl rfl)
theorem dX1_four_27 : decode cX1_four 27 = .ok (.putfield 171, 3) := dk_181 0 171 (dk_at dksX1_four_1 5 rfl rfl)
theorem dX1_four_30 : decode cX1_four 30 = .ok (.iinc 2 (-8), 3) := dk_132 2 248 (dk_at dksX1_four_1 8 rfl rfl)
theorem dX1_four_33 : decode cX1_four 33 = .ok (.goto (-30), 3) := dk_167 255 226 (dk_at dksX1_four_1 11 rfl rfl)
theorem dX1_four_36 : decode cX1_four 36 = .ok (.return_, 1) := dk_177 (dk_at dksX1_four_1 14 rfl rfl)
abbrev cX1_end : ByteArray := prog_1_method_4_code
def yX1_end : MethodName := ⟨RX1, "end", "(I)Z"⟩
def dkwX1_end_0 : List UInt8 := [27, 155, 0, 11, 27, 42, 180, 0, 171, 164, 0, 5, 3, 172, 42, 27, 181, 0, 171, 4, 172]
abbrev dktX1_end_0 : List UInt8 := dkwX1_end_0 ++ []
theorem dksX1_end_0 : cX1_end.data.toList.drop 0 = dktX1_end_0 := by decide +kernel
theorem dX1_end_0 : decode cX1_end 0 = .ok (.iload_n 1, 1) := dk_27 (dk_at dksX1_end_0 0 rfl rfl)
theorem dX1_end_1 : decode cX1_end 1 = .ok (.ifCond .lt 11, 3) := dk_155 0 11 (dk_at dksX1_end_0 1 rfl rfl)
theorem dX1_end_4 : decode cX1_end 4 = .ok (.iload_n 1, 1) := dk_27 (dk_at dksX1_end_0 4 rfl rfl)
theorem dX1_end_5 : decode cX1_end 5 = .ok (.aload_n 0, 1) := dk_42 (dk_at dksX1_end_0 5 rfl rfl)
theorem dX1_end_6 : decode cX1_end 6 = .ok (.getfield 171, 3) := dk_180 0 171 (dk_at dksX1_end_0 6 rfl rfl)
theorem dX1_end_9 : decode cX1_end 9 = .ok (.if_icmp .le 5, 3) := dk_164 0 5 (dk_at dksX1_end_0 9 rfl rfl)
theorem dX1_end_12 : decode cX1_end 12 = .ok (.iconst 0, 1) := dk_3 (dk_at dksX1_end_0 12 rfl rfl)
theorem dX1_end_13 : decode cX1_end 13 = .ok (.ireturn, 1) := dk_172 (dk_at dksX1_end_0 13 rfl rfl)
theorem dX1_end_14 : decode cX1_end 14 = .ok (.aload_n 0, 1) := dk_42 (dk_at dksX1_end_0 14 rfl rfl)
theorem dX1_end_15 : decode cX1_end 15 = .ok (.iload_n 1, 1) := dk_27 (dk_at dksX1_end_0 15 rfl rfl)
theorem dX1_end_16 : decode cX1_end 16 = .ok (.putfield 171, 3) := dk_181 0 171 (dk_at dksX1_end_0 16 rfl rfl)
theorem dX1_end_19 : decode cX1_end 19 = .ok (.iconst 1, 1) := dk_4 (dk_at dksX1_end_0 19 rfl rfl)
theorem dX1_end_20 : decode cX1_end 20 = .ok (.ireturn, 1) := dk_172 (dk_at dksX1_end_0 20 rfl rfl)
abbrev cX1_city : ByteArray := prog_1_method_10_code
def yX1_city : MethodName := ⟨RX1, "city", "()I"⟩
def dkwX1_city_3 : List UInt8 := [100, 172]
abbrev dktX1_city_3 : List UInt8 := dkwX1_city_3 ++ []
def dkwX1_city_2 : List UInt8 := [181, 0, 197, 42, 1, 181, 0, 200, 28, 172, 77, 42, 44, 180, 0, 204, 181, 0, 187, 2, 44, 180, 0, 206]
abbrev dktX1_city_2 : List UInt8 := dkwX1_city_2 ++ dktX1_city_3
def dkwX1_city_1 : List UInt8 := [182, 0, 190, 61, 43, 182, 0, 194, 42, 43, 181, 0, 80, 42, 180, 0, 87, 43, 182, 0, 110, 42, 3]
abbrev dktX1_city_1 : List UInt8 := dkwX1_city_1 ++ dktX1_city_2
def dkwX1_city_0 : List UInt8 := [42, 182, 0, 184, 42, 3, 181, 0, 187, 187, 0, 77, 89, 183, 0, 79, 76, 42, 180, 0, 99, 43]
abbrev dktX1_city_0 : List UInt8 := dkwX1_city_0 ++ dktX1_city_1
theorem dksX1_city_0 : cX1_city.data.toList.drop 0 = dktX1_city_0 := by decide +kernel
theorem dksX1_city_1 : cX1_city.data.toList.drop 22 = dktX1_city_1 := dk_seg dksX1_city_0 22 rfl rfl
theorem dksX1_city_2 : cX1_city.data.toList.drop 45 = dktX1_city_2 := dk_seg dksX1_city_1 23 rfl rfl
theorem dksX1_city_3 : cX1_city.data.toList.drop 69 = dktX1_city_3 := dk_seg dksX1_city_2 24 rfl rfl
theorem dX1_city_0 : decode cX1_city 0 = .ok (.aload_n 0, 1) := dk_42 (dk_at dksX1_city_0 0 rfl rfl)
theorem dX1_city_1 : decode cX1_city 1 = .ok (.invokevirtual 184, 3) := dk_182 0 184 (dk_at dksX1_city_0 1 rfl rfl)
theorem dX1_city_4 : decode cX1_city 4 = .ok (.aload_n 0, 1) := dk_42 (dk_at dksX1_city_0 4 rfl rfl)
theorem dX1_city_5 : decode cX1_city 5 = .ok (.iconst 0, 1) := dk_3 (dk_at dksX1_city_0 5 rfl rfl)
theorem dX1_city_6 : decode cX1_city 6 = .ok (.putfield 187, 3) := dk_181 0 187 (dk_at dksX1_city_0 6 rfl rfl)
theorem dX1_city_9 : decode cX1_city 9 = .ok (.new 77, 3) := dk_187 0 77 (dk_at dksX1_city_0 9 rfl rfl)
theorem dX1_city_12 : decode cX1_city 12 = .ok (.dup, 1) := dk_89 (dk_at dksX1_city_0 12 rfl rfl)
theorem dX1_city_13 : decode cX1_city 13 = .ok (.invokespecial 79, 3) := dk_183 0 79 (dk_at dksX1_city_0 13 rfl rfl)
theorem dX1_city_16 : decode cX1_city 16 = .ok (.astore_n 1, 1) := dk_76 (dk_at dksX1_city_0 16 rfl rfl)
theorem dX1_city_17 : decode cX1_city 17 = .ok (.aload_n 0, 1) := dk_42 (dk_at dksX1_city_0 17 rfl rfl)
theorem dX1_city_18 : decode cX1_city 18 = .ok (.getfield 99, 3) := dk_180 0 99 (dk_at dksX1_city_0 18 rfl rfl)
theorem dX1_city_21 : decode cX1_city 21 = .ok (.aload_n 1, 1) := dk_43 (dk_at dksX1_city_0 21 rfl rfl)
theorem dX1_city_22 : decode cX1_city 22 = .ok (.invokevirtual 190, 3) := dk_182 0 190 (dk_at dksX1_city_1 0 rfl rfl)
theorem dX1_city_25 : decode cX1_city 25 = .ok (.istore_n 2, 1) := dk_61 (dk_at dksX1_city_1 3 rfl rfl)
theorem dX1_city_26 : decode cX1_city 26 = .ok (.aload_n 1, 1) := dk_43 (dk_at dksX1_city_1 4 rfl rfl)
theorem dX1_city_27 : decode cX1_city 27 = .ok (.invokevirtual 194, 3) := dk_182 0 194 (dk_at dksX1_city_1 5 rfl rfl)
theorem dX1_city_30 : decode cX1_city 30 = .ok (.aload_n 0, 1) := dk_42 (dk_at dksX1_city_1 8 rfl rfl)
theorem dX1_city_31 : decode cX1_city 31 = .ok (.aload_n 1, 1) := dk_43 (dk_at dksX1_city_1 9 rfl rfl)
theorem dX1_city_32 : decode cX1_city 32 = .ok (.putfield 80, 3) := dk_181 0 80 (dk_at dksX1_city_1 10 rfl rfl)
theorem dX1_city_35 : decode cX1_city 35 = .ok (.aload_n 0, 1) := dk_42 (dk_at dksX1_city_1 13 rfl rfl)
theorem dX1_city_36 : decode cX1_city 36 = .ok (.getfield 87, 3) := dk_180 0 87 (dk_at dksX1_city_1 14 rfl rfl)
theorem dX1_city_39 : decode cX1_city 39 = .ok (.aload_n 1, 1) := dk_43 (dk_at dksX1_city_1 17 rfl rfl)
theorem dX1_city_40 : decode cX1_city 40 = .ok (.invokevirtual 110, 3) := dk_182 0 110 (dk_at dksX1_city_1 18 rfl rfl)
theorem dX1_city_43 : decode cX1_city 43 = .ok (.aload_n 0, 1) := dk_42 (dk_at dksX1_city_1 21 rfl rfl)
theorem dX1_city_44 : decode cX1_city 44 = .ok (.iconst 0, 1) := dk_3 (dk_at dksX1_city_1 22 rfl rfl)
theorem dX1_city_45 : decode cX1_city 45 = .ok (.putfield 197, 3) := dk_181 0 197 (dk_at dksX1_city_2 0 rfl rfl)
theorem dX1_city_48 : decode cX1_city 48 = .ok (.aload_n 0, 1) := dk_42 (dk_at dksX1_city_2 3 rfl rfl)
theorem dX1_city_49 : decode cX1_city 49 = .ok (.aconst_null, 1) := dk_1 (dk_at dksX1_city_2 4 rfl rfl)
theorem dX1_city_50 : decode cX1_city 50 = .ok (.putfield 200, 3) := dk_181 0 200 (dk_at dksX1_city_2 5 rfl rfl)
theorem dX1_city_53 : decode cX1_city 53 = .ok (.iload_n 2, 1) := dk_28 (dk_at dksX1_city_2 8 rfl rfl)
theorem dX1_city_54 : decode cX1_city 54 = .ok (.ireturn, 1) := dk_172 (dk_at dksX1_city_2 9 rfl rfl)
theorem dX1_city_55 : decode cX1_city 55 = .ok (.astore_n 2, 1) := dk_77 (dk_at dksX1_city_2 10 rfl rfl)
theorem dX1_city_56 : decode cX1_city 56 = .ok (.aload_n 0, 1) := dk_42 (dk_at dksX1_city_2 11 rfl rfl)
theorem dX1_city_57 : decode cX1_city 57 = .ok (.aload_n 2, 1) := dk_44 (dk_at dksX1_city_2 12 rfl rfl)
theorem dX1_city_58 : decode cX1_city 58 = .ok (.getfield 204, 3) := dk_180 0 204 (dk_at dksX1_city_2 13 rfl rfl)
theorem dX1_city_61 : decode cX1_city 61 = .ok (.putfield 187, 3) := dk_181 0 187 (dk_at dksX1_city_2 16 rfl rfl)
theorem dX1_city_64 : decode cX1_city 64 = .ok (.iconst (-1), 1) := dk_2 (dk_at dksX1_city_2 19 rfl rfl)
theorem dX1_city_65 : decode cX1_city 65 = .ok (.aload_n 2, 1) := dk_44 (dk_at dksX1_city_2 20 rfl rfl)
theorem dX1_city_66 : decode cX1_city 66 = .ok (.getfield 206, 3) := dk_180 0 206 (dk_at dksX1_city_2 21 rfl rfl)
theorem dX1_city_69 : decode cX1_city 69 = .ok (.isub, 1) := dk_100 (dk_at dksX1_city_3 0 rfl rfl)
theorem dX1_city_70 : decode cX1_city 70 = .ok (.ireturn, 1) := dk_172 (dk_at dksX1_city_3 1 rfl rfl)
abbrev cX1_taken : ByteArray := prog_1_method_5_code
def yX1_taken : MethodName := ⟨RX1, "taken", "()V"⟩
def dkwX1_taken_0 : List UInt8 := [42, 42, 180, 0, 171, 181, 0, 178, 42, 3, 181, 0, 171, 177]
abbrev dktX1_taken_0 : List UInt8 := dkwX1_taken_0 ++ []
theorem dksX1_taken_0 : cX1_taken.data.toList.drop 0 = dktX1_taken_0 := by decide +kernel
theorem dX1_taken_0 : decode cX1_taken 0 = .ok (.aload_n 0, 1) := dk_42 (dk_at dksX1_taken_0 0 rfl rfl)
theorem dX1_taken_1 : decode cX1_taken 1 = .ok (.aload_n 0, 1) := dk_42 (dk_at dksX1_taken_0 1 rfl rfl)
theorem dX1_taken_2 : decode cX1_taken 2 = .ok (.getfield 171, 3) := dk_180 0 171 (dk_at dksX1_taken_0 2 rfl rfl)
theorem dX1_taken_5 : decode cX1_taken 5 = .ok (.putfield 178, 3) := dk_181 0 178 (dk_at dksX1_taken_0 5 rfl rfl)
theorem dX1_taken_8 : decode cX1_taken 8 = .ok (.aload_n 0, 1) := dk_42 (dk_at dksX1_taken_0 8 rfl rfl)
theorem dX1_taken_9 : decode cX1_taken 9 = .ok (.iconst 0, 1) := dk_3 (dk_at dksX1_taken_0 9 rfl rfl)
theorem dX1_taken_10 : decode cX1_taken 10 = .ok (.putfield 171, 3) := dk_181 0 171 (dk_at dksX1_taken_0 10 rfl rfl)
theorem dX1_taken_13 : decode cX1_taken 13 = .ok (.return_, 1) := dk_177 (dk_at dksX1_taken_0 13 rfl rfl)
abbrev cX1_isIn : ByteArray := prog_1_method_7_code
def yX1_isIn : MethodName := ⟨RX1, "isIn", "(III)Z"⟩
def dkwX1_isIn_0 : List UInt8 := [26, 27, 161, 0, 12, 26, 28, 163, 0, 7, 4, 167, 0, 4, 3, 172]
abbrev dktX1_isIn_0 : List UInt8 := dkwX1_isIn_0 ++ []
theorem dksX1_isIn_0 : cX1_isIn.data.toList.drop 0 = dktX1_isIn_0 := by decide +kernel
theorem dX1_isIn_0 : decode cX1_isIn 0 = .ok (.iload_n 0, 1) := dk_26 (dk_at dksX1_isIn_0 0 rfl rfl)
theorem dX1_isIn_1 : decode cX1_isIn 1 = .ok (.iload_n 1, 1) := dk_27 (dk_at dksX1_isIn_0 1 rfl rfl)
theorem dX1_isIn_2 : decode cX1_isIn 2 = .ok (.if_icmp .lt 12, 3) := dk_161 0 12 (dk_at dksX1_isIn_0 2 rfl rfl)
theorem dX1_isIn_5 : decode cX1_isIn 5 = .ok (.iload_n 0, 1) := dk_26 (dk_at dksX1_isIn_0 5 rfl rfl)
theorem dX1_isIn_6 : decode cX1_isIn 6 = .ok (.iload_n 2, 1) := dk_28 (dk_at dksX1_isIn_0 6 rfl rfl)
theorem dX1_isIn_7 : decode cX1_isIn 7 = .ok (.if_icmp .gt 7, 3) := dk_163 0 7 (dk_at dksX1_isIn_0 7 rfl rfl)
theorem dX1_isIn_10 : decode cX1_isIn 10 = .ok (.iconst 1, 1) := dk_4 (dk_at dksX1_isIn_0 10 rfl rfl)
theorem dX1_isIn_11 : decode cX1_isIn 11 = .ok (.goto 4, 3) := dk_167 0 4 (dk_at dksX1_isIn_0 11 rfl rfl)
theorem dX1_isIn_14 : decode cX1_isIn 14 = .ok (.iconst 0, 1) := dk_3 (dk_at dksX1_isIn_0 14 rfl rfl)
theorem dX1_isIn_15 : decode cX1_isIn 15 = .ok (.ireturn, 1) := dk_172 (dk_at dksX1_isIn_0 15 rfl rfl)
abbrev cX1_has : ByteArray := prog_1_method_9_code
def yX1_has : MethodName := ⟨RX1, "has", "(II)Z"⟩
def dkwX1_has_0 : List UInt8 := [26, 27, 122, 4, 126, 4, 160, 0, 7, 4, 167, 0, 4, 3, 172]
abbrev dktX1_has_0 : List UInt8 := dkwX1_has_0 ++ []
theorem dksX1_has_0 : cX1_has.data.toList.drop 0 = dktX1_has_0 := by decide +kernel
theorem dX1_has_0 : decode cX1_has 0 = .ok (.iload_n 0, 1) := dk_26 (dk_at dksX1_has_0 0 rfl rfl)
theorem dX1_has_1 : decode cX1_has 1 = .ok (.iload_n 1, 1) := dk_27 (dk_at dksX1_has_0 1 rfl rfl)
theorem dX1_has_2 : decode cX1_has 2 = .ok (.ishr, 1) := dk_122 (dk_at dksX1_has_0 2 rfl rfl)
theorem dX1_has_3 : decode cX1_has 3 = .ok (.iconst 1, 1) := dk_4 (dk_at dksX1_has_0 3 rfl rfl)
theorem dX1_has_4 : decode cX1_has 4 = .ok (.iand, 1) := dk_126 (dk_at dksX1_has_0 4 rfl rfl)
theorem dX1_has_5 : decode cX1_has 5 = .ok (.iconst 1, 1) := dk_4 (dk_at dksX1_has_0 5 rfl rfl)
theorem dX1_has_6 : decode cX1_has 6 = .ok (.if_icmp .ne 7, 3) := dk_160 0 7 (dk_at dksX1_has_0 6 rfl rfl)
theorem dX1_has_9 : decode cX1_has 9 = .ok (.iconst 1, 1) := dk_4 (dk_at dksX1_has_0 9 rfl rfl)
theorem dX1_has_10 : decode cX1_has 10 = .ok (.goto 4, 3) := dk_167 0 4 (dk_at dksX1_has_0 10 rfl rfl)
theorem dX1_has_13 : decode cX1_has 13 = .ok (.iconst 0, 1) := dk_3 (dk_at dksX1_has_0 13 rfl rfl)
theorem dX1_has_14 : decode cX1_has 14 = .ok (.ireturn, 1) := dk_172 (dk_at dksX1_has_0 14 rfl rfl)
abbrev cX1_fault : ByteArray := prog_1_method_11_code
def yX1_fault : MethodName := ⟨RX1, "fault", "()I"⟩
theorem dX1_fault_0 : decode cX1_fault 0 = .ok (.aload_n 0, 1) := by decide +kernel
theorem dX1_fault_1 : decode cX1_fault 1 = .ok (.getfield 187, 3) := by decide +kernel
theorem dX1_fault_4 : decode cX1_fault 4 = .ok (.ireturn, 1) := by decide +kernel
abbrev cX1_square : ByteArray := prog_1_method_17_code
def yX1_square : MethodName := ⟨RX1, "square", "(II)I"⟩
def dkwX1_square_3 : List UInt8 := [180, 0, 80, 180, 0, 248, 27, 46, 172, 42, 180, 0, 80, 27, 182, 0, 251, 172, 2, 172]
abbrev dktX1_square_3 : List UInt8 := dkwX1_square_3 ++ []
def dkwX1_square_2 : List UInt8 := [42, 180, 0, 80, 180, 0, 242, 27, 46, 172, 42, 180, 0, 87, 42, 180, 0, 80, 27, 182, 0, 245, 172, 42]
abbrev dktX1_square_2 : List UInt8 := dkwX1_square_2 ++ dktX1_square_3
def dkwX1_square_1 : List UInt8 := [170, 0, 0, 0, 71, 0, 0, 0, 0, 0, 0, 0, 3, 0, 0, 0, 29, 0, 0, 0, 39, 0, 0, 0, 52, 0, 0, 0, 62]
abbrev dktX1_square_1 : List UInt8 := dkwX1_square_1 ++ dktX1_square_2
def dkwX1_square_0 : List UInt8 := [42, 27, 182, 0, 239, 154, 0, 5, 2, 172, 28]
abbrev dktX1_square_0 : List UInt8 := dkwX1_square_0 ++ dktX1_square_1
theorem dksX1_square_0 : cX1_square.data.toList.drop 0 = dktX1_square_0 := by decide +kernel
theorem dksX1_square_1 : cX1_square.data.toList.drop 11 = dktX1_square_1 := dk_seg dksX1_square_0 11 rfl rfl
theorem dksX1_square_2 : cX1_square.data.toList.drop 40 = dktX1_square_2 := dk_seg dksX1_square_1 29 rfl rfl
theorem dksX1_square_3 : cX1_square.data.toList.drop 64 = dktX1_square_3 := dk_seg dksX1_square_2 24 rfl rfl
theorem dX1_square_0 : decode cX1_square 0 = .ok (.aload_n 0, 1) := dk_42 (dk_at dksX1_square_0 0 rfl rfl)
theorem dX1_square_1 : decode cX1_square 1 = .ok (.iload_n 1, 1) := dk_27 (dk_at dksX1_square_0 1 rfl rfl)
theorem dX1_square_2 : decode cX1_square 2 = .ok (.invokevirtual 239, 3) := dk_182 0 239 (dk_at dksX1_square_0 2 rfl rfl)
theorem dX1_square_5 : decode cX1_square 5 = .ok (.ifCond .ne 5, 3) := dk_154 0 5 (dk_at dksX1_square_0 5 rfl rfl)
theorem dX1_square_8 : decode cX1_square 8 = .ok (.iconst (-1), 1) := dk_2 (dk_at dksX1_square_0 8 rfl rfl)
theorem dX1_square_9 : decode cX1_square 9 = .ok (.ireturn, 1) := dk_172 (dk_at dksX1_square_0 9 rfl rfl)
theorem dX1_square_10 : decode cX1_square 10 = .ok (.iload_n 2, 1) := dk_28 (dk_at dksX1_square_0 10 rfl rfl)
theorem dX1_square_11 : decode cX1_square 11 = .ok (.tableswitch 71 0 3 #[29, 39, 52, 62], 29) := by decide +kernel
theorem dX1_square_40 : decode cX1_square 40 = .ok (.aload_n 0, 1) := dk_42 (dk_at dksX1_square_2 0 rfl rfl)
theorem dX1_square_41 : decode cX1_square 41 = .ok (.getfield 80, 3) := dk_180 0 80 (dk_at dksX1_square_2 1 rfl rfl)
theorem dX1_square_44 : decode cX1_square 44 = .ok (.getfield 242, 3) := dk_180 0 242 (dk_at dksX1_square_2 4 rfl rfl)
theorem dX1_square_47 : decode cX1_square 47 = .ok (.iload_n 1, 1) := dk_27 (dk_at dksX1_square_2 7 rfl rfl)
theorem dX1_square_48 : decode cX1_square 48 = .ok (.iaload, 1) := dk_46 (dk_at dksX1_square_2 8 rfl rfl)
theorem dX1_square_49 : decode cX1_square 49 = .ok (.ireturn, 1) := dk_172 (dk_at dksX1_square_2 9 rfl rfl)
theorem dX1_square_50 : decode cX1_square 50 = .ok (.aload_n 0, 1) := dk_42 (dk_at dksX1_square_2 10 rfl rfl)
theorem dX1_square_51 : decode cX1_square 51 = .ok (.getfield 87, 3) := dk_180 0 87 (dk_at dksX1_square_2 11 rfl rfl)
theorem dX1_square_54 : decode cX1_square 54 = .ok (.aload_n 0, 1) := dk_42 (dk_at dksX1_square_2 14 rfl rfl)
theorem dX1_square_55 : decode cX1_square 55 = .ok (.getfield 80, 3) := dk_180 0 80 (dk_at dksX1_square_2 15 rfl rfl)
theorem dX1_square_58 : decode cX1_square 58 = .ok (.iload_n 1, 1) := dk_27 (dk_at dksX1_square_2 18 rfl rfl)
theorem dX1_square_59 : decode cX1_square 59 = .ok (.invokevirtual 245, 3) := dk_182 0 245 (dk_at dksX1_square_2 19 rfl rfl)
theorem dX1_square_62 : decode cX1_square 62 = .ok (.ireturn, 1) := dk_172 (dk_at dksX1_square_2 22 rfl rfl)
theorem dX1_square_63 : decode cX1_square 63 = .ok (.aload_n 0, 1) := dk_42 (dk_at dksX1_square_2 23 rfl rfl)
theorem dX1_square_64 : decode cX1_square 64 = .ok (.getfield 80, 3) := dk_180 0 80 (dk_at dksX1_square_3 0 rfl rfl)
theorem dX1_square_67 : decode cX1_square 67 = .ok (.getfield 248, 3) := dk_180 0 248 (dk_at dksX1_square_3 3 rfl rfl)
theorem dX1_square_70 : decode cX1_square 70 = .ok (.iload_n 1, 1) := dk_27 (dk_at dksX1_square_3 6 rfl rfl)
theorem dX1_square_71 : decode cX1_square 71 = .ok (.iaload, 1) := dk_46 (dk_at dksX1_square_3 7 rfl rfl)
theorem dX1_square_72 : decode cX1_square 72 = .ok (.ireturn, 1) := dk_172 (dk_at dksX1_square_3 8 rfl rfl)
theorem dX1_square_73 : decode cX1_square 73 = .ok (.aload_n 0, 1) := dk_42 (dk_at dksX1_square_3 9 rfl rfl)
theorem dX1_square_74 : decode cX1_square 74 = .ok (.getfield 80, 3) := dk_180 0 80 (dk_at dksX1_square_3 10 rfl rfl)
theorem dX1_square_77 : decode cX1_square 77 = .ok (.iload_n 1, 1) := dk_27 (dk_at dksX1_square_3 13 rfl rfl)
theorem dX1_square_78 : decode cX1_square 78 = .ok (.invokevirtual 251, 3) := dk_182 0 251 (dk_at dksX1_square_3 14 rfl rfl)
theorem dX1_square_81 : decode cX1_square 81 = .ok (.ireturn, 1) := dk_172 (dk_at dksX1_square_3 17 rfl rfl)
theorem dX1_square_82 : decode cX1_square 82 = .ok (.iconst (-1), 1) := dk_2 (dk_at dksX1_square_3 18 rfl rfl)
theorem dX1_square_83 : decode cX1_square 83 = .ok (.ireturn, 1) := dk_172 (dk_at dksX1_square_3 19 rfl rfl)
abbrev cX1_isSquare : ByteArray := prog_1_method_12_code
def yX1_isSquare : MethodName := ⟨RX1, "isSquare", "(I)Z"⟩
def dkwX1_isSquare_0 : List UInt8 := [27, 3, 42, 180, 0, 80, 180, 0, 209, 4, 100, 184, 0, 212, 172]
abbrev dktX1_isSquare_0 : List UInt8 := dkwX1_isSquare_0 ++ []
theorem dksX1_isSquare_0 : cX1_isSquare.data.toList.drop 0 = dktX1_isSquare_0 := by decide +kernel
theorem dX1_isSquare_0 : decode cX1_isSquare 0 = .ok (.iload_n 1, 1) := dk_27 (dk_at dksX1_isSquare_0 0 rfl rfl)
theorem dX1_isSquare_1 : decode cX1_isSquare 1 = .ok (.iconst 0, 1) := dk_3 (dk_at dksX1_isSquare_0 1 rfl rfl)
theorem dX1_isSquare_2 : decode cX1_isSquare 2 = .ok (.aload_n 0, 1) := dk_42 (dk_at dksX1_isSquare_0 2 rfl rfl)
theorem dX1_isSquare_3 : decode cX1_isSquare 3 = .ok (.getfield 80, 3) := dk_180 0 80 (dk_at dksX1_isSquare_0 3 rfl rfl)
theorem dX1_isSquare_6 : decode cX1_isSquare 6 = .ok (.getfield 209, 3) := dk_180 0 209 (dk_at dksX1_isSquare_0 6 rfl rfl)
theorem dX1_isSquare_9 : decode cX1_isSquare 9 = .ok (.iconst 1, 1) := dk_4 (dk_at dksX1_isSquare_0 9 rfl rfl)
theorem dX1_isSquare_10 : decode cX1_isSquare 10 = .ok (.isub, 1) := dk_100 (dk_at dksX1_isSquare_0 10 rfl rfl)
theorem dX1_isSquare_11 : decode cX1_isSquare 11 = .ok (.invokestatic 212, 3) := dk_184 0 212 (dk_at dksX1_isSquare_0 11 rfl rfl)
theorem dX1_isSquare_14 : decode cX1_isSquare 14 = .ok (.ireturn, 1) := dk_172 (dk_at dksX1_isSquare_0 14 rfl rfl)
abbrev cX1_way : ByteArray := prog_1_method_20_code
def yX1_way : MethodName := ⟨RX1, "way", "(II)I"⟩
def dkwX1_way_1 : List UInt8 := [184, 0, 212, 153, 0, 17, 42, 180, 0, 80, 180, 1, 33, 27, 50, 28, 46, 167, 0, 4, 2, 172]
abbrev dktX1_way_1 : List UInt8 := dkwX1_way_1 ++ []
def dkwX1_way_0 : List UInt8 := [42, 27, 182, 1, 18, 153, 0, 37, 28, 3, 42, 180, 0, 80, 180, 1, 33, 27, 50, 190, 4, 100]
abbrev dktX1_way_0 : List UInt8 := dkwX1_way_0 ++ dktX1_way_1
theorem dksX1_way_0 : cX1_way.data.toList.drop 0 = dktX1_way_0 := by decide +kernel
theorem dksX1_way_1 : cX1_way.data.toList.drop 22 = dktX1_way_1 := dk_seg dksX1_way_0 22 rfl rfl
theorem dX1_way_0 : decode cX1_way 0 = .ok (.aload_n 0, 1) := dk_42 (dk_at dksX1_way_0 0 rfl rfl)
theorem dX1_way_1 : decode cX1_way 1 = .ok (.iload_n 1, 1) := dk_27 (dk_at dksX1_way_0 1 rfl rfl)
theorem dX1_way_2 : decode cX1_way 2 = .ok (.invokevirtual 274, 3) := dk_182 1 18 (dk_at dksX1_way_0 2 rfl rfl)
theorem dX1_way_5 : decode cX1_way 5 = .ok (.ifCond .eq 37, 3) := dk_153 0 37 (dk_at dksX1_way_0 5 rfl rfl)
theorem dX1_way_8 : decode cX1_way 8 = .ok (.iload_n 2, 1) := dk_28 (dk_at dksX1_way_0 8 rfl rfl)
theorem dX1_way_9 : decode cX1_way 9 = .ok (.iconst 0, 1) := dk_3 (dk_at dksX1_way_0 9 rfl rfl)
theorem dX1_way_10 : decode cX1_way 10 = .ok (.aload_n 0, 1) := dk_42 (dk_at dksX1_way_0 10 rfl rfl)
theorem dX1_way_11 : decode cX1_way 11 = .ok (.getfield 80, 3) := dk_180 0 80 (dk_at dksX1_way_0 11 rfl rfl)
theorem dX1_way_14 : decode cX1_way 14 = .ok (.getfield 289, 3) := dk_180 1 33 (dk_at dksX1_way_0 14 rfl rfl)
theorem dX1_way_17 : decode cX1_way 17 = .ok (.iload_n 1, 1) := dk_27 (dk_at dksX1_way_0 17 rfl rfl)
theorem dX1_way_18 : decode cX1_way 18 = .ok (.aaload, 1) := dk_50 (dk_at dksX1_way_0 18 rfl rfl)
theorem dX1_way_19 : decode cX1_way 19 = .ok (.arraylength, 1) := dk_190 (dk_at dksX1_way_0 19 rfl rfl)
theorem dX1_way_20 : decode cX1_way 20 = .ok (.iconst 1, 1) := dk_4 (dk_at dksX1_way_0 20 rfl rfl)
theorem dX1_way_21 : decode cX1_way 21 = .ok (.isub, 1) := dk_100 (dk_at dksX1_way_0 21 rfl rfl)
theorem dX1_way_22 : decode cX1_way 22 = .ok (.invokestatic 212, 3) := dk_184 0 212 (dk_at dksX1_way_1 0 rfl rfl)
theorem dX1_way_25 : decode cX1_way 25 = .ok (.ifCond .eq 17, 3) := dk_153 0 17 (dk_at dksX1_way_1 3 rfl rfl)
theorem dX1_way_28 : decode cX1_way 28 = .ok (.aload_n 0, 1) := dk_42 (dk_at dksX1_way_1 6 rfl rfl)
theorem dX1_way_29 : decode cX1_way 29 = .ok (.getfield 80, 3) := dk_180 0 80 (dk_at dksX1_way_1 7 rfl rfl)
theorem dX1_way_32 : decode cX1_way 32 = .ok (.getfield 289, 3) := dk_180 1 33 (dk_at dksX1_way_1 10 rfl rfl)
theorem dX1_way_35 : decode cX1_way 35 = .ok (.iload_n 1, 1) := dk_27 (dk_at dksX1_way_1 13 rfl rfl)
theorem dX1_way_36 : decode cX1_way 36 = .ok (.aaload, 1) := dk_50 (dk_at dksX1_way_1 14 rfl rfl)
theorem dX1_way_37 : decode cX1_way 37 = .ok (.iload_n 2, 1) := dk_28 (dk_at dksX1_way_1 15 rfl rfl)
theorem dX1_way_38 : decode cX1_way 38 = .ok (.iaload, 1) := dk_46 (dk_at dksX1_way_1 16 rfl rfl)
theorem dX1_way_39 : decode cX1_way 39 = .ok (.goto 4, 3) := dk_167 0 4 (dk_at dksX1_way_1 17 rfl rfl)
theorem dX1_way_42 : decode cX1_way 42 = .ok (.iconst (-1), 1) := dk_2 (dk_at dksX1_way_1 20 rfl rfl)
theorem dX1_way_43 : decode cX1_way 43 = .ok (.ireturn, 1) := dk_172 (dk_at dksX1_way_1 21 rfl rfl)
abbrev cX1_isWalker : ByteArray := prog_1_method_15_code
def yX1_isWalker : MethodName := ⟨RX1, "isWalker", "(I)Z"⟩
def dkwX1_isWalker_0 : List UInt8 := [27, 3, 42, 180, 0, 80, 180, 0, 222, 4, 100, 184, 0, 212, 172]
abbrev dktX1_isWalker_0 : List UInt8 := dkwX1_isWalker_0 ++ []
theorem dksX1_isWalker_0 : cX1_isWalker.data.toList.drop 0 = dktX1_isWalker_0 := by decide +kernel
theorem dX1_isWalker_0 : decode cX1_isWalker 0 = .ok (.iload_n 1, 1) := dk_27 (dk_at dksX1_isWalker_0 0 rfl rfl)
theorem dX1_isWalker_1 : decode cX1_isWalker 1 = .ok (.iconst 0, 1) := dk_3 (dk_at dksX1_isWalker_0 1 rfl rfl)
theorem dX1_isWalker_2 : decode cX1_isWalker 2 = .ok (.aload_n 0, 1) := dk_42 (dk_at dksX1_isWalker_0 2 rfl rfl)
theorem dX1_isWalker_3 : decode cX1_isWalker 3 = .ok (.getfield 80, 3) := dk_180 0 80 (dk_at dksX1_isWalker_0 3 rfl rfl)
theorem dX1_isWalker_6 : decode cX1_isWalker 6 = .ok (.getfield 222, 3) := dk_180 0 222 (dk_at dksX1_isWalker_0 6 rfl rfl)
theorem dX1_isWalker_9 : decode cX1_isWalker 9 = .ok (.iconst 1, 1) := dk_4 (dk_at dksX1_isWalker_0 9 rfl rfl)
theorem dX1_isWalker_10 : decode cX1_isWalker 10 = .ok (.isub, 1) := dk_100 (dk_at dksX1_isWalker_0 10 rfl rfl)
theorem dX1_isWalker_11 : decode cX1_isWalker 11 = .ok (.invokestatic 212, 3) := dk_184 0 212 (dk_at dksX1_isWalker_0 11 rfl rfl)
theorem dX1_isWalker_14 : decode cX1_isWalker 14 = .ok (.ireturn, 1) := dk_172 (dk_at dksX1_isWalker_0 14 rfl rfl)
abbrev cX1_likes : ByteArray := prog_1_method_21_code
def yX1_likes : MethodName := ⟨RX1, "likes", "(III)I"⟩
def dkwX1_likes_3 : List UInt8 := [42, 180, 0, 87, 42, 180, 0, 80, 27, 28, 182, 1, 48, 172, 2, 172]
abbrev dktX1_likes_3 : List UInt8 := dkwX1_likes_3 ++ []
def dkwX1_likes_2 : List UInt8 := [42, 180, 0, 80, 27, 28, 182, 1, 45, 172, 42, 180, 0, 87, 180, 1, 39, 8, 27, 104, 28, 96, 46, 172]
abbrev dktX1_likes_2 : List UInt8 := dkwX1_likes_2 ++ dktX1_likes_3
def dkwX1_likes_1 : List UInt8 := [170, 0, 0, 0, 63, 0, 0, 0, 0, 0, 0, 0, 2, 0, 0, 0, 25, 0, 0, 0, 35, 0, 0, 0, 49]
abbrev dktX1_likes_1 : List UInt8 := dkwX1_likes_1 ++ dktX1_likes_2
def dkwX1_likes_0 : List UInt8 := [42, 27, 182, 1, 18, 153, 0, 11, 42, 28, 182, 1, 42, 154, 0, 5, 2, 172, 29]
abbrev dktX1_likes_0 : List UInt8 := dkwX1_likes_0 ++ dktX1_likes_1
theorem dksX1_likes_0 : cX1_likes.data.toList.drop 0 = dktX1_likes_0 := by decide +kernel
theorem dksX1_likes_1 : cX1_likes.data.toList.drop 19 = dktX1_likes_1 := dk_seg dksX1_likes_0 19 rfl rfl
theorem dksX1_likes_2 : cX1_likes.data.toList.drop 44 = dktX1_likes_2 := dk_seg dksX1_likes_1 25 rfl rfl
theorem dksX1_likes_3 : cX1_likes.data.toList.drop 68 = dktX1_likes_3 := dk_seg dksX1_likes_2 24 rfl rfl
theorem dX1_likes_0 : decode cX1_likes 0 = .ok (.aload_n 0, 1) := dk_42 (dk_at dksX1_likes_0 0 rfl rfl)
theorem dX1_likes_1 : decode cX1_likes 1 = .ok (.iload_n 1, 1) := dk_27 (dk_at dksX1_likes_0 1 rfl rfl)
theorem dX1_likes_2 : decode cX1_likes 2 = .ok (.invokevirtual 274, 3) := dk_182 1 18 (dk_at dksX1_likes_0 2 rfl rfl)
theorem dX1_likes_5 : decode cX1_likes 5 = .ok (.ifCond .eq 11, 3) := dk_153 0 11 (dk_at dksX1_likes_0 5 rfl rfl)
theorem dX1_likes_8 : decode cX1_likes 8 = .ok (.aload_n 0, 1) := dk_42 (dk_at dksX1_likes_0 8 rfl rfl)
theorem dX1_likes_9 : decode cX1_likes 9 = .ok (.iload_n 2, 1) := dk_28 (dk_at dksX1_likes_0 9 rfl rfl)
theorem dX1_likes_10 : decode cX1_likes 10 = .ok (.invokevirtual 298, 3) := dk_182 1 42 (dk_at dksX1_likes_0 10 rfl rfl)
theorem dX1_likes_13 : decode cX1_likes 13 = .ok (.ifCond .ne 5, 3) := dk_154 0 5 (dk_at dksX1_likes_0 13 rfl rfl)
theorem dX1_likes_16 : decode cX1_likes 16 = .ok (.iconst (-1), 1) := dk_2 (dk_at dksX1_likes_0 16 rfl rfl)
theorem dX1_likes_17 : decode cX1_likes 17 = .ok (.ireturn, 1) := dk_172 (dk_at dksX1_likes_0 17 rfl rfl)
theorem dX1_likes_18 : decode cX1_likes 18 = .ok (.iload_n 3, 1) := dk_29 (dk_at dksX1_likes_0 18 rfl rfl)
theorem dX1_likes_19 : decode cX1_likes 19 = .ok (.tableswitch 63 0 2 #[25, 35, 49], 25) := by decide +kernel
theorem dX1_likes_44 : decode cX1_likes 44 = .ok (.aload_n 0, 1) := dk_42 (dk_at dksX1_likes_2 0 rfl rfl)
theorem dX1_likes_45 : decode cX1_likes 45 = .ok (.getfield 80, 3) := dk_180 0 80 (dk_at dksX1_likes_2 1 rfl rfl)
theorem dX1_likes_48 : decode cX1_likes 48 = .ok (.iload_n 1, 1) := dk_27 (dk_at dksX1_likes_2 4 rfl rfl)
theorem dX1_likes_49 : decode cX1_likes 49 = .ok (.iload_n 2, 1) := dk_28 (dk_at dksX1_likes_2 5 rfl rfl)
theorem dX1_likes_50 : decode cX1_likes 50 = .ok (.invokevirtual 301, 3) := dk_182 1 45 (dk_at dksX1_likes_2 6 rfl rfl)
theorem dX1_likes_53 : decode cX1_likes 53 = .ok (.ireturn, 1) := dk_172 (dk_at dksX1_likes_2 9 rfl rfl)
theorem dX1_likes_54 : decode cX1_likes 54 = .ok (.aload_n 0, 1) := dk_42 (dk_at dksX1_likes_2 10 rfl rfl)
theorem dX1_likes_55 : decode cX1_likes 55 = .ok (.getfield 87, 3) := dk_180 0 87 (dk_at dksX1_likes_2 11 rfl rfl)
theorem dX1_likes_58 : decode cX1_likes 58 = .ok (.getfield 295, 3) := dk_180 1 39 (dk_at dksX1_likes_2 14 rfl rfl)
theorem dX1_likes_61 : decode cX1_likes 61 = .ok (.iconst 5, 1) := dk_8 (dk_at dksX1_likes_2 17 rfl rfl)
theorem dX1_likes_62 : decode cX1_likes 62 = .ok (.iload_n 1, 1) := dk_27 (dk_at dksX1_likes_2 18 rfl rfl)
theorem dX1_likes_63 : decode cX1_likes 63 = .ok (.imul, 1) := dk_104 (dk_at dksX1_likes_2 19 rfl rfl)
theorem dX1_likes_64 : decode cX1_likes 64 = .ok (.iload_n 2, 1) := dk_28 (dk_at dksX1_likes_2 20 rfl rfl)
theorem dX1_likes_65 : decode cX1_likes 65 = .ok (.iadd, 1) := dk_96 (dk_at dksX1_likes_2 21 rfl rfl)
theorem dX1_likes_66 : decode cX1_likes 66 = .ok (.iaload, 1) := dk_46 (dk_at dksX1_likes_2 22 rfl rfl)
theorem dX1_likes_67 : decode cX1_likes 67 = .ok (.ireturn, 1) := dk_172 (dk_at dksX1_likes_2 23 rfl rfl)
theorem dX1_likes_68 : decode cX1_likes 68 = .ok (.aload_n 0, 1) := dk_42 (dk_at dksX1_likes_3 0 rfl rfl)
theorem dX1_likes_69 : decode cX1_likes 69 = .ok (.getfield 87, 3) := dk_180 0 87 (dk_at dksX1_likes_3 1 rfl rfl)
theorem dX1_likes_72 : decode cX1_likes 72 = .ok (.aload_n 0, 1) := dk_42 (dk_at dksX1_likes_3 4 rfl rfl)
theorem dX1_likes_73 : decode cX1_likes 73 = .ok (.getfield 80, 3) := dk_180 0 80 (dk_at dksX1_likes_3 5 rfl rfl)
theorem dX1_likes_76 : decode cX1_likes 76 = .ok (.iload_n 1, 1) := dk_27 (dk_at dksX1_likes_3 8 rfl rfl)
theorem dX1_likes_77 : decode cX1_likes 77 = .ok (.iload_n 2, 1) := dk_28 (dk_at dksX1_likes_3 9 rfl rfl)
theorem dX1_likes_78 : decode cX1_likes 78 = .ok (.invokevirtual 304, 3) := dk_182 1 48 (dk_at dksX1_likes_3 10 rfl rfl)
theorem dX1_likes_81 : decode cX1_likes 81 = .ok (.ireturn, 1) := dk_172 (dk_at dksX1_likes_3 13 rfl rfl)
theorem dX1_likes_82 : decode cX1_likes 82 = .ok (.iconst (-1), 1) := dk_2 (dk_at dksX1_likes_3 14 rfl rfl)
theorem dX1_likes_83 : decode cX1_likes 83 = .ok (.ireturn, 1) := dk_172 (dk_at dksX1_likes_3 15 rfl rfl)
abbrev cX1_isKind : ByteArray := prog_1_method_13_code
def yX1_isKind : MethodName := ⟨RX1, "isKind", "(I)Z"⟩
def dkwX1_isKind_0 : List UInt8 := [27, 3, 42, 180, 0, 80, 180, 0, 216, 4, 100, 184, 0, 212, 172]
abbrev dktX1_isKind_0 : List UInt8 := dkwX1_isKind_0 ++ []
theorem dksX1_isKind_0 : cX1_isKind.data.toList.drop 0 = dktX1_isKind_0 := by decide +kernel
theorem dX1_isKind_0 : decode cX1_isKind 0 = .ok (.iload_n 1, 1) := dk_27 (dk_at dksX1_isKind_0 0 rfl rfl)
theorem dX1_isKind_1 : decode cX1_isKind 1 = .ok (.iconst 0, 1) := dk_3 (dk_at dksX1_isKind_0 1 rfl rfl)
theorem dX1_isKind_2 : decode cX1_isKind 2 = .ok (.aload_n 0, 1) := dk_42 (dk_at dksX1_isKind_0 2 rfl rfl)
theorem dX1_isKind_3 : decode cX1_isKind 3 = .ok (.getfield 80, 3) := dk_180 0 80 (dk_at dksX1_isKind_0 3 rfl rfl)
theorem dX1_isKind_6 : decode cX1_isKind 6 = .ok (.getfield 216, 3) := dk_180 0 216 (dk_at dksX1_isKind_0 6 rfl rfl)
theorem dX1_isKind_9 : decode cX1_isKind 9 = .ok (.iconst 1, 1) := dk_4 (dk_at dksX1_isKind_0 9 rfl rfl)
theorem dX1_isKind_10 : decode cX1_isKind 10 = .ok (.isub, 1) := dk_100 (dk_at dksX1_isKind_0 10 rfl rfl)
theorem dX1_isKind_11 : decode cX1_isKind 11 = .ok (.invokestatic 212, 3) := dk_184 0 212 (dk_at dksX1_isKind_0 11 rfl rfl)
theorem dX1_isKind_14 : decode cX1_isKind 14 = .ok (.ireturn, 1) := dk_172 (dk_at dksX1_isKind_0 14 rfl rfl)
abbrev cX1_now : ByteArray := prog_1_method_22_code
def yX1_now : MethodName := ⟨RX1, "now", "(I)I"⟩
def dkwX1_now_6 : List UInt8 := [42, 180, 0, 87, 180, 1, 57, 172, 21, 4, 172, 21, 5, 172, 2, 172]
abbrev dktX1_now_6 : List UInt8 := dkwX1_now_6 ++ []
def dkwX1_now_5 : List UInt8 := [42, 180, 0, 87, 180, 1, 52, 172, 42, 180, 0, 87, 42, 180, 0, 80, 182, 1, 54, 172, 28, 172, 29, 172]
abbrev dktX1_now_5 : List UInt8 := dkwX1_now_5 ++ dktX1_now_6
def dkwX1_now_4 : List UInt8 := [170, 0, 0, 0, 79, 0, 0, 0, 0, 0, 0, 0, 6, 0, 0, 0, 41, 0, 0, 0, 49, 0, 0, 0, 61, 0, 0, 0, 63, 0, 0, 0, 65, 0, 0, 0, 73, 0, 0, 0, 76]
abbrev dktX1_now_4 : List UInt8 := dkwX1_now_4 ++ dktX1_now_5
def dkwX1_now_3 : List UInt8 := [153, 0, 12, 21, 5, 4, 21, 6, 120, 128, 54, 5, 132, 6, 1, 167, 255, 186, 27]
abbrev dktX1_now_3 : List UInt8 := dkwX1_now_3 ++ dktX1_now_4
def dkwX1_now_2 : List UInt8 := [25, 7, 180, 1, 8, 96, 62, 21, 4, 25, 7, 180, 1, 16, 96, 54, 4, 25, 7, 180, 1, 13]
abbrev dktX1_now_2 : List UInt8 := dkwX1_now_2 ++ dktX1_now_3
def dkwX1_now_1 : List UInt8 := [162, 0, 64, 42, 180, 0, 87, 180, 0, 229, 21, 6, 50, 58, 7, 28, 25, 7, 180, 1, 6, 96, 61, 29]
abbrev dktX1_now_1 : List UInt8 := dkwX1_now_1 ++ dktX1_now_2
def dkwX1_now_0 : List UInt8 := [3, 61, 3, 62, 3, 54, 4, 3, 54, 5, 3, 54, 6, 21, 6, 42, 180, 0, 80, 180, 0, 219]
abbrev dktX1_now_0 : List UInt8 := dkwX1_now_0 ++ dktX1_now_1
theorem dksX1_now_0 : cX1_now.data.toList.drop 0 = dktX1_now_0 := by decide +kernel
theorem dksX1_now_1 : cX1_now.data.toList.drop 22 = dktX1_now_1 := dk_seg dksX1_now_0 22 rfl rfl
theorem dksX1_now_2 : cX1_now.data.toList.drop 46 = dktX1_now_2 := dk_seg dksX1_now_1 24 rfl rfl
theorem dksX1_now_3 : cX1_now.data.toList.drop 68 = dktX1_now_3 := dk_seg dksX1_now_2 22 rfl rfl
theorem dksX1_now_4 : cX1_now.data.toList.drop 87 = dktX1_now_4 := dk_seg dksX1_now_3 19 rfl rfl
theorem dksX1_now_5 : cX1_now.data.toList.drop 128 = dktX1_now_5 := dk_seg dksX1_now_4 41 rfl rfl
theorem dksX1_now_6 : cX1_now.data.toList.drop 152 = dktX1_now_6 := dk_seg dksX1_now_5 24 rfl rfl
theorem dX1_now_0 : decode cX1_now 0 = .ok (.iconst 0, 1) := dk_3 (dk_at dksX1_now_0 0 rfl rfl)
theorem dX1_now_1 : decode cX1_now 1 = .ok (.istore_n 2, 1) := dk_61 (dk_at dksX1_now_0 1 rfl rfl)
theorem dX1_now_2 : decode cX1_now 2 = .ok (.iconst 0, 1) := dk_3 (dk_at dksX1_now_0 2 rfl rfl)
theorem dX1_now_3 : decode cX1_now 3 = .ok (.istore_n 3, 1) := dk_62 (dk_at dksX1_now_0 3 rfl rfl)
theorem dX1_now_4 : decode cX1_now 4 = .ok (.iconst 0, 1) := dk_3 (dk_at dksX1_now_0 4 rfl rfl)
theorem dX1_now_5 : decode cX1_now 5 = .ok (.istore 4, 2) := dk_54 4 (dk_at dksX1_now_0 5 rfl rfl)
theorem dX1_now_7 : decode cX1_now 7 = .ok (.iconst 0, 1) := dk_3 (dk_at dksX1_now_0 7 rfl rfl)
theorem dX1_now_8 : decode cX1_now 8 = .ok (.istore 5, 2) := dk_54 5 (dk_at dksX1_now_0 8 rfl rfl)
theorem dX1_now_10 : decode cX1_now 10 = .ok (.iconst 0, 1) := dk_3 (dk_at dksX1_now_0 10 rfl rfl)
theorem dX1_now_11 : decode cX1_now 11 = .ok (.istore 6, 2) := dk_54 6 (dk_at dksX1_now_0 11 rfl rfl)
theorem dX1_now_13 : decode cX1_now 13 = .ok (.iload 6, 2) := dk_21 6 (dk_at dksX1_now_0 13 rfl rfl)
theorem dX1_now_15 : decode cX1_now 15 = .ok (.aload_n 0, 1) := dk_42 (dk_at dksX1_now_0 15 rfl rfl)
theorem dX1_now_16 : decode cX1_now 16 = .ok (.getfield 80, 3) := dk_180 0 80 (dk_at dksX1_now_0 16 rfl rfl)
theorem dX1_now_19 : decode cX1_now 19 = .ok (.getfield 219, 3) := dk_180 0 219 (dk_at dksX1_now_0 19 rfl rfl)
theorem dX1_now_22 : decode cX1_now 22 = .ok (.if_icmp .ge 64, 3) := dk_162 0 64 (dk_at dksX1_now_1 0 rfl rfl)
theorem dX1_now_25 : decode cX1_now 25 = .ok (.aload_n 0, 1) := dk_42 (dk_at dksX1_now_1 3 rfl rfl)
theorem dX1_now_26 : decode cX1_now 26 = .ok (.getfield 87, 3) := dk_180 0 87 (dk_at dksX1_now_1 4 rfl rfl)
theorem dX1_now_29 : decode cX1_now 29 = .ok (.getfield 229, 3) := dk_180 0 229 (dk_at dksX1_now_1 7 rfl rfl)
theorem dX1_now_32 : decode cX1_now 32 = .ok (.iload 6, 2) := dk_21 6 (dk_at dksX1_now_1 10 rfl rfl)
theorem dX1_now_34 : decode cX1_now 34 = .ok (.aaload, 1) := dk_50 (dk_at dksX1_now_1 12 rfl rfl)
theorem dX1_now_35 : decode cX1_now 35 = .ok (.astore 7, 2) := dk_58 7 (dk_at dksX1_now_1 13 rfl rfl)
theorem dX1_now_37 : decode cX1_now 37 = .ok (.iload_n 2, 1) := dk_28 (dk_at dksX1_now_1 15 rfl rfl)
theorem dX1_now_38 : decode cX1_now 38 = .ok (.aload 7, 2) := dk_25 7 (dk_at dksX1_now_1 16 rfl rfl)
theorem dX1_now_40 : decode cX1_now 40 = .ok (.getfield 262, 3) := dk_180 1 6 (dk_at dksX1_now_1 18 rfl rfl)
theorem dX1_now_43 : decode cX1_now 43 = .ok (.iadd, 1) := dk_96 (dk_at dksX1_now_1 21 rfl rfl)
theorem dX1_now_44 : decode cX1_now 44 = .ok (.istore_n 2, 1) := dk_61 (dk_at dksX1_now_1 22 rfl rfl)
theorem dX1_now_45 : decode cX1_now 45 = .ok (.iload_n 3, 1) := dk_29 (dk_at dksX1_now_1 23 rfl rfl)
theorem dX1_now_46 : decode cX1_now 46 = .ok (.aload 7, 2) := dk_25 7 (dk_at dksX1_now_2 0 rfl rfl)
theorem dX1_now_48 : decode cX1_now 48 = .ok (.getfield 264, 3) := dk_180 1 8 (dk_at dksX1_now_2 2 rfl rfl)
theorem dX1_now_51 : decode cX1_now 51 = .ok (.iadd, 1) := dk_96 (dk_at dksX1_now_2 5 rfl rfl)
theorem dX1_now_52 : decode cX1_now 52 = .ok (.istore_n 3, 1) := dk_62 (dk_at dksX1_now_2 6 rfl rfl)
theorem dX1_now_53 : decode cX1_now 53 = .ok (.iload 4, 2) := dk_21 4 (dk_at dksX1_now_2 7 rfl rfl)
theorem dX1_now_55 : decode cX1_now 55 = .ok (.aload 7, 2) := dk_25 7 (dk_at dksX1_now_2 9 rfl rfl)
theorem dX1_now_57 : decode cX1_now 57 = .ok (.getfield 272, 3) := dk_180 1 16 (dk_at dksX1_now_2 11 rfl rfl)
theorem dX1_now_60 : decode cX1_now 60 = .ok (.iadd, 1) := dk_96 (dk_at dksX1_now_2 14 rfl rfl)
theorem dX1_now_61 : decode cX1_now 61 = .ok (.istore 4, 2) := dk_54 4 (dk_at dksX1_now_2 15 rfl rfl)
theorem dX1_now_63 : decode cX1_now 63 = .ok (.aload 7, 2) := dk_25 7 (dk_at dksX1_now_2 17 rfl rfl)
theorem dX1_now_65 : decode cX1_now 65 = .ok (.getfield 269, 3) := dk_180 1 13 (dk_at dksX1_now_2 19 rfl rfl)
theorem dX1_now_68 : decode cX1_now 68 = .ok (.ifCond .eq 12, 3) := dk_153 0 12 (dk_at dksX1_now_3 0 rfl rfl)
theorem dX1_now_71 : decode cX1_now 71 = .ok (.iload 5, 2) := dk_21 5 (dk_at dksX1_now_3 3 rfl rfl)
theorem dX1_now_73 : decode cX1_now 73 = .ok (.iconst 1, 1) := dk_4 (dk_at dksX1_now_3 5 rfl rfl)
theorem dX1_now_74 : decode cX1_now 74 = .ok (.iload 6, 2) := dk_21 6 (dk_at dksX1_now_3 6 rfl rfl)
theorem dX1_now_76 : decode cX1_now 76 = .ok (.ishl, 1) := dk_120 (dk_at dksX1_now_3 8 rfl rfl)
theorem dX1_now_77 : decode cX1_now 77 = .ok (.ior, 1) := dk_128 (dk_at dksX1_now_3 9 rfl rfl)
theorem dX1_now_78 : decode cX1_now 78 = .ok (.istore 5, 2) := dk_54 5 (dk_at dksX1_now_3 10 rfl rfl)
theorem dX1_now_80 : decode cX1_now 80 = .ok (.iinc 6 1, 3) := dk_132 6 1 (dk_at dksX1_now_3 12 rfl rfl)
theorem dX1_now_83 : decode cX1_now 83 = .ok (.goto (-70), 3) := dk_167 255 186 (dk_at dksX1_now_3 15 rfl rfl)
theorem dX1_now_86 : decode cX1_now 86 = .ok (.iload_n 1, 1) := dk_27 (dk_at dksX1_now_3 18 rfl rfl)
theorem dX1_now_87 : decode cX1_now 87 = .ok (.tableswitch 79 0 6 #[41, 49, 61, 63, 65, 73, 76], 41) := by decide +kernel
theorem dX1_now_128 : decode cX1_now 128 = .ok (.aload_n 0, 1) := dk_42 (dk_at dksX1_now_5 0 rfl rfl)
theorem dX1_now_129 : decode cX1_now 129 = .ok (.getfield 87, 3) := dk_180 0 87 (dk_at dksX1_now_5 1 rfl rfl)
theorem dX1_now_132 : decode cX1_now 132 = .ok (.getfield 308, 3) := dk_180 1 52 (dk_at dksX1_now_5 4 rfl rfl)
theorem dX1_now_135 : decode cX1_now 135 = .ok (.ireturn, 1) := dk_172 (dk_at dksX1_now_5 7 rfl rfl)
theorem dX1_now_136 : decode cX1_now 136 = .ok (.aload_n 0, 1) := dk_42 (dk_at dksX1_now_5 8 rfl rfl)
theorem dX1_now_137 : decode cX1_now 137 = .ok (.getfield 87, 3) := dk_180 0 87 (dk_at dksX1_now_5 9 rfl rfl)
theorem dX1_now_140 : decode cX1_now 140 = .ok (.aload_n 0, 1) := dk_42 (dk_at dksX1_now_5 12 rfl rfl)
theorem dX1_now_141 : decode cX1_now 141 = .ok (.getfield 80, 3) := dk_180 0 80 (dk_at dksX1_now_5 13 rfl rfl)
theorem dX1_now_144 : decode cX1_now 144 = .ok (.invokevirtual 310, 3) := dk_182 1 54 (dk_at dksX1_now_5 16 rfl rfl)
theorem dX1_now_147 : decode cX1_now 147 = .ok (.ireturn, 1) := dk_172 (dk_at dksX1_now_5 19 rfl rfl)
theorem dX1_now_148 : decode cX1_now 148 = .ok (.iload_n 2, 1) := dk_28 (dk_at dksX1_now_5 20 rfl rfl)
theorem dX1_now_149 : decode cX1_now 149 = .ok (.ireturn, 1) := dk_172 (dk_at dksX1_now_5 21 rfl rfl)
theorem dX1_now_150 : decode cX1_now 150 = .ok (.iload_n 3, 1) := dk_29 (dk_at dksX1_now_5 22 rfl rfl)
theorem dX1_now_151 : decode cX1_now 151 = .ok (.ireturn, 1) := dk_172 (dk_at dksX1_now_5 23 rfl rfl)
theorem dX1_now_152 : decode cX1_now 152 = .ok (.aload_n 0, 1) := dk_42 (dk_at dksX1_now_6 0 rfl rfl)
theorem dX1_now_153 : decode cX1_now 153 = .ok (.getfield 87, 3) := dk_180 0 87 (dk_at dksX1_now_6 1 rfl rfl)
theorem dX1_now_156 : decode cX1_now 156 = .ok (.getfield 313, 3) := dk_180 1 57 (dk_at dksX1_now_6 4 rfl rfl)
theorem dX1_now_159 : decode cX1_now 159 = .ok (.ireturn, 1) := dk_172 (dk_at dksX1_now_6 7 rfl rfl)
theorem dX1_now_160 : decode cX1_now 160 = .ok (.iload 4, 2) := dk_21 4 (dk_at dksX1_now_6 8 rfl rfl)
theorem dX1_now_162 : decode cX1_now 162 = .ok (.ireturn, 1) := dk_172 (dk_at dksX1_now_6 10 rfl rfl)
theorem dX1_now_163 : decode cX1_now 163 = .ok (.iload 5, 2) := dk_21 5 (dk_at dksX1_now_6 11 rfl rfl)
theorem dX1_now_165 : decode cX1_now 165 = .ok (.ireturn, 1) := dk_172 (dk_at dksX1_now_6 13 rfl rfl)
theorem dX1_now_166 : decode cX1_now 166 = .ok (.iconst (-1), 1) := dk_2 (dk_at dksX1_now_6 14 rfl rfl)
theorem dX1_now_167 : decode cX1_now 167 = .ok (.ireturn, 1) := dk_172 (dk_at dksX1_now_6 15 rfl rfl)
abbrev cX1_undo : ByteArray := prog_1_method_24_code
def yX1_undo : MethodName := ⟨RX1, "undo", "()I"⟩
def dkwX1_undo_1 : List UInt8 := [180, 0, 114, 42, 180, 0, 197, 50, 182, 1, 66, 42, 180, 0, 197, 172]
abbrev dktX1_undo_1 : List UInt8 := dkwX1_undo_1 ++ []
def dkwX1_undo_0 : List UInt8 := [42, 180, 0, 197, 154, 0, 5, 2, 172, 42, 89, 180, 0, 197, 4, 100, 181, 0, 197, 42, 180, 0, 87, 42]
abbrev dktX1_undo_0 : List UInt8 := dkwX1_undo_0 ++ dktX1_undo_1
theorem dksX1_undo_0 : cX1_undo.data.toList.drop 0 = dktX1_undo_0 := by decide +kernel
theorem dksX1_undo_1 : cX1_undo.data.toList.drop 24 = dktX1_undo_1 := dk_seg dksX1_undo_0 24 rfl rfl
theorem dX1_undo_0 : decode cX1_undo 0 = .ok (.aload_n 0, 1) := dk_42 (dk_at dksX1_undo_0 0 rfl rfl)
theorem dX1_undo_1 : decode cX1_undo 1 = .ok (.getfield 197, 3) := dk_180 0 197 (dk_at dksX1_undo_0 1 rfl rfl)
theorem dX1_undo_4 : decode cX1_undo 4 = .ok (.ifCond .ne 5, 3) := dk_154 0 5 (dk_at dksX1_undo_0 4 rfl rfl)
theorem dX1_undo_7 : decode cX1_undo 7 = .ok (.iconst (-1), 1) := dk_2 (dk_at dksX1_undo_0 7 rfl rfl)
theorem dX1_undo_8 : decode cX1_undo 8 = .ok (.ireturn, 1) := dk_172 (dk_at dksX1_undo_0 8 rfl rfl)
theorem dX1_undo_9 : decode cX1_undo 9 = .ok (.aload_n 0, 1) := dk_42 (dk_at dksX1_undo_0 9 rfl rfl)
theorem dX1_undo_10 : decode cX1_undo 10 = .ok (.dup, 1) := dk_89 (dk_at dksX1_undo_0 10 rfl rfl)
theorem dX1_undo_11 : decode cX1_undo 11 = .ok (.getfield 197, 3) := dk_180 0 197 (dk_at dksX1_undo_0 11 rfl rfl)
theorem dX1_undo_14 : decode cX1_undo 14 = .ok (.iconst 1, 1) := dk_4 (dk_at dksX1_undo_0 14 rfl rfl)
theorem dX1_undo_15 : decode cX1_undo 15 = .ok (.isub, 1) := dk_100 (dk_at dksX1_undo_0 15 rfl rfl)
theorem dX1_undo_16 : decode cX1_undo 16 = .ok (.putfield 197, 3) := dk_181 0 197 (dk_at dksX1_undo_0 16 rfl rfl)
theorem dX1_undo_19 : decode cX1_undo 19 = .ok (.aload_n 0, 1) := dk_42 (dk_at dksX1_undo_0 19 rfl rfl)
theorem dX1_undo_20 : decode cX1_undo 20 = .ok (.getfield 87, 3) := dk_180 0 87 (dk_at dksX1_undo_0 20 rfl rfl)
theorem dX1_undo_23 : decode cX1_undo 23 = .ok (.aload_n 0, 1) := dk_42 (dk_at dksX1_undo_0 23 rfl rfl)
theorem dX1_undo_24 : decode cX1_undo 24 = .ok (.getfield 114, 3) := dk_180 0 114 (dk_at dksX1_undo_1 0 rfl rfl)
theorem dX1_undo_27 : decode cX1_undo 27 = .ok (.aload_n 0, 1) := dk_42 (dk_at dksX1_undo_1 3 rfl rfl)
theorem dX1_undo_28 : decode cX1_undo 28 = .ok (.getfield 197, 3) := dk_180 0 197 (dk_at dksX1_undo_1 4 rfl rfl)
theorem dX1_undo_31 : decode cX1_undo 31 = .ok (.aaload, 1) := dk_50 (dk_at dksX1_undo_1 7 rfl rfl)
theorem dX1_undo_32 : decode cX1_undo 32 = .ok (.invokevirtual 322, 3) := dk_182 1 66 (dk_at dksX1_undo_1 8 rfl rfl)
theorem dX1_undo_35 : decode cX1_undo 35 = .ok (.aload_n 0, 1) := dk_42 (dk_at dksX1_undo_1 11 rfl rfl)
theorem dX1_undo_36 : decode cX1_undo 36 = .ok (.getfield 197, 3) := dk_180 0 197 (dk_at dksX1_undo_1 12 rfl rfl)
theorem dX1_undo_39 : decode cX1_undo 39 = .ok (.ireturn, 1) := dk_172 (dk_at dksX1_undo_1 15 rfl rfl)
abbrev cX1_move : ByteArray := prog_1_method_25_code
def yX1_move : MethodName := ⟨RX1, "move", "(II)I"⟩
def dkwX1_move_2 : List UInt8 := [180, 0, 229, 27, 50, 28, 181, 1, 4, 3, 172]
abbrev dktX1_move_2 : List UInt8 := dkwX1_move_2 ++ []
def dkwX1_move_1 : List UInt8 := [180, 0, 80, 27, 28, 182, 1, 70, 62, 29, 153, 0, 5, 29, 172, 42, 182, 1, 73, 42, 180, 0, 87]
abbrev dktX1_move_1 : List UInt8 := dkwX1_move_1 ++ dktX1_move_2
def dkwX1_move_0 : List UInt8 := [42, 27, 182, 0, 225, 153, 0, 11, 42, 28, 182, 0, 239, 154, 0, 5, 2, 172, 42, 180, 0, 87, 42]
abbrev dktX1_move_0 : List UInt8 := dkwX1_move_0 ++ dktX1_move_1
theorem dksX1_move_0 : cX1_move.data.toList.drop 0 = dktX1_move_0 := by decide +kernel
theorem dksX1_move_1 : cX1_move.data.toList.drop 23 = dktX1_move_1 := dk_seg dksX1_move_0 23 rfl rfl
theorem dksX1_move_2 : cX1_move.data.toList.drop 46 = dktX1_move_2 := dk_seg dksX1_move_1 23 rfl rfl
theorem dX1_move_0 : decode cX1_move 0 = .ok (.aload_n 0, 1) := dk_42 (dk_at dksX1_move_0 0 rfl rfl)
theorem dX1_move_1 : decode cX1_move 1 = .ok (.iload_n 1, 1) := dk_27 (dk_at dksX1_move_0 1 rfl rfl)
theorem dX1_move_2 : decode cX1_move 2 = .ok (.invokevirtual 225, 3) := dk_182 0 225 (dk_at dksX1_move_0 2 rfl rfl)
theorem dX1_move_5 : decode cX1_move 5 = .ok (.ifCond .eq 11, 3) := dk_153 0 11 (dk_at dksX1_move_0 5 rfl rfl)
theorem dX1_move_8 : decode cX1_move 8 = .ok (.aload_n 0, 1) := dk_42 (dk_at dksX1_move_0 8 rfl rfl)
theorem dX1_move_9 : decode cX1_move 9 = .ok (.iload_n 2, 1) := dk_28 (dk_at dksX1_move_0 9 rfl rfl)
theorem dX1_move_10 : decode cX1_move 10 = .ok (.invokevirtual 239, 3) := dk_182 0 239 (dk_at dksX1_move_0 10 rfl rfl)
theorem dX1_move_13 : decode cX1_move 13 = .ok (.ifCond .ne 5, 3) := dk_154 0 5 (dk_at dksX1_move_0 13 rfl rfl)
theorem dX1_move_16 : decode cX1_move 16 = .ok (.iconst (-1), 1) := dk_2 (dk_at dksX1_move_0 16 rfl rfl)
theorem dX1_move_17 : decode cX1_move 17 = .ok (.ireturn, 1) := dk_172 (dk_at dksX1_move_0 17 rfl rfl)
theorem dX1_move_18 : decode cX1_move 18 = .ok (.aload_n 0, 1) := dk_42 (dk_at dksX1_move_0 18 rfl rfl)
theorem dX1_move_19 : decode cX1_move 19 = .ok (.getfield 87, 3) := dk_180 0 87 (dk_at dksX1_move_0 19 rfl rfl)
theorem dX1_move_22 : decode cX1_move 22 = .ok (.aload_n 0, 1) := dk_42 (dk_at dksX1_move_0 22 rfl rfl)
theorem dX1_move_23 : decode cX1_move 23 = .ok (.getfield 80, 3) := dk_180 0 80 (dk_at dksX1_move_1 0 rfl rfl)
theorem dX1_move_26 : decode cX1_move 26 = .ok (.iload_n 1, 1) := dk_27 (dk_at dksX1_move_1 3 rfl rfl)
theorem dX1_move_27 : decode cX1_move 27 = .ok (.iload_n 2, 1) := dk_28 (dk_at dksX1_move_1 4 rfl rfl)
theorem dX1_move_28 : decode cX1_move 28 = .ok (.invokevirtual 326, 3) := dk_182 1 70 (dk_at dksX1_move_1 5 rfl rfl)
theorem dX1_move_31 : decode cX1_move 31 = .ok (.istore_n 3, 1) := dk_62 (dk_at dksX1_move_1 8 rfl rfl)
theorem dX1_move_32 : decode cX1_move 32 = .ok (.iload_n 3, 1) := dk_29 (dk_at dksX1_move_1 9 rfl rfl)
theorem dX1_move_33 : decode cX1_move 33 = .ok (.ifCond .eq 5, 3) := dk_153 0 5 (dk_at dksX1_move_1 10 rfl rfl)
theorem dX1_move_36 : decode cX1_move 36 = .ok (.iload_n 3, 1) := dk_29 (dk_at dksX1_move_1 13 rfl rfl)
theorem dX1_move_37 : decode cX1_move 37 = .ok (.ireturn, 1) := dk_172 (dk_at dksX1_move_1 14 rfl rfl)
theorem dX1_move_38 : decode cX1_move 38 = .ok (.aload_n 0, 1) := dk_42 (dk_at dksX1_move_1 15 rfl rfl)
theorem dX1_move_39 : decode cX1_move 39 = .ok (.invokevirtual 329, 3) := dk_182 1 73 (dk_at dksX1_move_1 16 rfl rfl)
theorem dX1_move_42 : decode cX1_move 42 = .ok (.aload_n 0, 1) := dk_42 (dk_at dksX1_move_1 19 rfl rfl)
theorem dX1_move_43 : decode cX1_move 43 = .ok (.getfield 87, 3) := dk_180 0 87 (dk_at dksX1_move_1 20 rfl rfl)
theorem dX1_move_46 : decode cX1_move 46 = .ok (.getfield 229, 3) := dk_180 0 229 (dk_at dksX1_move_2 0 rfl rfl)
theorem dX1_move_49 : decode cX1_move 49 = .ok (.iload_n 1, 1) := dk_27 (dk_at dksX1_move_2 3 rfl rfl)
theorem dX1_move_50 : decode cX1_move 50 = .ok (.aaload, 1) := dk_50 (dk_at dksX1_move_2 4 rfl rfl)
theorem dX1_move_51 : decode cX1_move 51 = .ok (.iload_n 2, 1) := dk_28 (dk_at dksX1_move_2 5 rfl rfl)
theorem dX1_move_52 : decode cX1_move 52 = .ok (.putfield 260, 3) := dk_181 1 4 (dk_at dksX1_move_2 6 rfl rfl)
theorem dX1_move_55 : decode cX1_move 55 = .ok (.iconst 0, 1) := dk_3 (dk_at dksX1_move_2 9 rfl rfl)
theorem dX1_move_56 : decode cX1_move 56 = .ok (.ireturn, 1) := dk_172 (dk_at dksX1_move_2 10 rfl rfl)
abbrev cX1_isStatue : ByteArray := prog_1_method_14_code
def yX1_isStatue : MethodName := ⟨RX1, "isStatue", "(I)Z"⟩
def dkwX1_isStatue_0 : List UInt8 := [27, 3, 42, 180, 0, 80, 180, 0, 219, 4, 100, 184, 0, 212, 172]
abbrev dktX1_isStatue_0 : List UInt8 := dkwX1_isStatue_0 ++ []
theorem dksX1_isStatue_0 : cX1_isStatue.data.toList.drop 0 = dktX1_isStatue_0 := by decide +kernel
theorem dX1_isStatue_0 : decode cX1_isStatue 0 = .ok (.iload_n 1, 1) := dk_27 (dk_at dksX1_isStatue_0 0 rfl rfl)
theorem dX1_isStatue_1 : decode cX1_isStatue 1 = .ok (.iconst 0, 1) := dk_3 (dk_at dksX1_isStatue_0 1 rfl rfl)
theorem dX1_isStatue_2 : decode cX1_isStatue 2 = .ok (.aload_n 0, 1) := dk_42 (dk_at dksX1_isStatue_0 2 rfl rfl)
theorem dX1_isStatue_3 : decode cX1_isStatue 3 = .ok (.getfield 80, 3) := dk_180 0 80 (dk_at dksX1_isStatue_0 3 rfl rfl)
theorem dX1_isStatue_6 : decode cX1_isStatue 6 = .ok (.getfield 219, 3) := dk_180 0 219 (dk_at dksX1_isStatue_0 6 rfl rfl)
theorem dX1_isStatue_9 : decode cX1_isStatue 9 = .ok (.iconst 1, 1) := dk_4 (dk_at dksX1_isStatue_0 9 rfl rfl)
theorem dX1_isStatue_10 : decode cX1_isStatue 10 = .ok (.isub, 1) := dk_100 (dk_at dksX1_isStatue_0 10 rfl rfl)
theorem dX1_isStatue_11 : decode cX1_isStatue 11 = .ok (.invokestatic 212, 3) := dk_184 0 212 (dk_at dksX1_isStatue_0 11 rfl rfl)
theorem dX1_isStatue_14 : decode cX1_isStatue 14 = .ok (.ireturn, 1) := dk_172 (dk_at dksX1_isStatue_0 14 rfl rfl)
abbrev cX1_keep : ByteArray := prog_1_method_23_code
def yX1_keep : MethodName := ⟨RX1, "keep", "()V"⟩
def dkwX1_keep_4 : List UInt8 := [180, 0, 114, 42, 180, 0, 197, 43, 83, 42, 89, 180, 0, 197, 4, 96, 181, 0, 197, 177]
abbrev dktX1_keep_4 : List UInt8 := dkwX1_keep_4 ++ []
def dkwX1_keep_3 : List UInt8 := [16, 7, 184, 1, 60, 42, 89, 180, 0, 197, 4, 100, 181, 0, 197, 43, 42, 180, 0, 87, 182, 1, 66, 42]
abbrev dktX1_keep_3 : List UInt8 := dkwX1_keep_3 ++ dktX1_keep_4
def dkwX1_keep_2 : List UInt8 := [180, 0, 197, 50, 76, 42, 180, 0, 197, 16, 8, 160, 0, 28, 42, 180, 0, 114, 4, 42, 180, 0, 114, 3]
abbrev dktX1_keep_2 : List UInt8 := dkwX1_keep_2 ++ dktX1_keep_3
def dkwX1_keep_1 : List UInt8 := [180, 0, 197, 50, 199, 0, 13, 187, 0, 84, 89, 183, 0, 86, 167, 0, 12, 42, 180, 0, 114, 42]
abbrev dktX1_keep_1 : List UInt8 := dkwX1_keep_1 ++ dktX1_keep_2
def dkwX1_keep_0 : List UInt8 := [42, 180, 0, 197, 16, 8, 160, 0, 12, 42, 180, 0, 114, 3, 50, 167, 0, 34, 42, 180, 0, 114, 42]
abbrev dktX1_keep_0 : List UInt8 := dkwX1_keep_0 ++ dktX1_keep_1
theorem dksX1_keep_0 : cX1_keep.data.toList.drop 0 = dktX1_keep_0 := by decide +kernel
theorem dksX1_keep_1 : cX1_keep.data.toList.drop 23 = dktX1_keep_1 := dk_seg dksX1_keep_0 23 rfl rfl
theorem dksX1_keep_2 : cX1_keep.data.toList.drop 45 = dktX1_keep_2 := dk_seg dksX1_keep_1 22 rfl rfl
theorem dksX1_keep_3 : cX1_keep.data.toList.drop 69 = dktX1_keep_3 := dk_seg dksX1_keep_2 24 rfl rfl
theorem dksX1_keep_4 : cX1_keep.data.toList.drop 93 = dktX1_keep_4 := dk_seg dksX1_keep_3 24 rfl rfl
theorem dX1_keep_0 : decode cX1_keep 0 = .ok (.aload_n 0, 1) := dk_42 (dk_at dksX1_keep_0 0 rfl rfl)
theorem dX1_keep_1 : decode cX1_keep 1 = .ok (.getfield 197, 3) := dk_180 0 197 (dk_at dksX1_keep_0 1 rfl rfl)
theorem dX1_keep_4 : decode cX1_keep 4 = .ok (.bipush 8, 2) := dk_16 8 (dk_at dksX1_keep_0 4 rfl rfl)
theorem dX1_keep_6 : decode cX1_keep 6 = .ok (.if_icmp .ne 12, 3) := dk_160 0 12 (dk_at dksX1_keep_0 6 rfl rfl)
theorem dX1_keep_9 : decode cX1_keep 9 = .ok (.aload_n 0, 1) := dk_42 (dk_at dksX1_keep_0 9 rfl rfl)
theorem dX1_keep_10 : decode cX1_keep 10 = .ok (.getfield 114, 3) := dk_180 0 114 (dk_at dksX1_keep_0 10 rfl rfl)
theorem dX1_keep_13 : decode cX1_keep 13 = .ok (.iconst 0, 1) := dk_3 (dk_at dksX1_keep_0 13 rfl rfl)
theorem dX1_keep_14 : decode cX1_keep 14 = .ok (.aaload, 1) := dk_50 (dk_at dksX1_keep_0 14 rfl rfl)
theorem dX1_keep_15 : decode cX1_keep 15 = .ok (.goto 34, 3) := dk_167 0 34 (dk_at dksX1_keep_0 15 rfl rfl)
theorem dX1_keep_18 : decode cX1_keep 18 = .ok (.aload_n 0, 1) := dk_42 (dk_at dksX1_keep_0 18 rfl rfl)
theorem dX1_keep_19 : decode cX1_keep 19 = .ok (.getfield 114, 3) := dk_180 0 114 (dk_at dksX1_keep_0 19 rfl rfl)
theorem dX1_keep_22 : decode cX1_keep 22 = .ok (.aload_n 0, 1) := dk_42 (dk_at dksX1_keep_0 22 rfl rfl)
theorem dX1_keep_23 : decode cX1_keep 23 = .ok (.getfield 197, 3) := dk_180 0 197 (dk_at dksX1_keep_1 0 rfl rfl)
theorem dX1_keep_26 : decode cX1_keep 26 = .ok (.aaload, 1) := dk_50 (dk_at dksX1_keep_1 3 rfl rfl)
theorem dX1_keep_27 : decode cX1_keep 27 = .ok (.ifnonnull 13, 3) := dk_199 0 13 (dk_at dksX1_keep_1 4 rfl rfl)
theorem dX1_keep_30 : decode cX1_keep 30 = .ok (.new 84, 3) := dk_187 0 84 (dk_at dksX1_keep_1 7 rfl rfl)
theorem dX1_keep_33 : decode cX1_keep 33 = .ok (.dup, 1) := dk_89 (dk_at dksX1_keep_1 10 rfl rfl)
theorem dX1_keep_34 : decode cX1_keep 34 = .ok (.invokespecial 86, 3) := dk_183 0 86 (dk_at dksX1_keep_1 11 rfl rfl)
theorem dX1_keep_37 : decode cX1_keep 37 = .ok (.goto 12, 3) := dk_167 0 12 (dk_at dksX1_keep_1 14 rfl rfl)
theorem dX1_keep_40 : decode cX1_keep 40 = .ok (.aload_n 0, 1) := dk_42 (dk_at dksX1_keep_1 17 rfl rfl)
theorem dX1_keep_41 : decode cX1_keep 41 = .ok (.getfield 114, 3) := dk_180 0 114 (dk_at dksX1_keep_1 18 rfl rfl)
theorem dX1_keep_44 : decode cX1_keep 44 = .ok (.aload_n 0, 1) := dk_42 (dk_at dksX1_keep_1 21 rfl rfl)
theorem dX1_keep_45 : decode cX1_keep 45 = .ok (.getfield 197, 3) := dk_180 0 197 (dk_at dksX1_keep_2 0 rfl rfl)
theorem dX1_keep_48 : decode cX1_keep 48 = .ok (.aaload, 1) := dk_50 (dk_at dksX1_keep_2 3 rfl rfl)
theorem dX1_keep_49 : decode cX1_keep 49 = .ok (.astore_n 1, 1) := dk_76 (dk_at dksX1_keep_2 4 rfl rfl)
theorem dX1_keep_50 : decode cX1_keep 50 = .ok (.aload_n 0, 1) := dk_42 (dk_at dksX1_keep_2 5 rfl rfl)
theorem dX1_keep_51 : decode cX1_keep 51 = .ok (.getfield 197, 3) := dk_180 0 197 (dk_at dksX1_keep_2 6 rfl rfl)
theorem dX1_keep_54 : decode cX1_keep 54 = .ok (.bipush 8, 2) := dk_16 8 (dk_at dksX1_keep_2 9 rfl rfl)
theorem dX1_keep_56 : decode cX1_keep 56 = .ok (.if_icmp .ne 28, 3) := dk_160 0 28 (dk_at dksX1_keep_2 11 rfl rfl)
theorem dX1_keep_59 : decode cX1_keep 59 = .ok (.aload_n 0, 1) := dk_42 (dk_at dksX1_keep_2 14 rfl rfl)
theorem dX1_keep_60 : decode cX1_keep 60 = .ok (.getfield 114, 3) := dk_180 0 114 (dk_at dksX1_keep_2 15 rfl rfl)
theorem dX1_keep_63 : decode cX1_keep 63 = .ok (.iconst 1, 1) := dk_4 (dk_at dksX1_keep_2 18 rfl rfl)
theorem dX1_keep_64 : decode cX1_keep 64 = .ok (.aload_n 0, 1) := dk_42 (dk_at dksX1_keep_2 19 rfl rfl)
theorem dX1_keep_65 : decode cX1_keep 65 = .ok (.getfield 114, 3) := dk_180 0 114 (dk_at dksX1_keep_2 20 rfl rfl)
theorem dX1_keep_68 : decode cX1_keep 68 = .ok (.iconst 0, 1) := dk_3 (dk_at dksX1_keep_2 23 rfl rfl)
theorem dX1_keep_69 : decode cX1_keep 69 = .ok (.bipush 7, 2) := dk_16 7 (dk_at dksX1_keep_3 0 rfl rfl)
theorem dX1_keep_71 : decode cX1_keep 71 = .ok (.invokestatic 316, 3) := dk_184 1 60 (dk_at dksX1_keep_3 2 rfl rfl)
theorem dX1_keep_74 : decode cX1_keep 74 = .ok (.aload_n 0, 1) := dk_42 (dk_at dksX1_keep_3 5 rfl rfl)
theorem dX1_keep_75 : decode cX1_keep 75 = .ok (.dup, 1) := dk_89 (dk_at dksX1_keep_3 6 rfl rfl)
theorem dX1_keep_76 : decode cX1_keep 76 = .ok (.getfield 197, 3) := dk_180 0 197 (dk_at dksX1_keep_3 7 rfl rfl)
theorem dX1_keep_79 : decode cX1_keep 79 = .ok (.iconst 1, 1) := dk_4 (dk_at dksX1_keep_3 10 rfl rfl)
theorem dX1_keep_80 : decode cX1_keep 80 = .ok (.isub, 1) := dk_100 (dk_at dksX1_keep_3 11 rfl rfl)
theorem dX1_keep_81 : decode cX1_keep 81 = .ok (.putfield 197, 3) := dk_181 0 197 (dk_at dksX1_keep_3 12 rfl rfl)
theorem dX1_keep_84 : decode cX1_keep 84 = .ok (.aload_n 1, 1) := dk_43 (dk_at dksX1_keep_3 15 rfl rfl)
theorem dX1_keep_85 : decode cX1_keep 85 = .ok (.aload_n 0, 1) := dk_42 (dk_at dksX1_keep_3 16 rfl rfl)
theorem dX1_keep_86 : decode cX1_keep 86 = .ok (.getfield 87, 3) := dk_180 0 87 (dk_at dksX1_keep_3 17 rfl rfl)
theorem dX1_keep_89 : decode cX1_keep 89 = .ok (.invokevirtual 322, 3) := dk_182 1 66 (dk_at dksX1_keep_3 20 rfl rfl)
theorem dX1_keep_92 : decode cX1_keep 92 = .ok (.aload_n 0, 1) := dk_42 (dk_at dksX1_keep_3 23 rfl rfl)
theorem dX1_keep_93 : decode cX1_keep 93 = .ok (.getfield 114, 3) := dk_180 0 114 (dk_at dksX1_keep_4 0 rfl rfl)
theorem dX1_keep_96 : decode cX1_keep 96 = .ok (.aload_n 0, 1) := dk_42 (dk_at dksX1_keep_4 3 rfl rfl)
theorem dX1_keep_97 : decode cX1_keep 97 = .ok (.getfield 197, 3) := dk_180 0 197 (dk_at dksX1_keep_4 4 rfl rfl)
theorem dX1_keep_100 : decode cX1_keep 100 = .ok (.aload_n 1, 1) := dk_43 (dk_at dksX1_keep_4 7 rfl rfl)
theorem dX1_keep_101 : decode cX1_keep 101 = .ok (.aastore, 1) := dk_83 (dk_at dksX1_keep_4 8 rfl rfl)
theorem dX1_keep_102 : decode cX1_keep 102 = .ok (.aload_n 0, 1) := dk_42 (dk_at dksX1_keep_4 9 rfl rfl)
theorem dX1_keep_103 : decode cX1_keep 103 = .ok (.dup, 1) := dk_89 (dk_at dksX1_keep_4 10 rfl rfl)
theorem dX1_keep_104 : decode cX1_keep 104 = .ok (.getfield 197, 3) := dk_180 0 197 (dk_at dksX1_keep_4 11 rfl rfl)
theorem dX1_keep_107 : decode cX1_keep 107 = .ok (.iconst 1, 1) := dk_4 (dk_at dksX1_keep_4 14 rfl rfl)
theorem dX1_keep_108 : decode cX1_keep 108 = .ok (.iadd, 1) := dk_96 (dk_at dksX1_keep_4 15 rfl rfl)
theorem dX1_keep_109 : decode cX1_keep 109 = .ok (.putfield 197, 3) := dk_181 0 197 (dk_at dksX1_keep_4 16 rfl rfl)
theorem dX1_keep_112 : decode cX1_keep 112 = .ok (.return_, 1) := dk_177 (dk_at dksX1_keep_4 19 rfl rfl)
abbrev cX1_clean : ByteArray := prog_1_method_26_code
def yX1_clean : MethodName := ⟨RX1, "clean", "(I)I"⟩
def dkwX1_clean_1 : List UInt8 := [172, 42, 182, 1, 73, 42, 180, 0, 87, 27, 182, 1, 79, 3, 172]
abbrev dktX1_clean_1 : List UInt8 := dkwX1_clean_1 ++ []
def dkwX1_clean_0 : List UInt8 := [42, 27, 182, 0, 225, 154, 0, 5, 2, 172, 42, 180, 0, 87, 27, 182, 1, 76, 61, 28, 153, 0, 5, 28]
abbrev dktX1_clean_0 : List UInt8 := dkwX1_clean_0 ++ dktX1_clean_1
theorem dksX1_clean_0 : cX1_clean.data.toList.drop 0 = dktX1_clean_0 := by decide +kernel
theorem dksX1_clean_1 : cX1_clean.data.toList.drop 24 = dktX1_clean_1 := dk_seg dksX1_clean_0 24 rfl rfl
theorem dX1_clean_0 : decode cX1_clean 0 = .ok (.aload_n 0, 1) := dk_42 (dk_at dksX1_clean_0 0 rfl rfl)
theorem dX1_clean_1 : decode cX1_clean 1 = .ok (.iload_n 1, 1) := dk_27 (dk_at dksX1_clean_0 1 rfl rfl)
theorem dX1_clean_2 : decode cX1_clean 2 = .ok (.invokevirtual 225, 3) := dk_182 0 225 (dk_at dksX1_clean_0 2 rfl rfl)
theorem dX1_clean_5 : decode cX1_clean 5 = .ok (.ifCond .ne 5, 3) := dk_154 0 5 (dk_at dksX1_clean_0 5 rfl rfl)
theorem dX1_clean_8 : decode cX1_clean 8 = .ok (.iconst (-1), 1) := dk_2 (dk_at dksX1_clean_0 8 rfl rfl)
theorem dX1_clean_9 : decode cX1_clean 9 = .ok (.ireturn, 1) := dk_172 (dk_at dksX1_clean_0 9 rfl rfl)
theorem dX1_clean_10 : decode cX1_clean 10 = .ok (.aload_n 0, 1) := dk_42 (dk_at dksX1_clean_0 10 rfl rfl)
theorem dX1_clean_11 : decode cX1_clean 11 = .ok (.getfield 87, 3) := dk_180 0 87 (dk_at dksX1_clean_0 11 rfl rfl)
theorem dX1_clean_14 : decode cX1_clean 14 = .ok (.iload_n 1, 1) := dk_27 (dk_at dksX1_clean_0 14 rfl rfl)
theorem dX1_clean_15 : decode cX1_clean 15 = .ok (.invokevirtual 332, 3) := dk_182 1 76 (dk_at dksX1_clean_0 15 rfl rfl)
theorem dX1_clean_18 : decode cX1_clean 18 = .ok (.istore_n 2, 1) := dk_61 (dk_at dksX1_clean_0 18 rfl rfl)
theorem dX1_clean_19 : decode cX1_clean 19 = .ok (.iload_n 2, 1) := dk_28 (dk_at dksX1_clean_0 19 rfl rfl)
theorem dX1_clean_20 : decode cX1_clean 20 = .ok (.ifCond .eq 5, 3) := dk_153 0 5 (dk_at dksX1_clean_0 20 rfl rfl)
theorem dX1_clean_23 : decode cX1_clean 23 = .ok (.iload_n 2, 1) := dk_28 (dk_at dksX1_clean_0 23 rfl rfl)
theorem dX1_clean_24 : decode cX1_clean 24 = .ok (.ireturn, 1) := dk_172 (dk_at dksX1_clean_1 0 rfl rfl)
theorem dX1_clean_25 : decode cX1_clean 25 = .ok (.aload_n 0, 1) := dk_42 (dk_at dksX1_clean_1 1 rfl rfl)
theorem dX1_clean_26 : decode cX1_clean 26 = .ok (.invokevirtual 329, 3) := dk_182 1 73 (dk_at dksX1_clean_1 2 rfl rfl)
theorem dX1_clean_29 : decode cX1_clean 29 = .ok (.aload_n 0, 1) := dk_42 (dk_at dksX1_clean_1 5 rfl rfl)
theorem dX1_clean_30 : decode cX1_clean 30 = .ok (.getfield 87, 3) := dk_180 0 87 (dk_at dksX1_clean_1 6 rfl rfl)
theorem dX1_clean_33 : decode cX1_clean 33 = .ok (.iload_n 1, 1) := dk_27 (dk_at dksX1_clean_1 9 rfl rfl)
theorem dX1_clean_34 : decode cX1_clean 34 = .ok (.invokevirtual 335, 3) := dk_182 1 79 (dk_at dksX1_clean_1 10 rfl rfl)
theorem dX1_clean_37 : decode cX1_clean 37 = .ok (.iconst 0, 1) := dk_3 (dk_at dksX1_clean_1 13 rfl rfl)
theorem dX1_clean_38 : decode cX1_clean 38 = .ok (.ireturn, 1) := dk_172 (dk_at dksX1_clean_1 14 rfl rfl)
abbrev cX1_show : ByteArray := prog_1_method_27_code
def yX1_show : MethodName := ⟨RX1, "show", "(II)I"⟩
def dkwX1_show_2 : List UInt8 := [172]
abbrev dktX1_show_2 : List UInt8 := dkwX1_show_2 ++ []
def dkwX1_show_1 : List UInt8 := [182, 1, 82, 62, 29, 153, 0, 5, 29, 172, 42, 182, 1, 73, 42, 180, 0, 87, 27, 28, 182, 1, 85, 3]
abbrev dktX1_show_1 : List UInt8 := dkwX1_show_1 ++ dktX1_show_2
def dkwX1_show_0 : List UInt8 := [42, 27, 182, 0, 225, 153, 0, 11, 42, 28, 182, 1, 42, 154, 0, 5, 2, 172, 42, 180, 0, 87, 27, 28]
abbrev dktX1_show_0 : List UInt8 := dkwX1_show_0 ++ dktX1_show_1
theorem dksX1_show_0 : cX1_show.data.toList.drop 0 = dktX1_show_0 := by decide +kernel
theorem dksX1_show_1 : cX1_show.data.toList.drop 24 = dktX1_show_1 := dk_seg dksX1_show_0 24 rfl rfl
theorem dksX1_show_2 : cX1_show.data.toList.drop 48 = dktX1_show_2 := dk_seg dksX1_show_1 24 rfl rfl
theorem dX1_show_0 : decode cX1_show 0 = .ok (.aload_n 0, 1) := dk_42 (dk_at dksX1_show_0 0 rfl rfl)
theorem dX1_show_1 : decode cX1_show 1 = .ok (.iload_n 1, 1) := dk_27 (dk_at dksX1_show_0 1 rfl rfl)
theorem dX1_show_2 : decode cX1_show 2 = .ok (.invokevirtual 225, 3) := dk_182 0 225 (dk_at dksX1_show_0 2 rfl rfl)
theorem dX1_show_5 : decode cX1_show 5 = .ok (.ifCond .eq 11, 3) := dk_153 0 11 (dk_at dksX1_show_0 5 rfl rfl)
theorem dX1_show_8 : decode cX1_show 8 = .ok (.aload_n 0, 1) := dk_42 (dk_at dksX1_show_0 8 rfl rfl)
theorem dX1_show_9 : decode cX1_show 9 = .ok (.iload_n 2, 1) := dk_28 (dk_at dksX1_show_0 9 rfl rfl)
theorem dX1_show_10 : decode cX1_show 10 = .ok (.invokevirtual 298, 3) := dk_182 1 42 (dk_at dksX1_show_0 10 rfl rfl)
theorem dX1_show_13 : decode cX1_show 13 = .ok (.ifCond .ne 5, 3) := dk_154 0 5 (dk_at dksX1_show_0 13 rfl rfl)
theorem dX1_show_16 : decode cX1_show 16 = .ok (.iconst (-1), 1) := dk_2 (dk_at dksX1_show_0 16 rfl rfl)
theorem dX1_show_17 : decode cX1_show 17 = .ok (.ireturn, 1) := dk_172 (dk_at dksX1_show_0 17 rfl rfl)
theorem dX1_show_18 : decode cX1_show 18 = .ok (.aload_n 0, 1) := dk_42 (dk_at dksX1_show_0 18 rfl rfl)
theorem dX1_show_19 : decode cX1_show 19 = .ok (.getfield 87, 3) := dk_180 0 87 (dk_at dksX1_show_0 19 rfl rfl)
theorem dX1_show_22 : decode cX1_show 22 = .ok (.iload_n 1, 1) := dk_27 (dk_at dksX1_show_0 22 rfl rfl)
theorem dX1_show_23 : decode cX1_show 23 = .ok (.iload_n 2, 1) := dk_28 (dk_at dksX1_show_0 23 rfl rfl)
theorem dX1_show_24 : decode cX1_show 24 = .ok (.invokevirtual 338, 3) := dk_182 1 82 (dk_at dksX1_show_1 0 rfl rfl)
theorem dX1_show_27 : decode cX1_show 27 = .ok (.istore_n 3, 1) := dk_62 (dk_at dksX1_show_1 3 rfl rfl)
theorem dX1_show_28 : decode cX1_show 28 = .ok (.iload_n 3, 1) := dk_29 (dk_at dksX1_show_1 4 rfl rfl)
theorem dX1_show_29 : decode cX1_show 29 = .ok (.ifCond .eq 5, 3) := dk_153 0 5 (dk_at dksX1_show_1 5 rfl rfl)
theorem dX1_show_32 : decode cX1_show 32 = .ok (.iload_n 3, 1) := dk_29 (dk_at dksX1_show_1 8 rfl rfl)
theorem dX1_show_33 : decode cX1_show 33 = .ok (.ireturn, 1) := dk_172 (dk_at dksX1_show_1 9 rfl rfl)
theorem dX1_show_34 : decode cX1_show 34 = .ok (.aload_n 0, 1) := dk_42 (dk_at dksX1_show_1 10 rfl rfl)
theorem dX1_show_35 : decode cX1_show 35 = .ok (.invokevirtual 329, 3) := dk_182 1 73 (dk_at dksX1_show_1 11 rfl rfl)
theorem dX1_show_38 : decode cX1_show 38 = .ok (.aload_n 0, 1) := dk_42 (dk_at dksX1_show_1 14 rfl rfl)
theorem dX1_show_39 : decode cX1_show 39 = .ok (.getfield 87, 3) := dk_180 0 87 (dk_at dksX1_show_1 15 rfl rfl)
theorem dX1_show_42 : decode cX1_show 42 = .ok (.iload_n 1, 1) := dk_27 (dk_at dksX1_show_1 18 rfl rfl)
theorem dX1_show_43 : decode cX1_show 43 = .ok (.iload_n 2, 1) := dk_28 (dk_at dksX1_show_1 19 rfl rfl)
theorem dX1_show_44 : decode cX1_show 44 = .ok (.invokevirtual 341, 3) := dk_182 1 85 (dk_at dksX1_show_1 20 rfl rfl)
theorem dX1_show_47 : decode cX1_show 47 = .ok (.iconst 0, 1) := dk_3 (dk_at dksX1_show_1 23 rfl rfl)
theorem dX1_show_48 : decode cX1_show 48 = .ok (.ireturn, 1) := dk_172 (dk_at dksX1_show_2 0 rfl rfl)
abbrev cX1_lend : ByteArray := prog_1_method_28_code
def yX1_lend : MethodName := ⟨RX1, "lend", "(III)I"⟩
def dkwX1_lend_2 : List UInt8 := [153, 0, 6, 21, 4, 172, 42, 182, 1, 73, 42, 180, 0, 87, 27, 28, 29, 182, 1, 93, 3, 172]
abbrev dktX1_lend_2 : List UInt8 := dkwX1_lend_2 ++ []
def dkwX1_lend_1 : List UInt8 := [16, 99, 184, 0, 212, 154, 0, 5, 2, 172, 42, 180, 0, 87, 27, 28, 29, 182, 1, 89, 54, 4, 21, 4]
abbrev dktX1_lend_1 : List UInt8 := dkwX1_lend_1 ++ dktX1_lend_2
def dkwX1_lend_0 : List UInt8 := [42, 27, 182, 0, 225, 153, 0, 26, 42, 28, 182, 0, 225, 153, 0, 18, 27, 28, 159, 0, 13, 29, 4]
abbrev dktX1_lend_0 : List UInt8 := dkwX1_lend_0 ++ dktX1_lend_1
theorem dksX1_lend_0 : cX1_lend.data.toList.drop 0 = dktX1_lend_0 := by decide +kernel
theorem dksX1_lend_1 : cX1_lend.data.toList.drop 23 = dktX1_lend_1 := dk_seg dksX1_lend_0 23 rfl rfl
theorem dksX1_lend_2 : cX1_lend.data.toList.drop 47 = dktX1_lend_2 := dk_seg dksX1_lend_1 24 rfl rfl
theorem dX1_lend_0 : decode cX1_lend 0 = .ok (.aload_n 0, 1) := dk_42 (dk_at dksX1_lend_0 0 rfl rfl)
theorem dX1_lend_1 : decode cX1_lend 1 = .ok (.iload_n 1, 1) := dk_27 (dk_at dksX1_lend_0 1 rfl rfl)
theorem dX1_lend_2 : decode cX1_lend 2 = .ok (.invokevirtual 225, 3) := dk_182 0 225 (dk_at dksX1_lend_0 2 rfl rfl)
theorem dX1_lend_5 : decode cX1_lend 5 = .ok (.ifCond .eq 26, 3) := dk_153 0 26 (dk_at dksX1_lend_0 5 rfl rfl)
theorem dX1_lend_8 : decode cX1_lend 8 = .ok (.aload_n 0, 1) := dk_42 (dk_at dksX1_lend_0 8 rfl rfl)
theorem dX1_lend_9 : decode cX1_lend 9 = .ok (.iload_n 2, 1) := dk_28 (dk_at dksX1_lend_0 9 rfl rfl)
theorem dX1_lend_10 : decode cX1_lend 10 = .ok (.invokevirtual 225, 3) := dk_182 0 225 (dk_at dksX1_lend_0 10 rfl rfl)
theorem dX1_lend_13 : decode cX1_lend 13 = .ok (.ifCond .eq 18, 3) := dk_153 0 18 (dk_at dksX1_lend_0 13 rfl rfl)
theorem dX1_lend_16 : decode cX1_lend 16 = .ok (.iload_n 1, 1) := dk_27 (dk_at dksX1_lend_0 16 rfl rfl)
theorem dX1_lend_17 : decode cX1_lend 17 = .ok (.iload_n 2, 1) := dk_28 (dk_at dksX1_lend_0 17 rfl rfl)
theorem dX1_lend_18 : decode cX1_lend 18 = .ok (.if_icmp .eq 13, 3) := dk_159 0 13 (dk_at dksX1_lend_0 18 rfl rfl)
theorem dX1_lend_21 : decode cX1_lend 21 = .ok (.iload_n 3, 1) := dk_29 (dk_at dksX1_lend_0 21 rfl rfl)
theorem dX1_lend_22 : decode cX1_lend 22 = .ok (.iconst 1, 1) := dk_4 (dk_at dksX1_lend_0 22 rfl rfl)
theorem dX1_lend_23 : decode cX1_lend 23 = .ok (.bipush 99, 2) := dk_16 99 (dk_at dksX1_lend_1 0 rfl rfl)
theorem dX1_lend_25 : decode cX1_lend 25 = .ok (.invokestatic 212, 3) := dk_184 0 212 (dk_at dksX1_lend_1 2 rfl rfl)
theorem dX1_lend_28 : decode cX1_lend 28 = .ok (.ifCond .ne 5, 3) := dk_154 0 5 (dk_at dksX1_lend_1 5 rfl rfl)
theorem dX1_lend_31 : decode cX1_lend 31 = .ok (.iconst (-1), 1) := dk_2 (dk_at dksX1_lend_1 8 rfl rfl)
theorem dX1_lend_32 : decode cX1_lend 32 = .ok (.ireturn, 1) := dk_172 (dk_at dksX1_lend_1 9 rfl rfl)
theorem dX1_lend_33 : decode cX1_lend 33 = .ok (.aload_n 0, 1) := dk_42 (dk_at dksX1_lend_1 10 rfl rfl)
theorem dX1_lend_34 : decode cX1_lend 34 = .ok (.getfield 87, 3) := dk_180 0 87 (dk_at dksX1_lend_1 11 rfl rfl)
theorem dX1_lend_37 : decode cX1_lend 37 = .ok (.iload_n 1, 1) := dk_27 (dk_at dksX1_lend_1 14 rfl rfl)
theorem dX1_lend_38 : decode cX1_lend 38 = .ok (.iload_n 2, 1) := dk_28 (dk_at dksX1_lend_1 15 rfl rfl)
theorem dX1_lend_39 : decode cX1_lend 39 = .ok (.iload_n 3, 1) := dk_29 (dk_at dksX1_lend_1 16 rfl rfl)
theorem dX1_lend_40 : decode cX1_lend 40 = .ok (.invokevirtual 345, 3) := dk_182 1 89 (dk_at dksX1_lend_1 17 rfl rfl)
theorem dX1_lend_43 : decode cX1_lend 43 = .ok (.istore 4, 2) := dk_54 4 (dk_at dksX1_lend_1 20 rfl rfl)
theorem dX1_lend_45 : decode cX1_lend 45 = .ok (.iload 4, 2) := dk_21 4 (dk_at dksX1_lend_1 22 rfl rfl)
theorem dX1_lend_47 : decode cX1_lend 47 = .ok (.ifCond .eq 6, 3) := dk_153 0 6 (dk_at dksX1_lend_2 0 rfl rfl)
theorem dX1_lend_50 : decode cX1_lend 50 = .ok (.iload 4, 2) := dk_21 4 (dk_at dksX1_lend_2 3 rfl rfl)
theorem dX1_lend_52 : decode cX1_lend 52 = .ok (.ireturn, 1) := dk_172 (dk_at dksX1_lend_2 5 rfl rfl)
theorem dX1_lend_53 : decode cX1_lend 53 = .ok (.aload_n 0, 1) := dk_42 (dk_at dksX1_lend_2 6 rfl rfl)
theorem dX1_lend_54 : decode cX1_lend 54 = .ok (.invokevirtual 329, 3) := dk_182 1 73 (dk_at dksX1_lend_2 7 rfl rfl)
theorem dX1_lend_57 : decode cX1_lend 57 = .ok (.aload_n 0, 1) := dk_42 (dk_at dksX1_lend_2 10 rfl rfl)
theorem dX1_lend_58 : decode cX1_lend 58 = .ok (.getfield 87, 3) := dk_180 0 87 (dk_at dksX1_lend_2 11 rfl rfl)
theorem dX1_lend_61 : decode cX1_lend 61 = .ok (.iload_n 1, 1) := dk_27 (dk_at dksX1_lend_2 14 rfl rfl)
theorem dX1_lend_62 : decode cX1_lend 62 = .ok (.iload_n 2, 1) := dk_28 (dk_at dksX1_lend_2 15 rfl rfl)
theorem dX1_lend_63 : decode cX1_lend 63 = .ok (.iload_n 3, 1) := dk_29 (dk_at dksX1_lend_2 16 rfl rfl)
theorem dX1_lend_64 : decode cX1_lend 64 = .ok (.invokevirtual 349, 3) := dk_182 1 93 (dk_at dksX1_lend_2 17 rfl rfl)
theorem dX1_lend_67 : decode cX1_lend 67 = .ok (.iconst 0, 1) := dk_3 (dk_at dksX1_lend_2 20 rfl rfl)
theorem dX1_lend_68 : decode cX1_lend 68 = .ok (.ireturn, 1) := dk_172 (dk_at dksX1_lend_2 21 rfl rfl)
abbrev cX1_days : ByteArray := prog_1_method_29_code
def yX1_days : MethodName := ⟨RX1, "days", "(II)I"⟩
def dkwX1_days_1 : List UInt8 := [160, 0, 5, 3, 172, 42, 182, 1, 73, 42, 180, 0, 87, 42, 180, 0, 80, 27, 28, 182, 1, 97, 172]
abbrev dktX1_days_1 : List UInt8 := dkwX1_days_1 ++ []
def dkwX1_days_0 : List UInt8 := [27, 4, 16, 60, 184, 0, 212, 154, 0, 5, 2, 172, 42, 180, 0, 87, 180, 1, 52, 17, 1, 144]
abbrev dktX1_days_0 : List UInt8 := dkwX1_days_0 ++ dktX1_days_1
theorem dksX1_days_0 : cX1_days.data.toList.drop 0 = dktX1_days_0 := by decide +kernel
theorem dksX1_days_1 : cX1_days.data.toList.drop 22 = dktX1_days_1 := dk_seg dksX1_days_0 22 rfl rfl
theorem dX1_days_0 : decode cX1_days 0 = .ok (.iload_n 1, 1) := dk_27 (dk_at dksX1_days_0 0 rfl rfl)
theorem dX1_days_1 : decode cX1_days 1 = .ok (.iconst 1, 1) := dk_4 (dk_at dksX1_days_0 1 rfl rfl)
theorem dX1_days_2 : decode cX1_days 2 = .ok (.bipush 60, 2) := dk_16 60 (dk_at dksX1_days_0 2 rfl rfl)
theorem dX1_days_4 : decode cX1_days 4 = .ok (.invokestatic 212, 3) := dk_184 0 212 (dk_at dksX1_days_0 4 rfl rfl)
theorem dX1_days_7 : decode cX1_days 7 = .ok (.ifCond .ne 5, 3) := dk_154 0 5 (dk_at dksX1_days_0 7 rfl rfl)
theorem dX1_days_10 : decode cX1_days 10 = .ok (.iconst (-1), 1) := dk_2 (dk_at dksX1_days_0 10 rfl rfl)
theorem dX1_days_11 : decode cX1_days 11 = .ok (.ireturn, 1) := dk_172 (dk_at dksX1_days_0 11 rfl rfl)
theorem dX1_days_12 : decode cX1_days 12 = .ok (.aload_n 0, 1) := dk_42 (dk_at dksX1_days_0 12 rfl rfl)
theorem dX1_days_13 : decode cX1_days 13 = .ok (.getfield 87, 3) := dk_180 0 87 (dk_at dksX1_days_0 13 rfl rfl)
theorem dX1_days_16 : decode cX1_days 16 = .ok (.getfield 308, 3) := dk_180 1 52 (dk_at dksX1_days_0 16 rfl rfl)
theorem dX1_days_19 : decode cX1_days 19 = .ok (.sipush 400, 3) := dk_17 1 144 (dk_at dksX1_days_0 19 rfl rfl)
theorem dX1_days_22 : decode cX1_days 22 = .ok (.if_icmp .ne 5, 3) := dk_160 0 5 (dk_at dksX1_days_1 0 rfl rfl)
theorem dX1_days_25 : decode cX1_days 25 = .ok (.iconst 0, 1) := dk_3 (dk_at dksX1_days_1 3 rfl rfl)
theorem dX1_days_26 : decode cX1_days 26 = .ok (.ireturn, 1) := dk_172 (dk_at dksX1_days_1 4 rfl rfl)
theorem dX1_days_27 : decode cX1_days 27 = .ok (.aload_n 0, 1) := dk_42 (dk_at dksX1_days_1 5 rfl rfl)
theorem dX1_days_28 : decode cX1_days 28 = .ok (.invokevirtual 329, 3) := dk_182 1 73 (dk_at dksX1_days_1 6 rfl rfl)
theorem dX1_days_31 : decode cX1_days 31 = .ok (.aload_n 0, 1) := dk_42 (dk_at dksX1_days_1 9 rfl rfl)
theorem dX1_days_32 : decode cX1_days 32 = .ok (.getfield 87, 3) := dk_180 0 87 (dk_at dksX1_days_1 10 rfl rfl)
theorem dX1_days_35 : decode cX1_days 35 = .ok (.aload_n 0, 1) := dk_42 (dk_at dksX1_days_1 13 rfl rfl)
theorem dX1_days_36 : decode cX1_days 36 = .ok (.getfield 80, 3) := dk_180 0 80 (dk_at dksX1_days_1 14 rfl rfl)
theorem dX1_days_39 : decode cX1_days 39 = .ok (.iload_n 1, 1) := dk_27 (dk_at dksX1_days_1 17 rfl rfl)
theorem dX1_days_40 : decode cX1_days 40 = .ok (.iload_n 2, 1) := dk_28 (dk_at dksX1_days_1 18 rfl rfl)
theorem dX1_days_41 : decode cX1_days 41 = .ok (.invokevirtual 353, 3) := dk_182 1 97 (dk_at dksX1_days_1 19 rfl rfl)
theorem dX1_days_44 : decode cX1_days 44 = .ok (.ireturn, 1) := dk_172 (dk_at dksX1_days_1 22 rfl rfl)
abbrev cX1_solvent : ByteArray := prog_1_method_34_code
def yX1_solvent : MethodName := ⟨RX1, "solvent", "()I"⟩
def dkwX1_solvent_1 : List UInt8 := [182, 1, 105, 182, 1, 120, 153, 0, 9, 27, 4, 28, 120, 128, 60, 132, 2, 1, 167, 255, 220, 27, 172]
abbrev dktX1_solvent_1 : List UInt8 := dkwX1_solvent_1 ++ []
def dkwX1_solvent_0 : List UInt8 := [3, 60, 3, 61, 28, 42, 180, 0, 80, 180, 0, 219, 162, 0, 31, 42, 42, 180, 0, 87, 28, 42]
abbrev dktX1_solvent_0 : List UInt8 := dkwX1_solvent_0 ++ dktX1_solvent_1
theorem dksX1_solvent_0 : cX1_solvent.data.toList.drop 0 = dktX1_solvent_0 := by decide +kernel
theorem dksX1_solvent_1 : cX1_solvent.data.toList.drop 22 = dktX1_solvent_1 := dk_seg dksX1_solvent_0 22 rfl rfl
theorem dX1_solvent_0 : decode cX1_solvent 0 = .ok (.iconst 0, 1) := dk_3 (dk_at dksX1_solvent_0 0 rfl rfl)
theorem dX1_solvent_1 : decode cX1_solvent 1 = .ok (.istore_n 1, 1) := dk_60 (dk_at dksX1_solvent_0 1 rfl rfl)
theorem dX1_solvent_2 : decode cX1_solvent 2 = .ok (.iconst 0, 1) := dk_3 (dk_at dksX1_solvent_0 2 rfl rfl)
theorem dX1_solvent_3 : decode cX1_solvent 3 = .ok (.istore_n 2, 1) := dk_61 (dk_at dksX1_solvent_0 3 rfl rfl)
theorem dX1_solvent_4 : decode cX1_solvent 4 = .ok (.iload_n 2, 1) := dk_28 (dk_at dksX1_solvent_0 4 rfl rfl)
theorem dX1_solvent_5 : decode cX1_solvent 5 = .ok (.aload_n 0, 1) := dk_42 (dk_at dksX1_solvent_0 5 rfl rfl)
theorem dX1_solvent_6 : decode cX1_solvent 6 = .ok (.getfield 80, 3) := dk_180 0 80 (dk_at dksX1_solvent_0 6 rfl rfl)
theorem dX1_solvent_9 : decode cX1_solvent 9 = .ok (.getfield 219, 3) := dk_180 0 219 (dk_at dksX1_solvent_0 9 rfl rfl)
theorem dX1_solvent_12 : decode cX1_solvent 12 = .ok (.if_icmp .ge 31, 3) := dk_162 0 31 (dk_at dksX1_solvent_0 12 rfl rfl)
theorem dX1_solvent_15 : decode cX1_solvent 15 = .ok (.aload_n 0, 1) := dk_42 (dk_at dksX1_solvent_0 15 rfl rfl)
theorem dX1_solvent_16 : decode cX1_solvent 16 = .ok (.aload_n 0, 1) := dk_42 (dk_at dksX1_solvent_0 16 rfl rfl)
theorem dX1_solvent_17 : decode cX1_solvent 17 = .ok (.getfield 87, 3) := dk_180 0 87 (dk_at dksX1_solvent_0 17 rfl rfl)
theorem dX1_solvent_20 : decode cX1_solvent 20 = .ok (.iload_n 2, 1) := dk_28 (dk_at dksX1_solvent_0 20 rfl rfl)
theorem dX1_solvent_21 : decode cX1_solvent 21 = .ok (.aload_n 0, 1) := dk_42 (dk_at dksX1_solvent_0 21 rfl rfl)
theorem dX1_solvent_22 : decode cX1_solvent 22 = .ok (.invokevirtual 361, 3) := dk_182 1 105 (dk_at dksX1_solvent_1 0 rfl rfl)
theorem dX1_solvent_25 : decode cX1_solvent 25 = .ok (.invokevirtual 376, 3) := dk_182 1 120 (dk_at dksX1_solvent_1 3 rfl rfl)
theorem dX1_solvent_28 : decode cX1_solvent 28 = .ok (.ifCond .eq 9, 3) := dk_153 0 9 (dk_at dksX1_solvent_1 6 rfl rfl)
theorem dX1_solvent_31 : decode cX1_solvent 31 = .ok (.iload_n 1, 1) := dk_27 (dk_at dksX1_solvent_1 9 rfl rfl)
theorem dX1_solvent_32 : decode cX1_solvent 32 = .ok (.iconst 1, 1) := dk_4 (dk_at dksX1_solvent_1 10 rfl rfl)
theorem dX1_solvent_33 : decode cX1_solvent 33 = .ok (.iload_n 2, 1) := dk_28 (dk_at dksX1_solvent_1 11 rfl rfl)
theorem dX1_solvent_34 : decode cX1_solvent 34 = .ok (.ishl, 1) := dk_120 (dk_at dksX1_solvent_1 12 rfl rfl)
theorem dX1_solvent_35 : decode cX1_solvent 35 = .ok (.ior, 1) := dk_128 (dk_at dksX1_solvent_1 13 rfl rfl)
theorem dX1_solvent_36 : decode cX1_solvent 36 = .ok (.istore_n 1, 1) := dk_60 (dk_at dksX1_solvent_1 14 rfl rfl)
theorem dX1_solvent_37 : decode cX1_solvent 37 = .ok (.iinc 2 1, 3) := dk_132 2 1 (dk_at dksX1_solvent_1 15 rfl rfl)
theorem dX1_solvent_40 : decode cX1_solvent 40 = .ok (.goto (-36), 3) := dk_167 255 220 (dk_at dksX1_solvent_1 18 rfl rfl)
theorem dX1_solvent_43 : decode cX1_solvent 43 = .ok (.iload_n 1, 1) := dk_27 (dk_at dksX1_solvent_1 21 rfl rfl)
theorem dX1_solvent_44 : decode cX1_solvent 44 = .ok (.ireturn, 1) := dk_172 (dk_at dksX1_solvent_1 22 rfl rfl)
abbrev cX1_all : ByteArray := prog_1_method_31_code
def yX1_all : MethodName := ⟨RX1, "all", "()I"⟩
def dkwX1_all_0 : List UInt8 := [4, 42, 180, 0, 80, 180, 0, 222, 120, 4, 100, 172]
abbrev dktX1_all_0 : List UInt8 := dkwX1_all_0 ++ []
theorem dksX1_all_0 : cX1_all.data.toList.drop 0 = dktX1_all_0 := by decide +kernel
theorem dX1_all_0 : decode cX1_all 0 = .ok (.iconst 1, 1) := dk_4 (dk_at dksX1_all_0 0 rfl rfl)
theorem dX1_all_1 : decode cX1_all 1 = .ok (.aload_n 0, 1) := dk_42 (dk_at dksX1_all_0 1 rfl rfl)
theorem dX1_all_2 : decode cX1_all 2 = .ok (.getfield 80, 3) := dk_180 0 80 (dk_at dksX1_all_0 2 rfl rfl)
theorem dX1_all_5 : decode cX1_all 5 = .ok (.getfield 222, 3) := dk_180 0 222 (dk_at dksX1_all_0 5 rfl rfl)
theorem dX1_all_8 : decode cX1_all 8 = .ok (.ishl, 1) := dk_120 (dk_at dksX1_all_0 8 rfl rfl)
theorem dX1_all_9 : decode cX1_all 9 = .ok (.iconst 1, 1) := dk_4 (dk_at dksX1_all_0 9 rfl rfl)
theorem dX1_all_10 : decode cX1_all 10 = .ok (.isub, 1) := dk_100 (dk_at dksX1_all_0 10 rfl rfl)
theorem dX1_all_11 : decode cX1_all 11 = .ok (.ireturn, 1) := dk_172 (dk_at dksX1_all_0 11 rfl rfl)
abbrev cX1_isSolvent : ByteArray := prog_1_method_33_code
def yX1_isSolvent : MethodName := ⟨RX1, "isSolvent", "(LStatueRent$State;II)Z"⟩
def dkwX1_isSolvent_2 : List UInt8 := [172]
abbrev dktX1_isSolvent_2 : List UInt8 := dkwX1_isSolvent_2 ++ []
def dkwX1_isSolvent_1 : List UInt8 := [180, 1, 4, 25, 4, 180, 1, 3, 25, 4, 180, 1, 13, 182, 1, 116, 153, 0, 7, 4, 167, 0, 4, 3]
abbrev dktX1_isSolvent_1 : List UInt8 := dkwX1_isSolvent_1 ++ dktX1_isSolvent_2
def dkwX1_isSolvent_0 : List UInt8 := [43, 180, 0, 229, 28, 50, 58, 4, 25, 4, 182, 0, 233, 154, 0, 33, 42, 180, 0, 80, 29, 25, 4]
abbrev dktX1_isSolvent_0 : List UInt8 := dkwX1_isSolvent_0 ++ dktX1_isSolvent_1
theorem dksX1_isSolvent_0 : cX1_isSolvent.data.toList.drop 0 = dktX1_isSolvent_0 := by decide +kernel
theorem dksX1_isSolvent_1 : cX1_isSolvent.data.toList.drop 23 = dktX1_isSolvent_1 := dk_seg dksX1_isSolvent_0 23 rfl rfl
theorem dksX1_isSolvent_2 : cX1_isSolvent.data.toList.drop 47 = dktX1_isSolvent_2 := dk_seg dksX1_isSolvent_1 24 rfl rfl
theorem dX1_isSolvent_0 : decode cX1_isSolvent 0 = .ok (.aload_n 1, 1) := dk_43 (dk_at dksX1_isSolvent_0 0 rfl rfl)
theorem dX1_isSolvent_1 : decode cX1_isSolvent 1 = .ok (.getfield 229, 3) := dk_180 0 229 (dk_at dksX1_isSolvent_0 1 rfl rfl)
theorem dX1_isSolvent_4 : decode cX1_isSolvent 4 = .ok (.iload_n 2, 1) := dk_28 (dk_at dksX1_isSolvent_0 4 rfl rfl)
theorem dX1_isSolvent_5 : decode cX1_isSolvent 5 = .ok (.aaload, 1) := dk_50 (dk_at dksX1_isSolvent_0 5 rfl rfl)
theorem dX1_isSolvent_6 : decode cX1_isSolvent 6 = .ok (.astore 4, 2) := dk_58 4 (dk_at dksX1_isSolvent_0 6 rfl rfl)
theorem dX1_isSolvent_8 : decode cX1_isSolvent 8 = .ok (.aload 4, 2) := dk_25 4 (dk_at dksX1_isSolvent_0 8 rfl rfl)
theorem dX1_isSolvent_10 : decode cX1_isSolvent 10 = .ok (.invokevirtual 233, 3) := dk_182 0 233 (dk_at dksX1_isSolvent_0 10 rfl rfl)
theorem dX1_isSolvent_13 : decode cX1_isSolvent 13 = .ok (.ifCond .ne 33, 3) := dk_154 0 33 (dk_at dksX1_isSolvent_0 13 rfl rfl)
theorem dX1_isSolvent_16 : decode cX1_isSolvent 16 = .ok (.aload_n 0, 1) := dk_42 (dk_at dksX1_isSolvent_0 16 rfl rfl)
theorem dX1_isSolvent_17 : decode cX1_isSolvent 17 = .ok (.getfield 80, 3) := dk_180 0 80 (dk_at dksX1_isSolvent_0 17 rfl rfl)
theorem dX1_isSolvent_20 : decode cX1_isSolvent 20 = .ok (.iload_n 3, 1) := dk_29 (dk_at dksX1_isSolvent_0 20 rfl rfl)
theorem dX1_isSolvent_21 : decode cX1_isSolvent 21 = .ok (.aload 4, 2) := dk_25 4 (dk_at dksX1_isSolvent_0 21 rfl rfl)
theorem dX1_isSolvent_23 : decode cX1_isSolvent 23 = .ok (.getfield 260, 3) := dk_180 1 4 (dk_at dksX1_isSolvent_1 0 rfl rfl)
theorem dX1_isSolvent_26 : decode cX1_isSolvent 26 = .ok (.aload 4, 2) := dk_25 4 (dk_at dksX1_isSolvent_1 3 rfl rfl)
theorem dX1_isSolvent_28 : decode cX1_isSolvent 28 = .ok (.getfield 259, 3) := dk_180 1 3 (dk_at dksX1_isSolvent_1 5 rfl rfl)
theorem dX1_isSolvent_31 : decode cX1_isSolvent 31 = .ok (.aload 4, 2) := dk_25 4 (dk_at dksX1_isSolvent_1 8 rfl rfl)
theorem dX1_isSolvent_33 : decode cX1_isSolvent 33 = .ok (.getfield 269, 3) := dk_180 1 13 (dk_at dksX1_isSolvent_1 10 rfl rfl)
theorem dX1_isSolvent_36 : decode cX1_isSolvent 36 = .ok (.invokevirtual 372, 3) := dk_182 1 116 (dk_at dksX1_isSolvent_1 13 rfl rfl)
theorem dX1_isSolvent_39 : decode cX1_isSolvent 39 = .ok (.ifCond .eq 7, 3) := dk_153 0 7 (dk_at dksX1_isSolvent_1 16 rfl rfl)
theorem dX1_isSolvent_42 : decode cX1_isSolvent 42 = .ok (.iconst 1, 1) := dk_4 (dk_at dksX1_isSolvent_1 19 rfl rfl)
theorem dX1_isSolvent_43 : decode cX1_isSolvent 43 = .ok (.goto 4, 3) := dk_167 0 4 (dk_at dksX1_isSolvent_1 20 rfl rfl)
theorem dX1_isSolvent_46 : decode cX1_isSolvent 46 = .ok (.iconst 0, 1) := dk_3 (dk_at dksX1_isSolvent_1 23 rfl rfl)
theorem dX1_isSolvent_47 : decode cX1_isSolvent 47 = .ok (.ireturn, 1) := dk_172 (dk_at dksX1_isSolvent_2 0 rfl rfl)
abbrev cX1_placed : ByteArray := prog_1_method_39_code
def yX1_placed : MethodName := ⟨RX1, "placed", "(I)I"⟩
def dkwX1_placed_5 : List UInt8 := [4, 29, 120, 128, 61, 132, 4, 1, 167, 255, 150, 29, 172]
abbrev dktX1_placed_5 : List UInt8 := dkwX1_placed_5 ++ []
def dkwX1_placed_4 : List UInt8 := [29, 120, 128, 46, 96, 42, 180, 0, 120, 21, 4, 50, 28, 46, 159, 0, 9, 132, 3, 1, 167, 255, 189, 28]
abbrev dktX1_placed_4 : List UInt8 := dkwX1_placed_4 ++ dktX1_placed_5
def dkwX1_placed_3 : List UInt8 := [19, 1, 131, 159, 0, 38, 42, 21, 4, 29, 182, 1, 135, 42, 180, 0, 120, 21, 4, 4, 96, 50, 28, 4]
abbrev dktX1_placed_3 : List UInt8 := dkwX1_placed_3 ++ dktX1_placed_4
def dkwX1_placed_2 : List UInt8 := [28, 29, 184, 1, 132, 154, 0, 59, 42, 180, 0, 120, 21, 4, 4, 96, 50, 28, 4, 29, 120, 128, 46]
abbrev dktX1_placed_2 : List UInt8 := dkwX1_placed_2 ++ dktX1_placed_3
def dkwX1_placed_1 : List UInt8 := [163, 0, 106, 42, 180, 0, 87, 180, 0, 229, 21, 4, 50, 182, 0, 233, 153, 0, 6, 167, 0, 81, 3, 62]
abbrev dktX1_placed_1 : List UInt8 := dkwX1_placed_1 ++ dktX1_placed_2
def dkwX1_placed_0 : List UInt8 := [42, 27, 182, 1, 124, 154, 0, 5, 2, 172, 42, 182, 1, 141, 3, 61, 2, 62, 3, 54, 4, 21, 4, 27]
abbrev dktX1_placed_0 : List UInt8 := dkwX1_placed_0 ++ dktX1_placed_1
theorem dksX1_placed_0 : cX1_placed.data.toList.drop 0 = dktX1_placed_0 := by decide +kernel
theorem dksX1_placed_1 : cX1_placed.data.toList.drop 24 = dktX1_placed_1 := dk_seg dksX1_placed_0 24 rfl rfl
theorem dksX1_placed_2 : cX1_placed.data.toList.drop 48 = dktX1_placed_2 := dk_seg dksX1_placed_1 24 rfl rfl
theorem dksX1_placed_3 : cX1_placed.data.toList.drop 71 = dktX1_placed_3 := dk_seg dksX1_placed_2 23 rfl rfl
theorem dksX1_placed_4 : cX1_placed.data.toList.drop 95 = dktX1_placed_4 := dk_seg dksX1_placed_3 24 rfl rfl
theorem dksX1_placed_5 : cX1_placed.data.toList.drop 119 = dktX1_placed_5 := dk_seg dksX1_placed_4 24 rfl rfl
theorem dX1_placed_0 : decode cX1_placed 0 = .ok (.aload_n 0, 1) := dk_42 (dk_at dksX1_placed_0 0 rfl rfl)
theorem dX1_placed_1 : decode cX1_placed 1 = .ok (.iload_n 1, 1) := dk_27 (dk_at dksX1_placed_0 1 rfl rfl)
theorem dX1_placed_2 : decode cX1_placed 2 = .ok (.invokevirtual 380, 3) := dk_182 1 124 (dk_at dksX1_placed_0 2 rfl rfl)
theorem dX1_placed_5 : decode cX1_placed 5 = .ok (.ifCond .ne 5, 3) := dk_154 0 5 (dk_at dksX1_placed_0 5 rfl rfl)
theorem dX1_placed_8 : decode cX1_placed 8 = .ok (.iconst (-1), 1) := dk_2 (dk_at dksX1_placed_0 8 rfl rfl)
theorem dX1_placed_9 : decode cX1_placed 9 = .ok (.ireturn, 1) := dk_172 (dk_at dksX1_placed_0 9 rfl rfl)
theorem dX1_placed_10 : decode cX1_placed 10 = .ok (.aload_n 0, 1) := dk_42 (dk_at dksX1_placed_0 10 rfl rfl)
theorem dX1_placed_11 : decode cX1_placed 11 = .ok (.invokevirtual 397, 3) := dk_182 1 141 (dk_at dksX1_placed_0 11 rfl rfl)
theorem dX1_placed_14 : decode cX1_placed 14 = .ok (.iconst 0, 1) := dk_3 (dk_at dksX1_placed_0 14 rfl rfl)
theorem dX1_placed_15 : decode cX1_placed 15 = .ok (.istore_n 2, 1) := dk_61 (dk_at dksX1_placed_0 15 rfl rfl)
theorem dX1_placed_16 : decode cX1_placed 16 = .ok (.iconst (-1), 1) := dk_2 (dk_at dksX1_placed_0 16 rfl rfl)
theorem dX1_placed_17 : decode cX1_placed 17 = .ok (.istore_n 3, 1) := dk_62 (dk_at dksX1_placed_0 17 rfl rfl)
theorem dX1_placed_18 : decode cX1_placed 18 = .ok (.iconst 0, 1) := dk_3 (dk_at dksX1_placed_0 18 rfl rfl)
theorem dX1_placed_19 : decode cX1_placed 19 = .ok (.istore 4, 2) := dk_54 4 (dk_at dksX1_placed_0 19 rfl rfl)
theorem dX1_placed_21 : decode cX1_placed 21 = .ok (.iload 4, 2) := dk_21 4 (dk_at dksX1_placed_0 21 rfl rfl)
theorem dX1_placed_23 : decode cX1_placed 23 = .ok (.iload_n 1, 1) := dk_27 (dk_at dksX1_placed_0 23 rfl rfl)
theorem dX1_placed_24 : decode cX1_placed 24 = .ok (.if_icmp .gt 106, 3) := dk_163 0 106 (dk_at dksX1_placed_1 0 rfl rfl)
theorem dX1_placed_27 : decode cX1_placed 27 = .ok (.aload_n 0, 1) := dk_42 (dk_at dksX1_placed_1 3 rfl rfl)
theorem dX1_placed_28 : decode cX1_placed 28 = .ok (.getfield 87, 3) := dk_180 0 87 (dk_at dksX1_placed_1 4 rfl rfl)
theorem dX1_placed_31 : decode cX1_placed 31 = .ok (.getfield 229, 3) := dk_180 0 229 (dk_at dksX1_placed_1 7 rfl rfl)
theorem dX1_placed_34 : decode cX1_placed 34 = .ok (.iload 4, 2) := dk_21 4 (dk_at dksX1_placed_1 10 rfl rfl)
theorem dX1_placed_36 : decode cX1_placed 36 = .ok (.aaload, 1) := dk_50 (dk_at dksX1_placed_1 12 rfl rfl)
theorem dX1_placed_37 : decode cX1_placed 37 = .ok (.invokevirtual 233, 3) := dk_182 0 233 (dk_at dksX1_placed_1 13 rfl rfl)
theorem dX1_placed_40 : decode cX1_placed 40 = .ok (.ifCond .eq 6, 3) := dk_153 0 6 (dk_at dksX1_placed_1 16 rfl rfl)
theorem dX1_placed_43 : decode cX1_placed 43 = .ok (.goto 81, 3) := dk_167 0 81 (dk_at dksX1_placed_1 19 rfl rfl)
theorem dX1_placed_46 : decode cX1_placed 46 = .ok (.iconst 0, 1) := dk_3 (dk_at dksX1_placed_1 22 rfl rfl)
theorem dX1_placed_47 : decode cX1_placed 47 = .ok (.istore_n 3, 1) := dk_62 (dk_at dksX1_placed_1 23 rfl rfl)
theorem dX1_placed_48 : decode cX1_placed 48 = .ok (.iload_n 2, 1) := dk_28 (dk_at dksX1_placed_2 0 rfl rfl)
theorem dX1_placed_49 : decode cX1_placed 49 = .ok (.iload_n 3, 1) := dk_29 (dk_at dksX1_placed_2 1 rfl rfl)
theorem dX1_placed_50 : decode cX1_placed 50 = .ok (.invokestatic 388, 3) := dk_184 1 132 (dk_at dksX1_placed_2 2 rfl rfl)
theorem dX1_placed_53 : decode cX1_placed 53 = .ok (.ifCond .ne 59, 3) := dk_154 0 59 (dk_at dksX1_placed_2 5 rfl rfl)
theorem dX1_placed_56 : decode cX1_placed 56 = .ok (.aload_n 0, 1) := dk_42 (dk_at dksX1_placed_2 8 rfl rfl)
theorem dX1_placed_57 : decode cX1_placed 57 = .ok (.getfield 120, 3) := dk_180 0 120 (dk_at dksX1_placed_2 9 rfl rfl)
theorem dX1_placed_60 : decode cX1_placed 60 = .ok (.iload 4, 2) := dk_21 4 (dk_at dksX1_placed_2 12 rfl rfl)
theorem dX1_placed_62 : decode cX1_placed 62 = .ok (.iconst 1, 1) := dk_4 (dk_at dksX1_placed_2 14 rfl rfl)
theorem dX1_placed_63 : decode cX1_placed 63 = .ok (.iadd, 1) := dk_96 (dk_at dksX1_placed_2 15 rfl rfl)
theorem dX1_placed_64 : decode cX1_placed 64 = .ok (.aaload, 1) := dk_50 (dk_at dksX1_placed_2 16 rfl rfl)
theorem dX1_placed_65 : decode cX1_placed 65 = .ok (.iload_n 2, 1) := dk_28 (dk_at dksX1_placed_2 17 rfl rfl)
theorem dX1_placed_66 : decode cX1_placed 66 = .ok (.iconst 1, 1) := dk_4 (dk_at dksX1_placed_2 18 rfl rfl)
theorem dX1_placed_67 : decode cX1_placed 67 = .ok (.iload_n 3, 1) := dk_29 (dk_at dksX1_placed_2 19 rfl rfl)
theorem dX1_placed_68 : decode cX1_placed 68 = .ok (.ishl, 1) := dk_120 (dk_at dksX1_placed_2 20 rfl rfl)
theorem dX1_placed_69 : decode cX1_placed 69 = .ok (.ior, 1) := dk_128 (dk_at dksX1_placed_2 21 rfl rfl)
theorem dX1_placed_70 : decode cX1_placed 70 = .ok (.iaload, 1) := dk_46 (dk_at dksX1_placed_2 22 rfl rfl)
theorem dX1_placed_71 : decode cX1_placed 71 = .ok (.ldc_w 387, 3) := dk_19 1 131 (dk_at dksX1_placed_3 0 rfl rfl)
theorem dX1_placed_74 : decode cX1_placed 74 = .ok (.if_icmp .eq 38, 3) := dk_159 0 38 (dk_at dksX1_placed_3 3 rfl rfl)
theorem dX1_placed_77 : decode cX1_placed 77 = .ok (.aload_n 0, 1) := dk_42 (dk_at dksX1_placed_3 6 rfl rfl)
theorem dX1_placed_78 : decode cX1_placed 78 = .ok (.iload 4, 2) := dk_21 4 (dk_at dksX1_placed_3 7 rfl rfl)
theorem dX1_placed_80 : decode cX1_placed 80 = .ok (.iload_n 3, 1) := dk_29 (dk_at dksX1_placed_3 9 rfl rfl)
theorem dX1_placed_81 : decode cX1_placed 81 = .ok (.invokevirtual 391, 3) := dk_182 1 135 (dk_at dksX1_placed_3 10 rfl rfl)
theorem dX1_placed_84 : decode cX1_placed 84 = .ok (.aload_n 0, 1) := dk_42 (dk_at dksX1_placed_3 13 rfl rfl)
theorem dX1_placed_85 : decode cX1_placed 85 = .ok (.getfield 120, 3) := dk_180 0 120 (dk_at dksX1_placed_3 14 rfl rfl)
theorem dX1_placed_88 : decode cX1_placed 88 = .ok (.iload 4, 2) := dk_21 4 (dk_at dksX1_placed_3 17 rfl rfl)
theorem dX1_placed_90 : decode cX1_placed 90 = .ok (.iconst 1, 1) := dk_4 (dk_at dksX1_placed_3 19 rfl rfl)
theorem dX1_placed_91 : decode cX1_placed 91 = .ok (.iadd, 1) := dk_96 (dk_at dksX1_placed_3 20 rfl rfl)
theorem dX1_placed_92 : decode cX1_placed 92 = .ok (.aaload, 1) := dk_50 (dk_at dksX1_placed_3 21 rfl rfl)
theorem dX1_placed_93 : decode cX1_placed 93 = .ok (.iload_n 2, 1) := dk_28 (dk_at dksX1_placed_3 22 rfl rfl)
theorem dX1_placed_94 : decode cX1_placed 94 = .ok (.iconst 1, 1) := dk_4 (dk_at dksX1_placed_3 23 rfl rfl)
theorem dX1_placed_95 : decode cX1_placed 95 = .ok (.iload_n 3, 1) := dk_29 (dk_at dksX1_placed_4 0 rfl rfl)
theorem dX1_placed_96 : decode cX1_placed 96 = .ok (.ishl, 1) := dk_120 (dk_at dksX1_placed_4 1 rfl rfl)
theorem dX1_placed_97 : decode cX1_placed 97 = .ok (.ior, 1) := dk_128 (dk_at dksX1_placed_4 2 rfl rfl)
theorem dX1_placed_98 : decode cX1_placed 98 = .ok (.iaload, 1) := dk_46 (dk_at dksX1_placed_4 3 rfl rfl)
theorem dX1_placed_99 : decode cX1_placed 99 = .ok (.iadd, 1) := dk_96 (dk_at dksX1_placed_4 4 rfl rfl)
theorem dX1_placed_100 : decode cX1_placed 100 = .ok (.aload_n 0, 1) := dk_42 (dk_at dksX1_placed_4 5 rfl rfl)
theorem dX1_placed_101 : decode cX1_placed 101 = .ok (.getfield 120, 3) := dk_180 0 120 (dk_at dksX1_placed_4 6 rfl rfl)
theorem dX1_placed_104 : decode cX1_placed 104 = .ok (.iload 4, 2) := dk_21 4 (dk_at dksX1_placed_4 9 rfl rfl)
theorem dX1_placed_106 : decode cX1_placed 106 = .ok (.aaload, 1) := dk_50 (dk_at dksX1_placed_4 11 rfl rfl)
theorem dX1_placed_107 : decode cX1_placed 107 = .ok (.iload_n 2, 1) := dk_28 (dk_at dksX1_placed_4 12 rfl rfl)
theorem dX1_placed_108 : decode cX1_placed 108 = .ok (.iaload, 1) := dk_46 (dk_at dksX1_placed_4 13 rfl rfl)
theorem dX1_placed_109 : decode cX1_placed 109 = .ok (.if_icmp .eq 9, 3) := dk_159 0 9 (dk_at dksX1_placed_4 14 rfl rfl)
theorem dX1_placed_112 : decode cX1_placed 112 = .ok (.iinc 3 1, 3) := dk_132 3 1 (dk_at dksX1_placed_4 17 rfl rfl)
theorem dX1_placed_115 : decode cX1_placed 115 = .ok (.goto (-67), 3) := dk_167 255 189 (dk_at dksX1_placed_4 20 rfl rfl)
theorem dX1_placed_118 : decode cX1_placed 118 = .ok (.iload_n 2, 1) := dk_28 (dk_at dksX1_placed_4 23 rfl rfl)
theorem dX1_placed_119 : decode cX1_placed 119 = .ok (.iconst 1, 1) := dk_4 (dk_at dksX1_placed_5 0 rfl rfl)
theorem dX1_placed_120 : decode cX1_placed 120 = .ok (.iload_n 3, 1) := dk_29 (dk_at dksX1_placed_5 1 rfl rfl)
theorem dX1_placed_121 : decode cX1_placed 121 = .ok (.ishl, 1) := dk_120 (dk_at dksX1_placed_5 2 rfl rfl)
theorem dX1_placed_122 : decode cX1_placed 122 = .ok (.ior, 1) := dk_128 (dk_at dksX1_placed_5 3 rfl rfl)
theorem dX1_placed_123 : decode cX1_placed 123 = .ok (.istore_n 2, 1) := dk_61 (dk_at dksX1_placed_5 4 rfl rfl)
theorem dX1_placed_124 : decode cX1_placed 124 = .ok (.iinc 4 1, 3) := dk_132 4 1 (dk_at dksX1_placed_5 5 rfl rfl)
theorem dX1_placed_127 : decode cX1_placed 127 = .ok (.goto (-106), 3) := dk_167 255 150 (dk_at dksX1_placed_5 8 rfl rfl)
theorem dX1_placed_130 : decode cX1_placed 130 = .ok (.iload_n 3, 1) := dk_29 (dk_at dksX1_placed_5 11 rfl rfl)
theorem dX1_placed_131 : decode cX1_placed 131 = .ok (.ireturn, 1) := dk_172 (dk_at dksX1_placed_5 12 rfl rfl)
abbrev cX1_isHere : ByteArray := prog_1_method_16_code
def yX1_isHere : MethodName := ⟨RX1, "isHere", "(I)Z"⟩
def dkwX1_isHere_1 : List UInt8 := [167, 0, 4, 3, 172]
abbrev dktX1_isHere_1 : List UInt8 := dkwX1_isHere_1 ++ []
def dkwX1_isHere_0 : List UInt8 := [42, 27, 182, 0, 225, 153, 0, 22, 42, 180, 0, 87, 180, 0, 229, 27, 50, 182, 0, 233, 154, 0, 7, 4]
abbrev dktX1_isHere_0 : List UInt8 := dkwX1_isHere_0 ++ dktX1_isHere_1
theorem dksX1_isHere_0 : cX1_isHere.data.toList.drop 0 = dktX1_isHere_0 := by decide +kernel
theorem dksX1_isHere_1 : cX1_isHere.data.toList.drop 24 = dktX1_isHere_1 := dk_seg dksX1_isHere_0 24 rfl rfl
theorem dX1_isHere_0 : decode cX1_isHere 0 = .ok (.aload_n 0, 1) := dk_42 (dk_at dksX1_isHere_0 0 rfl rfl)
theorem dX1_isHere_1 : decode cX1_isHere 1 = .ok (.iload_n 1, 1) := dk_27 (dk_at dksX1_isHere_0 1 rfl rfl)
theorem dX1_isHere_2 : decode cX1_isHere 2 = .ok (.invokevirtual 225, 3) := dk_182 0 225 (dk_at dksX1_isHere_0 2 rfl rfl)
theorem dX1_isHere_5 : decode cX1_isHere 5 = .ok (.ifCond .eq 22, 3) := dk_153 0 22 (dk_at dksX1_isHere_0 5 rfl rfl)
theorem dX1_isHere_8 : decode cX1_isHere 8 = .ok (.aload_n 0, 1) := dk_42 (dk_at dksX1_isHere_0 8 rfl rfl)
theorem dX1_isHere_9 : decode cX1_isHere 9 = .ok (.getfield 87, 3) := dk_180 0 87 (dk_at dksX1_isHere_0 9 rfl rfl)
theorem dX1_isHere_12 : decode cX1_isHere 12 = .ok (.getfield 229, 3) := dk_180 0 229 (dk_at dksX1_isHere_0 12 rfl rfl)
theorem dX1_isHere_15 : decode cX1_isHere 15 = .ok (.iload_n 1, 1) := dk_27 (dk_at dksX1_isHere_0 15 rfl rfl)
theorem dX1_isHere_16 : decode cX1_isHere 16 = .ok (.aaload, 1) := dk_50 (dk_at dksX1_isHere_0 16 rfl rfl)
theorem dX1_isHere_17 : decode cX1_isHere 17 = .ok (.invokevirtual 233, 3) := dk_182 0 233 (dk_at dksX1_isHere_0 17 rfl rfl)
theorem dX1_isHere_20 : decode cX1_isHere 20 = .ok (.ifCond .ne 7, 3) := dk_154 0 7 (dk_at dksX1_isHere_0 20 rfl rfl)
theorem dX1_isHere_23 : decode cX1_isHere 23 = .ok (.iconst 1, 1) := dk_4 (dk_at dksX1_isHere_0 23 rfl rfl)
theorem dX1_isHere_24 : decode cX1_isHere 24 = .ok (.goto 4, 3) := dk_167 0 4 (dk_at dksX1_isHere_1 0 rfl rfl)
theorem dX1_isHere_27 : decode cX1_isHere 27 = .ok (.iconst 0, 1) := dk_3 (dk_at dksX1_isHere_1 3 rfl rfl)
theorem dX1_isHere_28 : decode cX1_isHere 28 = .ok (.ireturn, 1) := dk_172 (dk_at dksX1_isHere_1 4 rfl rfl)
abbrev cX1_places : ByteArray := prog_1_method_37_code
def yX1_places : MethodName := ⟨RX1, "places", "()V"⟩
def dkwX1_places_8 : List UInt8 := [180, 0, 120, 28, 50, 29, 21, 4, 79, 132, 3, 1, 167, 255, 98, 132, 2, 255, 167, 255, 86, 177]
abbrev dktX1_places_8 : List UInt8 := dkwX1_places_8 ++ []
def dkwX1_places_7 : List UInt8 := [96, 50, 29, 4, 21, 5, 120, 128, 46, 96, 184, 1, 138, 54, 4, 132, 5, 1, 167, 255, 163, 42]
abbrev dktX1_places_7 : List UInt8 := dkwX1_places_7 ++ dktX1_places_8
def dkwX1_places_6 : List UInt8 := [19, 1, 131, 160, 0, 6, 167, 0, 33, 21, 4, 42, 28, 21, 5, 182, 1, 135, 42, 180, 0, 120, 28, 4]
abbrev dktX1_places_6 : List UInt8 := dkwX1_places_6 ++ dktX1_places_7
def dkwX1_places_5 : List UInt8 := [29, 21, 5, 184, 1, 132, 154, 0, 57, 42, 180, 0, 120, 28, 4, 96, 50, 29, 4, 21, 5, 120, 128, 46]
abbrev dktX1_places_5 : List UInt8 := dkwX1_places_5 ++ dktX1_places_6
def dkwX1_places_4 : List UInt8 := [180, 0, 80, 180, 0, 209, 162, 0, 87, 42, 180, 0, 87, 180, 0, 229, 28, 50, 182, 0, 233, 154, 0, 72]
abbrev dktX1_places_4 : List UInt8 := dkwX1_places_4 ++ dktX1_places_5
def dkwX1_places_3 : List UInt8 := [180, 0, 120, 28, 4, 96, 50, 29, 46, 167, 0, 6, 19, 1, 131, 54, 4, 3, 54, 5, 21, 5, 42]
abbrev dktX1_places_3 : List UInt8 := dkwX1_places_3 ++ dktX1_places_4
def dkwX1_places_2 : List UInt8 := [180, 0, 209, 120, 162, 0, 151, 42, 180, 0, 87, 180, 0, 229, 28, 50, 182, 0, 233, 153, 0, 16, 42]
abbrev dktX1_places_2 : List UInt8 := dkwX1_places_2 ++ dktX1_places_3
def dkwX1_places_1 : List UInt8 := [3, 79, 132, 2, 1, 167, 255, 237, 27, 4, 100, 61, 28, 155, 0, 172, 3, 62, 29, 4, 42, 180, 0, 80]
abbrev dktX1_places_1 : List UInt8 := dkwX1_places_1 ++ dktX1_places_2
def dkwX1_places_0 : List UInt8 := [42, 180, 0, 80, 180, 0, 219, 60, 3, 61, 28, 17, 1, 0, 162, 0, 18, 42, 180, 0, 120, 27, 50, 28]
abbrev dktX1_places_0 : List UInt8 := dkwX1_places_0 ++ dktX1_places_1
theorem dksX1_places_0 : cX1_places.data.toList.drop 0 = dktX1_places_0 := by decide +kernel
theorem dksX1_places_1 : cX1_places.data.toList.drop 24 = dktX1_places_1 := dk_seg dksX1_places_0 24 rfl rfl
theorem dksX1_places_2 : cX1_places.data.toList.drop 48 = dktX1_places_2 := dk_seg dksX1_places_1 24 rfl rfl
theorem dksX1_places_3 : cX1_places.data.toList.drop 71 = dktX1_places_3 := dk_seg dksX1_places_2 23 rfl rfl
theorem dksX1_places_4 : cX1_places.data.toList.drop 94 = dktX1_places_4 := dk_seg dksX1_places_3 23 rfl rfl
theorem dksX1_places_5 : cX1_places.data.toList.drop 118 = dktX1_places_5 := dk_seg dksX1_places_4 24 rfl rfl
theorem dksX1_places_6 : cX1_places.data.toList.drop 142 = dktX1_places_6 := dk_seg dksX1_places_5 24 rfl rfl
theorem dksX1_places_7 : cX1_places.data.toList.drop 166 = dktX1_places_7 := dk_seg dksX1_places_6 24 rfl rfl
theorem dksX1_places_8 : cX1_places.data.toList.drop 188 = dktX1_places_8 := dk_seg dksX1_places_7 22 rfl rfl
theorem dX1_places_0 : decode cX1_places 0 = .ok (.aload_n 0, 1) := dk_42 (dk_at dksX1_places_0 0 rfl rfl)
theorem dX1_places_1 : decode cX1_places 1 = .ok (.getfield 80, 3) := dk_180 0 80 (dk_at dksX1_places_0 1 rfl rfl)
theorem dX1_places_4 : decode cX1_places 4 = .ok (.getfield 219, 3) := dk_180 0 219 (dk_at dksX1_places_0 4 rfl rfl)
theorem dX1_places_7 : decode cX1_places 7 = .ok (.istore_n 1, 1) := dk_60 (dk_at dksX1_places_0 7 rfl rfl)
theorem dX1_places_8 : decode cX1_places 8 = .ok (.iconst 0, 1) := dk_3 (dk_at dksX1_places_0 8 rfl rfl)
theorem dX1_places_9 : decode cX1_places 9 = .ok (.istore_n 2, 1) := dk_61 (dk_at dksX1_places_0 9 rfl rfl)
theorem dX1_places_10 : decode cX1_places 10 = .ok (.iload_n 2, 1) := dk_28 (dk_at dksX1_places_0 10 rfl rfl)
theorem dX1_places_11 : decode cX1_places 11 = .ok (.sipush 256, 3) := dk_17 1 0 (dk_at dksX1_places_0 11 rfl rfl)
theorem dX1_places_14 : decode cX1_places 14 = .ok (.if_icmp .ge 18, 3) := dk_162 0 18 (dk_at dksX1_places_0 14 rfl rfl)
theorem dX1_places_17 : decode cX1_places 17 = .ok (.aload_n 0, 1) := dk_42 (dk_at dksX1_places_0 17 rfl rfl)
theorem dX1_places_18 : decode cX1_places 18 = .ok (.getfield 120, 3) := dk_180 0 120 (dk_at dksX1_places_0 18 rfl rfl)
theorem dX1_places_21 : decode cX1_places 21 = .ok (.iload_n 1, 1) := dk_27 (dk_at dksX1_places_0 21 rfl rfl)
theorem dX1_places_22 : decode cX1_places 22 = .ok (.aaload, 1) := dk_50 (dk_at dksX1_places_0 22 rfl rfl)
theorem dX1_places_23 : decode cX1_places 23 = .ok (.iload_n 2, 1) := dk_28 (dk_at dksX1_places_0 23 rfl rfl)
theorem dX1_places_24 : decode cX1_places 24 = .ok (.iconst 0, 1) := dk_3 (dk_at dksX1_places_1 0 rfl rfl)
theorem dX1_places_25 : decode cX1_places 25 = .ok (.iastore, 1) := dk_79 (dk_at dksX1_places_1 1 rfl rfl)
theorem dX1_places_26 : decode cX1_places 26 = .ok (.iinc 2 1, 3) := dk_132 2 1 (dk_at dksX1_places_1 2 rfl rfl)
theorem dX1_places_29 : decode cX1_places 29 = .ok (.goto (-19), 3) := dk_167 255 237 (dk_at dksX1_places_1 5 rfl rfl)
theorem dX1_places_32 : decode cX1_places 32 = .ok (.iload_n 1, 1) := dk_27 (dk_at dksX1_places_1 8 rfl rfl)
theorem dX1_places_33 : decode cX1_places 33 = .ok (.iconst 1, 1) := dk_4 (dk_at dksX1_places_1 9 rfl rfl)
theorem dX1_places_34 : decode cX1_places 34 = .ok (.isub, 1) := dk_100 (dk_at dksX1_places_1 10 rfl rfl)
theorem dX1_places_35 : decode cX1_places 35 = .ok (.istore_n 2, 1) := dk_61 (dk_at dksX1_places_1 11 rfl rfl)
theorem dX1_places_36 : decode cX1_places 36 = .ok (.iload_n 2, 1) := dk_28 (dk_at dksX1_places_1 12 rfl rfl)
theorem dX1_places_37 : decode cX1_places 37 = .ok (.ifCond .lt 172, 3) := dk_155 0 172 (dk_at dksX1_places_1 13 rfl rfl)
theorem dX1_places_40 : decode cX1_places 40 = .ok (.iconst 0, 1) := dk_3 (dk_at dksX1_places_1 16 rfl rfl)
theorem dX1_places_41 : decode cX1_places 41 = .ok (.istore_n 3, 1) := dk_62 (dk_at dksX1_places_1 17 rfl rfl)
theorem dX1_places_42 : decode cX1_places 42 = .ok (.iload_n 3, 1) := dk_29 (dk_at dksX1_places_1 18 rfl rfl)
theorem dX1_places_43 : decode cX1_places 43 = .ok (.iconst 1, 1) := dk_4 (dk_at dksX1_places_1 19 rfl rfl)
theorem dX1_places_44 : decode cX1_places 44 = .ok (.aload_n 0, 1) := dk_42 (dk_at dksX1_places_1 20 rfl rfl)
theorem dX1_places_45 : decode cX1_places 45 = .ok (.getfield 80, 3) := dk_180 0 80 (dk_at dksX1_places_1 21 rfl rfl)
theorem dX1_places_48 : decode cX1_places 48 = .ok (.getfield 209, 3) := dk_180 0 209 (dk_at dksX1_places_2 0 rfl rfl)
theorem dX1_places_51 : decode cX1_places 51 = .ok (.ishl, 1) := dk_120 (dk_at dksX1_places_2 3 rfl rfl)
theorem dX1_places_52 : decode cX1_places 52 = .ok (.if_icmp .ge 151, 3) := dk_162 0 151 (dk_at dksX1_places_2 4 rfl rfl)
theorem dX1_places_55 : decode cX1_places 55 = .ok (.aload_n 0, 1) := dk_42 (dk_at dksX1_places_2 7 rfl rfl)
theorem dX1_places_56 : decode cX1_places 56 = .ok (.getfield 87, 3) := dk_180 0 87 (dk_at dksX1_places_2 8 rfl rfl)
theorem dX1_places_59 : decode cX1_places 59 = .ok (.getfield 229, 3) := dk_180 0 229 (dk_at dksX1_places_2 11 rfl rfl)
theorem dX1_places_62 : decode cX1_places 62 = .ok (.iload_n 2, 1) := dk_28 (dk_at dksX1_places_2 14 rfl rfl)
theorem dX1_places_63 : decode cX1_places 63 = .ok (.aaload, 1) := dk_50 (dk_at dksX1_places_2 15 rfl rfl)
theorem dX1_places_64 : decode cX1_places 64 = .ok (.invokevirtual 233, 3) := dk_182 0 233 (dk_at dksX1_places_2 16 rfl rfl)
theorem dX1_places_67 : decode cX1_places 67 = .ok (.ifCond .eq 16, 3) := dk_153 0 16 (dk_at dksX1_places_2 19 rfl rfl)
theorem dX1_places_70 : decode cX1_places 70 = .ok (.aload_n 0, 1) := dk_42 (dk_at dksX1_places_2 22 rfl rfl)
theorem dX1_places_71 : decode cX1_places 71 = .ok (.getfield 120, 3) := dk_180 0 120 (dk_at dksX1_places_3 0 rfl rfl)
theorem dX1_places_74 : decode cX1_places 74 = .ok (.iload_n 2, 1) := dk_28 (dk_at dksX1_places_3 3 rfl rfl)
theorem dX1_places_75 : decode cX1_places 75 = .ok (.iconst 1, 1) := dk_4 (dk_at dksX1_places_3 4 rfl rfl)
theorem dX1_places_76 : decode cX1_places 76 = .ok (.iadd, 1) := dk_96 (dk_at dksX1_places_3 5 rfl rfl)
theorem dX1_places_77 : decode cX1_places 77 = .ok (.aaload, 1) := dk_50 (dk_at dksX1_places_3 6 rfl rfl)
theorem dX1_places_78 : decode cX1_places 78 = .ok (.iload_n 3, 1) := dk_29 (dk_at dksX1_places_3 7 rfl rfl)
theorem dX1_places_79 : decode cX1_places 79 = .ok (.iaload, 1) := dk_46 (dk_at dksX1_places_3 8 rfl rfl)
theorem dX1_places_80 : decode cX1_places 80 = .ok (.goto 6, 3) := dk_167 0 6 (dk_at dksX1_places_3 9 rfl rfl)
theorem dX1_places_83 : decode cX1_places 83 = .ok (.ldc_w 387, 3) := dk_19 1 131 (dk_at dksX1_places_3 12 rfl rfl)
theorem dX1_places_86 : decode cX1_places 86 = .ok (.istore 4, 2) := dk_54 4 (dk_at dksX1_places_3 15 rfl rfl)
theorem dX1_places_88 : decode cX1_places 88 = .ok (.iconst 0, 1) := dk_3 (dk_at dksX1_places_3 17 rfl rfl)
theorem dX1_places_89 : decode cX1_places 89 = .ok (.istore 5, 2) := dk_54 5 (dk_at dksX1_places_3 18 rfl rfl)
theorem dX1_places_91 : decode cX1_places 91 = .ok (.iload 5, 2) := dk_21 5 (dk_at dksX1_places_3 20 rfl rfl)
theorem dX1_places_93 : decode cX1_places 93 = .ok (.aload_n 0, 1) := dk_42 (dk_at dksX1_places_3 22 rfl rfl)
theorem dX1_places_94 : decode cX1_places 94 = .ok (.getfield 80, 3) := dk_180 0 80 (dk_at dksX1_places_4 0 rfl rfl)
theorem dX1_places_97 : decode cX1_places 97 = .ok (.getfield 209, 3) := dk_180 0 209 (dk_at dksX1_places_4 3 rfl rfl)
theorem dX1_places_100 : decode cX1_places 100 = .ok (.if_icmp .ge 87, 3) := dk_162 0 87 (dk_at dksX1_places_4 6 rfl rfl)
theorem dX1_places_103 : decode cX1_places 103 = .ok (.aload_n 0, 1) := dk_42 (dk_at dksX1_places_4 9 rfl rfl)
theorem dX1_places_104 : decode cX1_places 104 = .ok (.getfield 87, 3) := dk_180 0 87 (dk_at dksX1_places_4 10 rfl rfl)
theorem dX1_places_107 : decode cX1_places 107 = .ok (.getfield 229, 3) := dk_180 0 229 (dk_at dksX1_places_4 13 rfl rfl)
theorem dX1_places_110 : decode cX1_places 110 = .ok (.iload_n 2, 1) := dk_28 (dk_at dksX1_places_4 16 rfl rfl)
theorem dX1_places_111 : decode cX1_places 111 = .ok (.aaload, 1) := dk_50 (dk_at dksX1_places_4 17 rfl rfl)
theorem dX1_places_112 : decode cX1_places 112 = .ok (.invokevirtual 233, 3) := dk_182 0 233 (dk_at dksX1_places_4 18 rfl rfl)
theorem dX1_places_115 : decode cX1_places 115 = .ok (.ifCond .ne 72, 3) := dk_154 0 72 (dk_at dksX1_places_4 21 rfl rfl)
theorem dX1_places_118 : decode cX1_places 118 = .ok (.iload_n 3, 1) := dk_29 (dk_at dksX1_places_5 0 rfl rfl)
theorem dX1_places_119 : decode cX1_places 119 = .ok (.iload 5, 2) := dk_21 5 (dk_at dksX1_places_5 1 rfl rfl)
theorem dX1_places_121 : decode cX1_places 121 = .ok (.invokestatic 388, 3) := dk_184 1 132 (dk_at dksX1_places_5 3 rfl rfl)
theorem dX1_places_124 : decode cX1_places 124 = .ok (.ifCond .ne 57, 3) := dk_154 0 57 (dk_at dksX1_places_5 6 rfl rfl)
theorem dX1_places_127 : decode cX1_places 127 = .ok (.aload_n 0, 1) := dk_42 (dk_at dksX1_places_5 9 rfl rfl)
theorem dX1_places_128 : decode cX1_places 128 = .ok (.getfield 120, 3) := dk_180 0 120 (dk_at dksX1_places_5 10 rfl rfl)
theorem dX1_places_131 : decode cX1_places 131 = .ok (.iload_n 2, 1) := dk_28 (dk_at dksX1_places_5 13 rfl rfl)
theorem dX1_places_132 : decode cX1_places 132 = .ok (.iconst 1, 1) := dk_4 (dk_at dksX1_places_5 14 rfl rfl)
theorem dX1_places_133 : decode cX1_places 133 = .ok (.iadd, 1) := dk_96 (dk_at dksX1_places_5 15 rfl rfl)
theorem dX1_places_134 : decode cX1_places 134 = .ok (.aaload, 1) := dk_50 (dk_at dksX1_places_5 16 rfl rfl)
theorem dX1_places_135 : decode cX1_places 135 = .ok (.iload_n 3, 1) := dk_29 (dk_at dksX1_places_5 17 rfl rfl)
theorem dX1_places_136 : decode cX1_places 136 = .ok (.iconst 1, 1) := dk_4 (dk_at dksX1_places_5 18 rfl rfl)
theorem dX1_places_137 : decode cX1_places 137 = .ok (.iload 5, 2) := dk_21 5 (dk_at dksX1_places_5 19 rfl rfl)
theorem dX1_places_139 : decode cX1_places 139 = .ok (.ishl, 1) := dk_120 (dk_at dksX1_places_5 21 rfl rfl)
theorem dX1_places_140 : decode cX1_places 140 = .ok (.ior, 1) := dk_128 (dk_at dksX1_places_5 22 rfl rfl)
theorem dX1_places_141 : decode cX1_places 141 = .ok (.iaload, 1) := dk_46 (dk_at dksX1_places_5 23 rfl rfl)
theorem dX1_places_142 : decode cX1_places 142 = .ok (.ldc_w 387, 3) := dk_19 1 131 (dk_at dksX1_places_6 0 rfl rfl)
theorem dX1_places_145 : decode cX1_places 145 = .ok (.if_icmp .ne 6, 3) := dk_160 0 6 (dk_at dksX1_places_6 3 rfl rfl)
theorem dX1_places_148 : decode cX1_places 148 = .ok (.goto 33, 3) := dk_167 0 33 (dk_at dksX1_places_6 6 rfl rfl)
theorem dX1_places_151 : decode cX1_places 151 = .ok (.iload 4, 2) := dk_21 4 (dk_at dksX1_places_6 9 rfl rfl)
theorem dX1_places_153 : decode cX1_places 153 = .ok (.aload_n 0, 1) := dk_42 (dk_at dksX1_places_6 11 rfl rfl)
theorem dX1_places_154 : decode cX1_places 154 = .ok (.iload_n 2, 1) := dk_28 (dk_at dksX1_places_6 12 rfl rfl)
theorem dX1_places_155 : decode cX1_places 155 = .ok (.iload 5, 2) := dk_21 5 (dk_at dksX1_places_6 13 rfl rfl)
theorem dX1_places_157 : decode cX1_places 157 = .ok (.invokevirtual 391, 3) := dk_182 1 135 (dk_at dksX1_places_6 15 rfl rfl)
theorem dX1_places_160 : decode cX1_places 160 = .ok (.aload_n 0, 1) := dk_42 (dk_at dksX1_places_6 18 rfl rfl)
theorem dX1_places_161 : decode cX1_places 161 = .ok (.getfield 120, 3) := dk_180 0 120 (dk_at dksX1_places_6 19 rfl rfl)
theorem dX1_places_164 : decode cX1_places 164 = .ok (.iload_n 2, 1) := dk_28 (dk_at dksX1_places_6 22 rfl rfl)
theorem dX1_places_165 : decode cX1_places 165 = .ok (.iconst 1, 1) := dk_4 (dk_at dksX1_places_6 23 rfl rfl)
theorem dX1_places_166 : decode cX1_places 166 = .ok (.iadd, 1) := dk_96 (dk_at dksX1_places_7 0 rfl rfl)
theorem dX1_places_167 : decode cX1_places 167 = .ok (.aaload, 1) := dk_50 (dk_at dksX1_places_7 1 rfl rfl)
theorem dX1_places_168 : decode cX1_places 168 = .ok (.iload_n 3, 1) := dk_29 (dk_at dksX1_places_7 2 rfl rfl)
theorem dX1_places_169 : decode cX1_places 169 = .ok (.iconst 1, 1) := dk_4 (dk_at dksX1_places_7 3 rfl rfl)
theorem dX1_places_170 : decode cX1_places 170 = .ok (.iload 5, 2) := dk_21 5 (dk_at dksX1_places_7 4 rfl rfl)
theorem dX1_places_172 : decode cX1_places 172 = .ok (.ishl, 1) := dk_120 (dk_at dksX1_places_7 6 rfl rfl)
theorem dX1_places_173 : decode cX1_places 173 = .ok (.ior, 1) := dk_128 (dk_at dksX1_places_7 7 rfl rfl)
theorem dX1_places_174 : decode cX1_places 174 = .ok (.iaload, 1) := dk_46 (dk_at dksX1_places_7 8 rfl rfl)
theorem dX1_places_175 : decode cX1_places 175 = .ok (.iadd, 1) := dk_96 (dk_at dksX1_places_7 9 rfl rfl)
theorem dX1_places_176 : decode cX1_places 176 = .ok (.invokestatic 394, 3) := dk_184 1 138 (dk_at dksX1_places_7 10 rfl rfl)
theorem dX1_places_179 : decode cX1_places 179 = .ok (.istore 4, 2) := dk_54 4 (dk_at dksX1_places_7 13 rfl rfl)
theorem dX1_places_181 : decode cX1_places 181 = .ok (.iinc 5 1, 3) := dk_132 5 1 (dk_at dksX1_places_7 15 rfl rfl)
theorem dX1_places_184 : decode cX1_places 184 = .ok (.goto (-93), 3) := dk_167 255 163 (dk_at dksX1_places_7 18 rfl rfl)
theorem dX1_places_187 : decode cX1_places 187 = .ok (.aload_n 0, 1) := dk_42 (dk_at dksX1_places_7 21 rfl rfl)
theorem dX1_places_188 : decode cX1_places 188 = .ok (.getfield 120, 3) := dk_180 0 120 (dk_at dksX1_places_8 0 rfl rfl)
theorem dX1_places_191 : decode cX1_places 191 = .ok (.iload_n 2, 1) := dk_28 (dk_at dksX1_places_8 3 rfl rfl)
theorem dX1_places_192 : decode cX1_places 192 = .ok (.aaload, 1) := dk_50 (dk_at dksX1_places_8 4 rfl rfl)
theorem dX1_places_193 : decode cX1_places 193 = .ok (.iload_n 3, 1) := dk_29 (dk_at dksX1_places_8 5 rfl rfl)
theorem dX1_places_194 : decode cX1_places 194 = .ok (.iload 4, 2) := dk_21 4 (dk_at dksX1_places_8 6 rfl rfl)
theorem dX1_places_196 : decode cX1_places 196 = .ok (.iastore, 1) := dk_79 (dk_at dksX1_places_8 8 rfl rfl)
theorem dX1_places_197 : decode cX1_places 197 = .ok (.iinc 3 1, 3) := dk_132 3 1 (dk_at dksX1_places_8 9 rfl rfl)
theorem dX1_places_200 : decode cX1_places 200 = .ok (.goto (-158), 3) := dk_167 255 98 (dk_at dksX1_places_8 12 rfl rfl)
theorem dX1_places_203 : decode cX1_places 203 = .ok (.iinc 2 (-1), 3) := dk_132 2 255 (dk_at dksX1_places_8 15 rfl rfl)
theorem dX1_places_206 : decode cX1_places 206 = .ok (.goto (-170), 3) := dk_167 255 86 (dk_at dksX1_places_8 18 rfl rfl)
theorem dX1_places_209 : decode cX1_places 209 = .ok (.return_, 1) := dk_177 (dk_at dksX1_places_8 21 rfl rfl)
abbrev cX1_gain : ByteArray := prog_1_method_36_code
def yX1_gain : MethodName := ⟨RX1, "gain", "(II)I"⟩
def dkwX1_gain_2 : List UInt8 := [28, 46, 104, 100, 172]
abbrev dktX1_gain_2 : List UInt8 := dkwX1_gain_2 ++ []
def dkwX1_gain_1 : List UInt8 := [180, 0, 87, 180, 0, 229, 27, 50, 180, 1, 13, 182, 1, 109, 17, 19, 176, 42, 180, 0, 80, 180, 0, 242]
abbrev dktX1_gain_1 : List UInt8 := dkwX1_gain_1 ++ dktX1_gain_2
def dkwX1_gain_0 : List UInt8 := [42, 180, 0, 80, 42, 182, 1, 105, 28, 42, 180, 0, 87, 180, 0, 229, 27, 50, 180, 1, 3, 42]
abbrev dktX1_gain_0 : List UInt8 := dkwX1_gain_0 ++ dktX1_gain_1
theorem dksX1_gain_0 : cX1_gain.data.toList.drop 0 = dktX1_gain_0 := by decide +kernel
theorem dksX1_gain_1 : cX1_gain.data.toList.drop 22 = dktX1_gain_1 := dk_seg dksX1_gain_0 22 rfl rfl
theorem dksX1_gain_2 : cX1_gain.data.toList.drop 46 = dktX1_gain_2 := dk_seg dksX1_gain_1 24 rfl rfl
theorem dX1_gain_0 : decode cX1_gain 0 = .ok (.aload_n 0, 1) := dk_42 (dk_at dksX1_gain_0 0 rfl rfl)
theorem dX1_gain_1 : decode cX1_gain 1 = .ok (.getfield 80, 3) := dk_180 0 80 (dk_at dksX1_gain_0 1 rfl rfl)
theorem dX1_gain_4 : decode cX1_gain 4 = .ok (.aload_n 0, 1) := dk_42 (dk_at dksX1_gain_0 4 rfl rfl)
theorem dX1_gain_5 : decode cX1_gain 5 = .ok (.invokevirtual 361, 3) := dk_182 1 105 (dk_at dksX1_gain_0 5 rfl rfl)
theorem dX1_gain_8 : decode cX1_gain 8 = .ok (.iload_n 2, 1) := dk_28 (dk_at dksX1_gain_0 8 rfl rfl)
theorem dX1_gain_9 : decode cX1_gain 9 = .ok (.aload_n 0, 1) := dk_42 (dk_at dksX1_gain_0 9 rfl rfl)
theorem dX1_gain_10 : decode cX1_gain 10 = .ok (.getfield 87, 3) := dk_180 0 87 (dk_at dksX1_gain_0 10 rfl rfl)
theorem dX1_gain_13 : decode cX1_gain 13 = .ok (.getfield 229, 3) := dk_180 0 229 (dk_at dksX1_gain_0 13 rfl rfl)
theorem dX1_gain_16 : decode cX1_gain 16 = .ok (.iload_n 1, 1) := dk_27 (dk_at dksX1_gain_0 16 rfl rfl)
theorem dX1_gain_17 : decode cX1_gain 17 = .ok (.aaload, 1) := dk_50 (dk_at dksX1_gain_0 17 rfl rfl)
theorem dX1_gain_18 : decode cX1_gain 18 = .ok (.getfield 259, 3) := dk_180 1 3 (dk_at dksX1_gain_0 18 rfl rfl)
theorem dX1_gain_21 : decode cX1_gain 21 = .ok (.aload_n 0, 1) := dk_42 (dk_at dksX1_gain_0 21 rfl rfl)
theorem dX1_gain_22 : decode cX1_gain 22 = .ok (.getfield 87, 3) := dk_180 0 87 (dk_at dksX1_gain_1 0 rfl rfl)
theorem dX1_gain_25 : decode cX1_gain 25 = .ok (.getfield 229, 3) := dk_180 0 229 (dk_at dksX1_gain_1 3 rfl rfl)
theorem dX1_gain_28 : decode cX1_gain 28 = .ok (.iload_n 1, 1) := dk_27 (dk_at dksX1_gain_1 6 rfl rfl)
theorem dX1_gain_29 : decode cX1_gain 29 = .ok (.aaload, 1) := dk_50 (dk_at dksX1_gain_1 7 rfl rfl)
theorem dX1_gain_30 : decode cX1_gain 30 = .ok (.getfield 269, 3) := dk_180 1 13 (dk_at dksX1_gain_1 8 rfl rfl)
theorem dX1_gain_33 : decode cX1_gain 33 = .ok (.invokevirtual 365, 3) := dk_182 1 109 (dk_at dksX1_gain_1 11 rfl rfl)
theorem dX1_gain_36 : decode cX1_gain 36 = .ok (.sipush 5040, 3) := dk_17 19 176 (dk_at dksX1_gain_1 14 rfl rfl)
theorem dX1_gain_39 : decode cX1_gain 39 = .ok (.aload_n 0, 1) := dk_42 (dk_at dksX1_gain_1 17 rfl rfl)
theorem dX1_gain_40 : decode cX1_gain 40 = .ok (.getfield 80, 3) := dk_180 0 80 (dk_at dksX1_gain_1 18 rfl rfl)
theorem dX1_gain_43 : decode cX1_gain 43 = .ok (.getfield 242, 3) := dk_180 0 242 (dk_at dksX1_gain_1 21 rfl rfl)
theorem dX1_gain_46 : decode cX1_gain 46 = .ok (.iload_n 2, 1) := dk_28 (dk_at dksX1_gain_2 0 rfl rfl)
theorem dX1_gain_47 : decode cX1_gain 47 = .ok (.iaload, 1) := dk_46 (dk_at dksX1_gain_2 1 rfl rfl)
theorem dX1_gain_48 : decode cX1_gain 48 = .ok (.imul, 1) := dk_104 (dk_at dksX1_gain_2 2 rfl rfl)
theorem dX1_gain_49 : decode cX1_gain 49 = .ok (.isub, 1) := dk_100 (dk_at dksX1_gain_2 3 rfl rfl)
theorem dX1_gain_50 : decode cX1_gain 50 = .ok (.ireturn, 1) := dk_172 (dk_at dksX1_gain_2 4 rfl rfl)
abbrev cX1_route : ByteArray := prog_1_method_43_code
def yX1_route : MethodName := ⟨RX1, "route", "(II)I"⟩
def dkwX1_route_2 : List UInt8 := [180, 1, 146, 181, 0, 136, 42, 180, 0, 127, 3, 42, 180, 0, 143, 3, 16, 8, 184, 1, 60, 29, 172]
abbrev dktX1_route_2 : List UInt8 := dkwX1_route_2 ++ []
def dkwX1_route_1 : List UInt8 := [180, 1, 10, 3, 42, 180, 0, 130, 3, 16, 8, 184, 1, 60, 42, 27, 28, 182, 1, 161, 62, 42, 42]
abbrev dktX1_route_1 : List UInt8 := dkwX1_route_1 ++ dktX1_route_2
def dkwX1_route_0 : List UInt8 := [42, 27, 182, 0, 239, 153, 0, 13, 28, 4, 16, 8, 184, 0, 212, 154, 0, 5, 2, 172, 42, 180, 0, 80]
abbrev dktX1_route_0 : List UInt8 := dkwX1_route_0 ++ dktX1_route_1
theorem dksX1_route_0 : cX1_route.data.toList.drop 0 = dktX1_route_0 := by decide +kernel
theorem dksX1_route_1 : cX1_route.data.toList.drop 24 = dktX1_route_1 := dk_seg dksX1_route_0 24 rfl rfl
theorem dksX1_route_2 : cX1_route.data.toList.drop 47 = dktX1_route_2 := dk_seg dksX1_route_1 23 rfl rfl
theorem dX1_route_0 : decode cX1_route 0 = .ok (.aload_n 0, 1) := dk_42 (dk_at dksX1_route_0 0 rfl rfl)
theorem dX1_route_1 : decode cX1_route 1 = .ok (.iload_n 1, 1) := dk_27 (dk_at dksX1_route_0 1 rfl rfl)
theorem dX1_route_2 : decode cX1_route 2 = .ok (.invokevirtual 239, 3) := dk_182 0 239 (dk_at dksX1_route_0 2 rfl rfl)
theorem dX1_route_5 : decode cX1_route 5 = .ok (.ifCond .eq 13, 3) := dk_153 0 13 (dk_at dksX1_route_0 5 rfl rfl)
theorem dX1_route_8 : decode cX1_route 8 = .ok (.iload_n 2, 1) := dk_28 (dk_at dksX1_route_0 8 rfl rfl)
theorem dX1_route_9 : decode cX1_route 9 = .ok (.iconst 1, 1) := dk_4 (dk_at dksX1_route_0 9 rfl rfl)
theorem dX1_route_10 : decode cX1_route 10 = .ok (.bipush 8, 2) := dk_16 8 (dk_at dksX1_route_0 10 rfl rfl)
theorem dX1_route_12 : decode cX1_route 12 = .ok (.invokestatic 212, 3) := dk_184 0 212 (dk_at dksX1_route_0 12 rfl rfl)
theorem dX1_route_15 : decode cX1_route 15 = .ok (.ifCond .ne 5, 3) := dk_154 0 5 (dk_at dksX1_route_0 15 rfl rfl)
theorem dX1_route_18 : decode cX1_route 18 = .ok (.iconst (-1), 1) := dk_2 (dk_at dksX1_route_0 18 rfl rfl)
theorem dX1_route_19 : decode cX1_route 19 = .ok (.ireturn, 1) := dk_172 (dk_at dksX1_route_0 19 rfl rfl)
theorem dX1_route_20 : decode cX1_route 20 = .ok (.aload_n 0, 1) := dk_42 (dk_at dksX1_route_0 20 rfl rfl)
theorem dX1_route_21 : decode cX1_route 21 = .ok (.getfield 80, 3) := dk_180 0 80 (dk_at dksX1_route_0 21 rfl rfl)
theorem dX1_route_24 : decode cX1_route 24 = .ok (.getfield 266, 3) := dk_180 1 10 (dk_at dksX1_route_1 0 rfl rfl)
theorem dX1_route_27 : decode cX1_route 27 = .ok (.iconst 0, 1) := dk_3 (dk_at dksX1_route_1 3 rfl rfl)
theorem dX1_route_28 : decode cX1_route 28 = .ok (.aload_n 0, 1) := dk_42 (dk_at dksX1_route_1 4 rfl rfl)
theorem dX1_route_29 : decode cX1_route 29 = .ok (.getfield 130, 3) := dk_180 0 130 (dk_at dksX1_route_1 5 rfl rfl)
theorem dX1_route_32 : decode cX1_route 32 = .ok (.iconst 0, 1) := dk_3 (dk_at dksX1_route_1 8 rfl rfl)
theorem dX1_route_33 : decode cX1_route 33 = .ok (.bipush 8, 2) := dk_16 8 (dk_at dksX1_route_1 9 rfl rfl)
theorem dX1_route_35 : decode cX1_route 35 = .ok (.invokestatic 316, 3) := dk_184 1 60 (dk_at dksX1_route_1 11 rfl rfl)
theorem dX1_route_38 : decode cX1_route 38 = .ok (.aload_n 0, 1) := dk_42 (dk_at dksX1_route_1 14 rfl rfl)
theorem dX1_route_39 : decode cX1_route 39 = .ok (.iload_n 1, 1) := dk_27 (dk_at dksX1_route_1 15 rfl rfl)
theorem dX1_route_40 : decode cX1_route 40 = .ok (.iload_n 2, 1) := dk_28 (dk_at dksX1_route_1 16 rfl rfl)
theorem dX1_route_41 : decode cX1_route 41 = .ok (.invokevirtual 417, 3) := dk_182 1 161 (dk_at dksX1_route_1 17 rfl rfl)
theorem dX1_route_44 : decode cX1_route 44 = .ok (.istore_n 3, 1) := dk_62 (dk_at dksX1_route_1 20 rfl rfl)
theorem dX1_route_45 : decode cX1_route 45 = .ok (.aload_n 0, 1) := dk_42 (dk_at dksX1_route_1 21 rfl rfl)
theorem dX1_route_46 : decode cX1_route 46 = .ok (.aload_n 0, 1) := dk_42 (dk_at dksX1_route_1 22 rfl rfl)
theorem dX1_route_47 : decode cX1_route 47 = .ok (.getfield 402, 3) := dk_180 1 146 (dk_at dksX1_route_2 0 rfl rfl)
theorem dX1_route_50 : decode cX1_route 50 = .ok (.putfield 136, 3) := dk_181 0 136 (dk_at dksX1_route_2 3 rfl rfl)
theorem dX1_route_53 : decode cX1_route 53 = .ok (.aload_n 0, 1) := dk_42 (dk_at dksX1_route_2 6 rfl rfl)
theorem dX1_route_54 : decode cX1_route 54 = .ok (.getfield 127, 3) := dk_180 0 127 (dk_at dksX1_route_2 7 rfl rfl)
theorem dX1_route_57 : decode cX1_route 57 = .ok (.iconst 0, 1) := dk_3 (dk_at dksX1_route_2 10 rfl rfl)
theorem dX1_route_58 : decode cX1_route 58 = .ok (.aload_n 0, 1) := dk_42 (dk_at dksX1_route_2 11 rfl rfl)
theorem dX1_route_59 : decode cX1_route 59 = .ok (.getfield 143, 3) := dk_180 0 143 (dk_at dksX1_route_2 12 rfl rfl)
theorem dX1_route_62 : decode cX1_route 62 = .ok (.iconst 0, 1) := dk_3 (dk_at dksX1_route_2 15 rfl rfl)
theorem dX1_route_63 : decode cX1_route 63 = .ok (.bipush 8, 2) := dk_16 8 (dk_at dksX1_route_2 16 rfl rfl)
theorem dX1_route_65 : decode cX1_route 65 = .ok (.invokestatic 316, 3) := dk_184 1 60 (dk_at dksX1_route_2 18 rfl rfl)
theorem dX1_route_68 : decode cX1_route 68 = .ok (.iload_n 3, 1) := dk_29 (dk_at dksX1_route_2 21 rfl rfl)
theorem dX1_route_69 : decode cX1_route 69 = .ok (.ireturn, 1) := dk_172 (dk_at dksX1_route_2 22 rfl rfl)
abbrev cX1_routeFrom : ByteArray := prog_1_method_42_code
def yX1_routeFrom : MethodName := ⟨RX1, "routeFrom", "(II)I"⟩
def dkwX1_routeFrom_1 : List UInt8 := [27, 182, 1, 154, 182, 1, 157, 42, 180, 1, 143, 172]
abbrev dktX1_routeFrom_1 : List UInt8 := dkwX1_routeFrom_1 ++ []
def dkwX1_routeFrom_0 : List UInt8 := [42, 2, 181, 1, 143, 42, 3, 181, 1, 146, 42, 180, 0, 123, 3, 27, 79, 42, 4, 28, 4, 27, 120, 42]
abbrev dktX1_routeFrom_0 : List UInt8 := dkwX1_routeFrom_0 ++ dktX1_routeFrom_1
theorem dksX1_routeFrom_0 : cX1_routeFrom.data.toList.drop 0 = dktX1_routeFrom_0 := by decide +kernel
theorem dksX1_routeFrom_1 : cX1_routeFrom.data.toList.drop 24 = dktX1_routeFrom_1 := dk_seg dksX1_routeFrom_0 24 rfl rfl
theorem dX1_routeFrom_0 : decode cX1_routeFrom 0 = .ok (.aload_n 0, 1) := dk_42 (dk_at dksX1_routeFrom_0 0 rfl rfl)
theorem dX1_routeFrom_1 : decode cX1_routeFrom 1 = .ok (.iconst (-1), 1) := dk_2 (dk_at dksX1_routeFrom_0 1 rfl rfl)
theorem dX1_routeFrom_2 : decode cX1_routeFrom 2 = .ok (.putfield 399, 3) := dk_181 1 143 (dk_at dksX1_routeFrom_0 2 rfl rfl)
theorem dX1_routeFrom_5 : decode cX1_routeFrom 5 = .ok (.aload_n 0, 1) := dk_42 (dk_at dksX1_routeFrom_0 5 rfl rfl)
theorem dX1_routeFrom_6 : decode cX1_routeFrom 6 = .ok (.iconst 0, 1) := dk_3 (dk_at dksX1_routeFrom_0 6 rfl rfl)
theorem dX1_routeFrom_7 : decode cX1_routeFrom 7 = .ok (.putfield 402, 3) := dk_181 1 146 (dk_at dksX1_routeFrom_0 7 rfl rfl)
theorem dX1_routeFrom_10 : decode cX1_routeFrom 10 = .ok (.aload_n 0, 1) := dk_42 (dk_at dksX1_routeFrom_0 10 rfl rfl)
theorem dX1_routeFrom_11 : decode cX1_routeFrom 11 = .ok (.getfield 123, 3) := dk_180 0 123 (dk_at dksX1_routeFrom_0 11 rfl rfl)
theorem dX1_routeFrom_14 : decode cX1_routeFrom 14 = .ok (.iconst 0, 1) := dk_3 (dk_at dksX1_routeFrom_0 14 rfl rfl)
theorem dX1_routeFrom_15 : decode cX1_routeFrom 15 = .ok (.iload_n 1, 1) := dk_27 (dk_at dksX1_routeFrom_0 15 rfl rfl)
theorem dX1_routeFrom_16 : decode cX1_routeFrom 16 = .ok (.iastore, 1) := dk_79 (dk_at dksX1_routeFrom_0 16 rfl rfl)
theorem dX1_routeFrom_17 : decode cX1_routeFrom 17 = .ok (.aload_n 0, 1) := dk_42 (dk_at dksX1_routeFrom_0 17 rfl rfl)
theorem dX1_routeFrom_18 : decode cX1_routeFrom 18 = .ok (.iconst 1, 1) := dk_4 (dk_at dksX1_routeFrom_0 18 rfl rfl)
theorem dX1_routeFrom_19 : decode cX1_routeFrom 19 = .ok (.iload_n 2, 1) := dk_28 (dk_at dksX1_routeFrom_0 19 rfl rfl)
theorem dX1_routeFrom_20 : decode cX1_routeFrom 20 = .ok (.iconst 1, 1) := dk_4 (dk_at dksX1_routeFrom_0 20 rfl rfl)
theorem dX1_routeFrom_21 : decode cX1_routeFrom 21 = .ok (.iload_n 1, 1) := dk_27 (dk_at dksX1_routeFrom_0 21 rfl rfl)
theorem dX1_routeFrom_22 : decode cX1_routeFrom 22 = .ok (.ishl, 1) := dk_120 (dk_at dksX1_routeFrom_0 22 rfl rfl)
theorem dX1_routeFrom_23 : decode cX1_routeFrom 23 = .ok (.aload_n 0, 1) := dk_42 (dk_at dksX1_routeFrom_0 23 rfl rfl)
theorem dX1_routeFrom_24 : decode cX1_routeFrom 24 = .ok (.iload_n 1, 1) := dk_27 (dk_at dksX1_routeFrom_1 0 rfl rfl)
theorem dX1_routeFrom_25 : decode cX1_routeFrom 25 = .ok (.invokevirtual 410, 3) := dk_182 1 154 (dk_at dksX1_routeFrom_1 1 rfl rfl)
theorem dX1_routeFrom_28 : decode cX1_routeFrom 28 = .ok (.invokevirtual 413, 3) := dk_182 1 157 (dk_at dksX1_routeFrom_1 4 rfl rfl)
theorem dX1_routeFrom_31 : decode cX1_routeFrom 31 = .ok (.aload_n 0, 1) := dk_42 (dk_at dksX1_routeFrom_1 7 rfl rfl)
theorem dX1_routeFrom_32 : decode cX1_routeFrom 32 = .ok (.getfield 399, 3) := dk_180 1 143 (dk_at dksX1_routeFrom_1 8 rfl rfl)
theorem dX1_routeFrom_35 : decode cX1_routeFrom 35 = .ok (.ireturn, 1) := dk_172 (dk_at dksX1_routeFrom_1 11 rfl rfl)
abbrev cX1_bribeAt : ByteArray := prog_1_method_40_code
def yX1_bribeAt : MethodName := ⟨RX1, "bribeAt", "(I)I"⟩
def dkwX1_bribeAt_1 : List UInt8 := [180, 0, 130, 28, 46, 172]
abbrev dktX1_bribeAt_1 : List UInt8 := dkwX1_bribeAt_1 ++ []
def dkwX1_bribeAt_0 : List UInt8 := [42, 180, 0, 87, 42, 180, 0, 80, 27, 182, 0, 245, 61, 28, 2, 160, 0, 7, 3, 167, 0, 9, 42]
abbrev dktX1_bribeAt_0 : List UInt8 := dkwX1_bribeAt_0 ++ dktX1_bribeAt_1
theorem dksX1_bribeAt_0 : cX1_bribeAt.data.toList.drop 0 = dktX1_bribeAt_0 := by decide +kernel
theorem dksX1_bribeAt_1 : cX1_bribeAt.data.toList.drop 23 = dktX1_bribeAt_1 := dk_seg dksX1_bribeAt_0 23 rfl rfl
theorem dX1_bribeAt_0 : decode cX1_bribeAt 0 = .ok (.aload_n 0, 1) := dk_42 (dk_at dksX1_bribeAt_0 0 rfl rfl)
theorem dX1_bribeAt_1 : decode cX1_bribeAt 1 = .ok (.getfield 87, 3) := dk_180 0 87 (dk_at dksX1_bribeAt_0 1 rfl rfl)
theorem dX1_bribeAt_4 : decode cX1_bribeAt 4 = .ok (.aload_n 0, 1) := dk_42 (dk_at dksX1_bribeAt_0 4 rfl rfl)
theorem dX1_bribeAt_5 : decode cX1_bribeAt 5 = .ok (.getfield 80, 3) := dk_180 0 80 (dk_at dksX1_bribeAt_0 5 rfl rfl)
theorem dX1_bribeAt_8 : decode cX1_bribeAt 8 = .ok (.iload_n 1, 1) := dk_27 (dk_at dksX1_bribeAt_0 8 rfl rfl)
theorem dX1_bribeAt_9 : decode cX1_bribeAt 9 = .ok (.invokevirtual 245, 3) := dk_182 0 245 (dk_at dksX1_bribeAt_0 9 rfl rfl)
theorem dX1_bribeAt_12 : decode cX1_bribeAt 12 = .ok (.istore_n 2, 1) := dk_61 (dk_at dksX1_bribeAt_0 12 rfl rfl)
theorem dX1_bribeAt_13 : decode cX1_bribeAt 13 = .ok (.iload_n 2, 1) := dk_28 (dk_at dksX1_bribeAt_0 13 rfl rfl)
theorem dX1_bribeAt_14 : decode cX1_bribeAt 14 = .ok (.iconst (-1), 1) := dk_2 (dk_at dksX1_bribeAt_0 14 rfl rfl)
theorem dX1_bribeAt_15 : decode cX1_bribeAt 15 = .ok (.if_icmp .ne 7, 3) := dk_160 0 7 (dk_at dksX1_bribeAt_0 15 rfl rfl)
theorem dX1_bribeAt_18 : decode cX1_bribeAt 18 = .ok (.iconst 0, 1) := dk_3 (dk_at dksX1_bribeAt_0 18 rfl rfl)
theorem dX1_bribeAt_19 : decode cX1_bribeAt 19 = .ok (.goto 9, 3) := dk_167 0 9 (dk_at dksX1_bribeAt_0 19 rfl rfl)
theorem dX1_bribeAt_22 : decode cX1_bribeAt 22 = .ok (.aload_n 0, 1) := dk_42 (dk_at dksX1_bribeAt_0 22 rfl rfl)
theorem dX1_bribeAt_23 : decode cX1_bribeAt 23 = .ok (.getfield 130, 3) := dk_180 0 130 (dk_at dksX1_bribeAt_1 0 rfl rfl)
theorem dX1_bribeAt_26 : decode cX1_bribeAt 26 = .ok (.iload_n 2, 1) := dk_28 (dk_at dksX1_bribeAt_1 3 rfl rfl)
theorem dX1_bribeAt_27 : decode cX1_bribeAt 27 = .ok (.iaload, 1) := dk_46 (dk_at dksX1_bribeAt_1 4 rfl rfl)
theorem dX1_bribeAt_28 : decode cX1_bribeAt 28 = .ok (.ireturn, 1) := dk_172 (dk_at dksX1_bribeAt_1 5 rfl rfl)
abbrev cX1_routes : ByteArray := prog_1_method_41_code
def yX1_routes : MethodName := ⟨RX1, "routes", "(IIII)V"⟩
def dkwX1_routes_5 : List UInt8 := [182, 1, 154, 96, 182, 1, 157, 21, 5, 21, 5, 4, 100, 126, 54, 5, 167, 255, 204, 177]
abbrev dktX1_routes_5 : List UInt8 := dkwX1_routes_5 ++ []
def dkwX1_routes_4 : List UInt8 := [180, 0, 123, 27, 21, 6, 79, 42, 27, 4, 96, 28, 29, 4, 21, 6, 120, 128, 21, 4, 42, 21, 6]
abbrev dktX1_routes_4 : List UInt8 := dkwX1_routes_4 ++ dktX1_routes_5
def dkwX1_routes_3 : List UInt8 := [100, 46, 46, 29, 2, 130, 126, 54, 5, 21, 5, 153, 0, 53, 21, 5, 184, 1, 149, 54, 6, 42]
abbrev dktX1_routes_3 : List UInt8 := dkwX1_routes_3 ++ dktX1_routes_4
def dkwX1_routes_2 : List UInt8 := [16, 8, 184, 1, 60, 27, 28, 160, 0, 4, 177, 42, 180, 0, 80, 180, 0, 248, 42, 180, 0, 123, 27, 4]
abbrev dktX1_routes_2 : List UInt8 := dkwX1_routes_2 ++ dktX1_routes_3
def dkwX1_routes_1 : List UInt8 := [162, 0, 29, 42, 21, 4, 181, 1, 143, 42, 27, 181, 1, 146, 42, 180, 0, 123, 3, 42, 180, 0, 127, 3]
abbrev dktX1_routes_1 : List UInt8 := dkwX1_routes_1 ++ dktX1_routes_2
def dkwX1_routes_0 : List UInt8 := [21, 4, 42, 180, 1, 143, 163, 0, 20, 21, 4, 42, 180, 1, 143, 160, 0, 37, 27, 42, 180, 1, 146]
abbrev dktX1_routes_0 : List UInt8 := dkwX1_routes_0 ++ dktX1_routes_1
theorem dksX1_routes_0 : cX1_routes.data.toList.drop 0 = dktX1_routes_0 := by decide +kernel
theorem dksX1_routes_1 : cX1_routes.data.toList.drop 23 = dktX1_routes_1 := dk_seg dksX1_routes_0 23 rfl rfl
theorem dksX1_routes_2 : cX1_routes.data.toList.drop 47 = dktX1_routes_2 := dk_seg dksX1_routes_1 24 rfl rfl
theorem dksX1_routes_3 : cX1_routes.data.toList.drop 71 = dktX1_routes_3 := dk_seg dksX1_routes_2 24 rfl rfl
theorem dksX1_routes_4 : cX1_routes.data.toList.drop 93 = dktX1_routes_4 := dk_seg dksX1_routes_3 22 rfl rfl
theorem dksX1_routes_5 : cX1_routes.data.toList.drop 116 = dktX1_routes_5 := dk_seg dksX1_routes_4 23 rfl rfl
theorem dX1_routes_0 : decode cX1_routes 0 = .ok (.iload 4, 2) := dk_21 4 (dk_at dksX1_routes_0 0 rfl rfl)
theorem dX1_routes_2 : decode cX1_routes 2 = .ok (.aload_n 0, 1) := dk_42 (dk_at dksX1_routes_0 2 rfl rfl)
theorem dX1_routes_3 : decode cX1_routes 3 = .ok (.getfield 399, 3) := dk_180 1 143 (dk_at dksX1_routes_0 3 rfl rfl)
theorem dX1_routes_6 : decode cX1_routes 6 = .ok (.if_icmp .gt 20, 3) := dk_163 0 20 (dk_at dksX1_routes_0 6 rfl rfl)
theorem dX1_routes_9 : decode cX1_routes 9 = .ok (.iload 4, 2) := dk_21 4 (dk_at dksX1_routes_0 9 rfl rfl)
theorem dX1_routes_11 : decode cX1_routes 11 = .ok (.aload_n 0, 1) := dk_42 (dk_at dksX1_routes_0 11 rfl rfl)
theorem dX1_routes_12 : decode cX1_routes 12 = .ok (.getfield 399, 3) := dk_180 1 143 (dk_at dksX1_routes_0 12 rfl rfl)
theorem dX1_routes_15 : decode cX1_routes 15 = .ok (.if_icmp .ne 37, 3) := dk_160 0 37 (dk_at dksX1_routes_0 15 rfl rfl)
theorem dX1_routes_18 : decode cX1_routes 18 = .ok (.iload_n 1, 1) := dk_27 (dk_at dksX1_routes_0 18 rfl rfl)
theorem dX1_routes_19 : decode cX1_routes 19 = .ok (.aload_n 0, 1) := dk_42 (dk_at dksX1_routes_0 19 rfl rfl)
theorem dX1_routes_20 : decode cX1_routes 20 = .ok (.getfield 402, 3) := dk_180 1 146 (dk_at dksX1_routes_0 20 rfl rfl)
theorem dX1_routes_23 : decode cX1_routes 23 = .ok (.if_icmp .ge 29, 3) := dk_162 0 29 (dk_at dksX1_routes_1 0 rfl rfl)
theorem dX1_routes_26 : decode cX1_routes 26 = .ok (.aload_n 0, 1) := dk_42 (dk_at dksX1_routes_1 3 rfl rfl)
theorem dX1_routes_27 : decode cX1_routes 27 = .ok (.iload 4, 2) := dk_21 4 (dk_at dksX1_routes_1 4 rfl rfl)
theorem dX1_routes_29 : decode cX1_routes 29 = .ok (.putfield 399, 3) := dk_181 1 143 (dk_at dksX1_routes_1 6 rfl rfl)
theorem dX1_routes_32 : decode cX1_routes 32 = .ok (.aload_n 0, 1) := dk_42 (dk_at dksX1_routes_1 9 rfl rfl)
theorem dX1_routes_33 : decode cX1_routes 33 = .ok (.iload_n 1, 1) := dk_27 (dk_at dksX1_routes_1 10 rfl rfl)
theorem dX1_routes_34 : decode cX1_routes 34 = .ok (.putfield 402, 3) := dk_181 1 146 (dk_at dksX1_routes_1 11 rfl rfl)
theorem dX1_routes_37 : decode cX1_routes 37 = .ok (.aload_n 0, 1) := dk_42 (dk_at dksX1_routes_1 14 rfl rfl)
theorem dX1_routes_38 : decode cX1_routes 38 = .ok (.getfield 123, 3) := dk_180 0 123 (dk_at dksX1_routes_1 15 rfl rfl)
theorem dX1_routes_41 : decode cX1_routes 41 = .ok (.iconst 0, 1) := dk_3 (dk_at dksX1_routes_1 18 rfl rfl)
theorem dX1_routes_42 : decode cX1_routes 42 = .ok (.aload_n 0, 1) := dk_42 (dk_at dksX1_routes_1 19 rfl rfl)
theorem dX1_routes_43 : decode cX1_routes 43 = .ok (.getfield 127, 3) := dk_180 0 127 (dk_at dksX1_routes_1 20 rfl rfl)
theorem dX1_routes_46 : decode cX1_routes 46 = .ok (.iconst 0, 1) := dk_3 (dk_at dksX1_routes_1 23 rfl rfl)
theorem dX1_routes_47 : decode cX1_routes 47 = .ok (.bipush 8, 2) := dk_16 8 (dk_at dksX1_routes_2 0 rfl rfl)
theorem dX1_routes_49 : decode cX1_routes 49 = .ok (.invokestatic 316, 3) := dk_184 1 60 (dk_at dksX1_routes_2 2 rfl rfl)
theorem dX1_routes_52 : decode cX1_routes 52 = .ok (.iload_n 1, 1) := dk_27 (dk_at dksX1_routes_2 5 rfl rfl)
theorem dX1_routes_53 : decode cX1_routes 53 = .ok (.iload_n 2, 1) := dk_28 (dk_at dksX1_routes_2 6 rfl rfl)
theorem dX1_routes_54 : decode cX1_routes 54 = .ok (.if_icmp .ne 4, 3) := dk_160 0 4 (dk_at dksX1_routes_2 7 rfl rfl)
theorem dX1_routes_57 : decode cX1_routes 57 = .ok (.return_, 1) := dk_177 (dk_at dksX1_routes_2 10 rfl rfl)
theorem dX1_routes_58 : decode cX1_routes 58 = .ok (.aload_n 0, 1) := dk_42 (dk_at dksX1_routes_2 11 rfl rfl)
theorem dX1_routes_59 : decode cX1_routes 59 = .ok (.getfield 80, 3) := dk_180 0 80 (dk_at dksX1_routes_2 12 rfl rfl)
theorem dX1_routes_62 : decode cX1_routes 62 = .ok (.getfield 248, 3) := dk_180 0 248 (dk_at dksX1_routes_2 15 rfl rfl)
theorem dX1_routes_65 : decode cX1_routes 65 = .ok (.aload_n 0, 1) := dk_42 (dk_at dksX1_routes_2 18 rfl rfl)
theorem dX1_routes_66 : decode cX1_routes 66 = .ok (.getfield 123, 3) := dk_180 0 123 (dk_at dksX1_routes_2 19 rfl rfl)
theorem dX1_routes_69 : decode cX1_routes 69 = .ok (.iload_n 1, 1) := dk_27 (dk_at dksX1_routes_2 22 rfl rfl)
theorem dX1_routes_70 : decode cX1_routes 70 = .ok (.iconst 1, 1) := dk_4 (dk_at dksX1_routes_2 23 rfl rfl)
theorem dX1_routes_71 : decode cX1_routes 71 = .ok (.isub, 1) := dk_100 (dk_at dksX1_routes_3 0 rfl rfl)
theorem dX1_routes_72 : decode cX1_routes 72 = .ok (.iaload, 1) := dk_46 (dk_at dksX1_routes_3 1 rfl rfl)
theorem dX1_routes_73 : decode cX1_routes 73 = .ok (.iaload, 1) := dk_46 (dk_at dksX1_routes_3 2 rfl rfl)
theorem dX1_routes_74 : decode cX1_routes 74 = .ok (.iload_n 3, 1) := dk_29 (dk_at dksX1_routes_3 3 rfl rfl)
theorem dX1_routes_75 : decode cX1_routes 75 = .ok (.iconst (-1), 1) := dk_2 (dk_at dksX1_routes_3 4 rfl rfl)
theorem dX1_routes_76 : decode cX1_routes 76 = .ok (.ixor, 1) := dk_130 (dk_at dksX1_routes_3 5 rfl rfl)
theorem dX1_routes_77 : decode cX1_routes 77 = .ok (.iand, 1) := dk_126 (dk_at dksX1_routes_3 6 rfl rfl)
theorem dX1_routes_78 : decode cX1_routes 78 = .ok (.istore 5, 2) := dk_54 5 (dk_at dksX1_routes_3 7 rfl rfl)
theorem dX1_routes_80 : decode cX1_routes 80 = .ok (.iload 5, 2) := dk_21 5 (dk_at dksX1_routes_3 9 rfl rfl)
theorem dX1_routes_82 : decode cX1_routes 82 = .ok (.ifCond .eq 53, 3) := dk_153 0 53 (dk_at dksX1_routes_3 11 rfl rfl)
theorem dX1_routes_85 : decode cX1_routes 85 = .ok (.iload 5, 2) := dk_21 5 (dk_at dksX1_routes_3 14 rfl rfl)
theorem dX1_routes_87 : decode cX1_routes 87 = .ok (.invokestatic 405, 3) := dk_184 1 149 (dk_at dksX1_routes_3 16 rfl rfl)
theorem dX1_routes_90 : decode cX1_routes 90 = .ok (.istore 6, 2) := dk_54 6 (dk_at dksX1_routes_3 19 rfl rfl)
theorem dX1_routes_92 : decode cX1_routes 92 = .ok (.aload_n 0, 1) := dk_42 (dk_at dksX1_routes_3 21 rfl rfl)
theorem dX1_routes_93 : decode cX1_routes 93 = .ok (.getfield 123, 3) := dk_180 0 123 (dk_at dksX1_routes_4 0 rfl rfl)
theorem dX1_routes_96 : decode cX1_routes 96 = .ok (.iload_n 1, 1) := dk_27 (dk_at dksX1_routes_4 3 rfl rfl)
theorem dX1_routes_97 : decode cX1_routes 97 = .ok (.iload 6, 2) := dk_21 6 (dk_at dksX1_routes_4 4 rfl rfl)
theorem dX1_routes_99 : decode cX1_routes 99 = .ok (.iastore, 1) := dk_79 (dk_at dksX1_routes_4 6 rfl rfl)
theorem dX1_routes_100 : decode cX1_routes 100 = .ok (.aload_n 0, 1) := dk_42 (dk_at dksX1_routes_4 7 rfl rfl)
theorem dX1_routes_101 : decode cX1_routes 101 = .ok (.iload_n 1, 1) := dk_27 (dk_at dksX1_routes_4 8 rfl rfl)
theorem dX1_routes_102 : decode cX1_routes 102 = .ok (.iconst 1, 1) := dk_4 (dk_at dksX1_routes_4 9 rfl rfl)
theorem dX1_routes_103 : decode cX1_routes 103 = .ok (.iadd, 1) := dk_96 (dk_at dksX1_routes_4 10 rfl rfl)
theorem dX1_routes_104 : decode cX1_routes 104 = .ok (.iload_n 2, 1) := dk_28 (dk_at dksX1_routes_4 11 rfl rfl)
theorem dX1_routes_105 : decode cX1_routes 105 = .ok (.iload_n 3, 1) := dk_29 (dk_at dksX1_routes_4 12 rfl rfl)
theorem dX1_routes_106 : decode cX1_routes 106 = .ok (.iconst 1, 1) := dk_4 (dk_at dksX1_routes_4 13 rfl rfl)
theorem dX1_routes_107 : decode cX1_routes 107 = .ok (.iload 6, 2) := dk_21 6 (dk_at dksX1_routes_4 14 rfl rfl)
theorem dX1_routes_109 : decode cX1_routes 109 = .ok (.ishl, 1) := dk_120 (dk_at dksX1_routes_4 16 rfl rfl)
theorem dX1_routes_110 : decode cX1_routes 110 = .ok (.ior, 1) := dk_128 (dk_at dksX1_routes_4 17 rfl rfl)
theorem dX1_routes_111 : decode cX1_routes 111 = .ok (.iload 4, 2) := dk_21 4 (dk_at dksX1_routes_4 18 rfl rfl)
theorem dX1_routes_113 : decode cX1_routes 113 = .ok (.aload_n 0, 1) := dk_42 (dk_at dksX1_routes_4 20 rfl rfl)
theorem dX1_routes_114 : decode cX1_routes 114 = .ok (.iload 6, 2) := dk_21 6 (dk_at dksX1_routes_4 21 rfl rfl)
theorem dX1_routes_116 : decode cX1_routes 116 = .ok (.invokevirtual 410, 3) := dk_182 1 154 (dk_at dksX1_routes_5 0 rfl rfl)
theorem dX1_routes_119 : decode cX1_routes 119 = .ok (.iadd, 1) := dk_96 (dk_at dksX1_routes_5 3 rfl rfl)
theorem dX1_routes_120 : decode cX1_routes 120 = .ok (.invokevirtual 413, 3) := dk_182 1 157 (dk_at dksX1_routes_5 4 rfl rfl)
theorem dX1_routes_123 : decode cX1_routes 123 = .ok (.iload 5, 2) := dk_21 5 (dk_at dksX1_routes_5 7 rfl rfl)
theorem dX1_routes_125 : decode cX1_routes 125 = .ok (.iload 5, 2) := dk_21 5 (dk_at dksX1_routes_5 9 rfl rfl)
theorem dX1_routes_127 : decode cX1_routes 127 = .ok (.iconst 1, 1) := dk_4 (dk_at dksX1_routes_5 11 rfl rfl)
theorem dX1_routes_128 : decode cX1_routes 128 = .ok (.isub, 1) := dk_100 (dk_at dksX1_routes_5 12 rfl rfl)
theorem dX1_routes_129 : decode cX1_routes 129 = .ok (.iand, 1) := dk_126 (dk_at dksX1_routes_5 13 rfl rfl)
theorem dX1_routes_130 : decode cX1_routes 130 = .ok (.istore 5, 2) := dk_54 5 (dk_at dksX1_routes_5 14 rfl rfl)
theorem dX1_routes_132 : decode cX1_routes 132 = .ok (.goto (-52), 3) := dk_167 255 204 (dk_at dksX1_routes_5 16 rfl rfl)
theorem dX1_routes_135 : decode cX1_routes 135 = .ok (.return_, 1) := dk_177 (dk_at dksX1_routes_5 19 rfl rfl)
abbrev cX1_routeAt : ByteArray := prog_1_method_44_code
def yX1_routeAt : MethodName := ⟨RX1, "routeAt", "(I)I"⟩
def dkwX1_routeAt_1 : List UInt8 := [172]
abbrev dktX1_routeAt_1 : List UInt8 := dkwX1_routeAt_1 ++ []
def dkwX1_routeAt_0 : List UInt8 := [27, 3, 42, 180, 0, 136, 4, 100, 184, 0, 212, 153, 0, 12, 42, 180, 0, 143, 27, 46, 167, 0, 4, 2]
abbrev dktX1_routeAt_0 : List UInt8 := dkwX1_routeAt_0 ++ dktX1_routeAt_1
theorem dksX1_routeAt_0 : cX1_routeAt.data.toList.drop 0 = dktX1_routeAt_0 := by decide +kernel
theorem dksX1_routeAt_1 : cX1_routeAt.data.toList.drop 24 = dktX1_routeAt_1 := dk_seg dksX1_routeAt_0 24 rfl rfl
theorem dX1_routeAt_0 : decode cX1_routeAt 0 = .ok (.iload_n 1, 1) := dk_27 (dk_at dksX1_routeAt_0 0 rfl rfl)
theorem dX1_routeAt_1 : decode cX1_routeAt 1 = .ok (.iconst 0, 1) := dk_3 (dk_at dksX1_routeAt_0 1 rfl rfl)
theorem dX1_routeAt_2 : decode cX1_routeAt 2 = .ok (.aload_n 0, 1) := dk_42 (dk_at dksX1_routeAt_0 2 rfl rfl)
theorem dX1_routeAt_3 : decode cX1_routeAt 3 = .ok (.getfield 136, 3) := dk_180 0 136 (dk_at dksX1_routeAt_0 3 rfl rfl)
theorem dX1_routeAt_6 : decode cX1_routeAt 6 = .ok (.iconst 1, 1) := dk_4 (dk_at dksX1_routeAt_0 6 rfl rfl)
theorem dX1_routeAt_7 : decode cX1_routeAt 7 = .ok (.isub, 1) := dk_100 (dk_at dksX1_routeAt_0 7 rfl rfl)
theorem dX1_routeAt_8 : decode cX1_routeAt 8 = .ok (.invokestatic 212, 3) := dk_184 0 212 (dk_at dksX1_routeAt_0 8 rfl rfl)
theorem dX1_routeAt_11 : decode cX1_routeAt 11 = .ok (.ifCond .eq 12, 3) := dk_153 0 12 (dk_at dksX1_routeAt_0 11 rfl rfl)
theorem dX1_routeAt_14 : decode cX1_routeAt 14 = .ok (.aload_n 0, 1) := dk_42 (dk_at dksX1_routeAt_0 14 rfl rfl)
theorem dX1_routeAt_15 : decode cX1_routeAt 15 = .ok (.getfield 143, 3) := dk_180 0 143 (dk_at dksX1_routeAt_0 15 rfl rfl)
theorem dX1_routeAt_18 : decode cX1_routeAt 18 = .ok (.iload_n 1, 1) := dk_27 (dk_at dksX1_routeAt_0 18 rfl rfl)
theorem dX1_routeAt_19 : decode cX1_routeAt 19 = .ok (.iaload, 1) := dk_46 (dk_at dksX1_routeAt_0 19 rfl rfl)
theorem dX1_routeAt_20 : decode cX1_routeAt 20 = .ok (.goto 4, 3) := dk_167 0 4 (dk_at dksX1_routeAt_0 20 rfl rfl)
theorem dX1_routeAt_23 : decode cX1_routeAt 23 = .ok (.iconst (-1), 1) := dk_2 (dk_at dksX1_routeAt_0 23 rfl rfl)
theorem dX1_routeAt_24 : decode cX1_routeAt 24 = .ok (.ireturn, 1) := dk_172 (dk_at dksX1_routeAt_1 0 rfl rfl)
abbrev cX1_bids : ByteArray := prog_1_method_47_code
def yX1_bids : MethodName := ⟨RX1, "bids", "(II)I"⟩
def dkwX1_bids_4 : List UInt8 := [181, 0, 140, 42, 180, 0, 130, 3, 42, 180, 0, 133, 3, 16, 8, 184, 1, 60, 29, 172]
abbrev dktX1_bids_4 : List UInt8 := dkwX1_bids_4 ++ []
def dkwX1_bids_3 : List UInt8 := [180, 0, 130, 21, 4, 92, 46, 4, 96, 79, 132, 3, 1, 167, 255, 216, 42, 42, 180, 0, 80, 180, 0, 219]
abbrev dktX1_bids_3 : List UInt8 := dkwX1_bids_3 ++ dktX1_bids_4
def dkwX1_bids_2 : List UInt8 := [159, 0, 40, 29, 16, 60, 162, 0, 34, 42, 27, 28, 182, 1, 167, 54, 4, 21, 4, 2, 159, 0, 14, 42]
abbrev dktX1_bids_2 : List UInt8 := dkwX1_bids_2 ++ dktX1_bids_3
def dkwX1_bids_1 : List UInt8 := [180, 1, 10, 3, 42, 180, 0, 130, 3, 16, 8, 184, 1, 60, 3, 62, 3, 54, 4, 21, 4, 2]
abbrev dktX1_bids_1 : List UInt8 := dkwX1_bids_1 ++ dktX1_bids_2
def dkwX1_bids_0 : List UInt8 := [42, 27, 182, 0, 239, 153, 0, 13, 28, 4, 16, 8, 184, 0, 212, 154, 0, 5, 2, 172, 42, 180, 0, 80]
abbrev dktX1_bids_0 : List UInt8 := dkwX1_bids_0 ++ dktX1_bids_1
theorem dksX1_bids_0 : cX1_bids.data.toList.drop 0 = dktX1_bids_0 := by decide +kernel
theorem dksX1_bids_1 : cX1_bids.data.toList.drop 24 = dktX1_bids_1 := dk_seg dksX1_bids_0 24 rfl rfl
theorem dksX1_bids_2 : cX1_bids.data.toList.drop 46 = dktX1_bids_2 := dk_seg dksX1_bids_1 22 rfl rfl
theorem dksX1_bids_3 : cX1_bids.data.toList.drop 70 = dktX1_bids_3 := dk_seg dksX1_bids_2 24 rfl rfl
theorem dksX1_bids_4 : cX1_bids.data.toList.drop 94 = dktX1_bids_4 := dk_seg dksX1_bids_3 24 rfl rfl
theorem dX1_bids_0 : decode cX1_bids 0 = .ok (.aload_n 0, 1) := dk_42 (dk_at dksX1_bids_0 0 rfl rfl)
theorem dX1_bids_1 : decode cX1_bids 1 = .ok (.iload_n 1, 1) := dk_27 (dk_at dksX1_bids_0 1 rfl rfl)
theorem dX1_bids_2 : decode cX1_bids 2 = .ok (.invokevirtual 239, 3) := dk_182 0 239 (dk_at dksX1_bids_0 2 rfl rfl)
theorem dX1_bids_5 : decode cX1_bids 5 = .ok (.ifCond .eq 13, 3) := dk_153 0 13 (dk_at dksX1_bids_0 5 rfl rfl)
theorem dX1_bids_8 : decode cX1_bids 8 = .ok (.iload_n 2, 1) := dk_28 (dk_at dksX1_bids_0 8 rfl rfl)
theorem dX1_bids_9 : decode cX1_bids 9 = .ok (.iconst 1, 1) := dk_4 (dk_at dksX1_bids_0 9 rfl rfl)
theorem dX1_bids_10 : decode cX1_bids 10 = .ok (.bipush 8, 2) := dk_16 8 (dk_at dksX1_bids_0 10 rfl rfl)
theorem dX1_bids_12 : decode cX1_bids 12 = .ok (.invokestatic 212, 3) := dk_184 0 212 (dk_at dksX1_bids_0 12 rfl rfl)
theorem dX1_bids_15 : decode cX1_bids 15 = .ok (.ifCond .ne 5, 3) := dk_154 0 5 (dk_at dksX1_bids_0 15 rfl rfl)
theorem dX1_bids_18 : decode cX1_bids 18 = .ok (.iconst (-1), 1) := dk_2 (dk_at dksX1_bids_0 18 rfl rfl)
theorem dX1_bids_19 : decode cX1_bids 19 = .ok (.ireturn, 1) := dk_172 (dk_at dksX1_bids_0 19 rfl rfl)
theorem dX1_bids_20 : decode cX1_bids 20 = .ok (.aload_n 0, 1) := dk_42 (dk_at dksX1_bids_0 20 rfl rfl)
theorem dX1_bids_21 : decode cX1_bids 21 = .ok (.getfield 80, 3) := dk_180 0 80 (dk_at dksX1_bids_0 21 rfl rfl)
theorem dX1_bids_24 : decode cX1_bids 24 = .ok (.getfield 266, 3) := dk_180 1 10 (dk_at dksX1_bids_1 0 rfl rfl)
theorem dX1_bids_27 : decode cX1_bids 27 = .ok (.iconst 0, 1) := dk_3 (dk_at dksX1_bids_1 3 rfl rfl)
theorem dX1_bids_28 : decode cX1_bids 28 = .ok (.aload_n 0, 1) := dk_42 (dk_at dksX1_bids_1 4 rfl rfl)
theorem dX1_bids_29 : decode cX1_bids 29 = .ok (.getfield 130, 3) := dk_180 0 130 (dk_at dksX1_bids_1 5 rfl rfl)
theorem dX1_bids_32 : decode cX1_bids 32 = .ok (.iconst 0, 1) := dk_3 (dk_at dksX1_bids_1 8 rfl rfl)
theorem dX1_bids_33 : decode cX1_bids 33 = .ok (.bipush 8, 2) := dk_16 8 (dk_at dksX1_bids_1 9 rfl rfl)
theorem dX1_bids_35 : decode cX1_bids 35 = .ok (.invokestatic 316, 3) := dk_184 1 60 (dk_at dksX1_bids_1 11 rfl rfl)
theorem dX1_bids_38 : decode cX1_bids 38 = .ok (.iconst 0, 1) := dk_3 (dk_at dksX1_bids_1 14 rfl rfl)
theorem dX1_bids_39 : decode cX1_bids 39 = .ok (.istore_n 3, 1) := dk_62 (dk_at dksX1_bids_1 15 rfl rfl)
theorem dX1_bids_40 : decode cX1_bids 40 = .ok (.iconst 0, 1) := dk_3 (dk_at dksX1_bids_1 16 rfl rfl)
theorem dX1_bids_41 : decode cX1_bids 41 = .ok (.istore 4, 2) := dk_54 4 (dk_at dksX1_bids_1 17 rfl rfl)
theorem dX1_bids_43 : decode cX1_bids 43 = .ok (.iload 4, 2) := dk_21 4 (dk_at dksX1_bids_1 19 rfl rfl)
theorem dX1_bids_45 : decode cX1_bids 45 = .ok (.iconst (-1), 1) := dk_2 (dk_at dksX1_bids_1 21 rfl rfl)
theorem dX1_bids_46 : decode cX1_bids 46 = .ok (.if_icmp .eq 40, 3) := dk_159 0 40 (dk_at dksX1_bids_2 0 rfl rfl)
theorem dX1_bids_49 : decode cX1_bids 49 = .ok (.iload_n 3, 1) := dk_29 (dk_at dksX1_bids_2 3 rfl rfl)
theorem dX1_bids_50 : decode cX1_bids 50 = .ok (.bipush 60, 2) := dk_16 60 (dk_at dksX1_bids_2 4 rfl rfl)
theorem dX1_bids_52 : decode cX1_bids 52 = .ok (.if_icmp .ge 34, 3) := dk_162 0 34 (dk_at dksX1_bids_2 6 rfl rfl)
theorem dX1_bids_55 : decode cX1_bids 55 = .ok (.aload_n 0, 1) := dk_42 (dk_at dksX1_bids_2 9 rfl rfl)
theorem dX1_bids_56 : decode cX1_bids 56 = .ok (.iload_n 1, 1) := dk_27 (dk_at dksX1_bids_2 10 rfl rfl)
theorem dX1_bids_57 : decode cX1_bids 57 = .ok (.iload_n 2, 1) := dk_28 (dk_at dksX1_bids_2 11 rfl rfl)
theorem dX1_bids_58 : decode cX1_bids 58 = .ok (.invokevirtual 423, 3) := dk_182 1 167 (dk_at dksX1_bids_2 12 rfl rfl)
theorem dX1_bids_61 : decode cX1_bids 61 = .ok (.istore 4, 2) := dk_54 4 (dk_at dksX1_bids_2 15 rfl rfl)
theorem dX1_bids_63 : decode cX1_bids 63 = .ok (.iload 4, 2) := dk_21 4 (dk_at dksX1_bids_2 17 rfl rfl)
theorem dX1_bids_65 : decode cX1_bids 65 = .ok (.iconst (-1), 1) := dk_2 (dk_at dksX1_bids_2 19 rfl rfl)
theorem dX1_bids_66 : decode cX1_bids 66 = .ok (.if_icmp .eq 14, 3) := dk_159 0 14 (dk_at dksX1_bids_2 20 rfl rfl)
theorem dX1_bids_69 : decode cX1_bids 69 = .ok (.aload_n 0, 1) := dk_42 (dk_at dksX1_bids_2 23 rfl rfl)
theorem dX1_bids_70 : decode cX1_bids 70 = .ok (.getfield 130, 3) := dk_180 0 130 (dk_at dksX1_bids_3 0 rfl rfl)
theorem dX1_bids_73 : decode cX1_bids 73 = .ok (.iload 4, 2) := dk_21 4 (dk_at dksX1_bids_3 3 rfl rfl)
theorem dX1_bids_75 : decode cX1_bids 75 = .ok (.dup2, 1) := dk_92 (dk_at dksX1_bids_3 5 rfl rfl)
theorem dX1_bids_76 : decode cX1_bids 76 = .ok (.iaload, 1) := dk_46 (dk_at dksX1_bids_3 6 rfl rfl)
theorem dX1_bids_77 : decode cX1_bids 77 = .ok (.iconst 1, 1) := dk_4 (dk_at dksX1_bids_3 7 rfl rfl)
theorem dX1_bids_78 : decode cX1_bids 78 = .ok (.iadd, 1) := dk_96 (dk_at dksX1_bids_3 8 rfl rfl)
theorem dX1_bids_79 : decode cX1_bids 79 = .ok (.iastore, 1) := dk_79 (dk_at dksX1_bids_3 9 rfl rfl)
theorem dX1_bids_80 : decode cX1_bids 80 = .ok (.iinc 3 1, 3) := dk_132 3 1 (dk_at dksX1_bids_3 10 rfl rfl)
theorem dX1_bids_83 : decode cX1_bids 83 = .ok (.goto (-40), 3) := dk_167 255 216 (dk_at dksX1_bids_3 13 rfl rfl)
theorem dX1_bids_86 : decode cX1_bids 86 = .ok (.aload_n 0, 1) := dk_42 (dk_at dksX1_bids_3 16 rfl rfl)
theorem dX1_bids_87 : decode cX1_bids 87 = .ok (.aload_n 0, 1) := dk_42 (dk_at dksX1_bids_3 17 rfl rfl)
theorem dX1_bids_88 : decode cX1_bids 88 = .ok (.getfield 80, 3) := dk_180 0 80 (dk_at dksX1_bids_3 18 rfl rfl)
theorem dX1_bids_91 : decode cX1_bids 91 = .ok (.getfield 219, 3) := dk_180 0 219 (dk_at dksX1_bids_3 21 rfl rfl)
theorem dX1_bids_94 : decode cX1_bids 94 = .ok (.putfield 140, 3) := dk_181 0 140 (dk_at dksX1_bids_4 0 rfl rfl)
theorem dX1_bids_97 : decode cX1_bids 97 = .ok (.aload_n 0, 1) := dk_42 (dk_at dksX1_bids_4 3 rfl rfl)
theorem dX1_bids_98 : decode cX1_bids 98 = .ok (.getfield 130, 3) := dk_180 0 130 (dk_at dksX1_bids_4 4 rfl rfl)
theorem dX1_bids_101 : decode cX1_bids 101 = .ok (.iconst 0, 1) := dk_3 (dk_at dksX1_bids_4 7 rfl rfl)
theorem dX1_bids_102 : decode cX1_bids 102 = .ok (.aload_n 0, 1) := dk_42 (dk_at dksX1_bids_4 8 rfl rfl)
theorem dX1_bids_103 : decode cX1_bids 103 = .ok (.getfield 133, 3) := dk_180 0 133 (dk_at dksX1_bids_4 9 rfl rfl)
theorem dX1_bids_106 : decode cX1_bids 106 = .ok (.iconst 0, 1) := dk_3 (dk_at dksX1_bids_4 12 rfl rfl)
theorem dX1_bids_107 : decode cX1_bids 107 = .ok (.bipush 8, 2) := dk_16 8 (dk_at dksX1_bids_4 13 rfl rfl)
theorem dX1_bids_109 : decode cX1_bids 109 = .ok (.invokestatic 316, 3) := dk_184 1 60 (dk_at dksX1_bids_4 15 rfl rfl)
theorem dX1_bids_112 : decode cX1_bids 112 = .ok (.iload_n 3, 1) := dk_29 (dk_at dksX1_bids_4 18 rfl rfl)
theorem dX1_bids_113 : decode cX1_bids 113 = .ok (.ireturn, 1) := dk_172 (dk_at dksX1_bids_4 19 rfl rfl)
abbrev cX1_bidder : ByteArray := prog_1_method_46_code
def yX1_bidder : MethodName := ⟨RX1, "bidder", "(II)I"⟩
def dkwX1_bidder_3 : List UInt8 := [164, 0, 5, 29, 172, 132, 3, 1, 167, 255, 185, 2, 172]
abbrev dktX1_bidder_3 : List UInt8 := dkwX1_bidder_3 ++ []
def dkwX1_bidder_2 : List UInt8 := [182, 1, 164, 154, 0, 26, 42, 180, 0, 87, 180, 0, 229, 29, 50, 180, 1, 6, 42, 180, 0, 130, 29, 46]
abbrev dktX1_bidder_2 : List UInt8 := dkwX1_bidder_2 ++ dktX1_bidder_3
def dkwX1_bidder_1 : List UInt8 := [180, 0, 229, 29, 50, 182, 0, 233, 154, 0, 45, 42, 42, 180, 0, 87, 180, 0, 229, 29, 50, 180, 1, 4]
abbrev dktX1_bidder_1 : List UInt8 := dkwX1_bidder_1 ++ dktX1_bidder_2
def dkwX1_bidder_0 : List UInt8 := [42, 27, 28, 182, 1, 161, 87, 3, 62, 29, 42, 180, 0, 80, 180, 0, 219, 162, 0, 66, 42, 180, 0, 87]
abbrev dktX1_bidder_0 : List UInt8 := dkwX1_bidder_0 ++ dktX1_bidder_1
theorem dksX1_bidder_0 : cX1_bidder.data.toList.drop 0 = dktX1_bidder_0 := by decide +kernel
theorem dksX1_bidder_1 : cX1_bidder.data.toList.drop 24 = dktX1_bidder_1 := dk_seg dksX1_bidder_0 24 rfl rfl
theorem dksX1_bidder_2 : cX1_bidder.data.toList.drop 48 = dktX1_bidder_2 := dk_seg dksX1_bidder_1 24 rfl rfl
theorem dksX1_bidder_3 : cX1_bidder.data.toList.drop 72 = dktX1_bidder_3 := dk_seg dksX1_bidder_2 24 rfl rfl
theorem dX1_bidder_0 : decode cX1_bidder 0 = .ok (.aload_n 0, 1) := dk_42 (dk_at dksX1_bidder_0 0 rfl rfl)
theorem dX1_bidder_1 : decode cX1_bidder 1 = .ok (.iload_n 1, 1) := dk_27 (dk_at dksX1_bidder_0 1 rfl rfl)
theorem dX1_bidder_2 : decode cX1_bidder 2 = .ok (.iload_n 2, 1) := dk_28 (dk_at dksX1_bidder_0 2 rfl rfl)
theorem dX1_bidder_3 : decode cX1_bidder 3 = .ok (.invokevirtual 417, 3) := dk_182 1 161 (dk_at dksX1_bidder_0 3 rfl rfl)
theorem dX1_bidder_6 : decode cX1_bidder 6 = .ok (.pop, 1) := dk_87 (dk_at dksX1_bidder_0 6 rfl rfl)
theorem dX1_bidder_7 : decode cX1_bidder 7 = .ok (.iconst 0, 1) := dk_3 (dk_at dksX1_bidder_0 7 rfl rfl)
theorem dX1_bidder_8 : decode cX1_bidder 8 = .ok (.istore_n 3, 1) := dk_62 (dk_at dksX1_bidder_0 8 rfl rfl)
theorem dX1_bidder_9 : decode cX1_bidder 9 = .ok (.iload_n 3, 1) := dk_29 (dk_at dksX1_bidder_0 9 rfl rfl)
theorem dX1_bidder_10 : decode cX1_bidder 10 = .ok (.aload_n 0, 1) := dk_42 (dk_at dksX1_bidder_0 10 rfl rfl)
theorem dX1_bidder_11 : decode cX1_bidder 11 = .ok (.getfield 80, 3) := dk_180 0 80 (dk_at dksX1_bidder_0 11 rfl rfl)
theorem dX1_bidder_14 : decode cX1_bidder 14 = .ok (.getfield 219, 3) := dk_180 0 219 (dk_at dksX1_bidder_0 14 rfl rfl)
theorem dX1_bidder_17 : decode cX1_bidder 17 = .ok (.if_icmp .ge 66, 3) := dk_162 0 66 (dk_at dksX1_bidder_0 17 rfl rfl)
theorem dX1_bidder_20 : decode cX1_bidder 20 = .ok (.aload_n 0, 1) := dk_42 (dk_at dksX1_bidder_0 20 rfl rfl)
theorem dX1_bidder_21 : decode cX1_bidder 21 = .ok (.getfield 87, 3) := dk_180 0 87 (dk_at dksX1_bidder_0 21 rfl rfl)
theorem dX1_bidder_24 : decode cX1_bidder 24 = .ok (.getfield 229, 3) := dk_180 0 229 (dk_at dksX1_bidder_1 0 rfl rfl)
theorem dX1_bidder_27 : decode cX1_bidder 27 = .ok (.iload_n 3, 1) := dk_29 (dk_at dksX1_bidder_1 3 rfl rfl)
theorem dX1_bidder_28 : decode cX1_bidder 28 = .ok (.aaload, 1) := dk_50 (dk_at dksX1_bidder_1 4 rfl rfl)
theorem dX1_bidder_29 : decode cX1_bidder 29 = .ok (.invokevirtual 233, 3) := dk_182 0 233 (dk_at dksX1_bidder_1 5 rfl rfl)
theorem dX1_bidder_32 : decode cX1_bidder 32 = .ok (.ifCond .ne 45, 3) := dk_154 0 45 (dk_at dksX1_bidder_1 8 rfl rfl)
theorem dX1_bidder_35 : decode cX1_bidder 35 = .ok (.aload_n 0, 1) := dk_42 (dk_at dksX1_bidder_1 11 rfl rfl)
theorem dX1_bidder_36 : decode cX1_bidder 36 = .ok (.aload_n 0, 1) := dk_42 (dk_at dksX1_bidder_1 12 rfl rfl)
theorem dX1_bidder_37 : decode cX1_bidder 37 = .ok (.getfield 87, 3) := dk_180 0 87 (dk_at dksX1_bidder_1 13 rfl rfl)
theorem dX1_bidder_40 : decode cX1_bidder 40 = .ok (.getfield 229, 3) := dk_180 0 229 (dk_at dksX1_bidder_1 16 rfl rfl)
theorem dX1_bidder_43 : decode cX1_bidder 43 = .ok (.iload_n 3, 1) := dk_29 (dk_at dksX1_bidder_1 19 rfl rfl)
theorem dX1_bidder_44 : decode cX1_bidder 44 = .ok (.aaload, 1) := dk_50 (dk_at dksX1_bidder_1 20 rfl rfl)
theorem dX1_bidder_45 : decode cX1_bidder 45 = .ok (.getfield 260, 3) := dk_180 1 4 (dk_at dksX1_bidder_1 21 rfl rfl)
theorem dX1_bidder_48 : decode cX1_bidder 48 = .ok (.invokevirtual 420, 3) := dk_182 1 164 (dk_at dksX1_bidder_2 0 rfl rfl)
theorem dX1_bidder_51 : decode cX1_bidder 51 = .ok (.ifCond .ne 26, 3) := dk_154 0 26 (dk_at dksX1_bidder_2 3 rfl rfl)
theorem dX1_bidder_54 : decode cX1_bidder 54 = .ok (.aload_n 0, 1) := dk_42 (dk_at dksX1_bidder_2 6 rfl rfl)
theorem dX1_bidder_55 : decode cX1_bidder 55 = .ok (.getfield 87, 3) := dk_180 0 87 (dk_at dksX1_bidder_2 7 rfl rfl)
theorem dX1_bidder_58 : decode cX1_bidder 58 = .ok (.getfield 229, 3) := dk_180 0 229 (dk_at dksX1_bidder_2 10 rfl rfl)
theorem dX1_bidder_61 : decode cX1_bidder 61 = .ok (.iload_n 3, 1) := dk_29 (dk_at dksX1_bidder_2 13 rfl rfl)
theorem dX1_bidder_62 : decode cX1_bidder 62 = .ok (.aaload, 1) := dk_50 (dk_at dksX1_bidder_2 14 rfl rfl)
theorem dX1_bidder_63 : decode cX1_bidder 63 = .ok (.getfield 262, 3) := dk_180 1 6 (dk_at dksX1_bidder_2 15 rfl rfl)
theorem dX1_bidder_66 : decode cX1_bidder 66 = .ok (.aload_n 0, 1) := dk_42 (dk_at dksX1_bidder_2 18 rfl rfl)
theorem dX1_bidder_67 : decode cX1_bidder 67 = .ok (.getfield 130, 3) := dk_180 0 130 (dk_at dksX1_bidder_2 19 rfl rfl)
theorem dX1_bidder_70 : decode cX1_bidder 70 = .ok (.iload_n 3, 1) := dk_29 (dk_at dksX1_bidder_2 22 rfl rfl)
theorem dX1_bidder_71 : decode cX1_bidder 71 = .ok (.iaload, 1) := dk_46 (dk_at dksX1_bidder_2 23 rfl rfl)
theorem dX1_bidder_72 : decode cX1_bidder 72 = .ok (.if_icmp .le 5, 3) := dk_164 0 5 (dk_at dksX1_bidder_3 0 rfl rfl)
theorem dX1_bidder_75 : decode cX1_bidder 75 = .ok (.iload_n 3, 1) := dk_29 (dk_at dksX1_bidder_3 3 rfl rfl)
theorem dX1_bidder_76 : decode cX1_bidder 76 = .ok (.ireturn, 1) := dk_172 (dk_at dksX1_bidder_3 4 rfl rfl)
theorem dX1_bidder_77 : decode cX1_bidder 77 = .ok (.iinc 3 1, 3) := dk_132 3 1 (dk_at dksX1_bidder_3 5 rfl rfl)
theorem dX1_bidder_80 : decode cX1_bidder 80 = .ok (.goto (-71), 3) := dk_167 255 185 (dk_at dksX1_bidder_3 8 rfl rfl)
theorem dX1_bidder_83 : decode cX1_bidder 83 = .ok (.iconst (-1), 1) := dk_2 (dk_at dksX1_bidder_3 11 rfl rfl)
theorem dX1_bidder_84 : decode cX1_bidder 84 = .ok (.ireturn, 1) := dk_172 (dk_at dksX1_bidder_3 12 rfl rfl)
abbrev cX1_isOnRoute : ByteArray := prog_1_method_45_code
def yX1_isOnRoute : MethodName := ⟨RX1, "isOnRoute", "(I)Z"⟩
def dkwX1_isOnRoute_1 : List UInt8 := [132, 2, 1, 167, 255, 233, 3, 172]
abbrev dktX1_isOnRoute_1 : List UInt8 := dkwX1_isOnRoute_1 ++ []
def dkwX1_isOnRoute_0 : List UInt8 := [3, 61, 28, 42, 180, 1, 146, 162, 0, 21, 42, 180, 0, 127, 28, 46, 27, 160, 0, 5, 4, 172]
abbrev dktX1_isOnRoute_0 : List UInt8 := dkwX1_isOnRoute_0 ++ dktX1_isOnRoute_1
theorem dksX1_isOnRoute_0 : cX1_isOnRoute.data.toList.drop 0 = dktX1_isOnRoute_0 := by decide +kernel
theorem dksX1_isOnRoute_1 : cX1_isOnRoute.data.toList.drop 22 = dktX1_isOnRoute_1 := dk_seg dksX1_isOnRoute_0 22 rfl rfl
theorem dX1_isOnRoute_0 : decode cX1_isOnRoute 0 = .ok (.iconst 0, 1) := dk_3 (dk_at dksX1_isOnRoute_0 0 rfl rfl)
theorem dX1_isOnRoute_1 : decode cX1_isOnRoute 1 = .ok (.istore_n 2, 1) := dk_61 (dk_at dksX1_isOnRoute_0 1 rfl rfl)
theorem dX1_isOnRoute_2 : decode cX1_isOnRoute 2 = .ok (.iload_n 2, 1) := dk_28 (dk_at dksX1_isOnRoute_0 2 rfl rfl)
theorem dX1_isOnRoute_3 : decode cX1_isOnRoute 3 = .ok (.aload_n 0, 1) := dk_42 (dk_at dksX1_isOnRoute_0 3 rfl rfl)
theorem dX1_isOnRoute_4 : decode cX1_isOnRoute 4 = .ok (.getfield 402, 3) := dk_180 1 146 (dk_at dksX1_isOnRoute_0 4 rfl rfl)
theorem dX1_isOnRoute_7 : decode cX1_isOnRoute 7 = .ok (.if_icmp .ge 21, 3) := dk_162 0 21 (dk_at dksX1_isOnRoute_0 7 rfl rfl)
theorem dX1_isOnRoute_10 : decode cX1_isOnRoute 10 = .ok (.aload_n 0, 1) := dk_42 (dk_at dksX1_isOnRoute_0 10 rfl rfl)
theorem dX1_isOnRoute_11 : decode cX1_isOnRoute 11 = .ok (.getfield 127, 3) := dk_180 0 127 (dk_at dksX1_isOnRoute_0 11 rfl rfl)
theorem dX1_isOnRoute_14 : decode cX1_isOnRoute 14 = .ok (.iload_n 2, 1) := dk_28 (dk_at dksX1_isOnRoute_0 14 rfl rfl)
theorem dX1_isOnRoute_15 : decode cX1_isOnRoute 15 = .ok (.iaload, 1) := dk_46 (dk_at dksX1_isOnRoute_0 15 rfl rfl)
theorem dX1_isOnRoute_16 : decode cX1_isOnRoute 16 = .ok (.iload_n 1, 1) := dk_27 (dk_at dksX1_isOnRoute_0 16 rfl rfl)
theorem dX1_isOnRoute_17 : decode cX1_isOnRoute 17 = .ok (.if_icmp .ne 5, 3) := dk_160 0 5 (dk_at dksX1_isOnRoute_0 17 rfl rfl)
theorem dX1_isOnRoute_20 : decode cX1_isOnRoute 20 = .ok (.iconst 1, 1) := dk_4 (dk_at dksX1_isOnRoute_0 20 rfl rfl)
theorem dX1_isOnRoute_21 : decode cX1_isOnRoute 21 = .ok (.ireturn, 1) := dk_172 (dk_at dksX1_isOnRoute_0 21 rfl rfl)
theorem dX1_isOnRoute_22 : decode cX1_isOnRoute 22 = .ok (.iinc 2 1, 3) := dk_132 2 1 (dk_at dksX1_isOnRoute_1 0 rfl rfl)
theorem dX1_isOnRoute_25 : decode cX1_isOnRoute 25 = .ok (.goto (-23), 3) := dk_167 255 233 (dk_at dksX1_isOnRoute_1 3 rfl rfl)
theorem dX1_isOnRoute_28 : decode cX1_isOnRoute 28 = .ok (.iconst 0, 1) := dk_3 (dk_at dksX1_isOnRoute_1 6 rfl rfl)
theorem dX1_isOnRoute_29 : decode cX1_isOnRoute 29 = .ok (.ireturn, 1) := dk_172 (dk_at dksX1_isOnRoute_1 7 rfl rfl)
abbrev cX1_bid : ByteArray := prog_1_method_48_code
def yX1_bid : MethodName := ⟨RX1, "bid", "(I)I"⟩
def dkwX1_bid_1 : List UInt8 := [172]
abbrev dktX1_bid_1 : List UInt8 := dkwX1_bid_1 ++ []
def dkwX1_bid_0 : List UInt8 := [27, 3, 42, 180, 0, 140, 4, 100, 184, 0, 212, 153, 0, 12, 42, 180, 0, 133, 27, 46, 167, 0, 4, 2]
abbrev dktX1_bid_0 : List UInt8 := dkwX1_bid_0 ++ dktX1_bid_1
theorem dksX1_bid_0 : cX1_bid.data.toList.drop 0 = dktX1_bid_0 := by decide +kernel
theorem dksX1_bid_1 : cX1_bid.data.toList.drop 24 = dktX1_bid_1 := dk_seg dksX1_bid_0 24 rfl rfl
theorem dX1_bid_0 : decode cX1_bid 0 = .ok (.iload_n 1, 1) := dk_27 (dk_at dksX1_bid_0 0 rfl rfl)
theorem dX1_bid_1 : decode cX1_bid 1 = .ok (.iconst 0, 1) := dk_3 (dk_at dksX1_bid_0 1 rfl rfl)
theorem dX1_bid_2 : decode cX1_bid 2 = .ok (.aload_n 0, 1) := dk_42 (dk_at dksX1_bid_0 2 rfl rfl)
theorem dX1_bid_3 : decode cX1_bid 3 = .ok (.getfield 140, 3) := dk_180 0 140 (dk_at dksX1_bid_0 3 rfl rfl)
theorem dX1_bid_6 : decode cX1_bid 6 = .ok (.iconst 1, 1) := dk_4 (dk_at dksX1_bid_0 6 rfl rfl)
theorem dX1_bid_7 : decode cX1_bid 7 = .ok (.isub, 1) := dk_100 (dk_at dksX1_bid_0 7 rfl rfl)
theorem dX1_bid_8 : decode cX1_bid 8 = .ok (.invokestatic 212, 3) := dk_184 0 212 (dk_at dksX1_bid_0 8 rfl rfl)
theorem dX1_bid_11 : decode cX1_bid 11 = .ok (.ifCond .eq 12, 3) := dk_153 0 12 (dk_at dksX1_bid_0 11 rfl rfl)
theorem dX1_bid_14 : decode cX1_bid 14 = .ok (.aload_n 0, 1) := dk_42 (dk_at dksX1_bid_0 14 rfl rfl)
theorem dX1_bid_15 : decode cX1_bid 15 = .ok (.getfield 133, 3) := dk_180 0 133 (dk_at dksX1_bid_0 15 rfl rfl)
theorem dX1_bid_18 : decode cX1_bid 18 = .ok (.iload_n 1, 1) := dk_27 (dk_at dksX1_bid_0 18 rfl rfl)
theorem dX1_bid_19 : decode cX1_bid 19 = .ok (.iaload, 1) := dk_46 (dk_at dksX1_bid_0 19 rfl rfl)
theorem dX1_bid_20 : decode cX1_bid 20 = .ok (.goto 4, 3) := dk_167 0 4 (dk_at dksX1_bid_0 20 rfl rfl)
theorem dX1_bid_23 : decode cX1_bid 23 = .ok (.iconst (-1), 1) := dk_2 (dk_at dksX1_bid_0 23 rfl rfl)
theorem dX1_bid_24 : decode cX1_bid 24 = .ok (.ireturn, 1) := dk_172 (dk_at dksX1_bid_1 0 rfl rfl)
abbrev cX1_cure : ByteArray := prog_1_method_49_code
def yX1_cure : MethodName := ⟨RX1, "cure", "(I)I"⟩
def dkwX1_cure_10 : List UInt8 := [42, 180, 0, 149, 3, 42, 180, 0, 146, 3, 6, 184, 1, 60, 29, 172]
abbrev dktX1_cure_10 : List UInt8 := dkwX1_cure_10 ++ []
def dkwX1_cure_9 : List UInt8 := [132, 5, 1, 167, 255, 86, 132, 4, 1, 167, 255, 65, 29, 2, 160, 0, 5, 2, 172, 42, 4, 181, 1, 173]
abbrev dktX1_cure_9 : List UInt8 := dkwX1_cure_9 ++ dktX1_cure_10
def dkwX1_cure_8 : List UInt8 := [167, 0, 16, 21, 7, 62, 42, 21, 6, 21, 4, 21, 5, 182, 1, 170, 132, 6, 1, 167, 255, 136]
abbrev dktX1_cure_8 : List UInt8 := dkwX1_cure_8 ++ dktX1_cure_9
def dkwX1_cure_7 : List UInt8 := [180, 1, 13, 153, 0, 12, 21, 6, 154, 0, 7, 4, 167, 0, 4, 3, 182, 1, 116, 154, 0, 6]
abbrev dktX1_cure_7 : List UInt8 := dkwX1_cure_7 ++ dktX1_cure_8
def dkwX1_cure_6 : List UInt8 := [29, 2, 159, 0, 9, 21, 7, 29, 162, 0, 54, 42, 180, 0, 80, 42, 182, 1, 105, 21, 5, 21, 4, 44]
abbrev dktX1_cure_6 : List UInt8 := dkwX1_cure_6 ++ dktX1_cure_7
def dkwX1_cure_5 : List UInt8 := [167, 0, 5, 16, 10, 96, 21, 5, 44, 180, 1, 4, 160, 0, 7, 3, 167, 0, 5, 16, 8, 96, 54, 7]
abbrev dktX1_cure_5 : List UInt8 := dkwX1_cure_5 ++ dktX1_cure_6
def dkwX1_cure_4 : List UInt8 := [5, 167, 0, 4, 4, 162, 0, 109, 8, 21, 6, 104, 21, 4, 44, 180, 1, 3, 160, 0, 7, 3]
abbrev dktX1_cure_4 : List UInt8 := dkwX1_cure_4 ++ dktX1_cure_5
def dkwX1_cure_3 : List UInt8 := [21, 5, 182, 0, 245, 2, 159, 0, 6, 167, 0, 129, 3, 54, 6, 21, 6, 44, 180, 1, 13, 153, 0, 7]
abbrev dktX1_cure_3 : List UInt8 := dkwX1_cure_3 ++ dktX1_cure_4
def dkwX1_cure_2 : List UInt8 := [180, 0, 209, 162, 0, 164, 21, 5, 44, 180, 1, 4, 159, 0, 23, 42, 180, 0, 87, 42, 180, 0, 80]
abbrev dktX1_cure_2 : List UInt8 := dkwX1_cure_2 ++ dktX1_cure_3
def dkwX1_cure_1 : List UInt8 := [54, 4, 21, 4, 42, 180, 0, 80, 180, 0, 216, 162, 0, 185, 3, 54, 5, 21, 5, 42, 180, 0, 80]
abbrev dktX1_cure_1 : List UInt8 := dkwX1_cure_1 ++ dktX1_cure_2
def dkwX1_cure_0 : List UInt8 := [42, 27, 182, 1, 124, 154, 0, 5, 2, 172, 42, 180, 0, 87, 180, 0, 229, 27, 50, 77, 2, 62, 3]
abbrev dktX1_cure_0 : List UInt8 := dkwX1_cure_0 ++ dktX1_cure_1
theorem dksX1_cure_0 : cX1_cure.data.toList.drop 0 = dktX1_cure_0 := by decide +kernel
theorem dksX1_cure_1 : cX1_cure.data.toList.drop 23 = dktX1_cure_1 := dk_seg dksX1_cure_0 23 rfl rfl
theorem dksX1_cure_2 : cX1_cure.data.toList.drop 46 = dktX1_cure_2 := dk_seg dksX1_cure_1 23 rfl rfl
theorem dksX1_cure_3 : cX1_cure.data.toList.drop 69 = dktX1_cure_3 := dk_seg dksX1_cure_2 23 rfl rfl
theorem dksX1_cure_4 : cX1_cure.data.toList.drop 93 = dktX1_cure_4 := dk_seg dksX1_cure_3 24 rfl rfl
theorem dksX1_cure_5 : cX1_cure.data.toList.drop 115 = dktX1_cure_5 := dk_seg dksX1_cure_4 22 rfl rfl
theorem dksX1_cure_6 : cX1_cure.data.toList.drop 139 = dktX1_cure_6 := dk_seg dksX1_cure_5 24 rfl rfl
theorem dksX1_cure_7 : cX1_cure.data.toList.drop 163 = dktX1_cure_7 := dk_seg dksX1_cure_6 24 rfl rfl
theorem dksX1_cure_8 : cX1_cure.data.toList.drop 185 = dktX1_cure_8 := dk_seg dksX1_cure_7 22 rfl rfl
theorem dksX1_cure_9 : cX1_cure.data.toList.drop 207 = dktX1_cure_9 := dk_seg dksX1_cure_8 22 rfl rfl
theorem dksX1_cure_10 : cX1_cure.data.toList.drop 231 = dktX1_cure_10 := dk_seg dksX1_cure_9 24 rfl rfl
theorem dX1_cure_0 : decode cX1_cure 0 = .ok (.aload_n 0, 1) := dk_42 (dk_at dksX1_cure_0 0 rfl rfl)
theorem dX1_cure_1 : decode cX1_cure 1 = .ok (.iload_n 1, 1) := dk_27 (dk_at dksX1_cure_0 1 rfl rfl)
theorem dX1_cure_2 : decode cX1_cure 2 = .ok (.invokevirtual 380, 3) := dk_182 1 124 (dk_at dksX1_cure_0 2 rfl rfl)
theorem dX1_cure_5 : decode cX1_cure 5 = .ok (.ifCond .ne 5, 3) := dk_154 0 5 (dk_at dksX1_cure_0 5 rfl rfl)
theorem dX1_cure_8 : decode cX1_cure 8 = .ok (.iconst (-1), 1) := dk_2 (dk_at dksX1_cure_0 8 rfl rfl)
theorem dX1_cure_9 : decode cX1_cure 9 = .ok (.ireturn, 1) := dk_172 (dk_at dksX1_cure_0 9 rfl rfl)
theorem dX1_cure_10 : decode cX1_cure 10 = .ok (.aload_n 0, 1) := dk_42 (dk_at dksX1_cure_0 10 rfl rfl)
theorem dX1_cure_11 : decode cX1_cure 11 = .ok (.getfield 87, 3) := dk_180 0 87 (dk_at dksX1_cure_0 11 rfl rfl)
theorem dX1_cure_14 : decode cX1_cure 14 = .ok (.getfield 229, 3) := dk_180 0 229 (dk_at dksX1_cure_0 14 rfl rfl)
theorem dX1_cure_17 : decode cX1_cure 17 = .ok (.iload_n 1, 1) := dk_27 (dk_at dksX1_cure_0 17 rfl rfl)
theorem dX1_cure_18 : decode cX1_cure 18 = .ok (.aaload, 1) := dk_50 (dk_at dksX1_cure_0 18 rfl rfl)
theorem dX1_cure_19 : decode cX1_cure 19 = .ok (.astore_n 2, 1) := dk_77 (dk_at dksX1_cure_0 19 rfl rfl)
theorem dX1_cure_20 : decode cX1_cure 20 = .ok (.iconst (-1), 1) := dk_2 (dk_at dksX1_cure_0 20 rfl rfl)
theorem dX1_cure_21 : decode cX1_cure 21 = .ok (.istore_n 3, 1) := dk_62 (dk_at dksX1_cure_0 21 rfl rfl)
theorem dX1_cure_22 : decode cX1_cure 22 = .ok (.iconst 0, 1) := dk_3 (dk_at dksX1_cure_0 22 rfl rfl)
theorem dX1_cure_23 : decode cX1_cure 23 = .ok (.istore 4, 2) := dk_54 4 (dk_at dksX1_cure_1 0 rfl rfl)
theorem dX1_cure_25 : decode cX1_cure 25 = .ok (.iload 4, 2) := dk_21 4 (dk_at dksX1_cure_1 2 rfl rfl)
theorem dX1_cure_27 : decode cX1_cure 27 = .ok (.aload_n 0, 1) := dk_42 (dk_at dksX1_cure_1 4 rfl rfl)
theorem dX1_cure_28 : decode cX1_cure 28 = .ok (.getfield 80, 3) := dk_180 0 80 (dk_at dksX1_cure_1 5 rfl rfl)
theorem dX1_cure_31 : decode cX1_cure 31 = .ok (.getfield 216, 3) := dk_180 0 216 (dk_at dksX1_cure_1 8 rfl rfl)
theorem dX1_cure_34 : decode cX1_cure 34 = .ok (.if_icmp .ge 185, 3) := dk_162 0 185 (dk_at dksX1_cure_1 11 rfl rfl)
theorem dX1_cure_37 : decode cX1_cure 37 = .ok (.iconst 0, 1) := dk_3 (dk_at dksX1_cure_1 14 rfl rfl)
theorem dX1_cure_38 : decode cX1_cure 38 = .ok (.istore 5, 2) := dk_54 5 (dk_at dksX1_cure_1 15 rfl rfl)
theorem dX1_cure_40 : decode cX1_cure 40 = .ok (.iload 5, 2) := dk_21 5 (dk_at dksX1_cure_1 17 rfl rfl)
theorem dX1_cure_42 : decode cX1_cure 42 = .ok (.aload_n 0, 1) := dk_42 (dk_at dksX1_cure_1 19 rfl rfl)
theorem dX1_cure_43 : decode cX1_cure 43 = .ok (.getfield 80, 3) := dk_180 0 80 (dk_at dksX1_cure_1 20 rfl rfl)
theorem dX1_cure_46 : decode cX1_cure 46 = .ok (.getfield 209, 3) := dk_180 0 209 (dk_at dksX1_cure_2 0 rfl rfl)
theorem dX1_cure_49 : decode cX1_cure 49 = .ok (.if_icmp .ge 164, 3) := dk_162 0 164 (dk_at dksX1_cure_2 3 rfl rfl)
theorem dX1_cure_52 : decode cX1_cure 52 = .ok (.iload 5, 2) := dk_21 5 (dk_at dksX1_cure_2 6 rfl rfl)
theorem dX1_cure_54 : decode cX1_cure 54 = .ok (.aload_n 2, 1) := dk_44 (dk_at dksX1_cure_2 8 rfl rfl)
theorem dX1_cure_55 : decode cX1_cure 55 = .ok (.getfield 260, 3) := dk_180 1 4 (dk_at dksX1_cure_2 9 rfl rfl)
theorem dX1_cure_58 : decode cX1_cure 58 = .ok (.if_icmp .eq 23, 3) := dk_159 0 23 (dk_at dksX1_cure_2 12 rfl rfl)
theorem dX1_cure_61 : decode cX1_cure 61 = .ok (.aload_n 0, 1) := dk_42 (dk_at dksX1_cure_2 15 rfl rfl)
theorem dX1_cure_62 : decode cX1_cure 62 = .ok (.getfield 87, 3) := dk_180 0 87 (dk_at dksX1_cure_2 16 rfl rfl)
theorem dX1_cure_65 : decode cX1_cure 65 = .ok (.aload_n 0, 1) := dk_42 (dk_at dksX1_cure_2 19 rfl rfl)
theorem dX1_cure_66 : decode cX1_cure 66 = .ok (.getfield 80, 3) := dk_180 0 80 (dk_at dksX1_cure_2 20 rfl rfl)
theorem dX1_cure_69 : decode cX1_cure 69 = .ok (.iload 5, 2) := dk_21 5 (dk_at dksX1_cure_3 0 rfl rfl)
theorem dX1_cure_71 : decode cX1_cure 71 = .ok (.invokevirtual 245, 3) := dk_182 0 245 (dk_at dksX1_cure_3 2 rfl rfl)
theorem dX1_cure_74 : decode cX1_cure 74 = .ok (.iconst (-1), 1) := dk_2 (dk_at dksX1_cure_3 5 rfl rfl)
theorem dX1_cure_75 : decode cX1_cure 75 = .ok (.if_icmp .eq 6, 3) := dk_159 0 6 (dk_at dksX1_cure_3 6 rfl rfl)
theorem dX1_cure_78 : decode cX1_cure 78 = .ok (.goto 129, 3) := dk_167 0 129 (dk_at dksX1_cure_3 9 rfl rfl)
theorem dX1_cure_81 : decode cX1_cure 81 = .ok (.iconst 0, 1) := dk_3 (dk_at dksX1_cure_3 12 rfl rfl)
theorem dX1_cure_82 : decode cX1_cure 82 = .ok (.istore 6, 2) := dk_54 6 (dk_at dksX1_cure_3 13 rfl rfl)
theorem dX1_cure_84 : decode cX1_cure 84 = .ok (.iload 6, 2) := dk_21 6 (dk_at dksX1_cure_3 15 rfl rfl)
theorem dX1_cure_86 : decode cX1_cure 86 = .ok (.aload_n 2, 1) := dk_44 (dk_at dksX1_cure_3 17 rfl rfl)
theorem dX1_cure_87 : decode cX1_cure 87 = .ok (.getfield 269, 3) := dk_180 1 13 (dk_at dksX1_cure_3 18 rfl rfl)
theorem dX1_cure_90 : decode cX1_cure 90 = .ok (.ifCond .eq 7, 3) := dk_153 0 7 (dk_at dksX1_cure_3 21 rfl rfl)
theorem dX1_cure_93 : decode cX1_cure 93 = .ok (.iconst 2, 1) := dk_5 (dk_at dksX1_cure_4 0 rfl rfl)
theorem dX1_cure_94 : decode cX1_cure 94 = .ok (.goto 4, 3) := dk_167 0 4 (dk_at dksX1_cure_4 1 rfl rfl)
theorem dX1_cure_97 : decode cX1_cure 97 = .ok (.iconst 1, 1) := dk_4 (dk_at dksX1_cure_4 4 rfl rfl)
theorem dX1_cure_98 : decode cX1_cure 98 = .ok (.if_icmp .ge 109, 3) := dk_162 0 109 (dk_at dksX1_cure_4 5 rfl rfl)
theorem dX1_cure_101 : decode cX1_cure 101 = .ok (.iconst 5, 1) := dk_8 (dk_at dksX1_cure_4 8 rfl rfl)
theorem dX1_cure_102 : decode cX1_cure 102 = .ok (.iload 6, 2) := dk_21 6 (dk_at dksX1_cure_4 9 rfl rfl)
theorem dX1_cure_104 : decode cX1_cure 104 = .ok (.imul, 1) := dk_104 (dk_at dksX1_cure_4 11 rfl rfl)
theorem dX1_cure_105 : decode cX1_cure 105 = .ok (.iload 4, 2) := dk_21 4 (dk_at dksX1_cure_4 12 rfl rfl)
theorem dX1_cure_107 : decode cX1_cure 107 = .ok (.aload_n 2, 1) := dk_44 (dk_at dksX1_cure_4 14 rfl rfl)
theorem dX1_cure_108 : decode cX1_cure 108 = .ok (.getfield 259, 3) := dk_180 1 3 (dk_at dksX1_cure_4 15 rfl rfl)
theorem dX1_cure_111 : decode cX1_cure 111 = .ok (.if_icmp .ne 7, 3) := dk_160 0 7 (dk_at dksX1_cure_4 18 rfl rfl)
theorem dX1_cure_114 : decode cX1_cure 114 = .ok (.iconst 0, 1) := dk_3 (dk_at dksX1_cure_4 21 rfl rfl)
theorem dX1_cure_115 : decode cX1_cure 115 = .ok (.goto 5, 3) := dk_167 0 5 (dk_at dksX1_cure_5 0 rfl rfl)
theorem dX1_cure_118 : decode cX1_cure 118 = .ok (.bipush 10, 2) := dk_16 10 (dk_at dksX1_cure_5 3 rfl rfl)
theorem dX1_cure_120 : decode cX1_cure 120 = .ok (.iadd, 1) := dk_96 (dk_at dksX1_cure_5 5 rfl rfl)
theorem dX1_cure_121 : decode cX1_cure 121 = .ok (.iload 5, 2) := dk_21 5 (dk_at dksX1_cure_5 6 rfl rfl)
theorem dX1_cure_123 : decode cX1_cure 123 = .ok (.aload_n 2, 1) := dk_44 (dk_at dksX1_cure_5 8 rfl rfl)
theorem dX1_cure_124 : decode cX1_cure 124 = .ok (.getfield 260, 3) := dk_180 1 4 (dk_at dksX1_cure_5 9 rfl rfl)
theorem dX1_cure_127 : decode cX1_cure 127 = .ok (.if_icmp .ne 7, 3) := dk_160 0 7 (dk_at dksX1_cure_5 12 rfl rfl)
theorem dX1_cure_130 : decode cX1_cure 130 = .ok (.iconst 0, 1) := dk_3 (dk_at dksX1_cure_5 15 rfl rfl)
theorem dX1_cure_131 : decode cX1_cure 131 = .ok (.goto 5, 3) := dk_167 0 5 (dk_at dksX1_cure_5 16 rfl rfl)
theorem dX1_cure_134 : decode cX1_cure 134 = .ok (.bipush 8, 2) := dk_16 8 (dk_at dksX1_cure_5 19 rfl rfl)
theorem dX1_cure_136 : decode cX1_cure 136 = .ok (.iadd, 1) := dk_96 (dk_at dksX1_cure_5 21 rfl rfl)
theorem dX1_cure_137 : decode cX1_cure 137 = .ok (.istore 7, 2) := dk_54 7 (dk_at dksX1_cure_5 22 rfl rfl)
theorem dX1_cure_139 : decode cX1_cure 139 = .ok (.iload_n 3, 1) := dk_29 (dk_at dksX1_cure_6 0 rfl rfl)
theorem dX1_cure_140 : decode cX1_cure 140 = .ok (.iconst (-1), 1) := dk_2 (dk_at dksX1_cure_6 1 rfl rfl)
theorem dX1_cure_141 : decode cX1_cure 141 = .ok (.if_icmp .eq 9, 3) := dk_159 0 9 (dk_at dksX1_cure_6 2 rfl rfl)
theorem dX1_cure_144 : decode cX1_cure 144 = .ok (.iload 7, 2) := dk_21 7 (dk_at dksX1_cure_6 5 rfl rfl)
theorem dX1_cure_146 : decode cX1_cure 146 = .ok (.iload_n 3, 1) := dk_29 (dk_at dksX1_cure_6 7 rfl rfl)
theorem dX1_cure_147 : decode cX1_cure 147 = .ok (.if_icmp .ge 54, 3) := dk_162 0 54 (dk_at dksX1_cure_6 8 rfl rfl)
theorem dX1_cure_150 : decode cX1_cure 150 = .ok (.aload_n 0, 1) := dk_42 (dk_at dksX1_cure_6 11 rfl rfl)
theorem dX1_cure_151 : decode cX1_cure 151 = .ok (.getfield 80, 3) := dk_180 0 80 (dk_at dksX1_cure_6 12 rfl rfl)
theorem dX1_cure_154 : decode cX1_cure 154 = .ok (.aload_n 0, 1) := dk_42 (dk_at dksX1_cure_6 15 rfl rfl)
theorem dX1_cure_155 : decode cX1_cure 155 = .ok (.invokevirtual 361, 3) := dk_182 1 105 (dk_at dksX1_cure_6 16 rfl rfl)
theorem dX1_cure_158 : decode cX1_cure 158 = .ok (.iload 5, 2) := dk_21 5 (dk_at dksX1_cure_6 19 rfl rfl)
theorem dX1_cure_160 : decode cX1_cure 160 = .ok (.iload 4, 2) := dk_21 4 (dk_at dksX1_cure_6 21 rfl rfl)
theorem dX1_cure_162 : decode cX1_cure 162 = .ok (.aload_n 2, 1) := dk_44 (dk_at dksX1_cure_6 23 rfl rfl)
theorem dX1_cure_163 : decode cX1_cure 163 = .ok (.getfield 269, 3) := dk_180 1 13 (dk_at dksX1_cure_7 0 rfl rfl)
theorem dX1_cure_166 : decode cX1_cure 166 = .ok (.ifCond .eq 12, 3) := dk_153 0 12 (dk_at dksX1_cure_7 3 rfl rfl)
theorem dX1_cure_169 : decode cX1_cure 169 = .ok (.iload 6, 2) := dk_21 6 (dk_at dksX1_cure_7 6 rfl rfl)
theorem dX1_cure_171 : decode cX1_cure 171 = .ok (.ifCond .ne 7, 3) := dk_154 0 7 (dk_at dksX1_cure_7 8 rfl rfl)
theorem dX1_cure_174 : decode cX1_cure 174 = .ok (.iconst 1, 1) := dk_4 (dk_at dksX1_cure_7 11 rfl rfl)
theorem dX1_cure_175 : decode cX1_cure 175 = .ok (.goto 4, 3) := dk_167 0 4 (dk_at dksX1_cure_7 12 rfl rfl)
theorem dX1_cure_178 : decode cX1_cure 178 = .ok (.iconst 0, 1) := dk_3 (dk_at dksX1_cure_7 15 rfl rfl)
theorem dX1_cure_179 : decode cX1_cure 179 = .ok (.invokevirtual 372, 3) := dk_182 1 116 (dk_at dksX1_cure_7 16 rfl rfl)
theorem dX1_cure_182 : decode cX1_cure 182 = .ok (.ifCond .ne 6, 3) := dk_154 0 6 (dk_at dksX1_cure_7 19 rfl rfl)
theorem dX1_cure_185 : decode cX1_cure 185 = .ok (.goto 16, 3) := dk_167 0 16 (dk_at dksX1_cure_8 0 rfl rfl)
theorem dX1_cure_188 : decode cX1_cure 188 = .ok (.iload 7, 2) := dk_21 7 (dk_at dksX1_cure_8 3 rfl rfl)
theorem dX1_cure_190 : decode cX1_cure 190 = .ok (.istore_n 3, 1) := dk_62 (dk_at dksX1_cure_8 5 rfl rfl)
theorem dX1_cure_191 : decode cX1_cure 191 = .ok (.aload_n 0, 1) := dk_42 (dk_at dksX1_cure_8 6 rfl rfl)
theorem dX1_cure_192 : decode cX1_cure 192 = .ok (.iload 6, 2) := dk_21 6 (dk_at dksX1_cure_8 7 rfl rfl)
theorem dX1_cure_194 : decode cX1_cure 194 = .ok (.iload 4, 2) := dk_21 4 (dk_at dksX1_cure_8 9 rfl rfl)
theorem dX1_cure_196 : decode cX1_cure 196 = .ok (.iload 5, 2) := dk_21 5 (dk_at dksX1_cure_8 11 rfl rfl)
theorem dX1_cure_198 : decode cX1_cure 198 = .ok (.invokevirtual 426, 3) := dk_182 1 170 (dk_at dksX1_cure_8 13 rfl rfl)
theorem dX1_cure_201 : decode cX1_cure 201 = .ok (.iinc 6 1, 3) := dk_132 6 1 (dk_at dksX1_cure_8 16 rfl rfl)
theorem dX1_cure_204 : decode cX1_cure 204 = .ok (.goto (-120), 3) := dk_167 255 136 (dk_at dksX1_cure_8 19 rfl rfl)
theorem dX1_cure_207 : decode cX1_cure 207 = .ok (.iinc 5 1, 3) := dk_132 5 1 (dk_at dksX1_cure_9 0 rfl rfl)
theorem dX1_cure_210 : decode cX1_cure 210 = .ok (.goto (-170), 3) := dk_167 255 86 (dk_at dksX1_cure_9 3 rfl rfl)
theorem dX1_cure_213 : decode cX1_cure 213 = .ok (.iinc 4 1, 3) := dk_132 4 1 (dk_at dksX1_cure_9 6 rfl rfl)
theorem dX1_cure_216 : decode cX1_cure 216 = .ok (.goto (-191), 3) := dk_167 255 65 (dk_at dksX1_cure_9 9 rfl rfl)
theorem dX1_cure_219 : decode cX1_cure 219 = .ok (.iload_n 3, 1) := dk_29 (dk_at dksX1_cure_9 12 rfl rfl)
theorem dX1_cure_220 : decode cX1_cure 220 = .ok (.iconst (-1), 1) := dk_2 (dk_at dksX1_cure_9 13 rfl rfl)
theorem dX1_cure_221 : decode cX1_cure 221 = .ok (.if_icmp .ne 5, 3) := dk_160 0 5 (dk_at dksX1_cure_9 14 rfl rfl)
theorem dX1_cure_224 : decode cX1_cure 224 = .ok (.iconst (-1), 1) := dk_2 (dk_at dksX1_cure_9 17 rfl rfl)
theorem dX1_cure_225 : decode cX1_cure 225 = .ok (.ireturn, 1) := dk_172 (dk_at dksX1_cure_9 18 rfl rfl)
theorem dX1_cure_226 : decode cX1_cure 226 = .ok (.aload_n 0, 1) := dk_42 (dk_at dksX1_cure_9 19 rfl rfl)
theorem dX1_cure_227 : decode cX1_cure 227 = .ok (.iconst 1, 1) := dk_4 (dk_at dksX1_cure_9 20 rfl rfl)
theorem dX1_cure_228 : decode cX1_cure 228 = .ok (.putfield 429, 3) := dk_181 1 173 (dk_at dksX1_cure_9 21 rfl rfl)
theorem dX1_cure_231 : decode cX1_cure 231 = .ok (.aload_n 0, 1) := dk_42 (dk_at dksX1_cure_10 0 rfl rfl)
theorem dX1_cure_232 : decode cX1_cure 232 = .ok (.getfield 149, 3) := dk_180 0 149 (dk_at dksX1_cure_10 1 rfl rfl)
theorem dX1_cure_235 : decode cX1_cure 235 = .ok (.iconst 0, 1) := dk_3 (dk_at dksX1_cure_10 4 rfl rfl)
theorem dX1_cure_236 : decode cX1_cure 236 = .ok (.aload_n 0, 1) := dk_42 (dk_at dksX1_cure_10 5 rfl rfl)
theorem dX1_cure_237 : decode cX1_cure 237 = .ok (.getfield 146, 3) := dk_180 0 146 (dk_at dksX1_cure_10 6 rfl rfl)
theorem dX1_cure_240 : decode cX1_cure 240 = .ok (.iconst 0, 1) := dk_3 (dk_at dksX1_cure_10 9 rfl rfl)
theorem dX1_cure_241 : decode cX1_cure 241 = .ok (.iconst 3, 1) := dk_6 (dk_at dksX1_cure_10 10 rfl rfl)
theorem dX1_cure_242 : decode cX1_cure 242 = .ok (.invokestatic 316, 3) := dk_184 1 60 (dk_at dksX1_cure_10 11 rfl rfl)
theorem dX1_cure_245 : decode cX1_cure 245 = .ok (.iload_n 3, 1) := dk_29 (dk_at dksX1_cure_10 14 rfl rfl)
theorem dX1_cure_246 : decode cX1_cure 246 = .ok (.ireturn, 1) := dk_172 (dk_at dksX1_cure_10 15 rfl rfl)
abbrev cX1_curedTried : ByteArray := prog_1_method_50_code
def yX1_curedTried : MethodName := ⟨RX1, "curedTried", "(III)V"⟩
def dkwX1_curedTried_0 : List UInt8 := [42, 180, 0, 149, 3, 27, 79, 42, 180, 0, 149, 4, 28, 79, 42, 180, 0, 149, 5, 29, 79, 177]
abbrev dktX1_curedTried_0 : List UInt8 := dkwX1_curedTried_0 ++ []
theorem dksX1_curedTried_0 : cX1_curedTried.data.toList.drop 0 = dktX1_curedTried_0 := by decide +kernel
theorem dX1_curedTried_0 : decode cX1_curedTried 0 = .ok (.aload_n 0, 1) := dk_42 (dk_at dksX1_curedTried_0 0 rfl rfl)
theorem dX1_curedTried_1 : decode cX1_curedTried 1 = .ok (.getfield 149, 3) := dk_180 0 149 (dk_at dksX1_curedTried_0 1 rfl rfl)
theorem dX1_curedTried_4 : decode cX1_curedTried 4 = .ok (.iconst 0, 1) := dk_3 (dk_at dksX1_curedTried_0 4 rfl rfl)
theorem dX1_curedTried_5 : decode cX1_curedTried 5 = .ok (.iload_n 1, 1) := dk_27 (dk_at dksX1_curedTried_0 5 rfl rfl)
theorem dX1_curedTried_6 : decode cX1_curedTried 6 = .ok (.iastore, 1) := dk_79 (dk_at dksX1_curedTried_0 6 rfl rfl)
theorem dX1_curedTried_7 : decode cX1_curedTried 7 = .ok (.aload_n 0, 1) := dk_42 (dk_at dksX1_curedTried_0 7 rfl rfl)
theorem dX1_curedTried_8 : decode cX1_curedTried 8 = .ok (.getfield 149, 3) := dk_180 0 149 (dk_at dksX1_curedTried_0 8 rfl rfl)
theorem dX1_curedTried_11 : decode cX1_curedTried 11 = .ok (.iconst 1, 1) := dk_4 (dk_at dksX1_curedTried_0 11 rfl rfl)
theorem dX1_curedTried_12 : decode cX1_curedTried 12 = .ok (.iload_n 2, 1) := dk_28 (dk_at dksX1_curedTried_0 12 rfl rfl)
theorem dX1_curedTried_13 : decode cX1_curedTried 13 = .ok (.iastore, 1) := dk_79 (dk_at dksX1_curedTried_0 13 rfl rfl)
theorem dX1_curedTried_14 : decode cX1_curedTried 14 = .ok (.aload_n 0, 1) := dk_42 (dk_at dksX1_curedTried_0 14 rfl rfl)
theorem dX1_curedTried_15 : decode cX1_curedTried 15 = .ok (.getfield 149, 3) := dk_180 0 149 (dk_at dksX1_curedTried_0 15 rfl rfl)
theorem dX1_curedTried_18 : decode cX1_curedTried 18 = .ok (.iconst 2, 1) := dk_5 (dk_at dksX1_curedTried_0 18 rfl rfl)
theorem dX1_curedTried_19 : decode cX1_curedTried 19 = .ok (.iload_n 3, 1) := dk_29 (dk_at dksX1_curedTried_0 19 rfl rfl)
theorem dX1_curedTried_20 : decode cX1_curedTried 20 = .ok (.iastore, 1) := dk_79 (dk_at dksX1_curedTried_0 20 rfl rfl)
theorem dX1_curedTried_21 : decode cX1_curedTried 21 = .ok (.return_, 1) := dk_177 (dk_at dksX1_curedTried_0 21 rfl rfl)
abbrev cX1_cured : ByteArray := prog_1_method_51_code
def yX1_cured : MethodName := ⟨RX1, "cured", "(I)I"⟩
def dkwX1_cured_1 : List UInt8 := [167, 0, 4, 2, 172]
abbrev dktX1_cured_1 : List UInt8 := dkwX1_cured_1 ++ []
def dkwX1_cured_0 : List UInt8 := [42, 180, 1, 173, 153, 0, 21, 27, 3, 5, 184, 0, 212, 153, 0, 12, 42, 180, 0, 146, 27, 46]
abbrev dktX1_cured_0 : List UInt8 := dkwX1_cured_0 ++ dktX1_cured_1
theorem dksX1_cured_0 : cX1_cured.data.toList.drop 0 = dktX1_cured_0 := by decide +kernel
theorem dksX1_cured_1 : cX1_cured.data.toList.drop 22 = dktX1_cured_1 := dk_seg dksX1_cured_0 22 rfl rfl
theorem dX1_cured_0 : decode cX1_cured 0 = .ok (.aload_n 0, 1) := dk_42 (dk_at dksX1_cured_0 0 rfl rfl)
theorem dX1_cured_1 : decode cX1_cured 1 = .ok (.getfield 429, 3) := dk_180 1 173 (dk_at dksX1_cured_0 1 rfl rfl)
theorem dX1_cured_4 : decode cX1_cured 4 = .ok (.ifCond .eq 21, 3) := dk_153 0 21 (dk_at dksX1_cured_0 4 rfl rfl)
theorem dX1_cured_7 : decode cX1_cured 7 = .ok (.iload_n 1, 1) := dk_27 (dk_at dksX1_cured_0 7 rfl rfl)
theorem dX1_cured_8 : decode cX1_cured 8 = .ok (.iconst 0, 1) := dk_3 (dk_at dksX1_cured_0 8 rfl rfl)
theorem dX1_cured_9 : decode cX1_cured 9 = .ok (.iconst 2, 1) := dk_5 (dk_at dksX1_cured_0 9 rfl rfl)
theorem dX1_cured_10 : decode cX1_cured 10 = .ok (.invokestatic 212, 3) := dk_184 0 212 (dk_at dksX1_cured_0 10 rfl rfl)
theorem dX1_cured_13 : decode cX1_cured 13 = .ok (.ifCond .eq 12, 3) := dk_153 0 12 (dk_at dksX1_cured_0 13 rfl rfl)
theorem dX1_cured_16 : decode cX1_cured 16 = .ok (.aload_n 0, 1) := dk_42 (dk_at dksX1_cured_0 16 rfl rfl)
theorem dX1_cured_17 : decode cX1_cured 17 = .ok (.getfield 146, 3) := dk_180 0 146 (dk_at dksX1_cured_0 17 rfl rfl)
theorem dX1_cured_20 : decode cX1_cured 20 = .ok (.iload_n 1, 1) := dk_27 (dk_at dksX1_cured_0 20 rfl rfl)
theorem dX1_cured_21 : decode cX1_cured 21 = .ok (.iaload, 1) := dk_46 (dk_at dksX1_cured_0 21 rfl rfl)
theorem dX1_cured_22 : decode cX1_cured 22 = .ok (.goto 4, 3) := dk_167 0 4 (dk_at dksX1_cured_1 0 rfl rfl)
theorem dX1_cured_25 : decode cX1_cured 25 = .ok (.iconst (-1), 1) := dk_2 (dk_at dksX1_cured_1 3 rfl rfl)
theorem dX1_cured_26 : decode cX1_cured 26 = .ok (.ireturn, 1) := dk_172 (dk_at dksX1_cured_1 4 rfl rfl)
abbrev cX1_taste : ByteArray := prog_1_method_53_code
def yX1_taste : MethodName := ⟨RX1, "taste", "(I)I"⟩
def dkwX1_taste_12 : List UInt8 := [167, 0, 13, 21, 7, 54, 5, 42, 21, 6, 181, 1, 188, 132, 6, 1, 167, 255, 169, 28, 172]
abbrev dktX1_taste_12 : List UInt8 := dkwX1_taste_12 ++ []
def dkwX1_taste_11 : List UInt8 := [104, 100, 184, 1, 100, 54, 7, 42, 180, 1, 188, 2, 159, 0, 13, 21, 7, 21, 5, 161, 0, 6]
abbrev dktX1_taste_11 : List UInt8 := dkwX1_taste_11 ++ dktX1_taste_12
def dkwX1_taste_10 : List UInt8 := [153, 0, 6, 167, 0, 56, 28, 5, 25, 4, 42, 180, 0, 87, 180, 0, 229, 21, 6, 50, 180, 1, 3, 46]
abbrev dktX1_taste_10 : List UInt8 := dkwX1_taste_10 ++ dktX1_taste_11
def dkwX1_taste_9 : List UInt8 := [180, 0, 80, 180, 0, 219, 162, 0, 81, 42, 180, 0, 87, 180, 0, 229, 21, 6, 50, 182, 0, 233]
abbrev dktX1_taste_9 : List UInt8 := dkwX1_taste_9 ++ dktX1_taste_10
def dkwX1_taste_8 : List UInt8 := [4, 181, 1, 182, 42, 29, 181, 1, 185, 42, 2, 181, 1, 188, 3, 54, 5, 3, 54, 6, 21, 6, 42]
abbrev dktX1_taste_8 : List UInt8 := dkwX1_taste_8 ++ dktX1_taste_9
def dkwX1_taste_7 : List UInt8 := [92, 46, 4, 96, 79, 132, 6, 1, 167, 255, 222, 132, 5, 1, 167, 255, 179, 28, 154, 0, 5, 3, 172, 42]
abbrev dktX1_taste_7 : List UInt8 := dkwX1_taste_7 ++ dktX1_taste_8
def dkwX1_taste_6 : List UInt8 := [42, 180, 0, 80, 180, 0, 216, 162, 0, 28, 21, 5, 21, 6, 184, 1, 132, 153, 0, 12, 25, 4, 21, 6]
abbrev dktX1_taste_6 : List UInt8 := dkwX1_taste_6 ++ dktX1_taste_7
def dkwX1_taste_5 : List UInt8 := [21, 5, 182, 1, 179, 154, 0, 6, 167, 0, 51, 132, 2, 1, 29, 21, 5, 126, 62, 3, 54, 6, 21, 6]
abbrev dktX1_taste_5 : List UInt8 := dkwX1_taste_5 ++ dktX1_taste_6
def dkwX1_taste_4 : List UInt8 := [62, 8, 188, 10, 58, 4, 3, 54, 5, 21, 5, 4, 42, 180, 0, 80, 180, 0, 216, 120, 162, 0, 69, 42]
abbrev dktX1_taste_4 : List UInt8 := dkwX1_taste_4 ++ dktX1_taste_5
def dkwX1_taste_3 : List UInt8 := [164, 0, 5, 2, 172, 132, 2, 2, 167, 255, 220, 3, 61, 4, 42, 180, 0, 80, 180, 0, 216, 120, 4, 100]
abbrev dktX1_taste_3 : List UInt8 := dkwX1_taste_3 ++ dktX1_taste_4
def dkwX1_taste_2 : List UInt8 := [162, 0, 34, 42, 42, 28, 182, 1, 176, 182, 0, 225, 153, 0, 14, 42, 28, 4, 96, 182, 1, 176, 4]
abbrev dktX1_taste_2 : List UInt8 := dkwX1_taste_2 ++ dktX1_taste_3
def dkwX1_taste_1 : List UInt8 := [153, 0, 13, 42, 180, 0, 178, 5, 112, 4, 160, 0, 5, 2, 172, 3, 61, 28, 42, 180, 0, 178]
abbrev dktX1_taste_1 : List UInt8 := dkwX1_taste_1 ++ dktX1_taste_2
def dkwX1_taste_0 : List UInt8 := [42, 182, 0, 184, 42, 27, 182, 1, 18, 153, 0, 26, 42, 180, 0, 178, 5, 16, 40, 184, 0, 212]
abbrev dktX1_taste_0 : List UInt8 := dkwX1_taste_0 ++ dktX1_taste_1
theorem dksX1_taste_0 : cX1_taste.data.toList.drop 0 = dktX1_taste_0 := by decide +kernel
theorem dksX1_taste_1 : cX1_taste.data.toList.drop 22 = dktX1_taste_1 := dk_seg dksX1_taste_0 22 rfl rfl
theorem dksX1_taste_2 : cX1_taste.data.toList.drop 44 = dktX1_taste_2 := dk_seg dksX1_taste_1 22 rfl rfl
theorem dksX1_taste_3 : cX1_taste.data.toList.drop 67 = dktX1_taste_3 := dk_seg dksX1_taste_2 23 rfl rfl
theorem dksX1_taste_4 : cX1_taste.data.toList.drop 91 = dktX1_taste_4 := dk_seg dksX1_taste_3 24 rfl rfl
theorem dksX1_taste_5 : cX1_taste.data.toList.drop 115 = dktX1_taste_5 := dk_seg dksX1_taste_4 24 rfl rfl
theorem dksX1_taste_6 : cX1_taste.data.toList.drop 139 = dktX1_taste_6 := dk_seg dksX1_taste_5 24 rfl rfl
theorem dksX1_taste_7 : cX1_taste.data.toList.drop 163 = dktX1_taste_7 := dk_seg dksX1_taste_6 24 rfl rfl
theorem dksX1_taste_8 : cX1_taste.data.toList.drop 187 = dktX1_taste_8 := dk_seg dksX1_taste_7 24 rfl rfl
theorem dksX1_taste_9 : cX1_taste.data.toList.drop 210 = dktX1_taste_9 := dk_seg dksX1_taste_8 23 rfl rfl
theorem dksX1_taste_10 : cX1_taste.data.toList.drop 232 = dktX1_taste_10 := dk_seg dksX1_taste_9 22 rfl rfl
theorem dksX1_taste_11 : cX1_taste.data.toList.drop 256 = dktX1_taste_11 := dk_seg dksX1_taste_10 24 rfl rfl
theorem dksX1_taste_12 : cX1_taste.data.toList.drop 278 = dktX1_taste_12 := dk_seg dksX1_taste_11 22 rfl rfl
theorem dX1_taste_0 : decode cX1_taste 0 = .ok (.aload_n 0, 1) := dk_42 (dk_at dksX1_taste_0 0 rfl rfl)
theorem dX1_taste_1 : decode cX1_taste 1 = .ok (.invokevirtual 184, 3) := dk_182 0 184 (dk_at dksX1_taste_0 1 rfl rfl)
theorem dX1_taste_4 : decode cX1_taste 4 = .ok (.aload_n 0, 1) := dk_42 (dk_at dksX1_taste_0 4 rfl rfl)
theorem dX1_taste_5 : decode cX1_taste 5 = .ok (.iload_n 1, 1) := dk_27 (dk_at dksX1_taste_0 5 rfl rfl)
theorem dX1_taste_6 : decode cX1_taste 6 = .ok (.invokevirtual 274, 3) := dk_182 1 18 (dk_at dksX1_taste_0 6 rfl rfl)
theorem dX1_taste_9 : decode cX1_taste 9 = .ok (.ifCond .eq 26, 3) := dk_153 0 26 (dk_at dksX1_taste_0 9 rfl rfl)
theorem dX1_taste_12 : decode cX1_taste 12 = .ok (.aload_n 0, 1) := dk_42 (dk_at dksX1_taste_0 12 rfl rfl)
theorem dX1_taste_13 : decode cX1_taste 13 = .ok (.getfield 178, 3) := dk_180 0 178 (dk_at dksX1_taste_0 13 rfl rfl)
theorem dX1_taste_16 : decode cX1_taste 16 = .ok (.iconst 2, 1) := dk_5 (dk_at dksX1_taste_0 16 rfl rfl)
theorem dX1_taste_17 : decode cX1_taste 17 = .ok (.bipush 40, 2) := dk_16 40 (dk_at dksX1_taste_0 17 rfl rfl)
theorem dX1_taste_19 : decode cX1_taste 19 = .ok (.invokestatic 212, 3) := dk_184 0 212 (dk_at dksX1_taste_0 19 rfl rfl)
theorem dX1_taste_22 : decode cX1_taste 22 = .ok (.ifCond .eq 13, 3) := dk_153 0 13 (dk_at dksX1_taste_1 0 rfl rfl)
theorem dX1_taste_25 : decode cX1_taste 25 = .ok (.aload_n 0, 1) := dk_42 (dk_at dksX1_taste_1 3 rfl rfl)
theorem dX1_taste_26 : decode cX1_taste 26 = .ok (.getfield 178, 3) := dk_180 0 178 (dk_at dksX1_taste_1 4 rfl rfl)
theorem dX1_taste_29 : decode cX1_taste 29 = .ok (.iconst 2, 1) := dk_5 (dk_at dksX1_taste_1 7 rfl rfl)
theorem dX1_taste_30 : decode cX1_taste 30 = .ok (.irem, 1) := dk_112 (dk_at dksX1_taste_1 8 rfl rfl)
theorem dX1_taste_31 : decode cX1_taste 31 = .ok (.iconst 1, 1) := dk_4 (dk_at dksX1_taste_1 9 rfl rfl)
theorem dX1_taste_32 : decode cX1_taste 32 = .ok (.if_icmp .ne 5, 3) := dk_160 0 5 (dk_at dksX1_taste_1 10 rfl rfl)
theorem dX1_taste_35 : decode cX1_taste 35 = .ok (.iconst (-1), 1) := dk_2 (dk_at dksX1_taste_1 13 rfl rfl)
theorem dX1_taste_36 : decode cX1_taste 36 = .ok (.ireturn, 1) := dk_172 (dk_at dksX1_taste_1 14 rfl rfl)
theorem dX1_taste_37 : decode cX1_taste 37 = .ok (.iconst 0, 1) := dk_3 (dk_at dksX1_taste_1 15 rfl rfl)
theorem dX1_taste_38 : decode cX1_taste 38 = .ok (.istore_n 2, 1) := dk_61 (dk_at dksX1_taste_1 16 rfl rfl)
theorem dX1_taste_39 : decode cX1_taste 39 = .ok (.iload_n 2, 1) := dk_28 (dk_at dksX1_taste_1 17 rfl rfl)
theorem dX1_taste_40 : decode cX1_taste 40 = .ok (.aload_n 0, 1) := dk_42 (dk_at dksX1_taste_1 18 rfl rfl)
theorem dX1_taste_41 : decode cX1_taste 41 = .ok (.getfield 178, 3) := dk_180 0 178 (dk_at dksX1_taste_1 19 rfl rfl)
theorem dX1_taste_44 : decode cX1_taste 44 = .ok (.if_icmp .ge 34, 3) := dk_162 0 34 (dk_at dksX1_taste_2 0 rfl rfl)
theorem dX1_taste_47 : decode cX1_taste 47 = .ok (.aload_n 0, 1) := dk_42 (dk_at dksX1_taste_2 3 rfl rfl)
theorem dX1_taste_48 : decode cX1_taste 48 = .ok (.aload_n 0, 1) := dk_42 (dk_at dksX1_taste_2 4 rfl rfl)
theorem dX1_taste_49 : decode cX1_taste 49 = .ok (.iload_n 2, 1) := dk_28 (dk_at dksX1_taste_2 5 rfl rfl)
theorem dX1_taste_50 : decode cX1_taste 50 = .ok (.invokevirtual 432, 3) := dk_182 1 176 (dk_at dksX1_taste_2 6 rfl rfl)
theorem dX1_taste_53 : decode cX1_taste 53 = .ok (.invokevirtual 225, 3) := dk_182 0 225 (dk_at dksX1_taste_2 9 rfl rfl)
theorem dX1_taste_56 : decode cX1_taste 56 = .ok (.ifCond .eq 14, 3) := dk_153 0 14 (dk_at dksX1_taste_2 12 rfl rfl)
theorem dX1_taste_59 : decode cX1_taste 59 = .ok (.aload_n 0, 1) := dk_42 (dk_at dksX1_taste_2 15 rfl rfl)
theorem dX1_taste_60 : decode cX1_taste 60 = .ok (.iload_n 2, 1) := dk_28 (dk_at dksX1_taste_2 16 rfl rfl)
theorem dX1_taste_61 : decode cX1_taste 61 = .ok (.iconst 1, 1) := dk_4 (dk_at dksX1_taste_2 17 rfl rfl)
theorem dX1_taste_62 : decode cX1_taste 62 = .ok (.iadd, 1) := dk_96 (dk_at dksX1_taste_2 18 rfl rfl)
theorem dX1_taste_63 : decode cX1_taste 63 = .ok (.invokevirtual 432, 3) := dk_182 1 176 (dk_at dksX1_taste_2 19 rfl rfl)
theorem dX1_taste_66 : decode cX1_taste 66 = .ok (.iconst 1, 1) := dk_4 (dk_at dksX1_taste_2 22 rfl rfl)
theorem dX1_taste_67 : decode cX1_taste 67 = .ok (.if_icmp .le 5, 3) := dk_164 0 5 (dk_at dksX1_taste_3 0 rfl rfl)
theorem dX1_taste_70 : decode cX1_taste 70 = .ok (.iconst (-1), 1) := dk_2 (dk_at dksX1_taste_3 3 rfl rfl)
theorem dX1_taste_71 : decode cX1_taste 71 = .ok (.ireturn, 1) := dk_172 (dk_at dksX1_taste_3 4 rfl rfl)
theorem dX1_taste_72 : decode cX1_taste 72 = .ok (.iinc 2 2, 3) := dk_132 2 2 (dk_at dksX1_taste_3 5 rfl rfl)
theorem dX1_taste_75 : decode cX1_taste 75 = .ok (.goto (-36), 3) := dk_167 255 220 (dk_at dksX1_taste_3 8 rfl rfl)
theorem dX1_taste_78 : decode cX1_taste 78 = .ok (.iconst 0, 1) := dk_3 (dk_at dksX1_taste_3 11 rfl rfl)
theorem dX1_taste_79 : decode cX1_taste 79 = .ok (.istore_n 2, 1) := dk_61 (dk_at dksX1_taste_3 12 rfl rfl)
theorem dX1_taste_80 : decode cX1_taste 80 = .ok (.iconst 1, 1) := dk_4 (dk_at dksX1_taste_3 13 rfl rfl)
theorem dX1_taste_81 : decode cX1_taste 81 = .ok (.aload_n 0, 1) := dk_42 (dk_at dksX1_taste_3 14 rfl rfl)
theorem dX1_taste_82 : decode cX1_taste 82 = .ok (.getfield 80, 3) := dk_180 0 80 (dk_at dksX1_taste_3 15 rfl rfl)
theorem dX1_taste_85 : decode cX1_taste 85 = .ok (.getfield 216, 3) := dk_180 0 216 (dk_at dksX1_taste_3 18 rfl rfl)
theorem dX1_taste_88 : decode cX1_taste 88 = .ok (.ishl, 1) := dk_120 (dk_at dksX1_taste_3 21 rfl rfl)
theorem dX1_taste_89 : decode cX1_taste 89 = .ok (.iconst 1, 1) := dk_4 (dk_at dksX1_taste_3 22 rfl rfl)
theorem dX1_taste_90 : decode cX1_taste 90 = .ok (.isub, 1) := dk_100 (dk_at dksX1_taste_3 23 rfl rfl)
theorem dX1_taste_91 : decode cX1_taste 91 = .ok (.istore_n 3, 1) := dk_62 (dk_at dksX1_taste_4 0 rfl rfl)
theorem dX1_taste_92 : decode cX1_taste 92 = .ok (.iconst 5, 1) := dk_8 (dk_at dksX1_taste_4 1 rfl rfl)
theorem dX1_taste_93 : decode cX1_taste 93 = .ok (.newarray .int, 2) := dk_188_10 (dk_at dksX1_taste_4 2 rfl rfl)
theorem dX1_taste_95 : decode cX1_taste 95 = .ok (.astore 4, 2) := dk_58 4 (dk_at dksX1_taste_4 4 rfl rfl)
theorem dX1_taste_97 : decode cX1_taste 97 = .ok (.iconst 0, 1) := dk_3 (dk_at dksX1_taste_4 6 rfl rfl)
theorem dX1_taste_98 : decode cX1_taste 98 = .ok (.istore 5, 2) := dk_54 5 (dk_at dksX1_taste_4 7 rfl rfl)
theorem dX1_taste_100 : decode cX1_taste 100 = .ok (.iload 5, 2) := dk_21 5 (dk_at dksX1_taste_4 9 rfl rfl)
theorem dX1_taste_102 : decode cX1_taste 102 = .ok (.iconst 1, 1) := dk_4 (dk_at dksX1_taste_4 11 rfl rfl)
theorem dX1_taste_103 : decode cX1_taste 103 = .ok (.aload_n 0, 1) := dk_42 (dk_at dksX1_taste_4 12 rfl rfl)
theorem dX1_taste_104 : decode cX1_taste 104 = .ok (.getfield 80, 3) := dk_180 0 80 (dk_at dksX1_taste_4 13 rfl rfl)
theorem dX1_taste_107 : decode cX1_taste 107 = .ok (.getfield 216, 3) := dk_180 0 216 (dk_at dksX1_taste_4 16 rfl rfl)
theorem dX1_taste_110 : decode cX1_taste 110 = .ok (.ishl, 1) := dk_120 (dk_at dksX1_taste_4 19 rfl rfl)
theorem dX1_taste_111 : decode cX1_taste 111 = .ok (.if_icmp .ge 69, 3) := dk_162 0 69 (dk_at dksX1_taste_4 20 rfl rfl)
theorem dX1_taste_114 : decode cX1_taste 114 = .ok (.aload_n 0, 1) := dk_42 (dk_at dksX1_taste_4 23 rfl rfl)
theorem dX1_taste_115 : decode cX1_taste 115 = .ok (.iload 5, 2) := dk_21 5 (dk_at dksX1_taste_5 0 rfl rfl)
theorem dX1_taste_117 : decode cX1_taste 117 = .ok (.invokevirtual 435, 3) := dk_182 1 179 (dk_at dksX1_taste_5 2 rfl rfl)
theorem dX1_taste_120 : decode cX1_taste 120 = .ok (.ifCond .ne 6, 3) := dk_154 0 6 (dk_at dksX1_taste_5 5 rfl rfl)
theorem dX1_taste_123 : decode cX1_taste 123 = .ok (.goto 51, 3) := dk_167 0 51 (dk_at dksX1_taste_5 8 rfl rfl)
theorem dX1_taste_126 : decode cX1_taste 126 = .ok (.iinc 2 1, 3) := dk_132 2 1 (dk_at dksX1_taste_5 11 rfl rfl)
theorem dX1_taste_129 : decode cX1_taste 129 = .ok (.iload_n 3, 1) := dk_29 (dk_at dksX1_taste_5 14 rfl rfl)
theorem dX1_taste_130 : decode cX1_taste 130 = .ok (.iload 5, 2) := dk_21 5 (dk_at dksX1_taste_5 15 rfl rfl)
theorem dX1_taste_132 : decode cX1_taste 132 = .ok (.iand, 1) := dk_126 (dk_at dksX1_taste_5 17 rfl rfl)
theorem dX1_taste_133 : decode cX1_taste 133 = .ok (.istore_n 3, 1) := dk_62 (dk_at dksX1_taste_5 18 rfl rfl)
theorem dX1_taste_134 : decode cX1_taste 134 = .ok (.iconst 0, 1) := dk_3 (dk_at dksX1_taste_5 19 rfl rfl)
theorem dX1_taste_135 : decode cX1_taste 135 = .ok (.istore 6, 2) := dk_54 6 (dk_at dksX1_taste_5 20 rfl rfl)
theorem dX1_taste_137 : decode cX1_taste 137 = .ok (.iload 6, 2) := dk_21 6 (dk_at dksX1_taste_5 22 rfl rfl)
theorem dX1_taste_139 : decode cX1_taste 139 = .ok (.aload_n 0, 1) := dk_42 (dk_at dksX1_taste_6 0 rfl rfl)
theorem dX1_taste_140 : decode cX1_taste 140 = .ok (.getfield 80, 3) := dk_180 0 80 (dk_at dksX1_taste_6 1 rfl rfl)
theorem dX1_taste_143 : decode cX1_taste 143 = .ok (.getfield 216, 3) := dk_180 0 216 (dk_at dksX1_taste_6 4 rfl rfl)
theorem dX1_taste_146 : decode cX1_taste 146 = .ok (.if_icmp .ge 28, 3) := dk_162 0 28 (dk_at dksX1_taste_6 7 rfl rfl)
theorem dX1_taste_149 : decode cX1_taste 149 = .ok (.iload 5, 2) := dk_21 5 (dk_at dksX1_taste_6 10 rfl rfl)
theorem dX1_taste_151 : decode cX1_taste 151 = .ok (.iload 6, 2) := dk_21 6 (dk_at dksX1_taste_6 12 rfl rfl)
theorem dX1_taste_153 : decode cX1_taste 153 = .ok (.invokestatic 388, 3) := dk_184 1 132 (dk_at dksX1_taste_6 14 rfl rfl)
theorem dX1_taste_156 : decode cX1_taste 156 = .ok (.ifCond .eq 12, 3) := dk_153 0 12 (dk_at dksX1_taste_6 17 rfl rfl)
theorem dX1_taste_159 : decode cX1_taste 159 = .ok (.aload 4, 2) := dk_25 4 (dk_at dksX1_taste_6 20 rfl rfl)
theorem dX1_taste_161 : decode cX1_taste 161 = .ok (.iload 6, 2) := dk_21 6 (dk_at dksX1_taste_6 22 rfl rfl)
theorem dX1_taste_163 : decode cX1_taste 163 = .ok (.dup2, 1) := dk_92 (dk_at dksX1_taste_7 0 rfl rfl)
theorem dX1_taste_164 : decode cX1_taste 164 = .ok (.iaload, 1) := dk_46 (dk_at dksX1_taste_7 1 rfl rfl)
theorem dX1_taste_165 : decode cX1_taste 165 = .ok (.iconst 1, 1) := dk_4 (dk_at dksX1_taste_7 2 rfl rfl)
theorem dX1_taste_166 : decode cX1_taste 166 = .ok (.iadd, 1) := dk_96 (dk_at dksX1_taste_7 3 rfl rfl)
theorem dX1_taste_167 : decode cX1_taste 167 = .ok (.iastore, 1) := dk_79 (dk_at dksX1_taste_7 4 rfl rfl)
theorem dX1_taste_168 : decode cX1_taste 168 = .ok (.iinc 6 1, 3) := dk_132 6 1 (dk_at dksX1_taste_7 5 rfl rfl)
theorem dX1_taste_171 : decode cX1_taste 171 = .ok (.goto (-34), 3) := dk_167 255 222 (dk_at dksX1_taste_7 8 rfl rfl)
theorem dX1_taste_174 : decode cX1_taste 174 = .ok (.iinc 5 1, 3) := dk_132 5 1 (dk_at dksX1_taste_7 11 rfl rfl)
theorem dX1_taste_177 : decode cX1_taste 177 = .ok (.goto (-77), 3) := dk_167 255 179 (dk_at dksX1_taste_7 14 rfl rfl)
theorem dX1_taste_180 : decode cX1_taste 180 = .ok (.iload_n 2, 1) := dk_28 (dk_at dksX1_taste_7 17 rfl rfl)
theorem dX1_taste_181 : decode cX1_taste 181 = .ok (.ifCond .ne 5, 3) := dk_154 0 5 (dk_at dksX1_taste_7 18 rfl rfl)
theorem dX1_taste_184 : decode cX1_taste 184 = .ok (.iconst 0, 1) := dk_3 (dk_at dksX1_taste_7 21 rfl rfl)
theorem dX1_taste_185 : decode cX1_taste 185 = .ok (.ireturn, 1) := dk_172 (dk_at dksX1_taste_7 22 rfl rfl)
theorem dX1_taste_186 : decode cX1_taste 186 = .ok (.aload_n 0, 1) := dk_42 (dk_at dksX1_taste_7 23 rfl rfl)
theorem dX1_taste_187 : decode cX1_taste 187 = .ok (.iconst 1, 1) := dk_4 (dk_at dksX1_taste_8 0 rfl rfl)
theorem dX1_taste_188 : decode cX1_taste 188 = .ok (.putfield 438, 3) := dk_181 1 182 (dk_at dksX1_taste_8 1 rfl rfl)
theorem dX1_taste_191 : decode cX1_taste 191 = .ok (.aload_n 0, 1) := dk_42 (dk_at dksX1_taste_8 4 rfl rfl)
theorem dX1_taste_192 : decode cX1_taste 192 = .ok (.iload_n 3, 1) := dk_29 (dk_at dksX1_taste_8 5 rfl rfl)
theorem dX1_taste_193 : decode cX1_taste 193 = .ok (.putfield 441, 3) := dk_181 1 185 (dk_at dksX1_taste_8 6 rfl rfl)
theorem dX1_taste_196 : decode cX1_taste 196 = .ok (.aload_n 0, 1) := dk_42 (dk_at dksX1_taste_8 9 rfl rfl)
theorem dX1_taste_197 : decode cX1_taste 197 = .ok (.iconst (-1), 1) := dk_2 (dk_at dksX1_taste_8 10 rfl rfl)
theorem dX1_taste_198 : decode cX1_taste 198 = .ok (.putfield 444, 3) := dk_181 1 188 (dk_at dksX1_taste_8 11 rfl rfl)
theorem dX1_taste_201 : decode cX1_taste 201 = .ok (.iconst 0, 1) := dk_3 (dk_at dksX1_taste_8 14 rfl rfl)
theorem dX1_taste_202 : decode cX1_taste 202 = .ok (.istore 5, 2) := dk_54 5 (dk_at dksX1_taste_8 15 rfl rfl)
theorem dX1_taste_204 : decode cX1_taste 204 = .ok (.iconst 0, 1) := dk_3 (dk_at dksX1_taste_8 17 rfl rfl)
theorem dX1_taste_205 : decode cX1_taste 205 = .ok (.istore 6, 2) := dk_54 6 (dk_at dksX1_taste_8 18 rfl rfl)
theorem dX1_taste_207 : decode cX1_taste 207 = .ok (.iload 6, 2) := dk_21 6 (dk_at dksX1_taste_8 20 rfl rfl)
theorem dX1_taste_209 : decode cX1_taste 209 = .ok (.aload_n 0, 1) := dk_42 (dk_at dksX1_taste_8 22 rfl rfl)
theorem dX1_taste_210 : decode cX1_taste 210 = .ok (.getfield 80, 3) := dk_180 0 80 (dk_at dksX1_taste_9 0 rfl rfl)
theorem dX1_taste_213 : decode cX1_taste 213 = .ok (.getfield 219, 3) := dk_180 0 219 (dk_at dksX1_taste_9 3 rfl rfl)
theorem dX1_taste_216 : decode cX1_taste 216 = .ok (.if_icmp .ge 81, 3) := dk_162 0 81 (dk_at dksX1_taste_9 6 rfl rfl)
theorem dX1_taste_219 : decode cX1_taste 219 = .ok (.aload_n 0, 1) := dk_42 (dk_at dksX1_taste_9 9 rfl rfl)
theorem dX1_taste_220 : decode cX1_taste 220 = .ok (.getfield 87, 3) := dk_180 0 87 (dk_at dksX1_taste_9 10 rfl rfl)
theorem dX1_taste_223 : decode cX1_taste 223 = .ok (.getfield 229, 3) := dk_180 0 229 (dk_at dksX1_taste_9 13 rfl rfl)
theorem dX1_taste_226 : decode cX1_taste 226 = .ok (.iload 6, 2) := dk_21 6 (dk_at dksX1_taste_9 16 rfl rfl)
theorem dX1_taste_228 : decode cX1_taste 228 = .ok (.aaload, 1) := dk_50 (dk_at dksX1_taste_9 18 rfl rfl)
theorem dX1_taste_229 : decode cX1_taste 229 = .ok (.invokevirtual 233, 3) := dk_182 0 233 (dk_at dksX1_taste_9 19 rfl rfl)
theorem dX1_taste_232 : decode cX1_taste 232 = .ok (.ifCond .eq 6, 3) := dk_153 0 6 (dk_at dksX1_taste_10 0 rfl rfl)
theorem dX1_taste_235 : decode cX1_taste 235 = .ok (.goto 56, 3) := dk_167 0 56 (dk_at dksX1_taste_10 3 rfl rfl)
theorem dX1_taste_238 : decode cX1_taste 238 = .ok (.iload_n 2, 1) := dk_28 (dk_at dksX1_taste_10 6 rfl rfl)
theorem dX1_taste_239 : decode cX1_taste 239 = .ok (.iconst 2, 1) := dk_5 (dk_at dksX1_taste_10 7 rfl rfl)
theorem dX1_taste_240 : decode cX1_taste 240 = .ok (.aload 4, 2) := dk_25 4 (dk_at dksX1_taste_10 8 rfl rfl)
theorem dX1_taste_242 : decode cX1_taste 242 = .ok (.aload_n 0, 1) := dk_42 (dk_at dksX1_taste_10 10 rfl rfl)
theorem dX1_taste_243 : decode cX1_taste 243 = .ok (.getfield 87, 3) := dk_180 0 87 (dk_at dksX1_taste_10 11 rfl rfl)
theorem dX1_taste_246 : decode cX1_taste 246 = .ok (.getfield 229, 3) := dk_180 0 229 (dk_at dksX1_taste_10 14 rfl rfl)
theorem dX1_taste_249 : decode cX1_taste 249 = .ok (.iload 6, 2) := dk_21 6 (dk_at dksX1_taste_10 17 rfl rfl)
theorem dX1_taste_251 : decode cX1_taste 251 = .ok (.aaload, 1) := dk_50 (dk_at dksX1_taste_10 19 rfl rfl)
theorem dX1_taste_252 : decode cX1_taste 252 = .ok (.getfield 259, 3) := dk_180 1 3 (dk_at dksX1_taste_10 20 rfl rfl)
theorem dX1_taste_255 : decode cX1_taste 255 = .ok (.iaload, 1) := dk_46 (dk_at dksX1_taste_10 23 rfl rfl)
theorem dX1_taste_256 : decode cX1_taste 256 = .ok (.imul, 1) := dk_104 (dk_at dksX1_taste_11 0 rfl rfl)
theorem dX1_taste_257 : decode cX1_taste 257 = .ok (.isub, 1) := dk_100 (dk_at dksX1_taste_11 1 rfl rfl)
theorem dX1_taste_258 : decode cX1_taste 258 = .ok (.invokestatic 356, 3) := dk_184 1 100 (dk_at dksX1_taste_11 2 rfl rfl)
theorem dX1_taste_261 : decode cX1_taste 261 = .ok (.istore 7, 2) := dk_54 7 (dk_at dksX1_taste_11 5 rfl rfl)
theorem dX1_taste_263 : decode cX1_taste 263 = .ok (.aload_n 0, 1) := dk_42 (dk_at dksX1_taste_11 7 rfl rfl)
theorem dX1_taste_264 : decode cX1_taste 264 = .ok (.getfield 444, 3) := dk_180 1 188 (dk_at dksX1_taste_11 8 rfl rfl)
theorem dX1_taste_267 : decode cX1_taste 267 = .ok (.iconst (-1), 1) := dk_2 (dk_at dksX1_taste_11 11 rfl rfl)
theorem dX1_taste_268 : decode cX1_taste 268 = .ok (.if_icmp .eq 13, 3) := dk_159 0 13 (dk_at dksX1_taste_11 12 rfl rfl)
theorem dX1_taste_271 : decode cX1_taste 271 = .ok (.iload 7, 2) := dk_21 7 (dk_at dksX1_taste_11 15 rfl rfl)
theorem dX1_taste_273 : decode cX1_taste 273 = .ok (.iload 5, 2) := dk_21 5 (dk_at dksX1_taste_11 17 rfl rfl)
theorem dX1_taste_275 : decode cX1_taste 275 = .ok (.if_icmp .lt 6, 3) := dk_161 0 6 (dk_at dksX1_taste_11 19 rfl rfl)
theorem dX1_taste_278 : decode cX1_taste 278 = .ok (.goto 13, 3) := dk_167 0 13 (dk_at dksX1_taste_12 0 rfl rfl)
theorem dX1_taste_281 : decode cX1_taste 281 = .ok (.iload 7, 2) := dk_21 7 (dk_at dksX1_taste_12 3 rfl rfl)
theorem dX1_taste_283 : decode cX1_taste 283 = .ok (.istore 5, 2) := dk_54 5 (dk_at dksX1_taste_12 5 rfl rfl)
theorem dX1_taste_285 : decode cX1_taste 285 = .ok (.aload_n 0, 1) := dk_42 (dk_at dksX1_taste_12 7 rfl rfl)
theorem dX1_taste_286 : decode cX1_taste 286 = .ok (.iload 6, 2) := dk_21 6 (dk_at dksX1_taste_12 8 rfl rfl)
theorem dX1_taste_288 : decode cX1_taste 288 = .ok (.putfield 444, 3) := dk_181 1 188 (dk_at dksX1_taste_12 10 rfl rfl)
theorem dX1_taste_291 : decode cX1_taste 291 = .ok (.iinc 6 1, 3) := dk_132 6 1 (dk_at dksX1_taste_12 13 rfl rfl)
theorem dX1_taste_294 : decode cX1_taste 294 = .ok (.goto (-87), 3) := dk_167 255 169 (dk_at dksX1_taste_12 16 rfl rfl)
theorem dX1_taste_297 : decode cX1_taste 297 = .ok (.iload_n 2, 1) := dk_28 (dk_at dksX1_taste_12 19 rfl rfl)
theorem dX1_taste_298 : decode cX1_taste 298 = .ok (.ireturn, 1) := dk_172 (dk_at dksX1_taste_12 20 rfl rfl)
abbrev cX1_one : ByteArray := prog_1_method_6_code
def yX1_one : MethodName := ⟨RX1, "one", "(I)I"⟩
def dkwX1_one_0 : List UInt8 := [42, 180, 0, 9, 27, 51, 17, 0, 255, 126, 172]
abbrev dktX1_one_0 : List UInt8 := dkwX1_one_0 ++ []
theorem dksX1_one_0 : cX1_one.data.toList.drop 0 = dktX1_one_0 := by decide +kernel
theorem dX1_one_0 : decode cX1_one 0 = .ok (.aload_n 0, 1) := dk_42 (dk_at dksX1_one_0 0 rfl rfl)
theorem dX1_one_1 : decode cX1_one 1 = .ok (.getfield 9, 3) := dk_180 0 9 (dk_at dksX1_one_0 1 rfl rfl)
theorem dX1_one_4 : decode cX1_one 4 = .ok (.iload_n 1, 1) := dk_27 (dk_at dksX1_one_0 4 rfl rfl)
theorem dX1_one_5 : decode cX1_one 5 = .ok (.baload, 1) := dk_51 (dk_at dksX1_one_0 5 rfl rfl)
theorem dX1_one_6 : decode cX1_one 6 = .ok (.sipush 255, 3) := dk_17 0 255 (dk_at dksX1_one_0 6 rfl rfl)
theorem dX1_one_9 : decode cX1_one 9 = .ok (.iand, 1) := dk_126 (dk_at dksX1_one_0 9 rfl rfl)
theorem dX1_one_10 : decode cX1_one 10 = .ok (.ireturn, 1) := dk_172 (dk_at dksX1_one_0 10 rfl rfl)
abbrev cX1_isTaste : ByteArray := prog_1_method_52_code
def yX1_isTaste : MethodName := ⟨RX1, "isTaste", "(I)Z"⟩
def dkwX1_isTaste_2 : List UInt8 := [159, 0, 5, 3, 172, 132, 2, 2, 167, 255, 204, 4, 172]
abbrev dktX1_isTaste_2 : List UInt8 := dkwX1_isTaste_2 ++ []
def dkwX1_isTaste_1 : List UInt8 := [180, 1, 3, 184, 1, 132, 42, 28, 4, 96, 182, 1, 176, 4, 160, 0, 7, 4, 167, 0, 4, 3]
abbrev dktX1_isTaste_1 : List UInt8 := dkwX1_isTaste_1 ++ dktX1_isTaste_2
def dkwX1_isTaste_0 : List UInt8 := [3, 61, 28, 42, 180, 0, 178, 162, 0, 50, 27, 42, 180, 0, 87, 180, 0, 229, 42, 28, 182, 1, 176, 50]
abbrev dktX1_isTaste_0 : List UInt8 := dkwX1_isTaste_0 ++ dktX1_isTaste_1
theorem dksX1_isTaste_0 : cX1_isTaste.data.toList.drop 0 = dktX1_isTaste_0 := by decide +kernel
theorem dksX1_isTaste_1 : cX1_isTaste.data.toList.drop 24 = dktX1_isTaste_1 := dk_seg dksX1_isTaste_0 24 rfl rfl
theorem dksX1_isTaste_2 : cX1_isTaste.data.toList.drop 46 = dktX1_isTaste_2 := dk_seg dksX1_isTaste_1 22 rfl rfl
theorem dX1_isTaste_0 : decode cX1_isTaste 0 = .ok (.iconst 0, 1) := dk_3 (dk_at dksX1_isTaste_0 0 rfl rfl)
theorem dX1_isTaste_1 : decode cX1_isTaste 1 = .ok (.istore_n 2, 1) := dk_61 (dk_at dksX1_isTaste_0 1 rfl rfl)
theorem dX1_isTaste_2 : decode cX1_isTaste 2 = .ok (.iload_n 2, 1) := dk_28 (dk_at dksX1_isTaste_0 2 rfl rfl)
theorem dX1_isTaste_3 : decode cX1_isTaste 3 = .ok (.aload_n 0, 1) := dk_42 (dk_at dksX1_isTaste_0 3 rfl rfl)
theorem dX1_isTaste_4 : decode cX1_isTaste 4 = .ok (.getfield 178, 3) := dk_180 0 178 (dk_at dksX1_isTaste_0 4 rfl rfl)
theorem dX1_isTaste_7 : decode cX1_isTaste 7 = .ok (.if_icmp .ge 50, 3) := dk_162 0 50 (dk_at dksX1_isTaste_0 7 rfl rfl)
theorem dX1_isTaste_10 : decode cX1_isTaste 10 = .ok (.iload_n 1, 1) := dk_27 (dk_at dksX1_isTaste_0 10 rfl rfl)
theorem dX1_isTaste_11 : decode cX1_isTaste 11 = .ok (.aload_n 0, 1) := dk_42 (dk_at dksX1_isTaste_0 11 rfl rfl)
theorem dX1_isTaste_12 : decode cX1_isTaste 12 = .ok (.getfield 87, 3) := dk_180 0 87 (dk_at dksX1_isTaste_0 12 rfl rfl)
theorem dX1_isTaste_15 : decode cX1_isTaste 15 = .ok (.getfield 229, 3) := dk_180 0 229 (dk_at dksX1_isTaste_0 15 rfl rfl)
theorem dX1_isTaste_18 : decode cX1_isTaste 18 = .ok (.aload_n 0, 1) := dk_42 (dk_at dksX1_isTaste_0 18 rfl rfl)
theorem dX1_isTaste_19 : decode cX1_isTaste 19 = .ok (.iload_n 2, 1) := dk_28 (dk_at dksX1_isTaste_0 19 rfl rfl)
theorem dX1_isTaste_20 : decode cX1_isTaste 20 = .ok (.invokevirtual 432, 3) := dk_182 1 176 (dk_at dksX1_isTaste_0 20 rfl rfl)
theorem dX1_isTaste_23 : decode cX1_isTaste 23 = .ok (.aaload, 1) := dk_50 (dk_at dksX1_isTaste_0 23 rfl rfl)
theorem dX1_isTaste_24 : decode cX1_isTaste 24 = .ok (.getfield 259, 3) := dk_180 1 3 (dk_at dksX1_isTaste_1 0 rfl rfl)
theorem dX1_isTaste_27 : decode cX1_isTaste 27 = .ok (.invokestatic 388, 3) := dk_184 1 132 (dk_at dksX1_isTaste_1 3 rfl rfl)
theorem dX1_isTaste_30 : decode cX1_isTaste 30 = .ok (.aload_n 0, 1) := dk_42 (dk_at dksX1_isTaste_1 6 rfl rfl)
theorem dX1_isTaste_31 : decode cX1_isTaste 31 = .ok (.iload_n 2, 1) := dk_28 (dk_at dksX1_isTaste_1 7 rfl rfl)
theorem dX1_isTaste_32 : decode cX1_isTaste 32 = .ok (.iconst 1, 1) := dk_4 (dk_at dksX1_isTaste_1 8 rfl rfl)
theorem dX1_isTaste_33 : decode cX1_isTaste 33 = .ok (.iadd, 1) := dk_96 (dk_at dksX1_isTaste_1 9 rfl rfl)
theorem dX1_isTaste_34 : decode cX1_isTaste 34 = .ok (.invokevirtual 432, 3) := dk_182 1 176 (dk_at dksX1_isTaste_1 10 rfl rfl)
theorem dX1_isTaste_37 : decode cX1_isTaste 37 = .ok (.iconst 1, 1) := dk_4 (dk_at dksX1_isTaste_1 13 rfl rfl)
theorem dX1_isTaste_38 : decode cX1_isTaste 38 = .ok (.if_icmp .ne 7, 3) := dk_160 0 7 (dk_at dksX1_isTaste_1 14 rfl rfl)
theorem dX1_isTaste_41 : decode cX1_isTaste 41 = .ok (.iconst 1, 1) := dk_4 (dk_at dksX1_isTaste_1 17 rfl rfl)
theorem dX1_isTaste_42 : decode cX1_isTaste 42 = .ok (.goto 4, 3) := dk_167 0 4 (dk_at dksX1_isTaste_1 18 rfl rfl)
theorem dX1_isTaste_45 : decode cX1_isTaste 45 = .ok (.iconst 0, 1) := dk_3 (dk_at dksX1_isTaste_1 21 rfl rfl)
theorem dX1_isTaste_46 : decode cX1_isTaste 46 = .ok (.if_icmp .eq 5, 3) := dk_159 0 5 (dk_at dksX1_isTaste_2 0 rfl rfl)
theorem dX1_isTaste_49 : decode cX1_isTaste 49 = .ok (.iconst 0, 1) := dk_3 (dk_at dksX1_isTaste_2 3 rfl rfl)
theorem dX1_isTaste_50 : decode cX1_isTaste 50 = .ok (.ireturn, 1) := dk_172 (dk_at dksX1_isTaste_2 4 rfl rfl)
theorem dX1_isTaste_51 : decode cX1_isTaste 51 = .ok (.iinc 2 2, 3) := dk_132 2 2 (dk_at dksX1_isTaste_2 5 rfl rfl)
theorem dX1_isTaste_54 : decode cX1_isTaste 54 = .ok (.goto (-52), 3) := dk_167 255 204 (dk_at dksX1_isTaste_2 8 rfl rfl)
theorem dX1_isTaste_57 : decode cX1_isTaste 57 = .ok (.iconst 1, 1) := dk_4 (dk_at dksX1_isTaste_2 11 rfl rfl)
theorem dX1_isTaste_58 : decode cX1_isTaste 58 = .ok (.ireturn, 1) := dk_172 (dk_at dksX1_isTaste_2 12 rfl rfl)
abbrev cX1_surely : ByteArray := prog_1_method_54_code
def yX1_surely : MethodName := ⟨RX1, "surely", "()I"⟩
def dkwX1_surely_0 : List UInt8 := [42, 180, 1, 182, 153, 0, 10, 42, 180, 1, 185, 167, 0, 4, 2, 172]
abbrev dktX1_surely_0 : List UInt8 := dkwX1_surely_0 ++ []
theorem dksX1_surely_0 : cX1_surely.data.toList.drop 0 = dktX1_surely_0 := by decide +kernel
theorem dX1_surely_0 : decode cX1_surely 0 = .ok (.aload_n 0, 1) := dk_42 (dk_at dksX1_surely_0 0 rfl rfl)
theorem dX1_surely_1 : decode cX1_surely 1 = .ok (.getfield 438, 3) := dk_180 1 182 (dk_at dksX1_surely_0 1 rfl rfl)
theorem dX1_surely_4 : decode cX1_surely 4 = .ok (.ifCond .eq 10, 3) := dk_153 0 10 (dk_at dksX1_surely_0 4 rfl rfl)
theorem dX1_surely_7 : decode cX1_surely 7 = .ok (.aload_n 0, 1) := dk_42 (dk_at dksX1_surely_0 7 rfl rfl)
theorem dX1_surely_8 : decode cX1_surely 8 = .ok (.getfield 441, 3) := dk_180 1 185 (dk_at dksX1_surely_0 8 rfl rfl)
theorem dX1_surely_11 : decode cX1_surely 11 = .ok (.goto 4, 3) := dk_167 0 4 (dk_at dksX1_surely_0 11 rfl rfl)
theorem dX1_surely_14 : decode cX1_surely 14 = .ok (.iconst (-1), 1) := dk_2 (dk_at dksX1_surely_0 14 rfl rfl)
theorem dX1_surely_15 : decode cX1_surely 15 = .ok (.ireturn, 1) := dk_172 (dk_at dksX1_surely_0 15 rfl rfl)
abbrev cX1_tells : ByteArray := prog_1_method_55_code
def yX1_tells : MethodName := ⟨RX1, "tells", "()I"⟩
def dkwX1_tells_0 : List UInt8 := [42, 180, 1, 182, 153, 0, 10, 42, 180, 1, 188, 167, 0, 4, 2, 172]
abbrev dktX1_tells_0 : List UInt8 := dkwX1_tells_0 ++ []
theorem dksX1_tells_0 : cX1_tells.data.toList.drop 0 = dktX1_tells_0 := by decide +kernel
theorem dX1_tells_0 : decode cX1_tells 0 = .ok (.aload_n 0, 1) := dk_42 (dk_at dksX1_tells_0 0 rfl rfl)
theorem dX1_tells_1 : decode cX1_tells 1 = .ok (.getfield 438, 3) := dk_180 1 182 (dk_at dksX1_tells_0 1 rfl rfl)
theorem dX1_tells_4 : decode cX1_tells 4 = .ok (.ifCond .eq 10, 3) := dk_153 0 10 (dk_at dksX1_tells_0 4 rfl rfl)
theorem dX1_tells_7 : decode cX1_tells 7 = .ok (.aload_n 0, 1) := dk_42 (dk_at dksX1_tells_0 7 rfl rfl)
theorem dX1_tells_8 : decode cX1_tells 8 = .ok (.getfield 444, 3) := dk_180 1 188 (dk_at dksX1_tells_0 8 rfl rfl)
theorem dX1_tells_11 : decode cX1_tells 11 = .ok (.goto 4, 3) := dk_167 0 4 (dk_at dksX1_tells_0 11 rfl rfl)
theorem dX1_tells_14 : decode cX1_tells 14 = .ok (.iconst (-1), 1) := dk_2 (dk_at dksX1_tells_0 14 rfl rfl)
theorem dX1_tells_15 : decode cX1_tells 15 = .ok (.ireturn, 1) := dk_172 (dk_at dksX1_tells_0 15 rfl rfl)
abbrev cX1_plot : ByteArray := prog_1_method_56_code
def yX1_plot : MethodName := ⟨RX1, "plot", "(I)I"⟩
def dkwX1_plot_3 : List UInt8 := [160, 0, 5, 2, 172, 42, 4, 181, 1, 194, 42, 28, 181, 1, 197, 28, 184, 1, 191, 172]
abbrev dktX1_plot_3 : List UInt8 := dkwX1_plot_3 ++ []
def dkwX1_plot_2 : List UInt8 := [29, 2, 130, 126, 182, 1, 120, 153, 0, 6, 167, 0, 5, 29, 61, 132, 3, 1, 167, 255, 204, 28, 2]
abbrev dktX1_plot_2 : List UInt8 := dkwX1_plot_2 ++ dktX1_plot_3
def dkwX1_plot_1 : List UInt8 := [159, 0, 14, 29, 184, 1, 191, 28, 184, 1, 191, 162, 0, 28, 42, 42, 180, 0, 87, 27, 42, 182, 1, 105]
abbrev dktX1_plot_1 : List UInt8 := dkwX1_plot_1 ++ dktX1_plot_2
def dkwX1_plot_0 : List UInt8 := [42, 27, 182, 1, 124, 154, 0, 5, 2, 172, 2, 61, 3, 62, 29, 42, 182, 1, 105, 163, 0, 50, 28, 2]
abbrev dktX1_plot_0 : List UInt8 := dkwX1_plot_0 ++ dktX1_plot_1
theorem dksX1_plot_0 : cX1_plot.data.toList.drop 0 = dktX1_plot_0 := by decide +kernel
theorem dksX1_plot_1 : cX1_plot.data.toList.drop 24 = dktX1_plot_1 := dk_seg dksX1_plot_0 24 rfl rfl
theorem dksX1_plot_2 : cX1_plot.data.toList.drop 48 = dktX1_plot_2 := dk_seg dksX1_plot_1 24 rfl rfl
theorem dksX1_plot_3 : cX1_plot.data.toList.drop 71 = dktX1_plot_3 := dk_seg dksX1_plot_2 23 rfl rfl
theorem dX1_plot_0 : decode cX1_plot 0 = .ok (.aload_n 0, 1) := dk_42 (dk_at dksX1_plot_0 0 rfl rfl)
theorem dX1_plot_1 : decode cX1_plot 1 = .ok (.iload_n 1, 1) := dk_27 (dk_at dksX1_plot_0 1 rfl rfl)
theorem dX1_plot_2 : decode cX1_plot 2 = .ok (.invokevirtual 380, 3) := dk_182 1 124 (dk_at dksX1_plot_0 2 rfl rfl)
theorem dX1_plot_5 : decode cX1_plot 5 = .ok (.ifCond .ne 5, 3) := dk_154 0 5 (dk_at dksX1_plot_0 5 rfl rfl)
theorem dX1_plot_8 : decode cX1_plot 8 = .ok (.iconst (-1), 1) := dk_2 (dk_at dksX1_plot_0 8 rfl rfl)
theorem dX1_plot_9 : decode cX1_plot 9 = .ok (.ireturn, 1) := dk_172 (dk_at dksX1_plot_0 9 rfl rfl)
theorem dX1_plot_10 : decode cX1_plot 10 = .ok (.iconst (-1), 1) := dk_2 (dk_at dksX1_plot_0 10 rfl rfl)
theorem dX1_plot_11 : decode cX1_plot 11 = .ok (.istore_n 2, 1) := dk_61 (dk_at dksX1_plot_0 11 rfl rfl)
theorem dX1_plot_12 : decode cX1_plot 12 = .ok (.iconst 0, 1) := dk_3 (dk_at dksX1_plot_0 12 rfl rfl)
theorem dX1_plot_13 : decode cX1_plot 13 = .ok (.istore_n 3, 1) := dk_62 (dk_at dksX1_plot_0 13 rfl rfl)
theorem dX1_plot_14 : decode cX1_plot 14 = .ok (.iload_n 3, 1) := dk_29 (dk_at dksX1_plot_0 14 rfl rfl)
theorem dX1_plot_15 : decode cX1_plot 15 = .ok (.aload_n 0, 1) := dk_42 (dk_at dksX1_plot_0 15 rfl rfl)
theorem dX1_plot_16 : decode cX1_plot 16 = .ok (.invokevirtual 361, 3) := dk_182 1 105 (dk_at dksX1_plot_0 16 rfl rfl)
theorem dX1_plot_19 : decode cX1_plot 19 = .ok (.if_icmp .gt 50, 3) := dk_163 0 50 (dk_at dksX1_plot_0 19 rfl rfl)
theorem dX1_plot_22 : decode cX1_plot 22 = .ok (.iload_n 2, 1) := dk_28 (dk_at dksX1_plot_0 22 rfl rfl)
theorem dX1_plot_23 : decode cX1_plot 23 = .ok (.iconst (-1), 1) := dk_2 (dk_at dksX1_plot_0 23 rfl rfl)
theorem dX1_plot_24 : decode cX1_plot 24 = .ok (.if_icmp .eq 14, 3) := dk_159 0 14 (dk_at dksX1_plot_1 0 rfl rfl)
theorem dX1_plot_27 : decode cX1_plot 27 = .ok (.iload_n 3, 1) := dk_29 (dk_at dksX1_plot_1 3 rfl rfl)
theorem dX1_plot_28 : decode cX1_plot 28 = .ok (.invokestatic 447, 3) := dk_184 1 191 (dk_at dksX1_plot_1 4 rfl rfl)
theorem dX1_plot_31 : decode cX1_plot 31 = .ok (.iload_n 2, 1) := dk_28 (dk_at dksX1_plot_1 7 rfl rfl)
theorem dX1_plot_32 : decode cX1_plot 32 = .ok (.invokestatic 447, 3) := dk_184 1 191 (dk_at dksX1_plot_1 8 rfl rfl)
theorem dX1_plot_35 : decode cX1_plot 35 = .ok (.if_icmp .ge 28, 3) := dk_162 0 28 (dk_at dksX1_plot_1 11 rfl rfl)
theorem dX1_plot_38 : decode cX1_plot 38 = .ok (.aload_n 0, 1) := dk_42 (dk_at dksX1_plot_1 14 rfl rfl)
theorem dX1_plot_39 : decode cX1_plot 39 = .ok (.aload_n 0, 1) := dk_42 (dk_at dksX1_plot_1 15 rfl rfl)
theorem dX1_plot_40 : decode cX1_plot 40 = .ok (.getfield 87, 3) := dk_180 0 87 (dk_at dksX1_plot_1 16 rfl rfl)
theorem dX1_plot_43 : decode cX1_plot 43 = .ok (.iload_n 1, 1) := dk_27 (dk_at dksX1_plot_1 19 rfl rfl)
theorem dX1_plot_44 : decode cX1_plot 44 = .ok (.aload_n 0, 1) := dk_42 (dk_at dksX1_plot_1 20 rfl rfl)
theorem dX1_plot_45 : decode cX1_plot 45 = .ok (.invokevirtual 361, 3) := dk_182 1 105 (dk_at dksX1_plot_1 21 rfl rfl)
theorem dX1_plot_48 : decode cX1_plot 48 = .ok (.iload_n 3, 1) := dk_29 (dk_at dksX1_plot_2 0 rfl rfl)
theorem dX1_plot_49 : decode cX1_plot 49 = .ok (.iconst (-1), 1) := dk_2 (dk_at dksX1_plot_2 1 rfl rfl)
theorem dX1_plot_50 : decode cX1_plot 50 = .ok (.ixor, 1) := dk_130 (dk_at dksX1_plot_2 2 rfl rfl)
theorem dX1_plot_51 : decode cX1_plot 51 = .ok (.iand, 1) := dk_126 (dk_at dksX1_plot_2 3 rfl rfl)
theorem dX1_plot_52 : decode cX1_plot 52 = .ok (.invokevirtual 376, 3) := dk_182 1 120 (dk_at dksX1_plot_2 4 rfl rfl)
theorem dX1_plot_55 : decode cX1_plot 55 = .ok (.ifCond .eq 6, 3) := dk_153 0 6 (dk_at dksX1_plot_2 7 rfl rfl)
theorem dX1_plot_58 : decode cX1_plot 58 = .ok (.goto 5, 3) := dk_167 0 5 (dk_at dksX1_plot_2 10 rfl rfl)
theorem dX1_plot_61 : decode cX1_plot 61 = .ok (.iload_n 3, 1) := dk_29 (dk_at dksX1_plot_2 13 rfl rfl)
theorem dX1_plot_62 : decode cX1_plot 62 = .ok (.istore_n 2, 1) := dk_61 (dk_at dksX1_plot_2 14 rfl rfl)
theorem dX1_plot_63 : decode cX1_plot 63 = .ok (.iinc 3 1, 3) := dk_132 3 1 (dk_at dksX1_plot_2 15 rfl rfl)
theorem dX1_plot_66 : decode cX1_plot 66 = .ok (.goto (-52), 3) := dk_167 255 204 (dk_at dksX1_plot_2 18 rfl rfl)
theorem dX1_plot_69 : decode cX1_plot 69 = .ok (.iload_n 2, 1) := dk_28 (dk_at dksX1_plot_2 21 rfl rfl)
theorem dX1_plot_70 : decode cX1_plot 70 = .ok (.iconst (-1), 1) := dk_2 (dk_at dksX1_plot_2 22 rfl rfl)
theorem dX1_plot_71 : decode cX1_plot 71 = .ok (.if_icmp .ne 5, 3) := dk_160 0 5 (dk_at dksX1_plot_3 0 rfl rfl)
theorem dX1_plot_74 : decode cX1_plot 74 = .ok (.iconst (-1), 1) := dk_2 (dk_at dksX1_plot_3 3 rfl rfl)
theorem dX1_plot_75 : decode cX1_plot 75 = .ok (.ireturn, 1) := dk_172 (dk_at dksX1_plot_3 4 rfl rfl)
theorem dX1_plot_76 : decode cX1_plot 76 = .ok (.aload_n 0, 1) := dk_42 (dk_at dksX1_plot_3 5 rfl rfl)
theorem dX1_plot_77 : decode cX1_plot 77 = .ok (.iconst 1, 1) := dk_4 (dk_at dksX1_plot_3 6 rfl rfl)
theorem dX1_plot_78 : decode cX1_plot 78 = .ok (.putfield 450, 3) := dk_181 1 194 (dk_at dksX1_plot_3 7 rfl rfl)
theorem dX1_plot_81 : decode cX1_plot 81 = .ok (.aload_n 0, 1) := dk_42 (dk_at dksX1_plot_3 10 rfl rfl)
theorem dX1_plot_82 : decode cX1_plot 82 = .ok (.iload_n 2, 1) := dk_28 (dk_at dksX1_plot_3 11 rfl rfl)
theorem dX1_plot_83 : decode cX1_plot 83 = .ok (.putfield 453, 3) := dk_181 1 197 (dk_at dksX1_plot_3 12 rfl rfl)
theorem dX1_plot_86 : decode cX1_plot 86 = .ok (.iload_n 2, 1) := dk_28 (dk_at dksX1_plot_3 15 rfl rfl)
theorem dX1_plot_87 : decode cX1_plot 87 = .ok (.invokestatic 447, 3) := dk_184 1 191 (dk_at dksX1_plot_3 16 rfl rfl)
theorem dX1_plot_90 : decode cX1_plot 90 = .ok (.ireturn, 1) := dk_172 (dk_at dksX1_plot_3 19 rfl rfl)
abbrev cX1_plotters : ByteArray := prog_1_method_57_code
def yX1_plotters : MethodName := ⟨RX1, "plotters", "()I"⟩
def dkwX1_plotters_0 : List UInt8 := [42, 180, 1, 194, 153, 0, 10, 42, 180, 1, 197, 167, 0, 4, 2, 172]
abbrev dktX1_plotters_0 : List UInt8 := dkwX1_plotters_0 ++ []
theorem dksX1_plotters_0 : cX1_plotters.data.toList.drop 0 = dktX1_plotters_0 := by decide +kernel
theorem dX1_plotters_0 : decode cX1_plotters 0 = .ok (.aload_n 0, 1) := dk_42 (dk_at dksX1_plotters_0 0 rfl rfl)
theorem dX1_plotters_1 : decode cX1_plotters 1 = .ok (.getfield 450, 3) := dk_180 1 194 (dk_at dksX1_plotters_0 1 rfl rfl)
theorem dX1_plotters_4 : decode cX1_plotters 4 = .ok (.ifCond .eq 10, 3) := dk_153 0 10 (dk_at dksX1_plotters_0 4 rfl rfl)
theorem dX1_plotters_7 : decode cX1_plotters 7 = .ok (.aload_n 0, 1) := dk_42 (dk_at dksX1_plotters_0 7 rfl rfl)
theorem dX1_plotters_8 : decode cX1_plotters 8 = .ok (.getfield 453, 3) := dk_180 1 197 (dk_at dksX1_plotters_0 8 rfl rfl)
theorem dX1_plotters_11 : decode cX1_plotters 11 = .ok (.goto 4, 3) := dk_167 0 4 (dk_at dksX1_plotters_0 11 rfl rfl)
theorem dX1_plotters_14 : decode cX1_plotters 14 = .ok (.iconst (-1), 1) := dk_2 (dk_at dksX1_plotters_0 14 rfl rfl)
theorem dX1_plotters_15 : decode cX1_plotters 15 = .ok (.ireturn, 1) := dk_172 (dk_at dksX1_plotters_0 15 rfl rfl)
abbrev cX1_law : ByteArray := prog_1_method_59_code
def yX1_law : MethodName := ⟨RX1, "law", "(III)I"⟩
def dkwX1_law_3 : List UInt8 := [172, 132, 4, 1, 167, 255, 231, 2, 172]
abbrev dktX1_law_3 : List UInt8 := dkwX1_law_3 ++ []
def dkwX1_law_2 : List UInt8 := [4, 54, 4, 21, 4, 16, 9, 163, 0, 24, 42, 27, 28, 29, 21, 4, 182, 1, 209, 153, 0, 6, 21, 4]
abbrev dktX1_law_2 : List UInt8 := dkwX1_law_2 ++ dktX1_law_3
def dkwX1_law_1 : List UInt8 := [184, 0, 212, 153, 0, 19, 27, 42, 180, 0, 87, 42, 180, 0, 80, 182, 1, 54, 126, 153, 0, 5, 2, 172]
abbrev dktX1_law_1 : List UInt8 := dkwX1_law_1 ++ dktX1_law_2
def dkwX1_law_0 : List UInt8 := [27, 3, 4, 42, 180, 0, 80, 180, 0, 219, 120, 4, 100, 184, 0, 212, 153, 0, 29, 28, 4, 16, 60]
abbrev dktX1_law_0 : List UInt8 := dkwX1_law_0 ++ dktX1_law_1
theorem dksX1_law_0 : cX1_law.data.toList.drop 0 = dktX1_law_0 := by decide +kernel
theorem dksX1_law_1 : cX1_law.data.toList.drop 23 = dktX1_law_1 := dk_seg dksX1_law_0 23 rfl rfl
theorem dksX1_law_2 : cX1_law.data.toList.drop 47 = dktX1_law_2 := dk_seg dksX1_law_1 24 rfl rfl
theorem dksX1_law_3 : cX1_law.data.toList.drop 71 = dktX1_law_3 := dk_seg dksX1_law_2 24 rfl rfl
theorem dX1_law_0 : decode cX1_law 0 = .ok (.iload_n 1, 1) := dk_27 (dk_at dksX1_law_0 0 rfl rfl)
theorem dX1_law_1 : decode cX1_law 1 = .ok (.iconst 0, 1) := dk_3 (dk_at dksX1_law_0 1 rfl rfl)
theorem dX1_law_2 : decode cX1_law 2 = .ok (.iconst 1, 1) := dk_4 (dk_at dksX1_law_0 2 rfl rfl)
theorem dX1_law_3 : decode cX1_law 3 = .ok (.aload_n 0, 1) := dk_42 (dk_at dksX1_law_0 3 rfl rfl)
theorem dX1_law_4 : decode cX1_law 4 = .ok (.getfield 80, 3) := dk_180 0 80 (dk_at dksX1_law_0 4 rfl rfl)
theorem dX1_law_7 : decode cX1_law 7 = .ok (.getfield 219, 3) := dk_180 0 219 (dk_at dksX1_law_0 7 rfl rfl)
theorem dX1_law_10 : decode cX1_law 10 = .ok (.ishl, 1) := dk_120 (dk_at dksX1_law_0 10 rfl rfl)
theorem dX1_law_11 : decode cX1_law 11 = .ok (.iconst 1, 1) := dk_4 (dk_at dksX1_law_0 11 rfl rfl)
theorem dX1_law_12 : decode cX1_law 12 = .ok (.isub, 1) := dk_100 (dk_at dksX1_law_0 12 rfl rfl)
theorem dX1_law_13 : decode cX1_law 13 = .ok (.invokestatic 212, 3) := dk_184 0 212 (dk_at dksX1_law_0 13 rfl rfl)
theorem dX1_law_16 : decode cX1_law 16 = .ok (.ifCond .eq 29, 3) := dk_153 0 29 (dk_at dksX1_law_0 16 rfl rfl)
theorem dX1_law_19 : decode cX1_law 19 = .ok (.iload_n 2, 1) := dk_28 (dk_at dksX1_law_0 19 rfl rfl)
theorem dX1_law_20 : decode cX1_law 20 = .ok (.iconst 1, 1) := dk_4 (dk_at dksX1_law_0 20 rfl rfl)
theorem dX1_law_21 : decode cX1_law 21 = .ok (.bipush 60, 2) := dk_16 60 (dk_at dksX1_law_0 21 rfl rfl)
theorem dX1_law_23 : decode cX1_law 23 = .ok (.invokestatic 212, 3) := dk_184 0 212 (dk_at dksX1_law_1 0 rfl rfl)
theorem dX1_law_26 : decode cX1_law 26 = .ok (.ifCond .eq 19, 3) := dk_153 0 19 (dk_at dksX1_law_1 3 rfl rfl)
theorem dX1_law_29 : decode cX1_law 29 = .ok (.iload_n 1, 1) := dk_27 (dk_at dksX1_law_1 6 rfl rfl)
theorem dX1_law_30 : decode cX1_law 30 = .ok (.aload_n 0, 1) := dk_42 (dk_at dksX1_law_1 7 rfl rfl)
theorem dX1_law_31 : decode cX1_law 31 = .ok (.getfield 87, 3) := dk_180 0 87 (dk_at dksX1_law_1 8 rfl rfl)
theorem dX1_law_34 : decode cX1_law 34 = .ok (.aload_n 0, 1) := dk_42 (dk_at dksX1_law_1 11 rfl rfl)
theorem dX1_law_35 : decode cX1_law 35 = .ok (.getfield 80, 3) := dk_180 0 80 (dk_at dksX1_law_1 12 rfl rfl)
theorem dX1_law_38 : decode cX1_law 38 = .ok (.invokevirtual 310, 3) := dk_182 1 54 (dk_at dksX1_law_1 15 rfl rfl)
theorem dX1_law_41 : decode cX1_law 41 = .ok (.iand, 1) := dk_126 (dk_at dksX1_law_1 18 rfl rfl)
theorem dX1_law_42 : decode cX1_law 42 = .ok (.ifCond .eq 5, 3) := dk_153 0 5 (dk_at dksX1_law_1 19 rfl rfl)
theorem dX1_law_45 : decode cX1_law 45 = .ok (.iconst (-1), 1) := dk_2 (dk_at dksX1_law_1 22 rfl rfl)
theorem dX1_law_46 : decode cX1_law 46 = .ok (.ireturn, 1) := dk_172 (dk_at dksX1_law_1 23 rfl rfl)
theorem dX1_law_47 : decode cX1_law 47 = .ok (.iconst 1, 1) := dk_4 (dk_at dksX1_law_2 0 rfl rfl)
theorem dX1_law_48 : decode cX1_law 48 = .ok (.istore 4, 2) := dk_54 4 (dk_at dksX1_law_2 1 rfl rfl)
theorem dX1_law_50 : decode cX1_law 50 = .ok (.iload 4, 2) := dk_21 4 (dk_at dksX1_law_2 3 rfl rfl)
theorem dX1_law_52 : decode cX1_law 52 = .ok (.bipush 9, 2) := dk_16 9 (dk_at dksX1_law_2 5 rfl rfl)
theorem dX1_law_54 : decode cX1_law 54 = .ok (.if_icmp .gt 24, 3) := dk_163 0 24 (dk_at dksX1_law_2 7 rfl rfl)
theorem dX1_law_57 : decode cX1_law 57 = .ok (.aload_n 0, 1) := dk_42 (dk_at dksX1_law_2 10 rfl rfl)
theorem dX1_law_58 : decode cX1_law 58 = .ok (.iload_n 1, 1) := dk_27 (dk_at dksX1_law_2 11 rfl rfl)
theorem dX1_law_59 : decode cX1_law 59 = .ok (.iload_n 2, 1) := dk_28 (dk_at dksX1_law_2 12 rfl rfl)
theorem dX1_law_60 : decode cX1_law 60 = .ok (.iload_n 3, 1) := dk_29 (dk_at dksX1_law_2 13 rfl rfl)
theorem dX1_law_61 : decode cX1_law 61 = .ok (.iload 4, 2) := dk_21 4 (dk_at dksX1_law_2 14 rfl rfl)
theorem dX1_law_63 : decode cX1_law 63 = .ok (.invokevirtual 465, 3) := dk_182 1 209 (dk_at dksX1_law_2 16 rfl rfl)
theorem dX1_law_66 : decode cX1_law 66 = .ok (.ifCond .eq 6, 3) := dk_153 0 6 (dk_at dksX1_law_2 19 rfl rfl)
theorem dX1_law_69 : decode cX1_law 69 = .ok (.iload 4, 2) := dk_21 4 (dk_at dksX1_law_2 22 rfl rfl)
theorem dX1_law_71 : decode cX1_law 71 = .ok (.ireturn, 1) := dk_172 (dk_at dksX1_law_3 0 rfl rfl)
theorem dX1_law_72 : decode cX1_law 72 = .ok (.iinc 4 1, 3) := dk_132 4 1 (dk_at dksX1_law_3 1 rfl rfl)
theorem dX1_law_75 : decode cX1_law 75 = .ok (.goto (-25), 3) := dk_167 255 231 (dk_at dksX1_law_3 4 rfl rfl)
theorem dX1_law_78 : decode cX1_law 78 = .ok (.iconst (-1), 1) := dk_2 (dk_at dksX1_law_3 7 rfl rfl)
theorem dX1_law_79 : decode cX1_law 79 = .ok (.ireturn, 1) := dk_172 (dk_at dksX1_law_3 8 rfl rfl)
abbrev cX1_stay : ByteArray := prog_1_method_58_code
def yX1_stay : MethodName := ⟨RX1, "stay", "(IIII)Z"⟩
def dkwX1_stay_3 : List UInt8 := [182, 1, 206, 132, 5, 1, 167, 255, 203, 4, 172]
abbrev dktX1_stay_3 : List UInt8 := dkwX1_stay_3 ++ []
def dkwX1_stay_2 : List UInt8 := [180, 0, 80, 21, 4, 182, 1, 203, 27, 126, 153, 0, 5, 3, 172, 42, 180, 0, 91, 42, 180, 0, 80]
abbrev dktX1_stay_2 : List UInt8 := dkwX1_stay_2 ++ dktX1_stay_3
def dkwX1_stay_1 : List UInt8 := [28, 162, 0, 53, 42, 180, 0, 91, 180, 1, 52, 17, 1, 144, 162, 0, 40, 42, 180, 0, 91, 42]
abbrev dktX1_stay_1 : List UInt8 := dkwX1_stay_1 ++ dktX1_stay_2
def dkwX1_stay_0 : List UInt8 := [42, 180, 0, 91, 42, 180, 0, 87, 182, 1, 66, 42, 180, 0, 91, 29, 181, 1, 200, 3, 54, 5, 21, 5]
abbrev dktX1_stay_0 : List UInt8 := dkwX1_stay_0 ++ dktX1_stay_1
theorem dksX1_stay_0 : cX1_stay.data.toList.drop 0 = dktX1_stay_0 := by decide +kernel
theorem dksX1_stay_1 : cX1_stay.data.toList.drop 24 = dktX1_stay_1 := dk_seg dksX1_stay_0 24 rfl rfl
theorem dksX1_stay_2 : cX1_stay.data.toList.drop 46 = dktX1_stay_2 := dk_seg dksX1_stay_1 22 rfl rfl
theorem dksX1_stay_3 : cX1_stay.data.toList.drop 69 = dktX1_stay_3 := dk_seg dksX1_stay_2 23 rfl rfl
theorem dX1_stay_0 : decode cX1_stay 0 = .ok (.aload_n 0, 1) := dk_42 (dk_at dksX1_stay_0 0 rfl rfl)
theorem dX1_stay_1 : decode cX1_stay 1 = .ok (.getfield 91, 3) := dk_180 0 91 (dk_at dksX1_stay_0 1 rfl rfl)
theorem dX1_stay_4 : decode cX1_stay 4 = .ok (.aload_n 0, 1) := dk_42 (dk_at dksX1_stay_0 4 rfl rfl)
theorem dX1_stay_5 : decode cX1_stay 5 = .ok (.getfield 87, 3) := dk_180 0 87 (dk_at dksX1_stay_0 5 rfl rfl)
theorem dX1_stay_8 : decode cX1_stay 8 = .ok (.invokevirtual 322, 3) := dk_182 1 66 (dk_at dksX1_stay_0 8 rfl rfl)
theorem dX1_stay_11 : decode cX1_stay 11 = .ok (.aload_n 0, 1) := dk_42 (dk_at dksX1_stay_0 11 rfl rfl)
theorem dX1_stay_12 : decode cX1_stay 12 = .ok (.getfield 91, 3) := dk_180 0 91 (dk_at dksX1_stay_0 12 rfl rfl)
theorem dX1_stay_15 : decode cX1_stay 15 = .ok (.iload_n 3, 1) := dk_29 (dk_at dksX1_stay_0 15 rfl rfl)
theorem dX1_stay_16 : decode cX1_stay 16 = .ok (.putfield 456, 3) := dk_181 1 200 (dk_at dksX1_stay_0 16 rfl rfl)
theorem dX1_stay_19 : decode cX1_stay 19 = .ok (.iconst 0, 1) := dk_3 (dk_at dksX1_stay_0 19 rfl rfl)
theorem dX1_stay_20 : decode cX1_stay 20 = .ok (.istore 5, 2) := dk_54 5 (dk_at dksX1_stay_0 20 rfl rfl)
theorem dX1_stay_22 : decode cX1_stay 22 = .ok (.iload 5, 2) := dk_21 5 (dk_at dksX1_stay_0 22 rfl rfl)
theorem dX1_stay_24 : decode cX1_stay 24 = .ok (.iload_n 2, 1) := dk_28 (dk_at dksX1_stay_1 0 rfl rfl)
theorem dX1_stay_25 : decode cX1_stay 25 = .ok (.if_icmp .ge 53, 3) := dk_162 0 53 (dk_at dksX1_stay_1 1 rfl rfl)
theorem dX1_stay_28 : decode cX1_stay 28 = .ok (.aload_n 0, 1) := dk_42 (dk_at dksX1_stay_1 4 rfl rfl)
theorem dX1_stay_29 : decode cX1_stay 29 = .ok (.getfield 91, 3) := dk_180 0 91 (dk_at dksX1_stay_1 5 rfl rfl)
theorem dX1_stay_32 : decode cX1_stay 32 = .ok (.getfield 308, 3) := dk_180 1 52 (dk_at dksX1_stay_1 8 rfl rfl)
theorem dX1_stay_35 : decode cX1_stay 35 = .ok (.sipush 400, 3) := dk_17 1 144 (dk_at dksX1_stay_1 11 rfl rfl)
theorem dX1_stay_38 : decode cX1_stay 38 = .ok (.if_icmp .ge 40, 3) := dk_162 0 40 (dk_at dksX1_stay_1 14 rfl rfl)
theorem dX1_stay_41 : decode cX1_stay 41 = .ok (.aload_n 0, 1) := dk_42 (dk_at dksX1_stay_1 17 rfl rfl)
theorem dX1_stay_42 : decode cX1_stay 42 = .ok (.getfield 91, 3) := dk_180 0 91 (dk_at dksX1_stay_1 18 rfl rfl)
theorem dX1_stay_45 : decode cX1_stay 45 = .ok (.aload_n 0, 1) := dk_42 (dk_at dksX1_stay_1 21 rfl rfl)
theorem dX1_stay_46 : decode cX1_stay 46 = .ok (.getfield 80, 3) := dk_180 0 80 (dk_at dksX1_stay_2 0 rfl rfl)
theorem dX1_stay_49 : decode cX1_stay 49 = .ok (.iload 4, 2) := dk_21 4 (dk_at dksX1_stay_2 3 rfl rfl)
theorem dX1_stay_51 : decode cX1_stay 51 = .ok (.invokevirtual 459, 3) := dk_182 1 203 (dk_at dksX1_stay_2 5 rfl rfl)
theorem dX1_stay_54 : decode cX1_stay 54 = .ok (.iload_n 1, 1) := dk_27 (dk_at dksX1_stay_2 8 rfl rfl)
theorem dX1_stay_55 : decode cX1_stay 55 = .ok (.iand, 1) := dk_126 (dk_at dksX1_stay_2 9 rfl rfl)
theorem dX1_stay_56 : decode cX1_stay 56 = .ok (.ifCond .eq 5, 3) := dk_153 0 5 (dk_at dksX1_stay_2 10 rfl rfl)
theorem dX1_stay_59 : decode cX1_stay 59 = .ok (.iconst 0, 1) := dk_3 (dk_at dksX1_stay_2 13 rfl rfl)
theorem dX1_stay_60 : decode cX1_stay 60 = .ok (.ireturn, 1) := dk_172 (dk_at dksX1_stay_2 14 rfl rfl)
theorem dX1_stay_61 : decode cX1_stay 61 = .ok (.aload_n 0, 1) := dk_42 (dk_at dksX1_stay_2 15 rfl rfl)
theorem dX1_stay_62 : decode cX1_stay 62 = .ok (.getfield 91, 3) := dk_180 0 91 (dk_at dksX1_stay_2 16 rfl rfl)
theorem dX1_stay_65 : decode cX1_stay 65 = .ok (.aload_n 0, 1) := dk_42 (dk_at dksX1_stay_2 19 rfl rfl)
theorem dX1_stay_66 : decode cX1_stay 66 = .ok (.getfield 80, 3) := dk_180 0 80 (dk_at dksX1_stay_2 20 rfl rfl)
theorem dX1_stay_69 : decode cX1_stay 69 = .ok (.invokevirtual 462, 3) := dk_182 1 206 (dk_at dksX1_stay_3 0 rfl rfl)
theorem dX1_stay_72 : decode cX1_stay 72 = .ok (.iinc 5 1, 3) := dk_132 5 1 (dk_at dksX1_stay_3 3 rfl rfl)
theorem dX1_stay_75 : decode cX1_stay 75 = .ok (.goto (-53), 3) := dk_167 255 203 (dk_at dksX1_stay_3 6 rfl rfl)
theorem dX1_stay_78 : decode cX1_stay 78 = .ok (.iconst 1, 1) := dk_4 (dk_at dksX1_stay_3 9 rfl rfl)
theorem dX1_stay_79 : decode cX1_stay 79 = .ok (.ireturn, 1) := dk_172 (dk_at dksX1_stay_3 10 rfl rfl)
abbrev cX1_bare : ByteArray := prog_1_method_60_code
def yX1_bare : MethodName := ⟨RX1, "bare", "(II)I"⟩
def dkwX1_bare_4 : List UInt8 := [167, 255, 195, 2, 172]
abbrev dktX1_bare_4 : List UInt8 := dkwX1_bare_4 ++ []
def dkwX1_bare_3 : List UInt8 := [42, 180, 0, 91, 180, 1, 52, 172, 42, 180, 0, 91, 42, 180, 0, 80, 182, 1, 206, 132, 3, 1]
abbrev dktX1_bare_3 : List UInt8 := dkwX1_bare_3 ++ dktX1_bare_4
def dkwX1_bare_2 : List UInt8 := [162, 0, 49, 42, 180, 0, 91, 42, 180, 0, 80, 42, 180, 0, 80, 180, 1, 213, 182, 1, 203, 153, 0, 11]
abbrev dktX1_bare_2 : List UInt8 := dkwX1_bare_2 ++ dktX1_bare_3
def dkwX1_bare_1 : List UInt8 := [180, 0, 91, 28, 181, 1, 200, 3, 62, 29, 27, 162, 0, 62, 42, 180, 0, 91, 180, 1, 52, 17, 1, 144]
abbrev dktX1_bare_1 : List UInt8 := dkwX1_bare_1 ++ dktX1_bare_2
def dkwX1_bare_0 : List UInt8 := [27, 4, 16, 60, 184, 0, 212, 154, 0, 5, 2, 172, 42, 180, 0, 91, 42, 180, 0, 87, 182, 1, 66, 42]
abbrev dktX1_bare_0 : List UInt8 := dkwX1_bare_0 ++ dktX1_bare_1
theorem dksX1_bare_0 : cX1_bare.data.toList.drop 0 = dktX1_bare_0 := by decide +kernel
theorem dksX1_bare_1 : cX1_bare.data.toList.drop 24 = dktX1_bare_1 := dk_seg dksX1_bare_0 24 rfl rfl
theorem dksX1_bare_2 : cX1_bare.data.toList.drop 48 = dktX1_bare_2 := dk_seg dksX1_bare_1 24 rfl rfl
theorem dksX1_bare_3 : cX1_bare.data.toList.drop 72 = dktX1_bare_3 := dk_seg dksX1_bare_2 24 rfl rfl
theorem dksX1_bare_4 : cX1_bare.data.toList.drop 94 = dktX1_bare_4 := dk_seg dksX1_bare_3 22 rfl rfl
theorem dX1_bare_0 : decode cX1_bare 0 = .ok (.iload_n 1, 1) := dk_27 (dk_at dksX1_bare_0 0 rfl rfl)
theorem dX1_bare_1 : decode cX1_bare 1 = .ok (.iconst 1, 1) := dk_4 (dk_at dksX1_bare_0 1 rfl rfl)
theorem dX1_bare_2 : decode cX1_bare 2 = .ok (.bipush 60, 2) := dk_16 60 (dk_at dksX1_bare_0 2 rfl rfl)
theorem dX1_bare_4 : decode cX1_bare 4 = .ok (.invokestatic 212, 3) := dk_184 0 212 (dk_at dksX1_bare_0 4 rfl rfl)
theorem dX1_bare_7 : decode cX1_bare 7 = .ok (.ifCond .ne 5, 3) := dk_154 0 5 (dk_at dksX1_bare_0 7 rfl rfl)
theorem dX1_bare_10 : decode cX1_bare 10 = .ok (.iconst (-1), 1) := dk_2 (dk_at dksX1_bare_0 10 rfl rfl)
theorem dX1_bare_11 : decode cX1_bare 11 = .ok (.ireturn, 1) := dk_172 (dk_at dksX1_bare_0 11 rfl rfl)
theorem dX1_bare_12 : decode cX1_bare 12 = .ok (.aload_n 0, 1) := dk_42 (dk_at dksX1_bare_0 12 rfl rfl)
theorem dX1_bare_13 : decode cX1_bare 13 = .ok (.getfield 91, 3) := dk_180 0 91 (dk_at dksX1_bare_0 13 rfl rfl)
theorem dX1_bare_16 : decode cX1_bare 16 = .ok (.aload_n 0, 1) := dk_42 (dk_at dksX1_bare_0 16 rfl rfl)
theorem dX1_bare_17 : decode cX1_bare 17 = .ok (.getfield 87, 3) := dk_180 0 87 (dk_at dksX1_bare_0 17 rfl rfl)
theorem dX1_bare_20 : decode cX1_bare 20 = .ok (.invokevirtual 322, 3) := dk_182 1 66 (dk_at dksX1_bare_0 20 rfl rfl)
theorem dX1_bare_23 : decode cX1_bare 23 = .ok (.aload_n 0, 1) := dk_42 (dk_at dksX1_bare_0 23 rfl rfl)
theorem dX1_bare_24 : decode cX1_bare 24 = .ok (.getfield 91, 3) := dk_180 0 91 (dk_at dksX1_bare_1 0 rfl rfl)
theorem dX1_bare_27 : decode cX1_bare 27 = .ok (.iload_n 2, 1) := dk_28 (dk_at dksX1_bare_1 3 rfl rfl)
theorem dX1_bare_28 : decode cX1_bare 28 = .ok (.putfield 456, 3) := dk_181 1 200 (dk_at dksX1_bare_1 4 rfl rfl)
theorem dX1_bare_31 : decode cX1_bare 31 = .ok (.iconst 0, 1) := dk_3 (dk_at dksX1_bare_1 7 rfl rfl)
theorem dX1_bare_32 : decode cX1_bare 32 = .ok (.istore_n 3, 1) := dk_62 (dk_at dksX1_bare_1 8 rfl rfl)
theorem dX1_bare_33 : decode cX1_bare 33 = .ok (.iload_n 3, 1) := dk_29 (dk_at dksX1_bare_1 9 rfl rfl)
theorem dX1_bare_34 : decode cX1_bare 34 = .ok (.iload_n 1, 1) := dk_27 (dk_at dksX1_bare_1 10 rfl rfl)
theorem dX1_bare_35 : decode cX1_bare 35 = .ok (.if_icmp .ge 62, 3) := dk_162 0 62 (dk_at dksX1_bare_1 11 rfl rfl)
theorem dX1_bare_38 : decode cX1_bare 38 = .ok (.aload_n 0, 1) := dk_42 (dk_at dksX1_bare_1 14 rfl rfl)
theorem dX1_bare_39 : decode cX1_bare 39 = .ok (.getfield 91, 3) := dk_180 0 91 (dk_at dksX1_bare_1 15 rfl rfl)
theorem dX1_bare_42 : decode cX1_bare 42 = .ok (.getfield 308, 3) := dk_180 1 52 (dk_at dksX1_bare_1 18 rfl rfl)
theorem dX1_bare_45 : decode cX1_bare 45 = .ok (.sipush 400, 3) := dk_17 1 144 (dk_at dksX1_bare_1 21 rfl rfl)
theorem dX1_bare_48 : decode cX1_bare 48 = .ok (.if_icmp .ge 49, 3) := dk_162 0 49 (dk_at dksX1_bare_2 0 rfl rfl)
theorem dX1_bare_51 : decode cX1_bare 51 = .ok (.aload_n 0, 1) := dk_42 (dk_at dksX1_bare_2 3 rfl rfl)
theorem dX1_bare_52 : decode cX1_bare 52 = .ok (.getfield 91, 3) := dk_180 0 91 (dk_at dksX1_bare_2 4 rfl rfl)
theorem dX1_bare_55 : decode cX1_bare 55 = .ok (.aload_n 0, 1) := dk_42 (dk_at dksX1_bare_2 7 rfl rfl)
theorem dX1_bare_56 : decode cX1_bare 56 = .ok (.getfield 80, 3) := dk_180 0 80 (dk_at dksX1_bare_2 8 rfl rfl)
theorem dX1_bare_59 : decode cX1_bare 59 = .ok (.aload_n 0, 1) := dk_42 (dk_at dksX1_bare_2 11 rfl rfl)
theorem dX1_bare_60 : decode cX1_bare 60 = .ok (.getfield 80, 3) := dk_180 0 80 (dk_at dksX1_bare_2 12 rfl rfl)
theorem dX1_bare_63 : decode cX1_bare 63 = .ok (.getfield 469, 3) := dk_180 1 213 (dk_at dksX1_bare_2 15 rfl rfl)
theorem dX1_bare_66 : decode cX1_bare 66 = .ok (.invokevirtual 459, 3) := dk_182 1 203 (dk_at dksX1_bare_2 18 rfl rfl)
theorem dX1_bare_69 : decode cX1_bare 69 = .ok (.ifCond .eq 11, 3) := dk_153 0 11 (dk_at dksX1_bare_2 21 rfl rfl)
theorem dX1_bare_72 : decode cX1_bare 72 = .ok (.aload_n 0, 1) := dk_42 (dk_at dksX1_bare_3 0 rfl rfl)
theorem dX1_bare_73 : decode cX1_bare 73 = .ok (.getfield 91, 3) := dk_180 0 91 (dk_at dksX1_bare_3 1 rfl rfl)
theorem dX1_bare_76 : decode cX1_bare 76 = .ok (.getfield 308, 3) := dk_180 1 52 (dk_at dksX1_bare_3 4 rfl rfl)
theorem dX1_bare_79 : decode cX1_bare 79 = .ok (.ireturn, 1) := dk_172 (dk_at dksX1_bare_3 7 rfl rfl)
theorem dX1_bare_80 : decode cX1_bare 80 = .ok (.aload_n 0, 1) := dk_42 (dk_at dksX1_bare_3 8 rfl rfl)
theorem dX1_bare_81 : decode cX1_bare 81 = .ok (.getfield 91, 3) := dk_180 0 91 (dk_at dksX1_bare_3 9 rfl rfl)
theorem dX1_bare_84 : decode cX1_bare 84 = .ok (.aload_n 0, 1) := dk_42 (dk_at dksX1_bare_3 12 rfl rfl)
theorem dX1_bare_85 : decode cX1_bare 85 = .ok (.getfield 80, 3) := dk_180 0 80 (dk_at dksX1_bare_3 13 rfl rfl)
theorem dX1_bare_88 : decode cX1_bare 88 = .ok (.invokevirtual 462, 3) := dk_182 1 206 (dk_at dksX1_bare_3 16 rfl rfl)
theorem dX1_bare_91 : decode cX1_bare 91 = .ok (.iinc 3 1, 3) := dk_132 3 1 (dk_at dksX1_bare_3 19 rfl rfl)
theorem dX1_bare_94 : decode cX1_bare 94 = .ok (.goto (-61), 3) := dk_167 255 195 (dk_at dksX1_bare_4 0 rfl rfl)
theorem dX1_bare_97 : decode cX1_bare 97 = .ok (.iconst (-1), 1) := dk_2 (dk_at dksX1_bare_4 3 rfl rfl)
theorem dX1_bare_98 : decode cX1_bare 98 = .ok (.ireturn, 1) := dk_172 (dk_at dksX1_bare_4 4 rfl rfl)
abbrev cX1_grass : ByteArray := prog_1_method_62_code
def yX1_grass : MethodName := ⟨RX1, "grass", "()I"⟩
def dkwX1_grass_3 : List UInt8 := [167, 255, 227, 27, 154, 0, 5, 3, 172, 42, 4, 181, 1, 218, 42, 28, 181, 1, 221, 27, 172]
abbrev dktX1_grass_3 : List UInt8 := dkwX1_grass_3 ++ []
def dkwX1_grass_2 : List UInt8 := [163, 0, 27, 42, 29, 182, 1, 215, 154, 0, 6, 167, 0, 10, 132, 1, 1, 28, 29, 126, 61, 132, 3, 1]
abbrev dktX1_grass_2 : List UInt8 := dkwX1_grass_2 ++ dktX1_grass_3
def dkwX1_grass_1 : List UInt8 := [180, 0, 209, 159, 0, 5, 2, 172, 3, 60, 42, 182, 1, 105, 61, 3, 62, 29, 42, 182, 1, 105]
abbrev dktX1_grass_1 : List UInt8 := dkwX1_grass_1 ++ dktX1_grass_2
def dkwX1_grass_0 : List UInt8 := [42, 182, 0, 184, 42, 180, 0, 80, 180, 0, 209, 153, 0, 17, 42, 180, 0, 178, 42, 180, 0, 80]
abbrev dktX1_grass_0 : List UInt8 := dkwX1_grass_0 ++ dktX1_grass_1
theorem dksX1_grass_0 : cX1_grass.data.toList.drop 0 = dktX1_grass_0 := by decide +kernel
theorem dksX1_grass_1 : cX1_grass.data.toList.drop 22 = dktX1_grass_1 := dk_seg dksX1_grass_0 22 rfl rfl
theorem dksX1_grass_2 : cX1_grass.data.toList.drop 44 = dktX1_grass_2 := dk_seg dksX1_grass_1 22 rfl rfl
theorem dksX1_grass_3 : cX1_grass.data.toList.drop 68 = dktX1_grass_3 := dk_seg dksX1_grass_2 24 rfl rfl
theorem dX1_grass_0 : decode cX1_grass 0 = .ok (.aload_n 0, 1) := dk_42 (dk_at dksX1_grass_0 0 rfl rfl)
theorem dX1_grass_1 : decode cX1_grass 1 = .ok (.invokevirtual 184, 3) := dk_182 0 184 (dk_at dksX1_grass_0 1 rfl rfl)
theorem dX1_grass_4 : decode cX1_grass 4 = .ok (.aload_n 0, 1) := dk_42 (dk_at dksX1_grass_0 4 rfl rfl)
theorem dX1_grass_5 : decode cX1_grass 5 = .ok (.getfield 80, 3) := dk_180 0 80 (dk_at dksX1_grass_0 5 rfl rfl)
theorem dX1_grass_8 : decode cX1_grass 8 = .ok (.getfield 209, 3) := dk_180 0 209 (dk_at dksX1_grass_0 8 rfl rfl)
theorem dX1_grass_11 : decode cX1_grass 11 = .ok (.ifCond .eq 17, 3) := dk_153 0 17 (dk_at dksX1_grass_0 11 rfl rfl)
theorem dX1_grass_14 : decode cX1_grass 14 = .ok (.aload_n 0, 1) := dk_42 (dk_at dksX1_grass_0 14 rfl rfl)
theorem dX1_grass_15 : decode cX1_grass 15 = .ok (.getfield 178, 3) := dk_180 0 178 (dk_at dksX1_grass_0 15 rfl rfl)
theorem dX1_grass_18 : decode cX1_grass 18 = .ok (.aload_n 0, 1) := dk_42 (dk_at dksX1_grass_0 18 rfl rfl)
theorem dX1_grass_19 : decode cX1_grass 19 = .ok (.getfield 80, 3) := dk_180 0 80 (dk_at dksX1_grass_0 19 rfl rfl)
theorem dX1_grass_22 : decode cX1_grass 22 = .ok (.getfield 209, 3) := dk_180 0 209 (dk_at dksX1_grass_1 0 rfl rfl)
theorem dX1_grass_25 : decode cX1_grass 25 = .ok (.if_icmp .eq 5, 3) := dk_159 0 5 (dk_at dksX1_grass_1 3 rfl rfl)
theorem dX1_grass_28 : decode cX1_grass 28 = .ok (.iconst (-1), 1) := dk_2 (dk_at dksX1_grass_1 6 rfl rfl)
theorem dX1_grass_29 : decode cX1_grass 29 = .ok (.ireturn, 1) := dk_172 (dk_at dksX1_grass_1 7 rfl rfl)
theorem dX1_grass_30 : decode cX1_grass 30 = .ok (.iconst 0, 1) := dk_3 (dk_at dksX1_grass_1 8 rfl rfl)
theorem dX1_grass_31 : decode cX1_grass 31 = .ok (.istore_n 1, 1) := dk_60 (dk_at dksX1_grass_1 9 rfl rfl)
theorem dX1_grass_32 : decode cX1_grass 32 = .ok (.aload_n 0, 1) := dk_42 (dk_at dksX1_grass_1 10 rfl rfl)
theorem dX1_grass_33 : decode cX1_grass 33 = .ok (.invokevirtual 361, 3) := dk_182 1 105 (dk_at dksX1_grass_1 11 rfl rfl)
theorem dX1_grass_36 : decode cX1_grass 36 = .ok (.istore_n 2, 1) := dk_61 (dk_at dksX1_grass_1 14 rfl rfl)
theorem dX1_grass_37 : decode cX1_grass 37 = .ok (.iconst 0, 1) := dk_3 (dk_at dksX1_grass_1 15 rfl rfl)
theorem dX1_grass_38 : decode cX1_grass 38 = .ok (.istore_n 3, 1) := dk_62 (dk_at dksX1_grass_1 16 rfl rfl)
theorem dX1_grass_39 : decode cX1_grass 39 = .ok (.iload_n 3, 1) := dk_29 (dk_at dksX1_grass_1 17 rfl rfl)
theorem dX1_grass_40 : decode cX1_grass 40 = .ok (.aload_n 0, 1) := dk_42 (dk_at dksX1_grass_1 18 rfl rfl)
theorem dX1_grass_41 : decode cX1_grass 41 = .ok (.invokevirtual 361, 3) := dk_182 1 105 (dk_at dksX1_grass_1 19 rfl rfl)
theorem dX1_grass_44 : decode cX1_grass 44 = .ok (.if_icmp .gt 27, 3) := dk_163 0 27 (dk_at dksX1_grass_2 0 rfl rfl)
theorem dX1_grass_47 : decode cX1_grass 47 = .ok (.aload_n 0, 1) := dk_42 (dk_at dksX1_grass_2 3 rfl rfl)
theorem dX1_grass_48 : decode cX1_grass 48 = .ok (.iload_n 3, 1) := dk_29 (dk_at dksX1_grass_2 4 rfl rfl)
theorem dX1_grass_49 : decode cX1_grass 49 = .ok (.invokevirtual 471, 3) := dk_182 1 215 (dk_at dksX1_grass_2 5 rfl rfl)
theorem dX1_grass_52 : decode cX1_grass 52 = .ok (.ifCond .ne 6, 3) := dk_154 0 6 (dk_at dksX1_grass_2 8 rfl rfl)
theorem dX1_grass_55 : decode cX1_grass 55 = .ok (.goto 10, 3) := dk_167 0 10 (dk_at dksX1_grass_2 11 rfl rfl)
theorem dX1_grass_58 : decode cX1_grass 58 = .ok (.iinc 1 1, 3) := dk_132 1 1 (dk_at dksX1_grass_2 14 rfl rfl)
theorem dX1_grass_61 : decode cX1_grass 61 = .ok (.iload_n 2, 1) := dk_28 (dk_at dksX1_grass_2 17 rfl rfl)
theorem dX1_grass_62 : decode cX1_grass 62 = .ok (.iload_n 3, 1) := dk_29 (dk_at dksX1_grass_2 18 rfl rfl)
theorem dX1_grass_63 : decode cX1_grass 63 = .ok (.iand, 1) := dk_126 (dk_at dksX1_grass_2 19 rfl rfl)
theorem dX1_grass_64 : decode cX1_grass 64 = .ok (.istore_n 2, 1) := dk_61 (dk_at dksX1_grass_2 20 rfl rfl)
theorem dX1_grass_65 : decode cX1_grass 65 = .ok (.iinc 3 1, 3) := dk_132 3 1 (dk_at dksX1_grass_2 21 rfl rfl)
theorem dX1_grass_68 : decode cX1_grass 68 = .ok (.goto (-29), 3) := dk_167 255 227 (dk_at dksX1_grass_3 0 rfl rfl)
theorem dX1_grass_71 : decode cX1_grass 71 = .ok (.iload_n 1, 1) := dk_27 (dk_at dksX1_grass_3 3 rfl rfl)
theorem dX1_grass_72 : decode cX1_grass 72 = .ok (.ifCond .ne 5, 3) := dk_154 0 5 (dk_at dksX1_grass_3 4 rfl rfl)
theorem dX1_grass_75 : decode cX1_grass 75 = .ok (.iconst 0, 1) := dk_3 (dk_at dksX1_grass_3 7 rfl rfl)
theorem dX1_grass_76 : decode cX1_grass 76 = .ok (.ireturn, 1) := dk_172 (dk_at dksX1_grass_3 8 rfl rfl)
theorem dX1_grass_77 : decode cX1_grass 77 = .ok (.aload_n 0, 1) := dk_42 (dk_at dksX1_grass_3 9 rfl rfl)
theorem dX1_grass_78 : decode cX1_grass 78 = .ok (.iconst 1, 1) := dk_4 (dk_at dksX1_grass_3 10 rfl rfl)
theorem dX1_grass_79 : decode cX1_grass 79 = .ok (.putfield 474, 3) := dk_181 1 218 (dk_at dksX1_grass_3 11 rfl rfl)
theorem dX1_grass_82 : decode cX1_grass 82 = .ok (.aload_n 0, 1) := dk_42 (dk_at dksX1_grass_3 14 rfl rfl)
theorem dX1_grass_83 : decode cX1_grass 83 = .ok (.iload_n 2, 1) := dk_28 (dk_at dksX1_grass_3 15 rfl rfl)
theorem dX1_grass_84 : decode cX1_grass 84 = .ok (.putfield 477, 3) := dk_181 1 221 (dk_at dksX1_grass_3 16 rfl rfl)
theorem dX1_grass_87 : decode cX1_grass 87 = .ok (.iload_n 1, 1) := dk_27 (dk_at dksX1_grass_3 19 rfl rfl)
theorem dX1_grass_88 : decode cX1_grass 88 = .ok (.ireturn, 1) := dk_172 (dk_at dksX1_grass_3 20 rfl rfl)
abbrev cX1_isGrass : ByteArray := prog_1_method_61_code
def yX1_isGrass : MethodName := ⟨RX1, "isGrass", "(I)Z"⟩
def dkwX1_isGrass_1 : List UInt8 := [184, 1, 191, 42, 28, 182, 1, 176, 159, 0, 5, 3, 172, 132, 2, 1, 167, 255, 219, 4, 172]
abbrev dktX1_isGrass_1 : List UInt8 := dkwX1_isGrass_1 ++ []
def dkwX1_isGrass_0 : List UInt8 := [3, 61, 28, 42, 180, 0, 80, 180, 0, 209, 162, 0, 32, 27, 42, 180, 0, 80, 28, 182, 0, 251, 126]
abbrev dktX1_isGrass_0 : List UInt8 := dkwX1_isGrass_0 ++ dktX1_isGrass_1
theorem dksX1_isGrass_0 : cX1_isGrass.data.toList.drop 0 = dktX1_isGrass_0 := by decide +kernel
theorem dksX1_isGrass_1 : cX1_isGrass.data.toList.drop 23 = dktX1_isGrass_1 := dk_seg dksX1_isGrass_0 23 rfl rfl
theorem dX1_isGrass_0 : decode cX1_isGrass 0 = .ok (.iconst 0, 1) := dk_3 (dk_at dksX1_isGrass_0 0 rfl rfl)
theorem dX1_isGrass_1 : decode cX1_isGrass 1 = .ok (.istore_n 2, 1) := dk_61 (dk_at dksX1_isGrass_0 1 rfl rfl)
theorem dX1_isGrass_2 : decode cX1_isGrass 2 = .ok (.iload_n 2, 1) := dk_28 (dk_at dksX1_isGrass_0 2 rfl rfl)
theorem dX1_isGrass_3 : decode cX1_isGrass 3 = .ok (.aload_n 0, 1) := dk_42 (dk_at dksX1_isGrass_0 3 rfl rfl)
theorem dX1_isGrass_4 : decode cX1_isGrass 4 = .ok (.getfield 80, 3) := dk_180 0 80 (dk_at dksX1_isGrass_0 4 rfl rfl)
theorem dX1_isGrass_7 : decode cX1_isGrass 7 = .ok (.getfield 209, 3) := dk_180 0 209 (dk_at dksX1_isGrass_0 7 rfl rfl)
theorem dX1_isGrass_10 : decode cX1_isGrass 10 = .ok (.if_icmp .ge 32, 3) := dk_162 0 32 (dk_at dksX1_isGrass_0 10 rfl rfl)
theorem dX1_isGrass_13 : decode cX1_isGrass 13 = .ok (.iload_n 1, 1) := dk_27 (dk_at dksX1_isGrass_0 13 rfl rfl)
theorem dX1_isGrass_14 : decode cX1_isGrass 14 = .ok (.aload_n 0, 1) := dk_42 (dk_at dksX1_isGrass_0 14 rfl rfl)
theorem dX1_isGrass_15 : decode cX1_isGrass 15 = .ok (.getfield 80, 3) := dk_180 0 80 (dk_at dksX1_isGrass_0 15 rfl rfl)
theorem dX1_isGrass_18 : decode cX1_isGrass 18 = .ok (.iload_n 2, 1) := dk_28 (dk_at dksX1_isGrass_0 18 rfl rfl)
theorem dX1_isGrass_19 : decode cX1_isGrass 19 = .ok (.invokevirtual 251, 3) := dk_182 0 251 (dk_at dksX1_isGrass_0 19 rfl rfl)
theorem dX1_isGrass_22 : decode cX1_isGrass 22 = .ok (.iand, 1) := dk_126 (dk_at dksX1_isGrass_0 22 rfl rfl)
theorem dX1_isGrass_23 : decode cX1_isGrass 23 = .ok (.invokestatic 447, 3) := dk_184 1 191 (dk_at dksX1_isGrass_1 0 rfl rfl)
theorem dX1_isGrass_26 : decode cX1_isGrass 26 = .ok (.aload_n 0, 1) := dk_42 (dk_at dksX1_isGrass_1 3 rfl rfl)
theorem dX1_isGrass_27 : decode cX1_isGrass 27 = .ok (.iload_n 2, 1) := dk_28 (dk_at dksX1_isGrass_1 4 rfl rfl)
theorem dX1_isGrass_28 : decode cX1_isGrass 28 = .ok (.invokevirtual 432, 3) := dk_182 1 176 (dk_at dksX1_isGrass_1 5 rfl rfl)
theorem dX1_isGrass_31 : decode cX1_isGrass 31 = .ok (.if_icmp .eq 5, 3) := dk_159 0 5 (dk_at dksX1_isGrass_1 8 rfl rfl)
theorem dX1_isGrass_34 : decode cX1_isGrass 34 = .ok (.iconst 0, 1) := dk_3 (dk_at dksX1_isGrass_1 11 rfl rfl)
theorem dX1_isGrass_35 : decode cX1_isGrass 35 = .ok (.ireturn, 1) := dk_172 (dk_at dksX1_isGrass_1 12 rfl rfl)
theorem dX1_isGrass_36 : decode cX1_isGrass 36 = .ok (.iinc 2 1, 3) := dk_132 2 1 (dk_at dksX1_isGrass_1 13 rfl rfl)
theorem dX1_isGrass_39 : decode cX1_isGrass 39 = .ok (.goto (-37), 3) := dk_167 255 219 (dk_at dksX1_isGrass_1 16 rfl rfl)
theorem dX1_isGrass_42 : decode cX1_isGrass 42 = .ok (.iconst 1, 1) := dk_4 (dk_at dksX1_isGrass_1 19 rfl rfl)
theorem dX1_isGrass_43 : decode cX1_isGrass 43 = .ok (.ireturn, 1) := dk_172 (dk_at dksX1_isGrass_1 20 rfl rfl)
abbrev cX1_trodden : ByteArray := prog_1_method_63_code
def yX1_trodden : MethodName := ⟨RX1, "trodden", "()I"⟩
def dkwX1_trodden_0 : List UInt8 := [42, 180, 1, 218, 153, 0, 10, 42, 180, 1, 221, 167, 0, 4, 2, 172]
abbrev dktX1_trodden_0 : List UInt8 := dkwX1_trodden_0 ++ []
theorem dksX1_trodden_0 : cX1_trodden.data.toList.drop 0 = dktX1_trodden_0 := by decide +kernel
theorem dX1_trodden_0 : decode cX1_trodden 0 = .ok (.aload_n 0, 1) := dk_42 (dk_at dksX1_trodden_0 0 rfl rfl)
theorem dX1_trodden_1 : decode cX1_trodden 1 = .ok (.getfield 474, 3) := dk_180 1 218 (dk_at dksX1_trodden_0 1 rfl rfl)
theorem dX1_trodden_4 : decode cX1_trodden 4 = .ok (.ifCond .eq 10, 3) := dk_153 0 10 (dk_at dksX1_trodden_0 4 rfl rfl)
theorem dX1_trodden_7 : decode cX1_trodden 7 = .ok (.aload_n 0, 1) := dk_42 (dk_at dksX1_trodden_0 7 rfl rfl)
theorem dX1_trodden_8 : decode cX1_trodden 8 = .ok (.getfield 477, 3) := dk_180 1 221 (dk_at dksX1_trodden_0 8 rfl rfl)
theorem dX1_trodden_11 : decode cX1_trodden 11 = .ok (.goto 4, 3) := dk_167 0 4 (dk_at dksX1_trodden_0 11 rfl rfl)
theorem dX1_trodden_14 : decode cX1_trodden 14 = .ok (.iconst (-1), 1) := dk_2 (dk_at dksX1_trodden_0 14 rfl rfl)
theorem dX1_trodden_15 : decode cX1_trodden 15 = .ok (.ireturn, 1) := dk_172 (dk_at dksX1_trodden_0 15 rfl rfl)
abbrev cX1_odds : ByteArray := prog_1_method_64_code
def yX1_odds : MethodName := ⟨RX1, "odds", "(III)I"⟩
def dkwX1_odds_3 : List UInt8 := [182, 0, 233, 154, 0, 6, 132, 4, 1, 132, 5, 1, 167, 255, 200, 21, 4, 172]
abbrev dktX1_odds_3 : List UInt8 := dkwX1_odds_3 ++ []
def dkwX1_odds_2 : List UInt8 := [180, 0, 80, 16, 20, 29, 21, 5, 96, 182, 1, 97, 87, 42, 180, 0, 91, 180, 0, 229, 27, 50]
abbrev dktX1_odds_2 : List UInt8 := dkwX1_odds_2 ++ dktX1_odds_3
def dkwX1_odds_1 : List UInt8 := [54, 5, 21, 5, 28, 162, 0, 56, 42, 180, 0, 91, 42, 180, 0, 87, 182, 1, 66, 42, 180, 0, 91, 42]
abbrev dktX1_odds_1 : List UInt8 := dkwX1_odds_1 ++ dktX1_odds_2
def dkwX1_odds_0 : List UInt8 := [42, 27, 182, 0, 225, 153, 0, 13, 28, 4, 16, 30, 184, 0, 212, 154, 0, 5, 2, 172, 3, 54, 4, 3]
abbrev dktX1_odds_0 : List UInt8 := dkwX1_odds_0 ++ dktX1_odds_1
theorem dksX1_odds_0 : cX1_odds.data.toList.drop 0 = dktX1_odds_0 := by decide +kernel
theorem dksX1_odds_1 : cX1_odds.data.toList.drop 24 = dktX1_odds_1 := dk_seg dksX1_odds_0 24 rfl rfl
theorem dksX1_odds_2 : cX1_odds.data.toList.drop 48 = dktX1_odds_2 := dk_seg dksX1_odds_1 24 rfl rfl
theorem dksX1_odds_3 : cX1_odds.data.toList.drop 70 = dktX1_odds_3 := dk_seg dksX1_odds_2 22 rfl rfl
theorem dX1_odds_0 : decode cX1_odds 0 = .ok (.aload_n 0, 1) := dk_42 (dk_at dksX1_odds_0 0 rfl rfl)
theorem dX1_odds_1 : decode cX1_odds 1 = .ok (.iload_n 1, 1) := dk_27 (dk_at dksX1_odds_0 1 rfl rfl)
theorem dX1_odds_2 : decode cX1_odds 2 = .ok (.invokevirtual 225, 3) := dk_182 0 225 (dk_at dksX1_odds_0 2 rfl rfl)
theorem dX1_odds_5 : decode cX1_odds 5 = .ok (.ifCond .eq 13, 3) := dk_153 0 13 (dk_at dksX1_odds_0 5 rfl rfl)
theorem dX1_odds_8 : decode cX1_odds 8 = .ok (.iload_n 2, 1) := dk_28 (dk_at dksX1_odds_0 8 rfl rfl)
theorem dX1_odds_9 : decode cX1_odds 9 = .ok (.iconst 1, 1) := dk_4 (dk_at dksX1_odds_0 9 rfl rfl)
theorem dX1_odds_10 : decode cX1_odds 10 = .ok (.bipush 30, 2) := dk_16 30 (dk_at dksX1_odds_0 10 rfl rfl)
theorem dX1_odds_12 : decode cX1_odds 12 = .ok (.invokestatic 212, 3) := dk_184 0 212 (dk_at dksX1_odds_0 12 rfl rfl)
theorem dX1_odds_15 : decode cX1_odds 15 = .ok (.ifCond .ne 5, 3) := dk_154 0 5 (dk_at dksX1_odds_0 15 rfl rfl)
theorem dX1_odds_18 : decode cX1_odds 18 = .ok (.iconst (-1), 1) := dk_2 (dk_at dksX1_odds_0 18 rfl rfl)
theorem dX1_odds_19 : decode cX1_odds 19 = .ok (.ireturn, 1) := dk_172 (dk_at dksX1_odds_0 19 rfl rfl)
theorem dX1_odds_20 : decode cX1_odds 20 = .ok (.iconst 0, 1) := dk_3 (dk_at dksX1_odds_0 20 rfl rfl)
theorem dX1_odds_21 : decode cX1_odds 21 = .ok (.istore 4, 2) := dk_54 4 (dk_at dksX1_odds_0 21 rfl rfl)
theorem dX1_odds_23 : decode cX1_odds 23 = .ok (.iconst 0, 1) := dk_3 (dk_at dksX1_odds_0 23 rfl rfl)
theorem dX1_odds_24 : decode cX1_odds 24 = .ok (.istore 5, 2) := dk_54 5 (dk_at dksX1_odds_1 0 rfl rfl)
theorem dX1_odds_26 : decode cX1_odds 26 = .ok (.iload 5, 2) := dk_21 5 (dk_at dksX1_odds_1 2 rfl rfl)
theorem dX1_odds_28 : decode cX1_odds 28 = .ok (.iload_n 2, 1) := dk_28 (dk_at dksX1_odds_1 4 rfl rfl)
theorem dX1_odds_29 : decode cX1_odds 29 = .ok (.if_icmp .ge 56, 3) := dk_162 0 56 (dk_at dksX1_odds_1 5 rfl rfl)
theorem dX1_odds_32 : decode cX1_odds 32 = .ok (.aload_n 0, 1) := dk_42 (dk_at dksX1_odds_1 8 rfl rfl)
theorem dX1_odds_33 : decode cX1_odds 33 = .ok (.getfield 91, 3) := dk_180 0 91 (dk_at dksX1_odds_1 9 rfl rfl)
theorem dX1_odds_36 : decode cX1_odds 36 = .ok (.aload_n 0, 1) := dk_42 (dk_at dksX1_odds_1 12 rfl rfl)
theorem dX1_odds_37 : decode cX1_odds 37 = .ok (.getfield 87, 3) := dk_180 0 87 (dk_at dksX1_odds_1 13 rfl rfl)
theorem dX1_odds_40 : decode cX1_odds 40 = .ok (.invokevirtual 322, 3) := dk_182 1 66 (dk_at dksX1_odds_1 16 rfl rfl)
theorem dX1_odds_43 : decode cX1_odds 43 = .ok (.aload_n 0, 1) := dk_42 (dk_at dksX1_odds_1 19 rfl rfl)
theorem dX1_odds_44 : decode cX1_odds 44 = .ok (.getfield 91, 3) := dk_180 0 91 (dk_at dksX1_odds_1 20 rfl rfl)
theorem dX1_odds_47 : decode cX1_odds 47 = .ok (.aload_n 0, 1) := dk_42 (dk_at dksX1_odds_1 23 rfl rfl)
theorem dX1_odds_48 : decode cX1_odds 48 = .ok (.getfield 80, 3) := dk_180 0 80 (dk_at dksX1_odds_2 0 rfl rfl)
theorem dX1_odds_51 : decode cX1_odds 51 = .ok (.bipush 20, 2) := dk_16 20 (dk_at dksX1_odds_2 3 rfl rfl)
theorem dX1_odds_53 : decode cX1_odds 53 = .ok (.iload_n 3, 1) := dk_29 (dk_at dksX1_odds_2 5 rfl rfl)
theorem dX1_odds_54 : decode cX1_odds 54 = .ok (.iload 5, 2) := dk_21 5 (dk_at dksX1_odds_2 6 rfl rfl)
theorem dX1_odds_56 : decode cX1_odds 56 = .ok (.iadd, 1) := dk_96 (dk_at dksX1_odds_2 8 rfl rfl)
theorem dX1_odds_57 : decode cX1_odds 57 = .ok (.invokevirtual 353, 3) := dk_182 1 97 (dk_at dksX1_odds_2 9 rfl rfl)
theorem dX1_odds_60 : decode cX1_odds 60 = .ok (.pop, 1) := dk_87 (dk_at dksX1_odds_2 12 rfl rfl)
theorem dX1_odds_61 : decode cX1_odds 61 = .ok (.aload_n 0, 1) := dk_42 (dk_at dksX1_odds_2 13 rfl rfl)
theorem dX1_odds_62 : decode cX1_odds 62 = .ok (.getfield 91, 3) := dk_180 0 91 (dk_at dksX1_odds_2 14 rfl rfl)
theorem dX1_odds_65 : decode cX1_odds 65 = .ok (.getfield 229, 3) := dk_180 0 229 (dk_at dksX1_odds_2 17 rfl rfl)
theorem dX1_odds_68 : decode cX1_odds 68 = .ok (.iload_n 1, 1) := dk_27 (dk_at dksX1_odds_2 20 rfl rfl)
theorem dX1_odds_69 : decode cX1_odds 69 = .ok (.aaload, 1) := dk_50 (dk_at dksX1_odds_2 21 rfl rfl)
theorem dX1_odds_70 : decode cX1_odds 70 = .ok (.invokevirtual 233, 3) := dk_182 0 233 (dk_at dksX1_odds_3 0 rfl rfl)
theorem dX1_odds_73 : decode cX1_odds 73 = .ok (.ifCond .ne 6, 3) := dk_154 0 6 (dk_at dksX1_odds_3 3 rfl rfl)
theorem dX1_odds_76 : decode cX1_odds 76 = .ok (.iinc 4 1, 3) := dk_132 4 1 (dk_at dksX1_odds_3 6 rfl rfl)
theorem dX1_odds_79 : decode cX1_odds 79 = .ok (.iinc 5 1, 3) := dk_132 5 1 (dk_at dksX1_odds_3 9 rfl rfl)
theorem dX1_odds_82 : decode cX1_odds 82 = .ok (.goto (-56), 3) := dk_167 255 200 (dk_at dksX1_odds_3 12 rfl rfl)
theorem dX1_odds_85 : decode cX1_odds 85 = .ok (.iload 4, 2) := dk_21 4 (dk_at dksX1_odds_3 15 rfl rfl)
theorem dX1_odds_87 : decode cX1_odds 87 = .ok (.ireturn, 1) := dk_172 (dk_at dksX1_odds_3 17 rfl rfl)
abbrev cX1_plaque : ByteArray := prog_1_method_68_code
def yX1_plaque : MethodName := ⟨RX1, "plaque", "(I)I"⟩
def dkwX1_plaque_4 : List UInt8 := [180, 0, 80, 180, 2, 2, 44, 180, 1, 4, 47, 182, 1, 242, 42, 180, 1, 224, 172]
abbrev dktX1_plaque_4 : List UInt8 := dkwX1_plaque_4 ++ []
def dkwX1_plaque_3 : List UInt8 := [182, 1, 247, 44, 182, 0, 233, 153, 0, 13, 42, 19, 2, 0, 182, 1, 247, 167, 0, 19, 42, 42]
abbrev dktX1_plaque_3 : List UInt8 := dkwX1_plaque_3 ++ dktX1_plaque_4
def dkwX1_plaque_2 : List UInt8 := [19, 1, 245, 182, 1, 247, 42, 44, 180, 1, 8, 184, 1, 250, 182, 1, 247, 167, 0, 43, 42, 19, 1, 254]
abbrev dktX1_plaque_2 : List UInt8 := dkwX1_plaque_2 ++ dktX1_plaque_3
def dkwX1_plaque_1 : List UInt8 := [181, 1, 224, 42, 42, 180, 0, 80, 180, 1, 238, 27, 47, 182, 1, 242, 44, 180, 1, 8, 158, 0, 24, 42]
abbrev dktX1_plaque_1 : List UInt8 := dkwX1_plaque_1 ++ dktX1_plaque_2
def dkwX1_plaque_0 : List UInt8 := [42, 27, 182, 0, 225, 154, 0, 5, 2, 172, 42, 180, 0, 87, 180, 0, 229, 27, 50, 77, 42, 3]
abbrev dktX1_plaque_0 : List UInt8 := dkwX1_plaque_0 ++ dktX1_plaque_1
theorem dksX1_plaque_0 : cX1_plaque.data.toList.drop 0 = dktX1_plaque_0 := by decide +kernel
theorem dksX1_plaque_1 : cX1_plaque.data.toList.drop 22 = dktX1_plaque_1 := dk_seg dksX1_plaque_0 22 rfl rfl
theorem dksX1_plaque_2 : cX1_plaque.data.toList.drop 46 = dktX1_plaque_2 := dk_seg dksX1_plaque_1 24 rfl rfl
theorem dksX1_plaque_3 : cX1_plaque.data.toList.drop 70 = dktX1_plaque_3 := dk_seg dksX1_plaque_2 24 rfl rfl
theorem dksX1_plaque_4 : cX1_plaque.data.toList.drop 92 = dktX1_plaque_4 := dk_seg dksX1_plaque_3 22 rfl rfl
theorem dX1_plaque_0 : decode cX1_plaque 0 = .ok (.aload_n 0, 1) := dk_42 (dk_at dksX1_plaque_0 0 rfl rfl)
theorem dX1_plaque_1 : decode cX1_plaque 1 = .ok (.iload_n 1, 1) := dk_27 (dk_at dksX1_plaque_0 1 rfl rfl)
theorem dX1_plaque_2 : decode cX1_plaque 2 = .ok (.invokevirtual 225, 3) := dk_182 0 225 (dk_at dksX1_plaque_0 2 rfl rfl)
theorem dX1_plaque_5 : decode cX1_plaque 5 = .ok (.ifCond .ne 5, 3) := dk_154 0 5 (dk_at dksX1_plaque_0 5 rfl rfl)
theorem dX1_plaque_8 : decode cX1_plaque 8 = .ok (.iconst (-1), 1) := dk_2 (dk_at dksX1_plaque_0 8 rfl rfl)
theorem dX1_plaque_9 : decode cX1_plaque 9 = .ok (.ireturn, 1) := dk_172 (dk_at dksX1_plaque_0 9 rfl rfl)
theorem dX1_plaque_10 : decode cX1_plaque 10 = .ok (.aload_n 0, 1) := dk_42 (dk_at dksX1_plaque_0 10 rfl rfl)
theorem dX1_plaque_11 : decode cX1_plaque 11 = .ok (.getfield 87, 3) := dk_180 0 87 (dk_at dksX1_plaque_0 11 rfl rfl)
theorem dX1_plaque_14 : decode cX1_plaque 14 = .ok (.getfield 229, 3) := dk_180 0 229 (dk_at dksX1_plaque_0 14 rfl rfl)
theorem dX1_plaque_17 : decode cX1_plaque 17 = .ok (.iload_n 1, 1) := dk_27 (dk_at dksX1_plaque_0 17 rfl rfl)
theorem dX1_plaque_18 : decode cX1_plaque 18 = .ok (.aaload, 1) := dk_50 (dk_at dksX1_plaque_0 18 rfl rfl)
theorem dX1_plaque_19 : decode cX1_plaque 19 = .ok (.astore_n 2, 1) := dk_77 (dk_at dksX1_plaque_0 19 rfl rfl)
theorem dX1_plaque_20 : decode cX1_plaque 20 = .ok (.aload_n 0, 1) := dk_42 (dk_at dksX1_plaque_0 20 rfl rfl)
theorem dX1_plaque_21 : decode cX1_plaque 21 = .ok (.iconst 0, 1) := dk_3 (dk_at dksX1_plaque_0 21 rfl rfl)
theorem dX1_plaque_22 : decode cX1_plaque 22 = .ok (.putfield 480, 3) := dk_181 1 224 (dk_at dksX1_plaque_1 0 rfl rfl)
theorem dX1_plaque_25 : decode cX1_plaque 25 = .ok (.aload_n 0, 1) := dk_42 (dk_at dksX1_plaque_1 3 rfl rfl)
theorem dX1_plaque_26 : decode cX1_plaque 26 = .ok (.aload_n 0, 1) := dk_42 (dk_at dksX1_plaque_1 4 rfl rfl)
theorem dX1_plaque_27 : decode cX1_plaque 27 = .ok (.getfield 80, 3) := dk_180 0 80 (dk_at dksX1_plaque_1 5 rfl rfl)
theorem dX1_plaque_30 : decode cX1_plaque 30 = .ok (.getfield 494, 3) := dk_180 1 238 (dk_at dksX1_plaque_1 8 rfl rfl)
theorem dX1_plaque_33 : decode cX1_plaque 33 = .ok (.iload_n 1, 1) := dk_27 (dk_at dksX1_plaque_1 11 rfl rfl)
theorem dX1_plaque_34 : decode cX1_plaque 34 = .ok (.laload, 1) := dk_47 (dk_at dksX1_plaque_1 12 rfl rfl)
theorem dX1_plaque_35 : decode cX1_plaque 35 = .ok (.invokevirtual 498, 3) := dk_182 1 242 (dk_at dksX1_plaque_1 13 rfl rfl)
theorem dX1_plaque_38 : decode cX1_plaque 38 = .ok (.aload_n 2, 1) := dk_44 (dk_at dksX1_plaque_1 16 rfl rfl)
theorem dX1_plaque_39 : decode cX1_plaque 39 = .ok (.getfield 264, 3) := dk_180 1 8 (dk_at dksX1_plaque_1 17 rfl rfl)
theorem dX1_plaque_42 : decode cX1_plaque 42 = .ok (.ifCond .le 24, 3) := dk_158 0 24 (dk_at dksX1_plaque_1 20 rfl rfl)
theorem dX1_plaque_45 : decode cX1_plaque 45 = .ok (.aload_n 0, 1) := dk_42 (dk_at dksX1_plaque_1 23 rfl rfl)
theorem dX1_plaque_46 : decode cX1_plaque 46 = .ok (.ldc_w 501, 3) := dk_19 1 245 (dk_at dksX1_plaque_2 0 rfl rfl)
theorem dX1_plaque_49 : decode cX1_plaque 49 = .ok (.invokevirtual 503, 3) := dk_182 1 247 (dk_at dksX1_plaque_2 3 rfl rfl)
theorem dX1_plaque_52 : decode cX1_plaque 52 = .ok (.aload_n 0, 1) := dk_42 (dk_at dksX1_plaque_2 6 rfl rfl)
theorem dX1_plaque_53 : decode cX1_plaque 53 = .ok (.aload_n 2, 1) := dk_44 (dk_at dksX1_plaque_2 7 rfl rfl)
theorem dX1_plaque_54 : decode cX1_plaque 54 = .ok (.getfield 264, 3) := dk_180 1 8 (dk_at dksX1_plaque_2 8 rfl rfl)
theorem dX1_plaque_57 : decode cX1_plaque 57 = .ok (.invokestatic 506, 3) := dk_184 1 250 (dk_at dksX1_plaque_2 11 rfl rfl)
theorem dX1_plaque_60 : decode cX1_plaque 60 = .ok (.invokevirtual 503, 3) := dk_182 1 247 (dk_at dksX1_plaque_2 14 rfl rfl)
theorem dX1_plaque_63 : decode cX1_plaque 63 = .ok (.goto 43, 3) := dk_167 0 43 (dk_at dksX1_plaque_2 17 rfl rfl)
theorem dX1_plaque_66 : decode cX1_plaque 66 = .ok (.aload_n 0, 1) := dk_42 (dk_at dksX1_plaque_2 20 rfl rfl)
theorem dX1_plaque_67 : decode cX1_plaque 67 = .ok (.ldc_w 510, 3) := dk_19 1 254 (dk_at dksX1_plaque_2 21 rfl rfl)
theorem dX1_plaque_70 : decode cX1_plaque 70 = .ok (.invokevirtual 503, 3) := dk_182 1 247 (dk_at dksX1_plaque_3 0 rfl rfl)
theorem dX1_plaque_73 : decode cX1_plaque 73 = .ok (.aload_n 2, 1) := dk_44 (dk_at dksX1_plaque_3 3 rfl rfl)
theorem dX1_plaque_74 : decode cX1_plaque 74 = .ok (.invokevirtual 233, 3) := dk_182 0 233 (dk_at dksX1_plaque_3 4 rfl rfl)
theorem dX1_plaque_77 : decode cX1_plaque 77 = .ok (.ifCond .eq 13, 3) := dk_153 0 13 (dk_at dksX1_plaque_3 7 rfl rfl)
theorem dX1_plaque_80 : decode cX1_plaque 80 = .ok (.aload_n 0, 1) := dk_42 (dk_at dksX1_plaque_3 10 rfl rfl)
theorem dX1_plaque_81 : decode cX1_plaque 81 = .ok (.ldc_w 512, 3) := dk_19 2 0 (dk_at dksX1_plaque_3 11 rfl rfl)
theorem dX1_plaque_84 : decode cX1_plaque 84 = .ok (.invokevirtual 503, 3) := dk_182 1 247 (dk_at dksX1_plaque_3 14 rfl rfl)
theorem dX1_plaque_87 : decode cX1_plaque 87 = .ok (.goto 19, 3) := dk_167 0 19 (dk_at dksX1_plaque_3 17 rfl rfl)
theorem dX1_plaque_90 : decode cX1_plaque 90 = .ok (.aload_n 0, 1) := dk_42 (dk_at dksX1_plaque_3 20 rfl rfl)
theorem dX1_plaque_91 : decode cX1_plaque 91 = .ok (.aload_n 0, 1) := dk_42 (dk_at dksX1_plaque_3 21 rfl rfl)
theorem dX1_plaque_92 : decode cX1_plaque 92 = .ok (.getfield 80, 3) := dk_180 0 80 (dk_at dksX1_plaque_4 0 rfl rfl)
theorem dX1_plaque_95 : decode cX1_plaque 95 = .ok (.getfield 514, 3) := dk_180 2 2 (dk_at dksX1_plaque_4 3 rfl rfl)
theorem dX1_plaque_98 : decode cX1_plaque 98 = .ok (.aload_n 2, 1) := dk_44 (dk_at dksX1_plaque_4 6 rfl rfl)
theorem dX1_plaque_99 : decode cX1_plaque 99 = .ok (.getfield 260, 3) := dk_180 1 4 (dk_at dksX1_plaque_4 7 rfl rfl)
theorem dX1_plaque_102 : decode cX1_plaque 102 = .ok (.laload, 1) := dk_47 (dk_at dksX1_plaque_4 10 rfl rfl)
theorem dX1_plaque_103 : decode cX1_plaque 103 = .ok (.invokevirtual 498, 3) := dk_182 1 242 (dk_at dksX1_plaque_4 11 rfl rfl)
theorem dX1_plaque_106 : decode cX1_plaque 106 = .ok (.aload_n 0, 1) := dk_42 (dk_at dksX1_plaque_4 14 rfl rfl)
theorem dX1_plaque_107 : decode cX1_plaque 107 = .ok (.getfield 480, 3) := dk_180 1 224 (dk_at dksX1_plaque_4 15 rfl rfl)
theorem dX1_plaque_110 : decode cX1_plaque 110 = .ok (.ireturn, 1) := dk_172 (dk_at dksX1_plaque_4 18 rfl rfl)
abbrev cX1_put : ByteArray := prog_1_method_67_code
def yX1_put : MethodName := ⟨RX1, "put", "(J)V"⟩
def dkwX1_put_1 : List UInt8 := [20, 1, 236, 127, 136, 182, 1, 233, 132, 3, 248, 167, 255, 225, 177]
abbrev dktX1_put_1 : List UInt8 := dkwX1_put_1 ++ []
def dkwX1_put_0 : List UInt8 := [16, 56, 62, 29, 155, 0, 33, 31, 29, 123, 20, 1, 236, 127, 9, 148, 153, 0, 15, 42, 31, 29, 123]
abbrev dktX1_put_0 : List UInt8 := dkwX1_put_0 ++ dktX1_put_1
theorem dksX1_put_0 : cX1_put.data.toList.drop 0 = dktX1_put_0 := by decide +kernel
theorem dksX1_put_1 : cX1_put.data.toList.drop 23 = dktX1_put_1 := dk_seg dksX1_put_0 23 rfl rfl
theorem dX1_put_0 : decode cX1_put 0 = .ok (.bipush 56, 2) := dk_16 56 (dk_at dksX1_put_0 0 rfl rfl)
theorem dX1_put_2 : decode cX1_put 2 = .ok (.istore_n 3, 1) := dk_62 (dk_at dksX1_put_0 2 rfl rfl)
theorem dX1_put_3 : decode cX1_put 3 = .ok (.iload_n 3, 1) := dk_29 (dk_at dksX1_put_0 3 rfl rfl)
theorem dX1_put_4 : decode cX1_put 4 = .ok (.ifCond .lt 33, 3) := dk_155 0 33 (dk_at dksX1_put_0 4 rfl rfl)
theorem dX1_put_7 : decode cX1_put 7 = .ok (.lload_n 1, 1) := dk_31 (dk_at dksX1_put_0 7 rfl rfl)
theorem dX1_put_8 : decode cX1_put 8 = .ok (.iload_n 3, 1) := dk_29 (dk_at dksX1_put_0 8 rfl rfl)
theorem dX1_put_9 : decode cX1_put 9 = .ok (.lshr, 1) := dk_123 (dk_at dksX1_put_0 9 rfl rfl)
theorem dX1_put_10 : decode cX1_put 10 = .ok (.ldc2_w 492, 3) := dk_20 1 236 (dk_at dksX1_put_0 10 rfl rfl)
theorem dX1_put_13 : decode cX1_put 13 = .ok (.land, 1) := dk_127 (dk_at dksX1_put_0 13 rfl rfl)
theorem dX1_put_14 : decode cX1_put 14 = .ok (.lconst 0, 1) := dk_9 (dk_at dksX1_put_0 14 rfl rfl)
theorem dX1_put_15 : decode cX1_put 15 = .ok (.lcmp, 1) := dk_148 (dk_at dksX1_put_0 15 rfl rfl)
theorem dX1_put_16 : decode cX1_put 16 = .ok (.ifCond .eq 15, 3) := dk_153 0 15 (dk_at dksX1_put_0 16 rfl rfl)
theorem dX1_put_19 : decode cX1_put 19 = .ok (.aload_n 0, 1) := dk_42 (dk_at dksX1_put_0 19 rfl rfl)
theorem dX1_put_20 : decode cX1_put 20 = .ok (.lload_n 1, 1) := dk_31 (dk_at dksX1_put_0 20 rfl rfl)
theorem dX1_put_21 : decode cX1_put 21 = .ok (.iload_n 3, 1) := dk_29 (dk_at dksX1_put_0 21 rfl rfl)
theorem dX1_put_22 : decode cX1_put 22 = .ok (.lshr, 1) := dk_123 (dk_at dksX1_put_0 22 rfl rfl)
theorem dX1_put_23 : decode cX1_put 23 = .ok (.ldc2_w 492, 3) := dk_20 1 236 (dk_at dksX1_put_1 0 rfl rfl)
theorem dX1_put_26 : decode cX1_put 26 = .ok (.land, 1) := dk_127 (dk_at dksX1_put_1 3 rfl rfl)
theorem dX1_put_27 : decode cX1_put 27 = .ok (.l2i, 1) := dk_136 (dk_at dksX1_put_1 4 rfl rfl)
theorem dX1_put_28 : decode cX1_put 28 = .ok (.invokevirtual 489, 3) := dk_182 1 233 (dk_at dksX1_put_1 5 rfl rfl)
theorem dX1_put_31 : decode cX1_put 31 = .ok (.iinc 3 (-8), 3) := dk_132 3 248 (dk_at dksX1_put_1 8 rfl rfl)
theorem dX1_put_34 : decode cX1_put 34 = .ok (.goto (-31), 3) := dk_167 255 225 (dk_at dksX1_put_1 11 rfl rfl)
theorem dX1_put_37 : decode cX1_put 37 = .ok (.return_, 1) := dk_177 (dk_at dksX1_put_1 14 rfl rfl)
abbrev cX1_put_2 : ByteArray := prog_1_method_65_code
def yX1_put_2 : MethodName := ⟨RX1, "put", "(I)V"⟩
def dkwX1_put_2_0 : List UInt8 := [42, 180, 0, 152, 42, 180, 1, 224, 27, 145, 84, 42, 89, 180, 1, 224, 4, 96, 181, 1, 224, 177]
abbrev dktX1_put_2_0 : List UInt8 := dkwX1_put_2_0 ++ []
theorem dksX1_put_2_0 : cX1_put_2.data.toList.drop 0 = dktX1_put_2_0 := by decide +kernel
theorem dX1_put_2_0 : decode cX1_put_2 0 = .ok (.aload_n 0, 1) := dk_42 (dk_at dksX1_put_2_0 0 rfl rfl)
theorem dX1_put_2_1 : decode cX1_put_2 1 = .ok (.getfield 152, 3) := dk_180 0 152 (dk_at dksX1_put_2_0 1 rfl rfl)
theorem dX1_put_2_4 : decode cX1_put_2 4 = .ok (.aload_n 0, 1) := dk_42 (dk_at dksX1_put_2_0 4 rfl rfl)
theorem dX1_put_2_5 : decode cX1_put_2 5 = .ok (.getfield 480, 3) := dk_180 1 224 (dk_at dksX1_put_2_0 5 rfl rfl)
theorem dX1_put_2_8 : decode cX1_put_2 8 = .ok (.iload_n 1, 1) := dk_27 (dk_at dksX1_put_2_0 8 rfl rfl)
theorem dX1_put_2_9 : decode cX1_put_2 9 = .ok (.i2b, 1) := dk_145 (dk_at dksX1_put_2_0 9 rfl rfl)
theorem dX1_put_2_10 : decode cX1_put_2 10 = .ok (.bastore, 1) := dk_84 (dk_at dksX1_put_2_0 10 rfl rfl)
theorem dX1_put_2_11 : decode cX1_put_2 11 = .ok (.aload_n 0, 1) := dk_42 (dk_at dksX1_put_2_0 11 rfl rfl)
theorem dX1_put_2_12 : decode cX1_put_2 12 = .ok (.dup, 1) := dk_89 (dk_at dksX1_put_2_0 12 rfl rfl)
theorem dX1_put_2_13 : decode cX1_put_2 13 = .ok (.getfield 480, 3) := dk_180 1 224 (dk_at dksX1_put_2_0 13 rfl rfl)
theorem dX1_put_2_16 : decode cX1_put_2 16 = .ok (.iconst 1, 1) := dk_4 (dk_at dksX1_put_2_0 16 rfl rfl)
theorem dX1_put_2_17 : decode cX1_put_2 17 = .ok (.iadd, 1) := dk_96 (dk_at dksX1_put_2_0 17 rfl rfl)
theorem dX1_put_2_18 : decode cX1_put_2 18 = .ok (.putfield 480, 3) := dk_181 1 224 (dk_at dksX1_put_2_0 18 rfl rfl)
theorem dX1_put_2_21 : decode cX1_put_2 21 = .ok (.return_, 1) := dk_177 (dk_at dksX1_put_2_0 21 rfl rfl)
abbrev cX1_put_3 : ByteArray := prog_1_method_66_code
def yX1_put_3 : MethodName := ⟨RX1, "put", "(Ljava/lang/String;)V"⟩
def dkwX1_put_3_1 : List UInt8 := [167, 255, 236, 177]
abbrev dktX1_put_3_1 : List UInt8 := dkwX1_put_3_1 ++ []
def dkwX1_put_3_0 : List UInt8 := [3, 61, 28, 43, 182, 1, 227, 162, 0, 18, 42, 43, 28, 182, 1, 229, 182, 1, 233, 132, 2, 1]
abbrev dktX1_put_3_0 : List UInt8 := dkwX1_put_3_0 ++ dktX1_put_3_1
theorem dksX1_put_3_0 : cX1_put_3.data.toList.drop 0 = dktX1_put_3_0 := by decide +kernel
theorem dksX1_put_3_1 : cX1_put_3.data.toList.drop 22 = dktX1_put_3_1 := dk_seg dksX1_put_3_0 22 rfl rfl
theorem dX1_put_3_0 : decode cX1_put_3 0 = .ok (.iconst 0, 1) := dk_3 (dk_at dksX1_put_3_0 0 rfl rfl)
theorem dX1_put_3_1 : decode cX1_put_3 1 = .ok (.istore_n 2, 1) := dk_61 (dk_at dksX1_put_3_0 1 rfl rfl)
theorem dX1_put_3_2 : decode cX1_put_3 2 = .ok (.iload_n 2, 1) := dk_28 (dk_at dksX1_put_3_0 2 rfl rfl)
theorem dX1_put_3_3 : decode cX1_put_3 3 = .ok (.aload_n 1, 1) := dk_43 (dk_at dksX1_put_3_0 3 rfl rfl)
theorem dX1_put_3_4 : decode cX1_put_3 4 = .ok (.invokevirtual 483, 3) := dk_182 1 227 (dk_at dksX1_put_3_0 4 rfl rfl)
theorem dX1_put_3_7 : decode cX1_put_3 7 = .ok (.if_icmp .ge 18, 3) := dk_162 0 18 (dk_at dksX1_put_3_0 7 rfl rfl)
theorem dX1_put_3_10 : decode cX1_put_3 10 = .ok (.aload_n 0, 1) := dk_42 (dk_at dksX1_put_3_0 10 rfl rfl)
theorem dX1_put_3_11 : decode cX1_put_3 11 = .ok (.aload_n 1, 1) := dk_43 (dk_at dksX1_put_3_0 11 rfl rfl)
theorem dX1_put_3_12 : decode cX1_put_3 12 = .ok (.iload_n 2, 1) := dk_28 (dk_at dksX1_put_3_0 12 rfl rfl)
theorem dX1_put_3_13 : decode cX1_put_3 13 = .ok (.invokevirtual 485, 3) := dk_182 1 229 (dk_at dksX1_put_3_0 13 rfl rfl)
theorem dX1_put_3_16 : decode cX1_put_3 16 = .ok (.invokevirtual 489, 3) := dk_182 1 233 (dk_at dksX1_put_3_0 16 rfl rfl)
theorem dX1_put_3_19 : decode cX1_put_3 19 = .ok (.iinc 2 1, 3) := dk_132 2 1 (dk_at dksX1_put_3_0 19 rfl rfl)
theorem dX1_put_3_22 : decode cX1_put_3 22 = .ok (.goto (-20), 3) := dk_167 255 236 (dk_at dksX1_put_3_1 0 rfl rfl)
theorem dX1_put_3_25 : decode cX1_put_3 25 = .ok (.return_, 1) := dk_177 (dk_at dksX1_put_3_1 3 rfl rfl)
abbrev cX1_byteAt : ByteArray := prog_1_method_69_code
def yX1_byteAt : MethodName := ⟨RX1, "byteAt", "(I)I"⟩
def dkwX1_byteAt_1 : List UInt8 := [172]
abbrev dktX1_byteAt_1 : List UInt8 := dkwX1_byteAt_1 ++ []
def dkwX1_byteAt_0 : List UInt8 := [27, 3, 42, 180, 1, 224, 4, 100, 184, 0, 212, 153, 0, 12, 42, 180, 0, 152, 27, 51, 167, 0, 4, 2]
abbrev dktX1_byteAt_0 : List UInt8 := dkwX1_byteAt_0 ++ dktX1_byteAt_1
theorem dksX1_byteAt_0 : cX1_byteAt.data.toList.drop 0 = dktX1_byteAt_0 := by decide +kernel
theorem dksX1_byteAt_1 : cX1_byteAt.data.toList.drop 24 = dktX1_byteAt_1 := dk_seg dksX1_byteAt_0 24 rfl rfl
theorem dX1_byteAt_0 : decode cX1_byteAt 0 = .ok (.iload_n 1, 1) := dk_27 (dk_at dksX1_byteAt_0 0 rfl rfl)
theorem dX1_byteAt_1 : decode cX1_byteAt 1 = .ok (.iconst 0, 1) := dk_3 (dk_at dksX1_byteAt_0 1 rfl rfl)
theorem dX1_byteAt_2 : decode cX1_byteAt 2 = .ok (.aload_n 0, 1) := dk_42 (dk_at dksX1_byteAt_0 2 rfl rfl)
theorem dX1_byteAt_3 : decode cX1_byteAt 3 = .ok (.getfield 480, 3) := dk_180 1 224 (dk_at dksX1_byteAt_0 3 rfl rfl)
theorem dX1_byteAt_6 : decode cX1_byteAt 6 = .ok (.iconst 1, 1) := dk_4 (dk_at dksX1_byteAt_0 6 rfl rfl)
theorem dX1_byteAt_7 : decode cX1_byteAt 7 = .ok (.isub, 1) := dk_100 (dk_at dksX1_byteAt_0 7 rfl rfl)
theorem dX1_byteAt_8 : decode cX1_byteAt 8 = .ok (.invokestatic 212, 3) := dk_184 0 212 (dk_at dksX1_byteAt_0 8 rfl rfl)
theorem dX1_byteAt_11 : decode cX1_byteAt 11 = .ok (.ifCond .eq 12, 3) := dk_153 0 12 (dk_at dksX1_byteAt_0 11 rfl rfl)
theorem dX1_byteAt_14 : decode cX1_byteAt 14 = .ok (.aload_n 0, 1) := dk_42 (dk_at dksX1_byteAt_0 14 rfl rfl)
theorem dX1_byteAt_15 : decode cX1_byteAt 15 = .ok (.getfield 152, 3) := dk_180 0 152 (dk_at dksX1_byteAt_0 15 rfl rfl)
theorem dX1_byteAt_18 : decode cX1_byteAt 18 = .ok (.iload_n 1, 1) := dk_27 (dk_at dksX1_byteAt_0 18 rfl rfl)
theorem dX1_byteAt_19 : decode cX1_byteAt 19 = .ok (.baload, 1) := dk_51 (dk_at dksX1_byteAt_0 19 rfl rfl)
theorem dX1_byteAt_20 : decode cX1_byteAt 20 = .ok (.goto 4, 3) := dk_167 0 4 (dk_at dksX1_byteAt_0 20 rfl rfl)
theorem dX1_byteAt_23 : decode cX1_byteAt 23 = .ok (.iconst (-1), 1) := dk_2 (dk_at dksX1_byteAt_0 23 rfl rfl)
theorem dX1_byteAt_24 : decode cX1_byteAt 24 = .ok (.ireturn, 1) := dk_172 (dk_at dksX1_byteAt_1 0 rfl rfl)
abbrev cX1_log : ByteArray := prog_1_method_70_code
def yX1_log : MethodName := ⟨RX1, "log", "(I)I"⟩
def dkwX1_log_9 : List UInt8 := [182, 1, 73, 42, 180, 0, 87, 42, 180, 0, 91, 182, 1, 66, 28, 172]
abbrev dktX1_log_9 : List UInt8 := dkwX1_log_9 ++ []
def dkwX1_log_8 : List UInt8 := [180, 0, 80, 182, 1, 54, 79, 42, 4, 181, 2, 24, 27, 4, 160, 0, 23, 21, 4, 158, 0, 18, 42]
abbrev dktX1_log_8 : List UInt8 := dkwX1_log_8 ++ dktX1_log_9
def dkwX1_log_7 : List UInt8 := [180, 0, 155, 5, 42, 180, 0, 91, 180, 1, 52, 79, 42, 180, 0, 155, 6, 42, 180, 0, 91, 42]
abbrev dktX1_log_7 : List UInt8 := dkwX1_log_7 ++ dktX1_log_8
def dkwX1_log_6 : List UInt8 := [132, 5, 1, 167, 255, 184, 42, 180, 0, 155, 3, 29, 79, 42, 180, 0, 155, 4, 21, 4, 79, 42]
abbrev dktX1_log_6 : List UInt8 := dkwX1_log_6 ++ dktX1_log_7
def dkwX1_log_5 : List UInt8 := [21, 5, 61, 167, 0, 19, 25, 6, 42, 180, 0, 80, 42, 180, 0, 91, 182, 2, 20, 132, 4, 1]
abbrev dktX1_log_5 : List UInt8 := dkwX1_log_5 ++ dktX1_log_6
def dkwX1_log_4 : List UInt8 := [21, 5, 50, 58, 6, 25, 6, 42, 180, 0, 80, 42, 180, 0, 91, 182, 2, 14, 62, 29, 153, 0, 9]
abbrev dktX1_log_4 : List UInt8 := dkwX1_log_4 ++ dktX1_log_5
def dkwX1_log_3 : List UInt8 := [21, 5, 42, 180, 0, 106, 180, 2, 7, 162, 0, 66, 28, 2, 160, 0, 61, 42, 180, 0, 106, 180, 2, 10]
abbrev dktX1_log_3 : List UInt8 := dkwX1_log_3 ++ dktX1_log_4
def dkwX1_log_2 : List UInt8 := [100, 172, 42, 180, 0, 91, 42, 180, 0, 87, 182, 1, 66, 2, 61, 3, 62, 3, 54, 4, 3, 54, 5]
abbrev dktX1_log_2 : List UInt8 := dkwX1_log_2 ++ dktX1_log_3
def dkwX1_log_1 : List UInt8 := [180, 0, 106, 182, 2, 5, 167, 0, 20, 77, 42, 44, 180, 0, 204, 181, 0, 187, 16, 254, 44, 180, 0, 206]
abbrev dktX1_log_1 : List UInt8 := dkwX1_log_1 ++ dktX1_log_2
def dkwX1_log_0 : List UInt8 := [27, 3, 4, 184, 0, 212, 154, 0, 7, 17, 252, 24, 172, 42, 182, 0, 184, 42, 3, 181, 0, 187, 42]
abbrev dktX1_log_0 : List UInt8 := dkwX1_log_0 ++ dktX1_log_1
theorem dksX1_log_0 : cX1_log.data.toList.drop 0 = dktX1_log_0 := by decide +kernel
theorem dksX1_log_1 : cX1_log.data.toList.drop 23 = dktX1_log_1 := dk_seg dksX1_log_0 23 rfl rfl
theorem dksX1_log_2 : cX1_log.data.toList.drop 47 = dktX1_log_2 := dk_seg dksX1_log_1 24 rfl rfl
theorem dksX1_log_3 : cX1_log.data.toList.drop 70 = dktX1_log_3 := dk_seg dksX1_log_2 23 rfl rfl
theorem dksX1_log_4 : cX1_log.data.toList.drop 94 = dktX1_log_4 := dk_seg dksX1_log_3 24 rfl rfl
theorem dksX1_log_5 : cX1_log.data.toList.drop 117 = dktX1_log_5 := dk_seg dksX1_log_4 23 rfl rfl
theorem dksX1_log_6 : cX1_log.data.toList.drop 139 = dktX1_log_6 := dk_seg dksX1_log_5 22 rfl rfl
theorem dksX1_log_7 : cX1_log.data.toList.drop 161 = dktX1_log_7 := dk_seg dksX1_log_6 22 rfl rfl
theorem dksX1_log_8 : cX1_log.data.toList.drop 183 = dktX1_log_8 := dk_seg dksX1_log_7 22 rfl rfl
theorem dksX1_log_9 : cX1_log.data.toList.drop 206 = dktX1_log_9 := dk_seg dksX1_log_8 23 rfl rfl
theorem dX1_log_0 : decode cX1_log 0 = .ok (.iload_n 1, 1) := dk_27 (dk_at dksX1_log_0 0 rfl rfl)
theorem dX1_log_1 : decode cX1_log 1 = .ok (.iconst 0, 1) := dk_3 (dk_at dksX1_log_0 1 rfl rfl)
theorem dX1_log_2 : decode cX1_log 2 = .ok (.iconst 1, 1) := dk_4 (dk_at dksX1_log_0 2 rfl rfl)
theorem dX1_log_3 : decode cX1_log 3 = .ok (.invokestatic 212, 3) := dk_184 0 212 (dk_at dksX1_log_0 3 rfl rfl)
theorem dX1_log_6 : decode cX1_log 6 = .ok (.ifCond .ne 7, 3) := dk_154 0 7 (dk_at dksX1_log_0 6 rfl rfl)
theorem dX1_log_9 : decode cX1_log 9 = .ok (.sipush (-1000), 3) := dk_17 252 24 (dk_at dksX1_log_0 9 rfl rfl)
theorem dX1_log_12 : decode cX1_log 12 = .ok (.ireturn, 1) := dk_172 (dk_at dksX1_log_0 12 rfl rfl)
theorem dX1_log_13 : decode cX1_log 13 = .ok (.aload_n 0, 1) := dk_42 (dk_at dksX1_log_0 13 rfl rfl)
theorem dX1_log_14 : decode cX1_log 14 = .ok (.invokevirtual 184, 3) := dk_182 0 184 (dk_at dksX1_log_0 14 rfl rfl)
theorem dX1_log_17 : decode cX1_log 17 = .ok (.aload_n 0, 1) := dk_42 (dk_at dksX1_log_0 17 rfl rfl)
theorem dX1_log_18 : decode cX1_log 18 = .ok (.iconst 0, 1) := dk_3 (dk_at dksX1_log_0 18 rfl rfl)
theorem dX1_log_19 : decode cX1_log 19 = .ok (.putfield 187, 3) := dk_181 0 187 (dk_at dksX1_log_0 19 rfl rfl)
theorem dX1_log_22 : decode cX1_log 22 = .ok (.aload_n 0, 1) := dk_42 (dk_at dksX1_log_0 22 rfl rfl)
theorem dX1_log_23 : decode cX1_log 23 = .ok (.getfield 106, 3) := dk_180 0 106 (dk_at dksX1_log_1 0 rfl rfl)
theorem dX1_log_26 : decode cX1_log 26 = .ok (.invokevirtual 517, 3) := dk_182 2 5 (dk_at dksX1_log_1 3 rfl rfl)
theorem dX1_log_29 : decode cX1_log 29 = .ok (.goto 20, 3) := dk_167 0 20 (dk_at dksX1_log_1 6 rfl rfl)
theorem dX1_log_32 : decode cX1_log 32 = .ok (.astore_n 2, 1) := dk_77 (dk_at dksX1_log_1 9 rfl rfl)
theorem dX1_log_33 : decode cX1_log 33 = .ok (.aload_n 0, 1) := dk_42 (dk_at dksX1_log_1 10 rfl rfl)
theorem dX1_log_34 : decode cX1_log 34 = .ok (.aload_n 2, 1) := dk_44 (dk_at dksX1_log_1 11 rfl rfl)
theorem dX1_log_35 : decode cX1_log 35 = .ok (.getfield 204, 3) := dk_180 0 204 (dk_at dksX1_log_1 12 rfl rfl)
theorem dX1_log_38 : decode cX1_log 38 = .ok (.putfield 187, 3) := dk_181 0 187 (dk_at dksX1_log_1 15 rfl rfl)
theorem dX1_log_41 : decode cX1_log 41 = .ok (.bipush (-2), 2) := dk_16 254 (dk_at dksX1_log_1 18 rfl rfl)
theorem dX1_log_43 : decode cX1_log 43 = .ok (.aload_n 2, 1) := dk_44 (dk_at dksX1_log_1 20 rfl rfl)
theorem dX1_log_44 : decode cX1_log 44 = .ok (.getfield 206, 3) := dk_180 0 206 (dk_at dksX1_log_1 21 rfl rfl)
theorem dX1_log_47 : decode cX1_log 47 = .ok (.isub, 1) := dk_100 (dk_at dksX1_log_2 0 rfl rfl)
theorem dX1_log_48 : decode cX1_log 48 = .ok (.ireturn, 1) := dk_172 (dk_at dksX1_log_2 1 rfl rfl)
theorem dX1_log_49 : decode cX1_log 49 = .ok (.aload_n 0, 1) := dk_42 (dk_at dksX1_log_2 2 rfl rfl)
theorem dX1_log_50 : decode cX1_log 50 = .ok (.getfield 91, 3) := dk_180 0 91 (dk_at dksX1_log_2 3 rfl rfl)
theorem dX1_log_53 : decode cX1_log 53 = .ok (.aload_n 0, 1) := dk_42 (dk_at dksX1_log_2 6 rfl rfl)
theorem dX1_log_54 : decode cX1_log 54 = .ok (.getfield 87, 3) := dk_180 0 87 (dk_at dksX1_log_2 7 rfl rfl)
theorem dX1_log_57 : decode cX1_log 57 = .ok (.invokevirtual 322, 3) := dk_182 1 66 (dk_at dksX1_log_2 10 rfl rfl)
theorem dX1_log_60 : decode cX1_log 60 = .ok (.iconst (-1), 1) := dk_2 (dk_at dksX1_log_2 13 rfl rfl)
theorem dX1_log_61 : decode cX1_log 61 = .ok (.istore_n 2, 1) := dk_61 (dk_at dksX1_log_2 14 rfl rfl)
theorem dX1_log_62 : decode cX1_log 62 = .ok (.iconst 0, 1) := dk_3 (dk_at dksX1_log_2 15 rfl rfl)
theorem dX1_log_63 : decode cX1_log 63 = .ok (.istore_n 3, 1) := dk_62 (dk_at dksX1_log_2 16 rfl rfl)
theorem dX1_log_64 : decode cX1_log 64 = .ok (.iconst 0, 1) := dk_3 (dk_at dksX1_log_2 17 rfl rfl)
theorem dX1_log_65 : decode cX1_log 65 = .ok (.istore 4, 2) := dk_54 4 (dk_at dksX1_log_2 18 rfl rfl)
theorem dX1_log_67 : decode cX1_log 67 = .ok (.iconst 0, 1) := dk_3 (dk_at dksX1_log_2 20 rfl rfl)
theorem dX1_log_68 : decode cX1_log 68 = .ok (.istore 5, 2) := dk_54 5 (dk_at dksX1_log_2 21 rfl rfl)
theorem dX1_log_70 : decode cX1_log 70 = .ok (.iload 5, 2) := dk_21 5 (dk_at dksX1_log_3 0 rfl rfl)
theorem dX1_log_72 : decode cX1_log 72 = .ok (.aload_n 0, 1) := dk_42 (dk_at dksX1_log_3 2 rfl rfl)
theorem dX1_log_73 : decode cX1_log 73 = .ok (.getfield 106, 3) := dk_180 0 106 (dk_at dksX1_log_3 3 rfl rfl)
theorem dX1_log_76 : decode cX1_log 76 = .ok (.getfield 519, 3) := dk_180 2 7 (dk_at dksX1_log_3 6 rfl rfl)
theorem dX1_log_79 : decode cX1_log 79 = .ok (.if_icmp .ge 66, 3) := dk_162 0 66 (dk_at dksX1_log_3 9 rfl rfl)
theorem dX1_log_82 : decode cX1_log 82 = .ok (.iload_n 2, 1) := dk_28 (dk_at dksX1_log_3 12 rfl rfl)
theorem dX1_log_83 : decode cX1_log 83 = .ok (.iconst (-1), 1) := dk_2 (dk_at dksX1_log_3 13 rfl rfl)
theorem dX1_log_84 : decode cX1_log 84 = .ok (.if_icmp .ne 61, 3) := dk_160 0 61 (dk_at dksX1_log_3 14 rfl rfl)
theorem dX1_log_87 : decode cX1_log 87 = .ok (.aload_n 0, 1) := dk_42 (dk_at dksX1_log_3 17 rfl rfl)
theorem dX1_log_88 : decode cX1_log 88 = .ok (.getfield 106, 3) := dk_180 0 106 (dk_at dksX1_log_3 18 rfl rfl)
theorem dX1_log_91 : decode cX1_log 91 = .ok (.getfield 522, 3) := dk_180 2 10 (dk_at dksX1_log_3 21 rfl rfl)
theorem dX1_log_94 : decode cX1_log 94 = .ok (.iload 5, 2) := dk_21 5 (dk_at dksX1_log_4 0 rfl rfl)
theorem dX1_log_96 : decode cX1_log 96 = .ok (.aaload, 1) := dk_50 (dk_at dksX1_log_4 2 rfl rfl)
theorem dX1_log_97 : decode cX1_log 97 = .ok (.astore 6, 2) := dk_58 6 (dk_at dksX1_log_4 3 rfl rfl)
theorem dX1_log_99 : decode cX1_log 99 = .ok (.aload 6, 2) := dk_25 6 (dk_at dksX1_log_4 5 rfl rfl)
theorem dX1_log_101 : decode cX1_log 101 = .ok (.aload_n 0, 1) := dk_42 (dk_at dksX1_log_4 7 rfl rfl)
theorem dX1_log_102 : decode cX1_log 102 = .ok (.getfield 80, 3) := dk_180 0 80 (dk_at dksX1_log_4 8 rfl rfl)
theorem dX1_log_105 : decode cX1_log 105 = .ok (.aload_n 0, 1) := dk_42 (dk_at dksX1_log_4 11 rfl rfl)
theorem dX1_log_106 : decode cX1_log 106 = .ok (.getfield 91, 3) := dk_180 0 91 (dk_at dksX1_log_4 12 rfl rfl)
theorem dX1_log_109 : decode cX1_log 109 = .ok (.invokevirtual 526, 3) := dk_182 2 14 (dk_at dksX1_log_4 15 rfl rfl)
theorem dX1_log_112 : decode cX1_log 112 = .ok (.istore_n 3, 1) := dk_62 (dk_at dksX1_log_4 18 rfl rfl)
theorem dX1_log_113 : decode cX1_log 113 = .ok (.iload_n 3, 1) := dk_29 (dk_at dksX1_log_4 19 rfl rfl)
theorem dX1_log_114 : decode cX1_log 114 = .ok (.ifCond .eq 9, 3) := dk_153 0 9 (dk_at dksX1_log_4 20 rfl rfl)
theorem dX1_log_117 : decode cX1_log 117 = .ok (.iload 5, 2) := dk_21 5 (dk_at dksX1_log_5 0 rfl rfl)
theorem dX1_log_119 : decode cX1_log 119 = .ok (.istore_n 2, 1) := dk_61 (dk_at dksX1_log_5 2 rfl rfl)
theorem dX1_log_120 : decode cX1_log 120 = .ok (.goto 19, 3) := dk_167 0 19 (dk_at dksX1_log_5 3 rfl rfl)
theorem dX1_log_123 : decode cX1_log 123 = .ok (.aload 6, 2) := dk_25 6 (dk_at dksX1_log_5 6 rfl rfl)
theorem dX1_log_125 : decode cX1_log 125 = .ok (.aload_n 0, 1) := dk_42 (dk_at dksX1_log_5 8 rfl rfl)
theorem dX1_log_126 : decode cX1_log 126 = .ok (.getfield 80, 3) := dk_180 0 80 (dk_at dksX1_log_5 9 rfl rfl)
theorem dX1_log_129 : decode cX1_log 129 = .ok (.aload_n 0, 1) := dk_42 (dk_at dksX1_log_5 12 rfl rfl)
theorem dX1_log_130 : decode cX1_log 130 = .ok (.getfield 91, 3) := dk_180 0 91 (dk_at dksX1_log_5 13 rfl rfl)
theorem dX1_log_133 : decode cX1_log 133 = .ok (.invokevirtual 532, 3) := dk_182 2 20 (dk_at dksX1_log_5 16 rfl rfl)
theorem dX1_log_136 : decode cX1_log 136 = .ok (.iinc 4 1, 3) := dk_132 4 1 (dk_at dksX1_log_5 19 rfl rfl)
theorem dX1_log_139 : decode cX1_log 139 = .ok (.iinc 5 1, 3) := dk_132 5 1 (dk_at dksX1_log_6 0 rfl rfl)
theorem dX1_log_142 : decode cX1_log 142 = .ok (.goto (-72), 3) := dk_167 255 184 (dk_at dksX1_log_6 3 rfl rfl)
theorem dX1_log_145 : decode cX1_log 145 = .ok (.aload_n 0, 1) := dk_42 (dk_at dksX1_log_6 6 rfl rfl)
theorem dX1_log_146 : decode cX1_log 146 = .ok (.getfield 155, 3) := dk_180 0 155 (dk_at dksX1_log_6 7 rfl rfl)
theorem dX1_log_149 : decode cX1_log 149 = .ok (.iconst 0, 1) := dk_3 (dk_at dksX1_log_6 10 rfl rfl)
theorem dX1_log_150 : decode cX1_log 150 = .ok (.iload_n 3, 1) := dk_29 (dk_at dksX1_log_6 11 rfl rfl)
theorem dX1_log_151 : decode cX1_log 151 = .ok (.iastore, 1) := dk_79 (dk_at dksX1_log_6 12 rfl rfl)
theorem dX1_log_152 : decode cX1_log 152 = .ok (.aload_n 0, 1) := dk_42 (dk_at dksX1_log_6 13 rfl rfl)
theorem dX1_log_153 : decode cX1_log 153 = .ok (.getfield 155, 3) := dk_180 0 155 (dk_at dksX1_log_6 14 rfl rfl)
theorem dX1_log_156 : decode cX1_log 156 = .ok (.iconst 1, 1) := dk_4 (dk_at dksX1_log_6 17 rfl rfl)
theorem dX1_log_157 : decode cX1_log 157 = .ok (.iload 4, 2) := dk_21 4 (dk_at dksX1_log_6 18 rfl rfl)
theorem dX1_log_159 : decode cX1_log 159 = .ok (.iastore, 1) := dk_79 (dk_at dksX1_log_6 20 rfl rfl)
theorem dX1_log_160 : decode cX1_log 160 = .ok (.aload_n 0, 1) := dk_42 (dk_at dksX1_log_6 21 rfl rfl)
theorem dX1_log_161 : decode cX1_log 161 = .ok (.getfield 155, 3) := dk_180 0 155 (dk_at dksX1_log_7 0 rfl rfl)
theorem dX1_log_164 : decode cX1_log 164 = .ok (.iconst 2, 1) := dk_5 (dk_at dksX1_log_7 3 rfl rfl)
theorem dX1_log_165 : decode cX1_log 165 = .ok (.aload_n 0, 1) := dk_42 (dk_at dksX1_log_7 4 rfl rfl)
theorem dX1_log_166 : decode cX1_log 166 = .ok (.getfield 91, 3) := dk_180 0 91 (dk_at dksX1_log_7 5 rfl rfl)
theorem dX1_log_169 : decode cX1_log 169 = .ok (.getfield 308, 3) := dk_180 1 52 (dk_at dksX1_log_7 8 rfl rfl)
theorem dX1_log_172 : decode cX1_log 172 = .ok (.iastore, 1) := dk_79 (dk_at dksX1_log_7 11 rfl rfl)
theorem dX1_log_173 : decode cX1_log 173 = .ok (.aload_n 0, 1) := dk_42 (dk_at dksX1_log_7 12 rfl rfl)
theorem dX1_log_174 : decode cX1_log 174 = .ok (.getfield 155, 3) := dk_180 0 155 (dk_at dksX1_log_7 13 rfl rfl)
theorem dX1_log_177 : decode cX1_log 177 = .ok (.iconst 3, 1) := dk_6 (dk_at dksX1_log_7 16 rfl rfl)
theorem dX1_log_178 : decode cX1_log 178 = .ok (.aload_n 0, 1) := dk_42 (dk_at dksX1_log_7 17 rfl rfl)
theorem dX1_log_179 : decode cX1_log 179 = .ok (.getfield 91, 3) := dk_180 0 91 (dk_at dksX1_log_7 18 rfl rfl)
theorem dX1_log_182 : decode cX1_log 182 = .ok (.aload_n 0, 1) := dk_42 (dk_at dksX1_log_7 21 rfl rfl)
theorem dX1_log_183 : decode cX1_log 183 = .ok (.getfield 80, 3) := dk_180 0 80 (dk_at dksX1_log_8 0 rfl rfl)
theorem dX1_log_186 : decode cX1_log 186 = .ok (.invokevirtual 310, 3) := dk_182 1 54 (dk_at dksX1_log_8 3 rfl rfl)
theorem dX1_log_189 : decode cX1_log 189 = .ok (.iastore, 1) := dk_79 (dk_at dksX1_log_8 6 rfl rfl)
theorem dX1_log_190 : decode cX1_log 190 = .ok (.aload_n 0, 1) := dk_42 (dk_at dksX1_log_8 7 rfl rfl)
theorem dX1_log_191 : decode cX1_log 191 = .ok (.iconst 1, 1) := dk_4 (dk_at dksX1_log_8 8 rfl rfl)
theorem dX1_log_192 : decode cX1_log 192 = .ok (.putfield 536, 3) := dk_181 2 24 (dk_at dksX1_log_8 9 rfl rfl)
theorem dX1_log_195 : decode cX1_log 195 = .ok (.iload_n 1, 1) := dk_27 (dk_at dksX1_log_8 12 rfl rfl)
theorem dX1_log_196 : decode cX1_log 196 = .ok (.iconst 1, 1) := dk_4 (dk_at dksX1_log_8 13 rfl rfl)
theorem dX1_log_197 : decode cX1_log 197 = .ok (.if_icmp .ne 23, 3) := dk_160 0 23 (dk_at dksX1_log_8 14 rfl rfl)
theorem dX1_log_200 : decode cX1_log 200 = .ok (.iload 4, 2) := dk_21 4 (dk_at dksX1_log_8 17 rfl rfl)
theorem dX1_log_202 : decode cX1_log 202 = .ok (.ifCond .le 18, 3) := dk_158 0 18 (dk_at dksX1_log_8 19 rfl rfl)
theorem dX1_log_205 : decode cX1_log 205 = .ok (.aload_n 0, 1) := dk_42 (dk_at dksX1_log_8 22 rfl rfl)
theorem dX1_log_206 : decode cX1_log 206 = .ok (.invokevirtual 329, 3) := dk_182 1 73 (dk_at dksX1_log_9 0 rfl rfl)
theorem dX1_log_209 : decode cX1_log 209 = .ok (.aload_n 0, 1) := dk_42 (dk_at dksX1_log_9 3 rfl rfl)
theorem dX1_log_210 : decode cX1_log 210 = .ok (.getfield 87, 3) := dk_180 0 87 (dk_at dksX1_log_9 4 rfl rfl)
theorem dX1_log_213 : decode cX1_log 213 = .ok (.aload_n 0, 1) := dk_42 (dk_at dksX1_log_9 7 rfl rfl)
theorem dX1_log_214 : decode cX1_log 214 = .ok (.getfield 91, 3) := dk_180 0 91 (dk_at dksX1_log_9 8 rfl rfl)
theorem dX1_log_217 : decode cX1_log 217 = .ok (.invokevirtual 322, 3) := dk_182 1 66 (dk_at dksX1_log_9 11 rfl rfl)
theorem dX1_log_220 : decode cX1_log 220 = .ok (.iload_n 2, 1) := dk_28 (dk_at dksX1_log_9 14 rfl rfl)
theorem dX1_log_221 : decode cX1_log 221 = .ok (.ireturn, 1) := dk_172 (dk_at dksX1_log_9 15 rfl rfl)
abbrev cX1_logged : ByteArray := prog_1_method_71_code
def yX1_logged : MethodName := ⟨RX1, "logged", "(I)I"⟩
def dkwX1_logged_1 : List UInt8 := [167, 0, 4, 2, 172]
abbrev dktX1_logged_1 : List UInt8 := dkwX1_logged_1 ++ []
def dkwX1_logged_0 : List UInt8 := [42, 180, 2, 24, 153, 0, 21, 27, 3, 6, 184, 0, 212, 153, 0, 12, 42, 180, 0, 155, 27, 46]
abbrev dktX1_logged_0 : List UInt8 := dkwX1_logged_0 ++ dktX1_logged_1
theorem dksX1_logged_0 : cX1_logged.data.toList.drop 0 = dktX1_logged_0 := by decide +kernel
theorem dksX1_logged_1 : cX1_logged.data.toList.drop 22 = dktX1_logged_1 := dk_seg dksX1_logged_0 22 rfl rfl
theorem dX1_logged_0 : decode cX1_logged 0 = .ok (.aload_n 0, 1) := dk_42 (dk_at dksX1_logged_0 0 rfl rfl)
theorem dX1_logged_1 : decode cX1_logged 1 = .ok (.getfield 536, 3) := dk_180 2 24 (dk_at dksX1_logged_0 1 rfl rfl)
theorem dX1_logged_4 : decode cX1_logged 4 = .ok (.ifCond .eq 21, 3) := dk_153 0 21 (dk_at dksX1_logged_0 4 rfl rfl)
theorem dX1_logged_7 : decode cX1_logged 7 = .ok (.iload_n 1, 1) := dk_27 (dk_at dksX1_logged_0 7 rfl rfl)
theorem dX1_logged_8 : decode cX1_logged 8 = .ok (.iconst 0, 1) := dk_3 (dk_at dksX1_logged_0 8 rfl rfl)
theorem dX1_logged_9 : decode cX1_logged 9 = .ok (.iconst 3, 1) := dk_6 (dk_at dksX1_logged_0 9 rfl rfl)
theorem dX1_logged_10 : decode cX1_logged 10 = .ok (.invokestatic 212, 3) := dk_184 0 212 (dk_at dksX1_logged_0 10 rfl rfl)
theorem dX1_logged_13 : decode cX1_logged 13 = .ok (.ifCond .eq 12, 3) := dk_153 0 12 (dk_at dksX1_logged_0 13 rfl rfl)
theorem dX1_logged_16 : decode cX1_logged 16 = .ok (.aload_n 0, 1) := dk_42 (dk_at dksX1_logged_0 16 rfl rfl)
theorem dX1_logged_17 : decode cX1_logged 17 = .ok (.getfield 155, 3) := dk_180 0 155 (dk_at dksX1_logged_0 17 rfl rfl)
theorem dX1_logged_20 : decode cX1_logged 20 = .ok (.iload_n 1, 1) := dk_27 (dk_at dksX1_logged_0 20 rfl rfl)
theorem dX1_logged_21 : decode cX1_logged 21 = .ok (.iaload, 1) := dk_46 (dk_at dksX1_logged_0 21 rfl rfl)
theorem dX1_logged_22 : decode cX1_logged 22 = .ok (.goto 4, 3) := dk_167 0 4 (dk_at dksX1_logged_1 0 rfl rfl)
theorem dX1_logged_25 : decode cX1_logged 25 = .ok (.iconst (-1), 1) := dk_2 (dk_at dksX1_logged_1 3 rfl rfl)
theorem dX1_logged_26 : decode cX1_logged 26 = .ok (.ireturn, 1) := dk_172 (dk_at dksX1_logged_1 4 rfl rfl)
abbrev cX1_sentence : ByteArray := prog_1_method_72_code
def yX1_sentence : MethodName := ⟨RX1, "sentence", "()I"⟩
def dkwX1_sentence_1 : List UInt8 := [180, 2, 30, 172, 76, 42, 43, 180, 0, 204, 181, 0, 187, 2, 43, 180, 0, 206, 100, 172]
abbrev dktX1_sentence_1 : List UInt8 := dkwX1_sentence_1 ++ []
def dkwX1_sentence_0 : List UInt8 := [42, 182, 0, 184, 42, 3, 181, 0, 187, 42, 42, 180, 0, 161, 182, 2, 27, 181, 0, 200, 42, 180, 0, 161]
abbrev dktX1_sentence_0 : List UInt8 := dkwX1_sentence_0 ++ dktX1_sentence_1
theorem dksX1_sentence_0 : cX1_sentence.data.toList.drop 0 = dktX1_sentence_0 := by decide +kernel
theorem dksX1_sentence_1 : cX1_sentence.data.toList.drop 24 = dktX1_sentence_1 := dk_seg dksX1_sentence_0 24 rfl rfl
theorem dX1_sentence_0 : decode cX1_sentence 0 = .ok (.aload_n 0, 1) := dk_42 (dk_at dksX1_sentence_0 0 rfl rfl)
theorem dX1_sentence_1 : decode cX1_sentence 1 = .ok (.invokevirtual 184, 3) := dk_182 0 184 (dk_at dksX1_sentence_0 1 rfl rfl)
theorem dX1_sentence_4 : decode cX1_sentence 4 = .ok (.aload_n 0, 1) := dk_42 (dk_at dksX1_sentence_0 4 rfl rfl)
theorem dX1_sentence_5 : decode cX1_sentence 5 = .ok (.iconst 0, 1) := dk_3 (dk_at dksX1_sentence_0 5 rfl rfl)
theorem dX1_sentence_6 : decode cX1_sentence 6 = .ok (.putfield 187, 3) := dk_181 0 187 (dk_at dksX1_sentence_0 6 rfl rfl)
theorem dX1_sentence_9 : decode cX1_sentence 9 = .ok (.aload_n 0, 1) := dk_42 (dk_at dksX1_sentence_0 9 rfl rfl)
theorem dX1_sentence_10 : decode cX1_sentence 10 = .ok (.aload_n 0, 1) := dk_42 (dk_at dksX1_sentence_0 10 rfl rfl)
theorem dX1_sentence_11 : decode cX1_sentence 11 = .ok (.getfield 161, 3) := dk_180 0 161 (dk_at dksX1_sentence_0 11 rfl rfl)
theorem dX1_sentence_14 : decode cX1_sentence 14 = .ok (.invokevirtual 539, 3) := dk_182 2 27 (dk_at dksX1_sentence_0 14 rfl rfl)
theorem dX1_sentence_17 : decode cX1_sentence 17 = .ok (.putfield 200, 3) := dk_181 0 200 (dk_at dksX1_sentence_0 17 rfl rfl)
theorem dX1_sentence_20 : decode cX1_sentence 20 = .ok (.aload_n 0, 1) := dk_42 (dk_at dksX1_sentence_0 20 rfl rfl)
theorem dX1_sentence_21 : decode cX1_sentence 21 = .ok (.getfield 161, 3) := dk_180 0 161 (dk_at dksX1_sentence_0 21 rfl rfl)
theorem dX1_sentence_24 : decode cX1_sentence 24 = .ok (.getfield 542, 3) := dk_180 2 30 (dk_at dksX1_sentence_1 0 rfl rfl)
theorem dX1_sentence_27 : decode cX1_sentence 27 = .ok (.ireturn, 1) := dk_172 (dk_at dksX1_sentence_1 3 rfl rfl)
theorem dX1_sentence_28 : decode cX1_sentence 28 = .ok (.astore_n 1, 1) := dk_76 (dk_at dksX1_sentence_1 4 rfl rfl)
theorem dX1_sentence_29 : decode cX1_sentence 29 = .ok (.aload_n 0, 1) := dk_42 (dk_at dksX1_sentence_1 5 rfl rfl)
theorem dX1_sentence_30 : decode cX1_sentence 30 = .ok (.aload_n 1, 1) := dk_43 (dk_at dksX1_sentence_1 6 rfl rfl)
theorem dX1_sentence_31 : decode cX1_sentence 31 = .ok (.getfield 204, 3) := dk_180 0 204 (dk_at dksX1_sentence_1 7 rfl rfl)
theorem dX1_sentence_34 : decode cX1_sentence 34 = .ok (.putfield 187, 3) := dk_181 0 187 (dk_at dksX1_sentence_1 10 rfl rfl)
theorem dX1_sentence_37 : decode cX1_sentence 37 = .ok (.iconst (-1), 1) := dk_2 (dk_at dksX1_sentence_1 13 rfl rfl)
theorem dX1_sentence_38 : decode cX1_sentence 38 = .ok (.aload_n 1, 1) := dk_43 (dk_at dksX1_sentence_1 14 rfl rfl)
theorem dX1_sentence_39 : decode cX1_sentence 39 = .ok (.getfield 206, 3) := dk_180 0 206 (dk_at dksX1_sentence_1 15 rfl rfl)
theorem dX1_sentence_42 : decode cX1_sentence 42 = .ok (.isub, 1) := dk_100 (dk_at dksX1_sentence_1 18 rfl rfl)
theorem dX1_sentence_43 : decode cX1_sentence 43 = .ok (.ireturn, 1) := dk_172 (dk_at dksX1_sentence_1 19 rfl rfl)
abbrev cX1_said : ByteArray := prog_1_method_73_code
def yX1_said : MethodName := ⟨RX1, "said", "(I)I"⟩
def dkwX1_said_3 : List UInt8 := [2, 172]
abbrev dktX1_said_3 : List UInt8 := dkwX1_said_3 ++ []
def dkwX1_said_2 : List UInt8 := [27, 160, 0, 5, 29, 172, 132, 2, 1, 132, 3, 1, 167, 255, 215, 27, 2, 160, 0, 7, 28, 167, 0, 4]
abbrev dktX1_said_2 : List UInt8 := dkwX1_said_2 ++ dktX1_said_3
def dkwX1_said_1 : List UInt8 := [180, 0, 219, 162, 0, 36, 42, 180, 0, 200, 42, 29, 185, 2, 33, 3, 0, 154, 0, 6, 167, 0, 13, 28]
abbrev dktX1_said_1 : List UInt8 := dkwX1_said_1 ++ dktX1_said_2
def dkwX1_said_0 : List UInt8 := [42, 180, 0, 200, 198, 0, 8, 27, 2, 162, 0, 5, 2, 172, 3, 61, 3, 62, 29, 42, 180, 0, 80]
abbrev dktX1_said_0 : List UInt8 := dkwX1_said_0 ++ dktX1_said_1
theorem dksX1_said_0 : cX1_said.data.toList.drop 0 = dktX1_said_0 := by decide +kernel
theorem dksX1_said_1 : cX1_said.data.toList.drop 23 = dktX1_said_1 := dk_seg dksX1_said_0 23 rfl rfl
theorem dksX1_said_2 : cX1_said.data.toList.drop 47 = dktX1_said_2 := dk_seg dksX1_said_1 24 rfl rfl
theorem dksX1_said_3 : cX1_said.data.toList.drop 71 = dktX1_said_3 := dk_seg dksX1_said_2 24 rfl rfl
theorem dX1_said_0 : decode cX1_said 0 = .ok (.aload_n 0, 1) := dk_42 (dk_at dksX1_said_0 0 rfl rfl)
theorem dX1_said_1 : decode cX1_said 1 = .ok (.getfield 200, 3) := dk_180 0 200 (dk_at dksX1_said_0 1 rfl rfl)
theorem dX1_said_4 : decode cX1_said 4 = .ok (.ifnull 8, 3) := dk_198 0 8 (dk_at dksX1_said_0 4 rfl rfl)
theorem dX1_said_7 : decode cX1_said 7 = .ok (.iload_n 1, 1) := dk_27 (dk_at dksX1_said_0 7 rfl rfl)
theorem dX1_said_8 : decode cX1_said 8 = .ok (.iconst (-1), 1) := dk_2 (dk_at dksX1_said_0 8 rfl rfl)
theorem dX1_said_9 : decode cX1_said 9 = .ok (.if_icmp .ge 5, 3) := dk_162 0 5 (dk_at dksX1_said_0 9 rfl rfl)
theorem dX1_said_12 : decode cX1_said 12 = .ok (.iconst (-1), 1) := dk_2 (dk_at dksX1_said_0 12 rfl rfl)
theorem dX1_said_13 : decode cX1_said 13 = .ok (.ireturn, 1) := dk_172 (dk_at dksX1_said_0 13 rfl rfl)
theorem dX1_said_14 : decode cX1_said 14 = .ok (.iconst 0, 1) := dk_3 (dk_at dksX1_said_0 14 rfl rfl)
theorem dX1_said_15 : decode cX1_said 15 = .ok (.istore_n 2, 1) := dk_61 (dk_at dksX1_said_0 15 rfl rfl)
theorem dX1_said_16 : decode cX1_said 16 = .ok (.iconst 0, 1) := dk_3 (dk_at dksX1_said_0 16 rfl rfl)
theorem dX1_said_17 : decode cX1_said 17 = .ok (.istore_n 3, 1) := dk_62 (dk_at dksX1_said_0 17 rfl rfl)
theorem dX1_said_18 : decode cX1_said 18 = .ok (.iload_n 3, 1) := dk_29 (dk_at dksX1_said_0 18 rfl rfl)
theorem dX1_said_19 : decode cX1_said 19 = .ok (.aload_n 0, 1) := dk_42 (dk_at dksX1_said_0 19 rfl rfl)
theorem dX1_said_20 : decode cX1_said 20 = .ok (.getfield 80, 3) := dk_180 0 80 (dk_at dksX1_said_0 20 rfl rfl)
theorem dX1_said_23 : decode cX1_said 23 = .ok (.getfield 219, 3) := dk_180 0 219 (dk_at dksX1_said_1 0 rfl rfl)
theorem dX1_said_26 : decode cX1_said 26 = .ok (.if_icmp .ge 36, 3) := dk_162 0 36 (dk_at dksX1_said_1 3 rfl rfl)
theorem dX1_said_29 : decode cX1_said 29 = .ok (.aload_n 0, 1) := dk_42 (dk_at dksX1_said_1 6 rfl rfl)
theorem dX1_said_30 : decode cX1_said 30 = .ok (.getfield 200, 3) := dk_180 0 200 (dk_at dksX1_said_1 7 rfl rfl)
theorem dX1_said_33 : decode cX1_said 33 = .ok (.aload_n 0, 1) := dk_42 (dk_at dksX1_said_1 10 rfl rfl)
theorem dX1_said_34 : decode cX1_said 34 = .ok (.iload_n 3, 1) := dk_29 (dk_at dksX1_said_1 11 rfl rfl)
theorem dX1_said_35 : decode cX1_said 35 = .ok (.invokeinterface 545 3, 5) := by decide +kernel
theorem dX1_said_40 : decode cX1_said 40 = .ok (.ifCond .ne 6, 3) := dk_154 0 6 (dk_at dksX1_said_1 17 rfl rfl)
theorem dX1_said_43 : decode cX1_said 43 = .ok (.goto 13, 3) := dk_167 0 13 (dk_at dksX1_said_1 20 rfl rfl)
theorem dX1_said_46 : decode cX1_said 46 = .ok (.iload_n 2, 1) := dk_28 (dk_at dksX1_said_1 23 rfl rfl)
theorem dX1_said_47 : decode cX1_said 47 = .ok (.iload_n 1, 1) := dk_27 (dk_at dksX1_said_2 0 rfl rfl)
theorem dX1_said_48 : decode cX1_said 48 = .ok (.if_icmp .ne 5, 3) := dk_160 0 5 (dk_at dksX1_said_2 1 rfl rfl)
theorem dX1_said_51 : decode cX1_said 51 = .ok (.iload_n 3, 1) := dk_29 (dk_at dksX1_said_2 4 rfl rfl)
theorem dX1_said_52 : decode cX1_said 52 = .ok (.ireturn, 1) := dk_172 (dk_at dksX1_said_2 5 rfl rfl)
theorem dX1_said_53 : decode cX1_said 53 = .ok (.iinc 2 1, 3) := dk_132 2 1 (dk_at dksX1_said_2 6 rfl rfl)
theorem dX1_said_56 : decode cX1_said 56 = .ok (.iinc 3 1, 3) := dk_132 3 1 (dk_at dksX1_said_2 9 rfl rfl)
theorem dX1_said_59 : decode cX1_said 59 = .ok (.goto (-41), 3) := dk_167 255 215 (dk_at dksX1_said_2 12 rfl rfl)
theorem dX1_said_62 : decode cX1_said 62 = .ok (.iload_n 1, 1) := dk_27 (dk_at dksX1_said_2 15 rfl rfl)
theorem dX1_said_63 : decode cX1_said 63 = .ok (.iconst (-1), 1) := dk_2 (dk_at dksX1_said_2 16 rfl rfl)
theorem dX1_said_64 : decode cX1_said 64 = .ok (.if_icmp .ne 7, 3) := dk_160 0 7 (dk_at dksX1_said_2 17 rfl rfl)
theorem dX1_said_67 : decode cX1_said 67 = .ok (.iload_n 2, 1) := dk_28 (dk_at dksX1_said_2 20 rfl rfl)
theorem dX1_said_68 : decode cX1_said 68 = .ok (.goto 4, 3) := dk_167 0 4 (dk_at dksX1_said_2 21 rfl rfl)
theorem dX1_said_71 : decode cX1_said 71 = .ok (.iconst (-1), 1) := dk_2 (dk_at dksX1_said_3 0 rfl rfl)
theorem dX1_said_72 : decode cX1_said 72 = .ok (.ireturn, 1) := dk_172 (dk_at dksX1_said_3 1 rfl rfl)
abbrev cX1_image : ByteArray := prog_1_method_74_code
def yX1_image : MethodName := ⟨RX1, "image", "(I)Z"⟩
def dkwX1_image_2 : List UInt8 := [44, 180, 2, 41, 42, 180, 0, 87, 182, 1, 66, 44, 42, 180, 0, 200, 181, 2, 44, 4, 172]
abbrev dktX1_image_2 : List UInt8 := dkwX1_image_2 ++ []
def dkwX1_image_1 : List UInt8 := [27, 187, 0, 165, 89, 183, 2, 39, 83, 42, 180, 0, 167, 27, 50, 77, 44, 42, 180, 0, 80, 181, 2, 40]
abbrev dktX1_image_1 : List UInt8 := dkwX1_image_1 ++ dktX1_image_2
def dkwX1_image_0 : List UInt8 := [27, 3, 4, 184, 0, 212, 154, 0, 5, 3, 172, 42, 180, 0, 167, 27, 50, 199, 0, 16, 42, 180, 0, 167]
abbrev dktX1_image_0 : List UInt8 := dkwX1_image_0 ++ dktX1_image_1
theorem dksX1_image_0 : cX1_image.data.toList.drop 0 = dktX1_image_0 := by decide +kernel
theorem dksX1_image_1 : cX1_image.data.toList.drop 24 = dktX1_image_1 := dk_seg dksX1_image_0 24 rfl rfl
theorem dksX1_image_2 : cX1_image.data.toList.drop 48 = dktX1_image_2 := dk_seg dksX1_image_1 24 rfl rfl
theorem dX1_image_0 : decode cX1_image 0 = .ok (.iload_n 1, 1) := dk_27 (dk_at dksX1_image_0 0 rfl rfl)
theorem dX1_image_1 : decode cX1_image 1 = .ok (.iconst 0, 1) := dk_3 (dk_at dksX1_image_0 1 rfl rfl)
theorem dX1_image_2 : decode cX1_image 2 = .ok (.iconst 1, 1) := dk_4 (dk_at dksX1_image_0 2 rfl rfl)
theorem dX1_image_3 : decode cX1_image 3 = .ok (.invokestatic 212, 3) := dk_184 0 212 (dk_at dksX1_image_0 3 rfl rfl)
theorem dX1_image_6 : decode cX1_image 6 = .ok (.ifCond .ne 5, 3) := dk_154 0 5 (dk_at dksX1_image_0 6 rfl rfl)
theorem dX1_image_9 : decode cX1_image 9 = .ok (.iconst 0, 1) := dk_3 (dk_at dksX1_image_0 9 rfl rfl)
theorem dX1_image_10 : decode cX1_image 10 = .ok (.ireturn, 1) := dk_172 (dk_at dksX1_image_0 10 rfl rfl)
theorem dX1_image_11 : decode cX1_image 11 = .ok (.aload_n 0, 1) := dk_42 (dk_at dksX1_image_0 11 rfl rfl)
theorem dX1_image_12 : decode cX1_image 12 = .ok (.getfield 167, 3) := dk_180 0 167 (dk_at dksX1_image_0 12 rfl rfl)
theorem dX1_image_15 : decode cX1_image 15 = .ok (.iload_n 1, 1) := dk_27 (dk_at dksX1_image_0 15 rfl rfl)
theorem dX1_image_16 : decode cX1_image 16 = .ok (.aaload, 1) := dk_50 (dk_at dksX1_image_0 16 rfl rfl)
theorem dX1_image_17 : decode cX1_image 17 = .ok (.ifnonnull 16, 3) := dk_199 0 16 (dk_at dksX1_image_0 17 rfl rfl)
theorem dX1_image_20 : decode cX1_image 20 = .ok (.aload_n 0, 1) := dk_42 (dk_at dksX1_image_0 20 rfl rfl)
theorem dX1_image_21 : decode cX1_image 21 = .ok (.getfield 167, 3) := dk_180 0 167 (dk_at dksX1_image_0 21 rfl rfl)
theorem dX1_image_24 : decode cX1_image 24 = .ok (.iload_n 1, 1) := dk_27 (dk_at dksX1_image_1 0 rfl rfl)
theorem dX1_image_25 : decode cX1_image 25 = .ok (.new 165, 3) := dk_187 0 165 (dk_at dksX1_image_1 1 rfl rfl)
theorem dX1_image_28 : decode cX1_image 28 = .ok (.dup, 1) := dk_89 (dk_at dksX1_image_1 4 rfl rfl)
theorem dX1_image_29 : decode cX1_image 29 = .ok (.invokespecial 551, 3) := dk_183 2 39 (dk_at dksX1_image_1 5 rfl rfl)
theorem dX1_image_32 : decode cX1_image 32 = .ok (.aastore, 1) := dk_83 (dk_at dksX1_image_1 8 rfl rfl)
theorem dX1_image_33 : decode cX1_image 33 = .ok (.aload_n 0, 1) := dk_42 (dk_at dksX1_image_1 9 rfl rfl)
theorem dX1_image_34 : decode cX1_image 34 = .ok (.getfield 167, 3) := dk_180 0 167 (dk_at dksX1_image_1 10 rfl rfl)
theorem dX1_image_37 : decode cX1_image 37 = .ok (.iload_n 1, 1) := dk_27 (dk_at dksX1_image_1 13 rfl rfl)
theorem dX1_image_38 : decode cX1_image 38 = .ok (.aaload, 1) := dk_50 (dk_at dksX1_image_1 14 rfl rfl)
theorem dX1_image_39 : decode cX1_image 39 = .ok (.astore_n 2, 1) := dk_77 (dk_at dksX1_image_1 15 rfl rfl)
theorem dX1_image_40 : decode cX1_image 40 = .ok (.aload_n 2, 1) := dk_44 (dk_at dksX1_image_1 16 rfl rfl)
theorem dX1_image_41 : decode cX1_image 41 = .ok (.aload_n 0, 1) := dk_42 (dk_at dksX1_image_1 17 rfl rfl)
theorem dX1_image_42 : decode cX1_image 42 = .ok (.getfield 80, 3) := dk_180 0 80 (dk_at dksX1_image_1 18 rfl rfl)
theorem dX1_image_45 : decode cX1_image 45 = .ok (.putfield 552, 3) := dk_181 2 40 (dk_at dksX1_image_1 21 rfl rfl)
theorem dX1_image_48 : decode cX1_image 48 = .ok (.aload_n 2, 1) := dk_44 (dk_at dksX1_image_2 0 rfl rfl)
theorem dX1_image_49 : decode cX1_image 49 = .ok (.getfield 553, 3) := dk_180 2 41 (dk_at dksX1_image_2 1 rfl rfl)
theorem dX1_image_52 : decode cX1_image 52 = .ok (.aload_n 0, 1) := dk_42 (dk_at dksX1_image_2 4 rfl rfl)
theorem dX1_image_53 : decode cX1_image 53 = .ok (.getfield 87, 3) := dk_180 0 87 (dk_at dksX1_image_2 5 rfl rfl)
theorem dX1_image_56 : decode cX1_image 56 = .ok (.invokevirtual 322, 3) := dk_182 1 66 (dk_at dksX1_image_2 8 rfl rfl)
theorem dX1_image_59 : decode cX1_image 59 = .ok (.aload_n 2, 1) := dk_44 (dk_at dksX1_image_2 11 rfl rfl)
theorem dX1_image_60 : decode cX1_image 60 = .ok (.aload_n 0, 1) := dk_42 (dk_at dksX1_image_2 12 rfl rfl)
theorem dX1_image_61 : decode cX1_image 61 = .ok (.getfield 200, 3) := dk_180 0 200 (dk_at dksX1_image_2 13 rfl rfl)
theorem dX1_image_64 : decode cX1_image 64 = .ok (.putfield 556, 3) := dk_181 2 44 (dk_at dksX1_image_2 16 rfl rfl)
theorem dX1_image_67 : decode cX1_image 67 = .ok (.iconst 1, 1) := dk_4 (dk_at dksX1_image_2 19 rfl rfl)
theorem dX1_image_68 : decode cX1_image 68 = .ok (.ireturn, 1) := dk_172 (dk_at dksX1_image_2 20 rfl rfl)
abbrev cX1_restore : ByteArray := prog_1_method_75_code
def yX1_restore : MethodName := ⟨RX1, "restore", "(I)Z"⟩
def dkwX1_restore_2 : List UInt8 := [180, 2, 44, 181, 0, 200, 42, 3, 181, 0, 197, 4, 172]
abbrev dktX1_restore_2 : List UInt8 := dkwX1_restore_2 ++ []
def dkwX1_restore_1 : List UInt8 := [27, 50, 77, 42, 44, 180, 2, 40, 181, 0, 80, 42, 180, 0, 87, 44, 180, 2, 41, 182, 1, 66, 42, 44]
abbrev dktX1_restore_1 : List UInt8 := dkwX1_restore_1 ++ dktX1_restore_2
def dkwX1_restore_0 : List UInt8 := [27, 3, 4, 184, 0, 212, 153, 0, 12, 42, 180, 0, 167, 27, 50, 199, 0, 5, 3, 172, 42, 180, 0, 167]
abbrev dktX1_restore_0 : List UInt8 := dkwX1_restore_0 ++ dktX1_restore_1
theorem dksX1_restore_0 : cX1_restore.data.toList.drop 0 = dktX1_restore_0 := by decide +kernel
theorem dksX1_restore_1 : cX1_restore.data.toList.drop 24 = dktX1_restore_1 := dk_seg dksX1_restore_0 24 rfl rfl
theorem dksX1_restore_2 : cX1_restore.data.toList.drop 48 = dktX1_restore_2 := dk_seg dksX1_restore_1 24 rfl rfl
theorem dX1_restore_0 : decode cX1_restore 0 = .ok (.iload_n 1, 1) := dk_27 (dk_at dksX1_restore_0 0 rfl rfl)
theorem dX1_restore_1 : decode cX1_restore 1 = .ok (.iconst 0, 1) := dk_3 (dk_at dksX1_restore_0 1 rfl rfl)
theorem dX1_restore_2 : decode cX1_restore 2 = .ok (.iconst 1, 1) := dk_4 (dk_at dksX1_restore_0 2 rfl rfl)
theorem dX1_restore_3 : decode cX1_restore 3 = .ok (.invokestatic 212, 3) := dk_184 0 212 (dk_at dksX1_restore_0 3 rfl rfl)
theorem dX1_restore_6 : decode cX1_restore 6 = .ok (.ifCond .eq 12, 3) := dk_153 0 12 (dk_at dksX1_restore_0 6 rfl rfl)
theorem dX1_restore_9 : decode cX1_restore 9 = .ok (.aload_n 0, 1) := dk_42 (dk_at dksX1_restore_0 9 rfl rfl)
theorem dX1_restore_10 : decode cX1_restore 10 = .ok (.getfield 167, 3) := dk_180 0 167 (dk_at dksX1_restore_0 10 rfl rfl)
theorem dX1_restore_13 : decode cX1_restore 13 = .ok (.iload_n 1, 1) := dk_27 (dk_at dksX1_restore_0 13 rfl rfl)
theorem dX1_restore_14 : decode cX1_restore 14 = .ok (.aaload, 1) := dk_50 (dk_at dksX1_restore_0 14 rfl rfl)
theorem dX1_restore_15 : decode cX1_restore 15 = .ok (.ifnonnull 5, 3) := dk_199 0 5 (dk_at dksX1_restore_0 15 rfl rfl)
theorem dX1_restore_18 : decode cX1_restore 18 = .ok (.iconst 0, 1) := dk_3 (dk_at dksX1_restore_0 18 rfl rfl)
theorem dX1_restore_19 : decode cX1_restore 19 = .ok (.ireturn, 1) := dk_172 (dk_at dksX1_restore_0 19 rfl rfl)
theorem dX1_restore_20 : decode cX1_restore 20 = .ok (.aload_n 0, 1) := dk_42 (dk_at dksX1_restore_0 20 rfl rfl)
theorem dX1_restore_21 : decode cX1_restore 21 = .ok (.getfield 167, 3) := dk_180 0 167 (dk_at dksX1_restore_0 21 rfl rfl)
theorem dX1_restore_24 : decode cX1_restore 24 = .ok (.iload_n 1, 1) := dk_27 (dk_at dksX1_restore_1 0 rfl rfl)
theorem dX1_restore_25 : decode cX1_restore 25 = .ok (.aaload, 1) := dk_50 (dk_at dksX1_restore_1 1 rfl rfl)
theorem dX1_restore_26 : decode cX1_restore 26 = .ok (.astore_n 2, 1) := dk_77 (dk_at dksX1_restore_1 2 rfl rfl)
theorem dX1_restore_27 : decode cX1_restore 27 = .ok (.aload_n 0, 1) := dk_42 (dk_at dksX1_restore_1 3 rfl rfl)
theorem dX1_restore_28 : decode cX1_restore 28 = .ok (.aload_n 2, 1) := dk_44 (dk_at dksX1_restore_1 4 rfl rfl)
theorem dX1_restore_29 : decode cX1_restore 29 = .ok (.getfield 552, 3) := dk_180 2 40 (dk_at dksX1_restore_1 5 rfl rfl)
theorem dX1_restore_32 : decode cX1_restore 32 = .ok (.putfield 80, 3) := dk_181 0 80 (dk_at dksX1_restore_1 8 rfl rfl)
theorem dX1_restore_35 : decode cX1_restore 35 = .ok (.aload_n 0, 1) := dk_42 (dk_at dksX1_restore_1 11 rfl rfl)
theorem dX1_restore_36 : decode cX1_restore 36 = .ok (.getfield 87, 3) := dk_180 0 87 (dk_at dksX1_restore_1 12 rfl rfl)
theorem dX1_restore_39 : decode cX1_restore 39 = .ok (.aload_n 2, 1) := dk_44 (dk_at dksX1_restore_1 15 rfl rfl)
theorem dX1_restore_40 : decode cX1_restore 40 = .ok (.getfield 553, 3) := dk_180 2 41 (dk_at dksX1_restore_1 16 rfl rfl)
theorem dX1_restore_43 : decode cX1_restore 43 = .ok (.invokevirtual 322, 3) := dk_182 1 66 (dk_at dksX1_restore_1 19 rfl rfl)
theorem dX1_restore_46 : decode cX1_restore 46 = .ok (.aload_n 0, 1) := dk_42 (dk_at dksX1_restore_1 22 rfl rfl)
theorem dX1_restore_47 : decode cX1_restore 47 = .ok (.aload_n 2, 1) := dk_44 (dk_at dksX1_restore_1 23 rfl rfl)
theorem dX1_restore_48 : decode cX1_restore 48 = .ok (.getfield 556, 3) := dk_180 2 44 (dk_at dksX1_restore_2 0 rfl rfl)
theorem dX1_restore_51 : decode cX1_restore 51 = .ok (.putfield 200, 3) := dk_181 0 200 (dk_at dksX1_restore_2 3 rfl rfl)
theorem dX1_restore_54 : decode cX1_restore 54 = .ok (.aload_n 0, 1) := dk_42 (dk_at dksX1_restore_2 6 rfl rfl)
theorem dX1_restore_55 : decode cX1_restore 55 = .ok (.iconst 0, 1) := dk_3 (dk_at dksX1_restore_2 7 rfl rfl)
theorem dX1_restore_56 : decode cX1_restore 56 = .ok (.putfield 197, 3) := dk_181 0 197 (dk_at dksX1_restore_2 8 rfl rfl)
theorem dX1_restore_59 : decode cX1_restore 59 = .ok (.iconst 1, 1) := dk_4 (dk_at dksX1_restore_2 11 rfl rfl)
theorem dX1_restore_60 : decode cX1_restore 60 = .ok (.ireturn, 1) := dk_172 (dk_at dksX1_restore_2 12 rfl rfl)
abbrev cX1_count : ByteArray := prog_1_method_76_code
def yX1_count : MethodName := ⟨RX1, "count", "(I)I"⟩
def dkwX1_count_4 : List UInt8 := [42, 180, 0, 171, 172, 2, 172]
abbrev dktX1_count_4 : List UInt8 := dkwX1_count_4 ++ []
def dkwX1_count_3 : List UInt8 := [42, 180, 0, 80, 180, 0, 219, 172, 42, 180, 0, 80, 180, 0, 222, 172, 42, 180, 0, 80, 180, 1, 213, 172]
abbrev dktX1_count_3 : List UInt8 := dkwX1_count_3 ++ dktX1_count_4
def dkwX1_count_2 : List UInt8 := [42, 180, 0, 80, 180, 0, 209, 172, 42, 180, 0, 80, 180, 2, 45, 172, 42, 180, 0, 80, 180, 0, 216, 172]
abbrev dktX1_count_2 : List UInt8 := dkwX1_count_2 ++ dktX1_count_3
def dkwX1_count_1 : List UInt8 := [170, 0, 0, 0, 0, 0, 96, 0, 0, 0, 0, 0, 0, 0, 6, 0, 0, 0, 43, 0, 0, 0, 51, 0, 0, 0, 59, 0, 0, 0, 67, 0, 0, 0, 75, 0, 0, 0, 83, 0, 0, 0, 91]
abbrev dktX1_count_1 : List UInt8 := dkwX1_count_1 ++ dktX1_count_2
def dkwX1_count_0 : List UInt8 := [27]
abbrev dktX1_count_0 : List UInt8 := dkwX1_count_0 ++ dktX1_count_1
theorem dksX1_count_0 : cX1_count.data.toList.drop 0 = dktX1_count_0 := by decide +kernel
theorem dksX1_count_1 : cX1_count.data.toList.drop 1 = dktX1_count_1 := dk_seg dksX1_count_0 1 rfl rfl
theorem dksX1_count_2 : cX1_count.data.toList.drop 44 = dktX1_count_2 := dk_seg dksX1_count_1 43 rfl rfl
theorem dksX1_count_3 : cX1_count.data.toList.drop 68 = dktX1_count_3 := dk_seg dksX1_count_2 24 rfl rfl
theorem dksX1_count_4 : cX1_count.data.toList.drop 92 = dktX1_count_4 := dk_seg dksX1_count_3 24 rfl rfl
theorem dX1_count_0 : decode cX1_count 0 = .ok (.iload_n 1, 1) := dk_27 (dk_at dksX1_count_0 0 rfl rfl)
theorem dX1_count_1 : decode cX1_count 1 = .ok (.tableswitch 96 0 6 #[43, 51, 59, 67, 75, 83, 91], 43) := by decide +kernel
theorem dX1_count_44 : decode cX1_count 44 = .ok (.aload_n 0, 1) := dk_42 (dk_at dksX1_count_2 0 rfl rfl)
theorem dX1_count_45 : decode cX1_count 45 = .ok (.getfield 80, 3) := dk_180 0 80 (dk_at dksX1_count_2 1 rfl rfl)
theorem dX1_count_48 : decode cX1_count 48 = .ok (.getfield 209, 3) := dk_180 0 209 (dk_at dksX1_count_2 4 rfl rfl)
theorem dX1_count_51 : decode cX1_count 51 = .ok (.ireturn, 1) := dk_172 (dk_at dksX1_count_2 7 rfl rfl)
theorem dX1_count_52 : decode cX1_count 52 = .ok (.aload_n 0, 1) := dk_42 (dk_at dksX1_count_2 8 rfl rfl)
theorem dX1_count_53 : decode cX1_count 53 = .ok (.getfield 80, 3) := dk_180 0 80 (dk_at dksX1_count_2 9 rfl rfl)
theorem dX1_count_56 : decode cX1_count 56 = .ok (.getfield 557, 3) := dk_180 2 45 (dk_at dksX1_count_2 12 rfl rfl)
theorem dX1_count_59 : decode cX1_count 59 = .ok (.ireturn, 1) := dk_172 (dk_at dksX1_count_2 15 rfl rfl)
theorem dX1_count_60 : decode cX1_count 60 = .ok (.aload_n 0, 1) := dk_42 (dk_at dksX1_count_2 16 rfl rfl)
theorem dX1_count_61 : decode cX1_count 61 = .ok (.getfield 80, 3) := dk_180 0 80 (dk_at dksX1_count_2 17 rfl rfl)
theorem dX1_count_64 : decode cX1_count 64 = .ok (.getfield 216, 3) := dk_180 0 216 (dk_at dksX1_count_2 20 rfl rfl)
theorem dX1_count_67 : decode cX1_count 67 = .ok (.ireturn, 1) := dk_172 (dk_at dksX1_count_2 23 rfl rfl)
theorem dX1_count_68 : decode cX1_count 68 = .ok (.aload_n 0, 1) := dk_42 (dk_at dksX1_count_3 0 rfl rfl)
theorem dX1_count_69 : decode cX1_count 69 = .ok (.getfield 80, 3) := dk_180 0 80 (dk_at dksX1_count_3 1 rfl rfl)
theorem dX1_count_72 : decode cX1_count 72 = .ok (.getfield 219, 3) := dk_180 0 219 (dk_at dksX1_count_3 4 rfl rfl)
theorem dX1_count_75 : decode cX1_count 75 = .ok (.ireturn, 1) := dk_172 (dk_at dksX1_count_3 7 rfl rfl)
theorem dX1_count_76 : decode cX1_count 76 = .ok (.aload_n 0, 1) := dk_42 (dk_at dksX1_count_3 8 rfl rfl)
theorem dX1_count_77 : decode cX1_count 77 = .ok (.getfield 80, 3) := dk_180 0 80 (dk_at dksX1_count_3 9 rfl rfl)
theorem dX1_count_80 : decode cX1_count 80 = .ok (.getfield 222, 3) := dk_180 0 222 (dk_at dksX1_count_3 12 rfl rfl)
theorem dX1_count_83 : decode cX1_count 83 = .ok (.ireturn, 1) := dk_172 (dk_at dksX1_count_3 15 rfl rfl)
theorem dX1_count_84 : decode cX1_count 84 = .ok (.aload_n 0, 1) := dk_42 (dk_at dksX1_count_3 16 rfl rfl)
theorem dX1_count_85 : decode cX1_count 85 = .ok (.getfield 80, 3) := dk_180 0 80 (dk_at dksX1_count_3 17 rfl rfl)
theorem dX1_count_88 : decode cX1_count 88 = .ok (.getfield 469, 3) := dk_180 1 213 (dk_at dksX1_count_3 20 rfl rfl)
theorem dX1_count_91 : decode cX1_count 91 = .ok (.ireturn, 1) := dk_172 (dk_at dksX1_count_3 23 rfl rfl)
theorem dX1_count_92 : decode cX1_count 92 = .ok (.aload_n 0, 1) := dk_42 (dk_at dksX1_count_4 0 rfl rfl)
theorem dX1_count_93 : decode cX1_count 93 = .ok (.getfield 171, 3) := dk_180 0 171 (dk_at dksX1_count_4 1 rfl rfl)
theorem dX1_count_96 : decode cX1_count 96 = .ok (.ireturn, 1) := dk_172 (dk_at dksX1_count_4 4 rfl rfl)
theorem dX1_count_97 : decode cX1_count 97 = .ok (.iconst (-1), 1) := dk_2 (dk_at dksX1_count_4 5 rfl rfl)
theorem dX1_count_98 : decode cX1_count 98 = .ok (.ireturn, 1) := dk_172 (dk_at dksX1_count_4 6 rfl rfl)
abbrev cX1_statue : ByteArray := prog_1_method_18_code
def yX1_statue : MethodName := ⟨RX1, "statue", "(II)I"⟩
def dkwX1_statue_5 : List UInt8 := [45, 182, 0, 233, 153, 0, 7, 4, 167, 0, 4, 3, 172]
abbrev dktX1_statue_5 : List UInt8 := dkwX1_statue_5 ++ []
def dkwX1_statue_4 : List UInt8 := [180, 1, 10, 27, 46, 172, 45, 180, 1, 13, 153, 0, 7, 4, 167, 0, 4, 3, 172, 45, 180, 1, 16, 172]
abbrev dktX1_statue_4 : List UInt8 := dkwX1_statue_4 ++ dktX1_statue_5
def dkwX1_statue_3 : List UInt8 := [45, 180, 1, 3, 172, 45, 180, 1, 4, 172, 45, 180, 1, 6, 172, 45, 180, 1, 8, 172, 42, 180, 0, 80]
abbrev dktX1_statue_3 : List UInt8 := dkwX1_statue_3 ++ dktX1_statue_4
def dkwX1_statue_2 : List UInt8 := [170, 0, 0, 0, 0, 0, 91, 0, 0, 0, 0, 0, 0, 0, 6, 0, 0, 0, 43, 0, 0, 0, 48, 0, 0, 0, 53, 0, 0, 0, 58, 0, 0, 0, 63, 0, 0, 0, 73, 0, 0, 0, 86]
abbrev dktX1_statue_2 : List UInt8 := dkwX1_statue_2 ++ dktX1_statue_3
def dkwX1_statue_1 : List UInt8 := [184, 0, 255, 42, 180, 0, 87, 180, 0, 229, 27, 50, 78, 28]
abbrev dktX1_statue_1 : List UInt8 := dkwX1_statue_1 ++ dktX1_statue_2
def dkwX1_statue_0 : List UInt8 := [42, 27, 182, 0, 225, 153, 0, 17, 28, 3, 16, 7, 184, 0, 212, 153, 0, 7, 4, 167, 0, 4, 3]
abbrev dktX1_statue_0 : List UInt8 := dkwX1_statue_0 ++ dktX1_statue_1
theorem dksX1_statue_0 : cX1_statue.data.toList.drop 0 = dktX1_statue_0 := by decide +kernel
theorem dksX1_statue_1 : cX1_statue.data.toList.drop 23 = dktX1_statue_1 := dk_seg dksX1_statue_0 23 rfl rfl
theorem dksX1_statue_2 : cX1_statue.data.toList.drop 37 = dktX1_statue_2 := dk_seg dksX1_statue_1 14 rfl rfl
theorem dksX1_statue_3 : cX1_statue.data.toList.drop 80 = dktX1_statue_3 := dk_seg dksX1_statue_2 43 rfl rfl
theorem dksX1_statue_4 : cX1_statue.data.toList.drop 104 = dktX1_statue_4 := dk_seg dksX1_statue_3 24 rfl rfl
theorem dksX1_statue_5 : cX1_statue.data.toList.drop 128 = dktX1_statue_5 := dk_seg dksX1_statue_4 24 rfl rfl
theorem dX1_statue_0 : decode cX1_statue 0 = .ok (.aload_n 0, 1) := dk_42 (dk_at dksX1_statue_0 0 rfl rfl)
theorem dX1_statue_1 : decode cX1_statue 1 = .ok (.iload_n 1, 1) := dk_27 (dk_at dksX1_statue_0 1 rfl rfl)
theorem dX1_statue_2 : decode cX1_statue 2 = .ok (.invokevirtual 225, 3) := dk_182 0 225 (dk_at dksX1_statue_0 2 rfl rfl)
theorem dX1_statue_5 : decode cX1_statue 5 = .ok (.ifCond .eq 17, 3) := dk_153 0 17 (dk_at dksX1_statue_0 5 rfl rfl)
theorem dX1_statue_8 : decode cX1_statue 8 = .ok (.iload_n 2, 1) := dk_28 (dk_at dksX1_statue_0 8 rfl rfl)
theorem dX1_statue_9 : decode cX1_statue 9 = .ok (.iconst 0, 1) := dk_3 (dk_at dksX1_statue_0 9 rfl rfl)
theorem dX1_statue_10 : decode cX1_statue 10 = .ok (.bipush 7, 2) := dk_16 7 (dk_at dksX1_statue_0 10 rfl rfl)
theorem dX1_statue_12 : decode cX1_statue 12 = .ok (.invokestatic 212, 3) := dk_184 0 212 (dk_at dksX1_statue_0 12 rfl rfl)
theorem dX1_statue_15 : decode cX1_statue 15 = .ok (.ifCond .eq 7, 3) := dk_153 0 7 (dk_at dksX1_statue_0 15 rfl rfl)
theorem dX1_statue_18 : decode cX1_statue 18 = .ok (.iconst 1, 1) := dk_4 (dk_at dksX1_statue_0 18 rfl rfl)
theorem dX1_statue_19 : decode cX1_statue 19 = .ok (.goto 4, 3) := dk_167 0 4 (dk_at dksX1_statue_0 19 rfl rfl)
theorem dX1_statue_22 : decode cX1_statue 22 = .ok (.iconst 0, 1) := dk_3 (dk_at dksX1_statue_0 22 rfl rfl)
theorem dX1_statue_23 : decode cX1_statue 23 = .ok (.invokestatic 255, 3) := dk_184 0 255 (dk_at dksX1_statue_1 0 rfl rfl)
theorem dX1_statue_26 : decode cX1_statue 26 = .ok (.aload_n 0, 1) := dk_42 (dk_at dksX1_statue_1 3 rfl rfl)
theorem dX1_statue_27 : decode cX1_statue 27 = .ok (.getfield 87, 3) := dk_180 0 87 (dk_at dksX1_statue_1 4 rfl rfl)
theorem dX1_statue_30 : decode cX1_statue 30 = .ok (.getfield 229, 3) := dk_180 0 229 (dk_at dksX1_statue_1 7 rfl rfl)
theorem dX1_statue_33 : decode cX1_statue 33 = .ok (.iload_n 1, 1) := dk_27 (dk_at dksX1_statue_1 10 rfl rfl)
theorem dX1_statue_34 : decode cX1_statue 34 = .ok (.aaload, 1) := dk_50 (dk_at dksX1_statue_1 11 rfl rfl)
theorem dX1_statue_35 : decode cX1_statue 35 = .ok (.astore_n 3, 1) := dk_78 (dk_at dksX1_statue_1 12 rfl rfl)
theorem dX1_statue_36 : decode cX1_statue 36 = .ok (.iload_n 2, 1) := dk_28 (dk_at dksX1_statue_1 13 rfl rfl)
theorem dX1_statue_37 : decode cX1_statue 37 = .ok (.tableswitch 91 0 6 #[43, 48, 53, 58, 63, 73, 86], 43) := by decide +kernel
theorem dX1_statue_80 : decode cX1_statue 80 = .ok (.aload_n 3, 1) := dk_45 (dk_at dksX1_statue_3 0 rfl rfl)
theorem dX1_statue_81 : decode cX1_statue 81 = .ok (.getfield 259, 3) := dk_180 1 3 (dk_at dksX1_statue_3 1 rfl rfl)
theorem dX1_statue_84 : decode cX1_statue 84 = .ok (.ireturn, 1) := dk_172 (dk_at dksX1_statue_3 4 rfl rfl)
theorem dX1_statue_85 : decode cX1_statue 85 = .ok (.aload_n 3, 1) := dk_45 (dk_at dksX1_statue_3 5 rfl rfl)
theorem dX1_statue_86 : decode cX1_statue 86 = .ok (.getfield 260, 3) := dk_180 1 4 (dk_at dksX1_statue_3 6 rfl rfl)
theorem dX1_statue_89 : decode cX1_statue 89 = .ok (.ireturn, 1) := dk_172 (dk_at dksX1_statue_3 9 rfl rfl)
theorem dX1_statue_90 : decode cX1_statue 90 = .ok (.aload_n 3, 1) := dk_45 (dk_at dksX1_statue_3 10 rfl rfl)
theorem dX1_statue_91 : decode cX1_statue 91 = .ok (.getfield 262, 3) := dk_180 1 6 (dk_at dksX1_statue_3 11 rfl rfl)
theorem dX1_statue_94 : decode cX1_statue 94 = .ok (.ireturn, 1) := dk_172 (dk_at dksX1_statue_3 14 rfl rfl)
theorem dX1_statue_95 : decode cX1_statue 95 = .ok (.aload_n 3, 1) := dk_45 (dk_at dksX1_statue_3 15 rfl rfl)
theorem dX1_statue_96 : decode cX1_statue 96 = .ok (.getfield 264, 3) := dk_180 1 8 (dk_at dksX1_statue_3 16 rfl rfl)
theorem dX1_statue_99 : decode cX1_statue 99 = .ok (.ireturn, 1) := dk_172 (dk_at dksX1_statue_3 19 rfl rfl)
theorem dX1_statue_100 : decode cX1_statue 100 = .ok (.aload_n 0, 1) := dk_42 (dk_at dksX1_statue_3 20 rfl rfl)
theorem dX1_statue_101 : decode cX1_statue 101 = .ok (.getfield 80, 3) := dk_180 0 80 (dk_at dksX1_statue_3 21 rfl rfl)
theorem dX1_statue_104 : decode cX1_statue 104 = .ok (.getfield 266, 3) := dk_180 1 10 (dk_at dksX1_statue_4 0 rfl rfl)
theorem dX1_statue_107 : decode cX1_statue 107 = .ok (.iload_n 1, 1) := dk_27 (dk_at dksX1_statue_4 3 rfl rfl)
theorem dX1_statue_108 : decode cX1_statue 108 = .ok (.iaload, 1) := dk_46 (dk_at dksX1_statue_4 4 rfl rfl)
theorem dX1_statue_109 : decode cX1_statue 109 = .ok (.ireturn, 1) := dk_172 (dk_at dksX1_statue_4 5 rfl rfl)
theorem dX1_statue_110 : decode cX1_statue 110 = .ok (.aload_n 3, 1) := dk_45 (dk_at dksX1_statue_4 6 rfl rfl)
theorem dX1_statue_111 : decode cX1_statue 111 = .ok (.getfield 269, 3) := dk_180 1 13 (dk_at dksX1_statue_4 7 rfl rfl)
theorem dX1_statue_114 : decode cX1_statue 114 = .ok (.ifCond .eq 7, 3) := dk_153 0 7 (dk_at dksX1_statue_4 10 rfl rfl)
theorem dX1_statue_117 : decode cX1_statue 117 = .ok (.iconst 1, 1) := dk_4 (dk_at dksX1_statue_4 13 rfl rfl)
theorem dX1_statue_118 : decode cX1_statue 118 = .ok (.goto 4, 3) := dk_167 0 4 (dk_at dksX1_statue_4 14 rfl rfl)
theorem dX1_statue_121 : decode cX1_statue 121 = .ok (.iconst 0, 1) := dk_3 (dk_at dksX1_statue_4 17 rfl rfl)
theorem dX1_statue_122 : decode cX1_statue 122 = .ok (.ireturn, 1) := dk_172 (dk_at dksX1_statue_4 18 rfl rfl)
theorem dX1_statue_123 : decode cX1_statue 123 = .ok (.aload_n 3, 1) := dk_45 (dk_at dksX1_statue_4 19 rfl rfl)
theorem dX1_statue_124 : decode cX1_statue 124 = .ok (.getfield 272, 3) := dk_180 1 16 (dk_at dksX1_statue_4 20 rfl rfl)
theorem dX1_statue_127 : decode cX1_statue 127 = .ok (.ireturn, 1) := dk_172 (dk_at dksX1_statue_4 23 rfl rfl)
theorem dX1_statue_128 : decode cX1_statue 128 = .ok (.aload_n 3, 1) := dk_45 (dk_at dksX1_statue_5 0 rfl rfl)
theorem dX1_statue_129 : decode cX1_statue 129 = .ok (.invokevirtual 233, 3) := dk_182 0 233 (dk_at dksX1_statue_5 1 rfl rfl)
theorem dX1_statue_132 : decode cX1_statue 132 = .ok (.ifCond .eq 7, 3) := dk_153 0 7 (dk_at dksX1_statue_5 4 rfl rfl)
theorem dX1_statue_135 : decode cX1_statue 135 = .ok (.iconst 1, 1) := dk_4 (dk_at dksX1_statue_5 7 rfl rfl)
theorem dX1_statue_136 : decode cX1_statue 136 = .ok (.goto 4, 3) := dk_167 0 4 (dk_at dksX1_statue_5 8 rfl rfl)
theorem dX1_statue_139 : decode cX1_statue 139 = .ok (.iconst 0, 1) := dk_3 (dk_at dksX1_statue_5 11 rfl rfl)
theorem dX1_statue_140 : decode cX1_statue 140 = .ok (.ireturn, 1) := dk_172 (dk_at dksX1_statue_5 12 rfl rfl)
abbrev cX1_must : ByteArray := prog_1_method_8_code
def yX1_must : MethodName := ⟨RX1, "must", "(Z)V"⟩
def dkwX1_must_0 : List UInt8 := [26, 154, 0, 11, 187, 0, 181, 89, 183, 0, 183, 191, 177]
abbrev dktX1_must_0 : List UInt8 := dkwX1_must_0 ++ []
theorem dksX1_must_0 : cX1_must.data.toList.drop 0 = dktX1_must_0 := by decide +kernel
theorem dX1_must_0 : decode cX1_must 0 = .ok (.iload_n 0, 1) := dk_26 (dk_at dksX1_must_0 0 rfl rfl)
theorem dX1_must_1 : decode cX1_must 1 = .ok (.ifCond .ne 11, 3) := dk_154 0 11 (dk_at dksX1_must_0 1 rfl rfl)
theorem dX1_must_4 : decode cX1_must 4 = .ok (.new 181, 3) := dk_187 0 181 (dk_at dksX1_must_0 4 rfl rfl)
theorem dX1_must_7 : decode cX1_must 7 = .ok (.dup, 1) := dk_89 (dk_at dksX1_must_0 7 rfl rfl)
theorem dX1_must_8 : decode cX1_must 8 = .ok (.invokespecial 183, 3) := dk_183 0 183 (dk_at dksX1_must_0 8 rfl rfl)
theorem dX1_must_11 : decode cX1_must 11 = .ok (.athrow, 1) := dk_191 (dk_at dksX1_must_0 11 rfl rfl)
theorem dX1_must_12 : decode cX1_must 12 = .ok (.return_, 1) := dk_177 (dk_at dksX1_must_0 12 rfl rfl)
abbrev cX1_walker : ByteArray := prog_1_method_19_code
def yX1_walker : MethodName := ⟨RX1, "walker", "(II)I"⟩
def dkwX1_walker_7 : List UInt8 := [4, 21, 4, 120, 128, 62, 132, 4, 1, 167, 255, 217, 29, 172]
abbrev dktX1_walker_7 : List UInt8 := dkwX1_walker_7 ++ []
def dkwX1_walker_6 : List UInt8 := [180, 0, 216, 162, 0, 33, 42, 180, 0, 87, 180, 1, 39, 8, 27, 104, 21, 4, 96, 46, 158, 0, 10, 29]
abbrev dktX1_walker_6 : List UInt8 := dkwX1_walker_6 ++ dktX1_walker_7
def dkwX1_walker_5 : List UInt8 := [50, 190, 172, 42, 180, 0, 87, 180, 1, 36, 27, 46, 172, 3, 62, 3, 54, 4, 21, 4, 42, 180, 0, 80]
abbrev dktX1_walker_5 : List UInt8 := dkwX1_walker_5 ++ dktX1_walker_6
def dkwX1_walker_4 : List UInt8 := [180, 1, 27, 27, 46, 172, 42, 180, 0, 80, 180, 1, 30, 27, 46, 172, 42, 180, 0, 80, 180, 1, 33, 27]
abbrev dktX1_walker_4 : List UInt8 := dkwX1_walker_4 ++ dktX1_walker_5
def dkwX1_walker_3 : List UInt8 := [42, 180, 0, 80, 180, 1, 21, 27, 46, 172, 42, 180, 0, 80, 180, 1, 24, 27, 46, 172, 42, 180, 0, 80]
abbrev dktX1_walker_3 : List UInt8 := dkwX1_walker_3 ++ dktX1_walker_4
def dkwX1_walker_2 : List UInt8 := [170, 0, 0, 0, 98, 0, 0, 0, 0, 0, 0, 0, 5, 0, 0, 0, 37, 0, 0, 0, 47, 0, 0, 0, 57, 0, 0, 0, 67, 0, 0, 0, 77, 0, 0, 0, 88]
abbrev dktX1_walker_2 : List UInt8 := dkwX1_walker_2 ++ dktX1_walker_3
def dkwX1_walker_1 : List UInt8 := [184, 0, 255, 28]
abbrev dktX1_walker_1 : List UInt8 := dkwX1_walker_1 ++ dktX1_walker_2
def dkwX1_walker_0 : List UInt8 := [42, 27, 182, 1, 18, 153, 0, 17, 28, 3, 16, 6, 184, 0, 212, 153, 0, 7, 4, 167, 0, 4, 3]
abbrev dktX1_walker_0 : List UInt8 := dkwX1_walker_0 ++ dktX1_walker_1
theorem dksX1_walker_0 : cX1_walker.data.toList.drop 0 = dktX1_walker_0 := by decide +kernel
theorem dksX1_walker_1 : cX1_walker.data.toList.drop 23 = dktX1_walker_1 := dk_seg dksX1_walker_0 23 rfl rfl
theorem dksX1_walker_2 : cX1_walker.data.toList.drop 27 = dktX1_walker_2 := dk_seg dksX1_walker_1 4 rfl rfl
theorem dksX1_walker_3 : cX1_walker.data.toList.drop 64 = dktX1_walker_3 := dk_seg dksX1_walker_2 37 rfl rfl
theorem dksX1_walker_4 : cX1_walker.data.toList.drop 88 = dktX1_walker_4 := dk_seg dksX1_walker_3 24 rfl rfl
theorem dksX1_walker_5 : cX1_walker.data.toList.drop 112 = dktX1_walker_5 := dk_seg dksX1_walker_4 24 rfl rfl
theorem dksX1_walker_6 : cX1_walker.data.toList.drop 136 = dktX1_walker_6 := dk_seg dksX1_walker_5 24 rfl rfl
theorem dksX1_walker_7 : cX1_walker.data.toList.drop 160 = dktX1_walker_7 := dk_seg dksX1_walker_6 24 rfl rfl
theorem dX1_walker_0 : decode cX1_walker 0 = .ok (.aload_n 0, 1) := dk_42 (dk_at dksX1_walker_0 0 rfl rfl)
theorem dX1_walker_1 : decode cX1_walker 1 = .ok (.iload_n 1, 1) := dk_27 (dk_at dksX1_walker_0 1 rfl rfl)
theorem dX1_walker_2 : decode cX1_walker 2 = .ok (.invokevirtual 274, 3) := dk_182 1 18 (dk_at dksX1_walker_0 2 rfl rfl)
theorem dX1_walker_5 : decode cX1_walker 5 = .ok (.ifCond .eq 17, 3) := dk_153 0 17 (dk_at dksX1_walker_0 5 rfl rfl)
theorem dX1_walker_8 : decode cX1_walker 8 = .ok (.iload_n 2, 1) := dk_28 (dk_at dksX1_walker_0 8 rfl rfl)
theorem dX1_walker_9 : decode cX1_walker 9 = .ok (.iconst 0, 1) := dk_3 (dk_at dksX1_walker_0 9 rfl rfl)
theorem dX1_walker_10 : decode cX1_walker 10 = .ok (.bipush 6, 2) := dk_16 6 (dk_at dksX1_walker_0 10 rfl rfl)
theorem dX1_walker_12 : decode cX1_walker 12 = .ok (.invokestatic 212, 3) := dk_184 0 212 (dk_at dksX1_walker_0 12 rfl rfl)
theorem dX1_walker_15 : decode cX1_walker 15 = .ok (.ifCond .eq 7, 3) := dk_153 0 7 (dk_at dksX1_walker_0 15 rfl rfl)
theorem dX1_walker_18 : decode cX1_walker 18 = .ok (.iconst 1, 1) := dk_4 (dk_at dksX1_walker_0 18 rfl rfl)
theorem dX1_walker_19 : decode cX1_walker 19 = .ok (.goto 4, 3) := dk_167 0 4 (dk_at dksX1_walker_0 19 rfl rfl)
theorem dX1_walker_22 : decode cX1_walker 22 = .ok (.iconst 0, 1) := dk_3 (dk_at dksX1_walker_0 22 rfl rfl)
theorem dX1_walker_23 : decode cX1_walker 23 = .ok (.invokestatic 255, 3) := dk_184 0 255 (dk_at dksX1_walker_1 0 rfl rfl)
theorem dX1_walker_26 : decode cX1_walker 26 = .ok (.iload_n 2, 1) := dk_28 (dk_at dksX1_walker_1 3 rfl rfl)
theorem dX1_walker_27 : decode cX1_walker 27 = .ok (.tableswitch 98 0 5 #[37, 47, 57, 67, 77, 88], 37) := by decide +kernel
theorem dX1_walker_64 : decode cX1_walker 64 = .ok (.aload_n 0, 1) := dk_42 (dk_at dksX1_walker_3 0 rfl rfl)
theorem dX1_walker_65 : decode cX1_walker 65 = .ok (.getfield 80, 3) := dk_180 0 80 (dk_at dksX1_walker_3 1 rfl rfl)
theorem dX1_walker_68 : decode cX1_walker 68 = .ok (.getfield 277, 3) := dk_180 1 21 (dk_at dksX1_walker_3 4 rfl rfl)
theorem dX1_walker_71 : decode cX1_walker 71 = .ok (.iload_n 1, 1) := dk_27 (dk_at dksX1_walker_3 7 rfl rfl)
theorem dX1_walker_72 : decode cX1_walker 72 = .ok (.iaload, 1) := dk_46 (dk_at dksX1_walker_3 8 rfl rfl)
theorem dX1_walker_73 : decode cX1_walker 73 = .ok (.ireturn, 1) := dk_172 (dk_at dksX1_walker_3 9 rfl rfl)
theorem dX1_walker_74 : decode cX1_walker 74 = .ok (.aload_n 0, 1) := dk_42 (dk_at dksX1_walker_3 10 rfl rfl)
theorem dX1_walker_75 : decode cX1_walker 75 = .ok (.getfield 80, 3) := dk_180 0 80 (dk_at dksX1_walker_3 11 rfl rfl)
theorem dX1_walker_78 : decode cX1_walker 78 = .ok (.getfield 280, 3) := dk_180 1 24 (dk_at dksX1_walker_3 14 rfl rfl)
theorem dX1_walker_81 : decode cX1_walker 81 = .ok (.iload_n 1, 1) := dk_27 (dk_at dksX1_walker_3 17 rfl rfl)
theorem dX1_walker_82 : decode cX1_walker 82 = .ok (.iaload, 1) := dk_46 (dk_at dksX1_walker_3 18 rfl rfl)
theorem dX1_walker_83 : decode cX1_walker 83 = .ok (.ireturn, 1) := dk_172 (dk_at dksX1_walker_3 19 rfl rfl)
theorem dX1_walker_84 : decode cX1_walker 84 = .ok (.aload_n 0, 1) := dk_42 (dk_at dksX1_walker_3 20 rfl rfl)
theorem dX1_walker_85 : decode cX1_walker 85 = .ok (.getfield 80, 3) := dk_180 0 80 (dk_at dksX1_walker_3 21 rfl rfl)
theorem dX1_walker_88 : decode cX1_walker 88 = .ok (.getfield 283, 3) := dk_180 1 27 (dk_at dksX1_walker_4 0 rfl rfl)
theorem dX1_walker_91 : decode cX1_walker 91 = .ok (.iload_n 1, 1) := dk_27 (dk_at dksX1_walker_4 3 rfl rfl)
theorem dX1_walker_92 : decode cX1_walker 92 = .ok (.iaload, 1) := dk_46 (dk_at dksX1_walker_4 4 rfl rfl)
theorem dX1_walker_93 : decode cX1_walker 93 = .ok (.ireturn, 1) := dk_172 (dk_at dksX1_walker_4 5 rfl rfl)
theorem dX1_walker_94 : decode cX1_walker 94 = .ok (.aload_n 0, 1) := dk_42 (dk_at dksX1_walker_4 6 rfl rfl)
theorem dX1_walker_95 : decode cX1_walker 95 = .ok (.getfield 80, 3) := dk_180 0 80 (dk_at dksX1_walker_4 7 rfl rfl)
theorem dX1_walker_98 : decode cX1_walker 98 = .ok (.getfield 286, 3) := dk_180 1 30 (dk_at dksX1_walker_4 10 rfl rfl)
theorem dX1_walker_101 : decode cX1_walker 101 = .ok (.iload_n 1, 1) := dk_27 (dk_at dksX1_walker_4 13 rfl rfl)
theorem dX1_walker_102 : decode cX1_walker 102 = .ok (.iaload, 1) := dk_46 (dk_at dksX1_walker_4 14 rfl rfl)
theorem dX1_walker_103 : decode cX1_walker 103 = .ok (.ireturn, 1) := dk_172 (dk_at dksX1_walker_4 15 rfl rfl)
theorem dX1_walker_104 : decode cX1_walker 104 = .ok (.aload_n 0, 1) := dk_42 (dk_at dksX1_walker_4 16 rfl rfl)
theorem dX1_walker_105 : decode cX1_walker 105 = .ok (.getfield 80, 3) := dk_180 0 80 (dk_at dksX1_walker_4 17 rfl rfl)
theorem dX1_walker_108 : decode cX1_walker 108 = .ok (.getfield 289, 3) := dk_180 1 33 (dk_at dksX1_walker_4 20 rfl rfl)
theorem dX1_walker_111 : decode cX1_walker 111 = .ok (.iload_n 1, 1) := dk_27 (dk_at dksX1_walker_4 23 rfl rfl)
theorem dX1_walker_112 : decode cX1_walker 112 = .ok (.aaload, 1) := dk_50 (dk_at dksX1_walker_5 0 rfl rfl)
theorem dX1_walker_113 : decode cX1_walker 113 = .ok (.arraylength, 1) := dk_190 (dk_at dksX1_walker_5 1 rfl rfl)
theorem dX1_walker_114 : decode cX1_walker 114 = .ok (.ireturn, 1) := dk_172 (dk_at dksX1_walker_5 2 rfl rfl)
theorem dX1_walker_115 : decode cX1_walker 115 = .ok (.aload_n 0, 1) := dk_42 (dk_at dksX1_walker_5 3 rfl rfl)
theorem dX1_walker_116 : decode cX1_walker 116 = .ok (.getfield 87, 3) := dk_180 0 87 (dk_at dksX1_walker_5 4 rfl rfl)
theorem dX1_walker_119 : decode cX1_walker 119 = .ok (.getfield 292, 3) := dk_180 1 36 (dk_at dksX1_walker_5 7 rfl rfl)
theorem dX1_walker_122 : decode cX1_walker 122 = .ok (.iload_n 1, 1) := dk_27 (dk_at dksX1_walker_5 10 rfl rfl)
theorem dX1_walker_123 : decode cX1_walker 123 = .ok (.iaload, 1) := dk_46 (dk_at dksX1_walker_5 11 rfl rfl)
theorem dX1_walker_124 : decode cX1_walker 124 = .ok (.ireturn, 1) := dk_172 (dk_at dksX1_walker_5 12 rfl rfl)
theorem dX1_walker_125 : decode cX1_walker 125 = .ok (.iconst 0, 1) := dk_3 (dk_at dksX1_walker_5 13 rfl rfl)
theorem dX1_walker_126 : decode cX1_walker 126 = .ok (.istore_n 3, 1) := dk_62 (dk_at dksX1_walker_5 14 rfl rfl)
theorem dX1_walker_127 : decode cX1_walker 127 = .ok (.iconst 0, 1) := dk_3 (dk_at dksX1_walker_5 15 rfl rfl)
theorem dX1_walker_128 : decode cX1_walker 128 = .ok (.istore 4, 2) := dk_54 4 (dk_at dksX1_walker_5 16 rfl rfl)
theorem dX1_walker_130 : decode cX1_walker 130 = .ok (.iload 4, 2) := dk_21 4 (dk_at dksX1_walker_5 18 rfl rfl)
theorem dX1_walker_132 : decode cX1_walker 132 = .ok (.aload_n 0, 1) := dk_42 (dk_at dksX1_walker_5 20 rfl rfl)
theorem dX1_walker_133 : decode cX1_walker 133 = .ok (.getfield 80, 3) := dk_180 0 80 (dk_at dksX1_walker_5 21 rfl rfl)
theorem dX1_walker_136 : decode cX1_walker 136 = .ok (.getfield 216, 3) := dk_180 0 216 (dk_at dksX1_walker_6 0 rfl rfl)
theorem dX1_walker_139 : decode cX1_walker 139 = .ok (.if_icmp .ge 33, 3) := dk_162 0 33 (dk_at dksX1_walker_6 3 rfl rfl)
theorem dX1_walker_142 : decode cX1_walker 142 = .ok (.aload_n 0, 1) := dk_42 (dk_at dksX1_walker_6 6 rfl rfl)
theorem dX1_walker_143 : decode cX1_walker 143 = .ok (.getfield 87, 3) := dk_180 0 87 (dk_at dksX1_walker_6 7 rfl rfl)
theorem dX1_walker_146 : decode cX1_walker 146 = .ok (.getfield 295, 3) := dk_180 1 39 (dk_at dksX1_walker_6 10 rfl rfl)
theorem dX1_walker_149 : decode cX1_walker 149 = .ok (.iconst 5, 1) := dk_8 (dk_at dksX1_walker_6 13 rfl rfl)
theorem dX1_walker_150 : decode cX1_walker 150 = .ok (.iload_n 1, 1) := dk_27 (dk_at dksX1_walker_6 14 rfl rfl)
theorem dX1_walker_151 : decode cX1_walker 151 = .ok (.imul, 1) := dk_104 (dk_at dksX1_walker_6 15 rfl rfl)
theorem dX1_walker_152 : decode cX1_walker 152 = .ok (.iload 4, 2) := dk_21 4 (dk_at dksX1_walker_6 16 rfl rfl)
theorem dX1_walker_154 : decode cX1_walker 154 = .ok (.iadd, 1) := dk_96 (dk_at dksX1_walker_6 18 rfl rfl)
theorem dX1_walker_155 : decode cX1_walker 155 = .ok (.iaload, 1) := dk_46 (dk_at dksX1_walker_6 19 rfl rfl)
theorem dX1_walker_156 : decode cX1_walker 156 = .ok (.ifCond .le 10, 3) := dk_158 0 10 (dk_at dksX1_walker_6 20 rfl rfl)
theorem dX1_walker_159 : decode cX1_walker 159 = .ok (.iload_n 3, 1) := dk_29 (dk_at dksX1_walker_6 23 rfl rfl)
theorem dX1_walker_160 : decode cX1_walker 160 = .ok (.iconst 1, 1) := dk_4 (dk_at dksX1_walker_7 0 rfl rfl)
theorem dX1_walker_161 : decode cX1_walker 161 = .ok (.iload 4, 2) := dk_21 4 (dk_at dksX1_walker_7 1 rfl rfl)
theorem dX1_walker_163 : decode cX1_walker 163 = .ok (.ishl, 1) := dk_120 (dk_at dksX1_walker_7 3 rfl rfl)
theorem dX1_walker_164 : decode cX1_walker 164 = .ok (.ior, 1) := dk_128 (dk_at dksX1_walker_7 4 rfl rfl)
theorem dX1_walker_165 : decode cX1_walker 165 = .ok (.istore_n 3, 1) := dk_62 (dk_at dksX1_walker_7 5 rfl rfl)
theorem dX1_walker_166 : decode cX1_walker 166 = .ok (.iinc 4 1, 3) := dk_132 4 1 (dk_at dksX1_walker_7 6 rfl rfl)
theorem dX1_walker_169 : decode cX1_walker 169 = .ok (.goto (-39), 3) := dk_167 255 217 (dk_at dksX1_walker_7 9 rfl rfl)
theorem dX1_walker_172 : decode cX1_walker 172 = .ok (.iload_n 3, 1) := dk_29 (dk_at dksX1_walker_7 12 rfl rfl)
theorem dX1_walker_173 : decode cX1_walker 173 = .ok (.ireturn, 1) := dk_172 (dk_at dksX1_walker_7 13 rfl rfl)
abbrev cX1_yields : ByteArray := prog_1_method_32_code
def yX1_yields : MethodName := ⟨RX1, "yields", "(IIII)I"⟩
def dkwX1_yields_3 : List UInt8 := [21, 4, 184, 1, 113, 172]
abbrev dktX1_yields_3 : List UInt8 := dkwX1_yields_3 ++ []
def dkwX1_yields_2 : List UInt8 := [182, 1, 105, 28, 29, 42, 180, 0, 87, 180, 0, 229, 27, 50, 180, 1, 13, 182, 1, 109, 17, 19, 176]
abbrev dktX1_yields_2 : List UInt8 := dkwX1_yields_2 ++ dktX1_yields_3
def dkwX1_yields_1 : List UInt8 := [21, 4, 3, 4, 184, 0, 212, 153, 0, 7, 4, 167, 0, 4, 3, 184, 0, 255, 42, 180, 0, 80, 42]
abbrev dktX1_yields_1 : List UInt8 := dkwX1_yields_1 ++ dktX1_yields_2
def dkwX1_yields_0 : List UInt8 := [42, 27, 182, 0, 225, 153, 0, 33, 42, 28, 182, 0, 239, 153, 0, 25, 42, 29, 182, 1, 42, 153, 0, 17]
abbrev dktX1_yields_0 : List UInt8 := dkwX1_yields_0 ++ dktX1_yields_1
theorem dksX1_yields_0 : cX1_yields.data.toList.drop 0 = dktX1_yields_0 := by decide +kernel
theorem dksX1_yields_1 : cX1_yields.data.toList.drop 24 = dktX1_yields_1 := dk_seg dksX1_yields_0 24 rfl rfl
theorem dksX1_yields_2 : cX1_yields.data.toList.drop 47 = dktX1_yields_2 := dk_seg dksX1_yields_1 23 rfl rfl
theorem dksX1_yields_3 : cX1_yields.data.toList.drop 70 = dktX1_yields_3 := dk_seg dksX1_yields_2 23 rfl rfl
theorem dX1_yields_0 : decode cX1_yields 0 = .ok (.aload_n 0, 1) := dk_42 (dk_at dksX1_yields_0 0 rfl rfl)
theorem dX1_yields_1 : decode cX1_yields 1 = .ok (.iload_n 1, 1) := dk_27 (dk_at dksX1_yields_0 1 rfl rfl)
theorem dX1_yields_2 : decode cX1_yields 2 = .ok (.invokevirtual 225, 3) := dk_182 0 225 (dk_at dksX1_yields_0 2 rfl rfl)
theorem dX1_yields_5 : decode cX1_yields 5 = .ok (.ifCond .eq 33, 3) := dk_153 0 33 (dk_at dksX1_yields_0 5 rfl rfl)
theorem dX1_yields_8 : decode cX1_yields 8 = .ok (.aload_n 0, 1) := dk_42 (dk_at dksX1_yields_0 8 rfl rfl)
theorem dX1_yields_9 : decode cX1_yields 9 = .ok (.iload_n 2, 1) := dk_28 (dk_at dksX1_yields_0 9 rfl rfl)
theorem dX1_yields_10 : decode cX1_yields 10 = .ok (.invokevirtual 239, 3) := dk_182 0 239 (dk_at dksX1_yields_0 10 rfl rfl)
theorem dX1_yields_13 : decode cX1_yields 13 = .ok (.ifCond .eq 25, 3) := dk_153 0 25 (dk_at dksX1_yields_0 13 rfl rfl)
theorem dX1_yields_16 : decode cX1_yields 16 = .ok (.aload_n 0, 1) := dk_42 (dk_at dksX1_yields_0 16 rfl rfl)
theorem dX1_yields_17 : decode cX1_yields 17 = .ok (.iload_n 3, 1) := dk_29 (dk_at dksX1_yields_0 17 rfl rfl)
theorem dX1_yields_18 : decode cX1_yields 18 = .ok (.invokevirtual 298, 3) := dk_182 1 42 (dk_at dksX1_yields_0 18 rfl rfl)
theorem dX1_yields_21 : decode cX1_yields 21 = .ok (.ifCond .eq 17, 3) := dk_153 0 17 (dk_at dksX1_yields_0 21 rfl rfl)
theorem dX1_yields_24 : decode cX1_yields 24 = .ok (.iload 4, 2) := dk_21 4 (dk_at dksX1_yields_1 0 rfl rfl)
theorem dX1_yields_26 : decode cX1_yields 26 = .ok (.iconst 0, 1) := dk_3 (dk_at dksX1_yields_1 2 rfl rfl)
theorem dX1_yields_27 : decode cX1_yields 27 = .ok (.iconst 1, 1) := dk_4 (dk_at dksX1_yields_1 3 rfl rfl)
theorem dX1_yields_28 : decode cX1_yields 28 = .ok (.invokestatic 212, 3) := dk_184 0 212 (dk_at dksX1_yields_1 4 rfl rfl)
theorem dX1_yields_31 : decode cX1_yields 31 = .ok (.ifCond .eq 7, 3) := dk_153 0 7 (dk_at dksX1_yields_1 7 rfl rfl)
theorem dX1_yields_34 : decode cX1_yields 34 = .ok (.iconst 1, 1) := dk_4 (dk_at dksX1_yields_1 10 rfl rfl)
theorem dX1_yields_35 : decode cX1_yields 35 = .ok (.goto 4, 3) := dk_167 0 4 (dk_at dksX1_yields_1 11 rfl rfl)
theorem dX1_yields_38 : decode cX1_yields 38 = .ok (.iconst 0, 1) := dk_3 (dk_at dksX1_yields_1 14 rfl rfl)
theorem dX1_yields_39 : decode cX1_yields 39 = .ok (.invokestatic 255, 3) := dk_184 0 255 (dk_at dksX1_yields_1 15 rfl rfl)
theorem dX1_yields_42 : decode cX1_yields 42 = .ok (.aload_n 0, 1) := dk_42 (dk_at dksX1_yields_1 18 rfl rfl)
theorem dX1_yields_43 : decode cX1_yields 43 = .ok (.getfield 80, 3) := dk_180 0 80 (dk_at dksX1_yields_1 19 rfl rfl)
theorem dX1_yields_46 : decode cX1_yields 46 = .ok (.aload_n 0, 1) := dk_42 (dk_at dksX1_yields_1 22 rfl rfl)
theorem dX1_yields_47 : decode cX1_yields 47 = .ok (.invokevirtual 361, 3) := dk_182 1 105 (dk_at dksX1_yields_2 0 rfl rfl)
theorem dX1_yields_50 : decode cX1_yields 50 = .ok (.iload_n 2, 1) := dk_28 (dk_at dksX1_yields_2 3 rfl rfl)
theorem dX1_yields_51 : decode cX1_yields 51 = .ok (.iload_n 3, 1) := dk_29 (dk_at dksX1_yields_2 4 rfl rfl)
theorem dX1_yields_52 : decode cX1_yields 52 = .ok (.aload_n 0, 1) := dk_42 (dk_at dksX1_yields_2 5 rfl rfl)
theorem dX1_yields_53 : decode cX1_yields 53 = .ok (.getfield 87, 3) := dk_180 0 87 (dk_at dksX1_yields_2 6 rfl rfl)
theorem dX1_yields_56 : decode cX1_yields 56 = .ok (.getfield 229, 3) := dk_180 0 229 (dk_at dksX1_yields_2 9 rfl rfl)
theorem dX1_yields_59 : decode cX1_yields 59 = .ok (.iload_n 1, 1) := dk_27 (dk_at dksX1_yields_2 12 rfl rfl)
theorem dX1_yields_60 : decode cX1_yields 60 = .ok (.aaload, 1) := dk_50 (dk_at dksX1_yields_2 13 rfl rfl)
theorem dX1_yields_61 : decode cX1_yields 61 = .ok (.getfield 269, 3) := dk_180 1 13 (dk_at dksX1_yields_2 14 rfl rfl)
theorem dX1_yields_64 : decode cX1_yields 64 = .ok (.invokevirtual 365, 3) := dk_182 1 109 (dk_at dksX1_yields_2 17 rfl rfl)
theorem dX1_yields_67 : decode cX1_yields 67 = .ok (.sipush 5040, 3) := dk_17 19 176 (dk_at dksX1_yields_2 20 rfl rfl)
theorem dX1_yields_70 : decode cX1_yields 70 = .ok (.iload 4, 2) := dk_21 4 (dk_at dksX1_yields_3 0 rfl rfl)
theorem dX1_yields_72 : decode cX1_yields 72 = .ok (.invokestatic 369, 3) := dk_184 1 113 (dk_at dksX1_yields_3 2 rfl rfl)
theorem dX1_yields_75 : decode cX1_yields 75 = .ok (.ireturn, 1) := dk_172 (dk_at dksX1_yields_3 5 rfl rfl)
abbrev cX1_part : ByteArray := prog_1_method_30_code
def yX1_part : MethodName := ⟨RX1, "part", "(III)I"⟩
def dkwX1_part_1 : List UInt8 := [54, 4, 167, 255, 238, 28, 154, 0, 7, 26, 167, 0, 4, 27, 29, 108, 172]
abbrev dktX1_part_1 : List UInt8 := dkwX1_part_1 ++ []
def dkwX1_part_0 : List UInt8 := [26, 184, 1, 100, 62, 27, 54, 4, 21, 4, 153, 0, 19, 29, 21, 4, 112, 54, 5, 21, 4, 62, 21, 5]
abbrev dktX1_part_0 : List UInt8 := dkwX1_part_0 ++ dktX1_part_1
theorem dksX1_part_0 : cX1_part.data.toList.drop 0 = dktX1_part_0 := by decide +kernel
theorem dksX1_part_1 : cX1_part.data.toList.drop 24 = dktX1_part_1 := dk_seg dksX1_part_0 24 rfl rfl
theorem dX1_part_0 : decode cX1_part 0 = .ok (.iload_n 0, 1) := dk_26 (dk_at dksX1_part_0 0 rfl rfl)
theorem dX1_part_1 : decode cX1_part 1 = .ok (.invokestatic 356, 3) := dk_184 1 100 (dk_at dksX1_part_0 1 rfl rfl)
theorem dX1_part_4 : decode cX1_part 4 = .ok (.istore_n 3, 1) := dk_62 (dk_at dksX1_part_0 4 rfl rfl)
theorem dX1_part_5 : decode cX1_part 5 = .ok (.iload_n 1, 1) := dk_27 (dk_at dksX1_part_0 5 rfl rfl)
theorem dX1_part_6 : decode cX1_part 6 = .ok (.istore 4, 2) := dk_54 4 (dk_at dksX1_part_0 6 rfl rfl)
theorem dX1_part_8 : decode cX1_part 8 = .ok (.iload 4, 2) := dk_21 4 (dk_at dksX1_part_0 8 rfl rfl)
theorem dX1_part_10 : decode cX1_part 10 = .ok (.ifCond .eq 19, 3) := dk_153 0 19 (dk_at dksX1_part_0 10 rfl rfl)
theorem dX1_part_13 : decode cX1_part 13 = .ok (.iload_n 3, 1) := dk_29 (dk_at dksX1_part_0 13 rfl rfl)
theorem dX1_part_14 : decode cX1_part 14 = .ok (.iload 4, 2) := dk_21 4 (dk_at dksX1_part_0 14 rfl rfl)
theorem dX1_part_16 : decode cX1_part 16 = .ok (.irem, 1) := dk_112 (dk_at dksX1_part_0 16 rfl rfl)
theorem dX1_part_17 : decode cX1_part 17 = .ok (.istore 5, 2) := dk_54 5 (dk_at dksX1_part_0 17 rfl rfl)
theorem dX1_part_19 : decode cX1_part 19 = .ok (.iload 4, 2) := dk_21 4 (dk_at dksX1_part_0 19 rfl rfl)
theorem dX1_part_21 : decode cX1_part 21 = .ok (.istore_n 3, 1) := dk_62 (dk_at dksX1_part_0 21 rfl rfl)
theorem dX1_part_22 : decode cX1_part 22 = .ok (.iload 5, 2) := dk_21 5 (dk_at dksX1_part_0 22 rfl rfl)
theorem dX1_part_24 : decode cX1_part 24 = .ok (.istore 4, 2) := dk_54 4 (dk_at dksX1_part_1 0 rfl rfl)
theorem dX1_part_26 : decode cX1_part 26 = .ok (.goto (-18), 3) := dk_167 255 238 (dk_at dksX1_part_1 2 rfl rfl)
theorem dX1_part_29 : decode cX1_part 29 = .ok (.iload_n 2, 1) := dk_28 (dk_at dksX1_part_1 5 rfl rfl)
theorem dX1_part_30 : decode cX1_part 30 = .ok (.ifCond .ne 7, 3) := dk_154 0 7 (dk_at dksX1_part_1 6 rfl rfl)
theorem dX1_part_33 : decode cX1_part 33 = .ok (.iload_n 0, 1) := dk_26 (dk_at dksX1_part_1 9 rfl rfl)
theorem dX1_part_34 : decode cX1_part 34 = .ok (.goto 4, 3) := dk_167 0 4 (dk_at dksX1_part_1 10 rfl rfl)
theorem dX1_part_37 : decode cX1_part 37 = .ok (.iload_n 1, 1) := dk_27 (dk_at dksX1_part_1 13 rfl rfl)
theorem dX1_part_38 : decode cX1_part 38 = .ok (.iload_n 3, 1) := dk_29 (dk_at dksX1_part_1 14 rfl rfl)
theorem dX1_part_39 : decode cX1_part 39 = .ok (.idiv, 1) := dk_108 (dk_at dksX1_part_1 15 rfl rfl)
theorem dX1_part_40 : decode cX1_part 40 = .ok (.ireturn, 1) := dk_172 (dk_at dksX1_part_1 16 rfl rfl)
abbrev cX1_today : ByteArray := prog_1_method_35_code
def yX1_today : MethodName := ⟨RX1, "today", "(II)I"⟩
def dkwX1_today_7 : List UInt8 := [167, 255, 146, 21, 4, 16, 12, 28, 184, 1, 113, 172]
abbrev dktX1_today_7 : List UInt8 := dkwX1_today_7 ++ []
def dkwX1_today_6 : List UInt8 := [42, 180, 0, 87, 42, 180, 0, 80, 21, 5, 45, 180, 1, 3, 182, 1, 48, 104, 96, 54, 4, 132, 5, 1]
abbrev dktX1_today_6 : List UInt8 := dkwX1_today_6 ++ dktX1_today_7
def dkwX1_today_5 : List UInt8 := [180, 0, 80, 180, 1, 30, 21, 5, 46, 5, 108, 167, 0, 13, 42, 180, 0, 80, 180, 1, 30, 21, 5, 46]
abbrev dktX1_today_5 : List UInt8 := dkwX1_today_5 ++ dktX1_today_6
def dkwX1_today_4 : List UInt8 := [180, 1, 4, 182, 1, 127, 154, 0, 6, 167, 0, 58, 21, 4, 45, 180, 1, 13, 153, 0, 18, 42]
abbrev dktX1_today_4 : List UInt8 := dkwX1_today_4 ++ dktX1_today_5
def dkwX1_today_3 : List UInt8 := [180, 1, 52, 42, 180, 0, 80, 180, 1, 27, 21, 5, 46, 112, 154, 0, 77, 42, 180, 0, 80, 21, 5, 45]
abbrev dktX1_today_3 : List UInt8 := dkwX1_today_3 ++ dktX1_today_4
def dkwX1_today_2 : List UInt8 := [3, 54, 4, 3, 54, 5, 21, 5, 42, 180, 0, 80, 180, 0, 222, 162, 0, 104, 42, 180, 0, 87]
abbrev dktX1_today_2 : List UInt8 := dkwX1_today_2 ++ dktX1_today_3
def dkwX1_today_1 : List UInt8 := [17, 1, 144, 162, 0, 7, 4, 167, 0, 4, 3, 184, 0, 255, 42, 180, 0, 87, 180, 0, 229, 27, 50, 78]
abbrev dktX1_today_1 : List UInt8 := dkwX1_today_1 ++ dktX1_today_2
def dkwX1_today_0 : List UInt8 := [42, 27, 182, 1, 124, 153, 0, 29, 28, 3, 4, 184, 0, 212, 153, 0, 20, 42, 180, 0, 87, 180, 1, 52]
abbrev dktX1_today_0 : List UInt8 := dkwX1_today_0 ++ dktX1_today_1
theorem dksX1_today_0 : cX1_today.data.toList.drop 0 = dktX1_today_0 := by decide +kernel
theorem dksX1_today_1 : cX1_today.data.toList.drop 24 = dktX1_today_1 := dk_seg dksX1_today_0 24 rfl rfl
theorem dksX1_today_2 : cX1_today.data.toList.drop 48 = dktX1_today_2 := dk_seg dksX1_today_1 24 rfl rfl
theorem dksX1_today_3 : cX1_today.data.toList.drop 70 = dktX1_today_3 := dk_seg dksX1_today_2 22 rfl rfl
theorem dksX1_today_4 : cX1_today.data.toList.drop 94 = dktX1_today_4 := dk_seg dksX1_today_3 24 rfl rfl
theorem dksX1_today_5 : cX1_today.data.toList.drop 116 = dktX1_today_5 := dk_seg dksX1_today_4 22 rfl rfl
theorem dksX1_today_6 : cX1_today.data.toList.drop 140 = dktX1_today_6 := dk_seg dksX1_today_5 24 rfl rfl
theorem dksX1_today_7 : cX1_today.data.toList.drop 164 = dktX1_today_7 := dk_seg dksX1_today_6 24 rfl rfl
theorem dX1_today_0 : decode cX1_today 0 = .ok (.aload_n 0, 1) := dk_42 (dk_at dksX1_today_0 0 rfl rfl)
theorem dX1_today_1 : decode cX1_today 1 = .ok (.iload_n 1, 1) := dk_27 (dk_at dksX1_today_0 1 rfl rfl)
theorem dX1_today_2 : decode cX1_today 2 = .ok (.invokevirtual 380, 3) := dk_182 1 124 (dk_at dksX1_today_0 2 rfl rfl)
theorem dX1_today_5 : decode cX1_today 5 = .ok (.ifCond .eq 29, 3) := dk_153 0 29 (dk_at dksX1_today_0 5 rfl rfl)
theorem dX1_today_8 : decode cX1_today 8 = .ok (.iload_n 2, 1) := dk_28 (dk_at dksX1_today_0 8 rfl rfl)
theorem dX1_today_9 : decode cX1_today 9 = .ok (.iconst 0, 1) := dk_3 (dk_at dksX1_today_0 9 rfl rfl)
theorem dX1_today_10 : decode cX1_today 10 = .ok (.iconst 1, 1) := dk_4 (dk_at dksX1_today_0 10 rfl rfl)
theorem dX1_today_11 : decode cX1_today 11 = .ok (.invokestatic 212, 3) := dk_184 0 212 (dk_at dksX1_today_0 11 rfl rfl)
theorem dX1_today_14 : decode cX1_today 14 = .ok (.ifCond .eq 20, 3) := dk_153 0 20 (dk_at dksX1_today_0 14 rfl rfl)
theorem dX1_today_17 : decode cX1_today 17 = .ok (.aload_n 0, 1) := dk_42 (dk_at dksX1_today_0 17 rfl rfl)
theorem dX1_today_18 : decode cX1_today 18 = .ok (.getfield 87, 3) := dk_180 0 87 (dk_at dksX1_today_0 18 rfl rfl)
theorem dX1_today_21 : decode cX1_today 21 = .ok (.getfield 308, 3) := dk_180 1 52 (dk_at dksX1_today_0 21 rfl rfl)
theorem dX1_today_24 : decode cX1_today 24 = .ok (.sipush 400, 3) := dk_17 1 144 (dk_at dksX1_today_1 0 rfl rfl)
theorem dX1_today_27 : decode cX1_today 27 = .ok (.if_icmp .ge 7, 3) := dk_162 0 7 (dk_at dksX1_today_1 3 rfl rfl)
theorem dX1_today_30 : decode cX1_today 30 = .ok (.iconst 1, 1) := dk_4 (dk_at dksX1_today_1 6 rfl rfl)
theorem dX1_today_31 : decode cX1_today 31 = .ok (.goto 4, 3) := dk_167 0 4 (dk_at dksX1_today_1 7 rfl rfl)
theorem dX1_today_34 : decode cX1_today 34 = .ok (.iconst 0, 1) := dk_3 (dk_at dksX1_today_1 10 rfl rfl)
theorem dX1_today_35 : decode cX1_today 35 = .ok (.invokestatic 255, 3) := dk_184 0 255 (dk_at dksX1_today_1 11 rfl rfl)
theorem dX1_today_38 : decode cX1_today 38 = .ok (.aload_n 0, 1) := dk_42 (dk_at dksX1_today_1 14 rfl rfl)
theorem dX1_today_39 : decode cX1_today 39 = .ok (.getfield 87, 3) := dk_180 0 87 (dk_at dksX1_today_1 15 rfl rfl)
theorem dX1_today_42 : decode cX1_today 42 = .ok (.getfield 229, 3) := dk_180 0 229 (dk_at dksX1_today_1 18 rfl rfl)
theorem dX1_today_45 : decode cX1_today 45 = .ok (.iload_n 1, 1) := dk_27 (dk_at dksX1_today_1 21 rfl rfl)
theorem dX1_today_46 : decode cX1_today 46 = .ok (.aaload, 1) := dk_50 (dk_at dksX1_today_1 22 rfl rfl)
theorem dX1_today_47 : decode cX1_today 47 = .ok (.astore_n 3, 1) := dk_78 (dk_at dksX1_today_1 23 rfl rfl)
theorem dX1_today_48 : decode cX1_today 48 = .ok (.iconst 0, 1) := dk_3 (dk_at dksX1_today_2 0 rfl rfl)
theorem dX1_today_49 : decode cX1_today 49 = .ok (.istore 4, 2) := dk_54 4 (dk_at dksX1_today_2 1 rfl rfl)
theorem dX1_today_51 : decode cX1_today 51 = .ok (.iconst 0, 1) := dk_3 (dk_at dksX1_today_2 3 rfl rfl)
theorem dX1_today_52 : decode cX1_today 52 = .ok (.istore 5, 2) := dk_54 5 (dk_at dksX1_today_2 4 rfl rfl)
theorem dX1_today_54 : decode cX1_today 54 = .ok (.iload 5, 2) := dk_21 5 (dk_at dksX1_today_2 6 rfl rfl)
theorem dX1_today_56 : decode cX1_today 56 = .ok (.aload_n 0, 1) := dk_42 (dk_at dksX1_today_2 8 rfl rfl)
theorem dX1_today_57 : decode cX1_today 57 = .ok (.getfield 80, 3) := dk_180 0 80 (dk_at dksX1_today_2 9 rfl rfl)
theorem dX1_today_60 : decode cX1_today 60 = .ok (.getfield 222, 3) := dk_180 0 222 (dk_at dksX1_today_2 12 rfl rfl)
theorem dX1_today_63 : decode cX1_today 63 = .ok (.if_icmp .ge 104, 3) := dk_162 0 104 (dk_at dksX1_today_2 15 rfl rfl)
theorem dX1_today_66 : decode cX1_today 66 = .ok (.aload_n 0, 1) := dk_42 (dk_at dksX1_today_2 18 rfl rfl)
theorem dX1_today_67 : decode cX1_today 67 = .ok (.getfield 87, 3) := dk_180 0 87 (dk_at dksX1_today_2 19 rfl rfl)
theorem dX1_today_70 : decode cX1_today 70 = .ok (.getfield 308, 3) := dk_180 1 52 (dk_at dksX1_today_3 0 rfl rfl)
theorem dX1_today_73 : decode cX1_today 73 = .ok (.aload_n 0, 1) := dk_42 (dk_at dksX1_today_3 3 rfl rfl)
theorem dX1_today_74 : decode cX1_today 74 = .ok (.getfield 80, 3) := dk_180 0 80 (dk_at dksX1_today_3 4 rfl rfl)
theorem dX1_today_77 : decode cX1_today 77 = .ok (.getfield 283, 3) := dk_180 1 27 (dk_at dksX1_today_3 7 rfl rfl)
theorem dX1_today_80 : decode cX1_today 80 = .ok (.iload 5, 2) := dk_21 5 (dk_at dksX1_today_3 10 rfl rfl)
theorem dX1_today_82 : decode cX1_today 82 = .ok (.iaload, 1) := dk_46 (dk_at dksX1_today_3 12 rfl rfl)
theorem dX1_today_83 : decode cX1_today 83 = .ok (.irem, 1) := dk_112 (dk_at dksX1_today_3 13 rfl rfl)
theorem dX1_today_84 : decode cX1_today 84 = .ok (.ifCond .ne 77, 3) := dk_154 0 77 (dk_at dksX1_today_3 14 rfl rfl)
theorem dX1_today_87 : decode cX1_today 87 = .ok (.aload_n 0, 1) := dk_42 (dk_at dksX1_today_3 17 rfl rfl)
theorem dX1_today_88 : decode cX1_today 88 = .ok (.getfield 80, 3) := dk_180 0 80 (dk_at dksX1_today_3 18 rfl rfl)
theorem dX1_today_91 : decode cX1_today 91 = .ok (.iload 5, 2) := dk_21 5 (dk_at dksX1_today_3 21 rfl rfl)
theorem dX1_today_93 : decode cX1_today 93 = .ok (.aload_n 3, 1) := dk_45 (dk_at dksX1_today_3 23 rfl rfl)
theorem dX1_today_94 : decode cX1_today 94 = .ok (.getfield 260, 3) := dk_180 1 4 (dk_at dksX1_today_4 0 rfl rfl)
theorem dX1_today_97 : decode cX1_today 97 = .ok (.invokevirtual 383, 3) := dk_182 1 127 (dk_at dksX1_today_4 3 rfl rfl)
theorem dX1_today_100 : decode cX1_today 100 = .ok (.ifCond .ne 6, 3) := dk_154 0 6 (dk_at dksX1_today_4 6 rfl rfl)
theorem dX1_today_103 : decode cX1_today 103 = .ok (.goto 58, 3) := dk_167 0 58 (dk_at dksX1_today_4 9 rfl rfl)
theorem dX1_today_106 : decode cX1_today 106 = .ok (.iload 4, 2) := dk_21 4 (dk_at dksX1_today_4 12 rfl rfl)
theorem dX1_today_108 : decode cX1_today 108 = .ok (.aload_n 3, 1) := dk_45 (dk_at dksX1_today_4 14 rfl rfl)
theorem dX1_today_109 : decode cX1_today 109 = .ok (.getfield 269, 3) := dk_180 1 13 (dk_at dksX1_today_4 15 rfl rfl)
theorem dX1_today_112 : decode cX1_today 112 = .ok (.ifCond .eq 18, 3) := dk_153 0 18 (dk_at dksX1_today_4 18 rfl rfl)
theorem dX1_today_115 : decode cX1_today 115 = .ok (.aload_n 0, 1) := dk_42 (dk_at dksX1_today_4 21 rfl rfl)
theorem dX1_today_116 : decode cX1_today 116 = .ok (.getfield 80, 3) := dk_180 0 80 (dk_at dksX1_today_5 0 rfl rfl)
theorem dX1_today_119 : decode cX1_today 119 = .ok (.getfield 286, 3) := dk_180 1 30 (dk_at dksX1_today_5 3 rfl rfl)
theorem dX1_today_122 : decode cX1_today 122 = .ok (.iload 5, 2) := dk_21 5 (dk_at dksX1_today_5 6 rfl rfl)
theorem dX1_today_124 : decode cX1_today 124 = .ok (.iaload, 1) := dk_46 (dk_at dksX1_today_5 8 rfl rfl)
theorem dX1_today_125 : decode cX1_today 125 = .ok (.iconst 2, 1) := dk_5 (dk_at dksX1_today_5 9 rfl rfl)
theorem dX1_today_126 : decode cX1_today 126 = .ok (.idiv, 1) := dk_108 (dk_at dksX1_today_5 10 rfl rfl)
theorem dX1_today_127 : decode cX1_today 127 = .ok (.goto 13, 3) := dk_167 0 13 (dk_at dksX1_today_5 11 rfl rfl)
theorem dX1_today_130 : decode cX1_today 130 = .ok (.aload_n 0, 1) := dk_42 (dk_at dksX1_today_5 14 rfl rfl)
theorem dX1_today_131 : decode cX1_today 131 = .ok (.getfield 80, 3) := dk_180 0 80 (dk_at dksX1_today_5 15 rfl rfl)
theorem dX1_today_134 : decode cX1_today 134 = .ok (.getfield 286, 3) := dk_180 1 30 (dk_at dksX1_today_5 18 rfl rfl)
theorem dX1_today_137 : decode cX1_today 137 = .ok (.iload 5, 2) := dk_21 5 (dk_at dksX1_today_5 21 rfl rfl)
theorem dX1_today_139 : decode cX1_today 139 = .ok (.iaload, 1) := dk_46 (dk_at dksX1_today_5 23 rfl rfl)
theorem dX1_today_140 : decode cX1_today 140 = .ok (.aload_n 0, 1) := dk_42 (dk_at dksX1_today_6 0 rfl rfl)
theorem dX1_today_141 : decode cX1_today 141 = .ok (.getfield 87, 3) := dk_180 0 87 (dk_at dksX1_today_6 1 rfl rfl)
theorem dX1_today_144 : decode cX1_today 144 = .ok (.aload_n 0, 1) := dk_42 (dk_at dksX1_today_6 4 rfl rfl)
theorem dX1_today_145 : decode cX1_today 145 = .ok (.getfield 80, 3) := dk_180 0 80 (dk_at dksX1_today_6 5 rfl rfl)
theorem dX1_today_148 : decode cX1_today 148 = .ok (.iload 5, 2) := dk_21 5 (dk_at dksX1_today_6 8 rfl rfl)
theorem dX1_today_150 : decode cX1_today 150 = .ok (.aload_n 3, 1) := dk_45 (dk_at dksX1_today_6 10 rfl rfl)
theorem dX1_today_151 : decode cX1_today 151 = .ok (.getfield 259, 3) := dk_180 1 3 (dk_at dksX1_today_6 11 rfl rfl)
theorem dX1_today_154 : decode cX1_today 154 = .ok (.invokevirtual 304, 3) := dk_182 1 48 (dk_at dksX1_today_6 14 rfl rfl)
theorem dX1_today_157 : decode cX1_today 157 = .ok (.imul, 1) := dk_104 (dk_at dksX1_today_6 17 rfl rfl)
theorem dX1_today_158 : decode cX1_today 158 = .ok (.iadd, 1) := dk_96 (dk_at dksX1_today_6 18 rfl rfl)
theorem dX1_today_159 : decode cX1_today 159 = .ok (.istore 4, 2) := dk_54 4 (dk_at dksX1_today_6 19 rfl rfl)
theorem dX1_today_161 : decode cX1_today 161 = .ok (.iinc 5 1, 3) := dk_132 5 1 (dk_at dksX1_today_6 21 rfl rfl)
theorem dX1_today_164 : decode cX1_today 164 = .ok (.goto (-110), 3) := dk_167 255 146 (dk_at dksX1_today_7 0 rfl rfl)
theorem dX1_today_167 : decode cX1_today 167 = .ok (.iload 4, 2) := dk_21 4 (dk_at dksX1_today_7 3 rfl rfl)
theorem dX1_today_169 : decode cX1_today 169 = .ok (.bipush 12, 2) := dk_16 12 (dk_at dksX1_today_7 5 rfl rfl)
theorem dX1_today_171 : decode cX1_today 171 = .ok (.iload_n 2, 1) := dk_28 (dk_at dksX1_today_7 7 rfl rfl)
theorem dX1_today_172 : decode cX1_today 172 = .ok (.invokestatic 369, 3) := dk_184 1 113 (dk_at dksX1_today_7 8 rfl rfl)
theorem dX1_today_175 : decode cX1_today 175 = .ok (.ireturn, 1) := dk_172 (dk_at dksX1_today_7 11 rfl rfl)
abbrev cX1_placing : ByteArray := prog_1_method_38_code
def yX1_placing : MethodName := ⟨RX1, "placing", "(I)I"⟩
def dkwX1_placing_1 : List UInt8 := [27, 184, 1, 113, 172]
abbrev dktX1_placing_1 : List UInt8 := dkwX1_placing_1 ++ []
def dkwX1_placing_0 : List UInt8 := [27, 3, 4, 184, 0, 212, 184, 0, 255, 42, 182, 1, 141, 42, 180, 0, 120, 3, 50, 3, 46, 17, 19, 176]
abbrev dktX1_placing_0 : List UInt8 := dkwX1_placing_0 ++ dktX1_placing_1
theorem dksX1_placing_0 : cX1_placing.data.toList.drop 0 = dktX1_placing_0 := by decide +kernel
theorem dksX1_placing_1 : cX1_placing.data.toList.drop 24 = dktX1_placing_1 := dk_seg dksX1_placing_0 24 rfl rfl
theorem dX1_placing_0 : decode cX1_placing 0 = .ok (.iload_n 1, 1) := dk_27 (dk_at dksX1_placing_0 0 rfl rfl)
theorem dX1_placing_1 : decode cX1_placing 1 = .ok (.iconst 0, 1) := dk_3 (dk_at dksX1_placing_0 1 rfl rfl)
theorem dX1_placing_2 : decode cX1_placing 2 = .ok (.iconst 1, 1) := dk_4 (dk_at dksX1_placing_0 2 rfl rfl)
theorem dX1_placing_3 : decode cX1_placing 3 = .ok (.invokestatic 212, 3) := dk_184 0 212 (dk_at dksX1_placing_0 3 rfl rfl)
theorem dX1_placing_6 : decode cX1_placing 6 = .ok (.invokestatic 255, 3) := dk_184 0 255 (dk_at dksX1_placing_0 6 rfl rfl)
theorem dX1_placing_9 : decode cX1_placing 9 = .ok (.aload_n 0, 1) := dk_42 (dk_at dksX1_placing_0 9 rfl rfl)
theorem dX1_placing_10 : decode cX1_placing 10 = .ok (.invokevirtual 397, 3) := dk_182 1 141 (dk_at dksX1_placing_0 10 rfl rfl)
theorem dX1_placing_13 : decode cX1_placing 13 = .ok (.aload_n 0, 1) := dk_42 (dk_at dksX1_placing_0 13 rfl rfl)
theorem dX1_placing_14 : decode cX1_placing 14 = .ok (.getfield 120, 3) := dk_180 0 120 (dk_at dksX1_placing_0 14 rfl rfl)
theorem dX1_placing_17 : decode cX1_placing 17 = .ok (.iconst 0, 1) := dk_3 (dk_at dksX1_placing_0 17 rfl rfl)
theorem dX1_placing_18 : decode cX1_placing 18 = .ok (.aaload, 1) := dk_50 (dk_at dksX1_placing_0 18 rfl rfl)
theorem dX1_placing_19 : decode cX1_placing 19 = .ok (.iconst 0, 1) := dk_3 (dk_at dksX1_placing_0 19 rfl rfl)
theorem dX1_placing_20 : decode cX1_placing 20 = .ok (.iaload, 1) := dk_46 (dk_at dksX1_placing_0 20 rfl rfl)
theorem dX1_placing_21 : decode cX1_placing 21 = .ok (.sipush 5040, 3) := dk_17 19 176 (dk_at dksX1_placing_0 21 rfl rfl)
theorem dX1_placing_24 : decode cX1_placing 24 = .ok (.iload_n 1, 1) := dk_27 (dk_at dksX1_placing_1 0 rfl rfl)
theorem dX1_placing_25 : decode cX1_placing 25 = .ok (.invokestatic 369, 3) := dk_184 1 113 (dk_at dksX1_placing_1 1 rfl rfl)
theorem dX1_placing_28 : decode cX1_placing 28 = .ok (.ireturn, 1) := dk_172 (dk_at dksX1_placing_1 4 rfl rfl)
theorem q121 : (Jvm.Cond.initialized "StatueRent") ∈ lw_all := lw_g (lw_at lw_m1 1 rfl) rfl
theorem q157 : (Jvm.Cond.instantiable "StatueRent" (41 : Nat)) ∈ lw_all := lw_g (lw_at lw_m1 37 rfl) rfl
theorem q159 : (Jvm.Cond.instanceMethod ({ cls := "StatueRent", name := "<init>", desc := "()V" } : Jvm.MethodName)) ∈ lw_all := lw_g (lw_at lw_m1 39 rfl) rfl
theorem q160 : (Jvm.Cond.code ({ cls := "StatueRent", name := "<init>", desc := "()V" } : Jvm.MethodName) prog_1_method_1_code (1 : Nat) (Option.none : Option Jvm.ClassFile.FieldType)) ∈ lw_all := lw_g (lw_at lw_m1 40 rfl) rfl
theorem q161 : (Jvm.Cond.methodLink "StatueRent" (1 : Nat) ({ cls := "java/lang/Object", name := "<init>", desc := "()V" } : Jvm.MethodName)) ∈ lw_all := lw_g (lw_at lw_m1 41 rfl) rfl
theorem q164 : (Jvm.Cond.classLink "StatueRent" (13 : Nat) "StatueRent$Fault") ∈ lw_all := lw_g (lw_at lw_m1 44 rfl) rfl
theorem q202 : (Jvm.Cond.methodLink "StatueRent" (15 : Nat) ({ cls := "StatueRent$Fault", name := "<init>", desc := "()V" } : Jvm.MethodName)) ∈ lw_all := lw_g (lw_at lw_m1 82 rfl) rfl
theorem q211 : (Jvm.Cond.fieldLink "StatueRent" (204 : Nat) "StatueRent$Fault" "kind" "I") ∈ lw_all := lw_g (lw_at lw_m1 91 rfl) rfl
theorem q213 : (Jvm.Cond.fieldLink "StatueRent" (206 : Nat) "StatueRent$Fault" "place" "I") ∈ lw_all := lw_g (lw_at lw_m1 93 rfl) rfl
theorem q233 : (Jvm.Cond.classLink "StatueRent" (20 : Nat) "java/lang/String") ∈ lw_all := lw_g (lw_at lw_m1 113 rfl) rfl
theorem q235 : (Jvm.Cond.stringRef "StatueRent" (22 : Nat) "square") ∈ lw_tbl := lw_at lw_m1 115 rfl
theorem q236 : (Jvm.Cond.stringRef "StatueRent" (24 : Nat) "path") ∈ lw_tbl := lw_at lw_m1 116 rfl
theorem q237 : (Jvm.Cond.stringRef "StatueRent" (26 : Nat) "kind") ∈ lw_tbl := lw_at lw_m1 117 rfl
theorem q238 : (Jvm.Cond.stringRef "StatueRent" (28 : Nat) "statue") ∈ lw_tbl := lw_at lw_m1 118 rfl
theorem q239 : (Jvm.Cond.stringRef "StatueRent" (30 : Nat) "walker") ∈ lw_tbl := lw_at lw_m1 119 rfl
theorem q240 : (Jvm.Cond.stringRef "StatueRent" (32 : Nat) "likes") ∈ lw_tbl := lw_at lw_m1 120 rfl
theorem q241 : (Jvm.Cond.stringRef "StatueRent" (34 : Nat) "arrears") ∈ lw_tbl := lw_at lw_m1 121 rfl
theorem q242 : (Jvm.Cond.stringRef "StatueRent" (40 : Nat) "moves") ∈ lw_tbl := lw_at lw_m1 122 rfl
theorem q243 : (Jvm.Cond.stringRef "StatueRent" (42 : Nat) "cleans") ∈ lw_tbl := lw_at lw_m1 123 rfl
theorem q244 : (Jvm.Cond.stringRef "StatueRent" (44 : Nat) "shows") ∈ lw_tbl := lw_at lw_m1 124 rfl
theorem q245 : (Jvm.Cond.stringRef "StatueRent" (46 : Nat) "lends") ∈ lw_tbl := lw_at lw_m1 125 rfl
theorem q246 : (Jvm.Cond.stringRef "StatueRent" (48 : Nat) "day") ∈ lw_tbl := lw_at lw_m1 126 rfl
theorem q247 : (Jvm.Cond.stringRef "StatueRent" (50 : Nat) "or") ∈ lw_tbl := lw_at lw_m1 127 rfl
theorem q248 : (Jvm.Cond.stringRef "StatueRent" (52 : Nat) "and") ∈ lw_tbl := lw_at lw_m1 128 rfl
theorem q249 : (Jvm.Cond.stringRef "StatueRent" (54 : Nat) "not") ∈ lw_tbl := lw_at lw_m1 129 rfl
theorem q250 : (Jvm.Cond.stringRef "StatueRent" (56 : Nat) "evicted") ∈ lw_tbl := lw_at lw_m1 130 rfl
theorem q251 : (Jvm.Cond.stringRef "StatueRent" (58 : Nat) "stained") ∈ lw_tbl := lw_at lw_m1 131 rfl
theorem q252 : (Jvm.Cond.stringRef "StatueRent" (60 : Nat) "solvent") ∈ lw_tbl := lw_at lw_m1 132 rfl
theorem q253 : (Jvm.Cond.stringRef "StatueRent" (62 : Nat) "of") ∈ lw_tbl := lw_at lw_m1 133 rfl
theorem q254 : (Jvm.Cond.stringRef "StatueRent" (64 : Nat) "at") ∈ lw_tbl := lw_at lw_m1 134 rfl
theorem q255 : (Jvm.Cond.stringRef "StatueRent" (66 : Nat) "purse") ∈ lw_tbl := lw_at lw_m1 135 rfl
theorem q256 : (Jvm.Cond.stringRef "StatueRent" (68 : Nat) "owes") ∈ lw_tbl := lw_at lw_m1 136 rfl
theorem q257 : (Jvm.Cond.stringRef "StatueRent" (70 : Nat) "glances") ∈ lw_tbl := lw_at lw_m1 137 rfl
theorem q258 : (Jvm.Cond.stringRef "StatueRent" (72 : Nat) "number") ∈ lw_tbl := lw_at lw_m1 138 rfl
theorem q259 : (Jvm.Cond.classLink "StatueRent" (77 : Nat) "StatueRent$City") ∈ lw_all := lw_g (lw_at lw_m1 139 rfl) rfl
theorem q261 : (Jvm.Cond.methodLinkNest "StatueRent" (79 : Nat) ({ cls := "StatueRent$City", name := "<init>", desc := "()V" } : Jvm.MethodName) "StatueRent") ∈ lw_tbl := lw_at lw_m1 141 rfl
theorem q271 : (Jvm.Cond.fieldLinkNest "StatueRent" (514 : Nat) "StatueRent$City" "squareNames" "[J" "StatueRent") ∈ lw_tbl := lw_at lw_m1 151 rfl
theorem q279 : (Jvm.Cond.fieldLinkNest "StatueRent" (494 : Nat) "StatueRent$City" "statueNames" "[J" "StatueRent") ∈ lw_tbl := lw_at lw_m1 159 rfl
theorem q285 : (Jvm.Cond.fieldLinkNest "StatueRent" (242 : Nat) "StatueRent$City" "rent" "[I" "StatueRent") ∈ lw_tbl := lw_at lw_m1 165 rfl
theorem q288 : (Jvm.Cond.fieldLinkNest "StatueRent" (248 : Nat) "StatueRent$City" "next" "[I" "StatueRent") ∈ lw_tbl := lw_at lw_m1 168 rfl
theorem q300 : (Jvm.Cond.fieldLinkNest "StatueRent" (266 : Nat) "StatueRent$City" "bribe" "[I" "StatueRent") ∈ lw_tbl := lw_at lw_m1 180 rfl
theorem q303 : (Jvm.Cond.fieldLinkNest "StatueRent" (277 : Nat) "StatueRent$City" "from" "[I" "StatueRent") ∈ lw_tbl := lw_at lw_m1 183 rfl
theorem q306 : (Jvm.Cond.fieldLinkNest "StatueRent" (280 : Nat) "StatueRent$City" "to" "[I" "StatueRent") ∈ lw_tbl := lw_at lw_m1 186 rfl
theorem q310 : (Jvm.Cond.fieldLinkNest "StatueRent" (283 : Nat) "StatueRent$City" "every" "[I" "StatueRent") ∈ lw_tbl := lw_at lw_m1 190 rfl
theorem q314 : (Jvm.Cond.fieldLinkNest "StatueRent" (286 : Nat) "StatueRent$City" "worth" "[I" "StatueRent") ∈ lw_tbl := lw_at lw_m1 194 rfl
theorem q319 : (Jvm.Cond.fieldLinkNest "StatueRent" (289 : Nat) "StatueRent$City" "ways" "[[I" "StatueRent") ∈ lw_tbl := lw_at lw_m1 199 rfl
theorem q326 : (Jvm.Cond.fieldLinkNest "StatueRent" (209 : Nat) "StatueRent$City" "squares" "I" "StatueRent") ∈ lw_tbl := lw_at lw_m1 206 rfl
theorem q328 : (Jvm.Cond.fieldLinkNest "StatueRent" (557 : Nat) "StatueRent$City" "paths" "I" "StatueRent") ∈ lw_tbl := lw_at lw_m1 208 rfl
theorem q333 : (Jvm.Cond.fieldLinkNest "StatueRent" (216 : Nat) "StatueRent$City" "kinds" "I" "StatueRent") ∈ lw_tbl := lw_at lw_m1 213 rfl
theorem q337 : (Jvm.Cond.fieldLinkNest "StatueRent" (219 : Nat) "StatueRent$City" "statues" "I" "StatueRent") ∈ lw_tbl := lw_at lw_m1 217 rfl
theorem q341 : (Jvm.Cond.fieldLinkNest "StatueRent" (222 : Nat) "StatueRent$City" "walkers" "I" "StatueRent") ∈ lw_tbl := lw_at lw_m1 221 rfl
theorem q345 : (Jvm.Cond.fieldLinkNest "StatueRent" (469 : Nat) "StatueRent$City" "arrears" "I" "StatueRent") ∈ lw_tbl := lw_at lw_m1 225 rfl
theorem q396 : (Jvm.Cond.classLink "StatueRent" (84 : Nat) "StatueRent$State") ∈ lw_all := lw_g (lw_at lw_m2 36 rfl) rfl
theorem q398 : (Jvm.Cond.methodLink "StatueRent" (86 : Nat) ({ cls := "StatueRent$State", name := "<init>", desc := "()V" } : Jvm.MethodName)) ∈ lw_all := lw_g (lw_at lw_m2 38 rfl) rfl
theorem q412 : (Jvm.Cond.fieldLinkNest "StatueRent" (259 : Nat) "StatueRent$Stone" "kind" "I" "StatueRent") ∈ lw_tbl := lw_at lw_m2 52 rfl
theorem q417 : (Jvm.Cond.fieldLinkNest "StatueRent" (260 : Nat) "StatueRent$Stone" "square" "I" "StatueRent") ∈ lw_tbl := lw_at lw_m2 57 rfl
theorem q421 : (Jvm.Cond.fieldLinkNest "StatueRent" (262 : Nat) "StatueRent$Stone" "purse" "I" "StatueRent") ∈ lw_tbl := lw_at lw_m2 61 rfl
theorem q425 : (Jvm.Cond.fieldLinkNest "StatueRent" (264 : Nat) "StatueRent$Stone" "owes" "I" "StatueRent") ∈ lw_tbl := lw_at lw_m2 65 rfl
theorem q429 : (Jvm.Cond.fieldLinkNest "StatueRent" (272 : Nat) "StatueRent$Stone" "glances" "I" "StatueRent") ∈ lw_tbl := lw_at lw_m2 69 rfl
theorem q433 : (Jvm.Cond.fieldLinkNest "StatueRent" (269 : Nat) "StatueRent$Stone" "stained" "Z" "StatueRent") ∈ lw_tbl := lw_at lw_m2 73 rfl
theorem q451 : (Jvm.Cond.fieldLinkNest "StatueRent" (229 : Nat) "StatueRent$State" "stones" "[LStatueRent$Stone;" "StatueRent") ∈ lw_tbl := lw_at lw_m2 91 rfl
theorem q453 : (Jvm.Cond.fieldLinkNest "StatueRent" (295 : Nat) "StatueRent$State" "tired" "[I" "StatueRent") ∈ lw_tbl := lw_at lw_m2 93 rfl
theorem q455 : (Jvm.Cond.fieldLinkNest "StatueRent" (292 : Nat) "StatueRent$State" "gave" "[I" "StatueRent") ∈ lw_tbl := lw_at lw_m2 95 rfl
theorem q459 : (Jvm.Cond.fieldLinkNest "StatueRent" (308 : Nat) "StatueRent$State" "day" "I" "StatueRent") ∈ lw_tbl := lw_at lw_m2 99 rfl
theorem q461 : (Jvm.Cond.fieldLinkNest "StatueRent" (313 : Nat) "StatueRent$State" "paid" "I" "StatueRent") ∈ lw_tbl := lw_at lw_m2 101 rfl
theorem q463 : (Jvm.Cond.fieldLinkNest "StatueRent" (456 : Nat) "StatueRent$State" "seed" "I" "StatueRent") ∈ lw_tbl := lw_at lw_m2 103 rfl
theorem q479 : (Jvm.Cond.classLink "StatueRent" (94 : Nat) "StatueRent$CityReader") ∈ lw_all := lw_g (lw_at lw_m2 119 rfl) rfl
theorem q481 : (Jvm.Cond.methodLink "StatueRent" (96 : Nat) ({ cls := "StatueRent$CityReader", name := "<init>", desc := "(LStatueRent;)V" } : Jvm.MethodName)) ∈ lw_all := lw_g (lw_at lw_m2 121 rfl) rfl
theorem q532 : (Jvm.Cond.classLink "StatueRent" (103 : Nat) "StatueRent$LogReader") ∈ lw_all := lw_g (lw_at lw_m2 172 rfl) rfl
theorem q534 : (Jvm.Cond.methodLink "StatueRent" (105 : Nat) ({ cls := "StatueRent$LogReader", name := "<init>", desc := "(LStatueRent;)V" } : Jvm.MethodName)) ∈ lw_all := lw_g (lw_at lw_m2 174 rfl) rfl
theorem q541 : (Jvm.Cond.fieldLinkNest "StatueRent" (522 : Nat) "StatueRent$LogReader" "row" "[LStatueRent$Line;" "StatueRent") ∈ lw_tbl := lw_at lw_m2 181 rfl
theorem q543 : (Jvm.Cond.fieldLinkNest "StatueRent" (519 : Nat) "StatueRent$LogReader" "n" "I" "StatueRent") ∈ lw_tbl := lw_at lw_m2 183 rfl
theorem q560 : (Jvm.Cond.methodLink "StatueRent" (110 : Nat) ({ cls := "StatueRent$State", name := "begin", desc := "(LStatueRent$City;)V" } : Jvm.MethodName)) ∈ lw_all := lw_g (lw_at lw_m2 200 rfl) rfl
theorem q568 : (Jvm.Cond.classLink "StatueRent" (118 : Nat) "[[I") ∈ lw_all := lw_g (lw_at lw_m2 208 rfl) rfl
theorem q569 : (Jvm.Cond.classLink "StatueRent" (158 : Nat) "StatueRent$SentenceReader") ∈ lw_all := lw_g (lw_at lw_m2 209 rfl) rfl
theorem q571 : (Jvm.Cond.methodLink "StatueRent" (160 : Nat) ({ cls := "StatueRent$SentenceReader", name := "<init>", desc := "(LStatueRent;)V" } : Jvm.MethodName)) ∈ lw_all := lw_g (lw_at lw_m2 211 rfl) rfl
theorem q588 : (Jvm.Cond.fieldLinkNest "StatueRent" (542 : Nat) "StatueRent$SentenceReader" "ones" "I" "StatueRent") ∈ lw_tbl := lw_at lw_m2 228 rfl
theorem q607 : (Jvm.Cond.classLink "StatueRent" (165 : Nat) "StatueRent$Kept") ∈ lw_all := lw_g (lw_at lw_m3 7 rfl) rfl
theorem q609 : (Jvm.Cond.fieldLink "StatueRent" (9 : Nat) "StatueRent" "tape" "[B") ∈ lw_all := lw_g (lw_at lw_m3 9 rfl) rfl
theorem q611 : (Jvm.Cond.fieldLink "StatueRent" (171 : Nat) "StatueRent" "length" "I") ∈ lw_all := lw_g (lw_at lw_m3 11 rfl) rfl
theorem q613 : (Jvm.Cond.fieldLink "StatueRent" (178 : Nat) "StatueRent" "size" "I") ∈ lw_all := lw_g (lw_at lw_m3 13 rfl) rfl
theorem q614 : (Jvm.Cond.fieldLink "StatueRent" (16 : Nat) "StatueRent" "broken" "LStatueRent$Fault;") ∈ lw_all := lw_g (lw_at lw_m3 14 rfl) rfl
theorem q616 : (Jvm.Cond.fieldLink "StatueRent" (36 : Nat) "StatueRent" "lines" "[Ljava/lang/String;") ∈ lw_all := lw_g (lw_at lw_m3 16 rfl) rfl
theorem q619 : (Jvm.Cond.fieldLink "StatueRent" (74 : Nat) "StatueRent" "words" "[Ljava/lang/String;") ∈ lw_all := lw_g (lw_at lw_m3 19 rfl) rfl
theorem q621 : (Jvm.Cond.fieldLink "StatueRent" (80 : Nat) "StatueRent" "city" "LStatueRent$City;") ∈ lw_all := lw_g (lw_at lw_m3 21 rfl) rfl
theorem q624 : (Jvm.Cond.fieldLink "StatueRent" (87 : Nat) "StatueRent" "now" "LStatueRent$State;") ∈ lw_all := lw_g (lw_at lw_m3 24 rfl) rfl
theorem q627 : (Jvm.Cond.fieldLink "StatueRent" (91 : Nat) "StatueRent" "tried" "LStatueRent$State;") ∈ lw_all := lw_g (lw_at lw_m3 27 rfl) rfl
theorem q628 : (Jvm.Cond.fieldLink "StatueRent" (99 : Nat) "StatueRent" "cityReader" "LStatueRent$CityReader;") ∈ lw_all := lw_g (lw_at lw_m3 28 rfl) rfl
theorem q629 : (Jvm.Cond.fieldLink "StatueRent" (106 : Nat) "StatueRent" "logReader" "LStatueRent$LogReader;") ∈ lw_all := lw_g (lw_at lw_m3 29 rfl) rfl
theorem q630 : (Jvm.Cond.fieldLink "StatueRent" (187 : Nat) "StatueRent" "fault" "I") ∈ lw_all := lw_g (lw_at lw_m3 30 rfl) rfl
theorem q631 : (Jvm.Cond.fieldLink "StatueRent" (114 : Nat) "StatueRent" "ahead" "[LStatueRent$State;") ∈ lw_all := lw_g (lw_at lw_m3 31 rfl) rfl
theorem q632 : (Jvm.Cond.fieldLink "StatueRent" (197 : Nat) "StatueRent" "undoMany" "I") ∈ lw_all := lw_g (lw_at lw_m3 32 rfl) rfl
theorem q633 : (Jvm.Cond.fieldLink "StatueRent" (120 : Nat) "StatueRent" "places" "[[I") ∈ lw_all := lw_g (lw_at lw_m3 33 rfl) rfl
theorem q634 : (Jvm.Cond.fieldLink "StatueRent" (123 : Nat) "StatueRent" "route" "[I") ∈ lw_all := lw_g (lw_at lw_m3 34 rfl) rfl
theorem q635 : (Jvm.Cond.fieldLink "StatueRent" (127 : Nat) "StatueRent" "routeRow" "[I") ∈ lw_all := lw_g (lw_at lw_m3 35 rfl) rfl
theorem q636 : (Jvm.Cond.fieldLink "StatueRent" (130 : Nat) "StatueRent" "bribes" "[I") ∈ lw_all := lw_g (lw_at lw_m3 36 rfl) rfl
theorem q637 : (Jvm.Cond.fieldLink "StatueRent" (133 : Nat) "StatueRent" "bidRow" "[I") ∈ lw_all := lw_g (lw_at lw_m3 37 rfl) rfl
theorem q638 : (Jvm.Cond.fieldLink "StatueRent" (399 : Nat) "StatueRent" "routeBest" "I") ∈ lw_all := lw_g (lw_at lw_m3 38 rfl) rfl
theorem q639 : (Jvm.Cond.fieldLink "StatueRent" (402 : Nat) "StatueRent" "routeMany" "I") ∈ lw_all := lw_g (lw_at lw_m3 39 rfl) rfl
theorem q640 : (Jvm.Cond.fieldLink "StatueRent" (136 : Nat) "StatueRent" "routeTold" "I") ∈ lw_all := lw_g (lw_at lw_m3 40 rfl) rfl
theorem q641 : (Jvm.Cond.fieldLink "StatueRent" (140 : Nat) "StatueRent" "bidMany" "I") ∈ lw_all := lw_g (lw_at lw_m3 41 rfl) rfl
theorem q642 : (Jvm.Cond.fieldLink "StatueRent" (143 : Nat) "StatueRent" "routeKept" "[I") ∈ lw_all := lw_g (lw_at lw_m3 42 rfl) rfl
theorem q643 : (Jvm.Cond.fieldLink "StatueRent" (146 : Nat) "StatueRent" "curedRow" "[I") ∈ lw_all := lw_g (lw_at lw_m3 43 rfl) rfl
theorem q644 : (Jvm.Cond.fieldLink "StatueRent" (429 : Nat) "StatueRent" "hasCured" "Z") ∈ lw_all := lw_g (lw_at lw_m3 44 rfl) rfl
theorem q645 : (Jvm.Cond.fieldLink "StatueRent" (149 : Nat) "StatueRent" "curing" "[I") ∈ lw_all := lw_g (lw_at lw_m3 45 rfl) rfl
theorem q646 : (Jvm.Cond.fieldLink "StatueRent" (441 : Nat) "StatueRent" "surelySet" "I") ∈ lw_all := lw_g (lw_at lw_m3 46 rfl) rfl
theorem q647 : (Jvm.Cond.fieldLink "StatueRent" (444 : Nat) "StatueRent" "tellsWhom" "I") ∈ lw_all := lw_g (lw_at lw_m3 47 rfl) rfl
theorem q648 : (Jvm.Cond.fieldLink "StatueRent" (438 : Nat) "StatueRent" "hasTaste" "Z") ∈ lw_all := lw_g (lw_at lw_m3 48 rfl) rfl
theorem q649 : (Jvm.Cond.fieldLink "StatueRent" (453 : Nat) "StatueRent" "plotSet" "I") ∈ lw_all := lw_g (lw_at lw_m3 49 rfl) rfl
theorem q650 : (Jvm.Cond.fieldLink "StatueRent" (450 : Nat) "StatueRent" "hasPlot" "Z") ∈ lw_all := lw_g (lw_at lw_m3 50 rfl) rfl
theorem q651 : (Jvm.Cond.fieldLink "StatueRent" (477 : Nat) "StatueRent" "troddenSet" "I") ∈ lw_all := lw_g (lw_at lw_m3 51 rfl) rfl
theorem q652 : (Jvm.Cond.fieldLink "StatueRent" (474 : Nat) "StatueRent" "hasGrass" "Z") ∈ lw_all := lw_g (lw_at lw_m3 52 rfl) rfl
theorem q653 : (Jvm.Cond.fieldLink "StatueRent" (152 : Nat) "StatueRent" "text" "[B") ∈ lw_all := lw_g (lw_at lw_m3 53 rfl) rfl
theorem q654 : (Jvm.Cond.fieldLink "StatueRent" (480 : Nat) "StatueRent" "textMany" "I") ∈ lw_all := lw_g (lw_at lw_m3 54 rfl) rfl
theorem q655 : (Jvm.Cond.fieldLink "StatueRent" (155 : Nat) "StatueRent" "loggedRow" "[I") ∈ lw_all := lw_g (lw_at lw_m3 55 rfl) rfl
theorem q656 : (Jvm.Cond.fieldLink "StatueRent" (536 : Nat) "StatueRent" "hasLogged" "Z") ∈ lw_all := lw_g (lw_at lw_m3 56 rfl) rfl
theorem q657 : (Jvm.Cond.fieldLink "StatueRent" (161 : Nat) "StatueRent" "sentenceReader" "LStatueRent$SentenceReader;") ∈ lw_all := lw_g (lw_at lw_m3 57 rfl) rfl
theorem q658 : (Jvm.Cond.fieldLink "StatueRent" (200 : Nat) "StatueRent" "sentence" "LStatueRent$Cond;") ∈ lw_all := lw_g (lw_at lw_m3 58 rfl) rfl
theorem q659 : (Jvm.Cond.fieldLink "StatueRent" (167 : Nat) "StatueRent" "images" "[LStatueRent$Kept;") ∈ lw_all := lw_g (lw_at lw_m3 59 rfl) rfl
theorem q660 : (Jvm.Cond.laysFinal "StatueRent" "StatueRent" "tape" "[B") ∈ lw_all := lw_g (lw_at lw_m3 60 rfl) rfl
theorem q661 : (Jvm.Cond.soleField "StatueRent" "tape") ∈ lw_all := lw_g (lw_at lw_m3 61 rfl) rfl
theorem q662 : (Jvm.Cond.lays "StatueRent" "StatueRent" "length" "I") ∈ lw_all := lw_g (lw_at lw_m3 62 rfl) rfl
theorem q663 : (Jvm.Cond.soleField "StatueRent" "length") ∈ lw_all := lw_g (lw_at lw_m3 63 rfl) rfl
theorem q664 : (Jvm.Cond.lays "StatueRent" "StatueRent" "size" "I") ∈ lw_all := lw_g (lw_at lw_m3 64 rfl) rfl
theorem q665 : (Jvm.Cond.soleField "StatueRent" "size") ∈ lw_all := lw_g (lw_at lw_m3 65 rfl) rfl
theorem q666 : (Jvm.Cond.laysFinal "StatueRent" "StatueRent" "broken" "LStatueRent$Fault;") ∈ lw_all := lw_g (lw_at lw_m3 66 rfl) rfl
theorem q667 : (Jvm.Cond.soleField "StatueRent" "broken") ∈ lw_all := lw_g (lw_at lw_m3 67 rfl) rfl
theorem q668 : (Jvm.Cond.laysFinal "StatueRent" "StatueRent" "lines" "[Ljava/lang/String;") ∈ lw_all := lw_g (lw_at lw_m3 68 rfl) rfl
theorem q669 : (Jvm.Cond.soleField "StatueRent" "lines") ∈ lw_all := lw_g (lw_at lw_m3 69 rfl) rfl
theorem q670 : (Jvm.Cond.laysFinal "StatueRent" "StatueRent" "words" "[Ljava/lang/String;") ∈ lw_all := lw_g (lw_at lw_m3 70 rfl) rfl
theorem q671 : (Jvm.Cond.soleField "StatueRent" "words") ∈ lw_all := lw_g (lw_at lw_m3 71 rfl) rfl
theorem q672 : (Jvm.Cond.lays "StatueRent" "StatueRent" "city" "LStatueRent$City;") ∈ lw_all := lw_g (lw_at lw_m3 72 rfl) rfl
theorem q673 : (Jvm.Cond.soleField "StatueRent" "city") ∈ lw_all := lw_g (lw_at lw_m3 73 rfl) rfl
theorem q674 : (Jvm.Cond.laysFinal "StatueRent" "StatueRent" "now" "LStatueRent$State;") ∈ lw_all := lw_g (lw_at lw_m3 74 rfl) rfl
theorem q675 : (Jvm.Cond.soleField "StatueRent" "now") ∈ lw_all := lw_g (lw_at lw_m3 75 rfl) rfl
theorem q676 : (Jvm.Cond.laysFinal "StatueRent" "StatueRent" "tried" "LStatueRent$State;") ∈ lw_all := lw_g (lw_at lw_m3 76 rfl) rfl
theorem q677 : (Jvm.Cond.soleField "StatueRent" "tried") ∈ lw_all := lw_g (lw_at lw_m3 77 rfl) rfl
theorem q678 : (Jvm.Cond.laysFinal "StatueRent" "StatueRent" "cityReader" "LStatueRent$CityReader;") ∈ lw_all := lw_g (lw_at lw_m3 78 rfl) rfl
theorem q679 : (Jvm.Cond.soleField "StatueRent" "cityReader") ∈ lw_all := lw_g (lw_at lw_m3 79 rfl) rfl
theorem q680 : (Jvm.Cond.laysFinal "StatueRent" "StatueRent" "logReader" "LStatueRent$LogReader;") ∈ lw_all := lw_g (lw_at lw_m3 80 rfl) rfl
theorem q681 : (Jvm.Cond.soleField "StatueRent" "logReader") ∈ lw_all := lw_g (lw_at lw_m3 81 rfl) rfl
theorem q682 : (Jvm.Cond.lays "StatueRent" "StatueRent" "fault" "I") ∈ lw_all := lw_g (lw_at lw_m3 82 rfl) rfl
theorem q683 : (Jvm.Cond.soleField "StatueRent" "fault") ∈ lw_all := lw_g (lw_at lw_m3 83 rfl) rfl
theorem q684 : (Jvm.Cond.laysFinal "StatueRent" "StatueRent" "ahead" "[LStatueRent$State;") ∈ lw_all := lw_g (lw_at lw_m3 84 rfl) rfl
theorem q685 : (Jvm.Cond.soleField "StatueRent" "ahead") ∈ lw_all := lw_g (lw_at lw_m3 85 rfl) rfl
theorem q686 : (Jvm.Cond.lays "StatueRent" "StatueRent" "undoMany" "I") ∈ lw_all := lw_g (lw_at lw_m3 86 rfl) rfl
theorem q687 : (Jvm.Cond.soleField "StatueRent" "undoMany") ∈ lw_all := lw_g (lw_at lw_m3 87 rfl) rfl
theorem q688 : (Jvm.Cond.laysFinal "StatueRent" "StatueRent" "places" "[[I") ∈ lw_all := lw_g (lw_at lw_m3 88 rfl) rfl
theorem q689 : (Jvm.Cond.soleField "StatueRent" "places") ∈ lw_all := lw_g (lw_at lw_m3 89 rfl) rfl
theorem q690 : (Jvm.Cond.laysFinal "StatueRent" "StatueRent" "route" "[I") ∈ lw_all := lw_g (lw_at lw_m3 90 rfl) rfl
theorem q691 : (Jvm.Cond.soleField "StatueRent" "route") ∈ lw_all := lw_g (lw_at lw_m3 91 rfl) rfl
theorem q692 : (Jvm.Cond.laysFinal "StatueRent" "StatueRent" "routeRow" "[I") ∈ lw_all := lw_g (lw_at lw_m3 92 rfl) rfl
theorem q693 : (Jvm.Cond.soleField "StatueRent" "routeRow") ∈ lw_all := lw_g (lw_at lw_m3 93 rfl) rfl
theorem q694 : (Jvm.Cond.laysFinal "StatueRent" "StatueRent" "bribes" "[I") ∈ lw_all := lw_g (lw_at lw_m3 94 rfl) rfl
theorem q695 : (Jvm.Cond.soleField "StatueRent" "bribes") ∈ lw_all := lw_g (lw_at lw_m3 95 rfl) rfl
theorem q696 : (Jvm.Cond.laysFinal "StatueRent" "StatueRent" "bidRow" "[I") ∈ lw_all := lw_g (lw_at lw_m3 96 rfl) rfl
theorem q697 : (Jvm.Cond.soleField "StatueRent" "bidRow") ∈ lw_all := lw_g (lw_at lw_m3 97 rfl) rfl
theorem q698 : (Jvm.Cond.lays "StatueRent" "StatueRent" "routeBest" "I") ∈ lw_all := lw_g (lw_at lw_m3 98 rfl) rfl
theorem q699 : (Jvm.Cond.soleField "StatueRent" "routeBest") ∈ lw_all := lw_g (lw_at lw_m3 99 rfl) rfl
theorem q700 : (Jvm.Cond.lays "StatueRent" "StatueRent" "routeMany" "I") ∈ lw_all := lw_g (lw_at lw_m3 100 rfl) rfl
theorem q701 : (Jvm.Cond.soleField "StatueRent" "routeMany") ∈ lw_all := lw_g (lw_at lw_m3 101 rfl) rfl
theorem q702 : (Jvm.Cond.lays "StatueRent" "StatueRent" "routeTold" "I") ∈ lw_all := lw_g (lw_at lw_m3 102 rfl) rfl
theorem q703 : (Jvm.Cond.soleField "StatueRent" "routeTold") ∈ lw_all := lw_g (lw_at lw_m3 103 rfl) rfl
theorem q704 : (Jvm.Cond.lays "StatueRent" "StatueRent" "bidMany" "I") ∈ lw_all := lw_g (lw_at lw_m3 104 rfl) rfl
theorem q705 : (Jvm.Cond.soleField "StatueRent" "bidMany") ∈ lw_all := lw_g (lw_at lw_m3 105 rfl) rfl
theorem q706 : (Jvm.Cond.laysFinal "StatueRent" "StatueRent" "routeKept" "[I") ∈ lw_all := lw_g (lw_at lw_m3 106 rfl) rfl
theorem q707 : (Jvm.Cond.soleField "StatueRent" "routeKept") ∈ lw_all := lw_g (lw_at lw_m3 107 rfl) rfl
theorem q708 : (Jvm.Cond.laysFinal "StatueRent" "StatueRent" "curedRow" "[I") ∈ lw_all := lw_g (lw_at lw_m3 108 rfl) rfl
theorem q709 : (Jvm.Cond.soleField "StatueRent" "curedRow") ∈ lw_all := lw_g (lw_at lw_m3 109 rfl) rfl
theorem q710 : (Jvm.Cond.lays "StatueRent" "StatueRent" "hasCured" "Z") ∈ lw_all := lw_g (lw_at lw_m3 110 rfl) rfl
theorem q711 : (Jvm.Cond.soleField "StatueRent" "hasCured") ∈ lw_all := lw_g (lw_at lw_m3 111 rfl) rfl
theorem q712 : (Jvm.Cond.laysFinal "StatueRent" "StatueRent" "curing" "[I") ∈ lw_all := lw_g (lw_at lw_m3 112 rfl) rfl
theorem q713 : (Jvm.Cond.soleField "StatueRent" "curing") ∈ lw_all := lw_g (lw_at lw_m3 113 rfl) rfl
theorem q714 : (Jvm.Cond.lays "StatueRent" "StatueRent" "surelySet" "I") ∈ lw_all := lw_g (lw_at lw_m3 114 rfl) rfl
theorem q715 : (Jvm.Cond.soleField "StatueRent" "surelySet") ∈ lw_all := lw_g (lw_at lw_m3 115 rfl) rfl
theorem q716 : (Jvm.Cond.lays "StatueRent" "StatueRent" "tellsWhom" "I") ∈ lw_all := lw_g (lw_at lw_m3 116 rfl) rfl
theorem q717 : (Jvm.Cond.soleField "StatueRent" "tellsWhom") ∈ lw_all := lw_g (lw_at lw_m3 117 rfl) rfl
theorem q718 : (Jvm.Cond.lays "StatueRent" "StatueRent" "hasTaste" "Z") ∈ lw_all := lw_g (lw_at lw_m3 118 rfl) rfl
theorem q719 : (Jvm.Cond.soleField "StatueRent" "hasTaste") ∈ lw_all := lw_g (lw_at lw_m3 119 rfl) rfl
theorem q720 : (Jvm.Cond.lays "StatueRent" "StatueRent" "plotSet" "I") ∈ lw_all := lw_g (lw_at lw_m3 120 rfl) rfl
theorem q721 : (Jvm.Cond.soleField "StatueRent" "plotSet") ∈ lw_all := lw_g (lw_at lw_m3 121 rfl) rfl
theorem q722 : (Jvm.Cond.lays "StatueRent" "StatueRent" "hasPlot" "Z") ∈ lw_all := lw_g (lw_at lw_m3 122 rfl) rfl
theorem q723 : (Jvm.Cond.soleField "StatueRent" "hasPlot") ∈ lw_all := lw_g (lw_at lw_m3 123 rfl) rfl
theorem q724 : (Jvm.Cond.lays "StatueRent" "StatueRent" "troddenSet" "I") ∈ lw_all := lw_g (lw_at lw_m3 124 rfl) rfl
theorem q725 : (Jvm.Cond.soleField "StatueRent" "troddenSet") ∈ lw_all := lw_g (lw_at lw_m3 125 rfl) rfl
theorem q726 : (Jvm.Cond.lays "StatueRent" "StatueRent" "hasGrass" "Z") ∈ lw_all := lw_g (lw_at lw_m3 126 rfl) rfl
theorem q727 : (Jvm.Cond.soleField "StatueRent" "hasGrass") ∈ lw_all := lw_g (lw_at lw_m3 127 rfl) rfl
theorem q728 : (Jvm.Cond.laysFinal "StatueRent" "StatueRent" "text" "[B") ∈ lw_all := lw_g (lw_at lw_m3 128 rfl) rfl
theorem q729 : (Jvm.Cond.soleField "StatueRent" "text") ∈ lw_all := lw_g (lw_at lw_m3 129 rfl) rfl
theorem q730 : (Jvm.Cond.lays "StatueRent" "StatueRent" "textMany" "I") ∈ lw_all := lw_g (lw_at lw_m3 130 rfl) rfl
theorem q731 : (Jvm.Cond.soleField "StatueRent" "textMany") ∈ lw_all := lw_g (lw_at lw_m3 131 rfl) rfl
theorem q732 : (Jvm.Cond.laysFinal "StatueRent" "StatueRent" "loggedRow" "[I") ∈ lw_all := lw_g (lw_at lw_m3 132 rfl) rfl
theorem q733 : (Jvm.Cond.soleField "StatueRent" "loggedRow") ∈ lw_all := lw_g (lw_at lw_m3 133 rfl) rfl
theorem q734 : (Jvm.Cond.lays "StatueRent" "StatueRent" "hasLogged" "Z") ∈ lw_all := lw_g (lw_at lw_m3 134 rfl) rfl
theorem q735 : (Jvm.Cond.soleField "StatueRent" "hasLogged") ∈ lw_all := lw_g (lw_at lw_m3 135 rfl) rfl
theorem q736 : (Jvm.Cond.laysFinal "StatueRent" "StatueRent" "sentenceReader" "LStatueRent$SentenceReader;") ∈ lw_all := lw_g (lw_at lw_m3 136 rfl) rfl
theorem q737 : (Jvm.Cond.soleField "StatueRent" "sentenceReader") ∈ lw_all := lw_g (lw_at lw_m3 137 rfl) rfl
theorem q738 : (Jvm.Cond.lays "StatueRent" "StatueRent" "sentence" "LStatueRent$Cond;") ∈ lw_all := lw_g (lw_at lw_m3 138 rfl) rfl
theorem q739 : (Jvm.Cond.soleField "StatueRent" "sentence") ∈ lw_all := lw_g (lw_at lw_m3 139 rfl) rfl
theorem q740 : (Jvm.Cond.laysFinal "StatueRent" "StatueRent" "images" "[LStatueRent$Kept;") ∈ lw_all := lw_g (lw_at lw_m3 140 rfl) rfl
theorem q741 : (Jvm.Cond.soleField "StatueRent" "images") ∈ lw_all := lw_g (lw_at lw_m3 141 rfl) rfl
theorem q742 : (Jvm.Cond.superclass "StatueRent" "java/lang/Object") ∈ lw_all := lw_g (lw_at lw_m3 142 rfl) rfl
theorem q744 : (Jvm.Cond.instanceMethod ({ cls := "StatueRent", name := "feed", desc := "(IIIII)I" } : Jvm.MethodName)) ∈ lw_all := lw_g (lw_at lw_m3 144 rfl) rfl
theorem q745 : (Jvm.Cond.selects "StatueRent" ({ cls := "StatueRent", name := "feed", desc := "(IIIII)I" } : Jvm.MethodName) ({ cls := "StatueRent", name := "feed", desc := "(IIIII)I" } : Jvm.MethodName)) ∈ lw_all := lw_g (lw_at lw_m3 145 rfl) rfl
theorem q746 : (Jvm.Cond.code ({ cls := "StatueRent", name := "feed", desc := "(IIIII)I" } : Jvm.MethodName) prog_1_method_2_code (6 : Nat) (Option.some Jvm.ClassFile.FieldType.int)) ∈ lw_all := lw_g (lw_at lw_m3 146 rfl) rfl
theorem q747 : (Jvm.Cond.methodLink "StatueRent" (174 : Nat) ({ cls := "StatueRent", name := "four", desc := "(I)V" } : Jvm.MethodName)) ∈ lw_all := lw_g (lw_at lw_m3 147 rfl) rfl
theorem q748 : (Jvm.Cond.privateMethod ({ cls := "StatueRent", name := "four", desc := "(I)V" } : Jvm.MethodName)) ∈ lw_tbl := lw_at lw_m3 148 rfl
theorem q749 : (Jvm.Cond.instanceMethod ({ cls := "StatueRent", name := "four", desc := "(I)V" } : Jvm.MethodName)) ∈ lw_all := lw_g (lw_at lw_m3 149 rfl) rfl
theorem q750 : (Jvm.Cond.code ({ cls := "StatueRent", name := "four", desc := "(I)V" } : Jvm.MethodName) prog_1_method_3_code (3 : Nat) (Option.none : Option Jvm.ClassFile.FieldType)) ∈ lw_all := lw_g (lw_at lw_m3 150 rfl) rfl
theorem q752 : (Jvm.Cond.instanceMethod ({ cls := "StatueRent", name := "end", desc := "(I)Z" } : Jvm.MethodName)) ∈ lw_all := lw_g (lw_at lw_m3 152 rfl) rfl
theorem q753 : (Jvm.Cond.selects "StatueRent" ({ cls := "StatueRent", name := "end", desc := "(I)Z" } : Jvm.MethodName) ({ cls := "StatueRent", name := "end", desc := "(I)Z" } : Jvm.MethodName)) ∈ lw_all := lw_g (lw_at lw_m3 153 rfl) rfl
theorem q754 : (Jvm.Cond.code ({ cls := "StatueRent", name := "end", desc := "(I)Z" } : Jvm.MethodName) prog_1_method_4_code (2 : Nat) (Option.some Jvm.ClassFile.FieldType.boolean)) ∈ lw_all := lw_g (lw_at lw_m3 154 rfl) rfl
theorem q756 : (Jvm.Cond.instanceMethod ({ cls := "StatueRent", name := "city", desc := "()I" } : Jvm.MethodName)) ∈ lw_all := lw_g (lw_at lw_m3 156 rfl) rfl
theorem q757 : (Jvm.Cond.selects "StatueRent" ({ cls := "StatueRent", name := "city", desc := "()I" } : Jvm.MethodName) ({ cls := "StatueRent", name := "city", desc := "()I" } : Jvm.MethodName)) ∈ lw_all := lw_g (lw_at lw_m3 157 rfl) rfl
theorem q758 : (Jvm.Cond.codeWith ({ cls := "StatueRent", name := "city", desc := "()I" } : Jvm.MethodName) prog_1_method_10_code (3 : Nat) (Option.some Jvm.ClassFile.FieldType.int) [((17 : Nat), (54 : Nat), (55 : Nat), (13 : Nat))]) ∈ lw_all := lw_g (lw_at lw_m3 158 rfl) rfl
theorem q759 : (Jvm.Cond.methodLink "StatueRent" (184 : Nat) ({ cls := "StatueRent", name := "taken", desc := "()V" } : Jvm.MethodName)) ∈ lw_all := lw_g (lw_at lw_m3 159 rfl) rfl
theorem q760 : (Jvm.Cond.privateMethod ({ cls := "StatueRent", name := "taken", desc := "()V" } : Jvm.MethodName)) ∈ lw_tbl := lw_at lw_m3 160 rfl
theorem q761 : (Jvm.Cond.instanceMethod ({ cls := "StatueRent", name := "taken", desc := "()V" } : Jvm.MethodName)) ∈ lw_all := lw_g (lw_at lw_m3 161 rfl) rfl
theorem q762 : (Jvm.Cond.code ({ cls := "StatueRent", name := "taken", desc := "()V" } : Jvm.MethodName) prog_1_method_5_code (1 : Nat) (Option.none : Option Jvm.ClassFile.FieldType)) ∈ lw_all := lw_g (lw_at lw_m3 162 rfl) rfl
theorem q763 : (Jvm.Cond.methodLink "StatueRent" (190 : Nat) ({ cls := "StatueRent$CityReader", name := "read", desc := "(LStatueRent$City;)I" } : Jvm.MethodName)) ∈ lw_all := lw_g (lw_at lw_m3 163 rfl) rfl
theorem q789 : (Jvm.Cond.static ({ cls := "StatueRent", name := "isIn", desc := "(III)Z" } : Jvm.MethodName)) ∈ lw_all := lw_g (lw_at lw_m3 189 rfl) rfl
theorem q790 : (Jvm.Cond.code ({ cls := "StatueRent", name := "isIn", desc := "(III)Z" } : Jvm.MethodName) prog_1_method_7_code (3 : Nat) (Option.some Jvm.ClassFile.FieldType.boolean)) ∈ lw_all := lw_g (lw_at lw_m3 190 rfl) rfl
theorem q929 : (Jvm.Cond.static ({ cls := "StatueRent", name := "has", desc := "(II)Z" } : Jvm.MethodName)) ∈ lw_all := lw_g (lw_at lw_m4 89 rfl) rfl
theorem q930 : (Jvm.Cond.code ({ cls := "StatueRent", name := "has", desc := "(II)Z" } : Jvm.MethodName) prog_1_method_9_code (2 : Nat) (Option.some Jvm.ClassFile.FieldType.boolean)) ∈ lw_all := lw_g (lw_at lw_m4 90 rfl) rfl
theorem q952 : (Jvm.Cond.methodLink "StatueRent" (194 : Nat) ({ cls := "StatueRent$City", name := "lays", desc := "()V" } : Jvm.MethodName)) ∈ lw_all := lw_g (lw_at lw_m4 112 rfl) rfl
theorem q962 : (Jvm.Cond.instanceMethod ({ cls := "StatueRent", name := "fault", desc := "()I" } : Jvm.MethodName)) ∈ lw_all := lw_g (lw_at lw_m4 122 rfl) rfl
theorem q963 : (Jvm.Cond.selects "StatueRent" ({ cls := "StatueRent", name := "fault", desc := "()I" } : Jvm.MethodName) ({ cls := "StatueRent", name := "fault", desc := "()I" } : Jvm.MethodName)) ∈ lw_all := lw_g (lw_at lw_m4 123 rfl) rfl
theorem q964 : (Jvm.Cond.code ({ cls := "StatueRent", name := "fault", desc := "()I" } : Jvm.MethodName) prog_1_method_11_code (1 : Nat) (Option.some Jvm.ClassFile.FieldType.int)) ∈ lw_all := lw_g (lw_at lw_m4 124 rfl) rfl
theorem q966 : (Jvm.Cond.instanceMethod ({ cls := "StatueRent", name := "square", desc := "(II)I" } : Jvm.MethodName)) ∈ lw_all := lw_g (lw_at lw_m4 126 rfl) rfl
theorem q967 : (Jvm.Cond.selects "StatueRent" ({ cls := "StatueRent", name := "square", desc := "(II)I" } : Jvm.MethodName) ({ cls := "StatueRent", name := "square", desc := "(II)I" } : Jvm.MethodName)) ∈ lw_all := lw_g (lw_at lw_m4 127 rfl) rfl
theorem q968 : (Jvm.Cond.code ({ cls := "StatueRent", name := "square", desc := "(II)I" } : Jvm.MethodName) prog_1_method_17_code (3 : Nat) (Option.some Jvm.ClassFile.FieldType.int)) ∈ lw_all := lw_g (lw_at lw_m4 128 rfl) rfl
theorem q969 : (Jvm.Cond.methodLink "StatueRent" (239 : Nat) ({ cls := "StatueRent", name := "isSquare", desc := "(I)Z" } : Jvm.MethodName)) ∈ lw_all := lw_g (lw_at lw_m4 129 rfl) rfl
theorem q970 : (Jvm.Cond.privateMethod ({ cls := "StatueRent", name := "isSquare", desc := "(I)Z" } : Jvm.MethodName)) ∈ lw_tbl := lw_at lw_m4 130 rfl
theorem q971 : (Jvm.Cond.instanceMethod ({ cls := "StatueRent", name := "isSquare", desc := "(I)Z" } : Jvm.MethodName)) ∈ lw_all := lw_g (lw_at lw_m4 131 rfl) rfl
theorem q972 : (Jvm.Cond.code ({ cls := "StatueRent", name := "isSquare", desc := "(I)Z" } : Jvm.MethodName) prog_1_method_12_code (2 : Nat) (Option.some Jvm.ClassFile.FieldType.boolean)) ∈ lw_all := lw_g (lw_at lw_m4 132 rfl) rfl
theorem q973 : (Jvm.Cond.methodLink "StatueRent" (212 : Nat) ({ cls := "StatueRent", name := "isIn", desc := "(III)Z" } : Jvm.MethodName)) ∈ lw_all := lw_g (lw_at lw_m4 133 rfl) rfl
theorem q974 : (Jvm.Cond.methodLink "StatueRent" (245 : Nat) ({ cls := "StatueRent$State", name := "at", desc := "(LStatueRent$City;I)I" } : Jvm.MethodName)) ∈ lw_all := lw_g (lw_at lw_m4 134 rfl) rfl
theorem q978 : (Jvm.Cond.methodLink "StatueRent" (251 : Nat) ({ cls := "StatueRent$City", name := "passers", desc := "(I)I" } : Jvm.MethodName)) ∈ lw_all := lw_g (lw_at lw_m4 138 rfl) rfl
theorem q987 : (Jvm.Cond.instanceMethod ({ cls := "StatueRent", name := "way", desc := "(II)I" } : Jvm.MethodName)) ∈ lw_all := lw_g (lw_at lw_m4 147 rfl) rfl
theorem q988 : (Jvm.Cond.selects "StatueRent" ({ cls := "StatueRent", name := "way", desc := "(II)I" } : Jvm.MethodName) ({ cls := "StatueRent", name := "way", desc := "(II)I" } : Jvm.MethodName)) ∈ lw_all := lw_g (lw_at lw_m4 148 rfl) rfl
theorem q989 : (Jvm.Cond.code ({ cls := "StatueRent", name := "way", desc := "(II)I" } : Jvm.MethodName) prog_1_method_20_code (3 : Nat) (Option.some Jvm.ClassFile.FieldType.int)) ∈ lw_all := lw_g (lw_at lw_m4 149 rfl) rfl
theorem q990 : (Jvm.Cond.methodLink "StatueRent" (274 : Nat) ({ cls := "StatueRent", name := "isWalker", desc := "(I)Z" } : Jvm.MethodName)) ∈ lw_all := lw_g (lw_at lw_m4 150 rfl) rfl
theorem q991 : (Jvm.Cond.privateMethod ({ cls := "StatueRent", name := "isWalker", desc := "(I)Z" } : Jvm.MethodName)) ∈ lw_tbl := lw_at lw_m4 151 rfl
theorem q992 : (Jvm.Cond.instanceMethod ({ cls := "StatueRent", name := "isWalker", desc := "(I)Z" } : Jvm.MethodName)) ∈ lw_all := lw_g (lw_at lw_m4 152 rfl) rfl
theorem q993 : (Jvm.Cond.code ({ cls := "StatueRent", name := "isWalker", desc := "(I)Z" } : Jvm.MethodName) prog_1_method_15_code (2 : Nat) (Option.some Jvm.ClassFile.FieldType.boolean)) ∈ lw_all := lw_g (lw_at lw_m4 153 rfl) rfl
theorem q995 : (Jvm.Cond.instanceMethod ({ cls := "StatueRent", name := "likes", desc := "(III)I" } : Jvm.MethodName)) ∈ lw_all := lw_g (lw_at lw_m4 155 rfl) rfl
theorem q996 : (Jvm.Cond.selects "StatueRent" ({ cls := "StatueRent", name := "likes", desc := "(III)I" } : Jvm.MethodName) ({ cls := "StatueRent", name := "likes", desc := "(III)I" } : Jvm.MethodName)) ∈ lw_all := lw_g (lw_at lw_m4 156 rfl) rfl
theorem q997 : (Jvm.Cond.code ({ cls := "StatueRent", name := "likes", desc := "(III)I" } : Jvm.MethodName) prog_1_method_21_code (4 : Nat) (Option.some Jvm.ClassFile.FieldType.int)) ∈ lw_all := lw_g (lw_at lw_m4 157 rfl) rfl
theorem q998 : (Jvm.Cond.methodLink "StatueRent" (298 : Nat) ({ cls := "StatueRent", name := "isKind", desc := "(I)Z" } : Jvm.MethodName)) ∈ lw_all := lw_g (lw_at lw_m4 158 rfl) rfl
theorem q999 : (Jvm.Cond.privateMethod ({ cls := "StatueRent", name := "isKind", desc := "(I)Z" } : Jvm.MethodName)) ∈ lw_tbl := lw_at lw_m4 159 rfl
theorem q1000 : (Jvm.Cond.instanceMethod ({ cls := "StatueRent", name := "isKind", desc := "(I)Z" } : Jvm.MethodName)) ∈ lw_all := lw_g (lw_at lw_m4 160 rfl) rfl
theorem q1001 : (Jvm.Cond.code ({ cls := "StatueRent", name := "isKind", desc := "(I)Z" } : Jvm.MethodName) prog_1_method_13_code (2 : Nat) (Option.some Jvm.ClassFile.FieldType.boolean)) ∈ lw_all := lw_g (lw_at lw_m4 161 rfl) rfl
theorem q1002 : (Jvm.Cond.methodLink "StatueRent" (301 : Nat) ({ cls := "StatueRent$City", name := "likes", desc := "(II)I" } : Jvm.MethodName)) ∈ lw_all := lw_g (lw_at lw_m4 162 rfl) rfl
theorem q1006 : (Jvm.Cond.methodLink "StatueRent" (304 : Nat) ({ cls := "StatueRent$State", name := "chance", desc := "(LStatueRent$City;II)I" } : Jvm.MethodName)) ∈ lw_all := lw_g (lw_at lw_m4 166 rfl) rfl
theorem q1012 : (Jvm.Cond.instanceMethod ({ cls := "StatueRent", name := "now", desc := "(I)I" } : Jvm.MethodName)) ∈ lw_all := lw_g (lw_at lw_m4 172 rfl) rfl
theorem q1013 : (Jvm.Cond.selects "StatueRent" ({ cls := "StatueRent", name := "now", desc := "(I)I" } : Jvm.MethodName) ({ cls := "StatueRent", name := "now", desc := "(I)I" } : Jvm.MethodName)) ∈ lw_all := lw_g (lw_at lw_m4 173 rfl) rfl
theorem q1014 : (Jvm.Cond.code ({ cls := "StatueRent", name := "now", desc := "(I)I" } : Jvm.MethodName) prog_1_method_22_code (8 : Nat) (Option.some Jvm.ClassFile.FieldType.int)) ∈ lw_all := lw_g (lw_at lw_m4 174 rfl) rfl
theorem q1015 : (Jvm.Cond.methodLink "StatueRent" (310 : Nat) ({ cls := "StatueRent$State", name := "gone", desc := "(LStatueRent$City;)I" } : Jvm.MethodName)) ∈ lw_all := lw_g (lw_at lw_m4 175 rfl) rfl
theorem q1024 : (Jvm.Cond.instanceMethod ({ cls := "StatueRent", name := "undo", desc := "()I" } : Jvm.MethodName)) ∈ lw_all := lw_g (lw_at lw_m4 184 rfl) rfl
theorem q1025 : (Jvm.Cond.selects "StatueRent" ({ cls := "StatueRent", name := "undo", desc := "()I" } : Jvm.MethodName) ({ cls := "StatueRent", name := "undo", desc := "()I" } : Jvm.MethodName)) ∈ lw_all := lw_g (lw_at lw_m4 185 rfl) rfl
theorem q1026 : (Jvm.Cond.code ({ cls := "StatueRent", name := "undo", desc := "()I" } : Jvm.MethodName) prog_1_method_24_code (1 : Nat) (Option.some Jvm.ClassFile.FieldType.int)) ∈ lw_all := lw_g (lw_at lw_m4 186 rfl) rfl
theorem q1027 : (Jvm.Cond.methodLink "StatueRent" (322 : Nat) ({ cls := "StatueRent$State", name := "be", desc := "(LStatueRent$State;)V" } : Jvm.MethodName)) ∈ lw_all := lw_g (lw_at lw_m4 187 rfl) rfl
theorem q1039 : (Jvm.Cond.instanceMethod ({ cls := "StatueRent", name := "move", desc := "(II)I" } : Jvm.MethodName)) ∈ lw_all := lw_g (lw_at lw_m4 199 rfl) rfl
theorem q1040 : (Jvm.Cond.selects "StatueRent" ({ cls := "StatueRent", name := "move", desc := "(II)I" } : Jvm.MethodName) ({ cls := "StatueRent", name := "move", desc := "(II)I" } : Jvm.MethodName)) ∈ lw_all := lw_g (lw_at lw_m4 200 rfl) rfl
theorem q1041 : (Jvm.Cond.code ({ cls := "StatueRent", name := "move", desc := "(II)I" } : Jvm.MethodName) prog_1_method_25_code (4 : Nat) (Option.some Jvm.ClassFile.FieldType.int)) ∈ lw_all := lw_g (lw_at lw_m4 201 rfl) rfl
theorem q1042 : (Jvm.Cond.methodLink "StatueRent" (225 : Nat) ({ cls := "StatueRent", name := "isStatue", desc := "(I)Z" } : Jvm.MethodName)) ∈ lw_all := lw_g (lw_at lw_m4 202 rfl) rfl
theorem q1043 : (Jvm.Cond.privateMethod ({ cls := "StatueRent", name := "isStatue", desc := "(I)Z" } : Jvm.MethodName)) ∈ lw_tbl := lw_at lw_m4 203 rfl
theorem q1044 : (Jvm.Cond.instanceMethod ({ cls := "StatueRent", name := "isStatue", desc := "(I)Z" } : Jvm.MethodName)) ∈ lw_all := lw_g (lw_at lw_m4 204 rfl) rfl
theorem q1045 : (Jvm.Cond.code ({ cls := "StatueRent", name := "isStatue", desc := "(I)Z" } : Jvm.MethodName) prog_1_method_14_code (2 : Nat) (Option.some Jvm.ClassFile.FieldType.boolean)) ∈ lw_all := lw_g (lw_at lw_m4 205 rfl) rfl
theorem q1046 : (Jvm.Cond.methodLink "StatueRent" (326 : Nat) ({ cls := "StatueRent$State", name := "whyMove", desc := "(LStatueRent$City;II)I" } : Jvm.MethodName)) ∈ lw_all := lw_g (lw_at lw_m4 206 rfl) rfl
theorem q1051 : (Jvm.Cond.methodLink "StatueRent" (329 : Nat) ({ cls := "StatueRent", name := "keep", desc := "()V" } : Jvm.MethodName)) ∈ lw_all := lw_g (lw_at lw_m4 211 rfl) rfl
theorem q1052 : (Jvm.Cond.privateMethod ({ cls := "StatueRent", name := "keep", desc := "()V" } : Jvm.MethodName)) ∈ lw_tbl := lw_at lw_m4 212 rfl
theorem q1053 : (Jvm.Cond.instanceMethod ({ cls := "StatueRent", name := "keep", desc := "()V" } : Jvm.MethodName)) ∈ lw_all := lw_g (lw_at lw_m4 213 rfl) rfl
theorem q1054 : (Jvm.Cond.code ({ cls := "StatueRent", name := "keep", desc := "()V" } : Jvm.MethodName) prog_1_method_23_code (2 : Nat) (Option.none : Option Jvm.ClassFile.FieldType)) ∈ lw_all := lw_g (lw_at lw_m4 214 rfl) rfl
theorem q1055 : (Jvm.Cond.methodLink "StatueRent" (316 : Nat) ({ cls := "java/lang/System", name := "arraycopy", desc := "(Ljava/lang/Object;ILjava/lang/Object;II)V" } : Jvm.MethodName)) ∈ lw_all := lw_g (lw_at lw_m4 215 rfl) rfl
theorem q1057 : (Jvm.Cond.instanceMethod ({ cls := "StatueRent", name := "clean", desc := "(I)I" } : Jvm.MethodName)) ∈ lw_all := lw_g (lw_at lw_m4 217 rfl) rfl
theorem q1058 : (Jvm.Cond.selects "StatueRent" ({ cls := "StatueRent", name := "clean", desc := "(I)I" } : Jvm.MethodName) ({ cls := "StatueRent", name := "clean", desc := "(I)I" } : Jvm.MethodName)) ∈ lw_all := lw_g (lw_at lw_m4 218 rfl) rfl
theorem q1059 : (Jvm.Cond.code ({ cls := "StatueRent", name := "clean", desc := "(I)I" } : Jvm.MethodName) prog_1_method_26_code (3 : Nat) (Option.some Jvm.ClassFile.FieldType.int)) ∈ lw_all := lw_g (lw_at lw_m4 219 rfl) rfl
theorem q1060 : (Jvm.Cond.methodLink "StatueRent" (332 : Nat) ({ cls := "StatueRent$State", name := "whyClean", desc := "(I)I" } : Jvm.MethodName)) ∈ lw_all := lw_g (lw_at lw_m4 220 rfl) rfl
theorem q1064 : (Jvm.Cond.methodLink "StatueRent" (335 : Nat) ({ cls := "StatueRent$State", name := "clean", desc := "(I)V" } : Jvm.MethodName)) ∈ lw_all := lw_g (lw_at lw_m4 224 rfl) rfl
theorem q1069 : (Jvm.Cond.instanceMethod ({ cls := "StatueRent", name := "show", desc := "(II)I" } : Jvm.MethodName)) ∈ lw_all := lw_g (lw_at lw_m4 229 rfl) rfl
theorem q1070 : (Jvm.Cond.selects "StatueRent" ({ cls := "StatueRent", name := "show", desc := "(II)I" } : Jvm.MethodName) ({ cls := "StatueRent", name := "show", desc := "(II)I" } : Jvm.MethodName)) ∈ lw_all := lw_g (lw_at lw_m4 230 rfl) rfl
theorem q1071 : (Jvm.Cond.code ({ cls := "StatueRent", name := "show", desc := "(II)I" } : Jvm.MethodName) prog_1_method_27_code (4 : Nat) (Option.some Jvm.ClassFile.FieldType.int)) ∈ lw_all := lw_g (lw_at lw_m4 231 rfl) rfl
theorem q1072 : (Jvm.Cond.methodLink "StatueRent" (338 : Nat) ({ cls := "StatueRent$State", name := "whyShow", desc := "(II)I" } : Jvm.MethodName)) ∈ lw_all := lw_g (lw_at lw_m4 232 rfl) rfl
theorem q1076 : (Jvm.Cond.methodLink "StatueRent" (341 : Nat) ({ cls := "StatueRent$State", name := "show", desc := "(II)V" } : Jvm.MethodName)) ∈ lw_all := lw_g (lw_at lw_m4 236 rfl) rfl
theorem q1081 : (Jvm.Cond.instanceMethod ({ cls := "StatueRent", name := "lend", desc := "(III)I" } : Jvm.MethodName)) ∈ lw_all := lw_g (lw_at lw_m5 1 rfl) rfl
theorem q1082 : (Jvm.Cond.selects "StatueRent" ({ cls := "StatueRent", name := "lend", desc := "(III)I" } : Jvm.MethodName) ({ cls := "StatueRent", name := "lend", desc := "(III)I" } : Jvm.MethodName)) ∈ lw_all := lw_g (lw_at lw_m5 2 rfl) rfl
theorem q1083 : (Jvm.Cond.code ({ cls := "StatueRent", name := "lend", desc := "(III)I" } : Jvm.MethodName) prog_1_method_28_code (5 : Nat) (Option.some Jvm.ClassFile.FieldType.int)) ∈ lw_all := lw_g (lw_at lw_m5 3 rfl) rfl
theorem q1084 : (Jvm.Cond.methodLink "StatueRent" (345 : Nat) ({ cls := "StatueRent$State", name := "whyLend", desc := "(III)I" } : Jvm.MethodName)) ∈ lw_all := lw_g (lw_at lw_m5 4 rfl) rfl
theorem q1088 : (Jvm.Cond.methodLink "StatueRent" (349 : Nat) ({ cls := "StatueRent$State", name := "lend", desc := "(III)V" } : Jvm.MethodName)) ∈ lw_all := lw_g (lw_at lw_m5 8 rfl) rfl
theorem q1093 : (Jvm.Cond.instanceMethod ({ cls := "StatueRent", name := "days", desc := "(II)I" } : Jvm.MethodName)) ∈ lw_all := lw_g (lw_at lw_m5 13 rfl) rfl
theorem q1094 : (Jvm.Cond.selects "StatueRent" ({ cls := "StatueRent", name := "days", desc := "(II)I" } : Jvm.MethodName) ({ cls := "StatueRent", name := "days", desc := "(II)I" } : Jvm.MethodName)) ∈ lw_all := lw_g (lw_at lw_m5 14 rfl) rfl
theorem q1095 : (Jvm.Cond.code ({ cls := "StatueRent", name := "days", desc := "(II)I" } : Jvm.MethodName) prog_1_method_29_code (3 : Nat) (Option.some Jvm.ClassFile.FieldType.int)) ∈ lw_all := lw_g (lw_at lw_m5 15 rfl) rfl
theorem q1096 : (Jvm.Cond.methodLink "StatueRent" (353 : Nat) ({ cls := "StatueRent$State", name := "days", desc := "(LStatueRent$City;II)I" } : Jvm.MethodName)) ∈ lw_all := lw_g (lw_at lw_m5 16 rfl) rfl
theorem q1135 : (Jvm.Cond.instanceMethod ({ cls := "StatueRent", name := "solvent", desc := "()I" } : Jvm.MethodName)) ∈ lw_all := lw_g (lw_at lw_m5 55 rfl) rfl
theorem q1136 : (Jvm.Cond.selects "StatueRent" ({ cls := "StatueRent", name := "solvent", desc := "()I" } : Jvm.MethodName) ({ cls := "StatueRent", name := "solvent", desc := "()I" } : Jvm.MethodName)) ∈ lw_all := lw_g (lw_at lw_m5 56 rfl) rfl
theorem q1137 : (Jvm.Cond.code ({ cls := "StatueRent", name := "solvent", desc := "()I" } : Jvm.MethodName) prog_1_method_34_code (3 : Nat) (Option.some Jvm.ClassFile.FieldType.int)) ∈ lw_all := lw_g (lw_at lw_m5 57 rfl) rfl
theorem q1138 : (Jvm.Cond.methodLink "StatueRent" (361 : Nat) ({ cls := "StatueRent", name := "all", desc := "()I" } : Jvm.MethodName)) ∈ lw_all := lw_g (lw_at lw_m5 58 rfl) rfl
theorem q1139 : (Jvm.Cond.privateMethod ({ cls := "StatueRent", name := "all", desc := "()I" } : Jvm.MethodName)) ∈ lw_tbl := lw_at lw_m5 59 rfl
theorem q1140 : (Jvm.Cond.instanceMethod ({ cls := "StatueRent", name := "all", desc := "()I" } : Jvm.MethodName)) ∈ lw_all := lw_g (lw_at lw_m5 60 rfl) rfl
theorem q1141 : (Jvm.Cond.code ({ cls := "StatueRent", name := "all", desc := "()I" } : Jvm.MethodName) prog_1_method_31_code (1 : Nat) (Option.some Jvm.ClassFile.FieldType.int)) ∈ lw_all := lw_g (lw_at lw_m5 61 rfl) rfl
theorem q1142 : (Jvm.Cond.methodLink "StatueRent" (376 : Nat) ({ cls := "StatueRent", name := "isSolvent", desc := "(LStatueRent$State;II)Z" } : Jvm.MethodName)) ∈ lw_all := lw_g (lw_at lw_m5 62 rfl) rfl
theorem q1143 : (Jvm.Cond.privateMethod ({ cls := "StatueRent", name := "isSolvent", desc := "(LStatueRent$State;II)Z" } : Jvm.MethodName)) ∈ lw_tbl := lw_at lw_m5 63 rfl
theorem q1144 : (Jvm.Cond.instanceMethod ({ cls := "StatueRent", name := "isSolvent", desc := "(LStatueRent$State;II)Z" } : Jvm.MethodName)) ∈ lw_all := lw_g (lw_at lw_m5 64 rfl) rfl
theorem q1145 : (Jvm.Cond.code ({ cls := "StatueRent", name := "isSolvent", desc := "(LStatueRent$State;II)Z" } : Jvm.MethodName) prog_1_method_33_code (5 : Nat) (Option.some Jvm.ClassFile.FieldType.boolean)) ∈ lw_all := lw_g (lw_at lw_m5 65 rfl) rfl
theorem q1146 : (Jvm.Cond.methodLink "StatueRent" (233 : Nat) ({ cls := "StatueRent$Stone", name := "isGone", desc := "()Z" } : Jvm.MethodName)) ∈ lw_all := lw_g (lw_at lw_m5 66 rfl) rfl
theorem q1147 : (Jvm.Cond.methodLink "StatueRent" (372 : Nat) ({ cls := "StatueRent$City", name := "isEnough", desc := "(IIIZ)Z" } : Jvm.MethodName)) ∈ lw_all := lw_g (lw_at lw_m5 67 rfl) rfl
theorem q1157 : (Jvm.Cond.instanceMethod ({ cls := "StatueRent", name := "placed", desc := "(I)I" } : Jvm.MethodName)) ∈ lw_all := lw_g (lw_at lw_m5 77 rfl) rfl
theorem q1158 : (Jvm.Cond.selects "StatueRent" ({ cls := "StatueRent", name := "placed", desc := "(I)I" } : Jvm.MethodName) ({ cls := "StatueRent", name := "placed", desc := "(I)I" } : Jvm.MethodName)) ∈ lw_all := lw_g (lw_at lw_m5 78 rfl) rfl
theorem q1159 : (Jvm.Cond.code ({ cls := "StatueRent", name := "placed", desc := "(I)I" } : Jvm.MethodName) prog_1_method_39_code (5 : Nat) (Option.some Jvm.ClassFile.FieldType.int)) ∈ lw_all := lw_g (lw_at lw_m5 79 rfl) rfl
theorem q1160 : (Jvm.Cond.methodLink "StatueRent" (380 : Nat) ({ cls := "StatueRent", name := "isHere", desc := "(I)Z" } : Jvm.MethodName)) ∈ lw_all := lw_g (lw_at lw_m5 80 rfl) rfl
theorem q1161 : (Jvm.Cond.privateMethod ({ cls := "StatueRent", name := "isHere", desc := "(I)Z" } : Jvm.MethodName)) ∈ lw_tbl := lw_at lw_m5 81 rfl
theorem q1162 : (Jvm.Cond.instanceMethod ({ cls := "StatueRent", name := "isHere", desc := "(I)Z" } : Jvm.MethodName)) ∈ lw_all := lw_g (lw_at lw_m5 82 rfl) rfl
theorem q1163 : (Jvm.Cond.code ({ cls := "StatueRent", name := "isHere", desc := "(I)Z" } : Jvm.MethodName) prog_1_method_16_code (2 : Nat) (Option.some Jvm.ClassFile.FieldType.boolean)) ∈ lw_all := lw_g (lw_at lw_m5 83 rfl) rfl
theorem q1164 : (Jvm.Cond.methodLink "StatueRent" (397 : Nat) ({ cls := "StatueRent", name := "places", desc := "()V" } : Jvm.MethodName)) ∈ lw_all := lw_g (lw_at lw_m5 84 rfl) rfl
theorem q1165 : (Jvm.Cond.privateMethod ({ cls := "StatueRent", name := "places", desc := "()V" } : Jvm.MethodName)) ∈ lw_tbl := lw_at lw_m5 85 rfl
theorem q1166 : (Jvm.Cond.instanceMethod ({ cls := "StatueRent", name := "places", desc := "()V" } : Jvm.MethodName)) ∈ lw_all := lw_g (lw_at lw_m5 86 rfl) rfl
theorem q1167 : (Jvm.Cond.code ({ cls := "StatueRent", name := "places", desc := "()V" } : Jvm.MethodName) prog_1_method_37_code (6 : Nat) (Option.none : Option Jvm.ClassFile.FieldType)) ∈ lw_all := lw_g (lw_at lw_m5 87 rfl) rfl
theorem q1168 : (Jvm.Cond.constant "StatueRent" (387 : Nat) (-1000000000 : Int32)) ∈ lw_all := lw_g (lw_at lw_m5 88 rfl) rfl
theorem q1169 : (Jvm.Cond.methodLink "StatueRent" (388 : Nat) ({ cls := "StatueRent", name := "has", desc := "(II)Z" } : Jvm.MethodName)) ∈ lw_all := lw_g (lw_at lw_m5 89 rfl) rfl
theorem q1170 : (Jvm.Cond.methodLink "StatueRent" (391 : Nat) ({ cls := "StatueRent", name := "gain", desc := "(II)I" } : Jvm.MethodName)) ∈ lw_all := lw_g (lw_at lw_m5 90 rfl) rfl
theorem q1171 : (Jvm.Cond.privateMethod ({ cls := "StatueRent", name := "gain", desc := "(II)I" } : Jvm.MethodName)) ∈ lw_tbl := lw_at lw_m5 91 rfl
theorem q1172 : (Jvm.Cond.instanceMethod ({ cls := "StatueRent", name := "gain", desc := "(II)I" } : Jvm.MethodName)) ∈ lw_all := lw_g (lw_at lw_m5 92 rfl) rfl
theorem q1173 : (Jvm.Cond.code ({ cls := "StatueRent", name := "gain", desc := "(II)I" } : Jvm.MethodName) prog_1_method_36_code (3 : Nat) (Option.some Jvm.ClassFile.FieldType.int)) ∈ lw_all := lw_g (lw_at lw_m5 93 rfl) rfl
theorem q1174 : (Jvm.Cond.methodLink "StatueRent" (365 : Nat) ({ cls := "StatueRent$City", name := "yields", desc := "(IIIZ)I" } : Jvm.MethodName)) ∈ lw_all := lw_g (lw_at lw_m5 94 rfl) rfl
theorem q1175 : (Jvm.Cond.methodLink "StatueRent" (394 : Nat) ({ cls := "java/lang/Math", name := "max", desc := "(II)I" } : Jvm.MethodName)) ∈ lw_all := lw_g (lw_at lw_m5 95 rfl) rfl
theorem q1177 : (Jvm.Cond.instanceMethod ({ cls := "StatueRent", name := "route", desc := "(II)I" } : Jvm.MethodName)) ∈ lw_all := lw_g (lw_at lw_m5 97 rfl) rfl
theorem q1178 : (Jvm.Cond.selects "StatueRent" ({ cls := "StatueRent", name := "route", desc := "(II)I" } : Jvm.MethodName) ({ cls := "StatueRent", name := "route", desc := "(II)I" } : Jvm.MethodName)) ∈ lw_all := lw_g (lw_at lw_m5 98 rfl) rfl
theorem q1179 : (Jvm.Cond.code ({ cls := "StatueRent", name := "route", desc := "(II)I" } : Jvm.MethodName) prog_1_method_43_code (4 : Nat) (Option.some Jvm.ClassFile.FieldType.int)) ∈ lw_all := lw_g (lw_at lw_m5 99 rfl) rfl
theorem q1180 : (Jvm.Cond.methodLink "StatueRent" (417 : Nat) ({ cls := "StatueRent", name := "routeFrom", desc := "(II)I" } : Jvm.MethodName)) ∈ lw_all := lw_g (lw_at lw_m5 100 rfl) rfl
theorem q1181 : (Jvm.Cond.privateMethod ({ cls := "StatueRent", name := "routeFrom", desc := "(II)I" } : Jvm.MethodName)) ∈ lw_tbl := lw_at lw_m5 101 rfl
theorem q1182 : (Jvm.Cond.instanceMethod ({ cls := "StatueRent", name := "routeFrom", desc := "(II)I" } : Jvm.MethodName)) ∈ lw_all := lw_g (lw_at lw_m5 102 rfl) rfl
theorem q1183 : (Jvm.Cond.code ({ cls := "StatueRent", name := "routeFrom", desc := "(II)I" } : Jvm.MethodName) prog_1_method_42_code (3 : Nat) (Option.some Jvm.ClassFile.FieldType.int)) ∈ lw_all := lw_g (lw_at lw_m5 103 rfl) rfl
theorem q1184 : (Jvm.Cond.methodLink "StatueRent" (410 : Nat) ({ cls := "StatueRent", name := "bribeAt", desc := "(I)I" } : Jvm.MethodName)) ∈ lw_all := lw_g (lw_at lw_m5 104 rfl) rfl
theorem q1185 : (Jvm.Cond.privateMethod ({ cls := "StatueRent", name := "bribeAt", desc := "(I)I" } : Jvm.MethodName)) ∈ lw_tbl := lw_at lw_m5 105 rfl
theorem q1186 : (Jvm.Cond.instanceMethod ({ cls := "StatueRent", name := "bribeAt", desc := "(I)I" } : Jvm.MethodName)) ∈ lw_all := lw_g (lw_at lw_m5 106 rfl) rfl
theorem q1187 : (Jvm.Cond.code ({ cls := "StatueRent", name := "bribeAt", desc := "(I)I" } : Jvm.MethodName) prog_1_method_40_code (3 : Nat) (Option.some Jvm.ClassFile.FieldType.int)) ∈ lw_all := lw_g (lw_at lw_m5 107 rfl) rfl
theorem q1188 : (Jvm.Cond.methodLink "StatueRent" (413 : Nat) ({ cls := "StatueRent", name := "routes", desc := "(IIII)V" } : Jvm.MethodName)) ∈ lw_all := lw_g (lw_at lw_m5 108 rfl) rfl
theorem q1189 : (Jvm.Cond.privateMethod ({ cls := "StatueRent", name := "routes", desc := "(IIII)V" } : Jvm.MethodName)) ∈ lw_tbl := lw_at lw_m5 109 rfl
theorem q1190 : (Jvm.Cond.instanceMethod ({ cls := "StatueRent", name := "routes", desc := "(IIII)V" } : Jvm.MethodName)) ∈ lw_all := lw_g (lw_at lw_m5 110 rfl) rfl
theorem q1191 : (Jvm.Cond.code ({ cls := "StatueRent", name := "routes", desc := "(IIII)V" } : Jvm.MethodName) prog_1_method_41_code (7 : Nat) (Option.none : Option Jvm.ClassFile.FieldType)) ∈ lw_all := lw_g (lw_at lw_m5 111 rfl) rfl
theorem q1192 : (Jvm.Cond.methodLink "StatueRent" (405 : Nat) ({ cls := "java/lang/Integer", name := "numberOfTrailingZeros", desc := "(I)I" } : Jvm.MethodName)) ∈ lw_all := lw_g (lw_at lw_m5 112 rfl) rfl
theorem q1197 : (Jvm.Cond.instanceMethod ({ cls := "StatueRent", name := "routeAt", desc := "(I)I" } : Jvm.MethodName)) ∈ lw_all := lw_g (lw_at lw_m5 117 rfl) rfl
theorem q1198 : (Jvm.Cond.selects "StatueRent" ({ cls := "StatueRent", name := "routeAt", desc := "(I)I" } : Jvm.MethodName) ({ cls := "StatueRent", name := "routeAt", desc := "(I)I" } : Jvm.MethodName)) ∈ lw_all := lw_g (lw_at lw_m5 118 rfl) rfl
theorem q1199 : (Jvm.Cond.code ({ cls := "StatueRent", name := "routeAt", desc := "(I)I" } : Jvm.MethodName) prog_1_method_44_code (2 : Nat) (Option.some Jvm.ClassFile.FieldType.int)) ∈ lw_all := lw_g (lw_at lw_m5 119 rfl) rfl
theorem q1201 : (Jvm.Cond.instanceMethod ({ cls := "StatueRent", name := "bids", desc := "(II)I" } : Jvm.MethodName)) ∈ lw_all := lw_g (lw_at lw_m5 121 rfl) rfl
theorem q1202 : (Jvm.Cond.selects "StatueRent" ({ cls := "StatueRent", name := "bids", desc := "(II)I" } : Jvm.MethodName) ({ cls := "StatueRent", name := "bids", desc := "(II)I" } : Jvm.MethodName)) ∈ lw_all := lw_g (lw_at lw_m5 122 rfl) rfl
theorem q1203 : (Jvm.Cond.code ({ cls := "StatueRent", name := "bids", desc := "(II)I" } : Jvm.MethodName) prog_1_method_47_code (5 : Nat) (Option.some Jvm.ClassFile.FieldType.int)) ∈ lw_all := lw_g (lw_at lw_m5 123 rfl) rfl
theorem q1204 : (Jvm.Cond.methodLink "StatueRent" (423 : Nat) ({ cls := "StatueRent", name := "bidder", desc := "(II)I" } : Jvm.MethodName)) ∈ lw_all := lw_g (lw_at lw_m5 124 rfl) rfl
theorem q1205 : (Jvm.Cond.privateMethod ({ cls := "StatueRent", name := "bidder", desc := "(II)I" } : Jvm.MethodName)) ∈ lw_tbl := lw_at lw_m5 125 rfl
theorem q1206 : (Jvm.Cond.instanceMethod ({ cls := "StatueRent", name := "bidder", desc := "(II)I" } : Jvm.MethodName)) ∈ lw_all := lw_g (lw_at lw_m5 126 rfl) rfl
theorem q1207 : (Jvm.Cond.code ({ cls := "StatueRent", name := "bidder", desc := "(II)I" } : Jvm.MethodName) prog_1_method_46_code (4 : Nat) (Option.some Jvm.ClassFile.FieldType.int)) ∈ lw_all := lw_g (lw_at lw_m5 127 rfl) rfl
theorem q1208 : (Jvm.Cond.methodLink "StatueRent" (420 : Nat) ({ cls := "StatueRent", name := "isOnRoute", desc := "(I)Z" } : Jvm.MethodName)) ∈ lw_all := lw_g (lw_at lw_m5 128 rfl) rfl
theorem q1209 : (Jvm.Cond.privateMethod ({ cls := "StatueRent", name := "isOnRoute", desc := "(I)Z" } : Jvm.MethodName)) ∈ lw_tbl := lw_at lw_m5 129 rfl
theorem q1210 : (Jvm.Cond.instanceMethod ({ cls := "StatueRent", name := "isOnRoute", desc := "(I)Z" } : Jvm.MethodName)) ∈ lw_all := lw_g (lw_at lw_m5 130 rfl) rfl
theorem q1211 : (Jvm.Cond.code ({ cls := "StatueRent", name := "isOnRoute", desc := "(I)Z" } : Jvm.MethodName) prog_1_method_45_code (3 : Nat) (Option.some Jvm.ClassFile.FieldType.boolean)) ∈ lw_all := lw_g (lw_at lw_m5 131 rfl) rfl
theorem q1213 : (Jvm.Cond.instanceMethod ({ cls := "StatueRent", name := "bid", desc := "(I)I" } : Jvm.MethodName)) ∈ lw_all := lw_g (lw_at lw_m5 133 rfl) rfl
theorem q1214 : (Jvm.Cond.selects "StatueRent" ({ cls := "StatueRent", name := "bid", desc := "(I)I" } : Jvm.MethodName) ({ cls := "StatueRent", name := "bid", desc := "(I)I" } : Jvm.MethodName)) ∈ lw_all := lw_g (lw_at lw_m5 134 rfl) rfl
theorem q1215 : (Jvm.Cond.code ({ cls := "StatueRent", name := "bid", desc := "(I)I" } : Jvm.MethodName) prog_1_method_48_code (2 : Nat) (Option.some Jvm.ClassFile.FieldType.int)) ∈ lw_all := lw_g (lw_at lw_m5 135 rfl) rfl
theorem q1217 : (Jvm.Cond.instanceMethod ({ cls := "StatueRent", name := "cure", desc := "(I)I" } : Jvm.MethodName)) ∈ lw_all := lw_g (lw_at lw_m5 137 rfl) rfl
theorem q1218 : (Jvm.Cond.selects "StatueRent" ({ cls := "StatueRent", name := "cure", desc := "(I)I" } : Jvm.MethodName) ({ cls := "StatueRent", name := "cure", desc := "(I)I" } : Jvm.MethodName)) ∈ lw_all := lw_g (lw_at lw_m5 138 rfl) rfl
theorem q1219 : (Jvm.Cond.code ({ cls := "StatueRent", name := "cure", desc := "(I)I" } : Jvm.MethodName) prog_1_method_49_code (8 : Nat) (Option.some Jvm.ClassFile.FieldType.int)) ∈ lw_all := lw_g (lw_at lw_m5 139 rfl) rfl
theorem q1220 : (Jvm.Cond.methodLink "StatueRent" (426 : Nat) ({ cls := "StatueRent", name := "curedTried", desc := "(III)V" } : Jvm.MethodName)) ∈ lw_all := lw_g (lw_at lw_m5 140 rfl) rfl
theorem q1221 : (Jvm.Cond.privateMethod ({ cls := "StatueRent", name := "curedTried", desc := "(III)V" } : Jvm.MethodName)) ∈ lw_tbl := lw_at lw_m5 141 rfl
theorem q1222 : (Jvm.Cond.instanceMethod ({ cls := "StatueRent", name := "curedTried", desc := "(III)V" } : Jvm.MethodName)) ∈ lw_all := lw_g (lw_at lw_m5 142 rfl) rfl
theorem q1223 : (Jvm.Cond.code ({ cls := "StatueRent", name := "curedTried", desc := "(III)V" } : Jvm.MethodName) prog_1_method_50_code (4 : Nat) (Option.none : Option Jvm.ClassFile.FieldType)) ∈ lw_all := lw_g (lw_at lw_m5 143 rfl) rfl
theorem q1225 : (Jvm.Cond.instanceMethod ({ cls := "StatueRent", name := "cured", desc := "(I)I" } : Jvm.MethodName)) ∈ lw_all := lw_g (lw_at lw_m5 145 rfl) rfl
theorem q1226 : (Jvm.Cond.selects "StatueRent" ({ cls := "StatueRent", name := "cured", desc := "(I)I" } : Jvm.MethodName) ({ cls := "StatueRent", name := "cured", desc := "(I)I" } : Jvm.MethodName)) ∈ lw_all := lw_g (lw_at lw_m5 146 rfl) rfl
theorem q1227 : (Jvm.Cond.code ({ cls := "StatueRent", name := "cured", desc := "(I)I" } : Jvm.MethodName) prog_1_method_51_code (2 : Nat) (Option.some Jvm.ClassFile.FieldType.int)) ∈ lw_all := lw_g (lw_at lw_m5 147 rfl) rfl
theorem q1229 : (Jvm.Cond.instanceMethod ({ cls := "StatueRent", name := "taste", desc := "(I)I" } : Jvm.MethodName)) ∈ lw_all := lw_g (lw_at lw_m5 149 rfl) rfl
theorem q1230 : (Jvm.Cond.selects "StatueRent" ({ cls := "StatueRent", name := "taste", desc := "(I)I" } : Jvm.MethodName) ({ cls := "StatueRent", name := "taste", desc := "(I)I" } : Jvm.MethodName)) ∈ lw_all := lw_g (lw_at lw_m5 150 rfl) rfl
theorem q1231 : (Jvm.Cond.code ({ cls := "StatueRent", name := "taste", desc := "(I)I" } : Jvm.MethodName) prog_1_method_53_code (8 : Nat) (Option.some Jvm.ClassFile.FieldType.int)) ∈ lw_all := lw_g (lw_at lw_m5 151 rfl) rfl
theorem q1232 : (Jvm.Cond.methodLink "StatueRent" (432 : Nat) ({ cls := "StatueRent", name := "one", desc := "(I)I" } : Jvm.MethodName)) ∈ lw_all := lw_g (lw_at lw_m5 152 rfl) rfl
theorem q1233 : (Jvm.Cond.privateMethod ({ cls := "StatueRent", name := "one", desc := "(I)I" } : Jvm.MethodName)) ∈ lw_tbl := lw_at lw_m5 153 rfl
theorem q1234 : (Jvm.Cond.instanceMethod ({ cls := "StatueRent", name := "one", desc := "(I)I" } : Jvm.MethodName)) ∈ lw_all := lw_g (lw_at lw_m5 154 rfl) rfl
theorem q1235 : (Jvm.Cond.code ({ cls := "StatueRent", name := "one", desc := "(I)I" } : Jvm.MethodName) prog_1_method_6_code (2 : Nat) (Option.some Jvm.ClassFile.FieldType.int)) ∈ lw_all := lw_g (lw_at lw_m5 155 rfl) rfl
theorem q1236 : (Jvm.Cond.methodLink "StatueRent" (435 : Nat) ({ cls := "StatueRent", name := "isTaste", desc := "(I)Z" } : Jvm.MethodName)) ∈ lw_all := lw_g (lw_at lw_m5 156 rfl) rfl
theorem q1237 : (Jvm.Cond.privateMethod ({ cls := "StatueRent", name := "isTaste", desc := "(I)Z" } : Jvm.MethodName)) ∈ lw_tbl := lw_at lw_m5 157 rfl
theorem q1238 : (Jvm.Cond.instanceMethod ({ cls := "StatueRent", name := "isTaste", desc := "(I)Z" } : Jvm.MethodName)) ∈ lw_all := lw_g (lw_at lw_m5 158 rfl) rfl
theorem q1239 : (Jvm.Cond.code ({ cls := "StatueRent", name := "isTaste", desc := "(I)Z" } : Jvm.MethodName) prog_1_method_52_code (3 : Nat) (Option.some Jvm.ClassFile.FieldType.boolean)) ∈ lw_all := lw_g (lw_at lw_m5 159 rfl) rfl
theorem q1240 : (Jvm.Cond.methodLink "StatueRent" (356 : Nat) ({ cls := "java/lang/Math", name := "abs", desc := "(I)I" } : Jvm.MethodName)) ∈ lw_all := lw_g (lw_at lw_m5 160 rfl) rfl
theorem q1244 : (Jvm.Cond.instanceMethod ({ cls := "StatueRent", name := "surely", desc := "()I" } : Jvm.MethodName)) ∈ lw_all := lw_g (lw_at lw_m5 164 rfl) rfl
theorem q1245 : (Jvm.Cond.selects "StatueRent" ({ cls := "StatueRent", name := "surely", desc := "()I" } : Jvm.MethodName) ({ cls := "StatueRent", name := "surely", desc := "()I" } : Jvm.MethodName)) ∈ lw_all := lw_g (lw_at lw_m5 165 rfl) rfl
theorem q1246 : (Jvm.Cond.code ({ cls := "StatueRent", name := "surely", desc := "()I" } : Jvm.MethodName) prog_1_method_54_code (1 : Nat) (Option.some Jvm.ClassFile.FieldType.int)) ∈ lw_all := lw_g (lw_at lw_m5 166 rfl) rfl
theorem q1248 : (Jvm.Cond.instanceMethod ({ cls := "StatueRent", name := "tells", desc := "()I" } : Jvm.MethodName)) ∈ lw_all := lw_g (lw_at lw_m5 168 rfl) rfl
theorem q1249 : (Jvm.Cond.selects "StatueRent" ({ cls := "StatueRent", name := "tells", desc := "()I" } : Jvm.MethodName) ({ cls := "StatueRent", name := "tells", desc := "()I" } : Jvm.MethodName)) ∈ lw_all := lw_g (lw_at lw_m5 169 rfl) rfl
theorem q1250 : (Jvm.Cond.code ({ cls := "StatueRent", name := "tells", desc := "()I" } : Jvm.MethodName) prog_1_method_55_code (1 : Nat) (Option.some Jvm.ClassFile.FieldType.int)) ∈ lw_all := lw_g (lw_at lw_m5 170 rfl) rfl
theorem q1252 : (Jvm.Cond.instanceMethod ({ cls := "StatueRent", name := "plot", desc := "(I)I" } : Jvm.MethodName)) ∈ lw_all := lw_g (lw_at lw_m5 172 rfl) rfl
theorem q1253 : (Jvm.Cond.selects "StatueRent" ({ cls := "StatueRent", name := "plot", desc := "(I)I" } : Jvm.MethodName) ({ cls := "StatueRent", name := "plot", desc := "(I)I" } : Jvm.MethodName)) ∈ lw_all := lw_g (lw_at lw_m5 173 rfl) rfl
theorem q1254 : (Jvm.Cond.code ({ cls := "StatueRent", name := "plot", desc := "(I)I" } : Jvm.MethodName) prog_1_method_56_code (4 : Nat) (Option.some Jvm.ClassFile.FieldType.int)) ∈ lw_all := lw_g (lw_at lw_m5 174 rfl) rfl
theorem q1255 : (Jvm.Cond.methodLink "StatueRent" (447 : Nat) ({ cls := "java/lang/Integer", name := "bitCount", desc := "(I)I" } : Jvm.MethodName)) ∈ lw_all := lw_g (lw_at lw_m5 175 rfl) rfl
theorem q1262 : (Jvm.Cond.instanceMethod ({ cls := "StatueRent", name := "plotters", desc := "()I" } : Jvm.MethodName)) ∈ lw_all := lw_g (lw_at lw_m5 182 rfl) rfl
theorem q1263 : (Jvm.Cond.selects "StatueRent" ({ cls := "StatueRent", name := "plotters", desc := "()I" } : Jvm.MethodName) ({ cls := "StatueRent", name := "plotters", desc := "()I" } : Jvm.MethodName)) ∈ lw_all := lw_g (lw_at lw_m5 183 rfl) rfl
theorem q1264 : (Jvm.Cond.code ({ cls := "StatueRent", name := "plotters", desc := "()I" } : Jvm.MethodName) prog_1_method_57_code (1 : Nat) (Option.some Jvm.ClassFile.FieldType.int)) ∈ lw_all := lw_g (lw_at lw_m5 184 rfl) rfl
theorem q1266 : (Jvm.Cond.instanceMethod ({ cls := "StatueRent", name := "law", desc := "(III)I" } : Jvm.MethodName)) ∈ lw_all := lw_g (lw_at lw_m5 186 rfl) rfl
theorem q1267 : (Jvm.Cond.selects "StatueRent" ({ cls := "StatueRent", name := "law", desc := "(III)I" } : Jvm.MethodName) ({ cls := "StatueRent", name := "law", desc := "(III)I" } : Jvm.MethodName)) ∈ lw_all := lw_g (lw_at lw_m5 187 rfl) rfl
theorem q1268 : (Jvm.Cond.code ({ cls := "StatueRent", name := "law", desc := "(III)I" } : Jvm.MethodName) prog_1_method_59_code (5 : Nat) (Option.some Jvm.ClassFile.FieldType.int)) ∈ lw_all := lw_g (lw_at lw_m5 188 rfl) rfl
theorem q1269 : (Jvm.Cond.methodLink "StatueRent" (465 : Nat) ({ cls := "StatueRent", name := "stay", desc := "(IIII)Z" } : Jvm.MethodName)) ∈ lw_all := lw_g (lw_at lw_m5 189 rfl) rfl
theorem q1270 : (Jvm.Cond.privateMethod ({ cls := "StatueRent", name := "stay", desc := "(IIII)Z" } : Jvm.MethodName)) ∈ lw_tbl := lw_at lw_m5 190 rfl
theorem q1271 : (Jvm.Cond.instanceMethod ({ cls := "StatueRent", name := "stay", desc := "(IIII)Z" } : Jvm.MethodName)) ∈ lw_all := lw_g (lw_at lw_m5 191 rfl) rfl
theorem q1272 : (Jvm.Cond.code ({ cls := "StatueRent", name := "stay", desc := "(IIII)Z" } : Jvm.MethodName) prog_1_method_58_code (6 : Nat) (Option.some Jvm.ClassFile.FieldType.boolean)) ∈ lw_all := lw_g (lw_at lw_m5 192 rfl) rfl
theorem q1273 : (Jvm.Cond.methodLink "StatueRent" (459 : Nat) ({ cls := "StatueRent$State", name := "dawn", desc := "(LStatueRent$City;I)I" } : Jvm.MethodName)) ∈ lw_all := lw_g (lw_at lw_m5 193 rfl) rfl
theorem q1274 : (Jvm.Cond.methodLink "StatueRent" (462 : Nat) ({ cls := "StatueRent$State", name := "goOn", desc := "(LStatueRent$City;)V" } : Jvm.MethodName)) ∈ lw_all := lw_g (lw_at lw_m5 194 rfl) rfl
theorem q1276 : (Jvm.Cond.instanceMethod ({ cls := "StatueRent", name := "bare", desc := "(II)I" } : Jvm.MethodName)) ∈ lw_all := lw_g (lw_at lw_m5 196 rfl) rfl
theorem q1277 : (Jvm.Cond.selects "StatueRent" ({ cls := "StatueRent", name := "bare", desc := "(II)I" } : Jvm.MethodName) ({ cls := "StatueRent", name := "bare", desc := "(II)I" } : Jvm.MethodName)) ∈ lw_all := lw_g (lw_at lw_m5 197 rfl) rfl
theorem q1278 : (Jvm.Cond.code ({ cls := "StatueRent", name := "bare", desc := "(II)I" } : Jvm.MethodName) prog_1_method_60_code (4 : Nat) (Option.some Jvm.ClassFile.FieldType.int)) ∈ lw_all := lw_g (lw_at lw_m5 198 rfl) rfl
theorem q1280 : (Jvm.Cond.instanceMethod ({ cls := "StatueRent", name := "grass", desc := "()I" } : Jvm.MethodName)) ∈ lw_all := lw_g (lw_at lw_m5 200 rfl) rfl
theorem q1281 : (Jvm.Cond.selects "StatueRent" ({ cls := "StatueRent", name := "grass", desc := "()I" } : Jvm.MethodName) ({ cls := "StatueRent", name := "grass", desc := "()I" } : Jvm.MethodName)) ∈ lw_all := lw_g (lw_at lw_m5 201 rfl) rfl
theorem q1282 : (Jvm.Cond.code ({ cls := "StatueRent", name := "grass", desc := "()I" } : Jvm.MethodName) prog_1_method_62_code (4 : Nat) (Option.some Jvm.ClassFile.FieldType.int)) ∈ lw_all := lw_g (lw_at lw_m5 202 rfl) rfl
theorem q1283 : (Jvm.Cond.methodLink "StatueRent" (471 : Nat) ({ cls := "StatueRent", name := "isGrass", desc := "(I)Z" } : Jvm.MethodName)) ∈ lw_all := lw_g (lw_at lw_m5 203 rfl) rfl
theorem q1284 : (Jvm.Cond.privateMethod ({ cls := "StatueRent", name := "isGrass", desc := "(I)Z" } : Jvm.MethodName)) ∈ lw_tbl := lw_at lw_m5 204 rfl
theorem q1285 : (Jvm.Cond.instanceMethod ({ cls := "StatueRent", name := "isGrass", desc := "(I)Z" } : Jvm.MethodName)) ∈ lw_all := lw_g (lw_at lw_m5 205 rfl) rfl
theorem q1286 : (Jvm.Cond.code ({ cls := "StatueRent", name := "isGrass", desc := "(I)Z" } : Jvm.MethodName) prog_1_method_61_code (3 : Nat) (Option.some Jvm.ClassFile.FieldType.boolean)) ∈ lw_all := lw_g (lw_at lw_m5 206 rfl) rfl
theorem q1288 : (Jvm.Cond.instanceMethod ({ cls := "StatueRent", name := "trodden", desc := "()I" } : Jvm.MethodName)) ∈ lw_all := lw_g (lw_at lw_m5 208 rfl) rfl
theorem q1289 : (Jvm.Cond.selects "StatueRent" ({ cls := "StatueRent", name := "trodden", desc := "()I" } : Jvm.MethodName) ({ cls := "StatueRent", name := "trodden", desc := "()I" } : Jvm.MethodName)) ∈ lw_all := lw_g (lw_at lw_m5 209 rfl) rfl
theorem q1290 : (Jvm.Cond.code ({ cls := "StatueRent", name := "trodden", desc := "()I" } : Jvm.MethodName) prog_1_method_63_code (1 : Nat) (Option.some Jvm.ClassFile.FieldType.int)) ∈ lw_all := lw_g (lw_at lw_m5 210 rfl) rfl
theorem q1292 : (Jvm.Cond.instanceMethod ({ cls := "StatueRent", name := "odds", desc := "(III)I" } : Jvm.MethodName)) ∈ lw_all := lw_g (lw_at lw_m5 212 rfl) rfl
theorem q1293 : (Jvm.Cond.selects "StatueRent" ({ cls := "StatueRent", name := "odds", desc := "(III)I" } : Jvm.MethodName) ({ cls := "StatueRent", name := "odds", desc := "(III)I" } : Jvm.MethodName)) ∈ lw_all := lw_g (lw_at lw_m5 213 rfl) rfl
theorem q1294 : (Jvm.Cond.code ({ cls := "StatueRent", name := "odds", desc := "(III)I" } : Jvm.MethodName) prog_1_method_64_code (6 : Nat) (Option.some Jvm.ClassFile.FieldType.int)) ∈ lw_all := lw_g (lw_at lw_m5 214 rfl) rfl
theorem q1296 : (Jvm.Cond.instanceMethod ({ cls := "StatueRent", name := "plaque", desc := "(I)I" } : Jvm.MethodName)) ∈ lw_all := lw_g (lw_at lw_m5 216 rfl) rfl
theorem q1297 : (Jvm.Cond.selects "StatueRent" ({ cls := "StatueRent", name := "plaque", desc := "(I)I" } : Jvm.MethodName) ({ cls := "StatueRent", name := "plaque", desc := "(I)I" } : Jvm.MethodName)) ∈ lw_all := lw_g (lw_at lw_m5 217 rfl) rfl
theorem q1298 : (Jvm.Cond.code ({ cls := "StatueRent", name := "plaque", desc := "(I)I" } : Jvm.MethodName) prog_1_method_68_code (3 : Nat) (Option.some Jvm.ClassFile.FieldType.int)) ∈ lw_all := lw_g (lw_at lw_m5 218 rfl) rfl
theorem q1299 : (Jvm.Cond.methodLink "StatueRent" (498 : Nat) ({ cls := "StatueRent", name := "put", desc := "(J)V" } : Jvm.MethodName)) ∈ lw_all := lw_g (lw_at lw_m5 219 rfl) rfl
theorem q1300 : (Jvm.Cond.privateMethod ({ cls := "StatueRent", name := "put", desc := "(J)V" } : Jvm.MethodName)) ∈ lw_tbl := lw_at lw_m5 220 rfl
theorem q1301 : (Jvm.Cond.instanceMethod ({ cls := "StatueRent", name := "put", desc := "(J)V" } : Jvm.MethodName)) ∈ lw_all := lw_g (lw_at lw_m5 221 rfl) rfl
theorem q1302 : (Jvm.Cond.code ({ cls := "StatueRent", name := "put", desc := "(J)V" } : Jvm.MethodName) prog_1_method_67_code (4 : Nat) (Option.none : Option Jvm.ClassFile.FieldType)) ∈ lw_all := lw_g (lw_at lw_m5 222 rfl) rfl
theorem q1303 : (Jvm.Cond.constantLong "StatueRent" (492 : Nat) (255 : Int64)) ∈ lw_all := lw_g (lw_at lw_m5 223 rfl) rfl
theorem q1304 : (Jvm.Cond.methodLink "StatueRent" (489 : Nat) ({ cls := "StatueRent", name := "put", desc := "(I)V" } : Jvm.MethodName)) ∈ lw_all := lw_g (lw_at lw_m5 224 rfl) rfl
theorem q1305 : (Jvm.Cond.privateMethod ({ cls := "StatueRent", name := "put", desc := "(I)V" } : Jvm.MethodName)) ∈ lw_tbl := lw_at lw_m5 225 rfl
theorem q1306 : (Jvm.Cond.instanceMethod ({ cls := "StatueRent", name := "put", desc := "(I)V" } : Jvm.MethodName)) ∈ lw_all := lw_g (lw_at lw_m5 226 rfl) rfl
theorem q1307 : (Jvm.Cond.code ({ cls := "StatueRent", name := "put", desc := "(I)V" } : Jvm.MethodName) prog_1_method_65_code (2 : Nat) (Option.none : Option Jvm.ClassFile.FieldType)) ∈ lw_all := lw_g (lw_at lw_m5 227 rfl) rfl
theorem q1308 : (Jvm.Cond.stringRef "StatueRent" (501 : Nat) " owes ") ∈ lw_tbl := lw_at lw_m5 228 rfl
theorem q1309 : (Jvm.Cond.methodLink "StatueRent" (503 : Nat) ({ cls := "StatueRent", name := "put", desc := "(Ljava/lang/String;)V" } : Jvm.MethodName)) ∈ lw_all := lw_g (lw_at lw_m5 229 rfl) rfl
theorem q1310 : (Jvm.Cond.privateMethod ({ cls := "StatueRent", name := "put", desc := "(Ljava/lang/String;)V" } : Jvm.MethodName)) ∈ lw_tbl := lw_at lw_m5 230 rfl
theorem q1311 : (Jvm.Cond.instanceMethod ({ cls := "StatueRent", name := "put", desc := "(Ljava/lang/String;)V" } : Jvm.MethodName)) ∈ lw_all := lw_g (lw_at lw_m5 231 rfl) rfl
theorem q1312 : (Jvm.Cond.code ({ cls := "StatueRent", name := "put", desc := "(Ljava/lang/String;)V" } : Jvm.MethodName) prog_1_method_66_code (3 : Nat) (Option.none : Option Jvm.ClassFile.FieldType)) ∈ lw_all := lw_g (lw_at lw_m5 232 rfl) rfl
theorem q1313 : (Jvm.Cond.methodLink "StatueRent" (483 : Nat) ({ cls := "java/lang/String", name := "length", desc := "()I" } : Jvm.MethodName)) ∈ lw_all := lw_g (lw_at lw_m5 233 rfl) rfl
theorem q1314 : (Jvm.Cond.methodLink "StatueRent" (485 : Nat) ({ cls := "java/lang/String", name := "charAt", desc := "(I)C" } : Jvm.MethodName)) ∈ lw_all := lw_g (lw_at lw_m5 234 rfl) rfl
theorem q1315 : (Jvm.Cond.methodLink "StatueRent" (506 : Nat) ({ cls := "java/lang/Integer", name := "toString", desc := "(I)Ljava/lang/String;" } : Jvm.MethodName)) ∈ lw_all := lw_g (lw_at lw_m5 235 rfl) rfl
theorem q1354 : (Jvm.Cond.stringRef "StatueRent" (510 : Nat) " is at ") ∈ lw_tbl := lw_at lw_m6 34 rfl
theorem q1355 : (Jvm.Cond.stringRef "StatueRent" (512 : Nat) "nowhere") ∈ lw_tbl := lw_at lw_m6 35 rfl
theorem q1357 : (Jvm.Cond.instanceMethod ({ cls := "StatueRent", name := "byteAt", desc := "(I)I" } : Jvm.MethodName)) ∈ lw_all := lw_g (lw_at lw_m6 37 rfl) rfl
theorem q1358 : (Jvm.Cond.selects "StatueRent" ({ cls := "StatueRent", name := "byteAt", desc := "(I)I" } : Jvm.MethodName) ({ cls := "StatueRent", name := "byteAt", desc := "(I)I" } : Jvm.MethodName)) ∈ lw_all := lw_g (lw_at lw_m6 38 rfl) rfl
theorem q1359 : (Jvm.Cond.code ({ cls := "StatueRent", name := "byteAt", desc := "(I)I" } : Jvm.MethodName) prog_1_method_69_code (2 : Nat) (Option.some Jvm.ClassFile.FieldType.int)) ∈ lw_all := lw_g (lw_at lw_m6 39 rfl) rfl
theorem q1361 : (Jvm.Cond.instanceMethod ({ cls := "StatueRent", name := "log", desc := "(I)I" } : Jvm.MethodName)) ∈ lw_all := lw_g (lw_at lw_m6 41 rfl) rfl
theorem q1362 : (Jvm.Cond.selects "StatueRent" ({ cls := "StatueRent", name := "log", desc := "(I)I" } : Jvm.MethodName) ({ cls := "StatueRent", name := "log", desc := "(I)I" } : Jvm.MethodName)) ∈ lw_all := lw_g (lw_at lw_m6 42 rfl) rfl
theorem q1363 : (Jvm.Cond.codeWith ({ cls := "StatueRent", name := "log", desc := "(I)I" } : Jvm.MethodName) prog_1_method_70_code (7 : Nat) (Option.some Jvm.ClassFile.FieldType.int) [((22 : Nat), (29 : Nat), (32 : Nat), (13 : Nat))]) ∈ lw_all := lw_g (lw_at lw_m6 43 rfl) rfl
theorem q1364 : (Jvm.Cond.methodLink "StatueRent" (517 : Nat) ({ cls := "StatueRent$LogReader", name := "read", desc := "()V" } : Jvm.MethodName)) ∈ lw_all := lw_g (lw_at lw_m6 44 rfl) rfl
theorem q1467 : (Jvm.Cond.methodLink "StatueRent" (526 : Nat) ({ cls := "StatueRent$Line", name := "why", desc := "(LStatueRent$City;LStatueRent$State;)I" } : Jvm.MethodName)) ∈ lw_all := lw_g (lw_at lw_m6 147 rfl) rfl
theorem q1489 : (Jvm.Cond.methodLink "StatueRent" (532 : Nat) ({ cls := "StatueRent$Line", name := "live", desc := "(LStatueRent$City;LStatueRent$State;)V" } : Jvm.MethodName)) ∈ lw_all := lw_g (lw_at lw_m6 169 rfl) rfl
theorem q1512 : (Jvm.Cond.instanceMethod ({ cls := "StatueRent", name := "logged", desc := "(I)I" } : Jvm.MethodName)) ∈ lw_all := lw_g (lw_at lw_m6 192 rfl) rfl
theorem q1513 : (Jvm.Cond.selects "StatueRent" ({ cls := "StatueRent", name := "logged", desc := "(I)I" } : Jvm.MethodName) ({ cls := "StatueRent", name := "logged", desc := "(I)I" } : Jvm.MethodName)) ∈ lw_all := lw_g (lw_at lw_m6 193 rfl) rfl
theorem q1514 : (Jvm.Cond.code ({ cls := "StatueRent", name := "logged", desc := "(I)I" } : Jvm.MethodName) prog_1_method_71_code (2 : Nat) (Option.some Jvm.ClassFile.FieldType.int)) ∈ lw_all := lw_g (lw_at lw_m6 194 rfl) rfl
theorem q1516 : (Jvm.Cond.instanceMethod ({ cls := "StatueRent", name := "sentence", desc := "()I" } : Jvm.MethodName)) ∈ lw_all := lw_g (lw_at lw_m6 196 rfl) rfl
theorem q1517 : (Jvm.Cond.selects "StatueRent" ({ cls := "StatueRent", name := "sentence", desc := "()I" } : Jvm.MethodName) ({ cls := "StatueRent", name := "sentence", desc := "()I" } : Jvm.MethodName)) ∈ lw_all := lw_g (lw_at lw_m6 197 rfl) rfl
theorem q1518 : (Jvm.Cond.codeWith ({ cls := "StatueRent", name := "sentence", desc := "()I" } : Jvm.MethodName) prog_1_method_72_code (2 : Nat) (Option.some Jvm.ClassFile.FieldType.int) [((9 : Nat), (27 : Nat), (28 : Nat), (13 : Nat))]) ∈ lw_all := lw_g (lw_at lw_m6 198 rfl) rfl
theorem q1519 : (Jvm.Cond.methodLink "StatueRent" (539 : Nat) ({ cls := "StatueRent$SentenceReader", name := "read", desc := "()LStatueRent$Cond;" } : Jvm.MethodName)) ∈ lw_all := lw_g (lw_at lw_m6 199 rfl) rfl
theorem q1629 : (Jvm.Cond.instanceMethod ({ cls := "StatueRent", name := "said", desc := "(I)I" } : Jvm.MethodName)) ∈ lw_all := lw_g (lw_at lw_m7 69 rfl) rfl
theorem q1630 : (Jvm.Cond.selects "StatueRent" ({ cls := "StatueRent", name := "said", desc := "(I)I" } : Jvm.MethodName) ({ cls := "StatueRent", name := "said", desc := "(I)I" } : Jvm.MethodName)) ∈ lw_all := lw_g (lw_at lw_m7 70 rfl) rfl
theorem q1631 : (Jvm.Cond.code ({ cls := "StatueRent", name := "said", desc := "(I)I" } : Jvm.MethodName) prog_1_method_73_code (4 : Nat) (Option.some Jvm.ClassFile.FieldType.int)) ∈ lw_all := lw_g (lw_at lw_m7 71 rfl) rfl
theorem q1632 : (Jvm.Cond.interfaceEntry "StatueRent" (545 : Nat)) ∈ lw_tbl := lw_at lw_m7 72 rfl
theorem q1633 : (Jvm.Cond.methodLink "StatueRent" (545 : Nat) ({ cls := "StatueRent$Cond", name := "is", desc := "(LStatueRent;I)Z" } : Jvm.MethodName)) ∈ lw_all := lw_g (lw_at lw_m7 73 rfl) rfl
theorem q1676 : (Jvm.Cond.instanceMethod ({ cls := "StatueRent", name := "image", desc := "(I)Z" } : Jvm.MethodName)) ∈ lw_all := lw_g (lw_at lw_m7 116 rfl) rfl
theorem q1677 : (Jvm.Cond.selects "StatueRent" ({ cls := "StatueRent", name := "image", desc := "(I)Z" } : Jvm.MethodName) ({ cls := "StatueRent", name := "image", desc := "(I)Z" } : Jvm.MethodName)) ∈ lw_all := lw_g (lw_at lw_m7 117 rfl) rfl
theorem q1678 : (Jvm.Cond.code ({ cls := "StatueRent", name := "image", desc := "(I)Z" } : Jvm.MethodName) prog_1_method_74_code (3 : Nat) (Option.some Jvm.ClassFile.FieldType.boolean)) ∈ lw_all := lw_g (lw_at lw_m7 118 rfl) rfl
theorem q1680 : (Jvm.Cond.methodLinkNest "StatueRent" (551 : Nat) ({ cls := "StatueRent$Kept", name := "<init>", desc := "()V" } : Jvm.MethodName) "StatueRent") ∈ lw_tbl := lw_at lw_m7 120 rfl
theorem q1686 : (Jvm.Cond.fieldLinkNest "StatueRent" (552 : Nat) "StatueRent$Kept" "city" "LStatueRent$City;" "StatueRent") ∈ lw_tbl := lw_at lw_m7 126 rfl
theorem q1688 : (Jvm.Cond.fieldLinkNest "StatueRent" (553 : Nat) "StatueRent$Kept" "state" "LStatueRent$State;" "StatueRent") ∈ lw_tbl := lw_at lw_m7 128 rfl
theorem q1689 : (Jvm.Cond.fieldLinkNest "StatueRent" (556 : Nat) "StatueRent$Kept" "sentence" "LStatueRent$Cond;" "StatueRent") ∈ lw_tbl := lw_at lw_m7 129 rfl
theorem q1698 : (Jvm.Cond.instanceMethod ({ cls := "StatueRent", name := "restore", desc := "(I)Z" } : Jvm.MethodName)) ∈ lw_all := lw_g (lw_at lw_m7 138 rfl) rfl
theorem q1699 : (Jvm.Cond.selects "StatueRent" ({ cls := "StatueRent", name := "restore", desc := "(I)Z" } : Jvm.MethodName) ({ cls := "StatueRent", name := "restore", desc := "(I)Z" } : Jvm.MethodName)) ∈ lw_all := lw_g (lw_at lw_m7 139 rfl) rfl
theorem q1700 : (Jvm.Cond.code ({ cls := "StatueRent", name := "restore", desc := "(I)Z" } : Jvm.MethodName) prog_1_method_75_code (3 : Nat) (Option.some Jvm.ClassFile.FieldType.boolean)) ∈ lw_all := lw_g (lw_at lw_m7 140 rfl) rfl
theorem q1702 : (Jvm.Cond.instanceMethod ({ cls := "StatueRent", name := "count", desc := "(I)I" } : Jvm.MethodName)) ∈ lw_all := lw_g (lw_at lw_m7 142 rfl) rfl
theorem q1703 : (Jvm.Cond.selects "StatueRent" ({ cls := "StatueRent", name := "count", desc := "(I)I" } : Jvm.MethodName) ({ cls := "StatueRent", name := "count", desc := "(I)I" } : Jvm.MethodName)) ∈ lw_all := lw_g (lw_at lw_m7 143 rfl) rfl
theorem q1704 : (Jvm.Cond.code ({ cls := "StatueRent", name := "count", desc := "(I)I" } : Jvm.MethodName) prog_1_method_76_code (2 : Nat) (Option.some Jvm.ClassFile.FieldType.int)) ∈ lw_all := lw_g (lw_at lw_m7 144 rfl) rfl
theorem q1710 : (Jvm.Cond.instanceMethod ({ cls := "StatueRent", name := "statue", desc := "(II)I" } : Jvm.MethodName)) ∈ lw_all := lw_g (lw_at lw_m7 150 rfl) rfl
theorem q1711 : (Jvm.Cond.selects "StatueRent" ({ cls := "StatueRent", name := "statue", desc := "(II)I" } : Jvm.MethodName) ({ cls := "StatueRent", name := "statue", desc := "(II)I" } : Jvm.MethodName)) ∈ lw_all := lw_g (lw_at lw_m7 151 rfl) rfl
theorem q1712 : (Jvm.Cond.code ({ cls := "StatueRent", name := "statue", desc := "(II)I" } : Jvm.MethodName) prog_1_method_18_code (4 : Nat) (Option.some Jvm.ClassFile.FieldType.int)) ∈ lw_all := lw_g (lw_at lw_m7 152 rfl) rfl
theorem q1713 : (Jvm.Cond.methodLink "StatueRent" (255 : Nat) ({ cls := "StatueRent", name := "must", desc := "(Z)V" } : Jvm.MethodName)) ∈ lw_all := lw_g (lw_at lw_m7 153 rfl) rfl
theorem q1714 : (Jvm.Cond.static ({ cls := "StatueRent", name := "must", desc := "(Z)V" } : Jvm.MethodName)) ∈ lw_all := lw_g (lw_at lw_m7 154 rfl) rfl
theorem q1715 : (Jvm.Cond.code ({ cls := "StatueRent", name := "must", desc := "(Z)V" } : Jvm.MethodName) prog_1_method_8_code (1 : Nat) (Option.none : Option Jvm.ClassFile.FieldType)) ∈ lw_all := lw_g (lw_at lw_m7 155 rfl) rfl
theorem q1716 : (Jvm.Cond.classLink "StatueRent" (181 : Nat) "java/util/NoSuchElementException") ∈ lw_all := lw_g (lw_at lw_m7 156 rfl) rfl
theorem q1727 : (Jvm.Cond.methodLink "StatueRent" (183 : Nat) ({ cls := "java/util/NoSuchElementException", name := "<init>", desc := "()V" } : Jvm.MethodName)) ∈ lw_all := lw_g (lw_at lw_m7 167 rfl) rfl
theorem q1743 : (Jvm.Cond.instanceMethod ({ cls := "StatueRent", name := "walker", desc := "(II)I" } : Jvm.MethodName)) ∈ lw_all := lw_g (lw_at lw_m7 183 rfl) rfl
theorem q1744 : (Jvm.Cond.selects "StatueRent" ({ cls := "StatueRent", name := "walker", desc := "(II)I" } : Jvm.MethodName) ({ cls := "StatueRent", name := "walker", desc := "(II)I" } : Jvm.MethodName)) ∈ lw_all := lw_g (lw_at lw_m7 184 rfl) rfl
theorem q1745 : (Jvm.Cond.code ({ cls := "StatueRent", name := "walker", desc := "(II)I" } : Jvm.MethodName) prog_1_method_19_code (5 : Nat) (Option.some Jvm.ClassFile.FieldType.int)) ∈ lw_all := lw_g (lw_at lw_m7 185 rfl) rfl
theorem q1750 : (Jvm.Cond.instanceMethod ({ cls := "StatueRent", name := "yields", desc := "(IIII)I" } : Jvm.MethodName)) ∈ lw_all := lw_g (lw_at lw_m7 190 rfl) rfl
theorem q1751 : (Jvm.Cond.selects "StatueRent" ({ cls := "StatueRent", name := "yields", desc := "(IIII)I" } : Jvm.MethodName) ({ cls := "StatueRent", name := "yields", desc := "(IIII)I" } : Jvm.MethodName)) ∈ lw_all := lw_g (lw_at lw_m7 191 rfl) rfl
theorem q1752 : (Jvm.Cond.code ({ cls := "StatueRent", name := "yields", desc := "(IIII)I" } : Jvm.MethodName) prog_1_method_32_code (5 : Nat) (Option.some Jvm.ClassFile.FieldType.int)) ∈ lw_all := lw_g (lw_at lw_m7 192 rfl) rfl
theorem q1753 : (Jvm.Cond.methodLink "StatueRent" (369 : Nat) ({ cls := "StatueRent", name := "part", desc := "(III)I" } : Jvm.MethodName)) ∈ lw_all := lw_g (lw_at lw_m7 193 rfl) rfl
theorem q1754 : (Jvm.Cond.static ({ cls := "StatueRent", name := "part", desc := "(III)I" } : Jvm.MethodName)) ∈ lw_all := lw_g (lw_at lw_m7 194 rfl) rfl
theorem q1755 : (Jvm.Cond.code ({ cls := "StatueRent", name := "part", desc := "(III)I" } : Jvm.MethodName) prog_1_method_30_code (6 : Nat) (Option.some Jvm.ClassFile.FieldType.int)) ∈ lw_all := lw_g (lw_at lw_m7 195 rfl) rfl
theorem q1760 : (Jvm.Cond.instanceMethod ({ cls := "StatueRent", name := "today", desc := "(II)I" } : Jvm.MethodName)) ∈ lw_all := lw_g (lw_at lw_m7 200 rfl) rfl
theorem q1761 : (Jvm.Cond.selects "StatueRent" ({ cls := "StatueRent", name := "today", desc := "(II)I" } : Jvm.MethodName) ({ cls := "StatueRent", name := "today", desc := "(II)I" } : Jvm.MethodName)) ∈ lw_all := lw_g (lw_at lw_m7 201 rfl) rfl
theorem q1762 : (Jvm.Cond.code ({ cls := "StatueRent", name := "today", desc := "(II)I" } : Jvm.MethodName) prog_1_method_35_code (6 : Nat) (Option.some Jvm.ClassFile.FieldType.int)) ∈ lw_all := lw_g (lw_at lw_m7 202 rfl) rfl
theorem q1763 : (Jvm.Cond.methodLink "StatueRent" (383 : Nat) ({ cls := "StatueRent$City", name := "comes", desc := "(II)Z" } : Jvm.MethodName)) ∈ lw_all := lw_g (lw_at lw_m7 203 rfl) rfl
theorem q1768 : (Jvm.Cond.instanceMethod ({ cls := "StatueRent", name := "placing", desc := "(I)I" } : Jvm.MethodName)) ∈ lw_all := lw_g (lw_at lw_m7 208 rfl) rfl
theorem q1769 : (Jvm.Cond.selects "StatueRent" ({ cls := "StatueRent", name := "placing", desc := "(I)I" } : Jvm.MethodName) ({ cls := "StatueRent", name := "placing", desc := "(I)I" } : Jvm.MethodName)) ∈ lw_all := lw_g (lw_at lw_m7 209 rfl) rfl
theorem q1770 : (Jvm.Cond.code ({ cls := "StatueRent", name := "placing", desc := "(I)I" } : Jvm.MethodName) prog_1_method_38_code (2 : Nat) (Option.some Jvm.ClassFile.FieldType.int)) ∈ lw_all := lw_g (lw_at lw_m7 210 rfl) rfl
theorem q2534 : (Jvm.Cond.castable "StatueRent" "java/lang/Object") ∈ lw_tbl := lw_at lw_m11 14 rfl
theorem in_X1 : ∀ w ∈ wsX10, w ∈ lw_all := lw_in wsX10 [660, 662, 664, 666, 668, 670, 672, 674, 676, 678, 680, 682, 684, 686, 688, 690, 692, 694, 696, 698, 700, 702, 704, 706, 708, 710, 712, 714, 716, 718, 720, 722, 724, 726, 728, 730, 732, 734, 736, 738, 740] (by decide +kernel) (by decide +kernel)
