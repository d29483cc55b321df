/-! StatueRent$Line -/
set_option maxRecDepth 100000
def RX11 : String := "StatueRent$Line"
abbrev cX11_init : ByteArray := prog_13_method_1_code
def yX11_init : MethodName := ⟨RX11, "<init>", "()V"⟩
theorem dX11_init_0 : decode cX11_init 0 = .ok (.aload_n 0, 1) := by decide +kernel
theorem dX11_init_1 : decode cX11_init 1 = .ok (.invokespecial 1, 3) := by decide +kernel
theorem dX11_init_4 : decode cX11_init 4 = .ok (.return_, 1) := by decide +kernel
theorem q144 : (Jvm.Cond.initialized "StatueRent$Line") ∈ lw_all := lw_g (lw_at lw_m1 24 rfl) rfl
theorem q1395 : (Jvm.Cond.instanceMethod ({ cls := "StatueRent$Line", name := "<init>", desc := "()V" } : Jvm.MethodName)) ∈ lw_all := lw_g (lw_at lw_m6 75 rfl) rfl
theorem q1396 : (Jvm.Cond.code ({ cls := "StatueRent$Line", name := "<init>", desc := "()V" } : Jvm.MethodName) prog_13_method_1_code (1 : Nat) (Option.none : Option Jvm.ClassFile.FieldType)) ∈ lw_all := lw_g (lw_at lw_m6 76 rfl) rfl
theorem q1397 : (Jvm.Cond.methodLink "StatueRent$Line" (1 : Nat) ({ cls := "java/lang/Object", name := "<init>", desc := "()V" } : Jvm.MethodName)) ∈ lw_all := lw_g (lw_at lw_m6 77 rfl) rfl
theorem q1468 : (Jvm.Cond.declares ({ cls := "StatueRent$Line", name := "why", desc := "(LStatueRent$City;LStatueRent$State;)I" } : Jvm.MethodName)) ∈ lw_tbl := lw_at lw_m6 148 rfl
theorem q1469 : (Jvm.Cond.sameMethod "StatueRent$Line" "StatueRent$Line" "why" "(LStatueRent$City;LStatueRent$State;)I") ∈ lw_all := lw_g (lw_at lw_m6 149 rfl) rfl
theorem q1490 : (Jvm.Cond.declares ({ cls := "StatueRent$Line", name := "live", desc := "(LStatueRent$City;LStatueRent$State;)V" } : Jvm.MethodName)) ∈ lw_tbl := lw_at lw_m6 170 rfl
theorem q1491 : (Jvm.Cond.sameMethod "StatueRent$Line" "StatueRent$Line" "live" "(LStatueRent$City;LStatueRent$State;)V") ∈ lw_all := lw_g (lw_at lw_m6 171 rfl) rfl
/-! StatueRent$Days -/
set_option maxRecDepth 100000
def RX12 : String := "StatueRent$Days"
def TX12 : u_T := fun k => match k with
  | _ => ("StatueRent$Days", "n", "I", true)
def tyX12 : Nat → FieldType := fun k => match k with
  | _ => .int
abbrev wsX120 : List Cond := u_ws RX12 TX12 1
theorem nmX12 : ∀ a, a < 1 → ∀ b, b < 1 → a ≠ b → (TX12 a).2.1 ≠ (TX12 b).2.1 := by decide +kernel
theorem tyX12_ok : ∀ k, k < 1 → parseFieldDescriptor (TX12 k).2.2.1 = some (tyX12 k) := by decide +kernel
abbrev cX12_init : ByteArray := prog_9_method_1_code
def yX12_init : MethodName := ⟨RX12, "<init>", "(I)V"⟩
def dkwX12_init_0 : List UInt8 := [42, 183, 0, 3, 42, 27, 181, 0, 9, 177]
abbrev dktX12_init_0 : List UInt8 := dkwX12_init_0 ++ []
theorem dksX12_init_0 : cX12_init.data.toList.drop 0 = dktX12_init_0 := by decide +kernel
theorem dX12_init_0 : decode cX12_init 0 = .ok (.aload_n 0, 1) := dk_42 (dk_at dksX12_init_0 0 rfl rfl)
theorem dX12_init_1 : decode cX12_init 1 = .ok (.invokespecial 3, 3) := dk_183 0 3 (dk_at dksX12_init_0 1 rfl rfl)
theorem dX12_init_4 : decode cX12_init 4 = .ok (.aload_n 0, 1) := dk_42 (dk_at dksX12_init_0 4 rfl rfl)
theorem dX12_init_5 : decode cX12_init 5 = .ok (.iload_n 1, 1) := dk_27 (dk_at dksX12_init_0 5 rfl rfl)
theorem dX12_init_6 : decode cX12_init 6 = .ok (.putfield 9, 3) := dk_181 0 9 (dk_at dksX12_init_0 6 rfl rfl)
theorem dX12_init_9 : decode cX12_init 9 = .ok (.return_, 1) := dk_177 (dk_at dksX12_init_0 9 rfl rfl)
abbrev cX12_why : ByteArray := prog_9_method_2_code
def yX12_why : MethodName := ⟨RX12, "why", "(LStatueRent$City;LStatueRent$State;)I"⟩
def dkwX12_why_0 : List UInt8 := [44, 180, 0, 15, 42, 180, 0, 9, 96, 17, 1, 144, 164, 0, 8, 16, 41, 167, 0, 4, 3, 172]
abbrev dktX12_why_0 : List UInt8 := dkwX12_why_0 ++ []
theorem dksX12_why_0 : cX12_why.data.toList.drop 0 = dktX12_why_0 := by decide +kernel
theorem dX12_why_0 : decode cX12_why 0 = .ok (.aload_n 2, 1) := dk_44 (dk_at dksX12_why_0 0 rfl rfl)
theorem dX12_why_1 : decode cX12_why 1 = .ok (.getfield 15, 3) := dk_180 0 15 (dk_at dksX12_why_0 1 rfl rfl)
theorem dX12_why_4 : decode cX12_why 4 = .ok (.aload_n 0, 1) := dk_42 (dk_at dksX12_why_0 4 rfl rfl)
theorem dX12_why_5 : decode cX12_why 5 = .ok (.getfield 9, 3) := dk_180 0 9 (dk_at dksX12_why_0 5 rfl rfl)
theorem dX12_why_8 : decode cX12_why 8 = .ok (.iadd, 1) := dk_96 (dk_at dksX12_why_0 8 rfl rfl)
theorem dX12_why_9 : decode cX12_why 9 = .ok (.sipush 400, 3) := dk_17 1 144 (dk_at dksX12_why_0 9 rfl rfl)
theorem dX12_why_12 : decode cX12_why 12 = .ok (.if_icmp .le 8, 3) := dk_164 0 8 (dk_at dksX12_why_0 12 rfl rfl)
theorem dX12_why_15 : decode cX12_why 15 = .ok (.bipush 41, 2) := dk_16 41 (dk_at dksX12_why_0 15 rfl rfl)
theorem dX12_why_17 : decode cX12_why 17 = .ok (.goto 4, 3) := dk_167 0 4 (dk_at dksX12_why_0 17 rfl rfl)
theorem dX12_why_20 : decode cX12_why 20 = .ok (.iconst 0, 1) := dk_3 (dk_at dksX12_why_0 20 rfl rfl)
theorem dX12_why_21 : decode cX12_why 21 = .ok (.ireturn, 1) := dk_172 (dk_at dksX12_why_0 21 rfl rfl)
abbrev cX12_live : ByteArray := prog_9_method_3_code
def yX12_live : MethodName := ⟨RX12, "live", "(LStatueRent$City;LStatueRent$State;)V"⟩
def dkwX12_live_0 : List UInt8 := [44, 43, 42, 180, 0, 9, 42, 180, 0, 9, 182, 0, 20, 87, 177]
abbrev dktX12_live_0 : List UInt8 := dkwX12_live_0 ++ []
theorem dksX12_live_0 : cX12_live.data.toList.drop 0 = dktX12_live_0 := by decide +kernel
theorem dX12_live_0 : decode cX12_live 0 = .ok (.aload_n 2, 1) := dk_44 (dk_at dksX12_live_0 0 rfl rfl)
theorem dX12_live_1 : decode cX12_live 1 = .ok (.aload_n 1, 1) := dk_43 (dk_at dksX12_live_0 1 rfl rfl)
theorem dX12_live_2 : decode cX12_live 2 = .ok (.aload_n 0, 1) := dk_42 (dk_at dksX12_live_0 2 rfl rfl)
theorem dX12_live_3 : decode cX12_live 3 = .ok (.getfield 9, 3) := dk_180 0 9 (dk_at dksX12_live_0 3 rfl rfl)
theorem dX12_live_6 : decode cX12_live 6 = .ok (.aload_n 0, 1) := dk_42 (dk_at dksX12_live_0 6 rfl rfl)
theorem dX12_live_7 : decode cX12_live 7 = .ok (.getfield 9, 3) := dk_180 0 9 (dk_at dksX12_live_0 7 rfl rfl)
theorem dX12_live_10 : decode cX12_live 10 = .ok (.invokevirtual 20, 3) := dk_182 0 20 (dk_at dksX12_live_0 10 rfl rfl)
theorem dX12_live_13 : decode cX12_live 13 = .ok (.pop, 1) := dk_87 (dk_at dksX12_live_0 13 rfl rfl)
theorem dX12_live_14 : decode cX12_live 14 = .ok (.return_, 1) := dk_177 (dk_at dksX12_live_0 14 rfl rfl)
theorem q145 : (Jvm.Cond.initialized "StatueRent$Days") ∈ lw_all := lw_g (lw_at lw_m1 25 rfl) rfl
theorem q457 : (Jvm.Cond.fieldLinkNest "StatueRent$Days" (15 : Nat) "StatueRent$State" "day" "I" "StatueRent") ∈ lw_tbl := lw_at lw_m2 97 rfl
theorem q1387 : (Jvm.Cond.instantiable "StatueRent$Days" (1 : Nat)) ∈ lw_all := lw_g (lw_at lw_m6 67 rfl) rfl
theorem q1392 : (Jvm.Cond.instanceMethod ({ cls := "StatueRent$Days", name := "<init>", desc := "(I)V" } : Jvm.MethodName)) ∈ lw_all := lw_g (lw_at lw_m6 72 rfl) rfl
theorem q1393 : (Jvm.Cond.code ({ cls := "StatueRent$Days", name := "<init>", desc := "(I)V" } : Jvm.MethodName) prog_9_method_1_code (2 : Nat) (Option.none : Option Jvm.ClassFile.FieldType)) ∈ lw_all := lw_g (lw_at lw_m6 73 rfl) rfl
theorem q1394 : (Jvm.Cond.methodLinkNest "StatueRent$Days" (3 : Nat) ({ cls := "StatueRent$Line", name := "<init>", desc := "()V" } : Jvm.MethodName) "StatueRent") ∈ lw_tbl := lw_at lw_m6 74 rfl
theorem q1398 : (Jvm.Cond.fieldLink "StatueRent$Days" (9 : Nat) "StatueRent$Days" "n" "I") ∈ lw_all := lw_g (lw_at lw_m6 78 rfl) rfl
theorem q1399 : (Jvm.Cond.laysFinal "StatueRent$Days" "StatueRent$Days" "n" "I") ∈ lw_all := lw_g (lw_at lw_m6 79 rfl) rfl
theorem q1400 : (Jvm.Cond.soleField "StatueRent$Days" "n") ∈ lw_all := lw_g (lw_at lw_m6 80 rfl) rfl
theorem q1401 : (Jvm.Cond.superclass "StatueRent$Days" "StatueRent$Line") ∈ lw_all := lw_g (lw_at lw_m6 81 rfl) rfl
theorem q1474 : (Jvm.Cond.selects "StatueRent$Days" ({ cls := "StatueRent$Line", name := "why", desc := "(LStatueRent$City;LStatueRent$State;)I" } : Jvm.MethodName) ({ cls := "StatueRent$Days", name := "why", desc := "(LStatueRent$City;LStatueRent$State;)I" } : Jvm.MethodName)) ∈ lw_all := lw_g (lw_at lw_m6 154 rfl) rfl
theorem q1475 : (Jvm.Cond.instanceMethod ({ cls := "StatueRent$Days", name := "why", desc := "(LStatueRent$City;LStatueRent$State;)I" } : Jvm.MethodName)) ∈ lw_all := lw_g (lw_at lw_m6 155 rfl) rfl
theorem q1476 : (Jvm.Cond.code ({ cls := "StatueRent$Days", name := "why", desc := "(LStatueRent$City;LStatueRent$State;)I" } : Jvm.MethodName) prog_9_method_2_code (3 : Nat) (Option.some Jvm.ClassFile.FieldType.int)) ∈ lw_all := lw_g (lw_at lw_m6 156 rfl) rfl
theorem q1496 : (Jvm.Cond.selects "StatueRent$Days" ({ cls := "StatueRent$Line", name := "live", desc := "(LStatueRent$City;LStatueRent$State;)V" } : Jvm.MethodName) ({ cls := "StatueRent$Days", name := "live", desc := "(LStatueRent$City;LStatueRent$State;)V" } : Jvm.MethodName)) ∈ lw_all := lw_g (lw_at lw_m6 176 rfl) rfl
theorem q1497 : (Jvm.Cond.instanceMethod ({ cls := "StatueRent$Days", name := "live", desc := "(LStatueRent$City;LStatueRent$State;)V" } : Jvm.MethodName)) ∈ lw_all := lw_g (lw_at lw_m6 177 rfl) rfl
theorem q1498 : (Jvm.Cond.code ({ cls := "StatueRent$Days", name := "live", desc := "(LStatueRent$City;LStatueRent$State;)V" } : Jvm.MethodName) prog_9_method_3_code (3 : Nat) (Option.none : Option Jvm.ClassFile.FieldType)) ∈ lw_all := lw_g (lw_at lw_m6 178 rfl) rfl
theorem q1499 : (Jvm.Cond.methodLink "StatueRent$Days" (20 : Nat) ({ cls := "StatueRent$State", name := "days", desc := "(LStatueRent$City;II)I" } : Jvm.MethodName)) ∈ lw_all := lw_g (lw_at lw_m6 179 rfl) rfl
theorem q2545 : (Jvm.Cond.castable "StatueRent$Days" "java/lang/Object") ∈ lw_tbl := lw_at lw_m11 25 rfl
theorem q2557 : (Jvm.Cond.castable "StatueRent$Days" "StatueRent$Line") ∈ lw_tbl := lw_at lw_m11 37 rfl
theorem in_X12 : ∀ w ∈ wsX120, w ∈ lw_all := lw_in wsX120 [1399] (by decide +kernel) (by decide +kernel)
/-! StatueRent$Moves -/
set_option maxRecDepth 100000
def RX13 : String := "StatueRent$Moves"
def TX13 : u_T := fun k => match k with
  | 0 => ("StatueRent$Moves", "a", "I", true)
  | _ => ("StatueRent$Moves", "q", "I", true)
def tyX13 : Nat → FieldType := fun k => match k with
  | 0 => .int
  | _ => .int
abbrev wsX130 : List Cond := u_ws RX13 TX13 2
theorem nmX13 : ∀ a, a < 2 → ∀ b, b < 2 → a ≠ b → (TX13 a).2.1 ≠ (TX13 b).2.1 := by decide +kernel
theorem tyX13_ok : ∀ k, k < 2 → parseFieldDescriptor (TX13 k).2.2.1 = some (tyX13 k) := by decide +kernel
abbrev cX13_init : ByteArray := prog_16_method_1_code
def yX13_init : MethodName := ⟨RX13, "<init>", "(II)V"⟩
def dkwX13_init_0 : List UInt8 := [42, 183, 0, 1, 42, 27, 181, 0, 7, 42, 28, 181, 0, 13, 177]
abbrev dktX13_init_0 : List UInt8 := dkwX13_init_0 ++ []
theorem dksX13_init_0 : cX13_init.data.toList.drop 0 = dktX13_init_0 := by decide +kernel
theorem dX13_init_0 : decode cX13_init 0 = .ok (.aload_n 0, 1) := dk_42 (dk_at dksX13_init_0 0 rfl rfl)
theorem dX13_init_1 : decode cX13_init 1 = .ok (.invokespecial 1, 3) := dk_183 0 1 (dk_at dksX13_init_0 1 rfl rfl)
theorem dX13_init_4 : decode cX13_init 4 = .ok (.aload_n 0, 1) := dk_42 (dk_at dksX13_init_0 4 rfl rfl)
theorem dX13_init_5 : decode cX13_init 5 = .ok (.iload_n 1, 1) := dk_27 (dk_at dksX13_init_0 5 rfl rfl)
theorem dX13_init_6 : decode cX13_init 6 = .ok (.putfield 7, 3) := dk_181 0 7 (dk_at dksX13_init_0 6 rfl rfl)
theorem dX13_init_9 : decode cX13_init 9 = .ok (.aload_n 0, 1) := dk_42 (dk_at dksX13_init_0 9 rfl rfl)
theorem dX13_init_10 : decode cX13_init 10 = .ok (.iload_n 2, 1) := dk_28 (dk_at dksX13_init_0 10 rfl rfl)
theorem dX13_init_11 : decode cX13_init 11 = .ok (.putfield 13, 3) := dk_181 0 13 (dk_at dksX13_init_0 11 rfl rfl)
theorem dX13_init_14 : decode cX13_init 14 = .ok (.return_, 1) := dk_177 (dk_at dksX13_init_0 14 rfl rfl)
abbrev cX13_why : ByteArray := prog_16_method_2_code
def yX13_why : MethodName := ⟨RX13, "why", "(LStatueRent$City;LStatueRent$State;)I"⟩
def dkwX13_why_0 : List UInt8 := [44, 43, 42, 180, 0, 7, 42, 180, 0, 13, 182, 0, 16, 172]
abbrev dktX13_why_0 : List UInt8 := dkwX13_why_0 ++ []
theorem dksX13_why_0 : cX13_why.data.toList.drop 0 = dktX13_why_0 := by decide +kernel
theorem dX13_why_0 : decode cX13_why 0 = .ok (.aload_n 2, 1) := dk_44 (dk_at dksX13_why_0 0 rfl rfl)
theorem dX13_why_1 : decode cX13_why 1 = .ok (.aload_n 1, 1) := dk_43 (dk_at dksX13_why_0 1 rfl rfl)
theorem dX13_why_2 : decode cX13_why 2 = .ok (.aload_n 0, 1) := dk_42 (dk_at dksX13_why_0 2 rfl rfl)
theorem dX13_why_3 : decode cX13_why 3 = .ok (.getfield 7, 3) := dk_180 0 7 (dk_at dksX13_why_0 3 rfl rfl)
theorem dX13_why_6 : decode cX13_why 6 = .ok (.aload_n 0, 1) := dk_42 (dk_at dksX13_why_0 6 rfl rfl)
theorem dX13_why_7 : decode cX13_why 7 = .ok (.getfield 13, 3) := dk_180 0 13 (dk_at dksX13_why_0 7 rfl rfl)
theorem dX13_why_10 : decode cX13_why 10 = .ok (.invokevirtual 16, 3) := dk_182 0 16 (dk_at dksX13_why_0 10 rfl rfl)
theorem dX13_why_13 : decode cX13_why 13 = .ok (.ireturn, 1) := dk_172 (dk_at dksX13_why_0 13 rfl rfl)
abbrev cX13_live : ByteArray := prog_16_method_3_code
def yX13_live : MethodName := ⟨RX13, "live", "(LStatueRent$City;LStatueRent$State;)V"⟩
def dkwX13_live_0 : List UInt8 := [44, 180, 0, 22, 42, 180, 0, 7, 50, 42, 180, 0, 13, 181, 0, 26, 177]
abbrev dktX13_live_0 : List UInt8 := dkwX13_live_0 ++ []
theorem dksX13_live_0 : cX13_live.data.toList.drop 0 = dktX13_live_0 := by decide +kernel
theorem dX13_live_0 : decode cX13_live 0 = .ok (.aload_n 2, 1) := dk_44 (dk_at dksX13_live_0 0 rfl rfl)
theorem dX13_live_1 : decode cX13_live 1 = .ok (.getfield 22, 3) := dk_180 0 22 (dk_at dksX13_live_0 1 rfl rfl)
theorem dX13_live_4 : decode cX13_live 4 = .ok (.aload_n 0, 1) := dk_42 (dk_at dksX13_live_0 4 rfl rfl)
theorem dX13_live_5 : decode cX13_live 5 = .ok (.getfield 7, 3) := dk_180 0 7 (dk_at dksX13_live_0 5 rfl rfl)
theorem dX13_live_8 : decode cX13_live 8 = .ok (.aaload, 1) := dk_50 (dk_at dksX13_live_0 8 rfl rfl)
theorem dX13_live_9 : decode cX13_live 9 = .ok (.aload_n 0, 1) := dk_42 (dk_at dksX13_live_0 9 rfl rfl)
theorem dX13_live_10 : decode cX13_live 10 = .ok (.getfield 13, 3) := dk_180 0 13 (dk_at dksX13_live_0 10 rfl rfl)
theorem dX13_live_13 : decode cX13_live 13 = .ok (.putfield 26, 3) := dk_181 0 26 (dk_at dksX13_live_0 13 rfl rfl)
theorem dX13_live_16 : decode cX13_live 16 = .ok (.return_, 1) := dk_177 (dk_at dksX13_live_0 16 rfl rfl)
theorem q146 : (Jvm.Cond.initialized "StatueRent$Moves") ∈ lw_all := lw_g (lw_at lw_m1 26 rfl) rfl
theorem q415 : (Jvm.Cond.fieldLinkNest "StatueRent$Moves" (26 : Nat) "StatueRent$Stone" "square" "I" "StatueRent") ∈ lw_tbl := lw_at lw_m2 55 rfl
theorem q450 : (Jvm.Cond.fieldLinkNest "StatueRent$Moves" (22 : Nat) "StatueRent$State" "stones" "[LStatueRent$Stone;" "StatueRent") ∈ lw_tbl := lw_at lw_m2 90 rfl
theorem q1407 : (Jvm.Cond.instantiable "StatueRent$Moves" (2 : Nat)) ∈ lw_all := lw_g (lw_at lw_m6 87 rfl) rfl
theorem q1412 : (Jvm.Cond.instanceMethod ({ cls := "StatueRent$Moves", name := "<init>", desc := "(II)V" } : Jvm.MethodName)) ∈ lw_all := lw_g (lw_at lw_m6 92 rfl) rfl
theorem q1413 : (Jvm.Cond.code ({ cls := "StatueRent$Moves", name := "<init>", desc := "(II)V" } : Jvm.MethodName) prog_16_method_1_code (3 : Nat) (Option.none : Option Jvm.ClassFile.FieldType)) ∈ lw_all := lw_g (lw_at lw_m6 93 rfl) rfl
theorem q1414 : (Jvm.Cond.methodLinkNest "StatueRent$Moves" (1 : Nat) ({ cls := "StatueRent$Line", name := "<init>", desc := "()V" } : Jvm.MethodName) "StatueRent") ∈ lw_tbl := lw_at lw_m6 94 rfl
theorem q1415 : (Jvm.Cond.fieldLink "StatueRent$Moves" (7 : Nat) "StatueRent$Moves" "a" "I") ∈ lw_all := lw_g (lw_at lw_m6 95 rfl) rfl
theorem q1416 : (Jvm.Cond.fieldLink "StatueRent$Moves" (13 : Nat) "StatueRent$Moves" "q" "I") ∈ lw_all := lw_g (lw_at lw_m6 96 rfl) rfl
theorem q1417 : (Jvm.Cond.laysFinal "StatueRent$Moves" "StatueRent$Moves" "a" "I") ∈ lw_all := lw_g (lw_at lw_m6 97 rfl) rfl
theorem q1418 : (Jvm.Cond.soleField "StatueRent$Moves" "a") ∈ lw_all := lw_g (lw_at lw_m6 98 rfl) rfl
theorem q1419 : (Jvm.Cond.laysFinal "StatueRent$Moves" "StatueRent$Moves" "q" "I") ∈ lw_all := lw_g (lw_at lw_m6 99 rfl) rfl
theorem q1420 : (Jvm.Cond.soleField "StatueRent$Moves" "q") ∈ lw_all := lw_g (lw_at lw_m6 100 rfl) rfl
theorem q1421 : (Jvm.Cond.superclass "StatueRent$Moves" "StatueRent$Line") ∈ lw_all := lw_g (lw_at lw_m6 101 rfl) rfl
theorem q1481 : (Jvm.Cond.selects "StatueRent$Moves" ({ cls := "StatueRent$Line", name := "why", desc := "(LStatueRent$City;LStatueRent$State;)I" } : Jvm.MethodName) ({ cls := "StatueRent$Moves", name := "why", desc := "(LStatueRent$City;LStatueRent$State;)I" } : Jvm.MethodName)) ∈ lw_all := lw_g (lw_at lw_m6 161 rfl) rfl
theorem q1482 : (Jvm.Cond.instanceMethod ({ cls := "StatueRent$Moves", name := "why", desc := "(LStatueRent$City;LStatueRent$State;)I" } : Jvm.MethodName)) ∈ lw_all := lw_g (lw_at lw_m6 162 rfl) rfl
theorem q1483 : (Jvm.Cond.code ({ cls := "StatueRent$Moves", name := "why", desc := "(LStatueRent$City;LStatueRent$State;)I" } : Jvm.MethodName) prog_16_method_2_code (3 : Nat) (Option.some Jvm.ClassFile.FieldType.int)) ∈ lw_all := lw_g (lw_at lw_m6 163 rfl) rfl
theorem q1484 : (Jvm.Cond.methodLink "StatueRent$Moves" (16 : Nat) ({ cls := "StatueRent$State", name := "whyMove", desc := "(LStatueRent$City;II)I" } : Jvm.MethodName)) ∈ lw_all := lw_g (lw_at lw_m6 164 rfl) rfl
theorem q1504 : (Jvm.Cond.selects "StatueRent$Moves" ({ cls := "StatueRent$Line", name := "live", desc := "(LStatueRent$City;LStatueRent$State;)V" } : Jvm.MethodName) ({ cls := "StatueRent$Moves", name := "live", desc := "(LStatueRent$City;LStatueRent$State;)V" } : Jvm.MethodName)) ∈ lw_all := lw_g (lw_at lw_m6 184 rfl) rfl
theorem q1505 : (Jvm.Cond.instanceMethod ({ cls := "StatueRent$Moves", name := "live", desc := "(LStatueRent$City;LStatueRent$State;)V" } : Jvm.MethodName)) ∈ lw_all := lw_g (lw_at lw_m6 185 rfl) rfl
theorem q1506 : (Jvm.Cond.code ({ cls := "StatueRent$Moves", name := "live", desc := "(LStatueRent$City;LStatueRent$State;)V" } : Jvm.MethodName) prog_16_method_3_code (3 : Nat) (Option.none : Option Jvm.ClassFile.FieldType)) ∈ lw_all := lw_g (lw_at lw_m6 186 rfl) rfl
theorem q2546 : (Jvm.Cond.castable "StatueRent$Moves" "java/lang/Object") ∈ lw_tbl := lw_at lw_m11 26 rfl
theorem q2558 : (Jvm.Cond.castable "StatueRent$Moves" "StatueRent$Line") ∈ lw_tbl := lw_at lw_m11 38 rfl
theorem in_X13 : ∀ w ∈ wsX130, w ∈ lw_all := lw_in wsX130 [1417, 1419] (by decide +kernel) (by decide +kernel)
/-! StatueRent$Cleans -/
set_option maxRecDepth 100000
def RX14 : String := "StatueRent$Cleans"
def TX14 : u_T := fun k => match k with
  | _ => ("StatueRent$Cleans", "a", "I", true)
def tyX14 : Nat → FieldType := fun k => match k with
  | _ => .int
abbrev wsX140 : List Cond := u_ws RX14 TX14 1
theorem nmX14 : ∀ a, a < 1 → ∀ b, b < 1 → a ≠ b → (TX14 a).2.1 ≠ (TX14 b).2.1 := by decide +kernel
theorem tyX14_ok : ∀ k, k < 1 → parseFieldDescriptor (TX14 k).2.2.1 = some (tyX14 k) := by decide +kernel
abbrev cX14_init : ByteArray := prog_6_method_1_code
def yX14_init : MethodName := ⟨RX14, "<init>", "(I)V"⟩
def dkwX14_init_0 : List UInt8 := [42, 183, 0, 1, 42, 27, 181, 0, 7, 177]
abbrev dktX14_init_0 : List UInt8 := dkwX14_init_0 ++ []
theorem dksX14_init_0 : cX14_init.data.toList.drop 0 = dktX14_init_0 := by decide +kernel
theorem dX14_init_0 : decode cX14_init 0 = .ok (.aload_n 0, 1) := dk_42 (dk_at dksX14_init_0 0 rfl rfl)
theorem dX14_init_1 : decode cX14_init 1 = .ok (.invokespecial 1, 3) := dk_183 0 1 (dk_at dksX14_init_0 1 rfl rfl)
theorem dX14_init_4 : decode cX14_init 4 = .ok (.aload_n 0, 1) := dk_42 (dk_at dksX14_init_0 4 rfl rfl)
theorem dX14_init_5 : decode cX14_init 5 = .ok (.iload_n 1, 1) := dk_27 (dk_at dksX14_init_0 5 rfl rfl)
theorem dX14_init_6 : decode cX14_init 6 = .ok (.putfield 7, 3) := dk_181 0 7 (dk_at dksX14_init_0 6 rfl rfl)
theorem dX14_init_9 : decode cX14_init 9 = .ok (.return_, 1) := dk_177 (dk_at dksX14_init_0 9 rfl rfl)
abbrev cX14_why : ByteArray := prog_6_method_2_code
def yX14_why : MethodName := ⟨RX14, "why", "(LStatueRent$City;LStatueRent$State;)I"⟩
def dkwX14_why_1 : List UInt8 := [182, 0, 13, 96, 172]
abbrev dktX14_why_1 : List UInt8 := dkwX14_why_1 ++ []
def dkwX14_why_0 : List UInt8 := [44, 42, 180, 0, 7, 182, 0, 13, 154, 0, 7, 3, 167, 0, 14, 16, 10, 44, 42, 180, 0, 7]
abbrev dktX14_why_0 : List UInt8 := dkwX14_why_0 ++ dktX14_why_1
theorem dksX14_why_0 : cX14_why.data.toList.drop 0 = dktX14_why_0 := by decide +kernel
theorem dksX14_why_1 : cX14_why.data.toList.drop 22 = dktX14_why_1 := dk_seg dksX14_why_0 22 rfl rfl
theorem dX14_why_0 : decode cX14_why 0 = .ok (.aload_n 2, 1) := dk_44 (dk_at dksX14_why_0 0 rfl rfl)
theorem dX14_why_1 : decode cX14_why 1 = .ok (.aload_n 0, 1) := dk_42 (dk_at dksX14_why_0 1 rfl rfl)
theorem dX14_why_2 : decode cX14_why 2 = .ok (.getfield 7, 3) := dk_180 0 7 (dk_at dksX14_why_0 2 rfl rfl)
theorem dX14_why_5 : decode cX14_why 5 = .ok (.invokevirtual 13, 3) := dk_182 0 13 (dk_at dksX14_why_0 5 rfl rfl)
theorem dX14_why_8 : decode cX14_why 8 = .ok (.ifCond .ne 7, 3) := dk_154 0 7 (dk_at dksX14_why_0 8 rfl rfl)
theorem dX14_why_11 : decode cX14_why 11 = .ok (.iconst 0, 1) := dk_3 (dk_at dksX14_why_0 11 rfl rfl)
theorem dX14_why_12 : decode cX14_why 12 = .ok (.goto 14, 3) := dk_167 0 14 (dk_at dksX14_why_0 12 rfl rfl)
theorem dX14_why_15 : decode cX14_why 15 = .ok (.bipush 10, 2) := dk_16 10 (dk_at dksX14_why_0 15 rfl rfl)
theorem dX14_why_17 : decode cX14_why 17 = .ok (.aload_n 2, 1) := dk_44 (dk_at dksX14_why_0 17 rfl rfl)
theorem dX14_why_18 : decode cX14_why 18 = .ok (.aload_n 0, 1) := dk_42 (dk_at dksX14_why_0 18 rfl rfl)
theorem dX14_why_19 : decode cX14_why 19 = .ok (.getfield 7, 3) := dk_180 0 7 (dk_at dksX14_why_0 19 rfl rfl)
theorem dX14_why_22 : decode cX14_why 22 = .ok (.invokevirtual 13, 3) := dk_182 0 13 (dk_at dksX14_why_1 0 rfl rfl)
theorem dX14_why_25 : decode cX14_why 25 = .ok (.iadd, 1) := dk_96 (dk_at dksX14_why_1 3 rfl rfl)
theorem dX14_why_26 : decode cX14_why 26 = .ok (.ireturn, 1) := dk_172 (dk_at dksX14_why_1 4 rfl rfl)
abbrev cX14_live : ByteArray := prog_6_method_3_code
def yX14_live : MethodName := ⟨RX14, "live", "(LStatueRent$City;LStatueRent$State;)V"⟩
def dkwX14_live_0 : List UInt8 := [44, 42, 180, 0, 7, 182, 0, 19, 177]
abbrev dktX14_live_0 : List UInt8 := dkwX14_live_0 ++ []
theorem dksX14_live_0 : cX14_live.data.toList.drop 0 = dktX14_live_0 := by decide +kernel
theorem dX14_live_0 : decode cX14_live 0 = .ok (.aload_n 2, 1) := dk_44 (dk_at dksX14_live_0 0 rfl rfl)
theorem dX14_live_1 : decode cX14_live 1 = .ok (.aload_n 0, 1) := dk_42 (dk_at dksX14_live_0 1 rfl rfl)
theorem dX14_live_2 : decode cX14_live 2 = .ok (.getfield 7, 3) := dk_180 0 7 (dk_at dksX14_live_0 2 rfl rfl)
theorem dX14_live_5 : decode cX14_live 5 = .ok (.invokevirtual 19, 3) := dk_182 0 19 (dk_at dksX14_live_0 5 rfl rfl)
theorem dX14_live_8 : decode cX14_live 8 = .ok (.return_, 1) := dk_177 (dk_at dksX14_live_0 8 rfl rfl)
theorem q147 : (Jvm.Cond.initialized "StatueRent$Cleans") ∈ lw_all := lw_g (lw_at lw_m1 27 rfl) rfl
theorem q1424 : (Jvm.Cond.instantiable "StatueRent$Cleans" (1 : Nat)) ∈ lw_all := lw_g (lw_at lw_m6 104 rfl) rfl
theorem q1426 : (Jvm.Cond.instanceMethod ({ cls := "StatueRent$Cleans", name := "<init>", desc := "(I)V" } : Jvm.MethodName)) ∈ lw_all := lw_g (lw_at lw_m6 106 rfl) rfl
theorem q1427 : (Jvm.Cond.code ({ cls := "StatueRent$Cleans", name := "<init>", desc := "(I)V" } : Jvm.MethodName) prog_6_method_1_code (2 : Nat) (Option.none : Option Jvm.ClassFile.FieldType)) ∈ lw_all := lw_g (lw_at lw_m6 107 rfl) rfl
theorem q1428 : (Jvm.Cond.methodLinkNest "StatueRent$Cleans" (1 : Nat) ({ cls := "StatueRent$Line", name := "<init>", desc := "()V" } : Jvm.MethodName) "StatueRent") ∈ lw_tbl := lw_at lw_m6 108 rfl
theorem q1429 : (Jvm.Cond.fieldLink "StatueRent$Cleans" (7 : Nat) "StatueRent$Cleans" "a" "I") ∈ lw_all := lw_g (lw_at lw_m6 109 rfl) rfl
theorem q1430 : (Jvm.Cond.laysFinal "StatueRent$Cleans" "StatueRent$Cleans" "a" "I") ∈ lw_all := lw_g (lw_at lw_m6 110 rfl) rfl
theorem q1431 : (Jvm.Cond.soleField "StatueRent$Cleans" "a") ∈ lw_all := lw_g (lw_at lw_m6 111 rfl) rfl
theorem q1432 : (Jvm.Cond.superclass "StatueRent$Cleans" "StatueRent$Line") ∈ lw_all := lw_g (lw_at lw_m6 112 rfl) rfl
theorem q1470 : (Jvm.Cond.selects "StatueRent$Cleans" ({ cls := "StatueRent$Line", name := "why", desc := "(LStatueRent$City;LStatueRent$State;)I" } : Jvm.MethodName) ({ cls := "StatueRent$Cleans", name := "why", desc := "(LStatueRent$City;LStatueRent$State;)I" } : Jvm.MethodName)) ∈ lw_all := lw_g (lw_at lw_m6 150 rfl) rfl
theorem q1471 : (Jvm.Cond.instanceMethod ({ cls := "StatueRent$Cleans", name := "why", desc := "(LStatueRent$City;LStatueRent$State;)I" } : Jvm.MethodName)) ∈ lw_all := lw_g (lw_at lw_m6 151 rfl) rfl
theorem q1472 : (Jvm.Cond.code ({ cls := "StatueRent$Cleans", name := "why", desc := "(LStatueRent$City;LStatueRent$State;)I" } : Jvm.MethodName) prog_6_method_2_code (3 : Nat) (Option.some Jvm.ClassFile.FieldType.int)) ∈ lw_all := lw_g (lw_at lw_m6 152 rfl) rfl
theorem q1473 : (Jvm.Cond.methodLink "StatueRent$Cleans" (13 : Nat) ({ cls := "StatueRent$State", name := "whyClean", desc := "(I)I" } : Jvm.MethodName)) ∈ lw_all := lw_g (lw_at lw_m6 153 rfl) rfl
theorem q1492 : (Jvm.Cond.selects "StatueRent$Cleans" ({ cls := "StatueRent$Line", name := "live", desc := "(LStatueRent$City;LStatueRent$State;)V" } : Jvm.MethodName) ({ cls := "StatueRent$Cleans", name := "live", desc := "(LStatueRent$City;LStatueRent$State;)V" } : Jvm.MethodName)) ∈ lw_all := lw_g (lw_at lw_m6 172 rfl) rfl
theorem q1493 : (Jvm.Cond.instanceMethod ({ cls := "StatueRent$Cleans", name := "live", desc := "(LStatueRent$City;LStatueRent$State;)V" } : Jvm.MethodName)) ∈ lw_all := lw_g (lw_at lw_m6 173 rfl) rfl
theorem q1494 : (Jvm.Cond.code ({ cls := "StatueRent$Cleans", name := "live", desc := "(LStatueRent$City;LStatueRent$State;)V" } : Jvm.MethodName) prog_6_method_3_code (3 : Nat) (Option.none : Option Jvm.ClassFile.FieldType)) ∈ lw_all := lw_g (lw_at lw_m6 174 rfl) rfl
theorem q1495 : (Jvm.Cond.methodLink "StatueRent$Cleans" (19 : Nat) ({ cls := "StatueRent$State", name := "clean", desc := "(I)V" } : Jvm.MethodName)) ∈ lw_all := lw_g (lw_at lw_m6 175 rfl) rfl
theorem q2547 : (Jvm.Cond.castable "StatueRent$Cleans" "java/lang/Object") ∈ lw_tbl := lw_at lw_m11 27 rfl
theorem q2559 : (Jvm.Cond.castable "StatueRent$Cleans" "StatueRent$Line") ∈ lw_tbl := lw_at lw_m11 39 rfl
theorem in_X14 : ∀ w ∈ wsX140, w ∈ lw_all := lw_in wsX140 [1430] (by decide +kernel) (by decide +kernel)
/-! StatueRent$Shows -/
set_option maxRecDepth 100000
def RX15 : String := "StatueRent$Shows"
def TX15 : u_T := fun k => match k with
  | 0 => ("StatueRent$Shows", "a", "I", true)
  | _ => ("StatueRent$Shows", "k", "I", true)
def tyX15 : Nat → FieldType := fun k => match k with
  | 0 => .int
  | _ => .int
abbrev wsX150 : List Cond := u_ws RX15 TX15 2
theorem nmX15 : ∀ a, a < 2 → ∀ b, b < 2 → a ≠ b → (TX15 a).2.1 ≠ (TX15 b).2.1 := by decide +kernel
theorem tyX15_ok : ∀ k, k < 2 → parseFieldDescriptor (TX15 k).2.2.1 = some (tyX15 k) := by decide +kernel
abbrev cX15_init : ByteArray := prog_20_method_1_code
def yX15_init : MethodName := ⟨RX15, "<init>", "(II)V"⟩
def dkwX15_init_0 : List UInt8 := [42, 183, 0, 1, 42, 27, 181, 0, 7, 42, 28, 181, 0, 13, 177]
abbrev dktX15_init_0 : List UInt8 := dkwX15_init_0 ++ []
theorem dksX15_init_0 : cX15_init.data.toList.drop 0 = dktX15_init_0 := by decide +kernel
theorem dX15_init_0 : decode cX15_init 0 = .ok (.aload_n 0, 1) := dk_42 (dk_at dksX15_init_0 0 rfl rfl)
theorem dX15_init_1 : decode cX15_init 1 = .ok (.invokespecial 1, 3) := dk_183 0 1 (dk_at dksX15_init_0 1 rfl rfl)
theorem dX15_init_4 : decode cX15_init 4 = .ok (.aload_n 0, 1) := dk_42 (dk_at dksX15_init_0 4 rfl rfl)
theorem dX15_init_5 : decode cX15_init 5 = .ok (.iload_n 1, 1) := dk_27 (dk_at dksX15_init_0 5 rfl rfl)
theorem dX15_init_6 : decode cX15_init 6 = .ok (.putfield 7, 3) := dk_181 0 7 (dk_at dksX15_init_0 6 rfl rfl)
theorem dX15_init_9 : decode cX15_init 9 = .ok (.aload_n 0, 1) := dk_42 (dk_at dksX15_init_0 9 rfl rfl)
theorem dX15_init_10 : decode cX15_init 10 = .ok (.iload_n 2, 1) := dk_28 (dk_at dksX15_init_0 10 rfl rfl)
theorem dX15_init_11 : decode cX15_init 11 = .ok (.putfield 13, 3) := dk_181 0 13 (dk_at dksX15_init_0 11 rfl rfl)
theorem dX15_init_14 : decode cX15_init 14 = .ok (.return_, 1) := dk_177 (dk_at dksX15_init_0 14 rfl rfl)
abbrev cX15_why : ByteArray := prog_20_method_2_code
def yX15_why : MethodName := ⟨RX15, "why", "(LStatueRent$City;LStatueRent$State;)I"⟩
def dkwX15_why_1 : List UInt8 := [180, 0, 7, 42, 180, 0, 13, 182, 0, 16, 96, 172]
abbrev dktX15_why_1 : List UInt8 := dkwX15_why_1 ++ []
def dkwX15_why_0 : List UInt8 := [44, 42, 180, 0, 7, 42, 180, 0, 13, 182, 0, 16, 154, 0, 7, 3, 167, 0, 18, 16, 20, 44, 42]
abbrev dktX15_why_0 : List UInt8 := dkwX15_why_0 ++ dktX15_why_1
theorem dksX15_why_0 : cX15_why.data.toList.drop 0 = dktX15_why_0 := by decide +kernel
theorem dksX15_why_1 : cX15_why.data.toList.drop 23 = dktX15_why_1 := dk_seg dksX15_why_0 23 rfl rfl
theorem dX15_why_0 : decode cX15_why 0 = .ok (.aload_n 2, 1) := dk_44 (dk_at dksX15_why_0 0 rfl rfl)
theorem dX15_why_1 : decode cX15_why 1 = .ok (.aload_n 0, 1) := dk_42 (dk_at dksX15_why_0 1 rfl rfl)
theorem dX15_why_2 : decode cX15_why 2 = .ok (.getfield 7, 3) := dk_180 0 7 (dk_at dksX15_why_0 2 rfl rfl)
theorem dX15_why_5 : decode cX15_why 5 = .ok (.aload_n 0, 1) := dk_42 (dk_at dksX15_why_0 5 rfl rfl)
theorem dX15_why_6 : decode cX15_why 6 = .ok (.getfield 13, 3) := dk_180 0 13 (dk_at dksX15_why_0 6 rfl rfl)
theorem dX15_why_9 : decode cX15_why 9 = .ok (.invokevirtual 16, 3) := dk_182 0 16 (dk_at dksX15_why_0 9 rfl rfl)
theorem dX15_why_12 : decode cX15_why 12 = .ok (.ifCond .ne 7, 3) := dk_154 0 7 (dk_at dksX15_why_0 12 rfl rfl)
theorem dX15_why_15 : decode cX15_why 15 = .ok (.iconst 0, 1) := dk_3 (dk_at dksX15_why_0 15 rfl rfl)
theorem dX15_why_16 : decode cX15_why 16 = .ok (.goto 18, 3) := dk_167 0 18 (dk_at dksX15_why_0 16 rfl rfl)
theorem dX15_why_19 : decode cX15_why 19 = .ok (.bipush 20, 2) := dk_16 20 (dk_at dksX15_why_0 19 rfl rfl)
theorem dX15_why_21 : decode cX15_why 21 = .ok (.aload_n 2, 1) := dk_44 (dk_at dksX15_why_0 21 rfl rfl)
theorem dX15_why_22 : decode cX15_why 22 = .ok (.aload_n 0, 1) := dk_42 (dk_at dksX15_why_0 22 rfl rfl)
theorem dX15_why_23 : decode cX15_why 23 = .ok (.getfield 7, 3) := dk_180 0 7 (dk_at dksX15_why_1 0 rfl rfl)
theorem dX15_why_26 : decode cX15_why 26 = .ok (.aload_n 0, 1) := dk_42 (dk_at dksX15_why_1 3 rfl rfl)
theorem dX15_why_27 : decode cX15_why 27 = .ok (.getfield 13, 3) := dk_180 0 13 (dk_at dksX15_why_1 4 rfl rfl)
theorem dX15_why_30 : decode cX15_why 30 = .ok (.invokevirtual 16, 3) := dk_182 0 16 (dk_at dksX15_why_1 7 rfl rfl)
theorem dX15_why_33 : decode cX15_why 33 = .ok (.iadd, 1) := dk_96 (dk_at dksX15_why_1 10 rfl rfl)
theorem dX15_why_34 : decode cX15_why 34 = .ok (.ireturn, 1) := dk_172 (dk_at dksX15_why_1 11 rfl rfl)
abbrev cX15_live : ByteArray := prog_20_method_3_code
def yX15_live : MethodName := ⟨RX15, "live", "(LStatueRent$City;LStatueRent$State;)V"⟩
def dkwX15_live_0 : List UInt8 := [44, 42, 180, 0, 7, 42, 180, 0, 13, 182, 0, 22, 177]
abbrev dktX15_live_0 : List UInt8 := dkwX15_live_0 ++ []
theorem dksX15_live_0 : cX15_live.data.toList.drop 0 = dktX15_live_0 := by decide +kernel
theorem dX15_live_0 : decode cX15_live 0 = .ok (.aload_n 2, 1) := dk_44 (dk_at dksX15_live_0 0 rfl rfl)
theorem dX15_live_1 : decode cX15_live 1 = .ok (.aload_n 0, 1) := dk_42 (dk_at dksX15_live_0 1 rfl rfl)
theorem dX15_live_2 : decode cX15_live 2 = .ok (.getfield 7, 3) := dk_180 0 7 (dk_at dksX15_live_0 2 rfl rfl)
theorem dX15_live_5 : decode cX15_live 5 = .ok (.aload_n 0, 1) := dk_42 (dk_at dksX15_live_0 5 rfl rfl)
theorem dX15_live_6 : decode cX15_live 6 = .ok (.getfield 13, 3) := dk_180 0 13 (dk_at dksX15_live_0 6 rfl rfl)
theorem dX15_live_9 : decode cX15_live 9 = .ok (.invokevirtual 22, 3) := dk_182 0 22 (dk_at dksX15_live_0 9 rfl rfl)
theorem dX15_live_12 : decode cX15_live 12 = .ok (.return_, 1) := dk_177 (dk_at dksX15_live_0 12 rfl rfl)
theorem q148 : (Jvm.Cond.initialized "StatueRent$Shows") ∈ lw_all := lw_g (lw_at lw_m1 28 rfl) rfl
theorem q1435 : (Jvm.Cond.instantiable "StatueRent$Shows" (2 : Nat)) ∈ lw_all := lw_g (lw_at lw_m6 115 rfl) rfl
theorem q1437 : (Jvm.Cond.instanceMethod ({ cls := "StatueRent$Shows", name := "<init>", desc := "(II)V" } : Jvm.MethodName)) ∈ lw_all := lw_g (lw_at lw_m6 117 rfl) rfl
theorem q1438 : (Jvm.Cond.code ({ cls := "StatueRent$Shows", name := "<init>", desc := "(II)V" } : Jvm.MethodName) prog_20_method_1_code (3 : Nat) (Option.none : Option Jvm.ClassFile.FieldType)) ∈ lw_all := lw_g (lw_at lw_m6 118 rfl) rfl
theorem q1439 : (Jvm.Cond.methodLinkNest "StatueRent$Shows" (1 : Nat) ({ cls := "StatueRent$Line", name := "<init>", desc := "()V" } : Jvm.MethodName) "StatueRent") ∈ lw_tbl := lw_at lw_m6 119 rfl
theorem q1440 : (Jvm.Cond.fieldLink "StatueRent$Shows" (7 : Nat) "StatueRent$Shows" "a" "I") ∈ lw_all := lw_g (lw_at lw_m6 120 rfl) rfl
theorem q1441 : (Jvm.Cond.fieldLink "StatueRent$Shows" (13 : Nat) "StatueRent$Shows" "k" "I") ∈ lw_all := lw_g (lw_at lw_m6 121 rfl) rfl
theorem q1442 : (Jvm.Cond.laysFinal "StatueRent$Shows" "StatueRent$Shows" "a" "I") ∈ lw_all := lw_g (lw_at lw_m6 122 rfl) rfl
theorem q1443 : (Jvm.Cond.soleField "StatueRent$Shows" "a") ∈ lw_all := lw_g (lw_at lw_m6 123 rfl) rfl
theorem q1444 : (Jvm.Cond.laysFinal "StatueRent$Shows" "StatueRent$Shows" "k" "I") ∈ lw_all := lw_g (lw_at lw_m6 124 rfl) rfl
theorem q1445 : (Jvm.Cond.soleField "StatueRent$Shows" "k") ∈ lw_all := lw_g (lw_at lw_m6 125 rfl) rfl
theorem q1446 : (Jvm.Cond.superclass "StatueRent$Shows" "StatueRent$Line") ∈ lw_all := lw_g (lw_at lw_m6 126 rfl) rfl
theorem q1485 : (Jvm.Cond.selects "StatueRent$Shows" ({ cls := "StatueRent$Line", name := "why", desc := "(LStatueRent$City;LStatueRent$State;)I" } : Jvm.MethodName) ({ cls := "StatueRent$Shows", name := "why", desc := "(LStatueRent$City;LStatueRent$State;)I" } : Jvm.MethodName)) ∈ lw_all := lw_g (lw_at lw_m6 165 rfl) rfl
theorem q1486 : (Jvm.Cond.instanceMethod ({ cls := "StatueRent$Shows", name := "why", desc := "(LStatueRent$City;LStatueRent$State;)I" } : Jvm.MethodName)) ∈ lw_all := lw_g (lw_at lw_m6 166 rfl) rfl
theorem q1487 : (Jvm.Cond.code ({ cls := "StatueRent$Shows", name := "why", desc := "(LStatueRent$City;LStatueRent$State;)I" } : Jvm.MethodName) prog_20_method_2_code (3 : Nat) (Option.some Jvm.ClassFile.FieldType.int)) ∈ lw_all := lw_g (lw_at lw_m6 167 rfl) rfl
theorem q1488 : (Jvm.Cond.methodLink "StatueRent$Shows" (16 : Nat) ({ cls := "StatueRent$State", name := "whyShow", desc := "(II)I" } : Jvm.MethodName)) ∈ lw_all := lw_g (lw_at lw_m6 168 rfl) rfl
theorem q1507 : (Jvm.Cond.selects "StatueRent$Shows" ({ cls := "StatueRent$Line", name := "live", desc := "(LStatueRent$City;LStatueRent$State;)V" } : Jvm.MethodName) ({ cls := "StatueRent$Shows", name := "live", desc := "(LStatueRent$City;LStatueRent$State;)V" } : Jvm.MethodName)) ∈ lw_all := lw_g (lw_at lw_m6 187 rfl) rfl
theorem q1508 : (Jvm.Cond.instanceMethod ({ cls := "StatueRent$Shows", name := "live", desc := "(LStatueRent$City;LStatueRent$State;)V" } : Jvm.MethodName)) ∈ lw_all := lw_g (lw_at lw_m6 188 rfl) rfl
theorem q1509 : (Jvm.Cond.code ({ cls := "StatueRent$Shows", name := "live", desc := "(LStatueRent$City;LStatueRent$State;)V" } : Jvm.MethodName) prog_20_method_3_code (3 : Nat) (Option.none : Option Jvm.ClassFile.FieldType)) ∈ lw_all := lw_g (lw_at lw_m6 189 rfl) rfl
theorem q1510 : (Jvm.Cond.methodLink "StatueRent$Shows" (22 : Nat) ({ cls := "StatueRent$State", name := "show", desc := "(II)V" } : Jvm.MethodName)) ∈ lw_all := lw_g (lw_at lw_m6 190 rfl) rfl
theorem q2548 : (Jvm.Cond.castable "StatueRent$Shows" "java/lang/Object") ∈ lw_tbl := lw_at lw_m11 28 rfl
theorem q2560 : (Jvm.Cond.castable "StatueRent$Shows" "StatueRent$Line") ∈ lw_tbl := lw_at lw_m11 40 rfl
theorem in_X15 : ∀ w ∈ wsX150, w ∈ lw_all := lw_in wsX150 [1442, 1444] (by decide +kernel) (by decide +kernel)
/-! StatueRent$Lends -/
set_option maxRecDepth 100000
def RX16 : String := "StatueRent$Lends"
def TX16 : u_T := fun k => match k with
  | 0 => ("StatueRent$Lends", "a", "I", true)
  | 1 => ("StatueRent$Lends", "b", "I", true)
  | _ => ("StatueRent$Lends", "n", "I", true)
def tyX16 : Nat → FieldType := fun k => match k with
  | 0 => .int
  | 1 => .int
  | _ => .int
abbrev wsX160 : List Cond := u_ws RX16 TX16 3
theorem nmX16 : ∀ a, a < 3 → ∀ b, b < 3 → a ≠ b → (TX16 a).2.1 ≠ (TX16 b).2.1 := by decide +kernel
theorem tyX16_ok : ∀ k, k < 3 → parseFieldDescriptor (TX16 k).2.2.1 = some (tyX16 k) := by decide +kernel
abbrev cX16_init : ByteArray := prog_12_method_1_code
def yX16_init : MethodName := ⟨RX16, "<init>", "(III)V"⟩
def dkwX16_init_0 : List UInt8 := [42, 183, 0, 1, 42, 27, 181, 0, 7, 42, 28, 181, 0, 13, 42, 29, 181, 0, 16, 177]
abbrev dktX16_init_0 : List UInt8 := dkwX16_init_0 ++ []
theorem dksX16_init_0 : cX16_init.data.toList.drop 0 = dktX16_init_0 := by decide +kernel
theorem dX16_init_0 : decode cX16_init 0 = .ok (.aload_n 0, 1) := dk_42 (dk_at dksX16_init_0 0 rfl rfl)
theorem dX16_init_1 : decode cX16_init 1 = .ok (.invokespecial 1, 3) := dk_183 0 1 (dk_at dksX16_init_0 1 rfl rfl)
theorem dX16_init_4 : decode cX16_init 4 = .ok (.aload_n 0, 1) := dk_42 (dk_at dksX16_init_0 4 rfl rfl)
theorem dX16_init_5 : decode cX16_init 5 = .ok (.iload_n 1, 1) := dk_27 (dk_at dksX16_init_0 5 rfl rfl)
theorem dX16_init_6 : decode cX16_init 6 = .ok (.putfield 7, 3) := dk_181 0 7 (dk_at dksX16_init_0 6 rfl rfl)
theorem dX16_init_9 : decode cX16_init 9 = .ok (.aload_n 0, 1) := dk_42 (dk_at dksX16_init_0 9 rfl rfl)
theorem dX16_init_10 : decode cX16_init 10 = .ok (.iload_n 2, 1) := dk_28 (dk_at dksX16_init_0 10 rfl rfl)
theorem dX16_init_11 : decode cX16_init 11 = .ok (.putfield 13, 3) := dk_181 0 13 (dk_at dksX16_init_0 11 rfl rfl)
theorem dX16_init_14 : decode cX16_init 14 = .ok (.aload_n 0, 1) := dk_42 (dk_at dksX16_init_0 14 rfl rfl)
theorem dX16_init_15 : decode cX16_init 15 = .ok (.iload_n 3, 1) := dk_29 (dk_at dksX16_init_0 15 rfl rfl)
theorem dX16_init_16 : decode cX16_init 16 = .ok (.putfield 16, 3) := dk_181 0 16 (dk_at dksX16_init_0 16 rfl rfl)
theorem dX16_init_19 : decode cX16_init 19 = .ok (.return_, 1) := dk_177 (dk_at dksX16_init_0 19 rfl rfl)
abbrev cX16_why : ByteArray := prog_12_method_2_code
def yX16_why : MethodName := ⟨RX16, "why", "(LStatueRent$City;LStatueRent$State;)I"⟩
def dkwX16_why_2 : List UInt8 := [42, 180, 0, 16, 182, 0, 19, 96, 172]
abbrev dktX16_why_2 : List UInt8 := dkwX16_why_2 ++ []
def dkwX16_why_1 : List UInt8 := [180, 0, 16, 182, 0, 19, 154, 0, 7, 3, 167, 0, 22, 16, 30, 44, 42, 180, 0, 7, 42, 180, 0, 13]
abbrev dktX16_why_1 : List UInt8 := dkwX16_why_1 ++ dktX16_why_2
def dkwX16_why_0 : List UInt8 := [42, 180, 0, 7, 42, 180, 0, 13, 160, 0, 6, 16, 39, 172, 44, 42, 180, 0, 7, 42, 180, 0, 13, 42]
abbrev dktX16_why_0 : List UInt8 := dkwX16_why_0 ++ dktX16_why_1
theorem dksX16_why_0 : cX16_why.data.toList.drop 0 = dktX16_why_0 := by decide +kernel
theorem dksX16_why_1 : cX16_why.data.toList.drop 24 = dktX16_why_1 := dk_seg dksX16_why_0 24 rfl rfl
theorem dksX16_why_2 : cX16_why.data.toList.drop 48 = dktX16_why_2 := dk_seg dksX16_why_1 24 rfl rfl
theorem dX16_why_0 : decode cX16_why 0 = .ok (.aload_n 0, 1) := dk_42 (dk_at dksX16_why_0 0 rfl rfl)
theorem dX16_why_1 : decode cX16_why 1 = .ok (.getfield 7, 3) := dk_180 0 7 (dk_at dksX16_why_0 1 rfl rfl)
theorem dX16_why_4 : decode cX16_why 4 = .ok (.aload_n 0, 1) := dk_42 (dk_at dksX16_why_0 4 rfl rfl)
theorem dX16_why_5 : decode cX16_why 5 = .ok (.getfield 13, 3) := dk_180 0 13 (dk_at dksX16_why_0 5 rfl rfl)
theorem dX16_why_8 : decode cX16_why 8 = .ok (.if_icmp .ne 6, 3) := dk_160 0 6 (dk_at dksX16_why_0 8 rfl rfl)
theorem dX16_why_11 : decode cX16_why 11 = .ok (.bipush 39, 2) := dk_16 39 (dk_at dksX16_why_0 11 rfl rfl)
theorem dX16_why_13 : decode cX16_why 13 = .ok (.ireturn, 1) := dk_172 (dk_at dksX16_why_0 13 rfl rfl)
theorem dX16_why_14 : decode cX16_why 14 = .ok (.aload_n 2, 1) := dk_44 (dk_at dksX16_why_0 14 rfl rfl)
theorem dX16_why_15 : decode cX16_why 15 = .ok (.aload_n 0, 1) := dk_42 (dk_at dksX16_why_0 15 rfl rfl)
theorem dX16_why_16 : decode cX16_why 16 = .ok (.getfield 7, 3) := dk_180 0 7 (dk_at dksX16_why_0 16 rfl rfl)
theorem dX16_why_19 : decode cX16_why 19 = .ok (.aload_n 0, 1) := dk_42 (dk_at dksX16_why_0 19 rfl rfl)
theorem dX16_why_20 : decode cX16_why 20 = .ok (.getfield 13, 3) := dk_180 0 13 (dk_at dksX16_why_0 20 rfl rfl)
theorem dX16_why_23 : decode cX16_why 23 = .ok (.aload_n 0, 1) := dk_42 (dk_at dksX16_why_0 23 rfl rfl)
theorem dX16_why_24 : decode cX16_why 24 = .ok (.getfield 16, 3) := dk_180 0 16 (dk_at dksX16_why_1 0 rfl rfl)
theorem dX16_why_27 : decode cX16_why 27 = .ok (.invokevirtual 19, 3) := dk_182 0 19 (dk_at dksX16_why_1 3 rfl rfl)
theorem dX16_why_30 : decode cX16_why 30 = .ok (.ifCond .ne 7, 3) := dk_154 0 7 (dk_at dksX16_why_1 6 rfl rfl)
theorem dX16_why_33 : decode cX16_why 33 = .ok (.iconst 0, 1) := dk_3 (dk_at dksX16_why_1 9 rfl rfl)
theorem dX16_why_34 : decode cX16_why 34 = .ok (.goto 22, 3) := dk_167 0 22 (dk_at dksX16_why_1 10 rfl rfl)
theorem dX16_why_37 : decode cX16_why 37 = .ok (.bipush 30, 2) := dk_16 30 (dk_at dksX16_why_1 13 rfl rfl)
theorem dX16_why_39 : decode cX16_why 39 = .ok (.aload_n 2, 1) := dk_44 (dk_at dksX16_why_1 15 rfl rfl)
theorem dX16_why_40 : decode cX16_why 40 = .ok (.aload_n 0, 1) := dk_42 (dk_at dksX16_why_1 16 rfl rfl)
theorem dX16_why_41 : decode cX16_why 41 = .ok (.getfield 7, 3) := dk_180 0 7 (dk_at dksX16_why_1 17 rfl rfl)
theorem dX16_why_44 : decode cX16_why 44 = .ok (.aload_n 0, 1) := dk_42 (dk_at dksX16_why_1 20 rfl rfl)
theorem dX16_why_45 : decode cX16_why 45 = .ok (.getfield 13, 3) := dk_180 0 13 (dk_at dksX16_why_1 21 rfl rfl)
theorem dX16_why_48 : decode cX16_why 48 = .ok (.aload_n 0, 1) := dk_42 (dk_at dksX16_why_2 0 rfl rfl)
theorem dX16_why_49 : decode cX16_why 49 = .ok (.getfield 16, 3) := dk_180 0 16 (dk_at dksX16_why_2 1 rfl rfl)
theorem dX16_why_52 : decode cX16_why 52 = .ok (.invokevirtual 19, 3) := dk_182 0 19 (dk_at dksX16_why_2 4 rfl rfl)
theorem dX16_why_55 : decode cX16_why 55 = .ok (.iadd, 1) := dk_96 (dk_at dksX16_why_2 7 rfl rfl)
theorem dX16_why_56 : decode cX16_why 56 = .ok (.ireturn, 1) := dk_172 (dk_at dksX16_why_2 8 rfl rfl)
abbrev cX16_live : ByteArray := prog_12_method_3_code
def yX16_live : MethodName := ⟨RX16, "live", "(LStatueRent$City;LStatueRent$State;)V"⟩
def dkwX16_live_0 : List UInt8 := [44, 42, 180, 0, 7, 42, 180, 0, 13, 42, 180, 0, 16, 182, 0, 25, 177]
abbrev dktX16_live_0 : List UInt8 := dkwX16_live_0 ++ []
theorem dksX16_live_0 : cX16_live.data.toList.drop 0 = dktX16_live_0 := by decide +kernel
theorem dX16_live_0 : decode cX16_live 0 = .ok (.aload_n 2, 1) := dk_44 (dk_at dksX16_live_0 0 rfl rfl)
theorem dX16_live_1 : decode cX16_live 1 = .ok (.aload_n 0, 1) := dk_42 (dk_at dksX16_live_0 1 rfl rfl)
theorem dX16_live_2 : decode cX16_live 2 = .ok (.getfield 7, 3) := dk_180 0 7 (dk_at dksX16_live_0 2 rfl rfl)
theorem dX16_live_5 : decode cX16_live 5 = .ok (.aload_n 0, 1) := dk_42 (dk_at dksX16_live_0 5 rfl rfl)
theorem dX16_live_6 : decode cX16_live 6 = .ok (.getfield 13, 3) := dk_180 0 13 (dk_at dksX16_live_0 6 rfl rfl)
theorem dX16_live_9 : decode cX16_live 9 = .ok (.aload_n 0, 1) := dk_42 (dk_at dksX16_live_0 9 rfl rfl)
theorem dX16_live_10 : decode cX16_live 10 = .ok (.getfield 16, 3) := dk_180 0 16 (dk_at dksX16_live_0 10 rfl rfl)
theorem dX16_live_13 : decode cX16_live 13 = .ok (.invokevirtual 25, 3) := dk_182 0 25 (dk_at dksX16_live_0 13 rfl rfl)
theorem dX16_live_16 : decode cX16_live 16 = .ok (.return_, 1) := dk_177 (dk_at dksX16_live_0 16 rfl rfl)
theorem q149 : (Jvm.Cond.initialized "StatueRent$Lends") ∈ lw_all := lw_g (lw_at lw_m1 29 rfl) rfl
theorem q1449 : (Jvm.Cond.instantiable "StatueRent$Lends" (3 : Nat)) ∈ lw_all := lw_g (lw_at lw_m6 129 rfl) rfl
theorem q1451 : (Jvm.Cond.instanceMethod ({ cls := "StatueRent$Lends", name := "<init>", desc := "(III)V" } : Jvm.MethodName)) ∈ lw_all := lw_g (lw_at lw_m6 131 rfl) rfl
theorem q1452 : (Jvm.Cond.code ({ cls := "StatueRent$Lends", name := "<init>", desc := "(III)V" } : Jvm.MethodName) prog_12_method_1_code (4 : Nat) (Option.none : Option Jvm.ClassFile.FieldType)) ∈ lw_all := lw_g (lw_at lw_m6 132 rfl) rfl
theorem q1453 : (Jvm.Cond.methodLinkNest "StatueRent$Lends" (1 : Nat) ({ cls := "StatueRent$Line", name := "<init>", desc := "()V" } : Jvm.MethodName) "StatueRent") ∈ lw_tbl := lw_at lw_m6 133 rfl
theorem q1454 : (Jvm.Cond.fieldLink "StatueRent$Lends" (7 : Nat) "StatueRent$Lends" "a" "I") ∈ lw_all := lw_g (lw_at lw_m6 134 rfl) rfl
theorem q1455 : (Jvm.Cond.fieldLink "StatueRent$Lends" (13 : Nat) "StatueRent$Lends" "b" "I") ∈ lw_all := lw_g (lw_at lw_m6 135 rfl) rfl
theorem q1456 : (Jvm.Cond.fieldLink "StatueRent$Lends" (16 : Nat) "StatueRent$Lends" "n" "I") ∈ lw_all := lw_g (lw_at lw_m6 136 rfl) rfl
theorem q1457 : (Jvm.Cond.laysFinal "StatueRent$Lends" "StatueRent$Lends" "a" "I") ∈ lw_all := lw_g (lw_at lw_m6 137 rfl) rfl
theorem q1458 : (Jvm.Cond.soleField "StatueRent$Lends" "a") ∈ lw_all := lw_g (lw_at lw_m6 138 rfl) rfl
theorem q1459 : (Jvm.Cond.laysFinal "StatueRent$Lends" "StatueRent$Lends" "b" "I") ∈ lw_all := lw_g (lw_at lw_m6 139 rfl) rfl
theorem q1460 : (Jvm.Cond.soleField "StatueRent$Lends" "b") ∈ lw_all := lw_g (lw_at lw_m6 140 rfl) rfl
theorem q1461 : (Jvm.Cond.laysFinal "StatueRent$Lends" "StatueRent$Lends" "n" "I") ∈ lw_all := lw_g (lw_at lw_m6 141 rfl) rfl
theorem q1462 : (Jvm.Cond.soleField "StatueRent$Lends" "n") ∈ lw_all := lw_g (lw_at lw_m6 142 rfl) rfl
theorem q1463 : (Jvm.Cond.superclass "StatueRent$Lends" "StatueRent$Line") ∈ lw_all := lw_g (lw_at lw_m6 143 rfl) rfl
theorem q1477 : (Jvm.Cond.selects "StatueRent$Lends" ({ cls := "StatueRent$Line", name := "why", desc := "(LStatueRent$City;LStatueRent$State;)I" } : Jvm.MethodName) ({ cls := "StatueRent$Lends", name := "why", desc := "(LStatueRent$City;LStatueRent$State;)I" } : Jvm.MethodName)) ∈ lw_all := lw_g (lw_at lw_m6 157 rfl) rfl
theorem q1478 : (Jvm.Cond.instanceMethod ({ cls := "StatueRent$Lends", name := "why", desc := "(LStatueRent$City;LStatueRent$State;)I" } : Jvm.MethodName)) ∈ lw_all := lw_g (lw_at lw_m6 158 rfl) rfl
theorem q1479 : (Jvm.Cond.code ({ cls := "StatueRent$Lends", name := "why", desc := "(LStatueRent$City;LStatueRent$State;)I" } : Jvm.MethodName) prog_12_method_2_code (3 : Nat) (Option.some Jvm.ClassFile.FieldType.int)) ∈ lw_all := lw_g (lw_at lw_m6 159 rfl) rfl
theorem q1480 : (Jvm.Cond.methodLink "StatueRent$Lends" (19 : Nat) ({ cls := "StatueRent$State", name := "whyLend", desc := "(III)I" } : Jvm.MethodName)) ∈ lw_all := lw_g (lw_at lw_m6 160 rfl) rfl
theorem q1500 : (Jvm.Cond.selects "StatueRent$Lends" ({ cls := "StatueRent$Line", name := "live", desc := "(LStatueRent$City;LStatueRent$State;)V" } : Jvm.MethodName) ({ cls := "StatueRent$Lends", name := "live", desc := "(LStatueRent$City;LStatueRent$State;)V" } : Jvm.MethodName)) ∈ lw_all := lw_g (lw_at lw_m6 180 rfl) rfl
theorem q1501 : (Jvm.Cond.instanceMethod ({ cls := "StatueRent$Lends", name := "live", desc := "(LStatueRent$City;LStatueRent$State;)V" } : Jvm.MethodName)) ∈ lw_all := lw_g (lw_at lw_m6 181 rfl) rfl
theorem q1502 : (Jvm.Cond.code ({ cls := "StatueRent$Lends", name := "live", desc := "(LStatueRent$City;LStatueRent$State;)V" } : Jvm.MethodName) prog_12_method_3_code (3 : Nat) (Option.none : Option Jvm.ClassFile.FieldType)) ∈ lw_all := lw_g (lw_at lw_m6 182 rfl) rfl
theorem q1503 : (Jvm.Cond.methodLink "StatueRent$Lends" (25 : Nat) ({ cls := "StatueRent$State", name := "lend", desc := "(III)V" } : Jvm.MethodName)) ∈ lw_all := lw_g (lw_at lw_m6 183 rfl) rfl
theorem q2549 : (Jvm.Cond.castable "StatueRent$Lends" "java/lang/Object") ∈ lw_tbl := lw_at lw_m11 29 rfl
theorem q2561 : (Jvm.Cond.castable "StatueRent$Lends" "StatueRent$Line") ∈ lw_tbl := lw_at lw_m11 41 rfl
theorem in_X16 : ∀ w ∈ wsX160, w ∈ lw_all := lw_in wsX160 [1457, 1459, 1461] (by decide +kernel) (by decide +kernel)
/-! StatueRent$Not -/
set_option maxRecDepth 100000
def RX17 : String := "StatueRent$Not"
def TX17 : u_T := fun k => match k with
  | _ => ("StatueRent$Not", "a", "LStatueRent$Cond;", true)
def tyX17 : Nat → FieldType := fun k => match k with
  | _ => .object "StatueRent$Cond"
abbrev wsX170 : List Cond := u_ws RX17 TX17 1
theorem nmX17 : ∀ a, a < 1 → ∀ b, b < 1 → a ≠ b → (TX17 a).2.1 ≠ (TX17 b).2.1 := by decide +kernel
theorem tyX17_ok : ∀ k, k < 1 → parseFieldDescriptor (TX17 k).2.2.1 = some (tyX17 k) := by decide +kernel
abbrev cX17_init : ByteArray := prog_17_method_1_code
def yX17_init : MethodName := ⟨RX17, "<init>", "(LStatueRent$Cond;)V"⟩
def dkwX17_init_0 : List UInt8 := [42, 183, 0, 1, 42, 43, 181, 0, 7, 177]
abbrev dktX17_init_0 : List UInt8 := dkwX17_init_0 ++ []
theorem dksX17_init_0 : cX17_init.data.toList.drop 0 = dktX17_init_0 := by decide +kernel
theorem dX17_init_0 : decode cX17_init 0 = .ok (.aload_n 0, 1) := dk_42 (dk_at dksX17_init_0 0 rfl rfl)
theorem dX17_init_1 : decode cX17_init 1 = .ok (.invokespecial 1, 3) := dk_183 0 1 (dk_at dksX17_init_0 1 rfl rfl)
theorem dX17_init_4 : decode cX17_init 4 = .ok (.aload_n 0, 1) := dk_42 (dk_at dksX17_init_0 4 rfl rfl)
theorem dX17_init_5 : decode cX17_init 5 = .ok (.aload_n 1, 1) := dk_43 (dk_at dksX17_init_0 5 rfl rfl)
theorem dX17_init_6 : decode cX17_init 6 = .ok (.putfield 7, 3) := dk_181 0 7 (dk_at dksX17_init_0 6 rfl rfl)
theorem dX17_init_9 : decode cX17_init 9 = .ok (.return_, 1) := dk_177 (dk_at dksX17_init_0 9 rfl rfl)
abbrev cX17_is : ByteArray := prog_17_method_2_code
def yX17_is : MethodName := ⟨RX17, "is", "(LStatueRent;I)Z"⟩
def dkwX17_is_0 : List UInt8 := [42, 180, 0, 7, 43, 28, 185, 0, 13, 3, 0, 154, 0, 7, 4, 167, 0, 4, 3, 172]
abbrev dktX17_is_0 : List UInt8 := dkwX17_is_0 ++ []
theorem dksX17_is_0 : cX17_is.data.toList.drop 0 = dktX17_is_0 := by decide +kernel
theorem dX17_is_0 : decode cX17_is 0 = .ok (.aload_n 0, 1) := dk_42 (dk_at dksX17_is_0 0 rfl rfl)
theorem dX17_is_1 : decode cX17_is 1 = .ok (.getfield 7, 3) := dk_180 0 7 (dk_at dksX17_is_0 1 rfl rfl)
theorem dX17_is_4 : decode cX17_is 4 = .ok (.aload_n 1, 1) := dk_43 (dk_at dksX17_is_0 4 rfl rfl)
theorem dX17_is_5 : decode cX17_is 5 = .ok (.iload_n 2, 1) := dk_28 (dk_at dksX17_is_0 5 rfl rfl)
theorem dX17_is_6 : decode cX17_is 6 = .ok (.invokeinterface 13 3, 5) := by decide +kernel
theorem dX17_is_11 : decode cX17_is 11 = .ok (.ifCond .ne 7, 3) := dk_154 0 7 (dk_at dksX17_is_0 11 rfl rfl)
theorem dX17_is_14 : decode cX17_is 14 = .ok (.iconst 1, 1) := dk_4 (dk_at dksX17_is_0 14 rfl rfl)
theorem dX17_is_15 : decode cX17_is 15 = .ok (.goto 4, 3) := dk_167 0 4 (dk_at dksX17_is_0 15 rfl rfl)
theorem dX17_is_18 : decode cX17_is 18 = .ok (.iconst 0, 1) := dk_3 (dk_at dksX17_is_0 18 rfl rfl)
theorem dX17_is_19 : decode cX17_is 19 = .ok (.ireturn, 1) := dk_172 (dk_at dksX17_is_0 19 rfl rfl)
theorem q150 : (Jvm.Cond.initialized "StatueRent$Not") ∈ lw_all := lw_g (lw_at lw_m1 30 rfl) rfl
theorem q1556 : (Jvm.Cond.instantiable "StatueRent$Not" (1 : Nat)) ∈ lw_all := lw_g (lw_at lw_m6 236 rfl) rfl
theorem q1558 : (Jvm.Cond.instanceMethod ({ cls := "StatueRent$Not", name := "<init>", desc := "(LStatueRent$Cond;)V" } : Jvm.MethodName)) ∈ lw_all := lw_g (lw_at lw_m6 238 rfl) rfl
theorem q1559 : (Jvm.Cond.code ({ cls := "StatueRent$Not", name := "<init>", desc := "(LStatueRent$Cond;)V" } : Jvm.MethodName) prog_17_method_1_code (2 : Nat) (Option.none : Option Jvm.ClassFile.FieldType)) ∈ lw_all := lw_g (lw_at lw_m6 239 rfl) rfl
theorem q1560 : (Jvm.Cond.methodLink "StatueRent$Not" (1 : Nat) ({ cls := "java/lang/Object", name := "<init>", desc := "()V" } : Jvm.MethodName)) ∈ lw_all := lw_g (lw_at lw_m7 0 rfl) rfl
theorem q1561 : (Jvm.Cond.fieldLink "StatueRent$Not" (7 : Nat) "StatueRent$Not" "a" "LStatueRent$Cond;") ∈ lw_all := lw_g (lw_at lw_m7 1 rfl) rfl
theorem q1562 : (Jvm.Cond.laysFinal "StatueRent$Not" "StatueRent$Not" "a" "LStatueRent$Cond;") ∈ lw_all := lw_g (lw_at lw_m7 2 rfl) rfl
theorem q1563 : (Jvm.Cond.soleField "StatueRent$Not" "a") ∈ lw_all := lw_g (lw_at lw_m7 3 rfl) rfl
theorem q1564 : (Jvm.Cond.superclass "StatueRent$Not" "java/lang/Object") ∈ lw_all := lw_g (lw_at lw_m7 4 rfl) rfl
theorem q1667 : (Jvm.Cond.castable "StatueRent$Not" "StatueRent$Cond") ∈ lw_tbl := lw_at lw_m7 107 rfl
theorem q1668 : (Jvm.Cond.selects "StatueRent$Not" ({ cls := "StatueRent$Cond", name := "is", desc := "(LStatueRent;I)Z" } : Jvm.MethodName) ({ cls := "StatueRent$Not", name := "is", desc := "(LStatueRent;I)Z" } : Jvm.MethodName)) ∈ lw_all := lw_g (lw_at lw_m7 108 rfl) rfl
theorem q1669 : (Jvm.Cond.unhidden "StatueRent$Not" "is" "(LStatueRent;I)Z") ∈ lw_tbl := lw_at lw_m7 109 rfl
theorem q1670 : (Jvm.Cond.instanceMethod ({ cls := "StatueRent$Not", name := "is", desc := "(LStatueRent;I)Z" } : Jvm.MethodName)) ∈ lw_all := lw_g (lw_at lw_m7 110 rfl) rfl
theorem q1671 : (Jvm.Cond.publicMethod ({ cls := "StatueRent$Not", name := "is", desc := "(LStatueRent;I)Z" } : Jvm.MethodName)) ∈ lw_tbl := lw_at lw_m7 111 rfl
theorem q1672 : (Jvm.Cond.code ({ cls := "StatueRent$Not", name := "is", desc := "(LStatueRent;I)Z" } : Jvm.MethodName) prog_17_method_2_code (3 : Nat) (Option.some Jvm.ClassFile.FieldType.boolean)) ∈ lw_all := lw_g (lw_at lw_m7 112 rfl) rfl
theorem q1673 : (Jvm.Cond.interfaceEntry "StatueRent$Not" (13 : Nat)) ∈ lw_tbl := lw_at lw_m7 113 rfl
theorem q1674 : (Jvm.Cond.methodLink "StatueRent$Not" (13 : Nat) ({ cls := "StatueRent$Cond", name := "is", desc := "(LStatueRent;I)Z" } : Jvm.MethodName)) ∈ lw_all := lw_g (lw_at lw_m7 114 rfl) rfl
theorem q2550 : (Jvm.Cond.castable "StatueRent$Not" "java/lang/Object") ∈ lw_tbl := lw_at lw_m11 30 rfl
theorem in_X17 : ∀ w ∈ wsX170, w ∈ lw_all := lw_in wsX170 [1562] (by decide +kernel) (by decide +kernel)
/-! StatueRent$Marks -/
set_option maxRecDepth 100000
def RX18 : String := "StatueRent$Marks"
def TX18 : u_T := fun k => match k with
  | 0 => ("StatueRent$Marks", "what", "I", true)
  | _ => ("StatueRent$Marks", "of", "I", true)
def tyX18 : Nat → FieldType := fun k => match k with
  | 0 => .int
  | _ => .int
abbrev wsX180 : List Cond := u_ws RX18 TX18 2
theorem nmX18 : ∀ a, a < 2 → ∀ b, b < 2 → a ≠ b → (TX18 a).2.1 ≠ (TX18 b).2.1 := by decide +kernel
theorem tyX18_ok : ∀ k, k < 2 → parseFieldDescriptor (TX18 k).2.2.1 = some (tyX18 k) := by decide +kernel
abbrev cX18_init : ByteArray := prog_15_method_1_code
def yX18_init : MethodName := ⟨RX18, "<init>", "(II)V"⟩
def dkwX18_init_0 : List UInt8 := [42, 183, 0, 1, 42, 27, 181, 0, 7, 42, 28, 181, 0, 13, 177]
abbrev dktX18_init_0 : List UInt8 := dkwX18_init_0 ++ []
theorem dksX18_init_0 : cX18_init.data.toList.drop 0 = dktX18_init_0 := by decide +kernel
theorem dX18_init_0 : decode cX18_init 0 = .ok (.aload_n 0, 1) := dk_42 (dk_at dksX18_init_0 0 rfl rfl)
theorem dX18_init_1 : decode cX18_init 1 = .ok (.invokespecial 1, 3) := dk_183 0 1 (dk_at dksX18_init_0 1 rfl rfl)
theorem dX18_init_4 : decode cX18_init 4 = .ok (.aload_n 0, 1) := dk_42 (dk_at dksX18_init_0 4 rfl rfl)
theorem dX18_init_5 : decode cX18_init 5 = .ok (.iload_n 1, 1) := dk_27 (dk_at dksX18_init_0 5 rfl rfl)
theorem dX18_init_6 : decode cX18_init 6 = .ok (.putfield 7, 3) := dk_181 0 7 (dk_at dksX18_init_0 6 rfl rfl)
theorem dX18_init_9 : decode cX18_init 9 = .ok (.aload_n 0, 1) := dk_42 (dk_at dksX18_init_0 9 rfl rfl)
theorem dX18_init_10 : decode cX18_init 10 = .ok (.iload_n 2, 1) := dk_28 (dk_at dksX18_init_0 10 rfl rfl)
theorem dX18_init_11 : decode cX18_init 11 = .ok (.putfield 13, 3) := dk_181 0 13 (dk_at dksX18_init_0 11 rfl rfl)
theorem dX18_init_14 : decode cX18_init 14 = .ok (.return_, 1) := dk_177 (dk_at dksX18_init_0 14 rfl rfl)
abbrev cX18_is : ByteArray := prog_15_method_2_code
def yX18_is : MethodName := ⟨RX18, "is", "(LStatueRent;I)Z"⟩
def dkwX18_is_4 : List UInt8 := [180, 0, 13, 160, 0, 7, 4, 167, 0, 4, 3, 172]
abbrev dktX18_is_4 : List UInt8 := dkwX18_is_4 ++ []
def dkwX18_is_3 : List UInt8 := [45, 180, 0, 46, 42, 180, 0, 13, 160, 0, 7, 4, 167, 0, 4, 3, 172, 45, 180, 0, 49, 42]
abbrev dktX18_is_3 : List UInt8 := dkwX18_is_3 ++ dktX18_is_4
def dkwX18_is_2 : List UInt8 := [45, 182, 0, 28, 172, 45, 180, 0, 34, 172, 43, 43, 180, 0, 16, 28, 43, 182, 0, 38, 182, 0, 42, 172]
abbrev dktX18_is_2 : List UInt8 := dkwX18_is_2 ++ dktX18_is_3
def dkwX18_is_1 : List UInt8 := [170, 0, 0, 0, 0, 71, 0, 0, 0, 0, 0, 0, 0, 3, 0, 0, 0, 30, 0, 0, 0, 35, 0, 0, 0, 40, 0, 0, 0, 54]
abbrev dktX18_is_1 : List UInt8 := dkwX18_is_1 ++ dktX18_is_2
def dkwX18_is_0 : List UInt8 := [43, 180, 0, 16, 180, 0, 22, 28, 50, 78, 42, 180, 0, 7]
abbrev dktX18_is_0 : List UInt8 := dkwX18_is_0 ++ dktX18_is_1
theorem dksX18_is_0 : cX18_is.data.toList.drop 0 = dktX18_is_0 := by decide +kernel
theorem dksX18_is_1 : cX18_is.data.toList.drop 14 = dktX18_is_1 := dk_seg dksX18_is_0 14 rfl rfl
theorem dksX18_is_2 : cX18_is.data.toList.drop 44 = dktX18_is_2 := dk_seg dksX18_is_1 30 rfl rfl
theorem dksX18_is_3 : cX18_is.data.toList.drop 68 = dktX18_is_3 := dk_seg dksX18_is_2 24 rfl rfl
theorem dksX18_is_4 : cX18_is.data.toList.drop 90 = dktX18_is_4 := dk_seg dksX18_is_3 22 rfl rfl
theorem dX18_is_0 : decode cX18_is 0 = .ok (.aload_n 1, 1) := dk_43 (dk_at dksX18_is_0 0 rfl rfl)
theorem dX18_is_1 : decode cX18_is 1 = .ok (.getfield 16, 3) := dk_180 0 16 (dk_at dksX18_is_0 1 rfl rfl)
theorem dX18_is_4 : decode cX18_is 4 = .ok (.getfield 22, 3) := dk_180 0 22 (dk_at dksX18_is_0 4 rfl rfl)
theorem dX18_is_7 : decode cX18_is 7 = .ok (.iload_n 2, 1) := dk_28 (dk_at dksX18_is_0 7 rfl rfl)
theorem dX18_is_8 : decode cX18_is 8 = .ok (.aaload, 1) := dk_50 (dk_at dksX18_is_0 8 rfl rfl)
theorem dX18_is_9 : decode cX18_is 9 = .ok (.astore_n 3, 1) := dk_78 (dk_at dksX18_is_0 9 rfl rfl)
theorem dX18_is_10 : decode cX18_is 10 = .ok (.aload_n 0, 1) := dk_42 (dk_at dksX18_is_0 10 rfl rfl)
theorem dX18_is_11 : decode cX18_is 11 = .ok (.getfield 7, 3) := dk_180 0 7 (dk_at dksX18_is_0 11 rfl rfl)
theorem dX18_is_14 : decode cX18_is 14 = .ok (.tableswitch 71 0 3 #[30, 35, 40, 54], 30) := by decide +kernel
theorem dX18_is_44 : decode cX18_is 44 = .ok (.aload_n 3, 1) := dk_45 (dk_at dksX18_is_2 0 rfl rfl)
theorem dX18_is_45 : decode cX18_is 45 = .ok (.invokevirtual 28, 3) := dk_182 0 28 (dk_at dksX18_is_2 1 rfl rfl)
theorem dX18_is_48 : decode cX18_is 48 = .ok (.ireturn, 1) := dk_172 (dk_at dksX18_is_2 4 rfl rfl)
theorem dX18_is_49 : decode cX18_is 49 = .ok (.aload_n 3, 1) := dk_45 (dk_at dksX18_is_2 5 rfl rfl)
theorem dX18_is_50 : decode cX18_is 50 = .ok (.getfield 34, 3) := dk_180 0 34 (dk_at dksX18_is_2 6 rfl rfl)
theorem dX18_is_53 : decode cX18_is 53 = .ok (.ireturn, 1) := dk_172 (dk_at dksX18_is_2 9 rfl rfl)
theorem dX18_is_54 : decode cX18_is 54 = .ok (.aload_n 1, 1) := dk_43 (dk_at dksX18_is_2 10 rfl rfl)
theorem dX18_is_55 : decode cX18_is 55 = .ok (.aload_n 1, 1) := dk_43 (dk_at dksX18_is_2 11 rfl rfl)
theorem dX18_is_56 : decode cX18_is 56 = .ok (.getfield 16, 3) := dk_180 0 16 (dk_at dksX18_is_2 12 rfl rfl)
theorem dX18_is_59 : decode cX18_is 59 = .ok (.iload_n 2, 1) := dk_28 (dk_at dksX18_is_2 15 rfl rfl)
theorem dX18_is_60 : decode cX18_is 60 = .ok (.aload_n 1, 1) := dk_43 (dk_at dksX18_is_2 16 rfl rfl)
theorem dX18_is_61 : decode cX18_is 61 = .ok (.invokevirtual 38, 3) := dk_182 0 38 (dk_at dksX18_is_2 17 rfl rfl)
theorem dX18_is_64 : decode cX18_is 64 = .ok (.invokevirtual 42, 3) := dk_182 0 42 (dk_at dksX18_is_2 20 rfl rfl)
theorem dX18_is_67 : decode cX18_is 67 = .ok (.ireturn, 1) := dk_172 (dk_at dksX18_is_2 23 rfl rfl)
theorem dX18_is_68 : decode cX18_is 68 = .ok (.aload_n 3, 1) := dk_45 (dk_at dksX18_is_3 0 rfl rfl)
theorem dX18_is_69 : decode cX18_is 69 = .ok (.getfield 46, 3) := dk_180 0 46 (dk_at dksX18_is_3 1 rfl rfl)
theorem dX18_is_72 : decode cX18_is 72 = .ok (.aload_n 0, 1) := dk_42 (dk_at dksX18_is_3 4 rfl rfl)
theorem dX18_is_73 : decode cX18_is 73 = .ok (.getfield 13, 3) := dk_180 0 13 (dk_at dksX18_is_3 5 rfl rfl)
theorem dX18_is_76 : decode cX18_is 76 = .ok (.if_icmp .ne 7, 3) := dk_160 0 7 (dk_at dksX18_is_3 8 rfl rfl)
theorem dX18_is_79 : decode cX18_is 79 = .ok (.iconst 1, 1) := dk_4 (dk_at dksX18_is_3 11 rfl rfl)
theorem dX18_is_80 : decode cX18_is 80 = .ok (.goto 4, 3) := dk_167 0 4 (dk_at dksX18_is_3 12 rfl rfl)
theorem dX18_is_83 : decode cX18_is 83 = .ok (.iconst 0, 1) := dk_3 (dk_at dksX18_is_3 15 rfl rfl)
theorem dX18_is_84 : decode cX18_is 84 = .ok (.ireturn, 1) := dk_172 (dk_at dksX18_is_3 16 rfl rfl)
theorem dX18_is_85 : decode cX18_is 85 = .ok (.aload_n 3, 1) := dk_45 (dk_at dksX18_is_3 17 rfl rfl)
theorem dX18_is_86 : decode cX18_is 86 = .ok (.getfield 49, 3) := dk_180 0 49 (dk_at dksX18_is_3 18 rfl rfl)
theorem dX18_is_89 : decode cX18_is 89 = .ok (.aload_n 0, 1) := dk_42 (dk_at dksX18_is_3 21 rfl rfl)
theorem dX18_is_90 : decode cX18_is 90 = .ok (.getfield 13, 3) := dk_180 0 13 (dk_at dksX18_is_4 0 rfl rfl)
theorem dX18_is_93 : decode cX18_is 93 = .ok (.if_icmp .ne 7, 3) := dk_160 0 7 (dk_at dksX18_is_4 3 rfl rfl)
theorem dX18_is_96 : decode cX18_is 96 = .ok (.iconst 1, 1) := dk_4 (dk_at dksX18_is_4 6 rfl rfl)
theorem dX18_is_97 : decode cX18_is 97 = .ok (.goto 4, 3) := dk_167 0 4 (dk_at dksX18_is_4 7 rfl rfl)
theorem dX18_is_100 : decode cX18_is 100 = .ok (.iconst 0, 1) := dk_3 (dk_at dksX18_is_4 10 rfl rfl)
theorem dX18_is_101 : decode cX18_is 101 = .ok (.ireturn, 1) := dk_172 (dk_at dksX18_is_4 11 rfl rfl)
theorem q151 : (Jvm.Cond.initialized "StatueRent$Marks") ∈ lw_all := lw_g (lw_at lw_m1 31 rfl) rfl
theorem q410 : (Jvm.Cond.fieldLinkNest "StatueRent$Marks" (46 : Nat) "StatueRent$Stone" "kind" "I" "StatueRent") ∈ lw_tbl := lw_at lw_m2 50 rfl
theorem q414 : (Jvm.Cond.fieldLinkNest "StatueRent$Marks" (49 : Nat) "StatueRent$Stone" "square" "I" "StatueRent") ∈ lw_tbl := lw_at lw_m2 54 rfl
theorem q431 : (Jvm.Cond.fieldLinkNest "StatueRent$Marks" (34 : Nat) "StatueRent$Stone" "stained" "Z" "StatueRent") ∈ lw_tbl := lw_at lw_m2 71 rfl
theorem q449 : (Jvm.Cond.fieldLinkNest "StatueRent$Marks" (22 : Nat) "StatueRent$State" "stones" "[LStatueRent$Stone;" "StatueRent") ∈ lw_tbl := lw_at lw_m2 89 rfl
theorem q626 : (Jvm.Cond.fieldLinkNest "StatueRent$Marks" (16 : Nat) "StatueRent" "now" "LStatueRent$State;" "StatueRent") ∈ lw_tbl := lw_at lw_m3 26 rfl
theorem q1569 : (Jvm.Cond.instantiable "StatueRent$Marks" (2 : Nat)) ∈ lw_all := lw_g (lw_at lw_m7 9 rfl) rfl
theorem q1574 : (Jvm.Cond.instanceMethod ({ cls := "StatueRent$Marks", name := "<init>", desc := "(II)V" } : Jvm.MethodName)) ∈ lw_all := lw_g (lw_at lw_m7 14 rfl) rfl
theorem q1575 : (Jvm.Cond.code ({ cls := "StatueRent$Marks", name := "<init>", desc := "(II)V" } : Jvm.MethodName) prog_15_method_1_code (3 : Nat) (Option.none : Option Jvm.ClassFile.FieldType)) ∈ lw_all := lw_g (lw_at lw_m7 15 rfl) rfl
theorem q1576 : (Jvm.Cond.methodLink "StatueRent$Marks" (1 : Nat) ({ cls := "java/lang/Object", name := "<init>", desc := "()V" } : Jvm.MethodName)) ∈ lw_all := lw_g (lw_at lw_m7 16 rfl) rfl
theorem q1577 : (Jvm.Cond.fieldLink "StatueRent$Marks" (7 : Nat) "StatueRent$Marks" "what" "I") ∈ lw_all := lw_g (lw_at lw_m7 17 rfl) rfl
theorem q1578 : (Jvm.Cond.fieldLink "StatueRent$Marks" (13 : Nat) "StatueRent$Marks" "of" "I") ∈ lw_all := lw_g (lw_at lw_m7 18 rfl) rfl
theorem q1579 : (Jvm.Cond.laysFinal "StatueRent$Marks" "StatueRent$Marks" "what" "I") ∈ lw_all := lw_g (lw_at lw_m7 19 rfl) rfl
theorem q1580 : (Jvm.Cond.soleField "StatueRent$Marks" "what") ∈ lw_all := lw_g (lw_at lw_m7 20 rfl) rfl
theorem q1581 : (Jvm.Cond.laysFinal "StatueRent$Marks" "StatueRent$Marks" "of" "I") ∈ lw_all := lw_g (lw_at lw_m7 21 rfl) rfl
theorem q1582 : (Jvm.Cond.soleField "StatueRent$Marks" "of") ∈ lw_all := lw_g (lw_at lw_m7 22 rfl) rfl
theorem q1583 : (Jvm.Cond.superclass "StatueRent$Marks" "java/lang/Object") ∈ lw_all := lw_g (lw_at lw_m7 23 rfl) rfl
theorem q1658 : (Jvm.Cond.castable "StatueRent$Marks" "StatueRent$Cond") ∈ lw_tbl := lw_at lw_m7 98 rfl
theorem q1659 : (Jvm.Cond.selects "StatueRent$Marks" ({ cls := "StatueRent$Cond", name := "is", desc := "(LStatueRent;I)Z" } : Jvm.MethodName) ({ cls := "StatueRent$Marks", name := "is", desc := "(LStatueRent;I)Z" } : Jvm.MethodName)) ∈ lw_all := lw_g (lw_at lw_m7 99 rfl) rfl
theorem q1660 : (Jvm.Cond.unhidden "StatueRent$Marks" "is" "(LStatueRent;I)Z") ∈ lw_tbl := lw_at lw_m7 100 rfl
theorem q1661 : (Jvm.Cond.instanceMethod ({ cls := "StatueRent$Marks", name := "is", desc := "(LStatueRent;I)Z" } : Jvm.MethodName)) ∈ lw_all := lw_g (lw_at lw_m7 101 rfl) rfl
theorem q1662 : (Jvm.Cond.publicMethod ({ cls := "StatueRent$Marks", name := "is", desc := "(LStatueRent;I)Z" } : Jvm.MethodName)) ∈ lw_tbl := lw_at lw_m7 102 rfl
theorem q1663 : (Jvm.Cond.code ({ cls := "StatueRent$Marks", name := "is", desc := "(LStatueRent;I)Z" } : Jvm.MethodName) prog_15_method_2_code (4 : Nat) (Option.some Jvm.ClassFile.FieldType.boolean)) ∈ lw_all := lw_g (lw_at lw_m7 103 rfl) rfl
theorem q1664 : (Jvm.Cond.methodLink "StatueRent$Marks" (28 : Nat) ({ cls := "StatueRent$Stone", name := "isGone", desc := "()Z" } : Jvm.MethodName)) ∈ lw_all := lw_g (lw_at lw_m7 104 rfl) rfl
theorem q1665 : (Jvm.Cond.methodLinkNest "StatueRent$Marks" (38 : Nat) ({ cls := "StatueRent", name := "all", desc := "()I" } : Jvm.MethodName) "StatueRent") ∈ lw_tbl := lw_at lw_m7 105 rfl
theorem q1666 : (Jvm.Cond.methodLinkNest "StatueRent$Marks" (42 : Nat) ({ cls := "StatueRent", name := "isSolvent", desc := "(LStatueRent$State;II)Z" } : Jvm.MethodName) "StatueRent") ∈ lw_tbl := lw_at lw_m7 106 rfl
theorem q2551 : (Jvm.Cond.castable "StatueRent$Marks" "java/lang/Object") ∈ lw_tbl := lw_at lw_m11 31 rfl
theorem in_X18 : ∀ w ∈ wsX180, w ∈ lw_all := lw_in wsX180 [1579, 1581] (by decide +kernel) (by decide +kernel)
/-! StatueRent$Counts -/
set_option maxRecDepth 100000
def RX19 : String := "StatueRent$Counts"
def TX19 : u_T := fun k => match k with
  | 0 => ("StatueRent$Counts", "what", "I", true)
  | 1 => ("StatueRent$Counts", "sign", "I", true)
  | _ => ("StatueRent$Counts", "number", "I", true)
def tyX19 : Nat → FieldType := fun k => match k with
  | 0 => .int
  | 1 => .int
  | _ => .int
abbrev wsX190 : List Cond := u_ws RX19 TX19 3
theorem nmX19 : ∀ a, a < 3 → ∀ b, b < 3 → a ≠ b → (TX19 a).2.1 ≠ (TX19 b).2.1 := by decide +kernel
theorem tyX19_ok : ∀ k, k < 3 → parseFieldDescriptor (TX19 k).2.2.1 = some (tyX19 k) := by decide +kernel
abbrev cX19_init : ByteArray := prog_8_method_1_code
def yX19_init : MethodName := ⟨RX19, "<init>", "(III)V"⟩
def dkwX19_init_0 : List UInt8 := [42, 183, 0, 1, 42, 27, 181, 0, 7, 42, 28, 181, 0, 13, 42, 29, 181, 0, 16, 177]
abbrev dktX19_init_0 : List UInt8 := dkwX19_init_0 ++ []
theorem dksX19_init_0 : cX19_init.data.toList.drop 0 = dktX19_init_0 := by decide +kernel
theorem dX19_init_0 : decode cX19_init 0 = .ok (.aload_n 0, 1) := dk_42 (dk_at dksX19_init_0 0 rfl rfl)
theorem dX19_init_1 : decode cX19_init 1 = .ok (.invokespecial 1, 3) := dk_183 0 1 (dk_at dksX19_init_0 1 rfl rfl)
theorem dX19_init_4 : decode cX19_init 4 = .ok (.aload_n 0, 1) := dk_42 (dk_at dksX19_init_0 4 rfl rfl)
theorem dX19_init_5 : decode cX19_init 5 = .ok (.iload_n 1, 1) := dk_27 (dk_at dksX19_init_0 5 rfl rfl)
theorem dX19_init_6 : decode cX19_init 6 = .ok (.putfield 7, 3) := dk_181 0 7 (dk_at dksX19_init_0 6 rfl rfl)
theorem dX19_init_9 : decode cX19_init 9 = .ok (.aload_n 0, 1) := dk_42 (dk_at dksX19_init_0 9 rfl rfl)
theorem dX19_init_10 : decode cX19_init 10 = .ok (.iload_n 2, 1) := dk_28 (dk_at dksX19_init_0 10 rfl rfl)
theorem dX19_init_11 : decode cX19_init 11 = .ok (.putfield 13, 3) := dk_181 0 13 (dk_at dksX19_init_0 11 rfl rfl)
theorem dX19_init_14 : decode cX19_init 14 = .ok (.aload_n 0, 1) := dk_42 (dk_at dksX19_init_0 14 rfl rfl)
theorem dX19_init_15 : decode cX19_init 15 = .ok (.iload_n 3, 1) := dk_29 (dk_at dksX19_init_0 15 rfl rfl)
theorem dX19_init_16 : decode cX19_init 16 = .ok (.putfield 16, 3) := dk_181 0 16 (dk_at dksX19_init_0 16 rfl rfl)
theorem dX19_init_19 : decode cX19_init 19 = .ok (.return_, 1) := dk_177 (dk_at dksX19_init_0 19 rfl rfl)
abbrev cX19_is : ByteArray := prog_8_method_2_code
def yX19_is : MethodName := ⟨RX19, "is", "(LStatueRent;I)Z"⟩
def dkwX19_is_5 : List UInt8 := [167, 0, 4, 3, 172]
abbrev dktX19_is_5 : List UInt8 := dkwX19_is_5 ++ []
def dkwX19_is_4 : List UInt8 := [180, 0, 16, 160, 0, 7, 4, 167, 0, 21, 3, 167, 0, 17, 21, 4, 42, 180, 0, 16, 164, 0, 7, 4]
abbrev dktX19_is_4 : List UInt8 := dkwX19_is_4 ++ dktX19_is_5
def dkwX19_is_3 : List UInt8 := [162, 0, 7, 4, 167, 0, 47, 3, 167, 0, 43, 42, 180, 0, 13, 16, 61, 160, 0, 20, 21, 4, 42]
abbrev dktX19_is_3 : List UInt8 := dkwX19_is_3 ++ dktX19_is_4
def dkwX19_is_2 : List UInt8 := [180, 0, 39, 167, 0, 4, 28, 54, 4, 42, 180, 0, 13, 16, 60, 160, 0, 20, 21, 4, 42, 180, 0, 16]
abbrev dktX19_is_2 : List UInt8 := dkwX19_is_2 ++ dktX19_is_3
def dkwX19_is_1 : List UInt8 := [42, 180, 0, 7, 4, 160, 0, 10, 45, 180, 0, 36, 167, 0, 19, 42, 180, 0, 7, 5, 160, 0, 10, 45]
abbrev dktX19_is_1 : List UInt8 := dkwX19_is_1 ++ dktX19_is_2
def dkwX19_is_0 : List UInt8 := [43, 180, 0, 19, 180, 0, 25, 28, 50, 78, 42, 180, 0, 7, 154, 0, 10, 45, 180, 0, 31, 167, 0, 34]
abbrev dktX19_is_0 : List UInt8 := dkwX19_is_0 ++ dktX19_is_1
theorem dksX19_is_0 : cX19_is.data.toList.drop 0 = dktX19_is_0 := by decide +kernel
theorem dksX19_is_1 : cX19_is.data.toList.drop 24 = dktX19_is_1 := dk_seg dksX19_is_0 24 rfl rfl
theorem dksX19_is_2 : cX19_is.data.toList.drop 48 = dktX19_is_2 := dk_seg dksX19_is_1 24 rfl rfl
theorem dksX19_is_3 : cX19_is.data.toList.drop 72 = dktX19_is_3 := dk_seg dksX19_is_2 24 rfl rfl
theorem dksX19_is_4 : cX19_is.data.toList.drop 95 = dktX19_is_4 := dk_seg dksX19_is_3 23 rfl rfl
theorem dksX19_is_5 : cX19_is.data.toList.drop 119 = dktX19_is_5 := dk_seg dksX19_is_4 24 rfl rfl
theorem dX19_is_0 : decode cX19_is 0 = .ok (.aload_n 1, 1) := dk_43 (dk_at dksX19_is_0 0 rfl rfl)
theorem dX19_is_1 : decode cX19_is 1 = .ok (.getfield 19, 3) := dk_180 0 19 (dk_at dksX19_is_0 1 rfl rfl)
theorem dX19_is_4 : decode cX19_is 4 = .ok (.getfield 25, 3) := dk_180 0 25 (dk_at dksX19_is_0 4 rfl rfl)
theorem dX19_is_7 : decode cX19_is 7 = .ok (.iload_n 2, 1) := dk_28 (dk_at dksX19_is_0 7 rfl rfl)
theorem dX19_is_8 : decode cX19_is 8 = .ok (.aaload, 1) := dk_50 (dk_at dksX19_is_0 8 rfl rfl)
theorem dX19_is_9 : decode cX19_is 9 = .ok (.astore_n 3, 1) := dk_78 (dk_at dksX19_is_0 9 rfl rfl)
theorem dX19_is_10 : decode cX19_is 10 = .ok (.aload_n 0, 1) := dk_42 (dk_at dksX19_is_0 10 rfl rfl)
theorem dX19_is_11 : decode cX19_is 11 = .ok (.getfield 7, 3) := dk_180 0 7 (dk_at dksX19_is_0 11 rfl rfl)
theorem dX19_is_14 : decode cX19_is 14 = .ok (.ifCond .ne 10, 3) := dk_154 0 10 (dk_at dksX19_is_0 14 rfl rfl)
theorem dX19_is_17 : decode cX19_is 17 = .ok (.aload_n 3, 1) := dk_45 (dk_at dksX19_is_0 17 rfl rfl)
theorem dX19_is_18 : decode cX19_is 18 = .ok (.getfield 31, 3) := dk_180 0 31 (dk_at dksX19_is_0 18 rfl rfl)
theorem dX19_is_21 : decode cX19_is 21 = .ok (.goto 34, 3) := dk_167 0 34 (dk_at dksX19_is_0 21 rfl rfl)
theorem dX19_is_24 : decode cX19_is 24 = .ok (.aload_n 0, 1) := dk_42 (dk_at dksX19_is_1 0 rfl rfl)
theorem dX19_is_25 : decode cX19_is 25 = .ok (.getfield 7, 3) := dk_180 0 7 (dk_at dksX19_is_1 1 rfl rfl)
theorem dX19_is_28 : decode cX19_is 28 = .ok (.iconst 1, 1) := dk_4 (dk_at dksX19_is_1 4 rfl rfl)
theorem dX19_is_29 : decode cX19_is 29 = .ok (.if_icmp .ne 10, 3) := dk_160 0 10 (dk_at dksX19_is_1 5 rfl rfl)
theorem dX19_is_32 : decode cX19_is 32 = .ok (.aload_n 3, 1) := dk_45 (dk_at dksX19_is_1 8 rfl rfl)
theorem dX19_is_33 : decode cX19_is 33 = .ok (.getfield 36, 3) := dk_180 0 36 (dk_at dksX19_is_1 9 rfl rfl)
theorem dX19_is_36 : decode cX19_is 36 = .ok (.goto 19, 3) := dk_167 0 19 (dk_at dksX19_is_1 12 rfl rfl)
theorem dX19_is_39 : decode cX19_is 39 = .ok (.aload_n 0, 1) := dk_42 (dk_at dksX19_is_1 15 rfl rfl)
theorem dX19_is_40 : decode cX19_is 40 = .ok (.getfield 7, 3) := dk_180 0 7 (dk_at dksX19_is_1 16 rfl rfl)
theorem dX19_is_43 : decode cX19_is 43 = .ok (.iconst 2, 1) := dk_5 (dk_at dksX19_is_1 19 rfl rfl)
theorem dX19_is_44 : decode cX19_is 44 = .ok (.if_icmp .ne 10, 3) := dk_160 0 10 (dk_at dksX19_is_1 20 rfl rfl)
theorem dX19_is_47 : decode cX19_is 47 = .ok (.aload_n 3, 1) := dk_45 (dk_at dksX19_is_1 23 rfl rfl)
theorem dX19_is_48 : decode cX19_is 48 = .ok (.getfield 39, 3) := dk_180 0 39 (dk_at dksX19_is_2 0 rfl rfl)
theorem dX19_is_51 : decode cX19_is 51 = .ok (.goto 4, 3) := dk_167 0 4 (dk_at dksX19_is_2 3 rfl rfl)
theorem dX19_is_54 : decode cX19_is 54 = .ok (.iload_n 2, 1) := dk_28 (dk_at dksX19_is_2 6 rfl rfl)
theorem dX19_is_55 : decode cX19_is 55 = .ok (.istore 4, 2) := dk_54 4 (dk_at dksX19_is_2 7 rfl rfl)
theorem dX19_is_57 : decode cX19_is 57 = .ok (.aload_n 0, 1) := dk_42 (dk_at dksX19_is_2 9 rfl rfl)
theorem dX19_is_58 : decode cX19_is 58 = .ok (.getfield 13, 3) := dk_180 0 13 (dk_at dksX19_is_2 10 rfl rfl)
theorem dX19_is_61 : decode cX19_is 61 = .ok (.bipush 60, 2) := dk_16 60 (dk_at dksX19_is_2 13 rfl rfl)
theorem dX19_is_63 : decode cX19_is 63 = .ok (.if_icmp .ne 20, 3) := dk_160 0 20 (dk_at dksX19_is_2 15 rfl rfl)
theorem dX19_is_66 : decode cX19_is 66 = .ok (.iload 4, 2) := dk_21 4 (dk_at dksX19_is_2 18 rfl rfl)
theorem dX19_is_68 : decode cX19_is 68 = .ok (.aload_n 0, 1) := dk_42 (dk_at dksX19_is_2 20 rfl rfl)
theorem dX19_is_69 : decode cX19_is 69 = .ok (.getfield 16, 3) := dk_180 0 16 (dk_at dksX19_is_2 21 rfl rfl)
theorem dX19_is_72 : decode cX19_is 72 = .ok (.if_icmp .ge 7, 3) := dk_162 0 7 (dk_at dksX19_is_3 0 rfl rfl)
theorem dX19_is_75 : decode cX19_is 75 = .ok (.iconst 1, 1) := dk_4 (dk_at dksX19_is_3 3 rfl rfl)
theorem dX19_is_76 : decode cX19_is 76 = .ok (.goto 47, 3) := dk_167 0 47 (dk_at dksX19_is_3 4 rfl rfl)
theorem dX19_is_79 : decode cX19_is 79 = .ok (.iconst 0, 1) := dk_3 (dk_at dksX19_is_3 7 rfl rfl)
theorem dX19_is_80 : decode cX19_is 80 = .ok (.goto 43, 3) := dk_167 0 43 (dk_at dksX19_is_3 8 rfl rfl)
theorem dX19_is_83 : decode cX19_is 83 = .ok (.aload_n 0, 1) := dk_42 (dk_at dksX19_is_3 11 rfl rfl)
theorem dX19_is_84 : decode cX19_is 84 = .ok (.getfield 13, 3) := dk_180 0 13 (dk_at dksX19_is_3 12 rfl rfl)
theorem dX19_is_87 : decode cX19_is 87 = .ok (.bipush 61, 2) := dk_16 61 (dk_at dksX19_is_3 15 rfl rfl)
theorem dX19_is_89 : decode cX19_is 89 = .ok (.if_icmp .ne 20, 3) := dk_160 0 20 (dk_at dksX19_is_3 17 rfl rfl)
theorem dX19_is_92 : decode cX19_is 92 = .ok (.iload 4, 2) := dk_21 4 (dk_at dksX19_is_3 20 rfl rfl)
theorem dX19_is_94 : decode cX19_is 94 = .ok (.aload_n 0, 1) := dk_42 (dk_at dksX19_is_3 22 rfl rfl)
theorem dX19_is_95 : decode cX19_is 95 = .ok (.getfield 16, 3) := dk_180 0 16 (dk_at dksX19_is_4 0 rfl rfl)
theorem dX19_is_98 : decode cX19_is 98 = .ok (.if_icmp .ne 7, 3) := dk_160 0 7 (dk_at dksX19_is_4 3 rfl rfl)
theorem dX19_is_101 : decode cX19_is 101 = .ok (.iconst 1, 1) := dk_4 (dk_at dksX19_is_4 6 rfl rfl)
theorem dX19_is_102 : decode cX19_is 102 = .ok (.goto 21, 3) := dk_167 0 21 (dk_at dksX19_is_4 7 rfl rfl)
theorem dX19_is_105 : decode cX19_is 105 = .ok (.iconst 0, 1) := dk_3 (dk_at dksX19_is_4 10 rfl rfl)
theorem dX19_is_106 : decode cX19_is 106 = .ok (.goto 17, 3) := dk_167 0 17 (dk_at dksX19_is_4 11 rfl rfl)
theorem dX19_is_109 : decode cX19_is 109 = .ok (.iload 4, 2) := dk_21 4 (dk_at dksX19_is_4 14 rfl rfl)
theorem dX19_is_111 : decode cX19_is 111 = .ok (.aload_n 0, 1) := dk_42 (dk_at dksX19_is_4 16 rfl rfl)
theorem dX19_is_112 : decode cX19_is 112 = .ok (.getfield 16, 3) := dk_180 0 16 (dk_at dksX19_is_4 17 rfl rfl)
theorem dX19_is_115 : decode cX19_is 115 = .ok (.if_icmp .le 7, 3) := dk_164 0 7 (dk_at dksX19_is_4 20 rfl rfl)
theorem dX19_is_118 : decode cX19_is 118 = .ok (.iconst 1, 1) := dk_4 (dk_at dksX19_is_4 23 rfl rfl)
theorem dX19_is_119 : decode cX19_is 119 = .ok (.goto 4, 3) := dk_167 0 4 (dk_at dksX19_is_5 0 rfl rfl)
theorem dX19_is_122 : decode cX19_is 122 = .ok (.iconst 0, 1) := dk_3 (dk_at dksX19_is_5 3 rfl rfl)
theorem dX19_is_123 : decode cX19_is 123 = .ok (.ireturn, 1) := dk_172 (dk_at dksX19_is_5 4 rfl rfl)
theorem q152 : (Jvm.Cond.initialized "StatueRent$Counts") ∈ lw_all := lw_g (lw_at lw_m1 32 rfl) rfl
theorem q419 : (Jvm.Cond.fieldLinkNest "StatueRent$Counts" (31 : Nat) "StatueRent$Stone" "purse" "I" "StatueRent") ∈ lw_tbl := lw_at lw_m2 59 rfl
theorem q423 : (Jvm.Cond.fieldLinkNest "StatueRent$Counts" (36 : Nat) "StatueRent$Stone" "owes" "I" "StatueRent") ∈ lw_tbl := lw_at lw_m2 63 rfl
theorem q427 : (Jvm.Cond.fieldLinkNest "StatueRent$Counts" (39 : Nat) "StatueRent$Stone" "glances" "I" "StatueRent") ∈ lw_tbl := lw_at lw_m2 67 rfl
theorem q448 : (Jvm.Cond.fieldLinkNest "StatueRent$Counts" (25 : Nat) "StatueRent$State" "stones" "[LStatueRent$Stone;" "StatueRent") ∈ lw_tbl := lw_at lw_m2 88 rfl
theorem q625 : (Jvm.Cond.fieldLinkNest "StatueRent$Counts" (19 : Nat) "StatueRent" "now" "LStatueRent$State;" "StatueRent") ∈ lw_tbl := lw_at lw_m3 25 rfl
theorem q1585 : (Jvm.Cond.instantiable "StatueRent$Counts" (3 : Nat)) ∈ lw_all := lw_g (lw_at lw_m7 25 rfl) rfl
theorem q1587 : (Jvm.Cond.instanceMethod ({ cls := "StatueRent$Counts", name := "<init>", desc := "(III)V" } : Jvm.MethodName)) ∈ lw_all := lw_g (lw_at lw_m7 27 rfl) rfl
theorem q1588 : (Jvm.Cond.code ({ cls := "StatueRent$Counts", name := "<init>", desc := "(III)V" } : Jvm.MethodName) prog_8_method_1_code (4 : Nat) (Option.none : Option Jvm.ClassFile.FieldType)) ∈ lw_all := lw_g (lw_at lw_m7 28 rfl) rfl
theorem q1589 : (Jvm.Cond.methodLink "StatueRent$Counts" (1 : Nat) ({ cls := "java/lang/Object", name := "<init>", desc := "()V" } : Jvm.MethodName)) ∈ lw_all := lw_g (lw_at lw_m7 29 rfl) rfl
theorem q1590 : (Jvm.Cond.fieldLink "StatueRent$Counts" (7 : Nat) "StatueRent$Counts" "what" "I") ∈ lw_all := lw_g (lw_at lw_m7 30 rfl) rfl
theorem q1591 : (Jvm.Cond.fieldLink "StatueRent$Counts" (13 : Nat) "StatueRent$Counts" "sign" "I") ∈ lw_all := lw_g (lw_at lw_m7 31 rfl) rfl
theorem q1592 : (Jvm.Cond.fieldLink "StatueRent$Counts" (16 : Nat) "StatueRent$Counts" "number" "I") ∈ lw_all := lw_g (lw_at lw_m7 32 rfl) rfl
theorem q1593 : (Jvm.Cond.laysFinal "StatueRent$Counts" "StatueRent$Counts" "what" "I") ∈ lw_all := lw_g (lw_at lw_m7 33 rfl) rfl
theorem q1594 : (Jvm.Cond.soleField "StatueRent$Counts" "what") ∈ lw_all := lw_g (lw_at lw_m7 34 rfl) rfl
theorem q1595 : (Jvm.Cond.laysFinal "StatueRent$Counts" "StatueRent$Counts" "sign" "I") ∈ lw_all := lw_g (lw_at lw_m7 35 rfl) rfl
theorem q1596 : (Jvm.Cond.soleField "StatueRent$Counts" "sign") ∈ lw_all := lw_g (lw_at lw_m7 36 rfl) rfl
theorem q1597 : (Jvm.Cond.laysFinal "StatueRent$Counts" "StatueRent$Counts" "number" "I") ∈ lw_all := lw_g (lw_at lw_m7 37 rfl) rfl
theorem q1598 : (Jvm.Cond.soleField "StatueRent$Counts" "number") ∈ lw_all := lw_g (lw_at lw_m7 38 rfl) rfl
theorem q1599 : (Jvm.Cond.superclass "StatueRent$Counts" "java/lang/Object") ∈ lw_all := lw_g (lw_at lw_m7 39 rfl) rfl
theorem q1652 : (Jvm.Cond.castable "StatueRent$Counts" "StatueRent$Cond") ∈ lw_tbl := lw_at lw_m7 92 rfl
theorem q1653 : (Jvm.Cond.selects "StatueRent$Counts" ({ cls := "StatueRent$Cond", name := "is", desc := "(LStatueRent;I)Z" } : Jvm.MethodName) ({ cls := "StatueRent$Counts", name := "is", desc := "(LStatueRent;I)Z" } : Jvm.MethodName)) ∈ lw_all := lw_g (lw_at lw_m7 93 rfl) rfl
theorem q1654 : (Jvm.Cond.unhidden "StatueRent$Counts" "is" "(LStatueRent;I)Z") ∈ lw_tbl := lw_at lw_m7 94 rfl
theorem q1655 : (Jvm.Cond.instanceMethod ({ cls := "StatueRent$Counts", name := "is", desc := "(LStatueRent;I)Z" } : Jvm.MethodName)) ∈ lw_all := lw_g (lw_at lw_m7 95 rfl) rfl
theorem q1656 : (Jvm.Cond.publicMethod ({ cls := "StatueRent$Counts", name := "is", desc := "(LStatueRent;I)Z" } : Jvm.MethodName)) ∈ lw_tbl := lw_at lw_m7 96 rfl
theorem q1657 : (Jvm.Cond.code ({ cls := "StatueRent$Counts", name := "is", desc := "(LStatueRent;I)Z" } : Jvm.MethodName) prog_8_method_2_code (5 : Nat) (Option.some Jvm.ClassFile.FieldType.boolean)) ∈ lw_all := lw_g (lw_at lw_m7 97 rfl) rfl
theorem q2552 : (Jvm.Cond.castable "StatueRent$Counts" "java/lang/Object") ∈ lw_tbl := lw_at lw_m11 32 rfl
theorem in_X19 : ∀ w ∈ wsX190, w ∈ lw_all := lw_in wsX190 [1593, 1595, 1597] (by decide +kernel) (by decide +kernel)
/-! StatueRent$Both -/
set_option maxRecDepth 100000
def RX20 : String := "StatueRent$Both"
def TX20 : u_T := fun k => match k with
  | 0 => ("StatueRent$Both", "a", "LStatueRent$Cond;", true)
  | _ => ("StatueRent$Both", "b", "LStatueRent$Cond;", true)
def tyX20 : Nat → FieldType := fun k => match k with
  | 0 => .object "StatueRent$Cond"
  | _ => .object "StatueRent$Cond"
abbrev wsX200 : List Cond := u_ws RX20 TX20 2
theorem nmX20 : ∀ a, a < 2 → ∀ b, b < 2 → a ≠ b → (TX20 a).2.1 ≠ (TX20 b).2.1 := by decide +kernel
theorem tyX20_ok : ∀ k, k < 2 → parseFieldDescriptor (TX20 k).2.2.1 = some (tyX20 k) := by decide +kernel
abbrev cX20_init : ByteArray := prog_3_method_1_code
def yX20_init : MethodName := ⟨RX20, "<init>", "(LStatueRent$Cond;LStatueRent$Cond;)V"⟩
def dkwX20_init_0 : List UInt8 := [42, 183, 0, 1, 42, 43, 181, 0, 7, 42, 44, 181, 0, 13, 177]
abbrev dktX20_init_0 : List UInt8 := dkwX20_init_0 ++ []
theorem dksX20_init_0 : cX20_init.data.toList.drop 0 = dktX20_init_0 := by decide +kernel
theorem dX20_init_0 : decode cX20_init 0 = .ok (.aload_n 0, 1) := dk_42 (dk_at dksX20_init_0 0 rfl rfl)
theorem dX20_init_1 : decode cX20_init 1 = .ok (.invokespecial 1, 3) := dk_183 0 1 (dk_at dksX20_init_0 1 rfl rfl)
theorem dX20_init_4 : decode cX20_init 4 = .ok (.aload_n 0, 1) := dk_42 (dk_at dksX20_init_0 4 rfl rfl)
theorem dX20_init_5 : decode cX20_init 5 = .ok (.aload_n 1, 1) := dk_43 (dk_at dksX20_init_0 5 rfl rfl)
theorem dX20_init_6 : decode cX20_init 6 = .ok (.putfield 7, 3) := dk_181 0 7 (dk_at dksX20_init_0 6 rfl rfl)
theorem dX20_init_9 : decode cX20_init 9 = .ok (.aload_n 0, 1) := dk_42 (dk_at dksX20_init_0 9 rfl rfl)
theorem dX20_init_10 : decode cX20_init 10 = .ok (.aload_n 2, 1) := dk_44 (dk_at dksX20_init_0 10 rfl rfl)
theorem dX20_init_11 : decode cX20_init 11 = .ok (.putfield 13, 3) := dk_181 0 13 (dk_at dksX20_init_0 11 rfl rfl)
theorem dX20_init_14 : decode cX20_init 14 = .ok (.return_, 1) := dk_177 (dk_at dksX20_init_0 14 rfl rfl)
abbrev cX20_is : ByteArray := prog_3_method_2_code
def yX20_is : MethodName := ⟨RX20, "is", "(LStatueRent;I)Z"⟩
def dkwX20_is_1 : List UInt8 := [185, 0, 16, 3, 0, 153, 0, 7, 4, 167, 0, 4, 3, 172]
abbrev dktX20_is_1 : List UInt8 := dkwX20_is_1 ++ []
def dkwX20_is_0 : List UInt8 := [42, 180, 0, 7, 43, 28, 185, 0, 16, 3, 0, 153, 0, 21, 42, 180, 0, 13, 43, 28]
abbrev dktX20_is_0 : List UInt8 := dkwX20_is_0 ++ dktX20_is_1
theorem dksX20_is_0 : cX20_is.data.toList.drop 0 = dktX20_is_0 := by decide +kernel
theorem dksX20_is_1 : cX20_is.data.toList.drop 20 = dktX20_is_1 := dk_seg dksX20_is_0 20 rfl rfl
theorem dX20_is_0 : decode cX20_is 0 = .ok (.aload_n 0, 1) := dk_42 (dk_at dksX20_is_0 0 rfl rfl)
theorem dX20_is_1 : decode cX20_is 1 = .ok (.getfield 7, 3) := dk_180 0 7 (dk_at dksX20_is_0 1 rfl rfl)
theorem dX20_is_4 : decode cX20_is 4 = .ok (.aload_n 1, 1) := dk_43 (dk_at dksX20_is_0 4 rfl rfl)
theorem dX20_is_5 : decode cX20_is 5 = .ok (.iload_n 2, 1) := dk_28 (dk_at dksX20_is_0 5 rfl rfl)
theorem dX20_is_6 : decode cX20_is 6 = .ok (.invokeinterface 16 3, 5) := by decide +kernel
theorem dX20_is_11 : decode cX20_is 11 = .ok (.ifCond .eq 21, 3) := dk_153 0 21 (dk_at dksX20_is_0 11 rfl rfl)
theorem dX20_is_14 : decode cX20_is 14 = .ok (.aload_n 0, 1) := dk_42 (dk_at dksX20_is_0 14 rfl rfl)
theorem dX20_is_15 : decode cX20_is 15 = .ok (.getfield 13, 3) := dk_180 0 13 (dk_at dksX20_is_0 15 rfl rfl)
theorem dX20_is_18 : decode cX20_is 18 = .ok (.aload_n 1, 1) := dk_43 (dk_at dksX20_is_0 18 rfl rfl)
theorem dX20_is_19 : decode cX20_is 19 = .ok (.iload_n 2, 1) := dk_28 (dk_at dksX20_is_0 19 rfl rfl)
theorem dX20_is_20 : decode cX20_is 20 = .ok (.invokeinterface 16 3, 5) := by decide +kernel
theorem dX20_is_25 : decode cX20_is 25 = .ok (.ifCond .eq 7, 3) := dk_153 0 7 (dk_at dksX20_is_1 5 rfl rfl)
theorem dX20_is_28 : decode cX20_is 28 = .ok (.iconst 1, 1) := dk_4 (dk_at dksX20_is_1 8 rfl rfl)
theorem dX20_is_29 : decode cX20_is 29 = .ok (.goto 4, 3) := dk_167 0 4 (dk_at dksX20_is_1 9 rfl rfl)
theorem dX20_is_32 : decode cX20_is 32 = .ok (.iconst 0, 1) := dk_3 (dk_at dksX20_is_1 12 rfl rfl)
theorem dX20_is_33 : decode cX20_is 33 = .ok (.ireturn, 1) := dk_172 (dk_at dksX20_is_1 13 rfl rfl)
theorem q153 : (Jvm.Cond.initialized "StatueRent$Both") ∈ lw_all := lw_g (lw_at lw_m1 33 rfl) rfl
theorem q1602 : (Jvm.Cond.instantiable "StatueRent$Both" (2 : Nat)) ∈ lw_all := lw_g (lw_at lw_m7 42 rfl) rfl
theorem q1604 : (Jvm.Cond.instanceMethod ({ cls := "StatueRent$Both", name := "<init>", desc := "(LStatueRent$Cond;LStatueRent$Cond;)V" } : Jvm.MethodName)) ∈ lw_all := lw_g (lw_at lw_m7 44 rfl) rfl
theorem q1605 : (Jvm.Cond.code ({ cls := "StatueRent$Both", name := "<init>", desc := "(LStatueRent$Cond;LStatueRent$Cond;)V" } : Jvm.MethodName) prog_3_method_1_code (3 : Nat) (Option.none : Option Jvm.ClassFile.FieldType)) ∈ lw_all := lw_g (lw_at lw_m7 45 rfl) rfl
theorem q1606 : (Jvm.Cond.methodLink "StatueRent$Both" (1 : Nat) ({ cls := "java/lang/Object", name := "<init>", desc := "()V" } : Jvm.MethodName)) ∈ lw_all := lw_g (lw_at lw_m7 46 rfl) rfl
theorem q1607 : (Jvm.Cond.fieldLink "StatueRent$Both" (7 : Nat) "StatueRent$Both" "a" "LStatueRent$Cond;") ∈ lw_all := lw_g (lw_at lw_m7 47 rfl) rfl
theorem q1608 : (Jvm.Cond.fieldLink "StatueRent$Both" (13 : Nat) "StatueRent$Both" "b" "LStatueRent$Cond;") ∈ lw_all := lw_g (lw_at lw_m7 48 rfl) rfl
theorem q1609 : (Jvm.Cond.laysFinal "StatueRent$Both" "StatueRent$Both" "a" "LStatueRent$Cond;") ∈ lw_all := lw_g (lw_at lw_m7 49 rfl) rfl
theorem q1610 : (Jvm.Cond.soleField "StatueRent$Both" "a") ∈ lw_all := lw_g (lw_at lw_m7 50 rfl) rfl
theorem q1611 : (Jvm.Cond.laysFinal "StatueRent$Both" "StatueRent$Both" "b" "LStatueRent$Cond;") ∈ lw_all := lw_g (lw_at lw_m7 51 rfl) rfl
theorem q1612 : (Jvm.Cond.soleField "StatueRent$Both" "b") ∈ lw_all := lw_g (lw_at lw_m7 52 rfl) rfl
theorem q1613 : (Jvm.Cond.superclass "StatueRent$Both" "java/lang/Object") ∈ lw_all := lw_g (lw_at lw_m7 53 rfl) rfl
theorem q1644 : (Jvm.Cond.castable "StatueRent$Both" "StatueRent$Cond") ∈ lw_tbl := lw_at lw_m7 84 rfl
theorem q1645 : (Jvm.Cond.selects "StatueRent$Both" ({ cls := "StatueRent$Cond", name := "is", desc := "(LStatueRent;I)Z" } : Jvm.MethodName) ({ cls := "StatueRent$Both", name := "is", desc := "(LStatueRent;I)Z" } : Jvm.MethodName)) ∈ lw_all := lw_g (lw_at lw_m7 85 rfl) rfl
theorem q1646 : (Jvm.Cond.unhidden "StatueRent$Both" "is" "(LStatueRent;I)Z") ∈ lw_tbl := lw_at lw_m7 86 rfl
theorem q1647 : (Jvm.Cond.instanceMethod ({ cls := "StatueRent$Both", name := "is", desc := "(LStatueRent;I)Z" } : Jvm.MethodName)) ∈ lw_all := lw_g (lw_at lw_m7 87 rfl) rfl
theorem q1648 : (Jvm.Cond.publicMethod ({ cls := "StatueRent$Both", name := "is", desc := "(LStatueRent;I)Z" } : Jvm.MethodName)) ∈ lw_tbl := lw_at lw_m7 88 rfl
theorem q1649 : (Jvm.Cond.code ({ cls := "StatueRent$Both", name := "is", desc := "(LStatueRent;I)Z" } : Jvm.MethodName) prog_3_method_2_code (3 : Nat) (Option.some Jvm.ClassFile.FieldType.boolean)) ∈ lw_all := lw_g (lw_at lw_m7 89 rfl) rfl
theorem q1650 : (Jvm.Cond.interfaceEntry "StatueRent$Both" (16 : Nat)) ∈ lw_tbl := lw_at lw_m7 90 rfl
theorem q1651 : (Jvm.Cond.methodLink "StatueRent$Both" (16 : Nat) ({ cls := "StatueRent$Cond", name := "is", desc := "(LStatueRent;I)Z" } : Jvm.MethodName)) ∈ lw_all := lw_g (lw_at lw_m7 91 rfl) rfl
theorem q2553 : (Jvm.Cond.castable "StatueRent$Both" "java/lang/Object") ∈ lw_tbl := lw_at lw_m11 33 rfl
theorem in_X20 : ∀ w ∈ wsX200, w ∈ lw_all := lw_in wsX200 [1609, 1611] (by decide +kernel) (by decide +kernel)
/-! StatueRent$Any -/
set_option maxRecDepth 100000
def RX21 : String := "StatueRent$Any"
def TX21 : u_T := fun k => match k with
  | 0 => ("StatueRent$Any", "a", "LStatueRent$Cond;", true)
  | _ => ("StatueRent$Any", "b", "LStatueRent$Cond;", true)
def tyX21 : Nat → FieldType := fun k => match k with
  | 0 => .object "StatueRent$Cond"
  | _ => .object "StatueRent$Cond"
abbrev wsX210 : List Cond := u_ws RX21 TX21 2
theorem nmX21 : ∀ a, a < 2 → ∀ b, b < 2 → a ≠ b → (TX21 a).2.1 ≠ (TX21 b).2.1 := by decide +kernel
theorem tyX21_ok : ∀ k, k < 2 → parseFieldDescriptor (TX21 k).2.2.1 = some (tyX21 k) := by decide +kernel
abbrev cX21_init : ByteArray := prog_2_method_1_code
def yX21_init : MethodName := ⟨RX21, "<init>", "(LStatueRent$Cond;LStatueRent$Cond;)V"⟩
def dkwX21_init_0 : List UInt8 := [42, 183, 0, 1, 42, 43, 181, 0, 7, 42, 44, 181, 0, 13, 177]
abbrev dktX21_init_0 : List UInt8 := dkwX21_init_0 ++ []
theorem dksX21_init_0 : cX21_init.data.toList.drop 0 = dktX21_init_0 := by decide +kernel
theorem dX21_init_0 : decode cX21_init 0 = .ok (.aload_n 0, 1) := dk_42 (dk_at dksX21_init_0 0 rfl rfl)
theorem dX21_init_1 : decode cX21_init 1 = .ok (.invokespecial 1, 3) := dk_183 0 1 (dk_at dksX21_init_0 1 rfl rfl)
theorem dX21_init_4 : decode cX21_init 4 = .ok (.aload_n 0, 1) := dk_42 (dk_at dksX21_init_0 4 rfl rfl)
theorem dX21_init_5 : decode cX21_init 5 = .ok (.aload_n 1, 1) := dk_43 (dk_at dksX21_init_0 5 rfl rfl)
theorem dX21_init_6 : decode cX21_init 6 = .ok (.putfield 7, 3) := dk_181 0 7 (dk_at dksX21_init_0 6 rfl rfl)
theorem dX21_init_9 : decode cX21_init 9 = .ok (.aload_n 0, 1) := dk_42 (dk_at dksX21_init_0 9 rfl rfl)
theorem dX21_init_10 : decode cX21_init 10 = .ok (.aload_n 2, 1) := dk_44 (dk_at dksX21_init_0 10 rfl rfl)
theorem dX21_init_11 : decode cX21_init 11 = .ok (.putfield 13, 3) := dk_181 0 13 (dk_at dksX21_init_0 11 rfl rfl)
theorem dX21_init_14 : decode cX21_init 14 = .ok (.return_, 1) := dk_177 (dk_at dksX21_init_0 14 rfl rfl)
abbrev cX21_is : ByteArray := prog_2_method_2_code
def yX21_is : MethodName := ⟨RX21, "is", "(LStatueRent;I)Z"⟩
def dkwX21_is_1 : List UInt8 := [185, 0, 16, 3, 0, 153, 0, 7, 4, 167, 0, 4, 3, 172]
abbrev dktX21_is_1 : List UInt8 := dkwX21_is_1 ++ []
def dkwX21_is_0 : List UInt8 := [42, 180, 0, 7, 43, 28, 185, 0, 16, 3, 0, 154, 0, 17, 42, 180, 0, 13, 43, 28]
abbrev dktX21_is_0 : List UInt8 := dkwX21_is_0 ++ dktX21_is_1
theorem dksX21_is_0 : cX21_is.data.toList.drop 0 = dktX21_is_0 := by decide +kernel
theorem dksX21_is_1 : cX21_is.data.toList.drop 20 = dktX21_is_1 := dk_seg dksX21_is_0 20 rfl rfl
theorem dX21_is_0 : decode cX21_is 0 = .ok (.aload_n 0, 1) := dk_42 (dk_at dksX21_is_0 0 rfl rfl)
theorem dX21_is_1 : decode cX21_is 1 = .ok (.getfield 7, 3) := dk_180 0 7 (dk_at dksX21_is_0 1 rfl rfl)
theorem dX21_is_4 : decode cX21_is 4 = .ok (.aload_n 1, 1) := dk_43 (dk_at dksX21_is_0 4 rfl rfl)
theorem dX21_is_5 : decode cX21_is 5 = .ok (.iload_n 2, 1) := dk_28 (dk_at dksX21_is_0 5 rfl rfl)
theorem dX21_is_6 : decode cX21_is 6 = .ok (.invokeinterface 16 3, 5) := by decide +kernel
theorem dX21_is_11 : decode cX21_is 11 = .ok (.ifCond .ne 17, 3) := dk_154 0 17 (dk_at dksX21_is_0 11 rfl rfl)
theorem dX21_is_14 : decode cX21_is 14 = .ok (.aload_n 0, 1) := dk_42 (dk_at dksX21_is_0 14 rfl rfl)
theorem dX21_is_15 : decode cX21_is 15 = .ok (.getfield 13, 3) := dk_180 0 13 (dk_at dksX21_is_0 15 rfl rfl)
theorem dX21_is_18 : decode cX21_is 18 = .ok (.aload_n 1, 1) := dk_43 (dk_at dksX21_is_0 18 rfl rfl)
theorem dX21_is_19 : decode cX21_is 19 = .ok (.iload_n 2, 1) := dk_28 (dk_at dksX21_is_0 19 rfl rfl)
theorem dX21_is_20 : decode cX21_is 20 = .ok (.invokeinterface 16 3, 5) := by decide +kernel
theorem dX21_is_25 : decode cX21_is 25 = .ok (.ifCond .eq 7, 3) := dk_153 0 7 (dk_at dksX21_is_1 5 rfl rfl)
theorem dX21_is_28 : decode cX21_is 28 = .ok (.iconst 1, 1) := dk_4 (dk_at dksX21_is_1 8 rfl rfl)
theorem dX21_is_29 : decode cX21_is 29 = .ok (.goto 4, 3) := dk_167 0 4 (dk_at dksX21_is_1 9 rfl rfl)
theorem dX21_is_32 : decode cX21_is 32 = .ok (.iconst 0, 1) := dk_3 (dk_at dksX21_is_1 12 rfl rfl)
theorem dX21_is_33 : decode cX21_is 33 = .ok (.ireturn, 1) := dk_172 (dk_at dksX21_is_1 13 rfl rfl)
theorem q154 : (Jvm.Cond.initialized "StatueRent$Any") ∈ lw_all := lw_g (lw_at lw_m1 34 rfl) rfl
theorem q1616 : (Jvm.Cond.instantiable "StatueRent$Any" (2 : Nat)) ∈ lw_all := lw_g (lw_at lw_m7 56 rfl) rfl
theorem q1618 : (Jvm.Cond.instanceMethod ({ cls := "StatueRent$Any", name := "<init>", desc := "(LStatueRent$Cond;LStatueRent$Cond;)V" } : Jvm.MethodName)) ∈ lw_all := lw_g (lw_at lw_m7 58 rfl) rfl
theorem q1619 : (Jvm.Cond.code ({ cls := "StatueRent$Any", name := "<init>", desc := "(LStatueRent$Cond;LStatueRent$Cond;)V" } : Jvm.MethodName) prog_2_method_1_code (3 : Nat) (Option.none : Option Jvm.ClassFile.FieldType)) ∈ lw_all := lw_g (lw_at lw_m7 59 rfl) rfl
theorem q1620 : (Jvm.Cond.methodLink "StatueRent$Any" (1 : Nat) ({ cls := "java/lang/Object", name := "<init>", desc := "()V" } : Jvm.MethodName)) ∈ lw_all := lw_g (lw_at lw_m7 60 rfl) rfl
theorem q1621 : (Jvm.Cond.fieldLink "StatueRent$Any" (7 : Nat) "StatueRent$Any" "a" "LStatueRent$Cond;") ∈ lw_all := lw_g (lw_at lw_m7 61 rfl) rfl
theorem q1622 : (Jvm.Cond.fieldLink "StatueRent$Any" (13 : Nat) "StatueRent$Any" "b" "LStatueRent$Cond;") ∈ lw_all := lw_g (lw_at lw_m7 62 rfl) rfl
theorem q1623 : (Jvm.Cond.laysFinal "StatueRent$Any" "StatueRent$Any" "a" "LStatueRent$Cond;") ∈ lw_all := lw_g (lw_at lw_m7 63 rfl) rfl
theorem q1624 : (Jvm.Cond.soleField "StatueRent$Any" "a") ∈ lw_all := lw_g (lw_at lw_m7 64 rfl) rfl
theorem q1625 : (Jvm.Cond.laysFinal "StatueRent$Any" "StatueRent$Any" "b" "LStatueRent$Cond;") ∈ lw_all := lw_g (lw_at lw_m7 65 rfl) rfl
theorem q1626 : (Jvm.Cond.soleField "StatueRent$Any" "b") ∈ lw_all := lw_g (lw_at lw_m7 66 rfl) rfl
theorem q1627 : (Jvm.Cond.superclass "StatueRent$Any" "java/lang/Object") ∈ lw_all := lw_g (lw_at lw_m7 67 rfl) rfl
theorem q1636 : (Jvm.Cond.castable "StatueRent$Any" "StatueRent$Cond") ∈ lw_tbl := lw_at lw_m7 76 rfl
theorem q1637 : (Jvm.Cond.selects "StatueRent$Any" ({ cls := "StatueRent$Cond", name := "is", desc := "(LStatueRent;I)Z" } : Jvm.MethodName) ({ cls := "StatueRent$Any", name := "is", desc := "(LStatueRent;I)Z" } : Jvm.MethodName)) ∈ lw_all := lw_g (lw_at lw_m7 77 rfl) rfl
theorem q1638 : (Jvm.Cond.unhidden "StatueRent$Any" "is" "(LStatueRent;I)Z") ∈ lw_tbl := lw_at lw_m7 78 rfl
theorem q1639 : (Jvm.Cond.instanceMethod ({ cls := "StatueRent$Any", name := "is", desc := "(LStatueRent;I)Z" } : Jvm.MethodName)) ∈ lw_all := lw_g (lw_at lw_m7 79 rfl) rfl
theorem q1640 : (Jvm.Cond.publicMethod ({ cls := "StatueRent$Any", name := "is", desc := "(LStatueRent;I)Z" } : Jvm.MethodName)) ∈ lw_tbl := lw_at lw_m7 80 rfl
theorem q1641 : (Jvm.Cond.code ({ cls := "StatueRent$Any", name := "is", desc := "(LStatueRent;I)Z" } : Jvm.MethodName) prog_2_method_2_code (3 : Nat) (Option.some Jvm.ClassFile.FieldType.boolean)) ∈ lw_all := lw_g (lw_at lw_m7 81 rfl) rfl
theorem q1642 : (Jvm.Cond.interfaceEntry "StatueRent$Any" (16 : Nat)) ∈ lw_tbl := lw_at lw_m7 82 rfl
theorem q1643 : (Jvm.Cond.methodLink "StatueRent$Any" (16 : Nat) ({ cls := "StatueRent$Cond", name := "is", desc := "(LStatueRent;I)Z" } : Jvm.MethodName)) ∈ lw_all := lw_g (lw_at lw_m7 83 rfl) rfl
theorem q2554 : (Jvm.Cond.castable "StatueRent$Any" "java/lang/Object") ∈ lw_tbl := lw_at lw_m11 34 rfl
theorem in_X21 : ∀ w ∈ wsX210, w ∈ lw_all := lw_in wsX210 [1623, 1625] (by decide +kernel) (by decide +kernel)
/-! StatueRent$Kept -/
set_option maxRecDepth 100000
def RX22 : String := "StatueRent$Kept"
def TX22 : u_T := fun k => match k with
  | 0 => ("StatueRent$Kept", "city", "LStatueRent$City;", false)
  | 1 => ("StatueRent$Kept", "state", "LStatueRent$State;", true)
  | _ => ("StatueRent$Kept", "sentence", "LStatueRent$Cond;", false)
def tyX22 : Nat → FieldType := fun k => match k with
  | 0 => .object "StatueRent$City"
  | 1 => .object "StatueRent$State"
  | _ => .object "StatueRent$Cond"
abbrev wsX220 : List Cond := u_ws RX22 TX22 3
theorem nmX22 : ∀ a, a < 3 → ∀ b, b < 3 → a ≠ b → (TX22 a).2.1 ≠ (TX22 b).2.1 := by decide +kernel
theorem tyX22_ok : ∀ k, k < 3 → parseFieldDescriptor (TX22 k).2.2.1 = some (tyX22 k) := by decide +kernel
abbrev cX22_init : ByteArray := prog_11_method_1_code
def yX22_init : MethodName := ⟨RX22, "<init>", "()V"⟩
def dkwX22_init_0 : List UInt8 := [42, 183, 0, 1, 42, 187, 0, 7, 89, 183, 0, 9, 181, 0, 10, 177]
abbrev dktX22_init_0 : List UInt8 := dkwX22_init_0 ++ []
theorem dksX22_init_0 : cX22_init.data.toList.drop 0 = dktX22_init_0 := by decide +kernel
theorem dX22_init_0 : decode cX22_init 0 = .ok (.aload_n 0, 1) := dk_42 (dk_at dksX22_init_0 0 rfl rfl)
theorem dX22_init_1 : decode cX22_init 1 = .ok (.invokespecial 1, 3) := dk_183 0 1 (dk_at dksX22_init_0 1 rfl rfl)
theorem dX22_init_4 : decode cX22_init 4 = .ok (.aload_n 0, 1) := dk_42 (dk_at dksX22_init_0 4 rfl rfl)
theorem dX22_init_5 : decode cX22_init 5 = .ok (.new 7, 3) := dk_187 0 7 (dk_at dksX22_init_0 5 rfl rfl)
theorem dX22_init_8 : decode cX22_init 8 = .ok (.dup, 1) := dk_89 (dk_at dksX22_init_0 8 rfl rfl)
theorem dX22_init_9 : decode cX22_init 9 = .ok (.invokespecial 9, 3) := dk_183 0 9 (dk_at dksX22_init_0 9 rfl rfl)
theorem dX22_init_12 : decode cX22_init 12 = .ok (.putfield 10, 3) := dk_181 0 10 (dk_at dksX22_init_0 12 rfl rfl)
theorem dX22_init_15 : decode cX22_init 15 = .ok (.return_, 1) := dk_177 (dk_at dksX22_init_0 15 rfl rfl)
theorem q155 : (Jvm.Cond.initialized "StatueRent$Kept") ∈ lw_all := lw_g (lw_at lw_m1 35 rfl) rfl
theorem q1679 : (Jvm.Cond.instantiable "StatueRent$Kept" (3 : Nat)) ∈ lw_all := lw_g (lw_at lw_m7 119 rfl) rfl
theorem q1681 : (Jvm.Cond.instanceMethod ({ cls := "StatueRent$Kept", name := "<init>", desc := "()V" } : Jvm.MethodName)) ∈ lw_all := lw_g (lw_at lw_m7 121 rfl) rfl
theorem q1682 : (Jvm.Cond.code ({ cls := "StatueRent$Kept", name := "<init>", desc := "()V" } : Jvm.MethodName) prog_11_method_1_code (1 : Nat) (Option.none : Option Jvm.ClassFile.FieldType)) ∈ lw_all := lw_g (lw_at lw_m7 122 rfl) rfl
theorem q1683 : (Jvm.Cond.methodLink "StatueRent$Kept" (1 : Nat) ({ cls := "java/lang/Object", name := "<init>", desc := "()V" } : Jvm.MethodName)) ∈ lw_all := lw_g (lw_at lw_m7 123 rfl) rfl
theorem q1684 : (Jvm.Cond.classLink "StatueRent$Kept" (7 : Nat) "StatueRent$State") ∈ lw_all := lw_g (lw_at lw_m7 124 rfl) rfl
theorem q1685 : (Jvm.Cond.methodLink "StatueRent$Kept" (9 : Nat) ({ cls := "StatueRent$State", name := "<init>", desc := "()V" } : Jvm.MethodName)) ∈ lw_all := lw_g (lw_at lw_m7 125 rfl) rfl
theorem q1687 : (Jvm.Cond.fieldLink "StatueRent$Kept" (10 : Nat) "StatueRent$Kept" "state" "LStatueRent$State;") ∈ lw_all := lw_g (lw_at lw_m7 127 rfl) rfl
theorem q1690 : (Jvm.Cond.lays "StatueRent$Kept" "StatueRent$Kept" "city" "LStatueRent$City;") ∈ lw_all := lw_g (lw_at lw_m7 130 rfl) rfl
theorem q1691 : (Jvm.Cond.soleField "StatueRent$Kept" "city") ∈ lw_all := lw_g (lw_at lw_m7 131 rfl) rfl
theorem q1692 : (Jvm.Cond.laysFinal "StatueRent$Kept" "StatueRent$Kept" "state" "LStatueRent$State;") ∈ lw_all := lw_g (lw_at lw_m7 132 rfl) rfl
theorem q1693 : (Jvm.Cond.soleField "StatueRent$Kept" "state") ∈ lw_all := lw_g (lw_at lw_m7 133 rfl) rfl
theorem q1694 : (Jvm.Cond.lays "StatueRent$Kept" "StatueRent$Kept" "sentence" "LStatueRent$Cond;") ∈ lw_all := lw_g (lw_at lw_m7 134 rfl) rfl
theorem q1695 : (Jvm.Cond.soleField "StatueRent$Kept" "sentence") ∈ lw_all := lw_g (lw_at lw_m7 135 rfl) rfl
theorem q1696 : (Jvm.Cond.superclass "StatueRent$Kept" "java/lang/Object") ∈ lw_all := lw_g (lw_at lw_m7 136 rfl) rfl
theorem q2555 : (Jvm.Cond.castable "StatueRent$Kept" "java/lang/Object") ∈ lw_tbl := lw_at lw_m11 35 rfl
theorem in_X22 : ∀ w ∈ wsX220, w ∈ lw_all := lw_in wsX220 [1690, 1692, 1694] (by decide +kernel) (by decide +kernel)
/-! StatueRentLaw -/
set_option maxRecDepth 100000
def RX0 : String := "StatueRentLaw"
abbrev cX0_statue : ByteArray := method_3_code
def yX0_statue : MethodName := ⟨RX0, "statue", "(LStatueRent;II[J)I"⟩
def dkwX0_statue_0 : List UInt8 := [45, 3, 42, 27, 28, 182, 0, 7, 133, 80, 167, 0, 7, 58, 4, 4, 172, 3, 172]
abbrev dktX0_statue_0 : List UInt8 := dkwX0_statue_0 ++ []
theorem dksX0_statue_0 : cX0_statue.data.toList.drop 0 = dktX0_statue_0 := by decide +kernel
theorem dX0_statue_0 : decode cX0_statue 0 = .ok (.aload_n 3, 1) := dk_45 (dk_at dksX0_statue_0 0 rfl rfl)
theorem dX0_statue_1 : decode cX0_statue 1 = .ok (.iconst 0, 1) := dk_3 (dk_at dksX0_statue_0 1 rfl rfl)
theorem dX0_statue_2 : decode cX0_statue 2 = .ok (.aload_n 0, 1) := dk_42 (dk_at dksX0_statue_0 2 rfl rfl)
theorem dX0_statue_3 : decode cX0_statue 3 = .ok (.iload_n 1, 1) := dk_27 (dk_at dksX0_statue_0 3 rfl rfl)
theorem dX0_statue_4 : decode cX0_statue 4 = .ok (.iload_n 2, 1) := dk_28 (dk_at dksX0_statue_0 4 rfl rfl)
theorem dX0_statue_5 : decode cX0_statue 5 = .ok (.invokevirtual 7, 3) := dk_182 0 7 (dk_at dksX0_statue_0 5 rfl rfl)
theorem dX0_statue_8 : decode cX0_statue 8 = .ok (.i2l, 1) := dk_133 (dk_at dksX0_statue_0 8 rfl rfl)
theorem dX0_statue_9 : decode cX0_statue 9 = .ok (.lastore, 1) := dk_80 (dk_at dksX0_statue_0 9 rfl rfl)
theorem dX0_statue_10 : decode cX0_statue 10 = .ok (.goto 7, 3) := dk_167 0 7 (dk_at dksX0_statue_0 10 rfl rfl)
theorem dX0_statue_13 : decode cX0_statue 13 = .ok (.astore 4, 2) := dk_58 4 (dk_at dksX0_statue_0 13 rfl rfl)
theorem dX0_statue_15 : decode cX0_statue 15 = .ok (.iconst 1, 1) := dk_4 (dk_at dksX0_statue_0 15 rfl rfl)
theorem dX0_statue_16 : decode cX0_statue 16 = .ok (.ireturn, 1) := dk_172 (dk_at dksX0_statue_0 16 rfl rfl)
theorem dX0_statue_17 : decode cX0_statue 17 = .ok (.iconst 0, 1) := dk_3 (dk_at dksX0_statue_0 17 rfl rfl)
theorem dX0_statue_18 : decode cX0_statue 18 = .ok (.ireturn, 1) := dk_172 (dk_at dksX0_statue_0 18 rfl rfl)
abbrev cX0_walker : ByteArray := method_4_code
def yX0_walker : MethodName := ⟨RX0, "walker", "(LStatueRent;II[J)I"⟩
def dkwX0_walker_0 : List UInt8 := [45, 3, 42, 27, 28, 182, 0, 15, 133, 80, 167, 0, 7, 58, 4, 4, 172, 3, 172]
abbrev dktX0_walker_0 : List UInt8 := dkwX0_walker_0 ++ []
theorem dksX0_walker_0 : cX0_walker.data.toList.drop 0 = dktX0_walker_0 := by decide +kernel
theorem dX0_walker_0 : decode cX0_walker 0 = .ok (.aload_n 3, 1) := dk_45 (dk_at dksX0_walker_0 0 rfl rfl)
theorem dX0_walker_1 : decode cX0_walker 1 = .ok (.iconst 0, 1) := dk_3 (dk_at dksX0_walker_0 1 rfl rfl)
theorem dX0_walker_2 : decode cX0_walker 2 = .ok (.aload_n 0, 1) := dk_42 (dk_at dksX0_walker_0 2 rfl rfl)
theorem dX0_walker_3 : decode cX0_walker 3 = .ok (.iload_n 1, 1) := dk_27 (dk_at dksX0_walker_0 3 rfl rfl)
theorem dX0_walker_4 : decode cX0_walker 4 = .ok (.iload_n 2, 1) := dk_28 (dk_at dksX0_walker_0 4 rfl rfl)
theorem dX0_walker_5 : decode cX0_walker 5 = .ok (.invokevirtual 15, 3) := dk_182 0 15 (dk_at dksX0_walker_0 5 rfl rfl)
theorem dX0_walker_8 : decode cX0_walker 8 = .ok (.i2l, 1) := dk_133 (dk_at dksX0_walker_0 8 rfl rfl)
theorem dX0_walker_9 : decode cX0_walker 9 = .ok (.lastore, 1) := dk_80 (dk_at dksX0_walker_0 9 rfl rfl)
theorem dX0_walker_10 : decode cX0_walker 10 = .ok (.goto 7, 3) := dk_167 0 7 (dk_at dksX0_walker_0 10 rfl rfl)
theorem dX0_walker_13 : decode cX0_walker 13 = .ok (.astore 4, 2) := dk_58 4 (dk_at dksX0_walker_0 13 rfl rfl)
theorem dX0_walker_15 : decode cX0_walker 15 = .ok (.iconst 1, 1) := dk_4 (dk_at dksX0_walker_0 15 rfl rfl)
theorem dX0_walker_16 : decode cX0_walker 16 = .ok (.ireturn, 1) := dk_172 (dk_at dksX0_walker_0 16 rfl rfl)
theorem dX0_walker_17 : decode cX0_walker 17 = .ok (.iconst 0, 1) := dk_3 (dk_at dksX0_walker_0 17 rfl rfl)
theorem dX0_walker_18 : decode cX0_walker 18 = .ok (.ireturn, 1) := dk_172 (dk_at dksX0_walker_0 18 rfl rfl)
abbrev cX0_yields : ByteArray := method_5_code
def yX0_yields : MethodName := ⟨RX0, "yields", "(LStatueRent;IIII[J)I"⟩
def dkwX0_yields_0 : List UInt8 := [25, 5, 3, 42, 27, 28, 29, 21, 4, 182, 0, 18, 133, 80, 167, 0, 7, 58, 6, 4, 172, 3, 172]
abbrev dktX0_yields_0 : List UInt8 := dkwX0_yields_0 ++ []
theorem dksX0_yields_0 : cX0_yields.data.toList.drop 0 = dktX0_yields_0 := by decide +kernel
theorem dX0_yields_0 : decode cX0_yields 0 = .ok (.aload 5, 2) := dk_25 5 (dk_at dksX0_yields_0 0 rfl rfl)
theorem dX0_yields_2 : decode cX0_yields 2 = .ok (.iconst 0, 1) := dk_3 (dk_at dksX0_yields_0 2 rfl rfl)
theorem dX0_yields_3 : decode cX0_yields 3 = .ok (.aload_n 0, 1) := dk_42 (dk_at dksX0_yields_0 3 rfl rfl)
theorem dX0_yields_4 : decode cX0_yields 4 = .ok (.iload_n 1, 1) := dk_27 (dk_at dksX0_yields_0 4 rfl rfl)
theorem dX0_yields_5 : decode cX0_yields 5 = .ok (.iload_n 2, 1) := dk_28 (dk_at dksX0_yields_0 5 rfl rfl)
theorem dX0_yields_6 : decode cX0_yields 6 = .ok (.iload_n 3, 1) := dk_29 (dk_at dksX0_yields_0 6 rfl rfl)
theorem dX0_yields_7 : decode cX0_yields 7 = .ok (.iload 4, 2) := dk_21 4 (dk_at dksX0_yields_0 7 rfl rfl)
theorem dX0_yields_9 : decode cX0_yields 9 = .ok (.invokevirtual 18, 3) := dk_182 0 18 (dk_at dksX0_yields_0 9 rfl rfl)
theorem dX0_yields_12 : decode cX0_yields 12 = .ok (.i2l, 1) := dk_133 (dk_at dksX0_yields_0 12 rfl rfl)
theorem dX0_yields_13 : decode cX0_yields 13 = .ok (.lastore, 1) := dk_80 (dk_at dksX0_yields_0 13 rfl rfl)
theorem dX0_yields_14 : decode cX0_yields 14 = .ok (.goto 7, 3) := dk_167 0 7 (dk_at dksX0_yields_0 14 rfl rfl)
theorem dX0_yields_17 : decode cX0_yields 17 = .ok (.astore 6, 2) := dk_58 6 (dk_at dksX0_yields_0 17 rfl rfl)
theorem dX0_yields_19 : decode cX0_yields 19 = .ok (.iconst 1, 1) := dk_4 (dk_at dksX0_yields_0 19 rfl rfl)
theorem dX0_yields_20 : decode cX0_yields 20 = .ok (.ireturn, 1) := dk_172 (dk_at dksX0_yields_0 20 rfl rfl)
theorem dX0_yields_21 : decode cX0_yields 21 = .ok (.iconst 0, 1) := dk_3 (dk_at dksX0_yields_0 21 rfl rfl)
theorem dX0_yields_22 : decode cX0_yields 22 = .ok (.ireturn, 1) := dk_172 (dk_at dksX0_yields_0 22 rfl rfl)
abbrev cX0_today : ByteArray := method_6_code
def yX0_today : MethodName := ⟨RX0, "today", "(LStatueRent;II[J)I"⟩
def dkwX0_today_0 : List UInt8 := [45, 3, 42, 27, 28, 182, 0, 22, 133, 80, 167, 0, 7, 58, 4, 4, 172, 3, 172]
abbrev dktX0_today_0 : List UInt8 := dkwX0_today_0 ++ []
theorem dksX0_today_0 : cX0_today.data.toList.drop 0 = dktX0_today_0 := by decide +kernel
theorem dX0_today_0 : decode cX0_today 0 = .ok (.aload_n 3, 1) := dk_45 (dk_at dksX0_today_0 0 rfl rfl)
theorem dX0_today_1 : decode cX0_today 1 = .ok (.iconst 0, 1) := dk_3 (dk_at dksX0_today_0 1 rfl rfl)
theorem dX0_today_2 : decode cX0_today 2 = .ok (.aload_n 0, 1) := dk_42 (dk_at dksX0_today_0 2 rfl rfl)
theorem dX0_today_3 : decode cX0_today 3 = .ok (.iload_n 1, 1) := dk_27 (dk_at dksX0_today_0 3 rfl rfl)
theorem dX0_today_4 : decode cX0_today 4 = .ok (.iload_n 2, 1) := dk_28 (dk_at dksX0_today_0 4 rfl rfl)
theorem dX0_today_5 : decode cX0_today 5 = .ok (.invokevirtual 22, 3) := dk_182 0 22 (dk_at dksX0_today_0 5 rfl rfl)
theorem dX0_today_8 : decode cX0_today 8 = .ok (.i2l, 1) := dk_133 (dk_at dksX0_today_0 8 rfl rfl)
theorem dX0_today_9 : decode cX0_today 9 = .ok (.lastore, 1) := dk_80 (dk_at dksX0_today_0 9 rfl rfl)
theorem dX0_today_10 : decode cX0_today 10 = .ok (.goto 7, 3) := dk_167 0 7 (dk_at dksX0_today_0 10 rfl rfl)
theorem dX0_today_13 : decode cX0_today 13 = .ok (.astore 4, 2) := dk_58 4 (dk_at dksX0_today_0 13 rfl rfl)
theorem dX0_today_15 : decode cX0_today 15 = .ok (.iconst 1, 1) := dk_4 (dk_at dksX0_today_0 15 rfl rfl)
theorem dX0_today_16 : decode cX0_today 16 = .ok (.ireturn, 1) := dk_172 (dk_at dksX0_today_0 16 rfl rfl)
theorem dX0_today_17 : decode cX0_today 17 = .ok (.iconst 0, 1) := dk_3 (dk_at dksX0_today_0 17 rfl rfl)
theorem dX0_today_18 : decode cX0_today 18 = .ok (.ireturn, 1) := dk_172 (dk_at dksX0_today_0 18 rfl rfl)
abbrev cX0_placing : ByteArray := method_7_code
def yX0_placing : MethodName := ⟨RX0, "placing", "(LStatueRent;I[J)I"⟩
def dkwX0_placing_0 : List UInt8 := [44, 3, 42, 27, 182, 0, 25, 133, 80, 167, 0, 6, 78, 4, 172, 3, 172]
abbrev dktX0_placing_0 : List UInt8 := dkwX0_placing_0 ++ []
theorem dksX0_placing_0 : cX0_placing.data.toList.drop 0 = dktX0_placing_0 := by decide +kernel
theorem dX0_placing_0 : decode cX0_placing 0 = .ok (.aload_n 2, 1) := dk_44 (dk_at dksX0_placing_0 0 rfl rfl)
theorem dX0_placing_1 : decode cX0_placing 1 = .ok (.iconst 0, 1) := dk_3 (dk_at dksX0_placing_0 1 rfl rfl)
theorem dX0_placing_2 : decode cX0_placing 2 = .ok (.aload_n 0, 1) := dk_42 (dk_at dksX0_placing_0 2 rfl rfl)
theorem dX0_placing_3 : decode cX0_placing 3 = .ok (.iload_n 1, 1) := dk_27 (dk_at dksX0_placing_0 3 rfl rfl)
theorem dX0_placing_4 : decode cX0_placing 4 = .ok (.invokevirtual 25, 3) := dk_182 0 25 (dk_at dksX0_placing_0 4 rfl rfl)
theorem dX0_placing_7 : decode cX0_placing 7 = .ok (.i2l, 1) := dk_133 (dk_at dksX0_placing_0 7 rfl rfl)
theorem dX0_placing_8 : decode cX0_placing 8 = .ok (.lastore, 1) := dk_80 (dk_at dksX0_placing_0 8 rfl rfl)
theorem dX0_placing_9 : decode cX0_placing 9 = .ok (.goto 6, 3) := dk_167 0 6 (dk_at dksX0_placing_0 9 rfl rfl)
theorem dX0_placing_12 : decode cX0_placing 12 = .ok (.astore_n 3, 1) := dk_78 (dk_at dksX0_placing_0 12 rfl rfl)
theorem dX0_placing_13 : decode cX0_placing 13 = .ok (.iconst 1, 1) := dk_4 (dk_at dksX0_placing_0 13 rfl rfl)
theorem dX0_placing_14 : decode cX0_placing 14 = .ok (.ireturn, 1) := dk_172 (dk_at dksX0_placing_0 14 rfl rfl)
theorem dX0_placing_15 : decode cX0_placing 15 = .ok (.iconst 0, 1) := dk_3 (dk_at dksX0_placing_0 15 rfl rfl)
theorem dX0_placing_16 : decode cX0_placing 16 = .ok (.ireturn, 1) := dk_172 (dk_at dksX0_placing_0 16 rfl rfl)
theorem q120 : (Jvm.Cond.initialized "StatueRentLaw") ∈ lw_all := lw_g (lw_at lw_m1 0 rfl) rfl
theorem q156 : (Jvm.Cond.classLink "StatueRentLaw" (8 : Nat) "StatueRent") ∈ lw_all := lw_g (lw_at lw_m1 36 rfl) rfl
theorem q158 : (Jvm.Cond.methodLink "StatueRentLaw" (29 : Nat) ({ cls := "StatueRent", name := "<init>", desc := "()V" } : Jvm.MethodName)) ∈ lw_all := lw_g (lw_at lw_m1 38 rfl) rfl
theorem q743 : (Jvm.Cond.methodLink "StatueRentLaw" (33 : Nat) ({ cls := "StatueRent", name := "feed", desc := "(IIIII)I" } : Jvm.MethodName)) ∈ lw_all := lw_g (lw_at lw_m3 143 rfl) rfl
theorem q751 : (Jvm.Cond.methodLink "StatueRentLaw" (38 : Nat) ({ cls := "StatueRent", name := "end", desc := "(I)Z" } : Jvm.MethodName)) ∈ lw_all := lw_g (lw_at lw_m3 151 rfl) rfl
theorem q755 : (Jvm.Cond.methodLink "StatueRentLaw" (43 : Nat) ({ cls := "StatueRent", name := "city", desc := "()I" } : Jvm.MethodName)) ∈ lw_all := lw_g (lw_at lw_m3 155 rfl) rfl
theorem q961 : (Jvm.Cond.methodLink "StatueRentLaw" (48 : Nat) ({ cls := "StatueRent", name := "fault", desc := "()I" } : Jvm.MethodName)) ∈ lw_all := lw_g (lw_at lw_m4 121 rfl) rfl
theorem q965 : (Jvm.Cond.methodLink "StatueRentLaw" (52 : Nat) ({ cls := "StatueRent", name := "square", desc := "(II)I" } : Jvm.MethodName)) ∈ lw_all := lw_g (lw_at lw_m4 125 rfl) rfl
theorem q986 : (Jvm.Cond.methodLink "StatueRentLaw" (68 : Nat) ({ cls := "StatueRent", name := "way", desc := "(II)I" } : Jvm.MethodName)) ∈ lw_all := lw_g (lw_at lw_m4 146 rfl) rfl
theorem q994 : (Jvm.Cond.methodLink "StatueRentLaw" (72 : Nat) ({ cls := "StatueRent", name := "likes", desc := "(III)I" } : Jvm.MethodName)) ∈ lw_all := lw_g (lw_at lw_m4 154 rfl) rfl
theorem q1011 : (Jvm.Cond.methodLink "StatueRentLaw" (77 : Nat) ({ cls := "StatueRent", name := "now", desc := "(I)I" } : Jvm.MethodName)) ∈ lw_all := lw_g (lw_at lw_m4 171 rfl) rfl
theorem q1023 : (Jvm.Cond.methodLink "StatueRentLaw" (101 : Nat) ({ cls := "StatueRent", name := "undo", desc := "()I" } : Jvm.MethodName)) ∈ lw_all := lw_g (lw_at lw_m4 183 rfl) rfl
theorem q1038 : (Jvm.Cond.methodLink "StatueRentLaw" (81 : Nat) ({ cls := "StatueRent", name := "move", desc := "(II)I" } : Jvm.MethodName)) ∈ lw_all := lw_g (lw_at lw_m4 198 rfl) rfl
theorem q1056 : (Jvm.Cond.methodLink "StatueRentLaw" (85 : Nat) ({ cls := "StatueRent", name := "clean", desc := "(I)I" } : Jvm.MethodName)) ∈ lw_all := lw_g (lw_at lw_m4 216 rfl) rfl
theorem q1068 : (Jvm.Cond.methodLink "StatueRentLaw" (89 : Nat) ({ cls := "StatueRent", name := "show", desc := "(II)I" } : Jvm.MethodName)) ∈ lw_all := lw_g (lw_at lw_m4 228 rfl) rfl
theorem q1080 : (Jvm.Cond.methodLink "StatueRentLaw" (93 : Nat) ({ cls := "StatueRent", name := "lend", desc := "(III)I" } : Jvm.MethodName)) ∈ lw_all := lw_g (lw_at lw_m5 0 rfl) rfl
theorem q1092 : (Jvm.Cond.methodLink "StatueRentLaw" (97 : Nat) ({ cls := "StatueRent", name := "days", desc := "(II)I" } : Jvm.MethodName)) ∈ lw_all := lw_g (lw_at lw_m5 12 rfl) rfl
theorem q1134 : (Jvm.Cond.methodLink "StatueRentLaw" (109 : Nat) ({ cls := "StatueRent", name := "solvent", desc := "()I" } : Jvm.MethodName)) ∈ lw_all := lw_g (lw_at lw_m5 54 rfl) rfl
theorem q1156 : (Jvm.Cond.methodLink "StatueRentLaw" (120 : Nat) ({ cls := "StatueRent", name := "placed", desc := "(I)I" } : Jvm.MethodName)) ∈ lw_all := lw_g (lw_at lw_m5 76 rfl) rfl
theorem q1176 : (Jvm.Cond.methodLink "StatueRentLaw" (124 : Nat) ({ cls := "StatueRent", name := "route", desc := "(II)I" } : Jvm.MethodName)) ∈ lw_all := lw_g (lw_at lw_m5 96 rfl) rfl
theorem q1196 : (Jvm.Cond.methodLink "StatueRentLaw" (128 : Nat) ({ cls := "StatueRent", name := "routeAt", desc := "(I)I" } : Jvm.MethodName)) ∈ lw_all := lw_g (lw_at lw_m5 116 rfl) rfl
theorem q1200 : (Jvm.Cond.methodLink "StatueRentLaw" (132 : Nat) ({ cls := "StatueRent", name := "bids", desc := "(II)I" } : Jvm.MethodName)) ∈ lw_all := lw_g (lw_at lw_m5 120 rfl) rfl
theorem q1212 : (Jvm.Cond.methodLink "StatueRentLaw" (136 : Nat) ({ cls := "StatueRent", name := "bid", desc := "(I)I" } : Jvm.MethodName)) ∈ lw_all := lw_g (lw_at lw_m5 132 rfl) rfl
theorem q1216 : (Jvm.Cond.methodLink "StatueRentLaw" (140 : Nat) ({ cls := "StatueRent", name := "cure", desc := "(I)I" } : Jvm.MethodName)) ∈ lw_all := lw_g (lw_at lw_m5 136 rfl) rfl
theorem q1224 : (Jvm.Cond.methodLink "StatueRentLaw" (144 : Nat) ({ cls := "StatueRent", name := "cured", desc := "(I)I" } : Jvm.MethodName)) ∈ lw_all := lw_g (lw_at lw_m5 144 rfl) rfl
theorem q1228 : (Jvm.Cond.methodLink "StatueRentLaw" (148 : Nat) ({ cls := "StatueRent", name := "taste", desc := "(I)I" } : Jvm.MethodName)) ∈ lw_all := lw_g (lw_at lw_m5 148 rfl) rfl
theorem q1243 : (Jvm.Cond.methodLink "StatueRentLaw" (152 : Nat) ({ cls := "StatueRent", name := "surely", desc := "()I" } : Jvm.MethodName)) ∈ lw_all := lw_g (lw_at lw_m5 163 rfl) rfl
theorem q1247 : (Jvm.Cond.methodLink "StatueRentLaw" (156 : Nat) ({ cls := "StatueRent", name := "tells", desc := "()I" } : Jvm.MethodName)) ∈ lw_all := lw_g (lw_at lw_m5 167 rfl) rfl
theorem q1251 : (Jvm.Cond.methodLink "StatueRentLaw" (160 : Nat) ({ cls := "StatueRent", name := "plot", desc := "(I)I" } : Jvm.MethodName)) ∈ lw_all := lw_g (lw_at lw_m5 171 rfl) rfl
theorem q1261 : (Jvm.Cond.methodLink "StatueRentLaw" (164 : Nat) ({ cls := "StatueRent", name := "plotters", desc := "()I" } : Jvm.MethodName)) ∈ lw_all := lw_g (lw_at lw_m5 181 rfl) rfl
theorem q1265 : (Jvm.Cond.methodLink "StatueRentLaw" (168 : Nat) ({ cls := "StatueRent", name := "law", desc := "(III)I" } : Jvm.MethodName)) ∈ lw_all := lw_g (lw_at lw_m5 185 rfl) rfl
theorem q1275 : (Jvm.Cond.methodLink "StatueRentLaw" (172 : Nat) ({ cls := "StatueRent", name := "bare", desc := "(II)I" } : Jvm.MethodName)) ∈ lw_all := lw_g (lw_at lw_m5 195 rfl) rfl
theorem q1279 : (Jvm.Cond.methodLink "StatueRentLaw" (176 : Nat) ({ cls := "StatueRent", name := "grass", desc := "()I" } : Jvm.MethodName)) ∈ lw_all := lw_g (lw_at lw_m5 199 rfl) rfl
theorem q1287 : (Jvm.Cond.methodLink "StatueRentLaw" (180 : Nat) ({ cls := "StatueRent", name := "trodden", desc := "()I" } : Jvm.MethodName)) ∈ lw_all := lw_g (lw_at lw_m5 207 rfl) rfl
theorem q1291 : (Jvm.Cond.methodLink "StatueRentLaw" (184 : Nat) ({ cls := "StatueRent", name := "odds", desc := "(III)I" } : Jvm.MethodName)) ∈ lw_all := lw_g (lw_at lw_m5 211 rfl) rfl
theorem q1295 : (Jvm.Cond.methodLink "StatueRentLaw" (188 : Nat) ({ cls := "StatueRent", name := "plaque", desc := "(I)I" } : Jvm.MethodName)) ∈ lw_all := lw_g (lw_at lw_m5 215 rfl) rfl
theorem q1356 : (Jvm.Cond.methodLink "StatueRentLaw" (192 : Nat) ({ cls := "StatueRent", name := "byteAt", desc := "(I)I" } : Jvm.MethodName)) ∈ lw_all := lw_g (lw_at lw_m6 36 rfl) rfl
theorem q1360 : (Jvm.Cond.methodLink "StatueRentLaw" (196 : Nat) ({ cls := "StatueRent", name := "log", desc := "(I)I" } : Jvm.MethodName)) ∈ lw_all := lw_g (lw_at lw_m6 40 rfl) rfl
theorem q1511 : (Jvm.Cond.methodLink "StatueRentLaw" (200 : Nat) ({ cls := "StatueRent", name := "logged", desc := "(I)I" } : Jvm.MethodName)) ∈ lw_all := lw_g (lw_at lw_m6 191 rfl) rfl
theorem q1515 : (Jvm.Cond.methodLink "StatueRentLaw" (204 : Nat) ({ cls := "StatueRent", name := "sentence", desc := "()I" } : Jvm.MethodName)) ∈ lw_all := lw_g (lw_at lw_m6 195 rfl) rfl
theorem q1628 : (Jvm.Cond.methodLink "StatueRentLaw" (208 : Nat) ({ cls := "StatueRent", name := "said", desc := "(I)I" } : Jvm.MethodName)) ∈ lw_all := lw_g (lw_at lw_m7 68 rfl) rfl
theorem q1675 : (Jvm.Cond.methodLink "StatueRentLaw" (212 : Nat) ({ cls := "StatueRent", name := "image", desc := "(I)Z" } : Jvm.MethodName)) ∈ lw_all := lw_g (lw_at lw_m7 115 rfl) rfl
theorem q1697 : (Jvm.Cond.methodLink "StatueRentLaw" (216 : Nat) ({ cls := "StatueRent", name := "restore", desc := "(I)Z" } : Jvm.MethodName)) ∈ lw_all := lw_g (lw_at lw_m7 137 rfl) rfl
theorem q1701 : (Jvm.Cond.methodLink "StatueRentLaw" (220 : Nat) ({ cls := "StatueRent", name := "count", desc := "(I)I" } : Jvm.MethodName)) ∈ lw_all := lw_g (lw_at lw_m7 141 rfl) rfl
theorem q1705 : (Jvm.Cond.methodLink "StatueRentLaw" (56 : Nat) ({ cls := "StatueRentLaw", name := "statue", desc := "(LStatueRent;II[J)I" } : Jvm.MethodName)) ∈ lw_all := lw_g (lw_at lw_m7 145 rfl) rfl
theorem q1706 : (Jvm.Cond.static ({ cls := "StatueRentLaw", name := "statue", desc := "(LStatueRent;II[J)I" } : Jvm.MethodName)) ∈ lw_all := lw_g (lw_at lw_m7 146 rfl) rfl
theorem q1707 : (Jvm.Cond.codeWith ({ cls := "StatueRentLaw", name := "statue", desc := "(LStatueRent;II[J)I" } : Jvm.MethodName) method_3_code (5 : Nat) (Option.some Jvm.ClassFile.FieldType.int) [((0 : Nat), (10 : Nat), (13 : Nat), (13 : Nat))]) ∈ lw_all := lw_g (lw_at lw_m7 147 rfl) rfl
theorem q1708 : (Jvm.Cond.classLink "StatueRentLaw" (13 : Nat) "java/util/NoSuchElementException") ∈ lw_all := lw_g (lw_at lw_m7 148 rfl) rfl
theorem q1709 : (Jvm.Cond.methodLink "StatueRentLaw" (7 : Nat) ({ cls := "StatueRent", name := "statue", desc := "(II)I" } : Jvm.MethodName)) ∈ lw_all := lw_g (lw_at lw_m7 149 rfl) rfl
theorem q1739 : (Jvm.Cond.methodLink "StatueRentLaw" (65 : Nat) ({ cls := "StatueRentLaw", name := "walker", desc := "(LStatueRent;II[J)I" } : Jvm.MethodName)) ∈ lw_all := lw_g (lw_at lw_m7 179 rfl) rfl
theorem q1740 : (Jvm.Cond.static ({ cls := "StatueRentLaw", name := "walker", desc := "(LStatueRent;II[J)I" } : Jvm.MethodName)) ∈ lw_all := lw_g (lw_at lw_m7 180 rfl) rfl
theorem q1741 : (Jvm.Cond.codeWith ({ cls := "StatueRentLaw", name := "walker", desc := "(LStatueRent;II[J)I" } : Jvm.MethodName) method_4_code (5 : Nat) (Option.some Jvm.ClassFile.FieldType.int) [((0 : Nat), (10 : Nat), (13 : Nat), (13 : Nat))]) ∈ lw_all := lw_g (lw_at lw_m7 181 rfl) rfl
theorem q1742 : (Jvm.Cond.methodLink "StatueRentLaw" (15 : Nat) ({ cls := "StatueRent", name := "walker", desc := "(II)I" } : Jvm.MethodName)) ∈ lw_all := lw_g (lw_at lw_m7 182 rfl) rfl
theorem q1746 : (Jvm.Cond.methodLink "StatueRentLaw" (105 : Nat) ({ cls := "StatueRentLaw", name := "yields", desc := "(LStatueRent;IIII[J)I" } : Jvm.MethodName)) ∈ lw_all := lw_g (lw_at lw_m7 186 rfl) rfl
theorem q1747 : (Jvm.Cond.static ({ cls := "StatueRentLaw", name := "yields", desc := "(LStatueRent;IIII[J)I" } : Jvm.MethodName)) ∈ lw_all := lw_g (lw_at lw_m7 187 rfl) rfl
theorem q1748 : (Jvm.Cond.codeWith ({ cls := "StatueRentLaw", name := "yields", desc := "(LStatueRent;IIII[J)I" } : Jvm.MethodName) method_5_code (7 : Nat) (Option.some Jvm.ClassFile.FieldType.int) [((0 : Nat), (14 : Nat), (17 : Nat), (13 : Nat))]) ∈ lw_all := lw_g (lw_at lw_m7 188 rfl) rfl
theorem q1749 : (Jvm.Cond.methodLink "StatueRentLaw" (18 : Nat) ({ cls := "StatueRent", name := "yields", desc := "(IIII)I" } : Jvm.MethodName)) ∈ lw_all := lw_g (lw_at lw_m7 189 rfl) rfl
theorem q1756 : (Jvm.Cond.methodLink "StatueRentLaw" (113 : Nat) ({ cls := "StatueRentLaw", name := "today", desc := "(LStatueRent;II[J)I" } : Jvm.MethodName)) ∈ lw_all := lw_g (lw_at lw_m7 196 rfl) rfl
theorem q1757 : (Jvm.Cond.static ({ cls := "StatueRentLaw", name := "today", desc := "(LStatueRent;II[J)I" } : Jvm.MethodName)) ∈ lw_all := lw_g (lw_at lw_m7 197 rfl) rfl
theorem q1758 : (Jvm.Cond.codeWith ({ cls := "StatueRentLaw", name := "today", desc := "(LStatueRent;II[J)I" } : Jvm.MethodName) method_6_code (5 : Nat) (Option.some Jvm.ClassFile.FieldType.int) [((0 : Nat), (10 : Nat), (13 : Nat), (13 : Nat))]) ∈ lw_all := lw_g (lw_at lw_m7 198 rfl) rfl
theorem q1759 : (Jvm.Cond.methodLink "StatueRentLaw" (22 : Nat) ({ cls := "StatueRent", name := "today", desc := "(II)I" } : Jvm.MethodName)) ∈ lw_all := lw_g (lw_at lw_m7 199 rfl) rfl
theorem q1764 : (Jvm.Cond.methodLink "StatueRentLaw" (116 : Nat) ({ cls := "StatueRentLaw", name := "placing", desc := "(LStatueRent;I[J)I" } : Jvm.MethodName)) ∈ lw_all := lw_g (lw_at lw_m7 204 rfl) rfl
theorem q1765 : (Jvm.Cond.static ({ cls := "StatueRentLaw", name := "placing", desc := "(LStatueRent;I[J)I" } : Jvm.MethodName)) ∈ lw_all := lw_g (lw_at lw_m7 205 rfl) rfl
theorem q1766 : (Jvm.Cond.codeWith ({ cls := "StatueRentLaw", name := "placing", desc := "(LStatueRent;I[J)I" } : Jvm.MethodName) method_7_code (4 : Nat) (Option.some Jvm.ClassFile.FieldType.int) [((0 : Nat), (9 : Nat), (12 : Nat), (13 : Nat))]) ∈ lw_all := lw_g (lw_at lw_m7 206 rfl) rfl
theorem q1767 : (Jvm.Cond.methodLink "StatueRentLaw" (25 : Nat) ({ cls := "StatueRent", name := "placing", desc := "(I)I" } : Jvm.MethodName)) ∈ lw_all := lw_g (lw_at lw_m7 207 rfl) rfl
theorem q1771 : (Jvm.Cond.methodLink "StatueRentLaw" (62 : Nat) ({ cls := "StatueRentModel", name := "thrown", desc := "()I" } : Jvm.MethodName)) ∈ lw_all := lw_g (lw_at lw_m7 211 rfl) rfl
theorem q1775 : (Jvm.Cond.methodLink "StatueRentLaw" (37 : Nat) ({ cls := "StatueRentModel", name := "feed", desc := "(IIIII)I" } : Jvm.MethodName)) ∈ lw_all := lw_g (lw_at lw_m7 215 rfl) rfl
theorem q1784 : (Jvm.Cond.methodLink "StatueRentLaw" (42 : Nat) ({ cls := "StatueRentModel", name := "end", desc := "(I)Z" } : Jvm.MethodName)) ∈ lw_all := lw_g (lw_at lw_m7 224 rfl) rfl
theorem q1788 : (Jvm.Cond.classLink "StatueRentLaw" (30 : Nat) "StatueRentModel") ∈ lw_all := lw_g (lw_at lw_m7 228 rfl) rfl
theorem q1789 : (Jvm.Cond.methodLink "StatueRentLaw" (32 : Nat) ({ cls := "StatueRentModel", name := "<init>", desc := "()V" } : Jvm.MethodName)) ∈ lw_all := lw_g (lw_at lw_m7 229 rfl) rfl
theorem q1981 : (Jvm.Cond.methodLink "StatueRentLaw" (47 : Nat) ({ cls := "StatueRentModel", name := "city", desc := "()I" } : Jvm.MethodName)) ∈ lw_all := lw_g (lw_at lw_m8 181 rfl) rfl
theorem q2104 : (Jvm.Cond.methodLink "StatueRentLaw" (51 : Nat) ({ cls := "StatueRentModel", name := "fault", desc := "()I" } : Jvm.MethodName)) ∈ lw_all := lw_g (lw_at lw_m9 64 rfl) rfl
theorem q2108 : (Jvm.Cond.methodLink "StatueRentLaw" (55 : Nat) ({ cls := "StatueRentModel", name := "square", desc := "(II)I" } : Jvm.MethodName)) ∈ lw_all := lw_g (lw_at lw_m9 68 rfl) rfl
theorem q2124 : (Jvm.Cond.methodLink "StatueRentLaw" (61 : Nat) ({ cls := "StatueRentModel", name := "statue", desc := "(II)I" } : Jvm.MethodName)) ∈ lw_all := lw_g (lw_at lw_m9 84 rfl) rfl
theorem q2140 : (Jvm.Cond.methodLink "StatueRentLaw" (67 : Nat) ({ cls := "StatueRentModel", name := "walker", desc := "(II)I" } : Jvm.MethodName)) ∈ lw_all := lw_g (lw_at lw_m9 100 rfl) rfl
theorem q2148 : (Jvm.Cond.methodLink "StatueRentLaw" (71 : Nat) ({ cls := "StatueRentModel", name := "way", desc := "(II)I" } : Jvm.MethodName)) ∈ lw_all := lw_g (lw_at lw_m9 108 rfl) rfl
theorem q2152 : (Jvm.Cond.methodLink "StatueRentLaw" (76 : Nat) ({ cls := "StatueRentModel", name := "likes", desc := "(III)I" } : Jvm.MethodName)) ∈ lw_all := lw_g (lw_at lw_m9 112 rfl) rfl
theorem q2164 : (Jvm.Cond.methodLink "StatueRentLaw" (80 : Nat) ({ cls := "StatueRentModel", name := "now", desc := "(I)I" } : Jvm.MethodName)) ∈ lw_all := lw_g (lw_at lw_m9 124 rfl) rfl
theorem q2172 : (Jvm.Cond.methodLink "StatueRentLaw" (84 : Nat) ({ cls := "StatueRentModel", name := "move", desc := "(II)I" } : Jvm.MethodName)) ∈ lw_all := lw_g (lw_at lw_m9 132 rfl) rfl
theorem q2184 : (Jvm.Cond.methodLink "StatueRentLaw" (88 : Nat) ({ cls := "StatueRentModel", name := "clean", desc := "(I)I" } : Jvm.MethodName)) ∈ lw_all := lw_g (lw_at lw_m9 144 rfl) rfl
theorem q2196 : (Jvm.Cond.methodLink "StatueRentLaw" (92 : Nat) ({ cls := "StatueRentModel", name := "show", desc := "(II)I" } : Jvm.MethodName)) ∈ lw_all := lw_g (lw_at lw_m9 156 rfl) rfl
theorem q2208 : (Jvm.Cond.methodLink "StatueRentLaw" (96 : Nat) ({ cls := "StatueRentModel", name := "lend", desc := "(III)I" } : Jvm.MethodName)) ∈ lw_all := lw_g (lw_at lw_m9 168 rfl) rfl
theorem q2220 : (Jvm.Cond.methodLink "StatueRentLaw" (104 : Nat) ({ cls := "StatueRentModel", name := "undo", desc := "()I" } : Jvm.MethodName)) ∈ lw_all := lw_g (lw_at lw_m9 180 rfl) rfl
theorem q2224 : (Jvm.Cond.methodLink "StatueRentLaw" (100 : Nat) ({ cls := "StatueRentModel", name := "days", desc := "(II)I" } : Jvm.MethodName)) ∈ lw_all := lw_g (lw_at lw_m9 184 rfl) rfl
theorem q2260 : (Jvm.Cond.methodLink "StatueRentLaw" (108 : Nat) ({ cls := "StatueRentModel", name := "yields", desc := "(IIII)I" } : Jvm.MethodName)) ∈ lw_all := lw_g (lw_at lw_m9 220 rfl) rfl
theorem q2277 : (Jvm.Cond.methodLink "StatueRentLaw" (112 : Nat) ({ cls := "StatueRentModel", name := "solvent", desc := "()I" } : Jvm.MethodName)) ∈ lw_all := lw_g (lw_at lw_m9 237 rfl) rfl
theorem q2285 : (Jvm.Cond.methodLink "StatueRentLaw" (115 : Nat) ({ cls := "StatueRentModel", name := "today", desc := "(II)I" } : Jvm.MethodName)) ∈ lw_all := lw_g (lw_at lw_m10 5 rfl) rfl
theorem q2289 : (Jvm.Cond.methodLink "StatueRentLaw" (119 : Nat) ({ cls := "StatueRentModel", name := "placing", desc := "(I)I" } : Jvm.MethodName)) ∈ lw_all := lw_g (lw_at lw_m10 9 rfl) rfl
theorem q2298 : (Jvm.Cond.methodLink "StatueRentLaw" (123 : Nat) ({ cls := "StatueRentModel", name := "placed", desc := "(I)I" } : Jvm.MethodName)) ∈ lw_all := lw_g (lw_at lw_m10 18 rfl) rfl
theorem q2302 : (Jvm.Cond.methodLink "StatueRentLaw" (127 : Nat) ({ cls := "StatueRentModel", name := "route", desc := "(II)I" } : Jvm.MethodName)) ∈ lw_all := lw_g (lw_at lw_m10 22 rfl) rfl
theorem q2322 : (Jvm.Cond.methodLink "StatueRentLaw" (131 : Nat) ({ cls := "StatueRentModel", name := "routeAt", desc := "(I)I" } : Jvm.MethodName)) ∈ lw_all := lw_g (lw_at lw_m10 42 rfl) rfl
theorem q2326 : (Jvm.Cond.methodLink "StatueRentLaw" (135 : Nat) ({ cls := "StatueRentModel", name := "bids", desc := "(II)I" } : Jvm.MethodName)) ∈ lw_all := lw_g (lw_at lw_m10 46 rfl) rfl
theorem q2338 : (Jvm.Cond.methodLink "StatueRentLaw" (139 : Nat) ({ cls := "StatueRentModel", name := "bid", desc := "(I)I" } : Jvm.MethodName)) ∈ lw_all := lw_g (lw_at lw_m10 58 rfl) rfl
theorem q2342 : (Jvm.Cond.methodLink "StatueRentLaw" (143 : Nat) ({ cls := "StatueRentModel", name := "cure", desc := "(I)I" } : Jvm.MethodName)) ∈ lw_all := lw_g (lw_at lw_m10 62 rfl) rfl
theorem q2346 : (Jvm.Cond.methodLink "StatueRentLaw" (147 : Nat) ({ cls := "StatueRentModel", name := "cured", desc := "(I)I" } : Jvm.MethodName)) ∈ lw_all := lw_g (lw_at lw_m10 66 rfl) rfl
theorem q2350 : (Jvm.Cond.methodLink "StatueRentLaw" (151 : Nat) ({ cls := "StatueRentModel", name := "taste", desc := "(I)I" } : Jvm.MethodName)) ∈ lw_all := lw_g (lw_at lw_m10 70 rfl) rfl
theorem q2358 : (Jvm.Cond.methodLink "StatueRentLaw" (155 : Nat) ({ cls := "StatueRentModel", name := "surely", desc := "()I" } : Jvm.MethodName)) ∈ lw_all := lw_g (lw_at lw_m10 78 rfl) rfl
theorem q2362 : (Jvm.Cond.methodLink "StatueRentLaw" (159 : Nat) ({ cls := "StatueRentModel", name := "tells", desc := "()I" } : Jvm.MethodName)) ∈ lw_all := lw_g (lw_at lw_m10 82 rfl) rfl
theorem q2366 : (Jvm.Cond.methodLink "StatueRentLaw" (163 : Nat) ({ cls := "StatueRentModel", name := "plot", desc := "(I)I" } : Jvm.MethodName)) ∈ lw_all := lw_g (lw_at lw_m10 86 rfl) rfl
theorem q2373 : (Jvm.Cond.methodLink "StatueRentLaw" (167 : Nat) ({ cls := "StatueRentModel", name := "plotters", desc := "()I" } : Jvm.MethodName)) ∈ lw_all := lw_g (lw_at lw_m10 93 rfl) rfl
theorem q2377 : (Jvm.Cond.methodLink "StatueRentLaw" (179 : Nat) ({ cls := "StatueRentModel", name := "grass", desc := "()I" } : Jvm.MethodName)) ∈ lw_all := lw_g (lw_at lw_m10 97 rfl) rfl
theorem q2385 : (Jvm.Cond.methodLink "StatueRentLaw" (183 : Nat) ({ cls := "StatueRentModel", name := "trodden", desc := "()I" } : Jvm.MethodName)) ∈ lw_all := lw_g (lw_at lw_m10 105 rfl) rfl
theorem q2389 : (Jvm.Cond.methodLink "StatueRentLaw" (171 : Nat) ({ cls := "StatueRentModel", name := "law", desc := "(III)I" } : Jvm.MethodName)) ∈ lw_all := lw_g (lw_at lw_m10 109 rfl) rfl
theorem q2401 : (Jvm.Cond.methodLink "StatueRentLaw" (175 : Nat) ({ cls := "StatueRentModel", name := "bare", desc := "(II)I" } : Jvm.MethodName)) ∈ lw_all := lw_g (lw_at lw_m10 121 rfl) rfl
theorem q2405 : (Jvm.Cond.methodLink "StatueRentLaw" (187 : Nat) ({ cls := "StatueRentModel", name := "odds", desc := "(III)I" } : Jvm.MethodName)) ∈ lw_all := lw_g (lw_at lw_m10 125 rfl) rfl
theorem q2409 : (Jvm.Cond.methodLink "StatueRentLaw" (191 : Nat) ({ cls := "StatueRentModel", name := "plaque", desc := "(I)I" } : Jvm.MethodName)) ∈ lw_all := lw_g (lw_at lw_m10 129 rfl) rfl
theorem q2425 : (Jvm.Cond.methodLink "StatueRentLaw" (195 : Nat) ({ cls := "StatueRentModel", name := "byteAt", desc := "(I)I" } : Jvm.MethodName)) ∈ lw_all := lw_g (lw_at lw_m10 145 rfl) rfl
theorem q2429 : (Jvm.Cond.methodLink "StatueRentLaw" (199 : Nat) ({ cls := "StatueRentModel", name := "log", desc := "(I)I" } : Jvm.MethodName)) ∈ lw_all := lw_g (lw_at lw_m10 149 rfl) rfl
theorem q2453 : (Jvm.Cond.methodLink "StatueRentLaw" (203 : Nat) ({ cls := "StatueRentModel", name := "logged", desc := "(I)I" } : Jvm.MethodName)) ∈ lw_all := lw_g (lw_at lw_m10 173 rfl) rfl
theorem q2457 : (Jvm.Cond.methodLink "StatueRentLaw" (207 : Nat) ({ cls := "StatueRentModel", name := "sentence", desc := "()I" } : Jvm.MethodName)) ∈ lw_all := lw_g (lw_at lw_m10 177 rfl) rfl
theorem q2493 : (Jvm.Cond.methodLink "StatueRentLaw" (211 : Nat) ({ cls := "StatueRentModel", name := "said", desc := "(I)I" } : Jvm.MethodName)) ∈ lw_all := lw_g (lw_at lw_m10 213 rfl) rfl
theorem q2501 : (Jvm.Cond.methodLink "StatueRentLaw" (215 : Nat) ({ cls := "StatueRentModel", name := "image", desc := "(I)Z" } : Jvm.MethodName)) ∈ lw_all := lw_g (lw_at lw_m10 221 rfl) rfl
theorem q2505 : (Jvm.Cond.methodLink "StatueRentLaw" (219 : Nat) ({ cls := "StatueRentModel", name := "restore", desc := "(I)Z" } : Jvm.MethodName)) ∈ lw_all := lw_g (lw_at lw_m10 225 rfl) rfl
theorem q2509 : (Jvm.Cond.methodLink "StatueRentLaw" (223 : Nat) ({ cls := "StatueRentModel", name := "count", desc := "(I)I" } : Jvm.MethodName)) ∈ lw_all := lw_g (lw_at lw_m10 229 rfl) rfl
