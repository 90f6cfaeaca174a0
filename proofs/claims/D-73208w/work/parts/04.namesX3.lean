/-! java/lang/Math -/
set_option maxRecDepth 100000
def RJ7 : String := "java/lang/Math"
abbrev cJ7_max : ByteArray := prog_19_method_65_code
def yJ7_max : MethodName := ⟨RJ7, "max", "(II)I"⟩
def dkwJ7_max_0 : List UInt8 := [26, 27, 161, 0, 7, 26, 167, 0, 4, 27, 172]
abbrev dktJ7_max_0 : List UInt8 := dkwJ7_max_0 ++ []
theorem dksJ7_max_0 : cJ7_max.data.toList.drop 0 = dktJ7_max_0 := by decide +kernel
theorem dJ7_max_0 : decode cJ7_max 0 = .ok (.iload_n 0, 1) := dk_26 (dk_at dksJ7_max_0 0 rfl rfl)
theorem dJ7_max_1 : decode cJ7_max 1 = .ok (.iload_n 1, 1) := dk_27 (dk_at dksJ7_max_0 1 rfl rfl)
theorem dJ7_max_2 : decode cJ7_max 2 = .ok (.if_icmp .lt 7, 3) := dk_161 0 7 (dk_at dksJ7_max_0 2 rfl rfl)
theorem dJ7_max_5 : decode cJ7_max 5 = .ok (.iload_n 0, 1) := dk_26 (dk_at dksJ7_max_0 5 rfl rfl)
theorem dJ7_max_6 : decode cJ7_max 6 = .ok (.goto 4, 3) := dk_167 0 4 (dk_at dksJ7_max_0 6 rfl rfl)
theorem dJ7_max_9 : decode cJ7_max 9 = .ok (.iload_n 1, 1) := dk_27 (dk_at dksJ7_max_0 9 rfl rfl)
theorem dJ7_max_10 : decode cJ7_max 10 = .ok (.ireturn, 1) := dk_172 (dk_at dksJ7_max_0 10 rfl rfl)
abbrev cJ7_min : ByteArray := prog_19_method_69_code
def yJ7_min : MethodName := ⟨RJ7, "min", "(II)I"⟩
def dkwJ7_min_0 : List UInt8 := [26, 27, 163, 0, 7, 26, 167, 0, 4, 27, 172]
abbrev dktJ7_min_0 : List UInt8 := dkwJ7_min_0 ++ []
theorem dksJ7_min_0 : cJ7_min.data.toList.drop 0 = dktJ7_min_0 := by decide +kernel
theorem dJ7_min_0 : decode cJ7_min 0 = .ok (.iload_n 0, 1) := dk_26 (dk_at dksJ7_min_0 0 rfl rfl)
theorem dJ7_min_1 : decode cJ7_min 1 = .ok (.iload_n 1, 1) := dk_27 (dk_at dksJ7_min_0 1 rfl rfl)
theorem dJ7_min_2 : decode cJ7_min 2 = .ok (.if_icmp .gt 7, 3) := dk_163 0 7 (dk_at dksJ7_min_0 2 rfl rfl)
theorem dJ7_min_5 : decode cJ7_min 5 = .ok (.iload_n 0, 1) := dk_26 (dk_at dksJ7_min_0 5 rfl rfl)
theorem dJ7_min_6 : decode cJ7_min 6 = .ok (.goto 4, 3) := dk_167 0 4 (dk_at dksJ7_min_0 6 rfl rfl)
theorem dJ7_min_9 : decode cJ7_min 9 = .ok (.iload_n 1, 1) := dk_27 (dk_at dksJ7_min_0 9 rfl rfl)
theorem dJ7_min_10 : decode cJ7_min 10 = .ok (.ireturn, 1) := dk_172 (dk_at dksJ7_min_0 10 rfl rfl)
abbrev cJ7_abs : ByteArray := prog_19_method_59_code
def yJ7_abs : MethodName := ⟨RJ7, "abs", "(I)I"⟩
def dkwJ7_abs_0 : List UInt8 := [26, 156, 0, 8, 26, 116, 167, 0, 4, 26, 172]
abbrev dktJ7_abs_0 : List UInt8 := dkwJ7_abs_0 ++ []
theorem dksJ7_abs_0 : cJ7_abs.data.toList.drop 0 = dktJ7_abs_0 := by decide +kernel
theorem dJ7_abs_0 : decode cJ7_abs 0 = .ok (.iload_n 0, 1) := dk_26 (dk_at dksJ7_abs_0 0 rfl rfl)
theorem dJ7_abs_1 : decode cJ7_abs 1 = .ok (.ifCond .ge 8, 3) := dk_156 0 8 (dk_at dksJ7_abs_0 1 rfl rfl)
theorem dJ7_abs_4 : decode cJ7_abs 4 = .ok (.iload_n 0, 1) := dk_26 (dk_at dksJ7_abs_0 4 rfl rfl)
theorem dJ7_abs_5 : decode cJ7_abs 5 = .ok (.ineg, 1) := dk_116 (dk_at dksJ7_abs_0 5 rfl rfl)
theorem dJ7_abs_6 : decode cJ7_abs 6 = .ok (.goto 4, 3) := dk_167 0 4 (dk_at dksJ7_abs_0 6 rfl rfl)
theorem dJ7_abs_9 : decode cJ7_abs 9 = .ok (.iload_n 0, 1) := dk_26 (dk_at dksJ7_abs_0 9 rfl rfl)
theorem dJ7_abs_10 : decode cJ7_abs 10 = .ok (.ireturn, 1) := dk_172 (dk_at dksJ7_abs_0 10 rfl rfl)
theorem q141 : (Jvm.Cond.initialized "java/lang/Math") ∈ lw_all := lw_g (lw_at lw_m1 11 rfl) rfl
theorem q475 : (Jvm.Cond.static ({ cls := "java/lang/Math", name := "max", desc := "(II)I" } : Jvm.MethodName)) ∈ lw_all := lw_g (lw_at lw_m2 105 rfl) rfl
theorem q476 : (Jvm.Cond.code ({ cls := "java/lang/Math", name := "max", desc := "(II)I" } : Jvm.MethodName) prog_19_method_65_code (2 : Nat) (Option.some Jvm.ClassFile.FieldType.int)) ∈ lw_all := lw_g (lw_at lw_m2 106 rfl) rfl
theorem q493 : (Jvm.Cond.static ({ cls := "java/lang/Math", name := "min", desc := "(II)I" } : Jvm.MethodName)) ∈ lw_all := lw_g (lw_at lw_m2 123 rfl) rfl
theorem q494 : (Jvm.Cond.code ({ cls := "java/lang/Math", name := "min", desc := "(II)I" } : Jvm.MethodName) prog_19_method_69_code (2 : Nat) (Option.some Jvm.ClassFile.FieldType.int)) ∈ lw_all := lw_g (lw_at lw_m2 124 rfl) rfl
theorem q2342 : (Jvm.Cond.static ({ cls := "java/lang/Math", name := "abs", desc := "(I)I" } : Jvm.MethodName)) ∈ lw_all := lw_g (lw_at lw_m10 52 rfl) rfl
theorem q2343 : (Jvm.Cond.code ({ cls := "java/lang/Math", name := "abs", desc := "(I)I" } : Jvm.MethodName) prog_19_method_59_code (1 : Nat) (Option.some Jvm.ClassFile.FieldType.int)) ∈ lw_all := lw_g (lw_at lw_m10 53 rfl) rfl
/-! WideMapModel -/
set_option maxRecDepth 100000
def RX3 : String := "WideMapModel"
def TX3 : u_T := fun k => match k with
  | 0 => ("WideMapModel", "thrown", "I", false)
  | 1 => ("WideMapModel", "tape", "[B", true)
  | 2 => ("WideMapModel", "length", "I", false)
  | 3 => ("WideMapModel", "at", "I", false)
  | 4 => ("WideMapModel", "fault", "I", false)
  | 5 => ("WideMapModel", "entry", "[I", true)
  | 6 => ("WideMapModel", "plan", "[I", true)
  | 7 => ("WideMapModel", "planLong", "[I", true)
  | 8 => ("WideMapModel", "entries", "I", false)
  | 9 => ("WideMapModel", "plans", "I", false)
  | 10 => ("WideMapModel", "leaf", "[I", true)
  | 11 => ("WideMapModel", "many", "[I", true)
  | 12 => ("WideMapModel", "token", "[I", true)
  | 13 => ("WideMapModel", "mark", "[I", true)
  | 14 => ("WideMapModel", "free", "[I", true)
  | 15 => ("WideMapModel", "one", "[I", true)
  | 16 => ("WideMapModel", "two", "[I", true)
  | 17 => ("WideMapModel", "frees", "I", false)
  | 18 => ("WideMapModel", "used", "I", false)
  | 19 => ("WideMapModel", "width", "I", false)
  | 20 => ("WideMapModel", "made", "I", false)
  | 21 => ("WideMapModel", "tokens", "I", false)
  | 22 => ("WideMapModel", "stamp", "I", false)
  | 23 => ("WideMapModel", "wayNode", "[I", true)
  | 24 => ("WideMapModel", "waySpot", "[I", true)
  | 25 => ("WideMapModel", "wayLong", "I", false)
  | 26 => ("WideMapModel", "keyRow", "[I", true)
  | 27 => ("WideMapModel", "valueRow", "[I", true)
  | 28 => ("WideMapModel", "nodeRow", "[I", true)
  | 29 => ("WideMapModel", "deepRow", "[I", true)
  | 30 => ("WideMapModel", "keysLaid", "I", false)
  | 31 => ("WideMapModel", "nodesLaid", "I", false)
  | 32 => ("WideMapModel", "rootOf", "[I", true)
  | 33 => ("WideMapModel", "fromOne", "[I", true)
  | 34 => ("WideMapModel", "fromOther", "[I", true)
  | 35 => ("WideMapModel", "builderRoot", "[I", true)
  | 36 => ("WideMapModel", "builderToken", "[I", true)
  | 37 => ("WideMapModel", "builderFrom", "[I", true)
  | 38 => ("WideMapModel", "status", "[I", true)
  | 39 => ("WideMapModel", "isHeld", "[Z", true)
  | 40 => ("WideMapModel", "isImaged", "[Z", true)
  | 41 => ("WideMapModel", "numbers", "I", false)
  | 42 => ("WideMapModel", "held", "I", false)
  | 43 => ("WideMapModel", "open", "I", false)
  | 44 => ("WideMapModel", "hasImage", "Z", false)
  | 45 => ("WideMapModel", "there", "[I", true)
  | 46 => ("WideMapModel", "valueIn", "[I", true)
  | 47 => ("WideMapModel", "ownKeys", "[I", true)
  | 48 => ("WideMapModel", "ownValues", "[I", true)
  | 49 => ("WideMapModel", "owns", "I", false)
  | 50 => ("WideMapModel", "x", "J", false)
  | 51 => ("WideMapModel", "shows", "[B", true)
  | 52 => ("WideMapModel", "showsLatest", "[B", true)
  | 53 => ("WideMapModel", "showsMany", "I", false)
  | 54 => ("WideMapModel", "latestMany", "I", false)
  | _ => ("WideMapModel", "source", "[I", true)
def tyX3 : Nat → FieldType := fun k => match k with
  | 0 => .int
  | 1 => .array .byte
  | 2 => .int
  | 3 => .int
  | 4 => .int
  | 5 => .array .int
  | 6 => .array .int
  | 7 => .array .int
  | 8 => .int
  | 9 => .int
  | 10 => .array .int
  | 11 => .array .int
  | 12 => .array .int
  | 13 => .array .int
  | 14 => .array .int
  | 15 => .array .int
  | 16 => .array .int
  | 17 => .int
  | 18 => .int
  | 19 => .int
  | 20 => .int
  | 21 => .int
  | 22 => .int
  | 23 => .array .int
  | 24 => .array .int
  | 25 => .int
  | 26 => .array .int
  | 27 => .array .int
  | 28 => .array .int
  | 29 => .array .int
  | 30 => .int
  | 31 => .int
  | 32 => .array .int
  | 33 => .array .int
  | 34 => .array .int
  | 35 => .array .int
  | 36 => .array .int
  | 37 => .array .int
  | 38 => .array .int
  | 39 => .array .boolean
  | 40 => .array .boolean
  | 41 => .int
  | 42 => .int
  | 43 => .int
  | 44 => .boolean
  | 45 => .array .int
  | 46 => .array .int
  | 47 => .array .int
  | 48 => .array .int
  | 49 => .int
  | 50 => .long
  | 51 => .array .byte
  | 52 => .array .byte
  | 53 => .int
  | 54 => .int
  | _ => .array .int
abbrev wsX30 : List Cond := u_ws RX3 TX3 56
set_option maxRecDepth 100000 in
theorem nmX3 : ∀ a, a < 56 → ∀ b, b < 56 → a ≠ b → (TX3 a).2.1 ≠ (TX3 b).2.1 := by decide +kernel
set_option maxRecDepth 100000 in
theorem tyX3_ok : ∀ k, k < 56 → parseFieldDescriptor (TX3 k).2.2.1 = some (tyX3 k) := by decide +kernel
abbrev cX3_init : ByteArray := prog_9_method_1_code
def yX3_init : MethodName := ⟨RX3, "<init>", "()V"⟩
def dkwX3_init_12 : List UInt8 := [188, 8, 181, 0, 110, 42, 17, 3, 231, 188, 10, 181, 0, 113, 177]
abbrev dktX3_init_12 : List UInt8 := dkwX3_init_12 ++ []
def dkwX3_init_11 : List UInt8 := [181, 0, 101, 42, 16, 60, 188, 10, 181, 0, 104, 42, 17, 5, 120, 188, 8, 181, 0, 107, 42, 17, 5, 120]
abbrev dktX3_init_11 : List UInt8 := dkwX3_init_11 ++ dktX3_init_12
def dkwX3_init_10 : List UInt8 := [17, 3, 232, 188, 10, 181, 0, 95, 42, 17, 11, 184, 188, 10, 181, 0, 98, 42, 16, 60, 188, 10]
abbrev dktX3_init_10 : List UInt8 := dkwX3_init_10 ++ dktX3_init_11
def dkwX3_init_9 : List UInt8 := [181, 0, 85, 42, 17, 3, 231, 188, 4, 181, 0, 88, 42, 17, 3, 231, 188, 4, 181, 0, 92, 42]
abbrev dktX3_init_9 : List UInt8 := dkwX3_init_9 ++ dktX3_init_10
def dkwX3_init_8 : List UInt8 := [188, 10, 181, 0, 76, 42, 7, 188, 10, 181, 0, 79, 42, 7, 188, 10, 181, 0, 82, 42, 8, 188, 10]
abbrev dktX3_init_8 : List UInt8 := dkwX3_init_8 ++ dktX3_init_9
def dkwX3_init_7 : List UInt8 := [181, 0, 67, 42, 17, 3, 231, 188, 10, 181, 0, 70, 42, 17, 3, 231, 188, 10, 181, 0, 73, 42, 7]
abbrev dktX3_init_7 : List UInt8 := dkwX3_init_7 ++ dktX3_init_8
def dkwX3_init_6 : List UInt8 := [17, 0, 240, 188, 10, 181, 0, 61, 42, 17, 0, 240, 188, 10, 181, 0, 64, 42, 17, 3, 231, 188, 10]
abbrev dktX3_init_6 : List UInt8 := dkwX3_init_6 ++ dktX3_init_7
def dkwX3_init_5 : List UInt8 := [181, 0, 52, 42, 17, 0, 140, 188, 10, 181, 0, 55, 42, 17, 0, 140, 188, 10, 181, 0, 58, 42]
abbrev dktX3_init_5 : List UInt8 := dkwX3_init_5 ++ dktX3_init_6
def dkwX3_init_4 : List UInt8 := [188, 10, 181, 0, 42, 42, 7, 181, 0, 45, 42, 16, 10, 188, 10, 181, 0, 49, 42, 16, 10, 188, 10]
abbrev dktX3_init_4 : List UInt8 := dkwX3_init_4 ++ dktX3_init_5
def dkwX3_init_3 : List UInt8 := [181, 0, 32, 42, 17, 46, 224, 188, 10, 181, 0, 35, 42, 18, 38, 188, 10, 181, 0, 39, 42, 18, 38]
abbrev dktX3_init_3 : List UInt8 := dkwX3_init_3 ++ dktX3_init_4
def dkwX3_init_2 : List UInt8 := [42, 17, 46, 224, 188, 10, 181, 0, 26, 42, 17, 46, 224, 188, 10, 181, 0, 29, 42, 17, 46, 224, 188, 10]
abbrev dktX3_init_2 : List UInt8 := dkwX3_init_2 ++ dktX3_init_3
def dkwX3_init_1 : List UInt8 := [17, 1, 64, 188, 10, 181, 0, 17, 42, 8, 188, 10, 181, 0, 20, 42, 17, 46, 224, 188, 10, 181, 0, 23]
abbrev dktX3_init_1 : List UInt8 := dkwX3_init_1 ++ dktX3_init_2
def dkwX3_init_0 : List UInt8 := [42, 183, 0, 1, 42, 17, 0, 240, 188, 8, 181, 0, 9, 42, 17, 1, 224, 188, 10, 181, 0, 13, 42]
abbrev dktX3_init_0 : List UInt8 := dkwX3_init_0 ++ dktX3_init_1
theorem dksX3_init_0 : cX3_init.data.toList.drop 0 = dktX3_init_0 := by decide +kernel
theorem dksX3_init_1 : cX3_init.data.toList.drop 23 = dktX3_init_1 := dk_seg dksX3_init_0 23 rfl rfl
theorem dksX3_init_2 : cX3_init.data.toList.drop 47 = dktX3_init_2 := dk_seg dksX3_init_1 24 rfl rfl
theorem dksX3_init_3 : cX3_init.data.toList.drop 71 = dktX3_init_3 := dk_seg dksX3_init_2 24 rfl rfl
theorem dksX3_init_4 : cX3_init.data.toList.drop 94 = dktX3_init_4 := dk_seg dksX3_init_3 23 rfl rfl
theorem dksX3_init_5 : cX3_init.data.toList.drop 117 = dktX3_init_5 := dk_seg dksX3_init_4 23 rfl rfl
theorem dksX3_init_6 : cX3_init.data.toList.drop 139 = dktX3_init_6 := dk_seg dksX3_init_5 22 rfl rfl
theorem dksX3_init_7 : cX3_init.data.toList.drop 162 = dktX3_init_7 := dk_seg dksX3_init_6 23 rfl rfl
theorem dksX3_init_8 : cX3_init.data.toList.drop 185 = dktX3_init_8 := dk_seg dksX3_init_7 23 rfl rfl
theorem dksX3_init_9 : cX3_init.data.toList.drop 208 = dktX3_init_9 := dk_seg dksX3_init_8 23 rfl rfl
theorem dksX3_init_10 : cX3_init.data.toList.drop 230 = dktX3_init_10 := dk_seg dksX3_init_9 22 rfl rfl
theorem dksX3_init_11 : cX3_init.data.toList.drop 252 = dktX3_init_11 := dk_seg dksX3_init_10 22 rfl rfl
theorem dksX3_init_12 : cX3_init.data.toList.drop 276 = dktX3_init_12 := dk_seg dksX3_init_11 24 rfl rfl
theorem dX3_init_0 : decode cX3_init 0 = .ok (.aload_n 0, 1) := dk_42 (dk_at dksX3_init_0 0 rfl rfl)
theorem dX3_init_1 : decode cX3_init 1 = .ok (.invokespecial 1, 3) := dk_183 0 1 (dk_at dksX3_init_0 1 rfl rfl)
theorem dX3_init_4 : decode cX3_init 4 = .ok (.aload_n 0, 1) := dk_42 (dk_at dksX3_init_0 4 rfl rfl)
theorem dX3_init_5 : decode cX3_init 5 = .ok (.sipush 240, 3) := dk_17 0 240 (dk_at dksX3_init_0 5 rfl rfl)
theorem dX3_init_8 : decode cX3_init 8 = .ok (.newarray .byte, 2) := dk_188_8 (dk_at dksX3_init_0 8 rfl rfl)
theorem dX3_init_10 : decode cX3_init 10 = .ok (.putfield 9, 3) := dk_181 0 9 (dk_at dksX3_init_0 10 rfl rfl)
theorem dX3_init_13 : decode cX3_init 13 = .ok (.aload_n 0, 1) := dk_42 (dk_at dksX3_init_0 13 rfl rfl)
theorem dX3_init_14 : decode cX3_init 14 = .ok (.sipush 480, 3) := dk_17 1 224 (dk_at dksX3_init_0 14 rfl rfl)
theorem dX3_init_17 : decode cX3_init 17 = .ok (.newarray .int, 2) := dk_188_10 (dk_at dksX3_init_0 17 rfl rfl)
theorem dX3_init_19 : decode cX3_init 19 = .ok (.putfield 13, 3) := dk_181 0 13 (dk_at dksX3_init_0 19 rfl rfl)
theorem dX3_init_22 : decode cX3_init 22 = .ok (.aload_n 0, 1) := dk_42 (dk_at dksX3_init_0 22 rfl rfl)
theorem dX3_init_23 : decode cX3_init 23 = .ok (.sipush 320, 3) := dk_17 1 64 (dk_at dksX3_init_1 0 rfl rfl)
theorem dX3_init_26 : decode cX3_init 26 = .ok (.newarray .int, 2) := dk_188_10 (dk_at dksX3_init_1 3 rfl rfl)
theorem dX3_init_28 : decode cX3_init 28 = .ok (.putfield 17, 3) := dk_181 0 17 (dk_at dksX3_init_1 5 rfl rfl)
theorem dX3_init_31 : decode cX3_init 31 = .ok (.aload_n 0, 1) := dk_42 (dk_at dksX3_init_1 8 rfl rfl)
theorem dX3_init_32 : decode cX3_init 32 = .ok (.iconst 5, 1) := dk_8 (dk_at dksX3_init_1 9 rfl rfl)
theorem dX3_init_33 : decode cX3_init 33 = .ok (.newarray .int, 2) := dk_188_10 (dk_at dksX3_init_1 10 rfl rfl)
theorem dX3_init_35 : decode cX3_init 35 = .ok (.putfield 20, 3) := dk_181 0 20 (dk_at dksX3_init_1 12 rfl rfl)
theorem dX3_init_38 : decode cX3_init 38 = .ok (.aload_n 0, 1) := dk_42 (dk_at dksX3_init_1 15 rfl rfl)
theorem dX3_init_39 : decode cX3_init 39 = .ok (.sipush 12000, 3) := dk_17 46 224 (dk_at dksX3_init_1 16 rfl rfl)
theorem dX3_init_42 : decode cX3_init 42 = .ok (.newarray .int, 2) := dk_188_10 (dk_at dksX3_init_1 19 rfl rfl)
theorem dX3_init_44 : decode cX3_init 44 = .ok (.putfield 23, 3) := dk_181 0 23 (dk_at dksX3_init_1 21 rfl rfl)
theorem dX3_init_47 : decode cX3_init 47 = .ok (.aload_n 0, 1) := dk_42 (dk_at dksX3_init_2 0 rfl rfl)
theorem dX3_init_48 : decode cX3_init 48 = .ok (.sipush 12000, 3) := dk_17 46 224 (dk_at dksX3_init_2 1 rfl rfl)
theorem dX3_init_51 : decode cX3_init 51 = .ok (.newarray .int, 2) := dk_188_10 (dk_at dksX3_init_2 4 rfl rfl)
theorem dX3_init_53 : decode cX3_init 53 = .ok (.putfield 26, 3) := dk_181 0 26 (dk_at dksX3_init_2 6 rfl rfl)
theorem dX3_init_56 : decode cX3_init 56 = .ok (.aload_n 0, 1) := dk_42 (dk_at dksX3_init_2 9 rfl rfl)
theorem dX3_init_57 : decode cX3_init 57 = .ok (.sipush 12000, 3) := dk_17 46 224 (dk_at dksX3_init_2 10 rfl rfl)
theorem dX3_init_60 : decode cX3_init 60 = .ok (.newarray .int, 2) := dk_188_10 (dk_at dksX3_init_2 13 rfl rfl)
theorem dX3_init_62 : decode cX3_init 62 = .ok (.putfield 29, 3) := dk_181 0 29 (dk_at dksX3_init_2 15 rfl rfl)
theorem dX3_init_65 : decode cX3_init 65 = .ok (.aload_n 0, 1) := dk_42 (dk_at dksX3_init_2 18 rfl rfl)
theorem dX3_init_66 : decode cX3_init 66 = .ok (.sipush 12000, 3) := dk_17 46 224 (dk_at dksX3_init_2 19 rfl rfl)
theorem dX3_init_69 : decode cX3_init 69 = .ok (.newarray .int, 2) := dk_188_10 (dk_at dksX3_init_2 22 rfl rfl)
theorem dX3_init_71 : decode cX3_init 71 = .ok (.putfield 32, 3) := dk_181 0 32 (dk_at dksX3_init_3 0 rfl rfl)
theorem dX3_init_74 : decode cX3_init 74 = .ok (.aload_n 0, 1) := dk_42 (dk_at dksX3_init_3 3 rfl rfl)
theorem dX3_init_75 : decode cX3_init 75 = .ok (.sipush 12000, 3) := dk_17 46 224 (dk_at dksX3_init_3 4 rfl rfl)
theorem dX3_init_78 : decode cX3_init 78 = .ok (.newarray .int, 2) := dk_188_10 (dk_at dksX3_init_3 7 rfl rfl)
theorem dX3_init_80 : decode cX3_init 80 = .ok (.putfield 35, 3) := dk_181 0 35 (dk_at dksX3_init_3 9 rfl rfl)
theorem dX3_init_83 : decode cX3_init 83 = .ok (.aload_n 0, 1) := dk_42 (dk_at dksX3_init_3 12 rfl rfl)
theorem dX3_init_84 : decode cX3_init 84 = .ok (.ldc 38, 2) := dk_18 38 (dk_at dksX3_init_3 13 rfl rfl)
theorem dX3_init_86 : decode cX3_init 86 = .ok (.newarray .int, 2) := dk_188_10 (dk_at dksX3_init_3 15 rfl rfl)
theorem dX3_init_88 : decode cX3_init 88 = .ok (.putfield 39, 3) := dk_181 0 39 (dk_at dksX3_init_3 17 rfl rfl)
theorem dX3_init_91 : decode cX3_init 91 = .ok (.aload_n 0, 1) := dk_42 (dk_at dksX3_init_3 20 rfl rfl)
theorem dX3_init_92 : decode cX3_init 92 = .ok (.ldc 38, 2) := dk_18 38 (dk_at dksX3_init_3 21 rfl rfl)
theorem dX3_init_94 : decode cX3_init 94 = .ok (.newarray .int, 2) := dk_188_10 (dk_at dksX3_init_4 0 rfl rfl)
theorem dX3_init_96 : decode cX3_init 96 = .ok (.putfield 42, 3) := dk_181 0 42 (dk_at dksX3_init_4 2 rfl rfl)
theorem dX3_init_99 : decode cX3_init 99 = .ok (.aload_n 0, 1) := dk_42 (dk_at dksX3_init_4 5 rfl rfl)
theorem dX3_init_100 : decode cX3_init 100 = .ok (.iconst 4, 1) := dk_7 (dk_at dksX3_init_4 6 rfl rfl)
theorem dX3_init_101 : decode cX3_init 101 = .ok (.putfield 45, 3) := dk_181 0 45 (dk_at dksX3_init_4 7 rfl rfl)
theorem dX3_init_104 : decode cX3_init 104 = .ok (.aload_n 0, 1) := dk_42 (dk_at dksX3_init_4 10 rfl rfl)
theorem dX3_init_105 : decode cX3_init 105 = .ok (.bipush 10, 2) := dk_16 10 (dk_at dksX3_init_4 11 rfl rfl)
theorem dX3_init_107 : decode cX3_init 107 = .ok (.newarray .int, 2) := dk_188_10 (dk_at dksX3_init_4 13 rfl rfl)
theorem dX3_init_109 : decode cX3_init 109 = .ok (.putfield 49, 3) := dk_181 0 49 (dk_at dksX3_init_4 15 rfl rfl)
theorem dX3_init_112 : decode cX3_init 112 = .ok (.aload_n 0, 1) := dk_42 (dk_at dksX3_init_4 18 rfl rfl)
theorem dX3_init_113 : decode cX3_init 113 = .ok (.bipush 10, 2) := dk_16 10 (dk_at dksX3_init_4 19 rfl rfl)
theorem dX3_init_115 : decode cX3_init 115 = .ok (.newarray .int, 2) := dk_188_10 (dk_at dksX3_init_4 21 rfl rfl)
theorem dX3_init_117 : decode cX3_init 117 = .ok (.putfield 52, 3) := dk_181 0 52 (dk_at dksX3_init_5 0 rfl rfl)
theorem dX3_init_120 : decode cX3_init 120 = .ok (.aload_n 0, 1) := dk_42 (dk_at dksX3_init_5 3 rfl rfl)
theorem dX3_init_121 : decode cX3_init 121 = .ok (.sipush 140, 3) := dk_17 0 140 (dk_at dksX3_init_5 4 rfl rfl)
theorem dX3_init_124 : decode cX3_init 124 = .ok (.newarray .int, 2) := dk_188_10 (dk_at dksX3_init_5 7 rfl rfl)
theorem dX3_init_126 : decode cX3_init 126 = .ok (.putfield 55, 3) := dk_181 0 55 (dk_at dksX3_init_5 9 rfl rfl)
theorem dX3_init_129 : decode cX3_init 129 = .ok (.aload_n 0, 1) := dk_42 (dk_at dksX3_init_5 12 rfl rfl)
theorem dX3_init_130 : decode cX3_init 130 = .ok (.sipush 140, 3) := dk_17 0 140 (dk_at dksX3_init_5 13 rfl rfl)
theorem dX3_init_133 : decode cX3_init 133 = .ok (.newarray .int, 2) := dk_188_10 (dk_at dksX3_init_5 16 rfl rfl)
theorem dX3_init_135 : decode cX3_init 135 = .ok (.putfield 58, 3) := dk_181 0 58 (dk_at dksX3_init_5 18 rfl rfl)
theorem dX3_init_138 : decode cX3_init 138 = .ok (.aload_n 0, 1) := dk_42 (dk_at dksX3_init_5 21 rfl rfl)
theorem dX3_init_139 : decode cX3_init 139 = .ok (.sipush 240, 3) := dk_17 0 240 (dk_at dksX3_init_6 0 rfl rfl)
theorem dX3_init_142 : decode cX3_init 142 = .ok (.newarray .int, 2) := dk_188_10 (dk_at dksX3_init_6 3 rfl rfl)
theorem dX3_init_144 : decode cX3_init 144 = .ok (.putfield 61, 3) := dk_181 0 61 (dk_at dksX3_init_6 5 rfl rfl)
theorem dX3_init_147 : decode cX3_init 147 = .ok (.aload_n 0, 1) := dk_42 (dk_at dksX3_init_6 8 rfl rfl)
theorem dX3_init_148 : decode cX3_init 148 = .ok (.sipush 240, 3) := dk_17 0 240 (dk_at dksX3_init_6 9 rfl rfl)
theorem dX3_init_151 : decode cX3_init 151 = .ok (.newarray .int, 2) := dk_188_10 (dk_at dksX3_init_6 12 rfl rfl)
theorem dX3_init_153 : decode cX3_init 153 = .ok (.putfield 64, 3) := dk_181 0 64 (dk_at dksX3_init_6 14 rfl rfl)
theorem dX3_init_156 : decode cX3_init 156 = .ok (.aload_n 0, 1) := dk_42 (dk_at dksX3_init_6 17 rfl rfl)
theorem dX3_init_157 : decode cX3_init 157 = .ok (.sipush 999, 3) := dk_17 3 231 (dk_at dksX3_init_6 18 rfl rfl)
theorem dX3_init_160 : decode cX3_init 160 = .ok (.newarray .int, 2) := dk_188_10 (dk_at dksX3_init_6 21 rfl rfl)
theorem dX3_init_162 : decode cX3_init 162 = .ok (.putfield 67, 3) := dk_181 0 67 (dk_at dksX3_init_7 0 rfl rfl)
theorem dX3_init_165 : decode cX3_init 165 = .ok (.aload_n 0, 1) := dk_42 (dk_at dksX3_init_7 3 rfl rfl)
theorem dX3_init_166 : decode cX3_init 166 = .ok (.sipush 999, 3) := dk_17 3 231 (dk_at dksX3_init_7 4 rfl rfl)
theorem dX3_init_169 : decode cX3_init 169 = .ok (.newarray .int, 2) := dk_188_10 (dk_at dksX3_init_7 7 rfl rfl)
theorem dX3_init_171 : decode cX3_init 171 = .ok (.putfield 70, 3) := dk_181 0 70 (dk_at dksX3_init_7 9 rfl rfl)
theorem dX3_init_174 : decode cX3_init 174 = .ok (.aload_n 0, 1) := dk_42 (dk_at dksX3_init_7 12 rfl rfl)
theorem dX3_init_175 : decode cX3_init 175 = .ok (.sipush 999, 3) := dk_17 3 231 (dk_at dksX3_init_7 13 rfl rfl)
theorem dX3_init_178 : decode cX3_init 178 = .ok (.newarray .int, 2) := dk_188_10 (dk_at dksX3_init_7 16 rfl rfl)
theorem dX3_init_180 : decode cX3_init 180 = .ok (.putfield 73, 3) := dk_181 0 73 (dk_at dksX3_init_7 18 rfl rfl)
theorem dX3_init_183 : decode cX3_init 183 = .ok (.aload_n 0, 1) := dk_42 (dk_at dksX3_init_7 21 rfl rfl)
theorem dX3_init_184 : decode cX3_init 184 = .ok (.iconst 4, 1) := dk_7 (dk_at dksX3_init_7 22 rfl rfl)
theorem dX3_init_185 : decode cX3_init 185 = .ok (.newarray .int, 2) := dk_188_10 (dk_at dksX3_init_8 0 rfl rfl)
theorem dX3_init_187 : decode cX3_init 187 = .ok (.putfield 76, 3) := dk_181 0 76 (dk_at dksX3_init_8 2 rfl rfl)
theorem dX3_init_190 : decode cX3_init 190 = .ok (.aload_n 0, 1) := dk_42 (dk_at dksX3_init_8 5 rfl rfl)
theorem dX3_init_191 : decode cX3_init 191 = .ok (.iconst 4, 1) := dk_7 (dk_at dksX3_init_8 6 rfl rfl)
theorem dX3_init_192 : decode cX3_init 192 = .ok (.newarray .int, 2) := dk_188_10 (dk_at dksX3_init_8 7 rfl rfl)
theorem dX3_init_194 : decode cX3_init 194 = .ok (.putfield 79, 3) := dk_181 0 79 (dk_at dksX3_init_8 9 rfl rfl)
theorem dX3_init_197 : decode cX3_init 197 = .ok (.aload_n 0, 1) := dk_42 (dk_at dksX3_init_8 12 rfl rfl)
theorem dX3_init_198 : decode cX3_init 198 = .ok (.iconst 4, 1) := dk_7 (dk_at dksX3_init_8 13 rfl rfl)
theorem dX3_init_199 : decode cX3_init 199 = .ok (.newarray .int, 2) := dk_188_10 (dk_at dksX3_init_8 14 rfl rfl)
theorem dX3_init_201 : decode cX3_init 201 = .ok (.putfield 82, 3) := dk_181 0 82 (dk_at dksX3_init_8 16 rfl rfl)
theorem dX3_init_204 : decode cX3_init 204 = .ok (.aload_n 0, 1) := dk_42 (dk_at dksX3_init_8 19 rfl rfl)
theorem dX3_init_205 : decode cX3_init 205 = .ok (.iconst 5, 1) := dk_8 (dk_at dksX3_init_8 20 rfl rfl)
theorem dX3_init_206 : decode cX3_init 206 = .ok (.newarray .int, 2) := dk_188_10 (dk_at dksX3_init_8 21 rfl rfl)
theorem dX3_init_208 : decode cX3_init 208 = .ok (.putfield 85, 3) := dk_181 0 85 (dk_at dksX3_init_9 0 rfl rfl)
theorem dX3_init_211 : decode cX3_init 211 = .ok (.aload_n 0, 1) := dk_42 (dk_at dksX3_init_9 3 rfl rfl)
theorem dX3_init_212 : decode cX3_init 212 = .ok (.sipush 999, 3) := dk_17 3 231 (dk_at dksX3_init_9 4 rfl rfl)
theorem dX3_init_215 : decode cX3_init 215 = .ok (.newarray .boolean, 2) := dk_188_4 (dk_at dksX3_init_9 7 rfl rfl)
theorem dX3_init_217 : decode cX3_init 217 = .ok (.putfield 88, 3) := dk_181 0 88 (dk_at dksX3_init_9 9 rfl rfl)
theorem dX3_init_220 : decode cX3_init 220 = .ok (.aload_n 0, 1) := dk_42 (dk_at dksX3_init_9 12 rfl rfl)
theorem dX3_init_221 : decode cX3_init 221 = .ok (.sipush 999, 3) := dk_17 3 231 (dk_at dksX3_init_9 13 rfl rfl)
theorem dX3_init_224 : decode cX3_init 224 = .ok (.newarray .boolean, 2) := dk_188_4 (dk_at dksX3_init_9 16 rfl rfl)
theorem dX3_init_226 : decode cX3_init 226 = .ok (.putfield 92, 3) := dk_181 0 92 (dk_at dksX3_init_9 18 rfl rfl)
theorem dX3_init_229 : decode cX3_init 229 = .ok (.aload_n 0, 1) := dk_42 (dk_at dksX3_init_9 21 rfl rfl)
theorem dX3_init_230 : decode cX3_init 230 = .ok (.sipush 1000, 3) := dk_17 3 232 (dk_at dksX3_init_10 0 rfl rfl)
theorem dX3_init_233 : decode cX3_init 233 = .ok (.newarray .int, 2) := dk_188_10 (dk_at dksX3_init_10 3 rfl rfl)
theorem dX3_init_235 : decode cX3_init 235 = .ok (.putfield 95, 3) := dk_181 0 95 (dk_at dksX3_init_10 5 rfl rfl)
theorem dX3_init_238 : decode cX3_init 238 = .ok (.aload_n 0, 1) := dk_42 (dk_at dksX3_init_10 8 rfl rfl)
theorem dX3_init_239 : decode cX3_init 239 = .ok (.sipush 3000, 3) := dk_17 11 184 (dk_at dksX3_init_10 9 rfl rfl)
theorem dX3_init_242 : decode cX3_init 242 = .ok (.newarray .int, 2) := dk_188_10 (dk_at dksX3_init_10 12 rfl rfl)
theorem dX3_init_244 : decode cX3_init 244 = .ok (.putfield 98, 3) := dk_181 0 98 (dk_at dksX3_init_10 14 rfl rfl)
theorem dX3_init_247 : decode cX3_init 247 = .ok (.aload_n 0, 1) := dk_42 (dk_at dksX3_init_10 17 rfl rfl)
theorem dX3_init_248 : decode cX3_init 248 = .ok (.bipush 60, 2) := dk_16 60 (dk_at dksX3_init_10 18 rfl rfl)
theorem dX3_init_250 : decode cX3_init 250 = .ok (.newarray .int, 2) := dk_188_10 (dk_at dksX3_init_10 20 rfl rfl)
theorem dX3_init_252 : decode cX3_init 252 = .ok (.putfield 101, 3) := dk_181 0 101 (dk_at dksX3_init_11 0 rfl rfl)
theorem dX3_init_255 : decode cX3_init 255 = .ok (.aload_n 0, 1) := dk_42 (dk_at dksX3_init_11 3 rfl rfl)
theorem dX3_init_256 : decode cX3_init 256 = .ok (.bipush 60, 2) := dk_16 60 (dk_at dksX3_init_11 4 rfl rfl)
theorem dX3_init_258 : decode cX3_init 258 = .ok (.newarray .int, 2) := dk_188_10 (dk_at dksX3_init_11 6 rfl rfl)
theorem dX3_init_260 : decode cX3_init 260 = .ok (.putfield 104, 3) := dk_181 0 104 (dk_at dksX3_init_11 8 rfl rfl)
theorem dX3_init_263 : decode cX3_init 263 = .ok (.aload_n 0, 1) := dk_42 (dk_at dksX3_init_11 11 rfl rfl)
theorem dX3_init_264 : decode cX3_init 264 = .ok (.sipush 1400, 3) := dk_17 5 120 (dk_at dksX3_init_11 12 rfl rfl)
theorem dX3_init_267 : decode cX3_init 267 = .ok (.newarray .byte, 2) := dk_188_8 (dk_at dksX3_init_11 15 rfl rfl)
theorem dX3_init_269 : decode cX3_init 269 = .ok (.putfield 107, 3) := dk_181 0 107 (dk_at dksX3_init_11 17 rfl rfl)
theorem dX3_init_272 : decode cX3_init 272 = .ok (.aload_n 0, 1) := dk_42 (dk_at dksX3_init_11 20 rfl rfl)
theorem dX3_init_273 : decode cX3_init 273 = .ok (.sipush 1400, 3) := dk_17 5 120 (dk_at dksX3_init_11 21 rfl rfl)
theorem dX3_init_276 : decode cX3_init 276 = .ok (.newarray .byte, 2) := dk_188_8 (dk_at dksX3_init_12 0 rfl rfl)
theorem dX3_init_278 : decode cX3_init 278 = .ok (.putfield 110, 3) := dk_181 0 110 (dk_at dksX3_init_12 2 rfl rfl)
theorem dX3_init_281 : decode cX3_init 281 = .ok (.aload_n 0, 1) := dk_42 (dk_at dksX3_init_12 5 rfl rfl)
theorem dX3_init_282 : decode cX3_init 282 = .ok (.sipush 999, 3) := dk_17 3 231 (dk_at dksX3_init_12 6 rfl rfl)
theorem dX3_init_285 : decode cX3_init 285 = .ok (.newarray .int, 2) := dk_188_10 (dk_at dksX3_init_12 9 rfl rfl)
theorem dX3_init_287 : decode cX3_init 287 = .ok (.putfield 113, 3) := dk_181 0 113 (dk_at dksX3_init_12 11 rfl rfl)
theorem dX3_init_290 : decode cX3_init 290 = .ok (.return_, 1) := dk_177 (dk_at dksX3_init_12 14 rfl rfl)
abbrev cX3_thrown : ByteArray := prog_9_method_2_code
def yX3_thrown : MethodName := ⟨RX3, "thrown", "()I"⟩
theorem dX3_thrown_0 : decode cX3_thrown 0 = .ok (.aload_n 0, 1) := by decide +kernel
theorem dX3_thrown_1 : decode cX3_thrown 1 = .ok (.getfield 116, 3) := by decide +kernel
theorem dX3_thrown_4 : decode cX3_thrown 4 = .ok (.ireturn, 1) := by decide +kernel
abbrev cX3_feed : ByteArray := prog_9_method_7_code
def yX3_feed : MethodName := ⟨RX3, "feed", "(IIIII)I"⟩
def dkwX3_feed_3 : List UInt8 := [182, 0, 126, 42, 180, 0, 119, 172]
abbrev dktX3_feed_3 : List UInt8 := dkwX3_feed_3 ++ []
def dkwX3_feed_2 : List UInt8 := [182, 0, 126, 42, 28, 182, 0, 126, 42, 29, 182, 0, 126, 42, 21, 4, 182, 0, 126, 42, 21, 5]
abbrev dktX3_feed_2 : List UInt8 := dkwX3_feed_2 ++ dktX3_feed_3
def dkwX3_feed_1 : List UInt8 := [21, 4, 184, 0, 122, 96, 21, 5, 184, 0, 122, 96, 17, 0, 240, 164, 0, 5, 2, 172, 42, 27]
abbrev dktX3_feed_1 : List UInt8 := dkwX3_feed_1 ++ dktX3_feed_2
def dkwX3_feed_0 : List UInt8 := [42, 3, 181, 0, 116, 42, 180, 0, 119, 27, 184, 0, 122, 96, 28, 184, 0, 122, 96, 29, 184, 0, 122, 96]
abbrev dktX3_feed_0 : List UInt8 := dkwX3_feed_0 ++ dktX3_feed_1
theorem dksX3_feed_0 : cX3_feed.data.toList.drop 0 = dktX3_feed_0 := by decide +kernel
theorem dksX3_feed_1 : cX3_feed.data.toList.drop 24 = dktX3_feed_1 := dk_seg dksX3_feed_0 24 rfl rfl
theorem dksX3_feed_2 : cX3_feed.data.toList.drop 46 = dktX3_feed_2 := dk_seg dksX3_feed_1 22 rfl rfl
theorem dksX3_feed_3 : cX3_feed.data.toList.drop 68 = dktX3_feed_3 := dk_seg dksX3_feed_2 22 rfl rfl
theorem dX3_feed_0 : decode cX3_feed 0 = .ok (.aload_n 0, 1) := dk_42 (dk_at dksX3_feed_0 0 rfl rfl)
theorem dX3_feed_1 : decode cX3_feed 1 = .ok (.iconst 0, 1) := dk_3 (dk_at dksX3_feed_0 1 rfl rfl)
theorem dX3_feed_2 : decode cX3_feed 2 = .ok (.putfield 116, 3) := dk_181 0 116 (dk_at dksX3_feed_0 2 rfl rfl)
theorem dX3_feed_5 : decode cX3_feed 5 = .ok (.aload_n 0, 1) := dk_42 (dk_at dksX3_feed_0 5 rfl rfl)
theorem dX3_feed_6 : decode cX3_feed 6 = .ok (.getfield 119, 3) := dk_180 0 119 (dk_at dksX3_feed_0 6 rfl rfl)
theorem dX3_feed_9 : decode cX3_feed 9 = .ok (.iload_n 1, 1) := dk_27 (dk_at dksX3_feed_0 9 rfl rfl)
theorem dX3_feed_10 : decode cX3_feed 10 = .ok (.invokestatic 122, 3) := dk_184 0 122 (dk_at dksX3_feed_0 10 rfl rfl)
theorem dX3_feed_13 : decode cX3_feed 13 = .ok (.iadd, 1) := dk_96 (dk_at dksX3_feed_0 13 rfl rfl)
theorem dX3_feed_14 : decode cX3_feed 14 = .ok (.iload_n 2, 1) := dk_28 (dk_at dksX3_feed_0 14 rfl rfl)
theorem dX3_feed_15 : decode cX3_feed 15 = .ok (.invokestatic 122, 3) := dk_184 0 122 (dk_at dksX3_feed_0 15 rfl rfl)
theorem dX3_feed_18 : decode cX3_feed 18 = .ok (.iadd, 1) := dk_96 (dk_at dksX3_feed_0 18 rfl rfl)
theorem dX3_feed_19 : decode cX3_feed 19 = .ok (.iload_n 3, 1) := dk_29 (dk_at dksX3_feed_0 19 rfl rfl)
theorem dX3_feed_20 : decode cX3_feed 20 = .ok (.invokestatic 122, 3) := dk_184 0 122 (dk_at dksX3_feed_0 20 rfl rfl)
theorem dX3_feed_23 : decode cX3_feed 23 = .ok (.iadd, 1) := dk_96 (dk_at dksX3_feed_0 23 rfl rfl)
theorem dX3_feed_24 : decode cX3_feed 24 = .ok (.iload 4, 2) := dk_21 4 (dk_at dksX3_feed_1 0 rfl rfl)
theorem dX3_feed_26 : decode cX3_feed 26 = .ok (.invokestatic 122, 3) := dk_184 0 122 (dk_at dksX3_feed_1 2 rfl rfl)
theorem dX3_feed_29 : decode cX3_feed 29 = .ok (.iadd, 1) := dk_96 (dk_at dksX3_feed_1 5 rfl rfl)
theorem dX3_feed_30 : decode cX3_feed 30 = .ok (.iload 5, 2) := dk_21 5 (dk_at dksX3_feed_1 6 rfl rfl)
theorem dX3_feed_32 : decode cX3_feed 32 = .ok (.invokestatic 122, 3) := dk_184 0 122 (dk_at dksX3_feed_1 8 rfl rfl)
theorem dX3_feed_35 : decode cX3_feed 35 = .ok (.iadd, 1) := dk_96 (dk_at dksX3_feed_1 11 rfl rfl)
theorem dX3_feed_36 : decode cX3_feed 36 = .ok (.sipush 240, 3) := dk_17 0 240 (dk_at dksX3_feed_1 12 rfl rfl)
theorem dX3_feed_39 : decode cX3_feed 39 = .ok (.if_icmp .le 5, 3) := dk_164 0 5 (dk_at dksX3_feed_1 15 rfl rfl)
theorem dX3_feed_42 : decode cX3_feed 42 = .ok (.iconst (-1), 1) := dk_2 (dk_at dksX3_feed_1 18 rfl rfl)
theorem dX3_feed_43 : decode cX3_feed 43 = .ok (.ireturn, 1) := dk_172 (dk_at dksX3_feed_1 19 rfl rfl)
theorem dX3_feed_44 : decode cX3_feed 44 = .ok (.aload_n 0, 1) := dk_42 (dk_at dksX3_feed_1 20 rfl rfl)
theorem dX3_feed_45 : decode cX3_feed 45 = .ok (.iload_n 1, 1) := dk_27 (dk_at dksX3_feed_1 21 rfl rfl)
theorem dX3_feed_46 : decode cX3_feed 46 = .ok (.invokevirtual 126, 3) := dk_182 0 126 (dk_at dksX3_feed_2 0 rfl rfl)
theorem dX3_feed_49 : decode cX3_feed 49 = .ok (.aload_n 0, 1) := dk_42 (dk_at dksX3_feed_2 3 rfl rfl)
theorem dX3_feed_50 : decode cX3_feed 50 = .ok (.iload_n 2, 1) := dk_28 (dk_at dksX3_feed_2 4 rfl rfl)
theorem dX3_feed_51 : decode cX3_feed 51 = .ok (.invokevirtual 126, 3) := dk_182 0 126 (dk_at dksX3_feed_2 5 rfl rfl)
theorem dX3_feed_54 : decode cX3_feed 54 = .ok (.aload_n 0, 1) := dk_42 (dk_at dksX3_feed_2 8 rfl rfl)
theorem dX3_feed_55 : decode cX3_feed 55 = .ok (.iload_n 3, 1) := dk_29 (dk_at dksX3_feed_2 9 rfl rfl)
theorem dX3_feed_56 : decode cX3_feed 56 = .ok (.invokevirtual 126, 3) := dk_182 0 126 (dk_at dksX3_feed_2 10 rfl rfl)
theorem dX3_feed_59 : decode cX3_feed 59 = .ok (.aload_n 0, 1) := dk_42 (dk_at dksX3_feed_2 13 rfl rfl)
theorem dX3_feed_60 : decode cX3_feed 60 = .ok (.iload 4, 2) := dk_21 4 (dk_at dksX3_feed_2 14 rfl rfl)
theorem dX3_feed_62 : decode cX3_feed 62 = .ok (.invokevirtual 126, 3) := dk_182 0 126 (dk_at dksX3_feed_2 16 rfl rfl)
theorem dX3_feed_65 : decode cX3_feed 65 = .ok (.aload_n 0, 1) := dk_42 (dk_at dksX3_feed_2 19 rfl rfl)
theorem dX3_feed_66 : decode cX3_feed 66 = .ok (.iload 5, 2) := dk_21 5 (dk_at dksX3_feed_2 20 rfl rfl)
theorem dX3_feed_68 : decode cX3_feed 68 = .ok (.invokevirtual 126, 3) := dk_182 0 126 (dk_at dksX3_feed_3 0 rfl rfl)
theorem dX3_feed_71 : decode cX3_feed 71 = .ok (.aload_n 0, 1) := dk_42 (dk_at dksX3_feed_3 3 rfl rfl)
theorem dX3_feed_72 : decode cX3_feed 72 = .ok (.getfield 119, 3) := dk_180 0 119 (dk_at dksX3_feed_3 4 rfl rfl)
theorem dX3_feed_75 : decode cX3_feed 75 = .ok (.ireturn, 1) := dk_172 (dk_at dksX3_feed_3 7 rfl rfl)
abbrev cX3_bytesOf : ByteArray := prog_9_method_5_code
def yX3_bytesOf : MethodName := ⟨RX3, "bytesOf", "(I)I"⟩
def dkwX3_bytesOf_1 : List UInt8 := [167, 0, 4, 4, 96, 60, 132, 2, 1, 167, 255, 227, 27, 172]
abbrev dktX3_bytesOf_1 : List UInt8 := dkwX3_bytesOf_1 ++ []
def dkwX3_bytesOf_0 : List UInt8 := [3, 60, 3, 61, 28, 7, 162, 0, 30, 27, 26, 16, 8, 28, 104, 122, 17, 0, 255, 126, 154, 0, 7, 3]
abbrev dktX3_bytesOf_0 : List UInt8 := dkwX3_bytesOf_0 ++ dktX3_bytesOf_1
theorem dksX3_bytesOf_0 : cX3_bytesOf.data.toList.drop 0 = dktX3_bytesOf_0 := by decide +kernel
theorem dksX3_bytesOf_1 : cX3_bytesOf.data.toList.drop 24 = dktX3_bytesOf_1 := dk_seg dksX3_bytesOf_0 24 rfl rfl
theorem dX3_bytesOf_0 : decode cX3_bytesOf 0 = .ok (.iconst 0, 1) := dk_3 (dk_at dksX3_bytesOf_0 0 rfl rfl)
theorem dX3_bytesOf_1 : decode cX3_bytesOf 1 = .ok (.istore_n 1, 1) := dk_60 (dk_at dksX3_bytesOf_0 1 rfl rfl)
theorem dX3_bytesOf_2 : decode cX3_bytesOf 2 = .ok (.iconst 0, 1) := dk_3 (dk_at dksX3_bytesOf_0 2 rfl rfl)
theorem dX3_bytesOf_3 : decode cX3_bytesOf 3 = .ok (.istore_n 2, 1) := dk_61 (dk_at dksX3_bytesOf_0 3 rfl rfl)
theorem dX3_bytesOf_4 : decode cX3_bytesOf 4 = .ok (.iload_n 2, 1) := dk_28 (dk_at dksX3_bytesOf_0 4 rfl rfl)
theorem dX3_bytesOf_5 : decode cX3_bytesOf 5 = .ok (.iconst 4, 1) := dk_7 (dk_at dksX3_bytesOf_0 5 rfl rfl)
theorem dX3_bytesOf_6 : decode cX3_bytesOf 6 = .ok (.if_icmp .ge 30, 3) := dk_162 0 30 (dk_at dksX3_bytesOf_0 6 rfl rfl)
theorem dX3_bytesOf_9 : decode cX3_bytesOf 9 = .ok (.iload_n 1, 1) := dk_27 (dk_at dksX3_bytesOf_0 9 rfl rfl)
theorem dX3_bytesOf_10 : decode cX3_bytesOf 10 = .ok (.iload_n 0, 1) := dk_26 (dk_at dksX3_bytesOf_0 10 rfl rfl)
theorem dX3_bytesOf_11 : decode cX3_bytesOf 11 = .ok (.bipush 8, 2) := dk_16 8 (dk_at dksX3_bytesOf_0 11 rfl rfl)
theorem dX3_bytesOf_13 : decode cX3_bytesOf 13 = .ok (.iload_n 2, 1) := dk_28 (dk_at dksX3_bytesOf_0 13 rfl rfl)
theorem dX3_bytesOf_14 : decode cX3_bytesOf 14 = .ok (.imul, 1) := dk_104 (dk_at dksX3_bytesOf_0 14 rfl rfl)
theorem dX3_bytesOf_15 : decode cX3_bytesOf 15 = .ok (.ishr, 1) := dk_122 (dk_at dksX3_bytesOf_0 15 rfl rfl)
theorem dX3_bytesOf_16 : decode cX3_bytesOf 16 = .ok (.sipush 255, 3) := dk_17 0 255 (dk_at dksX3_bytesOf_0 16 rfl rfl)
theorem dX3_bytesOf_19 : decode cX3_bytesOf 19 = .ok (.iand, 1) := dk_126 (dk_at dksX3_bytesOf_0 19 rfl rfl)
theorem dX3_bytesOf_20 : decode cX3_bytesOf 20 = .ok (.ifCond .ne 7, 3) := dk_154 0 7 (dk_at dksX3_bytesOf_0 20 rfl rfl)
theorem dX3_bytesOf_23 : decode cX3_bytesOf 23 = .ok (.iconst 0, 1) := dk_3 (dk_at dksX3_bytesOf_0 23 rfl rfl)
theorem dX3_bytesOf_24 : decode cX3_bytesOf 24 = .ok (.goto 4, 3) := dk_167 0 4 (dk_at dksX3_bytesOf_1 0 rfl rfl)
theorem dX3_bytesOf_27 : decode cX3_bytesOf 27 = .ok (.iconst 1, 1) := dk_4 (dk_at dksX3_bytesOf_1 3 rfl rfl)
theorem dX3_bytesOf_28 : decode cX3_bytesOf 28 = .ok (.iadd, 1) := dk_96 (dk_at dksX3_bytesOf_1 4 rfl rfl)
theorem dX3_bytesOf_29 : decode cX3_bytesOf 29 = .ok (.istore_n 1, 1) := dk_60 (dk_at dksX3_bytesOf_1 5 rfl rfl)
theorem dX3_bytesOf_30 : decode cX3_bytesOf 30 = .ok (.iinc 2 1, 3) := dk_132 2 1 (dk_at dksX3_bytesOf_1 6 rfl rfl)
theorem dX3_bytesOf_33 : decode cX3_bytesOf 33 = .ok (.goto (-29), 3) := dk_167 255 227 (dk_at dksX3_bytesOf_1 9 rfl rfl)
theorem dX3_bytesOf_36 : decode cX3_bytesOf 36 = .ok (.iload_n 1, 1) := dk_27 (dk_at dksX3_bytesOf_1 12 rfl rfl)
theorem dX3_bytesOf_37 : decode cX3_bytesOf 37 = .ok (.ireturn, 1) := dk_172 (dk_at dksX3_bytesOf_1 13 rfl rfl)
abbrev cX3_brings : ByteArray := prog_9_method_6_code
def yX3_brings : MethodName := ⟨RX3, "brings", "(I)V"⟩
def dkwX3_brings_2 : List UInt8 := [167, 255, 213, 177]
abbrev dktX3_brings_2 : List UInt8 := dkwX3_brings_2 ++ []
def dkwX3_brings_1 : List UInt8 := [180, 0, 9, 42, 180, 0, 119, 29, 145, 84, 42, 89, 180, 0, 119, 4, 96, 181, 0, 119, 132, 2, 248]
abbrev dktX3_brings_1 : List UInt8 := dkwX3_brings_1 ++ dktX3_brings_2
def dkwX3_brings_0 : List UInt8 := [16, 24, 61, 28, 155, 0, 45, 27, 28, 122, 17, 0, 255, 126, 62, 29, 154, 0, 6, 167, 0, 24, 42]
abbrev dktX3_brings_0 : List UInt8 := dkwX3_brings_0 ++ dktX3_brings_1
theorem dksX3_brings_0 : cX3_brings.data.toList.drop 0 = dktX3_brings_0 := by decide +kernel
theorem dksX3_brings_1 : cX3_brings.data.toList.drop 23 = dktX3_brings_1 := dk_seg dksX3_brings_0 23 rfl rfl
theorem dksX3_brings_2 : cX3_brings.data.toList.drop 46 = dktX3_brings_2 := dk_seg dksX3_brings_1 23 rfl rfl
theorem dX3_brings_0 : decode cX3_brings 0 = .ok (.bipush 24, 2) := dk_16 24 (dk_at dksX3_brings_0 0 rfl rfl)
theorem dX3_brings_2 : decode cX3_brings 2 = .ok (.istore_n 2, 1) := dk_61 (dk_at dksX3_brings_0 2 rfl rfl)
theorem dX3_brings_3 : decode cX3_brings 3 = .ok (.iload_n 2, 1) := dk_28 (dk_at dksX3_brings_0 3 rfl rfl)
theorem dX3_brings_4 : decode cX3_brings 4 = .ok (.ifCond .lt 45, 3) := dk_155 0 45 (dk_at dksX3_brings_0 4 rfl rfl)
theorem dX3_brings_7 : decode cX3_brings 7 = .ok (.iload_n 1, 1) := dk_27 (dk_at dksX3_brings_0 7 rfl rfl)
theorem dX3_brings_8 : decode cX3_brings 8 = .ok (.iload_n 2, 1) := dk_28 (dk_at dksX3_brings_0 8 rfl rfl)
theorem dX3_brings_9 : decode cX3_brings 9 = .ok (.ishr, 1) := dk_122 (dk_at dksX3_brings_0 9 rfl rfl)
theorem dX3_brings_10 : decode cX3_brings 10 = .ok (.sipush 255, 3) := dk_17 0 255 (dk_at dksX3_brings_0 10 rfl rfl)
theorem dX3_brings_13 : decode cX3_brings 13 = .ok (.iand, 1) := dk_126 (dk_at dksX3_brings_0 13 rfl rfl)
theorem dX3_brings_14 : decode cX3_brings 14 = .ok (.istore_n 3, 1) := dk_62 (dk_at dksX3_brings_0 14 rfl rfl)
theorem dX3_brings_15 : decode cX3_brings 15 = .ok (.iload_n 3, 1) := dk_29 (dk_at dksX3_brings_0 15 rfl rfl)
theorem dX3_brings_16 : decode cX3_brings 16 = .ok (.ifCond .ne 6, 3) := dk_154 0 6 (dk_at dksX3_brings_0 16 rfl rfl)
theorem dX3_brings_19 : decode cX3_brings 19 = .ok (.goto 24, 3) := dk_167 0 24 (dk_at dksX3_brings_0 19 rfl rfl)
theorem dX3_brings_22 : decode cX3_brings 22 = .ok (.aload_n 0, 1) := dk_42 (dk_at dksX3_brings_0 22 rfl rfl)
theorem dX3_brings_23 : decode cX3_brings 23 = .ok (.getfield 9, 3) := dk_180 0 9 (dk_at dksX3_brings_1 0 rfl rfl)
theorem dX3_brings_26 : decode cX3_brings 26 = .ok (.aload_n 0, 1) := dk_42 (dk_at dksX3_brings_1 3 rfl rfl)
theorem dX3_brings_27 : decode cX3_brings 27 = .ok (.getfield 119, 3) := dk_180 0 119 (dk_at dksX3_brings_1 4 rfl rfl)
theorem dX3_brings_30 : decode cX3_brings 30 = .ok (.iload_n 3, 1) := dk_29 (dk_at dksX3_brings_1 7 rfl rfl)
theorem dX3_brings_31 : decode cX3_brings 31 = .ok (.i2b, 1) := dk_145 (dk_at dksX3_brings_1 8 rfl rfl)
theorem dX3_brings_32 : decode cX3_brings 32 = .ok (.bastore, 1) := dk_84 (dk_at dksX3_brings_1 9 rfl rfl)
theorem dX3_brings_33 : decode cX3_brings 33 = .ok (.aload_n 0, 1) := dk_42 (dk_at dksX3_brings_1 10 rfl rfl)
theorem dX3_brings_34 : decode cX3_brings 34 = .ok (.dup, 1) := dk_89 (dk_at dksX3_brings_1 11 rfl rfl)
theorem dX3_brings_35 : decode cX3_brings 35 = .ok (.getfield 119, 3) := dk_180 0 119 (dk_at dksX3_brings_1 12 rfl rfl)
theorem dX3_brings_38 : decode cX3_brings 38 = .ok (.iconst 1, 1) := dk_4 (dk_at dksX3_brings_1 15 rfl rfl)
theorem dX3_brings_39 : decode cX3_brings 39 = .ok (.iadd, 1) := dk_96 (dk_at dksX3_brings_1 16 rfl rfl)
theorem dX3_brings_40 : decode cX3_brings 40 = .ok (.putfield 119, 3) := dk_181 0 119 (dk_at dksX3_brings_1 17 rfl rfl)
theorem dX3_brings_43 : decode cX3_brings 43 = .ok (.iinc 2 (-8), 3) := dk_132 2 248 (dk_at dksX3_brings_1 20 rfl rfl)
theorem dX3_brings_46 : decode cX3_brings 46 = .ok (.goto (-43), 3) := dk_167 255 213 (dk_at dksX3_brings_2 0 rfl rfl)
theorem dX3_brings_49 : decode cX3_brings 49 = .ok (.return_, 1) := dk_177 (dk_at dksX3_brings_2 3 rfl rfl)
abbrev cX3_end : ByteArray := prog_9_method_8_code
def yX3_end : MethodName := ⟨RX3, "end", "(I)Z"⟩
def dkwX3_end_1 : List UInt8 := [4, 172]
abbrev dktX3_end_1 : List UInt8 := dkwX3_end_1 ++ []
def dkwX3_end_0 : List UInt8 := [42, 3, 181, 0, 116, 27, 155, 0, 11, 27, 42, 180, 0, 119, 164, 0, 5, 3, 172, 42, 27, 181, 0, 119]
abbrev dktX3_end_0 : List UInt8 := dkwX3_end_0 ++ dktX3_end_1
theorem dksX3_end_0 : cX3_end.data.toList.drop 0 = dktX3_end_0 := by decide +kernel
theorem dksX3_end_1 : cX3_end.data.toList.drop 24 = dktX3_end_1 := dk_seg dksX3_end_0 24 rfl rfl
theorem dX3_end_0 : decode cX3_end 0 = .ok (.aload_n 0, 1) := dk_42 (dk_at dksX3_end_0 0 rfl rfl)
theorem dX3_end_1 : decode cX3_end 1 = .ok (.iconst 0, 1) := dk_3 (dk_at dksX3_end_0 1 rfl rfl)
theorem dX3_end_2 : decode cX3_end 2 = .ok (.putfield 116, 3) := dk_181 0 116 (dk_at dksX3_end_0 2 rfl rfl)
theorem dX3_end_5 : decode cX3_end 5 = .ok (.iload_n 1, 1) := dk_27 (dk_at dksX3_end_0 5 rfl rfl)
theorem dX3_end_6 : decode cX3_end 6 = .ok (.ifCond .lt 11, 3) := dk_155 0 11 (dk_at dksX3_end_0 6 rfl rfl)
theorem dX3_end_9 : decode cX3_end 9 = .ok (.iload_n 1, 1) := dk_27 (dk_at dksX3_end_0 9 rfl rfl)
theorem dX3_end_10 : decode cX3_end 10 = .ok (.aload_n 0, 1) := dk_42 (dk_at dksX3_end_0 10 rfl rfl)
theorem dX3_end_11 : decode cX3_end 11 = .ok (.getfield 119, 3) := dk_180 0 119 (dk_at dksX3_end_0 11 rfl rfl)
theorem dX3_end_14 : decode cX3_end 14 = .ok (.if_icmp .le 5, 3) := dk_164 0 5 (dk_at dksX3_end_0 14 rfl rfl)
theorem dX3_end_17 : decode cX3_end 17 = .ok (.iconst 0, 1) := dk_3 (dk_at dksX3_end_0 17 rfl rfl)
theorem dX3_end_18 : decode cX3_end 18 = .ok (.ireturn, 1) := dk_172 (dk_at dksX3_end_0 18 rfl rfl)
theorem dX3_end_19 : decode cX3_end 19 = .ok (.aload_n 0, 1) := dk_42 (dk_at dksX3_end_0 19 rfl rfl)
theorem dX3_end_20 : decode cX3_end 20 = .ok (.iload_n 1, 1) := dk_27 (dk_at dksX3_end_0 20 rfl rfl)
theorem dX3_end_21 : decode cX3_end 21 = .ok (.putfield 119, 3) := dk_181 0 119 (dk_at dksX3_end_0 21 rfl rfl)
theorem dX3_end_24 : decode cX3_end 24 = .ok (.iconst 1, 1) := dk_4 (dk_at dksX3_end_1 0 rfl rfl)
theorem dX3_end_25 : decode cX3_end 25 = .ok (.ireturn, 1) := dk_172 (dk_at dksX3_end_1 1 rfl rfl)
abbrev cX3_fault : ByteArray := prog_9_method_19_code
def yX3_fault : MethodName := ⟨RX3, "fault", "(I)I"⟩
def dkwX3_fault_1 : List UInt8 := [2, 181, 0, 137, 27, 154, 0, 10, 42, 182, 0, 178, 167, 0, 7, 42, 182, 0, 181, 42, 180, 0, 137, 172]
abbrev dktX3_fault_1 : List UInt8 := dkwX3_fault_1 ++ []
def dkwX3_fault_0 : List UInt8 := [42, 3, 181, 0, 116, 27, 133, 9, 10, 184, 0, 174, 154, 0, 6, 16, 254, 172, 42, 3, 181, 0, 130, 42]
abbrev dktX3_fault_0 : List UInt8 := dkwX3_fault_0 ++ dktX3_fault_1
theorem dksX3_fault_0 : cX3_fault.data.toList.drop 0 = dktX3_fault_0 := by decide +kernel
theorem dksX3_fault_1 : cX3_fault.data.toList.drop 24 = dktX3_fault_1 := dk_seg dksX3_fault_0 24 rfl rfl
theorem dX3_fault_0 : decode cX3_fault 0 = .ok (.aload_n 0, 1) := dk_42 (dk_at dksX3_fault_0 0 rfl rfl)
theorem dX3_fault_1 : decode cX3_fault 1 = .ok (.iconst 0, 1) := dk_3 (dk_at dksX3_fault_0 1 rfl rfl)
theorem dX3_fault_2 : decode cX3_fault 2 = .ok (.putfield 116, 3) := dk_181 0 116 (dk_at dksX3_fault_0 2 rfl rfl)
theorem dX3_fault_5 : decode cX3_fault 5 = .ok (.iload_n 1, 1) := dk_27 (dk_at dksX3_fault_0 5 rfl rfl)
theorem dX3_fault_6 : decode cX3_fault 6 = .ok (.i2l, 1) := dk_133 (dk_at dksX3_fault_0 6 rfl rfl)
theorem dX3_fault_7 : decode cX3_fault 7 = .ok (.lconst 0, 1) := dk_9 (dk_at dksX3_fault_0 7 rfl rfl)
theorem dX3_fault_8 : decode cX3_fault 8 = .ok (.lconst 1, 1) := dk_10 (dk_at dksX3_fault_0 8 rfl rfl)
theorem dX3_fault_9 : decode cX3_fault 9 = .ok (.invokestatic 174, 3) := dk_184 0 174 (dk_at dksX3_fault_0 9 rfl rfl)
theorem dX3_fault_12 : decode cX3_fault 12 = .ok (.ifCond .ne 6, 3) := dk_154 0 6 (dk_at dksX3_fault_0 12 rfl rfl)
theorem dX3_fault_15 : decode cX3_fault 15 = .ok (.bipush (-2), 2) := dk_16 254 (dk_at dksX3_fault_0 15 rfl rfl)
theorem dX3_fault_17 : decode cX3_fault 17 = .ok (.ireturn, 1) := dk_172 (dk_at dksX3_fault_0 17 rfl rfl)
theorem dX3_fault_18 : decode cX3_fault 18 = .ok (.aload_n 0, 1) := dk_42 (dk_at dksX3_fault_0 18 rfl rfl)
theorem dX3_fault_19 : decode cX3_fault 19 = .ok (.iconst 0, 1) := dk_3 (dk_at dksX3_fault_0 19 rfl rfl)
theorem dX3_fault_20 : decode cX3_fault 20 = .ok (.putfield 130, 3) := dk_181 0 130 (dk_at dksX3_fault_0 20 rfl rfl)
theorem dX3_fault_23 : decode cX3_fault 23 = .ok (.aload_n 0, 1) := dk_42 (dk_at dksX3_fault_0 23 rfl rfl)
theorem dX3_fault_24 : decode cX3_fault 24 = .ok (.iconst (-1), 1) := dk_2 (dk_at dksX3_fault_1 0 rfl rfl)
theorem dX3_fault_25 : decode cX3_fault 25 = .ok (.putfield 137, 3) := dk_181 0 137 (dk_at dksX3_fault_1 1 rfl rfl)
theorem dX3_fault_28 : decode cX3_fault 28 = .ok (.iload_n 1, 1) := dk_27 (dk_at dksX3_fault_1 4 rfl rfl)
theorem dX3_fault_29 : decode cX3_fault 29 = .ok (.ifCond .ne 10, 3) := dk_154 0 10 (dk_at dksX3_fault_1 5 rfl rfl)
theorem dX3_fault_32 : decode cX3_fault 32 = .ok (.aload_n 0, 1) := dk_42 (dk_at dksX3_fault_1 8 rfl rfl)
theorem dX3_fault_33 : decode cX3_fault 33 = .ok (.invokevirtual 178, 3) := dk_182 0 178 (dk_at dksX3_fault_1 9 rfl rfl)
theorem dX3_fault_36 : decode cX3_fault 36 = .ok (.goto 7, 3) := dk_167 0 7 (dk_at dksX3_fault_1 12 rfl rfl)
theorem dX3_fault_39 : decode cX3_fault 39 = .ok (.aload_n 0, 1) := dk_42 (dk_at dksX3_fault_1 15 rfl rfl)
theorem dX3_fault_40 : decode cX3_fault 40 = .ok (.invokevirtual 181, 3) := dk_182 0 181 (dk_at dksX3_fault_1 16 rfl rfl)
theorem dX3_fault_43 : decode cX3_fault 43 = .ok (.aload_n 0, 1) := dk_42 (dk_at dksX3_fault_1 19 rfl rfl)
theorem dX3_fault_44 : decode cX3_fault 44 = .ok (.getfield 137, 3) := dk_180 0 137 (dk_at dksX3_fault_1 20 rfl rfl)
theorem dX3_fault_47 : decode cX3_fault 47 = .ok (.ireturn, 1) := dk_172 (dk_at dksX3_fault_1 23 rfl rfl)
abbrev cX3_isIn : ByteArray := prog_9_method_3_code
def yX3_isIn : MethodName := ⟨RX3, "isIn", "(JJJ)Z"⟩
def dkwX3_isIn_0 : List UInt8 := [30, 32, 148, 155, 0, 14, 30, 22, 4, 148, 157, 0, 7, 4, 167, 0, 4, 3, 172]
abbrev dktX3_isIn_0 : List UInt8 := dkwX3_isIn_0 ++ []
theorem dksX3_isIn_0 : cX3_isIn.data.toList.drop 0 = dktX3_isIn_0 := by decide +kernel
theorem dX3_isIn_0 : decode cX3_isIn 0 = .ok (.lload_n 0, 1) := dk_30 (dk_at dksX3_isIn_0 0 rfl rfl)
theorem dX3_isIn_1 : decode cX3_isIn 1 = .ok (.lload_n 2, 1) := dk_32 (dk_at dksX3_isIn_0 1 rfl rfl)
theorem dX3_isIn_2 : decode cX3_isIn 2 = .ok (.lcmp, 1) := dk_148 (dk_at dksX3_isIn_0 2 rfl rfl)
theorem dX3_isIn_3 : decode cX3_isIn 3 = .ok (.ifCond .lt 14, 3) := dk_155 0 14 (dk_at dksX3_isIn_0 3 rfl rfl)
theorem dX3_isIn_6 : decode cX3_isIn 6 = .ok (.lload_n 0, 1) := dk_30 (dk_at dksX3_isIn_0 6 rfl rfl)
theorem dX3_isIn_7 : decode cX3_isIn 7 = .ok (.lload 4, 2) := dk_22 4 (dk_at dksX3_isIn_0 7 rfl rfl)
theorem dX3_isIn_9 : decode cX3_isIn 9 = .ok (.lcmp, 1) := dk_148 (dk_at dksX3_isIn_0 9 rfl rfl)
theorem dX3_isIn_10 : decode cX3_isIn 10 = .ok (.ifCond .gt 7, 3) := dk_157 0 7 (dk_at dksX3_isIn_0 10 rfl rfl)
theorem dX3_isIn_13 : decode cX3_isIn 13 = .ok (.iconst 1, 1) := dk_4 (dk_at dksX3_isIn_0 13 rfl rfl)
theorem dX3_isIn_14 : decode cX3_isIn 14 = .ok (.goto 4, 3) := dk_167 0 4 (dk_at dksX3_isIn_0 14 rfl rfl)
theorem dX3_isIn_17 : decode cX3_isIn 17 = .ok (.iconst 0, 1) := dk_3 (dk_at dksX3_isIn_0 17 rfl rfl)
theorem dX3_isIn_18 : decode cX3_isIn 18 = .ok (.ireturn, 1) := dk_172 (dk_at dksX3_isIn_0 18 rfl rfl)
abbrev cX3_readEntries : ByteArray := prog_9_method_15_code
def yX3_readEntries : MethodName := ⟨RX3, "readEntries", "()V"⟩
def dkwX3_readEntries_7 : List UInt8 := [160, 0, 15, 42, 182, 0, 140, 2, 159, 0, 7, 42, 182, 0, 147, 177]
abbrev dktX3_readEntries_7 : List UInt8 := dkwX3_readEntries_7 ++ []
def dkwX3_readEntries_6 : List UInt8 := [3, 60, 27, 153, 0, 13, 42, 89, 180, 0, 130, 4, 96, 181, 0, 130, 167, 255, 117, 42, 180, 0, 137, 2]
abbrev dktX3_readEntries_6 : List UInt8 := dkwX3_readEntries_6 ++ dktX3_readEntries_7
def dkwX3_readEntries_5 : List UInt8 := [79, 42, 89, 180, 0, 153, 4, 96, 181, 0, 153, 42, 182, 0, 140, 16, 44, 160, 0, 7, 4, 167, 0, 4]
abbrev dktX3_readEntries_5 : List UInt8 := dkwX3_readEntries_5 ++ dktX3_readEntries_6
def dkwX3_readEntries_4 : List UInt8 := [180, 0, 13, 5, 42, 180, 0, 153, 104, 28, 79, 42, 180, 0, 13, 5, 42, 180, 0, 153, 104, 4, 96, 29]
abbrev dktX3_readEntries_4 : List UInt8 := dkwX3_readEntries_4 ++ dktX3_readEntries_5
def dkwX3_readEntries_3 : List UInt8 := [160, 0, 10, 42, 182, 0, 156, 167, 0, 4, 3, 62, 42, 180, 0, 137, 2, 159, 0, 4, 177, 42]
abbrev dktX3_readEntries_3 : List UInt8 := dkwX3_readEntries_3 ++ dktX3_readEntries_4
def dkwX3_readEntries_2 : List UInt8 := [159, 0, 7, 42, 182, 0, 147, 42, 89, 180, 0, 130, 4, 96, 181, 0, 130, 42, 180, 0, 137, 2]
abbrev dktX3_readEntries_2 : List UInt8 := dkwX3_readEntries_2 ++ dktX3_readEntries_3
def dkwX3_readEntries_1 : List UInt8 := [2, 160, 0, 133, 42, 182, 0, 150, 61, 42, 180, 0, 137, 2, 160, 0, 16, 42, 182, 0, 140, 16, 58]
abbrev dktX3_readEntries_1 : List UInt8 := dkwX3_readEntries_1 ++ dktX3_readEntries_2
def dkwX3_readEntries_0 : List UInt8 := [42, 3, 181, 0, 153, 42, 182, 0, 140, 2, 160, 0, 4, 177, 4, 60, 27, 153, 0, 141, 42, 180, 0, 137]
abbrev dktX3_readEntries_0 : List UInt8 := dkwX3_readEntries_0 ++ dktX3_readEntries_1
theorem dksX3_readEntries_0 : cX3_readEntries.data.toList.drop 0 = dktX3_readEntries_0 := by decide +kernel
theorem dksX3_readEntries_1 : cX3_readEntries.data.toList.drop 24 = dktX3_readEntries_1 := dk_seg dksX3_readEntries_0 24 rfl rfl
theorem dksX3_readEntries_2 : cX3_readEntries.data.toList.drop 47 = dktX3_readEntries_2 := dk_seg dksX3_readEntries_1 23 rfl rfl
theorem dksX3_readEntries_3 : cX3_readEntries.data.toList.drop 69 = dktX3_readEntries_3 := dk_seg dksX3_readEntries_2 22 rfl rfl
theorem dksX3_readEntries_4 : cX3_readEntries.data.toList.drop 91 = dktX3_readEntries_4 := dk_seg dksX3_readEntries_3 22 rfl rfl
theorem dksX3_readEntries_5 : cX3_readEntries.data.toList.drop 115 = dktX3_readEntries_5 := dk_seg dksX3_readEntries_4 24 rfl rfl
theorem dksX3_readEntries_6 : cX3_readEntries.data.toList.drop 139 = dktX3_readEntries_6 := dk_seg dksX3_readEntries_5 24 rfl rfl
theorem dksX3_readEntries_7 : cX3_readEntries.data.toList.drop 163 = dktX3_readEntries_7 := dk_seg dksX3_readEntries_6 24 rfl rfl
theorem dX3_readEntries_0 : decode cX3_readEntries 0 = .ok (.aload_n 0, 1) := dk_42 (dk_at dksX3_readEntries_0 0 rfl rfl)
theorem dX3_readEntries_1 : decode cX3_readEntries 1 = .ok (.iconst 0, 1) := dk_3 (dk_at dksX3_readEntries_0 1 rfl rfl)
theorem dX3_readEntries_2 : decode cX3_readEntries 2 = .ok (.putfield 153, 3) := dk_181 0 153 (dk_at dksX3_readEntries_0 2 rfl rfl)
theorem dX3_readEntries_5 : decode cX3_readEntries 5 = .ok (.aload_n 0, 1) := dk_42 (dk_at dksX3_readEntries_0 5 rfl rfl)
theorem dX3_readEntries_6 : decode cX3_readEntries 6 = .ok (.invokevirtual 140, 3) := dk_182 0 140 (dk_at dksX3_readEntries_0 6 rfl rfl)
theorem dX3_readEntries_9 : decode cX3_readEntries 9 = .ok (.iconst (-1), 1) := dk_2 (dk_at dksX3_readEntries_0 9 rfl rfl)
theorem dX3_readEntries_10 : decode cX3_readEntries 10 = .ok (.if_icmp .ne 4, 3) := dk_160 0 4 (dk_at dksX3_readEntries_0 10 rfl rfl)
theorem dX3_readEntries_13 : decode cX3_readEntries 13 = .ok (.return_, 1) := dk_177 (dk_at dksX3_readEntries_0 13 rfl rfl)
theorem dX3_readEntries_14 : decode cX3_readEntries 14 = .ok (.iconst 1, 1) := dk_4 (dk_at dksX3_readEntries_0 14 rfl rfl)
theorem dX3_readEntries_15 : decode cX3_readEntries 15 = .ok (.istore_n 1, 1) := dk_60 (dk_at dksX3_readEntries_0 15 rfl rfl)
theorem dX3_readEntries_16 : decode cX3_readEntries 16 = .ok (.iload_n 1, 1) := dk_27 (dk_at dksX3_readEntries_0 16 rfl rfl)
theorem dX3_readEntries_17 : decode cX3_readEntries 17 = .ok (.ifCond .eq 141, 3) := dk_153 0 141 (dk_at dksX3_readEntries_0 17 rfl rfl)
theorem dX3_readEntries_20 : decode cX3_readEntries 20 = .ok (.aload_n 0, 1) := dk_42 (dk_at dksX3_readEntries_0 20 rfl rfl)
theorem dX3_readEntries_21 : decode cX3_readEntries 21 = .ok (.getfield 137, 3) := dk_180 0 137 (dk_at dksX3_readEntries_0 21 rfl rfl)
theorem dX3_readEntries_24 : decode cX3_readEntries 24 = .ok (.iconst (-1), 1) := dk_2 (dk_at dksX3_readEntries_1 0 rfl rfl)
theorem dX3_readEntries_25 : decode cX3_readEntries 25 = .ok (.if_icmp .ne 133, 3) := dk_160 0 133 (dk_at dksX3_readEntries_1 1 rfl rfl)
theorem dX3_readEntries_28 : decode cX3_readEntries 28 = .ok (.aload_n 0, 1) := dk_42 (dk_at dksX3_readEntries_1 4 rfl rfl)
theorem dX3_readEntries_29 : decode cX3_readEntries 29 = .ok (.invokevirtual 150, 3) := dk_182 0 150 (dk_at dksX3_readEntries_1 5 rfl rfl)
theorem dX3_readEntries_32 : decode cX3_readEntries 32 = .ok (.istore_n 2, 1) := dk_61 (dk_at dksX3_readEntries_1 8 rfl rfl)
theorem dX3_readEntries_33 : decode cX3_readEntries 33 = .ok (.aload_n 0, 1) := dk_42 (dk_at dksX3_readEntries_1 9 rfl rfl)
theorem dX3_readEntries_34 : decode cX3_readEntries 34 = .ok (.getfield 137, 3) := dk_180 0 137 (dk_at dksX3_readEntries_1 10 rfl rfl)
theorem dX3_readEntries_37 : decode cX3_readEntries 37 = .ok (.iconst (-1), 1) := dk_2 (dk_at dksX3_readEntries_1 13 rfl rfl)
theorem dX3_readEntries_38 : decode cX3_readEntries 38 = .ok (.if_icmp .ne 16, 3) := dk_160 0 16 (dk_at dksX3_readEntries_1 14 rfl rfl)
theorem dX3_readEntries_41 : decode cX3_readEntries 41 = .ok (.aload_n 0, 1) := dk_42 (dk_at dksX3_readEntries_1 17 rfl rfl)
theorem dX3_readEntries_42 : decode cX3_readEntries 42 = .ok (.invokevirtual 140, 3) := dk_182 0 140 (dk_at dksX3_readEntries_1 18 rfl rfl)
theorem dX3_readEntries_45 : decode cX3_readEntries 45 = .ok (.bipush 58, 2) := dk_16 58 (dk_at dksX3_readEntries_1 21 rfl rfl)
theorem dX3_readEntries_47 : decode cX3_readEntries 47 = .ok (.if_icmp .eq 7, 3) := dk_159 0 7 (dk_at dksX3_readEntries_2 0 rfl rfl)
theorem dX3_readEntries_50 : decode cX3_readEntries 50 = .ok (.aload_n 0, 1) := dk_42 (dk_at dksX3_readEntries_2 3 rfl rfl)
theorem dX3_readEntries_51 : decode cX3_readEntries 51 = .ok (.invokevirtual 147, 3) := dk_182 0 147 (dk_at dksX3_readEntries_2 4 rfl rfl)
theorem dX3_readEntries_54 : decode cX3_readEntries 54 = .ok (.aload_n 0, 1) := dk_42 (dk_at dksX3_readEntries_2 7 rfl rfl)
theorem dX3_readEntries_55 : decode cX3_readEntries 55 = .ok (.dup, 1) := dk_89 (dk_at dksX3_readEntries_2 8 rfl rfl)
theorem dX3_readEntries_56 : decode cX3_readEntries 56 = .ok (.getfield 130, 3) := dk_180 0 130 (dk_at dksX3_readEntries_2 9 rfl rfl)
theorem dX3_readEntries_59 : decode cX3_readEntries 59 = .ok (.iconst 1, 1) := dk_4 (dk_at dksX3_readEntries_2 12 rfl rfl)
theorem dX3_readEntries_60 : decode cX3_readEntries 60 = .ok (.iadd, 1) := dk_96 (dk_at dksX3_readEntries_2 13 rfl rfl)
theorem dX3_readEntries_61 : decode cX3_readEntries 61 = .ok (.putfield 130, 3) := dk_181 0 130 (dk_at dksX3_readEntries_2 14 rfl rfl)
theorem dX3_readEntries_64 : decode cX3_readEntries 64 = .ok (.aload_n 0, 1) := dk_42 (dk_at dksX3_readEntries_2 17 rfl rfl)
theorem dX3_readEntries_65 : decode cX3_readEntries 65 = .ok (.getfield 137, 3) := dk_180 0 137 (dk_at dksX3_readEntries_2 18 rfl rfl)
theorem dX3_readEntries_68 : decode cX3_readEntries 68 = .ok (.iconst (-1), 1) := dk_2 (dk_at dksX3_readEntries_2 21 rfl rfl)
theorem dX3_readEntries_69 : decode cX3_readEntries 69 = .ok (.if_icmp .ne 10, 3) := dk_160 0 10 (dk_at dksX3_readEntries_3 0 rfl rfl)
theorem dX3_readEntries_72 : decode cX3_readEntries 72 = .ok (.aload_n 0, 1) := dk_42 (dk_at dksX3_readEntries_3 3 rfl rfl)
theorem dX3_readEntries_73 : decode cX3_readEntries 73 = .ok (.invokevirtual 156, 3) := dk_182 0 156 (dk_at dksX3_readEntries_3 4 rfl rfl)
theorem dX3_readEntries_76 : decode cX3_readEntries 76 = .ok (.goto 4, 3) := dk_167 0 4 (dk_at dksX3_readEntries_3 7 rfl rfl)
theorem dX3_readEntries_79 : decode cX3_readEntries 79 = .ok (.iconst 0, 1) := dk_3 (dk_at dksX3_readEntries_3 10 rfl rfl)
theorem dX3_readEntries_80 : decode cX3_readEntries 80 = .ok (.istore_n 3, 1) := dk_62 (dk_at dksX3_readEntries_3 11 rfl rfl)
theorem dX3_readEntries_81 : decode cX3_readEntries 81 = .ok (.aload_n 0, 1) := dk_42 (dk_at dksX3_readEntries_3 12 rfl rfl)
theorem dX3_readEntries_82 : decode cX3_readEntries 82 = .ok (.getfield 137, 3) := dk_180 0 137 (dk_at dksX3_readEntries_3 13 rfl rfl)
theorem dX3_readEntries_85 : decode cX3_readEntries 85 = .ok (.iconst (-1), 1) := dk_2 (dk_at dksX3_readEntries_3 16 rfl rfl)
theorem dX3_readEntries_86 : decode cX3_readEntries 86 = .ok (.if_icmp .eq 4, 3) := dk_159 0 4 (dk_at dksX3_readEntries_3 17 rfl rfl)
theorem dX3_readEntries_89 : decode cX3_readEntries 89 = .ok (.return_, 1) := dk_177 (dk_at dksX3_readEntries_3 20 rfl rfl)
theorem dX3_readEntries_90 : decode cX3_readEntries 90 = .ok (.aload_n 0, 1) := dk_42 (dk_at dksX3_readEntries_3 21 rfl rfl)
theorem dX3_readEntries_91 : decode cX3_readEntries 91 = .ok (.getfield 13, 3) := dk_180 0 13 (dk_at dksX3_readEntries_4 0 rfl rfl)
theorem dX3_readEntries_94 : decode cX3_readEntries 94 = .ok (.iconst 2, 1) := dk_5 (dk_at dksX3_readEntries_4 3 rfl rfl)
theorem dX3_readEntries_95 : decode cX3_readEntries 95 = .ok (.aload_n 0, 1) := dk_42 (dk_at dksX3_readEntries_4 4 rfl rfl)
theorem dX3_readEntries_96 : decode cX3_readEntries 96 = .ok (.getfield 153, 3) := dk_180 0 153 (dk_at dksX3_readEntries_4 5 rfl rfl)
theorem dX3_readEntries_99 : decode cX3_readEntries 99 = .ok (.imul, 1) := dk_104 (dk_at dksX3_readEntries_4 8 rfl rfl)
theorem dX3_readEntries_100 : decode cX3_readEntries 100 = .ok (.iload_n 2, 1) := dk_28 (dk_at dksX3_readEntries_4 9 rfl rfl)
theorem dX3_readEntries_101 : decode cX3_readEntries 101 = .ok (.iastore, 1) := dk_79 (dk_at dksX3_readEntries_4 10 rfl rfl)
theorem dX3_readEntries_102 : decode cX3_readEntries 102 = .ok (.aload_n 0, 1) := dk_42 (dk_at dksX3_readEntries_4 11 rfl rfl)
theorem dX3_readEntries_103 : decode cX3_readEntries 103 = .ok (.getfield 13, 3) := dk_180 0 13 (dk_at dksX3_readEntries_4 12 rfl rfl)
theorem dX3_readEntries_106 : decode cX3_readEntries 106 = .ok (.iconst 2, 1) := dk_5 (dk_at dksX3_readEntries_4 15 rfl rfl)
theorem dX3_readEntries_107 : decode cX3_readEntries 107 = .ok (.aload_n 0, 1) := dk_42 (dk_at dksX3_readEntries_4 16 rfl rfl)
theorem dX3_readEntries_108 : decode cX3_readEntries 108 = .ok (.getfield 153, 3) := dk_180 0 153 (dk_at dksX3_readEntries_4 17 rfl rfl)
theorem dX3_readEntries_111 : decode cX3_readEntries 111 = .ok (.imul, 1) := dk_104 (dk_at dksX3_readEntries_4 20 rfl rfl)
theorem dX3_readEntries_112 : decode cX3_readEntries 112 = .ok (.iconst 1, 1) := dk_4 (dk_at dksX3_readEntries_4 21 rfl rfl)
theorem dX3_readEntries_113 : decode cX3_readEntries 113 = .ok (.iadd, 1) := dk_96 (dk_at dksX3_readEntries_4 22 rfl rfl)
theorem dX3_readEntries_114 : decode cX3_readEntries 114 = .ok (.iload_n 3, 1) := dk_29 (dk_at dksX3_readEntries_4 23 rfl rfl)
theorem dX3_readEntries_115 : decode cX3_readEntries 115 = .ok (.iastore, 1) := dk_79 (dk_at dksX3_readEntries_5 0 rfl rfl)
theorem dX3_readEntries_116 : decode cX3_readEntries 116 = .ok (.aload_n 0, 1) := dk_42 (dk_at dksX3_readEntries_5 1 rfl rfl)
theorem dX3_readEntries_117 : decode cX3_readEntries 117 = .ok (.dup, 1) := dk_89 (dk_at dksX3_readEntries_5 2 rfl rfl)
theorem dX3_readEntries_118 : decode cX3_readEntries 118 = .ok (.getfield 153, 3) := dk_180 0 153 (dk_at dksX3_readEntries_5 3 rfl rfl)
theorem dX3_readEntries_121 : decode cX3_readEntries 121 = .ok (.iconst 1, 1) := dk_4 (dk_at dksX3_readEntries_5 6 rfl rfl)
theorem dX3_readEntries_122 : decode cX3_readEntries 122 = .ok (.iadd, 1) := dk_96 (dk_at dksX3_readEntries_5 7 rfl rfl)
theorem dX3_readEntries_123 : decode cX3_readEntries 123 = .ok (.putfield 153, 3) := dk_181 0 153 (dk_at dksX3_readEntries_5 8 rfl rfl)
theorem dX3_readEntries_126 : decode cX3_readEntries 126 = .ok (.aload_n 0, 1) := dk_42 (dk_at dksX3_readEntries_5 11 rfl rfl)
theorem dX3_readEntries_127 : decode cX3_readEntries 127 = .ok (.invokevirtual 140, 3) := dk_182 0 140 (dk_at dksX3_readEntries_5 12 rfl rfl)
theorem dX3_readEntries_130 : decode cX3_readEntries 130 = .ok (.bipush 44, 2) := dk_16 44 (dk_at dksX3_readEntries_5 15 rfl rfl)
theorem dX3_readEntries_132 : decode cX3_readEntries 132 = .ok (.if_icmp .ne 7, 3) := dk_160 0 7 (dk_at dksX3_readEntries_5 17 rfl rfl)
theorem dX3_readEntries_135 : decode cX3_readEntries 135 = .ok (.iconst 1, 1) := dk_4 (dk_at dksX3_readEntries_5 20 rfl rfl)
theorem dX3_readEntries_136 : decode cX3_readEntries 136 = .ok (.goto 4, 3) := dk_167 0 4 (dk_at dksX3_readEntries_5 21 rfl rfl)
theorem dX3_readEntries_139 : decode cX3_readEntries 139 = .ok (.iconst 0, 1) := dk_3 (dk_at dksX3_readEntries_6 0 rfl rfl)
theorem dX3_readEntries_140 : decode cX3_readEntries 140 = .ok (.istore_n 1, 1) := dk_60 (dk_at dksX3_readEntries_6 1 rfl rfl)
theorem dX3_readEntries_141 : decode cX3_readEntries 141 = .ok (.iload_n 1, 1) := dk_27 (dk_at dksX3_readEntries_6 2 rfl rfl)
theorem dX3_readEntries_142 : decode cX3_readEntries 142 = .ok (.ifCond .eq 13, 3) := dk_153 0 13 (dk_at dksX3_readEntries_6 3 rfl rfl)
theorem dX3_readEntries_145 : decode cX3_readEntries 145 = .ok (.aload_n 0, 1) := dk_42 (dk_at dksX3_readEntries_6 6 rfl rfl)
theorem dX3_readEntries_146 : decode cX3_readEntries 146 = .ok (.dup, 1) := dk_89 (dk_at dksX3_readEntries_6 7 rfl rfl)
theorem dX3_readEntries_147 : decode cX3_readEntries 147 = .ok (.getfield 130, 3) := dk_180 0 130 (dk_at dksX3_readEntries_6 8 rfl rfl)
theorem dX3_readEntries_150 : decode cX3_readEntries 150 = .ok (.iconst 1, 1) := dk_4 (dk_at dksX3_readEntries_6 11 rfl rfl)
theorem dX3_readEntries_151 : decode cX3_readEntries 151 = .ok (.iadd, 1) := dk_96 (dk_at dksX3_readEntries_6 12 rfl rfl)
theorem dX3_readEntries_152 : decode cX3_readEntries 152 = .ok (.putfield 130, 3) := dk_181 0 130 (dk_at dksX3_readEntries_6 13 rfl rfl)
theorem dX3_readEntries_155 : decode cX3_readEntries 155 = .ok (.goto (-139), 3) := dk_167 255 117 (dk_at dksX3_readEntries_6 16 rfl rfl)
theorem dX3_readEntries_158 : decode cX3_readEntries 158 = .ok (.aload_n 0, 1) := dk_42 (dk_at dksX3_readEntries_6 19 rfl rfl)
theorem dX3_readEntries_159 : decode cX3_readEntries 159 = .ok (.getfield 137, 3) := dk_180 0 137 (dk_at dksX3_readEntries_6 20 rfl rfl)
theorem dX3_readEntries_162 : decode cX3_readEntries 162 = .ok (.iconst (-1), 1) := dk_2 (dk_at dksX3_readEntries_6 23 rfl rfl)
theorem dX3_readEntries_163 : decode cX3_readEntries 163 = .ok (.if_icmp .ne 15, 3) := dk_160 0 15 (dk_at dksX3_readEntries_7 0 rfl rfl)
theorem dX3_readEntries_166 : decode cX3_readEntries 166 = .ok (.aload_n 0, 1) := dk_42 (dk_at dksX3_readEntries_7 3 rfl rfl)
theorem dX3_readEntries_167 : decode cX3_readEntries 167 = .ok (.invokevirtual 140, 3) := dk_182 0 140 (dk_at dksX3_readEntries_7 4 rfl rfl)
theorem dX3_readEntries_170 : decode cX3_readEntries 170 = .ok (.iconst (-1), 1) := dk_2 (dk_at dksX3_readEntries_7 7 rfl rfl)
theorem dX3_readEntries_171 : decode cX3_readEntries 171 = .ok (.if_icmp .eq 7, 3) := dk_159 0 7 (dk_at dksX3_readEntries_7 8 rfl rfl)
theorem dX3_readEntries_174 : decode cX3_readEntries 174 = .ok (.aload_n 0, 1) := dk_42 (dk_at dksX3_readEntries_7 11 rfl rfl)
theorem dX3_readEntries_175 : decode cX3_readEntries 175 = .ok (.invokevirtual 147, 3) := dk_182 0 147 (dk_at dksX3_readEntries_7 12 rfl rfl)
theorem dX3_readEntries_178 : decode cX3_readEntries 178 = .ok (.return_, 1) := dk_177 (dk_at dksX3_readEntries_7 15 rfl rfl)
abbrev cX3_look : ByteArray := prog_9_method_10_code
def yX3_look : MethodName := ⟨RX3, "look", "()I"⟩
def dkwX3_look_1 : List UInt8 := [182, 0, 133, 172]
abbrev dktX3_look_1 : List UInt8 := dkwX3_look_1 ++ []
def dkwX3_look_0 : List UInt8 := [42, 182, 0, 133, 16, 32, 160, 0, 16, 42, 89, 180, 0, 130, 4, 96, 181, 0, 130, 167, 255, 237, 42]
abbrev dktX3_look_0 : List UInt8 := dkwX3_look_0 ++ dktX3_look_1
theorem dksX3_look_0 : cX3_look.data.toList.drop 0 = dktX3_look_0 := by decide +kernel
theorem dksX3_look_1 : cX3_look.data.toList.drop 23 = dktX3_look_1 := dk_seg dksX3_look_0 23 rfl rfl
theorem dX3_look_0 : decode cX3_look 0 = .ok (.aload_n 0, 1) := dk_42 (dk_at dksX3_look_0 0 rfl rfl)
theorem dX3_look_1 : decode cX3_look 1 = .ok (.invokevirtual 133, 3) := dk_182 0 133 (dk_at dksX3_look_0 1 rfl rfl)
theorem dX3_look_4 : decode cX3_look 4 = .ok (.bipush 32, 2) := dk_16 32 (dk_at dksX3_look_0 4 rfl rfl)
theorem dX3_look_6 : decode cX3_look 6 = .ok (.if_icmp .ne 16, 3) := dk_160 0 16 (dk_at dksX3_look_0 6 rfl rfl)
theorem dX3_look_9 : decode cX3_look 9 = .ok (.aload_n 0, 1) := dk_42 (dk_at dksX3_look_0 9 rfl rfl)
theorem dX3_look_10 : decode cX3_look 10 = .ok (.dup, 1) := dk_89 (dk_at dksX3_look_0 10 rfl rfl)
theorem dX3_look_11 : decode cX3_look 11 = .ok (.getfield 130, 3) := dk_180 0 130 (dk_at dksX3_look_0 11 rfl rfl)
theorem dX3_look_14 : decode cX3_look 14 = .ok (.iconst 1, 1) := dk_4 (dk_at dksX3_look_0 14 rfl rfl)
theorem dX3_look_15 : decode cX3_look 15 = .ok (.iadd, 1) := dk_96 (dk_at dksX3_look_0 15 rfl rfl)
theorem dX3_look_16 : decode cX3_look 16 = .ok (.putfield 130, 3) := dk_181 0 130 (dk_at dksX3_look_0 16 rfl rfl)
theorem dX3_look_19 : decode cX3_look 19 = .ok (.goto (-19), 3) := dk_167 255 237 (dk_at dksX3_look_0 19 rfl rfl)
theorem dX3_look_22 : decode cX3_look 22 = .ok (.aload_n 0, 1) := dk_42 (dk_at dksX3_look_0 22 rfl rfl)
theorem dX3_look_23 : decode cX3_look 23 = .ok (.invokevirtual 133, 3) := dk_182 0 133 (dk_at dksX3_look_1 0 rfl rfl)
theorem dX3_look_26 : decode cX3_look 26 = .ok (.ireturn, 1) := dk_172 (dk_at dksX3_look_1 3 rfl rfl)
abbrev cX3_here : ByteArray := prog_9_method_9_code
def yX3_here : MethodName := ⟨RX3, "here", "()I"⟩
def dkwX3_here_1 : List UInt8 := [167, 0, 4, 2, 172]
abbrev dktX3_here_1 : List UInt8 := dkwX3_here_1 ++ []
def dkwX3_here_0 : List UInt8 := [42, 180, 0, 130, 42, 180, 0, 119, 162, 0, 19, 42, 180, 0, 9, 42, 180, 0, 130, 51, 17, 0, 255, 126]
abbrev dktX3_here_0 : List UInt8 := dkwX3_here_0 ++ dktX3_here_1
theorem dksX3_here_0 : cX3_here.data.toList.drop 0 = dktX3_here_0 := by decide +kernel
theorem dksX3_here_1 : cX3_here.data.toList.drop 24 = dktX3_here_1 := dk_seg dksX3_here_0 24 rfl rfl
theorem dX3_here_0 : decode cX3_here 0 = .ok (.aload_n 0, 1) := dk_42 (dk_at dksX3_here_0 0 rfl rfl)
theorem dX3_here_1 : decode cX3_here 1 = .ok (.getfield 130, 3) := dk_180 0 130 (dk_at dksX3_here_0 1 rfl rfl)
theorem dX3_here_4 : decode cX3_here 4 = .ok (.aload_n 0, 1) := dk_42 (dk_at dksX3_here_0 4 rfl rfl)
theorem dX3_here_5 : decode cX3_here 5 = .ok (.getfield 119, 3) := dk_180 0 119 (dk_at dksX3_here_0 5 rfl rfl)
theorem dX3_here_8 : decode cX3_here 8 = .ok (.if_icmp .ge 19, 3) := dk_162 0 19 (dk_at dksX3_here_0 8 rfl rfl)
theorem dX3_here_11 : decode cX3_here 11 = .ok (.aload_n 0, 1) := dk_42 (dk_at dksX3_here_0 11 rfl rfl)
theorem dX3_here_12 : decode cX3_here 12 = .ok (.getfield 9, 3) := dk_180 0 9 (dk_at dksX3_here_0 12 rfl rfl)
theorem dX3_here_15 : decode cX3_here 15 = .ok (.aload_n 0, 1) := dk_42 (dk_at dksX3_here_0 15 rfl rfl)
theorem dX3_here_16 : decode cX3_here 16 = .ok (.getfield 130, 3) := dk_180 0 130 (dk_at dksX3_here_0 16 rfl rfl)
theorem dX3_here_19 : decode cX3_here 19 = .ok (.baload, 1) := dk_51 (dk_at dksX3_here_0 19 rfl rfl)
theorem dX3_here_20 : decode cX3_here 20 = .ok (.sipush 255, 3) := dk_17 0 255 (dk_at dksX3_here_0 20 rfl rfl)
theorem dX3_here_23 : decode cX3_here 23 = .ok (.iand, 1) := dk_126 (dk_at dksX3_here_0 23 rfl rfl)
theorem dX3_here_24 : decode cX3_here 24 = .ok (.goto 4, 3) := dk_167 0 4 (dk_at dksX3_here_1 0 rfl rfl)
theorem dX3_here_27 : decode cX3_here 27 = .ok (.iconst (-1), 1) := dk_2 (dk_at dksX3_here_1 3 rfl rfl)
theorem dX3_here_28 : decode cX3_here 28 = .ok (.ireturn, 1) := dk_172 (dk_at dksX3_here_1 4 rfl rfl)
abbrev cX3_number : ByteArray := prog_9_method_13_code
def yX3_number : MethodName := ⟨RX3, "number", "()I"⟩
def dkwX3_number_3 : List UInt8 := [182, 0, 147, 27, 172]
abbrev dktX3_number_3 : List UInt8 := dkwX3_number_3 ++ []
def dkwX3_number_2 : List UInt8 := [89, 180, 0, 130, 4, 96, 181, 0, 130, 132, 2, 1, 167, 255, 218, 42, 182, 0, 143, 153, 0, 7, 42]
abbrev dktX3_number_2 : List UInt8 := dkwX3_number_2 ++ dktX3_number_3
def dkwX3_number_1 : List UInt8 := [162, 0, 39, 42, 182, 0, 143, 153, 0, 32, 16, 10, 27, 104, 42, 182, 0, 133, 96, 16, 48, 100, 60, 42]
abbrev dktX3_number_1 : List UInt8 := dkwX3_number_1 ++ dktX3_number_2
def dkwX3_number_0 : List UInt8 := [42, 182, 0, 140, 87, 42, 182, 0, 143, 154, 0, 9, 42, 182, 0, 147, 3, 172, 3, 60, 3, 61, 28, 6]
abbrev dktX3_number_0 : List UInt8 := dkwX3_number_0 ++ dktX3_number_1
theorem dksX3_number_0 : cX3_number.data.toList.drop 0 = dktX3_number_0 := by decide +kernel
theorem dksX3_number_1 : cX3_number.data.toList.drop 24 = dktX3_number_1 := dk_seg dksX3_number_0 24 rfl rfl
theorem dksX3_number_2 : cX3_number.data.toList.drop 48 = dktX3_number_2 := dk_seg dksX3_number_1 24 rfl rfl
theorem dksX3_number_3 : cX3_number.data.toList.drop 71 = dktX3_number_3 := dk_seg dksX3_number_2 23 rfl rfl
theorem dX3_number_0 : decode cX3_number 0 = .ok (.aload_n 0, 1) := dk_42 (dk_at dksX3_number_0 0 rfl rfl)
theorem dX3_number_1 : decode cX3_number 1 = .ok (.invokevirtual 140, 3) := dk_182 0 140 (dk_at dksX3_number_0 1 rfl rfl)
theorem dX3_number_4 : decode cX3_number 4 = .ok (.pop, 1) := dk_87 (dk_at dksX3_number_0 4 rfl rfl)
theorem dX3_number_5 : decode cX3_number 5 = .ok (.aload_n 0, 1) := dk_42 (dk_at dksX3_number_0 5 rfl rfl)
theorem dX3_number_6 : decode cX3_number 6 = .ok (.invokevirtual 143, 3) := dk_182 0 143 (dk_at dksX3_number_0 6 rfl rfl)
theorem dX3_number_9 : decode cX3_number 9 = .ok (.ifCond .ne 9, 3) := dk_154 0 9 (dk_at dksX3_number_0 9 rfl rfl)
theorem dX3_number_12 : decode cX3_number 12 = .ok (.aload_n 0, 1) := dk_42 (dk_at dksX3_number_0 12 rfl rfl)
theorem dX3_number_13 : decode cX3_number 13 = .ok (.invokevirtual 147, 3) := dk_182 0 147 (dk_at dksX3_number_0 13 rfl rfl)
theorem dX3_number_16 : decode cX3_number 16 = .ok (.iconst 0, 1) := dk_3 (dk_at dksX3_number_0 16 rfl rfl)
theorem dX3_number_17 : decode cX3_number 17 = .ok (.ireturn, 1) := dk_172 (dk_at dksX3_number_0 17 rfl rfl)
theorem dX3_number_18 : decode cX3_number 18 = .ok (.iconst 0, 1) := dk_3 (dk_at dksX3_number_0 18 rfl rfl)
theorem dX3_number_19 : decode cX3_number 19 = .ok (.istore_n 1, 1) := dk_60 (dk_at dksX3_number_0 19 rfl rfl)
theorem dX3_number_20 : decode cX3_number 20 = .ok (.iconst 0, 1) := dk_3 (dk_at dksX3_number_0 20 rfl rfl)
theorem dX3_number_21 : decode cX3_number 21 = .ok (.istore_n 2, 1) := dk_61 (dk_at dksX3_number_0 21 rfl rfl)
theorem dX3_number_22 : decode cX3_number 22 = .ok (.iload_n 2, 1) := dk_28 (dk_at dksX3_number_0 22 rfl rfl)
theorem dX3_number_23 : decode cX3_number 23 = .ok (.iconst 3, 1) := dk_6 (dk_at dksX3_number_0 23 rfl rfl)
theorem dX3_number_24 : decode cX3_number 24 = .ok (.if_icmp .ge 39, 3) := dk_162 0 39 (dk_at dksX3_number_1 0 rfl rfl)
theorem dX3_number_27 : decode cX3_number 27 = .ok (.aload_n 0, 1) := dk_42 (dk_at dksX3_number_1 3 rfl rfl)
theorem dX3_number_28 : decode cX3_number 28 = .ok (.invokevirtual 143, 3) := dk_182 0 143 (dk_at dksX3_number_1 4 rfl rfl)
theorem dX3_number_31 : decode cX3_number 31 = .ok (.ifCond .eq 32, 3) := dk_153 0 32 (dk_at dksX3_number_1 7 rfl rfl)
theorem dX3_number_34 : decode cX3_number 34 = .ok (.bipush 10, 2) := dk_16 10 (dk_at dksX3_number_1 10 rfl rfl)
theorem dX3_number_36 : decode cX3_number 36 = .ok (.iload_n 1, 1) := dk_27 (dk_at dksX3_number_1 12 rfl rfl)
theorem dX3_number_37 : decode cX3_number 37 = .ok (.imul, 1) := dk_104 (dk_at dksX3_number_1 13 rfl rfl)
theorem dX3_number_38 : decode cX3_number 38 = .ok (.aload_n 0, 1) := dk_42 (dk_at dksX3_number_1 14 rfl rfl)
theorem dX3_number_39 : decode cX3_number 39 = .ok (.invokevirtual 133, 3) := dk_182 0 133 (dk_at dksX3_number_1 15 rfl rfl)
theorem dX3_number_42 : decode cX3_number 42 = .ok (.iadd, 1) := dk_96 (dk_at dksX3_number_1 18 rfl rfl)
theorem dX3_number_43 : decode cX3_number 43 = .ok (.bipush 48, 2) := dk_16 48 (dk_at dksX3_number_1 19 rfl rfl)
theorem dX3_number_45 : decode cX3_number 45 = .ok (.isub, 1) := dk_100 (dk_at dksX3_number_1 21 rfl rfl)
theorem dX3_number_46 : decode cX3_number 46 = .ok (.istore_n 1, 1) := dk_60 (dk_at dksX3_number_1 22 rfl rfl)
theorem dX3_number_47 : decode cX3_number 47 = .ok (.aload_n 0, 1) := dk_42 (dk_at dksX3_number_1 23 rfl rfl)
theorem dX3_number_48 : decode cX3_number 48 = .ok (.dup, 1) := dk_89 (dk_at dksX3_number_2 0 rfl rfl)
theorem dX3_number_49 : decode cX3_number 49 = .ok (.getfield 130, 3) := dk_180 0 130 (dk_at dksX3_number_2 1 rfl rfl)
theorem dX3_number_52 : decode cX3_number 52 = .ok (.iconst 1, 1) := dk_4 (dk_at dksX3_number_2 4 rfl rfl)
theorem dX3_number_53 : decode cX3_number 53 = .ok (.iadd, 1) := dk_96 (dk_at dksX3_number_2 5 rfl rfl)
theorem dX3_number_54 : decode cX3_number 54 = .ok (.putfield 130, 3) := dk_181 0 130 (dk_at dksX3_number_2 6 rfl rfl)
theorem dX3_number_57 : decode cX3_number 57 = .ok (.iinc 2 1, 3) := dk_132 2 1 (dk_at dksX3_number_2 9 rfl rfl)
theorem dX3_number_60 : decode cX3_number 60 = .ok (.goto (-38), 3) := dk_167 255 218 (dk_at dksX3_number_2 12 rfl rfl)
theorem dX3_number_63 : decode cX3_number 63 = .ok (.aload_n 0, 1) := dk_42 (dk_at dksX3_number_2 15 rfl rfl)
theorem dX3_number_64 : decode cX3_number 64 = .ok (.invokevirtual 143, 3) := dk_182 0 143 (dk_at dksX3_number_2 16 rfl rfl)
theorem dX3_number_67 : decode cX3_number 67 = .ok (.ifCond .eq 7, 3) := dk_153 0 7 (dk_at dksX3_number_2 19 rfl rfl)
theorem dX3_number_70 : decode cX3_number 70 = .ok (.aload_n 0, 1) := dk_42 (dk_at dksX3_number_2 22 rfl rfl)
theorem dX3_number_71 : decode cX3_number 71 = .ok (.invokevirtual 147, 3) := dk_182 0 147 (dk_at dksX3_number_3 0 rfl rfl)
theorem dX3_number_74 : decode cX3_number 74 = .ok (.iload_n 1, 1) := dk_27 (dk_at dksX3_number_3 3 rfl rfl)
theorem dX3_number_75 : decode cX3_number 75 = .ok (.ireturn, 1) := dk_172 (dk_at dksX3_number_3 4 rfl rfl)
abbrev cX3_isDigit : ByteArray := prog_9_method_12_code
def yX3_isDigit : MethodName := ⟨RX3, "isDigit", "()Z"⟩
def dkwX3_isDigit_0 : List UInt8 := [42, 182, 0, 133, 16, 48, 161, 0, 16, 42, 182, 0, 133, 16, 57, 163, 0, 7, 4, 167, 0, 4, 3, 172]
abbrev dktX3_isDigit_0 : List UInt8 := dkwX3_isDigit_0 ++ []
theorem dksX3_isDigit_0 : cX3_isDigit.data.toList.drop 0 = dktX3_isDigit_0 := by decide +kernel
theorem dX3_isDigit_0 : decode cX3_isDigit 0 = .ok (.aload_n 0, 1) := dk_42 (dk_at dksX3_isDigit_0 0 rfl rfl)
theorem dX3_isDigit_1 : decode cX3_isDigit 1 = .ok (.invokevirtual 133, 3) := dk_182 0 133 (dk_at dksX3_isDigit_0 1 rfl rfl)
theorem dX3_isDigit_4 : decode cX3_isDigit 4 = .ok (.bipush 48, 2) := dk_16 48 (dk_at dksX3_isDigit_0 4 rfl rfl)
theorem dX3_isDigit_6 : decode cX3_isDigit 6 = .ok (.if_icmp .lt 16, 3) := dk_161 0 16 (dk_at dksX3_isDigit_0 6 rfl rfl)
theorem dX3_isDigit_9 : decode cX3_isDigit 9 = .ok (.aload_n 0, 1) := dk_42 (dk_at dksX3_isDigit_0 9 rfl rfl)
theorem dX3_isDigit_10 : decode cX3_isDigit 10 = .ok (.invokevirtual 133, 3) := dk_182 0 133 (dk_at dksX3_isDigit_0 10 rfl rfl)
theorem dX3_isDigit_13 : decode cX3_isDigit 13 = .ok (.bipush 57, 2) := dk_16 57 (dk_at dksX3_isDigit_0 13 rfl rfl)
theorem dX3_isDigit_15 : decode cX3_isDigit 15 = .ok (.if_icmp .gt 7, 3) := dk_163 0 7 (dk_at dksX3_isDigit_0 15 rfl rfl)
theorem dX3_isDigit_18 : decode cX3_isDigit 18 = .ok (.iconst 1, 1) := dk_4 (dk_at dksX3_isDigit_0 18 rfl rfl)
theorem dX3_isDigit_19 : decode cX3_isDigit 19 = .ok (.goto 4, 3) := dk_167 0 4 (dk_at dksX3_isDigit_0 19 rfl rfl)
theorem dX3_isDigit_22 : decode cX3_isDigit 22 = .ok (.iconst 0, 1) := dk_3 (dk_at dksX3_isDigit_0 22 rfl rfl)
theorem dX3_isDigit_23 : decode cX3_isDigit 23 = .ok (.ireturn, 1) := dk_172 (dk_at dksX3_isDigit_0 23 rfl rfl)
abbrev cX3_fails : ByteArray := prog_9_method_11_code
def yX3_fails : MethodName := ⟨RX3, "fails", "()V"⟩
def dkwX3_fails_0 : List UInt8 := [42, 180, 0, 137, 2, 160, 0, 11, 42, 42, 180, 0, 130, 181, 0, 137, 177]
abbrev dktX3_fails_0 : List UInt8 := dkwX3_fails_0 ++ []
theorem dksX3_fails_0 : cX3_fails.data.toList.drop 0 = dktX3_fails_0 := by decide +kernel
theorem dX3_fails_0 : decode cX3_fails 0 = .ok (.aload_n 0, 1) := dk_42 (dk_at dksX3_fails_0 0 rfl rfl)
theorem dX3_fails_1 : decode cX3_fails 1 = .ok (.getfield 137, 3) := dk_180 0 137 (dk_at dksX3_fails_0 1 rfl rfl)
theorem dX3_fails_4 : decode cX3_fails 4 = .ok (.iconst (-1), 1) := dk_2 (dk_at dksX3_fails_0 4 rfl rfl)
theorem dX3_fails_5 : decode cX3_fails 5 = .ok (.if_icmp .ne 11, 3) := dk_160 0 11 (dk_at dksX3_fails_0 5 rfl rfl)
theorem dX3_fails_8 : decode cX3_fails 8 = .ok (.aload_n 0, 1) := dk_42 (dk_at dksX3_fails_0 8 rfl rfl)
theorem dX3_fails_9 : decode cX3_fails 9 = .ok (.aload_n 0, 1) := dk_42 (dk_at dksX3_fails_0 9 rfl rfl)
theorem dX3_fails_10 : decode cX3_fails 10 = .ok (.getfield 130, 3) := dk_180 0 130 (dk_at dksX3_fails_0 10 rfl rfl)
theorem dX3_fails_13 : decode cX3_fails 13 = .ok (.putfield 137, 3) := dk_181 0 137 (dk_at dksX3_fails_0 13 rfl rfl)
theorem dX3_fails_16 : decode cX3_fails 16 = .ok (.return_, 1) := dk_177 (dk_at dksX3_fails_0 16 rfl rfl)
abbrev cX3_value : ByteArray := prog_9_method_14_code
def yX3_value : MethodName := ⟨RX3, "value", "()I"⟩
def dkwX3_value_2 : List UInt8 := [182, 0, 150, 61, 27, 153, 0, 8, 28, 116, 167, 0, 4, 28, 172]
abbrev dktX3_value_2 : List UInt8 := dkwX3_value_2 ++ []
def dkwX3_value_1 : List UInt8 := [4, 96, 181, 0, 130, 27, 153, 0, 16, 42, 182, 0, 143, 154, 0, 9, 42, 182, 0, 147, 3, 172, 42]
abbrev dktX3_value_1 : List UInt8 := dkwX3_value_1 ++ dktX3_value_2
def dkwX3_value_0 : List UInt8 := [42, 182, 0, 140, 16, 45, 160, 0, 7, 4, 167, 0, 4, 3, 60, 27, 153, 0, 13, 42, 89, 180, 0, 130]
abbrev dktX3_value_0 : List UInt8 := dkwX3_value_0 ++ dktX3_value_1
theorem dksX3_value_0 : cX3_value.data.toList.drop 0 = dktX3_value_0 := by decide +kernel
theorem dksX3_value_1 : cX3_value.data.toList.drop 24 = dktX3_value_1 := dk_seg dksX3_value_0 24 rfl rfl
theorem dksX3_value_2 : cX3_value.data.toList.drop 47 = dktX3_value_2 := dk_seg dksX3_value_1 23 rfl rfl
theorem dX3_value_0 : decode cX3_value 0 = .ok (.aload_n 0, 1) := dk_42 (dk_at dksX3_value_0 0 rfl rfl)
theorem dX3_value_1 : decode cX3_value 1 = .ok (.invokevirtual 140, 3) := dk_182 0 140 (dk_at dksX3_value_0 1 rfl rfl)
theorem dX3_value_4 : decode cX3_value 4 = .ok (.bipush 45, 2) := dk_16 45 (dk_at dksX3_value_0 4 rfl rfl)
theorem dX3_value_6 : decode cX3_value 6 = .ok (.if_icmp .ne 7, 3) := dk_160 0 7 (dk_at dksX3_value_0 6 rfl rfl)
theorem dX3_value_9 : decode cX3_value 9 = .ok (.iconst 1, 1) := dk_4 (dk_at dksX3_value_0 9 rfl rfl)
theorem dX3_value_10 : decode cX3_value 10 = .ok (.goto 4, 3) := dk_167 0 4 (dk_at dksX3_value_0 10 rfl rfl)
theorem dX3_value_13 : decode cX3_value 13 = .ok (.iconst 0, 1) := dk_3 (dk_at dksX3_value_0 13 rfl rfl)
theorem dX3_value_14 : decode cX3_value 14 = .ok (.istore_n 1, 1) := dk_60 (dk_at dksX3_value_0 14 rfl rfl)
theorem dX3_value_15 : decode cX3_value 15 = .ok (.iload_n 1, 1) := dk_27 (dk_at dksX3_value_0 15 rfl rfl)
theorem dX3_value_16 : decode cX3_value 16 = .ok (.ifCond .eq 13, 3) := dk_153 0 13 (dk_at dksX3_value_0 16 rfl rfl)
theorem dX3_value_19 : decode cX3_value 19 = .ok (.aload_n 0, 1) := dk_42 (dk_at dksX3_value_0 19 rfl rfl)
theorem dX3_value_20 : decode cX3_value 20 = .ok (.dup, 1) := dk_89 (dk_at dksX3_value_0 20 rfl rfl)
theorem dX3_value_21 : decode cX3_value 21 = .ok (.getfield 130, 3) := dk_180 0 130 (dk_at dksX3_value_0 21 rfl rfl)
theorem dX3_value_24 : decode cX3_value 24 = .ok (.iconst 1, 1) := dk_4 (dk_at dksX3_value_1 0 rfl rfl)
theorem dX3_value_25 : decode cX3_value 25 = .ok (.iadd, 1) := dk_96 (dk_at dksX3_value_1 1 rfl rfl)
theorem dX3_value_26 : decode cX3_value 26 = .ok (.putfield 130, 3) := dk_181 0 130 (dk_at dksX3_value_1 2 rfl rfl)
theorem dX3_value_29 : decode cX3_value 29 = .ok (.iload_n 1, 1) := dk_27 (dk_at dksX3_value_1 5 rfl rfl)
theorem dX3_value_30 : decode cX3_value 30 = .ok (.ifCond .eq 16, 3) := dk_153 0 16 (dk_at dksX3_value_1 6 rfl rfl)
theorem dX3_value_33 : decode cX3_value 33 = .ok (.aload_n 0, 1) := dk_42 (dk_at dksX3_value_1 9 rfl rfl)
theorem dX3_value_34 : decode cX3_value 34 = .ok (.invokevirtual 143, 3) := dk_182 0 143 (dk_at dksX3_value_1 10 rfl rfl)
theorem dX3_value_37 : decode cX3_value 37 = .ok (.ifCond .ne 9, 3) := dk_154 0 9 (dk_at dksX3_value_1 13 rfl rfl)
theorem dX3_value_40 : decode cX3_value 40 = .ok (.aload_n 0, 1) := dk_42 (dk_at dksX3_value_1 16 rfl rfl)
theorem dX3_value_41 : decode cX3_value 41 = .ok (.invokevirtual 147, 3) := dk_182 0 147 (dk_at dksX3_value_1 17 rfl rfl)
theorem dX3_value_44 : decode cX3_value 44 = .ok (.iconst 0, 1) := dk_3 (dk_at dksX3_value_1 20 rfl rfl)
theorem dX3_value_45 : decode cX3_value 45 = .ok (.ireturn, 1) := dk_172 (dk_at dksX3_value_1 21 rfl rfl)
theorem dX3_value_46 : decode cX3_value 46 = .ok (.aload_n 0, 1) := dk_42 (dk_at dksX3_value_1 22 rfl rfl)
theorem dX3_value_47 : decode cX3_value 47 = .ok (.invokevirtual 150, 3) := dk_182 0 150 (dk_at dksX3_value_2 0 rfl rfl)
theorem dX3_value_50 : decode cX3_value 50 = .ok (.istore_n 2, 1) := dk_61 (dk_at dksX3_value_2 3 rfl rfl)
theorem dX3_value_51 : decode cX3_value 51 = .ok (.iload_n 1, 1) := dk_27 (dk_at dksX3_value_2 4 rfl rfl)
theorem dX3_value_52 : decode cX3_value 52 = .ok (.ifCond .eq 8, 3) := dk_153 0 8 (dk_at dksX3_value_2 5 rfl rfl)
theorem dX3_value_55 : decode cX3_value 55 = .ok (.iload_n 2, 1) := dk_28 (dk_at dksX3_value_2 8 rfl rfl)
theorem dX3_value_56 : decode cX3_value 56 = .ok (.ineg, 1) := dk_116 (dk_at dksX3_value_2 9 rfl rfl)
theorem dX3_value_57 : decode cX3_value 57 = .ok (.goto 4, 3) := dk_167 0 4 (dk_at dksX3_value_2 10 rfl rfl)
theorem dX3_value_60 : decode cX3_value 60 = .ok (.iload_n 2, 1) := dk_28 (dk_at dksX3_value_2 13 rfl rfl)
theorem dX3_value_61 : decode cX3_value 61 = .ok (.ireturn, 1) := dk_172 (dk_at dksX3_value_2 14 rfl rfl)
abbrev cX3_readPlan : ByteArray := prog_9_method_18_code
def yX3_readPlan : MethodName := ⟨RX3, "readPlan", "()V"⟩
def dkwX3_readPlan_4 : List UInt8 := [182, 0, 147, 177]
abbrev dktX3_readPlan_4 : List UInt8 := dkwX3_readPlan_4 ++ []
def dkwX3_readPlan_3 : List UInt8 := [96, 181, 0, 130, 167, 255, 186, 42, 180, 0, 20, 7, 27, 79, 42, 182, 0, 140, 2, 159, 0, 7, 42]
abbrev dktX3_readPlan_3 : List UInt8 := dkwX3_readPlan_3 ++ dktX3_readPlan_4
def dkwX3_readPlan_2 : List UInt8 := [153, 0, 14, 27, 16, 16, 160, 0, 8, 42, 182, 0, 147, 177, 28, 153, 255, 199, 42, 89, 180, 0, 130, 4]
abbrev dktX3_readPlan_2 : List UInt8 := dkwX3_readPlan_2 ++ dktX3_readPlan_3
def dkwX3_readPlan_1 : List UInt8 := [159, 0, 4, 177, 132, 1, 1, 42, 182, 0, 140, 16, 59, 160, 0, 7, 4, 167, 0, 4, 3, 61, 28]
abbrev dktX3_readPlan_1 : List UInt8 := dkwX3_readPlan_1 ++ dktX3_readPlan_2
def dkwX3_readPlan_0 : List UInt8 := [3, 60, 4, 61, 28, 153, 0, 72, 42, 7, 16, 64, 27, 96, 104, 182, 0, 171, 42, 180, 0, 137, 2]
abbrev dktX3_readPlan_0 : List UInt8 := dkwX3_readPlan_0 ++ dktX3_readPlan_1
theorem dksX3_readPlan_0 : cX3_readPlan.data.toList.drop 0 = dktX3_readPlan_0 := by decide +kernel
theorem dksX3_readPlan_1 : cX3_readPlan.data.toList.drop 23 = dktX3_readPlan_1 := dk_seg dksX3_readPlan_0 23 rfl rfl
theorem dksX3_readPlan_2 : cX3_readPlan.data.toList.drop 46 = dktX3_readPlan_2 := dk_seg dksX3_readPlan_1 23 rfl rfl
theorem dksX3_readPlan_3 : cX3_readPlan.data.toList.drop 70 = dktX3_readPlan_3 := dk_seg dksX3_readPlan_2 24 rfl rfl
theorem dksX3_readPlan_4 : cX3_readPlan.data.toList.drop 93 = dktX3_readPlan_4 := dk_seg dksX3_readPlan_3 23 rfl rfl
theorem dX3_readPlan_0 : decode cX3_readPlan 0 = .ok (.iconst 0, 1) := dk_3 (dk_at dksX3_readPlan_0 0 rfl rfl)
theorem dX3_readPlan_1 : decode cX3_readPlan 1 = .ok (.istore_n 1, 1) := dk_60 (dk_at dksX3_readPlan_0 1 rfl rfl)
theorem dX3_readPlan_2 : decode cX3_readPlan 2 = .ok (.iconst 1, 1) := dk_4 (dk_at dksX3_readPlan_0 2 rfl rfl)
theorem dX3_readPlan_3 : decode cX3_readPlan 3 = .ok (.istore_n 2, 1) := dk_61 (dk_at dksX3_readPlan_0 3 rfl rfl)
theorem dX3_readPlan_4 : decode cX3_readPlan 4 = .ok (.iload_n 2, 1) := dk_28 (dk_at dksX3_readPlan_0 4 rfl rfl)
theorem dX3_readPlan_5 : decode cX3_readPlan 5 = .ok (.ifCond .eq 72, 3) := dk_153 0 72 (dk_at dksX3_readPlan_0 5 rfl rfl)
theorem dX3_readPlan_8 : decode cX3_readPlan 8 = .ok (.aload_n 0, 1) := dk_42 (dk_at dksX3_readPlan_0 8 rfl rfl)
theorem dX3_readPlan_9 : decode cX3_readPlan 9 = .ok (.iconst 4, 1) := dk_7 (dk_at dksX3_readPlan_0 9 rfl rfl)
theorem dX3_readPlan_10 : decode cX3_readPlan 10 = .ok (.bipush 64, 2) := dk_16 64 (dk_at dksX3_readPlan_0 10 rfl rfl)
theorem dX3_readPlan_12 : decode cX3_readPlan 12 = .ok (.iload_n 1, 1) := dk_27 (dk_at dksX3_readPlan_0 12 rfl rfl)
theorem dX3_readPlan_13 : decode cX3_readPlan 13 = .ok (.iadd, 1) := dk_96 (dk_at dksX3_readPlan_0 13 rfl rfl)
theorem dX3_readPlan_14 : decode cX3_readPlan 14 = .ok (.imul, 1) := dk_104 (dk_at dksX3_readPlan_0 14 rfl rfl)
theorem dX3_readPlan_15 : decode cX3_readPlan 15 = .ok (.invokevirtual 171, 3) := dk_182 0 171 (dk_at dksX3_readPlan_0 15 rfl rfl)
theorem dX3_readPlan_18 : decode cX3_readPlan 18 = .ok (.aload_n 0, 1) := dk_42 (dk_at dksX3_readPlan_0 18 rfl rfl)
theorem dX3_readPlan_19 : decode cX3_readPlan 19 = .ok (.getfield 137, 3) := dk_180 0 137 (dk_at dksX3_readPlan_0 19 rfl rfl)
theorem dX3_readPlan_22 : decode cX3_readPlan 22 = .ok (.iconst (-1), 1) := dk_2 (dk_at dksX3_readPlan_0 22 rfl rfl)
theorem dX3_readPlan_23 : decode cX3_readPlan 23 = .ok (.if_icmp .eq 4, 3) := dk_159 0 4 (dk_at dksX3_readPlan_1 0 rfl rfl)
theorem dX3_readPlan_26 : decode cX3_readPlan 26 = .ok (.return_, 1) := dk_177 (dk_at dksX3_readPlan_1 3 rfl rfl)
theorem dX3_readPlan_27 : decode cX3_readPlan 27 = .ok (.iinc 1 1, 3) := dk_132 1 1 (dk_at dksX3_readPlan_1 4 rfl rfl)
theorem dX3_readPlan_30 : decode cX3_readPlan 30 = .ok (.aload_n 0, 1) := dk_42 (dk_at dksX3_readPlan_1 7 rfl rfl)
theorem dX3_readPlan_31 : decode cX3_readPlan 31 = .ok (.invokevirtual 140, 3) := dk_182 0 140 (dk_at dksX3_readPlan_1 8 rfl rfl)
theorem dX3_readPlan_34 : decode cX3_readPlan 34 = .ok (.bipush 59, 2) := dk_16 59 (dk_at dksX3_readPlan_1 11 rfl rfl)
theorem dX3_readPlan_36 : decode cX3_readPlan 36 = .ok (.if_icmp .ne 7, 3) := dk_160 0 7 (dk_at dksX3_readPlan_1 13 rfl rfl)
theorem dX3_readPlan_39 : decode cX3_readPlan 39 = .ok (.iconst 1, 1) := dk_4 (dk_at dksX3_readPlan_1 16 rfl rfl)
theorem dX3_readPlan_40 : decode cX3_readPlan 40 = .ok (.goto 4, 3) := dk_167 0 4 (dk_at dksX3_readPlan_1 17 rfl rfl)
theorem dX3_readPlan_43 : decode cX3_readPlan 43 = .ok (.iconst 0, 1) := dk_3 (dk_at dksX3_readPlan_1 20 rfl rfl)
theorem dX3_readPlan_44 : decode cX3_readPlan 44 = .ok (.istore_n 2, 1) := dk_61 (dk_at dksX3_readPlan_1 21 rfl rfl)
theorem dX3_readPlan_45 : decode cX3_readPlan 45 = .ok (.iload_n 2, 1) := dk_28 (dk_at dksX3_readPlan_1 22 rfl rfl)
theorem dX3_readPlan_46 : decode cX3_readPlan 46 = .ok (.ifCond .eq 14, 3) := dk_153 0 14 (dk_at dksX3_readPlan_2 0 rfl rfl)
theorem dX3_readPlan_49 : decode cX3_readPlan 49 = .ok (.iload_n 1, 1) := dk_27 (dk_at dksX3_readPlan_2 3 rfl rfl)
theorem dX3_readPlan_50 : decode cX3_readPlan 50 = .ok (.bipush 16, 2) := dk_16 16 (dk_at dksX3_readPlan_2 4 rfl rfl)
theorem dX3_readPlan_52 : decode cX3_readPlan 52 = .ok (.if_icmp .ne 8, 3) := dk_160 0 8 (dk_at dksX3_readPlan_2 6 rfl rfl)
theorem dX3_readPlan_55 : decode cX3_readPlan 55 = .ok (.aload_n 0, 1) := dk_42 (dk_at dksX3_readPlan_2 9 rfl rfl)
theorem dX3_readPlan_56 : decode cX3_readPlan 56 = .ok (.invokevirtual 147, 3) := dk_182 0 147 (dk_at dksX3_readPlan_2 10 rfl rfl)
theorem dX3_readPlan_59 : decode cX3_readPlan 59 = .ok (.return_, 1) := dk_177 (dk_at dksX3_readPlan_2 13 rfl rfl)
theorem dX3_readPlan_60 : decode cX3_readPlan 60 = .ok (.iload_n 2, 1) := dk_28 (dk_at dksX3_readPlan_2 14 rfl rfl)
theorem dX3_readPlan_61 : decode cX3_readPlan 61 = .ok (.ifCond .eq (-57), 3) := dk_153 255 199 (dk_at dksX3_readPlan_2 15 rfl rfl)
theorem dX3_readPlan_64 : decode cX3_readPlan 64 = .ok (.aload_n 0, 1) := dk_42 (dk_at dksX3_readPlan_2 18 rfl rfl)
theorem dX3_readPlan_65 : decode cX3_readPlan 65 = .ok (.dup, 1) := dk_89 (dk_at dksX3_readPlan_2 19 rfl rfl)
theorem dX3_readPlan_66 : decode cX3_readPlan 66 = .ok (.getfield 130, 3) := dk_180 0 130 (dk_at dksX3_readPlan_2 20 rfl rfl)
theorem dX3_readPlan_69 : decode cX3_readPlan 69 = .ok (.iconst 1, 1) := dk_4 (dk_at dksX3_readPlan_2 23 rfl rfl)
theorem dX3_readPlan_70 : decode cX3_readPlan 70 = .ok (.iadd, 1) := dk_96 (dk_at dksX3_readPlan_3 0 rfl rfl)
theorem dX3_readPlan_71 : decode cX3_readPlan 71 = .ok (.putfield 130, 3) := dk_181 0 130 (dk_at dksX3_readPlan_3 1 rfl rfl)
theorem dX3_readPlan_74 : decode cX3_readPlan 74 = .ok (.goto (-70), 3) := dk_167 255 186 (dk_at dksX3_readPlan_3 4 rfl rfl)
theorem dX3_readPlan_77 : decode cX3_readPlan 77 = .ok (.aload_n 0, 1) := dk_42 (dk_at dksX3_readPlan_3 7 rfl rfl)
theorem dX3_readPlan_78 : decode cX3_readPlan 78 = .ok (.getfield 20, 3) := dk_180 0 20 (dk_at dksX3_readPlan_3 8 rfl rfl)
theorem dX3_readPlan_81 : decode cX3_readPlan 81 = .ok (.iconst 4, 1) := dk_7 (dk_at dksX3_readPlan_3 11 rfl rfl)
theorem dX3_readPlan_82 : decode cX3_readPlan 82 = .ok (.iload_n 1, 1) := dk_27 (dk_at dksX3_readPlan_3 12 rfl rfl)
theorem dX3_readPlan_83 : decode cX3_readPlan 83 = .ok (.iastore, 1) := dk_79 (dk_at dksX3_readPlan_3 13 rfl rfl)
theorem dX3_readPlan_84 : decode cX3_readPlan 84 = .ok (.aload_n 0, 1) := dk_42 (dk_at dksX3_readPlan_3 14 rfl rfl)
theorem dX3_readPlan_85 : decode cX3_readPlan 85 = .ok (.invokevirtual 140, 3) := dk_182 0 140 (dk_at dksX3_readPlan_3 15 rfl rfl)
theorem dX3_readPlan_88 : decode cX3_readPlan 88 = .ok (.iconst (-1), 1) := dk_2 (dk_at dksX3_readPlan_3 18 rfl rfl)
theorem dX3_readPlan_89 : decode cX3_readPlan 89 = .ok (.if_icmp .eq 7, 3) := dk_159 0 7 (dk_at dksX3_readPlan_3 19 rfl rfl)
theorem dX3_readPlan_92 : decode cX3_readPlan 92 = .ok (.aload_n 0, 1) := dk_42 (dk_at dksX3_readPlan_3 22 rfl rfl)
theorem dX3_readPlan_93 : decode cX3_readPlan 93 = .ok (.invokevirtual 147, 3) := dk_182 0 147 (dk_at dksX3_readPlan_4 0 rfl rfl)
theorem dX3_readPlan_96 : decode cX3_readPlan 96 = .ok (.return_, 1) := dk_177 (dk_at dksX3_readPlan_4 3 rfl rfl)
abbrev cX3_readStep : ByteArray := prog_9_method_17_code
def yX3_readStep : MethodName := ⟨RX3, "readStep", "(I)V"⟩
def dkwX3_readStep_5 : List UInt8 := [42, 180, 0, 17, 27, 6, 96, 42, 182, 0, 156, 79, 177]
abbrev dktX3_readStep_5 : List UInt8 := dkwX3_readStep_5 ++ []
def dkwX3_readStep_4 : List UInt8 := [182, 0, 150, 167, 0, 7, 42, 182, 0, 156, 79, 42, 180, 0, 137, 2, 160, 0, 20, 28, 7, 160, 0, 15]
abbrev dktX3_readStep_4 : List UInt8 := dkwX3_readStep_4 ++ dktX3_readStep_5
def dkwX3_readStep_3 : List UInt8 := [28, 4, 160, 0, 4, 177, 42, 180, 0, 17, 27, 5, 96, 28, 6, 159, 0, 8, 28, 7, 160, 0, 10, 42]
abbrev dktX3_readStep_3 : List UInt8 := dkwX3_readStep_3 ++ dktX3_readStep_4
def dkwX3_readStep_2 : List UInt8 := [160, 0, 4, 177, 42, 180, 0, 17, 27, 4, 96, 42, 182, 0, 150, 79, 42, 180, 0, 137, 2, 160, 0, 8]
abbrev dktX3_readStep_2 : List UInt8 := dkwX3_readStep_2 ++ dktX3_readStep_3
def dkwX3_readStep_1 : List UInt8 := [7, 162, 0, 19, 42, 180, 0, 17, 27, 29, 96, 18, 170, 79, 132, 3, 1, 167, 255, 238, 28, 8]
abbrev dktX3_readStep_1 : List UInt8 := dkwX3_readStep_1 ++ dktX3_readStep_2
def dkwX3_readStep_0 : List UInt8 := [42, 182, 0, 167, 61, 42, 180, 0, 137, 2, 159, 0, 4, 177, 42, 180, 0, 17, 27, 28, 79, 4, 62, 29]
abbrev dktX3_readStep_0 : List UInt8 := dkwX3_readStep_0 ++ dktX3_readStep_1
theorem dksX3_readStep_0 : cX3_readStep.data.toList.drop 0 = dktX3_readStep_0 := by decide +kernel
theorem dksX3_readStep_1 : cX3_readStep.data.toList.drop 24 = dktX3_readStep_1 := dk_seg dksX3_readStep_0 24 rfl rfl
theorem dksX3_readStep_2 : cX3_readStep.data.toList.drop 46 = dktX3_readStep_2 := dk_seg dksX3_readStep_1 22 rfl rfl
theorem dksX3_readStep_3 : cX3_readStep.data.toList.drop 70 = dktX3_readStep_3 := dk_seg dksX3_readStep_2 24 rfl rfl
theorem dksX3_readStep_4 : cX3_readStep.data.toList.drop 94 = dktX3_readStep_4 := dk_seg dksX3_readStep_3 24 rfl rfl
theorem dksX3_readStep_5 : cX3_readStep.data.toList.drop 118 = dktX3_readStep_5 := dk_seg dksX3_readStep_4 24 rfl rfl
theorem dX3_readStep_0 : decode cX3_readStep 0 = .ok (.aload_n 0, 1) := dk_42 (dk_at dksX3_readStep_0 0 rfl rfl)
theorem dX3_readStep_1 : decode cX3_readStep 1 = .ok (.invokevirtual 167, 3) := dk_182 0 167 (dk_at dksX3_readStep_0 1 rfl rfl)
theorem dX3_readStep_4 : decode cX3_readStep 4 = .ok (.istore_n 2, 1) := dk_61 (dk_at dksX3_readStep_0 4 rfl rfl)
theorem dX3_readStep_5 : decode cX3_readStep 5 = .ok (.aload_n 0, 1) := dk_42 (dk_at dksX3_readStep_0 5 rfl rfl)
theorem dX3_readStep_6 : decode cX3_readStep 6 = .ok (.getfield 137, 3) := dk_180 0 137 (dk_at dksX3_readStep_0 6 rfl rfl)
theorem dX3_readStep_9 : decode cX3_readStep 9 = .ok (.iconst (-1), 1) := dk_2 (dk_at dksX3_readStep_0 9 rfl rfl)
theorem dX3_readStep_10 : decode cX3_readStep 10 = .ok (.if_icmp .eq 4, 3) := dk_159 0 4 (dk_at dksX3_readStep_0 10 rfl rfl)
theorem dX3_readStep_13 : decode cX3_readStep 13 = .ok (.return_, 1) := dk_177 (dk_at dksX3_readStep_0 13 rfl rfl)
theorem dX3_readStep_14 : decode cX3_readStep 14 = .ok (.aload_n 0, 1) := dk_42 (dk_at dksX3_readStep_0 14 rfl rfl)
theorem dX3_readStep_15 : decode cX3_readStep 15 = .ok (.getfield 17, 3) := dk_180 0 17 (dk_at dksX3_readStep_0 15 rfl rfl)
theorem dX3_readStep_18 : decode cX3_readStep 18 = .ok (.iload_n 1, 1) := dk_27 (dk_at dksX3_readStep_0 18 rfl rfl)
theorem dX3_readStep_19 : decode cX3_readStep 19 = .ok (.iload_n 2, 1) := dk_28 (dk_at dksX3_readStep_0 19 rfl rfl)
theorem dX3_readStep_20 : decode cX3_readStep 20 = .ok (.iastore, 1) := dk_79 (dk_at dksX3_readStep_0 20 rfl rfl)
theorem dX3_readStep_21 : decode cX3_readStep 21 = .ok (.iconst 1, 1) := dk_4 (dk_at dksX3_readStep_0 21 rfl rfl)
theorem dX3_readStep_22 : decode cX3_readStep 22 = .ok (.istore_n 3, 1) := dk_62 (dk_at dksX3_readStep_0 22 rfl rfl)
theorem dX3_readStep_23 : decode cX3_readStep 23 = .ok (.iload_n 3, 1) := dk_29 (dk_at dksX3_readStep_0 23 rfl rfl)
theorem dX3_readStep_24 : decode cX3_readStep 24 = .ok (.iconst 4, 1) := dk_7 (dk_at dksX3_readStep_1 0 rfl rfl)
theorem dX3_readStep_25 : decode cX3_readStep 25 = .ok (.if_icmp .ge 19, 3) := dk_162 0 19 (dk_at dksX3_readStep_1 1 rfl rfl)
theorem dX3_readStep_28 : decode cX3_readStep 28 = .ok (.aload_n 0, 1) := dk_42 (dk_at dksX3_readStep_1 4 rfl rfl)
theorem dX3_readStep_29 : decode cX3_readStep 29 = .ok (.getfield 17, 3) := dk_180 0 17 (dk_at dksX3_readStep_1 5 rfl rfl)
theorem dX3_readStep_32 : decode cX3_readStep 32 = .ok (.iload_n 1, 1) := dk_27 (dk_at dksX3_readStep_1 8 rfl rfl)
theorem dX3_readStep_33 : decode cX3_readStep 33 = .ok (.iload_n 3, 1) := dk_29 (dk_at dksX3_readStep_1 9 rfl rfl)
theorem dX3_readStep_34 : decode cX3_readStep 34 = .ok (.iadd, 1) := dk_96 (dk_at dksX3_readStep_1 10 rfl rfl)
theorem dX3_readStep_35 : decode cX3_readStep 35 = .ok (.ldc 170, 2) := dk_18 170 (dk_at dksX3_readStep_1 11 rfl rfl)
theorem dX3_readStep_37 : decode cX3_readStep 37 = .ok (.iastore, 1) := dk_79 (dk_at dksX3_readStep_1 13 rfl rfl)
theorem dX3_readStep_38 : decode cX3_readStep 38 = .ok (.iinc 3 1, 3) := dk_132 3 1 (dk_at dksX3_readStep_1 14 rfl rfl)
theorem dX3_readStep_41 : decode cX3_readStep 41 = .ok (.goto (-18), 3) := dk_167 255 238 (dk_at dksX3_readStep_1 17 rfl rfl)
theorem dX3_readStep_44 : decode cX3_readStep 44 = .ok (.iload_n 2, 1) := dk_28 (dk_at dksX3_readStep_1 20 rfl rfl)
theorem dX3_readStep_45 : decode cX3_readStep 45 = .ok (.iconst 5, 1) := dk_8 (dk_at dksX3_readStep_1 21 rfl rfl)
theorem dX3_readStep_46 : decode cX3_readStep 46 = .ok (.if_icmp .ne 4, 3) := dk_160 0 4 (dk_at dksX3_readStep_2 0 rfl rfl)
theorem dX3_readStep_49 : decode cX3_readStep 49 = .ok (.return_, 1) := dk_177 (dk_at dksX3_readStep_2 3 rfl rfl)
theorem dX3_readStep_50 : decode cX3_readStep 50 = .ok (.aload_n 0, 1) := dk_42 (dk_at dksX3_readStep_2 4 rfl rfl)
theorem dX3_readStep_51 : decode cX3_readStep 51 = .ok (.getfield 17, 3) := dk_180 0 17 (dk_at dksX3_readStep_2 5 rfl rfl)
theorem dX3_readStep_54 : decode cX3_readStep 54 = .ok (.iload_n 1, 1) := dk_27 (dk_at dksX3_readStep_2 8 rfl rfl)
theorem dX3_readStep_55 : decode cX3_readStep 55 = .ok (.iconst 1, 1) := dk_4 (dk_at dksX3_readStep_2 9 rfl rfl)
theorem dX3_readStep_56 : decode cX3_readStep 56 = .ok (.iadd, 1) := dk_96 (dk_at dksX3_readStep_2 10 rfl rfl)
theorem dX3_readStep_57 : decode cX3_readStep 57 = .ok (.aload_n 0, 1) := dk_42 (dk_at dksX3_readStep_2 11 rfl rfl)
theorem dX3_readStep_58 : decode cX3_readStep 58 = .ok (.invokevirtual 150, 3) := dk_182 0 150 (dk_at dksX3_readStep_2 12 rfl rfl)
theorem dX3_readStep_61 : decode cX3_readStep 61 = .ok (.iastore, 1) := dk_79 (dk_at dksX3_readStep_2 15 rfl rfl)
theorem dX3_readStep_62 : decode cX3_readStep 62 = .ok (.aload_n 0, 1) := dk_42 (dk_at dksX3_readStep_2 16 rfl rfl)
theorem dX3_readStep_63 : decode cX3_readStep 63 = .ok (.getfield 137, 3) := dk_180 0 137 (dk_at dksX3_readStep_2 17 rfl rfl)
theorem dX3_readStep_66 : decode cX3_readStep 66 = .ok (.iconst (-1), 1) := dk_2 (dk_at dksX3_readStep_2 20 rfl rfl)
theorem dX3_readStep_67 : decode cX3_readStep 67 = .ok (.if_icmp .ne 8, 3) := dk_160 0 8 (dk_at dksX3_readStep_2 21 rfl rfl)
theorem dX3_readStep_70 : decode cX3_readStep 70 = .ok (.iload_n 2, 1) := dk_28 (dk_at dksX3_readStep_3 0 rfl rfl)
theorem dX3_readStep_71 : decode cX3_readStep 71 = .ok (.iconst 1, 1) := dk_4 (dk_at dksX3_readStep_3 1 rfl rfl)
theorem dX3_readStep_72 : decode cX3_readStep 72 = .ok (.if_icmp .ne 4, 3) := dk_160 0 4 (dk_at dksX3_readStep_3 2 rfl rfl)
theorem dX3_readStep_75 : decode cX3_readStep 75 = .ok (.return_, 1) := dk_177 (dk_at dksX3_readStep_3 5 rfl rfl)
theorem dX3_readStep_76 : decode cX3_readStep 76 = .ok (.aload_n 0, 1) := dk_42 (dk_at dksX3_readStep_3 6 rfl rfl)
theorem dX3_readStep_77 : decode cX3_readStep 77 = .ok (.getfield 17, 3) := dk_180 0 17 (dk_at dksX3_readStep_3 7 rfl rfl)
theorem dX3_readStep_80 : decode cX3_readStep 80 = .ok (.iload_n 1, 1) := dk_27 (dk_at dksX3_readStep_3 10 rfl rfl)
theorem dX3_readStep_81 : decode cX3_readStep 81 = .ok (.iconst 2, 1) := dk_5 (dk_at dksX3_readStep_3 11 rfl rfl)
theorem dX3_readStep_82 : decode cX3_readStep 82 = .ok (.iadd, 1) := dk_96 (dk_at dksX3_readStep_3 12 rfl rfl)
theorem dX3_readStep_83 : decode cX3_readStep 83 = .ok (.iload_n 2, 1) := dk_28 (dk_at dksX3_readStep_3 13 rfl rfl)
theorem dX3_readStep_84 : decode cX3_readStep 84 = .ok (.iconst 3, 1) := dk_6 (dk_at dksX3_readStep_3 14 rfl rfl)
theorem dX3_readStep_85 : decode cX3_readStep 85 = .ok (.if_icmp .eq 8, 3) := dk_159 0 8 (dk_at dksX3_readStep_3 15 rfl rfl)
theorem dX3_readStep_88 : decode cX3_readStep 88 = .ok (.iload_n 2, 1) := dk_28 (dk_at dksX3_readStep_3 18 rfl rfl)
theorem dX3_readStep_89 : decode cX3_readStep 89 = .ok (.iconst 4, 1) := dk_7 (dk_at dksX3_readStep_3 19 rfl rfl)
theorem dX3_readStep_90 : decode cX3_readStep 90 = .ok (.if_icmp .ne 10, 3) := dk_160 0 10 (dk_at dksX3_readStep_3 20 rfl rfl)
theorem dX3_readStep_93 : decode cX3_readStep 93 = .ok (.aload_n 0, 1) := dk_42 (dk_at dksX3_readStep_3 23 rfl rfl)
theorem dX3_readStep_94 : decode cX3_readStep 94 = .ok (.invokevirtual 150, 3) := dk_182 0 150 (dk_at dksX3_readStep_4 0 rfl rfl)
theorem dX3_readStep_97 : decode cX3_readStep 97 = .ok (.goto 7, 3) := dk_167 0 7 (dk_at dksX3_readStep_4 3 rfl rfl)
theorem dX3_readStep_100 : decode cX3_readStep 100 = .ok (.aload_n 0, 1) := dk_42 (dk_at dksX3_readStep_4 6 rfl rfl)
theorem dX3_readStep_101 : decode cX3_readStep 101 = .ok (.invokevirtual 156, 3) := dk_182 0 156 (dk_at dksX3_readStep_4 7 rfl rfl)
theorem dX3_readStep_104 : decode cX3_readStep 104 = .ok (.iastore, 1) := dk_79 (dk_at dksX3_readStep_4 10 rfl rfl)
theorem dX3_readStep_105 : decode cX3_readStep 105 = .ok (.aload_n 0, 1) := dk_42 (dk_at dksX3_readStep_4 11 rfl rfl)
theorem dX3_readStep_106 : decode cX3_readStep 106 = .ok (.getfield 137, 3) := dk_180 0 137 (dk_at dksX3_readStep_4 12 rfl rfl)
theorem dX3_readStep_109 : decode cX3_readStep 109 = .ok (.iconst (-1), 1) := dk_2 (dk_at dksX3_readStep_4 15 rfl rfl)
theorem dX3_readStep_110 : decode cX3_readStep 110 = .ok (.if_icmp .ne 20, 3) := dk_160 0 20 (dk_at dksX3_readStep_4 16 rfl rfl)
theorem dX3_readStep_113 : decode cX3_readStep 113 = .ok (.iload_n 2, 1) := dk_28 (dk_at dksX3_readStep_4 19 rfl rfl)
theorem dX3_readStep_114 : decode cX3_readStep 114 = .ok (.iconst 4, 1) := dk_7 (dk_at dksX3_readStep_4 20 rfl rfl)
theorem dX3_readStep_115 : decode cX3_readStep 115 = .ok (.if_icmp .ne 15, 3) := dk_160 0 15 (dk_at dksX3_readStep_4 21 rfl rfl)
theorem dX3_readStep_118 : decode cX3_readStep 118 = .ok (.aload_n 0, 1) := dk_42 (dk_at dksX3_readStep_5 0 rfl rfl)
theorem dX3_readStep_119 : decode cX3_readStep 119 = .ok (.getfield 17, 3) := dk_180 0 17 (dk_at dksX3_readStep_5 1 rfl rfl)
theorem dX3_readStep_122 : decode cX3_readStep 122 = .ok (.iload_n 1, 1) := dk_27 (dk_at dksX3_readStep_5 4 rfl rfl)
theorem dX3_readStep_123 : decode cX3_readStep 123 = .ok (.iconst 3, 1) := dk_6 (dk_at dksX3_readStep_5 5 rfl rfl)
theorem dX3_readStep_124 : decode cX3_readStep 124 = .ok (.iadd, 1) := dk_96 (dk_at dksX3_readStep_5 6 rfl rfl)
theorem dX3_readStep_125 : decode cX3_readStep 125 = .ok (.aload_n 0, 1) := dk_42 (dk_at dksX3_readStep_5 7 rfl rfl)
theorem dX3_readStep_126 : decode cX3_readStep 126 = .ok (.invokevirtual 156, 3) := dk_182 0 156 (dk_at dksX3_readStep_5 8 rfl rfl)
theorem dX3_readStep_129 : decode cX3_readStep 129 = .ok (.iastore, 1) := dk_79 (dk_at dksX3_readStep_5 11 rfl rfl)
theorem dX3_readStep_130 : decode cX3_readStep 130 = .ok (.return_, 1) := dk_177 (dk_at dksX3_readStep_5 12 rfl rfl)
abbrev cX3_word : ByteArray := prog_9_method_16_code
def yX3_word : MethodName := ⟨RX3, "word", "()I"⟩
def dkwX3_word_4 : List UInt8 := [182, 0, 147, 2, 172]
abbrev dktX3_word_4 : List UInt8 := dkwX3_word_4 ++ []
def dkwX3_word_3 : List UInt8 := [180, 0, 130, 4, 96, 181, 0, 130, 132, 3, 1, 167, 255, 206, 28, 172, 132, 2, 1, 167, 255, 175, 42]
abbrev dktX3_word_3 : List UInt8 := dkwX3_word_3 ++ dktX3_word_4
def dkwX3_word_2 : List UInt8 := [182, 0, 133, 18, 159, 6, 28, 104, 29, 96, 182, 0, 161, 159, 0, 9, 42, 182, 0, 147, 2, 172, 42, 89]
abbrev dktX3_word_2 : List UInt8 := dkwX3_word_2 ++ dktX3_word_3
def dkwX3_word_1 : List UInt8 := [159, 0, 6, 167, 0, 60, 3, 62, 29, 28, 8, 160, 0, 7, 7, 167, 0, 4, 6, 162, 0, 42, 42]
abbrev dktX3_word_1 : List UInt8 := dkwX3_word_1 ++ dktX3_word_2
def dkwX3_word_0 : List UInt8 := [42, 182, 0, 140, 60, 3, 61, 28, 16, 6, 162, 0, 81, 18, 159, 6, 28, 104, 182, 0, 161, 27]
abbrev dktX3_word_0 : List UInt8 := dkwX3_word_0 ++ dktX3_word_1
theorem dksX3_word_0 : cX3_word.data.toList.drop 0 = dktX3_word_0 := by decide +kernel
theorem dksX3_word_1 : cX3_word.data.toList.drop 22 = dktX3_word_1 := dk_seg dksX3_word_0 22 rfl rfl
theorem dksX3_word_2 : cX3_word.data.toList.drop 45 = dktX3_word_2 := dk_seg dksX3_word_1 23 rfl rfl
theorem dksX3_word_3 : cX3_word.data.toList.drop 69 = dktX3_word_3 := dk_seg dksX3_word_2 24 rfl rfl
theorem dksX3_word_4 : cX3_word.data.toList.drop 92 = dktX3_word_4 := dk_seg dksX3_word_3 23 rfl rfl
theorem dX3_word_0 : decode cX3_word 0 = .ok (.aload_n 0, 1) := dk_42 (dk_at dksX3_word_0 0 rfl rfl)
theorem dX3_word_1 : decode cX3_word 1 = .ok (.invokevirtual 140, 3) := dk_182 0 140 (dk_at dksX3_word_0 1 rfl rfl)
theorem dX3_word_4 : decode cX3_word 4 = .ok (.istore_n 1, 1) := dk_60 (dk_at dksX3_word_0 4 rfl rfl)
theorem dX3_word_5 : decode cX3_word 5 = .ok (.iconst 0, 1) := dk_3 (dk_at dksX3_word_0 5 rfl rfl)
theorem dX3_word_6 : decode cX3_word 6 = .ok (.istore_n 2, 1) := dk_61 (dk_at dksX3_word_0 6 rfl rfl)
theorem dX3_word_7 : decode cX3_word 7 = .ok (.iload_n 2, 1) := dk_28 (dk_at dksX3_word_0 7 rfl rfl)
theorem dX3_word_8 : decode cX3_word 8 = .ok (.bipush 6, 2) := dk_16 6 (dk_at dksX3_word_0 8 rfl rfl)
theorem dX3_word_10 : decode cX3_word 10 = .ok (.if_icmp .ge 81, 3) := dk_162 0 81 (dk_at dksX3_word_0 10 rfl rfl)
theorem dX3_word_13 : decode cX3_word 13 = .ok (.ldc 159, 2) := dk_18 159 (dk_at dksX3_word_0 13 rfl rfl)
theorem dX3_word_15 : decode cX3_word 15 = .ok (.iconst 3, 1) := dk_6 (dk_at dksX3_word_0 15 rfl rfl)
theorem dX3_word_16 : decode cX3_word 16 = .ok (.iload_n 2, 1) := dk_28 (dk_at dksX3_word_0 16 rfl rfl)
theorem dX3_word_17 : decode cX3_word 17 = .ok (.imul, 1) := dk_104 (dk_at dksX3_word_0 17 rfl rfl)
theorem dX3_word_18 : decode cX3_word 18 = .ok (.invokevirtual 161, 3) := dk_182 0 161 (dk_at dksX3_word_0 18 rfl rfl)
theorem dX3_word_21 : decode cX3_word 21 = .ok (.iload_n 1, 1) := dk_27 (dk_at dksX3_word_0 21 rfl rfl)
theorem dX3_word_22 : decode cX3_word 22 = .ok (.if_icmp .eq 6, 3) := dk_159 0 6 (dk_at dksX3_word_1 0 rfl rfl)
theorem dX3_word_25 : decode cX3_word 25 = .ok (.goto 60, 3) := dk_167 0 60 (dk_at dksX3_word_1 3 rfl rfl)
theorem dX3_word_28 : decode cX3_word 28 = .ok (.iconst 0, 1) := dk_3 (dk_at dksX3_word_1 6 rfl rfl)
theorem dX3_word_29 : decode cX3_word 29 = .ok (.istore_n 3, 1) := dk_62 (dk_at dksX3_word_1 7 rfl rfl)
theorem dX3_word_30 : decode cX3_word 30 = .ok (.iload_n 3, 1) := dk_29 (dk_at dksX3_word_1 8 rfl rfl)
theorem dX3_word_31 : decode cX3_word 31 = .ok (.iload_n 2, 1) := dk_28 (dk_at dksX3_word_1 9 rfl rfl)
theorem dX3_word_32 : decode cX3_word 32 = .ok (.iconst 5, 1) := dk_8 (dk_at dksX3_word_1 10 rfl rfl)
theorem dX3_word_33 : decode cX3_word 33 = .ok (.if_icmp .ne 7, 3) := dk_160 0 7 (dk_at dksX3_word_1 11 rfl rfl)
theorem dX3_word_36 : decode cX3_word 36 = .ok (.iconst 4, 1) := dk_7 (dk_at dksX3_word_1 14 rfl rfl)
theorem dX3_word_37 : decode cX3_word 37 = .ok (.goto 4, 3) := dk_167 0 4 (dk_at dksX3_word_1 15 rfl rfl)
theorem dX3_word_40 : decode cX3_word 40 = .ok (.iconst 3, 1) := dk_6 (dk_at dksX3_word_1 18 rfl rfl)
theorem dX3_word_41 : decode cX3_word 41 = .ok (.if_icmp .ge 42, 3) := dk_162 0 42 (dk_at dksX3_word_1 19 rfl rfl)
theorem dX3_word_44 : decode cX3_word 44 = .ok (.aload_n 0, 1) := dk_42 (dk_at dksX3_word_1 22 rfl rfl)
theorem dX3_word_45 : decode cX3_word 45 = .ok (.invokevirtual 133, 3) := dk_182 0 133 (dk_at dksX3_word_2 0 rfl rfl)
theorem dX3_word_48 : decode cX3_word 48 = .ok (.ldc 159, 2) := dk_18 159 (dk_at dksX3_word_2 3 rfl rfl)
theorem dX3_word_50 : decode cX3_word 50 = .ok (.iconst 3, 1) := dk_6 (dk_at dksX3_word_2 5 rfl rfl)
theorem dX3_word_51 : decode cX3_word 51 = .ok (.iload_n 2, 1) := dk_28 (dk_at dksX3_word_2 6 rfl rfl)
theorem dX3_word_52 : decode cX3_word 52 = .ok (.imul, 1) := dk_104 (dk_at dksX3_word_2 7 rfl rfl)
theorem dX3_word_53 : decode cX3_word 53 = .ok (.iload_n 3, 1) := dk_29 (dk_at dksX3_word_2 8 rfl rfl)
theorem dX3_word_54 : decode cX3_word 54 = .ok (.iadd, 1) := dk_96 (dk_at dksX3_word_2 9 rfl rfl)
theorem dX3_word_55 : decode cX3_word 55 = .ok (.invokevirtual 161, 3) := dk_182 0 161 (dk_at dksX3_word_2 10 rfl rfl)
theorem dX3_word_58 : decode cX3_word 58 = .ok (.if_icmp .eq 9, 3) := dk_159 0 9 (dk_at dksX3_word_2 13 rfl rfl)
theorem dX3_word_61 : decode cX3_word 61 = .ok (.aload_n 0, 1) := dk_42 (dk_at dksX3_word_2 16 rfl rfl)
theorem dX3_word_62 : decode cX3_word 62 = .ok (.invokevirtual 147, 3) := dk_182 0 147 (dk_at dksX3_word_2 17 rfl rfl)
theorem dX3_word_65 : decode cX3_word 65 = .ok (.iconst (-1), 1) := dk_2 (dk_at dksX3_word_2 20 rfl rfl)
theorem dX3_word_66 : decode cX3_word 66 = .ok (.ireturn, 1) := dk_172 (dk_at dksX3_word_2 21 rfl rfl)
theorem dX3_word_67 : decode cX3_word 67 = .ok (.aload_n 0, 1) := dk_42 (dk_at dksX3_word_2 22 rfl rfl)
theorem dX3_word_68 : decode cX3_word 68 = .ok (.dup, 1) := dk_89 (dk_at dksX3_word_2 23 rfl rfl)
theorem dX3_word_69 : decode cX3_word 69 = .ok (.getfield 130, 3) := dk_180 0 130 (dk_at dksX3_word_3 0 rfl rfl)
theorem dX3_word_72 : decode cX3_word 72 = .ok (.iconst 1, 1) := dk_4 (dk_at dksX3_word_3 3 rfl rfl)
theorem dX3_word_73 : decode cX3_word 73 = .ok (.iadd, 1) := dk_96 (dk_at dksX3_word_3 4 rfl rfl)
theorem dX3_word_74 : decode cX3_word 74 = .ok (.putfield 130, 3) := dk_181 0 130 (dk_at dksX3_word_3 5 rfl rfl)
theorem dX3_word_77 : decode cX3_word 77 = .ok (.iinc 3 1, 3) := dk_132 3 1 (dk_at dksX3_word_3 8 rfl rfl)
theorem dX3_word_80 : decode cX3_word 80 = .ok (.goto (-50), 3) := dk_167 255 206 (dk_at dksX3_word_3 11 rfl rfl)
theorem dX3_word_83 : decode cX3_word 83 = .ok (.iload_n 2, 1) := dk_28 (dk_at dksX3_word_3 14 rfl rfl)
theorem dX3_word_84 : decode cX3_word 84 = .ok (.ireturn, 1) := dk_172 (dk_at dksX3_word_3 15 rfl rfl)
theorem dX3_word_85 : decode cX3_word 85 = .ok (.iinc 2 1, 3) := dk_132 2 1 (dk_at dksX3_word_3 16 rfl rfl)
theorem dX3_word_88 : decode cX3_word 88 = .ok (.goto (-81), 3) := dk_167 255 175 (dk_at dksX3_word_3 19 rfl rfl)
theorem dX3_word_91 : decode cX3_word 91 = .ok (.aload_n 0, 1) := dk_42 (dk_at dksX3_word_3 22 rfl rfl)
theorem dX3_word_92 : decode cX3_word 92 = .ok (.invokevirtual 147, 3) := dk_182 0 147 (dk_at dksX3_word_4 0 rfl rfl)
theorem dX3_word_95 : decode cX3_word 95 = .ok (.iconst (-1), 1) := dk_2 (dk_at dksX3_word_4 3 rfl rfl)
theorem dX3_word_96 : decode cX3_word 96 = .ok (.ireturn, 1) := dk_172 (dk_at dksX3_word_4 4 rfl rfl)
abbrev cX3_text : ByteArray := prog_9_method_46_code
def yX3_text : MethodName := ⟨RX3, "text", "(I)I"⟩
def dkwX3_text_7 : List UInt8 := [46, 28, 182, 1, 42, 62, 132, 4, 1, 167, 255, 217, 42, 29, 2, 2, 182, 1, 46, 172]
abbrev dktX3_text_7 : List UInt8 := dkwX3_text_7 ++ []
def dkwX3_text_6 : List UInt8 := [162, 0, 36, 42, 29, 42, 180, 0, 13, 5, 21, 4, 104, 46, 42, 180, 0, 13, 5, 21, 4, 104, 4, 96]
abbrev dktX3_text_6 : List UInt8 := dkwX3_text_6 ++ dktX3_text_7
def dkwX3_text_5 : List UInt8 := [181, 0, 119, 42, 182, 1, 39, 61, 42, 4, 28, 182, 0, 193, 62, 3, 54, 4, 21, 4, 42, 180, 0, 153]
abbrev dktX3_text_5 : List UInt8 := dkwX3_text_5 ++ dktX3_text_6
def dkwX3_text_4 : List UInt8 := [42, 180, 1, 30, 4, 100, 172, 42, 182, 1, 33, 154, 0, 9, 42, 7, 182, 1, 36, 172, 42, 3]
abbrev dktX3_text_4 : List UInt8 := dkwX3_text_4 ++ dktX3_text_5
def dkwX3_text_3 : List UInt8 := [180, 0, 20, 42, 180, 1, 30, 42, 180, 0, 20, 7, 46, 79, 42, 89, 180, 1, 30, 4, 96, 181, 1, 30]
abbrev dktX3_text_3 : List UInt8 := dkwX3_text_3 ++ dktX3_text_4
def dkwX3_text_2 : List UInt8 := [180, 1, 30, 104, 28, 96, 42, 180, 0, 17, 17, 1, 0, 28, 96, 46, 79, 132, 2, 1, 167, 255, 223, 42]
abbrev dktX3_text_2 : List UInt8 := dkwX3_text_2 ++ dktX3_text_3
def dkwX3_text_1 : List UInt8 := [2, 172, 42, 3, 181, 0, 119, 3, 61, 28, 16, 64, 162, 0, 33, 42, 180, 0, 17, 16, 64, 42]
abbrev dktX3_text_1 : List UInt8 := dkwX3_text_1 ++ dktX3_text_2
def dkwX3_text_0 : List UInt8 := [42, 27, 182, 1, 28, 2, 159, 0, 5, 2, 172, 27, 4, 160, 0, 88, 42, 180, 1, 30, 7, 160, 0, 5]
abbrev dktX3_text_0 : List UInt8 := dkwX3_text_0 ++ dktX3_text_1
theorem dksX3_text_0 : cX3_text.data.toList.drop 0 = dktX3_text_0 := by decide +kernel
theorem dksX3_text_1 : cX3_text.data.toList.drop 24 = dktX3_text_1 := dk_seg dksX3_text_0 24 rfl rfl
theorem dksX3_text_2 : cX3_text.data.toList.drop 46 = dktX3_text_2 := dk_seg dksX3_text_1 22 rfl rfl
theorem dksX3_text_3 : cX3_text.data.toList.drop 70 = dktX3_text_3 := dk_seg dksX3_text_2 24 rfl rfl
theorem dksX3_text_4 : cX3_text.data.toList.drop 94 = dktX3_text_4 := dk_seg dksX3_text_3 24 rfl rfl
theorem dksX3_text_5 : cX3_text.data.toList.drop 116 = dktX3_text_5 := dk_seg dksX3_text_4 22 rfl rfl
theorem dksX3_text_6 : cX3_text.data.toList.drop 140 = dktX3_text_6 := dk_seg dksX3_text_5 24 rfl rfl
theorem dksX3_text_7 : cX3_text.data.toList.drop 164 = dktX3_text_7 := dk_seg dksX3_text_6 24 rfl rfl
theorem dX3_text_0 : decode cX3_text 0 = .ok (.aload_n 0, 1) := dk_42 (dk_at dksX3_text_0 0 rfl rfl)
theorem dX3_text_1 : decode cX3_text 1 = .ok (.iload_n 1, 1) := dk_27 (dk_at dksX3_text_0 1 rfl rfl)
theorem dX3_text_2 : decode cX3_text 2 = .ok (.invokevirtual 284, 3) := dk_182 1 28 (dk_at dksX3_text_0 2 rfl rfl)
theorem dX3_text_5 : decode cX3_text 5 = .ok (.iconst (-1), 1) := dk_2 (dk_at dksX3_text_0 5 rfl rfl)
theorem dX3_text_6 : decode cX3_text 6 = .ok (.if_icmp .eq 5, 3) := dk_159 0 5 (dk_at dksX3_text_0 6 rfl rfl)
theorem dX3_text_9 : decode cX3_text 9 = .ok (.iconst (-1), 1) := dk_2 (dk_at dksX3_text_0 9 rfl rfl)
theorem dX3_text_10 : decode cX3_text 10 = .ok (.ireturn, 1) := dk_172 (dk_at dksX3_text_0 10 rfl rfl)
theorem dX3_text_11 : decode cX3_text 11 = .ok (.iload_n 1, 1) := dk_27 (dk_at dksX3_text_0 11 rfl rfl)
theorem dX3_text_12 : decode cX3_text 12 = .ok (.iconst 1, 1) := dk_4 (dk_at dksX3_text_0 12 rfl rfl)
theorem dX3_text_13 : decode cX3_text 13 = .ok (.if_icmp .ne 88, 3) := dk_160 0 88 (dk_at dksX3_text_0 13 rfl rfl)
theorem dX3_text_16 : decode cX3_text 16 = .ok (.aload_n 0, 1) := dk_42 (dk_at dksX3_text_0 16 rfl rfl)
theorem dX3_text_17 : decode cX3_text 17 = .ok (.getfield 286, 3) := dk_180 1 30 (dk_at dksX3_text_0 17 rfl rfl)
theorem dX3_text_20 : decode cX3_text 20 = .ok (.iconst 4, 1) := dk_7 (dk_at dksX3_text_0 20 rfl rfl)
theorem dX3_text_21 : decode cX3_text 21 = .ok (.if_icmp .ne 5, 3) := dk_160 0 5 (dk_at dksX3_text_0 21 rfl rfl)
theorem dX3_text_24 : decode cX3_text 24 = .ok (.iconst (-1), 1) := dk_2 (dk_at dksX3_text_1 0 rfl rfl)
theorem dX3_text_25 : decode cX3_text 25 = .ok (.ireturn, 1) := dk_172 (dk_at dksX3_text_1 1 rfl rfl)
theorem dX3_text_26 : decode cX3_text 26 = .ok (.aload_n 0, 1) := dk_42 (dk_at dksX3_text_1 2 rfl rfl)
theorem dX3_text_27 : decode cX3_text 27 = .ok (.iconst 0, 1) := dk_3 (dk_at dksX3_text_1 3 rfl rfl)
theorem dX3_text_28 : decode cX3_text 28 = .ok (.putfield 119, 3) := dk_181 0 119 (dk_at dksX3_text_1 4 rfl rfl)
theorem dX3_text_31 : decode cX3_text 31 = .ok (.iconst 0, 1) := dk_3 (dk_at dksX3_text_1 7 rfl rfl)
theorem dX3_text_32 : decode cX3_text 32 = .ok (.istore_n 2, 1) := dk_61 (dk_at dksX3_text_1 8 rfl rfl)
theorem dX3_text_33 : decode cX3_text 33 = .ok (.iload_n 2, 1) := dk_28 (dk_at dksX3_text_1 9 rfl rfl)
theorem dX3_text_34 : decode cX3_text 34 = .ok (.bipush 64, 2) := dk_16 64 (dk_at dksX3_text_1 10 rfl rfl)
theorem dX3_text_36 : decode cX3_text 36 = .ok (.if_icmp .ge 33, 3) := dk_162 0 33 (dk_at dksX3_text_1 12 rfl rfl)
theorem dX3_text_39 : decode cX3_text 39 = .ok (.aload_n 0, 1) := dk_42 (dk_at dksX3_text_1 15 rfl rfl)
theorem dX3_text_40 : decode cX3_text 40 = .ok (.getfield 17, 3) := dk_180 0 17 (dk_at dksX3_text_1 16 rfl rfl)
theorem dX3_text_43 : decode cX3_text 43 = .ok (.bipush 64, 2) := dk_16 64 (dk_at dksX3_text_1 19 rfl rfl)
theorem dX3_text_45 : decode cX3_text 45 = .ok (.aload_n 0, 1) := dk_42 (dk_at dksX3_text_1 21 rfl rfl)
theorem dX3_text_46 : decode cX3_text 46 = .ok (.getfield 286, 3) := dk_180 1 30 (dk_at dksX3_text_2 0 rfl rfl)
theorem dX3_text_49 : decode cX3_text 49 = .ok (.imul, 1) := dk_104 (dk_at dksX3_text_2 3 rfl rfl)
theorem dX3_text_50 : decode cX3_text 50 = .ok (.iload_n 2, 1) := dk_28 (dk_at dksX3_text_2 4 rfl rfl)
theorem dX3_text_51 : decode cX3_text 51 = .ok (.iadd, 1) := dk_96 (dk_at dksX3_text_2 5 rfl rfl)
theorem dX3_text_52 : decode cX3_text 52 = .ok (.aload_n 0, 1) := dk_42 (dk_at dksX3_text_2 6 rfl rfl)
theorem dX3_text_53 : decode cX3_text 53 = .ok (.getfield 17, 3) := dk_180 0 17 (dk_at dksX3_text_2 7 rfl rfl)
theorem dX3_text_56 : decode cX3_text 56 = .ok (.sipush 256, 3) := dk_17 1 0 (dk_at dksX3_text_2 10 rfl rfl)
theorem dX3_text_59 : decode cX3_text 59 = .ok (.iload_n 2, 1) := dk_28 (dk_at dksX3_text_2 13 rfl rfl)
theorem dX3_text_60 : decode cX3_text 60 = .ok (.iadd, 1) := dk_96 (dk_at dksX3_text_2 14 rfl rfl)
theorem dX3_text_61 : decode cX3_text 61 = .ok (.iaload, 1) := dk_46 (dk_at dksX3_text_2 15 rfl rfl)
theorem dX3_text_62 : decode cX3_text 62 = .ok (.iastore, 1) := dk_79 (dk_at dksX3_text_2 16 rfl rfl)
theorem dX3_text_63 : decode cX3_text 63 = .ok (.iinc 2 1, 3) := dk_132 2 1 (dk_at dksX3_text_2 17 rfl rfl)
theorem dX3_text_66 : decode cX3_text 66 = .ok (.goto (-33), 3) := dk_167 255 223 (dk_at dksX3_text_2 20 rfl rfl)
theorem dX3_text_69 : decode cX3_text 69 = .ok (.aload_n 0, 1) := dk_42 (dk_at dksX3_text_2 23 rfl rfl)
theorem dX3_text_70 : decode cX3_text 70 = .ok (.getfield 20, 3) := dk_180 0 20 (dk_at dksX3_text_3 0 rfl rfl)
theorem dX3_text_73 : decode cX3_text 73 = .ok (.aload_n 0, 1) := dk_42 (dk_at dksX3_text_3 3 rfl rfl)
theorem dX3_text_74 : decode cX3_text 74 = .ok (.getfield 286, 3) := dk_180 1 30 (dk_at dksX3_text_3 4 rfl rfl)
theorem dX3_text_77 : decode cX3_text 77 = .ok (.aload_n 0, 1) := dk_42 (dk_at dksX3_text_3 7 rfl rfl)
theorem dX3_text_78 : decode cX3_text 78 = .ok (.getfield 20, 3) := dk_180 0 20 (dk_at dksX3_text_3 8 rfl rfl)
theorem dX3_text_81 : decode cX3_text 81 = .ok (.iconst 4, 1) := dk_7 (dk_at dksX3_text_3 11 rfl rfl)
theorem dX3_text_82 : decode cX3_text 82 = .ok (.iaload, 1) := dk_46 (dk_at dksX3_text_3 12 rfl rfl)
theorem dX3_text_83 : decode cX3_text 83 = .ok (.iastore, 1) := dk_79 (dk_at dksX3_text_3 13 rfl rfl)
theorem dX3_text_84 : decode cX3_text 84 = .ok (.aload_n 0, 1) := dk_42 (dk_at dksX3_text_3 14 rfl rfl)
theorem dX3_text_85 : decode cX3_text 85 = .ok (.dup, 1) := dk_89 (dk_at dksX3_text_3 15 rfl rfl)
theorem dX3_text_86 : decode cX3_text 86 = .ok (.getfield 286, 3) := dk_180 1 30 (dk_at dksX3_text_3 16 rfl rfl)
theorem dX3_text_89 : decode cX3_text 89 = .ok (.iconst 1, 1) := dk_4 (dk_at dksX3_text_3 19 rfl rfl)
theorem dX3_text_90 : decode cX3_text 90 = .ok (.iadd, 1) := dk_96 (dk_at dksX3_text_3 20 rfl rfl)
theorem dX3_text_91 : decode cX3_text 91 = .ok (.putfield 286, 3) := dk_181 1 30 (dk_at dksX3_text_3 21 rfl rfl)
theorem dX3_text_94 : decode cX3_text 94 = .ok (.aload_n 0, 1) := dk_42 (dk_at dksX3_text_4 0 rfl rfl)
theorem dX3_text_95 : decode cX3_text 95 = .ok (.getfield 286, 3) := dk_180 1 30 (dk_at dksX3_text_4 1 rfl rfl)
theorem dX3_text_98 : decode cX3_text 98 = .ok (.iconst 1, 1) := dk_4 (dk_at dksX3_text_4 4 rfl rfl)
theorem dX3_text_99 : decode cX3_text 99 = .ok (.isub, 1) := dk_100 (dk_at dksX3_text_4 5 rfl rfl)
theorem dX3_text_100 : decode cX3_text 100 = .ok (.ireturn, 1) := dk_172 (dk_at dksX3_text_4 6 rfl rfl)
theorem dX3_text_101 : decode cX3_text 101 = .ok (.aload_n 0, 1) := dk_42 (dk_at dksX3_text_4 7 rfl rfl)
theorem dX3_text_102 : decode cX3_text 102 = .ok (.invokevirtual 289, 3) := dk_182 1 33 (dk_at dksX3_text_4 8 rfl rfl)
theorem dX3_text_105 : decode cX3_text 105 = .ok (.ifCond .ne 9, 3) := dk_154 0 9 (dk_at dksX3_text_4 11 rfl rfl)
theorem dX3_text_108 : decode cX3_text 108 = .ok (.aload_n 0, 1) := dk_42 (dk_at dksX3_text_4 14 rfl rfl)
theorem dX3_text_109 : decode cX3_text 109 = .ok (.iconst 4, 1) := dk_7 (dk_at dksX3_text_4 15 rfl rfl)
theorem dX3_text_110 : decode cX3_text 110 = .ok (.invokevirtual 292, 3) := dk_182 1 36 (dk_at dksX3_text_4 16 rfl rfl)
theorem dX3_text_113 : decode cX3_text 113 = .ok (.ireturn, 1) := dk_172 (dk_at dksX3_text_4 19 rfl rfl)
theorem dX3_text_114 : decode cX3_text 114 = .ok (.aload_n 0, 1) := dk_42 (dk_at dksX3_text_4 20 rfl rfl)
theorem dX3_text_115 : decode cX3_text 115 = .ok (.iconst 0, 1) := dk_3 (dk_at dksX3_text_4 21 rfl rfl)
theorem dX3_text_116 : decode cX3_text 116 = .ok (.putfield 119, 3) := dk_181 0 119 (dk_at dksX3_text_5 0 rfl rfl)
theorem dX3_text_119 : decode cX3_text 119 = .ok (.aload_n 0, 1) := dk_42 (dk_at dksX3_text_5 3 rfl rfl)
theorem dX3_text_120 : decode cX3_text 120 = .ok (.invokevirtual 295, 3) := dk_182 1 39 (dk_at dksX3_text_5 4 rfl rfl)
theorem dX3_text_123 : decode cX3_text 123 = .ok (.istore_n 2, 1) := dk_61 (dk_at dksX3_text_5 7 rfl rfl)
theorem dX3_text_124 : decode cX3_text 124 = .ok (.aload_n 0, 1) := dk_42 (dk_at dksX3_text_5 8 rfl rfl)
theorem dX3_text_125 : decode cX3_text 125 = .ok (.iconst 1, 1) := dk_4 (dk_at dksX3_text_5 9 rfl rfl)
theorem dX3_text_126 : decode cX3_text 126 = .ok (.iload_n 2, 1) := dk_28 (dk_at dksX3_text_5 10 rfl rfl)
theorem dX3_text_127 : decode cX3_text 127 = .ok (.invokevirtual 193, 3) := dk_182 0 193 (dk_at dksX3_text_5 11 rfl rfl)
theorem dX3_text_130 : decode cX3_text 130 = .ok (.istore_n 3, 1) := dk_62 (dk_at dksX3_text_5 14 rfl rfl)
theorem dX3_text_131 : decode cX3_text 131 = .ok (.iconst 0, 1) := dk_3 (dk_at dksX3_text_5 15 rfl rfl)
theorem dX3_text_132 : decode cX3_text 132 = .ok (.istore 4, 2) := dk_54 4 (dk_at dksX3_text_5 16 rfl rfl)
theorem dX3_text_134 : decode cX3_text 134 = .ok (.iload 4, 2) := dk_21 4 (dk_at dksX3_text_5 18 rfl rfl)
theorem dX3_text_136 : decode cX3_text 136 = .ok (.aload_n 0, 1) := dk_42 (dk_at dksX3_text_5 20 rfl rfl)
theorem dX3_text_137 : decode cX3_text 137 = .ok (.getfield 153, 3) := dk_180 0 153 (dk_at dksX3_text_5 21 rfl rfl)
theorem dX3_text_140 : decode cX3_text 140 = .ok (.if_icmp .ge 36, 3) := dk_162 0 36 (dk_at dksX3_text_6 0 rfl rfl)
theorem dX3_text_143 : decode cX3_text 143 = .ok (.aload_n 0, 1) := dk_42 (dk_at dksX3_text_6 3 rfl rfl)
theorem dX3_text_144 : decode cX3_text 144 = .ok (.iload_n 3, 1) := dk_29 (dk_at dksX3_text_6 4 rfl rfl)
theorem dX3_text_145 : decode cX3_text 145 = .ok (.aload_n 0, 1) := dk_42 (dk_at dksX3_text_6 5 rfl rfl)
theorem dX3_text_146 : decode cX3_text 146 = .ok (.getfield 13, 3) := dk_180 0 13 (dk_at dksX3_text_6 6 rfl rfl)
theorem dX3_text_149 : decode cX3_text 149 = .ok (.iconst 2, 1) := dk_5 (dk_at dksX3_text_6 9 rfl rfl)
theorem dX3_text_150 : decode cX3_text 150 = .ok (.iload 4, 2) := dk_21 4 (dk_at dksX3_text_6 10 rfl rfl)
theorem dX3_text_152 : decode cX3_text 152 = .ok (.imul, 1) := dk_104 (dk_at dksX3_text_6 12 rfl rfl)
theorem dX3_text_153 : decode cX3_text 153 = .ok (.iaload, 1) := dk_46 (dk_at dksX3_text_6 13 rfl rfl)
theorem dX3_text_154 : decode cX3_text 154 = .ok (.aload_n 0, 1) := dk_42 (dk_at dksX3_text_6 14 rfl rfl)
theorem dX3_text_155 : decode cX3_text 155 = .ok (.getfield 13, 3) := dk_180 0 13 (dk_at dksX3_text_6 15 rfl rfl)
theorem dX3_text_158 : decode cX3_text 158 = .ok (.iconst 2, 1) := dk_5 (dk_at dksX3_text_6 18 rfl rfl)
theorem dX3_text_159 : decode cX3_text 159 = .ok (.iload 4, 2) := dk_21 4 (dk_at dksX3_text_6 19 rfl rfl)
theorem dX3_text_161 : decode cX3_text 161 = .ok (.imul, 1) := dk_104 (dk_at dksX3_text_6 21 rfl rfl)
theorem dX3_text_162 : decode cX3_text 162 = .ok (.iconst 1, 1) := dk_4 (dk_at dksX3_text_6 22 rfl rfl)
theorem dX3_text_163 : decode cX3_text 163 = .ok (.iadd, 1) := dk_96 (dk_at dksX3_text_6 23 rfl rfl)
theorem dX3_text_164 : decode cX3_text 164 = .ok (.iaload, 1) := dk_46 (dk_at dksX3_text_7 0 rfl rfl)
theorem dX3_text_165 : decode cX3_text 165 = .ok (.iload_n 2, 1) := dk_28 (dk_at dksX3_text_7 1 rfl rfl)
theorem dX3_text_166 : decode cX3_text 166 = .ok (.invokevirtual 298, 3) := dk_182 1 42 (dk_at dksX3_text_7 2 rfl rfl)
theorem dX3_text_169 : decode cX3_text 169 = .ok (.istore_n 3, 1) := dk_62 (dk_at dksX3_text_7 5 rfl rfl)
theorem dX3_text_170 : decode cX3_text 170 = .ok (.iinc 4 1, 3) := dk_132 4 1 (dk_at dksX3_text_7 6 rfl rfl)
theorem dX3_text_173 : decode cX3_text 173 = .ok (.goto (-39), 3) := dk_167 255 217 (dk_at dksX3_text_7 9 rfl rfl)
theorem dX3_text_176 : decode cX3_text 176 = .ok (.aload_n 0, 1) := dk_42 (dk_at dksX3_text_7 12 rfl rfl)
theorem dX3_text_177 : decode cX3_text 177 = .ok (.iload_n 3, 1) := dk_29 (dk_at dksX3_text_7 13 rfl rfl)
theorem dX3_text_178 : decode cX3_text 178 = .ok (.iconst (-1), 1) := dk_2 (dk_at dksX3_text_7 14 rfl rfl)
theorem dX3_text_179 : decode cX3_text 179 = .ok (.iconst (-1), 1) := dk_2 (dk_at dksX3_text_7 15 rfl rfl)
theorem dX3_text_180 : decode cX3_text 180 = .ok (.invokevirtual 302, 3) := dk_182 1 46 (dk_at dksX3_text_7 16 rfl rfl)
theorem dX3_text_183 : decode cX3_text 183 = .ok (.ireturn, 1) := dk_172 (dk_at dksX3_text_7 19 rfl rfl)
abbrev cX3_hasRoom : ByteArray := prog_9_method_43_code
def yX3_hasRoom : MethodName := ⟨RX3, "hasRoom", "()Z"⟩
def dkwX3_hasRoom_1 : List UInt8 := [172]
abbrev dktX3_hasRoom_1 : List UInt8 := dkwX3_hasRoom_1 ++ []
def dkwX3_hasRoom_0 : List UInt8 := [42, 180, 1, 19, 16, 16, 162, 0, 17, 42, 180, 1, 5, 17, 3, 231, 162, 0, 7, 4, 167, 0, 4, 3]
abbrev dktX3_hasRoom_0 : List UInt8 := dkwX3_hasRoom_0 ++ dktX3_hasRoom_1
theorem dksX3_hasRoom_0 : cX3_hasRoom.data.toList.drop 0 = dktX3_hasRoom_0 := by decide +kernel
theorem dksX3_hasRoom_1 : cX3_hasRoom.data.toList.drop 24 = dktX3_hasRoom_1 := dk_seg dksX3_hasRoom_0 24 rfl rfl
theorem dX3_hasRoom_0 : decode cX3_hasRoom 0 = .ok (.aload_n 0, 1) := dk_42 (dk_at dksX3_hasRoom_0 0 rfl rfl)
theorem dX3_hasRoom_1 : decode cX3_hasRoom 1 = .ok (.getfield 275, 3) := dk_180 1 19 (dk_at dksX3_hasRoom_0 1 rfl rfl)
theorem dX3_hasRoom_4 : decode cX3_hasRoom 4 = .ok (.bipush 16, 2) := dk_16 16 (dk_at dksX3_hasRoom_0 4 rfl rfl)
theorem dX3_hasRoom_6 : decode cX3_hasRoom 6 = .ok (.if_icmp .ge 17, 3) := dk_162 0 17 (dk_at dksX3_hasRoom_0 6 rfl rfl)
theorem dX3_hasRoom_9 : decode cX3_hasRoom 9 = .ok (.aload_n 0, 1) := dk_42 (dk_at dksX3_hasRoom_0 9 rfl rfl)
theorem dX3_hasRoom_10 : decode cX3_hasRoom 10 = .ok (.getfield 261, 3) := dk_180 1 5 (dk_at dksX3_hasRoom_0 10 rfl rfl)
theorem dX3_hasRoom_13 : decode cX3_hasRoom 13 = .ok (.sipush 999, 3) := dk_17 3 231 (dk_at dksX3_hasRoom_0 13 rfl rfl)
theorem dX3_hasRoom_16 : decode cX3_hasRoom 16 = .ok (.if_icmp .ge 7, 3) := dk_162 0 7 (dk_at dksX3_hasRoom_0 16 rfl rfl)
theorem dX3_hasRoom_19 : decode cX3_hasRoom 19 = .ok (.iconst 1, 1) := dk_4 (dk_at dksX3_hasRoom_0 19 rfl rfl)
theorem dX3_hasRoom_20 : decode cX3_hasRoom 20 = .ok (.goto 4, 3) := dk_167 0 4 (dk_at dksX3_hasRoom_0 20 rfl rfl)
theorem dX3_hasRoom_23 : decode cX3_hasRoom 23 = .ok (.iconst 0, 1) := dk_3 (dk_at dksX3_hasRoom_0 23 rfl rfl)
theorem dX3_hasRoom_24 : decode cX3_hasRoom 24 = .ok (.ireturn, 1) := dk_172 (dk_at dksX3_hasRoom_1 0 rfl rfl)
abbrev cX3_refused : ByteArray := prog_9_method_41_code
def yX3_refused : MethodName := ⟨RX3, "refused", "(I)I"⟩
def dkwX3_refused_0 : List UInt8 := [42, 180, 0, 85, 27, 92, 46, 4, 96, 79, 2, 172]
abbrev dktX3_refused_0 : List UInt8 := dkwX3_refused_0 ++ []
theorem dksX3_refused_0 : cX3_refused.data.toList.drop 0 = dktX3_refused_0 := by decide +kernel
theorem dX3_refused_0 : decode cX3_refused 0 = .ok (.aload_n 0, 1) := dk_42 (dk_at dksX3_refused_0 0 rfl rfl)
theorem dX3_refused_1 : decode cX3_refused 1 = .ok (.getfield 85, 3) := dk_180 0 85 (dk_at dksX3_refused_0 1 rfl rfl)
theorem dX3_refused_4 : decode cX3_refused 4 = .ok (.iload_n 1, 1) := dk_27 (dk_at dksX3_refused_0 4 rfl rfl)
theorem dX3_refused_5 : decode cX3_refused 5 = .ok (.dup2, 1) := dk_92 (dk_at dksX3_refused_0 5 rfl rfl)
theorem dX3_refused_6 : decode cX3_refused 6 = .ok (.iaload, 1) := dk_46 (dk_at dksX3_refused_0 6 rfl rfl)
theorem dX3_refused_7 : decode cX3_refused 7 = .ok (.iconst 1, 1) := dk_4 (dk_at dksX3_refused_0 7 rfl rfl)
theorem dX3_refused_8 : decode cX3_refused 8 = .ok (.iadd, 1) := dk_96 (dk_at dksX3_refused_0 8 rfl rfl)
theorem dX3_refused_9 : decode cX3_refused 9 = .ok (.iastore, 1) := dk_79 (dk_at dksX3_refused_0 9 rfl rfl)
theorem dX3_refused_10 : decode cX3_refused 10 = .ok (.iconst (-1), 1) := dk_2 (dk_at dksX3_refused_0 10 rfl rfl)
theorem dX3_refused_11 : decode cX3_refused 11 = .ok (.ireturn, 1) := dk_172 (dk_at dksX3_refused_0 11 rfl rfl)
abbrev cX3_newToken : ByteArray := prog_9_method_45_code
def yX3_newToken : MethodName := ⟨RX3, "newToken", "()I"⟩
def dkwX3_newToken_0 : List UInt8 := [42, 182, 1, 22, 42, 89, 180, 1, 25, 4, 96, 181, 1, 25, 42, 180, 1, 25, 172]
abbrev dktX3_newToken_0 : List UInt8 := dkwX3_newToken_0 ++ []
theorem dksX3_newToken_0 : cX3_newToken.data.toList.drop 0 = dktX3_newToken_0 := by decide +kernel
theorem dX3_newToken_0 : decode cX3_newToken 0 = .ok (.aload_n 0, 1) := dk_42 (dk_at dksX3_newToken_0 0 rfl rfl)
theorem dX3_newToken_1 : decode cX3_newToken 1 = .ok (.invokevirtual 278, 3) := dk_182 1 22 (dk_at dksX3_newToken_0 1 rfl rfl)
theorem dX3_newToken_4 : decode cX3_newToken 4 = .ok (.aload_n 0, 1) := dk_42 (dk_at dksX3_newToken_0 4 rfl rfl)
theorem dX3_newToken_5 : decode cX3_newToken 5 = .ok (.dup, 1) := dk_89 (dk_at dksX3_newToken_0 5 rfl rfl)
theorem dX3_newToken_6 : decode cX3_newToken 6 = .ok (.getfield 281, 3) := dk_180 1 25 (dk_at dksX3_newToken_0 6 rfl rfl)
theorem dX3_newToken_9 : decode cX3_newToken 9 = .ok (.iconst 1, 1) := dk_4 (dk_at dksX3_newToken_0 9 rfl rfl)
theorem dX3_newToken_10 : decode cX3_newToken 10 = .ok (.iadd, 1) := dk_96 (dk_at dksX3_newToken_0 10 rfl rfl)
theorem dX3_newToken_11 : decode cX3_newToken 11 = .ok (.putfield 281, 3) := dk_181 1 25 (dk_at dksX3_newToken_0 11 rfl rfl)
theorem dX3_newToken_14 : decode cX3_newToken 14 = .ok (.aload_n 0, 1) := dk_42 (dk_at dksX3_newToken_0 14 rfl rfl)
theorem dX3_newToken_15 : decode cX3_newToken 15 = .ok (.getfield 281, 3) := dk_180 1 25 (dk_at dksX3_newToken_0 15 rfl rfl)
theorem dX3_newToken_18 : decode cX3_newToken 18 = .ok (.ireturn, 1) := dk_172 (dk_at dksX3_newToken_0 18 rfl rfl)
abbrev cX3_sweeps : ByteArray := prog_9_method_40_code
def yX3_sweeps : MethodName := ⟨RX3, "sweeps", "()V"⟩
def dkwX3_sweeps_7 : List UInt8 := [79, 42, 89, 180, 0, 184, 4, 96, 181, 0, 184, 132, 2, 1, 167, 255, 209, 177]
abbrev dktX3_sweeps_7 : List UInt8 := dkwX3_sweeps_7 ++ []
def dkwX3_sweeps_6 : List UInt8 := [180, 0, 32, 28, 46, 42, 180, 0, 255, 160, 0, 6, 167, 0, 23, 42, 180, 0, 35, 42, 180, 0, 184, 28]
abbrev dktX3_sweeps_6 : List UInt8 := dkwX3_sweeps_6 ++ dktX3_sweeps_7
def dkwX3_sweeps_5 : List UInt8 := [132, 2, 1, 167, 255, 224, 42, 3, 181, 0, 184, 3, 61, 28, 42, 180, 0, 187, 162, 0, 45, 42]
abbrev dktX3_sweeps_5 : List UInt8 := dkwX3_sweeps_5 ++ dktX3_sweeps_6
def dkwX3_sweeps_4 : List UInt8 := [180, 1, 12, 28, 184, 1, 15, 153, 0, 16, 27, 42, 42, 180, 0, 76, 28, 46, 182, 1, 2, 96, 60]
abbrev dktX3_sweeps_4 : List UInt8 := dkwX3_sweeps_4 ++ dktX3_sweeps_5
def dkwX3_sweeps_3 : List UInt8 := [180, 0, 67, 28, 46, 182, 1, 2, 96, 60, 132, 2, 1, 167, 255, 207, 3, 61, 28, 7, 162, 0, 33, 42]
abbrev dktX3_sweeps_3 : List UInt8 := dkwX3_sweeps_3 ++ dktX3_sweeps_4
def dkwX3_sweeps_2 : List UInt8 := [28, 51, 154, 0, 19, 42, 180, 1, 8, 153, 0, 25, 42, 180, 0, 92, 28, 51, 153, 0, 16, 27, 42, 42]
abbrev dktX3_sweeps_2 : List UInt8 := dkwX3_sweeps_2 ++ dktX3_sweeps_3
def dkwX3_sweeps_1 : List UInt8 := [180, 0, 255, 4, 96, 181, 0, 255, 3, 60, 3, 61, 28, 42, 180, 1, 5, 162, 0, 47, 42, 180, 0, 88]
abbrev dktX3_sweeps_1 : List UInt8 := dkwX3_sweeps_1 ++ dktX3_sweeps_2
def dkwX3_sweeps_0 : List UInt8 := [42, 180, 0, 184, 17, 46, 224, 96, 42, 180, 0, 187, 100, 17, 19, 136, 164, 0, 4, 177, 42, 89]
abbrev dktX3_sweeps_0 : List UInt8 := dkwX3_sweeps_0 ++ dktX3_sweeps_1
theorem dksX3_sweeps_0 : cX3_sweeps.data.toList.drop 0 = dktX3_sweeps_0 := by decide +kernel
theorem dksX3_sweeps_1 : cX3_sweeps.data.toList.drop 22 = dktX3_sweeps_1 := dk_seg dksX3_sweeps_0 22 rfl rfl
theorem dksX3_sweeps_2 : cX3_sweeps.data.toList.drop 46 = dktX3_sweeps_2 := dk_seg dksX3_sweeps_1 24 rfl rfl
theorem dksX3_sweeps_3 : cX3_sweeps.data.toList.drop 70 = dktX3_sweeps_3 := dk_seg dksX3_sweeps_2 24 rfl rfl
theorem dksX3_sweeps_4 : cX3_sweeps.data.toList.drop 94 = dktX3_sweeps_4 := dk_seg dksX3_sweeps_3 24 rfl rfl
theorem dksX3_sweeps_5 : cX3_sweeps.data.toList.drop 117 = dktX3_sweeps_5 := dk_seg dksX3_sweeps_4 23 rfl rfl
theorem dksX3_sweeps_6 : cX3_sweeps.data.toList.drop 139 = dktX3_sweeps_6 := dk_seg dksX3_sweeps_5 22 rfl rfl
theorem dksX3_sweeps_7 : cX3_sweeps.data.toList.drop 163 = dktX3_sweeps_7 := dk_seg dksX3_sweeps_6 24 rfl rfl
theorem dX3_sweeps_0 : decode cX3_sweeps 0 = .ok (.aload_n 0, 1) := dk_42 (dk_at dksX3_sweeps_0 0 rfl rfl)
theorem dX3_sweeps_1 : decode cX3_sweeps 1 = .ok (.getfield 184, 3) := dk_180 0 184 (dk_at dksX3_sweeps_0 1 rfl rfl)
theorem dX3_sweeps_4 : decode cX3_sweeps 4 = .ok (.sipush 12000, 3) := dk_17 46 224 (dk_at dksX3_sweeps_0 4 rfl rfl)
theorem dX3_sweeps_7 : decode cX3_sweeps 7 = .ok (.iadd, 1) := dk_96 (dk_at dksX3_sweeps_0 7 rfl rfl)
theorem dX3_sweeps_8 : decode cX3_sweeps 8 = .ok (.aload_n 0, 1) := dk_42 (dk_at dksX3_sweeps_0 8 rfl rfl)
theorem dX3_sweeps_9 : decode cX3_sweeps 9 = .ok (.getfield 187, 3) := dk_180 0 187 (dk_at dksX3_sweeps_0 9 rfl rfl)
theorem dX3_sweeps_12 : decode cX3_sweeps 12 = .ok (.isub, 1) := dk_100 (dk_at dksX3_sweeps_0 12 rfl rfl)
theorem dX3_sweeps_13 : decode cX3_sweeps 13 = .ok (.sipush 5000, 3) := dk_17 19 136 (dk_at dksX3_sweeps_0 13 rfl rfl)
theorem dX3_sweeps_16 : decode cX3_sweeps 16 = .ok (.if_icmp .le 4, 3) := dk_164 0 4 (dk_at dksX3_sweeps_0 16 rfl rfl)
theorem dX3_sweeps_19 : decode cX3_sweeps 19 = .ok (.return_, 1) := dk_177 (dk_at dksX3_sweeps_0 19 rfl rfl)
theorem dX3_sweeps_20 : decode cX3_sweeps 20 = .ok (.aload_n 0, 1) := dk_42 (dk_at dksX3_sweeps_0 20 rfl rfl)
theorem dX3_sweeps_21 : decode cX3_sweeps 21 = .ok (.dup, 1) := dk_89 (dk_at dksX3_sweeps_0 21 rfl rfl)
theorem dX3_sweeps_22 : decode cX3_sweeps 22 = .ok (.getfield 255, 3) := dk_180 0 255 (dk_at dksX3_sweeps_1 0 rfl rfl)
theorem dX3_sweeps_25 : decode cX3_sweeps 25 = .ok (.iconst 1, 1) := dk_4 (dk_at dksX3_sweeps_1 3 rfl rfl)
theorem dX3_sweeps_26 : decode cX3_sweeps 26 = .ok (.iadd, 1) := dk_96 (dk_at dksX3_sweeps_1 4 rfl rfl)
theorem dX3_sweeps_27 : decode cX3_sweeps 27 = .ok (.putfield 255, 3) := dk_181 0 255 (dk_at dksX3_sweeps_1 5 rfl rfl)
theorem dX3_sweeps_30 : decode cX3_sweeps 30 = .ok (.iconst 0, 1) := dk_3 (dk_at dksX3_sweeps_1 8 rfl rfl)
theorem dX3_sweeps_31 : decode cX3_sweeps 31 = .ok (.istore_n 1, 1) := dk_60 (dk_at dksX3_sweeps_1 9 rfl rfl)
theorem dX3_sweeps_32 : decode cX3_sweeps 32 = .ok (.iconst 0, 1) := dk_3 (dk_at dksX3_sweeps_1 10 rfl rfl)
theorem dX3_sweeps_33 : decode cX3_sweeps 33 = .ok (.istore_n 2, 1) := dk_61 (dk_at dksX3_sweeps_1 11 rfl rfl)
theorem dX3_sweeps_34 : decode cX3_sweeps 34 = .ok (.iload_n 2, 1) := dk_28 (dk_at dksX3_sweeps_1 12 rfl rfl)
theorem dX3_sweeps_35 : decode cX3_sweeps 35 = .ok (.aload_n 0, 1) := dk_42 (dk_at dksX3_sweeps_1 13 rfl rfl)
theorem dX3_sweeps_36 : decode cX3_sweeps 36 = .ok (.getfield 261, 3) := dk_180 1 5 (dk_at dksX3_sweeps_1 14 rfl rfl)
theorem dX3_sweeps_39 : decode cX3_sweeps 39 = .ok (.if_icmp .ge 47, 3) := dk_162 0 47 (dk_at dksX3_sweeps_1 17 rfl rfl)
theorem dX3_sweeps_42 : decode cX3_sweeps 42 = .ok (.aload_n 0, 1) := dk_42 (dk_at dksX3_sweeps_1 20 rfl rfl)
theorem dX3_sweeps_43 : decode cX3_sweeps 43 = .ok (.getfield 88, 3) := dk_180 0 88 (dk_at dksX3_sweeps_1 21 rfl rfl)
theorem dX3_sweeps_46 : decode cX3_sweeps 46 = .ok (.iload_n 2, 1) := dk_28 (dk_at dksX3_sweeps_2 0 rfl rfl)
theorem dX3_sweeps_47 : decode cX3_sweeps 47 = .ok (.baload, 1) := dk_51 (dk_at dksX3_sweeps_2 1 rfl rfl)
theorem dX3_sweeps_48 : decode cX3_sweeps 48 = .ok (.ifCond .ne 19, 3) := dk_154 0 19 (dk_at dksX3_sweeps_2 2 rfl rfl)
theorem dX3_sweeps_51 : decode cX3_sweeps 51 = .ok (.aload_n 0, 1) := dk_42 (dk_at dksX3_sweeps_2 5 rfl rfl)
theorem dX3_sweeps_52 : decode cX3_sweeps 52 = .ok (.getfield 264, 3) := dk_180 1 8 (dk_at dksX3_sweeps_2 6 rfl rfl)
theorem dX3_sweeps_55 : decode cX3_sweeps 55 = .ok (.ifCond .eq 25, 3) := dk_153 0 25 (dk_at dksX3_sweeps_2 9 rfl rfl)
theorem dX3_sweeps_58 : decode cX3_sweeps 58 = .ok (.aload_n 0, 1) := dk_42 (dk_at dksX3_sweeps_2 12 rfl rfl)
theorem dX3_sweeps_59 : decode cX3_sweeps 59 = .ok (.getfield 92, 3) := dk_180 0 92 (dk_at dksX3_sweeps_2 13 rfl rfl)
theorem dX3_sweeps_62 : decode cX3_sweeps 62 = .ok (.iload_n 2, 1) := dk_28 (dk_at dksX3_sweeps_2 16 rfl rfl)
theorem dX3_sweeps_63 : decode cX3_sweeps 63 = .ok (.baload, 1) := dk_51 (dk_at dksX3_sweeps_2 17 rfl rfl)
theorem dX3_sweeps_64 : decode cX3_sweeps 64 = .ok (.ifCond .eq 16, 3) := dk_153 0 16 (dk_at dksX3_sweeps_2 18 rfl rfl)
theorem dX3_sweeps_67 : decode cX3_sweeps 67 = .ok (.iload_n 1, 1) := dk_27 (dk_at dksX3_sweeps_2 21 rfl rfl)
theorem dX3_sweeps_68 : decode cX3_sweeps 68 = .ok (.aload_n 0, 1) := dk_42 (dk_at dksX3_sweeps_2 22 rfl rfl)
theorem dX3_sweeps_69 : decode cX3_sweeps 69 = .ok (.aload_n 0, 1) := dk_42 (dk_at dksX3_sweeps_2 23 rfl rfl)
theorem dX3_sweeps_70 : decode cX3_sweeps 70 = .ok (.getfield 67, 3) := dk_180 0 67 (dk_at dksX3_sweeps_3 0 rfl rfl)
theorem dX3_sweeps_73 : decode cX3_sweeps 73 = .ok (.iload_n 2, 1) := dk_28 (dk_at dksX3_sweeps_3 3 rfl rfl)
theorem dX3_sweeps_74 : decode cX3_sweeps 74 = .ok (.iaload, 1) := dk_46 (dk_at dksX3_sweeps_3 4 rfl rfl)
theorem dX3_sweeps_75 : decode cX3_sweeps 75 = .ok (.invokevirtual 258, 3) := dk_182 1 2 (dk_at dksX3_sweeps_3 5 rfl rfl)
theorem dX3_sweeps_78 : decode cX3_sweeps 78 = .ok (.iadd, 1) := dk_96 (dk_at dksX3_sweeps_3 8 rfl rfl)
theorem dX3_sweeps_79 : decode cX3_sweeps 79 = .ok (.istore_n 1, 1) := dk_60 (dk_at dksX3_sweeps_3 9 rfl rfl)
theorem dX3_sweeps_80 : decode cX3_sweeps 80 = .ok (.iinc 2 1, 3) := dk_132 2 1 (dk_at dksX3_sweeps_3 10 rfl rfl)
theorem dX3_sweeps_83 : decode cX3_sweeps 83 = .ok (.goto (-49), 3) := dk_167 255 207 (dk_at dksX3_sweeps_3 13 rfl rfl)
theorem dX3_sweeps_86 : decode cX3_sweeps 86 = .ok (.iconst 0, 1) := dk_3 (dk_at dksX3_sweeps_3 16 rfl rfl)
theorem dX3_sweeps_87 : decode cX3_sweeps 87 = .ok (.istore_n 2, 1) := dk_61 (dk_at dksX3_sweeps_3 17 rfl rfl)
theorem dX3_sweeps_88 : decode cX3_sweeps 88 = .ok (.iload_n 2, 1) := dk_28 (dk_at dksX3_sweeps_3 18 rfl rfl)
theorem dX3_sweeps_89 : decode cX3_sweeps 89 = .ok (.iconst 4, 1) := dk_7 (dk_at dksX3_sweeps_3 19 rfl rfl)
theorem dX3_sweeps_90 : decode cX3_sweeps 90 = .ok (.if_icmp .ge 33, 3) := dk_162 0 33 (dk_at dksX3_sweeps_3 20 rfl rfl)
theorem dX3_sweeps_93 : decode cX3_sweeps 93 = .ok (.aload_n 0, 1) := dk_42 (dk_at dksX3_sweeps_3 23 rfl rfl)
theorem dX3_sweeps_94 : decode cX3_sweeps 94 = .ok (.getfield 268, 3) := dk_180 1 12 (dk_at dksX3_sweeps_4 0 rfl rfl)
theorem dX3_sweeps_97 : decode cX3_sweeps 97 = .ok (.iload_n 2, 1) := dk_28 (dk_at dksX3_sweeps_4 3 rfl rfl)
theorem dX3_sweeps_98 : decode cX3_sweeps 98 = .ok (.invokestatic 271, 3) := dk_184 1 15 (dk_at dksX3_sweeps_4 4 rfl rfl)
theorem dX3_sweeps_101 : decode cX3_sweeps 101 = .ok (.ifCond .eq 16, 3) := dk_153 0 16 (dk_at dksX3_sweeps_4 7 rfl rfl)
theorem dX3_sweeps_104 : decode cX3_sweeps 104 = .ok (.iload_n 1, 1) := dk_27 (dk_at dksX3_sweeps_4 10 rfl rfl)
theorem dX3_sweeps_105 : decode cX3_sweeps 105 = .ok (.aload_n 0, 1) := dk_42 (dk_at dksX3_sweeps_4 11 rfl rfl)
theorem dX3_sweeps_106 : decode cX3_sweeps 106 = .ok (.aload_n 0, 1) := dk_42 (dk_at dksX3_sweeps_4 12 rfl rfl)
theorem dX3_sweeps_107 : decode cX3_sweeps 107 = .ok (.getfield 76, 3) := dk_180 0 76 (dk_at dksX3_sweeps_4 13 rfl rfl)
theorem dX3_sweeps_110 : decode cX3_sweeps 110 = .ok (.iload_n 2, 1) := dk_28 (dk_at dksX3_sweeps_4 16 rfl rfl)
theorem dX3_sweeps_111 : decode cX3_sweeps 111 = .ok (.iaload, 1) := dk_46 (dk_at dksX3_sweeps_4 17 rfl rfl)
theorem dX3_sweeps_112 : decode cX3_sweeps 112 = .ok (.invokevirtual 258, 3) := dk_182 1 2 (dk_at dksX3_sweeps_4 18 rfl rfl)
theorem dX3_sweeps_115 : decode cX3_sweeps 115 = .ok (.iadd, 1) := dk_96 (dk_at dksX3_sweeps_4 21 rfl rfl)
theorem dX3_sweeps_116 : decode cX3_sweeps 116 = .ok (.istore_n 1, 1) := dk_60 (dk_at dksX3_sweeps_4 22 rfl rfl)
theorem dX3_sweeps_117 : decode cX3_sweeps 117 = .ok (.iinc 2 1, 3) := dk_132 2 1 (dk_at dksX3_sweeps_5 0 rfl rfl)
theorem dX3_sweeps_120 : decode cX3_sweeps 120 = .ok (.goto (-32), 3) := dk_167 255 224 (dk_at dksX3_sweeps_5 3 rfl rfl)
theorem dX3_sweeps_123 : decode cX3_sweeps 123 = .ok (.aload_n 0, 1) := dk_42 (dk_at dksX3_sweeps_5 6 rfl rfl)
theorem dX3_sweeps_124 : decode cX3_sweeps 124 = .ok (.iconst 0, 1) := dk_3 (dk_at dksX3_sweeps_5 7 rfl rfl)
theorem dX3_sweeps_125 : decode cX3_sweeps 125 = .ok (.putfield 184, 3) := dk_181 0 184 (dk_at dksX3_sweeps_5 8 rfl rfl)
theorem dX3_sweeps_128 : decode cX3_sweeps 128 = .ok (.iconst 0, 1) := dk_3 (dk_at dksX3_sweeps_5 11 rfl rfl)
theorem dX3_sweeps_129 : decode cX3_sweeps 129 = .ok (.istore_n 2, 1) := dk_61 (dk_at dksX3_sweeps_5 12 rfl rfl)
theorem dX3_sweeps_130 : decode cX3_sweeps 130 = .ok (.iload_n 2, 1) := dk_28 (dk_at dksX3_sweeps_5 13 rfl rfl)
theorem dX3_sweeps_131 : decode cX3_sweeps 131 = .ok (.aload_n 0, 1) := dk_42 (dk_at dksX3_sweeps_5 14 rfl rfl)
theorem dX3_sweeps_132 : decode cX3_sweeps 132 = .ok (.getfield 187, 3) := dk_180 0 187 (dk_at dksX3_sweeps_5 15 rfl rfl)
theorem dX3_sweeps_135 : decode cX3_sweeps 135 = .ok (.if_icmp .ge 45, 3) := dk_162 0 45 (dk_at dksX3_sweeps_5 18 rfl rfl)
theorem dX3_sweeps_138 : decode cX3_sweeps 138 = .ok (.aload_n 0, 1) := dk_42 (dk_at dksX3_sweeps_5 21 rfl rfl)
theorem dX3_sweeps_139 : decode cX3_sweeps 139 = .ok (.getfield 32, 3) := dk_180 0 32 (dk_at dksX3_sweeps_6 0 rfl rfl)
theorem dX3_sweeps_142 : decode cX3_sweeps 142 = .ok (.iload_n 2, 1) := dk_28 (dk_at dksX3_sweeps_6 3 rfl rfl)
theorem dX3_sweeps_143 : decode cX3_sweeps 143 = .ok (.iaload, 1) := dk_46 (dk_at dksX3_sweeps_6 4 rfl rfl)
theorem dX3_sweeps_144 : decode cX3_sweeps 144 = .ok (.aload_n 0, 1) := dk_42 (dk_at dksX3_sweeps_6 5 rfl rfl)
theorem dX3_sweeps_145 : decode cX3_sweeps 145 = .ok (.getfield 255, 3) := dk_180 0 255 (dk_at dksX3_sweeps_6 6 rfl rfl)
theorem dX3_sweeps_148 : decode cX3_sweeps 148 = .ok (.if_icmp .ne 6, 3) := dk_160 0 6 (dk_at dksX3_sweeps_6 9 rfl rfl)
theorem dX3_sweeps_151 : decode cX3_sweeps 151 = .ok (.goto 23, 3) := dk_167 0 23 (dk_at dksX3_sweeps_6 12 rfl rfl)
theorem dX3_sweeps_154 : decode cX3_sweeps 154 = .ok (.aload_n 0, 1) := dk_42 (dk_at dksX3_sweeps_6 15 rfl rfl)
theorem dX3_sweeps_155 : decode cX3_sweeps 155 = .ok (.getfield 35, 3) := dk_180 0 35 (dk_at dksX3_sweeps_6 16 rfl rfl)
theorem dX3_sweeps_158 : decode cX3_sweeps 158 = .ok (.aload_n 0, 1) := dk_42 (dk_at dksX3_sweeps_6 19 rfl rfl)
theorem dX3_sweeps_159 : decode cX3_sweeps 159 = .ok (.getfield 184, 3) := dk_180 0 184 (dk_at dksX3_sweeps_6 20 rfl rfl)
theorem dX3_sweeps_162 : decode cX3_sweeps 162 = .ok (.iload_n 2, 1) := dk_28 (dk_at dksX3_sweeps_6 23 rfl rfl)
theorem dX3_sweeps_163 : decode cX3_sweeps 163 = .ok (.iastore, 1) := dk_79 (dk_at dksX3_sweeps_7 0 rfl rfl)
theorem dX3_sweeps_164 : decode cX3_sweeps 164 = .ok (.aload_n 0, 1) := dk_42 (dk_at dksX3_sweeps_7 1 rfl rfl)
theorem dX3_sweeps_165 : decode cX3_sweeps 165 = .ok (.dup, 1) := dk_89 (dk_at dksX3_sweeps_7 2 rfl rfl)
theorem dX3_sweeps_166 : decode cX3_sweeps 166 = .ok (.getfield 184, 3) := dk_180 0 184 (dk_at dksX3_sweeps_7 3 rfl rfl)
theorem dX3_sweeps_169 : decode cX3_sweeps 169 = .ok (.iconst 1, 1) := dk_4 (dk_at dksX3_sweeps_7 6 rfl rfl)
theorem dX3_sweeps_170 : decode cX3_sweeps 170 = .ok (.iadd, 1) := dk_96 (dk_at dksX3_sweeps_7 7 rfl rfl)
theorem dX3_sweeps_171 : decode cX3_sweeps 171 = .ok (.putfield 184, 3) := dk_181 0 184 (dk_at dksX3_sweeps_7 8 rfl rfl)
theorem dX3_sweeps_174 : decode cX3_sweeps 174 = .ok (.iinc 2 1, 3) := dk_132 2 1 (dk_at dksX3_sweeps_7 11 rfl rfl)
theorem dX3_sweeps_177 : decode cX3_sweeps 177 = .ok (.goto (-47), 3) := dk_167 255 209 (dk_at dksX3_sweeps_7 14 rfl rfl)
theorem dX3_sweeps_180 : decode cX3_sweeps 180 = .ok (.return_, 1) := dk_177 (dk_at dksX3_sweeps_7 17 rfl rfl)
abbrev cX3_marks : ByteArray := prog_9_method_39_code
def yX3_marks : MethodName := ⟨RX3, "marks", "(I)I"⟩
def dkwX3_marks_2 : List UInt8 := [154, 0, 22, 28, 42, 42, 27, 29, 182, 0, 197, 182, 1, 2, 96, 61, 132, 3, 1, 167, 255, 221, 28, 172]
abbrev dktX3_marks_2 : List UInt8 := dkwX3_marks_2 ++ []
def dkwX3_marks_1 : List UInt8 := [42, 180, 0, 255, 79, 3, 62, 29, 42, 180, 0, 26, 27, 46, 162, 0, 31, 42, 180, 0, 23, 27, 46]
abbrev dktX3_marks_1 : List UInt8 := dkwX3_marks_1 ++ dktX3_marks_2
def dkwX3_marks_0 : List UInt8 := [42, 180, 0, 32, 27, 46, 42, 180, 0, 255, 160, 0, 7, 3, 167, 0, 4, 4, 61, 42, 180, 0, 32, 27]
abbrev dktX3_marks_0 : List UInt8 := dkwX3_marks_0 ++ dktX3_marks_1
theorem dksX3_marks_0 : cX3_marks.data.toList.drop 0 = dktX3_marks_0 := by decide +kernel
theorem dksX3_marks_1 : cX3_marks.data.toList.drop 24 = dktX3_marks_1 := dk_seg dksX3_marks_0 24 rfl rfl
theorem dksX3_marks_2 : cX3_marks.data.toList.drop 47 = dktX3_marks_2 := dk_seg dksX3_marks_1 23 rfl rfl
theorem dX3_marks_0 : decode cX3_marks 0 = .ok (.aload_n 0, 1) := dk_42 (dk_at dksX3_marks_0 0 rfl rfl)
theorem dX3_marks_1 : decode cX3_marks 1 = .ok (.getfield 32, 3) := dk_180 0 32 (dk_at dksX3_marks_0 1 rfl rfl)
theorem dX3_marks_4 : decode cX3_marks 4 = .ok (.iload_n 1, 1) := dk_27 (dk_at dksX3_marks_0 4 rfl rfl)
theorem dX3_marks_5 : decode cX3_marks 5 = .ok (.iaload, 1) := dk_46 (dk_at dksX3_marks_0 5 rfl rfl)
theorem dX3_marks_6 : decode cX3_marks 6 = .ok (.aload_n 0, 1) := dk_42 (dk_at dksX3_marks_0 6 rfl rfl)
theorem dX3_marks_7 : decode cX3_marks 7 = .ok (.getfield 255, 3) := dk_180 0 255 (dk_at dksX3_marks_0 7 rfl rfl)
theorem dX3_marks_10 : decode cX3_marks 10 = .ok (.if_icmp .ne 7, 3) := dk_160 0 7 (dk_at dksX3_marks_0 10 rfl rfl)
theorem dX3_marks_13 : decode cX3_marks 13 = .ok (.iconst 0, 1) := dk_3 (dk_at dksX3_marks_0 13 rfl rfl)
theorem dX3_marks_14 : decode cX3_marks 14 = .ok (.goto 4, 3) := dk_167 0 4 (dk_at dksX3_marks_0 14 rfl rfl)
theorem dX3_marks_17 : decode cX3_marks 17 = .ok (.iconst 1, 1) := dk_4 (dk_at dksX3_marks_0 17 rfl rfl)
theorem dX3_marks_18 : decode cX3_marks 18 = .ok (.istore_n 2, 1) := dk_61 (dk_at dksX3_marks_0 18 rfl rfl)
theorem dX3_marks_19 : decode cX3_marks 19 = .ok (.aload_n 0, 1) := dk_42 (dk_at dksX3_marks_0 19 rfl rfl)
theorem dX3_marks_20 : decode cX3_marks 20 = .ok (.getfield 32, 3) := dk_180 0 32 (dk_at dksX3_marks_0 20 rfl rfl)
theorem dX3_marks_23 : decode cX3_marks 23 = .ok (.iload_n 1, 1) := dk_27 (dk_at dksX3_marks_0 23 rfl rfl)
theorem dX3_marks_24 : decode cX3_marks 24 = .ok (.aload_n 0, 1) := dk_42 (dk_at dksX3_marks_1 0 rfl rfl)
theorem dX3_marks_25 : decode cX3_marks 25 = .ok (.getfield 255, 3) := dk_180 0 255 (dk_at dksX3_marks_1 1 rfl rfl)
theorem dX3_marks_28 : decode cX3_marks 28 = .ok (.iastore, 1) := dk_79 (dk_at dksX3_marks_1 4 rfl rfl)
theorem dX3_marks_29 : decode cX3_marks 29 = .ok (.iconst 0, 1) := dk_3 (dk_at dksX3_marks_1 5 rfl rfl)
theorem dX3_marks_30 : decode cX3_marks 30 = .ok (.istore_n 3, 1) := dk_62 (dk_at dksX3_marks_1 6 rfl rfl)
theorem dX3_marks_31 : decode cX3_marks 31 = .ok (.iload_n 3, 1) := dk_29 (dk_at dksX3_marks_1 7 rfl rfl)
theorem dX3_marks_32 : decode cX3_marks 32 = .ok (.aload_n 0, 1) := dk_42 (dk_at dksX3_marks_1 8 rfl rfl)
theorem dX3_marks_33 : decode cX3_marks 33 = .ok (.getfield 26, 3) := dk_180 0 26 (dk_at dksX3_marks_1 9 rfl rfl)
theorem dX3_marks_36 : decode cX3_marks 36 = .ok (.iload_n 1, 1) := dk_27 (dk_at dksX3_marks_1 12 rfl rfl)
theorem dX3_marks_37 : decode cX3_marks 37 = .ok (.iaload, 1) := dk_46 (dk_at dksX3_marks_1 13 rfl rfl)
theorem dX3_marks_38 : decode cX3_marks 38 = .ok (.if_icmp .ge 31, 3) := dk_162 0 31 (dk_at dksX3_marks_1 14 rfl rfl)
theorem dX3_marks_41 : decode cX3_marks 41 = .ok (.aload_n 0, 1) := dk_42 (dk_at dksX3_marks_1 17 rfl rfl)
theorem dX3_marks_42 : decode cX3_marks 42 = .ok (.getfield 23, 3) := dk_180 0 23 (dk_at dksX3_marks_1 18 rfl rfl)
theorem dX3_marks_45 : decode cX3_marks 45 = .ok (.iload_n 1, 1) := dk_27 (dk_at dksX3_marks_1 21 rfl rfl)
theorem dX3_marks_46 : decode cX3_marks 46 = .ok (.iaload, 1) := dk_46 (dk_at dksX3_marks_1 22 rfl rfl)
theorem dX3_marks_47 : decode cX3_marks 47 = .ok (.ifCond .ne 22, 3) := dk_154 0 22 (dk_at dksX3_marks_2 0 rfl rfl)
theorem dX3_marks_50 : decode cX3_marks 50 = .ok (.iload_n 2, 1) := dk_28 (dk_at dksX3_marks_2 3 rfl rfl)
theorem dX3_marks_51 : decode cX3_marks 51 = .ok (.aload_n 0, 1) := dk_42 (dk_at dksX3_marks_2 4 rfl rfl)
theorem dX3_marks_52 : decode cX3_marks 52 = .ok (.aload_n 0, 1) := dk_42 (dk_at dksX3_marks_2 5 rfl rfl)
theorem dX3_marks_53 : decode cX3_marks 53 = .ok (.iload_n 1, 1) := dk_27 (dk_at dksX3_marks_2 6 rfl rfl)
theorem dX3_marks_54 : decode cX3_marks 54 = .ok (.iload_n 3, 1) := dk_29 (dk_at dksX3_marks_2 7 rfl rfl)
theorem dX3_marks_55 : decode cX3_marks 55 = .ok (.invokevirtual 197, 3) := dk_182 0 197 (dk_at dksX3_marks_2 8 rfl rfl)
theorem dX3_marks_58 : decode cX3_marks 58 = .ok (.invokevirtual 258, 3) := dk_182 1 2 (dk_at dksX3_marks_2 11 rfl rfl)
theorem dX3_marks_61 : decode cX3_marks 61 = .ok (.iadd, 1) := dk_96 (dk_at dksX3_marks_2 14 rfl rfl)
theorem dX3_marks_62 : decode cX3_marks 62 = .ok (.istore_n 2, 1) := dk_61 (dk_at dksX3_marks_2 15 rfl rfl)
theorem dX3_marks_63 : decode cX3_marks 63 = .ok (.iinc 3 1, 3) := dk_132 3 1 (dk_at dksX3_marks_2 16 rfl rfl)
theorem dX3_marks_66 : decode cX3_marks 66 = .ok (.goto (-35), 3) := dk_167 255 221 (dk_at dksX3_marks_2 19 rfl rfl)
theorem dX3_marks_69 : decode cX3_marks 69 = .ok (.iload_n 2, 1) := dk_28 (dk_at dksX3_marks_2 22 rfl rfl)
theorem dX3_marks_70 : decode cX3_marks 70 = .ok (.ireturn, 1) := dk_172 (dk_at dksX3_marks_2 23 rfl rfl)
abbrev cX3_child : ByteArray := prog_9_method_23_code
def yX3_child : MethodName := ⟨RX3, "child", "(II)I"⟩
def dkwX3_child_0 : List UInt8 := [42, 180, 0, 39, 16, 7, 27, 104, 28, 96, 46, 172]
abbrev dktX3_child_0 : List UInt8 := dkwX3_child_0 ++ []
theorem dksX3_child_0 : cX3_child.data.toList.drop 0 = dktX3_child_0 := by decide +kernel
theorem dX3_child_0 : decode cX3_child 0 = .ok (.aload_n 0, 1) := dk_42 (dk_at dksX3_child_0 0 rfl rfl)
theorem dX3_child_1 : decode cX3_child 1 = .ok (.getfield 39, 3) := dk_180 0 39 (dk_at dksX3_child_0 1 rfl rfl)
theorem dX3_child_4 : decode cX3_child 4 = .ok (.bipush 7, 2) := dk_16 7 (dk_at dksX3_child_0 4 rfl rfl)
theorem dX3_child_6 : decode cX3_child 6 = .ok (.iload_n 1, 1) := dk_27 (dk_at dksX3_child_0 6 rfl rfl)
theorem dX3_child_7 : decode cX3_child 7 = .ok (.imul, 1) := dk_104 (dk_at dksX3_child_0 7 rfl rfl)
theorem dX3_child_8 : decode cX3_child 8 = .ok (.iload_n 2, 1) := dk_28 (dk_at dksX3_child_0 8 rfl rfl)
theorem dX3_child_9 : decode cX3_child 9 = .ok (.iadd, 1) := dk_96 (dk_at dksX3_child_0 9 rfl rfl)
theorem dX3_child_10 : decode cX3_child 10 = .ok (.iaload, 1) := dk_46 (dk_at dksX3_child_0 10 rfl rfl)
theorem dX3_child_11 : decode cX3_child 11 = .ok (.ireturn, 1) := dk_172 (dk_at dksX3_child_0 11 rfl rfl)
abbrev cX3_has : ByteArray := prog_9_method_4_code
def yX3_has : MethodName := ⟨RX3, "has", "(II)Z"⟩
def dkwX3_has_0 : List UInt8 := [26, 27, 122, 4, 126, 4, 160, 0, 7, 4, 167, 0, 4, 3, 172]
abbrev dktX3_has_0 : List UInt8 := dkwX3_has_0 ++ []
theorem dksX3_has_0 : cX3_has.data.toList.drop 0 = dktX3_has_0 := by decide +kernel
theorem dX3_has_0 : decode cX3_has 0 = .ok (.iload_n 0, 1) := dk_26 (dk_at dksX3_has_0 0 rfl rfl)
theorem dX3_has_1 : decode cX3_has 1 = .ok (.iload_n 1, 1) := dk_27 (dk_at dksX3_has_0 1 rfl rfl)
theorem dX3_has_2 : decode cX3_has 2 = .ok (.ishr, 1) := dk_122 (dk_at dksX3_has_0 2 rfl rfl)
theorem dX3_has_3 : decode cX3_has 3 = .ok (.iconst 1, 1) := dk_4 (dk_at dksX3_has_0 3 rfl rfl)
theorem dX3_has_4 : decode cX3_has 4 = .ok (.iand, 1) := dk_126 (dk_at dksX3_has_0 4 rfl rfl)
theorem dX3_has_5 : decode cX3_has 5 = .ok (.iconst 1, 1) := dk_4 (dk_at dksX3_has_0 5 rfl rfl)
theorem dX3_has_6 : decode cX3_has 6 = .ok (.if_icmp .ne 7, 3) := dk_160 0 7 (dk_at dksX3_has_0 6 rfl rfl)
theorem dX3_has_9 : decode cX3_has 9 = .ok (.iconst 1, 1) := dk_4 (dk_at dksX3_has_0 9 rfl rfl)
theorem dX3_has_10 : decode cX3_has 10 = .ok (.goto 4, 3) := dk_167 0 4 (dk_at dksX3_has_0 10 rfl rfl)
theorem dX3_has_13 : decode cX3_has 13 = .ok (.iconst 0, 1) := dk_3 (dk_at dksX3_has_0 13 rfl rfl)
theorem dX3_has_14 : decode cX3_has 14 = .ok (.ireturn, 1) := dk_172 (dk_at dksX3_has_0 14 rfl rfl)
abbrev cX3_fresh : ByteArray := prog_9_method_21_code
def yX3_fresh : MethodName := ⟨RX3, "fresh", "(II)I"⟩
def dkwX3_fresh_3 : List UInt8 := [180, 0, 190, 4, 96, 181, 0, 190, 29, 172]
abbrev dktX3_fresh_3 : List UInt8 := dkwX3_fresh_3 ++ []
def dkwX3_fresh_2 : List UInt8 := [180, 0, 23, 29, 27, 79, 42, 180, 0, 26, 29, 3, 79, 42, 180, 0, 29, 29, 28, 79, 42, 89]
abbrev dktX3_fresh_2 : List UInt8 := dkwX3_fresh_2 ++ dktX3_fresh_3
def dkwX3_fresh_1 : List UInt8 := [180, 0, 184, 46, 62, 167, 0, 18, 42, 180, 0, 187, 62, 42, 89, 180, 0, 187, 4, 96, 181, 0, 187, 42]
abbrev dktX3_fresh_1 : List UInt8 := dkwX3_fresh_1 ++ dktX3_fresh_2
def dkwX3_fresh_0 : List UInt8 := [42, 180, 0, 184, 158, 0, 26, 42, 89, 180, 0, 184, 4, 100, 181, 0, 184, 42, 180, 0, 35, 42]
abbrev dktX3_fresh_0 : List UInt8 := dkwX3_fresh_0 ++ dktX3_fresh_1
theorem dksX3_fresh_0 : cX3_fresh.data.toList.drop 0 = dktX3_fresh_0 := by decide +kernel
theorem dksX3_fresh_1 : cX3_fresh.data.toList.drop 22 = dktX3_fresh_1 := dk_seg dksX3_fresh_0 22 rfl rfl
theorem dksX3_fresh_2 : cX3_fresh.data.toList.drop 46 = dktX3_fresh_2 := dk_seg dksX3_fresh_1 24 rfl rfl
theorem dksX3_fresh_3 : cX3_fresh.data.toList.drop 68 = dktX3_fresh_3 := dk_seg dksX3_fresh_2 22 rfl rfl
theorem dX3_fresh_0 : decode cX3_fresh 0 = .ok (.aload_n 0, 1) := dk_42 (dk_at dksX3_fresh_0 0 rfl rfl)
theorem dX3_fresh_1 : decode cX3_fresh 1 = .ok (.getfield 184, 3) := dk_180 0 184 (dk_at dksX3_fresh_0 1 rfl rfl)
theorem dX3_fresh_4 : decode cX3_fresh 4 = .ok (.ifCond .le 26, 3) := dk_158 0 26 (dk_at dksX3_fresh_0 4 rfl rfl)
theorem dX3_fresh_7 : decode cX3_fresh 7 = .ok (.aload_n 0, 1) := dk_42 (dk_at dksX3_fresh_0 7 rfl rfl)
theorem dX3_fresh_8 : decode cX3_fresh 8 = .ok (.dup, 1) := dk_89 (dk_at dksX3_fresh_0 8 rfl rfl)
theorem dX3_fresh_9 : decode cX3_fresh 9 = .ok (.getfield 184, 3) := dk_180 0 184 (dk_at dksX3_fresh_0 9 rfl rfl)
theorem dX3_fresh_12 : decode cX3_fresh 12 = .ok (.iconst 1, 1) := dk_4 (dk_at dksX3_fresh_0 12 rfl rfl)
theorem dX3_fresh_13 : decode cX3_fresh 13 = .ok (.isub, 1) := dk_100 (dk_at dksX3_fresh_0 13 rfl rfl)
theorem dX3_fresh_14 : decode cX3_fresh 14 = .ok (.putfield 184, 3) := dk_181 0 184 (dk_at dksX3_fresh_0 14 rfl rfl)
theorem dX3_fresh_17 : decode cX3_fresh 17 = .ok (.aload_n 0, 1) := dk_42 (dk_at dksX3_fresh_0 17 rfl rfl)
theorem dX3_fresh_18 : decode cX3_fresh 18 = .ok (.getfield 35, 3) := dk_180 0 35 (dk_at dksX3_fresh_0 18 rfl rfl)
theorem dX3_fresh_21 : decode cX3_fresh 21 = .ok (.aload_n 0, 1) := dk_42 (dk_at dksX3_fresh_0 21 rfl rfl)
theorem dX3_fresh_22 : decode cX3_fresh 22 = .ok (.getfield 184, 3) := dk_180 0 184 (dk_at dksX3_fresh_1 0 rfl rfl)
theorem dX3_fresh_25 : decode cX3_fresh 25 = .ok (.iaload, 1) := dk_46 (dk_at dksX3_fresh_1 3 rfl rfl)
theorem dX3_fresh_26 : decode cX3_fresh 26 = .ok (.istore_n 3, 1) := dk_62 (dk_at dksX3_fresh_1 4 rfl rfl)
theorem dX3_fresh_27 : decode cX3_fresh 27 = .ok (.goto 18, 3) := dk_167 0 18 (dk_at dksX3_fresh_1 5 rfl rfl)
theorem dX3_fresh_30 : decode cX3_fresh 30 = .ok (.aload_n 0, 1) := dk_42 (dk_at dksX3_fresh_1 8 rfl rfl)
theorem dX3_fresh_31 : decode cX3_fresh 31 = .ok (.getfield 187, 3) := dk_180 0 187 (dk_at dksX3_fresh_1 9 rfl rfl)
theorem dX3_fresh_34 : decode cX3_fresh 34 = .ok (.istore_n 3, 1) := dk_62 (dk_at dksX3_fresh_1 12 rfl rfl)
theorem dX3_fresh_35 : decode cX3_fresh 35 = .ok (.aload_n 0, 1) := dk_42 (dk_at dksX3_fresh_1 13 rfl rfl)
theorem dX3_fresh_36 : decode cX3_fresh 36 = .ok (.dup, 1) := dk_89 (dk_at dksX3_fresh_1 14 rfl rfl)
theorem dX3_fresh_37 : decode cX3_fresh 37 = .ok (.getfield 187, 3) := dk_180 0 187 (dk_at dksX3_fresh_1 15 rfl rfl)
theorem dX3_fresh_40 : decode cX3_fresh 40 = .ok (.iconst 1, 1) := dk_4 (dk_at dksX3_fresh_1 18 rfl rfl)
theorem dX3_fresh_41 : decode cX3_fresh 41 = .ok (.iadd, 1) := dk_96 (dk_at dksX3_fresh_1 19 rfl rfl)
theorem dX3_fresh_42 : decode cX3_fresh 42 = .ok (.putfield 187, 3) := dk_181 0 187 (dk_at dksX3_fresh_1 20 rfl rfl)
theorem dX3_fresh_45 : decode cX3_fresh 45 = .ok (.aload_n 0, 1) := dk_42 (dk_at dksX3_fresh_1 23 rfl rfl)
theorem dX3_fresh_46 : decode cX3_fresh 46 = .ok (.getfield 23, 3) := dk_180 0 23 (dk_at dksX3_fresh_2 0 rfl rfl)
theorem dX3_fresh_49 : decode cX3_fresh 49 = .ok (.iload_n 3, 1) := dk_29 (dk_at dksX3_fresh_2 3 rfl rfl)
theorem dX3_fresh_50 : decode cX3_fresh 50 = .ok (.iload_n 1, 1) := dk_27 (dk_at dksX3_fresh_2 4 rfl rfl)
theorem dX3_fresh_51 : decode cX3_fresh 51 = .ok (.iastore, 1) := dk_79 (dk_at dksX3_fresh_2 5 rfl rfl)
theorem dX3_fresh_52 : decode cX3_fresh 52 = .ok (.aload_n 0, 1) := dk_42 (dk_at dksX3_fresh_2 6 rfl rfl)
theorem dX3_fresh_53 : decode cX3_fresh 53 = .ok (.getfield 26, 3) := dk_180 0 26 (dk_at dksX3_fresh_2 7 rfl rfl)
theorem dX3_fresh_56 : decode cX3_fresh 56 = .ok (.iload_n 3, 1) := dk_29 (dk_at dksX3_fresh_2 10 rfl rfl)
theorem dX3_fresh_57 : decode cX3_fresh 57 = .ok (.iconst 0, 1) := dk_3 (dk_at dksX3_fresh_2 11 rfl rfl)
theorem dX3_fresh_58 : decode cX3_fresh 58 = .ok (.iastore, 1) := dk_79 (dk_at dksX3_fresh_2 12 rfl rfl)
theorem dX3_fresh_59 : decode cX3_fresh 59 = .ok (.aload_n 0, 1) := dk_42 (dk_at dksX3_fresh_2 13 rfl rfl)
theorem dX3_fresh_60 : decode cX3_fresh 60 = .ok (.getfield 29, 3) := dk_180 0 29 (dk_at dksX3_fresh_2 14 rfl rfl)
theorem dX3_fresh_63 : decode cX3_fresh 63 = .ok (.iload_n 3, 1) := dk_29 (dk_at dksX3_fresh_2 17 rfl rfl)
theorem dX3_fresh_64 : decode cX3_fresh 64 = .ok (.iload_n 2, 1) := dk_28 (dk_at dksX3_fresh_2 18 rfl rfl)
theorem dX3_fresh_65 : decode cX3_fresh 65 = .ok (.iastore, 1) := dk_79 (dk_at dksX3_fresh_2 19 rfl rfl)
theorem dX3_fresh_66 : decode cX3_fresh 66 = .ok (.aload_n 0, 1) := dk_42 (dk_at dksX3_fresh_2 20 rfl rfl)
theorem dX3_fresh_67 : decode cX3_fresh 67 = .ok (.dup, 1) := dk_89 (dk_at dksX3_fresh_2 21 rfl rfl)
theorem dX3_fresh_68 : decode cX3_fresh 68 = .ok (.getfield 190, 3) := dk_180 0 190 (dk_at dksX3_fresh_3 0 rfl rfl)
theorem dX3_fresh_71 : decode cX3_fresh 71 = .ok (.iconst 1, 1) := dk_4 (dk_at dksX3_fresh_3 3 rfl rfl)
theorem dX3_fresh_72 : decode cX3_fresh 72 = .ok (.iadd, 1) := dk_96 (dk_at dksX3_fresh_3 4 rfl rfl)
theorem dX3_fresh_73 : decode cX3_fresh 73 = .ok (.putfield 190, 3) := dk_181 0 190 (dk_at dksX3_fresh_3 5 rfl rfl)
theorem dX3_fresh_76 : decode cX3_fresh 76 = .ok (.iload_n 3, 1) := dk_29 (dk_at dksX3_fresh_3 8 rfl rfl)
theorem dX3_fresh_77 : decode cX3_fresh 77 = .ok (.ireturn, 1) := dk_172 (dk_at dksX3_fresh_3 9 rfl rfl)
abbrev cX3_puts : ByteArray := prog_9_method_33_code
def yX3_puts : MethodName := ⟨RX3, "puts", "(IIII)I"⟩
def dkwX3_puts_10 : List UInt8 := [132, 8, 255, 167, 255, 142, 21, 5, 172]
abbrev dktX3_puts_10 : List UInt8 := dkwX3_puts_10 ++ []
def dkwX3_puts_9 : List UInt8 := [180, 0, 49, 3, 46, 3, 182, 0, 225, 42, 21, 10, 4, 21, 9, 3, 182, 0, 225, 21, 10, 54, 5]
abbrev dktX3_puts_9 : List UInt8 := dkwX3_puts_9 ++ dktX3_puts_10
def dkwX3_puts_8 : List UInt8 := [21, 9, 3, 182, 0, 225, 167, 0, 40, 42, 3, 21, 4, 182, 0, 193, 54, 10, 42, 21, 10, 3, 42]
abbrev dktX3_puts_8 : List UInt8 := dkwX3_puts_8 ++ dktX3_puts_9
def dkwX3_puts_7 : List UInt8 := [158, 0, 33, 42, 42, 180, 0, 49, 21, 8, 4, 100, 46, 42, 180, 0, 52, 21, 8, 4, 100, 46, 4, 96]
abbrev dktX3_puts_7 : List UInt8 := dkwX3_puts_7 ++ dktX3_puts_8
def dkwX3_puts_6 : List UInt8 := [180, 0, 45, 164, 0, 96, 42, 42, 180, 0, 49, 21, 8, 46, 21, 4, 182, 0, 229, 54, 9, 21, 8]
abbrev dktX3_puts_6 : List UInt8 := dkwX3_puts_6 ++ dktX3_puts_7
def dkwX3_puts_5 : List UInt8 := [180, 0, 215, 54, 8, 21, 8, 155, 0, 115, 42, 180, 0, 26, 42, 180, 0, 49, 21, 8, 46, 46, 42]
abbrev dktX3_puts_5 : List UInt8 := dkwX3_puts_5 ++ dktX3_puts_6
def dkwX3_puts_4 : List UInt8 := [46, 28, 162, 0, 9, 132, 7, 1, 167, 255, 224, 42, 21, 6, 21, 7, 28, 29, 182, 0, 225, 42]
abbrev dktX3_puts_4 : List UInt8 := dkwX3_puts_4 ++ dktX3_puts_5
def dkwX3_puts_3 : List UInt8 := [21, 7, 42, 180, 0, 26, 21, 6, 46, 162, 0, 26, 42, 180, 0, 39, 16, 7, 21, 6, 104, 21, 7, 96]
abbrev dktX3_puts_3 : List UInt8 := dkwX3_puts_3 ++ dktX3_puts_4
def dkwX3_puts_2 : List UInt8 := [159, 0, 20, 42, 180, 0, 42, 16, 7, 21, 6, 104, 21, 7, 96, 29, 79, 21, 5, 172, 3, 54, 7]
abbrev dktX3_puts_2 : List UInt8 := dkwX3_puts_2 ++ dktX3_puts_3
def dkwX3_puts_1 : List UInt8 := [180, 0, 49, 42, 180, 0, 215, 46, 54, 6, 42, 21, 6, 28, 182, 0, 209, 54, 7, 21, 7, 2]
abbrev dktX3_puts_1 : List UInt8 := dkwX3_puts_1 ++ dktX3_puts_2
def dkwX3_puts_0 : List UInt8 := [42, 27, 28, 182, 0, 218, 29, 160, 0, 5, 27, 172, 42, 27, 28, 21, 4, 182, 0, 221, 54, 5, 42]
abbrev dktX3_puts_0 : List UInt8 := dkwX3_puts_0 ++ dktX3_puts_1
theorem dksX3_puts_0 : cX3_puts.data.toList.drop 0 = dktX3_puts_0 := by decide +kernel
theorem dksX3_puts_1 : cX3_puts.data.toList.drop 23 = dktX3_puts_1 := dk_seg dksX3_puts_0 23 rfl rfl
theorem dksX3_puts_2 : cX3_puts.data.toList.drop 45 = dktX3_puts_2 := dk_seg dksX3_puts_1 22 rfl rfl
theorem dksX3_puts_3 : cX3_puts.data.toList.drop 68 = dktX3_puts_3 := dk_seg dksX3_puts_2 23 rfl rfl
theorem dksX3_puts_4 : cX3_puts.data.toList.drop 92 = dktX3_puts_4 := dk_seg dksX3_puts_3 24 rfl rfl
theorem dksX3_puts_5 : cX3_puts.data.toList.drop 114 = dktX3_puts_5 := dk_seg dksX3_puts_4 22 rfl rfl
theorem dksX3_puts_6 : cX3_puts.data.toList.drop 137 = dktX3_puts_6 := dk_seg dksX3_puts_5 23 rfl rfl
theorem dksX3_puts_7 : cX3_puts.data.toList.drop 160 = dktX3_puts_7 := dk_seg dksX3_puts_6 23 rfl rfl
theorem dksX3_puts_8 : cX3_puts.data.toList.drop 184 = dktX3_puts_8 := dk_seg dksX3_puts_7 24 rfl rfl
theorem dksX3_puts_9 : cX3_puts.data.toList.drop 207 = dktX3_puts_9 := dk_seg dksX3_puts_8 23 rfl rfl
theorem dksX3_puts_10 : cX3_puts.data.toList.drop 230 = dktX3_puts_10 := dk_seg dksX3_puts_9 23 rfl rfl
theorem dX3_puts_0 : decode cX3_puts 0 = .ok (.aload_n 0, 1) := dk_42 (dk_at dksX3_puts_0 0 rfl rfl)
theorem dX3_puts_1 : decode cX3_puts 1 = .ok (.iload_n 1, 1) := dk_27 (dk_at dksX3_puts_0 1 rfl rfl)
theorem dX3_puts_2 : decode cX3_puts 2 = .ok (.iload_n 2, 1) := dk_28 (dk_at dksX3_puts_0 2 rfl rfl)
theorem dX3_puts_3 : decode cX3_puts 3 = .ok (.invokevirtual 218, 3) := dk_182 0 218 (dk_at dksX3_puts_0 3 rfl rfl)
theorem dX3_puts_6 : decode cX3_puts 6 = .ok (.iload_n 3, 1) := dk_29 (dk_at dksX3_puts_0 6 rfl rfl)
theorem dX3_puts_7 : decode cX3_puts 7 = .ok (.if_icmp .ne 5, 3) := dk_160 0 5 (dk_at dksX3_puts_0 7 rfl rfl)
theorem dX3_puts_10 : decode cX3_puts 10 = .ok (.iload_n 1, 1) := dk_27 (dk_at dksX3_puts_0 10 rfl rfl)
theorem dX3_puts_11 : decode cX3_puts 11 = .ok (.ireturn, 1) := dk_172 (dk_at dksX3_puts_0 11 rfl rfl)
theorem dX3_puts_12 : decode cX3_puts 12 = .ok (.aload_n 0, 1) := dk_42 (dk_at dksX3_puts_0 12 rfl rfl)
theorem dX3_puts_13 : decode cX3_puts 13 = .ok (.iload_n 1, 1) := dk_27 (dk_at dksX3_puts_0 13 rfl rfl)
theorem dX3_puts_14 : decode cX3_puts 14 = .ok (.iload_n 2, 1) := dk_28 (dk_at dksX3_puts_0 14 rfl rfl)
theorem dX3_puts_15 : decode cX3_puts 15 = .ok (.iload 4, 2) := dk_21 4 (dk_at dksX3_puts_0 15 rfl rfl)
theorem dX3_puts_17 : decode cX3_puts 17 = .ok (.invokevirtual 221, 3) := dk_182 0 221 (dk_at dksX3_puts_0 17 rfl rfl)
theorem dX3_puts_20 : decode cX3_puts 20 = .ok (.istore 5, 2) := dk_54 5 (dk_at dksX3_puts_0 20 rfl rfl)
theorem dX3_puts_22 : decode cX3_puts 22 = .ok (.aload_n 0, 1) := dk_42 (dk_at dksX3_puts_0 22 rfl rfl)
theorem dX3_puts_23 : decode cX3_puts 23 = .ok (.getfield 49, 3) := dk_180 0 49 (dk_at dksX3_puts_1 0 rfl rfl)
theorem dX3_puts_26 : decode cX3_puts 26 = .ok (.aload_n 0, 1) := dk_42 (dk_at dksX3_puts_1 3 rfl rfl)
theorem dX3_puts_27 : decode cX3_puts 27 = .ok (.getfield 215, 3) := dk_180 0 215 (dk_at dksX3_puts_1 4 rfl rfl)
theorem dX3_puts_30 : decode cX3_puts 30 = .ok (.iaload, 1) := dk_46 (dk_at dksX3_puts_1 7 rfl rfl)
theorem dX3_puts_31 : decode cX3_puts 31 = .ok (.istore 6, 2) := dk_54 6 (dk_at dksX3_puts_1 8 rfl rfl)
theorem dX3_puts_33 : decode cX3_puts 33 = .ok (.aload_n 0, 1) := dk_42 (dk_at dksX3_puts_1 10 rfl rfl)
theorem dX3_puts_34 : decode cX3_puts 34 = .ok (.iload 6, 2) := dk_21 6 (dk_at dksX3_puts_1 11 rfl rfl)
theorem dX3_puts_36 : decode cX3_puts 36 = .ok (.iload_n 2, 1) := dk_28 (dk_at dksX3_puts_1 13 rfl rfl)
theorem dX3_puts_37 : decode cX3_puts 37 = .ok (.invokevirtual 209, 3) := dk_182 0 209 (dk_at dksX3_puts_1 14 rfl rfl)
theorem dX3_puts_40 : decode cX3_puts 40 = .ok (.istore 7, 2) := dk_54 7 (dk_at dksX3_puts_1 17 rfl rfl)
theorem dX3_puts_42 : decode cX3_puts 42 = .ok (.iload 7, 2) := dk_21 7 (dk_at dksX3_puts_1 19 rfl rfl)
theorem dX3_puts_44 : decode cX3_puts 44 = .ok (.iconst (-1), 1) := dk_2 (dk_at dksX3_puts_1 21 rfl rfl)
theorem dX3_puts_45 : decode cX3_puts 45 = .ok (.if_icmp .eq 20, 3) := dk_159 0 20 (dk_at dksX3_puts_2 0 rfl rfl)
theorem dX3_puts_48 : decode cX3_puts 48 = .ok (.aload_n 0, 1) := dk_42 (dk_at dksX3_puts_2 3 rfl rfl)
theorem dX3_puts_49 : decode cX3_puts 49 = .ok (.getfield 42, 3) := dk_180 0 42 (dk_at dksX3_puts_2 4 rfl rfl)
theorem dX3_puts_52 : decode cX3_puts 52 = .ok (.bipush 7, 2) := dk_16 7 (dk_at dksX3_puts_2 7 rfl rfl)
theorem dX3_puts_54 : decode cX3_puts 54 = .ok (.iload 6, 2) := dk_21 6 (dk_at dksX3_puts_2 9 rfl rfl)
theorem dX3_puts_56 : decode cX3_puts 56 = .ok (.imul, 1) := dk_104 (dk_at dksX3_puts_2 11 rfl rfl)
theorem dX3_puts_57 : decode cX3_puts 57 = .ok (.iload 7, 2) := dk_21 7 (dk_at dksX3_puts_2 12 rfl rfl)
theorem dX3_puts_59 : decode cX3_puts 59 = .ok (.iadd, 1) := dk_96 (dk_at dksX3_puts_2 14 rfl rfl)
theorem dX3_puts_60 : decode cX3_puts 60 = .ok (.iload_n 3, 1) := dk_29 (dk_at dksX3_puts_2 15 rfl rfl)
theorem dX3_puts_61 : decode cX3_puts 61 = .ok (.iastore, 1) := dk_79 (dk_at dksX3_puts_2 16 rfl rfl)
theorem dX3_puts_62 : decode cX3_puts 62 = .ok (.iload 5, 2) := dk_21 5 (dk_at dksX3_puts_2 17 rfl rfl)
theorem dX3_puts_64 : decode cX3_puts 64 = .ok (.ireturn, 1) := dk_172 (dk_at dksX3_puts_2 19 rfl rfl)
theorem dX3_puts_65 : decode cX3_puts 65 = .ok (.iconst 0, 1) := dk_3 (dk_at dksX3_puts_2 20 rfl rfl)
theorem dX3_puts_66 : decode cX3_puts 66 = .ok (.istore 7, 2) := dk_54 7 (dk_at dksX3_puts_2 21 rfl rfl)
theorem dX3_puts_68 : decode cX3_puts 68 = .ok (.iload 7, 2) := dk_21 7 (dk_at dksX3_puts_3 0 rfl rfl)
theorem dX3_puts_70 : decode cX3_puts 70 = .ok (.aload_n 0, 1) := dk_42 (dk_at dksX3_puts_3 2 rfl rfl)
theorem dX3_puts_71 : decode cX3_puts 71 = .ok (.getfield 26, 3) := dk_180 0 26 (dk_at dksX3_puts_3 3 rfl rfl)
theorem dX3_puts_74 : decode cX3_puts 74 = .ok (.iload 6, 2) := dk_21 6 (dk_at dksX3_puts_3 6 rfl rfl)
theorem dX3_puts_76 : decode cX3_puts 76 = .ok (.iaload, 1) := dk_46 (dk_at dksX3_puts_3 8 rfl rfl)
theorem dX3_puts_77 : decode cX3_puts 77 = .ok (.if_icmp .ge 26, 3) := dk_162 0 26 (dk_at dksX3_puts_3 9 rfl rfl)
theorem dX3_puts_80 : decode cX3_puts 80 = .ok (.aload_n 0, 1) := dk_42 (dk_at dksX3_puts_3 12 rfl rfl)
theorem dX3_puts_81 : decode cX3_puts 81 = .ok (.getfield 39, 3) := dk_180 0 39 (dk_at dksX3_puts_3 13 rfl rfl)
theorem dX3_puts_84 : decode cX3_puts 84 = .ok (.bipush 7, 2) := dk_16 7 (dk_at dksX3_puts_3 16 rfl rfl)
theorem dX3_puts_86 : decode cX3_puts 86 = .ok (.iload 6, 2) := dk_21 6 (dk_at dksX3_puts_3 18 rfl rfl)
theorem dX3_puts_88 : decode cX3_puts 88 = .ok (.imul, 1) := dk_104 (dk_at dksX3_puts_3 20 rfl rfl)
theorem dX3_puts_89 : decode cX3_puts 89 = .ok (.iload 7, 2) := dk_21 7 (dk_at dksX3_puts_3 21 rfl rfl)
theorem dX3_puts_91 : decode cX3_puts 91 = .ok (.iadd, 1) := dk_96 (dk_at dksX3_puts_3 23 rfl rfl)
theorem dX3_puts_92 : decode cX3_puts 92 = .ok (.iaload, 1) := dk_46 (dk_at dksX3_puts_4 0 rfl rfl)
theorem dX3_puts_93 : decode cX3_puts 93 = .ok (.iload_n 2, 1) := dk_28 (dk_at dksX3_puts_4 1 rfl rfl)
theorem dX3_puts_94 : decode cX3_puts 94 = .ok (.if_icmp .ge 9, 3) := dk_162 0 9 (dk_at dksX3_puts_4 2 rfl rfl)
theorem dX3_puts_97 : decode cX3_puts 97 = .ok (.iinc 7 1, 3) := dk_132 7 1 (dk_at dksX3_puts_4 5 rfl rfl)
theorem dX3_puts_100 : decode cX3_puts 100 = .ok (.goto (-32), 3) := dk_167 255 224 (dk_at dksX3_puts_4 8 rfl rfl)
theorem dX3_puts_103 : decode cX3_puts 103 = .ok (.aload_n 0, 1) := dk_42 (dk_at dksX3_puts_4 11 rfl rfl)
theorem dX3_puts_104 : decode cX3_puts 104 = .ok (.iload 6, 2) := dk_21 6 (dk_at dksX3_puts_4 12 rfl rfl)
theorem dX3_puts_106 : decode cX3_puts 106 = .ok (.iload 7, 2) := dk_21 7 (dk_at dksX3_puts_4 14 rfl rfl)
theorem dX3_puts_108 : decode cX3_puts 108 = .ok (.iload_n 2, 1) := dk_28 (dk_at dksX3_puts_4 16 rfl rfl)
theorem dX3_puts_109 : decode cX3_puts 109 = .ok (.iload_n 3, 1) := dk_29 (dk_at dksX3_puts_4 17 rfl rfl)
theorem dX3_puts_110 : decode cX3_puts 110 = .ok (.invokevirtual 225, 3) := dk_182 0 225 (dk_at dksX3_puts_4 18 rfl rfl)
theorem dX3_puts_113 : decode cX3_puts 113 = .ok (.aload_n 0, 1) := dk_42 (dk_at dksX3_puts_4 21 rfl rfl)
theorem dX3_puts_114 : decode cX3_puts 114 = .ok (.getfield 215, 3) := dk_180 0 215 (dk_at dksX3_puts_5 0 rfl rfl)
theorem dX3_puts_117 : decode cX3_puts 117 = .ok (.istore 8, 2) := dk_54 8 (dk_at dksX3_puts_5 3 rfl rfl)
theorem dX3_puts_119 : decode cX3_puts 119 = .ok (.iload 8, 2) := dk_21 8 (dk_at dksX3_puts_5 5 rfl rfl)
theorem dX3_puts_121 : decode cX3_puts 121 = .ok (.ifCond .lt 115, 3) := dk_155 0 115 (dk_at dksX3_puts_5 7 rfl rfl)
theorem dX3_puts_124 : decode cX3_puts 124 = .ok (.aload_n 0, 1) := dk_42 (dk_at dksX3_puts_5 10 rfl rfl)
theorem dX3_puts_125 : decode cX3_puts 125 = .ok (.getfield 26, 3) := dk_180 0 26 (dk_at dksX3_puts_5 11 rfl rfl)
theorem dX3_puts_128 : decode cX3_puts 128 = .ok (.aload_n 0, 1) := dk_42 (dk_at dksX3_puts_5 14 rfl rfl)
theorem dX3_puts_129 : decode cX3_puts 129 = .ok (.getfield 49, 3) := dk_180 0 49 (dk_at dksX3_puts_5 15 rfl rfl)
theorem dX3_puts_132 : decode cX3_puts 132 = .ok (.iload 8, 2) := dk_21 8 (dk_at dksX3_puts_5 18 rfl rfl)
theorem dX3_puts_134 : decode cX3_puts 134 = .ok (.iaload, 1) := dk_46 (dk_at dksX3_puts_5 20 rfl rfl)
theorem dX3_puts_135 : decode cX3_puts 135 = .ok (.iaload, 1) := dk_46 (dk_at dksX3_puts_5 21 rfl rfl)
theorem dX3_puts_136 : decode cX3_puts 136 = .ok (.aload_n 0, 1) := dk_42 (dk_at dksX3_puts_5 22 rfl rfl)
theorem dX3_puts_137 : decode cX3_puts 137 = .ok (.getfield 45, 3) := dk_180 0 45 (dk_at dksX3_puts_6 0 rfl rfl)
theorem dX3_puts_140 : decode cX3_puts 140 = .ok (.if_icmp .le 96, 3) := dk_164 0 96 (dk_at dksX3_puts_6 3 rfl rfl)
theorem dX3_puts_143 : decode cX3_puts 143 = .ok (.aload_n 0, 1) := dk_42 (dk_at dksX3_puts_6 6 rfl rfl)
theorem dX3_puts_144 : decode cX3_puts 144 = .ok (.aload_n 0, 1) := dk_42 (dk_at dksX3_puts_6 7 rfl rfl)
theorem dX3_puts_145 : decode cX3_puts 145 = .ok (.getfield 49, 3) := dk_180 0 49 (dk_at dksX3_puts_6 8 rfl rfl)
theorem dX3_puts_148 : decode cX3_puts 148 = .ok (.iload 8, 2) := dk_21 8 (dk_at dksX3_puts_6 11 rfl rfl)
theorem dX3_puts_150 : decode cX3_puts 150 = .ok (.iaload, 1) := dk_46 (dk_at dksX3_puts_6 13 rfl rfl)
theorem dX3_puts_151 : decode cX3_puts 151 = .ok (.iload 4, 2) := dk_21 4 (dk_at dksX3_puts_6 14 rfl rfl)
theorem dX3_puts_153 : decode cX3_puts 153 = .ok (.invokevirtual 229, 3) := dk_182 0 229 (dk_at dksX3_puts_6 16 rfl rfl)
theorem dX3_puts_156 : decode cX3_puts 156 = .ok (.istore 9, 2) := dk_54 9 (dk_at dksX3_puts_6 19 rfl rfl)
theorem dX3_puts_158 : decode cX3_puts 158 = .ok (.iload 8, 2) := dk_21 8 (dk_at dksX3_puts_6 21 rfl rfl)
theorem dX3_puts_160 : decode cX3_puts 160 = .ok (.ifCond .le 33, 3) := dk_158 0 33 (dk_at dksX3_puts_7 0 rfl rfl)
theorem dX3_puts_163 : decode cX3_puts 163 = .ok (.aload_n 0, 1) := dk_42 (dk_at dksX3_puts_7 3 rfl rfl)
theorem dX3_puts_164 : decode cX3_puts 164 = .ok (.aload_n 0, 1) := dk_42 (dk_at dksX3_puts_7 4 rfl rfl)
theorem dX3_puts_165 : decode cX3_puts 165 = .ok (.getfield 49, 3) := dk_180 0 49 (dk_at dksX3_puts_7 5 rfl rfl)
theorem dX3_puts_168 : decode cX3_puts 168 = .ok (.iload 8, 2) := dk_21 8 (dk_at dksX3_puts_7 8 rfl rfl)
theorem dX3_puts_170 : decode cX3_puts 170 = .ok (.iconst 1, 1) := dk_4 (dk_at dksX3_puts_7 10 rfl rfl)
theorem dX3_puts_171 : decode cX3_puts 171 = .ok (.isub, 1) := dk_100 (dk_at dksX3_puts_7 11 rfl rfl)
theorem dX3_puts_172 : decode cX3_puts 172 = .ok (.iaload, 1) := dk_46 (dk_at dksX3_puts_7 12 rfl rfl)
theorem dX3_puts_173 : decode cX3_puts 173 = .ok (.aload_n 0, 1) := dk_42 (dk_at dksX3_puts_7 13 rfl rfl)
theorem dX3_puts_174 : decode cX3_puts 174 = .ok (.getfield 52, 3) := dk_180 0 52 (dk_at dksX3_puts_7 14 rfl rfl)
theorem dX3_puts_177 : decode cX3_puts 177 = .ok (.iload 8, 2) := dk_21 8 (dk_at dksX3_puts_7 17 rfl rfl)
theorem dX3_puts_179 : decode cX3_puts 179 = .ok (.iconst 1, 1) := dk_4 (dk_at dksX3_puts_7 19 rfl rfl)
theorem dX3_puts_180 : decode cX3_puts 180 = .ok (.isub, 1) := dk_100 (dk_at dksX3_puts_7 20 rfl rfl)
theorem dX3_puts_181 : decode cX3_puts 181 = .ok (.iaload, 1) := dk_46 (dk_at dksX3_puts_7 21 rfl rfl)
theorem dX3_puts_182 : decode cX3_puts 182 = .ok (.iconst 1, 1) := dk_4 (dk_at dksX3_puts_7 22 rfl rfl)
theorem dX3_puts_183 : decode cX3_puts 183 = .ok (.iadd, 1) := dk_96 (dk_at dksX3_puts_7 23 rfl rfl)
theorem dX3_puts_184 : decode cX3_puts 184 = .ok (.iload 9, 2) := dk_21 9 (dk_at dksX3_puts_8 0 rfl rfl)
theorem dX3_puts_186 : decode cX3_puts 186 = .ok (.iconst 0, 1) := dk_3 (dk_at dksX3_puts_8 2 rfl rfl)
theorem dX3_puts_187 : decode cX3_puts 187 = .ok (.invokevirtual 225, 3) := dk_182 0 225 (dk_at dksX3_puts_8 3 rfl rfl)
theorem dX3_puts_190 : decode cX3_puts 190 = .ok (.goto 40, 3) := dk_167 0 40 (dk_at dksX3_puts_8 6 rfl rfl)
theorem dX3_puts_193 : decode cX3_puts 193 = .ok (.aload_n 0, 1) := dk_42 (dk_at dksX3_puts_8 9 rfl rfl)
theorem dX3_puts_194 : decode cX3_puts 194 = .ok (.iconst 0, 1) := dk_3 (dk_at dksX3_puts_8 10 rfl rfl)
theorem dX3_puts_195 : decode cX3_puts 195 = .ok (.iload 4, 2) := dk_21 4 (dk_at dksX3_puts_8 11 rfl rfl)
theorem dX3_puts_197 : decode cX3_puts 197 = .ok (.invokevirtual 193, 3) := dk_182 0 193 (dk_at dksX3_puts_8 13 rfl rfl)
theorem dX3_puts_200 : decode cX3_puts 200 = .ok (.istore 10, 2) := dk_54 10 (dk_at dksX3_puts_8 16 rfl rfl)
theorem dX3_puts_202 : decode cX3_puts 202 = .ok (.aload_n 0, 1) := dk_42 (dk_at dksX3_puts_8 18 rfl rfl)
theorem dX3_puts_203 : decode cX3_puts 203 = .ok (.iload 10, 2) := dk_21 10 (dk_at dksX3_puts_8 19 rfl rfl)
theorem dX3_puts_205 : decode cX3_puts 205 = .ok (.iconst 0, 1) := dk_3 (dk_at dksX3_puts_8 21 rfl rfl)
theorem dX3_puts_206 : decode cX3_puts 206 = .ok (.aload_n 0, 1) := dk_42 (dk_at dksX3_puts_8 22 rfl rfl)
theorem dX3_puts_207 : decode cX3_puts 207 = .ok (.getfield 49, 3) := dk_180 0 49 (dk_at dksX3_puts_9 0 rfl rfl)
theorem dX3_puts_210 : decode cX3_puts 210 = .ok (.iconst 0, 1) := dk_3 (dk_at dksX3_puts_9 3 rfl rfl)
theorem dX3_puts_211 : decode cX3_puts 211 = .ok (.iaload, 1) := dk_46 (dk_at dksX3_puts_9 4 rfl rfl)
theorem dX3_puts_212 : decode cX3_puts 212 = .ok (.iconst 0, 1) := dk_3 (dk_at dksX3_puts_9 5 rfl rfl)
theorem dX3_puts_213 : decode cX3_puts 213 = .ok (.invokevirtual 225, 3) := dk_182 0 225 (dk_at dksX3_puts_9 6 rfl rfl)
theorem dX3_puts_216 : decode cX3_puts 216 = .ok (.aload_n 0, 1) := dk_42 (dk_at dksX3_puts_9 9 rfl rfl)
theorem dX3_puts_217 : decode cX3_puts 217 = .ok (.iload 10, 2) := dk_21 10 (dk_at dksX3_puts_9 10 rfl rfl)
theorem dX3_puts_219 : decode cX3_puts 219 = .ok (.iconst 1, 1) := dk_4 (dk_at dksX3_puts_9 12 rfl rfl)
theorem dX3_puts_220 : decode cX3_puts 220 = .ok (.iload 9, 2) := dk_21 9 (dk_at dksX3_puts_9 13 rfl rfl)
theorem dX3_puts_222 : decode cX3_puts 222 = .ok (.iconst 0, 1) := dk_3 (dk_at dksX3_puts_9 15 rfl rfl)
theorem dX3_puts_223 : decode cX3_puts 223 = .ok (.invokevirtual 225, 3) := dk_182 0 225 (dk_at dksX3_puts_9 16 rfl rfl)
theorem dX3_puts_226 : decode cX3_puts 226 = .ok (.iload 10, 2) := dk_21 10 (dk_at dksX3_puts_9 19 rfl rfl)
theorem dX3_puts_228 : decode cX3_puts 228 = .ok (.istore 5, 2) := dk_54 5 (dk_at dksX3_puts_9 21 rfl rfl)
theorem dX3_puts_230 : decode cX3_puts 230 = .ok (.iinc 8 (-1), 3) := dk_132 8 255 (dk_at dksX3_puts_10 0 rfl rfl)
theorem dX3_puts_233 : decode cX3_puts 233 = .ok (.goto (-114), 3) := dk_167 255 142 (dk_at dksX3_puts_10 3 rfl rfl)
theorem dX3_puts_236 : decode cX3_puts 236 = .ok (.iload 5, 2) := dk_21 5 (dk_at dksX3_puts_10 6 rfl rfl)
theorem dX3_puts_238 : decode cX3_puts 238 = .ok (.ireturn, 1) := dk_172 (dk_at dksX3_puts_10 8 rfl rfl)
abbrev cX3_valueAt : ByteArray := prog_9_method_28_code
def yX3_valueAt : MethodName := ⟨RX3, "valueAt", "(II)I"⟩
def dkwX3_valueAt_1 : List UInt8 := [167, 0, 15, 42, 180, 0, 42, 16, 7, 29, 104, 21, 4, 96, 46, 172]
abbrev dktX3_valueAt_1 : List UInt8 := dkwX3_valueAt_1 ++ []
def dkwX3_valueAt_0 : List UInt8 := [42, 27, 28, 182, 0, 206, 62, 42, 29, 28, 182, 0, 209, 54, 4, 21, 4, 2, 160, 0, 8, 18, 170]
abbrev dktX3_valueAt_0 : List UInt8 := dkwX3_valueAt_0 ++ dktX3_valueAt_1
theorem dksX3_valueAt_0 : cX3_valueAt.data.toList.drop 0 = dktX3_valueAt_0 := by decide +kernel
theorem dksX3_valueAt_1 : cX3_valueAt.data.toList.drop 23 = dktX3_valueAt_1 := dk_seg dksX3_valueAt_0 23 rfl rfl
theorem dX3_valueAt_0 : decode cX3_valueAt 0 = .ok (.aload_n 0, 1) := dk_42 (dk_at dksX3_valueAt_0 0 rfl rfl)
theorem dX3_valueAt_1 : decode cX3_valueAt 1 = .ok (.iload_n 1, 1) := dk_27 (dk_at dksX3_valueAt_0 1 rfl rfl)
theorem dX3_valueAt_2 : decode cX3_valueAt 2 = .ok (.iload_n 2, 1) := dk_28 (dk_at dksX3_valueAt_0 2 rfl rfl)
theorem dX3_valueAt_3 : decode cX3_valueAt 3 = .ok (.invokevirtual 206, 3) := dk_182 0 206 (dk_at dksX3_valueAt_0 3 rfl rfl)
theorem dX3_valueAt_6 : decode cX3_valueAt 6 = .ok (.istore_n 3, 1) := dk_62 (dk_at dksX3_valueAt_0 6 rfl rfl)
theorem dX3_valueAt_7 : decode cX3_valueAt 7 = .ok (.aload_n 0, 1) := dk_42 (dk_at dksX3_valueAt_0 7 rfl rfl)
theorem dX3_valueAt_8 : decode cX3_valueAt 8 = .ok (.iload_n 3, 1) := dk_29 (dk_at dksX3_valueAt_0 8 rfl rfl)
theorem dX3_valueAt_9 : decode cX3_valueAt 9 = .ok (.iload_n 2, 1) := dk_28 (dk_at dksX3_valueAt_0 9 rfl rfl)
theorem dX3_valueAt_10 : decode cX3_valueAt 10 = .ok (.invokevirtual 209, 3) := dk_182 0 209 (dk_at dksX3_valueAt_0 10 rfl rfl)
theorem dX3_valueAt_13 : decode cX3_valueAt 13 = .ok (.istore 4, 2) := dk_54 4 (dk_at dksX3_valueAt_0 13 rfl rfl)
theorem dX3_valueAt_15 : decode cX3_valueAt 15 = .ok (.iload 4, 2) := dk_21 4 (dk_at dksX3_valueAt_0 15 rfl rfl)
theorem dX3_valueAt_17 : decode cX3_valueAt 17 = .ok (.iconst (-1), 1) := dk_2 (dk_at dksX3_valueAt_0 17 rfl rfl)
theorem dX3_valueAt_18 : decode cX3_valueAt 18 = .ok (.if_icmp .ne 8, 3) := dk_160 0 8 (dk_at dksX3_valueAt_0 18 rfl rfl)
theorem dX3_valueAt_21 : decode cX3_valueAt 21 = .ok (.ldc 170, 2) := dk_18 170 (dk_at dksX3_valueAt_0 21 rfl rfl)
theorem dX3_valueAt_23 : decode cX3_valueAt 23 = .ok (.goto 15, 3) := dk_167 0 15 (dk_at dksX3_valueAt_1 0 rfl rfl)
theorem dX3_valueAt_26 : decode cX3_valueAt 26 = .ok (.aload_n 0, 1) := dk_42 (dk_at dksX3_valueAt_1 3 rfl rfl)
theorem dX3_valueAt_27 : decode cX3_valueAt 27 = .ok (.getfield 42, 3) := dk_180 0 42 (dk_at dksX3_valueAt_1 4 rfl rfl)
theorem dX3_valueAt_30 : decode cX3_valueAt 30 = .ok (.bipush 7, 2) := dk_16 7 (dk_at dksX3_valueAt_1 7 rfl rfl)
theorem dX3_valueAt_32 : decode cX3_valueAt 32 = .ok (.iload_n 3, 1) := dk_29 (dk_at dksX3_valueAt_1 9 rfl rfl)
theorem dX3_valueAt_33 : decode cX3_valueAt 33 = .ok (.imul, 1) := dk_104 (dk_at dksX3_valueAt_1 10 rfl rfl)
theorem dX3_valueAt_34 : decode cX3_valueAt 34 = .ok (.iload 4, 2) := dk_21 4 (dk_at dksX3_valueAt_1 11 rfl rfl)
theorem dX3_valueAt_36 : decode cX3_valueAt 36 = .ok (.iadd, 1) := dk_96 (dk_at dksX3_valueAt_1 13 rfl rfl)
theorem dX3_valueAt_37 : decode cX3_valueAt 37 = .ok (.iaload, 1) := dk_46 (dk_at dksX3_valueAt_1 14 rfl rfl)
theorem dX3_valueAt_38 : decode cX3_valueAt 38 = .ok (.ireturn, 1) := dk_172 (dk_at dksX3_valueAt_1 15 rfl rfl)
abbrev cX3_leafFor : ByteArray := prog_9_method_26_code
def yX3_leafFor : MethodName := ⟨RX3, "leafFor", "(II)I"⟩
def dkwX3_leafFor_1 : List UInt8 := [167, 255, 235, 29, 172]
abbrev dktX3_leafFor_1 : List UInt8 := dkwX3_leafFor_1 ++ []
def dkwX3_leafFor_0 : List UInt8 := [27, 62, 42, 180, 0, 23, 29, 46, 154, 0, 18, 42, 29, 42, 29, 28, 182, 0, 203, 182, 0, 197, 62]
abbrev dktX3_leafFor_0 : List UInt8 := dkwX3_leafFor_0 ++ dktX3_leafFor_1
theorem dksX3_leafFor_0 : cX3_leafFor.data.toList.drop 0 = dktX3_leafFor_0 := by decide +kernel
theorem dksX3_leafFor_1 : cX3_leafFor.data.toList.drop 23 = dktX3_leafFor_1 := dk_seg dksX3_leafFor_0 23 rfl rfl
theorem dX3_leafFor_0 : decode cX3_leafFor 0 = .ok (.iload_n 1, 1) := dk_27 (dk_at dksX3_leafFor_0 0 rfl rfl)
theorem dX3_leafFor_1 : decode cX3_leafFor 1 = .ok (.istore_n 3, 1) := dk_62 (dk_at dksX3_leafFor_0 1 rfl rfl)
theorem dX3_leafFor_2 : decode cX3_leafFor 2 = .ok (.aload_n 0, 1) := dk_42 (dk_at dksX3_leafFor_0 2 rfl rfl)
theorem dX3_leafFor_3 : decode cX3_leafFor 3 = .ok (.getfield 23, 3) := dk_180 0 23 (dk_at dksX3_leafFor_0 3 rfl rfl)
theorem dX3_leafFor_6 : decode cX3_leafFor 6 = .ok (.iload_n 3, 1) := dk_29 (dk_at dksX3_leafFor_0 6 rfl rfl)
theorem dX3_leafFor_7 : decode cX3_leafFor 7 = .ok (.iaload, 1) := dk_46 (dk_at dksX3_leafFor_0 7 rfl rfl)
theorem dX3_leafFor_8 : decode cX3_leafFor 8 = .ok (.ifCond .ne 18, 3) := dk_154 0 18 (dk_at dksX3_leafFor_0 8 rfl rfl)
theorem dX3_leafFor_11 : decode cX3_leafFor 11 = .ok (.aload_n 0, 1) := dk_42 (dk_at dksX3_leafFor_0 11 rfl rfl)
theorem dX3_leafFor_12 : decode cX3_leafFor 12 = .ok (.iload_n 3, 1) := dk_29 (dk_at dksX3_leafFor_0 12 rfl rfl)
theorem dX3_leafFor_13 : decode cX3_leafFor 13 = .ok (.aload_n 0, 1) := dk_42 (dk_at dksX3_leafFor_0 13 rfl rfl)
theorem dX3_leafFor_14 : decode cX3_leafFor 14 = .ok (.iload_n 3, 1) := dk_29 (dk_at dksX3_leafFor_0 14 rfl rfl)
theorem dX3_leafFor_15 : decode cX3_leafFor 15 = .ok (.iload_n 2, 1) := dk_28 (dk_at dksX3_leafFor_0 15 rfl rfl)
theorem dX3_leafFor_16 : decode cX3_leafFor 16 = .ok (.invokevirtual 203, 3) := dk_182 0 203 (dk_at dksX3_leafFor_0 16 rfl rfl)
theorem dX3_leafFor_19 : decode cX3_leafFor 19 = .ok (.invokevirtual 197, 3) := dk_182 0 197 (dk_at dksX3_leafFor_0 19 rfl rfl)
theorem dX3_leafFor_22 : decode cX3_leafFor 22 = .ok (.istore_n 3, 1) := dk_62 (dk_at dksX3_leafFor_0 22 rfl rfl)
theorem dX3_leafFor_23 : decode cX3_leafFor 23 = .ok (.goto (-21), 3) := dk_167 255 235 (dk_at dksX3_leafFor_1 0 rfl rfl)
theorem dX3_leafFor_26 : decode cX3_leafFor 26 = .ok (.iload_n 3, 1) := dk_29 (dk_at dksX3_leafFor_1 3 rfl rfl)
theorem dX3_leafFor_27 : decode cX3_leafFor 27 = .ok (.ireturn, 1) := dk_172 (dk_at dksX3_leafFor_1 4 rfl rfl)
abbrev cX3_spotFor : ByteArray := prog_9_method_25_code
def yX3_spotFor : MethodName := ⟨RX3, "spotFor", "(II)I"⟩
def dkwX3_spotFor_1 : List UInt8 := [182, 0, 200, 28, 163, 0, 6, 21, 4, 62, 132, 4, 1, 167, 255, 224, 29, 172]
abbrev dktX3_spotFor_1 : List UInt8 := dkwX3_spotFor_1 ++ []
def dkwX3_spotFor_0 : List UInt8 := [3, 62, 4, 54, 4, 21, 4, 42, 180, 0, 26, 27, 46, 162, 0, 27, 42, 42, 27, 21, 4, 182, 0, 197]
abbrev dktX3_spotFor_0 : List UInt8 := dkwX3_spotFor_0 ++ dktX3_spotFor_1
theorem dksX3_spotFor_0 : cX3_spotFor.data.toList.drop 0 = dktX3_spotFor_0 := by decide +kernel
theorem dksX3_spotFor_1 : cX3_spotFor.data.toList.drop 24 = dktX3_spotFor_1 := dk_seg dksX3_spotFor_0 24 rfl rfl
theorem dX3_spotFor_0 : decode cX3_spotFor 0 = .ok (.iconst 0, 1) := dk_3 (dk_at dksX3_spotFor_0 0 rfl rfl)
theorem dX3_spotFor_1 : decode cX3_spotFor 1 = .ok (.istore_n 3, 1) := dk_62 (dk_at dksX3_spotFor_0 1 rfl rfl)
theorem dX3_spotFor_2 : decode cX3_spotFor 2 = .ok (.iconst 1, 1) := dk_4 (dk_at dksX3_spotFor_0 2 rfl rfl)
theorem dX3_spotFor_3 : decode cX3_spotFor 3 = .ok (.istore 4, 2) := dk_54 4 (dk_at dksX3_spotFor_0 3 rfl rfl)
theorem dX3_spotFor_5 : decode cX3_spotFor 5 = .ok (.iload 4, 2) := dk_21 4 (dk_at dksX3_spotFor_0 5 rfl rfl)
theorem dX3_spotFor_7 : decode cX3_spotFor 7 = .ok (.aload_n 0, 1) := dk_42 (dk_at dksX3_spotFor_0 7 rfl rfl)
theorem dX3_spotFor_8 : decode cX3_spotFor 8 = .ok (.getfield 26, 3) := dk_180 0 26 (dk_at dksX3_spotFor_0 8 rfl rfl)
theorem dX3_spotFor_11 : decode cX3_spotFor 11 = .ok (.iload_n 1, 1) := dk_27 (dk_at dksX3_spotFor_0 11 rfl rfl)
theorem dX3_spotFor_12 : decode cX3_spotFor 12 = .ok (.iaload, 1) := dk_46 (dk_at dksX3_spotFor_0 12 rfl rfl)
theorem dX3_spotFor_13 : decode cX3_spotFor 13 = .ok (.if_icmp .ge 27, 3) := dk_162 0 27 (dk_at dksX3_spotFor_0 13 rfl rfl)
theorem dX3_spotFor_16 : decode cX3_spotFor 16 = .ok (.aload_n 0, 1) := dk_42 (dk_at dksX3_spotFor_0 16 rfl rfl)
theorem dX3_spotFor_17 : decode cX3_spotFor 17 = .ok (.aload_n 0, 1) := dk_42 (dk_at dksX3_spotFor_0 17 rfl rfl)
theorem dX3_spotFor_18 : decode cX3_spotFor 18 = .ok (.iload_n 1, 1) := dk_27 (dk_at dksX3_spotFor_0 18 rfl rfl)
theorem dX3_spotFor_19 : decode cX3_spotFor 19 = .ok (.iload 4, 2) := dk_21 4 (dk_at dksX3_spotFor_0 19 rfl rfl)
theorem dX3_spotFor_21 : decode cX3_spotFor 21 = .ok (.invokevirtual 197, 3) := dk_182 0 197 (dk_at dksX3_spotFor_0 21 rfl rfl)
theorem dX3_spotFor_24 : decode cX3_spotFor 24 = .ok (.invokevirtual 200, 3) := dk_182 0 200 (dk_at dksX3_spotFor_1 0 rfl rfl)
theorem dX3_spotFor_27 : decode cX3_spotFor 27 = .ok (.iload_n 2, 1) := dk_28 (dk_at dksX3_spotFor_1 3 rfl rfl)
theorem dX3_spotFor_28 : decode cX3_spotFor 28 = .ok (.if_icmp .gt 6, 3) := dk_163 0 6 (dk_at dksX3_spotFor_1 4 rfl rfl)
theorem dX3_spotFor_31 : decode cX3_spotFor 31 = .ok (.iload 4, 2) := dk_21 4 (dk_at dksX3_spotFor_1 7 rfl rfl)
theorem dX3_spotFor_33 : decode cX3_spotFor 33 = .ok (.istore_n 3, 1) := dk_62 (dk_at dksX3_spotFor_1 9 rfl rfl)
theorem dX3_spotFor_34 : decode cX3_spotFor 34 = .ok (.iinc 4 1, 3) := dk_132 4 1 (dk_at dksX3_spotFor_1 10 rfl rfl)
theorem dX3_spotFor_37 : decode cX3_spotFor 37 = .ok (.goto (-32), 3) := dk_167 255 224 (dk_at dksX3_spotFor_1 13 rfl rfl)
theorem dX3_spotFor_40 : decode cX3_spotFor 40 = .ok (.iload_n 3, 1) := dk_29 (dk_at dksX3_spotFor_1 16 rfl rfl)
theorem dX3_spotFor_41 : decode cX3_spotFor 41 = .ok (.ireturn, 1) := dk_172 (dk_at dksX3_spotFor_1 17 rfl rfl)
abbrev cX3_lowest : ByteArray := prog_9_method_24_code
def yX3_lowest : MethodName := ⟨RX3, "lowest", "(I)I"⟩
def dkwX3_lowest_1 : List UInt8 := [46, 154, 0, 7, 2, 167, 0, 12, 42, 180, 0, 39, 16, 7, 27, 104, 46, 172]
abbrev dktX3_lowest_1 : List UInt8 := dkwX3_lowest_1 ++ []
def dkwX3_lowest_0 : List UInt8 := [42, 180, 0, 23, 27, 46, 154, 0, 13, 42, 27, 3, 182, 0, 197, 60, 167, 255, 240, 42, 180, 0, 26, 27]
abbrev dktX3_lowest_0 : List UInt8 := dkwX3_lowest_0 ++ dktX3_lowest_1
theorem dksX3_lowest_0 : cX3_lowest.data.toList.drop 0 = dktX3_lowest_0 := by decide +kernel
theorem dksX3_lowest_1 : cX3_lowest.data.toList.drop 24 = dktX3_lowest_1 := dk_seg dksX3_lowest_0 24 rfl rfl
theorem dX3_lowest_0 : decode cX3_lowest 0 = .ok (.aload_n 0, 1) := dk_42 (dk_at dksX3_lowest_0 0 rfl rfl)
theorem dX3_lowest_1 : decode cX3_lowest 1 = .ok (.getfield 23, 3) := dk_180 0 23 (dk_at dksX3_lowest_0 1 rfl rfl)
theorem dX3_lowest_4 : decode cX3_lowest 4 = .ok (.iload_n 1, 1) := dk_27 (dk_at dksX3_lowest_0 4 rfl rfl)
theorem dX3_lowest_5 : decode cX3_lowest 5 = .ok (.iaload, 1) := dk_46 (dk_at dksX3_lowest_0 5 rfl rfl)
theorem dX3_lowest_6 : decode cX3_lowest 6 = .ok (.ifCond .ne 13, 3) := dk_154 0 13 (dk_at dksX3_lowest_0 6 rfl rfl)
theorem dX3_lowest_9 : decode cX3_lowest 9 = .ok (.aload_n 0, 1) := dk_42 (dk_at dksX3_lowest_0 9 rfl rfl)
theorem dX3_lowest_10 : decode cX3_lowest 10 = .ok (.iload_n 1, 1) := dk_27 (dk_at dksX3_lowest_0 10 rfl rfl)
theorem dX3_lowest_11 : decode cX3_lowest 11 = .ok (.iconst 0, 1) := dk_3 (dk_at dksX3_lowest_0 11 rfl rfl)
theorem dX3_lowest_12 : decode cX3_lowest 12 = .ok (.invokevirtual 197, 3) := dk_182 0 197 (dk_at dksX3_lowest_0 12 rfl rfl)
theorem dX3_lowest_15 : decode cX3_lowest 15 = .ok (.istore_n 1, 1) := dk_60 (dk_at dksX3_lowest_0 15 rfl rfl)
theorem dX3_lowest_16 : decode cX3_lowest 16 = .ok (.goto (-16), 3) := dk_167 255 240 (dk_at dksX3_lowest_0 16 rfl rfl)
theorem dX3_lowest_19 : decode cX3_lowest 19 = .ok (.aload_n 0, 1) := dk_42 (dk_at dksX3_lowest_0 19 rfl rfl)
theorem dX3_lowest_20 : decode cX3_lowest 20 = .ok (.getfield 26, 3) := dk_180 0 26 (dk_at dksX3_lowest_0 20 rfl rfl)
theorem dX3_lowest_23 : decode cX3_lowest 23 = .ok (.iload_n 1, 1) := dk_27 (dk_at dksX3_lowest_0 23 rfl rfl)
theorem dX3_lowest_24 : decode cX3_lowest 24 = .ok (.iaload, 1) := dk_46 (dk_at dksX3_lowest_1 0 rfl rfl)
theorem dX3_lowest_25 : decode cX3_lowest 25 = .ok (.ifCond .ne 7, 3) := dk_154 0 7 (dk_at dksX3_lowest_1 1 rfl rfl)
theorem dX3_lowest_28 : decode cX3_lowest 28 = .ok (.iconst (-1), 1) := dk_2 (dk_at dksX3_lowest_1 4 rfl rfl)
theorem dX3_lowest_29 : decode cX3_lowest 29 = .ok (.goto 12, 3) := dk_167 0 12 (dk_at dksX3_lowest_1 5 rfl rfl)
theorem dX3_lowest_32 : decode cX3_lowest 32 = .ok (.aload_n 0, 1) := dk_42 (dk_at dksX3_lowest_1 8 rfl rfl)
theorem dX3_lowest_33 : decode cX3_lowest 33 = .ok (.getfield 39, 3) := dk_180 0 39 (dk_at dksX3_lowest_1 9 rfl rfl)
theorem dX3_lowest_36 : decode cX3_lowest 36 = .ok (.bipush 7, 2) := dk_16 7 (dk_at dksX3_lowest_1 12 rfl rfl)
theorem dX3_lowest_38 : decode cX3_lowest 38 = .ok (.iload_n 1, 1) := dk_27 (dk_at dksX3_lowest_1 14 rfl rfl)
theorem dX3_lowest_39 : decode cX3_lowest 39 = .ok (.imul, 1) := dk_104 (dk_at dksX3_lowest_1 15 rfl rfl)
theorem dX3_lowest_40 : decode cX3_lowest 40 = .ok (.iaload, 1) := dk_46 (dk_at dksX3_lowest_1 16 rfl rfl)
theorem dX3_lowest_41 : decode cX3_lowest 41 = .ok (.ireturn, 1) := dk_172 (dk_at dksX3_lowest_1 17 rfl rfl)
abbrev cX3_spotIn : ByteArray := prog_9_method_27_code
def yX3_spotIn : MethodName := ⟨RX3, "spotIn", "(II)I"⟩
def dkwX3_spotIn_1 : List UInt8 := [160, 0, 5, 29, 172, 132, 3, 1, 167, 255, 226, 2, 172]
abbrev dktX3_spotIn_1 : List UInt8 := dkwX3_spotIn_1 ++ []
def dkwX3_spotIn_0 : List UInt8 := [3, 62, 29, 42, 180, 0, 26, 27, 46, 162, 0, 26, 42, 180, 0, 39, 16, 7, 27, 104, 29, 96, 46, 28]
abbrev dktX3_spotIn_0 : List UInt8 := dkwX3_spotIn_0 ++ dktX3_spotIn_1
theorem dksX3_spotIn_0 : cX3_spotIn.data.toList.drop 0 = dktX3_spotIn_0 := by decide +kernel
theorem dksX3_spotIn_1 : cX3_spotIn.data.toList.drop 24 = dktX3_spotIn_1 := dk_seg dksX3_spotIn_0 24 rfl rfl
theorem dX3_spotIn_0 : decode cX3_spotIn 0 = .ok (.iconst 0, 1) := dk_3 (dk_at dksX3_spotIn_0 0 rfl rfl)
theorem dX3_spotIn_1 : decode cX3_spotIn 1 = .ok (.istore_n 3, 1) := dk_62 (dk_at dksX3_spotIn_0 1 rfl rfl)
theorem dX3_spotIn_2 : decode cX3_spotIn 2 = .ok (.iload_n 3, 1) := dk_29 (dk_at dksX3_spotIn_0 2 rfl rfl)
theorem dX3_spotIn_3 : decode cX3_spotIn 3 = .ok (.aload_n 0, 1) := dk_42 (dk_at dksX3_spotIn_0 3 rfl rfl)
theorem dX3_spotIn_4 : decode cX3_spotIn 4 = .ok (.getfield 26, 3) := dk_180 0 26 (dk_at dksX3_spotIn_0 4 rfl rfl)
theorem dX3_spotIn_7 : decode cX3_spotIn 7 = .ok (.iload_n 1, 1) := dk_27 (dk_at dksX3_spotIn_0 7 rfl rfl)
theorem dX3_spotIn_8 : decode cX3_spotIn 8 = .ok (.iaload, 1) := dk_46 (dk_at dksX3_spotIn_0 8 rfl rfl)
theorem dX3_spotIn_9 : decode cX3_spotIn 9 = .ok (.if_icmp .ge 26, 3) := dk_162 0 26 (dk_at dksX3_spotIn_0 9 rfl rfl)
theorem dX3_spotIn_12 : decode cX3_spotIn 12 = .ok (.aload_n 0, 1) := dk_42 (dk_at dksX3_spotIn_0 12 rfl rfl)
theorem dX3_spotIn_13 : decode cX3_spotIn 13 = .ok (.getfield 39, 3) := dk_180 0 39 (dk_at dksX3_spotIn_0 13 rfl rfl)
theorem dX3_spotIn_16 : decode cX3_spotIn 16 = .ok (.bipush 7, 2) := dk_16 7 (dk_at dksX3_spotIn_0 16 rfl rfl)
theorem dX3_spotIn_18 : decode cX3_spotIn 18 = .ok (.iload_n 1, 1) := dk_27 (dk_at dksX3_spotIn_0 18 rfl rfl)
theorem dX3_spotIn_19 : decode cX3_spotIn 19 = .ok (.imul, 1) := dk_104 (dk_at dksX3_spotIn_0 19 rfl rfl)
theorem dX3_spotIn_20 : decode cX3_spotIn 20 = .ok (.iload_n 3, 1) := dk_29 (dk_at dksX3_spotIn_0 20 rfl rfl)
theorem dX3_spotIn_21 : decode cX3_spotIn 21 = .ok (.iadd, 1) := dk_96 (dk_at dksX3_spotIn_0 21 rfl rfl)
theorem dX3_spotIn_22 : decode cX3_spotIn 22 = .ok (.iaload, 1) := dk_46 (dk_at dksX3_spotIn_0 22 rfl rfl)
theorem dX3_spotIn_23 : decode cX3_spotIn 23 = .ok (.iload_n 2, 1) := dk_28 (dk_at dksX3_spotIn_0 23 rfl rfl)
theorem dX3_spotIn_24 : decode cX3_spotIn 24 = .ok (.if_icmp .ne 5, 3) := dk_160 0 5 (dk_at dksX3_spotIn_1 0 rfl rfl)
theorem dX3_spotIn_27 : decode cX3_spotIn 27 = .ok (.iload_n 3, 1) := dk_29 (dk_at dksX3_spotIn_1 3 rfl rfl)
theorem dX3_spotIn_28 : decode cX3_spotIn 28 = .ok (.ireturn, 1) := dk_172 (dk_at dksX3_spotIn_1 4 rfl rfl)
theorem dX3_spotIn_29 : decode cX3_spotIn 29 = .ok (.iinc 3 1, 3) := dk_132 3 1 (dk_at dksX3_spotIn_1 5 rfl rfl)
theorem dX3_spotIn_32 : decode cX3_spotIn 32 = .ok (.goto (-30), 3) := dk_167 255 226 (dk_at dksX3_spotIn_1 8 rfl rfl)
theorem dX3_spotIn_35 : decode cX3_spotIn 35 = .ok (.iconst (-1), 1) := dk_2 (dk_at dksX3_spotIn_1 11 rfl rfl)
theorem dX3_spotIn_36 : decode cX3_spotIn 36 = .ok (.ireturn, 1) := dk_172 (dk_at dksX3_spotIn_1 12 rfl rfl)
abbrev cX3_goesDown : ByteArray := prog_9_method_31_code
def yX3_goesDown : MethodName := ⟨RX3, "goesDown", "(III)I"⟩
def dkwX3_goesDown_5 : List UInt8 := [172]
abbrev dktX3_goesDown_5 : List UInt8 := dkwX3_goesDown_5 ++ []
def dkwX3_goesDown_4 : List UInt8 := [96, 181, 0, 215, 21, 7, 54, 4, 167, 255, 171, 42, 180, 0, 49, 42, 180, 0, 215, 21, 4, 79, 21, 5]
abbrev dktX3_goesDown_4 : List UInt8 := dkwX3_goesDown_4 ++ dktX3_goesDown_5
def dkwX3_goesDown_3 : List UInt8 := [42, 180, 0, 215, 21, 4, 79, 42, 180, 0, 52, 42, 180, 0, 215, 21, 6, 79, 42, 89, 180, 0, 215, 4]
abbrev dktX3_goesDown_3 : List UInt8 := dkwX3_goesDown_3 ++ dktX3_goesDown_4
def dkwX3_goesDown_2 : List UInt8 := [182, 0, 212, 54, 7, 42, 180, 0, 39, 16, 7, 21, 4, 104, 21, 6, 96, 21, 7, 79, 42, 180, 0, 49]
abbrev dktX3_goesDown_2 : List UInt8 := dkwX3_goesDown_2 ++ dktX3_goesDown_3
def dkwX3_goesDown_1 : List UInt8 := [154, 0, 81, 42, 21, 4, 28, 182, 0, 203, 54, 6, 42, 42, 21, 4, 21, 6, 182, 0, 197, 29]
abbrev dktX3_goesDown_1 : List UInt8 := dkwX3_goesDown_1 ++ dktX3_goesDown_2
def dkwX3_goesDown_0 : List UInt8 := [42, 27, 29, 182, 0, 212, 54, 4, 21, 4, 54, 5, 42, 3, 181, 0, 215, 42, 180, 0, 23, 21, 4, 46]
abbrev dktX3_goesDown_0 : List UInt8 := dkwX3_goesDown_0 ++ dktX3_goesDown_1
theorem dksX3_goesDown_0 : cX3_goesDown.data.toList.drop 0 = dktX3_goesDown_0 := by decide +kernel
theorem dksX3_goesDown_1 : cX3_goesDown.data.toList.drop 24 = dktX3_goesDown_1 := dk_seg dksX3_goesDown_0 24 rfl rfl
theorem dksX3_goesDown_2 : cX3_goesDown.data.toList.drop 46 = dktX3_goesDown_2 := dk_seg dksX3_goesDown_1 22 rfl rfl
theorem dksX3_goesDown_3 : cX3_goesDown.data.toList.drop 70 = dktX3_goesDown_3 := dk_seg dksX3_goesDown_2 24 rfl rfl
theorem dksX3_goesDown_4 : cX3_goesDown.data.toList.drop 94 = dktX3_goesDown_4 := dk_seg dksX3_goesDown_3 24 rfl rfl
theorem dksX3_goesDown_5 : cX3_goesDown.data.toList.drop 118 = dktX3_goesDown_5 := dk_seg dksX3_goesDown_4 24 rfl rfl
theorem dX3_goesDown_0 : decode cX3_goesDown 0 = .ok (.aload_n 0, 1) := dk_42 (dk_at dksX3_goesDown_0 0 rfl rfl)
theorem dX3_goesDown_1 : decode cX3_goesDown 1 = .ok (.iload_n 1, 1) := dk_27 (dk_at dksX3_goesDown_0 1 rfl rfl)
theorem dX3_goesDown_2 : decode cX3_goesDown 2 = .ok (.iload_n 3, 1) := dk_29 (dk_at dksX3_goesDown_0 2 rfl rfl)
theorem dX3_goesDown_3 : decode cX3_goesDown 3 = .ok (.invokevirtual 212, 3) := dk_182 0 212 (dk_at dksX3_goesDown_0 3 rfl rfl)
theorem dX3_goesDown_6 : decode cX3_goesDown 6 = .ok (.istore 4, 2) := dk_54 4 (dk_at dksX3_goesDown_0 6 rfl rfl)
theorem dX3_goesDown_8 : decode cX3_goesDown 8 = .ok (.iload 4, 2) := dk_21 4 (dk_at dksX3_goesDown_0 8 rfl rfl)
theorem dX3_goesDown_10 : decode cX3_goesDown 10 = .ok (.istore 5, 2) := dk_54 5 (dk_at dksX3_goesDown_0 10 rfl rfl)
theorem dX3_goesDown_12 : decode cX3_goesDown 12 = .ok (.aload_n 0, 1) := dk_42 (dk_at dksX3_goesDown_0 12 rfl rfl)
theorem dX3_goesDown_13 : decode cX3_goesDown 13 = .ok (.iconst 0, 1) := dk_3 (dk_at dksX3_goesDown_0 13 rfl rfl)
theorem dX3_goesDown_14 : decode cX3_goesDown 14 = .ok (.putfield 215, 3) := dk_181 0 215 (dk_at dksX3_goesDown_0 14 rfl rfl)
theorem dX3_goesDown_17 : decode cX3_goesDown 17 = .ok (.aload_n 0, 1) := dk_42 (dk_at dksX3_goesDown_0 17 rfl rfl)
theorem dX3_goesDown_18 : decode cX3_goesDown 18 = .ok (.getfield 23, 3) := dk_180 0 23 (dk_at dksX3_goesDown_0 18 rfl rfl)
theorem dX3_goesDown_21 : decode cX3_goesDown 21 = .ok (.iload 4, 2) := dk_21 4 (dk_at dksX3_goesDown_0 21 rfl rfl)
theorem dX3_goesDown_23 : decode cX3_goesDown 23 = .ok (.iaload, 1) := dk_46 (dk_at dksX3_goesDown_0 23 rfl rfl)
theorem dX3_goesDown_24 : decode cX3_goesDown 24 = .ok (.ifCond .ne 81, 3) := dk_154 0 81 (dk_at dksX3_goesDown_1 0 rfl rfl)
theorem dX3_goesDown_27 : decode cX3_goesDown 27 = .ok (.aload_n 0, 1) := dk_42 (dk_at dksX3_goesDown_1 3 rfl rfl)
theorem dX3_goesDown_28 : decode cX3_goesDown 28 = .ok (.iload 4, 2) := dk_21 4 (dk_at dksX3_goesDown_1 4 rfl rfl)
theorem dX3_goesDown_30 : decode cX3_goesDown 30 = .ok (.iload_n 2, 1) := dk_28 (dk_at dksX3_goesDown_1 6 rfl rfl)
theorem dX3_goesDown_31 : decode cX3_goesDown 31 = .ok (.invokevirtual 203, 3) := dk_182 0 203 (dk_at dksX3_goesDown_1 7 rfl rfl)
theorem dX3_goesDown_34 : decode cX3_goesDown 34 = .ok (.istore 6, 2) := dk_54 6 (dk_at dksX3_goesDown_1 10 rfl rfl)
theorem dX3_goesDown_36 : decode cX3_goesDown 36 = .ok (.aload_n 0, 1) := dk_42 (dk_at dksX3_goesDown_1 12 rfl rfl)
theorem dX3_goesDown_37 : decode cX3_goesDown 37 = .ok (.aload_n 0, 1) := dk_42 (dk_at dksX3_goesDown_1 13 rfl rfl)
theorem dX3_goesDown_38 : decode cX3_goesDown 38 = .ok (.iload 4, 2) := dk_21 4 (dk_at dksX3_goesDown_1 14 rfl rfl)
theorem dX3_goesDown_40 : decode cX3_goesDown 40 = .ok (.iload 6, 2) := dk_21 6 (dk_at dksX3_goesDown_1 16 rfl rfl)
theorem dX3_goesDown_42 : decode cX3_goesDown 42 = .ok (.invokevirtual 197, 3) := dk_182 0 197 (dk_at dksX3_goesDown_1 18 rfl rfl)
theorem dX3_goesDown_45 : decode cX3_goesDown 45 = .ok (.iload_n 3, 1) := dk_29 (dk_at dksX3_goesDown_1 21 rfl rfl)
theorem dX3_goesDown_46 : decode cX3_goesDown 46 = .ok (.invokevirtual 212, 3) := dk_182 0 212 (dk_at dksX3_goesDown_2 0 rfl rfl)
theorem dX3_goesDown_49 : decode cX3_goesDown 49 = .ok (.istore 7, 2) := dk_54 7 (dk_at dksX3_goesDown_2 3 rfl rfl)
theorem dX3_goesDown_51 : decode cX3_goesDown 51 = .ok (.aload_n 0, 1) := dk_42 (dk_at dksX3_goesDown_2 5 rfl rfl)
theorem dX3_goesDown_52 : decode cX3_goesDown 52 = .ok (.getfield 39, 3) := dk_180 0 39 (dk_at dksX3_goesDown_2 6 rfl rfl)
theorem dX3_goesDown_55 : decode cX3_goesDown 55 = .ok (.bipush 7, 2) := dk_16 7 (dk_at dksX3_goesDown_2 9 rfl rfl)
theorem dX3_goesDown_57 : decode cX3_goesDown 57 = .ok (.iload 4, 2) := dk_21 4 (dk_at dksX3_goesDown_2 11 rfl rfl)
theorem dX3_goesDown_59 : decode cX3_goesDown 59 = .ok (.imul, 1) := dk_104 (dk_at dksX3_goesDown_2 13 rfl rfl)
theorem dX3_goesDown_60 : decode cX3_goesDown 60 = .ok (.iload 6, 2) := dk_21 6 (dk_at dksX3_goesDown_2 14 rfl rfl)
theorem dX3_goesDown_62 : decode cX3_goesDown 62 = .ok (.iadd, 1) := dk_96 (dk_at dksX3_goesDown_2 16 rfl rfl)
theorem dX3_goesDown_63 : decode cX3_goesDown 63 = .ok (.iload 7, 2) := dk_21 7 (dk_at dksX3_goesDown_2 17 rfl rfl)
theorem dX3_goesDown_65 : decode cX3_goesDown 65 = .ok (.iastore, 1) := dk_79 (dk_at dksX3_goesDown_2 19 rfl rfl)
theorem dX3_goesDown_66 : decode cX3_goesDown 66 = .ok (.aload_n 0, 1) := dk_42 (dk_at dksX3_goesDown_2 20 rfl rfl)
theorem dX3_goesDown_67 : decode cX3_goesDown 67 = .ok (.getfield 49, 3) := dk_180 0 49 (dk_at dksX3_goesDown_2 21 rfl rfl)
theorem dX3_goesDown_70 : decode cX3_goesDown 70 = .ok (.aload_n 0, 1) := dk_42 (dk_at dksX3_goesDown_3 0 rfl rfl)
theorem dX3_goesDown_71 : decode cX3_goesDown 71 = .ok (.getfield 215, 3) := dk_180 0 215 (dk_at dksX3_goesDown_3 1 rfl rfl)
theorem dX3_goesDown_74 : decode cX3_goesDown 74 = .ok (.iload 4, 2) := dk_21 4 (dk_at dksX3_goesDown_3 4 rfl rfl)
theorem dX3_goesDown_76 : decode cX3_goesDown 76 = .ok (.iastore, 1) := dk_79 (dk_at dksX3_goesDown_3 6 rfl rfl)
theorem dX3_goesDown_77 : decode cX3_goesDown 77 = .ok (.aload_n 0, 1) := dk_42 (dk_at dksX3_goesDown_3 7 rfl rfl)
theorem dX3_goesDown_78 : decode cX3_goesDown 78 = .ok (.getfield 52, 3) := dk_180 0 52 (dk_at dksX3_goesDown_3 8 rfl rfl)
theorem dX3_goesDown_81 : decode cX3_goesDown 81 = .ok (.aload_n 0, 1) := dk_42 (dk_at dksX3_goesDown_3 11 rfl rfl)
theorem dX3_goesDown_82 : decode cX3_goesDown 82 = .ok (.getfield 215, 3) := dk_180 0 215 (dk_at dksX3_goesDown_3 12 rfl rfl)
theorem dX3_goesDown_85 : decode cX3_goesDown 85 = .ok (.iload 6, 2) := dk_21 6 (dk_at dksX3_goesDown_3 15 rfl rfl)
theorem dX3_goesDown_87 : decode cX3_goesDown 87 = .ok (.iastore, 1) := dk_79 (dk_at dksX3_goesDown_3 17 rfl rfl)
theorem dX3_goesDown_88 : decode cX3_goesDown 88 = .ok (.aload_n 0, 1) := dk_42 (dk_at dksX3_goesDown_3 18 rfl rfl)
theorem dX3_goesDown_89 : decode cX3_goesDown 89 = .ok (.dup, 1) := dk_89 (dk_at dksX3_goesDown_3 19 rfl rfl)
theorem dX3_goesDown_90 : decode cX3_goesDown 90 = .ok (.getfield 215, 3) := dk_180 0 215 (dk_at dksX3_goesDown_3 20 rfl rfl)
theorem dX3_goesDown_93 : decode cX3_goesDown 93 = .ok (.iconst 1, 1) := dk_4 (dk_at dksX3_goesDown_3 23 rfl rfl)
theorem dX3_goesDown_94 : decode cX3_goesDown 94 = .ok (.iadd, 1) := dk_96 (dk_at dksX3_goesDown_4 0 rfl rfl)
theorem dX3_goesDown_95 : decode cX3_goesDown 95 = .ok (.putfield 215, 3) := dk_181 0 215 (dk_at dksX3_goesDown_4 1 rfl rfl)
theorem dX3_goesDown_98 : decode cX3_goesDown 98 = .ok (.iload 7, 2) := dk_21 7 (dk_at dksX3_goesDown_4 4 rfl rfl)
theorem dX3_goesDown_100 : decode cX3_goesDown 100 = .ok (.istore 4, 2) := dk_54 4 (dk_at dksX3_goesDown_4 6 rfl rfl)
theorem dX3_goesDown_102 : decode cX3_goesDown 102 = .ok (.goto (-85), 3) := dk_167 255 171 (dk_at dksX3_goesDown_4 8 rfl rfl)
theorem dX3_goesDown_105 : decode cX3_goesDown 105 = .ok (.aload_n 0, 1) := dk_42 (dk_at dksX3_goesDown_4 11 rfl rfl)
theorem dX3_goesDown_106 : decode cX3_goesDown 106 = .ok (.getfield 49, 3) := dk_180 0 49 (dk_at dksX3_goesDown_4 12 rfl rfl)
theorem dX3_goesDown_109 : decode cX3_goesDown 109 = .ok (.aload_n 0, 1) := dk_42 (dk_at dksX3_goesDown_4 15 rfl rfl)
theorem dX3_goesDown_110 : decode cX3_goesDown 110 = .ok (.getfield 215, 3) := dk_180 0 215 (dk_at dksX3_goesDown_4 16 rfl rfl)
theorem dX3_goesDown_113 : decode cX3_goesDown 113 = .ok (.iload 4, 2) := dk_21 4 (dk_at dksX3_goesDown_4 19 rfl rfl)
theorem dX3_goesDown_115 : decode cX3_goesDown 115 = .ok (.iastore, 1) := dk_79 (dk_at dksX3_goesDown_4 21 rfl rfl)
theorem dX3_goesDown_116 : decode cX3_goesDown 116 = .ok (.iload 5, 2) := dk_21 5 (dk_at dksX3_goesDown_4 22 rfl rfl)
theorem dX3_goesDown_118 : decode cX3_goesDown 118 = .ok (.ireturn, 1) := dk_172 (dk_at dksX3_goesDown_5 0 rfl rfl)
abbrev cX3_edited : ByteArray := prog_9_method_22_code
def yX3_edited : MethodName := ⟨RX3, "edited", "(II)I"⟩
def dkwX3_edited_4 : List UInt8 := [96, 46, 79, 132, 4, 1, 167, 255, 194, 29, 172]
abbrev dktX3_edited_4 : List UInt8 := dkwX3_edited_4 ++ []
def dkwX3_edited_3 : List UInt8 := [96, 46, 79, 42, 180, 0, 42, 16, 7, 29, 104, 21, 4, 96, 42, 180, 0, 42, 16, 7, 27, 104, 21, 4]
abbrev dktX3_edited_3 : List UInt8 := dkwX3_edited_3 ++ dktX3_edited_4
def dkwX3_edited_2 : List UInt8 := [162, 0, 57, 42, 180, 0, 39, 16, 7, 29, 104, 21, 4, 96, 42, 180, 0, 39, 16, 7, 27, 104, 21, 4]
abbrev dktX3_edited_2 : List UInt8 := dkwX3_edited_2 ++ dktX3_edited_3
def dkwX3_edited_1 : List UInt8 := [42, 180, 0, 26, 29, 42, 180, 0, 26, 27, 46, 79, 3, 54, 4, 21, 4, 42, 180, 0, 26, 27, 46]
abbrev dktX3_edited_1 : List UInt8 := dkwX3_edited_1 ++ dktX3_edited_2
def dkwX3_edited_0 : List UInt8 := [42, 180, 0, 29, 27, 46, 28, 160, 0, 5, 27, 172, 42, 42, 180, 0, 23, 27, 46, 28, 182, 0, 193, 62]
abbrev dktX3_edited_0 : List UInt8 := dkwX3_edited_0 ++ dktX3_edited_1
theorem dksX3_edited_0 : cX3_edited.data.toList.drop 0 = dktX3_edited_0 := by decide +kernel
theorem dksX3_edited_1 : cX3_edited.data.toList.drop 24 = dktX3_edited_1 := dk_seg dksX3_edited_0 24 rfl rfl
theorem dksX3_edited_2 : cX3_edited.data.toList.drop 47 = dktX3_edited_2 := dk_seg dksX3_edited_1 23 rfl rfl
theorem dksX3_edited_3 : cX3_edited.data.toList.drop 71 = dktX3_edited_3 := dk_seg dksX3_edited_2 24 rfl rfl
theorem dksX3_edited_4 : cX3_edited.data.toList.drop 95 = dktX3_edited_4 := dk_seg dksX3_edited_3 24 rfl rfl
theorem dX3_edited_0 : decode cX3_edited 0 = .ok (.aload_n 0, 1) := dk_42 (dk_at dksX3_edited_0 0 rfl rfl)
theorem dX3_edited_1 : decode cX3_edited 1 = .ok (.getfield 29, 3) := dk_180 0 29 (dk_at dksX3_edited_0 1 rfl rfl)
theorem dX3_edited_4 : decode cX3_edited 4 = .ok (.iload_n 1, 1) := dk_27 (dk_at dksX3_edited_0 4 rfl rfl)
theorem dX3_edited_5 : decode cX3_edited 5 = .ok (.iaload, 1) := dk_46 (dk_at dksX3_edited_0 5 rfl rfl)
theorem dX3_edited_6 : decode cX3_edited 6 = .ok (.iload_n 2, 1) := dk_28 (dk_at dksX3_edited_0 6 rfl rfl)
theorem dX3_edited_7 : decode cX3_edited 7 = .ok (.if_icmp .ne 5, 3) := dk_160 0 5 (dk_at dksX3_edited_0 7 rfl rfl)
theorem dX3_edited_10 : decode cX3_edited 10 = .ok (.iload_n 1, 1) := dk_27 (dk_at dksX3_edited_0 10 rfl rfl)
theorem dX3_edited_11 : decode cX3_edited 11 = .ok (.ireturn, 1) := dk_172 (dk_at dksX3_edited_0 11 rfl rfl)
theorem dX3_edited_12 : decode cX3_edited 12 = .ok (.aload_n 0, 1) := dk_42 (dk_at dksX3_edited_0 12 rfl rfl)
theorem dX3_edited_13 : decode cX3_edited 13 = .ok (.aload_n 0, 1) := dk_42 (dk_at dksX3_edited_0 13 rfl rfl)
theorem dX3_edited_14 : decode cX3_edited 14 = .ok (.getfield 23, 3) := dk_180 0 23 (dk_at dksX3_edited_0 14 rfl rfl)
theorem dX3_edited_17 : decode cX3_edited 17 = .ok (.iload_n 1, 1) := dk_27 (dk_at dksX3_edited_0 17 rfl rfl)
theorem dX3_edited_18 : decode cX3_edited 18 = .ok (.iaload, 1) := dk_46 (dk_at dksX3_edited_0 18 rfl rfl)
theorem dX3_edited_19 : decode cX3_edited 19 = .ok (.iload_n 2, 1) := dk_28 (dk_at dksX3_edited_0 19 rfl rfl)
theorem dX3_edited_20 : decode cX3_edited 20 = .ok (.invokevirtual 193, 3) := dk_182 0 193 (dk_at dksX3_edited_0 20 rfl rfl)
theorem dX3_edited_23 : decode cX3_edited 23 = .ok (.istore_n 3, 1) := dk_62 (dk_at dksX3_edited_0 23 rfl rfl)
theorem dX3_edited_24 : decode cX3_edited 24 = .ok (.aload_n 0, 1) := dk_42 (dk_at dksX3_edited_1 0 rfl rfl)
theorem dX3_edited_25 : decode cX3_edited 25 = .ok (.getfield 26, 3) := dk_180 0 26 (dk_at dksX3_edited_1 1 rfl rfl)
theorem dX3_edited_28 : decode cX3_edited 28 = .ok (.iload_n 3, 1) := dk_29 (dk_at dksX3_edited_1 4 rfl rfl)
theorem dX3_edited_29 : decode cX3_edited 29 = .ok (.aload_n 0, 1) := dk_42 (dk_at dksX3_edited_1 5 rfl rfl)
theorem dX3_edited_30 : decode cX3_edited 30 = .ok (.getfield 26, 3) := dk_180 0 26 (dk_at dksX3_edited_1 6 rfl rfl)
theorem dX3_edited_33 : decode cX3_edited 33 = .ok (.iload_n 1, 1) := dk_27 (dk_at dksX3_edited_1 9 rfl rfl)
theorem dX3_edited_34 : decode cX3_edited 34 = .ok (.iaload, 1) := dk_46 (dk_at dksX3_edited_1 10 rfl rfl)
theorem dX3_edited_35 : decode cX3_edited 35 = .ok (.iastore, 1) := dk_79 (dk_at dksX3_edited_1 11 rfl rfl)
theorem dX3_edited_36 : decode cX3_edited 36 = .ok (.iconst 0, 1) := dk_3 (dk_at dksX3_edited_1 12 rfl rfl)
theorem dX3_edited_37 : decode cX3_edited 37 = .ok (.istore 4, 2) := dk_54 4 (dk_at dksX3_edited_1 13 rfl rfl)
theorem dX3_edited_39 : decode cX3_edited 39 = .ok (.iload 4, 2) := dk_21 4 (dk_at dksX3_edited_1 15 rfl rfl)
theorem dX3_edited_41 : decode cX3_edited 41 = .ok (.aload_n 0, 1) := dk_42 (dk_at dksX3_edited_1 17 rfl rfl)
theorem dX3_edited_42 : decode cX3_edited 42 = .ok (.getfield 26, 3) := dk_180 0 26 (dk_at dksX3_edited_1 18 rfl rfl)
theorem dX3_edited_45 : decode cX3_edited 45 = .ok (.iload_n 1, 1) := dk_27 (dk_at dksX3_edited_1 21 rfl rfl)
theorem dX3_edited_46 : decode cX3_edited 46 = .ok (.iaload, 1) := dk_46 (dk_at dksX3_edited_1 22 rfl rfl)
theorem dX3_edited_47 : decode cX3_edited 47 = .ok (.if_icmp .ge 57, 3) := dk_162 0 57 (dk_at dksX3_edited_2 0 rfl rfl)
theorem dX3_edited_50 : decode cX3_edited 50 = .ok (.aload_n 0, 1) := dk_42 (dk_at dksX3_edited_2 3 rfl rfl)
theorem dX3_edited_51 : decode cX3_edited 51 = .ok (.getfield 39, 3) := dk_180 0 39 (dk_at dksX3_edited_2 4 rfl rfl)
theorem dX3_edited_54 : decode cX3_edited 54 = .ok (.bipush 7, 2) := dk_16 7 (dk_at dksX3_edited_2 7 rfl rfl)
theorem dX3_edited_56 : decode cX3_edited 56 = .ok (.iload_n 3, 1) := dk_29 (dk_at dksX3_edited_2 9 rfl rfl)
theorem dX3_edited_57 : decode cX3_edited 57 = .ok (.imul, 1) := dk_104 (dk_at dksX3_edited_2 10 rfl rfl)
theorem dX3_edited_58 : decode cX3_edited 58 = .ok (.iload 4, 2) := dk_21 4 (dk_at dksX3_edited_2 11 rfl rfl)
theorem dX3_edited_60 : decode cX3_edited 60 = .ok (.iadd, 1) := dk_96 (dk_at dksX3_edited_2 13 rfl rfl)
theorem dX3_edited_61 : decode cX3_edited 61 = .ok (.aload_n 0, 1) := dk_42 (dk_at dksX3_edited_2 14 rfl rfl)
theorem dX3_edited_62 : decode cX3_edited 62 = .ok (.getfield 39, 3) := dk_180 0 39 (dk_at dksX3_edited_2 15 rfl rfl)
theorem dX3_edited_65 : decode cX3_edited 65 = .ok (.bipush 7, 2) := dk_16 7 (dk_at dksX3_edited_2 18 rfl rfl)
theorem dX3_edited_67 : decode cX3_edited 67 = .ok (.iload_n 1, 1) := dk_27 (dk_at dksX3_edited_2 20 rfl rfl)
theorem dX3_edited_68 : decode cX3_edited 68 = .ok (.imul, 1) := dk_104 (dk_at dksX3_edited_2 21 rfl rfl)
theorem dX3_edited_69 : decode cX3_edited 69 = .ok (.iload 4, 2) := dk_21 4 (dk_at dksX3_edited_2 22 rfl rfl)
theorem dX3_edited_71 : decode cX3_edited 71 = .ok (.iadd, 1) := dk_96 (dk_at dksX3_edited_3 0 rfl rfl)
theorem dX3_edited_72 : decode cX3_edited 72 = .ok (.iaload, 1) := dk_46 (dk_at dksX3_edited_3 1 rfl rfl)
theorem dX3_edited_73 : decode cX3_edited 73 = .ok (.iastore, 1) := dk_79 (dk_at dksX3_edited_3 2 rfl rfl)
theorem dX3_edited_74 : decode cX3_edited 74 = .ok (.aload_n 0, 1) := dk_42 (dk_at dksX3_edited_3 3 rfl rfl)
theorem dX3_edited_75 : decode cX3_edited 75 = .ok (.getfield 42, 3) := dk_180 0 42 (dk_at dksX3_edited_3 4 rfl rfl)
theorem dX3_edited_78 : decode cX3_edited 78 = .ok (.bipush 7, 2) := dk_16 7 (dk_at dksX3_edited_3 7 rfl rfl)
theorem dX3_edited_80 : decode cX3_edited 80 = .ok (.iload_n 3, 1) := dk_29 (dk_at dksX3_edited_3 9 rfl rfl)
theorem dX3_edited_81 : decode cX3_edited 81 = .ok (.imul, 1) := dk_104 (dk_at dksX3_edited_3 10 rfl rfl)
theorem dX3_edited_82 : decode cX3_edited 82 = .ok (.iload 4, 2) := dk_21 4 (dk_at dksX3_edited_3 11 rfl rfl)
theorem dX3_edited_84 : decode cX3_edited 84 = .ok (.iadd, 1) := dk_96 (dk_at dksX3_edited_3 13 rfl rfl)
theorem dX3_edited_85 : decode cX3_edited 85 = .ok (.aload_n 0, 1) := dk_42 (dk_at dksX3_edited_3 14 rfl rfl)
theorem dX3_edited_86 : decode cX3_edited 86 = .ok (.getfield 42, 3) := dk_180 0 42 (dk_at dksX3_edited_3 15 rfl rfl)
theorem dX3_edited_89 : decode cX3_edited 89 = .ok (.bipush 7, 2) := dk_16 7 (dk_at dksX3_edited_3 18 rfl rfl)
theorem dX3_edited_91 : decode cX3_edited 91 = .ok (.iload_n 1, 1) := dk_27 (dk_at dksX3_edited_3 20 rfl rfl)
theorem dX3_edited_92 : decode cX3_edited 92 = .ok (.imul, 1) := dk_104 (dk_at dksX3_edited_3 21 rfl rfl)
theorem dX3_edited_93 : decode cX3_edited 93 = .ok (.iload 4, 2) := dk_21 4 (dk_at dksX3_edited_3 22 rfl rfl)
theorem dX3_edited_95 : decode cX3_edited 95 = .ok (.iadd, 1) := dk_96 (dk_at dksX3_edited_4 0 rfl rfl)
theorem dX3_edited_96 : decode cX3_edited 96 = .ok (.iaload, 1) := dk_46 (dk_at dksX3_edited_4 1 rfl rfl)
theorem dX3_edited_97 : decode cX3_edited 97 = .ok (.iastore, 1) := dk_79 (dk_at dksX3_edited_4 2 rfl rfl)
theorem dX3_edited_98 : decode cX3_edited 98 = .ok (.iinc 4 1, 3) := dk_132 4 1 (dk_at dksX3_edited_4 3 rfl rfl)
theorem dX3_edited_101 : decode cX3_edited 101 = .ok (.goto (-62), 3) := dk_167 255 194 (dk_at dksX3_edited_4 6 rfl rfl)
theorem dX3_edited_104 : decode cX3_edited 104 = .ok (.iload_n 3, 1) := dk_29 (dk_at dksX3_edited_4 9 rfl rfl)
theorem dX3_edited_105 : decode cX3_edited 105 = .ok (.ireturn, 1) := dk_172 (dk_at dksX3_edited_4 10 rfl rfl)
abbrev cX3_putsIn : ByteArray := prog_9_method_29_code
def yX3_putsIn : MethodName := ⟨RX3, "putsIn", "(IIII)V"⟩
def dkwX3_putsIn_4 : List UInt8 := [79, 42, 180, 0, 26, 27, 92, 46, 4, 96, 79, 177]
abbrev dktX3_putsIn_4 : List UInt8 := dkwX3_putsIn_4 ++ []
def dkwX3_putsIn_3 : List UInt8 := [42, 180, 0, 39, 16, 7, 27, 104, 28, 96, 29, 79, 42, 180, 0, 42, 16, 7, 27, 104, 28, 96, 21, 4]
abbrev dktX3_putsIn_3 : List UInt8 := dkwX3_putsIn_3 ++ dktX3_putsIn_4
def dkwX3_putsIn_2 : List UInt8 := [21, 5, 96, 42, 180, 0, 42, 16, 7, 27, 104, 21, 5, 96, 4, 100, 46, 79, 132, 5, 255, 167, 255, 195]
abbrev dktX3_putsIn_2 : List UInt8 := dkwX3_putsIn_2 ++ dktX3_putsIn_3
def dkwX3_putsIn_1 : List UInt8 := [96, 42, 180, 0, 39, 16, 7, 27, 104, 21, 5, 96, 4, 100, 46, 79, 42, 180, 0, 42, 16, 7, 27, 104]
abbrev dktX3_putsIn_1 : List UInt8 := dkwX3_putsIn_1 ++ dktX3_putsIn_2
def dkwX3_putsIn_0 : List UInt8 := [42, 180, 0, 26, 27, 46, 54, 5, 21, 5, 28, 164, 0, 61, 42, 180, 0, 39, 16, 7, 27, 104, 21, 5]
abbrev dktX3_putsIn_0 : List UInt8 := dkwX3_putsIn_0 ++ dktX3_putsIn_1
theorem dksX3_putsIn_0 : cX3_putsIn.data.toList.drop 0 = dktX3_putsIn_0 := by decide +kernel
theorem dksX3_putsIn_1 : cX3_putsIn.data.toList.drop 24 = dktX3_putsIn_1 := dk_seg dksX3_putsIn_0 24 rfl rfl
theorem dksX3_putsIn_2 : cX3_putsIn.data.toList.drop 48 = dktX3_putsIn_2 := dk_seg dksX3_putsIn_1 24 rfl rfl
theorem dksX3_putsIn_3 : cX3_putsIn.data.toList.drop 72 = dktX3_putsIn_3 := dk_seg dksX3_putsIn_2 24 rfl rfl
theorem dksX3_putsIn_4 : cX3_putsIn.data.toList.drop 96 = dktX3_putsIn_4 := dk_seg dksX3_putsIn_3 24 rfl rfl
theorem dX3_putsIn_0 : decode cX3_putsIn 0 = .ok (.aload_n 0, 1) := dk_42 (dk_at dksX3_putsIn_0 0 rfl rfl)
theorem dX3_putsIn_1 : decode cX3_putsIn 1 = .ok (.getfield 26, 3) := dk_180 0 26 (dk_at dksX3_putsIn_0 1 rfl rfl)
theorem dX3_putsIn_4 : decode cX3_putsIn 4 = .ok (.iload_n 1, 1) := dk_27 (dk_at dksX3_putsIn_0 4 rfl rfl)
theorem dX3_putsIn_5 : decode cX3_putsIn 5 = .ok (.iaload, 1) := dk_46 (dk_at dksX3_putsIn_0 5 rfl rfl)
theorem dX3_putsIn_6 : decode cX3_putsIn 6 = .ok (.istore 5, 2) := dk_54 5 (dk_at dksX3_putsIn_0 6 rfl rfl)
theorem dX3_putsIn_8 : decode cX3_putsIn 8 = .ok (.iload 5, 2) := dk_21 5 (dk_at dksX3_putsIn_0 8 rfl rfl)
theorem dX3_putsIn_10 : decode cX3_putsIn 10 = .ok (.iload_n 2, 1) := dk_28 (dk_at dksX3_putsIn_0 10 rfl rfl)
theorem dX3_putsIn_11 : decode cX3_putsIn 11 = .ok (.if_icmp .le 61, 3) := dk_164 0 61 (dk_at dksX3_putsIn_0 11 rfl rfl)
theorem dX3_putsIn_14 : decode cX3_putsIn 14 = .ok (.aload_n 0, 1) := dk_42 (dk_at dksX3_putsIn_0 14 rfl rfl)
theorem dX3_putsIn_15 : decode cX3_putsIn 15 = .ok (.getfield 39, 3) := dk_180 0 39 (dk_at dksX3_putsIn_0 15 rfl rfl)
theorem dX3_putsIn_18 : decode cX3_putsIn 18 = .ok (.bipush 7, 2) := dk_16 7 (dk_at dksX3_putsIn_0 18 rfl rfl)
theorem dX3_putsIn_20 : decode cX3_putsIn 20 = .ok (.iload_n 1, 1) := dk_27 (dk_at dksX3_putsIn_0 20 rfl rfl)
theorem dX3_putsIn_21 : decode cX3_putsIn 21 = .ok (.imul, 1) := dk_104 (dk_at dksX3_putsIn_0 21 rfl rfl)
theorem dX3_putsIn_22 : decode cX3_putsIn 22 = .ok (.iload 5, 2) := dk_21 5 (dk_at dksX3_putsIn_0 22 rfl rfl)
theorem dX3_putsIn_24 : decode cX3_putsIn 24 = .ok (.iadd, 1) := dk_96 (dk_at dksX3_putsIn_1 0 rfl rfl)
theorem dX3_putsIn_25 : decode cX3_putsIn 25 = .ok (.aload_n 0, 1) := dk_42 (dk_at dksX3_putsIn_1 1 rfl rfl)
theorem dX3_putsIn_26 : decode cX3_putsIn 26 = .ok (.getfield 39, 3) := dk_180 0 39 (dk_at dksX3_putsIn_1 2 rfl rfl)
theorem dX3_putsIn_29 : decode cX3_putsIn 29 = .ok (.bipush 7, 2) := dk_16 7 (dk_at dksX3_putsIn_1 5 rfl rfl)
theorem dX3_putsIn_31 : decode cX3_putsIn 31 = .ok (.iload_n 1, 1) := dk_27 (dk_at dksX3_putsIn_1 7 rfl rfl)
theorem dX3_putsIn_32 : decode cX3_putsIn 32 = .ok (.imul, 1) := dk_104 (dk_at dksX3_putsIn_1 8 rfl rfl)
theorem dX3_putsIn_33 : decode cX3_putsIn 33 = .ok (.iload 5, 2) := dk_21 5 (dk_at dksX3_putsIn_1 9 rfl rfl)
theorem dX3_putsIn_35 : decode cX3_putsIn 35 = .ok (.iadd, 1) := dk_96 (dk_at dksX3_putsIn_1 11 rfl rfl)
theorem dX3_putsIn_36 : decode cX3_putsIn 36 = .ok (.iconst 1, 1) := dk_4 (dk_at dksX3_putsIn_1 12 rfl rfl)
theorem dX3_putsIn_37 : decode cX3_putsIn 37 = .ok (.isub, 1) := dk_100 (dk_at dksX3_putsIn_1 13 rfl rfl)
theorem dX3_putsIn_38 : decode cX3_putsIn 38 = .ok (.iaload, 1) := dk_46 (dk_at dksX3_putsIn_1 14 rfl rfl)
theorem dX3_putsIn_39 : decode cX3_putsIn 39 = .ok (.iastore, 1) := dk_79 (dk_at dksX3_putsIn_1 15 rfl rfl)
theorem dX3_putsIn_40 : decode cX3_putsIn 40 = .ok (.aload_n 0, 1) := dk_42 (dk_at dksX3_putsIn_1 16 rfl rfl)
theorem dX3_putsIn_41 : decode cX3_putsIn 41 = .ok (.getfield 42, 3) := dk_180 0 42 (dk_at dksX3_putsIn_1 17 rfl rfl)
theorem dX3_putsIn_44 : decode cX3_putsIn 44 = .ok (.bipush 7, 2) := dk_16 7 (dk_at dksX3_putsIn_1 20 rfl rfl)
theorem dX3_putsIn_46 : decode cX3_putsIn 46 = .ok (.iload_n 1, 1) := dk_27 (dk_at dksX3_putsIn_1 22 rfl rfl)
theorem dX3_putsIn_47 : decode cX3_putsIn 47 = .ok (.imul, 1) := dk_104 (dk_at dksX3_putsIn_1 23 rfl rfl)
theorem dX3_putsIn_48 : decode cX3_putsIn 48 = .ok (.iload 5, 2) := dk_21 5 (dk_at dksX3_putsIn_2 0 rfl rfl)
theorem dX3_putsIn_50 : decode cX3_putsIn 50 = .ok (.iadd, 1) := dk_96 (dk_at dksX3_putsIn_2 2 rfl rfl)
theorem dX3_putsIn_51 : decode cX3_putsIn 51 = .ok (.aload_n 0, 1) := dk_42 (dk_at dksX3_putsIn_2 3 rfl rfl)
theorem dX3_putsIn_52 : decode cX3_putsIn 52 = .ok (.getfield 42, 3) := dk_180 0 42 (dk_at dksX3_putsIn_2 4 rfl rfl)
theorem dX3_putsIn_55 : decode cX3_putsIn 55 = .ok (.bipush 7, 2) := dk_16 7 (dk_at dksX3_putsIn_2 7 rfl rfl)
theorem dX3_putsIn_57 : decode cX3_putsIn 57 = .ok (.iload_n 1, 1) := dk_27 (dk_at dksX3_putsIn_2 9 rfl rfl)
theorem dX3_putsIn_58 : decode cX3_putsIn 58 = .ok (.imul, 1) := dk_104 (dk_at dksX3_putsIn_2 10 rfl rfl)
theorem dX3_putsIn_59 : decode cX3_putsIn 59 = .ok (.iload 5, 2) := dk_21 5 (dk_at dksX3_putsIn_2 11 rfl rfl)
theorem dX3_putsIn_61 : decode cX3_putsIn 61 = .ok (.iadd, 1) := dk_96 (dk_at dksX3_putsIn_2 13 rfl rfl)
theorem dX3_putsIn_62 : decode cX3_putsIn 62 = .ok (.iconst 1, 1) := dk_4 (dk_at dksX3_putsIn_2 14 rfl rfl)
theorem dX3_putsIn_63 : decode cX3_putsIn 63 = .ok (.isub, 1) := dk_100 (dk_at dksX3_putsIn_2 15 rfl rfl)
theorem dX3_putsIn_64 : decode cX3_putsIn 64 = .ok (.iaload, 1) := dk_46 (dk_at dksX3_putsIn_2 16 rfl rfl)
theorem dX3_putsIn_65 : decode cX3_putsIn 65 = .ok (.iastore, 1) := dk_79 (dk_at dksX3_putsIn_2 17 rfl rfl)
theorem dX3_putsIn_66 : decode cX3_putsIn 66 = .ok (.iinc 5 (-1), 3) := dk_132 5 255 (dk_at dksX3_putsIn_2 18 rfl rfl)
theorem dX3_putsIn_69 : decode cX3_putsIn 69 = .ok (.goto (-61), 3) := dk_167 255 195 (dk_at dksX3_putsIn_2 21 rfl rfl)
theorem dX3_putsIn_72 : decode cX3_putsIn 72 = .ok (.aload_n 0, 1) := dk_42 (dk_at dksX3_putsIn_3 0 rfl rfl)
theorem dX3_putsIn_73 : decode cX3_putsIn 73 = .ok (.getfield 39, 3) := dk_180 0 39 (dk_at dksX3_putsIn_3 1 rfl rfl)
theorem dX3_putsIn_76 : decode cX3_putsIn 76 = .ok (.bipush 7, 2) := dk_16 7 (dk_at dksX3_putsIn_3 4 rfl rfl)
theorem dX3_putsIn_78 : decode cX3_putsIn 78 = .ok (.iload_n 1, 1) := dk_27 (dk_at dksX3_putsIn_3 6 rfl rfl)
theorem dX3_putsIn_79 : decode cX3_putsIn 79 = .ok (.imul, 1) := dk_104 (dk_at dksX3_putsIn_3 7 rfl rfl)
theorem dX3_putsIn_80 : decode cX3_putsIn 80 = .ok (.iload_n 2, 1) := dk_28 (dk_at dksX3_putsIn_3 8 rfl rfl)
theorem dX3_putsIn_81 : decode cX3_putsIn 81 = .ok (.iadd, 1) := dk_96 (dk_at dksX3_putsIn_3 9 rfl rfl)
theorem dX3_putsIn_82 : decode cX3_putsIn 82 = .ok (.iload_n 3, 1) := dk_29 (dk_at dksX3_putsIn_3 10 rfl rfl)
theorem dX3_putsIn_83 : decode cX3_putsIn 83 = .ok (.iastore, 1) := dk_79 (dk_at dksX3_putsIn_3 11 rfl rfl)
theorem dX3_putsIn_84 : decode cX3_putsIn 84 = .ok (.aload_n 0, 1) := dk_42 (dk_at dksX3_putsIn_3 12 rfl rfl)
theorem dX3_putsIn_85 : decode cX3_putsIn 85 = .ok (.getfield 42, 3) := dk_180 0 42 (dk_at dksX3_putsIn_3 13 rfl rfl)
theorem dX3_putsIn_88 : decode cX3_putsIn 88 = .ok (.bipush 7, 2) := dk_16 7 (dk_at dksX3_putsIn_3 16 rfl rfl)
theorem dX3_putsIn_90 : decode cX3_putsIn 90 = .ok (.iload_n 1, 1) := dk_27 (dk_at dksX3_putsIn_3 18 rfl rfl)
theorem dX3_putsIn_91 : decode cX3_putsIn 91 = .ok (.imul, 1) := dk_104 (dk_at dksX3_putsIn_3 19 rfl rfl)
theorem dX3_putsIn_92 : decode cX3_putsIn 92 = .ok (.iload_n 2, 1) := dk_28 (dk_at dksX3_putsIn_3 20 rfl rfl)
theorem dX3_putsIn_93 : decode cX3_putsIn 93 = .ok (.iadd, 1) := dk_96 (dk_at dksX3_putsIn_3 21 rfl rfl)
theorem dX3_putsIn_94 : decode cX3_putsIn 94 = .ok (.iload 4, 2) := dk_21 4 (dk_at dksX3_putsIn_3 22 rfl rfl)
theorem dX3_putsIn_96 : decode cX3_putsIn 96 = .ok (.iastore, 1) := dk_79 (dk_at dksX3_putsIn_4 0 rfl rfl)
theorem dX3_putsIn_97 : decode cX3_putsIn 97 = .ok (.aload_n 0, 1) := dk_42 (dk_at dksX3_putsIn_4 1 rfl rfl)
theorem dX3_putsIn_98 : decode cX3_putsIn 98 = .ok (.getfield 26, 3) := dk_180 0 26 (dk_at dksX3_putsIn_4 2 rfl rfl)
theorem dX3_putsIn_101 : decode cX3_putsIn 101 = .ok (.iload_n 1, 1) := dk_27 (dk_at dksX3_putsIn_4 5 rfl rfl)
theorem dX3_putsIn_102 : decode cX3_putsIn 102 = .ok (.dup2, 1) := dk_92 (dk_at dksX3_putsIn_4 6 rfl rfl)
theorem dX3_putsIn_103 : decode cX3_putsIn 103 = .ok (.iaload, 1) := dk_46 (dk_at dksX3_putsIn_4 7 rfl rfl)
theorem dX3_putsIn_104 : decode cX3_putsIn 104 = .ok (.iconst 1, 1) := dk_4 (dk_at dksX3_putsIn_4 8 rfl rfl)
theorem dX3_putsIn_105 : decode cX3_putsIn 105 = .ok (.iadd, 1) := dk_96 (dk_at dksX3_putsIn_4 9 rfl rfl)
theorem dX3_putsIn_106 : decode cX3_putsIn 106 = .ok (.iastore, 1) := dk_79 (dk_at dksX3_putsIn_4 10 rfl rfl)
theorem dX3_putsIn_107 : decode cX3_putsIn 107 = .ok (.return_, 1) := dk_177 (dk_at dksX3_putsIn_4 11 rfl rfl)
abbrev cX3_parted : ByteArray := prog_9_method_32_code
def yX3_parted : MethodName := ⟨RX3, "parted", "(II)I"⟩
def dkwX3_parted_5 : List UInt8 := [29, 172]
abbrev dktX3_parted_5 : List UInt8 := dkwX3_parted_5 ++ []
def dkwX3_parted_4 : List UInt8 := [46, 79, 132, 6, 1, 167, 255, 192, 42, 180, 0, 26, 29, 21, 4, 79, 42, 180, 0, 26, 27, 21, 5, 79]
abbrev dktX3_parted_4 : List UInt8 := dkwX3_parted_4 ++ dktX3_parted_5
def dkwX3_parted_3 : List UInt8 := [180, 0, 42, 16, 7, 29, 104, 21, 6, 96, 42, 180, 0, 42, 16, 7, 27, 104, 21, 5, 96, 21, 6, 96]
abbrev dktX3_parted_3 : List UInt8 := dkwX3_parted_3 ++ dktX3_parted_4
def dkwX3_parted_2 : List UInt8 := [16, 7, 29, 104, 21, 6, 96, 42, 180, 0, 39, 16, 7, 27, 104, 21, 5, 96, 21, 6, 96, 46, 79, 42]
abbrev dktX3_parted_2 : List UInt8 := dkwX3_parted_2 ++ dktX3_parted_3
def dkwX3_parted_1 : List UInt8 := [180, 0, 26, 27, 46, 21, 4, 100, 54, 5, 3, 54, 6, 21, 6, 21, 4, 162, 0, 63, 42, 180, 0, 39]
abbrev dktX3_parted_1 : List UInt8 := dkwX3_parted_1 ++ dktX3_parted_2
def dkwX3_parted_0 : List UInt8 := [42, 42, 180, 0, 23, 27, 46, 28, 182, 0, 193, 62, 42, 180, 0, 45, 4, 96, 5, 108, 54, 4, 42]
abbrev dktX3_parted_0 : List UInt8 := dkwX3_parted_0 ++ dktX3_parted_1
theorem dksX3_parted_0 : cX3_parted.data.toList.drop 0 = dktX3_parted_0 := by decide +kernel
theorem dksX3_parted_1 : cX3_parted.data.toList.drop 23 = dktX3_parted_1 := dk_seg dksX3_parted_0 23 rfl rfl
theorem dksX3_parted_2 : cX3_parted.data.toList.drop 47 = dktX3_parted_2 := dk_seg dksX3_parted_1 24 rfl rfl
theorem dksX3_parted_3 : cX3_parted.data.toList.drop 71 = dktX3_parted_3 := dk_seg dksX3_parted_2 24 rfl rfl
theorem dksX3_parted_4 : cX3_parted.data.toList.drop 95 = dktX3_parted_4 := dk_seg dksX3_parted_3 24 rfl rfl
theorem dksX3_parted_5 : cX3_parted.data.toList.drop 119 = dktX3_parted_5 := dk_seg dksX3_parted_4 24 rfl rfl
theorem dX3_parted_0 : decode cX3_parted 0 = .ok (.aload_n 0, 1) := dk_42 (dk_at dksX3_parted_0 0 rfl rfl)
theorem dX3_parted_1 : decode cX3_parted 1 = .ok (.aload_n 0, 1) := dk_42 (dk_at dksX3_parted_0 1 rfl rfl)
theorem dX3_parted_2 : decode cX3_parted 2 = .ok (.getfield 23, 3) := dk_180 0 23 (dk_at dksX3_parted_0 2 rfl rfl)
theorem dX3_parted_5 : decode cX3_parted 5 = .ok (.iload_n 1, 1) := dk_27 (dk_at dksX3_parted_0 5 rfl rfl)
theorem dX3_parted_6 : decode cX3_parted 6 = .ok (.iaload, 1) := dk_46 (dk_at dksX3_parted_0 6 rfl rfl)
theorem dX3_parted_7 : decode cX3_parted 7 = .ok (.iload_n 2, 1) := dk_28 (dk_at dksX3_parted_0 7 rfl rfl)
theorem dX3_parted_8 : decode cX3_parted 8 = .ok (.invokevirtual 193, 3) := dk_182 0 193 (dk_at dksX3_parted_0 8 rfl rfl)
theorem dX3_parted_11 : decode cX3_parted 11 = .ok (.istore_n 3, 1) := dk_62 (dk_at dksX3_parted_0 11 rfl rfl)
theorem dX3_parted_12 : decode cX3_parted 12 = .ok (.aload_n 0, 1) := dk_42 (dk_at dksX3_parted_0 12 rfl rfl)
theorem dX3_parted_13 : decode cX3_parted 13 = .ok (.getfield 45, 3) := dk_180 0 45 (dk_at dksX3_parted_0 13 rfl rfl)
theorem dX3_parted_16 : decode cX3_parted 16 = .ok (.iconst 1, 1) := dk_4 (dk_at dksX3_parted_0 16 rfl rfl)
theorem dX3_parted_17 : decode cX3_parted 17 = .ok (.iadd, 1) := dk_96 (dk_at dksX3_parted_0 17 rfl rfl)
theorem dX3_parted_18 : decode cX3_parted 18 = .ok (.iconst 2, 1) := dk_5 (dk_at dksX3_parted_0 18 rfl rfl)
theorem dX3_parted_19 : decode cX3_parted 19 = .ok (.idiv, 1) := dk_108 (dk_at dksX3_parted_0 19 rfl rfl)
theorem dX3_parted_20 : decode cX3_parted 20 = .ok (.istore 4, 2) := dk_54 4 (dk_at dksX3_parted_0 20 rfl rfl)
theorem dX3_parted_22 : decode cX3_parted 22 = .ok (.aload_n 0, 1) := dk_42 (dk_at dksX3_parted_0 22 rfl rfl)
theorem dX3_parted_23 : decode cX3_parted 23 = .ok (.getfield 26, 3) := dk_180 0 26 (dk_at dksX3_parted_1 0 rfl rfl)
theorem dX3_parted_26 : decode cX3_parted 26 = .ok (.iload_n 1, 1) := dk_27 (dk_at dksX3_parted_1 3 rfl rfl)
theorem dX3_parted_27 : decode cX3_parted 27 = .ok (.iaload, 1) := dk_46 (dk_at dksX3_parted_1 4 rfl rfl)
theorem dX3_parted_28 : decode cX3_parted 28 = .ok (.iload 4, 2) := dk_21 4 (dk_at dksX3_parted_1 5 rfl rfl)
theorem dX3_parted_30 : decode cX3_parted 30 = .ok (.isub, 1) := dk_100 (dk_at dksX3_parted_1 7 rfl rfl)
theorem dX3_parted_31 : decode cX3_parted 31 = .ok (.istore 5, 2) := dk_54 5 (dk_at dksX3_parted_1 8 rfl rfl)
theorem dX3_parted_33 : decode cX3_parted 33 = .ok (.iconst 0, 1) := dk_3 (dk_at dksX3_parted_1 10 rfl rfl)
theorem dX3_parted_34 : decode cX3_parted 34 = .ok (.istore 6, 2) := dk_54 6 (dk_at dksX3_parted_1 11 rfl rfl)
theorem dX3_parted_36 : decode cX3_parted 36 = .ok (.iload 6, 2) := dk_21 6 (dk_at dksX3_parted_1 13 rfl rfl)
theorem dX3_parted_38 : decode cX3_parted 38 = .ok (.iload 4, 2) := dk_21 4 (dk_at dksX3_parted_1 15 rfl rfl)
theorem dX3_parted_40 : decode cX3_parted 40 = .ok (.if_icmp .ge 63, 3) := dk_162 0 63 (dk_at dksX3_parted_1 17 rfl rfl)
theorem dX3_parted_43 : decode cX3_parted 43 = .ok (.aload_n 0, 1) := dk_42 (dk_at dksX3_parted_1 20 rfl rfl)
theorem dX3_parted_44 : decode cX3_parted 44 = .ok (.getfield 39, 3) := dk_180 0 39 (dk_at dksX3_parted_1 21 rfl rfl)
theorem dX3_parted_47 : decode cX3_parted 47 = .ok (.bipush 7, 2) := dk_16 7 (dk_at dksX3_parted_2 0 rfl rfl)
theorem dX3_parted_49 : decode cX3_parted 49 = .ok (.iload_n 3, 1) := dk_29 (dk_at dksX3_parted_2 2 rfl rfl)
theorem dX3_parted_50 : decode cX3_parted 50 = .ok (.imul, 1) := dk_104 (dk_at dksX3_parted_2 3 rfl rfl)
theorem dX3_parted_51 : decode cX3_parted 51 = .ok (.iload 6, 2) := dk_21 6 (dk_at dksX3_parted_2 4 rfl rfl)
theorem dX3_parted_53 : decode cX3_parted 53 = .ok (.iadd, 1) := dk_96 (dk_at dksX3_parted_2 6 rfl rfl)
theorem dX3_parted_54 : decode cX3_parted 54 = .ok (.aload_n 0, 1) := dk_42 (dk_at dksX3_parted_2 7 rfl rfl)
theorem dX3_parted_55 : decode cX3_parted 55 = .ok (.getfield 39, 3) := dk_180 0 39 (dk_at dksX3_parted_2 8 rfl rfl)
theorem dX3_parted_58 : decode cX3_parted 58 = .ok (.bipush 7, 2) := dk_16 7 (dk_at dksX3_parted_2 11 rfl rfl)
theorem dX3_parted_60 : decode cX3_parted 60 = .ok (.iload_n 1, 1) := dk_27 (dk_at dksX3_parted_2 13 rfl rfl)
theorem dX3_parted_61 : decode cX3_parted 61 = .ok (.imul, 1) := dk_104 (dk_at dksX3_parted_2 14 rfl rfl)
theorem dX3_parted_62 : decode cX3_parted 62 = .ok (.iload 5, 2) := dk_21 5 (dk_at dksX3_parted_2 15 rfl rfl)
theorem dX3_parted_64 : decode cX3_parted 64 = .ok (.iadd, 1) := dk_96 (dk_at dksX3_parted_2 17 rfl rfl)
theorem dX3_parted_65 : decode cX3_parted 65 = .ok (.iload 6, 2) := dk_21 6 (dk_at dksX3_parted_2 18 rfl rfl)
theorem dX3_parted_67 : decode cX3_parted 67 = .ok (.iadd, 1) := dk_96 (dk_at dksX3_parted_2 20 rfl rfl)
theorem dX3_parted_68 : decode cX3_parted 68 = .ok (.iaload, 1) := dk_46 (dk_at dksX3_parted_2 21 rfl rfl)
theorem dX3_parted_69 : decode cX3_parted 69 = .ok (.iastore, 1) := dk_79 (dk_at dksX3_parted_2 22 rfl rfl)
theorem dX3_parted_70 : decode cX3_parted 70 = .ok (.aload_n 0, 1) := dk_42 (dk_at dksX3_parted_2 23 rfl rfl)
theorem dX3_parted_71 : decode cX3_parted 71 = .ok (.getfield 42, 3) := dk_180 0 42 (dk_at dksX3_parted_3 0 rfl rfl)
theorem dX3_parted_74 : decode cX3_parted 74 = .ok (.bipush 7, 2) := dk_16 7 (dk_at dksX3_parted_3 3 rfl rfl)
theorem dX3_parted_76 : decode cX3_parted 76 = .ok (.iload_n 3, 1) := dk_29 (dk_at dksX3_parted_3 5 rfl rfl)
theorem dX3_parted_77 : decode cX3_parted 77 = .ok (.imul, 1) := dk_104 (dk_at dksX3_parted_3 6 rfl rfl)
theorem dX3_parted_78 : decode cX3_parted 78 = .ok (.iload 6, 2) := dk_21 6 (dk_at dksX3_parted_3 7 rfl rfl)
theorem dX3_parted_80 : decode cX3_parted 80 = .ok (.iadd, 1) := dk_96 (dk_at dksX3_parted_3 9 rfl rfl)
theorem dX3_parted_81 : decode cX3_parted 81 = .ok (.aload_n 0, 1) := dk_42 (dk_at dksX3_parted_3 10 rfl rfl)
theorem dX3_parted_82 : decode cX3_parted 82 = .ok (.getfield 42, 3) := dk_180 0 42 (dk_at dksX3_parted_3 11 rfl rfl)
theorem dX3_parted_85 : decode cX3_parted 85 = .ok (.bipush 7, 2) := dk_16 7 (dk_at dksX3_parted_3 14 rfl rfl)
theorem dX3_parted_87 : decode cX3_parted 87 = .ok (.iload_n 1, 1) := dk_27 (dk_at dksX3_parted_3 16 rfl rfl)
theorem dX3_parted_88 : decode cX3_parted 88 = .ok (.imul, 1) := dk_104 (dk_at dksX3_parted_3 17 rfl rfl)
theorem dX3_parted_89 : decode cX3_parted 89 = .ok (.iload 5, 2) := dk_21 5 (dk_at dksX3_parted_3 18 rfl rfl)
theorem dX3_parted_91 : decode cX3_parted 91 = .ok (.iadd, 1) := dk_96 (dk_at dksX3_parted_3 20 rfl rfl)
theorem dX3_parted_92 : decode cX3_parted 92 = .ok (.iload 6, 2) := dk_21 6 (dk_at dksX3_parted_3 21 rfl rfl)
theorem dX3_parted_94 : decode cX3_parted 94 = .ok (.iadd, 1) := dk_96 (dk_at dksX3_parted_3 23 rfl rfl)
theorem dX3_parted_95 : decode cX3_parted 95 = .ok (.iaload, 1) := dk_46 (dk_at dksX3_parted_4 0 rfl rfl)
theorem dX3_parted_96 : decode cX3_parted 96 = .ok (.iastore, 1) := dk_79 (dk_at dksX3_parted_4 1 rfl rfl)
theorem dX3_parted_97 : decode cX3_parted 97 = .ok (.iinc 6 1, 3) := dk_132 6 1 (dk_at dksX3_parted_4 2 rfl rfl)
theorem dX3_parted_100 : decode cX3_parted 100 = .ok (.goto (-64), 3) := dk_167 255 192 (dk_at dksX3_parted_4 5 rfl rfl)
theorem dX3_parted_103 : decode cX3_parted 103 = .ok (.aload_n 0, 1) := dk_42 (dk_at dksX3_parted_4 8 rfl rfl)
theorem dX3_parted_104 : decode cX3_parted 104 = .ok (.getfield 26, 3) := dk_180 0 26 (dk_at dksX3_parted_4 9 rfl rfl)
theorem dX3_parted_107 : decode cX3_parted 107 = .ok (.iload_n 3, 1) := dk_29 (dk_at dksX3_parted_4 12 rfl rfl)
theorem dX3_parted_108 : decode cX3_parted 108 = .ok (.iload 4, 2) := dk_21 4 (dk_at dksX3_parted_4 13 rfl rfl)
theorem dX3_parted_110 : decode cX3_parted 110 = .ok (.iastore, 1) := dk_79 (dk_at dksX3_parted_4 15 rfl rfl)
theorem dX3_parted_111 : decode cX3_parted 111 = .ok (.aload_n 0, 1) := dk_42 (dk_at dksX3_parted_4 16 rfl rfl)
theorem dX3_parted_112 : decode cX3_parted 112 = .ok (.getfield 26, 3) := dk_180 0 26 (dk_at dksX3_parted_4 17 rfl rfl)
theorem dX3_parted_115 : decode cX3_parted 115 = .ok (.iload_n 1, 1) := dk_27 (dk_at dksX3_parted_4 20 rfl rfl)
theorem dX3_parted_116 : decode cX3_parted 116 = .ok (.iload 5, 2) := dk_21 5 (dk_at dksX3_parted_4 21 rfl rfl)
theorem dX3_parted_118 : decode cX3_parted 118 = .ok (.iastore, 1) := dk_79 (dk_at dksX3_parted_4 23 rfl rfl)
theorem dX3_parted_119 : decode cX3_parted 119 = .ok (.iload_n 3, 1) := dk_29 (dk_at dksX3_parted_5 0 rfl rfl)
theorem dX3_parted_120 : decode cX3_parted 120 = .ok (.ireturn, 1) := dk_172 (dk_at dksX3_parted_5 1 rfl rfl)
abbrev cX3_newMap : ByteArray := prog_9_method_44_code
def yX3_newMap : MethodName := ⟨RX3, "newMap", "(III)I"⟩
def dkwX3_newMap_3 : List UInt8 := [180, 1, 5, 4, 100, 172]
abbrev dktX3_newMap_3 : List UInt8 := dkwX3_newMap_3 ++ []
def dkwX3_newMap_2 : List UInt8 := [3, 84, 42, 89, 180, 1, 19, 4, 96, 181, 1, 19, 42, 89, 180, 1, 5, 4, 96, 181, 1, 5, 42]
abbrev dktX3_newMap_2 : List UInt8 := dkwX3_newMap_2 ++ dktX3_newMap_3
def dkwX3_newMap_1 : List UInt8 := [42, 180, 1, 5, 29, 79, 42, 180, 0, 88, 42, 180, 1, 5, 4, 84, 42, 180, 0, 92, 42, 180, 1, 5]
abbrev dktX3_newMap_1 : List UInt8 := dkwX3_newMap_1 ++ dktX3_newMap_2
def dkwX3_newMap_0 : List UInt8 := [42, 180, 0, 67, 42, 180, 1, 5, 27, 79, 42, 180, 0, 70, 42, 180, 1, 5, 28, 79, 42, 180, 0, 73]
abbrev dktX3_newMap_0 : List UInt8 := dkwX3_newMap_0 ++ dktX3_newMap_1
theorem dksX3_newMap_0 : cX3_newMap.data.toList.drop 0 = dktX3_newMap_0 := by decide +kernel
theorem dksX3_newMap_1 : cX3_newMap.data.toList.drop 24 = dktX3_newMap_1 := dk_seg dksX3_newMap_0 24 rfl rfl
theorem dksX3_newMap_2 : cX3_newMap.data.toList.drop 48 = dktX3_newMap_2 := dk_seg dksX3_newMap_1 24 rfl rfl
theorem dksX3_newMap_3 : cX3_newMap.data.toList.drop 71 = dktX3_newMap_3 := dk_seg dksX3_newMap_2 23 rfl rfl
theorem dX3_newMap_0 : decode cX3_newMap 0 = .ok (.aload_n 0, 1) := dk_42 (dk_at dksX3_newMap_0 0 rfl rfl)
theorem dX3_newMap_1 : decode cX3_newMap 1 = .ok (.getfield 67, 3) := dk_180 0 67 (dk_at dksX3_newMap_0 1 rfl rfl)
theorem dX3_newMap_4 : decode cX3_newMap 4 = .ok (.aload_n 0, 1) := dk_42 (dk_at dksX3_newMap_0 4 rfl rfl)
theorem dX3_newMap_5 : decode cX3_newMap 5 = .ok (.getfield 261, 3) := dk_180 1 5 (dk_at dksX3_newMap_0 5 rfl rfl)
theorem dX3_newMap_8 : decode cX3_newMap 8 = .ok (.iload_n 1, 1) := dk_27 (dk_at dksX3_newMap_0 8 rfl rfl)
theorem dX3_newMap_9 : decode cX3_newMap 9 = .ok (.iastore, 1) := dk_79 (dk_at dksX3_newMap_0 9 rfl rfl)
theorem dX3_newMap_10 : decode cX3_newMap 10 = .ok (.aload_n 0, 1) := dk_42 (dk_at dksX3_newMap_0 10 rfl rfl)
theorem dX3_newMap_11 : decode cX3_newMap 11 = .ok (.getfield 70, 3) := dk_180 0 70 (dk_at dksX3_newMap_0 11 rfl rfl)
theorem dX3_newMap_14 : decode cX3_newMap 14 = .ok (.aload_n 0, 1) := dk_42 (dk_at dksX3_newMap_0 14 rfl rfl)
theorem dX3_newMap_15 : decode cX3_newMap 15 = .ok (.getfield 261, 3) := dk_180 1 5 (dk_at dksX3_newMap_0 15 rfl rfl)
theorem dX3_newMap_18 : decode cX3_newMap 18 = .ok (.iload_n 2, 1) := dk_28 (dk_at dksX3_newMap_0 18 rfl rfl)
theorem dX3_newMap_19 : decode cX3_newMap 19 = .ok (.iastore, 1) := dk_79 (dk_at dksX3_newMap_0 19 rfl rfl)
theorem dX3_newMap_20 : decode cX3_newMap 20 = .ok (.aload_n 0, 1) := dk_42 (dk_at dksX3_newMap_0 20 rfl rfl)
theorem dX3_newMap_21 : decode cX3_newMap 21 = .ok (.getfield 73, 3) := dk_180 0 73 (dk_at dksX3_newMap_0 21 rfl rfl)
theorem dX3_newMap_24 : decode cX3_newMap 24 = .ok (.aload_n 0, 1) := dk_42 (dk_at dksX3_newMap_1 0 rfl rfl)
theorem dX3_newMap_25 : decode cX3_newMap 25 = .ok (.getfield 261, 3) := dk_180 1 5 (dk_at dksX3_newMap_1 1 rfl rfl)
theorem dX3_newMap_28 : decode cX3_newMap 28 = .ok (.iload_n 3, 1) := dk_29 (dk_at dksX3_newMap_1 4 rfl rfl)
theorem dX3_newMap_29 : decode cX3_newMap 29 = .ok (.iastore, 1) := dk_79 (dk_at dksX3_newMap_1 5 rfl rfl)
theorem dX3_newMap_30 : decode cX3_newMap 30 = .ok (.aload_n 0, 1) := dk_42 (dk_at dksX3_newMap_1 6 rfl rfl)
theorem dX3_newMap_31 : decode cX3_newMap 31 = .ok (.getfield 88, 3) := dk_180 0 88 (dk_at dksX3_newMap_1 7 rfl rfl)
theorem dX3_newMap_34 : decode cX3_newMap 34 = .ok (.aload_n 0, 1) := dk_42 (dk_at dksX3_newMap_1 10 rfl rfl)
theorem dX3_newMap_35 : decode cX3_newMap 35 = .ok (.getfield 261, 3) := dk_180 1 5 (dk_at dksX3_newMap_1 11 rfl rfl)
theorem dX3_newMap_38 : decode cX3_newMap 38 = .ok (.iconst 1, 1) := dk_4 (dk_at dksX3_newMap_1 14 rfl rfl)
theorem dX3_newMap_39 : decode cX3_newMap 39 = .ok (.bastore, 1) := dk_84 (dk_at dksX3_newMap_1 15 rfl rfl)
theorem dX3_newMap_40 : decode cX3_newMap 40 = .ok (.aload_n 0, 1) := dk_42 (dk_at dksX3_newMap_1 16 rfl rfl)
theorem dX3_newMap_41 : decode cX3_newMap 41 = .ok (.getfield 92, 3) := dk_180 0 92 (dk_at dksX3_newMap_1 17 rfl rfl)
theorem dX3_newMap_44 : decode cX3_newMap 44 = .ok (.aload_n 0, 1) := dk_42 (dk_at dksX3_newMap_1 20 rfl rfl)
theorem dX3_newMap_45 : decode cX3_newMap 45 = .ok (.getfield 261, 3) := dk_180 1 5 (dk_at dksX3_newMap_1 21 rfl rfl)
theorem dX3_newMap_48 : decode cX3_newMap 48 = .ok (.iconst 0, 1) := dk_3 (dk_at dksX3_newMap_2 0 rfl rfl)
theorem dX3_newMap_49 : decode cX3_newMap 49 = .ok (.bastore, 1) := dk_84 (dk_at dksX3_newMap_2 1 rfl rfl)
theorem dX3_newMap_50 : decode cX3_newMap 50 = .ok (.aload_n 0, 1) := dk_42 (dk_at dksX3_newMap_2 2 rfl rfl)
theorem dX3_newMap_51 : decode cX3_newMap 51 = .ok (.dup, 1) := dk_89 (dk_at dksX3_newMap_2 3 rfl rfl)
theorem dX3_newMap_52 : decode cX3_newMap 52 = .ok (.getfield 275, 3) := dk_180 1 19 (dk_at dksX3_newMap_2 4 rfl rfl)
theorem dX3_newMap_55 : decode cX3_newMap 55 = .ok (.iconst 1, 1) := dk_4 (dk_at dksX3_newMap_2 7 rfl rfl)
theorem dX3_newMap_56 : decode cX3_newMap 56 = .ok (.iadd, 1) := dk_96 (dk_at dksX3_newMap_2 8 rfl rfl)
theorem dX3_newMap_57 : decode cX3_newMap 57 = .ok (.putfield 275, 3) := dk_181 1 19 (dk_at dksX3_newMap_2 9 rfl rfl)
theorem dX3_newMap_60 : decode cX3_newMap 60 = .ok (.aload_n 0, 1) := dk_42 (dk_at dksX3_newMap_2 12 rfl rfl)
theorem dX3_newMap_61 : decode cX3_newMap 61 = .ok (.dup, 1) := dk_89 (dk_at dksX3_newMap_2 13 rfl rfl)
theorem dX3_newMap_62 : decode cX3_newMap 62 = .ok (.getfield 261, 3) := dk_180 1 5 (dk_at dksX3_newMap_2 14 rfl rfl)
theorem dX3_newMap_65 : decode cX3_newMap 65 = .ok (.iconst 1, 1) := dk_4 (dk_at dksX3_newMap_2 17 rfl rfl)
theorem dX3_newMap_66 : decode cX3_newMap 66 = .ok (.iadd, 1) := dk_96 (dk_at dksX3_newMap_2 18 rfl rfl)
theorem dX3_newMap_67 : decode cX3_newMap 67 = .ok (.putfield 261, 3) := dk_181 1 5 (dk_at dksX3_newMap_2 19 rfl rfl)
theorem dX3_newMap_70 : decode cX3_newMap 70 = .ok (.aload_n 0, 1) := dk_42 (dk_at dksX3_newMap_2 22 rfl rfl)
theorem dX3_newMap_71 : decode cX3_newMap 71 = .ok (.getfield 261, 3) := dk_180 1 5 (dk_at dksX3_newMap_3 0 rfl rfl)
theorem dX3_newMap_74 : decode cX3_newMap 74 = .ok (.iconst 1, 1) := dk_4 (dk_at dksX3_newMap_3 3 rfl rfl)
theorem dX3_newMap_75 : decode cX3_newMap 75 = .ok (.isub, 1) := dk_100 (dk_at dksX3_newMap_3 4 rfl rfl)
theorem dX3_newMap_76 : decode cX3_newMap 76 = .ok (.ireturn, 1) := dk_172 (dk_at dksX3_newMap_3 5 rfl rfl)
abbrev cX3_wide : ByteArray := prog_9_method_47_code
def yX3_wide : MethodName := ⟨RX3, "wide", "(I)I"⟩
def dkwX3_wide_3 : List UInt8 := [181, 0, 190, 42, 3, 181, 1, 8, 42, 3, 181, 0, 184, 42, 3, 181, 0, 187, 27, 172]
abbrev dktX3_wide_3 : List UInt8 := dkwX3_wide_3 ++ []
def dkwX3_wide_2 : List UInt8 := [132, 2, 1, 167, 255, 238, 42, 3, 181, 1, 5, 42, 3, 181, 1, 19, 42, 3, 181, 1, 12, 42, 3]
abbrev dktX3_wide_2 : List UInt8 := dkwX3_wide_2 ++ dktX3_wide_3
def dkwX3_wide_1 : List UInt8 := [172, 42, 27, 181, 0, 45, 3, 61, 28, 42, 180, 1, 5, 162, 0, 16, 42, 180, 0, 88, 28, 3, 84]
abbrev dktX3_wide_1 : List UInt8 := dkwX3_wide_1 ++ dktX3_wide_2
def dkwX3_wide_0 : List UInt8 := [42, 3, 181, 0, 116, 27, 133, 20, 1, 49, 20, 1, 51, 184, 0, 174, 154, 0, 9, 42, 4, 182, 1, 36]
abbrev dktX3_wide_0 : List UInt8 := dkwX3_wide_0 ++ dktX3_wide_1
theorem dksX3_wide_0 : cX3_wide.data.toList.drop 0 = dktX3_wide_0 := by decide +kernel
theorem dksX3_wide_1 : cX3_wide.data.toList.drop 24 = dktX3_wide_1 := dk_seg dksX3_wide_0 24 rfl rfl
theorem dksX3_wide_2 : cX3_wide.data.toList.drop 47 = dktX3_wide_2 := dk_seg dksX3_wide_1 23 rfl rfl
theorem dksX3_wide_3 : cX3_wide.data.toList.drop 70 = dktX3_wide_3 := dk_seg dksX3_wide_2 23 rfl rfl
theorem dX3_wide_0 : decode cX3_wide 0 = .ok (.aload_n 0, 1) := dk_42 (dk_at dksX3_wide_0 0 rfl rfl)
theorem dX3_wide_1 : decode cX3_wide 1 = .ok (.iconst 0, 1) := dk_3 (dk_at dksX3_wide_0 1 rfl rfl)
theorem dX3_wide_2 : decode cX3_wide 2 = .ok (.putfield 116, 3) := dk_181 0 116 (dk_at dksX3_wide_0 2 rfl rfl)
theorem dX3_wide_5 : decode cX3_wide 5 = .ok (.iload_n 1, 1) := dk_27 (dk_at dksX3_wide_0 5 rfl rfl)
theorem dX3_wide_6 : decode cX3_wide 6 = .ok (.i2l, 1) := dk_133 (dk_at dksX3_wide_0 6 rfl rfl)
theorem dX3_wide_7 : decode cX3_wide 7 = .ok (.ldc2_w 305, 3) := dk_20 1 49 (dk_at dksX3_wide_0 7 rfl rfl)
theorem dX3_wide_10 : decode cX3_wide 10 = .ok (.ldc2_w 307, 3) := dk_20 1 51 (dk_at dksX3_wide_0 10 rfl rfl)
theorem dX3_wide_13 : decode cX3_wide 13 = .ok (.invokestatic 174, 3) := dk_184 0 174 (dk_at dksX3_wide_0 13 rfl rfl)
theorem dX3_wide_16 : decode cX3_wide 16 = .ok (.ifCond .ne 9, 3) := dk_154 0 9 (dk_at dksX3_wide_0 16 rfl rfl)
theorem dX3_wide_19 : decode cX3_wide 19 = .ok (.aload_n 0, 1) := dk_42 (dk_at dksX3_wide_0 19 rfl rfl)
theorem dX3_wide_20 : decode cX3_wide 20 = .ok (.iconst 1, 1) := dk_4 (dk_at dksX3_wide_0 20 rfl rfl)
theorem dX3_wide_21 : decode cX3_wide 21 = .ok (.invokevirtual 292, 3) := dk_182 1 36 (dk_at dksX3_wide_0 21 rfl rfl)
theorem dX3_wide_24 : decode cX3_wide 24 = .ok (.ireturn, 1) := dk_172 (dk_at dksX3_wide_1 0 rfl rfl)
theorem dX3_wide_25 : decode cX3_wide 25 = .ok (.aload_n 0, 1) := dk_42 (dk_at dksX3_wide_1 1 rfl rfl)
theorem dX3_wide_26 : decode cX3_wide 26 = .ok (.iload_n 1, 1) := dk_27 (dk_at dksX3_wide_1 2 rfl rfl)
theorem dX3_wide_27 : decode cX3_wide 27 = .ok (.putfield 45, 3) := dk_181 0 45 (dk_at dksX3_wide_1 3 rfl rfl)
theorem dX3_wide_30 : decode cX3_wide 30 = .ok (.iconst 0, 1) := dk_3 (dk_at dksX3_wide_1 6 rfl rfl)
theorem dX3_wide_31 : decode cX3_wide 31 = .ok (.istore_n 2, 1) := dk_61 (dk_at dksX3_wide_1 7 rfl rfl)
theorem dX3_wide_32 : decode cX3_wide 32 = .ok (.iload_n 2, 1) := dk_28 (dk_at dksX3_wide_1 8 rfl rfl)
theorem dX3_wide_33 : decode cX3_wide 33 = .ok (.aload_n 0, 1) := dk_42 (dk_at dksX3_wide_1 9 rfl rfl)
theorem dX3_wide_34 : decode cX3_wide 34 = .ok (.getfield 261, 3) := dk_180 1 5 (dk_at dksX3_wide_1 10 rfl rfl)
theorem dX3_wide_37 : decode cX3_wide 37 = .ok (.if_icmp .ge 16, 3) := dk_162 0 16 (dk_at dksX3_wide_1 13 rfl rfl)
theorem dX3_wide_40 : decode cX3_wide 40 = .ok (.aload_n 0, 1) := dk_42 (dk_at dksX3_wide_1 16 rfl rfl)
theorem dX3_wide_41 : decode cX3_wide 41 = .ok (.getfield 88, 3) := dk_180 0 88 (dk_at dksX3_wide_1 17 rfl rfl)
theorem dX3_wide_44 : decode cX3_wide 44 = .ok (.iload_n 2, 1) := dk_28 (dk_at dksX3_wide_1 20 rfl rfl)
theorem dX3_wide_45 : decode cX3_wide 45 = .ok (.iconst 0, 1) := dk_3 (dk_at dksX3_wide_1 21 rfl rfl)
theorem dX3_wide_46 : decode cX3_wide 46 = .ok (.bastore, 1) := dk_84 (dk_at dksX3_wide_1 22 rfl rfl)
theorem dX3_wide_47 : decode cX3_wide 47 = .ok (.iinc 2 1, 3) := dk_132 2 1 (dk_at dksX3_wide_2 0 rfl rfl)
theorem dX3_wide_50 : decode cX3_wide 50 = .ok (.goto (-18), 3) := dk_167 255 238 (dk_at dksX3_wide_2 3 rfl rfl)
theorem dX3_wide_53 : decode cX3_wide 53 = .ok (.aload_n 0, 1) := dk_42 (dk_at dksX3_wide_2 6 rfl rfl)
theorem dX3_wide_54 : decode cX3_wide 54 = .ok (.iconst 0, 1) := dk_3 (dk_at dksX3_wide_2 7 rfl rfl)
theorem dX3_wide_55 : decode cX3_wide 55 = .ok (.putfield 261, 3) := dk_181 1 5 (dk_at dksX3_wide_2 8 rfl rfl)
theorem dX3_wide_58 : decode cX3_wide 58 = .ok (.aload_n 0, 1) := dk_42 (dk_at dksX3_wide_2 11 rfl rfl)
theorem dX3_wide_59 : decode cX3_wide 59 = .ok (.iconst 0, 1) := dk_3 (dk_at dksX3_wide_2 12 rfl rfl)
theorem dX3_wide_60 : decode cX3_wide 60 = .ok (.putfield 275, 3) := dk_181 1 19 (dk_at dksX3_wide_2 13 rfl rfl)
theorem dX3_wide_63 : decode cX3_wide 63 = .ok (.aload_n 0, 1) := dk_42 (dk_at dksX3_wide_2 16 rfl rfl)
theorem dX3_wide_64 : decode cX3_wide 64 = .ok (.iconst 0, 1) := dk_3 (dk_at dksX3_wide_2 17 rfl rfl)
theorem dX3_wide_65 : decode cX3_wide 65 = .ok (.putfield 268, 3) := dk_181 1 12 (dk_at dksX3_wide_2 18 rfl rfl)
theorem dX3_wide_68 : decode cX3_wide 68 = .ok (.aload_n 0, 1) := dk_42 (dk_at dksX3_wide_2 21 rfl rfl)
theorem dX3_wide_69 : decode cX3_wide 69 = .ok (.iconst 0, 1) := dk_3 (dk_at dksX3_wide_2 22 rfl rfl)
theorem dX3_wide_70 : decode cX3_wide 70 = .ok (.putfield 190, 3) := dk_181 0 190 (dk_at dksX3_wide_3 0 rfl rfl)
theorem dX3_wide_73 : decode cX3_wide 73 = .ok (.aload_n 0, 1) := dk_42 (dk_at dksX3_wide_3 3 rfl rfl)
theorem dX3_wide_74 : decode cX3_wide 74 = .ok (.iconst 0, 1) := dk_3 (dk_at dksX3_wide_3 4 rfl rfl)
theorem dX3_wide_75 : decode cX3_wide 75 = .ok (.putfield 264, 3) := dk_181 1 8 (dk_at dksX3_wide_3 5 rfl rfl)
theorem dX3_wide_78 : decode cX3_wide 78 = .ok (.aload_n 0, 1) := dk_42 (dk_at dksX3_wide_3 8 rfl rfl)
theorem dX3_wide_79 : decode cX3_wide 79 = .ok (.iconst 0, 1) := dk_3 (dk_at dksX3_wide_3 9 rfl rfl)
theorem dX3_wide_80 : decode cX3_wide 80 = .ok (.putfield 184, 3) := dk_181 0 184 (dk_at dksX3_wide_3 10 rfl rfl)
theorem dX3_wide_83 : decode cX3_wide 83 = .ok (.aload_n 0, 1) := dk_42 (dk_at dksX3_wide_3 13 rfl rfl)
theorem dX3_wide_84 : decode cX3_wide 84 = .ok (.iconst 0, 1) := dk_3 (dk_at dksX3_wide_3 14 rfl rfl)
theorem dX3_wide_85 : decode cX3_wide 85 = .ok (.putfield 187, 3) := dk_181 0 187 (dk_at dksX3_wide_3 15 rfl rfl)
theorem dX3_wide_88 : decode cX3_wide 88 = .ok (.iload_n 1, 1) := dk_27 (dk_at dksX3_wide_3 18 rfl rfl)
theorem dX3_wide_89 : decode cX3_wide 89 = .ok (.ireturn, 1) := dk_172 (dk_at dksX3_wide_3 19 rfl rfl)
abbrev cX3_find : ByteArray := prog_9_method_48_code
def yX3_find : MethodName := ⟨RX3, "find", "(II)I"⟩
def dkwX3_find_1 : List UInt8 := [167, 0, 5, 18, 170, 172]
abbrev dktX3_find_1 : List UInt8 := dkwX3_find_1 ++ []
def dkwX3_find_0 : List UInt8 := [42, 3, 181, 0, 116, 42, 27, 182, 1, 53, 153, 0, 17, 42, 42, 180, 0, 67, 27, 46, 28, 182, 0, 218]
abbrev dktX3_find_0 : List UInt8 := dkwX3_find_0 ++ dktX3_find_1
theorem dksX3_find_0 : cX3_find.data.toList.drop 0 = dktX3_find_0 := by decide +kernel
theorem dksX3_find_1 : cX3_find.data.toList.drop 24 = dktX3_find_1 := dk_seg dksX3_find_0 24 rfl rfl
theorem dX3_find_0 : decode cX3_find 0 = .ok (.aload_n 0, 1) := dk_42 (dk_at dksX3_find_0 0 rfl rfl)
theorem dX3_find_1 : decode cX3_find 1 = .ok (.iconst 0, 1) := dk_3 (dk_at dksX3_find_0 1 rfl rfl)
theorem dX3_find_2 : decode cX3_find 2 = .ok (.putfield 116, 3) := dk_181 0 116 (dk_at dksX3_find_0 2 rfl rfl)
theorem dX3_find_5 : decode cX3_find 5 = .ok (.aload_n 0, 1) := dk_42 (dk_at dksX3_find_0 5 rfl rfl)
theorem dX3_find_6 : decode cX3_find 6 = .ok (.iload_n 1, 1) := dk_27 (dk_at dksX3_find_0 6 rfl rfl)
theorem dX3_find_7 : decode cX3_find 7 = .ok (.invokevirtual 309, 3) := dk_182 1 53 (dk_at dksX3_find_0 7 rfl rfl)
theorem dX3_find_10 : decode cX3_find 10 = .ok (.ifCond .eq 17, 3) := dk_153 0 17 (dk_at dksX3_find_0 10 rfl rfl)
theorem dX3_find_13 : decode cX3_find 13 = .ok (.aload_n 0, 1) := dk_42 (dk_at dksX3_find_0 13 rfl rfl)
theorem dX3_find_14 : decode cX3_find 14 = .ok (.aload_n 0, 1) := dk_42 (dk_at dksX3_find_0 14 rfl rfl)
theorem dX3_find_15 : decode cX3_find 15 = .ok (.getfield 67, 3) := dk_180 0 67 (dk_at dksX3_find_0 15 rfl rfl)
theorem dX3_find_18 : decode cX3_find 18 = .ok (.iload_n 1, 1) := dk_27 (dk_at dksX3_find_0 18 rfl rfl)
theorem dX3_find_19 : decode cX3_find 19 = .ok (.iaload, 1) := dk_46 (dk_at dksX3_find_0 19 rfl rfl)
theorem dX3_find_20 : decode cX3_find 20 = .ok (.iload_n 2, 1) := dk_28 (dk_at dksX3_find_0 20 rfl rfl)
theorem dX3_find_21 : decode cX3_find 21 = .ok (.invokevirtual 218, 3) := dk_182 0 218 (dk_at dksX3_find_0 21 rfl rfl)
theorem dX3_find_24 : decode cX3_find 24 = .ok (.goto 5, 3) := dk_167 0 5 (dk_at dksX3_find_1 0 rfl rfl)
theorem dX3_find_27 : decode cX3_find 27 = .ok (.ldc 170, 2) := dk_18 170 (dk_at dksX3_find_1 3 rfl rfl)
theorem dX3_find_29 : decode cX3_find 29 = .ok (.ireturn, 1) := dk_172 (dk_at dksX3_find_1 5 rfl rfl)
abbrev cX3_isMap : ByteArray := prog_9_method_42_code
def yX3_isMap : MethodName := ⟨RX3, "isMap", "(I)Z"⟩
def dkwX3_isMap_1 : List UInt8 := [167, 0, 4, 3, 172]
abbrev dktX3_isMap_1 : List UInt8 := dkwX3_isMap_1 ++ []
def dkwX3_isMap_0 : List UInt8 := [27, 155, 0, 24, 27, 42, 180, 1, 5, 162, 0, 16, 42, 180, 0, 88, 27, 51, 153, 0, 7, 4]
abbrev dktX3_isMap_0 : List UInt8 := dkwX3_isMap_0 ++ dktX3_isMap_1
theorem dksX3_isMap_0 : cX3_isMap.data.toList.drop 0 = dktX3_isMap_0 := by decide +kernel
theorem dksX3_isMap_1 : cX3_isMap.data.toList.drop 22 = dktX3_isMap_1 := dk_seg dksX3_isMap_0 22 rfl rfl
theorem dX3_isMap_0 : decode cX3_isMap 0 = .ok (.iload_n 1, 1) := dk_27 (dk_at dksX3_isMap_0 0 rfl rfl)
theorem dX3_isMap_1 : decode cX3_isMap 1 = .ok (.ifCond .lt 24, 3) := dk_155 0 24 (dk_at dksX3_isMap_0 1 rfl rfl)
theorem dX3_isMap_4 : decode cX3_isMap 4 = .ok (.iload_n 1, 1) := dk_27 (dk_at dksX3_isMap_0 4 rfl rfl)
theorem dX3_isMap_5 : decode cX3_isMap 5 = .ok (.aload_n 0, 1) := dk_42 (dk_at dksX3_isMap_0 5 rfl rfl)
theorem dX3_isMap_6 : decode cX3_isMap 6 = .ok (.getfield 261, 3) := dk_180 1 5 (dk_at dksX3_isMap_0 6 rfl rfl)
theorem dX3_isMap_9 : decode cX3_isMap 9 = .ok (.if_icmp .ge 16, 3) := dk_162 0 16 (dk_at dksX3_isMap_0 9 rfl rfl)
theorem dX3_isMap_12 : decode cX3_isMap 12 = .ok (.aload_n 0, 1) := dk_42 (dk_at dksX3_isMap_0 12 rfl rfl)
theorem dX3_isMap_13 : decode cX3_isMap 13 = .ok (.getfield 88, 3) := dk_180 0 88 (dk_at dksX3_isMap_0 13 rfl rfl)
theorem dX3_isMap_16 : decode cX3_isMap 16 = .ok (.iload_n 1, 1) := dk_27 (dk_at dksX3_isMap_0 16 rfl rfl)
theorem dX3_isMap_17 : decode cX3_isMap 17 = .ok (.baload, 1) := dk_51 (dk_at dksX3_isMap_0 17 rfl rfl)
theorem dX3_isMap_18 : decode cX3_isMap 18 = .ok (.ifCond .eq 7, 3) := dk_153 0 7 (dk_at dksX3_isMap_0 18 rfl rfl)
theorem dX3_isMap_21 : decode cX3_isMap 21 = .ok (.iconst 1, 1) := dk_4 (dk_at dksX3_isMap_0 21 rfl rfl)
theorem dX3_isMap_22 : decode cX3_isMap 22 = .ok (.goto 4, 3) := dk_167 0 4 (dk_at dksX3_isMap_1 0 rfl rfl)
theorem dX3_isMap_25 : decode cX3_isMap 25 = .ok (.iconst 0, 1) := dk_3 (dk_at dksX3_isMap_1 3 rfl rfl)
theorem dX3_isMap_26 : decode cX3_isMap 26 = .ok (.ireturn, 1) := dk_172 (dk_at dksX3_isMap_1 4 rfl rfl)
abbrev cX3_key : ByteArray := prog_9_method_49_code
def yX3_key : MethodName := ⟨RX3, "key", "(II)I"⟩
def dkwX3_key_2 : List UInt8 := [28, 46, 172]
abbrev dktX3_key_2 : List UInt8 := dkwX3_key_2 ++ []
def dkwX3_key_1 : List UInt8 := [27, 46, 182, 0, 252, 28, 42, 180, 0, 249, 161, 0, 5, 3, 172, 42, 3, 181, 0, 116, 42, 180, 0, 55]
abbrev dktX3_key_1 : List UInt8 := dkwX3_key_1 ++ dktX3_key_2
def dkwX3_key_0 : List UInt8 := [42, 4, 181, 0, 116, 42, 27, 182, 1, 53, 153, 0, 7, 28, 156, 0, 5, 3, 172, 42, 42, 180, 0, 67]
abbrev dktX3_key_0 : List UInt8 := dkwX3_key_0 ++ dktX3_key_1
theorem dksX3_key_0 : cX3_key.data.toList.drop 0 = dktX3_key_0 := by decide +kernel
theorem dksX3_key_1 : cX3_key.data.toList.drop 24 = dktX3_key_1 := dk_seg dksX3_key_0 24 rfl rfl
theorem dksX3_key_2 : cX3_key.data.toList.drop 48 = dktX3_key_2 := dk_seg dksX3_key_1 24 rfl rfl
theorem dX3_key_0 : decode cX3_key 0 = .ok (.aload_n 0, 1) := dk_42 (dk_at dksX3_key_0 0 rfl rfl)
theorem dX3_key_1 : decode cX3_key 1 = .ok (.iconst 1, 1) := dk_4 (dk_at dksX3_key_0 1 rfl rfl)
theorem dX3_key_2 : decode cX3_key 2 = .ok (.putfield 116, 3) := dk_181 0 116 (dk_at dksX3_key_0 2 rfl rfl)
theorem dX3_key_5 : decode cX3_key 5 = .ok (.aload_n 0, 1) := dk_42 (dk_at dksX3_key_0 5 rfl rfl)
theorem dX3_key_6 : decode cX3_key 6 = .ok (.iload_n 1, 1) := dk_27 (dk_at dksX3_key_0 6 rfl rfl)
theorem dX3_key_7 : decode cX3_key 7 = .ok (.invokevirtual 309, 3) := dk_182 1 53 (dk_at dksX3_key_0 7 rfl rfl)
theorem dX3_key_10 : decode cX3_key 10 = .ok (.ifCond .eq 7, 3) := dk_153 0 7 (dk_at dksX3_key_0 10 rfl rfl)
theorem dX3_key_13 : decode cX3_key 13 = .ok (.iload_n 2, 1) := dk_28 (dk_at dksX3_key_0 13 rfl rfl)
theorem dX3_key_14 : decode cX3_key 14 = .ok (.ifCond .ge 5, 3) := dk_156 0 5 (dk_at dksX3_key_0 14 rfl rfl)
theorem dX3_key_17 : decode cX3_key 17 = .ok (.iconst 0, 1) := dk_3 (dk_at dksX3_key_0 17 rfl rfl)
theorem dX3_key_18 : decode cX3_key 18 = .ok (.ireturn, 1) := dk_172 (dk_at dksX3_key_0 18 rfl rfl)
theorem dX3_key_19 : decode cX3_key 19 = .ok (.aload_n 0, 1) := dk_42 (dk_at dksX3_key_0 19 rfl rfl)
theorem dX3_key_20 : decode cX3_key 20 = .ok (.aload_n 0, 1) := dk_42 (dk_at dksX3_key_0 20 rfl rfl)
theorem dX3_key_21 : decode cX3_key 21 = .ok (.getfield 67, 3) := dk_180 0 67 (dk_at dksX3_key_0 21 rfl rfl)
theorem dX3_key_24 : decode cX3_key 24 = .ok (.iload_n 1, 1) := dk_27 (dk_at dksX3_key_1 0 rfl rfl)
theorem dX3_key_25 : decode cX3_key 25 = .ok (.iaload, 1) := dk_46 (dk_at dksX3_key_1 1 rfl rfl)
theorem dX3_key_26 : decode cX3_key 26 = .ok (.invokevirtual 252, 3) := dk_182 0 252 (dk_at dksX3_key_1 2 rfl rfl)
theorem dX3_key_29 : decode cX3_key 29 = .ok (.iload_n 2, 1) := dk_28 (dk_at dksX3_key_1 5 rfl rfl)
theorem dX3_key_30 : decode cX3_key 30 = .ok (.aload_n 0, 1) := dk_42 (dk_at dksX3_key_1 6 rfl rfl)
theorem dX3_key_31 : decode cX3_key 31 = .ok (.getfield 249, 3) := dk_180 0 249 (dk_at dksX3_key_1 7 rfl rfl)
theorem dX3_key_34 : decode cX3_key 34 = .ok (.if_icmp .lt 5, 3) := dk_161 0 5 (dk_at dksX3_key_1 10 rfl rfl)
theorem dX3_key_37 : decode cX3_key 37 = .ok (.iconst 0, 1) := dk_3 (dk_at dksX3_key_1 13 rfl rfl)
theorem dX3_key_38 : decode cX3_key 38 = .ok (.ireturn, 1) := dk_172 (dk_at dksX3_key_1 14 rfl rfl)
theorem dX3_key_39 : decode cX3_key 39 = .ok (.aload_n 0, 1) := dk_42 (dk_at dksX3_key_1 15 rfl rfl)
theorem dX3_key_40 : decode cX3_key 40 = .ok (.iconst 0, 1) := dk_3 (dk_at dksX3_key_1 16 rfl rfl)
theorem dX3_key_41 : decode cX3_key 41 = .ok (.putfield 116, 3) := dk_181 0 116 (dk_at dksX3_key_1 17 rfl rfl)
theorem dX3_key_44 : decode cX3_key 44 = .ok (.aload_n 0, 1) := dk_42 (dk_at dksX3_key_1 20 rfl rfl)
theorem dX3_key_45 : decode cX3_key 45 = .ok (.getfield 55, 3) := dk_180 0 55 (dk_at dksX3_key_1 21 rfl rfl)
theorem dX3_key_48 : decode cX3_key 48 = .ok (.iload_n 2, 1) := dk_28 (dk_at dksX3_key_2 0 rfl rfl)
theorem dX3_key_49 : decode cX3_key 49 = .ok (.iaload, 1) := dk_46 (dk_at dksX3_key_2 1 rfl rfl)
theorem dX3_key_50 : decode cX3_key 50 = .ok (.ireturn, 1) := dk_172 (dk_at dksX3_key_2 2 rfl rfl)
abbrev cX3_laysTree : ByteArray := prog_9_method_37_code
def yX3_laysTree : MethodName := ⟨RX3, "laysTree", "(I)V"⟩
def dkwX3_laysTree_0 : List UInt8 := [42, 3, 181, 0, 249, 42, 3, 181, 0, 243, 42, 27, 3, 182, 0, 246, 177]
abbrev dktX3_laysTree_0 : List UInt8 := dkwX3_laysTree_0 ++ []
theorem dksX3_laysTree_0 : cX3_laysTree.data.toList.drop 0 = dktX3_laysTree_0 := by decide +kernel
theorem dX3_laysTree_0 : decode cX3_laysTree 0 = .ok (.aload_n 0, 1) := dk_42 (dk_at dksX3_laysTree_0 0 rfl rfl)
theorem dX3_laysTree_1 : decode cX3_laysTree 1 = .ok (.iconst 0, 1) := dk_3 (dk_at dksX3_laysTree_0 1 rfl rfl)
theorem dX3_laysTree_2 : decode cX3_laysTree 2 = .ok (.putfield 249, 3) := dk_181 0 249 (dk_at dksX3_laysTree_0 2 rfl rfl)
theorem dX3_laysTree_5 : decode cX3_laysTree 5 = .ok (.aload_n 0, 1) := dk_42 (dk_at dksX3_laysTree_0 5 rfl rfl)
theorem dX3_laysTree_6 : decode cX3_laysTree 6 = .ok (.iconst 0, 1) := dk_3 (dk_at dksX3_laysTree_0 6 rfl rfl)
theorem dX3_laysTree_7 : decode cX3_laysTree 7 = .ok (.putfield 243, 3) := dk_181 0 243 (dk_at dksX3_laysTree_0 7 rfl rfl)
theorem dX3_laysTree_10 : decode cX3_laysTree 10 = .ok (.aload_n 0, 1) := dk_42 (dk_at dksX3_laysTree_0 10 rfl rfl)
theorem dX3_laysTree_11 : decode cX3_laysTree 11 = .ok (.iload_n 1, 1) := dk_27 (dk_at dksX3_laysTree_0 11 rfl rfl)
theorem dX3_laysTree_12 : decode cX3_laysTree 12 = .ok (.iconst 0, 1) := dk_3 (dk_at dksX3_laysTree_0 12 rfl rfl)
theorem dX3_laysTree_13 : decode cX3_laysTree 13 = .ok (.invokevirtual 246, 3) := dk_182 0 246 (dk_at dksX3_laysTree_0 13 rfl rfl)
theorem dX3_laysTree_16 : decode cX3_laysTree 16 = .ok (.return_, 1) := dk_177 (dk_at dksX3_laysTree_0 16 rfl rfl)
abbrev cX3_goesThrough : ByteArray := prog_9_method_36_code
def yX3_goesThrough : MethodName := ⟨RX3, "goesThrough", "(II)V"⟩
def dkwX3_goesThrough_5 : List UInt8 := [181, 0, 249, 132, 3, 1, 167, 255, 168, 177]
abbrev dktX3_goesThrough_5 : List UInt8 := dkwX3_goesThrough_5 ++ []
def dkwX3_goesThrough_4 : List UInt8 := [180, 0, 249, 42, 180, 0, 42, 16, 7, 27, 104, 29, 96, 46, 79, 42, 89, 180, 0, 249, 4, 96]
abbrev dktX3_goesThrough_4 : List UInt8 := dkwX3_goesThrough_4 ++ dktX3_goesThrough_5
def dkwX3_goesThrough_3 : List UInt8 := [180, 0, 55, 42, 180, 0, 249, 42, 180, 0, 39, 16, 7, 27, 104, 29, 96, 46, 79, 42, 180, 0, 58, 42]
abbrev dktX3_goesThrough_3 : List UInt8 := dkwX3_goesThrough_3 ++ dktX3_goesThrough_4
def dkwX3_goesThrough_2 : List UInt8 := [27, 46, 154, 0, 19, 42, 42, 27, 29, 182, 0, 197, 28, 4, 96, 182, 0, 246, 167, 0, 53, 42]
abbrev dktX3_goesThrough_2 : List UInt8 := dkwX3_goesThrough_2 ++ dktX3_goesThrough_3
def dkwX3_goesThrough_1 : List UInt8 := [180, 0, 243, 4, 96, 181, 0, 243, 3, 62, 29, 42, 180, 0, 26, 27, 46, 162, 0, 84, 42, 180, 0, 23]
abbrev dktX3_goesThrough_1 : List UInt8 := dkwX3_goesThrough_1 ++ dktX3_goesThrough_2
def dkwX3_goesThrough_0 : List UInt8 := [42, 180, 0, 61, 42, 180, 0, 243, 27, 79, 42, 180, 0, 64, 42, 180, 0, 243, 28, 79, 42, 89]
abbrev dktX3_goesThrough_0 : List UInt8 := dkwX3_goesThrough_0 ++ dktX3_goesThrough_1
theorem dksX3_goesThrough_0 : cX3_goesThrough.data.toList.drop 0 = dktX3_goesThrough_0 := by decide +kernel
theorem dksX3_goesThrough_1 : cX3_goesThrough.data.toList.drop 22 = dktX3_goesThrough_1 := dk_seg dksX3_goesThrough_0 22 rfl rfl
theorem dksX3_goesThrough_2 : cX3_goesThrough.data.toList.drop 46 = dktX3_goesThrough_2 := dk_seg dksX3_goesThrough_1 24 rfl rfl
theorem dksX3_goesThrough_3 : cX3_goesThrough.data.toList.drop 68 = dktX3_goesThrough_3 := dk_seg dksX3_goesThrough_2 22 rfl rfl
theorem dksX3_goesThrough_4 : cX3_goesThrough.data.toList.drop 92 = dktX3_goesThrough_4 := dk_seg dksX3_goesThrough_3 24 rfl rfl
theorem dksX3_goesThrough_5 : cX3_goesThrough.data.toList.drop 114 = dktX3_goesThrough_5 := dk_seg dksX3_goesThrough_4 22 rfl rfl
theorem dX3_goesThrough_0 : decode cX3_goesThrough 0 = .ok (.aload_n 0, 1) := dk_42 (dk_at dksX3_goesThrough_0 0 rfl rfl)
theorem dX3_goesThrough_1 : decode cX3_goesThrough 1 = .ok (.getfield 61, 3) := dk_180 0 61 (dk_at dksX3_goesThrough_0 1 rfl rfl)
theorem dX3_goesThrough_4 : decode cX3_goesThrough 4 = .ok (.aload_n 0, 1) := dk_42 (dk_at dksX3_goesThrough_0 4 rfl rfl)
theorem dX3_goesThrough_5 : decode cX3_goesThrough 5 = .ok (.getfield 243, 3) := dk_180 0 243 (dk_at dksX3_goesThrough_0 5 rfl rfl)
theorem dX3_goesThrough_8 : decode cX3_goesThrough 8 = .ok (.iload_n 1, 1) := dk_27 (dk_at dksX3_goesThrough_0 8 rfl rfl)
theorem dX3_goesThrough_9 : decode cX3_goesThrough 9 = .ok (.iastore, 1) := dk_79 (dk_at dksX3_goesThrough_0 9 rfl rfl)
theorem dX3_goesThrough_10 : decode cX3_goesThrough 10 = .ok (.aload_n 0, 1) := dk_42 (dk_at dksX3_goesThrough_0 10 rfl rfl)
theorem dX3_goesThrough_11 : decode cX3_goesThrough 11 = .ok (.getfield 64, 3) := dk_180 0 64 (dk_at dksX3_goesThrough_0 11 rfl rfl)
theorem dX3_goesThrough_14 : decode cX3_goesThrough 14 = .ok (.aload_n 0, 1) := dk_42 (dk_at dksX3_goesThrough_0 14 rfl rfl)
theorem dX3_goesThrough_15 : decode cX3_goesThrough 15 = .ok (.getfield 243, 3) := dk_180 0 243 (dk_at dksX3_goesThrough_0 15 rfl rfl)
theorem dX3_goesThrough_18 : decode cX3_goesThrough 18 = .ok (.iload_n 2, 1) := dk_28 (dk_at dksX3_goesThrough_0 18 rfl rfl)
theorem dX3_goesThrough_19 : decode cX3_goesThrough 19 = .ok (.iastore, 1) := dk_79 (dk_at dksX3_goesThrough_0 19 rfl rfl)
theorem dX3_goesThrough_20 : decode cX3_goesThrough 20 = .ok (.aload_n 0, 1) := dk_42 (dk_at dksX3_goesThrough_0 20 rfl rfl)
theorem dX3_goesThrough_21 : decode cX3_goesThrough 21 = .ok (.dup, 1) := dk_89 (dk_at dksX3_goesThrough_0 21 rfl rfl)
theorem dX3_goesThrough_22 : decode cX3_goesThrough 22 = .ok (.getfield 243, 3) := dk_180 0 243 (dk_at dksX3_goesThrough_1 0 rfl rfl)
theorem dX3_goesThrough_25 : decode cX3_goesThrough 25 = .ok (.iconst 1, 1) := dk_4 (dk_at dksX3_goesThrough_1 3 rfl rfl)
theorem dX3_goesThrough_26 : decode cX3_goesThrough 26 = .ok (.iadd, 1) := dk_96 (dk_at dksX3_goesThrough_1 4 rfl rfl)
theorem dX3_goesThrough_27 : decode cX3_goesThrough 27 = .ok (.putfield 243, 3) := dk_181 0 243 (dk_at dksX3_goesThrough_1 5 rfl rfl)
theorem dX3_goesThrough_30 : decode cX3_goesThrough 30 = .ok (.iconst 0, 1) := dk_3 (dk_at dksX3_goesThrough_1 8 rfl rfl)
theorem dX3_goesThrough_31 : decode cX3_goesThrough 31 = .ok (.istore_n 3, 1) := dk_62 (dk_at dksX3_goesThrough_1 9 rfl rfl)
theorem dX3_goesThrough_32 : decode cX3_goesThrough 32 = .ok (.iload_n 3, 1) := dk_29 (dk_at dksX3_goesThrough_1 10 rfl rfl)
theorem dX3_goesThrough_33 : decode cX3_goesThrough 33 = .ok (.aload_n 0, 1) := dk_42 (dk_at dksX3_goesThrough_1 11 rfl rfl)
theorem dX3_goesThrough_34 : decode cX3_goesThrough 34 = .ok (.getfield 26, 3) := dk_180 0 26 (dk_at dksX3_goesThrough_1 12 rfl rfl)
theorem dX3_goesThrough_37 : decode cX3_goesThrough 37 = .ok (.iload_n 1, 1) := dk_27 (dk_at dksX3_goesThrough_1 15 rfl rfl)
theorem dX3_goesThrough_38 : decode cX3_goesThrough 38 = .ok (.iaload, 1) := dk_46 (dk_at dksX3_goesThrough_1 16 rfl rfl)
theorem dX3_goesThrough_39 : decode cX3_goesThrough 39 = .ok (.if_icmp .ge 84, 3) := dk_162 0 84 (dk_at dksX3_goesThrough_1 17 rfl rfl)
theorem dX3_goesThrough_42 : decode cX3_goesThrough 42 = .ok (.aload_n 0, 1) := dk_42 (dk_at dksX3_goesThrough_1 20 rfl rfl)
theorem dX3_goesThrough_43 : decode cX3_goesThrough 43 = .ok (.getfield 23, 3) := dk_180 0 23 (dk_at dksX3_goesThrough_1 21 rfl rfl)
theorem dX3_goesThrough_46 : decode cX3_goesThrough 46 = .ok (.iload_n 1, 1) := dk_27 (dk_at dksX3_goesThrough_2 0 rfl rfl)
theorem dX3_goesThrough_47 : decode cX3_goesThrough 47 = .ok (.iaload, 1) := dk_46 (dk_at dksX3_goesThrough_2 1 rfl rfl)
theorem dX3_goesThrough_48 : decode cX3_goesThrough 48 = .ok (.ifCond .ne 19, 3) := dk_154 0 19 (dk_at dksX3_goesThrough_2 2 rfl rfl)
theorem dX3_goesThrough_51 : decode cX3_goesThrough 51 = .ok (.aload_n 0, 1) := dk_42 (dk_at dksX3_goesThrough_2 5 rfl rfl)
theorem dX3_goesThrough_52 : decode cX3_goesThrough 52 = .ok (.aload_n 0, 1) := dk_42 (dk_at dksX3_goesThrough_2 6 rfl rfl)
theorem dX3_goesThrough_53 : decode cX3_goesThrough 53 = .ok (.iload_n 1, 1) := dk_27 (dk_at dksX3_goesThrough_2 7 rfl rfl)
theorem dX3_goesThrough_54 : decode cX3_goesThrough 54 = .ok (.iload_n 3, 1) := dk_29 (dk_at dksX3_goesThrough_2 8 rfl rfl)
theorem dX3_goesThrough_55 : decode cX3_goesThrough 55 = .ok (.invokevirtual 197, 3) := dk_182 0 197 (dk_at dksX3_goesThrough_2 9 rfl rfl)
theorem dX3_goesThrough_58 : decode cX3_goesThrough 58 = .ok (.iload_n 2, 1) := dk_28 (dk_at dksX3_goesThrough_2 12 rfl rfl)
theorem dX3_goesThrough_59 : decode cX3_goesThrough 59 = .ok (.iconst 1, 1) := dk_4 (dk_at dksX3_goesThrough_2 13 rfl rfl)
theorem dX3_goesThrough_60 : decode cX3_goesThrough 60 = .ok (.iadd, 1) := dk_96 (dk_at dksX3_goesThrough_2 14 rfl rfl)
theorem dX3_goesThrough_61 : decode cX3_goesThrough 61 = .ok (.invokevirtual 246, 3) := dk_182 0 246 (dk_at dksX3_goesThrough_2 15 rfl rfl)
theorem dX3_goesThrough_64 : decode cX3_goesThrough 64 = .ok (.goto 53, 3) := dk_167 0 53 (dk_at dksX3_goesThrough_2 18 rfl rfl)
theorem dX3_goesThrough_67 : decode cX3_goesThrough 67 = .ok (.aload_n 0, 1) := dk_42 (dk_at dksX3_goesThrough_2 21 rfl rfl)
theorem dX3_goesThrough_68 : decode cX3_goesThrough 68 = .ok (.getfield 55, 3) := dk_180 0 55 (dk_at dksX3_goesThrough_3 0 rfl rfl)
theorem dX3_goesThrough_71 : decode cX3_goesThrough 71 = .ok (.aload_n 0, 1) := dk_42 (dk_at dksX3_goesThrough_3 3 rfl rfl)
theorem dX3_goesThrough_72 : decode cX3_goesThrough 72 = .ok (.getfield 249, 3) := dk_180 0 249 (dk_at dksX3_goesThrough_3 4 rfl rfl)
theorem dX3_goesThrough_75 : decode cX3_goesThrough 75 = .ok (.aload_n 0, 1) := dk_42 (dk_at dksX3_goesThrough_3 7 rfl rfl)
theorem dX3_goesThrough_76 : decode cX3_goesThrough 76 = .ok (.getfield 39, 3) := dk_180 0 39 (dk_at dksX3_goesThrough_3 8 rfl rfl)
theorem dX3_goesThrough_79 : decode cX3_goesThrough 79 = .ok (.bipush 7, 2) := dk_16 7 (dk_at dksX3_goesThrough_3 11 rfl rfl)
theorem dX3_goesThrough_81 : decode cX3_goesThrough 81 = .ok (.iload_n 1, 1) := dk_27 (dk_at dksX3_goesThrough_3 13 rfl rfl)
theorem dX3_goesThrough_82 : decode cX3_goesThrough 82 = .ok (.imul, 1) := dk_104 (dk_at dksX3_goesThrough_3 14 rfl rfl)
theorem dX3_goesThrough_83 : decode cX3_goesThrough 83 = .ok (.iload_n 3, 1) := dk_29 (dk_at dksX3_goesThrough_3 15 rfl rfl)
theorem dX3_goesThrough_84 : decode cX3_goesThrough 84 = .ok (.iadd, 1) := dk_96 (dk_at dksX3_goesThrough_3 16 rfl rfl)
theorem dX3_goesThrough_85 : decode cX3_goesThrough 85 = .ok (.iaload, 1) := dk_46 (dk_at dksX3_goesThrough_3 17 rfl rfl)
theorem dX3_goesThrough_86 : decode cX3_goesThrough 86 = .ok (.iastore, 1) := dk_79 (dk_at dksX3_goesThrough_3 18 rfl rfl)
theorem dX3_goesThrough_87 : decode cX3_goesThrough 87 = .ok (.aload_n 0, 1) := dk_42 (dk_at dksX3_goesThrough_3 19 rfl rfl)
theorem dX3_goesThrough_88 : decode cX3_goesThrough 88 = .ok (.getfield 58, 3) := dk_180 0 58 (dk_at dksX3_goesThrough_3 20 rfl rfl)
theorem dX3_goesThrough_91 : decode cX3_goesThrough 91 = .ok (.aload_n 0, 1) := dk_42 (dk_at dksX3_goesThrough_3 23 rfl rfl)
theorem dX3_goesThrough_92 : decode cX3_goesThrough 92 = .ok (.getfield 249, 3) := dk_180 0 249 (dk_at dksX3_goesThrough_4 0 rfl rfl)
theorem dX3_goesThrough_95 : decode cX3_goesThrough 95 = .ok (.aload_n 0, 1) := dk_42 (dk_at dksX3_goesThrough_4 3 rfl rfl)
theorem dX3_goesThrough_96 : decode cX3_goesThrough 96 = .ok (.getfield 42, 3) := dk_180 0 42 (dk_at dksX3_goesThrough_4 4 rfl rfl)
theorem dX3_goesThrough_99 : decode cX3_goesThrough 99 = .ok (.bipush 7, 2) := dk_16 7 (dk_at dksX3_goesThrough_4 7 rfl rfl)
theorem dX3_goesThrough_101 : decode cX3_goesThrough 101 = .ok (.iload_n 1, 1) := dk_27 (dk_at dksX3_goesThrough_4 9 rfl rfl)
theorem dX3_goesThrough_102 : decode cX3_goesThrough 102 = .ok (.imul, 1) := dk_104 (dk_at dksX3_goesThrough_4 10 rfl rfl)
theorem dX3_goesThrough_103 : decode cX3_goesThrough 103 = .ok (.iload_n 3, 1) := dk_29 (dk_at dksX3_goesThrough_4 11 rfl rfl)
theorem dX3_goesThrough_104 : decode cX3_goesThrough 104 = .ok (.iadd, 1) := dk_96 (dk_at dksX3_goesThrough_4 12 rfl rfl)
theorem dX3_goesThrough_105 : decode cX3_goesThrough 105 = .ok (.iaload, 1) := dk_46 (dk_at dksX3_goesThrough_4 13 rfl rfl)
theorem dX3_goesThrough_106 : decode cX3_goesThrough 106 = .ok (.iastore, 1) := dk_79 (dk_at dksX3_goesThrough_4 14 rfl rfl)
theorem dX3_goesThrough_107 : decode cX3_goesThrough 107 = .ok (.aload_n 0, 1) := dk_42 (dk_at dksX3_goesThrough_4 15 rfl rfl)
theorem dX3_goesThrough_108 : decode cX3_goesThrough 108 = .ok (.dup, 1) := dk_89 (dk_at dksX3_goesThrough_4 16 rfl rfl)
theorem dX3_goesThrough_109 : decode cX3_goesThrough 109 = .ok (.getfield 249, 3) := dk_180 0 249 (dk_at dksX3_goesThrough_4 17 rfl rfl)
theorem dX3_goesThrough_112 : decode cX3_goesThrough 112 = .ok (.iconst 1, 1) := dk_4 (dk_at dksX3_goesThrough_4 20 rfl rfl)
theorem dX3_goesThrough_113 : decode cX3_goesThrough 113 = .ok (.iadd, 1) := dk_96 (dk_at dksX3_goesThrough_4 21 rfl rfl)
theorem dX3_goesThrough_114 : decode cX3_goesThrough 114 = .ok (.putfield 249, 3) := dk_181 0 249 (dk_at dksX3_goesThrough_5 0 rfl rfl)
theorem dX3_goesThrough_117 : decode cX3_goesThrough 117 = .ok (.iinc 3 1, 3) := dk_132 3 1 (dk_at dksX3_goesThrough_5 3 rfl rfl)
theorem dX3_goesThrough_120 : decode cX3_goesThrough 120 = .ok (.goto (-88), 3) := dk_167 255 168 (dk_at dksX3_goesThrough_5 6 rfl rfl)
theorem dX3_goesThrough_123 : decode cX3_goesThrough 123 = .ok (.return_, 1) := dk_177 (dk_at dksX3_goesThrough_5 9 rfl rfl)
abbrev cX3_about : ByteArray := prog_9_method_53_code
def yX3_about : MethodName := ⟨RX3, "about", "(II)I"⟩
def dkwX3_about_4 : List UInt8 := [17, 3, 231, 182, 1, 68, 172, 42, 180, 0, 70, 27, 46, 172, 42, 180, 0, 73, 27, 46, 172]
abbrev dktX3_about_4 : List UInt8 := dkwX3_about_4 ++ []
def dkwX3_about_3 : List UInt8 := [42, 180, 0, 249, 172, 42, 182, 1, 62, 172, 42, 180, 0, 243, 172, 42, 182, 1, 65, 172, 42, 3]
abbrev dktX3_about_3 : List UInt8 := dkwX3_about_3 ++ dktX3_about_4
def dkwX3_about_2 : List UInt8 := [170, 0, 0, 0, 73, 0, 0, 0, 0, 0, 0, 0, 5, 0, 0, 0, 37, 0, 0, 0, 42, 0, 0, 0, 47, 0, 0, 0, 52, 0, 0, 0, 57, 0, 0, 0, 66]
abbrev dktX3_about_2 : List UInt8 := dkwX3_about_2 ++ dktX3_about_3
def dkwX3_about_1 : List UInt8 := [154, 0, 6, 18, 170, 172, 42, 42, 180, 0, 67, 27, 46, 182, 0, 252, 28]
abbrev dktX3_about_1 : List UInt8 := dkwX3_about_1 ++ dktX3_about_2
def dkwX3_about_0 : List UInt8 := [42, 3, 181, 0, 116, 42, 27, 182, 1, 53, 153, 0, 15, 28, 133, 9, 20, 1, 51, 184, 0, 174]
abbrev dktX3_about_0 : List UInt8 := dkwX3_about_0 ++ dktX3_about_1
theorem dksX3_about_0 : cX3_about.data.toList.drop 0 = dktX3_about_0 := by decide +kernel
theorem dksX3_about_1 : cX3_about.data.toList.drop 22 = dktX3_about_1 := dk_seg dksX3_about_0 22 rfl rfl
theorem dksX3_about_2 : cX3_about.data.toList.drop 39 = dktX3_about_2 := dk_seg dksX3_about_1 17 rfl rfl
theorem dksX3_about_3 : cX3_about.data.toList.drop 76 = dktX3_about_3 := dk_seg dksX3_about_2 37 rfl rfl
theorem dksX3_about_4 : cX3_about.data.toList.drop 98 = dktX3_about_4 := dk_seg dksX3_about_3 22 rfl rfl
theorem dX3_about_0 : decode cX3_about 0 = .ok (.aload_n 0, 1) := dk_42 (dk_at dksX3_about_0 0 rfl rfl)
theorem dX3_about_1 : decode cX3_about 1 = .ok (.iconst 0, 1) := dk_3 (dk_at dksX3_about_0 1 rfl rfl)
theorem dX3_about_2 : decode cX3_about 2 = .ok (.putfield 116, 3) := dk_181 0 116 (dk_at dksX3_about_0 2 rfl rfl)
theorem dX3_about_5 : decode cX3_about 5 = .ok (.aload_n 0, 1) := dk_42 (dk_at dksX3_about_0 5 rfl rfl)
theorem dX3_about_6 : decode cX3_about 6 = .ok (.iload_n 1, 1) := dk_27 (dk_at dksX3_about_0 6 rfl rfl)
theorem dX3_about_7 : decode cX3_about 7 = .ok (.invokevirtual 309, 3) := dk_182 1 53 (dk_at dksX3_about_0 7 rfl rfl)
theorem dX3_about_10 : decode cX3_about 10 = .ok (.ifCond .eq 15, 3) := dk_153 0 15 (dk_at dksX3_about_0 10 rfl rfl)
theorem dX3_about_13 : decode cX3_about 13 = .ok (.iload_n 2, 1) := dk_28 (dk_at dksX3_about_0 13 rfl rfl)
theorem dX3_about_14 : decode cX3_about 14 = .ok (.i2l, 1) := dk_133 (dk_at dksX3_about_0 14 rfl rfl)
theorem dX3_about_15 : decode cX3_about 15 = .ok (.lconst 0, 1) := dk_9 (dk_at dksX3_about_0 15 rfl rfl)
theorem dX3_about_16 : decode cX3_about 16 = .ok (.ldc2_w 307, 3) := dk_20 1 51 (dk_at dksX3_about_0 16 rfl rfl)
theorem dX3_about_19 : decode cX3_about 19 = .ok (.invokestatic 174, 3) := dk_184 0 174 (dk_at dksX3_about_0 19 rfl rfl)
theorem dX3_about_22 : decode cX3_about 22 = .ok (.ifCond .ne 6, 3) := dk_154 0 6 (dk_at dksX3_about_1 0 rfl rfl)
theorem dX3_about_25 : decode cX3_about 25 = .ok (.ldc 170, 2) := dk_18 170 (dk_at dksX3_about_1 3 rfl rfl)
theorem dX3_about_27 : decode cX3_about 27 = .ok (.ireturn, 1) := dk_172 (dk_at dksX3_about_1 5 rfl rfl)
theorem dX3_about_28 : decode cX3_about 28 = .ok (.aload_n 0, 1) := dk_42 (dk_at dksX3_about_1 6 rfl rfl)
theorem dX3_about_29 : decode cX3_about 29 = .ok (.aload_n 0, 1) := dk_42 (dk_at dksX3_about_1 7 rfl rfl)
theorem dX3_about_30 : decode cX3_about 30 = .ok (.getfield 67, 3) := dk_180 0 67 (dk_at dksX3_about_1 8 rfl rfl)
theorem dX3_about_33 : decode cX3_about 33 = .ok (.iload_n 1, 1) := dk_27 (dk_at dksX3_about_1 11 rfl rfl)
theorem dX3_about_34 : decode cX3_about 34 = .ok (.iaload, 1) := dk_46 (dk_at dksX3_about_1 12 rfl rfl)
theorem dX3_about_35 : decode cX3_about 35 = .ok (.invokevirtual 252, 3) := dk_182 0 252 (dk_at dksX3_about_1 13 rfl rfl)
theorem dX3_about_38 : decode cX3_about 38 = .ok (.iload_n 2, 1) := dk_28 (dk_at dksX3_about_1 16 rfl rfl)
theorem dX3_about_39 : decode cX3_about 39 = .ok (.tableswitch 73 0 5 #[37, 42, 47, 52, 57, 66], 37) := by decide +kernel
theorem dX3_about_76 : decode cX3_about 76 = .ok (.aload_n 0, 1) := dk_42 (dk_at dksX3_about_3 0 rfl rfl)
theorem dX3_about_77 : decode cX3_about 77 = .ok (.getfield 249, 3) := dk_180 0 249 (dk_at dksX3_about_3 1 rfl rfl)
theorem dX3_about_80 : decode cX3_about 80 = .ok (.ireturn, 1) := dk_172 (dk_at dksX3_about_3 4 rfl rfl)
theorem dX3_about_81 : decode cX3_about 81 = .ok (.aload_n 0, 1) := dk_42 (dk_at dksX3_about_3 5 rfl rfl)
theorem dX3_about_82 : decode cX3_about 82 = .ok (.invokevirtual 318, 3) := dk_182 1 62 (dk_at dksX3_about_3 6 rfl rfl)
theorem dX3_about_85 : decode cX3_about 85 = .ok (.ireturn, 1) := dk_172 (dk_at dksX3_about_3 9 rfl rfl)
theorem dX3_about_86 : decode cX3_about 86 = .ok (.aload_n 0, 1) := dk_42 (dk_at dksX3_about_3 10 rfl rfl)
theorem dX3_about_87 : decode cX3_about 87 = .ok (.getfield 243, 3) := dk_180 0 243 (dk_at dksX3_about_3 11 rfl rfl)
theorem dX3_about_90 : decode cX3_about 90 = .ok (.ireturn, 1) := dk_172 (dk_at dksX3_about_3 14 rfl rfl)
theorem dX3_about_91 : decode cX3_about 91 = .ok (.aload_n 0, 1) := dk_42 (dk_at dksX3_about_3 15 rfl rfl)
theorem dX3_about_92 : decode cX3_about 92 = .ok (.invokevirtual 321, 3) := dk_182 1 65 (dk_at dksX3_about_3 16 rfl rfl)
theorem dX3_about_95 : decode cX3_about 95 = .ok (.ireturn, 1) := dk_172 (dk_at dksX3_about_3 19 rfl rfl)
theorem dX3_about_96 : decode cX3_about 96 = .ok (.aload_n 0, 1) := dk_42 (dk_at dksX3_about_3 20 rfl rfl)
theorem dX3_about_97 : decode cX3_about 97 = .ok (.iconst 0, 1) := dk_3 (dk_at dksX3_about_3 21 rfl rfl)
theorem dX3_about_98 : decode cX3_about 98 = .ok (.sipush 999, 3) := dk_17 3 231 (dk_at dksX3_about_4 0 rfl rfl)
theorem dX3_about_101 : decode cX3_about 101 = .ok (.invokevirtual 324, 3) := dk_182 1 68 (dk_at dksX3_about_4 3 rfl rfl)
theorem dX3_about_104 : decode cX3_about 104 = .ok (.ireturn, 1) := dk_172 (dk_at dksX3_about_4 6 rfl rfl)
theorem dX3_about_105 : decode cX3_about 105 = .ok (.aload_n 0, 1) := dk_42 (dk_at dksX3_about_4 7 rfl rfl)
theorem dX3_about_106 : decode cX3_about 106 = .ok (.getfield 70, 3) := dk_180 0 70 (dk_at dksX3_about_4 8 rfl rfl)
theorem dX3_about_109 : decode cX3_about 109 = .ok (.iload_n 1, 1) := dk_27 (dk_at dksX3_about_4 11 rfl rfl)
theorem dX3_about_110 : decode cX3_about 110 = .ok (.iaload, 1) := dk_46 (dk_at dksX3_about_4 12 rfl rfl)
theorem dX3_about_111 : decode cX3_about 111 = .ok (.ireturn, 1) := dk_172 (dk_at dksX3_about_4 13 rfl rfl)
theorem dX3_about_112 : decode cX3_about 112 = .ok (.aload_n 0, 1) := dk_42 (dk_at dksX3_about_4 14 rfl rfl)
theorem dX3_about_113 : decode cX3_about 113 = .ok (.getfield 73, 3) := dk_180 0 73 (dk_at dksX3_about_4 15 rfl rfl)
theorem dX3_about_116 : decode cX3_about 116 = .ok (.iload_n 1, 1) := dk_27 (dk_at dksX3_about_4 18 rfl rfl)
theorem dX3_about_117 : decode cX3_about 117 = .ok (.iaload, 1) := dk_46 (dk_at dksX3_about_4 19 rfl rfl)
theorem dX3_about_118 : decode cX3_about 118 = .ok (.ireturn, 1) := dk_172 (dk_at dksX3_about_4 20 rfl rfl)
abbrev cX3_levels : ByteArray := prog_9_method_51_code
def yX3_levels : MethodName := ⟨RX3, "levels", "()I"⟩
def dkwX3_levels_1 : List UInt8 := [60, 132, 2, 1, 167, 255, 232, 27, 172]
abbrev dktX3_levels_1 : List UInt8 := dkwX3_levels_1 ++ []
def dkwX3_levels_0 : List UInt8 := [3, 60, 3, 61, 28, 42, 180, 0, 243, 162, 0, 22, 27, 42, 180, 0, 64, 28, 46, 4, 96, 184, 1, 57]
abbrev dktX3_levels_0 : List UInt8 := dkwX3_levels_0 ++ dktX3_levels_1
theorem dksX3_levels_0 : cX3_levels.data.toList.drop 0 = dktX3_levels_0 := by decide +kernel
theorem dksX3_levels_1 : cX3_levels.data.toList.drop 24 = dktX3_levels_1 := dk_seg dksX3_levels_0 24 rfl rfl
theorem dX3_levels_0 : decode cX3_levels 0 = .ok (.iconst 0, 1) := dk_3 (dk_at dksX3_levels_0 0 rfl rfl)
theorem dX3_levels_1 : decode cX3_levels 1 = .ok (.istore_n 1, 1) := dk_60 (dk_at dksX3_levels_0 1 rfl rfl)
theorem dX3_levels_2 : decode cX3_levels 2 = .ok (.iconst 0, 1) := dk_3 (dk_at dksX3_levels_0 2 rfl rfl)
theorem dX3_levels_3 : decode cX3_levels 3 = .ok (.istore_n 2, 1) := dk_61 (dk_at dksX3_levels_0 3 rfl rfl)
theorem dX3_levels_4 : decode cX3_levels 4 = .ok (.iload_n 2, 1) := dk_28 (dk_at dksX3_levels_0 4 rfl rfl)
theorem dX3_levels_5 : decode cX3_levels 5 = .ok (.aload_n 0, 1) := dk_42 (dk_at dksX3_levels_0 5 rfl rfl)
theorem dX3_levels_6 : decode cX3_levels 6 = .ok (.getfield 243, 3) := dk_180 0 243 (dk_at dksX3_levels_0 6 rfl rfl)
theorem dX3_levels_9 : decode cX3_levels 9 = .ok (.if_icmp .ge 22, 3) := dk_162 0 22 (dk_at dksX3_levels_0 9 rfl rfl)
theorem dX3_levels_12 : decode cX3_levels 12 = .ok (.iload_n 1, 1) := dk_27 (dk_at dksX3_levels_0 12 rfl rfl)
theorem dX3_levels_13 : decode cX3_levels 13 = .ok (.aload_n 0, 1) := dk_42 (dk_at dksX3_levels_0 13 rfl rfl)
theorem dX3_levels_14 : decode cX3_levels 14 = .ok (.getfield 64, 3) := dk_180 0 64 (dk_at dksX3_levels_0 14 rfl rfl)
theorem dX3_levels_17 : decode cX3_levels 17 = .ok (.iload_n 2, 1) := dk_28 (dk_at dksX3_levels_0 17 rfl rfl)
theorem dX3_levels_18 : decode cX3_levels 18 = .ok (.iaload, 1) := dk_46 (dk_at dksX3_levels_0 18 rfl rfl)
theorem dX3_levels_19 : decode cX3_levels 19 = .ok (.iconst 1, 1) := dk_4 (dk_at dksX3_levels_0 19 rfl rfl)
theorem dX3_levels_20 : decode cX3_levels 20 = .ok (.iadd, 1) := dk_96 (dk_at dksX3_levels_0 20 rfl rfl)
theorem dX3_levels_21 : decode cX3_levels 21 = .ok (.invokestatic 313, 3) := dk_184 1 57 (dk_at dksX3_levels_0 21 rfl rfl)
theorem dX3_levels_24 : decode cX3_levels 24 = .ok (.istore_n 1, 1) := dk_60 (dk_at dksX3_levels_1 0 rfl rfl)
theorem dX3_levels_25 : decode cX3_levels 25 = .ok (.iinc 2 1, 3) := dk_132 2 1 (dk_at dksX3_levels_1 1 rfl rfl)
theorem dX3_levels_28 : decode cX3_levels 28 = .ok (.goto (-24), 3) := dk_167 255 232 (dk_at dksX3_levels_1 4 rfl rfl)
theorem dX3_levels_31 : decode cX3_levels 31 = .ok (.iload_n 1, 1) := dk_27 (dk_at dksX3_levels_1 7 rfl rfl)
theorem dX3_levels_32 : decode cX3_levels 32 = .ok (.ireturn, 1) := dk_172 (dk_at dksX3_levels_1 8 rfl rfl)
abbrev cX3_leaves : ByteArray := prog_9_method_50_code
def yX3_leaves : MethodName := ⟨RX3, "leaves", "()I"⟩
def dkwX3_leaves_1 : List UInt8 := [96, 60, 132, 2, 1, 167, 255, 231, 27, 172]
abbrev dktX3_leaves_1 : List UInt8 := dkwX3_leaves_1 ++ []
def dkwX3_leaves_0 : List UInt8 := [3, 60, 3, 61, 28, 42, 180, 0, 243, 162, 0, 23, 27, 42, 180, 0, 23, 42, 180, 0, 61, 28, 46, 46]
abbrev dktX3_leaves_0 : List UInt8 := dkwX3_leaves_0 ++ dktX3_leaves_1
theorem dksX3_leaves_0 : cX3_leaves.data.toList.drop 0 = dktX3_leaves_0 := by decide +kernel
theorem dksX3_leaves_1 : cX3_leaves.data.toList.drop 24 = dktX3_leaves_1 := dk_seg dksX3_leaves_0 24 rfl rfl
theorem dX3_leaves_0 : decode cX3_leaves 0 = .ok (.iconst 0, 1) := dk_3 (dk_at dksX3_leaves_0 0 rfl rfl)
theorem dX3_leaves_1 : decode cX3_leaves 1 = .ok (.istore_n 1, 1) := dk_60 (dk_at dksX3_leaves_0 1 rfl rfl)
theorem dX3_leaves_2 : decode cX3_leaves 2 = .ok (.iconst 0, 1) := dk_3 (dk_at dksX3_leaves_0 2 rfl rfl)
theorem dX3_leaves_3 : decode cX3_leaves 3 = .ok (.istore_n 2, 1) := dk_61 (dk_at dksX3_leaves_0 3 rfl rfl)
theorem dX3_leaves_4 : decode cX3_leaves 4 = .ok (.iload_n 2, 1) := dk_28 (dk_at dksX3_leaves_0 4 rfl rfl)
theorem dX3_leaves_5 : decode cX3_leaves 5 = .ok (.aload_n 0, 1) := dk_42 (dk_at dksX3_leaves_0 5 rfl rfl)
theorem dX3_leaves_6 : decode cX3_leaves 6 = .ok (.getfield 243, 3) := dk_180 0 243 (dk_at dksX3_leaves_0 6 rfl rfl)
theorem dX3_leaves_9 : decode cX3_leaves 9 = .ok (.if_icmp .ge 23, 3) := dk_162 0 23 (dk_at dksX3_leaves_0 9 rfl rfl)
theorem dX3_leaves_12 : decode cX3_leaves 12 = .ok (.iload_n 1, 1) := dk_27 (dk_at dksX3_leaves_0 12 rfl rfl)
theorem dX3_leaves_13 : decode cX3_leaves 13 = .ok (.aload_n 0, 1) := dk_42 (dk_at dksX3_leaves_0 13 rfl rfl)
theorem dX3_leaves_14 : decode cX3_leaves 14 = .ok (.getfield 23, 3) := dk_180 0 23 (dk_at dksX3_leaves_0 14 rfl rfl)
theorem dX3_leaves_17 : decode cX3_leaves 17 = .ok (.aload_n 0, 1) := dk_42 (dk_at dksX3_leaves_0 17 rfl rfl)
theorem dX3_leaves_18 : decode cX3_leaves 18 = .ok (.getfield 61, 3) := dk_180 0 61 (dk_at dksX3_leaves_0 18 rfl rfl)
theorem dX3_leaves_21 : decode cX3_leaves 21 = .ok (.iload_n 2, 1) := dk_28 (dk_at dksX3_leaves_0 21 rfl rfl)
theorem dX3_leaves_22 : decode cX3_leaves 22 = .ok (.iaload, 1) := dk_46 (dk_at dksX3_leaves_0 22 rfl rfl)
theorem dX3_leaves_23 : decode cX3_leaves 23 = .ok (.iaload, 1) := dk_46 (dk_at dksX3_leaves_0 23 rfl rfl)
theorem dX3_leaves_24 : decode cX3_leaves 24 = .ok (.iadd, 1) := dk_96 (dk_at dksX3_leaves_1 0 rfl rfl)
theorem dX3_leaves_25 : decode cX3_leaves 25 = .ok (.istore_n 1, 1) := dk_60 (dk_at dksX3_leaves_1 1 rfl rfl)
theorem dX3_leaves_26 : decode cX3_leaves 26 = .ok (.iinc 2 1, 3) := dk_132 2 1 (dk_at dksX3_leaves_1 2 rfl rfl)
theorem dX3_leaves_29 : decode cX3_leaves 29 = .ok (.goto (-25), 3) := dk_167 255 231 (dk_at dksX3_leaves_1 5 rfl rfl)
theorem dX3_leaves_32 : decode cX3_leaves 32 = .ok (.iload_n 1, 1) := dk_27 (dk_at dksX3_leaves_1 8 rfl rfl)
theorem dX3_leaves_33 : decode cX3_leaves 33 = .ok (.ireturn, 1) := dk_172 (dk_at dksX3_leaves_1 9 rfl rfl)
abbrev cX3_sumOf : ByteArray := prog_9_method_52_code
def yX3_sumOf : MethodName := ⟨RX3, "sumOf", "(II)I"⟩
def dkwX3_sumOf_2 : List UInt8 := [3, 96, 62, 132, 4, 1, 167, 255, 208, 29, 172]
abbrev dktX3_sumOf_2 : List UInt8 := dkwX3_sumOf_2 ++ []
def dkwX3_sumOf_1 : List UInt8 := [161, 0, 24, 42, 180, 0, 55, 21, 4, 46, 28, 163, 0, 13, 42, 180, 0, 58, 21, 4, 46, 167, 0, 4]
abbrev dktX3_sumOf_1 : List UInt8 := dkwX3_sumOf_1 ++ dktX3_sumOf_2
def dkwX3_sumOf_0 : List UInt8 := [3, 62, 3, 54, 4, 21, 4, 42, 180, 0, 249, 162, 0, 45, 29, 42, 180, 0, 55, 21, 4, 46, 27]
abbrev dktX3_sumOf_0 : List UInt8 := dkwX3_sumOf_0 ++ dktX3_sumOf_1
theorem dksX3_sumOf_0 : cX3_sumOf.data.toList.drop 0 = dktX3_sumOf_0 := by decide +kernel
theorem dksX3_sumOf_1 : cX3_sumOf.data.toList.drop 23 = dktX3_sumOf_1 := dk_seg dksX3_sumOf_0 23 rfl rfl
theorem dksX3_sumOf_2 : cX3_sumOf.data.toList.drop 47 = dktX3_sumOf_2 := dk_seg dksX3_sumOf_1 24 rfl rfl
theorem dX3_sumOf_0 : decode cX3_sumOf 0 = .ok (.iconst 0, 1) := dk_3 (dk_at dksX3_sumOf_0 0 rfl rfl)
theorem dX3_sumOf_1 : decode cX3_sumOf 1 = .ok (.istore_n 3, 1) := dk_62 (dk_at dksX3_sumOf_0 1 rfl rfl)
theorem dX3_sumOf_2 : decode cX3_sumOf 2 = .ok (.iconst 0, 1) := dk_3 (dk_at dksX3_sumOf_0 2 rfl rfl)
theorem dX3_sumOf_3 : decode cX3_sumOf 3 = .ok (.istore 4, 2) := dk_54 4 (dk_at dksX3_sumOf_0 3 rfl rfl)
theorem dX3_sumOf_5 : decode cX3_sumOf 5 = .ok (.iload 4, 2) := dk_21 4 (dk_at dksX3_sumOf_0 5 rfl rfl)
theorem dX3_sumOf_7 : decode cX3_sumOf 7 = .ok (.aload_n 0, 1) := dk_42 (dk_at dksX3_sumOf_0 7 rfl rfl)
theorem dX3_sumOf_8 : decode cX3_sumOf 8 = .ok (.getfield 249, 3) := dk_180 0 249 (dk_at dksX3_sumOf_0 8 rfl rfl)
theorem dX3_sumOf_11 : decode cX3_sumOf 11 = .ok (.if_icmp .ge 45, 3) := dk_162 0 45 (dk_at dksX3_sumOf_0 11 rfl rfl)
theorem dX3_sumOf_14 : decode cX3_sumOf 14 = .ok (.iload_n 3, 1) := dk_29 (dk_at dksX3_sumOf_0 14 rfl rfl)
theorem dX3_sumOf_15 : decode cX3_sumOf 15 = .ok (.aload_n 0, 1) := dk_42 (dk_at dksX3_sumOf_0 15 rfl rfl)
theorem dX3_sumOf_16 : decode cX3_sumOf 16 = .ok (.getfield 55, 3) := dk_180 0 55 (dk_at dksX3_sumOf_0 16 rfl rfl)
theorem dX3_sumOf_19 : decode cX3_sumOf 19 = .ok (.iload 4, 2) := dk_21 4 (dk_at dksX3_sumOf_0 19 rfl rfl)
theorem dX3_sumOf_21 : decode cX3_sumOf 21 = .ok (.iaload, 1) := dk_46 (dk_at dksX3_sumOf_0 21 rfl rfl)
theorem dX3_sumOf_22 : decode cX3_sumOf 22 = .ok (.iload_n 1, 1) := dk_27 (dk_at dksX3_sumOf_0 22 rfl rfl)
theorem dX3_sumOf_23 : decode cX3_sumOf 23 = .ok (.if_icmp .lt 24, 3) := dk_161 0 24 (dk_at dksX3_sumOf_1 0 rfl rfl)
theorem dX3_sumOf_26 : decode cX3_sumOf 26 = .ok (.aload_n 0, 1) := dk_42 (dk_at dksX3_sumOf_1 3 rfl rfl)
theorem dX3_sumOf_27 : decode cX3_sumOf 27 = .ok (.getfield 55, 3) := dk_180 0 55 (dk_at dksX3_sumOf_1 4 rfl rfl)
theorem dX3_sumOf_30 : decode cX3_sumOf 30 = .ok (.iload 4, 2) := dk_21 4 (dk_at dksX3_sumOf_1 7 rfl rfl)
theorem dX3_sumOf_32 : decode cX3_sumOf 32 = .ok (.iaload, 1) := dk_46 (dk_at dksX3_sumOf_1 9 rfl rfl)
theorem dX3_sumOf_33 : decode cX3_sumOf 33 = .ok (.iload_n 2, 1) := dk_28 (dk_at dksX3_sumOf_1 10 rfl rfl)
theorem dX3_sumOf_34 : decode cX3_sumOf 34 = .ok (.if_icmp .gt 13, 3) := dk_163 0 13 (dk_at dksX3_sumOf_1 11 rfl rfl)
theorem dX3_sumOf_37 : decode cX3_sumOf 37 = .ok (.aload_n 0, 1) := dk_42 (dk_at dksX3_sumOf_1 14 rfl rfl)
theorem dX3_sumOf_38 : decode cX3_sumOf 38 = .ok (.getfield 58, 3) := dk_180 0 58 (dk_at dksX3_sumOf_1 15 rfl rfl)
theorem dX3_sumOf_41 : decode cX3_sumOf 41 = .ok (.iload 4, 2) := dk_21 4 (dk_at dksX3_sumOf_1 18 rfl rfl)
theorem dX3_sumOf_43 : decode cX3_sumOf 43 = .ok (.iaload, 1) := dk_46 (dk_at dksX3_sumOf_1 20 rfl rfl)
theorem dX3_sumOf_44 : decode cX3_sumOf 44 = .ok (.goto 4, 3) := dk_167 0 4 (dk_at dksX3_sumOf_1 21 rfl rfl)
theorem dX3_sumOf_47 : decode cX3_sumOf 47 = .ok (.iconst 0, 1) := dk_3 (dk_at dksX3_sumOf_2 0 rfl rfl)
theorem dX3_sumOf_48 : decode cX3_sumOf 48 = .ok (.iadd, 1) := dk_96 (dk_at dksX3_sumOf_2 1 rfl rfl)
theorem dX3_sumOf_49 : decode cX3_sumOf 49 = .ok (.istore_n 3, 1) := dk_62 (dk_at dksX3_sumOf_2 2 rfl rfl)
theorem dX3_sumOf_50 : decode cX3_sumOf 50 = .ok (.iinc 4 1, 3) := dk_132 4 1 (dk_at dksX3_sumOf_2 3 rfl rfl)
theorem dX3_sumOf_53 : decode cX3_sumOf 53 = .ok (.goto (-48), 3) := dk_167 255 208 (dk_at dksX3_sumOf_2 6 rfl rfl)
theorem dX3_sumOf_56 : decode cX3_sumOf 56 = .ok (.iload_n 3, 1) := dk_29 (dk_at dksX3_sumOf_2 9 rfl rfl)
theorem dX3_sumOf_57 : decode cX3_sumOf 57 = .ok (.ireturn, 1) := dk_172 (dk_at dksX3_sumOf_2 10 rfl rfl)
abbrev cX3_below : ByteArray := prog_9_method_54_code
def yX3_below : MethodName := ⟨RX3, "below", "(II)I"⟩
def dkwX3_below_2 : List UInt8 := [132, 3, 1, 167, 255, 235, 29, 172]
abbrev dktX3_below_2 : List UInt8 := dkwX3_below_2 ++ []
def dkwX3_below_1 : List UInt8 := [182, 0, 252, 3, 62, 29, 42, 180, 0, 249, 162, 0, 19, 42, 180, 0, 55, 29, 46, 28, 162, 0, 9]
abbrev dktX3_below_1 : List UInt8 := dkwX3_below_1 ++ dktX3_below_2
def dkwX3_below_0 : List UInt8 := [42, 3, 181, 0, 116, 42, 27, 182, 1, 53, 154, 0, 5, 2, 172, 42, 42, 180, 0, 67, 27, 46]
abbrev dktX3_below_0 : List UInt8 := dkwX3_below_0 ++ dktX3_below_1
theorem dksX3_below_0 : cX3_below.data.toList.drop 0 = dktX3_below_0 := by decide +kernel
theorem dksX3_below_1 : cX3_below.data.toList.drop 22 = dktX3_below_1 := dk_seg dksX3_below_0 22 rfl rfl
theorem dksX3_below_2 : cX3_below.data.toList.drop 45 = dktX3_below_2 := dk_seg dksX3_below_1 23 rfl rfl
theorem dX3_below_0 : decode cX3_below 0 = .ok (.aload_n 0, 1) := dk_42 (dk_at dksX3_below_0 0 rfl rfl)
theorem dX3_below_1 : decode cX3_below 1 = .ok (.iconst 0, 1) := dk_3 (dk_at dksX3_below_0 1 rfl rfl)
theorem dX3_below_2 : decode cX3_below 2 = .ok (.putfield 116, 3) := dk_181 0 116 (dk_at dksX3_below_0 2 rfl rfl)
theorem dX3_below_5 : decode cX3_below 5 = .ok (.aload_n 0, 1) := dk_42 (dk_at dksX3_below_0 5 rfl rfl)
theorem dX3_below_6 : decode cX3_below 6 = .ok (.iload_n 1, 1) := dk_27 (dk_at dksX3_below_0 6 rfl rfl)
theorem dX3_below_7 : decode cX3_below 7 = .ok (.invokevirtual 309, 3) := dk_182 1 53 (dk_at dksX3_below_0 7 rfl rfl)
theorem dX3_below_10 : decode cX3_below 10 = .ok (.ifCond .ne 5, 3) := dk_154 0 5 (dk_at dksX3_below_0 10 rfl rfl)
theorem dX3_below_13 : decode cX3_below 13 = .ok (.iconst (-1), 1) := dk_2 (dk_at dksX3_below_0 13 rfl rfl)
theorem dX3_below_14 : decode cX3_below 14 = .ok (.ireturn, 1) := dk_172 (dk_at dksX3_below_0 14 rfl rfl)
theorem dX3_below_15 : decode cX3_below 15 = .ok (.aload_n 0, 1) := dk_42 (dk_at dksX3_below_0 15 rfl rfl)
theorem dX3_below_16 : decode cX3_below 16 = .ok (.aload_n 0, 1) := dk_42 (dk_at dksX3_below_0 16 rfl rfl)
theorem dX3_below_17 : decode cX3_below 17 = .ok (.getfield 67, 3) := dk_180 0 67 (dk_at dksX3_below_0 17 rfl rfl)
theorem dX3_below_20 : decode cX3_below 20 = .ok (.iload_n 1, 1) := dk_27 (dk_at dksX3_below_0 20 rfl rfl)
theorem dX3_below_21 : decode cX3_below 21 = .ok (.iaload, 1) := dk_46 (dk_at dksX3_below_0 21 rfl rfl)
theorem dX3_below_22 : decode cX3_below 22 = .ok (.invokevirtual 252, 3) := dk_182 0 252 (dk_at dksX3_below_1 0 rfl rfl)
theorem dX3_below_25 : decode cX3_below 25 = .ok (.iconst 0, 1) := dk_3 (dk_at dksX3_below_1 3 rfl rfl)
theorem dX3_below_26 : decode cX3_below 26 = .ok (.istore_n 3, 1) := dk_62 (dk_at dksX3_below_1 4 rfl rfl)
theorem dX3_below_27 : decode cX3_below 27 = .ok (.iload_n 3, 1) := dk_29 (dk_at dksX3_below_1 5 rfl rfl)
theorem dX3_below_28 : decode cX3_below 28 = .ok (.aload_n 0, 1) := dk_42 (dk_at dksX3_below_1 6 rfl rfl)
theorem dX3_below_29 : decode cX3_below 29 = .ok (.getfield 249, 3) := dk_180 0 249 (dk_at dksX3_below_1 7 rfl rfl)
theorem dX3_below_32 : decode cX3_below 32 = .ok (.if_icmp .ge 19, 3) := dk_162 0 19 (dk_at dksX3_below_1 10 rfl rfl)
theorem dX3_below_35 : decode cX3_below 35 = .ok (.aload_n 0, 1) := dk_42 (dk_at dksX3_below_1 13 rfl rfl)
theorem dX3_below_36 : decode cX3_below 36 = .ok (.getfield 55, 3) := dk_180 0 55 (dk_at dksX3_below_1 14 rfl rfl)
theorem dX3_below_39 : decode cX3_below 39 = .ok (.iload_n 3, 1) := dk_29 (dk_at dksX3_below_1 17 rfl rfl)
theorem dX3_below_40 : decode cX3_below 40 = .ok (.iaload, 1) := dk_46 (dk_at dksX3_below_1 18 rfl rfl)
theorem dX3_below_41 : decode cX3_below 41 = .ok (.iload_n 2, 1) := dk_28 (dk_at dksX3_below_1 19 rfl rfl)
theorem dX3_below_42 : decode cX3_below 42 = .ok (.if_icmp .ge 9, 3) := dk_162 0 9 (dk_at dksX3_below_1 20 rfl rfl)
theorem dX3_below_45 : decode cX3_below 45 = .ok (.iinc 3 1, 3) := dk_132 3 1 (dk_at dksX3_below_2 0 rfl rfl)
theorem dX3_below_48 : decode cX3_below 48 = .ok (.goto (-21), 3) := dk_167 255 235 (dk_at dksX3_below_2 3 rfl rfl)
theorem dX3_below_51 : decode cX3_below 51 = .ok (.iload_n 3, 1) := dk_29 (dk_at dksX3_below_2 6 rfl rfl)
theorem dX3_below_52 : decode cX3_below 52 = .ok (.ireturn, 1) := dk_172 (dk_at dksX3_below_2 7 rfl rfl)
abbrev cX3_near : ByteArray := prog_9_method_55_code
def yX3_near : MethodName := ⟨RX3, "near", "(III)I"⟩
def dkwX3_near_6 : List UInt8 := [153, 0, 8, 29, 5, 160, 0, 8, 21, 4, 167, 0, 5, 21, 5, 172]
abbrev dktX3_near_6 : List UInt8 := dkwX3_near_6 ++ []
def dkwX3_near_5 : List UInt8 := [21, 6, 46, 28, 160, 0, 12, 42, 180, 0, 55, 21, 6, 46, 54, 5, 132, 6, 1, 167, 255, 167, 29]
abbrev dktX3_near_5 : List UInt8 := dkwX3_near_5 ++ dktX3_near_6
def dkwX3_near_4 : List UInt8 := [160, 0, 39, 42, 180, 0, 55, 21, 6, 46, 28, 163, 0, 19, 29, 4, 160, 0, 23, 42, 180, 0, 55]
abbrev dktX3_near_4 : List UInt8 := dkwX3_near_4 ++ dktX3_near_5
def dkwX3_near_3 : List UInt8 := [42, 180, 0, 55, 21, 6, 46, 28, 160, 0, 12, 42, 180, 0, 55, 21, 6, 46, 54, 4, 21, 5, 2]
abbrev dktX3_near_3 : List UInt8 := dkwX3_near_3 ++ dktX3_near_4
def dkwX3_near_2 : List UInt8 := [21, 6, 42, 180, 0, 249, 162, 0, 86, 42, 180, 0, 55, 21, 6, 46, 28, 161, 0, 18, 29, 154, 0, 23]
abbrev dktX3_near_2 : List UInt8 := dkwX3_near_2 ++ dktX3_near_3
def dkwX3_near_1 : List UInt8 := [154, 0, 5, 2, 172, 42, 42, 180, 0, 67, 27, 46, 182, 0, 252, 2, 54, 4, 2, 54, 5, 3, 54, 6]
abbrev dktX3_near_1 : List UInt8 := dkwX3_near_1 ++ dktX3_near_2
def dkwX3_near_0 : List UInt8 := [42, 3, 181, 0, 116, 42, 27, 182, 1, 53, 153, 0, 15, 29, 133, 9, 20, 1, 49, 184, 0, 174]
abbrev dktX3_near_0 : List UInt8 := dkwX3_near_0 ++ dktX3_near_1
theorem dksX3_near_0 : cX3_near.data.toList.drop 0 = dktX3_near_0 := by decide +kernel
theorem dksX3_near_1 : cX3_near.data.toList.drop 22 = dktX3_near_1 := dk_seg dksX3_near_0 22 rfl rfl
theorem dksX3_near_2 : cX3_near.data.toList.drop 46 = dktX3_near_2 := dk_seg dksX3_near_1 24 rfl rfl
theorem dksX3_near_3 : cX3_near.data.toList.drop 70 = dktX3_near_3 := dk_seg dksX3_near_2 24 rfl rfl
theorem dksX3_near_4 : cX3_near.data.toList.drop 93 = dktX3_near_4 := dk_seg dksX3_near_3 23 rfl rfl
theorem dksX3_near_5 : cX3_near.data.toList.drop 116 = dktX3_near_5 := dk_seg dksX3_near_4 23 rfl rfl
theorem dksX3_near_6 : cX3_near.data.toList.drop 139 = dktX3_near_6 := dk_seg dksX3_near_5 23 rfl rfl
theorem dX3_near_0 : decode cX3_near 0 = .ok (.aload_n 0, 1) := dk_42 (dk_at dksX3_near_0 0 rfl rfl)
theorem dX3_near_1 : decode cX3_near 1 = .ok (.iconst 0, 1) := dk_3 (dk_at dksX3_near_0 1 rfl rfl)
theorem dX3_near_2 : decode cX3_near 2 = .ok (.putfield 116, 3) := dk_181 0 116 (dk_at dksX3_near_0 2 rfl rfl)
theorem dX3_near_5 : decode cX3_near 5 = .ok (.aload_n 0, 1) := dk_42 (dk_at dksX3_near_0 5 rfl rfl)
theorem dX3_near_6 : decode cX3_near 6 = .ok (.iload_n 1, 1) := dk_27 (dk_at dksX3_near_0 6 rfl rfl)
theorem dX3_near_7 : decode cX3_near 7 = .ok (.invokevirtual 309, 3) := dk_182 1 53 (dk_at dksX3_near_0 7 rfl rfl)
theorem dX3_near_10 : decode cX3_near 10 = .ok (.ifCond .eq 15, 3) := dk_153 0 15 (dk_at dksX3_near_0 10 rfl rfl)
theorem dX3_near_13 : decode cX3_near 13 = .ok (.iload_n 3, 1) := dk_29 (dk_at dksX3_near_0 13 rfl rfl)
theorem dX3_near_14 : decode cX3_near 14 = .ok (.i2l, 1) := dk_133 (dk_at dksX3_near_0 14 rfl rfl)
theorem dX3_near_15 : decode cX3_near 15 = .ok (.lconst 0, 1) := dk_9 (dk_at dksX3_near_0 15 rfl rfl)
theorem dX3_near_16 : decode cX3_near 16 = .ok (.ldc2_w 305, 3) := dk_20 1 49 (dk_at dksX3_near_0 16 rfl rfl)
theorem dX3_near_19 : decode cX3_near 19 = .ok (.invokestatic 174, 3) := dk_184 0 174 (dk_at dksX3_near_0 19 rfl rfl)
theorem dX3_near_22 : decode cX3_near 22 = .ok (.ifCond .ne 5, 3) := dk_154 0 5 (dk_at dksX3_near_1 0 rfl rfl)
theorem dX3_near_25 : decode cX3_near 25 = .ok (.iconst (-1), 1) := dk_2 (dk_at dksX3_near_1 3 rfl rfl)
theorem dX3_near_26 : decode cX3_near 26 = .ok (.ireturn, 1) := dk_172 (dk_at dksX3_near_1 4 rfl rfl)
theorem dX3_near_27 : decode cX3_near 27 = .ok (.aload_n 0, 1) := dk_42 (dk_at dksX3_near_1 5 rfl rfl)
theorem dX3_near_28 : decode cX3_near 28 = .ok (.aload_n 0, 1) := dk_42 (dk_at dksX3_near_1 6 rfl rfl)
theorem dX3_near_29 : decode cX3_near 29 = .ok (.getfield 67, 3) := dk_180 0 67 (dk_at dksX3_near_1 7 rfl rfl)
theorem dX3_near_32 : decode cX3_near 32 = .ok (.iload_n 1, 1) := dk_27 (dk_at dksX3_near_1 10 rfl rfl)
theorem dX3_near_33 : decode cX3_near 33 = .ok (.iaload, 1) := dk_46 (dk_at dksX3_near_1 11 rfl rfl)
theorem dX3_near_34 : decode cX3_near 34 = .ok (.invokevirtual 252, 3) := dk_182 0 252 (dk_at dksX3_near_1 12 rfl rfl)
theorem dX3_near_37 : decode cX3_near 37 = .ok (.iconst (-1), 1) := dk_2 (dk_at dksX3_near_1 15 rfl rfl)
theorem dX3_near_38 : decode cX3_near 38 = .ok (.istore 4, 2) := dk_54 4 (dk_at dksX3_near_1 16 rfl rfl)
theorem dX3_near_40 : decode cX3_near 40 = .ok (.iconst (-1), 1) := dk_2 (dk_at dksX3_near_1 18 rfl rfl)
theorem dX3_near_41 : decode cX3_near 41 = .ok (.istore 5, 2) := dk_54 5 (dk_at dksX3_near_1 19 rfl rfl)
theorem dX3_near_43 : decode cX3_near 43 = .ok (.iconst 0, 1) := dk_3 (dk_at dksX3_near_1 21 rfl rfl)
theorem dX3_near_44 : decode cX3_near 44 = .ok (.istore 6, 2) := dk_54 6 (dk_at dksX3_near_1 22 rfl rfl)
theorem dX3_near_46 : decode cX3_near 46 = .ok (.iload 6, 2) := dk_21 6 (dk_at dksX3_near_2 0 rfl rfl)
theorem dX3_near_48 : decode cX3_near 48 = .ok (.aload_n 0, 1) := dk_42 (dk_at dksX3_near_2 2 rfl rfl)
theorem dX3_near_49 : decode cX3_near 49 = .ok (.getfield 249, 3) := dk_180 0 249 (dk_at dksX3_near_2 3 rfl rfl)
theorem dX3_near_52 : decode cX3_near 52 = .ok (.if_icmp .ge 86, 3) := dk_162 0 86 (dk_at dksX3_near_2 6 rfl rfl)
theorem dX3_near_55 : decode cX3_near 55 = .ok (.aload_n 0, 1) := dk_42 (dk_at dksX3_near_2 9 rfl rfl)
theorem dX3_near_56 : decode cX3_near 56 = .ok (.getfield 55, 3) := dk_180 0 55 (dk_at dksX3_near_2 10 rfl rfl)
theorem dX3_near_59 : decode cX3_near 59 = .ok (.iload 6, 2) := dk_21 6 (dk_at dksX3_near_2 13 rfl rfl)
theorem dX3_near_61 : decode cX3_near 61 = .ok (.iaload, 1) := dk_46 (dk_at dksX3_near_2 15 rfl rfl)
theorem dX3_near_62 : decode cX3_near 62 = .ok (.iload_n 2, 1) := dk_28 (dk_at dksX3_near_2 16 rfl rfl)
theorem dX3_near_63 : decode cX3_near 63 = .ok (.if_icmp .lt 18, 3) := dk_161 0 18 (dk_at dksX3_near_2 17 rfl rfl)
theorem dX3_near_66 : decode cX3_near 66 = .ok (.iload_n 3, 1) := dk_29 (dk_at dksX3_near_2 20 rfl rfl)
theorem dX3_near_67 : decode cX3_near 67 = .ok (.ifCond .ne 23, 3) := dk_154 0 23 (dk_at dksX3_near_2 21 rfl rfl)
theorem dX3_near_70 : decode cX3_near 70 = .ok (.aload_n 0, 1) := dk_42 (dk_at dksX3_near_3 0 rfl rfl)
theorem dX3_near_71 : decode cX3_near 71 = .ok (.getfield 55, 3) := dk_180 0 55 (dk_at dksX3_near_3 1 rfl rfl)
theorem dX3_near_74 : decode cX3_near 74 = .ok (.iload 6, 2) := dk_21 6 (dk_at dksX3_near_3 4 rfl rfl)
theorem dX3_near_76 : decode cX3_near 76 = .ok (.iaload, 1) := dk_46 (dk_at dksX3_near_3 6 rfl rfl)
theorem dX3_near_77 : decode cX3_near 77 = .ok (.iload_n 2, 1) := dk_28 (dk_at dksX3_near_3 7 rfl rfl)
theorem dX3_near_78 : decode cX3_near 78 = .ok (.if_icmp .ne 12, 3) := dk_160 0 12 (dk_at dksX3_near_3 8 rfl rfl)
theorem dX3_near_81 : decode cX3_near 81 = .ok (.aload_n 0, 1) := dk_42 (dk_at dksX3_near_3 11 rfl rfl)
theorem dX3_near_82 : decode cX3_near 82 = .ok (.getfield 55, 3) := dk_180 0 55 (dk_at dksX3_near_3 12 rfl rfl)
theorem dX3_near_85 : decode cX3_near 85 = .ok (.iload 6, 2) := dk_21 6 (dk_at dksX3_near_3 15 rfl rfl)
theorem dX3_near_87 : decode cX3_near 87 = .ok (.iaload, 1) := dk_46 (dk_at dksX3_near_3 17 rfl rfl)
theorem dX3_near_88 : decode cX3_near 88 = .ok (.istore 4, 2) := dk_54 4 (dk_at dksX3_near_3 18 rfl rfl)
theorem dX3_near_90 : decode cX3_near 90 = .ok (.iload 5, 2) := dk_21 5 (dk_at dksX3_near_3 20 rfl rfl)
theorem dX3_near_92 : decode cX3_near 92 = .ok (.iconst (-1), 1) := dk_2 (dk_at dksX3_near_3 22 rfl rfl)
theorem dX3_near_93 : decode cX3_near 93 = .ok (.if_icmp .ne 39, 3) := dk_160 0 39 (dk_at dksX3_near_4 0 rfl rfl)
theorem dX3_near_96 : decode cX3_near 96 = .ok (.aload_n 0, 1) := dk_42 (dk_at dksX3_near_4 3 rfl rfl)
theorem dX3_near_97 : decode cX3_near 97 = .ok (.getfield 55, 3) := dk_180 0 55 (dk_at dksX3_near_4 4 rfl rfl)
theorem dX3_near_100 : decode cX3_near 100 = .ok (.iload 6, 2) := dk_21 6 (dk_at dksX3_near_4 7 rfl rfl)
theorem dX3_near_102 : decode cX3_near 102 = .ok (.iaload, 1) := dk_46 (dk_at dksX3_near_4 9 rfl rfl)
theorem dX3_near_103 : decode cX3_near 103 = .ok (.iload_n 2, 1) := dk_28 (dk_at dksX3_near_4 10 rfl rfl)
theorem dX3_near_104 : decode cX3_near 104 = .ok (.if_icmp .gt 19, 3) := dk_163 0 19 (dk_at dksX3_near_4 11 rfl rfl)
theorem dX3_near_107 : decode cX3_near 107 = .ok (.iload_n 3, 1) := dk_29 (dk_at dksX3_near_4 14 rfl rfl)
theorem dX3_near_108 : decode cX3_near 108 = .ok (.iconst 1, 1) := dk_4 (dk_at dksX3_near_4 15 rfl rfl)
theorem dX3_near_109 : decode cX3_near 109 = .ok (.if_icmp .ne 23, 3) := dk_160 0 23 (dk_at dksX3_near_4 16 rfl rfl)
theorem dX3_near_112 : decode cX3_near 112 = .ok (.aload_n 0, 1) := dk_42 (dk_at dksX3_near_4 19 rfl rfl)
theorem dX3_near_113 : decode cX3_near 113 = .ok (.getfield 55, 3) := dk_180 0 55 (dk_at dksX3_near_4 20 rfl rfl)
theorem dX3_near_116 : decode cX3_near 116 = .ok (.iload 6, 2) := dk_21 6 (dk_at dksX3_near_5 0 rfl rfl)
theorem dX3_near_118 : decode cX3_near 118 = .ok (.iaload, 1) := dk_46 (dk_at dksX3_near_5 2 rfl rfl)
theorem dX3_near_119 : decode cX3_near 119 = .ok (.iload_n 2, 1) := dk_28 (dk_at dksX3_near_5 3 rfl rfl)
theorem dX3_near_120 : decode cX3_near 120 = .ok (.if_icmp .ne 12, 3) := dk_160 0 12 (dk_at dksX3_near_5 4 rfl rfl)
theorem dX3_near_123 : decode cX3_near 123 = .ok (.aload_n 0, 1) := dk_42 (dk_at dksX3_near_5 7 rfl rfl)
theorem dX3_near_124 : decode cX3_near 124 = .ok (.getfield 55, 3) := dk_180 0 55 (dk_at dksX3_near_5 8 rfl rfl)
theorem dX3_near_127 : decode cX3_near 127 = .ok (.iload 6, 2) := dk_21 6 (dk_at dksX3_near_5 11 rfl rfl)
theorem dX3_near_129 : decode cX3_near 129 = .ok (.iaload, 1) := dk_46 (dk_at dksX3_near_5 13 rfl rfl)
theorem dX3_near_130 : decode cX3_near 130 = .ok (.istore 5, 2) := dk_54 5 (dk_at dksX3_near_5 14 rfl rfl)
theorem dX3_near_132 : decode cX3_near 132 = .ok (.iinc 6 1, 3) := dk_132 6 1 (dk_at dksX3_near_5 16 rfl rfl)
theorem dX3_near_135 : decode cX3_near 135 = .ok (.goto (-89), 3) := dk_167 255 167 (dk_at dksX3_near_5 19 rfl rfl)
theorem dX3_near_138 : decode cX3_near 138 = .ok (.iload_n 3, 1) := dk_29 (dk_at dksX3_near_5 22 rfl rfl)
theorem dX3_near_139 : decode cX3_near 139 = .ok (.ifCond .eq 8, 3) := dk_153 0 8 (dk_at dksX3_near_6 0 rfl rfl)
theorem dX3_near_142 : decode cX3_near 142 = .ok (.iload_n 3, 1) := dk_29 (dk_at dksX3_near_6 3 rfl rfl)
theorem dX3_near_143 : decode cX3_near 143 = .ok (.iconst 2, 1) := dk_5 (dk_at dksX3_near_6 4 rfl rfl)
theorem dX3_near_144 : decode cX3_near 144 = .ok (.if_icmp .ne 8, 3) := dk_160 0 8 (dk_at dksX3_near_6 5 rfl rfl)
theorem dX3_near_147 : decode cX3_near 147 = .ok (.iload 4, 2) := dk_21 4 (dk_at dksX3_near_6 8 rfl rfl)
theorem dX3_near_149 : decode cX3_near 149 = .ok (.goto 5, 3) := dk_167 0 5 (dk_at dksX3_near_6 10 rfl rfl)
theorem dX3_near_152 : decode cX3_near 152 = .ok (.iload 5, 2) := dk_21 5 (dk_at dksX3_near_6 13 rfl rfl)
theorem dX3_near_154 : decode cX3_near 154 = .ok (.ireturn, 1) := dk_172 (dk_at dksX3_near_6 15 rfl rfl)
abbrev cX3_total : ByteArray := prog_9_method_56_code
def yX3_total : MethodName := ⟨RX3, "total", "(III)I"⟩
def dkwX3_total_1 : List UInt8 := [182, 0, 252, 42, 28, 29, 182, 1, 68, 172]
abbrev dktX3_total_1 : List UInt8 := dkwX3_total_1 ++ []
def dkwX3_total_0 : List UInt8 := [42, 3, 181, 0, 116, 42, 27, 182, 1, 53, 154, 0, 6, 18, 170, 172, 42, 42, 180, 0, 67, 27, 46]
abbrev dktX3_total_0 : List UInt8 := dkwX3_total_0 ++ dktX3_total_1
theorem dksX3_total_0 : cX3_total.data.toList.drop 0 = dktX3_total_0 := by decide +kernel
theorem dksX3_total_1 : cX3_total.data.toList.drop 23 = dktX3_total_1 := dk_seg dksX3_total_0 23 rfl rfl
theorem dX3_total_0 : decode cX3_total 0 = .ok (.aload_n 0, 1) := dk_42 (dk_at dksX3_total_0 0 rfl rfl)
theorem dX3_total_1 : decode cX3_total 1 = .ok (.iconst 0, 1) := dk_3 (dk_at dksX3_total_0 1 rfl rfl)
theorem dX3_total_2 : decode cX3_total 2 = .ok (.putfield 116, 3) := dk_181 0 116 (dk_at dksX3_total_0 2 rfl rfl)
theorem dX3_total_5 : decode cX3_total 5 = .ok (.aload_n 0, 1) := dk_42 (dk_at dksX3_total_0 5 rfl rfl)
theorem dX3_total_6 : decode cX3_total 6 = .ok (.iload_n 1, 1) := dk_27 (dk_at dksX3_total_0 6 rfl rfl)
theorem dX3_total_7 : decode cX3_total 7 = .ok (.invokevirtual 309, 3) := dk_182 1 53 (dk_at dksX3_total_0 7 rfl rfl)
theorem dX3_total_10 : decode cX3_total 10 = .ok (.ifCond .ne 6, 3) := dk_154 0 6 (dk_at dksX3_total_0 10 rfl rfl)
theorem dX3_total_13 : decode cX3_total 13 = .ok (.ldc 170, 2) := dk_18 170 (dk_at dksX3_total_0 13 rfl rfl)
theorem dX3_total_15 : decode cX3_total 15 = .ok (.ireturn, 1) := dk_172 (dk_at dksX3_total_0 15 rfl rfl)
theorem dX3_total_16 : decode cX3_total 16 = .ok (.aload_n 0, 1) := dk_42 (dk_at dksX3_total_0 16 rfl rfl)
theorem dX3_total_17 : decode cX3_total 17 = .ok (.aload_n 0, 1) := dk_42 (dk_at dksX3_total_0 17 rfl rfl)
theorem dX3_total_18 : decode cX3_total 18 = .ok (.getfield 67, 3) := dk_180 0 67 (dk_at dksX3_total_0 18 rfl rfl)
theorem dX3_total_21 : decode cX3_total 21 = .ok (.iload_n 1, 1) := dk_27 (dk_at dksX3_total_0 21 rfl rfl)
theorem dX3_total_22 : decode cX3_total 22 = .ok (.iaload, 1) := dk_46 (dk_at dksX3_total_0 22 rfl rfl)
theorem dX3_total_23 : decode cX3_total 23 = .ok (.invokevirtual 252, 3) := dk_182 0 252 (dk_at dksX3_total_1 0 rfl rfl)
theorem dX3_total_26 : decode cX3_total 26 = .ok (.aload_n 0, 1) := dk_42 (dk_at dksX3_total_1 3 rfl rfl)
theorem dX3_total_27 : decode cX3_total 27 = .ok (.iload_n 2, 1) := dk_28 (dk_at dksX3_total_1 4 rfl rfl)
theorem dX3_total_28 : decode cX3_total 28 = .ok (.iload_n 3, 1) := dk_29 (dk_at dksX3_total_1 5 rfl rfl)
theorem dX3_total_29 : decode cX3_total 29 = .ok (.invokevirtual 324, 3) := dk_182 1 68 (dk_at dksX3_total_1 6 rfl rfl)
theorem dX3_total_32 : decode cX3_total 32 = .ok (.ireturn, 1) := dk_172 (dk_at dksX3_total_1 9 rfl rfl)
abbrev cX3_node : ByteArray := prog_9_method_58_code
def yX3_node : MethodName := ⟨RX3, "node", "(III)I"⟩
def dkwX3_node_5 : List UInt8 := [180, 0, 64, 28, 46, 172, 42, 21, 4, 182, 1, 73, 172, 42, 21, 4, 182, 1, 76, 172]
abbrev dktX3_node_5 : List UInt8 := dkwX3_node_5 ++ []
def dkwX3_node_4 : List UInt8 := [42, 180, 0, 23, 21, 4, 46, 172, 42, 180, 0, 26, 21, 4, 46, 172, 42, 21, 4, 182, 0, 200, 172, 42]
abbrev dktX3_node_4 : List UInt8 := dkwX3_node_4 ++ dktX3_node_5
def dkwX3_node_3 : List UInt8 := [170, 0, 0, 0, 0, 71, 0, 0, 0, 0, 0, 0, 0, 4, 0, 0, 0, 34, 0, 0, 0, 42, 0, 0, 0, 50, 0, 0, 0, 57, 0, 0, 0, 64]
abbrev dktX3_node_3 : List UInt8 := dkwX3_node_3 ++ dktX3_node_4
def dkwX3_node_2 : List UInt8 := [161, 0, 6, 18, 170, 172, 42, 180, 0, 61, 28, 46, 54, 4, 29]
abbrev dktX3_node_2 : List UInt8 := dkwX3_node_2 ++ dktX3_node_3
def dkwX3_node_1 : List UInt8 := [184, 0, 174, 154, 0, 6, 18, 170, 172, 42, 42, 180, 0, 67, 27, 46, 182, 0, 252, 28, 42, 180, 0, 243]
abbrev dktX3_node_1 : List UInt8 := dkwX3_node_1 ++ dktX3_node_2
def dkwX3_node_0 : List UInt8 := [42, 3, 181, 0, 116, 42, 27, 182, 1, 53, 153, 0, 19, 28, 155, 0, 15, 29, 133, 9, 20, 1, 71]
abbrev dktX3_node_0 : List UInt8 := dkwX3_node_0 ++ dktX3_node_1
theorem dksX3_node_0 : cX3_node.data.toList.drop 0 = dktX3_node_0 := by decide +kernel
theorem dksX3_node_1 : cX3_node.data.toList.drop 23 = dktX3_node_1 := dk_seg dksX3_node_0 23 rfl rfl
theorem dksX3_node_2 : cX3_node.data.toList.drop 47 = dktX3_node_2 := dk_seg dksX3_node_1 24 rfl rfl
theorem dksX3_node_3 : cX3_node.data.toList.drop 62 = dktX3_node_3 := dk_seg dksX3_node_2 15 rfl rfl
theorem dksX3_node_4 : cX3_node.data.toList.drop 96 = dktX3_node_4 := dk_seg dksX3_node_3 34 rfl rfl
theorem dksX3_node_5 : cX3_node.data.toList.drop 120 = dktX3_node_5 := dk_seg dksX3_node_4 24 rfl rfl
theorem dX3_node_0 : decode cX3_node 0 = .ok (.aload_n 0, 1) := dk_42 (dk_at dksX3_node_0 0 rfl rfl)
theorem dX3_node_1 : decode cX3_node 1 = .ok (.iconst 0, 1) := dk_3 (dk_at dksX3_node_0 1 rfl rfl)
theorem dX3_node_2 : decode cX3_node 2 = .ok (.putfield 116, 3) := dk_181 0 116 (dk_at dksX3_node_0 2 rfl rfl)
theorem dX3_node_5 : decode cX3_node 5 = .ok (.aload_n 0, 1) := dk_42 (dk_at dksX3_node_0 5 rfl rfl)
theorem dX3_node_6 : decode cX3_node 6 = .ok (.iload_n 1, 1) := dk_27 (dk_at dksX3_node_0 6 rfl rfl)
theorem dX3_node_7 : decode cX3_node 7 = .ok (.invokevirtual 309, 3) := dk_182 1 53 (dk_at dksX3_node_0 7 rfl rfl)
theorem dX3_node_10 : decode cX3_node 10 = .ok (.ifCond .eq 19, 3) := dk_153 0 19 (dk_at dksX3_node_0 10 rfl rfl)
theorem dX3_node_13 : decode cX3_node 13 = .ok (.iload_n 2, 1) := dk_28 (dk_at dksX3_node_0 13 rfl rfl)
theorem dX3_node_14 : decode cX3_node 14 = .ok (.ifCond .lt 15, 3) := dk_155 0 15 (dk_at dksX3_node_0 14 rfl rfl)
theorem dX3_node_17 : decode cX3_node 17 = .ok (.iload_n 3, 1) := dk_29 (dk_at dksX3_node_0 17 rfl rfl)
theorem dX3_node_18 : decode cX3_node 18 = .ok (.i2l, 1) := dk_133 (dk_at dksX3_node_0 18 rfl rfl)
theorem dX3_node_19 : decode cX3_node 19 = .ok (.lconst 0, 1) := dk_9 (dk_at dksX3_node_0 19 rfl rfl)
theorem dX3_node_20 : decode cX3_node 20 = .ok (.ldc2_w 327, 3) := dk_20 1 71 (dk_at dksX3_node_0 20 rfl rfl)
theorem dX3_node_23 : decode cX3_node 23 = .ok (.invokestatic 174, 3) := dk_184 0 174 (dk_at dksX3_node_1 0 rfl rfl)
theorem dX3_node_26 : decode cX3_node 26 = .ok (.ifCond .ne 6, 3) := dk_154 0 6 (dk_at dksX3_node_1 3 rfl rfl)
theorem dX3_node_29 : decode cX3_node 29 = .ok (.ldc 170, 2) := dk_18 170 (dk_at dksX3_node_1 6 rfl rfl)
theorem dX3_node_31 : decode cX3_node 31 = .ok (.ireturn, 1) := dk_172 (dk_at dksX3_node_1 8 rfl rfl)
theorem dX3_node_32 : decode cX3_node 32 = .ok (.aload_n 0, 1) := dk_42 (dk_at dksX3_node_1 9 rfl rfl)
theorem dX3_node_33 : decode cX3_node 33 = .ok (.aload_n 0, 1) := dk_42 (dk_at dksX3_node_1 10 rfl rfl)
theorem dX3_node_34 : decode cX3_node 34 = .ok (.getfield 67, 3) := dk_180 0 67 (dk_at dksX3_node_1 11 rfl rfl)
theorem dX3_node_37 : decode cX3_node 37 = .ok (.iload_n 1, 1) := dk_27 (dk_at dksX3_node_1 14 rfl rfl)
theorem dX3_node_38 : decode cX3_node 38 = .ok (.iaload, 1) := dk_46 (dk_at dksX3_node_1 15 rfl rfl)
theorem dX3_node_39 : decode cX3_node 39 = .ok (.invokevirtual 252, 3) := dk_182 0 252 (dk_at dksX3_node_1 16 rfl rfl)
theorem dX3_node_42 : decode cX3_node 42 = .ok (.iload_n 2, 1) := dk_28 (dk_at dksX3_node_1 19 rfl rfl)
theorem dX3_node_43 : decode cX3_node 43 = .ok (.aload_n 0, 1) := dk_42 (dk_at dksX3_node_1 20 rfl rfl)
theorem dX3_node_44 : decode cX3_node 44 = .ok (.getfield 243, 3) := dk_180 0 243 (dk_at dksX3_node_1 21 rfl rfl)
theorem dX3_node_47 : decode cX3_node 47 = .ok (.if_icmp .lt 6, 3) := dk_161 0 6 (dk_at dksX3_node_2 0 rfl rfl)
theorem dX3_node_50 : decode cX3_node 50 = .ok (.ldc 170, 2) := dk_18 170 (dk_at dksX3_node_2 3 rfl rfl)
theorem dX3_node_52 : decode cX3_node 52 = .ok (.ireturn, 1) := dk_172 (dk_at dksX3_node_2 5 rfl rfl)
theorem dX3_node_53 : decode cX3_node 53 = .ok (.aload_n 0, 1) := dk_42 (dk_at dksX3_node_2 6 rfl rfl)
theorem dX3_node_54 : decode cX3_node 54 = .ok (.getfield 61, 3) := dk_180 0 61 (dk_at dksX3_node_2 7 rfl rfl)
theorem dX3_node_57 : decode cX3_node 57 = .ok (.iload_n 2, 1) := dk_28 (dk_at dksX3_node_2 10 rfl rfl)
theorem dX3_node_58 : decode cX3_node 58 = .ok (.iaload, 1) := dk_46 (dk_at dksX3_node_2 11 rfl rfl)
theorem dX3_node_59 : decode cX3_node 59 = .ok (.istore 4, 2) := dk_54 4 (dk_at dksX3_node_2 12 rfl rfl)
theorem dX3_node_61 : decode cX3_node 61 = .ok (.iload_n 3, 1) := dk_29 (dk_at dksX3_node_2 14 rfl rfl)
theorem dX3_node_62 : decode cX3_node 62 = .ok (.tableswitch 71 0 4 #[34, 42, 50, 57, 64], 34) := by decide +kernel
theorem dX3_node_96 : decode cX3_node 96 = .ok (.aload_n 0, 1) := dk_42 (dk_at dksX3_node_4 0 rfl rfl)
theorem dX3_node_97 : decode cX3_node 97 = .ok (.getfield 23, 3) := dk_180 0 23 (dk_at dksX3_node_4 1 rfl rfl)
theorem dX3_node_100 : decode cX3_node 100 = .ok (.iload 4, 2) := dk_21 4 (dk_at dksX3_node_4 4 rfl rfl)
theorem dX3_node_102 : decode cX3_node 102 = .ok (.iaload, 1) := dk_46 (dk_at dksX3_node_4 6 rfl rfl)
theorem dX3_node_103 : decode cX3_node 103 = .ok (.ireturn, 1) := dk_172 (dk_at dksX3_node_4 7 rfl rfl)
theorem dX3_node_104 : decode cX3_node 104 = .ok (.aload_n 0, 1) := dk_42 (dk_at dksX3_node_4 8 rfl rfl)
theorem dX3_node_105 : decode cX3_node 105 = .ok (.getfield 26, 3) := dk_180 0 26 (dk_at dksX3_node_4 9 rfl rfl)
theorem dX3_node_108 : decode cX3_node 108 = .ok (.iload 4, 2) := dk_21 4 (dk_at dksX3_node_4 12 rfl rfl)
theorem dX3_node_110 : decode cX3_node 110 = .ok (.iaload, 1) := dk_46 (dk_at dksX3_node_4 14 rfl rfl)
theorem dX3_node_111 : decode cX3_node 111 = .ok (.ireturn, 1) := dk_172 (dk_at dksX3_node_4 15 rfl rfl)
theorem dX3_node_112 : decode cX3_node 112 = .ok (.aload_n 0, 1) := dk_42 (dk_at dksX3_node_4 16 rfl rfl)
theorem dX3_node_113 : decode cX3_node 113 = .ok (.iload 4, 2) := dk_21 4 (dk_at dksX3_node_4 17 rfl rfl)
theorem dX3_node_115 : decode cX3_node 115 = .ok (.invokevirtual 200, 3) := dk_182 0 200 (dk_at dksX3_node_4 19 rfl rfl)
theorem dX3_node_118 : decode cX3_node 118 = .ok (.ireturn, 1) := dk_172 (dk_at dksX3_node_4 22 rfl rfl)
theorem dX3_node_119 : decode cX3_node 119 = .ok (.aload_n 0, 1) := dk_42 (dk_at dksX3_node_4 23 rfl rfl)
theorem dX3_node_120 : decode cX3_node 120 = .ok (.getfield 64, 3) := dk_180 0 64 (dk_at dksX3_node_5 0 rfl rfl)
theorem dX3_node_123 : decode cX3_node 123 = .ok (.iload_n 2, 1) := dk_28 (dk_at dksX3_node_5 3 rfl rfl)
theorem dX3_node_124 : decode cX3_node 124 = .ok (.iaload, 1) := dk_46 (dk_at dksX3_node_5 4 rfl rfl)
theorem dX3_node_125 : decode cX3_node 125 = .ok (.ireturn, 1) := dk_172 (dk_at dksX3_node_5 5 rfl rfl)
theorem dX3_node_126 : decode cX3_node 126 = .ok (.aload_n 0, 1) := dk_42 (dk_at dksX3_node_5 6 rfl rfl)
theorem dX3_node_127 : decode cX3_node 127 = .ok (.iload 4, 2) := dk_21 4 (dk_at dksX3_node_5 7 rfl rfl)
theorem dX3_node_129 : decode cX3_node 129 = .ok (.invokevirtual 329, 3) := dk_182 1 73 (dk_at dksX3_node_5 9 rfl rfl)
theorem dX3_node_132 : decode cX3_node 132 = .ok (.ireturn, 1) := dk_172 (dk_at dksX3_node_5 12 rfl rfl)
theorem dX3_node_133 : decode cX3_node 133 = .ok (.aload_n 0, 1) := dk_42 (dk_at dksX3_node_5 13 rfl rfl)
theorem dX3_node_134 : decode cX3_node 134 = .ok (.iload 4, 2) := dk_21 4 (dk_at dksX3_node_5 14 rfl rfl)
theorem dX3_node_136 : decode cX3_node 136 = .ok (.invokevirtual 332, 3) := dk_182 1 76 (dk_at dksX3_node_5 16 rfl rfl)
theorem dX3_node_139 : decode cX3_node 139 = .ok (.ireturn, 1) := dk_172 (dk_at dksX3_node_5 19 rfl rfl)
abbrev cX3_holders : ByteArray := prog_9_method_57_code
def yX3_holders : MethodName := ⟨RX3, "holders", "(I)I"⟩
def dkwX3_holders_3 : List UInt8 := [167, 255, 190, 28, 172]
abbrev dktX3_holders_3 : List UInt8 := dkwX3_holders_3 ++ []
def dkwX3_holders_2 : List UInt8 := [180, 0, 32, 27, 46, 42, 180, 0, 255, 160, 0, 7, 4, 167, 0, 4, 3, 96, 61, 132, 3, 1]
abbrev dktX3_holders_2 : List UInt8 := dkwX3_holders_2 ++ dktX3_holders_3
def dkwX3_holders_1 : List UInt8 := [42, 89, 180, 0, 255, 4, 96, 181, 0, 255, 42, 42, 180, 0, 67, 29, 46, 182, 1, 2, 54, 4, 28, 42]
abbrev dktX3_holders_1 : List UInt8 := dkwX3_holders_1 ++ dktX3_holders_2
def dkwX3_holders_0 : List UInt8 := [3, 61, 3, 62, 29, 42, 180, 1, 5, 162, 0, 64, 42, 180, 0, 88, 29, 51, 154, 0, 6, 167, 0, 46]
abbrev dktX3_holders_0 : List UInt8 := dkwX3_holders_0 ++ dktX3_holders_1
theorem dksX3_holders_0 : cX3_holders.data.toList.drop 0 = dktX3_holders_0 := by decide +kernel
theorem dksX3_holders_1 : cX3_holders.data.toList.drop 24 = dktX3_holders_1 := dk_seg dksX3_holders_0 24 rfl rfl
theorem dksX3_holders_2 : cX3_holders.data.toList.drop 48 = dktX3_holders_2 := dk_seg dksX3_holders_1 24 rfl rfl
theorem dksX3_holders_3 : cX3_holders.data.toList.drop 70 = dktX3_holders_3 := dk_seg dksX3_holders_2 22 rfl rfl
theorem dX3_holders_0 : decode cX3_holders 0 = .ok (.iconst 0, 1) := dk_3 (dk_at dksX3_holders_0 0 rfl rfl)
theorem dX3_holders_1 : decode cX3_holders 1 = .ok (.istore_n 2, 1) := dk_61 (dk_at dksX3_holders_0 1 rfl rfl)
theorem dX3_holders_2 : decode cX3_holders 2 = .ok (.iconst 0, 1) := dk_3 (dk_at dksX3_holders_0 2 rfl rfl)
theorem dX3_holders_3 : decode cX3_holders 3 = .ok (.istore_n 3, 1) := dk_62 (dk_at dksX3_holders_0 3 rfl rfl)
theorem dX3_holders_4 : decode cX3_holders 4 = .ok (.iload_n 3, 1) := dk_29 (dk_at dksX3_holders_0 4 rfl rfl)
theorem dX3_holders_5 : decode cX3_holders 5 = .ok (.aload_n 0, 1) := dk_42 (dk_at dksX3_holders_0 5 rfl rfl)
theorem dX3_holders_6 : decode cX3_holders 6 = .ok (.getfield 261, 3) := dk_180 1 5 (dk_at dksX3_holders_0 6 rfl rfl)
theorem dX3_holders_9 : decode cX3_holders 9 = .ok (.if_icmp .ge 64, 3) := dk_162 0 64 (dk_at dksX3_holders_0 9 rfl rfl)
theorem dX3_holders_12 : decode cX3_holders 12 = .ok (.aload_n 0, 1) := dk_42 (dk_at dksX3_holders_0 12 rfl rfl)
theorem dX3_holders_13 : decode cX3_holders 13 = .ok (.getfield 88, 3) := dk_180 0 88 (dk_at dksX3_holders_0 13 rfl rfl)
theorem dX3_holders_16 : decode cX3_holders 16 = .ok (.iload_n 3, 1) := dk_29 (dk_at dksX3_holders_0 16 rfl rfl)
theorem dX3_holders_17 : decode cX3_holders 17 = .ok (.baload, 1) := dk_51 (dk_at dksX3_holders_0 17 rfl rfl)
theorem dX3_holders_18 : decode cX3_holders 18 = .ok (.ifCond .ne 6, 3) := dk_154 0 6 (dk_at dksX3_holders_0 18 rfl rfl)
theorem dX3_holders_21 : decode cX3_holders 21 = .ok (.goto 46, 3) := dk_167 0 46 (dk_at dksX3_holders_0 21 rfl rfl)
theorem dX3_holders_24 : decode cX3_holders 24 = .ok (.aload_n 0, 1) := dk_42 (dk_at dksX3_holders_1 0 rfl rfl)
theorem dX3_holders_25 : decode cX3_holders 25 = .ok (.dup, 1) := dk_89 (dk_at dksX3_holders_1 1 rfl rfl)
theorem dX3_holders_26 : decode cX3_holders 26 = .ok (.getfield 255, 3) := dk_180 0 255 (dk_at dksX3_holders_1 2 rfl rfl)
theorem dX3_holders_29 : decode cX3_holders 29 = .ok (.iconst 1, 1) := dk_4 (dk_at dksX3_holders_1 5 rfl rfl)
theorem dX3_holders_30 : decode cX3_holders 30 = .ok (.iadd, 1) := dk_96 (dk_at dksX3_holders_1 6 rfl rfl)
theorem dX3_holders_31 : decode cX3_holders 31 = .ok (.putfield 255, 3) := dk_181 0 255 (dk_at dksX3_holders_1 7 rfl rfl)
theorem dX3_holders_34 : decode cX3_holders 34 = .ok (.aload_n 0, 1) := dk_42 (dk_at dksX3_holders_1 10 rfl rfl)
theorem dX3_holders_35 : decode cX3_holders 35 = .ok (.aload_n 0, 1) := dk_42 (dk_at dksX3_holders_1 11 rfl rfl)
theorem dX3_holders_36 : decode cX3_holders 36 = .ok (.getfield 67, 3) := dk_180 0 67 (dk_at dksX3_holders_1 12 rfl rfl)
theorem dX3_holders_39 : decode cX3_holders 39 = .ok (.iload_n 3, 1) := dk_29 (dk_at dksX3_holders_1 15 rfl rfl)
theorem dX3_holders_40 : decode cX3_holders 40 = .ok (.iaload, 1) := dk_46 (dk_at dksX3_holders_1 16 rfl rfl)
theorem dX3_holders_41 : decode cX3_holders 41 = .ok (.invokevirtual 258, 3) := dk_182 1 2 (dk_at dksX3_holders_1 17 rfl rfl)
theorem dX3_holders_44 : decode cX3_holders 44 = .ok (.istore 4, 2) := dk_54 4 (dk_at dksX3_holders_1 20 rfl rfl)
theorem dX3_holders_46 : decode cX3_holders 46 = .ok (.iload_n 2, 1) := dk_28 (dk_at dksX3_holders_1 22 rfl rfl)
theorem dX3_holders_47 : decode cX3_holders 47 = .ok (.aload_n 0, 1) := dk_42 (dk_at dksX3_holders_1 23 rfl rfl)
theorem dX3_holders_48 : decode cX3_holders 48 = .ok (.getfield 32, 3) := dk_180 0 32 (dk_at dksX3_holders_2 0 rfl rfl)
theorem dX3_holders_51 : decode cX3_holders 51 = .ok (.iload_n 1, 1) := dk_27 (dk_at dksX3_holders_2 3 rfl rfl)
theorem dX3_holders_52 : decode cX3_holders 52 = .ok (.iaload, 1) := dk_46 (dk_at dksX3_holders_2 4 rfl rfl)
theorem dX3_holders_53 : decode cX3_holders 53 = .ok (.aload_n 0, 1) := dk_42 (dk_at dksX3_holders_2 5 rfl rfl)
theorem dX3_holders_54 : decode cX3_holders 54 = .ok (.getfield 255, 3) := dk_180 0 255 (dk_at dksX3_holders_2 6 rfl rfl)
theorem dX3_holders_57 : decode cX3_holders 57 = .ok (.if_icmp .ne 7, 3) := dk_160 0 7 (dk_at dksX3_holders_2 9 rfl rfl)
theorem dX3_holders_60 : decode cX3_holders 60 = .ok (.iconst 1, 1) := dk_4 (dk_at dksX3_holders_2 12 rfl rfl)
theorem dX3_holders_61 : decode cX3_holders 61 = .ok (.goto 4, 3) := dk_167 0 4 (dk_at dksX3_holders_2 13 rfl rfl)
theorem dX3_holders_64 : decode cX3_holders 64 = .ok (.iconst 0, 1) := dk_3 (dk_at dksX3_holders_2 16 rfl rfl)
theorem dX3_holders_65 : decode cX3_holders 65 = .ok (.iadd, 1) := dk_96 (dk_at dksX3_holders_2 17 rfl rfl)
theorem dX3_holders_66 : decode cX3_holders 66 = .ok (.istore_n 2, 1) := dk_61 (dk_at dksX3_holders_2 18 rfl rfl)
theorem dX3_holders_67 : decode cX3_holders 67 = .ok (.iinc 3 1, 3) := dk_132 3 1 (dk_at dksX3_holders_2 19 rfl rfl)
theorem dX3_holders_70 : decode cX3_holders 70 = .ok (.goto (-66), 3) := dk_167 255 190 (dk_at dksX3_holders_3 0 rfl rfl)
theorem dX3_holders_73 : decode cX3_holders 73 = .ok (.iload_n 2, 1) := dk_28 (dk_at dksX3_holders_3 3 rfl rfl)
theorem dX3_holders_74 : decode cX3_holders 74 = .ok (.ireturn, 1) := dk_172 (dk_at dksX3_holders_3 4 rfl rfl)
abbrev cX3_keysOf : ByteArray := prog_9_method_38_code
def yX3_keysOf : MethodName := ⟨RX3, "keysOf", "(I)I"⟩
def dkwX3_keysOf_0 : List UInt8 := [42, 27, 182, 0, 252, 42, 180, 0, 249, 172]
abbrev dktX3_keysOf_0 : List UInt8 := dkwX3_keysOf_0 ++ []
theorem dksX3_keysOf_0 : cX3_keysOf.data.toList.drop 0 = dktX3_keysOf_0 := by decide +kernel
theorem dX3_keysOf_0 : decode cX3_keysOf 0 = .ok (.aload_n 0, 1) := dk_42 (dk_at dksX3_keysOf_0 0 rfl rfl)
theorem dX3_keysOf_1 : decode cX3_keysOf 1 = .ok (.iload_n 1, 1) := dk_27 (dk_at dksX3_keysOf_0 1 rfl rfl)
theorem dX3_keysOf_2 : decode cX3_keysOf 2 = .ok (.invokevirtual 252, 3) := dk_182 0 252 (dk_at dksX3_keysOf_0 2 rfl rfl)
theorem dX3_keysOf_5 : decode cX3_keysOf 5 = .ok (.aload_n 0, 1) := dk_42 (dk_at dksX3_keysOf_0 5 rfl rfl)
theorem dX3_keysOf_6 : decode cX3_keysOf 6 = .ok (.getfield 249, 3) := dk_180 0 249 (dk_at dksX3_keysOf_0 6 rfl rfl)
theorem dX3_keysOf_9 : decode cX3_keysOf 9 = .ok (.ireturn, 1) := dk_172 (dk_at dksX3_keysOf_0 9 rfl rfl)
abbrev cX3_having : ByteArray := prog_9_method_59_code
def yX3_having : MethodName := ⟨RX3, "having", "(III)I"⟩
def dkwX3_having_5 : List UInt8 := [182, 1, 42, 27, 2, 182, 1, 46, 172]
abbrev dktX3_having_5 : List UInt8 := dkwX3_having_5 ++ []
def dkwX3_having_4 : List UInt8 := [154, 0, 9, 42, 7, 182, 1, 36, 172, 42, 42, 42, 180, 0, 67, 27, 46, 28, 29, 42, 182, 1, 39]
abbrev dktX3_having_4 : List UInt8 := dkwX3_having_4 ++ dktX3_having_5
def dkwX3_having_3 : List UInt8 := [180, 0, 67, 27, 46, 28, 182, 0, 218, 18, 170, 160, 0, 9, 42, 6, 182, 1, 36, 172, 42, 182, 1, 33]
abbrev dktX3_having_3 : List UInt8 := dkwX3_having_3 ++ dktX3_having_4
def dkwX3_having_2 : List UInt8 := [4, 182, 1, 36, 172, 42, 42, 180, 0, 67, 27, 46, 182, 1, 76, 16, 60, 160, 0, 25, 42, 42]
abbrev dktX3_having_2 : List UInt8 := dkwX3_having_2 ++ dktX3_having_3
def dkwX3_having_1 : List UInt8 := [20, 1, 79, 184, 0, 174, 153, 0, 17, 29, 133, 20, 1, 81, 20, 1, 79, 184, 0, 174, 154, 0, 9, 42]
abbrev dktX3_having_1 : List UInt8 := dkwX3_having_1 ++ dktX3_having_2
def dkwX3_having_0 : List UInt8 := [42, 3, 181, 0, 116, 42, 27, 182, 1, 53, 154, 0, 9, 42, 3, 182, 1, 36, 172, 28, 133, 9]
abbrev dktX3_having_0 : List UInt8 := dkwX3_having_0 ++ dktX3_having_1
theorem dksX3_having_0 : cX3_having.data.toList.drop 0 = dktX3_having_0 := by decide +kernel
theorem dksX3_having_1 : cX3_having.data.toList.drop 22 = dktX3_having_1 := dk_seg dksX3_having_0 22 rfl rfl
theorem dksX3_having_2 : cX3_having.data.toList.drop 46 = dktX3_having_2 := dk_seg dksX3_having_1 24 rfl rfl
theorem dksX3_having_3 : cX3_having.data.toList.drop 68 = dktX3_having_3 := dk_seg dksX3_having_2 22 rfl rfl
theorem dksX3_having_4 : cX3_having.data.toList.drop 92 = dktX3_having_4 := dk_seg dksX3_having_3 24 rfl rfl
theorem dksX3_having_5 : cX3_having.data.toList.drop 115 = dktX3_having_5 := dk_seg dksX3_having_4 23 rfl rfl
theorem dX3_having_0 : decode cX3_having 0 = .ok (.aload_n 0, 1) := dk_42 (dk_at dksX3_having_0 0 rfl rfl)
theorem dX3_having_1 : decode cX3_having 1 = .ok (.iconst 0, 1) := dk_3 (dk_at dksX3_having_0 1 rfl rfl)
theorem dX3_having_2 : decode cX3_having 2 = .ok (.putfield 116, 3) := dk_181 0 116 (dk_at dksX3_having_0 2 rfl rfl)
theorem dX3_having_5 : decode cX3_having 5 = .ok (.aload_n 0, 1) := dk_42 (dk_at dksX3_having_0 5 rfl rfl)
theorem dX3_having_6 : decode cX3_having 6 = .ok (.iload_n 1, 1) := dk_27 (dk_at dksX3_having_0 6 rfl rfl)
theorem dX3_having_7 : decode cX3_having 7 = .ok (.invokevirtual 309, 3) := dk_182 1 53 (dk_at dksX3_having_0 7 rfl rfl)
theorem dX3_having_10 : decode cX3_having 10 = .ok (.ifCond .ne 9, 3) := dk_154 0 9 (dk_at dksX3_having_0 10 rfl rfl)
theorem dX3_having_13 : decode cX3_having 13 = .ok (.aload_n 0, 1) := dk_42 (dk_at dksX3_having_0 13 rfl rfl)
theorem dX3_having_14 : decode cX3_having 14 = .ok (.iconst 0, 1) := dk_3 (dk_at dksX3_having_0 14 rfl rfl)
theorem dX3_having_15 : decode cX3_having 15 = .ok (.invokevirtual 292, 3) := dk_182 1 36 (dk_at dksX3_having_0 15 rfl rfl)
theorem dX3_having_18 : decode cX3_having 18 = .ok (.ireturn, 1) := dk_172 (dk_at dksX3_having_0 18 rfl rfl)
theorem dX3_having_19 : decode cX3_having 19 = .ok (.iload_n 2, 1) := dk_28 (dk_at dksX3_having_0 19 rfl rfl)
theorem dX3_having_20 : decode cX3_having 20 = .ok (.i2l, 1) := dk_133 (dk_at dksX3_having_0 20 rfl rfl)
theorem dX3_having_21 : decode cX3_having 21 = .ok (.lconst 0, 1) := dk_9 (dk_at dksX3_having_0 21 rfl rfl)
theorem dX3_having_22 : decode cX3_having 22 = .ok (.ldc2_w 335, 3) := dk_20 1 79 (dk_at dksX3_having_1 0 rfl rfl)
theorem dX3_having_25 : decode cX3_having 25 = .ok (.invokestatic 174, 3) := dk_184 0 174 (dk_at dksX3_having_1 3 rfl rfl)
theorem dX3_having_28 : decode cX3_having 28 = .ok (.ifCond .eq 17, 3) := dk_153 0 17 (dk_at dksX3_having_1 6 rfl rfl)
theorem dX3_having_31 : decode cX3_having 31 = .ok (.iload_n 3, 1) := dk_29 (dk_at dksX3_having_1 9 rfl rfl)
theorem dX3_having_32 : decode cX3_having 32 = .ok (.i2l, 1) := dk_133 (dk_at dksX3_having_1 10 rfl rfl)
theorem dX3_having_33 : decode cX3_having 33 = .ok (.ldc2_w 337, 3) := dk_20 1 81 (dk_at dksX3_having_1 11 rfl rfl)
theorem dX3_having_36 : decode cX3_having 36 = .ok (.ldc2_w 335, 3) := dk_20 1 79 (dk_at dksX3_having_1 14 rfl rfl)
theorem dX3_having_39 : decode cX3_having 39 = .ok (.invokestatic 174, 3) := dk_184 0 174 (dk_at dksX3_having_1 17 rfl rfl)
theorem dX3_having_42 : decode cX3_having 42 = .ok (.ifCond .ne 9, 3) := dk_154 0 9 (dk_at dksX3_having_1 20 rfl rfl)
theorem dX3_having_45 : decode cX3_having 45 = .ok (.aload_n 0, 1) := dk_42 (dk_at dksX3_having_1 23 rfl rfl)
theorem dX3_having_46 : decode cX3_having 46 = .ok (.iconst 1, 1) := dk_4 (dk_at dksX3_having_2 0 rfl rfl)
theorem dX3_having_47 : decode cX3_having 47 = .ok (.invokevirtual 292, 3) := dk_182 1 36 (dk_at dksX3_having_2 1 rfl rfl)
theorem dX3_having_50 : decode cX3_having 50 = .ok (.ireturn, 1) := dk_172 (dk_at dksX3_having_2 4 rfl rfl)
theorem dX3_having_51 : decode cX3_having 51 = .ok (.aload_n 0, 1) := dk_42 (dk_at dksX3_having_2 5 rfl rfl)
theorem dX3_having_52 : decode cX3_having 52 = .ok (.aload_n 0, 1) := dk_42 (dk_at dksX3_having_2 6 rfl rfl)
theorem dX3_having_53 : decode cX3_having 53 = .ok (.getfield 67, 3) := dk_180 0 67 (dk_at dksX3_having_2 7 rfl rfl)
theorem dX3_having_56 : decode cX3_having 56 = .ok (.iload_n 1, 1) := dk_27 (dk_at dksX3_having_2 10 rfl rfl)
theorem dX3_having_57 : decode cX3_having 57 = .ok (.iaload, 1) := dk_46 (dk_at dksX3_having_2 11 rfl rfl)
theorem dX3_having_58 : decode cX3_having 58 = .ok (.invokevirtual 332, 3) := dk_182 1 76 (dk_at dksX3_having_2 12 rfl rfl)
theorem dX3_having_61 : decode cX3_having 61 = .ok (.bipush 60, 2) := dk_16 60 (dk_at dksX3_having_2 15 rfl rfl)
theorem dX3_having_63 : decode cX3_having 63 = .ok (.if_icmp .ne 25, 3) := dk_160 0 25 (dk_at dksX3_having_2 17 rfl rfl)
theorem dX3_having_66 : decode cX3_having 66 = .ok (.aload_n 0, 1) := dk_42 (dk_at dksX3_having_2 20 rfl rfl)
theorem dX3_having_67 : decode cX3_having 67 = .ok (.aload_n 0, 1) := dk_42 (dk_at dksX3_having_2 21 rfl rfl)
theorem dX3_having_68 : decode cX3_having 68 = .ok (.getfield 67, 3) := dk_180 0 67 (dk_at dksX3_having_3 0 rfl rfl)
theorem dX3_having_71 : decode cX3_having 71 = .ok (.iload_n 1, 1) := dk_27 (dk_at dksX3_having_3 3 rfl rfl)
theorem dX3_having_72 : decode cX3_having 72 = .ok (.iaload, 1) := dk_46 (dk_at dksX3_having_3 4 rfl rfl)
theorem dX3_having_73 : decode cX3_having 73 = .ok (.iload_n 2, 1) := dk_28 (dk_at dksX3_having_3 5 rfl rfl)
theorem dX3_having_74 : decode cX3_having 74 = .ok (.invokevirtual 218, 3) := dk_182 0 218 (dk_at dksX3_having_3 6 rfl rfl)
theorem dX3_having_77 : decode cX3_having 77 = .ok (.ldc 170, 2) := dk_18 170 (dk_at dksX3_having_3 9 rfl rfl)
theorem dX3_having_79 : decode cX3_having 79 = .ok (.if_icmp .ne 9, 3) := dk_160 0 9 (dk_at dksX3_having_3 11 rfl rfl)
theorem dX3_having_82 : decode cX3_having 82 = .ok (.aload_n 0, 1) := dk_42 (dk_at dksX3_having_3 14 rfl rfl)
theorem dX3_having_83 : decode cX3_having 83 = .ok (.iconst 3, 1) := dk_6 (dk_at dksX3_having_3 15 rfl rfl)
theorem dX3_having_84 : decode cX3_having 84 = .ok (.invokevirtual 292, 3) := dk_182 1 36 (dk_at dksX3_having_3 16 rfl rfl)
theorem dX3_having_87 : decode cX3_having 87 = .ok (.ireturn, 1) := dk_172 (dk_at dksX3_having_3 19 rfl rfl)
theorem dX3_having_88 : decode cX3_having 88 = .ok (.aload_n 0, 1) := dk_42 (dk_at dksX3_having_3 20 rfl rfl)
theorem dX3_having_89 : decode cX3_having 89 = .ok (.invokevirtual 289, 3) := dk_182 1 33 (dk_at dksX3_having_3 21 rfl rfl)
theorem dX3_having_92 : decode cX3_having 92 = .ok (.ifCond .ne 9, 3) := dk_154 0 9 (dk_at dksX3_having_4 0 rfl rfl)
theorem dX3_having_95 : decode cX3_having 95 = .ok (.aload_n 0, 1) := dk_42 (dk_at dksX3_having_4 3 rfl rfl)
theorem dX3_having_96 : decode cX3_having 96 = .ok (.iconst 4, 1) := dk_7 (dk_at dksX3_having_4 4 rfl rfl)
theorem dX3_having_97 : decode cX3_having 97 = .ok (.invokevirtual 292, 3) := dk_182 1 36 (dk_at dksX3_having_4 5 rfl rfl)
theorem dX3_having_100 : decode cX3_having 100 = .ok (.ireturn, 1) := dk_172 (dk_at dksX3_having_4 8 rfl rfl)
theorem dX3_having_101 : decode cX3_having 101 = .ok (.aload_n 0, 1) := dk_42 (dk_at dksX3_having_4 9 rfl rfl)
theorem dX3_having_102 : decode cX3_having 102 = .ok (.aload_n 0, 1) := dk_42 (dk_at dksX3_having_4 10 rfl rfl)
theorem dX3_having_103 : decode cX3_having 103 = .ok (.aload_n 0, 1) := dk_42 (dk_at dksX3_having_4 11 rfl rfl)
theorem dX3_having_104 : decode cX3_having 104 = .ok (.getfield 67, 3) := dk_180 0 67 (dk_at dksX3_having_4 12 rfl rfl)
theorem dX3_having_107 : decode cX3_having 107 = .ok (.iload_n 1, 1) := dk_27 (dk_at dksX3_having_4 15 rfl rfl)
theorem dX3_having_108 : decode cX3_having 108 = .ok (.iaload, 1) := dk_46 (dk_at dksX3_having_4 16 rfl rfl)
theorem dX3_having_109 : decode cX3_having 109 = .ok (.iload_n 2, 1) := dk_28 (dk_at dksX3_having_4 17 rfl rfl)
theorem dX3_having_110 : decode cX3_having 110 = .ok (.iload_n 3, 1) := dk_29 (dk_at dksX3_having_4 18 rfl rfl)
theorem dX3_having_111 : decode cX3_having 111 = .ok (.aload_n 0, 1) := dk_42 (dk_at dksX3_having_4 19 rfl rfl)
theorem dX3_having_112 : decode cX3_having 112 = .ok (.invokevirtual 295, 3) := dk_182 1 39 (dk_at dksX3_having_4 20 rfl rfl)
theorem dX3_having_115 : decode cX3_having 115 = .ok (.invokevirtual 298, 3) := dk_182 1 42 (dk_at dksX3_having_5 0 rfl rfl)
theorem dX3_having_118 : decode cX3_having 118 = .ok (.iload_n 1, 1) := dk_27 (dk_at dksX3_having_5 3 rfl rfl)
theorem dX3_having_119 : decode cX3_having 119 = .ok (.iconst (-1), 1) := dk_2 (dk_at dksX3_having_5 4 rfl rfl)
theorem dX3_having_120 : decode cX3_having 120 = .ok (.invokevirtual 302, 3) := dk_182 1 46 (dk_at dksX3_having_5 5 rfl rfl)
theorem dX3_having_123 : decode cX3_having 123 = .ok (.ireturn, 1) := dk_172 (dk_at dksX3_having_5 8 rfl rfl)
abbrev cX3_lacking : ByteArray := prog_9_method_60_code
def yX3_lacking : MethodName := ⟨RX3, "lacking", "(II)I"⟩
def dkwX3_lacking_3 : List UInt8 := [182, 1, 46, 172]
abbrev dktX3_lacking_3 : List UInt8 := dkwX3_lacking_3 ++ []
def dkwX3_lacking_2 : List UInt8 := [182, 1, 36, 172, 42, 42, 42, 180, 0, 67, 27, 46, 28, 42, 182, 1, 39, 182, 1, 83, 27, 2]
abbrev dktX3_lacking_2 : List UInt8 := dkwX3_lacking_2 ++ dktX3_lacking_3
def dkwX3_lacking_1 : List UInt8 := [20, 1, 79, 184, 0, 174, 154, 0, 9, 42, 4, 182, 1, 36, 172, 42, 182, 1, 33, 154, 0, 9, 42, 7]
abbrev dktX3_lacking_1 : List UInt8 := dkwX3_lacking_1 ++ dktX3_lacking_2
def dkwX3_lacking_0 : List UInt8 := [42, 3, 181, 0, 116, 42, 27, 182, 1, 53, 154, 0, 9, 42, 3, 182, 1, 36, 172, 28, 133, 9]
abbrev dktX3_lacking_0 : List UInt8 := dkwX3_lacking_0 ++ dktX3_lacking_1
theorem dksX3_lacking_0 : cX3_lacking.data.toList.drop 0 = dktX3_lacking_0 := by decide +kernel
theorem dksX3_lacking_1 : cX3_lacking.data.toList.drop 22 = dktX3_lacking_1 := dk_seg dksX3_lacking_0 22 rfl rfl
theorem dksX3_lacking_2 : cX3_lacking.data.toList.drop 46 = dktX3_lacking_2 := dk_seg dksX3_lacking_1 24 rfl rfl
theorem dksX3_lacking_3 : cX3_lacking.data.toList.drop 68 = dktX3_lacking_3 := dk_seg dksX3_lacking_2 22 rfl rfl
theorem dX3_lacking_0 : decode cX3_lacking 0 = .ok (.aload_n 0, 1) := dk_42 (dk_at dksX3_lacking_0 0 rfl rfl)
theorem dX3_lacking_1 : decode cX3_lacking 1 = .ok (.iconst 0, 1) := dk_3 (dk_at dksX3_lacking_0 1 rfl rfl)
theorem dX3_lacking_2 : decode cX3_lacking 2 = .ok (.putfield 116, 3) := dk_181 0 116 (dk_at dksX3_lacking_0 2 rfl rfl)
theorem dX3_lacking_5 : decode cX3_lacking 5 = .ok (.aload_n 0, 1) := dk_42 (dk_at dksX3_lacking_0 5 rfl rfl)
theorem dX3_lacking_6 : decode cX3_lacking 6 = .ok (.iload_n 1, 1) := dk_27 (dk_at dksX3_lacking_0 6 rfl rfl)
theorem dX3_lacking_7 : decode cX3_lacking 7 = .ok (.invokevirtual 309, 3) := dk_182 1 53 (dk_at dksX3_lacking_0 7 rfl rfl)
theorem dX3_lacking_10 : decode cX3_lacking 10 = .ok (.ifCond .ne 9, 3) := dk_154 0 9 (dk_at dksX3_lacking_0 10 rfl rfl)
theorem dX3_lacking_13 : decode cX3_lacking 13 = .ok (.aload_n 0, 1) := dk_42 (dk_at dksX3_lacking_0 13 rfl rfl)
theorem dX3_lacking_14 : decode cX3_lacking 14 = .ok (.iconst 0, 1) := dk_3 (dk_at dksX3_lacking_0 14 rfl rfl)
theorem dX3_lacking_15 : decode cX3_lacking 15 = .ok (.invokevirtual 292, 3) := dk_182 1 36 (dk_at dksX3_lacking_0 15 rfl rfl)
theorem dX3_lacking_18 : decode cX3_lacking 18 = .ok (.ireturn, 1) := dk_172 (dk_at dksX3_lacking_0 18 rfl rfl)
theorem dX3_lacking_19 : decode cX3_lacking 19 = .ok (.iload_n 2, 1) := dk_28 (dk_at dksX3_lacking_0 19 rfl rfl)
theorem dX3_lacking_20 : decode cX3_lacking 20 = .ok (.i2l, 1) := dk_133 (dk_at dksX3_lacking_0 20 rfl rfl)
theorem dX3_lacking_21 : decode cX3_lacking 21 = .ok (.lconst 0, 1) := dk_9 (dk_at dksX3_lacking_0 21 rfl rfl)
theorem dX3_lacking_22 : decode cX3_lacking 22 = .ok (.ldc2_w 335, 3) := dk_20 1 79 (dk_at dksX3_lacking_1 0 rfl rfl)
theorem dX3_lacking_25 : decode cX3_lacking 25 = .ok (.invokestatic 174, 3) := dk_184 0 174 (dk_at dksX3_lacking_1 3 rfl rfl)
theorem dX3_lacking_28 : decode cX3_lacking 28 = .ok (.ifCond .ne 9, 3) := dk_154 0 9 (dk_at dksX3_lacking_1 6 rfl rfl)
theorem dX3_lacking_31 : decode cX3_lacking 31 = .ok (.aload_n 0, 1) := dk_42 (dk_at dksX3_lacking_1 9 rfl rfl)
theorem dX3_lacking_32 : decode cX3_lacking 32 = .ok (.iconst 1, 1) := dk_4 (dk_at dksX3_lacking_1 10 rfl rfl)
theorem dX3_lacking_33 : decode cX3_lacking 33 = .ok (.invokevirtual 292, 3) := dk_182 1 36 (dk_at dksX3_lacking_1 11 rfl rfl)
theorem dX3_lacking_36 : decode cX3_lacking 36 = .ok (.ireturn, 1) := dk_172 (dk_at dksX3_lacking_1 14 rfl rfl)
theorem dX3_lacking_37 : decode cX3_lacking 37 = .ok (.aload_n 0, 1) := dk_42 (dk_at dksX3_lacking_1 15 rfl rfl)
theorem dX3_lacking_38 : decode cX3_lacking 38 = .ok (.invokevirtual 289, 3) := dk_182 1 33 (dk_at dksX3_lacking_1 16 rfl rfl)
theorem dX3_lacking_41 : decode cX3_lacking 41 = .ok (.ifCond .ne 9, 3) := dk_154 0 9 (dk_at dksX3_lacking_1 19 rfl rfl)
theorem dX3_lacking_44 : decode cX3_lacking 44 = .ok (.aload_n 0, 1) := dk_42 (dk_at dksX3_lacking_1 22 rfl rfl)
theorem dX3_lacking_45 : decode cX3_lacking 45 = .ok (.iconst 4, 1) := dk_7 (dk_at dksX3_lacking_1 23 rfl rfl)
theorem dX3_lacking_46 : decode cX3_lacking 46 = .ok (.invokevirtual 292, 3) := dk_182 1 36 (dk_at dksX3_lacking_2 0 rfl rfl)
theorem dX3_lacking_49 : decode cX3_lacking 49 = .ok (.ireturn, 1) := dk_172 (dk_at dksX3_lacking_2 3 rfl rfl)
theorem dX3_lacking_50 : decode cX3_lacking 50 = .ok (.aload_n 0, 1) := dk_42 (dk_at dksX3_lacking_2 4 rfl rfl)
theorem dX3_lacking_51 : decode cX3_lacking 51 = .ok (.aload_n 0, 1) := dk_42 (dk_at dksX3_lacking_2 5 rfl rfl)
theorem dX3_lacking_52 : decode cX3_lacking 52 = .ok (.aload_n 0, 1) := dk_42 (dk_at dksX3_lacking_2 6 rfl rfl)
theorem dX3_lacking_53 : decode cX3_lacking 53 = .ok (.getfield 67, 3) := dk_180 0 67 (dk_at dksX3_lacking_2 7 rfl rfl)
theorem dX3_lacking_56 : decode cX3_lacking 56 = .ok (.iload_n 1, 1) := dk_27 (dk_at dksX3_lacking_2 10 rfl rfl)
theorem dX3_lacking_57 : decode cX3_lacking 57 = .ok (.iaload, 1) := dk_46 (dk_at dksX3_lacking_2 11 rfl rfl)
theorem dX3_lacking_58 : decode cX3_lacking 58 = .ok (.iload_n 2, 1) := dk_28 (dk_at dksX3_lacking_2 12 rfl rfl)
theorem dX3_lacking_59 : decode cX3_lacking 59 = .ok (.aload_n 0, 1) := dk_42 (dk_at dksX3_lacking_2 13 rfl rfl)
theorem dX3_lacking_60 : decode cX3_lacking 60 = .ok (.invokevirtual 295, 3) := dk_182 1 39 (dk_at dksX3_lacking_2 14 rfl rfl)
theorem dX3_lacking_63 : decode cX3_lacking 63 = .ok (.invokevirtual 339, 3) := dk_182 1 83 (dk_at dksX3_lacking_2 17 rfl rfl)
theorem dX3_lacking_66 : decode cX3_lacking 66 = .ok (.iload_n 1, 1) := dk_27 (dk_at dksX3_lacking_2 20 rfl rfl)
theorem dX3_lacking_67 : decode cX3_lacking 67 = .ok (.iconst (-1), 1) := dk_2 (dk_at dksX3_lacking_2 21 rfl rfl)
theorem dX3_lacking_68 : decode cX3_lacking 68 = .ok (.invokevirtual 302, 3) := dk_182 1 46 (dk_at dksX3_lacking_3 0 rfl rfl)
theorem dX3_lacking_71 : decode cX3_lacking 71 = .ok (.ireturn, 1) := dk_172 (dk_at dksX3_lacking_3 3 rfl rfl)
abbrev cX3_takes : ByteArray := prog_9_method_35_code
def yX3_takes : MethodName := ⟨RX3, "takes", "(III)I"⟩
def dkwX3_takes_5 : List UInt8 := [21, 4, 46, 4, 160, 0, 15, 42, 21, 4, 3, 182, 0, 197, 54, 4, 167, 255, 226, 21, 4, 172]
abbrev dktX3_takes_5 : List UInt8 := dkwX3_takes_5 ++ []
def dkwX3_takes_4 : List UInt8 := [29, 182, 0, 239, 132, 6, 255, 167, 255, 208, 42, 180, 0, 23, 21, 4, 46, 154, 0, 26, 42, 180, 0, 26]
abbrev dktX3_takes_4 : List UInt8 := dkwX3_takes_4 ++ dktX3_takes_5
def dkwX3_takes_3 : List UInt8 := [46, 46, 42, 182, 0, 232, 162, 0, 22, 42, 42, 180, 0, 49, 21, 6, 46, 42, 180, 0, 52, 21, 6, 46]
abbrev dktX3_takes_3 : List UInt8 := dkwX3_takes_3 ++ dktX3_takes_4
def dkwX3_takes_2 : List UInt8 := [180, 0, 215, 4, 100, 54, 6, 21, 6, 155, 0, 49, 42, 180, 0, 26, 42, 180, 0, 49, 21, 6, 4, 96]
abbrev dktX3_takes_2 : List UInt8 := dkwX3_takes_2 ++ dktX3_takes_3
def dkwX3_takes_1 : List UInt8 := [180, 0, 49, 42, 180, 0, 215, 46, 54, 5, 42, 21, 5, 42, 21, 5, 28, 182, 0, 209, 182, 0, 235, 42]
abbrev dktX3_takes_1 : List UInt8 := dkwX3_takes_1 ++ dktX3_takes_2
def dkwX3_takes_0 : List UInt8 := [42, 27, 28, 182, 0, 218, 18, 170, 160, 0, 5, 27, 172, 42, 27, 28, 29, 182, 0, 221, 54, 4, 42]
abbrev dktX3_takes_0 : List UInt8 := dkwX3_takes_0 ++ dktX3_takes_1
theorem dksX3_takes_0 : cX3_takes.data.toList.drop 0 = dktX3_takes_0 := by decide +kernel
theorem dksX3_takes_1 : cX3_takes.data.toList.drop 23 = dktX3_takes_1 := dk_seg dksX3_takes_0 23 rfl rfl
theorem dksX3_takes_2 : cX3_takes.data.toList.drop 47 = dktX3_takes_2 := dk_seg dksX3_takes_1 24 rfl rfl
theorem dksX3_takes_3 : cX3_takes.data.toList.drop 71 = dktX3_takes_3 := dk_seg dksX3_takes_2 24 rfl rfl
theorem dksX3_takes_4 : cX3_takes.data.toList.drop 95 = dktX3_takes_4 := dk_seg dksX3_takes_3 24 rfl rfl
theorem dksX3_takes_5 : cX3_takes.data.toList.drop 119 = dktX3_takes_5 := dk_seg dksX3_takes_4 24 rfl rfl
theorem dX3_takes_0 : decode cX3_takes 0 = .ok (.aload_n 0, 1) := dk_42 (dk_at dksX3_takes_0 0 rfl rfl)
theorem dX3_takes_1 : decode cX3_takes 1 = .ok (.iload_n 1, 1) := dk_27 (dk_at dksX3_takes_0 1 rfl rfl)
theorem dX3_takes_2 : decode cX3_takes 2 = .ok (.iload_n 2, 1) := dk_28 (dk_at dksX3_takes_0 2 rfl rfl)
theorem dX3_takes_3 : decode cX3_takes 3 = .ok (.invokevirtual 218, 3) := dk_182 0 218 (dk_at dksX3_takes_0 3 rfl rfl)
theorem dX3_takes_6 : decode cX3_takes 6 = .ok (.ldc 170, 2) := dk_18 170 (dk_at dksX3_takes_0 6 rfl rfl)
theorem dX3_takes_8 : decode cX3_takes 8 = .ok (.if_icmp .ne 5, 3) := dk_160 0 5 (dk_at dksX3_takes_0 8 rfl rfl)
theorem dX3_takes_11 : decode cX3_takes 11 = .ok (.iload_n 1, 1) := dk_27 (dk_at dksX3_takes_0 11 rfl rfl)
theorem dX3_takes_12 : decode cX3_takes 12 = .ok (.ireturn, 1) := dk_172 (dk_at dksX3_takes_0 12 rfl rfl)
theorem dX3_takes_13 : decode cX3_takes 13 = .ok (.aload_n 0, 1) := dk_42 (dk_at dksX3_takes_0 13 rfl rfl)
theorem dX3_takes_14 : decode cX3_takes 14 = .ok (.iload_n 1, 1) := dk_27 (dk_at dksX3_takes_0 14 rfl rfl)
theorem dX3_takes_15 : decode cX3_takes 15 = .ok (.iload_n 2, 1) := dk_28 (dk_at dksX3_takes_0 15 rfl rfl)
theorem dX3_takes_16 : decode cX3_takes 16 = .ok (.iload_n 3, 1) := dk_29 (dk_at dksX3_takes_0 16 rfl rfl)
theorem dX3_takes_17 : decode cX3_takes 17 = .ok (.invokevirtual 221, 3) := dk_182 0 221 (dk_at dksX3_takes_0 17 rfl rfl)
theorem dX3_takes_20 : decode cX3_takes 20 = .ok (.istore 4, 2) := dk_54 4 (dk_at dksX3_takes_0 20 rfl rfl)
theorem dX3_takes_22 : decode cX3_takes 22 = .ok (.aload_n 0, 1) := dk_42 (dk_at dksX3_takes_0 22 rfl rfl)
theorem dX3_takes_23 : decode cX3_takes 23 = .ok (.getfield 49, 3) := dk_180 0 49 (dk_at dksX3_takes_1 0 rfl rfl)
theorem dX3_takes_26 : decode cX3_takes 26 = .ok (.aload_n 0, 1) := dk_42 (dk_at dksX3_takes_1 3 rfl rfl)
theorem dX3_takes_27 : decode cX3_takes 27 = .ok (.getfield 215, 3) := dk_180 0 215 (dk_at dksX3_takes_1 4 rfl rfl)
theorem dX3_takes_30 : decode cX3_takes 30 = .ok (.iaload, 1) := dk_46 (dk_at dksX3_takes_1 7 rfl rfl)
theorem dX3_takes_31 : decode cX3_takes 31 = .ok (.istore 5, 2) := dk_54 5 (dk_at dksX3_takes_1 8 rfl rfl)
theorem dX3_takes_33 : decode cX3_takes 33 = .ok (.aload_n 0, 1) := dk_42 (dk_at dksX3_takes_1 10 rfl rfl)
theorem dX3_takes_34 : decode cX3_takes 34 = .ok (.iload 5, 2) := dk_21 5 (dk_at dksX3_takes_1 11 rfl rfl)
theorem dX3_takes_36 : decode cX3_takes 36 = .ok (.aload_n 0, 1) := dk_42 (dk_at dksX3_takes_1 13 rfl rfl)
theorem dX3_takes_37 : decode cX3_takes 37 = .ok (.iload 5, 2) := dk_21 5 (dk_at dksX3_takes_1 14 rfl rfl)
theorem dX3_takes_39 : decode cX3_takes 39 = .ok (.iload_n 2, 1) := dk_28 (dk_at dksX3_takes_1 16 rfl rfl)
theorem dX3_takes_40 : decode cX3_takes 40 = .ok (.invokevirtual 209, 3) := dk_182 0 209 (dk_at dksX3_takes_1 17 rfl rfl)
theorem dX3_takes_43 : decode cX3_takes 43 = .ok (.invokevirtual 235, 3) := dk_182 0 235 (dk_at dksX3_takes_1 20 rfl rfl)
theorem dX3_takes_46 : decode cX3_takes 46 = .ok (.aload_n 0, 1) := dk_42 (dk_at dksX3_takes_1 23 rfl rfl)
theorem dX3_takes_47 : decode cX3_takes 47 = .ok (.getfield 215, 3) := dk_180 0 215 (dk_at dksX3_takes_2 0 rfl rfl)
theorem dX3_takes_50 : decode cX3_takes 50 = .ok (.iconst 1, 1) := dk_4 (dk_at dksX3_takes_2 3 rfl rfl)
theorem dX3_takes_51 : decode cX3_takes 51 = .ok (.isub, 1) := dk_100 (dk_at dksX3_takes_2 4 rfl rfl)
theorem dX3_takes_52 : decode cX3_takes 52 = .ok (.istore 6, 2) := dk_54 6 (dk_at dksX3_takes_2 5 rfl rfl)
theorem dX3_takes_54 : decode cX3_takes 54 = .ok (.iload 6, 2) := dk_21 6 (dk_at dksX3_takes_2 7 rfl rfl)
theorem dX3_takes_56 : decode cX3_takes 56 = .ok (.ifCond .lt 49, 3) := dk_155 0 49 (dk_at dksX3_takes_2 9 rfl rfl)
theorem dX3_takes_59 : decode cX3_takes 59 = .ok (.aload_n 0, 1) := dk_42 (dk_at dksX3_takes_2 12 rfl rfl)
theorem dX3_takes_60 : decode cX3_takes 60 = .ok (.getfield 26, 3) := dk_180 0 26 (dk_at dksX3_takes_2 13 rfl rfl)
theorem dX3_takes_63 : decode cX3_takes 63 = .ok (.aload_n 0, 1) := dk_42 (dk_at dksX3_takes_2 16 rfl rfl)
theorem dX3_takes_64 : decode cX3_takes 64 = .ok (.getfield 49, 3) := dk_180 0 49 (dk_at dksX3_takes_2 17 rfl rfl)
theorem dX3_takes_67 : decode cX3_takes 67 = .ok (.iload 6, 2) := dk_21 6 (dk_at dksX3_takes_2 20 rfl rfl)
theorem dX3_takes_69 : decode cX3_takes 69 = .ok (.iconst 1, 1) := dk_4 (dk_at dksX3_takes_2 22 rfl rfl)
theorem dX3_takes_70 : decode cX3_takes 70 = .ok (.iadd, 1) := dk_96 (dk_at dksX3_takes_2 23 rfl rfl)
theorem dX3_takes_71 : decode cX3_takes 71 = .ok (.iaload, 1) := dk_46 (dk_at dksX3_takes_3 0 rfl rfl)
theorem dX3_takes_72 : decode cX3_takes 72 = .ok (.iaload, 1) := dk_46 (dk_at dksX3_takes_3 1 rfl rfl)
theorem dX3_takes_73 : decode cX3_takes 73 = .ok (.aload_n 0, 1) := dk_42 (dk_at dksX3_takes_3 2 rfl rfl)
theorem dX3_takes_74 : decode cX3_takes 74 = .ok (.invokevirtual 232, 3) := dk_182 0 232 (dk_at dksX3_takes_3 3 rfl rfl)
theorem dX3_takes_77 : decode cX3_takes 77 = .ok (.if_icmp .ge 22, 3) := dk_162 0 22 (dk_at dksX3_takes_3 6 rfl rfl)
theorem dX3_takes_80 : decode cX3_takes 80 = .ok (.aload_n 0, 1) := dk_42 (dk_at dksX3_takes_3 9 rfl rfl)
theorem dX3_takes_81 : decode cX3_takes 81 = .ok (.aload_n 0, 1) := dk_42 (dk_at dksX3_takes_3 10 rfl rfl)
theorem dX3_takes_82 : decode cX3_takes 82 = .ok (.getfield 49, 3) := dk_180 0 49 (dk_at dksX3_takes_3 11 rfl rfl)
theorem dX3_takes_85 : decode cX3_takes 85 = .ok (.iload 6, 2) := dk_21 6 (dk_at dksX3_takes_3 14 rfl rfl)
theorem dX3_takes_87 : decode cX3_takes 87 = .ok (.iaload, 1) := dk_46 (dk_at dksX3_takes_3 16 rfl rfl)
theorem dX3_takes_88 : decode cX3_takes 88 = .ok (.aload_n 0, 1) := dk_42 (dk_at dksX3_takes_3 17 rfl rfl)
theorem dX3_takes_89 : decode cX3_takes 89 = .ok (.getfield 52, 3) := dk_180 0 52 (dk_at dksX3_takes_3 18 rfl rfl)
theorem dX3_takes_92 : decode cX3_takes 92 = .ok (.iload 6, 2) := dk_21 6 (dk_at dksX3_takes_3 21 rfl rfl)
theorem dX3_takes_94 : decode cX3_takes 94 = .ok (.iaload, 1) := dk_46 (dk_at dksX3_takes_3 23 rfl rfl)
theorem dX3_takes_95 : decode cX3_takes 95 = .ok (.iload_n 3, 1) := dk_29 (dk_at dksX3_takes_4 0 rfl rfl)
theorem dX3_takes_96 : decode cX3_takes 96 = .ok (.invokevirtual 239, 3) := dk_182 0 239 (dk_at dksX3_takes_4 1 rfl rfl)
theorem dX3_takes_99 : decode cX3_takes 99 = .ok (.iinc 6 (-1), 3) := dk_132 6 255 (dk_at dksX3_takes_4 4 rfl rfl)
theorem dX3_takes_102 : decode cX3_takes 102 = .ok (.goto (-48), 3) := dk_167 255 208 (dk_at dksX3_takes_4 7 rfl rfl)
theorem dX3_takes_105 : decode cX3_takes 105 = .ok (.aload_n 0, 1) := dk_42 (dk_at dksX3_takes_4 10 rfl rfl)
theorem dX3_takes_106 : decode cX3_takes 106 = .ok (.getfield 23, 3) := dk_180 0 23 (dk_at dksX3_takes_4 11 rfl rfl)
theorem dX3_takes_109 : decode cX3_takes 109 = .ok (.iload 4, 2) := dk_21 4 (dk_at dksX3_takes_4 14 rfl rfl)
theorem dX3_takes_111 : decode cX3_takes 111 = .ok (.iaload, 1) := dk_46 (dk_at dksX3_takes_4 16 rfl rfl)
theorem dX3_takes_112 : decode cX3_takes 112 = .ok (.ifCond .ne 26, 3) := dk_154 0 26 (dk_at dksX3_takes_4 17 rfl rfl)
theorem dX3_takes_115 : decode cX3_takes 115 = .ok (.aload_n 0, 1) := dk_42 (dk_at dksX3_takes_4 20 rfl rfl)
theorem dX3_takes_116 : decode cX3_takes 116 = .ok (.getfield 26, 3) := dk_180 0 26 (dk_at dksX3_takes_4 21 rfl rfl)
theorem dX3_takes_119 : decode cX3_takes 119 = .ok (.iload 4, 2) := dk_21 4 (dk_at dksX3_takes_5 0 rfl rfl)
theorem dX3_takes_121 : decode cX3_takes 121 = .ok (.iaload, 1) := dk_46 (dk_at dksX3_takes_5 2 rfl rfl)
theorem dX3_takes_122 : decode cX3_takes 122 = .ok (.iconst 1, 1) := dk_4 (dk_at dksX3_takes_5 3 rfl rfl)
theorem dX3_takes_123 : decode cX3_takes 123 = .ok (.if_icmp .ne 15, 3) := dk_160 0 15 (dk_at dksX3_takes_5 4 rfl rfl)
theorem dX3_takes_126 : decode cX3_takes 126 = .ok (.aload_n 0, 1) := dk_42 (dk_at dksX3_takes_5 7 rfl rfl)
theorem dX3_takes_127 : decode cX3_takes 127 = .ok (.iload 4, 2) := dk_21 4 (dk_at dksX3_takes_5 8 rfl rfl)
theorem dX3_takes_129 : decode cX3_takes 129 = .ok (.iconst 0, 1) := dk_3 (dk_at dksX3_takes_5 10 rfl rfl)
theorem dX3_takes_130 : decode cX3_takes 130 = .ok (.invokevirtual 197, 3) := dk_182 0 197 (dk_at dksX3_takes_5 11 rfl rfl)
theorem dX3_takes_133 : decode cX3_takes 133 = .ok (.istore 4, 2) := dk_54 4 (dk_at dksX3_takes_5 14 rfl rfl)
theorem dX3_takes_135 : decode cX3_takes 135 = .ok (.goto (-30), 3) := dk_167 255 226 (dk_at dksX3_takes_5 16 rfl rfl)
theorem dX3_takes_138 : decode cX3_takes 138 = .ok (.iload 4, 2) := dk_21 4 (dk_at dksX3_takes_5 19 rfl rfl)
theorem dX3_takes_140 : decode cX3_takes 140 = .ok (.ireturn, 1) := dk_172 (dk_at dksX3_takes_5 21 rfl rfl)
abbrev cX3_takesFrom : ByteArray := prog_9_method_30_code
def yX3_takesFrom : MethodName := ⟨RX3, "takesFrom", "(II)V"⟩
def dkwX3_takesFrom_3 : List UInt8 := [132, 3, 1, 167, 255, 195, 177]
abbrev dktX3_takesFrom_3 : List UInt8 := dkwX3_takesFrom_3 ++ []
def dkwX3_takesFrom_2 : List UInt8 := [180, 0, 42, 16, 7, 27, 104, 29, 96, 42, 180, 0, 42, 16, 7, 27, 104, 29, 96, 4, 96, 46, 79]
abbrev dktX3_takesFrom_2 : List UInt8 := dkwX3_takesFrom_2 ++ dktX3_takesFrom_3
def dkwX3_takesFrom_1 : List UInt8 := [180, 0, 39, 16, 7, 27, 104, 29, 96, 42, 180, 0, 39, 16, 7, 27, 104, 29, 96, 4, 96, 46, 79, 42]
abbrev dktX3_takesFrom_1 : List UInt8 := dkwX3_takesFrom_1 ++ dktX3_takesFrom_2
def dkwX3_takesFrom_0 : List UInt8 := [42, 180, 0, 26, 27, 92, 46, 4, 100, 79, 28, 62, 29, 42, 180, 0, 26, 27, 46, 162, 0, 57, 42]
abbrev dktX3_takesFrom_0 : List UInt8 := dkwX3_takesFrom_0 ++ dktX3_takesFrom_1
theorem dksX3_takesFrom_0 : cX3_takesFrom.data.toList.drop 0 = dktX3_takesFrom_0 := by decide +kernel
theorem dksX3_takesFrom_1 : cX3_takesFrom.data.toList.drop 23 = dktX3_takesFrom_1 := dk_seg dksX3_takesFrom_0 23 rfl rfl
theorem dksX3_takesFrom_2 : cX3_takesFrom.data.toList.drop 47 = dktX3_takesFrom_2 := dk_seg dksX3_takesFrom_1 24 rfl rfl
theorem dksX3_takesFrom_3 : cX3_takesFrom.data.toList.drop 70 = dktX3_takesFrom_3 := dk_seg dksX3_takesFrom_2 23 rfl rfl
theorem dX3_takesFrom_0 : decode cX3_takesFrom 0 = .ok (.aload_n 0, 1) := dk_42 (dk_at dksX3_takesFrom_0 0 rfl rfl)
theorem dX3_takesFrom_1 : decode cX3_takesFrom 1 = .ok (.getfield 26, 3) := dk_180 0 26 (dk_at dksX3_takesFrom_0 1 rfl rfl)
theorem dX3_takesFrom_4 : decode cX3_takesFrom 4 = .ok (.iload_n 1, 1) := dk_27 (dk_at dksX3_takesFrom_0 4 rfl rfl)
theorem dX3_takesFrom_5 : decode cX3_takesFrom 5 = .ok (.dup2, 1) := dk_92 (dk_at dksX3_takesFrom_0 5 rfl rfl)
theorem dX3_takesFrom_6 : decode cX3_takesFrom 6 = .ok (.iaload, 1) := dk_46 (dk_at dksX3_takesFrom_0 6 rfl rfl)
theorem dX3_takesFrom_7 : decode cX3_takesFrom 7 = .ok (.iconst 1, 1) := dk_4 (dk_at dksX3_takesFrom_0 7 rfl rfl)
theorem dX3_takesFrom_8 : decode cX3_takesFrom 8 = .ok (.isub, 1) := dk_100 (dk_at dksX3_takesFrom_0 8 rfl rfl)
theorem dX3_takesFrom_9 : decode cX3_takesFrom 9 = .ok (.iastore, 1) := dk_79 (dk_at dksX3_takesFrom_0 9 rfl rfl)
theorem dX3_takesFrom_10 : decode cX3_takesFrom 10 = .ok (.iload_n 2, 1) := dk_28 (dk_at dksX3_takesFrom_0 10 rfl rfl)
theorem dX3_takesFrom_11 : decode cX3_takesFrom 11 = .ok (.istore_n 3, 1) := dk_62 (dk_at dksX3_takesFrom_0 11 rfl rfl)
theorem dX3_takesFrom_12 : decode cX3_takesFrom 12 = .ok (.iload_n 3, 1) := dk_29 (dk_at dksX3_takesFrom_0 12 rfl rfl)
theorem dX3_takesFrom_13 : decode cX3_takesFrom 13 = .ok (.aload_n 0, 1) := dk_42 (dk_at dksX3_takesFrom_0 13 rfl rfl)
theorem dX3_takesFrom_14 : decode cX3_takesFrom 14 = .ok (.getfield 26, 3) := dk_180 0 26 (dk_at dksX3_takesFrom_0 14 rfl rfl)
theorem dX3_takesFrom_17 : decode cX3_takesFrom 17 = .ok (.iload_n 1, 1) := dk_27 (dk_at dksX3_takesFrom_0 17 rfl rfl)
theorem dX3_takesFrom_18 : decode cX3_takesFrom 18 = .ok (.iaload, 1) := dk_46 (dk_at dksX3_takesFrom_0 18 rfl rfl)
theorem dX3_takesFrom_19 : decode cX3_takesFrom 19 = .ok (.if_icmp .ge 57, 3) := dk_162 0 57 (dk_at dksX3_takesFrom_0 19 rfl rfl)
theorem dX3_takesFrom_22 : decode cX3_takesFrom 22 = .ok (.aload_n 0, 1) := dk_42 (dk_at dksX3_takesFrom_0 22 rfl rfl)
theorem dX3_takesFrom_23 : decode cX3_takesFrom 23 = .ok (.getfield 39, 3) := dk_180 0 39 (dk_at dksX3_takesFrom_1 0 rfl rfl)
theorem dX3_takesFrom_26 : decode cX3_takesFrom 26 = .ok (.bipush 7, 2) := dk_16 7 (dk_at dksX3_takesFrom_1 3 rfl rfl)
theorem dX3_takesFrom_28 : decode cX3_takesFrom 28 = .ok (.iload_n 1, 1) := dk_27 (dk_at dksX3_takesFrom_1 5 rfl rfl)
theorem dX3_takesFrom_29 : decode cX3_takesFrom 29 = .ok (.imul, 1) := dk_104 (dk_at dksX3_takesFrom_1 6 rfl rfl)
theorem dX3_takesFrom_30 : decode cX3_takesFrom 30 = .ok (.iload_n 3, 1) := dk_29 (dk_at dksX3_takesFrom_1 7 rfl rfl)
theorem dX3_takesFrom_31 : decode cX3_takesFrom 31 = .ok (.iadd, 1) := dk_96 (dk_at dksX3_takesFrom_1 8 rfl rfl)
theorem dX3_takesFrom_32 : decode cX3_takesFrom 32 = .ok (.aload_n 0, 1) := dk_42 (dk_at dksX3_takesFrom_1 9 rfl rfl)
theorem dX3_takesFrom_33 : decode cX3_takesFrom 33 = .ok (.getfield 39, 3) := dk_180 0 39 (dk_at dksX3_takesFrom_1 10 rfl rfl)
theorem dX3_takesFrom_36 : decode cX3_takesFrom 36 = .ok (.bipush 7, 2) := dk_16 7 (dk_at dksX3_takesFrom_1 13 rfl rfl)
theorem dX3_takesFrom_38 : decode cX3_takesFrom 38 = .ok (.iload_n 1, 1) := dk_27 (dk_at dksX3_takesFrom_1 15 rfl rfl)
theorem dX3_takesFrom_39 : decode cX3_takesFrom 39 = .ok (.imul, 1) := dk_104 (dk_at dksX3_takesFrom_1 16 rfl rfl)
theorem dX3_takesFrom_40 : decode cX3_takesFrom 40 = .ok (.iload_n 3, 1) := dk_29 (dk_at dksX3_takesFrom_1 17 rfl rfl)
theorem dX3_takesFrom_41 : decode cX3_takesFrom 41 = .ok (.iadd, 1) := dk_96 (dk_at dksX3_takesFrom_1 18 rfl rfl)
theorem dX3_takesFrom_42 : decode cX3_takesFrom 42 = .ok (.iconst 1, 1) := dk_4 (dk_at dksX3_takesFrom_1 19 rfl rfl)
theorem dX3_takesFrom_43 : decode cX3_takesFrom 43 = .ok (.iadd, 1) := dk_96 (dk_at dksX3_takesFrom_1 20 rfl rfl)
theorem dX3_takesFrom_44 : decode cX3_takesFrom 44 = .ok (.iaload, 1) := dk_46 (dk_at dksX3_takesFrom_1 21 rfl rfl)
theorem dX3_takesFrom_45 : decode cX3_takesFrom 45 = .ok (.iastore, 1) := dk_79 (dk_at dksX3_takesFrom_1 22 rfl rfl)
theorem dX3_takesFrom_46 : decode cX3_takesFrom 46 = .ok (.aload_n 0, 1) := dk_42 (dk_at dksX3_takesFrom_1 23 rfl rfl)
theorem dX3_takesFrom_47 : decode cX3_takesFrom 47 = .ok (.getfield 42, 3) := dk_180 0 42 (dk_at dksX3_takesFrom_2 0 rfl rfl)
theorem dX3_takesFrom_50 : decode cX3_takesFrom 50 = .ok (.bipush 7, 2) := dk_16 7 (dk_at dksX3_takesFrom_2 3 rfl rfl)
theorem dX3_takesFrom_52 : decode cX3_takesFrom 52 = .ok (.iload_n 1, 1) := dk_27 (dk_at dksX3_takesFrom_2 5 rfl rfl)
theorem dX3_takesFrom_53 : decode cX3_takesFrom 53 = .ok (.imul, 1) := dk_104 (dk_at dksX3_takesFrom_2 6 rfl rfl)
theorem dX3_takesFrom_54 : decode cX3_takesFrom 54 = .ok (.iload_n 3, 1) := dk_29 (dk_at dksX3_takesFrom_2 7 rfl rfl)
theorem dX3_takesFrom_55 : decode cX3_takesFrom 55 = .ok (.iadd, 1) := dk_96 (dk_at dksX3_takesFrom_2 8 rfl rfl)
theorem dX3_takesFrom_56 : decode cX3_takesFrom 56 = .ok (.aload_n 0, 1) := dk_42 (dk_at dksX3_takesFrom_2 9 rfl rfl)
theorem dX3_takesFrom_57 : decode cX3_takesFrom 57 = .ok (.getfield 42, 3) := dk_180 0 42 (dk_at dksX3_takesFrom_2 10 rfl rfl)
theorem dX3_takesFrom_60 : decode cX3_takesFrom 60 = .ok (.bipush 7, 2) := dk_16 7 (dk_at dksX3_takesFrom_2 13 rfl rfl)
theorem dX3_takesFrom_62 : decode cX3_takesFrom 62 = .ok (.iload_n 1, 1) := dk_27 (dk_at dksX3_takesFrom_2 15 rfl rfl)
theorem dX3_takesFrom_63 : decode cX3_takesFrom 63 = .ok (.imul, 1) := dk_104 (dk_at dksX3_takesFrom_2 16 rfl rfl)
theorem dX3_takesFrom_64 : decode cX3_takesFrom 64 = .ok (.iload_n 3, 1) := dk_29 (dk_at dksX3_takesFrom_2 17 rfl rfl)
theorem dX3_takesFrom_65 : decode cX3_takesFrom 65 = .ok (.iadd, 1) := dk_96 (dk_at dksX3_takesFrom_2 18 rfl rfl)
theorem dX3_takesFrom_66 : decode cX3_takesFrom 66 = .ok (.iconst 1, 1) := dk_4 (dk_at dksX3_takesFrom_2 19 rfl rfl)
theorem dX3_takesFrom_67 : decode cX3_takesFrom 67 = .ok (.iadd, 1) := dk_96 (dk_at dksX3_takesFrom_2 20 rfl rfl)
theorem dX3_takesFrom_68 : decode cX3_takesFrom 68 = .ok (.iaload, 1) := dk_46 (dk_at dksX3_takesFrom_2 21 rfl rfl)
theorem dX3_takesFrom_69 : decode cX3_takesFrom 69 = .ok (.iastore, 1) := dk_79 (dk_at dksX3_takesFrom_2 22 rfl rfl)
theorem dX3_takesFrom_70 : decode cX3_takesFrom 70 = .ok (.iinc 3 1, 3) := dk_132 3 1 (dk_at dksX3_takesFrom_3 0 rfl rfl)
theorem dX3_takesFrom_73 : decode cX3_takesFrom 73 = .ok (.goto (-61), 3) := dk_167 255 195 (dk_at dksX3_takesFrom_3 3 rfl rfl)
theorem dX3_takesFrom_76 : decode cX3_takesFrom 76 = .ok (.return_, 1) := dk_177 (dk_at dksX3_takesFrom_3 6 rfl rfl)
abbrev cX3_least : ByteArray := prog_9_method_20_code
def yX3_least : MethodName := ⟨RX3, "least", "()I"⟩
def dkwX3_least_0 : List UInt8 := [42, 180, 0, 45, 4, 96, 5, 108, 172]
abbrev dktX3_least_0 : List UInt8 := dkwX3_least_0 ++ []
theorem dksX3_least_0 : cX3_least.data.toList.drop 0 = dktX3_least_0 := by decide +kernel
theorem dX3_least_0 : decode cX3_least 0 = .ok (.aload_n 0, 1) := dk_42 (dk_at dksX3_least_0 0 rfl rfl)
theorem dX3_least_1 : decode cX3_least 1 = .ok (.getfield 45, 3) := dk_180 0 45 (dk_at dksX3_least_0 1 rfl rfl)
theorem dX3_least_4 : decode cX3_least 4 = .ok (.iconst 1, 1) := dk_4 (dk_at dksX3_least_0 4 rfl rfl)
theorem dX3_least_5 : decode cX3_least 5 = .ok (.iadd, 1) := dk_96 (dk_at dksX3_least_0 5 rfl rfl)
theorem dX3_least_6 : decode cX3_least 6 = .ok (.iconst 2, 1) := dk_5 (dk_at dksX3_least_0 6 rfl rfl)
theorem dX3_least_7 : decode cX3_least 7 = .ok (.idiv, 1) := dk_108 (dk_at dksX3_least_0 7 rfl rfl)
theorem dX3_least_8 : decode cX3_least 8 = .ok (.ireturn, 1) := dk_172 (dk_at dksX3_least_0 8 rfl rfl)
abbrev cX3_fills : ByteArray := prog_9_method_34_code
def yX3_fills : MethodName := ⟨RX3, "fills", "(III)V"⟩
def dkwX3_fills_17 : List UInt8 := [182, 0, 235, 177]
abbrev dktX3_fills_17 : List UInt8 := dkwX3_fills_17 ++ []
def dkwX3_fills_16 : List UInt8 := [16, 7, 21, 6, 104, 21, 7, 96, 46, 182, 0, 225, 132, 7, 1, 167, 255, 202, 42, 27, 28, 4, 96]
abbrev dktX3_fills_16 : List UInt8 := dkwX3_fills_16 ++ dktX3_fills_17
def dkwX3_fills_15 : List UInt8 := [180, 0, 26, 21, 4, 46, 42, 180, 0, 39, 16, 7, 21, 6, 104, 21, 7, 96, 46, 42, 180, 0, 42]
abbrev dktX3_fills_15 : List UInt8 := dkwX3_fills_15 ++ dktX3_fills_16
def dkwX3_fills_14 : List UInt8 := [167, 0, 71, 3, 54, 7, 21, 7, 42, 180, 0, 26, 21, 6, 46, 162, 0, 48, 42, 21, 4, 42]
abbrev dktX3_fills_14 : List UInt8 := dkwX3_fills_14 ++ dktX3_fills_15
def dkwX3_fills_13 : List UInt8 := [16, 7, 21, 4, 104, 21, 7, 96, 46, 182, 0, 225, 132, 7, 1, 167, 255, 202, 42, 27, 28, 182, 0, 235]
abbrev dktX3_fills_13 : List UInt8 := dkwX3_fills_13 ++ dktX3_fills_14
def dkwX3_fills_12 : List UInt8 := [180, 0, 26, 21, 5, 46, 42, 180, 0, 39, 16, 7, 21, 4, 104, 21, 7, 96, 46, 42, 180, 0, 42]
abbrev dktX3_fills_12 : List UInt8 := dkwX3_fills_12 ++ dktX3_fills_13
def dkwX3_fills_11 : List UInt8 := [100, 21, 5, 79, 3, 54, 7, 21, 7, 42, 180, 0, 26, 21, 4, 46, 162, 0, 48, 42, 21, 5, 42]
abbrev dktX3_fills_11 : List UInt8 := dkwX3_fills_11 ++ dktX3_fills_12
def dkwX3_fills_10 : List UInt8 := [2, 159, 0, 96, 42, 21, 5, 29, 182, 0, 212, 54, 5, 42, 180, 0, 39, 16, 7, 27, 104, 28, 96, 4]
abbrev dktX3_fills_10 : List UInt8 := dkwX3_fills_10 ++ dktX3_fills_11
def dkwX3_fills_9 : List UInt8 := [180, 0, 42, 16, 7, 21, 6, 104, 46, 182, 0, 225, 42, 21, 6, 3, 182, 0, 235, 167, 0, 170, 21, 5]
abbrev dktX3_fills_9 : List UInt8 := dkwX3_fills_9 ++ dktX3_fills_10
def dkwX3_fills_8 : List UInt8 := [21, 6, 79, 42, 21, 4, 42, 180, 0, 26, 21, 4, 46, 42, 180, 0, 39, 16, 7, 21, 6, 104, 46, 42]
abbrev dktX3_fills_8 : List UInt8 := dkwX3_fills_8 ++ dktX3_fills_9
def dkwX3_fills_7 : List UInt8 := [164, 0, 70, 42, 21, 6, 29, 182, 0, 212, 54, 6, 42, 180, 0, 39, 16, 7, 27, 104, 28, 96, 4, 96]
abbrev dktX3_fills_7 : List UInt8 := dkwX3_fills_7 ++ dktX3_fills_8
def dkwX3_fills_6 : List UInt8 := [46, 4, 100, 79, 167, 1, 1, 21, 6, 2, 159, 0, 84, 42, 180, 0, 26, 21, 6, 46, 42, 182, 0, 232]
abbrev dktX3_fills_6 : List UInt8 := dkwX3_fills_6 ++ dktX3_fills_7
def dkwX3_fills_5 : List UInt8 := [42, 180, 0, 39, 21, 7, 46, 42, 180, 0, 42, 21, 7, 46, 182, 0, 225, 42, 180, 0, 26, 21, 5, 92]
abbrev dktX3_fills_5 : List UInt8 := dkwX3_fills_5 ++ dktX3_fills_6
def dkwX3_fills_4 : List UInt8 := [21, 5, 79, 16, 7, 21, 5, 104, 42, 180, 0, 26, 21, 5, 46, 96, 4, 100, 54, 7, 42, 21, 4, 3]
abbrev dktX3_fills_4 : List UInt8 := dkwX3_fills_4 ++ dktX3_fills_5
def dkwX3_fills_3 : List UInt8 := [164, 0, 79, 42, 21, 5, 29, 182, 0, 212, 54, 5, 42, 180, 0, 39, 16, 7, 27, 104, 28, 96, 4, 100]
abbrev dktX3_fills_3 : List UInt8 := dkwX3_fills_3 ++ dktX3_fills_4
def dkwX3_fills_2 : List UInt8 := [167, 0, 4, 2, 54, 6, 21, 5, 2, 159, 0, 93, 42, 180, 0, 26, 21, 5, 46, 42, 182, 0, 232]
abbrev dktX3_fills_2 : List UInt8 := dkwX3_fills_2 ++ dktX3_fills_3
def dkwX3_fills_1 : List UInt8 := [54, 5, 28, 4, 96, 42, 180, 0, 26, 27, 46, 162, 0, 14, 42, 27, 28, 4, 96, 182, 0, 197]
abbrev dktX3_fills_1 : List UInt8 := dkwX3_fills_1 ++ dktX3_fills_2
def dkwX3_fills_0 : List UInt8 := [42, 27, 28, 182, 0, 197, 54, 4, 28, 158, 0, 14, 42, 27, 28, 4, 100, 182, 0, 197, 167, 0, 4, 2]
abbrev dktX3_fills_0 : List UInt8 := dkwX3_fills_0 ++ dktX3_fills_1
theorem dksX3_fills_0 : cX3_fills.data.toList.drop 0 = dktX3_fills_0 := by decide +kernel
theorem dksX3_fills_1 : cX3_fills.data.toList.drop 24 = dktX3_fills_1 := dk_seg dksX3_fills_0 24 rfl rfl
theorem dksX3_fills_2 : cX3_fills.data.toList.drop 46 = dktX3_fills_2 := dk_seg dksX3_fills_1 22 rfl rfl
theorem dksX3_fills_3 : cX3_fills.data.toList.drop 69 = dktX3_fills_3 := dk_seg dksX3_fills_2 23 rfl rfl
theorem dksX3_fills_4 : cX3_fills.data.toList.drop 93 = dktX3_fills_4 := dk_seg dksX3_fills_3 24 rfl rfl
theorem dksX3_fills_5 : cX3_fills.data.toList.drop 117 = dktX3_fills_5 := dk_seg dksX3_fills_4 24 rfl rfl
theorem dksX3_fills_6 : cX3_fills.data.toList.drop 141 = dktX3_fills_6 := dk_seg dksX3_fills_5 24 rfl rfl
theorem dksX3_fills_7 : cX3_fills.data.toList.drop 165 = dktX3_fills_7 := dk_seg dksX3_fills_6 24 rfl rfl
theorem dksX3_fills_8 : cX3_fills.data.toList.drop 189 = dktX3_fills_8 := dk_seg dksX3_fills_7 24 rfl rfl
theorem dksX3_fills_9 : cX3_fills.data.toList.drop 213 = dktX3_fills_9 := dk_seg dksX3_fills_8 24 rfl rfl
theorem dksX3_fills_10 : cX3_fills.data.toList.drop 237 = dktX3_fills_10 := dk_seg dksX3_fills_9 24 rfl rfl
theorem dksX3_fills_11 : cX3_fills.data.toList.drop 261 = dktX3_fills_11 := dk_seg dksX3_fills_10 24 rfl rfl
theorem dksX3_fills_12 : cX3_fills.data.toList.drop 284 = dktX3_fills_12 := dk_seg dksX3_fills_11 23 rfl rfl
theorem dksX3_fills_13 : cX3_fills.data.toList.drop 307 = dktX3_fills_13 := dk_seg dksX3_fills_12 23 rfl rfl
theorem dksX3_fills_14 : cX3_fills.data.toList.drop 331 = dktX3_fills_14 := dk_seg dksX3_fills_13 24 rfl rfl
theorem dksX3_fills_15 : cX3_fills.data.toList.drop 353 = dktX3_fills_15 := dk_seg dksX3_fills_14 22 rfl rfl
theorem dksX3_fills_16 : cX3_fills.data.toList.drop 376 = dktX3_fills_16 := dk_seg dksX3_fills_15 23 rfl rfl
theorem dksX3_fills_17 : cX3_fills.data.toList.drop 399 = dktX3_fills_17 := dk_seg dksX3_fills_16 23 rfl rfl
theorem dX3_fills_0 : decode cX3_fills 0 = .ok (.aload_n 0, 1) := dk_42 (dk_at dksX3_fills_0 0 rfl rfl)
theorem dX3_fills_1 : decode cX3_fills 1 = .ok (.iload_n 1, 1) := dk_27 (dk_at dksX3_fills_0 1 rfl rfl)
theorem dX3_fills_2 : decode cX3_fills 2 = .ok (.iload_n 2, 1) := dk_28 (dk_at dksX3_fills_0 2 rfl rfl)
theorem dX3_fills_3 : decode cX3_fills 3 = .ok (.invokevirtual 197, 3) := dk_182 0 197 (dk_at dksX3_fills_0 3 rfl rfl)
theorem dX3_fills_6 : decode cX3_fills 6 = .ok (.istore 4, 2) := dk_54 4 (dk_at dksX3_fills_0 6 rfl rfl)
theorem dX3_fills_8 : decode cX3_fills 8 = .ok (.iload_n 2, 1) := dk_28 (dk_at dksX3_fills_0 8 rfl rfl)
theorem dX3_fills_9 : decode cX3_fills 9 = .ok (.ifCond .le 14, 3) := dk_158 0 14 (dk_at dksX3_fills_0 9 rfl rfl)
theorem dX3_fills_12 : decode cX3_fills 12 = .ok (.aload_n 0, 1) := dk_42 (dk_at dksX3_fills_0 12 rfl rfl)
theorem dX3_fills_13 : decode cX3_fills 13 = .ok (.iload_n 1, 1) := dk_27 (dk_at dksX3_fills_0 13 rfl rfl)
theorem dX3_fills_14 : decode cX3_fills 14 = .ok (.iload_n 2, 1) := dk_28 (dk_at dksX3_fills_0 14 rfl rfl)
theorem dX3_fills_15 : decode cX3_fills 15 = .ok (.iconst 1, 1) := dk_4 (dk_at dksX3_fills_0 15 rfl rfl)
theorem dX3_fills_16 : decode cX3_fills 16 = .ok (.isub, 1) := dk_100 (dk_at dksX3_fills_0 16 rfl rfl)
theorem dX3_fills_17 : decode cX3_fills 17 = .ok (.invokevirtual 197, 3) := dk_182 0 197 (dk_at dksX3_fills_0 17 rfl rfl)
theorem dX3_fills_20 : decode cX3_fills 20 = .ok (.goto 4, 3) := dk_167 0 4 (dk_at dksX3_fills_0 20 rfl rfl)
theorem dX3_fills_23 : decode cX3_fills 23 = .ok (.iconst (-1), 1) := dk_2 (dk_at dksX3_fills_0 23 rfl rfl)
theorem dX3_fills_24 : decode cX3_fills 24 = .ok (.istore 5, 2) := dk_54 5 (dk_at dksX3_fills_1 0 rfl rfl)
theorem dX3_fills_26 : decode cX3_fills 26 = .ok (.iload_n 2, 1) := dk_28 (dk_at dksX3_fills_1 2 rfl rfl)
theorem dX3_fills_27 : decode cX3_fills 27 = .ok (.iconst 1, 1) := dk_4 (dk_at dksX3_fills_1 3 rfl rfl)
theorem dX3_fills_28 : decode cX3_fills 28 = .ok (.iadd, 1) := dk_96 (dk_at dksX3_fills_1 4 rfl rfl)
theorem dX3_fills_29 : decode cX3_fills 29 = .ok (.aload_n 0, 1) := dk_42 (dk_at dksX3_fills_1 5 rfl rfl)
theorem dX3_fills_30 : decode cX3_fills 30 = .ok (.getfield 26, 3) := dk_180 0 26 (dk_at dksX3_fills_1 6 rfl rfl)
theorem dX3_fills_33 : decode cX3_fills 33 = .ok (.iload_n 1, 1) := dk_27 (dk_at dksX3_fills_1 9 rfl rfl)
theorem dX3_fills_34 : decode cX3_fills 34 = .ok (.iaload, 1) := dk_46 (dk_at dksX3_fills_1 10 rfl rfl)
theorem dX3_fills_35 : decode cX3_fills 35 = .ok (.if_icmp .ge 14, 3) := dk_162 0 14 (dk_at dksX3_fills_1 11 rfl rfl)
theorem dX3_fills_38 : decode cX3_fills 38 = .ok (.aload_n 0, 1) := dk_42 (dk_at dksX3_fills_1 14 rfl rfl)
theorem dX3_fills_39 : decode cX3_fills 39 = .ok (.iload_n 1, 1) := dk_27 (dk_at dksX3_fills_1 15 rfl rfl)
theorem dX3_fills_40 : decode cX3_fills 40 = .ok (.iload_n 2, 1) := dk_28 (dk_at dksX3_fills_1 16 rfl rfl)
theorem dX3_fills_41 : decode cX3_fills 41 = .ok (.iconst 1, 1) := dk_4 (dk_at dksX3_fills_1 17 rfl rfl)
theorem dX3_fills_42 : decode cX3_fills 42 = .ok (.iadd, 1) := dk_96 (dk_at dksX3_fills_1 18 rfl rfl)
theorem dX3_fills_43 : decode cX3_fills 43 = .ok (.invokevirtual 197, 3) := dk_182 0 197 (dk_at dksX3_fills_1 19 rfl rfl)
theorem dX3_fills_46 : decode cX3_fills 46 = .ok (.goto 4, 3) := dk_167 0 4 (dk_at dksX3_fills_2 0 rfl rfl)
theorem dX3_fills_49 : decode cX3_fills 49 = .ok (.iconst (-1), 1) := dk_2 (dk_at dksX3_fills_2 3 rfl rfl)
theorem dX3_fills_50 : decode cX3_fills 50 = .ok (.istore 6, 2) := dk_54 6 (dk_at dksX3_fills_2 4 rfl rfl)
theorem dX3_fills_52 : decode cX3_fills 52 = .ok (.iload 5, 2) := dk_21 5 (dk_at dksX3_fills_2 6 rfl rfl)
theorem dX3_fills_54 : decode cX3_fills 54 = .ok (.iconst (-1), 1) := dk_2 (dk_at dksX3_fills_2 8 rfl rfl)
theorem dX3_fills_55 : decode cX3_fills 55 = .ok (.if_icmp .eq 93, 3) := dk_159 0 93 (dk_at dksX3_fills_2 9 rfl rfl)
theorem dX3_fills_58 : decode cX3_fills 58 = .ok (.aload_n 0, 1) := dk_42 (dk_at dksX3_fills_2 12 rfl rfl)
theorem dX3_fills_59 : decode cX3_fills 59 = .ok (.getfield 26, 3) := dk_180 0 26 (dk_at dksX3_fills_2 13 rfl rfl)
theorem dX3_fills_62 : decode cX3_fills 62 = .ok (.iload 5, 2) := dk_21 5 (dk_at dksX3_fills_2 16 rfl rfl)
theorem dX3_fills_64 : decode cX3_fills 64 = .ok (.iaload, 1) := dk_46 (dk_at dksX3_fills_2 18 rfl rfl)
theorem dX3_fills_65 : decode cX3_fills 65 = .ok (.aload_n 0, 1) := dk_42 (dk_at dksX3_fills_2 19 rfl rfl)
theorem dX3_fills_66 : decode cX3_fills 66 = .ok (.invokevirtual 232, 3) := dk_182 0 232 (dk_at dksX3_fills_2 20 rfl rfl)
theorem dX3_fills_69 : decode cX3_fills 69 = .ok (.if_icmp .le 79, 3) := dk_164 0 79 (dk_at dksX3_fills_3 0 rfl rfl)
theorem dX3_fills_72 : decode cX3_fills 72 = .ok (.aload_n 0, 1) := dk_42 (dk_at dksX3_fills_3 3 rfl rfl)
theorem dX3_fills_73 : decode cX3_fills 73 = .ok (.iload 5, 2) := dk_21 5 (dk_at dksX3_fills_3 4 rfl rfl)
theorem dX3_fills_75 : decode cX3_fills 75 = .ok (.iload_n 3, 1) := dk_29 (dk_at dksX3_fills_3 6 rfl rfl)
theorem dX3_fills_76 : decode cX3_fills 76 = .ok (.invokevirtual 212, 3) := dk_182 0 212 (dk_at dksX3_fills_3 7 rfl rfl)
theorem dX3_fills_79 : decode cX3_fills 79 = .ok (.istore 5, 2) := dk_54 5 (dk_at dksX3_fills_3 10 rfl rfl)
theorem dX3_fills_81 : decode cX3_fills 81 = .ok (.aload_n 0, 1) := dk_42 (dk_at dksX3_fills_3 12 rfl rfl)
theorem dX3_fills_82 : decode cX3_fills 82 = .ok (.getfield 39, 3) := dk_180 0 39 (dk_at dksX3_fills_3 13 rfl rfl)
theorem dX3_fills_85 : decode cX3_fills 85 = .ok (.bipush 7, 2) := dk_16 7 (dk_at dksX3_fills_3 16 rfl rfl)
theorem dX3_fills_87 : decode cX3_fills 87 = .ok (.iload_n 1, 1) := dk_27 (dk_at dksX3_fills_3 18 rfl rfl)
theorem dX3_fills_88 : decode cX3_fills 88 = .ok (.imul, 1) := dk_104 (dk_at dksX3_fills_3 19 rfl rfl)
theorem dX3_fills_89 : decode cX3_fills 89 = .ok (.iload_n 2, 1) := dk_28 (dk_at dksX3_fills_3 20 rfl rfl)
theorem dX3_fills_90 : decode cX3_fills 90 = .ok (.iadd, 1) := dk_96 (dk_at dksX3_fills_3 21 rfl rfl)
theorem dX3_fills_91 : decode cX3_fills 91 = .ok (.iconst 1, 1) := dk_4 (dk_at dksX3_fills_3 22 rfl rfl)
theorem dX3_fills_92 : decode cX3_fills 92 = .ok (.isub, 1) := dk_100 (dk_at dksX3_fills_3 23 rfl rfl)
theorem dX3_fills_93 : decode cX3_fills 93 = .ok (.iload 5, 2) := dk_21 5 (dk_at dksX3_fills_4 0 rfl rfl)
theorem dX3_fills_95 : decode cX3_fills 95 = .ok (.iastore, 1) := dk_79 (dk_at dksX3_fills_4 2 rfl rfl)
theorem dX3_fills_96 : decode cX3_fills 96 = .ok (.bipush 7, 2) := dk_16 7 (dk_at dksX3_fills_4 3 rfl rfl)
theorem dX3_fills_98 : decode cX3_fills 98 = .ok (.iload 5, 2) := dk_21 5 (dk_at dksX3_fills_4 5 rfl rfl)
theorem dX3_fills_100 : decode cX3_fills 100 = .ok (.imul, 1) := dk_104 (dk_at dksX3_fills_4 7 rfl rfl)
theorem dX3_fills_101 : decode cX3_fills 101 = .ok (.aload_n 0, 1) := dk_42 (dk_at dksX3_fills_4 8 rfl rfl)
theorem dX3_fills_102 : decode cX3_fills 102 = .ok (.getfield 26, 3) := dk_180 0 26 (dk_at dksX3_fills_4 9 rfl rfl)
theorem dX3_fills_105 : decode cX3_fills 105 = .ok (.iload 5, 2) := dk_21 5 (dk_at dksX3_fills_4 12 rfl rfl)
theorem dX3_fills_107 : decode cX3_fills 107 = .ok (.iaload, 1) := dk_46 (dk_at dksX3_fills_4 14 rfl rfl)
theorem dX3_fills_108 : decode cX3_fills 108 = .ok (.iadd, 1) := dk_96 (dk_at dksX3_fills_4 15 rfl rfl)
theorem dX3_fills_109 : decode cX3_fills 109 = .ok (.iconst 1, 1) := dk_4 (dk_at dksX3_fills_4 16 rfl rfl)
theorem dX3_fills_110 : decode cX3_fills 110 = .ok (.isub, 1) := dk_100 (dk_at dksX3_fills_4 17 rfl rfl)
theorem dX3_fills_111 : decode cX3_fills 111 = .ok (.istore 7, 2) := dk_54 7 (dk_at dksX3_fills_4 18 rfl rfl)
theorem dX3_fills_113 : decode cX3_fills 113 = .ok (.aload_n 0, 1) := dk_42 (dk_at dksX3_fills_4 20 rfl rfl)
theorem dX3_fills_114 : decode cX3_fills 114 = .ok (.iload 4, 2) := dk_21 4 (dk_at dksX3_fills_4 21 rfl rfl)
theorem dX3_fills_116 : decode cX3_fills 116 = .ok (.iconst 0, 1) := dk_3 (dk_at dksX3_fills_4 23 rfl rfl)
theorem dX3_fills_117 : decode cX3_fills 117 = .ok (.aload_n 0, 1) := dk_42 (dk_at dksX3_fills_5 0 rfl rfl)
theorem dX3_fills_118 : decode cX3_fills 118 = .ok (.getfield 39, 3) := dk_180 0 39 (dk_at dksX3_fills_5 1 rfl rfl)
theorem dX3_fills_121 : decode cX3_fills 121 = .ok (.iload 7, 2) := dk_21 7 (dk_at dksX3_fills_5 4 rfl rfl)
theorem dX3_fills_123 : decode cX3_fills 123 = .ok (.iaload, 1) := dk_46 (dk_at dksX3_fills_5 6 rfl rfl)
theorem dX3_fills_124 : decode cX3_fills 124 = .ok (.aload_n 0, 1) := dk_42 (dk_at dksX3_fills_5 7 rfl rfl)
theorem dX3_fills_125 : decode cX3_fills 125 = .ok (.getfield 42, 3) := dk_180 0 42 (dk_at dksX3_fills_5 8 rfl rfl)
theorem dX3_fills_128 : decode cX3_fills 128 = .ok (.iload 7, 2) := dk_21 7 (dk_at dksX3_fills_5 11 rfl rfl)
theorem dX3_fills_130 : decode cX3_fills 130 = .ok (.iaload, 1) := dk_46 (dk_at dksX3_fills_5 13 rfl rfl)
theorem dX3_fills_131 : decode cX3_fills 131 = .ok (.invokevirtual 225, 3) := dk_182 0 225 (dk_at dksX3_fills_5 14 rfl rfl)
theorem dX3_fills_134 : decode cX3_fills 134 = .ok (.aload_n 0, 1) := dk_42 (dk_at dksX3_fills_5 17 rfl rfl)
theorem dX3_fills_135 : decode cX3_fills 135 = .ok (.getfield 26, 3) := dk_180 0 26 (dk_at dksX3_fills_5 18 rfl rfl)
theorem dX3_fills_138 : decode cX3_fills 138 = .ok (.iload 5, 2) := dk_21 5 (dk_at dksX3_fills_5 21 rfl rfl)
theorem dX3_fills_140 : decode cX3_fills 140 = .ok (.dup2, 1) := dk_92 (dk_at dksX3_fills_5 23 rfl rfl)
theorem dX3_fills_141 : decode cX3_fills 141 = .ok (.iaload, 1) := dk_46 (dk_at dksX3_fills_6 0 rfl rfl)
theorem dX3_fills_142 : decode cX3_fills 142 = .ok (.iconst 1, 1) := dk_4 (dk_at dksX3_fills_6 1 rfl rfl)
theorem dX3_fills_143 : decode cX3_fills 143 = .ok (.isub, 1) := dk_100 (dk_at dksX3_fills_6 2 rfl rfl)
theorem dX3_fills_144 : decode cX3_fills 144 = .ok (.iastore, 1) := dk_79 (dk_at dksX3_fills_6 3 rfl rfl)
theorem dX3_fills_145 : decode cX3_fills 145 = .ok (.goto 257, 3) := dk_167 1 1 (dk_at dksX3_fills_6 4 rfl rfl)
theorem dX3_fills_148 : decode cX3_fills 148 = .ok (.iload 6, 2) := dk_21 6 (dk_at dksX3_fills_6 7 rfl rfl)
theorem dX3_fills_150 : decode cX3_fills 150 = .ok (.iconst (-1), 1) := dk_2 (dk_at dksX3_fills_6 9 rfl rfl)
theorem dX3_fills_151 : decode cX3_fills 151 = .ok (.if_icmp .eq 84, 3) := dk_159 0 84 (dk_at dksX3_fills_6 10 rfl rfl)
theorem dX3_fills_154 : decode cX3_fills 154 = .ok (.aload_n 0, 1) := dk_42 (dk_at dksX3_fills_6 13 rfl rfl)
theorem dX3_fills_155 : decode cX3_fills 155 = .ok (.getfield 26, 3) := dk_180 0 26 (dk_at dksX3_fills_6 14 rfl rfl)
theorem dX3_fills_158 : decode cX3_fills 158 = .ok (.iload 6, 2) := dk_21 6 (dk_at dksX3_fills_6 17 rfl rfl)
theorem dX3_fills_160 : decode cX3_fills 160 = .ok (.iaload, 1) := dk_46 (dk_at dksX3_fills_6 19 rfl rfl)
theorem dX3_fills_161 : decode cX3_fills 161 = .ok (.aload_n 0, 1) := dk_42 (dk_at dksX3_fills_6 20 rfl rfl)
theorem dX3_fills_162 : decode cX3_fills 162 = .ok (.invokevirtual 232, 3) := dk_182 0 232 (dk_at dksX3_fills_6 21 rfl rfl)
theorem dX3_fills_165 : decode cX3_fills 165 = .ok (.if_icmp .le 70, 3) := dk_164 0 70 (dk_at dksX3_fills_7 0 rfl rfl)
theorem dX3_fills_168 : decode cX3_fills 168 = .ok (.aload_n 0, 1) := dk_42 (dk_at dksX3_fills_7 3 rfl rfl)
theorem dX3_fills_169 : decode cX3_fills 169 = .ok (.iload 6, 2) := dk_21 6 (dk_at dksX3_fills_7 4 rfl rfl)
theorem dX3_fills_171 : decode cX3_fills 171 = .ok (.iload_n 3, 1) := dk_29 (dk_at dksX3_fills_7 6 rfl rfl)
theorem dX3_fills_172 : decode cX3_fills 172 = .ok (.invokevirtual 212, 3) := dk_182 0 212 (dk_at dksX3_fills_7 7 rfl rfl)
theorem dX3_fills_175 : decode cX3_fills 175 = .ok (.istore 6, 2) := dk_54 6 (dk_at dksX3_fills_7 10 rfl rfl)
theorem dX3_fills_177 : decode cX3_fills 177 = .ok (.aload_n 0, 1) := dk_42 (dk_at dksX3_fills_7 12 rfl rfl)
theorem dX3_fills_178 : decode cX3_fills 178 = .ok (.getfield 39, 3) := dk_180 0 39 (dk_at dksX3_fills_7 13 rfl rfl)
theorem dX3_fills_181 : decode cX3_fills 181 = .ok (.bipush 7, 2) := dk_16 7 (dk_at dksX3_fills_7 16 rfl rfl)
theorem dX3_fills_183 : decode cX3_fills 183 = .ok (.iload_n 1, 1) := dk_27 (dk_at dksX3_fills_7 18 rfl rfl)
theorem dX3_fills_184 : decode cX3_fills 184 = .ok (.imul, 1) := dk_104 (dk_at dksX3_fills_7 19 rfl rfl)
theorem dX3_fills_185 : decode cX3_fills 185 = .ok (.iload_n 2, 1) := dk_28 (dk_at dksX3_fills_7 20 rfl rfl)
theorem dX3_fills_186 : decode cX3_fills 186 = .ok (.iadd, 1) := dk_96 (dk_at dksX3_fills_7 21 rfl rfl)
theorem dX3_fills_187 : decode cX3_fills 187 = .ok (.iconst 1, 1) := dk_4 (dk_at dksX3_fills_7 22 rfl rfl)
theorem dX3_fills_188 : decode cX3_fills 188 = .ok (.iadd, 1) := dk_96 (dk_at dksX3_fills_7 23 rfl rfl)
theorem dX3_fills_189 : decode cX3_fills 189 = .ok (.iload 6, 2) := dk_21 6 (dk_at dksX3_fills_8 0 rfl rfl)
theorem dX3_fills_191 : decode cX3_fills 191 = .ok (.iastore, 1) := dk_79 (dk_at dksX3_fills_8 2 rfl rfl)
theorem dX3_fills_192 : decode cX3_fills 192 = .ok (.aload_n 0, 1) := dk_42 (dk_at dksX3_fills_8 3 rfl rfl)
theorem dX3_fills_193 : decode cX3_fills 193 = .ok (.iload 4, 2) := dk_21 4 (dk_at dksX3_fills_8 4 rfl rfl)
theorem dX3_fills_195 : decode cX3_fills 195 = .ok (.aload_n 0, 1) := dk_42 (dk_at dksX3_fills_8 6 rfl rfl)
theorem dX3_fills_196 : decode cX3_fills 196 = .ok (.getfield 26, 3) := dk_180 0 26 (dk_at dksX3_fills_8 7 rfl rfl)
theorem dX3_fills_199 : decode cX3_fills 199 = .ok (.iload 4, 2) := dk_21 4 (dk_at dksX3_fills_8 10 rfl rfl)
theorem dX3_fills_201 : decode cX3_fills 201 = .ok (.iaload, 1) := dk_46 (dk_at dksX3_fills_8 12 rfl rfl)
theorem dX3_fills_202 : decode cX3_fills 202 = .ok (.aload_n 0, 1) := dk_42 (dk_at dksX3_fills_8 13 rfl rfl)
theorem dX3_fills_203 : decode cX3_fills 203 = .ok (.getfield 39, 3) := dk_180 0 39 (dk_at dksX3_fills_8 14 rfl rfl)
theorem dX3_fills_206 : decode cX3_fills 206 = .ok (.bipush 7, 2) := dk_16 7 (dk_at dksX3_fills_8 17 rfl rfl)
theorem dX3_fills_208 : decode cX3_fills 208 = .ok (.iload 6, 2) := dk_21 6 (dk_at dksX3_fills_8 19 rfl rfl)
theorem dX3_fills_210 : decode cX3_fills 210 = .ok (.imul, 1) := dk_104 (dk_at dksX3_fills_8 21 rfl rfl)
theorem dX3_fills_211 : decode cX3_fills 211 = .ok (.iaload, 1) := dk_46 (dk_at dksX3_fills_8 22 rfl rfl)
theorem dX3_fills_212 : decode cX3_fills 212 = .ok (.aload_n 0, 1) := dk_42 (dk_at dksX3_fills_8 23 rfl rfl)
theorem dX3_fills_213 : decode cX3_fills 213 = .ok (.getfield 42, 3) := dk_180 0 42 (dk_at dksX3_fills_9 0 rfl rfl)
theorem dX3_fills_216 : decode cX3_fills 216 = .ok (.bipush 7, 2) := dk_16 7 (dk_at dksX3_fills_9 3 rfl rfl)
theorem dX3_fills_218 : decode cX3_fills 218 = .ok (.iload 6, 2) := dk_21 6 (dk_at dksX3_fills_9 5 rfl rfl)
theorem dX3_fills_220 : decode cX3_fills 220 = .ok (.imul, 1) := dk_104 (dk_at dksX3_fills_9 7 rfl rfl)
theorem dX3_fills_221 : decode cX3_fills 221 = .ok (.iaload, 1) := dk_46 (dk_at dksX3_fills_9 8 rfl rfl)
theorem dX3_fills_222 : decode cX3_fills 222 = .ok (.invokevirtual 225, 3) := dk_182 0 225 (dk_at dksX3_fills_9 9 rfl rfl)
theorem dX3_fills_225 : decode cX3_fills 225 = .ok (.aload_n 0, 1) := dk_42 (dk_at dksX3_fills_9 12 rfl rfl)
theorem dX3_fills_226 : decode cX3_fills 226 = .ok (.iload 6, 2) := dk_21 6 (dk_at dksX3_fills_9 13 rfl rfl)
theorem dX3_fills_228 : decode cX3_fills 228 = .ok (.iconst 0, 1) := dk_3 (dk_at dksX3_fills_9 15 rfl rfl)
theorem dX3_fills_229 : decode cX3_fills 229 = .ok (.invokevirtual 235, 3) := dk_182 0 235 (dk_at dksX3_fills_9 16 rfl rfl)
theorem dX3_fills_232 : decode cX3_fills 232 = .ok (.goto 170, 3) := dk_167 0 170 (dk_at dksX3_fills_9 19 rfl rfl)
theorem dX3_fills_235 : decode cX3_fills 235 = .ok (.iload 5, 2) := dk_21 5 (dk_at dksX3_fills_9 22 rfl rfl)
theorem dX3_fills_237 : decode cX3_fills 237 = .ok (.iconst (-1), 1) := dk_2 (dk_at dksX3_fills_10 0 rfl rfl)
theorem dX3_fills_238 : decode cX3_fills 238 = .ok (.if_icmp .eq 96, 3) := dk_159 0 96 (dk_at dksX3_fills_10 1 rfl rfl)
theorem dX3_fills_241 : decode cX3_fills 241 = .ok (.aload_n 0, 1) := dk_42 (dk_at dksX3_fills_10 4 rfl rfl)
theorem dX3_fills_242 : decode cX3_fills 242 = .ok (.iload 5, 2) := dk_21 5 (dk_at dksX3_fills_10 5 rfl rfl)
theorem dX3_fills_244 : decode cX3_fills 244 = .ok (.iload_n 3, 1) := dk_29 (dk_at dksX3_fills_10 7 rfl rfl)
theorem dX3_fills_245 : decode cX3_fills 245 = .ok (.invokevirtual 212, 3) := dk_182 0 212 (dk_at dksX3_fills_10 8 rfl rfl)
theorem dX3_fills_248 : decode cX3_fills 248 = .ok (.istore 5, 2) := dk_54 5 (dk_at dksX3_fills_10 11 rfl rfl)
theorem dX3_fills_250 : decode cX3_fills 250 = .ok (.aload_n 0, 1) := dk_42 (dk_at dksX3_fills_10 13 rfl rfl)
theorem dX3_fills_251 : decode cX3_fills 251 = .ok (.getfield 39, 3) := dk_180 0 39 (dk_at dksX3_fills_10 14 rfl rfl)
theorem dX3_fills_254 : decode cX3_fills 254 = .ok (.bipush 7, 2) := dk_16 7 (dk_at dksX3_fills_10 17 rfl rfl)
theorem dX3_fills_256 : decode cX3_fills 256 = .ok (.iload_n 1, 1) := dk_27 (dk_at dksX3_fills_10 19 rfl rfl)
theorem dX3_fills_257 : decode cX3_fills 257 = .ok (.imul, 1) := dk_104 (dk_at dksX3_fills_10 20 rfl rfl)
theorem dX3_fills_258 : decode cX3_fills 258 = .ok (.iload_n 2, 1) := dk_28 (dk_at dksX3_fills_10 21 rfl rfl)
theorem dX3_fills_259 : decode cX3_fills 259 = .ok (.iadd, 1) := dk_96 (dk_at dksX3_fills_10 22 rfl rfl)
theorem dX3_fills_260 : decode cX3_fills 260 = .ok (.iconst 1, 1) := dk_4 (dk_at dksX3_fills_10 23 rfl rfl)
theorem dX3_fills_261 : decode cX3_fills 261 = .ok (.isub, 1) := dk_100 (dk_at dksX3_fills_11 0 rfl rfl)
theorem dX3_fills_262 : decode cX3_fills 262 = .ok (.iload 5, 2) := dk_21 5 (dk_at dksX3_fills_11 1 rfl rfl)
theorem dX3_fills_264 : decode cX3_fills 264 = .ok (.iastore, 1) := dk_79 (dk_at dksX3_fills_11 3 rfl rfl)
theorem dX3_fills_265 : decode cX3_fills 265 = .ok (.iconst 0, 1) := dk_3 (dk_at dksX3_fills_11 4 rfl rfl)
theorem dX3_fills_266 : decode cX3_fills 266 = .ok (.istore 7, 2) := dk_54 7 (dk_at dksX3_fills_11 5 rfl rfl)
theorem dX3_fills_268 : decode cX3_fills 268 = .ok (.iload 7, 2) := dk_21 7 (dk_at dksX3_fills_11 7 rfl rfl)
theorem dX3_fills_270 : decode cX3_fills 270 = .ok (.aload_n 0, 1) := dk_42 (dk_at dksX3_fills_11 9 rfl rfl)
theorem dX3_fills_271 : decode cX3_fills 271 = .ok (.getfield 26, 3) := dk_180 0 26 (dk_at dksX3_fills_11 10 rfl rfl)
theorem dX3_fills_274 : decode cX3_fills 274 = .ok (.iload 4, 2) := dk_21 4 (dk_at dksX3_fills_11 13 rfl rfl)
theorem dX3_fills_276 : decode cX3_fills 276 = .ok (.iaload, 1) := dk_46 (dk_at dksX3_fills_11 15 rfl rfl)
theorem dX3_fills_277 : decode cX3_fills 277 = .ok (.if_icmp .ge 48, 3) := dk_162 0 48 (dk_at dksX3_fills_11 16 rfl rfl)
theorem dX3_fills_280 : decode cX3_fills 280 = .ok (.aload_n 0, 1) := dk_42 (dk_at dksX3_fills_11 19 rfl rfl)
theorem dX3_fills_281 : decode cX3_fills 281 = .ok (.iload 5, 2) := dk_21 5 (dk_at dksX3_fills_11 20 rfl rfl)
theorem dX3_fills_283 : decode cX3_fills 283 = .ok (.aload_n 0, 1) := dk_42 (dk_at dksX3_fills_11 22 rfl rfl)
theorem dX3_fills_284 : decode cX3_fills 284 = .ok (.getfield 26, 3) := dk_180 0 26 (dk_at dksX3_fills_12 0 rfl rfl)
theorem dX3_fills_287 : decode cX3_fills 287 = .ok (.iload 5, 2) := dk_21 5 (dk_at dksX3_fills_12 3 rfl rfl)
theorem dX3_fills_289 : decode cX3_fills 289 = .ok (.iaload, 1) := dk_46 (dk_at dksX3_fills_12 5 rfl rfl)
theorem dX3_fills_290 : decode cX3_fills 290 = .ok (.aload_n 0, 1) := dk_42 (dk_at dksX3_fills_12 6 rfl rfl)
theorem dX3_fills_291 : decode cX3_fills 291 = .ok (.getfield 39, 3) := dk_180 0 39 (dk_at dksX3_fills_12 7 rfl rfl)
theorem dX3_fills_294 : decode cX3_fills 294 = .ok (.bipush 7, 2) := dk_16 7 (dk_at dksX3_fills_12 10 rfl rfl)
theorem dX3_fills_296 : decode cX3_fills 296 = .ok (.iload 4, 2) := dk_21 4 (dk_at dksX3_fills_12 12 rfl rfl)
theorem dX3_fills_298 : decode cX3_fills 298 = .ok (.imul, 1) := dk_104 (dk_at dksX3_fills_12 14 rfl rfl)
theorem dX3_fills_299 : decode cX3_fills 299 = .ok (.iload 7, 2) := dk_21 7 (dk_at dksX3_fills_12 15 rfl rfl)
theorem dX3_fills_301 : decode cX3_fills 301 = .ok (.iadd, 1) := dk_96 (dk_at dksX3_fills_12 17 rfl rfl)
theorem dX3_fills_302 : decode cX3_fills 302 = .ok (.iaload, 1) := dk_46 (dk_at dksX3_fills_12 18 rfl rfl)
theorem dX3_fills_303 : decode cX3_fills 303 = .ok (.aload_n 0, 1) := dk_42 (dk_at dksX3_fills_12 19 rfl rfl)
theorem dX3_fills_304 : decode cX3_fills 304 = .ok (.getfield 42, 3) := dk_180 0 42 (dk_at dksX3_fills_12 20 rfl rfl)
theorem dX3_fills_307 : decode cX3_fills 307 = .ok (.bipush 7, 2) := dk_16 7 (dk_at dksX3_fills_13 0 rfl rfl)
theorem dX3_fills_309 : decode cX3_fills 309 = .ok (.iload 4, 2) := dk_21 4 (dk_at dksX3_fills_13 2 rfl rfl)
theorem dX3_fills_311 : decode cX3_fills 311 = .ok (.imul, 1) := dk_104 (dk_at dksX3_fills_13 4 rfl rfl)
theorem dX3_fills_312 : decode cX3_fills 312 = .ok (.iload 7, 2) := dk_21 7 (dk_at dksX3_fills_13 5 rfl rfl)
theorem dX3_fills_314 : decode cX3_fills 314 = .ok (.iadd, 1) := dk_96 (dk_at dksX3_fills_13 7 rfl rfl)
theorem dX3_fills_315 : decode cX3_fills 315 = .ok (.iaload, 1) := dk_46 (dk_at dksX3_fills_13 8 rfl rfl)
theorem dX3_fills_316 : decode cX3_fills 316 = .ok (.invokevirtual 225, 3) := dk_182 0 225 (dk_at dksX3_fills_13 9 rfl rfl)
theorem dX3_fills_319 : decode cX3_fills 319 = .ok (.iinc 7 1, 3) := dk_132 7 1 (dk_at dksX3_fills_13 12 rfl rfl)
theorem dX3_fills_322 : decode cX3_fills 322 = .ok (.goto (-54), 3) := dk_167 255 202 (dk_at dksX3_fills_13 15 rfl rfl)
theorem dX3_fills_325 : decode cX3_fills 325 = .ok (.aload_n 0, 1) := dk_42 (dk_at dksX3_fills_13 18 rfl rfl)
theorem dX3_fills_326 : decode cX3_fills 326 = .ok (.iload_n 1, 1) := dk_27 (dk_at dksX3_fills_13 19 rfl rfl)
theorem dX3_fills_327 : decode cX3_fills 327 = .ok (.iload_n 2, 1) := dk_28 (dk_at dksX3_fills_13 20 rfl rfl)
theorem dX3_fills_328 : decode cX3_fills 328 = .ok (.invokevirtual 235, 3) := dk_182 0 235 (dk_at dksX3_fills_13 21 rfl rfl)
theorem dX3_fills_331 : decode cX3_fills 331 = .ok (.goto 71, 3) := dk_167 0 71 (dk_at dksX3_fills_14 0 rfl rfl)
theorem dX3_fills_334 : decode cX3_fills 334 = .ok (.iconst 0, 1) := dk_3 (dk_at dksX3_fills_14 3 rfl rfl)
theorem dX3_fills_335 : decode cX3_fills 335 = .ok (.istore 7, 2) := dk_54 7 (dk_at dksX3_fills_14 4 rfl rfl)
theorem dX3_fills_337 : decode cX3_fills 337 = .ok (.iload 7, 2) := dk_21 7 (dk_at dksX3_fills_14 6 rfl rfl)
theorem dX3_fills_339 : decode cX3_fills 339 = .ok (.aload_n 0, 1) := dk_42 (dk_at dksX3_fills_14 8 rfl rfl)
theorem dX3_fills_340 : decode cX3_fills 340 = .ok (.getfield 26, 3) := dk_180 0 26 (dk_at dksX3_fills_14 9 rfl rfl)
theorem dX3_fills_343 : decode cX3_fills 343 = .ok (.iload 6, 2) := dk_21 6 (dk_at dksX3_fills_14 12 rfl rfl)
theorem dX3_fills_345 : decode cX3_fills 345 = .ok (.iaload, 1) := dk_46 (dk_at dksX3_fills_14 14 rfl rfl)
theorem dX3_fills_346 : decode cX3_fills 346 = .ok (.if_icmp .ge 48, 3) := dk_162 0 48 (dk_at dksX3_fills_14 15 rfl rfl)
theorem dX3_fills_349 : decode cX3_fills 349 = .ok (.aload_n 0, 1) := dk_42 (dk_at dksX3_fills_14 18 rfl rfl)
theorem dX3_fills_350 : decode cX3_fills 350 = .ok (.iload 4, 2) := dk_21 4 (dk_at dksX3_fills_14 19 rfl rfl)
theorem dX3_fills_352 : decode cX3_fills 352 = .ok (.aload_n 0, 1) := dk_42 (dk_at dksX3_fills_14 21 rfl rfl)
theorem dX3_fills_353 : decode cX3_fills 353 = .ok (.getfield 26, 3) := dk_180 0 26 (dk_at dksX3_fills_15 0 rfl rfl)
theorem dX3_fills_356 : decode cX3_fills 356 = .ok (.iload 4, 2) := dk_21 4 (dk_at dksX3_fills_15 3 rfl rfl)
theorem dX3_fills_358 : decode cX3_fills 358 = .ok (.iaload, 1) := dk_46 (dk_at dksX3_fills_15 5 rfl rfl)
theorem dX3_fills_359 : decode cX3_fills 359 = .ok (.aload_n 0, 1) := dk_42 (dk_at dksX3_fills_15 6 rfl rfl)
theorem dX3_fills_360 : decode cX3_fills 360 = .ok (.getfield 39, 3) := dk_180 0 39 (dk_at dksX3_fills_15 7 rfl rfl)
theorem dX3_fills_363 : decode cX3_fills 363 = .ok (.bipush 7, 2) := dk_16 7 (dk_at dksX3_fills_15 10 rfl rfl)
theorem dX3_fills_365 : decode cX3_fills 365 = .ok (.iload 6, 2) := dk_21 6 (dk_at dksX3_fills_15 12 rfl rfl)
theorem dX3_fills_367 : decode cX3_fills 367 = .ok (.imul, 1) := dk_104 (dk_at dksX3_fills_15 14 rfl rfl)
theorem dX3_fills_368 : decode cX3_fills 368 = .ok (.iload 7, 2) := dk_21 7 (dk_at dksX3_fills_15 15 rfl rfl)
theorem dX3_fills_370 : decode cX3_fills 370 = .ok (.iadd, 1) := dk_96 (dk_at dksX3_fills_15 17 rfl rfl)
theorem dX3_fills_371 : decode cX3_fills 371 = .ok (.iaload, 1) := dk_46 (dk_at dksX3_fills_15 18 rfl rfl)
theorem dX3_fills_372 : decode cX3_fills 372 = .ok (.aload_n 0, 1) := dk_42 (dk_at dksX3_fills_15 19 rfl rfl)
theorem dX3_fills_373 : decode cX3_fills 373 = .ok (.getfield 42, 3) := dk_180 0 42 (dk_at dksX3_fills_15 20 rfl rfl)
theorem dX3_fills_376 : decode cX3_fills 376 = .ok (.bipush 7, 2) := dk_16 7 (dk_at dksX3_fills_16 0 rfl rfl)
theorem dX3_fills_378 : decode cX3_fills 378 = .ok (.iload 6, 2) := dk_21 6 (dk_at dksX3_fills_16 2 rfl rfl)
theorem dX3_fills_380 : decode cX3_fills 380 = .ok (.imul, 1) := dk_104 (dk_at dksX3_fills_16 4 rfl rfl)
theorem dX3_fills_381 : decode cX3_fills 381 = .ok (.iload 7, 2) := dk_21 7 (dk_at dksX3_fills_16 5 rfl rfl)
theorem dX3_fills_383 : decode cX3_fills 383 = .ok (.iadd, 1) := dk_96 (dk_at dksX3_fills_16 7 rfl rfl)
theorem dX3_fills_384 : decode cX3_fills 384 = .ok (.iaload, 1) := dk_46 (dk_at dksX3_fills_16 8 rfl rfl)
theorem dX3_fills_385 : decode cX3_fills 385 = .ok (.invokevirtual 225, 3) := dk_182 0 225 (dk_at dksX3_fills_16 9 rfl rfl)
theorem dX3_fills_388 : decode cX3_fills 388 = .ok (.iinc 7 1, 3) := dk_132 7 1 (dk_at dksX3_fills_16 12 rfl rfl)
theorem dX3_fills_391 : decode cX3_fills 391 = .ok (.goto (-54), 3) := dk_167 255 202 (dk_at dksX3_fills_16 15 rfl rfl)
theorem dX3_fills_394 : decode cX3_fills 394 = .ok (.aload_n 0, 1) := dk_42 (dk_at dksX3_fills_16 18 rfl rfl)
theorem dX3_fills_395 : decode cX3_fills 395 = .ok (.iload_n 1, 1) := dk_27 (dk_at dksX3_fills_16 19 rfl rfl)
theorem dX3_fills_396 : decode cX3_fills 396 = .ok (.iload_n 2, 1) := dk_28 (dk_at dksX3_fills_16 20 rfl rfl)
theorem dX3_fills_397 : decode cX3_fills 397 = .ok (.iconst 1, 1) := dk_4 (dk_at dksX3_fills_16 21 rfl rfl)
theorem dX3_fills_398 : decode cX3_fills 398 = .ok (.iadd, 1) := dk_96 (dk_at dksX3_fills_16 22 rfl rfl)
theorem dX3_fills_399 : decode cX3_fills 399 = .ok (.invokevirtual 235, 3) := dk_182 0 235 (dk_at dksX3_fills_17 0 rfl rfl)
theorem dX3_fills_402 : decode cX3_fills 402 = .ok (.return_, 1) := dk_177 (dk_at dksX3_fills_17 3 rfl rfl)
abbrev cX3_merge : ByteArray := prog_9_method_66_code
def yX3_merge : MethodName := ⟨RX3, "merge", "(III)I"⟩
def dkwX3_merge_11 : List UInt8 := [132, 8, 1, 167, 255, 179, 42, 21, 7, 27, 28, 182, 1, 46, 172]
abbrev dktX3_merge_11 : List UInt8 := dkwX3_merge_11 ++ []
def dkwX3_merge_10 : List UInt8 := [21, 8, 46, 29, 184, 1, 103, 167, 0, 10, 42, 180, 0, 104, 21, 8, 46, 21, 5, 182, 1, 42, 54, 7]
abbrev dktX3_merge_10 : List UInt8 := dkwX3_merge_10 ++ dktX3_merge_11
def dkwX3_merge_9 : List UInt8 := [21, 9, 46, 3, 184, 1, 15, 153, 0, 26, 42, 180, 0, 98, 6, 21, 9, 104, 46, 42, 180, 0, 104]
abbrev dktX3_merge_9 : List UInt8 := dkwX3_merge_9 ++ dktX3_merge_10
def dkwX3_merge_8 : List UInt8 := [180, 1, 97, 162, 0, 74, 42, 180, 0, 101, 21, 8, 46, 54, 9, 42, 21, 7, 21, 9, 42, 180, 0, 95]
abbrev dktX3_merge_8 : List UInt8 := dkwX3_merge_8 ++ dktX3_merge_9
def dkwX3_merge_7 : List UInt8 := [180, 0, 67, 28, 46, 182, 1, 94, 42, 180, 0, 67, 27, 46, 54, 7, 3, 54, 8, 21, 8, 42]
abbrev dktX3_merge_7 : List UInt8 := dkwX3_merge_7 ++ dktX3_merge_8
def dkwX3_merge_6 : List UInt8 := [96, 181, 0, 255, 42, 42, 180, 0, 67, 27, 46, 182, 1, 2, 54, 6, 42, 3, 181, 1, 97, 42, 42]
abbrev dktX3_merge_6 : List UInt8 := dkwX3_merge_6 ++ dktX3_merge_7
def dkwX3_merge_5 : List UInt8 := [182, 1, 33, 154, 0, 9, 42, 7, 182, 1, 36, 172, 42, 182, 1, 39, 54, 5, 42, 89, 180, 0, 255, 4]
abbrev dktX3_merge_5 : List UInt8 := dkwX3_merge_5 ++ dktX3_merge_6
def dkwX3_merge_4 : List UInt8 := [54, 4, 132, 5, 1, 167, 255, 225, 21, 4, 16, 60, 164, 0, 9, 42, 6, 182, 1, 36, 172, 42]
abbrev dktX3_merge_4 : List UInt8 := dkwX3_merge_4 ++ dktX3_merge_5
def dkwX3_merge_3 : List UInt8 := [17, 3, 231, 163, 0, 29, 21, 4, 42, 180, 0, 95, 21, 5, 46, 154, 0, 7, 3, 167, 0, 4, 4, 96]
abbrev dktX3_merge_3 : List UInt8 := dkwX3_merge_3 ++ dktX3_merge_4
def dkwX3_merge_2 : List UInt8 := [180, 0, 67, 27, 46, 42, 180, 0, 67, 28, 46, 182, 1, 100, 3, 54, 4, 3, 54, 5, 21, 5]
abbrev dktX3_merge_2 : List UInt8 := dkwX3_merge_2 ++ dktX3_merge_3
def dkwX3_merge_1 : List UInt8 := [182, 1, 36, 172, 29, 133, 9, 20, 1, 49, 184, 0, 174, 154, 0, 9, 42, 4, 182, 1, 36, 172, 42, 42]
abbrev dktX3_merge_1 : List UInt8 := dkwX3_merge_1 ++ dktX3_merge_2
def dkwX3_merge_0 : List UInt8 := [42, 3, 181, 0, 116, 42, 27, 182, 1, 53, 153, 0, 11, 42, 28, 182, 1, 53, 154, 0, 9, 42, 3]
abbrev dktX3_merge_0 : List UInt8 := dkwX3_merge_0 ++ dktX3_merge_1
theorem dksX3_merge_0 : cX3_merge.data.toList.drop 0 = dktX3_merge_0 := by decide +kernel
theorem dksX3_merge_1 : cX3_merge.data.toList.drop 23 = dktX3_merge_1 := dk_seg dksX3_merge_0 23 rfl rfl
theorem dksX3_merge_2 : cX3_merge.data.toList.drop 47 = dktX3_merge_2 := dk_seg dksX3_merge_1 24 rfl rfl
theorem dksX3_merge_3 : cX3_merge.data.toList.drop 69 = dktX3_merge_3 := dk_seg dksX3_merge_2 22 rfl rfl
theorem dksX3_merge_4 : cX3_merge.data.toList.drop 93 = dktX3_merge_4 := dk_seg dksX3_merge_3 24 rfl rfl
theorem dksX3_merge_5 : cX3_merge.data.toList.drop 115 = dktX3_merge_5 := dk_seg dksX3_merge_4 22 rfl rfl
theorem dksX3_merge_6 : cX3_merge.data.toList.drop 139 = dktX3_merge_6 := dk_seg dksX3_merge_5 24 rfl rfl
theorem dksX3_merge_7 : cX3_merge.data.toList.drop 162 = dktX3_merge_7 := dk_seg dksX3_merge_6 23 rfl rfl
theorem dksX3_merge_8 : cX3_merge.data.toList.drop 184 = dktX3_merge_8 := dk_seg dksX3_merge_7 22 rfl rfl
theorem dksX3_merge_9 : cX3_merge.data.toList.drop 208 = dktX3_merge_9 := dk_seg dksX3_merge_8 24 rfl rfl
theorem dksX3_merge_10 : cX3_merge.data.toList.drop 231 = dktX3_merge_10 := dk_seg dksX3_merge_9 23 rfl rfl
theorem dksX3_merge_11 : cX3_merge.data.toList.drop 255 = dktX3_merge_11 := dk_seg dksX3_merge_10 24 rfl rfl
theorem dX3_merge_0 : decode cX3_merge 0 = .ok (.aload_n 0, 1) := dk_42 (dk_at dksX3_merge_0 0 rfl rfl)
theorem dX3_merge_1 : decode cX3_merge 1 = .ok (.iconst 0, 1) := dk_3 (dk_at dksX3_merge_0 1 rfl rfl)
theorem dX3_merge_2 : decode cX3_merge 2 = .ok (.putfield 116, 3) := dk_181 0 116 (dk_at dksX3_merge_0 2 rfl rfl)
theorem dX3_merge_5 : decode cX3_merge 5 = .ok (.aload_n 0, 1) := dk_42 (dk_at dksX3_merge_0 5 rfl rfl)
theorem dX3_merge_6 : decode cX3_merge 6 = .ok (.iload_n 1, 1) := dk_27 (dk_at dksX3_merge_0 6 rfl rfl)
theorem dX3_merge_7 : decode cX3_merge 7 = .ok (.invokevirtual 309, 3) := dk_182 1 53 (dk_at dksX3_merge_0 7 rfl rfl)
theorem dX3_merge_10 : decode cX3_merge 10 = .ok (.ifCond .eq 11, 3) := dk_153 0 11 (dk_at dksX3_merge_0 10 rfl rfl)
theorem dX3_merge_13 : decode cX3_merge 13 = .ok (.aload_n 0, 1) := dk_42 (dk_at dksX3_merge_0 13 rfl rfl)
theorem dX3_merge_14 : decode cX3_merge 14 = .ok (.iload_n 2, 1) := dk_28 (dk_at dksX3_merge_0 14 rfl rfl)
theorem dX3_merge_15 : decode cX3_merge 15 = .ok (.invokevirtual 309, 3) := dk_182 1 53 (dk_at dksX3_merge_0 15 rfl rfl)
theorem dX3_merge_18 : decode cX3_merge 18 = .ok (.ifCond .ne 9, 3) := dk_154 0 9 (dk_at dksX3_merge_0 18 rfl rfl)
theorem dX3_merge_21 : decode cX3_merge 21 = .ok (.aload_n 0, 1) := dk_42 (dk_at dksX3_merge_0 21 rfl rfl)
theorem dX3_merge_22 : decode cX3_merge 22 = .ok (.iconst 0, 1) := dk_3 (dk_at dksX3_merge_0 22 rfl rfl)
theorem dX3_merge_23 : decode cX3_merge 23 = .ok (.invokevirtual 292, 3) := dk_182 1 36 (dk_at dksX3_merge_1 0 rfl rfl)
theorem dX3_merge_26 : decode cX3_merge 26 = .ok (.ireturn, 1) := dk_172 (dk_at dksX3_merge_1 3 rfl rfl)
theorem dX3_merge_27 : decode cX3_merge 27 = .ok (.iload_n 3, 1) := dk_29 (dk_at dksX3_merge_1 4 rfl rfl)
theorem dX3_merge_28 : decode cX3_merge 28 = .ok (.i2l, 1) := dk_133 (dk_at dksX3_merge_1 5 rfl rfl)
theorem dX3_merge_29 : decode cX3_merge 29 = .ok (.lconst 0, 1) := dk_9 (dk_at dksX3_merge_1 6 rfl rfl)
theorem dX3_merge_30 : decode cX3_merge 30 = .ok (.ldc2_w 305, 3) := dk_20 1 49 (dk_at dksX3_merge_1 7 rfl rfl)
theorem dX3_merge_33 : decode cX3_merge 33 = .ok (.invokestatic 174, 3) := dk_184 0 174 (dk_at dksX3_merge_1 10 rfl rfl)
theorem dX3_merge_36 : decode cX3_merge 36 = .ok (.ifCond .ne 9, 3) := dk_154 0 9 (dk_at dksX3_merge_1 13 rfl rfl)
theorem dX3_merge_39 : decode cX3_merge 39 = .ok (.aload_n 0, 1) := dk_42 (dk_at dksX3_merge_1 16 rfl rfl)
theorem dX3_merge_40 : decode cX3_merge 40 = .ok (.iconst 1, 1) := dk_4 (dk_at dksX3_merge_1 17 rfl rfl)
theorem dX3_merge_41 : decode cX3_merge 41 = .ok (.invokevirtual 292, 3) := dk_182 1 36 (dk_at dksX3_merge_1 18 rfl rfl)
theorem dX3_merge_44 : decode cX3_merge 44 = .ok (.ireturn, 1) := dk_172 (dk_at dksX3_merge_1 21 rfl rfl)
theorem dX3_merge_45 : decode cX3_merge 45 = .ok (.aload_n 0, 1) := dk_42 (dk_at dksX3_merge_1 22 rfl rfl)
theorem dX3_merge_46 : decode cX3_merge 46 = .ok (.aload_n 0, 1) := dk_42 (dk_at dksX3_merge_1 23 rfl rfl)
theorem dX3_merge_47 : decode cX3_merge 47 = .ok (.getfield 67, 3) := dk_180 0 67 (dk_at dksX3_merge_2 0 rfl rfl)
theorem dX3_merge_50 : decode cX3_merge 50 = .ok (.iload_n 1, 1) := dk_27 (dk_at dksX3_merge_2 3 rfl rfl)
theorem dX3_merge_51 : decode cX3_merge 51 = .ok (.iaload, 1) := dk_46 (dk_at dksX3_merge_2 4 rfl rfl)
theorem dX3_merge_52 : decode cX3_merge 52 = .ok (.aload_n 0, 1) := dk_42 (dk_at dksX3_merge_2 5 rfl rfl)
theorem dX3_merge_53 : decode cX3_merge 53 = .ok (.getfield 67, 3) := dk_180 0 67 (dk_at dksX3_merge_2 6 rfl rfl)
theorem dX3_merge_56 : decode cX3_merge 56 = .ok (.iload_n 2, 1) := dk_28 (dk_at dksX3_merge_2 9 rfl rfl)
theorem dX3_merge_57 : decode cX3_merge 57 = .ok (.iaload, 1) := dk_46 (dk_at dksX3_merge_2 10 rfl rfl)
theorem dX3_merge_58 : decode cX3_merge 58 = .ok (.invokevirtual 356, 3) := dk_182 1 100 (dk_at dksX3_merge_2 11 rfl rfl)
theorem dX3_merge_61 : decode cX3_merge 61 = .ok (.iconst 0, 1) := dk_3 (dk_at dksX3_merge_2 14 rfl rfl)
theorem dX3_merge_62 : decode cX3_merge 62 = .ok (.istore 4, 2) := dk_54 4 (dk_at dksX3_merge_2 15 rfl rfl)
theorem dX3_merge_64 : decode cX3_merge 64 = .ok (.iconst 0, 1) := dk_3 (dk_at dksX3_merge_2 17 rfl rfl)
theorem dX3_merge_65 : decode cX3_merge 65 = .ok (.istore 5, 2) := dk_54 5 (dk_at dksX3_merge_2 18 rfl rfl)
theorem dX3_merge_67 : decode cX3_merge 67 = .ok (.iload 5, 2) := dk_21 5 (dk_at dksX3_merge_2 20 rfl rfl)
theorem dX3_merge_69 : decode cX3_merge 69 = .ok (.sipush 999, 3) := dk_17 3 231 (dk_at dksX3_merge_3 0 rfl rfl)
theorem dX3_merge_72 : decode cX3_merge 72 = .ok (.if_icmp .gt 29, 3) := dk_163 0 29 (dk_at dksX3_merge_3 3 rfl rfl)
theorem dX3_merge_75 : decode cX3_merge 75 = .ok (.iload 4, 2) := dk_21 4 (dk_at dksX3_merge_3 6 rfl rfl)
theorem dX3_merge_77 : decode cX3_merge 77 = .ok (.aload_n 0, 1) := dk_42 (dk_at dksX3_merge_3 8 rfl rfl)
theorem dX3_merge_78 : decode cX3_merge 78 = .ok (.getfield 95, 3) := dk_180 0 95 (dk_at dksX3_merge_3 9 rfl rfl)
theorem dX3_merge_81 : decode cX3_merge 81 = .ok (.iload 5, 2) := dk_21 5 (dk_at dksX3_merge_3 12 rfl rfl)
theorem dX3_merge_83 : decode cX3_merge 83 = .ok (.iaload, 1) := dk_46 (dk_at dksX3_merge_3 14 rfl rfl)
theorem dX3_merge_84 : decode cX3_merge 84 = .ok (.ifCond .ne 7, 3) := dk_154 0 7 (dk_at dksX3_merge_3 15 rfl rfl)
theorem dX3_merge_87 : decode cX3_merge 87 = .ok (.iconst 0, 1) := dk_3 (dk_at dksX3_merge_3 18 rfl rfl)
theorem dX3_merge_88 : decode cX3_merge 88 = .ok (.goto 4, 3) := dk_167 0 4 (dk_at dksX3_merge_3 19 rfl rfl)
theorem dX3_merge_91 : decode cX3_merge 91 = .ok (.iconst 1, 1) := dk_4 (dk_at dksX3_merge_3 22 rfl rfl)
theorem dX3_merge_92 : decode cX3_merge 92 = .ok (.iadd, 1) := dk_96 (dk_at dksX3_merge_3 23 rfl rfl)
theorem dX3_merge_93 : decode cX3_merge 93 = .ok (.istore 4, 2) := dk_54 4 (dk_at dksX3_merge_4 0 rfl rfl)
theorem dX3_merge_95 : decode cX3_merge 95 = .ok (.iinc 5 1, 3) := dk_132 5 1 (dk_at dksX3_merge_4 2 rfl rfl)
theorem dX3_merge_98 : decode cX3_merge 98 = .ok (.goto (-31), 3) := dk_167 255 225 (dk_at dksX3_merge_4 5 rfl rfl)
theorem dX3_merge_101 : decode cX3_merge 101 = .ok (.iload 4, 2) := dk_21 4 (dk_at dksX3_merge_4 8 rfl rfl)
theorem dX3_merge_103 : decode cX3_merge 103 = .ok (.bipush 60, 2) := dk_16 60 (dk_at dksX3_merge_4 10 rfl rfl)
theorem dX3_merge_105 : decode cX3_merge 105 = .ok (.if_icmp .le 9, 3) := dk_164 0 9 (dk_at dksX3_merge_4 12 rfl rfl)
theorem dX3_merge_108 : decode cX3_merge 108 = .ok (.aload_n 0, 1) := dk_42 (dk_at dksX3_merge_4 15 rfl rfl)
theorem dX3_merge_109 : decode cX3_merge 109 = .ok (.iconst 3, 1) := dk_6 (dk_at dksX3_merge_4 16 rfl rfl)
theorem dX3_merge_110 : decode cX3_merge 110 = .ok (.invokevirtual 292, 3) := dk_182 1 36 (dk_at dksX3_merge_4 17 rfl rfl)
theorem dX3_merge_113 : decode cX3_merge 113 = .ok (.ireturn, 1) := dk_172 (dk_at dksX3_merge_4 20 rfl rfl)
theorem dX3_merge_114 : decode cX3_merge 114 = .ok (.aload_n 0, 1) := dk_42 (dk_at dksX3_merge_4 21 rfl rfl)
theorem dX3_merge_115 : decode cX3_merge 115 = .ok (.invokevirtual 289, 3) := dk_182 1 33 (dk_at dksX3_merge_5 0 rfl rfl)
theorem dX3_merge_118 : decode cX3_merge 118 = .ok (.ifCond .ne 9, 3) := dk_154 0 9 (dk_at dksX3_merge_5 3 rfl rfl)
theorem dX3_merge_121 : decode cX3_merge 121 = .ok (.aload_n 0, 1) := dk_42 (dk_at dksX3_merge_5 6 rfl rfl)
theorem dX3_merge_122 : decode cX3_merge 122 = .ok (.iconst 4, 1) := dk_7 (dk_at dksX3_merge_5 7 rfl rfl)
theorem dX3_merge_123 : decode cX3_merge 123 = .ok (.invokevirtual 292, 3) := dk_182 1 36 (dk_at dksX3_merge_5 8 rfl rfl)
theorem dX3_merge_126 : decode cX3_merge 126 = .ok (.ireturn, 1) := dk_172 (dk_at dksX3_merge_5 11 rfl rfl)
theorem dX3_merge_127 : decode cX3_merge 127 = .ok (.aload_n 0, 1) := dk_42 (dk_at dksX3_merge_5 12 rfl rfl)
theorem dX3_merge_128 : decode cX3_merge 128 = .ok (.invokevirtual 295, 3) := dk_182 1 39 (dk_at dksX3_merge_5 13 rfl rfl)
theorem dX3_merge_131 : decode cX3_merge 131 = .ok (.istore 5, 2) := dk_54 5 (dk_at dksX3_merge_5 16 rfl rfl)
theorem dX3_merge_133 : decode cX3_merge 133 = .ok (.aload_n 0, 1) := dk_42 (dk_at dksX3_merge_5 18 rfl rfl)
theorem dX3_merge_134 : decode cX3_merge 134 = .ok (.dup, 1) := dk_89 (dk_at dksX3_merge_5 19 rfl rfl)
theorem dX3_merge_135 : decode cX3_merge 135 = .ok (.getfield 255, 3) := dk_180 0 255 (dk_at dksX3_merge_5 20 rfl rfl)
theorem dX3_merge_138 : decode cX3_merge 138 = .ok (.iconst 1, 1) := dk_4 (dk_at dksX3_merge_5 23 rfl rfl)
theorem dX3_merge_139 : decode cX3_merge 139 = .ok (.iadd, 1) := dk_96 (dk_at dksX3_merge_6 0 rfl rfl)
theorem dX3_merge_140 : decode cX3_merge 140 = .ok (.putfield 255, 3) := dk_181 0 255 (dk_at dksX3_merge_6 1 rfl rfl)
theorem dX3_merge_143 : decode cX3_merge 143 = .ok (.aload_n 0, 1) := dk_42 (dk_at dksX3_merge_6 4 rfl rfl)
theorem dX3_merge_144 : decode cX3_merge 144 = .ok (.aload_n 0, 1) := dk_42 (dk_at dksX3_merge_6 5 rfl rfl)
theorem dX3_merge_145 : decode cX3_merge 145 = .ok (.getfield 67, 3) := dk_180 0 67 (dk_at dksX3_merge_6 6 rfl rfl)
theorem dX3_merge_148 : decode cX3_merge 148 = .ok (.iload_n 1, 1) := dk_27 (dk_at dksX3_merge_6 9 rfl rfl)
theorem dX3_merge_149 : decode cX3_merge 149 = .ok (.iaload, 1) := dk_46 (dk_at dksX3_merge_6 10 rfl rfl)
theorem dX3_merge_150 : decode cX3_merge 150 = .ok (.invokevirtual 258, 3) := dk_182 1 2 (dk_at dksX3_merge_6 11 rfl rfl)
theorem dX3_merge_153 : decode cX3_merge 153 = .ok (.istore 6, 2) := dk_54 6 (dk_at dksX3_merge_6 14 rfl rfl)
theorem dX3_merge_155 : decode cX3_merge 155 = .ok (.aload_n 0, 1) := dk_42 (dk_at dksX3_merge_6 16 rfl rfl)
theorem dX3_merge_156 : decode cX3_merge 156 = .ok (.iconst 0, 1) := dk_3 (dk_at dksX3_merge_6 17 rfl rfl)
theorem dX3_merge_157 : decode cX3_merge 157 = .ok (.putfield 353, 3) := dk_181 1 97 (dk_at dksX3_merge_6 18 rfl rfl)
theorem dX3_merge_160 : decode cX3_merge 160 = .ok (.aload_n 0, 1) := dk_42 (dk_at dksX3_merge_6 21 rfl rfl)
theorem dX3_merge_161 : decode cX3_merge 161 = .ok (.aload_n 0, 1) := dk_42 (dk_at dksX3_merge_6 22 rfl rfl)
theorem dX3_merge_162 : decode cX3_merge 162 = .ok (.getfield 67, 3) := dk_180 0 67 (dk_at dksX3_merge_7 0 rfl rfl)
theorem dX3_merge_165 : decode cX3_merge 165 = .ok (.iload_n 2, 1) := dk_28 (dk_at dksX3_merge_7 3 rfl rfl)
theorem dX3_merge_166 : decode cX3_merge 166 = .ok (.iaload, 1) := dk_46 (dk_at dksX3_merge_7 4 rfl rfl)
theorem dX3_merge_167 : decode cX3_merge 167 = .ok (.invokevirtual 350, 3) := dk_182 1 94 (dk_at dksX3_merge_7 5 rfl rfl)
theorem dX3_merge_170 : decode cX3_merge 170 = .ok (.aload_n 0, 1) := dk_42 (dk_at dksX3_merge_7 8 rfl rfl)
theorem dX3_merge_171 : decode cX3_merge 171 = .ok (.getfield 67, 3) := dk_180 0 67 (dk_at dksX3_merge_7 9 rfl rfl)
theorem dX3_merge_174 : decode cX3_merge 174 = .ok (.iload_n 1, 1) := dk_27 (dk_at dksX3_merge_7 12 rfl rfl)
theorem dX3_merge_175 : decode cX3_merge 175 = .ok (.iaload, 1) := dk_46 (dk_at dksX3_merge_7 13 rfl rfl)
theorem dX3_merge_176 : decode cX3_merge 176 = .ok (.istore 7, 2) := dk_54 7 (dk_at dksX3_merge_7 14 rfl rfl)
theorem dX3_merge_178 : decode cX3_merge 178 = .ok (.iconst 0, 1) := dk_3 (dk_at dksX3_merge_7 16 rfl rfl)
theorem dX3_merge_179 : decode cX3_merge 179 = .ok (.istore 8, 2) := dk_54 8 (dk_at dksX3_merge_7 17 rfl rfl)
theorem dX3_merge_181 : decode cX3_merge 181 = .ok (.iload 8, 2) := dk_21 8 (dk_at dksX3_merge_7 19 rfl rfl)
theorem dX3_merge_183 : decode cX3_merge 183 = .ok (.aload_n 0, 1) := dk_42 (dk_at dksX3_merge_7 21 rfl rfl)
theorem dX3_merge_184 : decode cX3_merge 184 = .ok (.getfield 353, 3) := dk_180 1 97 (dk_at dksX3_merge_8 0 rfl rfl)
theorem dX3_merge_187 : decode cX3_merge 187 = .ok (.if_icmp .ge 74, 3) := dk_162 0 74 (dk_at dksX3_merge_8 3 rfl rfl)
theorem dX3_merge_190 : decode cX3_merge 190 = .ok (.aload_n 0, 1) := dk_42 (dk_at dksX3_merge_8 6 rfl rfl)
theorem dX3_merge_191 : decode cX3_merge 191 = .ok (.getfield 101, 3) := dk_180 0 101 (dk_at dksX3_merge_8 7 rfl rfl)
theorem dX3_merge_194 : decode cX3_merge 194 = .ok (.iload 8, 2) := dk_21 8 (dk_at dksX3_merge_8 10 rfl rfl)
theorem dX3_merge_196 : decode cX3_merge 196 = .ok (.iaload, 1) := dk_46 (dk_at dksX3_merge_8 12 rfl rfl)
theorem dX3_merge_197 : decode cX3_merge 197 = .ok (.istore 9, 2) := dk_54 9 (dk_at dksX3_merge_8 13 rfl rfl)
theorem dX3_merge_199 : decode cX3_merge 199 = .ok (.aload_n 0, 1) := dk_42 (dk_at dksX3_merge_8 15 rfl rfl)
theorem dX3_merge_200 : decode cX3_merge 200 = .ok (.iload 7, 2) := dk_21 7 (dk_at dksX3_merge_8 16 rfl rfl)
theorem dX3_merge_202 : decode cX3_merge 202 = .ok (.iload 9, 2) := dk_21 9 (dk_at dksX3_merge_8 18 rfl rfl)
theorem dX3_merge_204 : decode cX3_merge 204 = .ok (.aload_n 0, 1) := dk_42 (dk_at dksX3_merge_8 20 rfl rfl)
theorem dX3_merge_205 : decode cX3_merge 205 = .ok (.getfield 95, 3) := dk_180 0 95 (dk_at dksX3_merge_8 21 rfl rfl)
theorem dX3_merge_208 : decode cX3_merge 208 = .ok (.iload 9, 2) := dk_21 9 (dk_at dksX3_merge_9 0 rfl rfl)
theorem dX3_merge_210 : decode cX3_merge 210 = .ok (.iaload, 1) := dk_46 (dk_at dksX3_merge_9 2 rfl rfl)
theorem dX3_merge_211 : decode cX3_merge 211 = .ok (.iconst 0, 1) := dk_3 (dk_at dksX3_merge_9 3 rfl rfl)
theorem dX3_merge_212 : decode cX3_merge 212 = .ok (.invokestatic 271, 3) := dk_184 1 15 (dk_at dksX3_merge_9 4 rfl rfl)
theorem dX3_merge_215 : decode cX3_merge 215 = .ok (.ifCond .eq 26, 3) := dk_153 0 26 (dk_at dksX3_merge_9 7 rfl rfl)
theorem dX3_merge_218 : decode cX3_merge 218 = .ok (.aload_n 0, 1) := dk_42 (dk_at dksX3_merge_9 10 rfl rfl)
theorem dX3_merge_219 : decode cX3_merge 219 = .ok (.getfield 98, 3) := dk_180 0 98 (dk_at dksX3_merge_9 11 rfl rfl)
theorem dX3_merge_222 : decode cX3_merge 222 = .ok (.iconst 3, 1) := dk_6 (dk_at dksX3_merge_9 14 rfl rfl)
theorem dX3_merge_223 : decode cX3_merge 223 = .ok (.iload 9, 2) := dk_21 9 (dk_at dksX3_merge_9 15 rfl rfl)
theorem dX3_merge_225 : decode cX3_merge 225 = .ok (.imul, 1) := dk_104 (dk_at dksX3_merge_9 17 rfl rfl)
theorem dX3_merge_226 : decode cX3_merge 226 = .ok (.iaload, 1) := dk_46 (dk_at dksX3_merge_9 18 rfl rfl)
theorem dX3_merge_227 : decode cX3_merge 227 = .ok (.aload_n 0, 1) := dk_42 (dk_at dksX3_merge_9 19 rfl rfl)
theorem dX3_merge_228 : decode cX3_merge 228 = .ok (.getfield 104, 3) := dk_180 0 104 (dk_at dksX3_merge_9 20 rfl rfl)
theorem dX3_merge_231 : decode cX3_merge 231 = .ok (.iload 8, 2) := dk_21 8 (dk_at dksX3_merge_10 0 rfl rfl)
theorem dX3_merge_233 : decode cX3_merge 233 = .ok (.iaload, 1) := dk_46 (dk_at dksX3_merge_10 2 rfl rfl)
theorem dX3_merge_234 : decode cX3_merge 234 = .ok (.iload_n 3, 1) := dk_29 (dk_at dksX3_merge_10 3 rfl rfl)
theorem dX3_merge_235 : decode cX3_merge 235 = .ok (.invokestatic 359, 3) := dk_184 1 103 (dk_at dksX3_merge_10 4 rfl rfl)
theorem dX3_merge_238 : decode cX3_merge 238 = .ok (.goto 10, 3) := dk_167 0 10 (dk_at dksX3_merge_10 7 rfl rfl)
theorem dX3_merge_241 : decode cX3_merge 241 = .ok (.aload_n 0, 1) := dk_42 (dk_at dksX3_merge_10 10 rfl rfl)
theorem dX3_merge_242 : decode cX3_merge 242 = .ok (.getfield 104, 3) := dk_180 0 104 (dk_at dksX3_merge_10 11 rfl rfl)
theorem dX3_merge_245 : decode cX3_merge 245 = .ok (.iload 8, 2) := dk_21 8 (dk_at dksX3_merge_10 14 rfl rfl)
theorem dX3_merge_247 : decode cX3_merge 247 = .ok (.iaload, 1) := dk_46 (dk_at dksX3_merge_10 16 rfl rfl)
theorem dX3_merge_248 : decode cX3_merge 248 = .ok (.iload 5, 2) := dk_21 5 (dk_at dksX3_merge_10 17 rfl rfl)
theorem dX3_merge_250 : decode cX3_merge 250 = .ok (.invokevirtual 298, 3) := dk_182 1 42 (dk_at dksX3_merge_10 19 rfl rfl)
theorem dX3_merge_253 : decode cX3_merge 253 = .ok (.istore 7, 2) := dk_54 7 (dk_at dksX3_merge_10 22 rfl rfl)
theorem dX3_merge_255 : decode cX3_merge 255 = .ok (.iinc 8 1, 3) := dk_132 8 1 (dk_at dksX3_merge_11 0 rfl rfl)
theorem dX3_merge_258 : decode cX3_merge 258 = .ok (.goto (-77), 3) := dk_167 255 179 (dk_at dksX3_merge_11 3 rfl rfl)
theorem dX3_merge_261 : decode cX3_merge 261 = .ok (.aload_n 0, 1) := dk_42 (dk_at dksX3_merge_11 6 rfl rfl)
theorem dX3_merge_262 : decode cX3_merge 262 = .ok (.iload 7, 2) := dk_21 7 (dk_at dksX3_merge_11 7 rfl rfl)
theorem dX3_merge_264 : decode cX3_merge 264 = .ok (.iload_n 1, 1) := dk_27 (dk_at dksX3_merge_11 9 rfl rfl)
theorem dX3_merge_265 : decode cX3_merge 265 = .ok (.iload_n 2, 1) := dk_28 (dk_at dksX3_merge_11 10 rfl rfl)
theorem dX3_merge_266 : decode cX3_merge 266 = .ok (.invokevirtual 302, 3) := dk_182 1 46 (dk_at dksX3_merge_11 11 rfl rfl)
theorem dX3_merge_269 : decode cX3_merge 269 = .ok (.ireturn, 1) := dk_172 (dk_at dksX3_merge_11 14 rfl rfl)
abbrev cX3_laysTwo : ByteArray := prog_9_method_62_code
def yX3_laysTwo : MethodName := ⟨RX3, "laysTwo", "(II)V"⟩
def dkwX3_laysTwo_1 : List UInt8 := [3, 182, 1, 86, 42, 28, 4, 182, 1, 86, 177]
abbrev dktX3_laysTwo_1 : List UInt8 := dkwX3_laysTwo_1 ++ []
def dkwX3_laysTwo_0 : List UInt8 := [3, 62, 29, 17, 3, 231, 163, 0, 16, 42, 180, 0, 95, 29, 3, 79, 132, 3, 1, 167, 255, 239, 42, 27]
abbrev dktX3_laysTwo_0 : List UInt8 := dkwX3_laysTwo_0 ++ dktX3_laysTwo_1
theorem dksX3_laysTwo_0 : cX3_laysTwo.data.toList.drop 0 = dktX3_laysTwo_0 := by decide +kernel
theorem dksX3_laysTwo_1 : cX3_laysTwo.data.toList.drop 24 = dktX3_laysTwo_1 := dk_seg dksX3_laysTwo_0 24 rfl rfl
theorem dX3_laysTwo_0 : decode cX3_laysTwo 0 = .ok (.iconst 0, 1) := dk_3 (dk_at dksX3_laysTwo_0 0 rfl rfl)
theorem dX3_laysTwo_1 : decode cX3_laysTwo 1 = .ok (.istore_n 3, 1) := dk_62 (dk_at dksX3_laysTwo_0 1 rfl rfl)
theorem dX3_laysTwo_2 : decode cX3_laysTwo 2 = .ok (.iload_n 3, 1) := dk_29 (dk_at dksX3_laysTwo_0 2 rfl rfl)
theorem dX3_laysTwo_3 : decode cX3_laysTwo 3 = .ok (.sipush 999, 3) := dk_17 3 231 (dk_at dksX3_laysTwo_0 3 rfl rfl)
theorem dX3_laysTwo_6 : decode cX3_laysTwo 6 = .ok (.if_icmp .gt 16, 3) := dk_163 0 16 (dk_at dksX3_laysTwo_0 6 rfl rfl)
theorem dX3_laysTwo_9 : decode cX3_laysTwo 9 = .ok (.aload_n 0, 1) := dk_42 (dk_at dksX3_laysTwo_0 9 rfl rfl)
theorem dX3_laysTwo_10 : decode cX3_laysTwo 10 = .ok (.getfield 95, 3) := dk_180 0 95 (dk_at dksX3_laysTwo_0 10 rfl rfl)
theorem dX3_laysTwo_13 : decode cX3_laysTwo 13 = .ok (.iload_n 3, 1) := dk_29 (dk_at dksX3_laysTwo_0 13 rfl rfl)
theorem dX3_laysTwo_14 : decode cX3_laysTwo 14 = .ok (.iconst 0, 1) := dk_3 (dk_at dksX3_laysTwo_0 14 rfl rfl)
theorem dX3_laysTwo_15 : decode cX3_laysTwo 15 = .ok (.iastore, 1) := dk_79 (dk_at dksX3_laysTwo_0 15 rfl rfl)
theorem dX3_laysTwo_16 : decode cX3_laysTwo 16 = .ok (.iinc 3 1, 3) := dk_132 3 1 (dk_at dksX3_laysTwo_0 16 rfl rfl)
theorem dX3_laysTwo_19 : decode cX3_laysTwo 19 = .ok (.goto (-17), 3) := dk_167 255 239 (dk_at dksX3_laysTwo_0 19 rfl rfl)
theorem dX3_laysTwo_22 : decode cX3_laysTwo 22 = .ok (.aload_n 0, 1) := dk_42 (dk_at dksX3_laysTwo_0 22 rfl rfl)
theorem dX3_laysTwo_23 : decode cX3_laysTwo 23 = .ok (.iload_n 1, 1) := dk_27 (dk_at dksX3_laysTwo_0 23 rfl rfl)
theorem dX3_laysTwo_24 : decode cX3_laysTwo 24 = .ok (.iconst 0, 1) := dk_3 (dk_at dksX3_laysTwo_1 0 rfl rfl)
theorem dX3_laysTwo_25 : decode cX3_laysTwo 25 = .ok (.invokevirtual 342, 3) := dk_182 1 86 (dk_at dksX3_laysTwo_1 1 rfl rfl)
theorem dX3_laysTwo_28 : decode cX3_laysTwo 28 = .ok (.aload_n 0, 1) := dk_42 (dk_at dksX3_laysTwo_1 4 rfl rfl)
theorem dX3_laysTwo_29 : decode cX3_laysTwo 29 = .ok (.iload_n 2, 1) := dk_28 (dk_at dksX3_laysTwo_1 5 rfl rfl)
theorem dX3_laysTwo_30 : decode cX3_laysTwo 30 = .ok (.iconst 1, 1) := dk_4 (dk_at dksX3_laysTwo_1 6 rfl rfl)
theorem dX3_laysTwo_31 : decode cX3_laysTwo 31 = .ok (.invokevirtual 342, 3) := dk_182 1 86 (dk_at dksX3_laysTwo_1 7 rfl rfl)
theorem dX3_laysTwo_34 : decode cX3_laysTwo 34 = .ok (.return_, 1) := dk_177 (dk_at dksX3_laysTwo_1 10 rfl rfl)
abbrev cX3_laysThere : ByteArray := prog_9_method_61_code
def yX3_laysThere : MethodName := ⟨RX3, "laysThere", "(II)V"⟩
def dkwX3_laysThere_2 : List UInt8 := [180, 0, 58, 29, 46, 79, 132, 3, 1, 167, 255, 207, 177]
abbrev dktX3_laysThere_2 : List UInt8 := dkwX3_laysThere_2 ++ []
def dkwX3_laysThere_1 : List UInt8 := [46, 92, 46, 4, 28, 120, 128, 79, 42, 180, 0, 98, 6, 42, 180, 0, 55, 29, 46, 104, 28, 96, 42]
abbrev dktX3_laysThere_1 : List UInt8 := dkwX3_laysThere_1 ++ dktX3_laysThere_2
def dkwX3_laysThere_0 : List UInt8 := [42, 27, 182, 0, 252, 3, 62, 29, 42, 180, 0, 249, 162, 0, 47, 42, 180, 0, 95, 42, 180, 0, 55, 29]
abbrev dktX3_laysThere_0 : List UInt8 := dkwX3_laysThere_0 ++ dktX3_laysThere_1
theorem dksX3_laysThere_0 : cX3_laysThere.data.toList.drop 0 = dktX3_laysThere_0 := by decide +kernel
theorem dksX3_laysThere_1 : cX3_laysThere.data.toList.drop 24 = dktX3_laysThere_1 := dk_seg dksX3_laysThere_0 24 rfl rfl
theorem dksX3_laysThere_2 : cX3_laysThere.data.toList.drop 47 = dktX3_laysThere_2 := dk_seg dksX3_laysThere_1 23 rfl rfl
theorem dX3_laysThere_0 : decode cX3_laysThere 0 = .ok (.aload_n 0, 1) := dk_42 (dk_at dksX3_laysThere_0 0 rfl rfl)
theorem dX3_laysThere_1 : decode cX3_laysThere 1 = .ok (.iload_n 1, 1) := dk_27 (dk_at dksX3_laysThere_0 1 rfl rfl)
theorem dX3_laysThere_2 : decode cX3_laysThere 2 = .ok (.invokevirtual 252, 3) := dk_182 0 252 (dk_at dksX3_laysThere_0 2 rfl rfl)
theorem dX3_laysThere_5 : decode cX3_laysThere 5 = .ok (.iconst 0, 1) := dk_3 (dk_at dksX3_laysThere_0 5 rfl rfl)
theorem dX3_laysThere_6 : decode cX3_laysThere 6 = .ok (.istore_n 3, 1) := dk_62 (dk_at dksX3_laysThere_0 6 rfl rfl)
theorem dX3_laysThere_7 : decode cX3_laysThere 7 = .ok (.iload_n 3, 1) := dk_29 (dk_at dksX3_laysThere_0 7 rfl rfl)
theorem dX3_laysThere_8 : decode cX3_laysThere 8 = .ok (.aload_n 0, 1) := dk_42 (dk_at dksX3_laysThere_0 8 rfl rfl)
theorem dX3_laysThere_9 : decode cX3_laysThere 9 = .ok (.getfield 249, 3) := dk_180 0 249 (dk_at dksX3_laysThere_0 9 rfl rfl)
theorem dX3_laysThere_12 : decode cX3_laysThere 12 = .ok (.if_icmp .ge 47, 3) := dk_162 0 47 (dk_at dksX3_laysThere_0 12 rfl rfl)
theorem dX3_laysThere_15 : decode cX3_laysThere 15 = .ok (.aload_n 0, 1) := dk_42 (dk_at dksX3_laysThere_0 15 rfl rfl)
theorem dX3_laysThere_16 : decode cX3_laysThere 16 = .ok (.getfield 95, 3) := dk_180 0 95 (dk_at dksX3_laysThere_0 16 rfl rfl)
theorem dX3_laysThere_19 : decode cX3_laysThere 19 = .ok (.aload_n 0, 1) := dk_42 (dk_at dksX3_laysThere_0 19 rfl rfl)
theorem dX3_laysThere_20 : decode cX3_laysThere 20 = .ok (.getfield 55, 3) := dk_180 0 55 (dk_at dksX3_laysThere_0 20 rfl rfl)
theorem dX3_laysThere_23 : decode cX3_laysThere 23 = .ok (.iload_n 3, 1) := dk_29 (dk_at dksX3_laysThere_0 23 rfl rfl)
theorem dX3_laysThere_24 : decode cX3_laysThere 24 = .ok (.iaload, 1) := dk_46 (dk_at dksX3_laysThere_1 0 rfl rfl)
theorem dX3_laysThere_25 : decode cX3_laysThere 25 = .ok (.dup2, 1) := dk_92 (dk_at dksX3_laysThere_1 1 rfl rfl)
theorem dX3_laysThere_26 : decode cX3_laysThere 26 = .ok (.iaload, 1) := dk_46 (dk_at dksX3_laysThere_1 2 rfl rfl)
theorem dX3_laysThere_27 : decode cX3_laysThere 27 = .ok (.iconst 1, 1) := dk_4 (dk_at dksX3_laysThere_1 3 rfl rfl)
theorem dX3_laysThere_28 : decode cX3_laysThere 28 = .ok (.iload_n 2, 1) := dk_28 (dk_at dksX3_laysThere_1 4 rfl rfl)
theorem dX3_laysThere_29 : decode cX3_laysThere 29 = .ok (.ishl, 1) := dk_120 (dk_at dksX3_laysThere_1 5 rfl rfl)
theorem dX3_laysThere_30 : decode cX3_laysThere 30 = .ok (.ior, 1) := dk_128 (dk_at dksX3_laysThere_1 6 rfl rfl)
theorem dX3_laysThere_31 : decode cX3_laysThere 31 = .ok (.iastore, 1) := dk_79 (dk_at dksX3_laysThere_1 7 rfl rfl)
theorem dX3_laysThere_32 : decode cX3_laysThere 32 = .ok (.aload_n 0, 1) := dk_42 (dk_at dksX3_laysThere_1 8 rfl rfl)
theorem dX3_laysThere_33 : decode cX3_laysThere 33 = .ok (.getfield 98, 3) := dk_180 0 98 (dk_at dksX3_laysThere_1 9 rfl rfl)
theorem dX3_laysThere_36 : decode cX3_laysThere 36 = .ok (.iconst 3, 1) := dk_6 (dk_at dksX3_laysThere_1 12 rfl rfl)
theorem dX3_laysThere_37 : decode cX3_laysThere 37 = .ok (.aload_n 0, 1) := dk_42 (dk_at dksX3_laysThere_1 13 rfl rfl)
theorem dX3_laysThere_38 : decode cX3_laysThere 38 = .ok (.getfield 55, 3) := dk_180 0 55 (dk_at dksX3_laysThere_1 14 rfl rfl)
theorem dX3_laysThere_41 : decode cX3_laysThere 41 = .ok (.iload_n 3, 1) := dk_29 (dk_at dksX3_laysThere_1 17 rfl rfl)
theorem dX3_laysThere_42 : decode cX3_laysThere 42 = .ok (.iaload, 1) := dk_46 (dk_at dksX3_laysThere_1 18 rfl rfl)
theorem dX3_laysThere_43 : decode cX3_laysThere 43 = .ok (.imul, 1) := dk_104 (dk_at dksX3_laysThere_1 19 rfl rfl)
theorem dX3_laysThere_44 : decode cX3_laysThere 44 = .ok (.iload_n 2, 1) := dk_28 (dk_at dksX3_laysThere_1 20 rfl rfl)
theorem dX3_laysThere_45 : decode cX3_laysThere 45 = .ok (.iadd, 1) := dk_96 (dk_at dksX3_laysThere_1 21 rfl rfl)
theorem dX3_laysThere_46 : decode cX3_laysThere 46 = .ok (.aload_n 0, 1) := dk_42 (dk_at dksX3_laysThere_1 22 rfl rfl)
theorem dX3_laysThere_47 : decode cX3_laysThere 47 = .ok (.getfield 58, 3) := dk_180 0 58 (dk_at dksX3_laysThere_2 0 rfl rfl)
theorem dX3_laysThere_50 : decode cX3_laysThere 50 = .ok (.iload_n 3, 1) := dk_29 (dk_at dksX3_laysThere_2 3 rfl rfl)
theorem dX3_laysThere_51 : decode cX3_laysThere 51 = .ok (.iaload, 1) := dk_46 (dk_at dksX3_laysThere_2 4 rfl rfl)
theorem dX3_laysThere_52 : decode cX3_laysThere 52 = .ok (.iastore, 1) := dk_79 (dk_at dksX3_laysThere_2 5 rfl rfl)
theorem dX3_laysThere_53 : decode cX3_laysThere 53 = .ok (.iinc 3 1, 3) := dk_132 3 1 (dk_at dksX3_laysThere_2 6 rfl rfl)
theorem dX3_laysThere_56 : decode cX3_laysThere 56 = .ok (.goto (-49), 3) := dk_167 255 207 (dk_at dksX3_laysThere_2 9 rfl rfl)
theorem dX3_laysThere_59 : decode cX3_laysThere 59 = .ok (.return_, 1) := dk_177 (dk_at dksX3_laysThere_2 12 rfl rfl)
abbrev cX3_laysOwn : ByteArray := prog_9_method_65_code
def yX3_laysOwn : MethodName := ⟨RX3, "laysOwn", "(I)V"⟩
def dkwX3_laysOwn_4 : List UInt8 := [4, 96, 181, 1, 97, 132, 2, 1, 167, 255, 171, 177]
abbrev dktX3_laysOwn_4 : List UInt8 := dkwX3_laysOwn_4 ++ []
def dkwX3_laysOwn_3 : List UInt8 := [180, 0, 104, 42, 180, 1, 97, 42, 180, 0, 42, 16, 7, 27, 104, 28, 96, 46, 79, 42, 89, 180, 1, 97]
abbrev dktX3_laysOwn_3 : List UInt8 := dkwX3_laysOwn_3 ++ dktX3_laysOwn_4
def dkwX3_laysOwn_2 : List UInt8 := [167, 0, 53, 42, 180, 0, 101, 42, 180, 1, 97, 42, 180, 0, 39, 16, 7, 27, 104, 28, 96, 46, 79, 42]
abbrev dktX3_laysOwn_2 : List UInt8 := dkwX3_laysOwn_2 ++ dktX3_laysOwn_3
def dkwX3_laysOwn_1 : List UInt8 := [162, 0, 81, 42, 180, 0, 23, 27, 46, 154, 0, 16, 42, 42, 27, 28, 182, 0, 197, 182, 1, 94]
abbrev dktX3_laysOwn_1 : List UInt8 := dkwX3_laysOwn_1 ++ dktX3_laysOwn_2
def dkwX3_laysOwn_0 : List UInt8 := [42, 180, 0, 32, 27, 46, 42, 180, 0, 255, 160, 0, 4, 177, 3, 61, 28, 42, 180, 0, 26, 27, 46]
abbrev dktX3_laysOwn_0 : List UInt8 := dkwX3_laysOwn_0 ++ dktX3_laysOwn_1
theorem dksX3_laysOwn_0 : cX3_laysOwn.data.toList.drop 0 = dktX3_laysOwn_0 := by decide +kernel
theorem dksX3_laysOwn_1 : cX3_laysOwn.data.toList.drop 23 = dktX3_laysOwn_1 := dk_seg dksX3_laysOwn_0 23 rfl rfl
theorem dksX3_laysOwn_2 : cX3_laysOwn.data.toList.drop 45 = dktX3_laysOwn_2 := dk_seg dksX3_laysOwn_1 22 rfl rfl
theorem dksX3_laysOwn_3 : cX3_laysOwn.data.toList.drop 69 = dktX3_laysOwn_3 := dk_seg dksX3_laysOwn_2 24 rfl rfl
theorem dksX3_laysOwn_4 : cX3_laysOwn.data.toList.drop 93 = dktX3_laysOwn_4 := dk_seg dksX3_laysOwn_3 24 rfl rfl
theorem dX3_laysOwn_0 : decode cX3_laysOwn 0 = .ok (.aload_n 0, 1) := dk_42 (dk_at dksX3_laysOwn_0 0 rfl rfl)
theorem dX3_laysOwn_1 : decode cX3_laysOwn 1 = .ok (.getfield 32, 3) := dk_180 0 32 (dk_at dksX3_laysOwn_0 1 rfl rfl)
theorem dX3_laysOwn_4 : decode cX3_laysOwn 4 = .ok (.iload_n 1, 1) := dk_27 (dk_at dksX3_laysOwn_0 4 rfl rfl)
theorem dX3_laysOwn_5 : decode cX3_laysOwn 5 = .ok (.iaload, 1) := dk_46 (dk_at dksX3_laysOwn_0 5 rfl rfl)
theorem dX3_laysOwn_6 : decode cX3_laysOwn 6 = .ok (.aload_n 0, 1) := dk_42 (dk_at dksX3_laysOwn_0 6 rfl rfl)
theorem dX3_laysOwn_7 : decode cX3_laysOwn 7 = .ok (.getfield 255, 3) := dk_180 0 255 (dk_at dksX3_laysOwn_0 7 rfl rfl)
theorem dX3_laysOwn_10 : decode cX3_laysOwn 10 = .ok (.if_icmp .ne 4, 3) := dk_160 0 4 (dk_at dksX3_laysOwn_0 10 rfl rfl)
theorem dX3_laysOwn_13 : decode cX3_laysOwn 13 = .ok (.return_, 1) := dk_177 (dk_at dksX3_laysOwn_0 13 rfl rfl)
theorem dX3_laysOwn_14 : decode cX3_laysOwn 14 = .ok (.iconst 0, 1) := dk_3 (dk_at dksX3_laysOwn_0 14 rfl rfl)
theorem dX3_laysOwn_15 : decode cX3_laysOwn 15 = .ok (.istore_n 2, 1) := dk_61 (dk_at dksX3_laysOwn_0 15 rfl rfl)
theorem dX3_laysOwn_16 : decode cX3_laysOwn 16 = .ok (.iload_n 2, 1) := dk_28 (dk_at dksX3_laysOwn_0 16 rfl rfl)
theorem dX3_laysOwn_17 : decode cX3_laysOwn 17 = .ok (.aload_n 0, 1) := dk_42 (dk_at dksX3_laysOwn_0 17 rfl rfl)
theorem dX3_laysOwn_18 : decode cX3_laysOwn 18 = .ok (.getfield 26, 3) := dk_180 0 26 (dk_at dksX3_laysOwn_0 18 rfl rfl)
theorem dX3_laysOwn_21 : decode cX3_laysOwn 21 = .ok (.iload_n 1, 1) := dk_27 (dk_at dksX3_laysOwn_0 21 rfl rfl)
theorem dX3_laysOwn_22 : decode cX3_laysOwn 22 = .ok (.iaload, 1) := dk_46 (dk_at dksX3_laysOwn_0 22 rfl rfl)
theorem dX3_laysOwn_23 : decode cX3_laysOwn 23 = .ok (.if_icmp .ge 81, 3) := dk_162 0 81 (dk_at dksX3_laysOwn_1 0 rfl rfl)
theorem dX3_laysOwn_26 : decode cX3_laysOwn 26 = .ok (.aload_n 0, 1) := dk_42 (dk_at dksX3_laysOwn_1 3 rfl rfl)
theorem dX3_laysOwn_27 : decode cX3_laysOwn 27 = .ok (.getfield 23, 3) := dk_180 0 23 (dk_at dksX3_laysOwn_1 4 rfl rfl)
theorem dX3_laysOwn_30 : decode cX3_laysOwn 30 = .ok (.iload_n 1, 1) := dk_27 (dk_at dksX3_laysOwn_1 7 rfl rfl)
theorem dX3_laysOwn_31 : decode cX3_laysOwn 31 = .ok (.iaload, 1) := dk_46 (dk_at dksX3_laysOwn_1 8 rfl rfl)
theorem dX3_laysOwn_32 : decode cX3_laysOwn 32 = .ok (.ifCond .ne 16, 3) := dk_154 0 16 (dk_at dksX3_laysOwn_1 9 rfl rfl)
theorem dX3_laysOwn_35 : decode cX3_laysOwn 35 = .ok (.aload_n 0, 1) := dk_42 (dk_at dksX3_laysOwn_1 12 rfl rfl)
theorem dX3_laysOwn_36 : decode cX3_laysOwn 36 = .ok (.aload_n 0, 1) := dk_42 (dk_at dksX3_laysOwn_1 13 rfl rfl)
theorem dX3_laysOwn_37 : decode cX3_laysOwn 37 = .ok (.iload_n 1, 1) := dk_27 (dk_at dksX3_laysOwn_1 14 rfl rfl)
theorem dX3_laysOwn_38 : decode cX3_laysOwn 38 = .ok (.iload_n 2, 1) := dk_28 (dk_at dksX3_laysOwn_1 15 rfl rfl)
theorem dX3_laysOwn_39 : decode cX3_laysOwn 39 = .ok (.invokevirtual 197, 3) := dk_182 0 197 (dk_at dksX3_laysOwn_1 16 rfl rfl)
theorem dX3_laysOwn_42 : decode cX3_laysOwn 42 = .ok (.invokevirtual 350, 3) := dk_182 1 94 (dk_at dksX3_laysOwn_1 19 rfl rfl)
theorem dX3_laysOwn_45 : decode cX3_laysOwn 45 = .ok (.goto 53, 3) := dk_167 0 53 (dk_at dksX3_laysOwn_2 0 rfl rfl)
theorem dX3_laysOwn_48 : decode cX3_laysOwn 48 = .ok (.aload_n 0, 1) := dk_42 (dk_at dksX3_laysOwn_2 3 rfl rfl)
theorem dX3_laysOwn_49 : decode cX3_laysOwn 49 = .ok (.getfield 101, 3) := dk_180 0 101 (dk_at dksX3_laysOwn_2 4 rfl rfl)
theorem dX3_laysOwn_52 : decode cX3_laysOwn 52 = .ok (.aload_n 0, 1) := dk_42 (dk_at dksX3_laysOwn_2 7 rfl rfl)
theorem dX3_laysOwn_53 : decode cX3_laysOwn 53 = .ok (.getfield 353, 3) := dk_180 1 97 (dk_at dksX3_laysOwn_2 8 rfl rfl)
theorem dX3_laysOwn_56 : decode cX3_laysOwn 56 = .ok (.aload_n 0, 1) := dk_42 (dk_at dksX3_laysOwn_2 11 rfl rfl)
theorem dX3_laysOwn_57 : decode cX3_laysOwn 57 = .ok (.getfield 39, 3) := dk_180 0 39 (dk_at dksX3_laysOwn_2 12 rfl rfl)
theorem dX3_laysOwn_60 : decode cX3_laysOwn 60 = .ok (.bipush 7, 2) := dk_16 7 (dk_at dksX3_laysOwn_2 15 rfl rfl)
theorem dX3_laysOwn_62 : decode cX3_laysOwn 62 = .ok (.iload_n 1, 1) := dk_27 (dk_at dksX3_laysOwn_2 17 rfl rfl)
theorem dX3_laysOwn_63 : decode cX3_laysOwn 63 = .ok (.imul, 1) := dk_104 (dk_at dksX3_laysOwn_2 18 rfl rfl)
theorem dX3_laysOwn_64 : decode cX3_laysOwn 64 = .ok (.iload_n 2, 1) := dk_28 (dk_at dksX3_laysOwn_2 19 rfl rfl)
theorem dX3_laysOwn_65 : decode cX3_laysOwn 65 = .ok (.iadd, 1) := dk_96 (dk_at dksX3_laysOwn_2 20 rfl rfl)
theorem dX3_laysOwn_66 : decode cX3_laysOwn 66 = .ok (.iaload, 1) := dk_46 (dk_at dksX3_laysOwn_2 21 rfl rfl)
theorem dX3_laysOwn_67 : decode cX3_laysOwn 67 = .ok (.iastore, 1) := dk_79 (dk_at dksX3_laysOwn_2 22 rfl rfl)
theorem dX3_laysOwn_68 : decode cX3_laysOwn 68 = .ok (.aload_n 0, 1) := dk_42 (dk_at dksX3_laysOwn_2 23 rfl rfl)
theorem dX3_laysOwn_69 : decode cX3_laysOwn 69 = .ok (.getfield 104, 3) := dk_180 0 104 (dk_at dksX3_laysOwn_3 0 rfl rfl)
theorem dX3_laysOwn_72 : decode cX3_laysOwn 72 = .ok (.aload_n 0, 1) := dk_42 (dk_at dksX3_laysOwn_3 3 rfl rfl)
theorem dX3_laysOwn_73 : decode cX3_laysOwn 73 = .ok (.getfield 353, 3) := dk_180 1 97 (dk_at dksX3_laysOwn_3 4 rfl rfl)
theorem dX3_laysOwn_76 : decode cX3_laysOwn 76 = .ok (.aload_n 0, 1) := dk_42 (dk_at dksX3_laysOwn_3 7 rfl rfl)
theorem dX3_laysOwn_77 : decode cX3_laysOwn 77 = .ok (.getfield 42, 3) := dk_180 0 42 (dk_at dksX3_laysOwn_3 8 rfl rfl)
theorem dX3_laysOwn_80 : decode cX3_laysOwn 80 = .ok (.bipush 7, 2) := dk_16 7 (dk_at dksX3_laysOwn_3 11 rfl rfl)
theorem dX3_laysOwn_82 : decode cX3_laysOwn 82 = .ok (.iload_n 1, 1) := dk_27 (dk_at dksX3_laysOwn_3 13 rfl rfl)
theorem dX3_laysOwn_83 : decode cX3_laysOwn 83 = .ok (.imul, 1) := dk_104 (dk_at dksX3_laysOwn_3 14 rfl rfl)
theorem dX3_laysOwn_84 : decode cX3_laysOwn 84 = .ok (.iload_n 2, 1) := dk_28 (dk_at dksX3_laysOwn_3 15 rfl rfl)
theorem dX3_laysOwn_85 : decode cX3_laysOwn 85 = .ok (.iadd, 1) := dk_96 (dk_at dksX3_laysOwn_3 16 rfl rfl)
theorem dX3_laysOwn_86 : decode cX3_laysOwn 86 = .ok (.iaload, 1) := dk_46 (dk_at dksX3_laysOwn_3 17 rfl rfl)
theorem dX3_laysOwn_87 : decode cX3_laysOwn 87 = .ok (.iastore, 1) := dk_79 (dk_at dksX3_laysOwn_3 18 rfl rfl)
theorem dX3_laysOwn_88 : decode cX3_laysOwn 88 = .ok (.aload_n 0, 1) := dk_42 (dk_at dksX3_laysOwn_3 19 rfl rfl)
theorem dX3_laysOwn_89 : decode cX3_laysOwn 89 = .ok (.dup, 1) := dk_89 (dk_at dksX3_laysOwn_3 20 rfl rfl)
theorem dX3_laysOwn_90 : decode cX3_laysOwn 90 = .ok (.getfield 353, 3) := dk_180 1 97 (dk_at dksX3_laysOwn_3 21 rfl rfl)
theorem dX3_laysOwn_93 : decode cX3_laysOwn 93 = .ok (.iconst 1, 1) := dk_4 (dk_at dksX3_laysOwn_4 0 rfl rfl)
theorem dX3_laysOwn_94 : decode cX3_laysOwn 94 = .ok (.iadd, 1) := dk_96 (dk_at dksX3_laysOwn_4 1 rfl rfl)
theorem dX3_laysOwn_95 : decode cX3_laysOwn 95 = .ok (.putfield 353, 3) := dk_181 1 97 (dk_at dksX3_laysOwn_4 2 rfl rfl)
theorem dX3_laysOwn_98 : decode cX3_laysOwn 98 = .ok (.iinc 2 1, 3) := dk_132 2 1 (dk_at dksX3_laysOwn_4 5 rfl rfl)
theorem dX3_laysOwn_101 : decode cX3_laysOwn 101 = .ok (.goto (-85), 3) := dk_167 255 171 (dk_at dksX3_laysOwn_4 8 rfl rfl)
theorem dX3_laysOwn_104 : decode cX3_laysOwn 104 = .ok (.return_, 1) := dk_177 (dk_at dksX3_laysOwn_4 11 rfl rfl)
abbrev cX3_ruled : ByteArray := prog_9_method_64_code
def yX3_ruled : MethodName := ⟨RX3, "ruled", "(III)I"⟩
def dkwX3_ruled_1 : List UInt8 := [184, 1, 57, 167, 0, 9, 26, 27, 96, 184, 1, 92, 172]
abbrev dktX3_ruled_1 : List UInt8 := dkwX3_ruled_1 ++ []
def dkwX3_ruled_0 : List UInt8 := [28, 154, 0, 7, 26, 167, 0, 31, 28, 4, 160, 0, 7, 27, 167, 0, 22, 28, 5, 160, 0, 11, 26, 27]
abbrev dktX3_ruled_0 : List UInt8 := dkwX3_ruled_0 ++ dktX3_ruled_1
theorem dksX3_ruled_0 : cX3_ruled.data.toList.drop 0 = dktX3_ruled_0 := by decide +kernel
theorem dksX3_ruled_1 : cX3_ruled.data.toList.drop 24 = dktX3_ruled_1 := dk_seg dksX3_ruled_0 24 rfl rfl
theorem dX3_ruled_0 : decode cX3_ruled 0 = .ok (.iload_n 2, 1) := dk_28 (dk_at dksX3_ruled_0 0 rfl rfl)
theorem dX3_ruled_1 : decode cX3_ruled 1 = .ok (.ifCond .ne 7, 3) := dk_154 0 7 (dk_at dksX3_ruled_0 1 rfl rfl)
theorem dX3_ruled_4 : decode cX3_ruled 4 = .ok (.iload_n 0, 1) := dk_26 (dk_at dksX3_ruled_0 4 rfl rfl)
theorem dX3_ruled_5 : decode cX3_ruled 5 = .ok (.goto 31, 3) := dk_167 0 31 (dk_at dksX3_ruled_0 5 rfl rfl)
theorem dX3_ruled_8 : decode cX3_ruled 8 = .ok (.iload_n 2, 1) := dk_28 (dk_at dksX3_ruled_0 8 rfl rfl)
theorem dX3_ruled_9 : decode cX3_ruled 9 = .ok (.iconst 1, 1) := dk_4 (dk_at dksX3_ruled_0 9 rfl rfl)
theorem dX3_ruled_10 : decode cX3_ruled 10 = .ok (.if_icmp .ne 7, 3) := dk_160 0 7 (dk_at dksX3_ruled_0 10 rfl rfl)
theorem dX3_ruled_13 : decode cX3_ruled 13 = .ok (.iload_n 1, 1) := dk_27 (dk_at dksX3_ruled_0 13 rfl rfl)
theorem dX3_ruled_14 : decode cX3_ruled 14 = .ok (.goto 22, 3) := dk_167 0 22 (dk_at dksX3_ruled_0 14 rfl rfl)
theorem dX3_ruled_17 : decode cX3_ruled 17 = .ok (.iload_n 2, 1) := dk_28 (dk_at dksX3_ruled_0 17 rfl rfl)
theorem dX3_ruled_18 : decode cX3_ruled 18 = .ok (.iconst 2, 1) := dk_5 (dk_at dksX3_ruled_0 18 rfl rfl)
theorem dX3_ruled_19 : decode cX3_ruled 19 = .ok (.if_icmp .ne 11, 3) := dk_160 0 11 (dk_at dksX3_ruled_0 19 rfl rfl)
theorem dX3_ruled_22 : decode cX3_ruled 22 = .ok (.iload_n 0, 1) := dk_26 (dk_at dksX3_ruled_0 22 rfl rfl)
theorem dX3_ruled_23 : decode cX3_ruled 23 = .ok (.iload_n 1, 1) := dk_27 (dk_at dksX3_ruled_0 23 rfl rfl)
theorem dX3_ruled_24 : decode cX3_ruled 24 = .ok (.invokestatic 313, 3) := dk_184 1 57 (dk_at dksX3_ruled_1 0 rfl rfl)
theorem dX3_ruled_27 : decode cX3_ruled 27 = .ok (.goto 9, 3) := dk_167 0 9 (dk_at dksX3_ruled_1 3 rfl rfl)
theorem dX3_ruled_30 : decode cX3_ruled 30 = .ok (.iload_n 0, 1) := dk_26 (dk_at dksX3_ruled_1 6 rfl rfl)
theorem dX3_ruled_31 : decode cX3_ruled 31 = .ok (.iload_n 1, 1) := dk_27 (dk_at dksX3_ruled_1 7 rfl rfl)
theorem dX3_ruled_32 : decode cX3_ruled 32 = .ok (.iadd, 1) := dk_96 (dk_at dksX3_ruled_1 8 rfl rfl)
theorem dX3_ruled_33 : decode cX3_ruled 33 = .ok (.invokestatic 348, 3) := dk_184 1 92 (dk_at dksX3_ruled_1 9 rfl rfl)
theorem dX3_ruled_36 : decode cX3_ruled 36 = .ok (.ireturn, 1) := dk_172 (dk_at dksX3_ruled_1 12 rfl rfl)
abbrev cX3_held : ByteArray := prog_9_method_63_code
def yX3_held : MethodName := ⟨RX3, "held", "(I)I"⟩
def dkwX3_held_0 : List UInt8 := [17, 252, 25, 17, 3, 231, 26, 184, 1, 89, 184, 1, 57, 172]
abbrev dktX3_held_0 : List UInt8 := dkwX3_held_0 ++ []
theorem dksX3_held_0 : cX3_held.data.toList.drop 0 = dktX3_held_0 := by decide +kernel
theorem dX3_held_0 : decode cX3_held 0 = .ok (.sipush (-999), 3) := dk_17 252 25 (dk_at dksX3_held_0 0 rfl rfl)
theorem dX3_held_3 : decode cX3_held 3 = .ok (.sipush 999, 3) := dk_17 3 231 (dk_at dksX3_held_0 3 rfl rfl)
theorem dX3_held_6 : decode cX3_held 6 = .ok (.iload_n 0, 1) := dk_26 (dk_at dksX3_held_0 6 rfl rfl)
theorem dX3_held_7 : decode cX3_held 7 = .ok (.invokestatic 345, 3) := dk_184 1 89 (dk_at dksX3_held_0 7 rfl rfl)
theorem dX3_held_10 : decode cX3_held 10 = .ok (.invokestatic 313, 3) := dk_184 1 57 (dk_at dksX3_held_0 10 rfl rfl)
theorem dX3_held_13 : decode cX3_held 13 = .ok (.ireturn, 1) := dk_172 (dk_at dksX3_held_0 13 rfl rfl)
abbrev cX3_three : ByteArray := prog_9_method_71_code
def yX3_three : MethodName := ⟨RX3, "three", "(IIII)I"⟩
def dkwX3_three_10 : List UInt8 := [132, 8, 1, 167, 255, 174, 42, 21, 7, 28, 29, 182, 1, 46, 172]
abbrev dktX3_three_10 : List UInt8 := dkwX3_three_10 ++ []
def dkwX3_three_9 : List UInt8 := [21, 9, 96, 46, 21, 6, 182, 1, 42, 167, 0, 13, 42, 21, 7, 21, 8, 21, 6, 182, 1, 83, 54, 7]
abbrev dktX3_three_9 : List UInt8 := dkwX3_three_9 ++ dktX3_three_10
def dkwX3_three_8 : List UInt8 := [21, 8, 46, 21, 9, 184, 1, 15, 153, 0, 28, 42, 21, 7, 21, 8, 42, 180, 0, 98, 6, 21, 8, 104]
abbrev dktX3_three_8 : List UInt8 := dkwX3_three_8 ++ dktX3_three_9
def dkwX3_three_7 : List UInt8 := [42, 21, 8, 21, 4, 182, 1, 118, 54, 9, 21, 9, 4, 160, 0, 6, 167, 0, 55, 42, 180, 0, 95]
abbrev dktX3_three_7 : List UInt8 := dkwX3_three_7 ++ dktX3_three_8
def dkwX3_three_6 : List UInt8 := [182, 1, 39, 54, 6, 42, 180, 0, 67, 28, 46, 54, 7, 3, 54, 8, 21, 8, 17, 3, 231, 163, 0, 80]
abbrev dktX3_three_6 : List UInt8 := dkwX3_three_6 ++ dktX3_three_7
def dkwX3_three_5 : List UInt8 := [164, 0, 9, 42, 6, 182, 1, 36, 172, 42, 182, 1, 33, 154, 0, 9, 42, 7, 182, 1, 36, 172, 42]
abbrev dktX3_three_5 : List UInt8 := dkwX3_three_5 ++ dktX3_three_6
def dkwX3_three_4 : List UInt8 := [184, 1, 15, 153, 0, 7, 4, 167, 0, 4, 3, 96, 54, 5, 132, 6, 1, 167, 255, 214, 21, 5, 16, 60]
abbrev dktX3_three_4 : List UInt8 := dkwX3_three_4 ++ dktX3_three_5
def dkwX3_three_3 : List UInt8 := [17, 3, 231, 163, 0, 40, 21, 5, 42, 180, 0, 95, 21, 6, 46, 42, 21, 6, 21, 4, 182, 1, 118]
abbrev dktX3_three_3 : List UInt8 := dkwX3_three_3 ++ dktX3_three_4
def dkwX3_three_2 : List UInt8 := [154, 0, 9, 42, 4, 182, 1, 36, 172, 42, 27, 28, 29, 182, 1, 115, 3, 54, 5, 3, 54, 6, 21, 6]
abbrev dktX3_three_2 : List UInt8 := dkwX3_three_2 ++ dktX3_three_3
def dkwX3_three_1 : List UInt8 := [182, 1, 53, 154, 0, 9, 42, 3, 182, 1, 36, 172, 21, 4, 133, 9, 20, 1, 113, 184, 0, 174]
abbrev dktX3_three_1 : List UInt8 := dkwX3_three_1 ++ dktX3_three_2
def dkwX3_three_0 : List UInt8 := [42, 3, 181, 0, 116, 42, 27, 182, 1, 53, 153, 0, 19, 42, 28, 182, 1, 53, 153, 0, 11, 42, 29]
abbrev dktX3_three_0 : List UInt8 := dkwX3_three_0 ++ dktX3_three_1
theorem dksX3_three_0 : cX3_three.data.toList.drop 0 = dktX3_three_0 := by decide +kernel
theorem dksX3_three_1 : cX3_three.data.toList.drop 23 = dktX3_three_1 := dk_seg dksX3_three_0 23 rfl rfl
theorem dksX3_three_2 : cX3_three.data.toList.drop 45 = dktX3_three_2 := dk_seg dksX3_three_1 22 rfl rfl
theorem dksX3_three_3 : cX3_three.data.toList.drop 69 = dktX3_three_3 := dk_seg dksX3_three_2 24 rfl rfl
theorem dksX3_three_4 : cX3_three.data.toList.drop 92 = dktX3_three_4 := dk_seg dksX3_three_3 23 rfl rfl
theorem dksX3_three_5 : cX3_three.data.toList.drop 116 = dktX3_three_5 := dk_seg dksX3_three_4 24 rfl rfl
theorem dksX3_three_6 : cX3_three.data.toList.drop 139 = dktX3_three_6 := dk_seg dksX3_three_5 23 rfl rfl
theorem dksX3_three_7 : cX3_three.data.toList.drop 163 = dktX3_three_7 := dk_seg dksX3_three_6 24 rfl rfl
theorem dksX3_three_8 : cX3_three.data.toList.drop 186 = dktX3_three_8 := dk_seg dksX3_three_7 23 rfl rfl
theorem dksX3_three_9 : cX3_three.data.toList.drop 210 = dktX3_three_9 := dk_seg dksX3_three_8 24 rfl rfl
theorem dksX3_three_10 : cX3_three.data.toList.drop 234 = dktX3_three_10 := dk_seg dksX3_three_9 24 rfl rfl
theorem dX3_three_0 : decode cX3_three 0 = .ok (.aload_n 0, 1) := dk_42 (dk_at dksX3_three_0 0 rfl rfl)
theorem dX3_three_1 : decode cX3_three 1 = .ok (.iconst 0, 1) := dk_3 (dk_at dksX3_three_0 1 rfl rfl)
theorem dX3_three_2 : decode cX3_three 2 = .ok (.putfield 116, 3) := dk_181 0 116 (dk_at dksX3_three_0 2 rfl rfl)
theorem dX3_three_5 : decode cX3_three 5 = .ok (.aload_n 0, 1) := dk_42 (dk_at dksX3_three_0 5 rfl rfl)
theorem dX3_three_6 : decode cX3_three 6 = .ok (.iload_n 1, 1) := dk_27 (dk_at dksX3_three_0 6 rfl rfl)
theorem dX3_three_7 : decode cX3_three 7 = .ok (.invokevirtual 309, 3) := dk_182 1 53 (dk_at dksX3_three_0 7 rfl rfl)
theorem dX3_three_10 : decode cX3_three 10 = .ok (.ifCond .eq 19, 3) := dk_153 0 19 (dk_at dksX3_three_0 10 rfl rfl)
theorem dX3_three_13 : decode cX3_three 13 = .ok (.aload_n 0, 1) := dk_42 (dk_at dksX3_three_0 13 rfl rfl)
theorem dX3_three_14 : decode cX3_three 14 = .ok (.iload_n 2, 1) := dk_28 (dk_at dksX3_three_0 14 rfl rfl)
theorem dX3_three_15 : decode cX3_three 15 = .ok (.invokevirtual 309, 3) := dk_182 1 53 (dk_at dksX3_three_0 15 rfl rfl)
theorem dX3_three_18 : decode cX3_three 18 = .ok (.ifCond .eq 11, 3) := dk_153 0 11 (dk_at dksX3_three_0 18 rfl rfl)
theorem dX3_three_21 : decode cX3_three 21 = .ok (.aload_n 0, 1) := dk_42 (dk_at dksX3_three_0 21 rfl rfl)
theorem dX3_three_22 : decode cX3_three 22 = .ok (.iload_n 3, 1) := dk_29 (dk_at dksX3_three_0 22 rfl rfl)
theorem dX3_three_23 : decode cX3_three 23 = .ok (.invokevirtual 309, 3) := dk_182 1 53 (dk_at dksX3_three_1 0 rfl rfl)
theorem dX3_three_26 : decode cX3_three 26 = .ok (.ifCond .ne 9, 3) := dk_154 0 9 (dk_at dksX3_three_1 3 rfl rfl)
theorem dX3_three_29 : decode cX3_three 29 = .ok (.aload_n 0, 1) := dk_42 (dk_at dksX3_three_1 6 rfl rfl)
theorem dX3_three_30 : decode cX3_three 30 = .ok (.iconst 0, 1) := dk_3 (dk_at dksX3_three_1 7 rfl rfl)
theorem dX3_three_31 : decode cX3_three 31 = .ok (.invokevirtual 292, 3) := dk_182 1 36 (dk_at dksX3_three_1 8 rfl rfl)
theorem dX3_three_34 : decode cX3_three 34 = .ok (.ireturn, 1) := dk_172 (dk_at dksX3_three_1 11 rfl rfl)
theorem dX3_three_35 : decode cX3_three 35 = .ok (.iload 4, 2) := dk_21 4 (dk_at dksX3_three_1 12 rfl rfl)
theorem dX3_three_37 : decode cX3_three 37 = .ok (.i2l, 1) := dk_133 (dk_at dksX3_three_1 14 rfl rfl)
theorem dX3_three_38 : decode cX3_three 38 = .ok (.lconst 0, 1) := dk_9 (dk_at dksX3_three_1 15 rfl rfl)
theorem dX3_three_39 : decode cX3_three 39 = .ok (.ldc2_w 369, 3) := dk_20 1 113 (dk_at dksX3_three_1 16 rfl rfl)
theorem dX3_three_42 : decode cX3_three 42 = .ok (.invokestatic 174, 3) := dk_184 0 174 (dk_at dksX3_three_1 19 rfl rfl)
theorem dX3_three_45 : decode cX3_three 45 = .ok (.ifCond .ne 9, 3) := dk_154 0 9 (dk_at dksX3_three_2 0 rfl rfl)
theorem dX3_three_48 : decode cX3_three 48 = .ok (.aload_n 0, 1) := dk_42 (dk_at dksX3_three_2 3 rfl rfl)
theorem dX3_three_49 : decode cX3_three 49 = .ok (.iconst 1, 1) := dk_4 (dk_at dksX3_three_2 4 rfl rfl)
theorem dX3_three_50 : decode cX3_three 50 = .ok (.invokevirtual 292, 3) := dk_182 1 36 (dk_at dksX3_three_2 5 rfl rfl)
theorem dX3_three_53 : decode cX3_three 53 = .ok (.ireturn, 1) := dk_172 (dk_at dksX3_three_2 8 rfl rfl)
theorem dX3_three_54 : decode cX3_three 54 = .ok (.aload_n 0, 1) := dk_42 (dk_at dksX3_three_2 9 rfl rfl)
theorem dX3_three_55 : decode cX3_three 55 = .ok (.iload_n 1, 1) := dk_27 (dk_at dksX3_three_2 10 rfl rfl)
theorem dX3_three_56 : decode cX3_three 56 = .ok (.iload_n 2, 1) := dk_28 (dk_at dksX3_three_2 11 rfl rfl)
theorem dX3_three_57 : decode cX3_three 57 = .ok (.iload_n 3, 1) := dk_29 (dk_at dksX3_three_2 12 rfl rfl)
theorem dX3_three_58 : decode cX3_three 58 = .ok (.invokevirtual 371, 3) := dk_182 1 115 (dk_at dksX3_three_2 13 rfl rfl)
theorem dX3_three_61 : decode cX3_three 61 = .ok (.iconst 0, 1) := dk_3 (dk_at dksX3_three_2 16 rfl rfl)
theorem dX3_three_62 : decode cX3_three 62 = .ok (.istore 5, 2) := dk_54 5 (dk_at dksX3_three_2 17 rfl rfl)
theorem dX3_three_64 : decode cX3_three 64 = .ok (.iconst 0, 1) := dk_3 (dk_at dksX3_three_2 19 rfl rfl)
theorem dX3_three_65 : decode cX3_three 65 = .ok (.istore 6, 2) := dk_54 6 (dk_at dksX3_three_2 20 rfl rfl)
theorem dX3_three_67 : decode cX3_three 67 = .ok (.iload 6, 2) := dk_21 6 (dk_at dksX3_three_2 22 rfl rfl)
theorem dX3_three_69 : decode cX3_three 69 = .ok (.sipush 999, 3) := dk_17 3 231 (dk_at dksX3_three_3 0 rfl rfl)
theorem dX3_three_72 : decode cX3_three 72 = .ok (.if_icmp .gt 40, 3) := dk_163 0 40 (dk_at dksX3_three_3 3 rfl rfl)
theorem dX3_three_75 : decode cX3_three 75 = .ok (.iload 5, 2) := dk_21 5 (dk_at dksX3_three_3 6 rfl rfl)
theorem dX3_three_77 : decode cX3_three 77 = .ok (.aload_n 0, 1) := dk_42 (dk_at dksX3_three_3 8 rfl rfl)
theorem dX3_three_78 : decode cX3_three 78 = .ok (.getfield 95, 3) := dk_180 0 95 (dk_at dksX3_three_3 9 rfl rfl)
theorem dX3_three_81 : decode cX3_three 81 = .ok (.iload 6, 2) := dk_21 6 (dk_at dksX3_three_3 12 rfl rfl)
theorem dX3_three_83 : decode cX3_three 83 = .ok (.iaload, 1) := dk_46 (dk_at dksX3_three_3 14 rfl rfl)
theorem dX3_three_84 : decode cX3_three 84 = .ok (.aload_n 0, 1) := dk_42 (dk_at dksX3_three_3 15 rfl rfl)
theorem dX3_three_85 : decode cX3_three 85 = .ok (.iload 6, 2) := dk_21 6 (dk_at dksX3_three_3 16 rfl rfl)
theorem dX3_three_87 : decode cX3_three 87 = .ok (.iload 4, 2) := dk_21 4 (dk_at dksX3_three_3 18 rfl rfl)
theorem dX3_three_89 : decode cX3_three 89 = .ok (.invokevirtual 374, 3) := dk_182 1 118 (dk_at dksX3_three_3 20 rfl rfl)
theorem dX3_three_92 : decode cX3_three 92 = .ok (.invokestatic 271, 3) := dk_184 1 15 (dk_at dksX3_three_4 0 rfl rfl)
theorem dX3_three_95 : decode cX3_three 95 = .ok (.ifCond .eq 7, 3) := dk_153 0 7 (dk_at dksX3_three_4 3 rfl rfl)
theorem dX3_three_98 : decode cX3_three 98 = .ok (.iconst 1, 1) := dk_4 (dk_at dksX3_three_4 6 rfl rfl)
theorem dX3_three_99 : decode cX3_three 99 = .ok (.goto 4, 3) := dk_167 0 4 (dk_at dksX3_three_4 7 rfl rfl)
theorem dX3_three_102 : decode cX3_three 102 = .ok (.iconst 0, 1) := dk_3 (dk_at dksX3_three_4 10 rfl rfl)
theorem dX3_three_103 : decode cX3_three 103 = .ok (.iadd, 1) := dk_96 (dk_at dksX3_three_4 11 rfl rfl)
theorem dX3_three_104 : decode cX3_three 104 = .ok (.istore 5, 2) := dk_54 5 (dk_at dksX3_three_4 12 rfl rfl)
theorem dX3_three_106 : decode cX3_three 106 = .ok (.iinc 6 1, 3) := dk_132 6 1 (dk_at dksX3_three_4 14 rfl rfl)
theorem dX3_three_109 : decode cX3_three 109 = .ok (.goto (-42), 3) := dk_167 255 214 (dk_at dksX3_three_4 17 rfl rfl)
theorem dX3_three_112 : decode cX3_three 112 = .ok (.iload 5, 2) := dk_21 5 (dk_at dksX3_three_4 20 rfl rfl)
theorem dX3_three_114 : decode cX3_three 114 = .ok (.bipush 60, 2) := dk_16 60 (dk_at dksX3_three_4 22 rfl rfl)
theorem dX3_three_116 : decode cX3_three 116 = .ok (.if_icmp .le 9, 3) := dk_164 0 9 (dk_at dksX3_three_5 0 rfl rfl)
theorem dX3_three_119 : decode cX3_three 119 = .ok (.aload_n 0, 1) := dk_42 (dk_at dksX3_three_5 3 rfl rfl)
theorem dX3_three_120 : decode cX3_three 120 = .ok (.iconst 3, 1) := dk_6 (dk_at dksX3_three_5 4 rfl rfl)
theorem dX3_three_121 : decode cX3_three 121 = .ok (.invokevirtual 292, 3) := dk_182 1 36 (dk_at dksX3_three_5 5 rfl rfl)
theorem dX3_three_124 : decode cX3_three 124 = .ok (.ireturn, 1) := dk_172 (dk_at dksX3_three_5 8 rfl rfl)
theorem dX3_three_125 : decode cX3_three 125 = .ok (.aload_n 0, 1) := dk_42 (dk_at dksX3_three_5 9 rfl rfl)
theorem dX3_three_126 : decode cX3_three 126 = .ok (.invokevirtual 289, 3) := dk_182 1 33 (dk_at dksX3_three_5 10 rfl rfl)
theorem dX3_three_129 : decode cX3_three 129 = .ok (.ifCond .ne 9, 3) := dk_154 0 9 (dk_at dksX3_three_5 13 rfl rfl)
theorem dX3_three_132 : decode cX3_three 132 = .ok (.aload_n 0, 1) := dk_42 (dk_at dksX3_three_5 16 rfl rfl)
theorem dX3_three_133 : decode cX3_three 133 = .ok (.iconst 4, 1) := dk_7 (dk_at dksX3_three_5 17 rfl rfl)
theorem dX3_three_134 : decode cX3_three 134 = .ok (.invokevirtual 292, 3) := dk_182 1 36 (dk_at dksX3_three_5 18 rfl rfl)
theorem dX3_three_137 : decode cX3_three 137 = .ok (.ireturn, 1) := dk_172 (dk_at dksX3_three_5 21 rfl rfl)
theorem dX3_three_138 : decode cX3_three 138 = .ok (.aload_n 0, 1) := dk_42 (dk_at dksX3_three_5 22 rfl rfl)
theorem dX3_three_139 : decode cX3_three 139 = .ok (.invokevirtual 295, 3) := dk_182 1 39 (dk_at dksX3_three_6 0 rfl rfl)
theorem dX3_three_142 : decode cX3_three 142 = .ok (.istore 6, 2) := dk_54 6 (dk_at dksX3_three_6 3 rfl rfl)
theorem dX3_three_144 : decode cX3_three 144 = .ok (.aload_n 0, 1) := dk_42 (dk_at dksX3_three_6 5 rfl rfl)
theorem dX3_three_145 : decode cX3_three 145 = .ok (.getfield 67, 3) := dk_180 0 67 (dk_at dksX3_three_6 6 rfl rfl)
theorem dX3_three_148 : decode cX3_three 148 = .ok (.iload_n 2, 1) := dk_28 (dk_at dksX3_three_6 9 rfl rfl)
theorem dX3_three_149 : decode cX3_three 149 = .ok (.iaload, 1) := dk_46 (dk_at dksX3_three_6 10 rfl rfl)
theorem dX3_three_150 : decode cX3_three 150 = .ok (.istore 7, 2) := dk_54 7 (dk_at dksX3_three_6 11 rfl rfl)
theorem dX3_three_152 : decode cX3_three 152 = .ok (.iconst 0, 1) := dk_3 (dk_at dksX3_three_6 13 rfl rfl)
theorem dX3_three_153 : decode cX3_three 153 = .ok (.istore 8, 2) := dk_54 8 (dk_at dksX3_three_6 14 rfl rfl)
theorem dX3_three_155 : decode cX3_three 155 = .ok (.iload 8, 2) := dk_21 8 (dk_at dksX3_three_6 16 rfl rfl)
theorem dX3_three_157 : decode cX3_three 157 = .ok (.sipush 999, 3) := dk_17 3 231 (dk_at dksX3_three_6 18 rfl rfl)
theorem dX3_three_160 : decode cX3_three 160 = .ok (.if_icmp .gt 80, 3) := dk_163 0 80 (dk_at dksX3_three_6 21 rfl rfl)
theorem dX3_three_163 : decode cX3_three 163 = .ok (.aload_n 0, 1) := dk_42 (dk_at dksX3_three_7 0 rfl rfl)
theorem dX3_three_164 : decode cX3_three 164 = .ok (.iload 8, 2) := dk_21 8 (dk_at dksX3_three_7 1 rfl rfl)
theorem dX3_three_166 : decode cX3_three 166 = .ok (.iload 4, 2) := dk_21 4 (dk_at dksX3_three_7 3 rfl rfl)
theorem dX3_three_168 : decode cX3_three 168 = .ok (.invokevirtual 374, 3) := dk_182 1 118 (dk_at dksX3_three_7 5 rfl rfl)
theorem dX3_three_171 : decode cX3_three 171 = .ok (.istore 9, 2) := dk_54 9 (dk_at dksX3_three_7 8 rfl rfl)
theorem dX3_three_173 : decode cX3_three 173 = .ok (.iload 9, 2) := dk_21 9 (dk_at dksX3_three_7 10 rfl rfl)
theorem dX3_three_175 : decode cX3_three 175 = .ok (.iconst 1, 1) := dk_4 (dk_at dksX3_three_7 12 rfl rfl)
theorem dX3_three_176 : decode cX3_three 176 = .ok (.if_icmp .ne 6, 3) := dk_160 0 6 (dk_at dksX3_three_7 13 rfl rfl)
theorem dX3_three_179 : decode cX3_three 179 = .ok (.goto 55, 3) := dk_167 0 55 (dk_at dksX3_three_7 16 rfl rfl)
theorem dX3_three_182 : decode cX3_three 182 = .ok (.aload_n 0, 1) := dk_42 (dk_at dksX3_three_7 19 rfl rfl)
theorem dX3_three_183 : decode cX3_three 183 = .ok (.getfield 95, 3) := dk_180 0 95 (dk_at dksX3_three_7 20 rfl rfl)
theorem dX3_three_186 : decode cX3_three 186 = .ok (.iload 8, 2) := dk_21 8 (dk_at dksX3_three_8 0 rfl rfl)
theorem dX3_three_188 : decode cX3_three 188 = .ok (.iaload, 1) := dk_46 (dk_at dksX3_three_8 2 rfl rfl)
theorem dX3_three_189 : decode cX3_three 189 = .ok (.iload 9, 2) := dk_21 9 (dk_at dksX3_three_8 3 rfl rfl)
theorem dX3_three_191 : decode cX3_three 191 = .ok (.invokestatic 271, 3) := dk_184 1 15 (dk_at dksX3_three_8 5 rfl rfl)
theorem dX3_three_194 : decode cX3_three 194 = .ok (.ifCond .eq 28, 3) := dk_153 0 28 (dk_at dksX3_three_8 8 rfl rfl)
theorem dX3_three_197 : decode cX3_three 197 = .ok (.aload_n 0, 1) := dk_42 (dk_at dksX3_three_8 11 rfl rfl)
theorem dX3_three_198 : decode cX3_three 198 = .ok (.iload 7, 2) := dk_21 7 (dk_at dksX3_three_8 12 rfl rfl)
theorem dX3_three_200 : decode cX3_three 200 = .ok (.iload 8, 2) := dk_21 8 (dk_at dksX3_three_8 14 rfl rfl)
theorem dX3_three_202 : decode cX3_three 202 = .ok (.aload_n 0, 1) := dk_42 (dk_at dksX3_three_8 16 rfl rfl)
theorem dX3_three_203 : decode cX3_three 203 = .ok (.getfield 98, 3) := dk_180 0 98 (dk_at dksX3_three_8 17 rfl rfl)
theorem dX3_three_206 : decode cX3_three 206 = .ok (.iconst 3, 1) := dk_6 (dk_at dksX3_three_8 20 rfl rfl)
theorem dX3_three_207 : decode cX3_three 207 = .ok (.iload 8, 2) := dk_21 8 (dk_at dksX3_three_8 21 rfl rfl)
theorem dX3_three_209 : decode cX3_three 209 = .ok (.imul, 1) := dk_104 (dk_at dksX3_three_8 23 rfl rfl)
theorem dX3_three_210 : decode cX3_three 210 = .ok (.iload 9, 2) := dk_21 9 (dk_at dksX3_three_9 0 rfl rfl)
theorem dX3_three_212 : decode cX3_three 212 = .ok (.iadd, 1) := dk_96 (dk_at dksX3_three_9 2 rfl rfl)
theorem dX3_three_213 : decode cX3_three 213 = .ok (.iaload, 1) := dk_46 (dk_at dksX3_three_9 3 rfl rfl)
theorem dX3_three_214 : decode cX3_three 214 = .ok (.iload 6, 2) := dk_21 6 (dk_at dksX3_three_9 4 rfl rfl)
theorem dX3_three_216 : decode cX3_three 216 = .ok (.invokevirtual 298, 3) := dk_182 1 42 (dk_at dksX3_three_9 6 rfl rfl)
theorem dX3_three_219 : decode cX3_three 219 = .ok (.goto 13, 3) := dk_167 0 13 (dk_at dksX3_three_9 9 rfl rfl)
theorem dX3_three_222 : decode cX3_three 222 = .ok (.aload_n 0, 1) := dk_42 (dk_at dksX3_three_9 12 rfl rfl)
theorem dX3_three_223 : decode cX3_three 223 = .ok (.iload 7, 2) := dk_21 7 (dk_at dksX3_three_9 13 rfl rfl)
theorem dX3_three_225 : decode cX3_three 225 = .ok (.iload 8, 2) := dk_21 8 (dk_at dksX3_three_9 15 rfl rfl)
theorem dX3_three_227 : decode cX3_three 227 = .ok (.iload 6, 2) := dk_21 6 (dk_at dksX3_three_9 17 rfl rfl)
theorem dX3_three_229 : decode cX3_three 229 = .ok (.invokevirtual 339, 3) := dk_182 1 83 (dk_at dksX3_three_9 19 rfl rfl)
theorem dX3_three_232 : decode cX3_three 232 = .ok (.istore 7, 2) := dk_54 7 (dk_at dksX3_three_9 22 rfl rfl)
theorem dX3_three_234 : decode cX3_three 234 = .ok (.iinc 8 1, 3) := dk_132 8 1 (dk_at dksX3_three_10 0 rfl rfl)
theorem dX3_three_237 : decode cX3_three 237 = .ok (.goto (-82), 3) := dk_167 255 174 (dk_at dksX3_three_10 3 rfl rfl)
theorem dX3_three_240 : decode cX3_three 240 = .ok (.aload_n 0, 1) := dk_42 (dk_at dksX3_three_10 6 rfl rfl)
theorem dX3_three_241 : decode cX3_three 241 = .ok (.iload 7, 2) := dk_21 7 (dk_at dksX3_three_10 7 rfl rfl)
theorem dX3_three_243 : decode cX3_three 243 = .ok (.iload_n 2, 1) := dk_28 (dk_at dksX3_three_10 9 rfl rfl)
theorem dX3_three_244 : decode cX3_three 244 = .ok (.iload_n 3, 1) := dk_29 (dk_at dksX3_three_10 10 rfl rfl)
theorem dX3_three_245 : decode cX3_three 245 = .ok (.invokevirtual 302, 3) := dk_182 1 46 (dk_at dksX3_three_10 11 rfl rfl)
theorem dX3_three_248 : decode cX3_three 248 = .ok (.ireturn, 1) := dk_172 (dk_at dksX3_three_10 14 rfl rfl)
abbrev cX3_laysThree : ByteArray := prog_9_method_70_code
def yX3_laysThree : MethodName := ⟨RX3, "laysThree", "(III)V"⟩
def dkwX3_laysThree_2 : List UInt8 := [182, 1, 86, 42, 42, 180, 0, 67, 29, 46, 5, 182, 1, 86, 177]
abbrev dktX3_laysThree_2 : List UInt8 := dkwX3_laysThree_2 ++ []
def dkwX3_laysThree_1 : List UInt8 := [167, 255, 237, 42, 42, 180, 0, 67, 27, 46, 3, 182, 1, 86, 42, 42, 180, 0, 67, 28, 46, 4]
abbrev dktX3_laysThree_1 : List UInt8 := dkwX3_laysThree_1 ++ dktX3_laysThree_2
def dkwX3_laysThree_0 : List UInt8 := [3, 54, 4, 21, 4, 17, 3, 231, 163, 0, 17, 42, 180, 0, 95, 21, 4, 3, 79, 132, 4, 1]
abbrev dktX3_laysThree_0 : List UInt8 := dkwX3_laysThree_0 ++ dktX3_laysThree_1
theorem dksX3_laysThree_0 : cX3_laysThree.data.toList.drop 0 = dktX3_laysThree_0 := by decide +kernel
theorem dksX3_laysThree_1 : cX3_laysThree.data.toList.drop 22 = dktX3_laysThree_1 := dk_seg dksX3_laysThree_0 22 rfl rfl
theorem dksX3_laysThree_2 : cX3_laysThree.data.toList.drop 44 = dktX3_laysThree_2 := dk_seg dksX3_laysThree_1 22 rfl rfl
theorem dX3_laysThree_0 : decode cX3_laysThree 0 = .ok (.iconst 0, 1) := dk_3 (dk_at dksX3_laysThree_0 0 rfl rfl)
theorem dX3_laysThree_1 : decode cX3_laysThree 1 = .ok (.istore 4, 2) := dk_54 4 (dk_at dksX3_laysThree_0 1 rfl rfl)
theorem dX3_laysThree_3 : decode cX3_laysThree 3 = .ok (.iload 4, 2) := dk_21 4 (dk_at dksX3_laysThree_0 3 rfl rfl)
theorem dX3_laysThree_5 : decode cX3_laysThree 5 = .ok (.sipush 999, 3) := dk_17 3 231 (dk_at dksX3_laysThree_0 5 rfl rfl)
theorem dX3_laysThree_8 : decode cX3_laysThree 8 = .ok (.if_icmp .gt 17, 3) := dk_163 0 17 (dk_at dksX3_laysThree_0 8 rfl rfl)
theorem dX3_laysThree_11 : decode cX3_laysThree 11 = .ok (.aload_n 0, 1) := dk_42 (dk_at dksX3_laysThree_0 11 rfl rfl)
theorem dX3_laysThree_12 : decode cX3_laysThree 12 = .ok (.getfield 95, 3) := dk_180 0 95 (dk_at dksX3_laysThree_0 12 rfl rfl)
theorem dX3_laysThree_15 : decode cX3_laysThree 15 = .ok (.iload 4, 2) := dk_21 4 (dk_at dksX3_laysThree_0 15 rfl rfl)
theorem dX3_laysThree_17 : decode cX3_laysThree 17 = .ok (.iconst 0, 1) := dk_3 (dk_at dksX3_laysThree_0 17 rfl rfl)
theorem dX3_laysThree_18 : decode cX3_laysThree 18 = .ok (.iastore, 1) := dk_79 (dk_at dksX3_laysThree_0 18 rfl rfl)
theorem dX3_laysThree_19 : decode cX3_laysThree 19 = .ok (.iinc 4 1, 3) := dk_132 4 1 (dk_at dksX3_laysThree_0 19 rfl rfl)
theorem dX3_laysThree_22 : decode cX3_laysThree 22 = .ok (.goto (-19), 3) := dk_167 255 237 (dk_at dksX3_laysThree_1 0 rfl rfl)
theorem dX3_laysThree_25 : decode cX3_laysThree 25 = .ok (.aload_n 0, 1) := dk_42 (dk_at dksX3_laysThree_1 3 rfl rfl)
theorem dX3_laysThree_26 : decode cX3_laysThree 26 = .ok (.aload_n 0, 1) := dk_42 (dk_at dksX3_laysThree_1 4 rfl rfl)
theorem dX3_laysThree_27 : decode cX3_laysThree 27 = .ok (.getfield 67, 3) := dk_180 0 67 (dk_at dksX3_laysThree_1 5 rfl rfl)
theorem dX3_laysThree_30 : decode cX3_laysThree 30 = .ok (.iload_n 1, 1) := dk_27 (dk_at dksX3_laysThree_1 8 rfl rfl)
theorem dX3_laysThree_31 : decode cX3_laysThree 31 = .ok (.iaload, 1) := dk_46 (dk_at dksX3_laysThree_1 9 rfl rfl)
theorem dX3_laysThree_32 : decode cX3_laysThree 32 = .ok (.iconst 0, 1) := dk_3 (dk_at dksX3_laysThree_1 10 rfl rfl)
theorem dX3_laysThree_33 : decode cX3_laysThree 33 = .ok (.invokevirtual 342, 3) := dk_182 1 86 (dk_at dksX3_laysThree_1 11 rfl rfl)
theorem dX3_laysThree_36 : decode cX3_laysThree 36 = .ok (.aload_n 0, 1) := dk_42 (dk_at dksX3_laysThree_1 14 rfl rfl)
theorem dX3_laysThree_37 : decode cX3_laysThree 37 = .ok (.aload_n 0, 1) := dk_42 (dk_at dksX3_laysThree_1 15 rfl rfl)
theorem dX3_laysThree_38 : decode cX3_laysThree 38 = .ok (.getfield 67, 3) := dk_180 0 67 (dk_at dksX3_laysThree_1 16 rfl rfl)
theorem dX3_laysThree_41 : decode cX3_laysThree 41 = .ok (.iload_n 2, 1) := dk_28 (dk_at dksX3_laysThree_1 19 rfl rfl)
theorem dX3_laysThree_42 : decode cX3_laysThree 42 = .ok (.iaload, 1) := dk_46 (dk_at dksX3_laysThree_1 20 rfl rfl)
theorem dX3_laysThree_43 : decode cX3_laysThree 43 = .ok (.iconst 1, 1) := dk_4 (dk_at dksX3_laysThree_1 21 rfl rfl)
theorem dX3_laysThree_44 : decode cX3_laysThree 44 = .ok (.invokevirtual 342, 3) := dk_182 1 86 (dk_at dksX3_laysThree_2 0 rfl rfl)
theorem dX3_laysThree_47 : decode cX3_laysThree 47 = .ok (.aload_n 0, 1) := dk_42 (dk_at dksX3_laysThree_2 3 rfl rfl)
theorem dX3_laysThree_48 : decode cX3_laysThree 48 = .ok (.aload_n 0, 1) := dk_42 (dk_at dksX3_laysThree_2 4 rfl rfl)
theorem dX3_laysThree_49 : decode cX3_laysThree 49 = .ok (.getfield 67, 3) := dk_180 0 67 (dk_at dksX3_laysThree_2 5 rfl rfl)
theorem dX3_laysThree_52 : decode cX3_laysThree 52 = .ok (.iload_n 3, 1) := dk_29 (dk_at dksX3_laysThree_2 8 rfl rfl)
theorem dX3_laysThree_53 : decode cX3_laysThree 53 = .ok (.iaload, 1) := dk_46 (dk_at dksX3_laysThree_2 9 rfl rfl)
theorem dX3_laysThree_54 : decode cX3_laysThree 54 = .ok (.iconst 2, 1) := dk_5 (dk_at dksX3_laysThree_2 10 rfl rfl)
theorem dX3_laysThree_55 : decode cX3_laysThree 55 = .ok (.invokevirtual 342, 3) := dk_182 1 86 (dk_at dksX3_laysThree_2 11 rfl rfl)
theorem dX3_laysThree_58 : decode cX3_laysThree 58 = .ok (.return_, 1) := dk_177 (dk_at dksX3_laysThree_2 14 rfl rfl)
abbrev cX3_asWhich : ByteArray := prog_9_method_69_code
def yX3_asWhich : MethodName := ⟨RX3, "asWhich", "(II)I"⟩
def dkwX3_asWhich_2 : List UInt8 := [167, 0, 4, 3, 172]
abbrev dktX3_asWhich_2 : List UInt8 := dkwX3_asWhich_2 ++ []
def dkwX3_asWhich_1 : List UInt8 := [182, 1, 110, 154, 0, 5, 5, 172, 28, 154, 0, 7, 4, 167, 0, 13, 28, 4, 160, 0, 7, 5]
abbrev dktX3_asWhich_1 : List UInt8 := dkwX3_asWhich_1 ++ dktX3_asWhich_2
def dkwX3_asWhich_0 : List UInt8 := [42, 27, 5, 3, 182, 1, 106, 153, 0, 13, 42, 27, 5, 4, 182, 1, 106, 154, 0, 5, 4, 172, 42, 27]
abbrev dktX3_asWhich_0 : List UInt8 := dkwX3_asWhich_0 ++ dktX3_asWhich_1
theorem dksX3_asWhich_0 : cX3_asWhich.data.toList.drop 0 = dktX3_asWhich_0 := by decide +kernel
theorem dksX3_asWhich_1 : cX3_asWhich.data.toList.drop 24 = dktX3_asWhich_1 := dk_seg dksX3_asWhich_0 24 rfl rfl
theorem dksX3_asWhich_2 : cX3_asWhich.data.toList.drop 46 = dktX3_asWhich_2 := dk_seg dksX3_asWhich_1 22 rfl rfl
theorem dX3_asWhich_0 : decode cX3_asWhich 0 = .ok (.aload_n 0, 1) := dk_42 (dk_at dksX3_asWhich_0 0 rfl rfl)
theorem dX3_asWhich_1 : decode cX3_asWhich 1 = .ok (.iload_n 1, 1) := dk_27 (dk_at dksX3_asWhich_0 1 rfl rfl)
theorem dX3_asWhich_2 : decode cX3_asWhich 2 = .ok (.iconst 2, 1) := dk_5 (dk_at dksX3_asWhich_0 2 rfl rfl)
theorem dX3_asWhich_3 : decode cX3_asWhich 3 = .ok (.iconst 0, 1) := dk_3 (dk_at dksX3_asWhich_0 3 rfl rfl)
theorem dX3_asWhich_4 : decode cX3_asWhich 4 = .ok (.invokevirtual 362, 3) := dk_182 1 106 (dk_at dksX3_asWhich_0 4 rfl rfl)
theorem dX3_asWhich_7 : decode cX3_asWhich 7 = .ok (.ifCond .eq 13, 3) := dk_153 0 13 (dk_at dksX3_asWhich_0 7 rfl rfl)
theorem dX3_asWhich_10 : decode cX3_asWhich 10 = .ok (.aload_n 0, 1) := dk_42 (dk_at dksX3_asWhich_0 10 rfl rfl)
theorem dX3_asWhich_11 : decode cX3_asWhich 11 = .ok (.iload_n 1, 1) := dk_27 (dk_at dksX3_asWhich_0 11 rfl rfl)
theorem dX3_asWhich_12 : decode cX3_asWhich 12 = .ok (.iconst 2, 1) := dk_5 (dk_at dksX3_asWhich_0 12 rfl rfl)
theorem dX3_asWhich_13 : decode cX3_asWhich 13 = .ok (.iconst 1, 1) := dk_4 (dk_at dksX3_asWhich_0 13 rfl rfl)
theorem dX3_asWhich_14 : decode cX3_asWhich 14 = .ok (.invokevirtual 362, 3) := dk_182 1 106 (dk_at dksX3_asWhich_0 14 rfl rfl)
theorem dX3_asWhich_17 : decode cX3_asWhich 17 = .ok (.ifCond .ne 5, 3) := dk_154 0 5 (dk_at dksX3_asWhich_0 17 rfl rfl)
theorem dX3_asWhich_20 : decode cX3_asWhich 20 = .ok (.iconst 1, 1) := dk_4 (dk_at dksX3_asWhich_0 20 rfl rfl)
theorem dX3_asWhich_21 : decode cX3_asWhich 21 = .ok (.ireturn, 1) := dk_172 (dk_at dksX3_asWhich_0 21 rfl rfl)
theorem dX3_asWhich_22 : decode cX3_asWhich 22 = .ok (.aload_n 0, 1) := dk_42 (dk_at dksX3_asWhich_0 22 rfl rfl)
theorem dX3_asWhich_23 : decode cX3_asWhich 23 = .ok (.iload_n 1, 1) := dk_27 (dk_at dksX3_asWhich_0 23 rfl rfl)
theorem dX3_asWhich_24 : decode cX3_asWhich 24 = .ok (.invokevirtual 366, 3) := dk_182 1 110 (dk_at dksX3_asWhich_1 0 rfl rfl)
theorem dX3_asWhich_27 : decode cX3_asWhich 27 = .ok (.ifCond .ne 5, 3) := dk_154 0 5 (dk_at dksX3_asWhich_1 3 rfl rfl)
theorem dX3_asWhich_30 : decode cX3_asWhich 30 = .ok (.iconst 2, 1) := dk_5 (dk_at dksX3_asWhich_1 6 rfl rfl)
theorem dX3_asWhich_31 : decode cX3_asWhich 31 = .ok (.ireturn, 1) := dk_172 (dk_at dksX3_asWhich_1 7 rfl rfl)
theorem dX3_asWhich_32 : decode cX3_asWhich 32 = .ok (.iload_n 2, 1) := dk_28 (dk_at dksX3_asWhich_1 8 rfl rfl)
theorem dX3_asWhich_33 : decode cX3_asWhich 33 = .ok (.ifCond .ne 7, 3) := dk_154 0 7 (dk_at dksX3_asWhich_1 9 rfl rfl)
theorem dX3_asWhich_36 : decode cX3_asWhich 36 = .ok (.iconst 1, 1) := dk_4 (dk_at dksX3_asWhich_1 12 rfl rfl)
theorem dX3_asWhich_37 : decode cX3_asWhich 37 = .ok (.goto 13, 3) := dk_167 0 13 (dk_at dksX3_asWhich_1 13 rfl rfl)
theorem dX3_asWhich_40 : decode cX3_asWhich 40 = .ok (.iload_n 2, 1) := dk_28 (dk_at dksX3_asWhich_1 16 rfl rfl)
theorem dX3_asWhich_41 : decode cX3_asWhich 41 = .ok (.iconst 1, 1) := dk_4 (dk_at dksX3_asWhich_1 17 rfl rfl)
theorem dX3_asWhich_42 : decode cX3_asWhich 42 = .ok (.if_icmp .ne 7, 3) := dk_160 0 7 (dk_at dksX3_asWhich_1 18 rfl rfl)
theorem dX3_asWhich_45 : decode cX3_asWhich 45 = .ok (.iconst 2, 1) := dk_5 (dk_at dksX3_asWhich_1 21 rfl rfl)
theorem dX3_asWhich_46 : decode cX3_asWhich 46 = .ok (.goto 4, 3) := dk_167 0 4 (dk_at dksX3_asWhich_2 0 rfl rfl)
theorem dX3_asWhich_49 : decode cX3_asWhich 49 = .ok (.iconst 0, 1) := dk_3 (dk_at dksX3_asWhich_2 3 rfl rfl)
theorem dX3_asWhich_50 : decode cX3_asWhich 50 = .ok (.ireturn, 1) := dk_172 (dk_at dksX3_asWhich_2 4 rfl rfl)
abbrev cX3_isUnlike : ByteArray := prog_9_method_67_code
def yX3_isUnlike : MethodName := ⟨RX3, "isUnlike", "(III)Z"⟩
def dkwX3_isUnlike_2 : List UInt8 := [42, 180, 0, 98, 6, 27, 104, 29, 96, 46, 159, 0, 7, 4, 167, 0, 4, 3, 172]
abbrev dktX3_isUnlike_2 : List UInt8 := dkwX3_isUnlike_2 ++ []
def dkwX3_isUnlike_1 : List UInt8 := [172, 42, 180, 0, 95, 27, 46, 28, 184, 1, 15, 153, 0, 30, 42, 180, 0, 98, 6, 27, 104, 28, 96, 46]
abbrev dktX3_isUnlike_1 : List UInt8 := dkwX3_isUnlike_1 ++ dktX3_isUnlike_2
def dkwX3_isUnlike_0 : List UInt8 := [42, 180, 0, 95, 27, 46, 28, 184, 1, 15, 42, 180, 0, 95, 27, 46, 29, 184, 1, 15, 159, 0, 5, 4]
abbrev dktX3_isUnlike_0 : List UInt8 := dkwX3_isUnlike_0 ++ dktX3_isUnlike_1
theorem dksX3_isUnlike_0 : cX3_isUnlike.data.toList.drop 0 = dktX3_isUnlike_0 := by decide +kernel
theorem dksX3_isUnlike_1 : cX3_isUnlike.data.toList.drop 24 = dktX3_isUnlike_1 := dk_seg dksX3_isUnlike_0 24 rfl rfl
theorem dksX3_isUnlike_2 : cX3_isUnlike.data.toList.drop 48 = dktX3_isUnlike_2 := dk_seg dksX3_isUnlike_1 24 rfl rfl
theorem dX3_isUnlike_0 : decode cX3_isUnlike 0 = .ok (.aload_n 0, 1) := dk_42 (dk_at dksX3_isUnlike_0 0 rfl rfl)
theorem dX3_isUnlike_1 : decode cX3_isUnlike 1 = .ok (.getfield 95, 3) := dk_180 0 95 (dk_at dksX3_isUnlike_0 1 rfl rfl)
theorem dX3_isUnlike_4 : decode cX3_isUnlike 4 = .ok (.iload_n 1, 1) := dk_27 (dk_at dksX3_isUnlike_0 4 rfl rfl)
theorem dX3_isUnlike_5 : decode cX3_isUnlike 5 = .ok (.iaload, 1) := dk_46 (dk_at dksX3_isUnlike_0 5 rfl rfl)
theorem dX3_isUnlike_6 : decode cX3_isUnlike 6 = .ok (.iload_n 2, 1) := dk_28 (dk_at dksX3_isUnlike_0 6 rfl rfl)
theorem dX3_isUnlike_7 : decode cX3_isUnlike 7 = .ok (.invokestatic 271, 3) := dk_184 1 15 (dk_at dksX3_isUnlike_0 7 rfl rfl)
theorem dX3_isUnlike_10 : decode cX3_isUnlike 10 = .ok (.aload_n 0, 1) := dk_42 (dk_at dksX3_isUnlike_0 10 rfl rfl)
theorem dX3_isUnlike_11 : decode cX3_isUnlike 11 = .ok (.getfield 95, 3) := dk_180 0 95 (dk_at dksX3_isUnlike_0 11 rfl rfl)
theorem dX3_isUnlike_14 : decode cX3_isUnlike 14 = .ok (.iload_n 1, 1) := dk_27 (dk_at dksX3_isUnlike_0 14 rfl rfl)
theorem dX3_isUnlike_15 : decode cX3_isUnlike 15 = .ok (.iaload, 1) := dk_46 (dk_at dksX3_isUnlike_0 15 rfl rfl)
theorem dX3_isUnlike_16 : decode cX3_isUnlike 16 = .ok (.iload_n 3, 1) := dk_29 (dk_at dksX3_isUnlike_0 16 rfl rfl)
theorem dX3_isUnlike_17 : decode cX3_isUnlike 17 = .ok (.invokestatic 271, 3) := dk_184 1 15 (dk_at dksX3_isUnlike_0 17 rfl rfl)
theorem dX3_isUnlike_20 : decode cX3_isUnlike 20 = .ok (.if_icmp .eq 5, 3) := dk_159 0 5 (dk_at dksX3_isUnlike_0 20 rfl rfl)
theorem dX3_isUnlike_23 : decode cX3_isUnlike 23 = .ok (.iconst 1, 1) := dk_4 (dk_at dksX3_isUnlike_0 23 rfl rfl)
theorem dX3_isUnlike_24 : decode cX3_isUnlike 24 = .ok (.ireturn, 1) := dk_172 (dk_at dksX3_isUnlike_1 0 rfl rfl)
theorem dX3_isUnlike_25 : decode cX3_isUnlike 25 = .ok (.aload_n 0, 1) := dk_42 (dk_at dksX3_isUnlike_1 1 rfl rfl)
theorem dX3_isUnlike_26 : decode cX3_isUnlike 26 = .ok (.getfield 95, 3) := dk_180 0 95 (dk_at dksX3_isUnlike_1 2 rfl rfl)
theorem dX3_isUnlike_29 : decode cX3_isUnlike 29 = .ok (.iload_n 1, 1) := dk_27 (dk_at dksX3_isUnlike_1 5 rfl rfl)
theorem dX3_isUnlike_30 : decode cX3_isUnlike 30 = .ok (.iaload, 1) := dk_46 (dk_at dksX3_isUnlike_1 6 rfl rfl)
theorem dX3_isUnlike_31 : decode cX3_isUnlike 31 = .ok (.iload_n 2, 1) := dk_28 (dk_at dksX3_isUnlike_1 7 rfl rfl)
theorem dX3_isUnlike_32 : decode cX3_isUnlike 32 = .ok (.invokestatic 271, 3) := dk_184 1 15 (dk_at dksX3_isUnlike_1 8 rfl rfl)
theorem dX3_isUnlike_35 : decode cX3_isUnlike 35 = .ok (.ifCond .eq 30, 3) := dk_153 0 30 (dk_at dksX3_isUnlike_1 11 rfl rfl)
theorem dX3_isUnlike_38 : decode cX3_isUnlike 38 = .ok (.aload_n 0, 1) := dk_42 (dk_at dksX3_isUnlike_1 14 rfl rfl)
theorem dX3_isUnlike_39 : decode cX3_isUnlike 39 = .ok (.getfield 98, 3) := dk_180 0 98 (dk_at dksX3_isUnlike_1 15 rfl rfl)
theorem dX3_isUnlike_42 : decode cX3_isUnlike 42 = .ok (.iconst 3, 1) := dk_6 (dk_at dksX3_isUnlike_1 18 rfl rfl)
theorem dX3_isUnlike_43 : decode cX3_isUnlike 43 = .ok (.iload_n 1, 1) := dk_27 (dk_at dksX3_isUnlike_1 19 rfl rfl)
theorem dX3_isUnlike_44 : decode cX3_isUnlike 44 = .ok (.imul, 1) := dk_104 (dk_at dksX3_isUnlike_1 20 rfl rfl)
theorem dX3_isUnlike_45 : decode cX3_isUnlike 45 = .ok (.iload_n 2, 1) := dk_28 (dk_at dksX3_isUnlike_1 21 rfl rfl)
theorem dX3_isUnlike_46 : decode cX3_isUnlike 46 = .ok (.iadd, 1) := dk_96 (dk_at dksX3_isUnlike_1 22 rfl rfl)
theorem dX3_isUnlike_47 : decode cX3_isUnlike 47 = .ok (.iaload, 1) := dk_46 (dk_at dksX3_isUnlike_1 23 rfl rfl)
theorem dX3_isUnlike_48 : decode cX3_isUnlike 48 = .ok (.aload_n 0, 1) := dk_42 (dk_at dksX3_isUnlike_2 0 rfl rfl)
theorem dX3_isUnlike_49 : decode cX3_isUnlike 49 = .ok (.getfield 98, 3) := dk_180 0 98 (dk_at dksX3_isUnlike_2 1 rfl rfl)
theorem dX3_isUnlike_52 : decode cX3_isUnlike 52 = .ok (.iconst 3, 1) := dk_6 (dk_at dksX3_isUnlike_2 4 rfl rfl)
theorem dX3_isUnlike_53 : decode cX3_isUnlike 53 = .ok (.iload_n 1, 1) := dk_27 (dk_at dksX3_isUnlike_2 5 rfl rfl)
theorem dX3_isUnlike_54 : decode cX3_isUnlike 54 = .ok (.imul, 1) := dk_104 (dk_at dksX3_isUnlike_2 6 rfl rfl)
theorem dX3_isUnlike_55 : decode cX3_isUnlike 55 = .ok (.iload_n 3, 1) := dk_29 (dk_at dksX3_isUnlike_2 7 rfl rfl)
theorem dX3_isUnlike_56 : decode cX3_isUnlike 56 = .ok (.iadd, 1) := dk_96 (dk_at dksX3_isUnlike_2 8 rfl rfl)
theorem dX3_isUnlike_57 : decode cX3_isUnlike 57 = .ok (.iaload, 1) := dk_46 (dk_at dksX3_isUnlike_2 9 rfl rfl)
theorem dX3_isUnlike_58 : decode cX3_isUnlike 58 = .ok (.if_icmp .eq 7, 3) := dk_159 0 7 (dk_at dksX3_isUnlike_2 10 rfl rfl)
theorem dX3_isUnlike_61 : decode cX3_isUnlike 61 = .ok (.iconst 1, 1) := dk_4 (dk_at dksX3_isUnlike_2 13 rfl rfl)
theorem dX3_isUnlike_62 : decode cX3_isUnlike 62 = .ok (.goto 4, 3) := dk_167 0 4 (dk_at dksX3_isUnlike_2 14 rfl rfl)
theorem dX3_isUnlike_65 : decode cX3_isUnlike 65 = .ok (.iconst 0, 1) := dk_3 (dk_at dksX3_isUnlike_2 17 rfl rfl)
theorem dX3_isUnlike_66 : decode cX3_isUnlike 66 = .ok (.ireturn, 1) := dk_172 (dk_at dksX3_isUnlike_2 18 rfl rfl)
abbrev cX3_isConflict : ByteArray := prog_9_method_68_code
def yX3_isConflict : MethodName := ⟨RX3, "isConflict", "(I)Z"⟩
def dkwX3_isConflict_1 : List UInt8 := [182, 1, 106, 153, 0, 7, 4, 167, 0, 4, 3, 172]
abbrev dktX3_isConflict_1 : List UInt8 := dkwX3_isConflict_1 ++ []
def dkwX3_isConflict_0 : List UInt8 := [42, 27, 5, 3, 182, 1, 106, 153, 0, 27, 42, 27, 5, 4, 182, 1, 106, 153, 0, 17, 42, 27, 4, 3]
abbrev dktX3_isConflict_0 : List UInt8 := dkwX3_isConflict_0 ++ dktX3_isConflict_1
theorem dksX3_isConflict_0 : cX3_isConflict.data.toList.drop 0 = dktX3_isConflict_0 := by decide +kernel
theorem dksX3_isConflict_1 : cX3_isConflict.data.toList.drop 24 = dktX3_isConflict_1 := dk_seg dksX3_isConflict_0 24 rfl rfl
theorem dX3_isConflict_0 : decode cX3_isConflict 0 = .ok (.aload_n 0, 1) := dk_42 (dk_at dksX3_isConflict_0 0 rfl rfl)
theorem dX3_isConflict_1 : decode cX3_isConflict 1 = .ok (.iload_n 1, 1) := dk_27 (dk_at dksX3_isConflict_0 1 rfl rfl)
theorem dX3_isConflict_2 : decode cX3_isConflict 2 = .ok (.iconst 2, 1) := dk_5 (dk_at dksX3_isConflict_0 2 rfl rfl)
theorem dX3_isConflict_3 : decode cX3_isConflict 3 = .ok (.iconst 0, 1) := dk_3 (dk_at dksX3_isConflict_0 3 rfl rfl)
theorem dX3_isConflict_4 : decode cX3_isConflict 4 = .ok (.invokevirtual 362, 3) := dk_182 1 106 (dk_at dksX3_isConflict_0 4 rfl rfl)
theorem dX3_isConflict_7 : decode cX3_isConflict 7 = .ok (.ifCond .eq 27, 3) := dk_153 0 27 (dk_at dksX3_isConflict_0 7 rfl rfl)
theorem dX3_isConflict_10 : decode cX3_isConflict 10 = .ok (.aload_n 0, 1) := dk_42 (dk_at dksX3_isConflict_0 10 rfl rfl)
theorem dX3_isConflict_11 : decode cX3_isConflict 11 = .ok (.iload_n 1, 1) := dk_27 (dk_at dksX3_isConflict_0 11 rfl rfl)
theorem dX3_isConflict_12 : decode cX3_isConflict 12 = .ok (.iconst 2, 1) := dk_5 (dk_at dksX3_isConflict_0 12 rfl rfl)
theorem dX3_isConflict_13 : decode cX3_isConflict 13 = .ok (.iconst 1, 1) := dk_4 (dk_at dksX3_isConflict_0 13 rfl rfl)
theorem dX3_isConflict_14 : decode cX3_isConflict 14 = .ok (.invokevirtual 362, 3) := dk_182 1 106 (dk_at dksX3_isConflict_0 14 rfl rfl)
theorem dX3_isConflict_17 : decode cX3_isConflict 17 = .ok (.ifCond .eq 17, 3) := dk_153 0 17 (dk_at dksX3_isConflict_0 17 rfl rfl)
theorem dX3_isConflict_20 : decode cX3_isConflict 20 = .ok (.aload_n 0, 1) := dk_42 (dk_at dksX3_isConflict_0 20 rfl rfl)
theorem dX3_isConflict_21 : decode cX3_isConflict 21 = .ok (.iload_n 1, 1) := dk_27 (dk_at dksX3_isConflict_0 21 rfl rfl)
theorem dX3_isConflict_22 : decode cX3_isConflict 22 = .ok (.iconst 1, 1) := dk_4 (dk_at dksX3_isConflict_0 22 rfl rfl)
theorem dX3_isConflict_23 : decode cX3_isConflict 23 = .ok (.iconst 0, 1) := dk_3 (dk_at dksX3_isConflict_0 23 rfl rfl)
theorem dX3_isConflict_24 : decode cX3_isConflict 24 = .ok (.invokevirtual 362, 3) := dk_182 1 106 (dk_at dksX3_isConflict_1 0 rfl rfl)
theorem dX3_isConflict_27 : decode cX3_isConflict 27 = .ok (.ifCond .eq 7, 3) := dk_153 0 7 (dk_at dksX3_isConflict_1 3 rfl rfl)
theorem dX3_isConflict_30 : decode cX3_isConflict 30 = .ok (.iconst 1, 1) := dk_4 (dk_at dksX3_isConflict_1 6 rfl rfl)
theorem dX3_isConflict_31 : decode cX3_isConflict 31 = .ok (.goto 4, 3) := dk_167 0 4 (dk_at dksX3_isConflict_1 7 rfl rfl)
theorem dX3_isConflict_34 : decode cX3_isConflict 34 = .ok (.iconst 0, 1) := dk_3 (dk_at dksX3_isConflict_1 10 rfl rfl)
theorem dX3_isConflict_35 : decode cX3_isConflict 35 = .ok (.ireturn, 1) := dk_172 (dk_at dksX3_isConflict_1 11 rfl rfl)
abbrev cX3_conflicts : ByteArray := prog_9_method_72_code
def yX3_conflicts : MethodName := ⟨RX3, "conflicts", "(III)I"⟩
def dkwX3_conflicts_3 : List UInt8 := [54, 4, 132, 5, 1, 167, 255, 226, 21, 4, 172]
abbrev dktX3_conflicts_3 : List UInt8 := dkwX3_conflicts_3 ++ []
def dkwX3_conflicts_2 : List UInt8 := [17, 3, 231, 163, 0, 28, 21, 4, 42, 21, 5, 182, 1, 110, 153, 0, 7, 4, 167, 0, 4, 3, 96]
abbrev dktX3_conflicts_2 : List UInt8 := dkwX3_conflicts_2 ++ dktX3_conflicts_3
def dkwX3_conflicts_1 : List UInt8 := [182, 1, 53, 154, 0, 5, 2, 172, 42, 27, 28, 29, 182, 1, 115, 3, 54, 4, 3, 54, 5, 21, 5]
abbrev dktX3_conflicts_1 : List UInt8 := dkwX3_conflicts_1 ++ dktX3_conflicts_2
def dkwX3_conflicts_0 : List UInt8 := [42, 3, 181, 0, 116, 42, 27, 182, 1, 53, 153, 0, 19, 42, 28, 182, 1, 53, 153, 0, 11, 42, 29]
abbrev dktX3_conflicts_0 : List UInt8 := dkwX3_conflicts_0 ++ dktX3_conflicts_1
theorem dksX3_conflicts_0 : cX3_conflicts.data.toList.drop 0 = dktX3_conflicts_0 := by decide +kernel
theorem dksX3_conflicts_1 : cX3_conflicts.data.toList.drop 23 = dktX3_conflicts_1 := dk_seg dksX3_conflicts_0 23 rfl rfl
theorem dksX3_conflicts_2 : cX3_conflicts.data.toList.drop 46 = dktX3_conflicts_2 := dk_seg dksX3_conflicts_1 23 rfl rfl
theorem dksX3_conflicts_3 : cX3_conflicts.data.toList.drop 69 = dktX3_conflicts_3 := dk_seg dksX3_conflicts_2 23 rfl rfl
theorem dX3_conflicts_0 : decode cX3_conflicts 0 = .ok (.aload_n 0, 1) := dk_42 (dk_at dksX3_conflicts_0 0 rfl rfl)
theorem dX3_conflicts_1 : decode cX3_conflicts 1 = .ok (.iconst 0, 1) := dk_3 (dk_at dksX3_conflicts_0 1 rfl rfl)
theorem dX3_conflicts_2 : decode cX3_conflicts 2 = .ok (.putfield 116, 3) := dk_181 0 116 (dk_at dksX3_conflicts_0 2 rfl rfl)
theorem dX3_conflicts_5 : decode cX3_conflicts 5 = .ok (.aload_n 0, 1) := dk_42 (dk_at dksX3_conflicts_0 5 rfl rfl)
theorem dX3_conflicts_6 : decode cX3_conflicts 6 = .ok (.iload_n 1, 1) := dk_27 (dk_at dksX3_conflicts_0 6 rfl rfl)
theorem dX3_conflicts_7 : decode cX3_conflicts 7 = .ok (.invokevirtual 309, 3) := dk_182 1 53 (dk_at dksX3_conflicts_0 7 rfl rfl)
theorem dX3_conflicts_10 : decode cX3_conflicts 10 = .ok (.ifCond .eq 19, 3) := dk_153 0 19 (dk_at dksX3_conflicts_0 10 rfl rfl)
theorem dX3_conflicts_13 : decode cX3_conflicts 13 = .ok (.aload_n 0, 1) := dk_42 (dk_at dksX3_conflicts_0 13 rfl rfl)
theorem dX3_conflicts_14 : decode cX3_conflicts 14 = .ok (.iload_n 2, 1) := dk_28 (dk_at dksX3_conflicts_0 14 rfl rfl)
theorem dX3_conflicts_15 : decode cX3_conflicts 15 = .ok (.invokevirtual 309, 3) := dk_182 1 53 (dk_at dksX3_conflicts_0 15 rfl rfl)
theorem dX3_conflicts_18 : decode cX3_conflicts 18 = .ok (.ifCond .eq 11, 3) := dk_153 0 11 (dk_at dksX3_conflicts_0 18 rfl rfl)
theorem dX3_conflicts_21 : decode cX3_conflicts 21 = .ok (.aload_n 0, 1) := dk_42 (dk_at dksX3_conflicts_0 21 rfl rfl)
theorem dX3_conflicts_22 : decode cX3_conflicts 22 = .ok (.iload_n 3, 1) := dk_29 (dk_at dksX3_conflicts_0 22 rfl rfl)
theorem dX3_conflicts_23 : decode cX3_conflicts 23 = .ok (.invokevirtual 309, 3) := dk_182 1 53 (dk_at dksX3_conflicts_1 0 rfl rfl)
theorem dX3_conflicts_26 : decode cX3_conflicts 26 = .ok (.ifCond .ne 5, 3) := dk_154 0 5 (dk_at dksX3_conflicts_1 3 rfl rfl)
theorem dX3_conflicts_29 : decode cX3_conflicts 29 = .ok (.iconst (-1), 1) := dk_2 (dk_at dksX3_conflicts_1 6 rfl rfl)
theorem dX3_conflicts_30 : decode cX3_conflicts 30 = .ok (.ireturn, 1) := dk_172 (dk_at dksX3_conflicts_1 7 rfl rfl)
theorem dX3_conflicts_31 : decode cX3_conflicts 31 = .ok (.aload_n 0, 1) := dk_42 (dk_at dksX3_conflicts_1 8 rfl rfl)
theorem dX3_conflicts_32 : decode cX3_conflicts 32 = .ok (.iload_n 1, 1) := dk_27 (dk_at dksX3_conflicts_1 9 rfl rfl)
theorem dX3_conflicts_33 : decode cX3_conflicts 33 = .ok (.iload_n 2, 1) := dk_28 (dk_at dksX3_conflicts_1 10 rfl rfl)
theorem dX3_conflicts_34 : decode cX3_conflicts 34 = .ok (.iload_n 3, 1) := dk_29 (dk_at dksX3_conflicts_1 11 rfl rfl)
theorem dX3_conflicts_35 : decode cX3_conflicts 35 = .ok (.invokevirtual 371, 3) := dk_182 1 115 (dk_at dksX3_conflicts_1 12 rfl rfl)
theorem dX3_conflicts_38 : decode cX3_conflicts 38 = .ok (.iconst 0, 1) := dk_3 (dk_at dksX3_conflicts_1 15 rfl rfl)
theorem dX3_conflicts_39 : decode cX3_conflicts 39 = .ok (.istore 4, 2) := dk_54 4 (dk_at dksX3_conflicts_1 16 rfl rfl)
theorem dX3_conflicts_41 : decode cX3_conflicts 41 = .ok (.iconst 0, 1) := dk_3 (dk_at dksX3_conflicts_1 18 rfl rfl)
theorem dX3_conflicts_42 : decode cX3_conflicts 42 = .ok (.istore 5, 2) := dk_54 5 (dk_at dksX3_conflicts_1 19 rfl rfl)
theorem dX3_conflicts_44 : decode cX3_conflicts 44 = .ok (.iload 5, 2) := dk_21 5 (dk_at dksX3_conflicts_1 21 rfl rfl)
theorem dX3_conflicts_46 : decode cX3_conflicts 46 = .ok (.sipush 999, 3) := dk_17 3 231 (dk_at dksX3_conflicts_2 0 rfl rfl)
theorem dX3_conflicts_49 : decode cX3_conflicts 49 = .ok (.if_icmp .gt 28, 3) := dk_163 0 28 (dk_at dksX3_conflicts_2 3 rfl rfl)
theorem dX3_conflicts_52 : decode cX3_conflicts 52 = .ok (.iload 4, 2) := dk_21 4 (dk_at dksX3_conflicts_2 6 rfl rfl)
theorem dX3_conflicts_54 : decode cX3_conflicts 54 = .ok (.aload_n 0, 1) := dk_42 (dk_at dksX3_conflicts_2 8 rfl rfl)
theorem dX3_conflicts_55 : decode cX3_conflicts 55 = .ok (.iload 5, 2) := dk_21 5 (dk_at dksX3_conflicts_2 9 rfl rfl)
theorem dX3_conflicts_57 : decode cX3_conflicts 57 = .ok (.invokevirtual 366, 3) := dk_182 1 110 (dk_at dksX3_conflicts_2 11 rfl rfl)
theorem dX3_conflicts_60 : decode cX3_conflicts 60 = .ok (.ifCond .eq 7, 3) := dk_153 0 7 (dk_at dksX3_conflicts_2 14 rfl rfl)
theorem dX3_conflicts_63 : decode cX3_conflicts 63 = .ok (.iconst 1, 1) := dk_4 (dk_at dksX3_conflicts_2 17 rfl rfl)
theorem dX3_conflicts_64 : decode cX3_conflicts 64 = .ok (.goto 4, 3) := dk_167 0 4 (dk_at dksX3_conflicts_2 18 rfl rfl)
theorem dX3_conflicts_67 : decode cX3_conflicts 67 = .ok (.iconst 0, 1) := dk_3 (dk_at dksX3_conflicts_2 21 rfl rfl)
theorem dX3_conflicts_68 : decode cX3_conflicts 68 = .ok (.iadd, 1) := dk_96 (dk_at dksX3_conflicts_2 22 rfl rfl)
theorem dX3_conflicts_69 : decode cX3_conflicts 69 = .ok (.istore 4, 2) := dk_54 4 (dk_at dksX3_conflicts_3 0 rfl rfl)
theorem dX3_conflicts_71 : decode cX3_conflicts 71 = .ok (.iinc 5 1, 3) := dk_132 5 1 (dk_at dksX3_conflicts_3 2 rfl rfl)
theorem dX3_conflicts_74 : decode cX3_conflicts 74 = .ok (.goto (-30), 3) := dk_167 255 226 (dk_at dksX3_conflicts_3 5 rfl rfl)
theorem dX3_conflicts_77 : decode cX3_conflicts 77 = .ok (.iload 4, 2) := dk_21 4 (dk_at dksX3_conflicts_3 8 rfl rfl)
theorem dX3_conflicts_79 : decode cX3_conflicts 79 = .ok (.ireturn, 1) := dk_172 (dk_at dksX3_conflicts_3 10 rfl rfl)
abbrev cX3_slice : ByteArray := prog_9_method_74_code
def yX3_slice : MethodName := ⟨RX3, "slice", "(III)I"⟩
def dkwX3_slice_3 : List UInt8 := [46, 28, 29, 3, 42, 182, 1, 39, 182, 1, 121, 27, 2, 182, 1, 46, 172]
abbrev dktX3_slice_3 : List UInt8 := dkwX3_slice_3 ++ []
def dkwX3_slice_2 : List UInt8 := [182, 1, 36, 172, 42, 182, 1, 33, 154, 0, 9, 42, 7, 182, 1, 36, 172, 42, 42, 42, 180, 0, 67, 27]
abbrev dktX3_slice_2 : List UInt8 := dkwX3_slice_2 ++ dktX3_slice_3
def dkwX3_slice_1 : List UInt8 := [20, 1, 79, 184, 0, 174, 153, 0, 16, 29, 133, 28, 133, 20, 1, 79, 184, 0, 174, 154, 0, 9, 42, 4]
abbrev dktX3_slice_1 : List UInt8 := dkwX3_slice_1 ++ dktX3_slice_2
def dkwX3_slice_0 : List UInt8 := [42, 3, 181, 0, 116, 42, 27, 182, 1, 53, 154, 0, 9, 42, 3, 182, 1, 36, 172, 28, 133, 9]
abbrev dktX3_slice_0 : List UInt8 := dkwX3_slice_0 ++ dktX3_slice_1
theorem dksX3_slice_0 : cX3_slice.data.toList.drop 0 = dktX3_slice_0 := by decide +kernel
theorem dksX3_slice_1 : cX3_slice.data.toList.drop 22 = dktX3_slice_1 := dk_seg dksX3_slice_0 22 rfl rfl
theorem dksX3_slice_2 : cX3_slice.data.toList.drop 46 = dktX3_slice_2 := dk_seg dksX3_slice_1 24 rfl rfl
theorem dksX3_slice_3 : cX3_slice.data.toList.drop 70 = dktX3_slice_3 := dk_seg dksX3_slice_2 24 rfl rfl
theorem dX3_slice_0 : decode cX3_slice 0 = .ok (.aload_n 0, 1) := dk_42 (dk_at dksX3_slice_0 0 rfl rfl)
theorem dX3_slice_1 : decode cX3_slice 1 = .ok (.iconst 0, 1) := dk_3 (dk_at dksX3_slice_0 1 rfl rfl)
theorem dX3_slice_2 : decode cX3_slice 2 = .ok (.putfield 116, 3) := dk_181 0 116 (dk_at dksX3_slice_0 2 rfl rfl)
theorem dX3_slice_5 : decode cX3_slice 5 = .ok (.aload_n 0, 1) := dk_42 (dk_at dksX3_slice_0 5 rfl rfl)
theorem dX3_slice_6 : decode cX3_slice 6 = .ok (.iload_n 1, 1) := dk_27 (dk_at dksX3_slice_0 6 rfl rfl)
theorem dX3_slice_7 : decode cX3_slice 7 = .ok (.invokevirtual 309, 3) := dk_182 1 53 (dk_at dksX3_slice_0 7 rfl rfl)
theorem dX3_slice_10 : decode cX3_slice 10 = .ok (.ifCond .ne 9, 3) := dk_154 0 9 (dk_at dksX3_slice_0 10 rfl rfl)
theorem dX3_slice_13 : decode cX3_slice 13 = .ok (.aload_n 0, 1) := dk_42 (dk_at dksX3_slice_0 13 rfl rfl)
theorem dX3_slice_14 : decode cX3_slice 14 = .ok (.iconst 0, 1) := dk_3 (dk_at dksX3_slice_0 14 rfl rfl)
theorem dX3_slice_15 : decode cX3_slice 15 = .ok (.invokevirtual 292, 3) := dk_182 1 36 (dk_at dksX3_slice_0 15 rfl rfl)
theorem dX3_slice_18 : decode cX3_slice 18 = .ok (.ireturn, 1) := dk_172 (dk_at dksX3_slice_0 18 rfl rfl)
theorem dX3_slice_19 : decode cX3_slice 19 = .ok (.iload_n 2, 1) := dk_28 (dk_at dksX3_slice_0 19 rfl rfl)
theorem dX3_slice_20 : decode cX3_slice 20 = .ok (.i2l, 1) := dk_133 (dk_at dksX3_slice_0 20 rfl rfl)
theorem dX3_slice_21 : decode cX3_slice 21 = .ok (.lconst 0, 1) := dk_9 (dk_at dksX3_slice_0 21 rfl rfl)
theorem dX3_slice_22 : decode cX3_slice 22 = .ok (.ldc2_w 335, 3) := dk_20 1 79 (dk_at dksX3_slice_1 0 rfl rfl)
theorem dX3_slice_25 : decode cX3_slice 25 = .ok (.invokestatic 174, 3) := dk_184 0 174 (dk_at dksX3_slice_1 3 rfl rfl)
theorem dX3_slice_28 : decode cX3_slice 28 = .ok (.ifCond .eq 16, 3) := dk_153 0 16 (dk_at dksX3_slice_1 6 rfl rfl)
theorem dX3_slice_31 : decode cX3_slice 31 = .ok (.iload_n 3, 1) := dk_29 (dk_at dksX3_slice_1 9 rfl rfl)
theorem dX3_slice_32 : decode cX3_slice 32 = .ok (.i2l, 1) := dk_133 (dk_at dksX3_slice_1 10 rfl rfl)
theorem dX3_slice_33 : decode cX3_slice 33 = .ok (.iload_n 2, 1) := dk_28 (dk_at dksX3_slice_1 11 rfl rfl)
theorem dX3_slice_34 : decode cX3_slice 34 = .ok (.i2l, 1) := dk_133 (dk_at dksX3_slice_1 12 rfl rfl)
theorem dX3_slice_35 : decode cX3_slice 35 = .ok (.ldc2_w 335, 3) := dk_20 1 79 (dk_at dksX3_slice_1 13 rfl rfl)
theorem dX3_slice_38 : decode cX3_slice 38 = .ok (.invokestatic 174, 3) := dk_184 0 174 (dk_at dksX3_slice_1 16 rfl rfl)
theorem dX3_slice_41 : decode cX3_slice 41 = .ok (.ifCond .ne 9, 3) := dk_154 0 9 (dk_at dksX3_slice_1 19 rfl rfl)
theorem dX3_slice_44 : decode cX3_slice 44 = .ok (.aload_n 0, 1) := dk_42 (dk_at dksX3_slice_1 22 rfl rfl)
theorem dX3_slice_45 : decode cX3_slice 45 = .ok (.iconst 1, 1) := dk_4 (dk_at dksX3_slice_1 23 rfl rfl)
theorem dX3_slice_46 : decode cX3_slice 46 = .ok (.invokevirtual 292, 3) := dk_182 1 36 (dk_at dksX3_slice_2 0 rfl rfl)
theorem dX3_slice_49 : decode cX3_slice 49 = .ok (.ireturn, 1) := dk_172 (dk_at dksX3_slice_2 3 rfl rfl)
theorem dX3_slice_50 : decode cX3_slice 50 = .ok (.aload_n 0, 1) := dk_42 (dk_at dksX3_slice_2 4 rfl rfl)
theorem dX3_slice_51 : decode cX3_slice 51 = .ok (.invokevirtual 289, 3) := dk_182 1 33 (dk_at dksX3_slice_2 5 rfl rfl)
theorem dX3_slice_54 : decode cX3_slice 54 = .ok (.ifCond .ne 9, 3) := dk_154 0 9 (dk_at dksX3_slice_2 8 rfl rfl)
theorem dX3_slice_57 : decode cX3_slice 57 = .ok (.aload_n 0, 1) := dk_42 (dk_at dksX3_slice_2 11 rfl rfl)
theorem dX3_slice_58 : decode cX3_slice 58 = .ok (.iconst 4, 1) := dk_7 (dk_at dksX3_slice_2 12 rfl rfl)
theorem dX3_slice_59 : decode cX3_slice 59 = .ok (.invokevirtual 292, 3) := dk_182 1 36 (dk_at dksX3_slice_2 13 rfl rfl)
theorem dX3_slice_62 : decode cX3_slice 62 = .ok (.ireturn, 1) := dk_172 (dk_at dksX3_slice_2 16 rfl rfl)
theorem dX3_slice_63 : decode cX3_slice 63 = .ok (.aload_n 0, 1) := dk_42 (dk_at dksX3_slice_2 17 rfl rfl)
theorem dX3_slice_64 : decode cX3_slice 64 = .ok (.aload_n 0, 1) := dk_42 (dk_at dksX3_slice_2 18 rfl rfl)
theorem dX3_slice_65 : decode cX3_slice 65 = .ok (.aload_n 0, 1) := dk_42 (dk_at dksX3_slice_2 19 rfl rfl)
theorem dX3_slice_66 : decode cX3_slice 66 = .ok (.getfield 67, 3) := dk_180 0 67 (dk_at dksX3_slice_2 20 rfl rfl)
theorem dX3_slice_69 : decode cX3_slice 69 = .ok (.iload_n 1, 1) := dk_27 (dk_at dksX3_slice_2 23 rfl rfl)
theorem dX3_slice_70 : decode cX3_slice 70 = .ok (.iaload, 1) := dk_46 (dk_at dksX3_slice_3 0 rfl rfl)
theorem dX3_slice_71 : decode cX3_slice 71 = .ok (.iload_n 2, 1) := dk_28 (dk_at dksX3_slice_3 1 rfl rfl)
theorem dX3_slice_72 : decode cX3_slice 72 = .ok (.iload_n 3, 1) := dk_29 (dk_at dksX3_slice_3 2 rfl rfl)
theorem dX3_slice_73 : decode cX3_slice 73 = .ok (.iconst 0, 1) := dk_3 (dk_at dksX3_slice_3 3 rfl rfl)
theorem dX3_slice_74 : decode cX3_slice 74 = .ok (.aload_n 0, 1) := dk_42 (dk_at dksX3_slice_3 4 rfl rfl)
theorem dX3_slice_75 : decode cX3_slice 75 = .ok (.invokevirtual 295, 3) := dk_182 1 39 (dk_at dksX3_slice_3 5 rfl rfl)
theorem dX3_slice_78 : decode cX3_slice 78 = .ok (.invokevirtual 377, 3) := dk_182 1 121 (dk_at dksX3_slice_3 8 rfl rfl)
theorem dX3_slice_81 : decode cX3_slice 81 = .ok (.iload_n 1, 1) := dk_27 (dk_at dksX3_slice_3 11 rfl rfl)
theorem dX3_slice_82 : decode cX3_slice 82 = .ok (.iconst (-1), 1) := dk_2 (dk_at dksX3_slice_3 12 rfl rfl)
theorem dX3_slice_83 : decode cX3_slice 83 = .ok (.invokevirtual 302, 3) := dk_182 1 46 (dk_at dksX3_slice_3 13 rfl rfl)
theorem dX3_slice_86 : decode cX3_slice 86 = .ok (.ireturn, 1) := dk_172 (dk_at dksX3_slice_3 16 rfl rfl)
abbrev cX3_cuts : ByteArray := prog_9_method_73_code
def yX3_cuts : MethodName := ⟨RX3, "cuts", "(IIIZI)I"⟩
def dkwX3_cuts_4 : List UInt8 := [167, 255, 231, 27, 172]
abbrev dktX3_cuts_4 : List UInt8 := dkwX3_cuts_4 ++ []
def dkwX3_cuts_3 : List UInt8 := [21, 6, 162, 0, 24, 42, 27, 42, 180, 0, 101, 21, 7, 46, 21, 5, 182, 1, 83, 60, 132, 7, 1]
abbrev dktX3_cuts_3 : List UInt8 := dkwX3_cuts_3 ++ dktX3_cuts_4
def dkwX3_cuts_2 : List UInt8 := [21, 6, 42, 180, 0, 55, 21, 7, 46, 79, 132, 6, 1, 132, 7, 1, 167, 255, 204, 3, 54, 7, 21, 7]
abbrev dktX3_cuts_2 : List UInt8 := dkwX3_cuts_2 ++ dktX3_cuts_3
def dkwX3_cuts_1 : List UInt8 := [21, 7, 46, 133, 28, 133, 29, 133, 184, 0, 174, 21, 4, 159, 0, 6, 167, 0, 20, 42, 180, 0, 101]
abbrev dktX3_cuts_1 : List UInt8 := dkwX3_cuts_1 ++ dktX3_cuts_2
def dkwX3_cuts_0 : List UInt8 := [42, 27, 182, 0, 252, 3, 54, 6, 3, 54, 7, 21, 7, 42, 180, 0, 249, 162, 0, 49, 42, 180, 0, 55]
abbrev dktX3_cuts_0 : List UInt8 := dkwX3_cuts_0 ++ dktX3_cuts_1
theorem dksX3_cuts_0 : cX3_cuts.data.toList.drop 0 = dktX3_cuts_0 := by decide +kernel
theorem dksX3_cuts_1 : cX3_cuts.data.toList.drop 24 = dktX3_cuts_1 := dk_seg dksX3_cuts_0 24 rfl rfl
theorem dksX3_cuts_2 : cX3_cuts.data.toList.drop 47 = dktX3_cuts_2 := dk_seg dksX3_cuts_1 23 rfl rfl
theorem dksX3_cuts_3 : cX3_cuts.data.toList.drop 71 = dktX3_cuts_3 := dk_seg dksX3_cuts_2 24 rfl rfl
theorem dksX3_cuts_4 : cX3_cuts.data.toList.drop 94 = dktX3_cuts_4 := dk_seg dksX3_cuts_3 23 rfl rfl
theorem dX3_cuts_0 : decode cX3_cuts 0 = .ok (.aload_n 0, 1) := dk_42 (dk_at dksX3_cuts_0 0 rfl rfl)
theorem dX3_cuts_1 : decode cX3_cuts 1 = .ok (.iload_n 1, 1) := dk_27 (dk_at dksX3_cuts_0 1 rfl rfl)
theorem dX3_cuts_2 : decode cX3_cuts 2 = .ok (.invokevirtual 252, 3) := dk_182 0 252 (dk_at dksX3_cuts_0 2 rfl rfl)
theorem dX3_cuts_5 : decode cX3_cuts 5 = .ok (.iconst 0, 1) := dk_3 (dk_at dksX3_cuts_0 5 rfl rfl)
theorem dX3_cuts_6 : decode cX3_cuts 6 = .ok (.istore 6, 2) := dk_54 6 (dk_at dksX3_cuts_0 6 rfl rfl)
theorem dX3_cuts_8 : decode cX3_cuts 8 = .ok (.iconst 0, 1) := dk_3 (dk_at dksX3_cuts_0 8 rfl rfl)
theorem dX3_cuts_9 : decode cX3_cuts 9 = .ok (.istore 7, 2) := dk_54 7 (dk_at dksX3_cuts_0 9 rfl rfl)
theorem dX3_cuts_11 : decode cX3_cuts 11 = .ok (.iload 7, 2) := dk_21 7 (dk_at dksX3_cuts_0 11 rfl rfl)
theorem dX3_cuts_13 : decode cX3_cuts 13 = .ok (.aload_n 0, 1) := dk_42 (dk_at dksX3_cuts_0 13 rfl rfl)
theorem dX3_cuts_14 : decode cX3_cuts 14 = .ok (.getfield 249, 3) := dk_180 0 249 (dk_at dksX3_cuts_0 14 rfl rfl)
theorem dX3_cuts_17 : decode cX3_cuts 17 = .ok (.if_icmp .ge 49, 3) := dk_162 0 49 (dk_at dksX3_cuts_0 17 rfl rfl)
theorem dX3_cuts_20 : decode cX3_cuts 20 = .ok (.aload_n 0, 1) := dk_42 (dk_at dksX3_cuts_0 20 rfl rfl)
theorem dX3_cuts_21 : decode cX3_cuts 21 = .ok (.getfield 55, 3) := dk_180 0 55 (dk_at dksX3_cuts_0 21 rfl rfl)
theorem dX3_cuts_24 : decode cX3_cuts 24 = .ok (.iload 7, 2) := dk_21 7 (dk_at dksX3_cuts_1 0 rfl rfl)
theorem dX3_cuts_26 : decode cX3_cuts 26 = .ok (.iaload, 1) := dk_46 (dk_at dksX3_cuts_1 2 rfl rfl)
theorem dX3_cuts_27 : decode cX3_cuts 27 = .ok (.i2l, 1) := dk_133 (dk_at dksX3_cuts_1 3 rfl rfl)
theorem dX3_cuts_28 : decode cX3_cuts 28 = .ok (.iload_n 2, 1) := dk_28 (dk_at dksX3_cuts_1 4 rfl rfl)
theorem dX3_cuts_29 : decode cX3_cuts 29 = .ok (.i2l, 1) := dk_133 (dk_at dksX3_cuts_1 5 rfl rfl)
theorem dX3_cuts_30 : decode cX3_cuts 30 = .ok (.iload_n 3, 1) := dk_29 (dk_at dksX3_cuts_1 6 rfl rfl)
theorem dX3_cuts_31 : decode cX3_cuts 31 = .ok (.i2l, 1) := dk_133 (dk_at dksX3_cuts_1 7 rfl rfl)
theorem dX3_cuts_32 : decode cX3_cuts 32 = .ok (.invokestatic 174, 3) := dk_184 0 174 (dk_at dksX3_cuts_1 8 rfl rfl)
theorem dX3_cuts_35 : decode cX3_cuts 35 = .ok (.iload 4, 2) := dk_21 4 (dk_at dksX3_cuts_1 11 rfl rfl)
theorem dX3_cuts_37 : decode cX3_cuts 37 = .ok (.if_icmp .eq 6, 3) := dk_159 0 6 (dk_at dksX3_cuts_1 13 rfl rfl)
theorem dX3_cuts_40 : decode cX3_cuts 40 = .ok (.goto 20, 3) := dk_167 0 20 (dk_at dksX3_cuts_1 16 rfl rfl)
theorem dX3_cuts_43 : decode cX3_cuts 43 = .ok (.aload_n 0, 1) := dk_42 (dk_at dksX3_cuts_1 19 rfl rfl)
theorem dX3_cuts_44 : decode cX3_cuts 44 = .ok (.getfield 101, 3) := dk_180 0 101 (dk_at dksX3_cuts_1 20 rfl rfl)
theorem dX3_cuts_47 : decode cX3_cuts 47 = .ok (.iload 6, 2) := dk_21 6 (dk_at dksX3_cuts_2 0 rfl rfl)
theorem dX3_cuts_49 : decode cX3_cuts 49 = .ok (.aload_n 0, 1) := dk_42 (dk_at dksX3_cuts_2 2 rfl rfl)
theorem dX3_cuts_50 : decode cX3_cuts 50 = .ok (.getfield 55, 3) := dk_180 0 55 (dk_at dksX3_cuts_2 3 rfl rfl)
theorem dX3_cuts_53 : decode cX3_cuts 53 = .ok (.iload 7, 2) := dk_21 7 (dk_at dksX3_cuts_2 6 rfl rfl)
theorem dX3_cuts_55 : decode cX3_cuts 55 = .ok (.iaload, 1) := dk_46 (dk_at dksX3_cuts_2 8 rfl rfl)
theorem dX3_cuts_56 : decode cX3_cuts 56 = .ok (.iastore, 1) := dk_79 (dk_at dksX3_cuts_2 9 rfl rfl)
theorem dX3_cuts_57 : decode cX3_cuts 57 = .ok (.iinc 6 1, 3) := dk_132 6 1 (dk_at dksX3_cuts_2 10 rfl rfl)
theorem dX3_cuts_60 : decode cX3_cuts 60 = .ok (.iinc 7 1, 3) := dk_132 7 1 (dk_at dksX3_cuts_2 13 rfl rfl)
theorem dX3_cuts_63 : decode cX3_cuts 63 = .ok (.goto (-52), 3) := dk_167 255 204 (dk_at dksX3_cuts_2 16 rfl rfl)
theorem dX3_cuts_66 : decode cX3_cuts 66 = .ok (.iconst 0, 1) := dk_3 (dk_at dksX3_cuts_2 19 rfl rfl)
theorem dX3_cuts_67 : decode cX3_cuts 67 = .ok (.istore 7, 2) := dk_54 7 (dk_at dksX3_cuts_2 20 rfl rfl)
theorem dX3_cuts_69 : decode cX3_cuts 69 = .ok (.iload 7, 2) := dk_21 7 (dk_at dksX3_cuts_2 22 rfl rfl)
theorem dX3_cuts_71 : decode cX3_cuts 71 = .ok (.iload 6, 2) := dk_21 6 (dk_at dksX3_cuts_3 0 rfl rfl)
theorem dX3_cuts_73 : decode cX3_cuts 73 = .ok (.if_icmp .ge 24, 3) := dk_162 0 24 (dk_at dksX3_cuts_3 2 rfl rfl)
theorem dX3_cuts_76 : decode cX3_cuts 76 = .ok (.aload_n 0, 1) := dk_42 (dk_at dksX3_cuts_3 5 rfl rfl)
theorem dX3_cuts_77 : decode cX3_cuts 77 = .ok (.iload_n 1, 1) := dk_27 (dk_at dksX3_cuts_3 6 rfl rfl)
theorem dX3_cuts_78 : decode cX3_cuts 78 = .ok (.aload_n 0, 1) := dk_42 (dk_at dksX3_cuts_3 7 rfl rfl)
theorem dX3_cuts_79 : decode cX3_cuts 79 = .ok (.getfield 101, 3) := dk_180 0 101 (dk_at dksX3_cuts_3 8 rfl rfl)
theorem dX3_cuts_82 : decode cX3_cuts 82 = .ok (.iload 7, 2) := dk_21 7 (dk_at dksX3_cuts_3 11 rfl rfl)
theorem dX3_cuts_84 : decode cX3_cuts 84 = .ok (.iaload, 1) := dk_46 (dk_at dksX3_cuts_3 13 rfl rfl)
theorem dX3_cuts_85 : decode cX3_cuts 85 = .ok (.iload 5, 2) := dk_21 5 (dk_at dksX3_cuts_3 14 rfl rfl)
theorem dX3_cuts_87 : decode cX3_cuts 87 = .ok (.invokevirtual 339, 3) := dk_182 1 83 (dk_at dksX3_cuts_3 16 rfl rfl)
theorem dX3_cuts_90 : decode cX3_cuts 90 = .ok (.istore_n 1, 1) := dk_60 (dk_at dksX3_cuts_3 19 rfl rfl)
theorem dX3_cuts_91 : decode cX3_cuts 91 = .ok (.iinc 7 1, 3) := dk_132 7 1 (dk_at dksX3_cuts_3 20 rfl rfl)
theorem dX3_cuts_94 : decode cX3_cuts 94 = .ok (.goto (-25), 3) := dk_167 255 231 (dk_at dksX3_cuts_4 0 rfl rfl)
theorem dX3_cuts_97 : decode cX3_cuts 97 = .ok (.iload_n 1, 1) := dk_27 (dk_at dksX3_cuts_4 3 rfl rfl)
theorem dX3_cuts_98 : decode cX3_cuts 98 = .ok (.ireturn, 1) := dk_172 (dk_at dksX3_cuts_4 4 rfl rfl)
abbrev cX3_drop : ByteArray := prog_9_method_75_code
def yX3_drop : MethodName := ⟨RX3, "drop", "(I)I"⟩
def dkwX3_drop_1 : List UInt8 := [3, 84, 42, 89, 180, 1, 19, 4, 100, 181, 1, 19, 42, 180, 1, 19, 172]
abbrev dktX3_drop_1 : List UInt8 := dkwX3_drop_1 ++ []
def dkwX3_drop_0 : List UInt8 := [42, 3, 181, 0, 116, 42, 27, 182, 1, 53, 154, 0, 9, 42, 3, 182, 1, 36, 172, 42, 180, 0, 88, 27]
abbrev dktX3_drop_0 : List UInt8 := dkwX3_drop_0 ++ dktX3_drop_1
theorem dksX3_drop_0 : cX3_drop.data.toList.drop 0 = dktX3_drop_0 := by decide +kernel
theorem dksX3_drop_1 : cX3_drop.data.toList.drop 24 = dktX3_drop_1 := dk_seg dksX3_drop_0 24 rfl rfl
theorem dX3_drop_0 : decode cX3_drop 0 = .ok (.aload_n 0, 1) := dk_42 (dk_at dksX3_drop_0 0 rfl rfl)
theorem dX3_drop_1 : decode cX3_drop 1 = .ok (.iconst 0, 1) := dk_3 (dk_at dksX3_drop_0 1 rfl rfl)
theorem dX3_drop_2 : decode cX3_drop 2 = .ok (.putfield 116, 3) := dk_181 0 116 (dk_at dksX3_drop_0 2 rfl rfl)
theorem dX3_drop_5 : decode cX3_drop 5 = .ok (.aload_n 0, 1) := dk_42 (dk_at dksX3_drop_0 5 rfl rfl)
theorem dX3_drop_6 : decode cX3_drop 6 = .ok (.iload_n 1, 1) := dk_27 (dk_at dksX3_drop_0 6 rfl rfl)
theorem dX3_drop_7 : decode cX3_drop 7 = .ok (.invokevirtual 309, 3) := dk_182 1 53 (dk_at dksX3_drop_0 7 rfl rfl)
theorem dX3_drop_10 : decode cX3_drop 10 = .ok (.ifCond .ne 9, 3) := dk_154 0 9 (dk_at dksX3_drop_0 10 rfl rfl)
theorem dX3_drop_13 : decode cX3_drop 13 = .ok (.aload_n 0, 1) := dk_42 (dk_at dksX3_drop_0 13 rfl rfl)
theorem dX3_drop_14 : decode cX3_drop 14 = .ok (.iconst 0, 1) := dk_3 (dk_at dksX3_drop_0 14 rfl rfl)
theorem dX3_drop_15 : decode cX3_drop 15 = .ok (.invokevirtual 292, 3) := dk_182 1 36 (dk_at dksX3_drop_0 15 rfl rfl)
theorem dX3_drop_18 : decode cX3_drop 18 = .ok (.ireturn, 1) := dk_172 (dk_at dksX3_drop_0 18 rfl rfl)
theorem dX3_drop_19 : decode cX3_drop 19 = .ok (.aload_n 0, 1) := dk_42 (dk_at dksX3_drop_0 19 rfl rfl)
theorem dX3_drop_20 : decode cX3_drop 20 = .ok (.getfield 88, 3) := dk_180 0 88 (dk_at dksX3_drop_0 20 rfl rfl)
theorem dX3_drop_23 : decode cX3_drop 23 = .ok (.iload_n 1, 1) := dk_27 (dk_at dksX3_drop_0 23 rfl rfl)
theorem dX3_drop_24 : decode cX3_drop 24 = .ok (.iconst 0, 1) := dk_3 (dk_at dksX3_drop_1 0 rfl rfl)
theorem dX3_drop_25 : decode cX3_drop 25 = .ok (.bastore, 1) := dk_84 (dk_at dksX3_drop_1 1 rfl rfl)
theorem dX3_drop_26 : decode cX3_drop 26 = .ok (.aload_n 0, 1) := dk_42 (dk_at dksX3_drop_1 2 rfl rfl)
theorem dX3_drop_27 : decode cX3_drop 27 = .ok (.dup, 1) := dk_89 (dk_at dksX3_drop_1 3 rfl rfl)
theorem dX3_drop_28 : decode cX3_drop 28 = .ok (.getfield 275, 3) := dk_180 1 19 (dk_at dksX3_drop_1 4 rfl rfl)
theorem dX3_drop_31 : decode cX3_drop 31 = .ok (.iconst 1, 1) := dk_4 (dk_at dksX3_drop_1 7 rfl rfl)
theorem dX3_drop_32 : decode cX3_drop 32 = .ok (.isub, 1) := dk_100 (dk_at dksX3_drop_1 8 rfl rfl)
theorem dX3_drop_33 : decode cX3_drop 33 = .ok (.putfield 275, 3) := dk_181 1 19 (dk_at dksX3_drop_1 9 rfl rfl)
theorem dX3_drop_36 : decode cX3_drop 36 = .ok (.aload_n 0, 1) := dk_42 (dk_at dksX3_drop_1 12 rfl rfl)
theorem dX3_drop_37 : decode cX3_drop 37 = .ok (.getfield 275, 3) := dk_180 1 19 (dk_at dksX3_drop_1 13 rfl rfl)
theorem dX3_drop_40 : decode cX3_drop 40 = .ok (.ireturn, 1) := dk_172 (dk_at dksX3_drop_1 16 rfl rfl)
abbrev cX3_build : ByteArray := prog_9_method_78_code
def yX3_build : MethodName := ⟨RX3, "build", "(II)I"⟩
def dkwX3_build_3 : List UInt8 := [180, 0, 67, 28, 46, 182, 0, 252, 42, 180, 0, 243, 172]
abbrev dktX3_build_3 : List UInt8 := dkwX3_build_3 ++ []
def dkwX3_build_2 : List UInt8 := [89, 180, 1, 12, 4, 27, 120, 128, 181, 1, 12, 42, 180, 0, 79, 27, 42, 182, 1, 39, 79, 42, 42]
abbrev dktX3_build_2 : List UInt8 := dkwX3_build_2 ++ dktX3_build_3
def dkwX3_build_1 : List UInt8 := [182, 1, 36, 172, 42, 180, 0, 76, 27, 42, 180, 0, 67, 28, 46, 79, 42, 180, 0, 82, 27, 28, 79, 42]
abbrev dktX3_build_1 : List UInt8 := dkwX3_build_1 ++ dktX3_build_2
def dkwX3_build_0 : List UInt8 := [42, 3, 181, 0, 116, 42, 27, 182, 1, 125, 153, 0, 11, 42, 28, 182, 1, 53, 154, 0, 9, 42, 3]
abbrev dktX3_build_0 : List UInt8 := dkwX3_build_0 ++ dktX3_build_1
theorem dksX3_build_0 : cX3_build.data.toList.drop 0 = dktX3_build_0 := by decide +kernel
theorem dksX3_build_1 : cX3_build.data.toList.drop 23 = dktX3_build_1 := dk_seg dksX3_build_0 23 rfl rfl
theorem dksX3_build_2 : cX3_build.data.toList.drop 47 = dktX3_build_2 := dk_seg dksX3_build_1 24 rfl rfl
theorem dksX3_build_3 : cX3_build.data.toList.drop 70 = dktX3_build_3 := dk_seg dksX3_build_2 23 rfl rfl
theorem dX3_build_0 : decode cX3_build 0 = .ok (.aload_n 0, 1) := dk_42 (dk_at dksX3_build_0 0 rfl rfl)
theorem dX3_build_1 : decode cX3_build 1 = .ok (.iconst 0, 1) := dk_3 (dk_at dksX3_build_0 1 rfl rfl)
theorem dX3_build_2 : decode cX3_build 2 = .ok (.putfield 116, 3) := dk_181 0 116 (dk_at dksX3_build_0 2 rfl rfl)
theorem dX3_build_5 : decode cX3_build 5 = .ok (.aload_n 0, 1) := dk_42 (dk_at dksX3_build_0 5 rfl rfl)
theorem dX3_build_6 : decode cX3_build 6 = .ok (.iload_n 1, 1) := dk_27 (dk_at dksX3_build_0 6 rfl rfl)
theorem dX3_build_7 : decode cX3_build 7 = .ok (.invokevirtual 381, 3) := dk_182 1 125 (dk_at dksX3_build_0 7 rfl rfl)
theorem dX3_build_10 : decode cX3_build 10 = .ok (.ifCond .eq 11, 3) := dk_153 0 11 (dk_at dksX3_build_0 10 rfl rfl)
theorem dX3_build_13 : decode cX3_build 13 = .ok (.aload_n 0, 1) := dk_42 (dk_at dksX3_build_0 13 rfl rfl)
theorem dX3_build_14 : decode cX3_build 14 = .ok (.iload_n 2, 1) := dk_28 (dk_at dksX3_build_0 14 rfl rfl)
theorem dX3_build_15 : decode cX3_build 15 = .ok (.invokevirtual 309, 3) := dk_182 1 53 (dk_at dksX3_build_0 15 rfl rfl)
theorem dX3_build_18 : decode cX3_build 18 = .ok (.ifCond .ne 9, 3) := dk_154 0 9 (dk_at dksX3_build_0 18 rfl rfl)
theorem dX3_build_21 : decode cX3_build 21 = .ok (.aload_n 0, 1) := dk_42 (dk_at dksX3_build_0 21 rfl rfl)
theorem dX3_build_22 : decode cX3_build 22 = .ok (.iconst 0, 1) := dk_3 (dk_at dksX3_build_0 22 rfl rfl)
theorem dX3_build_23 : decode cX3_build 23 = .ok (.invokevirtual 292, 3) := dk_182 1 36 (dk_at dksX3_build_1 0 rfl rfl)
theorem dX3_build_26 : decode cX3_build 26 = .ok (.ireturn, 1) := dk_172 (dk_at dksX3_build_1 3 rfl rfl)
theorem dX3_build_27 : decode cX3_build 27 = .ok (.aload_n 0, 1) := dk_42 (dk_at dksX3_build_1 4 rfl rfl)
theorem dX3_build_28 : decode cX3_build 28 = .ok (.getfield 76, 3) := dk_180 0 76 (dk_at dksX3_build_1 5 rfl rfl)
theorem dX3_build_31 : decode cX3_build 31 = .ok (.iload_n 1, 1) := dk_27 (dk_at dksX3_build_1 8 rfl rfl)
theorem dX3_build_32 : decode cX3_build 32 = .ok (.aload_n 0, 1) := dk_42 (dk_at dksX3_build_1 9 rfl rfl)
theorem dX3_build_33 : decode cX3_build 33 = .ok (.getfield 67, 3) := dk_180 0 67 (dk_at dksX3_build_1 10 rfl rfl)
theorem dX3_build_36 : decode cX3_build 36 = .ok (.iload_n 2, 1) := dk_28 (dk_at dksX3_build_1 13 rfl rfl)
theorem dX3_build_37 : decode cX3_build 37 = .ok (.iaload, 1) := dk_46 (dk_at dksX3_build_1 14 rfl rfl)
theorem dX3_build_38 : decode cX3_build 38 = .ok (.iastore, 1) := dk_79 (dk_at dksX3_build_1 15 rfl rfl)
theorem dX3_build_39 : decode cX3_build 39 = .ok (.aload_n 0, 1) := dk_42 (dk_at dksX3_build_1 16 rfl rfl)
theorem dX3_build_40 : decode cX3_build 40 = .ok (.getfield 82, 3) := dk_180 0 82 (dk_at dksX3_build_1 17 rfl rfl)
theorem dX3_build_43 : decode cX3_build 43 = .ok (.iload_n 1, 1) := dk_27 (dk_at dksX3_build_1 20 rfl rfl)
theorem dX3_build_44 : decode cX3_build 44 = .ok (.iload_n 2, 1) := dk_28 (dk_at dksX3_build_1 21 rfl rfl)
theorem dX3_build_45 : decode cX3_build 45 = .ok (.iastore, 1) := dk_79 (dk_at dksX3_build_1 22 rfl rfl)
theorem dX3_build_46 : decode cX3_build 46 = .ok (.aload_n 0, 1) := dk_42 (dk_at dksX3_build_1 23 rfl rfl)
theorem dX3_build_47 : decode cX3_build 47 = .ok (.dup, 1) := dk_89 (dk_at dksX3_build_2 0 rfl rfl)
theorem dX3_build_48 : decode cX3_build 48 = .ok (.getfield 268, 3) := dk_180 1 12 (dk_at dksX3_build_2 1 rfl rfl)
theorem dX3_build_51 : decode cX3_build 51 = .ok (.iconst 1, 1) := dk_4 (dk_at dksX3_build_2 4 rfl rfl)
theorem dX3_build_52 : decode cX3_build 52 = .ok (.iload_n 1, 1) := dk_27 (dk_at dksX3_build_2 5 rfl rfl)
theorem dX3_build_53 : decode cX3_build 53 = .ok (.ishl, 1) := dk_120 (dk_at dksX3_build_2 6 rfl rfl)
theorem dX3_build_54 : decode cX3_build 54 = .ok (.ior, 1) := dk_128 (dk_at dksX3_build_2 7 rfl rfl)
theorem dX3_build_55 : decode cX3_build 55 = .ok (.putfield 268, 3) := dk_181 1 12 (dk_at dksX3_build_2 8 rfl rfl)
theorem dX3_build_58 : decode cX3_build 58 = .ok (.aload_n 0, 1) := dk_42 (dk_at dksX3_build_2 11 rfl rfl)
theorem dX3_build_59 : decode cX3_build 59 = .ok (.getfield 79, 3) := dk_180 0 79 (dk_at dksX3_build_2 12 rfl rfl)
theorem dX3_build_62 : decode cX3_build 62 = .ok (.iload_n 1, 1) := dk_27 (dk_at dksX3_build_2 15 rfl rfl)
theorem dX3_build_63 : decode cX3_build 63 = .ok (.aload_n 0, 1) := dk_42 (dk_at dksX3_build_2 16 rfl rfl)
theorem dX3_build_64 : decode cX3_build 64 = .ok (.invokevirtual 295, 3) := dk_182 1 39 (dk_at dksX3_build_2 17 rfl rfl)
theorem dX3_build_67 : decode cX3_build 67 = .ok (.iastore, 1) := dk_79 (dk_at dksX3_build_2 20 rfl rfl)
theorem dX3_build_68 : decode cX3_build 68 = .ok (.aload_n 0, 1) := dk_42 (dk_at dksX3_build_2 21 rfl rfl)
theorem dX3_build_69 : decode cX3_build 69 = .ok (.aload_n 0, 1) := dk_42 (dk_at dksX3_build_2 22 rfl rfl)
theorem dX3_build_70 : decode cX3_build 70 = .ok (.getfield 67, 3) := dk_180 0 67 (dk_at dksX3_build_3 0 rfl rfl)
theorem dX3_build_73 : decode cX3_build 73 = .ok (.iload_n 2, 1) := dk_28 (dk_at dksX3_build_3 3 rfl rfl)
theorem dX3_build_74 : decode cX3_build 74 = .ok (.iaload, 1) := dk_46 (dk_at dksX3_build_3 4 rfl rfl)
theorem dX3_build_75 : decode cX3_build 75 = .ok (.invokevirtual 252, 3) := dk_182 0 252 (dk_at dksX3_build_3 5 rfl rfl)
theorem dX3_build_78 : decode cX3_build 78 = .ok (.aload_n 0, 1) := dk_42 (dk_at dksX3_build_3 8 rfl rfl)
theorem dX3_build_79 : decode cX3_build 79 = .ok (.getfield 243, 3) := dk_180 0 243 (dk_at dksX3_build_3 9 rfl rfl)
theorem dX3_build_82 : decode cX3_build 82 = .ok (.ireturn, 1) := dk_172 (dk_at dksX3_build_3 12 rfl rfl)
abbrev cX3_isBuilder : ByteArray := prog_9_method_76_code
def yX3_isBuilder : MethodName := ⟨RX3, "isBuilder", "(I)Z"⟩
def dkwX3_isBuilder_0 : List UInt8 := [27, 133, 9, 20, 1, 49, 184, 0, 174, 172]
abbrev dktX3_isBuilder_0 : List UInt8 := dkwX3_isBuilder_0 ++ []
theorem dksX3_isBuilder_0 : cX3_isBuilder.data.toList.drop 0 = dktX3_isBuilder_0 := by decide +kernel
theorem dX3_isBuilder_0 : decode cX3_isBuilder 0 = .ok (.iload_n 1, 1) := dk_27 (dk_at dksX3_isBuilder_0 0 rfl rfl)
theorem dX3_isBuilder_1 : decode cX3_isBuilder 1 = .ok (.i2l, 1) := dk_133 (dk_at dksX3_isBuilder_0 1 rfl rfl)
theorem dX3_isBuilder_2 : decode cX3_isBuilder 2 = .ok (.lconst 0, 1) := dk_9 (dk_at dksX3_isBuilder_0 2 rfl rfl)
theorem dX3_isBuilder_3 : decode cX3_isBuilder 3 = .ok (.ldc2_w 305, 3) := dk_20 1 49 (dk_at dksX3_isBuilder_0 3 rfl rfl)
theorem dX3_isBuilder_6 : decode cX3_isBuilder 6 = .ok (.invokestatic 174, 3) := dk_184 0 174 (dk_at dksX3_isBuilder_0 6 rfl rfl)
theorem dX3_isBuilder_9 : decode cX3_isBuilder 9 = .ok (.ireturn, 1) := dk_172 (dk_at dksX3_isBuilder_0 9 rfl rfl)
abbrev cX3_lay : ByteArray := prog_9_method_85_code
def yX3_lay : MethodName := ⟨RX3, "lay", "(III)I"⟩
def dkwX3_lay_0 : List UInt8 := [42, 27, 28, 29, 3, 182, 1, 144, 172]
abbrev dktX3_lay_0 : List UInt8 := dkwX3_lay_0 ++ []
theorem dksX3_lay_0 : cX3_lay.data.toList.drop 0 = dktX3_lay_0 := by decide +kernel
theorem dX3_lay_0 : decode cX3_lay 0 = .ok (.aload_n 0, 1) := dk_42 (dk_at dksX3_lay_0 0 rfl rfl)
theorem dX3_lay_1 : decode cX3_lay 1 = .ok (.iload_n 1, 1) := dk_27 (dk_at dksX3_lay_0 1 rfl rfl)
theorem dX3_lay_2 : decode cX3_lay 2 = .ok (.iload_n 2, 1) := dk_28 (dk_at dksX3_lay_0 2 rfl rfl)
theorem dX3_lay_3 : decode cX3_lay 3 = .ok (.iload_n 3, 1) := dk_29 (dk_at dksX3_lay_0 3 rfl rfl)
theorem dX3_lay_4 : decode cX3_lay 4 = .ok (.iconst 0, 1) := dk_3 (dk_at dksX3_lay_0 4 rfl rfl)
theorem dX3_lay_5 : decode cX3_lay 5 = .ok (.invokevirtual 400, 3) := dk_182 1 144 (dk_at dksX3_lay_0 5 rfl rfl)
theorem dX3_lay_8 : decode cX3_lay 8 = .ok (.ireturn, 1) := dk_172 (dk_at dksX3_lay_0 8 rfl rfl)
abbrev cX3_lays : ByteArray := prog_9_method_84_code
def yX3_lays : MethodName := ⟨RX3, "lays", "(IIIZ)I"⟩
def dkwX3_lays_4 : List UInt8 := [182, 1, 131, 167, 0, 10, 42, 27, 28, 29, 182, 1, 128, 42, 180, 0, 190, 21, 6, 100, 172]
abbrev dktX3_lays_4 : List UInt8 := dkwX3_lays_4 ++ []
def dkwX3_lays_3 : List UInt8 := [182, 1, 36, 172, 42, 182, 1, 22, 42, 180, 0, 190, 54, 6, 21, 4, 153, 0, 13, 42, 27, 28, 29]
abbrev dktX3_lays_3 : List UInt8 := dkwX3_lays_3 ++ dktX3_lays_4
def dkwX3_lays_2 : List UInt8 := [160, 0, 15, 42, 27, 28, 182, 1, 141, 154, 0, 6, 6, 54, 5, 21, 5, 2, 159, 0, 10, 42, 21, 5]
abbrev dktX3_lays_2 : List UInt8 := dkwX3_lays_2 ++ dktX3_lays_3
def dkwX3_lays_1 : List UInt8 := [20, 1, 79, 184, 0, 174, 153, 0, 7, 4, 167, 0, 4, 3, 182, 1, 137, 54, 5, 21, 5, 2]
abbrev dktX3_lays_1 : List UInt8 := dkwX3_lays_1 ++ dktX3_lays_2
def dkwX3_lays_0 : List UInt8 := [42, 3, 181, 0, 116, 42, 27, 28, 133, 9, 20, 1, 79, 184, 0, 174, 153, 0, 21, 29, 133, 20, 1, 81]
abbrev dktX3_lays_0 : List UInt8 := dkwX3_lays_0 ++ dktX3_lays_1
theorem dksX3_lays_0 : cX3_lays.data.toList.drop 0 = dktX3_lays_0 := by decide +kernel
theorem dksX3_lays_1 : cX3_lays.data.toList.drop 24 = dktX3_lays_1 := dk_seg dksX3_lays_0 24 rfl rfl
theorem dksX3_lays_2 : cX3_lays.data.toList.drop 46 = dktX3_lays_2 := dk_seg dksX3_lays_1 22 rfl rfl
theorem dksX3_lays_3 : cX3_lays.data.toList.drop 70 = dktX3_lays_3 := dk_seg dksX3_lays_2 24 rfl rfl
theorem dksX3_lays_4 : cX3_lays.data.toList.drop 93 = dktX3_lays_4 := dk_seg dksX3_lays_3 23 rfl rfl
theorem dX3_lays_0 : decode cX3_lays 0 = .ok (.aload_n 0, 1) := dk_42 (dk_at dksX3_lays_0 0 rfl rfl)
theorem dX3_lays_1 : decode cX3_lays 1 = .ok (.iconst 0, 1) := dk_3 (dk_at dksX3_lays_0 1 rfl rfl)
theorem dX3_lays_2 : decode cX3_lays 2 = .ok (.putfield 116, 3) := dk_181 0 116 (dk_at dksX3_lays_0 2 rfl rfl)
theorem dX3_lays_5 : decode cX3_lays 5 = .ok (.aload_n 0, 1) := dk_42 (dk_at dksX3_lays_0 5 rfl rfl)
theorem dX3_lays_6 : decode cX3_lays 6 = .ok (.iload_n 1, 1) := dk_27 (dk_at dksX3_lays_0 6 rfl rfl)
theorem dX3_lays_7 : decode cX3_lays 7 = .ok (.iload_n 2, 1) := dk_28 (dk_at dksX3_lays_0 7 rfl rfl)
theorem dX3_lays_8 : decode cX3_lays 8 = .ok (.i2l, 1) := dk_133 (dk_at dksX3_lays_0 8 rfl rfl)
theorem dX3_lays_9 : decode cX3_lays 9 = .ok (.lconst 0, 1) := dk_9 (dk_at dksX3_lays_0 9 rfl rfl)
theorem dX3_lays_10 : decode cX3_lays 10 = .ok (.ldc2_w 335, 3) := dk_20 1 79 (dk_at dksX3_lays_0 10 rfl rfl)
theorem dX3_lays_13 : decode cX3_lays 13 = .ok (.invokestatic 174, 3) := dk_184 0 174 (dk_at dksX3_lays_0 13 rfl rfl)
theorem dX3_lays_16 : decode cX3_lays 16 = .ok (.ifCond .eq 21, 3) := dk_153 0 21 (dk_at dksX3_lays_0 16 rfl rfl)
theorem dX3_lays_19 : decode cX3_lays 19 = .ok (.iload_n 3, 1) := dk_29 (dk_at dksX3_lays_0 19 rfl rfl)
theorem dX3_lays_20 : decode cX3_lays 20 = .ok (.i2l, 1) := dk_133 (dk_at dksX3_lays_0 20 rfl rfl)
theorem dX3_lays_21 : decode cX3_lays 21 = .ok (.ldc2_w 337, 3) := dk_20 1 81 (dk_at dksX3_lays_0 21 rfl rfl)
theorem dX3_lays_24 : decode cX3_lays 24 = .ok (.ldc2_w 335, 3) := dk_20 1 79 (dk_at dksX3_lays_1 0 rfl rfl)
theorem dX3_lays_27 : decode cX3_lays 27 = .ok (.invokestatic 174, 3) := dk_184 0 174 (dk_at dksX3_lays_1 3 rfl rfl)
theorem dX3_lays_30 : decode cX3_lays 30 = .ok (.ifCond .eq 7, 3) := dk_153 0 7 (dk_at dksX3_lays_1 6 rfl rfl)
theorem dX3_lays_33 : decode cX3_lays 33 = .ok (.iconst 1, 1) := dk_4 (dk_at dksX3_lays_1 9 rfl rfl)
theorem dX3_lays_34 : decode cX3_lays 34 = .ok (.goto 4, 3) := dk_167 0 4 (dk_at dksX3_lays_1 10 rfl rfl)
theorem dX3_lays_37 : decode cX3_lays 37 = .ok (.iconst 0, 1) := dk_3 (dk_at dksX3_lays_1 13 rfl rfl)
theorem dX3_lays_38 : decode cX3_lays 38 = .ok (.invokevirtual 393, 3) := dk_182 1 137 (dk_at dksX3_lays_1 14 rfl rfl)
theorem dX3_lays_41 : decode cX3_lays 41 = .ok (.istore 5, 2) := dk_54 5 (dk_at dksX3_lays_1 17 rfl rfl)
theorem dX3_lays_43 : decode cX3_lays 43 = .ok (.iload 5, 2) := dk_21 5 (dk_at dksX3_lays_1 19 rfl rfl)
theorem dX3_lays_45 : decode cX3_lays 45 = .ok (.iconst (-1), 1) := dk_2 (dk_at dksX3_lays_1 21 rfl rfl)
theorem dX3_lays_46 : decode cX3_lays 46 = .ok (.if_icmp .ne 15, 3) := dk_160 0 15 (dk_at dksX3_lays_2 0 rfl rfl)
theorem dX3_lays_49 : decode cX3_lays 49 = .ok (.aload_n 0, 1) := dk_42 (dk_at dksX3_lays_2 3 rfl rfl)
theorem dX3_lays_50 : decode cX3_lays 50 = .ok (.iload_n 1, 1) := dk_27 (dk_at dksX3_lays_2 4 rfl rfl)
theorem dX3_lays_51 : decode cX3_lays 51 = .ok (.iload_n 2, 1) := dk_28 (dk_at dksX3_lays_2 5 rfl rfl)
theorem dX3_lays_52 : decode cX3_lays 52 = .ok (.invokevirtual 397, 3) := dk_182 1 141 (dk_at dksX3_lays_2 6 rfl rfl)
theorem dX3_lays_55 : decode cX3_lays 55 = .ok (.ifCond .ne 6, 3) := dk_154 0 6 (dk_at dksX3_lays_2 9 rfl rfl)
theorem dX3_lays_58 : decode cX3_lays 58 = .ok (.iconst 3, 1) := dk_6 (dk_at dksX3_lays_2 12 rfl rfl)
theorem dX3_lays_59 : decode cX3_lays 59 = .ok (.istore 5, 2) := dk_54 5 (dk_at dksX3_lays_2 13 rfl rfl)
theorem dX3_lays_61 : decode cX3_lays 61 = .ok (.iload 5, 2) := dk_21 5 (dk_at dksX3_lays_2 15 rfl rfl)
theorem dX3_lays_63 : decode cX3_lays 63 = .ok (.iconst (-1), 1) := dk_2 (dk_at dksX3_lays_2 17 rfl rfl)
theorem dX3_lays_64 : decode cX3_lays 64 = .ok (.if_icmp .eq 10, 3) := dk_159 0 10 (dk_at dksX3_lays_2 18 rfl rfl)
theorem dX3_lays_67 : decode cX3_lays 67 = .ok (.aload_n 0, 1) := dk_42 (dk_at dksX3_lays_2 21 rfl rfl)
theorem dX3_lays_68 : decode cX3_lays 68 = .ok (.iload 5, 2) := dk_21 5 (dk_at dksX3_lays_2 22 rfl rfl)
theorem dX3_lays_70 : decode cX3_lays 70 = .ok (.invokevirtual 292, 3) := dk_182 1 36 (dk_at dksX3_lays_3 0 rfl rfl)
theorem dX3_lays_73 : decode cX3_lays 73 = .ok (.ireturn, 1) := dk_172 (dk_at dksX3_lays_3 3 rfl rfl)
theorem dX3_lays_74 : decode cX3_lays 74 = .ok (.aload_n 0, 1) := dk_42 (dk_at dksX3_lays_3 4 rfl rfl)
theorem dX3_lays_75 : decode cX3_lays 75 = .ok (.invokevirtual 278, 3) := dk_182 1 22 (dk_at dksX3_lays_3 5 rfl rfl)
theorem dX3_lays_78 : decode cX3_lays 78 = .ok (.aload_n 0, 1) := dk_42 (dk_at dksX3_lays_3 8 rfl rfl)
theorem dX3_lays_79 : decode cX3_lays 79 = .ok (.getfield 190, 3) := dk_180 0 190 (dk_at dksX3_lays_3 9 rfl rfl)
theorem dX3_lays_82 : decode cX3_lays 82 = .ok (.istore 6, 2) := dk_54 6 (dk_at dksX3_lays_3 12 rfl rfl)
theorem dX3_lays_84 : decode cX3_lays 84 = .ok (.iload 4, 2) := dk_21 4 (dk_at dksX3_lays_3 14 rfl rfl)
theorem dX3_lays_86 : decode cX3_lays 86 = .ok (.ifCond .eq 13, 3) := dk_153 0 13 (dk_at dksX3_lays_3 16 rfl rfl)
theorem dX3_lays_89 : decode cX3_lays 89 = .ok (.aload_n 0, 1) := dk_42 (dk_at dksX3_lays_3 19 rfl rfl)
theorem dX3_lays_90 : decode cX3_lays 90 = .ok (.iload_n 1, 1) := dk_27 (dk_at dksX3_lays_3 20 rfl rfl)
theorem dX3_lays_91 : decode cX3_lays 91 = .ok (.iload_n 2, 1) := dk_28 (dk_at dksX3_lays_3 21 rfl rfl)
theorem dX3_lays_92 : decode cX3_lays 92 = .ok (.iload_n 3, 1) := dk_29 (dk_at dksX3_lays_3 22 rfl rfl)
theorem dX3_lays_93 : decode cX3_lays 93 = .ok (.invokevirtual 387, 3) := dk_182 1 131 (dk_at dksX3_lays_4 0 rfl rfl)
theorem dX3_lays_96 : decode cX3_lays 96 = .ok (.goto 10, 3) := dk_167 0 10 (dk_at dksX3_lays_4 3 rfl rfl)
theorem dX3_lays_99 : decode cX3_lays 99 = .ok (.aload_n 0, 1) := dk_42 (dk_at dksX3_lays_4 6 rfl rfl)
theorem dX3_lays_100 : decode cX3_lays 100 = .ok (.iload_n 1, 1) := dk_27 (dk_at dksX3_lays_4 7 rfl rfl)
theorem dX3_lays_101 : decode cX3_lays 101 = .ok (.iload_n 2, 1) := dk_28 (dk_at dksX3_lays_4 8 rfl rfl)
theorem dX3_lays_102 : decode cX3_lays 102 = .ok (.iload_n 3, 1) := dk_29 (dk_at dksX3_lays_4 9 rfl rfl)
theorem dX3_lays_103 : decode cX3_lays 103 = .ok (.invokevirtual 384, 3) := dk_182 1 128 (dk_at dksX3_lays_4 10 rfl rfl)
theorem dX3_lays_106 : decode cX3_lays 106 = .ok (.aload_n 0, 1) := dk_42 (dk_at dksX3_lays_4 13 rfl rfl)
theorem dX3_lays_107 : decode cX3_lays 107 = .ok (.getfield 190, 3) := dk_180 0 190 (dk_at dksX3_lays_4 14 rfl rfl)
theorem dX3_lays_110 : decode cX3_lays 110 = .ok (.iload 6, 2) := dk_21 6 (dk_at dksX3_lays_4 17 rfl rfl)
theorem dX3_lays_112 : decode cX3_lays 112 = .ok (.isub, 1) := dk_100 (dk_at dksX3_lays_4 19 rfl rfl)
theorem dX3_lays_113 : decode cX3_lays 113 = .ok (.ireturn, 1) := dk_172 (dk_at dksX3_lays_4 20 rfl rfl)
abbrev cX3_stops : ByteArray := prog_9_method_83_code
def yX3_stops : MethodName := ⟨RX3, "stops", "(IZ)I"⟩
def dkwX3_stops_1 : List UInt8 := [182, 1, 134, 154, 0, 7, 5, 167, 0, 4, 2, 172]
abbrev dktX3_stops_1 : List UInt8 := dkwX3_stops_1 ++ []
def dkwX3_stops_0 : List UInt8 := [42, 27, 182, 1, 125, 154, 0, 7, 3, 167, 0, 24, 28, 154, 0, 7, 4, 167, 0, 16, 42, 27]
abbrev dktX3_stops_0 : List UInt8 := dkwX3_stops_0 ++ dktX3_stops_1
theorem dksX3_stops_0 : cX3_stops.data.toList.drop 0 = dktX3_stops_0 := by decide +kernel
theorem dksX3_stops_1 : cX3_stops.data.toList.drop 22 = dktX3_stops_1 := dk_seg dksX3_stops_0 22 rfl rfl
theorem dX3_stops_0 : decode cX3_stops 0 = .ok (.aload_n 0, 1) := dk_42 (dk_at dksX3_stops_0 0 rfl rfl)
theorem dX3_stops_1 : decode cX3_stops 1 = .ok (.iload_n 1, 1) := dk_27 (dk_at dksX3_stops_0 1 rfl rfl)
theorem dX3_stops_2 : decode cX3_stops 2 = .ok (.invokevirtual 381, 3) := dk_182 1 125 (dk_at dksX3_stops_0 2 rfl rfl)
theorem dX3_stops_5 : decode cX3_stops 5 = .ok (.ifCond .ne 7, 3) := dk_154 0 7 (dk_at dksX3_stops_0 5 rfl rfl)
theorem dX3_stops_8 : decode cX3_stops 8 = .ok (.iconst 0, 1) := dk_3 (dk_at dksX3_stops_0 8 rfl rfl)
theorem dX3_stops_9 : decode cX3_stops 9 = .ok (.goto 24, 3) := dk_167 0 24 (dk_at dksX3_stops_0 9 rfl rfl)
theorem dX3_stops_12 : decode cX3_stops 12 = .ok (.iload_n 2, 1) := dk_28 (dk_at dksX3_stops_0 12 rfl rfl)
theorem dX3_stops_13 : decode cX3_stops 13 = .ok (.ifCond .ne 7, 3) := dk_154 0 7 (dk_at dksX3_stops_0 13 rfl rfl)
theorem dX3_stops_16 : decode cX3_stops 16 = .ok (.iconst 1, 1) := dk_4 (dk_at dksX3_stops_0 16 rfl rfl)
theorem dX3_stops_17 : decode cX3_stops 17 = .ok (.goto 16, 3) := dk_167 0 16 (dk_at dksX3_stops_0 17 rfl rfl)
theorem dX3_stops_20 : decode cX3_stops 20 = .ok (.aload_n 0, 1) := dk_42 (dk_at dksX3_stops_0 20 rfl rfl)
theorem dX3_stops_21 : decode cX3_stops 21 = .ok (.iload_n 1, 1) := dk_27 (dk_at dksX3_stops_0 21 rfl rfl)
theorem dX3_stops_22 : decode cX3_stops 22 = .ok (.invokevirtual 390, 3) := dk_182 1 134 (dk_at dksX3_stops_1 0 rfl rfl)
theorem dX3_stops_25 : decode cX3_stops 25 = .ok (.ifCond .ne 7, 3) := dk_154 0 7 (dk_at dksX3_stops_1 3 rfl rfl)
theorem dX3_stops_28 : decode cX3_stops 28 = .ok (.iconst 2, 1) := dk_5 (dk_at dksX3_stops_1 6 rfl rfl)
theorem dX3_stops_29 : decode cX3_stops 29 = .ok (.goto 4, 3) := dk_167 0 4 (dk_at dksX3_stops_1 7 rfl rfl)
theorem dX3_stops_32 : decode cX3_stops 32 = .ok (.iconst (-1), 1) := dk_2 (dk_at dksX3_stops_1 10 rfl rfl)
theorem dX3_stops_33 : decode cX3_stops 33 = .ok (.ireturn, 1) := dk_172 (dk_at dksX3_stops_1 11 rfl rfl)
abbrev cX3_isOpen : ByteArray := prog_9_method_77_code
def yX3_isOpen : MethodName := ⟨RX3, "isOpen", "(I)Z"⟩
def dkwX3_isOpen_1 : List UInt8 := [172]
abbrev dktX3_isOpen_1 : List UInt8 := dkwX3_isOpen_1 ++ []
def dkwX3_isOpen_0 : List UInt8 := [42, 27, 182, 1, 125, 153, 0, 18, 42, 180, 1, 12, 27, 184, 1, 15, 153, 0, 7, 4, 167, 0, 4, 3]
abbrev dktX3_isOpen_0 : List UInt8 := dkwX3_isOpen_0 ++ dktX3_isOpen_1
theorem dksX3_isOpen_0 : cX3_isOpen.data.toList.drop 0 = dktX3_isOpen_0 := by decide +kernel
theorem dksX3_isOpen_1 : cX3_isOpen.data.toList.drop 24 = dktX3_isOpen_1 := dk_seg dksX3_isOpen_0 24 rfl rfl
theorem dX3_isOpen_0 : decode cX3_isOpen 0 = .ok (.aload_n 0, 1) := dk_42 (dk_at dksX3_isOpen_0 0 rfl rfl)
theorem dX3_isOpen_1 : decode cX3_isOpen 1 = .ok (.iload_n 1, 1) := dk_27 (dk_at dksX3_isOpen_0 1 rfl rfl)
theorem dX3_isOpen_2 : decode cX3_isOpen 2 = .ok (.invokevirtual 381, 3) := dk_182 1 125 (dk_at dksX3_isOpen_0 2 rfl rfl)
theorem dX3_isOpen_5 : decode cX3_isOpen 5 = .ok (.ifCond .eq 18, 3) := dk_153 0 18 (dk_at dksX3_isOpen_0 5 rfl rfl)
theorem dX3_isOpen_8 : decode cX3_isOpen 8 = .ok (.aload_n 0, 1) := dk_42 (dk_at dksX3_isOpen_0 8 rfl rfl)
theorem dX3_isOpen_9 : decode cX3_isOpen 9 = .ok (.getfield 268, 3) := dk_180 1 12 (dk_at dksX3_isOpen_0 9 rfl rfl)
theorem dX3_isOpen_12 : decode cX3_isOpen 12 = .ok (.iload_n 1, 1) := dk_27 (dk_at dksX3_isOpen_0 12 rfl rfl)
theorem dX3_isOpen_13 : decode cX3_isOpen 13 = .ok (.invokestatic 271, 3) := dk_184 1 15 (dk_at dksX3_isOpen_0 13 rfl rfl)
theorem dX3_isOpen_16 : decode cX3_isOpen 16 = .ok (.ifCond .eq 7, 3) := dk_153 0 7 (dk_at dksX3_isOpen_0 16 rfl rfl)
theorem dX3_isOpen_19 : decode cX3_isOpen 19 = .ok (.iconst 1, 1) := dk_4 (dk_at dksX3_isOpen_0 19 rfl rfl)
theorem dX3_isOpen_20 : decode cX3_isOpen 20 = .ok (.goto 4, 3) := dk_167 0 4 (dk_at dksX3_isOpen_0 20 rfl rfl)
theorem dX3_isOpen_23 : decode cX3_isOpen 23 = .ok (.iconst 0, 1) := dk_3 (dk_at dksX3_isOpen_0 23 rfl rfl)
theorem dX3_isOpen_24 : decode cX3_isOpen 24 = .ok (.ireturn, 1) := dk_172 (dk_at dksX3_isOpen_1 0 rfl rfl)
abbrev cX3_canPut : ByteArray := prog_9_method_79_code
def yX3_canPut : MethodName := ⟨RX3, "canPut", "(II)Z"⟩
def dkwX3_canPut_1 : List UInt8 := [182, 0, 218, 18, 170, 159, 0, 7, 4, 167, 0, 4, 3, 172]
abbrev dktX3_canPut_1 : List UInt8 := dkwX3_canPut_1 ++ []
def dkwX3_canPut_0 : List UInt8 := [42, 42, 180, 0, 76, 27, 46, 182, 1, 76, 16, 60, 161, 0, 19, 42, 42, 180, 0, 76, 27, 46, 28]
abbrev dktX3_canPut_0 : List UInt8 := dkwX3_canPut_0 ++ dktX3_canPut_1
theorem dksX3_canPut_0 : cX3_canPut.data.toList.drop 0 = dktX3_canPut_0 := by decide +kernel
theorem dksX3_canPut_1 : cX3_canPut.data.toList.drop 23 = dktX3_canPut_1 := dk_seg dksX3_canPut_0 23 rfl rfl
theorem dX3_canPut_0 : decode cX3_canPut 0 = .ok (.aload_n 0, 1) := dk_42 (dk_at dksX3_canPut_0 0 rfl rfl)
theorem dX3_canPut_1 : decode cX3_canPut 1 = .ok (.aload_n 0, 1) := dk_42 (dk_at dksX3_canPut_0 1 rfl rfl)
theorem dX3_canPut_2 : decode cX3_canPut 2 = .ok (.getfield 76, 3) := dk_180 0 76 (dk_at dksX3_canPut_0 2 rfl rfl)
theorem dX3_canPut_5 : decode cX3_canPut 5 = .ok (.iload_n 1, 1) := dk_27 (dk_at dksX3_canPut_0 5 rfl rfl)
theorem dX3_canPut_6 : decode cX3_canPut 6 = .ok (.iaload, 1) := dk_46 (dk_at dksX3_canPut_0 6 rfl rfl)
theorem dX3_canPut_7 : decode cX3_canPut 7 = .ok (.invokevirtual 332, 3) := dk_182 1 76 (dk_at dksX3_canPut_0 7 rfl rfl)
theorem dX3_canPut_10 : decode cX3_canPut 10 = .ok (.bipush 60, 2) := dk_16 60 (dk_at dksX3_canPut_0 10 rfl rfl)
theorem dX3_canPut_12 : decode cX3_canPut 12 = .ok (.if_icmp .lt 19, 3) := dk_161 0 19 (dk_at dksX3_canPut_0 12 rfl rfl)
theorem dX3_canPut_15 : decode cX3_canPut 15 = .ok (.aload_n 0, 1) := dk_42 (dk_at dksX3_canPut_0 15 rfl rfl)
theorem dX3_canPut_16 : decode cX3_canPut 16 = .ok (.aload_n 0, 1) := dk_42 (dk_at dksX3_canPut_0 16 rfl rfl)
theorem dX3_canPut_17 : decode cX3_canPut 17 = .ok (.getfield 76, 3) := dk_180 0 76 (dk_at dksX3_canPut_0 17 rfl rfl)
theorem dX3_canPut_20 : decode cX3_canPut 20 = .ok (.iload_n 1, 1) := dk_27 (dk_at dksX3_canPut_0 20 rfl rfl)
theorem dX3_canPut_21 : decode cX3_canPut 21 = .ok (.iaload, 1) := dk_46 (dk_at dksX3_canPut_0 21 rfl rfl)
theorem dX3_canPut_22 : decode cX3_canPut 22 = .ok (.iload_n 2, 1) := dk_28 (dk_at dksX3_canPut_0 22 rfl rfl)
theorem dX3_canPut_23 : decode cX3_canPut 23 = .ok (.invokevirtual 218, 3) := dk_182 0 218 (dk_at dksX3_canPut_1 0 rfl rfl)
theorem dX3_canPut_26 : decode cX3_canPut 26 = .ok (.ldc 170, 2) := dk_18 170 (dk_at dksX3_canPut_1 3 rfl rfl)
theorem dX3_canPut_28 : decode cX3_canPut 28 = .ok (.if_icmp .eq 7, 3) := dk_159 0 7 (dk_at dksX3_canPut_1 5 rfl rfl)
theorem dX3_canPut_31 : decode cX3_canPut 31 = .ok (.iconst 1, 1) := dk_4 (dk_at dksX3_canPut_1 8 rfl rfl)
theorem dX3_canPut_32 : decode cX3_canPut 32 = .ok (.goto 4, 3) := dk_167 0 4 (dk_at dksX3_canPut_1 9 rfl rfl)
theorem dX3_canPut_35 : decode cX3_canPut 35 = .ok (.iconst 0, 1) := dk_3 (dk_at dksX3_canPut_1 12 rfl rfl)
theorem dX3_canPut_36 : decode cX3_canPut 36 = .ok (.ireturn, 1) := dk_172 (dk_at dksX3_canPut_1 13 rfl rfl)
abbrev cX3_builderAdds : ByteArray := prog_9_method_81_code
def yX3_builderAdds : MethodName := ⟨RX3, "builderAdds", "(III)V"⟩
def dkwX3_builderAdds_1 : List UInt8 := [167, 0, 10, 21, 4, 29, 96, 184, 1, 92, 182, 1, 128, 177]
abbrev dktX3_builderAdds_1 : List UInt8 := dkwX3_builderAdds_1 ++ []
def dkwX3_builderAdds_0 : List UInt8 := [42, 42, 180, 0, 76, 27, 46, 28, 182, 0, 218, 54, 4, 42, 27, 28, 21, 4, 18, 170, 160, 0, 7, 29]
abbrev dktX3_builderAdds_0 : List UInt8 := dkwX3_builderAdds_0 ++ dktX3_builderAdds_1
theorem dksX3_builderAdds_0 : cX3_builderAdds.data.toList.drop 0 = dktX3_builderAdds_0 := by decide +kernel
theorem dksX3_builderAdds_1 : cX3_builderAdds.data.toList.drop 24 = dktX3_builderAdds_1 := dk_seg dksX3_builderAdds_0 24 rfl rfl
theorem dX3_builderAdds_0 : decode cX3_builderAdds 0 = .ok (.aload_n 0, 1) := dk_42 (dk_at dksX3_builderAdds_0 0 rfl rfl)
theorem dX3_builderAdds_1 : decode cX3_builderAdds 1 = .ok (.aload_n 0, 1) := dk_42 (dk_at dksX3_builderAdds_0 1 rfl rfl)
theorem dX3_builderAdds_2 : decode cX3_builderAdds 2 = .ok (.getfield 76, 3) := dk_180 0 76 (dk_at dksX3_builderAdds_0 2 rfl rfl)
theorem dX3_builderAdds_5 : decode cX3_builderAdds 5 = .ok (.iload_n 1, 1) := dk_27 (dk_at dksX3_builderAdds_0 5 rfl rfl)
theorem dX3_builderAdds_6 : decode cX3_builderAdds 6 = .ok (.iaload, 1) := dk_46 (dk_at dksX3_builderAdds_0 6 rfl rfl)
theorem dX3_builderAdds_7 : decode cX3_builderAdds 7 = .ok (.iload_n 2, 1) := dk_28 (dk_at dksX3_builderAdds_0 7 rfl rfl)
theorem dX3_builderAdds_8 : decode cX3_builderAdds 8 = .ok (.invokevirtual 218, 3) := dk_182 0 218 (dk_at dksX3_builderAdds_0 8 rfl rfl)
theorem dX3_builderAdds_11 : decode cX3_builderAdds 11 = .ok (.istore 4, 2) := dk_54 4 (dk_at dksX3_builderAdds_0 11 rfl rfl)
theorem dX3_builderAdds_13 : decode cX3_builderAdds 13 = .ok (.aload_n 0, 1) := dk_42 (dk_at dksX3_builderAdds_0 13 rfl rfl)
theorem dX3_builderAdds_14 : decode cX3_builderAdds 14 = .ok (.iload_n 1, 1) := dk_27 (dk_at dksX3_builderAdds_0 14 rfl rfl)
theorem dX3_builderAdds_15 : decode cX3_builderAdds 15 = .ok (.iload_n 2, 1) := dk_28 (dk_at dksX3_builderAdds_0 15 rfl rfl)
theorem dX3_builderAdds_16 : decode cX3_builderAdds 16 = .ok (.iload 4, 2) := dk_21 4 (dk_at dksX3_builderAdds_0 16 rfl rfl)
theorem dX3_builderAdds_18 : decode cX3_builderAdds 18 = .ok (.ldc 170, 2) := dk_18 170 (dk_at dksX3_builderAdds_0 18 rfl rfl)
theorem dX3_builderAdds_20 : decode cX3_builderAdds 20 = .ok (.if_icmp .ne 7, 3) := dk_160 0 7 (dk_at dksX3_builderAdds_0 20 rfl rfl)
theorem dX3_builderAdds_23 : decode cX3_builderAdds 23 = .ok (.iload_n 3, 1) := dk_29 (dk_at dksX3_builderAdds_0 23 rfl rfl)
theorem dX3_builderAdds_24 : decode cX3_builderAdds 24 = .ok (.goto 10, 3) := dk_167 0 10 (dk_at dksX3_builderAdds_1 0 rfl rfl)
theorem dX3_builderAdds_27 : decode cX3_builderAdds 27 = .ok (.iload 4, 2) := dk_21 4 (dk_at dksX3_builderAdds_1 3 rfl rfl)
theorem dX3_builderAdds_29 : decode cX3_builderAdds 29 = .ok (.iload_n 3, 1) := dk_29 (dk_at dksX3_builderAdds_1 5 rfl rfl)
theorem dX3_builderAdds_30 : decode cX3_builderAdds 30 = .ok (.iadd, 1) := dk_96 (dk_at dksX3_builderAdds_1 6 rfl rfl)
theorem dX3_builderAdds_31 : decode cX3_builderAdds 31 = .ok (.invokestatic 348, 3) := dk_184 1 92 (dk_at dksX3_builderAdds_1 7 rfl rfl)
theorem dX3_builderAdds_34 : decode cX3_builderAdds 34 = .ok (.invokevirtual 384, 3) := dk_182 1 128 (dk_at dksX3_builderAdds_1 10 rfl rfl)
theorem dX3_builderAdds_37 : decode cX3_builderAdds 37 = .ok (.return_, 1) := dk_177 (dk_at dksX3_builderAdds_1 13 rfl rfl)
abbrev cX3_builderPuts : ByteArray := prog_9_method_80_code
def yX3_builderPuts : MethodName := ⟨RX3, "builderPuts", "(III)V"⟩
def dkwX3_builderPuts_1 : List UInt8 := [177]
abbrev dktX3_builderPuts_1 : List UInt8 := dkwX3_builderPuts_1 ++ []
def dkwX3_builderPuts_0 : List UInt8 := [42, 180, 0, 76, 27, 42, 42, 180, 0, 76, 27, 46, 28, 29, 42, 180, 0, 79, 27, 46, 182, 1, 42, 79]
abbrev dktX3_builderPuts_0 : List UInt8 := dkwX3_builderPuts_0 ++ dktX3_builderPuts_1
theorem dksX3_builderPuts_0 : cX3_builderPuts.data.toList.drop 0 = dktX3_builderPuts_0 := by decide +kernel
theorem dksX3_builderPuts_1 : cX3_builderPuts.data.toList.drop 24 = dktX3_builderPuts_1 := dk_seg dksX3_builderPuts_0 24 rfl rfl
theorem dX3_builderPuts_0 : decode cX3_builderPuts 0 = .ok (.aload_n 0, 1) := dk_42 (dk_at dksX3_builderPuts_0 0 rfl rfl)
theorem dX3_builderPuts_1 : decode cX3_builderPuts 1 = .ok (.getfield 76, 3) := dk_180 0 76 (dk_at dksX3_builderPuts_0 1 rfl rfl)
theorem dX3_builderPuts_4 : decode cX3_builderPuts 4 = .ok (.iload_n 1, 1) := dk_27 (dk_at dksX3_builderPuts_0 4 rfl rfl)
theorem dX3_builderPuts_5 : decode cX3_builderPuts 5 = .ok (.aload_n 0, 1) := dk_42 (dk_at dksX3_builderPuts_0 5 rfl rfl)
theorem dX3_builderPuts_6 : decode cX3_builderPuts 6 = .ok (.aload_n 0, 1) := dk_42 (dk_at dksX3_builderPuts_0 6 rfl rfl)
theorem dX3_builderPuts_7 : decode cX3_builderPuts 7 = .ok (.getfield 76, 3) := dk_180 0 76 (dk_at dksX3_builderPuts_0 7 rfl rfl)
theorem dX3_builderPuts_10 : decode cX3_builderPuts 10 = .ok (.iload_n 1, 1) := dk_27 (dk_at dksX3_builderPuts_0 10 rfl rfl)
theorem dX3_builderPuts_11 : decode cX3_builderPuts 11 = .ok (.iaload, 1) := dk_46 (dk_at dksX3_builderPuts_0 11 rfl rfl)
theorem dX3_builderPuts_12 : decode cX3_builderPuts 12 = .ok (.iload_n 2, 1) := dk_28 (dk_at dksX3_builderPuts_0 12 rfl rfl)
theorem dX3_builderPuts_13 : decode cX3_builderPuts 13 = .ok (.iload_n 3, 1) := dk_29 (dk_at dksX3_builderPuts_0 13 rfl rfl)
theorem dX3_builderPuts_14 : decode cX3_builderPuts 14 = .ok (.aload_n 0, 1) := dk_42 (dk_at dksX3_builderPuts_0 14 rfl rfl)
theorem dX3_builderPuts_15 : decode cX3_builderPuts 15 = .ok (.getfield 79, 3) := dk_180 0 79 (dk_at dksX3_builderPuts_0 15 rfl rfl)
theorem dX3_builderPuts_18 : decode cX3_builderPuts 18 = .ok (.iload_n 1, 1) := dk_27 (dk_at dksX3_builderPuts_0 18 rfl rfl)
theorem dX3_builderPuts_19 : decode cX3_builderPuts 19 = .ok (.iaload, 1) := dk_46 (dk_at dksX3_builderPuts_0 19 rfl rfl)
theorem dX3_builderPuts_20 : decode cX3_builderPuts 20 = .ok (.invokevirtual 298, 3) := dk_182 1 42 (dk_at dksX3_builderPuts_0 20 rfl rfl)
theorem dX3_builderPuts_23 : decode cX3_builderPuts 23 = .ok (.iastore, 1) := dk_79 (dk_at dksX3_builderPuts_0 23 rfl rfl)
theorem dX3_builderPuts_24 : decode cX3_builderPuts 24 = .ok (.return_, 1) := dk_177 (dk_at dksX3_builderPuts_1 0 rfl rfl)
abbrev cX3_add : ByteArray := prog_9_method_86_code
def yX3_add : MethodName := ⟨RX3, "add", "(III)I"⟩
def dkwX3_add_0 : List UInt8 := [42, 27, 28, 29, 4, 182, 1, 144, 172]
abbrev dktX3_add_0 : List UInt8 := dkwX3_add_0 ++ []
theorem dksX3_add_0 : cX3_add.data.toList.drop 0 = dktX3_add_0 := by decide +kernel
theorem dX3_add_0 : decode cX3_add 0 = .ok (.aload_n 0, 1) := dk_42 (dk_at dksX3_add_0 0 rfl rfl)
theorem dX3_add_1 : decode cX3_add 1 = .ok (.iload_n 1, 1) := dk_27 (dk_at dksX3_add_0 1 rfl rfl)
theorem dX3_add_2 : decode cX3_add 2 = .ok (.iload_n 2, 1) := dk_28 (dk_at dksX3_add_0 2 rfl rfl)
theorem dX3_add_3 : decode cX3_add 3 = .ok (.iload_n 3, 1) := dk_29 (dk_at dksX3_add_0 3 rfl rfl)
theorem dX3_add_4 : decode cX3_add 4 = .ok (.iconst 1, 1) := dk_4 (dk_at dksX3_add_0 4 rfl rfl)
theorem dX3_add_5 : decode cX3_add 5 = .ok (.invokevirtual 400, 3) := dk_182 1 144 (dk_at dksX3_add_0 5 rfl rfl)
theorem dX3_add_8 : decode cX3_add 8 = .ok (.ireturn, 1) := dk_172 (dk_at dksX3_add_0 8 rfl rfl)
abbrev cX3_take : ByteArray := prog_9_method_87_code
def yX3_take : MethodName := ⟨RX3, "take", "(II)I"⟩
def dkwX3_take_3 : List UInt8 := [100, 172]
abbrev dktX3_take_3 : List UInt8 := dkwX3_take_3 ++ []
def dkwX3_take_2 : List UInt8 := [42, 42, 180, 0, 76, 27, 46, 28, 42, 180, 0, 79, 27, 46, 182, 1, 83, 79, 42, 180, 0, 190, 21, 4]
abbrev dktX3_take_2 : List UInt8 := dkwX3_take_2 ++ dktX3_take_3
def dkwX3_take_1 : List UInt8 := [159, 0, 9, 42, 29, 182, 1, 36, 172, 42, 182, 1, 22, 42, 180, 0, 190, 54, 4, 42, 180, 0, 76, 27]
abbrev dktX3_take_1 : List UInt8 := dkwX3_take_1 ++ dktX3_take_2
def dkwX3_take_0 : List UInt8 := [42, 3, 181, 0, 116, 42, 27, 28, 133, 9, 20, 1, 79, 184, 0, 174, 182, 1, 137, 62, 29, 2]
abbrev dktX3_take_0 : List UInt8 := dkwX3_take_0 ++ dktX3_take_1
theorem dksX3_take_0 : cX3_take.data.toList.drop 0 = dktX3_take_0 := by decide +kernel
theorem dksX3_take_1 : cX3_take.data.toList.drop 22 = dktX3_take_1 := dk_seg dksX3_take_0 22 rfl rfl
theorem dksX3_take_2 : cX3_take.data.toList.drop 46 = dktX3_take_2 := dk_seg dksX3_take_1 24 rfl rfl
theorem dksX3_take_3 : cX3_take.data.toList.drop 70 = dktX3_take_3 := dk_seg dksX3_take_2 24 rfl rfl
theorem dX3_take_0 : decode cX3_take 0 = .ok (.aload_n 0, 1) := dk_42 (dk_at dksX3_take_0 0 rfl rfl)
theorem dX3_take_1 : decode cX3_take 1 = .ok (.iconst 0, 1) := dk_3 (dk_at dksX3_take_0 1 rfl rfl)
theorem dX3_take_2 : decode cX3_take 2 = .ok (.putfield 116, 3) := dk_181 0 116 (dk_at dksX3_take_0 2 rfl rfl)
theorem dX3_take_5 : decode cX3_take 5 = .ok (.aload_n 0, 1) := dk_42 (dk_at dksX3_take_0 5 rfl rfl)
theorem dX3_take_6 : decode cX3_take 6 = .ok (.iload_n 1, 1) := dk_27 (dk_at dksX3_take_0 6 rfl rfl)
theorem dX3_take_7 : decode cX3_take 7 = .ok (.iload_n 2, 1) := dk_28 (dk_at dksX3_take_0 7 rfl rfl)
theorem dX3_take_8 : decode cX3_take 8 = .ok (.i2l, 1) := dk_133 (dk_at dksX3_take_0 8 rfl rfl)
theorem dX3_take_9 : decode cX3_take 9 = .ok (.lconst 0, 1) := dk_9 (dk_at dksX3_take_0 9 rfl rfl)
theorem dX3_take_10 : decode cX3_take 10 = .ok (.ldc2_w 335, 3) := dk_20 1 79 (dk_at dksX3_take_0 10 rfl rfl)
theorem dX3_take_13 : decode cX3_take 13 = .ok (.invokestatic 174, 3) := dk_184 0 174 (dk_at dksX3_take_0 13 rfl rfl)
theorem dX3_take_16 : decode cX3_take 16 = .ok (.invokevirtual 393, 3) := dk_182 1 137 (dk_at dksX3_take_0 16 rfl rfl)
theorem dX3_take_19 : decode cX3_take 19 = .ok (.istore_n 3, 1) := dk_62 (dk_at dksX3_take_0 19 rfl rfl)
theorem dX3_take_20 : decode cX3_take 20 = .ok (.iload_n 3, 1) := dk_29 (dk_at dksX3_take_0 20 rfl rfl)
theorem dX3_take_21 : decode cX3_take 21 = .ok (.iconst (-1), 1) := dk_2 (dk_at dksX3_take_0 21 rfl rfl)
theorem dX3_take_22 : decode cX3_take 22 = .ok (.if_icmp .eq 9, 3) := dk_159 0 9 (dk_at dksX3_take_1 0 rfl rfl)
theorem dX3_take_25 : decode cX3_take 25 = .ok (.aload_n 0, 1) := dk_42 (dk_at dksX3_take_1 3 rfl rfl)
theorem dX3_take_26 : decode cX3_take 26 = .ok (.iload_n 3, 1) := dk_29 (dk_at dksX3_take_1 4 rfl rfl)
theorem dX3_take_27 : decode cX3_take 27 = .ok (.invokevirtual 292, 3) := dk_182 1 36 (dk_at dksX3_take_1 5 rfl rfl)
theorem dX3_take_30 : decode cX3_take 30 = .ok (.ireturn, 1) := dk_172 (dk_at dksX3_take_1 8 rfl rfl)
theorem dX3_take_31 : decode cX3_take 31 = .ok (.aload_n 0, 1) := dk_42 (dk_at dksX3_take_1 9 rfl rfl)
theorem dX3_take_32 : decode cX3_take 32 = .ok (.invokevirtual 278, 3) := dk_182 1 22 (dk_at dksX3_take_1 10 rfl rfl)
theorem dX3_take_35 : decode cX3_take 35 = .ok (.aload_n 0, 1) := dk_42 (dk_at dksX3_take_1 13 rfl rfl)
theorem dX3_take_36 : decode cX3_take 36 = .ok (.getfield 190, 3) := dk_180 0 190 (dk_at dksX3_take_1 14 rfl rfl)
theorem dX3_take_39 : decode cX3_take 39 = .ok (.istore 4, 2) := dk_54 4 (dk_at dksX3_take_1 17 rfl rfl)
theorem dX3_take_41 : decode cX3_take 41 = .ok (.aload_n 0, 1) := dk_42 (dk_at dksX3_take_1 19 rfl rfl)
theorem dX3_take_42 : decode cX3_take 42 = .ok (.getfield 76, 3) := dk_180 0 76 (dk_at dksX3_take_1 20 rfl rfl)
theorem dX3_take_45 : decode cX3_take 45 = .ok (.iload_n 1, 1) := dk_27 (dk_at dksX3_take_1 23 rfl rfl)
theorem dX3_take_46 : decode cX3_take 46 = .ok (.aload_n 0, 1) := dk_42 (dk_at dksX3_take_2 0 rfl rfl)
theorem dX3_take_47 : decode cX3_take 47 = .ok (.aload_n 0, 1) := dk_42 (dk_at dksX3_take_2 1 rfl rfl)
theorem dX3_take_48 : decode cX3_take 48 = .ok (.getfield 76, 3) := dk_180 0 76 (dk_at dksX3_take_2 2 rfl rfl)
theorem dX3_take_51 : decode cX3_take 51 = .ok (.iload_n 1, 1) := dk_27 (dk_at dksX3_take_2 5 rfl rfl)
theorem dX3_take_52 : decode cX3_take 52 = .ok (.iaload, 1) := dk_46 (dk_at dksX3_take_2 6 rfl rfl)
theorem dX3_take_53 : decode cX3_take 53 = .ok (.iload_n 2, 1) := dk_28 (dk_at dksX3_take_2 7 rfl rfl)
theorem dX3_take_54 : decode cX3_take 54 = .ok (.aload_n 0, 1) := dk_42 (dk_at dksX3_take_2 8 rfl rfl)
theorem dX3_take_55 : decode cX3_take 55 = .ok (.getfield 79, 3) := dk_180 0 79 (dk_at dksX3_take_2 9 rfl rfl)
theorem dX3_take_58 : decode cX3_take 58 = .ok (.iload_n 1, 1) := dk_27 (dk_at dksX3_take_2 12 rfl rfl)
theorem dX3_take_59 : decode cX3_take 59 = .ok (.iaload, 1) := dk_46 (dk_at dksX3_take_2 13 rfl rfl)
theorem dX3_take_60 : decode cX3_take 60 = .ok (.invokevirtual 339, 3) := dk_182 1 83 (dk_at dksX3_take_2 14 rfl rfl)
theorem dX3_take_63 : decode cX3_take 63 = .ok (.iastore, 1) := dk_79 (dk_at dksX3_take_2 17 rfl rfl)
theorem dX3_take_64 : decode cX3_take 64 = .ok (.aload_n 0, 1) := dk_42 (dk_at dksX3_take_2 18 rfl rfl)
theorem dX3_take_65 : decode cX3_take 65 = .ok (.getfield 190, 3) := dk_180 0 190 (dk_at dksX3_take_2 19 rfl rfl)
theorem dX3_take_68 : decode cX3_take 68 = .ok (.iload 4, 2) := dk_21 4 (dk_at dksX3_take_2 22 rfl rfl)
theorem dX3_take_70 : decode cX3_take 70 = .ok (.isub, 1) := dk_100 (dk_at dksX3_take_3 0 rfl rfl)
theorem dX3_take_71 : decode cX3_take 71 = .ok (.ireturn, 1) := dk_172 (dk_at dksX3_take_3 1 rfl rfl)
abbrev cX3_cut : ByteArray := prog_9_method_88_code
def yX3_cut : MethodName := ⟨RX3, "cut", "(III)I"⟩
def dkwX3_cut_4 : List UInt8 := [180, 0, 190, 21, 5, 100, 172]
abbrev dktX3_cut_4 : List UInt8 := dkwX3_cut_4 ++ []
def dkwX3_cut_3 : List UInt8 := [27, 42, 42, 180, 0, 76, 27, 46, 28, 29, 4, 42, 180, 0, 79, 27, 46, 182, 1, 121, 79, 42]
abbrev dktX3_cut_3 : List UInt8 := dkwX3_cut_3 ++ dktX3_cut_4
def dkwX3_cut_2 : List UInt8 := [159, 0, 10, 42, 21, 4, 182, 1, 36, 172, 42, 182, 1, 22, 42, 180, 0, 190, 54, 5, 42, 180, 0, 76]
abbrev dktX3_cut_2 : List UInt8 := dkwX3_cut_2 ++ dktX3_cut_3
def dkwX3_cut_1 : List UInt8 := [20, 1, 79, 184, 0, 174, 153, 0, 7, 4, 167, 0, 4, 3, 182, 1, 137, 54, 4, 21, 4, 2]
abbrev dktX3_cut_1 : List UInt8 := dkwX3_cut_1 ++ dktX3_cut_2
def dkwX3_cut_0 : List UInt8 := [42, 3, 181, 0, 116, 42, 27, 28, 133, 9, 20, 1, 79, 184, 0, 174, 153, 0, 20, 29, 133, 28, 133]
abbrev dktX3_cut_0 : List UInt8 := dkwX3_cut_0 ++ dktX3_cut_1
theorem dksX3_cut_0 : cX3_cut.data.toList.drop 0 = dktX3_cut_0 := by decide +kernel
theorem dksX3_cut_1 : cX3_cut.data.toList.drop 23 = dktX3_cut_1 := dk_seg dksX3_cut_0 23 rfl rfl
theorem dksX3_cut_2 : cX3_cut.data.toList.drop 45 = dktX3_cut_2 := dk_seg dksX3_cut_1 22 rfl rfl
theorem dksX3_cut_3 : cX3_cut.data.toList.drop 69 = dktX3_cut_3 := dk_seg dksX3_cut_2 24 rfl rfl
theorem dksX3_cut_4 : cX3_cut.data.toList.drop 91 = dktX3_cut_4 := dk_seg dksX3_cut_3 22 rfl rfl
theorem dX3_cut_0 : decode cX3_cut 0 = .ok (.aload_n 0, 1) := dk_42 (dk_at dksX3_cut_0 0 rfl rfl)
theorem dX3_cut_1 : decode cX3_cut 1 = .ok (.iconst 0, 1) := dk_3 (dk_at dksX3_cut_0 1 rfl rfl)
theorem dX3_cut_2 : decode cX3_cut 2 = .ok (.putfield 116, 3) := dk_181 0 116 (dk_at dksX3_cut_0 2 rfl rfl)
theorem dX3_cut_5 : decode cX3_cut 5 = .ok (.aload_n 0, 1) := dk_42 (dk_at dksX3_cut_0 5 rfl rfl)
theorem dX3_cut_6 : decode cX3_cut 6 = .ok (.iload_n 1, 1) := dk_27 (dk_at dksX3_cut_0 6 rfl rfl)
theorem dX3_cut_7 : decode cX3_cut 7 = .ok (.iload_n 2, 1) := dk_28 (dk_at dksX3_cut_0 7 rfl rfl)
theorem dX3_cut_8 : decode cX3_cut 8 = .ok (.i2l, 1) := dk_133 (dk_at dksX3_cut_0 8 rfl rfl)
theorem dX3_cut_9 : decode cX3_cut 9 = .ok (.lconst 0, 1) := dk_9 (dk_at dksX3_cut_0 9 rfl rfl)
theorem dX3_cut_10 : decode cX3_cut 10 = .ok (.ldc2_w 335, 3) := dk_20 1 79 (dk_at dksX3_cut_0 10 rfl rfl)
theorem dX3_cut_13 : decode cX3_cut 13 = .ok (.invokestatic 174, 3) := dk_184 0 174 (dk_at dksX3_cut_0 13 rfl rfl)
theorem dX3_cut_16 : decode cX3_cut 16 = .ok (.ifCond .eq 20, 3) := dk_153 0 20 (dk_at dksX3_cut_0 16 rfl rfl)
theorem dX3_cut_19 : decode cX3_cut 19 = .ok (.iload_n 3, 1) := dk_29 (dk_at dksX3_cut_0 19 rfl rfl)
theorem dX3_cut_20 : decode cX3_cut 20 = .ok (.i2l, 1) := dk_133 (dk_at dksX3_cut_0 20 rfl rfl)
theorem dX3_cut_21 : decode cX3_cut 21 = .ok (.iload_n 2, 1) := dk_28 (dk_at dksX3_cut_0 21 rfl rfl)
theorem dX3_cut_22 : decode cX3_cut 22 = .ok (.i2l, 1) := dk_133 (dk_at dksX3_cut_0 22 rfl rfl)
theorem dX3_cut_23 : decode cX3_cut 23 = .ok (.ldc2_w 335, 3) := dk_20 1 79 (dk_at dksX3_cut_1 0 rfl rfl)
theorem dX3_cut_26 : decode cX3_cut 26 = .ok (.invokestatic 174, 3) := dk_184 0 174 (dk_at dksX3_cut_1 3 rfl rfl)
theorem dX3_cut_29 : decode cX3_cut 29 = .ok (.ifCond .eq 7, 3) := dk_153 0 7 (dk_at dksX3_cut_1 6 rfl rfl)
theorem dX3_cut_32 : decode cX3_cut 32 = .ok (.iconst 1, 1) := dk_4 (dk_at dksX3_cut_1 9 rfl rfl)
theorem dX3_cut_33 : decode cX3_cut 33 = .ok (.goto 4, 3) := dk_167 0 4 (dk_at dksX3_cut_1 10 rfl rfl)
theorem dX3_cut_36 : decode cX3_cut 36 = .ok (.iconst 0, 1) := dk_3 (dk_at dksX3_cut_1 13 rfl rfl)
theorem dX3_cut_37 : decode cX3_cut 37 = .ok (.invokevirtual 393, 3) := dk_182 1 137 (dk_at dksX3_cut_1 14 rfl rfl)
theorem dX3_cut_40 : decode cX3_cut 40 = .ok (.istore 4, 2) := dk_54 4 (dk_at dksX3_cut_1 17 rfl rfl)
theorem dX3_cut_42 : decode cX3_cut 42 = .ok (.iload 4, 2) := dk_21 4 (dk_at dksX3_cut_1 19 rfl rfl)
theorem dX3_cut_44 : decode cX3_cut 44 = .ok (.iconst (-1), 1) := dk_2 (dk_at dksX3_cut_1 21 rfl rfl)
theorem dX3_cut_45 : decode cX3_cut 45 = .ok (.if_icmp .eq 10, 3) := dk_159 0 10 (dk_at dksX3_cut_2 0 rfl rfl)
theorem dX3_cut_48 : decode cX3_cut 48 = .ok (.aload_n 0, 1) := dk_42 (dk_at dksX3_cut_2 3 rfl rfl)
theorem dX3_cut_49 : decode cX3_cut 49 = .ok (.iload 4, 2) := dk_21 4 (dk_at dksX3_cut_2 4 rfl rfl)
theorem dX3_cut_51 : decode cX3_cut 51 = .ok (.invokevirtual 292, 3) := dk_182 1 36 (dk_at dksX3_cut_2 6 rfl rfl)
theorem dX3_cut_54 : decode cX3_cut 54 = .ok (.ireturn, 1) := dk_172 (dk_at dksX3_cut_2 9 rfl rfl)
theorem dX3_cut_55 : decode cX3_cut 55 = .ok (.aload_n 0, 1) := dk_42 (dk_at dksX3_cut_2 10 rfl rfl)
theorem dX3_cut_56 : decode cX3_cut 56 = .ok (.invokevirtual 278, 3) := dk_182 1 22 (dk_at dksX3_cut_2 11 rfl rfl)
theorem dX3_cut_59 : decode cX3_cut 59 = .ok (.aload_n 0, 1) := dk_42 (dk_at dksX3_cut_2 14 rfl rfl)
theorem dX3_cut_60 : decode cX3_cut 60 = .ok (.getfield 190, 3) := dk_180 0 190 (dk_at dksX3_cut_2 15 rfl rfl)
theorem dX3_cut_63 : decode cX3_cut 63 = .ok (.istore 5, 2) := dk_54 5 (dk_at dksX3_cut_2 18 rfl rfl)
theorem dX3_cut_65 : decode cX3_cut 65 = .ok (.aload_n 0, 1) := dk_42 (dk_at dksX3_cut_2 20 rfl rfl)
theorem dX3_cut_66 : decode cX3_cut 66 = .ok (.getfield 76, 3) := dk_180 0 76 (dk_at dksX3_cut_2 21 rfl rfl)
theorem dX3_cut_69 : decode cX3_cut 69 = .ok (.iload_n 1, 1) := dk_27 (dk_at dksX3_cut_3 0 rfl rfl)
theorem dX3_cut_70 : decode cX3_cut 70 = .ok (.aload_n 0, 1) := dk_42 (dk_at dksX3_cut_3 1 rfl rfl)
theorem dX3_cut_71 : decode cX3_cut 71 = .ok (.aload_n 0, 1) := dk_42 (dk_at dksX3_cut_3 2 rfl rfl)
theorem dX3_cut_72 : decode cX3_cut 72 = .ok (.getfield 76, 3) := dk_180 0 76 (dk_at dksX3_cut_3 3 rfl rfl)
theorem dX3_cut_75 : decode cX3_cut 75 = .ok (.iload_n 1, 1) := dk_27 (dk_at dksX3_cut_3 6 rfl rfl)
theorem dX3_cut_76 : decode cX3_cut 76 = .ok (.iaload, 1) := dk_46 (dk_at dksX3_cut_3 7 rfl rfl)
theorem dX3_cut_77 : decode cX3_cut 77 = .ok (.iload_n 2, 1) := dk_28 (dk_at dksX3_cut_3 8 rfl rfl)
theorem dX3_cut_78 : decode cX3_cut 78 = .ok (.iload_n 3, 1) := dk_29 (dk_at dksX3_cut_3 9 rfl rfl)
theorem dX3_cut_79 : decode cX3_cut 79 = .ok (.iconst 1, 1) := dk_4 (dk_at dksX3_cut_3 10 rfl rfl)
theorem dX3_cut_80 : decode cX3_cut 80 = .ok (.aload_n 0, 1) := dk_42 (dk_at dksX3_cut_3 11 rfl rfl)
theorem dX3_cut_81 : decode cX3_cut 81 = .ok (.getfield 79, 3) := dk_180 0 79 (dk_at dksX3_cut_3 12 rfl rfl)
theorem dX3_cut_84 : decode cX3_cut 84 = .ok (.iload_n 1, 1) := dk_27 (dk_at dksX3_cut_3 15 rfl rfl)
theorem dX3_cut_85 : decode cX3_cut 85 = .ok (.iaload, 1) := dk_46 (dk_at dksX3_cut_3 16 rfl rfl)
theorem dX3_cut_86 : decode cX3_cut 86 = .ok (.invokevirtual 377, 3) := dk_182 1 121 (dk_at dksX3_cut_3 17 rfl rfl)
theorem dX3_cut_89 : decode cX3_cut 89 = .ok (.iastore, 1) := dk_79 (dk_at dksX3_cut_3 20 rfl rfl)
theorem dX3_cut_90 : decode cX3_cut 90 = .ok (.aload_n 0, 1) := dk_42 (dk_at dksX3_cut_3 21 rfl rfl)
theorem dX3_cut_91 : decode cX3_cut 91 = .ok (.getfield 190, 3) := dk_180 0 190 (dk_at dksX3_cut_4 0 rfl rfl)
theorem dX3_cut_94 : decode cX3_cut 94 = .ok (.iload 5, 2) := dk_21 5 (dk_at dksX3_cut_4 3 rfl rfl)
theorem dX3_cut_96 : decode cX3_cut 96 = .ok (.isub, 1) := dk_100 (dk_at dksX3_cut_4 5 rfl rfl)
theorem dX3_cut_97 : decode cX3_cut 97 = .ok (.ireturn, 1) := dk_172 (dk_at dksX3_cut_4 6 rfl rfl)
abbrev cX3_inc : ByteArray := prog_9_method_89_code
def yX3_inc : MethodName := ⟨RX3, "inc", "(IIII)I"⟩
def dkwX3_inc_4 : List UInt8 := [100, 172]
abbrev dktX3_inc_4 : List UInt8 := dkwX3_inc_4 ++ []
def dkwX3_inc_3 : List UInt8 := [182, 1, 22, 42, 180, 0, 190, 54, 6, 42, 27, 28, 29, 21, 4, 182, 1, 148, 42, 180, 0, 190, 21, 6]
abbrev dktX3_inc_3 : List UInt8 := dkwX3_inc_3 ++ dktX3_inc_4
def dkwX3_inc_2 : List UInt8 := [4, 167, 0, 4, 3, 182, 1, 137, 54, 5, 21, 5, 2, 159, 0, 10, 42, 21, 5, 182, 1, 36, 172, 42]
abbrev dktX3_inc_2 : List UInt8 := dkwX3_inc_2 ++ dktX3_inc_3
def dkwX3_inc_1 : List UInt8 := [20, 1, 79, 184, 0, 174, 153, 0, 22, 21, 4, 133, 20, 1, 81, 20, 1, 79, 184, 0, 174, 153, 0, 7]
abbrev dktX3_inc_1 : List UInt8 := dkwX3_inc_1 ++ dktX3_inc_2
def dkwX3_inc_0 : List UInt8 := [42, 3, 181, 0, 116, 42, 27, 28, 133, 9, 20, 1, 79, 184, 0, 174, 153, 0, 35, 29, 133, 28, 133]
abbrev dktX3_inc_0 : List UInt8 := dkwX3_inc_0 ++ dktX3_inc_1
theorem dksX3_inc_0 : cX3_inc.data.toList.drop 0 = dktX3_inc_0 := by decide +kernel
theorem dksX3_inc_1 : cX3_inc.data.toList.drop 23 = dktX3_inc_1 := dk_seg dksX3_inc_0 23 rfl rfl
theorem dksX3_inc_2 : cX3_inc.data.toList.drop 47 = dktX3_inc_2 := dk_seg dksX3_inc_1 24 rfl rfl
theorem dksX3_inc_3 : cX3_inc.data.toList.drop 71 = dktX3_inc_3 := dk_seg dksX3_inc_2 24 rfl rfl
theorem dksX3_inc_4 : cX3_inc.data.toList.drop 95 = dktX3_inc_4 := dk_seg dksX3_inc_3 24 rfl rfl
theorem dX3_inc_0 : decode cX3_inc 0 = .ok (.aload_n 0, 1) := dk_42 (dk_at dksX3_inc_0 0 rfl rfl)
theorem dX3_inc_1 : decode cX3_inc 1 = .ok (.iconst 0, 1) := dk_3 (dk_at dksX3_inc_0 1 rfl rfl)
theorem dX3_inc_2 : decode cX3_inc 2 = .ok (.putfield 116, 3) := dk_181 0 116 (dk_at dksX3_inc_0 2 rfl rfl)
theorem dX3_inc_5 : decode cX3_inc 5 = .ok (.aload_n 0, 1) := dk_42 (dk_at dksX3_inc_0 5 rfl rfl)
theorem dX3_inc_6 : decode cX3_inc 6 = .ok (.iload_n 1, 1) := dk_27 (dk_at dksX3_inc_0 6 rfl rfl)
theorem dX3_inc_7 : decode cX3_inc 7 = .ok (.iload_n 2, 1) := dk_28 (dk_at dksX3_inc_0 7 rfl rfl)
theorem dX3_inc_8 : decode cX3_inc 8 = .ok (.i2l, 1) := dk_133 (dk_at dksX3_inc_0 8 rfl rfl)
theorem dX3_inc_9 : decode cX3_inc 9 = .ok (.lconst 0, 1) := dk_9 (dk_at dksX3_inc_0 9 rfl rfl)
theorem dX3_inc_10 : decode cX3_inc 10 = .ok (.ldc2_w 335, 3) := dk_20 1 79 (dk_at dksX3_inc_0 10 rfl rfl)
theorem dX3_inc_13 : decode cX3_inc 13 = .ok (.invokestatic 174, 3) := dk_184 0 174 (dk_at dksX3_inc_0 13 rfl rfl)
theorem dX3_inc_16 : decode cX3_inc 16 = .ok (.ifCond .eq 35, 3) := dk_153 0 35 (dk_at dksX3_inc_0 16 rfl rfl)
theorem dX3_inc_19 : decode cX3_inc 19 = .ok (.iload_n 3, 1) := dk_29 (dk_at dksX3_inc_0 19 rfl rfl)
theorem dX3_inc_20 : decode cX3_inc 20 = .ok (.i2l, 1) := dk_133 (dk_at dksX3_inc_0 20 rfl rfl)
theorem dX3_inc_21 : decode cX3_inc 21 = .ok (.iload_n 2, 1) := dk_28 (dk_at dksX3_inc_0 21 rfl rfl)
theorem dX3_inc_22 : decode cX3_inc 22 = .ok (.i2l, 1) := dk_133 (dk_at dksX3_inc_0 22 rfl rfl)
theorem dX3_inc_23 : decode cX3_inc 23 = .ok (.ldc2_w 335, 3) := dk_20 1 79 (dk_at dksX3_inc_1 0 rfl rfl)
theorem dX3_inc_26 : decode cX3_inc 26 = .ok (.invokestatic 174, 3) := dk_184 0 174 (dk_at dksX3_inc_1 3 rfl rfl)
theorem dX3_inc_29 : decode cX3_inc 29 = .ok (.ifCond .eq 22, 3) := dk_153 0 22 (dk_at dksX3_inc_1 6 rfl rfl)
theorem dX3_inc_32 : decode cX3_inc 32 = .ok (.iload 4, 2) := dk_21 4 (dk_at dksX3_inc_1 9 rfl rfl)
theorem dX3_inc_34 : decode cX3_inc 34 = .ok (.i2l, 1) := dk_133 (dk_at dksX3_inc_1 11 rfl rfl)
theorem dX3_inc_35 : decode cX3_inc 35 = .ok (.ldc2_w 337, 3) := dk_20 1 81 (dk_at dksX3_inc_1 12 rfl rfl)
theorem dX3_inc_38 : decode cX3_inc 38 = .ok (.ldc2_w 335, 3) := dk_20 1 79 (dk_at dksX3_inc_1 15 rfl rfl)
theorem dX3_inc_41 : decode cX3_inc 41 = .ok (.invokestatic 174, 3) := dk_184 0 174 (dk_at dksX3_inc_1 18 rfl rfl)
theorem dX3_inc_44 : decode cX3_inc 44 = .ok (.ifCond .eq 7, 3) := dk_153 0 7 (dk_at dksX3_inc_1 21 rfl rfl)
theorem dX3_inc_47 : decode cX3_inc 47 = .ok (.iconst 1, 1) := dk_4 (dk_at dksX3_inc_2 0 rfl rfl)
theorem dX3_inc_48 : decode cX3_inc 48 = .ok (.goto 4, 3) := dk_167 0 4 (dk_at dksX3_inc_2 1 rfl rfl)
theorem dX3_inc_51 : decode cX3_inc 51 = .ok (.iconst 0, 1) := dk_3 (dk_at dksX3_inc_2 4 rfl rfl)
theorem dX3_inc_52 : decode cX3_inc 52 = .ok (.invokevirtual 393, 3) := dk_182 1 137 (dk_at dksX3_inc_2 5 rfl rfl)
theorem dX3_inc_55 : decode cX3_inc 55 = .ok (.istore 5, 2) := dk_54 5 (dk_at dksX3_inc_2 8 rfl rfl)
theorem dX3_inc_57 : decode cX3_inc 57 = .ok (.iload 5, 2) := dk_21 5 (dk_at dksX3_inc_2 10 rfl rfl)
theorem dX3_inc_59 : decode cX3_inc 59 = .ok (.iconst (-1), 1) := dk_2 (dk_at dksX3_inc_2 12 rfl rfl)
theorem dX3_inc_60 : decode cX3_inc 60 = .ok (.if_icmp .eq 10, 3) := dk_159 0 10 (dk_at dksX3_inc_2 13 rfl rfl)
theorem dX3_inc_63 : decode cX3_inc 63 = .ok (.aload_n 0, 1) := dk_42 (dk_at dksX3_inc_2 16 rfl rfl)
theorem dX3_inc_64 : decode cX3_inc 64 = .ok (.iload 5, 2) := dk_21 5 (dk_at dksX3_inc_2 17 rfl rfl)
theorem dX3_inc_66 : decode cX3_inc 66 = .ok (.invokevirtual 292, 3) := dk_182 1 36 (dk_at dksX3_inc_2 19 rfl rfl)
theorem dX3_inc_69 : decode cX3_inc 69 = .ok (.ireturn, 1) := dk_172 (dk_at dksX3_inc_2 22 rfl rfl)
theorem dX3_inc_70 : decode cX3_inc 70 = .ok (.aload_n 0, 1) := dk_42 (dk_at dksX3_inc_2 23 rfl rfl)
theorem dX3_inc_71 : decode cX3_inc 71 = .ok (.invokevirtual 278, 3) := dk_182 1 22 (dk_at dksX3_inc_3 0 rfl rfl)
theorem dX3_inc_74 : decode cX3_inc 74 = .ok (.aload_n 0, 1) := dk_42 (dk_at dksX3_inc_3 3 rfl rfl)
theorem dX3_inc_75 : decode cX3_inc 75 = .ok (.getfield 190, 3) := dk_180 0 190 (dk_at dksX3_inc_3 4 rfl rfl)
theorem dX3_inc_78 : decode cX3_inc 78 = .ok (.istore 6, 2) := dk_54 6 (dk_at dksX3_inc_3 7 rfl rfl)
theorem dX3_inc_80 : decode cX3_inc 80 = .ok (.aload_n 0, 1) := dk_42 (dk_at dksX3_inc_3 9 rfl rfl)
theorem dX3_inc_81 : decode cX3_inc 81 = .ok (.iload_n 1, 1) := dk_27 (dk_at dksX3_inc_3 10 rfl rfl)
theorem dX3_inc_82 : decode cX3_inc 82 = .ok (.iload_n 2, 1) := dk_28 (dk_at dksX3_inc_3 11 rfl rfl)
theorem dX3_inc_83 : decode cX3_inc 83 = .ok (.iload_n 3, 1) := dk_29 (dk_at dksX3_inc_3 12 rfl rfl)
theorem dX3_inc_84 : decode cX3_inc 84 = .ok (.iload 4, 2) := dk_21 4 (dk_at dksX3_inc_3 13 rfl rfl)
theorem dX3_inc_86 : decode cX3_inc 86 = .ok (.invokevirtual 404, 3) := dk_182 1 148 (dk_at dksX3_inc_3 15 rfl rfl)
theorem dX3_inc_89 : decode cX3_inc 89 = .ok (.aload_n 0, 1) := dk_42 (dk_at dksX3_inc_3 18 rfl rfl)
theorem dX3_inc_90 : decode cX3_inc 90 = .ok (.getfield 190, 3) := dk_180 0 190 (dk_at dksX3_inc_3 19 rfl rfl)
theorem dX3_inc_93 : decode cX3_inc 93 = .ok (.iload 6, 2) := dk_21 6 (dk_at dksX3_inc_3 22 rfl rfl)
theorem dX3_inc_95 : decode cX3_inc 95 = .ok (.isub, 1) := dk_100 (dk_at dksX3_inc_4 0 rfl rfl)
theorem dX3_inc_96 : decode cX3_inc 96 = .ok (.ireturn, 1) := dk_172 (dk_at dksX3_inc_4 1 rfl rfl)
abbrev cX3_builderIncs : ByteArray := prog_9_method_82_code
def yX3_builderIncs : MethodName := ⟨RX3, "builderIncs", "(IIII)V"⟩
def dkwX3_builderIncs_4 : List UInt8 := [132, 6, 1, 167, 255, 232, 177]
abbrev dktX3_builderIncs_4 : List UInt8 := dkwX3_builderIncs_4 ++ []
def dkwX3_builderIncs_3 : List UInt8 := [54, 6, 21, 6, 21, 5, 162, 0, 23, 42, 27, 42, 180, 0, 101, 21, 6, 46, 21, 4, 182, 1, 131]
abbrev dktX3_builderIncs_3 : List UInt8 := dkwX3_builderIncs_3 ++ dktX3_builderIncs_4
def dkwX3_builderIncs_2 : List UInt8 := [42, 180, 0, 101, 21, 5, 42, 180, 0, 55, 21, 6, 46, 79, 132, 5, 1, 132, 6, 1, 167, 255, 206, 3]
abbrev dktX3_builderIncs_2 : List UInt8 := dkwX3_builderIncs_2 ++ dktX3_builderIncs_3
def dkwX3_builderIncs_1 : List UInt8 := [162, 0, 47, 42, 180, 0, 55, 21, 6, 46, 133, 28, 133, 29, 133, 184, 0, 174, 154, 0, 6, 167, 0, 20]
abbrev dktX3_builderIncs_1 : List UInt8 := dkwX3_builderIncs_1 ++ dktX3_builderIncs_2
def dkwX3_builderIncs_0 : List UInt8 := [42, 42, 180, 0, 76, 27, 46, 182, 0, 252, 3, 54, 5, 3, 54, 6, 21, 6, 42, 180, 0, 249]
abbrev dktX3_builderIncs_0 : List UInt8 := dkwX3_builderIncs_0 ++ dktX3_builderIncs_1
theorem dksX3_builderIncs_0 : cX3_builderIncs.data.toList.drop 0 = dktX3_builderIncs_0 := by decide +kernel
theorem dksX3_builderIncs_1 : cX3_builderIncs.data.toList.drop 22 = dktX3_builderIncs_1 := dk_seg dksX3_builderIncs_0 22 rfl rfl
theorem dksX3_builderIncs_2 : cX3_builderIncs.data.toList.drop 46 = dktX3_builderIncs_2 := dk_seg dksX3_builderIncs_1 24 rfl rfl
theorem dksX3_builderIncs_3 : cX3_builderIncs.data.toList.drop 70 = dktX3_builderIncs_3 := dk_seg dksX3_builderIncs_2 24 rfl rfl
theorem dksX3_builderIncs_4 : cX3_builderIncs.data.toList.drop 93 = dktX3_builderIncs_4 := dk_seg dksX3_builderIncs_3 23 rfl rfl
theorem dX3_builderIncs_0 : decode cX3_builderIncs 0 = .ok (.aload_n 0, 1) := dk_42 (dk_at dksX3_builderIncs_0 0 rfl rfl)
theorem dX3_builderIncs_1 : decode cX3_builderIncs 1 = .ok (.aload_n 0, 1) := dk_42 (dk_at dksX3_builderIncs_0 1 rfl rfl)
theorem dX3_builderIncs_2 : decode cX3_builderIncs 2 = .ok (.getfield 76, 3) := dk_180 0 76 (dk_at dksX3_builderIncs_0 2 rfl rfl)
theorem dX3_builderIncs_5 : decode cX3_builderIncs 5 = .ok (.iload_n 1, 1) := dk_27 (dk_at dksX3_builderIncs_0 5 rfl rfl)
theorem dX3_builderIncs_6 : decode cX3_builderIncs 6 = .ok (.iaload, 1) := dk_46 (dk_at dksX3_builderIncs_0 6 rfl rfl)
theorem dX3_builderIncs_7 : decode cX3_builderIncs 7 = .ok (.invokevirtual 252, 3) := dk_182 0 252 (dk_at dksX3_builderIncs_0 7 rfl rfl)
theorem dX3_builderIncs_10 : decode cX3_builderIncs 10 = .ok (.iconst 0, 1) := dk_3 (dk_at dksX3_builderIncs_0 10 rfl rfl)
theorem dX3_builderIncs_11 : decode cX3_builderIncs 11 = .ok (.istore 5, 2) := dk_54 5 (dk_at dksX3_builderIncs_0 11 rfl rfl)
theorem dX3_builderIncs_13 : decode cX3_builderIncs 13 = .ok (.iconst 0, 1) := dk_3 (dk_at dksX3_builderIncs_0 13 rfl rfl)
theorem dX3_builderIncs_14 : decode cX3_builderIncs 14 = .ok (.istore 6, 2) := dk_54 6 (dk_at dksX3_builderIncs_0 14 rfl rfl)
theorem dX3_builderIncs_16 : decode cX3_builderIncs 16 = .ok (.iload 6, 2) := dk_21 6 (dk_at dksX3_builderIncs_0 16 rfl rfl)
theorem dX3_builderIncs_18 : decode cX3_builderIncs 18 = .ok (.aload_n 0, 1) := dk_42 (dk_at dksX3_builderIncs_0 18 rfl rfl)
theorem dX3_builderIncs_19 : decode cX3_builderIncs 19 = .ok (.getfield 249, 3) := dk_180 0 249 (dk_at dksX3_builderIncs_0 19 rfl rfl)
theorem dX3_builderIncs_22 : decode cX3_builderIncs 22 = .ok (.if_icmp .ge 47, 3) := dk_162 0 47 (dk_at dksX3_builderIncs_1 0 rfl rfl)
theorem dX3_builderIncs_25 : decode cX3_builderIncs 25 = .ok (.aload_n 0, 1) := dk_42 (dk_at dksX3_builderIncs_1 3 rfl rfl)
theorem dX3_builderIncs_26 : decode cX3_builderIncs 26 = .ok (.getfield 55, 3) := dk_180 0 55 (dk_at dksX3_builderIncs_1 4 rfl rfl)
theorem dX3_builderIncs_29 : decode cX3_builderIncs 29 = .ok (.iload 6, 2) := dk_21 6 (dk_at dksX3_builderIncs_1 7 rfl rfl)
theorem dX3_builderIncs_31 : decode cX3_builderIncs 31 = .ok (.iaload, 1) := dk_46 (dk_at dksX3_builderIncs_1 9 rfl rfl)
theorem dX3_builderIncs_32 : decode cX3_builderIncs 32 = .ok (.i2l, 1) := dk_133 (dk_at dksX3_builderIncs_1 10 rfl rfl)
theorem dX3_builderIncs_33 : decode cX3_builderIncs 33 = .ok (.iload_n 2, 1) := dk_28 (dk_at dksX3_builderIncs_1 11 rfl rfl)
theorem dX3_builderIncs_34 : decode cX3_builderIncs 34 = .ok (.i2l, 1) := dk_133 (dk_at dksX3_builderIncs_1 12 rfl rfl)
theorem dX3_builderIncs_35 : decode cX3_builderIncs 35 = .ok (.iload_n 3, 1) := dk_29 (dk_at dksX3_builderIncs_1 13 rfl rfl)
theorem dX3_builderIncs_36 : decode cX3_builderIncs 36 = .ok (.i2l, 1) := dk_133 (dk_at dksX3_builderIncs_1 14 rfl rfl)
theorem dX3_builderIncs_37 : decode cX3_builderIncs 37 = .ok (.invokestatic 174, 3) := dk_184 0 174 (dk_at dksX3_builderIncs_1 15 rfl rfl)
theorem dX3_builderIncs_40 : decode cX3_builderIncs 40 = .ok (.ifCond .ne 6, 3) := dk_154 0 6 (dk_at dksX3_builderIncs_1 18 rfl rfl)
theorem dX3_builderIncs_43 : decode cX3_builderIncs 43 = .ok (.goto 20, 3) := dk_167 0 20 (dk_at dksX3_builderIncs_1 21 rfl rfl)
theorem dX3_builderIncs_46 : decode cX3_builderIncs 46 = .ok (.aload_n 0, 1) := dk_42 (dk_at dksX3_builderIncs_2 0 rfl rfl)
theorem dX3_builderIncs_47 : decode cX3_builderIncs 47 = .ok (.getfield 101, 3) := dk_180 0 101 (dk_at dksX3_builderIncs_2 1 rfl rfl)
theorem dX3_builderIncs_50 : decode cX3_builderIncs 50 = .ok (.iload 5, 2) := dk_21 5 (dk_at dksX3_builderIncs_2 4 rfl rfl)
theorem dX3_builderIncs_52 : decode cX3_builderIncs 52 = .ok (.aload_n 0, 1) := dk_42 (dk_at dksX3_builderIncs_2 6 rfl rfl)
theorem dX3_builderIncs_53 : decode cX3_builderIncs 53 = .ok (.getfield 55, 3) := dk_180 0 55 (dk_at dksX3_builderIncs_2 7 rfl rfl)
theorem dX3_builderIncs_56 : decode cX3_builderIncs 56 = .ok (.iload 6, 2) := dk_21 6 (dk_at dksX3_builderIncs_2 10 rfl rfl)
theorem dX3_builderIncs_58 : decode cX3_builderIncs 58 = .ok (.iaload, 1) := dk_46 (dk_at dksX3_builderIncs_2 12 rfl rfl)
theorem dX3_builderIncs_59 : decode cX3_builderIncs 59 = .ok (.iastore, 1) := dk_79 (dk_at dksX3_builderIncs_2 13 rfl rfl)
theorem dX3_builderIncs_60 : decode cX3_builderIncs 60 = .ok (.iinc 5 1, 3) := dk_132 5 1 (dk_at dksX3_builderIncs_2 14 rfl rfl)
theorem dX3_builderIncs_63 : decode cX3_builderIncs 63 = .ok (.iinc 6 1, 3) := dk_132 6 1 (dk_at dksX3_builderIncs_2 17 rfl rfl)
theorem dX3_builderIncs_66 : decode cX3_builderIncs 66 = .ok (.goto (-50), 3) := dk_167 255 206 (dk_at dksX3_builderIncs_2 20 rfl rfl)
theorem dX3_builderIncs_69 : decode cX3_builderIncs 69 = .ok (.iconst 0, 1) := dk_3 (dk_at dksX3_builderIncs_2 23 rfl rfl)
theorem dX3_builderIncs_70 : decode cX3_builderIncs 70 = .ok (.istore 6, 2) := dk_54 6 (dk_at dksX3_builderIncs_3 0 rfl rfl)
theorem dX3_builderIncs_72 : decode cX3_builderIncs 72 = .ok (.iload 6, 2) := dk_21 6 (dk_at dksX3_builderIncs_3 2 rfl rfl)
theorem dX3_builderIncs_74 : decode cX3_builderIncs 74 = .ok (.iload 5, 2) := dk_21 5 (dk_at dksX3_builderIncs_3 4 rfl rfl)
theorem dX3_builderIncs_76 : decode cX3_builderIncs 76 = .ok (.if_icmp .ge 23, 3) := dk_162 0 23 (dk_at dksX3_builderIncs_3 6 rfl rfl)
theorem dX3_builderIncs_79 : decode cX3_builderIncs 79 = .ok (.aload_n 0, 1) := dk_42 (dk_at dksX3_builderIncs_3 9 rfl rfl)
theorem dX3_builderIncs_80 : decode cX3_builderIncs 80 = .ok (.iload_n 1, 1) := dk_27 (dk_at dksX3_builderIncs_3 10 rfl rfl)
theorem dX3_builderIncs_81 : decode cX3_builderIncs 81 = .ok (.aload_n 0, 1) := dk_42 (dk_at dksX3_builderIncs_3 11 rfl rfl)
theorem dX3_builderIncs_82 : decode cX3_builderIncs 82 = .ok (.getfield 101, 3) := dk_180 0 101 (dk_at dksX3_builderIncs_3 12 rfl rfl)
theorem dX3_builderIncs_85 : decode cX3_builderIncs 85 = .ok (.iload 6, 2) := dk_21 6 (dk_at dksX3_builderIncs_3 15 rfl rfl)
theorem dX3_builderIncs_87 : decode cX3_builderIncs 87 = .ok (.iaload, 1) := dk_46 (dk_at dksX3_builderIncs_3 17 rfl rfl)
theorem dX3_builderIncs_88 : decode cX3_builderIncs 88 = .ok (.iload 4, 2) := dk_21 4 (dk_at dksX3_builderIncs_3 18 rfl rfl)
theorem dX3_builderIncs_90 : decode cX3_builderIncs 90 = .ok (.invokevirtual 387, 3) := dk_182 1 131 (dk_at dksX3_builderIncs_3 20 rfl rfl)
theorem dX3_builderIncs_93 : decode cX3_builderIncs 93 = .ok (.iinc 6 1, 3) := dk_132 6 1 (dk_at dksX3_builderIncs_4 0 rfl rfl)
theorem dX3_builderIncs_96 : decode cX3_builderIncs 96 = .ok (.goto (-24), 3) := dk_167 255 232 (dk_at dksX3_builderIncs_4 3 rfl rfl)
theorem dX3_builderIncs_99 : decode cX3_builderIncs 99 = .ok (.return_, 1) := dk_177 (dk_at dksX3_builderIncs_4 6 rfl rfl)
abbrev cX3_snap : ByteArray := prog_9_method_91_code
def yX3_snap : MethodName := ⟨RX3, "snap", "(I)I"⟩
def dkwX3_snap_1 : List UInt8 := [7, 61, 28, 2, 160, 0, 11, 42, 27, 182, 1, 151, 167, 0, 8, 42, 28, 182, 1, 36, 172]
abbrev dktX3_snap_1 : List UInt8 := dkwX3_snap_1 ++ []
def dkwX3_snap_0 : List UInt8 := [42, 3, 181, 0, 116, 42, 27, 4, 182, 1, 137, 61, 28, 2, 160, 0, 12, 42, 182, 1, 33, 154, 0, 5]
abbrev dktX3_snap_0 : List UInt8 := dkwX3_snap_0 ++ dktX3_snap_1
theorem dksX3_snap_0 : cX3_snap.data.toList.drop 0 = dktX3_snap_0 := by decide +kernel
theorem dksX3_snap_1 : cX3_snap.data.toList.drop 24 = dktX3_snap_1 := dk_seg dksX3_snap_0 24 rfl rfl
theorem dX3_snap_0 : decode cX3_snap 0 = .ok (.aload_n 0, 1) := dk_42 (dk_at dksX3_snap_0 0 rfl rfl)
theorem dX3_snap_1 : decode cX3_snap 1 = .ok (.iconst 0, 1) := dk_3 (dk_at dksX3_snap_0 1 rfl rfl)
theorem dX3_snap_2 : decode cX3_snap 2 = .ok (.putfield 116, 3) := dk_181 0 116 (dk_at dksX3_snap_0 2 rfl rfl)
theorem dX3_snap_5 : decode cX3_snap 5 = .ok (.aload_n 0, 1) := dk_42 (dk_at dksX3_snap_0 5 rfl rfl)
theorem dX3_snap_6 : decode cX3_snap 6 = .ok (.iload_n 1, 1) := dk_27 (dk_at dksX3_snap_0 6 rfl rfl)
theorem dX3_snap_7 : decode cX3_snap 7 = .ok (.iconst 1, 1) := dk_4 (dk_at dksX3_snap_0 7 rfl rfl)
theorem dX3_snap_8 : decode cX3_snap 8 = .ok (.invokevirtual 393, 3) := dk_182 1 137 (dk_at dksX3_snap_0 8 rfl rfl)
theorem dX3_snap_11 : decode cX3_snap 11 = .ok (.istore_n 2, 1) := dk_61 (dk_at dksX3_snap_0 11 rfl rfl)
theorem dX3_snap_12 : decode cX3_snap 12 = .ok (.iload_n 2, 1) := dk_28 (dk_at dksX3_snap_0 12 rfl rfl)
theorem dX3_snap_13 : decode cX3_snap 13 = .ok (.iconst (-1), 1) := dk_2 (dk_at dksX3_snap_0 13 rfl rfl)
theorem dX3_snap_14 : decode cX3_snap 14 = .ok (.if_icmp .ne 12, 3) := dk_160 0 12 (dk_at dksX3_snap_0 14 rfl rfl)
theorem dX3_snap_17 : decode cX3_snap 17 = .ok (.aload_n 0, 1) := dk_42 (dk_at dksX3_snap_0 17 rfl rfl)
theorem dX3_snap_18 : decode cX3_snap 18 = .ok (.invokevirtual 289, 3) := dk_182 1 33 (dk_at dksX3_snap_0 18 rfl rfl)
theorem dX3_snap_21 : decode cX3_snap 21 = .ok (.ifCond .ne 5, 3) := dk_154 0 5 (dk_at dksX3_snap_0 21 rfl rfl)
theorem dX3_snap_24 : decode cX3_snap 24 = .ok (.iconst 4, 1) := dk_7 (dk_at dksX3_snap_1 0 rfl rfl)
theorem dX3_snap_25 : decode cX3_snap 25 = .ok (.istore_n 2, 1) := dk_61 (dk_at dksX3_snap_1 1 rfl rfl)
theorem dX3_snap_26 : decode cX3_snap 26 = .ok (.iload_n 2, 1) := dk_28 (dk_at dksX3_snap_1 2 rfl rfl)
theorem dX3_snap_27 : decode cX3_snap 27 = .ok (.iconst (-1), 1) := dk_2 (dk_at dksX3_snap_1 3 rfl rfl)
theorem dX3_snap_28 : decode cX3_snap 28 = .ok (.if_icmp .ne 11, 3) := dk_160 0 11 (dk_at dksX3_snap_1 4 rfl rfl)
theorem dX3_snap_31 : decode cX3_snap 31 = .ok (.aload_n 0, 1) := dk_42 (dk_at dksX3_snap_1 7 rfl rfl)
theorem dX3_snap_32 : decode cX3_snap 32 = .ok (.iload_n 1, 1) := dk_27 (dk_at dksX3_snap_1 8 rfl rfl)
theorem dX3_snap_33 : decode cX3_snap 33 = .ok (.invokevirtual 407, 3) := dk_182 1 151 (dk_at dksX3_snap_1 9 rfl rfl)
theorem dX3_snap_36 : decode cX3_snap 36 = .ok (.goto 8, 3) := dk_167 0 8 (dk_at dksX3_snap_1 12 rfl rfl)
theorem dX3_snap_39 : decode cX3_snap 39 = .ok (.aload_n 0, 1) := dk_42 (dk_at dksX3_snap_1 15 rfl rfl)
theorem dX3_snap_40 : decode cX3_snap 40 = .ok (.iload_n 2, 1) := dk_28 (dk_at dksX3_snap_1 16 rfl rfl)
theorem dX3_snap_41 : decode cX3_snap 41 = .ok (.invokevirtual 292, 3) := dk_182 1 36 (dk_at dksX3_snap_1 17 rfl rfl)
theorem dX3_snap_44 : decode cX3_snap 44 = .ok (.ireturn, 1) := dk_172 (dk_at dksX3_snap_1 20 rfl rfl)
abbrev cX3_snapped : ByteArray := prog_9_method_90_code
def yX3_snapped : MethodName := ⟨RX3, "snapped", "(I)I"⟩
def dkwX3_snapped_1 : List UInt8 := [79, 42, 180, 0, 79, 27, 42, 182, 1, 39, 79, 28, 172]
abbrev dktX3_snapped_1 : List UInt8 := dkwX3_snapped_1 ++ []
def dkwX3_snapped_0 : List UInt8 := [42, 42, 180, 0, 76, 27, 46, 42, 180, 0, 82, 27, 46, 2, 182, 1, 46, 61, 42, 180, 0, 82, 27, 28]
abbrev dktX3_snapped_0 : List UInt8 := dkwX3_snapped_0 ++ dktX3_snapped_1
theorem dksX3_snapped_0 : cX3_snapped.data.toList.drop 0 = dktX3_snapped_0 := by decide +kernel
theorem dksX3_snapped_1 : cX3_snapped.data.toList.drop 24 = dktX3_snapped_1 := dk_seg dksX3_snapped_0 24 rfl rfl
theorem dX3_snapped_0 : decode cX3_snapped 0 = .ok (.aload_n 0, 1) := dk_42 (dk_at dksX3_snapped_0 0 rfl rfl)
theorem dX3_snapped_1 : decode cX3_snapped 1 = .ok (.aload_n 0, 1) := dk_42 (dk_at dksX3_snapped_0 1 rfl rfl)
theorem dX3_snapped_2 : decode cX3_snapped 2 = .ok (.getfield 76, 3) := dk_180 0 76 (dk_at dksX3_snapped_0 2 rfl rfl)
theorem dX3_snapped_5 : decode cX3_snapped 5 = .ok (.iload_n 1, 1) := dk_27 (dk_at dksX3_snapped_0 5 rfl rfl)
theorem dX3_snapped_6 : decode cX3_snapped 6 = .ok (.iaload, 1) := dk_46 (dk_at dksX3_snapped_0 6 rfl rfl)
theorem dX3_snapped_7 : decode cX3_snapped 7 = .ok (.aload_n 0, 1) := dk_42 (dk_at dksX3_snapped_0 7 rfl rfl)
theorem dX3_snapped_8 : decode cX3_snapped 8 = .ok (.getfield 82, 3) := dk_180 0 82 (dk_at dksX3_snapped_0 8 rfl rfl)
theorem dX3_snapped_11 : decode cX3_snapped 11 = .ok (.iload_n 1, 1) := dk_27 (dk_at dksX3_snapped_0 11 rfl rfl)
theorem dX3_snapped_12 : decode cX3_snapped 12 = .ok (.iaload, 1) := dk_46 (dk_at dksX3_snapped_0 12 rfl rfl)
theorem dX3_snapped_13 : decode cX3_snapped 13 = .ok (.iconst (-1), 1) := dk_2 (dk_at dksX3_snapped_0 13 rfl rfl)
theorem dX3_snapped_14 : decode cX3_snapped 14 = .ok (.invokevirtual 302, 3) := dk_182 1 46 (dk_at dksX3_snapped_0 14 rfl rfl)
theorem dX3_snapped_17 : decode cX3_snapped 17 = .ok (.istore_n 2, 1) := dk_61 (dk_at dksX3_snapped_0 17 rfl rfl)
theorem dX3_snapped_18 : decode cX3_snapped 18 = .ok (.aload_n 0, 1) := dk_42 (dk_at dksX3_snapped_0 18 rfl rfl)
theorem dX3_snapped_19 : decode cX3_snapped 19 = .ok (.getfield 82, 3) := dk_180 0 82 (dk_at dksX3_snapped_0 19 rfl rfl)
theorem dX3_snapped_22 : decode cX3_snapped 22 = .ok (.iload_n 1, 1) := dk_27 (dk_at dksX3_snapped_0 22 rfl rfl)
theorem dX3_snapped_23 : decode cX3_snapped 23 = .ok (.iload_n 2, 1) := dk_28 (dk_at dksX3_snapped_0 23 rfl rfl)
theorem dX3_snapped_24 : decode cX3_snapped 24 = .ok (.iastore, 1) := dk_79 (dk_at dksX3_snapped_1 0 rfl rfl)
theorem dX3_snapped_25 : decode cX3_snapped 25 = .ok (.aload_n 0, 1) := dk_42 (dk_at dksX3_snapped_1 1 rfl rfl)
theorem dX3_snapped_26 : decode cX3_snapped 26 = .ok (.getfield 79, 3) := dk_180 0 79 (dk_at dksX3_snapped_1 2 rfl rfl)
theorem dX3_snapped_29 : decode cX3_snapped 29 = .ok (.iload_n 1, 1) := dk_27 (dk_at dksX3_snapped_1 5 rfl rfl)
theorem dX3_snapped_30 : decode cX3_snapped 30 = .ok (.aload_n 0, 1) := dk_42 (dk_at dksX3_snapped_1 6 rfl rfl)
theorem dX3_snapped_31 : decode cX3_snapped 31 = .ok (.invokevirtual 295, 3) := dk_182 1 39 (dk_at dksX3_snapped_1 7 rfl rfl)
theorem dX3_snapped_34 : decode cX3_snapped 34 = .ok (.iastore, 1) := dk_79 (dk_at dksX3_snapped_1 10 rfl rfl)
theorem dX3_snapped_35 : decode cX3_snapped 35 = .ok (.iload_n 2, 1) := dk_28 (dk_at dksX3_snapped_1 11 rfl rfl)
theorem dX3_snapped_36 : decode cX3_snapped 36 = .ok (.ireturn, 1) := dk_172 (dk_at dksX3_snapped_1 12 rfl rfl)
abbrev cX3_freeze : ByteArray := prog_9_method_92_code
def yX3_freeze : MethodName := ⟨RX3, "freeze", "(I)I"⟩
def dkwX3_freeze_1 : List UInt8 := [181, 1, 12, 28, 172]
abbrev dktX3_freeze_1 : List UInt8 := dkwX3_freeze_1 ++ []
def dkwX3_freeze_0 : List UInt8 := [42, 27, 182, 1, 154, 61, 28, 2, 159, 0, 17, 42, 89, 180, 1, 12, 4, 27, 120, 2, 130, 126]
abbrev dktX3_freeze_0 : List UInt8 := dkwX3_freeze_0 ++ dktX3_freeze_1
theorem dksX3_freeze_0 : cX3_freeze.data.toList.drop 0 = dktX3_freeze_0 := by decide +kernel
theorem dksX3_freeze_1 : cX3_freeze.data.toList.drop 22 = dktX3_freeze_1 := dk_seg dksX3_freeze_0 22 rfl rfl
theorem dX3_freeze_0 : decode cX3_freeze 0 = .ok (.aload_n 0, 1) := dk_42 (dk_at dksX3_freeze_0 0 rfl rfl)
theorem dX3_freeze_1 : decode cX3_freeze 1 = .ok (.iload_n 1, 1) := dk_27 (dk_at dksX3_freeze_0 1 rfl rfl)
theorem dX3_freeze_2 : decode cX3_freeze 2 = .ok (.invokevirtual 410, 3) := dk_182 1 154 (dk_at dksX3_freeze_0 2 rfl rfl)
theorem dX3_freeze_5 : decode cX3_freeze 5 = .ok (.istore_n 2, 1) := dk_61 (dk_at dksX3_freeze_0 5 rfl rfl)
theorem dX3_freeze_6 : decode cX3_freeze 6 = .ok (.iload_n 2, 1) := dk_28 (dk_at dksX3_freeze_0 6 rfl rfl)
theorem dX3_freeze_7 : decode cX3_freeze 7 = .ok (.iconst (-1), 1) := dk_2 (dk_at dksX3_freeze_0 7 rfl rfl)
theorem dX3_freeze_8 : decode cX3_freeze 8 = .ok (.if_icmp .eq 17, 3) := dk_159 0 17 (dk_at dksX3_freeze_0 8 rfl rfl)
theorem dX3_freeze_11 : decode cX3_freeze 11 = .ok (.aload_n 0, 1) := dk_42 (dk_at dksX3_freeze_0 11 rfl rfl)
theorem dX3_freeze_12 : decode cX3_freeze 12 = .ok (.dup, 1) := dk_89 (dk_at dksX3_freeze_0 12 rfl rfl)
theorem dX3_freeze_13 : decode cX3_freeze 13 = .ok (.getfield 268, 3) := dk_180 1 12 (dk_at dksX3_freeze_0 13 rfl rfl)
theorem dX3_freeze_16 : decode cX3_freeze 16 = .ok (.iconst 1, 1) := dk_4 (dk_at dksX3_freeze_0 16 rfl rfl)
theorem dX3_freeze_17 : decode cX3_freeze 17 = .ok (.iload_n 1, 1) := dk_27 (dk_at dksX3_freeze_0 17 rfl rfl)
theorem dX3_freeze_18 : decode cX3_freeze 18 = .ok (.ishl, 1) := dk_120 (dk_at dksX3_freeze_0 18 rfl rfl)
theorem dX3_freeze_19 : decode cX3_freeze 19 = .ok (.iconst (-1), 1) := dk_2 (dk_at dksX3_freeze_0 19 rfl rfl)
theorem dX3_freeze_20 : decode cX3_freeze 20 = .ok (.ixor, 1) := dk_130 (dk_at dksX3_freeze_0 20 rfl rfl)
theorem dX3_freeze_21 : decode cX3_freeze 21 = .ok (.iand, 1) := dk_126 (dk_at dksX3_freeze_0 21 rfl rfl)
theorem dX3_freeze_22 : decode cX3_freeze 22 = .ok (.putfield 268, 3) := dk_181 1 12 (dk_at dksX3_freeze_1 0 rfl rfl)
theorem dX3_freeze_25 : decode cX3_freeze 25 = .ok (.iload_n 2, 1) := dk_28 (dk_at dksX3_freeze_1 3 rfl rfl)
theorem dX3_freeze_26 : decode cX3_freeze 26 = .ok (.ireturn, 1) := dk_172 (dk_at dksX3_freeze_1 4 rfl rfl)
abbrev cX3_peek : ByteArray := prog_9_method_93_code
def yX3_peek : MethodName := ⟨RX3, "peek", "(II)I"⟩
def dkwX3_peek_1 : List UInt8 := [167, 0, 5, 18, 170, 172]
abbrev dktX3_peek_1 : List UInt8 := dkwX3_peek_1 ++ []
def dkwX3_peek_0 : List UInt8 := [42, 3, 181, 0, 116, 42, 27, 182, 1, 134, 153, 0, 17, 42, 42, 180, 0, 76, 27, 46, 28, 182, 0, 218]
abbrev dktX3_peek_0 : List UInt8 := dkwX3_peek_0 ++ dktX3_peek_1
theorem dksX3_peek_0 : cX3_peek.data.toList.drop 0 = dktX3_peek_0 := by decide +kernel
theorem dksX3_peek_1 : cX3_peek.data.toList.drop 24 = dktX3_peek_1 := dk_seg dksX3_peek_0 24 rfl rfl
theorem dX3_peek_0 : decode cX3_peek 0 = .ok (.aload_n 0, 1) := dk_42 (dk_at dksX3_peek_0 0 rfl rfl)
theorem dX3_peek_1 : decode cX3_peek 1 = .ok (.iconst 0, 1) := dk_3 (dk_at dksX3_peek_0 1 rfl rfl)
theorem dX3_peek_2 : decode cX3_peek 2 = .ok (.putfield 116, 3) := dk_181 0 116 (dk_at dksX3_peek_0 2 rfl rfl)
theorem dX3_peek_5 : decode cX3_peek 5 = .ok (.aload_n 0, 1) := dk_42 (dk_at dksX3_peek_0 5 rfl rfl)
theorem dX3_peek_6 : decode cX3_peek 6 = .ok (.iload_n 1, 1) := dk_27 (dk_at dksX3_peek_0 6 rfl rfl)
theorem dX3_peek_7 : decode cX3_peek 7 = .ok (.invokevirtual 390, 3) := dk_182 1 134 (dk_at dksX3_peek_0 7 rfl rfl)
theorem dX3_peek_10 : decode cX3_peek 10 = .ok (.ifCond .eq 17, 3) := dk_153 0 17 (dk_at dksX3_peek_0 10 rfl rfl)
theorem dX3_peek_13 : decode cX3_peek 13 = .ok (.aload_n 0, 1) := dk_42 (dk_at dksX3_peek_0 13 rfl rfl)
theorem dX3_peek_14 : decode cX3_peek 14 = .ok (.aload_n 0, 1) := dk_42 (dk_at dksX3_peek_0 14 rfl rfl)
theorem dX3_peek_15 : decode cX3_peek 15 = .ok (.getfield 76, 3) := dk_180 0 76 (dk_at dksX3_peek_0 15 rfl rfl)
theorem dX3_peek_18 : decode cX3_peek 18 = .ok (.iload_n 1, 1) := dk_27 (dk_at dksX3_peek_0 18 rfl rfl)
theorem dX3_peek_19 : decode cX3_peek 19 = .ok (.iaload, 1) := dk_46 (dk_at dksX3_peek_0 19 rfl rfl)
theorem dX3_peek_20 : decode cX3_peek 20 = .ok (.iload_n 2, 1) := dk_28 (dk_at dksX3_peek_0 20 rfl rfl)
theorem dX3_peek_21 : decode cX3_peek 21 = .ok (.invokevirtual 218, 3) := dk_182 0 218 (dk_at dksX3_peek_0 21 rfl rfl)
theorem dX3_peek_24 : decode cX3_peek 24 = .ok (.goto 5, 3) := dk_167 0 5 (dk_at dksX3_peek_1 0 rfl rfl)
theorem dX3_peek_27 : decode cX3_peek 27 = .ok (.ldc 170, 2) := dk_18 170 (dk_at dksX3_peek_1 3 rfl rfl)
theorem dX3_peek_29 : decode cX3_peek 29 = .ok (.ireturn, 1) := dk_172 (dk_at dksX3_peek_1 5 rfl rfl)
abbrev cX3_builder : ByteArray := prog_9_method_95_code
def yX3_builder : MethodName := ⟨RX3, "builder", "(II)I"⟩
def dkwX3_builder_3 : List UInt8 := [182, 1, 157, 167, 0, 9, 42, 180, 0, 82, 27, 46, 172]
abbrev dktX3_builder_3 : List UInt8 := dkwX3_builder_3 ++ []
def dkwX3_builder_2 : List UInt8 := [167, 0, 34, 28, 4, 160, 0, 10, 42, 180, 0, 243, 167, 0, 22, 28, 5, 160, 0, 11, 42, 27]
abbrev dktX3_builder_2 : List UInt8 := dkwX3_builder_2 ++ dktX3_builder_3
def dkwX3_builder_1 : List UInt8 := [154, 0, 6, 18, 170, 172, 42, 42, 180, 0, 76, 27, 46, 182, 0, 252, 28, 154, 0, 10, 42, 180, 0, 249]
abbrev dktX3_builder_1 : List UInt8 := dkwX3_builder_1 ++ dktX3_builder_2
def dkwX3_builder_0 : List UInt8 := [42, 3, 181, 0, 116, 42, 27, 182, 1, 134, 153, 0, 15, 28, 133, 9, 20, 1, 49, 184, 0, 174]
abbrev dktX3_builder_0 : List UInt8 := dkwX3_builder_0 ++ dktX3_builder_1
theorem dksX3_builder_0 : cX3_builder.data.toList.drop 0 = dktX3_builder_0 := by decide +kernel
theorem dksX3_builder_1 : cX3_builder.data.toList.drop 22 = dktX3_builder_1 := dk_seg dksX3_builder_0 22 rfl rfl
theorem dksX3_builder_2 : cX3_builder.data.toList.drop 46 = dktX3_builder_2 := dk_seg dksX3_builder_1 24 rfl rfl
theorem dksX3_builder_3 : cX3_builder.data.toList.drop 68 = dktX3_builder_3 := dk_seg dksX3_builder_2 22 rfl rfl
theorem dX3_builder_0 : decode cX3_builder 0 = .ok (.aload_n 0, 1) := dk_42 (dk_at dksX3_builder_0 0 rfl rfl)
theorem dX3_builder_1 : decode cX3_builder 1 = .ok (.iconst 0, 1) := dk_3 (dk_at dksX3_builder_0 1 rfl rfl)
theorem dX3_builder_2 : decode cX3_builder 2 = .ok (.putfield 116, 3) := dk_181 0 116 (dk_at dksX3_builder_0 2 rfl rfl)
theorem dX3_builder_5 : decode cX3_builder 5 = .ok (.aload_n 0, 1) := dk_42 (dk_at dksX3_builder_0 5 rfl rfl)
theorem dX3_builder_6 : decode cX3_builder 6 = .ok (.iload_n 1, 1) := dk_27 (dk_at dksX3_builder_0 6 rfl rfl)
theorem dX3_builder_7 : decode cX3_builder 7 = .ok (.invokevirtual 390, 3) := dk_182 1 134 (dk_at dksX3_builder_0 7 rfl rfl)
theorem dX3_builder_10 : decode cX3_builder 10 = .ok (.ifCond .eq 15, 3) := dk_153 0 15 (dk_at dksX3_builder_0 10 rfl rfl)
theorem dX3_builder_13 : decode cX3_builder 13 = .ok (.iload_n 2, 1) := dk_28 (dk_at dksX3_builder_0 13 rfl rfl)
theorem dX3_builder_14 : decode cX3_builder 14 = .ok (.i2l, 1) := dk_133 (dk_at dksX3_builder_0 14 rfl rfl)
theorem dX3_builder_15 : decode cX3_builder 15 = .ok (.lconst 0, 1) := dk_9 (dk_at dksX3_builder_0 15 rfl rfl)
theorem dX3_builder_16 : decode cX3_builder 16 = .ok (.ldc2_w 305, 3) := dk_20 1 49 (dk_at dksX3_builder_0 16 rfl rfl)
theorem dX3_builder_19 : decode cX3_builder 19 = .ok (.invokestatic 174, 3) := dk_184 0 174 (dk_at dksX3_builder_0 19 rfl rfl)
theorem dX3_builder_22 : decode cX3_builder 22 = .ok (.ifCond .ne 6, 3) := dk_154 0 6 (dk_at dksX3_builder_1 0 rfl rfl)
theorem dX3_builder_25 : decode cX3_builder 25 = .ok (.ldc 170, 2) := dk_18 170 (dk_at dksX3_builder_1 3 rfl rfl)
theorem dX3_builder_27 : decode cX3_builder 27 = .ok (.ireturn, 1) := dk_172 (dk_at dksX3_builder_1 5 rfl rfl)
theorem dX3_builder_28 : decode cX3_builder 28 = .ok (.aload_n 0, 1) := dk_42 (dk_at dksX3_builder_1 6 rfl rfl)
theorem dX3_builder_29 : decode cX3_builder 29 = .ok (.aload_n 0, 1) := dk_42 (dk_at dksX3_builder_1 7 rfl rfl)
theorem dX3_builder_30 : decode cX3_builder 30 = .ok (.getfield 76, 3) := dk_180 0 76 (dk_at dksX3_builder_1 8 rfl rfl)
theorem dX3_builder_33 : decode cX3_builder 33 = .ok (.iload_n 1, 1) := dk_27 (dk_at dksX3_builder_1 11 rfl rfl)
theorem dX3_builder_34 : decode cX3_builder 34 = .ok (.iaload, 1) := dk_46 (dk_at dksX3_builder_1 12 rfl rfl)
theorem dX3_builder_35 : decode cX3_builder 35 = .ok (.invokevirtual 252, 3) := dk_182 0 252 (dk_at dksX3_builder_1 13 rfl rfl)
theorem dX3_builder_38 : decode cX3_builder 38 = .ok (.iload_n 2, 1) := dk_28 (dk_at dksX3_builder_1 16 rfl rfl)
theorem dX3_builder_39 : decode cX3_builder 39 = .ok (.ifCond .ne 10, 3) := dk_154 0 10 (dk_at dksX3_builder_1 17 rfl rfl)
theorem dX3_builder_42 : decode cX3_builder 42 = .ok (.aload_n 0, 1) := dk_42 (dk_at dksX3_builder_1 20 rfl rfl)
theorem dX3_builder_43 : decode cX3_builder 43 = .ok (.getfield 249, 3) := dk_180 0 249 (dk_at dksX3_builder_1 21 rfl rfl)
theorem dX3_builder_46 : decode cX3_builder 46 = .ok (.goto 34, 3) := dk_167 0 34 (dk_at dksX3_builder_2 0 rfl rfl)
theorem dX3_builder_49 : decode cX3_builder 49 = .ok (.iload_n 2, 1) := dk_28 (dk_at dksX3_builder_2 3 rfl rfl)
theorem dX3_builder_50 : decode cX3_builder 50 = .ok (.iconst 1, 1) := dk_4 (dk_at dksX3_builder_2 4 rfl rfl)
theorem dX3_builder_51 : decode cX3_builder 51 = .ok (.if_icmp .ne 10, 3) := dk_160 0 10 (dk_at dksX3_builder_2 5 rfl rfl)
theorem dX3_builder_54 : decode cX3_builder 54 = .ok (.aload_n 0, 1) := dk_42 (dk_at dksX3_builder_2 8 rfl rfl)
theorem dX3_builder_55 : decode cX3_builder 55 = .ok (.getfield 243, 3) := dk_180 0 243 (dk_at dksX3_builder_2 9 rfl rfl)
theorem dX3_builder_58 : decode cX3_builder 58 = .ok (.goto 22, 3) := dk_167 0 22 (dk_at dksX3_builder_2 12 rfl rfl)
theorem dX3_builder_61 : decode cX3_builder 61 = .ok (.iload_n 2, 1) := dk_28 (dk_at dksX3_builder_2 15 rfl rfl)
theorem dX3_builder_62 : decode cX3_builder 62 = .ok (.iconst 2, 1) := dk_5 (dk_at dksX3_builder_2 16 rfl rfl)
theorem dX3_builder_63 : decode cX3_builder 63 = .ok (.if_icmp .ne 11, 3) := dk_160 0 11 (dk_at dksX3_builder_2 17 rfl rfl)
theorem dX3_builder_66 : decode cX3_builder 66 = .ok (.aload_n 0, 1) := dk_42 (dk_at dksX3_builder_2 20 rfl rfl)
theorem dX3_builder_67 : decode cX3_builder 67 = .ok (.iload_n 1, 1) := dk_27 (dk_at dksX3_builder_2 21 rfl rfl)
theorem dX3_builder_68 : decode cX3_builder 68 = .ok (.invokevirtual 413, 3) := dk_182 1 157 (dk_at dksX3_builder_3 0 rfl rfl)
theorem dX3_builder_71 : decode cX3_builder 71 = .ok (.goto 9, 3) := dk_167 0 9 (dk_at dksX3_builder_3 3 rfl rfl)
theorem dX3_builder_74 : decode cX3_builder 74 = .ok (.aload_n 0, 1) := dk_42 (dk_at dksX3_builder_3 6 rfl rfl)
theorem dX3_builder_75 : decode cX3_builder 75 = .ok (.getfield 82, 3) := dk_180 0 82 (dk_at dksX3_builder_3 7 rfl rfl)
theorem dX3_builder_78 : decode cX3_builder 78 = .ok (.iload_n 1, 1) := dk_27 (dk_at dksX3_builder_3 10 rfl rfl)
theorem dX3_builder_79 : decode cX3_builder 79 = .ok (.iaload, 1) := dk_46 (dk_at dksX3_builder_3 11 rfl rfl)
theorem dX3_builder_80 : decode cX3_builder 80 = .ok (.ireturn, 1) := dk_172 (dk_at dksX3_builder_3 12 rfl rfl)
abbrev cX3_ownNodes : ByteArray := prog_9_method_94_code
def yX3_ownNodes : MethodName := ⟨RX3, "ownNodes", "(I)I"⟩
def dkwX3_ownNodes_1 : List UInt8 := [42, 180, 0, 79, 27, 46, 160, 0, 7, 4, 167, 0, 4, 3, 96, 61, 132, 3, 1, 167, 255, 217, 28, 172]
abbrev dktX3_ownNodes_1 : List UInt8 := dkwX3_ownNodes_1 ++ []
def dkwX3_ownNodes_0 : List UInt8 := [3, 61, 3, 62, 29, 42, 180, 0, 243, 162, 0, 37, 28, 42, 180, 0, 29, 42, 180, 0, 61, 29, 46, 46]
abbrev dktX3_ownNodes_0 : List UInt8 := dkwX3_ownNodes_0 ++ dktX3_ownNodes_1
theorem dksX3_ownNodes_0 : cX3_ownNodes.data.toList.drop 0 = dktX3_ownNodes_0 := by decide +kernel
theorem dksX3_ownNodes_1 : cX3_ownNodes.data.toList.drop 24 = dktX3_ownNodes_1 := dk_seg dksX3_ownNodes_0 24 rfl rfl
theorem dX3_ownNodes_0 : decode cX3_ownNodes 0 = .ok (.iconst 0, 1) := dk_3 (dk_at dksX3_ownNodes_0 0 rfl rfl)
theorem dX3_ownNodes_1 : decode cX3_ownNodes 1 = .ok (.istore_n 2, 1) := dk_61 (dk_at dksX3_ownNodes_0 1 rfl rfl)
theorem dX3_ownNodes_2 : decode cX3_ownNodes 2 = .ok (.iconst 0, 1) := dk_3 (dk_at dksX3_ownNodes_0 2 rfl rfl)
theorem dX3_ownNodes_3 : decode cX3_ownNodes 3 = .ok (.istore_n 3, 1) := dk_62 (dk_at dksX3_ownNodes_0 3 rfl rfl)
theorem dX3_ownNodes_4 : decode cX3_ownNodes 4 = .ok (.iload_n 3, 1) := dk_29 (dk_at dksX3_ownNodes_0 4 rfl rfl)
theorem dX3_ownNodes_5 : decode cX3_ownNodes 5 = .ok (.aload_n 0, 1) := dk_42 (dk_at dksX3_ownNodes_0 5 rfl rfl)
theorem dX3_ownNodes_6 : decode cX3_ownNodes 6 = .ok (.getfield 243, 3) := dk_180 0 243 (dk_at dksX3_ownNodes_0 6 rfl rfl)
theorem dX3_ownNodes_9 : decode cX3_ownNodes 9 = .ok (.if_icmp .ge 37, 3) := dk_162 0 37 (dk_at dksX3_ownNodes_0 9 rfl rfl)
theorem dX3_ownNodes_12 : decode cX3_ownNodes 12 = .ok (.iload_n 2, 1) := dk_28 (dk_at dksX3_ownNodes_0 12 rfl rfl)
theorem dX3_ownNodes_13 : decode cX3_ownNodes 13 = .ok (.aload_n 0, 1) := dk_42 (dk_at dksX3_ownNodes_0 13 rfl rfl)
theorem dX3_ownNodes_14 : decode cX3_ownNodes 14 = .ok (.getfield 29, 3) := dk_180 0 29 (dk_at dksX3_ownNodes_0 14 rfl rfl)
theorem dX3_ownNodes_17 : decode cX3_ownNodes 17 = .ok (.aload_n 0, 1) := dk_42 (dk_at dksX3_ownNodes_0 17 rfl rfl)
theorem dX3_ownNodes_18 : decode cX3_ownNodes 18 = .ok (.getfield 61, 3) := dk_180 0 61 (dk_at dksX3_ownNodes_0 18 rfl rfl)
theorem dX3_ownNodes_21 : decode cX3_ownNodes 21 = .ok (.iload_n 3, 1) := dk_29 (dk_at dksX3_ownNodes_0 21 rfl rfl)
theorem dX3_ownNodes_22 : decode cX3_ownNodes 22 = .ok (.iaload, 1) := dk_46 (dk_at dksX3_ownNodes_0 22 rfl rfl)
theorem dX3_ownNodes_23 : decode cX3_ownNodes 23 = .ok (.iaload, 1) := dk_46 (dk_at dksX3_ownNodes_0 23 rfl rfl)
theorem dX3_ownNodes_24 : decode cX3_ownNodes 24 = .ok (.aload_n 0, 1) := dk_42 (dk_at dksX3_ownNodes_1 0 rfl rfl)
theorem dX3_ownNodes_25 : decode cX3_ownNodes 25 = .ok (.getfield 79, 3) := dk_180 0 79 (dk_at dksX3_ownNodes_1 1 rfl rfl)
theorem dX3_ownNodes_28 : decode cX3_ownNodes 28 = .ok (.iload_n 1, 1) := dk_27 (dk_at dksX3_ownNodes_1 4 rfl rfl)
theorem dX3_ownNodes_29 : decode cX3_ownNodes 29 = .ok (.iaload, 1) := dk_46 (dk_at dksX3_ownNodes_1 5 rfl rfl)
theorem dX3_ownNodes_30 : decode cX3_ownNodes 30 = .ok (.if_icmp .ne 7, 3) := dk_160 0 7 (dk_at dksX3_ownNodes_1 6 rfl rfl)
theorem dX3_ownNodes_33 : decode cX3_ownNodes 33 = .ok (.iconst 1, 1) := dk_4 (dk_at dksX3_ownNodes_1 9 rfl rfl)
theorem dX3_ownNodes_34 : decode cX3_ownNodes 34 = .ok (.goto 4, 3) := dk_167 0 4 (dk_at dksX3_ownNodes_1 10 rfl rfl)
theorem dX3_ownNodes_37 : decode cX3_ownNodes 37 = .ok (.iconst 0, 1) := dk_3 (dk_at dksX3_ownNodes_1 13 rfl rfl)
theorem dX3_ownNodes_38 : decode cX3_ownNodes 38 = .ok (.iadd, 1) := dk_96 (dk_at dksX3_ownNodes_1 14 rfl rfl)
theorem dX3_ownNodes_39 : decode cX3_ownNodes 39 = .ok (.istore_n 2, 1) := dk_61 (dk_at dksX3_ownNodes_1 15 rfl rfl)
theorem dX3_ownNodes_40 : decode cX3_ownNodes 40 = .ok (.iinc 3 1, 3) := dk_132 3 1 (dk_at dksX3_ownNodes_1 16 rfl rfl)
theorem dX3_ownNodes_43 : decode cX3_ownNodes 43 = .ok (.goto (-39), 3) := dk_167 255 217 (dk_at dksX3_ownNodes_1 19 rfl rfl)
theorem dX3_ownNodes_46 : decode cX3_ownNodes 46 = .ok (.iload_n 2, 1) := dk_28 (dk_at dksX3_ownNodes_1 22 rfl rfl)
theorem dX3_ownNodes_47 : decode cX3_ownNodes 47 = .ok (.ireturn, 1) := dk_172 (dk_at dksX3_ownNodes_1 23 rfl rfl)
abbrev cX3_draws : ByteArray := prog_9_method_97_code
def yX3_draws : MethodName := ⟨RX3, "draws", "(IIJ)I"⟩
def dkwX3_draws_7 : List UInt8 := [132, 7, 1, 167, 255, 141, 42, 180, 0, 190, 21, 6, 100, 172]
abbrev dktX3_draws_7 : List UInt8 := dkwX3_draws_7 ++ []
def dkwX3_draws_6 : List UInt8 := [167, 0, 22, 42, 27, 21, 9, 182, 1, 141, 153, 0, 12, 42, 27, 21, 9, 21, 10, 182, 1, 128]
abbrev dktX3_draws_6 : List UInt8 := dkwX3_draws_6 ++ dktX3_draws_7
def dkwX3_draws_5 : List UInt8 := [21, 9, 182, 1, 141, 153, 0, 21, 21, 8, 5, 160, 0, 15, 42, 27, 21, 9, 21, 10, 182, 1, 131]
abbrev dktX3_draws_5 : List UInt8 := dkwX3_draws_5 ++ dktX3_draws_6
def dkwX3_draws_4 : List UInt8 := [42, 42, 180, 0, 76, 27, 46, 21, 9, 42, 180, 0, 79, 27, 46, 182, 1, 83, 79, 167, 0, 50, 42, 27]
abbrev dktX3_draws_4 : List UInt8 := dkwX3_draws_4 ++ dktX3_draws_5
def dkwX3_draws_3 : List UInt8 := [54, 9, 42, 16, 19, 182, 1, 170, 16, 9, 100, 54, 10, 21, 8, 6, 160, 0, 30, 42, 180, 0, 76, 27]
abbrev dktX3_draws_3 : List UInt8 := dkwX3_draws_3 ++ dktX3_draws_4
def dkwX3_draws_2 : List UInt8 := [54, 6, 3, 54, 7, 21, 7, 28, 162, 0, 115, 42, 7, 182, 1, 170, 54, 8, 42, 16, 100, 182, 1, 170]
abbrev dktX3_draws_2 : List UInt8 := dkwX3_draws_2 ++ dktX3_draws_3
def dkwX3_draws_1 : List UInt8 := [159, 0, 10, 42, 21, 5, 182, 1, 36, 172, 42, 182, 1, 22, 42, 33, 181, 1, 160, 42, 180, 0, 190]
abbrev dktX3_draws_1 : List UInt8 := dkwX3_draws_1 ++ dktX3_draws_2
def dkwX3_draws_0 : List UInt8 := [42, 3, 181, 0, 116, 42, 27, 28, 133, 10, 20, 1, 168, 184, 0, 174, 182, 1, 137, 54, 5, 21, 5, 2]
abbrev dktX3_draws_0 : List UInt8 := dkwX3_draws_0 ++ dktX3_draws_1
theorem dksX3_draws_0 : cX3_draws.data.toList.drop 0 = dktX3_draws_0 := by decide +kernel
theorem dksX3_draws_1 : cX3_draws.data.toList.drop 24 = dktX3_draws_1 := dk_seg dksX3_draws_0 24 rfl rfl
theorem dksX3_draws_2 : cX3_draws.data.toList.drop 47 = dktX3_draws_2 := dk_seg dksX3_draws_1 23 rfl rfl
theorem dksX3_draws_3 : cX3_draws.data.toList.drop 71 = dktX3_draws_3 := dk_seg dksX3_draws_2 24 rfl rfl
theorem dksX3_draws_4 : cX3_draws.data.toList.drop 95 = dktX3_draws_4 := dk_seg dksX3_draws_3 24 rfl rfl
theorem dksX3_draws_5 : cX3_draws.data.toList.drop 119 = dktX3_draws_5 := dk_seg dksX3_draws_4 24 rfl rfl
theorem dksX3_draws_6 : cX3_draws.data.toList.drop 142 = dktX3_draws_6 := dk_seg dksX3_draws_5 23 rfl rfl
theorem dksX3_draws_7 : cX3_draws.data.toList.drop 164 = dktX3_draws_7 := dk_seg dksX3_draws_6 22 rfl rfl
theorem dX3_draws_0 : decode cX3_draws 0 = .ok (.aload_n 0, 1) := dk_42 (dk_at dksX3_draws_0 0 rfl rfl)
theorem dX3_draws_1 : decode cX3_draws 1 = .ok (.iconst 0, 1) := dk_3 (dk_at dksX3_draws_0 1 rfl rfl)
theorem dX3_draws_2 : decode cX3_draws 2 = .ok (.putfield 116, 3) := dk_181 0 116 (dk_at dksX3_draws_0 2 rfl rfl)
theorem dX3_draws_5 : decode cX3_draws 5 = .ok (.aload_n 0, 1) := dk_42 (dk_at dksX3_draws_0 5 rfl rfl)
theorem dX3_draws_6 : decode cX3_draws 6 = .ok (.iload_n 1, 1) := dk_27 (dk_at dksX3_draws_0 6 rfl rfl)
theorem dX3_draws_7 : decode cX3_draws 7 = .ok (.iload_n 2, 1) := dk_28 (dk_at dksX3_draws_0 7 rfl rfl)
theorem dX3_draws_8 : decode cX3_draws 8 = .ok (.i2l, 1) := dk_133 (dk_at dksX3_draws_0 8 rfl rfl)
theorem dX3_draws_9 : decode cX3_draws 9 = .ok (.lconst 1, 1) := dk_10 (dk_at dksX3_draws_0 9 rfl rfl)
theorem dX3_draws_10 : decode cX3_draws 10 = .ok (.ldc2_w 424, 3) := dk_20 1 168 (dk_at dksX3_draws_0 10 rfl rfl)
theorem dX3_draws_13 : decode cX3_draws 13 = .ok (.invokestatic 174, 3) := dk_184 0 174 (dk_at dksX3_draws_0 13 rfl rfl)
theorem dX3_draws_16 : decode cX3_draws 16 = .ok (.invokevirtual 393, 3) := dk_182 1 137 (dk_at dksX3_draws_0 16 rfl rfl)
theorem dX3_draws_19 : decode cX3_draws 19 = .ok (.istore 5, 2) := dk_54 5 (dk_at dksX3_draws_0 19 rfl rfl)
theorem dX3_draws_21 : decode cX3_draws 21 = .ok (.iload 5, 2) := dk_21 5 (dk_at dksX3_draws_0 21 rfl rfl)
theorem dX3_draws_23 : decode cX3_draws 23 = .ok (.iconst (-1), 1) := dk_2 (dk_at dksX3_draws_0 23 rfl rfl)
theorem dX3_draws_24 : decode cX3_draws 24 = .ok (.if_icmp .eq 10, 3) := dk_159 0 10 (dk_at dksX3_draws_1 0 rfl rfl)
theorem dX3_draws_27 : decode cX3_draws 27 = .ok (.aload_n 0, 1) := dk_42 (dk_at dksX3_draws_1 3 rfl rfl)
theorem dX3_draws_28 : decode cX3_draws 28 = .ok (.iload 5, 2) := dk_21 5 (dk_at dksX3_draws_1 4 rfl rfl)
theorem dX3_draws_30 : decode cX3_draws 30 = .ok (.invokevirtual 292, 3) := dk_182 1 36 (dk_at dksX3_draws_1 6 rfl rfl)
theorem dX3_draws_33 : decode cX3_draws 33 = .ok (.ireturn, 1) := dk_172 (dk_at dksX3_draws_1 9 rfl rfl)
theorem dX3_draws_34 : decode cX3_draws 34 = .ok (.aload_n 0, 1) := dk_42 (dk_at dksX3_draws_1 10 rfl rfl)
theorem dX3_draws_35 : decode cX3_draws 35 = .ok (.invokevirtual 278, 3) := dk_182 1 22 (dk_at dksX3_draws_1 11 rfl rfl)
theorem dX3_draws_38 : decode cX3_draws 38 = .ok (.aload_n 0, 1) := dk_42 (dk_at dksX3_draws_1 14 rfl rfl)
theorem dX3_draws_39 : decode cX3_draws 39 = .ok (.lload_n 3, 1) := dk_33 (dk_at dksX3_draws_1 15 rfl rfl)
theorem dX3_draws_40 : decode cX3_draws 40 = .ok (.putfield 416, 3) := dk_181 1 160 (dk_at dksX3_draws_1 16 rfl rfl)
theorem dX3_draws_43 : decode cX3_draws 43 = .ok (.aload_n 0, 1) := dk_42 (dk_at dksX3_draws_1 19 rfl rfl)
theorem dX3_draws_44 : decode cX3_draws 44 = .ok (.getfield 190, 3) := dk_180 0 190 (dk_at dksX3_draws_1 20 rfl rfl)
theorem dX3_draws_47 : decode cX3_draws 47 = .ok (.istore 6, 2) := dk_54 6 (dk_at dksX3_draws_2 0 rfl rfl)
theorem dX3_draws_49 : decode cX3_draws 49 = .ok (.iconst 0, 1) := dk_3 (dk_at dksX3_draws_2 2 rfl rfl)
theorem dX3_draws_50 : decode cX3_draws 50 = .ok (.istore 7, 2) := dk_54 7 (dk_at dksX3_draws_2 3 rfl rfl)
theorem dX3_draws_52 : decode cX3_draws 52 = .ok (.iload 7, 2) := dk_21 7 (dk_at dksX3_draws_2 5 rfl rfl)
theorem dX3_draws_54 : decode cX3_draws 54 = .ok (.iload_n 2, 1) := dk_28 (dk_at dksX3_draws_2 7 rfl rfl)
theorem dX3_draws_55 : decode cX3_draws 55 = .ok (.if_icmp .ge 115, 3) := dk_162 0 115 (dk_at dksX3_draws_2 8 rfl rfl)
theorem dX3_draws_58 : decode cX3_draws 58 = .ok (.aload_n 0, 1) := dk_42 (dk_at dksX3_draws_2 11 rfl rfl)
theorem dX3_draws_59 : decode cX3_draws 59 = .ok (.iconst 4, 1) := dk_7 (dk_at dksX3_draws_2 12 rfl rfl)
theorem dX3_draws_60 : decode cX3_draws 60 = .ok (.invokevirtual 426, 3) := dk_182 1 170 (dk_at dksX3_draws_2 13 rfl rfl)
theorem dX3_draws_63 : decode cX3_draws 63 = .ok (.istore 8, 2) := dk_54 8 (dk_at dksX3_draws_2 16 rfl rfl)
theorem dX3_draws_65 : decode cX3_draws 65 = .ok (.aload_n 0, 1) := dk_42 (dk_at dksX3_draws_2 18 rfl rfl)
theorem dX3_draws_66 : decode cX3_draws 66 = .ok (.bipush 100, 2) := dk_16 100 (dk_at dksX3_draws_2 19 rfl rfl)
theorem dX3_draws_68 : decode cX3_draws 68 = .ok (.invokevirtual 426, 3) := dk_182 1 170 (dk_at dksX3_draws_2 21 rfl rfl)
theorem dX3_draws_71 : decode cX3_draws 71 = .ok (.istore 9, 2) := dk_54 9 (dk_at dksX3_draws_3 0 rfl rfl)
theorem dX3_draws_73 : decode cX3_draws 73 = .ok (.aload_n 0, 1) := dk_42 (dk_at dksX3_draws_3 2 rfl rfl)
theorem dX3_draws_74 : decode cX3_draws 74 = .ok (.bipush 19, 2) := dk_16 19 (dk_at dksX3_draws_3 3 rfl rfl)
theorem dX3_draws_76 : decode cX3_draws 76 = .ok (.invokevirtual 426, 3) := dk_182 1 170 (dk_at dksX3_draws_3 5 rfl rfl)
theorem dX3_draws_79 : decode cX3_draws 79 = .ok (.bipush 9, 2) := dk_16 9 (dk_at dksX3_draws_3 8 rfl rfl)
theorem dX3_draws_81 : decode cX3_draws 81 = .ok (.isub, 1) := dk_100 (dk_at dksX3_draws_3 10 rfl rfl)
theorem dX3_draws_82 : decode cX3_draws 82 = .ok (.istore 10, 2) := dk_54 10 (dk_at dksX3_draws_3 11 rfl rfl)
theorem dX3_draws_84 : decode cX3_draws 84 = .ok (.iload 8, 2) := dk_21 8 (dk_at dksX3_draws_3 13 rfl rfl)
theorem dX3_draws_86 : decode cX3_draws 86 = .ok (.iconst 3, 1) := dk_6 (dk_at dksX3_draws_3 15 rfl rfl)
theorem dX3_draws_87 : decode cX3_draws 87 = .ok (.if_icmp .ne 30, 3) := dk_160 0 30 (dk_at dksX3_draws_3 16 rfl rfl)
theorem dX3_draws_90 : decode cX3_draws 90 = .ok (.aload_n 0, 1) := dk_42 (dk_at dksX3_draws_3 19 rfl rfl)
theorem dX3_draws_91 : decode cX3_draws 91 = .ok (.getfield 76, 3) := dk_180 0 76 (dk_at dksX3_draws_3 20 rfl rfl)
theorem dX3_draws_94 : decode cX3_draws 94 = .ok (.iload_n 1, 1) := dk_27 (dk_at dksX3_draws_3 23 rfl rfl)
theorem dX3_draws_95 : decode cX3_draws 95 = .ok (.aload_n 0, 1) := dk_42 (dk_at dksX3_draws_4 0 rfl rfl)
theorem dX3_draws_96 : decode cX3_draws 96 = .ok (.aload_n 0, 1) := dk_42 (dk_at dksX3_draws_4 1 rfl rfl)
theorem dX3_draws_97 : decode cX3_draws 97 = .ok (.getfield 76, 3) := dk_180 0 76 (dk_at dksX3_draws_4 2 rfl rfl)
theorem dX3_draws_100 : decode cX3_draws 100 = .ok (.iload_n 1, 1) := dk_27 (dk_at dksX3_draws_4 5 rfl rfl)
theorem dX3_draws_101 : decode cX3_draws 101 = .ok (.iaload, 1) := dk_46 (dk_at dksX3_draws_4 6 rfl rfl)
theorem dX3_draws_102 : decode cX3_draws 102 = .ok (.iload 9, 2) := dk_21 9 (dk_at dksX3_draws_4 7 rfl rfl)
theorem dX3_draws_104 : decode cX3_draws 104 = .ok (.aload_n 0, 1) := dk_42 (dk_at dksX3_draws_4 9 rfl rfl)
theorem dX3_draws_105 : decode cX3_draws 105 = .ok (.getfield 79, 3) := dk_180 0 79 (dk_at dksX3_draws_4 10 rfl rfl)
theorem dX3_draws_108 : decode cX3_draws 108 = .ok (.iload_n 1, 1) := dk_27 (dk_at dksX3_draws_4 13 rfl rfl)
theorem dX3_draws_109 : decode cX3_draws 109 = .ok (.iaload, 1) := dk_46 (dk_at dksX3_draws_4 14 rfl rfl)
theorem dX3_draws_110 : decode cX3_draws 110 = .ok (.invokevirtual 339, 3) := dk_182 1 83 (dk_at dksX3_draws_4 15 rfl rfl)
theorem dX3_draws_113 : decode cX3_draws 113 = .ok (.iastore, 1) := dk_79 (dk_at dksX3_draws_4 18 rfl rfl)
theorem dX3_draws_114 : decode cX3_draws 114 = .ok (.goto 50, 3) := dk_167 0 50 (dk_at dksX3_draws_4 19 rfl rfl)
theorem dX3_draws_117 : decode cX3_draws 117 = .ok (.aload_n 0, 1) := dk_42 (dk_at dksX3_draws_4 22 rfl rfl)
theorem dX3_draws_118 : decode cX3_draws 118 = .ok (.iload_n 1, 1) := dk_27 (dk_at dksX3_draws_4 23 rfl rfl)
theorem dX3_draws_119 : decode cX3_draws 119 = .ok (.iload 9, 2) := dk_21 9 (dk_at dksX3_draws_5 0 rfl rfl)
theorem dX3_draws_121 : decode cX3_draws 121 = .ok (.invokevirtual 397, 3) := dk_182 1 141 (dk_at dksX3_draws_5 2 rfl rfl)
theorem dX3_draws_124 : decode cX3_draws 124 = .ok (.ifCond .eq 21, 3) := dk_153 0 21 (dk_at dksX3_draws_5 5 rfl rfl)
theorem dX3_draws_127 : decode cX3_draws 127 = .ok (.iload 8, 2) := dk_21 8 (dk_at dksX3_draws_5 8 rfl rfl)
theorem dX3_draws_129 : decode cX3_draws 129 = .ok (.iconst 2, 1) := dk_5 (dk_at dksX3_draws_5 10 rfl rfl)
theorem dX3_draws_130 : decode cX3_draws 130 = .ok (.if_icmp .ne 15, 3) := dk_160 0 15 (dk_at dksX3_draws_5 11 rfl rfl)
theorem dX3_draws_133 : decode cX3_draws 133 = .ok (.aload_n 0, 1) := dk_42 (dk_at dksX3_draws_5 14 rfl rfl)
theorem dX3_draws_134 : decode cX3_draws 134 = .ok (.iload_n 1, 1) := dk_27 (dk_at dksX3_draws_5 15 rfl rfl)
theorem dX3_draws_135 : decode cX3_draws 135 = .ok (.iload 9, 2) := dk_21 9 (dk_at dksX3_draws_5 16 rfl rfl)
theorem dX3_draws_137 : decode cX3_draws 137 = .ok (.iload 10, 2) := dk_21 10 (dk_at dksX3_draws_5 18 rfl rfl)
theorem dX3_draws_139 : decode cX3_draws 139 = .ok (.invokevirtual 387, 3) := dk_182 1 131 (dk_at dksX3_draws_5 20 rfl rfl)
theorem dX3_draws_142 : decode cX3_draws 142 = .ok (.goto 22, 3) := dk_167 0 22 (dk_at dksX3_draws_6 0 rfl rfl)
theorem dX3_draws_145 : decode cX3_draws 145 = .ok (.aload_n 0, 1) := dk_42 (dk_at dksX3_draws_6 3 rfl rfl)
theorem dX3_draws_146 : decode cX3_draws 146 = .ok (.iload_n 1, 1) := dk_27 (dk_at dksX3_draws_6 4 rfl rfl)
theorem dX3_draws_147 : decode cX3_draws 147 = .ok (.iload 9, 2) := dk_21 9 (dk_at dksX3_draws_6 5 rfl rfl)
theorem dX3_draws_149 : decode cX3_draws 149 = .ok (.invokevirtual 397, 3) := dk_182 1 141 (dk_at dksX3_draws_6 7 rfl rfl)
theorem dX3_draws_152 : decode cX3_draws 152 = .ok (.ifCond .eq 12, 3) := dk_153 0 12 (dk_at dksX3_draws_6 10 rfl rfl)
theorem dX3_draws_155 : decode cX3_draws 155 = .ok (.aload_n 0, 1) := dk_42 (dk_at dksX3_draws_6 13 rfl rfl)
theorem dX3_draws_156 : decode cX3_draws 156 = .ok (.iload_n 1, 1) := dk_27 (dk_at dksX3_draws_6 14 rfl rfl)
theorem dX3_draws_157 : decode cX3_draws 157 = .ok (.iload 9, 2) := dk_21 9 (dk_at dksX3_draws_6 15 rfl rfl)
theorem dX3_draws_159 : decode cX3_draws 159 = .ok (.iload 10, 2) := dk_21 10 (dk_at dksX3_draws_6 17 rfl rfl)
theorem dX3_draws_161 : decode cX3_draws 161 = .ok (.invokevirtual 384, 3) := dk_182 1 128 (dk_at dksX3_draws_6 19 rfl rfl)
theorem dX3_draws_164 : decode cX3_draws 164 = .ok (.iinc 7 1, 3) := dk_132 7 1 (dk_at dksX3_draws_7 0 rfl rfl)
theorem dX3_draws_167 : decode cX3_draws 167 = .ok (.goto (-115), 3) := dk_167 255 141 (dk_at dksX3_draws_7 3 rfl rfl)
theorem dX3_draws_170 : decode cX3_draws 170 = .ok (.aload_n 0, 1) := dk_42 (dk_at dksX3_draws_7 6 rfl rfl)
theorem dX3_draws_171 : decode cX3_draws 171 = .ok (.getfield 190, 3) := dk_180 0 190 (dk_at dksX3_draws_7 7 rfl rfl)
theorem dX3_draws_174 : decode cX3_draws 174 = .ok (.iload 6, 2) := dk_21 6 (dk_at dksX3_draws_7 10 rfl rfl)
theorem dX3_draws_176 : decode cX3_draws 176 = .ok (.isub, 1) := dk_100 (dk_at dksX3_draws_7 12 rfl rfl)
theorem dX3_draws_177 : decode cX3_draws 177 = .ok (.ireturn, 1) := dk_172 (dk_at dksX3_draws_7 13 rfl rfl)
abbrev cX3_draw : ByteArray := prog_9_method_96_code
def yX3_draw : MethodName := ⟨RX3, "draw", "(I)I"⟩
def dkwX3_draw_1 : List UInt8 := [133, 113, 136, 172]
abbrev dktX3_draw_1 : List UInt8 := dkwX3_draw_1 ++ []
def dkwX3_draw_0 : List UInt8 := [42, 42, 180, 1, 160, 20, 1, 164, 105, 20, 1, 166, 97, 181, 1, 160, 42, 180, 1, 160, 16, 33, 125, 27]
abbrev dktX3_draw_0 : List UInt8 := dkwX3_draw_0 ++ dktX3_draw_1
theorem dksX3_draw_0 : cX3_draw.data.toList.drop 0 = dktX3_draw_0 := by decide +kernel
theorem dksX3_draw_1 : cX3_draw.data.toList.drop 24 = dktX3_draw_1 := dk_seg dksX3_draw_0 24 rfl rfl
theorem dX3_draw_0 : decode cX3_draw 0 = .ok (.aload_n 0, 1) := dk_42 (dk_at dksX3_draw_0 0 rfl rfl)
theorem dX3_draw_1 : decode cX3_draw 1 = .ok (.aload_n 0, 1) := dk_42 (dk_at dksX3_draw_0 1 rfl rfl)
theorem dX3_draw_2 : decode cX3_draw 2 = .ok (.getfield 416, 3) := dk_180 1 160 (dk_at dksX3_draw_0 2 rfl rfl)
theorem dX3_draw_5 : decode cX3_draw 5 = .ok (.ldc2_w 420, 3) := dk_20 1 164 (dk_at dksX3_draw_0 5 rfl rfl)
theorem dX3_draw_8 : decode cX3_draw 8 = .ok (.lmul, 1) := dk_105 (dk_at dksX3_draw_0 8 rfl rfl)
theorem dX3_draw_9 : decode cX3_draw 9 = .ok (.ldc2_w 422, 3) := dk_20 1 166 (dk_at dksX3_draw_0 9 rfl rfl)
theorem dX3_draw_12 : decode cX3_draw 12 = .ok (.ladd, 1) := dk_97 (dk_at dksX3_draw_0 12 rfl rfl)
theorem dX3_draw_13 : decode cX3_draw 13 = .ok (.putfield 416, 3) := dk_181 1 160 (dk_at dksX3_draw_0 13 rfl rfl)
theorem dX3_draw_16 : decode cX3_draw 16 = .ok (.aload_n 0, 1) := dk_42 (dk_at dksX3_draw_0 16 rfl rfl)
theorem dX3_draw_17 : decode cX3_draw 17 = .ok (.getfield 416, 3) := dk_180 1 160 (dk_at dksX3_draw_0 17 rfl rfl)
theorem dX3_draw_20 : decode cX3_draw 20 = .ok (.bipush 33, 2) := dk_16 33 (dk_at dksX3_draw_0 20 rfl rfl)
theorem dX3_draw_22 : decode cX3_draw 22 = .ok (.lushr, 1) := dk_125 (dk_at dksX3_draw_0 22 rfl rfl)
theorem dX3_draw_23 : decode cX3_draw 23 = .ok (.iload_n 1, 1) := dk_27 (dk_at dksX3_draw_0 23 rfl rfl)
theorem dX3_draw_24 : decode cX3_draw 24 = .ok (.i2l, 1) := dk_133 (dk_at dksX3_draw_1 0 rfl rfl)
theorem dX3_draw_25 : decode cX3_draw 25 = .ok (.lrem, 1) := dk_113 (dk_at dksX3_draw_1 1 rfl rfl)
theorem dX3_draw_26 : decode cX3_draw 26 = .ok (.l2i, 1) := dk_136 (dk_at dksX3_draw_1 2 rfl rfl)
theorem dX3_draw_27 : decode cX3_draw 27 = .ok (.ireturn, 1) := dk_172 (dk_at dksX3_draw_1 3 rfl rfl)
abbrev cX3_step : ByteArray := prog_9_method_98_code
def yX3_step : MethodName := ⟨RX3, "step", "(III)I"⟩
def dkwX3_step_2 : List UInt8 := [153, 0, 21, 42, 180, 0, 17, 7, 16, 16, 27, 104, 28, 96, 104, 29, 96, 46, 167, 0, 5, 18, 170, 172]
abbrev dktX3_step_2 : List UInt8 := dkwX3_step_2 ++ []
def dkwX3_step_1 : List UInt8 := [42, 180, 0, 20, 27, 46, 4, 100, 133, 184, 0, 174, 153, 0, 33, 29, 133, 9, 20, 1, 49, 184, 0, 174]
abbrev dktX3_step_1 : List UInt8 := dkwX3_step_1 ++ dktX3_step_2
def dkwX3_step_0 : List UInt8 := [42, 3, 181, 0, 116, 27, 133, 9, 42, 180, 1, 30, 4, 100, 133, 184, 0, 174, 153, 0, 51, 28, 133, 9]
abbrev dktX3_step_0 : List UInt8 := dkwX3_step_0 ++ dktX3_step_1
theorem dksX3_step_0 : cX3_step.data.toList.drop 0 = dktX3_step_0 := by decide +kernel
theorem dksX3_step_1 : cX3_step.data.toList.drop 24 = dktX3_step_1 := dk_seg dksX3_step_0 24 rfl rfl
theorem dksX3_step_2 : cX3_step.data.toList.drop 48 = dktX3_step_2 := dk_seg dksX3_step_1 24 rfl rfl
theorem dX3_step_0 : decode cX3_step 0 = .ok (.aload_n 0, 1) := dk_42 (dk_at dksX3_step_0 0 rfl rfl)
theorem dX3_step_1 : decode cX3_step 1 = .ok (.iconst 0, 1) := dk_3 (dk_at dksX3_step_0 1 rfl rfl)
theorem dX3_step_2 : decode cX3_step 2 = .ok (.putfield 116, 3) := dk_181 0 116 (dk_at dksX3_step_0 2 rfl rfl)
theorem dX3_step_5 : decode cX3_step 5 = .ok (.iload_n 1, 1) := dk_27 (dk_at dksX3_step_0 5 rfl rfl)
theorem dX3_step_6 : decode cX3_step 6 = .ok (.i2l, 1) := dk_133 (dk_at dksX3_step_0 6 rfl rfl)
theorem dX3_step_7 : decode cX3_step 7 = .ok (.lconst 0, 1) := dk_9 (dk_at dksX3_step_0 7 rfl rfl)
theorem dX3_step_8 : decode cX3_step 8 = .ok (.aload_n 0, 1) := dk_42 (dk_at dksX3_step_0 8 rfl rfl)
theorem dX3_step_9 : decode cX3_step 9 = .ok (.getfield 286, 3) := dk_180 1 30 (dk_at dksX3_step_0 9 rfl rfl)
theorem dX3_step_12 : decode cX3_step 12 = .ok (.iconst 1, 1) := dk_4 (dk_at dksX3_step_0 12 rfl rfl)
theorem dX3_step_13 : decode cX3_step 13 = .ok (.isub, 1) := dk_100 (dk_at dksX3_step_0 13 rfl rfl)
theorem dX3_step_14 : decode cX3_step 14 = .ok (.i2l, 1) := dk_133 (dk_at dksX3_step_0 14 rfl rfl)
theorem dX3_step_15 : decode cX3_step 15 = .ok (.invokestatic 174, 3) := dk_184 0 174 (dk_at dksX3_step_0 15 rfl rfl)
theorem dX3_step_18 : decode cX3_step 18 = .ok (.ifCond .eq 51, 3) := dk_153 0 51 (dk_at dksX3_step_0 18 rfl rfl)
theorem dX3_step_21 : decode cX3_step 21 = .ok (.iload_n 2, 1) := dk_28 (dk_at dksX3_step_0 21 rfl rfl)
theorem dX3_step_22 : decode cX3_step 22 = .ok (.i2l, 1) := dk_133 (dk_at dksX3_step_0 22 rfl rfl)
theorem dX3_step_23 : decode cX3_step 23 = .ok (.lconst 0, 1) := dk_9 (dk_at dksX3_step_0 23 rfl rfl)
theorem dX3_step_24 : decode cX3_step 24 = .ok (.aload_n 0, 1) := dk_42 (dk_at dksX3_step_1 0 rfl rfl)
theorem dX3_step_25 : decode cX3_step 25 = .ok (.getfield 20, 3) := dk_180 0 20 (dk_at dksX3_step_1 1 rfl rfl)
theorem dX3_step_28 : decode cX3_step 28 = .ok (.iload_n 1, 1) := dk_27 (dk_at dksX3_step_1 4 rfl rfl)
theorem dX3_step_29 : decode cX3_step 29 = .ok (.iaload, 1) := dk_46 (dk_at dksX3_step_1 5 rfl rfl)
theorem dX3_step_30 : decode cX3_step 30 = .ok (.iconst 1, 1) := dk_4 (dk_at dksX3_step_1 6 rfl rfl)
theorem dX3_step_31 : decode cX3_step 31 = .ok (.isub, 1) := dk_100 (dk_at dksX3_step_1 7 rfl rfl)
theorem dX3_step_32 : decode cX3_step 32 = .ok (.i2l, 1) := dk_133 (dk_at dksX3_step_1 8 rfl rfl)
theorem dX3_step_33 : decode cX3_step 33 = .ok (.invokestatic 174, 3) := dk_184 0 174 (dk_at dksX3_step_1 9 rfl rfl)
theorem dX3_step_36 : decode cX3_step 36 = .ok (.ifCond .eq 33, 3) := dk_153 0 33 (dk_at dksX3_step_1 12 rfl rfl)
theorem dX3_step_39 : decode cX3_step 39 = .ok (.iload_n 3, 1) := dk_29 (dk_at dksX3_step_1 15 rfl rfl)
theorem dX3_step_40 : decode cX3_step 40 = .ok (.i2l, 1) := dk_133 (dk_at dksX3_step_1 16 rfl rfl)
theorem dX3_step_41 : decode cX3_step 41 = .ok (.lconst 0, 1) := dk_9 (dk_at dksX3_step_1 17 rfl rfl)
theorem dX3_step_42 : decode cX3_step 42 = .ok (.ldc2_w 305, 3) := dk_20 1 49 (dk_at dksX3_step_1 18 rfl rfl)
theorem dX3_step_45 : decode cX3_step 45 = .ok (.invokestatic 174, 3) := dk_184 0 174 (dk_at dksX3_step_1 21 rfl rfl)
theorem dX3_step_48 : decode cX3_step 48 = .ok (.ifCond .eq 21, 3) := dk_153 0 21 (dk_at dksX3_step_2 0 rfl rfl)
theorem dX3_step_51 : decode cX3_step 51 = .ok (.aload_n 0, 1) := dk_42 (dk_at dksX3_step_2 3 rfl rfl)
theorem dX3_step_52 : decode cX3_step 52 = .ok (.getfield 17, 3) := dk_180 0 17 (dk_at dksX3_step_2 4 rfl rfl)
theorem dX3_step_55 : decode cX3_step 55 = .ok (.iconst 4, 1) := dk_7 (dk_at dksX3_step_2 7 rfl rfl)
theorem dX3_step_56 : decode cX3_step 56 = .ok (.bipush 16, 2) := dk_16 16 (dk_at dksX3_step_2 8 rfl rfl)
theorem dX3_step_58 : decode cX3_step 58 = .ok (.iload_n 1, 1) := dk_27 (dk_at dksX3_step_2 10 rfl rfl)
theorem dX3_step_59 : decode cX3_step 59 = .ok (.imul, 1) := dk_104 (dk_at dksX3_step_2 11 rfl rfl)
theorem dX3_step_60 : decode cX3_step 60 = .ok (.iload_n 2, 1) := dk_28 (dk_at dksX3_step_2 12 rfl rfl)
theorem dX3_step_61 : decode cX3_step 61 = .ok (.iadd, 1) := dk_96 (dk_at dksX3_step_2 13 rfl rfl)
theorem dX3_step_62 : decode cX3_step 62 = .ok (.imul, 1) := dk_104 (dk_at dksX3_step_2 14 rfl rfl)
theorem dX3_step_63 : decode cX3_step 63 = .ok (.iload_n 3, 1) := dk_29 (dk_at dksX3_step_2 15 rfl rfl)
theorem dX3_step_64 : decode cX3_step 64 = .ok (.iadd, 1) := dk_96 (dk_at dksX3_step_2 16 rfl rfl)
theorem dX3_step_65 : decode cX3_step 65 = .ok (.iaload, 1) := dk_46 (dk_at dksX3_step_2 17 rfl rfl)
theorem dX3_step_66 : decode cX3_step 66 = .ok (.goto 5, 3) := dk_167 0 5 (dk_at dksX3_step_2 18 rfl rfl)
theorem dX3_step_69 : decode cX3_step 69 = .ok (.ldc 170, 2) := dk_18 170 (dk_at dksX3_step_2 21 rfl rfl)
theorem dX3_step_71 : decode cX3_step 71 = .ok (.ireturn, 1) := dk_172 (dk_at dksX3_step_2 23 rfl rfl)
abbrev cX3_run : ByteArray := prog_9_method_100_code
def yX3_run : MethodName := ⟨RX3, "run", "(II)I"⟩
def dkwX3_run_3 : List UInt8 := [182, 1, 173, 153, 0, 9, 132, 4, 1, 167, 255, 225, 21, 4, 172]
abbrev dktX3_run_3 : List UInt8 := dkwX3_run_3 ++ []
def dkwX3_run_2 : List UInt8 := [54, 4, 21, 4, 42, 180, 0, 20, 27, 46, 162, 0, 26, 42, 28, 7, 16, 16, 27, 104, 21, 4, 96, 104]
abbrev dktX3_run_2 : List UInt8 := dkwX3_run_2 ++ dktX3_run_3
def dkwX3_run_1 : List UInt8 := [182, 1, 137, 167, 0, 4, 3, 62, 29, 2, 159, 0, 9, 42, 29, 182, 1, 36, 172, 42, 182, 1, 22, 3]
abbrev dktX3_run_1 : List UInt8 := dkwX3_run_1 ++ dktX3_run_2
def dkwX3_run_0 : List UInt8 := [42, 3, 181, 0, 116, 27, 133, 9, 42, 180, 1, 30, 4, 100, 133, 184, 0, 174, 153, 0, 12, 42, 28, 4]
abbrev dktX3_run_0 : List UInt8 := dkwX3_run_0 ++ dktX3_run_1
theorem dksX3_run_0 : cX3_run.data.toList.drop 0 = dktX3_run_0 := by decide +kernel
theorem dksX3_run_1 : cX3_run.data.toList.drop 24 = dktX3_run_1 := dk_seg dksX3_run_0 24 rfl rfl
theorem dksX3_run_2 : cX3_run.data.toList.drop 48 = dktX3_run_2 := dk_seg dksX3_run_1 24 rfl rfl
theorem dksX3_run_3 : cX3_run.data.toList.drop 72 = dktX3_run_3 := dk_seg dksX3_run_2 24 rfl rfl
theorem dX3_run_0 : decode cX3_run 0 = .ok (.aload_n 0, 1) := dk_42 (dk_at dksX3_run_0 0 rfl rfl)
theorem dX3_run_1 : decode cX3_run 1 = .ok (.iconst 0, 1) := dk_3 (dk_at dksX3_run_0 1 rfl rfl)
theorem dX3_run_2 : decode cX3_run 2 = .ok (.putfield 116, 3) := dk_181 0 116 (dk_at dksX3_run_0 2 rfl rfl)
theorem dX3_run_5 : decode cX3_run 5 = .ok (.iload_n 1, 1) := dk_27 (dk_at dksX3_run_0 5 rfl rfl)
theorem dX3_run_6 : decode cX3_run 6 = .ok (.i2l, 1) := dk_133 (dk_at dksX3_run_0 6 rfl rfl)
theorem dX3_run_7 : decode cX3_run 7 = .ok (.lconst 0, 1) := dk_9 (dk_at dksX3_run_0 7 rfl rfl)
theorem dX3_run_8 : decode cX3_run 8 = .ok (.aload_n 0, 1) := dk_42 (dk_at dksX3_run_0 8 rfl rfl)
theorem dX3_run_9 : decode cX3_run 9 = .ok (.getfield 286, 3) := dk_180 1 30 (dk_at dksX3_run_0 9 rfl rfl)
theorem dX3_run_12 : decode cX3_run 12 = .ok (.iconst 1, 1) := dk_4 (dk_at dksX3_run_0 12 rfl rfl)
theorem dX3_run_13 : decode cX3_run 13 = .ok (.isub, 1) := dk_100 (dk_at dksX3_run_0 13 rfl rfl)
theorem dX3_run_14 : decode cX3_run 14 = .ok (.i2l, 1) := dk_133 (dk_at dksX3_run_0 14 rfl rfl)
theorem dX3_run_15 : decode cX3_run 15 = .ok (.invokestatic 174, 3) := dk_184 0 174 (dk_at dksX3_run_0 15 rfl rfl)
theorem dX3_run_18 : decode cX3_run 18 = .ok (.ifCond .eq 12, 3) := dk_153 0 12 (dk_at dksX3_run_0 18 rfl rfl)
theorem dX3_run_21 : decode cX3_run 21 = .ok (.aload_n 0, 1) := dk_42 (dk_at dksX3_run_0 21 rfl rfl)
theorem dX3_run_22 : decode cX3_run 22 = .ok (.iload_n 2, 1) := dk_28 (dk_at dksX3_run_0 22 rfl rfl)
theorem dX3_run_23 : decode cX3_run 23 = .ok (.iconst 1, 1) := dk_4 (dk_at dksX3_run_0 23 rfl rfl)
theorem dX3_run_24 : decode cX3_run 24 = .ok (.invokevirtual 393, 3) := dk_182 1 137 (dk_at dksX3_run_1 0 rfl rfl)
theorem dX3_run_27 : decode cX3_run 27 = .ok (.goto 4, 3) := dk_167 0 4 (dk_at dksX3_run_1 3 rfl rfl)
theorem dX3_run_30 : decode cX3_run 30 = .ok (.iconst 0, 1) := dk_3 (dk_at dksX3_run_1 6 rfl rfl)
theorem dX3_run_31 : decode cX3_run 31 = .ok (.istore_n 3, 1) := dk_62 (dk_at dksX3_run_1 7 rfl rfl)
theorem dX3_run_32 : decode cX3_run 32 = .ok (.iload_n 3, 1) := dk_29 (dk_at dksX3_run_1 8 rfl rfl)
theorem dX3_run_33 : decode cX3_run 33 = .ok (.iconst (-1), 1) := dk_2 (dk_at dksX3_run_1 9 rfl rfl)
theorem dX3_run_34 : decode cX3_run 34 = .ok (.if_icmp .eq 9, 3) := dk_159 0 9 (dk_at dksX3_run_1 10 rfl rfl)
theorem dX3_run_37 : decode cX3_run 37 = .ok (.aload_n 0, 1) := dk_42 (dk_at dksX3_run_1 13 rfl rfl)
theorem dX3_run_38 : decode cX3_run 38 = .ok (.iload_n 3, 1) := dk_29 (dk_at dksX3_run_1 14 rfl rfl)
theorem dX3_run_39 : decode cX3_run 39 = .ok (.invokevirtual 292, 3) := dk_182 1 36 (dk_at dksX3_run_1 15 rfl rfl)
theorem dX3_run_42 : decode cX3_run 42 = .ok (.ireturn, 1) := dk_172 (dk_at dksX3_run_1 18 rfl rfl)
theorem dX3_run_43 : decode cX3_run 43 = .ok (.aload_n 0, 1) := dk_42 (dk_at dksX3_run_1 19 rfl rfl)
theorem dX3_run_44 : decode cX3_run 44 = .ok (.invokevirtual 278, 3) := dk_182 1 22 (dk_at dksX3_run_1 20 rfl rfl)
theorem dX3_run_47 : decode cX3_run 47 = .ok (.iconst 0, 1) := dk_3 (dk_at dksX3_run_1 23 rfl rfl)
theorem dX3_run_48 : decode cX3_run 48 = .ok (.istore 4, 2) := dk_54 4 (dk_at dksX3_run_2 0 rfl rfl)
theorem dX3_run_50 : decode cX3_run 50 = .ok (.iload 4, 2) := dk_21 4 (dk_at dksX3_run_2 2 rfl rfl)
theorem dX3_run_52 : decode cX3_run 52 = .ok (.aload_n 0, 1) := dk_42 (dk_at dksX3_run_2 4 rfl rfl)
theorem dX3_run_53 : decode cX3_run 53 = .ok (.getfield 20, 3) := dk_180 0 20 (dk_at dksX3_run_2 5 rfl rfl)
theorem dX3_run_56 : decode cX3_run 56 = .ok (.iload_n 1, 1) := dk_27 (dk_at dksX3_run_2 8 rfl rfl)
theorem dX3_run_57 : decode cX3_run 57 = .ok (.iaload, 1) := dk_46 (dk_at dksX3_run_2 9 rfl rfl)
theorem dX3_run_58 : decode cX3_run 58 = .ok (.if_icmp .ge 26, 3) := dk_162 0 26 (dk_at dksX3_run_2 10 rfl rfl)
theorem dX3_run_61 : decode cX3_run 61 = .ok (.aload_n 0, 1) := dk_42 (dk_at dksX3_run_2 13 rfl rfl)
theorem dX3_run_62 : decode cX3_run 62 = .ok (.iload_n 2, 1) := dk_28 (dk_at dksX3_run_2 14 rfl rfl)
theorem dX3_run_63 : decode cX3_run 63 = .ok (.iconst 4, 1) := dk_7 (dk_at dksX3_run_2 15 rfl rfl)
theorem dX3_run_64 : decode cX3_run 64 = .ok (.bipush 16, 2) := dk_16 16 (dk_at dksX3_run_2 16 rfl rfl)
theorem dX3_run_66 : decode cX3_run 66 = .ok (.iload_n 1, 1) := dk_27 (dk_at dksX3_run_2 18 rfl rfl)
theorem dX3_run_67 : decode cX3_run 67 = .ok (.imul, 1) := dk_104 (dk_at dksX3_run_2 19 rfl rfl)
theorem dX3_run_68 : decode cX3_run 68 = .ok (.iload 4, 2) := dk_21 4 (dk_at dksX3_run_2 20 rfl rfl)
theorem dX3_run_70 : decode cX3_run 70 = .ok (.iadd, 1) := dk_96 (dk_at dksX3_run_2 22 rfl rfl)
theorem dX3_run_71 : decode cX3_run 71 = .ok (.imul, 1) := dk_104 (dk_at dksX3_run_2 23 rfl rfl)
theorem dX3_run_72 : decode cX3_run 72 = .ok (.invokevirtual 429, 3) := dk_182 1 173 (dk_at dksX3_run_3 0 rfl rfl)
theorem dX3_run_75 : decode cX3_run 75 = .ok (.ifCond .eq 9, 3) := dk_153 0 9 (dk_at dksX3_run_3 3 rfl rfl)
theorem dX3_run_78 : decode cX3_run 78 = .ok (.iinc 4 1, 3) := dk_132 4 1 (dk_at dksX3_run_3 6 rfl rfl)
theorem dX3_run_81 : decode cX3_run 81 = .ok (.goto (-31), 3) := dk_167 255 225 (dk_at dksX3_run_3 9 rfl rfl)
theorem dX3_run_84 : decode cX3_run 84 = .ok (.iload 4, 2) := dk_21 4 (dk_at dksX3_run_3 12 rfl rfl)
theorem dX3_run_86 : decode cX3_run 86 = .ok (.ireturn, 1) := dk_172 (dk_at dksX3_run_3 14 rfl rfl)
abbrev cX3_goesStep : ByteArray := prog_9_method_99_code
def yX3_goesStep : MethodName := ⟨RX3, "goesStep", "(II)Z"⟩
def dkwX3_goesStep_8 : List UInt8 := [3, 172, 42, 27, 182, 1, 151, 54, 5, 4, 172]
abbrev dktX3_goesStep_8 : List UInt8 := dkwX3_goesStep_8 ++ []
def dkwX3_goesStep_7 : List UInt8 := [27, 29, 21, 4, 42, 180, 0, 17, 28, 6, 96, 46, 182, 1, 148, 4, 172, 42, 182, 1, 33, 154, 0, 5]
abbrev dktX3_goesStep_7 : List UInt8 := dkwX3_goesStep_7 ++ dktX3_goesStep_8
def dkwX3_goesStep_6 : List UInt8 := [42, 42, 180, 0, 76, 27, 46, 29, 21, 4, 4, 42, 180, 0, 79, 27, 46, 182, 1, 121, 79, 4, 172, 42]
abbrev dktX3_goesStep_6 : List UInt8 := dkwX3_goesStep_6 ++ dktX3_goesStep_7
def dkwX3_goesStep_5 : List UInt8 := [42, 180, 0, 76, 27, 46, 29, 42, 180, 0, 79, 27, 46, 182, 1, 83, 79, 4, 172, 42, 180, 0, 76, 27]
abbrev dktX3_goesStep_5 : List UInt8 := dkwX3_goesStep_5 ++ dktX3_goesStep_6
def dkwX3_goesStep_4 : List UInt8 := [21, 4, 182, 1, 128, 167, 0, 11, 42, 27, 29, 21, 4, 182, 1, 131, 4, 172, 42, 180, 0, 76, 27, 42]
abbrev dktX3_goesStep_4 : List UInt8 := dkwX3_goesStep_4 ++ dktX3_goesStep_5
def dkwX3_goesStep_3 : List UInt8 := [42, 27, 29, 182, 1, 141, 154, 0, 5, 3, 172, 42, 180, 0, 17, 28, 46, 154, 0, 14, 42, 27, 29]
abbrev dktX3_goesStep_3 : List UInt8 := dkwX3_goesStep_3 ++ dktX3_goesStep_4
def dkwX3_goesStep_2 : List UInt8 := [170, 0, 0, 0, 0, 0, 147, 0, 0, 0, 0, 0, 0, 0, 4, 0, 0, 0, 35, 0, 0, 0, 76, 0, 0, 0, 35, 0, 0, 0, 101, 0, 0, 0, 129]
abbrev dktX3_goesStep_2 : List UInt8 := dkwX3_goesStep_2 ++ dktX3_goesStep_3
def dkwX3_goesStep_1 : List UInt8 := [46]
abbrev dktX3_goesStep_1 : List UInt8 := dkwX3_goesStep_1 ++ dktX3_goesStep_2
def dkwX3_goesStep_0 : List UInt8 := [42, 180, 0, 17, 28, 4, 96, 46, 62, 42, 180, 0, 17, 28, 5, 96, 46, 54, 4, 42, 180, 0, 17, 28]
abbrev dktX3_goesStep_0 : List UInt8 := dkwX3_goesStep_0 ++ dktX3_goesStep_1
theorem dksX3_goesStep_0 : cX3_goesStep.data.toList.drop 0 = dktX3_goesStep_0 := by decide +kernel
theorem dksX3_goesStep_1 : cX3_goesStep.data.toList.drop 24 = dktX3_goesStep_1 := dk_seg dksX3_goesStep_0 24 rfl rfl
theorem dksX3_goesStep_2 : cX3_goesStep.data.toList.drop 25 = dktX3_goesStep_2 := dk_seg dksX3_goesStep_1 1 rfl rfl
theorem dksX3_goesStep_3 : cX3_goesStep.data.toList.drop 60 = dktX3_goesStep_3 := dk_seg dksX3_goesStep_2 35 rfl rfl
theorem dksX3_goesStep_4 : cX3_goesStep.data.toList.drop 83 = dktX3_goesStep_4 := dk_seg dksX3_goesStep_3 23 rfl rfl
theorem dksX3_goesStep_5 : cX3_goesStep.data.toList.drop 107 = dktX3_goesStep_5 := dk_seg dksX3_goesStep_4 24 rfl rfl
theorem dksX3_goesStep_6 : cX3_goesStep.data.toList.drop 131 = dktX3_goesStep_6 := dk_seg dksX3_goesStep_5 24 rfl rfl
theorem dksX3_goesStep_7 : cX3_goesStep.data.toList.drop 155 = dktX3_goesStep_7 := dk_seg dksX3_goesStep_6 24 rfl rfl
theorem dksX3_goesStep_8 : cX3_goesStep.data.toList.drop 179 = dktX3_goesStep_8 := dk_seg dksX3_goesStep_7 24 rfl rfl
theorem dX3_goesStep_0 : decode cX3_goesStep 0 = .ok (.aload_n 0, 1) := dk_42 (dk_at dksX3_goesStep_0 0 rfl rfl)
theorem dX3_goesStep_1 : decode cX3_goesStep 1 = .ok (.getfield 17, 3) := dk_180 0 17 (dk_at dksX3_goesStep_0 1 rfl rfl)
theorem dX3_goesStep_4 : decode cX3_goesStep 4 = .ok (.iload_n 2, 1) := dk_28 (dk_at dksX3_goesStep_0 4 rfl rfl)
theorem dX3_goesStep_5 : decode cX3_goesStep 5 = .ok (.iconst 1, 1) := dk_4 (dk_at dksX3_goesStep_0 5 rfl rfl)
theorem dX3_goesStep_6 : decode cX3_goesStep 6 = .ok (.iadd, 1) := dk_96 (dk_at dksX3_goesStep_0 6 rfl rfl)
theorem dX3_goesStep_7 : decode cX3_goesStep 7 = .ok (.iaload, 1) := dk_46 (dk_at dksX3_goesStep_0 7 rfl rfl)
theorem dX3_goesStep_8 : decode cX3_goesStep 8 = .ok (.istore_n 3, 1) := dk_62 (dk_at dksX3_goesStep_0 8 rfl rfl)
theorem dX3_goesStep_9 : decode cX3_goesStep 9 = .ok (.aload_n 0, 1) := dk_42 (dk_at dksX3_goesStep_0 9 rfl rfl)
theorem dX3_goesStep_10 : decode cX3_goesStep 10 = .ok (.getfield 17, 3) := dk_180 0 17 (dk_at dksX3_goesStep_0 10 rfl rfl)
theorem dX3_goesStep_13 : decode cX3_goesStep 13 = .ok (.iload_n 2, 1) := dk_28 (dk_at dksX3_goesStep_0 13 rfl rfl)
theorem dX3_goesStep_14 : decode cX3_goesStep 14 = .ok (.iconst 2, 1) := dk_5 (dk_at dksX3_goesStep_0 14 rfl rfl)
theorem dX3_goesStep_15 : decode cX3_goesStep 15 = .ok (.iadd, 1) := dk_96 (dk_at dksX3_goesStep_0 15 rfl rfl)
theorem dX3_goesStep_16 : decode cX3_goesStep 16 = .ok (.iaload, 1) := dk_46 (dk_at dksX3_goesStep_0 16 rfl rfl)
theorem dX3_goesStep_17 : decode cX3_goesStep 17 = .ok (.istore 4, 2) := dk_54 4 (dk_at dksX3_goesStep_0 17 rfl rfl)
theorem dX3_goesStep_19 : decode cX3_goesStep 19 = .ok (.aload_n 0, 1) := dk_42 (dk_at dksX3_goesStep_0 19 rfl rfl)
theorem dX3_goesStep_20 : decode cX3_goesStep 20 = .ok (.getfield 17, 3) := dk_180 0 17 (dk_at dksX3_goesStep_0 20 rfl rfl)
theorem dX3_goesStep_23 : decode cX3_goesStep 23 = .ok (.iload_n 2, 1) := dk_28 (dk_at dksX3_goesStep_0 23 rfl rfl)
theorem dX3_goesStep_24 : decode cX3_goesStep 24 = .ok (.iaload, 1) := dk_46 (dk_at dksX3_goesStep_1 0 rfl rfl)
theorem dX3_goesStep_25 : decode cX3_goesStep 25 = .ok (.tableswitch 147 0 4 #[35, 76, 35, 101, 129], 35) := by decide +kernel
theorem dX3_goesStep_60 : decode cX3_goesStep 60 = .ok (.aload_n 0, 1) := dk_42 (dk_at dksX3_goesStep_3 0 rfl rfl)
theorem dX3_goesStep_61 : decode cX3_goesStep 61 = .ok (.iload_n 1, 1) := dk_27 (dk_at dksX3_goesStep_3 1 rfl rfl)
theorem dX3_goesStep_62 : decode cX3_goesStep 62 = .ok (.iload_n 3, 1) := dk_29 (dk_at dksX3_goesStep_3 2 rfl rfl)
theorem dX3_goesStep_63 : decode cX3_goesStep 63 = .ok (.invokevirtual 397, 3) := dk_182 1 141 (dk_at dksX3_goesStep_3 3 rfl rfl)
theorem dX3_goesStep_66 : decode cX3_goesStep 66 = .ok (.ifCond .ne 5, 3) := dk_154 0 5 (dk_at dksX3_goesStep_3 6 rfl rfl)
theorem dX3_goesStep_69 : decode cX3_goesStep 69 = .ok (.iconst 0, 1) := dk_3 (dk_at dksX3_goesStep_3 9 rfl rfl)
theorem dX3_goesStep_70 : decode cX3_goesStep 70 = .ok (.ireturn, 1) := dk_172 (dk_at dksX3_goesStep_3 10 rfl rfl)
theorem dX3_goesStep_71 : decode cX3_goesStep 71 = .ok (.aload_n 0, 1) := dk_42 (dk_at dksX3_goesStep_3 11 rfl rfl)
theorem dX3_goesStep_72 : decode cX3_goesStep 72 = .ok (.getfield 17, 3) := dk_180 0 17 (dk_at dksX3_goesStep_3 12 rfl rfl)
theorem dX3_goesStep_75 : decode cX3_goesStep 75 = .ok (.iload_n 2, 1) := dk_28 (dk_at dksX3_goesStep_3 15 rfl rfl)
theorem dX3_goesStep_76 : decode cX3_goesStep 76 = .ok (.iaload, 1) := dk_46 (dk_at dksX3_goesStep_3 16 rfl rfl)
theorem dX3_goesStep_77 : decode cX3_goesStep 77 = .ok (.ifCond .ne 14, 3) := dk_154 0 14 (dk_at dksX3_goesStep_3 17 rfl rfl)
theorem dX3_goesStep_80 : decode cX3_goesStep 80 = .ok (.aload_n 0, 1) := dk_42 (dk_at dksX3_goesStep_3 20 rfl rfl)
theorem dX3_goesStep_81 : decode cX3_goesStep 81 = .ok (.iload_n 1, 1) := dk_27 (dk_at dksX3_goesStep_3 21 rfl rfl)
theorem dX3_goesStep_82 : decode cX3_goesStep 82 = .ok (.iload_n 3, 1) := dk_29 (dk_at dksX3_goesStep_3 22 rfl rfl)
theorem dX3_goesStep_83 : decode cX3_goesStep 83 = .ok (.iload 4, 2) := dk_21 4 (dk_at dksX3_goesStep_4 0 rfl rfl)
theorem dX3_goesStep_85 : decode cX3_goesStep 85 = .ok (.invokevirtual 384, 3) := dk_182 1 128 (dk_at dksX3_goesStep_4 2 rfl rfl)
theorem dX3_goesStep_88 : decode cX3_goesStep 88 = .ok (.goto 11, 3) := dk_167 0 11 (dk_at dksX3_goesStep_4 5 rfl rfl)
theorem dX3_goesStep_91 : decode cX3_goesStep 91 = .ok (.aload_n 0, 1) := dk_42 (dk_at dksX3_goesStep_4 8 rfl rfl)
theorem dX3_goesStep_92 : decode cX3_goesStep 92 = .ok (.iload_n 1, 1) := dk_27 (dk_at dksX3_goesStep_4 9 rfl rfl)
theorem dX3_goesStep_93 : decode cX3_goesStep 93 = .ok (.iload_n 3, 1) := dk_29 (dk_at dksX3_goesStep_4 10 rfl rfl)
theorem dX3_goesStep_94 : decode cX3_goesStep 94 = .ok (.iload 4, 2) := dk_21 4 (dk_at dksX3_goesStep_4 11 rfl rfl)
theorem dX3_goesStep_96 : decode cX3_goesStep 96 = .ok (.invokevirtual 387, 3) := dk_182 1 131 (dk_at dksX3_goesStep_4 13 rfl rfl)
theorem dX3_goesStep_99 : decode cX3_goesStep 99 = .ok (.iconst 1, 1) := dk_4 (dk_at dksX3_goesStep_4 16 rfl rfl)
theorem dX3_goesStep_100 : decode cX3_goesStep 100 = .ok (.ireturn, 1) := dk_172 (dk_at dksX3_goesStep_4 17 rfl rfl)
theorem dX3_goesStep_101 : decode cX3_goesStep 101 = .ok (.aload_n 0, 1) := dk_42 (dk_at dksX3_goesStep_4 18 rfl rfl)
theorem dX3_goesStep_102 : decode cX3_goesStep 102 = .ok (.getfield 76, 3) := dk_180 0 76 (dk_at dksX3_goesStep_4 19 rfl rfl)
theorem dX3_goesStep_105 : decode cX3_goesStep 105 = .ok (.iload_n 1, 1) := dk_27 (dk_at dksX3_goesStep_4 22 rfl rfl)
theorem dX3_goesStep_106 : decode cX3_goesStep 106 = .ok (.aload_n 0, 1) := dk_42 (dk_at dksX3_goesStep_4 23 rfl rfl)
theorem dX3_goesStep_107 : decode cX3_goesStep 107 = .ok (.aload_n 0, 1) := dk_42 (dk_at dksX3_goesStep_5 0 rfl rfl)
theorem dX3_goesStep_108 : decode cX3_goesStep 108 = .ok (.getfield 76, 3) := dk_180 0 76 (dk_at dksX3_goesStep_5 1 rfl rfl)
theorem dX3_goesStep_111 : decode cX3_goesStep 111 = .ok (.iload_n 1, 1) := dk_27 (dk_at dksX3_goesStep_5 4 rfl rfl)
theorem dX3_goesStep_112 : decode cX3_goesStep 112 = .ok (.iaload, 1) := dk_46 (dk_at dksX3_goesStep_5 5 rfl rfl)
theorem dX3_goesStep_113 : decode cX3_goesStep 113 = .ok (.iload_n 3, 1) := dk_29 (dk_at dksX3_goesStep_5 6 rfl rfl)
theorem dX3_goesStep_114 : decode cX3_goesStep 114 = .ok (.aload_n 0, 1) := dk_42 (dk_at dksX3_goesStep_5 7 rfl rfl)
theorem dX3_goesStep_115 : decode cX3_goesStep 115 = .ok (.getfield 79, 3) := dk_180 0 79 (dk_at dksX3_goesStep_5 8 rfl rfl)
theorem dX3_goesStep_118 : decode cX3_goesStep 118 = .ok (.iload_n 1, 1) := dk_27 (dk_at dksX3_goesStep_5 11 rfl rfl)
theorem dX3_goesStep_119 : decode cX3_goesStep 119 = .ok (.iaload, 1) := dk_46 (dk_at dksX3_goesStep_5 12 rfl rfl)
theorem dX3_goesStep_120 : decode cX3_goesStep 120 = .ok (.invokevirtual 339, 3) := dk_182 1 83 (dk_at dksX3_goesStep_5 13 rfl rfl)
theorem dX3_goesStep_123 : decode cX3_goesStep 123 = .ok (.iastore, 1) := dk_79 (dk_at dksX3_goesStep_5 16 rfl rfl)
theorem dX3_goesStep_124 : decode cX3_goesStep 124 = .ok (.iconst 1, 1) := dk_4 (dk_at dksX3_goesStep_5 17 rfl rfl)
theorem dX3_goesStep_125 : decode cX3_goesStep 125 = .ok (.ireturn, 1) := dk_172 (dk_at dksX3_goesStep_5 18 rfl rfl)
theorem dX3_goesStep_126 : decode cX3_goesStep 126 = .ok (.aload_n 0, 1) := dk_42 (dk_at dksX3_goesStep_5 19 rfl rfl)
theorem dX3_goesStep_127 : decode cX3_goesStep 127 = .ok (.getfield 76, 3) := dk_180 0 76 (dk_at dksX3_goesStep_5 20 rfl rfl)
theorem dX3_goesStep_130 : decode cX3_goesStep 130 = .ok (.iload_n 1, 1) := dk_27 (dk_at dksX3_goesStep_5 23 rfl rfl)
theorem dX3_goesStep_131 : decode cX3_goesStep 131 = .ok (.aload_n 0, 1) := dk_42 (dk_at dksX3_goesStep_6 0 rfl rfl)
theorem dX3_goesStep_132 : decode cX3_goesStep 132 = .ok (.aload_n 0, 1) := dk_42 (dk_at dksX3_goesStep_6 1 rfl rfl)
theorem dX3_goesStep_133 : decode cX3_goesStep 133 = .ok (.getfield 76, 3) := dk_180 0 76 (dk_at dksX3_goesStep_6 2 rfl rfl)
theorem dX3_goesStep_136 : decode cX3_goesStep 136 = .ok (.iload_n 1, 1) := dk_27 (dk_at dksX3_goesStep_6 5 rfl rfl)
theorem dX3_goesStep_137 : decode cX3_goesStep 137 = .ok (.iaload, 1) := dk_46 (dk_at dksX3_goesStep_6 6 rfl rfl)
theorem dX3_goesStep_138 : decode cX3_goesStep 138 = .ok (.iload_n 3, 1) := dk_29 (dk_at dksX3_goesStep_6 7 rfl rfl)
theorem dX3_goesStep_139 : decode cX3_goesStep 139 = .ok (.iload 4, 2) := dk_21 4 (dk_at dksX3_goesStep_6 8 rfl rfl)
theorem dX3_goesStep_141 : decode cX3_goesStep 141 = .ok (.iconst 1, 1) := dk_4 (dk_at dksX3_goesStep_6 10 rfl rfl)
theorem dX3_goesStep_142 : decode cX3_goesStep 142 = .ok (.aload_n 0, 1) := dk_42 (dk_at dksX3_goesStep_6 11 rfl rfl)
theorem dX3_goesStep_143 : decode cX3_goesStep 143 = .ok (.getfield 79, 3) := dk_180 0 79 (dk_at dksX3_goesStep_6 12 rfl rfl)
theorem dX3_goesStep_146 : decode cX3_goesStep 146 = .ok (.iload_n 1, 1) := dk_27 (dk_at dksX3_goesStep_6 15 rfl rfl)
theorem dX3_goesStep_147 : decode cX3_goesStep 147 = .ok (.iaload, 1) := dk_46 (dk_at dksX3_goesStep_6 16 rfl rfl)
theorem dX3_goesStep_148 : decode cX3_goesStep 148 = .ok (.invokevirtual 377, 3) := dk_182 1 121 (dk_at dksX3_goesStep_6 17 rfl rfl)
theorem dX3_goesStep_151 : decode cX3_goesStep 151 = .ok (.iastore, 1) := dk_79 (dk_at dksX3_goesStep_6 20 rfl rfl)
theorem dX3_goesStep_152 : decode cX3_goesStep 152 = .ok (.iconst 1, 1) := dk_4 (dk_at dksX3_goesStep_6 21 rfl rfl)
theorem dX3_goesStep_153 : decode cX3_goesStep 153 = .ok (.ireturn, 1) := dk_172 (dk_at dksX3_goesStep_6 22 rfl rfl)
theorem dX3_goesStep_154 : decode cX3_goesStep 154 = .ok (.aload_n 0, 1) := dk_42 (dk_at dksX3_goesStep_6 23 rfl rfl)
theorem dX3_goesStep_155 : decode cX3_goesStep 155 = .ok (.iload_n 1, 1) := dk_27 (dk_at dksX3_goesStep_7 0 rfl rfl)
theorem dX3_goesStep_156 : decode cX3_goesStep 156 = .ok (.iload_n 3, 1) := dk_29 (dk_at dksX3_goesStep_7 1 rfl rfl)
theorem dX3_goesStep_157 : decode cX3_goesStep 157 = .ok (.iload 4, 2) := dk_21 4 (dk_at dksX3_goesStep_7 2 rfl rfl)
theorem dX3_goesStep_159 : decode cX3_goesStep 159 = .ok (.aload_n 0, 1) := dk_42 (dk_at dksX3_goesStep_7 4 rfl rfl)
theorem dX3_goesStep_160 : decode cX3_goesStep 160 = .ok (.getfield 17, 3) := dk_180 0 17 (dk_at dksX3_goesStep_7 5 rfl rfl)
theorem dX3_goesStep_163 : decode cX3_goesStep 163 = .ok (.iload_n 2, 1) := dk_28 (dk_at dksX3_goesStep_7 8 rfl rfl)
theorem dX3_goesStep_164 : decode cX3_goesStep 164 = .ok (.iconst 3, 1) := dk_6 (dk_at dksX3_goesStep_7 9 rfl rfl)
theorem dX3_goesStep_165 : decode cX3_goesStep 165 = .ok (.iadd, 1) := dk_96 (dk_at dksX3_goesStep_7 10 rfl rfl)
theorem dX3_goesStep_166 : decode cX3_goesStep 166 = .ok (.iaload, 1) := dk_46 (dk_at dksX3_goesStep_7 11 rfl rfl)
theorem dX3_goesStep_167 : decode cX3_goesStep 167 = .ok (.invokevirtual 404, 3) := dk_182 1 148 (dk_at dksX3_goesStep_7 12 rfl rfl)
theorem dX3_goesStep_170 : decode cX3_goesStep 170 = .ok (.iconst 1, 1) := dk_4 (dk_at dksX3_goesStep_7 15 rfl rfl)
theorem dX3_goesStep_171 : decode cX3_goesStep 171 = .ok (.ireturn, 1) := dk_172 (dk_at dksX3_goesStep_7 16 rfl rfl)
theorem dX3_goesStep_172 : decode cX3_goesStep 172 = .ok (.aload_n 0, 1) := dk_42 (dk_at dksX3_goesStep_7 17 rfl rfl)
theorem dX3_goesStep_173 : decode cX3_goesStep 173 = .ok (.invokevirtual 289, 3) := dk_182 1 33 (dk_at dksX3_goesStep_7 18 rfl rfl)
theorem dX3_goesStep_176 : decode cX3_goesStep 176 = .ok (.ifCond .ne 5, 3) := dk_154 0 5 (dk_at dksX3_goesStep_7 21 rfl rfl)
theorem dX3_goesStep_179 : decode cX3_goesStep 179 = .ok (.iconst 0, 1) := dk_3 (dk_at dksX3_goesStep_8 0 rfl rfl)
theorem dX3_goesStep_180 : decode cX3_goesStep 180 = .ok (.ireturn, 1) := dk_172 (dk_at dksX3_goesStep_8 1 rfl rfl)
theorem dX3_goesStep_181 : decode cX3_goesStep 181 = .ok (.aload_n 0, 1) := dk_42 (dk_at dksX3_goesStep_8 2 rfl rfl)
theorem dX3_goesStep_182 : decode cX3_goesStep 182 = .ok (.iload_n 1, 1) := dk_27 (dk_at dksX3_goesStep_8 3 rfl rfl)
theorem dX3_goesStep_183 : decode cX3_goesStep 183 = .ok (.invokevirtual 407, 3) := dk_182 1 151 (dk_at dksX3_goesStep_8 4 rfl rfl)
theorem dX3_goesStep_186 : decode cX3_goesStep 186 = .ok (.istore 5, 2) := dk_54 5 (dk_at dksX3_goesStep_8 7 rfl rfl)
theorem dX3_goesStep_188 : decode cX3_goesStep 188 = .ok (.iconst 1, 1) := dk_4 (dk_at dksX3_goesStep_8 9 rfl rfl)
theorem dX3_goesStep_189 : decode cX3_goesStep 189 = .ok (.ireturn, 1) := dk_172 (dk_at dksX3_goesStep_8 10 rfl rfl)
abbrev cX3_shared : ByteArray := prog_9_method_102_code
def yX3_shared : MethodName := ⟨RX3, "shared", "(II)I"⟩
def dkwX3_shared_1 : List UInt8 := [182, 1, 176, 167, 0, 4, 2, 172]
abbrev dktX3_shared_1 : List UInt8 := dkwX3_shared_1 ++ []
def dkwX3_shared_0 : List UInt8 := [42, 3, 181, 0, 116, 42, 27, 182, 1, 53, 153, 0, 20, 42, 28, 182, 1, 53, 153, 0, 12, 42, 27, 28]
abbrev dktX3_shared_0 : List UInt8 := dkwX3_shared_0 ++ dktX3_shared_1
theorem dksX3_shared_0 : cX3_shared.data.toList.drop 0 = dktX3_shared_0 := by decide +kernel
theorem dksX3_shared_1 : cX3_shared.data.toList.drop 24 = dktX3_shared_1 := dk_seg dksX3_shared_0 24 rfl rfl
theorem dX3_shared_0 : decode cX3_shared 0 = .ok (.aload_n 0, 1) := dk_42 (dk_at dksX3_shared_0 0 rfl rfl)
theorem dX3_shared_1 : decode cX3_shared 1 = .ok (.iconst 0, 1) := dk_3 (dk_at dksX3_shared_0 1 rfl rfl)
theorem dX3_shared_2 : decode cX3_shared 2 = .ok (.putfield 116, 3) := dk_181 0 116 (dk_at dksX3_shared_0 2 rfl rfl)
theorem dX3_shared_5 : decode cX3_shared 5 = .ok (.aload_n 0, 1) := dk_42 (dk_at dksX3_shared_0 5 rfl rfl)
theorem dX3_shared_6 : decode cX3_shared 6 = .ok (.iload_n 1, 1) := dk_27 (dk_at dksX3_shared_0 6 rfl rfl)
theorem dX3_shared_7 : decode cX3_shared 7 = .ok (.invokevirtual 309, 3) := dk_182 1 53 (dk_at dksX3_shared_0 7 rfl rfl)
theorem dX3_shared_10 : decode cX3_shared 10 = .ok (.ifCond .eq 20, 3) := dk_153 0 20 (dk_at dksX3_shared_0 10 rfl rfl)
theorem dX3_shared_13 : decode cX3_shared 13 = .ok (.aload_n 0, 1) := dk_42 (dk_at dksX3_shared_0 13 rfl rfl)
theorem dX3_shared_14 : decode cX3_shared 14 = .ok (.iload_n 2, 1) := dk_28 (dk_at dksX3_shared_0 14 rfl rfl)
theorem dX3_shared_15 : decode cX3_shared 15 = .ok (.invokevirtual 309, 3) := dk_182 1 53 (dk_at dksX3_shared_0 15 rfl rfl)
theorem dX3_shared_18 : decode cX3_shared 18 = .ok (.ifCond .eq 12, 3) := dk_153 0 12 (dk_at dksX3_shared_0 18 rfl rfl)
theorem dX3_shared_21 : decode cX3_shared 21 = .ok (.aload_n 0, 1) := dk_42 (dk_at dksX3_shared_0 21 rfl rfl)
theorem dX3_shared_22 : decode cX3_shared 22 = .ok (.iload_n 1, 1) := dk_27 (dk_at dksX3_shared_0 22 rfl rfl)
theorem dX3_shared_23 : decode cX3_shared 23 = .ok (.iload_n 2, 1) := dk_28 (dk_at dksX3_shared_0 23 rfl rfl)
theorem dX3_shared_24 : decode cX3_shared 24 = .ok (.invokevirtual 432, 3) := dk_182 1 176 (dk_at dksX3_shared_1 0 rfl rfl)
theorem dX3_shared_27 : decode cX3_shared 27 = .ok (.goto 4, 3) := dk_167 0 4 (dk_at dksX3_shared_1 3 rfl rfl)
theorem dX3_shared_30 : decode cX3_shared 30 = .ok (.iconst (-1), 1) := dk_2 (dk_at dksX3_shared_1 6 rfl rfl)
theorem dX3_shared_31 : decode cX3_shared 31 = .ok (.ireturn, 1) := dk_172 (dk_at dksX3_shared_1 7 rfl rfl)
abbrev cX3_sharedBy : ByteArray := prog_9_method_101_code
def yX3_sharedBy : MethodName := ⟨RX3, "sharedBy", "(II)I"⟩
def dkwX3_sharedBy_3 : List UInt8 := [167, 0, 4, 3, 96, 54, 4, 132, 5, 1, 167, 255, 215, 21, 4, 172]
abbrev dktX3_sharedBy_3 : List UInt8 := dkwX3_sharedBy_3 ++ []
def dkwX3_sharedBy_2 : List UInt8 := [21, 4, 42, 180, 0, 32, 42, 180, 0, 61, 21, 5, 46, 46, 42, 180, 0, 255, 160, 0, 7, 4]
abbrev dktX3_sharedBy_2 : List UInt8 := dkwX3_sharedBy_2 ++ dktX3_sharedBy_3
def dkwX3_sharedBy_1 : List UInt8 := [180, 0, 67, 28, 46, 182, 0, 252, 3, 54, 4, 3, 54, 5, 21, 5, 42, 180, 0, 243, 162, 0, 38]
abbrev dktX3_sharedBy_1 : List UInt8 := dkwX3_sharedBy_1 ++ dktX3_sharedBy_2
def dkwX3_sharedBy_0 : List UInt8 := [42, 89, 180, 0, 255, 4, 96, 181, 0, 255, 42, 42, 180, 0, 67, 27, 46, 182, 1, 2, 62, 42, 42]
abbrev dktX3_sharedBy_0 : List UInt8 := dkwX3_sharedBy_0 ++ dktX3_sharedBy_1
theorem dksX3_sharedBy_0 : cX3_sharedBy.data.toList.drop 0 = dktX3_sharedBy_0 := by decide +kernel
theorem dksX3_sharedBy_1 : cX3_sharedBy.data.toList.drop 23 = dktX3_sharedBy_1 := dk_seg dksX3_sharedBy_0 23 rfl rfl
theorem dksX3_sharedBy_2 : cX3_sharedBy.data.toList.drop 46 = dktX3_sharedBy_2 := dk_seg dksX3_sharedBy_1 23 rfl rfl
theorem dksX3_sharedBy_3 : cX3_sharedBy.data.toList.drop 68 = dktX3_sharedBy_3 := dk_seg dksX3_sharedBy_2 22 rfl rfl
theorem dX3_sharedBy_0 : decode cX3_sharedBy 0 = .ok (.aload_n 0, 1) := dk_42 (dk_at dksX3_sharedBy_0 0 rfl rfl)
theorem dX3_sharedBy_1 : decode cX3_sharedBy 1 = .ok (.dup, 1) := dk_89 (dk_at dksX3_sharedBy_0 1 rfl rfl)
theorem dX3_sharedBy_2 : decode cX3_sharedBy 2 = .ok (.getfield 255, 3) := dk_180 0 255 (dk_at dksX3_sharedBy_0 2 rfl rfl)
theorem dX3_sharedBy_5 : decode cX3_sharedBy 5 = .ok (.iconst 1, 1) := dk_4 (dk_at dksX3_sharedBy_0 5 rfl rfl)
theorem dX3_sharedBy_6 : decode cX3_sharedBy 6 = .ok (.iadd, 1) := dk_96 (dk_at dksX3_sharedBy_0 6 rfl rfl)
theorem dX3_sharedBy_7 : decode cX3_sharedBy 7 = .ok (.putfield 255, 3) := dk_181 0 255 (dk_at dksX3_sharedBy_0 7 rfl rfl)
theorem dX3_sharedBy_10 : decode cX3_sharedBy 10 = .ok (.aload_n 0, 1) := dk_42 (dk_at dksX3_sharedBy_0 10 rfl rfl)
theorem dX3_sharedBy_11 : decode cX3_sharedBy 11 = .ok (.aload_n 0, 1) := dk_42 (dk_at dksX3_sharedBy_0 11 rfl rfl)
theorem dX3_sharedBy_12 : decode cX3_sharedBy 12 = .ok (.getfield 67, 3) := dk_180 0 67 (dk_at dksX3_sharedBy_0 12 rfl rfl)
theorem dX3_sharedBy_15 : decode cX3_sharedBy 15 = .ok (.iload_n 1, 1) := dk_27 (dk_at dksX3_sharedBy_0 15 rfl rfl)
theorem dX3_sharedBy_16 : decode cX3_sharedBy 16 = .ok (.iaload, 1) := dk_46 (dk_at dksX3_sharedBy_0 16 rfl rfl)
theorem dX3_sharedBy_17 : decode cX3_sharedBy 17 = .ok (.invokevirtual 258, 3) := dk_182 1 2 (dk_at dksX3_sharedBy_0 17 rfl rfl)
theorem dX3_sharedBy_20 : decode cX3_sharedBy 20 = .ok (.istore_n 3, 1) := dk_62 (dk_at dksX3_sharedBy_0 20 rfl rfl)
theorem dX3_sharedBy_21 : decode cX3_sharedBy 21 = .ok (.aload_n 0, 1) := dk_42 (dk_at dksX3_sharedBy_0 21 rfl rfl)
theorem dX3_sharedBy_22 : decode cX3_sharedBy 22 = .ok (.aload_n 0, 1) := dk_42 (dk_at dksX3_sharedBy_0 22 rfl rfl)
theorem dX3_sharedBy_23 : decode cX3_sharedBy 23 = .ok (.getfield 67, 3) := dk_180 0 67 (dk_at dksX3_sharedBy_1 0 rfl rfl)
theorem dX3_sharedBy_26 : decode cX3_sharedBy 26 = .ok (.iload_n 2, 1) := dk_28 (dk_at dksX3_sharedBy_1 3 rfl rfl)
theorem dX3_sharedBy_27 : decode cX3_sharedBy 27 = .ok (.iaload, 1) := dk_46 (dk_at dksX3_sharedBy_1 4 rfl rfl)
theorem dX3_sharedBy_28 : decode cX3_sharedBy 28 = .ok (.invokevirtual 252, 3) := dk_182 0 252 (dk_at dksX3_sharedBy_1 5 rfl rfl)
theorem dX3_sharedBy_31 : decode cX3_sharedBy 31 = .ok (.iconst 0, 1) := dk_3 (dk_at dksX3_sharedBy_1 8 rfl rfl)
theorem dX3_sharedBy_32 : decode cX3_sharedBy 32 = .ok (.istore 4, 2) := dk_54 4 (dk_at dksX3_sharedBy_1 9 rfl rfl)
theorem dX3_sharedBy_34 : decode cX3_sharedBy 34 = .ok (.iconst 0, 1) := dk_3 (dk_at dksX3_sharedBy_1 11 rfl rfl)
theorem dX3_sharedBy_35 : decode cX3_sharedBy 35 = .ok (.istore 5, 2) := dk_54 5 (dk_at dksX3_sharedBy_1 12 rfl rfl)
theorem dX3_sharedBy_37 : decode cX3_sharedBy 37 = .ok (.iload 5, 2) := dk_21 5 (dk_at dksX3_sharedBy_1 14 rfl rfl)
theorem dX3_sharedBy_39 : decode cX3_sharedBy 39 = .ok (.aload_n 0, 1) := dk_42 (dk_at dksX3_sharedBy_1 16 rfl rfl)
theorem dX3_sharedBy_40 : decode cX3_sharedBy 40 = .ok (.getfield 243, 3) := dk_180 0 243 (dk_at dksX3_sharedBy_1 17 rfl rfl)
theorem dX3_sharedBy_43 : decode cX3_sharedBy 43 = .ok (.if_icmp .ge 38, 3) := dk_162 0 38 (dk_at dksX3_sharedBy_1 20 rfl rfl)
theorem dX3_sharedBy_46 : decode cX3_sharedBy 46 = .ok (.iload 4, 2) := dk_21 4 (dk_at dksX3_sharedBy_2 0 rfl rfl)
theorem dX3_sharedBy_48 : decode cX3_sharedBy 48 = .ok (.aload_n 0, 1) := dk_42 (dk_at dksX3_sharedBy_2 2 rfl rfl)
theorem dX3_sharedBy_49 : decode cX3_sharedBy 49 = .ok (.getfield 32, 3) := dk_180 0 32 (dk_at dksX3_sharedBy_2 3 rfl rfl)
theorem dX3_sharedBy_52 : decode cX3_sharedBy 52 = .ok (.aload_n 0, 1) := dk_42 (dk_at dksX3_sharedBy_2 6 rfl rfl)
theorem dX3_sharedBy_53 : decode cX3_sharedBy 53 = .ok (.getfield 61, 3) := dk_180 0 61 (dk_at dksX3_sharedBy_2 7 rfl rfl)
theorem dX3_sharedBy_56 : decode cX3_sharedBy 56 = .ok (.iload 5, 2) := dk_21 5 (dk_at dksX3_sharedBy_2 10 rfl rfl)
theorem dX3_sharedBy_58 : decode cX3_sharedBy 58 = .ok (.iaload, 1) := dk_46 (dk_at dksX3_sharedBy_2 12 rfl rfl)
theorem dX3_sharedBy_59 : decode cX3_sharedBy 59 = .ok (.iaload, 1) := dk_46 (dk_at dksX3_sharedBy_2 13 rfl rfl)
theorem dX3_sharedBy_60 : decode cX3_sharedBy 60 = .ok (.aload_n 0, 1) := dk_42 (dk_at dksX3_sharedBy_2 14 rfl rfl)
theorem dX3_sharedBy_61 : decode cX3_sharedBy 61 = .ok (.getfield 255, 3) := dk_180 0 255 (dk_at dksX3_sharedBy_2 15 rfl rfl)
theorem dX3_sharedBy_64 : decode cX3_sharedBy 64 = .ok (.if_icmp .ne 7, 3) := dk_160 0 7 (dk_at dksX3_sharedBy_2 18 rfl rfl)
theorem dX3_sharedBy_67 : decode cX3_sharedBy 67 = .ok (.iconst 1, 1) := dk_4 (dk_at dksX3_sharedBy_2 21 rfl rfl)
theorem dX3_sharedBy_68 : decode cX3_sharedBy 68 = .ok (.goto 4, 3) := dk_167 0 4 (dk_at dksX3_sharedBy_3 0 rfl rfl)
theorem dX3_sharedBy_71 : decode cX3_sharedBy 71 = .ok (.iconst 0, 1) := dk_3 (dk_at dksX3_sharedBy_3 3 rfl rfl)
theorem dX3_sharedBy_72 : decode cX3_sharedBy 72 = .ok (.iadd, 1) := dk_96 (dk_at dksX3_sharedBy_3 4 rfl rfl)
theorem dX3_sharedBy_73 : decode cX3_sharedBy 73 = .ok (.istore 4, 2) := dk_54 4 (dk_at dksX3_sharedBy_3 5 rfl rfl)
theorem dX3_sharedBy_75 : decode cX3_sharedBy 75 = .ok (.iinc 5 1, 3) := dk_132 5 1 (dk_at dksX3_sharedBy_3 7 rfl rfl)
theorem dX3_sharedBy_78 : decode cX3_sharedBy 78 = .ok (.goto (-41), 3) := dk_167 255 215 (dk_at dksX3_sharedBy_3 10 rfl rfl)
theorem dX3_sharedBy_81 : decode cX3_sharedBy 81 = .ok (.iload 4, 2) := dk_21 4 (dk_at dksX3_sharedBy_3 13 rfl rfl)
theorem dX3_sharedBy_83 : decode cX3_sharedBy 83 = .ok (.ireturn, 1) := dk_172 (dk_at dksX3_sharedBy_3 15 rfl rfl)
abbrev cX3_looked : ByteArray := prog_9_method_103_code
def yX3_looked : MethodName := ⟨RX3, "looked", "(II)I"⟩
def dkwX3_looked_2 : List UInt8 := [182, 0, 252, 29, 42, 180, 0, 243, 96, 172]
abbrev dktX3_looked_2 : List UInt8 := dkwX3_looked_2 ++ []
def dkwX3_looked_1 : List UInt8 := [16, 254, 42, 27, 28, 182, 1, 176, 104, 62, 29, 42, 180, 0, 243, 96, 62, 42, 42, 180, 0, 67, 27, 46]
abbrev dktX3_looked_1 : List UInt8 := dkwX3_looked_1 ++ dktX3_looked_2
def dkwX3_looked_0 : List UInt8 := [42, 3, 181, 0, 116, 42, 27, 182, 1, 53, 153, 0, 11, 42, 28, 182, 1, 53, 154, 0, 5, 2, 172]
abbrev dktX3_looked_0 : List UInt8 := dkwX3_looked_0 ++ dktX3_looked_1
theorem dksX3_looked_0 : cX3_looked.data.toList.drop 0 = dktX3_looked_0 := by decide +kernel
theorem dksX3_looked_1 : cX3_looked.data.toList.drop 23 = dktX3_looked_1 := dk_seg dksX3_looked_0 23 rfl rfl
theorem dksX3_looked_2 : cX3_looked.data.toList.drop 47 = dktX3_looked_2 := dk_seg dksX3_looked_1 24 rfl rfl
theorem dX3_looked_0 : decode cX3_looked 0 = .ok (.aload_n 0, 1) := dk_42 (dk_at dksX3_looked_0 0 rfl rfl)
theorem dX3_looked_1 : decode cX3_looked 1 = .ok (.iconst 0, 1) := dk_3 (dk_at dksX3_looked_0 1 rfl rfl)
theorem dX3_looked_2 : decode cX3_looked 2 = .ok (.putfield 116, 3) := dk_181 0 116 (dk_at dksX3_looked_0 2 rfl rfl)
theorem dX3_looked_5 : decode cX3_looked 5 = .ok (.aload_n 0, 1) := dk_42 (dk_at dksX3_looked_0 5 rfl rfl)
theorem dX3_looked_6 : decode cX3_looked 6 = .ok (.iload_n 1, 1) := dk_27 (dk_at dksX3_looked_0 6 rfl rfl)
theorem dX3_looked_7 : decode cX3_looked 7 = .ok (.invokevirtual 309, 3) := dk_182 1 53 (dk_at dksX3_looked_0 7 rfl rfl)
theorem dX3_looked_10 : decode cX3_looked 10 = .ok (.ifCond .eq 11, 3) := dk_153 0 11 (dk_at dksX3_looked_0 10 rfl rfl)
theorem dX3_looked_13 : decode cX3_looked 13 = .ok (.aload_n 0, 1) := dk_42 (dk_at dksX3_looked_0 13 rfl rfl)
theorem dX3_looked_14 : decode cX3_looked 14 = .ok (.iload_n 2, 1) := dk_28 (dk_at dksX3_looked_0 14 rfl rfl)
theorem dX3_looked_15 : decode cX3_looked 15 = .ok (.invokevirtual 309, 3) := dk_182 1 53 (dk_at dksX3_looked_0 15 rfl rfl)
theorem dX3_looked_18 : decode cX3_looked 18 = .ok (.ifCond .ne 5, 3) := dk_154 0 5 (dk_at dksX3_looked_0 18 rfl rfl)
theorem dX3_looked_21 : decode cX3_looked 21 = .ok (.iconst (-1), 1) := dk_2 (dk_at dksX3_looked_0 21 rfl rfl)
theorem dX3_looked_22 : decode cX3_looked 22 = .ok (.ireturn, 1) := dk_172 (dk_at dksX3_looked_0 22 rfl rfl)
theorem dX3_looked_23 : decode cX3_looked 23 = .ok (.bipush (-2), 2) := dk_16 254 (dk_at dksX3_looked_1 0 rfl rfl)
theorem dX3_looked_25 : decode cX3_looked 25 = .ok (.aload_n 0, 1) := dk_42 (dk_at dksX3_looked_1 2 rfl rfl)
theorem dX3_looked_26 : decode cX3_looked 26 = .ok (.iload_n 1, 1) := dk_27 (dk_at dksX3_looked_1 3 rfl rfl)
theorem dX3_looked_27 : decode cX3_looked 27 = .ok (.iload_n 2, 1) := dk_28 (dk_at dksX3_looked_1 4 rfl rfl)
theorem dX3_looked_28 : decode cX3_looked 28 = .ok (.invokevirtual 432, 3) := dk_182 1 176 (dk_at dksX3_looked_1 5 rfl rfl)
theorem dX3_looked_31 : decode cX3_looked 31 = .ok (.imul, 1) := dk_104 (dk_at dksX3_looked_1 8 rfl rfl)
theorem dX3_looked_32 : decode cX3_looked 32 = .ok (.istore_n 3, 1) := dk_62 (dk_at dksX3_looked_1 9 rfl rfl)
theorem dX3_looked_33 : decode cX3_looked 33 = .ok (.iload_n 3, 1) := dk_29 (dk_at dksX3_looked_1 10 rfl rfl)
theorem dX3_looked_34 : decode cX3_looked 34 = .ok (.aload_n 0, 1) := dk_42 (dk_at dksX3_looked_1 11 rfl rfl)
theorem dX3_looked_35 : decode cX3_looked 35 = .ok (.getfield 243, 3) := dk_180 0 243 (dk_at dksX3_looked_1 12 rfl rfl)
theorem dX3_looked_38 : decode cX3_looked 38 = .ok (.iadd, 1) := dk_96 (dk_at dksX3_looked_1 15 rfl rfl)
theorem dX3_looked_39 : decode cX3_looked 39 = .ok (.istore_n 3, 1) := dk_62 (dk_at dksX3_looked_1 16 rfl rfl)
theorem dX3_looked_40 : decode cX3_looked 40 = .ok (.aload_n 0, 1) := dk_42 (dk_at dksX3_looked_1 17 rfl rfl)
theorem dX3_looked_41 : decode cX3_looked 41 = .ok (.aload_n 0, 1) := dk_42 (dk_at dksX3_looked_1 18 rfl rfl)
theorem dX3_looked_42 : decode cX3_looked 42 = .ok (.getfield 67, 3) := dk_180 0 67 (dk_at dksX3_looked_1 19 rfl rfl)
theorem dX3_looked_45 : decode cX3_looked 45 = .ok (.iload_n 1, 1) := dk_27 (dk_at dksX3_looked_1 22 rfl rfl)
theorem dX3_looked_46 : decode cX3_looked 46 = .ok (.iaload, 1) := dk_46 (dk_at dksX3_looked_1 23 rfl rfl)
theorem dX3_looked_47 : decode cX3_looked 47 = .ok (.invokevirtual 252, 3) := dk_182 0 252 (dk_at dksX3_looked_2 0 rfl rfl)
theorem dX3_looked_50 : decode cX3_looked 50 = .ok (.iload_n 3, 1) := dk_29 (dk_at dksX3_looked_2 3 rfl rfl)
theorem dX3_looked_51 : decode cX3_looked 51 = .ok (.aload_n 0, 1) := dk_42 (dk_at dksX3_looked_2 4 rfl rfl)
theorem dX3_looked_52 : decode cX3_looked 52 = .ok (.getfield 243, 3) := dk_180 0 243 (dk_at dksX3_looked_2 5 rfl rfl)
theorem dX3_looked_55 : decode cX3_looked 55 = .ok (.iadd, 1) := dk_96 (dk_at dksX3_looked_2 8 rfl rfl)
theorem dX3_looked_56 : decode cX3_looked 56 = .ok (.ireturn, 1) := dk_172 (dk_at dksX3_looked_2 9 rfl rfl)
abbrev cX3_difference : ByteArray := prog_9_method_104_code
def yX3_difference : MethodName := ⟨RX3, "difference", "(IIII)I"⟩
def dkwX3_difference_7 : List UInt8 := [172]
abbrev dktX3_difference_7 : List UInt8 := dkwX3_difference_7 ++ []
def dkwX3_difference_6 : List UInt8 := [18, 170, 172, 132, 5, 1, 132, 6, 1, 167, 255, 175, 29, 2, 160, 0, 8, 21, 5, 167, 0, 5, 18, 170]
abbrev dktX3_difference_6 : List UInt8 := dkwX3_difference_6 ++ dktX3_difference_7
def dkwX3_difference_5 : List UInt8 := [184, 1, 15, 153, 0, 20, 42, 180, 0, 98, 6, 21, 6, 104, 21, 4, 96, 4, 100, 46, 167, 0, 5]
abbrev dktX3_difference_5 : List UInt8 := dkwX3_difference_5 ++ dktX3_difference_6
def dkwX3_difference_4 : List UInt8 := [160, 0, 50, 21, 4, 154, 0, 8, 21, 6, 167, 0, 39, 42, 180, 0, 95, 21, 6, 46, 21, 4, 4, 100]
abbrev dktX3_difference_4 : List UInt8 := dkwX3_difference_4 ++ dktX3_difference_5
def dkwX3_difference_3 : List UInt8 := [17, 3, 231, 163, 0, 79, 42, 21, 6, 3, 4, 182, 1, 106, 154, 0, 6, 167, 0, 59, 21, 5, 29]
abbrev dktX3_difference_3 : List UInt8 := dkwX3_difference_3 ++ dktX3_difference_4
def dkwX3_difference_2 : List UInt8 := [42, 180, 0, 67, 27, 46, 42, 180, 0, 67, 28, 46, 182, 1, 100, 3, 54, 5, 3, 54, 6, 21, 6]
abbrev dktX3_difference_2 : List UInt8 := dkwX3_difference_2 ++ dktX3_difference_3
def dkwX3_difference_1 : List UInt8 := [161, 0, 20, 29, 155, 0, 19, 21, 4, 133, 9, 20, 1, 113, 184, 0, 174, 154, 0, 6, 18, 170, 172, 42]
abbrev dktX3_difference_1 : List UInt8 := dkwX3_difference_1 ++ dktX3_difference_2
def dkwX3_difference_0 : List UInt8 := [42, 3, 181, 0, 116, 42, 27, 182, 1, 53, 153, 0, 33, 42, 28, 182, 1, 53, 153, 0, 25, 29, 2]
abbrev dktX3_difference_0 : List UInt8 := dkwX3_difference_0 ++ dktX3_difference_1
theorem dksX3_difference_0 : cX3_difference.data.toList.drop 0 = dktX3_difference_0 := by decide +kernel
theorem dksX3_difference_1 : cX3_difference.data.toList.drop 23 = dktX3_difference_1 := dk_seg dksX3_difference_0 23 rfl rfl
theorem dksX3_difference_2 : cX3_difference.data.toList.drop 47 = dktX3_difference_2 := dk_seg dksX3_difference_1 24 rfl rfl
theorem dksX3_difference_3 : cX3_difference.data.toList.drop 70 = dktX3_difference_3 := dk_seg dksX3_difference_2 23 rfl rfl
theorem dksX3_difference_4 : cX3_difference.data.toList.drop 93 = dktX3_difference_4 := dk_seg dksX3_difference_3 23 rfl rfl
theorem dksX3_difference_5 : cX3_difference.data.toList.drop 117 = dktX3_difference_5 := dk_seg dksX3_difference_4 24 rfl rfl
theorem dksX3_difference_6 : cX3_difference.data.toList.drop 140 = dktX3_difference_6 := dk_seg dksX3_difference_5 23 rfl rfl
theorem dksX3_difference_7 : cX3_difference.data.toList.drop 164 = dktX3_difference_7 := dk_seg dksX3_difference_6 24 rfl rfl
theorem dX3_difference_0 : decode cX3_difference 0 = .ok (.aload_n 0, 1) := dk_42 (dk_at dksX3_difference_0 0 rfl rfl)
theorem dX3_difference_1 : decode cX3_difference 1 = .ok (.iconst 0, 1) := dk_3 (dk_at dksX3_difference_0 1 rfl rfl)
theorem dX3_difference_2 : decode cX3_difference 2 = .ok (.putfield 116, 3) := dk_181 0 116 (dk_at dksX3_difference_0 2 rfl rfl)
theorem dX3_difference_5 : decode cX3_difference 5 = .ok (.aload_n 0, 1) := dk_42 (dk_at dksX3_difference_0 5 rfl rfl)
theorem dX3_difference_6 : decode cX3_difference 6 = .ok (.iload_n 1, 1) := dk_27 (dk_at dksX3_difference_0 6 rfl rfl)
theorem dX3_difference_7 : decode cX3_difference 7 = .ok (.invokevirtual 309, 3) := dk_182 1 53 (dk_at dksX3_difference_0 7 rfl rfl)
theorem dX3_difference_10 : decode cX3_difference 10 = .ok (.ifCond .eq 33, 3) := dk_153 0 33 (dk_at dksX3_difference_0 10 rfl rfl)
theorem dX3_difference_13 : decode cX3_difference 13 = .ok (.aload_n 0, 1) := dk_42 (dk_at dksX3_difference_0 13 rfl rfl)
theorem dX3_difference_14 : decode cX3_difference 14 = .ok (.iload_n 2, 1) := dk_28 (dk_at dksX3_difference_0 14 rfl rfl)
theorem dX3_difference_15 : decode cX3_difference 15 = .ok (.invokevirtual 309, 3) := dk_182 1 53 (dk_at dksX3_difference_0 15 rfl rfl)
theorem dX3_difference_18 : decode cX3_difference 18 = .ok (.ifCond .eq 25, 3) := dk_153 0 25 (dk_at dksX3_difference_0 18 rfl rfl)
theorem dX3_difference_21 : decode cX3_difference 21 = .ok (.iload_n 3, 1) := dk_29 (dk_at dksX3_difference_0 21 rfl rfl)
theorem dX3_difference_22 : decode cX3_difference 22 = .ok (.iconst (-1), 1) := dk_2 (dk_at dksX3_difference_0 22 rfl rfl)
theorem dX3_difference_23 : decode cX3_difference 23 = .ok (.if_icmp .lt 20, 3) := dk_161 0 20 (dk_at dksX3_difference_1 0 rfl rfl)
theorem dX3_difference_26 : decode cX3_difference 26 = .ok (.iload_n 3, 1) := dk_29 (dk_at dksX3_difference_1 3 rfl rfl)
theorem dX3_difference_27 : decode cX3_difference 27 = .ok (.ifCond .lt 19, 3) := dk_155 0 19 (dk_at dksX3_difference_1 4 rfl rfl)
theorem dX3_difference_30 : decode cX3_difference 30 = .ok (.iload 4, 2) := dk_21 4 (dk_at dksX3_difference_1 7 rfl rfl)
theorem dX3_difference_32 : decode cX3_difference 32 = .ok (.i2l, 1) := dk_133 (dk_at dksX3_difference_1 9 rfl rfl)
theorem dX3_difference_33 : decode cX3_difference 33 = .ok (.lconst 0, 1) := dk_9 (dk_at dksX3_difference_1 10 rfl rfl)
theorem dX3_difference_34 : decode cX3_difference 34 = .ok (.ldc2_w 369, 3) := dk_20 1 113 (dk_at dksX3_difference_1 11 rfl rfl)
theorem dX3_difference_37 : decode cX3_difference 37 = .ok (.invokestatic 174, 3) := dk_184 0 174 (dk_at dksX3_difference_1 14 rfl rfl)
theorem dX3_difference_40 : decode cX3_difference 40 = .ok (.ifCond .ne 6, 3) := dk_154 0 6 (dk_at dksX3_difference_1 17 rfl rfl)
theorem dX3_difference_43 : decode cX3_difference 43 = .ok (.ldc 170, 2) := dk_18 170 (dk_at dksX3_difference_1 20 rfl rfl)
theorem dX3_difference_45 : decode cX3_difference 45 = .ok (.ireturn, 1) := dk_172 (dk_at dksX3_difference_1 22 rfl rfl)
theorem dX3_difference_46 : decode cX3_difference 46 = .ok (.aload_n 0, 1) := dk_42 (dk_at dksX3_difference_1 23 rfl rfl)
theorem dX3_difference_47 : decode cX3_difference 47 = .ok (.aload_n 0, 1) := dk_42 (dk_at dksX3_difference_2 0 rfl rfl)
theorem dX3_difference_48 : decode cX3_difference 48 = .ok (.getfield 67, 3) := dk_180 0 67 (dk_at dksX3_difference_2 1 rfl rfl)
theorem dX3_difference_51 : decode cX3_difference 51 = .ok (.iload_n 1, 1) := dk_27 (dk_at dksX3_difference_2 4 rfl rfl)
theorem dX3_difference_52 : decode cX3_difference 52 = .ok (.iaload, 1) := dk_46 (dk_at dksX3_difference_2 5 rfl rfl)
theorem dX3_difference_53 : decode cX3_difference 53 = .ok (.aload_n 0, 1) := dk_42 (dk_at dksX3_difference_2 6 rfl rfl)
theorem dX3_difference_54 : decode cX3_difference 54 = .ok (.getfield 67, 3) := dk_180 0 67 (dk_at dksX3_difference_2 7 rfl rfl)
theorem dX3_difference_57 : decode cX3_difference 57 = .ok (.iload_n 2, 1) := dk_28 (dk_at dksX3_difference_2 10 rfl rfl)
theorem dX3_difference_58 : decode cX3_difference 58 = .ok (.iaload, 1) := dk_46 (dk_at dksX3_difference_2 11 rfl rfl)
theorem dX3_difference_59 : decode cX3_difference 59 = .ok (.invokevirtual 356, 3) := dk_182 1 100 (dk_at dksX3_difference_2 12 rfl rfl)
theorem dX3_difference_62 : decode cX3_difference 62 = .ok (.iconst 0, 1) := dk_3 (dk_at dksX3_difference_2 15 rfl rfl)
theorem dX3_difference_63 : decode cX3_difference 63 = .ok (.istore 5, 2) := dk_54 5 (dk_at dksX3_difference_2 16 rfl rfl)
theorem dX3_difference_65 : decode cX3_difference 65 = .ok (.iconst 0, 1) := dk_3 (dk_at dksX3_difference_2 18 rfl rfl)
theorem dX3_difference_66 : decode cX3_difference 66 = .ok (.istore 6, 2) := dk_54 6 (dk_at dksX3_difference_2 19 rfl rfl)
theorem dX3_difference_68 : decode cX3_difference 68 = .ok (.iload 6, 2) := dk_21 6 (dk_at dksX3_difference_2 21 rfl rfl)
theorem dX3_difference_70 : decode cX3_difference 70 = .ok (.sipush 999, 3) := dk_17 3 231 (dk_at dksX3_difference_3 0 rfl rfl)
theorem dX3_difference_73 : decode cX3_difference 73 = .ok (.if_icmp .gt 79, 3) := dk_163 0 79 (dk_at dksX3_difference_3 3 rfl rfl)
theorem dX3_difference_76 : decode cX3_difference 76 = .ok (.aload_n 0, 1) := dk_42 (dk_at dksX3_difference_3 6 rfl rfl)
theorem dX3_difference_77 : decode cX3_difference 77 = .ok (.iload 6, 2) := dk_21 6 (dk_at dksX3_difference_3 7 rfl rfl)
theorem dX3_difference_79 : decode cX3_difference 79 = .ok (.iconst 0, 1) := dk_3 (dk_at dksX3_difference_3 9 rfl rfl)
theorem dX3_difference_80 : decode cX3_difference 80 = .ok (.iconst 1, 1) := dk_4 (dk_at dksX3_difference_3 10 rfl rfl)
theorem dX3_difference_81 : decode cX3_difference 81 = .ok (.invokevirtual 362, 3) := dk_182 1 106 (dk_at dksX3_difference_3 11 rfl rfl)
theorem dX3_difference_84 : decode cX3_difference 84 = .ok (.ifCond .ne 6, 3) := dk_154 0 6 (dk_at dksX3_difference_3 14 rfl rfl)
theorem dX3_difference_87 : decode cX3_difference 87 = .ok (.goto 59, 3) := dk_167 0 59 (dk_at dksX3_difference_3 17 rfl rfl)
theorem dX3_difference_90 : decode cX3_difference 90 = .ok (.iload 5, 2) := dk_21 5 (dk_at dksX3_difference_3 20 rfl rfl)
theorem dX3_difference_92 : decode cX3_difference 92 = .ok (.iload_n 3, 1) := dk_29 (dk_at dksX3_difference_3 22 rfl rfl)
theorem dX3_difference_93 : decode cX3_difference 93 = .ok (.if_icmp .ne 50, 3) := dk_160 0 50 (dk_at dksX3_difference_4 0 rfl rfl)
theorem dX3_difference_96 : decode cX3_difference 96 = .ok (.iload 4, 2) := dk_21 4 (dk_at dksX3_difference_4 3 rfl rfl)
theorem dX3_difference_98 : decode cX3_difference 98 = .ok (.ifCond .ne 8, 3) := dk_154 0 8 (dk_at dksX3_difference_4 5 rfl rfl)
theorem dX3_difference_101 : decode cX3_difference 101 = .ok (.iload 6, 2) := dk_21 6 (dk_at dksX3_difference_4 8 rfl rfl)
theorem dX3_difference_103 : decode cX3_difference 103 = .ok (.goto 39, 3) := dk_167 0 39 (dk_at dksX3_difference_4 10 rfl rfl)
theorem dX3_difference_106 : decode cX3_difference 106 = .ok (.aload_n 0, 1) := dk_42 (dk_at dksX3_difference_4 13 rfl rfl)
theorem dX3_difference_107 : decode cX3_difference 107 = .ok (.getfield 95, 3) := dk_180 0 95 (dk_at dksX3_difference_4 14 rfl rfl)
theorem dX3_difference_110 : decode cX3_difference 110 = .ok (.iload 6, 2) := dk_21 6 (dk_at dksX3_difference_4 17 rfl rfl)
theorem dX3_difference_112 : decode cX3_difference 112 = .ok (.iaload, 1) := dk_46 (dk_at dksX3_difference_4 19 rfl rfl)
theorem dX3_difference_113 : decode cX3_difference 113 = .ok (.iload 4, 2) := dk_21 4 (dk_at dksX3_difference_4 20 rfl rfl)
theorem dX3_difference_115 : decode cX3_difference 115 = .ok (.iconst 1, 1) := dk_4 (dk_at dksX3_difference_4 22 rfl rfl)
theorem dX3_difference_116 : decode cX3_difference 116 = .ok (.isub, 1) := dk_100 (dk_at dksX3_difference_4 23 rfl rfl)
theorem dX3_difference_117 : decode cX3_difference 117 = .ok (.invokestatic 271, 3) := dk_184 1 15 (dk_at dksX3_difference_5 0 rfl rfl)
theorem dX3_difference_120 : decode cX3_difference 120 = .ok (.ifCond .eq 20, 3) := dk_153 0 20 (dk_at dksX3_difference_5 3 rfl rfl)
theorem dX3_difference_123 : decode cX3_difference 123 = .ok (.aload_n 0, 1) := dk_42 (dk_at dksX3_difference_5 6 rfl rfl)
theorem dX3_difference_124 : decode cX3_difference 124 = .ok (.getfield 98, 3) := dk_180 0 98 (dk_at dksX3_difference_5 7 rfl rfl)
theorem dX3_difference_127 : decode cX3_difference 127 = .ok (.iconst 3, 1) := dk_6 (dk_at dksX3_difference_5 10 rfl rfl)
theorem dX3_difference_128 : decode cX3_difference 128 = .ok (.iload 6, 2) := dk_21 6 (dk_at dksX3_difference_5 11 rfl rfl)
theorem dX3_difference_130 : decode cX3_difference 130 = .ok (.imul, 1) := dk_104 (dk_at dksX3_difference_5 13 rfl rfl)
theorem dX3_difference_131 : decode cX3_difference 131 = .ok (.iload 4, 2) := dk_21 4 (dk_at dksX3_difference_5 14 rfl rfl)
theorem dX3_difference_133 : decode cX3_difference 133 = .ok (.iadd, 1) := dk_96 (dk_at dksX3_difference_5 16 rfl rfl)
theorem dX3_difference_134 : decode cX3_difference 134 = .ok (.iconst 1, 1) := dk_4 (dk_at dksX3_difference_5 17 rfl rfl)
theorem dX3_difference_135 : decode cX3_difference 135 = .ok (.isub, 1) := dk_100 (dk_at dksX3_difference_5 18 rfl rfl)
theorem dX3_difference_136 : decode cX3_difference 136 = .ok (.iaload, 1) := dk_46 (dk_at dksX3_difference_5 19 rfl rfl)
theorem dX3_difference_137 : decode cX3_difference 137 = .ok (.goto 5, 3) := dk_167 0 5 (dk_at dksX3_difference_5 20 rfl rfl)
theorem dX3_difference_140 : decode cX3_difference 140 = .ok (.ldc 170, 2) := dk_18 170 (dk_at dksX3_difference_6 0 rfl rfl)
theorem dX3_difference_142 : decode cX3_difference 142 = .ok (.ireturn, 1) := dk_172 (dk_at dksX3_difference_6 2 rfl rfl)
theorem dX3_difference_143 : decode cX3_difference 143 = .ok (.iinc 5 1, 3) := dk_132 5 1 (dk_at dksX3_difference_6 3 rfl rfl)
theorem dX3_difference_146 : decode cX3_difference 146 = .ok (.iinc 6 1, 3) := dk_132 6 1 (dk_at dksX3_difference_6 6 rfl rfl)
theorem dX3_difference_149 : decode cX3_difference 149 = .ok (.goto (-81), 3) := dk_167 255 175 (dk_at dksX3_difference_6 9 rfl rfl)
theorem dX3_difference_152 : decode cX3_difference 152 = .ok (.iload_n 3, 1) := dk_29 (dk_at dksX3_difference_6 12 rfl rfl)
theorem dX3_difference_153 : decode cX3_difference 153 = .ok (.iconst (-1), 1) := dk_2 (dk_at dksX3_difference_6 13 rfl rfl)
theorem dX3_difference_154 : decode cX3_difference 154 = .ok (.if_icmp .ne 8, 3) := dk_160 0 8 (dk_at dksX3_difference_6 14 rfl rfl)
theorem dX3_difference_157 : decode cX3_difference 157 = .ok (.iload 5, 2) := dk_21 5 (dk_at dksX3_difference_6 17 rfl rfl)
theorem dX3_difference_159 : decode cX3_difference 159 = .ok (.goto 5, 3) := dk_167 0 5 (dk_at dksX3_difference_6 19 rfl rfl)
theorem dX3_difference_162 : decode cX3_difference 162 = .ok (.ldc 170, 2) := dk_18 170 (dk_at dksX3_difference_6 22 rfl rfl)
theorem dX3_difference_164 : decode cX3_difference 164 = .ok (.ireturn, 1) := dk_172 (dk_at dksX3_difference_7 0 rfl rfl)
abbrev cX3_alike : ByteArray := prog_9_method_111_code
def yX3_alike : MethodName := ⟨RX3, "alike", "(III)I"⟩
def dkwX3_alike_3 : List UInt8 := [167, 0, 4, 3, 172]
abbrev dktX3_alike_3 : List UInt8 := dkwX3_alike_3 ++ []
def dkwX3_alike_2 : List UInt8 := [167, 0, 22, 42, 42, 180, 0, 67, 27, 46, 42, 180, 0, 67, 28, 46, 182, 1, 194, 153, 0, 7, 4]
abbrev dktX3_alike_2 : List UInt8 := dkwX3_alike_2 ++ dktX3_alike_3
def dkwX3_alike_1 : List UInt8 := [10, 184, 0, 174, 154, 0, 5, 2, 172, 29, 154, 0, 15, 42, 27, 28, 182, 1, 197, 153, 0, 29]
abbrev dktX3_alike_1 : List UInt8 := dkwX3_alike_1 ++ dktX3_alike_2
def dkwX3_alike_0 : List UInt8 := [42, 3, 181, 0, 116, 42, 27, 182, 1, 53, 153, 0, 21, 42, 28, 182, 1, 53, 153, 0, 13, 29, 133, 9]
abbrev dktX3_alike_0 : List UInt8 := dkwX3_alike_0 ++ dktX3_alike_1
theorem dksX3_alike_0 : cX3_alike.data.toList.drop 0 = dktX3_alike_0 := by decide +kernel
theorem dksX3_alike_1 : cX3_alike.data.toList.drop 24 = dktX3_alike_1 := dk_seg dksX3_alike_0 24 rfl rfl
theorem dksX3_alike_2 : cX3_alike.data.toList.drop 46 = dktX3_alike_2 := dk_seg dksX3_alike_1 22 rfl rfl
theorem dksX3_alike_3 : cX3_alike.data.toList.drop 69 = dktX3_alike_3 := dk_seg dksX3_alike_2 23 rfl rfl
theorem dX3_alike_0 : decode cX3_alike 0 = .ok (.aload_n 0, 1) := dk_42 (dk_at dksX3_alike_0 0 rfl rfl)
theorem dX3_alike_1 : decode cX3_alike 1 = .ok (.iconst 0, 1) := dk_3 (dk_at dksX3_alike_0 1 rfl rfl)
theorem dX3_alike_2 : decode cX3_alike 2 = .ok (.putfield 116, 3) := dk_181 0 116 (dk_at dksX3_alike_0 2 rfl rfl)
theorem dX3_alike_5 : decode cX3_alike 5 = .ok (.aload_n 0, 1) := dk_42 (dk_at dksX3_alike_0 5 rfl rfl)
theorem dX3_alike_6 : decode cX3_alike 6 = .ok (.iload_n 1, 1) := dk_27 (dk_at dksX3_alike_0 6 rfl rfl)
theorem dX3_alike_7 : decode cX3_alike 7 = .ok (.invokevirtual 309, 3) := dk_182 1 53 (dk_at dksX3_alike_0 7 rfl rfl)
theorem dX3_alike_10 : decode cX3_alike 10 = .ok (.ifCond .eq 21, 3) := dk_153 0 21 (dk_at dksX3_alike_0 10 rfl rfl)
theorem dX3_alike_13 : decode cX3_alike 13 = .ok (.aload_n 0, 1) := dk_42 (dk_at dksX3_alike_0 13 rfl rfl)
theorem dX3_alike_14 : decode cX3_alike 14 = .ok (.iload_n 2, 1) := dk_28 (dk_at dksX3_alike_0 14 rfl rfl)
theorem dX3_alike_15 : decode cX3_alike 15 = .ok (.invokevirtual 309, 3) := dk_182 1 53 (dk_at dksX3_alike_0 15 rfl rfl)
theorem dX3_alike_18 : decode cX3_alike 18 = .ok (.ifCond .eq 13, 3) := dk_153 0 13 (dk_at dksX3_alike_0 18 rfl rfl)
theorem dX3_alike_21 : decode cX3_alike 21 = .ok (.iload_n 3, 1) := dk_29 (dk_at dksX3_alike_0 21 rfl rfl)
theorem dX3_alike_22 : decode cX3_alike 22 = .ok (.i2l, 1) := dk_133 (dk_at dksX3_alike_0 22 rfl rfl)
theorem dX3_alike_23 : decode cX3_alike 23 = .ok (.lconst 0, 1) := dk_9 (dk_at dksX3_alike_0 23 rfl rfl)
theorem dX3_alike_24 : decode cX3_alike 24 = .ok (.lconst 1, 1) := dk_10 (dk_at dksX3_alike_1 0 rfl rfl)
theorem dX3_alike_25 : decode cX3_alike 25 = .ok (.invokestatic 174, 3) := dk_184 0 174 (dk_at dksX3_alike_1 1 rfl rfl)
theorem dX3_alike_28 : decode cX3_alike 28 = .ok (.ifCond .ne 5, 3) := dk_154 0 5 (dk_at dksX3_alike_1 4 rfl rfl)
theorem dX3_alike_31 : decode cX3_alike 31 = .ok (.iconst (-1), 1) := dk_2 (dk_at dksX3_alike_1 7 rfl rfl)
theorem dX3_alike_32 : decode cX3_alike 32 = .ok (.ireturn, 1) := dk_172 (dk_at dksX3_alike_1 8 rfl rfl)
theorem dX3_alike_33 : decode cX3_alike 33 = .ok (.iload_n 3, 1) := dk_29 (dk_at dksX3_alike_1 9 rfl rfl)
theorem dX3_alike_34 : decode cX3_alike 34 = .ok (.ifCond .ne 15, 3) := dk_154 0 15 (dk_at dksX3_alike_1 10 rfl rfl)
theorem dX3_alike_37 : decode cX3_alike 37 = .ok (.aload_n 0, 1) := dk_42 (dk_at dksX3_alike_1 13 rfl rfl)
theorem dX3_alike_38 : decode cX3_alike 38 = .ok (.iload_n 1, 1) := dk_27 (dk_at dksX3_alike_1 14 rfl rfl)
theorem dX3_alike_39 : decode cX3_alike 39 = .ok (.iload_n 2, 1) := dk_28 (dk_at dksX3_alike_1 15 rfl rfl)
theorem dX3_alike_40 : decode cX3_alike 40 = .ok (.invokevirtual 453, 3) := dk_182 1 197 (dk_at dksX3_alike_1 16 rfl rfl)
theorem dX3_alike_43 : decode cX3_alike 43 = .ok (.ifCond .eq 29, 3) := dk_153 0 29 (dk_at dksX3_alike_1 19 rfl rfl)
theorem dX3_alike_46 : decode cX3_alike 46 = .ok (.goto 22, 3) := dk_167 0 22 (dk_at dksX3_alike_2 0 rfl rfl)
theorem dX3_alike_49 : decode cX3_alike 49 = .ok (.aload_n 0, 1) := dk_42 (dk_at dksX3_alike_2 3 rfl rfl)
theorem dX3_alike_50 : decode cX3_alike 50 = .ok (.aload_n 0, 1) := dk_42 (dk_at dksX3_alike_2 4 rfl rfl)
theorem dX3_alike_51 : decode cX3_alike 51 = .ok (.getfield 67, 3) := dk_180 0 67 (dk_at dksX3_alike_2 5 rfl rfl)
theorem dX3_alike_54 : decode cX3_alike 54 = .ok (.iload_n 1, 1) := dk_27 (dk_at dksX3_alike_2 8 rfl rfl)
theorem dX3_alike_55 : decode cX3_alike 55 = .ok (.iaload, 1) := dk_46 (dk_at dksX3_alike_2 9 rfl rfl)
theorem dX3_alike_56 : decode cX3_alike 56 = .ok (.aload_n 0, 1) := dk_42 (dk_at dksX3_alike_2 10 rfl rfl)
theorem dX3_alike_57 : decode cX3_alike 57 = .ok (.getfield 67, 3) := dk_180 0 67 (dk_at dksX3_alike_2 11 rfl rfl)
theorem dX3_alike_60 : decode cX3_alike 60 = .ok (.iload_n 2, 1) := dk_28 (dk_at dksX3_alike_2 14 rfl rfl)
theorem dX3_alike_61 : decode cX3_alike 61 = .ok (.iaload, 1) := dk_46 (dk_at dksX3_alike_2 15 rfl rfl)
theorem dX3_alike_62 : decode cX3_alike 62 = .ok (.invokevirtual 450, 3) := dk_182 1 194 (dk_at dksX3_alike_2 16 rfl rfl)
theorem dX3_alike_65 : decode cX3_alike 65 = .ok (.ifCond .eq 7, 3) := dk_153 0 7 (dk_at dksX3_alike_2 19 rfl rfl)
theorem dX3_alike_68 : decode cX3_alike 68 = .ok (.iconst 1, 1) := dk_4 (dk_at dksX3_alike_2 22 rfl rfl)
theorem dX3_alike_69 : decode cX3_alike 69 = .ok (.goto 4, 3) := dk_167 0 4 (dk_at dksX3_alike_3 0 rfl rfl)
theorem dX3_alike_72 : decode cX3_alike 72 = .ok (.iconst 0, 1) := dk_3 (dk_at dksX3_alike_3 3 rfl rfl)
theorem dX3_alike_73 : decode cX3_alike 73 = .ok (.ireturn, 1) := dk_172 (dk_at dksX3_alike_3 4 rfl rfl)
abbrev cX3_holdSame : ByteArray := prog_9_method_110_code
def yX3_holdSame : MethodName := ⟨RX3, "holdSame", "(II)Z"⟩
def dkwX3_holdSame_1 : List UInt8 := [163, 0, 21, 42, 29, 3, 4, 182, 1, 106, 153, 0, 5, 3, 172, 132, 3, 1, 167, 255, 234, 4, 172]
abbrev dktX3_holdSame_1 : List UInt8 := dkwX3_holdSame_1 ++ []
def dkwX3_holdSame_0 : List UInt8 := [42, 42, 180, 0, 67, 27, 46, 42, 180, 0, 67, 28, 46, 182, 1, 100, 3, 62, 29, 17, 3, 231]
abbrev dktX3_holdSame_0 : List UInt8 := dkwX3_holdSame_0 ++ dktX3_holdSame_1
theorem dksX3_holdSame_0 : cX3_holdSame.data.toList.drop 0 = dktX3_holdSame_0 := by decide +kernel
theorem dksX3_holdSame_1 : cX3_holdSame.data.toList.drop 22 = dktX3_holdSame_1 := dk_seg dksX3_holdSame_0 22 rfl rfl
theorem dX3_holdSame_0 : decode cX3_holdSame 0 = .ok (.aload_n 0, 1) := dk_42 (dk_at dksX3_holdSame_0 0 rfl rfl)
theorem dX3_holdSame_1 : decode cX3_holdSame 1 = .ok (.aload_n 0, 1) := dk_42 (dk_at dksX3_holdSame_0 1 rfl rfl)
theorem dX3_holdSame_2 : decode cX3_holdSame 2 = .ok (.getfield 67, 3) := dk_180 0 67 (dk_at dksX3_holdSame_0 2 rfl rfl)
theorem dX3_holdSame_5 : decode cX3_holdSame 5 = .ok (.iload_n 1, 1) := dk_27 (dk_at dksX3_holdSame_0 5 rfl rfl)
theorem dX3_holdSame_6 : decode cX3_holdSame 6 = .ok (.iaload, 1) := dk_46 (dk_at dksX3_holdSame_0 6 rfl rfl)
theorem dX3_holdSame_7 : decode cX3_holdSame 7 = .ok (.aload_n 0, 1) := dk_42 (dk_at dksX3_holdSame_0 7 rfl rfl)
theorem dX3_holdSame_8 : decode cX3_holdSame 8 = .ok (.getfield 67, 3) := dk_180 0 67 (dk_at dksX3_holdSame_0 8 rfl rfl)
theorem dX3_holdSame_11 : decode cX3_holdSame 11 = .ok (.iload_n 2, 1) := dk_28 (dk_at dksX3_holdSame_0 11 rfl rfl)
theorem dX3_holdSame_12 : decode cX3_holdSame 12 = .ok (.iaload, 1) := dk_46 (dk_at dksX3_holdSame_0 12 rfl rfl)
theorem dX3_holdSame_13 : decode cX3_holdSame 13 = .ok (.invokevirtual 356, 3) := dk_182 1 100 (dk_at dksX3_holdSame_0 13 rfl rfl)
theorem dX3_holdSame_16 : decode cX3_holdSame 16 = .ok (.iconst 0, 1) := dk_3 (dk_at dksX3_holdSame_0 16 rfl rfl)
theorem dX3_holdSame_17 : decode cX3_holdSame 17 = .ok (.istore_n 3, 1) := dk_62 (dk_at dksX3_holdSame_0 17 rfl rfl)
theorem dX3_holdSame_18 : decode cX3_holdSame 18 = .ok (.iload_n 3, 1) := dk_29 (dk_at dksX3_holdSame_0 18 rfl rfl)
theorem dX3_holdSame_19 : decode cX3_holdSame 19 = .ok (.sipush 999, 3) := dk_17 3 231 (dk_at dksX3_holdSame_0 19 rfl rfl)
theorem dX3_holdSame_22 : decode cX3_holdSame 22 = .ok (.if_icmp .gt 21, 3) := dk_163 0 21 (dk_at dksX3_holdSame_1 0 rfl rfl)
theorem dX3_holdSame_25 : decode cX3_holdSame 25 = .ok (.aload_n 0, 1) := dk_42 (dk_at dksX3_holdSame_1 3 rfl rfl)
theorem dX3_holdSame_26 : decode cX3_holdSame 26 = .ok (.iload_n 3, 1) := dk_29 (dk_at dksX3_holdSame_1 4 rfl rfl)
theorem dX3_holdSame_27 : decode cX3_holdSame 27 = .ok (.iconst 0, 1) := dk_3 (dk_at dksX3_holdSame_1 5 rfl rfl)
theorem dX3_holdSame_28 : decode cX3_holdSame 28 = .ok (.iconst 1, 1) := dk_4 (dk_at dksX3_holdSame_1 6 rfl rfl)
theorem dX3_holdSame_29 : decode cX3_holdSame 29 = .ok (.invokevirtual 362, 3) := dk_182 1 106 (dk_at dksX3_holdSame_1 7 rfl rfl)
theorem dX3_holdSame_32 : decode cX3_holdSame 32 = .ok (.ifCond .eq 5, 3) := dk_153 0 5 (dk_at dksX3_holdSame_1 10 rfl rfl)
theorem dX3_holdSame_35 : decode cX3_holdSame 35 = .ok (.iconst 0, 1) := dk_3 (dk_at dksX3_holdSame_1 13 rfl rfl)
theorem dX3_holdSame_36 : decode cX3_holdSame 36 = .ok (.ireturn, 1) := dk_172 (dk_at dksX3_holdSame_1 14 rfl rfl)
theorem dX3_holdSame_37 : decode cX3_holdSame 37 = .ok (.iinc 3 1, 3) := dk_132 3 1 (dk_at dksX3_holdSame_1 15 rfl rfl)
theorem dX3_holdSame_40 : decode cX3_holdSame 40 = .ok (.goto (-22), 3) := dk_167 255 234 (dk_at dksX3_holdSame_1 18 rfl rfl)
theorem dX3_holdSame_43 : decode cX3_holdSame 43 = .ok (.iconst 1, 1) := dk_4 (dk_at dksX3_holdSame_1 21 rfl rfl)
theorem dX3_holdSame_44 : decode cX3_holdSame 44 = .ok (.ireturn, 1) := dk_172 (dk_at dksX3_holdSame_1 22 rfl rfl)
abbrev cX3_areNodesAlike : ByteArray := prog_9_method_109_code
def yX3_areNodesAlike : MethodName := ⟨RX3, "areNodesAlike", "(II)Z"⟩
def dkwX3_areNodesAlike_6 : List UInt8 := [62, 132, 4, 1, 167, 255, 148, 29, 172]
abbrev dktX3_areNodesAlike_6 : List UInt8 := dkwX3_areNodesAlike_6 ++ []
def dkwX3_areNodesAlike_5 : List UInt8 := [21, 4, 96, 46, 42, 180, 0, 42, 16, 7, 28, 104, 21, 4, 96, 46, 160, 0, 7, 4, 167, 0, 4, 3]
abbrev dktX3_areNodesAlike_5 : List UInt8 := dkwX3_areNodesAlike_5 ++ dktX3_areNodesAlike_6
def dkwX3_areNodesAlike_4 : List UInt8 := [46, 42, 180, 0, 39, 16, 7, 28, 104, 21, 4, 96, 46, 160, 0, 34, 42, 180, 0, 42, 16, 7, 27, 104]
abbrev dktX3_areNodesAlike_4 : List UInt8 := dkwX3_areNodesAlike_4 ++ dktX3_areNodesAlike_5
def dkwX3_areNodesAlike_3 : List UInt8 := [42, 28, 21, 4, 182, 0, 197, 182, 1, 194, 167, 0, 62, 42, 180, 0, 39, 16, 7, 27, 104, 21, 4, 96]
abbrev dktX3_areNodesAlike_3 : List UInt8 := dkwX3_areNodesAlike_3 ++ dktX3_areNodesAlike_4
def dkwX3_areNodesAlike_2 : List UInt8 := [162, 0, 103, 29, 153, 0, 99, 42, 180, 0, 23, 27, 46, 154, 0, 24, 42, 42, 27, 21, 4, 182, 0, 197]
abbrev dktX3_areNodesAlike_2 : List UInt8 := dkwX3_areNodesAlike_2 ++ dktX3_areNodesAlike_3
def dkwX3_areNodesAlike_1 : List UInt8 := [180, 0, 26, 28, 46, 159, 0, 5, 3, 172, 4, 62, 3, 54, 4, 21, 4, 42, 180, 0, 26, 27, 46]
abbrev dktX3_areNodesAlike_1 : List UInt8 := dkwX3_areNodesAlike_1 ++ dktX3_areNodesAlike_2
def dkwX3_areNodesAlike_0 : List UInt8 := [42, 180, 0, 23, 27, 46, 42, 180, 0, 23, 28, 46, 160, 0, 18, 42, 180, 0, 26, 27, 46, 42]
abbrev dktX3_areNodesAlike_0 : List UInt8 := dkwX3_areNodesAlike_0 ++ dktX3_areNodesAlike_1
theorem dksX3_areNodesAlike_0 : cX3_areNodesAlike.data.toList.drop 0 = dktX3_areNodesAlike_0 := by decide +kernel
theorem dksX3_areNodesAlike_1 : cX3_areNodesAlike.data.toList.drop 22 = dktX3_areNodesAlike_1 := dk_seg dksX3_areNodesAlike_0 22 rfl rfl
theorem dksX3_areNodesAlike_2 : cX3_areNodesAlike.data.toList.drop 45 = dktX3_areNodesAlike_2 := dk_seg dksX3_areNodesAlike_1 23 rfl rfl
theorem dksX3_areNodesAlike_3 : cX3_areNodesAlike.data.toList.drop 69 = dktX3_areNodesAlike_3 := dk_seg dksX3_areNodesAlike_2 24 rfl rfl
theorem dksX3_areNodesAlike_4 : cX3_areNodesAlike.data.toList.drop 93 = dktX3_areNodesAlike_4 := dk_seg dksX3_areNodesAlike_3 24 rfl rfl
theorem dksX3_areNodesAlike_5 : cX3_areNodesAlike.data.toList.drop 117 = dktX3_areNodesAlike_5 := dk_seg dksX3_areNodesAlike_4 24 rfl rfl
theorem dksX3_areNodesAlike_6 : cX3_areNodesAlike.data.toList.drop 141 = dktX3_areNodesAlike_6 := dk_seg dksX3_areNodesAlike_5 24 rfl rfl
theorem dX3_areNodesAlike_0 : decode cX3_areNodesAlike 0 = .ok (.aload_n 0, 1) := dk_42 (dk_at dksX3_areNodesAlike_0 0 rfl rfl)
theorem dX3_areNodesAlike_1 : decode cX3_areNodesAlike 1 = .ok (.getfield 23, 3) := dk_180 0 23 (dk_at dksX3_areNodesAlike_0 1 rfl rfl)
theorem dX3_areNodesAlike_4 : decode cX3_areNodesAlike 4 = .ok (.iload_n 1, 1) := dk_27 (dk_at dksX3_areNodesAlike_0 4 rfl rfl)
theorem dX3_areNodesAlike_5 : decode cX3_areNodesAlike 5 = .ok (.iaload, 1) := dk_46 (dk_at dksX3_areNodesAlike_0 5 rfl rfl)
theorem dX3_areNodesAlike_6 : decode cX3_areNodesAlike 6 = .ok (.aload_n 0, 1) := dk_42 (dk_at dksX3_areNodesAlike_0 6 rfl rfl)
theorem dX3_areNodesAlike_7 : decode cX3_areNodesAlike 7 = .ok (.getfield 23, 3) := dk_180 0 23 (dk_at dksX3_areNodesAlike_0 7 rfl rfl)
theorem dX3_areNodesAlike_10 : decode cX3_areNodesAlike 10 = .ok (.iload_n 2, 1) := dk_28 (dk_at dksX3_areNodesAlike_0 10 rfl rfl)
theorem dX3_areNodesAlike_11 : decode cX3_areNodesAlike 11 = .ok (.iaload, 1) := dk_46 (dk_at dksX3_areNodesAlike_0 11 rfl rfl)
theorem dX3_areNodesAlike_12 : decode cX3_areNodesAlike 12 = .ok (.if_icmp .ne 18, 3) := dk_160 0 18 (dk_at dksX3_areNodesAlike_0 12 rfl rfl)
theorem dX3_areNodesAlike_15 : decode cX3_areNodesAlike 15 = .ok (.aload_n 0, 1) := dk_42 (dk_at dksX3_areNodesAlike_0 15 rfl rfl)
theorem dX3_areNodesAlike_16 : decode cX3_areNodesAlike 16 = .ok (.getfield 26, 3) := dk_180 0 26 (dk_at dksX3_areNodesAlike_0 16 rfl rfl)
theorem dX3_areNodesAlike_19 : decode cX3_areNodesAlike 19 = .ok (.iload_n 1, 1) := dk_27 (dk_at dksX3_areNodesAlike_0 19 rfl rfl)
theorem dX3_areNodesAlike_20 : decode cX3_areNodesAlike 20 = .ok (.iaload, 1) := dk_46 (dk_at dksX3_areNodesAlike_0 20 rfl rfl)
theorem dX3_areNodesAlike_21 : decode cX3_areNodesAlike 21 = .ok (.aload_n 0, 1) := dk_42 (dk_at dksX3_areNodesAlike_0 21 rfl rfl)
theorem dX3_areNodesAlike_22 : decode cX3_areNodesAlike 22 = .ok (.getfield 26, 3) := dk_180 0 26 (dk_at dksX3_areNodesAlike_1 0 rfl rfl)
theorem dX3_areNodesAlike_25 : decode cX3_areNodesAlike 25 = .ok (.iload_n 2, 1) := dk_28 (dk_at dksX3_areNodesAlike_1 3 rfl rfl)
theorem dX3_areNodesAlike_26 : decode cX3_areNodesAlike 26 = .ok (.iaload, 1) := dk_46 (dk_at dksX3_areNodesAlike_1 4 rfl rfl)
theorem dX3_areNodesAlike_27 : decode cX3_areNodesAlike 27 = .ok (.if_icmp .eq 5, 3) := dk_159 0 5 (dk_at dksX3_areNodesAlike_1 5 rfl rfl)
theorem dX3_areNodesAlike_30 : decode cX3_areNodesAlike 30 = .ok (.iconst 0, 1) := dk_3 (dk_at dksX3_areNodesAlike_1 8 rfl rfl)
theorem dX3_areNodesAlike_31 : decode cX3_areNodesAlike 31 = .ok (.ireturn, 1) := dk_172 (dk_at dksX3_areNodesAlike_1 9 rfl rfl)
theorem dX3_areNodesAlike_32 : decode cX3_areNodesAlike 32 = .ok (.iconst 1, 1) := dk_4 (dk_at dksX3_areNodesAlike_1 10 rfl rfl)
theorem dX3_areNodesAlike_33 : decode cX3_areNodesAlike 33 = .ok (.istore_n 3, 1) := dk_62 (dk_at dksX3_areNodesAlike_1 11 rfl rfl)
theorem dX3_areNodesAlike_34 : decode cX3_areNodesAlike 34 = .ok (.iconst 0, 1) := dk_3 (dk_at dksX3_areNodesAlike_1 12 rfl rfl)
theorem dX3_areNodesAlike_35 : decode cX3_areNodesAlike 35 = .ok (.istore 4, 2) := dk_54 4 (dk_at dksX3_areNodesAlike_1 13 rfl rfl)
theorem dX3_areNodesAlike_37 : decode cX3_areNodesAlike 37 = .ok (.iload 4, 2) := dk_21 4 (dk_at dksX3_areNodesAlike_1 15 rfl rfl)
theorem dX3_areNodesAlike_39 : decode cX3_areNodesAlike 39 = .ok (.aload_n 0, 1) := dk_42 (dk_at dksX3_areNodesAlike_1 17 rfl rfl)
theorem dX3_areNodesAlike_40 : decode cX3_areNodesAlike 40 = .ok (.getfield 26, 3) := dk_180 0 26 (dk_at dksX3_areNodesAlike_1 18 rfl rfl)
theorem dX3_areNodesAlike_43 : decode cX3_areNodesAlike 43 = .ok (.iload_n 1, 1) := dk_27 (dk_at dksX3_areNodesAlike_1 21 rfl rfl)
theorem dX3_areNodesAlike_44 : decode cX3_areNodesAlike 44 = .ok (.iaload, 1) := dk_46 (dk_at dksX3_areNodesAlike_1 22 rfl rfl)
theorem dX3_areNodesAlike_45 : decode cX3_areNodesAlike 45 = .ok (.if_icmp .ge 103, 3) := dk_162 0 103 (dk_at dksX3_areNodesAlike_2 0 rfl rfl)
theorem dX3_areNodesAlike_48 : decode cX3_areNodesAlike 48 = .ok (.iload_n 3, 1) := dk_29 (dk_at dksX3_areNodesAlike_2 3 rfl rfl)
theorem dX3_areNodesAlike_49 : decode cX3_areNodesAlike 49 = .ok (.ifCond .eq 99, 3) := dk_153 0 99 (dk_at dksX3_areNodesAlike_2 4 rfl rfl)
theorem dX3_areNodesAlike_52 : decode cX3_areNodesAlike 52 = .ok (.aload_n 0, 1) := dk_42 (dk_at dksX3_areNodesAlike_2 7 rfl rfl)
theorem dX3_areNodesAlike_53 : decode cX3_areNodesAlike 53 = .ok (.getfield 23, 3) := dk_180 0 23 (dk_at dksX3_areNodesAlike_2 8 rfl rfl)
theorem dX3_areNodesAlike_56 : decode cX3_areNodesAlike 56 = .ok (.iload_n 1, 1) := dk_27 (dk_at dksX3_areNodesAlike_2 11 rfl rfl)
theorem dX3_areNodesAlike_57 : decode cX3_areNodesAlike 57 = .ok (.iaload, 1) := dk_46 (dk_at dksX3_areNodesAlike_2 12 rfl rfl)
theorem dX3_areNodesAlike_58 : decode cX3_areNodesAlike 58 = .ok (.ifCond .ne 24, 3) := dk_154 0 24 (dk_at dksX3_areNodesAlike_2 13 rfl rfl)
theorem dX3_areNodesAlike_61 : decode cX3_areNodesAlike 61 = .ok (.aload_n 0, 1) := dk_42 (dk_at dksX3_areNodesAlike_2 16 rfl rfl)
theorem dX3_areNodesAlike_62 : decode cX3_areNodesAlike 62 = .ok (.aload_n 0, 1) := dk_42 (dk_at dksX3_areNodesAlike_2 17 rfl rfl)
theorem dX3_areNodesAlike_63 : decode cX3_areNodesAlike 63 = .ok (.iload_n 1, 1) := dk_27 (dk_at dksX3_areNodesAlike_2 18 rfl rfl)
theorem dX3_areNodesAlike_64 : decode cX3_areNodesAlike 64 = .ok (.iload 4, 2) := dk_21 4 (dk_at dksX3_areNodesAlike_2 19 rfl rfl)
theorem dX3_areNodesAlike_66 : decode cX3_areNodesAlike 66 = .ok (.invokevirtual 197, 3) := dk_182 0 197 (dk_at dksX3_areNodesAlike_2 21 rfl rfl)
theorem dX3_areNodesAlike_69 : decode cX3_areNodesAlike 69 = .ok (.aload_n 0, 1) := dk_42 (dk_at dksX3_areNodesAlike_3 0 rfl rfl)
theorem dX3_areNodesAlike_70 : decode cX3_areNodesAlike 70 = .ok (.iload_n 2, 1) := dk_28 (dk_at dksX3_areNodesAlike_3 1 rfl rfl)
theorem dX3_areNodesAlike_71 : decode cX3_areNodesAlike 71 = .ok (.iload 4, 2) := dk_21 4 (dk_at dksX3_areNodesAlike_3 2 rfl rfl)
theorem dX3_areNodesAlike_73 : decode cX3_areNodesAlike 73 = .ok (.invokevirtual 197, 3) := dk_182 0 197 (dk_at dksX3_areNodesAlike_3 4 rfl rfl)
theorem dX3_areNodesAlike_76 : decode cX3_areNodesAlike 76 = .ok (.invokevirtual 450, 3) := dk_182 1 194 (dk_at dksX3_areNodesAlike_3 7 rfl rfl)
theorem dX3_areNodesAlike_79 : decode cX3_areNodesAlike 79 = .ok (.goto 62, 3) := dk_167 0 62 (dk_at dksX3_areNodesAlike_3 10 rfl rfl)
theorem dX3_areNodesAlike_82 : decode cX3_areNodesAlike 82 = .ok (.aload_n 0, 1) := dk_42 (dk_at dksX3_areNodesAlike_3 13 rfl rfl)
theorem dX3_areNodesAlike_83 : decode cX3_areNodesAlike 83 = .ok (.getfield 39, 3) := dk_180 0 39 (dk_at dksX3_areNodesAlike_3 14 rfl rfl)
theorem dX3_areNodesAlike_86 : decode cX3_areNodesAlike 86 = .ok (.bipush 7, 2) := dk_16 7 (dk_at dksX3_areNodesAlike_3 17 rfl rfl)
theorem dX3_areNodesAlike_88 : decode cX3_areNodesAlike 88 = .ok (.iload_n 1, 1) := dk_27 (dk_at dksX3_areNodesAlike_3 19 rfl rfl)
theorem dX3_areNodesAlike_89 : decode cX3_areNodesAlike 89 = .ok (.imul, 1) := dk_104 (dk_at dksX3_areNodesAlike_3 20 rfl rfl)
theorem dX3_areNodesAlike_90 : decode cX3_areNodesAlike 90 = .ok (.iload 4, 2) := dk_21 4 (dk_at dksX3_areNodesAlike_3 21 rfl rfl)
theorem dX3_areNodesAlike_92 : decode cX3_areNodesAlike 92 = .ok (.iadd, 1) := dk_96 (dk_at dksX3_areNodesAlike_3 23 rfl rfl)
theorem dX3_areNodesAlike_93 : decode cX3_areNodesAlike 93 = .ok (.iaload, 1) := dk_46 (dk_at dksX3_areNodesAlike_4 0 rfl rfl)
theorem dX3_areNodesAlike_94 : decode cX3_areNodesAlike 94 = .ok (.aload_n 0, 1) := dk_42 (dk_at dksX3_areNodesAlike_4 1 rfl rfl)
theorem dX3_areNodesAlike_95 : decode cX3_areNodesAlike 95 = .ok (.getfield 39, 3) := dk_180 0 39 (dk_at dksX3_areNodesAlike_4 2 rfl rfl)
theorem dX3_areNodesAlike_98 : decode cX3_areNodesAlike 98 = .ok (.bipush 7, 2) := dk_16 7 (dk_at dksX3_areNodesAlike_4 5 rfl rfl)
theorem dX3_areNodesAlike_100 : decode cX3_areNodesAlike 100 = .ok (.iload_n 2, 1) := dk_28 (dk_at dksX3_areNodesAlike_4 7 rfl rfl)
theorem dX3_areNodesAlike_101 : decode cX3_areNodesAlike 101 = .ok (.imul, 1) := dk_104 (dk_at dksX3_areNodesAlike_4 8 rfl rfl)
theorem dX3_areNodesAlike_102 : decode cX3_areNodesAlike 102 = .ok (.iload 4, 2) := dk_21 4 (dk_at dksX3_areNodesAlike_4 9 rfl rfl)
theorem dX3_areNodesAlike_104 : decode cX3_areNodesAlike 104 = .ok (.iadd, 1) := dk_96 (dk_at dksX3_areNodesAlike_4 11 rfl rfl)
theorem dX3_areNodesAlike_105 : decode cX3_areNodesAlike 105 = .ok (.iaload, 1) := dk_46 (dk_at dksX3_areNodesAlike_4 12 rfl rfl)
theorem dX3_areNodesAlike_106 : decode cX3_areNodesAlike 106 = .ok (.if_icmp .ne 34, 3) := dk_160 0 34 (dk_at dksX3_areNodesAlike_4 13 rfl rfl)
theorem dX3_areNodesAlike_109 : decode cX3_areNodesAlike 109 = .ok (.aload_n 0, 1) := dk_42 (dk_at dksX3_areNodesAlike_4 16 rfl rfl)
theorem dX3_areNodesAlike_110 : decode cX3_areNodesAlike 110 = .ok (.getfield 42, 3) := dk_180 0 42 (dk_at dksX3_areNodesAlike_4 17 rfl rfl)
theorem dX3_areNodesAlike_113 : decode cX3_areNodesAlike 113 = .ok (.bipush 7, 2) := dk_16 7 (dk_at dksX3_areNodesAlike_4 20 rfl rfl)
theorem dX3_areNodesAlike_115 : decode cX3_areNodesAlike 115 = .ok (.iload_n 1, 1) := dk_27 (dk_at dksX3_areNodesAlike_4 22 rfl rfl)
theorem dX3_areNodesAlike_116 : decode cX3_areNodesAlike 116 = .ok (.imul, 1) := dk_104 (dk_at dksX3_areNodesAlike_4 23 rfl rfl)
theorem dX3_areNodesAlike_117 : decode cX3_areNodesAlike 117 = .ok (.iload 4, 2) := dk_21 4 (dk_at dksX3_areNodesAlike_5 0 rfl rfl)
theorem dX3_areNodesAlike_119 : decode cX3_areNodesAlike 119 = .ok (.iadd, 1) := dk_96 (dk_at dksX3_areNodesAlike_5 2 rfl rfl)
theorem dX3_areNodesAlike_120 : decode cX3_areNodesAlike 120 = .ok (.iaload, 1) := dk_46 (dk_at dksX3_areNodesAlike_5 3 rfl rfl)
theorem dX3_areNodesAlike_121 : decode cX3_areNodesAlike 121 = .ok (.aload_n 0, 1) := dk_42 (dk_at dksX3_areNodesAlike_5 4 rfl rfl)
theorem dX3_areNodesAlike_122 : decode cX3_areNodesAlike 122 = .ok (.getfield 42, 3) := dk_180 0 42 (dk_at dksX3_areNodesAlike_5 5 rfl rfl)
theorem dX3_areNodesAlike_125 : decode cX3_areNodesAlike 125 = .ok (.bipush 7, 2) := dk_16 7 (dk_at dksX3_areNodesAlike_5 8 rfl rfl)
theorem dX3_areNodesAlike_127 : decode cX3_areNodesAlike 127 = .ok (.iload_n 2, 1) := dk_28 (dk_at dksX3_areNodesAlike_5 10 rfl rfl)
theorem dX3_areNodesAlike_128 : decode cX3_areNodesAlike 128 = .ok (.imul, 1) := dk_104 (dk_at dksX3_areNodesAlike_5 11 rfl rfl)
theorem dX3_areNodesAlike_129 : decode cX3_areNodesAlike 129 = .ok (.iload 4, 2) := dk_21 4 (dk_at dksX3_areNodesAlike_5 12 rfl rfl)
theorem dX3_areNodesAlike_131 : decode cX3_areNodesAlike 131 = .ok (.iadd, 1) := dk_96 (dk_at dksX3_areNodesAlike_5 14 rfl rfl)
theorem dX3_areNodesAlike_132 : decode cX3_areNodesAlike 132 = .ok (.iaload, 1) := dk_46 (dk_at dksX3_areNodesAlike_5 15 rfl rfl)
theorem dX3_areNodesAlike_133 : decode cX3_areNodesAlike 133 = .ok (.if_icmp .ne 7, 3) := dk_160 0 7 (dk_at dksX3_areNodesAlike_5 16 rfl rfl)
theorem dX3_areNodesAlike_136 : decode cX3_areNodesAlike 136 = .ok (.iconst 1, 1) := dk_4 (dk_at dksX3_areNodesAlike_5 19 rfl rfl)
theorem dX3_areNodesAlike_137 : decode cX3_areNodesAlike 137 = .ok (.goto 4, 3) := dk_167 0 4 (dk_at dksX3_areNodesAlike_5 20 rfl rfl)
theorem dX3_areNodesAlike_140 : decode cX3_areNodesAlike 140 = .ok (.iconst 0, 1) := dk_3 (dk_at dksX3_areNodesAlike_5 23 rfl rfl)
theorem dX3_areNodesAlike_141 : decode cX3_areNodesAlike 141 = .ok (.istore_n 3, 1) := dk_62 (dk_at dksX3_areNodesAlike_6 0 rfl rfl)
theorem dX3_areNodesAlike_142 : decode cX3_areNodesAlike 142 = .ok (.iinc 4 1, 3) := dk_132 4 1 (dk_at dksX3_areNodesAlike_6 1 rfl rfl)
theorem dX3_areNodesAlike_145 : decode cX3_areNodesAlike 145 = .ok (.goto (-108), 3) := dk_167 255 148 (dk_at dksX3_areNodesAlike_6 4 rfl rfl)
theorem dX3_areNodesAlike_148 : decode cX3_areNodesAlike 148 = .ok (.iload_n 3, 1) := dk_29 (dk_at dksX3_areNodesAlike_6 7 rfl rfl)
theorem dX3_areNodesAlike_149 : decode cX3_areNodesAlike 149 = .ok (.ireturn, 1) := dk_172 (dk_at dksX3_areNodesAlike_6 8 rfl rfl)
abbrev cX3_fork : ByteArray := prog_9_method_113_code
def yX3_fork : MethodName := ⟨RX3, "fork", "(II)I"⟩
def dkwX3_fork_4 : List UInt8 := [29, 172]
abbrev dktX3_fork_4 : List UInt8 := dkwX3_fork_4 ++ []
def dkwX3_fork_3 : List UInt8 := [42, 180, 0, 113, 21, 4, 46, 6, 160, 0, 8, 21, 4, 167, 0, 4, 29, 62, 132, 4, 1, 167, 255, 226]
abbrev dktX3_fork_3 : List UInt8 := dkwX3_fork_3 ++ dktX3_fork_4
def dkwX3_fork_2 : List UInt8 := [4, 182, 1, 200, 42, 28, 5, 182, 1, 200, 2, 62, 3, 54, 4, 21, 4, 42, 180, 1, 5, 162, 0, 27]
abbrev dktX3_fork_2 : List UInt8 := dkwX3_fork_2 ++ dktX3_fork_3
def dkwX3_fork_1 : List UInt8 := [62, 29, 42, 180, 1, 5, 162, 0, 16, 42, 180, 0, 113, 29, 3, 79, 132, 3, 1, 167, 255, 238, 42, 27]
abbrev dktX3_fork_1 : List UInt8 := dkwX3_fork_1 ++ dktX3_fork_2
def dkwX3_fork_0 : List UInt8 := [42, 3, 181, 0, 116, 42, 27, 182, 1, 53, 153, 0, 11, 42, 28, 182, 1, 53, 154, 0, 5, 2, 172, 3]
abbrev dktX3_fork_0 : List UInt8 := dkwX3_fork_0 ++ dktX3_fork_1
theorem dksX3_fork_0 : cX3_fork.data.toList.drop 0 = dktX3_fork_0 := by decide +kernel
theorem dksX3_fork_1 : cX3_fork.data.toList.drop 24 = dktX3_fork_1 := dk_seg dksX3_fork_0 24 rfl rfl
theorem dksX3_fork_2 : cX3_fork.data.toList.drop 48 = dktX3_fork_2 := dk_seg dksX3_fork_1 24 rfl rfl
theorem dksX3_fork_3 : cX3_fork.data.toList.drop 72 = dktX3_fork_3 := dk_seg dksX3_fork_2 24 rfl rfl
theorem dksX3_fork_4 : cX3_fork.data.toList.drop 96 = dktX3_fork_4 := dk_seg dksX3_fork_3 24 rfl rfl
theorem dX3_fork_0 : decode cX3_fork 0 = .ok (.aload_n 0, 1) := dk_42 (dk_at dksX3_fork_0 0 rfl rfl)
theorem dX3_fork_1 : decode cX3_fork 1 = .ok (.iconst 0, 1) := dk_3 (dk_at dksX3_fork_0 1 rfl rfl)
theorem dX3_fork_2 : decode cX3_fork 2 = .ok (.putfield 116, 3) := dk_181 0 116 (dk_at dksX3_fork_0 2 rfl rfl)
theorem dX3_fork_5 : decode cX3_fork 5 = .ok (.aload_n 0, 1) := dk_42 (dk_at dksX3_fork_0 5 rfl rfl)
theorem dX3_fork_6 : decode cX3_fork 6 = .ok (.iload_n 1, 1) := dk_27 (dk_at dksX3_fork_0 6 rfl rfl)
theorem dX3_fork_7 : decode cX3_fork 7 = .ok (.invokevirtual 309, 3) := dk_182 1 53 (dk_at dksX3_fork_0 7 rfl rfl)
theorem dX3_fork_10 : decode cX3_fork 10 = .ok (.ifCond .eq 11, 3) := dk_153 0 11 (dk_at dksX3_fork_0 10 rfl rfl)
theorem dX3_fork_13 : decode cX3_fork 13 = .ok (.aload_n 0, 1) := dk_42 (dk_at dksX3_fork_0 13 rfl rfl)
theorem dX3_fork_14 : decode cX3_fork 14 = .ok (.iload_n 2, 1) := dk_28 (dk_at dksX3_fork_0 14 rfl rfl)
theorem dX3_fork_15 : decode cX3_fork 15 = .ok (.invokevirtual 309, 3) := dk_182 1 53 (dk_at dksX3_fork_0 15 rfl rfl)
theorem dX3_fork_18 : decode cX3_fork 18 = .ok (.ifCond .ne 5, 3) := dk_154 0 5 (dk_at dksX3_fork_0 18 rfl rfl)
theorem dX3_fork_21 : decode cX3_fork 21 = .ok (.iconst (-1), 1) := dk_2 (dk_at dksX3_fork_0 21 rfl rfl)
theorem dX3_fork_22 : decode cX3_fork 22 = .ok (.ireturn, 1) := dk_172 (dk_at dksX3_fork_0 22 rfl rfl)
theorem dX3_fork_23 : decode cX3_fork 23 = .ok (.iconst 0, 1) := dk_3 (dk_at dksX3_fork_0 23 rfl rfl)
theorem dX3_fork_24 : decode cX3_fork 24 = .ok (.istore_n 3, 1) := dk_62 (dk_at dksX3_fork_1 0 rfl rfl)
theorem dX3_fork_25 : decode cX3_fork 25 = .ok (.iload_n 3, 1) := dk_29 (dk_at dksX3_fork_1 1 rfl rfl)
theorem dX3_fork_26 : decode cX3_fork 26 = .ok (.aload_n 0, 1) := dk_42 (dk_at dksX3_fork_1 2 rfl rfl)
theorem dX3_fork_27 : decode cX3_fork 27 = .ok (.getfield 261, 3) := dk_180 1 5 (dk_at dksX3_fork_1 3 rfl rfl)
theorem dX3_fork_30 : decode cX3_fork 30 = .ok (.if_icmp .ge 16, 3) := dk_162 0 16 (dk_at dksX3_fork_1 6 rfl rfl)
theorem dX3_fork_33 : decode cX3_fork 33 = .ok (.aload_n 0, 1) := dk_42 (dk_at dksX3_fork_1 9 rfl rfl)
theorem dX3_fork_34 : decode cX3_fork 34 = .ok (.getfield 113, 3) := dk_180 0 113 (dk_at dksX3_fork_1 10 rfl rfl)
theorem dX3_fork_37 : decode cX3_fork 37 = .ok (.iload_n 3, 1) := dk_29 (dk_at dksX3_fork_1 13 rfl rfl)
theorem dX3_fork_38 : decode cX3_fork 38 = .ok (.iconst 0, 1) := dk_3 (dk_at dksX3_fork_1 14 rfl rfl)
theorem dX3_fork_39 : decode cX3_fork 39 = .ok (.iastore, 1) := dk_79 (dk_at dksX3_fork_1 15 rfl rfl)
theorem dX3_fork_40 : decode cX3_fork 40 = .ok (.iinc 3 1, 3) := dk_132 3 1 (dk_at dksX3_fork_1 16 rfl rfl)
theorem dX3_fork_43 : decode cX3_fork 43 = .ok (.goto (-18), 3) := dk_167 255 238 (dk_at dksX3_fork_1 19 rfl rfl)
theorem dX3_fork_46 : decode cX3_fork 46 = .ok (.aload_n 0, 1) := dk_42 (dk_at dksX3_fork_1 22 rfl rfl)
theorem dX3_fork_47 : decode cX3_fork 47 = .ok (.iload_n 1, 1) := dk_27 (dk_at dksX3_fork_1 23 rfl rfl)
theorem dX3_fork_48 : decode cX3_fork 48 = .ok (.iconst 1, 1) := dk_4 (dk_at dksX3_fork_2 0 rfl rfl)
theorem dX3_fork_49 : decode cX3_fork 49 = .ok (.invokevirtual 456, 3) := dk_182 1 200 (dk_at dksX3_fork_2 1 rfl rfl)
theorem dX3_fork_52 : decode cX3_fork 52 = .ok (.aload_n 0, 1) := dk_42 (dk_at dksX3_fork_2 4 rfl rfl)
theorem dX3_fork_53 : decode cX3_fork 53 = .ok (.iload_n 2, 1) := dk_28 (dk_at dksX3_fork_2 5 rfl rfl)
theorem dX3_fork_54 : decode cX3_fork 54 = .ok (.iconst 2, 1) := dk_5 (dk_at dksX3_fork_2 6 rfl rfl)
theorem dX3_fork_55 : decode cX3_fork 55 = .ok (.invokevirtual 456, 3) := dk_182 1 200 (dk_at dksX3_fork_2 7 rfl rfl)
theorem dX3_fork_58 : decode cX3_fork 58 = .ok (.iconst (-1), 1) := dk_2 (dk_at dksX3_fork_2 10 rfl rfl)
theorem dX3_fork_59 : decode cX3_fork 59 = .ok (.istore_n 3, 1) := dk_62 (dk_at dksX3_fork_2 11 rfl rfl)
theorem dX3_fork_60 : decode cX3_fork 60 = .ok (.iconst 0, 1) := dk_3 (dk_at dksX3_fork_2 12 rfl rfl)
theorem dX3_fork_61 : decode cX3_fork 61 = .ok (.istore 4, 2) := dk_54 4 (dk_at dksX3_fork_2 13 rfl rfl)
theorem dX3_fork_63 : decode cX3_fork 63 = .ok (.iload 4, 2) := dk_21 4 (dk_at dksX3_fork_2 15 rfl rfl)
theorem dX3_fork_65 : decode cX3_fork 65 = .ok (.aload_n 0, 1) := dk_42 (dk_at dksX3_fork_2 17 rfl rfl)
theorem dX3_fork_66 : decode cX3_fork 66 = .ok (.getfield 261, 3) := dk_180 1 5 (dk_at dksX3_fork_2 18 rfl rfl)
theorem dX3_fork_69 : decode cX3_fork 69 = .ok (.if_icmp .ge 27, 3) := dk_162 0 27 (dk_at dksX3_fork_2 21 rfl rfl)
theorem dX3_fork_72 : decode cX3_fork 72 = .ok (.aload_n 0, 1) := dk_42 (dk_at dksX3_fork_3 0 rfl rfl)
theorem dX3_fork_73 : decode cX3_fork 73 = .ok (.getfield 113, 3) := dk_180 0 113 (dk_at dksX3_fork_3 1 rfl rfl)
theorem dX3_fork_76 : decode cX3_fork 76 = .ok (.iload 4, 2) := dk_21 4 (dk_at dksX3_fork_3 4 rfl rfl)
theorem dX3_fork_78 : decode cX3_fork 78 = .ok (.iaload, 1) := dk_46 (dk_at dksX3_fork_3 6 rfl rfl)
theorem dX3_fork_79 : decode cX3_fork 79 = .ok (.iconst 3, 1) := dk_6 (dk_at dksX3_fork_3 7 rfl rfl)
theorem dX3_fork_80 : decode cX3_fork 80 = .ok (.if_icmp .ne 8, 3) := dk_160 0 8 (dk_at dksX3_fork_3 8 rfl rfl)
theorem dX3_fork_83 : decode cX3_fork 83 = .ok (.iload 4, 2) := dk_21 4 (dk_at dksX3_fork_3 11 rfl rfl)
theorem dX3_fork_85 : decode cX3_fork 85 = .ok (.goto 4, 3) := dk_167 0 4 (dk_at dksX3_fork_3 13 rfl rfl)
theorem dX3_fork_88 : decode cX3_fork 88 = .ok (.iload_n 3, 1) := dk_29 (dk_at dksX3_fork_3 16 rfl rfl)
theorem dX3_fork_89 : decode cX3_fork 89 = .ok (.istore_n 3, 1) := dk_62 (dk_at dksX3_fork_3 17 rfl rfl)
theorem dX3_fork_90 : decode cX3_fork 90 = .ok (.iinc 4 1, 3) := dk_132 4 1 (dk_at dksX3_fork_3 18 rfl rfl)
theorem dX3_fork_93 : decode cX3_fork 93 = .ok (.goto (-30), 3) := dk_167 255 226 (dk_at dksX3_fork_3 21 rfl rfl)
theorem dX3_fork_96 : decode cX3_fork 96 = .ok (.iload_n 3, 1) := dk_29 (dk_at dksX3_fork_4 0 rfl rfl)
theorem dX3_fork_97 : decode cX3_fork 97 = .ok (.ireturn, 1) := dk_172 (dk_at dksX3_fork_4 1 rfl rfl)
abbrev cX3_laysSources : ByteArray := prog_9_method_112_code
def yX3_laysSources : MethodName := ⟨RX3, "laysSources", "(II)V"⟩
def dkwX3_laysSources_3 : List UInt8 := [180, 0, 73, 29, 46, 92, 46, 28, 128, 79, 132, 3, 255, 167, 255, 185, 177]
abbrev dktX3_laysSources_3 : List UInt8 := dkwX3_laysSources_3 ++ []
def dkwX3_laysSources_2 : List UInt8 := [29, 46, 92, 46, 28, 128, 79, 42, 180, 0, 73, 29, 46, 2, 159, 0, 18, 42, 180, 0, 113, 42]
abbrev dktX3_laysSources_2 : List UInt8 := dkwX3_laysSources_2 ++ dktX3_laysSources_3
def dkwX3_laysSources_1 : List UInt8 := [154, 0, 6, 167, 0, 53, 42, 180, 0, 70, 29, 46, 2, 159, 0, 18, 42, 180, 0, 113, 42, 180, 0, 70]
abbrev dktX3_laysSources_1 : List UInt8 := dkwX3_laysSources_1 ++ dktX3_laysSources_2
def dkwX3_laysSources_0 : List UInt8 := [42, 180, 0, 113, 27, 92, 46, 28, 128, 79, 27, 62, 29, 155, 0, 73, 42, 180, 0, 113, 29, 46, 28, 126]
abbrev dktX3_laysSources_0 : List UInt8 := dkwX3_laysSources_0 ++ dktX3_laysSources_1
theorem dksX3_laysSources_0 : cX3_laysSources.data.toList.drop 0 = dktX3_laysSources_0 := by decide +kernel
theorem dksX3_laysSources_1 : cX3_laysSources.data.toList.drop 24 = dktX3_laysSources_1 := dk_seg dksX3_laysSources_0 24 rfl rfl
theorem dksX3_laysSources_2 : cX3_laysSources.data.toList.drop 48 = dktX3_laysSources_2 := dk_seg dksX3_laysSources_1 24 rfl rfl
theorem dksX3_laysSources_3 : cX3_laysSources.data.toList.drop 70 = dktX3_laysSources_3 := dk_seg dksX3_laysSources_2 22 rfl rfl
theorem dX3_laysSources_0 : decode cX3_laysSources 0 = .ok (.aload_n 0, 1) := dk_42 (dk_at dksX3_laysSources_0 0 rfl rfl)
theorem dX3_laysSources_1 : decode cX3_laysSources 1 = .ok (.getfield 113, 3) := dk_180 0 113 (dk_at dksX3_laysSources_0 1 rfl rfl)
theorem dX3_laysSources_4 : decode cX3_laysSources 4 = .ok (.iload_n 1, 1) := dk_27 (dk_at dksX3_laysSources_0 4 rfl rfl)
theorem dX3_laysSources_5 : decode cX3_laysSources 5 = .ok (.dup2, 1) := dk_92 (dk_at dksX3_laysSources_0 5 rfl rfl)
theorem dX3_laysSources_6 : decode cX3_laysSources 6 = .ok (.iaload, 1) := dk_46 (dk_at dksX3_laysSources_0 6 rfl rfl)
theorem dX3_laysSources_7 : decode cX3_laysSources 7 = .ok (.iload_n 2, 1) := dk_28 (dk_at dksX3_laysSources_0 7 rfl rfl)
theorem dX3_laysSources_8 : decode cX3_laysSources 8 = .ok (.ior, 1) := dk_128 (dk_at dksX3_laysSources_0 8 rfl rfl)
theorem dX3_laysSources_9 : decode cX3_laysSources 9 = .ok (.iastore, 1) := dk_79 (dk_at dksX3_laysSources_0 9 rfl rfl)
theorem dX3_laysSources_10 : decode cX3_laysSources 10 = .ok (.iload_n 1, 1) := dk_27 (dk_at dksX3_laysSources_0 10 rfl rfl)
theorem dX3_laysSources_11 : decode cX3_laysSources 11 = .ok (.istore_n 3, 1) := dk_62 (dk_at dksX3_laysSources_0 11 rfl rfl)
theorem dX3_laysSources_12 : decode cX3_laysSources 12 = .ok (.iload_n 3, 1) := dk_29 (dk_at dksX3_laysSources_0 12 rfl rfl)
theorem dX3_laysSources_13 : decode cX3_laysSources 13 = .ok (.ifCond .lt 73, 3) := dk_155 0 73 (dk_at dksX3_laysSources_0 13 rfl rfl)
theorem dX3_laysSources_16 : decode cX3_laysSources 16 = .ok (.aload_n 0, 1) := dk_42 (dk_at dksX3_laysSources_0 16 rfl rfl)
theorem dX3_laysSources_17 : decode cX3_laysSources 17 = .ok (.getfield 113, 3) := dk_180 0 113 (dk_at dksX3_laysSources_0 17 rfl rfl)
theorem dX3_laysSources_20 : decode cX3_laysSources 20 = .ok (.iload_n 3, 1) := dk_29 (dk_at dksX3_laysSources_0 20 rfl rfl)
theorem dX3_laysSources_21 : decode cX3_laysSources 21 = .ok (.iaload, 1) := dk_46 (dk_at dksX3_laysSources_0 21 rfl rfl)
theorem dX3_laysSources_22 : decode cX3_laysSources 22 = .ok (.iload_n 2, 1) := dk_28 (dk_at dksX3_laysSources_0 22 rfl rfl)
theorem dX3_laysSources_23 : decode cX3_laysSources 23 = .ok (.iand, 1) := dk_126 (dk_at dksX3_laysSources_0 23 rfl rfl)
theorem dX3_laysSources_24 : decode cX3_laysSources 24 = .ok (.ifCond .ne 6, 3) := dk_154 0 6 (dk_at dksX3_laysSources_1 0 rfl rfl)
theorem dX3_laysSources_27 : decode cX3_laysSources 27 = .ok (.goto 53, 3) := dk_167 0 53 (dk_at dksX3_laysSources_1 3 rfl rfl)
theorem dX3_laysSources_30 : decode cX3_laysSources 30 = .ok (.aload_n 0, 1) := dk_42 (dk_at dksX3_laysSources_1 6 rfl rfl)
theorem dX3_laysSources_31 : decode cX3_laysSources 31 = .ok (.getfield 70, 3) := dk_180 0 70 (dk_at dksX3_laysSources_1 7 rfl rfl)
theorem dX3_laysSources_34 : decode cX3_laysSources 34 = .ok (.iload_n 3, 1) := dk_29 (dk_at dksX3_laysSources_1 10 rfl rfl)
theorem dX3_laysSources_35 : decode cX3_laysSources 35 = .ok (.iaload, 1) := dk_46 (dk_at dksX3_laysSources_1 11 rfl rfl)
theorem dX3_laysSources_36 : decode cX3_laysSources 36 = .ok (.iconst (-1), 1) := dk_2 (dk_at dksX3_laysSources_1 12 rfl rfl)
theorem dX3_laysSources_37 : decode cX3_laysSources 37 = .ok (.if_icmp .eq 18, 3) := dk_159 0 18 (dk_at dksX3_laysSources_1 13 rfl rfl)
theorem dX3_laysSources_40 : decode cX3_laysSources 40 = .ok (.aload_n 0, 1) := dk_42 (dk_at dksX3_laysSources_1 16 rfl rfl)
theorem dX3_laysSources_41 : decode cX3_laysSources 41 = .ok (.getfield 113, 3) := dk_180 0 113 (dk_at dksX3_laysSources_1 17 rfl rfl)
theorem dX3_laysSources_44 : decode cX3_laysSources 44 = .ok (.aload_n 0, 1) := dk_42 (dk_at dksX3_laysSources_1 20 rfl rfl)
theorem dX3_laysSources_45 : decode cX3_laysSources 45 = .ok (.getfield 70, 3) := dk_180 0 70 (dk_at dksX3_laysSources_1 21 rfl rfl)
theorem dX3_laysSources_48 : decode cX3_laysSources 48 = .ok (.iload_n 3, 1) := dk_29 (dk_at dksX3_laysSources_2 0 rfl rfl)
theorem dX3_laysSources_49 : decode cX3_laysSources 49 = .ok (.iaload, 1) := dk_46 (dk_at dksX3_laysSources_2 1 rfl rfl)
theorem dX3_laysSources_50 : decode cX3_laysSources 50 = .ok (.dup2, 1) := dk_92 (dk_at dksX3_laysSources_2 2 rfl rfl)
theorem dX3_laysSources_51 : decode cX3_laysSources 51 = .ok (.iaload, 1) := dk_46 (dk_at dksX3_laysSources_2 3 rfl rfl)
theorem dX3_laysSources_52 : decode cX3_laysSources 52 = .ok (.iload_n 2, 1) := dk_28 (dk_at dksX3_laysSources_2 4 rfl rfl)
theorem dX3_laysSources_53 : decode cX3_laysSources 53 = .ok (.ior, 1) := dk_128 (dk_at dksX3_laysSources_2 5 rfl rfl)
theorem dX3_laysSources_54 : decode cX3_laysSources 54 = .ok (.iastore, 1) := dk_79 (dk_at dksX3_laysSources_2 6 rfl rfl)
theorem dX3_laysSources_55 : decode cX3_laysSources 55 = .ok (.aload_n 0, 1) := dk_42 (dk_at dksX3_laysSources_2 7 rfl rfl)
theorem dX3_laysSources_56 : decode cX3_laysSources 56 = .ok (.getfield 73, 3) := dk_180 0 73 (dk_at dksX3_laysSources_2 8 rfl rfl)
theorem dX3_laysSources_59 : decode cX3_laysSources 59 = .ok (.iload_n 3, 1) := dk_29 (dk_at dksX3_laysSources_2 11 rfl rfl)
theorem dX3_laysSources_60 : decode cX3_laysSources 60 = .ok (.iaload, 1) := dk_46 (dk_at dksX3_laysSources_2 12 rfl rfl)
theorem dX3_laysSources_61 : decode cX3_laysSources 61 = .ok (.iconst (-1), 1) := dk_2 (dk_at dksX3_laysSources_2 13 rfl rfl)
theorem dX3_laysSources_62 : decode cX3_laysSources 62 = .ok (.if_icmp .eq 18, 3) := dk_159 0 18 (dk_at dksX3_laysSources_2 14 rfl rfl)
theorem dX3_laysSources_65 : decode cX3_laysSources 65 = .ok (.aload_n 0, 1) := dk_42 (dk_at dksX3_laysSources_2 17 rfl rfl)
theorem dX3_laysSources_66 : decode cX3_laysSources 66 = .ok (.getfield 113, 3) := dk_180 0 113 (dk_at dksX3_laysSources_2 18 rfl rfl)
theorem dX3_laysSources_69 : decode cX3_laysSources 69 = .ok (.aload_n 0, 1) := dk_42 (dk_at dksX3_laysSources_2 21 rfl rfl)
theorem dX3_laysSources_70 : decode cX3_laysSources 70 = .ok (.getfield 73, 3) := dk_180 0 73 (dk_at dksX3_laysSources_3 0 rfl rfl)
theorem dX3_laysSources_73 : decode cX3_laysSources 73 = .ok (.iload_n 3, 1) := dk_29 (dk_at dksX3_laysSources_3 3 rfl rfl)
theorem dX3_laysSources_74 : decode cX3_laysSources 74 = .ok (.iaload, 1) := dk_46 (dk_at dksX3_laysSources_3 4 rfl rfl)
theorem dX3_laysSources_75 : decode cX3_laysSources 75 = .ok (.dup2, 1) := dk_92 (dk_at dksX3_laysSources_3 5 rfl rfl)
theorem dX3_laysSources_76 : decode cX3_laysSources 76 = .ok (.iaload, 1) := dk_46 (dk_at dksX3_laysSources_3 6 rfl rfl)
theorem dX3_laysSources_77 : decode cX3_laysSources 77 = .ok (.iload_n 2, 1) := dk_28 (dk_at dksX3_laysSources_3 7 rfl rfl)
theorem dX3_laysSources_78 : decode cX3_laysSources 78 = .ok (.ior, 1) := dk_128 (dk_at dksX3_laysSources_3 8 rfl rfl)
theorem dX3_laysSources_79 : decode cX3_laysSources 79 = .ok (.iastore, 1) := dk_79 (dk_at dksX3_laysSources_3 9 rfl rfl)
theorem dX3_laysSources_80 : decode cX3_laysSources 80 = .ok (.iinc 3 (-1), 3) := dk_132 3 255 (dk_at dksX3_laysSources_3 10 rfl rfl)
theorem dX3_laysSources_83 : decode cX3_laysSources 83 = .ok (.goto (-71), 3) := dk_167 255 185 (dk_at dksX3_laysSources_3 13 rfl rfl)
theorem dX3_laysSources_86 : decode cX3_laysSources 86 = .ok (.return_, 1) := dk_177 (dk_at dksX3_laysSources_3 16 rfl rfl)
abbrev cX3_comesFrom : ByteArray := prog_9_method_114_code
def yX3_comesFrom : MethodName := ⟨RX3, "comesFrom", "(II)I"⟩
def dkwX3_comesFrom_2 : List UInt8 := [79, 132, 3, 1, 167, 255, 238, 42, 27, 4, 182, 1, 200, 42, 180, 0, 113, 28, 46, 172]
abbrev dktX3_comesFrom_2 : List UInt8 := dkwX3_comesFrom_2 ++ []
def dkwX3_comesFrom_1 : List UInt8 := [184, 0, 174, 154, 0, 5, 2, 172, 3, 62, 29, 42, 180, 1, 5, 162, 0, 16, 42, 180, 0, 113, 29, 3]
abbrev dktX3_comesFrom_1 : List UInt8 := dkwX3_comesFrom_1 ++ dktX3_comesFrom_2
def dkwX3_comesFrom_0 : List UInt8 := [42, 3, 181, 0, 116, 42, 27, 182, 1, 53, 153, 0, 19, 28, 133, 9, 42, 180, 1, 5, 4, 100, 133]
abbrev dktX3_comesFrom_0 : List UInt8 := dkwX3_comesFrom_0 ++ dktX3_comesFrom_1
theorem dksX3_comesFrom_0 : cX3_comesFrom.data.toList.drop 0 = dktX3_comesFrom_0 := by decide +kernel
theorem dksX3_comesFrom_1 : cX3_comesFrom.data.toList.drop 23 = dktX3_comesFrom_1 := dk_seg dksX3_comesFrom_0 23 rfl rfl
theorem dksX3_comesFrom_2 : cX3_comesFrom.data.toList.drop 47 = dktX3_comesFrom_2 := dk_seg dksX3_comesFrom_1 24 rfl rfl
theorem dX3_comesFrom_0 : decode cX3_comesFrom 0 = .ok (.aload_n 0, 1) := dk_42 (dk_at dksX3_comesFrom_0 0 rfl rfl)
theorem dX3_comesFrom_1 : decode cX3_comesFrom 1 = .ok (.iconst 0, 1) := dk_3 (dk_at dksX3_comesFrom_0 1 rfl rfl)
theorem dX3_comesFrom_2 : decode cX3_comesFrom 2 = .ok (.putfield 116, 3) := dk_181 0 116 (dk_at dksX3_comesFrom_0 2 rfl rfl)
theorem dX3_comesFrom_5 : decode cX3_comesFrom 5 = .ok (.aload_n 0, 1) := dk_42 (dk_at dksX3_comesFrom_0 5 rfl rfl)
theorem dX3_comesFrom_6 : decode cX3_comesFrom 6 = .ok (.iload_n 1, 1) := dk_27 (dk_at dksX3_comesFrom_0 6 rfl rfl)
theorem dX3_comesFrom_7 : decode cX3_comesFrom 7 = .ok (.invokevirtual 309, 3) := dk_182 1 53 (dk_at dksX3_comesFrom_0 7 rfl rfl)
theorem dX3_comesFrom_10 : decode cX3_comesFrom 10 = .ok (.ifCond .eq 19, 3) := dk_153 0 19 (dk_at dksX3_comesFrom_0 10 rfl rfl)
theorem dX3_comesFrom_13 : decode cX3_comesFrom 13 = .ok (.iload_n 2, 1) := dk_28 (dk_at dksX3_comesFrom_0 13 rfl rfl)
theorem dX3_comesFrom_14 : decode cX3_comesFrom 14 = .ok (.i2l, 1) := dk_133 (dk_at dksX3_comesFrom_0 14 rfl rfl)
theorem dX3_comesFrom_15 : decode cX3_comesFrom 15 = .ok (.lconst 0, 1) := dk_9 (dk_at dksX3_comesFrom_0 15 rfl rfl)
theorem dX3_comesFrom_16 : decode cX3_comesFrom 16 = .ok (.aload_n 0, 1) := dk_42 (dk_at dksX3_comesFrom_0 16 rfl rfl)
theorem dX3_comesFrom_17 : decode cX3_comesFrom 17 = .ok (.getfield 261, 3) := dk_180 1 5 (dk_at dksX3_comesFrom_0 17 rfl rfl)
theorem dX3_comesFrom_20 : decode cX3_comesFrom 20 = .ok (.iconst 1, 1) := dk_4 (dk_at dksX3_comesFrom_0 20 rfl rfl)
theorem dX3_comesFrom_21 : decode cX3_comesFrom 21 = .ok (.isub, 1) := dk_100 (dk_at dksX3_comesFrom_0 21 rfl rfl)
theorem dX3_comesFrom_22 : decode cX3_comesFrom 22 = .ok (.i2l, 1) := dk_133 (dk_at dksX3_comesFrom_0 22 rfl rfl)
theorem dX3_comesFrom_23 : decode cX3_comesFrom 23 = .ok (.invokestatic 174, 3) := dk_184 0 174 (dk_at dksX3_comesFrom_1 0 rfl rfl)
theorem dX3_comesFrom_26 : decode cX3_comesFrom 26 = .ok (.ifCond .ne 5, 3) := dk_154 0 5 (dk_at dksX3_comesFrom_1 3 rfl rfl)
theorem dX3_comesFrom_29 : decode cX3_comesFrom 29 = .ok (.iconst (-1), 1) := dk_2 (dk_at dksX3_comesFrom_1 6 rfl rfl)
theorem dX3_comesFrom_30 : decode cX3_comesFrom 30 = .ok (.ireturn, 1) := dk_172 (dk_at dksX3_comesFrom_1 7 rfl rfl)
theorem dX3_comesFrom_31 : decode cX3_comesFrom 31 = .ok (.iconst 0, 1) := dk_3 (dk_at dksX3_comesFrom_1 8 rfl rfl)
theorem dX3_comesFrom_32 : decode cX3_comesFrom 32 = .ok (.istore_n 3, 1) := dk_62 (dk_at dksX3_comesFrom_1 9 rfl rfl)
theorem dX3_comesFrom_33 : decode cX3_comesFrom 33 = .ok (.iload_n 3, 1) := dk_29 (dk_at dksX3_comesFrom_1 10 rfl rfl)
theorem dX3_comesFrom_34 : decode cX3_comesFrom 34 = .ok (.aload_n 0, 1) := dk_42 (dk_at dksX3_comesFrom_1 11 rfl rfl)
theorem dX3_comesFrom_35 : decode cX3_comesFrom 35 = .ok (.getfield 261, 3) := dk_180 1 5 (dk_at dksX3_comesFrom_1 12 rfl rfl)
theorem dX3_comesFrom_38 : decode cX3_comesFrom 38 = .ok (.if_icmp .ge 16, 3) := dk_162 0 16 (dk_at dksX3_comesFrom_1 15 rfl rfl)
theorem dX3_comesFrom_41 : decode cX3_comesFrom 41 = .ok (.aload_n 0, 1) := dk_42 (dk_at dksX3_comesFrom_1 18 rfl rfl)
theorem dX3_comesFrom_42 : decode cX3_comesFrom 42 = .ok (.getfield 113, 3) := dk_180 0 113 (dk_at dksX3_comesFrom_1 19 rfl rfl)
theorem dX3_comesFrom_45 : decode cX3_comesFrom 45 = .ok (.iload_n 3, 1) := dk_29 (dk_at dksX3_comesFrom_1 22 rfl rfl)
theorem dX3_comesFrom_46 : decode cX3_comesFrom 46 = .ok (.iconst 0, 1) := dk_3 (dk_at dksX3_comesFrom_1 23 rfl rfl)
theorem dX3_comesFrom_47 : decode cX3_comesFrom 47 = .ok (.iastore, 1) := dk_79 (dk_at dksX3_comesFrom_2 0 rfl rfl)
theorem dX3_comesFrom_48 : decode cX3_comesFrom 48 = .ok (.iinc 3 1, 3) := dk_132 3 1 (dk_at dksX3_comesFrom_2 1 rfl rfl)
theorem dX3_comesFrom_51 : decode cX3_comesFrom 51 = .ok (.goto (-18), 3) := dk_167 255 238 (dk_at dksX3_comesFrom_2 4 rfl rfl)
theorem dX3_comesFrom_54 : decode cX3_comesFrom 54 = .ok (.aload_n 0, 1) := dk_42 (dk_at dksX3_comesFrom_2 7 rfl rfl)
theorem dX3_comesFrom_55 : decode cX3_comesFrom 55 = .ok (.iload_n 1, 1) := dk_27 (dk_at dksX3_comesFrom_2 8 rfl rfl)
theorem dX3_comesFrom_56 : decode cX3_comesFrom 56 = .ok (.iconst 1, 1) := dk_4 (dk_at dksX3_comesFrom_2 9 rfl rfl)
theorem dX3_comesFrom_57 : decode cX3_comesFrom 57 = .ok (.invokevirtual 456, 3) := dk_182 1 200 (dk_at dksX3_comesFrom_2 10 rfl rfl)
theorem dX3_comesFrom_60 : decode cX3_comesFrom 60 = .ok (.aload_n 0, 1) := dk_42 (dk_at dksX3_comesFrom_2 13 rfl rfl)
theorem dX3_comesFrom_61 : decode cX3_comesFrom 61 = .ok (.getfield 113, 3) := dk_180 0 113 (dk_at dksX3_comesFrom_2 14 rfl rfl)
theorem dX3_comesFrom_64 : decode cX3_comesFrom 64 = .ok (.iload_n 2, 1) := dk_28 (dk_at dksX3_comesFrom_2 17 rfl rfl)
theorem dX3_comesFrom_65 : decode cX3_comesFrom 65 = .ok (.iaload, 1) := dk_46 (dk_at dksX3_comesFrom_2 18 rfl rfl)
theorem dX3_comesFrom_66 : decode cX3_comesFrom 66 = .ok (.ireturn, 1) := dk_172 (dk_at dksX3_comesFrom_2 19 rfl rfl)
abbrev cX3_show : ByteArray := prog_9_method_115_code
def yX3_show : MethodName := ⟨RX3, "show", "(I)I"⟩
def dkwX3_show_2 : List UInt8 := [42, 42, 180, 1, 179, 181, 1, 206, 42, 180, 1, 206, 172]
abbrev dktX3_show_2 : List UInt8 := dkwX3_show_2 ++ []
def dkwX3_show_1 : List UInt8 := [180, 1, 179, 162, 0, 21, 42, 180, 0, 110, 28, 42, 180, 0, 107, 28, 51, 84, 132, 2, 1, 167, 255, 233]
abbrev dktX3_show_1 : List UInt8 := dkwX3_show_1 ++ dktX3_show_2
def dkwX3_show_0 : List UInt8 := [42, 3, 181, 0, 116, 42, 27, 182, 1, 53, 154, 0, 5, 2, 172, 42, 27, 182, 1, 203, 3, 61, 28, 42]
abbrev dktX3_show_0 : List UInt8 := dkwX3_show_0 ++ dktX3_show_1
theorem dksX3_show_0 : cX3_show.data.toList.drop 0 = dktX3_show_0 := by decide +kernel
theorem dksX3_show_1 : cX3_show.data.toList.drop 24 = dktX3_show_1 := dk_seg dksX3_show_0 24 rfl rfl
theorem dksX3_show_2 : cX3_show.data.toList.drop 48 = dktX3_show_2 := dk_seg dksX3_show_1 24 rfl rfl
theorem dX3_show_0 : decode cX3_show 0 = .ok (.aload_n 0, 1) := dk_42 (dk_at dksX3_show_0 0 rfl rfl)
theorem dX3_show_1 : decode cX3_show 1 = .ok (.iconst 0, 1) := dk_3 (dk_at dksX3_show_0 1 rfl rfl)
theorem dX3_show_2 : decode cX3_show 2 = .ok (.putfield 116, 3) := dk_181 0 116 (dk_at dksX3_show_0 2 rfl rfl)
theorem dX3_show_5 : decode cX3_show 5 = .ok (.aload_n 0, 1) := dk_42 (dk_at dksX3_show_0 5 rfl rfl)
theorem dX3_show_6 : decode cX3_show 6 = .ok (.iload_n 1, 1) := dk_27 (dk_at dksX3_show_0 6 rfl rfl)
theorem dX3_show_7 : decode cX3_show 7 = .ok (.invokevirtual 309, 3) := dk_182 1 53 (dk_at dksX3_show_0 7 rfl rfl)
theorem dX3_show_10 : decode cX3_show 10 = .ok (.ifCond .ne 5, 3) := dk_154 0 5 (dk_at dksX3_show_0 10 rfl rfl)
theorem dX3_show_13 : decode cX3_show 13 = .ok (.iconst (-1), 1) := dk_2 (dk_at dksX3_show_0 13 rfl rfl)
theorem dX3_show_14 : decode cX3_show 14 = .ok (.ireturn, 1) := dk_172 (dk_at dksX3_show_0 14 rfl rfl)
theorem dX3_show_15 : decode cX3_show 15 = .ok (.aload_n 0, 1) := dk_42 (dk_at dksX3_show_0 15 rfl rfl)
theorem dX3_show_16 : decode cX3_show 16 = .ok (.iload_n 1, 1) := dk_27 (dk_at dksX3_show_0 16 rfl rfl)
theorem dX3_show_17 : decode cX3_show 17 = .ok (.invokevirtual 459, 3) := dk_182 1 203 (dk_at dksX3_show_0 17 rfl rfl)
theorem dX3_show_20 : decode cX3_show 20 = .ok (.iconst 0, 1) := dk_3 (dk_at dksX3_show_0 20 rfl rfl)
theorem dX3_show_21 : decode cX3_show 21 = .ok (.istore_n 2, 1) := dk_61 (dk_at dksX3_show_0 21 rfl rfl)
theorem dX3_show_22 : decode cX3_show 22 = .ok (.iload_n 2, 1) := dk_28 (dk_at dksX3_show_0 22 rfl rfl)
theorem dX3_show_23 : decode cX3_show 23 = .ok (.aload_n 0, 1) := dk_42 (dk_at dksX3_show_0 23 rfl rfl)
theorem dX3_show_24 : decode cX3_show 24 = .ok (.getfield 435, 3) := dk_180 1 179 (dk_at dksX3_show_1 0 rfl rfl)
theorem dX3_show_27 : decode cX3_show 27 = .ok (.if_icmp .ge 21, 3) := dk_162 0 21 (dk_at dksX3_show_1 3 rfl rfl)
theorem dX3_show_30 : decode cX3_show 30 = .ok (.aload_n 0, 1) := dk_42 (dk_at dksX3_show_1 6 rfl rfl)
theorem dX3_show_31 : decode cX3_show 31 = .ok (.getfield 110, 3) := dk_180 0 110 (dk_at dksX3_show_1 7 rfl rfl)
theorem dX3_show_34 : decode cX3_show 34 = .ok (.iload_n 2, 1) := dk_28 (dk_at dksX3_show_1 10 rfl rfl)
theorem dX3_show_35 : decode cX3_show 35 = .ok (.aload_n 0, 1) := dk_42 (dk_at dksX3_show_1 11 rfl rfl)
theorem dX3_show_36 : decode cX3_show 36 = .ok (.getfield 107, 3) := dk_180 0 107 (dk_at dksX3_show_1 12 rfl rfl)
theorem dX3_show_39 : decode cX3_show 39 = .ok (.iload_n 2, 1) := dk_28 (dk_at dksX3_show_1 15 rfl rfl)
theorem dX3_show_40 : decode cX3_show 40 = .ok (.baload, 1) := dk_51 (dk_at dksX3_show_1 16 rfl rfl)
theorem dX3_show_41 : decode cX3_show 41 = .ok (.bastore, 1) := dk_84 (dk_at dksX3_show_1 17 rfl rfl)
theorem dX3_show_42 : decode cX3_show 42 = .ok (.iinc 2 1, 3) := dk_132 2 1 (dk_at dksX3_show_1 18 rfl rfl)
theorem dX3_show_45 : decode cX3_show 45 = .ok (.goto (-23), 3) := dk_167 255 233 (dk_at dksX3_show_1 21 rfl rfl)
theorem dX3_show_48 : decode cX3_show 48 = .ok (.aload_n 0, 1) := dk_42 (dk_at dksX3_show_2 0 rfl rfl)
theorem dX3_show_49 : decode cX3_show 49 = .ok (.aload_n 0, 1) := dk_42 (dk_at dksX3_show_2 1 rfl rfl)
theorem dX3_show_50 : decode cX3_show 50 = .ok (.getfield 435, 3) := dk_180 1 179 (dk_at dksX3_show_2 2 rfl rfl)
theorem dX3_show_53 : decode cX3_show 53 = .ok (.putfield 462, 3) := dk_181 1 206 (dk_at dksX3_show_2 5 rfl rfl)
theorem dX3_show_56 : decode cX3_show 56 = .ok (.aload_n 0, 1) := dk_42 (dk_at dksX3_show_2 8 rfl rfl)
theorem dX3_show_57 : decode cX3_show 57 = .ok (.getfield 462, 3) := dk_180 1 206 (dk_at dksX3_show_2 9 rfl rfl)
theorem dX3_show_60 : decode cX3_show 60 = .ok (.ireturn, 1) := dk_172 (dk_at dksX3_show_2 12 rfl rfl)
abbrev cX3_laysShown : ByteArray := prog_9_method_108_code
def yX3_laysShown : MethodName := ⟨RX3, "laysShown", "(I)V"⟩
def dkwX3_laysShown_0 : List UInt8 := [42, 3, 181, 1, 179, 42, 42, 180, 0, 67, 27, 46, 182, 1, 188, 177]
abbrev dktX3_laysShown_0 : List UInt8 := dkwX3_laysShown_0 ++ []
theorem dksX3_laysShown_0 : cX3_laysShown.data.toList.drop 0 = dktX3_laysShown_0 := by decide +kernel
theorem dX3_laysShown_0 : decode cX3_laysShown 0 = .ok (.aload_n 0, 1) := dk_42 (dk_at dksX3_laysShown_0 0 rfl rfl)
theorem dX3_laysShown_1 : decode cX3_laysShown 1 = .ok (.iconst 0, 1) := dk_3 (dk_at dksX3_laysShown_0 1 rfl rfl)
theorem dX3_laysShown_2 : decode cX3_laysShown 2 = .ok (.putfield 435, 3) := dk_181 1 179 (dk_at dksX3_laysShown_0 2 rfl rfl)
theorem dX3_laysShown_5 : decode cX3_laysShown 5 = .ok (.aload_n 0, 1) := dk_42 (dk_at dksX3_laysShown_0 5 rfl rfl)
theorem dX3_laysShown_6 : decode cX3_laysShown 6 = .ok (.aload_n 0, 1) := dk_42 (dk_at dksX3_laysShown_0 6 rfl rfl)
theorem dX3_laysShown_7 : decode cX3_laysShown 7 = .ok (.getfield 67, 3) := dk_180 0 67 (dk_at dksX3_laysShown_0 7 rfl rfl)
theorem dX3_laysShown_10 : decode cX3_laysShown 10 = .ok (.iload_n 1, 1) := dk_27 (dk_at dksX3_laysShown_0 10 rfl rfl)
theorem dX3_laysShown_11 : decode cX3_laysShown 11 = .ok (.iaload, 1) := dk_46 (dk_at dksX3_laysShown_0 11 rfl rfl)
theorem dX3_laysShown_12 : decode cX3_laysShown 12 = .ok (.invokevirtual 444, 3) := dk_182 1 188 (dk_at dksX3_laysShown_0 12 rfl rfl)
theorem dX3_laysShown_15 : decode cX3_laysShown 15 = .ok (.return_, 1) := dk_177 (dk_at dksX3_laysShown_0 15 rfl rfl)
abbrev cX3_writesNode : ByteArray := prog_9_method_107_code
def yX3_writesNode : MethodName := ⟨RX3, "writesNode", "(I)V"⟩
def dkwX3_writesNode_5 : List UInt8 := [16, 93, 167, 0, 5, 16, 41, 182, 1, 182, 177]
abbrev dktX3_writesNode_5 : List UInt8 := dkwX3_writesNode_5 ++ []
def dkwX3_writesNode_4 : List UInt8 := [104, 28, 96, 46, 182, 1, 191, 132, 2, 1, 167, 255, 175, 42, 42, 180, 0, 23, 27, 46, 4, 160, 0, 8]
abbrev dktX3_writesNode_4 : List UInt8 := dkwX3_writesNode_4 ++ dktX3_writesNode_5
def dkwX3_writesNode_3 : List UInt8 := [16, 7, 27, 104, 28, 96, 46, 182, 1, 191, 42, 16, 58, 182, 1, 182, 42, 42, 180, 0, 42, 16, 7, 27]
abbrev dktX3_writesNode_3 : List UInt8 := dkwX3_writesNode_3 ++ dktX3_writesNode_4
def dkwX3_writesNode_2 : List UInt8 := [182, 0, 197, 182, 1, 188, 167, 0, 49, 28, 158, 0, 9, 42, 16, 32, 182, 1, 182, 42, 42, 180, 0, 39]
abbrev dktX3_writesNode_2 : List UInt8 := dkwX3_writesNode_2 ++ dktX3_writesNode_3
def dkwX3_writesNode_1 : List UInt8 := [42, 180, 0, 26, 27, 46, 162, 0, 77, 42, 180, 0, 23, 27, 46, 154, 0, 16, 42, 42, 27, 28]
abbrev dktX3_writesNode_1 : List UInt8 := dkwX3_writesNode_1 ++ dktX3_writesNode_2
def dkwX3_writesNode_0 : List UInt8 := [42, 42, 180, 0, 23, 27, 46, 4, 160, 0, 8, 16, 91, 167, 0, 5, 16, 40, 182, 1, 182, 3, 61, 28]
abbrev dktX3_writesNode_0 : List UInt8 := dkwX3_writesNode_0 ++ dktX3_writesNode_1
theorem dksX3_writesNode_0 : cX3_writesNode.data.toList.drop 0 = dktX3_writesNode_0 := by decide +kernel
theorem dksX3_writesNode_1 : cX3_writesNode.data.toList.drop 24 = dktX3_writesNode_1 := dk_seg dksX3_writesNode_0 24 rfl rfl
theorem dksX3_writesNode_2 : cX3_writesNode.data.toList.drop 46 = dktX3_writesNode_2 := dk_seg dksX3_writesNode_1 22 rfl rfl
theorem dksX3_writesNode_3 : cX3_writesNode.data.toList.drop 70 = dktX3_writesNode_3 := dk_seg dksX3_writesNode_2 24 rfl rfl
theorem dksX3_writesNode_4 : cX3_writesNode.data.toList.drop 94 = dktX3_writesNode_4 := dk_seg dksX3_writesNode_3 24 rfl rfl
theorem dksX3_writesNode_5 : cX3_writesNode.data.toList.drop 118 = dktX3_writesNode_5 := dk_seg dksX3_writesNode_4 24 rfl rfl
theorem dX3_writesNode_0 : decode cX3_writesNode 0 = .ok (.aload_n 0, 1) := dk_42 (dk_at dksX3_writesNode_0 0 rfl rfl)
theorem dX3_writesNode_1 : decode cX3_writesNode 1 = .ok (.aload_n 0, 1) := dk_42 (dk_at dksX3_writesNode_0 1 rfl rfl)
theorem dX3_writesNode_2 : decode cX3_writesNode 2 = .ok (.getfield 23, 3) := dk_180 0 23 (dk_at dksX3_writesNode_0 2 rfl rfl)
theorem dX3_writesNode_5 : decode cX3_writesNode 5 = .ok (.iload_n 1, 1) := dk_27 (dk_at dksX3_writesNode_0 5 rfl rfl)
theorem dX3_writesNode_6 : decode cX3_writesNode 6 = .ok (.iaload, 1) := dk_46 (dk_at dksX3_writesNode_0 6 rfl rfl)
theorem dX3_writesNode_7 : decode cX3_writesNode 7 = .ok (.iconst 1, 1) := dk_4 (dk_at dksX3_writesNode_0 7 rfl rfl)
theorem dX3_writesNode_8 : decode cX3_writesNode 8 = .ok (.if_icmp .ne 8, 3) := dk_160 0 8 (dk_at dksX3_writesNode_0 8 rfl rfl)
theorem dX3_writesNode_11 : decode cX3_writesNode 11 = .ok (.bipush 91, 2) := dk_16 91 (dk_at dksX3_writesNode_0 11 rfl rfl)
theorem dX3_writesNode_13 : decode cX3_writesNode 13 = .ok (.goto 5, 3) := dk_167 0 5 (dk_at dksX3_writesNode_0 13 rfl rfl)
theorem dX3_writesNode_16 : decode cX3_writesNode 16 = .ok (.bipush 40, 2) := dk_16 40 (dk_at dksX3_writesNode_0 16 rfl rfl)
theorem dX3_writesNode_18 : decode cX3_writesNode 18 = .ok (.invokevirtual 438, 3) := dk_182 1 182 (dk_at dksX3_writesNode_0 18 rfl rfl)
theorem dX3_writesNode_21 : decode cX3_writesNode 21 = .ok (.iconst 0, 1) := dk_3 (dk_at dksX3_writesNode_0 21 rfl rfl)
theorem dX3_writesNode_22 : decode cX3_writesNode 22 = .ok (.istore_n 2, 1) := dk_61 (dk_at dksX3_writesNode_0 22 rfl rfl)
theorem dX3_writesNode_23 : decode cX3_writesNode 23 = .ok (.iload_n 2, 1) := dk_28 (dk_at dksX3_writesNode_0 23 rfl rfl)
theorem dX3_writesNode_24 : decode cX3_writesNode 24 = .ok (.aload_n 0, 1) := dk_42 (dk_at dksX3_writesNode_1 0 rfl rfl)
theorem dX3_writesNode_25 : decode cX3_writesNode 25 = .ok (.getfield 26, 3) := dk_180 0 26 (dk_at dksX3_writesNode_1 1 rfl rfl)
theorem dX3_writesNode_28 : decode cX3_writesNode 28 = .ok (.iload_n 1, 1) := dk_27 (dk_at dksX3_writesNode_1 4 rfl rfl)
theorem dX3_writesNode_29 : decode cX3_writesNode 29 = .ok (.iaload, 1) := dk_46 (dk_at dksX3_writesNode_1 5 rfl rfl)
theorem dX3_writesNode_30 : decode cX3_writesNode 30 = .ok (.if_icmp .ge 77, 3) := dk_162 0 77 (dk_at dksX3_writesNode_1 6 rfl rfl)
theorem dX3_writesNode_33 : decode cX3_writesNode 33 = .ok (.aload_n 0, 1) := dk_42 (dk_at dksX3_writesNode_1 9 rfl rfl)
theorem dX3_writesNode_34 : decode cX3_writesNode 34 = .ok (.getfield 23, 3) := dk_180 0 23 (dk_at dksX3_writesNode_1 10 rfl rfl)
theorem dX3_writesNode_37 : decode cX3_writesNode 37 = .ok (.iload_n 1, 1) := dk_27 (dk_at dksX3_writesNode_1 13 rfl rfl)
theorem dX3_writesNode_38 : decode cX3_writesNode 38 = .ok (.iaload, 1) := dk_46 (dk_at dksX3_writesNode_1 14 rfl rfl)
theorem dX3_writesNode_39 : decode cX3_writesNode 39 = .ok (.ifCond .ne 16, 3) := dk_154 0 16 (dk_at dksX3_writesNode_1 15 rfl rfl)
theorem dX3_writesNode_42 : decode cX3_writesNode 42 = .ok (.aload_n 0, 1) := dk_42 (dk_at dksX3_writesNode_1 18 rfl rfl)
theorem dX3_writesNode_43 : decode cX3_writesNode 43 = .ok (.aload_n 0, 1) := dk_42 (dk_at dksX3_writesNode_1 19 rfl rfl)
theorem dX3_writesNode_44 : decode cX3_writesNode 44 = .ok (.iload_n 1, 1) := dk_27 (dk_at dksX3_writesNode_1 20 rfl rfl)
theorem dX3_writesNode_45 : decode cX3_writesNode 45 = .ok (.iload_n 2, 1) := dk_28 (dk_at dksX3_writesNode_1 21 rfl rfl)
theorem dX3_writesNode_46 : decode cX3_writesNode 46 = .ok (.invokevirtual 197, 3) := dk_182 0 197 (dk_at dksX3_writesNode_2 0 rfl rfl)
theorem dX3_writesNode_49 : decode cX3_writesNode 49 = .ok (.invokevirtual 444, 3) := dk_182 1 188 (dk_at dksX3_writesNode_2 3 rfl rfl)
theorem dX3_writesNode_52 : decode cX3_writesNode 52 = .ok (.goto 49, 3) := dk_167 0 49 (dk_at dksX3_writesNode_2 6 rfl rfl)
theorem dX3_writesNode_55 : decode cX3_writesNode 55 = .ok (.iload_n 2, 1) := dk_28 (dk_at dksX3_writesNode_2 9 rfl rfl)
theorem dX3_writesNode_56 : decode cX3_writesNode 56 = .ok (.ifCond .le 9, 3) := dk_158 0 9 (dk_at dksX3_writesNode_2 10 rfl rfl)
theorem dX3_writesNode_59 : decode cX3_writesNode 59 = .ok (.aload_n 0, 1) := dk_42 (dk_at dksX3_writesNode_2 13 rfl rfl)
theorem dX3_writesNode_60 : decode cX3_writesNode 60 = .ok (.bipush 32, 2) := dk_16 32 (dk_at dksX3_writesNode_2 14 rfl rfl)
theorem dX3_writesNode_62 : decode cX3_writesNode 62 = .ok (.invokevirtual 438, 3) := dk_182 1 182 (dk_at dksX3_writesNode_2 16 rfl rfl)
theorem dX3_writesNode_65 : decode cX3_writesNode 65 = .ok (.aload_n 0, 1) := dk_42 (dk_at dksX3_writesNode_2 19 rfl rfl)
theorem dX3_writesNode_66 : decode cX3_writesNode 66 = .ok (.aload_n 0, 1) := dk_42 (dk_at dksX3_writesNode_2 20 rfl rfl)
theorem dX3_writesNode_67 : decode cX3_writesNode 67 = .ok (.getfield 39, 3) := dk_180 0 39 (dk_at dksX3_writesNode_2 21 rfl rfl)
theorem dX3_writesNode_70 : decode cX3_writesNode 70 = .ok (.bipush 7, 2) := dk_16 7 (dk_at dksX3_writesNode_3 0 rfl rfl)
theorem dX3_writesNode_72 : decode cX3_writesNode 72 = .ok (.iload_n 1, 1) := dk_27 (dk_at dksX3_writesNode_3 2 rfl rfl)
theorem dX3_writesNode_73 : decode cX3_writesNode 73 = .ok (.imul, 1) := dk_104 (dk_at dksX3_writesNode_3 3 rfl rfl)
theorem dX3_writesNode_74 : decode cX3_writesNode 74 = .ok (.iload_n 2, 1) := dk_28 (dk_at dksX3_writesNode_3 4 rfl rfl)
theorem dX3_writesNode_75 : decode cX3_writesNode 75 = .ok (.iadd, 1) := dk_96 (dk_at dksX3_writesNode_3 5 rfl rfl)
theorem dX3_writesNode_76 : decode cX3_writesNode 76 = .ok (.iaload, 1) := dk_46 (dk_at dksX3_writesNode_3 6 rfl rfl)
theorem dX3_writesNode_77 : decode cX3_writesNode 77 = .ok (.invokevirtual 447, 3) := dk_182 1 191 (dk_at dksX3_writesNode_3 7 rfl rfl)
theorem dX3_writesNode_80 : decode cX3_writesNode 80 = .ok (.aload_n 0, 1) := dk_42 (dk_at dksX3_writesNode_3 10 rfl rfl)
theorem dX3_writesNode_81 : decode cX3_writesNode 81 = .ok (.bipush 58, 2) := dk_16 58 (dk_at dksX3_writesNode_3 11 rfl rfl)
theorem dX3_writesNode_83 : decode cX3_writesNode 83 = .ok (.invokevirtual 438, 3) := dk_182 1 182 (dk_at dksX3_writesNode_3 13 rfl rfl)
theorem dX3_writesNode_86 : decode cX3_writesNode 86 = .ok (.aload_n 0, 1) := dk_42 (dk_at dksX3_writesNode_3 16 rfl rfl)
theorem dX3_writesNode_87 : decode cX3_writesNode 87 = .ok (.aload_n 0, 1) := dk_42 (dk_at dksX3_writesNode_3 17 rfl rfl)
theorem dX3_writesNode_88 : decode cX3_writesNode 88 = .ok (.getfield 42, 3) := dk_180 0 42 (dk_at dksX3_writesNode_3 18 rfl rfl)
theorem dX3_writesNode_91 : decode cX3_writesNode 91 = .ok (.bipush 7, 2) := dk_16 7 (dk_at dksX3_writesNode_3 21 rfl rfl)
theorem dX3_writesNode_93 : decode cX3_writesNode 93 = .ok (.iload_n 1, 1) := dk_27 (dk_at dksX3_writesNode_3 23 rfl rfl)
theorem dX3_writesNode_94 : decode cX3_writesNode 94 = .ok (.imul, 1) := dk_104 (dk_at dksX3_writesNode_4 0 rfl rfl)
theorem dX3_writesNode_95 : decode cX3_writesNode 95 = .ok (.iload_n 2, 1) := dk_28 (dk_at dksX3_writesNode_4 1 rfl rfl)
theorem dX3_writesNode_96 : decode cX3_writesNode 96 = .ok (.iadd, 1) := dk_96 (dk_at dksX3_writesNode_4 2 rfl rfl)
theorem dX3_writesNode_97 : decode cX3_writesNode 97 = .ok (.iaload, 1) := dk_46 (dk_at dksX3_writesNode_4 3 rfl rfl)
theorem dX3_writesNode_98 : decode cX3_writesNode 98 = .ok (.invokevirtual 447, 3) := dk_182 1 191 (dk_at dksX3_writesNode_4 4 rfl rfl)
theorem dX3_writesNode_101 : decode cX3_writesNode 101 = .ok (.iinc 2 1, 3) := dk_132 2 1 (dk_at dksX3_writesNode_4 7 rfl rfl)
theorem dX3_writesNode_104 : decode cX3_writesNode 104 = .ok (.goto (-81), 3) := dk_167 255 175 (dk_at dksX3_writesNode_4 10 rfl rfl)
theorem dX3_writesNode_107 : decode cX3_writesNode 107 = .ok (.aload_n 0, 1) := dk_42 (dk_at dksX3_writesNode_4 13 rfl rfl)
theorem dX3_writesNode_108 : decode cX3_writesNode 108 = .ok (.aload_n 0, 1) := dk_42 (dk_at dksX3_writesNode_4 14 rfl rfl)
theorem dX3_writesNode_109 : decode cX3_writesNode 109 = .ok (.getfield 23, 3) := dk_180 0 23 (dk_at dksX3_writesNode_4 15 rfl rfl)
theorem dX3_writesNode_112 : decode cX3_writesNode 112 = .ok (.iload_n 1, 1) := dk_27 (dk_at dksX3_writesNode_4 18 rfl rfl)
theorem dX3_writesNode_113 : decode cX3_writesNode 113 = .ok (.iaload, 1) := dk_46 (dk_at dksX3_writesNode_4 19 rfl rfl)
theorem dX3_writesNode_114 : decode cX3_writesNode 114 = .ok (.iconst 1, 1) := dk_4 (dk_at dksX3_writesNode_4 20 rfl rfl)
theorem dX3_writesNode_115 : decode cX3_writesNode 115 = .ok (.if_icmp .ne 8, 3) := dk_160 0 8 (dk_at dksX3_writesNode_4 21 rfl rfl)
theorem dX3_writesNode_118 : decode cX3_writesNode 118 = .ok (.bipush 93, 2) := dk_16 93 (dk_at dksX3_writesNode_5 0 rfl rfl)
theorem dX3_writesNode_120 : decode cX3_writesNode 120 = .ok (.goto 5, 3) := dk_167 0 5 (dk_at dksX3_writesNode_5 2 rfl rfl)
theorem dX3_writesNode_123 : decode cX3_writesNode 123 = .ok (.bipush 41, 2) := dk_16 41 (dk_at dksX3_writesNode_5 5 rfl rfl)
theorem dX3_writesNode_125 : decode cX3_writesNode 125 = .ok (.invokevirtual 438, 3) := dk_182 1 182 (dk_at dksX3_writesNode_5 7 rfl rfl)
theorem dX3_writesNode_128 : decode cX3_writesNode 128 = .ok (.return_, 1) := dk_177 (dk_at dksX3_writesNode_5 10 rfl rfl)
abbrev cX3_writes : ByteArray := prog_9_method_105_code
def yX3_writes : MethodName := ⟨RX3, "writes", "(I)V"⟩
def dkwX3_writes_0 : List UInt8 := [42, 180, 0, 107, 42, 180, 1, 179, 27, 145, 84, 42, 89, 180, 1, 179, 4, 96, 181, 1, 179, 177]
abbrev dktX3_writes_0 : List UInt8 := dkwX3_writes_0 ++ []
theorem dksX3_writes_0 : cX3_writes.data.toList.drop 0 = dktX3_writes_0 := by decide +kernel
theorem dX3_writes_0 : decode cX3_writes 0 = .ok (.aload_n 0, 1) := dk_42 (dk_at dksX3_writes_0 0 rfl rfl)
theorem dX3_writes_1 : decode cX3_writes 1 = .ok (.getfield 107, 3) := dk_180 0 107 (dk_at dksX3_writes_0 1 rfl rfl)
theorem dX3_writes_4 : decode cX3_writes 4 = .ok (.aload_n 0, 1) := dk_42 (dk_at dksX3_writes_0 4 rfl rfl)
theorem dX3_writes_5 : decode cX3_writes 5 = .ok (.getfield 435, 3) := dk_180 1 179 (dk_at dksX3_writes_0 5 rfl rfl)
theorem dX3_writes_8 : decode cX3_writes 8 = .ok (.iload_n 1, 1) := dk_27 (dk_at dksX3_writes_0 8 rfl rfl)
theorem dX3_writes_9 : decode cX3_writes 9 = .ok (.i2b, 1) := dk_145 (dk_at dksX3_writes_0 9 rfl rfl)
theorem dX3_writes_10 : decode cX3_writes 10 = .ok (.bastore, 1) := dk_84 (dk_at dksX3_writes_0 10 rfl rfl)
theorem dX3_writes_11 : decode cX3_writes 11 = .ok (.aload_n 0, 1) := dk_42 (dk_at dksX3_writes_0 11 rfl rfl)
theorem dX3_writes_12 : decode cX3_writes 12 = .ok (.dup, 1) := dk_89 (dk_at dksX3_writes_0 12 rfl rfl)
theorem dX3_writes_13 : decode cX3_writes 13 = .ok (.getfield 435, 3) := dk_180 1 179 (dk_at dksX3_writes_0 13 rfl rfl)
theorem dX3_writes_16 : decode cX3_writes 16 = .ok (.iconst 1, 1) := dk_4 (dk_at dksX3_writes_0 16 rfl rfl)
theorem dX3_writes_17 : decode cX3_writes 17 = .ok (.iadd, 1) := dk_96 (dk_at dksX3_writes_0 17 rfl rfl)
theorem dX3_writes_18 : decode cX3_writes 18 = .ok (.putfield 435, 3) := dk_181 1 179 (dk_at dksX3_writes_0 18 rfl rfl)
theorem dX3_writes_21 : decode cX3_writes 21 = .ok (.return_, 1) := dk_177 (dk_at dksX3_writes_0 21 rfl rfl)
abbrev cX3_writesNumber : ByteArray := prog_9_method_106_code
def yX3_writesNumber : MethodName := ⟨RX3, "writesNumber", "(I)V"⟩
def dkwX3_writesNumber_2 : List UInt8 := [96, 182, 1, 182, 42, 16, 48, 28, 16, 10, 112, 96, 182, 1, 182, 177]
abbrev dktX3_writesNumber_2 : List UInt8 := dkwX3_writesNumber_2 ++ []
def dkwX3_writesNumber_1 : List UInt8 := [28, 16, 100, 108, 96, 182, 1, 182, 28, 16, 9, 164, 0, 17, 42, 16, 48, 28, 16, 10, 108, 16, 10, 112]
abbrev dktX3_writesNumber_1 : List UInt8 := dkwX3_writesNumber_1 ++ dktX3_writesNumber_2
def dkwX3_writesNumber_0 : List UInt8 := [27, 156, 0, 9, 42, 16, 45, 182, 1, 182, 27, 184, 1, 185, 61, 28, 16, 99, 164, 0, 14, 42, 16, 48]
abbrev dktX3_writesNumber_0 : List UInt8 := dkwX3_writesNumber_0 ++ dktX3_writesNumber_1
theorem dksX3_writesNumber_0 : cX3_writesNumber.data.toList.drop 0 = dktX3_writesNumber_0 := by decide +kernel
theorem dksX3_writesNumber_1 : cX3_writesNumber.data.toList.drop 24 = dktX3_writesNumber_1 := dk_seg dksX3_writesNumber_0 24 rfl rfl
theorem dksX3_writesNumber_2 : cX3_writesNumber.data.toList.drop 48 = dktX3_writesNumber_2 := dk_seg dksX3_writesNumber_1 24 rfl rfl
theorem dX3_writesNumber_0 : decode cX3_writesNumber 0 = .ok (.iload_n 1, 1) := dk_27 (dk_at dksX3_writesNumber_0 0 rfl rfl)
theorem dX3_writesNumber_1 : decode cX3_writesNumber 1 = .ok (.ifCond .ge 9, 3) := dk_156 0 9 (dk_at dksX3_writesNumber_0 1 rfl rfl)
theorem dX3_writesNumber_4 : decode cX3_writesNumber 4 = .ok (.aload_n 0, 1) := dk_42 (dk_at dksX3_writesNumber_0 4 rfl rfl)
theorem dX3_writesNumber_5 : decode cX3_writesNumber 5 = .ok (.bipush 45, 2) := dk_16 45 (dk_at dksX3_writesNumber_0 5 rfl rfl)
theorem dX3_writesNumber_7 : decode cX3_writesNumber 7 = .ok (.invokevirtual 438, 3) := dk_182 1 182 (dk_at dksX3_writesNumber_0 7 rfl rfl)
theorem dX3_writesNumber_10 : decode cX3_writesNumber 10 = .ok (.iload_n 1, 1) := dk_27 (dk_at dksX3_writesNumber_0 10 rfl rfl)
theorem dX3_writesNumber_11 : decode cX3_writesNumber 11 = .ok (.invokestatic 441, 3) := dk_184 1 185 (dk_at dksX3_writesNumber_0 11 rfl rfl)
theorem dX3_writesNumber_14 : decode cX3_writesNumber 14 = .ok (.istore_n 2, 1) := dk_61 (dk_at dksX3_writesNumber_0 14 rfl rfl)
theorem dX3_writesNumber_15 : decode cX3_writesNumber 15 = .ok (.iload_n 2, 1) := dk_28 (dk_at dksX3_writesNumber_0 15 rfl rfl)
theorem dX3_writesNumber_16 : decode cX3_writesNumber 16 = .ok (.bipush 99, 2) := dk_16 99 (dk_at dksX3_writesNumber_0 16 rfl rfl)
theorem dX3_writesNumber_18 : decode cX3_writesNumber 18 = .ok (.if_icmp .le 14, 3) := dk_164 0 14 (dk_at dksX3_writesNumber_0 18 rfl rfl)
theorem dX3_writesNumber_21 : decode cX3_writesNumber 21 = .ok (.aload_n 0, 1) := dk_42 (dk_at dksX3_writesNumber_0 21 rfl rfl)
theorem dX3_writesNumber_22 : decode cX3_writesNumber 22 = .ok (.bipush 48, 2) := dk_16 48 (dk_at dksX3_writesNumber_0 22 rfl rfl)
theorem dX3_writesNumber_24 : decode cX3_writesNumber 24 = .ok (.iload_n 2, 1) := dk_28 (dk_at dksX3_writesNumber_1 0 rfl rfl)
theorem dX3_writesNumber_25 : decode cX3_writesNumber 25 = .ok (.bipush 100, 2) := dk_16 100 (dk_at dksX3_writesNumber_1 1 rfl rfl)
theorem dX3_writesNumber_27 : decode cX3_writesNumber 27 = .ok (.idiv, 1) := dk_108 (dk_at dksX3_writesNumber_1 3 rfl rfl)
theorem dX3_writesNumber_28 : decode cX3_writesNumber 28 = .ok (.iadd, 1) := dk_96 (dk_at dksX3_writesNumber_1 4 rfl rfl)
theorem dX3_writesNumber_29 : decode cX3_writesNumber 29 = .ok (.invokevirtual 438, 3) := dk_182 1 182 (dk_at dksX3_writesNumber_1 5 rfl rfl)
theorem dX3_writesNumber_32 : decode cX3_writesNumber 32 = .ok (.iload_n 2, 1) := dk_28 (dk_at dksX3_writesNumber_1 8 rfl rfl)
theorem dX3_writesNumber_33 : decode cX3_writesNumber 33 = .ok (.bipush 9, 2) := dk_16 9 (dk_at dksX3_writesNumber_1 9 rfl rfl)
theorem dX3_writesNumber_35 : decode cX3_writesNumber 35 = .ok (.if_icmp .le 17, 3) := dk_164 0 17 (dk_at dksX3_writesNumber_1 11 rfl rfl)
theorem dX3_writesNumber_38 : decode cX3_writesNumber 38 = .ok (.aload_n 0, 1) := dk_42 (dk_at dksX3_writesNumber_1 14 rfl rfl)
theorem dX3_writesNumber_39 : decode cX3_writesNumber 39 = .ok (.bipush 48, 2) := dk_16 48 (dk_at dksX3_writesNumber_1 15 rfl rfl)
theorem dX3_writesNumber_41 : decode cX3_writesNumber 41 = .ok (.iload_n 2, 1) := dk_28 (dk_at dksX3_writesNumber_1 17 rfl rfl)
theorem dX3_writesNumber_42 : decode cX3_writesNumber 42 = .ok (.bipush 10, 2) := dk_16 10 (dk_at dksX3_writesNumber_1 18 rfl rfl)
theorem dX3_writesNumber_44 : decode cX3_writesNumber 44 = .ok (.idiv, 1) := dk_108 (dk_at dksX3_writesNumber_1 20 rfl rfl)
theorem dX3_writesNumber_45 : decode cX3_writesNumber 45 = .ok (.bipush 10, 2) := dk_16 10 (dk_at dksX3_writesNumber_1 21 rfl rfl)
theorem dX3_writesNumber_47 : decode cX3_writesNumber 47 = .ok (.irem, 1) := dk_112 (dk_at dksX3_writesNumber_1 23 rfl rfl)
theorem dX3_writesNumber_48 : decode cX3_writesNumber 48 = .ok (.iadd, 1) := dk_96 (dk_at dksX3_writesNumber_2 0 rfl rfl)
theorem dX3_writesNumber_49 : decode cX3_writesNumber 49 = .ok (.invokevirtual 438, 3) := dk_182 1 182 (dk_at dksX3_writesNumber_2 1 rfl rfl)
theorem dX3_writesNumber_52 : decode cX3_writesNumber 52 = .ok (.aload_n 0, 1) := dk_42 (dk_at dksX3_writesNumber_2 4 rfl rfl)
theorem dX3_writesNumber_53 : decode cX3_writesNumber 53 = .ok (.bipush 48, 2) := dk_16 48 (dk_at dksX3_writesNumber_2 5 rfl rfl)
theorem dX3_writesNumber_55 : decode cX3_writesNumber 55 = .ok (.iload_n 2, 1) := dk_28 (dk_at dksX3_writesNumber_2 7 rfl rfl)
theorem dX3_writesNumber_56 : decode cX3_writesNumber 56 = .ok (.bipush 10, 2) := dk_16 10 (dk_at dksX3_writesNumber_2 8 rfl rfl)
theorem dX3_writesNumber_58 : decode cX3_writesNumber 58 = .ok (.irem, 1) := dk_112 (dk_at dksX3_writesNumber_2 10 rfl rfl)
theorem dX3_writesNumber_59 : decode cX3_writesNumber 59 = .ok (.iadd, 1) := dk_96 (dk_at dksX3_writesNumber_2 11 rfl rfl)
theorem dX3_writesNumber_60 : decode cX3_writesNumber 60 = .ok (.invokevirtual 438, 3) := dk_182 1 182 (dk_at dksX3_writesNumber_2 12 rfl rfl)
theorem dX3_writesNumber_63 : decode cX3_writesNumber 63 = .ok (.return_, 1) := dk_177 (dk_at dksX3_writesNumber_2 15 rfl rfl)
abbrev cX3_shown : ByteArray := prog_9_method_116_code
def yX3_shown : MethodName := ⟨RX3, "shown", "(I)I"⟩
def dkwX3_shown_1 : List UInt8 := [180, 0, 110, 27, 51, 167, 0, 4, 2, 172]
abbrev dktX3_shown_1 : List UInt8 := dkwX3_shown_1 ++ []
def dkwX3_shown_0 : List UInt8 := [42, 3, 181, 0, 116, 27, 133, 9, 42, 180, 1, 206, 4, 100, 133, 184, 0, 174, 153, 0, 12, 42]
abbrev dktX3_shown_0 : List UInt8 := dkwX3_shown_0 ++ dktX3_shown_1
theorem dksX3_shown_0 : cX3_shown.data.toList.drop 0 = dktX3_shown_0 := by decide +kernel
theorem dksX3_shown_1 : cX3_shown.data.toList.drop 22 = dktX3_shown_1 := dk_seg dksX3_shown_0 22 rfl rfl
theorem dX3_shown_0 : decode cX3_shown 0 = .ok (.aload_n 0, 1) := dk_42 (dk_at dksX3_shown_0 0 rfl rfl)
theorem dX3_shown_1 : decode cX3_shown 1 = .ok (.iconst 0, 1) := dk_3 (dk_at dksX3_shown_0 1 rfl rfl)
theorem dX3_shown_2 : decode cX3_shown 2 = .ok (.putfield 116, 3) := dk_181 0 116 (dk_at dksX3_shown_0 2 rfl rfl)
theorem dX3_shown_5 : decode cX3_shown 5 = .ok (.iload_n 1, 1) := dk_27 (dk_at dksX3_shown_0 5 rfl rfl)
theorem dX3_shown_6 : decode cX3_shown 6 = .ok (.i2l, 1) := dk_133 (dk_at dksX3_shown_0 6 rfl rfl)
theorem dX3_shown_7 : decode cX3_shown 7 = .ok (.lconst 0, 1) := dk_9 (dk_at dksX3_shown_0 7 rfl rfl)
theorem dX3_shown_8 : decode cX3_shown 8 = .ok (.aload_n 0, 1) := dk_42 (dk_at dksX3_shown_0 8 rfl rfl)
theorem dX3_shown_9 : decode cX3_shown 9 = .ok (.getfield 462, 3) := dk_180 1 206 (dk_at dksX3_shown_0 9 rfl rfl)
theorem dX3_shown_12 : decode cX3_shown 12 = .ok (.iconst 1, 1) := dk_4 (dk_at dksX3_shown_0 12 rfl rfl)
theorem dX3_shown_13 : decode cX3_shown 13 = .ok (.isub, 1) := dk_100 (dk_at dksX3_shown_0 13 rfl rfl)
theorem dX3_shown_14 : decode cX3_shown 14 = .ok (.i2l, 1) := dk_133 (dk_at dksX3_shown_0 14 rfl rfl)
theorem dX3_shown_15 : decode cX3_shown 15 = .ok (.invokestatic 174, 3) := dk_184 0 174 (dk_at dksX3_shown_0 15 rfl rfl)
theorem dX3_shown_18 : decode cX3_shown 18 = .ok (.ifCond .eq 12, 3) := dk_153 0 12 (dk_at dksX3_shown_0 18 rfl rfl)
theorem dX3_shown_21 : decode cX3_shown 21 = .ok (.aload_n 0, 1) := dk_42 (dk_at dksX3_shown_0 21 rfl rfl)
theorem dX3_shown_22 : decode cX3_shown 22 = .ok (.getfield 110, 3) := dk_180 0 110 (dk_at dksX3_shown_1 0 rfl rfl)
theorem dX3_shown_25 : decode cX3_shown 25 = .ok (.iload_n 1, 1) := dk_27 (dk_at dksX3_shown_1 3 rfl rfl)
theorem dX3_shown_26 : decode cX3_shown 26 = .ok (.baload, 1) := dk_51 (dk_at dksX3_shown_1 4 rfl rfl)
theorem dX3_shown_27 : decode cX3_shown 27 = .ok (.goto 4, 3) := dk_167 0 4 (dk_at dksX3_shown_1 5 rfl rfl)
theorem dX3_shown_30 : decode cX3_shown 30 = .ok (.iconst (-1), 1) := dk_2 (dk_at dksX3_shown_1 8 rfl rfl)
theorem dX3_shown_31 : decode cX3_shown 31 = .ok (.ireturn, 1) := dk_172 (dk_at dksX3_shown_1 9 rfl rfl)
abbrev cX3_digest : ByteArray := prog_9_method_117_code
def yX3_digest : MethodName := ⟨RX3, "digest", "(I)I"⟩
def dkwX3_digest_2 : List UInt8 := [132, 3, 1, 167, 255, 229, 28, 172]
abbrev dktX3_digest_2 : List UInt8 := dkwX3_digest_2 ++ []
def dkwX3_digest_1 : List UInt8 := [29, 42, 180, 1, 179, 162, 0, 25, 16, 31, 28, 104, 42, 180, 0, 107, 29, 51, 96, 19, 1, 209, 112, 61]
abbrev dktX3_digest_1 : List UInt8 := dkwX3_digest_1 ++ dktX3_digest_2
def dkwX3_digest_0 : List UInt8 := [42, 3, 181, 0, 116, 42, 27, 182, 1, 53, 154, 0, 5, 2, 172, 42, 27, 182, 1, 203, 3, 61, 3, 62]
abbrev dktX3_digest_0 : List UInt8 := dkwX3_digest_0 ++ dktX3_digest_1
theorem dksX3_digest_0 : cX3_digest.data.toList.drop 0 = dktX3_digest_0 := by decide +kernel
theorem dksX3_digest_1 : cX3_digest.data.toList.drop 24 = dktX3_digest_1 := dk_seg dksX3_digest_0 24 rfl rfl
theorem dksX3_digest_2 : cX3_digest.data.toList.drop 48 = dktX3_digest_2 := dk_seg dksX3_digest_1 24 rfl rfl
theorem dX3_digest_0 : decode cX3_digest 0 = .ok (.aload_n 0, 1) := dk_42 (dk_at dksX3_digest_0 0 rfl rfl)
theorem dX3_digest_1 : decode cX3_digest 1 = .ok (.iconst 0, 1) := dk_3 (dk_at dksX3_digest_0 1 rfl rfl)
theorem dX3_digest_2 : decode cX3_digest 2 = .ok (.putfield 116, 3) := dk_181 0 116 (dk_at dksX3_digest_0 2 rfl rfl)
theorem dX3_digest_5 : decode cX3_digest 5 = .ok (.aload_n 0, 1) := dk_42 (dk_at dksX3_digest_0 5 rfl rfl)
theorem dX3_digest_6 : decode cX3_digest 6 = .ok (.iload_n 1, 1) := dk_27 (dk_at dksX3_digest_0 6 rfl rfl)
theorem dX3_digest_7 : decode cX3_digest 7 = .ok (.invokevirtual 309, 3) := dk_182 1 53 (dk_at dksX3_digest_0 7 rfl rfl)
theorem dX3_digest_10 : decode cX3_digest 10 = .ok (.ifCond .ne 5, 3) := dk_154 0 5 (dk_at dksX3_digest_0 10 rfl rfl)
theorem dX3_digest_13 : decode cX3_digest 13 = .ok (.iconst (-1), 1) := dk_2 (dk_at dksX3_digest_0 13 rfl rfl)
theorem dX3_digest_14 : decode cX3_digest 14 = .ok (.ireturn, 1) := dk_172 (dk_at dksX3_digest_0 14 rfl rfl)
theorem dX3_digest_15 : decode cX3_digest 15 = .ok (.aload_n 0, 1) := dk_42 (dk_at dksX3_digest_0 15 rfl rfl)
theorem dX3_digest_16 : decode cX3_digest 16 = .ok (.iload_n 1, 1) := dk_27 (dk_at dksX3_digest_0 16 rfl rfl)
theorem dX3_digest_17 : decode cX3_digest 17 = .ok (.invokevirtual 459, 3) := dk_182 1 203 (dk_at dksX3_digest_0 17 rfl rfl)
theorem dX3_digest_20 : decode cX3_digest 20 = .ok (.iconst 0, 1) := dk_3 (dk_at dksX3_digest_0 20 rfl rfl)
theorem dX3_digest_21 : decode cX3_digest 21 = .ok (.istore_n 2, 1) := dk_61 (dk_at dksX3_digest_0 21 rfl rfl)
theorem dX3_digest_22 : decode cX3_digest 22 = .ok (.iconst 0, 1) := dk_3 (dk_at dksX3_digest_0 22 rfl rfl)
theorem dX3_digest_23 : decode cX3_digest 23 = .ok (.istore_n 3, 1) := dk_62 (dk_at dksX3_digest_0 23 rfl rfl)
theorem dX3_digest_24 : decode cX3_digest 24 = .ok (.iload_n 3, 1) := dk_29 (dk_at dksX3_digest_1 0 rfl rfl)
theorem dX3_digest_25 : decode cX3_digest 25 = .ok (.aload_n 0, 1) := dk_42 (dk_at dksX3_digest_1 1 rfl rfl)
theorem dX3_digest_26 : decode cX3_digest 26 = .ok (.getfield 435, 3) := dk_180 1 179 (dk_at dksX3_digest_1 2 rfl rfl)
theorem dX3_digest_29 : decode cX3_digest 29 = .ok (.if_icmp .ge 25, 3) := dk_162 0 25 (dk_at dksX3_digest_1 5 rfl rfl)
theorem dX3_digest_32 : decode cX3_digest 32 = .ok (.bipush 31, 2) := dk_16 31 (dk_at dksX3_digest_1 8 rfl rfl)
theorem dX3_digest_34 : decode cX3_digest 34 = .ok (.iload_n 2, 1) := dk_28 (dk_at dksX3_digest_1 10 rfl rfl)
theorem dX3_digest_35 : decode cX3_digest 35 = .ok (.imul, 1) := dk_104 (dk_at dksX3_digest_1 11 rfl rfl)
theorem dX3_digest_36 : decode cX3_digest 36 = .ok (.aload_n 0, 1) := dk_42 (dk_at dksX3_digest_1 12 rfl rfl)
theorem dX3_digest_37 : decode cX3_digest 37 = .ok (.getfield 107, 3) := dk_180 0 107 (dk_at dksX3_digest_1 13 rfl rfl)
theorem dX3_digest_40 : decode cX3_digest 40 = .ok (.iload_n 3, 1) := dk_29 (dk_at dksX3_digest_1 16 rfl rfl)
theorem dX3_digest_41 : decode cX3_digest 41 = .ok (.baload, 1) := dk_51 (dk_at dksX3_digest_1 17 rfl rfl)
theorem dX3_digest_42 : decode cX3_digest 42 = .ok (.iadd, 1) := dk_96 (dk_at dksX3_digest_1 18 rfl rfl)
theorem dX3_digest_43 : decode cX3_digest 43 = .ok (.ldc_w 465, 3) := dk_19 1 209 (dk_at dksX3_digest_1 19 rfl rfl)
theorem dX3_digest_46 : decode cX3_digest 46 = .ok (.irem, 1) := dk_112 (dk_at dksX3_digest_1 22 rfl rfl)
theorem dX3_digest_47 : decode cX3_digest 47 = .ok (.istore_n 2, 1) := dk_61 (dk_at dksX3_digest_1 23 rfl rfl)
theorem dX3_digest_48 : decode cX3_digest 48 = .ok (.iinc 3 1, 3) := dk_132 3 1 (dk_at dksX3_digest_2 0 rfl rfl)
theorem dX3_digest_51 : decode cX3_digest 51 = .ok (.goto (-27), 3) := dk_167 255 229 (dk_at dksX3_digest_2 3 rfl rfl)
theorem dX3_digest_54 : decode cX3_digest 54 = .ok (.iload_n 2, 1) := dk_28 (dk_at dksX3_digest_2 6 rfl rfl)
theorem dX3_digest_55 : decode cX3_digest 55 = .ok (.ireturn, 1) := dk_172 (dk_at dksX3_digest_2 7 rfl rfl)
abbrev cX3_status : ByteArray := prog_9_method_118_code
def yX3_status : MethodName := ⟨RX3, "status", "(I)I"⟩
def dkwX3_status_1 : List UInt8 := [167, 0, 4, 2, 172]
abbrev dktX3_status_1 : List UInt8 := dkwX3_status_1 ++ []
def dkwX3_status_0 : List UInt8 := [42, 3, 181, 0, 116, 27, 133, 9, 20, 1, 210, 184, 0, 174, 153, 0, 12, 42, 180, 0, 85, 27, 46]
abbrev dktX3_status_0 : List UInt8 := dkwX3_status_0 ++ dktX3_status_1
theorem dksX3_status_0 : cX3_status.data.toList.drop 0 = dktX3_status_0 := by decide +kernel
theorem dksX3_status_1 : cX3_status.data.toList.drop 23 = dktX3_status_1 := dk_seg dksX3_status_0 23 rfl rfl
theorem dX3_status_0 : decode cX3_status 0 = .ok (.aload_n 0, 1) := dk_42 (dk_at dksX3_status_0 0 rfl rfl)
theorem dX3_status_1 : decode cX3_status 1 = .ok (.iconst 0, 1) := dk_3 (dk_at dksX3_status_0 1 rfl rfl)
theorem dX3_status_2 : decode cX3_status 2 = .ok (.putfield 116, 3) := dk_181 0 116 (dk_at dksX3_status_0 2 rfl rfl)
theorem dX3_status_5 : decode cX3_status 5 = .ok (.iload_n 1, 1) := dk_27 (dk_at dksX3_status_0 5 rfl rfl)
theorem dX3_status_6 : decode cX3_status 6 = .ok (.i2l, 1) := dk_133 (dk_at dksX3_status_0 6 rfl rfl)
theorem dX3_status_7 : decode cX3_status 7 = .ok (.lconst 0, 1) := dk_9 (dk_at dksX3_status_0 7 rfl rfl)
theorem dX3_status_8 : decode cX3_status 8 = .ok (.ldc2_w 466, 3) := dk_20 1 210 (dk_at dksX3_status_0 8 rfl rfl)
theorem dX3_status_11 : decode cX3_status 11 = .ok (.invokestatic 174, 3) := dk_184 0 174 (dk_at dksX3_status_0 11 rfl rfl)
theorem dX3_status_14 : decode cX3_status 14 = .ok (.ifCond .eq 12, 3) := dk_153 0 12 (dk_at dksX3_status_0 14 rfl rfl)
theorem dX3_status_17 : decode cX3_status 17 = .ok (.aload_n 0, 1) := dk_42 (dk_at dksX3_status_0 17 rfl rfl)
theorem dX3_status_18 : decode cX3_status 18 = .ok (.getfield 85, 3) := dk_180 0 85 (dk_at dksX3_status_0 18 rfl rfl)
theorem dX3_status_21 : decode cX3_status 21 = .ok (.iload_n 1, 1) := dk_27 (dk_at dksX3_status_0 21 rfl rfl)
theorem dX3_status_22 : decode cX3_status 22 = .ok (.iaload, 1) := dk_46 (dk_at dksX3_status_0 22 rfl rfl)
theorem dX3_status_23 : decode cX3_status 23 = .ok (.goto 4, 3) := dk_167 0 4 (dk_at dksX3_status_1 0 rfl rfl)
theorem dX3_status_26 : decode cX3_status 26 = .ok (.iconst (-1), 1) := dk_2 (dk_at dksX3_status_1 3 rfl rfl)
theorem dX3_status_27 : decode cX3_status 27 = .ok (.ireturn, 1) := dk_172 (dk_at dksX3_status_1 4 rfl rfl)
abbrev cX3_image : ByteArray := prog_9_method_119_code
def yX3_image : MethodName := ⟨RX3, "image", "()I"⟩
def dkwX3_image_1 : List UInt8 := [27, 51, 84, 132, 1, 1, 167, 255, 233, 42, 4, 181, 1, 8, 42, 180, 1, 19, 172]
abbrev dktX3_image_1 : List UInt8 := dkwX3_image_1 ++ []
def dkwX3_image_0 : List UInt8 := [42, 3, 181, 0, 116, 3, 60, 27, 42, 180, 1, 5, 162, 0, 21, 42, 180, 0, 92, 27, 42, 180, 0, 88]
abbrev dktX3_image_0 : List UInt8 := dkwX3_image_0 ++ dktX3_image_1
theorem dksX3_image_0 : cX3_image.data.toList.drop 0 = dktX3_image_0 := by decide +kernel
theorem dksX3_image_1 : cX3_image.data.toList.drop 24 = dktX3_image_1 := dk_seg dksX3_image_0 24 rfl rfl
theorem dX3_image_0 : decode cX3_image 0 = .ok (.aload_n 0, 1) := dk_42 (dk_at dksX3_image_0 0 rfl rfl)
theorem dX3_image_1 : decode cX3_image 1 = .ok (.iconst 0, 1) := dk_3 (dk_at dksX3_image_0 1 rfl rfl)
theorem dX3_image_2 : decode cX3_image 2 = .ok (.putfield 116, 3) := dk_181 0 116 (dk_at dksX3_image_0 2 rfl rfl)
theorem dX3_image_5 : decode cX3_image 5 = .ok (.iconst 0, 1) := dk_3 (dk_at dksX3_image_0 5 rfl rfl)
theorem dX3_image_6 : decode cX3_image 6 = .ok (.istore_n 1, 1) := dk_60 (dk_at dksX3_image_0 6 rfl rfl)
theorem dX3_image_7 : decode cX3_image 7 = .ok (.iload_n 1, 1) := dk_27 (dk_at dksX3_image_0 7 rfl rfl)
theorem dX3_image_8 : decode cX3_image 8 = .ok (.aload_n 0, 1) := dk_42 (dk_at dksX3_image_0 8 rfl rfl)
theorem dX3_image_9 : decode cX3_image 9 = .ok (.getfield 261, 3) := dk_180 1 5 (dk_at dksX3_image_0 9 rfl rfl)
theorem dX3_image_12 : decode cX3_image 12 = .ok (.if_icmp .ge 21, 3) := dk_162 0 21 (dk_at dksX3_image_0 12 rfl rfl)
theorem dX3_image_15 : decode cX3_image 15 = .ok (.aload_n 0, 1) := dk_42 (dk_at dksX3_image_0 15 rfl rfl)
theorem dX3_image_16 : decode cX3_image 16 = .ok (.getfield 92, 3) := dk_180 0 92 (dk_at dksX3_image_0 16 rfl rfl)
theorem dX3_image_19 : decode cX3_image 19 = .ok (.iload_n 1, 1) := dk_27 (dk_at dksX3_image_0 19 rfl rfl)
theorem dX3_image_20 : decode cX3_image 20 = .ok (.aload_n 0, 1) := dk_42 (dk_at dksX3_image_0 20 rfl rfl)
theorem dX3_image_21 : decode cX3_image 21 = .ok (.getfield 88, 3) := dk_180 0 88 (dk_at dksX3_image_0 21 rfl rfl)
theorem dX3_image_24 : decode cX3_image 24 = .ok (.iload_n 1, 1) := dk_27 (dk_at dksX3_image_1 0 rfl rfl)
theorem dX3_image_25 : decode cX3_image 25 = .ok (.baload, 1) := dk_51 (dk_at dksX3_image_1 1 rfl rfl)
theorem dX3_image_26 : decode cX3_image 26 = .ok (.bastore, 1) := dk_84 (dk_at dksX3_image_1 2 rfl rfl)
theorem dX3_image_27 : decode cX3_image 27 = .ok (.iinc 1 1, 3) := dk_132 1 1 (dk_at dksX3_image_1 3 rfl rfl)
theorem dX3_image_30 : decode cX3_image 30 = .ok (.goto (-23), 3) := dk_167 255 233 (dk_at dksX3_image_1 6 rfl rfl)
theorem dX3_image_33 : decode cX3_image 33 = .ok (.aload_n 0, 1) := dk_42 (dk_at dksX3_image_1 9 rfl rfl)
theorem dX3_image_34 : decode cX3_image 34 = .ok (.iconst 1, 1) := dk_4 (dk_at dksX3_image_1 10 rfl rfl)
theorem dX3_image_35 : decode cX3_image 35 = .ok (.putfield 264, 3) := dk_181 1 8 (dk_at dksX3_image_1 11 rfl rfl)
theorem dX3_image_38 : decode cX3_image 38 = .ok (.aload_n 0, 1) := dk_42 (dk_at dksX3_image_1 14 rfl rfl)
theorem dX3_image_39 : decode cX3_image 39 = .ok (.getfield 275, 3) := dk_180 1 19 (dk_at dksX3_image_1 15 rfl rfl)
theorem dX3_image_42 : decode cX3_image 42 = .ok (.ireturn, 1) := dk_172 (dk_at dksX3_image_1 18 rfl rfl)
abbrev cX3_back : ByteArray := prog_9_method_120_code
def yX3_back : MethodName := ⟨RX3, "back", "()I"⟩
def dkwX3_back_3 : List UInt8 := [3, 181, 1, 12, 42, 180, 1, 19, 172]
abbrev dktX3_back_3 : List UInt8 := dkwX3_back_3 ++ []
def dkwX3_back_2 : List UInt8 := [180, 0, 88, 27, 51, 153, 0, 7, 4, 167, 0, 4, 3, 96, 181, 1, 19, 132, 1, 1, 167, 255, 210, 42]
abbrev dktX3_back_2 : List UInt8 := dkwX3_back_2 ++ dktX3_back_3
def dkwX3_back_1 : List UInt8 := [180, 1, 5, 162, 0, 44, 42, 180, 0, 88, 27, 42, 180, 0, 92, 27, 51, 84, 42, 89, 180, 1, 19, 42]
abbrev dktX3_back_1 : List UInt8 := dkwX3_back_1 ++ dktX3_back_2
def dkwX3_back_0 : List UInt8 := [42, 3, 181, 0, 116, 42, 180, 1, 8, 154, 0, 5, 2, 172, 42, 3, 181, 1, 19, 3, 60, 27, 42]
abbrev dktX3_back_0 : List UInt8 := dkwX3_back_0 ++ dktX3_back_1
theorem dksX3_back_0 : cX3_back.data.toList.drop 0 = dktX3_back_0 := by decide +kernel
theorem dksX3_back_1 : cX3_back.data.toList.drop 23 = dktX3_back_1 := dk_seg dksX3_back_0 23 rfl rfl
theorem dksX3_back_2 : cX3_back.data.toList.drop 47 = dktX3_back_2 := dk_seg dksX3_back_1 24 rfl rfl
theorem dksX3_back_3 : cX3_back.data.toList.drop 71 = dktX3_back_3 := dk_seg dksX3_back_2 24 rfl rfl
theorem dX3_back_0 : decode cX3_back 0 = .ok (.aload_n 0, 1) := dk_42 (dk_at dksX3_back_0 0 rfl rfl)
theorem dX3_back_1 : decode cX3_back 1 = .ok (.iconst 0, 1) := dk_3 (dk_at dksX3_back_0 1 rfl rfl)
theorem dX3_back_2 : decode cX3_back 2 = .ok (.putfield 116, 3) := dk_181 0 116 (dk_at dksX3_back_0 2 rfl rfl)
theorem dX3_back_5 : decode cX3_back 5 = .ok (.aload_n 0, 1) := dk_42 (dk_at dksX3_back_0 5 rfl rfl)
theorem dX3_back_6 : decode cX3_back 6 = .ok (.getfield 264, 3) := dk_180 1 8 (dk_at dksX3_back_0 6 rfl rfl)
theorem dX3_back_9 : decode cX3_back 9 = .ok (.ifCond .ne 5, 3) := dk_154 0 5 (dk_at dksX3_back_0 9 rfl rfl)
theorem dX3_back_12 : decode cX3_back 12 = .ok (.iconst (-1), 1) := dk_2 (dk_at dksX3_back_0 12 rfl rfl)
theorem dX3_back_13 : decode cX3_back 13 = .ok (.ireturn, 1) := dk_172 (dk_at dksX3_back_0 13 rfl rfl)
theorem dX3_back_14 : decode cX3_back 14 = .ok (.aload_n 0, 1) := dk_42 (dk_at dksX3_back_0 14 rfl rfl)
theorem dX3_back_15 : decode cX3_back 15 = .ok (.iconst 0, 1) := dk_3 (dk_at dksX3_back_0 15 rfl rfl)
theorem dX3_back_16 : decode cX3_back 16 = .ok (.putfield 275, 3) := dk_181 1 19 (dk_at dksX3_back_0 16 rfl rfl)
theorem dX3_back_19 : decode cX3_back 19 = .ok (.iconst 0, 1) := dk_3 (dk_at dksX3_back_0 19 rfl rfl)
theorem dX3_back_20 : decode cX3_back 20 = .ok (.istore_n 1, 1) := dk_60 (dk_at dksX3_back_0 20 rfl rfl)
theorem dX3_back_21 : decode cX3_back 21 = .ok (.iload_n 1, 1) := dk_27 (dk_at dksX3_back_0 21 rfl rfl)
theorem dX3_back_22 : decode cX3_back 22 = .ok (.aload_n 0, 1) := dk_42 (dk_at dksX3_back_0 22 rfl rfl)
theorem dX3_back_23 : decode cX3_back 23 = .ok (.getfield 261, 3) := dk_180 1 5 (dk_at dksX3_back_1 0 rfl rfl)
theorem dX3_back_26 : decode cX3_back 26 = .ok (.if_icmp .ge 44, 3) := dk_162 0 44 (dk_at dksX3_back_1 3 rfl rfl)
theorem dX3_back_29 : decode cX3_back 29 = .ok (.aload_n 0, 1) := dk_42 (dk_at dksX3_back_1 6 rfl rfl)
theorem dX3_back_30 : decode cX3_back 30 = .ok (.getfield 88, 3) := dk_180 0 88 (dk_at dksX3_back_1 7 rfl rfl)
theorem dX3_back_33 : decode cX3_back 33 = .ok (.iload_n 1, 1) := dk_27 (dk_at dksX3_back_1 10 rfl rfl)
theorem dX3_back_34 : decode cX3_back 34 = .ok (.aload_n 0, 1) := dk_42 (dk_at dksX3_back_1 11 rfl rfl)
theorem dX3_back_35 : decode cX3_back 35 = .ok (.getfield 92, 3) := dk_180 0 92 (dk_at dksX3_back_1 12 rfl rfl)
theorem dX3_back_38 : decode cX3_back 38 = .ok (.iload_n 1, 1) := dk_27 (dk_at dksX3_back_1 15 rfl rfl)
theorem dX3_back_39 : decode cX3_back 39 = .ok (.baload, 1) := dk_51 (dk_at dksX3_back_1 16 rfl rfl)
theorem dX3_back_40 : decode cX3_back 40 = .ok (.bastore, 1) := dk_84 (dk_at dksX3_back_1 17 rfl rfl)
theorem dX3_back_41 : decode cX3_back 41 = .ok (.aload_n 0, 1) := dk_42 (dk_at dksX3_back_1 18 rfl rfl)
theorem dX3_back_42 : decode cX3_back 42 = .ok (.dup, 1) := dk_89 (dk_at dksX3_back_1 19 rfl rfl)
theorem dX3_back_43 : decode cX3_back 43 = .ok (.getfield 275, 3) := dk_180 1 19 (dk_at dksX3_back_1 20 rfl rfl)
theorem dX3_back_46 : decode cX3_back 46 = .ok (.aload_n 0, 1) := dk_42 (dk_at dksX3_back_1 23 rfl rfl)
theorem dX3_back_47 : decode cX3_back 47 = .ok (.getfield 88, 3) := dk_180 0 88 (dk_at dksX3_back_2 0 rfl rfl)
theorem dX3_back_50 : decode cX3_back 50 = .ok (.iload_n 1, 1) := dk_27 (dk_at dksX3_back_2 3 rfl rfl)
theorem dX3_back_51 : decode cX3_back 51 = .ok (.baload, 1) := dk_51 (dk_at dksX3_back_2 4 rfl rfl)
theorem dX3_back_52 : decode cX3_back 52 = .ok (.ifCond .eq 7, 3) := dk_153 0 7 (dk_at dksX3_back_2 5 rfl rfl)
theorem dX3_back_55 : decode cX3_back 55 = .ok (.iconst 1, 1) := dk_4 (dk_at dksX3_back_2 8 rfl rfl)
theorem dX3_back_56 : decode cX3_back 56 = .ok (.goto 4, 3) := dk_167 0 4 (dk_at dksX3_back_2 9 rfl rfl)
theorem dX3_back_59 : decode cX3_back 59 = .ok (.iconst 0, 1) := dk_3 (dk_at dksX3_back_2 12 rfl rfl)
theorem dX3_back_60 : decode cX3_back 60 = .ok (.iadd, 1) := dk_96 (dk_at dksX3_back_2 13 rfl rfl)
theorem dX3_back_61 : decode cX3_back 61 = .ok (.putfield 275, 3) := dk_181 1 19 (dk_at dksX3_back_2 14 rfl rfl)
theorem dX3_back_64 : decode cX3_back 64 = .ok (.iinc 1 1, 3) := dk_132 1 1 (dk_at dksX3_back_2 17 rfl rfl)
theorem dX3_back_67 : decode cX3_back 67 = .ok (.goto (-46), 3) := dk_167 255 210 (dk_at dksX3_back_2 20 rfl rfl)
theorem dX3_back_70 : decode cX3_back 70 = .ok (.aload_n 0, 1) := dk_42 (dk_at dksX3_back_2 23 rfl rfl)
theorem dX3_back_71 : decode cX3_back 71 = .ok (.iconst 0, 1) := dk_3 (dk_at dksX3_back_3 0 rfl rfl)
theorem dX3_back_72 : decode cX3_back 72 = .ok (.putfield 268, 3) := dk_181 1 12 (dk_at dksX3_back_3 1 rfl rfl)
theorem dX3_back_75 : decode cX3_back 75 = .ok (.aload_n 0, 1) := dk_42 (dk_at dksX3_back_3 4 rfl rfl)
theorem dX3_back_76 : decode cX3_back 76 = .ok (.getfield 275, 3) := dk_180 1 19 (dk_at dksX3_back_3 5 rfl rfl)
theorem dX3_back_79 : decode cX3_back 79 = .ok (.ireturn, 1) := dk_172 (dk_at dksX3_back_3 8 rfl rfl)
abbrev cX3_count : ByteArray := prog_9_method_122_code
def yX3_count : MethodName := ⟨RX3, "count", "(I)I"⟩
def dkwX3_count_3 : List UInt8 := [172, 42, 180, 1, 30, 172, 42, 180, 0, 119, 172, 42, 180, 1, 12, 172, 18, 170, 172]
abbrev dktX3_count_3 : List UInt8 := dkwX3_count_3 ++ []
def dkwX3_count_2 : List UInt8 := [42, 180, 0, 45, 172, 42, 180, 1, 19, 172, 42, 180, 1, 5, 172, 42, 180, 0, 190, 172, 42, 182, 1, 212]
abbrev dktX3_count_2 : List UInt8 := dkwX3_count_2 ++ dktX3_count_3
def dkwX3_count_1 : List UInt8 := [170, 0, 0, 0, 0, 86, 0, 0, 0, 0, 0, 0, 0, 7, 0, 0, 0, 46, 0, 0, 0, 51, 0, 0, 0, 56, 0, 0, 0, 61, 0, 0, 0, 66, 0, 0, 0, 71, 0, 0, 0, 76, 0, 0, 0, 81]
abbrev dktX3_count_1 : List UInt8 := dkwX3_count_1 ++ dktX3_count_2
def dkwX3_count_0 : List UInt8 := [42, 3, 181, 0, 116, 27]
abbrev dktX3_count_0 : List UInt8 := dkwX3_count_0 ++ dktX3_count_1
theorem dksX3_count_0 : cX3_count.data.toList.drop 0 = dktX3_count_0 := by decide +kernel
theorem dksX3_count_1 : cX3_count.data.toList.drop 6 = dktX3_count_1 := dk_seg dksX3_count_0 6 rfl rfl
theorem dksX3_count_2 : cX3_count.data.toList.drop 52 = dktX3_count_2 := dk_seg dksX3_count_1 46 rfl rfl
theorem dksX3_count_3 : cX3_count.data.toList.drop 76 = dktX3_count_3 := dk_seg dksX3_count_2 24 rfl rfl
theorem dX3_count_0 : decode cX3_count 0 = .ok (.aload_n 0, 1) := dk_42 (dk_at dksX3_count_0 0 rfl rfl)
theorem dX3_count_1 : decode cX3_count 1 = .ok (.iconst 0, 1) := dk_3 (dk_at dksX3_count_0 1 rfl rfl)
theorem dX3_count_2 : decode cX3_count 2 = .ok (.putfield 116, 3) := dk_181 0 116 (dk_at dksX3_count_0 2 rfl rfl)
theorem dX3_count_5 : decode cX3_count 5 = .ok (.iload_n 1, 1) := dk_27 (dk_at dksX3_count_0 5 rfl rfl)
theorem dX3_count_6 : decode cX3_count 6 = .ok (.tableswitch 86 0 7 #[46, 51, 56, 61, 66, 71, 76, 81], 46) := by decide +kernel
theorem dX3_count_52 : decode cX3_count 52 = .ok (.aload_n 0, 1) := dk_42 (dk_at dksX3_count_2 0 rfl rfl)
theorem dX3_count_53 : decode cX3_count 53 = .ok (.getfield 45, 3) := dk_180 0 45 (dk_at dksX3_count_2 1 rfl rfl)
theorem dX3_count_56 : decode cX3_count 56 = .ok (.ireturn, 1) := dk_172 (dk_at dksX3_count_2 4 rfl rfl)
theorem dX3_count_57 : decode cX3_count 57 = .ok (.aload_n 0, 1) := dk_42 (dk_at dksX3_count_2 5 rfl rfl)
theorem dX3_count_58 : decode cX3_count 58 = .ok (.getfield 275, 3) := dk_180 1 19 (dk_at dksX3_count_2 6 rfl rfl)
theorem dX3_count_61 : decode cX3_count 61 = .ok (.ireturn, 1) := dk_172 (dk_at dksX3_count_2 9 rfl rfl)
theorem dX3_count_62 : decode cX3_count 62 = .ok (.aload_n 0, 1) := dk_42 (dk_at dksX3_count_2 10 rfl rfl)
theorem dX3_count_63 : decode cX3_count 63 = .ok (.getfield 261, 3) := dk_180 1 5 (dk_at dksX3_count_2 11 rfl rfl)
theorem dX3_count_66 : decode cX3_count 66 = .ok (.ireturn, 1) := dk_172 (dk_at dksX3_count_2 14 rfl rfl)
theorem dX3_count_67 : decode cX3_count 67 = .ok (.aload_n 0, 1) := dk_42 (dk_at dksX3_count_2 15 rfl rfl)
theorem dX3_count_68 : decode cX3_count 68 = .ok (.getfield 190, 3) := dk_180 0 190 (dk_at dksX3_count_2 16 rfl rfl)
theorem dX3_count_71 : decode cX3_count 71 = .ok (.ireturn, 1) := dk_172 (dk_at dksX3_count_2 19 rfl rfl)
theorem dX3_count_72 : decode cX3_count 72 = .ok (.aload_n 0, 1) := dk_42 (dk_at dksX3_count_2 20 rfl rfl)
theorem dX3_count_73 : decode cX3_count 73 = .ok (.invokevirtual 468, 3) := dk_182 1 212 (dk_at dksX3_count_2 21 rfl rfl)
theorem dX3_count_76 : decode cX3_count 76 = .ok (.ireturn, 1) := dk_172 (dk_at dksX3_count_3 0 rfl rfl)
theorem dX3_count_77 : decode cX3_count 77 = .ok (.aload_n 0, 1) := dk_42 (dk_at dksX3_count_3 1 rfl rfl)
theorem dX3_count_78 : decode cX3_count 78 = .ok (.getfield 286, 3) := dk_180 1 30 (dk_at dksX3_count_3 2 rfl rfl)
theorem dX3_count_81 : decode cX3_count 81 = .ok (.ireturn, 1) := dk_172 (dk_at dksX3_count_3 5 rfl rfl)
theorem dX3_count_82 : decode cX3_count 82 = .ok (.aload_n 0, 1) := dk_42 (dk_at dksX3_count_3 6 rfl rfl)
theorem dX3_count_83 : decode cX3_count 83 = .ok (.getfield 119, 3) := dk_180 0 119 (dk_at dksX3_count_3 7 rfl rfl)
theorem dX3_count_86 : decode cX3_count 86 = .ok (.ireturn, 1) := dk_172 (dk_at dksX3_count_3 10 rfl rfl)
theorem dX3_count_87 : decode cX3_count 87 = .ok (.aload_n 0, 1) := dk_42 (dk_at dksX3_count_3 11 rfl rfl)
theorem dX3_count_88 : decode cX3_count 88 = .ok (.getfield 268, 3) := dk_180 1 12 (dk_at dksX3_count_3 12 rfl rfl)
theorem dX3_count_91 : decode cX3_count 91 = .ok (.ireturn, 1) := dk_172 (dk_at dksX3_count_3 15 rfl rfl)
theorem dX3_count_92 : decode cX3_count 92 = .ok (.ldc 170, 2) := dk_18 170 (dk_at dksX3_count_3 16 rfl rfl)
theorem dX3_count_94 : decode cX3_count 94 = .ok (.ireturn, 1) := dk_172 (dk_at dksX3_count_3 18 rfl rfl)
abbrev cX3_live : ByteArray := prog_9_method_121_code
def yX3_live : MethodName := ⟨RX3, "live", "()I"⟩
def dkwX3_live_3 : List UInt8 := [180, 0, 76, 28, 46, 182, 1, 2, 96, 60, 132, 2, 1, 167, 255, 224, 27, 172]
abbrev dktX3_live_3 : List UInt8 := dkwX3_live_3 ++ []
def dkwX3_live_2 : List UInt8 := [167, 255, 223, 3, 61, 28, 7, 162, 0, 33, 42, 180, 1, 12, 28, 184, 1, 15, 153, 0, 16, 27, 42, 42]
abbrev dktX3_live_2 : List UInt8 := dkwX3_live_2 ++ dktX3_live_3
def dkwX3_live_1 : List UInt8 := [180, 0, 88, 28, 51, 153, 0, 16, 27, 42, 42, 180, 0, 67, 28, 46, 182, 1, 2, 96, 60, 132, 2, 1]
abbrev dktX3_live_1 : List UInt8 := dkwX3_live_1 ++ dktX3_live_2
def dkwX3_live_0 : List UInt8 := [42, 89, 180, 0, 255, 4, 96, 181, 0, 255, 3, 60, 3, 61, 28, 42, 180, 1, 5, 162, 0, 31, 42]
abbrev dktX3_live_0 : List UInt8 := dkwX3_live_0 ++ dktX3_live_1
theorem dksX3_live_0 : cX3_live.data.toList.drop 0 = dktX3_live_0 := by decide +kernel
theorem dksX3_live_1 : cX3_live.data.toList.drop 23 = dktX3_live_1 := dk_seg dksX3_live_0 23 rfl rfl
theorem dksX3_live_2 : cX3_live.data.toList.drop 47 = dktX3_live_2 := dk_seg dksX3_live_1 24 rfl rfl
theorem dksX3_live_3 : cX3_live.data.toList.drop 71 = dktX3_live_3 := dk_seg dksX3_live_2 24 rfl rfl
theorem dX3_live_0 : decode cX3_live 0 = .ok (.aload_n 0, 1) := dk_42 (dk_at dksX3_live_0 0 rfl rfl)
theorem dX3_live_1 : decode cX3_live 1 = .ok (.dup, 1) := dk_89 (dk_at dksX3_live_0 1 rfl rfl)
theorem dX3_live_2 : decode cX3_live 2 = .ok (.getfield 255, 3) := dk_180 0 255 (dk_at dksX3_live_0 2 rfl rfl)
theorem dX3_live_5 : decode cX3_live 5 = .ok (.iconst 1, 1) := dk_4 (dk_at dksX3_live_0 5 rfl rfl)
theorem dX3_live_6 : decode cX3_live 6 = .ok (.iadd, 1) := dk_96 (dk_at dksX3_live_0 6 rfl rfl)
theorem dX3_live_7 : decode cX3_live 7 = .ok (.putfield 255, 3) := dk_181 0 255 (dk_at dksX3_live_0 7 rfl rfl)
theorem dX3_live_10 : decode cX3_live 10 = .ok (.iconst 0, 1) := dk_3 (dk_at dksX3_live_0 10 rfl rfl)
theorem dX3_live_11 : decode cX3_live 11 = .ok (.istore_n 1, 1) := dk_60 (dk_at dksX3_live_0 11 rfl rfl)
theorem dX3_live_12 : decode cX3_live 12 = .ok (.iconst 0, 1) := dk_3 (dk_at dksX3_live_0 12 rfl rfl)
theorem dX3_live_13 : decode cX3_live 13 = .ok (.istore_n 2, 1) := dk_61 (dk_at dksX3_live_0 13 rfl rfl)
theorem dX3_live_14 : decode cX3_live 14 = .ok (.iload_n 2, 1) := dk_28 (dk_at dksX3_live_0 14 rfl rfl)
theorem dX3_live_15 : decode cX3_live 15 = .ok (.aload_n 0, 1) := dk_42 (dk_at dksX3_live_0 15 rfl rfl)
theorem dX3_live_16 : decode cX3_live 16 = .ok (.getfield 261, 3) := dk_180 1 5 (dk_at dksX3_live_0 16 rfl rfl)
theorem dX3_live_19 : decode cX3_live 19 = .ok (.if_icmp .ge 31, 3) := dk_162 0 31 (dk_at dksX3_live_0 19 rfl rfl)
theorem dX3_live_22 : decode cX3_live 22 = .ok (.aload_n 0, 1) := dk_42 (dk_at dksX3_live_0 22 rfl rfl)
theorem dX3_live_23 : decode cX3_live 23 = .ok (.getfield 88, 3) := dk_180 0 88 (dk_at dksX3_live_1 0 rfl rfl)
theorem dX3_live_26 : decode cX3_live 26 = .ok (.iload_n 2, 1) := dk_28 (dk_at dksX3_live_1 3 rfl rfl)
theorem dX3_live_27 : decode cX3_live 27 = .ok (.baload, 1) := dk_51 (dk_at dksX3_live_1 4 rfl rfl)
theorem dX3_live_28 : decode cX3_live 28 = .ok (.ifCond .eq 16, 3) := dk_153 0 16 (dk_at dksX3_live_1 5 rfl rfl)
theorem dX3_live_31 : decode cX3_live 31 = .ok (.iload_n 1, 1) := dk_27 (dk_at dksX3_live_1 8 rfl rfl)
theorem dX3_live_32 : decode cX3_live 32 = .ok (.aload_n 0, 1) := dk_42 (dk_at dksX3_live_1 9 rfl rfl)
theorem dX3_live_33 : decode cX3_live 33 = .ok (.aload_n 0, 1) := dk_42 (dk_at dksX3_live_1 10 rfl rfl)
theorem dX3_live_34 : decode cX3_live 34 = .ok (.getfield 67, 3) := dk_180 0 67 (dk_at dksX3_live_1 11 rfl rfl)
theorem dX3_live_37 : decode cX3_live 37 = .ok (.iload_n 2, 1) := dk_28 (dk_at dksX3_live_1 14 rfl rfl)
theorem dX3_live_38 : decode cX3_live 38 = .ok (.iaload, 1) := dk_46 (dk_at dksX3_live_1 15 rfl rfl)
theorem dX3_live_39 : decode cX3_live 39 = .ok (.invokevirtual 258, 3) := dk_182 1 2 (dk_at dksX3_live_1 16 rfl rfl)
theorem dX3_live_42 : decode cX3_live 42 = .ok (.iadd, 1) := dk_96 (dk_at dksX3_live_1 19 rfl rfl)
theorem dX3_live_43 : decode cX3_live 43 = .ok (.istore_n 1, 1) := dk_60 (dk_at dksX3_live_1 20 rfl rfl)
theorem dX3_live_44 : decode cX3_live 44 = .ok (.iinc 2 1, 3) := dk_132 2 1 (dk_at dksX3_live_1 21 rfl rfl)
theorem dX3_live_47 : decode cX3_live 47 = .ok (.goto (-33), 3) := dk_167 255 223 (dk_at dksX3_live_2 0 rfl rfl)
theorem dX3_live_50 : decode cX3_live 50 = .ok (.iconst 0, 1) := dk_3 (dk_at dksX3_live_2 3 rfl rfl)
theorem dX3_live_51 : decode cX3_live 51 = .ok (.istore_n 2, 1) := dk_61 (dk_at dksX3_live_2 4 rfl rfl)
theorem dX3_live_52 : decode cX3_live 52 = .ok (.iload_n 2, 1) := dk_28 (dk_at dksX3_live_2 5 rfl rfl)
theorem dX3_live_53 : decode cX3_live 53 = .ok (.iconst 4, 1) := dk_7 (dk_at dksX3_live_2 6 rfl rfl)
theorem dX3_live_54 : decode cX3_live 54 = .ok (.if_icmp .ge 33, 3) := dk_162 0 33 (dk_at dksX3_live_2 7 rfl rfl)
theorem dX3_live_57 : decode cX3_live 57 = .ok (.aload_n 0, 1) := dk_42 (dk_at dksX3_live_2 10 rfl rfl)
theorem dX3_live_58 : decode cX3_live 58 = .ok (.getfield 268, 3) := dk_180 1 12 (dk_at dksX3_live_2 11 rfl rfl)
theorem dX3_live_61 : decode cX3_live 61 = .ok (.iload_n 2, 1) := dk_28 (dk_at dksX3_live_2 14 rfl rfl)
theorem dX3_live_62 : decode cX3_live 62 = .ok (.invokestatic 271, 3) := dk_184 1 15 (dk_at dksX3_live_2 15 rfl rfl)
theorem dX3_live_65 : decode cX3_live 65 = .ok (.ifCond .eq 16, 3) := dk_153 0 16 (dk_at dksX3_live_2 18 rfl rfl)
theorem dX3_live_68 : decode cX3_live 68 = .ok (.iload_n 1, 1) := dk_27 (dk_at dksX3_live_2 21 rfl rfl)
theorem dX3_live_69 : decode cX3_live 69 = .ok (.aload_n 0, 1) := dk_42 (dk_at dksX3_live_2 22 rfl rfl)
theorem dX3_live_70 : decode cX3_live 70 = .ok (.aload_n 0, 1) := dk_42 (dk_at dksX3_live_2 23 rfl rfl)
theorem dX3_live_71 : decode cX3_live 71 = .ok (.getfield 76, 3) := dk_180 0 76 (dk_at dksX3_live_3 0 rfl rfl)
theorem dX3_live_74 : decode cX3_live 74 = .ok (.iload_n 2, 1) := dk_28 (dk_at dksX3_live_3 3 rfl rfl)
theorem dX3_live_75 : decode cX3_live 75 = .ok (.iaload, 1) := dk_46 (dk_at dksX3_live_3 4 rfl rfl)
theorem dX3_live_76 : decode cX3_live 76 = .ok (.invokevirtual 258, 3) := dk_182 1 2 (dk_at dksX3_live_3 5 rfl rfl)
theorem dX3_live_79 : decode cX3_live 79 = .ok (.iadd, 1) := dk_96 (dk_at dksX3_live_3 8 rfl rfl)
theorem dX3_live_80 : decode cX3_live 80 = .ok (.istore_n 1, 1) := dk_60 (dk_at dksX3_live_3 9 rfl rfl)
theorem dX3_live_81 : decode cX3_live 81 = .ok (.iinc 2 1, 3) := dk_132 2 1 (dk_at dksX3_live_3 10 rfl rfl)
theorem dX3_live_84 : decode cX3_live 84 = .ok (.goto (-32), 3) := dk_167 255 224 (dk_at dksX3_live_3 13 rfl rfl)
theorem dX3_live_87 : decode cX3_live 87 = .ok (.iload_n 1, 1) := dk_27 (dk_at dksX3_live_3 16 rfl rfl)
theorem dX3_live_88 : decode cX3_live 88 = .ok (.ireturn, 1) := dk_172 (dk_at dksX3_live_3 17 rfl rfl)
theorem q135 : (Jvm.Cond.initialized "WideMapModel") ∈ lw_all := lw_g (lw_at lw_m1 5 rfl) rfl
theorem q1699 : (Jvm.Cond.instantiable "WideMapModel" (56 : Nat)) ∈ lw_all := lw_g (lw_at lw_m7 129 rfl) rfl
theorem q1701 : (Jvm.Cond.instanceMethod ({ cls := "WideMapModel", name := "<init>", desc := "()V" } : Jvm.MethodName)) ∈ lw_all := lw_g (lw_at lw_m7 131 rfl) rfl
theorem q1702 : (Jvm.Cond.code ({ cls := "WideMapModel", name := "<init>", desc := "()V" } : Jvm.MethodName) prog_9_method_1_code (1 : Nat) (Option.none : Option Jvm.ClassFile.FieldType)) ∈ lw_all := lw_g (lw_at lw_m7 132 rfl) rfl
theorem q1703 : (Jvm.Cond.methodLink "WideMapModel" (1 : Nat) ({ cls := "java/lang/Object", name := "<init>", desc := "()V" } : Jvm.MethodName)) ∈ lw_all := lw_g (lw_at lw_m7 133 rfl) rfl
theorem q1704 : (Jvm.Cond.constant "WideMapModel" (38 : Nat) (84000 : Int32)) ∈ lw_all := lw_g (lw_at lw_m7 134 rfl) rfl
theorem q1705 : (Jvm.Cond.fieldLink "WideMapModel" (116 : Nat) "WideMapModel" "thrown" "I") ∈ lw_all := lw_g (lw_at lw_m7 135 rfl) rfl
theorem q1706 : (Jvm.Cond.fieldLink "WideMapModel" (9 : Nat) "WideMapModel" "tape" "[B") ∈ lw_all := lw_g (lw_at lw_m7 136 rfl) rfl
theorem q1707 : (Jvm.Cond.fieldLink "WideMapModel" (119 : Nat) "WideMapModel" "length" "I") ∈ lw_all := lw_g (lw_at lw_m7 137 rfl) rfl
theorem q1708 : (Jvm.Cond.fieldLink "WideMapModel" (130 : Nat) "WideMapModel" "at" "I") ∈ lw_all := lw_g (lw_at lw_m7 138 rfl) rfl
theorem q1709 : (Jvm.Cond.fieldLink "WideMapModel" (137 : Nat) "WideMapModel" "fault" "I") ∈ lw_all := lw_g (lw_at lw_m7 139 rfl) rfl
theorem q1710 : (Jvm.Cond.fieldLink "WideMapModel" (13 : Nat) "WideMapModel" "entry" "[I") ∈ lw_all := lw_g (lw_at lw_m7 140 rfl) rfl
theorem q1711 : (Jvm.Cond.fieldLink "WideMapModel" (17 : Nat) "WideMapModel" "plan" "[I") ∈ lw_all := lw_g (lw_at lw_m7 141 rfl) rfl
theorem q1712 : (Jvm.Cond.fieldLink "WideMapModel" (20 : Nat) "WideMapModel" "planLong" "[I") ∈ lw_all := lw_g (lw_at lw_m7 142 rfl) rfl
theorem q1713 : (Jvm.Cond.fieldLink "WideMapModel" (153 : Nat) "WideMapModel" "entries" "I") ∈ lw_all := lw_g (lw_at lw_m7 143 rfl) rfl
theorem q1714 : (Jvm.Cond.fieldLink "WideMapModel" (286 : Nat) "WideMapModel" "plans" "I") ∈ lw_all := lw_g (lw_at lw_m7 144 rfl) rfl
theorem q1715 : (Jvm.Cond.fieldLink "WideMapModel" (23 : Nat) "WideMapModel" "leaf" "[I") ∈ lw_all := lw_g (lw_at lw_m7 145 rfl) rfl
theorem q1716 : (Jvm.Cond.fieldLink "WideMapModel" (26 : Nat) "WideMapModel" "many" "[I") ∈ lw_all := lw_g (lw_at lw_m7 146 rfl) rfl
theorem q1717 : (Jvm.Cond.fieldLink "WideMapModel" (29 : Nat) "WideMapModel" "token" "[I") ∈ lw_all := lw_g (lw_at lw_m7 147 rfl) rfl
theorem q1718 : (Jvm.Cond.fieldLink "WideMapModel" (32 : Nat) "WideMapModel" "mark" "[I") ∈ lw_all := lw_g (lw_at lw_m7 148 rfl) rfl
theorem q1719 : (Jvm.Cond.fieldLink "WideMapModel" (35 : Nat) "WideMapModel" "free" "[I") ∈ lw_all := lw_g (lw_at lw_m7 149 rfl) rfl
theorem q1720 : (Jvm.Cond.fieldLink "WideMapModel" (39 : Nat) "WideMapModel" "one" "[I") ∈ lw_all := lw_g (lw_at lw_m7 150 rfl) rfl
theorem q1721 : (Jvm.Cond.fieldLink "WideMapModel" (42 : Nat) "WideMapModel" "two" "[I") ∈ lw_all := lw_g (lw_at lw_m7 151 rfl) rfl
theorem q1722 : (Jvm.Cond.fieldLink "WideMapModel" (184 : Nat) "WideMapModel" "frees" "I") ∈ lw_all := lw_g (lw_at lw_m7 152 rfl) rfl
theorem q1723 : (Jvm.Cond.fieldLink "WideMapModel" (187 : Nat) "WideMapModel" "used" "I") ∈ lw_all := lw_g (lw_at lw_m7 153 rfl) rfl
theorem q1724 : (Jvm.Cond.fieldLink "WideMapModel" (45 : Nat) "WideMapModel" "width" "I") ∈ lw_all := lw_g (lw_at lw_m7 154 rfl) rfl
theorem q1725 : (Jvm.Cond.fieldLink "WideMapModel" (190 : Nat) "WideMapModel" "made" "I") ∈ lw_all := lw_g (lw_at lw_m7 155 rfl) rfl
theorem q1726 : (Jvm.Cond.fieldLink "WideMapModel" (281 : Nat) "WideMapModel" "tokens" "I") ∈ lw_all := lw_g (lw_at lw_m7 156 rfl) rfl
theorem q1727 : (Jvm.Cond.fieldLink "WideMapModel" (255 : Nat) "WideMapModel" "stamp" "I") ∈ lw_all := lw_g (lw_at lw_m7 157 rfl) rfl
theorem q1728 : (Jvm.Cond.fieldLink "WideMapModel" (49 : Nat) "WideMapModel" "wayNode" "[I") ∈ lw_all := lw_g (lw_at lw_m7 158 rfl) rfl
theorem q1729 : (Jvm.Cond.fieldLink "WideMapModel" (52 : Nat) "WideMapModel" "waySpot" "[I") ∈ lw_all := lw_g (lw_at lw_m7 159 rfl) rfl
theorem q1730 : (Jvm.Cond.fieldLink "WideMapModel" (215 : Nat) "WideMapModel" "wayLong" "I") ∈ lw_all := lw_g (lw_at lw_m7 160 rfl) rfl
theorem q1731 : (Jvm.Cond.fieldLink "WideMapModel" (55 : Nat) "WideMapModel" "keyRow" "[I") ∈ lw_all := lw_g (lw_at lw_m7 161 rfl) rfl
theorem q1732 : (Jvm.Cond.fieldLink "WideMapModel" (58 : Nat) "WideMapModel" "valueRow" "[I") ∈ lw_all := lw_g (lw_at lw_m7 162 rfl) rfl
theorem q1733 : (Jvm.Cond.fieldLink "WideMapModel" (61 : Nat) "WideMapModel" "nodeRow" "[I") ∈ lw_all := lw_g (lw_at lw_m7 163 rfl) rfl
theorem q1734 : (Jvm.Cond.fieldLink "WideMapModel" (64 : Nat) "WideMapModel" "deepRow" "[I") ∈ lw_all := lw_g (lw_at lw_m7 164 rfl) rfl
theorem q1735 : (Jvm.Cond.fieldLink "WideMapModel" (249 : Nat) "WideMapModel" "keysLaid" "I") ∈ lw_all := lw_g (lw_at lw_m7 165 rfl) rfl
theorem q1736 : (Jvm.Cond.fieldLink "WideMapModel" (243 : Nat) "WideMapModel" "nodesLaid" "I") ∈ lw_all := lw_g (lw_at lw_m7 166 rfl) rfl
theorem q1737 : (Jvm.Cond.fieldLink "WideMapModel" (67 : Nat) "WideMapModel" "rootOf" "[I") ∈ lw_all := lw_g (lw_at lw_m7 167 rfl) rfl
theorem q1738 : (Jvm.Cond.fieldLink "WideMapModel" (70 : Nat) "WideMapModel" "fromOne" "[I") ∈ lw_all := lw_g (lw_at lw_m7 168 rfl) rfl
theorem q1739 : (Jvm.Cond.fieldLink "WideMapModel" (73 : Nat) "WideMapModel" "fromOther" "[I") ∈ lw_all := lw_g (lw_at lw_m7 169 rfl) rfl
theorem q1740 : (Jvm.Cond.fieldLink "WideMapModel" (76 : Nat) "WideMapModel" "builderRoot" "[I") ∈ lw_all := lw_g (lw_at lw_m7 170 rfl) rfl
theorem q1741 : (Jvm.Cond.fieldLink "WideMapModel" (79 : Nat) "WideMapModel" "builderToken" "[I") ∈ lw_all := lw_g (lw_at lw_m7 171 rfl) rfl
theorem q1742 : (Jvm.Cond.fieldLink "WideMapModel" (82 : Nat) "WideMapModel" "builderFrom" "[I") ∈ lw_all := lw_g (lw_at lw_m7 172 rfl) rfl
theorem q1743 : (Jvm.Cond.fieldLink "WideMapModel" (85 : Nat) "WideMapModel" "status" "[I") ∈ lw_all := lw_g (lw_at lw_m7 173 rfl) rfl
theorem q1744 : (Jvm.Cond.fieldLink "WideMapModel" (88 : Nat) "WideMapModel" "isHeld" "[Z") ∈ lw_all := lw_g (lw_at lw_m7 174 rfl) rfl
theorem q1745 : (Jvm.Cond.fieldLink "WideMapModel" (92 : Nat) "WideMapModel" "isImaged" "[Z") ∈ lw_all := lw_g (lw_at lw_m7 175 rfl) rfl
theorem q1746 : (Jvm.Cond.fieldLink "WideMapModel" (261 : Nat) "WideMapModel" "numbers" "I") ∈ lw_all := lw_g (lw_at lw_m7 176 rfl) rfl
theorem q1747 : (Jvm.Cond.fieldLink "WideMapModel" (275 : Nat) "WideMapModel" "held" "I") ∈ lw_all := lw_g (lw_at lw_m7 177 rfl) rfl
theorem q1748 : (Jvm.Cond.fieldLink "WideMapModel" (268 : Nat) "WideMapModel" "open" "I") ∈ lw_all := lw_g (lw_at lw_m7 178 rfl) rfl
theorem q1749 : (Jvm.Cond.fieldLink "WideMapModel" (264 : Nat) "WideMapModel" "hasImage" "Z") ∈ lw_all := lw_g (lw_at lw_m7 179 rfl) rfl
theorem q1750 : (Jvm.Cond.fieldLink "WideMapModel" (95 : Nat) "WideMapModel" "there" "[I") ∈ lw_all := lw_g (lw_at lw_m7 180 rfl) rfl
theorem q1751 : (Jvm.Cond.fieldLink "WideMapModel" (98 : Nat) "WideMapModel" "valueIn" "[I") ∈ lw_all := lw_g (lw_at lw_m7 181 rfl) rfl
theorem q1752 : (Jvm.Cond.fieldLink "WideMapModel" (101 : Nat) "WideMapModel" "ownKeys" "[I") ∈ lw_all := lw_g (lw_at lw_m7 182 rfl) rfl
theorem q1753 : (Jvm.Cond.fieldLink "WideMapModel" (104 : Nat) "WideMapModel" "ownValues" "[I") ∈ lw_all := lw_g (lw_at lw_m7 183 rfl) rfl
theorem q1754 : (Jvm.Cond.fieldLink "WideMapModel" (353 : Nat) "WideMapModel" "owns" "I") ∈ lw_all := lw_g (lw_at lw_m7 184 rfl) rfl
theorem q1755 : (Jvm.Cond.fieldLink "WideMapModel" (416 : Nat) "WideMapModel" "x" "J") ∈ lw_all := lw_g (lw_at lw_m7 185 rfl) rfl
theorem q1756 : (Jvm.Cond.fieldLink "WideMapModel" (107 : Nat) "WideMapModel" "shows" "[B") ∈ lw_all := lw_g (lw_at lw_m7 186 rfl) rfl
theorem q1757 : (Jvm.Cond.fieldLink "WideMapModel" (110 : Nat) "WideMapModel" "showsLatest" "[B") ∈ lw_all := lw_g (lw_at lw_m7 187 rfl) rfl
theorem q1758 : (Jvm.Cond.fieldLink "WideMapModel" (435 : Nat) "WideMapModel" "showsMany" "I") ∈ lw_all := lw_g (lw_at lw_m7 188 rfl) rfl
theorem q1759 : (Jvm.Cond.fieldLink "WideMapModel" (462 : Nat) "WideMapModel" "latestMany" "I") ∈ lw_all := lw_g (lw_at lw_m7 189 rfl) rfl
theorem q1760 : (Jvm.Cond.fieldLink "WideMapModel" (113 : Nat) "WideMapModel" "source" "[I") ∈ lw_all := lw_g (lw_at lw_m7 190 rfl) rfl
theorem q1761 : (Jvm.Cond.lays "WideMapModel" "WideMapModel" "thrown" "I") ∈ lw_all := lw_g (lw_at lw_m7 191 rfl) rfl
theorem q1762 : (Jvm.Cond.soleField "WideMapModel" "thrown") ∈ lw_all := lw_g (lw_at lw_m7 192 rfl) rfl
theorem q1763 : (Jvm.Cond.laysFinal "WideMapModel" "WideMapModel" "tape" "[B") ∈ lw_all := lw_g (lw_at lw_m7 193 rfl) rfl
theorem q1764 : (Jvm.Cond.soleField "WideMapModel" "tape") ∈ lw_all := lw_g (lw_at lw_m7 194 rfl) rfl
theorem q1765 : (Jvm.Cond.lays "WideMapModel" "WideMapModel" "length" "I") ∈ lw_all := lw_g (lw_at lw_m7 195 rfl) rfl
theorem q1766 : (Jvm.Cond.soleField "WideMapModel" "length") ∈ lw_all := lw_g (lw_at lw_m7 196 rfl) rfl
theorem q1767 : (Jvm.Cond.lays "WideMapModel" "WideMapModel" "at" "I") ∈ lw_all := lw_g (lw_at lw_m7 197 rfl) rfl
theorem q1768 : (Jvm.Cond.soleField "WideMapModel" "at") ∈ lw_all := lw_g (lw_at lw_m7 198 rfl) rfl
theorem q1769 : (Jvm.Cond.lays "WideMapModel" "WideMapModel" "fault" "I") ∈ lw_all := lw_g (lw_at lw_m7 199 rfl) rfl
theorem q1770 : (Jvm.Cond.soleField "WideMapModel" "fault") ∈ lw_all := lw_g (lw_at lw_m7 200 rfl) rfl
theorem q1771 : (Jvm.Cond.laysFinal "WideMapModel" "WideMapModel" "entry" "[I") ∈ lw_all := lw_g (lw_at lw_m7 201 rfl) rfl
theorem q1772 : (Jvm.Cond.soleField "WideMapModel" "entry") ∈ lw_all := lw_g (lw_at lw_m7 202 rfl) rfl
theorem q1773 : (Jvm.Cond.laysFinal "WideMapModel" "WideMapModel" "plan" "[I") ∈ lw_all := lw_g (lw_at lw_m7 203 rfl) rfl
theorem q1774 : (Jvm.Cond.soleField "WideMapModel" "plan") ∈ lw_all := lw_g (lw_at lw_m7 204 rfl) rfl
theorem q1775 : (Jvm.Cond.laysFinal "WideMapModel" "WideMapModel" "planLong" "[I") ∈ lw_all := lw_g (lw_at lw_m7 205 rfl) rfl
theorem q1776 : (Jvm.Cond.soleField "WideMapModel" "planLong") ∈ lw_all := lw_g (lw_at lw_m7 206 rfl) rfl
theorem q1777 : (Jvm.Cond.lays "WideMapModel" "WideMapModel" "entries" "I") ∈ lw_all := lw_g (lw_at lw_m7 207 rfl) rfl
theorem q1778 : (Jvm.Cond.soleField "WideMapModel" "entries") ∈ lw_all := lw_g (lw_at lw_m7 208 rfl) rfl
theorem q1779 : (Jvm.Cond.lays "WideMapModel" "WideMapModel" "plans" "I") ∈ lw_all := lw_g (lw_at lw_m7 209 rfl) rfl
theorem q1780 : (Jvm.Cond.soleField "WideMapModel" "plans") ∈ lw_all := lw_g (lw_at lw_m7 210 rfl) rfl
theorem q1781 : (Jvm.Cond.laysFinal "WideMapModel" "WideMapModel" "leaf" "[I") ∈ lw_all := lw_g (lw_at lw_m7 211 rfl) rfl
theorem q1782 : (Jvm.Cond.soleField "WideMapModel" "leaf") ∈ lw_all := lw_g (lw_at lw_m7 212 rfl) rfl
theorem q1783 : (Jvm.Cond.laysFinal "WideMapModel" "WideMapModel" "many" "[I") ∈ lw_all := lw_g (lw_at lw_m7 213 rfl) rfl
theorem q1784 : (Jvm.Cond.soleField "WideMapModel" "many") ∈ lw_all := lw_g (lw_at lw_m7 214 rfl) rfl
theorem q1785 : (Jvm.Cond.laysFinal "WideMapModel" "WideMapModel" "token" "[I") ∈ lw_all := lw_g (lw_at lw_m7 215 rfl) rfl
theorem q1786 : (Jvm.Cond.soleField "WideMapModel" "token") ∈ lw_all := lw_g (lw_at lw_m7 216 rfl) rfl
theorem q1787 : (Jvm.Cond.laysFinal "WideMapModel" "WideMapModel" "mark" "[I") ∈ lw_all := lw_g (lw_at lw_m7 217 rfl) rfl
theorem q1788 : (Jvm.Cond.soleField "WideMapModel" "mark") ∈ lw_all := lw_g (lw_at lw_m7 218 rfl) rfl
theorem q1789 : (Jvm.Cond.laysFinal "WideMapModel" "WideMapModel" "free" "[I") ∈ lw_all := lw_g (lw_at lw_m7 219 rfl) rfl
theorem q1790 : (Jvm.Cond.soleField "WideMapModel" "free") ∈ lw_all := lw_g (lw_at lw_m7 220 rfl) rfl
theorem q1791 : (Jvm.Cond.laysFinal "WideMapModel" "WideMapModel" "one" "[I") ∈ lw_all := lw_g (lw_at lw_m7 221 rfl) rfl
theorem q1792 : (Jvm.Cond.soleField "WideMapModel" "one") ∈ lw_all := lw_g (lw_at lw_m7 222 rfl) rfl
theorem q1793 : (Jvm.Cond.laysFinal "WideMapModel" "WideMapModel" "two" "[I") ∈ lw_all := lw_g (lw_at lw_m7 223 rfl) rfl
theorem q1794 : (Jvm.Cond.soleField "WideMapModel" "two") ∈ lw_all := lw_g (lw_at lw_m7 224 rfl) rfl
theorem q1795 : (Jvm.Cond.lays "WideMapModel" "WideMapModel" "frees" "I") ∈ lw_all := lw_g (lw_at lw_m7 225 rfl) rfl
theorem q1796 : (Jvm.Cond.soleField "WideMapModel" "frees") ∈ lw_all := lw_g (lw_at lw_m7 226 rfl) rfl
theorem q1797 : (Jvm.Cond.lays "WideMapModel" "WideMapModel" "used" "I") ∈ lw_all := lw_g (lw_at lw_m7 227 rfl) rfl
theorem q1798 : (Jvm.Cond.soleField "WideMapModel" "used") ∈ lw_all := lw_g (lw_at lw_m7 228 rfl) rfl
theorem q1799 : (Jvm.Cond.lays "WideMapModel" "WideMapModel" "width" "I") ∈ lw_all := lw_g (lw_at lw_m7 229 rfl) rfl
theorem q1800 : (Jvm.Cond.soleField "WideMapModel" "width") ∈ lw_all := lw_g (lw_at lw_m7 230 rfl) rfl
theorem q1801 : (Jvm.Cond.lays "WideMapModel" "WideMapModel" "made" "I") ∈ lw_all := lw_g (lw_at lw_m7 231 rfl) rfl
theorem q1802 : (Jvm.Cond.soleField "WideMapModel" "made") ∈ lw_all := lw_g (lw_at lw_m7 232 rfl) rfl
theorem q1803 : (Jvm.Cond.lays "WideMapModel" "WideMapModel" "tokens" "I") ∈ lw_all := lw_g (lw_at lw_m7 233 rfl) rfl
theorem q1804 : (Jvm.Cond.soleField "WideMapModel" "tokens") ∈ lw_all := lw_g (lw_at lw_m7 234 rfl) rfl
theorem q1805 : (Jvm.Cond.lays "WideMapModel" "WideMapModel" "stamp" "I") ∈ lw_all := lw_g (lw_at lw_m7 235 rfl) rfl
theorem q1806 : (Jvm.Cond.soleField "WideMapModel" "stamp") ∈ lw_all := lw_g (lw_at lw_m7 236 rfl) rfl
theorem q1807 : (Jvm.Cond.laysFinal "WideMapModel" "WideMapModel" "wayNode" "[I") ∈ lw_all := lw_g (lw_at lw_m7 237 rfl) rfl
theorem q1808 : (Jvm.Cond.soleField "WideMapModel" "wayNode") ∈ lw_all := lw_g (lw_at lw_m7 238 rfl) rfl
theorem q1809 : (Jvm.Cond.laysFinal "WideMapModel" "WideMapModel" "waySpot" "[I") ∈ lw_all := lw_g (lw_at lw_m7 239 rfl) rfl
theorem q1810 : (Jvm.Cond.soleField "WideMapModel" "waySpot") ∈ lw_all := lw_g (lw_at lw_m8 0 rfl) rfl
theorem q1811 : (Jvm.Cond.lays "WideMapModel" "WideMapModel" "wayLong" "I") ∈ lw_all := lw_g (lw_at lw_m8 1 rfl) rfl
theorem q1812 : (Jvm.Cond.soleField "WideMapModel" "wayLong") ∈ lw_all := lw_g (lw_at lw_m8 2 rfl) rfl
theorem q1813 : (Jvm.Cond.laysFinal "WideMapModel" "WideMapModel" "keyRow" "[I") ∈ lw_all := lw_g (lw_at lw_m8 3 rfl) rfl
theorem q1814 : (Jvm.Cond.soleField "WideMapModel" "keyRow") ∈ lw_all := lw_g (lw_at lw_m8 4 rfl) rfl
theorem q1815 : (Jvm.Cond.laysFinal "WideMapModel" "WideMapModel" "valueRow" "[I") ∈ lw_all := lw_g (lw_at lw_m8 5 rfl) rfl
theorem q1816 : (Jvm.Cond.soleField "WideMapModel" "valueRow") ∈ lw_all := lw_g (lw_at lw_m8 6 rfl) rfl
theorem q1817 : (Jvm.Cond.laysFinal "WideMapModel" "WideMapModel" "nodeRow" "[I") ∈ lw_all := lw_g (lw_at lw_m8 7 rfl) rfl
theorem q1818 : (Jvm.Cond.soleField "WideMapModel" "nodeRow") ∈ lw_all := lw_g (lw_at lw_m8 8 rfl) rfl
theorem q1819 : (Jvm.Cond.laysFinal "WideMapModel" "WideMapModel" "deepRow" "[I") ∈ lw_all := lw_g (lw_at lw_m8 9 rfl) rfl
theorem q1820 : (Jvm.Cond.soleField "WideMapModel" "deepRow") ∈ lw_all := lw_g (lw_at lw_m8 10 rfl) rfl
theorem q1821 : (Jvm.Cond.lays "WideMapModel" "WideMapModel" "keysLaid" "I") ∈ lw_all := lw_g (lw_at lw_m8 11 rfl) rfl
theorem q1822 : (Jvm.Cond.soleField "WideMapModel" "keysLaid") ∈ lw_all := lw_g (lw_at lw_m8 12 rfl) rfl
theorem q1823 : (Jvm.Cond.lays "WideMapModel" "WideMapModel" "nodesLaid" "I") ∈ lw_all := lw_g (lw_at lw_m8 13 rfl) rfl
theorem q1824 : (Jvm.Cond.soleField "WideMapModel" "nodesLaid") ∈ lw_all := lw_g (lw_at lw_m8 14 rfl) rfl
theorem q1825 : (Jvm.Cond.laysFinal "WideMapModel" "WideMapModel" "rootOf" "[I") ∈ lw_all := lw_g (lw_at lw_m8 15 rfl) rfl
theorem q1826 : (Jvm.Cond.soleField "WideMapModel" "rootOf") ∈ lw_all := lw_g (lw_at lw_m8 16 rfl) rfl
theorem q1827 : (Jvm.Cond.laysFinal "WideMapModel" "WideMapModel" "fromOne" "[I") ∈ lw_all := lw_g (lw_at lw_m8 17 rfl) rfl
theorem q1828 : (Jvm.Cond.soleField "WideMapModel" "fromOne") ∈ lw_all := lw_g (lw_at lw_m8 18 rfl) rfl
theorem q1829 : (Jvm.Cond.laysFinal "WideMapModel" "WideMapModel" "fromOther" "[I") ∈ lw_all := lw_g (lw_at lw_m8 19 rfl) rfl
theorem q1830 : (Jvm.Cond.soleField "WideMapModel" "fromOther") ∈ lw_all := lw_g (lw_at lw_m8 20 rfl) rfl
theorem q1831 : (Jvm.Cond.laysFinal "WideMapModel" "WideMapModel" "builderRoot" "[I") ∈ lw_all := lw_g (lw_at lw_m8 21 rfl) rfl
theorem q1832 : (Jvm.Cond.soleField "WideMapModel" "builderRoot") ∈ lw_all := lw_g (lw_at lw_m8 22 rfl) rfl
theorem q1833 : (Jvm.Cond.laysFinal "WideMapModel" "WideMapModel" "builderToken" "[I") ∈ lw_all := lw_g (lw_at lw_m8 23 rfl) rfl
theorem q1834 : (Jvm.Cond.soleField "WideMapModel" "builderToken") ∈ lw_all := lw_g (lw_at lw_m8 24 rfl) rfl
theorem q1835 : (Jvm.Cond.laysFinal "WideMapModel" "WideMapModel" "builderFrom" "[I") ∈ lw_all := lw_g (lw_at lw_m8 25 rfl) rfl
theorem q1836 : (Jvm.Cond.soleField "WideMapModel" "builderFrom") ∈ lw_all := lw_g (lw_at lw_m8 26 rfl) rfl
theorem q1837 : (Jvm.Cond.laysFinal "WideMapModel" "WideMapModel" "status" "[I") ∈ lw_all := lw_g (lw_at lw_m8 27 rfl) rfl
theorem q1838 : (Jvm.Cond.soleField "WideMapModel" "status") ∈ lw_all := lw_g (lw_at lw_m8 28 rfl) rfl
theorem q1839 : (Jvm.Cond.laysFinal "WideMapModel" "WideMapModel" "isHeld" "[Z") ∈ lw_all := lw_g (lw_at lw_m8 29 rfl) rfl
theorem q1840 : (Jvm.Cond.soleField "WideMapModel" "isHeld") ∈ lw_all := lw_g (lw_at lw_m8 30 rfl) rfl
theorem q1841 : (Jvm.Cond.laysFinal "WideMapModel" "WideMapModel" "isImaged" "[Z") ∈ lw_all := lw_g (lw_at lw_m8 31 rfl) rfl
theorem q1842 : (Jvm.Cond.soleField "WideMapModel" "isImaged") ∈ lw_all := lw_g (lw_at lw_m8 32 rfl) rfl
theorem q1843 : (Jvm.Cond.lays "WideMapModel" "WideMapModel" "numbers" "I") ∈ lw_all := lw_g (lw_at lw_m8 33 rfl) rfl
theorem q1844 : (Jvm.Cond.soleField "WideMapModel" "numbers") ∈ lw_all := lw_g (lw_at lw_m8 34 rfl) rfl
theorem q1845 : (Jvm.Cond.lays "WideMapModel" "WideMapModel" "held" "I") ∈ lw_all := lw_g (lw_at lw_m8 35 rfl) rfl
theorem q1846 : (Jvm.Cond.soleField "WideMapModel" "held") ∈ lw_all := lw_g (lw_at lw_m8 36 rfl) rfl
theorem q1847 : (Jvm.Cond.lays "WideMapModel" "WideMapModel" "open" "I") ∈ lw_all := lw_g (lw_at lw_m8 37 rfl) rfl
theorem q1848 : (Jvm.Cond.soleField "WideMapModel" "open") ∈ lw_all := lw_g (lw_at lw_m8 38 rfl) rfl
theorem q1849 : (Jvm.Cond.lays "WideMapModel" "WideMapModel" "hasImage" "Z") ∈ lw_all := lw_g (lw_at lw_m8 39 rfl) rfl
theorem q1850 : (Jvm.Cond.soleField "WideMapModel" "hasImage") ∈ lw_all := lw_g (lw_at lw_m8 40 rfl) rfl
theorem q1851 : (Jvm.Cond.laysFinal "WideMapModel" "WideMapModel" "there" "[I") ∈ lw_all := lw_g (lw_at lw_m8 41 rfl) rfl
theorem q1852 : (Jvm.Cond.soleField "WideMapModel" "there") ∈ lw_all := lw_g (lw_at lw_m8 42 rfl) rfl
theorem q1853 : (Jvm.Cond.laysFinal "WideMapModel" "WideMapModel" "valueIn" "[I") ∈ lw_all := lw_g (lw_at lw_m8 43 rfl) rfl
theorem q1854 : (Jvm.Cond.soleField "WideMapModel" "valueIn") ∈ lw_all := lw_g (lw_at lw_m8 44 rfl) rfl
theorem q1855 : (Jvm.Cond.laysFinal "WideMapModel" "WideMapModel" "ownKeys" "[I") ∈ lw_all := lw_g (lw_at lw_m8 45 rfl) rfl
theorem q1856 : (Jvm.Cond.soleField "WideMapModel" "ownKeys") ∈ lw_all := lw_g (lw_at lw_m8 46 rfl) rfl
theorem q1857 : (Jvm.Cond.laysFinal "WideMapModel" "WideMapModel" "ownValues" "[I") ∈ lw_all := lw_g (lw_at lw_m8 47 rfl) rfl
theorem q1858 : (Jvm.Cond.soleField "WideMapModel" "ownValues") ∈ lw_all := lw_g (lw_at lw_m8 48 rfl) rfl
theorem q1859 : (Jvm.Cond.lays "WideMapModel" "WideMapModel" "owns" "I") ∈ lw_all := lw_g (lw_at lw_m8 49 rfl) rfl
theorem q1860 : (Jvm.Cond.soleField "WideMapModel" "owns") ∈ lw_all := lw_g (lw_at lw_m8 50 rfl) rfl
theorem q1861 : (Jvm.Cond.lays "WideMapModel" "WideMapModel" "x" "J") ∈ lw_all := lw_g (lw_at lw_m8 51 rfl) rfl
theorem q1862 : (Jvm.Cond.soleField "WideMapModel" "x") ∈ lw_all := lw_g (lw_at lw_m8 52 rfl) rfl
theorem q1863 : (Jvm.Cond.laysFinal "WideMapModel" "WideMapModel" "shows" "[B") ∈ lw_all := lw_g (lw_at lw_m8 53 rfl) rfl
theorem q1864 : (Jvm.Cond.soleField "WideMapModel" "shows") ∈ lw_all := lw_g (lw_at lw_m8 54 rfl) rfl
theorem q1865 : (Jvm.Cond.laysFinal "WideMapModel" "WideMapModel" "showsLatest" "[B") ∈ lw_all := lw_g (lw_at lw_m8 55 rfl) rfl
theorem q1866 : (Jvm.Cond.soleField "WideMapModel" "showsLatest") ∈ lw_all := lw_g (lw_at lw_m8 56 rfl) rfl
theorem q1867 : (Jvm.Cond.lays "WideMapModel" "WideMapModel" "showsMany" "I") ∈ lw_all := lw_g (lw_at lw_m8 57 rfl) rfl
theorem q1868 : (Jvm.Cond.soleField "WideMapModel" "showsMany") ∈ lw_all := lw_g (lw_at lw_m8 58 rfl) rfl
theorem q1869 : (Jvm.Cond.lays "WideMapModel" "WideMapModel" "latestMany" "I") ∈ lw_all := lw_g (lw_at lw_m8 59 rfl) rfl
theorem q1870 : (Jvm.Cond.soleField "WideMapModel" "latestMany") ∈ lw_all := lw_g (lw_at lw_m8 60 rfl) rfl
theorem q1871 : (Jvm.Cond.laysFinal "WideMapModel" "WideMapModel" "source" "[I") ∈ lw_all := lw_g (lw_at lw_m8 61 rfl) rfl
theorem q1872 : (Jvm.Cond.soleField "WideMapModel" "source") ∈ lw_all := lw_g (lw_at lw_m8 62 rfl) rfl
theorem q1873 : (Jvm.Cond.superclass "WideMapModel" "java/lang/Object") ∈ lw_all := lw_g (lw_at lw_m8 63 rfl) rfl
theorem q1875 : (Jvm.Cond.instanceMethod ({ cls := "WideMapModel", name := "thrown", desc := "()I" } : Jvm.MethodName)) ∈ lw_all := lw_g (lw_at lw_m8 65 rfl) rfl
theorem q1876 : (Jvm.Cond.selects "WideMapModel" ({ cls := "WideMapModel", name := "thrown", desc := "()I" } : Jvm.MethodName) ({ cls := "WideMapModel", name := "thrown", desc := "()I" } : Jvm.MethodName)) ∈ lw_all := lw_g (lw_at lw_m8 66 rfl) rfl
theorem q1877 : (Jvm.Cond.code ({ cls := "WideMapModel", name := "thrown", desc := "()I" } : Jvm.MethodName) prog_9_method_2_code (1 : Nat) (Option.some Jvm.ClassFile.FieldType.int)) ∈ lw_all := lw_g (lw_at lw_m8 67 rfl) rfl
theorem q1879 : (Jvm.Cond.instanceMethod ({ cls := "WideMapModel", name := "feed", desc := "(IIIII)I" } : Jvm.MethodName)) ∈ lw_all := lw_g (lw_at lw_m8 69 rfl) rfl
theorem q1880 : (Jvm.Cond.selects "WideMapModel" ({ cls := "WideMapModel", name := "feed", desc := "(IIIII)I" } : Jvm.MethodName) ({ cls := "WideMapModel", name := "feed", desc := "(IIIII)I" } : Jvm.MethodName)) ∈ lw_all := lw_g (lw_at lw_m8 70 rfl) rfl
theorem q1881 : (Jvm.Cond.code ({ cls := "WideMapModel", name := "feed", desc := "(IIIII)I" } : Jvm.MethodName) prog_9_method_7_code (6 : Nat) (Option.some Jvm.ClassFile.FieldType.int)) ∈ lw_all := lw_g (lw_at lw_m8 71 rfl) rfl
theorem q1882 : (Jvm.Cond.methodLink "WideMapModel" (122 : Nat) ({ cls := "WideMapModel", name := "bytesOf", desc := "(I)I" } : Jvm.MethodName)) ∈ lw_all := lw_g (lw_at lw_m8 72 rfl) rfl
theorem q1883 : (Jvm.Cond.static ({ cls := "WideMapModel", name := "bytesOf", desc := "(I)I" } : Jvm.MethodName)) ∈ lw_all := lw_g (lw_at lw_m8 73 rfl) rfl
theorem q1884 : (Jvm.Cond.code ({ cls := "WideMapModel", name := "bytesOf", desc := "(I)I" } : Jvm.MethodName) prog_9_method_5_code (3 : Nat) (Option.some Jvm.ClassFile.FieldType.int)) ∈ lw_all := lw_g (lw_at lw_m8 74 rfl) rfl
theorem q1885 : (Jvm.Cond.methodLink "WideMapModel" (126 : Nat) ({ cls := "WideMapModel", name := "brings", desc := "(I)V" } : Jvm.MethodName)) ∈ lw_all := lw_g (lw_at lw_m8 75 rfl) rfl
theorem q1886 : (Jvm.Cond.privateMethod ({ cls := "WideMapModel", name := "brings", desc := "(I)V" } : Jvm.MethodName)) ∈ lw_tbl := lw_at lw_m8 76 rfl
theorem q1887 : (Jvm.Cond.instanceMethod ({ cls := "WideMapModel", name := "brings", desc := "(I)V" } : Jvm.MethodName)) ∈ lw_all := lw_g (lw_at lw_m8 77 rfl) rfl
theorem q1888 : (Jvm.Cond.code ({ cls := "WideMapModel", name := "brings", desc := "(I)V" } : Jvm.MethodName) prog_9_method_6_code (4 : Nat) (Option.none : Option Jvm.ClassFile.FieldType)) ∈ lw_all := lw_g (lw_at lw_m8 78 rfl) rfl
theorem q1890 : (Jvm.Cond.instanceMethod ({ cls := "WideMapModel", name := "end", desc := "(I)Z" } : Jvm.MethodName)) ∈ lw_all := lw_g (lw_at lw_m8 80 rfl) rfl
theorem q1891 : (Jvm.Cond.selects "WideMapModel" ({ cls := "WideMapModel", name := "end", desc := "(I)Z" } : Jvm.MethodName) ({ cls := "WideMapModel", name := "end", desc := "(I)Z" } : Jvm.MethodName)) ∈ lw_all := lw_g (lw_at lw_m8 81 rfl) rfl
theorem q1892 : (Jvm.Cond.code ({ cls := "WideMapModel", name := "end", desc := "(I)Z" } : Jvm.MethodName) prog_9_method_8_code (2 : Nat) (Option.some Jvm.ClassFile.FieldType.boolean)) ∈ lw_all := lw_g (lw_at lw_m8 82 rfl) rfl
theorem q1894 : (Jvm.Cond.instanceMethod ({ cls := "WideMapModel", name := "fault", desc := "(I)I" } : Jvm.MethodName)) ∈ lw_all := lw_g (lw_at lw_m8 84 rfl) rfl
theorem q1895 : (Jvm.Cond.selects "WideMapModel" ({ cls := "WideMapModel", name := "fault", desc := "(I)I" } : Jvm.MethodName) ({ cls := "WideMapModel", name := "fault", desc := "(I)I" } : Jvm.MethodName)) ∈ lw_all := lw_g (lw_at lw_m8 85 rfl) rfl
theorem q1896 : (Jvm.Cond.code ({ cls := "WideMapModel", name := "fault", desc := "(I)I" } : Jvm.MethodName) prog_9_method_19_code (2 : Nat) (Option.some Jvm.ClassFile.FieldType.int)) ∈ lw_all := lw_g (lw_at lw_m8 86 rfl) rfl
theorem q1897 : (Jvm.Cond.methodLink "WideMapModel" (174 : Nat) ({ cls := "WideMapModel", name := "isIn", desc := "(JJJ)Z" } : Jvm.MethodName)) ∈ lw_all := lw_g (lw_at lw_m8 87 rfl) rfl
theorem q1898 : (Jvm.Cond.static ({ cls := "WideMapModel", name := "isIn", desc := "(JJJ)Z" } : Jvm.MethodName)) ∈ lw_all := lw_g (lw_at lw_m8 88 rfl) rfl
theorem q1899 : (Jvm.Cond.code ({ cls := "WideMapModel", name := "isIn", desc := "(JJJ)Z" } : Jvm.MethodName) prog_9_method_3_code (6 : Nat) (Option.some Jvm.ClassFile.FieldType.boolean)) ∈ lw_all := lw_g (lw_at lw_m8 89 rfl) rfl
theorem q1900 : (Jvm.Cond.methodLink "WideMapModel" (178 : Nat) ({ cls := "WideMapModel", name := "readEntries", desc := "()V" } : Jvm.MethodName)) ∈ lw_all := lw_g (lw_at lw_m8 90 rfl) rfl
theorem q1901 : (Jvm.Cond.privateMethod ({ cls := "WideMapModel", name := "readEntries", desc := "()V" } : Jvm.MethodName)) ∈ lw_tbl := lw_at lw_m8 91 rfl
theorem q1902 : (Jvm.Cond.instanceMethod ({ cls := "WideMapModel", name := "readEntries", desc := "()V" } : Jvm.MethodName)) ∈ lw_all := lw_g (lw_at lw_m8 92 rfl) rfl
theorem q1903 : (Jvm.Cond.code ({ cls := "WideMapModel", name := "readEntries", desc := "()V" } : Jvm.MethodName) prog_9_method_15_code (4 : Nat) (Option.none : Option Jvm.ClassFile.FieldType)) ∈ lw_all := lw_g (lw_at lw_m8 93 rfl) rfl
theorem q1904 : (Jvm.Cond.methodLink "WideMapModel" (140 : Nat) ({ cls := "WideMapModel", name := "look", desc := "()I" } : Jvm.MethodName)) ∈ lw_all := lw_g (lw_at lw_m8 94 rfl) rfl
theorem q1905 : (Jvm.Cond.privateMethod ({ cls := "WideMapModel", name := "look", desc := "()I" } : Jvm.MethodName)) ∈ lw_tbl := lw_at lw_m8 95 rfl
theorem q1906 : (Jvm.Cond.instanceMethod ({ cls := "WideMapModel", name := "look", desc := "()I" } : Jvm.MethodName)) ∈ lw_all := lw_g (lw_at lw_m8 96 rfl) rfl
theorem q1907 : (Jvm.Cond.code ({ cls := "WideMapModel", name := "look", desc := "()I" } : Jvm.MethodName) prog_9_method_10_code (1 : Nat) (Option.some Jvm.ClassFile.FieldType.int)) ∈ lw_all := lw_g (lw_at lw_m8 97 rfl) rfl
theorem q1908 : (Jvm.Cond.methodLink "WideMapModel" (133 : Nat) ({ cls := "WideMapModel", name := "here", desc := "()I" } : Jvm.MethodName)) ∈ lw_all := lw_g (lw_at lw_m8 98 rfl) rfl
theorem q1909 : (Jvm.Cond.privateMethod ({ cls := "WideMapModel", name := "here", desc := "()I" } : Jvm.MethodName)) ∈ lw_tbl := lw_at lw_m8 99 rfl
theorem q1910 : (Jvm.Cond.instanceMethod ({ cls := "WideMapModel", name := "here", desc := "()I" } : Jvm.MethodName)) ∈ lw_all := lw_g (lw_at lw_m8 100 rfl) rfl
theorem q1911 : (Jvm.Cond.code ({ cls := "WideMapModel", name := "here", desc := "()I" } : Jvm.MethodName) prog_9_method_9_code (1 : Nat) (Option.some Jvm.ClassFile.FieldType.int)) ∈ lw_all := lw_g (lw_at lw_m8 101 rfl) rfl
theorem q1912 : (Jvm.Cond.methodLink "WideMapModel" (150 : Nat) ({ cls := "WideMapModel", name := "number", desc := "()I" } : Jvm.MethodName)) ∈ lw_all := lw_g (lw_at lw_m8 102 rfl) rfl
theorem q1913 : (Jvm.Cond.privateMethod ({ cls := "WideMapModel", name := "number", desc := "()I" } : Jvm.MethodName)) ∈ lw_tbl := lw_at lw_m8 103 rfl
theorem q1914 : (Jvm.Cond.instanceMethod ({ cls := "WideMapModel", name := "number", desc := "()I" } : Jvm.MethodName)) ∈ lw_all := lw_g (lw_at lw_m8 104 rfl) rfl
theorem q1915 : (Jvm.Cond.code ({ cls := "WideMapModel", name := "number", desc := "()I" } : Jvm.MethodName) prog_9_method_13_code (3 : Nat) (Option.some Jvm.ClassFile.FieldType.int)) ∈ lw_all := lw_g (lw_at lw_m8 105 rfl) rfl
theorem q1916 : (Jvm.Cond.methodLink "WideMapModel" (143 : Nat) ({ cls := "WideMapModel", name := "isDigit", desc := "()Z" } : Jvm.MethodName)) ∈ lw_all := lw_g (lw_at lw_m8 106 rfl) rfl
theorem q1917 : (Jvm.Cond.privateMethod ({ cls := "WideMapModel", name := "isDigit", desc := "()Z" } : Jvm.MethodName)) ∈ lw_tbl := lw_at lw_m8 107 rfl
theorem q1918 : (Jvm.Cond.instanceMethod ({ cls := "WideMapModel", name := "isDigit", desc := "()Z" } : Jvm.MethodName)) ∈ lw_all := lw_g (lw_at lw_m8 108 rfl) rfl
theorem q1919 : (Jvm.Cond.code ({ cls := "WideMapModel", name := "isDigit", desc := "()Z" } : Jvm.MethodName) prog_9_method_12_code (1 : Nat) (Option.some Jvm.ClassFile.FieldType.boolean)) ∈ lw_all := lw_g (lw_at lw_m8 109 rfl) rfl
theorem q1920 : (Jvm.Cond.methodLink "WideMapModel" (147 : Nat) ({ cls := "WideMapModel", name := "fails", desc := "()V" } : Jvm.MethodName)) ∈ lw_all := lw_g (lw_at lw_m8 110 rfl) rfl
theorem q1921 : (Jvm.Cond.privateMethod ({ cls := "WideMapModel", name := "fails", desc := "()V" } : Jvm.MethodName)) ∈ lw_tbl := lw_at lw_m8 111 rfl
theorem q1922 : (Jvm.Cond.instanceMethod ({ cls := "WideMapModel", name := "fails", desc := "()V" } : Jvm.MethodName)) ∈ lw_all := lw_g (lw_at lw_m8 112 rfl) rfl
theorem q1923 : (Jvm.Cond.code ({ cls := "WideMapModel", name := "fails", desc := "()V" } : Jvm.MethodName) prog_9_method_11_code (1 : Nat) (Option.none : Option Jvm.ClassFile.FieldType)) ∈ lw_all := lw_g (lw_at lw_m8 113 rfl) rfl
theorem q1924 : (Jvm.Cond.methodLink "WideMapModel" (156 : Nat) ({ cls := "WideMapModel", name := "value", desc := "()I" } : Jvm.MethodName)) ∈ lw_all := lw_g (lw_at lw_m8 114 rfl) rfl
theorem q1925 : (Jvm.Cond.privateMethod ({ cls := "WideMapModel", name := "value", desc := "()I" } : Jvm.MethodName)) ∈ lw_tbl := lw_at lw_m8 115 rfl
theorem q1926 : (Jvm.Cond.instanceMethod ({ cls := "WideMapModel", name := "value", desc := "()I" } : Jvm.MethodName)) ∈ lw_all := lw_g (lw_at lw_m8 116 rfl) rfl
theorem q1927 : (Jvm.Cond.code ({ cls := "WideMapModel", name := "value", desc := "()I" } : Jvm.MethodName) prog_9_method_14_code (3 : Nat) (Option.some Jvm.ClassFile.FieldType.int)) ∈ lw_all := lw_g (lw_at lw_m8 117 rfl) rfl
theorem q1928 : (Jvm.Cond.methodLink "WideMapModel" (181 : Nat) ({ cls := "WideMapModel", name := "readPlan", desc := "()V" } : Jvm.MethodName)) ∈ lw_all := lw_g (lw_at lw_m8 118 rfl) rfl
theorem q1929 : (Jvm.Cond.privateMethod ({ cls := "WideMapModel", name := "readPlan", desc := "()V" } : Jvm.MethodName)) ∈ lw_tbl := lw_at lw_m8 119 rfl
theorem q1930 : (Jvm.Cond.instanceMethod ({ cls := "WideMapModel", name := "readPlan", desc := "()V" } : Jvm.MethodName)) ∈ lw_all := lw_g (lw_at lw_m8 120 rfl) rfl
theorem q1931 : (Jvm.Cond.code ({ cls := "WideMapModel", name := "readPlan", desc := "()V" } : Jvm.MethodName) prog_9_method_18_code (3 : Nat) (Option.none : Option Jvm.ClassFile.FieldType)) ∈ lw_all := lw_g (lw_at lw_m8 121 rfl) rfl
theorem q1932 : (Jvm.Cond.methodLink "WideMapModel" (171 : Nat) ({ cls := "WideMapModel", name := "readStep", desc := "(I)V" } : Jvm.MethodName)) ∈ lw_all := lw_g (lw_at lw_m8 122 rfl) rfl
theorem q1933 : (Jvm.Cond.privateMethod ({ cls := "WideMapModel", name := "readStep", desc := "(I)V" } : Jvm.MethodName)) ∈ lw_tbl := lw_at lw_m8 123 rfl
theorem q1934 : (Jvm.Cond.instanceMethod ({ cls := "WideMapModel", name := "readStep", desc := "(I)V" } : Jvm.MethodName)) ∈ lw_all := lw_g (lw_at lw_m8 124 rfl) rfl
theorem q1935 : (Jvm.Cond.code ({ cls := "WideMapModel", name := "readStep", desc := "(I)V" } : Jvm.MethodName) prog_9_method_17_code (4 : Nat) (Option.none : Option Jvm.ClassFile.FieldType)) ∈ lw_all := lw_g (lw_at lw_m8 125 rfl) rfl
theorem q1936 : (Jvm.Cond.methodLink "WideMapModel" (167 : Nat) ({ cls := "WideMapModel", name := "word", desc := "()I" } : Jvm.MethodName)) ∈ lw_all := lw_g (lw_at lw_m8 126 rfl) rfl
theorem q1937 : (Jvm.Cond.privateMethod ({ cls := "WideMapModel", name := "word", desc := "()I" } : Jvm.MethodName)) ∈ lw_tbl := lw_at lw_m8 127 rfl
theorem q1938 : (Jvm.Cond.instanceMethod ({ cls := "WideMapModel", name := "word", desc := "()I" } : Jvm.MethodName)) ∈ lw_all := lw_g (lw_at lw_m8 128 rfl) rfl
theorem q1939 : (Jvm.Cond.code ({ cls := "WideMapModel", name := "word", desc := "()I" } : Jvm.MethodName) prog_9_method_16_code (4 : Nat) (Option.some Jvm.ClassFile.FieldType.int)) ∈ lw_all := lw_g (lw_at lw_m8 129 rfl) rfl
theorem q1940 : (Jvm.Cond.stringRef "WideMapModel" (159 : Nat) "putdeladdcutincsnap") ∈ lw_tbl := lw_at lw_m8 130 rfl
theorem q1941 : (Jvm.Cond.methodLink "WideMapModel" (161 : Nat) ({ cls := "java/lang/String", name := "charAt", desc := "(I)C" } : Jvm.MethodName)) ∈ lw_all := lw_g (lw_at lw_m8 131 rfl) rfl
theorem q1942 : (Jvm.Cond.constant "WideMapModel" (170 : Nat) (-1000000 : Int32)) ∈ lw_all := lw_g (lw_at lw_m8 132 rfl) rfl
theorem q1944 : (Jvm.Cond.instanceMethod ({ cls := "WideMapModel", name := "text", desc := "(I)I" } : Jvm.MethodName)) ∈ lw_all := lw_g (lw_at lw_m8 134 rfl) rfl
theorem q1945 : (Jvm.Cond.selects "WideMapModel" ({ cls := "WideMapModel", name := "text", desc := "(I)I" } : Jvm.MethodName) ({ cls := "WideMapModel", name := "text", desc := "(I)I" } : Jvm.MethodName)) ∈ lw_all := lw_g (lw_at lw_m8 135 rfl) rfl
theorem q1946 : (Jvm.Cond.code ({ cls := "WideMapModel", name := "text", desc := "(I)I" } : Jvm.MethodName) prog_9_method_46_code (5 : Nat) (Option.some Jvm.ClassFile.FieldType.int)) ∈ lw_all := lw_g (lw_at lw_m8 136 rfl) rfl
theorem q1947 : (Jvm.Cond.methodLink "WideMapModel" (284 : Nat) ({ cls := "WideMapModel", name := "fault", desc := "(I)I" } : Jvm.MethodName)) ∈ lw_all := lw_g (lw_at lw_m8 137 rfl) rfl
theorem q1948 : (Jvm.Cond.methodLink "WideMapModel" (289 : Nat) ({ cls := "WideMapModel", name := "hasRoom", desc := "()Z" } : Jvm.MethodName)) ∈ lw_all := lw_g (lw_at lw_m8 138 rfl) rfl
theorem q1949 : (Jvm.Cond.privateMethod ({ cls := "WideMapModel", name := "hasRoom", desc := "()Z" } : Jvm.MethodName)) ∈ lw_tbl := lw_at lw_m8 139 rfl
theorem q1950 : (Jvm.Cond.instanceMethod ({ cls := "WideMapModel", name := "hasRoom", desc := "()Z" } : Jvm.MethodName)) ∈ lw_all := lw_g (lw_at lw_m8 140 rfl) rfl
theorem q1951 : (Jvm.Cond.code ({ cls := "WideMapModel", name := "hasRoom", desc := "()Z" } : Jvm.MethodName) prog_9_method_43_code (1 : Nat) (Option.some Jvm.ClassFile.FieldType.boolean)) ∈ lw_all := lw_g (lw_at lw_m8 141 rfl) rfl
theorem q1952 : (Jvm.Cond.methodLink "WideMapModel" (292 : Nat) ({ cls := "WideMapModel", name := "refused", desc := "(I)I" } : Jvm.MethodName)) ∈ lw_all := lw_g (lw_at lw_m8 142 rfl) rfl
theorem q1953 : (Jvm.Cond.privateMethod ({ cls := "WideMapModel", name := "refused", desc := "(I)I" } : Jvm.MethodName)) ∈ lw_tbl := lw_at lw_m8 143 rfl
theorem q1954 : (Jvm.Cond.instanceMethod ({ cls := "WideMapModel", name := "refused", desc := "(I)I" } : Jvm.MethodName)) ∈ lw_all := lw_g (lw_at lw_m8 144 rfl) rfl
theorem q1955 : (Jvm.Cond.code ({ cls := "WideMapModel", name := "refused", desc := "(I)I" } : Jvm.MethodName) prog_9_method_41_code (2 : Nat) (Option.some Jvm.ClassFile.FieldType.int)) ∈ lw_all := lw_g (lw_at lw_m8 145 rfl) rfl
theorem q1956 : (Jvm.Cond.methodLink "WideMapModel" (295 : Nat) ({ cls := "WideMapModel", name := "newToken", desc := "()I" } : Jvm.MethodName)) ∈ lw_all := lw_g (lw_at lw_m8 146 rfl) rfl
theorem q1957 : (Jvm.Cond.privateMethod ({ cls := "WideMapModel", name := "newToken", desc := "()I" } : Jvm.MethodName)) ∈ lw_tbl := lw_at lw_m8 147 rfl
theorem q1958 : (Jvm.Cond.instanceMethod ({ cls := "WideMapModel", name := "newToken", desc := "()I" } : Jvm.MethodName)) ∈ lw_all := lw_g (lw_at lw_m8 148 rfl) rfl
theorem q1959 : (Jvm.Cond.code ({ cls := "WideMapModel", name := "newToken", desc := "()I" } : Jvm.MethodName) prog_9_method_45_code (1 : Nat) (Option.some Jvm.ClassFile.FieldType.int)) ∈ lw_all := lw_g (lw_at lw_m8 149 rfl) rfl
theorem q1960 : (Jvm.Cond.methodLink "WideMapModel" (278 : Nat) ({ cls := "WideMapModel", name := "sweeps", desc := "()V" } : Jvm.MethodName)) ∈ lw_all := lw_g (lw_at lw_m8 150 rfl) rfl
theorem q1961 : (Jvm.Cond.privateMethod ({ cls := "WideMapModel", name := "sweeps", desc := "()V" } : Jvm.MethodName)) ∈ lw_tbl := lw_at lw_m8 151 rfl
theorem q1962 : (Jvm.Cond.instanceMethod ({ cls := "WideMapModel", name := "sweeps", desc := "()V" } : Jvm.MethodName)) ∈ lw_all := lw_g (lw_at lw_m8 152 rfl) rfl
theorem q1963 : (Jvm.Cond.code ({ cls := "WideMapModel", name := "sweeps", desc := "()V" } : Jvm.MethodName) prog_9_method_40_code (3 : Nat) (Option.none : Option Jvm.ClassFile.FieldType)) ∈ lw_all := lw_g (lw_at lw_m8 153 rfl) rfl
theorem q1964 : (Jvm.Cond.methodLink "WideMapModel" (258 : Nat) ({ cls := "WideMapModel", name := "marks", desc := "(I)I" } : Jvm.MethodName)) ∈ lw_all := lw_g (lw_at lw_m8 154 rfl) rfl
theorem q1965 : (Jvm.Cond.privateMethod ({ cls := "WideMapModel", name := "marks", desc := "(I)I" } : Jvm.MethodName)) ∈ lw_tbl := lw_at lw_m8 155 rfl
theorem q1966 : (Jvm.Cond.instanceMethod ({ cls := "WideMapModel", name := "marks", desc := "(I)I" } : Jvm.MethodName)) ∈ lw_all := lw_g (lw_at lw_m8 156 rfl) rfl
theorem q1967 : (Jvm.Cond.code ({ cls := "WideMapModel", name := "marks", desc := "(I)I" } : Jvm.MethodName) prog_9_method_39_code (4 : Nat) (Option.some Jvm.ClassFile.FieldType.int)) ∈ lw_all := lw_g (lw_at lw_m8 157 rfl) rfl
theorem q1968 : (Jvm.Cond.methodLink "WideMapModel" (197 : Nat) ({ cls := "WideMapModel", name := "child", desc := "(II)I" } : Jvm.MethodName)) ∈ lw_all := lw_g (lw_at lw_m8 158 rfl) rfl
theorem q1969 : (Jvm.Cond.privateMethod ({ cls := "WideMapModel", name := "child", desc := "(II)I" } : Jvm.MethodName)) ∈ lw_tbl := lw_at lw_m8 159 rfl
theorem q1970 : (Jvm.Cond.instanceMethod ({ cls := "WideMapModel", name := "child", desc := "(II)I" } : Jvm.MethodName)) ∈ lw_all := lw_g (lw_at lw_m8 160 rfl) rfl
theorem q1971 : (Jvm.Cond.code ({ cls := "WideMapModel", name := "child", desc := "(II)I" } : Jvm.MethodName) prog_9_method_23_code (3 : Nat) (Option.some Jvm.ClassFile.FieldType.int)) ∈ lw_all := lw_g (lw_at lw_m8 161 rfl) rfl
theorem q1972 : (Jvm.Cond.methodLink "WideMapModel" (271 : Nat) ({ cls := "WideMapModel", name := "has", desc := "(II)Z" } : Jvm.MethodName)) ∈ lw_all := lw_g (lw_at lw_m8 162 rfl) rfl
theorem q1973 : (Jvm.Cond.static ({ cls := "WideMapModel", name := "has", desc := "(II)Z" } : Jvm.MethodName)) ∈ lw_all := lw_g (lw_at lw_m8 163 rfl) rfl
theorem q1974 : (Jvm.Cond.code ({ cls := "WideMapModel", name := "has", desc := "(II)Z" } : Jvm.MethodName) prog_9_method_4_code (2 : Nat) (Option.some Jvm.ClassFile.FieldType.boolean)) ∈ lw_all := lw_g (lw_at lw_m8 164 rfl) rfl
theorem q1975 : (Jvm.Cond.methodLink "WideMapModel" (193 : Nat) ({ cls := "WideMapModel", name := "fresh", desc := "(II)I" } : Jvm.MethodName)) ∈ lw_all := lw_g (lw_at lw_m8 165 rfl) rfl
theorem q1976 : (Jvm.Cond.privateMethod ({ cls := "WideMapModel", name := "fresh", desc := "(II)I" } : Jvm.MethodName)) ∈ lw_tbl := lw_at lw_m8 166 rfl
theorem q1977 : (Jvm.Cond.instanceMethod ({ cls := "WideMapModel", name := "fresh", desc := "(II)I" } : Jvm.MethodName)) ∈ lw_all := lw_g (lw_at lw_m8 167 rfl) rfl
theorem q1978 : (Jvm.Cond.code ({ cls := "WideMapModel", name := "fresh", desc := "(II)I" } : Jvm.MethodName) prog_9_method_21_code (4 : Nat) (Option.some Jvm.ClassFile.FieldType.int)) ∈ lw_all := lw_g (lw_at lw_m8 168 rfl) rfl
theorem q1979 : (Jvm.Cond.methodLink "WideMapModel" (298 : Nat) ({ cls := "WideMapModel", name := "puts", desc := "(IIII)I" } : Jvm.MethodName)) ∈ lw_all := lw_g (lw_at lw_m8 169 rfl) rfl
theorem q1980 : (Jvm.Cond.privateMethod ({ cls := "WideMapModel", name := "puts", desc := "(IIII)I" } : Jvm.MethodName)) ∈ lw_tbl := lw_at lw_m8 170 rfl
theorem q1981 : (Jvm.Cond.instanceMethod ({ cls := "WideMapModel", name := "puts", desc := "(IIII)I" } : Jvm.MethodName)) ∈ lw_all := lw_g (lw_at lw_m8 171 rfl) rfl
theorem q1982 : (Jvm.Cond.code ({ cls := "WideMapModel", name := "puts", desc := "(IIII)I" } : Jvm.MethodName) prog_9_method_33_code (11 : Nat) (Option.some Jvm.ClassFile.FieldType.int)) ∈ lw_all := lw_g (lw_at lw_m8 172 rfl) rfl
theorem q1983 : (Jvm.Cond.methodLink "WideMapModel" (218 : Nat) ({ cls := "WideMapModel", name := "valueAt", desc := "(II)I" } : Jvm.MethodName)) ∈ lw_all := lw_g (lw_at lw_m8 173 rfl) rfl
theorem q1984 : (Jvm.Cond.privateMethod ({ cls := "WideMapModel", name := "valueAt", desc := "(II)I" } : Jvm.MethodName)) ∈ lw_tbl := lw_at lw_m8 174 rfl
theorem q1985 : (Jvm.Cond.instanceMethod ({ cls := "WideMapModel", name := "valueAt", desc := "(II)I" } : Jvm.MethodName)) ∈ lw_all := lw_g (lw_at lw_m8 175 rfl) rfl
theorem q1986 : (Jvm.Cond.code ({ cls := "WideMapModel", name := "valueAt", desc := "(II)I" } : Jvm.MethodName) prog_9_method_28_code (5 : Nat) (Option.some Jvm.ClassFile.FieldType.int)) ∈ lw_all := lw_g (lw_at lw_m8 176 rfl) rfl
theorem q1987 : (Jvm.Cond.methodLink "WideMapModel" (206 : Nat) ({ cls := "WideMapModel", name := "leafFor", desc := "(II)I" } : Jvm.MethodName)) ∈ lw_all := lw_g (lw_at lw_m8 177 rfl) rfl
theorem q1988 : (Jvm.Cond.privateMethod ({ cls := "WideMapModel", name := "leafFor", desc := "(II)I" } : Jvm.MethodName)) ∈ lw_tbl := lw_at lw_m8 178 rfl
theorem q1989 : (Jvm.Cond.instanceMethod ({ cls := "WideMapModel", name := "leafFor", desc := "(II)I" } : Jvm.MethodName)) ∈ lw_all := lw_g (lw_at lw_m8 179 rfl) rfl
theorem q1990 : (Jvm.Cond.code ({ cls := "WideMapModel", name := "leafFor", desc := "(II)I" } : Jvm.MethodName) prog_9_method_26_code (4 : Nat) (Option.some Jvm.ClassFile.FieldType.int)) ∈ lw_all := lw_g (lw_at lw_m8 180 rfl) rfl
theorem q1991 : (Jvm.Cond.methodLink "WideMapModel" (203 : Nat) ({ cls := "WideMapModel", name := "spotFor", desc := "(II)I" } : Jvm.MethodName)) ∈ lw_all := lw_g (lw_at lw_m8 181 rfl) rfl
theorem q1992 : (Jvm.Cond.privateMethod ({ cls := "WideMapModel", name := "spotFor", desc := "(II)I" } : Jvm.MethodName)) ∈ lw_tbl := lw_at lw_m8 182 rfl
theorem q1993 : (Jvm.Cond.instanceMethod ({ cls := "WideMapModel", name := "spotFor", desc := "(II)I" } : Jvm.MethodName)) ∈ lw_all := lw_g (lw_at lw_m8 183 rfl) rfl
theorem q1994 : (Jvm.Cond.code ({ cls := "WideMapModel", name := "spotFor", desc := "(II)I" } : Jvm.MethodName) prog_9_method_25_code (5 : Nat) (Option.some Jvm.ClassFile.FieldType.int)) ∈ lw_all := lw_g (lw_at lw_m8 184 rfl) rfl
theorem q1995 : (Jvm.Cond.methodLink "WideMapModel" (200 : Nat) ({ cls := "WideMapModel", name := "lowest", desc := "(I)I" } : Jvm.MethodName)) ∈ lw_all := lw_g (lw_at lw_m8 185 rfl) rfl
theorem q1996 : (Jvm.Cond.privateMethod ({ cls := "WideMapModel", name := "lowest", desc := "(I)I" } : Jvm.MethodName)) ∈ lw_tbl := lw_at lw_m8 186 rfl
theorem q1997 : (Jvm.Cond.instanceMethod ({ cls := "WideMapModel", name := "lowest", desc := "(I)I" } : Jvm.MethodName)) ∈ lw_all := lw_g (lw_at lw_m8 187 rfl) rfl
theorem q1998 : (Jvm.Cond.code ({ cls := "WideMapModel", name := "lowest", desc := "(I)I" } : Jvm.MethodName) prog_9_method_24_code (2 : Nat) (Option.some Jvm.ClassFile.FieldType.int)) ∈ lw_all := lw_g (lw_at lw_m8 188 rfl) rfl
theorem q1999 : (Jvm.Cond.methodLink "WideMapModel" (209 : Nat) ({ cls := "WideMapModel", name := "spotIn", desc := "(II)I" } : Jvm.MethodName)) ∈ lw_all := lw_g (lw_at lw_m8 189 rfl) rfl
theorem q2000 : (Jvm.Cond.privateMethod ({ cls := "WideMapModel", name := "spotIn", desc := "(II)I" } : Jvm.MethodName)) ∈ lw_tbl := lw_at lw_m8 190 rfl
theorem q2001 : (Jvm.Cond.instanceMethod ({ cls := "WideMapModel", name := "spotIn", desc := "(II)I" } : Jvm.MethodName)) ∈ lw_all := lw_g (lw_at lw_m8 191 rfl) rfl
theorem q2002 : (Jvm.Cond.code ({ cls := "WideMapModel", name := "spotIn", desc := "(II)I" } : Jvm.MethodName) prog_9_method_27_code (4 : Nat) (Option.some Jvm.ClassFile.FieldType.int)) ∈ lw_all := lw_g (lw_at lw_m8 192 rfl) rfl
theorem q2003 : (Jvm.Cond.methodLink "WideMapModel" (221 : Nat) ({ cls := "WideMapModel", name := "goesDown", desc := "(III)I" } : Jvm.MethodName)) ∈ lw_all := lw_g (lw_at lw_m8 193 rfl) rfl
theorem q2004 : (Jvm.Cond.privateMethod ({ cls := "WideMapModel", name := "goesDown", desc := "(III)I" } : Jvm.MethodName)) ∈ lw_tbl := lw_at lw_m8 194 rfl
theorem q2005 : (Jvm.Cond.instanceMethod ({ cls := "WideMapModel", name := "goesDown", desc := "(III)I" } : Jvm.MethodName)) ∈ lw_all := lw_g (lw_at lw_m8 195 rfl) rfl
theorem q2006 : (Jvm.Cond.code ({ cls := "WideMapModel", name := "goesDown", desc := "(III)I" } : Jvm.MethodName) prog_9_method_31_code (8 : Nat) (Option.some Jvm.ClassFile.FieldType.int)) ∈ lw_all := lw_g (lw_at lw_m8 196 rfl) rfl
theorem q2007 : (Jvm.Cond.methodLink "WideMapModel" (212 : Nat) ({ cls := "WideMapModel", name := "edited", desc := "(II)I" } : Jvm.MethodName)) ∈ lw_all := lw_g (lw_at lw_m8 197 rfl) rfl
theorem q2008 : (Jvm.Cond.privateMethod ({ cls := "WideMapModel", name := "edited", desc := "(II)I" } : Jvm.MethodName)) ∈ lw_tbl := lw_at lw_m8 198 rfl
theorem q2009 : (Jvm.Cond.instanceMethod ({ cls := "WideMapModel", name := "edited", desc := "(II)I" } : Jvm.MethodName)) ∈ lw_all := lw_g (lw_at lw_m8 199 rfl) rfl
theorem q2010 : (Jvm.Cond.code ({ cls := "WideMapModel", name := "edited", desc := "(II)I" } : Jvm.MethodName) prog_9_method_22_code (5 : Nat) (Option.some Jvm.ClassFile.FieldType.int)) ∈ lw_all := lw_g (lw_at lw_m8 200 rfl) rfl
theorem q2011 : (Jvm.Cond.methodLink "WideMapModel" (225 : Nat) ({ cls := "WideMapModel", name := "putsIn", desc := "(IIII)V" } : Jvm.MethodName)) ∈ lw_all := lw_g (lw_at lw_m8 201 rfl) rfl
theorem q2012 : (Jvm.Cond.privateMethod ({ cls := "WideMapModel", name := "putsIn", desc := "(IIII)V" } : Jvm.MethodName)) ∈ lw_tbl := lw_at lw_m8 202 rfl
theorem q2013 : (Jvm.Cond.instanceMethod ({ cls := "WideMapModel", name := "putsIn", desc := "(IIII)V" } : Jvm.MethodName)) ∈ lw_all := lw_g (lw_at lw_m8 203 rfl) rfl
theorem q2014 : (Jvm.Cond.code ({ cls := "WideMapModel", name := "putsIn", desc := "(IIII)V" } : Jvm.MethodName) prog_9_method_29_code (6 : Nat) (Option.none : Option Jvm.ClassFile.FieldType)) ∈ lw_all := lw_g (lw_at lw_m8 204 rfl) rfl
theorem q2015 : (Jvm.Cond.methodLink "WideMapModel" (229 : Nat) ({ cls := "WideMapModel", name := "parted", desc := "(II)I" } : Jvm.MethodName)) ∈ lw_all := lw_g (lw_at lw_m8 205 rfl) rfl
theorem q2016 : (Jvm.Cond.privateMethod ({ cls := "WideMapModel", name := "parted", desc := "(II)I" } : Jvm.MethodName)) ∈ lw_tbl := lw_at lw_m8 206 rfl
theorem q2017 : (Jvm.Cond.instanceMethod ({ cls := "WideMapModel", name := "parted", desc := "(II)I" } : Jvm.MethodName)) ∈ lw_all := lw_g (lw_at lw_m8 207 rfl) rfl
theorem q2018 : (Jvm.Cond.code ({ cls := "WideMapModel", name := "parted", desc := "(II)I" } : Jvm.MethodName) prog_9_method_32_code (7 : Nat) (Option.some Jvm.ClassFile.FieldType.int)) ∈ lw_all := lw_g (lw_at lw_m8 208 rfl) rfl
theorem q2019 : (Jvm.Cond.methodLink "WideMapModel" (302 : Nat) ({ cls := "WideMapModel", name := "newMap", desc := "(III)I" } : Jvm.MethodName)) ∈ lw_all := lw_g (lw_at lw_m8 209 rfl) rfl
theorem q2020 : (Jvm.Cond.privateMethod ({ cls := "WideMapModel", name := "newMap", desc := "(III)I" } : Jvm.MethodName)) ∈ lw_tbl := lw_at lw_m8 210 rfl
theorem q2021 : (Jvm.Cond.instanceMethod ({ cls := "WideMapModel", name := "newMap", desc := "(III)I" } : Jvm.MethodName)) ∈ lw_all := lw_g (lw_at lw_m8 211 rfl) rfl
theorem q2022 : (Jvm.Cond.code ({ cls := "WideMapModel", name := "newMap", desc := "(III)I" } : Jvm.MethodName) prog_9_method_44_code (4 : Nat) (Option.some Jvm.ClassFile.FieldType.int)) ∈ lw_all := lw_g (lw_at lw_m8 212 rfl) rfl
theorem q2024 : (Jvm.Cond.instanceMethod ({ cls := "WideMapModel", name := "wide", desc := "(I)I" } : Jvm.MethodName)) ∈ lw_all := lw_g (lw_at lw_m8 214 rfl) rfl
theorem q2025 : (Jvm.Cond.selects "WideMapModel" ({ cls := "WideMapModel", name := "wide", desc := "(I)I" } : Jvm.MethodName) ({ cls := "WideMapModel", name := "wide", desc := "(I)I" } : Jvm.MethodName)) ∈ lw_all := lw_g (lw_at lw_m8 215 rfl) rfl
theorem q2026 : (Jvm.Cond.code ({ cls := "WideMapModel", name := "wide", desc := "(I)I" } : Jvm.MethodName) prog_9_method_47_code (3 : Nat) (Option.some Jvm.ClassFile.FieldType.int)) ∈ lw_all := lw_g (lw_at lw_m8 216 rfl) rfl
theorem q2027 : (Jvm.Cond.constantLong "WideMapModel" (305 : Nat) (3 : Int64)) ∈ lw_all := lw_g (lw_at lw_m8 217 rfl) rfl
theorem q2028 : (Jvm.Cond.constantLong "WideMapModel" (307 : Nat) (6 : Int64)) ∈ lw_all := lw_g (lw_at lw_m8 218 rfl) rfl
theorem q2030 : (Jvm.Cond.instanceMethod ({ cls := "WideMapModel", name := "find", desc := "(II)I" } : Jvm.MethodName)) ∈ lw_all := lw_g (lw_at lw_m8 220 rfl) rfl
theorem q2031 : (Jvm.Cond.selects "WideMapModel" ({ cls := "WideMapModel", name := "find", desc := "(II)I" } : Jvm.MethodName) ({ cls := "WideMapModel", name := "find", desc := "(II)I" } : Jvm.MethodName)) ∈ lw_all := lw_g (lw_at lw_m8 221 rfl) rfl
theorem q2032 : (Jvm.Cond.code ({ cls := "WideMapModel", name := "find", desc := "(II)I" } : Jvm.MethodName) prog_9_method_48_code (3 : Nat) (Option.some Jvm.ClassFile.FieldType.int)) ∈ lw_all := lw_g (lw_at lw_m8 222 rfl) rfl
theorem q2033 : (Jvm.Cond.methodLink "WideMapModel" (309 : Nat) ({ cls := "WideMapModel", name := "isMap", desc := "(I)Z" } : Jvm.MethodName)) ∈ lw_all := lw_g (lw_at lw_m8 223 rfl) rfl
theorem q2034 : (Jvm.Cond.privateMethod ({ cls := "WideMapModel", name := "isMap", desc := "(I)Z" } : Jvm.MethodName)) ∈ lw_tbl := lw_at lw_m8 224 rfl
theorem q2035 : (Jvm.Cond.instanceMethod ({ cls := "WideMapModel", name := "isMap", desc := "(I)Z" } : Jvm.MethodName)) ∈ lw_all := lw_g (lw_at lw_m8 225 rfl) rfl
theorem q2036 : (Jvm.Cond.code ({ cls := "WideMapModel", name := "isMap", desc := "(I)Z" } : Jvm.MethodName) prog_9_method_42_code (2 : Nat) (Option.some Jvm.ClassFile.FieldType.boolean)) ∈ lw_all := lw_g (lw_at lw_m8 226 rfl) rfl
theorem q2038 : (Jvm.Cond.instanceMethod ({ cls := "WideMapModel", name := "key", desc := "(II)I" } : Jvm.MethodName)) ∈ lw_all := lw_g (lw_at lw_m8 228 rfl) rfl
theorem q2039 : (Jvm.Cond.selects "WideMapModel" ({ cls := "WideMapModel", name := "key", desc := "(II)I" } : Jvm.MethodName) ({ cls := "WideMapModel", name := "key", desc := "(II)I" } : Jvm.MethodName)) ∈ lw_all := lw_g (lw_at lw_m8 229 rfl) rfl
theorem q2040 : (Jvm.Cond.code ({ cls := "WideMapModel", name := "key", desc := "(II)I" } : Jvm.MethodName) prog_9_method_49_code (3 : Nat) (Option.some Jvm.ClassFile.FieldType.int)) ∈ lw_all := lw_g (lw_at lw_m8 230 rfl) rfl
theorem q2041 : (Jvm.Cond.methodLink "WideMapModel" (252 : Nat) ({ cls := "WideMapModel", name := "laysTree", desc := "(I)V" } : Jvm.MethodName)) ∈ lw_all := lw_g (lw_at lw_m8 231 rfl) rfl
theorem q2042 : (Jvm.Cond.privateMethod ({ cls := "WideMapModel", name := "laysTree", desc := "(I)V" } : Jvm.MethodName)) ∈ lw_tbl := lw_at lw_m8 232 rfl
theorem q2043 : (Jvm.Cond.instanceMethod ({ cls := "WideMapModel", name := "laysTree", desc := "(I)V" } : Jvm.MethodName)) ∈ lw_all := lw_g (lw_at lw_m8 233 rfl) rfl
theorem q2044 : (Jvm.Cond.code ({ cls := "WideMapModel", name := "laysTree", desc := "(I)V" } : Jvm.MethodName) prog_9_method_37_code (2 : Nat) (Option.none : Option Jvm.ClassFile.FieldType)) ∈ lw_all := lw_g (lw_at lw_m8 234 rfl) rfl
theorem q2045 : (Jvm.Cond.methodLink "WideMapModel" (246 : Nat) ({ cls := "WideMapModel", name := "goesThrough", desc := "(II)V" } : Jvm.MethodName)) ∈ lw_all := lw_g (lw_at lw_m8 235 rfl) rfl
theorem q2046 : (Jvm.Cond.privateMethod ({ cls := "WideMapModel", name := "goesThrough", desc := "(II)V" } : Jvm.MethodName)) ∈ lw_tbl := lw_at lw_m8 236 rfl
theorem q2047 : (Jvm.Cond.instanceMethod ({ cls := "WideMapModel", name := "goesThrough", desc := "(II)V" } : Jvm.MethodName)) ∈ lw_all := lw_g (lw_at lw_m8 237 rfl) rfl
theorem q2048 : (Jvm.Cond.code ({ cls := "WideMapModel", name := "goesThrough", desc := "(II)V" } : Jvm.MethodName) prog_9_method_36_code (4 : Nat) (Option.none : Option Jvm.ClassFile.FieldType)) ∈ lw_all := lw_g (lw_at lw_m8 238 rfl) rfl
theorem q2050 : (Jvm.Cond.instanceMethod ({ cls := "WideMapModel", name := "about", desc := "(II)I" } : Jvm.MethodName)) ∈ lw_all := lw_g (lw_at lw_m9 0 rfl) rfl
theorem q2051 : (Jvm.Cond.selects "WideMapModel" ({ cls := "WideMapModel", name := "about", desc := "(II)I" } : Jvm.MethodName) ({ cls := "WideMapModel", name := "about", desc := "(II)I" } : Jvm.MethodName)) ∈ lw_all := lw_g (lw_at lw_m9 1 rfl) rfl
theorem q2052 : (Jvm.Cond.code ({ cls := "WideMapModel", name := "about", desc := "(II)I" } : Jvm.MethodName) prog_9_method_53_code (3 : Nat) (Option.some Jvm.ClassFile.FieldType.int)) ∈ lw_all := lw_g (lw_at lw_m9 2 rfl) rfl
theorem q2053 : (Jvm.Cond.methodLink "WideMapModel" (318 : Nat) ({ cls := "WideMapModel", name := "levels", desc := "()I" } : Jvm.MethodName)) ∈ lw_all := lw_g (lw_at lw_m9 3 rfl) rfl
theorem q2054 : (Jvm.Cond.privateMethod ({ cls := "WideMapModel", name := "levels", desc := "()I" } : Jvm.MethodName)) ∈ lw_tbl := lw_at lw_m9 4 rfl
theorem q2055 : (Jvm.Cond.instanceMethod ({ cls := "WideMapModel", name := "levels", desc := "()I" } : Jvm.MethodName)) ∈ lw_all := lw_g (lw_at lw_m9 5 rfl) rfl
theorem q2056 : (Jvm.Cond.code ({ cls := "WideMapModel", name := "levels", desc := "()I" } : Jvm.MethodName) prog_9_method_51_code (3 : Nat) (Option.some Jvm.ClassFile.FieldType.int)) ∈ lw_all := lw_g (lw_at lw_m9 6 rfl) rfl
theorem q2057 : (Jvm.Cond.methodLink "WideMapModel" (313 : Nat) ({ cls := "java/lang/Math", name := "max", desc := "(II)I" } : Jvm.MethodName)) ∈ lw_all := lw_g (lw_at lw_m9 7 rfl) rfl
theorem q2058 : (Jvm.Cond.methodLink "WideMapModel" (321 : Nat) ({ cls := "WideMapModel", name := "leaves", desc := "()I" } : Jvm.MethodName)) ∈ lw_all := lw_g (lw_at lw_m9 8 rfl) rfl
theorem q2059 : (Jvm.Cond.privateMethod ({ cls := "WideMapModel", name := "leaves", desc := "()I" } : Jvm.MethodName)) ∈ lw_tbl := lw_at lw_m9 9 rfl
theorem q2060 : (Jvm.Cond.instanceMethod ({ cls := "WideMapModel", name := "leaves", desc := "()I" } : Jvm.MethodName)) ∈ lw_all := lw_g (lw_at lw_m9 10 rfl) rfl
theorem q2061 : (Jvm.Cond.code ({ cls := "WideMapModel", name := "leaves", desc := "()I" } : Jvm.MethodName) prog_9_method_50_code (3 : Nat) (Option.some Jvm.ClassFile.FieldType.int)) ∈ lw_all := lw_g (lw_at lw_m9 11 rfl) rfl
theorem q2062 : (Jvm.Cond.methodLink "WideMapModel" (324 : Nat) ({ cls := "WideMapModel", name := "sumOf", desc := "(II)I" } : Jvm.MethodName)) ∈ lw_all := lw_g (lw_at lw_m9 12 rfl) rfl
theorem q2063 : (Jvm.Cond.privateMethod ({ cls := "WideMapModel", name := "sumOf", desc := "(II)I" } : Jvm.MethodName)) ∈ lw_tbl := lw_at lw_m9 13 rfl
theorem q2064 : (Jvm.Cond.instanceMethod ({ cls := "WideMapModel", name := "sumOf", desc := "(II)I" } : Jvm.MethodName)) ∈ lw_all := lw_g (lw_at lw_m9 14 rfl) rfl
theorem q2065 : (Jvm.Cond.code ({ cls := "WideMapModel", name := "sumOf", desc := "(II)I" } : Jvm.MethodName) prog_9_method_52_code (5 : Nat) (Option.some Jvm.ClassFile.FieldType.int)) ∈ lw_all := lw_g (lw_at lw_m9 15 rfl) rfl
theorem q2067 : (Jvm.Cond.instanceMethod ({ cls := "WideMapModel", name := "below", desc := "(II)I" } : Jvm.MethodName)) ∈ lw_all := lw_g (lw_at lw_m9 17 rfl) rfl
theorem q2068 : (Jvm.Cond.selects "WideMapModel" ({ cls := "WideMapModel", name := "below", desc := "(II)I" } : Jvm.MethodName) ({ cls := "WideMapModel", name := "below", desc := "(II)I" } : Jvm.MethodName)) ∈ lw_all := lw_g (lw_at lw_m9 18 rfl) rfl
theorem q2069 : (Jvm.Cond.code ({ cls := "WideMapModel", name := "below", desc := "(II)I" } : Jvm.MethodName) prog_9_method_54_code (4 : Nat) (Option.some Jvm.ClassFile.FieldType.int)) ∈ lw_all := lw_g (lw_at lw_m9 19 rfl) rfl
theorem q2071 : (Jvm.Cond.instanceMethod ({ cls := "WideMapModel", name := "near", desc := "(III)I" } : Jvm.MethodName)) ∈ lw_all := lw_g (lw_at lw_m9 21 rfl) rfl
theorem q2072 : (Jvm.Cond.selects "WideMapModel" ({ cls := "WideMapModel", name := "near", desc := "(III)I" } : Jvm.MethodName) ({ cls := "WideMapModel", name := "near", desc := "(III)I" } : Jvm.MethodName)) ∈ lw_all := lw_g (lw_at lw_m9 22 rfl) rfl
theorem q2073 : (Jvm.Cond.code ({ cls := "WideMapModel", name := "near", desc := "(III)I" } : Jvm.MethodName) prog_9_method_55_code (7 : Nat) (Option.some Jvm.ClassFile.FieldType.int)) ∈ lw_all := lw_g (lw_at lw_m9 23 rfl) rfl
theorem q2075 : (Jvm.Cond.instanceMethod ({ cls := "WideMapModel", name := "total", desc := "(III)I" } : Jvm.MethodName)) ∈ lw_all := lw_g (lw_at lw_m9 25 rfl) rfl
theorem q2076 : (Jvm.Cond.selects "WideMapModel" ({ cls := "WideMapModel", name := "total", desc := "(III)I" } : Jvm.MethodName) ({ cls := "WideMapModel", name := "total", desc := "(III)I" } : Jvm.MethodName)) ∈ lw_all := lw_g (lw_at lw_m9 26 rfl) rfl
theorem q2077 : (Jvm.Cond.code ({ cls := "WideMapModel", name := "total", desc := "(III)I" } : Jvm.MethodName) prog_9_method_56_code (4 : Nat) (Option.some Jvm.ClassFile.FieldType.int)) ∈ lw_all := lw_g (lw_at lw_m9 27 rfl) rfl
theorem q2079 : (Jvm.Cond.instanceMethod ({ cls := "WideMapModel", name := "node", desc := "(III)I" } : Jvm.MethodName)) ∈ lw_all := lw_g (lw_at lw_m9 29 rfl) rfl
theorem q2080 : (Jvm.Cond.selects "WideMapModel" ({ cls := "WideMapModel", name := "node", desc := "(III)I" } : Jvm.MethodName) ({ cls := "WideMapModel", name := "node", desc := "(III)I" } : Jvm.MethodName)) ∈ lw_all := lw_g (lw_at lw_m9 30 rfl) rfl
theorem q2081 : (Jvm.Cond.code ({ cls := "WideMapModel", name := "node", desc := "(III)I" } : Jvm.MethodName) prog_9_method_58_code (5 : Nat) (Option.some Jvm.ClassFile.FieldType.int)) ∈ lw_all := lw_g (lw_at lw_m9 31 rfl) rfl
theorem q2082 : (Jvm.Cond.constantLong "WideMapModel" (327 : Nat) (5 : Int64)) ∈ lw_all := lw_g (lw_at lw_m9 32 rfl) rfl
theorem q2083 : (Jvm.Cond.methodLink "WideMapModel" (329 : Nat) ({ cls := "WideMapModel", name := "holders", desc := "(I)I" } : Jvm.MethodName)) ∈ lw_all := lw_g (lw_at lw_m9 33 rfl) rfl
theorem q2084 : (Jvm.Cond.privateMethod ({ cls := "WideMapModel", name := "holders", desc := "(I)I" } : Jvm.MethodName)) ∈ lw_tbl := lw_at lw_m9 34 rfl
theorem q2085 : (Jvm.Cond.instanceMethod ({ cls := "WideMapModel", name := "holders", desc := "(I)I" } : Jvm.MethodName)) ∈ lw_all := lw_g (lw_at lw_m9 35 rfl) rfl
theorem q2086 : (Jvm.Cond.code ({ cls := "WideMapModel", name := "holders", desc := "(I)I" } : Jvm.MethodName) prog_9_method_57_code (5 : Nat) (Option.some Jvm.ClassFile.FieldType.int)) ∈ lw_all := lw_g (lw_at lw_m9 36 rfl) rfl
theorem q2087 : (Jvm.Cond.methodLink "WideMapModel" (332 : Nat) ({ cls := "WideMapModel", name := "keysOf", desc := "(I)I" } : Jvm.MethodName)) ∈ lw_all := lw_g (lw_at lw_m9 37 rfl) rfl
theorem q2088 : (Jvm.Cond.privateMethod ({ cls := "WideMapModel", name := "keysOf", desc := "(I)I" } : Jvm.MethodName)) ∈ lw_tbl := lw_at lw_m9 38 rfl
theorem q2089 : (Jvm.Cond.instanceMethod ({ cls := "WideMapModel", name := "keysOf", desc := "(I)I" } : Jvm.MethodName)) ∈ lw_all := lw_g (lw_at lw_m9 39 rfl) rfl
theorem q2090 : (Jvm.Cond.code ({ cls := "WideMapModel", name := "keysOf", desc := "(I)I" } : Jvm.MethodName) prog_9_method_38_code (2 : Nat) (Option.some Jvm.ClassFile.FieldType.int)) ∈ lw_all := lw_g (lw_at lw_m9 40 rfl) rfl
theorem q2092 : (Jvm.Cond.instanceMethod ({ cls := "WideMapModel", name := "having", desc := "(III)I" } : Jvm.MethodName)) ∈ lw_all := lw_g (lw_at lw_m9 42 rfl) rfl
theorem q2093 : (Jvm.Cond.selects "WideMapModel" ({ cls := "WideMapModel", name := "having", desc := "(III)I" } : Jvm.MethodName) ({ cls := "WideMapModel", name := "having", desc := "(III)I" } : Jvm.MethodName)) ∈ lw_all := lw_g (lw_at lw_m9 43 rfl) rfl
theorem q2094 : (Jvm.Cond.code ({ cls := "WideMapModel", name := "having", desc := "(III)I" } : Jvm.MethodName) prog_9_method_59_code (4 : Nat) (Option.some Jvm.ClassFile.FieldType.int)) ∈ lw_all := lw_g (lw_at lw_m9 44 rfl) rfl
theorem q2095 : (Jvm.Cond.constantLong "WideMapModel" (335 : Nat) (999 : Int64)) ∈ lw_all := lw_g (lw_at lw_m9 45 rfl) rfl
theorem q2096 : (Jvm.Cond.constantLong "WideMapModel" (337 : Nat) (-999 : Int64)) ∈ lw_all := lw_g (lw_at lw_m9 46 rfl) rfl
theorem q2098 : (Jvm.Cond.instanceMethod ({ cls := "WideMapModel", name := "lacking", desc := "(II)I" } : Jvm.MethodName)) ∈ lw_all := lw_g (lw_at lw_m9 48 rfl) rfl
theorem q2099 : (Jvm.Cond.selects "WideMapModel" ({ cls := "WideMapModel", name := "lacking", desc := "(II)I" } : Jvm.MethodName) ({ cls := "WideMapModel", name := "lacking", desc := "(II)I" } : Jvm.MethodName)) ∈ lw_all := lw_g (lw_at lw_m9 49 rfl) rfl
theorem q2100 : (Jvm.Cond.code ({ cls := "WideMapModel", name := "lacking", desc := "(II)I" } : Jvm.MethodName) prog_9_method_60_code (3 : Nat) (Option.some Jvm.ClassFile.FieldType.int)) ∈ lw_all := lw_g (lw_at lw_m9 50 rfl) rfl
theorem q2101 : (Jvm.Cond.methodLink "WideMapModel" (339 : Nat) ({ cls := "WideMapModel", name := "takes", desc := "(III)I" } : Jvm.MethodName)) ∈ lw_all := lw_g (lw_at lw_m9 51 rfl) rfl
theorem q2102 : (Jvm.Cond.privateMethod ({ cls := "WideMapModel", name := "takes", desc := "(III)I" } : Jvm.MethodName)) ∈ lw_tbl := lw_at lw_m9 52 rfl
theorem q2103 : (Jvm.Cond.instanceMethod ({ cls := "WideMapModel", name := "takes", desc := "(III)I" } : Jvm.MethodName)) ∈ lw_all := lw_g (lw_at lw_m9 53 rfl) rfl
theorem q2104 : (Jvm.Cond.code ({ cls := "WideMapModel", name := "takes", desc := "(III)I" } : Jvm.MethodName) prog_9_method_35_code (7 : Nat) (Option.some Jvm.ClassFile.FieldType.int)) ∈ lw_all := lw_g (lw_at lw_m9 54 rfl) rfl
theorem q2105 : (Jvm.Cond.methodLink "WideMapModel" (235 : Nat) ({ cls := "WideMapModel", name := "takesFrom", desc := "(II)V" } : Jvm.MethodName)) ∈ lw_all := lw_g (lw_at lw_m9 55 rfl) rfl
theorem q2106 : (Jvm.Cond.privateMethod ({ cls := "WideMapModel", name := "takesFrom", desc := "(II)V" } : Jvm.MethodName)) ∈ lw_tbl := lw_at lw_m9 56 rfl
theorem q2107 : (Jvm.Cond.instanceMethod ({ cls := "WideMapModel", name := "takesFrom", desc := "(II)V" } : Jvm.MethodName)) ∈ lw_all := lw_g (lw_at lw_m9 57 rfl) rfl
theorem q2108 : (Jvm.Cond.code ({ cls := "WideMapModel", name := "takesFrom", desc := "(II)V" } : Jvm.MethodName) prog_9_method_30_code (4 : Nat) (Option.none : Option Jvm.ClassFile.FieldType)) ∈ lw_all := lw_g (lw_at lw_m9 58 rfl) rfl
theorem q2109 : (Jvm.Cond.methodLink "WideMapModel" (232 : Nat) ({ cls := "WideMapModel", name := "least", desc := "()I" } : Jvm.MethodName)) ∈ lw_all := lw_g (lw_at lw_m9 59 rfl) rfl
theorem q2110 : (Jvm.Cond.privateMethod ({ cls := "WideMapModel", name := "least", desc := "()I" } : Jvm.MethodName)) ∈ lw_tbl := lw_at lw_m9 60 rfl
theorem q2111 : (Jvm.Cond.instanceMethod ({ cls := "WideMapModel", name := "least", desc := "()I" } : Jvm.MethodName)) ∈ lw_all := lw_g (lw_at lw_m9 61 rfl) rfl
theorem q2112 : (Jvm.Cond.code ({ cls := "WideMapModel", name := "least", desc := "()I" } : Jvm.MethodName) prog_9_method_20_code (1 : Nat) (Option.some Jvm.ClassFile.FieldType.int)) ∈ lw_all := lw_g (lw_at lw_m9 62 rfl) rfl
theorem q2113 : (Jvm.Cond.methodLink "WideMapModel" (239 : Nat) ({ cls := "WideMapModel", name := "fills", desc := "(III)V" } : Jvm.MethodName)) ∈ lw_all := lw_g (lw_at lw_m9 63 rfl) rfl
theorem q2114 : (Jvm.Cond.privateMethod ({ cls := "WideMapModel", name := "fills", desc := "(III)V" } : Jvm.MethodName)) ∈ lw_tbl := lw_at lw_m9 64 rfl
theorem q2115 : (Jvm.Cond.instanceMethod ({ cls := "WideMapModel", name := "fills", desc := "(III)V" } : Jvm.MethodName)) ∈ lw_all := lw_g (lw_at lw_m9 65 rfl) rfl
theorem q2116 : (Jvm.Cond.code ({ cls := "WideMapModel", name := "fills", desc := "(III)V" } : Jvm.MethodName) prog_9_method_34_code (8 : Nat) (Option.none : Option Jvm.ClassFile.FieldType)) ∈ lw_all := lw_g (lw_at lw_m9 66 rfl) rfl
theorem q2118 : (Jvm.Cond.instanceMethod ({ cls := "WideMapModel", name := "merge", desc := "(III)I" } : Jvm.MethodName)) ∈ lw_all := lw_g (lw_at lw_m9 68 rfl) rfl
theorem q2119 : (Jvm.Cond.selects "WideMapModel" ({ cls := "WideMapModel", name := "merge", desc := "(III)I" } : Jvm.MethodName) ({ cls := "WideMapModel", name := "merge", desc := "(III)I" } : Jvm.MethodName)) ∈ lw_all := lw_g (lw_at lw_m9 69 rfl) rfl
theorem q2120 : (Jvm.Cond.code ({ cls := "WideMapModel", name := "merge", desc := "(III)I" } : Jvm.MethodName) prog_9_method_66_code (10 : Nat) (Option.some Jvm.ClassFile.FieldType.int)) ∈ lw_all := lw_g (lw_at lw_m9 70 rfl) rfl
theorem q2121 : (Jvm.Cond.methodLink "WideMapModel" (356 : Nat) ({ cls := "WideMapModel", name := "laysTwo", desc := "(II)V" } : Jvm.MethodName)) ∈ lw_all := lw_g (lw_at lw_m9 71 rfl) rfl
theorem q2122 : (Jvm.Cond.privateMethod ({ cls := "WideMapModel", name := "laysTwo", desc := "(II)V" } : Jvm.MethodName)) ∈ lw_tbl := lw_at lw_m9 72 rfl
theorem q2123 : (Jvm.Cond.instanceMethod ({ cls := "WideMapModel", name := "laysTwo", desc := "(II)V" } : Jvm.MethodName)) ∈ lw_all := lw_g (lw_at lw_m9 73 rfl) rfl
theorem q2124 : (Jvm.Cond.code ({ cls := "WideMapModel", name := "laysTwo", desc := "(II)V" } : Jvm.MethodName) prog_9_method_62_code (4 : Nat) (Option.none : Option Jvm.ClassFile.FieldType)) ∈ lw_all := lw_g (lw_at lw_m9 74 rfl) rfl
theorem q2125 : (Jvm.Cond.methodLink "WideMapModel" (342 : Nat) ({ cls := "WideMapModel", name := "laysThere", desc := "(II)V" } : Jvm.MethodName)) ∈ lw_all := lw_g (lw_at lw_m9 75 rfl) rfl
theorem q2126 : (Jvm.Cond.privateMethod ({ cls := "WideMapModel", name := "laysThere", desc := "(II)V" } : Jvm.MethodName)) ∈ lw_tbl := lw_at lw_m9 76 rfl
theorem q2127 : (Jvm.Cond.instanceMethod ({ cls := "WideMapModel", name := "laysThere", desc := "(II)V" } : Jvm.MethodName)) ∈ lw_all := lw_g (lw_at lw_m9 77 rfl) rfl
theorem q2128 : (Jvm.Cond.code ({ cls := "WideMapModel", name := "laysThere", desc := "(II)V" } : Jvm.MethodName) prog_9_method_61_code (4 : Nat) (Option.none : Option Jvm.ClassFile.FieldType)) ∈ lw_all := lw_g (lw_at lw_m9 78 rfl) rfl
theorem q2129 : (Jvm.Cond.methodLink "WideMapModel" (350 : Nat) ({ cls := "WideMapModel", name := "laysOwn", desc := "(I)V" } : Jvm.MethodName)) ∈ lw_all := lw_g (lw_at lw_m9 79 rfl) rfl
theorem q2130 : (Jvm.Cond.privateMethod ({ cls := "WideMapModel", name := "laysOwn", desc := "(I)V" } : Jvm.MethodName)) ∈ lw_tbl := lw_at lw_m9 80 rfl
theorem q2131 : (Jvm.Cond.instanceMethod ({ cls := "WideMapModel", name := "laysOwn", desc := "(I)V" } : Jvm.MethodName)) ∈ lw_all := lw_g (lw_at lw_m9 81 rfl) rfl
theorem q2132 : (Jvm.Cond.code ({ cls := "WideMapModel", name := "laysOwn", desc := "(I)V" } : Jvm.MethodName) prog_9_method_65_code (3 : Nat) (Option.none : Option Jvm.ClassFile.FieldType)) ∈ lw_all := lw_g (lw_at lw_m9 82 rfl) rfl
theorem q2133 : (Jvm.Cond.methodLink "WideMapModel" (359 : Nat) ({ cls := "WideMapModel", name := "ruled", desc := "(III)I" } : Jvm.MethodName)) ∈ lw_all := lw_g (lw_at lw_m9 83 rfl) rfl
theorem q2134 : (Jvm.Cond.static ({ cls := "WideMapModel", name := "ruled", desc := "(III)I" } : Jvm.MethodName)) ∈ lw_all := lw_g (lw_at lw_m9 84 rfl) rfl
theorem q2135 : (Jvm.Cond.code ({ cls := "WideMapModel", name := "ruled", desc := "(III)I" } : Jvm.MethodName) prog_9_method_64_code (3 : Nat) (Option.some Jvm.ClassFile.FieldType.int)) ∈ lw_all := lw_g (lw_at lw_m9 85 rfl) rfl
theorem q2136 : (Jvm.Cond.methodLink "WideMapModel" (348 : Nat) ({ cls := "WideMapModel", name := "held", desc := "(I)I" } : Jvm.MethodName)) ∈ lw_all := lw_g (lw_at lw_m9 86 rfl) rfl
theorem q2137 : (Jvm.Cond.static ({ cls := "WideMapModel", name := "held", desc := "(I)I" } : Jvm.MethodName)) ∈ lw_all := lw_g (lw_at lw_m9 87 rfl) rfl
theorem q2138 : (Jvm.Cond.code ({ cls := "WideMapModel", name := "held", desc := "(I)I" } : Jvm.MethodName) prog_9_method_63_code (1 : Nat) (Option.some Jvm.ClassFile.FieldType.int)) ∈ lw_all := lw_g (lw_at lw_m9 88 rfl) rfl
theorem q2139 : (Jvm.Cond.methodLink "WideMapModel" (345 : Nat) ({ cls := "java/lang/Math", name := "min", desc := "(II)I" } : Jvm.MethodName)) ∈ lw_all := lw_g (lw_at lw_m9 89 rfl) rfl
theorem q2141 : (Jvm.Cond.instanceMethod ({ cls := "WideMapModel", name := "three", desc := "(IIII)I" } : Jvm.MethodName)) ∈ lw_all := lw_g (lw_at lw_m9 91 rfl) rfl
theorem q2142 : (Jvm.Cond.selects "WideMapModel" ({ cls := "WideMapModel", name := "three", desc := "(IIII)I" } : Jvm.MethodName) ({ cls := "WideMapModel", name := "three", desc := "(IIII)I" } : Jvm.MethodName)) ∈ lw_all := lw_g (lw_at lw_m9 92 rfl) rfl
theorem q2143 : (Jvm.Cond.code ({ cls := "WideMapModel", name := "three", desc := "(IIII)I" } : Jvm.MethodName) prog_9_method_71_code (10 : Nat) (Option.some Jvm.ClassFile.FieldType.int)) ∈ lw_all := lw_g (lw_at lw_m9 93 rfl) rfl
theorem q2144 : (Jvm.Cond.constantLong "WideMapModel" (369 : Nat) (2 : Int64)) ∈ lw_all := lw_g (lw_at lw_m9 94 rfl) rfl
theorem q2145 : (Jvm.Cond.methodLink "WideMapModel" (371 : Nat) ({ cls := "WideMapModel", name := "laysThree", desc := "(III)V" } : Jvm.MethodName)) ∈ lw_all := lw_g (lw_at lw_m9 95 rfl) rfl
theorem q2146 : (Jvm.Cond.privateMethod ({ cls := "WideMapModel", name := "laysThree", desc := "(III)V" } : Jvm.MethodName)) ∈ lw_tbl := lw_at lw_m9 96 rfl
theorem q2147 : (Jvm.Cond.instanceMethod ({ cls := "WideMapModel", name := "laysThree", desc := "(III)V" } : Jvm.MethodName)) ∈ lw_all := lw_g (lw_at lw_m9 97 rfl) rfl
theorem q2148 : (Jvm.Cond.code ({ cls := "WideMapModel", name := "laysThree", desc := "(III)V" } : Jvm.MethodName) prog_9_method_70_code (5 : Nat) (Option.none : Option Jvm.ClassFile.FieldType)) ∈ lw_all := lw_g (lw_at lw_m9 98 rfl) rfl
theorem q2149 : (Jvm.Cond.methodLink "WideMapModel" (374 : Nat) ({ cls := "WideMapModel", name := "asWhich", desc := "(II)I" } : Jvm.MethodName)) ∈ lw_all := lw_g (lw_at lw_m9 99 rfl) rfl
theorem q2150 : (Jvm.Cond.privateMethod ({ cls := "WideMapModel", name := "asWhich", desc := "(II)I" } : Jvm.MethodName)) ∈ lw_tbl := lw_at lw_m9 100 rfl
theorem q2151 : (Jvm.Cond.instanceMethod ({ cls := "WideMapModel", name := "asWhich", desc := "(II)I" } : Jvm.MethodName)) ∈ lw_all := lw_g (lw_at lw_m9 101 rfl) rfl
theorem q2152 : (Jvm.Cond.code ({ cls := "WideMapModel", name := "asWhich", desc := "(II)I" } : Jvm.MethodName) prog_9_method_69_code (3 : Nat) (Option.some Jvm.ClassFile.FieldType.int)) ∈ lw_all := lw_g (lw_at lw_m9 102 rfl) rfl
theorem q2153 : (Jvm.Cond.methodLink "WideMapModel" (362 : Nat) ({ cls := "WideMapModel", name := "isUnlike", desc := "(III)Z" } : Jvm.MethodName)) ∈ lw_all := lw_g (lw_at lw_m9 103 rfl) rfl
theorem q2154 : (Jvm.Cond.privateMethod ({ cls := "WideMapModel", name := "isUnlike", desc := "(III)Z" } : Jvm.MethodName)) ∈ lw_tbl := lw_at lw_m9 104 rfl
theorem q2155 : (Jvm.Cond.instanceMethod ({ cls := "WideMapModel", name := "isUnlike", desc := "(III)Z" } : Jvm.MethodName)) ∈ lw_all := lw_g (lw_at lw_m9 105 rfl) rfl
theorem q2156 : (Jvm.Cond.code ({ cls := "WideMapModel", name := "isUnlike", desc := "(III)Z" } : Jvm.MethodName) prog_9_method_67_code (4 : Nat) (Option.some Jvm.ClassFile.FieldType.boolean)) ∈ lw_all := lw_g (lw_at lw_m9 106 rfl) rfl
theorem q2157 : (Jvm.Cond.methodLink "WideMapModel" (366 : Nat) ({ cls := "WideMapModel", name := "isConflict", desc := "(I)Z" } : Jvm.MethodName)) ∈ lw_all := lw_g (lw_at lw_m9 107 rfl) rfl
theorem q2158 : (Jvm.Cond.privateMethod ({ cls := "WideMapModel", name := "isConflict", desc := "(I)Z" } : Jvm.MethodName)) ∈ lw_tbl := lw_at lw_m9 108 rfl
theorem q2159 : (Jvm.Cond.instanceMethod ({ cls := "WideMapModel", name := "isConflict", desc := "(I)Z" } : Jvm.MethodName)) ∈ lw_all := lw_g (lw_at lw_m9 109 rfl) rfl
theorem q2160 : (Jvm.Cond.code ({ cls := "WideMapModel", name := "isConflict", desc := "(I)Z" } : Jvm.MethodName) prog_9_method_68_code (2 : Nat) (Option.some Jvm.ClassFile.FieldType.boolean)) ∈ lw_all := lw_g (lw_at lw_m9 110 rfl) rfl
theorem q2162 : (Jvm.Cond.instanceMethod ({ cls := "WideMapModel", name := "conflicts", desc := "(III)I" } : Jvm.MethodName)) ∈ lw_all := lw_g (lw_at lw_m9 112 rfl) rfl
theorem q2163 : (Jvm.Cond.selects "WideMapModel" ({ cls := "WideMapModel", name := "conflicts", desc := "(III)I" } : Jvm.MethodName) ({ cls := "WideMapModel", name := "conflicts", desc := "(III)I" } : Jvm.MethodName)) ∈ lw_all := lw_g (lw_at lw_m9 113 rfl) rfl
theorem q2164 : (Jvm.Cond.code ({ cls := "WideMapModel", name := "conflicts", desc := "(III)I" } : Jvm.MethodName) prog_9_method_72_code (6 : Nat) (Option.some Jvm.ClassFile.FieldType.int)) ∈ lw_all := lw_g (lw_at lw_m9 114 rfl) rfl
theorem q2166 : (Jvm.Cond.instanceMethod ({ cls := "WideMapModel", name := "slice", desc := "(III)I" } : Jvm.MethodName)) ∈ lw_all := lw_g (lw_at lw_m9 116 rfl) rfl
theorem q2167 : (Jvm.Cond.selects "WideMapModel" ({ cls := "WideMapModel", name := "slice", desc := "(III)I" } : Jvm.MethodName) ({ cls := "WideMapModel", name := "slice", desc := "(III)I" } : Jvm.MethodName)) ∈ lw_all := lw_g (lw_at lw_m9 117 rfl) rfl
theorem q2168 : (Jvm.Cond.code ({ cls := "WideMapModel", name := "slice", desc := "(III)I" } : Jvm.MethodName) prog_9_method_74_code (4 : Nat) (Option.some Jvm.ClassFile.FieldType.int)) ∈ lw_all := lw_g (lw_at lw_m9 118 rfl) rfl
theorem q2169 : (Jvm.Cond.methodLink "WideMapModel" (377 : Nat) ({ cls := "WideMapModel", name := "cuts", desc := "(IIIZI)I" } : Jvm.MethodName)) ∈ lw_all := lw_g (lw_at lw_m9 119 rfl) rfl
theorem q2170 : (Jvm.Cond.privateMethod ({ cls := "WideMapModel", name := "cuts", desc := "(IIIZI)I" } : Jvm.MethodName)) ∈ lw_tbl := lw_at lw_m9 120 rfl
theorem q2171 : (Jvm.Cond.instanceMethod ({ cls := "WideMapModel", name := "cuts", desc := "(IIIZI)I" } : Jvm.MethodName)) ∈ lw_all := lw_g (lw_at lw_m9 121 rfl) rfl
theorem q2172 : (Jvm.Cond.code ({ cls := "WideMapModel", name := "cuts", desc := "(IIIZI)I" } : Jvm.MethodName) prog_9_method_73_code (8 : Nat) (Option.some Jvm.ClassFile.FieldType.int)) ∈ lw_all := lw_g (lw_at lw_m9 122 rfl) rfl
theorem q2174 : (Jvm.Cond.instanceMethod ({ cls := "WideMapModel", name := "drop", desc := "(I)I" } : Jvm.MethodName)) ∈ lw_all := lw_g (lw_at lw_m9 124 rfl) rfl
theorem q2175 : (Jvm.Cond.selects "WideMapModel" ({ cls := "WideMapModel", name := "drop", desc := "(I)I" } : Jvm.MethodName) ({ cls := "WideMapModel", name := "drop", desc := "(I)I" } : Jvm.MethodName)) ∈ lw_all := lw_g (lw_at lw_m9 125 rfl) rfl
theorem q2176 : (Jvm.Cond.code ({ cls := "WideMapModel", name := "drop", desc := "(I)I" } : Jvm.MethodName) prog_9_method_75_code (2 : Nat) (Option.some Jvm.ClassFile.FieldType.int)) ∈ lw_all := lw_g (lw_at lw_m9 126 rfl) rfl
theorem q2178 : (Jvm.Cond.instanceMethod ({ cls := "WideMapModel", name := "build", desc := "(II)I" } : Jvm.MethodName)) ∈ lw_all := lw_g (lw_at lw_m9 128 rfl) rfl
theorem q2179 : (Jvm.Cond.selects "WideMapModel" ({ cls := "WideMapModel", name := "build", desc := "(II)I" } : Jvm.MethodName) ({ cls := "WideMapModel", name := "build", desc := "(II)I" } : Jvm.MethodName)) ∈ lw_all := lw_g (lw_at lw_m9 129 rfl) rfl
theorem q2180 : (Jvm.Cond.code ({ cls := "WideMapModel", name := "build", desc := "(II)I" } : Jvm.MethodName) prog_9_method_78_code (3 : Nat) (Option.some Jvm.ClassFile.FieldType.int)) ∈ lw_all := lw_g (lw_at lw_m9 130 rfl) rfl
theorem q2181 : (Jvm.Cond.methodLink "WideMapModel" (381 : Nat) ({ cls := "WideMapModel", name := "isBuilder", desc := "(I)Z" } : Jvm.MethodName)) ∈ lw_all := lw_g (lw_at lw_m9 131 rfl) rfl
theorem q2182 : (Jvm.Cond.privateMethod ({ cls := "WideMapModel", name := "isBuilder", desc := "(I)Z" } : Jvm.MethodName)) ∈ lw_tbl := lw_at lw_m9 132 rfl
theorem q2183 : (Jvm.Cond.instanceMethod ({ cls := "WideMapModel", name := "isBuilder", desc := "(I)Z" } : Jvm.MethodName)) ∈ lw_all := lw_g (lw_at lw_m9 133 rfl) rfl
theorem q2184 : (Jvm.Cond.code ({ cls := "WideMapModel", name := "isBuilder", desc := "(I)Z" } : Jvm.MethodName) prog_9_method_76_code (2 : Nat) (Option.some Jvm.ClassFile.FieldType.boolean)) ∈ lw_all := lw_g (lw_at lw_m9 134 rfl) rfl
theorem q2186 : (Jvm.Cond.instanceMethod ({ cls := "WideMapModel", name := "lay", desc := "(III)I" } : Jvm.MethodName)) ∈ lw_all := lw_g (lw_at lw_m9 136 rfl) rfl
theorem q2187 : (Jvm.Cond.selects "WideMapModel" ({ cls := "WideMapModel", name := "lay", desc := "(III)I" } : Jvm.MethodName) ({ cls := "WideMapModel", name := "lay", desc := "(III)I" } : Jvm.MethodName)) ∈ lw_all := lw_g (lw_at lw_m9 137 rfl) rfl
theorem q2188 : (Jvm.Cond.code ({ cls := "WideMapModel", name := "lay", desc := "(III)I" } : Jvm.MethodName) prog_9_method_85_code (4 : Nat) (Option.some Jvm.ClassFile.FieldType.int)) ∈ lw_all := lw_g (lw_at lw_m9 138 rfl) rfl
theorem q2189 : (Jvm.Cond.methodLink "WideMapModel" (400 : Nat) ({ cls := "WideMapModel", name := "lays", desc := "(IIIZ)I" } : Jvm.MethodName)) ∈ lw_all := lw_g (lw_at lw_m9 139 rfl) rfl
theorem q2190 : (Jvm.Cond.privateMethod ({ cls := "WideMapModel", name := "lays", desc := "(IIIZ)I" } : Jvm.MethodName)) ∈ lw_tbl := lw_at lw_m9 140 rfl
theorem q2191 : (Jvm.Cond.instanceMethod ({ cls := "WideMapModel", name := "lays", desc := "(IIIZ)I" } : Jvm.MethodName)) ∈ lw_all := lw_g (lw_at lw_m9 141 rfl) rfl
theorem q2192 : (Jvm.Cond.code ({ cls := "WideMapModel", name := "lays", desc := "(IIIZ)I" } : Jvm.MethodName) prog_9_method_84_code (7 : Nat) (Option.some Jvm.ClassFile.FieldType.int)) ∈ lw_all := lw_g (lw_at lw_m9 142 rfl) rfl
theorem q2193 : (Jvm.Cond.methodLink "WideMapModel" (393 : Nat) ({ cls := "WideMapModel", name := "stops", desc := "(IZ)I" } : Jvm.MethodName)) ∈ lw_all := lw_g (lw_at lw_m9 143 rfl) rfl
theorem q2194 : (Jvm.Cond.privateMethod ({ cls := "WideMapModel", name := "stops", desc := "(IZ)I" } : Jvm.MethodName)) ∈ lw_tbl := lw_at lw_m9 144 rfl
theorem q2195 : (Jvm.Cond.instanceMethod ({ cls := "WideMapModel", name := "stops", desc := "(IZ)I" } : Jvm.MethodName)) ∈ lw_all := lw_g (lw_at lw_m9 145 rfl) rfl
theorem q2196 : (Jvm.Cond.code ({ cls := "WideMapModel", name := "stops", desc := "(IZ)I" } : Jvm.MethodName) prog_9_method_83_code (3 : Nat) (Option.some Jvm.ClassFile.FieldType.int)) ∈ lw_all := lw_g (lw_at lw_m9 146 rfl) rfl
theorem q2197 : (Jvm.Cond.methodLink "WideMapModel" (390 : Nat) ({ cls := "WideMapModel", name := "isOpen", desc := "(I)Z" } : Jvm.MethodName)) ∈ lw_all := lw_g (lw_at lw_m9 147 rfl) rfl
theorem q2198 : (Jvm.Cond.privateMethod ({ cls := "WideMapModel", name := "isOpen", desc := "(I)Z" } : Jvm.MethodName)) ∈ lw_tbl := lw_at lw_m9 148 rfl
theorem q2199 : (Jvm.Cond.instanceMethod ({ cls := "WideMapModel", name := "isOpen", desc := "(I)Z" } : Jvm.MethodName)) ∈ lw_all := lw_g (lw_at lw_m9 149 rfl) rfl
theorem q2200 : (Jvm.Cond.code ({ cls := "WideMapModel", name := "isOpen", desc := "(I)Z" } : Jvm.MethodName) prog_9_method_77_code (2 : Nat) (Option.some Jvm.ClassFile.FieldType.boolean)) ∈ lw_all := lw_g (lw_at lw_m9 150 rfl) rfl
theorem q2201 : (Jvm.Cond.methodLink "WideMapModel" (397 : Nat) ({ cls := "WideMapModel", name := "canPut", desc := "(II)Z" } : Jvm.MethodName)) ∈ lw_all := lw_g (lw_at lw_m9 151 rfl) rfl
theorem q2202 : (Jvm.Cond.privateMethod ({ cls := "WideMapModel", name := "canPut", desc := "(II)Z" } : Jvm.MethodName)) ∈ lw_tbl := lw_at lw_m9 152 rfl
theorem q2203 : (Jvm.Cond.instanceMethod ({ cls := "WideMapModel", name := "canPut", desc := "(II)Z" } : Jvm.MethodName)) ∈ lw_all := lw_g (lw_at lw_m9 153 rfl) rfl
theorem q2204 : (Jvm.Cond.code ({ cls := "WideMapModel", name := "canPut", desc := "(II)Z" } : Jvm.MethodName) prog_9_method_79_code (3 : Nat) (Option.some Jvm.ClassFile.FieldType.boolean)) ∈ lw_all := lw_g (lw_at lw_m9 154 rfl) rfl
theorem q2205 : (Jvm.Cond.methodLink "WideMapModel" (387 : Nat) ({ cls := "WideMapModel", name := "builderAdds", desc := "(III)V" } : Jvm.MethodName)) ∈ lw_all := lw_g (lw_at lw_m9 155 rfl) rfl
theorem q2206 : (Jvm.Cond.privateMethod ({ cls := "WideMapModel", name := "builderAdds", desc := "(III)V" } : Jvm.MethodName)) ∈ lw_tbl := lw_at lw_m9 156 rfl
theorem q2207 : (Jvm.Cond.instanceMethod ({ cls := "WideMapModel", name := "builderAdds", desc := "(III)V" } : Jvm.MethodName)) ∈ lw_all := lw_g (lw_at lw_m9 157 rfl) rfl
theorem q2208 : (Jvm.Cond.code ({ cls := "WideMapModel", name := "builderAdds", desc := "(III)V" } : Jvm.MethodName) prog_9_method_81_code (5 : Nat) (Option.none : Option Jvm.ClassFile.FieldType)) ∈ lw_all := lw_g (lw_at lw_m9 158 rfl) rfl
theorem q2209 : (Jvm.Cond.methodLink "WideMapModel" (384 : Nat) ({ cls := "WideMapModel", name := "builderPuts", desc := "(III)V" } : Jvm.MethodName)) ∈ lw_all := lw_g (lw_at lw_m9 159 rfl) rfl
theorem q2210 : (Jvm.Cond.privateMethod ({ cls := "WideMapModel", name := "builderPuts", desc := "(III)V" } : Jvm.MethodName)) ∈ lw_tbl := lw_at lw_m9 160 rfl
theorem q2211 : (Jvm.Cond.instanceMethod ({ cls := "WideMapModel", name := "builderPuts", desc := "(III)V" } : Jvm.MethodName)) ∈ lw_all := lw_g (lw_at lw_m9 161 rfl) rfl
theorem q2212 : (Jvm.Cond.code ({ cls := "WideMapModel", name := "builderPuts", desc := "(III)V" } : Jvm.MethodName) prog_9_method_80_code (4 : Nat) (Option.none : Option Jvm.ClassFile.FieldType)) ∈ lw_all := lw_g (lw_at lw_m9 162 rfl) rfl
theorem q2214 : (Jvm.Cond.instanceMethod ({ cls := "WideMapModel", name := "add", desc := "(III)I" } : Jvm.MethodName)) ∈ lw_all := lw_g (lw_at lw_m9 164 rfl) rfl
theorem q2215 : (Jvm.Cond.selects "WideMapModel" ({ cls := "WideMapModel", name := "add", desc := "(III)I" } : Jvm.MethodName) ({ cls := "WideMapModel", name := "add", desc := "(III)I" } : Jvm.MethodName)) ∈ lw_all := lw_g (lw_at lw_m9 165 rfl) rfl
theorem q2216 : (Jvm.Cond.code ({ cls := "WideMapModel", name := "add", desc := "(III)I" } : Jvm.MethodName) prog_9_method_86_code (4 : Nat) (Option.some Jvm.ClassFile.FieldType.int)) ∈ lw_all := lw_g (lw_at lw_m9 166 rfl) rfl
theorem q2218 : (Jvm.Cond.instanceMethod ({ cls := "WideMapModel", name := "take", desc := "(II)I" } : Jvm.MethodName)) ∈ lw_all := lw_g (lw_at lw_m9 168 rfl) rfl
theorem q2219 : (Jvm.Cond.selects "WideMapModel" ({ cls := "WideMapModel", name := "take", desc := "(II)I" } : Jvm.MethodName) ({ cls := "WideMapModel", name := "take", desc := "(II)I" } : Jvm.MethodName)) ∈ lw_all := lw_g (lw_at lw_m9 169 rfl) rfl
theorem q2220 : (Jvm.Cond.code ({ cls := "WideMapModel", name := "take", desc := "(II)I" } : Jvm.MethodName) prog_9_method_87_code (5 : Nat) (Option.some Jvm.ClassFile.FieldType.int)) ∈ lw_all := lw_g (lw_at lw_m9 170 rfl) rfl
theorem q2222 : (Jvm.Cond.instanceMethod ({ cls := "WideMapModel", name := "cut", desc := "(III)I" } : Jvm.MethodName)) ∈ lw_all := lw_g (lw_at lw_m9 172 rfl) rfl
theorem q2223 : (Jvm.Cond.selects "WideMapModel" ({ cls := "WideMapModel", name := "cut", desc := "(III)I" } : Jvm.MethodName) ({ cls := "WideMapModel", name := "cut", desc := "(III)I" } : Jvm.MethodName)) ∈ lw_all := lw_g (lw_at lw_m9 173 rfl) rfl
theorem q2224 : (Jvm.Cond.code ({ cls := "WideMapModel", name := "cut", desc := "(III)I" } : Jvm.MethodName) prog_9_method_88_code (6 : Nat) (Option.some Jvm.ClassFile.FieldType.int)) ∈ lw_all := lw_g (lw_at lw_m9 174 rfl) rfl
theorem q2226 : (Jvm.Cond.instanceMethod ({ cls := "WideMapModel", name := "inc", desc := "(IIII)I" } : Jvm.MethodName)) ∈ lw_all := lw_g (lw_at lw_m9 176 rfl) rfl
theorem q2227 : (Jvm.Cond.selects "WideMapModel" ({ cls := "WideMapModel", name := "inc", desc := "(IIII)I" } : Jvm.MethodName) ({ cls := "WideMapModel", name := "inc", desc := "(IIII)I" } : Jvm.MethodName)) ∈ lw_all := lw_g (lw_at lw_m9 177 rfl) rfl
theorem q2228 : (Jvm.Cond.code ({ cls := "WideMapModel", name := "inc", desc := "(IIII)I" } : Jvm.MethodName) prog_9_method_89_code (7 : Nat) (Option.some Jvm.ClassFile.FieldType.int)) ∈ lw_all := lw_g (lw_at lw_m9 178 rfl) rfl
theorem q2229 : (Jvm.Cond.methodLink "WideMapModel" (404 : Nat) ({ cls := "WideMapModel", name := "builderIncs", desc := "(IIII)V" } : Jvm.MethodName)) ∈ lw_all := lw_g (lw_at lw_m9 179 rfl) rfl
theorem q2230 : (Jvm.Cond.privateMethod ({ cls := "WideMapModel", name := "builderIncs", desc := "(IIII)V" } : Jvm.MethodName)) ∈ lw_tbl := lw_at lw_m9 180 rfl
theorem q2231 : (Jvm.Cond.instanceMethod ({ cls := "WideMapModel", name := "builderIncs", desc := "(IIII)V" } : Jvm.MethodName)) ∈ lw_all := lw_g (lw_at lw_m9 181 rfl) rfl
theorem q2232 : (Jvm.Cond.code ({ cls := "WideMapModel", name := "builderIncs", desc := "(IIII)V" } : Jvm.MethodName) prog_9_method_82_code (7 : Nat) (Option.none : Option Jvm.ClassFile.FieldType)) ∈ lw_all := lw_g (lw_at lw_m9 182 rfl) rfl
theorem q2234 : (Jvm.Cond.instanceMethod ({ cls := "WideMapModel", name := "snap", desc := "(I)I" } : Jvm.MethodName)) ∈ lw_all := lw_g (lw_at lw_m9 184 rfl) rfl
theorem q2235 : (Jvm.Cond.selects "WideMapModel" ({ cls := "WideMapModel", name := "snap", desc := "(I)I" } : Jvm.MethodName) ({ cls := "WideMapModel", name := "snap", desc := "(I)I" } : Jvm.MethodName)) ∈ lw_all := lw_g (lw_at lw_m9 185 rfl) rfl
theorem q2236 : (Jvm.Cond.code ({ cls := "WideMapModel", name := "snap", desc := "(I)I" } : Jvm.MethodName) prog_9_method_91_code (3 : Nat) (Option.some Jvm.ClassFile.FieldType.int)) ∈ lw_all := lw_g (lw_at lw_m9 186 rfl) rfl
theorem q2237 : (Jvm.Cond.methodLink "WideMapModel" (407 : Nat) ({ cls := "WideMapModel", name := "snapped", desc := "(I)I" } : Jvm.MethodName)) ∈ lw_all := lw_g (lw_at lw_m9 187 rfl) rfl
theorem q2238 : (Jvm.Cond.privateMethod ({ cls := "WideMapModel", name := "snapped", desc := "(I)I" } : Jvm.MethodName)) ∈ lw_tbl := lw_at lw_m9 188 rfl
theorem q2239 : (Jvm.Cond.instanceMethod ({ cls := "WideMapModel", name := "snapped", desc := "(I)I" } : Jvm.MethodName)) ∈ lw_all := lw_g (lw_at lw_m9 189 rfl) rfl
theorem q2240 : (Jvm.Cond.code ({ cls := "WideMapModel", name := "snapped", desc := "(I)I" } : Jvm.MethodName) prog_9_method_90_code (3 : Nat) (Option.some Jvm.ClassFile.FieldType.int)) ∈ lw_all := lw_g (lw_at lw_m9 190 rfl) rfl
theorem q2242 : (Jvm.Cond.instanceMethod ({ cls := "WideMapModel", name := "freeze", desc := "(I)I" } : Jvm.MethodName)) ∈ lw_all := lw_g (lw_at lw_m9 192 rfl) rfl
theorem q2243 : (Jvm.Cond.selects "WideMapModel" ({ cls := "WideMapModel", name := "freeze", desc := "(I)I" } : Jvm.MethodName) ({ cls := "WideMapModel", name := "freeze", desc := "(I)I" } : Jvm.MethodName)) ∈ lw_all := lw_g (lw_at lw_m9 193 rfl) rfl
theorem q2244 : (Jvm.Cond.code ({ cls := "WideMapModel", name := "freeze", desc := "(I)I" } : Jvm.MethodName) prog_9_method_92_code (3 : Nat) (Option.some Jvm.ClassFile.FieldType.int)) ∈ lw_all := lw_g (lw_at lw_m9 194 rfl) rfl
theorem q2245 : (Jvm.Cond.methodLink "WideMapModel" (410 : Nat) ({ cls := "WideMapModel", name := "snap", desc := "(I)I" } : Jvm.MethodName)) ∈ lw_all := lw_g (lw_at lw_m9 195 rfl) rfl
theorem q2247 : (Jvm.Cond.instanceMethod ({ cls := "WideMapModel", name := "peek", desc := "(II)I" } : Jvm.MethodName)) ∈ lw_all := lw_g (lw_at lw_m9 197 rfl) rfl
theorem q2248 : (Jvm.Cond.selects "WideMapModel" ({ cls := "WideMapModel", name := "peek", desc := "(II)I" } : Jvm.MethodName) ({ cls := "WideMapModel", name := "peek", desc := "(II)I" } : Jvm.MethodName)) ∈ lw_all := lw_g (lw_at lw_m9 198 rfl) rfl
theorem q2249 : (Jvm.Cond.code ({ cls := "WideMapModel", name := "peek", desc := "(II)I" } : Jvm.MethodName) prog_9_method_93_code (3 : Nat) (Option.some Jvm.ClassFile.FieldType.int)) ∈ lw_all := lw_g (lw_at lw_m9 199 rfl) rfl
theorem q2251 : (Jvm.Cond.instanceMethod ({ cls := "WideMapModel", name := "builder", desc := "(II)I" } : Jvm.MethodName)) ∈ lw_all := lw_g (lw_at lw_m9 201 rfl) rfl
theorem q2252 : (Jvm.Cond.selects "WideMapModel" ({ cls := "WideMapModel", name := "builder", desc := "(II)I" } : Jvm.MethodName) ({ cls := "WideMapModel", name := "builder", desc := "(II)I" } : Jvm.MethodName)) ∈ lw_all := lw_g (lw_at lw_m9 202 rfl) rfl
theorem q2253 : (Jvm.Cond.code ({ cls := "WideMapModel", name := "builder", desc := "(II)I" } : Jvm.MethodName) prog_9_method_95_code (3 : Nat) (Option.some Jvm.ClassFile.FieldType.int)) ∈ lw_all := lw_g (lw_at lw_m9 203 rfl) rfl
theorem q2254 : (Jvm.Cond.methodLink "WideMapModel" (413 : Nat) ({ cls := "WideMapModel", name := "ownNodes", desc := "(I)I" } : Jvm.MethodName)) ∈ lw_all := lw_g (lw_at lw_m9 204 rfl) rfl
theorem q2255 : (Jvm.Cond.privateMethod ({ cls := "WideMapModel", name := "ownNodes", desc := "(I)I" } : Jvm.MethodName)) ∈ lw_tbl := lw_at lw_m9 205 rfl
theorem q2256 : (Jvm.Cond.instanceMethod ({ cls := "WideMapModel", name := "ownNodes", desc := "(I)I" } : Jvm.MethodName)) ∈ lw_all := lw_g (lw_at lw_m9 206 rfl) rfl
theorem q2257 : (Jvm.Cond.code ({ cls := "WideMapModel", name := "ownNodes", desc := "(I)I" } : Jvm.MethodName) prog_9_method_94_code (4 : Nat) (Option.some Jvm.ClassFile.FieldType.int)) ∈ lw_all := lw_g (lw_at lw_m9 207 rfl) rfl
theorem q2259 : (Jvm.Cond.instanceMethod ({ cls := "WideMapModel", name := "draws", desc := "(IIJ)I" } : Jvm.MethodName)) ∈ lw_all := lw_g (lw_at lw_m9 209 rfl) rfl
theorem q2260 : (Jvm.Cond.selects "WideMapModel" ({ cls := "WideMapModel", name := "draws", desc := "(IIJ)I" } : Jvm.MethodName) ({ cls := "WideMapModel", name := "draws", desc := "(IIJ)I" } : Jvm.MethodName)) ∈ lw_all := lw_g (lw_at lw_m9 210 rfl) rfl
theorem q2261 : (Jvm.Cond.code ({ cls := "WideMapModel", name := "draws", desc := "(IIJ)I" } : Jvm.MethodName) prog_9_method_97_code (11 : Nat) (Option.some Jvm.ClassFile.FieldType.int)) ∈ lw_all := lw_g (lw_at lw_m9 211 rfl) rfl
theorem q2262 : (Jvm.Cond.constantLong "WideMapModel" (424 : Nat) (30 : Int64)) ∈ lw_all := lw_g (lw_at lw_m9 212 rfl) rfl
theorem q2263 : (Jvm.Cond.methodLink "WideMapModel" (426 : Nat) ({ cls := "WideMapModel", name := "draw", desc := "(I)I" } : Jvm.MethodName)) ∈ lw_all := lw_g (lw_at lw_m9 213 rfl) rfl
theorem q2264 : (Jvm.Cond.privateMethod ({ cls := "WideMapModel", name := "draw", desc := "(I)I" } : Jvm.MethodName)) ∈ lw_tbl := lw_at lw_m9 214 rfl
theorem q2265 : (Jvm.Cond.instanceMethod ({ cls := "WideMapModel", name := "draw", desc := "(I)I" } : Jvm.MethodName)) ∈ lw_all := lw_g (lw_at lw_m9 215 rfl) rfl
theorem q2266 : (Jvm.Cond.code ({ cls := "WideMapModel", name := "draw", desc := "(I)I" } : Jvm.MethodName) prog_9_method_96_code (2 : Nat) (Option.some Jvm.ClassFile.FieldType.int)) ∈ lw_all := lw_g (lw_at lw_m9 216 rfl) rfl
theorem q2267 : (Jvm.Cond.constantLong "WideMapModel" (420 : Nat) (6364136223846793005 : Int64)) ∈ lw_all := lw_g (lw_at lw_m9 217 rfl) rfl
theorem q2268 : (Jvm.Cond.constantLong "WideMapModel" (422 : Nat) (1442695040888963407 : Int64)) ∈ lw_all := lw_g (lw_at lw_m9 218 rfl) rfl
theorem q2270 : (Jvm.Cond.instanceMethod ({ cls := "WideMapModel", name := "step", desc := "(III)I" } : Jvm.MethodName)) ∈ lw_all := lw_g (lw_at lw_m9 220 rfl) rfl
theorem q2271 : (Jvm.Cond.selects "WideMapModel" ({ cls := "WideMapModel", name := "step", desc := "(III)I" } : Jvm.MethodName) ({ cls := "WideMapModel", name := "step", desc := "(III)I" } : Jvm.MethodName)) ∈ lw_all := lw_g (lw_at lw_m9 221 rfl) rfl
theorem q2272 : (Jvm.Cond.code ({ cls := "WideMapModel", name := "step", desc := "(III)I" } : Jvm.MethodName) prog_9_method_98_code (4 : Nat) (Option.some Jvm.ClassFile.FieldType.int)) ∈ lw_all := lw_g (lw_at lw_m9 222 rfl) rfl
theorem q2274 : (Jvm.Cond.instanceMethod ({ cls := "WideMapModel", name := "run", desc := "(II)I" } : Jvm.MethodName)) ∈ lw_all := lw_g (lw_at lw_m9 224 rfl) rfl
theorem q2275 : (Jvm.Cond.selects "WideMapModel" ({ cls := "WideMapModel", name := "run", desc := "(II)I" } : Jvm.MethodName) ({ cls := "WideMapModel", name := "run", desc := "(II)I" } : Jvm.MethodName)) ∈ lw_all := lw_g (lw_at lw_m9 225 rfl) rfl
theorem q2276 : (Jvm.Cond.code ({ cls := "WideMapModel", name := "run", desc := "(II)I" } : Jvm.MethodName) prog_9_method_100_code (5 : Nat) (Option.some Jvm.ClassFile.FieldType.int)) ∈ lw_all := lw_g (lw_at lw_m9 226 rfl) rfl
theorem q2277 : (Jvm.Cond.methodLink "WideMapModel" (429 : Nat) ({ cls := "WideMapModel", name := "goesStep", desc := "(II)Z" } : Jvm.MethodName)) ∈ lw_all := lw_g (lw_at lw_m9 227 rfl) rfl
theorem q2278 : (Jvm.Cond.privateMethod ({ cls := "WideMapModel", name := "goesStep", desc := "(II)Z" } : Jvm.MethodName)) ∈ lw_tbl := lw_at lw_m9 228 rfl
theorem q2279 : (Jvm.Cond.instanceMethod ({ cls := "WideMapModel", name := "goesStep", desc := "(II)Z" } : Jvm.MethodName)) ∈ lw_all := lw_g (lw_at lw_m9 229 rfl) rfl
theorem q2280 : (Jvm.Cond.code ({ cls := "WideMapModel", name := "goesStep", desc := "(II)Z" } : Jvm.MethodName) prog_9_method_99_code (6 : Nat) (Option.some Jvm.ClassFile.FieldType.boolean)) ∈ lw_all := lw_g (lw_at lw_m9 230 rfl) rfl
theorem q2282 : (Jvm.Cond.instanceMethod ({ cls := "WideMapModel", name := "shared", desc := "(II)I" } : Jvm.MethodName)) ∈ lw_all := lw_g (lw_at lw_m9 232 rfl) rfl
theorem q2283 : (Jvm.Cond.selects "WideMapModel" ({ cls := "WideMapModel", name := "shared", desc := "(II)I" } : Jvm.MethodName) ({ cls := "WideMapModel", name := "shared", desc := "(II)I" } : Jvm.MethodName)) ∈ lw_all := lw_g (lw_at lw_m9 233 rfl) rfl
theorem q2284 : (Jvm.Cond.code ({ cls := "WideMapModel", name := "shared", desc := "(II)I" } : Jvm.MethodName) prog_9_method_102_code (3 : Nat) (Option.some Jvm.ClassFile.FieldType.int)) ∈ lw_all := lw_g (lw_at lw_m9 234 rfl) rfl
theorem q2285 : (Jvm.Cond.methodLink "WideMapModel" (432 : Nat) ({ cls := "WideMapModel", name := "sharedBy", desc := "(II)I" } : Jvm.MethodName)) ∈ lw_all := lw_g (lw_at lw_m9 235 rfl) rfl
theorem q2286 : (Jvm.Cond.privateMethod ({ cls := "WideMapModel", name := "sharedBy", desc := "(II)I" } : Jvm.MethodName)) ∈ lw_tbl := lw_at lw_m9 236 rfl
theorem q2287 : (Jvm.Cond.instanceMethod ({ cls := "WideMapModel", name := "sharedBy", desc := "(II)I" } : Jvm.MethodName)) ∈ lw_all := lw_g (lw_at lw_m9 237 rfl) rfl
theorem q2288 : (Jvm.Cond.code ({ cls := "WideMapModel", name := "sharedBy", desc := "(II)I" } : Jvm.MethodName) prog_9_method_101_code (6 : Nat) (Option.some Jvm.ClassFile.FieldType.int)) ∈ lw_all := lw_g (lw_at lw_m9 238 rfl) rfl
theorem q2290 : (Jvm.Cond.instanceMethod ({ cls := "WideMapModel", name := "looked", desc := "(II)I" } : Jvm.MethodName)) ∈ lw_all := lw_g (lw_at lw_m10 0 rfl) rfl
theorem q2291 : (Jvm.Cond.selects "WideMapModel" ({ cls := "WideMapModel", name := "looked", desc := "(II)I" } : Jvm.MethodName) ({ cls := "WideMapModel", name := "looked", desc := "(II)I" } : Jvm.MethodName)) ∈ lw_all := lw_g (lw_at lw_m10 1 rfl) rfl
theorem q2292 : (Jvm.Cond.code ({ cls := "WideMapModel", name := "looked", desc := "(II)I" } : Jvm.MethodName) prog_9_method_103_code (4 : Nat) (Option.some Jvm.ClassFile.FieldType.int)) ∈ lw_all := lw_g (lw_at lw_m10 2 rfl) rfl
theorem q2294 : (Jvm.Cond.instanceMethod ({ cls := "WideMapModel", name := "difference", desc := "(IIII)I" } : Jvm.MethodName)) ∈ lw_all := lw_g (lw_at lw_m10 4 rfl) rfl
theorem q2295 : (Jvm.Cond.selects "WideMapModel" ({ cls := "WideMapModel", name := "difference", desc := "(IIII)I" } : Jvm.MethodName) ({ cls := "WideMapModel", name := "difference", desc := "(IIII)I" } : Jvm.MethodName)) ∈ lw_all := lw_g (lw_at lw_m10 5 rfl) rfl
theorem q2296 : (Jvm.Cond.code ({ cls := "WideMapModel", name := "difference", desc := "(IIII)I" } : Jvm.MethodName) prog_9_method_104_code (7 : Nat) (Option.some Jvm.ClassFile.FieldType.int)) ∈ lw_all := lw_g (lw_at lw_m10 6 rfl) rfl
theorem q2298 : (Jvm.Cond.instanceMethod ({ cls := "WideMapModel", name := "alike", desc := "(III)I" } : Jvm.MethodName)) ∈ lw_all := lw_g (lw_at lw_m10 8 rfl) rfl
theorem q2299 : (Jvm.Cond.selects "WideMapModel" ({ cls := "WideMapModel", name := "alike", desc := "(III)I" } : Jvm.MethodName) ({ cls := "WideMapModel", name := "alike", desc := "(III)I" } : Jvm.MethodName)) ∈ lw_all := lw_g (lw_at lw_m10 9 rfl) rfl
theorem q2300 : (Jvm.Cond.code ({ cls := "WideMapModel", name := "alike", desc := "(III)I" } : Jvm.MethodName) prog_9_method_111_code (4 : Nat) (Option.some Jvm.ClassFile.FieldType.int)) ∈ lw_all := lw_g (lw_at lw_m10 10 rfl) rfl
theorem q2301 : (Jvm.Cond.methodLink "WideMapModel" (453 : Nat) ({ cls := "WideMapModel", name := "holdSame", desc := "(II)Z" } : Jvm.MethodName)) ∈ lw_all := lw_g (lw_at lw_m10 11 rfl) rfl
theorem q2302 : (Jvm.Cond.privateMethod ({ cls := "WideMapModel", name := "holdSame", desc := "(II)Z" } : Jvm.MethodName)) ∈ lw_tbl := lw_at lw_m10 12 rfl
theorem q2303 : (Jvm.Cond.instanceMethod ({ cls := "WideMapModel", name := "holdSame", desc := "(II)Z" } : Jvm.MethodName)) ∈ lw_all := lw_g (lw_at lw_m10 13 rfl) rfl
theorem q2304 : (Jvm.Cond.code ({ cls := "WideMapModel", name := "holdSame", desc := "(II)Z" } : Jvm.MethodName) prog_9_method_110_code (4 : Nat) (Option.some Jvm.ClassFile.FieldType.boolean)) ∈ lw_all := lw_g (lw_at lw_m10 14 rfl) rfl
theorem q2305 : (Jvm.Cond.methodLink "WideMapModel" (450 : Nat) ({ cls := "WideMapModel", name := "areNodesAlike", desc := "(II)Z" } : Jvm.MethodName)) ∈ lw_all := lw_g (lw_at lw_m10 15 rfl) rfl
theorem q2306 : (Jvm.Cond.privateMethod ({ cls := "WideMapModel", name := "areNodesAlike", desc := "(II)Z" } : Jvm.MethodName)) ∈ lw_tbl := lw_at lw_m10 16 rfl
theorem q2307 : (Jvm.Cond.instanceMethod ({ cls := "WideMapModel", name := "areNodesAlike", desc := "(II)Z" } : Jvm.MethodName)) ∈ lw_all := lw_g (lw_at lw_m10 17 rfl) rfl
theorem q2308 : (Jvm.Cond.code ({ cls := "WideMapModel", name := "areNodesAlike", desc := "(II)Z" } : Jvm.MethodName) prog_9_method_109_code (5 : Nat) (Option.some Jvm.ClassFile.FieldType.boolean)) ∈ lw_all := lw_g (lw_at lw_m10 18 rfl) rfl
theorem q2310 : (Jvm.Cond.instanceMethod ({ cls := "WideMapModel", name := "fork", desc := "(II)I" } : Jvm.MethodName)) ∈ lw_all := lw_g (lw_at lw_m10 20 rfl) rfl
theorem q2311 : (Jvm.Cond.selects "WideMapModel" ({ cls := "WideMapModel", name := "fork", desc := "(II)I" } : Jvm.MethodName) ({ cls := "WideMapModel", name := "fork", desc := "(II)I" } : Jvm.MethodName)) ∈ lw_all := lw_g (lw_at lw_m10 21 rfl) rfl
theorem q2312 : (Jvm.Cond.code ({ cls := "WideMapModel", name := "fork", desc := "(II)I" } : Jvm.MethodName) prog_9_method_113_code (5 : Nat) (Option.some Jvm.ClassFile.FieldType.int)) ∈ lw_all := lw_g (lw_at lw_m10 22 rfl) rfl
theorem q2313 : (Jvm.Cond.methodLink "WideMapModel" (456 : Nat) ({ cls := "WideMapModel", name := "laysSources", desc := "(II)V" } : Jvm.MethodName)) ∈ lw_all := lw_g (lw_at lw_m10 23 rfl) rfl
theorem q2314 : (Jvm.Cond.privateMethod ({ cls := "WideMapModel", name := "laysSources", desc := "(II)V" } : Jvm.MethodName)) ∈ lw_tbl := lw_at lw_m10 24 rfl
theorem q2315 : (Jvm.Cond.instanceMethod ({ cls := "WideMapModel", name := "laysSources", desc := "(II)V" } : Jvm.MethodName)) ∈ lw_all := lw_g (lw_at lw_m10 25 rfl) rfl
theorem q2316 : (Jvm.Cond.code ({ cls := "WideMapModel", name := "laysSources", desc := "(II)V" } : Jvm.MethodName) prog_9_method_112_code (4 : Nat) (Option.none : Option Jvm.ClassFile.FieldType)) ∈ lw_all := lw_g (lw_at lw_m10 26 rfl) rfl
theorem q2318 : (Jvm.Cond.instanceMethod ({ cls := "WideMapModel", name := "comesFrom", desc := "(II)I" } : Jvm.MethodName)) ∈ lw_all := lw_g (lw_at lw_m10 28 rfl) rfl
theorem q2319 : (Jvm.Cond.selects "WideMapModel" ({ cls := "WideMapModel", name := "comesFrom", desc := "(II)I" } : Jvm.MethodName) ({ cls := "WideMapModel", name := "comesFrom", desc := "(II)I" } : Jvm.MethodName)) ∈ lw_all := lw_g (lw_at lw_m10 29 rfl) rfl
theorem q2320 : (Jvm.Cond.code ({ cls := "WideMapModel", name := "comesFrom", desc := "(II)I" } : Jvm.MethodName) prog_9_method_114_code (4 : Nat) (Option.some Jvm.ClassFile.FieldType.int)) ∈ lw_all := lw_g (lw_at lw_m10 30 rfl) rfl
theorem q2322 : (Jvm.Cond.instanceMethod ({ cls := "WideMapModel", name := "show", desc := "(I)I" } : Jvm.MethodName)) ∈ lw_all := lw_g (lw_at lw_m10 32 rfl) rfl
theorem q2323 : (Jvm.Cond.selects "WideMapModel" ({ cls := "WideMapModel", name := "show", desc := "(I)I" } : Jvm.MethodName) ({ cls := "WideMapModel", name := "show", desc := "(I)I" } : Jvm.MethodName)) ∈ lw_all := lw_g (lw_at lw_m10 33 rfl) rfl
theorem q2324 : (Jvm.Cond.code ({ cls := "WideMapModel", name := "show", desc := "(I)I" } : Jvm.MethodName) prog_9_method_115_code (3 : Nat) (Option.some Jvm.ClassFile.FieldType.int)) ∈ lw_all := lw_g (lw_at lw_m10 34 rfl) rfl
theorem q2325 : (Jvm.Cond.methodLink "WideMapModel" (459 : Nat) ({ cls := "WideMapModel", name := "laysShown", desc := "(I)V" } : Jvm.MethodName)) ∈ lw_all := lw_g (lw_at lw_m10 35 rfl) rfl
theorem q2326 : (Jvm.Cond.privateMethod ({ cls := "WideMapModel", name := "laysShown", desc := "(I)V" } : Jvm.MethodName)) ∈ lw_tbl := lw_at lw_m10 36 rfl
theorem q2327 : (Jvm.Cond.instanceMethod ({ cls := "WideMapModel", name := "laysShown", desc := "(I)V" } : Jvm.MethodName)) ∈ lw_all := lw_g (lw_at lw_m10 37 rfl) rfl
theorem q2328 : (Jvm.Cond.code ({ cls := "WideMapModel", name := "laysShown", desc := "(I)V" } : Jvm.MethodName) prog_9_method_108_code (2 : Nat) (Option.none : Option Jvm.ClassFile.FieldType)) ∈ lw_all := lw_g (lw_at lw_m10 38 rfl) rfl
theorem q2329 : (Jvm.Cond.methodLink "WideMapModel" (444 : Nat) ({ cls := "WideMapModel", name := "writesNode", desc := "(I)V" } : Jvm.MethodName)) ∈ lw_all := lw_g (lw_at lw_m10 39 rfl) rfl
theorem q2330 : (Jvm.Cond.privateMethod ({ cls := "WideMapModel", name := "writesNode", desc := "(I)V" } : Jvm.MethodName)) ∈ lw_tbl := lw_at lw_m10 40 rfl
theorem q2331 : (Jvm.Cond.instanceMethod ({ cls := "WideMapModel", name := "writesNode", desc := "(I)V" } : Jvm.MethodName)) ∈ lw_all := lw_g (lw_at lw_m10 41 rfl) rfl
theorem q2332 : (Jvm.Cond.code ({ cls := "WideMapModel", name := "writesNode", desc := "(I)V" } : Jvm.MethodName) prog_9_method_107_code (3 : Nat) (Option.none : Option Jvm.ClassFile.FieldType)) ∈ lw_all := lw_g (lw_at lw_m10 42 rfl) rfl
theorem q2333 : (Jvm.Cond.methodLink "WideMapModel" (438 : Nat) ({ cls := "WideMapModel", name := "writes", desc := "(I)V" } : Jvm.MethodName)) ∈ lw_all := lw_g (lw_at lw_m10 43 rfl) rfl
theorem q2334 : (Jvm.Cond.privateMethod ({ cls := "WideMapModel", name := "writes", desc := "(I)V" } : Jvm.MethodName)) ∈ lw_tbl := lw_at lw_m10 44 rfl
theorem q2335 : (Jvm.Cond.instanceMethod ({ cls := "WideMapModel", name := "writes", desc := "(I)V" } : Jvm.MethodName)) ∈ lw_all := lw_g (lw_at lw_m10 45 rfl) rfl
theorem q2336 : (Jvm.Cond.code ({ cls := "WideMapModel", name := "writes", desc := "(I)V" } : Jvm.MethodName) prog_9_method_105_code (2 : Nat) (Option.none : Option Jvm.ClassFile.FieldType)) ∈ lw_all := lw_g (lw_at lw_m10 46 rfl) rfl
theorem q2337 : (Jvm.Cond.methodLink "WideMapModel" (447 : Nat) ({ cls := "WideMapModel", name := "writesNumber", desc := "(I)V" } : Jvm.MethodName)) ∈ lw_all := lw_g (lw_at lw_m10 47 rfl) rfl
theorem q2338 : (Jvm.Cond.privateMethod ({ cls := "WideMapModel", name := "writesNumber", desc := "(I)V" } : Jvm.MethodName)) ∈ lw_tbl := lw_at lw_m10 48 rfl
theorem q2339 : (Jvm.Cond.instanceMethod ({ cls := "WideMapModel", name := "writesNumber", desc := "(I)V" } : Jvm.MethodName)) ∈ lw_all := lw_g (lw_at lw_m10 49 rfl) rfl
theorem q2340 : (Jvm.Cond.code ({ cls := "WideMapModel", name := "writesNumber", desc := "(I)V" } : Jvm.MethodName) prog_9_method_106_code (3 : Nat) (Option.none : Option Jvm.ClassFile.FieldType)) ∈ lw_all := lw_g (lw_at lw_m10 50 rfl) rfl
theorem q2341 : (Jvm.Cond.methodLink "WideMapModel" (441 : Nat) ({ cls := "java/lang/Math", name := "abs", desc := "(I)I" } : Jvm.MethodName)) ∈ lw_all := lw_g (lw_at lw_m10 51 rfl) rfl
theorem q2345 : (Jvm.Cond.instanceMethod ({ cls := "WideMapModel", name := "shown", desc := "(I)I" } : Jvm.MethodName)) ∈ lw_all := lw_g (lw_at lw_m10 55 rfl) rfl
theorem q2346 : (Jvm.Cond.selects "WideMapModel" ({ cls := "WideMapModel", name := "shown", desc := "(I)I" } : Jvm.MethodName) ({ cls := "WideMapModel", name := "shown", desc := "(I)I" } : Jvm.MethodName)) ∈ lw_all := lw_g (lw_at lw_m10 56 rfl) rfl
theorem q2347 : (Jvm.Cond.code ({ cls := "WideMapModel", name := "shown", desc := "(I)I" } : Jvm.MethodName) prog_9_method_116_code (2 : Nat) (Option.some Jvm.ClassFile.FieldType.int)) ∈ lw_all := lw_g (lw_at lw_m10 57 rfl) rfl
theorem q2349 : (Jvm.Cond.instanceMethod ({ cls := "WideMapModel", name := "digest", desc := "(I)I" } : Jvm.MethodName)) ∈ lw_all := lw_g (lw_at lw_m10 59 rfl) rfl
theorem q2350 : (Jvm.Cond.selects "WideMapModel" ({ cls := "WideMapModel", name := "digest", desc := "(I)I" } : Jvm.MethodName) ({ cls := "WideMapModel", name := "digest", desc := "(I)I" } : Jvm.MethodName)) ∈ lw_all := lw_g (lw_at lw_m10 60 rfl) rfl
theorem q2351 : (Jvm.Cond.code ({ cls := "WideMapModel", name := "digest", desc := "(I)I" } : Jvm.MethodName) prog_9_method_117_code (4 : Nat) (Option.some Jvm.ClassFile.FieldType.int)) ∈ lw_all := lw_g (lw_at lw_m10 61 rfl) rfl
theorem q2352 : (Jvm.Cond.constant "WideMapModel" (465 : Nat) (1000003 : Int32)) ∈ lw_all := lw_g (lw_at lw_m10 62 rfl) rfl
theorem q2354 : (Jvm.Cond.instanceMethod ({ cls := "WideMapModel", name := "status", desc := "(I)I" } : Jvm.MethodName)) ∈ lw_all := lw_g (lw_at lw_m10 64 rfl) rfl
theorem q2355 : (Jvm.Cond.selects "WideMapModel" ({ cls := "WideMapModel", name := "status", desc := "(I)I" } : Jvm.MethodName) ({ cls := "WideMapModel", name := "status", desc := "(I)I" } : Jvm.MethodName)) ∈ lw_all := lw_g (lw_at lw_m10 65 rfl) rfl
theorem q2356 : (Jvm.Cond.code ({ cls := "WideMapModel", name := "status", desc := "(I)I" } : Jvm.MethodName) prog_9_method_118_code (2 : Nat) (Option.some Jvm.ClassFile.FieldType.int)) ∈ lw_all := lw_g (lw_at lw_m10 66 rfl) rfl
theorem q2357 : (Jvm.Cond.constantLong "WideMapModel" (466 : Nat) (4 : Int64)) ∈ lw_all := lw_g (lw_at lw_m10 67 rfl) rfl
theorem q2359 : (Jvm.Cond.instanceMethod ({ cls := "WideMapModel", name := "image", desc := "()I" } : Jvm.MethodName)) ∈ lw_all := lw_g (lw_at lw_m10 69 rfl) rfl
theorem q2360 : (Jvm.Cond.selects "WideMapModel" ({ cls := "WideMapModel", name := "image", desc := "()I" } : Jvm.MethodName) ({ cls := "WideMapModel", name := "image", desc := "()I" } : Jvm.MethodName)) ∈ lw_all := lw_g (lw_at lw_m10 70 rfl) rfl
theorem q2361 : (Jvm.Cond.code ({ cls := "WideMapModel", name := "image", desc := "()I" } : Jvm.MethodName) prog_9_method_119_code (2 : Nat) (Option.some Jvm.ClassFile.FieldType.int)) ∈ lw_all := lw_g (lw_at lw_m10 71 rfl) rfl
theorem q2363 : (Jvm.Cond.instanceMethod ({ cls := "WideMapModel", name := "back", desc := "()I" } : Jvm.MethodName)) ∈ lw_all := lw_g (lw_at lw_m10 73 rfl) rfl
theorem q2364 : (Jvm.Cond.selects "WideMapModel" ({ cls := "WideMapModel", name := "back", desc := "()I" } : Jvm.MethodName) ({ cls := "WideMapModel", name := "back", desc := "()I" } : Jvm.MethodName)) ∈ lw_all := lw_g (lw_at lw_m10 74 rfl) rfl
theorem q2365 : (Jvm.Cond.code ({ cls := "WideMapModel", name := "back", desc := "()I" } : Jvm.MethodName) prog_9_method_120_code (2 : Nat) (Option.some Jvm.ClassFile.FieldType.int)) ∈ lw_all := lw_g (lw_at lw_m10 75 rfl) rfl
theorem q2367 : (Jvm.Cond.instanceMethod ({ cls := "WideMapModel", name := "count", desc := "(I)I" } : Jvm.MethodName)) ∈ lw_all := lw_g (lw_at lw_m10 77 rfl) rfl
theorem q2368 : (Jvm.Cond.selects "WideMapModel" ({ cls := "WideMapModel", name := "count", desc := "(I)I" } : Jvm.MethodName) ({ cls := "WideMapModel", name := "count", desc := "(I)I" } : Jvm.MethodName)) ∈ lw_all := lw_g (lw_at lw_m10 78 rfl) rfl
theorem q2369 : (Jvm.Cond.code ({ cls := "WideMapModel", name := "count", desc := "(I)I" } : Jvm.MethodName) prog_9_method_122_code (2 : Nat) (Option.some Jvm.ClassFile.FieldType.int)) ∈ lw_all := lw_g (lw_at lw_m10 79 rfl) rfl
theorem q2370 : (Jvm.Cond.methodLink "WideMapModel" (468 : Nat) ({ cls := "WideMapModel", name := "live", desc := "()I" } : Jvm.MethodName)) ∈ lw_all := lw_g (lw_at lw_m10 80 rfl) rfl
theorem q2371 : (Jvm.Cond.privateMethod ({ cls := "WideMapModel", name := "live", desc := "()I" } : Jvm.MethodName)) ∈ lw_tbl := lw_at lw_m10 81 rfl
theorem q2372 : (Jvm.Cond.instanceMethod ({ cls := "WideMapModel", name := "live", desc := "()I" } : Jvm.MethodName)) ∈ lw_all := lw_g (lw_at lw_m10 82 rfl) rfl
theorem q2373 : (Jvm.Cond.code ({ cls := "WideMapModel", name := "live", desc := "()I" } : Jvm.MethodName) prog_9_method_121_code (3 : Nat) (Option.some Jvm.ClassFile.FieldType.int)) ∈ lw_all := lw_g (lw_at lw_m10 83 rfl) rfl
theorem q2391 : (Jvm.Cond.castable "WideMapModel" "java/lang/Object") ∈ lw_tbl := lw_at lw_m10 101 rfl
theorem in_X3 : ∀ w ∈ wsX30, w ∈ lw_all := lw_in wsX30 [1761, 1763, 1765, 1767, 1769, 1771, 1773, 1775, 1777, 1779, 1781, 1783, 1785, 1787, 1789, 1791, 1793, 1795, 1797, 1799, 1801, 1803, 1805, 1807, 1809, 1811, 1813, 1815, 1817, 1819, 1821, 1823, 1825, 1827, 1829, 1831, 1833, 1835, 1837, 1839, 1841, 1843, 1845, 1847, 1849, 1851, 1853, 1855, 1857, 1859, 1861, 1863, 1865, 1867, 1869, 1871] (by decide +kernel) (by decide +kernel)
