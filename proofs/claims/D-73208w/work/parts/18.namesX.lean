/-! WideMap$Fault -/
set_option maxRecDepth 100000
def RX2 : String := "WideMap$Fault"
def TX2 : u_T := fun k => match k with
  | 0 => ("java/lang/Throwable", "cause", "Ljava/lang/Throwable;", false)
  | 1 => ("java/lang/Throwable", "stackTrace", "[Ljava/lang/StackTraceElement;", false)
  | 2 => ("java/lang/Throwable", "suppressedExceptions", "Ljava/util/List;", false)
  | 3 => ("java/lang/Throwable", "detailMessage", "Ljava/lang/String;", false)
  | 4 => ("java/lang/Throwable", "backtrace", "Ljava/lang/Object;", false)
  | _ => ("java/lang/Throwable", "depth", "I", false)
def tyX2 : Nat → FieldType := fun k => match k with
  | 0 => .object "java/lang/Throwable"
  | 1 => .array (.object "java/lang/StackTraceElement")
  | 2 => .object "java/util/List"
  | 3 => .object "java/lang/String"
  | 4 => .object "java/lang/Object"
  | _ => .int
abbrev wsX20 : List Cond := u_ws RX2 TX2 6
theorem nmX2 : ∀ a, a < 6 → ∀ b, b < 6 → a ≠ b → (TX2 a).2.1 ≠ (TX2 b).2.1 := by decide +kernel
theorem tyX2_ok : ∀ k, k < 6 → parseFieldDescriptor (TX2 k).2.2.1 = some (tyX2 k) := by decide +kernel
abbrev cX2_init : ByteArray := prog_2_method_1_code
def yX2_init : MethodName := ⟨RX2, "<init>", "()V"⟩
theorem dX2_init_0 : decode cX2_init 0 = .ok (.aload_n 0, 1) := by decide +kernel
theorem dX2_init_1 : decode cX2_init 1 = .ok (.invokespecial 1, 3) := by decide +kernel
theorem dX2_init_4 : decode cX2_init 4 = .ok (.return_, 1) := by decide +kernel
theorem q134 : (Jvm.Cond.initialized "WideMap$Fault") ∈ lw_all := lw_g (lw_at lw_m1 4 rfl) rfl
theorem q175 : (Jvm.Cond.instantiable "WideMap$Fault" (6 : Nat)) ∈ lw_all := lw_g (lw_at lw_m1 45 rfl) rfl
theorem q176 : (Jvm.Cond.castable "WideMap$Fault" "WideMap$Fault") ∈ lw_tbl := lw_at lw_m1 46 rfl
theorem q181 : (Jvm.Cond.selects "WideMap$Fault" ({ cls := "java/lang/Throwable", name := "fillInStackTrace", desc := "(I)Ljava/lang/Throwable;" } : Jvm.MethodName) ({ cls := "java/lang/Throwable", name := "fillInStackTrace", desc := "(I)Ljava/lang/Throwable;" } : Jvm.MethodName)) ∈ lw_all := lw_g (lw_at lw_m1 51 rfl) rfl
theorem q182 : (Jvm.Cond.selects "WideMap$Fault" ({ cls := "java/lang/Throwable", name := "fillInStackTrace", desc := "()Ljava/lang/Throwable;" } : Jvm.MethodName) ({ cls := "java/lang/Throwable", name := "fillInStackTrace", desc := "()Ljava/lang/Throwable;" } : Jvm.MethodName)) ∈ lw_all := lw_g (lw_at lw_m1 52 rfl) rfl
theorem q183 : (Jvm.Cond.lays "WideMap$Fault" "java/lang/Throwable" "cause" "Ljava/lang/Throwable;") ∈ lw_all := lw_g (lw_at lw_m1 53 rfl) rfl
theorem q185 : (Jvm.Cond.lays "WideMap$Fault" "java/lang/Throwable" "stackTrace" "[Ljava/lang/StackTraceElement;") ∈ lw_all := lw_g (lw_at lw_m1 55 rfl) rfl
theorem q187 : (Jvm.Cond.lays "WideMap$Fault" "java/lang/Throwable" "suppressedExceptions" "Ljava/util/List;") ∈ lw_all := lw_g (lw_at lw_m1 57 rfl) rfl
theorem q189 : (Jvm.Cond.lays "WideMap$Fault" "java/lang/Throwable" "detailMessage" "Ljava/lang/String;") ∈ lw_all := lw_g (lw_at lw_m1 59 rfl) rfl
theorem q191 : (Jvm.Cond.lays "WideMap$Fault" "java/lang/Throwable" "backtrace" "Ljava/lang/Object;") ∈ lw_all := lw_g (lw_at lw_m1 61 rfl) rfl
theorem q213 : (Jvm.Cond.instanceMethod ({ cls := "WideMap$Fault", name := "<init>", desc := "()V" } : Jvm.MethodName)) ∈ lw_all := lw_g (lw_at lw_m1 83 rfl) rfl
theorem q214 : (Jvm.Cond.code ({ cls := "WideMap$Fault", name := "<init>", desc := "()V" } : Jvm.MethodName) prog_2_method_1_code (1 : Nat) (Option.none : Option Jvm.ClassFile.FieldType)) ∈ lw_all := lw_g (lw_at lw_m1 84 rfl) rfl
theorem q215 : (Jvm.Cond.methodLink "WideMap$Fault" (1 : Nat) ({ cls := "java/lang/Exception", name := "<init>", desc := "()V" } : Jvm.MethodName)) ∈ lw_all := lw_g (lw_at lw_m1 85 rfl) rfl
theorem q227 : (Jvm.Cond.lays "WideMap$Fault" "java/lang/Throwable" "depth" "I") ∈ lw_all := lw_g (lw_at lw_m1 97 rfl) rfl
theorem q230 : (Jvm.Cond.superclass "WideMap$Fault" "java/lang/Exception") ∈ lw_all := lw_g (lw_at lw_m1 100 rfl) rfl
theorem q2390 : (Jvm.Cond.castable "WideMap$Fault" "java/lang/Object") ∈ lw_tbl := lw_at lw_m10 100 rfl
theorem in_X2 : ∀ w ∈ wsX20, w ∈ lw_all := lw_in wsX20 [183, 185, 187, 189, 191, 227] (by decide +kernel) (by decide +kernel)
/-! WideMap$Token -/
set_option maxRecDepth 100000
def RX4 : String := "WideMap$Token"
def TX4 : u_T := fun k => match k with
  | _ => ("WideMap$Token", "this$0", "LWideMap;", true)
def tyX4 : Nat → FieldType := fun k => match k with
  | _ => .object "WideMap"
abbrev wsX40 : List Cond := u_ws RX4 TX4 1
theorem nmX4 : ∀ a, a < 1 → ∀ b, b < 1 → a ≠ b → (TX4 a).2.1 ≠ (TX4 b).2.1 := by decide +kernel
theorem tyX4_ok : ∀ k, k < 1 → parseFieldDescriptor (TX4 k).2.2.1 = some (tyX4 k) := by decide +kernel
abbrev cX4_init : ByteArray := prog_7_method_1_code
def yX4_init : MethodName := ⟨RX4, "<init>", "(LWideMap;)V"⟩
def dkwX4_init_0 : List UInt8 := [42, 43, 181, 0, 1, 42, 183, 0, 7, 177]
abbrev dktX4_init_0 : List UInt8 := dkwX4_init_0 ++ []
theorem dksX4_init_0 : cX4_init.data.toList.drop 0 = dktX4_init_0 := by decide +kernel
theorem dX4_init_0 : decode cX4_init 0 = .ok (.aload_n 0, 1) := dk_42 (dk_at dksX4_init_0 0 rfl rfl)
theorem dX4_init_1 : decode cX4_init 1 = .ok (.aload_n 1, 1) := dk_43 (dk_at dksX4_init_0 1 rfl rfl)
theorem dX4_init_2 : decode cX4_init 2 = .ok (.putfield 1, 3) := dk_181 0 1 (dk_at dksX4_init_0 2 rfl rfl)
theorem dX4_init_5 : decode cX4_init 5 = .ok (.aload_n 0, 1) := dk_42 (dk_at dksX4_init_0 5 rfl rfl)
theorem dX4_init_6 : decode cX4_init 6 = .ok (.invokespecial 7, 3) := dk_183 0 7 (dk_at dksX4_init_0 6 rfl rfl)
theorem dX4_init_9 : decode cX4_init 9 = .ok (.return_, 1) := dk_177 (dk_at dksX4_init_0 9 rfl rfl)
abbrev cX4_makes : ByteArray := prog_7_method_2_code
def yX4_makes : MethodName := ⟨RX4, "makes", "()V"⟩
def dkwX4_makes_0 : List UInt8 := [42, 180, 0, 1, 89, 180, 0, 13, 4, 96, 181, 0, 13, 177]
abbrev dktX4_makes_0 : List UInt8 := dkwX4_makes_0 ++ []
theorem dksX4_makes_0 : cX4_makes.data.toList.drop 0 = dktX4_makes_0 := by decide +kernel
theorem dX4_makes_0 : decode cX4_makes 0 = .ok (.aload_n 0, 1) := dk_42 (dk_at dksX4_makes_0 0 rfl rfl)
theorem dX4_makes_1 : decode cX4_makes 1 = .ok (.getfield 1, 3) := dk_180 0 1 (dk_at dksX4_makes_0 1 rfl rfl)
theorem dX4_makes_4 : decode cX4_makes 4 = .ok (.dup, 1) := dk_89 (dk_at dksX4_makes_0 4 rfl rfl)
theorem dX4_makes_5 : decode cX4_makes 5 = .ok (.getfield 13, 3) := dk_180 0 13 (dk_at dksX4_makes_0 5 rfl rfl)
theorem dX4_makes_8 : decode cX4_makes 8 = .ok (.iconst 1, 1) := dk_4 (dk_at dksX4_makes_0 8 rfl rfl)
theorem dX4_makes_9 : decode cX4_makes 9 = .ok (.iadd, 1) := dk_96 (dk_at dksX4_makes_0 9 rfl rfl)
theorem dX4_makes_10 : decode cX4_makes 10 = .ok (.putfield 13, 3) := dk_181 0 13 (dk_at dksX4_makes_0 10 rfl rfl)
theorem dX4_makes_13 : decode cX4_makes 13 = .ok (.return_, 1) := dk_177 (dk_at dksX4_makes_0 13 rfl rfl)
theorem q151 : (Jvm.Cond.initialized "WideMap$Token") ∈ lw_all := lw_g (lw_at lw_m1 21 rfl) rfl
theorem q261 : (Jvm.Cond.fieldLinkNest "WideMap$Token" (13 : Nat) "WideMap" "made" "I" "WideMap") ∈ lw_tbl := lw_at lw_m1 131 rfl
theorem q817 : (Jvm.Cond.instantiable "WideMap$Token" (1 : Nat)) ∈ lw_all := lw_g (lw_at lw_m3 207 rfl) rfl
theorem q819 : (Jvm.Cond.instanceMethod ({ cls := "WideMap$Token", name := "<init>", desc := "(LWideMap;)V" } : Jvm.MethodName)) ∈ lw_all := lw_g (lw_at lw_m3 209 rfl) rfl
theorem q820 : (Jvm.Cond.code ({ cls := "WideMap$Token", name := "<init>", desc := "(LWideMap;)V" } : Jvm.MethodName) prog_7_method_1_code (2 : Nat) (Option.none : Option Jvm.ClassFile.FieldType)) ∈ lw_all := lw_g (lw_at lw_m3 210 rfl) rfl
theorem q821 : (Jvm.Cond.methodLink "WideMap$Token" (7 : Nat) ({ cls := "java/lang/Object", name := "<init>", desc := "()V" } : Jvm.MethodName)) ∈ lw_all := lw_g (lw_at lw_m3 211 rfl) rfl
theorem q822 : (Jvm.Cond.fieldLink "WideMap$Token" (1 : Nat) "WideMap$Token" "this$0" "LWideMap;") ∈ lw_all := lw_g (lw_at lw_m3 212 rfl) rfl
theorem q823 : (Jvm.Cond.laysFinal "WideMap$Token" "WideMap$Token" "this$0" "LWideMap;") ∈ lw_all := lw_g (lw_at lw_m3 213 rfl) rfl
theorem q824 : (Jvm.Cond.soleField "WideMap$Token" "this$0") ∈ lw_all := lw_g (lw_at lw_m3 214 rfl) rfl
theorem q825 : (Jvm.Cond.superclass "WideMap$Token" "java/lang/Object") ∈ lw_all := lw_g (lw_at lw_m3 215 rfl) rfl
theorem q834 : (Jvm.Cond.instanceMethod ({ cls := "WideMap$Token", name := "makes", desc := "()V" } : Jvm.MethodName)) ∈ lw_all := lw_g (lw_at lw_m3 224 rfl) rfl
theorem q835 : (Jvm.Cond.selects "WideMap$Token" ({ cls := "WideMap$Token", name := "makes", desc := "()V" } : Jvm.MethodName) ({ cls := "WideMap$Token", name := "makes", desc := "()V" } : Jvm.MethodName)) ∈ lw_all := lw_g (lw_at lw_m3 225 rfl) rfl
theorem q836 : (Jvm.Cond.code ({ cls := "WideMap$Token", name := "makes", desc := "()V" } : Jvm.MethodName) prog_7_method_2_code (1 : Nat) (Option.none : Option Jvm.ClassFile.FieldType)) ∈ lw_all := lw_g (lw_at lw_m3 226 rfl) rfl
theorem q2396 : (Jvm.Cond.castable "WideMap$Token" "java/lang/Object") ∈ lw_tbl := lw_at lw_m10 106 rfl
theorem in_X4 : ∀ w ∈ wsX40, w ∈ lw_all := lw_in wsX40 [823] (by decide +kernel) (by decide +kernel)
/-! WideMap$Node -/
set_option maxRecDepth 100000
def RX5 : String := "WideMap$Node"
abbrev cX5_bare : ByteArray := prog_6_method_17_code
def yX5_bare : MethodName := ⟨RX5, "bare", "(LWideMap$Token;I)LWideMap$Node;"⟩
def dkwX5_bare_0 : List UInt8 := [42, 182, 0, 1, 187, 0, 7, 89, 42, 27, 183, 0, 9, 176]
abbrev dktX5_bare_0 : List UInt8 := dkwX5_bare_0 ++ []
theorem dksX5_bare_0 : cX5_bare.data.toList.drop 0 = dktX5_bare_0 := by decide +kernel
theorem dX5_bare_0 : decode cX5_bare 0 = .ok (.aload_n 0, 1) := dk_42 (dk_at dksX5_bare_0 0 rfl rfl)
theorem dX5_bare_1 : decode cX5_bare 1 = .ok (.invokevirtual 1, 3) := dk_182 0 1 (dk_at dksX5_bare_0 1 rfl rfl)
theorem dX5_bare_4 : decode cX5_bare 4 = .ok (.new 7, 3) := dk_187 0 7 (dk_at dksX5_bare_0 4 rfl rfl)
theorem dX5_bare_7 : decode cX5_bare 7 = .ok (.dup, 1) := dk_89 (dk_at dksX5_bare_0 7 rfl rfl)
theorem dX5_bare_8 : decode cX5_bare 8 = .ok (.aload_n 0, 1) := dk_42 (dk_at dksX5_bare_0 8 rfl rfl)
theorem dX5_bare_9 : decode cX5_bare 9 = .ok (.iload_n 1, 1) := dk_27 (dk_at dksX5_bare_0 9 rfl rfl)
theorem dX5_bare_10 : decode cX5_bare 10 = .ok (.invokespecial 9, 3) := dk_183 0 9 (dk_at dksX5_bare_0 10 rfl rfl)
theorem dX5_bare_13 : decode cX5_bare 13 = .ok (.areturn, 1) := dk_176 (dk_at dksX5_bare_0 13 rfl rfl)
abbrev cX5_kidFor : ByteArray := prog_6_method_21_code
def yX5_kidFor : MethodName := ⟨RX5, "kidFor", "(I)I"⟩
def dkwX5_kidFor_1 : List UInt8 := [185, 0, 46, 1, 0, 27, 164, 0, 9, 132, 2, 255, 167, 255, 233, 28, 172]
abbrev dktX5_kidFor_1 : List UInt8 := dkwX5_kidFor_1 ++ []
def dkwX5_kidFor_0 : List UInt8 := [42, 185, 0, 38, 1, 0, 4, 100, 61, 28, 158, 0, 25, 42, 28, 185, 0, 42, 2, 0]
abbrev dktX5_kidFor_0 : List UInt8 := dkwX5_kidFor_0 ++ dktX5_kidFor_1
theorem dksX5_kidFor_0 : cX5_kidFor.data.toList.drop 0 = dktX5_kidFor_0 := by decide +kernel
theorem dksX5_kidFor_1 : cX5_kidFor.data.toList.drop 20 = dktX5_kidFor_1 := dk_seg dksX5_kidFor_0 20 rfl rfl
theorem dX5_kidFor_0 : decode cX5_kidFor 0 = .ok (.aload_n 0, 1) := dk_42 (dk_at dksX5_kidFor_0 0 rfl rfl)
theorem dX5_kidFor_1 : decode cX5_kidFor 1 = .ok (.invokeinterface 38 1, 5) := by decide +kernel
theorem dX5_kidFor_6 : decode cX5_kidFor 6 = .ok (.iconst 1, 1) := dk_4 (dk_at dksX5_kidFor_0 6 rfl rfl)
theorem dX5_kidFor_7 : decode cX5_kidFor 7 = .ok (.isub, 1) := dk_100 (dk_at dksX5_kidFor_0 7 rfl rfl)
theorem dX5_kidFor_8 : decode cX5_kidFor 8 = .ok (.istore_n 2, 1) := dk_61 (dk_at dksX5_kidFor_0 8 rfl rfl)
theorem dX5_kidFor_9 : decode cX5_kidFor 9 = .ok (.iload_n 2, 1) := dk_28 (dk_at dksX5_kidFor_0 9 rfl rfl)
theorem dX5_kidFor_10 : decode cX5_kidFor 10 = .ok (.ifCond .le 25, 3) := dk_158 0 25 (dk_at dksX5_kidFor_0 10 rfl rfl)
theorem dX5_kidFor_13 : decode cX5_kidFor 13 = .ok (.aload_n 0, 1) := dk_42 (dk_at dksX5_kidFor_0 13 rfl rfl)
theorem dX5_kidFor_14 : decode cX5_kidFor 14 = .ok (.iload_n 2, 1) := dk_28 (dk_at dksX5_kidFor_0 14 rfl rfl)
theorem dX5_kidFor_15 : decode cX5_kidFor 15 = .ok (.invokeinterface 42 2, 5) := by decide +kernel
theorem dX5_kidFor_20 : decode cX5_kidFor 20 = .ok (.invokeinterface 46 1, 5) := by decide +kernel
theorem dX5_kidFor_25 : decode cX5_kidFor 25 = .ok (.iload_n 1, 1) := dk_27 (dk_at dksX5_kidFor_1 5 rfl rfl)
theorem dX5_kidFor_26 : decode cX5_kidFor 26 = .ok (.if_icmp .le 9, 3) := dk_164 0 9 (dk_at dksX5_kidFor_1 6 rfl rfl)
theorem dX5_kidFor_29 : decode cX5_kidFor 29 = .ok (.iinc 2 (-1), 3) := dk_132 2 255 (dk_at dksX5_kidFor_1 9 rfl rfl)
theorem dX5_kidFor_32 : decode cX5_kidFor 32 = .ok (.goto (-23), 3) := dk_167 255 233 (dk_at dksX5_kidFor_1 12 rfl rfl)
theorem dX5_kidFor_35 : decode cX5_kidFor 35 = .ok (.iload_n 2, 1) := dk_28 (dk_at dksX5_kidFor_1 15 rfl rfl)
theorem dX5_kidFor_36 : decode cX5_kidFor 36 = .ok (.ireturn, 1) := dk_172 (dk_at dksX5_kidFor_1 16 rfl rfl)
abbrev cX5_edited : ByteArray := prog_6_method_20_code
def yX5_edited : MethodName := ⟨RX5, "edited", "(LWideMap$Token;)LWideMap$Node;"⟩
def dkwX5_edited_0 : List UInt8 := [42, 43, 185, 0, 30, 2, 0, 153, 0, 5, 42, 176, 43, 182, 0, 1, 42, 43, 185, 0, 34, 2, 0, 176]
abbrev dktX5_edited_0 : List UInt8 := dkwX5_edited_0 ++ []
theorem dksX5_edited_0 : cX5_edited.data.toList.drop 0 = dktX5_edited_0 := by decide +kernel
theorem dX5_edited_0 : decode cX5_edited 0 = .ok (.aload_n 0, 1) := dk_42 (dk_at dksX5_edited_0 0 rfl rfl)
theorem dX5_edited_1 : decode cX5_edited 1 = .ok (.aload_n 1, 1) := dk_43 (dk_at dksX5_edited_0 1 rfl rfl)
theorem dX5_edited_2 : decode cX5_edited 2 = .ok (.invokeinterface 30 2, 5) := by decide +kernel
theorem dX5_edited_7 : decode cX5_edited 7 = .ok (.ifCond .eq 5, 3) := dk_153 0 5 (dk_at dksX5_edited_0 7 rfl rfl)
theorem dX5_edited_10 : decode cX5_edited 10 = .ok (.aload_n 0, 1) := dk_42 (dk_at dksX5_edited_0 10 rfl rfl)
theorem dX5_edited_11 : decode cX5_edited 11 = .ok (.areturn, 1) := dk_176 (dk_at dksX5_edited_0 11 rfl rfl)
theorem dX5_edited_12 : decode cX5_edited 12 = .ok (.aload_n 1, 1) := dk_43 (dk_at dksX5_edited_0 12 rfl rfl)
theorem dX5_edited_13 : decode cX5_edited 13 = .ok (.invokevirtual 1, 3) := dk_182 0 1 (dk_at dksX5_edited_0 13 rfl rfl)
theorem dX5_edited_16 : decode cX5_edited 16 = .ok (.aload_n 0, 1) := dk_42 (dk_at dksX5_edited_0 16 rfl rfl)
theorem dX5_edited_17 : decode cX5_edited 17 = .ok (.aload_n 1, 1) := dk_43 (dk_at dksX5_edited_0 17 rfl rfl)
theorem dX5_edited_18 : decode cX5_edited 18 = .ok (.invokeinterface 34 2, 5) := by decide +kernel
theorem dX5_edited_23 : decode cX5_edited 23 = .ok (.areturn, 1) := dk_176 (dk_at dksX5_edited_0 23 rfl rfl)
abbrev cX5_isOf : ByteArray := prog_6_method_19_code
def yX5_isOf : MethodName := ⟨RX5, "isOf", "(LWideMap$Token;)Z"⟩
def dkwX5_isOf_0 : List UInt8 := [42, 185, 0, 24, 1, 0, 43, 166, 0, 7, 4, 167, 0, 4, 3, 172]
abbrev dktX5_isOf_0 : List UInt8 := dkwX5_isOf_0 ++ []
theorem dksX5_isOf_0 : cX5_isOf.data.toList.drop 0 = dktX5_isOf_0 := by decide +kernel
theorem dX5_isOf_0 : decode cX5_isOf 0 = .ok (.aload_n 0, 1) := dk_42 (dk_at dksX5_isOf_0 0 rfl rfl)
theorem dX5_isOf_1 : decode cX5_isOf 1 = .ok (.invokeinterface 24 1, 5) := by decide +kernel
theorem dX5_isOf_6 : decode cX5_isOf 6 = .ok (.aload_n 1, 1) := dk_43 (dk_at dksX5_isOf_0 6 rfl rfl)
theorem dX5_isOf_7 : decode cX5_isOf 7 = .ok (.if_acmp .ne 7, 3) := dk_166 0 7 (dk_at dksX5_isOf_0 7 rfl rfl)
theorem dX5_isOf_10 : decode cX5_isOf 10 = .ok (.iconst 1, 1) := dk_4 (dk_at dksX5_isOf_0 10 rfl rfl)
theorem dX5_isOf_11 : decode cX5_isOf 11 = .ok (.goto 4, 3) := dk_167 0 4 (dk_at dksX5_isOf_0 11 rfl rfl)
theorem dX5_isOf_14 : decode cX5_isOf 14 = .ok (.iconst 0, 1) := dk_3 (dk_at dksX5_isOf_0 14 rfl rfl)
theorem dX5_isOf_15 : decode cX5_isOf 15 = .ok (.ireturn, 1) := dk_172 (dk_at dksX5_isOf_0 15 rfl rfl)
abbrev cX5_over : ByteArray := prog_6_method_18_code
def yX5_over : MethodName := ⟨RX5, "over", "(LWideMap$Token;ILWideMap$Node;LWideMap$Node;)LWideMap$Node;"⟩
def dkwX5_over_1 : List UInt8 := [25, 4, 180, 0, 16, 4, 45, 83, 25, 4, 5, 181, 0, 20, 25, 4, 176]
abbrev dktX5_over_1 : List UInt8 := dkwX5_over_1 ++ []
def dkwX5_over_0 : List UInt8 := [42, 182, 0, 1, 187, 0, 13, 89, 42, 27, 183, 0, 15, 58, 4, 25, 4, 180, 0, 16, 3, 44, 83]
abbrev dktX5_over_0 : List UInt8 := dkwX5_over_0 ++ dktX5_over_1
theorem dksX5_over_0 : cX5_over.data.toList.drop 0 = dktX5_over_0 := by decide +kernel
theorem dksX5_over_1 : cX5_over.data.toList.drop 23 = dktX5_over_1 := dk_seg dksX5_over_0 23 rfl rfl
theorem dX5_over_0 : decode cX5_over 0 = .ok (.aload_n 0, 1) := dk_42 (dk_at dksX5_over_0 0 rfl rfl)
theorem dX5_over_1 : decode cX5_over 1 = .ok (.invokevirtual 1, 3) := dk_182 0 1 (dk_at dksX5_over_0 1 rfl rfl)
theorem dX5_over_4 : decode cX5_over 4 = .ok (.new 13, 3) := dk_187 0 13 (dk_at dksX5_over_0 4 rfl rfl)
theorem dX5_over_7 : decode cX5_over 7 = .ok (.dup, 1) := dk_89 (dk_at dksX5_over_0 7 rfl rfl)
theorem dX5_over_8 : decode cX5_over 8 = .ok (.aload_n 0, 1) := dk_42 (dk_at dksX5_over_0 8 rfl rfl)
theorem dX5_over_9 : decode cX5_over 9 = .ok (.iload_n 1, 1) := dk_27 (dk_at dksX5_over_0 9 rfl rfl)
theorem dX5_over_10 : decode cX5_over 10 = .ok (.invokespecial 15, 3) := dk_183 0 15 (dk_at dksX5_over_0 10 rfl rfl)
theorem dX5_over_13 : decode cX5_over 13 = .ok (.astore 4, 2) := dk_58 4 (dk_at dksX5_over_0 13 rfl rfl)
theorem dX5_over_15 : decode cX5_over 15 = .ok (.aload 4, 2) := dk_25 4 (dk_at dksX5_over_0 15 rfl rfl)
theorem dX5_over_17 : decode cX5_over 17 = .ok (.getfield 16, 3) := dk_180 0 16 (dk_at dksX5_over_0 17 rfl rfl)
theorem dX5_over_20 : decode cX5_over 20 = .ok (.iconst 0, 1) := dk_3 (dk_at dksX5_over_0 20 rfl rfl)
theorem dX5_over_21 : decode cX5_over 21 = .ok (.aload_n 2, 1) := dk_44 (dk_at dksX5_over_0 21 rfl rfl)
theorem dX5_over_22 : decode cX5_over 22 = .ok (.aastore, 1) := dk_83 (dk_at dksX5_over_0 22 rfl rfl)
theorem dX5_over_23 : decode cX5_over 23 = .ok (.aload 4, 2) := dk_25 4 (dk_at dksX5_over_1 0 rfl rfl)
theorem dX5_over_25 : decode cX5_over 25 = .ok (.getfield 16, 3) := dk_180 0 16 (dk_at dksX5_over_1 2 rfl rfl)
theorem dX5_over_28 : decode cX5_over 28 = .ok (.iconst 1, 1) := dk_4 (dk_at dksX5_over_1 5 rfl rfl)
theorem dX5_over_29 : decode cX5_over 29 = .ok (.aload_n 3, 1) := dk_45 (dk_at dksX5_over_1 6 rfl rfl)
theorem dX5_over_30 : decode cX5_over 30 = .ok (.aastore, 1) := dk_83 (dk_at dksX5_over_1 7 rfl rfl)
theorem dX5_over_31 : decode cX5_over 31 = .ok (.aload 4, 2) := dk_25 4 (dk_at dksX5_over_1 8 rfl rfl)
theorem dX5_over_33 : decode cX5_over 33 = .ok (.iconst 2, 1) := dk_5 (dk_at dksX5_over_1 10 rfl rfl)
theorem dX5_over_34 : decode cX5_over 34 = .ok (.putfield 20, 3) := dk_181 0 20 (dk_at dksX5_over_1 11 rfl rfl)
theorem dX5_over_37 : decode cX5_over 37 = .ok (.aload 4, 2) := dk_25 4 (dk_at dksX5_over_1 14 rfl rfl)
theorem dX5_over_39 : decode cX5_over 39 = .ok (.areturn, 1) := dk_176 (dk_at dksX5_over_1 16 rfl rfl)
abbrev cX5_counts : ByteArray := prog_6_method_22_code
def yX5_counts : MethodName := ⟨RX5, "counts", "(IILWideMap$Token;)I"⟩
def dkwX5_counts_9 : List UInt8 := [172]
abbrev dktX5_counts_9 : List UInt8 := dkwX5_counts_9 ++ []
def dkwX5_counts_8 : List UInt8 := [185, 0, 42, 2, 0, 27, 28, 45, 185, 0, 61, 4, 0, 96, 54, 4, 132, 5, 1, 167, 255, 212, 21, 4]
abbrev dktX5_counts_8 : List UInt8 := dkwX5_counts_8 ++ dktX5_counts_9
def dkwX5_counts_7 : List UInt8 := [185, 0, 38, 1, 0, 162, 0, 39, 42, 185, 0, 49, 1, 0, 154, 0, 30, 21, 4, 42, 21, 5]
abbrev dktX5_counts_7 : List UInt8 := dkwX5_counts_7 ++ dktX5_counts_8
def dkwX5_counts_6 : List UInt8 := [167, 0, 4, 3, 54, 4, 27, 6, 160, 0, 10, 42, 28, 185, 0, 57, 2, 0, 3, 54, 5, 21, 5, 42]
abbrev dktX5_counts_6 : List UInt8 := dkwX5_counts_6 ++ dktX5_counts_7
def dkwX5_counts_5 : List UInt8 := [167, 0, 26, 3, 167, 0, 22, 42, 185, 0, 49, 1, 0, 153, 0, 12, 42, 185, 0, 38, 1, 0]
abbrev dktX5_counts_5 : List UInt8 := dkwX5_counts_5 ++ dktX5_counts_6
def dkwX5_counts_4 : List UInt8 := [153, 0, 7, 3, 167, 0, 44, 4, 167, 0, 40, 42, 45, 185, 0, 30, 2, 0, 153, 0, 7, 4]
abbrev dktX5_counts_4 : List UInt8 := dkwX5_counts_4 ++ dktX5_counts_5
def dkwX5_counts_3 : List UInt8 := [185, 0, 53, 2, 0, 153, 0, 7, 4, 167, 0, 62, 3, 167, 0, 58, 42, 28, 185, 0, 53, 2, 0]
abbrev dktX5_counts_3 : List UInt8 := dkwX5_counts_3 ++ dktX5_counts_4
def dkwX5_counts_2 : List UInt8 := [4, 167, 0, 93, 42, 185, 0, 49, 1, 0, 153, 0, 7, 4, 167, 0, 80, 3, 167, 0, 76, 42, 28]
abbrev dktX5_counts_2 : List UInt8 := dkwX5_counts_2 ++ dktX5_counts_3
def dkwX5_counts_1 : List UInt8 := [170, 0, 0, 0, 0, 0, 110, 0, 0, 0, 0, 0, 0, 0, 4, 0, 0, 0, 35, 0, 0, 0, 39, 0, 0, 0, 56, 0, 0, 0, 74, 0, 0, 0, 92]
abbrev dktX5_counts_1 : List UInt8 := dkwX5_counts_1 ++ dktX5_counts_2
def dkwX5_counts_0 : List UInt8 := [27]
abbrev dktX5_counts_0 : List UInt8 := dkwX5_counts_0 ++ dktX5_counts_1
theorem dksX5_counts_0 : cX5_counts.data.toList.drop 0 = dktX5_counts_0 := by decide +kernel
theorem dksX5_counts_1 : cX5_counts.data.toList.drop 1 = dktX5_counts_1 := dk_seg dksX5_counts_0 1 rfl rfl
theorem dksX5_counts_2 : cX5_counts.data.toList.drop 36 = dktX5_counts_2 := dk_seg dksX5_counts_1 35 rfl rfl
theorem dksX5_counts_3 : cX5_counts.data.toList.drop 59 = dktX5_counts_3 := dk_seg dksX5_counts_2 23 rfl rfl
theorem dksX5_counts_4 : cX5_counts.data.toList.drop 82 = dktX5_counts_4 := dk_seg dksX5_counts_3 23 rfl rfl
theorem dksX5_counts_5 : cX5_counts.data.toList.drop 104 = dktX5_counts_5 := dk_seg dksX5_counts_4 22 rfl rfl
theorem dksX5_counts_6 : cX5_counts.data.toList.drop 126 = dktX5_counts_6 := dk_seg dksX5_counts_5 22 rfl rfl
theorem dksX5_counts_7 : cX5_counts.data.toList.drop 150 = dktX5_counts_7 := dk_seg dksX5_counts_6 24 rfl rfl
theorem dksX5_counts_8 : cX5_counts.data.toList.drop 172 = dktX5_counts_8 := dk_seg dksX5_counts_7 22 rfl rfl
theorem dksX5_counts_9 : cX5_counts.data.toList.drop 196 = dktX5_counts_9 := dk_seg dksX5_counts_8 24 rfl rfl
theorem dX5_counts_0 : decode cX5_counts 0 = .ok (.iload_n 1, 1) := dk_27 (dk_at dksX5_counts_0 0 rfl rfl)
theorem dX5_counts_1 : decode cX5_counts 1 = .ok (.tableswitch 110 0 4 #[35, 39, 56, 74, 92], 35) := by decide +kernel
theorem dX5_counts_36 : decode cX5_counts 36 = .ok (.iconst 1, 1) := dk_4 (dk_at dksX5_counts_2 0 rfl rfl)
theorem dX5_counts_37 : decode cX5_counts 37 = .ok (.goto 93, 3) := dk_167 0 93 (dk_at dksX5_counts_2 1 rfl rfl)
theorem dX5_counts_40 : decode cX5_counts 40 = .ok (.aload_n 0, 1) := dk_42 (dk_at dksX5_counts_2 4 rfl rfl)
theorem dX5_counts_41 : decode cX5_counts 41 = .ok (.invokeinterface 49 1, 5) := by decide +kernel
theorem dX5_counts_46 : decode cX5_counts 46 = .ok (.ifCond .eq 7, 3) := dk_153 0 7 (dk_at dksX5_counts_2 10 rfl rfl)
theorem dX5_counts_49 : decode cX5_counts 49 = .ok (.iconst 1, 1) := dk_4 (dk_at dksX5_counts_2 13 rfl rfl)
theorem dX5_counts_50 : decode cX5_counts 50 = .ok (.goto 80, 3) := dk_167 0 80 (dk_at dksX5_counts_2 14 rfl rfl)
theorem dX5_counts_53 : decode cX5_counts 53 = .ok (.iconst 0, 1) := dk_3 (dk_at dksX5_counts_2 17 rfl rfl)
theorem dX5_counts_54 : decode cX5_counts 54 = .ok (.goto 76, 3) := dk_167 0 76 (dk_at dksX5_counts_2 18 rfl rfl)
theorem dX5_counts_57 : decode cX5_counts 57 = .ok (.aload_n 0, 1) := dk_42 (dk_at dksX5_counts_2 21 rfl rfl)
theorem dX5_counts_58 : decode cX5_counts 58 = .ok (.iload_n 2, 1) := dk_28 (dk_at dksX5_counts_2 22 rfl rfl)
theorem dX5_counts_59 : decode cX5_counts 59 = .ok (.invokeinterface 53 2, 5) := by decide +kernel
theorem dX5_counts_64 : decode cX5_counts 64 = .ok (.ifCond .eq 7, 3) := dk_153 0 7 (dk_at dksX5_counts_3 5 rfl rfl)
theorem dX5_counts_67 : decode cX5_counts 67 = .ok (.iconst 1, 1) := dk_4 (dk_at dksX5_counts_3 8 rfl rfl)
theorem dX5_counts_68 : decode cX5_counts 68 = .ok (.goto 62, 3) := dk_167 0 62 (dk_at dksX5_counts_3 9 rfl rfl)
theorem dX5_counts_71 : decode cX5_counts 71 = .ok (.iconst 0, 1) := dk_3 (dk_at dksX5_counts_3 12 rfl rfl)
theorem dX5_counts_72 : decode cX5_counts 72 = .ok (.goto 58, 3) := dk_167 0 58 (dk_at dksX5_counts_3 13 rfl rfl)
theorem dX5_counts_75 : decode cX5_counts 75 = .ok (.aload_n 0, 1) := dk_42 (dk_at dksX5_counts_3 16 rfl rfl)
theorem dX5_counts_76 : decode cX5_counts 76 = .ok (.iload_n 2, 1) := dk_28 (dk_at dksX5_counts_3 17 rfl rfl)
theorem dX5_counts_77 : decode cX5_counts 77 = .ok (.invokeinterface 53 2, 5) := by decide +kernel
theorem dX5_counts_82 : decode cX5_counts 82 = .ok (.ifCond .eq 7, 3) := dk_153 0 7 (dk_at dksX5_counts_4 0 rfl rfl)
theorem dX5_counts_85 : decode cX5_counts 85 = .ok (.iconst 0, 1) := dk_3 (dk_at dksX5_counts_4 3 rfl rfl)
theorem dX5_counts_86 : decode cX5_counts 86 = .ok (.goto 44, 3) := dk_167 0 44 (dk_at dksX5_counts_4 4 rfl rfl)
theorem dX5_counts_89 : decode cX5_counts 89 = .ok (.iconst 1, 1) := dk_4 (dk_at dksX5_counts_4 7 rfl rfl)
theorem dX5_counts_90 : decode cX5_counts 90 = .ok (.goto 40, 3) := dk_167 0 40 (dk_at dksX5_counts_4 8 rfl rfl)
theorem dX5_counts_93 : decode cX5_counts 93 = .ok (.aload_n 0, 1) := dk_42 (dk_at dksX5_counts_4 11 rfl rfl)
theorem dX5_counts_94 : decode cX5_counts 94 = .ok (.aload_n 3, 1) := dk_45 (dk_at dksX5_counts_4 12 rfl rfl)
theorem dX5_counts_95 : decode cX5_counts 95 = .ok (.invokeinterface 30 2, 5) := by decide +kernel
theorem dX5_counts_100 : decode cX5_counts 100 = .ok (.ifCond .eq 7, 3) := dk_153 0 7 (dk_at dksX5_counts_4 18 rfl rfl)
theorem dX5_counts_103 : decode cX5_counts 103 = .ok (.iconst 1, 1) := dk_4 (dk_at dksX5_counts_4 21 rfl rfl)
theorem dX5_counts_104 : decode cX5_counts 104 = .ok (.goto 26, 3) := dk_167 0 26 (dk_at dksX5_counts_5 0 rfl rfl)
theorem dX5_counts_107 : decode cX5_counts 107 = .ok (.iconst 0, 1) := dk_3 (dk_at dksX5_counts_5 3 rfl rfl)
theorem dX5_counts_108 : decode cX5_counts 108 = .ok (.goto 22, 3) := dk_167 0 22 (dk_at dksX5_counts_5 4 rfl rfl)
theorem dX5_counts_111 : decode cX5_counts 111 = .ok (.aload_n 0, 1) := dk_42 (dk_at dksX5_counts_5 7 rfl rfl)
theorem dX5_counts_112 : decode cX5_counts 112 = .ok (.invokeinterface 49 1, 5) := by decide +kernel
theorem dX5_counts_117 : decode cX5_counts 117 = .ok (.ifCond .eq 12, 3) := dk_153 0 12 (dk_at dksX5_counts_5 13 rfl rfl)
theorem dX5_counts_120 : decode cX5_counts 120 = .ok (.aload_n 0, 1) := dk_42 (dk_at dksX5_counts_5 16 rfl rfl)
theorem dX5_counts_121 : decode cX5_counts 121 = .ok (.invokeinterface 38 1, 5) := by decide +kernel
theorem dX5_counts_126 : decode cX5_counts 126 = .ok (.goto 4, 3) := dk_167 0 4 (dk_at dksX5_counts_6 0 rfl rfl)
theorem dX5_counts_129 : decode cX5_counts 129 = .ok (.iconst 0, 1) := dk_3 (dk_at dksX5_counts_6 3 rfl rfl)
theorem dX5_counts_130 : decode cX5_counts 130 = .ok (.istore 4, 2) := dk_54 4 (dk_at dksX5_counts_6 4 rfl rfl)
theorem dX5_counts_132 : decode cX5_counts 132 = .ok (.iload_n 1, 1) := dk_27 (dk_at dksX5_counts_6 6 rfl rfl)
theorem dX5_counts_133 : decode cX5_counts 133 = .ok (.iconst 3, 1) := dk_6 (dk_at dksX5_counts_6 7 rfl rfl)
theorem dX5_counts_134 : decode cX5_counts 134 = .ok (.if_icmp .ne 10, 3) := dk_160 0 10 (dk_at dksX5_counts_6 8 rfl rfl)
theorem dX5_counts_137 : decode cX5_counts 137 = .ok (.aload_n 0, 1) := dk_42 (dk_at dksX5_counts_6 11 rfl rfl)
theorem dX5_counts_138 : decode cX5_counts 138 = .ok (.iload_n 2, 1) := dk_28 (dk_at dksX5_counts_6 12 rfl rfl)
theorem dX5_counts_139 : decode cX5_counts 139 = .ok (.invokeinterface 57 2, 5) := by decide +kernel
theorem dX5_counts_144 : decode cX5_counts 144 = .ok (.iconst 0, 1) := dk_3 (dk_at dksX5_counts_6 18 rfl rfl)
theorem dX5_counts_145 : decode cX5_counts 145 = .ok (.istore 5, 2) := dk_54 5 (dk_at dksX5_counts_6 19 rfl rfl)
theorem dX5_counts_147 : decode cX5_counts 147 = .ok (.iload 5, 2) := dk_21 5 (dk_at dksX5_counts_6 21 rfl rfl)
theorem dX5_counts_149 : decode cX5_counts 149 = .ok (.aload_n 0, 1) := dk_42 (dk_at dksX5_counts_6 23 rfl rfl)
theorem dX5_counts_150 : decode cX5_counts 150 = .ok (.invokeinterface 38 1, 5) := by decide +kernel
theorem dX5_counts_155 : decode cX5_counts 155 = .ok (.if_icmp .ge 39, 3) := dk_162 0 39 (dk_at dksX5_counts_7 5 rfl rfl)
theorem dX5_counts_158 : decode cX5_counts 158 = .ok (.aload_n 0, 1) := dk_42 (dk_at dksX5_counts_7 8 rfl rfl)
theorem dX5_counts_159 : decode cX5_counts 159 = .ok (.invokeinterface 49 1, 5) := by decide +kernel
theorem dX5_counts_164 : decode cX5_counts 164 = .ok (.ifCond .ne 30, 3) := dk_154 0 30 (dk_at dksX5_counts_7 14 rfl rfl)
theorem dX5_counts_167 : decode cX5_counts 167 = .ok (.iload 4, 2) := dk_21 4 (dk_at dksX5_counts_7 17 rfl rfl)
theorem dX5_counts_169 : decode cX5_counts 169 = .ok (.aload_n 0, 1) := dk_42 (dk_at dksX5_counts_7 19 rfl rfl)
theorem dX5_counts_170 : decode cX5_counts 170 = .ok (.iload 5, 2) := dk_21 5 (dk_at dksX5_counts_7 20 rfl rfl)
theorem dX5_counts_172 : decode cX5_counts 172 = .ok (.invokeinterface 42 2, 5) := by decide +kernel
theorem dX5_counts_177 : decode cX5_counts 177 = .ok (.iload_n 1, 1) := dk_27 (dk_at dksX5_counts_8 5 rfl rfl)
theorem dX5_counts_178 : decode cX5_counts 178 = .ok (.iload_n 2, 1) := dk_28 (dk_at dksX5_counts_8 6 rfl rfl)
theorem dX5_counts_179 : decode cX5_counts 179 = .ok (.aload_n 3, 1) := dk_45 (dk_at dksX5_counts_8 7 rfl rfl)
theorem dX5_counts_180 : decode cX5_counts 180 = .ok (.invokeinterface 61 4, 5) := by decide +kernel
theorem dX5_counts_185 : decode cX5_counts 185 = .ok (.iadd, 1) := dk_96 (dk_at dksX5_counts_8 13 rfl rfl)
theorem dX5_counts_186 : decode cX5_counts 186 = .ok (.istore 4, 2) := dk_54 4 (dk_at dksX5_counts_8 14 rfl rfl)
theorem dX5_counts_188 : decode cX5_counts 188 = .ok (.iinc 5 1, 3) := dk_132 5 1 (dk_at dksX5_counts_8 16 rfl rfl)
theorem dX5_counts_191 : decode cX5_counts 191 = .ok (.goto (-44), 3) := dk_167 255 212 (dk_at dksX5_counts_8 19 rfl rfl)
theorem dX5_counts_194 : decode cX5_counts 194 = .ok (.iload 4, 2) := dk_21 4 (dk_at dksX5_counts_8 22 rfl rfl)
theorem dX5_counts_196 : decode cX5_counts 196 = .ok (.ireturn, 1) := dk_172 (dk_at dksX5_counts_9 0 rfl rfl)
abbrev cX5_levels : ByteArray := prog_6_method_23_code
def yX5_levels : MethodName := ⟨RX5, "levels", "()I"⟩
def dkwX5_levels_1 : List UInt8 := [185, 0, 65, 1, 0, 96, 172]
abbrev dktX5_levels_1 : List UInt8 := dkwX5_levels_1 ++ []
def dkwX5_levels_0 : List UInt8 := [42, 185, 0, 49, 1, 0, 153, 0, 7, 4, 167, 0, 17, 4, 42, 3, 185, 0, 42, 2, 0]
abbrev dktX5_levels_0 : List UInt8 := dkwX5_levels_0 ++ dktX5_levels_1
theorem dksX5_levels_0 : cX5_levels.data.toList.drop 0 = dktX5_levels_0 := by decide +kernel
theorem dksX5_levels_1 : cX5_levels.data.toList.drop 21 = dktX5_levels_1 := dk_seg dksX5_levels_0 21 rfl rfl
theorem dX5_levels_0 : decode cX5_levels 0 = .ok (.aload_n 0, 1) := dk_42 (dk_at dksX5_levels_0 0 rfl rfl)
theorem dX5_levels_1 : decode cX5_levels 1 = .ok (.invokeinterface 49 1, 5) := by decide +kernel
theorem dX5_levels_6 : decode cX5_levels 6 = .ok (.ifCond .eq 7, 3) := dk_153 0 7 (dk_at dksX5_levels_0 6 rfl rfl)
theorem dX5_levels_9 : decode cX5_levels 9 = .ok (.iconst 1, 1) := dk_4 (dk_at dksX5_levels_0 9 rfl rfl)
theorem dX5_levels_10 : decode cX5_levels 10 = .ok (.goto 17, 3) := dk_167 0 17 (dk_at dksX5_levels_0 10 rfl rfl)
theorem dX5_levels_13 : decode cX5_levels 13 = .ok (.iconst 1, 1) := dk_4 (dk_at dksX5_levels_0 13 rfl rfl)
theorem dX5_levels_14 : decode cX5_levels 14 = .ok (.aload_n 0, 1) := dk_42 (dk_at dksX5_levels_0 14 rfl rfl)
theorem dX5_levels_15 : decode cX5_levels 15 = .ok (.iconst 0, 1) := dk_3 (dk_at dksX5_levels_0 15 rfl rfl)
theorem dX5_levels_16 : decode cX5_levels 16 = .ok (.invokeinterface 42 2, 5) := by decide +kernel
theorem dX5_levels_21 : decode cX5_levels 21 = .ok (.invokeinterface 65 1, 5) := by decide +kernel
theorem dX5_levels_26 : decode cX5_levels 26 = .ok (.iadd, 1) := dk_96 (dk_at dksX5_levels_1 5 rfl rfl)
theorem dX5_levels_27 : decode cX5_levels 27 = .ok (.ireturn, 1) := dk_172 (dk_at dksX5_levels_1 6 rfl rfl)
abbrev cX5_hasIn : ByteArray := prog_6_method_24_code
def yX5_hasIn : MethodName := ⟨RX5, "hasIn", "(LWideMap$Node;)Z"⟩
def dkwX5_hasIn_2 : List UInt8 := [4, 172, 132, 2, 1, 167, 255, 216, 3, 172]
abbrev dktX5_hasIn_2 : List UInt8 := dkwX5_hasIn_2 ++ []
def dkwX5_hasIn_1 : List UInt8 := [185, 0, 49, 1, 0, 154, 0, 27, 42, 28, 185, 0, 42, 2, 0, 43, 185, 0, 68, 2, 0, 153, 0, 5]
abbrev dktX5_hasIn_1 : List UInt8 := dkwX5_hasIn_1 ++ dktX5_hasIn_2
def dkwX5_hasIn_0 : List UInt8 := [42, 43, 166, 0, 5, 4, 172, 3, 61, 28, 42, 185, 0, 38, 1, 0, 162, 0, 36, 42]
abbrev dktX5_hasIn_0 : List UInt8 := dkwX5_hasIn_0 ++ dktX5_hasIn_1
theorem dksX5_hasIn_0 : cX5_hasIn.data.toList.drop 0 = dktX5_hasIn_0 := by decide +kernel
theorem dksX5_hasIn_1 : cX5_hasIn.data.toList.drop 20 = dktX5_hasIn_1 := dk_seg dksX5_hasIn_0 20 rfl rfl
theorem dksX5_hasIn_2 : cX5_hasIn.data.toList.drop 44 = dktX5_hasIn_2 := dk_seg dksX5_hasIn_1 24 rfl rfl
theorem dX5_hasIn_0 : decode cX5_hasIn 0 = .ok (.aload_n 0, 1) := dk_42 (dk_at dksX5_hasIn_0 0 rfl rfl)
theorem dX5_hasIn_1 : decode cX5_hasIn 1 = .ok (.aload_n 1, 1) := dk_43 (dk_at dksX5_hasIn_0 1 rfl rfl)
theorem dX5_hasIn_2 : decode cX5_hasIn 2 = .ok (.if_acmp .ne 5, 3) := dk_166 0 5 (dk_at dksX5_hasIn_0 2 rfl rfl)
theorem dX5_hasIn_5 : decode cX5_hasIn 5 = .ok (.iconst 1, 1) := dk_4 (dk_at dksX5_hasIn_0 5 rfl rfl)
theorem dX5_hasIn_6 : decode cX5_hasIn 6 = .ok (.ireturn, 1) := dk_172 (dk_at dksX5_hasIn_0 6 rfl rfl)
theorem dX5_hasIn_7 : decode cX5_hasIn 7 = .ok (.iconst 0, 1) := dk_3 (dk_at dksX5_hasIn_0 7 rfl rfl)
theorem dX5_hasIn_8 : decode cX5_hasIn 8 = .ok (.istore_n 2, 1) := dk_61 (dk_at dksX5_hasIn_0 8 rfl rfl)
theorem dX5_hasIn_9 : decode cX5_hasIn 9 = .ok (.iload_n 2, 1) := dk_28 (dk_at dksX5_hasIn_0 9 rfl rfl)
theorem dX5_hasIn_10 : decode cX5_hasIn 10 = .ok (.aload_n 0, 1) := dk_42 (dk_at dksX5_hasIn_0 10 rfl rfl)
theorem dX5_hasIn_11 : decode cX5_hasIn 11 = .ok (.invokeinterface 38 1, 5) := by decide +kernel
theorem dX5_hasIn_16 : decode cX5_hasIn 16 = .ok (.if_icmp .ge 36, 3) := dk_162 0 36 (dk_at dksX5_hasIn_0 16 rfl rfl)
theorem dX5_hasIn_19 : decode cX5_hasIn 19 = .ok (.aload_n 0, 1) := dk_42 (dk_at dksX5_hasIn_0 19 rfl rfl)
theorem dX5_hasIn_20 : decode cX5_hasIn 20 = .ok (.invokeinterface 49 1, 5) := by decide +kernel
theorem dX5_hasIn_25 : decode cX5_hasIn 25 = .ok (.ifCond .ne 27, 3) := dk_154 0 27 (dk_at dksX5_hasIn_1 5 rfl rfl)
theorem dX5_hasIn_28 : decode cX5_hasIn 28 = .ok (.aload_n 0, 1) := dk_42 (dk_at dksX5_hasIn_1 8 rfl rfl)
theorem dX5_hasIn_29 : decode cX5_hasIn 29 = .ok (.iload_n 2, 1) := dk_28 (dk_at dksX5_hasIn_1 9 rfl rfl)
theorem dX5_hasIn_30 : decode cX5_hasIn 30 = .ok (.invokeinterface 42 2, 5) := by decide +kernel
theorem dX5_hasIn_35 : decode cX5_hasIn 35 = .ok (.aload_n 1, 1) := dk_43 (dk_at dksX5_hasIn_1 15 rfl rfl)
theorem dX5_hasIn_36 : decode cX5_hasIn 36 = .ok (.invokeinterface 68 2, 5) := by decide +kernel
theorem dX5_hasIn_41 : decode cX5_hasIn 41 = .ok (.ifCond .eq 5, 3) := dk_153 0 5 (dk_at dksX5_hasIn_1 21 rfl rfl)
theorem dX5_hasIn_44 : decode cX5_hasIn 44 = .ok (.iconst 1, 1) := dk_4 (dk_at dksX5_hasIn_2 0 rfl rfl)
theorem dX5_hasIn_45 : decode cX5_hasIn 45 = .ok (.ireturn, 1) := dk_172 (dk_at dksX5_hasIn_2 1 rfl rfl)
theorem dX5_hasIn_46 : decode cX5_hasIn 46 = .ok (.iinc 2 1, 3) := dk_132 2 1 (dk_at dksX5_hasIn_2 2 rfl rfl)
theorem dX5_hasIn_49 : decode cX5_hasIn 49 = .ok (.goto (-40), 3) := dk_167 255 216 (dk_at dksX5_hasIn_2 5 rfl rfl)
theorem dX5_hasIn_52 : decode cX5_hasIn 52 = .ok (.iconst 0, 1) := dk_3 (dk_at dksX5_hasIn_2 8 rfl rfl)
theorem dX5_hasIn_53 : decode cX5_hasIn 53 = .ok (.ireturn, 1) := dk_172 (dk_at dksX5_hasIn_2 9 rfl rfl)
theorem q152 : (Jvm.Cond.initialized "WideMap$Node") ∈ lw_all := lw_g (lw_at lw_m1 22 rfl) rfl
theorem q831 : (Jvm.Cond.static ({ cls := "WideMap$Node", name := "bare", desc := "(LWideMap$Token;I)LWideMap$Node;" } : Jvm.MethodName)) ∈ lw_all := lw_g (lw_at lw_m3 221 rfl) rfl
theorem q832 : (Jvm.Cond.code ({ cls := "WideMap$Node", name := "bare", desc := "(LWideMap$Token;I)LWideMap$Node;" } : Jvm.MethodName) prog_6_method_17_code (2 : Nat) (Option.some (Jvm.ClassFile.FieldType.object "WideMap$Node"))) ∈ lw_all := lw_g (lw_at lw_m3 222 rfl) rfl
theorem q833 : (Jvm.Cond.methodLink "WideMap$Node" (1 : Nat) ({ cls := "WideMap$Token", name := "makes", desc := "()V" } : Jvm.MethodName)) ∈ lw_all := lw_g (lw_at lw_m3 223 rfl) rfl
theorem q837 : (Jvm.Cond.classLink "WideMap$Node" (7 : Nat) "WideMap$Leaf") ∈ lw_all := lw_g (lw_at lw_m3 227 rfl) rfl
theorem q839 : (Jvm.Cond.methodLink "WideMap$Node" (9 : Nat) ({ cls := "WideMap$Leaf", name := "<init>", desc := "(LWideMap$Token;I)V" } : Jvm.MethodName)) ∈ lw_all := lw_g (lw_at lw_m3 229 rfl) rfl
theorem q854 : (Jvm.Cond.fieldLink "WideMap$Node" (20 : Nat) "WideMap$Inner" "n" "I") ∈ lw_all := lw_g (lw_at lw_m4 4 rfl) rfl
theorem q879 : (Jvm.Cond.interfaceMethod "WideMap$Node" "WideMap$Node" "isLeaf" "()Z") ∈ lw_tbl := lw_at lw_m4 29 rfl
theorem q880 : (Jvm.Cond.declares ({ cls := "WideMap$Node", name := "isLeaf", desc := "()Z" } : Jvm.MethodName)) ∈ lw_tbl := lw_at lw_m4 30 rfl
theorem q895 : (Jvm.Cond.interfaceMethod "WideMap$Node" "WideMap$Node" "kidFor" "(I)I") ∈ lw_tbl := lw_at lw_m4 45 rfl
theorem q896 : (Jvm.Cond.declares ({ cls := "WideMap$Node", name := "kidFor", desc := "(I)I" } : Jvm.MethodName)) ∈ lw_tbl := lw_at lw_m4 46 rfl
theorem q898 : (Jvm.Cond.instanceMethod ({ cls := "WideMap$Node", name := "kidFor", desc := "(I)I" } : Jvm.MethodName)) ∈ lw_all := lw_g (lw_at lw_m4 48 rfl) rfl
theorem q899 : (Jvm.Cond.publicMethod ({ cls := "WideMap$Node", name := "kidFor", desc := "(I)I" } : Jvm.MethodName)) ∈ lw_tbl := lw_at lw_m4 49 rfl
theorem q900 : (Jvm.Cond.code ({ cls := "WideMap$Node", name := "kidFor", desc := "(I)I" } : Jvm.MethodName) prog_6_method_21_code (3 : Nat) (Option.some Jvm.ClassFile.FieldType.int)) ∈ lw_all := lw_g (lw_at lw_m4 50 rfl) rfl
theorem q901 : (Jvm.Cond.interfaceEntry "WideMap$Node" (38 : Nat)) ∈ lw_tbl := lw_at lw_m4 51 rfl
theorem q902 : (Jvm.Cond.methodLink "WideMap$Node" (38 : Nat) ({ cls := "WideMap$Node", name := "many", desc := "()I" } : Jvm.MethodName)) ∈ lw_all := lw_g (lw_at lw_m4 52 rfl) rfl
theorem q903 : (Jvm.Cond.interfaceMethod "WideMap$Node" "WideMap$Node" "many" "()I") ∈ lw_tbl := lw_at lw_m4 53 rfl
theorem q904 : (Jvm.Cond.declares ({ cls := "WideMap$Node", name := "many", desc := "()I" } : Jvm.MethodName)) ∈ lw_tbl := lw_at lw_m4 54 rfl
theorem q912 : (Jvm.Cond.interfaceEntry "WideMap$Node" (42 : Nat)) ∈ lw_tbl := lw_at lw_m4 62 rfl
theorem q913 : (Jvm.Cond.methodLink "WideMap$Node" (42 : Nat) ({ cls := "WideMap$Node", name := "kid", desc := "(I)LWideMap$Node;" } : Jvm.MethodName)) ∈ lw_all := lw_g (lw_at lw_m4 63 rfl) rfl
theorem q914 : (Jvm.Cond.interfaceMethod "WideMap$Node" "WideMap$Node" "kid" "(I)LWideMap$Node;") ∈ lw_tbl := lw_at lw_m4 64 rfl
theorem q915 : (Jvm.Cond.declares ({ cls := "WideMap$Node", name := "kid", desc := "(I)LWideMap$Node;" } : Jvm.MethodName)) ∈ lw_tbl := lw_at lw_m4 65 rfl
theorem q926 : (Jvm.Cond.interfaceEntry "WideMap$Node" (46 : Nat)) ∈ lw_tbl := lw_at lw_m4 76 rfl
theorem q927 : (Jvm.Cond.methodLink "WideMap$Node" (46 : Nat) ({ cls := "WideMap$Node", name := "low", desc := "()I" } : Jvm.MethodName)) ∈ lw_all := lw_g (lw_at lw_m4 77 rfl) rfl
theorem q928 : (Jvm.Cond.interfaceMethod "WideMap$Node" "WideMap$Node" "low" "()I") ∈ lw_tbl := lw_at lw_m4 78 rfl
theorem q929 : (Jvm.Cond.declares ({ cls := "WideMap$Node", name := "low", desc := "()I" } : Jvm.MethodName)) ∈ lw_tbl := lw_at lw_m4 79 rfl
theorem q949 : (Jvm.Cond.interfaceMethod "WideMap$Node" "WideMap$Node" "keyAt" "(I)I") ∈ lw_tbl := lw_at lw_m4 99 rfl
theorem q950 : (Jvm.Cond.declares ({ cls := "WideMap$Node", name := "keyAt", desc := "(I)I" } : Jvm.MethodName)) ∈ lw_tbl := lw_at lw_m4 100 rfl
theorem q963 : (Jvm.Cond.interfaceMethod "WideMap$Node" "WideMap$Node" "valueAt" "(I)I") ∈ lw_tbl := lw_at lw_m4 113 rfl
theorem q964 : (Jvm.Cond.declares ({ cls := "WideMap$Node", name := "valueAt", desc := "(I)I" } : Jvm.MethodName)) ∈ lw_tbl := lw_at lw_m4 114 rfl
theorem q977 : (Jvm.Cond.interfaceMethod "WideMap$Node" "WideMap$Node" "edited" "(LWideMap$Token;)LWideMap$Node;") ∈ lw_tbl := lw_at lw_m4 127 rfl
theorem q978 : (Jvm.Cond.declares ({ cls := "WideMap$Node", name := "edited", desc := "(LWideMap$Token;)LWideMap$Node;" } : Jvm.MethodName)) ∈ lw_tbl := lw_at lw_m4 128 rfl
theorem q980 : (Jvm.Cond.instanceMethod ({ cls := "WideMap$Node", name := "edited", desc := "(LWideMap$Token;)LWideMap$Node;" } : Jvm.MethodName)) ∈ lw_all := lw_g (lw_at lw_m4 130 rfl) rfl
theorem q981 : (Jvm.Cond.publicMethod ({ cls := "WideMap$Node", name := "edited", desc := "(LWideMap$Token;)LWideMap$Node;" } : Jvm.MethodName)) ∈ lw_tbl := lw_at lw_m4 131 rfl
theorem q982 : (Jvm.Cond.code ({ cls := "WideMap$Node", name := "edited", desc := "(LWideMap$Token;)LWideMap$Node;" } : Jvm.MethodName) prog_6_method_20_code (2 : Nat) (Option.some (Jvm.ClassFile.FieldType.object "WideMap$Node"))) ∈ lw_all := lw_g (lw_at lw_m4 132 rfl) rfl
theorem q983 : (Jvm.Cond.interfaceEntry "WideMap$Node" (30 : Nat)) ∈ lw_tbl := lw_at lw_m4 133 rfl
theorem q984 : (Jvm.Cond.methodLink "WideMap$Node" (30 : Nat) ({ cls := "WideMap$Node", name := "isOf", desc := "(LWideMap$Token;)Z" } : Jvm.MethodName)) ∈ lw_all := lw_g (lw_at lw_m4 134 rfl) rfl
theorem q985 : (Jvm.Cond.interfaceMethod "WideMap$Node" "WideMap$Node" "isOf" "(LWideMap$Token;)Z") ∈ lw_tbl := lw_at lw_m4 135 rfl
theorem q986 : (Jvm.Cond.declares ({ cls := "WideMap$Node", name := "isOf", desc := "(LWideMap$Token;)Z" } : Jvm.MethodName)) ∈ lw_tbl := lw_at lw_m4 136 rfl
theorem q988 : (Jvm.Cond.instanceMethod ({ cls := "WideMap$Node", name := "isOf", desc := "(LWideMap$Token;)Z" } : Jvm.MethodName)) ∈ lw_all := lw_g (lw_at lw_m4 138 rfl) rfl
theorem q989 : (Jvm.Cond.publicMethod ({ cls := "WideMap$Node", name := "isOf", desc := "(LWideMap$Token;)Z" } : Jvm.MethodName)) ∈ lw_tbl := lw_at lw_m4 139 rfl
theorem q990 : (Jvm.Cond.code ({ cls := "WideMap$Node", name := "isOf", desc := "(LWideMap$Token;)Z" } : Jvm.MethodName) prog_6_method_19_code (2 : Nat) (Option.some Jvm.ClassFile.FieldType.boolean)) ∈ lw_all := lw_g (lw_at lw_m4 140 rfl) rfl
theorem q991 : (Jvm.Cond.interfaceEntry "WideMap$Node" (24 : Nat)) ∈ lw_tbl := lw_at lw_m4 141 rfl
theorem q992 : (Jvm.Cond.methodLink "WideMap$Node" (24 : Nat) ({ cls := "WideMap$Node", name := "token", desc := "()LWideMap$Token;" } : Jvm.MethodName)) ∈ lw_all := lw_g (lw_at lw_m4 142 rfl) rfl
theorem q993 : (Jvm.Cond.interfaceMethod "WideMap$Node" "WideMap$Node" "token" "()LWideMap$Token;") ∈ lw_tbl := lw_at lw_m4 143 rfl
theorem q994 : (Jvm.Cond.declares ({ cls := "WideMap$Node", name := "token", desc := "()LWideMap$Token;" } : Jvm.MethodName)) ∈ lw_tbl := lw_at lw_m4 144 rfl
theorem q1003 : (Jvm.Cond.interfaceEntry "WideMap$Node" (34 : Nat)) ∈ lw_tbl := lw_at lw_m4 153 rfl
theorem q1004 : (Jvm.Cond.methodLink "WideMap$Node" (34 : Nat) ({ cls := "WideMap$Node", name := "copied", desc := "(LWideMap$Token;)LWideMap$Node;" } : Jvm.MethodName)) ∈ lw_all := lw_g (lw_at lw_m4 154 rfl) rfl
theorem q1005 : (Jvm.Cond.interfaceMethod "WideMap$Node" "WideMap$Node" "copied" "(LWideMap$Token;)LWideMap$Node;") ∈ lw_tbl := lw_at lw_m4 155 rfl
theorem q1006 : (Jvm.Cond.declares ({ cls := "WideMap$Node", name := "copied", desc := "(LWideMap$Token;)LWideMap$Node;" } : Jvm.MethodName)) ∈ lw_tbl := lw_at lw_m4 156 rfl
theorem q1020 : (Jvm.Cond.fieldLinkNest "WideMap$Node" (16 : Nat) "WideMap$Inner" "kids" "[LWideMap$Node;" "WideMap") ∈ lw_tbl := lw_at lw_m4 170 rfl
theorem q1041 : (Jvm.Cond.interfaceMethod "WideMap$Node" "WideMap$Node" "lays" "(LWideMap$Token;III)LWideMap$Node;") ∈ lw_tbl := lw_at lw_m4 191 rfl
theorem q1042 : (Jvm.Cond.declares ({ cls := "WideMap$Node", name := "lays", desc := "(LWideMap$Token;III)LWideMap$Node;" } : Jvm.MethodName)) ∈ lw_tbl := lw_at lw_m4 192 rfl
theorem q1072 : (Jvm.Cond.static ({ cls := "WideMap$Node", name := "over", desc := "(LWideMap$Token;ILWideMap$Node;LWideMap$Node;)LWideMap$Node;" } : Jvm.MethodName)) ∈ lw_all := lw_g (lw_at lw_m4 222 rfl) rfl
theorem q1073 : (Jvm.Cond.code ({ cls := "WideMap$Node", name := "over", desc := "(LWideMap$Token;ILWideMap$Node;LWideMap$Node;)LWideMap$Node;" } : Jvm.MethodName) prog_6_method_18_code (5 : Nat) (Option.some (Jvm.ClassFile.FieldType.object "WideMap$Node"))) ∈ lw_all := lw_g (lw_at lw_m4 223 rfl) rfl
theorem q1074 : (Jvm.Cond.classLink "WideMap$Node" (13 : Nat) "WideMap$Inner") ∈ lw_all := lw_g (lw_at lw_m4 224 rfl) rfl
theorem q1075 : (Jvm.Cond.methodLink "WideMap$Node" (15 : Nat) ({ cls := "WideMap$Inner", name := "<init>", desc := "(LWideMap$Token;I)V" } : Jvm.MethodName)) ∈ lw_all := lw_g (lw_at lw_m4 225 rfl) rfl
theorem q1109 : (Jvm.Cond.interfaceMethod "WideMap$Node" "WideMap$Node" "counts" "(IILWideMap$Token;)I") ∈ lw_tbl := lw_at lw_m5 19 rfl
theorem q1110 : (Jvm.Cond.declares ({ cls := "WideMap$Node", name := "counts", desc := "(IILWideMap$Token;)I" } : Jvm.MethodName)) ∈ lw_tbl := lw_at lw_m5 20 rfl
theorem q1112 : (Jvm.Cond.instanceMethod ({ cls := "WideMap$Node", name := "counts", desc := "(IILWideMap$Token;)I" } : Jvm.MethodName)) ∈ lw_all := lw_g (lw_at lw_m5 22 rfl) rfl
theorem q1113 : (Jvm.Cond.publicMethod ({ cls := "WideMap$Node", name := "counts", desc := "(IILWideMap$Token;)I" } : Jvm.MethodName)) ∈ lw_tbl := lw_at lw_m5 23 rfl
theorem q1114 : (Jvm.Cond.code ({ cls := "WideMap$Node", name := "counts", desc := "(IILWideMap$Token;)I" } : Jvm.MethodName) prog_6_method_22_code (6 : Nat) (Option.some Jvm.ClassFile.FieldType.int)) ∈ lw_all := lw_g (lw_at lw_m5 24 rfl) rfl
theorem q1115 : (Jvm.Cond.interfaceEntry "WideMap$Node" (49 : Nat)) ∈ lw_tbl := lw_at lw_m5 25 rfl
theorem q1116 : (Jvm.Cond.methodLink "WideMap$Node" (49 : Nat) ({ cls := "WideMap$Node", name := "isLeaf", desc := "()Z" } : Jvm.MethodName)) ∈ lw_all := lw_g (lw_at lw_m5 26 rfl) rfl
theorem q1117 : (Jvm.Cond.interfaceEntry "WideMap$Node" (53 : Nat)) ∈ lw_tbl := lw_at lw_m5 27 rfl
theorem q1118 : (Jvm.Cond.methodLink "WideMap$Node" (53 : Nat) ({ cls := "WideMap$Node", name := "isStamped", desc := "(I)Z" } : Jvm.MethodName)) ∈ lw_all := lw_g (lw_at lw_m5 28 rfl) rfl
theorem q1119 : (Jvm.Cond.interfaceMethod "WideMap$Node" "WideMap$Node" "isStamped" "(I)Z") ∈ lw_tbl := lw_at lw_m5 29 rfl
theorem q1120 : (Jvm.Cond.declares ({ cls := "WideMap$Node", name := "isStamped", desc := "(I)Z" } : Jvm.MethodName)) ∈ lw_tbl := lw_at lw_m5 30 rfl
theorem q1128 : (Jvm.Cond.interfaceEntry "WideMap$Node" (57 : Nat)) ∈ lw_tbl := lw_at lw_m5 38 rfl
theorem q1129 : (Jvm.Cond.methodLink "WideMap$Node" (57 : Nat) ({ cls := "WideMap$Node", name := "stamp", desc := "(I)V" } : Jvm.MethodName)) ∈ lw_all := lw_g (lw_at lw_m5 39 rfl) rfl
theorem q1130 : (Jvm.Cond.interfaceMethod "WideMap$Node" "WideMap$Node" "stamp" "(I)V") ∈ lw_tbl := lw_at lw_m5 40 rfl
theorem q1131 : (Jvm.Cond.declares ({ cls := "WideMap$Node", name := "stamp", desc := "(I)V" } : Jvm.MethodName)) ∈ lw_tbl := lw_at lw_m5 41 rfl
theorem q1139 : (Jvm.Cond.interfaceEntry "WideMap$Node" (61 : Nat)) ∈ lw_tbl := lw_at lw_m5 49 rfl
theorem q1140 : (Jvm.Cond.methodLink "WideMap$Node" (61 : Nat) ({ cls := "WideMap$Node", name := "counts", desc := "(IILWideMap$Token;)I" } : Jvm.MethodName)) ∈ lw_all := lw_g (lw_at lw_m5 50 rfl) rfl
theorem q1144 : (Jvm.Cond.interfaceMethod "WideMap$Node" "WideMap$Node" "levels" "()I") ∈ lw_tbl := lw_at lw_m5 54 rfl
theorem q1145 : (Jvm.Cond.declares ({ cls := "WideMap$Node", name := "levels", desc := "()I" } : Jvm.MethodName)) ∈ lw_tbl := lw_at lw_m5 55 rfl
theorem q1147 : (Jvm.Cond.instanceMethod ({ cls := "WideMap$Node", name := "levels", desc := "()I" } : Jvm.MethodName)) ∈ lw_all := lw_g (lw_at lw_m5 57 rfl) rfl
theorem q1148 : (Jvm.Cond.publicMethod ({ cls := "WideMap$Node", name := "levels", desc := "()I" } : Jvm.MethodName)) ∈ lw_tbl := lw_at lw_m5 58 rfl
theorem q1149 : (Jvm.Cond.code ({ cls := "WideMap$Node", name := "levels", desc := "()I" } : Jvm.MethodName) prog_6_method_23_code (1 : Nat) (Option.some Jvm.ClassFile.FieldType.int)) ∈ lw_all := lw_g (lw_at lw_m5 59 rfl) rfl
theorem q1150 : (Jvm.Cond.interfaceEntry "WideMap$Node" (65 : Nat)) ∈ lw_tbl := lw_at lw_m5 60 rfl
theorem q1151 : (Jvm.Cond.methodLink "WideMap$Node" (65 : Nat) ({ cls := "WideMap$Node", name := "levels", desc := "()I" } : Jvm.MethodName)) ∈ lw_all := lw_g (lw_at lw_m5 61 rfl) rfl
theorem q1193 : (Jvm.Cond.interfaceMethod "WideMap$Node" "WideMap$Node" "hasIn" "(LWideMap$Node;)Z") ∈ lw_tbl := lw_at lw_m5 103 rfl
theorem q1194 : (Jvm.Cond.declares ({ cls := "WideMap$Node", name := "hasIn", desc := "(LWideMap$Node;)Z" } : Jvm.MethodName)) ∈ lw_tbl := lw_at lw_m5 104 rfl
theorem q1196 : (Jvm.Cond.instanceMethod ({ cls := "WideMap$Node", name := "hasIn", desc := "(LWideMap$Node;)Z" } : Jvm.MethodName)) ∈ lw_all := lw_g (lw_at lw_m5 106 rfl) rfl
theorem q1197 : (Jvm.Cond.publicMethod ({ cls := "WideMap$Node", name := "hasIn", desc := "(LWideMap$Node;)Z" } : Jvm.MethodName)) ∈ lw_tbl := lw_at lw_m5 107 rfl
theorem q1198 : (Jvm.Cond.code ({ cls := "WideMap$Node", name := "hasIn", desc := "(LWideMap$Node;)Z" } : Jvm.MethodName) prog_6_method_24_code (3 : Nat) (Option.some Jvm.ClassFile.FieldType.boolean)) ∈ lw_all := lw_g (lw_at lw_m5 108 rfl) rfl
theorem q1199 : (Jvm.Cond.interfaceEntry "WideMap$Node" (68 : Nat)) ∈ lw_tbl := lw_at lw_m5 109 rfl
theorem q1200 : (Jvm.Cond.methodLink "WideMap$Node" (68 : Nat) ({ cls := "WideMap$Node", name := "hasIn", desc := "(LWideMap$Node;)Z" } : Jvm.MethodName)) ∈ lw_all := lw_g (lw_at lw_m5 110 rfl) rfl
theorem q1226 : (Jvm.Cond.interfaceMethod "WideMap$Node" "WideMap$Node" "takes" "(LWideMap$Token;II)V") ∈ lw_tbl := lw_at lw_m5 136 rfl
theorem q1227 : (Jvm.Cond.declares ({ cls := "WideMap$Node", name := "takes", desc := "(LWideMap$Token;II)V" } : Jvm.MethodName)) ∈ lw_tbl := lw_at lw_m5 137 rfl
theorem q1252 : (Jvm.Cond.interfaceMethod "WideMap$Node" "WideMap$Node" "lastOf" "(LWideMap$Node;)V") ∈ lw_tbl := lw_at lw_m5 162 rfl
theorem q1253 : (Jvm.Cond.declares ({ cls := "WideMap$Node", name := "lastOf", desc := "(LWideMap$Node;)V" } : Jvm.MethodName)) ∈ lw_tbl := lw_at lw_m5 163 rfl
theorem q1270 : (Jvm.Cond.interfaceMethod "WideMap$Node" "WideMap$Node" "firstOf" "(LWideMap$Node;)V") ∈ lw_tbl := lw_at lw_m5 180 rfl
theorem q1271 : (Jvm.Cond.declares ({ cls := "WideMap$Node", name := "firstOf", desc := "(LWideMap$Node;)V" } : Jvm.MethodName)) ∈ lw_tbl := lw_at lw_m5 181 rfl
theorem q1284 : (Jvm.Cond.interfaceMethod "WideMap$Node" "WideMap$Node" "allOf" "(LWideMap$Node;)V") ∈ lw_tbl := lw_at lw_m5 194 rfl
theorem q1285 : (Jvm.Cond.declares ({ cls := "WideMap$Node", name := "allOf", desc := "(LWideMap$Node;)V" } : Jvm.MethodName)) ∈ lw_tbl := lw_at lw_m5 195 rfl
theorem q1497 : (Jvm.Cond.interfaceMethod "WideMap$Node" "WideMap$Node" "shows" "(Ljava/lang/StringBuilder;)V") ∈ lw_tbl := lw_at lw_m6 167 rfl
theorem q1498 : (Jvm.Cond.declares ({ cls := "WideMap$Node", name := "shows", desc := "(Ljava/lang/StringBuilder;)V" } : Jvm.MethodName)) ∈ lw_tbl := lw_at lw_m6 168 rfl
/-! WideMap$Marked -/
set_option maxRecDepth 100000
def RX6 : String := "WideMap$Marked"
abbrev cX6_init : ByteArray := prog_5_method_1_code
def yX6_init : MethodName := ⟨RX6, "<init>", "(LWideMap$Token;)V"⟩
def dkwX6_init_0 : List UInt8 := [42, 183, 0, 1, 42, 43, 181, 0, 7, 177]
abbrev dktX6_init_0 : List UInt8 := dkwX6_init_0 ++ []
theorem dksX6_init_0 : cX6_init.data.toList.drop 0 = dktX6_init_0 := by decide +kernel
theorem dX6_init_0 : decode cX6_init 0 = .ok (.aload_n 0, 1) := dk_42 (dk_at dksX6_init_0 0 rfl rfl)
theorem dX6_init_1 : decode cX6_init 1 = .ok (.invokespecial 1, 3) := dk_183 0 1 (dk_at dksX6_init_0 1 rfl rfl)
theorem dX6_init_4 : decode cX6_init 4 = .ok (.aload_n 0, 1) := dk_42 (dk_at dksX6_init_0 4 rfl rfl)
theorem dX6_init_5 : decode cX6_init 5 = .ok (.aload_n 1, 1) := dk_43 (dk_at dksX6_init_0 5 rfl rfl)
theorem dX6_init_6 : decode cX6_init 6 = .ok (.putfield 7, 3) := dk_181 0 7 (dk_at dksX6_init_0 6 rfl rfl)
theorem dX6_init_9 : decode cX6_init 9 = .ok (.return_, 1) := dk_177 (dk_at dksX6_init_0 9 rfl rfl)
abbrev cX6_many : ByteArray := prog_5_method_3_code
def yX6_many : MethodName := ⟨RX6, "many", "()I"⟩
theorem dX6_many_0 : decode cX6_many 0 = .ok (.aload_n 0, 1) := by decide +kernel
theorem dX6_many_1 : decode cX6_many 1 = .ok (.getfield 13, 3) := by decide +kernel
theorem dX6_many_4 : decode cX6_many 4 = .ok (.ireturn, 1) := by decide +kernel
abbrev cX6_token : ByteArray := prog_5_method_2_code
def yX6_token : MethodName := ⟨RX6, "token", "()LWideMap$Token;"⟩
theorem dX6_token_0 : decode cX6_token 0 = .ok (.aload_n 0, 1) := by decide +kernel
theorem dX6_token_1 : decode cX6_token 1 = .ok (.getfield 7, 3) := by decide +kernel
theorem dX6_token_4 : decode cX6_token 4 = .ok (.areturn, 1) := by decide +kernel
abbrev cX6_isStamped : ByteArray := prog_5_method_4_code
def yX6_isStamped : MethodName := ⟨RX6, "isStamped", "(I)Z"⟩
def dkwX6_isStamped_0 : List UInt8 := [42, 180, 0, 17, 27, 160, 0, 7, 4, 167, 0, 4, 3, 172]
abbrev dktX6_isStamped_0 : List UInt8 := dkwX6_isStamped_0 ++ []
theorem dksX6_isStamped_0 : cX6_isStamped.data.toList.drop 0 = dktX6_isStamped_0 := by decide +kernel
theorem dX6_isStamped_0 : decode cX6_isStamped 0 = .ok (.aload_n 0, 1) := dk_42 (dk_at dksX6_isStamped_0 0 rfl rfl)
theorem dX6_isStamped_1 : decode cX6_isStamped 1 = .ok (.getfield 17, 3) := dk_180 0 17 (dk_at dksX6_isStamped_0 1 rfl rfl)
theorem dX6_isStamped_4 : decode cX6_isStamped 4 = .ok (.iload_n 1, 1) := dk_27 (dk_at dksX6_isStamped_0 4 rfl rfl)
theorem dX6_isStamped_5 : decode cX6_isStamped 5 = .ok (.if_icmp .ne 7, 3) := dk_160 0 7 (dk_at dksX6_isStamped_0 5 rfl rfl)
theorem dX6_isStamped_8 : decode cX6_isStamped 8 = .ok (.iconst 1, 1) := dk_4 (dk_at dksX6_isStamped_0 8 rfl rfl)
theorem dX6_isStamped_9 : decode cX6_isStamped 9 = .ok (.goto 4, 3) := dk_167 0 4 (dk_at dksX6_isStamped_0 9 rfl rfl)
theorem dX6_isStamped_12 : decode cX6_isStamped 12 = .ok (.iconst 0, 1) := dk_3 (dk_at dksX6_isStamped_0 12 rfl rfl)
theorem dX6_isStamped_13 : decode cX6_isStamped 13 = .ok (.ireturn, 1) := dk_172 (dk_at dksX6_isStamped_0 13 rfl rfl)
abbrev cX6_stamp : ByteArray := prog_5_method_5_code
def yX6_stamp : MethodName := ⟨RX6, "stamp", "(I)V"⟩
def dkwX6_stamp_0 : List UInt8 := [42, 27, 181, 0, 17, 177]
abbrev dktX6_stamp_0 : List UInt8 := dkwX6_stamp_0 ++ []
theorem dksX6_stamp_0 : cX6_stamp.data.toList.drop 0 = dktX6_stamp_0 := by decide +kernel
theorem dX6_stamp_0 : decode cX6_stamp 0 = .ok (.aload_n 0, 1) := dk_42 (dk_at dksX6_stamp_0 0 rfl rfl)
theorem dX6_stamp_1 : decode cX6_stamp 1 = .ok (.iload_n 1, 1) := dk_27 (dk_at dksX6_stamp_0 1 rfl rfl)
theorem dX6_stamp_2 : decode cX6_stamp 2 = .ok (.putfield 17, 3) := dk_181 0 17 (dk_at dksX6_stamp_0 2 rfl rfl)
theorem dX6_stamp_5 : decode cX6_stamp 5 = .ok (.return_, 1) := dk_177 (dk_at dksX6_stamp_0 5 rfl rfl)
theorem q153 : (Jvm.Cond.initialized "WideMap$Marked") ∈ lw_all := lw_g (lw_at lw_m1 23 rfl) rfl
theorem q843 : (Jvm.Cond.instanceMethod ({ cls := "WideMap$Marked", name := "<init>", desc := "(LWideMap$Token;)V" } : Jvm.MethodName)) ∈ lw_all := lw_g (lw_at lw_m3 233 rfl) rfl
theorem q844 : (Jvm.Cond.code ({ cls := "WideMap$Marked", name := "<init>", desc := "(LWideMap$Token;)V" } : Jvm.MethodName) prog_5_method_1_code (2 : Nat) (Option.none : Option Jvm.ClassFile.FieldType)) ∈ lw_all := lw_g (lw_at lw_m3 234 rfl) rfl
theorem q845 : (Jvm.Cond.methodLink "WideMap$Marked" (1 : Nat) ({ cls := "java/lang/Object", name := "<init>", desc := "()V" } : Jvm.MethodName)) ∈ lw_all := lw_g (lw_at lw_m3 235 rfl) rfl
theorem q848 : (Jvm.Cond.fieldLink "WideMap$Marked" (7 : Nat) "WideMap$Marked" "token" "LWideMap$Token;") ∈ lw_all := lw_g (lw_at lw_m3 238 rfl) rfl
theorem q849 : (Jvm.Cond.fieldLink "WideMap$Marked" (13 : Nat) "WideMap$Marked" "n" "I") ∈ lw_all := lw_g (lw_at lw_m3 239 rfl) rfl
theorem q855 : (Jvm.Cond.fieldLink "WideMap$Marked" (17 : Nat) "WideMap$Marked" "stamp" "I") ∈ lw_all := lw_g (lw_at lw_m4 5 rfl) rfl
theorem q861 : (Jvm.Cond.soleField "WideMap$Marked" "token") ∈ lw_all := lw_g (lw_at lw_m4 11 rfl) rfl
theorem q863 : (Jvm.Cond.soleField "WideMap$Marked" "n") ∈ lw_all := lw_g (lw_at lw_m4 13 rfl) rfl
theorem q865 : (Jvm.Cond.soleField "WideMap$Marked" "stamp") ∈ lw_all := lw_g (lw_at lw_m4 15 rfl) rfl
theorem q907 : (Jvm.Cond.instanceMethod ({ cls := "WideMap$Marked", name := "many", desc := "()I" } : Jvm.MethodName)) ∈ lw_all := lw_g (lw_at lw_m4 57 rfl) rfl
theorem q908 : (Jvm.Cond.publicMethod ({ cls := "WideMap$Marked", name := "many", desc := "()I" } : Jvm.MethodName)) ∈ lw_tbl := lw_at lw_m4 58 rfl
theorem q909 : (Jvm.Cond.code ({ cls := "WideMap$Marked", name := "many", desc := "()I" } : Jvm.MethodName) prog_5_method_3_code (1 : Nat) (Option.some Jvm.ClassFile.FieldType.int)) ∈ lw_all := lw_g (lw_at lw_m4 59 rfl) rfl
theorem q997 : (Jvm.Cond.instanceMethod ({ cls := "WideMap$Marked", name := "token", desc := "()LWideMap$Token;" } : Jvm.MethodName)) ∈ lw_all := lw_g (lw_at lw_m4 147 rfl) rfl
theorem q998 : (Jvm.Cond.publicMethod ({ cls := "WideMap$Marked", name := "token", desc := "()LWideMap$Token;" } : Jvm.MethodName)) ∈ lw_tbl := lw_at lw_m4 148 rfl
theorem q999 : (Jvm.Cond.code ({ cls := "WideMap$Marked", name := "token", desc := "()LWideMap$Token;" } : Jvm.MethodName) prog_5_method_2_code (1 : Nat) (Option.some (Jvm.ClassFile.FieldType.object "WideMap$Token"))) ∈ lw_all := lw_g (lw_at lw_m4 149 rfl) rfl
theorem q1123 : (Jvm.Cond.instanceMethod ({ cls := "WideMap$Marked", name := "isStamped", desc := "(I)Z" } : Jvm.MethodName)) ∈ lw_all := lw_g (lw_at lw_m5 33 rfl) rfl
theorem q1124 : (Jvm.Cond.publicMethod ({ cls := "WideMap$Marked", name := "isStamped", desc := "(I)Z" } : Jvm.MethodName)) ∈ lw_tbl := lw_at lw_m5 34 rfl
theorem q1125 : (Jvm.Cond.code ({ cls := "WideMap$Marked", name := "isStamped", desc := "(I)Z" } : Jvm.MethodName) prog_5_method_4_code (2 : Nat) (Option.some Jvm.ClassFile.FieldType.boolean)) ∈ lw_all := lw_g (lw_at lw_m5 35 rfl) rfl
theorem q1134 : (Jvm.Cond.instanceMethod ({ cls := "WideMap$Marked", name := "stamp", desc := "(I)V" } : Jvm.MethodName)) ∈ lw_all := lw_g (lw_at lw_m5 44 rfl) rfl
theorem q1135 : (Jvm.Cond.publicMethod ({ cls := "WideMap$Marked", name := "stamp", desc := "(I)V" } : Jvm.MethodName)) ∈ lw_tbl := lw_at lw_m5 45 rfl
theorem q1136 : (Jvm.Cond.code ({ cls := "WideMap$Marked", name := "stamp", desc := "(I)V" } : Jvm.MethodName) prog_5_method_5_code (2 : Nat) (Option.none : Option Jvm.ClassFile.FieldType)) ∈ lw_all := lw_g (lw_at lw_m5 46 rfl) rfl
/-! WideMap$Leaf -/
set_option maxRecDepth 100000
def RX7 : String := "WideMap$Leaf"
def TX7 : u_T := fun k => match k with
  | 0 => ("WideMap$Marked", "token", "LWideMap$Token;", true)
  | 1 => ("WideMap$Marked", "n", "I", false)
  | 2 => ("WideMap$Marked", "stamp", "I", false)
  | 3 => ("WideMap$Leaf", "keys", "[I", true)
  | _ => ("WideMap$Leaf", "values", "[I", true)
def tyX7 : Nat → FieldType := fun k => match k with
  | 0 => .object "WideMap$Token"
  | 1 => .int
  | 2 => .int
  | 3 => .array .int
  | _ => .array .int
abbrev wsX70 : List Cond := u_ws RX7 TX7 5
theorem nmX7 : ∀ a, a < 5 → ∀ b, b < 5 → a ≠ b → (TX7 a).2.1 ≠ (TX7 b).2.1 := by decide +kernel
theorem tyX7_ok : ∀ k, k < 5 → parseFieldDescriptor (TX7 k).2.2.1 = some (tyX7 k) := by decide +kernel
abbrev cX7_init : ByteArray := prog_4_method_1_code
def yX7_init : MethodName := ⟨RX7, "<init>", "(LWideMap$Token;I)V"⟩
def dkwX7_init_0 : List UInt8 := [42, 43, 183, 0, 3, 42, 28, 4, 96, 188, 10, 181, 0, 9, 42, 28, 4, 96, 188, 10, 181, 0, 15, 177]
abbrev dktX7_init_0 : List UInt8 := dkwX7_init_0 ++ []
theorem dksX7_init_0 : cX7_init.data.toList.drop 0 = dktX7_init_0 := by decide +kernel
theorem dX7_init_0 : decode cX7_init 0 = .ok (.aload_n 0, 1) := dk_42 (dk_at dksX7_init_0 0 rfl rfl)
theorem dX7_init_1 : decode cX7_init 1 = .ok (.aload_n 1, 1) := dk_43 (dk_at dksX7_init_0 1 rfl rfl)
theorem dX7_init_2 : decode cX7_init 2 = .ok (.invokespecial 3, 3) := dk_183 0 3 (dk_at dksX7_init_0 2 rfl rfl)
theorem dX7_init_5 : decode cX7_init 5 = .ok (.aload_n 0, 1) := dk_42 (dk_at dksX7_init_0 5 rfl rfl)
theorem dX7_init_6 : decode cX7_init 6 = .ok (.iload_n 2, 1) := dk_28 (dk_at dksX7_init_0 6 rfl rfl)
theorem dX7_init_7 : decode cX7_init 7 = .ok (.iconst 1, 1) := dk_4 (dk_at dksX7_init_0 7 rfl rfl)
theorem dX7_init_8 : decode cX7_init 8 = .ok (.iadd, 1) := dk_96 (dk_at dksX7_init_0 8 rfl rfl)
theorem dX7_init_9 : decode cX7_init 9 = .ok (.newarray .int, 2) := dk_188_10 (dk_at dksX7_init_0 9 rfl rfl)
theorem dX7_init_11 : decode cX7_init 11 = .ok (.putfield 9, 3) := dk_181 0 9 (dk_at dksX7_init_0 11 rfl rfl)
theorem dX7_init_14 : decode cX7_init 14 = .ok (.aload_n 0, 1) := dk_42 (dk_at dksX7_init_0 14 rfl rfl)
theorem dX7_init_15 : decode cX7_init 15 = .ok (.iload_n 2, 1) := dk_28 (dk_at dksX7_init_0 15 rfl rfl)
theorem dX7_init_16 : decode cX7_init 16 = .ok (.iconst 1, 1) := dk_4 (dk_at dksX7_init_0 16 rfl rfl)
theorem dX7_init_17 : decode cX7_init 17 = .ok (.iadd, 1) := dk_96 (dk_at dksX7_init_0 17 rfl rfl)
theorem dX7_init_18 : decode cX7_init 18 = .ok (.newarray .int, 2) := dk_188_10 (dk_at dksX7_init_0 18 rfl rfl)
theorem dX7_init_20 : decode cX7_init 20 = .ok (.putfield 15, 3) := dk_181 0 15 (dk_at dksX7_init_0 20 rfl rfl)
theorem dX7_init_23 : decode cX7_init 23 = .ok (.return_, 1) := dk_177 (dk_at dksX7_init_0 23 rfl rfl)
abbrev cX7_isLeaf : ByteArray := prog_4_method_2_code
def yX7_isLeaf : MethodName := ⟨RX7, "isLeaf", "()Z"⟩
theorem dX7_isLeaf_0 : decode cX7_isLeaf 0 = .ok (.iconst 1, 1) := by decide +kernel
theorem dX7_isLeaf_1 : decode cX7_isLeaf 1 = .ok (.ireturn, 1) := by decide +kernel
abbrev cX7_kid : ByteArray := prog_4_method_4_code
def yX7_kid : MethodName := ⟨RX7, "kid", "(I)LWideMap$Node;"⟩
theorem dX7_kid_0 : decode cX7_kid 0 = .ok (.aconst_null, 1) := by decide +kernel
theorem dX7_kid_1 : decode cX7_kid 1 = .ok (.areturn, 1) := by decide +kernel
abbrev cX7_low : ByteArray := prog_4_method_3_code
def yX7_low : MethodName := ⟨RX7, "low", "()I"⟩
def dkwX7_low_0 : List UInt8 := [42, 180, 0, 18, 154, 0, 7, 2, 167, 0, 9, 42, 180, 0, 9, 3, 46, 172]
abbrev dktX7_low_0 : List UInt8 := dkwX7_low_0 ++ []
theorem dksX7_low_0 : cX7_low.data.toList.drop 0 = dktX7_low_0 := by decide +kernel
theorem dX7_low_0 : decode cX7_low 0 = .ok (.aload_n 0, 1) := dk_42 (dk_at dksX7_low_0 0 rfl rfl)
theorem dX7_low_1 : decode cX7_low 1 = .ok (.getfield 18, 3) := dk_180 0 18 (dk_at dksX7_low_0 1 rfl rfl)
theorem dX7_low_4 : decode cX7_low 4 = .ok (.ifCond .ne 7, 3) := dk_154 0 7 (dk_at dksX7_low_0 4 rfl rfl)
theorem dX7_low_7 : decode cX7_low 7 = .ok (.iconst (-1), 1) := dk_2 (dk_at dksX7_low_0 7 rfl rfl)
theorem dX7_low_8 : decode cX7_low 8 = .ok (.goto 9, 3) := dk_167 0 9 (dk_at dksX7_low_0 8 rfl rfl)
theorem dX7_low_11 : decode cX7_low 11 = .ok (.aload_n 0, 1) := dk_42 (dk_at dksX7_low_0 11 rfl rfl)
theorem dX7_low_12 : decode cX7_low 12 = .ok (.getfield 9, 3) := dk_180 0 9 (dk_at dksX7_low_0 12 rfl rfl)
theorem dX7_low_15 : decode cX7_low 15 = .ok (.iconst 0, 1) := dk_3 (dk_at dksX7_low_0 15 rfl rfl)
theorem dX7_low_16 : decode cX7_low 16 = .ok (.iaload, 1) := dk_46 (dk_at dksX7_low_0 16 rfl rfl)
theorem dX7_low_17 : decode cX7_low 17 = .ok (.ireturn, 1) := dk_172 (dk_at dksX7_low_0 17 rfl rfl)
abbrev cX7_keyAt : ByteArray := prog_4_method_5_code
def yX7_keyAt : MethodName := ⟨RX7, "keyAt", "(I)I"⟩
def dkwX7_keyAt_0 : List UInt8 := [42, 180, 0, 9, 27, 46, 172]
abbrev dktX7_keyAt_0 : List UInt8 := dkwX7_keyAt_0 ++ []
theorem dksX7_keyAt_0 : cX7_keyAt.data.toList.drop 0 = dktX7_keyAt_0 := by decide +kernel
theorem dX7_keyAt_0 : decode cX7_keyAt 0 = .ok (.aload_n 0, 1) := dk_42 (dk_at dksX7_keyAt_0 0 rfl rfl)
theorem dX7_keyAt_1 : decode cX7_keyAt 1 = .ok (.getfield 9, 3) := dk_180 0 9 (dk_at dksX7_keyAt_0 1 rfl rfl)
theorem dX7_keyAt_4 : decode cX7_keyAt 4 = .ok (.iload_n 1, 1) := dk_27 (dk_at dksX7_keyAt_0 4 rfl rfl)
theorem dX7_keyAt_5 : decode cX7_keyAt 5 = .ok (.iaload, 1) := dk_46 (dk_at dksX7_keyAt_0 5 rfl rfl)
theorem dX7_keyAt_6 : decode cX7_keyAt 6 = .ok (.ireturn, 1) := dk_172 (dk_at dksX7_keyAt_0 6 rfl rfl)
abbrev cX7_valueAt : ByteArray := prog_4_method_6_code
def yX7_valueAt : MethodName := ⟨RX7, "valueAt", "(I)I"⟩
def dkwX7_valueAt_0 : List UInt8 := [42, 180, 0, 15, 27, 46, 172]
abbrev dktX7_valueAt_0 : List UInt8 := dkwX7_valueAt_0 ++ []
theorem dksX7_valueAt_0 : cX7_valueAt.data.toList.drop 0 = dktX7_valueAt_0 := by decide +kernel
theorem dX7_valueAt_0 : decode cX7_valueAt 0 = .ok (.aload_n 0, 1) := dk_42 (dk_at dksX7_valueAt_0 0 rfl rfl)
theorem dX7_valueAt_1 : decode cX7_valueAt 1 = .ok (.getfield 15, 3) := dk_180 0 15 (dk_at dksX7_valueAt_0 1 rfl rfl)
theorem dX7_valueAt_4 : decode cX7_valueAt 4 = .ok (.iload_n 1, 1) := dk_27 (dk_at dksX7_valueAt_0 4 rfl rfl)
theorem dX7_valueAt_5 : decode cX7_valueAt 5 = .ok (.iaload, 1) := dk_46 (dk_at dksX7_valueAt_0 5 rfl rfl)
theorem dX7_valueAt_6 : decode cX7_valueAt 6 = .ok (.ireturn, 1) := dk_172 (dk_at dksX7_valueAt_0 6 rfl rfl)
abbrev cX7_copied : ByteArray := prog_4_method_7_code
def yX7_copied : MethodName := ⟨RX7, "copied", "(LWideMap$Token;)LWideMap$Node;"⟩
def dkwX7_copied_2 : List UInt8 := [167, 255, 228, 44, 42, 180, 0, 18, 181, 0, 18, 44, 176]
abbrev dktX7_copied_2 : List UInt8 := dkwX7_copied_2 ++ []
def dkwX7_copied_1 : List UInt8 := [162, 0, 26, 44, 29, 42, 180, 0, 9, 29, 46, 42, 180, 0, 15, 29, 46, 182, 0, 25, 132, 3, 1]
abbrev dktX7_copied_1 : List UInt8 := dkwX7_copied_1 ++ dktX7_copied_2
def dkwX7_copied_0 : List UInt8 := [187, 0, 10, 89, 43, 42, 180, 0, 9, 190, 4, 100, 183, 0, 22, 77, 3, 62, 29, 42, 180, 0, 18]
abbrev dktX7_copied_0 : List UInt8 := dkwX7_copied_0 ++ dktX7_copied_1
theorem dksX7_copied_0 : cX7_copied.data.toList.drop 0 = dktX7_copied_0 := by decide +kernel
theorem dksX7_copied_1 : cX7_copied.data.toList.drop 23 = dktX7_copied_1 := dk_seg dksX7_copied_0 23 rfl rfl
theorem dksX7_copied_2 : cX7_copied.data.toList.drop 46 = dktX7_copied_2 := dk_seg dksX7_copied_1 23 rfl rfl
theorem dX7_copied_0 : decode cX7_copied 0 = .ok (.new 10, 3) := dk_187 0 10 (dk_at dksX7_copied_0 0 rfl rfl)
theorem dX7_copied_3 : decode cX7_copied 3 = .ok (.dup, 1) := dk_89 (dk_at dksX7_copied_0 3 rfl rfl)
theorem dX7_copied_4 : decode cX7_copied 4 = .ok (.aload_n 1, 1) := dk_43 (dk_at dksX7_copied_0 4 rfl rfl)
theorem dX7_copied_5 : decode cX7_copied 5 = .ok (.aload_n 0, 1) := dk_42 (dk_at dksX7_copied_0 5 rfl rfl)
theorem dX7_copied_6 : decode cX7_copied 6 = .ok (.getfield 9, 3) := dk_180 0 9 (dk_at dksX7_copied_0 6 rfl rfl)
theorem dX7_copied_9 : decode cX7_copied 9 = .ok (.arraylength, 1) := dk_190 (dk_at dksX7_copied_0 9 rfl rfl)
theorem dX7_copied_10 : decode cX7_copied 10 = .ok (.iconst 1, 1) := dk_4 (dk_at dksX7_copied_0 10 rfl rfl)
theorem dX7_copied_11 : decode cX7_copied 11 = .ok (.isub, 1) := dk_100 (dk_at dksX7_copied_0 11 rfl rfl)
theorem dX7_copied_12 : decode cX7_copied 12 = .ok (.invokespecial 22, 3) := dk_183 0 22 (dk_at dksX7_copied_0 12 rfl rfl)
theorem dX7_copied_15 : decode cX7_copied 15 = .ok (.astore_n 2, 1) := dk_77 (dk_at dksX7_copied_0 15 rfl rfl)
theorem dX7_copied_16 : decode cX7_copied 16 = .ok (.iconst 0, 1) := dk_3 (dk_at dksX7_copied_0 16 rfl rfl)
theorem dX7_copied_17 : decode cX7_copied 17 = .ok (.istore_n 3, 1) := dk_62 (dk_at dksX7_copied_0 17 rfl rfl)
theorem dX7_copied_18 : decode cX7_copied 18 = .ok (.iload_n 3, 1) := dk_29 (dk_at dksX7_copied_0 18 rfl rfl)
theorem dX7_copied_19 : decode cX7_copied 19 = .ok (.aload_n 0, 1) := dk_42 (dk_at dksX7_copied_0 19 rfl rfl)
theorem dX7_copied_20 : decode cX7_copied 20 = .ok (.getfield 18, 3) := dk_180 0 18 (dk_at dksX7_copied_0 20 rfl rfl)
theorem dX7_copied_23 : decode cX7_copied 23 = .ok (.if_icmp .ge 26, 3) := dk_162 0 26 (dk_at dksX7_copied_1 0 rfl rfl)
theorem dX7_copied_26 : decode cX7_copied 26 = .ok (.aload_n 2, 1) := dk_44 (dk_at dksX7_copied_1 3 rfl rfl)
theorem dX7_copied_27 : decode cX7_copied 27 = .ok (.iload_n 3, 1) := dk_29 (dk_at dksX7_copied_1 4 rfl rfl)
theorem dX7_copied_28 : decode cX7_copied 28 = .ok (.aload_n 0, 1) := dk_42 (dk_at dksX7_copied_1 5 rfl rfl)
theorem dX7_copied_29 : decode cX7_copied 29 = .ok (.getfield 9, 3) := dk_180 0 9 (dk_at dksX7_copied_1 6 rfl rfl)
theorem dX7_copied_32 : decode cX7_copied 32 = .ok (.iload_n 3, 1) := dk_29 (dk_at dksX7_copied_1 9 rfl rfl)
theorem dX7_copied_33 : decode cX7_copied 33 = .ok (.iaload, 1) := dk_46 (dk_at dksX7_copied_1 10 rfl rfl)
theorem dX7_copied_34 : decode cX7_copied 34 = .ok (.aload_n 0, 1) := dk_42 (dk_at dksX7_copied_1 11 rfl rfl)
theorem dX7_copied_35 : decode cX7_copied 35 = .ok (.getfield 15, 3) := dk_180 0 15 (dk_at dksX7_copied_1 12 rfl rfl)
theorem dX7_copied_38 : decode cX7_copied 38 = .ok (.iload_n 3, 1) := dk_29 (dk_at dksX7_copied_1 15 rfl rfl)
theorem dX7_copied_39 : decode cX7_copied 39 = .ok (.iaload, 1) := dk_46 (dk_at dksX7_copied_1 16 rfl rfl)
theorem dX7_copied_40 : decode cX7_copied 40 = .ok (.invokevirtual 25, 3) := dk_182 0 25 (dk_at dksX7_copied_1 17 rfl rfl)
theorem dX7_copied_43 : decode cX7_copied 43 = .ok (.iinc 3 1, 3) := dk_132 3 1 (dk_at dksX7_copied_1 20 rfl rfl)
theorem dX7_copied_46 : decode cX7_copied 46 = .ok (.goto (-28), 3) := dk_167 255 228 (dk_at dksX7_copied_2 0 rfl rfl)
theorem dX7_copied_49 : decode cX7_copied 49 = .ok (.aload_n 2, 1) := dk_44 (dk_at dksX7_copied_2 3 rfl rfl)
theorem dX7_copied_50 : decode cX7_copied 50 = .ok (.aload_n 0, 1) := dk_42 (dk_at dksX7_copied_2 4 rfl rfl)
theorem dX7_copied_51 : decode cX7_copied 51 = .ok (.getfield 18, 3) := dk_180 0 18 (dk_at dksX7_copied_2 5 rfl rfl)
theorem dX7_copied_54 : decode cX7_copied 54 = .ok (.putfield 18, 3) := dk_181 0 18 (dk_at dksX7_copied_2 8 rfl rfl)
theorem dX7_copied_57 : decode cX7_copied 57 = .ok (.aload_n 2, 1) := dk_44 (dk_at dksX7_copied_2 11 rfl rfl)
theorem dX7_copied_58 : decode cX7_copied 58 = .ok (.areturn, 1) := dk_176 (dk_at dksX7_copied_2 12 rfl rfl)
abbrev cX7_put : ByteArray := prog_4_method_8_code
def yX7_put : MethodName := ⟨RX7, "put", "(III)V"⟩
def dkwX7_put_0 : List UInt8 := [42, 180, 0, 9, 27, 28, 79, 42, 180, 0, 15, 27, 29, 79, 177]
abbrev dktX7_put_0 : List UInt8 := dkwX7_put_0 ++ []
theorem dksX7_put_0 : cX7_put.data.toList.drop 0 = dktX7_put_0 := by decide +kernel
theorem dX7_put_0 : decode cX7_put 0 = .ok (.aload_n 0, 1) := dk_42 (dk_at dksX7_put_0 0 rfl rfl)
theorem dX7_put_1 : decode cX7_put 1 = .ok (.getfield 9, 3) := dk_180 0 9 (dk_at dksX7_put_0 1 rfl rfl)
theorem dX7_put_4 : decode cX7_put 4 = .ok (.iload_n 1, 1) := dk_27 (dk_at dksX7_put_0 4 rfl rfl)
theorem dX7_put_5 : decode cX7_put 5 = .ok (.iload_n 2, 1) := dk_28 (dk_at dksX7_put_0 5 rfl rfl)
theorem dX7_put_6 : decode cX7_put 6 = .ok (.iastore, 1) := dk_79 (dk_at dksX7_put_0 6 rfl rfl)
theorem dX7_put_7 : decode cX7_put 7 = .ok (.aload_n 0, 1) := dk_42 (dk_at dksX7_put_0 7 rfl rfl)
theorem dX7_put_8 : decode cX7_put 8 = .ok (.getfield 15, 3) := dk_180 0 15 (dk_at dksX7_put_0 8 rfl rfl)
theorem dX7_put_11 : decode cX7_put 11 = .ok (.iload_n 1, 1) := dk_27 (dk_at dksX7_put_0 11 rfl rfl)
theorem dX7_put_12 : decode cX7_put 12 = .ok (.iload_n 3, 1) := dk_29 (dk_at dksX7_put_0 12 rfl rfl)
theorem dX7_put_13 : decode cX7_put 13 = .ok (.iastore, 1) := dk_79 (dk_at dksX7_put_0 13 rfl rfl)
theorem dX7_put_14 : decode cX7_put 14 = .ok (.return_, 1) := dk_177 (dk_at dksX7_put_0 14 rfl rfl)
abbrev cX7_lays : ByteArray := prog_4_method_12_code
def yX7_lays : MethodName := ⟨RX7, "lays", "(LWideMap$Token;III)LWideMap$Node;"⟩
def dkwX7_lays_6 : List UInt8 := [167, 255, 212, 25, 6, 176]
abbrev dktX7_lays_6 : List UInt8 := dkwX7_lays_6 ++ []
def dkwX7_lays_5 : List UInt8 := [21, 7, 96, 46, 42, 180, 0, 15, 42, 180, 0, 18, 21, 7, 96, 46, 182, 0, 25, 132, 7, 1]
abbrev dktX7_lays_5 : List UInt8 := dkwX7_lays_5 ++ dktX7_lays_6
def dkwX7_lays_4 : List UInt8 := [54, 7, 21, 7, 25, 6, 180, 0, 18, 162, 0, 40, 25, 6, 21, 7, 42, 180, 0, 9, 42, 180, 0, 18]
abbrev dktX7_lays_4 : List UInt8 := dkwX7_lays_4 ++ dktX7_lays_5
def dkwX7_lays_3 : List UInt8 := [21, 4, 4, 96, 5, 108, 181, 0, 18, 42, 89, 180, 0, 18, 25, 6, 180, 0, 18, 100, 181, 0, 18, 3]
abbrev dktX7_lays_3 : List UInt8 := dkwX7_lays_3 ++ dktX7_lays_4
def dkwX7_lays_2 : List UInt8 := [163, 0, 5, 1, 176, 43, 182, 0, 37, 187, 0, 10, 89, 43, 21, 4, 183, 0, 22, 58, 6, 25, 6]
abbrev dktX7_lays_2 : List UInt8 := dkwX7_lays_2 ++ dktX7_lays_3
def dkwX7_lays_1 : List UInt8 := [159, 0, 9, 42, 21, 5, 182, 0, 33, 42, 21, 5, 28, 29, 182, 0, 25, 42, 180, 0, 18, 21, 4]
abbrev dktX7_lays_1 : List UInt8 := dkwX7_lays_1 ++ dktX7_lays_2
def dkwX7_lays_0 : List UInt8 := [42, 28, 182, 0, 29, 54, 5, 21, 5, 42, 180, 0, 18, 159, 0, 14, 42, 180, 0, 9, 21, 5, 46, 28]
abbrev dktX7_lays_0 : List UInt8 := dkwX7_lays_0 ++ dktX7_lays_1
theorem dksX7_lays_0 : cX7_lays.data.toList.drop 0 = dktX7_lays_0 := by decide +kernel
theorem dksX7_lays_1 : cX7_lays.data.toList.drop 24 = dktX7_lays_1 := dk_seg dksX7_lays_0 24 rfl rfl
theorem dksX7_lays_2 : cX7_lays.data.toList.drop 47 = dktX7_lays_2 := dk_seg dksX7_lays_1 23 rfl rfl
theorem dksX7_lays_3 : cX7_lays.data.toList.drop 70 = dktX7_lays_3 := dk_seg dksX7_lays_2 23 rfl rfl
theorem dksX7_lays_4 : cX7_lays.data.toList.drop 94 = dktX7_lays_4 := dk_seg dksX7_lays_3 24 rfl rfl
theorem dksX7_lays_5 : cX7_lays.data.toList.drop 118 = dktX7_lays_5 := dk_seg dksX7_lays_4 24 rfl rfl
theorem dksX7_lays_6 : cX7_lays.data.toList.drop 140 = dktX7_lays_6 := dk_seg dksX7_lays_5 22 rfl rfl
theorem dX7_lays_0 : decode cX7_lays 0 = .ok (.aload_n 0, 1) := dk_42 (dk_at dksX7_lays_0 0 rfl rfl)
theorem dX7_lays_1 : decode cX7_lays 1 = .ok (.iload_n 2, 1) := dk_28 (dk_at dksX7_lays_0 1 rfl rfl)
theorem dX7_lays_2 : decode cX7_lays 2 = .ok (.invokevirtual 29, 3) := dk_182 0 29 (dk_at dksX7_lays_0 2 rfl rfl)
theorem dX7_lays_5 : decode cX7_lays 5 = .ok (.istore 5, 2) := dk_54 5 (dk_at dksX7_lays_0 5 rfl rfl)
theorem dX7_lays_7 : decode cX7_lays 7 = .ok (.iload 5, 2) := dk_21 5 (dk_at dksX7_lays_0 7 rfl rfl)
theorem dX7_lays_9 : decode cX7_lays 9 = .ok (.aload_n 0, 1) := dk_42 (dk_at dksX7_lays_0 9 rfl rfl)
theorem dX7_lays_10 : decode cX7_lays 10 = .ok (.getfield 18, 3) := dk_180 0 18 (dk_at dksX7_lays_0 10 rfl rfl)
theorem dX7_lays_13 : decode cX7_lays 13 = .ok (.if_icmp .eq 14, 3) := dk_159 0 14 (dk_at dksX7_lays_0 13 rfl rfl)
theorem dX7_lays_16 : decode cX7_lays 16 = .ok (.aload_n 0, 1) := dk_42 (dk_at dksX7_lays_0 16 rfl rfl)
theorem dX7_lays_17 : decode cX7_lays 17 = .ok (.getfield 9, 3) := dk_180 0 9 (dk_at dksX7_lays_0 17 rfl rfl)
theorem dX7_lays_20 : decode cX7_lays 20 = .ok (.iload 5, 2) := dk_21 5 (dk_at dksX7_lays_0 20 rfl rfl)
theorem dX7_lays_22 : decode cX7_lays 22 = .ok (.iaload, 1) := dk_46 (dk_at dksX7_lays_0 22 rfl rfl)
theorem dX7_lays_23 : decode cX7_lays 23 = .ok (.iload_n 2, 1) := dk_28 (dk_at dksX7_lays_0 23 rfl rfl)
theorem dX7_lays_24 : decode cX7_lays 24 = .ok (.if_icmp .eq 9, 3) := dk_159 0 9 (dk_at dksX7_lays_1 0 rfl rfl)
theorem dX7_lays_27 : decode cX7_lays 27 = .ok (.aload_n 0, 1) := dk_42 (dk_at dksX7_lays_1 3 rfl rfl)
theorem dX7_lays_28 : decode cX7_lays 28 = .ok (.iload 5, 2) := dk_21 5 (dk_at dksX7_lays_1 4 rfl rfl)
theorem dX7_lays_30 : decode cX7_lays 30 = .ok (.invokevirtual 33, 3) := dk_182 0 33 (dk_at dksX7_lays_1 6 rfl rfl)
theorem dX7_lays_33 : decode cX7_lays 33 = .ok (.aload_n 0, 1) := dk_42 (dk_at dksX7_lays_1 9 rfl rfl)
theorem dX7_lays_34 : decode cX7_lays 34 = .ok (.iload 5, 2) := dk_21 5 (dk_at dksX7_lays_1 10 rfl rfl)
theorem dX7_lays_36 : decode cX7_lays 36 = .ok (.iload_n 2, 1) := dk_28 (dk_at dksX7_lays_1 12 rfl rfl)
theorem dX7_lays_37 : decode cX7_lays 37 = .ok (.iload_n 3, 1) := dk_29 (dk_at dksX7_lays_1 13 rfl rfl)
theorem dX7_lays_38 : decode cX7_lays 38 = .ok (.invokevirtual 25, 3) := dk_182 0 25 (dk_at dksX7_lays_1 14 rfl rfl)
theorem dX7_lays_41 : decode cX7_lays 41 = .ok (.aload_n 0, 1) := dk_42 (dk_at dksX7_lays_1 17 rfl rfl)
theorem dX7_lays_42 : decode cX7_lays 42 = .ok (.getfield 18, 3) := dk_180 0 18 (dk_at dksX7_lays_1 18 rfl rfl)
theorem dX7_lays_45 : decode cX7_lays 45 = .ok (.iload 4, 2) := dk_21 4 (dk_at dksX7_lays_1 21 rfl rfl)
theorem dX7_lays_47 : decode cX7_lays 47 = .ok (.if_icmp .gt 5, 3) := dk_163 0 5 (dk_at dksX7_lays_2 0 rfl rfl)
theorem dX7_lays_50 : decode cX7_lays 50 = .ok (.aconst_null, 1) := dk_1 (dk_at dksX7_lays_2 3 rfl rfl)
theorem dX7_lays_51 : decode cX7_lays 51 = .ok (.areturn, 1) := dk_176 (dk_at dksX7_lays_2 4 rfl rfl)
theorem dX7_lays_52 : decode cX7_lays 52 = .ok (.aload_n 1, 1) := dk_43 (dk_at dksX7_lays_2 5 rfl rfl)
theorem dX7_lays_53 : decode cX7_lays 53 = .ok (.invokevirtual 37, 3) := dk_182 0 37 (dk_at dksX7_lays_2 6 rfl rfl)
theorem dX7_lays_56 : decode cX7_lays 56 = .ok (.new 10, 3) := dk_187 0 10 (dk_at dksX7_lays_2 9 rfl rfl)
theorem dX7_lays_59 : decode cX7_lays 59 = .ok (.dup, 1) := dk_89 (dk_at dksX7_lays_2 12 rfl rfl)
theorem dX7_lays_60 : decode cX7_lays 60 = .ok (.aload_n 1, 1) := dk_43 (dk_at dksX7_lays_2 13 rfl rfl)
theorem dX7_lays_61 : decode cX7_lays 61 = .ok (.iload 4, 2) := dk_21 4 (dk_at dksX7_lays_2 14 rfl rfl)
theorem dX7_lays_63 : decode cX7_lays 63 = .ok (.invokespecial 22, 3) := dk_183 0 22 (dk_at dksX7_lays_2 16 rfl rfl)
theorem dX7_lays_66 : decode cX7_lays 66 = .ok (.astore 6, 2) := dk_58 6 (dk_at dksX7_lays_2 19 rfl rfl)
theorem dX7_lays_68 : decode cX7_lays 68 = .ok (.aload 6, 2) := dk_25 6 (dk_at dksX7_lays_2 21 rfl rfl)
theorem dX7_lays_70 : decode cX7_lays 70 = .ok (.iload 4, 2) := dk_21 4 (dk_at dksX7_lays_3 0 rfl rfl)
theorem dX7_lays_72 : decode cX7_lays 72 = .ok (.iconst 1, 1) := dk_4 (dk_at dksX7_lays_3 2 rfl rfl)
theorem dX7_lays_73 : decode cX7_lays 73 = .ok (.iadd, 1) := dk_96 (dk_at dksX7_lays_3 3 rfl rfl)
theorem dX7_lays_74 : decode cX7_lays 74 = .ok (.iconst 2, 1) := dk_5 (dk_at dksX7_lays_3 4 rfl rfl)
theorem dX7_lays_75 : decode cX7_lays 75 = .ok (.idiv, 1) := dk_108 (dk_at dksX7_lays_3 5 rfl rfl)
theorem dX7_lays_76 : decode cX7_lays 76 = .ok (.putfield 18, 3) := dk_181 0 18 (dk_at dksX7_lays_3 6 rfl rfl)
theorem dX7_lays_79 : decode cX7_lays 79 = .ok (.aload_n 0, 1) := dk_42 (dk_at dksX7_lays_3 9 rfl rfl)
theorem dX7_lays_80 : decode cX7_lays 80 = .ok (.dup, 1) := dk_89 (dk_at dksX7_lays_3 10 rfl rfl)
theorem dX7_lays_81 : decode cX7_lays 81 = .ok (.getfield 18, 3) := dk_180 0 18 (dk_at dksX7_lays_3 11 rfl rfl)
theorem dX7_lays_84 : decode cX7_lays 84 = .ok (.aload 6, 2) := dk_25 6 (dk_at dksX7_lays_3 14 rfl rfl)
theorem dX7_lays_86 : decode cX7_lays 86 = .ok (.getfield 18, 3) := dk_180 0 18 (dk_at dksX7_lays_3 16 rfl rfl)
theorem dX7_lays_89 : decode cX7_lays 89 = .ok (.isub, 1) := dk_100 (dk_at dksX7_lays_3 19 rfl rfl)
theorem dX7_lays_90 : decode cX7_lays 90 = .ok (.putfield 18, 3) := dk_181 0 18 (dk_at dksX7_lays_3 20 rfl rfl)
theorem dX7_lays_93 : decode cX7_lays 93 = .ok (.iconst 0, 1) := dk_3 (dk_at dksX7_lays_3 23 rfl rfl)
theorem dX7_lays_94 : decode cX7_lays 94 = .ok (.istore 7, 2) := dk_54 7 (dk_at dksX7_lays_4 0 rfl rfl)
theorem dX7_lays_96 : decode cX7_lays 96 = .ok (.iload 7, 2) := dk_21 7 (dk_at dksX7_lays_4 2 rfl rfl)
theorem dX7_lays_98 : decode cX7_lays 98 = .ok (.aload 6, 2) := dk_25 6 (dk_at dksX7_lays_4 4 rfl rfl)
theorem dX7_lays_100 : decode cX7_lays 100 = .ok (.getfield 18, 3) := dk_180 0 18 (dk_at dksX7_lays_4 6 rfl rfl)
theorem dX7_lays_103 : decode cX7_lays 103 = .ok (.if_icmp .ge 40, 3) := dk_162 0 40 (dk_at dksX7_lays_4 9 rfl rfl)
theorem dX7_lays_106 : decode cX7_lays 106 = .ok (.aload 6, 2) := dk_25 6 (dk_at dksX7_lays_4 12 rfl rfl)
theorem dX7_lays_108 : decode cX7_lays 108 = .ok (.iload 7, 2) := dk_21 7 (dk_at dksX7_lays_4 14 rfl rfl)
theorem dX7_lays_110 : decode cX7_lays 110 = .ok (.aload_n 0, 1) := dk_42 (dk_at dksX7_lays_4 16 rfl rfl)
theorem dX7_lays_111 : decode cX7_lays 111 = .ok (.getfield 9, 3) := dk_180 0 9 (dk_at dksX7_lays_4 17 rfl rfl)
theorem dX7_lays_114 : decode cX7_lays 114 = .ok (.aload_n 0, 1) := dk_42 (dk_at dksX7_lays_4 20 rfl rfl)
theorem dX7_lays_115 : decode cX7_lays 115 = .ok (.getfield 18, 3) := dk_180 0 18 (dk_at dksX7_lays_4 21 rfl rfl)
theorem dX7_lays_118 : decode cX7_lays 118 = .ok (.iload 7, 2) := dk_21 7 (dk_at dksX7_lays_5 0 rfl rfl)
theorem dX7_lays_120 : decode cX7_lays 120 = .ok (.iadd, 1) := dk_96 (dk_at dksX7_lays_5 2 rfl rfl)
theorem dX7_lays_121 : decode cX7_lays 121 = .ok (.iaload, 1) := dk_46 (dk_at dksX7_lays_5 3 rfl rfl)
theorem dX7_lays_122 : decode cX7_lays 122 = .ok (.aload_n 0, 1) := dk_42 (dk_at dksX7_lays_5 4 rfl rfl)
theorem dX7_lays_123 : decode cX7_lays 123 = .ok (.getfield 15, 3) := dk_180 0 15 (dk_at dksX7_lays_5 5 rfl rfl)
theorem dX7_lays_126 : decode cX7_lays 126 = .ok (.aload_n 0, 1) := dk_42 (dk_at dksX7_lays_5 8 rfl rfl)
theorem dX7_lays_127 : decode cX7_lays 127 = .ok (.getfield 18, 3) := dk_180 0 18 (dk_at dksX7_lays_5 9 rfl rfl)
theorem dX7_lays_130 : decode cX7_lays 130 = .ok (.iload 7, 2) := dk_21 7 (dk_at dksX7_lays_5 12 rfl rfl)
theorem dX7_lays_132 : decode cX7_lays 132 = .ok (.iadd, 1) := dk_96 (dk_at dksX7_lays_5 14 rfl rfl)
theorem dX7_lays_133 : decode cX7_lays 133 = .ok (.iaload, 1) := dk_46 (dk_at dksX7_lays_5 15 rfl rfl)
theorem dX7_lays_134 : decode cX7_lays 134 = .ok (.invokevirtual 25, 3) := dk_182 0 25 (dk_at dksX7_lays_5 16 rfl rfl)
theorem dX7_lays_137 : decode cX7_lays 137 = .ok (.iinc 7 1, 3) := dk_132 7 1 (dk_at dksX7_lays_5 19 rfl rfl)
theorem dX7_lays_140 : decode cX7_lays 140 = .ok (.goto (-44), 3) := dk_167 255 212 (dk_at dksX7_lays_6 0 rfl rfl)
theorem dX7_lays_143 : decode cX7_lays 143 = .ok (.aload 6, 2) := dk_25 6 (dk_at dksX7_lays_6 3 rfl rfl)
theorem dX7_lays_145 : decode cX7_lays 145 = .ok (.areturn, 1) := dk_176 (dk_at dksX7_lays_6 5 rfl rfl)
abbrev cX7_placeOf : ByteArray := prog_4_method_11_code
def yX7_placeOf : MethodName := ⟨RX7, "placeOf", "(I)I"⟩
def dkwX7_placeOf_1 : List UInt8 := [167, 255, 235, 28, 172]
abbrev dktX7_placeOf_1 : List UInt8 := dkwX7_placeOf_1 ++ []
def dkwX7_placeOf_0 : List UInt8 := [3, 61, 28, 42, 180, 0, 18, 162, 0, 19, 42, 180, 0, 9, 28, 46, 27, 162, 0, 9, 132, 2, 1]
abbrev dktX7_placeOf_0 : List UInt8 := dkwX7_placeOf_0 ++ dktX7_placeOf_1
theorem dksX7_placeOf_0 : cX7_placeOf.data.toList.drop 0 = dktX7_placeOf_0 := by decide +kernel
theorem dksX7_placeOf_1 : cX7_placeOf.data.toList.drop 23 = dktX7_placeOf_1 := dk_seg dksX7_placeOf_0 23 rfl rfl
theorem dX7_placeOf_0 : decode cX7_placeOf 0 = .ok (.iconst 0, 1) := dk_3 (dk_at dksX7_placeOf_0 0 rfl rfl)
theorem dX7_placeOf_1 : decode cX7_placeOf 1 = .ok (.istore_n 2, 1) := dk_61 (dk_at dksX7_placeOf_0 1 rfl rfl)
theorem dX7_placeOf_2 : decode cX7_placeOf 2 = .ok (.iload_n 2, 1) := dk_28 (dk_at dksX7_placeOf_0 2 rfl rfl)
theorem dX7_placeOf_3 : decode cX7_placeOf 3 = .ok (.aload_n 0, 1) := dk_42 (dk_at dksX7_placeOf_0 3 rfl rfl)
theorem dX7_placeOf_4 : decode cX7_placeOf 4 = .ok (.getfield 18, 3) := dk_180 0 18 (dk_at dksX7_placeOf_0 4 rfl rfl)
theorem dX7_placeOf_7 : decode cX7_placeOf 7 = .ok (.if_icmp .ge 19, 3) := dk_162 0 19 (dk_at dksX7_placeOf_0 7 rfl rfl)
theorem dX7_placeOf_10 : decode cX7_placeOf 10 = .ok (.aload_n 0, 1) := dk_42 (dk_at dksX7_placeOf_0 10 rfl rfl)
theorem dX7_placeOf_11 : decode cX7_placeOf 11 = .ok (.getfield 9, 3) := dk_180 0 9 (dk_at dksX7_placeOf_0 11 rfl rfl)
theorem dX7_placeOf_14 : decode cX7_placeOf 14 = .ok (.iload_n 2, 1) := dk_28 (dk_at dksX7_placeOf_0 14 rfl rfl)
theorem dX7_placeOf_15 : decode cX7_placeOf 15 = .ok (.iaload, 1) := dk_46 (dk_at dksX7_placeOf_0 15 rfl rfl)
theorem dX7_placeOf_16 : decode cX7_placeOf 16 = .ok (.iload_n 1, 1) := dk_27 (dk_at dksX7_placeOf_0 16 rfl rfl)
theorem dX7_placeOf_17 : decode cX7_placeOf 17 = .ok (.if_icmp .ge 9, 3) := dk_162 0 9 (dk_at dksX7_placeOf_0 17 rfl rfl)
theorem dX7_placeOf_20 : decode cX7_placeOf 20 = .ok (.iinc 2 1, 3) := dk_132 2 1 (dk_at dksX7_placeOf_0 20 rfl rfl)
theorem dX7_placeOf_23 : decode cX7_placeOf 23 = .ok (.goto (-21), 3) := dk_167 255 235 (dk_at dksX7_placeOf_1 0 rfl rfl)
theorem dX7_placeOf_26 : decode cX7_placeOf 26 = .ok (.iload_n 2, 1) := dk_28 (dk_at dksX7_placeOf_1 3 rfl rfl)
theorem dX7_placeOf_27 : decode cX7_placeOf 27 = .ok (.ireturn, 1) := dk_172 (dk_at dksX7_placeOf_1 4 rfl rfl)
abbrev cX7_makeRoom : ByteArray := prog_4_method_9_code
def yX7_makeRoom : MethodName := ⟨RX7, "makeRoom", "(I)V"⟩
def dkwX7_makeRoom_1 : List UInt8 := [28, 4, 100, 46, 182, 0, 25, 132, 2, 255, 167, 255, 227, 42, 89, 180, 0, 18, 4, 96, 181, 0, 18, 177]
abbrev dktX7_makeRoom_1 : List UInt8 := dkwX7_makeRoom_1 ++ []
def dkwX7_makeRoom_0 : List UInt8 := [42, 180, 0, 18, 61, 28, 27, 164, 0, 30, 42, 28, 42, 180, 0, 9, 28, 4, 100, 46, 42, 180, 0, 15]
abbrev dktX7_makeRoom_0 : List UInt8 := dkwX7_makeRoom_0 ++ dktX7_makeRoom_1
theorem dksX7_makeRoom_0 : cX7_makeRoom.data.toList.drop 0 = dktX7_makeRoom_0 := by decide +kernel
theorem dksX7_makeRoom_1 : cX7_makeRoom.data.toList.drop 24 = dktX7_makeRoom_1 := dk_seg dksX7_makeRoom_0 24 rfl rfl
theorem dX7_makeRoom_0 : decode cX7_makeRoom 0 = .ok (.aload_n 0, 1) := dk_42 (dk_at dksX7_makeRoom_0 0 rfl rfl)
theorem dX7_makeRoom_1 : decode cX7_makeRoom 1 = .ok (.getfield 18, 3) := dk_180 0 18 (dk_at dksX7_makeRoom_0 1 rfl rfl)
theorem dX7_makeRoom_4 : decode cX7_makeRoom 4 = .ok (.istore_n 2, 1) := dk_61 (dk_at dksX7_makeRoom_0 4 rfl rfl)
theorem dX7_makeRoom_5 : decode cX7_makeRoom 5 = .ok (.iload_n 2, 1) := dk_28 (dk_at dksX7_makeRoom_0 5 rfl rfl)
theorem dX7_makeRoom_6 : decode cX7_makeRoom 6 = .ok (.iload_n 1, 1) := dk_27 (dk_at dksX7_makeRoom_0 6 rfl rfl)
theorem dX7_makeRoom_7 : decode cX7_makeRoom 7 = .ok (.if_icmp .le 30, 3) := dk_164 0 30 (dk_at dksX7_makeRoom_0 7 rfl rfl)
theorem dX7_makeRoom_10 : decode cX7_makeRoom 10 = .ok (.aload_n 0, 1) := dk_42 (dk_at dksX7_makeRoom_0 10 rfl rfl)
theorem dX7_makeRoom_11 : decode cX7_makeRoom 11 = .ok (.iload_n 2, 1) := dk_28 (dk_at dksX7_makeRoom_0 11 rfl rfl)
theorem dX7_makeRoom_12 : decode cX7_makeRoom 12 = .ok (.aload_n 0, 1) := dk_42 (dk_at dksX7_makeRoom_0 12 rfl rfl)
theorem dX7_makeRoom_13 : decode cX7_makeRoom 13 = .ok (.getfield 9, 3) := dk_180 0 9 (dk_at dksX7_makeRoom_0 13 rfl rfl)
theorem dX7_makeRoom_16 : decode cX7_makeRoom 16 = .ok (.iload_n 2, 1) := dk_28 (dk_at dksX7_makeRoom_0 16 rfl rfl)
theorem dX7_makeRoom_17 : decode cX7_makeRoom 17 = .ok (.iconst 1, 1) := dk_4 (dk_at dksX7_makeRoom_0 17 rfl rfl)
theorem dX7_makeRoom_18 : decode cX7_makeRoom 18 = .ok (.isub, 1) := dk_100 (dk_at dksX7_makeRoom_0 18 rfl rfl)
theorem dX7_makeRoom_19 : decode cX7_makeRoom 19 = .ok (.iaload, 1) := dk_46 (dk_at dksX7_makeRoom_0 19 rfl rfl)
theorem dX7_makeRoom_20 : decode cX7_makeRoom 20 = .ok (.aload_n 0, 1) := dk_42 (dk_at dksX7_makeRoom_0 20 rfl rfl)
theorem dX7_makeRoom_21 : decode cX7_makeRoom 21 = .ok (.getfield 15, 3) := dk_180 0 15 (dk_at dksX7_makeRoom_0 21 rfl rfl)
theorem dX7_makeRoom_24 : decode cX7_makeRoom 24 = .ok (.iload_n 2, 1) := dk_28 (dk_at dksX7_makeRoom_1 0 rfl rfl)
theorem dX7_makeRoom_25 : decode cX7_makeRoom 25 = .ok (.iconst 1, 1) := dk_4 (dk_at dksX7_makeRoom_1 1 rfl rfl)
theorem dX7_makeRoom_26 : decode cX7_makeRoom 26 = .ok (.isub, 1) := dk_100 (dk_at dksX7_makeRoom_1 2 rfl rfl)
theorem dX7_makeRoom_27 : decode cX7_makeRoom 27 = .ok (.iaload, 1) := dk_46 (dk_at dksX7_makeRoom_1 3 rfl rfl)
theorem dX7_makeRoom_28 : decode cX7_makeRoom 28 = .ok (.invokevirtual 25, 3) := dk_182 0 25 (dk_at dksX7_makeRoom_1 4 rfl rfl)
theorem dX7_makeRoom_31 : decode cX7_makeRoom 31 = .ok (.iinc 2 (-1), 3) := dk_132 2 255 (dk_at dksX7_makeRoom_1 7 rfl rfl)
theorem dX7_makeRoom_34 : decode cX7_makeRoom 34 = .ok (.goto (-29), 3) := dk_167 255 227 (dk_at dksX7_makeRoom_1 10 rfl rfl)
theorem dX7_makeRoom_37 : decode cX7_makeRoom 37 = .ok (.aload_n 0, 1) := dk_42 (dk_at dksX7_makeRoom_1 13 rfl rfl)
theorem dX7_makeRoom_38 : decode cX7_makeRoom 38 = .ok (.dup, 1) := dk_89 (dk_at dksX7_makeRoom_1 14 rfl rfl)
theorem dX7_makeRoom_39 : decode cX7_makeRoom 39 = .ok (.getfield 18, 3) := dk_180 0 18 (dk_at dksX7_makeRoom_1 15 rfl rfl)
theorem dX7_makeRoom_42 : decode cX7_makeRoom 42 = .ok (.iconst 1, 1) := dk_4 (dk_at dksX7_makeRoom_1 18 rfl rfl)
theorem dX7_makeRoom_43 : decode cX7_makeRoom 43 = .ok (.iadd, 1) := dk_96 (dk_at dksX7_makeRoom_1 19 rfl rfl)
theorem dX7_makeRoom_44 : decode cX7_makeRoom 44 = .ok (.putfield 18, 3) := dk_181 0 18 (dk_at dksX7_makeRoom_1 20 rfl rfl)
theorem dX7_makeRoom_47 : decode cX7_makeRoom 47 = .ok (.return_, 1) := dk_177 (dk_at dksX7_makeRoom_1 23 rfl rfl)
abbrev cX7_takes : ByteArray := prog_4_method_13_code
def yX7_takes : MethodName := ⟨RX7, "takes", "(LWideMap$Token;II)V"⟩
def dkwX7_takes_0 : List UInt8 := [42, 42, 28, 182, 0, 29, 182, 0, 43, 177]
abbrev dktX7_takes_0 : List UInt8 := dkwX7_takes_0 ++ []
theorem dksX7_takes_0 : cX7_takes.data.toList.drop 0 = dktX7_takes_0 := by decide +kernel
theorem dX7_takes_0 : decode cX7_takes 0 = .ok (.aload_n 0, 1) := dk_42 (dk_at dksX7_takes_0 0 rfl rfl)
theorem dX7_takes_1 : decode cX7_takes 1 = .ok (.aload_n 0, 1) := dk_42 (dk_at dksX7_takes_0 1 rfl rfl)
theorem dX7_takes_2 : decode cX7_takes 2 = .ok (.iload_n 2, 1) := dk_28 (dk_at dksX7_takes_0 2 rfl rfl)
theorem dX7_takes_3 : decode cX7_takes 3 = .ok (.invokevirtual 29, 3) := dk_182 0 29 (dk_at dksX7_takes_0 3 rfl rfl)
theorem dX7_takes_6 : decode cX7_takes 6 = .ok (.invokevirtual 43, 3) := dk_182 0 43 (dk_at dksX7_takes_0 6 rfl rfl)
theorem dX7_takes_9 : decode cX7_takes 9 = .ok (.return_, 1) := dk_177 (dk_at dksX7_takes_0 9 rfl rfl)
abbrev cX7_close : ByteArray := prog_4_method_10_code
def yX7_close : MethodName := ⟨RX7, "close", "(I)V"⟩
def dkwX7_close_2 : List UInt8 := [181, 0, 18, 177]
abbrev dktX7_close_2 : List UInt8 := dkwX7_close_2 ++ []
def dkwX7_close_1 : List UInt8 := [180, 0, 15, 28, 4, 96, 46, 182, 0, 25, 132, 2, 1, 167, 255, 222, 42, 89, 180, 0, 18, 4, 100]
abbrev dktX7_close_1 : List UInt8 := dkwX7_close_1 ++ dktX7_close_2
def dkwX7_close_0 : List UInt8 := [27, 61, 28, 42, 180, 0, 18, 4, 100, 162, 0, 30, 42, 28, 42, 180, 0, 9, 28, 4, 96, 46, 42]
abbrev dktX7_close_0 : List UInt8 := dkwX7_close_0 ++ dktX7_close_1
theorem dksX7_close_0 : cX7_close.data.toList.drop 0 = dktX7_close_0 := by decide +kernel
theorem dksX7_close_1 : cX7_close.data.toList.drop 23 = dktX7_close_1 := dk_seg dksX7_close_0 23 rfl rfl
theorem dksX7_close_2 : cX7_close.data.toList.drop 46 = dktX7_close_2 := dk_seg dksX7_close_1 23 rfl rfl
theorem dX7_close_0 : decode cX7_close 0 = .ok (.iload_n 1, 1) := dk_27 (dk_at dksX7_close_0 0 rfl rfl)
theorem dX7_close_1 : decode cX7_close 1 = .ok (.istore_n 2, 1) := dk_61 (dk_at dksX7_close_0 1 rfl rfl)
theorem dX7_close_2 : decode cX7_close 2 = .ok (.iload_n 2, 1) := dk_28 (dk_at dksX7_close_0 2 rfl rfl)
theorem dX7_close_3 : decode cX7_close 3 = .ok (.aload_n 0, 1) := dk_42 (dk_at dksX7_close_0 3 rfl rfl)
theorem dX7_close_4 : decode cX7_close 4 = .ok (.getfield 18, 3) := dk_180 0 18 (dk_at dksX7_close_0 4 rfl rfl)
theorem dX7_close_7 : decode cX7_close 7 = .ok (.iconst 1, 1) := dk_4 (dk_at dksX7_close_0 7 rfl rfl)
theorem dX7_close_8 : decode cX7_close 8 = .ok (.isub, 1) := dk_100 (dk_at dksX7_close_0 8 rfl rfl)
theorem dX7_close_9 : decode cX7_close 9 = .ok (.if_icmp .ge 30, 3) := dk_162 0 30 (dk_at dksX7_close_0 9 rfl rfl)
theorem dX7_close_12 : decode cX7_close 12 = .ok (.aload_n 0, 1) := dk_42 (dk_at dksX7_close_0 12 rfl rfl)
theorem dX7_close_13 : decode cX7_close 13 = .ok (.iload_n 2, 1) := dk_28 (dk_at dksX7_close_0 13 rfl rfl)
theorem dX7_close_14 : decode cX7_close 14 = .ok (.aload_n 0, 1) := dk_42 (dk_at dksX7_close_0 14 rfl rfl)
theorem dX7_close_15 : decode cX7_close 15 = .ok (.getfield 9, 3) := dk_180 0 9 (dk_at dksX7_close_0 15 rfl rfl)
theorem dX7_close_18 : decode cX7_close 18 = .ok (.iload_n 2, 1) := dk_28 (dk_at dksX7_close_0 18 rfl rfl)
theorem dX7_close_19 : decode cX7_close 19 = .ok (.iconst 1, 1) := dk_4 (dk_at dksX7_close_0 19 rfl rfl)
theorem dX7_close_20 : decode cX7_close 20 = .ok (.iadd, 1) := dk_96 (dk_at dksX7_close_0 20 rfl rfl)
theorem dX7_close_21 : decode cX7_close 21 = .ok (.iaload, 1) := dk_46 (dk_at dksX7_close_0 21 rfl rfl)
theorem dX7_close_22 : decode cX7_close 22 = .ok (.aload_n 0, 1) := dk_42 (dk_at dksX7_close_0 22 rfl rfl)
theorem dX7_close_23 : decode cX7_close 23 = .ok (.getfield 15, 3) := dk_180 0 15 (dk_at dksX7_close_1 0 rfl rfl)
theorem dX7_close_26 : decode cX7_close 26 = .ok (.iload_n 2, 1) := dk_28 (dk_at dksX7_close_1 3 rfl rfl)
theorem dX7_close_27 : decode cX7_close 27 = .ok (.iconst 1, 1) := dk_4 (dk_at dksX7_close_1 4 rfl rfl)
theorem dX7_close_28 : decode cX7_close 28 = .ok (.iadd, 1) := dk_96 (dk_at dksX7_close_1 5 rfl rfl)
theorem dX7_close_29 : decode cX7_close 29 = .ok (.iaload, 1) := dk_46 (dk_at dksX7_close_1 6 rfl rfl)
theorem dX7_close_30 : decode cX7_close 30 = .ok (.invokevirtual 25, 3) := dk_182 0 25 (dk_at dksX7_close_1 7 rfl rfl)
theorem dX7_close_33 : decode cX7_close 33 = .ok (.iinc 2 1, 3) := dk_132 2 1 (dk_at dksX7_close_1 10 rfl rfl)
theorem dX7_close_36 : decode cX7_close 36 = .ok (.goto (-34), 3) := dk_167 255 222 (dk_at dksX7_close_1 13 rfl rfl)
theorem dX7_close_39 : decode cX7_close 39 = .ok (.aload_n 0, 1) := dk_42 (dk_at dksX7_close_1 16 rfl rfl)
theorem dX7_close_40 : decode cX7_close 40 = .ok (.dup, 1) := dk_89 (dk_at dksX7_close_1 17 rfl rfl)
theorem dX7_close_41 : decode cX7_close 41 = .ok (.getfield 18, 3) := dk_180 0 18 (dk_at dksX7_close_1 18 rfl rfl)
theorem dX7_close_44 : decode cX7_close 44 = .ok (.iconst 1, 1) := dk_4 (dk_at dksX7_close_1 21 rfl rfl)
theorem dX7_close_45 : decode cX7_close 45 = .ok (.isub, 1) := dk_100 (dk_at dksX7_close_1 22 rfl rfl)
theorem dX7_close_46 : decode cX7_close 46 = .ok (.putfield 18, 3) := dk_181 0 18 (dk_at dksX7_close_2 0 rfl rfl)
theorem dX7_close_49 : decode cX7_close 49 = .ok (.return_, 1) := dk_177 (dk_at dksX7_close_2 3 rfl rfl)
abbrev cX7_lastOf : ByteArray := prog_4_method_14_code
def yX7_lastOf : MethodName := ⟨RX7, "lastOf", "(LWideMap$Node;)V"⟩
def dkwX7_lastOf_1 : List UInt8 := [180, 0, 9, 44, 180, 0, 18, 46, 44, 180, 0, 15, 44, 180, 0, 18, 46, 182, 0, 25, 177]
abbrev dktX7_lastOf_1 : List UInt8 := dkwX7_lastOf_1 ++ []
def dkwX7_lastOf_0 : List UInt8 := [43, 192, 0, 10, 77, 42, 3, 182, 0, 33, 44, 89, 180, 0, 18, 4, 100, 181, 0, 18, 42, 3, 44]
abbrev dktX7_lastOf_0 : List UInt8 := dkwX7_lastOf_0 ++ dktX7_lastOf_1
theorem dksX7_lastOf_0 : cX7_lastOf.data.toList.drop 0 = dktX7_lastOf_0 := by decide +kernel
theorem dksX7_lastOf_1 : cX7_lastOf.data.toList.drop 23 = dktX7_lastOf_1 := dk_seg dksX7_lastOf_0 23 rfl rfl
theorem dX7_lastOf_0 : decode cX7_lastOf 0 = .ok (.aload_n 1, 1) := dk_43 (dk_at dksX7_lastOf_0 0 rfl rfl)
theorem dX7_lastOf_1 : decode cX7_lastOf 1 = .ok (.checkcast 10, 3) := dk_192 0 10 (dk_at dksX7_lastOf_0 1 rfl rfl)
theorem dX7_lastOf_4 : decode cX7_lastOf 4 = .ok (.astore_n 2, 1) := dk_77 (dk_at dksX7_lastOf_0 4 rfl rfl)
theorem dX7_lastOf_5 : decode cX7_lastOf 5 = .ok (.aload_n 0, 1) := dk_42 (dk_at dksX7_lastOf_0 5 rfl rfl)
theorem dX7_lastOf_6 : decode cX7_lastOf 6 = .ok (.iconst 0, 1) := dk_3 (dk_at dksX7_lastOf_0 6 rfl rfl)
theorem dX7_lastOf_7 : decode cX7_lastOf 7 = .ok (.invokevirtual 33, 3) := dk_182 0 33 (dk_at dksX7_lastOf_0 7 rfl rfl)
theorem dX7_lastOf_10 : decode cX7_lastOf 10 = .ok (.aload_n 2, 1) := dk_44 (dk_at dksX7_lastOf_0 10 rfl rfl)
theorem dX7_lastOf_11 : decode cX7_lastOf 11 = .ok (.dup, 1) := dk_89 (dk_at dksX7_lastOf_0 11 rfl rfl)
theorem dX7_lastOf_12 : decode cX7_lastOf 12 = .ok (.getfield 18, 3) := dk_180 0 18 (dk_at dksX7_lastOf_0 12 rfl rfl)
theorem dX7_lastOf_15 : decode cX7_lastOf 15 = .ok (.iconst 1, 1) := dk_4 (dk_at dksX7_lastOf_0 15 rfl rfl)
theorem dX7_lastOf_16 : decode cX7_lastOf 16 = .ok (.isub, 1) := dk_100 (dk_at dksX7_lastOf_0 16 rfl rfl)
theorem dX7_lastOf_17 : decode cX7_lastOf 17 = .ok (.putfield 18, 3) := dk_181 0 18 (dk_at dksX7_lastOf_0 17 rfl rfl)
theorem dX7_lastOf_20 : decode cX7_lastOf 20 = .ok (.aload_n 0, 1) := dk_42 (dk_at dksX7_lastOf_0 20 rfl rfl)
theorem dX7_lastOf_21 : decode cX7_lastOf 21 = .ok (.iconst 0, 1) := dk_3 (dk_at dksX7_lastOf_0 21 rfl rfl)
theorem dX7_lastOf_22 : decode cX7_lastOf 22 = .ok (.aload_n 2, 1) := dk_44 (dk_at dksX7_lastOf_0 22 rfl rfl)
theorem dX7_lastOf_23 : decode cX7_lastOf 23 = .ok (.getfield 9, 3) := dk_180 0 9 (dk_at dksX7_lastOf_1 0 rfl rfl)
theorem dX7_lastOf_26 : decode cX7_lastOf 26 = .ok (.aload_n 2, 1) := dk_44 (dk_at dksX7_lastOf_1 3 rfl rfl)
theorem dX7_lastOf_27 : decode cX7_lastOf 27 = .ok (.getfield 18, 3) := dk_180 0 18 (dk_at dksX7_lastOf_1 4 rfl rfl)
theorem dX7_lastOf_30 : decode cX7_lastOf 30 = .ok (.iaload, 1) := dk_46 (dk_at dksX7_lastOf_1 7 rfl rfl)
theorem dX7_lastOf_31 : decode cX7_lastOf 31 = .ok (.aload_n 2, 1) := dk_44 (dk_at dksX7_lastOf_1 8 rfl rfl)
theorem dX7_lastOf_32 : decode cX7_lastOf 32 = .ok (.getfield 15, 3) := dk_180 0 15 (dk_at dksX7_lastOf_1 9 rfl rfl)
theorem dX7_lastOf_35 : decode cX7_lastOf 35 = .ok (.aload_n 2, 1) := dk_44 (dk_at dksX7_lastOf_1 12 rfl rfl)
theorem dX7_lastOf_36 : decode cX7_lastOf 36 = .ok (.getfield 18, 3) := dk_180 0 18 (dk_at dksX7_lastOf_1 13 rfl rfl)
theorem dX7_lastOf_39 : decode cX7_lastOf 39 = .ok (.iaload, 1) := dk_46 (dk_at dksX7_lastOf_1 16 rfl rfl)
theorem dX7_lastOf_40 : decode cX7_lastOf 40 = .ok (.invokevirtual 25, 3) := dk_182 0 25 (dk_at dksX7_lastOf_1 17 rfl rfl)
theorem dX7_lastOf_43 : decode cX7_lastOf 43 = .ok (.return_, 1) := dk_177 (dk_at dksX7_lastOf_1 20 rfl rfl)
abbrev cX7_firstOf : ByteArray := prog_4_method_15_code
def yX7_firstOf : MethodName := ⟨RX7, "firstOf", "(LWideMap$Node;)V"⟩
def dkwX7_firstOf_1 : List UInt8 := [182, 0, 25, 42, 89, 180, 0, 18, 4, 96, 181, 0, 18, 44, 3, 182, 0, 43, 177]
abbrev dktX7_firstOf_1 : List UInt8 := dkwX7_firstOf_1 ++ []
def dkwX7_firstOf_0 : List UInt8 := [43, 192, 0, 10, 77, 42, 42, 180, 0, 18, 44, 180, 0, 9, 3, 46, 44, 180, 0, 15, 3, 46]
abbrev dktX7_firstOf_0 : List UInt8 := dkwX7_firstOf_0 ++ dktX7_firstOf_1
theorem dksX7_firstOf_0 : cX7_firstOf.data.toList.drop 0 = dktX7_firstOf_0 := by decide +kernel
theorem dksX7_firstOf_1 : cX7_firstOf.data.toList.drop 22 = dktX7_firstOf_1 := dk_seg dksX7_firstOf_0 22 rfl rfl
theorem dX7_firstOf_0 : decode cX7_firstOf 0 = .ok (.aload_n 1, 1) := dk_43 (dk_at dksX7_firstOf_0 0 rfl rfl)
theorem dX7_firstOf_1 : decode cX7_firstOf 1 = .ok (.checkcast 10, 3) := dk_192 0 10 (dk_at dksX7_firstOf_0 1 rfl rfl)
theorem dX7_firstOf_4 : decode cX7_firstOf 4 = .ok (.astore_n 2, 1) := dk_77 (dk_at dksX7_firstOf_0 4 rfl rfl)
theorem dX7_firstOf_5 : decode cX7_firstOf 5 = .ok (.aload_n 0, 1) := dk_42 (dk_at dksX7_firstOf_0 5 rfl rfl)
theorem dX7_firstOf_6 : decode cX7_firstOf 6 = .ok (.aload_n 0, 1) := dk_42 (dk_at dksX7_firstOf_0 6 rfl rfl)
theorem dX7_firstOf_7 : decode cX7_firstOf 7 = .ok (.getfield 18, 3) := dk_180 0 18 (dk_at dksX7_firstOf_0 7 rfl rfl)
theorem dX7_firstOf_10 : decode cX7_firstOf 10 = .ok (.aload_n 2, 1) := dk_44 (dk_at dksX7_firstOf_0 10 rfl rfl)
theorem dX7_firstOf_11 : decode cX7_firstOf 11 = .ok (.getfield 9, 3) := dk_180 0 9 (dk_at dksX7_firstOf_0 11 rfl rfl)
theorem dX7_firstOf_14 : decode cX7_firstOf 14 = .ok (.iconst 0, 1) := dk_3 (dk_at dksX7_firstOf_0 14 rfl rfl)
theorem dX7_firstOf_15 : decode cX7_firstOf 15 = .ok (.iaload, 1) := dk_46 (dk_at dksX7_firstOf_0 15 rfl rfl)
theorem dX7_firstOf_16 : decode cX7_firstOf 16 = .ok (.aload_n 2, 1) := dk_44 (dk_at dksX7_firstOf_0 16 rfl rfl)
theorem dX7_firstOf_17 : decode cX7_firstOf 17 = .ok (.getfield 15, 3) := dk_180 0 15 (dk_at dksX7_firstOf_0 17 rfl rfl)
theorem dX7_firstOf_20 : decode cX7_firstOf 20 = .ok (.iconst 0, 1) := dk_3 (dk_at dksX7_firstOf_0 20 rfl rfl)
theorem dX7_firstOf_21 : decode cX7_firstOf 21 = .ok (.iaload, 1) := dk_46 (dk_at dksX7_firstOf_0 21 rfl rfl)
theorem dX7_firstOf_22 : decode cX7_firstOf 22 = .ok (.invokevirtual 25, 3) := dk_182 0 25 (dk_at dksX7_firstOf_1 0 rfl rfl)
theorem dX7_firstOf_25 : decode cX7_firstOf 25 = .ok (.aload_n 0, 1) := dk_42 (dk_at dksX7_firstOf_1 3 rfl rfl)
theorem dX7_firstOf_26 : decode cX7_firstOf 26 = .ok (.dup, 1) := dk_89 (dk_at dksX7_firstOf_1 4 rfl rfl)
theorem dX7_firstOf_27 : decode cX7_firstOf 27 = .ok (.getfield 18, 3) := dk_180 0 18 (dk_at dksX7_firstOf_1 5 rfl rfl)
theorem dX7_firstOf_30 : decode cX7_firstOf 30 = .ok (.iconst 1, 1) := dk_4 (dk_at dksX7_firstOf_1 8 rfl rfl)
theorem dX7_firstOf_31 : decode cX7_firstOf 31 = .ok (.iadd, 1) := dk_96 (dk_at dksX7_firstOf_1 9 rfl rfl)
theorem dX7_firstOf_32 : decode cX7_firstOf 32 = .ok (.putfield 18, 3) := dk_181 0 18 (dk_at dksX7_firstOf_1 10 rfl rfl)
theorem dX7_firstOf_35 : decode cX7_firstOf 35 = .ok (.aload_n 2, 1) := dk_44 (dk_at dksX7_firstOf_1 13 rfl rfl)
theorem dX7_firstOf_36 : decode cX7_firstOf 36 = .ok (.iconst 0, 1) := dk_3 (dk_at dksX7_firstOf_1 14 rfl rfl)
theorem dX7_firstOf_37 : decode cX7_firstOf 37 = .ok (.invokevirtual 43, 3) := dk_182 0 43 (dk_at dksX7_firstOf_1 15 rfl rfl)
theorem dX7_firstOf_40 : decode cX7_firstOf 40 = .ok (.return_, 1) := dk_177 (dk_at dksX7_firstOf_1 18 rfl rfl)
abbrev cX7_allOf : ByteArray := prog_4_method_16_code
def yX7_allOf : MethodName := ⟨RX7, "allOf", "(LWideMap$Node;)V"⟩
def dkwX7_allOf_2 : List UInt8 := [180, 0, 18, 43, 185, 0, 46, 1, 0, 96, 181, 0, 18, 177]
abbrev dktX7_allOf_2 : List UInt8 := dkwX7_allOf_2 ++ []
def dkwX7_allOf_1 : List UInt8 := [185, 0, 52, 2, 0, 43, 28, 185, 0, 55, 2, 0, 182, 0, 25, 132, 2, 1, 167, 255, 219, 42, 89]
abbrev dktX7_allOf_1 : List UInt8 := dkwX7_allOf_1 ++ dktX7_allOf_2
def dkwX7_allOf_0 : List UInt8 := [3, 61, 28, 43, 185, 0, 46, 1, 0, 162, 0, 33, 42, 42, 180, 0, 18, 28, 96, 43, 28]
abbrev dktX7_allOf_0 : List UInt8 := dkwX7_allOf_0 ++ dktX7_allOf_1
theorem dksX7_allOf_0 : cX7_allOf.data.toList.drop 0 = dktX7_allOf_0 := by decide +kernel
theorem dksX7_allOf_1 : cX7_allOf.data.toList.drop 21 = dktX7_allOf_1 := dk_seg dksX7_allOf_0 21 rfl rfl
theorem dksX7_allOf_2 : cX7_allOf.data.toList.drop 44 = dktX7_allOf_2 := dk_seg dksX7_allOf_1 23 rfl rfl
theorem dX7_allOf_0 : decode cX7_allOf 0 = .ok (.iconst 0, 1) := dk_3 (dk_at dksX7_allOf_0 0 rfl rfl)
theorem dX7_allOf_1 : decode cX7_allOf 1 = .ok (.istore_n 2, 1) := dk_61 (dk_at dksX7_allOf_0 1 rfl rfl)
theorem dX7_allOf_2 : decode cX7_allOf 2 = .ok (.iload_n 2, 1) := dk_28 (dk_at dksX7_allOf_0 2 rfl rfl)
theorem dX7_allOf_3 : decode cX7_allOf 3 = .ok (.aload_n 1, 1) := dk_43 (dk_at dksX7_allOf_0 3 rfl rfl)
theorem dX7_allOf_4 : decode cX7_allOf 4 = .ok (.invokeinterface 46 1, 5) := by decide +kernel
theorem dX7_allOf_9 : decode cX7_allOf 9 = .ok (.if_icmp .ge 33, 3) := dk_162 0 33 (dk_at dksX7_allOf_0 9 rfl rfl)
theorem dX7_allOf_12 : decode cX7_allOf 12 = .ok (.aload_n 0, 1) := dk_42 (dk_at dksX7_allOf_0 12 rfl rfl)
theorem dX7_allOf_13 : decode cX7_allOf 13 = .ok (.aload_n 0, 1) := dk_42 (dk_at dksX7_allOf_0 13 rfl rfl)
theorem dX7_allOf_14 : decode cX7_allOf 14 = .ok (.getfield 18, 3) := dk_180 0 18 (dk_at dksX7_allOf_0 14 rfl rfl)
theorem dX7_allOf_17 : decode cX7_allOf 17 = .ok (.iload_n 2, 1) := dk_28 (dk_at dksX7_allOf_0 17 rfl rfl)
theorem dX7_allOf_18 : decode cX7_allOf 18 = .ok (.iadd, 1) := dk_96 (dk_at dksX7_allOf_0 18 rfl rfl)
theorem dX7_allOf_19 : decode cX7_allOf 19 = .ok (.aload_n 1, 1) := dk_43 (dk_at dksX7_allOf_0 19 rfl rfl)
theorem dX7_allOf_20 : decode cX7_allOf 20 = .ok (.iload_n 2, 1) := dk_28 (dk_at dksX7_allOf_0 20 rfl rfl)
theorem dX7_allOf_21 : decode cX7_allOf 21 = .ok (.invokeinterface 52 2, 5) := by decide +kernel
theorem dX7_allOf_26 : decode cX7_allOf 26 = .ok (.aload_n 1, 1) := dk_43 (dk_at dksX7_allOf_1 5 rfl rfl)
theorem dX7_allOf_27 : decode cX7_allOf 27 = .ok (.iload_n 2, 1) := dk_28 (dk_at dksX7_allOf_1 6 rfl rfl)
theorem dX7_allOf_28 : decode cX7_allOf 28 = .ok (.invokeinterface 55 2, 5) := by decide +kernel
theorem dX7_allOf_33 : decode cX7_allOf 33 = .ok (.invokevirtual 25, 3) := dk_182 0 25 (dk_at dksX7_allOf_1 12 rfl rfl)
theorem dX7_allOf_36 : decode cX7_allOf 36 = .ok (.iinc 2 1, 3) := dk_132 2 1 (dk_at dksX7_allOf_1 15 rfl rfl)
theorem dX7_allOf_39 : decode cX7_allOf 39 = .ok (.goto (-37), 3) := dk_167 255 219 (dk_at dksX7_allOf_1 18 rfl rfl)
theorem dX7_allOf_42 : decode cX7_allOf 42 = .ok (.aload_n 0, 1) := dk_42 (dk_at dksX7_allOf_1 21 rfl rfl)
theorem dX7_allOf_43 : decode cX7_allOf 43 = .ok (.dup, 1) := dk_89 (dk_at dksX7_allOf_1 22 rfl rfl)
theorem dX7_allOf_44 : decode cX7_allOf 44 = .ok (.getfield 18, 3) := dk_180 0 18 (dk_at dksX7_allOf_2 0 rfl rfl)
theorem dX7_allOf_47 : decode cX7_allOf 47 = .ok (.aload_n 1, 1) := dk_43 (dk_at dksX7_allOf_2 3 rfl rfl)
theorem dX7_allOf_48 : decode cX7_allOf 48 = .ok (.invokeinterface 46 1, 5) := by decide +kernel
theorem dX7_allOf_53 : decode cX7_allOf 53 = .ok (.iadd, 1) := dk_96 (dk_at dksX7_allOf_2 9 rfl rfl)
theorem dX7_allOf_54 : decode cX7_allOf 54 = .ok (.putfield 18, 3) := dk_181 0 18 (dk_at dksX7_allOf_2 10 rfl rfl)
theorem dX7_allOf_57 : decode cX7_allOf 57 = .ok (.return_, 1) := dk_177 (dk_at dksX7_allOf_2 13 rfl rfl)
abbrev cX7_shows : ByteArray := prog_4_method_17_code
def yX7_shows : MethodName := ⟨RX7, "shows", "(Ljava/lang/StringBuilder;)V"⟩
def dkwX7_shows_2 : List UInt8 := [180, 0, 15, 28, 46, 182, 0, 71, 87, 132, 2, 1, 167, 255, 206, 43, 16, 93, 182, 0, 58, 87, 177]
abbrev dktX7_shows_2 : List UInt8 := dkwX7_shows_2 ++ []
def dkwX7_shows_1 : List UInt8 := [167, 0, 5, 18, 66, 182, 0, 68, 42, 180, 0, 9, 28, 46, 182, 0, 71, 16, 58, 182, 0, 58, 42]
abbrev dktX7_shows_1 : List UInt8 := dkwX7_shows_1 ++ dktX7_shows_2
def dkwX7_shows_0 : List UInt8 := [43, 16, 91, 182, 0, 58, 87, 3, 61, 28, 42, 180, 0, 18, 162, 0, 48, 43, 28, 154, 0, 8, 18, 64]
abbrev dktX7_shows_0 : List UInt8 := dkwX7_shows_0 ++ dktX7_shows_1
theorem dksX7_shows_0 : cX7_shows.data.toList.drop 0 = dktX7_shows_0 := by decide +kernel
theorem dksX7_shows_1 : cX7_shows.data.toList.drop 24 = dktX7_shows_1 := dk_seg dksX7_shows_0 24 rfl rfl
theorem dksX7_shows_2 : cX7_shows.data.toList.drop 47 = dktX7_shows_2 := dk_seg dksX7_shows_1 23 rfl rfl
theorem dX7_shows_0 : decode cX7_shows 0 = .ok (.aload_n 1, 1) := dk_43 (dk_at dksX7_shows_0 0 rfl rfl)
theorem dX7_shows_1 : decode cX7_shows 1 = .ok (.bipush 91, 2) := dk_16 91 (dk_at dksX7_shows_0 1 rfl rfl)
theorem dX7_shows_3 : decode cX7_shows 3 = .ok (.invokevirtual 58, 3) := dk_182 0 58 (dk_at dksX7_shows_0 3 rfl rfl)
theorem dX7_shows_6 : decode cX7_shows 6 = .ok (.pop, 1) := dk_87 (dk_at dksX7_shows_0 6 rfl rfl)
theorem dX7_shows_7 : decode cX7_shows 7 = .ok (.iconst 0, 1) := dk_3 (dk_at dksX7_shows_0 7 rfl rfl)
theorem dX7_shows_8 : decode cX7_shows 8 = .ok (.istore_n 2, 1) := dk_61 (dk_at dksX7_shows_0 8 rfl rfl)
theorem dX7_shows_9 : decode cX7_shows 9 = .ok (.iload_n 2, 1) := dk_28 (dk_at dksX7_shows_0 9 rfl rfl)
theorem dX7_shows_10 : decode cX7_shows 10 = .ok (.aload_n 0, 1) := dk_42 (dk_at dksX7_shows_0 10 rfl rfl)
theorem dX7_shows_11 : decode cX7_shows 11 = .ok (.getfield 18, 3) := dk_180 0 18 (dk_at dksX7_shows_0 11 rfl rfl)
theorem dX7_shows_14 : decode cX7_shows 14 = .ok (.if_icmp .ge 48, 3) := dk_162 0 48 (dk_at dksX7_shows_0 14 rfl rfl)
theorem dX7_shows_17 : decode cX7_shows 17 = .ok (.aload_n 1, 1) := dk_43 (dk_at dksX7_shows_0 17 rfl rfl)
theorem dX7_shows_18 : decode cX7_shows 18 = .ok (.iload_n 2, 1) := dk_28 (dk_at dksX7_shows_0 18 rfl rfl)
theorem dX7_shows_19 : decode cX7_shows 19 = .ok (.ifCond .ne 8, 3) := dk_154 0 8 (dk_at dksX7_shows_0 19 rfl rfl)
theorem dX7_shows_22 : decode cX7_shows 22 = .ok (.ldc 64, 2) := dk_18 64 (dk_at dksX7_shows_0 22 rfl rfl)
theorem dX7_shows_24 : decode cX7_shows 24 = .ok (.goto 5, 3) := dk_167 0 5 (dk_at dksX7_shows_1 0 rfl rfl)
theorem dX7_shows_27 : decode cX7_shows 27 = .ok (.ldc 66, 2) := dk_18 66 (dk_at dksX7_shows_1 3 rfl rfl)
theorem dX7_shows_29 : decode cX7_shows 29 = .ok (.invokevirtual 68, 3) := dk_182 0 68 (dk_at dksX7_shows_1 5 rfl rfl)
theorem dX7_shows_32 : decode cX7_shows 32 = .ok (.aload_n 0, 1) := dk_42 (dk_at dksX7_shows_1 8 rfl rfl)
theorem dX7_shows_33 : decode cX7_shows 33 = .ok (.getfield 9, 3) := dk_180 0 9 (dk_at dksX7_shows_1 9 rfl rfl)
theorem dX7_shows_36 : decode cX7_shows 36 = .ok (.iload_n 2, 1) := dk_28 (dk_at dksX7_shows_1 12 rfl rfl)
theorem dX7_shows_37 : decode cX7_shows 37 = .ok (.iaload, 1) := dk_46 (dk_at dksX7_shows_1 13 rfl rfl)
theorem dX7_shows_38 : decode cX7_shows 38 = .ok (.invokevirtual 71, 3) := dk_182 0 71 (dk_at dksX7_shows_1 14 rfl rfl)
theorem dX7_shows_41 : decode cX7_shows 41 = .ok (.bipush 58, 2) := dk_16 58 (dk_at dksX7_shows_1 17 rfl rfl)
theorem dX7_shows_43 : decode cX7_shows 43 = .ok (.invokevirtual 58, 3) := dk_182 0 58 (dk_at dksX7_shows_1 19 rfl rfl)
theorem dX7_shows_46 : decode cX7_shows 46 = .ok (.aload_n 0, 1) := dk_42 (dk_at dksX7_shows_1 22 rfl rfl)
theorem dX7_shows_47 : decode cX7_shows 47 = .ok (.getfield 15, 3) := dk_180 0 15 (dk_at dksX7_shows_2 0 rfl rfl)
theorem dX7_shows_50 : decode cX7_shows 50 = .ok (.iload_n 2, 1) := dk_28 (dk_at dksX7_shows_2 3 rfl rfl)
theorem dX7_shows_51 : decode cX7_shows 51 = .ok (.iaload, 1) := dk_46 (dk_at dksX7_shows_2 4 rfl rfl)
theorem dX7_shows_52 : decode cX7_shows 52 = .ok (.invokevirtual 71, 3) := dk_182 0 71 (dk_at dksX7_shows_2 5 rfl rfl)
theorem dX7_shows_55 : decode cX7_shows 55 = .ok (.pop, 1) := dk_87 (dk_at dksX7_shows_2 8 rfl rfl)
theorem dX7_shows_56 : decode cX7_shows 56 = .ok (.iinc 2 1, 3) := dk_132 2 1 (dk_at dksX7_shows_2 9 rfl rfl)
theorem dX7_shows_59 : decode cX7_shows 59 = .ok (.goto (-50), 3) := dk_167 255 206 (dk_at dksX7_shows_2 12 rfl rfl)
theorem dX7_shows_62 : decode cX7_shows 62 = .ok (.aload_n 1, 1) := dk_43 (dk_at dksX7_shows_2 15 rfl rfl)
theorem dX7_shows_63 : decode cX7_shows 63 = .ok (.bipush 93, 2) := dk_16 93 (dk_at dksX7_shows_2 16 rfl rfl)
theorem dX7_shows_65 : decode cX7_shows 65 = .ok (.invokevirtual 58, 3) := dk_182 0 58 (dk_at dksX7_shows_2 18 rfl rfl)
theorem dX7_shows_68 : decode cX7_shows 68 = .ok (.pop, 1) := dk_87 (dk_at dksX7_shows_2 21 rfl rfl)
theorem dX7_shows_69 : decode cX7_shows 69 = .ok (.return_, 1) := dk_177 (dk_at dksX7_shows_2 22 rfl rfl)
theorem q154 : (Jvm.Cond.initialized "WideMap$Leaf") ∈ lw_all := lw_g (lw_at lw_m1 24 rfl) rfl
theorem q838 : (Jvm.Cond.instantiable "WideMap$Leaf" (5 : Nat)) ∈ lw_all := lw_g (lw_at lw_m3 228 rfl) rfl
theorem q840 : (Jvm.Cond.instanceMethod ({ cls := "WideMap$Leaf", name := "<init>", desc := "(LWideMap$Token;I)V" } : Jvm.MethodName)) ∈ lw_all := lw_g (lw_at lw_m3 230 rfl) rfl
theorem q841 : (Jvm.Cond.code ({ cls := "WideMap$Leaf", name := "<init>", desc := "(LWideMap$Token;I)V" } : Jvm.MethodName) prog_4_method_1_code (3 : Nat) (Option.none : Option Jvm.ClassFile.FieldType)) ∈ lw_all := lw_g (lw_at lw_m3 231 rfl) rfl
theorem q842 : (Jvm.Cond.methodLink "WideMap$Leaf" (3 : Nat) ({ cls := "WideMap$Marked", name := "<init>", desc := "(LWideMap$Token;)V" } : Jvm.MethodName)) ∈ lw_all := lw_g (lw_at lw_m3 232 rfl) rfl
theorem q846 : (Jvm.Cond.fieldLink "WideMap$Leaf" (9 : Nat) "WideMap$Leaf" "keys" "[I") ∈ lw_all := lw_g (lw_at lw_m3 236 rfl) rfl
theorem q847 : (Jvm.Cond.fieldLink "WideMap$Leaf" (15 : Nat) "WideMap$Leaf" "values" "[I") ∈ lw_all := lw_g (lw_at lw_m3 237 rfl) rfl
theorem q850 : (Jvm.Cond.fieldLink "WideMap$Leaf" (18 : Nat) "WideMap$Leaf" "n" "I") ∈ lw_all := lw_g (lw_at lw_m4 0 rfl) rfl
theorem q851 : (Jvm.Cond.sameField "WideMap$Leaf" "WideMap$Marked" "n" "I") ∈ lw_all := lw_g (lw_at lw_m4 1 rfl) rfl
theorem q856 : (Jvm.Cond.laysFinal "WideMap$Leaf" "WideMap$Leaf" "keys" "[I") ∈ lw_all := lw_g (lw_at lw_m4 6 rfl) rfl
theorem q857 : (Jvm.Cond.soleField "WideMap$Leaf" "keys") ∈ lw_all := lw_g (lw_at lw_m4 7 rfl) rfl
theorem q858 : (Jvm.Cond.laysFinal "WideMap$Leaf" "WideMap$Leaf" "values" "[I") ∈ lw_all := lw_g (lw_at lw_m4 8 rfl) rfl
theorem q859 : (Jvm.Cond.soleField "WideMap$Leaf" "values") ∈ lw_all := lw_g (lw_at lw_m4 9 rfl) rfl
theorem q860 : (Jvm.Cond.laysFinal "WideMap$Leaf" "WideMap$Marked" "token" "LWideMap$Token;") ∈ lw_all := lw_g (lw_at lw_m4 10 rfl) rfl
theorem q862 : (Jvm.Cond.lays "WideMap$Leaf" "WideMap$Marked" "n" "I") ∈ lw_all := lw_g (lw_at lw_m4 12 rfl) rfl
theorem q864 : (Jvm.Cond.lays "WideMap$Leaf" "WideMap$Marked" "stamp" "I") ∈ lw_all := lw_g (lw_at lw_m4 14 rfl) rfl
theorem q866 : (Jvm.Cond.superclass "WideMap$Leaf" "WideMap$Marked") ∈ lw_all := lw_g (lw_at lw_m4 16 rfl) rfl
theorem q887 : (Jvm.Cond.castable "WideMap$Leaf" "WideMap$Node") ∈ lw_tbl := lw_at lw_m4 37 rfl
theorem q888 : (Jvm.Cond.selects "WideMap$Leaf" ({ cls := "WideMap$Node", name := "isLeaf", desc := "()Z" } : Jvm.MethodName) ({ cls := "WideMap$Leaf", name := "isLeaf", desc := "()Z" } : Jvm.MethodName)) ∈ lw_all := lw_g (lw_at lw_m4 38 rfl) rfl
theorem q889 : (Jvm.Cond.unhidden "WideMap$Leaf" "isLeaf" "()Z") ∈ lw_tbl := lw_at lw_m4 39 rfl
theorem q890 : (Jvm.Cond.instanceMethod ({ cls := "WideMap$Leaf", name := "isLeaf", desc := "()Z" } : Jvm.MethodName)) ∈ lw_all := lw_g (lw_at lw_m4 40 rfl) rfl
theorem q891 : (Jvm.Cond.publicMethod ({ cls := "WideMap$Leaf", name := "isLeaf", desc := "()Z" } : Jvm.MethodName)) ∈ lw_tbl := lw_at lw_m4 41 rfl
theorem q892 : (Jvm.Cond.code ({ cls := "WideMap$Leaf", name := "isLeaf", desc := "()Z" } : Jvm.MethodName) prog_4_method_2_code (1 : Nat) (Option.some Jvm.ClassFile.FieldType.boolean)) ∈ lw_all := lw_g (lw_at lw_m4 42 rfl) rfl
theorem q910 : (Jvm.Cond.selects "WideMap$Leaf" ({ cls := "WideMap$Node", name := "many", desc := "()I" } : Jvm.MethodName) ({ cls := "WideMap$Marked", name := "many", desc := "()I" } : Jvm.MethodName)) ∈ lw_all := lw_g (lw_at lw_m4 60 rfl) rfl
theorem q911 : (Jvm.Cond.unhidden "WideMap$Leaf" "many" "()I") ∈ lw_tbl := lw_at lw_m4 61 rfl
theorem q921 : (Jvm.Cond.selects "WideMap$Leaf" ({ cls := "WideMap$Node", name := "kid", desc := "(I)LWideMap$Node;" } : Jvm.MethodName) ({ cls := "WideMap$Leaf", name := "kid", desc := "(I)LWideMap$Node;" } : Jvm.MethodName)) ∈ lw_all := lw_g (lw_at lw_m4 71 rfl) rfl
theorem q922 : (Jvm.Cond.unhidden "WideMap$Leaf" "kid" "(I)LWideMap$Node;") ∈ lw_tbl := lw_at lw_m4 72 rfl
theorem q923 : (Jvm.Cond.instanceMethod ({ cls := "WideMap$Leaf", name := "kid", desc := "(I)LWideMap$Node;" } : Jvm.MethodName)) ∈ lw_all := lw_g (lw_at lw_m4 73 rfl) rfl
theorem q924 : (Jvm.Cond.publicMethod ({ cls := "WideMap$Leaf", name := "kid", desc := "(I)LWideMap$Node;" } : Jvm.MethodName)) ∈ lw_tbl := lw_at lw_m4 74 rfl
theorem q925 : (Jvm.Cond.code ({ cls := "WideMap$Leaf", name := "kid", desc := "(I)LWideMap$Node;" } : Jvm.MethodName) prog_4_method_4_code (2 : Nat) (Option.some (Jvm.ClassFile.FieldType.object "WideMap$Node"))) ∈ lw_all := lw_g (lw_at lw_m4 75 rfl) rfl
theorem q937 : (Jvm.Cond.selects "WideMap$Leaf" ({ cls := "WideMap$Node", name := "low", desc := "()I" } : Jvm.MethodName) ({ cls := "WideMap$Leaf", name := "low", desc := "()I" } : Jvm.MethodName)) ∈ lw_all := lw_g (lw_at lw_m4 87 rfl) rfl
theorem q938 : (Jvm.Cond.unhidden "WideMap$Leaf" "low" "()I") ∈ lw_tbl := lw_at lw_m4 88 rfl
theorem q939 : (Jvm.Cond.instanceMethod ({ cls := "WideMap$Leaf", name := "low", desc := "()I" } : Jvm.MethodName)) ∈ lw_all := lw_g (lw_at lw_m4 89 rfl) rfl
theorem q940 : (Jvm.Cond.publicMethod ({ cls := "WideMap$Leaf", name := "low", desc := "()I" } : Jvm.MethodName)) ∈ lw_tbl := lw_at lw_m4 90 rfl
theorem q941 : (Jvm.Cond.code ({ cls := "WideMap$Leaf", name := "low", desc := "()I" } : Jvm.MethodName) prog_4_method_3_code (1 : Nat) (Option.some Jvm.ClassFile.FieldType.int)) ∈ lw_all := lw_g (lw_at lw_m4 91 rfl) rfl
theorem q942 : (Jvm.Cond.unhidden "WideMap$Leaf" "kidFor" "(I)I") ∈ lw_tbl := lw_at lw_m4 92 rfl
theorem q956 : (Jvm.Cond.selects "WideMap$Leaf" ({ cls := "WideMap$Node", name := "keyAt", desc := "(I)I" } : Jvm.MethodName) ({ cls := "WideMap$Leaf", name := "keyAt", desc := "(I)I" } : Jvm.MethodName)) ∈ lw_all := lw_g (lw_at lw_m4 106 rfl) rfl
theorem q957 : (Jvm.Cond.unhidden "WideMap$Leaf" "keyAt" "(I)I") ∈ lw_tbl := lw_at lw_m4 107 rfl
theorem q958 : (Jvm.Cond.instanceMethod ({ cls := "WideMap$Leaf", name := "keyAt", desc := "(I)I" } : Jvm.MethodName)) ∈ lw_all := lw_g (lw_at lw_m4 108 rfl) rfl
theorem q959 : (Jvm.Cond.publicMethod ({ cls := "WideMap$Leaf", name := "keyAt", desc := "(I)I" } : Jvm.MethodName)) ∈ lw_tbl := lw_at lw_m4 109 rfl
theorem q960 : (Jvm.Cond.code ({ cls := "WideMap$Leaf", name := "keyAt", desc := "(I)I" } : Jvm.MethodName) prog_4_method_5_code (2 : Nat) (Option.some Jvm.ClassFile.FieldType.int)) ∈ lw_all := lw_g (lw_at lw_m4 110 rfl) rfl
theorem q970 : (Jvm.Cond.selects "WideMap$Leaf" ({ cls := "WideMap$Node", name := "valueAt", desc := "(I)I" } : Jvm.MethodName) ({ cls := "WideMap$Leaf", name := "valueAt", desc := "(I)I" } : Jvm.MethodName)) ∈ lw_all := lw_g (lw_at lw_m4 120 rfl) rfl
theorem q971 : (Jvm.Cond.unhidden "WideMap$Leaf" "valueAt" "(I)I") ∈ lw_tbl := lw_at lw_m4 121 rfl
theorem q972 : (Jvm.Cond.instanceMethod ({ cls := "WideMap$Leaf", name := "valueAt", desc := "(I)I" } : Jvm.MethodName)) ∈ lw_all := lw_g (lw_at lw_m4 122 rfl) rfl
theorem q973 : (Jvm.Cond.publicMethod ({ cls := "WideMap$Leaf", name := "valueAt", desc := "(I)I" } : Jvm.MethodName)) ∈ lw_tbl := lw_at lw_m4 123 rfl
theorem q974 : (Jvm.Cond.code ({ cls := "WideMap$Leaf", name := "valueAt", desc := "(I)I" } : Jvm.MethodName) prog_4_method_6_code (2 : Nat) (Option.some Jvm.ClassFile.FieldType.int)) ∈ lw_all := lw_g (lw_at lw_m4 124 rfl) rfl
theorem q1000 : (Jvm.Cond.selects "WideMap$Leaf" ({ cls := "WideMap$Node", name := "token", desc := "()LWideMap$Token;" } : Jvm.MethodName) ({ cls := "WideMap$Marked", name := "token", desc := "()LWideMap$Token;" } : Jvm.MethodName)) ∈ lw_all := lw_g (lw_at lw_m4 150 rfl) rfl
theorem q1001 : (Jvm.Cond.unhidden "WideMap$Leaf" "token" "()LWideMap$Token;") ∈ lw_tbl := lw_at lw_m4 151 rfl
theorem q1002 : (Jvm.Cond.unhidden "WideMap$Leaf" "isOf" "(LWideMap$Token;)Z") ∈ lw_tbl := lw_at lw_m4 152 rfl
theorem q1027 : (Jvm.Cond.selects "WideMap$Leaf" ({ cls := "WideMap$Node", name := "copied", desc := "(LWideMap$Token;)LWideMap$Node;" } : Jvm.MethodName) ({ cls := "WideMap$Leaf", name := "copied", desc := "(LWideMap$Token;)LWideMap$Node;" } : Jvm.MethodName)) ∈ lw_all := lw_g (lw_at lw_m4 177 rfl) rfl
theorem q1028 : (Jvm.Cond.unhidden "WideMap$Leaf" "copied" "(LWideMap$Token;)LWideMap$Node;") ∈ lw_tbl := lw_at lw_m4 178 rfl
theorem q1029 : (Jvm.Cond.instanceMethod ({ cls := "WideMap$Leaf", name := "copied", desc := "(LWideMap$Token;)LWideMap$Node;" } : Jvm.MethodName)) ∈ lw_all := lw_g (lw_at lw_m4 179 rfl) rfl
theorem q1030 : (Jvm.Cond.publicMethod ({ cls := "WideMap$Leaf", name := "copied", desc := "(LWideMap$Token;)LWideMap$Node;" } : Jvm.MethodName)) ∈ lw_tbl := lw_at lw_m4 180 rfl
theorem q1031 : (Jvm.Cond.code ({ cls := "WideMap$Leaf", name := "copied", desc := "(LWideMap$Token;)LWideMap$Node;" } : Jvm.MethodName) prog_4_method_7_code (4 : Nat) (Option.some (Jvm.ClassFile.FieldType.object "WideMap$Node"))) ∈ lw_all := lw_g (lw_at lw_m4 181 rfl) rfl
theorem q1032 : (Jvm.Cond.classLink "WideMap$Leaf" (10 : Nat) "WideMap$Leaf") ∈ lw_all := lw_g (lw_at lw_m4 182 rfl) rfl
theorem q1033 : (Jvm.Cond.methodLink "WideMap$Leaf" (22 : Nat) ({ cls := "WideMap$Leaf", name := "<init>", desc := "(LWideMap$Token;I)V" } : Jvm.MethodName)) ∈ lw_all := lw_g (lw_at lw_m4 183 rfl) rfl
theorem q1034 : (Jvm.Cond.methodLink "WideMap$Leaf" (25 : Nat) ({ cls := "WideMap$Leaf", name := "put", desc := "(III)V" } : Jvm.MethodName)) ∈ lw_all := lw_g (lw_at lw_m4 184 rfl) rfl
theorem q1035 : (Jvm.Cond.privateMethod ({ cls := "WideMap$Leaf", name := "put", desc := "(III)V" } : Jvm.MethodName)) ∈ lw_tbl := lw_at lw_m4 185 rfl
theorem q1036 : (Jvm.Cond.instanceMethod ({ cls := "WideMap$Leaf", name := "put", desc := "(III)V" } : Jvm.MethodName)) ∈ lw_all := lw_g (lw_at lw_m4 186 rfl) rfl
theorem q1037 : (Jvm.Cond.code ({ cls := "WideMap$Leaf", name := "put", desc := "(III)V" } : Jvm.MethodName) prog_4_method_8_code (4 : Nat) (Option.none : Option Jvm.ClassFile.FieldType)) ∈ lw_all := lw_g (lw_at lw_m4 187 rfl) rfl
theorem q1038 : (Jvm.Cond.unhidden "WideMap$Leaf" "edited" "(LWideMap$Token;)LWideMap$Node;") ∈ lw_tbl := lw_at lw_m4 188 rfl
theorem q1052 : (Jvm.Cond.selects "WideMap$Leaf" ({ cls := "WideMap$Node", name := "lays", desc := "(LWideMap$Token;III)LWideMap$Node;" } : Jvm.MethodName) ({ cls := "WideMap$Leaf", name := "lays", desc := "(LWideMap$Token;III)LWideMap$Node;" } : Jvm.MethodName)) ∈ lw_all := lw_g (lw_at lw_m4 202 rfl) rfl
theorem q1053 : (Jvm.Cond.unhidden "WideMap$Leaf" "lays" "(LWideMap$Token;III)LWideMap$Node;") ∈ lw_tbl := lw_at lw_m4 203 rfl
theorem q1054 : (Jvm.Cond.instanceMethod ({ cls := "WideMap$Leaf", name := "lays", desc := "(LWideMap$Token;III)LWideMap$Node;" } : Jvm.MethodName)) ∈ lw_all := lw_g (lw_at lw_m4 204 rfl) rfl
theorem q1055 : (Jvm.Cond.publicMethod ({ cls := "WideMap$Leaf", name := "lays", desc := "(LWideMap$Token;III)LWideMap$Node;" } : Jvm.MethodName)) ∈ lw_tbl := lw_at lw_m4 205 rfl
theorem q1056 : (Jvm.Cond.code ({ cls := "WideMap$Leaf", name := "lays", desc := "(LWideMap$Token;III)LWideMap$Node;" } : Jvm.MethodName) prog_4_method_12_code (8 : Nat) (Option.some (Jvm.ClassFile.FieldType.object "WideMap$Node"))) ∈ lw_all := lw_g (lw_at lw_m4 206 rfl) rfl
theorem q1057 : (Jvm.Cond.methodLink "WideMap$Leaf" (29 : Nat) ({ cls := "WideMap$Leaf", name := "placeOf", desc := "(I)I" } : Jvm.MethodName)) ∈ lw_all := lw_g (lw_at lw_m4 207 rfl) rfl
theorem q1058 : (Jvm.Cond.privateMethod ({ cls := "WideMap$Leaf", name := "placeOf", desc := "(I)I" } : Jvm.MethodName)) ∈ lw_tbl := lw_at lw_m4 208 rfl
theorem q1059 : (Jvm.Cond.instanceMethod ({ cls := "WideMap$Leaf", name := "placeOf", desc := "(I)I" } : Jvm.MethodName)) ∈ lw_all := lw_g (lw_at lw_m4 209 rfl) rfl
theorem q1060 : (Jvm.Cond.code ({ cls := "WideMap$Leaf", name := "placeOf", desc := "(I)I" } : Jvm.MethodName) prog_4_method_11_code (3 : Nat) (Option.some Jvm.ClassFile.FieldType.int)) ∈ lw_all := lw_g (lw_at lw_m4 210 rfl) rfl
theorem q1061 : (Jvm.Cond.methodLink "WideMap$Leaf" (33 : Nat) ({ cls := "WideMap$Leaf", name := "makeRoom", desc := "(I)V" } : Jvm.MethodName)) ∈ lw_all := lw_g (lw_at lw_m4 211 rfl) rfl
theorem q1062 : (Jvm.Cond.privateMethod ({ cls := "WideMap$Leaf", name := "makeRoom", desc := "(I)V" } : Jvm.MethodName)) ∈ lw_tbl := lw_at lw_m4 212 rfl
theorem q1063 : (Jvm.Cond.instanceMethod ({ cls := "WideMap$Leaf", name := "makeRoom", desc := "(I)V" } : Jvm.MethodName)) ∈ lw_all := lw_g (lw_at lw_m4 213 rfl) rfl
theorem q1064 : (Jvm.Cond.code ({ cls := "WideMap$Leaf", name := "makeRoom", desc := "(I)V" } : Jvm.MethodName) prog_4_method_9_code (3 : Nat) (Option.none : Option Jvm.ClassFile.FieldType)) ∈ lw_all := lw_g (lw_at lw_m4 214 rfl) rfl
theorem q1065 : (Jvm.Cond.methodLink "WideMap$Leaf" (37 : Nat) ({ cls := "WideMap$Token", name := "makes", desc := "()V" } : Jvm.MethodName)) ∈ lw_all := lw_g (lw_at lw_m4 215 rfl) rfl
theorem q1126 : (Jvm.Cond.selects "WideMap$Leaf" ({ cls := "WideMap$Node", name := "isStamped", desc := "(I)Z" } : Jvm.MethodName) ({ cls := "WideMap$Marked", name := "isStamped", desc := "(I)Z" } : Jvm.MethodName)) ∈ lw_all := lw_g (lw_at lw_m5 36 rfl) rfl
theorem q1127 : (Jvm.Cond.unhidden "WideMap$Leaf" "isStamped" "(I)Z") ∈ lw_tbl := lw_at lw_m5 37 rfl
theorem q1137 : (Jvm.Cond.selects "WideMap$Leaf" ({ cls := "WideMap$Node", name := "stamp", desc := "(I)V" } : Jvm.MethodName) ({ cls := "WideMap$Marked", name := "stamp", desc := "(I)V" } : Jvm.MethodName)) ∈ lw_all := lw_g (lw_at lw_m5 47 rfl) rfl
theorem q1138 : (Jvm.Cond.unhidden "WideMap$Leaf" "stamp" "(I)V") ∈ lw_tbl := lw_at lw_m5 48 rfl
theorem q1141 : (Jvm.Cond.unhidden "WideMap$Leaf" "counts" "(IILWideMap$Token;)I") ∈ lw_tbl := lw_at lw_m5 51 rfl
theorem q1152 : (Jvm.Cond.unhidden "WideMap$Leaf" "levels" "()I") ∈ lw_tbl := lw_at lw_m5 62 rfl
theorem q1201 : (Jvm.Cond.unhidden "WideMap$Leaf" "hasIn" "(LWideMap$Node;)Z") ∈ lw_tbl := lw_at lw_m5 111 rfl
theorem q1235 : (Jvm.Cond.selects "WideMap$Leaf" ({ cls := "WideMap$Node", name := "takes", desc := "(LWideMap$Token;II)V" } : Jvm.MethodName) ({ cls := "WideMap$Leaf", name := "takes", desc := "(LWideMap$Token;II)V" } : Jvm.MethodName)) ∈ lw_all := lw_g (lw_at lw_m5 145 rfl) rfl
theorem q1236 : (Jvm.Cond.unhidden "WideMap$Leaf" "takes" "(LWideMap$Token;II)V") ∈ lw_tbl := lw_at lw_m5 146 rfl
theorem q1237 : (Jvm.Cond.instanceMethod ({ cls := "WideMap$Leaf", name := "takes", desc := "(LWideMap$Token;II)V" } : Jvm.MethodName)) ∈ lw_all := lw_g (lw_at lw_m5 147 rfl) rfl
theorem q1238 : (Jvm.Cond.publicMethod ({ cls := "WideMap$Leaf", name := "takes", desc := "(LWideMap$Token;II)V" } : Jvm.MethodName)) ∈ lw_tbl := lw_at lw_m5 148 rfl
theorem q1239 : (Jvm.Cond.code ({ cls := "WideMap$Leaf", name := "takes", desc := "(LWideMap$Token;II)V" } : Jvm.MethodName) prog_4_method_13_code (4 : Nat) (Option.none : Option Jvm.ClassFile.FieldType)) ∈ lw_all := lw_g (lw_at lw_m5 149 rfl) rfl
theorem q1240 : (Jvm.Cond.methodLink "WideMap$Leaf" (43 : Nat) ({ cls := "WideMap$Leaf", name := "close", desc := "(I)V" } : Jvm.MethodName)) ∈ lw_all := lw_g (lw_at lw_m5 150 rfl) rfl
theorem q1241 : (Jvm.Cond.privateMethod ({ cls := "WideMap$Leaf", name := "close", desc := "(I)V" } : Jvm.MethodName)) ∈ lw_tbl := lw_at lw_m5 151 rfl
theorem q1242 : (Jvm.Cond.instanceMethod ({ cls := "WideMap$Leaf", name := "close", desc := "(I)V" } : Jvm.MethodName)) ∈ lw_all := lw_g (lw_at lw_m5 152 rfl) rfl
theorem q1243 : (Jvm.Cond.code ({ cls := "WideMap$Leaf", name := "close", desc := "(I)V" } : Jvm.MethodName) prog_4_method_10_code (3 : Nat) (Option.none : Option Jvm.ClassFile.FieldType)) ∈ lw_all := lw_g (lw_at lw_m5 153 rfl) rfl
theorem q1263 : (Jvm.Cond.selects "WideMap$Leaf" ({ cls := "WideMap$Node", name := "lastOf", desc := "(LWideMap$Node;)V" } : Jvm.MethodName) ({ cls := "WideMap$Leaf", name := "lastOf", desc := "(LWideMap$Node;)V" } : Jvm.MethodName)) ∈ lw_all := lw_g (lw_at lw_m5 173 rfl) rfl
theorem q1264 : (Jvm.Cond.unhidden "WideMap$Leaf" "lastOf" "(LWideMap$Node;)V") ∈ lw_tbl := lw_at lw_m5 174 rfl
theorem q1265 : (Jvm.Cond.instanceMethod ({ cls := "WideMap$Leaf", name := "lastOf", desc := "(LWideMap$Node;)V" } : Jvm.MethodName)) ∈ lw_all := lw_g (lw_at lw_m5 175 rfl) rfl
theorem q1266 : (Jvm.Cond.publicMethod ({ cls := "WideMap$Leaf", name := "lastOf", desc := "(LWideMap$Node;)V" } : Jvm.MethodName)) ∈ lw_tbl := lw_at lw_m5 176 rfl
theorem q1267 : (Jvm.Cond.code ({ cls := "WideMap$Leaf", name := "lastOf", desc := "(LWideMap$Node;)V" } : Jvm.MethodName) prog_4_method_14_code (3 : Nat) (Option.none : Option Jvm.ClassFile.FieldType)) ∈ lw_all := lw_g (lw_at lw_m5 177 rfl) rfl
theorem q1277 : (Jvm.Cond.selects "WideMap$Leaf" ({ cls := "WideMap$Node", name := "firstOf", desc := "(LWideMap$Node;)V" } : Jvm.MethodName) ({ cls := "WideMap$Leaf", name := "firstOf", desc := "(LWideMap$Node;)V" } : Jvm.MethodName)) ∈ lw_all := lw_g (lw_at lw_m5 187 rfl) rfl
theorem q1278 : (Jvm.Cond.unhidden "WideMap$Leaf" "firstOf" "(LWideMap$Node;)V") ∈ lw_tbl := lw_at lw_m5 188 rfl
theorem q1279 : (Jvm.Cond.instanceMethod ({ cls := "WideMap$Leaf", name := "firstOf", desc := "(LWideMap$Node;)V" } : Jvm.MethodName)) ∈ lw_all := lw_g (lw_at lw_m5 189 rfl) rfl
theorem q1280 : (Jvm.Cond.publicMethod ({ cls := "WideMap$Leaf", name := "firstOf", desc := "(LWideMap$Node;)V" } : Jvm.MethodName)) ∈ lw_tbl := lw_at lw_m5 190 rfl
theorem q1281 : (Jvm.Cond.code ({ cls := "WideMap$Leaf", name := "firstOf", desc := "(LWideMap$Node;)V" } : Jvm.MethodName) prog_4_method_15_code (3 : Nat) (Option.none : Option Jvm.ClassFile.FieldType)) ∈ lw_all := lw_g (lw_at lw_m5 191 rfl) rfl
theorem q1293 : (Jvm.Cond.selects "WideMap$Leaf" ({ cls := "WideMap$Node", name := "allOf", desc := "(LWideMap$Node;)V" } : Jvm.MethodName) ({ cls := "WideMap$Leaf", name := "allOf", desc := "(LWideMap$Node;)V" } : Jvm.MethodName)) ∈ lw_all := lw_g (lw_at lw_m5 203 rfl) rfl
theorem q1294 : (Jvm.Cond.unhidden "WideMap$Leaf" "allOf" "(LWideMap$Node;)V") ∈ lw_tbl := lw_at lw_m5 204 rfl
theorem q1295 : (Jvm.Cond.instanceMethod ({ cls := "WideMap$Leaf", name := "allOf", desc := "(LWideMap$Node;)V" } : Jvm.MethodName)) ∈ lw_all := lw_g (lw_at lw_m5 205 rfl) rfl
theorem q1296 : (Jvm.Cond.publicMethod ({ cls := "WideMap$Leaf", name := "allOf", desc := "(LWideMap$Node;)V" } : Jvm.MethodName)) ∈ lw_tbl := lw_at lw_m5 206 rfl
theorem q1297 : (Jvm.Cond.code ({ cls := "WideMap$Leaf", name := "allOf", desc := "(LWideMap$Node;)V" } : Jvm.MethodName) prog_4_method_16_code (3 : Nat) (Option.none : Option Jvm.ClassFile.FieldType)) ∈ lw_all := lw_g (lw_at lw_m5 207 rfl) rfl
theorem q1298 : (Jvm.Cond.interfaceEntry "WideMap$Leaf" (46 : Nat)) ∈ lw_tbl := lw_at lw_m5 208 rfl
theorem q1299 : (Jvm.Cond.methodLink "WideMap$Leaf" (46 : Nat) ({ cls := "WideMap$Node", name := "many", desc := "()I" } : Jvm.MethodName)) ∈ lw_all := lw_g (lw_at lw_m5 209 rfl) rfl
theorem q1300 : (Jvm.Cond.interfaceEntry "WideMap$Leaf" (52 : Nat)) ∈ lw_tbl := lw_at lw_m5 210 rfl
theorem q1301 : (Jvm.Cond.methodLink "WideMap$Leaf" (52 : Nat) ({ cls := "WideMap$Node", name := "keyAt", desc := "(I)I" } : Jvm.MethodName)) ∈ lw_all := lw_g (lw_at lw_m5 211 rfl) rfl
theorem q1302 : (Jvm.Cond.interfaceEntry "WideMap$Leaf" (55 : Nat)) ∈ lw_tbl := lw_at lw_m5 212 rfl
theorem q1303 : (Jvm.Cond.methodLink "WideMap$Leaf" (55 : Nat) ({ cls := "WideMap$Node", name := "valueAt", desc := "(I)I" } : Jvm.MethodName)) ∈ lw_all := lw_g (lw_at lw_m5 213 rfl) rfl
theorem q1507 : (Jvm.Cond.selects "WideMap$Leaf" ({ cls := "WideMap$Node", name := "shows", desc := "(Ljava/lang/StringBuilder;)V" } : Jvm.MethodName) ({ cls := "WideMap$Leaf", name := "shows", desc := "(Ljava/lang/StringBuilder;)V" } : Jvm.MethodName)) ∈ lw_all := lw_g (lw_at lw_m6 177 rfl) rfl
theorem q1508 : (Jvm.Cond.unhidden "WideMap$Leaf" "shows" "(Ljava/lang/StringBuilder;)V") ∈ lw_tbl := lw_at lw_m6 178 rfl
theorem q1509 : (Jvm.Cond.instanceMethod ({ cls := "WideMap$Leaf", name := "shows", desc := "(Ljava/lang/StringBuilder;)V" } : Jvm.MethodName)) ∈ lw_all := lw_g (lw_at lw_m6 179 rfl) rfl
theorem q1510 : (Jvm.Cond.publicMethod ({ cls := "WideMap$Leaf", name := "shows", desc := "(Ljava/lang/StringBuilder;)V" } : Jvm.MethodName)) ∈ lw_tbl := lw_at lw_m6 180 rfl
theorem q1511 : (Jvm.Cond.code ({ cls := "WideMap$Leaf", name := "shows", desc := "(Ljava/lang/StringBuilder;)V" } : Jvm.MethodName) prog_4_method_17_code (3 : Nat) (Option.none : Option Jvm.ClassFile.FieldType)) ∈ lw_all := lw_g (lw_at lw_m6 181 rfl) rfl
theorem q1512 : (Jvm.Cond.methodLink "WideMap$Leaf" (58 : Nat) ({ cls := "java/lang/StringBuilder", name := "append", desc := "(C)Ljava/lang/StringBuilder;" } : Jvm.MethodName)) ∈ lw_all := lw_g (lw_at lw_m6 182 rfl) rfl
theorem q1513 : (Jvm.Cond.stringRef "WideMap$Leaf" (64 : Nat) "") ∈ lw_tbl := lw_at lw_m6 183 rfl
theorem q1514 : (Jvm.Cond.stringRef "WideMap$Leaf" (66 : Nat) " ") ∈ lw_tbl := lw_at lw_m6 184 rfl
theorem q1515 : (Jvm.Cond.methodLink "WideMap$Leaf" (68 : Nat) ({ cls := "java/lang/StringBuilder", name := "append", desc := "(Ljava/lang/String;)Ljava/lang/StringBuilder;" } : Jvm.MethodName)) ∈ lw_all := lw_g (lw_at lw_m6 185 rfl) rfl
theorem q1554 : (Jvm.Cond.methodLink "WideMap$Leaf" (71 : Nat) ({ cls := "java/lang/StringBuilder", name := "append", desc := "(I)Ljava/lang/StringBuilder;" } : Jvm.MethodName)) ∈ lw_all := lw_g (lw_at lw_m6 224 rfl) rfl
theorem q2397 : (Jvm.Cond.castable "WideMap$Leaf" "java/lang/Object") ∈ lw_tbl := lw_at lw_m10 107 rfl
theorem in_X7 : ∀ w ∈ wsX70, w ∈ lw_all := lw_in wsX70 [860, 862, 864, 856, 858] (by decide +kernel) (by decide +kernel)
/-! WideMap$Inner -/
set_option maxRecDepth 100000
def RX8 : String := "WideMap$Inner"
def TX8 : u_T := fun k => match k with
  | 0 => ("WideMap$Marked", "token", "LWideMap$Token;", true)
  | 1 => ("WideMap$Marked", "n", "I", false)
  | 2 => ("WideMap$Marked", "stamp", "I", false)
  | _ => ("WideMap$Inner", "kids", "[LWideMap$Node;", true)
def tyX8 : Nat → FieldType := fun k => match k with
  | 0 => .object "WideMap$Token"
  | 1 => .int
  | 2 => .int
  | _ => .array (.object "WideMap$Node")
abbrev wsX80 : List Cond := u_ws RX8 TX8 4
theorem nmX8 : ∀ a, a < 4 → ∀ b, b < 4 → a ≠ b → (TX8 a).2.1 ≠ (TX8 b).2.1 := by decide +kernel
theorem tyX8_ok : ∀ k, k < 4 → parseFieldDescriptor (TX8 k).2.2.1 = some (tyX8 k) := by decide +kernel
abbrev cX8_isLeaf : ByteArray := prog_3_method_2_code
def yX8_isLeaf : MethodName := ⟨RX8, "isLeaf", "()Z"⟩
theorem dX8_isLeaf_0 : decode cX8_isLeaf 0 = .ok (.iconst 0, 1) := by decide +kernel
theorem dX8_isLeaf_1 : decode cX8_isLeaf 1 = .ok (.ireturn, 1) := by decide +kernel
abbrev cX8_kid : ByteArray := prog_3_method_4_code
def yX8_kid : MethodName := ⟨RX8, "kid", "(I)LWideMap$Node;"⟩
def dkwX8_kid_0 : List UInt8 := [42, 180, 0, 9, 27, 50, 176]
abbrev dktX8_kid_0 : List UInt8 := dkwX8_kid_0 ++ []
theorem dksX8_kid_0 : cX8_kid.data.toList.drop 0 = dktX8_kid_0 := by decide +kernel
theorem dX8_kid_0 : decode cX8_kid 0 = .ok (.aload_n 0, 1) := dk_42 (dk_at dksX8_kid_0 0 rfl rfl)
theorem dX8_kid_1 : decode cX8_kid 1 = .ok (.getfield 9, 3) := dk_180 0 9 (dk_at dksX8_kid_0 1 rfl rfl)
theorem dX8_kid_4 : decode cX8_kid 4 = .ok (.iload_n 1, 1) := dk_27 (dk_at dksX8_kid_0 4 rfl rfl)
theorem dX8_kid_5 : decode cX8_kid 5 = .ok (.aaload, 1) := dk_50 (dk_at dksX8_kid_0 5 rfl rfl)
theorem dX8_kid_6 : decode cX8_kid 6 = .ok (.areturn, 1) := dk_176 (dk_at dksX8_kid_0 6 rfl rfl)
abbrev cX8_low : ByteArray := prog_3_method_3_code
def yX8_low : MethodName := ⟨RX8, "low", "()I"⟩
def dkwX8_low_0 : List UInt8 := [42, 180, 0, 9, 3, 50, 185, 0, 15, 1, 0, 172]
abbrev dktX8_low_0 : List UInt8 := dkwX8_low_0 ++ []
theorem dksX8_low_0 : cX8_low.data.toList.drop 0 = dktX8_low_0 := by decide +kernel
theorem dX8_low_0 : decode cX8_low 0 = .ok (.aload_n 0, 1) := dk_42 (dk_at dksX8_low_0 0 rfl rfl)
theorem dX8_low_1 : decode cX8_low 1 = .ok (.getfield 9, 3) := dk_180 0 9 (dk_at dksX8_low_0 1 rfl rfl)
theorem dX8_low_4 : decode cX8_low 4 = .ok (.iconst 0, 1) := dk_3 (dk_at dksX8_low_0 4 rfl rfl)
theorem dX8_low_5 : decode cX8_low 5 = .ok (.aaload, 1) := dk_50 (dk_at dksX8_low_0 5 rfl rfl)
theorem dX8_low_6 : decode cX8_low 6 = .ok (.invokeinterface 15 1, 5) := by decide +kernel
theorem dX8_low_11 : decode cX8_low 11 = .ok (.ireturn, 1) := dk_172 (dk_at dksX8_low_0 11 rfl rfl)
abbrev cX8_keyAt : ByteArray := prog_3_method_5_code
def yX8_keyAt : MethodName := ⟨RX8, "keyAt", "(I)I"⟩
def dkwX8_keyAt_0 : List UInt8 := [42, 180, 0, 9, 27, 50, 185, 0, 15, 1, 0, 172]
abbrev dktX8_keyAt_0 : List UInt8 := dkwX8_keyAt_0 ++ []
theorem dksX8_keyAt_0 : cX8_keyAt.data.toList.drop 0 = dktX8_keyAt_0 := by decide +kernel
theorem dX8_keyAt_0 : decode cX8_keyAt 0 = .ok (.aload_n 0, 1) := dk_42 (dk_at dksX8_keyAt_0 0 rfl rfl)
theorem dX8_keyAt_1 : decode cX8_keyAt 1 = .ok (.getfield 9, 3) := dk_180 0 9 (dk_at dksX8_keyAt_0 1 rfl rfl)
theorem dX8_keyAt_4 : decode cX8_keyAt 4 = .ok (.iload_n 1, 1) := dk_27 (dk_at dksX8_keyAt_0 4 rfl rfl)
theorem dX8_keyAt_5 : decode cX8_keyAt 5 = .ok (.aaload, 1) := dk_50 (dk_at dksX8_keyAt_0 5 rfl rfl)
theorem dX8_keyAt_6 : decode cX8_keyAt 6 = .ok (.invokeinterface 15 1, 5) := by decide +kernel
theorem dX8_keyAt_11 : decode cX8_keyAt 11 = .ok (.ireturn, 1) := dk_172 (dk_at dksX8_keyAt_0 11 rfl rfl)
abbrev cX8_valueAt : ByteArray := prog_3_method_6_code
def yX8_valueAt : MethodName := ⟨RX8, "valueAt", "(I)I"⟩
theorem dX8_valueAt_0 : decode cX8_valueAt 0 = .ok (.iconst 0, 1) := by decide +kernel
theorem dX8_valueAt_1 : decode cX8_valueAt 1 = .ok (.ireturn, 1) := by decide +kernel
abbrev cX8_copied : ByteArray := prog_3_method_7_code
def yX8_copied : MethodName := ⟨RX8, "copied", "(LWideMap$Token;)LWideMap$Node;"⟩
def dkwX8_copied_2 : List UInt8 := [180, 0, 22, 181, 0, 22, 44, 176]
abbrev dktX8_copied_2 : List UInt8 := dkwX8_copied_2 ++ []
def dkwX8_copied_1 : List UInt8 := [162, 0, 21, 44, 180, 0, 9, 29, 42, 180, 0, 9, 29, 50, 83, 132, 3, 1, 167, 255, 233, 44, 42]
abbrev dktX8_copied_1 : List UInt8 := dkwX8_copied_1 ++ dktX8_copied_2
def dkwX8_copied_0 : List UInt8 := [187, 0, 10, 89, 43, 42, 180, 0, 9, 190, 4, 100, 183, 0, 19, 77, 3, 62, 29, 42, 180, 0, 22]
abbrev dktX8_copied_0 : List UInt8 := dkwX8_copied_0 ++ dktX8_copied_1
theorem dksX8_copied_0 : cX8_copied.data.toList.drop 0 = dktX8_copied_0 := by decide +kernel
theorem dksX8_copied_1 : cX8_copied.data.toList.drop 23 = dktX8_copied_1 := dk_seg dksX8_copied_0 23 rfl rfl
theorem dksX8_copied_2 : cX8_copied.data.toList.drop 46 = dktX8_copied_2 := dk_seg dksX8_copied_1 23 rfl rfl
theorem dX8_copied_0 : decode cX8_copied 0 = .ok (.new 10, 3) := dk_187 0 10 (dk_at dksX8_copied_0 0 rfl rfl)
theorem dX8_copied_3 : decode cX8_copied 3 = .ok (.dup, 1) := dk_89 (dk_at dksX8_copied_0 3 rfl rfl)
theorem dX8_copied_4 : decode cX8_copied 4 = .ok (.aload_n 1, 1) := dk_43 (dk_at dksX8_copied_0 4 rfl rfl)
theorem dX8_copied_5 : decode cX8_copied 5 = .ok (.aload_n 0, 1) := dk_42 (dk_at dksX8_copied_0 5 rfl rfl)
theorem dX8_copied_6 : decode cX8_copied 6 = .ok (.getfield 9, 3) := dk_180 0 9 (dk_at dksX8_copied_0 6 rfl rfl)
theorem dX8_copied_9 : decode cX8_copied 9 = .ok (.arraylength, 1) := dk_190 (dk_at dksX8_copied_0 9 rfl rfl)
theorem dX8_copied_10 : decode cX8_copied 10 = .ok (.iconst 1, 1) := dk_4 (dk_at dksX8_copied_0 10 rfl rfl)
theorem dX8_copied_11 : decode cX8_copied 11 = .ok (.isub, 1) := dk_100 (dk_at dksX8_copied_0 11 rfl rfl)
theorem dX8_copied_12 : decode cX8_copied 12 = .ok (.invokespecial 19, 3) := dk_183 0 19 (dk_at dksX8_copied_0 12 rfl rfl)
theorem dX8_copied_15 : decode cX8_copied 15 = .ok (.astore_n 2, 1) := dk_77 (dk_at dksX8_copied_0 15 rfl rfl)
theorem dX8_copied_16 : decode cX8_copied 16 = .ok (.iconst 0, 1) := dk_3 (dk_at dksX8_copied_0 16 rfl rfl)
theorem dX8_copied_17 : decode cX8_copied 17 = .ok (.istore_n 3, 1) := dk_62 (dk_at dksX8_copied_0 17 rfl rfl)
theorem dX8_copied_18 : decode cX8_copied 18 = .ok (.iload_n 3, 1) := dk_29 (dk_at dksX8_copied_0 18 rfl rfl)
theorem dX8_copied_19 : decode cX8_copied 19 = .ok (.aload_n 0, 1) := dk_42 (dk_at dksX8_copied_0 19 rfl rfl)
theorem dX8_copied_20 : decode cX8_copied 20 = .ok (.getfield 22, 3) := dk_180 0 22 (dk_at dksX8_copied_0 20 rfl rfl)
theorem dX8_copied_23 : decode cX8_copied 23 = .ok (.if_icmp .ge 21, 3) := dk_162 0 21 (dk_at dksX8_copied_1 0 rfl rfl)
theorem dX8_copied_26 : decode cX8_copied 26 = .ok (.aload_n 2, 1) := dk_44 (dk_at dksX8_copied_1 3 rfl rfl)
theorem dX8_copied_27 : decode cX8_copied 27 = .ok (.getfield 9, 3) := dk_180 0 9 (dk_at dksX8_copied_1 4 rfl rfl)
theorem dX8_copied_30 : decode cX8_copied 30 = .ok (.iload_n 3, 1) := dk_29 (dk_at dksX8_copied_1 7 rfl rfl)
theorem dX8_copied_31 : decode cX8_copied 31 = .ok (.aload_n 0, 1) := dk_42 (dk_at dksX8_copied_1 8 rfl rfl)
theorem dX8_copied_32 : decode cX8_copied 32 = .ok (.getfield 9, 3) := dk_180 0 9 (dk_at dksX8_copied_1 9 rfl rfl)
theorem dX8_copied_35 : decode cX8_copied 35 = .ok (.iload_n 3, 1) := dk_29 (dk_at dksX8_copied_1 12 rfl rfl)
theorem dX8_copied_36 : decode cX8_copied 36 = .ok (.aaload, 1) := dk_50 (dk_at dksX8_copied_1 13 rfl rfl)
theorem dX8_copied_37 : decode cX8_copied 37 = .ok (.aastore, 1) := dk_83 (dk_at dksX8_copied_1 14 rfl rfl)
theorem dX8_copied_38 : decode cX8_copied 38 = .ok (.iinc 3 1, 3) := dk_132 3 1 (dk_at dksX8_copied_1 15 rfl rfl)
theorem dX8_copied_41 : decode cX8_copied 41 = .ok (.goto (-23), 3) := dk_167 255 233 (dk_at dksX8_copied_1 18 rfl rfl)
theorem dX8_copied_44 : decode cX8_copied 44 = .ok (.aload_n 2, 1) := dk_44 (dk_at dksX8_copied_1 21 rfl rfl)
theorem dX8_copied_45 : decode cX8_copied 45 = .ok (.aload_n 0, 1) := dk_42 (dk_at dksX8_copied_1 22 rfl rfl)
theorem dX8_copied_46 : decode cX8_copied 46 = .ok (.getfield 22, 3) := dk_180 0 22 (dk_at dksX8_copied_2 0 rfl rfl)
theorem dX8_copied_49 : decode cX8_copied 49 = .ok (.putfield 22, 3) := dk_181 0 22 (dk_at dksX8_copied_2 3 rfl rfl)
theorem dX8_copied_52 : decode cX8_copied 52 = .ok (.aload_n 2, 1) := dk_44 (dk_at dksX8_copied_2 6 rfl rfl)
theorem dX8_copied_53 : decode cX8_copied 53 = .ok (.areturn, 1) := dk_176 (dk_at dksX8_copied_2 7 rfl rfl)
abbrev cX8_init : ByteArray := prog_3_method_1_code
def yX8_init : MethodName := ⟨RX8, "<init>", "(LWideMap$Token;I)V"⟩
def dkwX8_init_0 : List UInt8 := [42, 43, 183, 0, 1, 42, 28, 4, 96, 189, 0, 7, 181, 0, 9, 177]
abbrev dktX8_init_0 : List UInt8 := dkwX8_init_0 ++ []
theorem dksX8_init_0 : cX8_init.data.toList.drop 0 = dktX8_init_0 := by decide +kernel
theorem dX8_init_0 : decode cX8_init 0 = .ok (.aload_n 0, 1) := dk_42 (dk_at dksX8_init_0 0 rfl rfl)
theorem dX8_init_1 : decode cX8_init 1 = .ok (.aload_n 1, 1) := dk_43 (dk_at dksX8_init_0 1 rfl rfl)
theorem dX8_init_2 : decode cX8_init 2 = .ok (.invokespecial 1, 3) := dk_183 0 1 (dk_at dksX8_init_0 2 rfl rfl)
theorem dX8_init_5 : decode cX8_init 5 = .ok (.aload_n 0, 1) := dk_42 (dk_at dksX8_init_0 5 rfl rfl)
theorem dX8_init_6 : decode cX8_init 6 = .ok (.iload_n 2, 1) := dk_28 (dk_at dksX8_init_0 6 rfl rfl)
theorem dX8_init_7 : decode cX8_init 7 = .ok (.iconst 1, 1) := dk_4 (dk_at dksX8_init_0 7 rfl rfl)
theorem dX8_init_8 : decode cX8_init 8 = .ok (.iadd, 1) := dk_96 (dk_at dksX8_init_0 8 rfl rfl)
theorem dX8_init_9 : decode cX8_init 9 = .ok (.anewarray 7, 3) := dk_189 0 7 (dk_at dksX8_init_0 9 rfl rfl)
theorem dX8_init_12 : decode cX8_init 12 = .ok (.putfield 9, 3) := dk_181 0 9 (dk_at dksX8_init_0 12 rfl rfl)
theorem dX8_init_15 : decode cX8_init 15 = .ok (.return_, 1) := dk_177 (dk_at dksX8_init_0 15 rfl rfl)
abbrev cX8_lays : ByteArray := prog_3_method_10_code
def yX8_lays : MethodName := ⟨RX8, "lays", "(LWideMap$Token;III)LWideMap$Node;"⟩
def dkwX8_lays_7 : List UInt8 := [180, 0, 22, 21, 8, 96, 1, 83, 132, 8, 1, 167, 255, 210, 25, 7, 176]
abbrev dktX8_lays_7 : List UInt8 := dkwX8_lays_7 ++ []
def dkwX8_lays_6 : List UInt8 := [180, 0, 9, 21, 8, 42, 180, 0, 9, 42, 180, 0, 22, 21, 8, 96, 50, 83, 42, 180, 0, 9, 42]
abbrev dktX8_lays_6 : List UInt8 := dkwX8_lays_6 ++ dktX8_lays_7
def dkwX8_lays_5 : List UInt8 := [25, 7, 180, 0, 22, 100, 181, 0, 22, 3, 54, 8, 21, 8, 25, 7, 180, 0, 22, 162, 0, 42, 25, 7]
abbrev dktX8_lays_5 : List UInt8 := dkwX8_lays_5 ++ dktX8_lays_6
def dkwX8_lays_4 : List UInt8 := [21, 4, 183, 0, 19, 58, 7, 25, 7, 21, 4, 4, 96, 5, 108, 181, 0, 22, 42, 89, 180, 0, 22]
abbrev dktX8_lays_4 : List UInt8 := dkwX8_lays_4 ++ dktX8_lays_5
def dkwX8_lays_3 : List UInt8 := [96, 25, 6, 83, 42, 180, 0, 22, 21, 4, 163, 0, 5, 1, 176, 43, 182, 0, 42, 187, 0, 10, 89, 43]
abbrev dktX8_lays_3 : List UInt8 := dkwX8_lays_3 ++ dktX8_lays_4
def dkwX8_lays_2 : List UInt8 := [58, 6, 25, 6, 199, 0, 5, 1, 176, 42, 21, 5, 4, 96, 182, 0, 38, 42, 180, 0, 9, 21, 5, 4]
abbrev dktX8_lays_2 : List UInt8 := dkwX8_lays_2 ++ dktX8_lays_3
def dkwX8_lays_1 : List UInt8 := [185, 0, 30, 2, 0, 83, 42, 180, 0, 9, 21, 5, 50, 43, 28, 29, 21, 4, 185, 0, 34, 5, 0]
abbrev dktX8_lays_1 : List UInt8 := dkwX8_lays_1 ++ dktX8_lays_2
def dkwX8_lays_0 : List UInt8 := [42, 28, 182, 0, 26, 54, 5, 42, 180, 0, 9, 21, 5, 42, 180, 0, 9, 21, 5, 50, 43]
abbrev dktX8_lays_0 : List UInt8 := dkwX8_lays_0 ++ dktX8_lays_1
theorem dksX8_lays_0 : cX8_lays.data.toList.drop 0 = dktX8_lays_0 := by decide +kernel
theorem dksX8_lays_1 : cX8_lays.data.toList.drop 21 = dktX8_lays_1 := dk_seg dksX8_lays_0 21 rfl rfl
theorem dksX8_lays_2 : cX8_lays.data.toList.drop 44 = dktX8_lays_2 := dk_seg dksX8_lays_1 23 rfl rfl
theorem dksX8_lays_3 : cX8_lays.data.toList.drop 68 = dktX8_lays_3 := dk_seg dksX8_lays_2 24 rfl rfl
theorem dksX8_lays_4 : cX8_lays.data.toList.drop 92 = dktX8_lays_4 := dk_seg dksX8_lays_3 24 rfl rfl
theorem dksX8_lays_5 : cX8_lays.data.toList.drop 115 = dktX8_lays_5 := dk_seg dksX8_lays_4 23 rfl rfl
theorem dksX8_lays_6 : cX8_lays.data.toList.drop 139 = dktX8_lays_6 := dk_seg dksX8_lays_5 24 rfl rfl
theorem dksX8_lays_7 : cX8_lays.data.toList.drop 162 = dktX8_lays_7 := dk_seg dksX8_lays_6 23 rfl rfl
theorem dX8_lays_0 : decode cX8_lays 0 = .ok (.aload_n 0, 1) := dk_42 (dk_at dksX8_lays_0 0 rfl rfl)
theorem dX8_lays_1 : decode cX8_lays 1 = .ok (.iload_n 2, 1) := dk_28 (dk_at dksX8_lays_0 1 rfl rfl)
theorem dX8_lays_2 : decode cX8_lays 2 = .ok (.invokevirtual 26, 3) := dk_182 0 26 (dk_at dksX8_lays_0 2 rfl rfl)
theorem dX8_lays_5 : decode cX8_lays 5 = .ok (.istore 5, 2) := dk_54 5 (dk_at dksX8_lays_0 5 rfl rfl)
theorem dX8_lays_7 : decode cX8_lays 7 = .ok (.aload_n 0, 1) := dk_42 (dk_at dksX8_lays_0 7 rfl rfl)
theorem dX8_lays_8 : decode cX8_lays 8 = .ok (.getfield 9, 3) := dk_180 0 9 (dk_at dksX8_lays_0 8 rfl rfl)
theorem dX8_lays_11 : decode cX8_lays 11 = .ok (.iload 5, 2) := dk_21 5 (dk_at dksX8_lays_0 11 rfl rfl)
theorem dX8_lays_13 : decode cX8_lays 13 = .ok (.aload_n 0, 1) := dk_42 (dk_at dksX8_lays_0 13 rfl rfl)
theorem dX8_lays_14 : decode cX8_lays 14 = .ok (.getfield 9, 3) := dk_180 0 9 (dk_at dksX8_lays_0 14 rfl rfl)
theorem dX8_lays_17 : decode cX8_lays 17 = .ok (.iload 5, 2) := dk_21 5 (dk_at dksX8_lays_0 17 rfl rfl)
theorem dX8_lays_19 : decode cX8_lays 19 = .ok (.aaload, 1) := dk_50 (dk_at dksX8_lays_0 19 rfl rfl)
theorem dX8_lays_20 : decode cX8_lays 20 = .ok (.aload_n 1, 1) := dk_43 (dk_at dksX8_lays_0 20 rfl rfl)
theorem dX8_lays_21 : decode cX8_lays 21 = .ok (.invokeinterface 30 2, 5) := by decide +kernel
theorem dX8_lays_26 : decode cX8_lays 26 = .ok (.aastore, 1) := dk_83 (dk_at dksX8_lays_1 5 rfl rfl)
theorem dX8_lays_27 : decode cX8_lays 27 = .ok (.aload_n 0, 1) := dk_42 (dk_at dksX8_lays_1 6 rfl rfl)
theorem dX8_lays_28 : decode cX8_lays 28 = .ok (.getfield 9, 3) := dk_180 0 9 (dk_at dksX8_lays_1 7 rfl rfl)
theorem dX8_lays_31 : decode cX8_lays 31 = .ok (.iload 5, 2) := dk_21 5 (dk_at dksX8_lays_1 10 rfl rfl)
theorem dX8_lays_33 : decode cX8_lays 33 = .ok (.aaload, 1) := dk_50 (dk_at dksX8_lays_1 12 rfl rfl)
theorem dX8_lays_34 : decode cX8_lays 34 = .ok (.aload_n 1, 1) := dk_43 (dk_at dksX8_lays_1 13 rfl rfl)
theorem dX8_lays_35 : decode cX8_lays 35 = .ok (.iload_n 2, 1) := dk_28 (dk_at dksX8_lays_1 14 rfl rfl)
theorem dX8_lays_36 : decode cX8_lays 36 = .ok (.iload_n 3, 1) := dk_29 (dk_at dksX8_lays_1 15 rfl rfl)
theorem dX8_lays_37 : decode cX8_lays 37 = .ok (.iload 4, 2) := dk_21 4 (dk_at dksX8_lays_1 16 rfl rfl)
theorem dX8_lays_39 : decode cX8_lays 39 = .ok (.invokeinterface 34 5, 5) := by decide +kernel
theorem dX8_lays_44 : decode cX8_lays 44 = .ok (.astore 6, 2) := dk_58 6 (dk_at dksX8_lays_2 0 rfl rfl)
theorem dX8_lays_46 : decode cX8_lays 46 = .ok (.aload 6, 2) := dk_25 6 (dk_at dksX8_lays_2 2 rfl rfl)
theorem dX8_lays_48 : decode cX8_lays 48 = .ok (.ifnonnull 5, 3) := dk_199 0 5 (dk_at dksX8_lays_2 4 rfl rfl)
theorem dX8_lays_51 : decode cX8_lays 51 = .ok (.aconst_null, 1) := dk_1 (dk_at dksX8_lays_2 7 rfl rfl)
theorem dX8_lays_52 : decode cX8_lays 52 = .ok (.areturn, 1) := dk_176 (dk_at dksX8_lays_2 8 rfl rfl)
theorem dX8_lays_53 : decode cX8_lays 53 = .ok (.aload_n 0, 1) := dk_42 (dk_at dksX8_lays_2 9 rfl rfl)
theorem dX8_lays_54 : decode cX8_lays 54 = .ok (.iload 5, 2) := dk_21 5 (dk_at dksX8_lays_2 10 rfl rfl)
theorem dX8_lays_56 : decode cX8_lays 56 = .ok (.iconst 1, 1) := dk_4 (dk_at dksX8_lays_2 12 rfl rfl)
theorem dX8_lays_57 : decode cX8_lays 57 = .ok (.iadd, 1) := dk_96 (dk_at dksX8_lays_2 13 rfl rfl)
theorem dX8_lays_58 : decode cX8_lays 58 = .ok (.invokevirtual 38, 3) := dk_182 0 38 (dk_at dksX8_lays_2 14 rfl rfl)
theorem dX8_lays_61 : decode cX8_lays 61 = .ok (.aload_n 0, 1) := dk_42 (dk_at dksX8_lays_2 17 rfl rfl)
theorem dX8_lays_62 : decode cX8_lays 62 = .ok (.getfield 9, 3) := dk_180 0 9 (dk_at dksX8_lays_2 18 rfl rfl)
theorem dX8_lays_65 : decode cX8_lays 65 = .ok (.iload 5, 2) := dk_21 5 (dk_at dksX8_lays_2 21 rfl rfl)
theorem dX8_lays_67 : decode cX8_lays 67 = .ok (.iconst 1, 1) := dk_4 (dk_at dksX8_lays_2 23 rfl rfl)
theorem dX8_lays_68 : decode cX8_lays 68 = .ok (.iadd, 1) := dk_96 (dk_at dksX8_lays_3 0 rfl rfl)
theorem dX8_lays_69 : decode cX8_lays 69 = .ok (.aload 6, 2) := dk_25 6 (dk_at dksX8_lays_3 1 rfl rfl)
theorem dX8_lays_71 : decode cX8_lays 71 = .ok (.aastore, 1) := dk_83 (dk_at dksX8_lays_3 3 rfl rfl)
theorem dX8_lays_72 : decode cX8_lays 72 = .ok (.aload_n 0, 1) := dk_42 (dk_at dksX8_lays_3 4 rfl rfl)
theorem dX8_lays_73 : decode cX8_lays 73 = .ok (.getfield 22, 3) := dk_180 0 22 (dk_at dksX8_lays_3 5 rfl rfl)
theorem dX8_lays_76 : decode cX8_lays 76 = .ok (.iload 4, 2) := dk_21 4 (dk_at dksX8_lays_3 8 rfl rfl)
theorem dX8_lays_78 : decode cX8_lays 78 = .ok (.if_icmp .gt 5, 3) := dk_163 0 5 (dk_at dksX8_lays_3 10 rfl rfl)
theorem dX8_lays_81 : decode cX8_lays 81 = .ok (.aconst_null, 1) := dk_1 (dk_at dksX8_lays_3 13 rfl rfl)
theorem dX8_lays_82 : decode cX8_lays 82 = .ok (.areturn, 1) := dk_176 (dk_at dksX8_lays_3 14 rfl rfl)
theorem dX8_lays_83 : decode cX8_lays 83 = .ok (.aload_n 1, 1) := dk_43 (dk_at dksX8_lays_3 15 rfl rfl)
theorem dX8_lays_84 : decode cX8_lays 84 = .ok (.invokevirtual 42, 3) := dk_182 0 42 (dk_at dksX8_lays_3 16 rfl rfl)
theorem dX8_lays_87 : decode cX8_lays 87 = .ok (.new 10, 3) := dk_187 0 10 (dk_at dksX8_lays_3 19 rfl rfl)
theorem dX8_lays_90 : decode cX8_lays 90 = .ok (.dup, 1) := dk_89 (dk_at dksX8_lays_3 22 rfl rfl)
theorem dX8_lays_91 : decode cX8_lays 91 = .ok (.aload_n 1, 1) := dk_43 (dk_at dksX8_lays_3 23 rfl rfl)
theorem dX8_lays_92 : decode cX8_lays 92 = .ok (.iload 4, 2) := dk_21 4 (dk_at dksX8_lays_4 0 rfl rfl)
theorem dX8_lays_94 : decode cX8_lays 94 = .ok (.invokespecial 19, 3) := dk_183 0 19 (dk_at dksX8_lays_4 2 rfl rfl)
theorem dX8_lays_97 : decode cX8_lays 97 = .ok (.astore 7, 2) := dk_58 7 (dk_at dksX8_lays_4 5 rfl rfl)
theorem dX8_lays_99 : decode cX8_lays 99 = .ok (.aload 7, 2) := dk_25 7 (dk_at dksX8_lays_4 7 rfl rfl)
theorem dX8_lays_101 : decode cX8_lays 101 = .ok (.iload 4, 2) := dk_21 4 (dk_at dksX8_lays_4 9 rfl rfl)
theorem dX8_lays_103 : decode cX8_lays 103 = .ok (.iconst 1, 1) := dk_4 (dk_at dksX8_lays_4 11 rfl rfl)
theorem dX8_lays_104 : decode cX8_lays 104 = .ok (.iadd, 1) := dk_96 (dk_at dksX8_lays_4 12 rfl rfl)
theorem dX8_lays_105 : decode cX8_lays 105 = .ok (.iconst 2, 1) := dk_5 (dk_at dksX8_lays_4 13 rfl rfl)
theorem dX8_lays_106 : decode cX8_lays 106 = .ok (.idiv, 1) := dk_108 (dk_at dksX8_lays_4 14 rfl rfl)
theorem dX8_lays_107 : decode cX8_lays 107 = .ok (.putfield 22, 3) := dk_181 0 22 (dk_at dksX8_lays_4 15 rfl rfl)
theorem dX8_lays_110 : decode cX8_lays 110 = .ok (.aload_n 0, 1) := dk_42 (dk_at dksX8_lays_4 18 rfl rfl)
theorem dX8_lays_111 : decode cX8_lays 111 = .ok (.dup, 1) := dk_89 (dk_at dksX8_lays_4 19 rfl rfl)
theorem dX8_lays_112 : decode cX8_lays 112 = .ok (.getfield 22, 3) := dk_180 0 22 (dk_at dksX8_lays_4 20 rfl rfl)
theorem dX8_lays_115 : decode cX8_lays 115 = .ok (.aload 7, 2) := dk_25 7 (dk_at dksX8_lays_5 0 rfl rfl)
theorem dX8_lays_117 : decode cX8_lays 117 = .ok (.getfield 22, 3) := dk_180 0 22 (dk_at dksX8_lays_5 2 rfl rfl)
theorem dX8_lays_120 : decode cX8_lays 120 = .ok (.isub, 1) := dk_100 (dk_at dksX8_lays_5 5 rfl rfl)
theorem dX8_lays_121 : decode cX8_lays 121 = .ok (.putfield 22, 3) := dk_181 0 22 (dk_at dksX8_lays_5 6 rfl rfl)
theorem dX8_lays_124 : decode cX8_lays 124 = .ok (.iconst 0, 1) := dk_3 (dk_at dksX8_lays_5 9 rfl rfl)
theorem dX8_lays_125 : decode cX8_lays 125 = .ok (.istore 8, 2) := dk_54 8 (dk_at dksX8_lays_5 10 rfl rfl)
theorem dX8_lays_127 : decode cX8_lays 127 = .ok (.iload 8, 2) := dk_21 8 (dk_at dksX8_lays_5 12 rfl rfl)
theorem dX8_lays_129 : decode cX8_lays 129 = .ok (.aload 7, 2) := dk_25 7 (dk_at dksX8_lays_5 14 rfl rfl)
theorem dX8_lays_131 : decode cX8_lays 131 = .ok (.getfield 22, 3) := dk_180 0 22 (dk_at dksX8_lays_5 16 rfl rfl)
theorem dX8_lays_134 : decode cX8_lays 134 = .ok (.if_icmp .ge 42, 3) := dk_162 0 42 (dk_at dksX8_lays_5 19 rfl rfl)
theorem dX8_lays_137 : decode cX8_lays 137 = .ok (.aload 7, 2) := dk_25 7 (dk_at dksX8_lays_5 22 rfl rfl)
theorem dX8_lays_139 : decode cX8_lays 139 = .ok (.getfield 9, 3) := dk_180 0 9 (dk_at dksX8_lays_6 0 rfl rfl)
theorem dX8_lays_142 : decode cX8_lays 142 = .ok (.iload 8, 2) := dk_21 8 (dk_at dksX8_lays_6 3 rfl rfl)
theorem dX8_lays_144 : decode cX8_lays 144 = .ok (.aload_n 0, 1) := dk_42 (dk_at dksX8_lays_6 5 rfl rfl)
theorem dX8_lays_145 : decode cX8_lays 145 = .ok (.getfield 9, 3) := dk_180 0 9 (dk_at dksX8_lays_6 6 rfl rfl)
theorem dX8_lays_148 : decode cX8_lays 148 = .ok (.aload_n 0, 1) := dk_42 (dk_at dksX8_lays_6 9 rfl rfl)
theorem dX8_lays_149 : decode cX8_lays 149 = .ok (.getfield 22, 3) := dk_180 0 22 (dk_at dksX8_lays_6 10 rfl rfl)
theorem dX8_lays_152 : decode cX8_lays 152 = .ok (.iload 8, 2) := dk_21 8 (dk_at dksX8_lays_6 13 rfl rfl)
theorem dX8_lays_154 : decode cX8_lays 154 = .ok (.iadd, 1) := dk_96 (dk_at dksX8_lays_6 15 rfl rfl)
theorem dX8_lays_155 : decode cX8_lays 155 = .ok (.aaload, 1) := dk_50 (dk_at dksX8_lays_6 16 rfl rfl)
theorem dX8_lays_156 : decode cX8_lays 156 = .ok (.aastore, 1) := dk_83 (dk_at dksX8_lays_6 17 rfl rfl)
theorem dX8_lays_157 : decode cX8_lays 157 = .ok (.aload_n 0, 1) := dk_42 (dk_at dksX8_lays_6 18 rfl rfl)
theorem dX8_lays_158 : decode cX8_lays 158 = .ok (.getfield 9, 3) := dk_180 0 9 (dk_at dksX8_lays_6 19 rfl rfl)
theorem dX8_lays_161 : decode cX8_lays 161 = .ok (.aload_n 0, 1) := dk_42 (dk_at dksX8_lays_6 22 rfl rfl)
theorem dX8_lays_162 : decode cX8_lays 162 = .ok (.getfield 22, 3) := dk_180 0 22 (dk_at dksX8_lays_7 0 rfl rfl)
theorem dX8_lays_165 : decode cX8_lays 165 = .ok (.iload 8, 2) := dk_21 8 (dk_at dksX8_lays_7 3 rfl rfl)
theorem dX8_lays_167 : decode cX8_lays 167 = .ok (.iadd, 1) := dk_96 (dk_at dksX8_lays_7 5 rfl rfl)
theorem dX8_lays_168 : decode cX8_lays 168 = .ok (.aconst_null, 1) := dk_1 (dk_at dksX8_lays_7 6 rfl rfl)
theorem dX8_lays_169 : decode cX8_lays 169 = .ok (.aastore, 1) := dk_83 (dk_at dksX8_lays_7 7 rfl rfl)
theorem dX8_lays_170 : decode cX8_lays 170 = .ok (.iinc 8 1, 3) := dk_132 8 1 (dk_at dksX8_lays_7 8 rfl rfl)
theorem dX8_lays_173 : decode cX8_lays 173 = .ok (.goto (-46), 3) := dk_167 255 210 (dk_at dksX8_lays_7 11 rfl rfl)
theorem dX8_lays_176 : decode cX8_lays 176 = .ok (.aload 7, 2) := dk_25 7 (dk_at dksX8_lays_7 14 rfl rfl)
theorem dX8_lays_178 : decode cX8_lays 178 = .ok (.areturn, 1) := dk_176 (dk_at dksX8_lays_7 16 rfl rfl)
abbrev cX8_makeRoom : ByteArray := prog_3_method_8_code
def yX8_makeRoom : MethodName := ⟨RX8, "makeRoom", "(I)V"⟩
def dkwX8_makeRoom_1 : List UInt8 := [132, 2, 255, 167, 255, 234, 42, 89, 180, 0, 22, 4, 96, 181, 0, 22, 177]
abbrev dktX8_makeRoom_1 : List UInt8 := dkwX8_makeRoom_1 ++ []
def dkwX8_makeRoom_0 : List UInt8 := [42, 180, 0, 22, 61, 28, 27, 164, 0, 23, 42, 180, 0, 9, 28, 42, 180, 0, 9, 28, 4, 100, 50, 83]
abbrev dktX8_makeRoom_0 : List UInt8 := dkwX8_makeRoom_0 ++ dktX8_makeRoom_1
theorem dksX8_makeRoom_0 : cX8_makeRoom.data.toList.drop 0 = dktX8_makeRoom_0 := by decide +kernel
theorem dksX8_makeRoom_1 : cX8_makeRoom.data.toList.drop 24 = dktX8_makeRoom_1 := dk_seg dksX8_makeRoom_0 24 rfl rfl
theorem dX8_makeRoom_0 : decode cX8_makeRoom 0 = .ok (.aload_n 0, 1) := dk_42 (dk_at dksX8_makeRoom_0 0 rfl rfl)
theorem dX8_makeRoom_1 : decode cX8_makeRoom 1 = .ok (.getfield 22, 3) := dk_180 0 22 (dk_at dksX8_makeRoom_0 1 rfl rfl)
theorem dX8_makeRoom_4 : decode cX8_makeRoom 4 = .ok (.istore_n 2, 1) := dk_61 (dk_at dksX8_makeRoom_0 4 rfl rfl)
theorem dX8_makeRoom_5 : decode cX8_makeRoom 5 = .ok (.iload_n 2, 1) := dk_28 (dk_at dksX8_makeRoom_0 5 rfl rfl)
theorem dX8_makeRoom_6 : decode cX8_makeRoom 6 = .ok (.iload_n 1, 1) := dk_27 (dk_at dksX8_makeRoom_0 6 rfl rfl)
theorem dX8_makeRoom_7 : decode cX8_makeRoom 7 = .ok (.if_icmp .le 23, 3) := dk_164 0 23 (dk_at dksX8_makeRoom_0 7 rfl rfl)
theorem dX8_makeRoom_10 : decode cX8_makeRoom 10 = .ok (.aload_n 0, 1) := dk_42 (dk_at dksX8_makeRoom_0 10 rfl rfl)
theorem dX8_makeRoom_11 : decode cX8_makeRoom 11 = .ok (.getfield 9, 3) := dk_180 0 9 (dk_at dksX8_makeRoom_0 11 rfl rfl)
theorem dX8_makeRoom_14 : decode cX8_makeRoom 14 = .ok (.iload_n 2, 1) := dk_28 (dk_at dksX8_makeRoom_0 14 rfl rfl)
theorem dX8_makeRoom_15 : decode cX8_makeRoom 15 = .ok (.aload_n 0, 1) := dk_42 (dk_at dksX8_makeRoom_0 15 rfl rfl)
theorem dX8_makeRoom_16 : decode cX8_makeRoom 16 = .ok (.getfield 9, 3) := dk_180 0 9 (dk_at dksX8_makeRoom_0 16 rfl rfl)
theorem dX8_makeRoom_19 : decode cX8_makeRoom 19 = .ok (.iload_n 2, 1) := dk_28 (dk_at dksX8_makeRoom_0 19 rfl rfl)
theorem dX8_makeRoom_20 : decode cX8_makeRoom 20 = .ok (.iconst 1, 1) := dk_4 (dk_at dksX8_makeRoom_0 20 rfl rfl)
theorem dX8_makeRoom_21 : decode cX8_makeRoom 21 = .ok (.isub, 1) := dk_100 (dk_at dksX8_makeRoom_0 21 rfl rfl)
theorem dX8_makeRoom_22 : decode cX8_makeRoom 22 = .ok (.aaload, 1) := dk_50 (dk_at dksX8_makeRoom_0 22 rfl rfl)
theorem dX8_makeRoom_23 : decode cX8_makeRoom 23 = .ok (.aastore, 1) := dk_83 (dk_at dksX8_makeRoom_0 23 rfl rfl)
theorem dX8_makeRoom_24 : decode cX8_makeRoom 24 = .ok (.iinc 2 (-1), 3) := dk_132 2 255 (dk_at dksX8_makeRoom_1 0 rfl rfl)
theorem dX8_makeRoom_27 : decode cX8_makeRoom 27 = .ok (.goto (-22), 3) := dk_167 255 234 (dk_at dksX8_makeRoom_1 3 rfl rfl)
theorem dX8_makeRoom_30 : decode cX8_makeRoom 30 = .ok (.aload_n 0, 1) := dk_42 (dk_at dksX8_makeRoom_1 6 rfl rfl)
theorem dX8_makeRoom_31 : decode cX8_makeRoom 31 = .ok (.dup, 1) := dk_89 (dk_at dksX8_makeRoom_1 7 rfl rfl)
theorem dX8_makeRoom_32 : decode cX8_makeRoom 32 = .ok (.getfield 22, 3) := dk_180 0 22 (dk_at dksX8_makeRoom_1 8 rfl rfl)
theorem dX8_makeRoom_35 : decode cX8_makeRoom 35 = .ok (.iconst 1, 1) := dk_4 (dk_at dksX8_makeRoom_1 11 rfl rfl)
theorem dX8_makeRoom_36 : decode cX8_makeRoom 36 = .ok (.iadd, 1) := dk_96 (dk_at dksX8_makeRoom_1 12 rfl rfl)
theorem dX8_makeRoom_37 : decode cX8_makeRoom 37 = .ok (.putfield 22, 3) := dk_181 0 22 (dk_at dksX8_makeRoom_1 13 rfl rfl)
theorem dX8_makeRoom_40 : decode cX8_makeRoom 40 = .ok (.return_, 1) := dk_177 (dk_at dksX8_makeRoom_1 16 rfl rfl)
abbrev cX8_takes : ByteArray := prog_3_method_11_code
def yX8_takes : MethodName := ⟨RX8, "takes", "(LWideMap$Token;II)V"⟩
def dkwX8_takes_2 : List UInt8 := [180, 0, 9, 21, 4, 50, 185, 0, 52, 1, 0, 29, 162, 0, 11, 42, 43, 21, 4, 29, 182, 0, 55, 177]
abbrev dktX8_takes_2 : List UInt8 := dkwX8_takes_2 ++ []
def dkwX8_takes_1 : List UInt8 := [185, 0, 30, 2, 0, 83, 42, 180, 0, 9, 21, 4, 50, 43, 28, 29, 185, 0, 48, 4, 0, 42]
abbrev dktX8_takes_1 : List UInt8 := dkwX8_takes_1 ++ dktX8_takes_2
def dkwX8_takes_0 : List UInt8 := [42, 28, 182, 0, 26, 54, 4, 42, 180, 0, 9, 21, 4, 42, 180, 0, 9, 21, 4, 50, 43]
abbrev dktX8_takes_0 : List UInt8 := dkwX8_takes_0 ++ dktX8_takes_1
theorem dksX8_takes_0 : cX8_takes.data.toList.drop 0 = dktX8_takes_0 := by decide +kernel
theorem dksX8_takes_1 : cX8_takes.data.toList.drop 21 = dktX8_takes_1 := dk_seg dksX8_takes_0 21 rfl rfl
theorem dksX8_takes_2 : cX8_takes.data.toList.drop 43 = dktX8_takes_2 := dk_seg dksX8_takes_1 22 rfl rfl
theorem dX8_takes_0 : decode cX8_takes 0 = .ok (.aload_n 0, 1) := dk_42 (dk_at dksX8_takes_0 0 rfl rfl)
theorem dX8_takes_1 : decode cX8_takes 1 = .ok (.iload_n 2, 1) := dk_28 (dk_at dksX8_takes_0 1 rfl rfl)
theorem dX8_takes_2 : decode cX8_takes 2 = .ok (.invokevirtual 26, 3) := dk_182 0 26 (dk_at dksX8_takes_0 2 rfl rfl)
theorem dX8_takes_5 : decode cX8_takes 5 = .ok (.istore 4, 2) := dk_54 4 (dk_at dksX8_takes_0 5 rfl rfl)
theorem dX8_takes_7 : decode cX8_takes 7 = .ok (.aload_n 0, 1) := dk_42 (dk_at dksX8_takes_0 7 rfl rfl)
theorem dX8_takes_8 : decode cX8_takes 8 = .ok (.getfield 9, 3) := dk_180 0 9 (dk_at dksX8_takes_0 8 rfl rfl)
theorem dX8_takes_11 : decode cX8_takes 11 = .ok (.iload 4, 2) := dk_21 4 (dk_at dksX8_takes_0 11 rfl rfl)
theorem dX8_takes_13 : decode cX8_takes 13 = .ok (.aload_n 0, 1) := dk_42 (dk_at dksX8_takes_0 13 rfl rfl)
theorem dX8_takes_14 : decode cX8_takes 14 = .ok (.getfield 9, 3) := dk_180 0 9 (dk_at dksX8_takes_0 14 rfl rfl)
theorem dX8_takes_17 : decode cX8_takes 17 = .ok (.iload 4, 2) := dk_21 4 (dk_at dksX8_takes_0 17 rfl rfl)
theorem dX8_takes_19 : decode cX8_takes 19 = .ok (.aaload, 1) := dk_50 (dk_at dksX8_takes_0 19 rfl rfl)
theorem dX8_takes_20 : decode cX8_takes 20 = .ok (.aload_n 1, 1) := dk_43 (dk_at dksX8_takes_0 20 rfl rfl)
theorem dX8_takes_21 : decode cX8_takes 21 = .ok (.invokeinterface 30 2, 5) := by decide +kernel
theorem dX8_takes_26 : decode cX8_takes 26 = .ok (.aastore, 1) := dk_83 (dk_at dksX8_takes_1 5 rfl rfl)
theorem dX8_takes_27 : decode cX8_takes 27 = .ok (.aload_n 0, 1) := dk_42 (dk_at dksX8_takes_1 6 rfl rfl)
theorem dX8_takes_28 : decode cX8_takes 28 = .ok (.getfield 9, 3) := dk_180 0 9 (dk_at dksX8_takes_1 7 rfl rfl)
theorem dX8_takes_31 : decode cX8_takes 31 = .ok (.iload 4, 2) := dk_21 4 (dk_at dksX8_takes_1 10 rfl rfl)
theorem dX8_takes_33 : decode cX8_takes 33 = .ok (.aaload, 1) := dk_50 (dk_at dksX8_takes_1 12 rfl rfl)
theorem dX8_takes_34 : decode cX8_takes 34 = .ok (.aload_n 1, 1) := dk_43 (dk_at dksX8_takes_1 13 rfl rfl)
theorem dX8_takes_35 : decode cX8_takes 35 = .ok (.iload_n 2, 1) := dk_28 (dk_at dksX8_takes_1 14 rfl rfl)
theorem dX8_takes_36 : decode cX8_takes 36 = .ok (.iload_n 3, 1) := dk_29 (dk_at dksX8_takes_1 15 rfl rfl)
theorem dX8_takes_37 : decode cX8_takes 37 = .ok (.invokeinterface 48 4, 5) := by decide +kernel
theorem dX8_takes_42 : decode cX8_takes 42 = .ok (.aload_n 0, 1) := dk_42 (dk_at dksX8_takes_1 21 rfl rfl)
theorem dX8_takes_43 : decode cX8_takes 43 = .ok (.getfield 9, 3) := dk_180 0 9 (dk_at dksX8_takes_2 0 rfl rfl)
theorem dX8_takes_46 : decode cX8_takes 46 = .ok (.iload 4, 2) := dk_21 4 (dk_at dksX8_takes_2 3 rfl rfl)
theorem dX8_takes_48 : decode cX8_takes 48 = .ok (.aaload, 1) := dk_50 (dk_at dksX8_takes_2 5 rfl rfl)
theorem dX8_takes_49 : decode cX8_takes 49 = .ok (.invokeinterface 52 1, 5) := by decide +kernel
theorem dX8_takes_54 : decode cX8_takes 54 = .ok (.iload_n 3, 1) := dk_29 (dk_at dksX8_takes_2 11 rfl rfl)
theorem dX8_takes_55 : decode cX8_takes 55 = .ok (.if_icmp .ge 11, 3) := dk_162 0 11 (dk_at dksX8_takes_2 12 rfl rfl)
theorem dX8_takes_58 : decode cX8_takes 58 = .ok (.aload_n 0, 1) := dk_42 (dk_at dksX8_takes_2 15 rfl rfl)
theorem dX8_takes_59 : decode cX8_takes 59 = .ok (.aload_n 1, 1) := dk_43 (dk_at dksX8_takes_2 16 rfl rfl)
theorem dX8_takes_60 : decode cX8_takes 60 = .ok (.iload 4, 2) := dk_21 4 (dk_at dksX8_takes_2 17 rfl rfl)
theorem dX8_takes_62 : decode cX8_takes 62 = .ok (.iload_n 3, 1) := dk_29 (dk_at dksX8_takes_2 19 rfl rfl)
theorem dX8_takes_63 : decode cX8_takes 63 = .ok (.invokevirtual 55, 3) := dk_182 0 55 (dk_at dksX8_takes_2 20 rfl rfl)
theorem dX8_takes_66 : decode cX8_takes 66 = .ok (.return_, 1) := dk_177 (dk_at dksX8_takes_2 23 rfl rfl)
abbrev cX8_mend : ByteArray := prog_3_method_12_code
def yX8_mend : MethodName := ⟨RX8, "mend", "(LWideMap$Token;II)V"⟩
def dkwX8_mend_9 : List UInt8 := [185, 0, 65, 2, 0, 42, 28, 4, 96, 182, 0, 68, 177]
abbrev dktX8_mend_9 : List UInt8 := dkwX8_mend_9 ++ []
def dkwX8_mend_8 : List UInt8 := [182, 0, 68, 167, 0, 29, 42, 180, 0, 9, 28, 50, 42, 180, 0, 9, 28, 4, 96, 50]
abbrev dktX8_mend_8 : List UInt8 := dkwX8_mend_8 ++ dktX8_mend_9
def dkwX8_mend_7 : List UInt8 := [83, 42, 180, 0, 9, 28, 4, 100, 50, 42, 180, 0, 9, 28, 50, 185, 0, 65, 2, 0, 42, 28]
abbrev dktX8_mend_7 : List UInt8 := dkwX8_mend_7 ++ dktX8_mend_8
def dkwX8_mend_6 : List UInt8 := [158, 0, 52, 42, 180, 0, 9, 28, 4, 100, 42, 180, 0, 9, 28, 4, 100, 50, 43, 185, 0, 30, 2, 0]
abbrev dktX8_mend_6 : List UInt8 := dkwX8_mend_6 ++ dktX8_mend_7
def dkwX8_mend_5 : List UInt8 := [83, 42, 180, 0, 9, 28, 50, 42, 180, 0, 9, 28, 4, 96, 50, 185, 0, 62, 2, 0, 167, 0, 82, 28]
abbrev dktX8_mend_5 : List UInt8 := dkwX8_mend_5 ++ dktX8_mend_6
def dkwX8_mend_4 : List UInt8 := [164, 0, 47, 42, 180, 0, 9, 28, 4, 96, 42, 180, 0, 9, 28, 4, 96, 50, 43, 185, 0, 30, 2, 0]
abbrev dktX8_mend_4 : List UInt8 := dkwX8_mend_4 ++ dktX8_mend_5
def dkwX8_mend_3 : List UInt8 := [180, 0, 22, 4, 100, 162, 0, 64, 42, 180, 0, 9, 28, 4, 96, 50, 185, 0, 52, 1, 0, 29]
abbrev dktX8_mend_3 : List UInt8 := dkwX8_mend_3 ++ dktX8_mend_4
def dkwX8_mend_2 : List UInt8 := [180, 0, 9, 28, 50, 42, 180, 0, 9, 28, 4, 100, 50, 185, 0, 58, 2, 0, 167, 0, 153, 28, 42]
abbrev dktX8_mend_2 : List UInt8 := dkwX8_mend_2 ++ dktX8_mend_3
def dkwX8_mend_1 : List UInt8 := [180, 0, 9, 28, 4, 100, 42, 180, 0, 9, 28, 4, 100, 50, 43, 185, 0, 30, 2, 0, 83, 42]
abbrev dktX8_mend_1 : List UInt8 := dkwX8_mend_1 ++ dktX8_mend_2
def dkwX8_mend_0 : List UInt8 := [28, 158, 0, 64, 42, 180, 0, 9, 28, 4, 100, 50, 185, 0, 52, 1, 0, 29, 164, 0, 47, 42]
abbrev dktX8_mend_0 : List UInt8 := dkwX8_mend_0 ++ dktX8_mend_1
theorem dksX8_mend_0 : cX8_mend.data.toList.drop 0 = dktX8_mend_0 := by decide +kernel
theorem dksX8_mend_1 : cX8_mend.data.toList.drop 22 = dktX8_mend_1 := dk_seg dksX8_mend_0 22 rfl rfl
theorem dksX8_mend_2 : cX8_mend.data.toList.drop 44 = dktX8_mend_2 := dk_seg dksX8_mend_1 22 rfl rfl
theorem dksX8_mend_3 : cX8_mend.data.toList.drop 67 = dktX8_mend_3 := dk_seg dksX8_mend_2 23 rfl rfl
theorem dksX8_mend_4 : cX8_mend.data.toList.drop 89 = dktX8_mend_4 := dk_seg dksX8_mend_3 22 rfl rfl
theorem dksX8_mend_5 : cX8_mend.data.toList.drop 113 = dktX8_mend_5 := dk_seg dksX8_mend_4 24 rfl rfl
theorem dksX8_mend_6 : cX8_mend.data.toList.drop 137 = dktX8_mend_6 := dk_seg dksX8_mend_5 24 rfl rfl
theorem dksX8_mend_7 : cX8_mend.data.toList.drop 161 = dktX8_mend_7 := dk_seg dksX8_mend_6 24 rfl rfl
theorem dksX8_mend_8 : cX8_mend.data.toList.drop 183 = dktX8_mend_8 := dk_seg dksX8_mend_7 22 rfl rfl
theorem dksX8_mend_9 : cX8_mend.data.toList.drop 203 = dktX8_mend_9 := dk_seg dksX8_mend_8 20 rfl rfl
theorem dX8_mend_0 : decode cX8_mend 0 = .ok (.iload_n 2, 1) := dk_28 (dk_at dksX8_mend_0 0 rfl rfl)
theorem dX8_mend_1 : decode cX8_mend 1 = .ok (.ifCond .le 64, 3) := dk_158 0 64 (dk_at dksX8_mend_0 1 rfl rfl)
theorem dX8_mend_4 : decode cX8_mend 4 = .ok (.aload_n 0, 1) := dk_42 (dk_at dksX8_mend_0 4 rfl rfl)
theorem dX8_mend_5 : decode cX8_mend 5 = .ok (.getfield 9, 3) := dk_180 0 9 (dk_at dksX8_mend_0 5 rfl rfl)
theorem dX8_mend_8 : decode cX8_mend 8 = .ok (.iload_n 2, 1) := dk_28 (dk_at dksX8_mend_0 8 rfl rfl)
theorem dX8_mend_9 : decode cX8_mend 9 = .ok (.iconst 1, 1) := dk_4 (dk_at dksX8_mend_0 9 rfl rfl)
theorem dX8_mend_10 : decode cX8_mend 10 = .ok (.isub, 1) := dk_100 (dk_at dksX8_mend_0 10 rfl rfl)
theorem dX8_mend_11 : decode cX8_mend 11 = .ok (.aaload, 1) := dk_50 (dk_at dksX8_mend_0 11 rfl rfl)
theorem dX8_mend_12 : decode cX8_mend 12 = .ok (.invokeinterface 52 1, 5) := by decide +kernel
theorem dX8_mend_17 : decode cX8_mend 17 = .ok (.iload_n 3, 1) := dk_29 (dk_at dksX8_mend_0 17 rfl rfl)
theorem dX8_mend_18 : decode cX8_mend 18 = .ok (.if_icmp .le 47, 3) := dk_164 0 47 (dk_at dksX8_mend_0 18 rfl rfl)
theorem dX8_mend_21 : decode cX8_mend 21 = .ok (.aload_n 0, 1) := dk_42 (dk_at dksX8_mend_0 21 rfl rfl)
theorem dX8_mend_22 : decode cX8_mend 22 = .ok (.getfield 9, 3) := dk_180 0 9 (dk_at dksX8_mend_1 0 rfl rfl)
theorem dX8_mend_25 : decode cX8_mend 25 = .ok (.iload_n 2, 1) := dk_28 (dk_at dksX8_mend_1 3 rfl rfl)
theorem dX8_mend_26 : decode cX8_mend 26 = .ok (.iconst 1, 1) := dk_4 (dk_at dksX8_mend_1 4 rfl rfl)
theorem dX8_mend_27 : decode cX8_mend 27 = .ok (.isub, 1) := dk_100 (dk_at dksX8_mend_1 5 rfl rfl)
theorem dX8_mend_28 : decode cX8_mend 28 = .ok (.aload_n 0, 1) := dk_42 (dk_at dksX8_mend_1 6 rfl rfl)
theorem dX8_mend_29 : decode cX8_mend 29 = .ok (.getfield 9, 3) := dk_180 0 9 (dk_at dksX8_mend_1 7 rfl rfl)
theorem dX8_mend_32 : decode cX8_mend 32 = .ok (.iload_n 2, 1) := dk_28 (dk_at dksX8_mend_1 10 rfl rfl)
theorem dX8_mend_33 : decode cX8_mend 33 = .ok (.iconst 1, 1) := dk_4 (dk_at dksX8_mend_1 11 rfl rfl)
theorem dX8_mend_34 : decode cX8_mend 34 = .ok (.isub, 1) := dk_100 (dk_at dksX8_mend_1 12 rfl rfl)
theorem dX8_mend_35 : decode cX8_mend 35 = .ok (.aaload, 1) := dk_50 (dk_at dksX8_mend_1 13 rfl rfl)
theorem dX8_mend_36 : decode cX8_mend 36 = .ok (.aload_n 1, 1) := dk_43 (dk_at dksX8_mend_1 14 rfl rfl)
theorem dX8_mend_37 : decode cX8_mend 37 = .ok (.invokeinterface 30 2, 5) := by decide +kernel
theorem dX8_mend_42 : decode cX8_mend 42 = .ok (.aastore, 1) := dk_83 (dk_at dksX8_mend_1 20 rfl rfl)
theorem dX8_mend_43 : decode cX8_mend 43 = .ok (.aload_n 0, 1) := dk_42 (dk_at dksX8_mend_1 21 rfl rfl)
theorem dX8_mend_44 : decode cX8_mend 44 = .ok (.getfield 9, 3) := dk_180 0 9 (dk_at dksX8_mend_2 0 rfl rfl)
theorem dX8_mend_47 : decode cX8_mend 47 = .ok (.iload_n 2, 1) := dk_28 (dk_at dksX8_mend_2 3 rfl rfl)
theorem dX8_mend_48 : decode cX8_mend 48 = .ok (.aaload, 1) := dk_50 (dk_at dksX8_mend_2 4 rfl rfl)
theorem dX8_mend_49 : decode cX8_mend 49 = .ok (.aload_n 0, 1) := dk_42 (dk_at dksX8_mend_2 5 rfl rfl)
theorem dX8_mend_50 : decode cX8_mend 50 = .ok (.getfield 9, 3) := dk_180 0 9 (dk_at dksX8_mend_2 6 rfl rfl)
theorem dX8_mend_53 : decode cX8_mend 53 = .ok (.iload_n 2, 1) := dk_28 (dk_at dksX8_mend_2 9 rfl rfl)
theorem dX8_mend_54 : decode cX8_mend 54 = .ok (.iconst 1, 1) := dk_4 (dk_at dksX8_mend_2 10 rfl rfl)
theorem dX8_mend_55 : decode cX8_mend 55 = .ok (.isub, 1) := dk_100 (dk_at dksX8_mend_2 11 rfl rfl)
theorem dX8_mend_56 : decode cX8_mend 56 = .ok (.aaload, 1) := dk_50 (dk_at dksX8_mend_2 12 rfl rfl)
theorem dX8_mend_57 : decode cX8_mend 57 = .ok (.invokeinterface 58 2, 5) := by decide +kernel
theorem dX8_mend_62 : decode cX8_mend 62 = .ok (.goto 153, 3) := dk_167 0 153 (dk_at dksX8_mend_2 18 rfl rfl)
theorem dX8_mend_65 : decode cX8_mend 65 = .ok (.iload_n 2, 1) := dk_28 (dk_at dksX8_mend_2 21 rfl rfl)
theorem dX8_mend_66 : decode cX8_mend 66 = .ok (.aload_n 0, 1) := dk_42 (dk_at dksX8_mend_2 22 rfl rfl)
theorem dX8_mend_67 : decode cX8_mend 67 = .ok (.getfield 22, 3) := dk_180 0 22 (dk_at dksX8_mend_3 0 rfl rfl)
theorem dX8_mend_70 : decode cX8_mend 70 = .ok (.iconst 1, 1) := dk_4 (dk_at dksX8_mend_3 3 rfl rfl)
theorem dX8_mend_71 : decode cX8_mend 71 = .ok (.isub, 1) := dk_100 (dk_at dksX8_mend_3 4 rfl rfl)
theorem dX8_mend_72 : decode cX8_mend 72 = .ok (.if_icmp .ge 64, 3) := dk_162 0 64 (dk_at dksX8_mend_3 5 rfl rfl)
theorem dX8_mend_75 : decode cX8_mend 75 = .ok (.aload_n 0, 1) := dk_42 (dk_at dksX8_mend_3 8 rfl rfl)
theorem dX8_mend_76 : decode cX8_mend 76 = .ok (.getfield 9, 3) := dk_180 0 9 (dk_at dksX8_mend_3 9 rfl rfl)
theorem dX8_mend_79 : decode cX8_mend 79 = .ok (.iload_n 2, 1) := dk_28 (dk_at dksX8_mend_3 12 rfl rfl)
theorem dX8_mend_80 : decode cX8_mend 80 = .ok (.iconst 1, 1) := dk_4 (dk_at dksX8_mend_3 13 rfl rfl)
theorem dX8_mend_81 : decode cX8_mend 81 = .ok (.iadd, 1) := dk_96 (dk_at dksX8_mend_3 14 rfl rfl)
theorem dX8_mend_82 : decode cX8_mend 82 = .ok (.aaload, 1) := dk_50 (dk_at dksX8_mend_3 15 rfl rfl)
theorem dX8_mend_83 : decode cX8_mend 83 = .ok (.invokeinterface 52 1, 5) := by decide +kernel
theorem dX8_mend_88 : decode cX8_mend 88 = .ok (.iload_n 3, 1) := dk_29 (dk_at dksX8_mend_3 21 rfl rfl)
theorem dX8_mend_89 : decode cX8_mend 89 = .ok (.if_icmp .le 47, 3) := dk_164 0 47 (dk_at dksX8_mend_4 0 rfl rfl)
theorem dX8_mend_92 : decode cX8_mend 92 = .ok (.aload_n 0, 1) := dk_42 (dk_at dksX8_mend_4 3 rfl rfl)
theorem dX8_mend_93 : decode cX8_mend 93 = .ok (.getfield 9, 3) := dk_180 0 9 (dk_at dksX8_mend_4 4 rfl rfl)
theorem dX8_mend_96 : decode cX8_mend 96 = .ok (.iload_n 2, 1) := dk_28 (dk_at dksX8_mend_4 7 rfl rfl)
theorem dX8_mend_97 : decode cX8_mend 97 = .ok (.iconst 1, 1) := dk_4 (dk_at dksX8_mend_4 8 rfl rfl)
theorem dX8_mend_98 : decode cX8_mend 98 = .ok (.iadd, 1) := dk_96 (dk_at dksX8_mend_4 9 rfl rfl)
theorem dX8_mend_99 : decode cX8_mend 99 = .ok (.aload_n 0, 1) := dk_42 (dk_at dksX8_mend_4 10 rfl rfl)
theorem dX8_mend_100 : decode cX8_mend 100 = .ok (.getfield 9, 3) := dk_180 0 9 (dk_at dksX8_mend_4 11 rfl rfl)
theorem dX8_mend_103 : decode cX8_mend 103 = .ok (.iload_n 2, 1) := dk_28 (dk_at dksX8_mend_4 14 rfl rfl)
theorem dX8_mend_104 : decode cX8_mend 104 = .ok (.iconst 1, 1) := dk_4 (dk_at dksX8_mend_4 15 rfl rfl)
theorem dX8_mend_105 : decode cX8_mend 105 = .ok (.iadd, 1) := dk_96 (dk_at dksX8_mend_4 16 rfl rfl)
theorem dX8_mend_106 : decode cX8_mend 106 = .ok (.aaload, 1) := dk_50 (dk_at dksX8_mend_4 17 rfl rfl)
theorem dX8_mend_107 : decode cX8_mend 107 = .ok (.aload_n 1, 1) := dk_43 (dk_at dksX8_mend_4 18 rfl rfl)
theorem dX8_mend_108 : decode cX8_mend 108 = .ok (.invokeinterface 30 2, 5) := by decide +kernel
theorem dX8_mend_113 : decode cX8_mend 113 = .ok (.aastore, 1) := dk_83 (dk_at dksX8_mend_5 0 rfl rfl)
theorem dX8_mend_114 : decode cX8_mend 114 = .ok (.aload_n 0, 1) := dk_42 (dk_at dksX8_mend_5 1 rfl rfl)
theorem dX8_mend_115 : decode cX8_mend 115 = .ok (.getfield 9, 3) := dk_180 0 9 (dk_at dksX8_mend_5 2 rfl rfl)
theorem dX8_mend_118 : decode cX8_mend 118 = .ok (.iload_n 2, 1) := dk_28 (dk_at dksX8_mend_5 5 rfl rfl)
theorem dX8_mend_119 : decode cX8_mend 119 = .ok (.aaload, 1) := dk_50 (dk_at dksX8_mend_5 6 rfl rfl)
theorem dX8_mend_120 : decode cX8_mend 120 = .ok (.aload_n 0, 1) := dk_42 (dk_at dksX8_mend_5 7 rfl rfl)
theorem dX8_mend_121 : decode cX8_mend 121 = .ok (.getfield 9, 3) := dk_180 0 9 (dk_at dksX8_mend_5 8 rfl rfl)
theorem dX8_mend_124 : decode cX8_mend 124 = .ok (.iload_n 2, 1) := dk_28 (dk_at dksX8_mend_5 11 rfl rfl)
theorem dX8_mend_125 : decode cX8_mend 125 = .ok (.iconst 1, 1) := dk_4 (dk_at dksX8_mend_5 12 rfl rfl)
theorem dX8_mend_126 : decode cX8_mend 126 = .ok (.iadd, 1) := dk_96 (dk_at dksX8_mend_5 13 rfl rfl)
theorem dX8_mend_127 : decode cX8_mend 127 = .ok (.aaload, 1) := dk_50 (dk_at dksX8_mend_5 14 rfl rfl)
theorem dX8_mend_128 : decode cX8_mend 128 = .ok (.invokeinterface 62 2, 5) := by decide +kernel
theorem dX8_mend_133 : decode cX8_mend 133 = .ok (.goto 82, 3) := dk_167 0 82 (dk_at dksX8_mend_5 20 rfl rfl)
theorem dX8_mend_136 : decode cX8_mend 136 = .ok (.iload_n 2, 1) := dk_28 (dk_at dksX8_mend_5 23 rfl rfl)
theorem dX8_mend_137 : decode cX8_mend 137 = .ok (.ifCond .le 52, 3) := dk_158 0 52 (dk_at dksX8_mend_6 0 rfl rfl)
theorem dX8_mend_140 : decode cX8_mend 140 = .ok (.aload_n 0, 1) := dk_42 (dk_at dksX8_mend_6 3 rfl rfl)
theorem dX8_mend_141 : decode cX8_mend 141 = .ok (.getfield 9, 3) := dk_180 0 9 (dk_at dksX8_mend_6 4 rfl rfl)
theorem dX8_mend_144 : decode cX8_mend 144 = .ok (.iload_n 2, 1) := dk_28 (dk_at dksX8_mend_6 7 rfl rfl)
theorem dX8_mend_145 : decode cX8_mend 145 = .ok (.iconst 1, 1) := dk_4 (dk_at dksX8_mend_6 8 rfl rfl)
theorem dX8_mend_146 : decode cX8_mend 146 = .ok (.isub, 1) := dk_100 (dk_at dksX8_mend_6 9 rfl rfl)
theorem dX8_mend_147 : decode cX8_mend 147 = .ok (.aload_n 0, 1) := dk_42 (dk_at dksX8_mend_6 10 rfl rfl)
theorem dX8_mend_148 : decode cX8_mend 148 = .ok (.getfield 9, 3) := dk_180 0 9 (dk_at dksX8_mend_6 11 rfl rfl)
theorem dX8_mend_151 : decode cX8_mend 151 = .ok (.iload_n 2, 1) := dk_28 (dk_at dksX8_mend_6 14 rfl rfl)
theorem dX8_mend_152 : decode cX8_mend 152 = .ok (.iconst 1, 1) := dk_4 (dk_at dksX8_mend_6 15 rfl rfl)
theorem dX8_mend_153 : decode cX8_mend 153 = .ok (.isub, 1) := dk_100 (dk_at dksX8_mend_6 16 rfl rfl)
theorem dX8_mend_154 : decode cX8_mend 154 = .ok (.aaload, 1) := dk_50 (dk_at dksX8_mend_6 17 rfl rfl)
theorem dX8_mend_155 : decode cX8_mend 155 = .ok (.aload_n 1, 1) := dk_43 (dk_at dksX8_mend_6 18 rfl rfl)
theorem dX8_mend_156 : decode cX8_mend 156 = .ok (.invokeinterface 30 2, 5) := by decide +kernel
theorem dX8_mend_161 : decode cX8_mend 161 = .ok (.aastore, 1) := dk_83 (dk_at dksX8_mend_7 0 rfl rfl)
theorem dX8_mend_162 : decode cX8_mend 162 = .ok (.aload_n 0, 1) := dk_42 (dk_at dksX8_mend_7 1 rfl rfl)
theorem dX8_mend_163 : decode cX8_mend 163 = .ok (.getfield 9, 3) := dk_180 0 9 (dk_at dksX8_mend_7 2 rfl rfl)
theorem dX8_mend_166 : decode cX8_mend 166 = .ok (.iload_n 2, 1) := dk_28 (dk_at dksX8_mend_7 5 rfl rfl)
theorem dX8_mend_167 : decode cX8_mend 167 = .ok (.iconst 1, 1) := dk_4 (dk_at dksX8_mend_7 6 rfl rfl)
theorem dX8_mend_168 : decode cX8_mend 168 = .ok (.isub, 1) := dk_100 (dk_at dksX8_mend_7 7 rfl rfl)
theorem dX8_mend_169 : decode cX8_mend 169 = .ok (.aaload, 1) := dk_50 (dk_at dksX8_mend_7 8 rfl rfl)
theorem dX8_mend_170 : decode cX8_mend 170 = .ok (.aload_n 0, 1) := dk_42 (dk_at dksX8_mend_7 9 rfl rfl)
theorem dX8_mend_171 : decode cX8_mend 171 = .ok (.getfield 9, 3) := dk_180 0 9 (dk_at dksX8_mend_7 10 rfl rfl)
theorem dX8_mend_174 : decode cX8_mend 174 = .ok (.iload_n 2, 1) := dk_28 (dk_at dksX8_mend_7 13 rfl rfl)
theorem dX8_mend_175 : decode cX8_mend 175 = .ok (.aaload, 1) := dk_50 (dk_at dksX8_mend_7 14 rfl rfl)
theorem dX8_mend_176 : decode cX8_mend 176 = .ok (.invokeinterface 65 2, 5) := by decide +kernel
theorem dX8_mend_181 : decode cX8_mend 181 = .ok (.aload_n 0, 1) := dk_42 (dk_at dksX8_mend_7 20 rfl rfl)
theorem dX8_mend_182 : decode cX8_mend 182 = .ok (.iload_n 2, 1) := dk_28 (dk_at dksX8_mend_7 21 rfl rfl)
theorem dX8_mend_183 : decode cX8_mend 183 = .ok (.invokevirtual 68, 3) := dk_182 0 68 (dk_at dksX8_mend_8 0 rfl rfl)
theorem dX8_mend_186 : decode cX8_mend 186 = .ok (.goto 29, 3) := dk_167 0 29 (dk_at dksX8_mend_8 3 rfl rfl)
theorem dX8_mend_189 : decode cX8_mend 189 = .ok (.aload_n 0, 1) := dk_42 (dk_at dksX8_mend_8 6 rfl rfl)
theorem dX8_mend_190 : decode cX8_mend 190 = .ok (.getfield 9, 3) := dk_180 0 9 (dk_at dksX8_mend_8 7 rfl rfl)
theorem dX8_mend_193 : decode cX8_mend 193 = .ok (.iload_n 2, 1) := dk_28 (dk_at dksX8_mend_8 10 rfl rfl)
theorem dX8_mend_194 : decode cX8_mend 194 = .ok (.aaload, 1) := dk_50 (dk_at dksX8_mend_8 11 rfl rfl)
theorem dX8_mend_195 : decode cX8_mend 195 = .ok (.aload_n 0, 1) := dk_42 (dk_at dksX8_mend_8 12 rfl rfl)
theorem dX8_mend_196 : decode cX8_mend 196 = .ok (.getfield 9, 3) := dk_180 0 9 (dk_at dksX8_mend_8 13 rfl rfl)
theorem dX8_mend_199 : decode cX8_mend 199 = .ok (.iload_n 2, 1) := dk_28 (dk_at dksX8_mend_8 16 rfl rfl)
theorem dX8_mend_200 : decode cX8_mend 200 = .ok (.iconst 1, 1) := dk_4 (dk_at dksX8_mend_8 17 rfl rfl)
theorem dX8_mend_201 : decode cX8_mend 201 = .ok (.iadd, 1) := dk_96 (dk_at dksX8_mend_8 18 rfl rfl)
theorem dX8_mend_202 : decode cX8_mend 202 = .ok (.aaload, 1) := dk_50 (dk_at dksX8_mend_8 19 rfl rfl)
theorem dX8_mend_203 : decode cX8_mend 203 = .ok (.invokeinterface 65 2, 5) := by decide +kernel
theorem dX8_mend_208 : decode cX8_mend 208 = .ok (.aload_n 0, 1) := dk_42 (dk_at dksX8_mend_9 5 rfl rfl)
theorem dX8_mend_209 : decode cX8_mend 209 = .ok (.iload_n 2, 1) := dk_28 (dk_at dksX8_mend_9 6 rfl rfl)
theorem dX8_mend_210 : decode cX8_mend 210 = .ok (.iconst 1, 1) := dk_4 (dk_at dksX8_mend_9 7 rfl rfl)
theorem dX8_mend_211 : decode cX8_mend 211 = .ok (.iadd, 1) := dk_96 (dk_at dksX8_mend_9 8 rfl rfl)
theorem dX8_mend_212 : decode cX8_mend 212 = .ok (.invokevirtual 68, 3) := dk_182 0 68 (dk_at dksX8_mend_9 9 rfl rfl)
theorem dX8_mend_215 : decode cX8_mend 215 = .ok (.return_, 1) := dk_177 (dk_at dksX8_mend_9 12 rfl rfl)
abbrev cX8_lastOf : ByteArray := prog_3_method_13_code
def yX8_lastOf : MethodName := ⟨RX8, "lastOf", "(LWideMap$Node;)V"⟩
def dkwX8_lastOf_1 : List UInt8 := [100, 50, 83, 44, 44, 180, 0, 22, 4, 100, 182, 0, 68, 177]
abbrev dktX8_lastOf_1 : List UInt8 := dkwX8_lastOf_1 ++ []
def dkwX8_lastOf_0 : List UInt8 := [43, 192, 0, 10, 77, 42, 3, 182, 0, 38, 42, 180, 0, 9, 3, 44, 180, 0, 9, 44, 180, 0, 22, 4]
abbrev dktX8_lastOf_0 : List UInt8 := dkwX8_lastOf_0 ++ dktX8_lastOf_1
theorem dksX8_lastOf_0 : cX8_lastOf.data.toList.drop 0 = dktX8_lastOf_0 := by decide +kernel
theorem dksX8_lastOf_1 : cX8_lastOf.data.toList.drop 24 = dktX8_lastOf_1 := dk_seg dksX8_lastOf_0 24 rfl rfl
theorem dX8_lastOf_0 : decode cX8_lastOf 0 = .ok (.aload_n 1, 1) := dk_43 (dk_at dksX8_lastOf_0 0 rfl rfl)
theorem dX8_lastOf_1 : decode cX8_lastOf 1 = .ok (.checkcast 10, 3) := dk_192 0 10 (dk_at dksX8_lastOf_0 1 rfl rfl)
theorem dX8_lastOf_4 : decode cX8_lastOf 4 = .ok (.astore_n 2, 1) := dk_77 (dk_at dksX8_lastOf_0 4 rfl rfl)
theorem dX8_lastOf_5 : decode cX8_lastOf 5 = .ok (.aload_n 0, 1) := dk_42 (dk_at dksX8_lastOf_0 5 rfl rfl)
theorem dX8_lastOf_6 : decode cX8_lastOf 6 = .ok (.iconst 0, 1) := dk_3 (dk_at dksX8_lastOf_0 6 rfl rfl)
theorem dX8_lastOf_7 : decode cX8_lastOf 7 = .ok (.invokevirtual 38, 3) := dk_182 0 38 (dk_at dksX8_lastOf_0 7 rfl rfl)
theorem dX8_lastOf_10 : decode cX8_lastOf 10 = .ok (.aload_n 0, 1) := dk_42 (dk_at dksX8_lastOf_0 10 rfl rfl)
theorem dX8_lastOf_11 : decode cX8_lastOf 11 = .ok (.getfield 9, 3) := dk_180 0 9 (dk_at dksX8_lastOf_0 11 rfl rfl)
theorem dX8_lastOf_14 : decode cX8_lastOf 14 = .ok (.iconst 0, 1) := dk_3 (dk_at dksX8_lastOf_0 14 rfl rfl)
theorem dX8_lastOf_15 : decode cX8_lastOf 15 = .ok (.aload_n 2, 1) := dk_44 (dk_at dksX8_lastOf_0 15 rfl rfl)
theorem dX8_lastOf_16 : decode cX8_lastOf 16 = .ok (.getfield 9, 3) := dk_180 0 9 (dk_at dksX8_lastOf_0 16 rfl rfl)
theorem dX8_lastOf_19 : decode cX8_lastOf 19 = .ok (.aload_n 2, 1) := dk_44 (dk_at dksX8_lastOf_0 19 rfl rfl)
theorem dX8_lastOf_20 : decode cX8_lastOf 20 = .ok (.getfield 22, 3) := dk_180 0 22 (dk_at dksX8_lastOf_0 20 rfl rfl)
theorem dX8_lastOf_23 : decode cX8_lastOf 23 = .ok (.iconst 1, 1) := dk_4 (dk_at dksX8_lastOf_0 23 rfl rfl)
theorem dX8_lastOf_24 : decode cX8_lastOf 24 = .ok (.isub, 1) := dk_100 (dk_at dksX8_lastOf_1 0 rfl rfl)
theorem dX8_lastOf_25 : decode cX8_lastOf 25 = .ok (.aaload, 1) := dk_50 (dk_at dksX8_lastOf_1 1 rfl rfl)
theorem dX8_lastOf_26 : decode cX8_lastOf 26 = .ok (.aastore, 1) := dk_83 (dk_at dksX8_lastOf_1 2 rfl rfl)
theorem dX8_lastOf_27 : decode cX8_lastOf 27 = .ok (.aload_n 2, 1) := dk_44 (dk_at dksX8_lastOf_1 3 rfl rfl)
theorem dX8_lastOf_28 : decode cX8_lastOf 28 = .ok (.aload_n 2, 1) := dk_44 (dk_at dksX8_lastOf_1 4 rfl rfl)
theorem dX8_lastOf_29 : decode cX8_lastOf 29 = .ok (.getfield 22, 3) := dk_180 0 22 (dk_at dksX8_lastOf_1 5 rfl rfl)
theorem dX8_lastOf_32 : decode cX8_lastOf 32 = .ok (.iconst 1, 1) := dk_4 (dk_at dksX8_lastOf_1 8 rfl rfl)
theorem dX8_lastOf_33 : decode cX8_lastOf 33 = .ok (.isub, 1) := dk_100 (dk_at dksX8_lastOf_1 9 rfl rfl)
theorem dX8_lastOf_34 : decode cX8_lastOf 34 = .ok (.invokevirtual 68, 3) := dk_182 0 68 (dk_at dksX8_lastOf_1 10 rfl rfl)
theorem dX8_lastOf_37 : decode cX8_lastOf 37 = .ok (.return_, 1) := dk_177 (dk_at dksX8_lastOf_1 13 rfl rfl)
abbrev cX8_close : ByteArray := prog_3_method_9_code
def yX8_close : MethodName := ⟨RX8, "close", "(I)V"⟩
def dkwX8_close_2 : List UInt8 := [180, 0, 22, 1, 83, 177]
abbrev dktX8_close_2 : List UInt8 := dkwX8_close_2 ++ []
def dkwX8_close_1 : List UInt8 := [50, 83, 132, 2, 1, 167, 255, 229, 42, 89, 180, 0, 22, 4, 100, 181, 0, 22, 42, 180, 0, 9, 42]
abbrev dktX8_close_1 : List UInt8 := dkwX8_close_1 ++ dktX8_close_2
def dkwX8_close_0 : List UInt8 := [27, 61, 28, 42, 180, 0, 22, 4, 100, 162, 0, 23, 42, 180, 0, 9, 28, 42, 180, 0, 9, 28, 4, 96]
abbrev dktX8_close_0 : List UInt8 := dkwX8_close_0 ++ dktX8_close_1
theorem dksX8_close_0 : cX8_close.data.toList.drop 0 = dktX8_close_0 := by decide +kernel
theorem dksX8_close_1 : cX8_close.data.toList.drop 24 = dktX8_close_1 := dk_seg dksX8_close_0 24 rfl rfl
theorem dksX8_close_2 : cX8_close.data.toList.drop 47 = dktX8_close_2 := dk_seg dksX8_close_1 23 rfl rfl
theorem dX8_close_0 : decode cX8_close 0 = .ok (.iload_n 1, 1) := dk_27 (dk_at dksX8_close_0 0 rfl rfl)
theorem dX8_close_1 : decode cX8_close 1 = .ok (.istore_n 2, 1) := dk_61 (dk_at dksX8_close_0 1 rfl rfl)
theorem dX8_close_2 : decode cX8_close 2 = .ok (.iload_n 2, 1) := dk_28 (dk_at dksX8_close_0 2 rfl rfl)
theorem dX8_close_3 : decode cX8_close 3 = .ok (.aload_n 0, 1) := dk_42 (dk_at dksX8_close_0 3 rfl rfl)
theorem dX8_close_4 : decode cX8_close 4 = .ok (.getfield 22, 3) := dk_180 0 22 (dk_at dksX8_close_0 4 rfl rfl)
theorem dX8_close_7 : decode cX8_close 7 = .ok (.iconst 1, 1) := dk_4 (dk_at dksX8_close_0 7 rfl rfl)
theorem dX8_close_8 : decode cX8_close 8 = .ok (.isub, 1) := dk_100 (dk_at dksX8_close_0 8 rfl rfl)
theorem dX8_close_9 : decode cX8_close 9 = .ok (.if_icmp .ge 23, 3) := dk_162 0 23 (dk_at dksX8_close_0 9 rfl rfl)
theorem dX8_close_12 : decode cX8_close 12 = .ok (.aload_n 0, 1) := dk_42 (dk_at dksX8_close_0 12 rfl rfl)
theorem dX8_close_13 : decode cX8_close 13 = .ok (.getfield 9, 3) := dk_180 0 9 (dk_at dksX8_close_0 13 rfl rfl)
theorem dX8_close_16 : decode cX8_close 16 = .ok (.iload_n 2, 1) := dk_28 (dk_at dksX8_close_0 16 rfl rfl)
theorem dX8_close_17 : decode cX8_close 17 = .ok (.aload_n 0, 1) := dk_42 (dk_at dksX8_close_0 17 rfl rfl)
theorem dX8_close_18 : decode cX8_close 18 = .ok (.getfield 9, 3) := dk_180 0 9 (dk_at dksX8_close_0 18 rfl rfl)
theorem dX8_close_21 : decode cX8_close 21 = .ok (.iload_n 2, 1) := dk_28 (dk_at dksX8_close_0 21 rfl rfl)
theorem dX8_close_22 : decode cX8_close 22 = .ok (.iconst 1, 1) := dk_4 (dk_at dksX8_close_0 22 rfl rfl)
theorem dX8_close_23 : decode cX8_close 23 = .ok (.iadd, 1) := dk_96 (dk_at dksX8_close_0 23 rfl rfl)
theorem dX8_close_24 : decode cX8_close 24 = .ok (.aaload, 1) := dk_50 (dk_at dksX8_close_1 0 rfl rfl)
theorem dX8_close_25 : decode cX8_close 25 = .ok (.aastore, 1) := dk_83 (dk_at dksX8_close_1 1 rfl rfl)
theorem dX8_close_26 : decode cX8_close 26 = .ok (.iinc 2 1, 3) := dk_132 2 1 (dk_at dksX8_close_1 2 rfl rfl)
theorem dX8_close_29 : decode cX8_close 29 = .ok (.goto (-27), 3) := dk_167 255 229 (dk_at dksX8_close_1 5 rfl rfl)
theorem dX8_close_32 : decode cX8_close 32 = .ok (.aload_n 0, 1) := dk_42 (dk_at dksX8_close_1 8 rfl rfl)
theorem dX8_close_33 : decode cX8_close 33 = .ok (.dup, 1) := dk_89 (dk_at dksX8_close_1 9 rfl rfl)
theorem dX8_close_34 : decode cX8_close 34 = .ok (.getfield 22, 3) := dk_180 0 22 (dk_at dksX8_close_1 10 rfl rfl)
theorem dX8_close_37 : decode cX8_close 37 = .ok (.iconst 1, 1) := dk_4 (dk_at dksX8_close_1 13 rfl rfl)
theorem dX8_close_38 : decode cX8_close 38 = .ok (.isub, 1) := dk_100 (dk_at dksX8_close_1 14 rfl rfl)
theorem dX8_close_39 : decode cX8_close 39 = .ok (.putfield 22, 3) := dk_181 0 22 (dk_at dksX8_close_1 15 rfl rfl)
theorem dX8_close_42 : decode cX8_close 42 = .ok (.aload_n 0, 1) := dk_42 (dk_at dksX8_close_1 18 rfl rfl)
theorem dX8_close_43 : decode cX8_close 43 = .ok (.getfield 9, 3) := dk_180 0 9 (dk_at dksX8_close_1 19 rfl rfl)
theorem dX8_close_46 : decode cX8_close 46 = .ok (.aload_n 0, 1) := dk_42 (dk_at dksX8_close_1 22 rfl rfl)
theorem dX8_close_47 : decode cX8_close 47 = .ok (.getfield 22, 3) := dk_180 0 22 (dk_at dksX8_close_2 0 rfl rfl)
theorem dX8_close_50 : decode cX8_close 50 = .ok (.aconst_null, 1) := dk_1 (dk_at dksX8_close_2 3 rfl rfl)
theorem dX8_close_51 : decode cX8_close 51 = .ok (.aastore, 1) := dk_83 (dk_at dksX8_close_2 4 rfl rfl)
theorem dX8_close_52 : decode cX8_close 52 = .ok (.return_, 1) := dk_177 (dk_at dksX8_close_2 5 rfl rfl)
abbrev cX8_firstOf : ByteArray := prog_3_method_14_code
def yX8_firstOf : MethodName := ⟨RX8, "firstOf", "(LWideMap$Node;)V"⟩
def dkwX8_firstOf_1 : List UInt8 := [180, 0, 22, 4, 96, 181, 0, 22, 44, 3, 182, 0, 68, 177]
abbrev dktX8_firstOf_1 : List UInt8 := dkwX8_firstOf_1 ++ []
def dkwX8_firstOf_0 : List UInt8 := [43, 192, 0, 10, 77, 42, 180, 0, 9, 42, 180, 0, 22, 44, 180, 0, 9, 3, 50, 83, 42, 89]
abbrev dktX8_firstOf_0 : List UInt8 := dkwX8_firstOf_0 ++ dktX8_firstOf_1
theorem dksX8_firstOf_0 : cX8_firstOf.data.toList.drop 0 = dktX8_firstOf_0 := by decide +kernel
theorem dksX8_firstOf_1 : cX8_firstOf.data.toList.drop 22 = dktX8_firstOf_1 := dk_seg dksX8_firstOf_0 22 rfl rfl
theorem dX8_firstOf_0 : decode cX8_firstOf 0 = .ok (.aload_n 1, 1) := dk_43 (dk_at dksX8_firstOf_0 0 rfl rfl)
theorem dX8_firstOf_1 : decode cX8_firstOf 1 = .ok (.checkcast 10, 3) := dk_192 0 10 (dk_at dksX8_firstOf_0 1 rfl rfl)
theorem dX8_firstOf_4 : decode cX8_firstOf 4 = .ok (.astore_n 2, 1) := dk_77 (dk_at dksX8_firstOf_0 4 rfl rfl)
theorem dX8_firstOf_5 : decode cX8_firstOf 5 = .ok (.aload_n 0, 1) := dk_42 (dk_at dksX8_firstOf_0 5 rfl rfl)
theorem dX8_firstOf_6 : decode cX8_firstOf 6 = .ok (.getfield 9, 3) := dk_180 0 9 (dk_at dksX8_firstOf_0 6 rfl rfl)
theorem dX8_firstOf_9 : decode cX8_firstOf 9 = .ok (.aload_n 0, 1) := dk_42 (dk_at dksX8_firstOf_0 9 rfl rfl)
theorem dX8_firstOf_10 : decode cX8_firstOf 10 = .ok (.getfield 22, 3) := dk_180 0 22 (dk_at dksX8_firstOf_0 10 rfl rfl)
theorem dX8_firstOf_13 : decode cX8_firstOf 13 = .ok (.aload_n 2, 1) := dk_44 (dk_at dksX8_firstOf_0 13 rfl rfl)
theorem dX8_firstOf_14 : decode cX8_firstOf 14 = .ok (.getfield 9, 3) := dk_180 0 9 (dk_at dksX8_firstOf_0 14 rfl rfl)
theorem dX8_firstOf_17 : decode cX8_firstOf 17 = .ok (.iconst 0, 1) := dk_3 (dk_at dksX8_firstOf_0 17 rfl rfl)
theorem dX8_firstOf_18 : decode cX8_firstOf 18 = .ok (.aaload, 1) := dk_50 (dk_at dksX8_firstOf_0 18 rfl rfl)
theorem dX8_firstOf_19 : decode cX8_firstOf 19 = .ok (.aastore, 1) := dk_83 (dk_at dksX8_firstOf_0 19 rfl rfl)
theorem dX8_firstOf_20 : decode cX8_firstOf 20 = .ok (.aload_n 0, 1) := dk_42 (dk_at dksX8_firstOf_0 20 rfl rfl)
theorem dX8_firstOf_21 : decode cX8_firstOf 21 = .ok (.dup, 1) := dk_89 (dk_at dksX8_firstOf_0 21 rfl rfl)
theorem dX8_firstOf_22 : decode cX8_firstOf 22 = .ok (.getfield 22, 3) := dk_180 0 22 (dk_at dksX8_firstOf_1 0 rfl rfl)
theorem dX8_firstOf_25 : decode cX8_firstOf 25 = .ok (.iconst 1, 1) := dk_4 (dk_at dksX8_firstOf_1 3 rfl rfl)
theorem dX8_firstOf_26 : decode cX8_firstOf 26 = .ok (.iadd, 1) := dk_96 (dk_at dksX8_firstOf_1 4 rfl rfl)
theorem dX8_firstOf_27 : decode cX8_firstOf 27 = .ok (.putfield 22, 3) := dk_181 0 22 (dk_at dksX8_firstOf_1 5 rfl rfl)
theorem dX8_firstOf_30 : decode cX8_firstOf 30 = .ok (.aload_n 2, 1) := dk_44 (dk_at dksX8_firstOf_1 8 rfl rfl)
theorem dX8_firstOf_31 : decode cX8_firstOf 31 = .ok (.iconst 0, 1) := dk_3 (dk_at dksX8_firstOf_1 9 rfl rfl)
theorem dX8_firstOf_32 : decode cX8_firstOf 32 = .ok (.invokevirtual 68, 3) := dk_182 0 68 (dk_at dksX8_firstOf_1 10 rfl rfl)
theorem dX8_firstOf_35 : decode cX8_firstOf 35 = .ok (.return_, 1) := dk_177 (dk_at dksX8_firstOf_1 13 rfl rfl)
abbrev cX8_allOf : ByteArray := prog_3_method_15_code
def yX8_allOf : MethodName := ⟨RX8, "allOf", "(LWideMap$Node;)V"⟩
def dkwX8_allOf_2 : List UInt8 := [181, 0, 22, 177]
abbrev dktX8_allOf_2 : List UInt8 := dkwX8_allOf_2 ++ []
def dkwX8_allOf_1 : List UInt8 := [185, 0, 71, 2, 0, 83, 132, 2, 1, 167, 255, 225, 42, 89, 180, 0, 22, 43, 185, 0, 52, 1, 0, 96]
abbrev dktX8_allOf_1 : List UInt8 := dkwX8_allOf_1 ++ dktX8_allOf_2
def dkwX8_allOf_0 : List UInt8 := [3, 61, 28, 43, 185, 0, 52, 1, 0, 162, 0, 27, 42, 180, 0, 9, 42, 180, 0, 22, 28, 96, 43, 28]
abbrev dktX8_allOf_0 : List UInt8 := dkwX8_allOf_0 ++ dktX8_allOf_1
theorem dksX8_allOf_0 : cX8_allOf.data.toList.drop 0 = dktX8_allOf_0 := by decide +kernel
theorem dksX8_allOf_1 : cX8_allOf.data.toList.drop 24 = dktX8_allOf_1 := dk_seg dksX8_allOf_0 24 rfl rfl
theorem dksX8_allOf_2 : cX8_allOf.data.toList.drop 48 = dktX8_allOf_2 := dk_seg dksX8_allOf_1 24 rfl rfl
theorem dX8_allOf_0 : decode cX8_allOf 0 = .ok (.iconst 0, 1) := dk_3 (dk_at dksX8_allOf_0 0 rfl rfl)
theorem dX8_allOf_1 : decode cX8_allOf 1 = .ok (.istore_n 2, 1) := dk_61 (dk_at dksX8_allOf_0 1 rfl rfl)
theorem dX8_allOf_2 : decode cX8_allOf 2 = .ok (.iload_n 2, 1) := dk_28 (dk_at dksX8_allOf_0 2 rfl rfl)
theorem dX8_allOf_3 : decode cX8_allOf 3 = .ok (.aload_n 1, 1) := dk_43 (dk_at dksX8_allOf_0 3 rfl rfl)
theorem dX8_allOf_4 : decode cX8_allOf 4 = .ok (.invokeinterface 52 1, 5) := by decide +kernel
theorem dX8_allOf_9 : decode cX8_allOf 9 = .ok (.if_icmp .ge 27, 3) := dk_162 0 27 (dk_at dksX8_allOf_0 9 rfl rfl)
theorem dX8_allOf_12 : decode cX8_allOf 12 = .ok (.aload_n 0, 1) := dk_42 (dk_at dksX8_allOf_0 12 rfl rfl)
theorem dX8_allOf_13 : decode cX8_allOf 13 = .ok (.getfield 9, 3) := dk_180 0 9 (dk_at dksX8_allOf_0 13 rfl rfl)
theorem dX8_allOf_16 : decode cX8_allOf 16 = .ok (.aload_n 0, 1) := dk_42 (dk_at dksX8_allOf_0 16 rfl rfl)
theorem dX8_allOf_17 : decode cX8_allOf 17 = .ok (.getfield 22, 3) := dk_180 0 22 (dk_at dksX8_allOf_0 17 rfl rfl)
theorem dX8_allOf_20 : decode cX8_allOf 20 = .ok (.iload_n 2, 1) := dk_28 (dk_at dksX8_allOf_0 20 rfl rfl)
theorem dX8_allOf_21 : decode cX8_allOf 21 = .ok (.iadd, 1) := dk_96 (dk_at dksX8_allOf_0 21 rfl rfl)
theorem dX8_allOf_22 : decode cX8_allOf 22 = .ok (.aload_n 1, 1) := dk_43 (dk_at dksX8_allOf_0 22 rfl rfl)
theorem dX8_allOf_23 : decode cX8_allOf 23 = .ok (.iload_n 2, 1) := dk_28 (dk_at dksX8_allOf_0 23 rfl rfl)
theorem dX8_allOf_24 : decode cX8_allOf 24 = .ok (.invokeinterface 71 2, 5) := by decide +kernel
theorem dX8_allOf_29 : decode cX8_allOf 29 = .ok (.aastore, 1) := dk_83 (dk_at dksX8_allOf_1 5 rfl rfl)
theorem dX8_allOf_30 : decode cX8_allOf 30 = .ok (.iinc 2 1, 3) := dk_132 2 1 (dk_at dksX8_allOf_1 6 rfl rfl)
theorem dX8_allOf_33 : decode cX8_allOf 33 = .ok (.goto (-31), 3) := dk_167 255 225 (dk_at dksX8_allOf_1 9 rfl rfl)
theorem dX8_allOf_36 : decode cX8_allOf 36 = .ok (.aload_n 0, 1) := dk_42 (dk_at dksX8_allOf_1 12 rfl rfl)
theorem dX8_allOf_37 : decode cX8_allOf 37 = .ok (.dup, 1) := dk_89 (dk_at dksX8_allOf_1 13 rfl rfl)
theorem dX8_allOf_38 : decode cX8_allOf 38 = .ok (.getfield 22, 3) := dk_180 0 22 (dk_at dksX8_allOf_1 14 rfl rfl)
theorem dX8_allOf_41 : decode cX8_allOf 41 = .ok (.aload_n 1, 1) := dk_43 (dk_at dksX8_allOf_1 17 rfl rfl)
theorem dX8_allOf_42 : decode cX8_allOf 42 = .ok (.invokeinterface 52 1, 5) := by decide +kernel
theorem dX8_allOf_47 : decode cX8_allOf 47 = .ok (.iadd, 1) := dk_96 (dk_at dksX8_allOf_1 23 rfl rfl)
theorem dX8_allOf_48 : decode cX8_allOf 48 = .ok (.putfield 22, 3) := dk_181 0 22 (dk_at dksX8_allOf_2 0 rfl rfl)
theorem dX8_allOf_51 : decode cX8_allOf 51 = .ok (.return_, 1) := dk_177 (dk_at dksX8_allOf_2 3 rfl rfl)
abbrev cX8_shows : ByteArray := prog_3_method_16_code
def yX8_shows : MethodName := ⟨RX8, "shows", "(Ljava/lang/StringBuilder;)V"⟩
def dkwX8_shows_1 : List UInt8 := [185, 0, 81, 2, 0, 132, 2, 1, 167, 255, 233, 43, 16, 41, 182, 0, 75, 87, 177]
abbrev dktX8_shows_1 : List UInt8 := dkwX8_shows_1 ++ []
def dkwX8_shows_0 : List UInt8 := [43, 16, 40, 182, 0, 75, 87, 3, 61, 28, 42, 180, 0, 22, 162, 0, 21, 42, 180, 0, 9, 28, 50, 43]
abbrev dktX8_shows_0 : List UInt8 := dkwX8_shows_0 ++ dktX8_shows_1
theorem dksX8_shows_0 : cX8_shows.data.toList.drop 0 = dktX8_shows_0 := by decide +kernel
theorem dksX8_shows_1 : cX8_shows.data.toList.drop 24 = dktX8_shows_1 := dk_seg dksX8_shows_0 24 rfl rfl
theorem dX8_shows_0 : decode cX8_shows 0 = .ok (.aload_n 1, 1) := dk_43 (dk_at dksX8_shows_0 0 rfl rfl)
theorem dX8_shows_1 : decode cX8_shows 1 = .ok (.bipush 40, 2) := dk_16 40 (dk_at dksX8_shows_0 1 rfl rfl)
theorem dX8_shows_3 : decode cX8_shows 3 = .ok (.invokevirtual 75, 3) := dk_182 0 75 (dk_at dksX8_shows_0 3 rfl rfl)
theorem dX8_shows_6 : decode cX8_shows 6 = .ok (.pop, 1) := dk_87 (dk_at dksX8_shows_0 6 rfl rfl)
theorem dX8_shows_7 : decode cX8_shows 7 = .ok (.iconst 0, 1) := dk_3 (dk_at dksX8_shows_0 7 rfl rfl)
theorem dX8_shows_8 : decode cX8_shows 8 = .ok (.istore_n 2, 1) := dk_61 (dk_at dksX8_shows_0 8 rfl rfl)
theorem dX8_shows_9 : decode cX8_shows 9 = .ok (.iload_n 2, 1) := dk_28 (dk_at dksX8_shows_0 9 rfl rfl)
theorem dX8_shows_10 : decode cX8_shows 10 = .ok (.aload_n 0, 1) := dk_42 (dk_at dksX8_shows_0 10 rfl rfl)
theorem dX8_shows_11 : decode cX8_shows 11 = .ok (.getfield 22, 3) := dk_180 0 22 (dk_at dksX8_shows_0 11 rfl rfl)
theorem dX8_shows_14 : decode cX8_shows 14 = .ok (.if_icmp .ge 21, 3) := dk_162 0 21 (dk_at dksX8_shows_0 14 rfl rfl)
theorem dX8_shows_17 : decode cX8_shows 17 = .ok (.aload_n 0, 1) := dk_42 (dk_at dksX8_shows_0 17 rfl rfl)
theorem dX8_shows_18 : decode cX8_shows 18 = .ok (.getfield 9, 3) := dk_180 0 9 (dk_at dksX8_shows_0 18 rfl rfl)
theorem dX8_shows_21 : decode cX8_shows 21 = .ok (.iload_n 2, 1) := dk_28 (dk_at dksX8_shows_0 21 rfl rfl)
theorem dX8_shows_22 : decode cX8_shows 22 = .ok (.aaload, 1) := dk_50 (dk_at dksX8_shows_0 22 rfl rfl)
theorem dX8_shows_23 : decode cX8_shows 23 = .ok (.aload_n 1, 1) := dk_43 (dk_at dksX8_shows_0 23 rfl rfl)
theorem dX8_shows_24 : decode cX8_shows 24 = .ok (.invokeinterface 81 2, 5) := by decide +kernel
theorem dX8_shows_29 : decode cX8_shows 29 = .ok (.iinc 2 1, 3) := dk_132 2 1 (dk_at dksX8_shows_1 5 rfl rfl)
theorem dX8_shows_32 : decode cX8_shows 32 = .ok (.goto (-23), 3) := dk_167 255 233 (dk_at dksX8_shows_1 8 rfl rfl)
theorem dX8_shows_35 : decode cX8_shows 35 = .ok (.aload_n 1, 1) := dk_43 (dk_at dksX8_shows_1 11 rfl rfl)
theorem dX8_shows_36 : decode cX8_shows 36 = .ok (.bipush 41, 2) := dk_16 41 (dk_at dksX8_shows_1 12 rfl rfl)
theorem dX8_shows_38 : decode cX8_shows 38 = .ok (.invokevirtual 75, 3) := dk_182 0 75 (dk_at dksX8_shows_1 14 rfl rfl)
theorem dX8_shows_41 : decode cX8_shows 41 = .ok (.pop, 1) := dk_87 (dk_at dksX8_shows_1 17 rfl rfl)
theorem dX8_shows_42 : decode cX8_shows 42 = .ok (.return_, 1) := dk_177 (dk_at dksX8_shows_1 18 rfl rfl)
theorem q155 : (Jvm.Cond.initialized "WideMap$Inner") ∈ lw_all := lw_g (lw_at lw_m1 25 rfl) rfl
theorem q852 : (Jvm.Cond.fieldLink "WideMap$Inner" (22 : Nat) "WideMap$Inner" "n" "I") ∈ lw_all := lw_g (lw_at lw_m4 2 rfl) rfl
theorem q853 : (Jvm.Cond.sameField "WideMap$Inner" "WideMap$Marked" "n" "I") ∈ lw_all := lw_g (lw_at lw_m4 3 rfl) rfl
theorem q881 : (Jvm.Cond.castable "WideMap$Inner" "WideMap$Node") ∈ lw_tbl := lw_at lw_m4 31 rfl
theorem q882 : (Jvm.Cond.selects "WideMap$Inner" ({ cls := "WideMap$Node", name := "isLeaf", desc := "()Z" } : Jvm.MethodName) ({ cls := "WideMap$Inner", name := "isLeaf", desc := "()Z" } : Jvm.MethodName)) ∈ lw_all := lw_g (lw_at lw_m4 32 rfl) rfl
theorem q883 : (Jvm.Cond.unhidden "WideMap$Inner" "isLeaf" "()Z") ∈ lw_tbl := lw_at lw_m4 33 rfl
theorem q884 : (Jvm.Cond.instanceMethod ({ cls := "WideMap$Inner", name := "isLeaf", desc := "()Z" } : Jvm.MethodName)) ∈ lw_all := lw_g (lw_at lw_m4 34 rfl) rfl
theorem q885 : (Jvm.Cond.publicMethod ({ cls := "WideMap$Inner", name := "isLeaf", desc := "()Z" } : Jvm.MethodName)) ∈ lw_tbl := lw_at lw_m4 35 rfl
theorem q886 : (Jvm.Cond.code ({ cls := "WideMap$Inner", name := "isLeaf", desc := "()Z" } : Jvm.MethodName) prog_3_method_2_code (1 : Nat) (Option.some Jvm.ClassFile.FieldType.boolean)) ∈ lw_all := lw_g (lw_at lw_m4 36 rfl) rfl
theorem q897 : (Jvm.Cond.unhidden "WideMap$Inner" "kidFor" "(I)I") ∈ lw_tbl := lw_at lw_m4 47 rfl
theorem q905 : (Jvm.Cond.selects "WideMap$Inner" ({ cls := "WideMap$Node", name := "many", desc := "()I" } : Jvm.MethodName) ({ cls := "WideMap$Marked", name := "many", desc := "()I" } : Jvm.MethodName)) ∈ lw_all := lw_g (lw_at lw_m4 55 rfl) rfl
theorem q906 : (Jvm.Cond.unhidden "WideMap$Inner" "many" "()I") ∈ lw_tbl := lw_at lw_m4 56 rfl
theorem q916 : (Jvm.Cond.selects "WideMap$Inner" ({ cls := "WideMap$Node", name := "kid", desc := "(I)LWideMap$Node;" } : Jvm.MethodName) ({ cls := "WideMap$Inner", name := "kid", desc := "(I)LWideMap$Node;" } : Jvm.MethodName)) ∈ lw_all := lw_g (lw_at lw_m4 66 rfl) rfl
theorem q917 : (Jvm.Cond.unhidden "WideMap$Inner" "kid" "(I)LWideMap$Node;") ∈ lw_tbl := lw_at lw_m4 67 rfl
theorem q918 : (Jvm.Cond.instanceMethod ({ cls := "WideMap$Inner", name := "kid", desc := "(I)LWideMap$Node;" } : Jvm.MethodName)) ∈ lw_all := lw_g (lw_at lw_m4 68 rfl) rfl
theorem q919 : (Jvm.Cond.publicMethod ({ cls := "WideMap$Inner", name := "kid", desc := "(I)LWideMap$Node;" } : Jvm.MethodName)) ∈ lw_tbl := lw_at lw_m4 69 rfl
theorem q920 : (Jvm.Cond.code ({ cls := "WideMap$Inner", name := "kid", desc := "(I)LWideMap$Node;" } : Jvm.MethodName) prog_3_method_4_code (2 : Nat) (Option.some (Jvm.ClassFile.FieldType.object "WideMap$Node"))) ∈ lw_all := lw_g (lw_at lw_m4 70 rfl) rfl
theorem q930 : (Jvm.Cond.selects "WideMap$Inner" ({ cls := "WideMap$Node", name := "low", desc := "()I" } : Jvm.MethodName) ({ cls := "WideMap$Inner", name := "low", desc := "()I" } : Jvm.MethodName)) ∈ lw_all := lw_g (lw_at lw_m4 80 rfl) rfl
theorem q931 : (Jvm.Cond.unhidden "WideMap$Inner" "low" "()I") ∈ lw_tbl := lw_at lw_m4 81 rfl
theorem q932 : (Jvm.Cond.instanceMethod ({ cls := "WideMap$Inner", name := "low", desc := "()I" } : Jvm.MethodName)) ∈ lw_all := lw_g (lw_at lw_m4 82 rfl) rfl
theorem q933 : (Jvm.Cond.publicMethod ({ cls := "WideMap$Inner", name := "low", desc := "()I" } : Jvm.MethodName)) ∈ lw_tbl := lw_at lw_m4 83 rfl
theorem q934 : (Jvm.Cond.code ({ cls := "WideMap$Inner", name := "low", desc := "()I" } : Jvm.MethodName) prog_3_method_3_code (1 : Nat) (Option.some Jvm.ClassFile.FieldType.int)) ∈ lw_all := lw_g (lw_at lw_m4 84 rfl) rfl
theorem q935 : (Jvm.Cond.interfaceEntry "WideMap$Inner" (15 : Nat)) ∈ lw_tbl := lw_at lw_m4 85 rfl
theorem q936 : (Jvm.Cond.methodLink "WideMap$Inner" (15 : Nat) ({ cls := "WideMap$Node", name := "low", desc := "()I" } : Jvm.MethodName)) ∈ lw_all := lw_g (lw_at lw_m4 86 rfl) rfl
theorem q951 : (Jvm.Cond.selects "WideMap$Inner" ({ cls := "WideMap$Node", name := "keyAt", desc := "(I)I" } : Jvm.MethodName) ({ cls := "WideMap$Inner", name := "keyAt", desc := "(I)I" } : Jvm.MethodName)) ∈ lw_all := lw_g (lw_at lw_m4 101 rfl) rfl
theorem q952 : (Jvm.Cond.unhidden "WideMap$Inner" "keyAt" "(I)I") ∈ lw_tbl := lw_at lw_m4 102 rfl
theorem q953 : (Jvm.Cond.instanceMethod ({ cls := "WideMap$Inner", name := "keyAt", desc := "(I)I" } : Jvm.MethodName)) ∈ lw_all := lw_g (lw_at lw_m4 103 rfl) rfl
theorem q954 : (Jvm.Cond.publicMethod ({ cls := "WideMap$Inner", name := "keyAt", desc := "(I)I" } : Jvm.MethodName)) ∈ lw_tbl := lw_at lw_m4 104 rfl
theorem q955 : (Jvm.Cond.code ({ cls := "WideMap$Inner", name := "keyAt", desc := "(I)I" } : Jvm.MethodName) prog_3_method_5_code (2 : Nat) (Option.some Jvm.ClassFile.FieldType.int)) ∈ lw_all := lw_g (lw_at lw_m4 105 rfl) rfl
theorem q965 : (Jvm.Cond.selects "WideMap$Inner" ({ cls := "WideMap$Node", name := "valueAt", desc := "(I)I" } : Jvm.MethodName) ({ cls := "WideMap$Inner", name := "valueAt", desc := "(I)I" } : Jvm.MethodName)) ∈ lw_all := lw_g (lw_at lw_m4 115 rfl) rfl
theorem q966 : (Jvm.Cond.unhidden "WideMap$Inner" "valueAt" "(I)I") ∈ lw_tbl := lw_at lw_m4 116 rfl
theorem q967 : (Jvm.Cond.instanceMethod ({ cls := "WideMap$Inner", name := "valueAt", desc := "(I)I" } : Jvm.MethodName)) ∈ lw_all := lw_g (lw_at lw_m4 117 rfl) rfl
theorem q968 : (Jvm.Cond.publicMethod ({ cls := "WideMap$Inner", name := "valueAt", desc := "(I)I" } : Jvm.MethodName)) ∈ lw_tbl := lw_at lw_m4 118 rfl
theorem q969 : (Jvm.Cond.code ({ cls := "WideMap$Inner", name := "valueAt", desc := "(I)I" } : Jvm.MethodName) prog_3_method_6_code (2 : Nat) (Option.some Jvm.ClassFile.FieldType.int)) ∈ lw_all := lw_g (lw_at lw_m4 119 rfl) rfl
theorem q979 : (Jvm.Cond.unhidden "WideMap$Inner" "edited" "(LWideMap$Token;)LWideMap$Node;") ∈ lw_tbl := lw_at lw_m4 129 rfl
theorem q987 : (Jvm.Cond.unhidden "WideMap$Inner" "isOf" "(LWideMap$Token;)Z") ∈ lw_tbl := lw_at lw_m4 137 rfl
theorem q995 : (Jvm.Cond.selects "WideMap$Inner" ({ cls := "WideMap$Node", name := "token", desc := "()LWideMap$Token;" } : Jvm.MethodName) ({ cls := "WideMap$Marked", name := "token", desc := "()LWideMap$Token;" } : Jvm.MethodName)) ∈ lw_all := lw_g (lw_at lw_m4 145 rfl) rfl
theorem q996 : (Jvm.Cond.unhidden "WideMap$Inner" "token" "()LWideMap$Token;") ∈ lw_tbl := lw_at lw_m4 146 rfl
theorem q1007 : (Jvm.Cond.selects "WideMap$Inner" ({ cls := "WideMap$Node", name := "copied", desc := "(LWideMap$Token;)LWideMap$Node;" } : Jvm.MethodName) ({ cls := "WideMap$Inner", name := "copied", desc := "(LWideMap$Token;)LWideMap$Node;" } : Jvm.MethodName)) ∈ lw_all := lw_g (lw_at lw_m4 157 rfl) rfl
theorem q1008 : (Jvm.Cond.unhidden "WideMap$Inner" "copied" "(LWideMap$Token;)LWideMap$Node;") ∈ lw_tbl := lw_at lw_m4 158 rfl
theorem q1009 : (Jvm.Cond.instanceMethod ({ cls := "WideMap$Inner", name := "copied", desc := "(LWideMap$Token;)LWideMap$Node;" } : Jvm.MethodName)) ∈ lw_all := lw_g (lw_at lw_m4 159 rfl) rfl
theorem q1010 : (Jvm.Cond.publicMethod ({ cls := "WideMap$Inner", name := "copied", desc := "(LWideMap$Token;)LWideMap$Node;" } : Jvm.MethodName)) ∈ lw_tbl := lw_at lw_m4 160 rfl
theorem q1011 : (Jvm.Cond.code ({ cls := "WideMap$Inner", name := "copied", desc := "(LWideMap$Token;)LWideMap$Node;" } : Jvm.MethodName) prog_3_method_7_code (4 : Nat) (Option.some (Jvm.ClassFile.FieldType.object "WideMap$Node"))) ∈ lw_all := lw_g (lw_at lw_m4 161 rfl) rfl
theorem q1012 : (Jvm.Cond.classLink "WideMap$Inner" (10 : Nat) "WideMap$Inner") ∈ lw_all := lw_g (lw_at lw_m4 162 rfl) rfl
theorem q1013 : (Jvm.Cond.instantiable "WideMap$Inner" (4 : Nat)) ∈ lw_all := lw_g (lw_at lw_m4 163 rfl) rfl
theorem q1014 : (Jvm.Cond.methodLink "WideMap$Inner" (19 : Nat) ({ cls := "WideMap$Inner", name := "<init>", desc := "(LWideMap$Token;I)V" } : Jvm.MethodName)) ∈ lw_all := lw_g (lw_at lw_m4 164 rfl) rfl
theorem q1015 : (Jvm.Cond.instanceMethod ({ cls := "WideMap$Inner", name := "<init>", desc := "(LWideMap$Token;I)V" } : Jvm.MethodName)) ∈ lw_all := lw_g (lw_at lw_m4 165 rfl) rfl
theorem q1016 : (Jvm.Cond.code ({ cls := "WideMap$Inner", name := "<init>", desc := "(LWideMap$Token;I)V" } : Jvm.MethodName) prog_3_method_1_code (3 : Nat) (Option.none : Option Jvm.ClassFile.FieldType)) ∈ lw_all := lw_g (lw_at lw_m4 166 rfl) rfl
theorem q1017 : (Jvm.Cond.methodLink "WideMap$Inner" (1 : Nat) ({ cls := "WideMap$Marked", name := "<init>", desc := "(LWideMap$Token;)V" } : Jvm.MethodName)) ∈ lw_all := lw_g (lw_at lw_m4 167 rfl) rfl
theorem q1018 : (Jvm.Cond.classLink "WideMap$Inner" (7 : Nat) "WideMap$Node") ∈ lw_all := lw_g (lw_at lw_m4 168 rfl) rfl
theorem q1019 : (Jvm.Cond.fieldLink "WideMap$Inner" (9 : Nat) "WideMap$Inner" "kids" "[LWideMap$Node;") ∈ lw_all := lw_g (lw_at lw_m4 169 rfl) rfl
theorem q1021 : (Jvm.Cond.laysFinal "WideMap$Inner" "WideMap$Inner" "kids" "[LWideMap$Node;") ∈ lw_all := lw_g (lw_at lw_m4 171 rfl) rfl
theorem q1022 : (Jvm.Cond.soleField "WideMap$Inner" "kids") ∈ lw_all := lw_g (lw_at lw_m4 172 rfl) rfl
theorem q1023 : (Jvm.Cond.laysFinal "WideMap$Inner" "WideMap$Marked" "token" "LWideMap$Token;") ∈ lw_all := lw_g (lw_at lw_m4 173 rfl) rfl
theorem q1024 : (Jvm.Cond.lays "WideMap$Inner" "WideMap$Marked" "n" "I") ∈ lw_all := lw_g (lw_at lw_m4 174 rfl) rfl
theorem q1025 : (Jvm.Cond.lays "WideMap$Inner" "WideMap$Marked" "stamp" "I") ∈ lw_all := lw_g (lw_at lw_m4 175 rfl) rfl
theorem q1026 : (Jvm.Cond.superclass "WideMap$Inner" "WideMap$Marked") ∈ lw_all := lw_g (lw_at lw_m4 176 rfl) rfl
theorem q1043 : (Jvm.Cond.selects "WideMap$Inner" ({ cls := "WideMap$Node", name := "lays", desc := "(LWideMap$Token;III)LWideMap$Node;" } : Jvm.MethodName) ({ cls := "WideMap$Inner", name := "lays", desc := "(LWideMap$Token;III)LWideMap$Node;" } : Jvm.MethodName)) ∈ lw_all := lw_g (lw_at lw_m4 193 rfl) rfl
theorem q1044 : (Jvm.Cond.unhidden "WideMap$Inner" "lays" "(LWideMap$Token;III)LWideMap$Node;") ∈ lw_tbl := lw_at lw_m4 194 rfl
theorem q1045 : (Jvm.Cond.instanceMethod ({ cls := "WideMap$Inner", name := "lays", desc := "(LWideMap$Token;III)LWideMap$Node;" } : Jvm.MethodName)) ∈ lw_all := lw_g (lw_at lw_m4 195 rfl) rfl
theorem q1046 : (Jvm.Cond.publicMethod ({ cls := "WideMap$Inner", name := "lays", desc := "(LWideMap$Token;III)LWideMap$Node;" } : Jvm.MethodName)) ∈ lw_tbl := lw_at lw_m4 196 rfl
theorem q1047 : (Jvm.Cond.code ({ cls := "WideMap$Inner", name := "lays", desc := "(LWideMap$Token;III)LWideMap$Node;" } : Jvm.MethodName) prog_3_method_10_code (9 : Nat) (Option.some (Jvm.ClassFile.FieldType.object "WideMap$Node"))) ∈ lw_all := lw_g (lw_at lw_m4 197 rfl) rfl
theorem q1048 : (Jvm.Cond.interfaceEntry "WideMap$Inner" (30 : Nat)) ∈ lw_tbl := lw_at lw_m4 198 rfl
theorem q1049 : (Jvm.Cond.methodLink "WideMap$Inner" (30 : Nat) ({ cls := "WideMap$Node", name := "edited", desc := "(LWideMap$Token;)LWideMap$Node;" } : Jvm.MethodName)) ∈ lw_all := lw_g (lw_at lw_m4 199 rfl) rfl
theorem q1050 : (Jvm.Cond.interfaceEntry "WideMap$Inner" (34 : Nat)) ∈ lw_tbl := lw_at lw_m4 200 rfl
theorem q1051 : (Jvm.Cond.methodLink "WideMap$Inner" (34 : Nat) ({ cls := "WideMap$Node", name := "lays", desc := "(LWideMap$Token;III)LWideMap$Node;" } : Jvm.MethodName)) ∈ lw_all := lw_g (lw_at lw_m4 201 rfl) rfl
theorem q1066 : (Jvm.Cond.methodLink "WideMap$Inner" (38 : Nat) ({ cls := "WideMap$Inner", name := "makeRoom", desc := "(I)V" } : Jvm.MethodName)) ∈ lw_all := lw_g (lw_at lw_m4 216 rfl) rfl
theorem q1067 : (Jvm.Cond.privateMethod ({ cls := "WideMap$Inner", name := "makeRoom", desc := "(I)V" } : Jvm.MethodName)) ∈ lw_tbl := lw_at lw_m4 217 rfl
theorem q1068 : (Jvm.Cond.instanceMethod ({ cls := "WideMap$Inner", name := "makeRoom", desc := "(I)V" } : Jvm.MethodName)) ∈ lw_all := lw_g (lw_at lw_m4 218 rfl) rfl
theorem q1069 : (Jvm.Cond.code ({ cls := "WideMap$Inner", name := "makeRoom", desc := "(I)V" } : Jvm.MethodName) prog_3_method_8_code (3 : Nat) (Option.none : Option Jvm.ClassFile.FieldType)) ∈ lw_all := lw_g (lw_at lw_m4 219 rfl) rfl
theorem q1070 : (Jvm.Cond.methodLink "WideMap$Inner" (42 : Nat) ({ cls := "WideMap$Token", name := "makes", desc := "()V" } : Jvm.MethodName)) ∈ lw_all := lw_g (lw_at lw_m4 220 rfl) rfl
theorem q1111 : (Jvm.Cond.unhidden "WideMap$Inner" "counts" "(IILWideMap$Token;)I") ∈ lw_tbl := lw_at lw_m5 21 rfl
theorem q1121 : (Jvm.Cond.selects "WideMap$Inner" ({ cls := "WideMap$Node", name := "isStamped", desc := "(I)Z" } : Jvm.MethodName) ({ cls := "WideMap$Marked", name := "isStamped", desc := "(I)Z" } : Jvm.MethodName)) ∈ lw_all := lw_g (lw_at lw_m5 31 rfl) rfl
theorem q1122 : (Jvm.Cond.unhidden "WideMap$Inner" "isStamped" "(I)Z") ∈ lw_tbl := lw_at lw_m5 32 rfl
theorem q1132 : (Jvm.Cond.selects "WideMap$Inner" ({ cls := "WideMap$Node", name := "stamp", desc := "(I)V" } : Jvm.MethodName) ({ cls := "WideMap$Marked", name := "stamp", desc := "(I)V" } : Jvm.MethodName)) ∈ lw_all := lw_g (lw_at lw_m5 42 rfl) rfl
theorem q1133 : (Jvm.Cond.unhidden "WideMap$Inner" "stamp" "(I)V") ∈ lw_tbl := lw_at lw_m5 43 rfl
theorem q1146 : (Jvm.Cond.unhidden "WideMap$Inner" "levels" "()I") ∈ lw_tbl := lw_at lw_m5 56 rfl
theorem q1195 : (Jvm.Cond.unhidden "WideMap$Inner" "hasIn" "(LWideMap$Node;)Z") ∈ lw_tbl := lw_at lw_m5 105 rfl
theorem q1228 : (Jvm.Cond.selects "WideMap$Inner" ({ cls := "WideMap$Node", name := "takes", desc := "(LWideMap$Token;II)V" } : Jvm.MethodName) ({ cls := "WideMap$Inner", name := "takes", desc := "(LWideMap$Token;II)V" } : Jvm.MethodName)) ∈ lw_all := lw_g (lw_at lw_m5 138 rfl) rfl
theorem q1229 : (Jvm.Cond.unhidden "WideMap$Inner" "takes" "(LWideMap$Token;II)V") ∈ lw_tbl := lw_at lw_m5 139 rfl
theorem q1230 : (Jvm.Cond.instanceMethod ({ cls := "WideMap$Inner", name := "takes", desc := "(LWideMap$Token;II)V" } : Jvm.MethodName)) ∈ lw_all := lw_g (lw_at lw_m5 140 rfl) rfl
theorem q1231 : (Jvm.Cond.publicMethod ({ cls := "WideMap$Inner", name := "takes", desc := "(LWideMap$Token;II)V" } : Jvm.MethodName)) ∈ lw_tbl := lw_at lw_m5 141 rfl
theorem q1232 : (Jvm.Cond.code ({ cls := "WideMap$Inner", name := "takes", desc := "(LWideMap$Token;II)V" } : Jvm.MethodName) prog_3_method_11_code (5 : Nat) (Option.none : Option Jvm.ClassFile.FieldType)) ∈ lw_all := lw_g (lw_at lw_m5 142 rfl) rfl
theorem q1233 : (Jvm.Cond.interfaceEntry "WideMap$Inner" (48 : Nat)) ∈ lw_tbl := lw_at lw_m5 143 rfl
theorem q1234 : (Jvm.Cond.methodLink "WideMap$Inner" (48 : Nat) ({ cls := "WideMap$Node", name := "takes", desc := "(LWideMap$Token;II)V" } : Jvm.MethodName)) ∈ lw_all := lw_g (lw_at lw_m5 144 rfl) rfl
theorem q1244 : (Jvm.Cond.interfaceEntry "WideMap$Inner" (52 : Nat)) ∈ lw_tbl := lw_at lw_m5 154 rfl
theorem q1245 : (Jvm.Cond.methodLink "WideMap$Inner" (52 : Nat) ({ cls := "WideMap$Node", name := "many", desc := "()I" } : Jvm.MethodName)) ∈ lw_all := lw_g (lw_at lw_m5 155 rfl) rfl
theorem q1246 : (Jvm.Cond.methodLink "WideMap$Inner" (55 : Nat) ({ cls := "WideMap$Inner", name := "mend", desc := "(LWideMap$Token;II)V" } : Jvm.MethodName)) ∈ lw_all := lw_g (lw_at lw_m5 156 rfl) rfl
theorem q1247 : (Jvm.Cond.privateMethod ({ cls := "WideMap$Inner", name := "mend", desc := "(LWideMap$Token;II)V" } : Jvm.MethodName)) ∈ lw_tbl := lw_at lw_m5 157 rfl
theorem q1248 : (Jvm.Cond.instanceMethod ({ cls := "WideMap$Inner", name := "mend", desc := "(LWideMap$Token;II)V" } : Jvm.MethodName)) ∈ lw_all := lw_g (lw_at lw_m5 158 rfl) rfl
theorem q1249 : (Jvm.Cond.code ({ cls := "WideMap$Inner", name := "mend", desc := "(LWideMap$Token;II)V" } : Jvm.MethodName) prog_3_method_12_code (4 : Nat) (Option.none : Option Jvm.ClassFile.FieldType)) ∈ lw_all := lw_g (lw_at lw_m5 159 rfl) rfl
theorem q1250 : (Jvm.Cond.interfaceEntry "WideMap$Inner" (58 : Nat)) ∈ lw_tbl := lw_at lw_m5 160 rfl
theorem q1251 : (Jvm.Cond.methodLink "WideMap$Inner" (58 : Nat) ({ cls := "WideMap$Node", name := "lastOf", desc := "(LWideMap$Node;)V" } : Jvm.MethodName)) ∈ lw_all := lw_g (lw_at lw_m5 161 rfl) rfl
theorem q1254 : (Jvm.Cond.selects "WideMap$Inner" ({ cls := "WideMap$Node", name := "lastOf", desc := "(LWideMap$Node;)V" } : Jvm.MethodName) ({ cls := "WideMap$Inner", name := "lastOf", desc := "(LWideMap$Node;)V" } : Jvm.MethodName)) ∈ lw_all := lw_g (lw_at lw_m5 164 rfl) rfl
theorem q1255 : (Jvm.Cond.unhidden "WideMap$Inner" "lastOf" "(LWideMap$Node;)V") ∈ lw_tbl := lw_at lw_m5 165 rfl
theorem q1256 : (Jvm.Cond.instanceMethod ({ cls := "WideMap$Inner", name := "lastOf", desc := "(LWideMap$Node;)V" } : Jvm.MethodName)) ∈ lw_all := lw_g (lw_at lw_m5 166 rfl) rfl
theorem q1257 : (Jvm.Cond.publicMethod ({ cls := "WideMap$Inner", name := "lastOf", desc := "(LWideMap$Node;)V" } : Jvm.MethodName)) ∈ lw_tbl := lw_at lw_m5 167 rfl
theorem q1258 : (Jvm.Cond.code ({ cls := "WideMap$Inner", name := "lastOf", desc := "(LWideMap$Node;)V" } : Jvm.MethodName) prog_3_method_13_code (3 : Nat) (Option.none : Option Jvm.ClassFile.FieldType)) ∈ lw_all := lw_g (lw_at lw_m5 168 rfl) rfl
theorem q1259 : (Jvm.Cond.methodLink "WideMap$Inner" (68 : Nat) ({ cls := "WideMap$Inner", name := "close", desc := "(I)V" } : Jvm.MethodName)) ∈ lw_all := lw_g (lw_at lw_m5 169 rfl) rfl
theorem q1260 : (Jvm.Cond.privateMethod ({ cls := "WideMap$Inner", name := "close", desc := "(I)V" } : Jvm.MethodName)) ∈ lw_tbl := lw_at lw_m5 170 rfl
theorem q1261 : (Jvm.Cond.instanceMethod ({ cls := "WideMap$Inner", name := "close", desc := "(I)V" } : Jvm.MethodName)) ∈ lw_all := lw_g (lw_at lw_m5 171 rfl) rfl
theorem q1262 : (Jvm.Cond.code ({ cls := "WideMap$Inner", name := "close", desc := "(I)V" } : Jvm.MethodName) prog_3_method_9_code (3 : Nat) (Option.none : Option Jvm.ClassFile.FieldType)) ∈ lw_all := lw_g (lw_at lw_m5 172 rfl) rfl
theorem q1268 : (Jvm.Cond.interfaceEntry "WideMap$Inner" (62 : Nat)) ∈ lw_tbl := lw_at lw_m5 178 rfl
theorem q1269 : (Jvm.Cond.methodLink "WideMap$Inner" (62 : Nat) ({ cls := "WideMap$Node", name := "firstOf", desc := "(LWideMap$Node;)V" } : Jvm.MethodName)) ∈ lw_all := lw_g (lw_at lw_m5 179 rfl) rfl
theorem q1272 : (Jvm.Cond.selects "WideMap$Inner" ({ cls := "WideMap$Node", name := "firstOf", desc := "(LWideMap$Node;)V" } : Jvm.MethodName) ({ cls := "WideMap$Inner", name := "firstOf", desc := "(LWideMap$Node;)V" } : Jvm.MethodName)) ∈ lw_all := lw_g (lw_at lw_m5 182 rfl) rfl
theorem q1273 : (Jvm.Cond.unhidden "WideMap$Inner" "firstOf" "(LWideMap$Node;)V") ∈ lw_tbl := lw_at lw_m5 183 rfl
theorem q1274 : (Jvm.Cond.instanceMethod ({ cls := "WideMap$Inner", name := "firstOf", desc := "(LWideMap$Node;)V" } : Jvm.MethodName)) ∈ lw_all := lw_g (lw_at lw_m5 184 rfl) rfl
theorem q1275 : (Jvm.Cond.publicMethod ({ cls := "WideMap$Inner", name := "firstOf", desc := "(LWideMap$Node;)V" } : Jvm.MethodName)) ∈ lw_tbl := lw_at lw_m5 185 rfl
theorem q1276 : (Jvm.Cond.code ({ cls := "WideMap$Inner", name := "firstOf", desc := "(LWideMap$Node;)V" } : Jvm.MethodName) prog_3_method_14_code (3 : Nat) (Option.none : Option Jvm.ClassFile.FieldType)) ∈ lw_all := lw_g (lw_at lw_m5 186 rfl) rfl
theorem q1282 : (Jvm.Cond.interfaceEntry "WideMap$Inner" (65 : Nat)) ∈ lw_tbl := lw_at lw_m5 192 rfl
theorem q1283 : (Jvm.Cond.methodLink "WideMap$Inner" (65 : Nat) ({ cls := "WideMap$Node", name := "allOf", desc := "(LWideMap$Node;)V" } : Jvm.MethodName)) ∈ lw_all := lw_g (lw_at lw_m5 193 rfl) rfl
theorem q1286 : (Jvm.Cond.selects "WideMap$Inner" ({ cls := "WideMap$Node", name := "allOf", desc := "(LWideMap$Node;)V" } : Jvm.MethodName) ({ cls := "WideMap$Inner", name := "allOf", desc := "(LWideMap$Node;)V" } : Jvm.MethodName)) ∈ lw_all := lw_g (lw_at lw_m5 196 rfl) rfl
theorem q1287 : (Jvm.Cond.unhidden "WideMap$Inner" "allOf" "(LWideMap$Node;)V") ∈ lw_tbl := lw_at lw_m5 197 rfl
theorem q1288 : (Jvm.Cond.instanceMethod ({ cls := "WideMap$Inner", name := "allOf", desc := "(LWideMap$Node;)V" } : Jvm.MethodName)) ∈ lw_all := lw_g (lw_at lw_m5 198 rfl) rfl
theorem q1289 : (Jvm.Cond.publicMethod ({ cls := "WideMap$Inner", name := "allOf", desc := "(LWideMap$Node;)V" } : Jvm.MethodName)) ∈ lw_tbl := lw_at lw_m5 199 rfl
theorem q1290 : (Jvm.Cond.code ({ cls := "WideMap$Inner", name := "allOf", desc := "(LWideMap$Node;)V" } : Jvm.MethodName) prog_3_method_15_code (3 : Nat) (Option.none : Option Jvm.ClassFile.FieldType)) ∈ lw_all := lw_g (lw_at lw_m5 200 rfl) rfl
theorem q1291 : (Jvm.Cond.interfaceEntry "WideMap$Inner" (71 : Nat)) ∈ lw_tbl := lw_at lw_m5 201 rfl
theorem q1292 : (Jvm.Cond.methodLink "WideMap$Inner" (71 : Nat) ({ cls := "WideMap$Node", name := "kid", desc := "(I)LWideMap$Node;" } : Jvm.MethodName)) ∈ lw_all := lw_g (lw_at lw_m5 202 rfl) rfl
theorem q1499 : (Jvm.Cond.selects "WideMap$Inner" ({ cls := "WideMap$Node", name := "shows", desc := "(Ljava/lang/StringBuilder;)V" } : Jvm.MethodName) ({ cls := "WideMap$Inner", name := "shows", desc := "(Ljava/lang/StringBuilder;)V" } : Jvm.MethodName)) ∈ lw_all := lw_g (lw_at lw_m6 169 rfl) rfl
theorem q1500 : (Jvm.Cond.unhidden "WideMap$Inner" "shows" "(Ljava/lang/StringBuilder;)V") ∈ lw_tbl := lw_at lw_m6 170 rfl
theorem q1501 : (Jvm.Cond.instanceMethod ({ cls := "WideMap$Inner", name := "shows", desc := "(Ljava/lang/StringBuilder;)V" } : Jvm.MethodName)) ∈ lw_all := lw_g (lw_at lw_m6 171 rfl) rfl
theorem q1502 : (Jvm.Cond.publicMethod ({ cls := "WideMap$Inner", name := "shows", desc := "(Ljava/lang/StringBuilder;)V" } : Jvm.MethodName)) ∈ lw_tbl := lw_at lw_m6 172 rfl
theorem q1503 : (Jvm.Cond.code ({ cls := "WideMap$Inner", name := "shows", desc := "(Ljava/lang/StringBuilder;)V" } : Jvm.MethodName) prog_3_method_16_code (3 : Nat) (Option.none : Option Jvm.ClassFile.FieldType)) ∈ lw_all := lw_g (lw_at lw_m6 173 rfl) rfl
theorem q1504 : (Jvm.Cond.methodLink "WideMap$Inner" (75 : Nat) ({ cls := "java/lang/StringBuilder", name := "append", desc := "(C)Ljava/lang/StringBuilder;" } : Jvm.MethodName)) ∈ lw_all := lw_g (lw_at lw_m6 174 rfl) rfl
theorem q1505 : (Jvm.Cond.interfaceEntry "WideMap$Inner" (81 : Nat)) ∈ lw_tbl := lw_at lw_m6 175 rfl
theorem q1506 : (Jvm.Cond.methodLink "WideMap$Inner" (81 : Nat) ({ cls := "WideMap$Node", name := "shows", desc := "(Ljava/lang/StringBuilder;)V" } : Jvm.MethodName)) ∈ lw_all := lw_g (lw_at lw_m6 176 rfl) rfl
theorem q2398 : (Jvm.Cond.castable "WideMap$Inner" "java/lang/Object") ∈ lw_tbl := lw_at lw_m10 108 rfl
theorem in_X8 : ∀ w ∈ wsX80, w ∈ lw_all := lw_in wsX80 [1023, 1024, 1025, 1021] (by decide +kernel) (by decide +kernel)
