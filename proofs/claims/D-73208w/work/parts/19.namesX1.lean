/-! WideMap -/
set_option maxRecDepth 100000
def RX1 : String := "WideMap"
def TX1 : u_T := fun k => match k with
  | 0 => ("WideMap", "words", "[Ljava/lang/String;", true)
  | 1 => ("WideMap", "fault", "LWideMap$Fault;", true)
  | 2 => ("WideMap", "tape", "[B", true)
  | 3 => ("WideMap", "taped", "I", false)
  | 4 => ("WideMap", "place", "I", false)
  | 5 => ("WideMap", "programs", "[I", true)
  | 6 => ("WideMap", "programLong", "[I", true)
  | 7 => ("WideMap", "programMany", "I", false)
  | 8 => ("WideMap", "entries", "[I", true)
  | 9 => ("WideMap", "entryMany", "I", false)
  | 10 => ("WideMap", "numbers", "[I", true)
  | 11 => ("WideMap", "imageNumbers", "[I", true)
  | 12 => ("WideMap", "roots", "[LWideMap$Node;", true)
  | 13 => ("WideMap", "imageRoots", "[LWideMap$Node;", true)
  | 14 => ("WideMap", "heldMany", "I", false)
  | 15 => ("WideMap", "given", "I", false)
  | 16 => ("WideMap", "made", "I", false)
  | 17 => ("WideMap", "width", "I", false)
  | 18 => ("WideMap", "least", "I", false)
  | 19 => ("WideMap", "imageMany", "I", false)
  | 20 => ("WideMap", "stamps", "I", false)
  | 21 => ("WideMap", "fromOne", "[I", true)
  | 22 => ("WideMap", "fromOther", "[I", true)
  | 23 => ("WideMap", "refused", "[I", true)
  | 24 => ("WideMap", "builders", "[LWideMap$Node;", true)
  | 25 => ("WideMap", "tokens", "[LWideMap$Token;", true)
  | 26 => ("WideMap", "built", "[I", true)
  | 27 => ("WideMap", "workRoot", "LWideMap$Node;", false)
  | 28 => ("WideMap", "workToken", "LWideMap$Token;", false)
  | 29 => ("WideMap", "flatKeys", "[I", true)
  | 30 => ("WideMap", "flatValues", "[I", true)
  | 31 => ("WideMap", "flatMany", "I", false)
  | 32 => ("WideMap", "seekLeft", "I", false)
  | 33 => ("WideMap", "seekDeep", "I", false)
  | 34 => ("WideMap", "drawn", "J", false)
  | 35 => ("WideMap", "isAbove", "[Z", true)
  | 36 => ("WideMap", "isAboveOther", "[Z", true)
  | _ => ("WideMap", "shownLatest", "Ljava/lang/CharSequence;", false)
def tyX1 : Nat → FieldType := fun k => match k with
  | 0 => .array (.object "java/lang/String")
  | 1 => .object "WideMap$Fault"
  | 2 => .array .byte
  | 3 => .int
  | 4 => .int
  | 5 => .array .int
  | 6 => .array .int
  | 7 => .int
  | 8 => .array .int
  | 9 => .int
  | 10 => .array .int
  | 11 => .array .int
  | 12 => .array (.object "WideMap$Node")
  | 13 => .array (.object "WideMap$Node")
  | 14 => .int
  | 15 => .int
  | 16 => .int
  | 17 => .int
  | 18 => .int
  | 19 => .int
  | 20 => .int
  | 21 => .array .int
  | 22 => .array .int
  | 23 => .array .int
  | 24 => .array (.object "WideMap$Node")
  | 25 => .array (.object "WideMap$Token")
  | 26 => .array .int
  | 27 => .object "WideMap$Node"
  | 28 => .object "WideMap$Token"
  | 29 => .array .int
  | 30 => .array .int
  | 31 => .int
  | 32 => .int
  | 33 => .int
  | 34 => .long
  | 35 => .array .boolean
  | 36 => .array .boolean
  | _ => .object "java/lang/CharSequence"
abbrev wsX10 : List Cond := u_ws RX1 TX1 38
set_option maxRecDepth 100000 in
theorem nmX1 : ∀ a, a < 38 → ∀ b, b < 38 → a ≠ b → (TX1 a).2.1 ≠ (TX1 b).2.1 := by decide +kernel
set_option maxRecDepth 100000 in
theorem tyX1_ok : ∀ k, k < 38 → parseFieldDescriptor (TX1 k).2.2.1 = some (tyX1 k) := by decide +kernel
abbrev cX1_init : ByteArray := prog_1_method_3_code
def yX1_init : MethodName := ⟨RX1, "<init>", "()V"⟩
def dkwX1_init_9 : List UInt8 := [181, 0, 112, 42, 7, 182, 0, 116, 177]
abbrev dktX1_init_9 : List UInt8 := dkwX1_init_9 ++ []
def dkwX1_init_8 : List UInt8 := [181, 0, 100, 42, 17, 3, 231, 188, 4, 181, 0, 103, 42, 17, 3, 231, 188, 4, 181, 0, 107, 42, 18, 110]
abbrev dktX1_init_8 : List UInt8 := dkwX1_init_8 ++ dktX1_init_9
def dkwX1_init_7 : List UInt8 := [181, 0, 90, 42, 7, 188, 10, 181, 0, 94, 42, 16, 120, 188, 10, 181, 0, 97, 42, 16, 120, 188, 10]
abbrev dktX1_init_7 : List UInt8 := dkwX1_init_7 ++ dktX1_init_8
def dkwX1_init_6 : List UInt8 := [181, 0, 79, 42, 8, 188, 10, 181, 0, 82, 42, 7, 189, 0, 63, 181, 0, 85, 42, 7, 189, 0, 88]
abbrev dktX1_init_6 : List UInt8 := dkwX1_init_6 ++ dktX1_init_7
def dkwX1_init_5 : List UInt8 := [181, 0, 69, 42, 2, 181, 0, 72, 42, 17, 3, 231, 188, 10, 181, 0, 76, 42, 17, 3, 231, 188, 10]
abbrev dktX1_init_5 : List UInt8 := dkwX1_init_5 ++ dktX1_init_6
def dkwX1_init_4 : List UInt8 := [42, 16, 16, 188, 10, 181, 0, 60, 42, 16, 16, 189, 0, 63, 181, 0, 65, 42, 16, 16, 189, 0, 63]
abbrev dktX1_init_4 : List UInt8 := dkwX1_init_4 ++ dktX1_init_5
def dkwX1_init_3 : List UInt8 := [42, 8, 188, 10, 181, 0, 51, 42, 17, 1, 224, 188, 10, 181, 0, 54, 42, 16, 16, 188, 10, 181, 0, 57]
abbrev dktX1_init_3 : List UInt8 := dkwX1_init_3 ++ dktX1_init_4
def dkwX1_init_2 : List UInt8 := [183, 0, 38, 181, 0, 39, 42, 17, 0, 240, 188, 8, 181, 0, 43, 42, 17, 1, 64, 188, 10, 181, 0, 47]
abbrev dktX1_init_2 : List UInt8 := dkwX1_init_2 ++ dktX1_init_3
def dkwX1_init_1 : List UInt8 := [83, 89, 6, 18, 26, 83, 89, 7, 18, 28, 83, 89, 8, 18, 30, 83, 181, 0, 32, 42, 187, 0, 36, 89]
abbrev dktX1_init_1 : List UInt8 := dkwX1_init_1 ++ dktX1_init_2
def dkwX1_init_0 : List UInt8 := [42, 183, 0, 12, 42, 16, 6, 189, 0, 18, 89, 3, 18, 20, 83, 89, 4, 18, 22, 83, 89, 5, 18, 24]
abbrev dktX1_init_0 : List UInt8 := dkwX1_init_0 ++ dktX1_init_1
theorem dksX1_init_0 : cX1_init.data.toList.drop 0 = dktX1_init_0 := by decide +kernel
theorem dksX1_init_1 : cX1_init.data.toList.drop 24 = dktX1_init_1 := dk_seg dksX1_init_0 24 rfl rfl
theorem dksX1_init_2 : cX1_init.data.toList.drop 48 = dktX1_init_2 := dk_seg dksX1_init_1 24 rfl rfl
theorem dksX1_init_3 : cX1_init.data.toList.drop 72 = dktX1_init_3 := dk_seg dksX1_init_2 24 rfl rfl
theorem dksX1_init_4 : cX1_init.data.toList.drop 96 = dktX1_init_4 := dk_seg dksX1_init_3 24 rfl rfl
theorem dksX1_init_5 : cX1_init.data.toList.drop 119 = dktX1_init_5 := dk_seg dksX1_init_4 23 rfl rfl
theorem dksX1_init_6 : cX1_init.data.toList.drop 142 = dktX1_init_6 := dk_seg dksX1_init_5 23 rfl rfl
theorem dksX1_init_7 : cX1_init.data.toList.drop 165 = dktX1_init_7 := dk_seg dksX1_init_6 23 rfl rfl
theorem dksX1_init_8 : cX1_init.data.toList.drop 188 = dktX1_init_8 := dk_seg dksX1_init_7 23 rfl rfl
theorem dksX1_init_9 : cX1_init.data.toList.drop 212 = dktX1_init_9 := dk_seg dksX1_init_8 24 rfl rfl
theorem dX1_init_0 : decode cX1_init 0 = .ok (.aload_n 0, 1) := dk_42 (dk_at dksX1_init_0 0 rfl rfl)
theorem dX1_init_1 : decode cX1_init 1 = .ok (.invokespecial 12, 3) := dk_183 0 12 (dk_at dksX1_init_0 1 rfl rfl)
theorem dX1_init_4 : decode cX1_init 4 = .ok (.aload_n 0, 1) := dk_42 (dk_at dksX1_init_0 4 rfl rfl)
theorem dX1_init_5 : decode cX1_init 5 = .ok (.bipush 6, 2) := dk_16 6 (dk_at dksX1_init_0 5 rfl rfl)
theorem dX1_init_7 : decode cX1_init 7 = .ok (.anewarray 18, 3) := dk_189 0 18 (dk_at dksX1_init_0 7 rfl rfl)
theorem dX1_init_10 : decode cX1_init 10 = .ok (.dup, 1) := dk_89 (dk_at dksX1_init_0 10 rfl rfl)
theorem dX1_init_11 : decode cX1_init 11 = .ok (.iconst 0, 1) := dk_3 (dk_at dksX1_init_0 11 rfl rfl)
theorem dX1_init_12 : decode cX1_init 12 = .ok (.ldc 20, 2) := dk_18 20 (dk_at dksX1_init_0 12 rfl rfl)
theorem dX1_init_14 : decode cX1_init 14 = .ok (.aastore, 1) := dk_83 (dk_at dksX1_init_0 14 rfl rfl)
theorem dX1_init_15 : decode cX1_init 15 = .ok (.dup, 1) := dk_89 (dk_at dksX1_init_0 15 rfl rfl)
theorem dX1_init_16 : decode cX1_init 16 = .ok (.iconst 1, 1) := dk_4 (dk_at dksX1_init_0 16 rfl rfl)
theorem dX1_init_17 : decode cX1_init 17 = .ok (.ldc 22, 2) := dk_18 22 (dk_at dksX1_init_0 17 rfl rfl)
theorem dX1_init_19 : decode cX1_init 19 = .ok (.aastore, 1) := dk_83 (dk_at dksX1_init_0 19 rfl rfl)
theorem dX1_init_20 : decode cX1_init 20 = .ok (.dup, 1) := dk_89 (dk_at dksX1_init_0 20 rfl rfl)
theorem dX1_init_21 : decode cX1_init 21 = .ok (.iconst 2, 1) := dk_5 (dk_at dksX1_init_0 21 rfl rfl)
theorem dX1_init_22 : decode cX1_init 22 = .ok (.ldc 24, 2) := dk_18 24 (dk_at dksX1_init_0 22 rfl rfl)
theorem dX1_init_24 : decode cX1_init 24 = .ok (.aastore, 1) := dk_83 (dk_at dksX1_init_1 0 rfl rfl)
theorem dX1_init_25 : decode cX1_init 25 = .ok (.dup, 1) := dk_89 (dk_at dksX1_init_1 1 rfl rfl)
theorem dX1_init_26 : decode cX1_init 26 = .ok (.iconst 3, 1) := dk_6 (dk_at dksX1_init_1 2 rfl rfl)
theorem dX1_init_27 : decode cX1_init 27 = .ok (.ldc 26, 2) := dk_18 26 (dk_at dksX1_init_1 3 rfl rfl)
theorem dX1_init_29 : decode cX1_init 29 = .ok (.aastore, 1) := dk_83 (dk_at dksX1_init_1 5 rfl rfl)
theorem dX1_init_30 : decode cX1_init 30 = .ok (.dup, 1) := dk_89 (dk_at dksX1_init_1 6 rfl rfl)
theorem dX1_init_31 : decode cX1_init 31 = .ok (.iconst 4, 1) := dk_7 (dk_at dksX1_init_1 7 rfl rfl)
theorem dX1_init_32 : decode cX1_init 32 = .ok (.ldc 28, 2) := dk_18 28 (dk_at dksX1_init_1 8 rfl rfl)
theorem dX1_init_34 : decode cX1_init 34 = .ok (.aastore, 1) := dk_83 (dk_at dksX1_init_1 10 rfl rfl)
theorem dX1_init_35 : decode cX1_init 35 = .ok (.dup, 1) := dk_89 (dk_at dksX1_init_1 11 rfl rfl)
theorem dX1_init_36 : decode cX1_init 36 = .ok (.iconst 5, 1) := dk_8 (dk_at dksX1_init_1 12 rfl rfl)
theorem dX1_init_37 : decode cX1_init 37 = .ok (.ldc 30, 2) := dk_18 30 (dk_at dksX1_init_1 13 rfl rfl)
theorem dX1_init_39 : decode cX1_init 39 = .ok (.aastore, 1) := dk_83 (dk_at dksX1_init_1 15 rfl rfl)
theorem dX1_init_40 : decode cX1_init 40 = .ok (.putfield 32, 3) := dk_181 0 32 (dk_at dksX1_init_1 16 rfl rfl)
theorem dX1_init_43 : decode cX1_init 43 = .ok (.aload_n 0, 1) := dk_42 (dk_at dksX1_init_1 19 rfl rfl)
theorem dX1_init_44 : decode cX1_init 44 = .ok (.new 36, 3) := dk_187 0 36 (dk_at dksX1_init_1 20 rfl rfl)
theorem dX1_init_47 : decode cX1_init 47 = .ok (.dup, 1) := dk_89 (dk_at dksX1_init_1 23 rfl rfl)
theorem dX1_init_48 : decode cX1_init 48 = .ok (.invokespecial 38, 3) := dk_183 0 38 (dk_at dksX1_init_2 0 rfl rfl)
theorem dX1_init_51 : decode cX1_init 51 = .ok (.putfield 39, 3) := dk_181 0 39 (dk_at dksX1_init_2 3 rfl rfl)
theorem dX1_init_54 : decode cX1_init 54 = .ok (.aload_n 0, 1) := dk_42 (dk_at dksX1_init_2 6 rfl rfl)
theorem dX1_init_55 : decode cX1_init 55 = .ok (.sipush 240, 3) := dk_17 0 240 (dk_at dksX1_init_2 7 rfl rfl)
theorem dX1_init_58 : decode cX1_init 58 = .ok (.newarray .byte, 2) := dk_188_8 (dk_at dksX1_init_2 10 rfl rfl)
theorem dX1_init_60 : decode cX1_init 60 = .ok (.putfield 43, 3) := dk_181 0 43 (dk_at dksX1_init_2 12 rfl rfl)
theorem dX1_init_63 : decode cX1_init 63 = .ok (.aload_n 0, 1) := dk_42 (dk_at dksX1_init_2 15 rfl rfl)
theorem dX1_init_64 : decode cX1_init 64 = .ok (.sipush 320, 3) := dk_17 1 64 (dk_at dksX1_init_2 16 rfl rfl)
theorem dX1_init_67 : decode cX1_init 67 = .ok (.newarray .int, 2) := dk_188_10 (dk_at dksX1_init_2 19 rfl rfl)
theorem dX1_init_69 : decode cX1_init 69 = .ok (.putfield 47, 3) := dk_181 0 47 (dk_at dksX1_init_2 21 rfl rfl)
theorem dX1_init_72 : decode cX1_init 72 = .ok (.aload_n 0, 1) := dk_42 (dk_at dksX1_init_3 0 rfl rfl)
theorem dX1_init_73 : decode cX1_init 73 = .ok (.iconst 5, 1) := dk_8 (dk_at dksX1_init_3 1 rfl rfl)
theorem dX1_init_74 : decode cX1_init 74 = .ok (.newarray .int, 2) := dk_188_10 (dk_at dksX1_init_3 2 rfl rfl)
theorem dX1_init_76 : decode cX1_init 76 = .ok (.putfield 51, 3) := dk_181 0 51 (dk_at dksX1_init_3 4 rfl rfl)
theorem dX1_init_79 : decode cX1_init 79 = .ok (.aload_n 0, 1) := dk_42 (dk_at dksX1_init_3 7 rfl rfl)
theorem dX1_init_80 : decode cX1_init 80 = .ok (.sipush 480, 3) := dk_17 1 224 (dk_at dksX1_init_3 8 rfl rfl)
theorem dX1_init_83 : decode cX1_init 83 = .ok (.newarray .int, 2) := dk_188_10 (dk_at dksX1_init_3 11 rfl rfl)
theorem dX1_init_85 : decode cX1_init 85 = .ok (.putfield 54, 3) := dk_181 0 54 (dk_at dksX1_init_3 13 rfl rfl)
theorem dX1_init_88 : decode cX1_init 88 = .ok (.aload_n 0, 1) := dk_42 (dk_at dksX1_init_3 16 rfl rfl)
theorem dX1_init_89 : decode cX1_init 89 = .ok (.bipush 16, 2) := dk_16 16 (dk_at dksX1_init_3 17 rfl rfl)
theorem dX1_init_91 : decode cX1_init 91 = .ok (.newarray .int, 2) := dk_188_10 (dk_at dksX1_init_3 19 rfl rfl)
theorem dX1_init_93 : decode cX1_init 93 = .ok (.putfield 57, 3) := dk_181 0 57 (dk_at dksX1_init_3 21 rfl rfl)
theorem dX1_init_96 : decode cX1_init 96 = .ok (.aload_n 0, 1) := dk_42 (dk_at dksX1_init_4 0 rfl rfl)
theorem dX1_init_97 : decode cX1_init 97 = .ok (.bipush 16, 2) := dk_16 16 (dk_at dksX1_init_4 1 rfl rfl)
theorem dX1_init_99 : decode cX1_init 99 = .ok (.newarray .int, 2) := dk_188_10 (dk_at dksX1_init_4 3 rfl rfl)
theorem dX1_init_101 : decode cX1_init 101 = .ok (.putfield 60, 3) := dk_181 0 60 (dk_at dksX1_init_4 5 rfl rfl)
theorem dX1_init_104 : decode cX1_init 104 = .ok (.aload_n 0, 1) := dk_42 (dk_at dksX1_init_4 8 rfl rfl)
theorem dX1_init_105 : decode cX1_init 105 = .ok (.bipush 16, 2) := dk_16 16 (dk_at dksX1_init_4 9 rfl rfl)
theorem dX1_init_107 : decode cX1_init 107 = .ok (.anewarray 63, 3) := dk_189 0 63 (dk_at dksX1_init_4 11 rfl rfl)
theorem dX1_init_110 : decode cX1_init 110 = .ok (.putfield 65, 3) := dk_181 0 65 (dk_at dksX1_init_4 14 rfl rfl)
theorem dX1_init_113 : decode cX1_init 113 = .ok (.aload_n 0, 1) := dk_42 (dk_at dksX1_init_4 17 rfl rfl)
theorem dX1_init_114 : decode cX1_init 114 = .ok (.bipush 16, 2) := dk_16 16 (dk_at dksX1_init_4 18 rfl rfl)
theorem dX1_init_116 : decode cX1_init 116 = .ok (.anewarray 63, 3) := dk_189 0 63 (dk_at dksX1_init_4 20 rfl rfl)
theorem dX1_init_119 : decode cX1_init 119 = .ok (.putfield 69, 3) := dk_181 0 69 (dk_at dksX1_init_5 0 rfl rfl)
theorem dX1_init_122 : decode cX1_init 122 = .ok (.aload_n 0, 1) := dk_42 (dk_at dksX1_init_5 3 rfl rfl)
theorem dX1_init_123 : decode cX1_init 123 = .ok (.iconst (-1), 1) := dk_2 (dk_at dksX1_init_5 4 rfl rfl)
theorem dX1_init_124 : decode cX1_init 124 = .ok (.putfield 72, 3) := dk_181 0 72 (dk_at dksX1_init_5 5 rfl rfl)
theorem dX1_init_127 : decode cX1_init 127 = .ok (.aload_n 0, 1) := dk_42 (dk_at dksX1_init_5 8 rfl rfl)
theorem dX1_init_128 : decode cX1_init 128 = .ok (.sipush 999, 3) := dk_17 3 231 (dk_at dksX1_init_5 9 rfl rfl)
theorem dX1_init_131 : decode cX1_init 131 = .ok (.newarray .int, 2) := dk_188_10 (dk_at dksX1_init_5 12 rfl rfl)
theorem dX1_init_133 : decode cX1_init 133 = .ok (.putfield 76, 3) := dk_181 0 76 (dk_at dksX1_init_5 14 rfl rfl)
theorem dX1_init_136 : decode cX1_init 136 = .ok (.aload_n 0, 1) := dk_42 (dk_at dksX1_init_5 17 rfl rfl)
theorem dX1_init_137 : decode cX1_init 137 = .ok (.sipush 999, 3) := dk_17 3 231 (dk_at dksX1_init_5 18 rfl rfl)
theorem dX1_init_140 : decode cX1_init 140 = .ok (.newarray .int, 2) := dk_188_10 (dk_at dksX1_init_5 21 rfl rfl)
theorem dX1_init_142 : decode cX1_init 142 = .ok (.putfield 79, 3) := dk_181 0 79 (dk_at dksX1_init_6 0 rfl rfl)
theorem dX1_init_145 : decode cX1_init 145 = .ok (.aload_n 0, 1) := dk_42 (dk_at dksX1_init_6 3 rfl rfl)
theorem dX1_init_146 : decode cX1_init 146 = .ok (.iconst 5, 1) := dk_8 (dk_at dksX1_init_6 4 rfl rfl)
theorem dX1_init_147 : decode cX1_init 147 = .ok (.newarray .int, 2) := dk_188_10 (dk_at dksX1_init_6 5 rfl rfl)
theorem dX1_init_149 : decode cX1_init 149 = .ok (.putfield 82, 3) := dk_181 0 82 (dk_at dksX1_init_6 7 rfl rfl)
theorem dX1_init_152 : decode cX1_init 152 = .ok (.aload_n 0, 1) := dk_42 (dk_at dksX1_init_6 10 rfl rfl)
theorem dX1_init_153 : decode cX1_init 153 = .ok (.iconst 4, 1) := dk_7 (dk_at dksX1_init_6 11 rfl rfl)
theorem dX1_init_154 : decode cX1_init 154 = .ok (.anewarray 63, 3) := dk_189 0 63 (dk_at dksX1_init_6 12 rfl rfl)
theorem dX1_init_157 : decode cX1_init 157 = .ok (.putfield 85, 3) := dk_181 0 85 (dk_at dksX1_init_6 15 rfl rfl)
theorem dX1_init_160 : decode cX1_init 160 = .ok (.aload_n 0, 1) := dk_42 (dk_at dksX1_init_6 18 rfl rfl)
theorem dX1_init_161 : decode cX1_init 161 = .ok (.iconst 4, 1) := dk_7 (dk_at dksX1_init_6 19 rfl rfl)
theorem dX1_init_162 : decode cX1_init 162 = .ok (.anewarray 88, 3) := dk_189 0 88 (dk_at dksX1_init_6 20 rfl rfl)
theorem dX1_init_165 : decode cX1_init 165 = .ok (.putfield 90, 3) := dk_181 0 90 (dk_at dksX1_init_7 0 rfl rfl)
theorem dX1_init_168 : decode cX1_init 168 = .ok (.aload_n 0, 1) := dk_42 (dk_at dksX1_init_7 3 rfl rfl)
theorem dX1_init_169 : decode cX1_init 169 = .ok (.iconst 4, 1) := dk_7 (dk_at dksX1_init_7 4 rfl rfl)
theorem dX1_init_170 : decode cX1_init 170 = .ok (.newarray .int, 2) := dk_188_10 (dk_at dksX1_init_7 5 rfl rfl)
theorem dX1_init_172 : decode cX1_init 172 = .ok (.putfield 94, 3) := dk_181 0 94 (dk_at dksX1_init_7 7 rfl rfl)
theorem dX1_init_175 : decode cX1_init 175 = .ok (.aload_n 0, 1) := dk_42 (dk_at dksX1_init_7 10 rfl rfl)
theorem dX1_init_176 : decode cX1_init 176 = .ok (.bipush 120, 2) := dk_16 120 (dk_at dksX1_init_7 11 rfl rfl)
theorem dX1_init_178 : decode cX1_init 178 = .ok (.newarray .int, 2) := dk_188_10 (dk_at dksX1_init_7 13 rfl rfl)
theorem dX1_init_180 : decode cX1_init 180 = .ok (.putfield 97, 3) := dk_181 0 97 (dk_at dksX1_init_7 15 rfl rfl)
theorem dX1_init_183 : decode cX1_init 183 = .ok (.aload_n 0, 1) := dk_42 (dk_at dksX1_init_7 18 rfl rfl)
theorem dX1_init_184 : decode cX1_init 184 = .ok (.bipush 120, 2) := dk_16 120 (dk_at dksX1_init_7 19 rfl rfl)
theorem dX1_init_186 : decode cX1_init 186 = .ok (.newarray .int, 2) := dk_188_10 (dk_at dksX1_init_7 21 rfl rfl)
theorem dX1_init_188 : decode cX1_init 188 = .ok (.putfield 100, 3) := dk_181 0 100 (dk_at dksX1_init_8 0 rfl rfl)
theorem dX1_init_191 : decode cX1_init 191 = .ok (.aload_n 0, 1) := dk_42 (dk_at dksX1_init_8 3 rfl rfl)
theorem dX1_init_192 : decode cX1_init 192 = .ok (.sipush 999, 3) := dk_17 3 231 (dk_at dksX1_init_8 4 rfl rfl)
theorem dX1_init_195 : decode cX1_init 195 = .ok (.newarray .boolean, 2) := dk_188_4 (dk_at dksX1_init_8 7 rfl rfl)
theorem dX1_init_197 : decode cX1_init 197 = .ok (.putfield 103, 3) := dk_181 0 103 (dk_at dksX1_init_8 9 rfl rfl)
theorem dX1_init_200 : decode cX1_init 200 = .ok (.aload_n 0, 1) := dk_42 (dk_at dksX1_init_8 12 rfl rfl)
theorem dX1_init_201 : decode cX1_init 201 = .ok (.sipush 999, 3) := dk_17 3 231 (dk_at dksX1_init_8 13 rfl rfl)
theorem dX1_init_204 : decode cX1_init 204 = .ok (.newarray .boolean, 2) := dk_188_4 (dk_at dksX1_init_8 16 rfl rfl)
theorem dX1_init_206 : decode cX1_init 206 = .ok (.putfield 107, 3) := dk_181 0 107 (dk_at dksX1_init_8 18 rfl rfl)
theorem dX1_init_209 : decode cX1_init 209 = .ok (.aload_n 0, 1) := dk_42 (dk_at dksX1_init_8 21 rfl rfl)
theorem dX1_init_210 : decode cX1_init 210 = .ok (.ldc 110, 2) := dk_18 110 (dk_at dksX1_init_8 22 rfl rfl)
theorem dX1_init_212 : decode cX1_init 212 = .ok (.putfield 112, 3) := dk_181 0 112 (dk_at dksX1_init_9 0 rfl rfl)
theorem dX1_init_215 : decode cX1_init 215 = .ok (.aload_n 0, 1) := dk_42 (dk_at dksX1_init_9 3 rfl rfl)
theorem dX1_init_216 : decode cX1_init 216 = .ok (.iconst 4, 1) := dk_7 (dk_at dksX1_init_9 4 rfl rfl)
theorem dX1_init_217 : decode cX1_init 217 = .ok (.invokevirtual 116, 3) := dk_182 0 116 (dk_at dksX1_init_9 5 rfl rfl)
theorem dX1_init_220 : decode cX1_init 220 = .ok (.return_, 1) := dk_177 (dk_at dksX1_init_9 8 rfl rfl)
abbrev cX1_opens : ByteArray := prog_1_method_22_code
def yX1_opens : MethodName := ⟨RX1, "opens", "(I)V"⟩
def dkwX1_opens_3 : List UInt8 := [42, 2, 181, 0, 72, 3, 61, 28, 7, 162, 0, 14, 42, 28, 182, 0, 249, 132, 2, 1, 167, 255, 243, 177]
abbrev dktX1_opens_3 : List UInt8 := dkwX1_opens_3 ++ []
def dkwX1_opens_2 : List UInt8 := [28, 1, 83, 132, 2, 1, 167, 255, 240, 42, 3, 181, 0, 240, 42, 3, 181, 0, 243, 42, 3, 181, 0, 246]
abbrev dktX1_opens_2 : List UInt8 := dkwX1_opens_2 ++ dktX1_opens_3
def dkwX1_opens_1 : List UInt8 := [180, 0, 65, 28, 1, 83, 132, 2, 1, 167, 255, 240, 3, 61, 28, 16, 16, 162, 0, 16, 42, 180, 0, 69]
abbrev dktX1_opens_1 : List UInt8 := dkwX1_opens_1 ++ dktX1_opens_2
def dkwX1_opens_0 : List UInt8 := [42, 27, 181, 0, 234, 42, 27, 4, 96, 5, 108, 181, 0, 237, 3, 61, 28, 16, 16, 162, 0, 16, 42]
abbrev dktX1_opens_0 : List UInt8 := dkwX1_opens_0 ++ dktX1_opens_1
theorem dksX1_opens_0 : cX1_opens.data.toList.drop 0 = dktX1_opens_0 := by decide +kernel
theorem dksX1_opens_1 : cX1_opens.data.toList.drop 23 = dktX1_opens_1 := dk_seg dksX1_opens_0 23 rfl rfl
theorem dksX1_opens_2 : cX1_opens.data.toList.drop 47 = dktX1_opens_2 := dk_seg dksX1_opens_1 24 rfl rfl
theorem dksX1_opens_3 : cX1_opens.data.toList.drop 71 = dktX1_opens_3 := dk_seg dksX1_opens_2 24 rfl rfl
theorem dX1_opens_0 : decode cX1_opens 0 = .ok (.aload_n 0, 1) := dk_42 (dk_at dksX1_opens_0 0 rfl rfl)
theorem dX1_opens_1 : decode cX1_opens 1 = .ok (.iload_n 1, 1) := dk_27 (dk_at dksX1_opens_0 1 rfl rfl)
theorem dX1_opens_2 : decode cX1_opens 2 = .ok (.putfield 234, 3) := dk_181 0 234 (dk_at dksX1_opens_0 2 rfl rfl)
theorem dX1_opens_5 : decode cX1_opens 5 = .ok (.aload_n 0, 1) := dk_42 (dk_at dksX1_opens_0 5 rfl rfl)
theorem dX1_opens_6 : decode cX1_opens 6 = .ok (.iload_n 1, 1) := dk_27 (dk_at dksX1_opens_0 6 rfl rfl)
theorem dX1_opens_7 : decode cX1_opens 7 = .ok (.iconst 1, 1) := dk_4 (dk_at dksX1_opens_0 7 rfl rfl)
theorem dX1_opens_8 : decode cX1_opens 8 = .ok (.iadd, 1) := dk_96 (dk_at dksX1_opens_0 8 rfl rfl)
theorem dX1_opens_9 : decode cX1_opens 9 = .ok (.iconst 2, 1) := dk_5 (dk_at dksX1_opens_0 9 rfl rfl)
theorem dX1_opens_10 : decode cX1_opens 10 = .ok (.idiv, 1) := dk_108 (dk_at dksX1_opens_0 10 rfl rfl)
theorem dX1_opens_11 : decode cX1_opens 11 = .ok (.putfield 237, 3) := dk_181 0 237 (dk_at dksX1_opens_0 11 rfl rfl)
theorem dX1_opens_14 : decode cX1_opens 14 = .ok (.iconst 0, 1) := dk_3 (dk_at dksX1_opens_0 14 rfl rfl)
theorem dX1_opens_15 : decode cX1_opens 15 = .ok (.istore_n 2, 1) := dk_61 (dk_at dksX1_opens_0 15 rfl rfl)
theorem dX1_opens_16 : decode cX1_opens 16 = .ok (.iload_n 2, 1) := dk_28 (dk_at dksX1_opens_0 16 rfl rfl)
theorem dX1_opens_17 : decode cX1_opens 17 = .ok (.bipush 16, 2) := dk_16 16 (dk_at dksX1_opens_0 17 rfl rfl)
theorem dX1_opens_19 : decode cX1_opens 19 = .ok (.if_icmp .ge 16, 3) := dk_162 0 16 (dk_at dksX1_opens_0 19 rfl rfl)
theorem dX1_opens_22 : decode cX1_opens 22 = .ok (.aload_n 0, 1) := dk_42 (dk_at dksX1_opens_0 22 rfl rfl)
theorem dX1_opens_23 : decode cX1_opens 23 = .ok (.getfield 65, 3) := dk_180 0 65 (dk_at dksX1_opens_1 0 rfl rfl)
theorem dX1_opens_26 : decode cX1_opens 26 = .ok (.iload_n 2, 1) := dk_28 (dk_at dksX1_opens_1 3 rfl rfl)
theorem dX1_opens_27 : decode cX1_opens 27 = .ok (.aconst_null, 1) := dk_1 (dk_at dksX1_opens_1 4 rfl rfl)
theorem dX1_opens_28 : decode cX1_opens 28 = .ok (.aastore, 1) := dk_83 (dk_at dksX1_opens_1 5 rfl rfl)
theorem dX1_opens_29 : decode cX1_opens 29 = .ok (.iinc 2 1, 3) := dk_132 2 1 (dk_at dksX1_opens_1 6 rfl rfl)
theorem dX1_opens_32 : decode cX1_opens 32 = .ok (.goto (-16), 3) := dk_167 255 240 (dk_at dksX1_opens_1 9 rfl rfl)
theorem dX1_opens_35 : decode cX1_opens 35 = .ok (.iconst 0, 1) := dk_3 (dk_at dksX1_opens_1 12 rfl rfl)
theorem dX1_opens_36 : decode cX1_opens 36 = .ok (.istore_n 2, 1) := dk_61 (dk_at dksX1_opens_1 13 rfl rfl)
theorem dX1_opens_37 : decode cX1_opens 37 = .ok (.iload_n 2, 1) := dk_28 (dk_at dksX1_opens_1 14 rfl rfl)
theorem dX1_opens_38 : decode cX1_opens 38 = .ok (.bipush 16, 2) := dk_16 16 (dk_at dksX1_opens_1 15 rfl rfl)
theorem dX1_opens_40 : decode cX1_opens 40 = .ok (.if_icmp .ge 16, 3) := dk_162 0 16 (dk_at dksX1_opens_1 17 rfl rfl)
theorem dX1_opens_43 : decode cX1_opens 43 = .ok (.aload_n 0, 1) := dk_42 (dk_at dksX1_opens_1 20 rfl rfl)
theorem dX1_opens_44 : decode cX1_opens 44 = .ok (.getfield 69, 3) := dk_180 0 69 (dk_at dksX1_opens_1 21 rfl rfl)
theorem dX1_opens_47 : decode cX1_opens 47 = .ok (.iload_n 2, 1) := dk_28 (dk_at dksX1_opens_2 0 rfl rfl)
theorem dX1_opens_48 : decode cX1_opens 48 = .ok (.aconst_null, 1) := dk_1 (dk_at dksX1_opens_2 1 rfl rfl)
theorem dX1_opens_49 : decode cX1_opens 49 = .ok (.aastore, 1) := dk_83 (dk_at dksX1_opens_2 2 rfl rfl)
theorem dX1_opens_50 : decode cX1_opens 50 = .ok (.iinc 2 1, 3) := dk_132 2 1 (dk_at dksX1_opens_2 3 rfl rfl)
theorem dX1_opens_53 : decode cX1_opens 53 = .ok (.goto (-16), 3) := dk_167 255 240 (dk_at dksX1_opens_2 6 rfl rfl)
theorem dX1_opens_56 : decode cX1_opens 56 = .ok (.aload_n 0, 1) := dk_42 (dk_at dksX1_opens_2 9 rfl rfl)
theorem dX1_opens_57 : decode cX1_opens 57 = .ok (.iconst 0, 1) := dk_3 (dk_at dksX1_opens_2 10 rfl rfl)
theorem dX1_opens_58 : decode cX1_opens 58 = .ok (.putfield 240, 3) := dk_181 0 240 (dk_at dksX1_opens_2 11 rfl rfl)
theorem dX1_opens_61 : decode cX1_opens 61 = .ok (.aload_n 0, 1) := dk_42 (dk_at dksX1_opens_2 14 rfl rfl)
theorem dX1_opens_62 : decode cX1_opens 62 = .ok (.iconst 0, 1) := dk_3 (dk_at dksX1_opens_2 15 rfl rfl)
theorem dX1_opens_63 : decode cX1_opens 63 = .ok (.putfield 243, 3) := dk_181 0 243 (dk_at dksX1_opens_2 16 rfl rfl)
theorem dX1_opens_66 : decode cX1_opens 66 = .ok (.aload_n 0, 1) := dk_42 (dk_at dksX1_opens_2 19 rfl rfl)
theorem dX1_opens_67 : decode cX1_opens 67 = .ok (.iconst 0, 1) := dk_3 (dk_at dksX1_opens_2 20 rfl rfl)
theorem dX1_opens_68 : decode cX1_opens 68 = .ok (.putfield 246, 3) := dk_181 0 246 (dk_at dksX1_opens_2 21 rfl rfl)
theorem dX1_opens_71 : decode cX1_opens 71 = .ok (.aload_n 0, 1) := dk_42 (dk_at dksX1_opens_3 0 rfl rfl)
theorem dX1_opens_72 : decode cX1_opens 72 = .ok (.iconst (-1), 1) := dk_2 (dk_at dksX1_opens_3 1 rfl rfl)
theorem dX1_opens_73 : decode cX1_opens 73 = .ok (.putfield 72, 3) := dk_181 0 72 (dk_at dksX1_opens_3 2 rfl rfl)
theorem dX1_opens_76 : decode cX1_opens 76 = .ok (.iconst 0, 1) := dk_3 (dk_at dksX1_opens_3 5 rfl rfl)
theorem dX1_opens_77 : decode cX1_opens 77 = .ok (.istore_n 2, 1) := dk_61 (dk_at dksX1_opens_3 6 rfl rfl)
theorem dX1_opens_78 : decode cX1_opens 78 = .ok (.iload_n 2, 1) := dk_28 (dk_at dksX1_opens_3 7 rfl rfl)
theorem dX1_opens_79 : decode cX1_opens 79 = .ok (.iconst 4, 1) := dk_7 (dk_at dksX1_opens_3 8 rfl rfl)
theorem dX1_opens_80 : decode cX1_opens 80 = .ok (.if_icmp .ge 14, 3) := dk_162 0 14 (dk_at dksX1_opens_3 9 rfl rfl)
theorem dX1_opens_83 : decode cX1_opens 83 = .ok (.aload_n 0, 1) := dk_42 (dk_at dksX1_opens_3 12 rfl rfl)
theorem dX1_opens_84 : decode cX1_opens 84 = .ok (.iload_n 2, 1) := dk_28 (dk_at dksX1_opens_3 13 rfl rfl)
theorem dX1_opens_85 : decode cX1_opens 85 = .ok (.invokevirtual 249, 3) := dk_182 0 249 (dk_at dksX1_opens_3 14 rfl rfl)
theorem dX1_opens_88 : decode cX1_opens 88 = .ok (.iinc 2 1, 3) := dk_132 2 1 (dk_at dksX1_opens_3 17 rfl rfl)
theorem dX1_opens_91 : decode cX1_opens 91 = .ok (.goto (-13), 3) := dk_167 255 243 (dk_at dksX1_opens_3 20 rfl rfl)
theorem dX1_opens_94 : decode cX1_opens 94 = .ok (.return_, 1) := dk_177 (dk_at dksX1_opens_3 23 rfl rfl)
abbrev cX1_stales : ByteArray := prog_1_method_23_code
def yX1_stales : MethodName := ⟨RX1, "stales", "(I)V"⟩
def dkwX1_stales_0 : List UInt8 := [42, 180, 0, 85, 27, 1, 83, 42, 180, 0, 90, 27, 1, 83, 177]
abbrev dktX1_stales_0 : List UInt8 := dkwX1_stales_0 ++ []
theorem dksX1_stales_0 : cX1_stales.data.toList.drop 0 = dktX1_stales_0 := by decide +kernel
theorem dX1_stales_0 : decode cX1_stales 0 = .ok (.aload_n 0, 1) := dk_42 (dk_at dksX1_stales_0 0 rfl rfl)
theorem dX1_stales_1 : decode cX1_stales 1 = .ok (.getfield 85, 3) := dk_180 0 85 (dk_at dksX1_stales_0 1 rfl rfl)
theorem dX1_stales_4 : decode cX1_stales 4 = .ok (.iload_n 1, 1) := dk_27 (dk_at dksX1_stales_0 4 rfl rfl)
theorem dX1_stales_5 : decode cX1_stales 5 = .ok (.aconst_null, 1) := dk_1 (dk_at dksX1_stales_0 5 rfl rfl)
theorem dX1_stales_6 : decode cX1_stales 6 = .ok (.aastore, 1) := dk_83 (dk_at dksX1_stales_0 6 rfl rfl)
theorem dX1_stales_7 : decode cX1_stales 7 = .ok (.aload_n 0, 1) := dk_42 (dk_at dksX1_stales_0 7 rfl rfl)
theorem dX1_stales_8 : decode cX1_stales 8 = .ok (.getfield 90, 3) := dk_180 0 90 (dk_at dksX1_stales_0 8 rfl rfl)
theorem dX1_stales_11 : decode cX1_stales 11 = .ok (.iload_n 1, 1) := dk_27 (dk_at dksX1_stales_0 11 rfl rfl)
theorem dX1_stales_12 : decode cX1_stales 12 = .ok (.aconst_null, 1) := dk_1 (dk_at dksX1_stales_0 12 rfl rfl)
theorem dX1_stales_13 : decode cX1_stales 13 = .ok (.aastore, 1) := dk_83 (dk_at dksX1_stales_0 13 rfl rfl)
theorem dX1_stales_14 : decode cX1_stales 14 = .ok (.return_, 1) := dk_177 (dk_at dksX1_stales_0 14 rfl rfl)
abbrev cX1_feed : ByteArray := prog_1_method_5_code
def yX1_feed : MethodName := ⟨RX1, "feed", "(IIIII)I"⟩
def dkwX1_feed_4 : List UInt8 := [4, 96, 181, 0, 124, 21, 8, 145, 84, 132, 7, 1, 167, 255, 208, 42, 180, 0, 124, 172]
abbrev dktX1_feed_4 : List UInt8 := dkwX1_feed_4 ++ []
def dkwX1_feed_3 : List UInt8 := [21, 5, 21, 7, 184, 0, 120, 54, 8, 21, 8, 153, 0, 22, 42, 180, 0, 43, 42, 89, 180, 0, 124, 90]
abbrev dktX1_feed_3 : List UInt8 := dkwX1_feed_3 ++ dktX1_feed_4
def dkwX1_feed_2 : List UInt8 := [17, 0, 240, 164, 0, 5, 2, 172, 3, 54, 7, 21, 7, 16, 20, 162, 0, 47, 27, 28, 29, 21, 4]
abbrev dktX1_feed_2 : List UInt8 := dkwX1_feed_2 ++ dktX1_feed_3
def dkwX1_feed_1 : List UInt8 := [184, 0, 120, 153, 0, 6, 132, 6, 1, 132, 7, 1, 167, 255, 228, 42, 180, 0, 124, 21, 6, 96]
abbrev dktX1_feed_1 : List UInt8 := dkwX1_feed_1 ++ dktX1_feed_2
def dkwX1_feed_0 : List UInt8 := [3, 54, 6, 3, 54, 7, 21, 7, 16, 20, 162, 0, 27, 27, 28, 29, 21, 4, 21, 5, 21, 7]
abbrev dktX1_feed_0 : List UInt8 := dkwX1_feed_0 ++ dktX1_feed_1
theorem dksX1_feed_0 : cX1_feed.data.toList.drop 0 = dktX1_feed_0 := by decide +kernel
theorem dksX1_feed_1 : cX1_feed.data.toList.drop 22 = dktX1_feed_1 := dk_seg dksX1_feed_0 22 rfl rfl
theorem dksX1_feed_2 : cX1_feed.data.toList.drop 44 = dktX1_feed_2 := dk_seg dksX1_feed_1 22 rfl rfl
theorem dksX1_feed_3 : cX1_feed.data.toList.drop 67 = dktX1_feed_3 := dk_seg dksX1_feed_2 23 rfl rfl
theorem dksX1_feed_4 : cX1_feed.data.toList.drop 91 = dktX1_feed_4 := dk_seg dksX1_feed_3 24 rfl rfl
theorem dX1_feed_0 : decode cX1_feed 0 = .ok (.iconst 0, 1) := dk_3 (dk_at dksX1_feed_0 0 rfl rfl)
theorem dX1_feed_1 : decode cX1_feed 1 = .ok (.istore 6, 2) := dk_54 6 (dk_at dksX1_feed_0 1 rfl rfl)
theorem dX1_feed_3 : decode cX1_feed 3 = .ok (.iconst 0, 1) := dk_3 (dk_at dksX1_feed_0 3 rfl rfl)
theorem dX1_feed_4 : decode cX1_feed 4 = .ok (.istore 7, 2) := dk_54 7 (dk_at dksX1_feed_0 4 rfl rfl)
theorem dX1_feed_6 : decode cX1_feed 6 = .ok (.iload 7, 2) := dk_21 7 (dk_at dksX1_feed_0 6 rfl rfl)
theorem dX1_feed_8 : decode cX1_feed 8 = .ok (.bipush 20, 2) := dk_16 20 (dk_at dksX1_feed_0 8 rfl rfl)
theorem dX1_feed_10 : decode cX1_feed 10 = .ok (.if_icmp .ge 27, 3) := dk_162 0 27 (dk_at dksX1_feed_0 10 rfl rfl)
theorem dX1_feed_13 : decode cX1_feed 13 = .ok (.iload_n 1, 1) := dk_27 (dk_at dksX1_feed_0 13 rfl rfl)
theorem dX1_feed_14 : decode cX1_feed 14 = .ok (.iload_n 2, 1) := dk_28 (dk_at dksX1_feed_0 14 rfl rfl)
theorem dX1_feed_15 : decode cX1_feed 15 = .ok (.iload_n 3, 1) := dk_29 (dk_at dksX1_feed_0 15 rfl rfl)
theorem dX1_feed_16 : decode cX1_feed 16 = .ok (.iload 4, 2) := dk_21 4 (dk_at dksX1_feed_0 16 rfl rfl)
theorem dX1_feed_18 : decode cX1_feed 18 = .ok (.iload 5, 2) := dk_21 5 (dk_at dksX1_feed_0 18 rfl rfl)
theorem dX1_feed_20 : decode cX1_feed 20 = .ok (.iload 7, 2) := dk_21 7 (dk_at dksX1_feed_0 20 rfl rfl)
theorem dX1_feed_22 : decode cX1_feed 22 = .ok (.invokestatic 120, 3) := dk_184 0 120 (dk_at dksX1_feed_1 0 rfl rfl)
theorem dX1_feed_25 : decode cX1_feed 25 = .ok (.ifCond .eq 6, 3) := dk_153 0 6 (dk_at dksX1_feed_1 3 rfl rfl)
theorem dX1_feed_28 : decode cX1_feed 28 = .ok (.iinc 6 1, 3) := dk_132 6 1 (dk_at dksX1_feed_1 6 rfl rfl)
theorem dX1_feed_31 : decode cX1_feed 31 = .ok (.iinc 7 1, 3) := dk_132 7 1 (dk_at dksX1_feed_1 9 rfl rfl)
theorem dX1_feed_34 : decode cX1_feed 34 = .ok (.goto (-28), 3) := dk_167 255 228 (dk_at dksX1_feed_1 12 rfl rfl)
theorem dX1_feed_37 : decode cX1_feed 37 = .ok (.aload_n 0, 1) := dk_42 (dk_at dksX1_feed_1 15 rfl rfl)
theorem dX1_feed_38 : decode cX1_feed 38 = .ok (.getfield 124, 3) := dk_180 0 124 (dk_at dksX1_feed_1 16 rfl rfl)
theorem dX1_feed_41 : decode cX1_feed 41 = .ok (.iload 6, 2) := dk_21 6 (dk_at dksX1_feed_1 19 rfl rfl)
theorem dX1_feed_43 : decode cX1_feed 43 = .ok (.iadd, 1) := dk_96 (dk_at dksX1_feed_1 21 rfl rfl)
theorem dX1_feed_44 : decode cX1_feed 44 = .ok (.sipush 240, 3) := dk_17 0 240 (dk_at dksX1_feed_2 0 rfl rfl)
theorem dX1_feed_47 : decode cX1_feed 47 = .ok (.if_icmp .le 5, 3) := dk_164 0 5 (dk_at dksX1_feed_2 3 rfl rfl)
theorem dX1_feed_50 : decode cX1_feed 50 = .ok (.iconst (-1), 1) := dk_2 (dk_at dksX1_feed_2 6 rfl rfl)
theorem dX1_feed_51 : decode cX1_feed 51 = .ok (.ireturn, 1) := dk_172 (dk_at dksX1_feed_2 7 rfl rfl)
theorem dX1_feed_52 : decode cX1_feed 52 = .ok (.iconst 0, 1) := dk_3 (dk_at dksX1_feed_2 8 rfl rfl)
theorem dX1_feed_53 : decode cX1_feed 53 = .ok (.istore 7, 2) := dk_54 7 (dk_at dksX1_feed_2 9 rfl rfl)
theorem dX1_feed_55 : decode cX1_feed 55 = .ok (.iload 7, 2) := dk_21 7 (dk_at dksX1_feed_2 11 rfl rfl)
theorem dX1_feed_57 : decode cX1_feed 57 = .ok (.bipush 20, 2) := dk_16 20 (dk_at dksX1_feed_2 13 rfl rfl)
theorem dX1_feed_59 : decode cX1_feed 59 = .ok (.if_icmp .ge 47, 3) := dk_162 0 47 (dk_at dksX1_feed_2 15 rfl rfl)
theorem dX1_feed_62 : decode cX1_feed 62 = .ok (.iload_n 1, 1) := dk_27 (dk_at dksX1_feed_2 18 rfl rfl)
theorem dX1_feed_63 : decode cX1_feed 63 = .ok (.iload_n 2, 1) := dk_28 (dk_at dksX1_feed_2 19 rfl rfl)
theorem dX1_feed_64 : decode cX1_feed 64 = .ok (.iload_n 3, 1) := dk_29 (dk_at dksX1_feed_2 20 rfl rfl)
theorem dX1_feed_65 : decode cX1_feed 65 = .ok (.iload 4, 2) := dk_21 4 (dk_at dksX1_feed_2 21 rfl rfl)
theorem dX1_feed_67 : decode cX1_feed 67 = .ok (.iload 5, 2) := dk_21 5 (dk_at dksX1_feed_3 0 rfl rfl)
theorem dX1_feed_69 : decode cX1_feed 69 = .ok (.iload 7, 2) := dk_21 7 (dk_at dksX1_feed_3 2 rfl rfl)
theorem dX1_feed_71 : decode cX1_feed 71 = .ok (.invokestatic 120, 3) := dk_184 0 120 (dk_at dksX1_feed_3 4 rfl rfl)
theorem dX1_feed_74 : decode cX1_feed 74 = .ok (.istore 8, 2) := dk_54 8 (dk_at dksX1_feed_3 7 rfl rfl)
theorem dX1_feed_76 : decode cX1_feed 76 = .ok (.iload 8, 2) := dk_21 8 (dk_at dksX1_feed_3 9 rfl rfl)
theorem dX1_feed_78 : decode cX1_feed 78 = .ok (.ifCond .eq 22, 3) := dk_153 0 22 (dk_at dksX1_feed_3 11 rfl rfl)
theorem dX1_feed_81 : decode cX1_feed 81 = .ok (.aload_n 0, 1) := dk_42 (dk_at dksX1_feed_3 14 rfl rfl)
theorem dX1_feed_82 : decode cX1_feed 82 = .ok (.getfield 43, 3) := dk_180 0 43 (dk_at dksX1_feed_3 15 rfl rfl)
theorem dX1_feed_85 : decode cX1_feed 85 = .ok (.aload_n 0, 1) := dk_42 (dk_at dksX1_feed_3 18 rfl rfl)
theorem dX1_feed_86 : decode cX1_feed 86 = .ok (.dup, 1) := dk_89 (dk_at dksX1_feed_3 19 rfl rfl)
theorem dX1_feed_87 : decode cX1_feed 87 = .ok (.getfield 124, 3) := dk_180 0 124 (dk_at dksX1_feed_3 20 rfl rfl)
theorem dX1_feed_90 : decode cX1_feed 90 = .ok (.dup_x1, 1) := dk_90 (dk_at dksX1_feed_3 23 rfl rfl)
theorem dX1_feed_91 : decode cX1_feed 91 = .ok (.iconst 1, 1) := dk_4 (dk_at dksX1_feed_4 0 rfl rfl)
theorem dX1_feed_92 : decode cX1_feed 92 = .ok (.iadd, 1) := dk_96 (dk_at dksX1_feed_4 1 rfl rfl)
theorem dX1_feed_93 : decode cX1_feed 93 = .ok (.putfield 124, 3) := dk_181 0 124 (dk_at dksX1_feed_4 2 rfl rfl)
theorem dX1_feed_96 : decode cX1_feed 96 = .ok (.iload 8, 2) := dk_21 8 (dk_at dksX1_feed_4 5 rfl rfl)
theorem dX1_feed_98 : decode cX1_feed 98 = .ok (.i2b, 1) := dk_145 (dk_at dksX1_feed_4 7 rfl rfl)
theorem dX1_feed_99 : decode cX1_feed 99 = .ok (.bastore, 1) := dk_84 (dk_at dksX1_feed_4 8 rfl rfl)
theorem dX1_feed_100 : decode cX1_feed 100 = .ok (.iinc 7 1, 3) := dk_132 7 1 (dk_at dksX1_feed_4 9 rfl rfl)
theorem dX1_feed_103 : decode cX1_feed 103 = .ok (.goto (-48), 3) := dk_167 255 208 (dk_at dksX1_feed_4 12 rfl rfl)
theorem dX1_feed_106 : decode cX1_feed 106 = .ok (.aload_n 0, 1) := dk_42 (dk_at dksX1_feed_4 15 rfl rfl)
theorem dX1_feed_107 : decode cX1_feed 107 = .ok (.getfield 124, 3) := dk_180 0 124 (dk_at dksX1_feed_4 16 rfl rfl)
theorem dX1_feed_110 : decode cX1_feed 110 = .ok (.ireturn, 1) := dk_172 (dk_at dksX1_feed_4 19 rfl rfl)
abbrev cX1_byteOf : ByteArray := prog_1_method_4_code
def yX1_byteOf : MethodName := ⟨RX1, "byteOf", "(IIIIII)I"⟩
def dkwX1_byteOf_3 : List UInt8 := [16, 8, 21, 5, 7, 112, 104, 100, 122, 17, 0, 255, 126, 172]
abbrev dktX1_byteOf_3 : List UInt8 := dkwX1_byteOf_3 ++ []
def dkwX1_byteOf_2 : List UInt8 := [26, 167, 0, 17, 27, 167, 0, 13, 28, 167, 0, 9, 29, 167, 0, 5, 21, 4, 54, 6, 21, 6, 16, 24]
abbrev dktX1_byteOf_2 : List UInt8 := dkwX1_byteOf_2 ++ dktX1_byteOf_3
def dkwX1_byteOf_1 : List UInt8 := [170, 0, 0, 0, 0, 0, 0, 48, 0, 0, 0, 0, 0, 0, 0, 3, 0, 0, 0, 32, 0, 0, 0, 36, 0, 0, 0, 40, 0, 0, 0, 44]
abbrev dktX1_byteOf_1 : List UInt8 := dkwX1_byteOf_1 ++ dktX1_byteOf_2
def dkwX1_byteOf_0 : List UInt8 := [21, 5, 7, 108]
abbrev dktX1_byteOf_0 : List UInt8 := dkwX1_byteOf_0 ++ dktX1_byteOf_1
theorem dksX1_byteOf_0 : cX1_byteOf.data.toList.drop 0 = dktX1_byteOf_0 := by decide +kernel
theorem dksX1_byteOf_1 : cX1_byteOf.data.toList.drop 4 = dktX1_byteOf_1 := dk_seg dksX1_byteOf_0 4 rfl rfl
theorem dksX1_byteOf_2 : cX1_byteOf.data.toList.drop 36 = dktX1_byteOf_2 := dk_seg dksX1_byteOf_1 32 rfl rfl
theorem dksX1_byteOf_3 : cX1_byteOf.data.toList.drop 60 = dktX1_byteOf_3 := dk_seg dksX1_byteOf_2 24 rfl rfl
theorem dX1_byteOf_0 : decode cX1_byteOf 0 = .ok (.iload 5, 2) := dk_21 5 (dk_at dksX1_byteOf_0 0 rfl rfl)
theorem dX1_byteOf_2 : decode cX1_byteOf 2 = .ok (.iconst 4, 1) := dk_7 (dk_at dksX1_byteOf_0 2 rfl rfl)
theorem dX1_byteOf_3 : decode cX1_byteOf 3 = .ok (.idiv, 1) := dk_108 (dk_at dksX1_byteOf_0 3 rfl rfl)
theorem dX1_byteOf_4 : decode cX1_byteOf 4 = .ok (.tableswitch 48 0 3 #[32, 36, 40, 44], 32) := by decide +kernel
theorem dX1_byteOf_36 : decode cX1_byteOf 36 = .ok (.iload_n 0, 1) := dk_26 (dk_at dksX1_byteOf_2 0 rfl rfl)
theorem dX1_byteOf_37 : decode cX1_byteOf 37 = .ok (.goto 17, 3) := dk_167 0 17 (dk_at dksX1_byteOf_2 1 rfl rfl)
theorem dX1_byteOf_40 : decode cX1_byteOf 40 = .ok (.iload_n 1, 1) := dk_27 (dk_at dksX1_byteOf_2 4 rfl rfl)
theorem dX1_byteOf_41 : decode cX1_byteOf 41 = .ok (.goto 13, 3) := dk_167 0 13 (dk_at dksX1_byteOf_2 5 rfl rfl)
theorem dX1_byteOf_44 : decode cX1_byteOf 44 = .ok (.iload_n 2, 1) := dk_28 (dk_at dksX1_byteOf_2 8 rfl rfl)
theorem dX1_byteOf_45 : decode cX1_byteOf 45 = .ok (.goto 9, 3) := dk_167 0 9 (dk_at dksX1_byteOf_2 9 rfl rfl)
theorem dX1_byteOf_48 : decode cX1_byteOf 48 = .ok (.iload_n 3, 1) := dk_29 (dk_at dksX1_byteOf_2 12 rfl rfl)
theorem dX1_byteOf_49 : decode cX1_byteOf 49 = .ok (.goto 5, 3) := dk_167 0 5 (dk_at dksX1_byteOf_2 13 rfl rfl)
theorem dX1_byteOf_52 : decode cX1_byteOf 52 = .ok (.iload 4, 2) := dk_21 4 (dk_at dksX1_byteOf_2 16 rfl rfl)
theorem dX1_byteOf_54 : decode cX1_byteOf 54 = .ok (.istore 6, 2) := dk_54 6 (dk_at dksX1_byteOf_2 18 rfl rfl)
theorem dX1_byteOf_56 : decode cX1_byteOf 56 = .ok (.iload 6, 2) := dk_21 6 (dk_at dksX1_byteOf_2 20 rfl rfl)
theorem dX1_byteOf_58 : decode cX1_byteOf 58 = .ok (.bipush 24, 2) := dk_16 24 (dk_at dksX1_byteOf_2 22 rfl rfl)
theorem dX1_byteOf_60 : decode cX1_byteOf 60 = .ok (.bipush 8, 2) := dk_16 8 (dk_at dksX1_byteOf_3 0 rfl rfl)
theorem dX1_byteOf_62 : decode cX1_byteOf 62 = .ok (.iload 5, 2) := dk_21 5 (dk_at dksX1_byteOf_3 2 rfl rfl)
theorem dX1_byteOf_64 : decode cX1_byteOf 64 = .ok (.iconst 4, 1) := dk_7 (dk_at dksX1_byteOf_3 4 rfl rfl)
theorem dX1_byteOf_65 : decode cX1_byteOf 65 = .ok (.irem, 1) := dk_112 (dk_at dksX1_byteOf_3 5 rfl rfl)
theorem dX1_byteOf_66 : decode cX1_byteOf 66 = .ok (.imul, 1) := dk_104 (dk_at dksX1_byteOf_3 6 rfl rfl)
theorem dX1_byteOf_67 : decode cX1_byteOf 67 = .ok (.isub, 1) := dk_100 (dk_at dksX1_byteOf_3 7 rfl rfl)
theorem dX1_byteOf_68 : decode cX1_byteOf 68 = .ok (.ishr, 1) := dk_122 (dk_at dksX1_byteOf_3 8 rfl rfl)
theorem dX1_byteOf_69 : decode cX1_byteOf 69 = .ok (.sipush 255, 3) := dk_17 0 255 (dk_at dksX1_byteOf_3 9 rfl rfl)
theorem dX1_byteOf_72 : decode cX1_byteOf 72 = .ok (.iand, 1) := dk_126 (dk_at dksX1_byteOf_3 12 rfl rfl)
theorem dX1_byteOf_73 : decode cX1_byteOf 73 = .ok (.ireturn, 1) := dk_172 (dk_at dksX1_byteOf_3 13 rfl rfl)
abbrev cX1_end : ByteArray := prog_1_method_6_code
def yX1_end : MethodName := ⟨RX1, "end", "(I)Z"⟩
def dkwX1_end_0 : List UInt8 := [27, 3, 42, 180, 0, 124, 184, 0, 127, 154, 0, 5, 3, 172, 42, 27, 181, 0, 124, 4, 172]
abbrev dktX1_end_0 : List UInt8 := dkwX1_end_0 ++ []
theorem dksX1_end_0 : cX1_end.data.toList.drop 0 = dktX1_end_0 := by decide +kernel
theorem dX1_end_0 : decode cX1_end 0 = .ok (.iload_n 1, 1) := dk_27 (dk_at dksX1_end_0 0 rfl rfl)
theorem dX1_end_1 : decode cX1_end 1 = .ok (.iconst 0, 1) := dk_3 (dk_at dksX1_end_0 1 rfl rfl)
theorem dX1_end_2 : decode cX1_end 2 = .ok (.aload_n 0, 1) := dk_42 (dk_at dksX1_end_0 2 rfl rfl)
theorem dX1_end_3 : decode cX1_end 3 = .ok (.getfield 124, 3) := dk_180 0 124 (dk_at dksX1_end_0 3 rfl rfl)
theorem dX1_end_6 : decode cX1_end 6 = .ok (.invokestatic 127, 3) := dk_184 0 127 (dk_at dksX1_end_0 6 rfl rfl)
theorem dX1_end_9 : decode cX1_end 9 = .ok (.ifCond .ne 5, 3) := dk_154 0 5 (dk_at dksX1_end_0 9 rfl rfl)
theorem dX1_end_12 : decode cX1_end 12 = .ok (.iconst 0, 1) := dk_3 (dk_at dksX1_end_0 12 rfl rfl)
theorem dX1_end_13 : decode cX1_end 13 = .ok (.ireturn, 1) := dk_172 (dk_at dksX1_end_0 13 rfl rfl)
theorem dX1_end_14 : decode cX1_end 14 = .ok (.aload_n 0, 1) := dk_42 (dk_at dksX1_end_0 14 rfl rfl)
theorem dX1_end_15 : decode cX1_end 15 = .ok (.iload_n 1, 1) := dk_27 (dk_at dksX1_end_0 15 rfl rfl)
theorem dX1_end_16 : decode cX1_end 16 = .ok (.putfield 124, 3) := dk_181 0 124 (dk_at dksX1_end_0 16 rfl rfl)
theorem dX1_end_19 : decode cX1_end 19 = .ok (.iconst 1, 1) := dk_4 (dk_at dksX1_end_0 19 rfl rfl)
theorem dX1_end_20 : decode cX1_end 20 = .ok (.ireturn, 1) := dk_172 (dk_at dksX1_end_0 20 rfl rfl)
abbrev cX1_in : ByteArray := prog_1_method_1_code
def yX1_in : MethodName := ⟨RX1, "in", "(III)Z"⟩
def dkwX1_in_0 : List UInt8 := [26, 27, 161, 0, 12, 26, 28, 163, 0, 7, 4, 167, 0, 4, 3, 172]
abbrev dktX1_in_0 : List UInt8 := dkwX1_in_0 ++ []
theorem dksX1_in_0 : cX1_in.data.toList.drop 0 = dktX1_in_0 := by decide +kernel
theorem dX1_in_0 : decode cX1_in 0 = .ok (.iload_n 0, 1) := dk_26 (dk_at dksX1_in_0 0 rfl rfl)
theorem dX1_in_1 : decode cX1_in 1 = .ok (.iload_n 1, 1) := dk_27 (dk_at dksX1_in_0 1 rfl rfl)
theorem dX1_in_2 : decode cX1_in 2 = .ok (.if_icmp .lt 12, 3) := dk_161 0 12 (dk_at dksX1_in_0 2 rfl rfl)
theorem dX1_in_5 : decode cX1_in 5 = .ok (.iload_n 0, 1) := dk_26 (dk_at dksX1_in_0 5 rfl rfl)
theorem dX1_in_6 : decode cX1_in 6 = .ok (.iload_n 2, 1) := dk_28 (dk_at dksX1_in_0 6 rfl rfl)
theorem dX1_in_7 : decode cX1_in 7 = .ok (.if_icmp .gt 7, 3) := dk_163 0 7 (dk_at dksX1_in_0 7 rfl rfl)
theorem dX1_in_10 : decode cX1_in 10 = .ok (.iconst 1, 1) := dk_4 (dk_at dksX1_in_0 10 rfl rfl)
theorem dX1_in_11 : decode cX1_in 11 = .ok (.goto 4, 3) := dk_167 0 4 (dk_at dksX1_in_0 11 rfl rfl)
theorem dX1_in_14 : decode cX1_in 14 = .ok (.iconst 0, 1) := dk_3 (dk_at dksX1_in_0 14 rfl rfl)
theorem dX1_in_15 : decode cX1_in 15 = .ok (.ireturn, 1) := dk_172 (dk_at dksX1_in_0 15 rfl rfl)
abbrev cX1_fault : ByteArray := prog_1_method_19_code
def yX1_fault : MethodName := ⟨RX1, "fault", "(I)I"⟩
def dkwX1_fault_1 : List UInt8 := [7, 182, 0, 196, 2, 172, 77, 42, 180, 0, 131, 172]
abbrev dktX1_fault_1 : List UInt8 := dkwX1_fault_1 ++ []
def dkwX1_fault_0 : List UInt8 := [27, 3, 4, 184, 0, 127, 154, 0, 6, 16, 254, 172, 27, 154, 0, 10, 42, 182, 0, 193, 167, 0, 8, 42]
abbrev dktX1_fault_0 : List UInt8 := dkwX1_fault_0 ++ dktX1_fault_1
theorem dksX1_fault_0 : cX1_fault.data.toList.drop 0 = dktX1_fault_0 := by decide +kernel
theorem dksX1_fault_1 : cX1_fault.data.toList.drop 24 = dktX1_fault_1 := dk_seg dksX1_fault_0 24 rfl rfl
theorem dX1_fault_0 : decode cX1_fault 0 = .ok (.iload_n 1, 1) := dk_27 (dk_at dksX1_fault_0 0 rfl rfl)
theorem dX1_fault_1 : decode cX1_fault 1 = .ok (.iconst 0, 1) := dk_3 (dk_at dksX1_fault_0 1 rfl rfl)
theorem dX1_fault_2 : decode cX1_fault 2 = .ok (.iconst 1, 1) := dk_4 (dk_at dksX1_fault_0 2 rfl rfl)
theorem dX1_fault_3 : decode cX1_fault 3 = .ok (.invokestatic 127, 3) := dk_184 0 127 (dk_at dksX1_fault_0 3 rfl rfl)
theorem dX1_fault_6 : decode cX1_fault 6 = .ok (.ifCond .ne 6, 3) := dk_154 0 6 (dk_at dksX1_fault_0 6 rfl rfl)
theorem dX1_fault_9 : decode cX1_fault 9 = .ok (.bipush (-2), 2) := dk_16 254 (dk_at dksX1_fault_0 9 rfl rfl)
theorem dX1_fault_11 : decode cX1_fault 11 = .ok (.ireturn, 1) := dk_172 (dk_at dksX1_fault_0 11 rfl rfl)
theorem dX1_fault_12 : decode cX1_fault 12 = .ok (.iload_n 1, 1) := dk_27 (dk_at dksX1_fault_0 12 rfl rfl)
theorem dX1_fault_13 : decode cX1_fault 13 = .ok (.ifCond .ne 10, 3) := dk_154 0 10 (dk_at dksX1_fault_0 13 rfl rfl)
theorem dX1_fault_16 : decode cX1_fault 16 = .ok (.aload_n 0, 1) := dk_42 (dk_at dksX1_fault_0 16 rfl rfl)
theorem dX1_fault_17 : decode cX1_fault 17 = .ok (.invokevirtual 193, 3) := dk_182 0 193 (dk_at dksX1_fault_0 17 rfl rfl)
theorem dX1_fault_20 : decode cX1_fault 20 = .ok (.goto 8, 3) := dk_167 0 8 (dk_at dksX1_fault_0 20 rfl rfl)
theorem dX1_fault_23 : decode cX1_fault 23 = .ok (.aload_n 0, 1) := dk_42 (dk_at dksX1_fault_0 23 rfl rfl)
theorem dX1_fault_24 : decode cX1_fault 24 = .ok (.iconst 4, 1) := dk_7 (dk_at dksX1_fault_1 0 rfl rfl)
theorem dX1_fault_25 : decode cX1_fault 25 = .ok (.invokevirtual 196, 3) := dk_182 0 196 (dk_at dksX1_fault_1 1 rfl rfl)
theorem dX1_fault_28 : decode cX1_fault 28 = .ok (.iconst (-1), 1) := dk_2 (dk_at dksX1_fault_1 4 rfl rfl)
theorem dX1_fault_29 : decode cX1_fault 29 = .ok (.ireturn, 1) := dk_172 (dk_at dksX1_fault_1 5 rfl rfl)
theorem dX1_fault_30 : decode cX1_fault 30 = .ok (.astore_n 2, 1) := dk_77 (dk_at dksX1_fault_1 6 rfl rfl)
theorem dX1_fault_31 : decode cX1_fault 31 = .ok (.aload_n 0, 1) := dk_42 (dk_at dksX1_fault_1 7 rfl rfl)
theorem dX1_fault_32 : decode cX1_fault 32 = .ok (.getfield 131, 3) := dk_180 0 131 (dk_at dksX1_fault_1 8 rfl rfl)
theorem dX1_fault_35 : decode cX1_fault 35 = .ok (.ireturn, 1) := dk_172 (dk_at dksX1_fault_1 11 rfl rfl)
abbrev cX1_wholeMap : ByteArray := prog_1_method_18_code
def yX1_wholeMap : MethodName := ⟨RX1, "wholeMap", "()V"⟩
def dkwX1_wholeMap_6 : List UInt8 := [3, 182, 0, 142, 177]
abbrev dktX1_wholeMap_6 : List UInt8 := dkwX1_wholeMap_6 ++ []
def dkwX1_wholeMap_5 : List UInt8 := [180, 0, 131, 4, 96, 181, 0, 131, 167, 255, 153, 42, 42, 182, 0, 146, 2, 160, 0, 7, 4, 167, 0, 4]
abbrev dktX1_wholeMap_5 : List UInt8 := dkwX1_wholeMap_5 ++ dktX1_wholeMap_6
def dkwX1_wholeMap_4 : List UInt8 := [181, 0, 190, 42, 182, 0, 146, 16, 44, 160, 0, 7, 4, 167, 0, 4, 3, 60, 27, 153, 255, 166, 42, 89]
abbrev dktX1_wholeMap_4 : List UInt8 := dkwX1_wholeMap_4 ++ dktX1_wholeMap_5
def dkwX1_wholeMap_3 : List UInt8 := [180, 0, 54, 5, 42, 180, 0, 190, 104, 4, 96, 42, 182, 0, 184, 79, 42, 89, 180, 0, 190, 4, 96]
abbrev dktX1_wholeMap_3 : List UInt8 := dkwX1_wholeMap_3 ++ dktX1_wholeMap_4
def dkwX1_wholeMap_2 : List UInt8 := [16, 58, 160, 0, 7, 4, 167, 0, 4, 3, 182, 0, 142, 42, 89, 180, 0, 131, 4, 96, 181, 0, 131, 42]
abbrev dktX1_wholeMap_2 : List UInt8 := dkwX1_wholeMap_2 ++ dktX1_wholeMap_3
def dkwX1_wholeMap_1 : List UInt8 := [153, 0, 105, 42, 180, 0, 54, 5, 42, 180, 0, 190, 104, 42, 182, 0, 181, 79, 42, 42, 182, 0, 146]
abbrev dktX1_wholeMap_1 : List UInt8 := dkwX1_wholeMap_1 ++ dktX1_wholeMap_2
def dkwX1_wholeMap_0 : List UInt8 := [42, 3, 181, 0, 131, 42, 3, 181, 0, 190, 42, 182, 0, 146, 2, 160, 0, 4, 177, 4, 60, 27]
abbrev dktX1_wholeMap_0 : List UInt8 := dkwX1_wholeMap_0 ++ dktX1_wholeMap_1
theorem dksX1_wholeMap_0 : cX1_wholeMap.data.toList.drop 0 = dktX1_wholeMap_0 := by decide +kernel
theorem dksX1_wholeMap_1 : cX1_wholeMap.data.toList.drop 22 = dktX1_wholeMap_1 := dk_seg dksX1_wholeMap_0 22 rfl rfl
theorem dksX1_wholeMap_2 : cX1_wholeMap.data.toList.drop 45 = dktX1_wholeMap_2 := dk_seg dksX1_wholeMap_1 23 rfl rfl
theorem dksX1_wholeMap_3 : cX1_wholeMap.data.toList.drop 69 = dktX1_wholeMap_3 := dk_seg dksX1_wholeMap_2 24 rfl rfl
theorem dksX1_wholeMap_4 : cX1_wholeMap.data.toList.drop 92 = dktX1_wholeMap_4 := dk_seg dksX1_wholeMap_3 23 rfl rfl
theorem dksX1_wholeMap_5 : cX1_wholeMap.data.toList.drop 116 = dktX1_wholeMap_5 := dk_seg dksX1_wholeMap_4 24 rfl rfl
theorem dksX1_wholeMap_6 : cX1_wholeMap.data.toList.drop 140 = dktX1_wholeMap_6 := dk_seg dksX1_wholeMap_5 24 rfl rfl
theorem dX1_wholeMap_0 : decode cX1_wholeMap 0 = .ok (.aload_n 0, 1) := dk_42 (dk_at dksX1_wholeMap_0 0 rfl rfl)
theorem dX1_wholeMap_1 : decode cX1_wholeMap 1 = .ok (.iconst 0, 1) := dk_3 (dk_at dksX1_wholeMap_0 1 rfl rfl)
theorem dX1_wholeMap_2 : decode cX1_wholeMap 2 = .ok (.putfield 131, 3) := dk_181 0 131 (dk_at dksX1_wholeMap_0 2 rfl rfl)
theorem dX1_wholeMap_5 : decode cX1_wholeMap 5 = .ok (.aload_n 0, 1) := dk_42 (dk_at dksX1_wholeMap_0 5 rfl rfl)
theorem dX1_wholeMap_6 : decode cX1_wholeMap 6 = .ok (.iconst 0, 1) := dk_3 (dk_at dksX1_wholeMap_0 6 rfl rfl)
theorem dX1_wholeMap_7 : decode cX1_wholeMap 7 = .ok (.putfield 190, 3) := dk_181 0 190 (dk_at dksX1_wholeMap_0 7 rfl rfl)
theorem dX1_wholeMap_10 : decode cX1_wholeMap 10 = .ok (.aload_n 0, 1) := dk_42 (dk_at dksX1_wholeMap_0 10 rfl rfl)
theorem dX1_wholeMap_11 : decode cX1_wholeMap 11 = .ok (.invokevirtual 146, 3) := dk_182 0 146 (dk_at dksX1_wholeMap_0 11 rfl rfl)
theorem dX1_wholeMap_14 : decode cX1_wholeMap 14 = .ok (.iconst (-1), 1) := dk_2 (dk_at dksX1_wholeMap_0 14 rfl rfl)
theorem dX1_wholeMap_15 : decode cX1_wholeMap 15 = .ok (.if_icmp .ne 4, 3) := dk_160 0 4 (dk_at dksX1_wholeMap_0 15 rfl rfl)
theorem dX1_wholeMap_18 : decode cX1_wholeMap 18 = .ok (.return_, 1) := dk_177 (dk_at dksX1_wholeMap_0 18 rfl rfl)
theorem dX1_wholeMap_19 : decode cX1_wholeMap 19 = .ok (.iconst 1, 1) := dk_4 (dk_at dksX1_wholeMap_0 19 rfl rfl)
theorem dX1_wholeMap_20 : decode cX1_wholeMap 20 = .ok (.istore_n 1, 1) := dk_60 (dk_at dksX1_wholeMap_0 20 rfl rfl)
theorem dX1_wholeMap_21 : decode cX1_wholeMap 21 = .ok (.iload_n 1, 1) := dk_27 (dk_at dksX1_wholeMap_0 21 rfl rfl)
theorem dX1_wholeMap_22 : decode cX1_wholeMap 22 = .ok (.ifCond .eq 105, 3) := dk_153 0 105 (dk_at dksX1_wholeMap_1 0 rfl rfl)
theorem dX1_wholeMap_25 : decode cX1_wholeMap 25 = .ok (.aload_n 0, 1) := dk_42 (dk_at dksX1_wholeMap_1 3 rfl rfl)
theorem dX1_wholeMap_26 : decode cX1_wholeMap 26 = .ok (.getfield 54, 3) := dk_180 0 54 (dk_at dksX1_wholeMap_1 4 rfl rfl)
theorem dX1_wholeMap_29 : decode cX1_wholeMap 29 = .ok (.iconst 2, 1) := dk_5 (dk_at dksX1_wholeMap_1 7 rfl rfl)
theorem dX1_wholeMap_30 : decode cX1_wholeMap 30 = .ok (.aload_n 0, 1) := dk_42 (dk_at dksX1_wholeMap_1 8 rfl rfl)
theorem dX1_wholeMap_31 : decode cX1_wholeMap 31 = .ok (.getfield 190, 3) := dk_180 0 190 (dk_at dksX1_wholeMap_1 9 rfl rfl)
theorem dX1_wholeMap_34 : decode cX1_wholeMap 34 = .ok (.imul, 1) := dk_104 (dk_at dksX1_wholeMap_1 12 rfl rfl)
theorem dX1_wholeMap_35 : decode cX1_wholeMap 35 = .ok (.aload_n 0, 1) := dk_42 (dk_at dksX1_wholeMap_1 13 rfl rfl)
theorem dX1_wholeMap_36 : decode cX1_wholeMap 36 = .ok (.invokevirtual 181, 3) := dk_182 0 181 (dk_at dksX1_wholeMap_1 14 rfl rfl)
theorem dX1_wholeMap_39 : decode cX1_wholeMap 39 = .ok (.iastore, 1) := dk_79 (dk_at dksX1_wholeMap_1 17 rfl rfl)
theorem dX1_wholeMap_40 : decode cX1_wholeMap 40 = .ok (.aload_n 0, 1) := dk_42 (dk_at dksX1_wholeMap_1 18 rfl rfl)
theorem dX1_wholeMap_41 : decode cX1_wholeMap 41 = .ok (.aload_n 0, 1) := dk_42 (dk_at dksX1_wholeMap_1 19 rfl rfl)
theorem dX1_wholeMap_42 : decode cX1_wholeMap 42 = .ok (.invokevirtual 146, 3) := dk_182 0 146 (dk_at dksX1_wholeMap_1 20 rfl rfl)
theorem dX1_wholeMap_45 : decode cX1_wholeMap 45 = .ok (.bipush 58, 2) := dk_16 58 (dk_at dksX1_wholeMap_2 0 rfl rfl)
theorem dX1_wholeMap_47 : decode cX1_wholeMap 47 = .ok (.if_icmp .ne 7, 3) := dk_160 0 7 (dk_at dksX1_wholeMap_2 2 rfl rfl)
theorem dX1_wholeMap_50 : decode cX1_wholeMap 50 = .ok (.iconst 1, 1) := dk_4 (dk_at dksX1_wholeMap_2 5 rfl rfl)
theorem dX1_wholeMap_51 : decode cX1_wholeMap 51 = .ok (.goto 4, 3) := dk_167 0 4 (dk_at dksX1_wholeMap_2 6 rfl rfl)
theorem dX1_wholeMap_54 : decode cX1_wholeMap 54 = .ok (.iconst 0, 1) := dk_3 (dk_at dksX1_wholeMap_2 9 rfl rfl)
theorem dX1_wholeMap_55 : decode cX1_wholeMap 55 = .ok (.invokevirtual 142, 3) := dk_182 0 142 (dk_at dksX1_wholeMap_2 10 rfl rfl)
theorem dX1_wholeMap_58 : decode cX1_wholeMap 58 = .ok (.aload_n 0, 1) := dk_42 (dk_at dksX1_wholeMap_2 13 rfl rfl)
theorem dX1_wholeMap_59 : decode cX1_wholeMap 59 = .ok (.dup, 1) := dk_89 (dk_at dksX1_wholeMap_2 14 rfl rfl)
theorem dX1_wholeMap_60 : decode cX1_wholeMap 60 = .ok (.getfield 131, 3) := dk_180 0 131 (dk_at dksX1_wholeMap_2 15 rfl rfl)
theorem dX1_wholeMap_63 : decode cX1_wholeMap 63 = .ok (.iconst 1, 1) := dk_4 (dk_at dksX1_wholeMap_2 18 rfl rfl)
theorem dX1_wholeMap_64 : decode cX1_wholeMap 64 = .ok (.iadd, 1) := dk_96 (dk_at dksX1_wholeMap_2 19 rfl rfl)
theorem dX1_wholeMap_65 : decode cX1_wholeMap 65 = .ok (.putfield 131, 3) := dk_181 0 131 (dk_at dksX1_wholeMap_2 20 rfl rfl)
theorem dX1_wholeMap_68 : decode cX1_wholeMap 68 = .ok (.aload_n 0, 1) := dk_42 (dk_at dksX1_wholeMap_2 23 rfl rfl)
theorem dX1_wholeMap_69 : decode cX1_wholeMap 69 = .ok (.getfield 54, 3) := dk_180 0 54 (dk_at dksX1_wholeMap_3 0 rfl rfl)
theorem dX1_wholeMap_72 : decode cX1_wholeMap 72 = .ok (.iconst 2, 1) := dk_5 (dk_at dksX1_wholeMap_3 3 rfl rfl)
theorem dX1_wholeMap_73 : decode cX1_wholeMap 73 = .ok (.aload_n 0, 1) := dk_42 (dk_at dksX1_wholeMap_3 4 rfl rfl)
theorem dX1_wholeMap_74 : decode cX1_wholeMap 74 = .ok (.getfield 190, 3) := dk_180 0 190 (dk_at dksX1_wholeMap_3 5 rfl rfl)
theorem dX1_wholeMap_77 : decode cX1_wholeMap 77 = .ok (.imul, 1) := dk_104 (dk_at dksX1_wholeMap_3 8 rfl rfl)
theorem dX1_wholeMap_78 : decode cX1_wholeMap 78 = .ok (.iconst 1, 1) := dk_4 (dk_at dksX1_wholeMap_3 9 rfl rfl)
theorem dX1_wholeMap_79 : decode cX1_wholeMap 79 = .ok (.iadd, 1) := dk_96 (dk_at dksX1_wholeMap_3 10 rfl rfl)
theorem dX1_wholeMap_80 : decode cX1_wholeMap 80 = .ok (.aload_n 0, 1) := dk_42 (dk_at dksX1_wholeMap_3 11 rfl rfl)
theorem dX1_wholeMap_81 : decode cX1_wholeMap 81 = .ok (.invokevirtual 184, 3) := dk_182 0 184 (dk_at dksX1_wholeMap_3 12 rfl rfl)
theorem dX1_wholeMap_84 : decode cX1_wholeMap 84 = .ok (.iastore, 1) := dk_79 (dk_at dksX1_wholeMap_3 15 rfl rfl)
theorem dX1_wholeMap_85 : decode cX1_wholeMap 85 = .ok (.aload_n 0, 1) := dk_42 (dk_at dksX1_wholeMap_3 16 rfl rfl)
theorem dX1_wholeMap_86 : decode cX1_wholeMap 86 = .ok (.dup, 1) := dk_89 (dk_at dksX1_wholeMap_3 17 rfl rfl)
theorem dX1_wholeMap_87 : decode cX1_wholeMap 87 = .ok (.getfield 190, 3) := dk_180 0 190 (dk_at dksX1_wholeMap_3 18 rfl rfl)
theorem dX1_wholeMap_90 : decode cX1_wholeMap 90 = .ok (.iconst 1, 1) := dk_4 (dk_at dksX1_wholeMap_3 21 rfl rfl)
theorem dX1_wholeMap_91 : decode cX1_wholeMap 91 = .ok (.iadd, 1) := dk_96 (dk_at dksX1_wholeMap_3 22 rfl rfl)
theorem dX1_wholeMap_92 : decode cX1_wholeMap 92 = .ok (.putfield 190, 3) := dk_181 0 190 (dk_at dksX1_wholeMap_4 0 rfl rfl)
theorem dX1_wholeMap_95 : decode cX1_wholeMap 95 = .ok (.aload_n 0, 1) := dk_42 (dk_at dksX1_wholeMap_4 3 rfl rfl)
theorem dX1_wholeMap_96 : decode cX1_wholeMap 96 = .ok (.invokevirtual 146, 3) := dk_182 0 146 (dk_at dksX1_wholeMap_4 4 rfl rfl)
theorem dX1_wholeMap_99 : decode cX1_wholeMap 99 = .ok (.bipush 44, 2) := dk_16 44 (dk_at dksX1_wholeMap_4 7 rfl rfl)
theorem dX1_wholeMap_101 : decode cX1_wholeMap 101 = .ok (.if_icmp .ne 7, 3) := dk_160 0 7 (dk_at dksX1_wholeMap_4 9 rfl rfl)
theorem dX1_wholeMap_104 : decode cX1_wholeMap 104 = .ok (.iconst 1, 1) := dk_4 (dk_at dksX1_wholeMap_4 12 rfl rfl)
theorem dX1_wholeMap_105 : decode cX1_wholeMap 105 = .ok (.goto 4, 3) := dk_167 0 4 (dk_at dksX1_wholeMap_4 13 rfl rfl)
theorem dX1_wholeMap_108 : decode cX1_wholeMap 108 = .ok (.iconst 0, 1) := dk_3 (dk_at dksX1_wholeMap_4 16 rfl rfl)
theorem dX1_wholeMap_109 : decode cX1_wholeMap 109 = .ok (.istore_n 1, 1) := dk_60 (dk_at dksX1_wholeMap_4 17 rfl rfl)
theorem dX1_wholeMap_110 : decode cX1_wholeMap 110 = .ok (.iload_n 1, 1) := dk_27 (dk_at dksX1_wholeMap_4 18 rfl rfl)
theorem dX1_wholeMap_111 : decode cX1_wholeMap 111 = .ok (.ifCond .eq (-90), 3) := dk_153 255 166 (dk_at dksX1_wholeMap_4 19 rfl rfl)
theorem dX1_wholeMap_114 : decode cX1_wholeMap 114 = .ok (.aload_n 0, 1) := dk_42 (dk_at dksX1_wholeMap_4 22 rfl rfl)
theorem dX1_wholeMap_115 : decode cX1_wholeMap 115 = .ok (.dup, 1) := dk_89 (dk_at dksX1_wholeMap_4 23 rfl rfl)
theorem dX1_wholeMap_116 : decode cX1_wholeMap 116 = .ok (.getfield 131, 3) := dk_180 0 131 (dk_at dksX1_wholeMap_5 0 rfl rfl)
theorem dX1_wholeMap_119 : decode cX1_wholeMap 119 = .ok (.iconst 1, 1) := dk_4 (dk_at dksX1_wholeMap_5 3 rfl rfl)
theorem dX1_wholeMap_120 : decode cX1_wholeMap 120 = .ok (.iadd, 1) := dk_96 (dk_at dksX1_wholeMap_5 4 rfl rfl)
theorem dX1_wholeMap_121 : decode cX1_wholeMap 121 = .ok (.putfield 131, 3) := dk_181 0 131 (dk_at dksX1_wholeMap_5 5 rfl rfl)
theorem dX1_wholeMap_124 : decode cX1_wholeMap 124 = .ok (.goto (-103), 3) := dk_167 255 153 (dk_at dksX1_wholeMap_5 8 rfl rfl)
theorem dX1_wholeMap_127 : decode cX1_wholeMap 127 = .ok (.aload_n 0, 1) := dk_42 (dk_at dksX1_wholeMap_5 11 rfl rfl)
theorem dX1_wholeMap_128 : decode cX1_wholeMap 128 = .ok (.aload_n 0, 1) := dk_42 (dk_at dksX1_wholeMap_5 12 rfl rfl)
theorem dX1_wholeMap_129 : decode cX1_wholeMap 129 = .ok (.invokevirtual 146, 3) := dk_182 0 146 (dk_at dksX1_wholeMap_5 13 rfl rfl)
theorem dX1_wholeMap_132 : decode cX1_wholeMap 132 = .ok (.iconst (-1), 1) := dk_2 (dk_at dksX1_wholeMap_5 16 rfl rfl)
theorem dX1_wholeMap_133 : decode cX1_wholeMap 133 = .ok (.if_icmp .ne 7, 3) := dk_160 0 7 (dk_at dksX1_wholeMap_5 17 rfl rfl)
theorem dX1_wholeMap_136 : decode cX1_wholeMap 136 = .ok (.iconst 1, 1) := dk_4 (dk_at dksX1_wholeMap_5 20 rfl rfl)
theorem dX1_wholeMap_137 : decode cX1_wholeMap 137 = .ok (.goto 4, 3) := dk_167 0 4 (dk_at dksX1_wholeMap_5 21 rfl rfl)
theorem dX1_wholeMap_140 : decode cX1_wholeMap 140 = .ok (.iconst 0, 1) := dk_3 (dk_at dksX1_wholeMap_6 0 rfl rfl)
theorem dX1_wholeMap_141 : decode cX1_wholeMap 141 = .ok (.invokevirtual 142, 3) := dk_182 0 142 (dk_at dksX1_wholeMap_6 1 rfl rfl)
theorem dX1_wholeMap_144 : decode cX1_wholeMap 144 = .ok (.return_, 1) := dk_177 (dk_at dksX1_wholeMap_6 4 rfl rfl)
abbrev cX1_next : ByteArray := prog_1_method_8_code
def yX1_next : MethodName := ⟨RX1, "next", "()I"⟩
def dkwX1_next_1 : List UInt8 := [182, 0, 134, 172]
abbrev dktX1_next_1 : List UInt8 := dkwX1_next_1 ++ []
def dkwX1_next_0 : List UInt8 := [42, 182, 0, 134, 16, 32, 160, 0, 16, 42, 89, 180, 0, 131, 4, 96, 181, 0, 131, 167, 255, 237, 42]
abbrev dktX1_next_0 : List UInt8 := dkwX1_next_0 ++ dktX1_next_1
theorem dksX1_next_0 : cX1_next.data.toList.drop 0 = dktX1_next_0 := by decide +kernel
theorem dksX1_next_1 : cX1_next.data.toList.drop 23 = dktX1_next_1 := dk_seg dksX1_next_0 23 rfl rfl
theorem dX1_next_0 : decode cX1_next 0 = .ok (.aload_n 0, 1) := dk_42 (dk_at dksX1_next_0 0 rfl rfl)
theorem dX1_next_1 : decode cX1_next 1 = .ok (.invokevirtual 134, 3) := dk_182 0 134 (dk_at dksX1_next_0 1 rfl rfl)
theorem dX1_next_4 : decode cX1_next 4 = .ok (.bipush 32, 2) := dk_16 32 (dk_at dksX1_next_0 4 rfl rfl)
theorem dX1_next_6 : decode cX1_next 6 = .ok (.if_icmp .ne 16, 3) := dk_160 0 16 (dk_at dksX1_next_0 6 rfl rfl)
theorem dX1_next_9 : decode cX1_next 9 = .ok (.aload_n 0, 1) := dk_42 (dk_at dksX1_next_0 9 rfl rfl)
theorem dX1_next_10 : decode cX1_next 10 = .ok (.dup, 1) := dk_89 (dk_at dksX1_next_0 10 rfl rfl)
theorem dX1_next_11 : decode cX1_next 11 = .ok (.getfield 131, 3) := dk_180 0 131 (dk_at dksX1_next_0 11 rfl rfl)
theorem dX1_next_14 : decode cX1_next 14 = .ok (.iconst 1, 1) := dk_4 (dk_at dksX1_next_0 14 rfl rfl)
theorem dX1_next_15 : decode cX1_next 15 = .ok (.iadd, 1) := dk_96 (dk_at dksX1_next_0 15 rfl rfl)
theorem dX1_next_16 : decode cX1_next 16 = .ok (.putfield 131, 3) := dk_181 0 131 (dk_at dksX1_next_0 16 rfl rfl)
theorem dX1_next_19 : decode cX1_next 19 = .ok (.goto (-19), 3) := dk_167 255 237 (dk_at dksX1_next_0 19 rfl rfl)
theorem dX1_next_22 : decode cX1_next 22 = .ok (.aload_n 0, 1) := dk_42 (dk_at dksX1_next_0 22 rfl rfl)
theorem dX1_next_23 : decode cX1_next 23 = .ok (.invokevirtual 134, 3) := dk_182 0 134 (dk_at dksX1_next_1 0 rfl rfl)
theorem dX1_next_26 : decode cX1_next 26 = .ok (.ireturn, 1) := dk_172 (dk_at dksX1_next_1 3 rfl rfl)
abbrev cX1_here : ByteArray := prog_1_method_7_code
def yX1_here : MethodName := ⟨RX1, "here", "()I"⟩
def dkwX1_here_1 : List UInt8 := [167, 0, 4, 2, 172]
abbrev dktX1_here_1 : List UInt8 := dkwX1_here_1 ++ []
def dkwX1_here_0 : List UInt8 := [42, 180, 0, 131, 42, 180, 0, 124, 162, 0, 19, 42, 180, 0, 43, 42, 180, 0, 131, 51, 17, 0, 255, 126]
abbrev dktX1_here_0 : List UInt8 := dkwX1_here_0 ++ dktX1_here_1
theorem dksX1_here_0 : cX1_here.data.toList.drop 0 = dktX1_here_0 := by decide +kernel
theorem dksX1_here_1 : cX1_here.data.toList.drop 24 = dktX1_here_1 := dk_seg dksX1_here_0 24 rfl rfl
theorem dX1_here_0 : decode cX1_here 0 = .ok (.aload_n 0, 1) := dk_42 (dk_at dksX1_here_0 0 rfl rfl)
theorem dX1_here_1 : decode cX1_here 1 = .ok (.getfield 131, 3) := dk_180 0 131 (dk_at dksX1_here_0 1 rfl rfl)
theorem dX1_here_4 : decode cX1_here 4 = .ok (.aload_n 0, 1) := dk_42 (dk_at dksX1_here_0 4 rfl rfl)
theorem dX1_here_5 : decode cX1_here 5 = .ok (.getfield 124, 3) := dk_180 0 124 (dk_at dksX1_here_0 5 rfl rfl)
theorem dX1_here_8 : decode cX1_here 8 = .ok (.if_icmp .ge 19, 3) := dk_162 0 19 (dk_at dksX1_here_0 8 rfl rfl)
theorem dX1_here_11 : decode cX1_here 11 = .ok (.aload_n 0, 1) := dk_42 (dk_at dksX1_here_0 11 rfl rfl)
theorem dX1_here_12 : decode cX1_here 12 = .ok (.getfield 43, 3) := dk_180 0 43 (dk_at dksX1_here_0 12 rfl rfl)
theorem dX1_here_15 : decode cX1_here 15 = .ok (.aload_n 0, 1) := dk_42 (dk_at dksX1_here_0 15 rfl rfl)
theorem dX1_here_16 : decode cX1_here 16 = .ok (.getfield 131, 3) := dk_180 0 131 (dk_at dksX1_here_0 16 rfl rfl)
theorem dX1_here_19 : decode cX1_here 19 = .ok (.baload, 1) := dk_51 (dk_at dksX1_here_0 19 rfl rfl)
theorem dX1_here_20 : decode cX1_here 20 = .ok (.sipush 255, 3) := dk_17 0 255 (dk_at dksX1_here_0 20 rfl rfl)
theorem dX1_here_23 : decode cX1_here 23 = .ok (.iand, 1) := dk_126 (dk_at dksX1_here_0 23 rfl rfl)
theorem dX1_here_24 : decode cX1_here 24 = .ok (.goto 4, 3) := dk_167 0 4 (dk_at dksX1_here_1 0 rfl rfl)
theorem dX1_here_27 : decode cX1_here 27 = .ok (.iconst (-1), 1) := dk_2 (dk_at dksX1_here_1 3 rfl rfl)
theorem dX1_here_28 : decode cX1_here 28 = .ok (.ireturn, 1) := dk_172 (dk_at dksX1_here_1 4 rfl rfl)
abbrev cX1_keyRead : ByteArray := prog_1_method_12_code
def yX1_keyRead : MethodName := ⟨RX1, "keyRead", "()I"⟩
def dkwX1_keyRead_0 : List UInt8 := [42, 182, 0, 146, 87, 42, 182, 0, 149, 172]
abbrev dktX1_keyRead_0 : List UInt8 := dkwX1_keyRead_0 ++ []
theorem dksX1_keyRead_0 : cX1_keyRead.data.toList.drop 0 = dktX1_keyRead_0 := by decide +kernel
theorem dX1_keyRead_0 : decode cX1_keyRead 0 = .ok (.aload_n 0, 1) := dk_42 (dk_at dksX1_keyRead_0 0 rfl rfl)
theorem dX1_keyRead_1 : decode cX1_keyRead 1 = .ok (.invokevirtual 146, 3) := dk_182 0 146 (dk_at dksX1_keyRead_0 1 rfl rfl)
theorem dX1_keyRead_4 : decode cX1_keyRead 4 = .ok (.pop, 1) := dk_87 (dk_at dksX1_keyRead_0 4 rfl rfl)
theorem dX1_keyRead_5 : decode cX1_keyRead 5 = .ok (.aload_n 0, 1) := dk_42 (dk_at dksX1_keyRead_0 5 rfl rfl)
theorem dX1_keyRead_6 : decode cX1_keyRead 6 = .ok (.invokevirtual 149, 3) := dk_182 0 149 (dk_at dksX1_keyRead_0 6 rfl rfl)
theorem dX1_keyRead_9 : decode cX1_keyRead 9 = .ok (.ireturn, 1) := dk_172 (dk_at dksX1_keyRead_0 9 rfl rfl)
abbrev cX1_digits : ByteArray := prog_1_method_11_code
def yX1_digits : MethodName := ⟨RX1, "digits", "()I"⟩
def dkwX1_digits_3 : List UInt8 := [27, 172]
abbrev dktX1_digits_3 : List UInt8 := dkwX1_digits_3 ++ []
def dkwX1_digits_2 : List UInt8 := [182, 0, 134, 96, 16, 48, 100, 60, 42, 89, 180, 0, 131, 4, 96, 181, 0, 131, 132, 2, 1, 167, 255, 206]
abbrev dktX1_digits_2 : List UInt8 := dkwX1_digits_2 ++ dktX1_digits_3
def dkwX1_digits_1 : List UInt8 := [153, 0, 46, 42, 28, 6, 162, 0, 7, 4, 167, 0, 4, 3, 182, 0, 142, 16, 10, 27, 104, 42]
abbrev dktX1_digits_1 : List UInt8 := dkwX1_digits_1 ++ dktX1_digits_2
def dkwX1_digits_0 : List UInt8 := [42, 42, 182, 0, 134, 184, 0, 138, 182, 0, 142, 3, 60, 3, 61, 42, 182, 0, 134, 184, 0, 138]
abbrev dktX1_digits_0 : List UInt8 := dkwX1_digits_0 ++ dktX1_digits_1
theorem dksX1_digits_0 : cX1_digits.data.toList.drop 0 = dktX1_digits_0 := by decide +kernel
theorem dksX1_digits_1 : cX1_digits.data.toList.drop 22 = dktX1_digits_1 := dk_seg dksX1_digits_0 22 rfl rfl
theorem dksX1_digits_2 : cX1_digits.data.toList.drop 44 = dktX1_digits_2 := dk_seg dksX1_digits_1 22 rfl rfl
theorem dksX1_digits_3 : cX1_digits.data.toList.drop 68 = dktX1_digits_3 := dk_seg dksX1_digits_2 24 rfl rfl
theorem dX1_digits_0 : decode cX1_digits 0 = .ok (.aload_n 0, 1) := dk_42 (dk_at dksX1_digits_0 0 rfl rfl)
theorem dX1_digits_1 : decode cX1_digits 1 = .ok (.aload_n 0, 1) := dk_42 (dk_at dksX1_digits_0 1 rfl rfl)
theorem dX1_digits_2 : decode cX1_digits 2 = .ok (.invokevirtual 134, 3) := dk_182 0 134 (dk_at dksX1_digits_0 2 rfl rfl)
theorem dX1_digits_5 : decode cX1_digits 5 = .ok (.invokestatic 138, 3) := dk_184 0 138 (dk_at dksX1_digits_0 5 rfl rfl)
theorem dX1_digits_8 : decode cX1_digits 8 = .ok (.invokevirtual 142, 3) := dk_182 0 142 (dk_at dksX1_digits_0 8 rfl rfl)
theorem dX1_digits_11 : decode cX1_digits 11 = .ok (.iconst 0, 1) := dk_3 (dk_at dksX1_digits_0 11 rfl rfl)
theorem dX1_digits_12 : decode cX1_digits 12 = .ok (.istore_n 1, 1) := dk_60 (dk_at dksX1_digits_0 12 rfl rfl)
theorem dX1_digits_13 : decode cX1_digits 13 = .ok (.iconst 0, 1) := dk_3 (dk_at dksX1_digits_0 13 rfl rfl)
theorem dX1_digits_14 : decode cX1_digits 14 = .ok (.istore_n 2, 1) := dk_61 (dk_at dksX1_digits_0 14 rfl rfl)
theorem dX1_digits_15 : decode cX1_digits 15 = .ok (.aload_n 0, 1) := dk_42 (dk_at dksX1_digits_0 15 rfl rfl)
theorem dX1_digits_16 : decode cX1_digits 16 = .ok (.invokevirtual 134, 3) := dk_182 0 134 (dk_at dksX1_digits_0 16 rfl rfl)
theorem dX1_digits_19 : decode cX1_digits 19 = .ok (.invokestatic 138, 3) := dk_184 0 138 (dk_at dksX1_digits_0 19 rfl rfl)
theorem dX1_digits_22 : decode cX1_digits 22 = .ok (.ifCond .eq 46, 3) := dk_153 0 46 (dk_at dksX1_digits_1 0 rfl rfl)
theorem dX1_digits_25 : decode cX1_digits 25 = .ok (.aload_n 0, 1) := dk_42 (dk_at dksX1_digits_1 3 rfl rfl)
theorem dX1_digits_26 : decode cX1_digits 26 = .ok (.iload_n 2, 1) := dk_28 (dk_at dksX1_digits_1 4 rfl rfl)
theorem dX1_digits_27 : decode cX1_digits 27 = .ok (.iconst 3, 1) := dk_6 (dk_at dksX1_digits_1 5 rfl rfl)
theorem dX1_digits_28 : decode cX1_digits 28 = .ok (.if_icmp .ge 7, 3) := dk_162 0 7 (dk_at dksX1_digits_1 6 rfl rfl)
theorem dX1_digits_31 : decode cX1_digits 31 = .ok (.iconst 1, 1) := dk_4 (dk_at dksX1_digits_1 9 rfl rfl)
theorem dX1_digits_32 : decode cX1_digits 32 = .ok (.goto 4, 3) := dk_167 0 4 (dk_at dksX1_digits_1 10 rfl rfl)
theorem dX1_digits_35 : decode cX1_digits 35 = .ok (.iconst 0, 1) := dk_3 (dk_at dksX1_digits_1 13 rfl rfl)
theorem dX1_digits_36 : decode cX1_digits 36 = .ok (.invokevirtual 142, 3) := dk_182 0 142 (dk_at dksX1_digits_1 14 rfl rfl)
theorem dX1_digits_39 : decode cX1_digits 39 = .ok (.bipush 10, 2) := dk_16 10 (dk_at dksX1_digits_1 17 rfl rfl)
theorem dX1_digits_41 : decode cX1_digits 41 = .ok (.iload_n 1, 1) := dk_27 (dk_at dksX1_digits_1 19 rfl rfl)
theorem dX1_digits_42 : decode cX1_digits 42 = .ok (.imul, 1) := dk_104 (dk_at dksX1_digits_1 20 rfl rfl)
theorem dX1_digits_43 : decode cX1_digits 43 = .ok (.aload_n 0, 1) := dk_42 (dk_at dksX1_digits_1 21 rfl rfl)
theorem dX1_digits_44 : decode cX1_digits 44 = .ok (.invokevirtual 134, 3) := dk_182 0 134 (dk_at dksX1_digits_2 0 rfl rfl)
theorem dX1_digits_47 : decode cX1_digits 47 = .ok (.iadd, 1) := dk_96 (dk_at dksX1_digits_2 3 rfl rfl)
theorem dX1_digits_48 : decode cX1_digits 48 = .ok (.bipush 48, 2) := dk_16 48 (dk_at dksX1_digits_2 4 rfl rfl)
theorem dX1_digits_50 : decode cX1_digits 50 = .ok (.isub, 1) := dk_100 (dk_at dksX1_digits_2 6 rfl rfl)
theorem dX1_digits_51 : decode cX1_digits 51 = .ok (.istore_n 1, 1) := dk_60 (dk_at dksX1_digits_2 7 rfl rfl)
theorem dX1_digits_52 : decode cX1_digits 52 = .ok (.aload_n 0, 1) := dk_42 (dk_at dksX1_digits_2 8 rfl rfl)
theorem dX1_digits_53 : decode cX1_digits 53 = .ok (.dup, 1) := dk_89 (dk_at dksX1_digits_2 9 rfl rfl)
theorem dX1_digits_54 : decode cX1_digits 54 = .ok (.getfield 131, 3) := dk_180 0 131 (dk_at dksX1_digits_2 10 rfl rfl)
theorem dX1_digits_57 : decode cX1_digits 57 = .ok (.iconst 1, 1) := dk_4 (dk_at dksX1_digits_2 13 rfl rfl)
theorem dX1_digits_58 : decode cX1_digits 58 = .ok (.iadd, 1) := dk_96 (dk_at dksX1_digits_2 14 rfl rfl)
theorem dX1_digits_59 : decode cX1_digits 59 = .ok (.putfield 131, 3) := dk_181 0 131 (dk_at dksX1_digits_2 15 rfl rfl)
theorem dX1_digits_62 : decode cX1_digits 62 = .ok (.iinc 2 1, 3) := dk_132 2 1 (dk_at dksX1_digits_2 18 rfl rfl)
theorem dX1_digits_65 : decode cX1_digits 65 = .ok (.goto (-50), 3) := dk_167 255 206 (dk_at dksX1_digits_2 21 rfl rfl)
theorem dX1_digits_68 : decode cX1_digits 68 = .ok (.iload_n 1, 1) := dk_27 (dk_at dksX1_digits_3 0 rfl rfl)
theorem dX1_digits_69 : decode cX1_digits 69 = .ok (.ireturn, 1) := dk_172 (dk_at dksX1_digits_3 1 rfl rfl)
abbrev cX1_isDigit : ByteArray := prog_1_method_9_code
def yX1_isDigit : MethodName := ⟨RX1, "isDigit", "(I)Z"⟩
def dkwX1_isDigit_0 : List UInt8 := [26, 16, 48, 16, 57, 184, 0, 127, 172]
abbrev dktX1_isDigit_0 : List UInt8 := dkwX1_isDigit_0 ++ []
theorem dksX1_isDigit_0 : cX1_isDigit.data.toList.drop 0 = dktX1_isDigit_0 := by decide +kernel
theorem dX1_isDigit_0 : decode cX1_isDigit 0 = .ok (.iload_n 0, 1) := dk_26 (dk_at dksX1_isDigit_0 0 rfl rfl)
theorem dX1_isDigit_1 : decode cX1_isDigit 1 = .ok (.bipush 48, 2) := dk_16 48 (dk_at dksX1_isDigit_0 1 rfl rfl)
theorem dX1_isDigit_3 : decode cX1_isDigit 3 = .ok (.bipush 57, 2) := dk_16 57 (dk_at dksX1_isDigit_0 3 rfl rfl)
theorem dX1_isDigit_5 : decode cX1_isDigit 5 = .ok (.invokestatic 127, 3) := dk_184 0 127 (dk_at dksX1_isDigit_0 5 rfl rfl)
theorem dX1_isDigit_8 : decode cX1_isDigit 8 = .ok (.ireturn, 1) := dk_172 (dk_at dksX1_isDigit_0 8 rfl rfl)
abbrev cX1_must : ByteArray := prog_1_method_10_code
def yX1_must : MethodName := ⟨RX1, "must", "(Z)V"⟩
def dkwX1_must_0 : List UInt8 := [27, 154, 0, 8, 42, 180, 0, 39, 191, 177]
abbrev dktX1_must_0 : List UInt8 := dkwX1_must_0 ++ []
theorem dksX1_must_0 : cX1_must.data.toList.drop 0 = dktX1_must_0 := by decide +kernel
theorem dX1_must_0 : decode cX1_must 0 = .ok (.iload_n 1, 1) := dk_27 (dk_at dksX1_must_0 0 rfl rfl)
theorem dX1_must_1 : decode cX1_must 1 = .ok (.ifCond .ne 8, 3) := dk_154 0 8 (dk_at dksX1_must_0 1 rfl rfl)
theorem dX1_must_4 : decode cX1_must 4 = .ok (.aload_n 0, 1) := dk_42 (dk_at dksX1_must_0 4 rfl rfl)
theorem dX1_must_5 : decode cX1_must 5 = .ok (.getfield 39, 3) := dk_180 0 39 (dk_at dksX1_must_0 5 rfl rfl)
theorem dX1_must_8 : decode cX1_must 8 = .ok (.athrow, 1) := dk_191 (dk_at dksX1_must_0 8 rfl rfl)
theorem dX1_must_9 : decode cX1_must 9 = .ok (.return_, 1) := dk_177 (dk_at dksX1_must_0 9 rfl rfl)
abbrev cX1_valueRead : ByteArray := prog_1_method_13_code
def yX1_valueRead : MethodName := ⟨RX1, "valueRead", "()I"⟩
def dkwX1_valueRead_1 : List UInt8 := [42, 182, 0, 149, 116, 172]
abbrev dktX1_valueRead_1 : List UInt8 := dkwX1_valueRead_1 ++ []
def dkwX1_valueRead_0 : List UInt8 := [42, 182, 0, 146, 16, 45, 159, 0, 8, 42, 182, 0, 149, 172, 42, 89, 180, 0, 131, 4, 96, 181, 0, 131]
abbrev dktX1_valueRead_0 : List UInt8 := dkwX1_valueRead_0 ++ dktX1_valueRead_1
theorem dksX1_valueRead_0 : cX1_valueRead.data.toList.drop 0 = dktX1_valueRead_0 := by decide +kernel
theorem dksX1_valueRead_1 : cX1_valueRead.data.toList.drop 24 = dktX1_valueRead_1 := dk_seg dksX1_valueRead_0 24 rfl rfl
theorem dX1_valueRead_0 : decode cX1_valueRead 0 = .ok (.aload_n 0, 1) := dk_42 (dk_at dksX1_valueRead_0 0 rfl rfl)
theorem dX1_valueRead_1 : decode cX1_valueRead 1 = .ok (.invokevirtual 146, 3) := dk_182 0 146 (dk_at dksX1_valueRead_0 1 rfl rfl)
theorem dX1_valueRead_4 : decode cX1_valueRead 4 = .ok (.bipush 45, 2) := dk_16 45 (dk_at dksX1_valueRead_0 4 rfl rfl)
theorem dX1_valueRead_6 : decode cX1_valueRead 6 = .ok (.if_icmp .eq 8, 3) := dk_159 0 8 (dk_at dksX1_valueRead_0 6 rfl rfl)
theorem dX1_valueRead_9 : decode cX1_valueRead 9 = .ok (.aload_n 0, 1) := dk_42 (dk_at dksX1_valueRead_0 9 rfl rfl)
theorem dX1_valueRead_10 : decode cX1_valueRead 10 = .ok (.invokevirtual 149, 3) := dk_182 0 149 (dk_at dksX1_valueRead_0 10 rfl rfl)
theorem dX1_valueRead_13 : decode cX1_valueRead 13 = .ok (.ireturn, 1) := dk_172 (dk_at dksX1_valueRead_0 13 rfl rfl)
theorem dX1_valueRead_14 : decode cX1_valueRead 14 = .ok (.aload_n 0, 1) := dk_42 (dk_at dksX1_valueRead_0 14 rfl rfl)
theorem dX1_valueRead_15 : decode cX1_valueRead 15 = .ok (.dup, 1) := dk_89 (dk_at dksX1_valueRead_0 15 rfl rfl)
theorem dX1_valueRead_16 : decode cX1_valueRead 16 = .ok (.getfield 131, 3) := dk_180 0 131 (dk_at dksX1_valueRead_0 16 rfl rfl)
theorem dX1_valueRead_19 : decode cX1_valueRead 19 = .ok (.iconst 1, 1) := dk_4 (dk_at dksX1_valueRead_0 19 rfl rfl)
theorem dX1_valueRead_20 : decode cX1_valueRead 20 = .ok (.iadd, 1) := dk_96 (dk_at dksX1_valueRead_0 20 rfl rfl)
theorem dX1_valueRead_21 : decode cX1_valueRead 21 = .ok (.putfield 131, 3) := dk_181 0 131 (dk_at dksX1_valueRead_0 21 rfl rfl)
theorem dX1_valueRead_24 : decode cX1_valueRead 24 = .ok (.aload_n 0, 1) := dk_42 (dk_at dksX1_valueRead_1 0 rfl rfl)
theorem dX1_valueRead_25 : decode cX1_valueRead 25 = .ok (.invokevirtual 149, 3) := dk_182 0 149 (dk_at dksX1_valueRead_1 1 rfl rfl)
theorem dX1_valueRead_28 : decode cX1_valueRead 28 = .ok (.ineg, 1) := dk_116 (dk_at dksX1_valueRead_1 4 rfl rfl)
theorem dX1_valueRead_29 : decode cX1_valueRead 29 = .ok (.ireturn, 1) := dk_172 (dk_at dksX1_valueRead_1 5 rfl rfl)
abbrev cX1_wholeProgram : ByteArray := prog_1_method_17_code
def yX1_wholeProgram : MethodName := ⟨RX1, "wholeProgram", "(I)V"⟩
def dkwX1_wholeProgram_4 : List UInt8 := [160, 0, 7, 4, 167, 0, 4, 3, 182, 0, 142, 177]
abbrev dktX1_wholeProgram_4 : List UInt8 := dkwX1_wholeProgram_4 ++ []
def dkwX1_wholeProgram_3 : List UInt8 := [61, 28, 153, 255, 198, 42, 89, 180, 0, 131, 4, 96, 181, 0, 131, 167, 255, 185, 42, 42, 182, 0, 146, 2]
abbrev dktX1_wholeProgram_3 : List UInt8 := dkwX1_wholeProgram_3 ++ dktX1_wholeProgram_4
def dkwX1_wholeProgram_2 : List UInt8 := [182, 0, 146, 16, 59, 160, 0, 18, 42, 180, 0, 51, 27, 46, 16, 16, 162, 0, 7, 4, 167, 0, 4, 3]
abbrev dktX1_wholeProgram_2 : List UInt8 := dkwX1_wholeProgram_2 ++ dktX1_wholeProgram_3
def dkwX1_wholeProgram_1 : List UInt8 := [42, 180, 0, 51, 27, 46, 96, 104, 182, 0, 187, 42, 180, 0, 51, 27, 92, 46, 4, 96, 79, 42]
abbrev dktX1_wholeProgram_1 : List UInt8 := dkwX1_wholeProgram_1 ++ dktX1_wholeProgram_2
def dkwX1_wholeProgram_0 : List UInt8 := [42, 3, 181, 0, 131, 42, 180, 0, 51, 27, 3, 79, 4, 61, 28, 153, 0, 73, 42, 7, 16, 16, 27, 104]
abbrev dktX1_wholeProgram_0 : List UInt8 := dkwX1_wholeProgram_0 ++ dktX1_wholeProgram_1
theorem dksX1_wholeProgram_0 : cX1_wholeProgram.data.toList.drop 0 = dktX1_wholeProgram_0 := by decide +kernel
theorem dksX1_wholeProgram_1 : cX1_wholeProgram.data.toList.drop 24 = dktX1_wholeProgram_1 := dk_seg dksX1_wholeProgram_0 24 rfl rfl
theorem dksX1_wholeProgram_2 : cX1_wholeProgram.data.toList.drop 46 = dktX1_wholeProgram_2 := dk_seg dksX1_wholeProgram_1 22 rfl rfl
theorem dksX1_wholeProgram_3 : cX1_wholeProgram.data.toList.drop 70 = dktX1_wholeProgram_3 := dk_seg dksX1_wholeProgram_2 24 rfl rfl
theorem dksX1_wholeProgram_4 : cX1_wholeProgram.data.toList.drop 94 = dktX1_wholeProgram_4 := dk_seg dksX1_wholeProgram_3 24 rfl rfl
theorem dX1_wholeProgram_0 : decode cX1_wholeProgram 0 = .ok (.aload_n 0, 1) := dk_42 (dk_at dksX1_wholeProgram_0 0 rfl rfl)
theorem dX1_wholeProgram_1 : decode cX1_wholeProgram 1 = .ok (.iconst 0, 1) := dk_3 (dk_at dksX1_wholeProgram_0 1 rfl rfl)
theorem dX1_wholeProgram_2 : decode cX1_wholeProgram 2 = .ok (.putfield 131, 3) := dk_181 0 131 (dk_at dksX1_wholeProgram_0 2 rfl rfl)
theorem dX1_wholeProgram_5 : decode cX1_wholeProgram 5 = .ok (.aload_n 0, 1) := dk_42 (dk_at dksX1_wholeProgram_0 5 rfl rfl)
theorem dX1_wholeProgram_6 : decode cX1_wholeProgram 6 = .ok (.getfield 51, 3) := dk_180 0 51 (dk_at dksX1_wholeProgram_0 6 rfl rfl)
theorem dX1_wholeProgram_9 : decode cX1_wholeProgram 9 = .ok (.iload_n 1, 1) := dk_27 (dk_at dksX1_wholeProgram_0 9 rfl rfl)
theorem dX1_wholeProgram_10 : decode cX1_wholeProgram 10 = .ok (.iconst 0, 1) := dk_3 (dk_at dksX1_wholeProgram_0 10 rfl rfl)
theorem dX1_wholeProgram_11 : decode cX1_wholeProgram 11 = .ok (.iastore, 1) := dk_79 (dk_at dksX1_wholeProgram_0 11 rfl rfl)
theorem dX1_wholeProgram_12 : decode cX1_wholeProgram 12 = .ok (.iconst 1, 1) := dk_4 (dk_at dksX1_wholeProgram_0 12 rfl rfl)
theorem dX1_wholeProgram_13 : decode cX1_wholeProgram 13 = .ok (.istore_n 2, 1) := dk_61 (dk_at dksX1_wholeProgram_0 13 rfl rfl)
theorem dX1_wholeProgram_14 : decode cX1_wholeProgram 14 = .ok (.iload_n 2, 1) := dk_28 (dk_at dksX1_wholeProgram_0 14 rfl rfl)
theorem dX1_wholeProgram_15 : decode cX1_wholeProgram 15 = .ok (.ifCond .eq 73, 3) := dk_153 0 73 (dk_at dksX1_wholeProgram_0 15 rfl rfl)
theorem dX1_wholeProgram_18 : decode cX1_wholeProgram 18 = .ok (.aload_n 0, 1) := dk_42 (dk_at dksX1_wholeProgram_0 18 rfl rfl)
theorem dX1_wholeProgram_19 : decode cX1_wholeProgram 19 = .ok (.iconst 4, 1) := dk_7 (dk_at dksX1_wholeProgram_0 19 rfl rfl)
theorem dX1_wholeProgram_20 : decode cX1_wholeProgram 20 = .ok (.bipush 16, 2) := dk_16 16 (dk_at dksX1_wholeProgram_0 20 rfl rfl)
theorem dX1_wholeProgram_22 : decode cX1_wholeProgram 22 = .ok (.iload_n 1, 1) := dk_27 (dk_at dksX1_wholeProgram_0 22 rfl rfl)
theorem dX1_wholeProgram_23 : decode cX1_wholeProgram 23 = .ok (.imul, 1) := dk_104 (dk_at dksX1_wholeProgram_0 23 rfl rfl)
theorem dX1_wholeProgram_24 : decode cX1_wholeProgram 24 = .ok (.aload_n 0, 1) := dk_42 (dk_at dksX1_wholeProgram_1 0 rfl rfl)
theorem dX1_wholeProgram_25 : decode cX1_wholeProgram 25 = .ok (.getfield 51, 3) := dk_180 0 51 (dk_at dksX1_wholeProgram_1 1 rfl rfl)
theorem dX1_wholeProgram_28 : decode cX1_wholeProgram 28 = .ok (.iload_n 1, 1) := dk_27 (dk_at dksX1_wholeProgram_1 4 rfl rfl)
theorem dX1_wholeProgram_29 : decode cX1_wholeProgram 29 = .ok (.iaload, 1) := dk_46 (dk_at dksX1_wholeProgram_1 5 rfl rfl)
theorem dX1_wholeProgram_30 : decode cX1_wholeProgram 30 = .ok (.iadd, 1) := dk_96 (dk_at dksX1_wholeProgram_1 6 rfl rfl)
theorem dX1_wholeProgram_31 : decode cX1_wholeProgram 31 = .ok (.imul, 1) := dk_104 (dk_at dksX1_wholeProgram_1 7 rfl rfl)
theorem dX1_wholeProgram_32 : decode cX1_wholeProgram 32 = .ok (.invokevirtual 187, 3) := dk_182 0 187 (dk_at dksX1_wholeProgram_1 8 rfl rfl)
theorem dX1_wholeProgram_35 : decode cX1_wholeProgram 35 = .ok (.aload_n 0, 1) := dk_42 (dk_at dksX1_wholeProgram_1 11 rfl rfl)
theorem dX1_wholeProgram_36 : decode cX1_wholeProgram 36 = .ok (.getfield 51, 3) := dk_180 0 51 (dk_at dksX1_wholeProgram_1 12 rfl rfl)
theorem dX1_wholeProgram_39 : decode cX1_wholeProgram 39 = .ok (.iload_n 1, 1) := dk_27 (dk_at dksX1_wholeProgram_1 15 rfl rfl)
theorem dX1_wholeProgram_40 : decode cX1_wholeProgram 40 = .ok (.dup2, 1) := dk_92 (dk_at dksX1_wholeProgram_1 16 rfl rfl)
theorem dX1_wholeProgram_41 : decode cX1_wholeProgram 41 = .ok (.iaload, 1) := dk_46 (dk_at dksX1_wholeProgram_1 17 rfl rfl)
theorem dX1_wholeProgram_42 : decode cX1_wholeProgram 42 = .ok (.iconst 1, 1) := dk_4 (dk_at dksX1_wholeProgram_1 18 rfl rfl)
theorem dX1_wholeProgram_43 : decode cX1_wholeProgram 43 = .ok (.iadd, 1) := dk_96 (dk_at dksX1_wholeProgram_1 19 rfl rfl)
theorem dX1_wholeProgram_44 : decode cX1_wholeProgram 44 = .ok (.iastore, 1) := dk_79 (dk_at dksX1_wholeProgram_1 20 rfl rfl)
theorem dX1_wholeProgram_45 : decode cX1_wholeProgram 45 = .ok (.aload_n 0, 1) := dk_42 (dk_at dksX1_wholeProgram_1 21 rfl rfl)
theorem dX1_wholeProgram_46 : decode cX1_wholeProgram 46 = .ok (.invokevirtual 146, 3) := dk_182 0 146 (dk_at dksX1_wholeProgram_2 0 rfl rfl)
theorem dX1_wholeProgram_49 : decode cX1_wholeProgram 49 = .ok (.bipush 59, 2) := dk_16 59 (dk_at dksX1_wholeProgram_2 3 rfl rfl)
theorem dX1_wholeProgram_51 : decode cX1_wholeProgram 51 = .ok (.if_icmp .ne 18, 3) := dk_160 0 18 (dk_at dksX1_wholeProgram_2 5 rfl rfl)
theorem dX1_wholeProgram_54 : decode cX1_wholeProgram 54 = .ok (.aload_n 0, 1) := dk_42 (dk_at dksX1_wholeProgram_2 8 rfl rfl)
theorem dX1_wholeProgram_55 : decode cX1_wholeProgram 55 = .ok (.getfield 51, 3) := dk_180 0 51 (dk_at dksX1_wholeProgram_2 9 rfl rfl)
theorem dX1_wholeProgram_58 : decode cX1_wholeProgram 58 = .ok (.iload_n 1, 1) := dk_27 (dk_at dksX1_wholeProgram_2 12 rfl rfl)
theorem dX1_wholeProgram_59 : decode cX1_wholeProgram 59 = .ok (.iaload, 1) := dk_46 (dk_at dksX1_wholeProgram_2 13 rfl rfl)
theorem dX1_wholeProgram_60 : decode cX1_wholeProgram 60 = .ok (.bipush 16, 2) := dk_16 16 (dk_at dksX1_wholeProgram_2 14 rfl rfl)
theorem dX1_wholeProgram_62 : decode cX1_wholeProgram 62 = .ok (.if_icmp .ge 7, 3) := dk_162 0 7 (dk_at dksX1_wholeProgram_2 16 rfl rfl)
theorem dX1_wholeProgram_65 : decode cX1_wholeProgram 65 = .ok (.iconst 1, 1) := dk_4 (dk_at dksX1_wholeProgram_2 19 rfl rfl)
theorem dX1_wholeProgram_66 : decode cX1_wholeProgram 66 = .ok (.goto 4, 3) := dk_167 0 4 (dk_at dksX1_wholeProgram_2 20 rfl rfl)
theorem dX1_wholeProgram_69 : decode cX1_wholeProgram 69 = .ok (.iconst 0, 1) := dk_3 (dk_at dksX1_wholeProgram_2 23 rfl rfl)
theorem dX1_wholeProgram_70 : decode cX1_wholeProgram 70 = .ok (.istore_n 2, 1) := dk_61 (dk_at dksX1_wholeProgram_3 0 rfl rfl)
theorem dX1_wholeProgram_71 : decode cX1_wholeProgram 71 = .ok (.iload_n 2, 1) := dk_28 (dk_at dksX1_wholeProgram_3 1 rfl rfl)
theorem dX1_wholeProgram_72 : decode cX1_wholeProgram 72 = .ok (.ifCond .eq (-58), 3) := dk_153 255 198 (dk_at dksX1_wholeProgram_3 2 rfl rfl)
theorem dX1_wholeProgram_75 : decode cX1_wholeProgram 75 = .ok (.aload_n 0, 1) := dk_42 (dk_at dksX1_wholeProgram_3 5 rfl rfl)
theorem dX1_wholeProgram_76 : decode cX1_wholeProgram 76 = .ok (.dup, 1) := dk_89 (dk_at dksX1_wholeProgram_3 6 rfl rfl)
theorem dX1_wholeProgram_77 : decode cX1_wholeProgram 77 = .ok (.getfield 131, 3) := dk_180 0 131 (dk_at dksX1_wholeProgram_3 7 rfl rfl)
theorem dX1_wholeProgram_80 : decode cX1_wholeProgram 80 = .ok (.iconst 1, 1) := dk_4 (dk_at dksX1_wholeProgram_3 10 rfl rfl)
theorem dX1_wholeProgram_81 : decode cX1_wholeProgram 81 = .ok (.iadd, 1) := dk_96 (dk_at dksX1_wholeProgram_3 11 rfl rfl)
theorem dX1_wholeProgram_82 : decode cX1_wholeProgram 82 = .ok (.putfield 131, 3) := dk_181 0 131 (dk_at dksX1_wholeProgram_3 12 rfl rfl)
theorem dX1_wholeProgram_85 : decode cX1_wholeProgram 85 = .ok (.goto (-71), 3) := dk_167 255 185 (dk_at dksX1_wholeProgram_3 15 rfl rfl)
theorem dX1_wholeProgram_88 : decode cX1_wholeProgram 88 = .ok (.aload_n 0, 1) := dk_42 (dk_at dksX1_wholeProgram_3 18 rfl rfl)
theorem dX1_wholeProgram_89 : decode cX1_wholeProgram 89 = .ok (.aload_n 0, 1) := dk_42 (dk_at dksX1_wholeProgram_3 19 rfl rfl)
theorem dX1_wholeProgram_90 : decode cX1_wholeProgram 90 = .ok (.invokevirtual 146, 3) := dk_182 0 146 (dk_at dksX1_wholeProgram_3 20 rfl rfl)
theorem dX1_wholeProgram_93 : decode cX1_wholeProgram 93 = .ok (.iconst (-1), 1) := dk_2 (dk_at dksX1_wholeProgram_3 23 rfl rfl)
theorem dX1_wholeProgram_94 : decode cX1_wholeProgram 94 = .ok (.if_icmp .ne 7, 3) := dk_160 0 7 (dk_at dksX1_wholeProgram_4 0 rfl rfl)
theorem dX1_wholeProgram_97 : decode cX1_wholeProgram 97 = .ok (.iconst 1, 1) := dk_4 (dk_at dksX1_wholeProgram_4 3 rfl rfl)
theorem dX1_wholeProgram_98 : decode cX1_wholeProgram 98 = .ok (.goto 4, 3) := dk_167 0 4 (dk_at dksX1_wholeProgram_4 4 rfl rfl)
theorem dX1_wholeProgram_101 : decode cX1_wholeProgram 101 = .ok (.iconst 0, 1) := dk_3 (dk_at dksX1_wholeProgram_4 7 rfl rfl)
theorem dX1_wholeProgram_102 : decode cX1_wholeProgram 102 = .ok (.invokevirtual 142, 3) := dk_182 0 142 (dk_at dksX1_wholeProgram_4 8 rfl rfl)
theorem dX1_wholeProgram_105 : decode cX1_wholeProgram 105 = .ok (.return_, 1) := dk_177 (dk_at dksX1_wholeProgram_4 11 rfl rfl)
abbrev cX1_stepRead : ByteArray := prog_1_method_16_code
def yX1_stepRead : MethodName := ⟨RX1, "stepRead", "(I)V"⟩
def dkwX1_stepRead_14 : List UInt8 := [8, 79, 177]
abbrev dktX1_stepRead_14 : List UInt8 := dkwX1_stepRead_14 ++ []
def dkwX1_stepRead_13 : List UInt8 := [182, 0, 181, 79, 42, 180, 0, 47, 27, 6, 96, 42, 182, 0, 184, 79, 167, 0, 10, 42, 180, 0, 47, 27]
abbrev dktX1_stepRead_13 : List UInt8 := dkwX1_stepRead_13 ++ dktX1_stepRead_14
def dkwX1_stepRead_12 : List UInt8 := [7, 79, 42, 180, 0, 47, 27, 4, 96, 42, 182, 0, 181, 79, 42, 180, 0, 47, 27, 5, 96, 42]
abbrev dktX1_stepRead_12 : List UInt8 := dkwX1_stepRead_12 ++ dktX1_stepRead_13
def dkwX1_stepRead_11 : List UInt8 := [182, 0, 181, 79, 42, 180, 0, 47, 27, 5, 96, 42, 182, 0, 181, 79, 167, 0, 56, 42, 180, 0, 47, 27]
abbrev dktX1_stepRead_11 : List UInt8 := dkwX1_stepRead_11 ++ dktX1_stepRead_12
def dkwX1_stepRead_10 : List UInt8 := [182, 0, 181, 79, 167, 0, 90, 42, 180, 0, 47, 27, 6, 79, 42, 180, 0, 47, 27, 4, 96, 42]
abbrev dktX1_stepRead_10 : List UInt8 := dkwX1_stepRead_10 ++ dktX1_stepRead_11
def dkwX1_stepRead_9 : List UInt8 := [42, 182, 0, 184, 79, 167, 0, 112, 42, 180, 0, 47, 27, 4, 79, 42, 180, 0, 47, 27, 4, 96, 42]
abbrev dktX1_stepRead_9 : List UInt8 := dkwX1_stepRead_9 ++ dktX1_stepRead_10
def dkwX1_stepRead_8 : List UInt8 := [167, 0, 4, 5, 79, 42, 180, 0, 47, 27, 4, 96, 42, 182, 0, 181, 79, 42, 180, 0, 47, 27, 5, 96]
abbrev dktX1_stepRead_8 : List UInt8 := dkwX1_stepRead_8 ++ dktX1_stepRead_9
def dkwX1_stepRead_7 : List UInt8 := [42, 180, 0, 47, 27, 42, 180, 0, 43, 42, 180, 0, 131, 4, 100, 51, 16, 116, 160, 0, 7, 3]
abbrev dktX1_stepRead_7 : List UInt8 := dkwX1_stepRead_7 ++ dktX1_stepRead_8
def dkwX1_stepRead_6 : List UInt8 := [170, 0, 0, 0, 0, 0, 0, 192, 0, 0, 0, 0, 0, 0, 0, 4, 0, 0, 0, 36, 0, 0, 0, 36, 0, 0, 0, 90, 0, 0, 0, 112, 0, 0, 0, 146]
abbrev dktX1_stepRead_6 : List UInt8 := dkwX1_stepRead_6 ++ dktX1_stepRead_7
def dkwX1_stepRead_5 : List UInt8 := [153, 0, 19, 6, 62, 167, 0, 14, 44, 18, 28, 182, 0, 170, 153, 0, 5, 7, 62, 29]
abbrev dktX1_stepRead_5 : List UInt8 := dkwX1_stepRead_5 ++ dktX1_stepRead_6
def dkwX1_stepRead_4 : List UInt8 := [62, 167, 0, 42, 44, 18, 22, 182, 0, 170, 153, 0, 33, 5, 62, 167, 0, 28, 44, 18, 26, 182, 0, 170]
abbrev dktX1_stepRead_4 : List UInt8 := dkwX1_stepRead_4 ++ dktX1_stepRead_5
def dkwX1_stepRead_3 : List UInt8 := [44, 18, 20, 182, 0, 170, 153, 0, 61, 3, 62, 167, 0, 56, 44, 18, 24, 182, 0, 170, 153, 0, 47, 4]
abbrev dktX1_stepRead_3 : List UInt8 := dkwX1_stepRead_3 ++ dktX1_stepRead_4
def dkwX1_stepRead_2 : List UInt8 := [171, 0, 0, 0, 0, 117, 0, 0, 0, 5, 0, 1, 120, 161, 0, 0, 0, 64, 0, 1, 130, 66, 0, 0, 0, 92, 0, 1, 132, 11, 0, 0, 0, 78, 0, 1, 151, 222, 0, 0, 0, 106, 0, 1, 179, 15, 0, 0, 0, 50]
abbrev dktX1_stepRead_2 : List UInt8 := dkwX1_stepRead_2 ++ dktX1_stepRead_3
def dkwX1_stepRead_1 : List UInt8 := [182, 0, 175, 77, 2, 62, 44, 182, 0, 178]
abbrev dktX1_stepRead_1 : List UInt8 := dkwX1_stepRead_1 ++ dktX1_stepRead_2
def dkwX1_stepRead_0 : List UInt8 := [4, 61, 28, 7, 162, 0, 19, 42, 180, 0, 47, 27, 28, 96, 18, 174, 79, 132, 2, 1, 167, 255, 238, 42]
abbrev dktX1_stepRead_0 : List UInt8 := dkwX1_stepRead_0 ++ dktX1_stepRead_1
theorem dksX1_stepRead_0 : cX1_stepRead.data.toList.drop 0 = dktX1_stepRead_0 := by decide +kernel
theorem dksX1_stepRead_1 : cX1_stepRead.data.toList.drop 24 = dktX1_stepRead_1 := dk_seg dksX1_stepRead_0 24 rfl rfl
theorem dksX1_stepRead_2 : cX1_stepRead.data.toList.drop 34 = dktX1_stepRead_2 := dk_seg dksX1_stepRead_1 10 rfl rfl
theorem dksX1_stepRead_3 : cX1_stepRead.data.toList.drop 84 = dktX1_stepRead_3 := dk_seg dksX1_stepRead_2 50 rfl rfl
theorem dksX1_stepRead_4 : cX1_stepRead.data.toList.drop 108 = dktX1_stepRead_4 := dk_seg dksX1_stepRead_3 24 rfl rfl
theorem dksX1_stepRead_5 : cX1_stepRead.data.toList.drop 132 = dktX1_stepRead_5 := dk_seg dksX1_stepRead_4 24 rfl rfl
theorem dksX1_stepRead_6 : cX1_stepRead.data.toList.drop 152 = dktX1_stepRead_6 := dk_seg dksX1_stepRead_5 20 rfl rfl
theorem dksX1_stepRead_7 : cX1_stepRead.data.toList.drop 188 = dktX1_stepRead_7 := dk_seg dksX1_stepRead_6 36 rfl rfl
theorem dksX1_stepRead_8 : cX1_stepRead.data.toList.drop 210 = dktX1_stepRead_8 := dk_seg dksX1_stepRead_7 22 rfl rfl
theorem dksX1_stepRead_9 : cX1_stepRead.data.toList.drop 234 = dktX1_stepRead_9 := dk_seg dksX1_stepRead_8 24 rfl rfl
theorem dksX1_stepRead_10 : cX1_stepRead.data.toList.drop 257 = dktX1_stepRead_10 := dk_seg dksX1_stepRead_9 23 rfl rfl
theorem dksX1_stepRead_11 : cX1_stepRead.data.toList.drop 279 = dktX1_stepRead_11 := dk_seg dksX1_stepRead_10 22 rfl rfl
theorem dksX1_stepRead_12 : cX1_stepRead.data.toList.drop 303 = dktX1_stepRead_12 := dk_seg dksX1_stepRead_11 24 rfl rfl
theorem dksX1_stepRead_13 : cX1_stepRead.data.toList.drop 325 = dktX1_stepRead_13 := dk_seg dksX1_stepRead_12 22 rfl rfl
theorem dksX1_stepRead_14 : cX1_stepRead.data.toList.drop 349 = dktX1_stepRead_14 := dk_seg dksX1_stepRead_13 24 rfl rfl
theorem dX1_stepRead_0 : decode cX1_stepRead 0 = .ok (.iconst 1, 1) := dk_4 (dk_at dksX1_stepRead_0 0 rfl rfl)
theorem dX1_stepRead_1 : decode cX1_stepRead 1 = .ok (.istore_n 2, 1) := dk_61 (dk_at dksX1_stepRead_0 1 rfl rfl)
theorem dX1_stepRead_2 : decode cX1_stepRead 2 = .ok (.iload_n 2, 1) := dk_28 (dk_at dksX1_stepRead_0 2 rfl rfl)
theorem dX1_stepRead_3 : decode cX1_stepRead 3 = .ok (.iconst 4, 1) := dk_7 (dk_at dksX1_stepRead_0 3 rfl rfl)
theorem dX1_stepRead_4 : decode cX1_stepRead 4 = .ok (.if_icmp .ge 19, 3) := dk_162 0 19 (dk_at dksX1_stepRead_0 4 rfl rfl)
theorem dX1_stepRead_7 : decode cX1_stepRead 7 = .ok (.aload_n 0, 1) := dk_42 (dk_at dksX1_stepRead_0 7 rfl rfl)
theorem dX1_stepRead_8 : decode cX1_stepRead 8 = .ok (.getfield 47, 3) := dk_180 0 47 (dk_at dksX1_stepRead_0 8 rfl rfl)
theorem dX1_stepRead_11 : decode cX1_stepRead 11 = .ok (.iload_n 1, 1) := dk_27 (dk_at dksX1_stepRead_0 11 rfl rfl)
theorem dX1_stepRead_12 : decode cX1_stepRead 12 = .ok (.iload_n 2, 1) := dk_28 (dk_at dksX1_stepRead_0 12 rfl rfl)
theorem dX1_stepRead_13 : decode cX1_stepRead 13 = .ok (.iadd, 1) := dk_96 (dk_at dksX1_stepRead_0 13 rfl rfl)
theorem dX1_stepRead_14 : decode cX1_stepRead 14 = .ok (.ldc 174, 2) := dk_18 174 (dk_at dksX1_stepRead_0 14 rfl rfl)
theorem dX1_stepRead_16 : decode cX1_stepRead 16 = .ok (.iastore, 1) := dk_79 (dk_at dksX1_stepRead_0 16 rfl rfl)
theorem dX1_stepRead_17 : decode cX1_stepRead 17 = .ok (.iinc 2 1, 3) := dk_132 2 1 (dk_at dksX1_stepRead_0 17 rfl rfl)
theorem dX1_stepRead_20 : decode cX1_stepRead 20 = .ok (.goto (-18), 3) := dk_167 255 238 (dk_at dksX1_stepRead_0 20 rfl rfl)
theorem dX1_stepRead_23 : decode cX1_stepRead 23 = .ok (.aload_n 0, 1) := dk_42 (dk_at dksX1_stepRead_0 23 rfl rfl)
theorem dX1_stepRead_24 : decode cX1_stepRead 24 = .ok (.invokevirtual 175, 3) := dk_182 0 175 (dk_at dksX1_stepRead_1 0 rfl rfl)
theorem dX1_stepRead_27 : decode cX1_stepRead 27 = .ok (.astore_n 2, 1) := dk_77 (dk_at dksX1_stepRead_1 3 rfl rfl)
theorem dX1_stepRead_28 : decode cX1_stepRead 28 = .ok (.iconst (-1), 1) := dk_2 (dk_at dksX1_stepRead_1 4 rfl rfl)
theorem dX1_stepRead_29 : decode cX1_stepRead 29 = .ok (.istore_n 3, 1) := dk_62 (dk_at dksX1_stepRead_1 5 rfl rfl)
theorem dX1_stepRead_30 : decode cX1_stepRead 30 = .ok (.aload_n 2, 1) := dk_44 (dk_at dksX1_stepRead_1 6 rfl rfl)
theorem dX1_stepRead_31 : decode cX1_stepRead 31 = .ok (.invokevirtual 178, 3) := dk_182 0 178 (dk_at dksX1_stepRead_1 7 rfl rfl)
theorem dX1_stepRead_34 : decode cX1_stepRead 34 = .ok (.lookupswitch 117 #[(96417, 64), (98882, 92), (99339, 78), (104414, 106), (111375, 50)], 50) := by decide +kernel
theorem dX1_stepRead_84 : decode cX1_stepRead 84 = .ok (.aload_n 2, 1) := dk_44 (dk_at dksX1_stepRead_3 0 rfl rfl)
theorem dX1_stepRead_85 : decode cX1_stepRead 85 = .ok (.ldc 20, 2) := dk_18 20 (dk_at dksX1_stepRead_3 1 rfl rfl)
theorem dX1_stepRead_87 : decode cX1_stepRead 87 = .ok (.invokevirtual 170, 3) := dk_182 0 170 (dk_at dksX1_stepRead_3 3 rfl rfl)
theorem dX1_stepRead_90 : decode cX1_stepRead 90 = .ok (.ifCond .eq 61, 3) := dk_153 0 61 (dk_at dksX1_stepRead_3 6 rfl rfl)
theorem dX1_stepRead_93 : decode cX1_stepRead 93 = .ok (.iconst 0, 1) := dk_3 (dk_at dksX1_stepRead_3 9 rfl rfl)
theorem dX1_stepRead_94 : decode cX1_stepRead 94 = .ok (.istore_n 3, 1) := dk_62 (dk_at dksX1_stepRead_3 10 rfl rfl)
theorem dX1_stepRead_95 : decode cX1_stepRead 95 = .ok (.goto 56, 3) := dk_167 0 56 (dk_at dksX1_stepRead_3 11 rfl rfl)
theorem dX1_stepRead_98 : decode cX1_stepRead 98 = .ok (.aload_n 2, 1) := dk_44 (dk_at dksX1_stepRead_3 14 rfl rfl)
theorem dX1_stepRead_99 : decode cX1_stepRead 99 = .ok (.ldc 24, 2) := dk_18 24 (dk_at dksX1_stepRead_3 15 rfl rfl)
theorem dX1_stepRead_101 : decode cX1_stepRead 101 = .ok (.invokevirtual 170, 3) := dk_182 0 170 (dk_at dksX1_stepRead_3 17 rfl rfl)
theorem dX1_stepRead_104 : decode cX1_stepRead 104 = .ok (.ifCond .eq 47, 3) := dk_153 0 47 (dk_at dksX1_stepRead_3 20 rfl rfl)
theorem dX1_stepRead_107 : decode cX1_stepRead 107 = .ok (.iconst 1, 1) := dk_4 (dk_at dksX1_stepRead_3 23 rfl rfl)
theorem dX1_stepRead_108 : decode cX1_stepRead 108 = .ok (.istore_n 3, 1) := dk_62 (dk_at dksX1_stepRead_4 0 rfl rfl)
theorem dX1_stepRead_109 : decode cX1_stepRead 109 = .ok (.goto 42, 3) := dk_167 0 42 (dk_at dksX1_stepRead_4 1 rfl rfl)
theorem dX1_stepRead_112 : decode cX1_stepRead 112 = .ok (.aload_n 2, 1) := dk_44 (dk_at dksX1_stepRead_4 4 rfl rfl)
theorem dX1_stepRead_113 : decode cX1_stepRead 113 = .ok (.ldc 22, 2) := dk_18 22 (dk_at dksX1_stepRead_4 5 rfl rfl)
theorem dX1_stepRead_115 : decode cX1_stepRead 115 = .ok (.invokevirtual 170, 3) := dk_182 0 170 (dk_at dksX1_stepRead_4 7 rfl rfl)
theorem dX1_stepRead_118 : decode cX1_stepRead 118 = .ok (.ifCond .eq 33, 3) := dk_153 0 33 (dk_at dksX1_stepRead_4 10 rfl rfl)
theorem dX1_stepRead_121 : decode cX1_stepRead 121 = .ok (.iconst 2, 1) := dk_5 (dk_at dksX1_stepRead_4 13 rfl rfl)
theorem dX1_stepRead_122 : decode cX1_stepRead 122 = .ok (.istore_n 3, 1) := dk_62 (dk_at dksX1_stepRead_4 14 rfl rfl)
theorem dX1_stepRead_123 : decode cX1_stepRead 123 = .ok (.goto 28, 3) := dk_167 0 28 (dk_at dksX1_stepRead_4 15 rfl rfl)
theorem dX1_stepRead_126 : decode cX1_stepRead 126 = .ok (.aload_n 2, 1) := dk_44 (dk_at dksX1_stepRead_4 18 rfl rfl)
theorem dX1_stepRead_127 : decode cX1_stepRead 127 = .ok (.ldc 26, 2) := dk_18 26 (dk_at dksX1_stepRead_4 19 rfl rfl)
theorem dX1_stepRead_129 : decode cX1_stepRead 129 = .ok (.invokevirtual 170, 3) := dk_182 0 170 (dk_at dksX1_stepRead_4 21 rfl rfl)
theorem dX1_stepRead_132 : decode cX1_stepRead 132 = .ok (.ifCond .eq 19, 3) := dk_153 0 19 (dk_at dksX1_stepRead_5 0 rfl rfl)
theorem dX1_stepRead_135 : decode cX1_stepRead 135 = .ok (.iconst 3, 1) := dk_6 (dk_at dksX1_stepRead_5 3 rfl rfl)
theorem dX1_stepRead_136 : decode cX1_stepRead 136 = .ok (.istore_n 3, 1) := dk_62 (dk_at dksX1_stepRead_5 4 rfl rfl)
theorem dX1_stepRead_137 : decode cX1_stepRead 137 = .ok (.goto 14, 3) := dk_167 0 14 (dk_at dksX1_stepRead_5 5 rfl rfl)
theorem dX1_stepRead_140 : decode cX1_stepRead 140 = .ok (.aload_n 2, 1) := dk_44 (dk_at dksX1_stepRead_5 8 rfl rfl)
theorem dX1_stepRead_141 : decode cX1_stepRead 141 = .ok (.ldc 28, 2) := dk_18 28 (dk_at dksX1_stepRead_5 9 rfl rfl)
theorem dX1_stepRead_143 : decode cX1_stepRead 143 = .ok (.invokevirtual 170, 3) := dk_182 0 170 (dk_at dksX1_stepRead_5 11 rfl rfl)
theorem dX1_stepRead_146 : decode cX1_stepRead 146 = .ok (.ifCond .eq 5, 3) := dk_153 0 5 (dk_at dksX1_stepRead_5 14 rfl rfl)
theorem dX1_stepRead_149 : decode cX1_stepRead 149 = .ok (.iconst 4, 1) := dk_7 (dk_at dksX1_stepRead_5 17 rfl rfl)
theorem dX1_stepRead_150 : decode cX1_stepRead 150 = .ok (.istore_n 3, 1) := dk_62 (dk_at dksX1_stepRead_5 18 rfl rfl)
theorem dX1_stepRead_151 : decode cX1_stepRead 151 = .ok (.iload_n 3, 1) := dk_29 (dk_at dksX1_stepRead_5 19 rfl rfl)
theorem dX1_stepRead_152 : decode cX1_stepRead 152 = .ok (.tableswitch 192 0 4 #[36, 36, 90, 112, 146], 36) := by decide +kernel
theorem dX1_stepRead_188 : decode cX1_stepRead 188 = .ok (.aload_n 0, 1) := dk_42 (dk_at dksX1_stepRead_7 0 rfl rfl)
theorem dX1_stepRead_189 : decode cX1_stepRead 189 = .ok (.getfield 47, 3) := dk_180 0 47 (dk_at dksX1_stepRead_7 1 rfl rfl)
theorem dX1_stepRead_192 : decode cX1_stepRead 192 = .ok (.iload_n 1, 1) := dk_27 (dk_at dksX1_stepRead_7 4 rfl rfl)
theorem dX1_stepRead_193 : decode cX1_stepRead 193 = .ok (.aload_n 0, 1) := dk_42 (dk_at dksX1_stepRead_7 5 rfl rfl)
theorem dX1_stepRead_194 : decode cX1_stepRead 194 = .ok (.getfield 43, 3) := dk_180 0 43 (dk_at dksX1_stepRead_7 6 rfl rfl)
theorem dX1_stepRead_197 : decode cX1_stepRead 197 = .ok (.aload_n 0, 1) := dk_42 (dk_at dksX1_stepRead_7 9 rfl rfl)
theorem dX1_stepRead_198 : decode cX1_stepRead 198 = .ok (.getfield 131, 3) := dk_180 0 131 (dk_at dksX1_stepRead_7 10 rfl rfl)
theorem dX1_stepRead_201 : decode cX1_stepRead 201 = .ok (.iconst 1, 1) := dk_4 (dk_at dksX1_stepRead_7 13 rfl rfl)
theorem dX1_stepRead_202 : decode cX1_stepRead 202 = .ok (.isub, 1) := dk_100 (dk_at dksX1_stepRead_7 14 rfl rfl)
theorem dX1_stepRead_203 : decode cX1_stepRead 203 = .ok (.baload, 1) := dk_51 (dk_at dksX1_stepRead_7 15 rfl rfl)
theorem dX1_stepRead_204 : decode cX1_stepRead 204 = .ok (.bipush 116, 2) := dk_16 116 (dk_at dksX1_stepRead_7 16 rfl rfl)
theorem dX1_stepRead_206 : decode cX1_stepRead 206 = .ok (.if_icmp .ne 7, 3) := dk_160 0 7 (dk_at dksX1_stepRead_7 18 rfl rfl)
theorem dX1_stepRead_209 : decode cX1_stepRead 209 = .ok (.iconst 0, 1) := dk_3 (dk_at dksX1_stepRead_7 21 rfl rfl)
theorem dX1_stepRead_210 : decode cX1_stepRead 210 = .ok (.goto 4, 3) := dk_167 0 4 (dk_at dksX1_stepRead_8 0 rfl rfl)
theorem dX1_stepRead_213 : decode cX1_stepRead 213 = .ok (.iconst 2, 1) := dk_5 (dk_at dksX1_stepRead_8 3 rfl rfl)
theorem dX1_stepRead_214 : decode cX1_stepRead 214 = .ok (.iastore, 1) := dk_79 (dk_at dksX1_stepRead_8 4 rfl rfl)
theorem dX1_stepRead_215 : decode cX1_stepRead 215 = .ok (.aload_n 0, 1) := dk_42 (dk_at dksX1_stepRead_8 5 rfl rfl)
theorem dX1_stepRead_216 : decode cX1_stepRead 216 = .ok (.getfield 47, 3) := dk_180 0 47 (dk_at dksX1_stepRead_8 6 rfl rfl)
theorem dX1_stepRead_219 : decode cX1_stepRead 219 = .ok (.iload_n 1, 1) := dk_27 (dk_at dksX1_stepRead_8 9 rfl rfl)
theorem dX1_stepRead_220 : decode cX1_stepRead 220 = .ok (.iconst 1, 1) := dk_4 (dk_at dksX1_stepRead_8 10 rfl rfl)
theorem dX1_stepRead_221 : decode cX1_stepRead 221 = .ok (.iadd, 1) := dk_96 (dk_at dksX1_stepRead_8 11 rfl rfl)
theorem dX1_stepRead_222 : decode cX1_stepRead 222 = .ok (.aload_n 0, 1) := dk_42 (dk_at dksX1_stepRead_8 12 rfl rfl)
theorem dX1_stepRead_223 : decode cX1_stepRead 223 = .ok (.invokevirtual 181, 3) := dk_182 0 181 (dk_at dksX1_stepRead_8 13 rfl rfl)
theorem dX1_stepRead_226 : decode cX1_stepRead 226 = .ok (.iastore, 1) := dk_79 (dk_at dksX1_stepRead_8 16 rfl rfl)
theorem dX1_stepRead_227 : decode cX1_stepRead 227 = .ok (.aload_n 0, 1) := dk_42 (dk_at dksX1_stepRead_8 17 rfl rfl)
theorem dX1_stepRead_228 : decode cX1_stepRead 228 = .ok (.getfield 47, 3) := dk_180 0 47 (dk_at dksX1_stepRead_8 18 rfl rfl)
theorem dX1_stepRead_231 : decode cX1_stepRead 231 = .ok (.iload_n 1, 1) := dk_27 (dk_at dksX1_stepRead_8 21 rfl rfl)
theorem dX1_stepRead_232 : decode cX1_stepRead 232 = .ok (.iconst 2, 1) := dk_5 (dk_at dksX1_stepRead_8 22 rfl rfl)
theorem dX1_stepRead_233 : decode cX1_stepRead 233 = .ok (.iadd, 1) := dk_96 (dk_at dksX1_stepRead_8 23 rfl rfl)
theorem dX1_stepRead_234 : decode cX1_stepRead 234 = .ok (.aload_n 0, 1) := dk_42 (dk_at dksX1_stepRead_9 0 rfl rfl)
theorem dX1_stepRead_235 : decode cX1_stepRead 235 = .ok (.invokevirtual 184, 3) := dk_182 0 184 (dk_at dksX1_stepRead_9 1 rfl rfl)
theorem dX1_stepRead_238 : decode cX1_stepRead 238 = .ok (.iastore, 1) := dk_79 (dk_at dksX1_stepRead_9 4 rfl rfl)
theorem dX1_stepRead_239 : decode cX1_stepRead 239 = .ok (.goto 112, 3) := dk_167 0 112 (dk_at dksX1_stepRead_9 5 rfl rfl)
theorem dX1_stepRead_242 : decode cX1_stepRead 242 = .ok (.aload_n 0, 1) := dk_42 (dk_at dksX1_stepRead_9 8 rfl rfl)
theorem dX1_stepRead_243 : decode cX1_stepRead 243 = .ok (.getfield 47, 3) := dk_180 0 47 (dk_at dksX1_stepRead_9 9 rfl rfl)
theorem dX1_stepRead_246 : decode cX1_stepRead 246 = .ok (.iload_n 1, 1) := dk_27 (dk_at dksX1_stepRead_9 12 rfl rfl)
theorem dX1_stepRead_247 : decode cX1_stepRead 247 = .ok (.iconst 1, 1) := dk_4 (dk_at dksX1_stepRead_9 13 rfl rfl)
theorem dX1_stepRead_248 : decode cX1_stepRead 248 = .ok (.iastore, 1) := dk_79 (dk_at dksX1_stepRead_9 14 rfl rfl)
theorem dX1_stepRead_249 : decode cX1_stepRead 249 = .ok (.aload_n 0, 1) := dk_42 (dk_at dksX1_stepRead_9 15 rfl rfl)
theorem dX1_stepRead_250 : decode cX1_stepRead 250 = .ok (.getfield 47, 3) := dk_180 0 47 (dk_at dksX1_stepRead_9 16 rfl rfl)
theorem dX1_stepRead_253 : decode cX1_stepRead 253 = .ok (.iload_n 1, 1) := dk_27 (dk_at dksX1_stepRead_9 19 rfl rfl)
theorem dX1_stepRead_254 : decode cX1_stepRead 254 = .ok (.iconst 1, 1) := dk_4 (dk_at dksX1_stepRead_9 20 rfl rfl)
theorem dX1_stepRead_255 : decode cX1_stepRead 255 = .ok (.iadd, 1) := dk_96 (dk_at dksX1_stepRead_9 21 rfl rfl)
theorem dX1_stepRead_256 : decode cX1_stepRead 256 = .ok (.aload_n 0, 1) := dk_42 (dk_at dksX1_stepRead_9 22 rfl rfl)
theorem dX1_stepRead_257 : decode cX1_stepRead 257 = .ok (.invokevirtual 181, 3) := dk_182 0 181 (dk_at dksX1_stepRead_10 0 rfl rfl)
theorem dX1_stepRead_260 : decode cX1_stepRead 260 = .ok (.iastore, 1) := dk_79 (dk_at dksX1_stepRead_10 3 rfl rfl)
theorem dX1_stepRead_261 : decode cX1_stepRead 261 = .ok (.goto 90, 3) := dk_167 0 90 (dk_at dksX1_stepRead_10 4 rfl rfl)
theorem dX1_stepRead_264 : decode cX1_stepRead 264 = .ok (.aload_n 0, 1) := dk_42 (dk_at dksX1_stepRead_10 7 rfl rfl)
theorem dX1_stepRead_265 : decode cX1_stepRead 265 = .ok (.getfield 47, 3) := dk_180 0 47 (dk_at dksX1_stepRead_10 8 rfl rfl)
theorem dX1_stepRead_268 : decode cX1_stepRead 268 = .ok (.iload_n 1, 1) := dk_27 (dk_at dksX1_stepRead_10 11 rfl rfl)
theorem dX1_stepRead_269 : decode cX1_stepRead 269 = .ok (.iconst 3, 1) := dk_6 (dk_at dksX1_stepRead_10 12 rfl rfl)
theorem dX1_stepRead_270 : decode cX1_stepRead 270 = .ok (.iastore, 1) := dk_79 (dk_at dksX1_stepRead_10 13 rfl rfl)
theorem dX1_stepRead_271 : decode cX1_stepRead 271 = .ok (.aload_n 0, 1) := dk_42 (dk_at dksX1_stepRead_10 14 rfl rfl)
theorem dX1_stepRead_272 : decode cX1_stepRead 272 = .ok (.getfield 47, 3) := dk_180 0 47 (dk_at dksX1_stepRead_10 15 rfl rfl)
theorem dX1_stepRead_275 : decode cX1_stepRead 275 = .ok (.iload_n 1, 1) := dk_27 (dk_at dksX1_stepRead_10 18 rfl rfl)
theorem dX1_stepRead_276 : decode cX1_stepRead 276 = .ok (.iconst 1, 1) := dk_4 (dk_at dksX1_stepRead_10 19 rfl rfl)
theorem dX1_stepRead_277 : decode cX1_stepRead 277 = .ok (.iadd, 1) := dk_96 (dk_at dksX1_stepRead_10 20 rfl rfl)
theorem dX1_stepRead_278 : decode cX1_stepRead 278 = .ok (.aload_n 0, 1) := dk_42 (dk_at dksX1_stepRead_10 21 rfl rfl)
theorem dX1_stepRead_279 : decode cX1_stepRead 279 = .ok (.invokevirtual 181, 3) := dk_182 0 181 (dk_at dksX1_stepRead_11 0 rfl rfl)
theorem dX1_stepRead_282 : decode cX1_stepRead 282 = .ok (.iastore, 1) := dk_79 (dk_at dksX1_stepRead_11 3 rfl rfl)
theorem dX1_stepRead_283 : decode cX1_stepRead 283 = .ok (.aload_n 0, 1) := dk_42 (dk_at dksX1_stepRead_11 4 rfl rfl)
theorem dX1_stepRead_284 : decode cX1_stepRead 284 = .ok (.getfield 47, 3) := dk_180 0 47 (dk_at dksX1_stepRead_11 5 rfl rfl)
theorem dX1_stepRead_287 : decode cX1_stepRead 287 = .ok (.iload_n 1, 1) := dk_27 (dk_at dksX1_stepRead_11 8 rfl rfl)
theorem dX1_stepRead_288 : decode cX1_stepRead 288 = .ok (.iconst 2, 1) := dk_5 (dk_at dksX1_stepRead_11 9 rfl rfl)
theorem dX1_stepRead_289 : decode cX1_stepRead 289 = .ok (.iadd, 1) := dk_96 (dk_at dksX1_stepRead_11 10 rfl rfl)
theorem dX1_stepRead_290 : decode cX1_stepRead 290 = .ok (.aload_n 0, 1) := dk_42 (dk_at dksX1_stepRead_11 11 rfl rfl)
theorem dX1_stepRead_291 : decode cX1_stepRead 291 = .ok (.invokevirtual 181, 3) := dk_182 0 181 (dk_at dksX1_stepRead_11 12 rfl rfl)
theorem dX1_stepRead_294 : decode cX1_stepRead 294 = .ok (.iastore, 1) := dk_79 (dk_at dksX1_stepRead_11 15 rfl rfl)
theorem dX1_stepRead_295 : decode cX1_stepRead 295 = .ok (.goto 56, 3) := dk_167 0 56 (dk_at dksX1_stepRead_11 16 rfl rfl)
theorem dX1_stepRead_298 : decode cX1_stepRead 298 = .ok (.aload_n 0, 1) := dk_42 (dk_at dksX1_stepRead_11 19 rfl rfl)
theorem dX1_stepRead_299 : decode cX1_stepRead 299 = .ok (.getfield 47, 3) := dk_180 0 47 (dk_at dksX1_stepRead_11 20 rfl rfl)
theorem dX1_stepRead_302 : decode cX1_stepRead 302 = .ok (.iload_n 1, 1) := dk_27 (dk_at dksX1_stepRead_11 23 rfl rfl)
theorem dX1_stepRead_303 : decode cX1_stepRead 303 = .ok (.iconst 4, 1) := dk_7 (dk_at dksX1_stepRead_12 0 rfl rfl)
theorem dX1_stepRead_304 : decode cX1_stepRead 304 = .ok (.iastore, 1) := dk_79 (dk_at dksX1_stepRead_12 1 rfl rfl)
theorem dX1_stepRead_305 : decode cX1_stepRead 305 = .ok (.aload_n 0, 1) := dk_42 (dk_at dksX1_stepRead_12 2 rfl rfl)
theorem dX1_stepRead_306 : decode cX1_stepRead 306 = .ok (.getfield 47, 3) := dk_180 0 47 (dk_at dksX1_stepRead_12 3 rfl rfl)
theorem dX1_stepRead_309 : decode cX1_stepRead 309 = .ok (.iload_n 1, 1) := dk_27 (dk_at dksX1_stepRead_12 6 rfl rfl)
theorem dX1_stepRead_310 : decode cX1_stepRead 310 = .ok (.iconst 1, 1) := dk_4 (dk_at dksX1_stepRead_12 7 rfl rfl)
theorem dX1_stepRead_311 : decode cX1_stepRead 311 = .ok (.iadd, 1) := dk_96 (dk_at dksX1_stepRead_12 8 rfl rfl)
theorem dX1_stepRead_312 : decode cX1_stepRead 312 = .ok (.aload_n 0, 1) := dk_42 (dk_at dksX1_stepRead_12 9 rfl rfl)
theorem dX1_stepRead_313 : decode cX1_stepRead 313 = .ok (.invokevirtual 181, 3) := dk_182 0 181 (dk_at dksX1_stepRead_12 10 rfl rfl)
theorem dX1_stepRead_316 : decode cX1_stepRead 316 = .ok (.iastore, 1) := dk_79 (dk_at dksX1_stepRead_12 13 rfl rfl)
theorem dX1_stepRead_317 : decode cX1_stepRead 317 = .ok (.aload_n 0, 1) := dk_42 (dk_at dksX1_stepRead_12 14 rfl rfl)
theorem dX1_stepRead_318 : decode cX1_stepRead 318 = .ok (.getfield 47, 3) := dk_180 0 47 (dk_at dksX1_stepRead_12 15 rfl rfl)
theorem dX1_stepRead_321 : decode cX1_stepRead 321 = .ok (.iload_n 1, 1) := dk_27 (dk_at dksX1_stepRead_12 18 rfl rfl)
theorem dX1_stepRead_322 : decode cX1_stepRead 322 = .ok (.iconst 2, 1) := dk_5 (dk_at dksX1_stepRead_12 19 rfl rfl)
theorem dX1_stepRead_323 : decode cX1_stepRead 323 = .ok (.iadd, 1) := dk_96 (dk_at dksX1_stepRead_12 20 rfl rfl)
theorem dX1_stepRead_324 : decode cX1_stepRead 324 = .ok (.aload_n 0, 1) := dk_42 (dk_at dksX1_stepRead_12 21 rfl rfl)
theorem dX1_stepRead_325 : decode cX1_stepRead 325 = .ok (.invokevirtual 181, 3) := dk_182 0 181 (dk_at dksX1_stepRead_13 0 rfl rfl)
theorem dX1_stepRead_328 : decode cX1_stepRead 328 = .ok (.iastore, 1) := dk_79 (dk_at dksX1_stepRead_13 3 rfl rfl)
theorem dX1_stepRead_329 : decode cX1_stepRead 329 = .ok (.aload_n 0, 1) := dk_42 (dk_at dksX1_stepRead_13 4 rfl rfl)
theorem dX1_stepRead_330 : decode cX1_stepRead 330 = .ok (.getfield 47, 3) := dk_180 0 47 (dk_at dksX1_stepRead_13 5 rfl rfl)
theorem dX1_stepRead_333 : decode cX1_stepRead 333 = .ok (.iload_n 1, 1) := dk_27 (dk_at dksX1_stepRead_13 8 rfl rfl)
theorem dX1_stepRead_334 : decode cX1_stepRead 334 = .ok (.iconst 3, 1) := dk_6 (dk_at dksX1_stepRead_13 9 rfl rfl)
theorem dX1_stepRead_335 : decode cX1_stepRead 335 = .ok (.iadd, 1) := dk_96 (dk_at dksX1_stepRead_13 10 rfl rfl)
theorem dX1_stepRead_336 : decode cX1_stepRead 336 = .ok (.aload_n 0, 1) := dk_42 (dk_at dksX1_stepRead_13 11 rfl rfl)
theorem dX1_stepRead_337 : decode cX1_stepRead 337 = .ok (.invokevirtual 184, 3) := dk_182 0 184 (dk_at dksX1_stepRead_13 12 rfl rfl)
theorem dX1_stepRead_340 : decode cX1_stepRead 340 = .ok (.iastore, 1) := dk_79 (dk_at dksX1_stepRead_13 15 rfl rfl)
theorem dX1_stepRead_341 : decode cX1_stepRead 341 = .ok (.goto 10, 3) := dk_167 0 10 (dk_at dksX1_stepRead_13 16 rfl rfl)
theorem dX1_stepRead_344 : decode cX1_stepRead 344 = .ok (.aload_n 0, 1) := dk_42 (dk_at dksX1_stepRead_13 19 rfl rfl)
theorem dX1_stepRead_345 : decode cX1_stepRead 345 = .ok (.getfield 47, 3) := dk_180 0 47 (dk_at dksX1_stepRead_13 20 rfl rfl)
theorem dX1_stepRead_348 : decode cX1_stepRead 348 = .ok (.iload_n 1, 1) := dk_27 (dk_at dksX1_stepRead_13 23 rfl rfl)
theorem dX1_stepRead_349 : decode cX1_stepRead 349 = .ok (.iconst 5, 1) := dk_8 (dk_at dksX1_stepRead_14 0 rfl rfl)
theorem dX1_stepRead_350 : decode cX1_stepRead 350 = .ok (.iastore, 1) := dk_79 (dk_at dksX1_stepRead_14 1 rfl rfl)
theorem dX1_stepRead_351 : decode cX1_stepRead 351 = .ok (.return_, 1) := dk_177 (dk_at dksX1_stepRead_14 2 rfl rfl)
abbrev cX1_word : ByteArray := prog_1_method_15_code
def yX1_word : MethodName := ⟨RX1, "word", "()Ljava/lang/String;"⟩
def dkwX1_word_4 : List UInt8 := [132, 3, 1, 167, 255, 229, 42, 180, 0, 39, 191]
abbrev dktX1_word_4 : List UInt8 := dkwX1_word_4 ++ []
def dkwX1_word_3 : List UInt8 := [42, 180, 0, 32, 190, 162, 0, 24, 42, 180, 0, 32, 29, 50, 44, 182, 0, 170, 153, 0, 5, 44, 176]
abbrev dktX1_word_3 : List UInt8 := dkwX1_word_3 ++ dktX1_word_4
def dkwX1_word_2 : List UInt8 := [182, 0, 142, 42, 89, 180, 0, 131, 4, 96, 181, 0, 131, 167, 255, 210, 43, 182, 0, 163, 77, 3, 62, 29]
abbrev dktX1_word_2 : List UInt8 := dkwX1_word_2 ++ dktX1_word_3
def dkwX1_word_1 : List UInt8 := [153, 0, 38, 43, 42, 182, 0, 134, 146, 182, 0, 159, 87, 42, 42, 43, 182, 0, 163, 182, 0, 167]
abbrev dktX1_word_1 : List UInt8 := dkwX1_word_1 ++ dktX1_word_2
def dkwX1_word_0 : List UInt8 := [42, 182, 0, 146, 87, 187, 0, 156, 89, 183, 0, 158, 76, 42, 182, 0, 134, 16, 97, 16, 122, 184, 0, 127]
abbrev dktX1_word_0 : List UInt8 := dkwX1_word_0 ++ dktX1_word_1
theorem dksX1_word_0 : cX1_word.data.toList.drop 0 = dktX1_word_0 := by decide +kernel
theorem dksX1_word_1 : cX1_word.data.toList.drop 24 = dktX1_word_1 := dk_seg dksX1_word_0 24 rfl rfl
theorem dksX1_word_2 : cX1_word.data.toList.drop 46 = dktX1_word_2 := dk_seg dksX1_word_1 22 rfl rfl
theorem dksX1_word_3 : cX1_word.data.toList.drop 70 = dktX1_word_3 := dk_seg dksX1_word_2 24 rfl rfl
theorem dksX1_word_4 : cX1_word.data.toList.drop 93 = dktX1_word_4 := dk_seg dksX1_word_3 23 rfl rfl
theorem dX1_word_0 : decode cX1_word 0 = .ok (.aload_n 0, 1) := dk_42 (dk_at dksX1_word_0 0 rfl rfl)
theorem dX1_word_1 : decode cX1_word 1 = .ok (.invokevirtual 146, 3) := dk_182 0 146 (dk_at dksX1_word_0 1 rfl rfl)
theorem dX1_word_4 : decode cX1_word 4 = .ok (.pop, 1) := dk_87 (dk_at dksX1_word_0 4 rfl rfl)
theorem dX1_word_5 : decode cX1_word 5 = .ok (.new 156, 3) := dk_187 0 156 (dk_at dksX1_word_0 5 rfl rfl)
theorem dX1_word_8 : decode cX1_word 8 = .ok (.dup, 1) := dk_89 (dk_at dksX1_word_0 8 rfl rfl)
theorem dX1_word_9 : decode cX1_word 9 = .ok (.invokespecial 158, 3) := dk_183 0 158 (dk_at dksX1_word_0 9 rfl rfl)
theorem dX1_word_12 : decode cX1_word 12 = .ok (.astore_n 1, 1) := dk_76 (dk_at dksX1_word_0 12 rfl rfl)
theorem dX1_word_13 : decode cX1_word 13 = .ok (.aload_n 0, 1) := dk_42 (dk_at dksX1_word_0 13 rfl rfl)
theorem dX1_word_14 : decode cX1_word 14 = .ok (.invokevirtual 134, 3) := dk_182 0 134 (dk_at dksX1_word_0 14 rfl rfl)
theorem dX1_word_17 : decode cX1_word 17 = .ok (.bipush 97, 2) := dk_16 97 (dk_at dksX1_word_0 17 rfl rfl)
theorem dX1_word_19 : decode cX1_word 19 = .ok (.bipush 122, 2) := dk_16 122 (dk_at dksX1_word_0 19 rfl rfl)
theorem dX1_word_21 : decode cX1_word 21 = .ok (.invokestatic 127, 3) := dk_184 0 127 (dk_at dksX1_word_0 21 rfl rfl)
theorem dX1_word_24 : decode cX1_word 24 = .ok (.ifCond .eq 38, 3) := dk_153 0 38 (dk_at dksX1_word_1 0 rfl rfl)
theorem dX1_word_27 : decode cX1_word 27 = .ok (.aload_n 1, 1) := dk_43 (dk_at dksX1_word_1 3 rfl rfl)
theorem dX1_word_28 : decode cX1_word 28 = .ok (.aload_n 0, 1) := dk_42 (dk_at dksX1_word_1 4 rfl rfl)
theorem dX1_word_29 : decode cX1_word 29 = .ok (.invokevirtual 134, 3) := dk_182 0 134 (dk_at dksX1_word_1 5 rfl rfl)
theorem dX1_word_32 : decode cX1_word 32 = .ok (.i2c, 1) := dk_146 (dk_at dksX1_word_1 8 rfl rfl)
theorem dX1_word_33 : decode cX1_word 33 = .ok (.invokevirtual 159, 3) := dk_182 0 159 (dk_at dksX1_word_1 9 rfl rfl)
theorem dX1_word_36 : decode cX1_word 36 = .ok (.pop, 1) := dk_87 (dk_at dksX1_word_1 12 rfl rfl)
theorem dX1_word_37 : decode cX1_word 37 = .ok (.aload_n 0, 1) := dk_42 (dk_at dksX1_word_1 13 rfl rfl)
theorem dX1_word_38 : decode cX1_word 38 = .ok (.aload_n 0, 1) := dk_42 (dk_at dksX1_word_1 14 rfl rfl)
theorem dX1_word_39 : decode cX1_word 39 = .ok (.aload_n 1, 1) := dk_43 (dk_at dksX1_word_1 15 rfl rfl)
theorem dX1_word_40 : decode cX1_word 40 = .ok (.invokevirtual 163, 3) := dk_182 0 163 (dk_at dksX1_word_1 16 rfl rfl)
theorem dX1_word_43 : decode cX1_word 43 = .ok (.invokevirtual 167, 3) := dk_182 0 167 (dk_at dksX1_word_1 19 rfl rfl)
theorem dX1_word_46 : decode cX1_word 46 = .ok (.invokevirtual 142, 3) := dk_182 0 142 (dk_at dksX1_word_2 0 rfl rfl)
theorem dX1_word_49 : decode cX1_word 49 = .ok (.aload_n 0, 1) := dk_42 (dk_at dksX1_word_2 3 rfl rfl)
theorem dX1_word_50 : decode cX1_word 50 = .ok (.dup, 1) := dk_89 (dk_at dksX1_word_2 4 rfl rfl)
theorem dX1_word_51 : decode cX1_word 51 = .ok (.getfield 131, 3) := dk_180 0 131 (dk_at dksX1_word_2 5 rfl rfl)
theorem dX1_word_54 : decode cX1_word 54 = .ok (.iconst 1, 1) := dk_4 (dk_at dksX1_word_2 8 rfl rfl)
theorem dX1_word_55 : decode cX1_word 55 = .ok (.iadd, 1) := dk_96 (dk_at dksX1_word_2 9 rfl rfl)
theorem dX1_word_56 : decode cX1_word 56 = .ok (.putfield 131, 3) := dk_181 0 131 (dk_at dksX1_word_2 10 rfl rfl)
theorem dX1_word_59 : decode cX1_word 59 = .ok (.goto (-46), 3) := dk_167 255 210 (dk_at dksX1_word_2 13 rfl rfl)
theorem dX1_word_62 : decode cX1_word 62 = .ok (.aload_n 1, 1) := dk_43 (dk_at dksX1_word_2 16 rfl rfl)
theorem dX1_word_63 : decode cX1_word 63 = .ok (.invokevirtual 163, 3) := dk_182 0 163 (dk_at dksX1_word_2 17 rfl rfl)
theorem dX1_word_66 : decode cX1_word 66 = .ok (.astore_n 2, 1) := dk_77 (dk_at dksX1_word_2 20 rfl rfl)
theorem dX1_word_67 : decode cX1_word 67 = .ok (.iconst 0, 1) := dk_3 (dk_at dksX1_word_2 21 rfl rfl)
theorem dX1_word_68 : decode cX1_word 68 = .ok (.istore_n 3, 1) := dk_62 (dk_at dksX1_word_2 22 rfl rfl)
theorem dX1_word_69 : decode cX1_word 69 = .ok (.iload_n 3, 1) := dk_29 (dk_at dksX1_word_2 23 rfl rfl)
theorem dX1_word_70 : decode cX1_word 70 = .ok (.aload_n 0, 1) := dk_42 (dk_at dksX1_word_3 0 rfl rfl)
theorem dX1_word_71 : decode cX1_word 71 = .ok (.getfield 32, 3) := dk_180 0 32 (dk_at dksX1_word_3 1 rfl rfl)
theorem dX1_word_74 : decode cX1_word 74 = .ok (.arraylength, 1) := dk_190 (dk_at dksX1_word_3 4 rfl rfl)
theorem dX1_word_75 : decode cX1_word 75 = .ok (.if_icmp .ge 24, 3) := dk_162 0 24 (dk_at dksX1_word_3 5 rfl rfl)
theorem dX1_word_78 : decode cX1_word 78 = .ok (.aload_n 0, 1) := dk_42 (dk_at dksX1_word_3 8 rfl rfl)
theorem dX1_word_79 : decode cX1_word 79 = .ok (.getfield 32, 3) := dk_180 0 32 (dk_at dksX1_word_3 9 rfl rfl)
theorem dX1_word_82 : decode cX1_word 82 = .ok (.iload_n 3, 1) := dk_29 (dk_at dksX1_word_3 12 rfl rfl)
theorem dX1_word_83 : decode cX1_word 83 = .ok (.aaload, 1) := dk_50 (dk_at dksX1_word_3 13 rfl rfl)
theorem dX1_word_84 : decode cX1_word 84 = .ok (.aload_n 2, 1) := dk_44 (dk_at dksX1_word_3 14 rfl rfl)
theorem dX1_word_85 : decode cX1_word 85 = .ok (.invokevirtual 170, 3) := dk_182 0 170 (dk_at dksX1_word_3 15 rfl rfl)
theorem dX1_word_88 : decode cX1_word 88 = .ok (.ifCond .eq 5, 3) := dk_153 0 5 (dk_at dksX1_word_3 18 rfl rfl)
theorem dX1_word_91 : decode cX1_word 91 = .ok (.aload_n 2, 1) := dk_44 (dk_at dksX1_word_3 21 rfl rfl)
theorem dX1_word_92 : decode cX1_word 92 = .ok (.areturn, 1) := dk_176 (dk_at dksX1_word_3 22 rfl rfl)
theorem dX1_word_93 : decode cX1_word 93 = .ok (.iinc 3 1, 3) := dk_132 3 1 (dk_at dksX1_word_4 0 rfl rfl)
theorem dX1_word_96 : decode cX1_word 96 = .ok (.goto (-27), 3) := dk_167 255 229 (dk_at dksX1_word_4 3 rfl rfl)
theorem dX1_word_99 : decode cX1_word 99 = .ok (.aload_n 0, 1) := dk_42 (dk_at dksX1_word_4 6 rfl rfl)
theorem dX1_word_100 : decode cX1_word 100 = .ok (.getfield 39, 3) := dk_180 0 39 (dk_at dksX1_word_4 7 rfl rfl)
theorem dX1_word_103 : decode cX1_word 103 = .ok (.athrow, 1) := dk_191 (dk_at dksX1_word_4 10 rfl rfl)
abbrev cX1_beginsWord : ByteArray := prog_1_method_14_code
def yX1_beginsWord : MethodName := ⟨RX1, "beginsWord", "(Ljava/lang/String;)Z"⟩
def dkwX1_beginsWord_1 : List UInt8 := [4, 172, 132, 2, 1, 167, 255, 229, 3, 172]
abbrev dktX1_beginsWord_1 : List UInt8 := dkwX1_beginsWord_1 ++ []
def dkwX1_beginsWord_0 : List UInt8 := [3, 61, 28, 42, 180, 0, 32, 190, 162, 0, 24, 42, 180, 0, 32, 28, 50, 43, 182, 0, 152, 153, 0, 5]
abbrev dktX1_beginsWord_0 : List UInt8 := dkwX1_beginsWord_0 ++ dktX1_beginsWord_1
theorem dksX1_beginsWord_0 : cX1_beginsWord.data.toList.drop 0 = dktX1_beginsWord_0 := by decide +kernel
theorem dksX1_beginsWord_1 : cX1_beginsWord.data.toList.drop 24 = dktX1_beginsWord_1 := dk_seg dksX1_beginsWord_0 24 rfl rfl
theorem dX1_beginsWord_0 : decode cX1_beginsWord 0 = .ok (.iconst 0, 1) := dk_3 (dk_at dksX1_beginsWord_0 0 rfl rfl)
theorem dX1_beginsWord_1 : decode cX1_beginsWord 1 = .ok (.istore_n 2, 1) := dk_61 (dk_at dksX1_beginsWord_0 1 rfl rfl)
theorem dX1_beginsWord_2 : decode cX1_beginsWord 2 = .ok (.iload_n 2, 1) := dk_28 (dk_at dksX1_beginsWord_0 2 rfl rfl)
theorem dX1_beginsWord_3 : decode cX1_beginsWord 3 = .ok (.aload_n 0, 1) := dk_42 (dk_at dksX1_beginsWord_0 3 rfl rfl)
theorem dX1_beginsWord_4 : decode cX1_beginsWord 4 = .ok (.getfield 32, 3) := dk_180 0 32 (dk_at dksX1_beginsWord_0 4 rfl rfl)
theorem dX1_beginsWord_7 : decode cX1_beginsWord 7 = .ok (.arraylength, 1) := dk_190 (dk_at dksX1_beginsWord_0 7 rfl rfl)
theorem dX1_beginsWord_8 : decode cX1_beginsWord 8 = .ok (.if_icmp .ge 24, 3) := dk_162 0 24 (dk_at dksX1_beginsWord_0 8 rfl rfl)
theorem dX1_beginsWord_11 : decode cX1_beginsWord 11 = .ok (.aload_n 0, 1) := dk_42 (dk_at dksX1_beginsWord_0 11 rfl rfl)
theorem dX1_beginsWord_12 : decode cX1_beginsWord 12 = .ok (.getfield 32, 3) := dk_180 0 32 (dk_at dksX1_beginsWord_0 12 rfl rfl)
theorem dX1_beginsWord_15 : decode cX1_beginsWord 15 = .ok (.iload_n 2, 1) := dk_28 (dk_at dksX1_beginsWord_0 15 rfl rfl)
theorem dX1_beginsWord_16 : decode cX1_beginsWord 16 = .ok (.aaload, 1) := dk_50 (dk_at dksX1_beginsWord_0 16 rfl rfl)
theorem dX1_beginsWord_17 : decode cX1_beginsWord 17 = .ok (.aload_n 1, 1) := dk_43 (dk_at dksX1_beginsWord_0 17 rfl rfl)
theorem dX1_beginsWord_18 : decode cX1_beginsWord 18 = .ok (.invokevirtual 152, 3) := dk_182 0 152 (dk_at dksX1_beginsWord_0 18 rfl rfl)
theorem dX1_beginsWord_21 : decode cX1_beginsWord 21 = .ok (.ifCond .eq 5, 3) := dk_153 0 5 (dk_at dksX1_beginsWord_0 21 rfl rfl)
theorem dX1_beginsWord_24 : decode cX1_beginsWord 24 = .ok (.iconst 1, 1) := dk_4 (dk_at dksX1_beginsWord_1 0 rfl rfl)
theorem dX1_beginsWord_25 : decode cX1_beginsWord 25 = .ok (.ireturn, 1) := dk_172 (dk_at dksX1_beginsWord_1 1 rfl rfl)
theorem dX1_beginsWord_26 : decode cX1_beginsWord 26 = .ok (.iinc 2 1, 3) := dk_132 2 1 (dk_at dksX1_beginsWord_1 2 rfl rfl)
theorem dX1_beginsWord_29 : decode cX1_beginsWord 29 = .ok (.goto (-27), 3) := dk_167 255 229 (dk_at dksX1_beginsWord_1 5 rfl rfl)
theorem dX1_beginsWord_32 : decode cX1_beginsWord 32 = .ok (.iconst 0, 1) := dk_3 (dk_at dksX1_beginsWord_1 8 rfl rfl)
theorem dX1_beginsWord_33 : decode cX1_beginsWord 33 = .ok (.ireturn, 1) := dk_172 (dk_at dksX1_beginsWord_1 9 rfl rfl)
abbrev cX1_text : ByteArray := prog_1_method_21_code
def yX1_text : MethodName := ⟨RX1, "text", "(I)I"⟩
def dkwX1_text_4 : List UInt8 := [182, 0, 222, 132, 2, 1, 167, 255, 223, 42, 42, 180, 0, 226, 2, 2, 182, 0, 230, 172]
abbrev dktX1_text_4 : List UInt8 := dkwX1_text_4 ++ []
def dkwX1_text_3 : List UInt8 := [162, 0, 31, 42, 42, 180, 0, 54, 5, 28, 104, 46, 42, 180, 0, 54, 5, 28, 104, 4, 96, 46]
abbrev dktX1_text_3 : List UInt8 := dkwX1_text_3 ++ dktX1_text_4
def dkwX1_text_2 : List UInt8 := [181, 0, 124, 42, 1, 187, 0, 88, 89, 42, 183, 0, 215, 182, 0, 218, 3, 61, 28, 42, 180, 0, 190]
abbrev dktX1_text_2 : List UInt8 := dkwX1_text_2 ++ dktX1_text_3
def dkwX1_text_1 : List UInt8 := [42, 182, 0, 208, 153, 0, 7, 2, 167, 0, 4, 7, 182, 0, 212, 153, 0, 5, 2, 172, 42, 3]
abbrev dktX1_text_1 : List UInt8 := dkwX1_text_1 ++ dktX1_text_2
def dkwX1_text_0 : List UInt8 := [27, 4, 160, 0, 8, 42, 182, 0, 202, 172, 27, 154, 0, 31, 42, 3, 182, 0, 205, 2, 160, 0, 22, 42]
abbrev dktX1_text_0 : List UInt8 := dkwX1_text_0 ++ dktX1_text_1
theorem dksX1_text_0 : cX1_text.data.toList.drop 0 = dktX1_text_0 := by decide +kernel
theorem dksX1_text_1 : cX1_text.data.toList.drop 24 = dktX1_text_1 := dk_seg dksX1_text_0 24 rfl rfl
theorem dksX1_text_2 : cX1_text.data.toList.drop 46 = dktX1_text_2 := dk_seg dksX1_text_1 22 rfl rfl
theorem dksX1_text_3 : cX1_text.data.toList.drop 69 = dktX1_text_3 := dk_seg dksX1_text_2 23 rfl rfl
theorem dksX1_text_4 : cX1_text.data.toList.drop 91 = dktX1_text_4 := dk_seg dksX1_text_3 22 rfl rfl
theorem dX1_text_0 : decode cX1_text 0 = .ok (.iload_n 1, 1) := dk_27 (dk_at dksX1_text_0 0 rfl rfl)
theorem dX1_text_1 : decode cX1_text 1 = .ok (.iconst 1, 1) := dk_4 (dk_at dksX1_text_0 1 rfl rfl)
theorem dX1_text_2 : decode cX1_text 2 = .ok (.if_icmp .ne 8, 3) := dk_160 0 8 (dk_at dksX1_text_0 2 rfl rfl)
theorem dX1_text_5 : decode cX1_text 5 = .ok (.aload_n 0, 1) := dk_42 (dk_at dksX1_text_0 5 rfl rfl)
theorem dX1_text_6 : decode cX1_text 6 = .ok (.invokevirtual 202, 3) := dk_182 0 202 (dk_at dksX1_text_0 6 rfl rfl)
theorem dX1_text_9 : decode cX1_text 9 = .ok (.ireturn, 1) := dk_172 (dk_at dksX1_text_0 9 rfl rfl)
theorem dX1_text_10 : decode cX1_text 10 = .ok (.iload_n 1, 1) := dk_27 (dk_at dksX1_text_0 10 rfl rfl)
theorem dX1_text_11 : decode cX1_text 11 = .ok (.ifCond .ne 31, 3) := dk_154 0 31 (dk_at dksX1_text_0 11 rfl rfl)
theorem dX1_text_14 : decode cX1_text 14 = .ok (.aload_n 0, 1) := dk_42 (dk_at dksX1_text_0 14 rfl rfl)
theorem dX1_text_15 : decode cX1_text 15 = .ok (.iconst 0, 1) := dk_3 (dk_at dksX1_text_0 15 rfl rfl)
theorem dX1_text_16 : decode cX1_text 16 = .ok (.invokevirtual 205, 3) := dk_182 0 205 (dk_at dksX1_text_0 16 rfl rfl)
theorem dX1_text_19 : decode cX1_text 19 = .ok (.iconst (-1), 1) := dk_2 (dk_at dksX1_text_0 19 rfl rfl)
theorem dX1_text_20 : decode cX1_text 20 = .ok (.if_icmp .ne 22, 3) := dk_160 0 22 (dk_at dksX1_text_0 20 rfl rfl)
theorem dX1_text_23 : decode cX1_text 23 = .ok (.aload_n 0, 1) := dk_42 (dk_at dksX1_text_0 23 rfl rfl)
theorem dX1_text_24 : decode cX1_text 24 = .ok (.aload_n 0, 1) := dk_42 (dk_at dksX1_text_1 0 rfl rfl)
theorem dX1_text_25 : decode cX1_text 25 = .ok (.invokevirtual 208, 3) := dk_182 0 208 (dk_at dksX1_text_1 1 rfl rfl)
theorem dX1_text_28 : decode cX1_text 28 = .ok (.ifCond .eq 7, 3) := dk_153 0 7 (dk_at dksX1_text_1 4 rfl rfl)
theorem dX1_text_31 : decode cX1_text 31 = .ok (.iconst (-1), 1) := dk_2 (dk_at dksX1_text_1 7 rfl rfl)
theorem dX1_text_32 : decode cX1_text 32 = .ok (.goto 4, 3) := dk_167 0 4 (dk_at dksX1_text_1 8 rfl rfl)
theorem dX1_text_35 : decode cX1_text 35 = .ok (.iconst 4, 1) := dk_7 (dk_at dksX1_text_1 11 rfl rfl)
theorem dX1_text_36 : decode cX1_text 36 = .ok (.invokevirtual 212, 3) := dk_182 0 212 (dk_at dksX1_text_1 12 rfl rfl)
theorem dX1_text_39 : decode cX1_text 39 = .ok (.ifCond .eq 5, 3) := dk_153 0 5 (dk_at dksX1_text_1 15 rfl rfl)
theorem dX1_text_42 : decode cX1_text 42 = .ok (.iconst (-1), 1) := dk_2 (dk_at dksX1_text_1 18 rfl rfl)
theorem dX1_text_43 : decode cX1_text 43 = .ok (.ireturn, 1) := dk_172 (dk_at dksX1_text_1 19 rfl rfl)
theorem dX1_text_44 : decode cX1_text 44 = .ok (.aload_n 0, 1) := dk_42 (dk_at dksX1_text_1 20 rfl rfl)
theorem dX1_text_45 : decode cX1_text 45 = .ok (.iconst 0, 1) := dk_3 (dk_at dksX1_text_1 21 rfl rfl)
theorem dX1_text_46 : decode cX1_text 46 = .ok (.putfield 124, 3) := dk_181 0 124 (dk_at dksX1_text_2 0 rfl rfl)
theorem dX1_text_49 : decode cX1_text 49 = .ok (.aload_n 0, 1) := dk_42 (dk_at dksX1_text_2 3 rfl rfl)
theorem dX1_text_50 : decode cX1_text 50 = .ok (.aconst_null, 1) := dk_1 (dk_at dksX1_text_2 4 rfl rfl)
theorem dX1_text_51 : decode cX1_text 51 = .ok (.new 88, 3) := dk_187 0 88 (dk_at dksX1_text_2 5 rfl rfl)
theorem dX1_text_54 : decode cX1_text 54 = .ok (.dup, 1) := dk_89 (dk_at dksX1_text_2 8 rfl rfl)
theorem dX1_text_55 : decode cX1_text 55 = .ok (.aload_n 0, 1) := dk_42 (dk_at dksX1_text_2 9 rfl rfl)
theorem dX1_text_56 : decode cX1_text 56 = .ok (.invokespecial 215, 3) := dk_183 0 215 (dk_at dksX1_text_2 10 rfl rfl)
theorem dX1_text_59 : decode cX1_text 59 = .ok (.invokevirtual 218, 3) := dk_182 0 218 (dk_at dksX1_text_2 13 rfl rfl)
theorem dX1_text_62 : decode cX1_text 62 = .ok (.iconst 0, 1) := dk_3 (dk_at dksX1_text_2 16 rfl rfl)
theorem dX1_text_63 : decode cX1_text 63 = .ok (.istore_n 2, 1) := dk_61 (dk_at dksX1_text_2 17 rfl rfl)
theorem dX1_text_64 : decode cX1_text 64 = .ok (.iload_n 2, 1) := dk_28 (dk_at dksX1_text_2 18 rfl rfl)
theorem dX1_text_65 : decode cX1_text 65 = .ok (.aload_n 0, 1) := dk_42 (dk_at dksX1_text_2 19 rfl rfl)
theorem dX1_text_66 : decode cX1_text 66 = .ok (.getfield 190, 3) := dk_180 0 190 (dk_at dksX1_text_2 20 rfl rfl)
theorem dX1_text_69 : decode cX1_text 69 = .ok (.if_icmp .ge 31, 3) := dk_162 0 31 (dk_at dksX1_text_3 0 rfl rfl)
theorem dX1_text_72 : decode cX1_text 72 = .ok (.aload_n 0, 1) := dk_42 (dk_at dksX1_text_3 3 rfl rfl)
theorem dX1_text_73 : decode cX1_text 73 = .ok (.aload_n 0, 1) := dk_42 (dk_at dksX1_text_3 4 rfl rfl)
theorem dX1_text_74 : decode cX1_text 74 = .ok (.getfield 54, 3) := dk_180 0 54 (dk_at dksX1_text_3 5 rfl rfl)
theorem dX1_text_77 : decode cX1_text 77 = .ok (.iconst 2, 1) := dk_5 (dk_at dksX1_text_3 8 rfl rfl)
theorem dX1_text_78 : decode cX1_text 78 = .ok (.iload_n 2, 1) := dk_28 (dk_at dksX1_text_3 9 rfl rfl)
theorem dX1_text_79 : decode cX1_text 79 = .ok (.imul, 1) := dk_104 (dk_at dksX1_text_3 10 rfl rfl)
theorem dX1_text_80 : decode cX1_text 80 = .ok (.iaload, 1) := dk_46 (dk_at dksX1_text_3 11 rfl rfl)
theorem dX1_text_81 : decode cX1_text 81 = .ok (.aload_n 0, 1) := dk_42 (dk_at dksX1_text_3 12 rfl rfl)
theorem dX1_text_82 : decode cX1_text 82 = .ok (.getfield 54, 3) := dk_180 0 54 (dk_at dksX1_text_3 13 rfl rfl)
theorem dX1_text_85 : decode cX1_text 85 = .ok (.iconst 2, 1) := dk_5 (dk_at dksX1_text_3 16 rfl rfl)
theorem dX1_text_86 : decode cX1_text 86 = .ok (.iload_n 2, 1) := dk_28 (dk_at dksX1_text_3 17 rfl rfl)
theorem dX1_text_87 : decode cX1_text 87 = .ok (.imul, 1) := dk_104 (dk_at dksX1_text_3 18 rfl rfl)
theorem dX1_text_88 : decode cX1_text 88 = .ok (.iconst 1, 1) := dk_4 (dk_at dksX1_text_3 19 rfl rfl)
theorem dX1_text_89 : decode cX1_text 89 = .ok (.iadd, 1) := dk_96 (dk_at dksX1_text_3 20 rfl rfl)
theorem dX1_text_90 : decode cX1_text 90 = .ok (.iaload, 1) := dk_46 (dk_at dksX1_text_3 21 rfl rfl)
theorem dX1_text_91 : decode cX1_text 91 = .ok (.invokevirtual 222, 3) := dk_182 0 222 (dk_at dksX1_text_4 0 rfl rfl)
theorem dX1_text_94 : decode cX1_text 94 = .ok (.iinc 2 1, 3) := dk_132 2 1 (dk_at dksX1_text_4 3 rfl rfl)
theorem dX1_text_97 : decode cX1_text 97 = .ok (.goto (-33), 3) := dk_167 255 223 (dk_at dksX1_text_4 6 rfl rfl)
theorem dX1_text_100 : decode cX1_text 100 = .ok (.aload_n 0, 1) := dk_42 (dk_at dksX1_text_4 9 rfl rfl)
theorem dX1_text_101 : decode cX1_text 101 = .ok (.aload_n 0, 1) := dk_42 (dk_at dksX1_text_4 10 rfl rfl)
theorem dX1_text_102 : decode cX1_text 102 = .ok (.getfield 226, 3) := dk_180 0 226 (dk_at dksX1_text_4 11 rfl rfl)
theorem dX1_text_105 : decode cX1_text 105 = .ok (.iconst (-1), 1) := dk_2 (dk_at dksX1_text_4 14 rfl rfl)
theorem dX1_text_106 : decode cX1_text 106 = .ok (.iconst (-1), 1) := dk_2 (dk_at dksX1_text_4 15 rfl rfl)
theorem dX1_text_107 : decode cX1_text 107 = .ok (.invokevirtual 230, 3) := dk_182 0 230 (dk_at dksX1_text_4 16 rfl rfl)
theorem dX1_text_110 : decode cX1_text 110 = .ok (.ireturn, 1) := dk_172 (dk_at dksX1_text_4 19 rfl rfl)
abbrev cX1_programRead : ByteArray := prog_1_method_20_code
def yX1_programRead : MethodName := ⟨RX1, "programRead", "()I"⟩
def dkwX1_programRead_1 : List UInt8 := [42, 3, 181, 0, 124, 42, 89, 180, 0, 199, 4, 96, 181, 0, 199, 42, 180, 0, 199, 4, 100, 172]
abbrev dktX1_programRead_1 : List UInt8 := dkwX1_programRead_1 ++ []
def dkwX1_programRead_0 : List UInt8 := [42, 180, 0, 199, 7, 160, 0, 5, 2, 172, 42, 42, 180, 0, 199, 182, 0, 196, 167, 0, 6, 76, 2, 172]
abbrev dktX1_programRead_0 : List UInt8 := dkwX1_programRead_0 ++ dktX1_programRead_1
theorem dksX1_programRead_0 : cX1_programRead.data.toList.drop 0 = dktX1_programRead_0 := by decide +kernel
theorem dksX1_programRead_1 : cX1_programRead.data.toList.drop 24 = dktX1_programRead_1 := dk_seg dksX1_programRead_0 24 rfl rfl
theorem dX1_programRead_0 : decode cX1_programRead 0 = .ok (.aload_n 0, 1) := dk_42 (dk_at dksX1_programRead_0 0 rfl rfl)
theorem dX1_programRead_1 : decode cX1_programRead 1 = .ok (.getfield 199, 3) := dk_180 0 199 (dk_at dksX1_programRead_0 1 rfl rfl)
theorem dX1_programRead_4 : decode cX1_programRead 4 = .ok (.iconst 4, 1) := dk_7 (dk_at dksX1_programRead_0 4 rfl rfl)
theorem dX1_programRead_5 : decode cX1_programRead 5 = .ok (.if_icmp .ne 5, 3) := dk_160 0 5 (dk_at dksX1_programRead_0 5 rfl rfl)
theorem dX1_programRead_8 : decode cX1_programRead 8 = .ok (.iconst (-1), 1) := dk_2 (dk_at dksX1_programRead_0 8 rfl rfl)
theorem dX1_programRead_9 : decode cX1_programRead 9 = .ok (.ireturn, 1) := dk_172 (dk_at dksX1_programRead_0 9 rfl rfl)
theorem dX1_programRead_10 : decode cX1_programRead 10 = .ok (.aload_n 0, 1) := dk_42 (dk_at dksX1_programRead_0 10 rfl rfl)
theorem dX1_programRead_11 : decode cX1_programRead 11 = .ok (.aload_n 0, 1) := dk_42 (dk_at dksX1_programRead_0 11 rfl rfl)
theorem dX1_programRead_12 : decode cX1_programRead 12 = .ok (.getfield 199, 3) := dk_180 0 199 (dk_at dksX1_programRead_0 12 rfl rfl)
theorem dX1_programRead_15 : decode cX1_programRead 15 = .ok (.invokevirtual 196, 3) := dk_182 0 196 (dk_at dksX1_programRead_0 15 rfl rfl)
theorem dX1_programRead_18 : decode cX1_programRead 18 = .ok (.goto 6, 3) := dk_167 0 6 (dk_at dksX1_programRead_0 18 rfl rfl)
theorem dX1_programRead_21 : decode cX1_programRead 21 = .ok (.astore_n 1, 1) := dk_76 (dk_at dksX1_programRead_0 21 rfl rfl)
theorem dX1_programRead_22 : decode cX1_programRead 22 = .ok (.iconst (-1), 1) := dk_2 (dk_at dksX1_programRead_0 22 rfl rfl)
theorem dX1_programRead_23 : decode cX1_programRead 23 = .ok (.ireturn, 1) := dk_172 (dk_at dksX1_programRead_0 23 rfl rfl)
theorem dX1_programRead_24 : decode cX1_programRead 24 = .ok (.aload_n 0, 1) := dk_42 (dk_at dksX1_programRead_1 0 rfl rfl)
theorem dX1_programRead_25 : decode cX1_programRead 25 = .ok (.iconst 0, 1) := dk_3 (dk_at dksX1_programRead_1 1 rfl rfl)
theorem dX1_programRead_26 : decode cX1_programRead 26 = .ok (.putfield 124, 3) := dk_181 0 124 (dk_at dksX1_programRead_1 2 rfl rfl)
theorem dX1_programRead_29 : decode cX1_programRead 29 = .ok (.aload_n 0, 1) := dk_42 (dk_at dksX1_programRead_1 5 rfl rfl)
theorem dX1_programRead_30 : decode cX1_programRead 30 = .ok (.dup, 1) := dk_89 (dk_at dksX1_programRead_1 6 rfl rfl)
theorem dX1_programRead_31 : decode cX1_programRead 31 = .ok (.getfield 199, 3) := dk_180 0 199 (dk_at dksX1_programRead_1 7 rfl rfl)
theorem dX1_programRead_34 : decode cX1_programRead 34 = .ok (.iconst 1, 1) := dk_4 (dk_at dksX1_programRead_1 10 rfl rfl)
theorem dX1_programRead_35 : decode cX1_programRead 35 = .ok (.iadd, 1) := dk_96 (dk_at dksX1_programRead_1 11 rfl rfl)
theorem dX1_programRead_36 : decode cX1_programRead 36 = .ok (.putfield 199, 3) := dk_181 0 199 (dk_at dksX1_programRead_1 12 rfl rfl)
theorem dX1_programRead_39 : decode cX1_programRead 39 = .ok (.aload_n 0, 1) := dk_42 (dk_at dksX1_programRead_1 15 rfl rfl)
theorem dX1_programRead_40 : decode cX1_programRead 40 = .ok (.getfield 199, 3) := dk_180 0 199 (dk_at dksX1_programRead_1 16 rfl rfl)
theorem dX1_programRead_43 : decode cX1_programRead 43 = .ok (.iconst 1, 1) := dk_4 (dk_at dksX1_programRead_1 19 rfl rfl)
theorem dX1_programRead_44 : decode cX1_programRead 44 = .ok (.isub, 1) := dk_100 (dk_at dksX1_programRead_1 20 rfl rfl)
theorem dX1_programRead_45 : decode cX1_programRead 45 = .ok (.ireturn, 1) := dk_172 (dk_at dksX1_programRead_1 21 rfl rfl)
abbrev cX1_isRoom : ByteArray := prog_1_method_26_code
def yX1_isRoom : MethodName := ⟨RX1, "isRoom", "()Z"⟩
def dkwX1_isRoom_1 : List UInt8 := [172]
abbrev dktX1_isRoom_1 : List UInt8 := dkwX1_isRoom_1 ++ []
def dkwX1_isRoom_0 : List UInt8 := [42, 180, 0, 240, 16, 16, 162, 0, 17, 42, 180, 0, 243, 17, 3, 231, 162, 0, 7, 4, 167, 0, 4, 3]
abbrev dktX1_isRoom_0 : List UInt8 := dkwX1_isRoom_0 ++ dktX1_isRoom_1
theorem dksX1_isRoom_0 : cX1_isRoom.data.toList.drop 0 = dktX1_isRoom_0 := by decide +kernel
theorem dksX1_isRoom_1 : cX1_isRoom.data.toList.drop 24 = dktX1_isRoom_1 := dk_seg dksX1_isRoom_0 24 rfl rfl
theorem dX1_isRoom_0 : decode cX1_isRoom 0 = .ok (.aload_n 0, 1) := dk_42 (dk_at dksX1_isRoom_0 0 rfl rfl)
theorem dX1_isRoom_1 : decode cX1_isRoom 1 = .ok (.getfield 240, 3) := dk_180 0 240 (dk_at dksX1_isRoom_0 1 rfl rfl)
theorem dX1_isRoom_4 : decode cX1_isRoom 4 = .ok (.bipush 16, 2) := dk_16 16 (dk_at dksX1_isRoom_0 4 rfl rfl)
theorem dX1_isRoom_6 : decode cX1_isRoom 6 = .ok (.if_icmp .ge 17, 3) := dk_162 0 17 (dk_at dksX1_isRoom_0 6 rfl rfl)
theorem dX1_isRoom_9 : decode cX1_isRoom 9 = .ok (.aload_n 0, 1) := dk_42 (dk_at dksX1_isRoom_0 9 rfl rfl)
theorem dX1_isRoom_10 : decode cX1_isRoom 10 = .ok (.getfield 243, 3) := dk_180 0 243 (dk_at dksX1_isRoom_0 10 rfl rfl)
theorem dX1_isRoom_13 : decode cX1_isRoom 13 = .ok (.sipush 999, 3) := dk_17 3 231 (dk_at dksX1_isRoom_0 13 rfl rfl)
theorem dX1_isRoom_16 : decode cX1_isRoom 16 = .ok (.if_icmp .ge 7, 3) := dk_162 0 7 (dk_at dksX1_isRoom_0 16 rfl rfl)
theorem dX1_isRoom_19 : decode cX1_isRoom 19 = .ok (.iconst 1, 1) := dk_4 (dk_at dksX1_isRoom_0 19 rfl rfl)
theorem dX1_isRoom_20 : decode cX1_isRoom 20 = .ok (.goto 4, 3) := dk_167 0 4 (dk_at dksX1_isRoom_0 20 rfl rfl)
theorem dX1_isRoom_23 : decode cX1_isRoom 23 = .ok (.iconst 0, 1) := dk_3 (dk_at dksX1_isRoom_0 23 rfl rfl)
theorem dX1_isRoom_24 : decode cX1_isRoom 24 = .ok (.ireturn, 1) := dk_172 (dk_at dksX1_isRoom_1 0 rfl rfl)
abbrev cX1_isRefused : ByteArray := prog_1_method_25_code
def yX1_isRefused : MethodName := ⟨RX1, "isRefused", "(I)Z"⟩
def dkwX1_isRefused_1 : List UInt8 := [3, 172]
abbrev dktX1_isRefused_1 : List UInt8 := dkwX1_isRefused_1 ++ []
def dkwX1_isRefused_0 : List UInt8 := [27, 2, 159, 0, 13, 42, 180, 0, 82, 27, 92, 46, 4, 96, 79, 27, 2, 159, 0, 7, 4, 167, 0, 4]
abbrev dktX1_isRefused_0 : List UInt8 := dkwX1_isRefused_0 ++ dktX1_isRefused_1
theorem dksX1_isRefused_0 : cX1_isRefused.data.toList.drop 0 = dktX1_isRefused_0 := by decide +kernel
theorem dksX1_isRefused_1 : cX1_isRefused.data.toList.drop 24 = dktX1_isRefused_1 := dk_seg dksX1_isRefused_0 24 rfl rfl
theorem dX1_isRefused_0 : decode cX1_isRefused 0 = .ok (.iload_n 1, 1) := dk_27 (dk_at dksX1_isRefused_0 0 rfl rfl)
theorem dX1_isRefused_1 : decode cX1_isRefused 1 = .ok (.iconst (-1), 1) := dk_2 (dk_at dksX1_isRefused_0 1 rfl rfl)
theorem dX1_isRefused_2 : decode cX1_isRefused 2 = .ok (.if_icmp .eq 13, 3) := dk_159 0 13 (dk_at dksX1_isRefused_0 2 rfl rfl)
theorem dX1_isRefused_5 : decode cX1_isRefused 5 = .ok (.aload_n 0, 1) := dk_42 (dk_at dksX1_isRefused_0 5 rfl rfl)
theorem dX1_isRefused_6 : decode cX1_isRefused 6 = .ok (.getfield 82, 3) := dk_180 0 82 (dk_at dksX1_isRefused_0 6 rfl rfl)
theorem dX1_isRefused_9 : decode cX1_isRefused 9 = .ok (.iload_n 1, 1) := dk_27 (dk_at dksX1_isRefused_0 9 rfl rfl)
theorem dX1_isRefused_10 : decode cX1_isRefused 10 = .ok (.dup2, 1) := dk_92 (dk_at dksX1_isRefused_0 10 rfl rfl)
theorem dX1_isRefused_11 : decode cX1_isRefused 11 = .ok (.iaload, 1) := dk_46 (dk_at dksX1_isRefused_0 11 rfl rfl)
theorem dX1_isRefused_12 : decode cX1_isRefused 12 = .ok (.iconst 1, 1) := dk_4 (dk_at dksX1_isRefused_0 12 rfl rfl)
theorem dX1_isRefused_13 : decode cX1_isRefused 13 = .ok (.iadd, 1) := dk_96 (dk_at dksX1_isRefused_0 13 rfl rfl)
theorem dX1_isRefused_14 : decode cX1_isRefused 14 = .ok (.iastore, 1) := dk_79 (dk_at dksX1_isRefused_0 14 rfl rfl)
theorem dX1_isRefused_15 : decode cX1_isRefused 15 = .ok (.iload_n 1, 1) := dk_27 (dk_at dksX1_isRefused_0 15 rfl rfl)
theorem dX1_isRefused_16 : decode cX1_isRefused 16 = .ok (.iconst (-1), 1) := dk_2 (dk_at dksX1_isRefused_0 16 rfl rfl)
theorem dX1_isRefused_17 : decode cX1_isRefused 17 = .ok (.if_icmp .eq 7, 3) := dk_159 0 7 (dk_at dksX1_isRefused_0 17 rfl rfl)
theorem dX1_isRefused_20 : decode cX1_isRefused 20 = .ok (.iconst 1, 1) := dk_4 (dk_at dksX1_isRefused_0 20 rfl rfl)
theorem dX1_isRefused_21 : decode cX1_isRefused 21 = .ok (.goto 4, 3) := dk_167 0 4 (dk_at dksX1_isRefused_0 21 rfl rfl)
theorem dX1_isRefused_24 : decode cX1_isRefused 24 = .ok (.iconst 0, 1) := dk_3 (dk_at dksX1_isRefused_1 0 rfl rfl)
theorem dX1_isRefused_25 : decode cX1_isRefused 25 = .ok (.ireturn, 1) := dk_172 (dk_at dksX1_isRefused_1 1 rfl rfl)
abbrev cX1_work : ByteArray := prog_1_method_35_code
def yX1_work : MethodName := ⟨RX1, "work", "(LWideMap$Node;LWideMap$Token;)V"⟩
def dkwX1_work_1 : List UInt8 := [181, 0, 226, 177]
abbrev dktX1_work_1 : List UInt8 := dkwX1_work_1 ++ []
def dkwX1_work_0 : List UInt8 := [42, 44, 181, 0, 255, 42, 43, 199, 0, 14, 44, 42, 180, 0, 234, 184, 1, 3, 167, 0, 4, 43]
abbrev dktX1_work_0 : List UInt8 := dkwX1_work_0 ++ dktX1_work_1
theorem dksX1_work_0 : cX1_work.data.toList.drop 0 = dktX1_work_0 := by decide +kernel
theorem dksX1_work_1 : cX1_work.data.toList.drop 22 = dktX1_work_1 := dk_seg dksX1_work_0 22 rfl rfl
theorem dX1_work_0 : decode cX1_work 0 = .ok (.aload_n 0, 1) := dk_42 (dk_at dksX1_work_0 0 rfl rfl)
theorem dX1_work_1 : decode cX1_work 1 = .ok (.aload_n 2, 1) := dk_44 (dk_at dksX1_work_0 1 rfl rfl)
theorem dX1_work_2 : decode cX1_work 2 = .ok (.putfield 255, 3) := dk_181 0 255 (dk_at dksX1_work_0 2 rfl rfl)
theorem dX1_work_5 : decode cX1_work 5 = .ok (.aload_n 0, 1) := dk_42 (dk_at dksX1_work_0 5 rfl rfl)
theorem dX1_work_6 : decode cX1_work 6 = .ok (.aload_n 1, 1) := dk_43 (dk_at dksX1_work_0 6 rfl rfl)
theorem dX1_work_7 : decode cX1_work 7 = .ok (.ifnonnull 14, 3) := dk_199 0 14 (dk_at dksX1_work_0 7 rfl rfl)
theorem dX1_work_10 : decode cX1_work 10 = .ok (.aload_n 2, 1) := dk_44 (dk_at dksX1_work_0 10 rfl rfl)
theorem dX1_work_11 : decode cX1_work 11 = .ok (.aload_n 0, 1) := dk_42 (dk_at dksX1_work_0 11 rfl rfl)
theorem dX1_work_12 : decode cX1_work 12 = .ok (.getfield 234, 3) := dk_180 0 234 (dk_at dksX1_work_0 12 rfl rfl)
theorem dX1_work_15 : decode cX1_work 15 = .ok (.invokestatic 259, 3) := dk_184 1 3 (dk_at dksX1_work_0 15 rfl rfl)
theorem dX1_work_18 : decode cX1_work 18 = .ok (.goto 4, 3) := dk_167 0 4 (dk_at dksX1_work_0 18 rfl rfl)
theorem dX1_work_21 : decode cX1_work 21 = .ok (.aload_n 1, 1) := dk_43 (dk_at dksX1_work_0 21 rfl rfl)
theorem dX1_work_22 : decode cX1_work 22 = .ok (.putfield 226, 3) := dk_181 0 226 (dk_at dksX1_work_1 0 rfl rfl)
theorem dX1_work_25 : decode cX1_work 25 = .ok (.return_, 1) := dk_177 (dk_at dksX1_work_1 3 rfl rfl)
abbrev cX1_layNow : ByteArray := prog_1_method_39_code
def yX1_layNow : MethodName := ⟨RX1, "layNow", "(II)V"⟩
def dkwX1_layNow_3 : List UInt8 := [184, 1, 46, 181, 0, 226, 177]
abbrev dktX1_layNow_3 : List UInt8 := dkwX1_layNow_3 ++ []
def dkwX1_layNow_2 : List UInt8 := [185, 1, 42, 5, 0, 78, 45, 198, 0, 23, 42, 42, 180, 0, 255, 42, 180, 0, 234, 42, 180, 0, 226, 45]
abbrev dktX1_layNow_2 : List UInt8 := dkwX1_layNow_2 ++ dktX1_layNow_3
def dkwX1_layNow_1 : List UInt8 := [185, 1, 38, 2, 0, 181, 0, 226, 42, 180, 0, 226, 42, 180, 0, 255, 27, 28, 42, 180, 0, 234]
abbrev dktX1_layNow_1 : List UInt8 := dkwX1_layNow_1 ++ dktX1_layNow_2
def dkwX1_layNow_0 : List UInt8 := [42, 180, 0, 226, 27, 184, 1, 34, 28, 160, 0, 4, 177, 42, 42, 180, 0, 226, 42, 180, 0, 255]
abbrev dktX1_layNow_0 : List UInt8 := dkwX1_layNow_0 ++ dktX1_layNow_1
theorem dksX1_layNow_0 : cX1_layNow.data.toList.drop 0 = dktX1_layNow_0 := by decide +kernel
theorem dksX1_layNow_1 : cX1_layNow.data.toList.drop 22 = dktX1_layNow_1 := dk_seg dksX1_layNow_0 22 rfl rfl
theorem dksX1_layNow_2 : cX1_layNow.data.toList.drop 44 = dktX1_layNow_2 := dk_seg dksX1_layNow_1 22 rfl rfl
theorem dksX1_layNow_3 : cX1_layNow.data.toList.drop 68 = dktX1_layNow_3 := dk_seg dksX1_layNow_2 24 rfl rfl
theorem dX1_layNow_0 : decode cX1_layNow 0 = .ok (.aload_n 0, 1) := dk_42 (dk_at dksX1_layNow_0 0 rfl rfl)
theorem dX1_layNow_1 : decode cX1_layNow 1 = .ok (.getfield 226, 3) := dk_180 0 226 (dk_at dksX1_layNow_0 1 rfl rfl)
theorem dX1_layNow_4 : decode cX1_layNow 4 = .ok (.iload_n 1, 1) := dk_27 (dk_at dksX1_layNow_0 4 rfl rfl)
theorem dX1_layNow_5 : decode cX1_layNow 5 = .ok (.invokestatic 290, 3) := dk_184 1 34 (dk_at dksX1_layNow_0 5 rfl rfl)
theorem dX1_layNow_8 : decode cX1_layNow 8 = .ok (.iload_n 2, 1) := dk_28 (dk_at dksX1_layNow_0 8 rfl rfl)
theorem dX1_layNow_9 : decode cX1_layNow 9 = .ok (.if_icmp .ne 4, 3) := dk_160 0 4 (dk_at dksX1_layNow_0 9 rfl rfl)
theorem dX1_layNow_12 : decode cX1_layNow 12 = .ok (.return_, 1) := dk_177 (dk_at dksX1_layNow_0 12 rfl rfl)
theorem dX1_layNow_13 : decode cX1_layNow 13 = .ok (.aload_n 0, 1) := dk_42 (dk_at dksX1_layNow_0 13 rfl rfl)
theorem dX1_layNow_14 : decode cX1_layNow 14 = .ok (.aload_n 0, 1) := dk_42 (dk_at dksX1_layNow_0 14 rfl rfl)
theorem dX1_layNow_15 : decode cX1_layNow 15 = .ok (.getfield 226, 3) := dk_180 0 226 (dk_at dksX1_layNow_0 15 rfl rfl)
theorem dX1_layNow_18 : decode cX1_layNow 18 = .ok (.aload_n 0, 1) := dk_42 (dk_at dksX1_layNow_0 18 rfl rfl)
theorem dX1_layNow_19 : decode cX1_layNow 19 = .ok (.getfield 255, 3) := dk_180 0 255 (dk_at dksX1_layNow_0 19 rfl rfl)
theorem dX1_layNow_22 : decode cX1_layNow 22 = .ok (.invokeinterface 294 2, 5) := by decide +kernel
theorem dX1_layNow_27 : decode cX1_layNow 27 = .ok (.putfield 226, 3) := dk_181 0 226 (dk_at dksX1_layNow_1 5 rfl rfl)
theorem dX1_layNow_30 : decode cX1_layNow 30 = .ok (.aload_n 0, 1) := dk_42 (dk_at dksX1_layNow_1 8 rfl rfl)
theorem dX1_layNow_31 : decode cX1_layNow 31 = .ok (.getfield 226, 3) := dk_180 0 226 (dk_at dksX1_layNow_1 9 rfl rfl)
theorem dX1_layNow_34 : decode cX1_layNow 34 = .ok (.aload_n 0, 1) := dk_42 (dk_at dksX1_layNow_1 12 rfl rfl)
theorem dX1_layNow_35 : decode cX1_layNow 35 = .ok (.getfield 255, 3) := dk_180 0 255 (dk_at dksX1_layNow_1 13 rfl rfl)
theorem dX1_layNow_38 : decode cX1_layNow 38 = .ok (.iload_n 1, 1) := dk_27 (dk_at dksX1_layNow_1 16 rfl rfl)
theorem dX1_layNow_39 : decode cX1_layNow 39 = .ok (.iload_n 2, 1) := dk_28 (dk_at dksX1_layNow_1 17 rfl rfl)
theorem dX1_layNow_40 : decode cX1_layNow 40 = .ok (.aload_n 0, 1) := dk_42 (dk_at dksX1_layNow_1 18 rfl rfl)
theorem dX1_layNow_41 : decode cX1_layNow 41 = .ok (.getfield 234, 3) := dk_180 0 234 (dk_at dksX1_layNow_1 19 rfl rfl)
theorem dX1_layNow_44 : decode cX1_layNow 44 = .ok (.invokeinterface 298 5, 5) := by decide +kernel
theorem dX1_layNow_49 : decode cX1_layNow 49 = .ok (.astore_n 3, 1) := dk_78 (dk_at dksX1_layNow_2 5 rfl rfl)
theorem dX1_layNow_50 : decode cX1_layNow 50 = .ok (.aload_n 3, 1) := dk_45 (dk_at dksX1_layNow_2 6 rfl rfl)
theorem dX1_layNow_51 : decode cX1_layNow 51 = .ok (.ifnull 23, 3) := dk_198 0 23 (dk_at dksX1_layNow_2 7 rfl rfl)
theorem dX1_layNow_54 : decode cX1_layNow 54 = .ok (.aload_n 0, 1) := dk_42 (dk_at dksX1_layNow_2 10 rfl rfl)
theorem dX1_layNow_55 : decode cX1_layNow 55 = .ok (.aload_n 0, 1) := dk_42 (dk_at dksX1_layNow_2 11 rfl rfl)
theorem dX1_layNow_56 : decode cX1_layNow 56 = .ok (.getfield 255, 3) := dk_180 0 255 (dk_at dksX1_layNow_2 12 rfl rfl)
theorem dX1_layNow_59 : decode cX1_layNow 59 = .ok (.aload_n 0, 1) := dk_42 (dk_at dksX1_layNow_2 15 rfl rfl)
theorem dX1_layNow_60 : decode cX1_layNow 60 = .ok (.getfield 234, 3) := dk_180 0 234 (dk_at dksX1_layNow_2 16 rfl rfl)
theorem dX1_layNow_63 : decode cX1_layNow 63 = .ok (.aload_n 0, 1) := dk_42 (dk_at dksX1_layNow_2 19 rfl rfl)
theorem dX1_layNow_64 : decode cX1_layNow 64 = .ok (.getfield 226, 3) := dk_180 0 226 (dk_at dksX1_layNow_2 20 rfl rfl)
theorem dX1_layNow_67 : decode cX1_layNow 67 = .ok (.aload_n 3, 1) := dk_45 (dk_at dksX1_layNow_2 23 rfl rfl)
theorem dX1_layNow_68 : decode cX1_layNow 68 = .ok (.invokestatic 302, 3) := dk_184 1 46 (dk_at dksX1_layNow_3 0 rfl rfl)
theorem dX1_layNow_71 : decode cX1_layNow 71 = .ok (.putfield 226, 3) := dk_181 0 226 (dk_at dksX1_layNow_3 3 rfl rfl)
theorem dX1_layNow_74 : decode cX1_layNow 74 = .ok (.return_, 1) := dk_177 (dk_at dksX1_layNow_3 6 rfl rfl)
abbrev cX1_valueIn : ByteArray := prog_1_method_38_code
def yX1_valueIn : MethodName := ⟨RX1, "valueIn", "(LWideMap$Node;I)I"⟩
def dkwX1_valueIn_2 : List UInt8 := [18, 174, 172]
abbrev dktX1_valueIn_2 : List UInt8 := dkwX1_valueIn_2 ++ []
def dkwX1_valueIn_1 : List UInt8 := [185, 1, 28, 2, 0, 27, 160, 0, 11, 44, 29, 185, 1, 31, 2, 0, 172, 132, 3, 1, 167, 255, 224]
abbrev dktX1_valueIn_1 : List UInt8 := dkwX1_valueIn_1 ++ dktX1_valueIn_2
def dkwX1_valueIn_0 : List UInt8 := [42, 27, 184, 1, 21, 77, 3, 62, 29, 44, 185, 1, 25, 1, 0, 162, 0, 28, 44, 29]
abbrev dktX1_valueIn_0 : List UInt8 := dkwX1_valueIn_0 ++ dktX1_valueIn_1
theorem dksX1_valueIn_0 : cX1_valueIn.data.toList.drop 0 = dktX1_valueIn_0 := by decide +kernel
theorem dksX1_valueIn_1 : cX1_valueIn.data.toList.drop 20 = dktX1_valueIn_1 := dk_seg dksX1_valueIn_0 20 rfl rfl
theorem dksX1_valueIn_2 : cX1_valueIn.data.toList.drop 43 = dktX1_valueIn_2 := dk_seg dksX1_valueIn_1 23 rfl rfl
theorem dX1_valueIn_0 : decode cX1_valueIn 0 = .ok (.aload_n 0, 1) := dk_42 (dk_at dksX1_valueIn_0 0 rfl rfl)
theorem dX1_valueIn_1 : decode cX1_valueIn 1 = .ok (.iload_n 1, 1) := dk_27 (dk_at dksX1_valueIn_0 1 rfl rfl)
theorem dX1_valueIn_2 : decode cX1_valueIn 2 = .ok (.invokestatic 277, 3) := dk_184 1 21 (dk_at dksX1_valueIn_0 2 rfl rfl)
theorem dX1_valueIn_5 : decode cX1_valueIn 5 = .ok (.astore_n 2, 1) := dk_77 (dk_at dksX1_valueIn_0 5 rfl rfl)
theorem dX1_valueIn_6 : decode cX1_valueIn 6 = .ok (.iconst 0, 1) := dk_3 (dk_at dksX1_valueIn_0 6 rfl rfl)
theorem dX1_valueIn_7 : decode cX1_valueIn 7 = .ok (.istore_n 3, 1) := dk_62 (dk_at dksX1_valueIn_0 7 rfl rfl)
theorem dX1_valueIn_8 : decode cX1_valueIn 8 = .ok (.iload_n 3, 1) := dk_29 (dk_at dksX1_valueIn_0 8 rfl rfl)
theorem dX1_valueIn_9 : decode cX1_valueIn 9 = .ok (.aload_n 2, 1) := dk_44 (dk_at dksX1_valueIn_0 9 rfl rfl)
theorem dX1_valueIn_10 : decode cX1_valueIn 10 = .ok (.invokeinterface 281 1, 5) := by decide +kernel
theorem dX1_valueIn_15 : decode cX1_valueIn 15 = .ok (.if_icmp .ge 28, 3) := dk_162 0 28 (dk_at dksX1_valueIn_0 15 rfl rfl)
theorem dX1_valueIn_18 : decode cX1_valueIn 18 = .ok (.aload_n 2, 1) := dk_44 (dk_at dksX1_valueIn_0 18 rfl rfl)
theorem dX1_valueIn_19 : decode cX1_valueIn 19 = .ok (.iload_n 3, 1) := dk_29 (dk_at dksX1_valueIn_0 19 rfl rfl)
theorem dX1_valueIn_20 : decode cX1_valueIn 20 = .ok (.invokeinterface 284 2, 5) := by decide +kernel
theorem dX1_valueIn_25 : decode cX1_valueIn 25 = .ok (.iload_n 1, 1) := dk_27 (dk_at dksX1_valueIn_1 5 rfl rfl)
theorem dX1_valueIn_26 : decode cX1_valueIn 26 = .ok (.if_icmp .ne 11, 3) := dk_160 0 11 (dk_at dksX1_valueIn_1 6 rfl rfl)
theorem dX1_valueIn_29 : decode cX1_valueIn 29 = .ok (.aload_n 2, 1) := dk_44 (dk_at dksX1_valueIn_1 9 rfl rfl)
theorem dX1_valueIn_30 : decode cX1_valueIn 30 = .ok (.iload_n 3, 1) := dk_29 (dk_at dksX1_valueIn_1 10 rfl rfl)
theorem dX1_valueIn_31 : decode cX1_valueIn 31 = .ok (.invokeinterface 287 2, 5) := by decide +kernel
theorem dX1_valueIn_36 : decode cX1_valueIn 36 = .ok (.ireturn, 1) := dk_172 (dk_at dksX1_valueIn_1 16 rfl rfl)
theorem dX1_valueIn_37 : decode cX1_valueIn 37 = .ok (.iinc 3 1, 3) := dk_132 3 1 (dk_at dksX1_valueIn_1 17 rfl rfl)
theorem dX1_valueIn_40 : decode cX1_valueIn 40 = .ok (.goto (-32), 3) := dk_167 255 224 (dk_at dksX1_valueIn_1 20 rfl rfl)
theorem dX1_valueIn_43 : decode cX1_valueIn 43 = .ok (.ldc 174, 2) := dk_18 174 (dk_at dksX1_valueIn_2 0 rfl rfl)
theorem dX1_valueIn_45 : decode cX1_valueIn 45 = .ok (.ireturn, 1) := dk_172 (dk_at dksX1_valueIn_2 2 rfl rfl)
abbrev cX1_leafOf : ByteArray := prog_1_method_37_code
def yX1_leafOf : MethodName := ⟨RX1, "leafOf", "(LWideMap$Node;I)LWideMap$Node;"⟩
def dkwX1_leafOf_1 : List UInt8 := [77, 167, 255, 233, 44, 176]
abbrev dktX1_leafOf_1 : List UInt8 := dkwX1_leafOf_1 ++ []
def dkwX1_leafOf_0 : List UInt8 := [42, 77, 44, 185, 1, 11, 1, 0, 154, 0, 20, 44, 44, 27, 185, 1, 14, 2, 0, 185, 1, 17, 2, 0]
abbrev dktX1_leafOf_0 : List UInt8 := dkwX1_leafOf_0 ++ dktX1_leafOf_1
theorem dksX1_leafOf_0 : cX1_leafOf.data.toList.drop 0 = dktX1_leafOf_0 := by decide +kernel
theorem dksX1_leafOf_1 : cX1_leafOf.data.toList.drop 24 = dktX1_leafOf_1 := dk_seg dksX1_leafOf_0 24 rfl rfl
theorem dX1_leafOf_0 : decode cX1_leafOf 0 = .ok (.aload_n 0, 1) := dk_42 (dk_at dksX1_leafOf_0 0 rfl rfl)
theorem dX1_leafOf_1 : decode cX1_leafOf 1 = .ok (.astore_n 2, 1) := dk_77 (dk_at dksX1_leafOf_0 1 rfl rfl)
theorem dX1_leafOf_2 : decode cX1_leafOf 2 = .ok (.aload_n 2, 1) := dk_44 (dk_at dksX1_leafOf_0 2 rfl rfl)
theorem dX1_leafOf_3 : decode cX1_leafOf 3 = .ok (.invokeinterface 267 1, 5) := by decide +kernel
theorem dX1_leafOf_8 : decode cX1_leafOf 8 = .ok (.ifCond .ne 20, 3) := dk_154 0 20 (dk_at dksX1_leafOf_0 8 rfl rfl)
theorem dX1_leafOf_11 : decode cX1_leafOf 11 = .ok (.aload_n 2, 1) := dk_44 (dk_at dksX1_leafOf_0 11 rfl rfl)
theorem dX1_leafOf_12 : decode cX1_leafOf 12 = .ok (.aload_n 2, 1) := dk_44 (dk_at dksX1_leafOf_0 12 rfl rfl)
theorem dX1_leafOf_13 : decode cX1_leafOf 13 = .ok (.iload_n 1, 1) := dk_27 (dk_at dksX1_leafOf_0 13 rfl rfl)
theorem dX1_leafOf_14 : decode cX1_leafOf 14 = .ok (.invokeinterface 270 2, 5) := by decide +kernel
theorem dX1_leafOf_19 : decode cX1_leafOf 19 = .ok (.invokeinterface 273 2, 5) := by decide +kernel
theorem dX1_leafOf_24 : decode cX1_leafOf 24 = .ok (.astore_n 2, 1) := dk_77 (dk_at dksX1_leafOf_1 0 rfl rfl)
theorem dX1_leafOf_25 : decode cX1_leafOf 25 = .ok (.goto (-23), 3) := dk_167 255 233 (dk_at dksX1_leafOf_1 1 rfl rfl)
theorem dX1_leafOf_28 : decode cX1_leafOf 28 = .ok (.aload_n 2, 1) := dk_44 (dk_at dksX1_leafOf_1 4 rfl rfl)
theorem dX1_leafOf_29 : decode cX1_leafOf 29 = .ok (.areturn, 1) := dk_176 (dk_at dksX1_leafOf_1 5 rfl rfl)
abbrev cX1_holds : ByteArray := prog_1_method_30_code
def yX1_holds : MethodName := ⟨RX1, "holds", "(LWideMap$Node;II)I"⟩
def dkwX1_holds_2 : List UInt8 := [180, 0, 243, 29, 79, 42, 89, 180, 0, 243, 4, 96, 181, 0, 243, 42, 180, 0, 243, 4, 100, 172]
abbrev dktX1_holds_2 : List UInt8 := dkwX1_holds_2 ++ []
def dkwX1_holds_1 : List UInt8 := [89, 180, 0, 240, 4, 96, 181, 0, 240, 42, 180, 0, 76, 42, 180, 0, 243, 28, 79, 42, 180, 0, 79, 42]
abbrev dktX1_holds_1 : List UInt8 := dkwX1_holds_1 ++ dktX1_holds_2
def dkwX1_holds_0 : List UInt8 := [42, 180, 0, 57, 42, 180, 0, 240, 42, 180, 0, 243, 79, 42, 180, 0, 65, 42, 180, 0, 240, 43, 83, 42]
abbrev dktX1_holds_0 : List UInt8 := dkwX1_holds_0 ++ dktX1_holds_1
theorem dksX1_holds_0 : cX1_holds.data.toList.drop 0 = dktX1_holds_0 := by decide +kernel
theorem dksX1_holds_1 : cX1_holds.data.toList.drop 24 = dktX1_holds_1 := dk_seg dksX1_holds_0 24 rfl rfl
theorem dksX1_holds_2 : cX1_holds.data.toList.drop 48 = dktX1_holds_2 := dk_seg dksX1_holds_1 24 rfl rfl
theorem dX1_holds_0 : decode cX1_holds 0 = .ok (.aload_n 0, 1) := dk_42 (dk_at dksX1_holds_0 0 rfl rfl)
theorem dX1_holds_1 : decode cX1_holds 1 = .ok (.getfield 57, 3) := dk_180 0 57 (dk_at dksX1_holds_0 1 rfl rfl)
theorem dX1_holds_4 : decode cX1_holds 4 = .ok (.aload_n 0, 1) := dk_42 (dk_at dksX1_holds_0 4 rfl rfl)
theorem dX1_holds_5 : decode cX1_holds 5 = .ok (.getfield 240, 3) := dk_180 0 240 (dk_at dksX1_holds_0 5 rfl rfl)
theorem dX1_holds_8 : decode cX1_holds 8 = .ok (.aload_n 0, 1) := dk_42 (dk_at dksX1_holds_0 8 rfl rfl)
theorem dX1_holds_9 : decode cX1_holds 9 = .ok (.getfield 243, 3) := dk_180 0 243 (dk_at dksX1_holds_0 9 rfl rfl)
theorem dX1_holds_12 : decode cX1_holds 12 = .ok (.iastore, 1) := dk_79 (dk_at dksX1_holds_0 12 rfl rfl)
theorem dX1_holds_13 : decode cX1_holds 13 = .ok (.aload_n 0, 1) := dk_42 (dk_at dksX1_holds_0 13 rfl rfl)
theorem dX1_holds_14 : decode cX1_holds 14 = .ok (.getfield 65, 3) := dk_180 0 65 (dk_at dksX1_holds_0 14 rfl rfl)
theorem dX1_holds_17 : decode cX1_holds 17 = .ok (.aload_n 0, 1) := dk_42 (dk_at dksX1_holds_0 17 rfl rfl)
theorem dX1_holds_18 : decode cX1_holds 18 = .ok (.getfield 240, 3) := dk_180 0 240 (dk_at dksX1_holds_0 18 rfl rfl)
theorem dX1_holds_21 : decode cX1_holds 21 = .ok (.aload_n 1, 1) := dk_43 (dk_at dksX1_holds_0 21 rfl rfl)
theorem dX1_holds_22 : decode cX1_holds 22 = .ok (.aastore, 1) := dk_83 (dk_at dksX1_holds_0 22 rfl rfl)
theorem dX1_holds_23 : decode cX1_holds 23 = .ok (.aload_n 0, 1) := dk_42 (dk_at dksX1_holds_0 23 rfl rfl)
theorem dX1_holds_24 : decode cX1_holds 24 = .ok (.dup, 1) := dk_89 (dk_at dksX1_holds_1 0 rfl rfl)
theorem dX1_holds_25 : decode cX1_holds 25 = .ok (.getfield 240, 3) := dk_180 0 240 (dk_at dksX1_holds_1 1 rfl rfl)
theorem dX1_holds_28 : decode cX1_holds 28 = .ok (.iconst 1, 1) := dk_4 (dk_at dksX1_holds_1 4 rfl rfl)
theorem dX1_holds_29 : decode cX1_holds 29 = .ok (.iadd, 1) := dk_96 (dk_at dksX1_holds_1 5 rfl rfl)
theorem dX1_holds_30 : decode cX1_holds 30 = .ok (.putfield 240, 3) := dk_181 0 240 (dk_at dksX1_holds_1 6 rfl rfl)
theorem dX1_holds_33 : decode cX1_holds 33 = .ok (.aload_n 0, 1) := dk_42 (dk_at dksX1_holds_1 9 rfl rfl)
theorem dX1_holds_34 : decode cX1_holds 34 = .ok (.getfield 76, 3) := dk_180 0 76 (dk_at dksX1_holds_1 10 rfl rfl)
theorem dX1_holds_37 : decode cX1_holds 37 = .ok (.aload_n 0, 1) := dk_42 (dk_at dksX1_holds_1 13 rfl rfl)
theorem dX1_holds_38 : decode cX1_holds 38 = .ok (.getfield 243, 3) := dk_180 0 243 (dk_at dksX1_holds_1 14 rfl rfl)
theorem dX1_holds_41 : decode cX1_holds 41 = .ok (.iload_n 2, 1) := dk_28 (dk_at dksX1_holds_1 17 rfl rfl)
theorem dX1_holds_42 : decode cX1_holds 42 = .ok (.iastore, 1) := dk_79 (dk_at dksX1_holds_1 18 rfl rfl)
theorem dX1_holds_43 : decode cX1_holds 43 = .ok (.aload_n 0, 1) := dk_42 (dk_at dksX1_holds_1 19 rfl rfl)
theorem dX1_holds_44 : decode cX1_holds 44 = .ok (.getfield 79, 3) := dk_180 0 79 (dk_at dksX1_holds_1 20 rfl rfl)
theorem dX1_holds_47 : decode cX1_holds 47 = .ok (.aload_n 0, 1) := dk_42 (dk_at dksX1_holds_1 23 rfl rfl)
theorem dX1_holds_48 : decode cX1_holds 48 = .ok (.getfield 243, 3) := dk_180 0 243 (dk_at dksX1_holds_2 0 rfl rfl)
theorem dX1_holds_51 : decode cX1_holds 51 = .ok (.iload_n 3, 1) := dk_29 (dk_at dksX1_holds_2 3 rfl rfl)
theorem dX1_holds_52 : decode cX1_holds 52 = .ok (.iastore, 1) := dk_79 (dk_at dksX1_holds_2 4 rfl rfl)
theorem dX1_holds_53 : decode cX1_holds 53 = .ok (.aload_n 0, 1) := dk_42 (dk_at dksX1_holds_2 5 rfl rfl)
theorem dX1_holds_54 : decode cX1_holds 54 = .ok (.dup, 1) := dk_89 (dk_at dksX1_holds_2 6 rfl rfl)
theorem dX1_holds_55 : decode cX1_holds 55 = .ok (.getfield 243, 3) := dk_180 0 243 (dk_at dksX1_holds_2 7 rfl rfl)
theorem dX1_holds_58 : decode cX1_holds 58 = .ok (.iconst 1, 1) := dk_4 (dk_at dksX1_holds_2 10 rfl rfl)
theorem dX1_holds_59 : decode cX1_holds 59 = .ok (.iadd, 1) := dk_96 (dk_at dksX1_holds_2 11 rfl rfl)
theorem dX1_holds_60 : decode cX1_holds 60 = .ok (.putfield 243, 3) := dk_181 0 243 (dk_at dksX1_holds_2 12 rfl rfl)
theorem dX1_holds_63 : decode cX1_holds 63 = .ok (.aload_n 0, 1) := dk_42 (dk_at dksX1_holds_2 15 rfl rfl)
theorem dX1_holds_64 : decode cX1_holds 64 = .ok (.getfield 243, 3) := dk_180 0 243 (dk_at dksX1_holds_2 16 rfl rfl)
theorem dX1_holds_67 : decode cX1_holds 67 = .ok (.iconst 1, 1) := dk_4 (dk_at dksX1_holds_2 19 rfl rfl)
theorem dX1_holds_68 : decode cX1_holds 68 = .ok (.isub, 1) := dk_100 (dk_at dksX1_holds_2 20 rfl rfl)
theorem dX1_holds_69 : decode cX1_holds 69 = .ok (.ireturn, 1) := dk_172 (dk_at dksX1_holds_2 21 rfl rfl)
abbrev cX1_wide : ByteArray := prog_1_method_24_code
def yX1_wide : MethodName := ⟨RX1, "wide", "(I)I"⟩
def dkwX1_wide_1 : List UInt8 := [42, 27, 182, 0, 116, 27, 172]
abbrev dktX1_wide_1 : List UInt8 := dkwX1_wide_1 ++ []
def dkwX1_wide_0 : List UInt8 := [42, 27, 6, 16, 6, 184, 0, 127, 153, 0, 7, 2, 167, 0, 4, 4, 182, 0, 212, 153, 0, 5, 2, 172]
abbrev dktX1_wide_0 : List UInt8 := dkwX1_wide_0 ++ dktX1_wide_1
theorem dksX1_wide_0 : cX1_wide.data.toList.drop 0 = dktX1_wide_0 := by decide +kernel
theorem dksX1_wide_1 : cX1_wide.data.toList.drop 24 = dktX1_wide_1 := dk_seg dksX1_wide_0 24 rfl rfl
theorem dX1_wide_0 : decode cX1_wide 0 = .ok (.aload_n 0, 1) := dk_42 (dk_at dksX1_wide_0 0 rfl rfl)
theorem dX1_wide_1 : decode cX1_wide 1 = .ok (.iload_n 1, 1) := dk_27 (dk_at dksX1_wide_0 1 rfl rfl)
theorem dX1_wide_2 : decode cX1_wide 2 = .ok (.iconst 3, 1) := dk_6 (dk_at dksX1_wide_0 2 rfl rfl)
theorem dX1_wide_3 : decode cX1_wide 3 = .ok (.bipush 6, 2) := dk_16 6 (dk_at dksX1_wide_0 3 rfl rfl)
theorem dX1_wide_5 : decode cX1_wide 5 = .ok (.invokestatic 127, 3) := dk_184 0 127 (dk_at dksX1_wide_0 5 rfl rfl)
theorem dX1_wide_8 : decode cX1_wide 8 = .ok (.ifCond .eq 7, 3) := dk_153 0 7 (dk_at dksX1_wide_0 8 rfl rfl)
theorem dX1_wide_11 : decode cX1_wide 11 = .ok (.iconst (-1), 1) := dk_2 (dk_at dksX1_wide_0 11 rfl rfl)
theorem dX1_wide_12 : decode cX1_wide 12 = .ok (.goto 4, 3) := dk_167 0 4 (dk_at dksX1_wide_0 12 rfl rfl)
theorem dX1_wide_15 : decode cX1_wide 15 = .ok (.iconst 1, 1) := dk_4 (dk_at dksX1_wide_0 15 rfl rfl)
theorem dX1_wide_16 : decode cX1_wide 16 = .ok (.invokevirtual 212, 3) := dk_182 0 212 (dk_at dksX1_wide_0 16 rfl rfl)
theorem dX1_wide_19 : decode cX1_wide 19 = .ok (.ifCond .eq 5, 3) := dk_153 0 5 (dk_at dksX1_wide_0 19 rfl rfl)
theorem dX1_wide_22 : decode cX1_wide 22 = .ok (.iconst (-1), 1) := dk_2 (dk_at dksX1_wide_0 22 rfl rfl)
theorem dX1_wide_23 : decode cX1_wide 23 = .ok (.ireturn, 1) := dk_172 (dk_at dksX1_wide_0 23 rfl rfl)
theorem dX1_wide_24 : decode cX1_wide 24 = .ok (.aload_n 0, 1) := dk_42 (dk_at dksX1_wide_1 0 rfl rfl)
theorem dX1_wide_25 : decode cX1_wide 25 = .ok (.iload_n 1, 1) := dk_27 (dk_at dksX1_wide_1 1 rfl rfl)
theorem dX1_wide_26 : decode cX1_wide 26 = .ok (.invokevirtual 116, 3) := dk_182 0 116 (dk_at dksX1_wide_1 2 rfl rfl)
theorem dX1_wide_29 : decode cX1_wide 29 = .ok (.iload_n 1, 1) := dk_27 (dk_at dksX1_wide_1 5 rfl rfl)
theorem dX1_wide_30 : decode cX1_wide 30 = .ok (.ireturn, 1) := dk_172 (dk_at dksX1_wide_1 6 rfl rfl)
abbrev cX1_find : ByteArray := prog_1_method_47_code
def yX1_find : MethodName := ⟨RX1, "find", "(II)I"⟩
def dkwX1_find_0 : List UInt8 := [42, 27, 182, 1, 77, 153, 0, 15, 42, 27, 182, 1, 80, 28, 184, 1, 34, 167, 0, 5, 18, 174, 172]
abbrev dktX1_find_0 : List UInt8 := dkwX1_find_0 ++ []
theorem dksX1_find_0 : cX1_find.data.toList.drop 0 = dktX1_find_0 := by decide +kernel
theorem dX1_find_0 : decode cX1_find 0 = .ok (.aload_n 0, 1) := dk_42 (dk_at dksX1_find_0 0 rfl rfl)
theorem dX1_find_1 : decode cX1_find 1 = .ok (.iload_n 1, 1) := dk_27 (dk_at dksX1_find_0 1 rfl rfl)
theorem dX1_find_2 : decode cX1_find 2 = .ok (.invokevirtual 333, 3) := dk_182 1 77 (dk_at dksX1_find_0 2 rfl rfl)
theorem dX1_find_5 : decode cX1_find 5 = .ok (.ifCond .eq 15, 3) := dk_153 0 15 (dk_at dksX1_find_0 5 rfl rfl)
theorem dX1_find_8 : decode cX1_find 8 = .ok (.aload_n 0, 1) := dk_42 (dk_at dksX1_find_0 8 rfl rfl)
theorem dX1_find_9 : decode cX1_find 9 = .ok (.iload_n 1, 1) := dk_27 (dk_at dksX1_find_0 9 rfl rfl)
theorem dX1_find_10 : decode cX1_find 10 = .ok (.invokevirtual 336, 3) := dk_182 1 80 (dk_at dksX1_find_0 10 rfl rfl)
theorem dX1_find_13 : decode cX1_find 13 = .ok (.iload_n 2, 1) := dk_28 (dk_at dksX1_find_0 13 rfl rfl)
theorem dX1_find_14 : decode cX1_find 14 = .ok (.invokestatic 290, 3) := dk_184 1 34 (dk_at dksX1_find_0 14 rfl rfl)
theorem dX1_find_17 : decode cX1_find 17 = .ok (.goto 5, 3) := dk_167 0 5 (dk_at dksX1_find_0 17 rfl rfl)
theorem dX1_find_20 : decode cX1_find 20 = .ok (.ldc 174, 2) := dk_18 174 (dk_at dksX1_find_0 20 rfl rfl)
theorem dX1_find_22 : decode cX1_find 22 = .ok (.ireturn, 1) := dk_172 (dk_at dksX1_find_0 22 rfl rfl)
abbrev cX1_isMap : ByteArray := prog_1_method_28_code
def yX1_isMap : MethodName := ⟨RX1, "isMap", "(I)Z"⟩
def dkwX1_isMap_0 : List UInt8 := [42, 27, 182, 0, 252, 2, 159, 0, 7, 4, 167, 0, 4, 3, 172]
abbrev dktX1_isMap_0 : List UInt8 := dkwX1_isMap_0 ++ []
theorem dksX1_isMap_0 : cX1_isMap.data.toList.drop 0 = dktX1_isMap_0 := by decide +kernel
theorem dX1_isMap_0 : decode cX1_isMap 0 = .ok (.aload_n 0, 1) := dk_42 (dk_at dksX1_isMap_0 0 rfl rfl)
theorem dX1_isMap_1 : decode cX1_isMap 1 = .ok (.iload_n 1, 1) := dk_27 (dk_at dksX1_isMap_0 1 rfl rfl)
theorem dX1_isMap_2 : decode cX1_isMap 2 = .ok (.invokevirtual 252, 3) := dk_182 0 252 (dk_at dksX1_isMap_0 2 rfl rfl)
theorem dX1_isMap_5 : decode cX1_isMap 5 = .ok (.iconst (-1), 1) := dk_2 (dk_at dksX1_isMap_0 5 rfl rfl)
theorem dX1_isMap_6 : decode cX1_isMap 6 = .ok (.if_icmp .eq 7, 3) := dk_159 0 7 (dk_at dksX1_isMap_0 6 rfl rfl)
theorem dX1_isMap_9 : decode cX1_isMap 9 = .ok (.iconst 1, 1) := dk_4 (dk_at dksX1_isMap_0 9 rfl rfl)
theorem dX1_isMap_10 : decode cX1_isMap 10 = .ok (.goto 4, 3) := dk_167 0 4 (dk_at dksX1_isMap_0 10 rfl rfl)
theorem dX1_isMap_13 : decode cX1_isMap 13 = .ok (.iconst 0, 1) := dk_3 (dk_at dksX1_isMap_0 13 rfl rfl)
theorem dX1_isMap_14 : decode cX1_isMap 14 = .ok (.ireturn, 1) := dk_172 (dk_at dksX1_isMap_0 14 rfl rfl)
abbrev cX1_placeOf : ByteArray := prog_1_method_27_code
def yX1_placeOf : MethodName := ⟨RX1, "placeOf", "(I)I"⟩
def dkwX1_placeOf_1 : List UInt8 := [132, 2, 1, 167, 255, 233, 2, 172]
abbrev dktX1_placeOf_1 : List UInt8 := dkwX1_placeOf_1 ++ []
def dkwX1_placeOf_0 : List UInt8 := [3, 61, 28, 42, 180, 0, 240, 162, 0, 21, 42, 180, 0, 57, 28, 46, 27, 160, 0, 5, 28, 172]
abbrev dktX1_placeOf_0 : List UInt8 := dkwX1_placeOf_0 ++ dktX1_placeOf_1
theorem dksX1_placeOf_0 : cX1_placeOf.data.toList.drop 0 = dktX1_placeOf_0 := by decide +kernel
theorem dksX1_placeOf_1 : cX1_placeOf.data.toList.drop 22 = dktX1_placeOf_1 := dk_seg dksX1_placeOf_0 22 rfl rfl
theorem dX1_placeOf_0 : decode cX1_placeOf 0 = .ok (.iconst 0, 1) := dk_3 (dk_at dksX1_placeOf_0 0 rfl rfl)
theorem dX1_placeOf_1 : decode cX1_placeOf 1 = .ok (.istore_n 2, 1) := dk_61 (dk_at dksX1_placeOf_0 1 rfl rfl)
theorem dX1_placeOf_2 : decode cX1_placeOf 2 = .ok (.iload_n 2, 1) := dk_28 (dk_at dksX1_placeOf_0 2 rfl rfl)
theorem dX1_placeOf_3 : decode cX1_placeOf 3 = .ok (.aload_n 0, 1) := dk_42 (dk_at dksX1_placeOf_0 3 rfl rfl)
theorem dX1_placeOf_4 : decode cX1_placeOf 4 = .ok (.getfield 240, 3) := dk_180 0 240 (dk_at dksX1_placeOf_0 4 rfl rfl)
theorem dX1_placeOf_7 : decode cX1_placeOf 7 = .ok (.if_icmp .ge 21, 3) := dk_162 0 21 (dk_at dksX1_placeOf_0 7 rfl rfl)
theorem dX1_placeOf_10 : decode cX1_placeOf 10 = .ok (.aload_n 0, 1) := dk_42 (dk_at dksX1_placeOf_0 10 rfl rfl)
theorem dX1_placeOf_11 : decode cX1_placeOf 11 = .ok (.getfield 57, 3) := dk_180 0 57 (dk_at dksX1_placeOf_0 11 rfl rfl)
theorem dX1_placeOf_14 : decode cX1_placeOf 14 = .ok (.iload_n 2, 1) := dk_28 (dk_at dksX1_placeOf_0 14 rfl rfl)
theorem dX1_placeOf_15 : decode cX1_placeOf 15 = .ok (.iaload, 1) := dk_46 (dk_at dksX1_placeOf_0 15 rfl rfl)
theorem dX1_placeOf_16 : decode cX1_placeOf 16 = .ok (.iload_n 1, 1) := dk_27 (dk_at dksX1_placeOf_0 16 rfl rfl)
theorem dX1_placeOf_17 : decode cX1_placeOf 17 = .ok (.if_icmp .ne 5, 3) := dk_160 0 5 (dk_at dksX1_placeOf_0 17 rfl rfl)
theorem dX1_placeOf_20 : decode cX1_placeOf 20 = .ok (.iload_n 2, 1) := dk_28 (dk_at dksX1_placeOf_0 20 rfl rfl)
theorem dX1_placeOf_21 : decode cX1_placeOf 21 = .ok (.ireturn, 1) := dk_172 (dk_at dksX1_placeOf_0 21 rfl rfl)
theorem dX1_placeOf_22 : decode cX1_placeOf 22 = .ok (.iinc 2 1, 3) := dk_132 2 1 (dk_at dksX1_placeOf_1 0 rfl rfl)
theorem dX1_placeOf_25 : decode cX1_placeOf 25 = .ok (.goto (-23), 3) := dk_167 255 233 (dk_at dksX1_placeOf_1 3 rfl rfl)
theorem dX1_placeOf_28 : decode cX1_placeOf 28 = .ok (.iconst (-1), 1) := dk_2 (dk_at dksX1_placeOf_1 6 rfl rfl)
theorem dX1_placeOf_29 : decode cX1_placeOf 29 = .ok (.ireturn, 1) := dk_172 (dk_at dksX1_placeOf_1 7 rfl rfl)
abbrev cX1_rootOf : ByteArray := prog_1_method_29_code
def yX1_rootOf : MethodName := ⟨RX1, "rootOf", "(I)LWideMap$Node;"⟩
def dkwX1_rootOf_0 : List UInt8 := [42, 180, 0, 65, 42, 27, 182, 0, 252, 50, 176]
abbrev dktX1_rootOf_0 : List UInt8 := dkwX1_rootOf_0 ++ []
theorem dksX1_rootOf_0 : cX1_rootOf.data.toList.drop 0 = dktX1_rootOf_0 := by decide +kernel
theorem dX1_rootOf_0 : decode cX1_rootOf 0 = .ok (.aload_n 0, 1) := dk_42 (dk_at dksX1_rootOf_0 0 rfl rfl)
theorem dX1_rootOf_1 : decode cX1_rootOf 1 = .ok (.getfield 65, 3) := dk_180 0 65 (dk_at dksX1_rootOf_0 1 rfl rfl)
theorem dX1_rootOf_4 : decode cX1_rootOf 4 = .ok (.aload_n 0, 1) := dk_42 (dk_at dksX1_rootOf_0 4 rfl rfl)
theorem dX1_rootOf_5 : decode cX1_rootOf 5 = .ok (.iload_n 1, 1) := dk_27 (dk_at dksX1_rootOf_0 5 rfl rfl)
theorem dX1_rootOf_6 : decode cX1_rootOf 6 = .ok (.invokevirtual 252, 3) := dk_182 0 252 (dk_at dksX1_rootOf_0 6 rfl rfl)
theorem dX1_rootOf_9 : decode cX1_rootOf 9 = .ok (.aaload, 1) := dk_50 (dk_at dksX1_rootOf_0 9 rfl rfl)
theorem dX1_rootOf_10 : decode cX1_rootOf 10 = .ok (.areturn, 1) := dk_176 (dk_at dksX1_rootOf_0 10 rfl rfl)
abbrev cX1_about : ByteArray := prog_1_method_50_code
def yX1_about : MethodName := ⟨RX1, "about", "(II)I"⟩
def dkwX1_about_6 : List UInt8 := [172]
abbrev dktX1_about_6 : List UInt8 := dkwX1_about_6 ++ []
def dkwX1_about_5 : List UInt8 := [17, 3, 231, 182, 1, 89, 167, 0, 18, 42, 180, 0, 76, 27, 46, 167, 0, 9, 42, 180, 0, 79, 27, 46]
abbrev dktX1_about_5 : List UInt8 := dkwX1_about_5 ++ dktX1_about_6
def dkwX1_about_4 : List UInt8 := [185, 1, 7, 4, 0, 167, 0, 42, 45, 4, 3, 1, 185, 1, 7, 4, 0, 167, 0, 30, 42, 45, 3]
abbrev dktX1_about_4 : List UInt8 := dkwX1_about_4 ++ dktX1_about_5
def dkwX1_about_3 : List UInt8 := [45, 184, 1, 54, 167, 0, 63, 45, 185, 1, 86, 1, 0, 167, 0, 54, 45, 3, 3, 1]
abbrev dktX1_about_3 : List UInt8 := dkwX1_about_3 ++ dktX1_about_4
def dkwX1_about_2 : List UInt8 := [170, 0, 0, 0, 0, 0, 0, 101, 0, 0, 0, 0, 0, 0, 0, 5, 0, 0, 0, 40, 0, 0, 0, 47, 0, 0, 0, 56, 0, 0, 0, 68, 0, 0, 0, 80, 0, 0, 0, 92]
abbrev dktX1_about_2 : List UInt8 := dkwX1_about_2 ++ dktX1_about_3
def dkwX1_about_1 : List UInt8 := [182, 1, 80, 78, 28]
abbrev dktX1_about_1 : List UInt8 := dkwX1_about_1 ++ dktX1_about_2
def dkwX1_about_0 : List UInt8 := [42, 27, 182, 1, 77, 153, 0, 13, 28, 3, 16, 6, 184, 0, 127, 154, 0, 6, 18, 174, 172, 42, 27]
abbrev dktX1_about_0 : List UInt8 := dkwX1_about_0 ++ dktX1_about_1
theorem dksX1_about_0 : cX1_about.data.toList.drop 0 = dktX1_about_0 := by decide +kernel
theorem dksX1_about_1 : cX1_about.data.toList.drop 23 = dktX1_about_1 := dk_seg dksX1_about_0 23 rfl rfl
theorem dksX1_about_2 : cX1_about.data.toList.drop 28 = dktX1_about_2 := dk_seg dksX1_about_1 5 rfl rfl
theorem dksX1_about_3 : cX1_about.data.toList.drop 68 = dktX1_about_3 := dk_seg dksX1_about_2 40 rfl rfl
theorem dksX1_about_4 : cX1_about.data.toList.drop 88 = dktX1_about_4 := dk_seg dksX1_about_3 20 rfl rfl
theorem dksX1_about_5 : cX1_about.data.toList.drop 111 = dktX1_about_5 := dk_seg dksX1_about_4 23 rfl rfl
theorem dksX1_about_6 : cX1_about.data.toList.drop 135 = dktX1_about_6 := dk_seg dksX1_about_5 24 rfl rfl
theorem dX1_about_0 : decode cX1_about 0 = .ok (.aload_n 0, 1) := dk_42 (dk_at dksX1_about_0 0 rfl rfl)
theorem dX1_about_1 : decode cX1_about 1 = .ok (.iload_n 1, 1) := dk_27 (dk_at dksX1_about_0 1 rfl rfl)
theorem dX1_about_2 : decode cX1_about 2 = .ok (.invokevirtual 333, 3) := dk_182 1 77 (dk_at dksX1_about_0 2 rfl rfl)
theorem dX1_about_5 : decode cX1_about 5 = .ok (.ifCond .eq 13, 3) := dk_153 0 13 (dk_at dksX1_about_0 5 rfl rfl)
theorem dX1_about_8 : decode cX1_about 8 = .ok (.iload_n 2, 1) := dk_28 (dk_at dksX1_about_0 8 rfl rfl)
theorem dX1_about_9 : decode cX1_about 9 = .ok (.iconst 0, 1) := dk_3 (dk_at dksX1_about_0 9 rfl rfl)
theorem dX1_about_10 : decode cX1_about 10 = .ok (.bipush 6, 2) := dk_16 6 (dk_at dksX1_about_0 10 rfl rfl)
theorem dX1_about_12 : decode cX1_about 12 = .ok (.invokestatic 127, 3) := dk_184 0 127 (dk_at dksX1_about_0 12 rfl rfl)
theorem dX1_about_15 : decode cX1_about 15 = .ok (.ifCond .ne 6, 3) := dk_154 0 6 (dk_at dksX1_about_0 15 rfl rfl)
theorem dX1_about_18 : decode cX1_about 18 = .ok (.ldc 174, 2) := dk_18 174 (dk_at dksX1_about_0 18 rfl rfl)
theorem dX1_about_20 : decode cX1_about 20 = .ok (.ireturn, 1) := dk_172 (dk_at dksX1_about_0 20 rfl rfl)
theorem dX1_about_21 : decode cX1_about 21 = .ok (.aload_n 0, 1) := dk_42 (dk_at dksX1_about_0 21 rfl rfl)
theorem dX1_about_22 : decode cX1_about 22 = .ok (.iload_n 1, 1) := dk_27 (dk_at dksX1_about_0 22 rfl rfl)
theorem dX1_about_23 : decode cX1_about 23 = .ok (.invokevirtual 336, 3) := dk_182 1 80 (dk_at dksX1_about_1 0 rfl rfl)
theorem dX1_about_26 : decode cX1_about 26 = .ok (.astore_n 3, 1) := dk_78 (dk_at dksX1_about_1 3 rfl rfl)
theorem dX1_about_27 : decode cX1_about 27 = .ok (.iload_n 2, 1) := dk_28 (dk_at dksX1_about_1 4 rfl rfl)
theorem dX1_about_28 : decode cX1_about 28 = .ok (.tableswitch 101 0 5 #[40, 47, 56, 68, 80, 92], 40) := by decide +kernel
theorem dX1_about_68 : decode cX1_about 68 = .ok (.aload_n 3, 1) := dk_45 (dk_at dksX1_about_3 0 rfl rfl)
theorem dX1_about_69 : decode cX1_about 69 = .ok (.invokestatic 310, 3) := dk_184 1 54 (dk_at dksX1_about_3 1 rfl rfl)
theorem dX1_about_72 : decode cX1_about 72 = .ok (.goto 63, 3) := dk_167 0 63 (dk_at dksX1_about_3 4 rfl rfl)
theorem dX1_about_75 : decode cX1_about 75 = .ok (.aload_n 3, 1) := dk_45 (dk_at dksX1_about_3 7 rfl rfl)
theorem dX1_about_76 : decode cX1_about 76 = .ok (.invokeinterface 342 1, 5) := by decide +kernel
theorem dX1_about_81 : decode cX1_about 81 = .ok (.goto 54, 3) := dk_167 0 54 (dk_at dksX1_about_3 13 rfl rfl)
theorem dX1_about_84 : decode cX1_about 84 = .ok (.aload_n 3, 1) := dk_45 (dk_at dksX1_about_3 16 rfl rfl)
theorem dX1_about_85 : decode cX1_about 85 = .ok (.iconst 0, 1) := dk_3 (dk_at dksX1_about_3 17 rfl rfl)
theorem dX1_about_86 : decode cX1_about 86 = .ok (.iconst 0, 1) := dk_3 (dk_at dksX1_about_3 18 rfl rfl)
theorem dX1_about_87 : decode cX1_about 87 = .ok (.aconst_null, 1) := dk_1 (dk_at dksX1_about_3 19 rfl rfl)
theorem dX1_about_88 : decode cX1_about 88 = .ok (.invokeinterface 263 4, 5) := by decide +kernel
theorem dX1_about_93 : decode cX1_about 93 = .ok (.goto 42, 3) := dk_167 0 42 (dk_at dksX1_about_4 5 rfl rfl)
theorem dX1_about_96 : decode cX1_about 96 = .ok (.aload_n 3, 1) := dk_45 (dk_at dksX1_about_4 8 rfl rfl)
theorem dX1_about_97 : decode cX1_about 97 = .ok (.iconst 1, 1) := dk_4 (dk_at dksX1_about_4 9 rfl rfl)
theorem dX1_about_98 : decode cX1_about 98 = .ok (.iconst 0, 1) := dk_3 (dk_at dksX1_about_4 10 rfl rfl)
theorem dX1_about_99 : decode cX1_about 99 = .ok (.aconst_null, 1) := dk_1 (dk_at dksX1_about_4 11 rfl rfl)
theorem dX1_about_100 : decode cX1_about 100 = .ok (.invokeinterface 263 4, 5) := by decide +kernel
theorem dX1_about_105 : decode cX1_about 105 = .ok (.goto 30, 3) := dk_167 0 30 (dk_at dksX1_about_4 17 rfl rfl)
theorem dX1_about_108 : decode cX1_about 108 = .ok (.aload_n 0, 1) := dk_42 (dk_at dksX1_about_4 20 rfl rfl)
theorem dX1_about_109 : decode cX1_about 109 = .ok (.aload_n 3, 1) := dk_45 (dk_at dksX1_about_4 21 rfl rfl)
theorem dX1_about_110 : decode cX1_about 110 = .ok (.iconst 0, 1) := dk_3 (dk_at dksX1_about_4 22 rfl rfl)
theorem dX1_about_111 : decode cX1_about 111 = .ok (.sipush 999, 3) := dk_17 3 231 (dk_at dksX1_about_5 0 rfl rfl)
theorem dX1_about_114 : decode cX1_about 114 = .ok (.invokevirtual 345, 3) := dk_182 1 89 (dk_at dksX1_about_5 3 rfl rfl)
theorem dX1_about_117 : decode cX1_about 117 = .ok (.goto 18, 3) := dk_167 0 18 (dk_at dksX1_about_5 6 rfl rfl)
theorem dX1_about_120 : decode cX1_about 120 = .ok (.aload_n 0, 1) := dk_42 (dk_at dksX1_about_5 9 rfl rfl)
theorem dX1_about_121 : decode cX1_about 121 = .ok (.getfield 76, 3) := dk_180 0 76 (dk_at dksX1_about_5 10 rfl rfl)
theorem dX1_about_124 : decode cX1_about 124 = .ok (.iload_n 1, 1) := dk_27 (dk_at dksX1_about_5 13 rfl rfl)
theorem dX1_about_125 : decode cX1_about 125 = .ok (.iaload, 1) := dk_46 (dk_at dksX1_about_5 14 rfl rfl)
theorem dX1_about_126 : decode cX1_about 126 = .ok (.goto 9, 3) := dk_167 0 9 (dk_at dksX1_about_5 15 rfl rfl)
theorem dX1_about_129 : decode cX1_about 129 = .ok (.aload_n 0, 1) := dk_42 (dk_at dksX1_about_5 18 rfl rfl)
theorem dX1_about_130 : decode cX1_about 130 = .ok (.getfield 79, 3) := dk_180 0 79 (dk_at dksX1_about_5 19 rfl rfl)
theorem dX1_about_133 : decode cX1_about 133 = .ok (.iload_n 1, 1) := dk_27 (dk_at dksX1_about_5 22 rfl rfl)
theorem dX1_about_134 : decode cX1_about 134 = .ok (.iaload, 1) := dk_46 (dk_at dksX1_about_5 23 rfl rfl)
theorem dX1_about_135 : decode cX1_about 135 = .ok (.ireturn, 1) := dk_172 (dk_at dksX1_about_6 0 rfl rfl)
abbrev cX1_sizeOf : ByteArray := prog_1_method_36_code
def yX1_sizeOf : MethodName := ⟨RX1, "sizeOf", "(LWideMap$Node;)I"⟩
def dkwX1_sizeOf_0 : List UInt8 := [42, 8, 3, 1, 185, 1, 7, 4, 0, 172]
abbrev dktX1_sizeOf_0 : List UInt8 := dkwX1_sizeOf_0 ++ []
theorem dksX1_sizeOf_0 : cX1_sizeOf.data.toList.drop 0 = dktX1_sizeOf_0 := by decide +kernel
theorem dX1_sizeOf_0 : decode cX1_sizeOf 0 = .ok (.aload_n 0, 1) := dk_42 (dk_at dksX1_sizeOf_0 0 rfl rfl)
theorem dX1_sizeOf_1 : decode cX1_sizeOf 1 = .ok (.iconst 5, 1) := dk_8 (dk_at dksX1_sizeOf_0 1 rfl rfl)
theorem dX1_sizeOf_2 : decode cX1_sizeOf 2 = .ok (.iconst 0, 1) := dk_3 (dk_at dksX1_sizeOf_0 2 rfl rfl)
theorem dX1_sizeOf_3 : decode cX1_sizeOf 3 = .ok (.aconst_null, 1) := dk_1 (dk_at dksX1_sizeOf_0 3 rfl rfl)
theorem dX1_sizeOf_4 : decode cX1_sizeOf 4 = .ok (.invokeinterface 263 4, 5) := by decide +kernel
theorem dX1_sizeOf_9 : decode cX1_sizeOf 9 = .ok (.ireturn, 1) := dk_172 (dk_at dksX1_sizeOf_0 9 rfl rfl)
abbrev cX1_totalOf : ByteArray := prog_1_method_49_code
def yX1_totalOf : MethodName := ⟨RX1, "totalOf", "(LWideMap$Node;II)I"⟩
def dkwX1_totalOf_2 : List UInt8 := [132, 6, 1, 167, 255, 219, 21, 5, 172]
abbrev dktX1_totalOf_2 : List UInt8 := dkwX1_totalOf_2 ++ []
def dkwX1_totalOf_1 : List UInt8 := [21, 6, 46, 28, 29, 184, 0, 127, 153, 0, 15, 21, 5, 42, 180, 0, 100, 21, 6, 46, 96, 54, 5]
abbrev dktX1_totalOf_1 : List UInt8 := dkwX1_totalOf_1 ++ dktX1_totalOf_2
def dkwX1_totalOf_0 : List UInt8 := [42, 43, 182, 1, 68, 54, 4, 3, 54, 5, 3, 54, 6, 21, 6, 21, 4, 162, 0, 36, 42, 180, 0, 97]
abbrev dktX1_totalOf_0 : List UInt8 := dkwX1_totalOf_0 ++ dktX1_totalOf_1
theorem dksX1_totalOf_0 : cX1_totalOf.data.toList.drop 0 = dktX1_totalOf_0 := by decide +kernel
theorem dksX1_totalOf_1 : cX1_totalOf.data.toList.drop 24 = dktX1_totalOf_1 := dk_seg dksX1_totalOf_0 24 rfl rfl
theorem dksX1_totalOf_2 : cX1_totalOf.data.toList.drop 47 = dktX1_totalOf_2 := dk_seg dksX1_totalOf_1 23 rfl rfl
theorem dX1_totalOf_0 : decode cX1_totalOf 0 = .ok (.aload_n 0, 1) := dk_42 (dk_at dksX1_totalOf_0 0 rfl rfl)
theorem dX1_totalOf_1 : decode cX1_totalOf 1 = .ok (.aload_n 1, 1) := dk_43 (dk_at dksX1_totalOf_0 1 rfl rfl)
theorem dX1_totalOf_2 : decode cX1_totalOf 2 = .ok (.invokevirtual 324, 3) := dk_182 1 68 (dk_at dksX1_totalOf_0 2 rfl rfl)
theorem dX1_totalOf_5 : decode cX1_totalOf 5 = .ok (.istore 4, 2) := dk_54 4 (dk_at dksX1_totalOf_0 5 rfl rfl)
theorem dX1_totalOf_7 : decode cX1_totalOf 7 = .ok (.iconst 0, 1) := dk_3 (dk_at dksX1_totalOf_0 7 rfl rfl)
theorem dX1_totalOf_8 : decode cX1_totalOf 8 = .ok (.istore 5, 2) := dk_54 5 (dk_at dksX1_totalOf_0 8 rfl rfl)
theorem dX1_totalOf_10 : decode cX1_totalOf 10 = .ok (.iconst 0, 1) := dk_3 (dk_at dksX1_totalOf_0 10 rfl rfl)
theorem dX1_totalOf_11 : decode cX1_totalOf 11 = .ok (.istore 6, 2) := dk_54 6 (dk_at dksX1_totalOf_0 11 rfl rfl)
theorem dX1_totalOf_13 : decode cX1_totalOf 13 = .ok (.iload 6, 2) := dk_21 6 (dk_at dksX1_totalOf_0 13 rfl rfl)
theorem dX1_totalOf_15 : decode cX1_totalOf 15 = .ok (.iload 4, 2) := dk_21 4 (dk_at dksX1_totalOf_0 15 rfl rfl)
theorem dX1_totalOf_17 : decode cX1_totalOf 17 = .ok (.if_icmp .ge 36, 3) := dk_162 0 36 (dk_at dksX1_totalOf_0 17 rfl rfl)
theorem dX1_totalOf_20 : decode cX1_totalOf 20 = .ok (.aload_n 0, 1) := dk_42 (dk_at dksX1_totalOf_0 20 rfl rfl)
theorem dX1_totalOf_21 : decode cX1_totalOf 21 = .ok (.getfield 97, 3) := dk_180 0 97 (dk_at dksX1_totalOf_0 21 rfl rfl)
theorem dX1_totalOf_24 : decode cX1_totalOf 24 = .ok (.iload 6, 2) := dk_21 6 (dk_at dksX1_totalOf_1 0 rfl rfl)
theorem dX1_totalOf_26 : decode cX1_totalOf 26 = .ok (.iaload, 1) := dk_46 (dk_at dksX1_totalOf_1 2 rfl rfl)
theorem dX1_totalOf_27 : decode cX1_totalOf 27 = .ok (.iload_n 2, 1) := dk_28 (dk_at dksX1_totalOf_1 3 rfl rfl)
theorem dX1_totalOf_28 : decode cX1_totalOf 28 = .ok (.iload_n 3, 1) := dk_29 (dk_at dksX1_totalOf_1 4 rfl rfl)
theorem dX1_totalOf_29 : decode cX1_totalOf 29 = .ok (.invokestatic 127, 3) := dk_184 0 127 (dk_at dksX1_totalOf_1 5 rfl rfl)
theorem dX1_totalOf_32 : decode cX1_totalOf 32 = .ok (.ifCond .eq 15, 3) := dk_153 0 15 (dk_at dksX1_totalOf_1 8 rfl rfl)
theorem dX1_totalOf_35 : decode cX1_totalOf 35 = .ok (.iload 5, 2) := dk_21 5 (dk_at dksX1_totalOf_1 11 rfl rfl)
theorem dX1_totalOf_37 : decode cX1_totalOf 37 = .ok (.aload_n 0, 1) := dk_42 (dk_at dksX1_totalOf_1 13 rfl rfl)
theorem dX1_totalOf_38 : decode cX1_totalOf 38 = .ok (.getfield 100, 3) := dk_180 0 100 (dk_at dksX1_totalOf_1 14 rfl rfl)
theorem dX1_totalOf_41 : decode cX1_totalOf 41 = .ok (.iload 6, 2) := dk_21 6 (dk_at dksX1_totalOf_1 17 rfl rfl)
theorem dX1_totalOf_43 : decode cX1_totalOf 43 = .ok (.iaload, 1) := dk_46 (dk_at dksX1_totalOf_1 19 rfl rfl)
theorem dX1_totalOf_44 : decode cX1_totalOf 44 = .ok (.iadd, 1) := dk_96 (dk_at dksX1_totalOf_1 20 rfl rfl)
theorem dX1_totalOf_45 : decode cX1_totalOf 45 = .ok (.istore 5, 2) := dk_54 5 (dk_at dksX1_totalOf_1 21 rfl rfl)
theorem dX1_totalOf_47 : decode cX1_totalOf 47 = .ok (.iinc 6 1, 3) := dk_132 6 1 (dk_at dksX1_totalOf_2 0 rfl rfl)
theorem dX1_totalOf_50 : decode cX1_totalOf 50 = .ok (.goto (-37), 3) := dk_167 255 219 (dk_at dksX1_totalOf_2 3 rfl rfl)
theorem dX1_totalOf_53 : decode cX1_totalOf 53 = .ok (.iload 5, 2) := dk_21 5 (dk_at dksX1_totalOf_2 6 rfl rfl)
theorem dX1_totalOf_55 : decode cX1_totalOf 55 = .ok (.ireturn, 1) := dk_172 (dk_at dksX1_totalOf_2 8 rfl rfl)
abbrev cX1_flat : ByteArray := prog_1_method_44_code
def yX1_flat : MethodName := ⟨RX1, "flat", "(LWideMap$Node;)I"⟩
def dkwX1_flat_0 : List UInt8 := [42, 3, 181, 1, 61, 42, 43, 182, 1, 64, 42, 180, 1, 61, 172]
abbrev dktX1_flat_0 : List UInt8 := dkwX1_flat_0 ++ []
theorem dksX1_flat_0 : cX1_flat.data.toList.drop 0 = dktX1_flat_0 := by decide +kernel
theorem dX1_flat_0 : decode cX1_flat 0 = .ok (.aload_n 0, 1) := dk_42 (dk_at dksX1_flat_0 0 rfl rfl)
theorem dX1_flat_1 : decode cX1_flat 1 = .ok (.iconst 0, 1) := dk_3 (dk_at dksX1_flat_0 1 rfl rfl)
theorem dX1_flat_2 : decode cX1_flat 2 = .ok (.putfield 317, 3) := dk_181 1 61 (dk_at dksX1_flat_0 2 rfl rfl)
theorem dX1_flat_5 : decode cX1_flat 5 = .ok (.aload_n 0, 1) := dk_42 (dk_at dksX1_flat_0 5 rfl rfl)
theorem dX1_flat_6 : decode cX1_flat 6 = .ok (.aload_n 1, 1) := dk_43 (dk_at dksX1_flat_0 6 rfl rfl)
theorem dX1_flat_7 : decode cX1_flat 7 = .ok (.invokevirtual 320, 3) := dk_182 1 64 (dk_at dksX1_flat_0 7 rfl rfl)
theorem dX1_flat_10 : decode cX1_flat 10 = .ok (.aload_n 0, 1) := dk_42 (dk_at dksX1_flat_0 10 rfl rfl)
theorem dX1_flat_11 : decode cX1_flat 11 = .ok (.getfield 317, 3) := dk_180 1 61 (dk_at dksX1_flat_0 11 rfl rfl)
theorem dX1_flat_14 : decode cX1_flat 14 = .ok (.ireturn, 1) := dk_172 (dk_at dksX1_flat_0 14 rfl rfl)
abbrev cX1_flatten : ByteArray := prog_1_method_43_code
def yX1_flatten : MethodName := ⟨RX1, "flatten", "(LWideMap$Node;)V"⟩
def dkwX1_flatten_3 : List UInt8 := [185, 1, 17, 2, 0, 182, 1, 64, 132, 2, 1, 167, 255, 178, 177]
abbrev dktX1_flatten_3 : List UInt8 := dkwX1_flatten_3 ++ []
def dkwX1_flatten_2 : List UInt8 := [28, 185, 1, 31, 2, 0, 79, 42, 89, 180, 1, 61, 4, 96, 181, 1, 61, 167, 0, 14, 42, 43, 28]
abbrev dktX1_flatten_2 : List UInt8 := dkwX1_flatten_2 ++ dktX1_flatten_3
def dkwX1_flatten_1 : List UInt8 := [180, 0, 97, 42, 180, 1, 61, 43, 28, 185, 1, 28, 2, 0, 79, 42, 180, 0, 100, 42, 180, 1, 61, 43]
abbrev dktX1_flatten_1 : List UInt8 := dkwX1_flatten_1 ++ dktX1_flatten_2
def dkwX1_flatten_0 : List UInt8 := [3, 61, 28, 43, 185, 1, 25, 1, 0, 162, 0, 74, 43, 185, 1, 11, 1, 0, 153, 0, 48, 42]
abbrev dktX1_flatten_0 : List UInt8 := dkwX1_flatten_0 ++ dktX1_flatten_1
theorem dksX1_flatten_0 : cX1_flatten.data.toList.drop 0 = dktX1_flatten_0 := by decide +kernel
theorem dksX1_flatten_1 : cX1_flatten.data.toList.drop 22 = dktX1_flatten_1 := dk_seg dksX1_flatten_0 22 rfl rfl
theorem dksX1_flatten_2 : cX1_flatten.data.toList.drop 46 = dktX1_flatten_2 := dk_seg dksX1_flatten_1 24 rfl rfl
theorem dksX1_flatten_3 : cX1_flatten.data.toList.drop 69 = dktX1_flatten_3 := dk_seg dksX1_flatten_2 23 rfl rfl
theorem dX1_flatten_0 : decode cX1_flatten 0 = .ok (.iconst 0, 1) := dk_3 (dk_at dksX1_flatten_0 0 rfl rfl)
theorem dX1_flatten_1 : decode cX1_flatten 1 = .ok (.istore_n 2, 1) := dk_61 (dk_at dksX1_flatten_0 1 rfl rfl)
theorem dX1_flatten_2 : decode cX1_flatten 2 = .ok (.iload_n 2, 1) := dk_28 (dk_at dksX1_flatten_0 2 rfl rfl)
theorem dX1_flatten_3 : decode cX1_flatten 3 = .ok (.aload_n 1, 1) := dk_43 (dk_at dksX1_flatten_0 3 rfl rfl)
theorem dX1_flatten_4 : decode cX1_flatten 4 = .ok (.invokeinterface 281 1, 5) := by decide +kernel
theorem dX1_flatten_9 : decode cX1_flatten 9 = .ok (.if_icmp .ge 74, 3) := dk_162 0 74 (dk_at dksX1_flatten_0 9 rfl rfl)
theorem dX1_flatten_12 : decode cX1_flatten 12 = .ok (.aload_n 1, 1) := dk_43 (dk_at dksX1_flatten_0 12 rfl rfl)
theorem dX1_flatten_13 : decode cX1_flatten 13 = .ok (.invokeinterface 267 1, 5) := by decide +kernel
theorem dX1_flatten_18 : decode cX1_flatten 18 = .ok (.ifCond .eq 48, 3) := dk_153 0 48 (dk_at dksX1_flatten_0 18 rfl rfl)
theorem dX1_flatten_21 : decode cX1_flatten 21 = .ok (.aload_n 0, 1) := dk_42 (dk_at dksX1_flatten_0 21 rfl rfl)
theorem dX1_flatten_22 : decode cX1_flatten 22 = .ok (.getfield 97, 3) := dk_180 0 97 (dk_at dksX1_flatten_1 0 rfl rfl)
theorem dX1_flatten_25 : decode cX1_flatten 25 = .ok (.aload_n 0, 1) := dk_42 (dk_at dksX1_flatten_1 3 rfl rfl)
theorem dX1_flatten_26 : decode cX1_flatten 26 = .ok (.getfield 317, 3) := dk_180 1 61 (dk_at dksX1_flatten_1 4 rfl rfl)
theorem dX1_flatten_29 : decode cX1_flatten 29 = .ok (.aload_n 1, 1) := dk_43 (dk_at dksX1_flatten_1 7 rfl rfl)
theorem dX1_flatten_30 : decode cX1_flatten 30 = .ok (.iload_n 2, 1) := dk_28 (dk_at dksX1_flatten_1 8 rfl rfl)
theorem dX1_flatten_31 : decode cX1_flatten 31 = .ok (.invokeinterface 284 2, 5) := by decide +kernel
theorem dX1_flatten_36 : decode cX1_flatten 36 = .ok (.iastore, 1) := dk_79 (dk_at dksX1_flatten_1 14 rfl rfl)
theorem dX1_flatten_37 : decode cX1_flatten 37 = .ok (.aload_n 0, 1) := dk_42 (dk_at dksX1_flatten_1 15 rfl rfl)
theorem dX1_flatten_38 : decode cX1_flatten 38 = .ok (.getfield 100, 3) := dk_180 0 100 (dk_at dksX1_flatten_1 16 rfl rfl)
theorem dX1_flatten_41 : decode cX1_flatten 41 = .ok (.aload_n 0, 1) := dk_42 (dk_at dksX1_flatten_1 19 rfl rfl)
theorem dX1_flatten_42 : decode cX1_flatten 42 = .ok (.getfield 317, 3) := dk_180 1 61 (dk_at dksX1_flatten_1 20 rfl rfl)
theorem dX1_flatten_45 : decode cX1_flatten 45 = .ok (.aload_n 1, 1) := dk_43 (dk_at dksX1_flatten_1 23 rfl rfl)
theorem dX1_flatten_46 : decode cX1_flatten 46 = .ok (.iload_n 2, 1) := dk_28 (dk_at dksX1_flatten_2 0 rfl rfl)
theorem dX1_flatten_47 : decode cX1_flatten 47 = .ok (.invokeinterface 287 2, 5) := by decide +kernel
theorem dX1_flatten_52 : decode cX1_flatten 52 = .ok (.iastore, 1) := dk_79 (dk_at dksX1_flatten_2 6 rfl rfl)
theorem dX1_flatten_53 : decode cX1_flatten 53 = .ok (.aload_n 0, 1) := dk_42 (dk_at dksX1_flatten_2 7 rfl rfl)
theorem dX1_flatten_54 : decode cX1_flatten 54 = .ok (.dup, 1) := dk_89 (dk_at dksX1_flatten_2 8 rfl rfl)
theorem dX1_flatten_55 : decode cX1_flatten 55 = .ok (.getfield 317, 3) := dk_180 1 61 (dk_at dksX1_flatten_2 9 rfl rfl)
theorem dX1_flatten_58 : decode cX1_flatten 58 = .ok (.iconst 1, 1) := dk_4 (dk_at dksX1_flatten_2 12 rfl rfl)
theorem dX1_flatten_59 : decode cX1_flatten 59 = .ok (.iadd, 1) := dk_96 (dk_at dksX1_flatten_2 13 rfl rfl)
theorem dX1_flatten_60 : decode cX1_flatten 60 = .ok (.putfield 317, 3) := dk_181 1 61 (dk_at dksX1_flatten_2 14 rfl rfl)
theorem dX1_flatten_63 : decode cX1_flatten 63 = .ok (.goto 14, 3) := dk_167 0 14 (dk_at dksX1_flatten_2 17 rfl rfl)
theorem dX1_flatten_66 : decode cX1_flatten 66 = .ok (.aload_n 0, 1) := dk_42 (dk_at dksX1_flatten_2 20 rfl rfl)
theorem dX1_flatten_67 : decode cX1_flatten 67 = .ok (.aload_n 1, 1) := dk_43 (dk_at dksX1_flatten_2 21 rfl rfl)
theorem dX1_flatten_68 : decode cX1_flatten 68 = .ok (.iload_n 2, 1) := dk_28 (dk_at dksX1_flatten_2 22 rfl rfl)
theorem dX1_flatten_69 : decode cX1_flatten 69 = .ok (.invokeinterface 273 2, 5) := by decide +kernel
theorem dX1_flatten_74 : decode cX1_flatten 74 = .ok (.invokevirtual 320, 3) := dk_182 1 64 (dk_at dksX1_flatten_3 5 rfl rfl)
theorem dX1_flatten_77 : decode cX1_flatten 77 = .ok (.iinc 2 1, 3) := dk_132 2 1 (dk_at dksX1_flatten_3 8 rfl rfl)
theorem dX1_flatten_80 : decode cX1_flatten 80 = .ok (.goto (-78), 3) := dk_167 255 178 (dk_at dksX1_flatten_3 11 rfl rfl)
theorem dX1_flatten_83 : decode cX1_flatten 83 = .ok (.return_, 1) := dk_177 (dk_at dksX1_flatten_3 14 rfl rfl)
abbrev cX1_below : ByteArray := prog_1_method_51_code
def yX1_below : MethodName := ⟨RX1, "below", "(II)I"⟩
def dkwX1_below_2 : List UInt8 := [21, 4, 172]
abbrev dktX1_below_2 : List UInt8 := dkwX1_below_2 ++ []
def dkwX1_below_1 : List UInt8 := [21, 4, 29, 162, 0, 20, 42, 180, 0, 97, 21, 4, 46, 28, 162, 0, 9, 132, 4, 1, 167, 255, 236]
abbrev dktX1_below_1 : List UInt8 := dkwX1_below_1 ++ dktX1_below_2
def dkwX1_below_0 : List UInt8 := [42, 27, 182, 1, 77, 154, 0, 5, 2, 172, 42, 42, 27, 182, 1, 80, 182, 1, 68, 62, 3, 54, 4]
abbrev dktX1_below_0 : List UInt8 := dkwX1_below_0 ++ dktX1_below_1
theorem dksX1_below_0 : cX1_below.data.toList.drop 0 = dktX1_below_0 := by decide +kernel
theorem dksX1_below_1 : cX1_below.data.toList.drop 23 = dktX1_below_1 := dk_seg dksX1_below_0 23 rfl rfl
theorem dksX1_below_2 : cX1_below.data.toList.drop 46 = dktX1_below_2 := dk_seg dksX1_below_1 23 rfl rfl
theorem dX1_below_0 : decode cX1_below 0 = .ok (.aload_n 0, 1) := dk_42 (dk_at dksX1_below_0 0 rfl rfl)
theorem dX1_below_1 : decode cX1_below 1 = .ok (.iload_n 1, 1) := dk_27 (dk_at dksX1_below_0 1 rfl rfl)
theorem dX1_below_2 : decode cX1_below 2 = .ok (.invokevirtual 333, 3) := dk_182 1 77 (dk_at dksX1_below_0 2 rfl rfl)
theorem dX1_below_5 : decode cX1_below 5 = .ok (.ifCond .ne 5, 3) := dk_154 0 5 (dk_at dksX1_below_0 5 rfl rfl)
theorem dX1_below_8 : decode cX1_below 8 = .ok (.iconst (-1), 1) := dk_2 (dk_at dksX1_below_0 8 rfl rfl)
theorem dX1_below_9 : decode cX1_below 9 = .ok (.ireturn, 1) := dk_172 (dk_at dksX1_below_0 9 rfl rfl)
theorem dX1_below_10 : decode cX1_below 10 = .ok (.aload_n 0, 1) := dk_42 (dk_at dksX1_below_0 10 rfl rfl)
theorem dX1_below_11 : decode cX1_below 11 = .ok (.aload_n 0, 1) := dk_42 (dk_at dksX1_below_0 11 rfl rfl)
theorem dX1_below_12 : decode cX1_below 12 = .ok (.iload_n 1, 1) := dk_27 (dk_at dksX1_below_0 12 rfl rfl)
theorem dX1_below_13 : decode cX1_below 13 = .ok (.invokevirtual 336, 3) := dk_182 1 80 (dk_at dksX1_below_0 13 rfl rfl)
theorem dX1_below_16 : decode cX1_below 16 = .ok (.invokevirtual 324, 3) := dk_182 1 68 (dk_at dksX1_below_0 16 rfl rfl)
theorem dX1_below_19 : decode cX1_below 19 = .ok (.istore_n 3, 1) := dk_62 (dk_at dksX1_below_0 19 rfl rfl)
theorem dX1_below_20 : decode cX1_below 20 = .ok (.iconst 0, 1) := dk_3 (dk_at dksX1_below_0 20 rfl rfl)
theorem dX1_below_21 : decode cX1_below 21 = .ok (.istore 4, 2) := dk_54 4 (dk_at dksX1_below_0 21 rfl rfl)
theorem dX1_below_23 : decode cX1_below 23 = .ok (.iload 4, 2) := dk_21 4 (dk_at dksX1_below_1 0 rfl rfl)
theorem dX1_below_25 : decode cX1_below 25 = .ok (.iload_n 3, 1) := dk_29 (dk_at dksX1_below_1 2 rfl rfl)
theorem dX1_below_26 : decode cX1_below 26 = .ok (.if_icmp .ge 20, 3) := dk_162 0 20 (dk_at dksX1_below_1 3 rfl rfl)
theorem dX1_below_29 : decode cX1_below 29 = .ok (.aload_n 0, 1) := dk_42 (dk_at dksX1_below_1 6 rfl rfl)
theorem dX1_below_30 : decode cX1_below 30 = .ok (.getfield 97, 3) := dk_180 0 97 (dk_at dksX1_below_1 7 rfl rfl)
theorem dX1_below_33 : decode cX1_below 33 = .ok (.iload 4, 2) := dk_21 4 (dk_at dksX1_below_1 10 rfl rfl)
theorem dX1_below_35 : decode cX1_below 35 = .ok (.iaload, 1) := dk_46 (dk_at dksX1_below_1 12 rfl rfl)
theorem dX1_below_36 : decode cX1_below 36 = .ok (.iload_n 2, 1) := dk_28 (dk_at dksX1_below_1 13 rfl rfl)
theorem dX1_below_37 : decode cX1_below 37 = .ok (.if_icmp .ge 9, 3) := dk_162 0 9 (dk_at dksX1_below_1 14 rfl rfl)
theorem dX1_below_40 : decode cX1_below 40 = .ok (.iinc 4 1, 3) := dk_132 4 1 (dk_at dksX1_below_1 17 rfl rfl)
theorem dX1_below_43 : decode cX1_below 43 = .ok (.goto (-20), 3) := dk_167 255 236 (dk_at dksX1_below_1 20 rfl rfl)
theorem dX1_below_46 : decode cX1_below 46 = .ok (.iload 4, 2) := dk_21 4 (dk_at dksX1_below_2 0 rfl rfl)
theorem dX1_below_48 : decode cX1_below 48 = .ok (.ireturn, 1) := dk_172 (dk_at dksX1_below_2 2 rfl rfl)
abbrev cX1_near : ByteArray := prog_1_method_52_code
def yX1_near : MethodName := ⟨RX1, "near", "(III)I"⟩
def dkwX1_near_6 : List UInt8 := [21, 5, 167, 0, 5, 21, 6, 172]
abbrev dktX1_near_6 : List UInt8 := dkwX1_near_6 ++ []
def dkwX1_near_5 : List UInt8 := [160, 0, 12, 42, 180, 0, 97, 21, 7, 46, 54, 6, 132, 7, 1, 167, 255, 163, 29, 5, 112, 154, 0, 8]
abbrev dktX1_near_5 : List UInt8 := dkwX1_near_5 ++ dktX1_near_6
def dkwX1_near_4 : List UInt8 := [21, 6, 2, 160, 0, 33, 42, 180, 0, 97, 21, 7, 46, 28, 163, 0, 13, 21, 8, 153, 0, 17, 29, 4]
abbrev dktX1_near_4 : List UInt8 := dkwX1_near_4 ++ dktX1_near_5
def dkwX1_near_3 : List UInt8 := [46, 28, 161, 0, 12, 21, 8, 153, 0, 16, 29, 154, 0, 12, 42, 180, 0, 97, 21, 7, 46, 54, 5]
abbrev dktX1_near_3 : List UInt8 := dkwX1_near_3 ++ dktX1_near_4
def dkwX1_near_2 : List UInt8 := [42, 180, 0, 97, 21, 7, 46, 28, 160, 0, 7, 4, 167, 0, 4, 3, 54, 8, 42, 180, 0, 97, 21, 7]
abbrev dktX1_near_2 : List UInt8 := dkwX1_near_2 ++ dktX1_near_3
def dkwX1_near_1 : List UInt8 := [182, 1, 80, 182, 1, 68, 54, 4, 2, 54, 5, 2, 54, 6, 3, 54, 7, 21, 7, 21, 4, 162, 0, 92]
abbrev dktX1_near_1 : List UInt8 := dkwX1_near_1 ++ dktX1_near_2
def dkwX1_near_0 : List UInt8 := [42, 27, 182, 1, 77, 153, 0, 12, 29, 3, 6, 184, 0, 127, 154, 0, 5, 2, 172, 42, 42, 27]
abbrev dktX1_near_0 : List UInt8 := dkwX1_near_0 ++ dktX1_near_1
theorem dksX1_near_0 : cX1_near.data.toList.drop 0 = dktX1_near_0 := by decide +kernel
theorem dksX1_near_1 : cX1_near.data.toList.drop 22 = dktX1_near_1 := dk_seg dksX1_near_0 22 rfl rfl
theorem dksX1_near_2 : cX1_near.data.toList.drop 46 = dktX1_near_2 := dk_seg dksX1_near_1 24 rfl rfl
theorem dksX1_near_3 : cX1_near.data.toList.drop 70 = dktX1_near_3 := dk_seg dksX1_near_2 24 rfl rfl
theorem dksX1_near_4 : cX1_near.data.toList.drop 93 = dktX1_near_4 := dk_seg dksX1_near_3 23 rfl rfl
theorem dksX1_near_5 : cX1_near.data.toList.drop 117 = dktX1_near_5 := dk_seg dksX1_near_4 24 rfl rfl
theorem dksX1_near_6 : cX1_near.data.toList.drop 141 = dktX1_near_6 := dk_seg dksX1_near_5 24 rfl rfl
theorem dX1_near_0 : decode cX1_near 0 = .ok (.aload_n 0, 1) := dk_42 (dk_at dksX1_near_0 0 rfl rfl)
theorem dX1_near_1 : decode cX1_near 1 = .ok (.iload_n 1, 1) := dk_27 (dk_at dksX1_near_0 1 rfl rfl)
theorem dX1_near_2 : decode cX1_near 2 = .ok (.invokevirtual 333, 3) := dk_182 1 77 (dk_at dksX1_near_0 2 rfl rfl)
theorem dX1_near_5 : decode cX1_near 5 = .ok (.ifCond .eq 12, 3) := dk_153 0 12 (dk_at dksX1_near_0 5 rfl rfl)
theorem dX1_near_8 : decode cX1_near 8 = .ok (.iload_n 3, 1) := dk_29 (dk_at dksX1_near_0 8 rfl rfl)
theorem dX1_near_9 : decode cX1_near 9 = .ok (.iconst 0, 1) := dk_3 (dk_at dksX1_near_0 9 rfl rfl)
theorem dX1_near_10 : decode cX1_near 10 = .ok (.iconst 3, 1) := dk_6 (dk_at dksX1_near_0 10 rfl rfl)
theorem dX1_near_11 : decode cX1_near 11 = .ok (.invokestatic 127, 3) := dk_184 0 127 (dk_at dksX1_near_0 11 rfl rfl)
theorem dX1_near_14 : decode cX1_near 14 = .ok (.ifCond .ne 5, 3) := dk_154 0 5 (dk_at dksX1_near_0 14 rfl rfl)
theorem dX1_near_17 : decode cX1_near 17 = .ok (.iconst (-1), 1) := dk_2 (dk_at dksX1_near_0 17 rfl rfl)
theorem dX1_near_18 : decode cX1_near 18 = .ok (.ireturn, 1) := dk_172 (dk_at dksX1_near_0 18 rfl rfl)
theorem dX1_near_19 : decode cX1_near 19 = .ok (.aload_n 0, 1) := dk_42 (dk_at dksX1_near_0 19 rfl rfl)
theorem dX1_near_20 : decode cX1_near 20 = .ok (.aload_n 0, 1) := dk_42 (dk_at dksX1_near_0 20 rfl rfl)
theorem dX1_near_21 : decode cX1_near 21 = .ok (.iload_n 1, 1) := dk_27 (dk_at dksX1_near_0 21 rfl rfl)
theorem dX1_near_22 : decode cX1_near 22 = .ok (.invokevirtual 336, 3) := dk_182 1 80 (dk_at dksX1_near_1 0 rfl rfl)
theorem dX1_near_25 : decode cX1_near 25 = .ok (.invokevirtual 324, 3) := dk_182 1 68 (dk_at dksX1_near_1 3 rfl rfl)
theorem dX1_near_28 : decode cX1_near 28 = .ok (.istore 4, 2) := dk_54 4 (dk_at dksX1_near_1 6 rfl rfl)
theorem dX1_near_30 : decode cX1_near 30 = .ok (.iconst (-1), 1) := dk_2 (dk_at dksX1_near_1 8 rfl rfl)
theorem dX1_near_31 : decode cX1_near 31 = .ok (.istore 5, 2) := dk_54 5 (dk_at dksX1_near_1 9 rfl rfl)
theorem dX1_near_33 : decode cX1_near 33 = .ok (.iconst (-1), 1) := dk_2 (dk_at dksX1_near_1 11 rfl rfl)
theorem dX1_near_34 : decode cX1_near 34 = .ok (.istore 6, 2) := dk_54 6 (dk_at dksX1_near_1 12 rfl rfl)
theorem dX1_near_36 : decode cX1_near 36 = .ok (.iconst 0, 1) := dk_3 (dk_at dksX1_near_1 14 rfl rfl)
theorem dX1_near_37 : decode cX1_near 37 = .ok (.istore 7, 2) := dk_54 7 (dk_at dksX1_near_1 15 rfl rfl)
theorem dX1_near_39 : decode cX1_near 39 = .ok (.iload 7, 2) := dk_21 7 (dk_at dksX1_near_1 17 rfl rfl)
theorem dX1_near_41 : decode cX1_near 41 = .ok (.iload 4, 2) := dk_21 4 (dk_at dksX1_near_1 19 rfl rfl)
theorem dX1_near_43 : decode cX1_near 43 = .ok (.if_icmp .ge 92, 3) := dk_162 0 92 (dk_at dksX1_near_1 21 rfl rfl)
theorem dX1_near_46 : decode cX1_near 46 = .ok (.aload_n 0, 1) := dk_42 (dk_at dksX1_near_2 0 rfl rfl)
theorem dX1_near_47 : decode cX1_near 47 = .ok (.getfield 97, 3) := dk_180 0 97 (dk_at dksX1_near_2 1 rfl rfl)
theorem dX1_near_50 : decode cX1_near 50 = .ok (.iload 7, 2) := dk_21 7 (dk_at dksX1_near_2 4 rfl rfl)
theorem dX1_near_52 : decode cX1_near 52 = .ok (.iaload, 1) := dk_46 (dk_at dksX1_near_2 6 rfl rfl)
theorem dX1_near_53 : decode cX1_near 53 = .ok (.iload_n 2, 1) := dk_28 (dk_at dksX1_near_2 7 rfl rfl)
theorem dX1_near_54 : decode cX1_near 54 = .ok (.if_icmp .ne 7, 3) := dk_160 0 7 (dk_at dksX1_near_2 8 rfl rfl)
theorem dX1_near_57 : decode cX1_near 57 = .ok (.iconst 1, 1) := dk_4 (dk_at dksX1_near_2 11 rfl rfl)
theorem dX1_near_58 : decode cX1_near 58 = .ok (.goto 4, 3) := dk_167 0 4 (dk_at dksX1_near_2 12 rfl rfl)
theorem dX1_near_61 : decode cX1_near 61 = .ok (.iconst 0, 1) := dk_3 (dk_at dksX1_near_2 15 rfl rfl)
theorem dX1_near_62 : decode cX1_near 62 = .ok (.istore 8, 2) := dk_54 8 (dk_at dksX1_near_2 16 rfl rfl)
theorem dX1_near_64 : decode cX1_near 64 = .ok (.aload_n 0, 1) := dk_42 (dk_at dksX1_near_2 18 rfl rfl)
theorem dX1_near_65 : decode cX1_near 65 = .ok (.getfield 97, 3) := dk_180 0 97 (dk_at dksX1_near_2 19 rfl rfl)
theorem dX1_near_68 : decode cX1_near 68 = .ok (.iload 7, 2) := dk_21 7 (dk_at dksX1_near_2 22 rfl rfl)
theorem dX1_near_70 : decode cX1_near 70 = .ok (.iaload, 1) := dk_46 (dk_at dksX1_near_3 0 rfl rfl)
theorem dX1_near_71 : decode cX1_near 71 = .ok (.iload_n 2, 1) := dk_28 (dk_at dksX1_near_3 1 rfl rfl)
theorem dX1_near_72 : decode cX1_near 72 = .ok (.if_icmp .lt 12, 3) := dk_161 0 12 (dk_at dksX1_near_3 2 rfl rfl)
theorem dX1_near_75 : decode cX1_near 75 = .ok (.iload 8, 2) := dk_21 8 (dk_at dksX1_near_3 5 rfl rfl)
theorem dX1_near_77 : decode cX1_near 77 = .ok (.ifCond .eq 16, 3) := dk_153 0 16 (dk_at dksX1_near_3 7 rfl rfl)
theorem dX1_near_80 : decode cX1_near 80 = .ok (.iload_n 3, 1) := dk_29 (dk_at dksX1_near_3 10 rfl rfl)
theorem dX1_near_81 : decode cX1_near 81 = .ok (.ifCond .ne 12, 3) := dk_154 0 12 (dk_at dksX1_near_3 11 rfl rfl)
theorem dX1_near_84 : decode cX1_near 84 = .ok (.aload_n 0, 1) := dk_42 (dk_at dksX1_near_3 14 rfl rfl)
theorem dX1_near_85 : decode cX1_near 85 = .ok (.getfield 97, 3) := dk_180 0 97 (dk_at dksX1_near_3 15 rfl rfl)
theorem dX1_near_88 : decode cX1_near 88 = .ok (.iload 7, 2) := dk_21 7 (dk_at dksX1_near_3 18 rfl rfl)
theorem dX1_near_90 : decode cX1_near 90 = .ok (.iaload, 1) := dk_46 (dk_at dksX1_near_3 20 rfl rfl)
theorem dX1_near_91 : decode cX1_near 91 = .ok (.istore 5, 2) := dk_54 5 (dk_at dksX1_near_3 21 rfl rfl)
theorem dX1_near_93 : decode cX1_near 93 = .ok (.iload 6, 2) := dk_21 6 (dk_at dksX1_near_4 0 rfl rfl)
theorem dX1_near_95 : decode cX1_near 95 = .ok (.iconst (-1), 1) := dk_2 (dk_at dksX1_near_4 2 rfl rfl)
theorem dX1_near_96 : decode cX1_near 96 = .ok (.if_icmp .ne 33, 3) := dk_160 0 33 (dk_at dksX1_near_4 3 rfl rfl)
theorem dX1_near_99 : decode cX1_near 99 = .ok (.aload_n 0, 1) := dk_42 (dk_at dksX1_near_4 6 rfl rfl)
theorem dX1_near_100 : decode cX1_near 100 = .ok (.getfield 97, 3) := dk_180 0 97 (dk_at dksX1_near_4 7 rfl rfl)
theorem dX1_near_103 : decode cX1_near 103 = .ok (.iload 7, 2) := dk_21 7 (dk_at dksX1_near_4 10 rfl rfl)
theorem dX1_near_105 : decode cX1_near 105 = .ok (.iaload, 1) := dk_46 (dk_at dksX1_near_4 12 rfl rfl)
theorem dX1_near_106 : decode cX1_near 106 = .ok (.iload_n 2, 1) := dk_28 (dk_at dksX1_near_4 13 rfl rfl)
theorem dX1_near_107 : decode cX1_near 107 = .ok (.if_icmp .gt 13, 3) := dk_163 0 13 (dk_at dksX1_near_4 14 rfl rfl)
theorem dX1_near_110 : decode cX1_near 110 = .ok (.iload 8, 2) := dk_21 8 (dk_at dksX1_near_4 17 rfl rfl)
theorem dX1_near_112 : decode cX1_near 112 = .ok (.ifCond .eq 17, 3) := dk_153 0 17 (dk_at dksX1_near_4 19 rfl rfl)
theorem dX1_near_115 : decode cX1_near 115 = .ok (.iload_n 3, 1) := dk_29 (dk_at dksX1_near_4 22 rfl rfl)
theorem dX1_near_116 : decode cX1_near 116 = .ok (.iconst 1, 1) := dk_4 (dk_at dksX1_near_4 23 rfl rfl)
theorem dX1_near_117 : decode cX1_near 117 = .ok (.if_icmp .ne 12, 3) := dk_160 0 12 (dk_at dksX1_near_5 0 rfl rfl)
theorem dX1_near_120 : decode cX1_near 120 = .ok (.aload_n 0, 1) := dk_42 (dk_at dksX1_near_5 3 rfl rfl)
theorem dX1_near_121 : decode cX1_near 121 = .ok (.getfield 97, 3) := dk_180 0 97 (dk_at dksX1_near_5 4 rfl rfl)
theorem dX1_near_124 : decode cX1_near 124 = .ok (.iload 7, 2) := dk_21 7 (dk_at dksX1_near_5 7 rfl rfl)
theorem dX1_near_126 : decode cX1_near 126 = .ok (.iaload, 1) := dk_46 (dk_at dksX1_near_5 9 rfl rfl)
theorem dX1_near_127 : decode cX1_near 127 = .ok (.istore 6, 2) := dk_54 6 (dk_at dksX1_near_5 10 rfl rfl)
theorem dX1_near_129 : decode cX1_near 129 = .ok (.iinc 7 1, 3) := dk_132 7 1 (dk_at dksX1_near_5 12 rfl rfl)
theorem dX1_near_132 : decode cX1_near 132 = .ok (.goto (-93), 3) := dk_167 255 163 (dk_at dksX1_near_5 15 rfl rfl)
theorem dX1_near_135 : decode cX1_near 135 = .ok (.iload_n 3, 1) := dk_29 (dk_at dksX1_near_5 18 rfl rfl)
theorem dX1_near_136 : decode cX1_near 136 = .ok (.iconst 2, 1) := dk_5 (dk_at dksX1_near_5 19 rfl rfl)
theorem dX1_near_137 : decode cX1_near 137 = .ok (.irem, 1) := dk_112 (dk_at dksX1_near_5 20 rfl rfl)
theorem dX1_near_138 : decode cX1_near 138 = .ok (.ifCond .ne 8, 3) := dk_154 0 8 (dk_at dksX1_near_5 21 rfl rfl)
theorem dX1_near_141 : decode cX1_near 141 = .ok (.iload 5, 2) := dk_21 5 (dk_at dksX1_near_6 0 rfl rfl)
theorem dX1_near_143 : decode cX1_near 143 = .ok (.goto 5, 3) := dk_167 0 5 (dk_at dksX1_near_6 2 rfl rfl)
theorem dX1_near_146 : decode cX1_near 146 = .ok (.iload 6, 2) := dk_21 6 (dk_at dksX1_near_6 5 rfl rfl)
theorem dX1_near_148 : decode cX1_near 148 = .ok (.ireturn, 1) := dk_172 (dk_at dksX1_near_6 7 rfl rfl)
abbrev cX1_total : ByteArray := prog_1_method_53_code
def yX1_total : MethodName := ⟨RX1, "total", "(III)I"⟩
def dkwX1_total_1 : List UInt8 := [172]
abbrev dktX1_total_1 : List UInt8 := dkwX1_total_1 ++ []
def dkwX1_total_0 : List UInt8 := [42, 27, 182, 1, 77, 153, 0, 17, 42, 42, 27, 182, 1, 80, 28, 29, 182, 1, 89, 167, 0, 5, 18, 174]
abbrev dktX1_total_0 : List UInt8 := dkwX1_total_0 ++ dktX1_total_1
theorem dksX1_total_0 : cX1_total.data.toList.drop 0 = dktX1_total_0 := by decide +kernel
theorem dksX1_total_1 : cX1_total.data.toList.drop 24 = dktX1_total_1 := dk_seg dksX1_total_0 24 rfl rfl
theorem dX1_total_0 : decode cX1_total 0 = .ok (.aload_n 0, 1) := dk_42 (dk_at dksX1_total_0 0 rfl rfl)
theorem dX1_total_1 : decode cX1_total 1 = .ok (.iload_n 1, 1) := dk_27 (dk_at dksX1_total_0 1 rfl rfl)
theorem dX1_total_2 : decode cX1_total 2 = .ok (.invokevirtual 333, 3) := dk_182 1 77 (dk_at dksX1_total_0 2 rfl rfl)
theorem dX1_total_5 : decode cX1_total 5 = .ok (.ifCond .eq 17, 3) := dk_153 0 17 (dk_at dksX1_total_0 5 rfl rfl)
theorem dX1_total_8 : decode cX1_total 8 = .ok (.aload_n 0, 1) := dk_42 (dk_at dksX1_total_0 8 rfl rfl)
theorem dX1_total_9 : decode cX1_total 9 = .ok (.aload_n 0, 1) := dk_42 (dk_at dksX1_total_0 9 rfl rfl)
theorem dX1_total_10 : decode cX1_total 10 = .ok (.iload_n 1, 1) := dk_27 (dk_at dksX1_total_0 10 rfl rfl)
theorem dX1_total_11 : decode cX1_total 11 = .ok (.invokevirtual 336, 3) := dk_182 1 80 (dk_at dksX1_total_0 11 rfl rfl)
theorem dX1_total_14 : decode cX1_total 14 = .ok (.iload_n 2, 1) := dk_28 (dk_at dksX1_total_0 14 rfl rfl)
theorem dX1_total_15 : decode cX1_total 15 = .ok (.iload_n 3, 1) := dk_29 (dk_at dksX1_total_0 15 rfl rfl)
theorem dX1_total_16 : decode cX1_total 16 = .ok (.invokevirtual 345, 3) := dk_182 1 89 (dk_at dksX1_total_0 16 rfl rfl)
theorem dX1_total_19 : decode cX1_total 19 = .ok (.goto 5, 3) := dk_167 0 5 (dk_at dksX1_total_0 19 rfl rfl)
theorem dX1_total_22 : decode cX1_total 22 = .ok (.ldc 174, 2) := dk_18 174 (dk_at dksX1_total_0 22 rfl rfl)
theorem dX1_total_24 : decode cX1_total 24 = .ok (.ireturn, 1) := dk_172 (dk_at dksX1_total_1 0 rfl rfl)
abbrev cX1_node : ByteArray := prog_1_method_56_code
def yX1_node : MethodName := ⟨RX1, "node", "(III)I"⟩
def dkwX1_node_6 : List UInt8 := [167, 0, 17, 42, 25, 4, 182, 1, 108, 167, 0, 8, 25, 4, 184, 1, 54, 172]
abbrev dktX1_node_6 : List UInt8 := dkwX1_node_6 ++ []
def dkwX1_node_5 : List UInt8 := [185, 1, 25, 1, 0, 167, 0, 34, 25, 4, 185, 1, 105, 1, 0, 167, 0, 24, 42, 180, 1, 95]
abbrev dktX1_node_5 : List UInt8 := dkwX1_node_5 ++ dktX1_node_6
def dkwX1_node_4 : List UInt8 := [25, 4, 185, 1, 11, 1, 0, 153, 0, 7, 4, 167, 0, 48, 3, 167, 0, 44, 25, 4]
abbrev dktX1_node_4 : List UInt8 := dkwX1_node_4 ++ dktX1_node_5
def dkwX1_node_3 : List UInt8 := [170, 0, 0, 0, 0, 88, 0, 0, 0, 0, 0, 0, 0, 4, 0, 0, 0, 34, 0, 0, 0, 52, 0, 0, 0, 62, 0, 0, 0, 72, 0, 0, 0, 79]
abbrev dktX1_node_3 : List UInt8 := dkwX1_node_3 ++ dktX1_node_4
def dkwX1_node_2 : List UInt8 := [172, 29]
abbrev dktX1_node_2 : List UInt8 := dkwX1_node_2 ++ dktX1_node_3
def dkwX1_node_1 : List UInt8 := [42, 28, 181, 1, 92, 42, 42, 27, 182, 1, 80, 3, 182, 1, 98, 58, 4, 25, 4, 199, 0, 6, 18, 174]
abbrev dktX1_node_1 : List UInt8 := dkwX1_node_1 ++ dktX1_node_2
def dkwX1_node_0 : List UInt8 := [42, 27, 182, 1, 77, 153, 0, 16, 28, 155, 0, 12, 29, 3, 8, 184, 0, 127, 154, 0, 6, 18, 174, 172]
abbrev dktX1_node_0 : List UInt8 := dkwX1_node_0 ++ dktX1_node_1
theorem dksX1_node_0 : cX1_node.data.toList.drop 0 = dktX1_node_0 := by decide +kernel
theorem dksX1_node_1 : cX1_node.data.toList.drop 24 = dktX1_node_1 := dk_seg dksX1_node_0 24 rfl rfl
theorem dksX1_node_2 : cX1_node.data.toList.drop 48 = dktX1_node_2 := dk_seg dksX1_node_1 24 rfl rfl
theorem dksX1_node_3 : cX1_node.data.toList.drop 50 = dktX1_node_3 := dk_seg dksX1_node_2 2 rfl rfl
theorem dksX1_node_4 : cX1_node.data.toList.drop 84 = dktX1_node_4 := dk_seg dksX1_node_3 34 rfl rfl
theorem dksX1_node_5 : cX1_node.data.toList.drop 104 = dktX1_node_5 := dk_seg dksX1_node_4 20 rfl rfl
theorem dksX1_node_6 : cX1_node.data.toList.drop 126 = dktX1_node_6 := dk_seg dksX1_node_5 22 rfl rfl
theorem dX1_node_0 : decode cX1_node 0 = .ok (.aload_n 0, 1) := dk_42 (dk_at dksX1_node_0 0 rfl rfl)
theorem dX1_node_1 : decode cX1_node 1 = .ok (.iload_n 1, 1) := dk_27 (dk_at dksX1_node_0 1 rfl rfl)
theorem dX1_node_2 : decode cX1_node 2 = .ok (.invokevirtual 333, 3) := dk_182 1 77 (dk_at dksX1_node_0 2 rfl rfl)
theorem dX1_node_5 : decode cX1_node 5 = .ok (.ifCond .eq 16, 3) := dk_153 0 16 (dk_at dksX1_node_0 5 rfl rfl)
theorem dX1_node_8 : decode cX1_node 8 = .ok (.iload_n 2, 1) := dk_28 (dk_at dksX1_node_0 8 rfl rfl)
theorem dX1_node_9 : decode cX1_node 9 = .ok (.ifCond .lt 12, 3) := dk_155 0 12 (dk_at dksX1_node_0 9 rfl rfl)
theorem dX1_node_12 : decode cX1_node 12 = .ok (.iload_n 3, 1) := dk_29 (dk_at dksX1_node_0 12 rfl rfl)
theorem dX1_node_13 : decode cX1_node 13 = .ok (.iconst 0, 1) := dk_3 (dk_at dksX1_node_0 13 rfl rfl)
theorem dX1_node_14 : decode cX1_node 14 = .ok (.iconst 5, 1) := dk_8 (dk_at dksX1_node_0 14 rfl rfl)
theorem dX1_node_15 : decode cX1_node 15 = .ok (.invokestatic 127, 3) := dk_184 0 127 (dk_at dksX1_node_0 15 rfl rfl)
theorem dX1_node_18 : decode cX1_node 18 = .ok (.ifCond .ne 6, 3) := dk_154 0 6 (dk_at dksX1_node_0 18 rfl rfl)
theorem dX1_node_21 : decode cX1_node 21 = .ok (.ldc 174, 2) := dk_18 174 (dk_at dksX1_node_0 21 rfl rfl)
theorem dX1_node_23 : decode cX1_node 23 = .ok (.ireturn, 1) := dk_172 (dk_at dksX1_node_0 23 rfl rfl)
theorem dX1_node_24 : decode cX1_node 24 = .ok (.aload_n 0, 1) := dk_42 (dk_at dksX1_node_1 0 rfl rfl)
theorem dX1_node_25 : decode cX1_node 25 = .ok (.iload_n 2, 1) := dk_28 (dk_at dksX1_node_1 1 rfl rfl)
theorem dX1_node_26 : decode cX1_node 26 = .ok (.putfield 348, 3) := dk_181 1 92 (dk_at dksX1_node_1 2 rfl rfl)
theorem dX1_node_29 : decode cX1_node 29 = .ok (.aload_n 0, 1) := dk_42 (dk_at dksX1_node_1 5 rfl rfl)
theorem dX1_node_30 : decode cX1_node 30 = .ok (.aload_n 0, 1) := dk_42 (dk_at dksX1_node_1 6 rfl rfl)
theorem dX1_node_31 : decode cX1_node 31 = .ok (.iload_n 1, 1) := dk_27 (dk_at dksX1_node_1 7 rfl rfl)
theorem dX1_node_32 : decode cX1_node 32 = .ok (.invokevirtual 336, 3) := dk_182 1 80 (dk_at dksX1_node_1 8 rfl rfl)
theorem dX1_node_35 : decode cX1_node 35 = .ok (.iconst 0, 1) := dk_3 (dk_at dksX1_node_1 11 rfl rfl)
theorem dX1_node_36 : decode cX1_node 36 = .ok (.invokevirtual 354, 3) := dk_182 1 98 (dk_at dksX1_node_1 12 rfl rfl)
theorem dX1_node_39 : decode cX1_node 39 = .ok (.astore 4, 2) := dk_58 4 (dk_at dksX1_node_1 15 rfl rfl)
theorem dX1_node_41 : decode cX1_node 41 = .ok (.aload 4, 2) := dk_25 4 (dk_at dksX1_node_1 17 rfl rfl)
theorem dX1_node_43 : decode cX1_node 43 = .ok (.ifnonnull 6, 3) := dk_199 0 6 (dk_at dksX1_node_1 19 rfl rfl)
theorem dX1_node_46 : decode cX1_node 46 = .ok (.ldc 174, 2) := dk_18 174 (dk_at dksX1_node_1 22 rfl rfl)
theorem dX1_node_48 : decode cX1_node 48 = .ok (.ireturn, 1) := dk_172 (dk_at dksX1_node_2 0 rfl rfl)
theorem dX1_node_49 : decode cX1_node 49 = .ok (.iload_n 3, 1) := dk_29 (dk_at dksX1_node_2 1 rfl rfl)
theorem dX1_node_50 : decode cX1_node 50 = .ok (.tableswitch 88 0 4 #[34, 52, 62, 72, 79], 34) := by decide +kernel
theorem dX1_node_84 : decode cX1_node 84 = .ok (.aload 4, 2) := dk_25 4 (dk_at dksX1_node_4 0 rfl rfl)
theorem dX1_node_86 : decode cX1_node 86 = .ok (.invokeinterface 267 1, 5) := by decide +kernel
theorem dX1_node_91 : decode cX1_node 91 = .ok (.ifCond .eq 7, 3) := dk_153 0 7 (dk_at dksX1_node_4 7 rfl rfl)
theorem dX1_node_94 : decode cX1_node 94 = .ok (.iconst 1, 1) := dk_4 (dk_at dksX1_node_4 10 rfl rfl)
theorem dX1_node_95 : decode cX1_node 95 = .ok (.goto 48, 3) := dk_167 0 48 (dk_at dksX1_node_4 11 rfl rfl)
theorem dX1_node_98 : decode cX1_node 98 = .ok (.iconst 0, 1) := dk_3 (dk_at dksX1_node_4 14 rfl rfl)
theorem dX1_node_99 : decode cX1_node 99 = .ok (.goto 44, 3) := dk_167 0 44 (dk_at dksX1_node_4 15 rfl rfl)
theorem dX1_node_102 : decode cX1_node 102 = .ok (.aload 4, 2) := dk_25 4 (dk_at dksX1_node_4 18 rfl rfl)
theorem dX1_node_104 : decode cX1_node 104 = .ok (.invokeinterface 281 1, 5) := by decide +kernel
theorem dX1_node_109 : decode cX1_node 109 = .ok (.goto 34, 3) := dk_167 0 34 (dk_at dksX1_node_5 5 rfl rfl)
theorem dX1_node_112 : decode cX1_node 112 = .ok (.aload 4, 2) := dk_25 4 (dk_at dksX1_node_5 8 rfl rfl)
theorem dX1_node_114 : decode cX1_node 114 = .ok (.invokeinterface 361 1, 5) := by decide +kernel
theorem dX1_node_119 : decode cX1_node 119 = .ok (.goto 24, 3) := dk_167 0 24 (dk_at dksX1_node_5 15 rfl rfl)
theorem dX1_node_122 : decode cX1_node 122 = .ok (.aload_n 0, 1) := dk_42 (dk_at dksX1_node_5 18 rfl rfl)
theorem dX1_node_123 : decode cX1_node 123 = .ok (.getfield 351, 3) := dk_180 1 95 (dk_at dksX1_node_5 19 rfl rfl)
theorem dX1_node_126 : decode cX1_node 126 = .ok (.goto 17, 3) := dk_167 0 17 (dk_at dksX1_node_6 0 rfl rfl)
theorem dX1_node_129 : decode cX1_node 129 = .ok (.aload_n 0, 1) := dk_42 (dk_at dksX1_node_6 3 rfl rfl)
theorem dX1_node_130 : decode cX1_node 130 = .ok (.aload 4, 2) := dk_25 4 (dk_at dksX1_node_6 4 rfl rfl)
theorem dX1_node_132 : decode cX1_node 132 = .ok (.invokevirtual 364, 3) := dk_182 1 108 (dk_at dksX1_node_6 6 rfl rfl)
theorem dX1_node_135 : decode cX1_node 135 = .ok (.goto 8, 3) := dk_167 0 8 (dk_at dksX1_node_6 9 rfl rfl)
theorem dX1_node_138 : decode cX1_node 138 = .ok (.aload 4, 2) := dk_25 4 (dk_at dksX1_node_6 12 rfl rfl)
theorem dX1_node_140 : decode cX1_node 140 = .ok (.invokestatic 310, 3) := dk_184 1 54 (dk_at dksX1_node_6 14 rfl rfl)
theorem dX1_node_143 : decode cX1_node 143 = .ok (.ireturn, 1) := dk_172 (dk_at dksX1_node_6 17 rfl rfl)
abbrev cX1_seek : ByteArray := prog_1_method_54_code
def yX1_seek : MethodName := ⟨RX1, "seek", "(LWideMap$Node;I)LWideMap$Node;"⟩
def dkwX1_seek_3 : List UInt8 := [167, 255, 210, 1, 176]
abbrev dktX1_seek_3 : List UInt8 := dkwX1_seek_3 ++ []
def dkwX1_seek_2 : List UInt8 := [185, 1, 17, 2, 0, 28, 4, 96, 182, 1, 98, 58, 4, 25, 4, 198, 0, 6, 25, 4, 176, 132, 3, 1]
abbrev dktX1_seek_2 : List UInt8 := dkwX1_seek_2 ++ dktX1_seek_3
def dkwX1_seek_1 : List UInt8 := [3, 62, 29, 43, 185, 1, 25, 1, 0, 162, 0, 42, 43, 185, 1, 11, 1, 0, 154, 0, 33, 42, 43, 29]
abbrev dktX1_seek_1 : List UInt8 := dkwX1_seek_1 ++ dktX1_seek_2
def dkwX1_seek_0 : List UInt8 := [42, 180, 1, 92, 154, 0, 10, 42, 28, 181, 1, 95, 43, 176, 42, 89, 180, 1, 92, 4, 100, 181, 1, 92]
abbrev dktX1_seek_0 : List UInt8 := dkwX1_seek_0 ++ dktX1_seek_1
theorem dksX1_seek_0 : cX1_seek.data.toList.drop 0 = dktX1_seek_0 := by decide +kernel
theorem dksX1_seek_1 : cX1_seek.data.toList.drop 24 = dktX1_seek_1 := dk_seg dksX1_seek_0 24 rfl rfl
theorem dksX1_seek_2 : cX1_seek.data.toList.drop 48 = dktX1_seek_2 := dk_seg dksX1_seek_1 24 rfl rfl
theorem dksX1_seek_3 : cX1_seek.data.toList.drop 72 = dktX1_seek_3 := dk_seg dksX1_seek_2 24 rfl rfl
theorem dX1_seek_0 : decode cX1_seek 0 = .ok (.aload_n 0, 1) := dk_42 (dk_at dksX1_seek_0 0 rfl rfl)
theorem dX1_seek_1 : decode cX1_seek 1 = .ok (.getfield 348, 3) := dk_180 1 92 (dk_at dksX1_seek_0 1 rfl rfl)
theorem dX1_seek_4 : decode cX1_seek 4 = .ok (.ifCond .ne 10, 3) := dk_154 0 10 (dk_at dksX1_seek_0 4 rfl rfl)
theorem dX1_seek_7 : decode cX1_seek 7 = .ok (.aload_n 0, 1) := dk_42 (dk_at dksX1_seek_0 7 rfl rfl)
theorem dX1_seek_8 : decode cX1_seek 8 = .ok (.iload_n 2, 1) := dk_28 (dk_at dksX1_seek_0 8 rfl rfl)
theorem dX1_seek_9 : decode cX1_seek 9 = .ok (.putfield 351, 3) := dk_181 1 95 (dk_at dksX1_seek_0 9 rfl rfl)
theorem dX1_seek_12 : decode cX1_seek 12 = .ok (.aload_n 1, 1) := dk_43 (dk_at dksX1_seek_0 12 rfl rfl)
theorem dX1_seek_13 : decode cX1_seek 13 = .ok (.areturn, 1) := dk_176 (dk_at dksX1_seek_0 13 rfl rfl)
theorem dX1_seek_14 : decode cX1_seek 14 = .ok (.aload_n 0, 1) := dk_42 (dk_at dksX1_seek_0 14 rfl rfl)
theorem dX1_seek_15 : decode cX1_seek 15 = .ok (.dup, 1) := dk_89 (dk_at dksX1_seek_0 15 rfl rfl)
theorem dX1_seek_16 : decode cX1_seek 16 = .ok (.getfield 348, 3) := dk_180 1 92 (dk_at dksX1_seek_0 16 rfl rfl)
theorem dX1_seek_19 : decode cX1_seek 19 = .ok (.iconst 1, 1) := dk_4 (dk_at dksX1_seek_0 19 rfl rfl)
theorem dX1_seek_20 : decode cX1_seek 20 = .ok (.isub, 1) := dk_100 (dk_at dksX1_seek_0 20 rfl rfl)
theorem dX1_seek_21 : decode cX1_seek 21 = .ok (.putfield 348, 3) := dk_181 1 92 (dk_at dksX1_seek_0 21 rfl rfl)
theorem dX1_seek_24 : decode cX1_seek 24 = .ok (.iconst 0, 1) := dk_3 (dk_at dksX1_seek_1 0 rfl rfl)
theorem dX1_seek_25 : decode cX1_seek 25 = .ok (.istore_n 3, 1) := dk_62 (dk_at dksX1_seek_1 1 rfl rfl)
theorem dX1_seek_26 : decode cX1_seek 26 = .ok (.iload_n 3, 1) := dk_29 (dk_at dksX1_seek_1 2 rfl rfl)
theorem dX1_seek_27 : decode cX1_seek 27 = .ok (.aload_n 1, 1) := dk_43 (dk_at dksX1_seek_1 3 rfl rfl)
theorem dX1_seek_28 : decode cX1_seek 28 = .ok (.invokeinterface 281 1, 5) := by decide +kernel
theorem dX1_seek_33 : decode cX1_seek 33 = .ok (.if_icmp .ge 42, 3) := dk_162 0 42 (dk_at dksX1_seek_1 9 rfl rfl)
theorem dX1_seek_36 : decode cX1_seek 36 = .ok (.aload_n 1, 1) := dk_43 (dk_at dksX1_seek_1 12 rfl rfl)
theorem dX1_seek_37 : decode cX1_seek 37 = .ok (.invokeinterface 267 1, 5) := by decide +kernel
theorem dX1_seek_42 : decode cX1_seek 42 = .ok (.ifCond .ne 33, 3) := dk_154 0 33 (dk_at dksX1_seek_1 18 rfl rfl)
theorem dX1_seek_45 : decode cX1_seek 45 = .ok (.aload_n 0, 1) := dk_42 (dk_at dksX1_seek_1 21 rfl rfl)
theorem dX1_seek_46 : decode cX1_seek 46 = .ok (.aload_n 1, 1) := dk_43 (dk_at dksX1_seek_1 22 rfl rfl)
theorem dX1_seek_47 : decode cX1_seek 47 = .ok (.iload_n 3, 1) := dk_29 (dk_at dksX1_seek_1 23 rfl rfl)
theorem dX1_seek_48 : decode cX1_seek 48 = .ok (.invokeinterface 273 2, 5) := by decide +kernel
theorem dX1_seek_53 : decode cX1_seek 53 = .ok (.iload_n 2, 1) := dk_28 (dk_at dksX1_seek_2 5 rfl rfl)
theorem dX1_seek_54 : decode cX1_seek 54 = .ok (.iconst 1, 1) := dk_4 (dk_at dksX1_seek_2 6 rfl rfl)
theorem dX1_seek_55 : decode cX1_seek 55 = .ok (.iadd, 1) := dk_96 (dk_at dksX1_seek_2 7 rfl rfl)
theorem dX1_seek_56 : decode cX1_seek 56 = .ok (.invokevirtual 354, 3) := dk_182 1 98 (dk_at dksX1_seek_2 8 rfl rfl)
theorem dX1_seek_59 : decode cX1_seek 59 = .ok (.astore 4, 2) := dk_58 4 (dk_at dksX1_seek_2 11 rfl rfl)
theorem dX1_seek_61 : decode cX1_seek 61 = .ok (.aload 4, 2) := dk_25 4 (dk_at dksX1_seek_2 13 rfl rfl)
theorem dX1_seek_63 : decode cX1_seek 63 = .ok (.ifnull 6, 3) := dk_198 0 6 (dk_at dksX1_seek_2 15 rfl rfl)
theorem dX1_seek_66 : decode cX1_seek 66 = .ok (.aload 4, 2) := dk_25 4 (dk_at dksX1_seek_2 18 rfl rfl)
theorem dX1_seek_68 : decode cX1_seek 68 = .ok (.areturn, 1) := dk_176 (dk_at dksX1_seek_2 20 rfl rfl)
theorem dX1_seek_69 : decode cX1_seek 69 = .ok (.iinc 3 1, 3) := dk_132 3 1 (dk_at dksX1_seek_2 21 rfl rfl)
theorem dX1_seek_72 : decode cX1_seek 72 = .ok (.goto (-46), 3) := dk_167 255 210 (dk_at dksX1_seek_3 0 rfl rfl)
theorem dX1_seek_75 : decode cX1_seek 75 = .ok (.aconst_null, 1) := dk_1 (dk_at dksX1_seek_3 3 rfl rfl)
theorem dX1_seek_76 : decode cX1_seek 76 = .ok (.areturn, 1) := dk_176 (dk_at dksX1_seek_3 4 rfl rfl)
abbrev cX1_inHowMany : ByteArray := prog_1_method_55_code
def yX1_inHowMany : MethodName := ⟨RX1, "inHowMany", "(LWideMap$Node;)I"⟩
def dkwX1_inHowMany_1 : List UInt8 := [153, 0, 6, 132, 2, 1, 132, 3, 1, 167, 255, 227, 28, 172]
abbrev dktX1_inHowMany_1 : List UInt8 := dkwX1_inHowMany_1 ++ []
def dkwX1_inHowMany_0 : List UInt8 := [3, 61, 3, 62, 29, 42, 180, 0, 240, 162, 0, 27, 42, 180, 0, 65, 29, 50, 43, 185, 1, 101, 2, 0]
abbrev dktX1_inHowMany_0 : List UInt8 := dkwX1_inHowMany_0 ++ dktX1_inHowMany_1
theorem dksX1_inHowMany_0 : cX1_inHowMany.data.toList.drop 0 = dktX1_inHowMany_0 := by decide +kernel
theorem dksX1_inHowMany_1 : cX1_inHowMany.data.toList.drop 24 = dktX1_inHowMany_1 := dk_seg dksX1_inHowMany_0 24 rfl rfl
theorem dX1_inHowMany_0 : decode cX1_inHowMany 0 = .ok (.iconst 0, 1) := dk_3 (dk_at dksX1_inHowMany_0 0 rfl rfl)
theorem dX1_inHowMany_1 : decode cX1_inHowMany 1 = .ok (.istore_n 2, 1) := dk_61 (dk_at dksX1_inHowMany_0 1 rfl rfl)
theorem dX1_inHowMany_2 : decode cX1_inHowMany 2 = .ok (.iconst 0, 1) := dk_3 (dk_at dksX1_inHowMany_0 2 rfl rfl)
theorem dX1_inHowMany_3 : decode cX1_inHowMany 3 = .ok (.istore_n 3, 1) := dk_62 (dk_at dksX1_inHowMany_0 3 rfl rfl)
theorem dX1_inHowMany_4 : decode cX1_inHowMany 4 = .ok (.iload_n 3, 1) := dk_29 (dk_at dksX1_inHowMany_0 4 rfl rfl)
theorem dX1_inHowMany_5 : decode cX1_inHowMany 5 = .ok (.aload_n 0, 1) := dk_42 (dk_at dksX1_inHowMany_0 5 rfl rfl)
theorem dX1_inHowMany_6 : decode cX1_inHowMany 6 = .ok (.getfield 240, 3) := dk_180 0 240 (dk_at dksX1_inHowMany_0 6 rfl rfl)
theorem dX1_inHowMany_9 : decode cX1_inHowMany 9 = .ok (.if_icmp .ge 27, 3) := dk_162 0 27 (dk_at dksX1_inHowMany_0 9 rfl rfl)
theorem dX1_inHowMany_12 : decode cX1_inHowMany 12 = .ok (.aload_n 0, 1) := dk_42 (dk_at dksX1_inHowMany_0 12 rfl rfl)
theorem dX1_inHowMany_13 : decode cX1_inHowMany 13 = .ok (.getfield 65, 3) := dk_180 0 65 (dk_at dksX1_inHowMany_0 13 rfl rfl)
theorem dX1_inHowMany_16 : decode cX1_inHowMany 16 = .ok (.iload_n 3, 1) := dk_29 (dk_at dksX1_inHowMany_0 16 rfl rfl)
theorem dX1_inHowMany_17 : decode cX1_inHowMany 17 = .ok (.aaload, 1) := dk_50 (dk_at dksX1_inHowMany_0 17 rfl rfl)
theorem dX1_inHowMany_18 : decode cX1_inHowMany 18 = .ok (.aload_n 1, 1) := dk_43 (dk_at dksX1_inHowMany_0 18 rfl rfl)
theorem dX1_inHowMany_19 : decode cX1_inHowMany 19 = .ok (.invokeinterface 357 2, 5) := by decide +kernel
theorem dX1_inHowMany_24 : decode cX1_inHowMany 24 = .ok (.ifCond .eq 6, 3) := dk_153 0 6 (dk_at dksX1_inHowMany_1 0 rfl rfl)
theorem dX1_inHowMany_27 : decode cX1_inHowMany 27 = .ok (.iinc 2 1, 3) := dk_132 2 1 (dk_at dksX1_inHowMany_1 3 rfl rfl)
theorem dX1_inHowMany_30 : decode cX1_inHowMany 30 = .ok (.iinc 3 1, 3) := dk_132 3 1 (dk_at dksX1_inHowMany_1 6 rfl rfl)
theorem dX1_inHowMany_33 : decode cX1_inHowMany 33 = .ok (.goto (-29), 3) := dk_167 255 227 (dk_at dksX1_inHowMany_1 9 rfl rfl)
theorem dX1_inHowMany_36 : decode cX1_inHowMany 36 = .ok (.iload_n 2, 1) := dk_28 (dk_at dksX1_inHowMany_1 12 rfl rfl)
theorem dX1_inHowMany_37 : decode cX1_inHowMany 37 = .ok (.ireturn, 1) := dk_172 (dk_at dksX1_inHowMany_1 13 rfl rfl)
abbrev cX1_having : ByteArray := prog_1_method_57_code
def yX1_having : MethodName := ⟨RX1, "having", "(III)I"⟩
def dkwX1_having_4 : List UInt8 := [180, 0, 226, 27, 2, 182, 0, 230, 172]
abbrev dktX1_having_4 : List UInt8 := dkwX1_having_4 ++ []
def dkwX1_having_3 : List UInt8 := [182, 1, 80, 187, 0, 88, 89, 42, 183, 0, 215, 182, 0, 218, 42, 28, 29, 182, 0, 222, 42, 42]
abbrev dktX1_having_3 : List UInt8 := dkwX1_having_3 ++ dktX1_having_4
def dkwX1_having_2 : List UInt8 := [42, 182, 0, 208, 154, 0, 7, 7, 167, 0, 4, 2, 182, 0, 212, 153, 0, 5, 2, 172, 42, 42, 27]
abbrev dktX1_having_2 : List UInt8 := dkwX1_having_2 ++ dktX1_having_3
def dkwX1_having_1 : List UInt8 := [154, 0, 7, 4, 167, 0, 32, 42, 42, 27, 182, 1, 80, 28, 182, 1, 117, 154, 0, 7, 6, 167, 0, 15]
abbrev dktX1_having_1 : List UInt8 := dkwX1_having_1 ++ dktX1_having_2
def dkwX1_having_0 : List UInt8 := [42, 42, 27, 182, 1, 77, 154, 0, 7, 3, 167, 0, 50, 28, 184, 1, 111, 153, 0, 10, 29, 184, 1, 114]
abbrev dktX1_having_0 : List UInt8 := dkwX1_having_0 ++ dktX1_having_1
theorem dksX1_having_0 : cX1_having.data.toList.drop 0 = dktX1_having_0 := by decide +kernel
theorem dksX1_having_1 : cX1_having.data.toList.drop 24 = dktX1_having_1 := dk_seg dksX1_having_0 24 rfl rfl
theorem dksX1_having_2 : cX1_having.data.toList.drop 48 = dktX1_having_2 := dk_seg dksX1_having_1 24 rfl rfl
theorem dksX1_having_3 : cX1_having.data.toList.drop 71 = dktX1_having_3 := dk_seg dksX1_having_2 23 rfl rfl
theorem dksX1_having_4 : cX1_having.data.toList.drop 93 = dktX1_having_4 := dk_seg dksX1_having_3 22 rfl rfl
theorem dX1_having_0 : decode cX1_having 0 = .ok (.aload_n 0, 1) := dk_42 (dk_at dksX1_having_0 0 rfl rfl)
theorem dX1_having_1 : decode cX1_having 1 = .ok (.aload_n 0, 1) := dk_42 (dk_at dksX1_having_0 1 rfl rfl)
theorem dX1_having_2 : decode cX1_having 2 = .ok (.iload_n 1, 1) := dk_27 (dk_at dksX1_having_0 2 rfl rfl)
theorem dX1_having_3 : decode cX1_having 3 = .ok (.invokevirtual 333, 3) := dk_182 1 77 (dk_at dksX1_having_0 3 rfl rfl)
theorem dX1_having_6 : decode cX1_having 6 = .ok (.ifCond .ne 7, 3) := dk_154 0 7 (dk_at dksX1_having_0 6 rfl rfl)
theorem dX1_having_9 : decode cX1_having 9 = .ok (.iconst 0, 1) := dk_3 (dk_at dksX1_having_0 9 rfl rfl)
theorem dX1_having_10 : decode cX1_having 10 = .ok (.goto 50, 3) := dk_167 0 50 (dk_at dksX1_having_0 10 rfl rfl)
theorem dX1_having_13 : decode cX1_having 13 = .ok (.iload_n 2, 1) := dk_28 (dk_at dksX1_having_0 13 rfl rfl)
theorem dX1_having_14 : decode cX1_having 14 = .ok (.invokestatic 367, 3) := dk_184 1 111 (dk_at dksX1_having_0 14 rfl rfl)
theorem dX1_having_17 : decode cX1_having 17 = .ok (.ifCond .eq 10, 3) := dk_153 0 10 (dk_at dksX1_having_0 17 rfl rfl)
theorem dX1_having_20 : decode cX1_having 20 = .ok (.iload_n 3, 1) := dk_29 (dk_at dksX1_having_0 20 rfl rfl)
theorem dX1_having_21 : decode cX1_having 21 = .ok (.invokestatic 370, 3) := dk_184 1 114 (dk_at dksX1_having_0 21 rfl rfl)
theorem dX1_having_24 : decode cX1_having 24 = .ok (.ifCond .ne 7, 3) := dk_154 0 7 (dk_at dksX1_having_1 0 rfl rfl)
theorem dX1_having_27 : decode cX1_having 27 = .ok (.iconst 1, 1) := dk_4 (dk_at dksX1_having_1 3 rfl rfl)
theorem dX1_having_28 : decode cX1_having 28 = .ok (.goto 32, 3) := dk_167 0 32 (dk_at dksX1_having_1 4 rfl rfl)
theorem dX1_having_31 : decode cX1_having 31 = .ok (.aload_n 0, 1) := dk_42 (dk_at dksX1_having_1 7 rfl rfl)
theorem dX1_having_32 : decode cX1_having 32 = .ok (.aload_n 0, 1) := dk_42 (dk_at dksX1_having_1 8 rfl rfl)
theorem dX1_having_33 : decode cX1_having 33 = .ok (.iload_n 1, 1) := dk_27 (dk_at dksX1_having_1 9 rfl rfl)
theorem dX1_having_34 : decode cX1_having 34 = .ok (.invokevirtual 336, 3) := dk_182 1 80 (dk_at dksX1_having_1 10 rfl rfl)
theorem dX1_having_37 : decode cX1_having 37 = .ok (.iload_n 2, 1) := dk_28 (dk_at dksX1_having_1 13 rfl rfl)
theorem dX1_having_38 : decode cX1_having 38 = .ok (.invokevirtual 373, 3) := dk_182 1 117 (dk_at dksX1_having_1 14 rfl rfl)
theorem dX1_having_41 : decode cX1_having 41 = .ok (.ifCond .ne 7, 3) := dk_154 0 7 (dk_at dksX1_having_1 17 rfl rfl)
theorem dX1_having_44 : decode cX1_having 44 = .ok (.iconst 3, 1) := dk_6 (dk_at dksX1_having_1 20 rfl rfl)
theorem dX1_having_45 : decode cX1_having 45 = .ok (.goto 15, 3) := dk_167 0 15 (dk_at dksX1_having_1 21 rfl rfl)
theorem dX1_having_48 : decode cX1_having 48 = .ok (.aload_n 0, 1) := dk_42 (dk_at dksX1_having_2 0 rfl rfl)
theorem dX1_having_49 : decode cX1_having 49 = .ok (.invokevirtual 208, 3) := dk_182 0 208 (dk_at dksX1_having_2 1 rfl rfl)
theorem dX1_having_52 : decode cX1_having 52 = .ok (.ifCond .ne 7, 3) := dk_154 0 7 (dk_at dksX1_having_2 4 rfl rfl)
theorem dX1_having_55 : decode cX1_having 55 = .ok (.iconst 4, 1) := dk_7 (dk_at dksX1_having_2 7 rfl rfl)
theorem dX1_having_56 : decode cX1_having 56 = .ok (.goto 4, 3) := dk_167 0 4 (dk_at dksX1_having_2 8 rfl rfl)
theorem dX1_having_59 : decode cX1_having 59 = .ok (.iconst (-1), 1) := dk_2 (dk_at dksX1_having_2 11 rfl rfl)
theorem dX1_having_60 : decode cX1_having 60 = .ok (.invokevirtual 212, 3) := dk_182 0 212 (dk_at dksX1_having_2 12 rfl rfl)
theorem dX1_having_63 : decode cX1_having 63 = .ok (.ifCond .eq 5, 3) := dk_153 0 5 (dk_at dksX1_having_2 15 rfl rfl)
theorem dX1_having_66 : decode cX1_having 66 = .ok (.iconst (-1), 1) := dk_2 (dk_at dksX1_having_2 18 rfl rfl)
theorem dX1_having_67 : decode cX1_having 67 = .ok (.ireturn, 1) := dk_172 (dk_at dksX1_having_2 19 rfl rfl)
theorem dX1_having_68 : decode cX1_having 68 = .ok (.aload_n 0, 1) := dk_42 (dk_at dksX1_having_2 20 rfl rfl)
theorem dX1_having_69 : decode cX1_having 69 = .ok (.aload_n 0, 1) := dk_42 (dk_at dksX1_having_2 21 rfl rfl)
theorem dX1_having_70 : decode cX1_having 70 = .ok (.iload_n 1, 1) := dk_27 (dk_at dksX1_having_2 22 rfl rfl)
theorem dX1_having_71 : decode cX1_having 71 = .ok (.invokevirtual 336, 3) := dk_182 1 80 (dk_at dksX1_having_3 0 rfl rfl)
theorem dX1_having_74 : decode cX1_having 74 = .ok (.new 88, 3) := dk_187 0 88 (dk_at dksX1_having_3 3 rfl rfl)
theorem dX1_having_77 : decode cX1_having 77 = .ok (.dup, 1) := dk_89 (dk_at dksX1_having_3 6 rfl rfl)
theorem dX1_having_78 : decode cX1_having 78 = .ok (.aload_n 0, 1) := dk_42 (dk_at dksX1_having_3 7 rfl rfl)
theorem dX1_having_79 : decode cX1_having 79 = .ok (.invokespecial 215, 3) := dk_183 0 215 (dk_at dksX1_having_3 8 rfl rfl)
theorem dX1_having_82 : decode cX1_having 82 = .ok (.invokevirtual 218, 3) := dk_182 0 218 (dk_at dksX1_having_3 11 rfl rfl)
theorem dX1_having_85 : decode cX1_having 85 = .ok (.aload_n 0, 1) := dk_42 (dk_at dksX1_having_3 14 rfl rfl)
theorem dX1_having_86 : decode cX1_having 86 = .ok (.iload_n 2, 1) := dk_28 (dk_at dksX1_having_3 15 rfl rfl)
theorem dX1_having_87 : decode cX1_having 87 = .ok (.iload_n 3, 1) := dk_29 (dk_at dksX1_having_3 16 rfl rfl)
theorem dX1_having_88 : decode cX1_having 88 = .ok (.invokevirtual 222, 3) := dk_182 0 222 (dk_at dksX1_having_3 17 rfl rfl)
theorem dX1_having_91 : decode cX1_having 91 = .ok (.aload_n 0, 1) := dk_42 (dk_at dksX1_having_3 20 rfl rfl)
theorem dX1_having_92 : decode cX1_having 92 = .ok (.aload_n 0, 1) := dk_42 (dk_at dksX1_having_3 21 rfl rfl)
theorem dX1_having_93 : decode cX1_having 93 = .ok (.getfield 226, 3) := dk_180 0 226 (dk_at dksX1_having_4 0 rfl rfl)
theorem dX1_having_96 : decode cX1_having 96 = .ok (.iload_n 1, 1) := dk_27 (dk_at dksX1_having_4 3 rfl rfl)
theorem dX1_having_97 : decode cX1_having 97 = .ok (.iconst (-1), 1) := dk_2 (dk_at dksX1_having_4 4 rfl rfl)
theorem dX1_having_98 : decode cX1_having 98 = .ok (.invokevirtual 230, 3) := dk_182 0 230 (dk_at dksX1_having_4 5 rfl rfl)
theorem dX1_having_101 : decode cX1_having 101 = .ok (.ireturn, 1) := dk_172 (dk_at dksX1_having_4 8 rfl rfl)
abbrev cX1_isKey : ByteArray := prog_1_method_33_code
def yX1_isKey : MethodName := ⟨RX1, "isKey", "(I)Z"⟩
def dkwX1_isKey_0 : List UInt8 := [26, 3, 17, 3, 231, 184, 0, 127, 172]
abbrev dktX1_isKey_0 : List UInt8 := dkwX1_isKey_0 ++ []
theorem dksX1_isKey_0 : cX1_isKey.data.toList.drop 0 = dktX1_isKey_0 := by decide +kernel
theorem dX1_isKey_0 : decode cX1_isKey 0 = .ok (.iload_n 0, 1) := dk_26 (dk_at dksX1_isKey_0 0 rfl rfl)
theorem dX1_isKey_1 : decode cX1_isKey 1 = .ok (.iconst 0, 1) := dk_3 (dk_at dksX1_isKey_0 1 rfl rfl)
theorem dX1_isKey_2 : decode cX1_isKey 2 = .ok (.sipush 999, 3) := dk_17 3 231 (dk_at dksX1_isKey_0 2 rfl rfl)
theorem dX1_isKey_5 : decode cX1_isKey 5 = .ok (.invokestatic 127, 3) := dk_184 0 127 (dk_at dksX1_isKey_0 5 rfl rfl)
theorem dX1_isKey_8 : decode cX1_isKey 8 = .ok (.ireturn, 1) := dk_172 (dk_at dksX1_isKey_0 8 rfl rfl)
abbrev cX1_isValue : ByteArray := prog_1_method_34_code
def yX1_isValue : MethodName := ⟨RX1, "isValue", "(I)Z"⟩
def dkwX1_isValue_0 : List UInt8 := [26, 17, 252, 25, 17, 3, 231, 184, 0, 127, 172]
abbrev dktX1_isValue_0 : List UInt8 := dkwX1_isValue_0 ++ []
theorem dksX1_isValue_0 : cX1_isValue.data.toList.drop 0 = dktX1_isValue_0 := by decide +kernel
theorem dX1_isValue_0 : decode cX1_isValue 0 = .ok (.iload_n 0, 1) := dk_26 (dk_at dksX1_isValue_0 0 rfl rfl)
theorem dX1_isValue_1 : decode cX1_isValue 1 = .ok (.sipush (-999), 3) := dk_17 252 25 (dk_at dksX1_isValue_0 1 rfl rfl)
theorem dX1_isValue_4 : decode cX1_isValue 4 = .ok (.sipush 999, 3) := dk_17 3 231 (dk_at dksX1_isValue_0 4 rfl rfl)
theorem dX1_isValue_7 : decode cX1_isValue 7 = .ok (.invokestatic 127, 3) := dk_184 0 127 (dk_at dksX1_isValue_0 7 rfl rfl)
theorem dX1_isValue_10 : decode cX1_isValue 10 = .ok (.ireturn, 1) := dk_172 (dk_at dksX1_isValue_0 10 rfl rfl)
abbrev cX1_canLay : ByteArray := prog_1_method_41_code
def yX1_canLay : MethodName := ⟨RX1, "canLay", "(LWideMap$Node;I)Z"⟩
def dkwX1_canLay_1 : List UInt8 := [172]
abbrev dktX1_canLay_1 : List UInt8 := dkwX1_canLay_1 ++ []
def dkwX1_canLay_0 : List UInt8 := [43, 28, 184, 1, 34, 18, 174, 160, 0, 12, 43, 184, 1, 54, 16, 60, 162, 0, 7, 4, 167, 0, 4, 3]
abbrev dktX1_canLay_0 : List UInt8 := dkwX1_canLay_0 ++ dktX1_canLay_1
theorem dksX1_canLay_0 : cX1_canLay.data.toList.drop 0 = dktX1_canLay_0 := by decide +kernel
theorem dksX1_canLay_1 : cX1_canLay.data.toList.drop 24 = dktX1_canLay_1 := dk_seg dksX1_canLay_0 24 rfl rfl
theorem dX1_canLay_0 : decode cX1_canLay 0 = .ok (.aload_n 1, 1) := dk_43 (dk_at dksX1_canLay_0 0 rfl rfl)
theorem dX1_canLay_1 : decode cX1_canLay 1 = .ok (.iload_n 2, 1) := dk_28 (dk_at dksX1_canLay_0 1 rfl rfl)
theorem dX1_canLay_2 : decode cX1_canLay 2 = .ok (.invokestatic 290, 3) := dk_184 1 34 (dk_at dksX1_canLay_0 2 rfl rfl)
theorem dX1_canLay_5 : decode cX1_canLay 5 = .ok (.ldc 174, 2) := dk_18 174 (dk_at dksX1_canLay_0 5 rfl rfl)
theorem dX1_canLay_7 : decode cX1_canLay 7 = .ok (.if_icmp .ne 12, 3) := dk_160 0 12 (dk_at dksX1_canLay_0 7 rfl rfl)
theorem dX1_canLay_10 : decode cX1_canLay 10 = .ok (.aload_n 1, 1) := dk_43 (dk_at dksX1_canLay_0 10 rfl rfl)
theorem dX1_canLay_11 : decode cX1_canLay 11 = .ok (.invokestatic 310, 3) := dk_184 1 54 (dk_at dksX1_canLay_0 11 rfl rfl)
theorem dX1_canLay_14 : decode cX1_canLay 14 = .ok (.bipush 60, 2) := dk_16 60 (dk_at dksX1_canLay_0 14 rfl rfl)
theorem dX1_canLay_16 : decode cX1_canLay 16 = .ok (.if_icmp .ge 7, 3) := dk_162 0 7 (dk_at dksX1_canLay_0 16 rfl rfl)
theorem dX1_canLay_19 : decode cX1_canLay 19 = .ok (.iconst 1, 1) := dk_4 (dk_at dksX1_canLay_0 19 rfl rfl)
theorem dX1_canLay_20 : decode cX1_canLay 20 = .ok (.goto 4, 3) := dk_167 0 4 (dk_at dksX1_canLay_0 20 rfl rfl)
theorem dX1_canLay_23 : decode cX1_canLay 23 = .ok (.iconst 0, 1) := dk_3 (dk_at dksX1_canLay_0 23 rfl rfl)
theorem dX1_canLay_24 : decode cX1_canLay 24 = .ok (.ireturn, 1) := dk_172 (dk_at dksX1_canLay_1 0 rfl rfl)
abbrev cX1_lacking : ByteArray := prog_1_method_58_code
def yX1_lacking : MethodName := ⟨RX1, "lacking", "(II)I"⟩
def dkwX1_lacking_3 : List UInt8 := [27, 2, 182, 0, 230, 172]
abbrev dktX1_lacking_3 : List UInt8 := dkwX1_lacking_3 ++ []
def dkwX1_lacking_2 : List UInt8 := [182, 1, 80, 187, 0, 88, 89, 42, 183, 0, 215, 182, 0, 218, 42, 28, 182, 1, 71, 42, 42, 180, 0, 226]
abbrev dktX1_lacking_2 : List UInt8 := dkwX1_lacking_2 ++ dktX1_lacking_3
def dkwX1_lacking_1 : List UInt8 := [42, 182, 0, 208, 154, 0, 7, 7, 167, 0, 4, 2, 182, 0, 212, 153, 0, 5, 2, 172, 42, 42, 27]
abbrev dktX1_lacking_1 : List UInt8 := dkwX1_lacking_1 ++ dktX1_lacking_2
def dkwX1_lacking_0 : List UInt8 := [42, 42, 27, 182, 1, 77, 154, 0, 7, 3, 167, 0, 26, 28, 184, 1, 111, 154, 0, 7, 4, 167, 0, 15]
abbrev dktX1_lacking_0 : List UInt8 := dkwX1_lacking_0 ++ dktX1_lacking_1
theorem dksX1_lacking_0 : cX1_lacking.data.toList.drop 0 = dktX1_lacking_0 := by decide +kernel
theorem dksX1_lacking_1 : cX1_lacking.data.toList.drop 24 = dktX1_lacking_1 := dk_seg dksX1_lacking_0 24 rfl rfl
theorem dksX1_lacking_2 : cX1_lacking.data.toList.drop 47 = dktX1_lacking_2 := dk_seg dksX1_lacking_1 23 rfl rfl
theorem dksX1_lacking_3 : cX1_lacking.data.toList.drop 71 = dktX1_lacking_3 := dk_seg dksX1_lacking_2 24 rfl rfl
theorem dX1_lacking_0 : decode cX1_lacking 0 = .ok (.aload_n 0, 1) := dk_42 (dk_at dksX1_lacking_0 0 rfl rfl)
theorem dX1_lacking_1 : decode cX1_lacking 1 = .ok (.aload_n 0, 1) := dk_42 (dk_at dksX1_lacking_0 1 rfl rfl)
theorem dX1_lacking_2 : decode cX1_lacking 2 = .ok (.iload_n 1, 1) := dk_27 (dk_at dksX1_lacking_0 2 rfl rfl)
theorem dX1_lacking_3 : decode cX1_lacking 3 = .ok (.invokevirtual 333, 3) := dk_182 1 77 (dk_at dksX1_lacking_0 3 rfl rfl)
theorem dX1_lacking_6 : decode cX1_lacking 6 = .ok (.ifCond .ne 7, 3) := dk_154 0 7 (dk_at dksX1_lacking_0 6 rfl rfl)
theorem dX1_lacking_9 : decode cX1_lacking 9 = .ok (.iconst 0, 1) := dk_3 (dk_at dksX1_lacking_0 9 rfl rfl)
theorem dX1_lacking_10 : decode cX1_lacking 10 = .ok (.goto 26, 3) := dk_167 0 26 (dk_at dksX1_lacking_0 10 rfl rfl)
theorem dX1_lacking_13 : decode cX1_lacking 13 = .ok (.iload_n 2, 1) := dk_28 (dk_at dksX1_lacking_0 13 rfl rfl)
theorem dX1_lacking_14 : decode cX1_lacking 14 = .ok (.invokestatic 367, 3) := dk_184 1 111 (dk_at dksX1_lacking_0 14 rfl rfl)
theorem dX1_lacking_17 : decode cX1_lacking 17 = .ok (.ifCond .ne 7, 3) := dk_154 0 7 (dk_at dksX1_lacking_0 17 rfl rfl)
theorem dX1_lacking_20 : decode cX1_lacking 20 = .ok (.iconst 1, 1) := dk_4 (dk_at dksX1_lacking_0 20 rfl rfl)
theorem dX1_lacking_21 : decode cX1_lacking 21 = .ok (.goto 15, 3) := dk_167 0 15 (dk_at dksX1_lacking_0 21 rfl rfl)
theorem dX1_lacking_24 : decode cX1_lacking 24 = .ok (.aload_n 0, 1) := dk_42 (dk_at dksX1_lacking_1 0 rfl rfl)
theorem dX1_lacking_25 : decode cX1_lacking 25 = .ok (.invokevirtual 208, 3) := dk_182 0 208 (dk_at dksX1_lacking_1 1 rfl rfl)
theorem dX1_lacking_28 : decode cX1_lacking 28 = .ok (.ifCond .ne 7, 3) := dk_154 0 7 (dk_at dksX1_lacking_1 4 rfl rfl)
theorem dX1_lacking_31 : decode cX1_lacking 31 = .ok (.iconst 4, 1) := dk_7 (dk_at dksX1_lacking_1 7 rfl rfl)
theorem dX1_lacking_32 : decode cX1_lacking 32 = .ok (.goto 4, 3) := dk_167 0 4 (dk_at dksX1_lacking_1 8 rfl rfl)
theorem dX1_lacking_35 : decode cX1_lacking 35 = .ok (.iconst (-1), 1) := dk_2 (dk_at dksX1_lacking_1 11 rfl rfl)
theorem dX1_lacking_36 : decode cX1_lacking 36 = .ok (.invokevirtual 212, 3) := dk_182 0 212 (dk_at dksX1_lacking_1 12 rfl rfl)
theorem dX1_lacking_39 : decode cX1_lacking 39 = .ok (.ifCond .eq 5, 3) := dk_153 0 5 (dk_at dksX1_lacking_1 15 rfl rfl)
theorem dX1_lacking_42 : decode cX1_lacking 42 = .ok (.iconst (-1), 1) := dk_2 (dk_at dksX1_lacking_1 18 rfl rfl)
theorem dX1_lacking_43 : decode cX1_lacking 43 = .ok (.ireturn, 1) := dk_172 (dk_at dksX1_lacking_1 19 rfl rfl)
theorem dX1_lacking_44 : decode cX1_lacking 44 = .ok (.aload_n 0, 1) := dk_42 (dk_at dksX1_lacking_1 20 rfl rfl)
theorem dX1_lacking_45 : decode cX1_lacking 45 = .ok (.aload_n 0, 1) := dk_42 (dk_at dksX1_lacking_1 21 rfl rfl)
theorem dX1_lacking_46 : decode cX1_lacking 46 = .ok (.iload_n 1, 1) := dk_27 (dk_at dksX1_lacking_1 22 rfl rfl)
theorem dX1_lacking_47 : decode cX1_lacking 47 = .ok (.invokevirtual 336, 3) := dk_182 1 80 (dk_at dksX1_lacking_2 0 rfl rfl)
theorem dX1_lacking_50 : decode cX1_lacking 50 = .ok (.new 88, 3) := dk_187 0 88 (dk_at dksX1_lacking_2 3 rfl rfl)
theorem dX1_lacking_53 : decode cX1_lacking 53 = .ok (.dup, 1) := dk_89 (dk_at dksX1_lacking_2 6 rfl rfl)
theorem dX1_lacking_54 : decode cX1_lacking 54 = .ok (.aload_n 0, 1) := dk_42 (dk_at dksX1_lacking_2 7 rfl rfl)
theorem dX1_lacking_55 : decode cX1_lacking 55 = .ok (.invokespecial 215, 3) := dk_183 0 215 (dk_at dksX1_lacking_2 8 rfl rfl)
theorem dX1_lacking_58 : decode cX1_lacking 58 = .ok (.invokevirtual 218, 3) := dk_182 0 218 (dk_at dksX1_lacking_2 11 rfl rfl)
theorem dX1_lacking_61 : decode cX1_lacking 61 = .ok (.aload_n 0, 1) := dk_42 (dk_at dksX1_lacking_2 14 rfl rfl)
theorem dX1_lacking_62 : decode cX1_lacking 62 = .ok (.iload_n 2, 1) := dk_28 (dk_at dksX1_lacking_2 15 rfl rfl)
theorem dX1_lacking_63 : decode cX1_lacking 63 = .ok (.invokevirtual 327, 3) := dk_182 1 71 (dk_at dksX1_lacking_2 16 rfl rfl)
theorem dX1_lacking_66 : decode cX1_lacking 66 = .ok (.aload_n 0, 1) := dk_42 (dk_at dksX1_lacking_2 19 rfl rfl)
theorem dX1_lacking_67 : decode cX1_lacking 67 = .ok (.aload_n 0, 1) := dk_42 (dk_at dksX1_lacking_2 20 rfl rfl)
theorem dX1_lacking_68 : decode cX1_lacking 68 = .ok (.getfield 226, 3) := dk_180 0 226 (dk_at dksX1_lacking_2 21 rfl rfl)
theorem dX1_lacking_71 : decode cX1_lacking 71 = .ok (.iload_n 1, 1) := dk_27 (dk_at dksX1_lacking_3 0 rfl rfl)
theorem dX1_lacking_72 : decode cX1_lacking 72 = .ok (.iconst (-1), 1) := dk_2 (dk_at dksX1_lacking_3 1 rfl rfl)
theorem dX1_lacking_73 : decode cX1_lacking 73 = .ok (.invokevirtual 230, 3) := dk_182 0 230 (dk_at dksX1_lacking_3 2 rfl rfl)
theorem dX1_lacking_76 : decode cX1_lacking 76 = .ok (.ireturn, 1) := dk_172 (dk_at dksX1_lacking_3 5 rfl rfl)
abbrev cX1_takeNow : ByteArray := prog_1_method_40_code
def yX1_takeNow : MethodName := ⟨RX1, "takeNow", "(I)V"⟩
def dkwX1_takeNow_4 : List UInt8 := [167, 255, 217, 177]
abbrev dktX1_takeNow_4 : List UInt8 := dkwX1_takeNow_4 ++ []
def dkwX1_takeNow_3 : List UInt8 := [185, 1, 25, 1, 0, 4, 160, 0, 20, 42, 42, 180, 0, 226, 3, 185, 1, 17, 2, 0, 181, 0, 226]
abbrev dktX1_takeNow_3 : List UInt8 := dkwX1_takeNow_3 ++ dktX1_takeNow_4
def dkwX1_takeNow_2 : List UInt8 := [185, 1, 50, 4, 0, 42, 180, 0, 226, 185, 1, 11, 1, 0, 154, 0, 33, 42, 180, 0, 226]
abbrev dktX1_takeNow_2 : List UInt8 := dkwX1_takeNow_2 ++ dktX1_takeNow_3
def dkwX1_takeNow_1 : List UInt8 := [185, 1, 38, 2, 0, 181, 0, 226, 42, 180, 0, 226, 42, 180, 0, 255, 27, 42, 180, 0, 237]
abbrev dktX1_takeNow_1 : List UInt8 := dkwX1_takeNow_1 ++ dktX1_takeNow_2
def dkwX1_takeNow_0 : List UInt8 := [42, 180, 0, 226, 27, 184, 1, 34, 18, 174, 160, 0, 4, 177, 42, 42, 180, 0, 226, 42, 180, 0, 255]
abbrev dktX1_takeNow_0 : List UInt8 := dkwX1_takeNow_0 ++ dktX1_takeNow_1
theorem dksX1_takeNow_0 : cX1_takeNow.data.toList.drop 0 = dktX1_takeNow_0 := by decide +kernel
theorem dksX1_takeNow_1 : cX1_takeNow.data.toList.drop 23 = dktX1_takeNow_1 := dk_seg dksX1_takeNow_0 23 rfl rfl
theorem dksX1_takeNow_2 : cX1_takeNow.data.toList.drop 44 = dktX1_takeNow_2 := dk_seg dksX1_takeNow_1 21 rfl rfl
theorem dksX1_takeNow_3 : cX1_takeNow.data.toList.drop 65 = dktX1_takeNow_3 := dk_seg dksX1_takeNow_2 21 rfl rfl
theorem dksX1_takeNow_4 : cX1_takeNow.data.toList.drop 88 = dktX1_takeNow_4 := dk_seg dksX1_takeNow_3 23 rfl rfl
theorem dX1_takeNow_0 : decode cX1_takeNow 0 = .ok (.aload_n 0, 1) := dk_42 (dk_at dksX1_takeNow_0 0 rfl rfl)
theorem dX1_takeNow_1 : decode cX1_takeNow 1 = .ok (.getfield 226, 3) := dk_180 0 226 (dk_at dksX1_takeNow_0 1 rfl rfl)
theorem dX1_takeNow_4 : decode cX1_takeNow 4 = .ok (.iload_n 1, 1) := dk_27 (dk_at dksX1_takeNow_0 4 rfl rfl)
theorem dX1_takeNow_5 : decode cX1_takeNow 5 = .ok (.invokestatic 290, 3) := dk_184 1 34 (dk_at dksX1_takeNow_0 5 rfl rfl)
theorem dX1_takeNow_8 : decode cX1_takeNow 8 = .ok (.ldc 174, 2) := dk_18 174 (dk_at dksX1_takeNow_0 8 rfl rfl)
theorem dX1_takeNow_10 : decode cX1_takeNow 10 = .ok (.if_icmp .ne 4, 3) := dk_160 0 4 (dk_at dksX1_takeNow_0 10 rfl rfl)
theorem dX1_takeNow_13 : decode cX1_takeNow 13 = .ok (.return_, 1) := dk_177 (dk_at dksX1_takeNow_0 13 rfl rfl)
theorem dX1_takeNow_14 : decode cX1_takeNow 14 = .ok (.aload_n 0, 1) := dk_42 (dk_at dksX1_takeNow_0 14 rfl rfl)
theorem dX1_takeNow_15 : decode cX1_takeNow 15 = .ok (.aload_n 0, 1) := dk_42 (dk_at dksX1_takeNow_0 15 rfl rfl)
theorem dX1_takeNow_16 : decode cX1_takeNow 16 = .ok (.getfield 226, 3) := dk_180 0 226 (dk_at dksX1_takeNow_0 16 rfl rfl)
theorem dX1_takeNow_19 : decode cX1_takeNow 19 = .ok (.aload_n 0, 1) := dk_42 (dk_at dksX1_takeNow_0 19 rfl rfl)
theorem dX1_takeNow_20 : decode cX1_takeNow 20 = .ok (.getfield 255, 3) := dk_180 0 255 (dk_at dksX1_takeNow_0 20 rfl rfl)
theorem dX1_takeNow_23 : decode cX1_takeNow 23 = .ok (.invokeinterface 294 2, 5) := by decide +kernel
theorem dX1_takeNow_28 : decode cX1_takeNow 28 = .ok (.putfield 226, 3) := dk_181 0 226 (dk_at dksX1_takeNow_1 5 rfl rfl)
theorem dX1_takeNow_31 : decode cX1_takeNow 31 = .ok (.aload_n 0, 1) := dk_42 (dk_at dksX1_takeNow_1 8 rfl rfl)
theorem dX1_takeNow_32 : decode cX1_takeNow 32 = .ok (.getfield 226, 3) := dk_180 0 226 (dk_at dksX1_takeNow_1 9 rfl rfl)
theorem dX1_takeNow_35 : decode cX1_takeNow 35 = .ok (.aload_n 0, 1) := dk_42 (dk_at dksX1_takeNow_1 12 rfl rfl)
theorem dX1_takeNow_36 : decode cX1_takeNow 36 = .ok (.getfield 255, 3) := dk_180 0 255 (dk_at dksX1_takeNow_1 13 rfl rfl)
theorem dX1_takeNow_39 : decode cX1_takeNow 39 = .ok (.iload_n 1, 1) := dk_27 (dk_at dksX1_takeNow_1 16 rfl rfl)
theorem dX1_takeNow_40 : decode cX1_takeNow 40 = .ok (.aload_n 0, 1) := dk_42 (dk_at dksX1_takeNow_1 17 rfl rfl)
theorem dX1_takeNow_41 : decode cX1_takeNow 41 = .ok (.getfield 237, 3) := dk_180 0 237 (dk_at dksX1_takeNow_1 18 rfl rfl)
theorem dX1_takeNow_44 : decode cX1_takeNow 44 = .ok (.invokeinterface 306 4, 5) := by decide +kernel
theorem dX1_takeNow_49 : decode cX1_takeNow 49 = .ok (.aload_n 0, 1) := dk_42 (dk_at dksX1_takeNow_2 5 rfl rfl)
theorem dX1_takeNow_50 : decode cX1_takeNow 50 = .ok (.getfield 226, 3) := dk_180 0 226 (dk_at dksX1_takeNow_2 6 rfl rfl)
theorem dX1_takeNow_53 : decode cX1_takeNow 53 = .ok (.invokeinterface 267 1, 5) := by decide +kernel
theorem dX1_takeNow_58 : decode cX1_takeNow 58 = .ok (.ifCond .ne 33, 3) := dk_154 0 33 (dk_at dksX1_takeNow_2 14 rfl rfl)
theorem dX1_takeNow_61 : decode cX1_takeNow 61 = .ok (.aload_n 0, 1) := dk_42 (dk_at dksX1_takeNow_2 17 rfl rfl)
theorem dX1_takeNow_62 : decode cX1_takeNow 62 = .ok (.getfield 226, 3) := dk_180 0 226 (dk_at dksX1_takeNow_2 18 rfl rfl)
theorem dX1_takeNow_65 : decode cX1_takeNow 65 = .ok (.invokeinterface 281 1, 5) := by decide +kernel
theorem dX1_takeNow_70 : decode cX1_takeNow 70 = .ok (.iconst 1, 1) := dk_4 (dk_at dksX1_takeNow_3 5 rfl rfl)
theorem dX1_takeNow_71 : decode cX1_takeNow 71 = .ok (.if_icmp .ne 20, 3) := dk_160 0 20 (dk_at dksX1_takeNow_3 6 rfl rfl)
theorem dX1_takeNow_74 : decode cX1_takeNow 74 = .ok (.aload_n 0, 1) := dk_42 (dk_at dksX1_takeNow_3 9 rfl rfl)
theorem dX1_takeNow_75 : decode cX1_takeNow 75 = .ok (.aload_n 0, 1) := dk_42 (dk_at dksX1_takeNow_3 10 rfl rfl)
theorem dX1_takeNow_76 : decode cX1_takeNow 76 = .ok (.getfield 226, 3) := dk_180 0 226 (dk_at dksX1_takeNow_3 11 rfl rfl)
theorem dX1_takeNow_79 : decode cX1_takeNow 79 = .ok (.iconst 0, 1) := dk_3 (dk_at dksX1_takeNow_3 14 rfl rfl)
theorem dX1_takeNow_80 : decode cX1_takeNow 80 = .ok (.invokeinterface 273 2, 5) := by decide +kernel
theorem dX1_takeNow_85 : decode cX1_takeNow 85 = .ok (.putfield 226, 3) := dk_181 0 226 (dk_at dksX1_takeNow_3 20 rfl rfl)
theorem dX1_takeNow_88 : decode cX1_takeNow 88 = .ok (.goto (-39), 3) := dk_167 255 217 (dk_at dksX1_takeNow_4 0 rfl rfl)
theorem dX1_takeNow_91 : decode cX1_takeNow 91 = .ok (.return_, 1) := dk_177 (dk_at dksX1_takeNow_4 3 rfl rfl)
abbrev cX1_merge : ByteArray := prog_1_method_62_code
def yX1_merge : MethodName := ⟨RX1, "merge", "(III)I"⟩
def dkwX1_merge_6 : List UInt8 := [180, 0, 226, 27, 28, 182, 0, 230, 172]
abbrev dktX1_merge_6 : List UInt8 := dkwX1_merge_6 ++ []
def dkwX1_merge_5 : List UInt8 := [182, 0, 218, 42, 42, 27, 182, 1, 80, 42, 28, 182, 1, 80, 29, 42, 180, 1, 136, 182, 1, 124, 42, 42]
abbrev dktX1_merge_5 : List UInt8 := dkwX1_merge_5 ++ dktX1_merge_6
def dkwX1_merge_4 : List UInt8 := [180, 1, 136, 1, 185, 1, 7, 4, 0, 87, 42, 42, 27, 182, 1, 80, 187, 0, 88, 89, 42, 183, 0, 215]
abbrev dktX1_merge_4 : List UInt8 := dkwX1_merge_4 ++ dktX1_merge_5
def dkwX1_merge_3 : List UInt8 := [153, 0, 5, 2, 172, 42, 89, 180, 1, 136, 4, 96, 181, 1, 136, 42, 27, 182, 1, 80, 6, 42]
abbrev dktX1_merge_3 : List UInt8 := dkwX1_merge_3 ++ dktX1_merge_4
def dkwX1_merge_2 : List UInt8 := [16, 60, 164, 0, 7, 6, 167, 0, 15, 42, 182, 0, 208, 154, 0, 7, 7, 167, 0, 4, 2, 182, 0, 212]
abbrev dktX1_merge_2 : List UInt8 := dkwX1_merge_2 ++ dktX1_merge_3
def dkwX1_merge_1 : List UInt8 := [184, 0, 127, 154, 0, 7, 4, 167, 0, 38, 42, 42, 27, 182, 1, 80, 42, 28, 182, 1, 80, 182, 1, 132]
abbrev dktX1_merge_1 : List UInt8 := dkwX1_merge_1 ++ dktX1_merge_2
def dkwX1_merge_0 : List UInt8 := [42, 42, 27, 182, 1, 77, 153, 0, 11, 42, 28, 182, 1, 77, 154, 0, 7, 3, 167, 0, 51, 29, 3, 6]
abbrev dktX1_merge_0 : List UInt8 := dkwX1_merge_0 ++ dktX1_merge_1
theorem dksX1_merge_0 : cX1_merge.data.toList.drop 0 = dktX1_merge_0 := by decide +kernel
theorem dksX1_merge_1 : cX1_merge.data.toList.drop 24 = dktX1_merge_1 := dk_seg dksX1_merge_0 24 rfl rfl
theorem dksX1_merge_2 : cX1_merge.data.toList.drop 48 = dktX1_merge_2 := dk_seg dksX1_merge_1 24 rfl rfl
theorem dksX1_merge_3 : cX1_merge.data.toList.drop 72 = dktX1_merge_3 := dk_seg dksX1_merge_2 24 rfl rfl
theorem dksX1_merge_4 : cX1_merge.data.toList.drop 94 = dktX1_merge_4 := dk_seg dksX1_merge_3 22 rfl rfl
theorem dksX1_merge_5 : cX1_merge.data.toList.drop 118 = dktX1_merge_5 := dk_seg dksX1_merge_4 24 rfl rfl
theorem dksX1_merge_6 : cX1_merge.data.toList.drop 142 = dktX1_merge_6 := dk_seg dksX1_merge_5 24 rfl rfl
theorem dX1_merge_0 : decode cX1_merge 0 = .ok (.aload_n 0, 1) := dk_42 (dk_at dksX1_merge_0 0 rfl rfl)
theorem dX1_merge_1 : decode cX1_merge 1 = .ok (.aload_n 0, 1) := dk_42 (dk_at dksX1_merge_0 1 rfl rfl)
theorem dX1_merge_2 : decode cX1_merge 2 = .ok (.iload_n 1, 1) := dk_27 (dk_at dksX1_merge_0 2 rfl rfl)
theorem dX1_merge_3 : decode cX1_merge 3 = .ok (.invokevirtual 333, 3) := dk_182 1 77 (dk_at dksX1_merge_0 3 rfl rfl)
theorem dX1_merge_6 : decode cX1_merge 6 = .ok (.ifCond .eq 11, 3) := dk_153 0 11 (dk_at dksX1_merge_0 6 rfl rfl)
theorem dX1_merge_9 : decode cX1_merge 9 = .ok (.aload_n 0, 1) := dk_42 (dk_at dksX1_merge_0 9 rfl rfl)
theorem dX1_merge_10 : decode cX1_merge 10 = .ok (.iload_n 2, 1) := dk_28 (dk_at dksX1_merge_0 10 rfl rfl)
theorem dX1_merge_11 : decode cX1_merge 11 = .ok (.invokevirtual 333, 3) := dk_182 1 77 (dk_at dksX1_merge_0 11 rfl rfl)
theorem dX1_merge_14 : decode cX1_merge 14 = .ok (.ifCond .ne 7, 3) := dk_154 0 7 (dk_at dksX1_merge_0 14 rfl rfl)
theorem dX1_merge_17 : decode cX1_merge 17 = .ok (.iconst 0, 1) := dk_3 (dk_at dksX1_merge_0 17 rfl rfl)
theorem dX1_merge_18 : decode cX1_merge 18 = .ok (.goto 51, 3) := dk_167 0 51 (dk_at dksX1_merge_0 18 rfl rfl)
theorem dX1_merge_21 : decode cX1_merge 21 = .ok (.iload_n 3, 1) := dk_29 (dk_at dksX1_merge_0 21 rfl rfl)
theorem dX1_merge_22 : decode cX1_merge 22 = .ok (.iconst 0, 1) := dk_3 (dk_at dksX1_merge_0 22 rfl rfl)
theorem dX1_merge_23 : decode cX1_merge 23 = .ok (.iconst 3, 1) := dk_6 (dk_at dksX1_merge_0 23 rfl rfl)
theorem dX1_merge_24 : decode cX1_merge 24 = .ok (.invokestatic 127, 3) := dk_184 0 127 (dk_at dksX1_merge_1 0 rfl rfl)
theorem dX1_merge_27 : decode cX1_merge 27 = .ok (.ifCond .ne 7, 3) := dk_154 0 7 (dk_at dksX1_merge_1 3 rfl rfl)
theorem dX1_merge_30 : decode cX1_merge 30 = .ok (.iconst 1, 1) := dk_4 (dk_at dksX1_merge_1 6 rfl rfl)
theorem dX1_merge_31 : decode cX1_merge 31 = .ok (.goto 38, 3) := dk_167 0 38 (dk_at dksX1_merge_1 7 rfl rfl)
theorem dX1_merge_34 : decode cX1_merge 34 = .ok (.aload_n 0, 1) := dk_42 (dk_at dksX1_merge_1 10 rfl rfl)
theorem dX1_merge_35 : decode cX1_merge 35 = .ok (.aload_n 0, 1) := dk_42 (dk_at dksX1_merge_1 11 rfl rfl)
theorem dX1_merge_36 : decode cX1_merge 36 = .ok (.iload_n 1, 1) := dk_27 (dk_at dksX1_merge_1 12 rfl rfl)
theorem dX1_merge_37 : decode cX1_merge 37 = .ok (.invokevirtual 336, 3) := dk_182 1 80 (dk_at dksX1_merge_1 13 rfl rfl)
theorem dX1_merge_40 : decode cX1_merge 40 = .ok (.aload_n 0, 1) := dk_42 (dk_at dksX1_merge_1 16 rfl rfl)
theorem dX1_merge_41 : decode cX1_merge 41 = .ok (.iload_n 2, 1) := dk_28 (dk_at dksX1_merge_1 17 rfl rfl)
theorem dX1_merge_42 : decode cX1_merge 42 = .ok (.invokevirtual 336, 3) := dk_182 1 80 (dk_at dksX1_merge_1 18 rfl rfl)
theorem dX1_merge_45 : decode cX1_merge 45 = .ok (.invokevirtual 388, 3) := dk_182 1 132 (dk_at dksX1_merge_1 21 rfl rfl)
theorem dX1_merge_48 : decode cX1_merge 48 = .ok (.bipush 60, 2) := dk_16 60 (dk_at dksX1_merge_2 0 rfl rfl)
theorem dX1_merge_50 : decode cX1_merge 50 = .ok (.if_icmp .le 7, 3) := dk_164 0 7 (dk_at dksX1_merge_2 2 rfl rfl)
theorem dX1_merge_53 : decode cX1_merge 53 = .ok (.iconst 3, 1) := dk_6 (dk_at dksX1_merge_2 5 rfl rfl)
theorem dX1_merge_54 : decode cX1_merge 54 = .ok (.goto 15, 3) := dk_167 0 15 (dk_at dksX1_merge_2 6 rfl rfl)
theorem dX1_merge_57 : decode cX1_merge 57 = .ok (.aload_n 0, 1) := dk_42 (dk_at dksX1_merge_2 9 rfl rfl)
theorem dX1_merge_58 : decode cX1_merge 58 = .ok (.invokevirtual 208, 3) := dk_182 0 208 (dk_at dksX1_merge_2 10 rfl rfl)
theorem dX1_merge_61 : decode cX1_merge 61 = .ok (.ifCond .ne 7, 3) := dk_154 0 7 (dk_at dksX1_merge_2 13 rfl rfl)
theorem dX1_merge_64 : decode cX1_merge 64 = .ok (.iconst 4, 1) := dk_7 (dk_at dksX1_merge_2 16 rfl rfl)
theorem dX1_merge_65 : decode cX1_merge 65 = .ok (.goto 4, 3) := dk_167 0 4 (dk_at dksX1_merge_2 17 rfl rfl)
theorem dX1_merge_68 : decode cX1_merge 68 = .ok (.iconst (-1), 1) := dk_2 (dk_at dksX1_merge_2 20 rfl rfl)
theorem dX1_merge_69 : decode cX1_merge 69 = .ok (.invokevirtual 212, 3) := dk_182 0 212 (dk_at dksX1_merge_2 21 rfl rfl)
theorem dX1_merge_72 : decode cX1_merge 72 = .ok (.ifCond .eq 5, 3) := dk_153 0 5 (dk_at dksX1_merge_3 0 rfl rfl)
theorem dX1_merge_75 : decode cX1_merge 75 = .ok (.iconst (-1), 1) := dk_2 (dk_at dksX1_merge_3 3 rfl rfl)
theorem dX1_merge_76 : decode cX1_merge 76 = .ok (.ireturn, 1) := dk_172 (dk_at dksX1_merge_3 4 rfl rfl)
theorem dX1_merge_77 : decode cX1_merge 77 = .ok (.aload_n 0, 1) := dk_42 (dk_at dksX1_merge_3 5 rfl rfl)
theorem dX1_merge_78 : decode cX1_merge 78 = .ok (.dup, 1) := dk_89 (dk_at dksX1_merge_3 6 rfl rfl)
theorem dX1_merge_79 : decode cX1_merge 79 = .ok (.getfield 392, 3) := dk_180 1 136 (dk_at dksX1_merge_3 7 rfl rfl)
theorem dX1_merge_82 : decode cX1_merge 82 = .ok (.iconst 1, 1) := dk_4 (dk_at dksX1_merge_3 10 rfl rfl)
theorem dX1_merge_83 : decode cX1_merge 83 = .ok (.iadd, 1) := dk_96 (dk_at dksX1_merge_3 11 rfl rfl)
theorem dX1_merge_84 : decode cX1_merge 84 = .ok (.putfield 392, 3) := dk_181 1 136 (dk_at dksX1_merge_3 12 rfl rfl)
theorem dX1_merge_87 : decode cX1_merge 87 = .ok (.aload_n 0, 1) := dk_42 (dk_at dksX1_merge_3 15 rfl rfl)
theorem dX1_merge_88 : decode cX1_merge 88 = .ok (.iload_n 1, 1) := dk_27 (dk_at dksX1_merge_3 16 rfl rfl)
theorem dX1_merge_89 : decode cX1_merge 89 = .ok (.invokevirtual 336, 3) := dk_182 1 80 (dk_at dksX1_merge_3 17 rfl rfl)
theorem dX1_merge_92 : decode cX1_merge 92 = .ok (.iconst 3, 1) := dk_6 (dk_at dksX1_merge_3 20 rfl rfl)
theorem dX1_merge_93 : decode cX1_merge 93 = .ok (.aload_n 0, 1) := dk_42 (dk_at dksX1_merge_3 21 rfl rfl)
theorem dX1_merge_94 : decode cX1_merge 94 = .ok (.getfield 392, 3) := dk_180 1 136 (dk_at dksX1_merge_4 0 rfl rfl)
theorem dX1_merge_97 : decode cX1_merge 97 = .ok (.aconst_null, 1) := dk_1 (dk_at dksX1_merge_4 3 rfl rfl)
theorem dX1_merge_98 : decode cX1_merge 98 = .ok (.invokeinterface 263 4, 5) := by decide +kernel
theorem dX1_merge_103 : decode cX1_merge 103 = .ok (.pop, 1) := dk_87 (dk_at dksX1_merge_4 9 rfl rfl)
theorem dX1_merge_104 : decode cX1_merge 104 = .ok (.aload_n 0, 1) := dk_42 (dk_at dksX1_merge_4 10 rfl rfl)
theorem dX1_merge_105 : decode cX1_merge 105 = .ok (.aload_n 0, 1) := dk_42 (dk_at dksX1_merge_4 11 rfl rfl)
theorem dX1_merge_106 : decode cX1_merge 106 = .ok (.iload_n 1, 1) := dk_27 (dk_at dksX1_merge_4 12 rfl rfl)
theorem dX1_merge_107 : decode cX1_merge 107 = .ok (.invokevirtual 336, 3) := dk_182 1 80 (dk_at dksX1_merge_4 13 rfl rfl)
theorem dX1_merge_110 : decode cX1_merge 110 = .ok (.new 88, 3) := dk_187 0 88 (dk_at dksX1_merge_4 16 rfl rfl)
theorem dX1_merge_113 : decode cX1_merge 113 = .ok (.dup, 1) := dk_89 (dk_at dksX1_merge_4 19 rfl rfl)
theorem dX1_merge_114 : decode cX1_merge 114 = .ok (.aload_n 0, 1) := dk_42 (dk_at dksX1_merge_4 20 rfl rfl)
theorem dX1_merge_115 : decode cX1_merge 115 = .ok (.invokespecial 215, 3) := dk_183 0 215 (dk_at dksX1_merge_4 21 rfl rfl)
theorem dX1_merge_118 : decode cX1_merge 118 = .ok (.invokevirtual 218, 3) := dk_182 0 218 (dk_at dksX1_merge_5 0 rfl rfl)
theorem dX1_merge_121 : decode cX1_merge 121 = .ok (.aload_n 0, 1) := dk_42 (dk_at dksX1_merge_5 3 rfl rfl)
theorem dX1_merge_122 : decode cX1_merge 122 = .ok (.aload_n 0, 1) := dk_42 (dk_at dksX1_merge_5 4 rfl rfl)
theorem dX1_merge_123 : decode cX1_merge 123 = .ok (.iload_n 1, 1) := dk_27 (dk_at dksX1_merge_5 5 rfl rfl)
theorem dX1_merge_124 : decode cX1_merge 124 = .ok (.invokevirtual 336, 3) := dk_182 1 80 (dk_at dksX1_merge_5 6 rfl rfl)
theorem dX1_merge_127 : decode cX1_merge 127 = .ok (.aload_n 0, 1) := dk_42 (dk_at dksX1_merge_5 9 rfl rfl)
theorem dX1_merge_128 : decode cX1_merge 128 = .ok (.iload_n 2, 1) := dk_28 (dk_at dksX1_merge_5 10 rfl rfl)
theorem dX1_merge_129 : decode cX1_merge 129 = .ok (.invokevirtual 336, 3) := dk_182 1 80 (dk_at dksX1_merge_5 11 rfl rfl)
theorem dX1_merge_132 : decode cX1_merge 132 = .ok (.iload_n 3, 1) := dk_29 (dk_at dksX1_merge_5 14 rfl rfl)
theorem dX1_merge_133 : decode cX1_merge 133 = .ok (.aload_n 0, 1) := dk_42 (dk_at dksX1_merge_5 15 rfl rfl)
theorem dX1_merge_134 : decode cX1_merge 134 = .ok (.getfield 392, 3) := dk_180 1 136 (dk_at dksX1_merge_5 16 rfl rfl)
theorem dX1_merge_137 : decode cX1_merge 137 = .ok (.invokevirtual 380, 3) := dk_182 1 124 (dk_at dksX1_merge_5 19 rfl rfl)
theorem dX1_merge_140 : decode cX1_merge 140 = .ok (.aload_n 0, 1) := dk_42 (dk_at dksX1_merge_5 22 rfl rfl)
theorem dX1_merge_141 : decode cX1_merge 141 = .ok (.aload_n 0, 1) := dk_42 (dk_at dksX1_merge_5 23 rfl rfl)
theorem dX1_merge_142 : decode cX1_merge 142 = .ok (.getfield 226, 3) := dk_180 0 226 (dk_at dksX1_merge_6 0 rfl rfl)
theorem dX1_merge_145 : decode cX1_merge 145 = .ok (.iload_n 1, 1) := dk_27 (dk_at dksX1_merge_6 3 rfl rfl)
theorem dX1_merge_146 : decode cX1_merge 146 = .ok (.iload_n 2, 1) := dk_28 (dk_at dksX1_merge_6 4 rfl rfl)
theorem dX1_merge_147 : decode cX1_merge 147 = .ok (.invokevirtual 230, 3) := dk_182 0 230 (dk_at dksX1_merge_6 5 rfl rfl)
theorem dX1_merge_150 : decode cX1_merge 150 = .ok (.ireturn, 1) := dk_172 (dk_at dksX1_merge_6 8 rfl rfl)
abbrev cX1_unionOf : ByteArray := prog_1_method_59_code
def yX1_unionOf : MethodName := ⟨RX1, "unionOf", "(LWideMap$Node;LWideMap$Node;)I"⟩
def dkwX1_unionOf_2 : List UInt8 := [21, 4, 172]
abbrev dktX1_unionOf_2 : List UInt8 := dkwX1_unionOf_2 ++ []
def dkwX1_unionOf_1 : List UInt8 := [180, 0, 97, 21, 5, 46, 184, 1, 34, 18, 174, 160, 0, 6, 132, 4, 1, 132, 5, 1, 167, 255, 228]
abbrev dktX1_unionOf_1 : List UInt8 := dkwX1_unionOf_1 ++ dktX1_unionOf_2
def dkwX1_unionOf_0 : List UInt8 := [42, 44, 182, 1, 68, 62, 43, 184, 1, 54, 54, 4, 3, 54, 5, 21, 5, 29, 162, 0, 28, 43, 42]
abbrev dktX1_unionOf_0 : List UInt8 := dkwX1_unionOf_0 ++ dktX1_unionOf_1
theorem dksX1_unionOf_0 : cX1_unionOf.data.toList.drop 0 = dktX1_unionOf_0 := by decide +kernel
theorem dksX1_unionOf_1 : cX1_unionOf.data.toList.drop 23 = dktX1_unionOf_1 := dk_seg dksX1_unionOf_0 23 rfl rfl
theorem dksX1_unionOf_2 : cX1_unionOf.data.toList.drop 46 = dktX1_unionOf_2 := dk_seg dksX1_unionOf_1 23 rfl rfl
theorem dX1_unionOf_0 : decode cX1_unionOf 0 = .ok (.aload_n 0, 1) := dk_42 (dk_at dksX1_unionOf_0 0 rfl rfl)
theorem dX1_unionOf_1 : decode cX1_unionOf 1 = .ok (.aload_n 2, 1) := dk_44 (dk_at dksX1_unionOf_0 1 rfl rfl)
theorem dX1_unionOf_2 : decode cX1_unionOf 2 = .ok (.invokevirtual 324, 3) := dk_182 1 68 (dk_at dksX1_unionOf_0 2 rfl rfl)
theorem dX1_unionOf_5 : decode cX1_unionOf 5 = .ok (.istore_n 3, 1) := dk_62 (dk_at dksX1_unionOf_0 5 rfl rfl)
theorem dX1_unionOf_6 : decode cX1_unionOf 6 = .ok (.aload_n 1, 1) := dk_43 (dk_at dksX1_unionOf_0 6 rfl rfl)
theorem dX1_unionOf_7 : decode cX1_unionOf 7 = .ok (.invokestatic 310, 3) := dk_184 1 54 (dk_at dksX1_unionOf_0 7 rfl rfl)
theorem dX1_unionOf_10 : decode cX1_unionOf 10 = .ok (.istore 4, 2) := dk_54 4 (dk_at dksX1_unionOf_0 10 rfl rfl)
theorem dX1_unionOf_12 : decode cX1_unionOf 12 = .ok (.iconst 0, 1) := dk_3 (dk_at dksX1_unionOf_0 12 rfl rfl)
theorem dX1_unionOf_13 : decode cX1_unionOf 13 = .ok (.istore 5, 2) := dk_54 5 (dk_at dksX1_unionOf_0 13 rfl rfl)
theorem dX1_unionOf_15 : decode cX1_unionOf 15 = .ok (.iload 5, 2) := dk_21 5 (dk_at dksX1_unionOf_0 15 rfl rfl)
theorem dX1_unionOf_17 : decode cX1_unionOf 17 = .ok (.iload_n 3, 1) := dk_29 (dk_at dksX1_unionOf_0 17 rfl rfl)
theorem dX1_unionOf_18 : decode cX1_unionOf 18 = .ok (.if_icmp .ge 28, 3) := dk_162 0 28 (dk_at dksX1_unionOf_0 18 rfl rfl)
theorem dX1_unionOf_21 : decode cX1_unionOf 21 = .ok (.aload_n 1, 1) := dk_43 (dk_at dksX1_unionOf_0 21 rfl rfl)
theorem dX1_unionOf_22 : decode cX1_unionOf 22 = .ok (.aload_n 0, 1) := dk_42 (dk_at dksX1_unionOf_0 22 rfl rfl)
theorem dX1_unionOf_23 : decode cX1_unionOf 23 = .ok (.getfield 97, 3) := dk_180 0 97 (dk_at dksX1_unionOf_1 0 rfl rfl)
theorem dX1_unionOf_26 : decode cX1_unionOf 26 = .ok (.iload 5, 2) := dk_21 5 (dk_at dksX1_unionOf_1 3 rfl rfl)
theorem dX1_unionOf_28 : decode cX1_unionOf 28 = .ok (.iaload, 1) := dk_46 (dk_at dksX1_unionOf_1 5 rfl rfl)
theorem dX1_unionOf_29 : decode cX1_unionOf 29 = .ok (.invokestatic 290, 3) := dk_184 1 34 (dk_at dksX1_unionOf_1 6 rfl rfl)
theorem dX1_unionOf_32 : decode cX1_unionOf 32 = .ok (.ldc 174, 2) := dk_18 174 (dk_at dksX1_unionOf_1 9 rfl rfl)
theorem dX1_unionOf_34 : decode cX1_unionOf 34 = .ok (.if_icmp .ne 6, 3) := dk_160 0 6 (dk_at dksX1_unionOf_1 11 rfl rfl)
theorem dX1_unionOf_37 : decode cX1_unionOf 37 = .ok (.iinc 4 1, 3) := dk_132 4 1 (dk_at dksX1_unionOf_1 14 rfl rfl)
theorem dX1_unionOf_40 : decode cX1_unionOf 40 = .ok (.iinc 5 1, 3) := dk_132 5 1 (dk_at dksX1_unionOf_1 17 rfl rfl)
theorem dX1_unionOf_43 : decode cX1_unionOf 43 = .ok (.goto (-28), 3) := dk_167 255 228 (dk_at dksX1_unionOf_1 20 rfl rfl)
theorem dX1_unionOf_46 : decode cX1_unionOf 46 = .ok (.iload 4, 2) := dk_21 4 (dk_at dksX1_unionOf_2 0 rfl rfl)
theorem dX1_unionOf_48 : decode cX1_unionOf 48 = .ok (.ireturn, 1) := dk_172 (dk_at dksX1_unionOf_2 2 rfl rfl)
abbrev cX1_mergeNow : ByteArray := prog_1_method_61_code
def yX1_mergeNow : MethodName := ⟨RX1, "mergeNow", "(LWideMap$Node;LWideMap$Node;II)V"⟩
def dkwX1_mergeNow_5 : List UInt8 := [167, 255, 156, 177]
abbrev dktX1_mergeNow_5 : List UInt8 := dkwX1_mergeNow_5 ++ []
def dkwX1_mergeNow_4 : List UInt8 := [167, 0, 17, 29, 21, 6, 44, 21, 5, 185, 1, 31, 2, 0, 184, 1, 128, 182, 0, 222, 132, 5, 1]
abbrev dktX1_mergeNow_4 : List UInt8 := dkwX1_mergeNow_4 ++ dktX1_mergeNow_5
def dkwX1_mergeNow_3 : List UInt8 := [21, 5, 185, 1, 28, 2, 0, 21, 6, 18, 174, 160, 0, 14, 44, 21, 5, 185, 1, 31, 2, 0]
abbrev dktX1_mergeNow_3 : List UInt8 := dkwX1_mergeNow_3 ++ dktX1_mergeNow_4
def dkwX1_mergeNow_2 : List UInt8 := [21, 4, 182, 1, 124, 167, 0, 61, 43, 44, 21, 5, 185, 1, 28, 2, 0, 184, 1, 34, 54, 6, 42, 44]
abbrev dktX1_mergeNow_2 : List UInt8 := dkwX1_mergeNow_2 ++ dktX1_mergeNow_3
def dkwX1_mergeNow_1 : List UInt8 := [162, 0, 95, 44, 185, 1, 11, 1, 0, 154, 0, 22, 42, 43, 44, 21, 5, 185, 1, 17, 2, 0, 29]
abbrev dktX1_mergeNow_1 : List UInt8 := dkwX1_mergeNow_1 ++ dktX1_mergeNow_2
def dkwX1_mergeNow_0 : List UInt8 := [44, 21, 4, 185, 1, 121, 2, 0, 153, 0, 4, 177, 3, 54, 5, 21, 5, 44, 185, 1, 25, 1, 0]
abbrev dktX1_mergeNow_0 : List UInt8 := dkwX1_mergeNow_0 ++ dktX1_mergeNow_1
theorem dksX1_mergeNow_0 : cX1_mergeNow.data.toList.drop 0 = dktX1_mergeNow_0 := by decide +kernel
theorem dksX1_mergeNow_1 : cX1_mergeNow.data.toList.drop 23 = dktX1_mergeNow_1 := dk_seg dksX1_mergeNow_0 23 rfl rfl
theorem dksX1_mergeNow_2 : cX1_mergeNow.data.toList.drop 46 = dktX1_mergeNow_2 := dk_seg dksX1_mergeNow_1 23 rfl rfl
theorem dksX1_mergeNow_3 : cX1_mergeNow.data.toList.drop 70 = dktX1_mergeNow_3 := dk_seg dksX1_mergeNow_2 24 rfl rfl
theorem dksX1_mergeNow_4 : cX1_mergeNow.data.toList.drop 92 = dktX1_mergeNow_4 := dk_seg dksX1_mergeNow_3 22 rfl rfl
theorem dksX1_mergeNow_5 : cX1_mergeNow.data.toList.drop 115 = dktX1_mergeNow_5 := dk_seg dksX1_mergeNow_4 23 rfl rfl
theorem dX1_mergeNow_0 : decode cX1_mergeNow 0 = .ok (.aload_n 2, 1) := dk_44 (dk_at dksX1_mergeNow_0 0 rfl rfl)
theorem dX1_mergeNow_1 : decode cX1_mergeNow 1 = .ok (.iload 4, 2) := dk_21 4 (dk_at dksX1_mergeNow_0 1 rfl rfl)
theorem dX1_mergeNow_3 : decode cX1_mergeNow 3 = .ok (.invokeinterface 377 2, 5) := by decide +kernel
theorem dX1_mergeNow_8 : decode cX1_mergeNow 8 = .ok (.ifCond .eq 4, 3) := dk_153 0 4 (dk_at dksX1_mergeNow_0 8 rfl rfl)
theorem dX1_mergeNow_11 : decode cX1_mergeNow 11 = .ok (.return_, 1) := dk_177 (dk_at dksX1_mergeNow_0 11 rfl rfl)
theorem dX1_mergeNow_12 : decode cX1_mergeNow 12 = .ok (.iconst 0, 1) := dk_3 (dk_at dksX1_mergeNow_0 12 rfl rfl)
theorem dX1_mergeNow_13 : decode cX1_mergeNow 13 = .ok (.istore 5, 2) := dk_54 5 (dk_at dksX1_mergeNow_0 13 rfl rfl)
theorem dX1_mergeNow_15 : decode cX1_mergeNow 15 = .ok (.iload 5, 2) := dk_21 5 (dk_at dksX1_mergeNow_0 15 rfl rfl)
theorem dX1_mergeNow_17 : decode cX1_mergeNow 17 = .ok (.aload_n 2, 1) := dk_44 (dk_at dksX1_mergeNow_0 17 rfl rfl)
theorem dX1_mergeNow_18 : decode cX1_mergeNow 18 = .ok (.invokeinterface 281 1, 5) := by decide +kernel
theorem dX1_mergeNow_23 : decode cX1_mergeNow 23 = .ok (.if_icmp .ge 95, 3) := dk_162 0 95 (dk_at dksX1_mergeNow_1 0 rfl rfl)
theorem dX1_mergeNow_26 : decode cX1_mergeNow 26 = .ok (.aload_n 2, 1) := dk_44 (dk_at dksX1_mergeNow_1 3 rfl rfl)
theorem dX1_mergeNow_27 : decode cX1_mergeNow 27 = .ok (.invokeinterface 267 1, 5) := by decide +kernel
theorem dX1_mergeNow_32 : decode cX1_mergeNow 32 = .ok (.ifCond .ne 22, 3) := dk_154 0 22 (dk_at dksX1_mergeNow_1 9 rfl rfl)
theorem dX1_mergeNow_35 : decode cX1_mergeNow 35 = .ok (.aload_n 0, 1) := dk_42 (dk_at dksX1_mergeNow_1 12 rfl rfl)
theorem dX1_mergeNow_36 : decode cX1_mergeNow 36 = .ok (.aload_n 1, 1) := dk_43 (dk_at dksX1_mergeNow_1 13 rfl rfl)
theorem dX1_mergeNow_37 : decode cX1_mergeNow 37 = .ok (.aload_n 2, 1) := dk_44 (dk_at dksX1_mergeNow_1 14 rfl rfl)
theorem dX1_mergeNow_38 : decode cX1_mergeNow 38 = .ok (.iload 5, 2) := dk_21 5 (dk_at dksX1_mergeNow_1 15 rfl rfl)
theorem dX1_mergeNow_40 : decode cX1_mergeNow 40 = .ok (.invokeinterface 273 2, 5) := by decide +kernel
theorem dX1_mergeNow_45 : decode cX1_mergeNow 45 = .ok (.iload_n 3, 1) := dk_29 (dk_at dksX1_mergeNow_1 22 rfl rfl)
theorem dX1_mergeNow_46 : decode cX1_mergeNow 46 = .ok (.iload 4, 2) := dk_21 4 (dk_at dksX1_mergeNow_2 0 rfl rfl)
theorem dX1_mergeNow_48 : decode cX1_mergeNow 48 = .ok (.invokevirtual 380, 3) := dk_182 1 124 (dk_at dksX1_mergeNow_2 2 rfl rfl)
theorem dX1_mergeNow_51 : decode cX1_mergeNow 51 = .ok (.goto 61, 3) := dk_167 0 61 (dk_at dksX1_mergeNow_2 5 rfl rfl)
theorem dX1_mergeNow_54 : decode cX1_mergeNow 54 = .ok (.aload_n 1, 1) := dk_43 (dk_at dksX1_mergeNow_2 8 rfl rfl)
theorem dX1_mergeNow_55 : decode cX1_mergeNow 55 = .ok (.aload_n 2, 1) := dk_44 (dk_at dksX1_mergeNow_2 9 rfl rfl)
theorem dX1_mergeNow_56 : decode cX1_mergeNow 56 = .ok (.iload 5, 2) := dk_21 5 (dk_at dksX1_mergeNow_2 10 rfl rfl)
theorem dX1_mergeNow_58 : decode cX1_mergeNow 58 = .ok (.invokeinterface 284 2, 5) := by decide +kernel
theorem dX1_mergeNow_63 : decode cX1_mergeNow 63 = .ok (.invokestatic 290, 3) := dk_184 1 34 (dk_at dksX1_mergeNow_2 17 rfl rfl)
theorem dX1_mergeNow_66 : decode cX1_mergeNow 66 = .ok (.istore 6, 2) := dk_54 6 (dk_at dksX1_mergeNow_2 20 rfl rfl)
theorem dX1_mergeNow_68 : decode cX1_mergeNow 68 = .ok (.aload_n 0, 1) := dk_42 (dk_at dksX1_mergeNow_2 22 rfl rfl)
theorem dX1_mergeNow_69 : decode cX1_mergeNow 69 = .ok (.aload_n 2, 1) := dk_44 (dk_at dksX1_mergeNow_2 23 rfl rfl)
theorem dX1_mergeNow_70 : decode cX1_mergeNow 70 = .ok (.iload 5, 2) := dk_21 5 (dk_at dksX1_mergeNow_3 0 rfl rfl)
theorem dX1_mergeNow_72 : decode cX1_mergeNow 72 = .ok (.invokeinterface 284 2, 5) := by decide +kernel
theorem dX1_mergeNow_77 : decode cX1_mergeNow 77 = .ok (.iload 6, 2) := dk_21 6 (dk_at dksX1_mergeNow_3 7 rfl rfl)
theorem dX1_mergeNow_79 : decode cX1_mergeNow 79 = .ok (.ldc 174, 2) := dk_18 174 (dk_at dksX1_mergeNow_3 9 rfl rfl)
theorem dX1_mergeNow_81 : decode cX1_mergeNow 81 = .ok (.if_icmp .ne 14, 3) := dk_160 0 14 (dk_at dksX1_mergeNow_3 11 rfl rfl)
theorem dX1_mergeNow_84 : decode cX1_mergeNow 84 = .ok (.aload_n 2, 1) := dk_44 (dk_at dksX1_mergeNow_3 14 rfl rfl)
theorem dX1_mergeNow_85 : decode cX1_mergeNow 85 = .ok (.iload 5, 2) := dk_21 5 (dk_at dksX1_mergeNow_3 15 rfl rfl)
theorem dX1_mergeNow_87 : decode cX1_mergeNow 87 = .ok (.invokeinterface 287 2, 5) := by decide +kernel
theorem dX1_mergeNow_92 : decode cX1_mergeNow 92 = .ok (.goto 17, 3) := dk_167 0 17 (dk_at dksX1_mergeNow_4 0 rfl rfl)
theorem dX1_mergeNow_95 : decode cX1_mergeNow 95 = .ok (.iload_n 3, 1) := dk_29 (dk_at dksX1_mergeNow_4 3 rfl rfl)
theorem dX1_mergeNow_96 : decode cX1_mergeNow 96 = .ok (.iload 6, 2) := dk_21 6 (dk_at dksX1_mergeNow_4 4 rfl rfl)
theorem dX1_mergeNow_98 : decode cX1_mergeNow 98 = .ok (.aload_n 2, 1) := dk_44 (dk_at dksX1_mergeNow_4 6 rfl rfl)
theorem dX1_mergeNow_99 : decode cX1_mergeNow 99 = .ok (.iload 5, 2) := dk_21 5 (dk_at dksX1_mergeNow_4 7 rfl rfl)
theorem dX1_mergeNow_101 : decode cX1_mergeNow 101 = .ok (.invokeinterface 287 2, 5) := by decide +kernel
theorem dX1_mergeNow_106 : decode cX1_mergeNow 106 = .ok (.invokestatic 384, 3) := dk_184 1 128 (dk_at dksX1_mergeNow_4 14 rfl rfl)
theorem dX1_mergeNow_109 : decode cX1_mergeNow 109 = .ok (.invokevirtual 222, 3) := dk_182 0 222 (dk_at dksX1_mergeNow_4 17 rfl rfl)
theorem dX1_mergeNow_112 : decode cX1_mergeNow 112 = .ok (.iinc 5 1, 3) := dk_132 5 1 (dk_at dksX1_mergeNow_4 20 rfl rfl)
theorem dX1_mergeNow_115 : decode cX1_mergeNow 115 = .ok (.goto (-100), 3) := dk_167 255 156 (dk_at dksX1_mergeNow_5 0 rfl rfl)
theorem dX1_mergeNow_118 : decode cX1_mergeNow 118 = .ok (.return_, 1) := dk_177 (dk_at dksX1_mergeNow_5 3 rfl rfl)
abbrev cX1_ruled : ByteArray := prog_1_method_60_code
def yX1_ruled : MethodName := ⟨RX1, "ruled", "(III)I"⟩
def dkwX1_ruled_2 : List UInt8 := [27, 167, 0, 21, 28, 167, 0, 17, 27, 28, 184, 0, 9, 167, 0, 9, 27, 28, 96, 184, 1, 58, 172]
abbrev dktX1_ruled_2 : List UInt8 := dkwX1_ruled_2 ++ []
def dkwX1_ruled_1 : List UInt8 := [170, 0, 0, 0, 0, 0, 43, 0, 0, 0, 0, 0, 0, 0, 2, 0, 0, 0, 27, 0, 0, 0, 31, 0, 0, 0, 35]
abbrev dktX1_ruled_1 : List UInt8 := dkwX1_ruled_1 ++ dktX1_ruled_2
def dkwX1_ruled_0 : List UInt8 := [26]
abbrev dktX1_ruled_0 : List UInt8 := dkwX1_ruled_0 ++ dktX1_ruled_1
theorem dksX1_ruled_0 : cX1_ruled.data.toList.drop 0 = dktX1_ruled_0 := by decide +kernel
theorem dksX1_ruled_1 : cX1_ruled.data.toList.drop 1 = dktX1_ruled_1 := dk_seg dksX1_ruled_0 1 rfl rfl
theorem dksX1_ruled_2 : cX1_ruled.data.toList.drop 28 = dktX1_ruled_2 := dk_seg dksX1_ruled_1 27 rfl rfl
theorem dX1_ruled_0 : decode cX1_ruled 0 = .ok (.iload_n 0, 1) := dk_26 (dk_at dksX1_ruled_0 0 rfl rfl)
theorem dX1_ruled_1 : decode cX1_ruled 1 = .ok (.tableswitch 43 0 2 #[27, 31, 35], 27) := by decide +kernel
theorem dX1_ruled_28 : decode cX1_ruled 28 = .ok (.iload_n 1, 1) := dk_27 (dk_at dksX1_ruled_2 0 rfl rfl)
theorem dX1_ruled_29 : decode cX1_ruled 29 = .ok (.goto 21, 3) := dk_167 0 21 (dk_at dksX1_ruled_2 1 rfl rfl)
theorem dX1_ruled_32 : decode cX1_ruled 32 = .ok (.iload_n 2, 1) := dk_28 (dk_at dksX1_ruled_2 4 rfl rfl)
theorem dX1_ruled_33 : decode cX1_ruled 33 = .ok (.goto 17, 3) := dk_167 0 17 (dk_at dksX1_ruled_2 5 rfl rfl)
theorem dX1_ruled_36 : decode cX1_ruled 36 = .ok (.iload_n 1, 1) := dk_27 (dk_at dksX1_ruled_2 8 rfl rfl)
theorem dX1_ruled_37 : decode cX1_ruled 37 = .ok (.iload_n 2, 1) := dk_28 (dk_at dksX1_ruled_2 9 rfl rfl)
theorem dX1_ruled_38 : decode cX1_ruled 38 = .ok (.invokestatic 9, 3) := dk_184 0 9 (dk_at dksX1_ruled_2 10 rfl rfl)
theorem dX1_ruled_41 : decode cX1_ruled 41 = .ok (.goto 9, 3) := dk_167 0 9 (dk_at dksX1_ruled_2 13 rfl rfl)
theorem dX1_ruled_44 : decode cX1_ruled 44 = .ok (.iload_n 1, 1) := dk_27 (dk_at dksX1_ruled_2 16 rfl rfl)
theorem dX1_ruled_45 : decode cX1_ruled 45 = .ok (.iload_n 2, 1) := dk_28 (dk_at dksX1_ruled_2 17 rfl rfl)
theorem dX1_ruled_46 : decode cX1_ruled 46 = .ok (.iadd, 1) := dk_96 (dk_at dksX1_ruled_2 18 rfl rfl)
theorem dX1_ruled_47 : decode cX1_ruled 47 = .ok (.invokestatic 314, 3) := dk_184 1 58 (dk_at dksX1_ruled_2 19 rfl rfl)
theorem dX1_ruled_50 : decode cX1_ruled 50 = .ok (.ireturn, 1) := dk_172 (dk_at dksX1_ruled_2 22 rfl rfl)
abbrev cX1_held : ByteArray := prog_1_method_2_code
def yX1_held : MethodName := ⟨RX1, "held", "(I)I"⟩
def dkwX1_held_0 : List UInt8 := [17, 252, 25, 17, 3, 231, 26, 184, 0, 3, 184, 0, 9, 172]
abbrev dktX1_held_0 : List UInt8 := dkwX1_held_0 ++ []
theorem dksX1_held_0 : cX1_held.data.toList.drop 0 = dktX1_held_0 := by decide +kernel
theorem dX1_held_0 : decode cX1_held 0 = .ok (.sipush (-999), 3) := dk_17 252 25 (dk_at dksX1_held_0 0 rfl rfl)
theorem dX1_held_3 : decode cX1_held 3 = .ok (.sipush 999, 3) := dk_17 3 231 (dk_at dksX1_held_0 3 rfl rfl)
theorem dX1_held_6 : decode cX1_held 6 = .ok (.iload_n 0, 1) := dk_26 (dk_at dksX1_held_0 6 rfl rfl)
theorem dX1_held_7 : decode cX1_held 7 = .ok (.invokestatic 3, 3) := dk_184 0 3 (dk_at dksX1_held_0 7 rfl rfl)
theorem dX1_held_10 : decode cX1_held 10 = .ok (.invokestatic 9, 3) := dk_184 0 9 (dk_at dksX1_held_0 10 rfl rfl)
theorem dX1_held_13 : decode cX1_held 13 = .ok (.ireturn, 1) := dk_172 (dk_at dksX1_held_0 13 rfl rfl)
abbrev cX1_three : ByteArray := prog_1_method_68_code
def yX1_three : MethodName := ⟨RX1, "three", "(IIII)I"⟩
def dkwX1_three_5 : List UInt8 := [180, 0, 226, 28, 29, 182, 0, 230, 172]
abbrev dktX1_three_5 : List UInt8 := dkwX1_three_5 ++ []
def dkwX1_three_4 : List UInt8 := [42, 29, 182, 1, 80, 21, 6, 21, 4, 184, 1, 143, 182, 1, 154, 132, 6, 1, 167, 255, 185, 42, 42]
abbrev dktX1_three_4 : List UInt8 := dkwX1_three_4 ++ dktX1_three_5
def dkwX1_three_3 : List UInt8 := [153, 0, 14, 21, 7, 4, 160, 0, 33, 21, 4, 158, 0, 28, 42, 21, 6, 42, 27, 182, 1, 80, 25, 5]
abbrev dktX1_three_3 : List UInt8 := dkwX1_three_3 ++ dktX1_three_4
def dkwX1_three_2 : List UInt8 := [163, 0, 69, 42, 27, 182, 1, 80, 25, 5, 42, 29, 182, 1, 80, 21, 6, 184, 1, 139, 54, 7, 21, 7]
abbrev dktX1_three_2 : List UInt8 := dkwX1_three_2 ++ dktX1_three_3
def dkwX1_three_1 : List UInt8 := [58, 5, 42, 25, 5, 187, 0, 88, 89, 42, 183, 0, 215, 182, 0, 218, 3, 54, 6, 21, 6, 17, 3, 231]
abbrev dktX1_three_1 : List UInt8 := dkwX1_three_1 ++ dktX1_three_2
def dkwX1_three_0 : List UInt8 := [42, 42, 27, 28, 29, 21, 4, 182, 1, 150, 182, 0, 212, 153, 0, 5, 2, 172, 42, 28, 182, 1, 80]
abbrev dktX1_three_0 : List UInt8 := dkwX1_three_0 ++ dktX1_three_1
theorem dksX1_three_0 : cX1_three.data.toList.drop 0 = dktX1_three_0 := by decide +kernel
theorem dksX1_three_1 : cX1_three.data.toList.drop 23 = dktX1_three_1 := dk_seg dksX1_three_0 23 rfl rfl
theorem dksX1_three_2 : cX1_three.data.toList.drop 47 = dktX1_three_2 := dk_seg dksX1_three_1 24 rfl rfl
theorem dksX1_three_3 : cX1_three.data.toList.drop 71 = dktX1_three_3 := dk_seg dksX1_three_2 24 rfl rfl
theorem dksX1_three_4 : cX1_three.data.toList.drop 95 = dktX1_three_4 := dk_seg dksX1_three_3 24 rfl rfl
theorem dksX1_three_5 : cX1_three.data.toList.drop 118 = dktX1_three_5 := dk_seg dksX1_three_4 23 rfl rfl
theorem dX1_three_0 : decode cX1_three 0 = .ok (.aload_n 0, 1) := dk_42 (dk_at dksX1_three_0 0 rfl rfl)
theorem dX1_three_1 : decode cX1_three 1 = .ok (.aload_n 0, 1) := dk_42 (dk_at dksX1_three_0 1 rfl rfl)
theorem dX1_three_2 : decode cX1_three 2 = .ok (.iload_n 1, 1) := dk_27 (dk_at dksX1_three_0 2 rfl rfl)
theorem dX1_three_3 : decode cX1_three 3 = .ok (.iload_n 2, 1) := dk_28 (dk_at dksX1_three_0 3 rfl rfl)
theorem dX1_three_4 : decode cX1_three 4 = .ok (.iload_n 3, 1) := dk_29 (dk_at dksX1_three_0 4 rfl rfl)
theorem dX1_three_5 : decode cX1_three 5 = .ok (.iload 4, 2) := dk_21 4 (dk_at dksX1_three_0 5 rfl rfl)
theorem dX1_three_7 : decode cX1_three 7 = .ok (.invokevirtual 406, 3) := dk_182 1 150 (dk_at dksX1_three_0 7 rfl rfl)
theorem dX1_three_10 : decode cX1_three 10 = .ok (.invokevirtual 212, 3) := dk_182 0 212 (dk_at dksX1_three_0 10 rfl rfl)
theorem dX1_three_13 : decode cX1_three 13 = .ok (.ifCond .eq 5, 3) := dk_153 0 5 (dk_at dksX1_three_0 13 rfl rfl)
theorem dX1_three_16 : decode cX1_three 16 = .ok (.iconst (-1), 1) := dk_2 (dk_at dksX1_three_0 16 rfl rfl)
theorem dX1_three_17 : decode cX1_three 17 = .ok (.ireturn, 1) := dk_172 (dk_at dksX1_three_0 17 rfl rfl)
theorem dX1_three_18 : decode cX1_three 18 = .ok (.aload_n 0, 1) := dk_42 (dk_at dksX1_three_0 18 rfl rfl)
theorem dX1_three_19 : decode cX1_three 19 = .ok (.iload_n 2, 1) := dk_28 (dk_at dksX1_three_0 19 rfl rfl)
theorem dX1_three_20 : decode cX1_three 20 = .ok (.invokevirtual 336, 3) := dk_182 1 80 (dk_at dksX1_three_0 20 rfl rfl)
theorem dX1_three_23 : decode cX1_three 23 = .ok (.astore 5, 2) := dk_58 5 (dk_at dksX1_three_1 0 rfl rfl)
theorem dX1_three_25 : decode cX1_three 25 = .ok (.aload_n 0, 1) := dk_42 (dk_at dksX1_three_1 2 rfl rfl)
theorem dX1_three_26 : decode cX1_three 26 = .ok (.aload 5, 2) := dk_25 5 (dk_at dksX1_three_1 3 rfl rfl)
theorem dX1_three_28 : decode cX1_three 28 = .ok (.new 88, 3) := dk_187 0 88 (dk_at dksX1_three_1 5 rfl rfl)
theorem dX1_three_31 : decode cX1_three 31 = .ok (.dup, 1) := dk_89 (dk_at dksX1_three_1 8 rfl rfl)
theorem dX1_three_32 : decode cX1_three 32 = .ok (.aload_n 0, 1) := dk_42 (dk_at dksX1_three_1 9 rfl rfl)
theorem dX1_three_33 : decode cX1_three 33 = .ok (.invokespecial 215, 3) := dk_183 0 215 (dk_at dksX1_three_1 10 rfl rfl)
theorem dX1_three_36 : decode cX1_three 36 = .ok (.invokevirtual 218, 3) := dk_182 0 218 (dk_at dksX1_three_1 13 rfl rfl)
theorem dX1_three_39 : decode cX1_three 39 = .ok (.iconst 0, 1) := dk_3 (dk_at dksX1_three_1 16 rfl rfl)
theorem dX1_three_40 : decode cX1_three 40 = .ok (.istore 6, 2) := dk_54 6 (dk_at dksX1_three_1 17 rfl rfl)
theorem dX1_three_42 : decode cX1_three 42 = .ok (.iload 6, 2) := dk_21 6 (dk_at dksX1_three_1 19 rfl rfl)
theorem dX1_three_44 : decode cX1_three 44 = .ok (.sipush 999, 3) := dk_17 3 231 (dk_at dksX1_three_1 21 rfl rfl)
theorem dX1_three_47 : decode cX1_three 47 = .ok (.if_icmp .gt 69, 3) := dk_163 0 69 (dk_at dksX1_three_2 0 rfl rfl)
theorem dX1_three_50 : decode cX1_three 50 = .ok (.aload_n 0, 1) := dk_42 (dk_at dksX1_three_2 3 rfl rfl)
theorem dX1_three_51 : decode cX1_three 51 = .ok (.iload_n 1, 1) := dk_27 (dk_at dksX1_three_2 4 rfl rfl)
theorem dX1_three_52 : decode cX1_three 52 = .ok (.invokevirtual 336, 3) := dk_182 1 80 (dk_at dksX1_three_2 5 rfl rfl)
theorem dX1_three_55 : decode cX1_three 55 = .ok (.aload 5, 2) := dk_25 5 (dk_at dksX1_three_2 8 rfl rfl)
theorem dX1_three_57 : decode cX1_three 57 = .ok (.aload_n 0, 1) := dk_42 (dk_at dksX1_three_2 10 rfl rfl)
theorem dX1_three_58 : decode cX1_three 58 = .ok (.iload_n 3, 1) := dk_29 (dk_at dksX1_three_2 11 rfl rfl)
theorem dX1_three_59 : decode cX1_three 59 = .ok (.invokevirtual 336, 3) := dk_182 1 80 (dk_at dksX1_three_2 12 rfl rfl)
theorem dX1_three_62 : decode cX1_three 62 = .ok (.iload 6, 2) := dk_21 6 (dk_at dksX1_three_2 15 rfl rfl)
theorem dX1_three_64 : decode cX1_three 64 = .ok (.invokestatic 395, 3) := dk_184 1 139 (dk_at dksX1_three_2 17 rfl rfl)
theorem dX1_three_67 : decode cX1_three 67 = .ok (.istore 7, 2) := dk_54 7 (dk_at dksX1_three_2 20 rfl rfl)
theorem dX1_three_69 : decode cX1_three 69 = .ok (.iload 7, 2) := dk_21 7 (dk_at dksX1_three_2 22 rfl rfl)
theorem dX1_three_71 : decode cX1_three 71 = .ok (.ifCond .eq 14, 3) := dk_153 0 14 (dk_at dksX1_three_3 0 rfl rfl)
theorem dX1_three_74 : decode cX1_three 74 = .ok (.iload 7, 2) := dk_21 7 (dk_at dksX1_three_3 3 rfl rfl)
theorem dX1_three_76 : decode cX1_three 76 = .ok (.iconst 1, 1) := dk_4 (dk_at dksX1_three_3 5 rfl rfl)
theorem dX1_three_77 : decode cX1_three 77 = .ok (.if_icmp .ne 33, 3) := dk_160 0 33 (dk_at dksX1_three_3 6 rfl rfl)
theorem dX1_three_80 : decode cX1_three 80 = .ok (.iload 4, 2) := dk_21 4 (dk_at dksX1_three_3 9 rfl rfl)
theorem dX1_three_82 : decode cX1_three 82 = .ok (.ifCond .le 28, 3) := dk_158 0 28 (dk_at dksX1_three_3 11 rfl rfl)
theorem dX1_three_85 : decode cX1_three 85 = .ok (.aload_n 0, 1) := dk_42 (dk_at dksX1_three_3 14 rfl rfl)
theorem dX1_three_86 : decode cX1_three 86 = .ok (.iload 6, 2) := dk_21 6 (dk_at dksX1_three_3 15 rfl rfl)
theorem dX1_three_88 : decode cX1_three 88 = .ok (.aload_n 0, 1) := dk_42 (dk_at dksX1_three_3 17 rfl rfl)
theorem dX1_three_89 : decode cX1_three 89 = .ok (.iload_n 1, 1) := dk_27 (dk_at dksX1_three_3 18 rfl rfl)
theorem dX1_three_90 : decode cX1_three 90 = .ok (.invokevirtual 336, 3) := dk_182 1 80 (dk_at dksX1_three_3 19 rfl rfl)
theorem dX1_three_93 : decode cX1_three 93 = .ok (.aload 5, 2) := dk_25 5 (dk_at dksX1_three_3 22 rfl rfl)
theorem dX1_three_95 : decode cX1_three 95 = .ok (.aload_n 0, 1) := dk_42 (dk_at dksX1_three_4 0 rfl rfl)
theorem dX1_three_96 : decode cX1_three 96 = .ok (.iload_n 3, 1) := dk_29 (dk_at dksX1_three_4 1 rfl rfl)
theorem dX1_three_97 : decode cX1_three 97 = .ok (.invokevirtual 336, 3) := dk_182 1 80 (dk_at dksX1_three_4 2 rfl rfl)
theorem dX1_three_100 : decode cX1_three 100 = .ok (.iload 6, 2) := dk_21 6 (dk_at dksX1_three_4 5 rfl rfl)
theorem dX1_three_102 : decode cX1_three 102 = .ok (.iload 4, 2) := dk_21 4 (dk_at dksX1_three_4 7 rfl rfl)
theorem dX1_three_104 : decode cX1_three 104 = .ok (.invokestatic 399, 3) := dk_184 1 143 (dk_at dksX1_three_4 9 rfl rfl)
theorem dX1_three_107 : decode cX1_three 107 = .ok (.invokevirtual 410, 3) := dk_182 1 154 (dk_at dksX1_three_4 12 rfl rfl)
theorem dX1_three_110 : decode cX1_three 110 = .ok (.iinc 6 1, 3) := dk_132 6 1 (dk_at dksX1_three_4 15 rfl rfl)
theorem dX1_three_113 : decode cX1_three 113 = .ok (.goto (-71), 3) := dk_167 255 185 (dk_at dksX1_three_4 18 rfl rfl)
theorem dX1_three_116 : decode cX1_three 116 = .ok (.aload_n 0, 1) := dk_42 (dk_at dksX1_three_4 21 rfl rfl)
theorem dX1_three_117 : decode cX1_three 117 = .ok (.aload_n 0, 1) := dk_42 (dk_at dksX1_three_4 22 rfl rfl)
theorem dX1_three_118 : decode cX1_three 118 = .ok (.getfield 226, 3) := dk_180 0 226 (dk_at dksX1_three_5 0 rfl rfl)
theorem dX1_three_121 : decode cX1_three 121 = .ok (.iload_n 2, 1) := dk_28 (dk_at dksX1_three_5 3 rfl rfl)
theorem dX1_three_122 : decode cX1_three 122 = .ok (.iload_n 3, 1) := dk_29 (dk_at dksX1_three_5 4 rfl rfl)
theorem dX1_three_123 : decode cX1_three 123 = .ok (.invokevirtual 230, 3) := dk_182 0 230 (dk_at dksX1_three_5 5 rfl rfl)
theorem dX1_three_126 : decode cX1_three 126 = .ok (.ireturn, 1) := dk_172 (dk_at dksX1_three_5 8 rfl rfl)
abbrev cX1_whyNotThree : ByteArray := prog_1_method_67_code
def yX1_whyNotThree : MethodName := ⟨RX1, "whyNotThree", "(IIII)I"⟩
def dkwX1_whyNotThree_3 : List UInt8 := [182, 0, 208, 153, 0, 7, 2, 167, 0, 4, 7, 172]
abbrev dktX1_whyNotThree_3 : List UInt8 := dkwX1_whyNotThree_3 ++ []
def dkwX1_whyNotThree_2 : List UInt8 := [182, 1, 80, 42, 29, 182, 1, 80, 21, 4, 182, 1, 147, 16, 60, 164, 0, 7, 6, 167, 0, 15, 42]
abbrev dktX1_whyNotThree_2 : List UInt8 := dkwX1_whyNotThree_2 ++ dktX1_whyNotThree_3
def dkwX1_whyNotThree_1 : List UInt8 := [3, 172, 21, 4, 3, 5, 184, 0, 127, 154, 0, 5, 4, 172, 42, 42, 27, 182, 1, 80, 42, 28]
abbrev dktX1_whyNotThree_1 : List UInt8 := dkwX1_whyNotThree_1 ++ dktX1_whyNotThree_2
def dkwX1_whyNotThree_0 : List UInt8 := [42, 27, 182, 1, 77, 153, 0, 19, 42, 28, 182, 1, 77, 153, 0, 11, 42, 29, 182, 1, 77, 154, 0, 5]
abbrev dktX1_whyNotThree_0 : List UInt8 := dkwX1_whyNotThree_0 ++ dktX1_whyNotThree_1
theorem dksX1_whyNotThree_0 : cX1_whyNotThree.data.toList.drop 0 = dktX1_whyNotThree_0 := by decide +kernel
theorem dksX1_whyNotThree_1 : cX1_whyNotThree.data.toList.drop 24 = dktX1_whyNotThree_1 := dk_seg dksX1_whyNotThree_0 24 rfl rfl
theorem dksX1_whyNotThree_2 : cX1_whyNotThree.data.toList.drop 46 = dktX1_whyNotThree_2 := dk_seg dksX1_whyNotThree_1 22 rfl rfl
theorem dksX1_whyNotThree_3 : cX1_whyNotThree.data.toList.drop 69 = dktX1_whyNotThree_3 := dk_seg dksX1_whyNotThree_2 23 rfl rfl
theorem dX1_whyNotThree_0 : decode cX1_whyNotThree 0 = .ok (.aload_n 0, 1) := dk_42 (dk_at dksX1_whyNotThree_0 0 rfl rfl)
theorem dX1_whyNotThree_1 : decode cX1_whyNotThree 1 = .ok (.iload_n 1, 1) := dk_27 (dk_at dksX1_whyNotThree_0 1 rfl rfl)
theorem dX1_whyNotThree_2 : decode cX1_whyNotThree 2 = .ok (.invokevirtual 333, 3) := dk_182 1 77 (dk_at dksX1_whyNotThree_0 2 rfl rfl)
theorem dX1_whyNotThree_5 : decode cX1_whyNotThree 5 = .ok (.ifCond .eq 19, 3) := dk_153 0 19 (dk_at dksX1_whyNotThree_0 5 rfl rfl)
theorem dX1_whyNotThree_8 : decode cX1_whyNotThree 8 = .ok (.aload_n 0, 1) := dk_42 (dk_at dksX1_whyNotThree_0 8 rfl rfl)
theorem dX1_whyNotThree_9 : decode cX1_whyNotThree 9 = .ok (.iload_n 2, 1) := dk_28 (dk_at dksX1_whyNotThree_0 9 rfl rfl)
theorem dX1_whyNotThree_10 : decode cX1_whyNotThree 10 = .ok (.invokevirtual 333, 3) := dk_182 1 77 (dk_at dksX1_whyNotThree_0 10 rfl rfl)
theorem dX1_whyNotThree_13 : decode cX1_whyNotThree 13 = .ok (.ifCond .eq 11, 3) := dk_153 0 11 (dk_at dksX1_whyNotThree_0 13 rfl rfl)
theorem dX1_whyNotThree_16 : decode cX1_whyNotThree 16 = .ok (.aload_n 0, 1) := dk_42 (dk_at dksX1_whyNotThree_0 16 rfl rfl)
theorem dX1_whyNotThree_17 : decode cX1_whyNotThree 17 = .ok (.iload_n 3, 1) := dk_29 (dk_at dksX1_whyNotThree_0 17 rfl rfl)
theorem dX1_whyNotThree_18 : decode cX1_whyNotThree 18 = .ok (.invokevirtual 333, 3) := dk_182 1 77 (dk_at dksX1_whyNotThree_0 18 rfl rfl)
theorem dX1_whyNotThree_21 : decode cX1_whyNotThree 21 = .ok (.ifCond .ne 5, 3) := dk_154 0 5 (dk_at dksX1_whyNotThree_0 21 rfl rfl)
theorem dX1_whyNotThree_24 : decode cX1_whyNotThree 24 = .ok (.iconst 0, 1) := dk_3 (dk_at dksX1_whyNotThree_1 0 rfl rfl)
theorem dX1_whyNotThree_25 : decode cX1_whyNotThree 25 = .ok (.ireturn, 1) := dk_172 (dk_at dksX1_whyNotThree_1 1 rfl rfl)
theorem dX1_whyNotThree_26 : decode cX1_whyNotThree 26 = .ok (.iload 4, 2) := dk_21 4 (dk_at dksX1_whyNotThree_1 2 rfl rfl)
theorem dX1_whyNotThree_28 : decode cX1_whyNotThree 28 = .ok (.iconst 0, 1) := dk_3 (dk_at dksX1_whyNotThree_1 4 rfl rfl)
theorem dX1_whyNotThree_29 : decode cX1_whyNotThree 29 = .ok (.iconst 2, 1) := dk_5 (dk_at dksX1_whyNotThree_1 5 rfl rfl)
theorem dX1_whyNotThree_30 : decode cX1_whyNotThree 30 = .ok (.invokestatic 127, 3) := dk_184 0 127 (dk_at dksX1_whyNotThree_1 6 rfl rfl)
theorem dX1_whyNotThree_33 : decode cX1_whyNotThree 33 = .ok (.ifCond .ne 5, 3) := dk_154 0 5 (dk_at dksX1_whyNotThree_1 9 rfl rfl)
theorem dX1_whyNotThree_36 : decode cX1_whyNotThree 36 = .ok (.iconst 1, 1) := dk_4 (dk_at dksX1_whyNotThree_1 12 rfl rfl)
theorem dX1_whyNotThree_37 : decode cX1_whyNotThree 37 = .ok (.ireturn, 1) := dk_172 (dk_at dksX1_whyNotThree_1 13 rfl rfl)
theorem dX1_whyNotThree_38 : decode cX1_whyNotThree 38 = .ok (.aload_n 0, 1) := dk_42 (dk_at dksX1_whyNotThree_1 14 rfl rfl)
theorem dX1_whyNotThree_39 : decode cX1_whyNotThree 39 = .ok (.aload_n 0, 1) := dk_42 (dk_at dksX1_whyNotThree_1 15 rfl rfl)
theorem dX1_whyNotThree_40 : decode cX1_whyNotThree 40 = .ok (.iload_n 1, 1) := dk_27 (dk_at dksX1_whyNotThree_1 16 rfl rfl)
theorem dX1_whyNotThree_41 : decode cX1_whyNotThree 41 = .ok (.invokevirtual 336, 3) := dk_182 1 80 (dk_at dksX1_whyNotThree_1 17 rfl rfl)
theorem dX1_whyNotThree_44 : decode cX1_whyNotThree 44 = .ok (.aload_n 0, 1) := dk_42 (dk_at dksX1_whyNotThree_1 20 rfl rfl)
theorem dX1_whyNotThree_45 : decode cX1_whyNotThree 45 = .ok (.iload_n 2, 1) := dk_28 (dk_at dksX1_whyNotThree_1 21 rfl rfl)
theorem dX1_whyNotThree_46 : decode cX1_whyNotThree 46 = .ok (.invokevirtual 336, 3) := dk_182 1 80 (dk_at dksX1_whyNotThree_2 0 rfl rfl)
theorem dX1_whyNotThree_49 : decode cX1_whyNotThree 49 = .ok (.aload_n 0, 1) := dk_42 (dk_at dksX1_whyNotThree_2 3 rfl rfl)
theorem dX1_whyNotThree_50 : decode cX1_whyNotThree 50 = .ok (.iload_n 3, 1) := dk_29 (dk_at dksX1_whyNotThree_2 4 rfl rfl)
theorem dX1_whyNotThree_51 : decode cX1_whyNotThree 51 = .ok (.invokevirtual 336, 3) := dk_182 1 80 (dk_at dksX1_whyNotThree_2 5 rfl rfl)
theorem dX1_whyNotThree_54 : decode cX1_whyNotThree 54 = .ok (.iload 4, 2) := dk_21 4 (dk_at dksX1_whyNotThree_2 8 rfl rfl)
theorem dX1_whyNotThree_56 : decode cX1_whyNotThree 56 = .ok (.invokevirtual 403, 3) := dk_182 1 147 (dk_at dksX1_whyNotThree_2 10 rfl rfl)
theorem dX1_whyNotThree_59 : decode cX1_whyNotThree 59 = .ok (.bipush 60, 2) := dk_16 60 (dk_at dksX1_whyNotThree_2 13 rfl rfl)
theorem dX1_whyNotThree_61 : decode cX1_whyNotThree 61 = .ok (.if_icmp .le 7, 3) := dk_164 0 7 (dk_at dksX1_whyNotThree_2 15 rfl rfl)
theorem dX1_whyNotThree_64 : decode cX1_whyNotThree 64 = .ok (.iconst 3, 1) := dk_6 (dk_at dksX1_whyNotThree_2 18 rfl rfl)
theorem dX1_whyNotThree_65 : decode cX1_whyNotThree 65 = .ok (.goto 15, 3) := dk_167 0 15 (dk_at dksX1_whyNotThree_2 19 rfl rfl)
theorem dX1_whyNotThree_68 : decode cX1_whyNotThree 68 = .ok (.aload_n 0, 1) := dk_42 (dk_at dksX1_whyNotThree_2 22 rfl rfl)
theorem dX1_whyNotThree_69 : decode cX1_whyNotThree 69 = .ok (.invokevirtual 208, 3) := dk_182 0 208 (dk_at dksX1_whyNotThree_3 0 rfl rfl)
theorem dX1_whyNotThree_72 : decode cX1_whyNotThree 72 = .ok (.ifCond .eq 7, 3) := dk_153 0 7 (dk_at dksX1_whyNotThree_3 3 rfl rfl)
theorem dX1_whyNotThree_75 : decode cX1_whyNotThree 75 = .ok (.iconst (-1), 1) := dk_2 (dk_at dksX1_whyNotThree_3 6 rfl rfl)
theorem dX1_whyNotThree_76 : decode cX1_whyNotThree 76 = .ok (.goto 4, 3) := dk_167 0 4 (dk_at dksX1_whyNotThree_3 7 rfl rfl)
theorem dX1_whyNotThree_79 : decode cX1_whyNotThree 79 = .ok (.iconst 4, 1) := dk_7 (dk_at dksX1_whyNotThree_3 10 rfl rfl)
theorem dX1_whyNotThree_80 : decode cX1_whyNotThree 80 = .ok (.ireturn, 1) := dk_172 (dk_at dksX1_whyNotThree_3 11 rfl rfl)
abbrev cX1_threeMany : ByteArray := prog_1_method_65_code
def yX1_threeMany : MethodName := ⟨RX1, "threeMany", "(LWideMap$Node;LWideMap$Node;LWideMap$Node;I)I"⟩
def dkwX1_threeMany_1 : List UInt8 := [18, 174, 159, 0, 6, 132, 5, 1, 132, 6, 1, 167, 255, 227, 21, 5, 172]
abbrev dktX1_threeMany_1 : List UInt8 := dkwX1_threeMany_1 ++ []
def dkwX1_threeMany_0 : List UInt8 := [3, 54, 5, 3, 54, 6, 21, 6, 17, 3, 231, 163, 0, 27, 43, 44, 45, 21, 6, 21, 4, 184, 1, 143]
abbrev dktX1_threeMany_0 : List UInt8 := dkwX1_threeMany_0 ++ dktX1_threeMany_1
theorem dksX1_threeMany_0 : cX1_threeMany.data.toList.drop 0 = dktX1_threeMany_0 := by decide +kernel
theorem dksX1_threeMany_1 : cX1_threeMany.data.toList.drop 24 = dktX1_threeMany_1 := dk_seg dksX1_threeMany_0 24 rfl rfl
theorem dX1_threeMany_0 : decode cX1_threeMany 0 = .ok (.iconst 0, 1) := dk_3 (dk_at dksX1_threeMany_0 0 rfl rfl)
theorem dX1_threeMany_1 : decode cX1_threeMany 1 = .ok (.istore 5, 2) := dk_54 5 (dk_at dksX1_threeMany_0 1 rfl rfl)
theorem dX1_threeMany_3 : decode cX1_threeMany 3 = .ok (.iconst 0, 1) := dk_3 (dk_at dksX1_threeMany_0 3 rfl rfl)
theorem dX1_threeMany_4 : decode cX1_threeMany 4 = .ok (.istore 6, 2) := dk_54 6 (dk_at dksX1_threeMany_0 4 rfl rfl)
theorem dX1_threeMany_6 : decode cX1_threeMany 6 = .ok (.iload 6, 2) := dk_21 6 (dk_at dksX1_threeMany_0 6 rfl rfl)
theorem dX1_threeMany_8 : decode cX1_threeMany 8 = .ok (.sipush 999, 3) := dk_17 3 231 (dk_at dksX1_threeMany_0 8 rfl rfl)
theorem dX1_threeMany_11 : decode cX1_threeMany 11 = .ok (.if_icmp .gt 27, 3) := dk_163 0 27 (dk_at dksX1_threeMany_0 11 rfl rfl)
theorem dX1_threeMany_14 : decode cX1_threeMany 14 = .ok (.aload_n 1, 1) := dk_43 (dk_at dksX1_threeMany_0 14 rfl rfl)
theorem dX1_threeMany_15 : decode cX1_threeMany 15 = .ok (.aload_n 2, 1) := dk_44 (dk_at dksX1_threeMany_0 15 rfl rfl)
theorem dX1_threeMany_16 : decode cX1_threeMany 16 = .ok (.aload_n 3, 1) := dk_45 (dk_at dksX1_threeMany_0 16 rfl rfl)
theorem dX1_threeMany_17 : decode cX1_threeMany 17 = .ok (.iload 6, 2) := dk_21 6 (dk_at dksX1_threeMany_0 17 rfl rfl)
theorem dX1_threeMany_19 : decode cX1_threeMany 19 = .ok (.iload 4, 2) := dk_21 4 (dk_at dksX1_threeMany_0 19 rfl rfl)
theorem dX1_threeMany_21 : decode cX1_threeMany 21 = .ok (.invokestatic 399, 3) := dk_184 1 143 (dk_at dksX1_threeMany_0 21 rfl rfl)
theorem dX1_threeMany_24 : decode cX1_threeMany 24 = .ok (.ldc 174, 2) := dk_18 174 (dk_at dksX1_threeMany_1 0 rfl rfl)
theorem dX1_threeMany_26 : decode cX1_threeMany 26 = .ok (.if_icmp .eq 6, 3) := dk_159 0 6 (dk_at dksX1_threeMany_1 2 rfl rfl)
theorem dX1_threeMany_29 : decode cX1_threeMany 29 = .ok (.iinc 5 1, 3) := dk_132 5 1 (dk_at dksX1_threeMany_1 5 rfl rfl)
theorem dX1_threeMany_32 : decode cX1_threeMany 32 = .ok (.iinc 6 1, 3) := dk_132 6 1 (dk_at dksX1_threeMany_1 8 rfl rfl)
theorem dX1_threeMany_35 : decode cX1_threeMany 35 = .ok (.goto (-29), 3) := dk_167 255 227 (dk_at dksX1_threeMany_1 11 rfl rfl)
theorem dX1_threeMany_38 : decode cX1_threeMany 38 = .ok (.iload 5, 2) := dk_21 5 (dk_at dksX1_threeMany_1 14 rfl rfl)
theorem dX1_threeMany_40 : decode cX1_threeMany 40 = .ok (.ireturn, 1) := dk_172 (dk_at dksX1_threeMany_1 16 rfl rfl)
abbrev cX1_comesTo : ByteArray := prog_1_method_64_code
def yX1_comesTo : MethodName := ⟨RX1, "comesTo", "(LWideMap$Node;LWideMap$Node;LWideMap$Node;II)I"⟩
def dkwX1_comesTo_3 : List UInt8 := [167, 0, 4, 42, 29, 184, 1, 34, 167, 0, 8, 43, 29, 184, 1, 34, 172]
abbrev dktX1_comesTo_3 : List UInt8 := dkwX1_comesTo_3 ++ []
def dkwX1_comesTo_2 : List UInt8 := [44, 29, 184, 1, 34, 167, 0, 35, 21, 4, 154, 0, 7, 43, 167, 0, 14, 21, 4, 4, 160, 0, 7, 44]
abbrev dktX1_comesTo_2 : List UInt8 := dkwX1_comesTo_2 ++ dktX1_comesTo_3
def dkwX1_comesTo_1 : List UInt8 := [171, 0, 0, 0, 60, 0, 0, 0, 2, 0, 0, 0, 0, 0, 0, 0, 25, 0, 0, 0, 1, 0, 0, 0, 33]
abbrev dktX1_comesTo_1 : List UInt8 := dkwX1_comesTo_1 ++ dktX1_comesTo_2
def dkwX1_comesTo_0 : List UInt8 := [42, 43, 44, 29, 184, 1, 139]
abbrev dktX1_comesTo_0 : List UInt8 := dkwX1_comesTo_0 ++ dktX1_comesTo_1
theorem dksX1_comesTo_0 : cX1_comesTo.data.toList.drop 0 = dktX1_comesTo_0 := by decide +kernel
theorem dksX1_comesTo_1 : cX1_comesTo.data.toList.drop 7 = dktX1_comesTo_1 := dk_seg dksX1_comesTo_0 7 rfl rfl
theorem dksX1_comesTo_2 : cX1_comesTo.data.toList.drop 32 = dktX1_comesTo_2 := dk_seg dksX1_comesTo_1 25 rfl rfl
theorem dksX1_comesTo_3 : cX1_comesTo.data.toList.drop 56 = dktX1_comesTo_3 := dk_seg dksX1_comesTo_2 24 rfl rfl
theorem dX1_comesTo_0 : decode cX1_comesTo 0 = .ok (.aload_n 0, 1) := dk_42 (dk_at dksX1_comesTo_0 0 rfl rfl)
theorem dX1_comesTo_1 : decode cX1_comesTo 1 = .ok (.aload_n 1, 1) := dk_43 (dk_at dksX1_comesTo_0 1 rfl rfl)
theorem dX1_comesTo_2 : decode cX1_comesTo 2 = .ok (.aload_n 2, 1) := dk_44 (dk_at dksX1_comesTo_0 2 rfl rfl)
theorem dX1_comesTo_3 : decode cX1_comesTo 3 = .ok (.iload_n 3, 1) := dk_29 (dk_at dksX1_comesTo_0 3 rfl rfl)
theorem dX1_comesTo_4 : decode cX1_comesTo 4 = .ok (.invokestatic 395, 3) := dk_184 1 139 (dk_at dksX1_comesTo_0 4 rfl rfl)
theorem dX1_comesTo_7 : decode cX1_comesTo 7 = .ok (.lookupswitch 60 #[(0, 25), (1, 33)], 25) := by decide +kernel
theorem dX1_comesTo_32 : decode cX1_comesTo 32 = .ok (.aload_n 2, 1) := dk_44 (dk_at dksX1_comesTo_2 0 rfl rfl)
theorem dX1_comesTo_33 : decode cX1_comesTo 33 = .ok (.iload_n 3, 1) := dk_29 (dk_at dksX1_comesTo_2 1 rfl rfl)
theorem dX1_comesTo_34 : decode cX1_comesTo 34 = .ok (.invokestatic 290, 3) := dk_184 1 34 (dk_at dksX1_comesTo_2 2 rfl rfl)
theorem dX1_comesTo_37 : decode cX1_comesTo 37 = .ok (.goto 35, 3) := dk_167 0 35 (dk_at dksX1_comesTo_2 5 rfl rfl)
theorem dX1_comesTo_40 : decode cX1_comesTo 40 = .ok (.iload 4, 2) := dk_21 4 (dk_at dksX1_comesTo_2 8 rfl rfl)
theorem dX1_comesTo_42 : decode cX1_comesTo 42 = .ok (.ifCond .ne 7, 3) := dk_154 0 7 (dk_at dksX1_comesTo_2 10 rfl rfl)
theorem dX1_comesTo_45 : decode cX1_comesTo 45 = .ok (.aload_n 1, 1) := dk_43 (dk_at dksX1_comesTo_2 13 rfl rfl)
theorem dX1_comesTo_46 : decode cX1_comesTo 46 = .ok (.goto 14, 3) := dk_167 0 14 (dk_at dksX1_comesTo_2 14 rfl rfl)
theorem dX1_comesTo_49 : decode cX1_comesTo 49 = .ok (.iload 4, 2) := dk_21 4 (dk_at dksX1_comesTo_2 17 rfl rfl)
theorem dX1_comesTo_51 : decode cX1_comesTo 51 = .ok (.iconst 1, 1) := dk_4 (dk_at dksX1_comesTo_2 19 rfl rfl)
theorem dX1_comesTo_52 : decode cX1_comesTo 52 = .ok (.if_icmp .ne 7, 3) := dk_160 0 7 (dk_at dksX1_comesTo_2 20 rfl rfl)
theorem dX1_comesTo_55 : decode cX1_comesTo 55 = .ok (.aload_n 2, 1) := dk_44 (dk_at dksX1_comesTo_2 23 rfl rfl)
theorem dX1_comesTo_56 : decode cX1_comesTo 56 = .ok (.goto 4, 3) := dk_167 0 4 (dk_at dksX1_comesTo_3 0 rfl rfl)
theorem dX1_comesTo_59 : decode cX1_comesTo 59 = .ok (.aload_n 0, 1) := dk_42 (dk_at dksX1_comesTo_3 3 rfl rfl)
theorem dX1_comesTo_60 : decode cX1_comesTo 60 = .ok (.iload_n 3, 1) := dk_29 (dk_at dksX1_comesTo_3 4 rfl rfl)
theorem dX1_comesTo_61 : decode cX1_comesTo 61 = .ok (.invokestatic 290, 3) := dk_184 1 34 (dk_at dksX1_comesTo_3 5 rfl rfl)
theorem dX1_comesTo_64 : decode cX1_comesTo 64 = .ok (.goto 8, 3) := dk_167 0 8 (dk_at dksX1_comesTo_3 8 rfl rfl)
theorem dX1_comesTo_67 : decode cX1_comesTo 67 = .ok (.aload_n 1, 1) := dk_43 (dk_at dksX1_comesTo_3 11 rfl rfl)
theorem dX1_comesTo_68 : decode cX1_comesTo 68 = .ok (.iload_n 3, 1) := dk_29 (dk_at dksX1_comesTo_3 12 rfl rfl)
theorem dX1_comesTo_69 : decode cX1_comesTo 69 = .ok (.invokestatic 290, 3) := dk_184 1 34 (dk_at dksX1_comesTo_3 13 rfl rfl)
theorem dX1_comesTo_72 : decode cX1_comesTo 72 = .ok (.ireturn, 1) := dk_172 (dk_at dksX1_comesTo_3 16 rfl rfl)
abbrev cX1_threeAt : ByteArray := prog_1_method_63_code
def yX1_threeAt : MethodName := ⟨RX1, "threeAt", "(LWideMap$Node;LWideMap$Node;LWideMap$Node;I)I"⟩
def dkwX1_threeAt_2 : List UInt8 := [167, 0, 4, 4, 172]
abbrev dktX1_threeAt_2 : List UInt8 := dkwX1_threeAt_2 ++ []
def dkwX1_threeAt_1 : List UInt8 := [21, 4, 159, 0, 10, 21, 6, 21, 5, 160, 0, 7, 2, 167, 0, 15, 21, 5, 21, 4, 160, 0, 7, 3]
abbrev dktX1_threeAt_1 : List UInt8 := dkwX1_threeAt_1 ++ dktX1_threeAt_2
def dkwX1_threeAt_0 : List UInt8 := [42, 29, 184, 1, 34, 54, 4, 43, 29, 184, 1, 34, 54, 5, 44, 29, 184, 1, 34, 54, 6, 21, 6]
abbrev dktX1_threeAt_0 : List UInt8 := dkwX1_threeAt_0 ++ dktX1_threeAt_1
theorem dksX1_threeAt_0 : cX1_threeAt.data.toList.drop 0 = dktX1_threeAt_0 := by decide +kernel
theorem dksX1_threeAt_1 : cX1_threeAt.data.toList.drop 23 = dktX1_threeAt_1 := dk_seg dksX1_threeAt_0 23 rfl rfl
theorem dksX1_threeAt_2 : cX1_threeAt.data.toList.drop 47 = dktX1_threeAt_2 := dk_seg dksX1_threeAt_1 24 rfl rfl
theorem dX1_threeAt_0 : decode cX1_threeAt 0 = .ok (.aload_n 0, 1) := dk_42 (dk_at dksX1_threeAt_0 0 rfl rfl)
theorem dX1_threeAt_1 : decode cX1_threeAt 1 = .ok (.iload_n 3, 1) := dk_29 (dk_at dksX1_threeAt_0 1 rfl rfl)
theorem dX1_threeAt_2 : decode cX1_threeAt 2 = .ok (.invokestatic 290, 3) := dk_184 1 34 (dk_at dksX1_threeAt_0 2 rfl rfl)
theorem dX1_threeAt_5 : decode cX1_threeAt 5 = .ok (.istore 4, 2) := dk_54 4 (dk_at dksX1_threeAt_0 5 rfl rfl)
theorem dX1_threeAt_7 : decode cX1_threeAt 7 = .ok (.aload_n 1, 1) := dk_43 (dk_at dksX1_threeAt_0 7 rfl rfl)
theorem dX1_threeAt_8 : decode cX1_threeAt 8 = .ok (.iload_n 3, 1) := dk_29 (dk_at dksX1_threeAt_0 8 rfl rfl)
theorem dX1_threeAt_9 : decode cX1_threeAt 9 = .ok (.invokestatic 290, 3) := dk_184 1 34 (dk_at dksX1_threeAt_0 9 rfl rfl)
theorem dX1_threeAt_12 : decode cX1_threeAt 12 = .ok (.istore 5, 2) := dk_54 5 (dk_at dksX1_threeAt_0 12 rfl rfl)
theorem dX1_threeAt_14 : decode cX1_threeAt 14 = .ok (.aload_n 2, 1) := dk_44 (dk_at dksX1_threeAt_0 14 rfl rfl)
theorem dX1_threeAt_15 : decode cX1_threeAt 15 = .ok (.iload_n 3, 1) := dk_29 (dk_at dksX1_threeAt_0 15 rfl rfl)
theorem dX1_threeAt_16 : decode cX1_threeAt 16 = .ok (.invokestatic 290, 3) := dk_184 1 34 (dk_at dksX1_threeAt_0 16 rfl rfl)
theorem dX1_threeAt_19 : decode cX1_threeAt 19 = .ok (.istore 6, 2) := dk_54 6 (dk_at dksX1_threeAt_0 19 rfl rfl)
theorem dX1_threeAt_21 : decode cX1_threeAt 21 = .ok (.iload 6, 2) := dk_21 6 (dk_at dksX1_threeAt_0 21 rfl rfl)
theorem dX1_threeAt_23 : decode cX1_threeAt 23 = .ok (.iload 4, 2) := dk_21 4 (dk_at dksX1_threeAt_1 0 rfl rfl)
theorem dX1_threeAt_25 : decode cX1_threeAt 25 = .ok (.if_icmp .eq 10, 3) := dk_159 0 10 (dk_at dksX1_threeAt_1 2 rfl rfl)
theorem dX1_threeAt_28 : decode cX1_threeAt 28 = .ok (.iload 6, 2) := dk_21 6 (dk_at dksX1_threeAt_1 5 rfl rfl)
theorem dX1_threeAt_30 : decode cX1_threeAt 30 = .ok (.iload 5, 2) := dk_21 5 (dk_at dksX1_threeAt_1 7 rfl rfl)
theorem dX1_threeAt_32 : decode cX1_threeAt 32 = .ok (.if_icmp .ne 7, 3) := dk_160 0 7 (dk_at dksX1_threeAt_1 9 rfl rfl)
theorem dX1_threeAt_35 : decode cX1_threeAt 35 = .ok (.iconst (-1), 1) := dk_2 (dk_at dksX1_threeAt_1 12 rfl rfl)
theorem dX1_threeAt_36 : decode cX1_threeAt 36 = .ok (.goto 15, 3) := dk_167 0 15 (dk_at dksX1_threeAt_1 13 rfl rfl)
theorem dX1_threeAt_39 : decode cX1_threeAt 39 = .ok (.iload 5, 2) := dk_21 5 (dk_at dksX1_threeAt_1 16 rfl rfl)
theorem dX1_threeAt_41 : decode cX1_threeAt 41 = .ok (.iload 4, 2) := dk_21 4 (dk_at dksX1_threeAt_1 18 rfl rfl)
theorem dX1_threeAt_43 : decode cX1_threeAt 43 = .ok (.if_icmp .ne 7, 3) := dk_160 0 7 (dk_at dksX1_threeAt_1 20 rfl rfl)
theorem dX1_threeAt_46 : decode cX1_threeAt 46 = .ok (.iconst 0, 1) := dk_3 (dk_at dksX1_threeAt_1 23 rfl rfl)
theorem dX1_threeAt_47 : decode cX1_threeAt 47 = .ok (.goto 4, 3) := dk_167 0 4 (dk_at dksX1_threeAt_2 0 rfl rfl)
theorem dX1_threeAt_50 : decode cX1_threeAt 50 = .ok (.iconst 1, 1) := dk_4 (dk_at dksX1_threeAt_2 3 rfl rfl)
theorem dX1_threeAt_51 : decode cX1_threeAt 51 = .ok (.ireturn, 1) := dk_172 (dk_at dksX1_threeAt_2 4 rfl rfl)
abbrev cX1_becomes : ByteArray := prog_1_method_66_code
def yX1_becomes : MethodName := ⟨RX1, "becomes", "(II)V"⟩
def dkwX1_becomes_0 : List UInt8 := [28, 18, 174, 160, 0, 11, 42, 27, 182, 1, 71, 167, 0, 9, 42, 27, 28, 182, 0, 222, 177]
abbrev dktX1_becomes_0 : List UInt8 := dkwX1_becomes_0 ++ []
theorem dksX1_becomes_0 : cX1_becomes.data.toList.drop 0 = dktX1_becomes_0 := by decide +kernel
theorem dX1_becomes_0 : decode cX1_becomes 0 = .ok (.iload_n 2, 1) := dk_28 (dk_at dksX1_becomes_0 0 rfl rfl)
theorem dX1_becomes_1 : decode cX1_becomes 1 = .ok (.ldc 174, 2) := dk_18 174 (dk_at dksX1_becomes_0 1 rfl rfl)
theorem dX1_becomes_3 : decode cX1_becomes 3 = .ok (.if_icmp .ne 11, 3) := dk_160 0 11 (dk_at dksX1_becomes_0 3 rfl rfl)
theorem dX1_becomes_6 : decode cX1_becomes 6 = .ok (.aload_n 0, 1) := dk_42 (dk_at dksX1_becomes_0 6 rfl rfl)
theorem dX1_becomes_7 : decode cX1_becomes 7 = .ok (.iload_n 1, 1) := dk_27 (dk_at dksX1_becomes_0 7 rfl rfl)
theorem dX1_becomes_8 : decode cX1_becomes 8 = .ok (.invokevirtual 327, 3) := dk_182 1 71 (dk_at dksX1_becomes_0 8 rfl rfl)
theorem dX1_becomes_11 : decode cX1_becomes 11 = .ok (.goto 9, 3) := dk_167 0 9 (dk_at dksX1_becomes_0 11 rfl rfl)
theorem dX1_becomes_14 : decode cX1_becomes 14 = .ok (.aload_n 0, 1) := dk_42 (dk_at dksX1_becomes_0 14 rfl rfl)
theorem dX1_becomes_15 : decode cX1_becomes 15 = .ok (.iload_n 1, 1) := dk_27 (dk_at dksX1_becomes_0 15 rfl rfl)
theorem dX1_becomes_16 : decode cX1_becomes 16 = .ok (.iload_n 2, 1) := dk_28 (dk_at dksX1_becomes_0 16 rfl rfl)
theorem dX1_becomes_17 : decode cX1_becomes 17 = .ok (.invokevirtual 222, 3) := dk_182 0 222 (dk_at dksX1_becomes_0 17 rfl rfl)
theorem dX1_becomes_20 : decode cX1_becomes 20 = .ok (.return_, 1) := dk_177 (dk_at dksX1_becomes_0 20 rfl rfl)
abbrev cX1_conflicts : ByteArray := prog_1_method_69_code
def yX1_conflicts : MethodName := ⟨RX1, "conflicts", "(III)I"⟩
def dkwX1_conflicts_3 : List UInt8 := [167, 255, 218, 21, 4, 172]
abbrev dktX1_conflicts_3 : List UInt8 := dkwX1_conflicts_3 ++ []
def dkwX1_conflicts_2 : List UInt8 := [182, 1, 80, 42, 29, 182, 1, 80, 21, 5, 184, 1, 139, 4, 160, 0, 6, 132, 4, 1, 132, 5, 1]
abbrev dktX1_conflicts_2 : List UInt8 := dkwX1_conflicts_2 ++ dktX1_conflicts_3
def dkwX1_conflicts_1 : List UInt8 := [2, 172, 3, 54, 4, 3, 54, 5, 21, 5, 17, 3, 231, 163, 0, 36, 42, 27, 182, 1, 80, 42, 28]
abbrev dktX1_conflicts_1 : List UInt8 := dkwX1_conflicts_1 ++ dktX1_conflicts_2
def dkwX1_conflicts_0 : List UInt8 := [42, 27, 182, 1, 77, 153, 0, 19, 42, 28, 182, 1, 77, 153, 0, 11, 42, 29, 182, 1, 77, 154, 0, 5]
abbrev dktX1_conflicts_0 : List UInt8 := dkwX1_conflicts_0 ++ dktX1_conflicts_1
theorem dksX1_conflicts_0 : cX1_conflicts.data.toList.drop 0 = dktX1_conflicts_0 := by decide +kernel
theorem dksX1_conflicts_1 : cX1_conflicts.data.toList.drop 24 = dktX1_conflicts_1 := dk_seg dksX1_conflicts_0 24 rfl rfl
theorem dksX1_conflicts_2 : cX1_conflicts.data.toList.drop 47 = dktX1_conflicts_2 := dk_seg dksX1_conflicts_1 23 rfl rfl
theorem dksX1_conflicts_3 : cX1_conflicts.data.toList.drop 70 = dktX1_conflicts_3 := dk_seg dksX1_conflicts_2 23 rfl rfl
theorem dX1_conflicts_0 : decode cX1_conflicts 0 = .ok (.aload_n 0, 1) := dk_42 (dk_at dksX1_conflicts_0 0 rfl rfl)
theorem dX1_conflicts_1 : decode cX1_conflicts 1 = .ok (.iload_n 1, 1) := dk_27 (dk_at dksX1_conflicts_0 1 rfl rfl)
theorem dX1_conflicts_2 : decode cX1_conflicts 2 = .ok (.invokevirtual 333, 3) := dk_182 1 77 (dk_at dksX1_conflicts_0 2 rfl rfl)
theorem dX1_conflicts_5 : decode cX1_conflicts 5 = .ok (.ifCond .eq 19, 3) := dk_153 0 19 (dk_at dksX1_conflicts_0 5 rfl rfl)
theorem dX1_conflicts_8 : decode cX1_conflicts 8 = .ok (.aload_n 0, 1) := dk_42 (dk_at dksX1_conflicts_0 8 rfl rfl)
theorem dX1_conflicts_9 : decode cX1_conflicts 9 = .ok (.iload_n 2, 1) := dk_28 (dk_at dksX1_conflicts_0 9 rfl rfl)
theorem dX1_conflicts_10 : decode cX1_conflicts 10 = .ok (.invokevirtual 333, 3) := dk_182 1 77 (dk_at dksX1_conflicts_0 10 rfl rfl)
theorem dX1_conflicts_13 : decode cX1_conflicts 13 = .ok (.ifCond .eq 11, 3) := dk_153 0 11 (dk_at dksX1_conflicts_0 13 rfl rfl)
theorem dX1_conflicts_16 : decode cX1_conflicts 16 = .ok (.aload_n 0, 1) := dk_42 (dk_at dksX1_conflicts_0 16 rfl rfl)
theorem dX1_conflicts_17 : decode cX1_conflicts 17 = .ok (.iload_n 3, 1) := dk_29 (dk_at dksX1_conflicts_0 17 rfl rfl)
theorem dX1_conflicts_18 : decode cX1_conflicts 18 = .ok (.invokevirtual 333, 3) := dk_182 1 77 (dk_at dksX1_conflicts_0 18 rfl rfl)
theorem dX1_conflicts_21 : decode cX1_conflicts 21 = .ok (.ifCond .ne 5, 3) := dk_154 0 5 (dk_at dksX1_conflicts_0 21 rfl rfl)
theorem dX1_conflicts_24 : decode cX1_conflicts 24 = .ok (.iconst (-1), 1) := dk_2 (dk_at dksX1_conflicts_1 0 rfl rfl)
theorem dX1_conflicts_25 : decode cX1_conflicts 25 = .ok (.ireturn, 1) := dk_172 (dk_at dksX1_conflicts_1 1 rfl rfl)
theorem dX1_conflicts_26 : decode cX1_conflicts 26 = .ok (.iconst 0, 1) := dk_3 (dk_at dksX1_conflicts_1 2 rfl rfl)
theorem dX1_conflicts_27 : decode cX1_conflicts 27 = .ok (.istore 4, 2) := dk_54 4 (dk_at dksX1_conflicts_1 3 rfl rfl)
theorem dX1_conflicts_29 : decode cX1_conflicts 29 = .ok (.iconst 0, 1) := dk_3 (dk_at dksX1_conflicts_1 5 rfl rfl)
theorem dX1_conflicts_30 : decode cX1_conflicts 30 = .ok (.istore 5, 2) := dk_54 5 (dk_at dksX1_conflicts_1 6 rfl rfl)
theorem dX1_conflicts_32 : decode cX1_conflicts 32 = .ok (.iload 5, 2) := dk_21 5 (dk_at dksX1_conflicts_1 8 rfl rfl)
theorem dX1_conflicts_34 : decode cX1_conflicts 34 = .ok (.sipush 999, 3) := dk_17 3 231 (dk_at dksX1_conflicts_1 10 rfl rfl)
theorem dX1_conflicts_37 : decode cX1_conflicts 37 = .ok (.if_icmp .gt 36, 3) := dk_163 0 36 (dk_at dksX1_conflicts_1 13 rfl rfl)
theorem dX1_conflicts_40 : decode cX1_conflicts 40 = .ok (.aload_n 0, 1) := dk_42 (dk_at dksX1_conflicts_1 16 rfl rfl)
theorem dX1_conflicts_41 : decode cX1_conflicts 41 = .ok (.iload_n 1, 1) := dk_27 (dk_at dksX1_conflicts_1 17 rfl rfl)
theorem dX1_conflicts_42 : decode cX1_conflicts 42 = .ok (.invokevirtual 336, 3) := dk_182 1 80 (dk_at dksX1_conflicts_1 18 rfl rfl)
theorem dX1_conflicts_45 : decode cX1_conflicts 45 = .ok (.aload_n 0, 1) := dk_42 (dk_at dksX1_conflicts_1 21 rfl rfl)
theorem dX1_conflicts_46 : decode cX1_conflicts 46 = .ok (.iload_n 2, 1) := dk_28 (dk_at dksX1_conflicts_1 22 rfl rfl)
theorem dX1_conflicts_47 : decode cX1_conflicts 47 = .ok (.invokevirtual 336, 3) := dk_182 1 80 (dk_at dksX1_conflicts_2 0 rfl rfl)
theorem dX1_conflicts_50 : decode cX1_conflicts 50 = .ok (.aload_n 0, 1) := dk_42 (dk_at dksX1_conflicts_2 3 rfl rfl)
theorem dX1_conflicts_51 : decode cX1_conflicts 51 = .ok (.iload_n 3, 1) := dk_29 (dk_at dksX1_conflicts_2 4 rfl rfl)
theorem dX1_conflicts_52 : decode cX1_conflicts 52 = .ok (.invokevirtual 336, 3) := dk_182 1 80 (dk_at dksX1_conflicts_2 5 rfl rfl)
theorem dX1_conflicts_55 : decode cX1_conflicts 55 = .ok (.iload 5, 2) := dk_21 5 (dk_at dksX1_conflicts_2 8 rfl rfl)
theorem dX1_conflicts_57 : decode cX1_conflicts 57 = .ok (.invokestatic 395, 3) := dk_184 1 139 (dk_at dksX1_conflicts_2 10 rfl rfl)
theorem dX1_conflicts_60 : decode cX1_conflicts 60 = .ok (.iconst 1, 1) := dk_4 (dk_at dksX1_conflicts_2 13 rfl rfl)
theorem dX1_conflicts_61 : decode cX1_conflicts 61 = .ok (.if_icmp .ne 6, 3) := dk_160 0 6 (dk_at dksX1_conflicts_2 14 rfl rfl)
theorem dX1_conflicts_64 : decode cX1_conflicts 64 = .ok (.iinc 4 1, 3) := dk_132 4 1 (dk_at dksX1_conflicts_2 17 rfl rfl)
theorem dX1_conflicts_67 : decode cX1_conflicts 67 = .ok (.iinc 5 1, 3) := dk_132 5 1 (dk_at dksX1_conflicts_2 20 rfl rfl)
theorem dX1_conflicts_70 : decode cX1_conflicts 70 = .ok (.goto (-38), 3) := dk_167 255 218 (dk_at dksX1_conflicts_3 0 rfl rfl)
theorem dX1_conflicts_73 : decode cX1_conflicts 73 = .ok (.iload 4, 2) := dk_21 4 (dk_at dksX1_conflicts_3 3 rfl rfl)
theorem dX1_conflicts_75 : decode cX1_conflicts 75 = .ok (.ireturn, 1) := dk_172 (dk_at dksX1_conflicts_3 5 rfl rfl)
abbrev cX1_slice : ByteArray := prog_1_method_70_code
def yX1_slice : MethodName := ⟨RX1, "slice", "(III)I"⟩
def dkwX1_slice_4 : List UInt8 := [180, 0, 226, 27, 2, 182, 0, 230, 172]
abbrev dktX1_slice_4 : List UInt8 := dkwX1_slice_4 ++ []
def dkwX1_slice_3 : List UInt8 := [182, 0, 218, 42, 3, 28, 4, 100, 182, 1, 157, 42, 29, 4, 96, 17, 3, 231, 182, 1, 157, 42, 42]
abbrev dktX1_slice_3 : List UInt8 := dkwX1_slice_3 ++ dktX1_slice_4
def dkwX1_slice_2 : List UInt8 := [182, 0, 212, 153, 0, 5, 2, 172, 42, 42, 27, 182, 1, 80, 187, 0, 88, 89, 42, 183, 0, 215]
abbrev dktX1_slice_2 : List UInt8 := dkwX1_slice_2 ++ dktX1_slice_3
def dkwX1_slice_1 : List UInt8 := [153, 0, 8, 28, 29, 164, 0, 7, 4, 167, 0, 15, 42, 182, 0, 208, 154, 0, 7, 7, 167, 0, 4, 2]
abbrev dktX1_slice_1 : List UInt8 := dkwX1_slice_1 ++ dktX1_slice_2
def dkwX1_slice_0 : List UInt8 := [42, 42, 27, 182, 1, 77, 154, 0, 7, 3, 167, 0, 38, 28, 184, 1, 111, 153, 0, 15, 29, 184, 1, 111]
abbrev dktX1_slice_0 : List UInt8 := dkwX1_slice_0 ++ dktX1_slice_1
theorem dksX1_slice_0 : cX1_slice.data.toList.drop 0 = dktX1_slice_0 := by decide +kernel
theorem dksX1_slice_1 : cX1_slice.data.toList.drop 24 = dktX1_slice_1 := dk_seg dksX1_slice_0 24 rfl rfl
theorem dksX1_slice_2 : cX1_slice.data.toList.drop 48 = dktX1_slice_2 := dk_seg dksX1_slice_1 24 rfl rfl
theorem dksX1_slice_3 : cX1_slice.data.toList.drop 70 = dktX1_slice_3 := dk_seg dksX1_slice_2 22 rfl rfl
theorem dksX1_slice_4 : cX1_slice.data.toList.drop 93 = dktX1_slice_4 := dk_seg dksX1_slice_3 23 rfl rfl
theorem dX1_slice_0 : decode cX1_slice 0 = .ok (.aload_n 0, 1) := dk_42 (dk_at dksX1_slice_0 0 rfl rfl)
theorem dX1_slice_1 : decode cX1_slice 1 = .ok (.aload_n 0, 1) := dk_42 (dk_at dksX1_slice_0 1 rfl rfl)
theorem dX1_slice_2 : decode cX1_slice 2 = .ok (.iload_n 1, 1) := dk_27 (dk_at dksX1_slice_0 2 rfl rfl)
theorem dX1_slice_3 : decode cX1_slice 3 = .ok (.invokevirtual 333, 3) := dk_182 1 77 (dk_at dksX1_slice_0 3 rfl rfl)
theorem dX1_slice_6 : decode cX1_slice 6 = .ok (.ifCond .ne 7, 3) := dk_154 0 7 (dk_at dksX1_slice_0 6 rfl rfl)
theorem dX1_slice_9 : decode cX1_slice 9 = .ok (.iconst 0, 1) := dk_3 (dk_at dksX1_slice_0 9 rfl rfl)
theorem dX1_slice_10 : decode cX1_slice 10 = .ok (.goto 38, 3) := dk_167 0 38 (dk_at dksX1_slice_0 10 rfl rfl)
theorem dX1_slice_13 : decode cX1_slice 13 = .ok (.iload_n 2, 1) := dk_28 (dk_at dksX1_slice_0 13 rfl rfl)
theorem dX1_slice_14 : decode cX1_slice 14 = .ok (.invokestatic 367, 3) := dk_184 1 111 (dk_at dksX1_slice_0 14 rfl rfl)
theorem dX1_slice_17 : decode cX1_slice 17 = .ok (.ifCond .eq 15, 3) := dk_153 0 15 (dk_at dksX1_slice_0 17 rfl rfl)
theorem dX1_slice_20 : decode cX1_slice 20 = .ok (.iload_n 3, 1) := dk_29 (dk_at dksX1_slice_0 20 rfl rfl)
theorem dX1_slice_21 : decode cX1_slice 21 = .ok (.invokestatic 367, 3) := dk_184 1 111 (dk_at dksX1_slice_0 21 rfl rfl)
theorem dX1_slice_24 : decode cX1_slice 24 = .ok (.ifCond .eq 8, 3) := dk_153 0 8 (dk_at dksX1_slice_1 0 rfl rfl)
theorem dX1_slice_27 : decode cX1_slice 27 = .ok (.iload_n 2, 1) := dk_28 (dk_at dksX1_slice_1 3 rfl rfl)
theorem dX1_slice_28 : decode cX1_slice 28 = .ok (.iload_n 3, 1) := dk_29 (dk_at dksX1_slice_1 4 rfl rfl)
theorem dX1_slice_29 : decode cX1_slice 29 = .ok (.if_icmp .le 7, 3) := dk_164 0 7 (dk_at dksX1_slice_1 5 rfl rfl)
theorem dX1_slice_32 : decode cX1_slice 32 = .ok (.iconst 1, 1) := dk_4 (dk_at dksX1_slice_1 8 rfl rfl)
theorem dX1_slice_33 : decode cX1_slice 33 = .ok (.goto 15, 3) := dk_167 0 15 (dk_at dksX1_slice_1 9 rfl rfl)
theorem dX1_slice_36 : decode cX1_slice 36 = .ok (.aload_n 0, 1) := dk_42 (dk_at dksX1_slice_1 12 rfl rfl)
theorem dX1_slice_37 : decode cX1_slice 37 = .ok (.invokevirtual 208, 3) := dk_182 0 208 (dk_at dksX1_slice_1 13 rfl rfl)
theorem dX1_slice_40 : decode cX1_slice 40 = .ok (.ifCond .ne 7, 3) := dk_154 0 7 (dk_at dksX1_slice_1 16 rfl rfl)
theorem dX1_slice_43 : decode cX1_slice 43 = .ok (.iconst 4, 1) := dk_7 (dk_at dksX1_slice_1 19 rfl rfl)
theorem dX1_slice_44 : decode cX1_slice 44 = .ok (.goto 4, 3) := dk_167 0 4 (dk_at dksX1_slice_1 20 rfl rfl)
theorem dX1_slice_47 : decode cX1_slice 47 = .ok (.iconst (-1), 1) := dk_2 (dk_at dksX1_slice_1 23 rfl rfl)
theorem dX1_slice_48 : decode cX1_slice 48 = .ok (.invokevirtual 212, 3) := dk_182 0 212 (dk_at dksX1_slice_2 0 rfl rfl)
theorem dX1_slice_51 : decode cX1_slice 51 = .ok (.ifCond .eq 5, 3) := dk_153 0 5 (dk_at dksX1_slice_2 3 rfl rfl)
theorem dX1_slice_54 : decode cX1_slice 54 = .ok (.iconst (-1), 1) := dk_2 (dk_at dksX1_slice_2 6 rfl rfl)
theorem dX1_slice_55 : decode cX1_slice 55 = .ok (.ireturn, 1) := dk_172 (dk_at dksX1_slice_2 7 rfl rfl)
theorem dX1_slice_56 : decode cX1_slice 56 = .ok (.aload_n 0, 1) := dk_42 (dk_at dksX1_slice_2 8 rfl rfl)
theorem dX1_slice_57 : decode cX1_slice 57 = .ok (.aload_n 0, 1) := dk_42 (dk_at dksX1_slice_2 9 rfl rfl)
theorem dX1_slice_58 : decode cX1_slice 58 = .ok (.iload_n 1, 1) := dk_27 (dk_at dksX1_slice_2 10 rfl rfl)
theorem dX1_slice_59 : decode cX1_slice 59 = .ok (.invokevirtual 336, 3) := dk_182 1 80 (dk_at dksX1_slice_2 11 rfl rfl)
theorem dX1_slice_62 : decode cX1_slice 62 = .ok (.new 88, 3) := dk_187 0 88 (dk_at dksX1_slice_2 14 rfl rfl)
theorem dX1_slice_65 : decode cX1_slice 65 = .ok (.dup, 1) := dk_89 (dk_at dksX1_slice_2 17 rfl rfl)
theorem dX1_slice_66 : decode cX1_slice 66 = .ok (.aload_n 0, 1) := dk_42 (dk_at dksX1_slice_2 18 rfl rfl)
theorem dX1_slice_67 : decode cX1_slice 67 = .ok (.invokespecial 215, 3) := dk_183 0 215 (dk_at dksX1_slice_2 19 rfl rfl)
theorem dX1_slice_70 : decode cX1_slice 70 = .ok (.invokevirtual 218, 3) := dk_182 0 218 (dk_at dksX1_slice_3 0 rfl rfl)
theorem dX1_slice_73 : decode cX1_slice 73 = .ok (.aload_n 0, 1) := dk_42 (dk_at dksX1_slice_3 3 rfl rfl)
theorem dX1_slice_74 : decode cX1_slice 74 = .ok (.iconst 0, 1) := dk_3 (dk_at dksX1_slice_3 4 rfl rfl)
theorem dX1_slice_75 : decode cX1_slice 75 = .ok (.iload_n 2, 1) := dk_28 (dk_at dksX1_slice_3 5 rfl rfl)
theorem dX1_slice_76 : decode cX1_slice 76 = .ok (.iconst 1, 1) := dk_4 (dk_at dksX1_slice_3 6 rfl rfl)
theorem dX1_slice_77 : decode cX1_slice 77 = .ok (.isub, 1) := dk_100 (dk_at dksX1_slice_3 7 rfl rfl)
theorem dX1_slice_78 : decode cX1_slice 78 = .ok (.invokevirtual 413, 3) := dk_182 1 157 (dk_at dksX1_slice_3 8 rfl rfl)
theorem dX1_slice_81 : decode cX1_slice 81 = .ok (.aload_n 0, 1) := dk_42 (dk_at dksX1_slice_3 11 rfl rfl)
theorem dX1_slice_82 : decode cX1_slice 82 = .ok (.iload_n 3, 1) := dk_29 (dk_at dksX1_slice_3 12 rfl rfl)
theorem dX1_slice_83 : decode cX1_slice 83 = .ok (.iconst 1, 1) := dk_4 (dk_at dksX1_slice_3 13 rfl rfl)
theorem dX1_slice_84 : decode cX1_slice 84 = .ok (.iadd, 1) := dk_96 (dk_at dksX1_slice_3 14 rfl rfl)
theorem dX1_slice_85 : decode cX1_slice 85 = .ok (.sipush 999, 3) := dk_17 3 231 (dk_at dksX1_slice_3 15 rfl rfl)
theorem dX1_slice_88 : decode cX1_slice 88 = .ok (.invokevirtual 413, 3) := dk_182 1 157 (dk_at dksX1_slice_3 18 rfl rfl)
theorem dX1_slice_91 : decode cX1_slice 91 = .ok (.aload_n 0, 1) := dk_42 (dk_at dksX1_slice_3 21 rfl rfl)
theorem dX1_slice_92 : decode cX1_slice 92 = .ok (.aload_n 0, 1) := dk_42 (dk_at dksX1_slice_3 22 rfl rfl)
theorem dX1_slice_93 : decode cX1_slice 93 = .ok (.getfield 226, 3) := dk_180 0 226 (dk_at dksX1_slice_4 0 rfl rfl)
theorem dX1_slice_96 : decode cX1_slice 96 = .ok (.iload_n 1, 1) := dk_27 (dk_at dksX1_slice_4 3 rfl rfl)
theorem dX1_slice_97 : decode cX1_slice 97 = .ok (.iconst (-1), 1) := dk_2 (dk_at dksX1_slice_4 4 rfl rfl)
theorem dX1_slice_98 : decode cX1_slice 98 = .ok (.invokevirtual 230, 3) := dk_182 0 230 (dk_at dksX1_slice_4 5 rfl rfl)
theorem dX1_slice_101 : decode cX1_slice 101 = .ok (.ireturn, 1) := dk_172 (dk_at dksX1_slice_4 8 rfl rfl)
abbrev cX1_cutNow : ByteArray := prog_1_method_45_code
def yX1_cutNow : MethodName := ⟨RX1, "cutNow", "(II)V"⟩
def dkwX1_cutNow_2 : List UInt8 := [167, 255, 221, 177]
abbrev dktX1_cutNow_2 : List UInt8 := dkwX1_cutNow_2 ++ []
def dkwX1_cutNow_1 : List UInt8 := [46, 27, 28, 184, 0, 127, 153, 0, 14, 42, 42, 180, 0, 97, 21, 4, 46, 182, 1, 71, 132, 4, 1]
abbrev dktX1_cutNow_1 : List UInt8 := dkwX1_cutNow_1 ++ dktX1_cutNow_2
def dkwX1_cutNow_0 : List UInt8 := [42, 42, 180, 0, 226, 182, 1, 68, 62, 3, 54, 4, 21, 4, 29, 162, 0, 35, 42, 180, 0, 97, 21, 4]
abbrev dktX1_cutNow_0 : List UInt8 := dkwX1_cutNow_0 ++ dktX1_cutNow_1
theorem dksX1_cutNow_0 : cX1_cutNow.data.toList.drop 0 = dktX1_cutNow_0 := by decide +kernel
theorem dksX1_cutNow_1 : cX1_cutNow.data.toList.drop 24 = dktX1_cutNow_1 := dk_seg dksX1_cutNow_0 24 rfl rfl
theorem dksX1_cutNow_2 : cX1_cutNow.data.toList.drop 47 = dktX1_cutNow_2 := dk_seg dksX1_cutNow_1 23 rfl rfl
theorem dX1_cutNow_0 : decode cX1_cutNow 0 = .ok (.aload_n 0, 1) := dk_42 (dk_at dksX1_cutNow_0 0 rfl rfl)
theorem dX1_cutNow_1 : decode cX1_cutNow 1 = .ok (.aload_n 0, 1) := dk_42 (dk_at dksX1_cutNow_0 1 rfl rfl)
theorem dX1_cutNow_2 : decode cX1_cutNow 2 = .ok (.getfield 226, 3) := dk_180 0 226 (dk_at dksX1_cutNow_0 2 rfl rfl)
theorem dX1_cutNow_5 : decode cX1_cutNow 5 = .ok (.invokevirtual 324, 3) := dk_182 1 68 (dk_at dksX1_cutNow_0 5 rfl rfl)
theorem dX1_cutNow_8 : decode cX1_cutNow 8 = .ok (.istore_n 3, 1) := dk_62 (dk_at dksX1_cutNow_0 8 rfl rfl)
theorem dX1_cutNow_9 : decode cX1_cutNow 9 = .ok (.iconst 0, 1) := dk_3 (dk_at dksX1_cutNow_0 9 rfl rfl)
theorem dX1_cutNow_10 : decode cX1_cutNow 10 = .ok (.istore 4, 2) := dk_54 4 (dk_at dksX1_cutNow_0 10 rfl rfl)
theorem dX1_cutNow_12 : decode cX1_cutNow 12 = .ok (.iload 4, 2) := dk_21 4 (dk_at dksX1_cutNow_0 12 rfl rfl)
theorem dX1_cutNow_14 : decode cX1_cutNow 14 = .ok (.iload_n 3, 1) := dk_29 (dk_at dksX1_cutNow_0 14 rfl rfl)
theorem dX1_cutNow_15 : decode cX1_cutNow 15 = .ok (.if_icmp .ge 35, 3) := dk_162 0 35 (dk_at dksX1_cutNow_0 15 rfl rfl)
theorem dX1_cutNow_18 : decode cX1_cutNow 18 = .ok (.aload_n 0, 1) := dk_42 (dk_at dksX1_cutNow_0 18 rfl rfl)
theorem dX1_cutNow_19 : decode cX1_cutNow 19 = .ok (.getfield 97, 3) := dk_180 0 97 (dk_at dksX1_cutNow_0 19 rfl rfl)
theorem dX1_cutNow_22 : decode cX1_cutNow 22 = .ok (.iload 4, 2) := dk_21 4 (dk_at dksX1_cutNow_0 22 rfl rfl)
theorem dX1_cutNow_24 : decode cX1_cutNow 24 = .ok (.iaload, 1) := dk_46 (dk_at dksX1_cutNow_1 0 rfl rfl)
theorem dX1_cutNow_25 : decode cX1_cutNow 25 = .ok (.iload_n 1, 1) := dk_27 (dk_at dksX1_cutNow_1 1 rfl rfl)
theorem dX1_cutNow_26 : decode cX1_cutNow 26 = .ok (.iload_n 2, 1) := dk_28 (dk_at dksX1_cutNow_1 2 rfl rfl)
theorem dX1_cutNow_27 : decode cX1_cutNow 27 = .ok (.invokestatic 127, 3) := dk_184 0 127 (dk_at dksX1_cutNow_1 3 rfl rfl)
theorem dX1_cutNow_30 : decode cX1_cutNow 30 = .ok (.ifCond .eq 14, 3) := dk_153 0 14 (dk_at dksX1_cutNow_1 6 rfl rfl)
theorem dX1_cutNow_33 : decode cX1_cutNow 33 = .ok (.aload_n 0, 1) := dk_42 (dk_at dksX1_cutNow_1 9 rfl rfl)
theorem dX1_cutNow_34 : decode cX1_cutNow 34 = .ok (.aload_n 0, 1) := dk_42 (dk_at dksX1_cutNow_1 10 rfl rfl)
theorem dX1_cutNow_35 : decode cX1_cutNow 35 = .ok (.getfield 97, 3) := dk_180 0 97 (dk_at dksX1_cutNow_1 11 rfl rfl)
theorem dX1_cutNow_38 : decode cX1_cutNow 38 = .ok (.iload 4, 2) := dk_21 4 (dk_at dksX1_cutNow_1 14 rfl rfl)
theorem dX1_cutNow_40 : decode cX1_cutNow 40 = .ok (.iaload, 1) := dk_46 (dk_at dksX1_cutNow_1 16 rfl rfl)
theorem dX1_cutNow_41 : decode cX1_cutNow 41 = .ok (.invokevirtual 327, 3) := dk_182 1 71 (dk_at dksX1_cutNow_1 17 rfl rfl)
theorem dX1_cutNow_44 : decode cX1_cutNow 44 = .ok (.iinc 4 1, 3) := dk_132 4 1 (dk_at dksX1_cutNow_1 20 rfl rfl)
theorem dX1_cutNow_47 : decode cX1_cutNow 47 = .ok (.goto (-35), 3) := dk_167 255 221 (dk_at dksX1_cutNow_2 0 rfl rfl)
theorem dX1_cutNow_50 : decode cX1_cutNow 50 = .ok (.return_, 1) := dk_177 (dk_at dksX1_cutNow_2 3 rfl rfl)
abbrev cX1_drop : ByteArray := prog_1_method_71_code
def yX1_drop : MethodName := ⟨RX1, "drop", "(I)I"⟩
def dkwX1_drop_4 : List UInt8 := [172]
abbrev dktX1_drop_4 : List UInt8 := dkwX1_drop_4 ++ []
def dkwX1_drop_3 : List UInt8 := [42, 89, 180, 0, 240, 4, 100, 181, 0, 240, 42, 180, 0, 65, 42, 180, 0, 240, 1, 83, 42, 180, 0, 240]
abbrev dktX1_drop_3 : List UInt8 := dkwX1_drop_3 ++ dktX1_drop_4
def dkwX1_drop_2 : List UInt8 := [4, 96, 46, 79, 42, 180, 0, 65, 28, 42, 180, 0, 65, 28, 4, 96, 50, 83, 132, 2, 1, 167, 255, 215]
abbrev dktX1_drop_2 : List UInt8 := dkwX1_drop_2 ++ dktX1_drop_3
def dkwX1_drop_1 : List UInt8 := [182, 0, 252, 61, 28, 42, 180, 0, 240, 4, 100, 162, 0, 37, 42, 180, 0, 57, 28, 42, 180, 0, 57, 28]
abbrev dktX1_drop_1 : List UInt8 := dkwX1_drop_1 ++ dktX1_drop_2
def dkwX1_drop_0 : List UInt8 := [42, 42, 27, 182, 1, 77, 153, 0, 7, 2, 167, 0, 4, 3, 182, 0, 212, 153, 0, 5, 2, 172, 42, 27]
abbrev dktX1_drop_0 : List UInt8 := dkwX1_drop_0 ++ dktX1_drop_1
theorem dksX1_drop_0 : cX1_drop.data.toList.drop 0 = dktX1_drop_0 := by decide +kernel
theorem dksX1_drop_1 : cX1_drop.data.toList.drop 24 = dktX1_drop_1 := dk_seg dksX1_drop_0 24 rfl rfl
theorem dksX1_drop_2 : cX1_drop.data.toList.drop 48 = dktX1_drop_2 := dk_seg dksX1_drop_1 24 rfl rfl
theorem dksX1_drop_3 : cX1_drop.data.toList.drop 72 = dktX1_drop_3 := dk_seg dksX1_drop_2 24 rfl rfl
theorem dksX1_drop_4 : cX1_drop.data.toList.drop 96 = dktX1_drop_4 := dk_seg dksX1_drop_3 24 rfl rfl
theorem dX1_drop_0 : decode cX1_drop 0 = .ok (.aload_n 0, 1) := dk_42 (dk_at dksX1_drop_0 0 rfl rfl)
theorem dX1_drop_1 : decode cX1_drop 1 = .ok (.aload_n 0, 1) := dk_42 (dk_at dksX1_drop_0 1 rfl rfl)
theorem dX1_drop_2 : decode cX1_drop 2 = .ok (.iload_n 1, 1) := dk_27 (dk_at dksX1_drop_0 2 rfl rfl)
theorem dX1_drop_3 : decode cX1_drop 3 = .ok (.invokevirtual 333, 3) := dk_182 1 77 (dk_at dksX1_drop_0 3 rfl rfl)
theorem dX1_drop_6 : decode cX1_drop 6 = .ok (.ifCond .eq 7, 3) := dk_153 0 7 (dk_at dksX1_drop_0 6 rfl rfl)
theorem dX1_drop_9 : decode cX1_drop 9 = .ok (.iconst (-1), 1) := dk_2 (dk_at dksX1_drop_0 9 rfl rfl)
theorem dX1_drop_10 : decode cX1_drop 10 = .ok (.goto 4, 3) := dk_167 0 4 (dk_at dksX1_drop_0 10 rfl rfl)
theorem dX1_drop_13 : decode cX1_drop 13 = .ok (.iconst 0, 1) := dk_3 (dk_at dksX1_drop_0 13 rfl rfl)
theorem dX1_drop_14 : decode cX1_drop 14 = .ok (.invokevirtual 212, 3) := dk_182 0 212 (dk_at dksX1_drop_0 14 rfl rfl)
theorem dX1_drop_17 : decode cX1_drop 17 = .ok (.ifCond .eq 5, 3) := dk_153 0 5 (dk_at dksX1_drop_0 17 rfl rfl)
theorem dX1_drop_20 : decode cX1_drop 20 = .ok (.iconst (-1), 1) := dk_2 (dk_at dksX1_drop_0 20 rfl rfl)
theorem dX1_drop_21 : decode cX1_drop 21 = .ok (.ireturn, 1) := dk_172 (dk_at dksX1_drop_0 21 rfl rfl)
theorem dX1_drop_22 : decode cX1_drop 22 = .ok (.aload_n 0, 1) := dk_42 (dk_at dksX1_drop_0 22 rfl rfl)
theorem dX1_drop_23 : decode cX1_drop 23 = .ok (.iload_n 1, 1) := dk_27 (dk_at dksX1_drop_0 23 rfl rfl)
theorem dX1_drop_24 : decode cX1_drop 24 = .ok (.invokevirtual 252, 3) := dk_182 0 252 (dk_at dksX1_drop_1 0 rfl rfl)
theorem dX1_drop_27 : decode cX1_drop 27 = .ok (.istore_n 2, 1) := dk_61 (dk_at dksX1_drop_1 3 rfl rfl)
theorem dX1_drop_28 : decode cX1_drop 28 = .ok (.iload_n 2, 1) := dk_28 (dk_at dksX1_drop_1 4 rfl rfl)
theorem dX1_drop_29 : decode cX1_drop 29 = .ok (.aload_n 0, 1) := dk_42 (dk_at dksX1_drop_1 5 rfl rfl)
theorem dX1_drop_30 : decode cX1_drop 30 = .ok (.getfield 240, 3) := dk_180 0 240 (dk_at dksX1_drop_1 6 rfl rfl)
theorem dX1_drop_33 : decode cX1_drop 33 = .ok (.iconst 1, 1) := dk_4 (dk_at dksX1_drop_1 9 rfl rfl)
theorem dX1_drop_34 : decode cX1_drop 34 = .ok (.isub, 1) := dk_100 (dk_at dksX1_drop_1 10 rfl rfl)
theorem dX1_drop_35 : decode cX1_drop 35 = .ok (.if_icmp .ge 37, 3) := dk_162 0 37 (dk_at dksX1_drop_1 11 rfl rfl)
theorem dX1_drop_38 : decode cX1_drop 38 = .ok (.aload_n 0, 1) := dk_42 (dk_at dksX1_drop_1 14 rfl rfl)
theorem dX1_drop_39 : decode cX1_drop 39 = .ok (.getfield 57, 3) := dk_180 0 57 (dk_at dksX1_drop_1 15 rfl rfl)
theorem dX1_drop_42 : decode cX1_drop 42 = .ok (.iload_n 2, 1) := dk_28 (dk_at dksX1_drop_1 18 rfl rfl)
theorem dX1_drop_43 : decode cX1_drop 43 = .ok (.aload_n 0, 1) := dk_42 (dk_at dksX1_drop_1 19 rfl rfl)
theorem dX1_drop_44 : decode cX1_drop 44 = .ok (.getfield 57, 3) := dk_180 0 57 (dk_at dksX1_drop_1 20 rfl rfl)
theorem dX1_drop_47 : decode cX1_drop 47 = .ok (.iload_n 2, 1) := dk_28 (dk_at dksX1_drop_1 23 rfl rfl)
theorem dX1_drop_48 : decode cX1_drop 48 = .ok (.iconst 1, 1) := dk_4 (dk_at dksX1_drop_2 0 rfl rfl)
theorem dX1_drop_49 : decode cX1_drop 49 = .ok (.iadd, 1) := dk_96 (dk_at dksX1_drop_2 1 rfl rfl)
theorem dX1_drop_50 : decode cX1_drop 50 = .ok (.iaload, 1) := dk_46 (dk_at dksX1_drop_2 2 rfl rfl)
theorem dX1_drop_51 : decode cX1_drop 51 = .ok (.iastore, 1) := dk_79 (dk_at dksX1_drop_2 3 rfl rfl)
theorem dX1_drop_52 : decode cX1_drop 52 = .ok (.aload_n 0, 1) := dk_42 (dk_at dksX1_drop_2 4 rfl rfl)
theorem dX1_drop_53 : decode cX1_drop 53 = .ok (.getfield 65, 3) := dk_180 0 65 (dk_at dksX1_drop_2 5 rfl rfl)
theorem dX1_drop_56 : decode cX1_drop 56 = .ok (.iload_n 2, 1) := dk_28 (dk_at dksX1_drop_2 8 rfl rfl)
theorem dX1_drop_57 : decode cX1_drop 57 = .ok (.aload_n 0, 1) := dk_42 (dk_at dksX1_drop_2 9 rfl rfl)
theorem dX1_drop_58 : decode cX1_drop 58 = .ok (.getfield 65, 3) := dk_180 0 65 (dk_at dksX1_drop_2 10 rfl rfl)
theorem dX1_drop_61 : decode cX1_drop 61 = .ok (.iload_n 2, 1) := dk_28 (dk_at dksX1_drop_2 13 rfl rfl)
theorem dX1_drop_62 : decode cX1_drop 62 = .ok (.iconst 1, 1) := dk_4 (dk_at dksX1_drop_2 14 rfl rfl)
theorem dX1_drop_63 : decode cX1_drop 63 = .ok (.iadd, 1) := dk_96 (dk_at dksX1_drop_2 15 rfl rfl)
theorem dX1_drop_64 : decode cX1_drop 64 = .ok (.aaload, 1) := dk_50 (dk_at dksX1_drop_2 16 rfl rfl)
theorem dX1_drop_65 : decode cX1_drop 65 = .ok (.aastore, 1) := dk_83 (dk_at dksX1_drop_2 17 rfl rfl)
theorem dX1_drop_66 : decode cX1_drop 66 = .ok (.iinc 2 1, 3) := dk_132 2 1 (dk_at dksX1_drop_2 18 rfl rfl)
theorem dX1_drop_69 : decode cX1_drop 69 = .ok (.goto (-41), 3) := dk_167 255 215 (dk_at dksX1_drop_2 21 rfl rfl)
theorem dX1_drop_72 : decode cX1_drop 72 = .ok (.aload_n 0, 1) := dk_42 (dk_at dksX1_drop_3 0 rfl rfl)
theorem dX1_drop_73 : decode cX1_drop 73 = .ok (.dup, 1) := dk_89 (dk_at dksX1_drop_3 1 rfl rfl)
theorem dX1_drop_74 : decode cX1_drop 74 = .ok (.getfield 240, 3) := dk_180 0 240 (dk_at dksX1_drop_3 2 rfl rfl)
theorem dX1_drop_77 : decode cX1_drop 77 = .ok (.iconst 1, 1) := dk_4 (dk_at dksX1_drop_3 5 rfl rfl)
theorem dX1_drop_78 : decode cX1_drop 78 = .ok (.isub, 1) := dk_100 (dk_at dksX1_drop_3 6 rfl rfl)
theorem dX1_drop_79 : decode cX1_drop 79 = .ok (.putfield 240, 3) := dk_181 0 240 (dk_at dksX1_drop_3 7 rfl rfl)
theorem dX1_drop_82 : decode cX1_drop 82 = .ok (.aload_n 0, 1) := dk_42 (dk_at dksX1_drop_3 10 rfl rfl)
theorem dX1_drop_83 : decode cX1_drop 83 = .ok (.getfield 65, 3) := dk_180 0 65 (dk_at dksX1_drop_3 11 rfl rfl)
theorem dX1_drop_86 : decode cX1_drop 86 = .ok (.aload_n 0, 1) := dk_42 (dk_at dksX1_drop_3 14 rfl rfl)
theorem dX1_drop_87 : decode cX1_drop 87 = .ok (.getfield 240, 3) := dk_180 0 240 (dk_at dksX1_drop_3 15 rfl rfl)
theorem dX1_drop_90 : decode cX1_drop 90 = .ok (.aconst_null, 1) := dk_1 (dk_at dksX1_drop_3 18 rfl rfl)
theorem dX1_drop_91 : decode cX1_drop 91 = .ok (.aastore, 1) := dk_83 (dk_at dksX1_drop_3 19 rfl rfl)
theorem dX1_drop_92 : decode cX1_drop 92 = .ok (.aload_n 0, 1) := dk_42 (dk_at dksX1_drop_3 20 rfl rfl)
theorem dX1_drop_93 : decode cX1_drop 93 = .ok (.getfield 240, 3) := dk_180 0 240 (dk_at dksX1_drop_3 21 rfl rfl)
theorem dX1_drop_96 : decode cX1_drop 96 = .ok (.ireturn, 1) := dk_172 (dk_at dksX1_drop_4 0 rfl rfl)
abbrev cX1_build : ByteArray := prog_1_method_72_code
def yX1_build : MethodName := ⟨RX1, "build", "(II)I"⟩
def dkwX1_build_3 : List UInt8 := [1, 185, 1, 7, 4, 0, 172]
abbrev dktX1_build_3 : List UInt8 := dkwX1_build_3 ++ []
def dkwX1_build_2 : List UInt8 := [187, 0, 88, 89, 42, 183, 0, 215, 83, 42, 180, 0, 94, 27, 28, 79, 42, 180, 0, 85, 27, 50, 3, 3]
abbrev dktX1_build_2 : List UInt8 := dkwX1_build_2 ++ dktX1_build_3
def dkwX1_build_1 : List UInt8 := [182, 0, 212, 153, 0, 5, 2, 172, 42, 180, 0, 85, 27, 42, 28, 182, 1, 80, 83, 42, 180, 0, 90, 27]
abbrev dktX1_build_1 : List UInt8 := dkwX1_build_1 ++ dktX1_build_2
def dkwX1_build_0 : List UInt8 := [42, 42, 28, 182, 1, 77, 153, 0, 11, 42, 27, 182, 1, 160, 154, 0, 7, 3, 167, 0, 4, 2]
abbrev dktX1_build_0 : List UInt8 := dkwX1_build_0 ++ dktX1_build_1
theorem dksX1_build_0 : cX1_build.data.toList.drop 0 = dktX1_build_0 := by decide +kernel
theorem dksX1_build_1 : cX1_build.data.toList.drop 22 = dktX1_build_1 := dk_seg dksX1_build_0 22 rfl rfl
theorem dksX1_build_2 : cX1_build.data.toList.drop 46 = dktX1_build_2 := dk_seg dksX1_build_1 24 rfl rfl
theorem dksX1_build_3 : cX1_build.data.toList.drop 70 = dktX1_build_3 := dk_seg dksX1_build_2 24 rfl rfl
theorem dX1_build_0 : decode cX1_build 0 = .ok (.aload_n 0, 1) := dk_42 (dk_at dksX1_build_0 0 rfl rfl)
theorem dX1_build_1 : decode cX1_build 1 = .ok (.aload_n 0, 1) := dk_42 (dk_at dksX1_build_0 1 rfl rfl)
theorem dX1_build_2 : decode cX1_build 2 = .ok (.iload_n 2, 1) := dk_28 (dk_at dksX1_build_0 2 rfl rfl)
theorem dX1_build_3 : decode cX1_build 3 = .ok (.invokevirtual 333, 3) := dk_182 1 77 (dk_at dksX1_build_0 3 rfl rfl)
theorem dX1_build_6 : decode cX1_build 6 = .ok (.ifCond .eq 11, 3) := dk_153 0 11 (dk_at dksX1_build_0 6 rfl rfl)
theorem dX1_build_9 : decode cX1_build 9 = .ok (.aload_n 0, 1) := dk_42 (dk_at dksX1_build_0 9 rfl rfl)
theorem dX1_build_10 : decode cX1_build 10 = .ok (.iload_n 1, 1) := dk_27 (dk_at dksX1_build_0 10 rfl rfl)
theorem dX1_build_11 : decode cX1_build 11 = .ok (.invokevirtual 416, 3) := dk_182 1 160 (dk_at dksX1_build_0 11 rfl rfl)
theorem dX1_build_14 : decode cX1_build 14 = .ok (.ifCond .ne 7, 3) := dk_154 0 7 (dk_at dksX1_build_0 14 rfl rfl)
theorem dX1_build_17 : decode cX1_build 17 = .ok (.iconst 0, 1) := dk_3 (dk_at dksX1_build_0 17 rfl rfl)
theorem dX1_build_18 : decode cX1_build 18 = .ok (.goto 4, 3) := dk_167 0 4 (dk_at dksX1_build_0 18 rfl rfl)
theorem dX1_build_21 : decode cX1_build 21 = .ok (.iconst (-1), 1) := dk_2 (dk_at dksX1_build_0 21 rfl rfl)
theorem dX1_build_22 : decode cX1_build 22 = .ok (.invokevirtual 212, 3) := dk_182 0 212 (dk_at dksX1_build_1 0 rfl rfl)
theorem dX1_build_25 : decode cX1_build 25 = .ok (.ifCond .eq 5, 3) := dk_153 0 5 (dk_at dksX1_build_1 3 rfl rfl)
theorem dX1_build_28 : decode cX1_build 28 = .ok (.iconst (-1), 1) := dk_2 (dk_at dksX1_build_1 6 rfl rfl)
theorem dX1_build_29 : decode cX1_build 29 = .ok (.ireturn, 1) := dk_172 (dk_at dksX1_build_1 7 rfl rfl)
theorem dX1_build_30 : decode cX1_build 30 = .ok (.aload_n 0, 1) := dk_42 (dk_at dksX1_build_1 8 rfl rfl)
theorem dX1_build_31 : decode cX1_build 31 = .ok (.getfield 85, 3) := dk_180 0 85 (dk_at dksX1_build_1 9 rfl rfl)
theorem dX1_build_34 : decode cX1_build 34 = .ok (.iload_n 1, 1) := dk_27 (dk_at dksX1_build_1 12 rfl rfl)
theorem dX1_build_35 : decode cX1_build 35 = .ok (.aload_n 0, 1) := dk_42 (dk_at dksX1_build_1 13 rfl rfl)
theorem dX1_build_36 : decode cX1_build 36 = .ok (.iload_n 2, 1) := dk_28 (dk_at dksX1_build_1 14 rfl rfl)
theorem dX1_build_37 : decode cX1_build 37 = .ok (.invokevirtual 336, 3) := dk_182 1 80 (dk_at dksX1_build_1 15 rfl rfl)
theorem dX1_build_40 : decode cX1_build 40 = .ok (.aastore, 1) := dk_83 (dk_at dksX1_build_1 18 rfl rfl)
theorem dX1_build_41 : decode cX1_build 41 = .ok (.aload_n 0, 1) := dk_42 (dk_at dksX1_build_1 19 rfl rfl)
theorem dX1_build_42 : decode cX1_build 42 = .ok (.getfield 90, 3) := dk_180 0 90 (dk_at dksX1_build_1 20 rfl rfl)
theorem dX1_build_45 : decode cX1_build 45 = .ok (.iload_n 1, 1) := dk_27 (dk_at dksX1_build_1 23 rfl rfl)
theorem dX1_build_46 : decode cX1_build 46 = .ok (.new 88, 3) := dk_187 0 88 (dk_at dksX1_build_2 0 rfl rfl)
theorem dX1_build_49 : decode cX1_build 49 = .ok (.dup, 1) := dk_89 (dk_at dksX1_build_2 3 rfl rfl)
theorem dX1_build_50 : decode cX1_build 50 = .ok (.aload_n 0, 1) := dk_42 (dk_at dksX1_build_2 4 rfl rfl)
theorem dX1_build_51 : decode cX1_build 51 = .ok (.invokespecial 215, 3) := dk_183 0 215 (dk_at dksX1_build_2 5 rfl rfl)
theorem dX1_build_54 : decode cX1_build 54 = .ok (.aastore, 1) := dk_83 (dk_at dksX1_build_2 8 rfl rfl)
theorem dX1_build_55 : decode cX1_build 55 = .ok (.aload_n 0, 1) := dk_42 (dk_at dksX1_build_2 9 rfl rfl)
theorem dX1_build_56 : decode cX1_build 56 = .ok (.getfield 94, 3) := dk_180 0 94 (dk_at dksX1_build_2 10 rfl rfl)
theorem dX1_build_59 : decode cX1_build 59 = .ok (.iload_n 1, 1) := dk_27 (dk_at dksX1_build_2 13 rfl rfl)
theorem dX1_build_60 : decode cX1_build 60 = .ok (.iload_n 2, 1) := dk_28 (dk_at dksX1_build_2 14 rfl rfl)
theorem dX1_build_61 : decode cX1_build 61 = .ok (.iastore, 1) := dk_79 (dk_at dksX1_build_2 15 rfl rfl)
theorem dX1_build_62 : decode cX1_build 62 = .ok (.aload_n 0, 1) := dk_42 (dk_at dksX1_build_2 16 rfl rfl)
theorem dX1_build_63 : decode cX1_build 63 = .ok (.getfield 85, 3) := dk_180 0 85 (dk_at dksX1_build_2 17 rfl rfl)
theorem dX1_build_66 : decode cX1_build 66 = .ok (.iload_n 1, 1) := dk_27 (dk_at dksX1_build_2 20 rfl rfl)
theorem dX1_build_67 : decode cX1_build 67 = .ok (.aaload, 1) := dk_50 (dk_at dksX1_build_2 21 rfl rfl)
theorem dX1_build_68 : decode cX1_build 68 = .ok (.iconst 0, 1) := dk_3 (dk_at dksX1_build_2 22 rfl rfl)
theorem dX1_build_69 : decode cX1_build 69 = .ok (.iconst 0, 1) := dk_3 (dk_at dksX1_build_2 23 rfl rfl)
theorem dX1_build_70 : decode cX1_build 70 = .ok (.aconst_null, 1) := dk_1 (dk_at dksX1_build_3 0 rfl rfl)
theorem dX1_build_71 : decode cX1_build 71 = .ok (.invokeinterface 263 4, 5) := by decide +kernel
theorem dX1_build_76 : decode cX1_build 76 = .ok (.ireturn, 1) := dk_172 (dk_at dksX1_build_3 6 rfl rfl)
abbrev cX1_isBuilder : ByteArray := prog_1_method_31_code
def yX1_isBuilder : MethodName := ⟨RX1, "isBuilder", "(I)Z"⟩
def dkwX1_isBuilder_0 : List UInt8 := [27, 3, 6, 184, 0, 127, 172]
abbrev dktX1_isBuilder_0 : List UInt8 := dkwX1_isBuilder_0 ++ []
theorem dksX1_isBuilder_0 : cX1_isBuilder.data.toList.drop 0 = dktX1_isBuilder_0 := by decide +kernel
theorem dX1_isBuilder_0 : decode cX1_isBuilder 0 = .ok (.iload_n 1, 1) := dk_27 (dk_at dksX1_isBuilder_0 0 rfl rfl)
theorem dX1_isBuilder_1 : decode cX1_isBuilder 1 = .ok (.iconst 0, 1) := dk_3 (dk_at dksX1_isBuilder_0 1 rfl rfl)
theorem dX1_isBuilder_2 : decode cX1_isBuilder 2 = .ok (.iconst 3, 1) := dk_6 (dk_at dksX1_isBuilder_0 2 rfl rfl)
theorem dX1_isBuilder_3 : decode cX1_isBuilder 3 = .ok (.invokestatic 127, 3) := dk_184 0 127 (dk_at dksX1_isBuilder_0 3 rfl rfl)
theorem dX1_isBuilder_6 : decode cX1_isBuilder 6 = .ok (.ireturn, 1) := dk_172 (dk_at dksX1_isBuilder_0 6 rfl rfl)
abbrev cX1_lay : ByteArray := prog_1_method_77_code
def yX1_lay : MethodName := ⟨RX1, "lay", "(III)I"⟩
def dkwX1_lay_1 : List UInt8 := [28, 29, 182, 0, 222, 42, 27, 21, 4, 182, 1, 176, 172]
abbrev dktX1_lay_1 : List UInt8 := dkwX1_lay_1 ++ []
def dkwX1_lay_0 : List UInt8 := [42, 42, 27, 28, 29, 182, 1, 170, 182, 0, 212, 153, 0, 5, 2, 172, 42, 27, 182, 1, 173, 54, 4, 42]
abbrev dktX1_lay_0 : List UInt8 := dkwX1_lay_0 ++ dktX1_lay_1
theorem dksX1_lay_0 : cX1_lay.data.toList.drop 0 = dktX1_lay_0 := by decide +kernel
theorem dksX1_lay_1 : cX1_lay.data.toList.drop 24 = dktX1_lay_1 := dk_seg dksX1_lay_0 24 rfl rfl
theorem dX1_lay_0 : decode cX1_lay 0 = .ok (.aload_n 0, 1) := dk_42 (dk_at dksX1_lay_0 0 rfl rfl)
theorem dX1_lay_1 : decode cX1_lay 1 = .ok (.aload_n 0, 1) := dk_42 (dk_at dksX1_lay_0 1 rfl rfl)
theorem dX1_lay_2 : decode cX1_lay 2 = .ok (.iload_n 1, 1) := dk_27 (dk_at dksX1_lay_0 2 rfl rfl)
theorem dX1_lay_3 : decode cX1_lay 3 = .ok (.iload_n 2, 1) := dk_28 (dk_at dksX1_lay_0 3 rfl rfl)
theorem dX1_lay_4 : decode cX1_lay 4 = .ok (.iload_n 3, 1) := dk_29 (dk_at dksX1_lay_0 4 rfl rfl)
theorem dX1_lay_5 : decode cX1_lay 5 = .ok (.invokevirtual 426, 3) := dk_182 1 170 (dk_at dksX1_lay_0 5 rfl rfl)
theorem dX1_lay_8 : decode cX1_lay 8 = .ok (.invokevirtual 212, 3) := dk_182 0 212 (dk_at dksX1_lay_0 8 rfl rfl)
theorem dX1_lay_11 : decode cX1_lay 11 = .ok (.ifCond .eq 5, 3) := dk_153 0 5 (dk_at dksX1_lay_0 11 rfl rfl)
theorem dX1_lay_14 : decode cX1_lay 14 = .ok (.iconst (-1), 1) := dk_2 (dk_at dksX1_lay_0 14 rfl rfl)
theorem dX1_lay_15 : decode cX1_lay 15 = .ok (.ireturn, 1) := dk_172 (dk_at dksX1_lay_0 15 rfl rfl)
theorem dX1_lay_16 : decode cX1_lay 16 = .ok (.aload_n 0, 1) := dk_42 (dk_at dksX1_lay_0 16 rfl rfl)
theorem dX1_lay_17 : decode cX1_lay 17 = .ok (.iload_n 1, 1) := dk_27 (dk_at dksX1_lay_0 17 rfl rfl)
theorem dX1_lay_18 : decode cX1_lay 18 = .ok (.invokevirtual 429, 3) := dk_182 1 173 (dk_at dksX1_lay_0 18 rfl rfl)
theorem dX1_lay_21 : decode cX1_lay 21 = .ok (.istore 4, 2) := dk_54 4 (dk_at dksX1_lay_0 21 rfl rfl)
theorem dX1_lay_23 : decode cX1_lay 23 = .ok (.aload_n 0, 1) := dk_42 (dk_at dksX1_lay_0 23 rfl rfl)
theorem dX1_lay_24 : decode cX1_lay 24 = .ok (.iload_n 2, 1) := dk_28 (dk_at dksX1_lay_1 0 rfl rfl)
theorem dX1_lay_25 : decode cX1_lay 25 = .ok (.iload_n 3, 1) := dk_29 (dk_at dksX1_lay_1 1 rfl rfl)
theorem dX1_lay_26 : decode cX1_lay 26 = .ok (.invokevirtual 222, 3) := dk_182 0 222 (dk_at dksX1_lay_1 2 rfl rfl)
theorem dX1_lay_29 : decode cX1_lay 29 = .ok (.aload_n 0, 1) := dk_42 (dk_at dksX1_lay_1 5 rfl rfl)
theorem dX1_lay_30 : decode cX1_lay 30 = .ok (.iload_n 1, 1) := dk_27 (dk_at dksX1_lay_1 6 rfl rfl)
theorem dX1_lay_31 : decode cX1_lay 31 = .ok (.iload 4, 2) := dk_21 4 (dk_at dksX1_lay_1 7 rfl rfl)
theorem dX1_lay_33 : decode cX1_lay 33 = .ok (.invokevirtual 432, 3) := dk_182 1 176 (dk_at dksX1_lay_1 9 rfl rfl)
theorem dX1_lay_36 : decode cX1_lay 36 = .ok (.ireturn, 1) := dk_172 (dk_at dksX1_lay_1 12 rfl rfl)
abbrev cX1_whyNotLaid : ByteArray := prog_1_method_76_code
def yX1_whyNotLaid : MethodName := ⟨RX1, "whyNotLaid", "(III)I"⟩
def dkwX1_whyNotLaid_2 : List UInt8 := [154, 0, 7, 6, 167, 0, 4, 2, 172]
abbrev dktX1_whyNotLaid_2 : List UInt8 := dkwX1_whyNotLaid_2 ++ []
def dkwX1_whyNotLaid_1 : List UInt8 := [54, 4, 21, 4, 2, 159, 0, 8, 21, 4, 167, 0, 22, 42, 42, 180, 0, 85, 27, 50, 28, 182, 1, 117]
abbrev dktX1_whyNotLaid_1 : List UInt8 := dkwX1_whyNotLaid_1 ++ dktX1_whyNotLaid_2
def dkwX1_whyNotLaid_0 : List UInt8 := [42, 27, 28, 184, 1, 111, 153, 0, 14, 29, 184, 1, 114, 153, 0, 7, 4, 167, 0, 4, 3, 182, 1, 166]
abbrev dktX1_whyNotLaid_0 : List UInt8 := dkwX1_whyNotLaid_0 ++ dktX1_whyNotLaid_1
theorem dksX1_whyNotLaid_0 : cX1_whyNotLaid.data.toList.drop 0 = dktX1_whyNotLaid_0 := by decide +kernel
theorem dksX1_whyNotLaid_1 : cX1_whyNotLaid.data.toList.drop 24 = dktX1_whyNotLaid_1 := dk_seg dksX1_whyNotLaid_0 24 rfl rfl
theorem dksX1_whyNotLaid_2 : cX1_whyNotLaid.data.toList.drop 48 = dktX1_whyNotLaid_2 := dk_seg dksX1_whyNotLaid_1 24 rfl rfl
theorem dX1_whyNotLaid_0 : decode cX1_whyNotLaid 0 = .ok (.aload_n 0, 1) := dk_42 (dk_at dksX1_whyNotLaid_0 0 rfl rfl)
theorem dX1_whyNotLaid_1 : decode cX1_whyNotLaid 1 = .ok (.iload_n 1, 1) := dk_27 (dk_at dksX1_whyNotLaid_0 1 rfl rfl)
theorem dX1_whyNotLaid_2 : decode cX1_whyNotLaid 2 = .ok (.iload_n 2, 1) := dk_28 (dk_at dksX1_whyNotLaid_0 2 rfl rfl)
theorem dX1_whyNotLaid_3 : decode cX1_whyNotLaid 3 = .ok (.invokestatic 367, 3) := dk_184 1 111 (dk_at dksX1_whyNotLaid_0 3 rfl rfl)
theorem dX1_whyNotLaid_6 : decode cX1_whyNotLaid 6 = .ok (.ifCond .eq 14, 3) := dk_153 0 14 (dk_at dksX1_whyNotLaid_0 6 rfl rfl)
theorem dX1_whyNotLaid_9 : decode cX1_whyNotLaid 9 = .ok (.iload_n 3, 1) := dk_29 (dk_at dksX1_whyNotLaid_0 9 rfl rfl)
theorem dX1_whyNotLaid_10 : decode cX1_whyNotLaid 10 = .ok (.invokestatic 370, 3) := dk_184 1 114 (dk_at dksX1_whyNotLaid_0 10 rfl rfl)
theorem dX1_whyNotLaid_13 : decode cX1_whyNotLaid 13 = .ok (.ifCond .eq 7, 3) := dk_153 0 7 (dk_at dksX1_whyNotLaid_0 13 rfl rfl)
theorem dX1_whyNotLaid_16 : decode cX1_whyNotLaid 16 = .ok (.iconst 1, 1) := dk_4 (dk_at dksX1_whyNotLaid_0 16 rfl rfl)
theorem dX1_whyNotLaid_17 : decode cX1_whyNotLaid 17 = .ok (.goto 4, 3) := dk_167 0 4 (dk_at dksX1_whyNotLaid_0 17 rfl rfl)
theorem dX1_whyNotLaid_20 : decode cX1_whyNotLaid 20 = .ok (.iconst 0, 1) := dk_3 (dk_at dksX1_whyNotLaid_0 20 rfl rfl)
theorem dX1_whyNotLaid_21 : decode cX1_whyNotLaid 21 = .ok (.invokevirtual 422, 3) := dk_182 1 166 (dk_at dksX1_whyNotLaid_0 21 rfl rfl)
theorem dX1_whyNotLaid_24 : decode cX1_whyNotLaid 24 = .ok (.istore 4, 2) := dk_54 4 (dk_at dksX1_whyNotLaid_1 0 rfl rfl)
theorem dX1_whyNotLaid_26 : decode cX1_whyNotLaid 26 = .ok (.iload 4, 2) := dk_21 4 (dk_at dksX1_whyNotLaid_1 2 rfl rfl)
theorem dX1_whyNotLaid_28 : decode cX1_whyNotLaid 28 = .ok (.iconst (-1), 1) := dk_2 (dk_at dksX1_whyNotLaid_1 4 rfl rfl)
theorem dX1_whyNotLaid_29 : decode cX1_whyNotLaid 29 = .ok (.if_icmp .eq 8, 3) := dk_159 0 8 (dk_at dksX1_whyNotLaid_1 5 rfl rfl)
theorem dX1_whyNotLaid_32 : decode cX1_whyNotLaid 32 = .ok (.iload 4, 2) := dk_21 4 (dk_at dksX1_whyNotLaid_1 8 rfl rfl)
theorem dX1_whyNotLaid_34 : decode cX1_whyNotLaid 34 = .ok (.goto 22, 3) := dk_167 0 22 (dk_at dksX1_whyNotLaid_1 10 rfl rfl)
theorem dX1_whyNotLaid_37 : decode cX1_whyNotLaid 37 = .ok (.aload_n 0, 1) := dk_42 (dk_at dksX1_whyNotLaid_1 13 rfl rfl)
theorem dX1_whyNotLaid_38 : decode cX1_whyNotLaid 38 = .ok (.aload_n 0, 1) := dk_42 (dk_at dksX1_whyNotLaid_1 14 rfl rfl)
theorem dX1_whyNotLaid_39 : decode cX1_whyNotLaid 39 = .ok (.getfield 85, 3) := dk_180 0 85 (dk_at dksX1_whyNotLaid_1 15 rfl rfl)
theorem dX1_whyNotLaid_42 : decode cX1_whyNotLaid 42 = .ok (.iload_n 1, 1) := dk_27 (dk_at dksX1_whyNotLaid_1 18 rfl rfl)
theorem dX1_whyNotLaid_43 : decode cX1_whyNotLaid 43 = .ok (.aaload, 1) := dk_50 (dk_at dksX1_whyNotLaid_1 19 rfl rfl)
theorem dX1_whyNotLaid_44 : decode cX1_whyNotLaid 44 = .ok (.iload_n 2, 1) := dk_28 (dk_at dksX1_whyNotLaid_1 20 rfl rfl)
theorem dX1_whyNotLaid_45 : decode cX1_whyNotLaid 45 = .ok (.invokevirtual 373, 3) := dk_182 1 117 (dk_at dksX1_whyNotLaid_1 21 rfl rfl)
theorem dX1_whyNotLaid_48 : decode cX1_whyNotLaid 48 = .ok (.ifCond .ne 7, 3) := dk_154 0 7 (dk_at dksX1_whyNotLaid_2 0 rfl rfl)
theorem dX1_whyNotLaid_51 : decode cX1_whyNotLaid 51 = .ok (.iconst 3, 1) := dk_6 (dk_at dksX1_whyNotLaid_2 3 rfl rfl)
theorem dX1_whyNotLaid_52 : decode cX1_whyNotLaid 52 = .ok (.goto 4, 3) := dk_167 0 4 (dk_at dksX1_whyNotLaid_2 4 rfl rfl)
theorem dX1_whyNotLaid_55 : decode cX1_whyNotLaid 55 = .ok (.iconst (-1), 1) := dk_2 (dk_at dksX1_whyNotLaid_2 7 rfl rfl)
theorem dX1_whyNotLaid_56 : decode cX1_whyNotLaid 56 = .ok (.ireturn, 1) := dk_172 (dk_at dksX1_whyNotLaid_2 8 rfl rfl)
abbrev cX1_whyNot : ByteArray := prog_1_method_73_code
def yX1_whyNot : MethodName := ⟨RX1, "whyNot", "(IZ)I"⟩
def dkwX1_whyNot_1 : List UInt8 := [182, 1, 163, 153, 0, 7, 5, 167, 0, 4, 2, 172]
abbrev dktX1_whyNot_1 : List UInt8 := dkwX1_whyNot_1 ++ []
def dkwX1_whyNot_0 : List UInt8 := [42, 27, 182, 1, 160, 154, 0, 7, 3, 167, 0, 24, 28, 154, 0, 7, 4, 167, 0, 16, 42, 27]
abbrev dktX1_whyNot_0 : List UInt8 := dkwX1_whyNot_0 ++ dktX1_whyNot_1
theorem dksX1_whyNot_0 : cX1_whyNot.data.toList.drop 0 = dktX1_whyNot_0 := by decide +kernel
theorem dksX1_whyNot_1 : cX1_whyNot.data.toList.drop 22 = dktX1_whyNot_1 := dk_seg dksX1_whyNot_0 22 rfl rfl
theorem dX1_whyNot_0 : decode cX1_whyNot 0 = .ok (.aload_n 0, 1) := dk_42 (dk_at dksX1_whyNot_0 0 rfl rfl)
theorem dX1_whyNot_1 : decode cX1_whyNot 1 = .ok (.iload_n 1, 1) := dk_27 (dk_at dksX1_whyNot_0 1 rfl rfl)
theorem dX1_whyNot_2 : decode cX1_whyNot 2 = .ok (.invokevirtual 416, 3) := dk_182 1 160 (dk_at dksX1_whyNot_0 2 rfl rfl)
theorem dX1_whyNot_5 : decode cX1_whyNot 5 = .ok (.ifCond .ne 7, 3) := dk_154 0 7 (dk_at dksX1_whyNot_0 5 rfl rfl)
theorem dX1_whyNot_8 : decode cX1_whyNot 8 = .ok (.iconst 0, 1) := dk_3 (dk_at dksX1_whyNot_0 8 rfl rfl)
theorem dX1_whyNot_9 : decode cX1_whyNot 9 = .ok (.goto 24, 3) := dk_167 0 24 (dk_at dksX1_whyNot_0 9 rfl rfl)
theorem dX1_whyNot_12 : decode cX1_whyNot 12 = .ok (.iload_n 2, 1) := dk_28 (dk_at dksX1_whyNot_0 12 rfl rfl)
theorem dX1_whyNot_13 : decode cX1_whyNot 13 = .ok (.ifCond .ne 7, 3) := dk_154 0 7 (dk_at dksX1_whyNot_0 13 rfl rfl)
theorem dX1_whyNot_16 : decode cX1_whyNot 16 = .ok (.iconst 1, 1) := dk_4 (dk_at dksX1_whyNot_0 16 rfl rfl)
theorem dX1_whyNot_17 : decode cX1_whyNot 17 = .ok (.goto 16, 3) := dk_167 0 16 (dk_at dksX1_whyNot_0 17 rfl rfl)
theorem dX1_whyNot_20 : decode cX1_whyNot 20 = .ok (.aload_n 0, 1) := dk_42 (dk_at dksX1_whyNot_0 20 rfl rfl)
theorem dX1_whyNot_21 : decode cX1_whyNot 21 = .ok (.iload_n 1, 1) := dk_27 (dk_at dksX1_whyNot_0 21 rfl rfl)
theorem dX1_whyNot_22 : decode cX1_whyNot 22 = .ok (.invokevirtual 419, 3) := dk_182 1 163 (dk_at dksX1_whyNot_1 0 rfl rfl)
theorem dX1_whyNot_25 : decode cX1_whyNot 25 = .ok (.ifCond .eq 7, 3) := dk_153 0 7 (dk_at dksX1_whyNot_1 3 rfl rfl)
theorem dX1_whyNot_28 : decode cX1_whyNot 28 = .ok (.iconst 2, 1) := dk_5 (dk_at dksX1_whyNot_1 6 rfl rfl)
theorem dX1_whyNot_29 : decode cX1_whyNot 29 = .ok (.goto 4, 3) := dk_167 0 4 (dk_at dksX1_whyNot_1 7 rfl rfl)
theorem dX1_whyNot_32 : decode cX1_whyNot 32 = .ok (.iconst (-1), 1) := dk_2 (dk_at dksX1_whyNot_1 10 rfl rfl)
theorem dX1_whyNot_33 : decode cX1_whyNot 33 = .ok (.ireturn, 1) := dk_172 (dk_at dksX1_whyNot_1 11 rfl rfl)
abbrev cX1_isStale : ByteArray := prog_1_method_32_code
def yX1_isStale : MethodName := ⟨RX1, "isStale", "(I)Z"⟩
def dkwX1_isStale_0 : List UInt8 := [42, 180, 0, 90, 27, 50, 199, 0, 7, 4, 167, 0, 4, 3, 172]
abbrev dktX1_isStale_0 : List UInt8 := dkwX1_isStale_0 ++ []
theorem dksX1_isStale_0 : cX1_isStale.data.toList.drop 0 = dktX1_isStale_0 := by decide +kernel
theorem dX1_isStale_0 : decode cX1_isStale 0 = .ok (.aload_n 0, 1) := dk_42 (dk_at dksX1_isStale_0 0 rfl rfl)
theorem dX1_isStale_1 : decode cX1_isStale 1 = .ok (.getfield 90, 3) := dk_180 0 90 (dk_at dksX1_isStale_0 1 rfl rfl)
theorem dX1_isStale_4 : decode cX1_isStale 4 = .ok (.iload_n 1, 1) := dk_27 (dk_at dksX1_isStale_0 4 rfl rfl)
theorem dX1_isStale_5 : decode cX1_isStale 5 = .ok (.aaload, 1) := dk_50 (dk_at dksX1_isStale_0 5 rfl rfl)
theorem dX1_isStale_6 : decode cX1_isStale 6 = .ok (.ifnonnull 7, 3) := dk_199 0 7 (dk_at dksX1_isStale_0 6 rfl rfl)
theorem dX1_isStale_9 : decode cX1_isStale 9 = .ok (.iconst 1, 1) := dk_4 (dk_at dksX1_isStale_0 9 rfl rfl)
theorem dX1_isStale_10 : decode cX1_isStale 10 = .ok (.goto 4, 3) := dk_167 0 4 (dk_at dksX1_isStale_0 10 rfl rfl)
theorem dX1_isStale_13 : decode cX1_isStale 13 = .ok (.iconst 0, 1) := dk_3 (dk_at dksX1_isStale_0 13 rfl rfl)
theorem dX1_isStale_14 : decode cX1_isStale 14 = .ok (.ireturn, 1) := dk_172 (dk_at dksX1_isStale_0 14 rfl rfl)
abbrev cX1_begins : ByteArray := prog_1_method_74_code
def yX1_begins : MethodName := ⟨RX1, "begins", "(I)I"⟩
def dkwX1_begins_0 : List UInt8 := [42, 42, 180, 0, 85, 27, 50, 42, 180, 0, 90, 27, 50, 182, 0, 218, 42, 180, 0, 246, 172]
abbrev dktX1_begins_0 : List UInt8 := dkwX1_begins_0 ++ []
theorem dksX1_begins_0 : cX1_begins.data.toList.drop 0 = dktX1_begins_0 := by decide +kernel
theorem dX1_begins_0 : decode cX1_begins 0 = .ok (.aload_n 0, 1) := dk_42 (dk_at dksX1_begins_0 0 rfl rfl)
theorem dX1_begins_1 : decode cX1_begins 1 = .ok (.aload_n 0, 1) := dk_42 (dk_at dksX1_begins_0 1 rfl rfl)
theorem dX1_begins_2 : decode cX1_begins 2 = .ok (.getfield 85, 3) := dk_180 0 85 (dk_at dksX1_begins_0 2 rfl rfl)
theorem dX1_begins_5 : decode cX1_begins 5 = .ok (.iload_n 1, 1) := dk_27 (dk_at dksX1_begins_0 5 rfl rfl)
theorem dX1_begins_6 : decode cX1_begins 6 = .ok (.aaload, 1) := dk_50 (dk_at dksX1_begins_0 6 rfl rfl)
theorem dX1_begins_7 : decode cX1_begins 7 = .ok (.aload_n 0, 1) := dk_42 (dk_at dksX1_begins_0 7 rfl rfl)
theorem dX1_begins_8 : decode cX1_begins 8 = .ok (.getfield 90, 3) := dk_180 0 90 (dk_at dksX1_begins_0 8 rfl rfl)
theorem dX1_begins_11 : decode cX1_begins 11 = .ok (.iload_n 1, 1) := dk_27 (dk_at dksX1_begins_0 11 rfl rfl)
theorem dX1_begins_12 : decode cX1_begins 12 = .ok (.aaload, 1) := dk_50 (dk_at dksX1_begins_0 12 rfl rfl)
theorem dX1_begins_13 : decode cX1_begins 13 = .ok (.invokevirtual 218, 3) := dk_182 0 218 (dk_at dksX1_begins_0 13 rfl rfl)
theorem dX1_begins_16 : decode cX1_begins 16 = .ok (.aload_n 0, 1) := dk_42 (dk_at dksX1_begins_0 16 rfl rfl)
theorem dX1_begins_17 : decode cX1_begins 17 = .ok (.getfield 246, 3) := dk_180 0 246 (dk_at dksX1_begins_0 17 rfl rfl)
theorem dX1_begins_20 : decode cX1_begins 20 = .ok (.ireturn, 1) := dk_172 (dk_at dksX1_begins_0 20 rfl rfl)
abbrev cX1_ends : ByteArray := prog_1_method_75_code
def yX1_ends : MethodName := ⟨RX1, "ends", "(II)I"⟩
def dkwX1_ends_0 : List UInt8 := [42, 180, 0, 85, 27, 42, 180, 0, 226, 83, 42, 180, 0, 246, 28, 100, 172]
abbrev dktX1_ends_0 : List UInt8 := dkwX1_ends_0 ++ []
theorem dksX1_ends_0 : cX1_ends.data.toList.drop 0 = dktX1_ends_0 := by decide +kernel
theorem dX1_ends_0 : decode cX1_ends 0 = .ok (.aload_n 0, 1) := dk_42 (dk_at dksX1_ends_0 0 rfl rfl)
theorem dX1_ends_1 : decode cX1_ends 1 = .ok (.getfield 85, 3) := dk_180 0 85 (dk_at dksX1_ends_0 1 rfl rfl)
theorem dX1_ends_4 : decode cX1_ends 4 = .ok (.iload_n 1, 1) := dk_27 (dk_at dksX1_ends_0 4 rfl rfl)
theorem dX1_ends_5 : decode cX1_ends 5 = .ok (.aload_n 0, 1) := dk_42 (dk_at dksX1_ends_0 5 rfl rfl)
theorem dX1_ends_6 : decode cX1_ends 6 = .ok (.getfield 226, 3) := dk_180 0 226 (dk_at dksX1_ends_0 6 rfl rfl)
theorem dX1_ends_9 : decode cX1_ends 9 = .ok (.aastore, 1) := dk_83 (dk_at dksX1_ends_0 9 rfl rfl)
theorem dX1_ends_10 : decode cX1_ends 10 = .ok (.aload_n 0, 1) := dk_42 (dk_at dksX1_ends_0 10 rfl rfl)
theorem dX1_ends_11 : decode cX1_ends 11 = .ok (.getfield 246, 3) := dk_180 0 246 (dk_at dksX1_ends_0 11 rfl rfl)
theorem dX1_ends_14 : decode cX1_ends 14 = .ok (.iload_n 2, 1) := dk_28 (dk_at dksX1_ends_0 14 rfl rfl)
theorem dX1_ends_15 : decode cX1_ends 15 = .ok (.isub, 1) := dk_100 (dk_at dksX1_ends_0 15 rfl rfl)
theorem dX1_ends_16 : decode cX1_ends 16 = .ok (.ireturn, 1) := dk_172 (dk_at dksX1_ends_0 16 rfl rfl)
abbrev cX1_take : ByteArray := prog_1_method_78_code
def yX1_take : MethodName := ⟨RX1, "take", "(II)I"⟩
def dkwX1_take_1 : List UInt8 := [42, 28, 182, 1, 71, 42, 27, 29, 182, 1, 176, 172]
abbrev dktX1_take_1 : List UInt8 := dkwX1_take_1 ++ []
def dkwX1_take_0 : List UInt8 := [42, 42, 27, 28, 184, 1, 111, 182, 1, 166, 182, 0, 212, 153, 0, 5, 2, 172, 42, 27, 182, 1, 173, 62]
abbrev dktX1_take_0 : List UInt8 := dkwX1_take_0 ++ dktX1_take_1
theorem dksX1_take_0 : cX1_take.data.toList.drop 0 = dktX1_take_0 := by decide +kernel
theorem dksX1_take_1 : cX1_take.data.toList.drop 24 = dktX1_take_1 := dk_seg dksX1_take_0 24 rfl rfl
theorem dX1_take_0 : decode cX1_take 0 = .ok (.aload_n 0, 1) := dk_42 (dk_at dksX1_take_0 0 rfl rfl)
theorem dX1_take_1 : decode cX1_take 1 = .ok (.aload_n 0, 1) := dk_42 (dk_at dksX1_take_0 1 rfl rfl)
theorem dX1_take_2 : decode cX1_take 2 = .ok (.iload_n 1, 1) := dk_27 (dk_at dksX1_take_0 2 rfl rfl)
theorem dX1_take_3 : decode cX1_take 3 = .ok (.iload_n 2, 1) := dk_28 (dk_at dksX1_take_0 3 rfl rfl)
theorem dX1_take_4 : decode cX1_take 4 = .ok (.invokestatic 367, 3) := dk_184 1 111 (dk_at dksX1_take_0 4 rfl rfl)
theorem dX1_take_7 : decode cX1_take 7 = .ok (.invokevirtual 422, 3) := dk_182 1 166 (dk_at dksX1_take_0 7 rfl rfl)
theorem dX1_take_10 : decode cX1_take 10 = .ok (.invokevirtual 212, 3) := dk_182 0 212 (dk_at dksX1_take_0 10 rfl rfl)
theorem dX1_take_13 : decode cX1_take 13 = .ok (.ifCond .eq 5, 3) := dk_153 0 5 (dk_at dksX1_take_0 13 rfl rfl)
theorem dX1_take_16 : decode cX1_take 16 = .ok (.iconst (-1), 1) := dk_2 (dk_at dksX1_take_0 16 rfl rfl)
theorem dX1_take_17 : decode cX1_take 17 = .ok (.ireturn, 1) := dk_172 (dk_at dksX1_take_0 17 rfl rfl)
theorem dX1_take_18 : decode cX1_take 18 = .ok (.aload_n 0, 1) := dk_42 (dk_at dksX1_take_0 18 rfl rfl)
theorem dX1_take_19 : decode cX1_take 19 = .ok (.iload_n 1, 1) := dk_27 (dk_at dksX1_take_0 19 rfl rfl)
theorem dX1_take_20 : decode cX1_take 20 = .ok (.invokevirtual 429, 3) := dk_182 1 173 (dk_at dksX1_take_0 20 rfl rfl)
theorem dX1_take_23 : decode cX1_take 23 = .ok (.istore_n 3, 1) := dk_62 (dk_at dksX1_take_0 23 rfl rfl)
theorem dX1_take_24 : decode cX1_take 24 = .ok (.aload_n 0, 1) := dk_42 (dk_at dksX1_take_1 0 rfl rfl)
theorem dX1_take_25 : decode cX1_take 25 = .ok (.iload_n 2, 1) := dk_28 (dk_at dksX1_take_1 1 rfl rfl)
theorem dX1_take_26 : decode cX1_take 26 = .ok (.invokevirtual 327, 3) := dk_182 1 71 (dk_at dksX1_take_1 2 rfl rfl)
theorem dX1_take_29 : decode cX1_take 29 = .ok (.aload_n 0, 1) := dk_42 (dk_at dksX1_take_1 5 rfl rfl)
theorem dX1_take_30 : decode cX1_take 30 = .ok (.iload_n 1, 1) := dk_27 (dk_at dksX1_take_1 6 rfl rfl)
theorem dX1_take_31 : decode cX1_take 31 = .ok (.iload_n 3, 1) := dk_29 (dk_at dksX1_take_1 7 rfl rfl)
theorem dX1_take_32 : decode cX1_take 32 = .ok (.invokevirtual 432, 3) := dk_182 1 176 (dk_at dksX1_take_1 8 rfl rfl)
theorem dX1_take_35 : decode cX1_take 35 = .ok (.ireturn, 1) := dk_172 (dk_at dksX1_take_1 11 rfl rfl)
abbrev cX1_add : ByteArray := prog_1_method_79_code
def yX1_add : MethodName := ⟨RX1, "add", "(III)I"⟩
def dkwX1_add_1 : List UInt8 := [28, 29, 182, 1, 74, 42, 27, 21, 4, 182, 1, 176, 172]
abbrev dktX1_add_1 : List UInt8 := dkwX1_add_1 ++ []
def dkwX1_add_0 : List UInt8 := [42, 42, 27, 28, 29, 182, 1, 170, 182, 0, 212, 153, 0, 5, 2, 172, 42, 27, 182, 1, 173, 54, 4, 42]
abbrev dktX1_add_0 : List UInt8 := dkwX1_add_0 ++ dktX1_add_1
theorem dksX1_add_0 : cX1_add.data.toList.drop 0 = dktX1_add_0 := by decide +kernel
theorem dksX1_add_1 : cX1_add.data.toList.drop 24 = dktX1_add_1 := dk_seg dksX1_add_0 24 rfl rfl
theorem dX1_add_0 : decode cX1_add 0 = .ok (.aload_n 0, 1) := dk_42 (dk_at dksX1_add_0 0 rfl rfl)
theorem dX1_add_1 : decode cX1_add 1 = .ok (.aload_n 0, 1) := dk_42 (dk_at dksX1_add_0 1 rfl rfl)
theorem dX1_add_2 : decode cX1_add 2 = .ok (.iload_n 1, 1) := dk_27 (dk_at dksX1_add_0 2 rfl rfl)
theorem dX1_add_3 : decode cX1_add 3 = .ok (.iload_n 2, 1) := dk_28 (dk_at dksX1_add_0 3 rfl rfl)
theorem dX1_add_4 : decode cX1_add 4 = .ok (.iload_n 3, 1) := dk_29 (dk_at dksX1_add_0 4 rfl rfl)
theorem dX1_add_5 : decode cX1_add 5 = .ok (.invokevirtual 426, 3) := dk_182 1 170 (dk_at dksX1_add_0 5 rfl rfl)
theorem dX1_add_8 : decode cX1_add 8 = .ok (.invokevirtual 212, 3) := dk_182 0 212 (dk_at dksX1_add_0 8 rfl rfl)
theorem dX1_add_11 : decode cX1_add 11 = .ok (.ifCond .eq 5, 3) := dk_153 0 5 (dk_at dksX1_add_0 11 rfl rfl)
theorem dX1_add_14 : decode cX1_add 14 = .ok (.iconst (-1), 1) := dk_2 (dk_at dksX1_add_0 14 rfl rfl)
theorem dX1_add_15 : decode cX1_add 15 = .ok (.ireturn, 1) := dk_172 (dk_at dksX1_add_0 15 rfl rfl)
theorem dX1_add_16 : decode cX1_add 16 = .ok (.aload_n 0, 1) := dk_42 (dk_at dksX1_add_0 16 rfl rfl)
theorem dX1_add_17 : decode cX1_add 17 = .ok (.iload_n 1, 1) := dk_27 (dk_at dksX1_add_0 17 rfl rfl)
theorem dX1_add_18 : decode cX1_add 18 = .ok (.invokevirtual 429, 3) := dk_182 1 173 (dk_at dksX1_add_0 18 rfl rfl)
theorem dX1_add_21 : decode cX1_add 21 = .ok (.istore 4, 2) := dk_54 4 (dk_at dksX1_add_0 21 rfl rfl)
theorem dX1_add_23 : decode cX1_add 23 = .ok (.aload_n 0, 1) := dk_42 (dk_at dksX1_add_0 23 rfl rfl)
theorem dX1_add_24 : decode cX1_add 24 = .ok (.iload_n 2, 1) := dk_28 (dk_at dksX1_add_1 0 rfl rfl)
theorem dX1_add_25 : decode cX1_add 25 = .ok (.iload_n 3, 1) := dk_29 (dk_at dksX1_add_1 1 rfl rfl)
theorem dX1_add_26 : decode cX1_add 26 = .ok (.invokevirtual 330, 3) := dk_182 1 74 (dk_at dksX1_add_1 2 rfl rfl)
theorem dX1_add_29 : decode cX1_add 29 = .ok (.aload_n 0, 1) := dk_42 (dk_at dksX1_add_1 5 rfl rfl)
theorem dX1_add_30 : decode cX1_add 30 = .ok (.iload_n 1, 1) := dk_27 (dk_at dksX1_add_1 6 rfl rfl)
theorem dX1_add_31 : decode cX1_add 31 = .ok (.iload 4, 2) := dk_21 4 (dk_at dksX1_add_1 7 rfl rfl)
theorem dX1_add_33 : decode cX1_add 33 = .ok (.invokevirtual 432, 3) := dk_182 1 176 (dk_at dksX1_add_1 9 rfl rfl)
theorem dX1_add_36 : decode cX1_add 36 = .ok (.ireturn, 1) := dk_172 (dk_at dksX1_add_1 12 rfl rfl)
abbrev cX1_addNow : ByteArray := prog_1_method_42_code
def yX1_addNow : MethodName := ⟨RX1, "addNow", "(II)V"⟩
def dkwX1_addNow_1 : List UInt8 := [184, 1, 58, 182, 0, 222, 177]
abbrev dktX1_addNow_1 : List UInt8 := dkwX1_addNow_1 ++ []
def dkwX1_addNow_0 : List UInt8 := [42, 180, 0, 226, 27, 184, 1, 34, 62, 42, 27, 29, 18, 174, 160, 0, 7, 28, 167, 0, 9, 29, 28, 96]
abbrev dktX1_addNow_0 : List UInt8 := dkwX1_addNow_0 ++ dktX1_addNow_1
theorem dksX1_addNow_0 : cX1_addNow.data.toList.drop 0 = dktX1_addNow_0 := by decide +kernel
theorem dksX1_addNow_1 : cX1_addNow.data.toList.drop 24 = dktX1_addNow_1 := dk_seg dksX1_addNow_0 24 rfl rfl
theorem dX1_addNow_0 : decode cX1_addNow 0 = .ok (.aload_n 0, 1) := dk_42 (dk_at dksX1_addNow_0 0 rfl rfl)
theorem dX1_addNow_1 : decode cX1_addNow 1 = .ok (.getfield 226, 3) := dk_180 0 226 (dk_at dksX1_addNow_0 1 rfl rfl)
theorem dX1_addNow_4 : decode cX1_addNow 4 = .ok (.iload_n 1, 1) := dk_27 (dk_at dksX1_addNow_0 4 rfl rfl)
theorem dX1_addNow_5 : decode cX1_addNow 5 = .ok (.invokestatic 290, 3) := dk_184 1 34 (dk_at dksX1_addNow_0 5 rfl rfl)
theorem dX1_addNow_8 : decode cX1_addNow 8 = .ok (.istore_n 3, 1) := dk_62 (dk_at dksX1_addNow_0 8 rfl rfl)
theorem dX1_addNow_9 : decode cX1_addNow 9 = .ok (.aload_n 0, 1) := dk_42 (dk_at dksX1_addNow_0 9 rfl rfl)
theorem dX1_addNow_10 : decode cX1_addNow 10 = .ok (.iload_n 1, 1) := dk_27 (dk_at dksX1_addNow_0 10 rfl rfl)
theorem dX1_addNow_11 : decode cX1_addNow 11 = .ok (.iload_n 3, 1) := dk_29 (dk_at dksX1_addNow_0 11 rfl rfl)
theorem dX1_addNow_12 : decode cX1_addNow 12 = .ok (.ldc 174, 2) := dk_18 174 (dk_at dksX1_addNow_0 12 rfl rfl)
theorem dX1_addNow_14 : decode cX1_addNow 14 = .ok (.if_icmp .ne 7, 3) := dk_160 0 7 (dk_at dksX1_addNow_0 14 rfl rfl)
theorem dX1_addNow_17 : decode cX1_addNow 17 = .ok (.iload_n 2, 1) := dk_28 (dk_at dksX1_addNow_0 17 rfl rfl)
theorem dX1_addNow_18 : decode cX1_addNow 18 = .ok (.goto 9, 3) := dk_167 0 9 (dk_at dksX1_addNow_0 18 rfl rfl)
theorem dX1_addNow_21 : decode cX1_addNow 21 = .ok (.iload_n 3, 1) := dk_29 (dk_at dksX1_addNow_0 21 rfl rfl)
theorem dX1_addNow_22 : decode cX1_addNow 22 = .ok (.iload_n 2, 1) := dk_28 (dk_at dksX1_addNow_0 22 rfl rfl)
theorem dX1_addNow_23 : decode cX1_addNow 23 = .ok (.iadd, 1) := dk_96 (dk_at dksX1_addNow_0 23 rfl rfl)
theorem dX1_addNow_24 : decode cX1_addNow 24 = .ok (.invokestatic 314, 3) := dk_184 1 58 (dk_at dksX1_addNow_1 0 rfl rfl)
theorem dX1_addNow_27 : decode cX1_addNow 27 = .ok (.invokevirtual 222, 3) := dk_182 0 222 (dk_at dksX1_addNow_1 3 rfl rfl)
theorem dX1_addNow_30 : decode cX1_addNow 30 = .ok (.return_, 1) := dk_177 (dk_at dksX1_addNow_1 6 rfl rfl)
abbrev cX1_cut : ByteArray := prog_1_method_80_code
def yX1_cut : MethodName := ⟨RX1, "cut", "(III)I"⟩
def dkwX1_cut_2 : List UInt8 := [29, 182, 1, 157, 42, 27, 21, 4, 182, 1, 176, 172]
abbrev dktX1_cut_2 : List UInt8 := dkwX1_cut_2 ++ []
def dkwX1_cut_1 : List UInt8 := [167, 0, 4, 3, 182, 1, 166, 182, 0, 212, 153, 0, 5, 2, 172, 42, 27, 182, 1, 173, 54, 4, 42, 28]
abbrev dktX1_cut_1 : List UInt8 := dkwX1_cut_1 ++ dktX1_cut_2
def dkwX1_cut_0 : List UInt8 := [42, 42, 27, 28, 184, 1, 111, 153, 0, 19, 29, 184, 1, 111, 153, 0, 12, 28, 29, 163, 0, 7, 4]
abbrev dktX1_cut_0 : List UInt8 := dkwX1_cut_0 ++ dktX1_cut_1
theorem dksX1_cut_0 : cX1_cut.data.toList.drop 0 = dktX1_cut_0 := by decide +kernel
theorem dksX1_cut_1 : cX1_cut.data.toList.drop 23 = dktX1_cut_1 := dk_seg dksX1_cut_0 23 rfl rfl
theorem dksX1_cut_2 : cX1_cut.data.toList.drop 47 = dktX1_cut_2 := dk_seg dksX1_cut_1 24 rfl rfl
theorem dX1_cut_0 : decode cX1_cut 0 = .ok (.aload_n 0, 1) := dk_42 (dk_at dksX1_cut_0 0 rfl rfl)
theorem dX1_cut_1 : decode cX1_cut 1 = .ok (.aload_n 0, 1) := dk_42 (dk_at dksX1_cut_0 1 rfl rfl)
theorem dX1_cut_2 : decode cX1_cut 2 = .ok (.iload_n 1, 1) := dk_27 (dk_at dksX1_cut_0 2 rfl rfl)
theorem dX1_cut_3 : decode cX1_cut 3 = .ok (.iload_n 2, 1) := dk_28 (dk_at dksX1_cut_0 3 rfl rfl)
theorem dX1_cut_4 : decode cX1_cut 4 = .ok (.invokestatic 367, 3) := dk_184 1 111 (dk_at dksX1_cut_0 4 rfl rfl)
theorem dX1_cut_7 : decode cX1_cut 7 = .ok (.ifCond .eq 19, 3) := dk_153 0 19 (dk_at dksX1_cut_0 7 rfl rfl)
theorem dX1_cut_10 : decode cX1_cut 10 = .ok (.iload_n 3, 1) := dk_29 (dk_at dksX1_cut_0 10 rfl rfl)
theorem dX1_cut_11 : decode cX1_cut 11 = .ok (.invokestatic 367, 3) := dk_184 1 111 (dk_at dksX1_cut_0 11 rfl rfl)
theorem dX1_cut_14 : decode cX1_cut 14 = .ok (.ifCond .eq 12, 3) := dk_153 0 12 (dk_at dksX1_cut_0 14 rfl rfl)
theorem dX1_cut_17 : decode cX1_cut 17 = .ok (.iload_n 2, 1) := dk_28 (dk_at dksX1_cut_0 17 rfl rfl)
theorem dX1_cut_18 : decode cX1_cut 18 = .ok (.iload_n 3, 1) := dk_29 (dk_at dksX1_cut_0 18 rfl rfl)
theorem dX1_cut_19 : decode cX1_cut 19 = .ok (.if_icmp .gt 7, 3) := dk_163 0 7 (dk_at dksX1_cut_0 19 rfl rfl)
theorem dX1_cut_22 : decode cX1_cut 22 = .ok (.iconst 1, 1) := dk_4 (dk_at dksX1_cut_0 22 rfl rfl)
theorem dX1_cut_23 : decode cX1_cut 23 = .ok (.goto 4, 3) := dk_167 0 4 (dk_at dksX1_cut_1 0 rfl rfl)
theorem dX1_cut_26 : decode cX1_cut 26 = .ok (.iconst 0, 1) := dk_3 (dk_at dksX1_cut_1 3 rfl rfl)
theorem dX1_cut_27 : decode cX1_cut 27 = .ok (.invokevirtual 422, 3) := dk_182 1 166 (dk_at dksX1_cut_1 4 rfl rfl)
theorem dX1_cut_30 : decode cX1_cut 30 = .ok (.invokevirtual 212, 3) := dk_182 0 212 (dk_at dksX1_cut_1 7 rfl rfl)
theorem dX1_cut_33 : decode cX1_cut 33 = .ok (.ifCond .eq 5, 3) := dk_153 0 5 (dk_at dksX1_cut_1 10 rfl rfl)
theorem dX1_cut_36 : decode cX1_cut 36 = .ok (.iconst (-1), 1) := dk_2 (dk_at dksX1_cut_1 13 rfl rfl)
theorem dX1_cut_37 : decode cX1_cut 37 = .ok (.ireturn, 1) := dk_172 (dk_at dksX1_cut_1 14 rfl rfl)
theorem dX1_cut_38 : decode cX1_cut 38 = .ok (.aload_n 0, 1) := dk_42 (dk_at dksX1_cut_1 15 rfl rfl)
theorem dX1_cut_39 : decode cX1_cut 39 = .ok (.iload_n 1, 1) := dk_27 (dk_at dksX1_cut_1 16 rfl rfl)
theorem dX1_cut_40 : decode cX1_cut 40 = .ok (.invokevirtual 429, 3) := dk_182 1 173 (dk_at dksX1_cut_1 17 rfl rfl)
theorem dX1_cut_43 : decode cX1_cut 43 = .ok (.istore 4, 2) := dk_54 4 (dk_at dksX1_cut_1 20 rfl rfl)
theorem dX1_cut_45 : decode cX1_cut 45 = .ok (.aload_n 0, 1) := dk_42 (dk_at dksX1_cut_1 22 rfl rfl)
theorem dX1_cut_46 : decode cX1_cut 46 = .ok (.iload_n 2, 1) := dk_28 (dk_at dksX1_cut_1 23 rfl rfl)
theorem dX1_cut_47 : decode cX1_cut 47 = .ok (.iload_n 3, 1) := dk_29 (dk_at dksX1_cut_2 0 rfl rfl)
theorem dX1_cut_48 : decode cX1_cut 48 = .ok (.invokevirtual 413, 3) := dk_182 1 157 (dk_at dksX1_cut_2 1 rfl rfl)
theorem dX1_cut_51 : decode cX1_cut 51 = .ok (.aload_n 0, 1) := dk_42 (dk_at dksX1_cut_2 4 rfl rfl)
theorem dX1_cut_52 : decode cX1_cut 52 = .ok (.iload_n 1, 1) := dk_27 (dk_at dksX1_cut_2 5 rfl rfl)
theorem dX1_cut_53 : decode cX1_cut 53 = .ok (.iload 4, 2) := dk_21 4 (dk_at dksX1_cut_2 6 rfl rfl)
theorem dX1_cut_55 : decode cX1_cut 55 = .ok (.invokevirtual 432, 3) := dk_182 1 176 (dk_at dksX1_cut_2 8 rfl rfl)
theorem dX1_cut_58 : decode cX1_cut 58 = .ok (.ireturn, 1) := dk_172 (dk_at dksX1_cut_2 11 rfl rfl)
abbrev cX1_inc : ByteArray := prog_1_method_81_code
def yX1_inc : MethodName := ⟨RX1, "inc", "(IIII)I"⟩
def dkwX1_inc_2 : List UInt8 := [182, 1, 173, 54, 5, 42, 28, 29, 21, 4, 182, 1, 179, 42, 27, 21, 5, 182, 1, 176, 172]
abbrev dktX1_inc_2 : List UInt8 := dkwX1_inc_2 ++ []
def dkwX1_inc_1 : List UInt8 := [184, 1, 114, 153, 0, 7, 4, 167, 0, 4, 3, 182, 1, 166, 182, 0, 212, 153, 0, 5, 2, 172, 42, 27]
abbrev dktX1_inc_1 : List UInt8 := dkwX1_inc_1 ++ dktX1_inc_2
def dkwX1_inc_0 : List UInt8 := [42, 42, 27, 28, 184, 1, 111, 153, 0, 27, 29, 184, 1, 111, 153, 0, 20, 28, 29, 163, 0, 15, 21, 4]
abbrev dktX1_inc_0 : List UInt8 := dkwX1_inc_0 ++ dktX1_inc_1
theorem dksX1_inc_0 : cX1_inc.data.toList.drop 0 = dktX1_inc_0 := by decide +kernel
theorem dksX1_inc_1 : cX1_inc.data.toList.drop 24 = dktX1_inc_1 := dk_seg dksX1_inc_0 24 rfl rfl
theorem dksX1_inc_2 : cX1_inc.data.toList.drop 48 = dktX1_inc_2 := dk_seg dksX1_inc_1 24 rfl rfl
theorem dX1_inc_0 : decode cX1_inc 0 = .ok (.aload_n 0, 1) := dk_42 (dk_at dksX1_inc_0 0 rfl rfl)
theorem dX1_inc_1 : decode cX1_inc 1 = .ok (.aload_n 0, 1) := dk_42 (dk_at dksX1_inc_0 1 rfl rfl)
theorem dX1_inc_2 : decode cX1_inc 2 = .ok (.iload_n 1, 1) := dk_27 (dk_at dksX1_inc_0 2 rfl rfl)
theorem dX1_inc_3 : decode cX1_inc 3 = .ok (.iload_n 2, 1) := dk_28 (dk_at dksX1_inc_0 3 rfl rfl)
theorem dX1_inc_4 : decode cX1_inc 4 = .ok (.invokestatic 367, 3) := dk_184 1 111 (dk_at dksX1_inc_0 4 rfl rfl)
theorem dX1_inc_7 : decode cX1_inc 7 = .ok (.ifCond .eq 27, 3) := dk_153 0 27 (dk_at dksX1_inc_0 7 rfl rfl)
theorem dX1_inc_10 : decode cX1_inc 10 = .ok (.iload_n 3, 1) := dk_29 (dk_at dksX1_inc_0 10 rfl rfl)
theorem dX1_inc_11 : decode cX1_inc 11 = .ok (.invokestatic 367, 3) := dk_184 1 111 (dk_at dksX1_inc_0 11 rfl rfl)
theorem dX1_inc_14 : decode cX1_inc 14 = .ok (.ifCond .eq 20, 3) := dk_153 0 20 (dk_at dksX1_inc_0 14 rfl rfl)
theorem dX1_inc_17 : decode cX1_inc 17 = .ok (.iload_n 2, 1) := dk_28 (dk_at dksX1_inc_0 17 rfl rfl)
theorem dX1_inc_18 : decode cX1_inc 18 = .ok (.iload_n 3, 1) := dk_29 (dk_at dksX1_inc_0 18 rfl rfl)
theorem dX1_inc_19 : decode cX1_inc 19 = .ok (.if_icmp .gt 15, 3) := dk_163 0 15 (dk_at dksX1_inc_0 19 rfl rfl)
theorem dX1_inc_22 : decode cX1_inc 22 = .ok (.iload 4, 2) := dk_21 4 (dk_at dksX1_inc_0 22 rfl rfl)
theorem dX1_inc_24 : decode cX1_inc 24 = .ok (.invokestatic 370, 3) := dk_184 1 114 (dk_at dksX1_inc_1 0 rfl rfl)
theorem dX1_inc_27 : decode cX1_inc 27 = .ok (.ifCond .eq 7, 3) := dk_153 0 7 (dk_at dksX1_inc_1 3 rfl rfl)
theorem dX1_inc_30 : decode cX1_inc 30 = .ok (.iconst 1, 1) := dk_4 (dk_at dksX1_inc_1 6 rfl rfl)
theorem dX1_inc_31 : decode cX1_inc 31 = .ok (.goto 4, 3) := dk_167 0 4 (dk_at dksX1_inc_1 7 rfl rfl)
theorem dX1_inc_34 : decode cX1_inc 34 = .ok (.iconst 0, 1) := dk_3 (dk_at dksX1_inc_1 10 rfl rfl)
theorem dX1_inc_35 : decode cX1_inc 35 = .ok (.invokevirtual 422, 3) := dk_182 1 166 (dk_at dksX1_inc_1 11 rfl rfl)
theorem dX1_inc_38 : decode cX1_inc 38 = .ok (.invokevirtual 212, 3) := dk_182 0 212 (dk_at dksX1_inc_1 14 rfl rfl)
theorem dX1_inc_41 : decode cX1_inc 41 = .ok (.ifCond .eq 5, 3) := dk_153 0 5 (dk_at dksX1_inc_1 17 rfl rfl)
theorem dX1_inc_44 : decode cX1_inc 44 = .ok (.iconst (-1), 1) := dk_2 (dk_at dksX1_inc_1 20 rfl rfl)
theorem dX1_inc_45 : decode cX1_inc 45 = .ok (.ireturn, 1) := dk_172 (dk_at dksX1_inc_1 21 rfl rfl)
theorem dX1_inc_46 : decode cX1_inc 46 = .ok (.aload_n 0, 1) := dk_42 (dk_at dksX1_inc_1 22 rfl rfl)
theorem dX1_inc_47 : decode cX1_inc 47 = .ok (.iload_n 1, 1) := dk_27 (dk_at dksX1_inc_1 23 rfl rfl)
theorem dX1_inc_48 : decode cX1_inc 48 = .ok (.invokevirtual 429, 3) := dk_182 1 173 (dk_at dksX1_inc_2 0 rfl rfl)
theorem dX1_inc_51 : decode cX1_inc 51 = .ok (.istore 5, 2) := dk_54 5 (dk_at dksX1_inc_2 3 rfl rfl)
theorem dX1_inc_53 : decode cX1_inc 53 = .ok (.aload_n 0, 1) := dk_42 (dk_at dksX1_inc_2 5 rfl rfl)
theorem dX1_inc_54 : decode cX1_inc 54 = .ok (.iload_n 2, 1) := dk_28 (dk_at dksX1_inc_2 6 rfl rfl)
theorem dX1_inc_55 : decode cX1_inc 55 = .ok (.iload_n 3, 1) := dk_29 (dk_at dksX1_inc_2 7 rfl rfl)
theorem dX1_inc_56 : decode cX1_inc 56 = .ok (.iload 4, 2) := dk_21 4 (dk_at dksX1_inc_2 8 rfl rfl)
theorem dX1_inc_58 : decode cX1_inc 58 = .ok (.invokevirtual 435, 3) := dk_182 1 179 (dk_at dksX1_inc_2 10 rfl rfl)
theorem dX1_inc_61 : decode cX1_inc 61 = .ok (.aload_n 0, 1) := dk_42 (dk_at dksX1_inc_2 13 rfl rfl)
theorem dX1_inc_62 : decode cX1_inc 62 = .ok (.iload_n 1, 1) := dk_27 (dk_at dksX1_inc_2 14 rfl rfl)
theorem dX1_inc_63 : decode cX1_inc 63 = .ok (.iload 5, 2) := dk_21 5 (dk_at dksX1_inc_2 15 rfl rfl)
theorem dX1_inc_65 : decode cX1_inc 65 = .ok (.invokevirtual 432, 3) := dk_182 1 176 (dk_at dksX1_inc_2 17 rfl rfl)
theorem dX1_inc_68 : decode cX1_inc 68 = .ok (.ireturn, 1) := dk_172 (dk_at dksX1_inc_2 20 rfl rfl)
abbrev cX1_raiseNow : ByteArray := prog_1_method_46_code
def yX1_raiseNow : MethodName := ⟨RX1, "raiseNow", "(III)V"⟩
def dkwX1_raiseNow_2 : List UInt8 := [132, 5, 1, 167, 255, 219, 177]
abbrev dktX1_raiseNow_2 : List UInt8 := dkwX1_raiseNow_2 ++ []
def dkwX1_raiseNow_1 : List UInt8 := [21, 5, 46, 27, 28, 184, 0, 127, 153, 0, 15, 42, 42, 180, 0, 97, 21, 5, 46, 29, 182, 1, 74]
abbrev dktX1_raiseNow_1 : List UInt8 := dkwX1_raiseNow_1 ++ dktX1_raiseNow_2
def dkwX1_raiseNow_0 : List UInt8 := [42, 42, 180, 0, 226, 182, 1, 68, 54, 4, 3, 54, 5, 21, 5, 21, 4, 162, 0, 36, 42, 180, 0, 97]
abbrev dktX1_raiseNow_0 : List UInt8 := dkwX1_raiseNow_0 ++ dktX1_raiseNow_1
theorem dksX1_raiseNow_0 : cX1_raiseNow.data.toList.drop 0 = dktX1_raiseNow_0 := by decide +kernel
theorem dksX1_raiseNow_1 : cX1_raiseNow.data.toList.drop 24 = dktX1_raiseNow_1 := dk_seg dksX1_raiseNow_0 24 rfl rfl
theorem dksX1_raiseNow_2 : cX1_raiseNow.data.toList.drop 47 = dktX1_raiseNow_2 := dk_seg dksX1_raiseNow_1 23 rfl rfl
theorem dX1_raiseNow_0 : decode cX1_raiseNow 0 = .ok (.aload_n 0, 1) := dk_42 (dk_at dksX1_raiseNow_0 0 rfl rfl)
theorem dX1_raiseNow_1 : decode cX1_raiseNow 1 = .ok (.aload_n 0, 1) := dk_42 (dk_at dksX1_raiseNow_0 1 rfl rfl)
theorem dX1_raiseNow_2 : decode cX1_raiseNow 2 = .ok (.getfield 226, 3) := dk_180 0 226 (dk_at dksX1_raiseNow_0 2 rfl rfl)
theorem dX1_raiseNow_5 : decode cX1_raiseNow 5 = .ok (.invokevirtual 324, 3) := dk_182 1 68 (dk_at dksX1_raiseNow_0 5 rfl rfl)
theorem dX1_raiseNow_8 : decode cX1_raiseNow 8 = .ok (.istore 4, 2) := dk_54 4 (dk_at dksX1_raiseNow_0 8 rfl rfl)
theorem dX1_raiseNow_10 : decode cX1_raiseNow 10 = .ok (.iconst 0, 1) := dk_3 (dk_at dksX1_raiseNow_0 10 rfl rfl)
theorem dX1_raiseNow_11 : decode cX1_raiseNow 11 = .ok (.istore 5, 2) := dk_54 5 (dk_at dksX1_raiseNow_0 11 rfl rfl)
theorem dX1_raiseNow_13 : decode cX1_raiseNow 13 = .ok (.iload 5, 2) := dk_21 5 (dk_at dksX1_raiseNow_0 13 rfl rfl)
theorem dX1_raiseNow_15 : decode cX1_raiseNow 15 = .ok (.iload 4, 2) := dk_21 4 (dk_at dksX1_raiseNow_0 15 rfl rfl)
theorem dX1_raiseNow_17 : decode cX1_raiseNow 17 = .ok (.if_icmp .ge 36, 3) := dk_162 0 36 (dk_at dksX1_raiseNow_0 17 rfl rfl)
theorem dX1_raiseNow_20 : decode cX1_raiseNow 20 = .ok (.aload_n 0, 1) := dk_42 (dk_at dksX1_raiseNow_0 20 rfl rfl)
theorem dX1_raiseNow_21 : decode cX1_raiseNow 21 = .ok (.getfield 97, 3) := dk_180 0 97 (dk_at dksX1_raiseNow_0 21 rfl rfl)
theorem dX1_raiseNow_24 : decode cX1_raiseNow 24 = .ok (.iload 5, 2) := dk_21 5 (dk_at dksX1_raiseNow_1 0 rfl rfl)
theorem dX1_raiseNow_26 : decode cX1_raiseNow 26 = .ok (.iaload, 1) := dk_46 (dk_at dksX1_raiseNow_1 2 rfl rfl)
theorem dX1_raiseNow_27 : decode cX1_raiseNow 27 = .ok (.iload_n 1, 1) := dk_27 (dk_at dksX1_raiseNow_1 3 rfl rfl)
theorem dX1_raiseNow_28 : decode cX1_raiseNow 28 = .ok (.iload_n 2, 1) := dk_28 (dk_at dksX1_raiseNow_1 4 rfl rfl)
theorem dX1_raiseNow_29 : decode cX1_raiseNow 29 = .ok (.invokestatic 127, 3) := dk_184 0 127 (dk_at dksX1_raiseNow_1 5 rfl rfl)
theorem dX1_raiseNow_32 : decode cX1_raiseNow 32 = .ok (.ifCond .eq 15, 3) := dk_153 0 15 (dk_at dksX1_raiseNow_1 8 rfl rfl)
theorem dX1_raiseNow_35 : decode cX1_raiseNow 35 = .ok (.aload_n 0, 1) := dk_42 (dk_at dksX1_raiseNow_1 11 rfl rfl)
theorem dX1_raiseNow_36 : decode cX1_raiseNow 36 = .ok (.aload_n 0, 1) := dk_42 (dk_at dksX1_raiseNow_1 12 rfl rfl)
theorem dX1_raiseNow_37 : decode cX1_raiseNow 37 = .ok (.getfield 97, 3) := dk_180 0 97 (dk_at dksX1_raiseNow_1 13 rfl rfl)
theorem dX1_raiseNow_40 : decode cX1_raiseNow 40 = .ok (.iload 5, 2) := dk_21 5 (dk_at dksX1_raiseNow_1 16 rfl rfl)
theorem dX1_raiseNow_42 : decode cX1_raiseNow 42 = .ok (.iaload, 1) := dk_46 (dk_at dksX1_raiseNow_1 18 rfl rfl)
theorem dX1_raiseNow_43 : decode cX1_raiseNow 43 = .ok (.iload_n 3, 1) := dk_29 (dk_at dksX1_raiseNow_1 19 rfl rfl)
theorem dX1_raiseNow_44 : decode cX1_raiseNow 44 = .ok (.invokevirtual 330, 3) := dk_182 1 74 (dk_at dksX1_raiseNow_1 20 rfl rfl)
theorem dX1_raiseNow_47 : decode cX1_raiseNow 47 = .ok (.iinc 5 1, 3) := dk_132 5 1 (dk_at dksX1_raiseNow_2 0 rfl rfl)
theorem dX1_raiseNow_50 : decode cX1_raiseNow 50 = .ok (.goto (-37), 3) := dk_167 255 219 (dk_at dksX1_raiseNow_2 3 rfl rfl)
theorem dX1_raiseNow_53 : decode cX1_raiseNow 53 = .ok (.return_, 1) := dk_177 (dk_at dksX1_raiseNow_2 6 rfl rfl)
abbrev cX1_snap : ByteArray := prog_1_method_83_code
def yX1_snap : MethodName := ⟨RX1, "snap", "(I)I"⟩
def dkwX1_snap_1 : List UInt8 := [2, 167, 0, 4, 7, 182, 0, 212, 153, 0, 5, 2, 172, 42, 27, 182, 1, 183, 172]
abbrev dktX1_snap_1 : List UInt8 := dkwX1_snap_1 ++ []
def dkwX1_snap_0 : List UInt8 := [42, 27, 4, 182, 1, 166, 61, 42, 28, 2, 159, 0, 7, 28, 167, 0, 15, 42, 182, 0, 208, 153, 0, 7]
abbrev dktX1_snap_0 : List UInt8 := dkwX1_snap_0 ++ dktX1_snap_1
theorem dksX1_snap_0 : cX1_snap.data.toList.drop 0 = dktX1_snap_0 := by decide +kernel
theorem dksX1_snap_1 : cX1_snap.data.toList.drop 24 = dktX1_snap_1 := dk_seg dksX1_snap_0 24 rfl rfl
theorem dX1_snap_0 : decode cX1_snap 0 = .ok (.aload_n 0, 1) := dk_42 (dk_at dksX1_snap_0 0 rfl rfl)
theorem dX1_snap_1 : decode cX1_snap 1 = .ok (.iload_n 1, 1) := dk_27 (dk_at dksX1_snap_0 1 rfl rfl)
theorem dX1_snap_2 : decode cX1_snap 2 = .ok (.iconst 1, 1) := dk_4 (dk_at dksX1_snap_0 2 rfl rfl)
theorem dX1_snap_3 : decode cX1_snap 3 = .ok (.invokevirtual 422, 3) := dk_182 1 166 (dk_at dksX1_snap_0 3 rfl rfl)
theorem dX1_snap_6 : decode cX1_snap 6 = .ok (.istore_n 2, 1) := dk_61 (dk_at dksX1_snap_0 6 rfl rfl)
theorem dX1_snap_7 : decode cX1_snap 7 = .ok (.aload_n 0, 1) := dk_42 (dk_at dksX1_snap_0 7 rfl rfl)
theorem dX1_snap_8 : decode cX1_snap 8 = .ok (.iload_n 2, 1) := dk_28 (dk_at dksX1_snap_0 8 rfl rfl)
theorem dX1_snap_9 : decode cX1_snap 9 = .ok (.iconst (-1), 1) := dk_2 (dk_at dksX1_snap_0 9 rfl rfl)
theorem dX1_snap_10 : decode cX1_snap 10 = .ok (.if_icmp .eq 7, 3) := dk_159 0 7 (dk_at dksX1_snap_0 10 rfl rfl)
theorem dX1_snap_13 : decode cX1_snap 13 = .ok (.iload_n 2, 1) := dk_28 (dk_at dksX1_snap_0 13 rfl rfl)
theorem dX1_snap_14 : decode cX1_snap 14 = .ok (.goto 15, 3) := dk_167 0 15 (dk_at dksX1_snap_0 14 rfl rfl)
theorem dX1_snap_17 : decode cX1_snap 17 = .ok (.aload_n 0, 1) := dk_42 (dk_at dksX1_snap_0 17 rfl rfl)
theorem dX1_snap_18 : decode cX1_snap 18 = .ok (.invokevirtual 208, 3) := dk_182 0 208 (dk_at dksX1_snap_0 18 rfl rfl)
theorem dX1_snap_21 : decode cX1_snap 21 = .ok (.ifCond .eq 7, 3) := dk_153 0 7 (dk_at dksX1_snap_0 21 rfl rfl)
theorem dX1_snap_24 : decode cX1_snap 24 = .ok (.iconst (-1), 1) := dk_2 (dk_at dksX1_snap_1 0 rfl rfl)
theorem dX1_snap_25 : decode cX1_snap 25 = .ok (.goto 4, 3) := dk_167 0 4 (dk_at dksX1_snap_1 1 rfl rfl)
theorem dX1_snap_28 : decode cX1_snap 28 = .ok (.iconst 4, 1) := dk_7 (dk_at dksX1_snap_1 4 rfl rfl)
theorem dX1_snap_29 : decode cX1_snap 29 = .ok (.invokevirtual 212, 3) := dk_182 0 212 (dk_at dksX1_snap_1 5 rfl rfl)
theorem dX1_snap_32 : decode cX1_snap 32 = .ok (.ifCond .eq 5, 3) := dk_153 0 5 (dk_at dksX1_snap_1 8 rfl rfl)
theorem dX1_snap_35 : decode cX1_snap 35 = .ok (.iconst (-1), 1) := dk_2 (dk_at dksX1_snap_1 11 rfl rfl)
theorem dX1_snap_36 : decode cX1_snap 36 = .ok (.ireturn, 1) := dk_172 (dk_at dksX1_snap_1 12 rfl rfl)
theorem dX1_snap_37 : decode cX1_snap 37 = .ok (.aload_n 0, 1) := dk_42 (dk_at dksX1_snap_1 13 rfl rfl)
theorem dX1_snap_38 : decode cX1_snap 38 = .ok (.iload_n 1, 1) := dk_27 (dk_at dksX1_snap_1 14 rfl rfl)
theorem dX1_snap_39 : decode cX1_snap 39 = .ok (.invokevirtual 439, 3) := dk_182 1 183 (dk_at dksX1_snap_1 15 rfl rfl)
theorem dX1_snap_42 : decode cX1_snap 42 = .ok (.ireturn, 1) := dk_172 (dk_at dksX1_snap_1 18 rfl rfl)
abbrev cX1_snapNow : ByteArray := prog_1_method_82_code
def yX1_snapNow : MethodName := ⟨RX1, "snapNow", "(I)I"⟩
def dkwX1_snapNow_1 : List UInt8 := [180, 0, 90, 27, 187, 0, 88, 89, 42, 183, 0, 215, 83, 42, 180, 0, 94, 27, 46, 172]
abbrev dktX1_snapNow_1 : List UInt8 := dkwX1_snapNow_1 ++ []
def dkwX1_snapNow_0 : List UInt8 := [42, 180, 0, 94, 27, 42, 42, 180, 0, 85, 27, 50, 42, 180, 0, 94, 27, 46, 2, 182, 0, 230, 79, 42]
abbrev dktX1_snapNow_0 : List UInt8 := dkwX1_snapNow_0 ++ dktX1_snapNow_1
theorem dksX1_snapNow_0 : cX1_snapNow.data.toList.drop 0 = dktX1_snapNow_0 := by decide +kernel
theorem dksX1_snapNow_1 : cX1_snapNow.data.toList.drop 24 = dktX1_snapNow_1 := dk_seg dksX1_snapNow_0 24 rfl rfl
theorem dX1_snapNow_0 : decode cX1_snapNow 0 = .ok (.aload_n 0, 1) := dk_42 (dk_at dksX1_snapNow_0 0 rfl rfl)
theorem dX1_snapNow_1 : decode cX1_snapNow 1 = .ok (.getfield 94, 3) := dk_180 0 94 (dk_at dksX1_snapNow_0 1 rfl rfl)
theorem dX1_snapNow_4 : decode cX1_snapNow 4 = .ok (.iload_n 1, 1) := dk_27 (dk_at dksX1_snapNow_0 4 rfl rfl)
theorem dX1_snapNow_5 : decode cX1_snapNow 5 = .ok (.aload_n 0, 1) := dk_42 (dk_at dksX1_snapNow_0 5 rfl rfl)
theorem dX1_snapNow_6 : decode cX1_snapNow 6 = .ok (.aload_n 0, 1) := dk_42 (dk_at dksX1_snapNow_0 6 rfl rfl)
theorem dX1_snapNow_7 : decode cX1_snapNow 7 = .ok (.getfield 85, 3) := dk_180 0 85 (dk_at dksX1_snapNow_0 7 rfl rfl)
theorem dX1_snapNow_10 : decode cX1_snapNow 10 = .ok (.iload_n 1, 1) := dk_27 (dk_at dksX1_snapNow_0 10 rfl rfl)
theorem dX1_snapNow_11 : decode cX1_snapNow 11 = .ok (.aaload, 1) := dk_50 (dk_at dksX1_snapNow_0 11 rfl rfl)
theorem dX1_snapNow_12 : decode cX1_snapNow 12 = .ok (.aload_n 0, 1) := dk_42 (dk_at dksX1_snapNow_0 12 rfl rfl)
theorem dX1_snapNow_13 : decode cX1_snapNow 13 = .ok (.getfield 94, 3) := dk_180 0 94 (dk_at dksX1_snapNow_0 13 rfl rfl)
theorem dX1_snapNow_16 : decode cX1_snapNow 16 = .ok (.iload_n 1, 1) := dk_27 (dk_at dksX1_snapNow_0 16 rfl rfl)
theorem dX1_snapNow_17 : decode cX1_snapNow 17 = .ok (.iaload, 1) := dk_46 (dk_at dksX1_snapNow_0 17 rfl rfl)
theorem dX1_snapNow_18 : decode cX1_snapNow 18 = .ok (.iconst (-1), 1) := dk_2 (dk_at dksX1_snapNow_0 18 rfl rfl)
theorem dX1_snapNow_19 : decode cX1_snapNow 19 = .ok (.invokevirtual 230, 3) := dk_182 0 230 (dk_at dksX1_snapNow_0 19 rfl rfl)
theorem dX1_snapNow_22 : decode cX1_snapNow 22 = .ok (.iastore, 1) := dk_79 (dk_at dksX1_snapNow_0 22 rfl rfl)
theorem dX1_snapNow_23 : decode cX1_snapNow 23 = .ok (.aload_n 0, 1) := dk_42 (dk_at dksX1_snapNow_0 23 rfl rfl)
theorem dX1_snapNow_24 : decode cX1_snapNow 24 = .ok (.getfield 90, 3) := dk_180 0 90 (dk_at dksX1_snapNow_1 0 rfl rfl)
theorem dX1_snapNow_27 : decode cX1_snapNow 27 = .ok (.iload_n 1, 1) := dk_27 (dk_at dksX1_snapNow_1 3 rfl rfl)
theorem dX1_snapNow_28 : decode cX1_snapNow 28 = .ok (.new 88, 3) := dk_187 0 88 (dk_at dksX1_snapNow_1 4 rfl rfl)
theorem dX1_snapNow_31 : decode cX1_snapNow 31 = .ok (.dup, 1) := dk_89 (dk_at dksX1_snapNow_1 7 rfl rfl)
theorem dX1_snapNow_32 : decode cX1_snapNow 32 = .ok (.aload_n 0, 1) := dk_42 (dk_at dksX1_snapNow_1 8 rfl rfl)
theorem dX1_snapNow_33 : decode cX1_snapNow 33 = .ok (.invokespecial 215, 3) := dk_183 0 215 (dk_at dksX1_snapNow_1 9 rfl rfl)
theorem dX1_snapNow_36 : decode cX1_snapNow 36 = .ok (.aastore, 1) := dk_83 (dk_at dksX1_snapNow_1 12 rfl rfl)
theorem dX1_snapNow_37 : decode cX1_snapNow 37 = .ok (.aload_n 0, 1) := dk_42 (dk_at dksX1_snapNow_1 13 rfl rfl)
theorem dX1_snapNow_38 : decode cX1_snapNow 38 = .ok (.getfield 94, 3) := dk_180 0 94 (dk_at dksX1_snapNow_1 14 rfl rfl)
theorem dX1_snapNow_41 : decode cX1_snapNow 41 = .ok (.iload_n 1, 1) := dk_27 (dk_at dksX1_snapNow_1 17 rfl rfl)
theorem dX1_snapNow_42 : decode cX1_snapNow 42 = .ok (.iaload, 1) := dk_46 (dk_at dksX1_snapNow_1 18 rfl rfl)
theorem dX1_snapNow_43 : decode cX1_snapNow 43 = .ok (.ireturn, 1) := dk_172 (dk_at dksX1_snapNow_1 19 rfl rfl)
abbrev cX1_freeze : ByteArray := prog_1_method_84_code
def yX1_freeze : MethodName := ⟨RX1, "freeze", "(I)I"⟩
def dkwX1_freeze_0 : List UInt8 := [42, 27, 182, 1, 186, 61, 28, 2, 159, 0, 8, 42, 27, 182, 0, 249, 28, 172]
abbrev dktX1_freeze_0 : List UInt8 := dkwX1_freeze_0 ++ []
theorem dksX1_freeze_0 : cX1_freeze.data.toList.drop 0 = dktX1_freeze_0 := by decide +kernel
theorem dX1_freeze_0 : decode cX1_freeze 0 = .ok (.aload_n 0, 1) := dk_42 (dk_at dksX1_freeze_0 0 rfl rfl)
theorem dX1_freeze_1 : decode cX1_freeze 1 = .ok (.iload_n 1, 1) := dk_27 (dk_at dksX1_freeze_0 1 rfl rfl)
theorem dX1_freeze_2 : decode cX1_freeze 2 = .ok (.invokevirtual 442, 3) := dk_182 1 186 (dk_at dksX1_freeze_0 2 rfl rfl)
theorem dX1_freeze_5 : decode cX1_freeze 5 = .ok (.istore_n 2, 1) := dk_61 (dk_at dksX1_freeze_0 5 rfl rfl)
theorem dX1_freeze_6 : decode cX1_freeze 6 = .ok (.iload_n 2, 1) := dk_28 (dk_at dksX1_freeze_0 6 rfl rfl)
theorem dX1_freeze_7 : decode cX1_freeze 7 = .ok (.iconst (-1), 1) := dk_2 (dk_at dksX1_freeze_0 7 rfl rfl)
theorem dX1_freeze_8 : decode cX1_freeze 8 = .ok (.if_icmp .eq 8, 3) := dk_159 0 8 (dk_at dksX1_freeze_0 8 rfl rfl)
theorem dX1_freeze_11 : decode cX1_freeze 11 = .ok (.aload_n 0, 1) := dk_42 (dk_at dksX1_freeze_0 11 rfl rfl)
theorem dX1_freeze_12 : decode cX1_freeze 12 = .ok (.iload_n 1, 1) := dk_27 (dk_at dksX1_freeze_0 12 rfl rfl)
theorem dX1_freeze_13 : decode cX1_freeze 13 = .ok (.invokevirtual 249, 3) := dk_182 0 249 (dk_at dksX1_freeze_0 13 rfl rfl)
theorem dX1_freeze_16 : decode cX1_freeze 16 = .ok (.iload_n 2, 1) := dk_28 (dk_at dksX1_freeze_0 16 rfl rfl)
theorem dX1_freeze_17 : decode cX1_freeze 17 = .ok (.ireturn, 1) := dk_172 (dk_at dksX1_freeze_0 17 rfl rfl)
abbrev cX1_peek : ByteArray := prog_1_method_85_code
def yX1_peek : MethodName := ⟨RX1, "peek", "(II)I"⟩
def dkwX1_peek_1 : List UInt8 := [184, 1, 34, 167, 0, 5, 18, 174, 172]
abbrev dktX1_peek_1 : List UInt8 := dkwX1_peek_1 ++ []
def dkwX1_peek_0 : List UInt8 := [42, 27, 182, 1, 160, 153, 0, 24, 42, 27, 182, 1, 163, 154, 0, 16, 42, 180, 0, 85, 27, 50, 28]
abbrev dktX1_peek_0 : List UInt8 := dkwX1_peek_0 ++ dktX1_peek_1
theorem dksX1_peek_0 : cX1_peek.data.toList.drop 0 = dktX1_peek_0 := by decide +kernel
theorem dksX1_peek_1 : cX1_peek.data.toList.drop 23 = dktX1_peek_1 := dk_seg dksX1_peek_0 23 rfl rfl
theorem dX1_peek_0 : decode cX1_peek 0 = .ok (.aload_n 0, 1) := dk_42 (dk_at dksX1_peek_0 0 rfl rfl)
theorem dX1_peek_1 : decode cX1_peek 1 = .ok (.iload_n 1, 1) := dk_27 (dk_at dksX1_peek_0 1 rfl rfl)
theorem dX1_peek_2 : decode cX1_peek 2 = .ok (.invokevirtual 416, 3) := dk_182 1 160 (dk_at dksX1_peek_0 2 rfl rfl)
theorem dX1_peek_5 : decode cX1_peek 5 = .ok (.ifCond .eq 24, 3) := dk_153 0 24 (dk_at dksX1_peek_0 5 rfl rfl)
theorem dX1_peek_8 : decode cX1_peek 8 = .ok (.aload_n 0, 1) := dk_42 (dk_at dksX1_peek_0 8 rfl rfl)
theorem dX1_peek_9 : decode cX1_peek 9 = .ok (.iload_n 1, 1) := dk_27 (dk_at dksX1_peek_0 9 rfl rfl)
theorem dX1_peek_10 : decode cX1_peek 10 = .ok (.invokevirtual 419, 3) := dk_182 1 163 (dk_at dksX1_peek_0 10 rfl rfl)
theorem dX1_peek_13 : decode cX1_peek 13 = .ok (.ifCond .ne 16, 3) := dk_154 0 16 (dk_at dksX1_peek_0 13 rfl rfl)
theorem dX1_peek_16 : decode cX1_peek 16 = .ok (.aload_n 0, 1) := dk_42 (dk_at dksX1_peek_0 16 rfl rfl)
theorem dX1_peek_17 : decode cX1_peek 17 = .ok (.getfield 85, 3) := dk_180 0 85 (dk_at dksX1_peek_0 17 rfl rfl)
theorem dX1_peek_20 : decode cX1_peek 20 = .ok (.iload_n 1, 1) := dk_27 (dk_at dksX1_peek_0 20 rfl rfl)
theorem dX1_peek_21 : decode cX1_peek 21 = .ok (.aaload, 1) := dk_50 (dk_at dksX1_peek_0 21 rfl rfl)
theorem dX1_peek_22 : decode cX1_peek 22 = .ok (.iload_n 2, 1) := dk_28 (dk_at dksX1_peek_0 22 rfl rfl)
theorem dX1_peek_23 : decode cX1_peek 23 = .ok (.invokestatic 290, 3) := dk_184 1 34 (dk_at dksX1_peek_1 0 rfl rfl)
theorem dX1_peek_26 : decode cX1_peek 26 = .ok (.goto 5, 3) := dk_167 0 5 (dk_at dksX1_peek_1 3 rfl rfl)
theorem dX1_peek_29 : decode cX1_peek 29 = .ok (.ldc 174, 2) := dk_18 174 (dk_at dksX1_peek_1 6 rfl rfl)
theorem dX1_peek_31 : decode cX1_peek 31 = .ok (.ireturn, 1) := dk_172 (dk_at dksX1_peek_1 8 rfl rfl)
abbrev cX1_builder : ByteArray := prog_1_method_86_code
def yX1_builder : MethodName := ⟨RX1, "builder", "(II)I"⟩
def dkwX1_builder_5 : List UInt8 := [185, 1, 7, 4, 0, 167, 0, 9, 42, 180, 0, 94, 27, 46, 172]
abbrev dktX1_builder_5 : List UInt8 := dkwX1_builder_5 ++ []
def dkwX1_builder_4 : List UInt8 := [185, 1, 7, 4, 0, 167, 0, 31, 42, 180, 0, 85, 27, 50, 7, 3, 42, 180, 0, 90, 27, 50]
abbrev dktX1_builder_4 : List UInt8 := dkwX1_builder_4 ++ dktX1_builder_5
def dkwX1_builder_3 : List UInt8 := [42, 180, 0, 85, 27, 50, 184, 1, 54, 167, 0, 48, 42, 180, 0, 85, 27, 50, 3, 3, 1]
abbrev dktX1_builder_3 : List UInt8 := dkwX1_builder_3 ++ dktX1_builder_4
def dkwX1_builder_2 : List UInt8 := [170, 0, 0, 0, 0, 0, 78, 0, 0, 0, 0, 0, 0, 0, 2, 0, 0, 0, 27, 0, 0, 0, 39, 0, 0, 0, 56]
abbrev dktX1_builder_2 : List UInt8 := dkwX1_builder_2 ++ dktX1_builder_3
def dkwX1_builder_1 : List UInt8 := [153, 0, 6, 18, 174, 172, 28]
abbrev dktX1_builder_1 : List UInt8 := dkwX1_builder_1 ++ dktX1_builder_2
def dkwX1_builder_0 : List UInt8 := [42, 27, 182, 1, 160, 153, 0, 20, 28, 3, 6, 184, 0, 127, 153, 0, 11, 42, 27, 182, 1, 163]
abbrev dktX1_builder_0 : List UInt8 := dkwX1_builder_0 ++ dktX1_builder_1
theorem dksX1_builder_0 : cX1_builder.data.toList.drop 0 = dktX1_builder_0 := by decide +kernel
theorem dksX1_builder_1 : cX1_builder.data.toList.drop 22 = dktX1_builder_1 := dk_seg dksX1_builder_0 22 rfl rfl
theorem dksX1_builder_2 : cX1_builder.data.toList.drop 29 = dktX1_builder_2 := dk_seg dksX1_builder_1 7 rfl rfl
theorem dksX1_builder_3 : cX1_builder.data.toList.drop 56 = dktX1_builder_3 := dk_seg dksX1_builder_2 27 rfl rfl
theorem dksX1_builder_4 : cX1_builder.data.toList.drop 77 = dktX1_builder_4 := dk_seg dksX1_builder_3 21 rfl rfl
theorem dksX1_builder_5 : cX1_builder.data.toList.drop 99 = dktX1_builder_5 := dk_seg dksX1_builder_4 22 rfl rfl
theorem dX1_builder_0 : decode cX1_builder 0 = .ok (.aload_n 0, 1) := dk_42 (dk_at dksX1_builder_0 0 rfl rfl)
theorem dX1_builder_1 : decode cX1_builder 1 = .ok (.iload_n 1, 1) := dk_27 (dk_at dksX1_builder_0 1 rfl rfl)
theorem dX1_builder_2 : decode cX1_builder 2 = .ok (.invokevirtual 416, 3) := dk_182 1 160 (dk_at dksX1_builder_0 2 rfl rfl)
theorem dX1_builder_5 : decode cX1_builder 5 = .ok (.ifCond .eq 20, 3) := dk_153 0 20 (dk_at dksX1_builder_0 5 rfl rfl)
theorem dX1_builder_8 : decode cX1_builder 8 = .ok (.iload_n 2, 1) := dk_28 (dk_at dksX1_builder_0 8 rfl rfl)
theorem dX1_builder_9 : decode cX1_builder 9 = .ok (.iconst 0, 1) := dk_3 (dk_at dksX1_builder_0 9 rfl rfl)
theorem dX1_builder_10 : decode cX1_builder 10 = .ok (.iconst 3, 1) := dk_6 (dk_at dksX1_builder_0 10 rfl rfl)
theorem dX1_builder_11 : decode cX1_builder 11 = .ok (.invokestatic 127, 3) := dk_184 0 127 (dk_at dksX1_builder_0 11 rfl rfl)
theorem dX1_builder_14 : decode cX1_builder 14 = .ok (.ifCond .eq 11, 3) := dk_153 0 11 (dk_at dksX1_builder_0 14 rfl rfl)
theorem dX1_builder_17 : decode cX1_builder 17 = .ok (.aload_n 0, 1) := dk_42 (dk_at dksX1_builder_0 17 rfl rfl)
theorem dX1_builder_18 : decode cX1_builder 18 = .ok (.iload_n 1, 1) := dk_27 (dk_at dksX1_builder_0 18 rfl rfl)
theorem dX1_builder_19 : decode cX1_builder 19 = .ok (.invokevirtual 419, 3) := dk_182 1 163 (dk_at dksX1_builder_0 19 rfl rfl)
theorem dX1_builder_22 : decode cX1_builder 22 = .ok (.ifCond .eq 6, 3) := dk_153 0 6 (dk_at dksX1_builder_1 0 rfl rfl)
theorem dX1_builder_25 : decode cX1_builder 25 = .ok (.ldc 174, 2) := dk_18 174 (dk_at dksX1_builder_1 3 rfl rfl)
theorem dX1_builder_27 : decode cX1_builder 27 = .ok (.ireturn, 1) := dk_172 (dk_at dksX1_builder_1 5 rfl rfl)
theorem dX1_builder_28 : decode cX1_builder 28 = .ok (.iload_n 2, 1) := dk_28 (dk_at dksX1_builder_1 6 rfl rfl)
theorem dX1_builder_29 : decode cX1_builder 29 = .ok (.tableswitch 78 0 2 #[27, 39, 56], 27) := by decide +kernel
theorem dX1_builder_56 : decode cX1_builder 56 = .ok (.aload_n 0, 1) := dk_42 (dk_at dksX1_builder_3 0 rfl rfl)
theorem dX1_builder_57 : decode cX1_builder 57 = .ok (.getfield 85, 3) := dk_180 0 85 (dk_at dksX1_builder_3 1 rfl rfl)
theorem dX1_builder_60 : decode cX1_builder 60 = .ok (.iload_n 1, 1) := dk_27 (dk_at dksX1_builder_3 4 rfl rfl)
theorem dX1_builder_61 : decode cX1_builder 61 = .ok (.aaload, 1) := dk_50 (dk_at dksX1_builder_3 5 rfl rfl)
theorem dX1_builder_62 : decode cX1_builder 62 = .ok (.invokestatic 310, 3) := dk_184 1 54 (dk_at dksX1_builder_3 6 rfl rfl)
theorem dX1_builder_65 : decode cX1_builder 65 = .ok (.goto 48, 3) := dk_167 0 48 (dk_at dksX1_builder_3 9 rfl rfl)
theorem dX1_builder_68 : decode cX1_builder 68 = .ok (.aload_n 0, 1) := dk_42 (dk_at dksX1_builder_3 12 rfl rfl)
theorem dX1_builder_69 : decode cX1_builder 69 = .ok (.getfield 85, 3) := dk_180 0 85 (dk_at dksX1_builder_3 13 rfl rfl)
theorem dX1_builder_72 : decode cX1_builder 72 = .ok (.iload_n 1, 1) := dk_27 (dk_at dksX1_builder_3 16 rfl rfl)
theorem dX1_builder_73 : decode cX1_builder 73 = .ok (.aaload, 1) := dk_50 (dk_at dksX1_builder_3 17 rfl rfl)
theorem dX1_builder_74 : decode cX1_builder 74 = .ok (.iconst 0, 1) := dk_3 (dk_at dksX1_builder_3 18 rfl rfl)
theorem dX1_builder_75 : decode cX1_builder 75 = .ok (.iconst 0, 1) := dk_3 (dk_at dksX1_builder_3 19 rfl rfl)
theorem dX1_builder_76 : decode cX1_builder 76 = .ok (.aconst_null, 1) := dk_1 (dk_at dksX1_builder_3 20 rfl rfl)
theorem dX1_builder_77 : decode cX1_builder 77 = .ok (.invokeinterface 263 4, 5) := by decide +kernel
theorem dX1_builder_82 : decode cX1_builder 82 = .ok (.goto 31, 3) := dk_167 0 31 (dk_at dksX1_builder_4 5 rfl rfl)
theorem dX1_builder_85 : decode cX1_builder 85 = .ok (.aload_n 0, 1) := dk_42 (dk_at dksX1_builder_4 8 rfl rfl)
theorem dX1_builder_86 : decode cX1_builder 86 = .ok (.getfield 85, 3) := dk_180 0 85 (dk_at dksX1_builder_4 9 rfl rfl)
theorem dX1_builder_89 : decode cX1_builder 89 = .ok (.iload_n 1, 1) := dk_27 (dk_at dksX1_builder_4 12 rfl rfl)
theorem dX1_builder_90 : decode cX1_builder 90 = .ok (.aaload, 1) := dk_50 (dk_at dksX1_builder_4 13 rfl rfl)
theorem dX1_builder_91 : decode cX1_builder 91 = .ok (.iconst 4, 1) := dk_7 (dk_at dksX1_builder_4 14 rfl rfl)
theorem dX1_builder_92 : decode cX1_builder 92 = .ok (.iconst 0, 1) := dk_3 (dk_at dksX1_builder_4 15 rfl rfl)
theorem dX1_builder_93 : decode cX1_builder 93 = .ok (.aload_n 0, 1) := dk_42 (dk_at dksX1_builder_4 16 rfl rfl)
theorem dX1_builder_94 : decode cX1_builder 94 = .ok (.getfield 90, 3) := dk_180 0 90 (dk_at dksX1_builder_4 17 rfl rfl)
theorem dX1_builder_97 : decode cX1_builder 97 = .ok (.iload_n 1, 1) := dk_27 (dk_at dksX1_builder_4 20 rfl rfl)
theorem dX1_builder_98 : decode cX1_builder 98 = .ok (.aaload, 1) := dk_50 (dk_at dksX1_builder_4 21 rfl rfl)
theorem dX1_builder_99 : decode cX1_builder 99 = .ok (.invokeinterface 263 4, 5) := by decide +kernel
theorem dX1_builder_104 : decode cX1_builder 104 = .ok (.goto 9, 3) := dk_167 0 9 (dk_at dksX1_builder_5 5 rfl rfl)
theorem dX1_builder_107 : decode cX1_builder 107 = .ok (.aload_n 0, 1) := dk_42 (dk_at dksX1_builder_5 8 rfl rfl)
theorem dX1_builder_108 : decode cX1_builder 108 = .ok (.getfield 94, 3) := dk_180 0 94 (dk_at dksX1_builder_5 9 rfl rfl)
theorem dX1_builder_111 : decode cX1_builder 111 = .ok (.iload_n 1, 1) := dk_27 (dk_at dksX1_builder_5 12 rfl rfl)
theorem dX1_builder_112 : decode cX1_builder 112 = .ok (.iaload, 1) := dk_46 (dk_at dksX1_builder_5 13 rfl rfl)
theorem dX1_builder_113 : decode cX1_builder 113 = .ok (.ireturn, 1) := dk_172 (dk_at dksX1_builder_5 14 rfl rfl)
abbrev cX1_draws : ByteArray := prog_1_method_89_code
def yX1_draws : MethodName := ⟨RX1, "draws", "(IIJ)I"⟩
def dkwX1_draws_2 : List UInt8 := [132, 6, 1, 167, 255, 243, 42, 27, 21, 5, 182, 1, 176, 172]
abbrev dktX1_draws_2 : List UInt8 := dkwX1_draws_2 ++ []
def dkwX1_draws_1 : List UInt8 := [181, 1, 188, 42, 27, 182, 1, 173, 54, 5, 3, 54, 6, 21, 6, 28, 162, 0, 13, 42, 182, 1, 199]
abbrev dktX1_draws_1 : List UInt8 := dkwX1_draws_1 ++ dktX1_draws_2
def dkwX1_draws_0 : List UInt8 := [42, 42, 27, 28, 4, 16, 30, 184, 0, 127, 182, 1, 166, 182, 0, 212, 153, 0, 5, 2, 172, 42, 33]
abbrev dktX1_draws_0 : List UInt8 := dkwX1_draws_0 ++ dktX1_draws_1
theorem dksX1_draws_0 : cX1_draws.data.toList.drop 0 = dktX1_draws_0 := by decide +kernel
theorem dksX1_draws_1 : cX1_draws.data.toList.drop 23 = dktX1_draws_1 := dk_seg dksX1_draws_0 23 rfl rfl
theorem dksX1_draws_2 : cX1_draws.data.toList.drop 46 = dktX1_draws_2 := dk_seg dksX1_draws_1 23 rfl rfl
theorem dX1_draws_0 : decode cX1_draws 0 = .ok (.aload_n 0, 1) := dk_42 (dk_at dksX1_draws_0 0 rfl rfl)
theorem dX1_draws_1 : decode cX1_draws 1 = .ok (.aload_n 0, 1) := dk_42 (dk_at dksX1_draws_0 1 rfl rfl)
theorem dX1_draws_2 : decode cX1_draws 2 = .ok (.iload_n 1, 1) := dk_27 (dk_at dksX1_draws_0 2 rfl rfl)
theorem dX1_draws_3 : decode cX1_draws 3 = .ok (.iload_n 2, 1) := dk_28 (dk_at dksX1_draws_0 3 rfl rfl)
theorem dX1_draws_4 : decode cX1_draws 4 = .ok (.iconst 1, 1) := dk_4 (dk_at dksX1_draws_0 4 rfl rfl)
theorem dX1_draws_5 : decode cX1_draws 5 = .ok (.bipush 30, 2) := dk_16 30 (dk_at dksX1_draws_0 5 rfl rfl)
theorem dX1_draws_7 : decode cX1_draws 7 = .ok (.invokestatic 127, 3) := dk_184 0 127 (dk_at dksX1_draws_0 7 rfl rfl)
theorem dX1_draws_10 : decode cX1_draws 10 = .ok (.invokevirtual 422, 3) := dk_182 1 166 (dk_at dksX1_draws_0 10 rfl rfl)
theorem dX1_draws_13 : decode cX1_draws 13 = .ok (.invokevirtual 212, 3) := dk_182 0 212 (dk_at dksX1_draws_0 13 rfl rfl)
theorem dX1_draws_16 : decode cX1_draws 16 = .ok (.ifCond .eq 5, 3) := dk_153 0 5 (dk_at dksX1_draws_0 16 rfl rfl)
theorem dX1_draws_19 : decode cX1_draws 19 = .ok (.iconst (-1), 1) := dk_2 (dk_at dksX1_draws_0 19 rfl rfl)
theorem dX1_draws_20 : decode cX1_draws 20 = .ok (.ireturn, 1) := dk_172 (dk_at dksX1_draws_0 20 rfl rfl)
theorem dX1_draws_21 : decode cX1_draws 21 = .ok (.aload_n 0, 1) := dk_42 (dk_at dksX1_draws_0 21 rfl rfl)
theorem dX1_draws_22 : decode cX1_draws 22 = .ok (.lload_n 3, 1) := dk_33 (dk_at dksX1_draws_0 22 rfl rfl)
theorem dX1_draws_23 : decode cX1_draws 23 = .ok (.putfield 444, 3) := dk_181 1 188 (dk_at dksX1_draws_1 0 rfl rfl)
theorem dX1_draws_26 : decode cX1_draws 26 = .ok (.aload_n 0, 1) := dk_42 (dk_at dksX1_draws_1 3 rfl rfl)
theorem dX1_draws_27 : decode cX1_draws 27 = .ok (.iload_n 1, 1) := dk_27 (dk_at dksX1_draws_1 4 rfl rfl)
theorem dX1_draws_28 : decode cX1_draws 28 = .ok (.invokevirtual 429, 3) := dk_182 1 173 (dk_at dksX1_draws_1 5 rfl rfl)
theorem dX1_draws_31 : decode cX1_draws 31 = .ok (.istore 5, 2) := dk_54 5 (dk_at dksX1_draws_1 8 rfl rfl)
theorem dX1_draws_33 : decode cX1_draws 33 = .ok (.iconst 0, 1) := dk_3 (dk_at dksX1_draws_1 10 rfl rfl)
theorem dX1_draws_34 : decode cX1_draws 34 = .ok (.istore 6, 2) := dk_54 6 (dk_at dksX1_draws_1 11 rfl rfl)
theorem dX1_draws_36 : decode cX1_draws 36 = .ok (.iload 6, 2) := dk_21 6 (dk_at dksX1_draws_1 13 rfl rfl)
theorem dX1_draws_38 : decode cX1_draws 38 = .ok (.iload_n 2, 1) := dk_28 (dk_at dksX1_draws_1 15 rfl rfl)
theorem dX1_draws_39 : decode cX1_draws 39 = .ok (.if_icmp .ge 13, 3) := dk_162 0 13 (dk_at dksX1_draws_1 16 rfl rfl)
theorem dX1_draws_42 : decode cX1_draws 42 = .ok (.aload_n 0, 1) := dk_42 (dk_at dksX1_draws_1 19 rfl rfl)
theorem dX1_draws_43 : decode cX1_draws 43 = .ok (.invokevirtual 455, 3) := dk_182 1 199 (dk_at dksX1_draws_1 20 rfl rfl)
theorem dX1_draws_46 : decode cX1_draws 46 = .ok (.iinc 6 1, 3) := dk_132 6 1 (dk_at dksX1_draws_2 0 rfl rfl)
theorem dX1_draws_49 : decode cX1_draws 49 = .ok (.goto (-13), 3) := dk_167 255 243 (dk_at dksX1_draws_2 3 rfl rfl)
theorem dX1_draws_52 : decode cX1_draws 52 = .ok (.aload_n 0, 1) := dk_42 (dk_at dksX1_draws_2 6 rfl rfl)
theorem dX1_draws_53 : decode cX1_draws 53 = .ok (.iload_n 1, 1) := dk_27 (dk_at dksX1_draws_2 7 rfl rfl)
theorem dX1_draws_54 : decode cX1_draws 54 = .ok (.iload 5, 2) := dk_21 5 (dk_at dksX1_draws_2 8 rfl rfl)
theorem dX1_draws_56 : decode cX1_draws 56 = .ok (.invokevirtual 432, 3) := dk_182 1 176 (dk_at dksX1_draws_2 10 rfl rfl)
theorem dX1_draws_59 : decode cX1_draws 59 = .ok (.ireturn, 1) := dk_172 (dk_at dksX1_draws_2 13 rfl rfl)
abbrev cX1_drawOne : ByteArray := prog_1_method_88_code
def yX1_drawOne : MethodName := ⟨RX1, "drawOne", "()V"⟩
def dkwX1_drawOne_2 : List UInt8 := [177, 27, 5, 160, 0, 12, 42, 28, 29, 182, 1, 74, 167, 0, 9, 42, 28, 29, 182, 0, 222, 177]
abbrev dktX1_drawOne_2 : List UInt8 := dkwX1_drawOne_2 ++ []
def dkwX1_drawOne_1 : List UInt8 := [6, 160, 0, 11, 42, 28, 182, 1, 71, 167, 0, 36, 42, 42, 180, 0, 226, 28, 182, 1, 117, 154, 0, 4]
abbrev dktX1_drawOne_1 : List UInt8 := dkwX1_drawOne_1 ++ dktX1_drawOne_2
def dkwX1_drawOne_0 : List UInt8 := [42, 7, 182, 1, 196, 60, 42, 16, 100, 182, 1, 196, 61, 42, 16, 19, 182, 1, 196, 16, 9, 100, 62, 27]
abbrev dktX1_drawOne_0 : List UInt8 := dkwX1_drawOne_0 ++ dktX1_drawOne_1
theorem dksX1_drawOne_0 : cX1_drawOne.data.toList.drop 0 = dktX1_drawOne_0 := by decide +kernel
theorem dksX1_drawOne_1 : cX1_drawOne.data.toList.drop 24 = dktX1_drawOne_1 := dk_seg dksX1_drawOne_0 24 rfl rfl
theorem dksX1_drawOne_2 : cX1_drawOne.data.toList.drop 48 = dktX1_drawOne_2 := dk_seg dksX1_drawOne_1 24 rfl rfl
theorem dX1_drawOne_0 : decode cX1_drawOne 0 = .ok (.aload_n 0, 1) := dk_42 (dk_at dksX1_drawOne_0 0 rfl rfl)
theorem dX1_drawOne_1 : decode cX1_drawOne 1 = .ok (.iconst 4, 1) := dk_7 (dk_at dksX1_drawOne_0 1 rfl rfl)
theorem dX1_drawOne_2 : decode cX1_drawOne 2 = .ok (.invokevirtual 452, 3) := dk_182 1 196 (dk_at dksX1_drawOne_0 2 rfl rfl)
theorem dX1_drawOne_5 : decode cX1_drawOne 5 = .ok (.istore_n 1, 1) := dk_60 (dk_at dksX1_drawOne_0 5 rfl rfl)
theorem dX1_drawOne_6 : decode cX1_drawOne 6 = .ok (.aload_n 0, 1) := dk_42 (dk_at dksX1_drawOne_0 6 rfl rfl)
theorem dX1_drawOne_7 : decode cX1_drawOne 7 = .ok (.bipush 100, 2) := dk_16 100 (dk_at dksX1_drawOne_0 7 rfl rfl)
theorem dX1_drawOne_9 : decode cX1_drawOne 9 = .ok (.invokevirtual 452, 3) := dk_182 1 196 (dk_at dksX1_drawOne_0 9 rfl rfl)
theorem dX1_drawOne_12 : decode cX1_drawOne 12 = .ok (.istore_n 2, 1) := dk_61 (dk_at dksX1_drawOne_0 12 rfl rfl)
theorem dX1_drawOne_13 : decode cX1_drawOne 13 = .ok (.aload_n 0, 1) := dk_42 (dk_at dksX1_drawOne_0 13 rfl rfl)
theorem dX1_drawOne_14 : decode cX1_drawOne 14 = .ok (.bipush 19, 2) := dk_16 19 (dk_at dksX1_drawOne_0 14 rfl rfl)
theorem dX1_drawOne_16 : decode cX1_drawOne 16 = .ok (.invokevirtual 452, 3) := dk_182 1 196 (dk_at dksX1_drawOne_0 16 rfl rfl)
theorem dX1_drawOne_19 : decode cX1_drawOne 19 = .ok (.bipush 9, 2) := dk_16 9 (dk_at dksX1_drawOne_0 19 rfl rfl)
theorem dX1_drawOne_21 : decode cX1_drawOne 21 = .ok (.isub, 1) := dk_100 (dk_at dksX1_drawOne_0 21 rfl rfl)
theorem dX1_drawOne_22 : decode cX1_drawOne 22 = .ok (.istore_n 3, 1) := dk_62 (dk_at dksX1_drawOne_0 22 rfl rfl)
theorem dX1_drawOne_23 : decode cX1_drawOne 23 = .ok (.iload_n 1, 1) := dk_27 (dk_at dksX1_drawOne_0 23 rfl rfl)
theorem dX1_drawOne_24 : decode cX1_drawOne 24 = .ok (.iconst 3, 1) := dk_6 (dk_at dksX1_drawOne_1 0 rfl rfl)
theorem dX1_drawOne_25 : decode cX1_drawOne 25 = .ok (.if_icmp .ne 11, 3) := dk_160 0 11 (dk_at dksX1_drawOne_1 1 rfl rfl)
theorem dX1_drawOne_28 : decode cX1_drawOne 28 = .ok (.aload_n 0, 1) := dk_42 (dk_at dksX1_drawOne_1 4 rfl rfl)
theorem dX1_drawOne_29 : decode cX1_drawOne 29 = .ok (.iload_n 2, 1) := dk_28 (dk_at dksX1_drawOne_1 5 rfl rfl)
theorem dX1_drawOne_30 : decode cX1_drawOne 30 = .ok (.invokevirtual 327, 3) := dk_182 1 71 (dk_at dksX1_drawOne_1 6 rfl rfl)
theorem dX1_drawOne_33 : decode cX1_drawOne 33 = .ok (.goto 36, 3) := dk_167 0 36 (dk_at dksX1_drawOne_1 9 rfl rfl)
theorem dX1_drawOne_36 : decode cX1_drawOne 36 = .ok (.aload_n 0, 1) := dk_42 (dk_at dksX1_drawOne_1 12 rfl rfl)
theorem dX1_drawOne_37 : decode cX1_drawOne 37 = .ok (.aload_n 0, 1) := dk_42 (dk_at dksX1_drawOne_1 13 rfl rfl)
theorem dX1_drawOne_38 : decode cX1_drawOne 38 = .ok (.getfield 226, 3) := dk_180 0 226 (dk_at dksX1_drawOne_1 14 rfl rfl)
theorem dX1_drawOne_41 : decode cX1_drawOne 41 = .ok (.iload_n 2, 1) := dk_28 (dk_at dksX1_drawOne_1 17 rfl rfl)
theorem dX1_drawOne_42 : decode cX1_drawOne 42 = .ok (.invokevirtual 373, 3) := dk_182 1 117 (dk_at dksX1_drawOne_1 18 rfl rfl)
theorem dX1_drawOne_45 : decode cX1_drawOne 45 = .ok (.ifCond .ne 4, 3) := dk_154 0 4 (dk_at dksX1_drawOne_1 21 rfl rfl)
theorem dX1_drawOne_48 : decode cX1_drawOne 48 = .ok (.return_, 1) := dk_177 (dk_at dksX1_drawOne_2 0 rfl rfl)
theorem dX1_drawOne_49 : decode cX1_drawOne 49 = .ok (.iload_n 1, 1) := dk_27 (dk_at dksX1_drawOne_2 1 rfl rfl)
theorem dX1_drawOne_50 : decode cX1_drawOne 50 = .ok (.iconst 2, 1) := dk_5 (dk_at dksX1_drawOne_2 2 rfl rfl)
theorem dX1_drawOne_51 : decode cX1_drawOne 51 = .ok (.if_icmp .ne 12, 3) := dk_160 0 12 (dk_at dksX1_drawOne_2 3 rfl rfl)
theorem dX1_drawOne_54 : decode cX1_drawOne 54 = .ok (.aload_n 0, 1) := dk_42 (dk_at dksX1_drawOne_2 6 rfl rfl)
theorem dX1_drawOne_55 : decode cX1_drawOne 55 = .ok (.iload_n 2, 1) := dk_28 (dk_at dksX1_drawOne_2 7 rfl rfl)
theorem dX1_drawOne_56 : decode cX1_drawOne 56 = .ok (.iload_n 3, 1) := dk_29 (dk_at dksX1_drawOne_2 8 rfl rfl)
theorem dX1_drawOne_57 : decode cX1_drawOne 57 = .ok (.invokevirtual 330, 3) := dk_182 1 74 (dk_at dksX1_drawOne_2 9 rfl rfl)
theorem dX1_drawOne_60 : decode cX1_drawOne 60 = .ok (.goto 9, 3) := dk_167 0 9 (dk_at dksX1_drawOne_2 12 rfl rfl)
theorem dX1_drawOne_63 : decode cX1_drawOne 63 = .ok (.aload_n 0, 1) := dk_42 (dk_at dksX1_drawOne_2 15 rfl rfl)
theorem dX1_drawOne_64 : decode cX1_drawOne 64 = .ok (.iload_n 2, 1) := dk_28 (dk_at dksX1_drawOne_2 16 rfl rfl)
theorem dX1_drawOne_65 : decode cX1_drawOne 65 = .ok (.iload_n 3, 1) := dk_29 (dk_at dksX1_drawOne_2 17 rfl rfl)
theorem dX1_drawOne_66 : decode cX1_drawOne 66 = .ok (.invokevirtual 222, 3) := dk_182 0 222 (dk_at dksX1_drawOne_2 18 rfl rfl)
theorem dX1_drawOne_69 : decode cX1_drawOne 69 = .ok (.return_, 1) := dk_177 (dk_at dksX1_drawOne_2 21 rfl rfl)
abbrev cX1_draw : ByteArray := prog_1_method_87_code
def yX1_draw : MethodName := ⟨RX1, "draw", "(I)I"⟩
def dkwX1_draw_1 : List UInt8 := [133, 113, 136, 172]
abbrev dktX1_draw_1 : List UInt8 := dkwX1_draw_1 ++ []
def dkwX1_draw_0 : List UInt8 := [42, 42, 180, 1, 188, 20, 1, 192, 105, 20, 1, 194, 97, 181, 1, 188, 42, 180, 1, 188, 16, 33, 125, 27]
abbrev dktX1_draw_0 : List UInt8 := dkwX1_draw_0 ++ dktX1_draw_1
theorem dksX1_draw_0 : cX1_draw.data.toList.drop 0 = dktX1_draw_0 := by decide +kernel
theorem dksX1_draw_1 : cX1_draw.data.toList.drop 24 = dktX1_draw_1 := dk_seg dksX1_draw_0 24 rfl rfl
theorem dX1_draw_0 : decode cX1_draw 0 = .ok (.aload_n 0, 1) := dk_42 (dk_at dksX1_draw_0 0 rfl rfl)
theorem dX1_draw_1 : decode cX1_draw 1 = .ok (.aload_n 0, 1) := dk_42 (dk_at dksX1_draw_0 1 rfl rfl)
theorem dX1_draw_2 : decode cX1_draw 2 = .ok (.getfield 444, 3) := dk_180 1 188 (dk_at dksX1_draw_0 2 rfl rfl)
theorem dX1_draw_5 : decode cX1_draw 5 = .ok (.ldc2_w 448, 3) := dk_20 1 192 (dk_at dksX1_draw_0 5 rfl rfl)
theorem dX1_draw_8 : decode cX1_draw 8 = .ok (.lmul, 1) := dk_105 (dk_at dksX1_draw_0 8 rfl rfl)
theorem dX1_draw_9 : decode cX1_draw 9 = .ok (.ldc2_w 450, 3) := dk_20 1 194 (dk_at dksX1_draw_0 9 rfl rfl)
theorem dX1_draw_12 : decode cX1_draw 12 = .ok (.ladd, 1) := dk_97 (dk_at dksX1_draw_0 12 rfl rfl)
theorem dX1_draw_13 : decode cX1_draw 13 = .ok (.putfield 444, 3) := dk_181 1 188 (dk_at dksX1_draw_0 13 rfl rfl)
theorem dX1_draw_16 : decode cX1_draw 16 = .ok (.aload_n 0, 1) := dk_42 (dk_at dksX1_draw_0 16 rfl rfl)
theorem dX1_draw_17 : decode cX1_draw 17 = .ok (.getfield 444, 3) := dk_180 1 188 (dk_at dksX1_draw_0 17 rfl rfl)
theorem dX1_draw_20 : decode cX1_draw 20 = .ok (.bipush 33, 2) := dk_16 33 (dk_at dksX1_draw_0 20 rfl rfl)
theorem dX1_draw_22 : decode cX1_draw 22 = .ok (.lushr, 1) := dk_125 (dk_at dksX1_draw_0 22 rfl rfl)
theorem dX1_draw_23 : decode cX1_draw 23 = .ok (.iload_n 1, 1) := dk_27 (dk_at dksX1_draw_0 23 rfl rfl)
theorem dX1_draw_24 : decode cX1_draw 24 = .ok (.i2l, 1) := dk_133 (dk_at dksX1_draw_1 0 rfl rfl)
theorem dX1_draw_25 : decode cX1_draw 25 = .ok (.lrem, 1) := dk_113 (dk_at dksX1_draw_1 1 rfl rfl)
theorem dX1_draw_26 : decode cX1_draw 26 = .ok (.l2i, 1) := dk_136 (dk_at dksX1_draw_1 2 rfl rfl)
theorem dX1_draw_27 : decode cX1_draw 27 = .ok (.ireturn, 1) := dk_172 (dk_at dksX1_draw_1 3 rfl rfl)
abbrev cX1_step : ByteArray := prog_1_method_90_code
def yX1_step : MethodName := ⟨RX1, "step", "(III)I"⟩
def dkwX1_step_2 : List UInt8 := [28, 96, 104, 29, 96, 46, 167, 0, 5, 18, 174, 172]
abbrev dktX1_step_2 : List UInt8 := dkwX1_step_2 ++ []
def dkwX1_step_1 : List UInt8 := [184, 0, 127, 153, 0, 30, 29, 3, 6, 184, 0, 127, 153, 0, 21, 42, 180, 0, 47, 7, 16, 16, 27, 104]
abbrev dktX1_step_1 : List UInt8 := dkwX1_step_1 ++ dktX1_step_2
def dkwX1_step_0 : List UInt8 := [27, 3, 42, 180, 0, 199, 4, 100, 184, 0, 127, 153, 0, 46, 28, 3, 42, 180, 0, 51, 27, 46, 4, 100]
abbrev dktX1_step_0 : List UInt8 := dkwX1_step_0 ++ dktX1_step_1
theorem dksX1_step_0 : cX1_step.data.toList.drop 0 = dktX1_step_0 := by decide +kernel
theorem dksX1_step_1 : cX1_step.data.toList.drop 24 = dktX1_step_1 := dk_seg dksX1_step_0 24 rfl rfl
theorem dksX1_step_2 : cX1_step.data.toList.drop 48 = dktX1_step_2 := dk_seg dksX1_step_1 24 rfl rfl
theorem dX1_step_0 : decode cX1_step 0 = .ok (.iload_n 1, 1) := dk_27 (dk_at dksX1_step_0 0 rfl rfl)
theorem dX1_step_1 : decode cX1_step 1 = .ok (.iconst 0, 1) := dk_3 (dk_at dksX1_step_0 1 rfl rfl)
theorem dX1_step_2 : decode cX1_step 2 = .ok (.aload_n 0, 1) := dk_42 (dk_at dksX1_step_0 2 rfl rfl)
theorem dX1_step_3 : decode cX1_step 3 = .ok (.getfield 199, 3) := dk_180 0 199 (dk_at dksX1_step_0 3 rfl rfl)
theorem dX1_step_6 : decode cX1_step 6 = .ok (.iconst 1, 1) := dk_4 (dk_at dksX1_step_0 6 rfl rfl)
theorem dX1_step_7 : decode cX1_step 7 = .ok (.isub, 1) := dk_100 (dk_at dksX1_step_0 7 rfl rfl)
theorem dX1_step_8 : decode cX1_step 8 = .ok (.invokestatic 127, 3) := dk_184 0 127 (dk_at dksX1_step_0 8 rfl rfl)
theorem dX1_step_11 : decode cX1_step 11 = .ok (.ifCond .eq 46, 3) := dk_153 0 46 (dk_at dksX1_step_0 11 rfl rfl)
theorem dX1_step_14 : decode cX1_step 14 = .ok (.iload_n 2, 1) := dk_28 (dk_at dksX1_step_0 14 rfl rfl)
theorem dX1_step_15 : decode cX1_step 15 = .ok (.iconst 0, 1) := dk_3 (dk_at dksX1_step_0 15 rfl rfl)
theorem dX1_step_16 : decode cX1_step 16 = .ok (.aload_n 0, 1) := dk_42 (dk_at dksX1_step_0 16 rfl rfl)
theorem dX1_step_17 : decode cX1_step 17 = .ok (.getfield 51, 3) := dk_180 0 51 (dk_at dksX1_step_0 17 rfl rfl)
theorem dX1_step_20 : decode cX1_step 20 = .ok (.iload_n 1, 1) := dk_27 (dk_at dksX1_step_0 20 rfl rfl)
theorem dX1_step_21 : decode cX1_step 21 = .ok (.iaload, 1) := dk_46 (dk_at dksX1_step_0 21 rfl rfl)
theorem dX1_step_22 : decode cX1_step 22 = .ok (.iconst 1, 1) := dk_4 (dk_at dksX1_step_0 22 rfl rfl)
theorem dX1_step_23 : decode cX1_step 23 = .ok (.isub, 1) := dk_100 (dk_at dksX1_step_0 23 rfl rfl)
theorem dX1_step_24 : decode cX1_step 24 = .ok (.invokestatic 127, 3) := dk_184 0 127 (dk_at dksX1_step_1 0 rfl rfl)
theorem dX1_step_27 : decode cX1_step 27 = .ok (.ifCond .eq 30, 3) := dk_153 0 30 (dk_at dksX1_step_1 3 rfl rfl)
theorem dX1_step_30 : decode cX1_step 30 = .ok (.iload_n 3, 1) := dk_29 (dk_at dksX1_step_1 6 rfl rfl)
theorem dX1_step_31 : decode cX1_step 31 = .ok (.iconst 0, 1) := dk_3 (dk_at dksX1_step_1 7 rfl rfl)
theorem dX1_step_32 : decode cX1_step 32 = .ok (.iconst 3, 1) := dk_6 (dk_at dksX1_step_1 8 rfl rfl)
theorem dX1_step_33 : decode cX1_step 33 = .ok (.invokestatic 127, 3) := dk_184 0 127 (dk_at dksX1_step_1 9 rfl rfl)
theorem dX1_step_36 : decode cX1_step 36 = .ok (.ifCond .eq 21, 3) := dk_153 0 21 (dk_at dksX1_step_1 12 rfl rfl)
theorem dX1_step_39 : decode cX1_step 39 = .ok (.aload_n 0, 1) := dk_42 (dk_at dksX1_step_1 15 rfl rfl)
theorem dX1_step_40 : decode cX1_step 40 = .ok (.getfield 47, 3) := dk_180 0 47 (dk_at dksX1_step_1 16 rfl rfl)
theorem dX1_step_43 : decode cX1_step 43 = .ok (.iconst 4, 1) := dk_7 (dk_at dksX1_step_1 19 rfl rfl)
theorem dX1_step_44 : decode cX1_step 44 = .ok (.bipush 16, 2) := dk_16 16 (dk_at dksX1_step_1 20 rfl rfl)
theorem dX1_step_46 : decode cX1_step 46 = .ok (.iload_n 1, 1) := dk_27 (dk_at dksX1_step_1 22 rfl rfl)
theorem dX1_step_47 : decode cX1_step 47 = .ok (.imul, 1) := dk_104 (dk_at dksX1_step_1 23 rfl rfl)
theorem dX1_step_48 : decode cX1_step 48 = .ok (.iload_n 2, 1) := dk_28 (dk_at dksX1_step_2 0 rfl rfl)
theorem dX1_step_49 : decode cX1_step 49 = .ok (.iadd, 1) := dk_96 (dk_at dksX1_step_2 1 rfl rfl)
theorem dX1_step_50 : decode cX1_step 50 = .ok (.imul, 1) := dk_104 (dk_at dksX1_step_2 2 rfl rfl)
theorem dX1_step_51 : decode cX1_step 51 = .ok (.iload_n 3, 1) := dk_29 (dk_at dksX1_step_2 3 rfl rfl)
theorem dX1_step_52 : decode cX1_step 52 = .ok (.iadd, 1) := dk_96 (dk_at dksX1_step_2 4 rfl rfl)
theorem dX1_step_53 : decode cX1_step 53 = .ok (.iaload, 1) := dk_46 (dk_at dksX1_step_2 5 rfl rfl)
theorem dX1_step_54 : decode cX1_step 54 = .ok (.goto 5, 3) := dk_167 0 5 (dk_at dksX1_step_2 6 rfl rfl)
theorem dX1_step_57 : decode cX1_step 57 = .ok (.ldc 174, 2) := dk_18 174 (dk_at dksX1_step_2 9 rfl rfl)
theorem dX1_step_59 : decode cX1_step 59 = .ok (.ireturn, 1) := dk_172 (dk_at dksX1_step_2 11 rfl rfl)
abbrev cX1_run : ByteArray := prog_1_method_92_code
def yX1_run : MethodName := ⟨RX1, "run", "(II)I"⟩
def dkwX1_run_2 : List UInt8 := [28, 7, 16, 16, 27, 104, 29, 96, 104, 182, 1, 202, 153, 0, 9, 132, 3, 1, 167, 255, 227, 29, 172]
abbrev dktX1_run_2 : List UInt8 := dkwX1_run_2 ++ []
def dkwX1_run_1 : List UInt8 := [182, 1, 166, 182, 0, 212, 153, 0, 5, 2, 172, 3, 62, 29, 42, 180, 0, 51, 27, 46, 162, 0, 25, 42]
abbrev dktX1_run_1 : List UInt8 := dkwX1_run_1 ++ dktX1_run_2
def dkwX1_run_0 : List UInt8 := [42, 27, 3, 42, 180, 0, 199, 4, 100, 184, 0, 127, 154, 0, 7, 3, 167, 0, 9, 42, 28, 4]
abbrev dktX1_run_0 : List UInt8 := dkwX1_run_0 ++ dktX1_run_1
theorem dksX1_run_0 : cX1_run.data.toList.drop 0 = dktX1_run_0 := by decide +kernel
theorem dksX1_run_1 : cX1_run.data.toList.drop 22 = dktX1_run_1 := dk_seg dksX1_run_0 22 rfl rfl
theorem dksX1_run_2 : cX1_run.data.toList.drop 46 = dktX1_run_2 := dk_seg dksX1_run_1 24 rfl rfl
theorem dX1_run_0 : decode cX1_run 0 = .ok (.aload_n 0, 1) := dk_42 (dk_at dksX1_run_0 0 rfl rfl)
theorem dX1_run_1 : decode cX1_run 1 = .ok (.iload_n 1, 1) := dk_27 (dk_at dksX1_run_0 1 rfl rfl)
theorem dX1_run_2 : decode cX1_run 2 = .ok (.iconst 0, 1) := dk_3 (dk_at dksX1_run_0 2 rfl rfl)
theorem dX1_run_3 : decode cX1_run 3 = .ok (.aload_n 0, 1) := dk_42 (dk_at dksX1_run_0 3 rfl rfl)
theorem dX1_run_4 : decode cX1_run 4 = .ok (.getfield 199, 3) := dk_180 0 199 (dk_at dksX1_run_0 4 rfl rfl)
theorem dX1_run_7 : decode cX1_run 7 = .ok (.iconst 1, 1) := dk_4 (dk_at dksX1_run_0 7 rfl rfl)
theorem dX1_run_8 : decode cX1_run 8 = .ok (.isub, 1) := dk_100 (dk_at dksX1_run_0 8 rfl rfl)
theorem dX1_run_9 : decode cX1_run 9 = .ok (.invokestatic 127, 3) := dk_184 0 127 (dk_at dksX1_run_0 9 rfl rfl)
theorem dX1_run_12 : decode cX1_run 12 = .ok (.ifCond .ne 7, 3) := dk_154 0 7 (dk_at dksX1_run_0 12 rfl rfl)
theorem dX1_run_15 : decode cX1_run 15 = .ok (.iconst 0, 1) := dk_3 (dk_at dksX1_run_0 15 rfl rfl)
theorem dX1_run_16 : decode cX1_run 16 = .ok (.goto 9, 3) := dk_167 0 9 (dk_at dksX1_run_0 16 rfl rfl)
theorem dX1_run_19 : decode cX1_run 19 = .ok (.aload_n 0, 1) := dk_42 (dk_at dksX1_run_0 19 rfl rfl)
theorem dX1_run_20 : decode cX1_run 20 = .ok (.iload_n 2, 1) := dk_28 (dk_at dksX1_run_0 20 rfl rfl)
theorem dX1_run_21 : decode cX1_run 21 = .ok (.iconst 1, 1) := dk_4 (dk_at dksX1_run_0 21 rfl rfl)
theorem dX1_run_22 : decode cX1_run 22 = .ok (.invokevirtual 422, 3) := dk_182 1 166 (dk_at dksX1_run_1 0 rfl rfl)
theorem dX1_run_25 : decode cX1_run 25 = .ok (.invokevirtual 212, 3) := dk_182 0 212 (dk_at dksX1_run_1 3 rfl rfl)
theorem dX1_run_28 : decode cX1_run 28 = .ok (.ifCond .eq 5, 3) := dk_153 0 5 (dk_at dksX1_run_1 6 rfl rfl)
theorem dX1_run_31 : decode cX1_run 31 = .ok (.iconst (-1), 1) := dk_2 (dk_at dksX1_run_1 9 rfl rfl)
theorem dX1_run_32 : decode cX1_run 32 = .ok (.ireturn, 1) := dk_172 (dk_at dksX1_run_1 10 rfl rfl)
theorem dX1_run_33 : decode cX1_run 33 = .ok (.iconst 0, 1) := dk_3 (dk_at dksX1_run_1 11 rfl rfl)
theorem dX1_run_34 : decode cX1_run 34 = .ok (.istore_n 3, 1) := dk_62 (dk_at dksX1_run_1 12 rfl rfl)
theorem dX1_run_35 : decode cX1_run 35 = .ok (.iload_n 3, 1) := dk_29 (dk_at dksX1_run_1 13 rfl rfl)
theorem dX1_run_36 : decode cX1_run 36 = .ok (.aload_n 0, 1) := dk_42 (dk_at dksX1_run_1 14 rfl rfl)
theorem dX1_run_37 : decode cX1_run 37 = .ok (.getfield 51, 3) := dk_180 0 51 (dk_at dksX1_run_1 15 rfl rfl)
theorem dX1_run_40 : decode cX1_run 40 = .ok (.iload_n 1, 1) := dk_27 (dk_at dksX1_run_1 18 rfl rfl)
theorem dX1_run_41 : decode cX1_run 41 = .ok (.iaload, 1) := dk_46 (dk_at dksX1_run_1 19 rfl rfl)
theorem dX1_run_42 : decode cX1_run 42 = .ok (.if_icmp .ge 25, 3) := dk_162 0 25 (dk_at dksX1_run_1 20 rfl rfl)
theorem dX1_run_45 : decode cX1_run 45 = .ok (.aload_n 0, 1) := dk_42 (dk_at dksX1_run_1 23 rfl rfl)
theorem dX1_run_46 : decode cX1_run 46 = .ok (.iload_n 2, 1) := dk_28 (dk_at dksX1_run_2 0 rfl rfl)
theorem dX1_run_47 : decode cX1_run 47 = .ok (.iconst 4, 1) := dk_7 (dk_at dksX1_run_2 1 rfl rfl)
theorem dX1_run_48 : decode cX1_run 48 = .ok (.bipush 16, 2) := dk_16 16 (dk_at dksX1_run_2 2 rfl rfl)
theorem dX1_run_50 : decode cX1_run 50 = .ok (.iload_n 1, 1) := dk_27 (dk_at dksX1_run_2 4 rfl rfl)
theorem dX1_run_51 : decode cX1_run 51 = .ok (.imul, 1) := dk_104 (dk_at dksX1_run_2 5 rfl rfl)
theorem dX1_run_52 : decode cX1_run 52 = .ok (.iload_n 3, 1) := dk_29 (dk_at dksX1_run_2 6 rfl rfl)
theorem dX1_run_53 : decode cX1_run 53 = .ok (.iadd, 1) := dk_96 (dk_at dksX1_run_2 7 rfl rfl)
theorem dX1_run_54 : decode cX1_run 54 = .ok (.imul, 1) := dk_104 (dk_at dksX1_run_2 8 rfl rfl)
theorem dX1_run_55 : decode cX1_run 55 = .ok (.invokevirtual 458, 3) := dk_182 1 202 (dk_at dksX1_run_2 9 rfl rfl)
theorem dX1_run_58 : decode cX1_run 58 = .ok (.ifCond .eq 9, 3) := dk_153 0 9 (dk_at dksX1_run_2 12 rfl rfl)
theorem dX1_run_61 : decode cX1_run 61 = .ok (.iinc 3 1, 3) := dk_132 3 1 (dk_at dksX1_run_2 15 rfl rfl)
theorem dX1_run_64 : decode cX1_run 64 = .ok (.goto (-29), 3) := dk_167 255 227 (dk_at dksX1_run_2 18 rfl rfl)
theorem dX1_run_67 : decode cX1_run 67 = .ok (.iload_n 3, 1) := dk_29 (dk_at dksX1_run_2 21 rfl rfl)
theorem dX1_run_68 : decode cX1_run 68 = .ok (.ireturn, 1) := dk_172 (dk_at dksX1_run_2 22 rfl rfl)
abbrev cX1_doStep : ByteArray := prog_1_method_91_code
def yX1_doStep : MethodName := ⟨RX1, "doStep", "(II)Z"⟩
def dkwX1_doStep_7 : List UInt8 := [28, 6, 96, 46, 182, 1, 179, 42, 27, 21, 6, 182, 1, 176, 87, 4, 172]
abbrev dktX1_doStep_7 : List UInt8 := dkwX1_doStep_7 ++ []
def dkwX1_doStep_6 : List UInt8 := [182, 1, 74, 167, 0, 28, 42, 29, 21, 4, 182, 1, 157, 167, 0, 18, 42, 29, 21, 4, 42, 180, 0, 47]
abbrev dktX1_doStep_6 : List UInt8 := dkwX1_doStep_6 ++ dktX1_doStep_7
def dkwX1_doStep_5 : List UInt8 := [42, 29, 21, 4, 182, 0, 222, 167, 0, 46, 42, 29, 182, 1, 71, 167, 0, 38, 42, 29, 21, 4]
abbrev dktX1_doStep_5 : List UInt8 := dkwX1_doStep_5 ++ dktX1_doStep_6
def dkwX1_doStep_4 : List UInt8 := [170, 0, 0, 0, 0, 68, 0, 0, 0, 0, 0, 0, 0, 3, 0, 0, 0, 30, 0, 0, 0, 40, 0, 0, 0, 48, 0, 0, 0, 58]
abbrev dktX1_doStep_4 : List UInt8 := dkwX1_doStep_4 ++ dktX1_doStep_5
def dkwX1_doStep_3 : List UInt8 := [164, 0, 11, 42, 27, 182, 1, 183, 87, 4, 172, 42, 27, 182, 1, 173, 54, 6, 21, 5]
abbrev dktX1_doStep_3 : List UInt8 := dkwX1_doStep_3 ++ dktX1_doStep_4
def dkwX1_doStep_2 : List UInt8 := [182, 1, 117, 153, 0, 16, 21, 5, 7, 164, 0, 12, 42, 182, 0, 208, 154, 0, 5, 3, 172, 21, 5, 7]
abbrev dktX1_doStep_2 : List UInt8 := dkwX1_doStep_2 ++ dktX1_doStep_3
def dkwX1_doStep_1 : List UInt8 := [46, 54, 5, 21, 5, 153, 0, 9, 21, 5, 5, 160, 0, 17, 42, 42, 180, 0, 85, 27, 50, 29]
abbrev dktX1_doStep_1 : List UInt8 := dkwX1_doStep_1 ++ dktX1_doStep_2
def dkwX1_doStep_0 : List UInt8 := [42, 180, 0, 47, 28, 4, 96, 46, 62, 42, 180, 0, 47, 28, 5, 96, 46, 54, 4, 42, 180, 0, 47, 28]
abbrev dktX1_doStep_0 : List UInt8 := dkwX1_doStep_0 ++ dktX1_doStep_1
theorem dksX1_doStep_0 : cX1_doStep.data.toList.drop 0 = dktX1_doStep_0 := by decide +kernel
theorem dksX1_doStep_1 : cX1_doStep.data.toList.drop 24 = dktX1_doStep_1 := dk_seg dksX1_doStep_0 24 rfl rfl
theorem dksX1_doStep_2 : cX1_doStep.data.toList.drop 46 = dktX1_doStep_2 := dk_seg dksX1_doStep_1 22 rfl rfl
theorem dksX1_doStep_3 : cX1_doStep.data.toList.drop 70 = dktX1_doStep_3 := dk_seg dksX1_doStep_2 24 rfl rfl
theorem dksX1_doStep_4 : cX1_doStep.data.toList.drop 90 = dktX1_doStep_4 := dk_seg dksX1_doStep_3 20 rfl rfl
theorem dksX1_doStep_5 : cX1_doStep.data.toList.drop 120 = dktX1_doStep_5 := dk_seg dksX1_doStep_4 30 rfl rfl
theorem dksX1_doStep_6 : cX1_doStep.data.toList.drop 142 = dktX1_doStep_6 := dk_seg dksX1_doStep_5 22 rfl rfl
theorem dksX1_doStep_7 : cX1_doStep.data.toList.drop 166 = dktX1_doStep_7 := dk_seg dksX1_doStep_6 24 rfl rfl
theorem dX1_doStep_0 : decode cX1_doStep 0 = .ok (.aload_n 0, 1) := dk_42 (dk_at dksX1_doStep_0 0 rfl rfl)
theorem dX1_doStep_1 : decode cX1_doStep 1 = .ok (.getfield 47, 3) := dk_180 0 47 (dk_at dksX1_doStep_0 1 rfl rfl)
theorem dX1_doStep_4 : decode cX1_doStep 4 = .ok (.iload_n 2, 1) := dk_28 (dk_at dksX1_doStep_0 4 rfl rfl)
theorem dX1_doStep_5 : decode cX1_doStep 5 = .ok (.iconst 1, 1) := dk_4 (dk_at dksX1_doStep_0 5 rfl rfl)
theorem dX1_doStep_6 : decode cX1_doStep 6 = .ok (.iadd, 1) := dk_96 (dk_at dksX1_doStep_0 6 rfl rfl)
theorem dX1_doStep_7 : decode cX1_doStep 7 = .ok (.iaload, 1) := dk_46 (dk_at dksX1_doStep_0 7 rfl rfl)
theorem dX1_doStep_8 : decode cX1_doStep 8 = .ok (.istore_n 3, 1) := dk_62 (dk_at dksX1_doStep_0 8 rfl rfl)
theorem dX1_doStep_9 : decode cX1_doStep 9 = .ok (.aload_n 0, 1) := dk_42 (dk_at dksX1_doStep_0 9 rfl rfl)
theorem dX1_doStep_10 : decode cX1_doStep 10 = .ok (.getfield 47, 3) := dk_180 0 47 (dk_at dksX1_doStep_0 10 rfl rfl)
theorem dX1_doStep_13 : decode cX1_doStep 13 = .ok (.iload_n 2, 1) := dk_28 (dk_at dksX1_doStep_0 13 rfl rfl)
theorem dX1_doStep_14 : decode cX1_doStep 14 = .ok (.iconst 2, 1) := dk_5 (dk_at dksX1_doStep_0 14 rfl rfl)
theorem dX1_doStep_15 : decode cX1_doStep 15 = .ok (.iadd, 1) := dk_96 (dk_at dksX1_doStep_0 15 rfl rfl)
theorem dX1_doStep_16 : decode cX1_doStep 16 = .ok (.iaload, 1) := dk_46 (dk_at dksX1_doStep_0 16 rfl rfl)
theorem dX1_doStep_17 : decode cX1_doStep 17 = .ok (.istore 4, 2) := dk_54 4 (dk_at dksX1_doStep_0 17 rfl rfl)
theorem dX1_doStep_19 : decode cX1_doStep 19 = .ok (.aload_n 0, 1) := dk_42 (dk_at dksX1_doStep_0 19 rfl rfl)
theorem dX1_doStep_20 : decode cX1_doStep 20 = .ok (.getfield 47, 3) := dk_180 0 47 (dk_at dksX1_doStep_0 20 rfl rfl)
theorem dX1_doStep_23 : decode cX1_doStep 23 = .ok (.iload_n 2, 1) := dk_28 (dk_at dksX1_doStep_0 23 rfl rfl)
theorem dX1_doStep_24 : decode cX1_doStep 24 = .ok (.iaload, 1) := dk_46 (dk_at dksX1_doStep_1 0 rfl rfl)
theorem dX1_doStep_25 : decode cX1_doStep 25 = .ok (.istore 5, 2) := dk_54 5 (dk_at dksX1_doStep_1 1 rfl rfl)
theorem dX1_doStep_27 : decode cX1_doStep 27 = .ok (.iload 5, 2) := dk_21 5 (dk_at dksX1_doStep_1 3 rfl rfl)
theorem dX1_doStep_29 : decode cX1_doStep 29 = .ok (.ifCond .eq 9, 3) := dk_153 0 9 (dk_at dksX1_doStep_1 5 rfl rfl)
theorem dX1_doStep_32 : decode cX1_doStep 32 = .ok (.iload 5, 2) := dk_21 5 (dk_at dksX1_doStep_1 8 rfl rfl)
theorem dX1_doStep_34 : decode cX1_doStep 34 = .ok (.iconst 2, 1) := dk_5 (dk_at dksX1_doStep_1 10 rfl rfl)
theorem dX1_doStep_35 : decode cX1_doStep 35 = .ok (.if_icmp .ne 17, 3) := dk_160 0 17 (dk_at dksX1_doStep_1 11 rfl rfl)
theorem dX1_doStep_38 : decode cX1_doStep 38 = .ok (.aload_n 0, 1) := dk_42 (dk_at dksX1_doStep_1 14 rfl rfl)
theorem dX1_doStep_39 : decode cX1_doStep 39 = .ok (.aload_n 0, 1) := dk_42 (dk_at dksX1_doStep_1 15 rfl rfl)
theorem dX1_doStep_40 : decode cX1_doStep 40 = .ok (.getfield 85, 3) := dk_180 0 85 (dk_at dksX1_doStep_1 16 rfl rfl)
theorem dX1_doStep_43 : decode cX1_doStep 43 = .ok (.iload_n 1, 1) := dk_27 (dk_at dksX1_doStep_1 19 rfl rfl)
theorem dX1_doStep_44 : decode cX1_doStep 44 = .ok (.aaload, 1) := dk_50 (dk_at dksX1_doStep_1 20 rfl rfl)
theorem dX1_doStep_45 : decode cX1_doStep 45 = .ok (.iload_n 3, 1) := dk_29 (dk_at dksX1_doStep_1 21 rfl rfl)
theorem dX1_doStep_46 : decode cX1_doStep 46 = .ok (.invokevirtual 373, 3) := dk_182 1 117 (dk_at dksX1_doStep_2 0 rfl rfl)
theorem dX1_doStep_49 : decode cX1_doStep 49 = .ok (.ifCond .eq 16, 3) := dk_153 0 16 (dk_at dksX1_doStep_2 3 rfl rfl)
theorem dX1_doStep_52 : decode cX1_doStep 52 = .ok (.iload 5, 2) := dk_21 5 (dk_at dksX1_doStep_2 6 rfl rfl)
theorem dX1_doStep_54 : decode cX1_doStep 54 = .ok (.iconst 4, 1) := dk_7 (dk_at dksX1_doStep_2 8 rfl rfl)
theorem dX1_doStep_55 : decode cX1_doStep 55 = .ok (.if_icmp .le 12, 3) := dk_164 0 12 (dk_at dksX1_doStep_2 9 rfl rfl)
theorem dX1_doStep_58 : decode cX1_doStep 58 = .ok (.aload_n 0, 1) := dk_42 (dk_at dksX1_doStep_2 12 rfl rfl)
theorem dX1_doStep_59 : decode cX1_doStep 59 = .ok (.invokevirtual 208, 3) := dk_182 0 208 (dk_at dksX1_doStep_2 13 rfl rfl)
theorem dX1_doStep_62 : decode cX1_doStep 62 = .ok (.ifCond .ne 5, 3) := dk_154 0 5 (dk_at dksX1_doStep_2 16 rfl rfl)
theorem dX1_doStep_65 : decode cX1_doStep 65 = .ok (.iconst 0, 1) := dk_3 (dk_at dksX1_doStep_2 19 rfl rfl)
theorem dX1_doStep_66 : decode cX1_doStep 66 = .ok (.ireturn, 1) := dk_172 (dk_at dksX1_doStep_2 20 rfl rfl)
theorem dX1_doStep_67 : decode cX1_doStep 67 = .ok (.iload 5, 2) := dk_21 5 (dk_at dksX1_doStep_2 21 rfl rfl)
theorem dX1_doStep_69 : decode cX1_doStep 69 = .ok (.iconst 4, 1) := dk_7 (dk_at dksX1_doStep_2 23 rfl rfl)
theorem dX1_doStep_70 : decode cX1_doStep 70 = .ok (.if_icmp .le 11, 3) := dk_164 0 11 (dk_at dksX1_doStep_3 0 rfl rfl)
theorem dX1_doStep_73 : decode cX1_doStep 73 = .ok (.aload_n 0, 1) := dk_42 (dk_at dksX1_doStep_3 3 rfl rfl)
theorem dX1_doStep_74 : decode cX1_doStep 74 = .ok (.iload_n 1, 1) := dk_27 (dk_at dksX1_doStep_3 4 rfl rfl)
theorem dX1_doStep_75 : decode cX1_doStep 75 = .ok (.invokevirtual 439, 3) := dk_182 1 183 (dk_at dksX1_doStep_3 5 rfl rfl)
theorem dX1_doStep_78 : decode cX1_doStep 78 = .ok (.pop, 1) := dk_87 (dk_at dksX1_doStep_3 8 rfl rfl)
theorem dX1_doStep_79 : decode cX1_doStep 79 = .ok (.iconst 1, 1) := dk_4 (dk_at dksX1_doStep_3 9 rfl rfl)
theorem dX1_doStep_80 : decode cX1_doStep 80 = .ok (.ireturn, 1) := dk_172 (dk_at dksX1_doStep_3 10 rfl rfl)
theorem dX1_doStep_81 : decode cX1_doStep 81 = .ok (.aload_n 0, 1) := dk_42 (dk_at dksX1_doStep_3 11 rfl rfl)
theorem dX1_doStep_82 : decode cX1_doStep 82 = .ok (.iload_n 1, 1) := dk_27 (dk_at dksX1_doStep_3 12 rfl rfl)
theorem dX1_doStep_83 : decode cX1_doStep 83 = .ok (.invokevirtual 429, 3) := dk_182 1 173 (dk_at dksX1_doStep_3 13 rfl rfl)
theorem dX1_doStep_86 : decode cX1_doStep 86 = .ok (.istore 6, 2) := dk_54 6 (dk_at dksX1_doStep_3 16 rfl rfl)
theorem dX1_doStep_88 : decode cX1_doStep 88 = .ok (.iload 5, 2) := dk_21 5 (dk_at dksX1_doStep_3 18 rfl rfl)
theorem dX1_doStep_90 : decode cX1_doStep 90 = .ok (.tableswitch 68 0 3 #[30, 40, 48, 58], 30) := by decide +kernel
theorem dX1_doStep_120 : decode cX1_doStep 120 = .ok (.aload_n 0, 1) := dk_42 (dk_at dksX1_doStep_5 0 rfl rfl)
theorem dX1_doStep_121 : decode cX1_doStep 121 = .ok (.iload_n 3, 1) := dk_29 (dk_at dksX1_doStep_5 1 rfl rfl)
theorem dX1_doStep_122 : decode cX1_doStep 122 = .ok (.iload 4, 2) := dk_21 4 (dk_at dksX1_doStep_5 2 rfl rfl)
theorem dX1_doStep_124 : decode cX1_doStep 124 = .ok (.invokevirtual 222, 3) := dk_182 0 222 (dk_at dksX1_doStep_5 4 rfl rfl)
theorem dX1_doStep_127 : decode cX1_doStep 127 = .ok (.goto 46, 3) := dk_167 0 46 (dk_at dksX1_doStep_5 7 rfl rfl)
theorem dX1_doStep_130 : decode cX1_doStep 130 = .ok (.aload_n 0, 1) := dk_42 (dk_at dksX1_doStep_5 10 rfl rfl)
theorem dX1_doStep_131 : decode cX1_doStep 131 = .ok (.iload_n 3, 1) := dk_29 (dk_at dksX1_doStep_5 11 rfl rfl)
theorem dX1_doStep_132 : decode cX1_doStep 132 = .ok (.invokevirtual 327, 3) := dk_182 1 71 (dk_at dksX1_doStep_5 12 rfl rfl)
theorem dX1_doStep_135 : decode cX1_doStep 135 = .ok (.goto 38, 3) := dk_167 0 38 (dk_at dksX1_doStep_5 15 rfl rfl)
theorem dX1_doStep_138 : decode cX1_doStep 138 = .ok (.aload_n 0, 1) := dk_42 (dk_at dksX1_doStep_5 18 rfl rfl)
theorem dX1_doStep_139 : decode cX1_doStep 139 = .ok (.iload_n 3, 1) := dk_29 (dk_at dksX1_doStep_5 19 rfl rfl)
theorem dX1_doStep_140 : decode cX1_doStep 140 = .ok (.iload 4, 2) := dk_21 4 (dk_at dksX1_doStep_5 20 rfl rfl)
theorem dX1_doStep_142 : decode cX1_doStep 142 = .ok (.invokevirtual 330, 3) := dk_182 1 74 (dk_at dksX1_doStep_6 0 rfl rfl)
theorem dX1_doStep_145 : decode cX1_doStep 145 = .ok (.goto 28, 3) := dk_167 0 28 (dk_at dksX1_doStep_6 3 rfl rfl)
theorem dX1_doStep_148 : decode cX1_doStep 148 = .ok (.aload_n 0, 1) := dk_42 (dk_at dksX1_doStep_6 6 rfl rfl)
theorem dX1_doStep_149 : decode cX1_doStep 149 = .ok (.iload_n 3, 1) := dk_29 (dk_at dksX1_doStep_6 7 rfl rfl)
theorem dX1_doStep_150 : decode cX1_doStep 150 = .ok (.iload 4, 2) := dk_21 4 (dk_at dksX1_doStep_6 8 rfl rfl)
theorem dX1_doStep_152 : decode cX1_doStep 152 = .ok (.invokevirtual 413, 3) := dk_182 1 157 (dk_at dksX1_doStep_6 10 rfl rfl)
theorem dX1_doStep_155 : decode cX1_doStep 155 = .ok (.goto 18, 3) := dk_167 0 18 (dk_at dksX1_doStep_6 13 rfl rfl)
theorem dX1_doStep_158 : decode cX1_doStep 158 = .ok (.aload_n 0, 1) := dk_42 (dk_at dksX1_doStep_6 16 rfl rfl)
theorem dX1_doStep_159 : decode cX1_doStep 159 = .ok (.iload_n 3, 1) := dk_29 (dk_at dksX1_doStep_6 17 rfl rfl)
theorem dX1_doStep_160 : decode cX1_doStep 160 = .ok (.iload 4, 2) := dk_21 4 (dk_at dksX1_doStep_6 18 rfl rfl)
theorem dX1_doStep_162 : decode cX1_doStep 162 = .ok (.aload_n 0, 1) := dk_42 (dk_at dksX1_doStep_6 20 rfl rfl)
theorem dX1_doStep_163 : decode cX1_doStep 163 = .ok (.getfield 47, 3) := dk_180 0 47 (dk_at dksX1_doStep_6 21 rfl rfl)
theorem dX1_doStep_166 : decode cX1_doStep 166 = .ok (.iload_n 2, 1) := dk_28 (dk_at dksX1_doStep_7 0 rfl rfl)
theorem dX1_doStep_167 : decode cX1_doStep 167 = .ok (.iconst 3, 1) := dk_6 (dk_at dksX1_doStep_7 1 rfl rfl)
theorem dX1_doStep_168 : decode cX1_doStep 168 = .ok (.iadd, 1) := dk_96 (dk_at dksX1_doStep_7 2 rfl rfl)
theorem dX1_doStep_169 : decode cX1_doStep 169 = .ok (.iaload, 1) := dk_46 (dk_at dksX1_doStep_7 3 rfl rfl)
theorem dX1_doStep_170 : decode cX1_doStep 170 = .ok (.invokevirtual 435, 3) := dk_182 1 179 (dk_at dksX1_doStep_7 4 rfl rfl)
theorem dX1_doStep_173 : decode cX1_doStep 173 = .ok (.aload_n 0, 1) := dk_42 (dk_at dksX1_doStep_7 7 rfl rfl)
theorem dX1_doStep_174 : decode cX1_doStep 174 = .ok (.iload_n 1, 1) := dk_27 (dk_at dksX1_doStep_7 8 rfl rfl)
theorem dX1_doStep_175 : decode cX1_doStep 175 = .ok (.iload 6, 2) := dk_21 6 (dk_at dksX1_doStep_7 9 rfl rfl)
theorem dX1_doStep_177 : decode cX1_doStep 177 = .ok (.invokevirtual 432, 3) := dk_182 1 176 (dk_at dksX1_doStep_7 11 rfl rfl)
theorem dX1_doStep_180 : decode cX1_doStep 180 = .ok (.pop, 1) := dk_87 (dk_at dksX1_doStep_7 14 rfl rfl)
theorem dX1_doStep_181 : decode cX1_doStep 181 = .ok (.iconst 1, 1) := dk_4 (dk_at dksX1_doStep_7 15 rfl rfl)
theorem dX1_doStep_182 : decode cX1_doStep 182 = .ok (.ireturn, 1) := dk_172 (dk_at dksX1_doStep_7 16 rfl rfl)
abbrev cX1_shared : ByteArray := prog_1_method_95_code
def yX1_shared : MethodName := ⟨RX1, "shared", "(II)I"⟩
def dkwX1_shared_1 : List UInt8 := [167, 0, 4, 2, 172]
abbrev dktX1_shared_1 : List UInt8 := dkwX1_shared_1 ++ []
def dkwX1_shared_0 : List UInt8 := [42, 27, 28, 182, 1, 206, 153, 0, 20, 42, 42, 27, 182, 1, 80, 42, 28, 182, 1, 80, 182, 1, 209]
abbrev dktX1_shared_0 : List UInt8 := dkwX1_shared_0 ++ dktX1_shared_1
theorem dksX1_shared_0 : cX1_shared.data.toList.drop 0 = dktX1_shared_0 := by decide +kernel
theorem dksX1_shared_1 : cX1_shared.data.toList.drop 23 = dktX1_shared_1 := dk_seg dksX1_shared_0 23 rfl rfl
theorem dX1_shared_0 : decode cX1_shared 0 = .ok (.aload_n 0, 1) := dk_42 (dk_at dksX1_shared_0 0 rfl rfl)
theorem dX1_shared_1 : decode cX1_shared 1 = .ok (.iload_n 1, 1) := dk_27 (dk_at dksX1_shared_0 1 rfl rfl)
theorem dX1_shared_2 : decode cX1_shared 2 = .ok (.iload_n 2, 1) := dk_28 (dk_at dksX1_shared_0 2 rfl rfl)
theorem dX1_shared_3 : decode cX1_shared 3 = .ok (.invokevirtual 462, 3) := dk_182 1 206 (dk_at dksX1_shared_0 3 rfl rfl)
theorem dX1_shared_6 : decode cX1_shared 6 = .ok (.ifCond .eq 20, 3) := dk_153 0 20 (dk_at dksX1_shared_0 6 rfl rfl)
theorem dX1_shared_9 : decode cX1_shared 9 = .ok (.aload_n 0, 1) := dk_42 (dk_at dksX1_shared_0 9 rfl rfl)
theorem dX1_shared_10 : decode cX1_shared 10 = .ok (.aload_n 0, 1) := dk_42 (dk_at dksX1_shared_0 10 rfl rfl)
theorem dX1_shared_11 : decode cX1_shared 11 = .ok (.iload_n 1, 1) := dk_27 (dk_at dksX1_shared_0 11 rfl rfl)
theorem dX1_shared_12 : decode cX1_shared 12 = .ok (.invokevirtual 336, 3) := dk_182 1 80 (dk_at dksX1_shared_0 12 rfl rfl)
theorem dX1_shared_15 : decode cX1_shared 15 = .ok (.aload_n 0, 1) := dk_42 (dk_at dksX1_shared_0 15 rfl rfl)
theorem dX1_shared_16 : decode cX1_shared 16 = .ok (.iload_n 2, 1) := dk_28 (dk_at dksX1_shared_0 16 rfl rfl)
theorem dX1_shared_17 : decode cX1_shared 17 = .ok (.invokevirtual 336, 3) := dk_182 1 80 (dk_at dksX1_shared_0 17 rfl rfl)
theorem dX1_shared_20 : decode cX1_shared 20 = .ok (.invokevirtual 465, 3) := dk_182 1 209 (dk_at dksX1_shared_0 20 rfl rfl)
theorem dX1_shared_23 : decode cX1_shared 23 = .ok (.goto 4, 3) := dk_167 0 4 (dk_at dksX1_shared_1 0 rfl rfl)
theorem dX1_shared_26 : decode cX1_shared 26 = .ok (.iconst (-1), 1) := dk_2 (dk_at dksX1_shared_1 3 rfl rfl)
theorem dX1_shared_27 : decode cX1_shared 27 = .ok (.ireturn, 1) := dk_172 (dk_at dksX1_shared_1 4 rfl rfl)
abbrev cX1_areMaps : ByteArray := prog_1_method_93_code
def yX1_areMaps : MethodName := ⟨RX1, "areMaps", "(II)Z"⟩
def dkwX1_areMaps_0 : List UInt8 := [42, 27, 182, 1, 77, 153, 0, 15, 42, 28, 182, 1, 77, 153, 0, 7, 4, 167, 0, 4, 3, 172]
abbrev dktX1_areMaps_0 : List UInt8 := dkwX1_areMaps_0 ++ []
theorem dksX1_areMaps_0 : cX1_areMaps.data.toList.drop 0 = dktX1_areMaps_0 := by decide +kernel
theorem dX1_areMaps_0 : decode cX1_areMaps 0 = .ok (.aload_n 0, 1) := dk_42 (dk_at dksX1_areMaps_0 0 rfl rfl)
theorem dX1_areMaps_1 : decode cX1_areMaps 1 = .ok (.iload_n 1, 1) := dk_27 (dk_at dksX1_areMaps_0 1 rfl rfl)
theorem dX1_areMaps_2 : decode cX1_areMaps 2 = .ok (.invokevirtual 333, 3) := dk_182 1 77 (dk_at dksX1_areMaps_0 2 rfl rfl)
theorem dX1_areMaps_5 : decode cX1_areMaps 5 = .ok (.ifCond .eq 15, 3) := dk_153 0 15 (dk_at dksX1_areMaps_0 5 rfl rfl)
theorem dX1_areMaps_8 : decode cX1_areMaps 8 = .ok (.aload_n 0, 1) := dk_42 (dk_at dksX1_areMaps_0 8 rfl rfl)
theorem dX1_areMaps_9 : decode cX1_areMaps 9 = .ok (.iload_n 2, 1) := dk_28 (dk_at dksX1_areMaps_0 9 rfl rfl)
theorem dX1_areMaps_10 : decode cX1_areMaps 10 = .ok (.invokevirtual 333, 3) := dk_182 1 77 (dk_at dksX1_areMaps_0 10 rfl rfl)
theorem dX1_areMaps_13 : decode cX1_areMaps 13 = .ok (.ifCond .eq 7, 3) := dk_153 0 7 (dk_at dksX1_areMaps_0 13 rfl rfl)
theorem dX1_areMaps_16 : decode cX1_areMaps 16 = .ok (.iconst 1, 1) := dk_4 (dk_at dksX1_areMaps_0 16 rfl rfl)
theorem dX1_areMaps_17 : decode cX1_areMaps 17 = .ok (.goto 4, 3) := dk_167 0 4 (dk_at dksX1_areMaps_0 17 rfl rfl)
theorem dX1_areMaps_20 : decode cX1_areMaps 20 = .ok (.iconst 0, 1) := dk_3 (dk_at dksX1_areMaps_0 20 rfl rfl)
theorem dX1_areMaps_21 : decode cX1_areMaps 21 = .ok (.ireturn, 1) := dk_172 (dk_at dksX1_areMaps_0 21 rfl rfl)
abbrev cX1_sharedOf : ByteArray := prog_1_method_94_code
def yX1_sharedOf : MethodName := ⟨RX1, "sharedOf", "(LWideMap$Node;LWideMap$Node;)I"⟩
def dkwX1_sharedOf_1 : List UInt8 := [5, 42, 180, 1, 136, 1, 185, 1, 7, 4, 0, 172]
abbrev dktX1_sharedOf_1 : List UInt8 := dkwX1_sharedOf_1 ++ []
def dkwX1_sharedOf_0 : List UInt8 := [42, 89, 180, 1, 136, 4, 96, 181, 1, 136, 43, 6, 42, 180, 1, 136, 1, 185, 1, 7, 4, 0, 87, 44]
abbrev dktX1_sharedOf_0 : List UInt8 := dkwX1_sharedOf_0 ++ dktX1_sharedOf_1
theorem dksX1_sharedOf_0 : cX1_sharedOf.data.toList.drop 0 = dktX1_sharedOf_0 := by decide +kernel
theorem dksX1_sharedOf_1 : cX1_sharedOf.data.toList.drop 24 = dktX1_sharedOf_1 := dk_seg dksX1_sharedOf_0 24 rfl rfl
theorem dX1_sharedOf_0 : decode cX1_sharedOf 0 = .ok (.aload_n 0, 1) := dk_42 (dk_at dksX1_sharedOf_0 0 rfl rfl)
theorem dX1_sharedOf_1 : decode cX1_sharedOf 1 = .ok (.dup, 1) := dk_89 (dk_at dksX1_sharedOf_0 1 rfl rfl)
theorem dX1_sharedOf_2 : decode cX1_sharedOf 2 = .ok (.getfield 392, 3) := dk_180 1 136 (dk_at dksX1_sharedOf_0 2 rfl rfl)
theorem dX1_sharedOf_5 : decode cX1_sharedOf 5 = .ok (.iconst 1, 1) := dk_4 (dk_at dksX1_sharedOf_0 5 rfl rfl)
theorem dX1_sharedOf_6 : decode cX1_sharedOf 6 = .ok (.iadd, 1) := dk_96 (dk_at dksX1_sharedOf_0 6 rfl rfl)
theorem dX1_sharedOf_7 : decode cX1_sharedOf 7 = .ok (.putfield 392, 3) := dk_181 1 136 (dk_at dksX1_sharedOf_0 7 rfl rfl)
theorem dX1_sharedOf_10 : decode cX1_sharedOf 10 = .ok (.aload_n 1, 1) := dk_43 (dk_at dksX1_sharedOf_0 10 rfl rfl)
theorem dX1_sharedOf_11 : decode cX1_sharedOf 11 = .ok (.iconst 3, 1) := dk_6 (dk_at dksX1_sharedOf_0 11 rfl rfl)
theorem dX1_sharedOf_12 : decode cX1_sharedOf 12 = .ok (.aload_n 0, 1) := dk_42 (dk_at dksX1_sharedOf_0 12 rfl rfl)
theorem dX1_sharedOf_13 : decode cX1_sharedOf 13 = .ok (.getfield 392, 3) := dk_180 1 136 (dk_at dksX1_sharedOf_0 13 rfl rfl)
theorem dX1_sharedOf_16 : decode cX1_sharedOf 16 = .ok (.aconst_null, 1) := dk_1 (dk_at dksX1_sharedOf_0 16 rfl rfl)
theorem dX1_sharedOf_17 : decode cX1_sharedOf 17 = .ok (.invokeinterface 263 4, 5) := by decide +kernel
theorem dX1_sharedOf_22 : decode cX1_sharedOf 22 = .ok (.pop, 1) := dk_87 (dk_at dksX1_sharedOf_0 22 rfl rfl)
theorem dX1_sharedOf_23 : decode cX1_sharedOf 23 = .ok (.aload_n 2, 1) := dk_44 (dk_at dksX1_sharedOf_0 23 rfl rfl)
theorem dX1_sharedOf_24 : decode cX1_sharedOf 24 = .ok (.iconst 2, 1) := dk_5 (dk_at dksX1_sharedOf_1 0 rfl rfl)
theorem dX1_sharedOf_25 : decode cX1_sharedOf 25 = .ok (.aload_n 0, 1) := dk_42 (dk_at dksX1_sharedOf_1 1 rfl rfl)
theorem dX1_sharedOf_26 : decode cX1_sharedOf 26 = .ok (.getfield 392, 3) := dk_180 1 136 (dk_at dksX1_sharedOf_1 2 rfl rfl)
theorem dX1_sharedOf_29 : decode cX1_sharedOf 29 = .ok (.aconst_null, 1) := dk_1 (dk_at dksX1_sharedOf_1 5 rfl rfl)
theorem dX1_sharedOf_30 : decode cX1_sharedOf 30 = .ok (.invokeinterface 263 4, 5) := by decide +kernel
theorem dX1_sharedOf_35 : decode cX1_sharedOf 35 = .ok (.ireturn, 1) := dk_172 (dk_at dksX1_sharedOf_1 11 rfl rfl)
abbrev cX1_looked : ByteArray := prog_1_method_96_code
def yX1_looked : MethodName := ⟨RX1, "looked", "(II)I"⟩
def dkwX1_looked_2 : List UInt8 := [182, 1, 80, 182, 1, 209, 104, 100, 172]
abbrev dktX1_looked_2 : List UInt8 := dkwX1_looked_2 ++ []
def dkwX1_looked_1 : List UInt8 := [42, 28, 182, 1, 80, 3, 3, 1, 185, 1, 7, 4, 0, 96, 5, 42, 42, 27, 182, 1, 80, 42, 28]
abbrev dktX1_looked_1 : List UInt8 := dkwX1_looked_1 ++ dktX1_looked_2
def dkwX1_looked_0 : List UInt8 := [42, 27, 28, 182, 1, 206, 154, 0, 5, 2, 172, 42, 27, 182, 1, 80, 3, 3, 1, 185, 1, 7, 4, 0]
abbrev dktX1_looked_0 : List UInt8 := dkwX1_looked_0 ++ dktX1_looked_1
theorem dksX1_looked_0 : cX1_looked.data.toList.drop 0 = dktX1_looked_0 := by decide +kernel
theorem dksX1_looked_1 : cX1_looked.data.toList.drop 24 = dktX1_looked_1 := dk_seg dksX1_looked_0 24 rfl rfl
theorem dksX1_looked_2 : cX1_looked.data.toList.drop 47 = dktX1_looked_2 := dk_seg dksX1_looked_1 23 rfl rfl
theorem dX1_looked_0 : decode cX1_looked 0 = .ok (.aload_n 0, 1) := dk_42 (dk_at dksX1_looked_0 0 rfl rfl)
theorem dX1_looked_1 : decode cX1_looked 1 = .ok (.iload_n 1, 1) := dk_27 (dk_at dksX1_looked_0 1 rfl rfl)
theorem dX1_looked_2 : decode cX1_looked 2 = .ok (.iload_n 2, 1) := dk_28 (dk_at dksX1_looked_0 2 rfl rfl)
theorem dX1_looked_3 : decode cX1_looked 3 = .ok (.invokevirtual 462, 3) := dk_182 1 206 (dk_at dksX1_looked_0 3 rfl rfl)
theorem dX1_looked_6 : decode cX1_looked 6 = .ok (.ifCond .ne 5, 3) := dk_154 0 5 (dk_at dksX1_looked_0 6 rfl rfl)
theorem dX1_looked_9 : decode cX1_looked 9 = .ok (.iconst (-1), 1) := dk_2 (dk_at dksX1_looked_0 9 rfl rfl)
theorem dX1_looked_10 : decode cX1_looked 10 = .ok (.ireturn, 1) := dk_172 (dk_at dksX1_looked_0 10 rfl rfl)
theorem dX1_looked_11 : decode cX1_looked 11 = .ok (.aload_n 0, 1) := dk_42 (dk_at dksX1_looked_0 11 rfl rfl)
theorem dX1_looked_12 : decode cX1_looked 12 = .ok (.iload_n 1, 1) := dk_27 (dk_at dksX1_looked_0 12 rfl rfl)
theorem dX1_looked_13 : decode cX1_looked 13 = .ok (.invokevirtual 336, 3) := dk_182 1 80 (dk_at dksX1_looked_0 13 rfl rfl)
theorem dX1_looked_16 : decode cX1_looked 16 = .ok (.iconst 0, 1) := dk_3 (dk_at dksX1_looked_0 16 rfl rfl)
theorem dX1_looked_17 : decode cX1_looked 17 = .ok (.iconst 0, 1) := dk_3 (dk_at dksX1_looked_0 17 rfl rfl)
theorem dX1_looked_18 : decode cX1_looked 18 = .ok (.aconst_null, 1) := dk_1 (dk_at dksX1_looked_0 18 rfl rfl)
theorem dX1_looked_19 : decode cX1_looked 19 = .ok (.invokeinterface 263 4, 5) := by decide +kernel
theorem dX1_looked_24 : decode cX1_looked 24 = .ok (.aload_n 0, 1) := dk_42 (dk_at dksX1_looked_1 0 rfl rfl)
theorem dX1_looked_25 : decode cX1_looked 25 = .ok (.iload_n 2, 1) := dk_28 (dk_at dksX1_looked_1 1 rfl rfl)
theorem dX1_looked_26 : decode cX1_looked 26 = .ok (.invokevirtual 336, 3) := dk_182 1 80 (dk_at dksX1_looked_1 2 rfl rfl)
theorem dX1_looked_29 : decode cX1_looked 29 = .ok (.iconst 0, 1) := dk_3 (dk_at dksX1_looked_1 5 rfl rfl)
theorem dX1_looked_30 : decode cX1_looked 30 = .ok (.iconst 0, 1) := dk_3 (dk_at dksX1_looked_1 6 rfl rfl)
theorem dX1_looked_31 : decode cX1_looked 31 = .ok (.aconst_null, 1) := dk_1 (dk_at dksX1_looked_1 7 rfl rfl)
theorem dX1_looked_32 : decode cX1_looked 32 = .ok (.invokeinterface 263 4, 5) := by decide +kernel
theorem dX1_looked_37 : decode cX1_looked 37 = .ok (.iadd, 1) := dk_96 (dk_at dksX1_looked_1 13 rfl rfl)
theorem dX1_looked_38 : decode cX1_looked 38 = .ok (.iconst 2, 1) := dk_5 (dk_at dksX1_looked_1 14 rfl rfl)
theorem dX1_looked_39 : decode cX1_looked 39 = .ok (.aload_n 0, 1) := dk_42 (dk_at dksX1_looked_1 15 rfl rfl)
theorem dX1_looked_40 : decode cX1_looked 40 = .ok (.aload_n 0, 1) := dk_42 (dk_at dksX1_looked_1 16 rfl rfl)
theorem dX1_looked_41 : decode cX1_looked 41 = .ok (.iload_n 1, 1) := dk_27 (dk_at dksX1_looked_1 17 rfl rfl)
theorem dX1_looked_42 : decode cX1_looked 42 = .ok (.invokevirtual 336, 3) := dk_182 1 80 (dk_at dksX1_looked_1 18 rfl rfl)
theorem dX1_looked_45 : decode cX1_looked 45 = .ok (.aload_n 0, 1) := dk_42 (dk_at dksX1_looked_1 21 rfl rfl)
theorem dX1_looked_46 : decode cX1_looked 46 = .ok (.iload_n 2, 1) := dk_28 (dk_at dksX1_looked_1 22 rfl rfl)
theorem dX1_looked_47 : decode cX1_looked 47 = .ok (.invokevirtual 336, 3) := dk_182 1 80 (dk_at dksX1_looked_2 0 rfl rfl)
theorem dX1_looked_50 : decode cX1_looked 50 = .ok (.invokevirtual 465, 3) := dk_182 1 209 (dk_at dksX1_looked_2 3 rfl rfl)
theorem dX1_looked_53 : decode cX1_looked 53 = .ok (.imul, 1) := dk_104 (dk_at dksX1_looked_2 6 rfl rfl)
theorem dX1_looked_54 : decode cX1_looked 54 = .ok (.isub, 1) := dk_100 (dk_at dksX1_looked_2 7 rfl rfl)
theorem dX1_looked_55 : decode cX1_looked 55 = .ok (.ireturn, 1) := dk_172 (dk_at dksX1_looked_2 8 rfl rfl)
abbrev cX1_difference : ByteArray := prog_1_method_97_code
def yX1_difference : MethodName := ⟨RX1, "difference", "(IIII)I"⟩
def dkwX1_difference_5 : List UInt8 := [132, 7, 1, 132, 8, 1, 167, 255, 184, 29, 2, 160, 0, 8, 21, 7, 167, 0, 5, 18, 174, 172]
abbrev dktX1_difference_5 : List UInt8 := dkwX1_difference_5 ++ []
def dkwX1_difference_4 : List UInt8 := [21, 4, 154, 0, 8, 21, 8, 167, 0, 16, 21, 4, 4, 160, 0, 8, 21, 9, 167, 0, 5, 21, 10, 172]
abbrev dktX1_difference_4 : List UInt8 := dkwX1_difference_4 ++ dktX1_difference_5
def dkwX1_difference_3 : List UInt8 := [21, 8, 184, 1, 34, 54, 10, 21, 9, 21, 10, 160, 0, 6, 167, 0, 36, 21, 7, 29, 160, 0, 27]
abbrev dktX1_difference_3 : List UInt8 := dkwX1_difference_3 ++ dktX1_difference_4
def dkwX1_difference_2 : List UInt8 := [54, 7, 3, 54, 8, 21, 8, 17, 3, 231, 163, 0, 70, 25, 5, 21, 8, 184, 1, 34, 54, 9, 25, 6]
abbrev dktX1_difference_2 : List UInt8 := dkwX1_difference_2 ++ dktX1_difference_3
def dkwX1_difference_1 : List UInt8 := [184, 0, 127, 154, 0, 6, 18, 174, 172, 42, 27, 182, 1, 80, 58, 5, 42, 28, 182, 1, 80, 58, 6, 3]
abbrev dktX1_difference_1 : List UInt8 := dkwX1_difference_1 ++ dktX1_difference_2
def dkwX1_difference_0 : List UInt8 := [42, 27, 28, 182, 1, 206, 153, 0, 23, 29, 2, 161, 0, 18, 29, 2, 159, 0, 16, 21, 4, 3, 5]
abbrev dktX1_difference_0 : List UInt8 := dkwX1_difference_0 ++ dktX1_difference_1
theorem dksX1_difference_0 : cX1_difference.data.toList.drop 0 = dktX1_difference_0 := by decide +kernel
theorem dksX1_difference_1 : cX1_difference.data.toList.drop 23 = dktX1_difference_1 := dk_seg dksX1_difference_0 23 rfl rfl
theorem dksX1_difference_2 : cX1_difference.data.toList.drop 47 = dktX1_difference_2 := dk_seg dksX1_difference_1 24 rfl rfl
theorem dksX1_difference_3 : cX1_difference.data.toList.drop 71 = dktX1_difference_3 := dk_seg dksX1_difference_2 24 rfl rfl
theorem dksX1_difference_4 : cX1_difference.data.toList.drop 94 = dktX1_difference_4 := dk_seg dksX1_difference_3 23 rfl rfl
theorem dksX1_difference_5 : cX1_difference.data.toList.drop 118 = dktX1_difference_5 := dk_seg dksX1_difference_4 24 rfl rfl
theorem dX1_difference_0 : decode cX1_difference 0 = .ok (.aload_n 0, 1) := dk_42 (dk_at dksX1_difference_0 0 rfl rfl)
theorem dX1_difference_1 : decode cX1_difference 1 = .ok (.iload_n 1, 1) := dk_27 (dk_at dksX1_difference_0 1 rfl rfl)
theorem dX1_difference_2 : decode cX1_difference 2 = .ok (.iload_n 2, 1) := dk_28 (dk_at dksX1_difference_0 2 rfl rfl)
theorem dX1_difference_3 : decode cX1_difference 3 = .ok (.invokevirtual 462, 3) := dk_182 1 206 (dk_at dksX1_difference_0 3 rfl rfl)
theorem dX1_difference_6 : decode cX1_difference 6 = .ok (.ifCond .eq 23, 3) := dk_153 0 23 (dk_at dksX1_difference_0 6 rfl rfl)
theorem dX1_difference_9 : decode cX1_difference 9 = .ok (.iload_n 3, 1) := dk_29 (dk_at dksX1_difference_0 9 rfl rfl)
theorem dX1_difference_10 : decode cX1_difference 10 = .ok (.iconst (-1), 1) := dk_2 (dk_at dksX1_difference_0 10 rfl rfl)
theorem dX1_difference_11 : decode cX1_difference 11 = .ok (.if_icmp .lt 18, 3) := dk_161 0 18 (dk_at dksX1_difference_0 11 rfl rfl)
theorem dX1_difference_14 : decode cX1_difference 14 = .ok (.iload_n 3, 1) := dk_29 (dk_at dksX1_difference_0 14 rfl rfl)
theorem dX1_difference_15 : decode cX1_difference 15 = .ok (.iconst (-1), 1) := dk_2 (dk_at dksX1_difference_0 15 rfl rfl)
theorem dX1_difference_16 : decode cX1_difference 16 = .ok (.if_icmp .eq 16, 3) := dk_159 0 16 (dk_at dksX1_difference_0 16 rfl rfl)
theorem dX1_difference_19 : decode cX1_difference 19 = .ok (.iload 4, 2) := dk_21 4 (dk_at dksX1_difference_0 19 rfl rfl)
theorem dX1_difference_21 : decode cX1_difference 21 = .ok (.iconst 0, 1) := dk_3 (dk_at dksX1_difference_0 21 rfl rfl)
theorem dX1_difference_22 : decode cX1_difference 22 = .ok (.iconst 2, 1) := dk_5 (dk_at dksX1_difference_0 22 rfl rfl)
theorem dX1_difference_23 : decode cX1_difference 23 = .ok (.invokestatic 127, 3) := dk_184 0 127 (dk_at dksX1_difference_1 0 rfl rfl)
theorem dX1_difference_26 : decode cX1_difference 26 = .ok (.ifCond .ne 6, 3) := dk_154 0 6 (dk_at dksX1_difference_1 3 rfl rfl)
theorem dX1_difference_29 : decode cX1_difference 29 = .ok (.ldc 174, 2) := dk_18 174 (dk_at dksX1_difference_1 6 rfl rfl)
theorem dX1_difference_31 : decode cX1_difference 31 = .ok (.ireturn, 1) := dk_172 (dk_at dksX1_difference_1 8 rfl rfl)
theorem dX1_difference_32 : decode cX1_difference 32 = .ok (.aload_n 0, 1) := dk_42 (dk_at dksX1_difference_1 9 rfl rfl)
theorem dX1_difference_33 : decode cX1_difference 33 = .ok (.iload_n 1, 1) := dk_27 (dk_at dksX1_difference_1 10 rfl rfl)
theorem dX1_difference_34 : decode cX1_difference 34 = .ok (.invokevirtual 336, 3) := dk_182 1 80 (dk_at dksX1_difference_1 11 rfl rfl)
theorem dX1_difference_37 : decode cX1_difference 37 = .ok (.astore 5, 2) := dk_58 5 (dk_at dksX1_difference_1 14 rfl rfl)
theorem dX1_difference_39 : decode cX1_difference 39 = .ok (.aload_n 0, 1) := dk_42 (dk_at dksX1_difference_1 16 rfl rfl)
theorem dX1_difference_40 : decode cX1_difference 40 = .ok (.iload_n 2, 1) := dk_28 (dk_at dksX1_difference_1 17 rfl rfl)
theorem dX1_difference_41 : decode cX1_difference 41 = .ok (.invokevirtual 336, 3) := dk_182 1 80 (dk_at dksX1_difference_1 18 rfl rfl)
theorem dX1_difference_44 : decode cX1_difference 44 = .ok (.astore 6, 2) := dk_58 6 (dk_at dksX1_difference_1 21 rfl rfl)
theorem dX1_difference_46 : decode cX1_difference 46 = .ok (.iconst 0, 1) := dk_3 (dk_at dksX1_difference_1 23 rfl rfl)
theorem dX1_difference_47 : decode cX1_difference 47 = .ok (.istore 7, 2) := dk_54 7 (dk_at dksX1_difference_2 0 rfl rfl)
theorem dX1_difference_49 : decode cX1_difference 49 = .ok (.iconst 0, 1) := dk_3 (dk_at dksX1_difference_2 2 rfl rfl)
theorem dX1_difference_50 : decode cX1_difference 50 = .ok (.istore 8, 2) := dk_54 8 (dk_at dksX1_difference_2 3 rfl rfl)
theorem dX1_difference_52 : decode cX1_difference 52 = .ok (.iload 8, 2) := dk_21 8 (dk_at dksX1_difference_2 5 rfl rfl)
theorem dX1_difference_54 : decode cX1_difference 54 = .ok (.sipush 999, 3) := dk_17 3 231 (dk_at dksX1_difference_2 7 rfl rfl)
theorem dX1_difference_57 : decode cX1_difference 57 = .ok (.if_icmp .gt 70, 3) := dk_163 0 70 (dk_at dksX1_difference_2 10 rfl rfl)
theorem dX1_difference_60 : decode cX1_difference 60 = .ok (.aload 5, 2) := dk_25 5 (dk_at dksX1_difference_2 13 rfl rfl)
theorem dX1_difference_62 : decode cX1_difference 62 = .ok (.iload 8, 2) := dk_21 8 (dk_at dksX1_difference_2 15 rfl rfl)
theorem dX1_difference_64 : decode cX1_difference 64 = .ok (.invokestatic 290, 3) := dk_184 1 34 (dk_at dksX1_difference_2 17 rfl rfl)
theorem dX1_difference_67 : decode cX1_difference 67 = .ok (.istore 9, 2) := dk_54 9 (dk_at dksX1_difference_2 20 rfl rfl)
theorem dX1_difference_69 : decode cX1_difference 69 = .ok (.aload 6, 2) := dk_25 6 (dk_at dksX1_difference_2 22 rfl rfl)
theorem dX1_difference_71 : decode cX1_difference 71 = .ok (.iload 8, 2) := dk_21 8 (dk_at dksX1_difference_3 0 rfl rfl)
theorem dX1_difference_73 : decode cX1_difference 73 = .ok (.invokestatic 290, 3) := dk_184 1 34 (dk_at dksX1_difference_3 2 rfl rfl)
theorem dX1_difference_76 : decode cX1_difference 76 = .ok (.istore 10, 2) := dk_54 10 (dk_at dksX1_difference_3 5 rfl rfl)
theorem dX1_difference_78 : decode cX1_difference 78 = .ok (.iload 9, 2) := dk_21 9 (dk_at dksX1_difference_3 7 rfl rfl)
theorem dX1_difference_80 : decode cX1_difference 80 = .ok (.iload 10, 2) := dk_21 10 (dk_at dksX1_difference_3 9 rfl rfl)
theorem dX1_difference_82 : decode cX1_difference 82 = .ok (.if_icmp .ne 6, 3) := dk_160 0 6 (dk_at dksX1_difference_3 11 rfl rfl)
theorem dX1_difference_85 : decode cX1_difference 85 = .ok (.goto 36, 3) := dk_167 0 36 (dk_at dksX1_difference_3 14 rfl rfl)
theorem dX1_difference_88 : decode cX1_difference 88 = .ok (.iload 7, 2) := dk_21 7 (dk_at dksX1_difference_3 17 rfl rfl)
theorem dX1_difference_90 : decode cX1_difference 90 = .ok (.iload_n 3, 1) := dk_29 (dk_at dksX1_difference_3 19 rfl rfl)
theorem dX1_difference_91 : decode cX1_difference 91 = .ok (.if_icmp .ne 27, 3) := dk_160 0 27 (dk_at dksX1_difference_3 20 rfl rfl)
theorem dX1_difference_94 : decode cX1_difference 94 = .ok (.iload 4, 2) := dk_21 4 (dk_at dksX1_difference_4 0 rfl rfl)
theorem dX1_difference_96 : decode cX1_difference 96 = .ok (.ifCond .ne 8, 3) := dk_154 0 8 (dk_at dksX1_difference_4 2 rfl rfl)
theorem dX1_difference_99 : decode cX1_difference 99 = .ok (.iload 8, 2) := dk_21 8 (dk_at dksX1_difference_4 5 rfl rfl)
theorem dX1_difference_101 : decode cX1_difference 101 = .ok (.goto 16, 3) := dk_167 0 16 (dk_at dksX1_difference_4 7 rfl rfl)
theorem dX1_difference_104 : decode cX1_difference 104 = .ok (.iload 4, 2) := dk_21 4 (dk_at dksX1_difference_4 10 rfl rfl)
theorem dX1_difference_106 : decode cX1_difference 106 = .ok (.iconst 1, 1) := dk_4 (dk_at dksX1_difference_4 12 rfl rfl)
theorem dX1_difference_107 : decode cX1_difference 107 = .ok (.if_icmp .ne 8, 3) := dk_160 0 8 (dk_at dksX1_difference_4 13 rfl rfl)
theorem dX1_difference_110 : decode cX1_difference 110 = .ok (.iload 9, 2) := dk_21 9 (dk_at dksX1_difference_4 16 rfl rfl)
theorem dX1_difference_112 : decode cX1_difference 112 = .ok (.goto 5, 3) := dk_167 0 5 (dk_at dksX1_difference_4 18 rfl rfl)
theorem dX1_difference_115 : decode cX1_difference 115 = .ok (.iload 10, 2) := dk_21 10 (dk_at dksX1_difference_4 21 rfl rfl)
theorem dX1_difference_117 : decode cX1_difference 117 = .ok (.ireturn, 1) := dk_172 (dk_at dksX1_difference_4 23 rfl rfl)
theorem dX1_difference_118 : decode cX1_difference 118 = .ok (.iinc 7 1, 3) := dk_132 7 1 (dk_at dksX1_difference_5 0 rfl rfl)
theorem dX1_difference_121 : decode cX1_difference 121 = .ok (.iinc 8 1, 3) := dk_132 8 1 (dk_at dksX1_difference_5 3 rfl rfl)
theorem dX1_difference_124 : decode cX1_difference 124 = .ok (.goto (-72), 3) := dk_167 255 184 (dk_at dksX1_difference_5 6 rfl rfl)
theorem dX1_difference_127 : decode cX1_difference 127 = .ok (.iload_n 3, 1) := dk_29 (dk_at dksX1_difference_5 9 rfl rfl)
theorem dX1_difference_128 : decode cX1_difference 128 = .ok (.iconst (-1), 1) := dk_2 (dk_at dksX1_difference_5 10 rfl rfl)
theorem dX1_difference_129 : decode cX1_difference 129 = .ok (.if_icmp .ne 8, 3) := dk_160 0 8 (dk_at dksX1_difference_5 11 rfl rfl)
theorem dX1_difference_132 : decode cX1_difference 132 = .ok (.iload 7, 2) := dk_21 7 (dk_at dksX1_difference_5 14 rfl rfl)
theorem dX1_difference_134 : decode cX1_difference 134 = .ok (.goto 5, 3) := dk_167 0 5 (dk_at dksX1_difference_5 16 rfl rfl)
theorem dX1_difference_137 : decode cX1_difference 137 = .ok (.ldc 174, 2) := dk_18 174 (dk_at dksX1_difference_5 19 rfl rfl)
theorem dX1_difference_139 : decode cX1_difference 139 = .ok (.ireturn, 1) := dk_172 (dk_at dksX1_difference_5 21 rfl rfl)
abbrev cX1_alike : ByteArray := prog_1_method_99_code
def yX1_alike : MethodName := ⟨RX1, "alike", "(III)I"⟩
def dkwX1_alike_3 : List UInt8 := [167, 0, 4, 3, 172]
abbrev dktX1_alike_3 : List UInt8 := dkwX1_alike_3 ++ []
def dkwX1_alike_2 : List UInt8 := [184, 1, 219, 42, 28, 182, 1, 80, 184, 1, 219, 182, 0, 170, 54, 4, 21, 4, 153, 0, 7, 4]
abbrev dktX1_alike_2 : List UInt8 := dkwX1_alike_2 ++ dktX1_alike_3
def dkwX1_alike_1 : List UInt8 := [42, 27, 28, 2, 3, 182, 1, 216, 154, 0, 7, 4, 167, 0, 26, 3, 167, 0, 22, 42, 27, 182, 1, 80]
abbrev dktX1_alike_1 : List UInt8 := dkwX1_alike_1 ++ dktX1_alike_2
def dkwX1_alike_0 : List UInt8 := [42, 27, 28, 182, 1, 206, 153, 0, 12, 29, 3, 4, 184, 0, 127, 154, 0, 5, 2, 172, 29, 154, 0, 22]
abbrev dktX1_alike_0 : List UInt8 := dkwX1_alike_0 ++ dktX1_alike_1
theorem dksX1_alike_0 : cX1_alike.data.toList.drop 0 = dktX1_alike_0 := by decide +kernel
theorem dksX1_alike_1 : cX1_alike.data.toList.drop 24 = dktX1_alike_1 := dk_seg dksX1_alike_0 24 rfl rfl
theorem dksX1_alike_2 : cX1_alike.data.toList.drop 48 = dktX1_alike_2 := dk_seg dksX1_alike_1 24 rfl rfl
theorem dksX1_alike_3 : cX1_alike.data.toList.drop 70 = dktX1_alike_3 := dk_seg dksX1_alike_2 22 rfl rfl
theorem dX1_alike_0 : decode cX1_alike 0 = .ok (.aload_n 0, 1) := dk_42 (dk_at dksX1_alike_0 0 rfl rfl)
theorem dX1_alike_1 : decode cX1_alike 1 = .ok (.iload_n 1, 1) := dk_27 (dk_at dksX1_alike_0 1 rfl rfl)
theorem dX1_alike_2 : decode cX1_alike 2 = .ok (.iload_n 2, 1) := dk_28 (dk_at dksX1_alike_0 2 rfl rfl)
theorem dX1_alike_3 : decode cX1_alike 3 = .ok (.invokevirtual 462, 3) := dk_182 1 206 (dk_at dksX1_alike_0 3 rfl rfl)
theorem dX1_alike_6 : decode cX1_alike 6 = .ok (.ifCond .eq 12, 3) := dk_153 0 12 (dk_at dksX1_alike_0 6 rfl rfl)
theorem dX1_alike_9 : decode cX1_alike 9 = .ok (.iload_n 3, 1) := dk_29 (dk_at dksX1_alike_0 9 rfl rfl)
theorem dX1_alike_10 : decode cX1_alike 10 = .ok (.iconst 0, 1) := dk_3 (dk_at dksX1_alike_0 10 rfl rfl)
theorem dX1_alike_11 : decode cX1_alike 11 = .ok (.iconst 1, 1) := dk_4 (dk_at dksX1_alike_0 11 rfl rfl)
theorem dX1_alike_12 : decode cX1_alike 12 = .ok (.invokestatic 127, 3) := dk_184 0 127 (dk_at dksX1_alike_0 12 rfl rfl)
theorem dX1_alike_15 : decode cX1_alike 15 = .ok (.ifCond .ne 5, 3) := dk_154 0 5 (dk_at dksX1_alike_0 15 rfl rfl)
theorem dX1_alike_18 : decode cX1_alike 18 = .ok (.iconst (-1), 1) := dk_2 (dk_at dksX1_alike_0 18 rfl rfl)
theorem dX1_alike_19 : decode cX1_alike 19 = .ok (.ireturn, 1) := dk_172 (dk_at dksX1_alike_0 19 rfl rfl)
theorem dX1_alike_20 : decode cX1_alike 20 = .ok (.iload_n 3, 1) := dk_29 (dk_at dksX1_alike_0 20 rfl rfl)
theorem dX1_alike_21 : decode cX1_alike 21 = .ok (.ifCond .ne 22, 3) := dk_154 0 22 (dk_at dksX1_alike_0 21 rfl rfl)
theorem dX1_alike_24 : decode cX1_alike 24 = .ok (.aload_n 0, 1) := dk_42 (dk_at dksX1_alike_1 0 rfl rfl)
theorem dX1_alike_25 : decode cX1_alike 25 = .ok (.iload_n 1, 1) := dk_27 (dk_at dksX1_alike_1 1 rfl rfl)
theorem dX1_alike_26 : decode cX1_alike 26 = .ok (.iload_n 2, 1) := dk_28 (dk_at dksX1_alike_1 2 rfl rfl)
theorem dX1_alike_27 : decode cX1_alike 27 = .ok (.iconst (-1), 1) := dk_2 (dk_at dksX1_alike_1 3 rfl rfl)
theorem dX1_alike_28 : decode cX1_alike 28 = .ok (.iconst 0, 1) := dk_3 (dk_at dksX1_alike_1 4 rfl rfl)
theorem dX1_alike_29 : decode cX1_alike 29 = .ok (.invokevirtual 472, 3) := dk_182 1 216 (dk_at dksX1_alike_1 5 rfl rfl)
theorem dX1_alike_32 : decode cX1_alike 32 = .ok (.ifCond .ne 7, 3) := dk_154 0 7 (dk_at dksX1_alike_1 8 rfl rfl)
theorem dX1_alike_35 : decode cX1_alike 35 = .ok (.iconst 1, 1) := dk_4 (dk_at dksX1_alike_1 11 rfl rfl)
theorem dX1_alike_36 : decode cX1_alike 36 = .ok (.goto 26, 3) := dk_167 0 26 (dk_at dksX1_alike_1 12 rfl rfl)
theorem dX1_alike_39 : decode cX1_alike 39 = .ok (.iconst 0, 1) := dk_3 (dk_at dksX1_alike_1 15 rfl rfl)
theorem dX1_alike_40 : decode cX1_alike 40 = .ok (.goto 22, 3) := dk_167 0 22 (dk_at dksX1_alike_1 16 rfl rfl)
theorem dX1_alike_43 : decode cX1_alike 43 = .ok (.aload_n 0, 1) := dk_42 (dk_at dksX1_alike_1 19 rfl rfl)
theorem dX1_alike_44 : decode cX1_alike 44 = .ok (.iload_n 1, 1) := dk_27 (dk_at dksX1_alike_1 20 rfl rfl)
theorem dX1_alike_45 : decode cX1_alike 45 = .ok (.invokevirtual 336, 3) := dk_182 1 80 (dk_at dksX1_alike_1 21 rfl rfl)
theorem dX1_alike_48 : decode cX1_alike 48 = .ok (.invokestatic 475, 3) := dk_184 1 219 (dk_at dksX1_alike_2 0 rfl rfl)
theorem dX1_alike_51 : decode cX1_alike 51 = .ok (.aload_n 0, 1) := dk_42 (dk_at dksX1_alike_2 3 rfl rfl)
theorem dX1_alike_52 : decode cX1_alike 52 = .ok (.iload_n 2, 1) := dk_28 (dk_at dksX1_alike_2 4 rfl rfl)
theorem dX1_alike_53 : decode cX1_alike 53 = .ok (.invokevirtual 336, 3) := dk_182 1 80 (dk_at dksX1_alike_2 5 rfl rfl)
theorem dX1_alike_56 : decode cX1_alike 56 = .ok (.invokestatic 475, 3) := dk_184 1 219 (dk_at dksX1_alike_2 8 rfl rfl)
theorem dX1_alike_59 : decode cX1_alike 59 = .ok (.invokevirtual 170, 3) := dk_182 0 170 (dk_at dksX1_alike_2 11 rfl rfl)
theorem dX1_alike_62 : decode cX1_alike 62 = .ok (.istore 4, 2) := dk_54 4 (dk_at dksX1_alike_2 14 rfl rfl)
theorem dX1_alike_64 : decode cX1_alike 64 = .ok (.iload 4, 2) := dk_21 4 (dk_at dksX1_alike_2 16 rfl rfl)
theorem dX1_alike_66 : decode cX1_alike 66 = .ok (.ifCond .eq 7, 3) := dk_153 0 7 (dk_at dksX1_alike_2 18 rfl rfl)
theorem dX1_alike_69 : decode cX1_alike 69 = .ok (.iconst 1, 1) := dk_4 (dk_at dksX1_alike_2 21 rfl rfl)
theorem dX1_alike_70 : decode cX1_alike 70 = .ok (.goto 4, 3) := dk_167 0 4 (dk_at dksX1_alike_3 0 rfl rfl)
theorem dX1_alike_73 : decode cX1_alike 73 = .ok (.iconst 0, 1) := dk_3 (dk_at dksX1_alike_3 3 rfl rfl)
theorem dX1_alike_74 : decode cX1_alike 74 = .ok (.ireturn, 1) := dk_172 (dk_at dksX1_alike_3 4 rfl rfl)
abbrev cX1_shownOf : ByteArray := prog_1_method_98_code
def yX1_shownOf : MethodName := ⟨RX1, "shownOf", "(LWideMap$Node;)Ljava/lang/String;"⟩
def dkwX1_shownOf_0 : List UInt8 := [187, 0, 156, 89, 183, 0, 158, 76, 42, 43, 185, 1, 212, 2, 0, 43, 182, 0, 163, 176]
abbrev dktX1_shownOf_0 : List UInt8 := dkwX1_shownOf_0 ++ []
theorem dksX1_shownOf_0 : cX1_shownOf.data.toList.drop 0 = dktX1_shownOf_0 := by decide +kernel
theorem dX1_shownOf_0 : decode cX1_shownOf 0 = .ok (.new 156, 3) := dk_187 0 156 (dk_at dksX1_shownOf_0 0 rfl rfl)
theorem dX1_shownOf_3 : decode cX1_shownOf 3 = .ok (.dup, 1) := dk_89 (dk_at dksX1_shownOf_0 3 rfl rfl)
theorem dX1_shownOf_4 : decode cX1_shownOf 4 = .ok (.invokespecial 158, 3) := dk_183 0 158 (dk_at dksX1_shownOf_0 4 rfl rfl)
theorem dX1_shownOf_7 : decode cX1_shownOf 7 = .ok (.astore_n 1, 1) := dk_76 (dk_at dksX1_shownOf_0 7 rfl rfl)
theorem dX1_shownOf_8 : decode cX1_shownOf 8 = .ok (.aload_n 0, 1) := dk_42 (dk_at dksX1_shownOf_0 8 rfl rfl)
theorem dX1_shownOf_9 : decode cX1_shownOf 9 = .ok (.aload_n 1, 1) := dk_43 (dk_at dksX1_shownOf_0 9 rfl rfl)
theorem dX1_shownOf_10 : decode cX1_shownOf 10 = .ok (.invokeinterface 468 2, 5) := by decide +kernel
theorem dX1_shownOf_15 : decode cX1_shownOf 15 = .ok (.aload_n 1, 1) := dk_43 (dk_at dksX1_shownOf_0 15 rfl rfl)
theorem dX1_shownOf_16 : decode cX1_shownOf 16 = .ok (.invokevirtual 163, 3) := dk_182 0 163 (dk_at dksX1_shownOf_0 16 rfl rfl)
theorem dX1_shownOf_19 : decode cX1_shownOf 19 = .ok (.areturn, 1) := dk_176 (dk_at dksX1_shownOf_0 19 rfl rfl)
abbrev cX1_fork : ByteArray := prog_1_method_101_code
def yX1_fork : MethodName := ⟨RX1, "fork", "(II)I"⟩
def dkwX1_fork_2 : List UInt8 := [153, 0, 12, 42, 180, 0, 107, 29, 51, 154, 0, 9, 132, 3, 255, 167, 255, 231, 29, 172]
abbrev dktX1_fork_2 : List UInt8 := dkwX1_fork_2 ++ []
def dkwX1_fork_1 : List UInt8 := [180, 0, 107, 182, 1, 223, 42, 180, 0, 243, 4, 100, 62, 29, 155, 0, 27, 42, 180, 0, 103, 29, 51]
abbrev dktX1_fork_1 : List UInt8 := dkwX1_fork_1 ++ dktX1_fork_2
def dkwX1_fork_0 : List UInt8 := [42, 27, 28, 182, 1, 206, 154, 0, 5, 2, 172, 42, 27, 42, 180, 0, 103, 182, 1, 223, 42, 28, 42]
abbrev dktX1_fork_0 : List UInt8 := dkwX1_fork_0 ++ dktX1_fork_1
theorem dksX1_fork_0 : cX1_fork.data.toList.drop 0 = dktX1_fork_0 := by decide +kernel
theorem dksX1_fork_1 : cX1_fork.data.toList.drop 23 = dktX1_fork_1 := dk_seg dksX1_fork_0 23 rfl rfl
theorem dksX1_fork_2 : cX1_fork.data.toList.drop 46 = dktX1_fork_2 := dk_seg dksX1_fork_1 23 rfl rfl
theorem dX1_fork_0 : decode cX1_fork 0 = .ok (.aload_n 0, 1) := dk_42 (dk_at dksX1_fork_0 0 rfl rfl)
theorem dX1_fork_1 : decode cX1_fork 1 = .ok (.iload_n 1, 1) := dk_27 (dk_at dksX1_fork_0 1 rfl rfl)
theorem dX1_fork_2 : decode cX1_fork 2 = .ok (.iload_n 2, 1) := dk_28 (dk_at dksX1_fork_0 2 rfl rfl)
theorem dX1_fork_3 : decode cX1_fork 3 = .ok (.invokevirtual 462, 3) := dk_182 1 206 (dk_at dksX1_fork_0 3 rfl rfl)
theorem dX1_fork_6 : decode cX1_fork 6 = .ok (.ifCond .ne 5, 3) := dk_154 0 5 (dk_at dksX1_fork_0 6 rfl rfl)
theorem dX1_fork_9 : decode cX1_fork 9 = .ok (.iconst (-1), 1) := dk_2 (dk_at dksX1_fork_0 9 rfl rfl)
theorem dX1_fork_10 : decode cX1_fork 10 = .ok (.ireturn, 1) := dk_172 (dk_at dksX1_fork_0 10 rfl rfl)
theorem dX1_fork_11 : decode cX1_fork 11 = .ok (.aload_n 0, 1) := dk_42 (dk_at dksX1_fork_0 11 rfl rfl)
theorem dX1_fork_12 : decode cX1_fork 12 = .ok (.iload_n 1, 1) := dk_27 (dk_at dksX1_fork_0 12 rfl rfl)
theorem dX1_fork_13 : decode cX1_fork 13 = .ok (.aload_n 0, 1) := dk_42 (dk_at dksX1_fork_0 13 rfl rfl)
theorem dX1_fork_14 : decode cX1_fork 14 = .ok (.getfield 103, 3) := dk_180 0 103 (dk_at dksX1_fork_0 14 rfl rfl)
theorem dX1_fork_17 : decode cX1_fork 17 = .ok (.invokevirtual 479, 3) := dk_182 1 223 (dk_at dksX1_fork_0 17 rfl rfl)
theorem dX1_fork_20 : decode cX1_fork 20 = .ok (.aload_n 0, 1) := dk_42 (dk_at dksX1_fork_0 20 rfl rfl)
theorem dX1_fork_21 : decode cX1_fork 21 = .ok (.iload_n 2, 1) := dk_28 (dk_at dksX1_fork_0 21 rfl rfl)
theorem dX1_fork_22 : decode cX1_fork 22 = .ok (.aload_n 0, 1) := dk_42 (dk_at dksX1_fork_0 22 rfl rfl)
theorem dX1_fork_23 : decode cX1_fork 23 = .ok (.getfield 107, 3) := dk_180 0 107 (dk_at dksX1_fork_1 0 rfl rfl)
theorem dX1_fork_26 : decode cX1_fork 26 = .ok (.invokevirtual 479, 3) := dk_182 1 223 (dk_at dksX1_fork_1 3 rfl rfl)
theorem dX1_fork_29 : decode cX1_fork 29 = .ok (.aload_n 0, 1) := dk_42 (dk_at dksX1_fork_1 6 rfl rfl)
theorem dX1_fork_30 : decode cX1_fork 30 = .ok (.getfield 243, 3) := dk_180 0 243 (dk_at dksX1_fork_1 7 rfl rfl)
theorem dX1_fork_33 : decode cX1_fork 33 = .ok (.iconst 1, 1) := dk_4 (dk_at dksX1_fork_1 10 rfl rfl)
theorem dX1_fork_34 : decode cX1_fork 34 = .ok (.isub, 1) := dk_100 (dk_at dksX1_fork_1 11 rfl rfl)
theorem dX1_fork_35 : decode cX1_fork 35 = .ok (.istore_n 3, 1) := dk_62 (dk_at dksX1_fork_1 12 rfl rfl)
theorem dX1_fork_36 : decode cX1_fork 36 = .ok (.iload_n 3, 1) := dk_29 (dk_at dksX1_fork_1 13 rfl rfl)
theorem dX1_fork_37 : decode cX1_fork 37 = .ok (.ifCond .lt 27, 3) := dk_155 0 27 (dk_at dksX1_fork_1 14 rfl rfl)
theorem dX1_fork_40 : decode cX1_fork 40 = .ok (.aload_n 0, 1) := dk_42 (dk_at dksX1_fork_1 17 rfl rfl)
theorem dX1_fork_41 : decode cX1_fork 41 = .ok (.getfield 103, 3) := dk_180 0 103 (dk_at dksX1_fork_1 18 rfl rfl)
theorem dX1_fork_44 : decode cX1_fork 44 = .ok (.iload_n 3, 1) := dk_29 (dk_at dksX1_fork_1 21 rfl rfl)
theorem dX1_fork_45 : decode cX1_fork 45 = .ok (.baload, 1) := dk_51 (dk_at dksX1_fork_1 22 rfl rfl)
theorem dX1_fork_46 : decode cX1_fork 46 = .ok (.ifCond .eq 12, 3) := dk_153 0 12 (dk_at dksX1_fork_2 0 rfl rfl)
theorem dX1_fork_49 : decode cX1_fork 49 = .ok (.aload_n 0, 1) := dk_42 (dk_at dksX1_fork_2 3 rfl rfl)
theorem dX1_fork_50 : decode cX1_fork 50 = .ok (.getfield 107, 3) := dk_180 0 107 (dk_at dksX1_fork_2 4 rfl rfl)
theorem dX1_fork_53 : decode cX1_fork 53 = .ok (.iload_n 3, 1) := dk_29 (dk_at dksX1_fork_2 7 rfl rfl)
theorem dX1_fork_54 : decode cX1_fork 54 = .ok (.baload, 1) := dk_51 (dk_at dksX1_fork_2 8 rfl rfl)
theorem dX1_fork_55 : decode cX1_fork 55 = .ok (.ifCond .ne 9, 3) := dk_154 0 9 (dk_at dksX1_fork_2 9 rfl rfl)
theorem dX1_fork_58 : decode cX1_fork 58 = .ok (.iinc 3 (-1), 3) := dk_132 3 255 (dk_at dksX1_fork_2 12 rfl rfl)
theorem dX1_fork_61 : decode cX1_fork 61 = .ok (.goto (-25), 3) := dk_167 255 231 (dk_at dksX1_fork_2 15 rfl rfl)
theorem dX1_fork_64 : decode cX1_fork 64 = .ok (.iload_n 3, 1) := dk_29 (dk_at dksX1_fork_2 18 rfl rfl)
theorem dX1_fork_65 : decode cX1_fork 65 = .ok (.ireturn, 1) := dk_172 (dk_at dksX1_fork_2 19 rfl rfl)
abbrev cX1_layLine : ByteArray := prog_1_method_100_code
def yX1_layLine : MethodName := ⟨RX1, "layLine", "(I[Z)V"⟩
def dkwX1_layLine_3 : List UInt8 := [2, 159, 0, 12, 44, 42, 180, 0, 79, 29, 46, 4, 84, 132, 3, 255, 167, 255, 202, 177]
abbrev dktX1_layLine_3 : List UInt8 := dkwX1_layLine_3 ++ []
def dkwX1_layLine_2 : List UInt8 := [180, 0, 76, 29, 46, 2, 159, 0, 12, 44, 42, 180, 0, 76, 29, 46, 4, 84, 42, 180, 0, 79, 29, 46]
abbrev dktX1_layLine_2 : List UInt8 := dkwX1_layLine_2 ++ dktX1_layLine_3
def dkwX1_layLine_1 : List UInt8 := [132, 3, 1, 167, 255, 233, 27, 62, 29, 155, 0, 56, 44, 29, 51, 154, 0, 6, 167, 0, 41, 42]
abbrev dktX1_layLine_1 : List UInt8 := dkwX1_layLine_1 ++ dktX1_layLine_2
def dkwX1_layLine_0 : List UInt8 := [3, 62, 29, 17, 3, 231, 162, 0, 22, 44, 29, 29, 27, 160, 0, 7, 4, 167, 0, 4, 3, 84]
abbrev dktX1_layLine_0 : List UInt8 := dkwX1_layLine_0 ++ dktX1_layLine_1
theorem dksX1_layLine_0 : cX1_layLine.data.toList.drop 0 = dktX1_layLine_0 := by decide +kernel
theorem dksX1_layLine_1 : cX1_layLine.data.toList.drop 22 = dktX1_layLine_1 := dk_seg dksX1_layLine_0 22 rfl rfl
theorem dksX1_layLine_2 : cX1_layLine.data.toList.drop 44 = dktX1_layLine_2 := dk_seg dksX1_layLine_1 22 rfl rfl
theorem dksX1_layLine_3 : cX1_layLine.data.toList.drop 68 = dktX1_layLine_3 := dk_seg dksX1_layLine_2 24 rfl rfl
theorem dX1_layLine_0 : decode cX1_layLine 0 = .ok (.iconst 0, 1) := dk_3 (dk_at dksX1_layLine_0 0 rfl rfl)
theorem dX1_layLine_1 : decode cX1_layLine 1 = .ok (.istore_n 3, 1) := dk_62 (dk_at dksX1_layLine_0 1 rfl rfl)
theorem dX1_layLine_2 : decode cX1_layLine 2 = .ok (.iload_n 3, 1) := dk_29 (dk_at dksX1_layLine_0 2 rfl rfl)
theorem dX1_layLine_3 : decode cX1_layLine 3 = .ok (.sipush 999, 3) := dk_17 3 231 (dk_at dksX1_layLine_0 3 rfl rfl)
theorem dX1_layLine_6 : decode cX1_layLine 6 = .ok (.if_icmp .ge 22, 3) := dk_162 0 22 (dk_at dksX1_layLine_0 6 rfl rfl)
theorem dX1_layLine_9 : decode cX1_layLine 9 = .ok (.aload_n 2, 1) := dk_44 (dk_at dksX1_layLine_0 9 rfl rfl)
theorem dX1_layLine_10 : decode cX1_layLine 10 = .ok (.iload_n 3, 1) := dk_29 (dk_at dksX1_layLine_0 10 rfl rfl)
theorem dX1_layLine_11 : decode cX1_layLine 11 = .ok (.iload_n 3, 1) := dk_29 (dk_at dksX1_layLine_0 11 rfl rfl)
theorem dX1_layLine_12 : decode cX1_layLine 12 = .ok (.iload_n 1, 1) := dk_27 (dk_at dksX1_layLine_0 12 rfl rfl)
theorem dX1_layLine_13 : decode cX1_layLine 13 = .ok (.if_icmp .ne 7, 3) := dk_160 0 7 (dk_at dksX1_layLine_0 13 rfl rfl)
theorem dX1_layLine_16 : decode cX1_layLine 16 = .ok (.iconst 1, 1) := dk_4 (dk_at dksX1_layLine_0 16 rfl rfl)
theorem dX1_layLine_17 : decode cX1_layLine 17 = .ok (.goto 4, 3) := dk_167 0 4 (dk_at dksX1_layLine_0 17 rfl rfl)
theorem dX1_layLine_20 : decode cX1_layLine 20 = .ok (.iconst 0, 1) := dk_3 (dk_at dksX1_layLine_0 20 rfl rfl)
theorem dX1_layLine_21 : decode cX1_layLine 21 = .ok (.bastore, 1) := dk_84 (dk_at dksX1_layLine_0 21 rfl rfl)
theorem dX1_layLine_22 : decode cX1_layLine 22 = .ok (.iinc 3 1, 3) := dk_132 3 1 (dk_at dksX1_layLine_1 0 rfl rfl)
theorem dX1_layLine_25 : decode cX1_layLine 25 = .ok (.goto (-23), 3) := dk_167 255 233 (dk_at dksX1_layLine_1 3 rfl rfl)
theorem dX1_layLine_28 : decode cX1_layLine 28 = .ok (.iload_n 1, 1) := dk_27 (dk_at dksX1_layLine_1 6 rfl rfl)
theorem dX1_layLine_29 : decode cX1_layLine 29 = .ok (.istore_n 3, 1) := dk_62 (dk_at dksX1_layLine_1 7 rfl rfl)
theorem dX1_layLine_30 : decode cX1_layLine 30 = .ok (.iload_n 3, 1) := dk_29 (dk_at dksX1_layLine_1 8 rfl rfl)
theorem dX1_layLine_31 : decode cX1_layLine 31 = .ok (.ifCond .lt 56, 3) := dk_155 0 56 (dk_at dksX1_layLine_1 9 rfl rfl)
theorem dX1_layLine_34 : decode cX1_layLine 34 = .ok (.aload_n 2, 1) := dk_44 (dk_at dksX1_layLine_1 12 rfl rfl)
theorem dX1_layLine_35 : decode cX1_layLine 35 = .ok (.iload_n 3, 1) := dk_29 (dk_at dksX1_layLine_1 13 rfl rfl)
theorem dX1_layLine_36 : decode cX1_layLine 36 = .ok (.baload, 1) := dk_51 (dk_at dksX1_layLine_1 14 rfl rfl)
theorem dX1_layLine_37 : decode cX1_layLine 37 = .ok (.ifCond .ne 6, 3) := dk_154 0 6 (dk_at dksX1_layLine_1 15 rfl rfl)
theorem dX1_layLine_40 : decode cX1_layLine 40 = .ok (.goto 41, 3) := dk_167 0 41 (dk_at dksX1_layLine_1 18 rfl rfl)
theorem dX1_layLine_43 : decode cX1_layLine 43 = .ok (.aload_n 0, 1) := dk_42 (dk_at dksX1_layLine_1 21 rfl rfl)
theorem dX1_layLine_44 : decode cX1_layLine 44 = .ok (.getfield 76, 3) := dk_180 0 76 (dk_at dksX1_layLine_2 0 rfl rfl)
theorem dX1_layLine_47 : decode cX1_layLine 47 = .ok (.iload_n 3, 1) := dk_29 (dk_at dksX1_layLine_2 3 rfl rfl)
theorem dX1_layLine_48 : decode cX1_layLine 48 = .ok (.iaload, 1) := dk_46 (dk_at dksX1_layLine_2 4 rfl rfl)
theorem dX1_layLine_49 : decode cX1_layLine 49 = .ok (.iconst (-1), 1) := dk_2 (dk_at dksX1_layLine_2 5 rfl rfl)
theorem dX1_layLine_50 : decode cX1_layLine 50 = .ok (.if_icmp .eq 12, 3) := dk_159 0 12 (dk_at dksX1_layLine_2 6 rfl rfl)
theorem dX1_layLine_53 : decode cX1_layLine 53 = .ok (.aload_n 2, 1) := dk_44 (dk_at dksX1_layLine_2 9 rfl rfl)
theorem dX1_layLine_54 : decode cX1_layLine 54 = .ok (.aload_n 0, 1) := dk_42 (dk_at dksX1_layLine_2 10 rfl rfl)
theorem dX1_layLine_55 : decode cX1_layLine 55 = .ok (.getfield 76, 3) := dk_180 0 76 (dk_at dksX1_layLine_2 11 rfl rfl)
theorem dX1_layLine_58 : decode cX1_layLine 58 = .ok (.iload_n 3, 1) := dk_29 (dk_at dksX1_layLine_2 14 rfl rfl)
theorem dX1_layLine_59 : decode cX1_layLine 59 = .ok (.iaload, 1) := dk_46 (dk_at dksX1_layLine_2 15 rfl rfl)
theorem dX1_layLine_60 : decode cX1_layLine 60 = .ok (.iconst 1, 1) := dk_4 (dk_at dksX1_layLine_2 16 rfl rfl)
theorem dX1_layLine_61 : decode cX1_layLine 61 = .ok (.bastore, 1) := dk_84 (dk_at dksX1_layLine_2 17 rfl rfl)
theorem dX1_layLine_62 : decode cX1_layLine 62 = .ok (.aload_n 0, 1) := dk_42 (dk_at dksX1_layLine_2 18 rfl rfl)
theorem dX1_layLine_63 : decode cX1_layLine 63 = .ok (.getfield 79, 3) := dk_180 0 79 (dk_at dksX1_layLine_2 19 rfl rfl)
theorem dX1_layLine_66 : decode cX1_layLine 66 = .ok (.iload_n 3, 1) := dk_29 (dk_at dksX1_layLine_2 22 rfl rfl)
theorem dX1_layLine_67 : decode cX1_layLine 67 = .ok (.iaload, 1) := dk_46 (dk_at dksX1_layLine_2 23 rfl rfl)
theorem dX1_layLine_68 : decode cX1_layLine 68 = .ok (.iconst (-1), 1) := dk_2 (dk_at dksX1_layLine_3 0 rfl rfl)
theorem dX1_layLine_69 : decode cX1_layLine 69 = .ok (.if_icmp .eq 12, 3) := dk_159 0 12 (dk_at dksX1_layLine_3 1 rfl rfl)
theorem dX1_layLine_72 : decode cX1_layLine 72 = .ok (.aload_n 2, 1) := dk_44 (dk_at dksX1_layLine_3 4 rfl rfl)
theorem dX1_layLine_73 : decode cX1_layLine 73 = .ok (.aload_n 0, 1) := dk_42 (dk_at dksX1_layLine_3 5 rfl rfl)
theorem dX1_layLine_74 : decode cX1_layLine 74 = .ok (.getfield 79, 3) := dk_180 0 79 (dk_at dksX1_layLine_3 6 rfl rfl)
theorem dX1_layLine_77 : decode cX1_layLine 77 = .ok (.iload_n 3, 1) := dk_29 (dk_at dksX1_layLine_3 9 rfl rfl)
theorem dX1_layLine_78 : decode cX1_layLine 78 = .ok (.iaload, 1) := dk_46 (dk_at dksX1_layLine_3 10 rfl rfl)
theorem dX1_layLine_79 : decode cX1_layLine 79 = .ok (.iconst 1, 1) := dk_4 (dk_at dksX1_layLine_3 11 rfl rfl)
theorem dX1_layLine_80 : decode cX1_layLine 80 = .ok (.bastore, 1) := dk_84 (dk_at dksX1_layLine_3 12 rfl rfl)
theorem dX1_layLine_81 : decode cX1_layLine 81 = .ok (.iinc 3 (-1), 3) := dk_132 3 255 (dk_at dksX1_layLine_3 13 rfl rfl)
theorem dX1_layLine_84 : decode cX1_layLine 84 = .ok (.goto (-54), 3) := dk_167 255 202 (dk_at dksX1_layLine_3 16 rfl rfl)
theorem dX1_layLine_87 : decode cX1_layLine 87 = .ok (.return_, 1) := dk_177 (dk_at dksX1_layLine_3 19 rfl rfl)
abbrev cX1_comesFrom : ByteArray := prog_1_method_102_code
def yX1_comesFrom : MethodName := ⟨RX1, "comesFrom", "(II)I"⟩
def dkwX1_comesFrom_1 : List UInt8 := [42, 27, 42, 180, 0, 103, 182, 1, 223, 42, 180, 0, 103, 28, 51, 153, 0, 7, 4, 167, 0, 4, 3, 172]
abbrev dktX1_comesFrom_1 : List UInt8 := dkwX1_comesFrom_1 ++ []
def dkwX1_comesFrom_0 : List UInt8 := [42, 27, 182, 1, 77, 153, 0, 17, 28, 3, 42, 180, 0, 243, 4, 100, 184, 0, 127, 154, 0, 5, 2, 172]
abbrev dktX1_comesFrom_0 : List UInt8 := dkwX1_comesFrom_0 ++ dktX1_comesFrom_1
theorem dksX1_comesFrom_0 : cX1_comesFrom.data.toList.drop 0 = dktX1_comesFrom_0 := by decide +kernel
theorem dksX1_comesFrom_1 : cX1_comesFrom.data.toList.drop 24 = dktX1_comesFrom_1 := dk_seg dksX1_comesFrom_0 24 rfl rfl
theorem dX1_comesFrom_0 : decode cX1_comesFrom 0 = .ok (.aload_n 0, 1) := dk_42 (dk_at dksX1_comesFrom_0 0 rfl rfl)
theorem dX1_comesFrom_1 : decode cX1_comesFrom 1 = .ok (.iload_n 1, 1) := dk_27 (dk_at dksX1_comesFrom_0 1 rfl rfl)
theorem dX1_comesFrom_2 : decode cX1_comesFrom 2 = .ok (.invokevirtual 333, 3) := dk_182 1 77 (dk_at dksX1_comesFrom_0 2 rfl rfl)
theorem dX1_comesFrom_5 : decode cX1_comesFrom 5 = .ok (.ifCond .eq 17, 3) := dk_153 0 17 (dk_at dksX1_comesFrom_0 5 rfl rfl)
theorem dX1_comesFrom_8 : decode cX1_comesFrom 8 = .ok (.iload_n 2, 1) := dk_28 (dk_at dksX1_comesFrom_0 8 rfl rfl)
theorem dX1_comesFrom_9 : decode cX1_comesFrom 9 = .ok (.iconst 0, 1) := dk_3 (dk_at dksX1_comesFrom_0 9 rfl rfl)
theorem dX1_comesFrom_10 : decode cX1_comesFrom 10 = .ok (.aload_n 0, 1) := dk_42 (dk_at dksX1_comesFrom_0 10 rfl rfl)
theorem dX1_comesFrom_11 : decode cX1_comesFrom 11 = .ok (.getfield 243, 3) := dk_180 0 243 (dk_at dksX1_comesFrom_0 11 rfl rfl)
theorem dX1_comesFrom_14 : decode cX1_comesFrom 14 = .ok (.iconst 1, 1) := dk_4 (dk_at dksX1_comesFrom_0 14 rfl rfl)
theorem dX1_comesFrom_15 : decode cX1_comesFrom 15 = .ok (.isub, 1) := dk_100 (dk_at dksX1_comesFrom_0 15 rfl rfl)
theorem dX1_comesFrom_16 : decode cX1_comesFrom 16 = .ok (.invokestatic 127, 3) := dk_184 0 127 (dk_at dksX1_comesFrom_0 16 rfl rfl)
theorem dX1_comesFrom_19 : decode cX1_comesFrom 19 = .ok (.ifCond .ne 5, 3) := dk_154 0 5 (dk_at dksX1_comesFrom_0 19 rfl rfl)
theorem dX1_comesFrom_22 : decode cX1_comesFrom 22 = .ok (.iconst (-1), 1) := dk_2 (dk_at dksX1_comesFrom_0 22 rfl rfl)
theorem dX1_comesFrom_23 : decode cX1_comesFrom 23 = .ok (.ireturn, 1) := dk_172 (dk_at dksX1_comesFrom_0 23 rfl rfl)
theorem dX1_comesFrom_24 : decode cX1_comesFrom 24 = .ok (.aload_n 0, 1) := dk_42 (dk_at dksX1_comesFrom_1 0 rfl rfl)
theorem dX1_comesFrom_25 : decode cX1_comesFrom 25 = .ok (.iload_n 1, 1) := dk_27 (dk_at dksX1_comesFrom_1 1 rfl rfl)
theorem dX1_comesFrom_26 : decode cX1_comesFrom 26 = .ok (.aload_n 0, 1) := dk_42 (dk_at dksX1_comesFrom_1 2 rfl rfl)
theorem dX1_comesFrom_27 : decode cX1_comesFrom 27 = .ok (.getfield 103, 3) := dk_180 0 103 (dk_at dksX1_comesFrom_1 3 rfl rfl)
theorem dX1_comesFrom_30 : decode cX1_comesFrom 30 = .ok (.invokevirtual 479, 3) := dk_182 1 223 (dk_at dksX1_comesFrom_1 6 rfl rfl)
theorem dX1_comesFrom_33 : decode cX1_comesFrom 33 = .ok (.aload_n 0, 1) := dk_42 (dk_at dksX1_comesFrom_1 9 rfl rfl)
theorem dX1_comesFrom_34 : decode cX1_comesFrom 34 = .ok (.getfield 103, 3) := dk_180 0 103 (dk_at dksX1_comesFrom_1 10 rfl rfl)
theorem dX1_comesFrom_37 : decode cX1_comesFrom 37 = .ok (.iload_n 2, 1) := dk_28 (dk_at dksX1_comesFrom_1 13 rfl rfl)
theorem dX1_comesFrom_38 : decode cX1_comesFrom 38 = .ok (.baload, 1) := dk_51 (dk_at dksX1_comesFrom_1 14 rfl rfl)
theorem dX1_comesFrom_39 : decode cX1_comesFrom 39 = .ok (.ifCond .eq 7, 3) := dk_153 0 7 (dk_at dksX1_comesFrom_1 15 rfl rfl)
theorem dX1_comesFrom_42 : decode cX1_comesFrom 42 = .ok (.iconst 1, 1) := dk_4 (dk_at dksX1_comesFrom_1 18 rfl rfl)
theorem dX1_comesFrom_43 : decode cX1_comesFrom 43 = .ok (.goto 4, 3) := dk_167 0 4 (dk_at dksX1_comesFrom_1 19 rfl rfl)
theorem dX1_comesFrom_46 : decode cX1_comesFrom 46 = .ok (.iconst 0, 1) := dk_3 (dk_at dksX1_comesFrom_1 22 rfl rfl)
theorem dX1_comesFrom_47 : decode cX1_comesFrom 47 = .ok (.ireturn, 1) := dk_172 (dk_at dksX1_comesFrom_1 23 rfl rfl)
abbrev cX1_show : ByteArray := prog_1_method_103_code
def yX1_show : MethodName := ⟨RX1, "show", "(I)I"⟩
def dkwX1_show_1 : List UInt8 := [180, 0, 112, 185, 1, 227, 1, 0, 172]
abbrev dktX1_show_1 : List UInt8 := dkwX1_show_1 ++ []
def dkwX1_show_0 : List UInt8 := [42, 27, 182, 1, 77, 154, 0, 5, 2, 172, 42, 42, 27, 182, 1, 80, 184, 1, 219, 181, 0, 112, 42]
abbrev dktX1_show_0 : List UInt8 := dkwX1_show_0 ++ dktX1_show_1
theorem dksX1_show_0 : cX1_show.data.toList.drop 0 = dktX1_show_0 := by decide +kernel
theorem dksX1_show_1 : cX1_show.data.toList.drop 23 = dktX1_show_1 := dk_seg dksX1_show_0 23 rfl rfl
theorem dX1_show_0 : decode cX1_show 0 = .ok (.aload_n 0, 1) := dk_42 (dk_at dksX1_show_0 0 rfl rfl)
theorem dX1_show_1 : decode cX1_show 1 = .ok (.iload_n 1, 1) := dk_27 (dk_at dksX1_show_0 1 rfl rfl)
theorem dX1_show_2 : decode cX1_show 2 = .ok (.invokevirtual 333, 3) := dk_182 1 77 (dk_at dksX1_show_0 2 rfl rfl)
theorem dX1_show_5 : decode cX1_show 5 = .ok (.ifCond .ne 5, 3) := dk_154 0 5 (dk_at dksX1_show_0 5 rfl rfl)
theorem dX1_show_8 : decode cX1_show 8 = .ok (.iconst (-1), 1) := dk_2 (dk_at dksX1_show_0 8 rfl rfl)
theorem dX1_show_9 : decode cX1_show 9 = .ok (.ireturn, 1) := dk_172 (dk_at dksX1_show_0 9 rfl rfl)
theorem dX1_show_10 : decode cX1_show 10 = .ok (.aload_n 0, 1) := dk_42 (dk_at dksX1_show_0 10 rfl rfl)
theorem dX1_show_11 : decode cX1_show 11 = .ok (.aload_n 0, 1) := dk_42 (dk_at dksX1_show_0 11 rfl rfl)
theorem dX1_show_12 : decode cX1_show 12 = .ok (.iload_n 1, 1) := dk_27 (dk_at dksX1_show_0 12 rfl rfl)
theorem dX1_show_13 : decode cX1_show 13 = .ok (.invokevirtual 336, 3) := dk_182 1 80 (dk_at dksX1_show_0 13 rfl rfl)
theorem dX1_show_16 : decode cX1_show 16 = .ok (.invokestatic 475, 3) := dk_184 1 219 (dk_at dksX1_show_0 16 rfl rfl)
theorem dX1_show_19 : decode cX1_show 19 = .ok (.putfield 112, 3) := dk_181 0 112 (dk_at dksX1_show_0 19 rfl rfl)
theorem dX1_show_22 : decode cX1_show 22 = .ok (.aload_n 0, 1) := dk_42 (dk_at dksX1_show_0 22 rfl rfl)
theorem dX1_show_23 : decode cX1_show 23 = .ok (.getfield 112, 3) := dk_180 0 112 (dk_at dksX1_show_1 0 rfl rfl)
theorem dX1_show_26 : decode cX1_show 26 = .ok (.invokeinterface 483 1, 5) := by decide +kernel
theorem dX1_show_31 : decode cX1_show 31 = .ok (.ireturn, 1) := dk_172 (dk_at dksX1_show_1 8 rfl rfl)
abbrev cX1_shown : ByteArray := prog_1_method_104_code
def yX1_shown : MethodName := ⟨RX1, "shown", "(I)I"⟩
def dkwX1_shown_1 : List UInt8 := [185, 1, 232, 2, 0, 167, 0, 4, 2, 172]
abbrev dktX1_shown_1 : List UInt8 := dkwX1_shown_1 ++ []
def dkwX1_shown_0 : List UInt8 := [27, 3, 42, 180, 0, 112, 185, 1, 227, 1, 0, 4, 100, 184, 0, 127, 153, 0, 16, 42, 180, 0, 112, 27]
abbrev dktX1_shown_0 : List UInt8 := dkwX1_shown_0 ++ dktX1_shown_1
theorem dksX1_shown_0 : cX1_shown.data.toList.drop 0 = dktX1_shown_0 := by decide +kernel
theorem dksX1_shown_1 : cX1_shown.data.toList.drop 24 = dktX1_shown_1 := dk_seg dksX1_shown_0 24 rfl rfl
theorem dX1_shown_0 : decode cX1_shown 0 = .ok (.iload_n 1, 1) := dk_27 (dk_at dksX1_shown_0 0 rfl rfl)
theorem dX1_shown_1 : decode cX1_shown 1 = .ok (.iconst 0, 1) := dk_3 (dk_at dksX1_shown_0 1 rfl rfl)
theorem dX1_shown_2 : decode cX1_shown 2 = .ok (.aload_n 0, 1) := dk_42 (dk_at dksX1_shown_0 2 rfl rfl)
theorem dX1_shown_3 : decode cX1_shown 3 = .ok (.getfield 112, 3) := dk_180 0 112 (dk_at dksX1_shown_0 3 rfl rfl)
theorem dX1_shown_6 : decode cX1_shown 6 = .ok (.invokeinterface 483 1, 5) := by decide +kernel
theorem dX1_shown_11 : decode cX1_shown 11 = .ok (.iconst 1, 1) := dk_4 (dk_at dksX1_shown_0 11 rfl rfl)
theorem dX1_shown_12 : decode cX1_shown 12 = .ok (.isub, 1) := dk_100 (dk_at dksX1_shown_0 12 rfl rfl)
theorem dX1_shown_13 : decode cX1_shown 13 = .ok (.invokestatic 127, 3) := dk_184 0 127 (dk_at dksX1_shown_0 13 rfl rfl)
theorem dX1_shown_16 : decode cX1_shown 16 = .ok (.ifCond .eq 16, 3) := dk_153 0 16 (dk_at dksX1_shown_0 16 rfl rfl)
theorem dX1_shown_19 : decode cX1_shown 19 = .ok (.aload_n 0, 1) := dk_42 (dk_at dksX1_shown_0 19 rfl rfl)
theorem dX1_shown_20 : decode cX1_shown 20 = .ok (.getfield 112, 3) := dk_180 0 112 (dk_at dksX1_shown_0 20 rfl rfl)
theorem dX1_shown_23 : decode cX1_shown 23 = .ok (.iload_n 1, 1) := dk_27 (dk_at dksX1_shown_0 23 rfl rfl)
theorem dX1_shown_24 : decode cX1_shown 24 = .ok (.invokeinterface 488 2, 5) := by decide +kernel
theorem dX1_shown_29 : decode cX1_shown 29 = .ok (.goto 4, 3) := dk_167 0 4 (dk_at dksX1_shown_1 5 rfl rfl)
theorem dX1_shown_32 : decode cX1_shown 32 = .ok (.iconst (-1), 1) := dk_2 (dk_at dksX1_shown_1 8 rfl rfl)
theorem dX1_shown_33 : decode cX1_shown 33 = .ok (.ireturn, 1) := dk_172 (dk_at dksX1_shown_1 9 rfl rfl)
abbrev cX1_digest : ByteArray := prog_1_method_106_code
def yX1_digest : MethodName := ⟨RX1, "digest", "(I)I"⟩
def dkwX1_digest_0 : List UInt8 := [42, 27, 182, 1, 77, 153, 0, 17, 42, 27, 182, 1, 80, 184, 1, 219, 184, 1, 237, 167, 0, 4, 2, 172]
abbrev dktX1_digest_0 : List UInt8 := dkwX1_digest_0 ++ []
theorem dksX1_digest_0 : cX1_digest.data.toList.drop 0 = dktX1_digest_0 := by decide +kernel
theorem dX1_digest_0 : decode cX1_digest 0 = .ok (.aload_n 0, 1) := dk_42 (dk_at dksX1_digest_0 0 rfl rfl)
theorem dX1_digest_1 : decode cX1_digest 1 = .ok (.iload_n 1, 1) := dk_27 (dk_at dksX1_digest_0 1 rfl rfl)
theorem dX1_digest_2 : decode cX1_digest 2 = .ok (.invokevirtual 333, 3) := dk_182 1 77 (dk_at dksX1_digest_0 2 rfl rfl)
theorem dX1_digest_5 : decode cX1_digest 5 = .ok (.ifCond .eq 17, 3) := dk_153 0 17 (dk_at dksX1_digest_0 5 rfl rfl)
theorem dX1_digest_8 : decode cX1_digest 8 = .ok (.aload_n 0, 1) := dk_42 (dk_at dksX1_digest_0 8 rfl rfl)
theorem dX1_digest_9 : decode cX1_digest 9 = .ok (.iload_n 1, 1) := dk_27 (dk_at dksX1_digest_0 9 rfl rfl)
theorem dX1_digest_10 : decode cX1_digest 10 = .ok (.invokevirtual 336, 3) := dk_182 1 80 (dk_at dksX1_digest_0 10 rfl rfl)
theorem dX1_digest_13 : decode cX1_digest 13 = .ok (.invokestatic 475, 3) := dk_184 1 219 (dk_at dksX1_digest_0 13 rfl rfl)
theorem dX1_digest_16 : decode cX1_digest 16 = .ok (.invokestatic 493, 3) := dk_184 1 237 (dk_at dksX1_digest_0 16 rfl rfl)
theorem dX1_digest_19 : decode cX1_digest 19 = .ok (.goto 4, 3) := dk_167 0 4 (dk_at dksX1_digest_0 19 rfl rfl)
theorem dX1_digest_22 : decode cX1_digest 22 = .ok (.iconst (-1), 1) := dk_2 (dk_at dksX1_digest_0 22 rfl rfl)
theorem dX1_digest_23 : decode cX1_digest 23 = .ok (.ireturn, 1) := dk_172 (dk_at dksX1_digest_0 23 rfl rfl)
abbrev cX1_digestOf : ByteArray := prog_1_method_105_code
def yX1_digestOf : MethodName := ⟨RX1, "digestOf", "(Ljava/lang/CharSequence;)I"⟩
def dkwX1_digestOf_1 : List UInt8 := [185, 1, 232, 2, 0, 96, 19, 1, 236, 112, 60, 132, 2, 1, 167, 255, 226, 27, 172]
abbrev dktX1_digestOf_1 : List UInt8 := dkwX1_digestOf_1 ++ []
def dkwX1_digestOf_0 : List UInt8 := [3, 60, 3, 61, 28, 42, 185, 1, 227, 1, 0, 162, 0, 26, 16, 31, 27, 104, 42, 28]
abbrev dktX1_digestOf_0 : List UInt8 := dkwX1_digestOf_0 ++ dktX1_digestOf_1
theorem dksX1_digestOf_0 : cX1_digestOf.data.toList.drop 0 = dktX1_digestOf_0 := by decide +kernel
theorem dksX1_digestOf_1 : cX1_digestOf.data.toList.drop 20 = dktX1_digestOf_1 := dk_seg dksX1_digestOf_0 20 rfl rfl
theorem dX1_digestOf_0 : decode cX1_digestOf 0 = .ok (.iconst 0, 1) := dk_3 (dk_at dksX1_digestOf_0 0 rfl rfl)
theorem dX1_digestOf_1 : decode cX1_digestOf 1 = .ok (.istore_n 1, 1) := dk_60 (dk_at dksX1_digestOf_0 1 rfl rfl)
theorem dX1_digestOf_2 : decode cX1_digestOf 2 = .ok (.iconst 0, 1) := dk_3 (dk_at dksX1_digestOf_0 2 rfl rfl)
theorem dX1_digestOf_3 : decode cX1_digestOf 3 = .ok (.istore_n 2, 1) := dk_61 (dk_at dksX1_digestOf_0 3 rfl rfl)
theorem dX1_digestOf_4 : decode cX1_digestOf 4 = .ok (.iload_n 2, 1) := dk_28 (dk_at dksX1_digestOf_0 4 rfl rfl)
theorem dX1_digestOf_5 : decode cX1_digestOf 5 = .ok (.aload_n 0, 1) := dk_42 (dk_at dksX1_digestOf_0 5 rfl rfl)
theorem dX1_digestOf_6 : decode cX1_digestOf 6 = .ok (.invokeinterface 483 1, 5) := by decide +kernel
theorem dX1_digestOf_11 : decode cX1_digestOf 11 = .ok (.if_icmp .ge 26, 3) := dk_162 0 26 (dk_at dksX1_digestOf_0 11 rfl rfl)
theorem dX1_digestOf_14 : decode cX1_digestOf 14 = .ok (.bipush 31, 2) := dk_16 31 (dk_at dksX1_digestOf_0 14 rfl rfl)
theorem dX1_digestOf_16 : decode cX1_digestOf 16 = .ok (.iload_n 1, 1) := dk_27 (dk_at dksX1_digestOf_0 16 rfl rfl)
theorem dX1_digestOf_17 : decode cX1_digestOf 17 = .ok (.imul, 1) := dk_104 (dk_at dksX1_digestOf_0 17 rfl rfl)
theorem dX1_digestOf_18 : decode cX1_digestOf 18 = .ok (.aload_n 0, 1) := dk_42 (dk_at dksX1_digestOf_0 18 rfl rfl)
theorem dX1_digestOf_19 : decode cX1_digestOf 19 = .ok (.iload_n 2, 1) := dk_28 (dk_at dksX1_digestOf_0 19 rfl rfl)
theorem dX1_digestOf_20 : decode cX1_digestOf 20 = .ok (.invokeinterface 488 2, 5) := by decide +kernel
theorem dX1_digestOf_25 : decode cX1_digestOf 25 = .ok (.iadd, 1) := dk_96 (dk_at dksX1_digestOf_1 5 rfl rfl)
theorem dX1_digestOf_26 : decode cX1_digestOf 26 = .ok (.ldc_w 492, 3) := dk_19 1 236 (dk_at dksX1_digestOf_1 6 rfl rfl)
theorem dX1_digestOf_29 : decode cX1_digestOf 29 = .ok (.irem, 1) := dk_112 (dk_at dksX1_digestOf_1 9 rfl rfl)
theorem dX1_digestOf_30 : decode cX1_digestOf 30 = .ok (.istore_n 1, 1) := dk_60 (dk_at dksX1_digestOf_1 10 rfl rfl)
theorem dX1_digestOf_31 : decode cX1_digestOf 31 = .ok (.iinc 2 1, 3) := dk_132 2 1 (dk_at dksX1_digestOf_1 11 rfl rfl)
theorem dX1_digestOf_34 : decode cX1_digestOf 34 = .ok (.goto (-30), 3) := dk_167 255 226 (dk_at dksX1_digestOf_1 14 rfl rfl)
theorem dX1_digestOf_37 : decode cX1_digestOf 37 = .ok (.iload_n 1, 1) := dk_27 (dk_at dksX1_digestOf_1 17 rfl rfl)
theorem dX1_digestOf_38 : decode cX1_digestOf 38 = .ok (.ireturn, 1) := dk_172 (dk_at dksX1_digestOf_1 18 rfl rfl)
abbrev cX1_status : ByteArray := prog_1_method_107_code
def yX1_status : MethodName := ⟨RX1, "status", "(I)I"⟩
def dkwX1_status_0 : List UInt8 := [27, 3, 7, 184, 0, 127, 153, 0, 12, 42, 180, 0, 82, 27, 46, 167, 0, 4, 2, 172]
abbrev dktX1_status_0 : List UInt8 := dkwX1_status_0 ++ []
theorem dksX1_status_0 : cX1_status.data.toList.drop 0 = dktX1_status_0 := by decide +kernel
theorem dX1_status_0 : decode cX1_status 0 = .ok (.iload_n 1, 1) := dk_27 (dk_at dksX1_status_0 0 rfl rfl)
theorem dX1_status_1 : decode cX1_status 1 = .ok (.iconst 0, 1) := dk_3 (dk_at dksX1_status_0 1 rfl rfl)
theorem dX1_status_2 : decode cX1_status 2 = .ok (.iconst 4, 1) := dk_7 (dk_at dksX1_status_0 2 rfl rfl)
theorem dX1_status_3 : decode cX1_status 3 = .ok (.invokestatic 127, 3) := dk_184 0 127 (dk_at dksX1_status_0 3 rfl rfl)
theorem dX1_status_6 : decode cX1_status 6 = .ok (.ifCond .eq 12, 3) := dk_153 0 12 (dk_at dksX1_status_0 6 rfl rfl)
theorem dX1_status_9 : decode cX1_status 9 = .ok (.aload_n 0, 1) := dk_42 (dk_at dksX1_status_0 9 rfl rfl)
theorem dX1_status_10 : decode cX1_status 10 = .ok (.getfield 82, 3) := dk_180 0 82 (dk_at dksX1_status_0 10 rfl rfl)
theorem dX1_status_13 : decode cX1_status 13 = .ok (.iload_n 1, 1) := dk_27 (dk_at dksX1_status_0 13 rfl rfl)
theorem dX1_status_14 : decode cX1_status 14 = .ok (.iaload, 1) := dk_46 (dk_at dksX1_status_0 14 rfl rfl)
theorem dX1_status_15 : decode cX1_status 15 = .ok (.goto 4, 3) := dk_167 0 4 (dk_at dksX1_status_0 15 rfl rfl)
theorem dX1_status_18 : decode cX1_status 18 = .ok (.iconst (-1), 1) := dk_2 (dk_at dksX1_status_0 18 rfl rfl)
theorem dX1_status_19 : decode cX1_status 19 = .ok (.ireturn, 1) := dk_172 (dk_at dksX1_status_0 19 rfl rfl)
abbrev cX1_image : ByteArray := prog_1_method_108_code
def yX1_image : MethodName := ⟨RX1, "image", "()I"⟩
def dkwX1_image_3 : List UInt8 := [181, 0, 72, 42, 180, 0, 240, 172]
abbrev dktX1_image_3 : List UInt8 := dkwX1_image_3 ++ []
def dkwX1_image_2 : List UInt8 := [16, 16, 162, 0, 16, 42, 180, 0, 69, 27, 1, 83, 132, 1, 1, 167, 255, 240, 42, 42, 180, 0, 240]
abbrev dktX1_image_2 : List UInt8 := dkwX1_image_2 ++ dktX1_image_3
def dkwX1_image_1 : List UInt8 := [180, 0, 69, 27, 42, 180, 0, 65, 27, 50, 83, 132, 1, 1, 167, 255, 221, 42, 180, 0, 240, 60, 27]
abbrev dktX1_image_1 : List UInt8 := dkwX1_image_1 ++ dktX1_image_2
def dkwX1_image_0 : List UInt8 := [3, 60, 27, 42, 180, 0, 240, 162, 0, 33, 42, 180, 0, 60, 27, 42, 180, 0, 57, 27, 46, 79, 42]
abbrev dktX1_image_0 : List UInt8 := dkwX1_image_0 ++ dktX1_image_1
theorem dksX1_image_0 : cX1_image.data.toList.drop 0 = dktX1_image_0 := by decide +kernel
theorem dksX1_image_1 : cX1_image.data.toList.drop 23 = dktX1_image_1 := dk_seg dksX1_image_0 23 rfl rfl
theorem dksX1_image_2 : cX1_image.data.toList.drop 46 = dktX1_image_2 := dk_seg dksX1_image_1 23 rfl rfl
theorem dksX1_image_3 : cX1_image.data.toList.drop 69 = dktX1_image_3 := dk_seg dksX1_image_2 23 rfl rfl
theorem dX1_image_0 : decode cX1_image 0 = .ok (.iconst 0, 1) := dk_3 (dk_at dksX1_image_0 0 rfl rfl)
theorem dX1_image_1 : decode cX1_image 1 = .ok (.istore_n 1, 1) := dk_60 (dk_at dksX1_image_0 1 rfl rfl)
theorem dX1_image_2 : decode cX1_image 2 = .ok (.iload_n 1, 1) := dk_27 (dk_at dksX1_image_0 2 rfl rfl)
theorem dX1_image_3 : decode cX1_image 3 = .ok (.aload_n 0, 1) := dk_42 (dk_at dksX1_image_0 3 rfl rfl)
theorem dX1_image_4 : decode cX1_image 4 = .ok (.getfield 240, 3) := dk_180 0 240 (dk_at dksX1_image_0 4 rfl rfl)
theorem dX1_image_7 : decode cX1_image 7 = .ok (.if_icmp .ge 33, 3) := dk_162 0 33 (dk_at dksX1_image_0 7 rfl rfl)
theorem dX1_image_10 : decode cX1_image 10 = .ok (.aload_n 0, 1) := dk_42 (dk_at dksX1_image_0 10 rfl rfl)
theorem dX1_image_11 : decode cX1_image 11 = .ok (.getfield 60, 3) := dk_180 0 60 (dk_at dksX1_image_0 11 rfl rfl)
theorem dX1_image_14 : decode cX1_image 14 = .ok (.iload_n 1, 1) := dk_27 (dk_at dksX1_image_0 14 rfl rfl)
theorem dX1_image_15 : decode cX1_image 15 = .ok (.aload_n 0, 1) := dk_42 (dk_at dksX1_image_0 15 rfl rfl)
theorem dX1_image_16 : decode cX1_image 16 = .ok (.getfield 57, 3) := dk_180 0 57 (dk_at dksX1_image_0 16 rfl rfl)
theorem dX1_image_19 : decode cX1_image 19 = .ok (.iload_n 1, 1) := dk_27 (dk_at dksX1_image_0 19 rfl rfl)
theorem dX1_image_20 : decode cX1_image 20 = .ok (.iaload, 1) := dk_46 (dk_at dksX1_image_0 20 rfl rfl)
theorem dX1_image_21 : decode cX1_image 21 = .ok (.iastore, 1) := dk_79 (dk_at dksX1_image_0 21 rfl rfl)
theorem dX1_image_22 : decode cX1_image 22 = .ok (.aload_n 0, 1) := dk_42 (dk_at dksX1_image_0 22 rfl rfl)
theorem dX1_image_23 : decode cX1_image 23 = .ok (.getfield 69, 3) := dk_180 0 69 (dk_at dksX1_image_1 0 rfl rfl)
theorem dX1_image_26 : decode cX1_image 26 = .ok (.iload_n 1, 1) := dk_27 (dk_at dksX1_image_1 3 rfl rfl)
theorem dX1_image_27 : decode cX1_image 27 = .ok (.aload_n 0, 1) := dk_42 (dk_at dksX1_image_1 4 rfl rfl)
theorem dX1_image_28 : decode cX1_image 28 = .ok (.getfield 65, 3) := dk_180 0 65 (dk_at dksX1_image_1 5 rfl rfl)
theorem dX1_image_31 : decode cX1_image 31 = .ok (.iload_n 1, 1) := dk_27 (dk_at dksX1_image_1 8 rfl rfl)
theorem dX1_image_32 : decode cX1_image 32 = .ok (.aaload, 1) := dk_50 (dk_at dksX1_image_1 9 rfl rfl)
theorem dX1_image_33 : decode cX1_image 33 = .ok (.aastore, 1) := dk_83 (dk_at dksX1_image_1 10 rfl rfl)
theorem dX1_image_34 : decode cX1_image 34 = .ok (.iinc 1 1, 3) := dk_132 1 1 (dk_at dksX1_image_1 11 rfl rfl)
theorem dX1_image_37 : decode cX1_image 37 = .ok (.goto (-35), 3) := dk_167 255 221 (dk_at dksX1_image_1 14 rfl rfl)
theorem dX1_image_40 : decode cX1_image 40 = .ok (.aload_n 0, 1) := dk_42 (dk_at dksX1_image_1 17 rfl rfl)
theorem dX1_image_41 : decode cX1_image 41 = .ok (.getfield 240, 3) := dk_180 0 240 (dk_at dksX1_image_1 18 rfl rfl)
theorem dX1_image_44 : decode cX1_image 44 = .ok (.istore_n 1, 1) := dk_60 (dk_at dksX1_image_1 21 rfl rfl)
theorem dX1_image_45 : decode cX1_image 45 = .ok (.iload_n 1, 1) := dk_27 (dk_at dksX1_image_1 22 rfl rfl)
theorem dX1_image_46 : decode cX1_image 46 = .ok (.bipush 16, 2) := dk_16 16 (dk_at dksX1_image_2 0 rfl rfl)
theorem dX1_image_48 : decode cX1_image 48 = .ok (.if_icmp .ge 16, 3) := dk_162 0 16 (dk_at dksX1_image_2 2 rfl rfl)
theorem dX1_image_51 : decode cX1_image 51 = .ok (.aload_n 0, 1) := dk_42 (dk_at dksX1_image_2 5 rfl rfl)
theorem dX1_image_52 : decode cX1_image 52 = .ok (.getfield 69, 3) := dk_180 0 69 (dk_at dksX1_image_2 6 rfl rfl)
theorem dX1_image_55 : decode cX1_image 55 = .ok (.iload_n 1, 1) := dk_27 (dk_at dksX1_image_2 9 rfl rfl)
theorem dX1_image_56 : decode cX1_image 56 = .ok (.aconst_null, 1) := dk_1 (dk_at dksX1_image_2 10 rfl rfl)
theorem dX1_image_57 : decode cX1_image 57 = .ok (.aastore, 1) := dk_83 (dk_at dksX1_image_2 11 rfl rfl)
theorem dX1_image_58 : decode cX1_image 58 = .ok (.iinc 1 1, 3) := dk_132 1 1 (dk_at dksX1_image_2 12 rfl rfl)
theorem dX1_image_61 : decode cX1_image 61 = .ok (.goto (-16), 3) := dk_167 255 240 (dk_at dksX1_image_2 15 rfl rfl)
theorem dX1_image_64 : decode cX1_image 64 = .ok (.aload_n 0, 1) := dk_42 (dk_at dksX1_image_2 18 rfl rfl)
theorem dX1_image_65 : decode cX1_image 65 = .ok (.aload_n 0, 1) := dk_42 (dk_at dksX1_image_2 19 rfl rfl)
theorem dX1_image_66 : decode cX1_image 66 = .ok (.getfield 240, 3) := dk_180 0 240 (dk_at dksX1_image_2 20 rfl rfl)
theorem dX1_image_69 : decode cX1_image 69 = .ok (.putfield 72, 3) := dk_181 0 72 (dk_at dksX1_image_3 0 rfl rfl)
theorem dX1_image_72 : decode cX1_image 72 = .ok (.aload_n 0, 1) := dk_42 (dk_at dksX1_image_3 3 rfl rfl)
theorem dX1_image_73 : decode cX1_image 73 = .ok (.getfield 240, 3) := dk_180 0 240 (dk_at dksX1_image_3 4 rfl rfl)
theorem dX1_image_76 : decode cX1_image 76 = .ok (.ireturn, 1) := dk_172 (dk_at dksX1_image_3 7 rfl rfl)
abbrev cX1_back : ByteArray := prog_1_method_109_code
def yX1_back : MethodName := ⟨RX1, "back", "()I"⟩
def dkwX1_back_3 : List UInt8 := [167, 255, 243, 42, 180, 0, 240, 172]
abbrev dktX1_back_3 : List UInt8 := dkwX1_back_3 ++ []
def dkwX1_back_2 : List UInt8 := [27, 50, 83, 132, 1, 1, 167, 255, 223, 3, 60, 27, 7, 162, 0, 14, 42, 27, 182, 0, 249, 132, 1, 1]
abbrev dktX1_back_2 : List UInt8 := dkwX1_back_2 ++ dktX1_back_3
def dkwX1_back_1 : List UInt8 := [162, 0, 33, 42, 180, 0, 57, 27, 42, 180, 0, 60, 27, 46, 79, 42, 180, 0, 65, 27, 42, 180, 0, 69]
abbrev dktX1_back_1 : List UInt8 := dkwX1_back_1 ++ dktX1_back_2
def dkwX1_back_0 : List UInt8 := [42, 180, 0, 72, 2, 160, 0, 5, 2, 172, 42, 42, 180, 0, 72, 181, 0, 240, 3, 60, 27, 16, 16]
abbrev dktX1_back_0 : List UInt8 := dkwX1_back_0 ++ dktX1_back_1
theorem dksX1_back_0 : cX1_back.data.toList.drop 0 = dktX1_back_0 := by decide +kernel
theorem dksX1_back_1 : cX1_back.data.toList.drop 23 = dktX1_back_1 := dk_seg dksX1_back_0 23 rfl rfl
theorem dksX1_back_2 : cX1_back.data.toList.drop 47 = dktX1_back_2 := dk_seg dksX1_back_1 24 rfl rfl
theorem dksX1_back_3 : cX1_back.data.toList.drop 71 = dktX1_back_3 := dk_seg dksX1_back_2 24 rfl rfl
theorem dX1_back_0 : decode cX1_back 0 = .ok (.aload_n 0, 1) := dk_42 (dk_at dksX1_back_0 0 rfl rfl)
theorem dX1_back_1 : decode cX1_back 1 = .ok (.getfield 72, 3) := dk_180 0 72 (dk_at dksX1_back_0 1 rfl rfl)
theorem dX1_back_4 : decode cX1_back 4 = .ok (.iconst (-1), 1) := dk_2 (dk_at dksX1_back_0 4 rfl rfl)
theorem dX1_back_5 : decode cX1_back 5 = .ok (.if_icmp .ne 5, 3) := dk_160 0 5 (dk_at dksX1_back_0 5 rfl rfl)
theorem dX1_back_8 : decode cX1_back 8 = .ok (.iconst (-1), 1) := dk_2 (dk_at dksX1_back_0 8 rfl rfl)
theorem dX1_back_9 : decode cX1_back 9 = .ok (.ireturn, 1) := dk_172 (dk_at dksX1_back_0 9 rfl rfl)
theorem dX1_back_10 : decode cX1_back 10 = .ok (.aload_n 0, 1) := dk_42 (dk_at dksX1_back_0 10 rfl rfl)
theorem dX1_back_11 : decode cX1_back 11 = .ok (.aload_n 0, 1) := dk_42 (dk_at dksX1_back_0 11 rfl rfl)
theorem dX1_back_12 : decode cX1_back 12 = .ok (.getfield 72, 3) := dk_180 0 72 (dk_at dksX1_back_0 12 rfl rfl)
theorem dX1_back_15 : decode cX1_back 15 = .ok (.putfield 240, 3) := dk_181 0 240 (dk_at dksX1_back_0 15 rfl rfl)
theorem dX1_back_18 : decode cX1_back 18 = .ok (.iconst 0, 1) := dk_3 (dk_at dksX1_back_0 18 rfl rfl)
theorem dX1_back_19 : decode cX1_back 19 = .ok (.istore_n 1, 1) := dk_60 (dk_at dksX1_back_0 19 rfl rfl)
theorem dX1_back_20 : decode cX1_back 20 = .ok (.iload_n 1, 1) := dk_27 (dk_at dksX1_back_0 20 rfl rfl)
theorem dX1_back_21 : decode cX1_back 21 = .ok (.bipush 16, 2) := dk_16 16 (dk_at dksX1_back_0 21 rfl rfl)
theorem dX1_back_23 : decode cX1_back 23 = .ok (.if_icmp .ge 33, 3) := dk_162 0 33 (dk_at dksX1_back_1 0 rfl rfl)
theorem dX1_back_26 : decode cX1_back 26 = .ok (.aload_n 0, 1) := dk_42 (dk_at dksX1_back_1 3 rfl rfl)
theorem dX1_back_27 : decode cX1_back 27 = .ok (.getfield 57, 3) := dk_180 0 57 (dk_at dksX1_back_1 4 rfl rfl)
theorem dX1_back_30 : decode cX1_back 30 = .ok (.iload_n 1, 1) := dk_27 (dk_at dksX1_back_1 7 rfl rfl)
theorem dX1_back_31 : decode cX1_back 31 = .ok (.aload_n 0, 1) := dk_42 (dk_at dksX1_back_1 8 rfl rfl)
theorem dX1_back_32 : decode cX1_back 32 = .ok (.getfield 60, 3) := dk_180 0 60 (dk_at dksX1_back_1 9 rfl rfl)
theorem dX1_back_35 : decode cX1_back 35 = .ok (.iload_n 1, 1) := dk_27 (dk_at dksX1_back_1 12 rfl rfl)
theorem dX1_back_36 : decode cX1_back 36 = .ok (.iaload, 1) := dk_46 (dk_at dksX1_back_1 13 rfl rfl)
theorem dX1_back_37 : decode cX1_back 37 = .ok (.iastore, 1) := dk_79 (dk_at dksX1_back_1 14 rfl rfl)
theorem dX1_back_38 : decode cX1_back 38 = .ok (.aload_n 0, 1) := dk_42 (dk_at dksX1_back_1 15 rfl rfl)
theorem dX1_back_39 : decode cX1_back 39 = .ok (.getfield 65, 3) := dk_180 0 65 (dk_at dksX1_back_1 16 rfl rfl)
theorem dX1_back_42 : decode cX1_back 42 = .ok (.iload_n 1, 1) := dk_27 (dk_at dksX1_back_1 19 rfl rfl)
theorem dX1_back_43 : decode cX1_back 43 = .ok (.aload_n 0, 1) := dk_42 (dk_at dksX1_back_1 20 rfl rfl)
theorem dX1_back_44 : decode cX1_back 44 = .ok (.getfield 69, 3) := dk_180 0 69 (dk_at dksX1_back_1 21 rfl rfl)
theorem dX1_back_47 : decode cX1_back 47 = .ok (.iload_n 1, 1) := dk_27 (dk_at dksX1_back_2 0 rfl rfl)
theorem dX1_back_48 : decode cX1_back 48 = .ok (.aaload, 1) := dk_50 (dk_at dksX1_back_2 1 rfl rfl)
theorem dX1_back_49 : decode cX1_back 49 = .ok (.aastore, 1) := dk_83 (dk_at dksX1_back_2 2 rfl rfl)
theorem dX1_back_50 : decode cX1_back 50 = .ok (.iinc 1 1, 3) := dk_132 1 1 (dk_at dksX1_back_2 3 rfl rfl)
theorem dX1_back_53 : decode cX1_back 53 = .ok (.goto (-33), 3) := dk_167 255 223 (dk_at dksX1_back_2 6 rfl rfl)
theorem dX1_back_56 : decode cX1_back 56 = .ok (.iconst 0, 1) := dk_3 (dk_at dksX1_back_2 9 rfl rfl)
theorem dX1_back_57 : decode cX1_back 57 = .ok (.istore_n 1, 1) := dk_60 (dk_at dksX1_back_2 10 rfl rfl)
theorem dX1_back_58 : decode cX1_back 58 = .ok (.iload_n 1, 1) := dk_27 (dk_at dksX1_back_2 11 rfl rfl)
theorem dX1_back_59 : decode cX1_back 59 = .ok (.iconst 4, 1) := dk_7 (dk_at dksX1_back_2 12 rfl rfl)
theorem dX1_back_60 : decode cX1_back 60 = .ok (.if_icmp .ge 14, 3) := dk_162 0 14 (dk_at dksX1_back_2 13 rfl rfl)
theorem dX1_back_63 : decode cX1_back 63 = .ok (.aload_n 0, 1) := dk_42 (dk_at dksX1_back_2 16 rfl rfl)
theorem dX1_back_64 : decode cX1_back 64 = .ok (.iload_n 1, 1) := dk_27 (dk_at dksX1_back_2 17 rfl rfl)
theorem dX1_back_65 : decode cX1_back 65 = .ok (.invokevirtual 249, 3) := dk_182 0 249 (dk_at dksX1_back_2 18 rfl rfl)
theorem dX1_back_68 : decode cX1_back 68 = .ok (.iinc 1 1, 3) := dk_132 1 1 (dk_at dksX1_back_2 21 rfl rfl)
theorem dX1_back_71 : decode cX1_back 71 = .ok (.goto (-13), 3) := dk_167 255 243 (dk_at dksX1_back_3 0 rfl rfl)
theorem dX1_back_74 : decode cX1_back 74 = .ok (.aload_n 0, 1) := dk_42 (dk_at dksX1_back_3 3 rfl rfl)
theorem dX1_back_75 : decode cX1_back 75 = .ok (.getfield 240, 3) := dk_180 0 240 (dk_at dksX1_back_3 4 rfl rfl)
theorem dX1_back_78 : decode cX1_back 78 = .ok (.ireturn, 1) := dk_172 (dk_at dksX1_back_3 7 rfl rfl)
abbrev cX1_count : ByteArray := prog_1_method_112_code
def yX1_count : MethodName := ⟨RX1, "count", "(I)I"⟩
def dkwX1_count_4 : List UInt8 := [167, 0, 12, 42, 182, 1, 244, 167, 0, 5, 18, 174, 172]
abbrev dktX1_count_4 : List UInt8 := dkwX1_count_4 ++ []
def dkwX1_count_3 : List UInt8 := [180, 0, 246, 167, 0, 33, 42, 182, 1, 241, 167, 0, 26, 42, 180, 0, 199, 167, 0, 19, 42, 180, 0, 124]
abbrev dktX1_count_3 : List UInt8 := dkwX1_count_3 ++ dktX1_count_4
def dkwX1_count_2 : List UInt8 := [42, 180, 0, 234, 167, 0, 54, 42, 180, 0, 240, 167, 0, 47, 42, 180, 0, 243, 167, 0, 40, 42]
abbrev dktX1_count_2 : List UInt8 := dkwX1_count_2 ++ dktX1_count_3
def dkwX1_count_1 : List UInt8 := [170, 0, 0, 0, 0, 0, 103, 0, 0, 0, 0, 0, 0, 0, 7, 0, 0, 0, 47, 0, 0, 0, 54, 0, 0, 0, 61, 0, 0, 0, 68, 0, 0, 0, 75, 0, 0, 0, 82, 0, 0, 0, 89, 0, 0, 0, 96]
abbrev dktX1_count_1 : List UInt8 := dkwX1_count_1 ++ dktX1_count_2
def dkwX1_count_0 : List UInt8 := [27]
abbrev dktX1_count_0 : List UInt8 := dkwX1_count_0 ++ dktX1_count_1
theorem dksX1_count_0 : cX1_count.data.toList.drop 0 = dktX1_count_0 := by decide +kernel
theorem dksX1_count_1 : cX1_count.data.toList.drop 1 = dktX1_count_1 := dk_seg dksX1_count_0 1 rfl rfl
theorem dksX1_count_2 : cX1_count.data.toList.drop 48 = dktX1_count_2 := dk_seg dksX1_count_1 47 rfl rfl
theorem dksX1_count_3 : cX1_count.data.toList.drop 70 = dktX1_count_3 := dk_seg dksX1_count_2 22 rfl rfl
theorem dksX1_count_4 : cX1_count.data.toList.drop 94 = dktX1_count_4 := dk_seg dksX1_count_3 24 rfl rfl
theorem dX1_count_0 : decode cX1_count 0 = .ok (.iload_n 1, 1) := dk_27 (dk_at dksX1_count_0 0 rfl rfl)
theorem dX1_count_1 : decode cX1_count 1 = .ok (.tableswitch 103 0 7 #[47, 54, 61, 68, 75, 82, 89, 96], 47) := by decide +kernel
theorem dX1_count_48 : decode cX1_count 48 = .ok (.aload_n 0, 1) := dk_42 (dk_at dksX1_count_2 0 rfl rfl)
theorem dX1_count_49 : decode cX1_count 49 = .ok (.getfield 234, 3) := dk_180 0 234 (dk_at dksX1_count_2 1 rfl rfl)
theorem dX1_count_52 : decode cX1_count 52 = .ok (.goto 54, 3) := dk_167 0 54 (dk_at dksX1_count_2 4 rfl rfl)
theorem dX1_count_55 : decode cX1_count 55 = .ok (.aload_n 0, 1) := dk_42 (dk_at dksX1_count_2 7 rfl rfl)
theorem dX1_count_56 : decode cX1_count 56 = .ok (.getfield 240, 3) := dk_180 0 240 (dk_at dksX1_count_2 8 rfl rfl)
theorem dX1_count_59 : decode cX1_count 59 = .ok (.goto 47, 3) := dk_167 0 47 (dk_at dksX1_count_2 11 rfl rfl)
theorem dX1_count_62 : decode cX1_count 62 = .ok (.aload_n 0, 1) := dk_42 (dk_at dksX1_count_2 14 rfl rfl)
theorem dX1_count_63 : decode cX1_count 63 = .ok (.getfield 243, 3) := dk_180 0 243 (dk_at dksX1_count_2 15 rfl rfl)
theorem dX1_count_66 : decode cX1_count 66 = .ok (.goto 40, 3) := dk_167 0 40 (dk_at dksX1_count_2 18 rfl rfl)
theorem dX1_count_69 : decode cX1_count 69 = .ok (.aload_n 0, 1) := dk_42 (dk_at dksX1_count_2 21 rfl rfl)
theorem dX1_count_70 : decode cX1_count 70 = .ok (.getfield 246, 3) := dk_180 0 246 (dk_at dksX1_count_3 0 rfl rfl)
theorem dX1_count_73 : decode cX1_count 73 = .ok (.goto 33, 3) := dk_167 0 33 (dk_at dksX1_count_3 3 rfl rfl)
theorem dX1_count_76 : decode cX1_count 76 = .ok (.aload_n 0, 1) := dk_42 (dk_at dksX1_count_3 6 rfl rfl)
theorem dX1_count_77 : decode cX1_count 77 = .ok (.invokevirtual 497, 3) := dk_182 1 241 (dk_at dksX1_count_3 7 rfl rfl)
theorem dX1_count_80 : decode cX1_count 80 = .ok (.goto 26, 3) := dk_167 0 26 (dk_at dksX1_count_3 10 rfl rfl)
theorem dX1_count_83 : decode cX1_count 83 = .ok (.aload_n 0, 1) := dk_42 (dk_at dksX1_count_3 13 rfl rfl)
theorem dX1_count_84 : decode cX1_count 84 = .ok (.getfield 199, 3) := dk_180 0 199 (dk_at dksX1_count_3 14 rfl rfl)
theorem dX1_count_87 : decode cX1_count 87 = .ok (.goto 19, 3) := dk_167 0 19 (dk_at dksX1_count_3 17 rfl rfl)
theorem dX1_count_90 : decode cX1_count 90 = .ok (.aload_n 0, 1) := dk_42 (dk_at dksX1_count_3 20 rfl rfl)
theorem dX1_count_91 : decode cX1_count 91 = .ok (.getfield 124, 3) := dk_180 0 124 (dk_at dksX1_count_3 21 rfl rfl)
theorem dX1_count_94 : decode cX1_count 94 = .ok (.goto 12, 3) := dk_167 0 12 (dk_at dksX1_count_4 0 rfl rfl)
theorem dX1_count_97 : decode cX1_count 97 = .ok (.aload_n 0, 1) := dk_42 (dk_at dksX1_count_4 3 rfl rfl)
theorem dX1_count_98 : decode cX1_count 98 = .ok (.invokevirtual 500, 3) := dk_182 1 244 (dk_at dksX1_count_4 4 rfl rfl)
theorem dX1_count_101 : decode cX1_count 101 = .ok (.goto 5, 3) := dk_167 0 5 (dk_at dksX1_count_4 7 rfl rfl)
theorem dX1_count_104 : decode cX1_count 104 = .ok (.ldc 174, 2) := dk_18 174 (dk_at dksX1_count_4 10 rfl rfl)
theorem dX1_count_106 : decode cX1_count 106 = .ok (.ireturn, 1) := dk_172 (dk_at dksX1_count_4 12 rfl rfl)
abbrev cX1_live : ByteArray := prog_1_method_110_code
def yX1_live : MethodName := ⟨RX1, "live", "()I"⟩
def dkwX1_live_3 : List UInt8 := [180, 1, 136, 1, 185, 1, 7, 4, 0, 96, 60, 132, 2, 1, 167, 255, 220, 27, 172]
abbrev dktX1_live_3 : List UInt8 := dkwX1_live_3 ++ []
def dkwX1_live_2 : List UInt8 := [3, 61, 28, 7, 162, 0, 37, 42, 28, 182, 1, 163, 154, 0, 23, 27, 42, 180, 0, 85, 28, 50, 6, 42]
abbrev dktX1_live_2 : List UInt8 := dkwX1_live_2 ++ dktX1_live_3
def dkwX1_live_1 : List UInt8 := [180, 0, 65, 28, 50, 6, 42, 180, 1, 136, 1, 185, 1, 7, 4, 0, 96, 60, 132, 2, 1, 167, 255, 225]
abbrev dktX1_live_1 : List UInt8 := dkwX1_live_1 ++ dktX1_live_2
def dkwX1_live_0 : List UInt8 := [42, 89, 180, 1, 136, 4, 96, 181, 1, 136, 3, 60, 3, 61, 28, 42, 180, 0, 240, 162, 0, 29, 27, 42]
abbrev dktX1_live_0 : List UInt8 := dkwX1_live_0 ++ dktX1_live_1
theorem dksX1_live_0 : cX1_live.data.toList.drop 0 = dktX1_live_0 := by decide +kernel
theorem dksX1_live_1 : cX1_live.data.toList.drop 24 = dktX1_live_1 := dk_seg dksX1_live_0 24 rfl rfl
theorem dksX1_live_2 : cX1_live.data.toList.drop 48 = dktX1_live_2 := dk_seg dksX1_live_1 24 rfl rfl
theorem dksX1_live_3 : cX1_live.data.toList.drop 72 = dktX1_live_3 := dk_seg dksX1_live_2 24 rfl rfl
theorem dX1_live_0 : decode cX1_live 0 = .ok (.aload_n 0, 1) := dk_42 (dk_at dksX1_live_0 0 rfl rfl)
theorem dX1_live_1 : decode cX1_live 1 = .ok (.dup, 1) := dk_89 (dk_at dksX1_live_0 1 rfl rfl)
theorem dX1_live_2 : decode cX1_live 2 = .ok (.getfield 392, 3) := dk_180 1 136 (dk_at dksX1_live_0 2 rfl rfl)
theorem dX1_live_5 : decode cX1_live 5 = .ok (.iconst 1, 1) := dk_4 (dk_at dksX1_live_0 5 rfl rfl)
theorem dX1_live_6 : decode cX1_live 6 = .ok (.iadd, 1) := dk_96 (dk_at dksX1_live_0 6 rfl rfl)
theorem dX1_live_7 : decode cX1_live 7 = .ok (.putfield 392, 3) := dk_181 1 136 (dk_at dksX1_live_0 7 rfl rfl)
theorem dX1_live_10 : decode cX1_live 10 = .ok (.iconst 0, 1) := dk_3 (dk_at dksX1_live_0 10 rfl rfl)
theorem dX1_live_11 : decode cX1_live 11 = .ok (.istore_n 1, 1) := dk_60 (dk_at dksX1_live_0 11 rfl rfl)
theorem dX1_live_12 : decode cX1_live 12 = .ok (.iconst 0, 1) := dk_3 (dk_at dksX1_live_0 12 rfl rfl)
theorem dX1_live_13 : decode cX1_live 13 = .ok (.istore_n 2, 1) := dk_61 (dk_at dksX1_live_0 13 rfl rfl)
theorem dX1_live_14 : decode cX1_live 14 = .ok (.iload_n 2, 1) := dk_28 (dk_at dksX1_live_0 14 rfl rfl)
theorem dX1_live_15 : decode cX1_live 15 = .ok (.aload_n 0, 1) := dk_42 (dk_at dksX1_live_0 15 rfl rfl)
theorem dX1_live_16 : decode cX1_live 16 = .ok (.getfield 240, 3) := dk_180 0 240 (dk_at dksX1_live_0 16 rfl rfl)
theorem dX1_live_19 : decode cX1_live 19 = .ok (.if_icmp .ge 29, 3) := dk_162 0 29 (dk_at dksX1_live_0 19 rfl rfl)
theorem dX1_live_22 : decode cX1_live 22 = .ok (.iload_n 1, 1) := dk_27 (dk_at dksX1_live_0 22 rfl rfl)
theorem dX1_live_23 : decode cX1_live 23 = .ok (.aload_n 0, 1) := dk_42 (dk_at dksX1_live_0 23 rfl rfl)
theorem dX1_live_24 : decode cX1_live 24 = .ok (.getfield 65, 3) := dk_180 0 65 (dk_at dksX1_live_1 0 rfl rfl)
theorem dX1_live_27 : decode cX1_live 27 = .ok (.iload_n 2, 1) := dk_28 (dk_at dksX1_live_1 3 rfl rfl)
theorem dX1_live_28 : decode cX1_live 28 = .ok (.aaload, 1) := dk_50 (dk_at dksX1_live_1 4 rfl rfl)
theorem dX1_live_29 : decode cX1_live 29 = .ok (.iconst 3, 1) := dk_6 (dk_at dksX1_live_1 5 rfl rfl)
theorem dX1_live_30 : decode cX1_live 30 = .ok (.aload_n 0, 1) := dk_42 (dk_at dksX1_live_1 6 rfl rfl)
theorem dX1_live_31 : decode cX1_live 31 = .ok (.getfield 392, 3) := dk_180 1 136 (dk_at dksX1_live_1 7 rfl rfl)
theorem dX1_live_34 : decode cX1_live 34 = .ok (.aconst_null, 1) := dk_1 (dk_at dksX1_live_1 10 rfl rfl)
theorem dX1_live_35 : decode cX1_live 35 = .ok (.invokeinterface 263 4, 5) := by decide +kernel
theorem dX1_live_40 : decode cX1_live 40 = .ok (.iadd, 1) := dk_96 (dk_at dksX1_live_1 16 rfl rfl)
theorem dX1_live_41 : decode cX1_live 41 = .ok (.istore_n 1, 1) := dk_60 (dk_at dksX1_live_1 17 rfl rfl)
theorem dX1_live_42 : decode cX1_live 42 = .ok (.iinc 2 1, 3) := dk_132 2 1 (dk_at dksX1_live_1 18 rfl rfl)
theorem dX1_live_45 : decode cX1_live 45 = .ok (.goto (-31), 3) := dk_167 255 225 (dk_at dksX1_live_1 21 rfl rfl)
theorem dX1_live_48 : decode cX1_live 48 = .ok (.iconst 0, 1) := dk_3 (dk_at dksX1_live_2 0 rfl rfl)
theorem dX1_live_49 : decode cX1_live 49 = .ok (.istore_n 2, 1) := dk_61 (dk_at dksX1_live_2 1 rfl rfl)
theorem dX1_live_50 : decode cX1_live 50 = .ok (.iload_n 2, 1) := dk_28 (dk_at dksX1_live_2 2 rfl rfl)
theorem dX1_live_51 : decode cX1_live 51 = .ok (.iconst 4, 1) := dk_7 (dk_at dksX1_live_2 3 rfl rfl)
theorem dX1_live_52 : decode cX1_live 52 = .ok (.if_icmp .ge 37, 3) := dk_162 0 37 (dk_at dksX1_live_2 4 rfl rfl)
theorem dX1_live_55 : decode cX1_live 55 = .ok (.aload_n 0, 1) := dk_42 (dk_at dksX1_live_2 7 rfl rfl)
theorem dX1_live_56 : decode cX1_live 56 = .ok (.iload_n 2, 1) := dk_28 (dk_at dksX1_live_2 8 rfl rfl)
theorem dX1_live_57 : decode cX1_live 57 = .ok (.invokevirtual 419, 3) := dk_182 1 163 (dk_at dksX1_live_2 9 rfl rfl)
theorem dX1_live_60 : decode cX1_live 60 = .ok (.ifCond .ne 23, 3) := dk_154 0 23 (dk_at dksX1_live_2 12 rfl rfl)
theorem dX1_live_63 : decode cX1_live 63 = .ok (.iload_n 1, 1) := dk_27 (dk_at dksX1_live_2 15 rfl rfl)
theorem dX1_live_64 : decode cX1_live 64 = .ok (.aload_n 0, 1) := dk_42 (dk_at dksX1_live_2 16 rfl rfl)
theorem dX1_live_65 : decode cX1_live 65 = .ok (.getfield 85, 3) := dk_180 0 85 (dk_at dksX1_live_2 17 rfl rfl)
theorem dX1_live_68 : decode cX1_live 68 = .ok (.iload_n 2, 1) := dk_28 (dk_at dksX1_live_2 20 rfl rfl)
theorem dX1_live_69 : decode cX1_live 69 = .ok (.aaload, 1) := dk_50 (dk_at dksX1_live_2 21 rfl rfl)
theorem dX1_live_70 : decode cX1_live 70 = .ok (.iconst 3, 1) := dk_6 (dk_at dksX1_live_2 22 rfl rfl)
theorem dX1_live_71 : decode cX1_live 71 = .ok (.aload_n 0, 1) := dk_42 (dk_at dksX1_live_2 23 rfl rfl)
theorem dX1_live_72 : decode cX1_live 72 = .ok (.getfield 392, 3) := dk_180 1 136 (dk_at dksX1_live_3 0 rfl rfl)
theorem dX1_live_75 : decode cX1_live 75 = .ok (.aconst_null, 1) := dk_1 (dk_at dksX1_live_3 3 rfl rfl)
theorem dX1_live_76 : decode cX1_live 76 = .ok (.invokeinterface 263 4, 5) := by decide +kernel
theorem dX1_live_81 : decode cX1_live 81 = .ok (.iadd, 1) := dk_96 (dk_at dksX1_live_3 9 rfl rfl)
theorem dX1_live_82 : decode cX1_live 82 = .ok (.istore_n 1, 1) := dk_60 (dk_at dksX1_live_3 10 rfl rfl)
theorem dX1_live_83 : decode cX1_live 83 = .ok (.iinc 2 1, 3) := dk_132 2 1 (dk_at dksX1_live_3 11 rfl rfl)
theorem dX1_live_86 : decode cX1_live 86 = .ok (.goto (-36), 3) := dk_167 255 220 (dk_at dksX1_live_3 14 rfl rfl)
theorem dX1_live_89 : decode cX1_live 89 = .ok (.iload_n 1, 1) := dk_27 (dk_at dksX1_live_3 17 rfl rfl)
theorem dX1_live_90 : decode cX1_live 90 = .ok (.ireturn, 1) := dk_172 (dk_at dksX1_live_3 18 rfl rfl)
abbrev cX1_fresh : ByteArray := prog_1_method_111_code
def yX1_fresh : MethodName := ⟨RX1, "fresh", "()I"⟩
def dkwX1_fresh_1 : List UInt8 := [132, 2, 1, 167, 255, 234, 27, 172]
abbrev dktX1_fresh_1 : List UInt8 := dkwX1_fresh_1 ++ []
def dkwX1_fresh_0 : List UInt8 := [3, 60, 3, 61, 28, 7, 162, 0, 23, 42, 28, 182, 1, 163, 154, 0, 9, 27, 4, 28, 120, 128, 60]
abbrev dktX1_fresh_0 : List UInt8 := dkwX1_fresh_0 ++ dktX1_fresh_1
theorem dksX1_fresh_0 : cX1_fresh.data.toList.drop 0 = dktX1_fresh_0 := by decide +kernel
theorem dksX1_fresh_1 : cX1_fresh.data.toList.drop 23 = dktX1_fresh_1 := dk_seg dksX1_fresh_0 23 rfl rfl
theorem dX1_fresh_0 : decode cX1_fresh 0 = .ok (.iconst 0, 1) := dk_3 (dk_at dksX1_fresh_0 0 rfl rfl)
theorem dX1_fresh_1 : decode cX1_fresh 1 = .ok (.istore_n 1, 1) := dk_60 (dk_at dksX1_fresh_0 1 rfl rfl)
theorem dX1_fresh_2 : decode cX1_fresh 2 = .ok (.iconst 0, 1) := dk_3 (dk_at dksX1_fresh_0 2 rfl rfl)
theorem dX1_fresh_3 : decode cX1_fresh 3 = .ok (.istore_n 2, 1) := dk_61 (dk_at dksX1_fresh_0 3 rfl rfl)
theorem dX1_fresh_4 : decode cX1_fresh 4 = .ok (.iload_n 2, 1) := dk_28 (dk_at dksX1_fresh_0 4 rfl rfl)
theorem dX1_fresh_5 : decode cX1_fresh 5 = .ok (.iconst 4, 1) := dk_7 (dk_at dksX1_fresh_0 5 rfl rfl)
theorem dX1_fresh_6 : decode cX1_fresh 6 = .ok (.if_icmp .ge 23, 3) := dk_162 0 23 (dk_at dksX1_fresh_0 6 rfl rfl)
theorem dX1_fresh_9 : decode cX1_fresh 9 = .ok (.aload_n 0, 1) := dk_42 (dk_at dksX1_fresh_0 9 rfl rfl)
theorem dX1_fresh_10 : decode cX1_fresh 10 = .ok (.iload_n 2, 1) := dk_28 (dk_at dksX1_fresh_0 10 rfl rfl)
theorem dX1_fresh_11 : decode cX1_fresh 11 = .ok (.invokevirtual 419, 3) := dk_182 1 163 (dk_at dksX1_fresh_0 11 rfl rfl)
theorem dX1_fresh_14 : decode cX1_fresh 14 = .ok (.ifCond .ne 9, 3) := dk_154 0 9 (dk_at dksX1_fresh_0 14 rfl rfl)
theorem dX1_fresh_17 : decode cX1_fresh 17 = .ok (.iload_n 1, 1) := dk_27 (dk_at dksX1_fresh_0 17 rfl rfl)
theorem dX1_fresh_18 : decode cX1_fresh 18 = .ok (.iconst 1, 1) := dk_4 (dk_at dksX1_fresh_0 18 rfl rfl)
theorem dX1_fresh_19 : decode cX1_fresh 19 = .ok (.iload_n 2, 1) := dk_28 (dk_at dksX1_fresh_0 19 rfl rfl)
theorem dX1_fresh_20 : decode cX1_fresh 20 = .ok (.ishl, 1) := dk_120 (dk_at dksX1_fresh_0 20 rfl rfl)
theorem dX1_fresh_21 : decode cX1_fresh 21 = .ok (.ior, 1) := dk_128 (dk_at dksX1_fresh_0 21 rfl rfl)
theorem dX1_fresh_22 : decode cX1_fresh 22 = .ok (.istore_n 1, 1) := dk_60 (dk_at dksX1_fresh_0 22 rfl rfl)
theorem dX1_fresh_23 : decode cX1_fresh 23 = .ok (.iinc 2 1, 3) := dk_132 2 1 (dk_at dksX1_fresh_1 0 rfl rfl)
theorem dX1_fresh_26 : decode cX1_fresh 26 = .ok (.goto (-22), 3) := dk_167 255 234 (dk_at dksX1_fresh_1 3 rfl rfl)
theorem dX1_fresh_29 : decode cX1_fresh 29 = .ok (.iload_n 1, 1) := dk_27 (dk_at dksX1_fresh_1 6 rfl rfl)
theorem dX1_fresh_30 : decode cX1_fresh 30 = .ok (.ireturn, 1) := dk_172 (dk_at dksX1_fresh_1 7 rfl rfl)
abbrev cX1_key : ByteArray := prog_1_method_48_code
def yX1_key : MethodName := ⟨RX1, "key", "(II)I"⟩
def dkwX1_key_1 : List UInt8 := [154, 0, 11, 187, 1, 83, 89, 183, 1, 85, 191, 42, 180, 0, 97, 28, 46, 172]
abbrev dktX1_key_1 : List UInt8 := dkwX1_key_1 ++ []
def dkwX1_key_0 : List UInt8 := [42, 27, 182, 1, 77, 153, 0, 22, 28, 3, 42, 42, 27, 182, 1, 80, 182, 1, 68, 4, 100, 184, 0, 127]
abbrev dktX1_key_0 : List UInt8 := dkwX1_key_0 ++ dktX1_key_1
theorem dksX1_key_0 : cX1_key.data.toList.drop 0 = dktX1_key_0 := by decide +kernel
theorem dksX1_key_1 : cX1_key.data.toList.drop 24 = dktX1_key_1 := dk_seg dksX1_key_0 24 rfl rfl
theorem dX1_key_0 : decode cX1_key 0 = .ok (.aload_n 0, 1) := dk_42 (dk_at dksX1_key_0 0 rfl rfl)
theorem dX1_key_1 : decode cX1_key 1 = .ok (.iload_n 1, 1) := dk_27 (dk_at dksX1_key_0 1 rfl rfl)
theorem dX1_key_2 : decode cX1_key 2 = .ok (.invokevirtual 333, 3) := dk_182 1 77 (dk_at dksX1_key_0 2 rfl rfl)
theorem dX1_key_5 : decode cX1_key 5 = .ok (.ifCond .eq 22, 3) := dk_153 0 22 (dk_at dksX1_key_0 5 rfl rfl)
theorem dX1_key_8 : decode cX1_key 8 = .ok (.iload_n 2, 1) := dk_28 (dk_at dksX1_key_0 8 rfl rfl)
theorem dX1_key_9 : decode cX1_key 9 = .ok (.iconst 0, 1) := dk_3 (dk_at dksX1_key_0 9 rfl rfl)
theorem dX1_key_10 : decode cX1_key 10 = .ok (.aload_n 0, 1) := dk_42 (dk_at dksX1_key_0 10 rfl rfl)
theorem dX1_key_11 : decode cX1_key 11 = .ok (.aload_n 0, 1) := dk_42 (dk_at dksX1_key_0 11 rfl rfl)
theorem dX1_key_12 : decode cX1_key 12 = .ok (.iload_n 1, 1) := dk_27 (dk_at dksX1_key_0 12 rfl rfl)
theorem dX1_key_13 : decode cX1_key 13 = .ok (.invokevirtual 336, 3) := dk_182 1 80 (dk_at dksX1_key_0 13 rfl rfl)
theorem dX1_key_16 : decode cX1_key 16 = .ok (.invokevirtual 324, 3) := dk_182 1 68 (dk_at dksX1_key_0 16 rfl rfl)
theorem dX1_key_19 : decode cX1_key 19 = .ok (.iconst 1, 1) := dk_4 (dk_at dksX1_key_0 19 rfl rfl)
theorem dX1_key_20 : decode cX1_key 20 = .ok (.isub, 1) := dk_100 (dk_at dksX1_key_0 20 rfl rfl)
theorem dX1_key_21 : decode cX1_key 21 = .ok (.invokestatic 127, 3) := dk_184 0 127 (dk_at dksX1_key_0 21 rfl rfl)
theorem dX1_key_24 : decode cX1_key 24 = .ok (.ifCond .ne 11, 3) := dk_154 0 11 (dk_at dksX1_key_1 0 rfl rfl)
theorem dX1_key_27 : decode cX1_key 27 = .ok (.new 339, 3) := dk_187 1 83 (dk_at dksX1_key_1 3 rfl rfl)
theorem dX1_key_30 : decode cX1_key 30 = .ok (.dup, 1) := dk_89 (dk_at dksX1_key_1 6 rfl rfl)
theorem dX1_key_31 : decode cX1_key 31 = .ok (.invokespecial 341, 3) := dk_183 1 85 (dk_at dksX1_key_1 7 rfl rfl)
theorem dX1_key_34 : decode cX1_key 34 = .ok (.athrow, 1) := dk_191 (dk_at dksX1_key_1 10 rfl rfl)
theorem dX1_key_35 : decode cX1_key 35 = .ok (.aload_n 0, 1) := dk_42 (dk_at dksX1_key_1 11 rfl rfl)
theorem dX1_key_36 : decode cX1_key 36 = .ok (.getfield 97, 3) := dk_180 0 97 (dk_at dksX1_key_1 12 rfl rfl)
theorem dX1_key_39 : decode cX1_key 39 = .ok (.iload_n 2, 1) := dk_28 (dk_at dksX1_key_1 15 rfl rfl)
theorem dX1_key_40 : decode cX1_key 40 = .ok (.iaload, 1) := dk_46 (dk_at dksX1_key_1 16 rfl rfl)
theorem dX1_key_41 : decode cX1_key 41 = .ok (.ireturn, 1) := dk_172 (dk_at dksX1_key_1 17 rfl rfl)
theorem q131 : (Jvm.Cond.initialized "WideMap") ∈ lw_all := lw_g (lw_at lw_m1 1 rfl) rfl
theorem q159 : (Jvm.Cond.instantiable "WideMap" (38 : Nat)) ∈ lw_all := lw_g (lw_at lw_m1 29 rfl) rfl
theorem q161 : (Jvm.Cond.instanceMethod ({ cls := "WideMap", name := "<init>", desc := "()V" } : Jvm.MethodName)) ∈ lw_all := lw_g (lw_at lw_m1 31 rfl) rfl
theorem q162 : (Jvm.Cond.code ({ cls := "WideMap", name := "<init>", desc := "()V" } : Jvm.MethodName) prog_1_method_3_code (1 : Nat) (Option.none : Option Jvm.ClassFile.FieldType)) ∈ lw_all := lw_g (lw_at lw_m1 32 rfl) rfl
theorem q163 : (Jvm.Cond.methodLink "WideMap" (12 : Nat) ({ cls := "java/lang/Object", name := "<init>", desc := "()V" } : Jvm.MethodName)) ∈ lw_all := lw_g (lw_at lw_m1 33 rfl) rfl
theorem q166 : (Jvm.Cond.classLink "WideMap" (18 : Nat) "java/lang/String") ∈ lw_all := lw_g (lw_at lw_m1 36 rfl) rfl
theorem q168 : (Jvm.Cond.stringRef "WideMap" (20 : Nat) "put") ∈ lw_tbl := lw_at lw_m1 38 rfl
theorem q169 : (Jvm.Cond.stringRef "WideMap" (22 : Nat) "del") ∈ lw_tbl := lw_at lw_m1 39 rfl
theorem q170 : (Jvm.Cond.stringRef "WideMap" (24 : Nat) "add") ∈ lw_tbl := lw_at lw_m1 40 rfl
theorem q171 : (Jvm.Cond.stringRef "WideMap" (26 : Nat) "cut") ∈ lw_tbl := lw_at lw_m1 41 rfl
theorem q172 : (Jvm.Cond.stringRef "WideMap" (28 : Nat) "inc") ∈ lw_tbl := lw_at lw_m1 42 rfl
theorem q173 : (Jvm.Cond.stringRef "WideMap" (30 : Nat) "snap") ∈ lw_tbl := lw_at lw_m1 43 rfl
theorem q174 : (Jvm.Cond.classLink "WideMap" (36 : Nat) "WideMap$Fault") ∈ lw_all := lw_g (lw_at lw_m1 44 rfl) rfl
theorem q212 : (Jvm.Cond.methodLinkNest "WideMap" (38 : Nat) ({ cls := "WideMap$Fault", name := "<init>", desc := "()V" } : Jvm.MethodName) "WideMap") ∈ lw_tbl := lw_at lw_m1 82 rfl
theorem q232 : (Jvm.Cond.classLink "WideMap" (63 : Nat) "WideMap$Node") ∈ lw_all := lw_g (lw_at lw_m1 102 rfl) rfl
theorem q234 : (Jvm.Cond.classLink "WideMap" (88 : Nat) "WideMap$Token") ∈ lw_all := lw_g (lw_at lw_m1 104 rfl) rfl
theorem q236 : (Jvm.Cond.stringRef "WideMap" (110 : Nat) "") ∈ lw_tbl := lw_at lw_m1 106 rfl
theorem q237 : (Jvm.Cond.methodLink "WideMap" (116 : Nat) ({ cls := "WideMap", name := "opens", desc := "(I)V" } : Jvm.MethodName)) ∈ lw_all := lw_g (lw_at lw_m1 107 rfl) rfl
theorem q238 : (Jvm.Cond.privateMethod ({ cls := "WideMap", name := "opens", desc := "(I)V" } : Jvm.MethodName)) ∈ lw_tbl := lw_at lw_m1 108 rfl
theorem q239 : (Jvm.Cond.instanceMethod ({ cls := "WideMap", name := "opens", desc := "(I)V" } : Jvm.MethodName)) ∈ lw_all := lw_g (lw_at lw_m1 109 rfl) rfl
theorem q240 : (Jvm.Cond.code ({ cls := "WideMap", name := "opens", desc := "(I)V" } : Jvm.MethodName) prog_1_method_22_code (3 : Nat) (Option.none : Option Jvm.ClassFile.FieldType)) ∈ lw_all := lw_g (lw_at lw_m1 110 rfl) rfl
theorem q241 : (Jvm.Cond.methodLink "WideMap" (249 : Nat) ({ cls := "WideMap", name := "stales", desc := "(I)V" } : Jvm.MethodName)) ∈ lw_all := lw_g (lw_at lw_m1 111 rfl) rfl
theorem q242 : (Jvm.Cond.privateMethod ({ cls := "WideMap", name := "stales", desc := "(I)V" } : Jvm.MethodName)) ∈ lw_tbl := lw_at lw_m1 112 rfl
theorem q243 : (Jvm.Cond.instanceMethod ({ cls := "WideMap", name := "stales", desc := "(I)V" } : Jvm.MethodName)) ∈ lw_all := lw_g (lw_at lw_m1 113 rfl) rfl
theorem q244 : (Jvm.Cond.code ({ cls := "WideMap", name := "stales", desc := "(I)V" } : Jvm.MethodName) prog_1_method_23_code (2 : Nat) (Option.none : Option Jvm.ClassFile.FieldType)) ∈ lw_all := lw_g (lw_at lw_m1 114 rfl) rfl
theorem q245 : (Jvm.Cond.fieldLink "WideMap" (32 : Nat) "WideMap" "words" "[Ljava/lang/String;") ∈ lw_all := lw_g (lw_at lw_m1 115 rfl) rfl
theorem q246 : (Jvm.Cond.fieldLink "WideMap" (39 : Nat) "WideMap" "fault" "LWideMap$Fault;") ∈ lw_all := lw_g (lw_at lw_m1 116 rfl) rfl
theorem q247 : (Jvm.Cond.fieldLink "WideMap" (43 : Nat) "WideMap" "tape" "[B") ∈ lw_all := lw_g (lw_at lw_m1 117 rfl) rfl
theorem q248 : (Jvm.Cond.fieldLink "WideMap" (124 : Nat) "WideMap" "taped" "I") ∈ lw_all := lw_g (lw_at lw_m1 118 rfl) rfl
theorem q249 : (Jvm.Cond.fieldLink "WideMap" (131 : Nat) "WideMap" "place" "I") ∈ lw_all := lw_g (lw_at lw_m1 119 rfl) rfl
theorem q250 : (Jvm.Cond.fieldLink "WideMap" (47 : Nat) "WideMap" "programs" "[I") ∈ lw_all := lw_g (lw_at lw_m1 120 rfl) rfl
theorem q251 : (Jvm.Cond.fieldLink "WideMap" (51 : Nat) "WideMap" "programLong" "[I") ∈ lw_all := lw_g (lw_at lw_m1 121 rfl) rfl
theorem q252 : (Jvm.Cond.fieldLink "WideMap" (199 : Nat) "WideMap" "programMany" "I") ∈ lw_all := lw_g (lw_at lw_m1 122 rfl) rfl
theorem q253 : (Jvm.Cond.fieldLink "WideMap" (54 : Nat) "WideMap" "entries" "[I") ∈ lw_all := lw_g (lw_at lw_m1 123 rfl) rfl
theorem q254 : (Jvm.Cond.fieldLink "WideMap" (190 : Nat) "WideMap" "entryMany" "I") ∈ lw_all := lw_g (lw_at lw_m1 124 rfl) rfl
theorem q255 : (Jvm.Cond.fieldLink "WideMap" (57 : Nat) "WideMap" "numbers" "[I") ∈ lw_all := lw_g (lw_at lw_m1 125 rfl) rfl
theorem q256 : (Jvm.Cond.fieldLink "WideMap" (60 : Nat) "WideMap" "imageNumbers" "[I") ∈ lw_all := lw_g (lw_at lw_m1 126 rfl) rfl
theorem q257 : (Jvm.Cond.fieldLink "WideMap" (65 : Nat) "WideMap" "roots" "[LWideMap$Node;") ∈ lw_all := lw_g (lw_at lw_m1 127 rfl) rfl
theorem q258 : (Jvm.Cond.fieldLink "WideMap" (69 : Nat) "WideMap" "imageRoots" "[LWideMap$Node;") ∈ lw_all := lw_g (lw_at lw_m1 128 rfl) rfl
theorem q259 : (Jvm.Cond.fieldLink "WideMap" (240 : Nat) "WideMap" "heldMany" "I") ∈ lw_all := lw_g (lw_at lw_m1 129 rfl) rfl
theorem q260 : (Jvm.Cond.fieldLink "WideMap" (243 : Nat) "WideMap" "given" "I") ∈ lw_all := lw_g (lw_at lw_m1 130 rfl) rfl
theorem q262 : (Jvm.Cond.fieldLink "WideMap" (246 : Nat) "WideMap" "made" "I") ∈ lw_all := lw_g (lw_at lw_m1 132 rfl) rfl
theorem q263 : (Jvm.Cond.fieldLink "WideMap" (234 : Nat) "WideMap" "width" "I") ∈ lw_all := lw_g (lw_at lw_m1 133 rfl) rfl
theorem q264 : (Jvm.Cond.fieldLink "WideMap" (237 : Nat) "WideMap" "least" "I") ∈ lw_all := lw_g (lw_at lw_m1 134 rfl) rfl
theorem q265 : (Jvm.Cond.fieldLink "WideMap" (72 : Nat) "WideMap" "imageMany" "I") ∈ lw_all := lw_g (lw_at lw_m1 135 rfl) rfl
theorem q266 : (Jvm.Cond.fieldLink "WideMap" (392 : Nat) "WideMap" "stamps" "I") ∈ lw_all := lw_g (lw_at lw_m1 136 rfl) rfl
theorem q267 : (Jvm.Cond.fieldLink "WideMap" (76 : Nat) "WideMap" "fromOne" "[I") ∈ lw_all := lw_g (lw_at lw_m1 137 rfl) rfl
theorem q268 : (Jvm.Cond.fieldLink "WideMap" (79 : Nat) "WideMap" "fromOther" "[I") ∈ lw_all := lw_g (lw_at lw_m1 138 rfl) rfl
theorem q269 : (Jvm.Cond.fieldLink "WideMap" (82 : Nat) "WideMap" "refused" "[I") ∈ lw_all := lw_g (lw_at lw_m1 139 rfl) rfl
theorem q270 : (Jvm.Cond.fieldLink "WideMap" (85 : Nat) "WideMap" "builders" "[LWideMap$Node;") ∈ lw_all := lw_g (lw_at lw_m1 140 rfl) rfl
theorem q271 : (Jvm.Cond.fieldLink "WideMap" (90 : Nat) "WideMap" "tokens" "[LWideMap$Token;") ∈ lw_all := lw_g (lw_at lw_m1 141 rfl) rfl
theorem q272 : (Jvm.Cond.fieldLink "WideMap" (94 : Nat) "WideMap" "built" "[I") ∈ lw_all := lw_g (lw_at lw_m1 142 rfl) rfl
theorem q273 : (Jvm.Cond.fieldLink "WideMap" (226 : Nat) "WideMap" "workRoot" "LWideMap$Node;") ∈ lw_all := lw_g (lw_at lw_m1 143 rfl) rfl
theorem q274 : (Jvm.Cond.fieldLink "WideMap" (255 : Nat) "WideMap" "workToken" "LWideMap$Token;") ∈ lw_all := lw_g (lw_at lw_m1 144 rfl) rfl
theorem q275 : (Jvm.Cond.fieldLink "WideMap" (97 : Nat) "WideMap" "flatKeys" "[I") ∈ lw_all := lw_g (lw_at lw_m1 145 rfl) rfl
theorem q276 : (Jvm.Cond.fieldLink "WideMap" (100 : Nat) "WideMap" "flatValues" "[I") ∈ lw_all := lw_g (lw_at lw_m1 146 rfl) rfl
theorem q277 : (Jvm.Cond.fieldLink "WideMap" (317 : Nat) "WideMap" "flatMany" "I") ∈ lw_all := lw_g (lw_at lw_m1 147 rfl) rfl
theorem q278 : (Jvm.Cond.fieldLink "WideMap" (348 : Nat) "WideMap" "seekLeft" "I") ∈ lw_all := lw_g (lw_at lw_m1 148 rfl) rfl
theorem q279 : (Jvm.Cond.fieldLink "WideMap" (351 : Nat) "WideMap" "seekDeep" "I") ∈ lw_all := lw_g (lw_at lw_m1 149 rfl) rfl
theorem q280 : (Jvm.Cond.fieldLink "WideMap" (444 : Nat) "WideMap" "drawn" "J") ∈ lw_all := lw_g (lw_at lw_m1 150 rfl) rfl
theorem q281 : (Jvm.Cond.fieldLink "WideMap" (103 : Nat) "WideMap" "isAbove" "[Z") ∈ lw_all := lw_g (lw_at lw_m1 151 rfl) rfl
theorem q282 : (Jvm.Cond.fieldLink "WideMap" (107 : Nat) "WideMap" "isAboveOther" "[Z") ∈ lw_all := lw_g (lw_at lw_m1 152 rfl) rfl
theorem q283 : (Jvm.Cond.fieldLink "WideMap" (112 : Nat) "WideMap" "shownLatest" "Ljava/lang/CharSequence;") ∈ lw_all := lw_g (lw_at lw_m1 153 rfl) rfl
theorem q284 : (Jvm.Cond.laysFinal "WideMap" "WideMap" "words" "[Ljava/lang/String;") ∈ lw_all := lw_g (lw_at lw_m1 154 rfl) rfl
theorem q285 : (Jvm.Cond.soleField "WideMap" "words") ∈ lw_all := lw_g (lw_at lw_m1 155 rfl) rfl
theorem q286 : (Jvm.Cond.laysFinal "WideMap" "WideMap" "fault" "LWideMap$Fault;") ∈ lw_all := lw_g (lw_at lw_m1 156 rfl) rfl
theorem q287 : (Jvm.Cond.soleField "WideMap" "fault") ∈ lw_all := lw_g (lw_at lw_m1 157 rfl) rfl
theorem q288 : (Jvm.Cond.laysFinal "WideMap" "WideMap" "tape" "[B") ∈ lw_all := lw_g (lw_at lw_m1 158 rfl) rfl
theorem q289 : (Jvm.Cond.soleField "WideMap" "tape") ∈ lw_all := lw_g (lw_at lw_m1 159 rfl) rfl
theorem q290 : (Jvm.Cond.lays "WideMap" "WideMap" "taped" "I") ∈ lw_all := lw_g (lw_at lw_m1 160 rfl) rfl
theorem q291 : (Jvm.Cond.soleField "WideMap" "taped") ∈ lw_all := lw_g (lw_at lw_m1 161 rfl) rfl
theorem q292 : (Jvm.Cond.lays "WideMap" "WideMap" "place" "I") ∈ lw_all := lw_g (lw_at lw_m1 162 rfl) rfl
theorem q293 : (Jvm.Cond.soleField "WideMap" "place") ∈ lw_all := lw_g (lw_at lw_m1 163 rfl) rfl
theorem q294 : (Jvm.Cond.laysFinal "WideMap" "WideMap" "programs" "[I") ∈ lw_all := lw_g (lw_at lw_m1 164 rfl) rfl
theorem q295 : (Jvm.Cond.soleField "WideMap" "programs") ∈ lw_all := lw_g (lw_at lw_m1 165 rfl) rfl
theorem q296 : (Jvm.Cond.laysFinal "WideMap" "WideMap" "programLong" "[I") ∈ lw_all := lw_g (lw_at lw_m1 166 rfl) rfl
theorem q297 : (Jvm.Cond.soleField "WideMap" "programLong") ∈ lw_all := lw_g (lw_at lw_m1 167 rfl) rfl
theorem q298 : (Jvm.Cond.lays "WideMap" "WideMap" "programMany" "I") ∈ lw_all := lw_g (lw_at lw_m1 168 rfl) rfl
theorem q299 : (Jvm.Cond.soleField "WideMap" "programMany") ∈ lw_all := lw_g (lw_at lw_m1 169 rfl) rfl
theorem q300 : (Jvm.Cond.laysFinal "WideMap" "WideMap" "entries" "[I") ∈ lw_all := lw_g (lw_at lw_m1 170 rfl) rfl
theorem q301 : (Jvm.Cond.soleField "WideMap" "entries") ∈ lw_all := lw_g (lw_at lw_m1 171 rfl) rfl
theorem q302 : (Jvm.Cond.lays "WideMap" "WideMap" "entryMany" "I") ∈ lw_all := lw_g (lw_at lw_m1 172 rfl) rfl
theorem q303 : (Jvm.Cond.soleField "WideMap" "entryMany") ∈ lw_all := lw_g (lw_at lw_m1 173 rfl) rfl
theorem q304 : (Jvm.Cond.laysFinal "WideMap" "WideMap" "numbers" "[I") ∈ lw_all := lw_g (lw_at lw_m1 174 rfl) rfl
theorem q305 : (Jvm.Cond.soleField "WideMap" "numbers") ∈ lw_all := lw_g (lw_at lw_m1 175 rfl) rfl
theorem q306 : (Jvm.Cond.laysFinal "WideMap" "WideMap" "imageNumbers" "[I") ∈ lw_all := lw_g (lw_at lw_m1 176 rfl) rfl
theorem q307 : (Jvm.Cond.soleField "WideMap" "imageNumbers") ∈ lw_all := lw_g (lw_at lw_m1 177 rfl) rfl
theorem q308 : (Jvm.Cond.laysFinal "WideMap" "WideMap" "roots" "[LWideMap$Node;") ∈ lw_all := lw_g (lw_at lw_m1 178 rfl) rfl
theorem q309 : (Jvm.Cond.soleField "WideMap" "roots") ∈ lw_all := lw_g (lw_at lw_m1 179 rfl) rfl
theorem q310 : (Jvm.Cond.laysFinal "WideMap" "WideMap" "imageRoots" "[LWideMap$Node;") ∈ lw_all := lw_g (lw_at lw_m1 180 rfl) rfl
theorem q311 : (Jvm.Cond.soleField "WideMap" "imageRoots") ∈ lw_all := lw_g (lw_at lw_m1 181 rfl) rfl
theorem q312 : (Jvm.Cond.lays "WideMap" "WideMap" "heldMany" "I") ∈ lw_all := lw_g (lw_at lw_m1 182 rfl) rfl
theorem q313 : (Jvm.Cond.soleField "WideMap" "heldMany") ∈ lw_all := lw_g (lw_at lw_m1 183 rfl) rfl
theorem q314 : (Jvm.Cond.lays "WideMap" "WideMap" "given" "I") ∈ lw_all := lw_g (lw_at lw_m1 184 rfl) rfl
theorem q315 : (Jvm.Cond.soleField "WideMap" "given") ∈ lw_all := lw_g (lw_at lw_m1 185 rfl) rfl
theorem q316 : (Jvm.Cond.lays "WideMap" "WideMap" "made" "I") ∈ lw_all := lw_g (lw_at lw_m1 186 rfl) rfl
theorem q317 : (Jvm.Cond.soleField "WideMap" "made") ∈ lw_all := lw_g (lw_at lw_m1 187 rfl) rfl
theorem q318 : (Jvm.Cond.lays "WideMap" "WideMap" "width" "I") ∈ lw_all := lw_g (lw_at lw_m1 188 rfl) rfl
theorem q319 : (Jvm.Cond.soleField "WideMap" "width") ∈ lw_all := lw_g (lw_at lw_m1 189 rfl) rfl
theorem q320 : (Jvm.Cond.lays "WideMap" "WideMap" "least" "I") ∈ lw_all := lw_g (lw_at lw_m1 190 rfl) rfl
theorem q321 : (Jvm.Cond.soleField "WideMap" "least") ∈ lw_all := lw_g (lw_at lw_m1 191 rfl) rfl
theorem q322 : (Jvm.Cond.lays "WideMap" "WideMap" "imageMany" "I") ∈ lw_all := lw_g (lw_at lw_m1 192 rfl) rfl
theorem q323 : (Jvm.Cond.soleField "WideMap" "imageMany") ∈ lw_all := lw_g (lw_at lw_m1 193 rfl) rfl
theorem q324 : (Jvm.Cond.lays "WideMap" "WideMap" "stamps" "I") ∈ lw_all := lw_g (lw_at lw_m1 194 rfl) rfl
theorem q325 : (Jvm.Cond.soleField "WideMap" "stamps") ∈ lw_all := lw_g (lw_at lw_m1 195 rfl) rfl
theorem q326 : (Jvm.Cond.laysFinal "WideMap" "WideMap" "fromOne" "[I") ∈ lw_all := lw_g (lw_at lw_m1 196 rfl) rfl
theorem q327 : (Jvm.Cond.soleField "WideMap" "fromOne") ∈ lw_all := lw_g (lw_at lw_m1 197 rfl) rfl
theorem q328 : (Jvm.Cond.laysFinal "WideMap" "WideMap" "fromOther" "[I") ∈ lw_all := lw_g (lw_at lw_m1 198 rfl) rfl
theorem q329 : (Jvm.Cond.soleField "WideMap" "fromOther") ∈ lw_all := lw_g (lw_at lw_m1 199 rfl) rfl
theorem q330 : (Jvm.Cond.laysFinal "WideMap" "WideMap" "refused" "[I") ∈ lw_all := lw_g (lw_at lw_m1 200 rfl) rfl
theorem q331 : (Jvm.Cond.soleField "WideMap" "refused") ∈ lw_all := lw_g (lw_at lw_m1 201 rfl) rfl
theorem q332 : (Jvm.Cond.laysFinal "WideMap" "WideMap" "builders" "[LWideMap$Node;") ∈ lw_all := lw_g (lw_at lw_m1 202 rfl) rfl
theorem q333 : (Jvm.Cond.soleField "WideMap" "builders") ∈ lw_all := lw_g (lw_at lw_m1 203 rfl) rfl
theorem q334 : (Jvm.Cond.laysFinal "WideMap" "WideMap" "tokens" "[LWideMap$Token;") ∈ lw_all := lw_g (lw_at lw_m1 204 rfl) rfl
theorem q335 : (Jvm.Cond.soleField "WideMap" "tokens") ∈ lw_all := lw_g (lw_at lw_m1 205 rfl) rfl
theorem q336 : (Jvm.Cond.laysFinal "WideMap" "WideMap" "built" "[I") ∈ lw_all := lw_g (lw_at lw_m1 206 rfl) rfl
theorem q337 : (Jvm.Cond.soleField "WideMap" "built") ∈ lw_all := lw_g (lw_at lw_m1 207 rfl) rfl
theorem q338 : (Jvm.Cond.lays "WideMap" "WideMap" "workRoot" "LWideMap$Node;") ∈ lw_all := lw_g (lw_at lw_m1 208 rfl) rfl
theorem q339 : (Jvm.Cond.soleField "WideMap" "workRoot") ∈ lw_all := lw_g (lw_at lw_m1 209 rfl) rfl
theorem q340 : (Jvm.Cond.lays "WideMap" "WideMap" "workToken" "LWideMap$Token;") ∈ lw_all := lw_g (lw_at lw_m1 210 rfl) rfl
theorem q341 : (Jvm.Cond.soleField "WideMap" "workToken") ∈ lw_all := lw_g (lw_at lw_m1 211 rfl) rfl
theorem q342 : (Jvm.Cond.laysFinal "WideMap" "WideMap" "flatKeys" "[I") ∈ lw_all := lw_g (lw_at lw_m1 212 rfl) rfl
theorem q343 : (Jvm.Cond.soleField "WideMap" "flatKeys") ∈ lw_all := lw_g (lw_at lw_m1 213 rfl) rfl
theorem q344 : (Jvm.Cond.laysFinal "WideMap" "WideMap" "flatValues" "[I") ∈ lw_all := lw_g (lw_at lw_m1 214 rfl) rfl
theorem q345 : (Jvm.Cond.soleField "WideMap" "flatValues") ∈ lw_all := lw_g (lw_at lw_m1 215 rfl) rfl
theorem q346 : (Jvm.Cond.lays "WideMap" "WideMap" "flatMany" "I") ∈ lw_all := lw_g (lw_at lw_m1 216 rfl) rfl
theorem q347 : (Jvm.Cond.soleField "WideMap" "flatMany") ∈ lw_all := lw_g (lw_at lw_m1 217 rfl) rfl
theorem q348 : (Jvm.Cond.lays "WideMap" "WideMap" "seekLeft" "I") ∈ lw_all := lw_g (lw_at lw_m1 218 rfl) rfl
theorem q349 : (Jvm.Cond.soleField "WideMap" "seekLeft") ∈ lw_all := lw_g (lw_at lw_m1 219 rfl) rfl
theorem q350 : (Jvm.Cond.lays "WideMap" "WideMap" "seekDeep" "I") ∈ lw_all := lw_g (lw_at lw_m1 220 rfl) rfl
theorem q351 : (Jvm.Cond.soleField "WideMap" "seekDeep") ∈ lw_all := lw_g (lw_at lw_m1 221 rfl) rfl
theorem q352 : (Jvm.Cond.lays "WideMap" "WideMap" "drawn" "J") ∈ lw_all := lw_g (lw_at lw_m1 222 rfl) rfl
theorem q353 : (Jvm.Cond.soleField "WideMap" "drawn") ∈ lw_all := lw_g (lw_at lw_m1 223 rfl) rfl
theorem q354 : (Jvm.Cond.laysFinal "WideMap" "WideMap" "isAbove" "[Z") ∈ lw_all := lw_g (lw_at lw_m1 224 rfl) rfl
theorem q355 : (Jvm.Cond.soleField "WideMap" "isAbove") ∈ lw_all := lw_g (lw_at lw_m1 225 rfl) rfl
theorem q356 : (Jvm.Cond.laysFinal "WideMap" "WideMap" "isAboveOther" "[Z") ∈ lw_all := lw_g (lw_at lw_m1 226 rfl) rfl
theorem q357 : (Jvm.Cond.soleField "WideMap" "isAboveOther") ∈ lw_all := lw_g (lw_at lw_m1 227 rfl) rfl
theorem q358 : (Jvm.Cond.lays "WideMap" "WideMap" "shownLatest" "Ljava/lang/CharSequence;") ∈ lw_all := lw_g (lw_at lw_m1 228 rfl) rfl
theorem q359 : (Jvm.Cond.soleField "WideMap" "shownLatest") ∈ lw_all := lw_g (lw_at lw_m1 229 rfl) rfl
theorem q360 : (Jvm.Cond.superclass "WideMap" "java/lang/Object") ∈ lw_all := lw_g (lw_at lw_m1 230 rfl) rfl
theorem q364 : (Jvm.Cond.instanceMethod ({ cls := "WideMap", name := "feed", desc := "(IIIII)I" } : Jvm.MethodName)) ∈ lw_all := lw_g (lw_at lw_m1 234 rfl) rfl
theorem q365 : (Jvm.Cond.selects "WideMap" ({ cls := "WideMap", name := "feed", desc := "(IIIII)I" } : Jvm.MethodName) ({ cls := "WideMap", name := "feed", desc := "(IIIII)I" } : Jvm.MethodName)) ∈ lw_all := lw_g (lw_at lw_m1 235 rfl) rfl
theorem q366 : (Jvm.Cond.code ({ cls := "WideMap", name := "feed", desc := "(IIIII)I" } : Jvm.MethodName) prog_1_method_5_code (9 : Nat) (Option.some Jvm.ClassFile.FieldType.int)) ∈ lw_all := lw_g (lw_at lw_m1 236 rfl) rfl
theorem q367 : (Jvm.Cond.methodLink "WideMap" (120 : Nat) ({ cls := "WideMap", name := "byteOf", desc := "(IIIIII)I" } : Jvm.MethodName)) ∈ lw_all := lw_g (lw_at lw_m1 237 rfl) rfl
theorem q368 : (Jvm.Cond.static ({ cls := "WideMap", name := "byteOf", desc := "(IIIIII)I" } : Jvm.MethodName)) ∈ lw_all := lw_g (lw_at lw_m1 238 rfl) rfl
theorem q369 : (Jvm.Cond.code ({ cls := "WideMap", name := "byteOf", desc := "(IIIIII)I" } : Jvm.MethodName) prog_1_method_4_code (7 : Nat) (Option.some Jvm.ClassFile.FieldType.int)) ∈ lw_all := lw_g (lw_at lw_m1 239 rfl) rfl
theorem q371 : (Jvm.Cond.instanceMethod ({ cls := "WideMap", name := "end", desc := "(I)Z" } : Jvm.MethodName)) ∈ lw_all := lw_g (lw_at lw_m2 1 rfl) rfl
theorem q372 : (Jvm.Cond.selects "WideMap" ({ cls := "WideMap", name := "end", desc := "(I)Z" } : Jvm.MethodName) ({ cls := "WideMap", name := "end", desc := "(I)Z" } : Jvm.MethodName)) ∈ lw_all := lw_g (lw_at lw_m2 2 rfl) rfl
theorem q373 : (Jvm.Cond.code ({ cls := "WideMap", name := "end", desc := "(I)Z" } : Jvm.MethodName) prog_1_method_6_code (2 : Nat) (Option.some Jvm.ClassFile.FieldType.boolean)) ∈ lw_all := lw_g (lw_at lw_m2 3 rfl) rfl
theorem q374 : (Jvm.Cond.methodLink "WideMap" (127 : Nat) ({ cls := "WideMap", name := "in", desc := "(III)Z" } : Jvm.MethodName)) ∈ lw_all := lw_g (lw_at lw_m2 4 rfl) rfl
theorem q375 : (Jvm.Cond.static ({ cls := "WideMap", name := "in", desc := "(III)Z" } : Jvm.MethodName)) ∈ lw_all := lw_g (lw_at lw_m2 5 rfl) rfl
theorem q376 : (Jvm.Cond.code ({ cls := "WideMap", name := "in", desc := "(III)Z" } : Jvm.MethodName) prog_1_method_1_code (3 : Nat) (Option.some Jvm.ClassFile.FieldType.boolean)) ∈ lw_all := lw_g (lw_at lw_m2 6 rfl) rfl
theorem q378 : (Jvm.Cond.instanceMethod ({ cls := "WideMap", name := "fault", desc := "(I)I" } : Jvm.MethodName)) ∈ lw_all := lw_g (lw_at lw_m2 8 rfl) rfl
theorem q379 : (Jvm.Cond.selects "WideMap" ({ cls := "WideMap", name := "fault", desc := "(I)I" } : Jvm.MethodName) ({ cls := "WideMap", name := "fault", desc := "(I)I" } : Jvm.MethodName)) ∈ lw_all := lw_g (lw_at lw_m2 9 rfl) rfl
theorem q380 : (Jvm.Cond.codeWith ({ cls := "WideMap", name := "fault", desc := "(I)I" } : Jvm.MethodName) prog_1_method_19_code (3 : Nat) (Option.some Jvm.ClassFile.FieldType.int) [((12 : Nat), (29 : Nat), (30 : Nat), (36 : Nat))]) ∈ lw_all := lw_g (lw_at lw_m2 10 rfl) rfl
theorem q381 : (Jvm.Cond.methodLink "WideMap" (193 : Nat) ({ cls := "WideMap", name := "wholeMap", desc := "()V" } : Jvm.MethodName)) ∈ lw_all := lw_g (lw_at lw_m2 11 rfl) rfl
theorem q382 : (Jvm.Cond.privateMethod ({ cls := "WideMap", name := "wholeMap", desc := "()V" } : Jvm.MethodName)) ∈ lw_tbl := lw_at lw_m2 12 rfl
theorem q383 : (Jvm.Cond.instanceMethod ({ cls := "WideMap", name := "wholeMap", desc := "()V" } : Jvm.MethodName)) ∈ lw_all := lw_g (lw_at lw_m2 13 rfl) rfl
theorem q384 : (Jvm.Cond.code ({ cls := "WideMap", name := "wholeMap", desc := "()V" } : Jvm.MethodName) prog_1_method_18_code (2 : Nat) (Option.none : Option Jvm.ClassFile.FieldType)) ∈ lw_all := lw_g (lw_at lw_m2 14 rfl) rfl
theorem q385 : (Jvm.Cond.methodLink "WideMap" (146 : Nat) ({ cls := "WideMap", name := "next", desc := "()I" } : Jvm.MethodName)) ∈ lw_all := lw_g (lw_at lw_m2 15 rfl) rfl
theorem q386 : (Jvm.Cond.privateMethod ({ cls := "WideMap", name := "next", desc := "()I" } : Jvm.MethodName)) ∈ lw_tbl := lw_at lw_m2 16 rfl
theorem q387 : (Jvm.Cond.instanceMethod ({ cls := "WideMap", name := "next", desc := "()I" } : Jvm.MethodName)) ∈ lw_all := lw_g (lw_at lw_m2 17 rfl) rfl
theorem q388 : (Jvm.Cond.code ({ cls := "WideMap", name := "next", desc := "()I" } : Jvm.MethodName) prog_1_method_8_code (1 : Nat) (Option.some Jvm.ClassFile.FieldType.int)) ∈ lw_all := lw_g (lw_at lw_m2 18 rfl) rfl
theorem q389 : (Jvm.Cond.methodLink "WideMap" (134 : Nat) ({ cls := "WideMap", name := "here", desc := "()I" } : Jvm.MethodName)) ∈ lw_all := lw_g (lw_at lw_m2 19 rfl) rfl
theorem q390 : (Jvm.Cond.privateMethod ({ cls := "WideMap", name := "here", desc := "()I" } : Jvm.MethodName)) ∈ lw_tbl := lw_at lw_m2 20 rfl
theorem q391 : (Jvm.Cond.instanceMethod ({ cls := "WideMap", name := "here", desc := "()I" } : Jvm.MethodName)) ∈ lw_all := lw_g (lw_at lw_m2 21 rfl) rfl
theorem q392 : (Jvm.Cond.code ({ cls := "WideMap", name := "here", desc := "()I" } : Jvm.MethodName) prog_1_method_7_code (1 : Nat) (Option.some Jvm.ClassFile.FieldType.int)) ∈ lw_all := lw_g (lw_at lw_m2 22 rfl) rfl
theorem q393 : (Jvm.Cond.methodLink "WideMap" (181 : Nat) ({ cls := "WideMap", name := "keyRead", desc := "()I" } : Jvm.MethodName)) ∈ lw_all := lw_g (lw_at lw_m2 23 rfl) rfl
theorem q394 : (Jvm.Cond.privateMethod ({ cls := "WideMap", name := "keyRead", desc := "()I" } : Jvm.MethodName)) ∈ lw_tbl := lw_at lw_m2 24 rfl
theorem q395 : (Jvm.Cond.instanceMethod ({ cls := "WideMap", name := "keyRead", desc := "()I" } : Jvm.MethodName)) ∈ lw_all := lw_g (lw_at lw_m2 25 rfl) rfl
theorem q396 : (Jvm.Cond.code ({ cls := "WideMap", name := "keyRead", desc := "()I" } : Jvm.MethodName) prog_1_method_12_code (1 : Nat) (Option.some Jvm.ClassFile.FieldType.int)) ∈ lw_all := lw_g (lw_at lw_m2 26 rfl) rfl
theorem q397 : (Jvm.Cond.methodLink "WideMap" (149 : Nat) ({ cls := "WideMap", name := "digits", desc := "()I" } : Jvm.MethodName)) ∈ lw_all := lw_g (lw_at lw_m2 27 rfl) rfl
theorem q398 : (Jvm.Cond.privateMethod ({ cls := "WideMap", name := "digits", desc := "()I" } : Jvm.MethodName)) ∈ lw_tbl := lw_at lw_m2 28 rfl
theorem q399 : (Jvm.Cond.instanceMethod ({ cls := "WideMap", name := "digits", desc := "()I" } : Jvm.MethodName)) ∈ lw_all := lw_g (lw_at lw_m2 29 rfl) rfl
theorem q400 : (Jvm.Cond.code ({ cls := "WideMap", name := "digits", desc := "()I" } : Jvm.MethodName) prog_1_method_11_code (3 : Nat) (Option.some Jvm.ClassFile.FieldType.int)) ∈ lw_all := lw_g (lw_at lw_m2 30 rfl) rfl
theorem q401 : (Jvm.Cond.methodLink "WideMap" (138 : Nat) ({ cls := "WideMap", name := "isDigit", desc := "(I)Z" } : Jvm.MethodName)) ∈ lw_all := lw_g (lw_at lw_m2 31 rfl) rfl
theorem q402 : (Jvm.Cond.static ({ cls := "WideMap", name := "isDigit", desc := "(I)Z" } : Jvm.MethodName)) ∈ lw_all := lw_g (lw_at lw_m2 32 rfl) rfl
theorem q403 : (Jvm.Cond.code ({ cls := "WideMap", name := "isDigit", desc := "(I)Z" } : Jvm.MethodName) prog_1_method_9_code (1 : Nat) (Option.some Jvm.ClassFile.FieldType.boolean)) ∈ lw_all := lw_g (lw_at lw_m2 33 rfl) rfl
theorem q404 : (Jvm.Cond.methodLink "WideMap" (142 : Nat) ({ cls := "WideMap", name := "must", desc := "(Z)V" } : Jvm.MethodName)) ∈ lw_all := lw_g (lw_at lw_m2 34 rfl) rfl
theorem q405 : (Jvm.Cond.privateMethod ({ cls := "WideMap", name := "must", desc := "(Z)V" } : Jvm.MethodName)) ∈ lw_tbl := lw_at lw_m2 35 rfl
theorem q406 : (Jvm.Cond.instanceMethod ({ cls := "WideMap", name := "must", desc := "(Z)V" } : Jvm.MethodName)) ∈ lw_all := lw_g (lw_at lw_m2 36 rfl) rfl
theorem q407 : (Jvm.Cond.code ({ cls := "WideMap", name := "must", desc := "(Z)V" } : Jvm.MethodName) prog_1_method_10_code (2 : Nat) (Option.none : Option Jvm.ClassFile.FieldType)) ∈ lw_all := lw_g (lw_at lw_m2 37 rfl) rfl
theorem q408 : (Jvm.Cond.methodLink "WideMap" (184 : Nat) ({ cls := "WideMap", name := "valueRead", desc := "()I" } : Jvm.MethodName)) ∈ lw_all := lw_g (lw_at lw_m2 38 rfl) rfl
theorem q409 : (Jvm.Cond.privateMethod ({ cls := "WideMap", name := "valueRead", desc := "()I" } : Jvm.MethodName)) ∈ lw_tbl := lw_at lw_m2 39 rfl
theorem q410 : (Jvm.Cond.instanceMethod ({ cls := "WideMap", name := "valueRead", desc := "()I" } : Jvm.MethodName)) ∈ lw_all := lw_g (lw_at lw_m2 40 rfl) rfl
theorem q411 : (Jvm.Cond.code ({ cls := "WideMap", name := "valueRead", desc := "()I" } : Jvm.MethodName) prog_1_method_13_code (1 : Nat) (Option.some Jvm.ClassFile.FieldType.int)) ∈ lw_all := lw_g (lw_at lw_m2 41 rfl) rfl
theorem q412 : (Jvm.Cond.methodLink "WideMap" (196 : Nat) ({ cls := "WideMap", name := "wholeProgram", desc := "(I)V" } : Jvm.MethodName)) ∈ lw_all := lw_g (lw_at lw_m2 42 rfl) rfl
theorem q413 : (Jvm.Cond.privateMethod ({ cls := "WideMap", name := "wholeProgram", desc := "(I)V" } : Jvm.MethodName)) ∈ lw_tbl := lw_at lw_m2 43 rfl
theorem q414 : (Jvm.Cond.instanceMethod ({ cls := "WideMap", name := "wholeProgram", desc := "(I)V" } : Jvm.MethodName)) ∈ lw_all := lw_g (lw_at lw_m2 44 rfl) rfl
theorem q415 : (Jvm.Cond.code ({ cls := "WideMap", name := "wholeProgram", desc := "(I)V" } : Jvm.MethodName) prog_1_method_17_code (3 : Nat) (Option.none : Option Jvm.ClassFile.FieldType)) ∈ lw_all := lw_g (lw_at lw_m2 45 rfl) rfl
theorem q416 : (Jvm.Cond.methodLink "WideMap" (187 : Nat) ({ cls := "WideMap", name := "stepRead", desc := "(I)V" } : Jvm.MethodName)) ∈ lw_all := lw_g (lw_at lw_m2 46 rfl) rfl
theorem q417 : (Jvm.Cond.privateMethod ({ cls := "WideMap", name := "stepRead", desc := "(I)V" } : Jvm.MethodName)) ∈ lw_tbl := lw_at lw_m2 47 rfl
theorem q418 : (Jvm.Cond.instanceMethod ({ cls := "WideMap", name := "stepRead", desc := "(I)V" } : Jvm.MethodName)) ∈ lw_all := lw_g (lw_at lw_m2 48 rfl) rfl
theorem q419 : (Jvm.Cond.code ({ cls := "WideMap", name := "stepRead", desc := "(I)V" } : Jvm.MethodName) prog_1_method_16_code (4 : Nat) (Option.none : Option Jvm.ClassFile.FieldType)) ∈ lw_all := lw_g (lw_at lw_m2 49 rfl) rfl
theorem q420 : (Jvm.Cond.constant "WideMap" (174 : Nat) (-1000000 : Int32)) ∈ lw_all := lw_g (lw_at lw_m2 50 rfl) rfl
theorem q421 : (Jvm.Cond.methodLink "WideMap" (175 : Nat) ({ cls := "WideMap", name := "word", desc := "()Ljava/lang/String;" } : Jvm.MethodName)) ∈ lw_all := lw_g (lw_at lw_m2 51 rfl) rfl
theorem q422 : (Jvm.Cond.privateMethod ({ cls := "WideMap", name := "word", desc := "()Ljava/lang/String;" } : Jvm.MethodName)) ∈ lw_tbl := lw_at lw_m2 52 rfl
theorem q423 : (Jvm.Cond.instanceMethod ({ cls := "WideMap", name := "word", desc := "()Ljava/lang/String;" } : Jvm.MethodName)) ∈ lw_all := lw_g (lw_at lw_m2 53 rfl) rfl
theorem q424 : (Jvm.Cond.code ({ cls := "WideMap", name := "word", desc := "()Ljava/lang/String;" } : Jvm.MethodName) prog_1_method_15_code (4 : Nat) (Option.some (Jvm.ClassFile.FieldType.object "java/lang/String"))) ∈ lw_all := lw_g (lw_at lw_m2 54 rfl) rfl
theorem q425 : (Jvm.Cond.classLink "WideMap" (156 : Nat) "java/lang/StringBuilder") ∈ lw_all := lw_g (lw_at lw_m2 55 rfl) rfl
theorem q427 : (Jvm.Cond.methodLink "WideMap" (158 : Nat) ({ cls := "java/lang/StringBuilder", name := "<init>", desc := "()V" } : Jvm.MethodName)) ∈ lw_all := lw_g (lw_at lw_m2 57 rfl) rfl
theorem q456 : (Jvm.Cond.methodLink "WideMap" (159 : Nat) ({ cls := "java/lang/StringBuilder", name := "append", desc := "(C)Ljava/lang/StringBuilder;" } : Jvm.MethodName)) ∈ lw_all := lw_g (lw_at lw_m2 86 rfl) rfl
theorem q551 : (Jvm.Cond.methodLink "WideMap" (163 : Nat) ({ cls := "java/lang/StringBuilder", name := "toString", desc := "()Ljava/lang/String;" } : Jvm.MethodName)) ∈ lw_all := lw_g (lw_at lw_m2 181 rfl) rfl
theorem q614 : (Jvm.Cond.methodLink "WideMap" (167 : Nat) ({ cls := "WideMap", name := "beginsWord", desc := "(Ljava/lang/String;)Z" } : Jvm.MethodName)) ∈ lw_all := lw_g (lw_at lw_m3 4 rfl) rfl
theorem q615 : (Jvm.Cond.privateMethod ({ cls := "WideMap", name := "beginsWord", desc := "(Ljava/lang/String;)Z" } : Jvm.MethodName)) ∈ lw_tbl := lw_at lw_m3 5 rfl
theorem q616 : (Jvm.Cond.instanceMethod ({ cls := "WideMap", name := "beginsWord", desc := "(Ljava/lang/String;)Z" } : Jvm.MethodName)) ∈ lw_all := lw_g (lw_at lw_m3 6 rfl) rfl
theorem q617 : (Jvm.Cond.code ({ cls := "WideMap", name := "beginsWord", desc := "(Ljava/lang/String;)Z" } : Jvm.MethodName) prog_1_method_14_code (3 : Nat) (Option.some Jvm.ClassFile.FieldType.boolean)) ∈ lw_all := lw_g (lw_at lw_m3 7 rfl) rfl
theorem q618 : (Jvm.Cond.methodLink "WideMap" (152 : Nat) ({ cls := "java/lang/String", name := "startsWith", desc := "(Ljava/lang/String;)Z" } : Jvm.MethodName)) ∈ lw_all := lw_g (lw_at lw_m3 8 rfl) rfl
theorem q739 : (Jvm.Cond.methodLink "WideMap" (170 : Nat) ({ cls := "java/lang/String", name := "equals", desc := "(Ljava/lang/Object;)Z" } : Jvm.MethodName)) ∈ lw_all := lw_g (lw_at lw_m3 129 rfl) rfl
theorem q747 : (Jvm.Cond.methodLink "WideMap" (178 : Nat) ({ cls := "java/lang/String", name := "hashCode", desc := "()I" } : Jvm.MethodName)) ∈ lw_all := lw_g (lw_at lw_m3 137 rfl) rfl
theorem q801 : (Jvm.Cond.instanceMethod ({ cls := "WideMap", name := "text", desc := "(I)I" } : Jvm.MethodName)) ∈ lw_all := lw_g (lw_at lw_m3 191 rfl) rfl
theorem q802 : (Jvm.Cond.selects "WideMap" ({ cls := "WideMap", name := "text", desc := "(I)I" } : Jvm.MethodName) ({ cls := "WideMap", name := "text", desc := "(I)I" } : Jvm.MethodName)) ∈ lw_all := lw_g (lw_at lw_m3 192 rfl) rfl
theorem q803 : (Jvm.Cond.code ({ cls := "WideMap", name := "text", desc := "(I)I" } : Jvm.MethodName) prog_1_method_21_code (3 : Nat) (Option.some Jvm.ClassFile.FieldType.int)) ∈ lw_all := lw_g (lw_at lw_m3 193 rfl) rfl
theorem q804 : (Jvm.Cond.methodLink "WideMap" (202 : Nat) ({ cls := "WideMap", name := "programRead", desc := "()I" } : Jvm.MethodName)) ∈ lw_all := lw_g (lw_at lw_m3 194 rfl) rfl
theorem q805 : (Jvm.Cond.privateMethod ({ cls := "WideMap", name := "programRead", desc := "()I" } : Jvm.MethodName)) ∈ lw_tbl := lw_at lw_m3 195 rfl
theorem q806 : (Jvm.Cond.instanceMethod ({ cls := "WideMap", name := "programRead", desc := "()I" } : Jvm.MethodName)) ∈ lw_all := lw_g (lw_at lw_m3 196 rfl) rfl
theorem q807 : (Jvm.Cond.codeWith ({ cls := "WideMap", name := "programRead", desc := "()I" } : Jvm.MethodName) prog_1_method_20_code (2 : Nat) (Option.some Jvm.ClassFile.FieldType.int) [((10 : Nat), (18 : Nat), (21 : Nat), (36 : Nat))]) ∈ lw_all := lw_g (lw_at lw_m3 197 rfl) rfl
theorem q808 : (Jvm.Cond.methodLink "WideMap" (205 : Nat) ({ cls := "WideMap", name := "fault", desc := "(I)I" } : Jvm.MethodName)) ∈ lw_all := lw_g (lw_at lw_m3 198 rfl) rfl
theorem q809 : (Jvm.Cond.methodLink "WideMap" (208 : Nat) ({ cls := "WideMap", name := "isRoom", desc := "()Z" } : Jvm.MethodName)) ∈ lw_all := lw_g (lw_at lw_m3 199 rfl) rfl
theorem q810 : (Jvm.Cond.privateMethod ({ cls := "WideMap", name := "isRoom", desc := "()Z" } : Jvm.MethodName)) ∈ lw_tbl := lw_at lw_m3 200 rfl
theorem q811 : (Jvm.Cond.instanceMethod ({ cls := "WideMap", name := "isRoom", desc := "()Z" } : Jvm.MethodName)) ∈ lw_all := lw_g (lw_at lw_m3 201 rfl) rfl
theorem q812 : (Jvm.Cond.code ({ cls := "WideMap", name := "isRoom", desc := "()Z" } : Jvm.MethodName) prog_1_method_26_code (1 : Nat) (Option.some Jvm.ClassFile.FieldType.boolean)) ∈ lw_all := lw_g (lw_at lw_m3 202 rfl) rfl
theorem q813 : (Jvm.Cond.methodLink "WideMap" (212 : Nat) ({ cls := "WideMap", name := "isRefused", desc := "(I)Z" } : Jvm.MethodName)) ∈ lw_all := lw_g (lw_at lw_m3 203 rfl) rfl
theorem q814 : (Jvm.Cond.privateMethod ({ cls := "WideMap", name := "isRefused", desc := "(I)Z" } : Jvm.MethodName)) ∈ lw_tbl := lw_at lw_m3 204 rfl
theorem q815 : (Jvm.Cond.instanceMethod ({ cls := "WideMap", name := "isRefused", desc := "(I)Z" } : Jvm.MethodName)) ∈ lw_all := lw_g (lw_at lw_m3 205 rfl) rfl
theorem q816 : (Jvm.Cond.code ({ cls := "WideMap", name := "isRefused", desc := "(I)Z" } : Jvm.MethodName) prog_1_method_25_code (2 : Nat) (Option.some Jvm.ClassFile.FieldType.boolean)) ∈ lw_all := lw_g (lw_at lw_m3 206 rfl) rfl
theorem q818 : (Jvm.Cond.methodLinkNest "WideMap" (215 : Nat) ({ cls := "WideMap$Token", name := "<init>", desc := "(LWideMap;)V" } : Jvm.MethodName) "WideMap") ∈ lw_tbl := lw_at lw_m3 208 rfl
theorem q826 : (Jvm.Cond.methodLink "WideMap" (218 : Nat) ({ cls := "WideMap", name := "work", desc := "(LWideMap$Node;LWideMap$Token;)V" } : Jvm.MethodName)) ∈ lw_all := lw_g (lw_at lw_m3 216 rfl) rfl
theorem q827 : (Jvm.Cond.privateMethod ({ cls := "WideMap", name := "work", desc := "(LWideMap$Node;LWideMap$Token;)V" } : Jvm.MethodName)) ∈ lw_tbl := lw_at lw_m3 217 rfl
theorem q828 : (Jvm.Cond.instanceMethod ({ cls := "WideMap", name := "work", desc := "(LWideMap$Node;LWideMap$Token;)V" } : Jvm.MethodName)) ∈ lw_all := lw_g (lw_at lw_m3 218 rfl) rfl
theorem q829 : (Jvm.Cond.code ({ cls := "WideMap", name := "work", desc := "(LWideMap$Node;LWideMap$Token;)V" } : Jvm.MethodName) prog_1_method_35_code (3 : Nat) (Option.none : Option Jvm.ClassFile.FieldType)) ∈ lw_all := lw_g (lw_at lw_m3 219 rfl) rfl
theorem q830 : (Jvm.Cond.methodLink "WideMap" (259 : Nat) ({ cls := "WideMap$Node", name := "bare", desc := "(LWideMap$Token;I)LWideMap$Node;" } : Jvm.MethodName)) ∈ lw_all := lw_g (lw_at lw_m3 220 rfl) rfl
theorem q867 : (Jvm.Cond.methodLink "WideMap" (222 : Nat) ({ cls := "WideMap", name := "layNow", desc := "(II)V" } : Jvm.MethodName)) ∈ lw_all := lw_g (lw_at lw_m4 17 rfl) rfl
theorem q868 : (Jvm.Cond.privateMethod ({ cls := "WideMap", name := "layNow", desc := "(II)V" } : Jvm.MethodName)) ∈ lw_tbl := lw_at lw_m4 18 rfl
theorem q869 : (Jvm.Cond.instanceMethod ({ cls := "WideMap", name := "layNow", desc := "(II)V" } : Jvm.MethodName)) ∈ lw_all := lw_g (lw_at lw_m4 19 rfl) rfl
theorem q870 : (Jvm.Cond.code ({ cls := "WideMap", name := "layNow", desc := "(II)V" } : Jvm.MethodName) prog_1_method_39_code (4 : Nat) (Option.none : Option Jvm.ClassFile.FieldType)) ∈ lw_all := lw_g (lw_at lw_m4 20 rfl) rfl
theorem q871 : (Jvm.Cond.methodLink "WideMap" (290 : Nat) ({ cls := "WideMap", name := "valueIn", desc := "(LWideMap$Node;I)I" } : Jvm.MethodName)) ∈ lw_all := lw_g (lw_at lw_m4 21 rfl) rfl
theorem q872 : (Jvm.Cond.static ({ cls := "WideMap", name := "valueIn", desc := "(LWideMap$Node;I)I" } : Jvm.MethodName)) ∈ lw_all := lw_g (lw_at lw_m4 22 rfl) rfl
theorem q873 : (Jvm.Cond.code ({ cls := "WideMap", name := "valueIn", desc := "(LWideMap$Node;I)I" } : Jvm.MethodName) prog_1_method_38_code (4 : Nat) (Option.some Jvm.ClassFile.FieldType.int)) ∈ lw_all := lw_g (lw_at lw_m4 23 rfl) rfl
theorem q874 : (Jvm.Cond.methodLink "WideMap" (277 : Nat) ({ cls := "WideMap", name := "leafOf", desc := "(LWideMap$Node;I)LWideMap$Node;" } : Jvm.MethodName)) ∈ lw_all := lw_g (lw_at lw_m4 24 rfl) rfl
theorem q875 : (Jvm.Cond.static ({ cls := "WideMap", name := "leafOf", desc := "(LWideMap$Node;I)LWideMap$Node;" } : Jvm.MethodName)) ∈ lw_all := lw_g (lw_at lw_m4 25 rfl) rfl
theorem q876 : (Jvm.Cond.code ({ cls := "WideMap", name := "leafOf", desc := "(LWideMap$Node;I)LWideMap$Node;" } : Jvm.MethodName) prog_1_method_37_code (3 : Nat) (Option.some (Jvm.ClassFile.FieldType.object "WideMap$Node"))) ∈ lw_all := lw_g (lw_at lw_m4 26 rfl) rfl
theorem q877 : (Jvm.Cond.interfaceEntry "WideMap" (267 : Nat)) ∈ lw_tbl := lw_at lw_m4 27 rfl
theorem q878 : (Jvm.Cond.methodLink "WideMap" (267 : Nat) ({ cls := "WideMap$Node", name := "isLeaf", desc := "()Z" } : Jvm.MethodName)) ∈ lw_all := lw_g (lw_at lw_m4 28 rfl) rfl
theorem q893 : (Jvm.Cond.interfaceEntry "WideMap" (270 : Nat)) ∈ lw_tbl := lw_at lw_m4 43 rfl
theorem q894 : (Jvm.Cond.methodLink "WideMap" (270 : Nat) ({ cls := "WideMap$Node", name := "kidFor", desc := "(I)I" } : Jvm.MethodName)) ∈ lw_all := lw_g (lw_at lw_m4 44 rfl) rfl
theorem q943 : (Jvm.Cond.interfaceEntry "WideMap" (273 : Nat)) ∈ lw_tbl := lw_at lw_m4 93 rfl
theorem q944 : (Jvm.Cond.methodLink "WideMap" (273 : Nat) ({ cls := "WideMap$Node", name := "kid", desc := "(I)LWideMap$Node;" } : Jvm.MethodName)) ∈ lw_all := lw_g (lw_at lw_m4 94 rfl) rfl
theorem q945 : (Jvm.Cond.interfaceEntry "WideMap" (281 : Nat)) ∈ lw_tbl := lw_at lw_m4 95 rfl
theorem q946 : (Jvm.Cond.methodLink "WideMap" (281 : Nat) ({ cls := "WideMap$Node", name := "many", desc := "()I" } : Jvm.MethodName)) ∈ lw_all := lw_g (lw_at lw_m4 96 rfl) rfl
theorem q947 : (Jvm.Cond.interfaceEntry "WideMap" (284 : Nat)) ∈ lw_tbl := lw_at lw_m4 97 rfl
theorem q948 : (Jvm.Cond.methodLink "WideMap" (284 : Nat) ({ cls := "WideMap$Node", name := "keyAt", desc := "(I)I" } : Jvm.MethodName)) ∈ lw_all := lw_g (lw_at lw_m4 98 rfl) rfl
theorem q961 : (Jvm.Cond.interfaceEntry "WideMap" (287 : Nat)) ∈ lw_tbl := lw_at lw_m4 111 rfl
theorem q962 : (Jvm.Cond.methodLink "WideMap" (287 : Nat) ({ cls := "WideMap$Node", name := "valueAt", desc := "(I)I" } : Jvm.MethodName)) ∈ lw_all := lw_g (lw_at lw_m4 112 rfl) rfl
theorem q975 : (Jvm.Cond.interfaceEntry "WideMap" (294 : Nat)) ∈ lw_tbl := lw_at lw_m4 125 rfl
theorem q976 : (Jvm.Cond.methodLink "WideMap" (294 : Nat) ({ cls := "WideMap$Node", name := "edited", desc := "(LWideMap$Token;)LWideMap$Node;" } : Jvm.MethodName)) ∈ lw_all := lw_g (lw_at lw_m4 126 rfl) rfl
theorem q1039 : (Jvm.Cond.interfaceEntry "WideMap" (298 : Nat)) ∈ lw_tbl := lw_at lw_m4 189 rfl
theorem q1040 : (Jvm.Cond.methodLink "WideMap" (298 : Nat) ({ cls := "WideMap$Node", name := "lays", desc := "(LWideMap$Token;III)LWideMap$Node;" } : Jvm.MethodName)) ∈ lw_all := lw_g (lw_at lw_m4 190 rfl) rfl
theorem q1071 : (Jvm.Cond.methodLink "WideMap" (302 : Nat) ({ cls := "WideMap$Node", name := "over", desc := "(LWideMap$Token;ILWideMap$Node;LWideMap$Node;)LWideMap$Node;" } : Jvm.MethodName)) ∈ lw_all := lw_g (lw_at lw_m4 221 rfl) rfl
theorem q1076 : (Jvm.Cond.methodLink "WideMap" (230 : Nat) ({ cls := "WideMap", name := "holds", desc := "(LWideMap$Node;II)I" } : Jvm.MethodName)) ∈ lw_all := lw_g (lw_at lw_m4 226 rfl) rfl
theorem q1077 : (Jvm.Cond.privateMethod ({ cls := "WideMap", name := "holds", desc := "(LWideMap$Node;II)I" } : Jvm.MethodName)) ∈ lw_tbl := lw_at lw_m4 227 rfl
theorem q1078 : (Jvm.Cond.instanceMethod ({ cls := "WideMap", name := "holds", desc := "(LWideMap$Node;II)I" } : Jvm.MethodName)) ∈ lw_all := lw_g (lw_at lw_m4 228 rfl) rfl
theorem q1079 : (Jvm.Cond.code ({ cls := "WideMap", name := "holds", desc := "(LWideMap$Node;II)I" } : Jvm.MethodName) prog_1_method_30_code (4 : Nat) (Option.some Jvm.ClassFile.FieldType.int)) ∈ lw_all := lw_g (lw_at lw_m4 229 rfl) rfl
theorem q1081 : (Jvm.Cond.instanceMethod ({ cls := "WideMap", name := "wide", desc := "(I)I" } : Jvm.MethodName)) ∈ lw_all := lw_g (lw_at lw_m4 231 rfl) rfl
theorem q1082 : (Jvm.Cond.selects "WideMap" ({ cls := "WideMap", name := "wide", desc := "(I)I" } : Jvm.MethodName) ({ cls := "WideMap", name := "wide", desc := "(I)I" } : Jvm.MethodName)) ∈ lw_all := lw_g (lw_at lw_m4 232 rfl) rfl
theorem q1083 : (Jvm.Cond.code ({ cls := "WideMap", name := "wide", desc := "(I)I" } : Jvm.MethodName) prog_1_method_24_code (2 : Nat) (Option.some Jvm.ClassFile.FieldType.int)) ∈ lw_all := lw_g (lw_at lw_m4 233 rfl) rfl
theorem q1085 : (Jvm.Cond.instanceMethod ({ cls := "WideMap", name := "find", desc := "(II)I" } : Jvm.MethodName)) ∈ lw_all := lw_g (lw_at lw_m4 235 rfl) rfl
theorem q1086 : (Jvm.Cond.selects "WideMap" ({ cls := "WideMap", name := "find", desc := "(II)I" } : Jvm.MethodName) ({ cls := "WideMap", name := "find", desc := "(II)I" } : Jvm.MethodName)) ∈ lw_all := lw_g (lw_at lw_m4 236 rfl) rfl
theorem q1087 : (Jvm.Cond.code ({ cls := "WideMap", name := "find", desc := "(II)I" } : Jvm.MethodName) prog_1_method_47_code (3 : Nat) (Option.some Jvm.ClassFile.FieldType.int)) ∈ lw_all := lw_g (lw_at lw_m4 237 rfl) rfl
theorem q1088 : (Jvm.Cond.methodLink "WideMap" (333 : Nat) ({ cls := "WideMap", name := "isMap", desc := "(I)Z" } : Jvm.MethodName)) ∈ lw_all := lw_g (lw_at lw_m4 238 rfl) rfl
theorem q1089 : (Jvm.Cond.privateMethod ({ cls := "WideMap", name := "isMap", desc := "(I)Z" } : Jvm.MethodName)) ∈ lw_tbl := lw_at lw_m4 239 rfl
theorem q1090 : (Jvm.Cond.instanceMethod ({ cls := "WideMap", name := "isMap", desc := "(I)Z" } : Jvm.MethodName)) ∈ lw_all := lw_g (lw_at lw_m5 0 rfl) rfl
theorem q1091 : (Jvm.Cond.code ({ cls := "WideMap", name := "isMap", desc := "(I)Z" } : Jvm.MethodName) prog_1_method_28_code (2 : Nat) (Option.some Jvm.ClassFile.FieldType.boolean)) ∈ lw_all := lw_g (lw_at lw_m5 1 rfl) rfl
theorem q1092 : (Jvm.Cond.methodLink "WideMap" (252 : Nat) ({ cls := "WideMap", name := "placeOf", desc := "(I)I" } : Jvm.MethodName)) ∈ lw_all := lw_g (lw_at lw_m5 2 rfl) rfl
theorem q1093 : (Jvm.Cond.privateMethod ({ cls := "WideMap", name := "placeOf", desc := "(I)I" } : Jvm.MethodName)) ∈ lw_tbl := lw_at lw_m5 3 rfl
theorem q1094 : (Jvm.Cond.instanceMethod ({ cls := "WideMap", name := "placeOf", desc := "(I)I" } : Jvm.MethodName)) ∈ lw_all := lw_g (lw_at lw_m5 4 rfl) rfl
theorem q1095 : (Jvm.Cond.code ({ cls := "WideMap", name := "placeOf", desc := "(I)I" } : Jvm.MethodName) prog_1_method_27_code (3 : Nat) (Option.some Jvm.ClassFile.FieldType.int)) ∈ lw_all := lw_g (lw_at lw_m5 5 rfl) rfl
theorem q1096 : (Jvm.Cond.methodLink "WideMap" (336 : Nat) ({ cls := "WideMap", name := "rootOf", desc := "(I)LWideMap$Node;" } : Jvm.MethodName)) ∈ lw_all := lw_g (lw_at lw_m5 6 rfl) rfl
theorem q1097 : (Jvm.Cond.privateMethod ({ cls := "WideMap", name := "rootOf", desc := "(I)LWideMap$Node;" } : Jvm.MethodName)) ∈ lw_tbl := lw_at lw_m5 7 rfl
theorem q1098 : (Jvm.Cond.instanceMethod ({ cls := "WideMap", name := "rootOf", desc := "(I)LWideMap$Node;" } : Jvm.MethodName)) ∈ lw_all := lw_g (lw_at lw_m5 8 rfl) rfl
theorem q1099 : (Jvm.Cond.code ({ cls := "WideMap", name := "rootOf", desc := "(I)LWideMap$Node;" } : Jvm.MethodName) prog_1_method_29_code (2 : Nat) (Option.some (Jvm.ClassFile.FieldType.object "WideMap$Node"))) ∈ lw_all := lw_g (lw_at lw_m5 9 rfl) rfl
theorem q1101 : (Jvm.Cond.instanceMethod ({ cls := "WideMap", name := "about", desc := "(II)I" } : Jvm.MethodName)) ∈ lw_all := lw_g (lw_at lw_m5 11 rfl) rfl
theorem q1102 : (Jvm.Cond.selects "WideMap" ({ cls := "WideMap", name := "about", desc := "(II)I" } : Jvm.MethodName) ({ cls := "WideMap", name := "about", desc := "(II)I" } : Jvm.MethodName)) ∈ lw_all := lw_g (lw_at lw_m5 12 rfl) rfl
theorem q1103 : (Jvm.Cond.code ({ cls := "WideMap", name := "about", desc := "(II)I" } : Jvm.MethodName) prog_1_method_50_code (4 : Nat) (Option.some Jvm.ClassFile.FieldType.int)) ∈ lw_all := lw_g (lw_at lw_m5 13 rfl) rfl
theorem q1104 : (Jvm.Cond.methodLink "WideMap" (310 : Nat) ({ cls := "WideMap", name := "sizeOf", desc := "(LWideMap$Node;)I" } : Jvm.MethodName)) ∈ lw_all := lw_g (lw_at lw_m5 14 rfl) rfl
theorem q1105 : (Jvm.Cond.static ({ cls := "WideMap", name := "sizeOf", desc := "(LWideMap$Node;)I" } : Jvm.MethodName)) ∈ lw_all := lw_g (lw_at lw_m5 15 rfl) rfl
theorem q1106 : (Jvm.Cond.code ({ cls := "WideMap", name := "sizeOf", desc := "(LWideMap$Node;)I" } : Jvm.MethodName) prog_1_method_36_code (1 : Nat) (Option.some Jvm.ClassFile.FieldType.int)) ∈ lw_all := lw_g (lw_at lw_m5 16 rfl) rfl
theorem q1107 : (Jvm.Cond.interfaceEntry "WideMap" (263 : Nat)) ∈ lw_tbl := lw_at lw_m5 17 rfl
theorem q1108 : (Jvm.Cond.methodLink "WideMap" (263 : Nat) ({ cls := "WideMap$Node", name := "counts", desc := "(IILWideMap$Token;)I" } : Jvm.MethodName)) ∈ lw_all := lw_g (lw_at lw_m5 18 rfl) rfl
theorem q1142 : (Jvm.Cond.interfaceEntry "WideMap" (342 : Nat)) ∈ lw_tbl := lw_at lw_m5 52 rfl
theorem q1143 : (Jvm.Cond.methodLink "WideMap" (342 : Nat) ({ cls := "WideMap$Node", name := "levels", desc := "()I" } : Jvm.MethodName)) ∈ lw_all := lw_g (lw_at lw_m5 53 rfl) rfl
theorem q1153 : (Jvm.Cond.methodLink "WideMap" (345 : Nat) ({ cls := "WideMap", name := "totalOf", desc := "(LWideMap$Node;II)I" } : Jvm.MethodName)) ∈ lw_all := lw_g (lw_at lw_m5 63 rfl) rfl
theorem q1154 : (Jvm.Cond.privateMethod ({ cls := "WideMap", name := "totalOf", desc := "(LWideMap$Node;II)I" } : Jvm.MethodName)) ∈ lw_tbl := lw_at lw_m5 64 rfl
theorem q1155 : (Jvm.Cond.instanceMethod ({ cls := "WideMap", name := "totalOf", desc := "(LWideMap$Node;II)I" } : Jvm.MethodName)) ∈ lw_all := lw_g (lw_at lw_m5 65 rfl) rfl
theorem q1156 : (Jvm.Cond.code ({ cls := "WideMap", name := "totalOf", desc := "(LWideMap$Node;II)I" } : Jvm.MethodName) prog_1_method_49_code (7 : Nat) (Option.some Jvm.ClassFile.FieldType.int)) ∈ lw_all := lw_g (lw_at lw_m5 66 rfl) rfl
theorem q1157 : (Jvm.Cond.methodLink "WideMap" (324 : Nat) ({ cls := "WideMap", name := "flat", desc := "(LWideMap$Node;)I" } : Jvm.MethodName)) ∈ lw_all := lw_g (lw_at lw_m5 67 rfl) rfl
theorem q1158 : (Jvm.Cond.privateMethod ({ cls := "WideMap", name := "flat", desc := "(LWideMap$Node;)I" } : Jvm.MethodName)) ∈ lw_tbl := lw_at lw_m5 68 rfl
theorem q1159 : (Jvm.Cond.instanceMethod ({ cls := "WideMap", name := "flat", desc := "(LWideMap$Node;)I" } : Jvm.MethodName)) ∈ lw_all := lw_g (lw_at lw_m5 69 rfl) rfl
theorem q1160 : (Jvm.Cond.code ({ cls := "WideMap", name := "flat", desc := "(LWideMap$Node;)I" } : Jvm.MethodName) prog_1_method_44_code (2 : Nat) (Option.some Jvm.ClassFile.FieldType.int)) ∈ lw_all := lw_g (lw_at lw_m5 70 rfl) rfl
theorem q1161 : (Jvm.Cond.methodLink "WideMap" (320 : Nat) ({ cls := "WideMap", name := "flatten", desc := "(LWideMap$Node;)V" } : Jvm.MethodName)) ∈ lw_all := lw_g (lw_at lw_m5 71 rfl) rfl
theorem q1162 : (Jvm.Cond.privateMethod ({ cls := "WideMap", name := "flatten", desc := "(LWideMap$Node;)V" } : Jvm.MethodName)) ∈ lw_tbl := lw_at lw_m5 72 rfl
theorem q1163 : (Jvm.Cond.instanceMethod ({ cls := "WideMap", name := "flatten", desc := "(LWideMap$Node;)V" } : Jvm.MethodName)) ∈ lw_all := lw_g (lw_at lw_m5 73 rfl) rfl
theorem q1164 : (Jvm.Cond.code ({ cls := "WideMap", name := "flatten", desc := "(LWideMap$Node;)V" } : Jvm.MethodName) prog_1_method_43_code (3 : Nat) (Option.none : Option Jvm.ClassFile.FieldType)) ∈ lw_all := lw_g (lw_at lw_m5 74 rfl) rfl
theorem q1166 : (Jvm.Cond.instanceMethod ({ cls := "WideMap", name := "below", desc := "(II)I" } : Jvm.MethodName)) ∈ lw_all := lw_g (lw_at lw_m5 76 rfl) rfl
theorem q1167 : (Jvm.Cond.selects "WideMap" ({ cls := "WideMap", name := "below", desc := "(II)I" } : Jvm.MethodName) ({ cls := "WideMap", name := "below", desc := "(II)I" } : Jvm.MethodName)) ∈ lw_all := lw_g (lw_at lw_m5 77 rfl) rfl
theorem q1168 : (Jvm.Cond.code ({ cls := "WideMap", name := "below", desc := "(II)I" } : Jvm.MethodName) prog_1_method_51_code (5 : Nat) (Option.some Jvm.ClassFile.FieldType.int)) ∈ lw_all := lw_g (lw_at lw_m5 78 rfl) rfl
theorem q1170 : (Jvm.Cond.instanceMethod ({ cls := "WideMap", name := "near", desc := "(III)I" } : Jvm.MethodName)) ∈ lw_all := lw_g (lw_at lw_m5 80 rfl) rfl
theorem q1171 : (Jvm.Cond.selects "WideMap" ({ cls := "WideMap", name := "near", desc := "(III)I" } : Jvm.MethodName) ({ cls := "WideMap", name := "near", desc := "(III)I" } : Jvm.MethodName)) ∈ lw_all := lw_g (lw_at lw_m5 81 rfl) rfl
theorem q1172 : (Jvm.Cond.code ({ cls := "WideMap", name := "near", desc := "(III)I" } : Jvm.MethodName) prog_1_method_52_code (9 : Nat) (Option.some Jvm.ClassFile.FieldType.int)) ∈ lw_all := lw_g (lw_at lw_m5 82 rfl) rfl
theorem q1174 : (Jvm.Cond.instanceMethod ({ cls := "WideMap", name := "total", desc := "(III)I" } : Jvm.MethodName)) ∈ lw_all := lw_g (lw_at lw_m5 84 rfl) rfl
theorem q1175 : (Jvm.Cond.selects "WideMap" ({ cls := "WideMap", name := "total", desc := "(III)I" } : Jvm.MethodName) ({ cls := "WideMap", name := "total", desc := "(III)I" } : Jvm.MethodName)) ∈ lw_all := lw_g (lw_at lw_m5 85 rfl) rfl
theorem q1176 : (Jvm.Cond.code ({ cls := "WideMap", name := "total", desc := "(III)I" } : Jvm.MethodName) prog_1_method_53_code (4 : Nat) (Option.some Jvm.ClassFile.FieldType.int)) ∈ lw_all := lw_g (lw_at lw_m5 86 rfl) rfl
theorem q1178 : (Jvm.Cond.instanceMethod ({ cls := "WideMap", name := "node", desc := "(III)I" } : Jvm.MethodName)) ∈ lw_all := lw_g (lw_at lw_m5 88 rfl) rfl
theorem q1179 : (Jvm.Cond.selects "WideMap" ({ cls := "WideMap", name := "node", desc := "(III)I" } : Jvm.MethodName) ({ cls := "WideMap", name := "node", desc := "(III)I" } : Jvm.MethodName)) ∈ lw_all := lw_g (lw_at lw_m5 89 rfl) rfl
theorem q1180 : (Jvm.Cond.code ({ cls := "WideMap", name := "node", desc := "(III)I" } : Jvm.MethodName) prog_1_method_56_code (5 : Nat) (Option.some Jvm.ClassFile.FieldType.int)) ∈ lw_all := lw_g (lw_at lw_m5 90 rfl) rfl
theorem q1181 : (Jvm.Cond.methodLink "WideMap" (354 : Nat) ({ cls := "WideMap", name := "seek", desc := "(LWideMap$Node;I)LWideMap$Node;" } : Jvm.MethodName)) ∈ lw_all := lw_g (lw_at lw_m5 91 rfl) rfl
theorem q1182 : (Jvm.Cond.privateMethod ({ cls := "WideMap", name := "seek", desc := "(LWideMap$Node;I)LWideMap$Node;" } : Jvm.MethodName)) ∈ lw_tbl := lw_at lw_m5 92 rfl
theorem q1183 : (Jvm.Cond.instanceMethod ({ cls := "WideMap", name := "seek", desc := "(LWideMap$Node;I)LWideMap$Node;" } : Jvm.MethodName)) ∈ lw_all := lw_g (lw_at lw_m5 93 rfl) rfl
theorem q1184 : (Jvm.Cond.code ({ cls := "WideMap", name := "seek", desc := "(LWideMap$Node;I)LWideMap$Node;" } : Jvm.MethodName) prog_1_method_54_code (5 : Nat) (Option.some (Jvm.ClassFile.FieldType.object "WideMap$Node"))) ∈ lw_all := lw_g (lw_at lw_m5 94 rfl) rfl
theorem q1185 : (Jvm.Cond.interfaceEntry "WideMap" (361 : Nat)) ∈ lw_tbl := lw_at lw_m5 95 rfl
theorem q1186 : (Jvm.Cond.methodLink "WideMap" (361 : Nat) ({ cls := "WideMap$Node", name := "low", desc := "()I" } : Jvm.MethodName)) ∈ lw_all := lw_g (lw_at lw_m5 96 rfl) rfl
theorem q1187 : (Jvm.Cond.methodLink "WideMap" (364 : Nat) ({ cls := "WideMap", name := "inHowMany", desc := "(LWideMap$Node;)I" } : Jvm.MethodName)) ∈ lw_all := lw_g (lw_at lw_m5 97 rfl) rfl
theorem q1188 : (Jvm.Cond.privateMethod ({ cls := "WideMap", name := "inHowMany", desc := "(LWideMap$Node;)I" } : Jvm.MethodName)) ∈ lw_tbl := lw_at lw_m5 98 rfl
theorem q1189 : (Jvm.Cond.instanceMethod ({ cls := "WideMap", name := "inHowMany", desc := "(LWideMap$Node;)I" } : Jvm.MethodName)) ∈ lw_all := lw_g (lw_at lw_m5 99 rfl) rfl
theorem q1190 : (Jvm.Cond.code ({ cls := "WideMap", name := "inHowMany", desc := "(LWideMap$Node;)I" } : Jvm.MethodName) prog_1_method_55_code (4 : Nat) (Option.some Jvm.ClassFile.FieldType.int)) ∈ lw_all := lw_g (lw_at lw_m5 100 rfl) rfl
theorem q1191 : (Jvm.Cond.interfaceEntry "WideMap" (357 : Nat)) ∈ lw_tbl := lw_at lw_m5 101 rfl
theorem q1192 : (Jvm.Cond.methodLink "WideMap" (357 : Nat) ({ cls := "WideMap$Node", name := "hasIn", desc := "(LWideMap$Node;)Z" } : Jvm.MethodName)) ∈ lw_all := lw_g (lw_at lw_m5 102 rfl) rfl
theorem q1203 : (Jvm.Cond.instanceMethod ({ cls := "WideMap", name := "having", desc := "(III)I" } : Jvm.MethodName)) ∈ lw_all := lw_g (lw_at lw_m5 113 rfl) rfl
theorem q1204 : (Jvm.Cond.selects "WideMap" ({ cls := "WideMap", name := "having", desc := "(III)I" } : Jvm.MethodName) ({ cls := "WideMap", name := "having", desc := "(III)I" } : Jvm.MethodName)) ∈ lw_all := lw_g (lw_at lw_m5 114 rfl) rfl
theorem q1205 : (Jvm.Cond.code ({ cls := "WideMap", name := "having", desc := "(III)I" } : Jvm.MethodName) prog_1_method_57_code (4 : Nat) (Option.some Jvm.ClassFile.FieldType.int)) ∈ lw_all := lw_g (lw_at lw_m5 115 rfl) rfl
theorem q1206 : (Jvm.Cond.methodLink "WideMap" (367 : Nat) ({ cls := "WideMap", name := "isKey", desc := "(I)Z" } : Jvm.MethodName)) ∈ lw_all := lw_g (lw_at lw_m5 116 rfl) rfl
theorem q1207 : (Jvm.Cond.static ({ cls := "WideMap", name := "isKey", desc := "(I)Z" } : Jvm.MethodName)) ∈ lw_all := lw_g (lw_at lw_m5 117 rfl) rfl
theorem q1208 : (Jvm.Cond.code ({ cls := "WideMap", name := "isKey", desc := "(I)Z" } : Jvm.MethodName) prog_1_method_33_code (1 : Nat) (Option.some Jvm.ClassFile.FieldType.boolean)) ∈ lw_all := lw_g (lw_at lw_m5 118 rfl) rfl
theorem q1209 : (Jvm.Cond.methodLink "WideMap" (370 : Nat) ({ cls := "WideMap", name := "isValue", desc := "(I)Z" } : Jvm.MethodName)) ∈ lw_all := lw_g (lw_at lw_m5 119 rfl) rfl
theorem q1210 : (Jvm.Cond.static ({ cls := "WideMap", name := "isValue", desc := "(I)Z" } : Jvm.MethodName)) ∈ lw_all := lw_g (lw_at lw_m5 120 rfl) rfl
theorem q1211 : (Jvm.Cond.code ({ cls := "WideMap", name := "isValue", desc := "(I)Z" } : Jvm.MethodName) prog_1_method_34_code (1 : Nat) (Option.some Jvm.ClassFile.FieldType.boolean)) ∈ lw_all := lw_g (lw_at lw_m5 121 rfl) rfl
theorem q1212 : (Jvm.Cond.methodLink "WideMap" (373 : Nat) ({ cls := "WideMap", name := "canLay", desc := "(LWideMap$Node;I)Z" } : Jvm.MethodName)) ∈ lw_all := lw_g (lw_at lw_m5 122 rfl) rfl
theorem q1213 : (Jvm.Cond.privateMethod ({ cls := "WideMap", name := "canLay", desc := "(LWideMap$Node;I)Z" } : Jvm.MethodName)) ∈ lw_tbl := lw_at lw_m5 123 rfl
theorem q1214 : (Jvm.Cond.instanceMethod ({ cls := "WideMap", name := "canLay", desc := "(LWideMap$Node;I)Z" } : Jvm.MethodName)) ∈ lw_all := lw_g (lw_at lw_m5 124 rfl) rfl
theorem q1215 : (Jvm.Cond.code ({ cls := "WideMap", name := "canLay", desc := "(LWideMap$Node;I)Z" } : Jvm.MethodName) prog_1_method_41_code (3 : Nat) (Option.some Jvm.ClassFile.FieldType.boolean)) ∈ lw_all := lw_g (lw_at lw_m5 125 rfl) rfl
theorem q1217 : (Jvm.Cond.instanceMethod ({ cls := "WideMap", name := "lacking", desc := "(II)I" } : Jvm.MethodName)) ∈ lw_all := lw_g (lw_at lw_m5 127 rfl) rfl
theorem q1218 : (Jvm.Cond.selects "WideMap" ({ cls := "WideMap", name := "lacking", desc := "(II)I" } : Jvm.MethodName) ({ cls := "WideMap", name := "lacking", desc := "(II)I" } : Jvm.MethodName)) ∈ lw_all := lw_g (lw_at lw_m5 128 rfl) rfl
theorem q1219 : (Jvm.Cond.code ({ cls := "WideMap", name := "lacking", desc := "(II)I" } : Jvm.MethodName) prog_1_method_58_code (3 : Nat) (Option.some Jvm.ClassFile.FieldType.int)) ∈ lw_all := lw_g (lw_at lw_m5 129 rfl) rfl
theorem q1220 : (Jvm.Cond.methodLink "WideMap" (327 : Nat) ({ cls := "WideMap", name := "takeNow", desc := "(I)V" } : Jvm.MethodName)) ∈ lw_all := lw_g (lw_at lw_m5 130 rfl) rfl
theorem q1221 : (Jvm.Cond.privateMethod ({ cls := "WideMap", name := "takeNow", desc := "(I)V" } : Jvm.MethodName)) ∈ lw_tbl := lw_at lw_m5 131 rfl
theorem q1222 : (Jvm.Cond.instanceMethod ({ cls := "WideMap", name := "takeNow", desc := "(I)V" } : Jvm.MethodName)) ∈ lw_all := lw_g (lw_at lw_m5 132 rfl) rfl
theorem q1223 : (Jvm.Cond.code ({ cls := "WideMap", name := "takeNow", desc := "(I)V" } : Jvm.MethodName) prog_1_method_40_code (2 : Nat) (Option.none : Option Jvm.ClassFile.FieldType)) ∈ lw_all := lw_g (lw_at lw_m5 133 rfl) rfl
theorem q1224 : (Jvm.Cond.interfaceEntry "WideMap" (306 : Nat)) ∈ lw_tbl := lw_at lw_m5 134 rfl
theorem q1225 : (Jvm.Cond.methodLink "WideMap" (306 : Nat) ({ cls := "WideMap$Node", name := "takes", desc := "(LWideMap$Token;II)V" } : Jvm.MethodName)) ∈ lw_all := lw_g (lw_at lw_m5 135 rfl) rfl
theorem q1305 : (Jvm.Cond.instanceMethod ({ cls := "WideMap", name := "merge", desc := "(III)I" } : Jvm.MethodName)) ∈ lw_all := lw_g (lw_at lw_m5 215 rfl) rfl
theorem q1306 : (Jvm.Cond.selects "WideMap" ({ cls := "WideMap", name := "merge", desc := "(III)I" } : Jvm.MethodName) ({ cls := "WideMap", name := "merge", desc := "(III)I" } : Jvm.MethodName)) ∈ lw_all := lw_g (lw_at lw_m5 216 rfl) rfl
theorem q1307 : (Jvm.Cond.code ({ cls := "WideMap", name := "merge", desc := "(III)I" } : Jvm.MethodName) prog_1_method_62_code (4 : Nat) (Option.some Jvm.ClassFile.FieldType.int)) ∈ lw_all := lw_g (lw_at lw_m5 217 rfl) rfl
theorem q1308 : (Jvm.Cond.methodLink "WideMap" (388 : Nat) ({ cls := "WideMap", name := "unionOf", desc := "(LWideMap$Node;LWideMap$Node;)I" } : Jvm.MethodName)) ∈ lw_all := lw_g (lw_at lw_m5 218 rfl) rfl
theorem q1309 : (Jvm.Cond.privateMethod ({ cls := "WideMap", name := "unionOf", desc := "(LWideMap$Node;LWideMap$Node;)I" } : Jvm.MethodName)) ∈ lw_tbl := lw_at lw_m5 219 rfl
theorem q1310 : (Jvm.Cond.instanceMethod ({ cls := "WideMap", name := "unionOf", desc := "(LWideMap$Node;LWideMap$Node;)I" } : Jvm.MethodName)) ∈ lw_all := lw_g (lw_at lw_m5 220 rfl) rfl
theorem q1311 : (Jvm.Cond.code ({ cls := "WideMap", name := "unionOf", desc := "(LWideMap$Node;LWideMap$Node;)I" } : Jvm.MethodName) prog_1_method_59_code (6 : Nat) (Option.some Jvm.ClassFile.FieldType.int)) ∈ lw_all := lw_g (lw_at lw_m5 221 rfl) rfl
theorem q1312 : (Jvm.Cond.methodLink "WideMap" (380 : Nat) ({ cls := "WideMap", name := "mergeNow", desc := "(LWideMap$Node;LWideMap$Node;II)V" } : Jvm.MethodName)) ∈ lw_all := lw_g (lw_at lw_m5 222 rfl) rfl
theorem q1313 : (Jvm.Cond.privateMethod ({ cls := "WideMap", name := "mergeNow", desc := "(LWideMap$Node;LWideMap$Node;II)V" } : Jvm.MethodName)) ∈ lw_tbl := lw_at lw_m5 223 rfl
theorem q1314 : (Jvm.Cond.instanceMethod ({ cls := "WideMap", name := "mergeNow", desc := "(LWideMap$Node;LWideMap$Node;II)V" } : Jvm.MethodName)) ∈ lw_all := lw_g (lw_at lw_m5 224 rfl) rfl
theorem q1315 : (Jvm.Cond.code ({ cls := "WideMap", name := "mergeNow", desc := "(LWideMap$Node;LWideMap$Node;II)V" } : Jvm.MethodName) prog_1_method_61_code (7 : Nat) (Option.none : Option Jvm.ClassFile.FieldType)) ∈ lw_all := lw_g (lw_at lw_m5 225 rfl) rfl
theorem q1316 : (Jvm.Cond.interfaceEntry "WideMap" (377 : Nat)) ∈ lw_tbl := lw_at lw_m5 226 rfl
theorem q1317 : (Jvm.Cond.methodLink "WideMap" (377 : Nat) ({ cls := "WideMap$Node", name := "isStamped", desc := "(I)Z" } : Jvm.MethodName)) ∈ lw_all := lw_g (lw_at lw_m5 227 rfl) rfl
theorem q1318 : (Jvm.Cond.methodLink "WideMap" (384 : Nat) ({ cls := "WideMap", name := "ruled", desc := "(III)I" } : Jvm.MethodName)) ∈ lw_all := lw_g (lw_at lw_m5 228 rfl) rfl
theorem q1319 : (Jvm.Cond.static ({ cls := "WideMap", name := "ruled", desc := "(III)I" } : Jvm.MethodName)) ∈ lw_all := lw_g (lw_at lw_m5 229 rfl) rfl
theorem q1320 : (Jvm.Cond.code ({ cls := "WideMap", name := "ruled", desc := "(III)I" } : Jvm.MethodName) prog_1_method_60_code (3 : Nat) (Option.some Jvm.ClassFile.FieldType.int)) ∈ lw_all := lw_g (lw_at lw_m5 230 rfl) rfl
theorem q1321 : (Jvm.Cond.methodLink "WideMap" (9 : Nat) ({ cls := "java/lang/Math", name := "max", desc := "(II)I" } : Jvm.MethodName)) ∈ lw_all := lw_g (lw_at lw_m5 231 rfl) rfl
theorem q1322 : (Jvm.Cond.methodLink "WideMap" (314 : Nat) ({ cls := "WideMap", name := "held", desc := "(I)I" } : Jvm.MethodName)) ∈ lw_all := lw_g (lw_at lw_m5 232 rfl) rfl
theorem q1323 : (Jvm.Cond.static ({ cls := "WideMap", name := "held", desc := "(I)I" } : Jvm.MethodName)) ∈ lw_all := lw_g (lw_at lw_m5 233 rfl) rfl
theorem q1324 : (Jvm.Cond.code ({ cls := "WideMap", name := "held", desc := "(I)I" } : Jvm.MethodName) prog_1_method_2_code (1 : Nat) (Option.some Jvm.ClassFile.FieldType.int)) ∈ lw_all := lw_g (lw_at lw_m5 234 rfl) rfl
theorem q1325 : (Jvm.Cond.methodLink "WideMap" (3 : Nat) ({ cls := "java/lang/Math", name := "min", desc := "(II)I" } : Jvm.MethodName)) ∈ lw_all := lw_g (lw_at lw_m5 235 rfl) rfl
theorem q1327 : (Jvm.Cond.instanceMethod ({ cls := "WideMap", name := "three", desc := "(IIII)I" } : Jvm.MethodName)) ∈ lw_all := lw_g (lw_at lw_m5 237 rfl) rfl
theorem q1328 : (Jvm.Cond.selects "WideMap" ({ cls := "WideMap", name := "three", desc := "(IIII)I" } : Jvm.MethodName) ({ cls := "WideMap", name := "three", desc := "(IIII)I" } : Jvm.MethodName)) ∈ lw_all := lw_g (lw_at lw_m5 238 rfl) rfl
theorem q1329 : (Jvm.Cond.code ({ cls := "WideMap", name := "three", desc := "(IIII)I" } : Jvm.MethodName) prog_1_method_68_code (8 : Nat) (Option.some Jvm.ClassFile.FieldType.int)) ∈ lw_all := lw_g (lw_at lw_m5 239 rfl) rfl
theorem q1330 : (Jvm.Cond.methodLink "WideMap" (406 : Nat) ({ cls := "WideMap", name := "whyNotThree", desc := "(IIII)I" } : Jvm.MethodName)) ∈ lw_all := lw_g (lw_at lw_m6 0 rfl) rfl
theorem q1331 : (Jvm.Cond.privateMethod ({ cls := "WideMap", name := "whyNotThree", desc := "(IIII)I" } : Jvm.MethodName)) ∈ lw_tbl := lw_at lw_m6 1 rfl
theorem q1332 : (Jvm.Cond.instanceMethod ({ cls := "WideMap", name := "whyNotThree", desc := "(IIII)I" } : Jvm.MethodName)) ∈ lw_all := lw_g (lw_at lw_m6 2 rfl) rfl
theorem q1333 : (Jvm.Cond.code ({ cls := "WideMap", name := "whyNotThree", desc := "(IIII)I" } : Jvm.MethodName) prog_1_method_67_code (5 : Nat) (Option.some Jvm.ClassFile.FieldType.int)) ∈ lw_all := lw_g (lw_at lw_m6 3 rfl) rfl
theorem q1334 : (Jvm.Cond.methodLink "WideMap" (403 : Nat) ({ cls := "WideMap", name := "threeMany", desc := "(LWideMap$Node;LWideMap$Node;LWideMap$Node;I)I" } : Jvm.MethodName)) ∈ lw_all := lw_g (lw_at lw_m6 4 rfl) rfl
theorem q1335 : (Jvm.Cond.privateMethod ({ cls := "WideMap", name := "threeMany", desc := "(LWideMap$Node;LWideMap$Node;LWideMap$Node;I)I" } : Jvm.MethodName)) ∈ lw_tbl := lw_at lw_m6 5 rfl
theorem q1336 : (Jvm.Cond.instanceMethod ({ cls := "WideMap", name := "threeMany", desc := "(LWideMap$Node;LWideMap$Node;LWideMap$Node;I)I" } : Jvm.MethodName)) ∈ lw_all := lw_g (lw_at lw_m6 6 rfl) rfl
theorem q1337 : (Jvm.Cond.code ({ cls := "WideMap", name := "threeMany", desc := "(LWideMap$Node;LWideMap$Node;LWideMap$Node;I)I" } : Jvm.MethodName) prog_1_method_65_code (7 : Nat) (Option.some Jvm.ClassFile.FieldType.int)) ∈ lw_all := lw_g (lw_at lw_m6 7 rfl) rfl
theorem q1338 : (Jvm.Cond.methodLink "WideMap" (399 : Nat) ({ cls := "WideMap", name := "comesTo", desc := "(LWideMap$Node;LWideMap$Node;LWideMap$Node;II)I" } : Jvm.MethodName)) ∈ lw_all := lw_g (lw_at lw_m6 8 rfl) rfl
theorem q1339 : (Jvm.Cond.static ({ cls := "WideMap", name := "comesTo", desc := "(LWideMap$Node;LWideMap$Node;LWideMap$Node;II)I" } : Jvm.MethodName)) ∈ lw_all := lw_g (lw_at lw_m6 9 rfl) rfl
theorem q1340 : (Jvm.Cond.code ({ cls := "WideMap", name := "comesTo", desc := "(LWideMap$Node;LWideMap$Node;LWideMap$Node;II)I" } : Jvm.MethodName) prog_1_method_64_code (5 : Nat) (Option.some Jvm.ClassFile.FieldType.int)) ∈ lw_all := lw_g (lw_at lw_m6 10 rfl) rfl
theorem q1341 : (Jvm.Cond.methodLink "WideMap" (395 : Nat) ({ cls := "WideMap", name := "threeAt", desc := "(LWideMap$Node;LWideMap$Node;LWideMap$Node;I)I" } : Jvm.MethodName)) ∈ lw_all := lw_g (lw_at lw_m6 11 rfl) rfl
theorem q1342 : (Jvm.Cond.static ({ cls := "WideMap", name := "threeAt", desc := "(LWideMap$Node;LWideMap$Node;LWideMap$Node;I)I" } : Jvm.MethodName)) ∈ lw_all := lw_g (lw_at lw_m6 12 rfl) rfl
theorem q1343 : (Jvm.Cond.code ({ cls := "WideMap", name := "threeAt", desc := "(LWideMap$Node;LWideMap$Node;LWideMap$Node;I)I" } : Jvm.MethodName) prog_1_method_63_code (7 : Nat) (Option.some Jvm.ClassFile.FieldType.int)) ∈ lw_all := lw_g (lw_at lw_m6 13 rfl) rfl
theorem q1344 : (Jvm.Cond.methodLink "WideMap" (410 : Nat) ({ cls := "WideMap", name := "becomes", desc := "(II)V" } : Jvm.MethodName)) ∈ lw_all := lw_g (lw_at lw_m6 14 rfl) rfl
theorem q1345 : (Jvm.Cond.privateMethod ({ cls := "WideMap", name := "becomes", desc := "(II)V" } : Jvm.MethodName)) ∈ lw_tbl := lw_at lw_m6 15 rfl
theorem q1346 : (Jvm.Cond.instanceMethod ({ cls := "WideMap", name := "becomes", desc := "(II)V" } : Jvm.MethodName)) ∈ lw_all := lw_g (lw_at lw_m6 16 rfl) rfl
theorem q1347 : (Jvm.Cond.code ({ cls := "WideMap", name := "becomes", desc := "(II)V" } : Jvm.MethodName) prog_1_method_66_code (3 : Nat) (Option.none : Option Jvm.ClassFile.FieldType)) ∈ lw_all := lw_g (lw_at lw_m6 17 rfl) rfl
theorem q1349 : (Jvm.Cond.instanceMethod ({ cls := "WideMap", name := "conflicts", desc := "(III)I" } : Jvm.MethodName)) ∈ lw_all := lw_g (lw_at lw_m6 19 rfl) rfl
theorem q1350 : (Jvm.Cond.selects "WideMap" ({ cls := "WideMap", name := "conflicts", desc := "(III)I" } : Jvm.MethodName) ({ cls := "WideMap", name := "conflicts", desc := "(III)I" } : Jvm.MethodName)) ∈ lw_all := lw_g (lw_at lw_m6 20 rfl) rfl
theorem q1351 : (Jvm.Cond.code ({ cls := "WideMap", name := "conflicts", desc := "(III)I" } : Jvm.MethodName) prog_1_method_69_code (6 : Nat) (Option.some Jvm.ClassFile.FieldType.int)) ∈ lw_all := lw_g (lw_at lw_m6 21 rfl) rfl
theorem q1353 : (Jvm.Cond.instanceMethod ({ cls := "WideMap", name := "slice", desc := "(III)I" } : Jvm.MethodName)) ∈ lw_all := lw_g (lw_at lw_m6 23 rfl) rfl
theorem q1354 : (Jvm.Cond.selects "WideMap" ({ cls := "WideMap", name := "slice", desc := "(III)I" } : Jvm.MethodName) ({ cls := "WideMap", name := "slice", desc := "(III)I" } : Jvm.MethodName)) ∈ lw_all := lw_g (lw_at lw_m6 24 rfl) rfl
theorem q1355 : (Jvm.Cond.code ({ cls := "WideMap", name := "slice", desc := "(III)I" } : Jvm.MethodName) prog_1_method_70_code (4 : Nat) (Option.some Jvm.ClassFile.FieldType.int)) ∈ lw_all := lw_g (lw_at lw_m6 25 rfl) rfl
theorem q1356 : (Jvm.Cond.methodLink "WideMap" (413 : Nat) ({ cls := "WideMap", name := "cutNow", desc := "(II)V" } : Jvm.MethodName)) ∈ lw_all := lw_g (lw_at lw_m6 26 rfl) rfl
theorem q1357 : (Jvm.Cond.privateMethod ({ cls := "WideMap", name := "cutNow", desc := "(II)V" } : Jvm.MethodName)) ∈ lw_tbl := lw_at lw_m6 27 rfl
theorem q1358 : (Jvm.Cond.instanceMethod ({ cls := "WideMap", name := "cutNow", desc := "(II)V" } : Jvm.MethodName)) ∈ lw_all := lw_g (lw_at lw_m6 28 rfl) rfl
theorem q1359 : (Jvm.Cond.code ({ cls := "WideMap", name := "cutNow", desc := "(II)V" } : Jvm.MethodName) prog_1_method_45_code (5 : Nat) (Option.none : Option Jvm.ClassFile.FieldType)) ∈ lw_all := lw_g (lw_at lw_m6 29 rfl) rfl
theorem q1361 : (Jvm.Cond.instanceMethod ({ cls := "WideMap", name := "drop", desc := "(I)I" } : Jvm.MethodName)) ∈ lw_all := lw_g (lw_at lw_m6 31 rfl) rfl
theorem q1362 : (Jvm.Cond.selects "WideMap" ({ cls := "WideMap", name := "drop", desc := "(I)I" } : Jvm.MethodName) ({ cls := "WideMap", name := "drop", desc := "(I)I" } : Jvm.MethodName)) ∈ lw_all := lw_g (lw_at lw_m6 32 rfl) rfl
theorem q1363 : (Jvm.Cond.code ({ cls := "WideMap", name := "drop", desc := "(I)I" } : Jvm.MethodName) prog_1_method_71_code (3 : Nat) (Option.some Jvm.ClassFile.FieldType.int)) ∈ lw_all := lw_g (lw_at lw_m6 33 rfl) rfl
theorem q1365 : (Jvm.Cond.instanceMethod ({ cls := "WideMap", name := "build", desc := "(II)I" } : Jvm.MethodName)) ∈ lw_all := lw_g (lw_at lw_m6 35 rfl) rfl
theorem q1366 : (Jvm.Cond.selects "WideMap" ({ cls := "WideMap", name := "build", desc := "(II)I" } : Jvm.MethodName) ({ cls := "WideMap", name := "build", desc := "(II)I" } : Jvm.MethodName)) ∈ lw_all := lw_g (lw_at lw_m6 36 rfl) rfl
theorem q1367 : (Jvm.Cond.code ({ cls := "WideMap", name := "build", desc := "(II)I" } : Jvm.MethodName) prog_1_method_72_code (3 : Nat) (Option.some Jvm.ClassFile.FieldType.int)) ∈ lw_all := lw_g (lw_at lw_m6 37 rfl) rfl
theorem q1368 : (Jvm.Cond.methodLink "WideMap" (416 : Nat) ({ cls := "WideMap", name := "isBuilder", desc := "(I)Z" } : Jvm.MethodName)) ∈ lw_all := lw_g (lw_at lw_m6 38 rfl) rfl
theorem q1369 : (Jvm.Cond.privateMethod ({ cls := "WideMap", name := "isBuilder", desc := "(I)Z" } : Jvm.MethodName)) ∈ lw_tbl := lw_at lw_m6 39 rfl
theorem q1370 : (Jvm.Cond.instanceMethod ({ cls := "WideMap", name := "isBuilder", desc := "(I)Z" } : Jvm.MethodName)) ∈ lw_all := lw_g (lw_at lw_m6 40 rfl) rfl
theorem q1371 : (Jvm.Cond.code ({ cls := "WideMap", name := "isBuilder", desc := "(I)Z" } : Jvm.MethodName) prog_1_method_31_code (2 : Nat) (Option.some Jvm.ClassFile.FieldType.boolean)) ∈ lw_all := lw_g (lw_at lw_m6 41 rfl) rfl
theorem q1373 : (Jvm.Cond.instanceMethod ({ cls := "WideMap", name := "lay", desc := "(III)I" } : Jvm.MethodName)) ∈ lw_all := lw_g (lw_at lw_m6 43 rfl) rfl
theorem q1374 : (Jvm.Cond.selects "WideMap" ({ cls := "WideMap", name := "lay", desc := "(III)I" } : Jvm.MethodName) ({ cls := "WideMap", name := "lay", desc := "(III)I" } : Jvm.MethodName)) ∈ lw_all := lw_g (lw_at lw_m6 44 rfl) rfl
theorem q1375 : (Jvm.Cond.code ({ cls := "WideMap", name := "lay", desc := "(III)I" } : Jvm.MethodName) prog_1_method_77_code (5 : Nat) (Option.some Jvm.ClassFile.FieldType.int)) ∈ lw_all := lw_g (lw_at lw_m6 45 rfl) rfl
theorem q1376 : (Jvm.Cond.methodLink "WideMap" (426 : Nat) ({ cls := "WideMap", name := "whyNotLaid", desc := "(III)I" } : Jvm.MethodName)) ∈ lw_all := lw_g (lw_at lw_m6 46 rfl) rfl
theorem q1377 : (Jvm.Cond.privateMethod ({ cls := "WideMap", name := "whyNotLaid", desc := "(III)I" } : Jvm.MethodName)) ∈ lw_tbl := lw_at lw_m6 47 rfl
theorem q1378 : (Jvm.Cond.instanceMethod ({ cls := "WideMap", name := "whyNotLaid", desc := "(III)I" } : Jvm.MethodName)) ∈ lw_all := lw_g (lw_at lw_m6 48 rfl) rfl
theorem q1379 : (Jvm.Cond.code ({ cls := "WideMap", name := "whyNotLaid", desc := "(III)I" } : Jvm.MethodName) prog_1_method_76_code (5 : Nat) (Option.some Jvm.ClassFile.FieldType.int)) ∈ lw_all := lw_g (lw_at lw_m6 49 rfl) rfl
theorem q1380 : (Jvm.Cond.methodLink "WideMap" (422 : Nat) ({ cls := "WideMap", name := "whyNot", desc := "(IZ)I" } : Jvm.MethodName)) ∈ lw_all := lw_g (lw_at lw_m6 50 rfl) rfl
theorem q1381 : (Jvm.Cond.privateMethod ({ cls := "WideMap", name := "whyNot", desc := "(IZ)I" } : Jvm.MethodName)) ∈ lw_tbl := lw_at lw_m6 51 rfl
theorem q1382 : (Jvm.Cond.instanceMethod ({ cls := "WideMap", name := "whyNot", desc := "(IZ)I" } : Jvm.MethodName)) ∈ lw_all := lw_g (lw_at lw_m6 52 rfl) rfl
theorem q1383 : (Jvm.Cond.code ({ cls := "WideMap", name := "whyNot", desc := "(IZ)I" } : Jvm.MethodName) prog_1_method_73_code (3 : Nat) (Option.some Jvm.ClassFile.FieldType.int)) ∈ lw_all := lw_g (lw_at lw_m6 53 rfl) rfl
theorem q1384 : (Jvm.Cond.methodLink "WideMap" (419 : Nat) ({ cls := "WideMap", name := "isStale", desc := "(I)Z" } : Jvm.MethodName)) ∈ lw_all := lw_g (lw_at lw_m6 54 rfl) rfl
theorem q1385 : (Jvm.Cond.privateMethod ({ cls := "WideMap", name := "isStale", desc := "(I)Z" } : Jvm.MethodName)) ∈ lw_tbl := lw_at lw_m6 55 rfl
theorem q1386 : (Jvm.Cond.instanceMethod ({ cls := "WideMap", name := "isStale", desc := "(I)Z" } : Jvm.MethodName)) ∈ lw_all := lw_g (lw_at lw_m6 56 rfl) rfl
theorem q1387 : (Jvm.Cond.code ({ cls := "WideMap", name := "isStale", desc := "(I)Z" } : Jvm.MethodName) prog_1_method_32_code (2 : Nat) (Option.some Jvm.ClassFile.FieldType.boolean)) ∈ lw_all := lw_g (lw_at lw_m6 57 rfl) rfl
theorem q1388 : (Jvm.Cond.methodLink "WideMap" (429 : Nat) ({ cls := "WideMap", name := "begins", desc := "(I)I" } : Jvm.MethodName)) ∈ lw_all := lw_g (lw_at lw_m6 58 rfl) rfl
theorem q1389 : (Jvm.Cond.privateMethod ({ cls := "WideMap", name := "begins", desc := "(I)I" } : Jvm.MethodName)) ∈ lw_tbl := lw_at lw_m6 59 rfl
theorem q1390 : (Jvm.Cond.instanceMethod ({ cls := "WideMap", name := "begins", desc := "(I)I" } : Jvm.MethodName)) ∈ lw_all := lw_g (lw_at lw_m6 60 rfl) rfl
theorem q1391 : (Jvm.Cond.code ({ cls := "WideMap", name := "begins", desc := "(I)I" } : Jvm.MethodName) prog_1_method_74_code (2 : Nat) (Option.some Jvm.ClassFile.FieldType.int)) ∈ lw_all := lw_g (lw_at lw_m6 61 rfl) rfl
theorem q1392 : (Jvm.Cond.methodLink "WideMap" (432 : Nat) ({ cls := "WideMap", name := "ends", desc := "(II)I" } : Jvm.MethodName)) ∈ lw_all := lw_g (lw_at lw_m6 62 rfl) rfl
theorem q1393 : (Jvm.Cond.privateMethod ({ cls := "WideMap", name := "ends", desc := "(II)I" } : Jvm.MethodName)) ∈ lw_tbl := lw_at lw_m6 63 rfl
theorem q1394 : (Jvm.Cond.instanceMethod ({ cls := "WideMap", name := "ends", desc := "(II)I" } : Jvm.MethodName)) ∈ lw_all := lw_g (lw_at lw_m6 64 rfl) rfl
theorem q1395 : (Jvm.Cond.code ({ cls := "WideMap", name := "ends", desc := "(II)I" } : Jvm.MethodName) prog_1_method_75_code (3 : Nat) (Option.some Jvm.ClassFile.FieldType.int)) ∈ lw_all := lw_g (lw_at lw_m6 65 rfl) rfl
theorem q1397 : (Jvm.Cond.instanceMethod ({ cls := "WideMap", name := "take", desc := "(II)I" } : Jvm.MethodName)) ∈ lw_all := lw_g (lw_at lw_m6 67 rfl) rfl
theorem q1398 : (Jvm.Cond.selects "WideMap" ({ cls := "WideMap", name := "take", desc := "(II)I" } : Jvm.MethodName) ({ cls := "WideMap", name := "take", desc := "(II)I" } : Jvm.MethodName)) ∈ lw_all := lw_g (lw_at lw_m6 68 rfl) rfl
theorem q1399 : (Jvm.Cond.code ({ cls := "WideMap", name := "take", desc := "(II)I" } : Jvm.MethodName) prog_1_method_78_code (4 : Nat) (Option.some Jvm.ClassFile.FieldType.int)) ∈ lw_all := lw_g (lw_at lw_m6 69 rfl) rfl
theorem q1401 : (Jvm.Cond.instanceMethod ({ cls := "WideMap", name := "add", desc := "(III)I" } : Jvm.MethodName)) ∈ lw_all := lw_g (lw_at lw_m6 71 rfl) rfl
theorem q1402 : (Jvm.Cond.selects "WideMap" ({ cls := "WideMap", name := "add", desc := "(III)I" } : Jvm.MethodName) ({ cls := "WideMap", name := "add", desc := "(III)I" } : Jvm.MethodName)) ∈ lw_all := lw_g (lw_at lw_m6 72 rfl) rfl
theorem q1403 : (Jvm.Cond.code ({ cls := "WideMap", name := "add", desc := "(III)I" } : Jvm.MethodName) prog_1_method_79_code (5 : Nat) (Option.some Jvm.ClassFile.FieldType.int)) ∈ lw_all := lw_g (lw_at lw_m6 73 rfl) rfl
theorem q1404 : (Jvm.Cond.methodLink "WideMap" (330 : Nat) ({ cls := "WideMap", name := "addNow", desc := "(II)V" } : Jvm.MethodName)) ∈ lw_all := lw_g (lw_at lw_m6 74 rfl) rfl
theorem q1405 : (Jvm.Cond.privateMethod ({ cls := "WideMap", name := "addNow", desc := "(II)V" } : Jvm.MethodName)) ∈ lw_tbl := lw_at lw_m6 75 rfl
theorem q1406 : (Jvm.Cond.instanceMethod ({ cls := "WideMap", name := "addNow", desc := "(II)V" } : Jvm.MethodName)) ∈ lw_all := lw_g (lw_at lw_m6 76 rfl) rfl
theorem q1407 : (Jvm.Cond.code ({ cls := "WideMap", name := "addNow", desc := "(II)V" } : Jvm.MethodName) prog_1_method_42_code (4 : Nat) (Option.none : Option Jvm.ClassFile.FieldType)) ∈ lw_all := lw_g (lw_at lw_m6 77 rfl) rfl
theorem q1409 : (Jvm.Cond.instanceMethod ({ cls := "WideMap", name := "cut", desc := "(III)I" } : Jvm.MethodName)) ∈ lw_all := lw_g (lw_at lw_m6 79 rfl) rfl
theorem q1410 : (Jvm.Cond.selects "WideMap" ({ cls := "WideMap", name := "cut", desc := "(III)I" } : Jvm.MethodName) ({ cls := "WideMap", name := "cut", desc := "(III)I" } : Jvm.MethodName)) ∈ lw_all := lw_g (lw_at lw_m6 80 rfl) rfl
theorem q1411 : (Jvm.Cond.code ({ cls := "WideMap", name := "cut", desc := "(III)I" } : Jvm.MethodName) prog_1_method_80_code (5 : Nat) (Option.some Jvm.ClassFile.FieldType.int)) ∈ lw_all := lw_g (lw_at lw_m6 81 rfl) rfl
theorem q1413 : (Jvm.Cond.instanceMethod ({ cls := "WideMap", name := "inc", desc := "(IIII)I" } : Jvm.MethodName)) ∈ lw_all := lw_g (lw_at lw_m6 83 rfl) rfl
theorem q1414 : (Jvm.Cond.selects "WideMap" ({ cls := "WideMap", name := "inc", desc := "(IIII)I" } : Jvm.MethodName) ({ cls := "WideMap", name := "inc", desc := "(IIII)I" } : Jvm.MethodName)) ∈ lw_all := lw_g (lw_at lw_m6 84 rfl) rfl
theorem q1415 : (Jvm.Cond.code ({ cls := "WideMap", name := "inc", desc := "(IIII)I" } : Jvm.MethodName) prog_1_method_81_code (6 : Nat) (Option.some Jvm.ClassFile.FieldType.int)) ∈ lw_all := lw_g (lw_at lw_m6 85 rfl) rfl
theorem q1416 : (Jvm.Cond.methodLink "WideMap" (435 : Nat) ({ cls := "WideMap", name := "raiseNow", desc := "(III)V" } : Jvm.MethodName)) ∈ lw_all := lw_g (lw_at lw_m6 86 rfl) rfl
theorem q1417 : (Jvm.Cond.privateMethod ({ cls := "WideMap", name := "raiseNow", desc := "(III)V" } : Jvm.MethodName)) ∈ lw_tbl := lw_at lw_m6 87 rfl
theorem q1418 : (Jvm.Cond.instanceMethod ({ cls := "WideMap", name := "raiseNow", desc := "(III)V" } : Jvm.MethodName)) ∈ lw_all := lw_g (lw_at lw_m6 88 rfl) rfl
theorem q1419 : (Jvm.Cond.code ({ cls := "WideMap", name := "raiseNow", desc := "(III)V" } : Jvm.MethodName) prog_1_method_46_code (6 : Nat) (Option.none : Option Jvm.ClassFile.FieldType)) ∈ lw_all := lw_g (lw_at lw_m6 89 rfl) rfl
theorem q1421 : (Jvm.Cond.instanceMethod ({ cls := "WideMap", name := "snap", desc := "(I)I" } : Jvm.MethodName)) ∈ lw_all := lw_g (lw_at lw_m6 91 rfl) rfl
theorem q1422 : (Jvm.Cond.selects "WideMap" ({ cls := "WideMap", name := "snap", desc := "(I)I" } : Jvm.MethodName) ({ cls := "WideMap", name := "snap", desc := "(I)I" } : Jvm.MethodName)) ∈ lw_all := lw_g (lw_at lw_m6 92 rfl) rfl
theorem q1423 : (Jvm.Cond.code ({ cls := "WideMap", name := "snap", desc := "(I)I" } : Jvm.MethodName) prog_1_method_83_code (3 : Nat) (Option.some Jvm.ClassFile.FieldType.int)) ∈ lw_all := lw_g (lw_at lw_m6 93 rfl) rfl
theorem q1424 : (Jvm.Cond.methodLink "WideMap" (439 : Nat) ({ cls := "WideMap", name := "snapNow", desc := "(I)I" } : Jvm.MethodName)) ∈ lw_all := lw_g (lw_at lw_m6 94 rfl) rfl
theorem q1425 : (Jvm.Cond.privateMethod ({ cls := "WideMap", name := "snapNow", desc := "(I)I" } : Jvm.MethodName)) ∈ lw_tbl := lw_at lw_m6 95 rfl
theorem q1426 : (Jvm.Cond.instanceMethod ({ cls := "WideMap", name := "snapNow", desc := "(I)I" } : Jvm.MethodName)) ∈ lw_all := lw_g (lw_at lw_m6 96 rfl) rfl
theorem q1427 : (Jvm.Cond.code ({ cls := "WideMap", name := "snapNow", desc := "(I)I" } : Jvm.MethodName) prog_1_method_82_code (2 : Nat) (Option.some Jvm.ClassFile.FieldType.int)) ∈ lw_all := lw_g (lw_at lw_m6 97 rfl) rfl
theorem q1429 : (Jvm.Cond.instanceMethod ({ cls := "WideMap", name := "freeze", desc := "(I)I" } : Jvm.MethodName)) ∈ lw_all := lw_g (lw_at lw_m6 99 rfl) rfl
theorem q1430 : (Jvm.Cond.selects "WideMap" ({ cls := "WideMap", name := "freeze", desc := "(I)I" } : Jvm.MethodName) ({ cls := "WideMap", name := "freeze", desc := "(I)I" } : Jvm.MethodName)) ∈ lw_all := lw_g (lw_at lw_m6 100 rfl) rfl
theorem q1431 : (Jvm.Cond.code ({ cls := "WideMap", name := "freeze", desc := "(I)I" } : Jvm.MethodName) prog_1_method_84_code (3 : Nat) (Option.some Jvm.ClassFile.FieldType.int)) ∈ lw_all := lw_g (lw_at lw_m6 101 rfl) rfl
theorem q1432 : (Jvm.Cond.methodLink "WideMap" (442 : Nat) ({ cls := "WideMap", name := "snap", desc := "(I)I" } : Jvm.MethodName)) ∈ lw_all := lw_g (lw_at lw_m6 102 rfl) rfl
theorem q1434 : (Jvm.Cond.instanceMethod ({ cls := "WideMap", name := "peek", desc := "(II)I" } : Jvm.MethodName)) ∈ lw_all := lw_g (lw_at lw_m6 104 rfl) rfl
theorem q1435 : (Jvm.Cond.selects "WideMap" ({ cls := "WideMap", name := "peek", desc := "(II)I" } : Jvm.MethodName) ({ cls := "WideMap", name := "peek", desc := "(II)I" } : Jvm.MethodName)) ∈ lw_all := lw_g (lw_at lw_m6 105 rfl) rfl
theorem q1436 : (Jvm.Cond.code ({ cls := "WideMap", name := "peek", desc := "(II)I" } : Jvm.MethodName) prog_1_method_85_code (3 : Nat) (Option.some Jvm.ClassFile.FieldType.int)) ∈ lw_all := lw_g (lw_at lw_m6 106 rfl) rfl
theorem q1438 : (Jvm.Cond.instanceMethod ({ cls := "WideMap", name := "builder", desc := "(II)I" } : Jvm.MethodName)) ∈ lw_all := lw_g (lw_at lw_m6 108 rfl) rfl
theorem q1439 : (Jvm.Cond.selects "WideMap" ({ cls := "WideMap", name := "builder", desc := "(II)I" } : Jvm.MethodName) ({ cls := "WideMap", name := "builder", desc := "(II)I" } : Jvm.MethodName)) ∈ lw_all := lw_g (lw_at lw_m6 109 rfl) rfl
theorem q1440 : (Jvm.Cond.code ({ cls := "WideMap", name := "builder", desc := "(II)I" } : Jvm.MethodName) prog_1_method_86_code (3 : Nat) (Option.some Jvm.ClassFile.FieldType.int)) ∈ lw_all := lw_g (lw_at lw_m6 110 rfl) rfl
theorem q1442 : (Jvm.Cond.instanceMethod ({ cls := "WideMap", name := "draws", desc := "(IIJ)I" } : Jvm.MethodName)) ∈ lw_all := lw_g (lw_at lw_m6 112 rfl) rfl
theorem q1443 : (Jvm.Cond.selects "WideMap" ({ cls := "WideMap", name := "draws", desc := "(IIJ)I" } : Jvm.MethodName) ({ cls := "WideMap", name := "draws", desc := "(IIJ)I" } : Jvm.MethodName)) ∈ lw_all := lw_g (lw_at lw_m6 113 rfl) rfl
theorem q1444 : (Jvm.Cond.code ({ cls := "WideMap", name := "draws", desc := "(IIJ)I" } : Jvm.MethodName) prog_1_method_89_code (7 : Nat) (Option.some Jvm.ClassFile.FieldType.int)) ∈ lw_all := lw_g (lw_at lw_m6 114 rfl) rfl
theorem q1445 : (Jvm.Cond.methodLink "WideMap" (455 : Nat) ({ cls := "WideMap", name := "drawOne", desc := "()V" } : Jvm.MethodName)) ∈ lw_all := lw_g (lw_at lw_m6 115 rfl) rfl
theorem q1446 : (Jvm.Cond.privateMethod ({ cls := "WideMap", name := "drawOne", desc := "()V" } : Jvm.MethodName)) ∈ lw_tbl := lw_at lw_m6 116 rfl
theorem q1447 : (Jvm.Cond.instanceMethod ({ cls := "WideMap", name := "drawOne", desc := "()V" } : Jvm.MethodName)) ∈ lw_all := lw_g (lw_at lw_m6 117 rfl) rfl
theorem q1448 : (Jvm.Cond.code ({ cls := "WideMap", name := "drawOne", desc := "()V" } : Jvm.MethodName) prog_1_method_88_code (4 : Nat) (Option.none : Option Jvm.ClassFile.FieldType)) ∈ lw_all := lw_g (lw_at lw_m6 118 rfl) rfl
theorem q1449 : (Jvm.Cond.methodLink "WideMap" (452 : Nat) ({ cls := "WideMap", name := "draw", desc := "(I)I" } : Jvm.MethodName)) ∈ lw_all := lw_g (lw_at lw_m6 119 rfl) rfl
theorem q1450 : (Jvm.Cond.privateMethod ({ cls := "WideMap", name := "draw", desc := "(I)I" } : Jvm.MethodName)) ∈ lw_tbl := lw_at lw_m6 120 rfl
theorem q1451 : (Jvm.Cond.instanceMethod ({ cls := "WideMap", name := "draw", desc := "(I)I" } : Jvm.MethodName)) ∈ lw_all := lw_g (lw_at lw_m6 121 rfl) rfl
theorem q1452 : (Jvm.Cond.code ({ cls := "WideMap", name := "draw", desc := "(I)I" } : Jvm.MethodName) prog_1_method_87_code (2 : Nat) (Option.some Jvm.ClassFile.FieldType.int)) ∈ lw_all := lw_g (lw_at lw_m6 122 rfl) rfl
theorem q1453 : (Jvm.Cond.constantLong "WideMap" (448 : Nat) (6364136223846793005 : Int64)) ∈ lw_all := lw_g (lw_at lw_m6 123 rfl) rfl
theorem q1454 : (Jvm.Cond.constantLong "WideMap" (450 : Nat) (1442695040888963407 : Int64)) ∈ lw_all := lw_g (lw_at lw_m6 124 rfl) rfl
theorem q1456 : (Jvm.Cond.instanceMethod ({ cls := "WideMap", name := "step", desc := "(III)I" } : Jvm.MethodName)) ∈ lw_all := lw_g (lw_at lw_m6 126 rfl) rfl
theorem q1457 : (Jvm.Cond.selects "WideMap" ({ cls := "WideMap", name := "step", desc := "(III)I" } : Jvm.MethodName) ({ cls := "WideMap", name := "step", desc := "(III)I" } : Jvm.MethodName)) ∈ lw_all := lw_g (lw_at lw_m6 127 rfl) rfl
theorem q1458 : (Jvm.Cond.code ({ cls := "WideMap", name := "step", desc := "(III)I" } : Jvm.MethodName) prog_1_method_90_code (4 : Nat) (Option.some Jvm.ClassFile.FieldType.int)) ∈ lw_all := lw_g (lw_at lw_m6 128 rfl) rfl
theorem q1460 : (Jvm.Cond.instanceMethod ({ cls := "WideMap", name := "run", desc := "(II)I" } : Jvm.MethodName)) ∈ lw_all := lw_g (lw_at lw_m6 130 rfl) rfl
theorem q1461 : (Jvm.Cond.selects "WideMap" ({ cls := "WideMap", name := "run", desc := "(II)I" } : Jvm.MethodName) ({ cls := "WideMap", name := "run", desc := "(II)I" } : Jvm.MethodName)) ∈ lw_all := lw_g (lw_at lw_m6 131 rfl) rfl
theorem q1462 : (Jvm.Cond.code ({ cls := "WideMap", name := "run", desc := "(II)I" } : Jvm.MethodName) prog_1_method_92_code (4 : Nat) (Option.some Jvm.ClassFile.FieldType.int)) ∈ lw_all := lw_g (lw_at lw_m6 132 rfl) rfl
theorem q1463 : (Jvm.Cond.methodLink "WideMap" (458 : Nat) ({ cls := "WideMap", name := "doStep", desc := "(II)Z" } : Jvm.MethodName)) ∈ lw_all := lw_g (lw_at lw_m6 133 rfl) rfl
theorem q1464 : (Jvm.Cond.privateMethod ({ cls := "WideMap", name := "doStep", desc := "(II)Z" } : Jvm.MethodName)) ∈ lw_tbl := lw_at lw_m6 134 rfl
theorem q1465 : (Jvm.Cond.instanceMethod ({ cls := "WideMap", name := "doStep", desc := "(II)Z" } : Jvm.MethodName)) ∈ lw_all := lw_g (lw_at lw_m6 135 rfl) rfl
theorem q1466 : (Jvm.Cond.code ({ cls := "WideMap", name := "doStep", desc := "(II)Z" } : Jvm.MethodName) prog_1_method_91_code (7 : Nat) (Option.some Jvm.ClassFile.FieldType.boolean)) ∈ lw_all := lw_g (lw_at lw_m6 136 rfl) rfl
theorem q1468 : (Jvm.Cond.instanceMethod ({ cls := "WideMap", name := "shared", desc := "(II)I" } : Jvm.MethodName)) ∈ lw_all := lw_g (lw_at lw_m6 138 rfl) rfl
theorem q1469 : (Jvm.Cond.selects "WideMap" ({ cls := "WideMap", name := "shared", desc := "(II)I" } : Jvm.MethodName) ({ cls := "WideMap", name := "shared", desc := "(II)I" } : Jvm.MethodName)) ∈ lw_all := lw_g (lw_at lw_m6 139 rfl) rfl
theorem q1470 : (Jvm.Cond.code ({ cls := "WideMap", name := "shared", desc := "(II)I" } : Jvm.MethodName) prog_1_method_95_code (3 : Nat) (Option.some Jvm.ClassFile.FieldType.int)) ∈ lw_all := lw_g (lw_at lw_m6 140 rfl) rfl
theorem q1471 : (Jvm.Cond.methodLink "WideMap" (462 : Nat) ({ cls := "WideMap", name := "areMaps", desc := "(II)Z" } : Jvm.MethodName)) ∈ lw_all := lw_g (lw_at lw_m6 141 rfl) rfl
theorem q1472 : (Jvm.Cond.privateMethod ({ cls := "WideMap", name := "areMaps", desc := "(II)Z" } : Jvm.MethodName)) ∈ lw_tbl := lw_at lw_m6 142 rfl
theorem q1473 : (Jvm.Cond.instanceMethod ({ cls := "WideMap", name := "areMaps", desc := "(II)Z" } : Jvm.MethodName)) ∈ lw_all := lw_g (lw_at lw_m6 143 rfl) rfl
theorem q1474 : (Jvm.Cond.code ({ cls := "WideMap", name := "areMaps", desc := "(II)Z" } : Jvm.MethodName) prog_1_method_93_code (3 : Nat) (Option.some Jvm.ClassFile.FieldType.boolean)) ∈ lw_all := lw_g (lw_at lw_m6 144 rfl) rfl
theorem q1475 : (Jvm.Cond.methodLink "WideMap" (465 : Nat) ({ cls := "WideMap", name := "sharedOf", desc := "(LWideMap$Node;LWideMap$Node;)I" } : Jvm.MethodName)) ∈ lw_all := lw_g (lw_at lw_m6 145 rfl) rfl
theorem q1476 : (Jvm.Cond.privateMethod ({ cls := "WideMap", name := "sharedOf", desc := "(LWideMap$Node;LWideMap$Node;)I" } : Jvm.MethodName)) ∈ lw_tbl := lw_at lw_m6 146 rfl
theorem q1477 : (Jvm.Cond.instanceMethod ({ cls := "WideMap", name := "sharedOf", desc := "(LWideMap$Node;LWideMap$Node;)I" } : Jvm.MethodName)) ∈ lw_all := lw_g (lw_at lw_m6 147 rfl) rfl
theorem q1478 : (Jvm.Cond.code ({ cls := "WideMap", name := "sharedOf", desc := "(LWideMap$Node;LWideMap$Node;)I" } : Jvm.MethodName) prog_1_method_94_code (3 : Nat) (Option.some Jvm.ClassFile.FieldType.int)) ∈ lw_all := lw_g (lw_at lw_m6 148 rfl) rfl
theorem q1480 : (Jvm.Cond.instanceMethod ({ cls := "WideMap", name := "looked", desc := "(II)I" } : Jvm.MethodName)) ∈ lw_all := lw_g (lw_at lw_m6 150 rfl) rfl
theorem q1481 : (Jvm.Cond.selects "WideMap" ({ cls := "WideMap", name := "looked", desc := "(II)I" } : Jvm.MethodName) ({ cls := "WideMap", name := "looked", desc := "(II)I" } : Jvm.MethodName)) ∈ lw_all := lw_g (lw_at lw_m6 151 rfl) rfl
theorem q1482 : (Jvm.Cond.code ({ cls := "WideMap", name := "looked", desc := "(II)I" } : Jvm.MethodName) prog_1_method_96_code (3 : Nat) (Option.some Jvm.ClassFile.FieldType.int)) ∈ lw_all := lw_g (lw_at lw_m6 152 rfl) rfl
theorem q1484 : (Jvm.Cond.instanceMethod ({ cls := "WideMap", name := "difference", desc := "(IIII)I" } : Jvm.MethodName)) ∈ lw_all := lw_g (lw_at lw_m6 154 rfl) rfl
theorem q1485 : (Jvm.Cond.selects "WideMap" ({ cls := "WideMap", name := "difference", desc := "(IIII)I" } : Jvm.MethodName) ({ cls := "WideMap", name := "difference", desc := "(IIII)I" } : Jvm.MethodName)) ∈ lw_all := lw_g (lw_at lw_m6 155 rfl) rfl
theorem q1486 : (Jvm.Cond.code ({ cls := "WideMap", name := "difference", desc := "(IIII)I" } : Jvm.MethodName) prog_1_method_97_code (11 : Nat) (Option.some Jvm.ClassFile.FieldType.int)) ∈ lw_all := lw_g (lw_at lw_m6 156 rfl) rfl
theorem q1488 : (Jvm.Cond.instanceMethod ({ cls := "WideMap", name := "alike", desc := "(III)I" } : Jvm.MethodName)) ∈ lw_all := lw_g (lw_at lw_m6 158 rfl) rfl
theorem q1489 : (Jvm.Cond.selects "WideMap" ({ cls := "WideMap", name := "alike", desc := "(III)I" } : Jvm.MethodName) ({ cls := "WideMap", name := "alike", desc := "(III)I" } : Jvm.MethodName)) ∈ lw_all := lw_g (lw_at lw_m6 159 rfl) rfl
theorem q1490 : (Jvm.Cond.code ({ cls := "WideMap", name := "alike", desc := "(III)I" } : Jvm.MethodName) prog_1_method_99_code (5 : Nat) (Option.some Jvm.ClassFile.FieldType.int)) ∈ lw_all := lw_g (lw_at lw_m6 160 rfl) rfl
theorem q1491 : (Jvm.Cond.methodLink "WideMap" (472 : Nat) ({ cls := "WideMap", name := "difference", desc := "(IIII)I" } : Jvm.MethodName)) ∈ lw_all := lw_g (lw_at lw_m6 161 rfl) rfl
theorem q1492 : (Jvm.Cond.methodLink "WideMap" (475 : Nat) ({ cls := "WideMap", name := "shownOf", desc := "(LWideMap$Node;)Ljava/lang/String;" } : Jvm.MethodName)) ∈ lw_all := lw_g (lw_at lw_m6 162 rfl) rfl
theorem q1493 : (Jvm.Cond.static ({ cls := "WideMap", name := "shownOf", desc := "(LWideMap$Node;)Ljava/lang/String;" } : Jvm.MethodName)) ∈ lw_all := lw_g (lw_at lw_m6 163 rfl) rfl
theorem q1494 : (Jvm.Cond.code ({ cls := "WideMap", name := "shownOf", desc := "(LWideMap$Node;)Ljava/lang/String;" } : Jvm.MethodName) prog_1_method_98_code (2 : Nat) (Option.some (Jvm.ClassFile.FieldType.object "java/lang/String"))) ∈ lw_all := lw_g (lw_at lw_m6 164 rfl) rfl
theorem q1495 : (Jvm.Cond.interfaceEntry "WideMap" (468 : Nat)) ∈ lw_tbl := lw_at lw_m6 165 rfl
theorem q1496 : (Jvm.Cond.methodLink "WideMap" (468 : Nat) ({ cls := "WideMap$Node", name := "shows", desc := "(Ljava/lang/StringBuilder;)V" } : Jvm.MethodName)) ∈ lw_all := lw_g (lw_at lw_m6 166 rfl) rfl
theorem q1580 : (Jvm.Cond.instanceMethod ({ cls := "WideMap", name := "fork", desc := "(II)I" } : Jvm.MethodName)) ∈ lw_all := lw_g (lw_at lw_m7 10 rfl) rfl
theorem q1581 : (Jvm.Cond.selects "WideMap" ({ cls := "WideMap", name := "fork", desc := "(II)I" } : Jvm.MethodName) ({ cls := "WideMap", name := "fork", desc := "(II)I" } : Jvm.MethodName)) ∈ lw_all := lw_g (lw_at lw_m7 11 rfl) rfl
theorem q1582 : (Jvm.Cond.code ({ cls := "WideMap", name := "fork", desc := "(II)I" } : Jvm.MethodName) prog_1_method_101_code (4 : Nat) (Option.some Jvm.ClassFile.FieldType.int)) ∈ lw_all := lw_g (lw_at lw_m7 12 rfl) rfl
theorem q1583 : (Jvm.Cond.methodLink "WideMap" (479 : Nat) ({ cls := "WideMap", name := "layLine", desc := "(I[Z)V" } : Jvm.MethodName)) ∈ lw_all := lw_g (lw_at lw_m7 13 rfl) rfl
theorem q1584 : (Jvm.Cond.privateMethod ({ cls := "WideMap", name := "layLine", desc := "(I[Z)V" } : Jvm.MethodName)) ∈ lw_tbl := lw_at lw_m7 14 rfl
theorem q1585 : (Jvm.Cond.instanceMethod ({ cls := "WideMap", name := "layLine", desc := "(I[Z)V" } : Jvm.MethodName)) ∈ lw_all := lw_g (lw_at lw_m7 15 rfl) rfl
theorem q1586 : (Jvm.Cond.code ({ cls := "WideMap", name := "layLine", desc := "(I[Z)V" } : Jvm.MethodName) prog_1_method_100_code (4 : Nat) (Option.none : Option Jvm.ClassFile.FieldType)) ∈ lw_all := lw_g (lw_at lw_m7 16 rfl) rfl
theorem q1588 : (Jvm.Cond.instanceMethod ({ cls := "WideMap", name := "comesFrom", desc := "(II)I" } : Jvm.MethodName)) ∈ lw_all := lw_g (lw_at lw_m7 18 rfl) rfl
theorem q1589 : (Jvm.Cond.selects "WideMap" ({ cls := "WideMap", name := "comesFrom", desc := "(II)I" } : Jvm.MethodName) ({ cls := "WideMap", name := "comesFrom", desc := "(II)I" } : Jvm.MethodName)) ∈ lw_all := lw_g (lw_at lw_m7 19 rfl) rfl
theorem q1590 : (Jvm.Cond.code ({ cls := "WideMap", name := "comesFrom", desc := "(II)I" } : Jvm.MethodName) prog_1_method_102_code (3 : Nat) (Option.some Jvm.ClassFile.FieldType.int)) ∈ lw_all := lw_g (lw_at lw_m7 20 rfl) rfl
theorem q1592 : (Jvm.Cond.instanceMethod ({ cls := "WideMap", name := "show", desc := "(I)I" } : Jvm.MethodName)) ∈ lw_all := lw_g (lw_at lw_m7 22 rfl) rfl
theorem q1593 : (Jvm.Cond.selects "WideMap" ({ cls := "WideMap", name := "show", desc := "(I)I" } : Jvm.MethodName) ({ cls := "WideMap", name := "show", desc := "(I)I" } : Jvm.MethodName)) ∈ lw_all := lw_g (lw_at lw_m7 23 rfl) rfl
theorem q1594 : (Jvm.Cond.code ({ cls := "WideMap", name := "show", desc := "(I)I" } : Jvm.MethodName) prog_1_method_103_code (2 : Nat) (Option.some Jvm.ClassFile.FieldType.int)) ∈ lw_all := lw_g (lw_at lw_m7 24 rfl) rfl
theorem q1595 : (Jvm.Cond.interfaceEntry "WideMap" (483 : Nat)) ∈ lw_tbl := lw_at lw_m7 25 rfl
theorem q1596 : (Jvm.Cond.methodLink "WideMap" (483 : Nat) ({ cls := "java/lang/CharSequence", name := "length", desc := "()I" } : Jvm.MethodName)) ∈ lw_all := lw_g (lw_at lw_m7 26 rfl) rfl
theorem q1608 : (Jvm.Cond.instanceMethod ({ cls := "WideMap", name := "shown", desc := "(I)I" } : Jvm.MethodName)) ∈ lw_all := lw_g (lw_at lw_m7 38 rfl) rfl
theorem q1609 : (Jvm.Cond.selects "WideMap" ({ cls := "WideMap", name := "shown", desc := "(I)I" } : Jvm.MethodName) ({ cls := "WideMap", name := "shown", desc := "(I)I" } : Jvm.MethodName)) ∈ lw_all := lw_g (lw_at lw_m7 39 rfl) rfl
theorem q1610 : (Jvm.Cond.code ({ cls := "WideMap", name := "shown", desc := "(I)I" } : Jvm.MethodName) prog_1_method_104_code (2 : Nat) (Option.some Jvm.ClassFile.FieldType.int)) ∈ lw_all := lw_g (lw_at lw_m7 40 rfl) rfl
theorem q1611 : (Jvm.Cond.interfaceEntry "WideMap" (488 : Nat)) ∈ lw_tbl := lw_at lw_m7 41 rfl
theorem q1612 : (Jvm.Cond.methodLink "WideMap" (488 : Nat) ({ cls := "java/lang/CharSequence", name := "charAt", desc := "(I)C" } : Jvm.MethodName)) ∈ lw_all := lw_g (lw_at lw_m7 42 rfl) rfl
theorem q1639 : (Jvm.Cond.instanceMethod ({ cls := "WideMap", name := "digest", desc := "(I)I" } : Jvm.MethodName)) ∈ lw_all := lw_g (lw_at lw_m7 69 rfl) rfl
theorem q1640 : (Jvm.Cond.selects "WideMap" ({ cls := "WideMap", name := "digest", desc := "(I)I" } : Jvm.MethodName) ({ cls := "WideMap", name := "digest", desc := "(I)I" } : Jvm.MethodName)) ∈ lw_all := lw_g (lw_at lw_m7 70 rfl) rfl
theorem q1641 : (Jvm.Cond.code ({ cls := "WideMap", name := "digest", desc := "(I)I" } : Jvm.MethodName) prog_1_method_106_code (2 : Nat) (Option.some Jvm.ClassFile.FieldType.int)) ∈ lw_all := lw_g (lw_at lw_m7 71 rfl) rfl
theorem q1642 : (Jvm.Cond.methodLink "WideMap" (493 : Nat) ({ cls := "WideMap", name := "digestOf", desc := "(Ljava/lang/CharSequence;)I" } : Jvm.MethodName)) ∈ lw_all := lw_g (lw_at lw_m7 72 rfl) rfl
theorem q1643 : (Jvm.Cond.static ({ cls := "WideMap", name := "digestOf", desc := "(Ljava/lang/CharSequence;)I" } : Jvm.MethodName)) ∈ lw_all := lw_g (lw_at lw_m7 73 rfl) rfl
theorem q1644 : (Jvm.Cond.code ({ cls := "WideMap", name := "digestOf", desc := "(Ljava/lang/CharSequence;)I" } : Jvm.MethodName) prog_1_method_105_code (3 : Nat) (Option.some Jvm.ClassFile.FieldType.int)) ∈ lw_all := lw_g (lw_at lw_m7 74 rfl) rfl
theorem q1645 : (Jvm.Cond.constant "WideMap" (492 : Nat) (1000003 : Int32)) ∈ lw_all := lw_g (lw_at lw_m7 75 rfl) rfl
theorem q1647 : (Jvm.Cond.instanceMethod ({ cls := "WideMap", name := "status", desc := "(I)I" } : Jvm.MethodName)) ∈ lw_all := lw_g (lw_at lw_m7 77 rfl) rfl
theorem q1648 : (Jvm.Cond.selects "WideMap" ({ cls := "WideMap", name := "status", desc := "(I)I" } : Jvm.MethodName) ({ cls := "WideMap", name := "status", desc := "(I)I" } : Jvm.MethodName)) ∈ lw_all := lw_g (lw_at lw_m7 78 rfl) rfl
theorem q1649 : (Jvm.Cond.code ({ cls := "WideMap", name := "status", desc := "(I)I" } : Jvm.MethodName) prog_1_method_107_code (2 : Nat) (Option.some Jvm.ClassFile.FieldType.int)) ∈ lw_all := lw_g (lw_at lw_m7 79 rfl) rfl
theorem q1651 : (Jvm.Cond.instanceMethod ({ cls := "WideMap", name := "image", desc := "()I" } : Jvm.MethodName)) ∈ lw_all := lw_g (lw_at lw_m7 81 rfl) rfl
theorem q1652 : (Jvm.Cond.selects "WideMap" ({ cls := "WideMap", name := "image", desc := "()I" } : Jvm.MethodName) ({ cls := "WideMap", name := "image", desc := "()I" } : Jvm.MethodName)) ∈ lw_all := lw_g (lw_at lw_m7 82 rfl) rfl
theorem q1653 : (Jvm.Cond.code ({ cls := "WideMap", name := "image", desc := "()I" } : Jvm.MethodName) prog_1_method_108_code (2 : Nat) (Option.some Jvm.ClassFile.FieldType.int)) ∈ lw_all := lw_g (lw_at lw_m7 83 rfl) rfl
theorem q1655 : (Jvm.Cond.instanceMethod ({ cls := "WideMap", name := "back", desc := "()I" } : Jvm.MethodName)) ∈ lw_all := lw_g (lw_at lw_m7 85 rfl) rfl
theorem q1656 : (Jvm.Cond.selects "WideMap" ({ cls := "WideMap", name := "back", desc := "()I" } : Jvm.MethodName) ({ cls := "WideMap", name := "back", desc := "()I" } : Jvm.MethodName)) ∈ lw_all := lw_g (lw_at lw_m7 86 rfl) rfl
theorem q1657 : (Jvm.Cond.code ({ cls := "WideMap", name := "back", desc := "()I" } : Jvm.MethodName) prog_1_method_109_code (2 : Nat) (Option.some Jvm.ClassFile.FieldType.int)) ∈ lw_all := lw_g (lw_at lw_m7 87 rfl) rfl
theorem q1659 : (Jvm.Cond.instanceMethod ({ cls := "WideMap", name := "count", desc := "(I)I" } : Jvm.MethodName)) ∈ lw_all := lw_g (lw_at lw_m7 89 rfl) rfl
theorem q1660 : (Jvm.Cond.selects "WideMap" ({ cls := "WideMap", name := "count", desc := "(I)I" } : Jvm.MethodName) ({ cls := "WideMap", name := "count", desc := "(I)I" } : Jvm.MethodName)) ∈ lw_all := lw_g (lw_at lw_m7 90 rfl) rfl
theorem q1661 : (Jvm.Cond.code ({ cls := "WideMap", name := "count", desc := "(I)I" } : Jvm.MethodName) prog_1_method_112_code (2 : Nat) (Option.some Jvm.ClassFile.FieldType.int)) ∈ lw_all := lw_g (lw_at lw_m7 91 rfl) rfl
theorem q1662 : (Jvm.Cond.methodLink "WideMap" (497 : Nat) ({ cls := "WideMap", name := "live", desc := "()I" } : Jvm.MethodName)) ∈ lw_all := lw_g (lw_at lw_m7 92 rfl) rfl
theorem q1663 : (Jvm.Cond.privateMethod ({ cls := "WideMap", name := "live", desc := "()I" } : Jvm.MethodName)) ∈ lw_tbl := lw_at lw_m7 93 rfl
theorem q1664 : (Jvm.Cond.instanceMethod ({ cls := "WideMap", name := "live", desc := "()I" } : Jvm.MethodName)) ∈ lw_all := lw_g (lw_at lw_m7 94 rfl) rfl
theorem q1665 : (Jvm.Cond.code ({ cls := "WideMap", name := "live", desc := "()I" } : Jvm.MethodName) prog_1_method_110_code (3 : Nat) (Option.some Jvm.ClassFile.FieldType.int)) ∈ lw_all := lw_g (lw_at lw_m7 95 rfl) rfl
theorem q1666 : (Jvm.Cond.methodLink "WideMap" (500 : Nat) ({ cls := "WideMap", name := "fresh", desc := "()I" } : Jvm.MethodName)) ∈ lw_all := lw_g (lw_at lw_m7 96 rfl) rfl
theorem q1667 : (Jvm.Cond.privateMethod ({ cls := "WideMap", name := "fresh", desc := "()I" } : Jvm.MethodName)) ∈ lw_tbl := lw_at lw_m7 97 rfl
theorem q1668 : (Jvm.Cond.instanceMethod ({ cls := "WideMap", name := "fresh", desc := "()I" } : Jvm.MethodName)) ∈ lw_all := lw_g (lw_at lw_m7 98 rfl) rfl
theorem q1669 : (Jvm.Cond.code ({ cls := "WideMap", name := "fresh", desc := "()I" } : Jvm.MethodName) prog_1_method_111_code (3 : Nat) (Option.some Jvm.ClassFile.FieldType.int)) ∈ lw_all := lw_g (lw_at lw_m7 99 rfl) rfl
theorem q1675 : (Jvm.Cond.instanceMethod ({ cls := "WideMap", name := "key", desc := "(II)I" } : Jvm.MethodName)) ∈ lw_all := lw_g (lw_at lw_m7 105 rfl) rfl
theorem q1676 : (Jvm.Cond.selects "WideMap" ({ cls := "WideMap", name := "key", desc := "(II)I" } : Jvm.MethodName) ({ cls := "WideMap", name := "key", desc := "(II)I" } : Jvm.MethodName)) ∈ lw_all := lw_g (lw_at lw_m7 106 rfl) rfl
theorem q1677 : (Jvm.Cond.code ({ cls := "WideMap", name := "key", desc := "(II)I" } : Jvm.MethodName) prog_1_method_48_code (3 : Nat) (Option.some Jvm.ClassFile.FieldType.int)) ∈ lw_all := lw_g (lw_at lw_m7 107 rfl) rfl
theorem q1678 : (Jvm.Cond.classLink "WideMap" (339 : Nat) "java/util/NoSuchElementException") ∈ lw_all := lw_g (lw_at lw_m7 108 rfl) rfl
theorem q1689 : (Jvm.Cond.methodLink "WideMap" (341 : Nat) ({ cls := "java/util/NoSuchElementException", name := "<init>", desc := "()V" } : Jvm.MethodName)) ∈ lw_all := lw_g (lw_at lw_m7 119 rfl) rfl
theorem q2389 : (Jvm.Cond.castable "WideMap" "java/lang/Object") ∈ lw_tbl := lw_at lw_m10 99 rfl
theorem in_X1 : ∀ w ∈ wsX10, w ∈ lw_all := lw_in wsX10 [284, 286, 288, 290, 292, 294, 296, 298, 300, 302, 304, 306, 308, 310, 312, 314, 316, 318, 320, 322, 324, 326, 328, 330, 332, 334, 336, 338, 340, 342, 344, 346, 348, 350, 352, 354, 356, 358] (by decide +kernel) (by decide +kernel)
