/-! WideMapLaw -/
set_option maxRecDepth 100000
def RX0 : String := "WideMapLaw"
abbrev cX0_key : ByteArray := method_3_code
def yX0_key : MethodName := ⟨RX0, "key", "(LWideMap;II[J)I"⟩
def dkwX0_key_0 : List UInt8 := [45, 3, 42, 27, 28, 182, 0, 7, 133, 80, 167, 0, 7, 58, 4, 4, 172, 3, 172]
abbrev dktX0_key_0 : List UInt8 := dkwX0_key_0 ++ []
theorem dksX0_key_0 : cX0_key.data.toList.drop 0 = dktX0_key_0 := by decide +kernel
theorem dX0_key_0 : decode cX0_key 0 = .ok (.aload_n 3, 1) := dk_45 (dk_at dksX0_key_0 0 rfl rfl)
theorem dX0_key_1 : decode cX0_key 1 = .ok (.iconst 0, 1) := dk_3 (dk_at dksX0_key_0 1 rfl rfl)
theorem dX0_key_2 : decode cX0_key 2 = .ok (.aload_n 0, 1) := dk_42 (dk_at dksX0_key_0 2 rfl rfl)
theorem dX0_key_3 : decode cX0_key 3 = .ok (.iload_n 1, 1) := dk_27 (dk_at dksX0_key_0 3 rfl rfl)
theorem dX0_key_4 : decode cX0_key 4 = .ok (.iload_n 2, 1) := dk_28 (dk_at dksX0_key_0 4 rfl rfl)
theorem dX0_key_5 : decode cX0_key 5 = .ok (.invokevirtual 7, 3) := dk_182 0 7 (dk_at dksX0_key_0 5 rfl rfl)
theorem dX0_key_8 : decode cX0_key 8 = .ok (.i2l, 1) := dk_133 (dk_at dksX0_key_0 8 rfl rfl)
theorem dX0_key_9 : decode cX0_key 9 = .ok (.lastore, 1) := dk_80 (dk_at dksX0_key_0 9 rfl rfl)
theorem dX0_key_10 : decode cX0_key 10 = .ok (.goto 7, 3) := dk_167 0 7 (dk_at dksX0_key_0 10 rfl rfl)
theorem dX0_key_13 : decode cX0_key 13 = .ok (.astore 4, 2) := dk_58 4 (dk_at dksX0_key_0 13 rfl rfl)
theorem dX0_key_15 : decode cX0_key 15 = .ok (.iconst 1, 1) := dk_4 (dk_at dksX0_key_0 15 rfl rfl)
theorem dX0_key_16 : decode cX0_key 16 = .ok (.ireturn, 1) := dk_172 (dk_at dksX0_key_0 16 rfl rfl)
theorem dX0_key_17 : decode cX0_key 17 = .ok (.iconst 0, 1) := dk_3 (dk_at dksX0_key_0 17 rfl rfl)
theorem dX0_key_18 : decode cX0_key 18 = .ok (.ireturn, 1) := dk_172 (dk_at dksX0_key_0 18 rfl rfl)
theorem q130 : (Jvm.Cond.initialized "WideMapLaw") ∈ lw_all := lw_g (lw_at lw_m1 0 rfl) rfl
theorem q158 : (Jvm.Cond.classLink "WideMapLaw" (8 : Nat) "WideMap") ∈ lw_all := lw_g (lw_at lw_m1 28 rfl) rfl
theorem q160 : (Jvm.Cond.methodLink "WideMapLaw" (15 : Nat) ({ cls := "WideMap", name := "<init>", desc := "()V" } : Jvm.MethodName)) ∈ lw_all := lw_g (lw_at lw_m1 30 rfl) rfl
theorem q363 : (Jvm.Cond.methodLink "WideMapLaw" (19 : Nat) ({ cls := "WideMap", name := "feed", desc := "(IIIII)I" } : Jvm.MethodName)) ∈ lw_all := lw_g (lw_at lw_m1 233 rfl) rfl
theorem q370 : (Jvm.Cond.methodLink "WideMapLaw" (24 : Nat) ({ cls := "WideMap", name := "end", desc := "(I)Z" } : Jvm.MethodName)) ∈ lw_all := lw_g (lw_at lw_m2 0 rfl) rfl
theorem q377 : (Jvm.Cond.methodLink "WideMapLaw" (29 : Nat) ({ cls := "WideMap", name := "fault", desc := "(I)I" } : Jvm.MethodName)) ∈ lw_all := lw_g (lw_at lw_m2 7 rfl) rfl
theorem q800 : (Jvm.Cond.methodLink "WideMapLaw" (34 : Nat) ({ cls := "WideMap", name := "text", desc := "(I)I" } : Jvm.MethodName)) ∈ lw_all := lw_g (lw_at lw_m3 190 rfl) rfl
theorem q1080 : (Jvm.Cond.methodLink "WideMapLaw" (38 : Nat) ({ cls := "WideMap", name := "wide", desc := "(I)I" } : Jvm.MethodName)) ∈ lw_all := lw_g (lw_at lw_m4 230 rfl) rfl
theorem q1084 : (Jvm.Cond.methodLink "WideMapLaw" (42 : Nat) ({ cls := "WideMap", name := "find", desc := "(II)I" } : Jvm.MethodName)) ∈ lw_all := lw_g (lw_at lw_m4 234 rfl) rfl
theorem q1100 : (Jvm.Cond.methodLink "WideMapLaw" (56 : Nat) ({ cls := "WideMap", name := "about", desc := "(II)I" } : Jvm.MethodName)) ∈ lw_all := lw_g (lw_at lw_m5 10 rfl) rfl
theorem q1165 : (Jvm.Cond.methodLink "WideMapLaw" (60 : Nat) ({ cls := "WideMap", name := "below", desc := "(II)I" } : Jvm.MethodName)) ∈ lw_all := lw_g (lw_at lw_m5 75 rfl) rfl
theorem q1169 : (Jvm.Cond.methodLink "WideMapLaw" (64 : Nat) ({ cls := "WideMap", name := "near", desc := "(III)I" } : Jvm.MethodName)) ∈ lw_all := lw_g (lw_at lw_m5 79 rfl) rfl
theorem q1173 : (Jvm.Cond.methodLink "WideMapLaw" (69 : Nat) ({ cls := "WideMap", name := "total", desc := "(III)I" } : Jvm.MethodName)) ∈ lw_all := lw_g (lw_at lw_m5 83 rfl) rfl
theorem q1177 : (Jvm.Cond.methodLink "WideMapLaw" (73 : Nat) ({ cls := "WideMap", name := "node", desc := "(III)I" } : Jvm.MethodName)) ∈ lw_all := lw_g (lw_at lw_m5 87 rfl) rfl
theorem q1202 : (Jvm.Cond.methodLink "WideMapLaw" (77 : Nat) ({ cls := "WideMap", name := "having", desc := "(III)I" } : Jvm.MethodName)) ∈ lw_all := lw_g (lw_at lw_m5 112 rfl) rfl
theorem q1216 : (Jvm.Cond.methodLink "WideMapLaw" (81 : Nat) ({ cls := "WideMap", name := "lacking", desc := "(II)I" } : Jvm.MethodName)) ∈ lw_all := lw_g (lw_at lw_m5 126 rfl) rfl
theorem q1304 : (Jvm.Cond.methodLink "WideMapLaw" (85 : Nat) ({ cls := "WideMap", name := "merge", desc := "(III)I" } : Jvm.MethodName)) ∈ lw_all := lw_g (lw_at lw_m5 214 rfl) rfl
theorem q1326 : (Jvm.Cond.methodLink "WideMapLaw" (89 : Nat) ({ cls := "WideMap", name := "three", desc := "(IIII)I" } : Jvm.MethodName)) ∈ lw_all := lw_g (lw_at lw_m5 236 rfl) rfl
theorem q1348 : (Jvm.Cond.methodLink "WideMapLaw" (94 : Nat) ({ cls := "WideMap", name := "conflicts", desc := "(III)I" } : Jvm.MethodName)) ∈ lw_all := lw_g (lw_at lw_m6 18 rfl) rfl
theorem q1352 : (Jvm.Cond.methodLink "WideMapLaw" (98 : Nat) ({ cls := "WideMap", name := "slice", desc := "(III)I" } : Jvm.MethodName)) ∈ lw_all := lw_g (lw_at lw_m6 22 rfl) rfl
theorem q1360 : (Jvm.Cond.methodLink "WideMapLaw" (102 : Nat) ({ cls := "WideMap", name := "drop", desc := "(I)I" } : Jvm.MethodName)) ∈ lw_all := lw_g (lw_at lw_m6 30 rfl) rfl
theorem q1364 : (Jvm.Cond.methodLink "WideMapLaw" (106 : Nat) ({ cls := "WideMap", name := "build", desc := "(II)I" } : Jvm.MethodName)) ∈ lw_all := lw_g (lw_at lw_m6 34 rfl) rfl
theorem q1372 : (Jvm.Cond.methodLink "WideMapLaw" (110 : Nat) ({ cls := "WideMap", name := "lay", desc := "(III)I" } : Jvm.MethodName)) ∈ lw_all := lw_g (lw_at lw_m6 42 rfl) rfl
theorem q1396 : (Jvm.Cond.methodLink "WideMapLaw" (114 : Nat) ({ cls := "WideMap", name := "take", desc := "(II)I" } : Jvm.MethodName)) ∈ lw_all := lw_g (lw_at lw_m6 66 rfl) rfl
theorem q1400 : (Jvm.Cond.methodLink "WideMapLaw" (118 : Nat) ({ cls := "WideMap", name := "add", desc := "(III)I" } : Jvm.MethodName)) ∈ lw_all := lw_g (lw_at lw_m6 70 rfl) rfl
theorem q1408 : (Jvm.Cond.methodLink "WideMapLaw" (122 : Nat) ({ cls := "WideMap", name := "cut", desc := "(III)I" } : Jvm.MethodName)) ∈ lw_all := lw_g (lw_at lw_m6 78 rfl) rfl
theorem q1412 : (Jvm.Cond.methodLink "WideMapLaw" (126 : Nat) ({ cls := "WideMap", name := "inc", desc := "(IIII)I" } : Jvm.MethodName)) ∈ lw_all := lw_g (lw_at lw_m6 82 rfl) rfl
theorem q1420 : (Jvm.Cond.methodLink "WideMapLaw" (130 : Nat) ({ cls := "WideMap", name := "snap", desc := "(I)I" } : Jvm.MethodName)) ∈ lw_all := lw_g (lw_at lw_m6 90 rfl) rfl
theorem q1428 : (Jvm.Cond.methodLink "WideMapLaw" (134 : Nat) ({ cls := "WideMap", name := "freeze", desc := "(I)I" } : Jvm.MethodName)) ∈ lw_all := lw_g (lw_at lw_m6 98 rfl) rfl
theorem q1433 : (Jvm.Cond.methodLink "WideMapLaw" (138 : Nat) ({ cls := "WideMap", name := "peek", desc := "(II)I" } : Jvm.MethodName)) ∈ lw_all := lw_g (lw_at lw_m6 103 rfl) rfl
theorem q1437 : (Jvm.Cond.methodLink "WideMapLaw" (142 : Nat) ({ cls := "WideMap", name := "builder", desc := "(II)I" } : Jvm.MethodName)) ∈ lw_all := lw_g (lw_at lw_m6 107 rfl) rfl
theorem q1441 : (Jvm.Cond.methodLink "WideMapLaw" (148 : Nat) ({ cls := "WideMap", name := "draws", desc := "(IIJ)I" } : Jvm.MethodName)) ∈ lw_all := lw_g (lw_at lw_m6 111 rfl) rfl
theorem q1455 : (Jvm.Cond.methodLink "WideMapLaw" (153 : Nat) ({ cls := "WideMap", name := "step", desc := "(III)I" } : Jvm.MethodName)) ∈ lw_all := lw_g (lw_at lw_m6 125 rfl) rfl
theorem q1459 : (Jvm.Cond.methodLink "WideMapLaw" (157 : Nat) ({ cls := "WideMap", name := "run", desc := "(II)I" } : Jvm.MethodName)) ∈ lw_all := lw_g (lw_at lw_m6 129 rfl) rfl
theorem q1467 : (Jvm.Cond.methodLink "WideMapLaw" (161 : Nat) ({ cls := "WideMap", name := "shared", desc := "(II)I" } : Jvm.MethodName)) ∈ lw_all := lw_g (lw_at lw_m6 137 rfl) rfl
theorem q1479 : (Jvm.Cond.methodLink "WideMapLaw" (165 : Nat) ({ cls := "WideMap", name := "looked", desc := "(II)I" } : Jvm.MethodName)) ∈ lw_all := lw_g (lw_at lw_m6 149 rfl) rfl
theorem q1483 : (Jvm.Cond.methodLink "WideMapLaw" (169 : Nat) ({ cls := "WideMap", name := "difference", desc := "(IIII)I" } : Jvm.MethodName)) ∈ lw_all := lw_g (lw_at lw_m6 153 rfl) rfl
theorem q1487 : (Jvm.Cond.methodLink "WideMapLaw" (173 : Nat) ({ cls := "WideMap", name := "alike", desc := "(III)I" } : Jvm.MethodName)) ∈ lw_all := lw_g (lw_at lw_m6 157 rfl) rfl
theorem q1579 : (Jvm.Cond.methodLink "WideMapLaw" (177 : Nat) ({ cls := "WideMap", name := "fork", desc := "(II)I" } : Jvm.MethodName)) ∈ lw_all := lw_g (lw_at lw_m7 9 rfl) rfl
theorem q1587 : (Jvm.Cond.methodLink "WideMapLaw" (181 : Nat) ({ cls := "WideMap", name := "comesFrom", desc := "(II)I" } : Jvm.MethodName)) ∈ lw_all := lw_g (lw_at lw_m7 17 rfl) rfl
theorem q1591 : (Jvm.Cond.methodLink "WideMapLaw" (185 : Nat) ({ cls := "WideMap", name := "show", desc := "(I)I" } : Jvm.MethodName)) ∈ lw_all := lw_g (lw_at lw_m7 21 rfl) rfl
theorem q1607 : (Jvm.Cond.methodLink "WideMapLaw" (189 : Nat) ({ cls := "WideMap", name := "shown", desc := "(I)I" } : Jvm.MethodName)) ∈ lw_all := lw_g (lw_at lw_m7 37 rfl) rfl
theorem q1638 : (Jvm.Cond.methodLink "WideMapLaw" (193 : Nat) ({ cls := "WideMap", name := "digest", desc := "(I)I" } : Jvm.MethodName)) ∈ lw_all := lw_g (lw_at lw_m7 68 rfl) rfl
theorem q1646 : (Jvm.Cond.methodLink "WideMapLaw" (197 : Nat) ({ cls := "WideMap", name := "status", desc := "(I)I" } : Jvm.MethodName)) ∈ lw_all := lw_g (lw_at lw_m7 76 rfl) rfl
theorem q1650 : (Jvm.Cond.methodLink "WideMapLaw" (201 : Nat) ({ cls := "WideMap", name := "image", desc := "()I" } : Jvm.MethodName)) ∈ lw_all := lw_g (lw_at lw_m7 80 rfl) rfl
theorem q1654 : (Jvm.Cond.methodLink "WideMapLaw" (205 : Nat) ({ cls := "WideMap", name := "back", desc := "()I" } : Jvm.MethodName)) ∈ lw_all := lw_g (lw_at lw_m7 84 rfl) rfl
theorem q1658 : (Jvm.Cond.methodLink "WideMapLaw" (209 : Nat) ({ cls := "WideMap", name := "count", desc := "(I)I" } : Jvm.MethodName)) ∈ lw_all := lw_g (lw_at lw_m7 88 rfl) rfl
theorem q1670 : (Jvm.Cond.methodLink "WideMapLaw" (46 : Nat) ({ cls := "WideMapLaw", name := "key", desc := "(LWideMap;II[J)I" } : Jvm.MethodName)) ∈ lw_all := lw_g (lw_at lw_m7 100 rfl) rfl
theorem q1671 : (Jvm.Cond.static ({ cls := "WideMapLaw", name := "key", desc := "(LWideMap;II[J)I" } : Jvm.MethodName)) ∈ lw_all := lw_g (lw_at lw_m7 101 rfl) rfl
theorem q1672 : (Jvm.Cond.codeWith ({ cls := "WideMapLaw", name := "key", desc := "(LWideMap;II[J)I" } : Jvm.MethodName) method_3_code (5 : Nat) (Option.some Jvm.ClassFile.FieldType.int) [((0 : Nat), (10 : Nat), (13 : Nat), (13 : Nat))]) ∈ lw_all := lw_g (lw_at lw_m7 102 rfl) rfl
theorem q1673 : (Jvm.Cond.classLink "WideMapLaw" (13 : Nat) "java/util/NoSuchElementException") ∈ lw_all := lw_g (lw_at lw_m7 103 rfl) rfl
theorem q1674 : (Jvm.Cond.methodLink "WideMapLaw" (7 : Nat) ({ cls := "WideMap", name := "key", desc := "(II)I" } : Jvm.MethodName)) ∈ lw_all := lw_g (lw_at lw_m7 104 rfl) rfl
theorem q1698 : (Jvm.Cond.classLink "WideMapLaw" (16 : Nat) "WideMapModel") ∈ lw_all := lw_g (lw_at lw_m7 128 rfl) rfl
theorem q1700 : (Jvm.Cond.methodLink "WideMapLaw" (18 : Nat) ({ cls := "WideMapModel", name := "<init>", desc := "()V" } : Jvm.MethodName)) ∈ lw_all := lw_g (lw_at lw_m7 130 rfl) rfl
theorem q1874 : (Jvm.Cond.methodLink "WideMapLaw" (52 : Nat) ({ cls := "WideMapModel", name := "thrown", desc := "()I" } : Jvm.MethodName)) ∈ lw_all := lw_g (lw_at lw_m8 64 rfl) rfl
theorem q1878 : (Jvm.Cond.methodLink "WideMapLaw" (23 : Nat) ({ cls := "WideMapModel", name := "feed", desc := "(IIIII)I" } : Jvm.MethodName)) ∈ lw_all := lw_g (lw_at lw_m8 68 rfl) rfl
theorem q1889 : (Jvm.Cond.methodLink "WideMapLaw" (28 : Nat) ({ cls := "WideMapModel", name := "end", desc := "(I)Z" } : Jvm.MethodName)) ∈ lw_all := lw_g (lw_at lw_m8 79 rfl) rfl
theorem q1893 : (Jvm.Cond.methodLink "WideMapLaw" (33 : Nat) ({ cls := "WideMapModel", name := "fault", desc := "(I)I" } : Jvm.MethodName)) ∈ lw_all := lw_g (lw_at lw_m8 83 rfl) rfl
theorem q1943 : (Jvm.Cond.methodLink "WideMapLaw" (37 : Nat) ({ cls := "WideMapModel", name := "text", desc := "(I)I" } : Jvm.MethodName)) ∈ lw_all := lw_g (lw_at lw_m8 133 rfl) rfl
theorem q2023 : (Jvm.Cond.methodLink "WideMapLaw" (41 : Nat) ({ cls := "WideMapModel", name := "wide", desc := "(I)I" } : Jvm.MethodName)) ∈ lw_all := lw_g (lw_at lw_m8 213 rfl) rfl
theorem q2029 : (Jvm.Cond.methodLink "WideMapLaw" (45 : Nat) ({ cls := "WideMapModel", name := "find", desc := "(II)I" } : Jvm.MethodName)) ∈ lw_all := lw_g (lw_at lw_m8 219 rfl) rfl
theorem q2037 : (Jvm.Cond.methodLink "WideMapLaw" (51 : Nat) ({ cls := "WideMapModel", name := "key", desc := "(II)I" } : Jvm.MethodName)) ∈ lw_all := lw_g (lw_at lw_m8 227 rfl) rfl
theorem q2049 : (Jvm.Cond.methodLink "WideMapLaw" (59 : Nat) ({ cls := "WideMapModel", name := "about", desc := "(II)I" } : Jvm.MethodName)) ∈ lw_all := lw_g (lw_at lw_m8 239 rfl) rfl
theorem q2066 : (Jvm.Cond.methodLink "WideMapLaw" (63 : Nat) ({ cls := "WideMapModel", name := "below", desc := "(II)I" } : Jvm.MethodName)) ∈ lw_all := lw_g (lw_at lw_m9 16 rfl) rfl
theorem q2070 : (Jvm.Cond.methodLink "WideMapLaw" (68 : Nat) ({ cls := "WideMapModel", name := "near", desc := "(III)I" } : Jvm.MethodName)) ∈ lw_all := lw_g (lw_at lw_m9 20 rfl) rfl
theorem q2074 : (Jvm.Cond.methodLink "WideMapLaw" (72 : Nat) ({ cls := "WideMapModel", name := "total", desc := "(III)I" } : Jvm.MethodName)) ∈ lw_all := lw_g (lw_at lw_m9 24 rfl) rfl
theorem q2078 : (Jvm.Cond.methodLink "WideMapLaw" (76 : Nat) ({ cls := "WideMapModel", name := "node", desc := "(III)I" } : Jvm.MethodName)) ∈ lw_all := lw_g (lw_at lw_m9 28 rfl) rfl
theorem q2091 : (Jvm.Cond.methodLink "WideMapLaw" (80 : Nat) ({ cls := "WideMapModel", name := "having", desc := "(III)I" } : Jvm.MethodName)) ∈ lw_all := lw_g (lw_at lw_m9 41 rfl) rfl
theorem q2097 : (Jvm.Cond.methodLink "WideMapLaw" (84 : Nat) ({ cls := "WideMapModel", name := "lacking", desc := "(II)I" } : Jvm.MethodName)) ∈ lw_all := lw_g (lw_at lw_m9 47 rfl) rfl
theorem q2117 : (Jvm.Cond.methodLink "WideMapLaw" (88 : Nat) ({ cls := "WideMapModel", name := "merge", desc := "(III)I" } : Jvm.MethodName)) ∈ lw_all := lw_g (lw_at lw_m9 67 rfl) rfl
theorem q2140 : (Jvm.Cond.methodLink "WideMapLaw" (93 : Nat) ({ cls := "WideMapModel", name := "three", desc := "(IIII)I" } : Jvm.MethodName)) ∈ lw_all := lw_g (lw_at lw_m9 90 rfl) rfl
theorem q2161 : (Jvm.Cond.methodLink "WideMapLaw" (97 : Nat) ({ cls := "WideMapModel", name := "conflicts", desc := "(III)I" } : Jvm.MethodName)) ∈ lw_all := lw_g (lw_at lw_m9 111 rfl) rfl
theorem q2165 : (Jvm.Cond.methodLink "WideMapLaw" (101 : Nat) ({ cls := "WideMapModel", name := "slice", desc := "(III)I" } : Jvm.MethodName)) ∈ lw_all := lw_g (lw_at lw_m9 115 rfl) rfl
theorem q2173 : (Jvm.Cond.methodLink "WideMapLaw" (105 : Nat) ({ cls := "WideMapModel", name := "drop", desc := "(I)I" } : Jvm.MethodName)) ∈ lw_all := lw_g (lw_at lw_m9 123 rfl) rfl
theorem q2177 : (Jvm.Cond.methodLink "WideMapLaw" (109 : Nat) ({ cls := "WideMapModel", name := "build", desc := "(II)I" } : Jvm.MethodName)) ∈ lw_all := lw_g (lw_at lw_m9 127 rfl) rfl
theorem q2185 : (Jvm.Cond.methodLink "WideMapLaw" (113 : Nat) ({ cls := "WideMapModel", name := "lay", desc := "(III)I" } : Jvm.MethodName)) ∈ lw_all := lw_g (lw_at lw_m9 135 rfl) rfl
theorem q2213 : (Jvm.Cond.methodLink "WideMapLaw" (121 : Nat) ({ cls := "WideMapModel", name := "add", desc := "(III)I" } : Jvm.MethodName)) ∈ lw_all := lw_g (lw_at lw_m9 163 rfl) rfl
theorem q2217 : (Jvm.Cond.methodLink "WideMapLaw" (117 : Nat) ({ cls := "WideMapModel", name := "take", desc := "(II)I" } : Jvm.MethodName)) ∈ lw_all := lw_g (lw_at lw_m9 167 rfl) rfl
theorem q2221 : (Jvm.Cond.methodLink "WideMapLaw" (125 : Nat) ({ cls := "WideMapModel", name := "cut", desc := "(III)I" } : Jvm.MethodName)) ∈ lw_all := lw_g (lw_at lw_m9 171 rfl) rfl
theorem q2225 : (Jvm.Cond.methodLink "WideMapLaw" (129 : Nat) ({ cls := "WideMapModel", name := "inc", desc := "(IIII)I" } : Jvm.MethodName)) ∈ lw_all := lw_g (lw_at lw_m9 175 rfl) rfl
theorem q2233 : (Jvm.Cond.methodLink "WideMapLaw" (133 : Nat) ({ cls := "WideMapModel", name := "snap", desc := "(I)I" } : Jvm.MethodName)) ∈ lw_all := lw_g (lw_at lw_m9 183 rfl) rfl
theorem q2241 : (Jvm.Cond.methodLink "WideMapLaw" (137 : Nat) ({ cls := "WideMapModel", name := "freeze", desc := "(I)I" } : Jvm.MethodName)) ∈ lw_all := lw_g (lw_at lw_m9 191 rfl) rfl
theorem q2246 : (Jvm.Cond.methodLink "WideMapLaw" (141 : Nat) ({ cls := "WideMapModel", name := "peek", desc := "(II)I" } : Jvm.MethodName)) ∈ lw_all := lw_g (lw_at lw_m9 196 rfl) rfl
theorem q2250 : (Jvm.Cond.methodLink "WideMapLaw" (145 : Nat) ({ cls := "WideMapModel", name := "builder", desc := "(II)I" } : Jvm.MethodName)) ∈ lw_all := lw_g (lw_at lw_m9 200 rfl) rfl
theorem q2258 : (Jvm.Cond.methodLink "WideMapLaw" (152 : Nat) ({ cls := "WideMapModel", name := "draws", desc := "(IIJ)I" } : Jvm.MethodName)) ∈ lw_all := lw_g (lw_at lw_m9 208 rfl) rfl
theorem q2269 : (Jvm.Cond.methodLink "WideMapLaw" (156 : Nat) ({ cls := "WideMapModel", name := "step", desc := "(III)I" } : Jvm.MethodName)) ∈ lw_all := lw_g (lw_at lw_m9 219 rfl) rfl
theorem q2273 : (Jvm.Cond.methodLink "WideMapLaw" (160 : Nat) ({ cls := "WideMapModel", name := "run", desc := "(II)I" } : Jvm.MethodName)) ∈ lw_all := lw_g (lw_at lw_m9 223 rfl) rfl
theorem q2281 : (Jvm.Cond.methodLink "WideMapLaw" (164 : Nat) ({ cls := "WideMapModel", name := "shared", desc := "(II)I" } : Jvm.MethodName)) ∈ lw_all := lw_g (lw_at lw_m9 231 rfl) rfl
theorem q2289 : (Jvm.Cond.methodLink "WideMapLaw" (168 : Nat) ({ cls := "WideMapModel", name := "looked", desc := "(II)I" } : Jvm.MethodName)) ∈ lw_all := lw_g (lw_at lw_m9 239 rfl) rfl
theorem q2293 : (Jvm.Cond.methodLink "WideMapLaw" (172 : Nat) ({ cls := "WideMapModel", name := "difference", desc := "(IIII)I" } : Jvm.MethodName)) ∈ lw_all := lw_g (lw_at lw_m10 3 rfl) rfl
theorem q2297 : (Jvm.Cond.methodLink "WideMapLaw" (176 : Nat) ({ cls := "WideMapModel", name := "alike", desc := "(III)I" } : Jvm.MethodName)) ∈ lw_all := lw_g (lw_at lw_m10 7 rfl) rfl
theorem q2309 : (Jvm.Cond.methodLink "WideMapLaw" (180 : Nat) ({ cls := "WideMapModel", name := "fork", desc := "(II)I" } : Jvm.MethodName)) ∈ lw_all := lw_g (lw_at lw_m10 19 rfl) rfl
theorem q2317 : (Jvm.Cond.methodLink "WideMapLaw" (184 : Nat) ({ cls := "WideMapModel", name := "comesFrom", desc := "(II)I" } : Jvm.MethodName)) ∈ lw_all := lw_g (lw_at lw_m10 27 rfl) rfl
theorem q2321 : (Jvm.Cond.methodLink "WideMapLaw" (188 : Nat) ({ cls := "WideMapModel", name := "show", desc := "(I)I" } : Jvm.MethodName)) ∈ lw_all := lw_g (lw_at lw_m10 31 rfl) rfl
theorem q2344 : (Jvm.Cond.methodLink "WideMapLaw" (192 : Nat) ({ cls := "WideMapModel", name := "shown", desc := "(I)I" } : Jvm.MethodName)) ∈ lw_all := lw_g (lw_at lw_m10 54 rfl) rfl
theorem q2348 : (Jvm.Cond.methodLink "WideMapLaw" (196 : Nat) ({ cls := "WideMapModel", name := "digest", desc := "(I)I" } : Jvm.MethodName)) ∈ lw_all := lw_g (lw_at lw_m10 58 rfl) rfl
theorem q2353 : (Jvm.Cond.methodLink "WideMapLaw" (200 : Nat) ({ cls := "WideMapModel", name := "status", desc := "(I)I" } : Jvm.MethodName)) ∈ lw_all := lw_g (lw_at lw_m10 63 rfl) rfl
theorem q2358 : (Jvm.Cond.methodLink "WideMapLaw" (204 : Nat) ({ cls := "WideMapModel", name := "image", desc := "()I" } : Jvm.MethodName)) ∈ lw_all := lw_g (lw_at lw_m10 68 rfl) rfl
theorem q2362 : (Jvm.Cond.methodLink "WideMapLaw" (208 : Nat) ({ cls := "WideMapModel", name := "back", desc := "()I" } : Jvm.MethodName)) ∈ lw_all := lw_g (lw_at lw_m10 72 rfl) rfl
theorem q2366 : (Jvm.Cond.methodLink "WideMapLaw" (212 : Nat) ({ cls := "WideMapModel", name := "count", desc := "(I)I" } : Jvm.MethodName)) ∈ lw_all := lw_g (lw_at lw_m10 76 rfl) rfl
theorem q2374 : (Jvm.Cond.constantLong "WideMapLaw" (146 : Nat) (4294967295 : Int64)) ∈ lw_all := lw_g (lw_at lw_m10 84 rfl) rfl
