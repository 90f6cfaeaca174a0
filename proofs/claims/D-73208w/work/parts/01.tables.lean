-- ===== PART A: goes FIRST, ahead of the names: the tables' words, and 'selects' of the private methods out of them =====
/-- a private method of a class that the tables say can be made, by its rows of tables_1 -/
def lw_okq (q : MethodName × Nat) : Prop := (q.1.cls ≠ "java/lang/invoke/MethodHandle" ∧ q.1.cls ≠ "java/lang/invoke/VarHandle") ∧ Cond.instantiable q.1.cls q.2 ∈ tables_1 ∧ Cond.privateMethod q.1 ∈ tables_1 ∧ Cond.instanceMethod q.1 ∈ tables_1
set_option maxRecDepth 100000
theorem lw_t1 {w : Cond} (h : w ∈ tables_1_1) : w ∈ tables_1 := List.mem_append_left _ h
theorem lw_t2 {w : Cond} (h : w ∈ tables_1_2) : w ∈ tables_1 := List.mem_append_right _ (List.mem_append_left _ h)
theorem lw_t3 {w : Cond} (h : w ∈ tables_1_3) : w ∈ tables_1 := List.mem_append_right _ (List.mem_append_right _ (List.mem_append_left _ h))
theorem lw_t4 {w : Cond} (h : w ∈ tables_1_4) : w ∈ tables_1 := List.mem_append_right _ (List.mem_append_right _ (List.mem_append_right _ (List.mem_append_left _ h)))
theorem lw_t5 {w : Cond} (h : w ∈ tables_1_5) : w ∈ tables_1 := List.mem_append_right _ (List.mem_append_right _ (List.mem_append_right _ (List.mem_append_right _ (List.mem_append_left _ h))))
theorem lw_t6 {w : Cond} (h : w ∈ tables_1_6) : w ∈ tables_1 := List.mem_append_right _ (List.mem_append_right _ (List.mem_append_right _ (List.mem_append_right _ (List.mem_append_right _ (List.mem_append_left _ h)))))
theorem lw_t7 {w : Cond} (h : w ∈ tables_1_7) : w ∈ tables_1 := List.mem_append_right _ (List.mem_append_right _ (List.mem_append_right _ (List.mem_append_right _ (List.mem_append_right _ (List.mem_append_right _ (List.mem_append_left _ h))))))
theorem lw_t8 {w : Cond} (h : w ∈ tables_1_8) : w ∈ tables_1 := List.mem_append_right _ (List.mem_append_right _ (List.mem_append_right _ (List.mem_append_right _ (List.mem_append_right _ (List.mem_append_right _ (List.mem_append_right _ (List.mem_append_left _ h)))))))
theorem lw_t9 {w : Cond} (h : w ∈ tables_1_9) : w ∈ tables_1 := List.mem_append_right _ (List.mem_append_right _ (List.mem_append_right _ (List.mem_append_right _ (List.mem_append_right _ (List.mem_append_right _ (List.mem_append_right _ (List.mem_append_right _ (List.mem_append_left _ h))))))))
theorem lw_t10 {w : Cond} (h : w ∈ tables_1_10) : w ∈ tables_1 := List.mem_append_right _ (List.mem_append_right _ (List.mem_append_right _ (List.mem_append_right _ (List.mem_append_right _ (List.mem_append_right _ (List.mem_append_right _ (List.mem_append_right _ (List.mem_append_right _ h))))))))
theorem lw_p0 : lw_okq (⟨"java/lang/Throwable", "fillInStackTrace", "(I)Ljava/lang/Throwable;"⟩, 6) := ⟨⟨by decide +kernel, by decide +kernel⟩, lw_t1 (List.mem_of_getElem? (i := 80) rfl), lw_t1 (List.mem_of_getElem? (i := 78) rfl), lw_t1 (List.mem_of_getElem? (i := 79) rfl)⟩
theorem lw_p1 : lw_okq (⟨"WideMap", "opens", "(I)V"⟩, 38) := ⟨⟨by decide +kernel, by decide +kernel⟩, lw_t1 (List.mem_of_getElem? (i := 29) rfl), lw_t1 (List.mem_of_getElem? (i := 108) rfl), lw_t1 (List.mem_of_getElem? (i := 109) rfl)⟩
theorem lw_p2 : lw_okq (⟨"WideMap", "stales", "(I)V"⟩, 38) := ⟨⟨by decide +kernel, by decide +kernel⟩, lw_t1 (List.mem_of_getElem? (i := 29) rfl), lw_t1 (List.mem_of_getElem? (i := 112) rfl), lw_t1 (List.mem_of_getElem? (i := 113) rfl)⟩
theorem lw_p3 : lw_okq (⟨"WideMap", "wholeMap", "()V"⟩, 38) := ⟨⟨by decide +kernel, by decide +kernel⟩, lw_t1 (List.mem_of_getElem? (i := 29) rfl), lw_t2 (List.mem_of_getElem? (i := 12) rfl), lw_t2 (List.mem_of_getElem? (i := 13) rfl)⟩
theorem lw_p4 : lw_okq (⟨"WideMap", "next", "()I"⟩, 38) := ⟨⟨by decide +kernel, by decide +kernel⟩, lw_t1 (List.mem_of_getElem? (i := 29) rfl), lw_t2 (List.mem_of_getElem? (i := 16) rfl), lw_t2 (List.mem_of_getElem? (i := 17) rfl)⟩
theorem lw_p5 : lw_okq (⟨"WideMap", "here", "()I"⟩, 38) := ⟨⟨by decide +kernel, by decide +kernel⟩, lw_t1 (List.mem_of_getElem? (i := 29) rfl), lw_t2 (List.mem_of_getElem? (i := 20) rfl), lw_t2 (List.mem_of_getElem? (i := 21) rfl)⟩
theorem lw_p6 : lw_okq (⟨"WideMap", "keyRead", "()I"⟩, 38) := ⟨⟨by decide +kernel, by decide +kernel⟩, lw_t1 (List.mem_of_getElem? (i := 29) rfl), lw_t2 (List.mem_of_getElem? (i := 24) rfl), lw_t2 (List.mem_of_getElem? (i := 25) rfl)⟩
theorem lw_p7 : lw_okq (⟨"WideMap", "digits", "()I"⟩, 38) := ⟨⟨by decide +kernel, by decide +kernel⟩, lw_t1 (List.mem_of_getElem? (i := 29) rfl), lw_t2 (List.mem_of_getElem? (i := 28) rfl), lw_t2 (List.mem_of_getElem? (i := 29) rfl)⟩
theorem lw_p8 : lw_okq (⟨"WideMap", "must", "(Z)V"⟩, 38) := ⟨⟨by decide +kernel, by decide +kernel⟩, lw_t1 (List.mem_of_getElem? (i := 29) rfl), lw_t2 (List.mem_of_getElem? (i := 35) rfl), lw_t2 (List.mem_of_getElem? (i := 36) rfl)⟩
theorem lw_p9 : lw_okq (⟨"WideMap", "valueRead", "()I"⟩, 38) := ⟨⟨by decide +kernel, by decide +kernel⟩, lw_t1 (List.mem_of_getElem? (i := 29) rfl), lw_t2 (List.mem_of_getElem? (i := 39) rfl), lw_t2 (List.mem_of_getElem? (i := 40) rfl)⟩
theorem lw_p10 : lw_okq (⟨"WideMap", "wholeProgram", "(I)V"⟩, 38) := ⟨⟨by decide +kernel, by decide +kernel⟩, lw_t1 (List.mem_of_getElem? (i := 29) rfl), lw_t2 (List.mem_of_getElem? (i := 43) rfl), lw_t2 (List.mem_of_getElem? (i := 44) rfl)⟩
theorem lw_p11 : lw_okq (⟨"WideMap", "stepRead", "(I)V"⟩, 38) := ⟨⟨by decide +kernel, by decide +kernel⟩, lw_t1 (List.mem_of_getElem? (i := 29) rfl), lw_t2 (List.mem_of_getElem? (i := 47) rfl), lw_t2 (List.mem_of_getElem? (i := 48) rfl)⟩
theorem lw_p12 : lw_okq (⟨"WideMap", "word", "()Ljava/lang/String;"⟩, 38) := ⟨⟨by decide +kernel, by decide +kernel⟩, lw_t1 (List.mem_of_getElem? (i := 29) rfl), lw_t2 (List.mem_of_getElem? (i := 52) rfl), lw_t2 (List.mem_of_getElem? (i := 53) rfl)⟩
theorem lw_p13 : lw_okq (⟨"WideMap", "beginsWord", "(Ljava/lang/String;)Z"⟩, 38) := ⟨⟨by decide +kernel, by decide +kernel⟩, lw_t1 (List.mem_of_getElem? (i := 29) rfl), lw_t3 (List.mem_of_getElem? (i := 5) rfl), lw_t3 (List.mem_of_getElem? (i := 6) rfl)⟩
theorem lw_p14 : lw_okq (⟨"WideMap", "programRead", "()I"⟩, 38) := ⟨⟨by decide +kernel, by decide +kernel⟩, lw_t1 (List.mem_of_getElem? (i := 29) rfl), lw_t3 (List.mem_of_getElem? (i := 195) rfl), lw_t3 (List.mem_of_getElem? (i := 196) rfl)⟩
theorem lw_p15 : lw_okq (⟨"WideMap", "isRoom", "()Z"⟩, 38) := ⟨⟨by decide +kernel, by decide +kernel⟩, lw_t1 (List.mem_of_getElem? (i := 29) rfl), lw_t3 (List.mem_of_getElem? (i := 200) rfl), lw_t3 (List.mem_of_getElem? (i := 201) rfl)⟩
def lw_privs_1 : List (MethodName × Nat) := [(⟨"java/lang/Throwable", "fillInStackTrace", "(I)Ljava/lang/Throwable;"⟩, 6), (⟨"WideMap", "opens", "(I)V"⟩, 38), (⟨"WideMap", "stales", "(I)V"⟩, 38), (⟨"WideMap", "wholeMap", "()V"⟩, 38), (⟨"WideMap", "next", "()I"⟩, 38), (⟨"WideMap", "here", "()I"⟩, 38), (⟨"WideMap", "keyRead", "()I"⟩, 38), (⟨"WideMap", "digits", "()I"⟩, 38), (⟨"WideMap", "must", "(Z)V"⟩, 38), (⟨"WideMap", "valueRead", "()I"⟩, 38), (⟨"WideMap", "wholeProgram", "(I)V"⟩, 38), (⟨"WideMap", "stepRead", "(I)V"⟩, 38), (⟨"WideMap", "word", "()Ljava/lang/String;"⟩, 38), (⟨"WideMap", "beginsWord", "(Ljava/lang/String;)Z"⟩, 38), (⟨"WideMap", "programRead", "()I"⟩, 38), (⟨"WideMap", "isRoom", "()Z"⟩, 38)]
theorem lw_r1 : ∀ q ∈ lw_privs_1, lw_okq q := List.forall_mem_cons.mpr ⟨lw_p0, List.forall_mem_cons.mpr ⟨lw_p1, List.forall_mem_cons.mpr ⟨lw_p2, List.forall_mem_cons.mpr ⟨lw_p3, List.forall_mem_cons.mpr ⟨lw_p4, List.forall_mem_cons.mpr ⟨lw_p5, List.forall_mem_cons.mpr ⟨lw_p6, List.forall_mem_cons.mpr ⟨lw_p7, List.forall_mem_cons.mpr ⟨lw_p8, List.forall_mem_cons.mpr ⟨lw_p9, List.forall_mem_cons.mpr ⟨lw_p10, List.forall_mem_cons.mpr ⟨lw_p11, List.forall_mem_cons.mpr ⟨lw_p12, List.forall_mem_cons.mpr ⟨lw_p13, List.forall_mem_cons.mpr ⟨lw_p14, List.forall_mem_cons.mpr ⟨lw_p15, fun _ h => absurd h List.not_mem_nil⟩⟩⟩⟩⟩⟩⟩⟩⟩⟩⟩⟩⟩⟩⟩⟩
theorem lw_p16 : lw_okq (⟨"WideMap", "isRefused", "(I)Z"⟩, 38) := ⟨⟨by decide +kernel, by decide +kernel⟩, lw_t1 (List.mem_of_getElem? (i := 29) rfl), lw_t3 (List.mem_of_getElem? (i := 204) rfl), lw_t3 (List.mem_of_getElem? (i := 205) rfl)⟩
theorem lw_p17 : lw_okq (⟨"WideMap", "work", "(LWideMap$Node;LWideMap$Token;)V"⟩, 38) := ⟨⟨by decide +kernel, by decide +kernel⟩, lw_t1 (List.mem_of_getElem? (i := 29) rfl), lw_t3 (List.mem_of_getElem? (i := 217) rfl), lw_t3 (List.mem_of_getElem? (i := 218) rfl)⟩
theorem lw_p18 : lw_okq (⟨"WideMap", "layNow", "(II)V"⟩, 38) := ⟨⟨by decide +kernel, by decide +kernel⟩, lw_t1 (List.mem_of_getElem? (i := 29) rfl), lw_t4 (List.mem_of_getElem? (i := 18) rfl), lw_t4 (List.mem_of_getElem? (i := 19) rfl)⟩
theorem lw_p19 : lw_okq (⟨"WideMap$Leaf", "put", "(III)V"⟩, 5) := ⟨⟨by decide +kernel, by decide +kernel⟩, lw_t3 (List.mem_of_getElem? (i := 228) rfl), lw_t4 (List.mem_of_getElem? (i := 185) rfl), lw_t4 (List.mem_of_getElem? (i := 186) rfl)⟩
theorem lw_p20 : lw_okq (⟨"WideMap$Leaf", "placeOf", "(I)I"⟩, 5) := ⟨⟨by decide +kernel, by decide +kernel⟩, lw_t3 (List.mem_of_getElem? (i := 228) rfl), lw_t4 (List.mem_of_getElem? (i := 208) rfl), lw_t4 (List.mem_of_getElem? (i := 209) rfl)⟩
theorem lw_p21 : lw_okq (⟨"WideMap$Leaf", "makeRoom", "(I)V"⟩, 5) := ⟨⟨by decide +kernel, by decide +kernel⟩, lw_t3 (List.mem_of_getElem? (i := 228) rfl), lw_t4 (List.mem_of_getElem? (i := 212) rfl), lw_t4 (List.mem_of_getElem? (i := 213) rfl)⟩
theorem lw_p22 : lw_okq (⟨"WideMap$Inner", "makeRoom", "(I)V"⟩, 4) := ⟨⟨by decide +kernel, by decide +kernel⟩, lw_t4 (List.mem_of_getElem? (i := 163) rfl), lw_t4 (List.mem_of_getElem? (i := 217) rfl), lw_t4 (List.mem_of_getElem? (i := 218) rfl)⟩
theorem lw_p23 : lw_okq (⟨"WideMap", "holds", "(LWideMap$Node;II)I"⟩, 38) := ⟨⟨by decide +kernel, by decide +kernel⟩, lw_t1 (List.mem_of_getElem? (i := 29) rfl), lw_t4 (List.mem_of_getElem? (i := 227) rfl), lw_t4 (List.mem_of_getElem? (i := 228) rfl)⟩
theorem lw_p24 : lw_okq (⟨"WideMap", "isMap", "(I)Z"⟩, 38) := ⟨⟨by decide +kernel, by decide +kernel⟩, lw_t1 (List.mem_of_getElem? (i := 29) rfl), lw_t4 (List.mem_of_getElem? (i := 239) rfl), lw_t5 (List.mem_of_getElem? (i := 0) rfl)⟩
theorem lw_p25 : lw_okq (⟨"WideMap", "placeOf", "(I)I"⟩, 38) := ⟨⟨by decide +kernel, by decide +kernel⟩, lw_t1 (List.mem_of_getElem? (i := 29) rfl), lw_t5 (List.mem_of_getElem? (i := 3) rfl), lw_t5 (List.mem_of_getElem? (i := 4) rfl)⟩
theorem lw_p26 : lw_okq (⟨"WideMap", "rootOf", "(I)LWideMap$Node;"⟩, 38) := ⟨⟨by decide +kernel, by decide +kernel⟩, lw_t1 (List.mem_of_getElem? (i := 29) rfl), lw_t5 (List.mem_of_getElem? (i := 7) rfl), lw_t5 (List.mem_of_getElem? (i := 8) rfl)⟩
theorem lw_p27 : lw_okq (⟨"WideMap", "totalOf", "(LWideMap$Node;II)I"⟩, 38) := ⟨⟨by decide +kernel, by decide +kernel⟩, lw_t1 (List.mem_of_getElem? (i := 29) rfl), lw_t5 (List.mem_of_getElem? (i := 64) rfl), lw_t5 (List.mem_of_getElem? (i := 65) rfl)⟩
theorem lw_p28 : lw_okq (⟨"WideMap", "flat", "(LWideMap$Node;)I"⟩, 38) := ⟨⟨by decide +kernel, by decide +kernel⟩, lw_t1 (List.mem_of_getElem? (i := 29) rfl), lw_t5 (List.mem_of_getElem? (i := 68) rfl), lw_t5 (List.mem_of_getElem? (i := 69) rfl)⟩
theorem lw_p29 : lw_okq (⟨"WideMap", "flatten", "(LWideMap$Node;)V"⟩, 38) := ⟨⟨by decide +kernel, by decide +kernel⟩, lw_t1 (List.mem_of_getElem? (i := 29) rfl), lw_t5 (List.mem_of_getElem? (i := 72) rfl), lw_t5 (List.mem_of_getElem? (i := 73) rfl)⟩
theorem lw_p30 : lw_okq (⟨"WideMap", "seek", "(LWideMap$Node;I)LWideMap$Node;"⟩, 38) := ⟨⟨by decide +kernel, by decide +kernel⟩, lw_t1 (List.mem_of_getElem? (i := 29) rfl), lw_t5 (List.mem_of_getElem? (i := 92) rfl), lw_t5 (List.mem_of_getElem? (i := 93) rfl)⟩
theorem lw_p31 : lw_okq (⟨"WideMap", "inHowMany", "(LWideMap$Node;)I"⟩, 38) := ⟨⟨by decide +kernel, by decide +kernel⟩, lw_t1 (List.mem_of_getElem? (i := 29) rfl), lw_t5 (List.mem_of_getElem? (i := 98) rfl), lw_t5 (List.mem_of_getElem? (i := 99) rfl)⟩
def lw_privs_2 : List (MethodName × Nat) := [(⟨"WideMap", "isRefused", "(I)Z"⟩, 38), (⟨"WideMap", "work", "(LWideMap$Node;LWideMap$Token;)V"⟩, 38), (⟨"WideMap", "layNow", "(II)V"⟩, 38), (⟨"WideMap$Leaf", "put", "(III)V"⟩, 5), (⟨"WideMap$Leaf", "placeOf", "(I)I"⟩, 5), (⟨"WideMap$Leaf", "makeRoom", "(I)V"⟩, 5), (⟨"WideMap$Inner", "makeRoom", "(I)V"⟩, 4), (⟨"WideMap", "holds", "(LWideMap$Node;II)I"⟩, 38), (⟨"WideMap", "isMap", "(I)Z"⟩, 38), (⟨"WideMap", "placeOf", "(I)I"⟩, 38), (⟨"WideMap", "rootOf", "(I)LWideMap$Node;"⟩, 38), (⟨"WideMap", "totalOf", "(LWideMap$Node;II)I"⟩, 38), (⟨"WideMap", "flat", "(LWideMap$Node;)I"⟩, 38), (⟨"WideMap", "flatten", "(LWideMap$Node;)V"⟩, 38), (⟨"WideMap", "seek", "(LWideMap$Node;I)LWideMap$Node;"⟩, 38), (⟨"WideMap", "inHowMany", "(LWideMap$Node;)I"⟩, 38)]
theorem lw_r2 : ∀ q ∈ lw_privs_2, lw_okq q := List.forall_mem_cons.mpr ⟨lw_p16, List.forall_mem_cons.mpr ⟨lw_p17, List.forall_mem_cons.mpr ⟨lw_p18, List.forall_mem_cons.mpr ⟨lw_p19, List.forall_mem_cons.mpr ⟨lw_p20, List.forall_mem_cons.mpr ⟨lw_p21, List.forall_mem_cons.mpr ⟨lw_p22, List.forall_mem_cons.mpr ⟨lw_p23, List.forall_mem_cons.mpr ⟨lw_p24, List.forall_mem_cons.mpr ⟨lw_p25, List.forall_mem_cons.mpr ⟨lw_p26, List.forall_mem_cons.mpr ⟨lw_p27, List.forall_mem_cons.mpr ⟨lw_p28, List.forall_mem_cons.mpr ⟨lw_p29, List.forall_mem_cons.mpr ⟨lw_p30, List.forall_mem_cons.mpr ⟨lw_p31, fun _ h => absurd h List.not_mem_nil⟩⟩⟩⟩⟩⟩⟩⟩⟩⟩⟩⟩⟩⟩⟩⟩
theorem lw_p32 : lw_okq (⟨"WideMap", "canLay", "(LWideMap$Node;I)Z"⟩, 38) := ⟨⟨by decide +kernel, by decide +kernel⟩, lw_t1 (List.mem_of_getElem? (i := 29) rfl), lw_t5 (List.mem_of_getElem? (i := 123) rfl), lw_t5 (List.mem_of_getElem? (i := 124) rfl)⟩
theorem lw_p33 : lw_okq (⟨"WideMap", "takeNow", "(I)V"⟩, 38) := ⟨⟨by decide +kernel, by decide +kernel⟩, lw_t1 (List.mem_of_getElem? (i := 29) rfl), lw_t5 (List.mem_of_getElem? (i := 131) rfl), lw_t5 (List.mem_of_getElem? (i := 132) rfl)⟩
theorem lw_p34 : lw_okq (⟨"WideMap$Leaf", "close", "(I)V"⟩, 5) := ⟨⟨by decide +kernel, by decide +kernel⟩, lw_t3 (List.mem_of_getElem? (i := 228) rfl), lw_t5 (List.mem_of_getElem? (i := 151) rfl), lw_t5 (List.mem_of_getElem? (i := 152) rfl)⟩
theorem lw_p35 : lw_okq (⟨"WideMap$Inner", "mend", "(LWideMap$Token;II)V"⟩, 4) := ⟨⟨by decide +kernel, by decide +kernel⟩, lw_t4 (List.mem_of_getElem? (i := 163) rfl), lw_t5 (List.mem_of_getElem? (i := 157) rfl), lw_t5 (List.mem_of_getElem? (i := 158) rfl)⟩
theorem lw_p36 : lw_okq (⟨"WideMap$Inner", "close", "(I)V"⟩, 4) := ⟨⟨by decide +kernel, by decide +kernel⟩, lw_t4 (List.mem_of_getElem? (i := 163) rfl), lw_t5 (List.mem_of_getElem? (i := 170) rfl), lw_t5 (List.mem_of_getElem? (i := 171) rfl)⟩
theorem lw_p37 : lw_okq (⟨"WideMap", "unionOf", "(LWideMap$Node;LWideMap$Node;)I"⟩, 38) := ⟨⟨by decide +kernel, by decide +kernel⟩, lw_t1 (List.mem_of_getElem? (i := 29) rfl), lw_t5 (List.mem_of_getElem? (i := 219) rfl), lw_t5 (List.mem_of_getElem? (i := 220) rfl)⟩
theorem lw_p38 : lw_okq (⟨"WideMap", "mergeNow", "(LWideMap$Node;LWideMap$Node;II)V"⟩, 38) := ⟨⟨by decide +kernel, by decide +kernel⟩, lw_t1 (List.mem_of_getElem? (i := 29) rfl), lw_t5 (List.mem_of_getElem? (i := 223) rfl), lw_t5 (List.mem_of_getElem? (i := 224) rfl)⟩
theorem lw_p39 : lw_okq (⟨"WideMap", "whyNotThree", "(IIII)I"⟩, 38) := ⟨⟨by decide +kernel, by decide +kernel⟩, lw_t1 (List.mem_of_getElem? (i := 29) rfl), lw_t6 (List.mem_of_getElem? (i := 1) rfl), lw_t6 (List.mem_of_getElem? (i := 2) rfl)⟩
theorem lw_p40 : lw_okq (⟨"WideMap", "threeMany", "(LWideMap$Node;LWideMap$Node;LWideMap$Node;I)I"⟩, 38) := ⟨⟨by decide +kernel, by decide +kernel⟩, lw_t1 (List.mem_of_getElem? (i := 29) rfl), lw_t6 (List.mem_of_getElem? (i := 5) rfl), lw_t6 (List.mem_of_getElem? (i := 6) rfl)⟩
theorem lw_p41 : lw_okq (⟨"WideMap", "becomes", "(II)V"⟩, 38) := ⟨⟨by decide +kernel, by decide +kernel⟩, lw_t1 (List.mem_of_getElem? (i := 29) rfl), lw_t6 (List.mem_of_getElem? (i := 15) rfl), lw_t6 (List.mem_of_getElem? (i := 16) rfl)⟩
theorem lw_p42 : lw_okq (⟨"WideMap", "cutNow", "(II)V"⟩, 38) := ⟨⟨by decide +kernel, by decide +kernel⟩, lw_t1 (List.mem_of_getElem? (i := 29) rfl), lw_t6 (List.mem_of_getElem? (i := 27) rfl), lw_t6 (List.mem_of_getElem? (i := 28) rfl)⟩
theorem lw_p43 : lw_okq (⟨"WideMap", "isBuilder", "(I)Z"⟩, 38) := ⟨⟨by decide +kernel, by decide +kernel⟩, lw_t1 (List.mem_of_getElem? (i := 29) rfl), lw_t6 (List.mem_of_getElem? (i := 39) rfl), lw_t6 (List.mem_of_getElem? (i := 40) rfl)⟩
theorem lw_p44 : lw_okq (⟨"WideMap", "whyNotLaid", "(III)I"⟩, 38) := ⟨⟨by decide +kernel, by decide +kernel⟩, lw_t1 (List.mem_of_getElem? (i := 29) rfl), lw_t6 (List.mem_of_getElem? (i := 47) rfl), lw_t6 (List.mem_of_getElem? (i := 48) rfl)⟩
theorem lw_p45 : lw_okq (⟨"WideMap", "whyNot", "(IZ)I"⟩, 38) := ⟨⟨by decide +kernel, by decide +kernel⟩, lw_t1 (List.mem_of_getElem? (i := 29) rfl), lw_t6 (List.mem_of_getElem? (i := 51) rfl), lw_t6 (List.mem_of_getElem? (i := 52) rfl)⟩
theorem lw_p46 : lw_okq (⟨"WideMap", "isStale", "(I)Z"⟩, 38) := ⟨⟨by decide +kernel, by decide +kernel⟩, lw_t1 (List.mem_of_getElem? (i := 29) rfl), lw_t6 (List.mem_of_getElem? (i := 55) rfl), lw_t6 (List.mem_of_getElem? (i := 56) rfl)⟩
theorem lw_p47 : lw_okq (⟨"WideMap", "begins", "(I)I"⟩, 38) := ⟨⟨by decide +kernel, by decide +kernel⟩, lw_t1 (List.mem_of_getElem? (i := 29) rfl), lw_t6 (List.mem_of_getElem? (i := 59) rfl), lw_t6 (List.mem_of_getElem? (i := 60) rfl)⟩
def lw_privs_3 : List (MethodName × Nat) := [(⟨"WideMap", "canLay", "(LWideMap$Node;I)Z"⟩, 38), (⟨"WideMap", "takeNow", "(I)V"⟩, 38), (⟨"WideMap$Leaf", "close", "(I)V"⟩, 5), (⟨"WideMap$Inner", "mend", "(LWideMap$Token;II)V"⟩, 4), (⟨"WideMap$Inner", "close", "(I)V"⟩, 4), (⟨"WideMap", "unionOf", "(LWideMap$Node;LWideMap$Node;)I"⟩, 38), (⟨"WideMap", "mergeNow", "(LWideMap$Node;LWideMap$Node;II)V"⟩, 38), (⟨"WideMap", "whyNotThree", "(IIII)I"⟩, 38), (⟨"WideMap", "threeMany", "(LWideMap$Node;LWideMap$Node;LWideMap$Node;I)I"⟩, 38), (⟨"WideMap", "becomes", "(II)V"⟩, 38), (⟨"WideMap", "cutNow", "(II)V"⟩, 38), (⟨"WideMap", "isBuilder", "(I)Z"⟩, 38), (⟨"WideMap", "whyNotLaid", "(III)I"⟩, 38), (⟨"WideMap", "whyNot", "(IZ)I"⟩, 38), (⟨"WideMap", "isStale", "(I)Z"⟩, 38), (⟨"WideMap", "begins", "(I)I"⟩, 38)]
theorem lw_r3 : ∀ q ∈ lw_privs_3, lw_okq q := List.forall_mem_cons.mpr ⟨lw_p32, List.forall_mem_cons.mpr ⟨lw_p33, List.forall_mem_cons.mpr ⟨lw_p34, List.forall_mem_cons.mpr ⟨lw_p35, List.forall_mem_cons.mpr ⟨lw_p36, List.forall_mem_cons.mpr ⟨lw_p37, List.forall_mem_cons.mpr ⟨lw_p38, List.forall_mem_cons.mpr ⟨lw_p39, List.forall_mem_cons.mpr ⟨lw_p40, List.forall_mem_cons.mpr ⟨lw_p41, List.forall_mem_cons.mpr ⟨lw_p42, List.forall_mem_cons.mpr ⟨lw_p43, List.forall_mem_cons.mpr ⟨lw_p44, List.forall_mem_cons.mpr ⟨lw_p45, List.forall_mem_cons.mpr ⟨lw_p46, List.forall_mem_cons.mpr ⟨lw_p47, fun _ h => absurd h List.not_mem_nil⟩⟩⟩⟩⟩⟩⟩⟩⟩⟩⟩⟩⟩⟩⟩⟩
theorem lw_p48 : lw_okq (⟨"WideMap", "ends", "(II)I"⟩, 38) := ⟨⟨by decide +kernel, by decide +kernel⟩, lw_t1 (List.mem_of_getElem? (i := 29) rfl), lw_t6 (List.mem_of_getElem? (i := 63) rfl), lw_t6 (List.mem_of_getElem? (i := 64) rfl)⟩
theorem lw_p49 : lw_okq (⟨"WideMap", "addNow", "(II)V"⟩, 38) := ⟨⟨by decide +kernel, by decide +kernel⟩, lw_t1 (List.mem_of_getElem? (i := 29) rfl), lw_t6 (List.mem_of_getElem? (i := 75) rfl), lw_t6 (List.mem_of_getElem? (i := 76) rfl)⟩
theorem lw_p50 : lw_okq (⟨"WideMap", "raiseNow", "(III)V"⟩, 38) := ⟨⟨by decide +kernel, by decide +kernel⟩, lw_t1 (List.mem_of_getElem? (i := 29) rfl), lw_t6 (List.mem_of_getElem? (i := 87) rfl), lw_t6 (List.mem_of_getElem? (i := 88) rfl)⟩
theorem lw_p51 : lw_okq (⟨"WideMap", "snapNow", "(I)I"⟩, 38) := ⟨⟨by decide +kernel, by decide +kernel⟩, lw_t1 (List.mem_of_getElem? (i := 29) rfl), lw_t6 (List.mem_of_getElem? (i := 95) rfl), lw_t6 (List.mem_of_getElem? (i := 96) rfl)⟩
theorem lw_p52 : lw_okq (⟨"WideMap", "drawOne", "()V"⟩, 38) := ⟨⟨by decide +kernel, by decide +kernel⟩, lw_t1 (List.mem_of_getElem? (i := 29) rfl), lw_t6 (List.mem_of_getElem? (i := 116) rfl), lw_t6 (List.mem_of_getElem? (i := 117) rfl)⟩
theorem lw_p53 : lw_okq (⟨"WideMap", "draw", "(I)I"⟩, 38) := ⟨⟨by decide +kernel, by decide +kernel⟩, lw_t1 (List.mem_of_getElem? (i := 29) rfl), lw_t6 (List.mem_of_getElem? (i := 120) rfl), lw_t6 (List.mem_of_getElem? (i := 121) rfl)⟩
theorem lw_p54 : lw_okq (⟨"WideMap", "doStep", "(II)Z"⟩, 38) := ⟨⟨by decide +kernel, by decide +kernel⟩, lw_t1 (List.mem_of_getElem? (i := 29) rfl), lw_t6 (List.mem_of_getElem? (i := 134) rfl), lw_t6 (List.mem_of_getElem? (i := 135) rfl)⟩
theorem lw_p55 : lw_okq (⟨"WideMap", "areMaps", "(II)Z"⟩, 38) := ⟨⟨by decide +kernel, by decide +kernel⟩, lw_t1 (List.mem_of_getElem? (i := 29) rfl), lw_t6 (List.mem_of_getElem? (i := 142) rfl), lw_t6 (List.mem_of_getElem? (i := 143) rfl)⟩
theorem lw_p56 : lw_okq (⟨"WideMap", "sharedOf", "(LWideMap$Node;LWideMap$Node;)I"⟩, 38) := ⟨⟨by decide +kernel, by decide +kernel⟩, lw_t1 (List.mem_of_getElem? (i := 29) rfl), lw_t6 (List.mem_of_getElem? (i := 146) rfl), lw_t6 (List.mem_of_getElem? (i := 147) rfl)⟩
theorem lw_p57 : lw_okq (⟨"WideMap", "layLine", "(I[Z)V"⟩, 38) := ⟨⟨by decide +kernel, by decide +kernel⟩, lw_t1 (List.mem_of_getElem? (i := 29) rfl), lw_t7 (List.mem_of_getElem? (i := 14) rfl), lw_t7 (List.mem_of_getElem? (i := 15) rfl)⟩
theorem lw_p58 : lw_okq (⟨"WideMap", "live", "()I"⟩, 38) := ⟨⟨by decide +kernel, by decide +kernel⟩, lw_t1 (List.mem_of_getElem? (i := 29) rfl), lw_t7 (List.mem_of_getElem? (i := 93) rfl), lw_t7 (List.mem_of_getElem? (i := 94) rfl)⟩
theorem lw_p59 : lw_okq (⟨"WideMap", "fresh", "()I"⟩, 38) := ⟨⟨by decide +kernel, by decide +kernel⟩, lw_t1 (List.mem_of_getElem? (i := 29) rfl), lw_t7 (List.mem_of_getElem? (i := 97) rfl), lw_t7 (List.mem_of_getElem? (i := 98) rfl)⟩
theorem lw_p60 : lw_okq (⟨"WideMapModel", "brings", "(I)V"⟩, 56) := ⟨⟨by decide +kernel, by decide +kernel⟩, lw_t7 (List.mem_of_getElem? (i := 129) rfl), lw_t8 (List.mem_of_getElem? (i := 76) rfl), lw_t8 (List.mem_of_getElem? (i := 77) rfl)⟩
theorem lw_p61 : lw_okq (⟨"WideMapModel", "readEntries", "()V"⟩, 56) := ⟨⟨by decide +kernel, by decide +kernel⟩, lw_t7 (List.mem_of_getElem? (i := 129) rfl), lw_t8 (List.mem_of_getElem? (i := 91) rfl), lw_t8 (List.mem_of_getElem? (i := 92) rfl)⟩
theorem lw_p62 : lw_okq (⟨"WideMapModel", "look", "()I"⟩, 56) := ⟨⟨by decide +kernel, by decide +kernel⟩, lw_t7 (List.mem_of_getElem? (i := 129) rfl), lw_t8 (List.mem_of_getElem? (i := 95) rfl), lw_t8 (List.mem_of_getElem? (i := 96) rfl)⟩
theorem lw_p63 : lw_okq (⟨"WideMapModel", "here", "()I"⟩, 56) := ⟨⟨by decide +kernel, by decide +kernel⟩, lw_t7 (List.mem_of_getElem? (i := 129) rfl), lw_t8 (List.mem_of_getElem? (i := 99) rfl), lw_t8 (List.mem_of_getElem? (i := 100) rfl)⟩
def lw_privs_4 : List (MethodName × Nat) := [(⟨"WideMap", "ends", "(II)I"⟩, 38), (⟨"WideMap", "addNow", "(II)V"⟩, 38), (⟨"WideMap", "raiseNow", "(III)V"⟩, 38), (⟨"WideMap", "snapNow", "(I)I"⟩, 38), (⟨"WideMap", "drawOne", "()V"⟩, 38), (⟨"WideMap", "draw", "(I)I"⟩, 38), (⟨"WideMap", "doStep", "(II)Z"⟩, 38), (⟨"WideMap", "areMaps", "(II)Z"⟩, 38), (⟨"WideMap", "sharedOf", "(LWideMap$Node;LWideMap$Node;)I"⟩, 38), (⟨"WideMap", "layLine", "(I[Z)V"⟩, 38), (⟨"WideMap", "live", "()I"⟩, 38), (⟨"WideMap", "fresh", "()I"⟩, 38), (⟨"WideMapModel", "brings", "(I)V"⟩, 56), (⟨"WideMapModel", "readEntries", "()V"⟩, 56), (⟨"WideMapModel", "look", "()I"⟩, 56), (⟨"WideMapModel", "here", "()I"⟩, 56)]
theorem lw_r4 : ∀ q ∈ lw_privs_4, lw_okq q := List.forall_mem_cons.mpr ⟨lw_p48, List.forall_mem_cons.mpr ⟨lw_p49, List.forall_mem_cons.mpr ⟨lw_p50, List.forall_mem_cons.mpr ⟨lw_p51, List.forall_mem_cons.mpr ⟨lw_p52, List.forall_mem_cons.mpr ⟨lw_p53, List.forall_mem_cons.mpr ⟨lw_p54, List.forall_mem_cons.mpr ⟨lw_p55, List.forall_mem_cons.mpr ⟨lw_p56, List.forall_mem_cons.mpr ⟨lw_p57, List.forall_mem_cons.mpr ⟨lw_p58, List.forall_mem_cons.mpr ⟨lw_p59, List.forall_mem_cons.mpr ⟨lw_p60, List.forall_mem_cons.mpr ⟨lw_p61, List.forall_mem_cons.mpr ⟨lw_p62, List.forall_mem_cons.mpr ⟨lw_p63, fun _ h => absurd h List.not_mem_nil⟩⟩⟩⟩⟩⟩⟩⟩⟩⟩⟩⟩⟩⟩⟩⟩
theorem lw_p64 : lw_okq (⟨"WideMapModel", "number", "()I"⟩, 56) := ⟨⟨by decide +kernel, by decide +kernel⟩, lw_t7 (List.mem_of_getElem? (i := 129) rfl), lw_t8 (List.mem_of_getElem? (i := 103) rfl), lw_t8 (List.mem_of_getElem? (i := 104) rfl)⟩
theorem lw_p65 : lw_okq (⟨"WideMapModel", "isDigit", "()Z"⟩, 56) := ⟨⟨by decide +kernel, by decide +kernel⟩, lw_t7 (List.mem_of_getElem? (i := 129) rfl), lw_t8 (List.mem_of_getElem? (i := 107) rfl), lw_t8 (List.mem_of_getElem? (i := 108) rfl)⟩
theorem lw_p66 : lw_okq (⟨"WideMapModel", "fails", "()V"⟩, 56) := ⟨⟨by decide +kernel, by decide +kernel⟩, lw_t7 (List.mem_of_getElem? (i := 129) rfl), lw_t8 (List.mem_of_getElem? (i := 111) rfl), lw_t8 (List.mem_of_getElem? (i := 112) rfl)⟩
theorem lw_p67 : lw_okq (⟨"WideMapModel", "value", "()I"⟩, 56) := ⟨⟨by decide +kernel, by decide +kernel⟩, lw_t7 (List.mem_of_getElem? (i := 129) rfl), lw_t8 (List.mem_of_getElem? (i := 115) rfl), lw_t8 (List.mem_of_getElem? (i := 116) rfl)⟩
theorem lw_p68 : lw_okq (⟨"WideMapModel", "readPlan", "()V"⟩, 56) := ⟨⟨by decide +kernel, by decide +kernel⟩, lw_t7 (List.mem_of_getElem? (i := 129) rfl), lw_t8 (List.mem_of_getElem? (i := 119) rfl), lw_t8 (List.mem_of_getElem? (i := 120) rfl)⟩
theorem lw_p69 : lw_okq (⟨"WideMapModel", "readStep", "(I)V"⟩, 56) := ⟨⟨by decide +kernel, by decide +kernel⟩, lw_t7 (List.mem_of_getElem? (i := 129) rfl), lw_t8 (List.mem_of_getElem? (i := 123) rfl), lw_t8 (List.mem_of_getElem? (i := 124) rfl)⟩
theorem lw_p70 : lw_okq (⟨"WideMapModel", "word", "()I"⟩, 56) := ⟨⟨by decide +kernel, by decide +kernel⟩, lw_t7 (List.mem_of_getElem? (i := 129) rfl), lw_t8 (List.mem_of_getElem? (i := 127) rfl), lw_t8 (List.mem_of_getElem? (i := 128) rfl)⟩
theorem lw_p71 : lw_okq (⟨"WideMapModel", "hasRoom", "()Z"⟩, 56) := ⟨⟨by decide +kernel, by decide +kernel⟩, lw_t7 (List.mem_of_getElem? (i := 129) rfl), lw_t8 (List.mem_of_getElem? (i := 139) rfl), lw_t8 (List.mem_of_getElem? (i := 140) rfl)⟩
theorem lw_p72 : lw_okq (⟨"WideMapModel", "refused", "(I)I"⟩, 56) := ⟨⟨by decide +kernel, by decide +kernel⟩, lw_t7 (List.mem_of_getElem? (i := 129) rfl), lw_t8 (List.mem_of_getElem? (i := 143) rfl), lw_t8 (List.mem_of_getElem? (i := 144) rfl)⟩
theorem lw_p73 : lw_okq (⟨"WideMapModel", "newToken", "()I"⟩, 56) := ⟨⟨by decide +kernel, by decide +kernel⟩, lw_t7 (List.mem_of_getElem? (i := 129) rfl), lw_t8 (List.mem_of_getElem? (i := 147) rfl), lw_t8 (List.mem_of_getElem? (i := 148) rfl)⟩
theorem lw_p74 : lw_okq (⟨"WideMapModel", "sweeps", "()V"⟩, 56) := ⟨⟨by decide +kernel, by decide +kernel⟩, lw_t7 (List.mem_of_getElem? (i := 129) rfl), lw_t8 (List.mem_of_getElem? (i := 151) rfl), lw_t8 (List.mem_of_getElem? (i := 152) rfl)⟩
theorem lw_p75 : lw_okq (⟨"WideMapModel", "marks", "(I)I"⟩, 56) := ⟨⟨by decide +kernel, by decide +kernel⟩, lw_t7 (List.mem_of_getElem? (i := 129) rfl), lw_t8 (List.mem_of_getElem? (i := 155) rfl), lw_t8 (List.mem_of_getElem? (i := 156) rfl)⟩
theorem lw_p76 : lw_okq (⟨"WideMapModel", "child", "(II)I"⟩, 56) := ⟨⟨by decide +kernel, by decide +kernel⟩, lw_t7 (List.mem_of_getElem? (i := 129) rfl), lw_t8 (List.mem_of_getElem? (i := 159) rfl), lw_t8 (List.mem_of_getElem? (i := 160) rfl)⟩
theorem lw_p77 : lw_okq (⟨"WideMapModel", "fresh", "(II)I"⟩, 56) := ⟨⟨by decide +kernel, by decide +kernel⟩, lw_t7 (List.mem_of_getElem? (i := 129) rfl), lw_t8 (List.mem_of_getElem? (i := 166) rfl), lw_t8 (List.mem_of_getElem? (i := 167) rfl)⟩
theorem lw_p78 : lw_okq (⟨"WideMapModel", "puts", "(IIII)I"⟩, 56) := ⟨⟨by decide +kernel, by decide +kernel⟩, lw_t7 (List.mem_of_getElem? (i := 129) rfl), lw_t8 (List.mem_of_getElem? (i := 170) rfl), lw_t8 (List.mem_of_getElem? (i := 171) rfl)⟩
theorem lw_p79 : lw_okq (⟨"WideMapModel", "valueAt", "(II)I"⟩, 56) := ⟨⟨by decide +kernel, by decide +kernel⟩, lw_t7 (List.mem_of_getElem? (i := 129) rfl), lw_t8 (List.mem_of_getElem? (i := 174) rfl), lw_t8 (List.mem_of_getElem? (i := 175) rfl)⟩
def lw_privs_5 : List (MethodName × Nat) := [(⟨"WideMapModel", "number", "()I"⟩, 56), (⟨"WideMapModel", "isDigit", "()Z"⟩, 56), (⟨"WideMapModel", "fails", "()V"⟩, 56), (⟨"WideMapModel", "value", "()I"⟩, 56), (⟨"WideMapModel", "readPlan", "()V"⟩, 56), (⟨"WideMapModel", "readStep", "(I)V"⟩, 56), (⟨"WideMapModel", "word", "()I"⟩, 56), (⟨"WideMapModel", "hasRoom", "()Z"⟩, 56), (⟨"WideMapModel", "refused", "(I)I"⟩, 56), (⟨"WideMapModel", "newToken", "()I"⟩, 56), (⟨"WideMapModel", "sweeps", "()V"⟩, 56), (⟨"WideMapModel", "marks", "(I)I"⟩, 56), (⟨"WideMapModel", "child", "(II)I"⟩, 56), (⟨"WideMapModel", "fresh", "(II)I"⟩, 56), (⟨"WideMapModel", "puts", "(IIII)I"⟩, 56), (⟨"WideMapModel", "valueAt", "(II)I"⟩, 56)]
theorem lw_r5 : ∀ q ∈ lw_privs_5, lw_okq q := List.forall_mem_cons.mpr ⟨lw_p64, List.forall_mem_cons.mpr ⟨lw_p65, List.forall_mem_cons.mpr ⟨lw_p66, List.forall_mem_cons.mpr ⟨lw_p67, List.forall_mem_cons.mpr ⟨lw_p68, List.forall_mem_cons.mpr ⟨lw_p69, List.forall_mem_cons.mpr ⟨lw_p70, List.forall_mem_cons.mpr ⟨lw_p71, List.forall_mem_cons.mpr ⟨lw_p72, List.forall_mem_cons.mpr ⟨lw_p73, List.forall_mem_cons.mpr ⟨lw_p74, List.forall_mem_cons.mpr ⟨lw_p75, List.forall_mem_cons.mpr ⟨lw_p76, List.forall_mem_cons.mpr ⟨lw_p77, List.forall_mem_cons.mpr ⟨lw_p78, List.forall_mem_cons.mpr ⟨lw_p79, fun _ h => absurd h List.not_mem_nil⟩⟩⟩⟩⟩⟩⟩⟩⟩⟩⟩⟩⟩⟩⟩⟩
theorem lw_p80 : lw_okq (⟨"WideMapModel", "leafFor", "(II)I"⟩, 56) := ⟨⟨by decide +kernel, by decide +kernel⟩, lw_t7 (List.mem_of_getElem? (i := 129) rfl), lw_t8 (List.mem_of_getElem? (i := 178) rfl), lw_t8 (List.mem_of_getElem? (i := 179) rfl)⟩
theorem lw_p81 : lw_okq (⟨"WideMapModel", "spotFor", "(II)I"⟩, 56) := ⟨⟨by decide +kernel, by decide +kernel⟩, lw_t7 (List.mem_of_getElem? (i := 129) rfl), lw_t8 (List.mem_of_getElem? (i := 182) rfl), lw_t8 (List.mem_of_getElem? (i := 183) rfl)⟩
theorem lw_p82 : lw_okq (⟨"WideMapModel", "lowest", "(I)I"⟩, 56) := ⟨⟨by decide +kernel, by decide +kernel⟩, lw_t7 (List.mem_of_getElem? (i := 129) rfl), lw_t8 (List.mem_of_getElem? (i := 186) rfl), lw_t8 (List.mem_of_getElem? (i := 187) rfl)⟩
theorem lw_p83 : lw_okq (⟨"WideMapModel", "spotIn", "(II)I"⟩, 56) := ⟨⟨by decide +kernel, by decide +kernel⟩, lw_t7 (List.mem_of_getElem? (i := 129) rfl), lw_t8 (List.mem_of_getElem? (i := 190) rfl), lw_t8 (List.mem_of_getElem? (i := 191) rfl)⟩
theorem lw_p84 : lw_okq (⟨"WideMapModel", "goesDown", "(III)I"⟩, 56) := ⟨⟨by decide +kernel, by decide +kernel⟩, lw_t7 (List.mem_of_getElem? (i := 129) rfl), lw_t8 (List.mem_of_getElem? (i := 194) rfl), lw_t8 (List.mem_of_getElem? (i := 195) rfl)⟩
theorem lw_p85 : lw_okq (⟨"WideMapModel", "edited", "(II)I"⟩, 56) := ⟨⟨by decide +kernel, by decide +kernel⟩, lw_t7 (List.mem_of_getElem? (i := 129) rfl), lw_t8 (List.mem_of_getElem? (i := 198) rfl), lw_t8 (List.mem_of_getElem? (i := 199) rfl)⟩
theorem lw_p86 : lw_okq (⟨"WideMapModel", "putsIn", "(IIII)V"⟩, 56) := ⟨⟨by decide +kernel, by decide +kernel⟩, lw_t7 (List.mem_of_getElem? (i := 129) rfl), lw_t8 (List.mem_of_getElem? (i := 202) rfl), lw_t8 (List.mem_of_getElem? (i := 203) rfl)⟩
theorem lw_p87 : lw_okq (⟨"WideMapModel", "parted", "(II)I"⟩, 56) := ⟨⟨by decide +kernel, by decide +kernel⟩, lw_t7 (List.mem_of_getElem? (i := 129) rfl), lw_t8 (List.mem_of_getElem? (i := 206) rfl), lw_t8 (List.mem_of_getElem? (i := 207) rfl)⟩
theorem lw_p88 : lw_okq (⟨"WideMapModel", "newMap", "(III)I"⟩, 56) := ⟨⟨by decide +kernel, by decide +kernel⟩, lw_t7 (List.mem_of_getElem? (i := 129) rfl), lw_t8 (List.mem_of_getElem? (i := 210) rfl), lw_t8 (List.mem_of_getElem? (i := 211) rfl)⟩
theorem lw_p89 : lw_okq (⟨"WideMapModel", "isMap", "(I)Z"⟩, 56) := ⟨⟨by decide +kernel, by decide +kernel⟩, lw_t7 (List.mem_of_getElem? (i := 129) rfl), lw_t8 (List.mem_of_getElem? (i := 224) rfl), lw_t8 (List.mem_of_getElem? (i := 225) rfl)⟩
theorem lw_p90 : lw_okq (⟨"WideMapModel", "laysTree", "(I)V"⟩, 56) := ⟨⟨by decide +kernel, by decide +kernel⟩, lw_t7 (List.mem_of_getElem? (i := 129) rfl), lw_t8 (List.mem_of_getElem? (i := 232) rfl), lw_t8 (List.mem_of_getElem? (i := 233) rfl)⟩
theorem lw_p91 : lw_okq (⟨"WideMapModel", "goesThrough", "(II)V"⟩, 56) := ⟨⟨by decide +kernel, by decide +kernel⟩, lw_t7 (List.mem_of_getElem? (i := 129) rfl), lw_t8 (List.mem_of_getElem? (i := 236) rfl), lw_t8 (List.mem_of_getElem? (i := 237) rfl)⟩
theorem lw_p92 : lw_okq (⟨"WideMapModel", "levels", "()I"⟩, 56) := ⟨⟨by decide +kernel, by decide +kernel⟩, lw_t7 (List.mem_of_getElem? (i := 129) rfl), lw_t9 (List.mem_of_getElem? (i := 4) rfl), lw_t9 (List.mem_of_getElem? (i := 5) rfl)⟩
theorem lw_p93 : lw_okq (⟨"WideMapModel", "leaves", "()I"⟩, 56) := ⟨⟨by decide +kernel, by decide +kernel⟩, lw_t7 (List.mem_of_getElem? (i := 129) rfl), lw_t9 (List.mem_of_getElem? (i := 9) rfl), lw_t9 (List.mem_of_getElem? (i := 10) rfl)⟩
theorem lw_p94 : lw_okq (⟨"WideMapModel", "sumOf", "(II)I"⟩, 56) := ⟨⟨by decide +kernel, by decide +kernel⟩, lw_t7 (List.mem_of_getElem? (i := 129) rfl), lw_t9 (List.mem_of_getElem? (i := 13) rfl), lw_t9 (List.mem_of_getElem? (i := 14) rfl)⟩
theorem lw_p95 : lw_okq (⟨"WideMapModel", "holders", "(I)I"⟩, 56) := ⟨⟨by decide +kernel, by decide +kernel⟩, lw_t7 (List.mem_of_getElem? (i := 129) rfl), lw_t9 (List.mem_of_getElem? (i := 34) rfl), lw_t9 (List.mem_of_getElem? (i := 35) rfl)⟩
def lw_privs_6 : List (MethodName × Nat) := [(⟨"WideMapModel", "leafFor", "(II)I"⟩, 56), (⟨"WideMapModel", "spotFor", "(II)I"⟩, 56), (⟨"WideMapModel", "lowest", "(I)I"⟩, 56), (⟨"WideMapModel", "spotIn", "(II)I"⟩, 56), (⟨"WideMapModel", "goesDown", "(III)I"⟩, 56), (⟨"WideMapModel", "edited", "(II)I"⟩, 56), (⟨"WideMapModel", "putsIn", "(IIII)V"⟩, 56), (⟨"WideMapModel", "parted", "(II)I"⟩, 56), (⟨"WideMapModel", "newMap", "(III)I"⟩, 56), (⟨"WideMapModel", "isMap", "(I)Z"⟩, 56), (⟨"WideMapModel", "laysTree", "(I)V"⟩, 56), (⟨"WideMapModel", "goesThrough", "(II)V"⟩, 56), (⟨"WideMapModel", "levels", "()I"⟩, 56), (⟨"WideMapModel", "leaves", "()I"⟩, 56), (⟨"WideMapModel", "sumOf", "(II)I"⟩, 56), (⟨"WideMapModel", "holders", "(I)I"⟩, 56)]
theorem lw_r6 : ∀ q ∈ lw_privs_6, lw_okq q := List.forall_mem_cons.mpr ⟨lw_p80, List.forall_mem_cons.mpr ⟨lw_p81, List.forall_mem_cons.mpr ⟨lw_p82, List.forall_mem_cons.mpr ⟨lw_p83, List.forall_mem_cons.mpr ⟨lw_p84, List.forall_mem_cons.mpr ⟨lw_p85, List.forall_mem_cons.mpr ⟨lw_p86, List.forall_mem_cons.mpr ⟨lw_p87, List.forall_mem_cons.mpr ⟨lw_p88, List.forall_mem_cons.mpr ⟨lw_p89, List.forall_mem_cons.mpr ⟨lw_p90, List.forall_mem_cons.mpr ⟨lw_p91, List.forall_mem_cons.mpr ⟨lw_p92, List.forall_mem_cons.mpr ⟨lw_p93, List.forall_mem_cons.mpr ⟨lw_p94, List.forall_mem_cons.mpr ⟨lw_p95, fun _ h => absurd h List.not_mem_nil⟩⟩⟩⟩⟩⟩⟩⟩⟩⟩⟩⟩⟩⟩⟩⟩
theorem lw_p96 : lw_okq (⟨"WideMapModel", "keysOf", "(I)I"⟩, 56) := ⟨⟨by decide +kernel, by decide +kernel⟩, lw_t7 (List.mem_of_getElem? (i := 129) rfl), lw_t9 (List.mem_of_getElem? (i := 38) rfl), lw_t9 (List.mem_of_getElem? (i := 39) rfl)⟩
theorem lw_p97 : lw_okq (⟨"WideMapModel", "takes", "(III)I"⟩, 56) := ⟨⟨by decide +kernel, by decide +kernel⟩, lw_t7 (List.mem_of_getElem? (i := 129) rfl), lw_t9 (List.mem_of_getElem? (i := 52) rfl), lw_t9 (List.mem_of_getElem? (i := 53) rfl)⟩
theorem lw_p98 : lw_okq (⟨"WideMapModel", "takesFrom", "(II)V"⟩, 56) := ⟨⟨by decide +kernel, by decide +kernel⟩, lw_t7 (List.mem_of_getElem? (i := 129) rfl), lw_t9 (List.mem_of_getElem? (i := 56) rfl), lw_t9 (List.mem_of_getElem? (i := 57) rfl)⟩
theorem lw_p99 : lw_okq (⟨"WideMapModel", "least", "()I"⟩, 56) := ⟨⟨by decide +kernel, by decide +kernel⟩, lw_t7 (List.mem_of_getElem? (i := 129) rfl), lw_t9 (List.mem_of_getElem? (i := 60) rfl), lw_t9 (List.mem_of_getElem? (i := 61) rfl)⟩
theorem lw_p100 : lw_okq (⟨"WideMapModel", "fills", "(III)V"⟩, 56) := ⟨⟨by decide +kernel, by decide +kernel⟩, lw_t7 (List.mem_of_getElem? (i := 129) rfl), lw_t9 (List.mem_of_getElem? (i := 64) rfl), lw_t9 (List.mem_of_getElem? (i := 65) rfl)⟩
theorem lw_p101 : lw_okq (⟨"WideMapModel", "laysTwo", "(II)V"⟩, 56) := ⟨⟨by decide +kernel, by decide +kernel⟩, lw_t7 (List.mem_of_getElem? (i := 129) rfl), lw_t9 (List.mem_of_getElem? (i := 72) rfl), lw_t9 (List.mem_of_getElem? (i := 73) rfl)⟩
theorem lw_p102 : lw_okq (⟨"WideMapModel", "laysThere", "(II)V"⟩, 56) := ⟨⟨by decide +kernel, by decide +kernel⟩, lw_t7 (List.mem_of_getElem? (i := 129) rfl), lw_t9 (List.mem_of_getElem? (i := 76) rfl), lw_t9 (List.mem_of_getElem? (i := 77) rfl)⟩
theorem lw_p103 : lw_okq (⟨"WideMapModel", "laysOwn", "(I)V"⟩, 56) := ⟨⟨by decide +kernel, by decide +kernel⟩, lw_t7 (List.mem_of_getElem? (i := 129) rfl), lw_t9 (List.mem_of_getElem? (i := 80) rfl), lw_t9 (List.mem_of_getElem? (i := 81) rfl)⟩
theorem lw_p104 : lw_okq (⟨"WideMapModel", "laysThree", "(III)V"⟩, 56) := ⟨⟨by decide +kernel, by decide +kernel⟩, lw_t7 (List.mem_of_getElem? (i := 129) rfl), lw_t9 (List.mem_of_getElem? (i := 96) rfl), lw_t9 (List.mem_of_getElem? (i := 97) rfl)⟩
theorem lw_p105 : lw_okq (⟨"WideMapModel", "asWhich", "(II)I"⟩, 56) := ⟨⟨by decide +kernel, by decide +kernel⟩, lw_t7 (List.mem_of_getElem? (i := 129) rfl), lw_t9 (List.mem_of_getElem? (i := 100) rfl), lw_t9 (List.mem_of_getElem? (i := 101) rfl)⟩
theorem lw_p106 : lw_okq (⟨"WideMapModel", "isUnlike", "(III)Z"⟩, 56) := ⟨⟨by decide +kernel, by decide +kernel⟩, lw_t7 (List.mem_of_getElem? (i := 129) rfl), lw_t9 (List.mem_of_getElem? (i := 104) rfl), lw_t9 (List.mem_of_getElem? (i := 105) rfl)⟩
theorem lw_p107 : lw_okq (⟨"WideMapModel", "isConflict", "(I)Z"⟩, 56) := ⟨⟨by decide +kernel, by decide +kernel⟩, lw_t7 (List.mem_of_getElem? (i := 129) rfl), lw_t9 (List.mem_of_getElem? (i := 108) rfl), lw_t9 (List.mem_of_getElem? (i := 109) rfl)⟩
theorem lw_p108 : lw_okq (⟨"WideMapModel", "cuts", "(IIIZI)I"⟩, 56) := ⟨⟨by decide +kernel, by decide +kernel⟩, lw_t7 (List.mem_of_getElem? (i := 129) rfl), lw_t9 (List.mem_of_getElem? (i := 120) rfl), lw_t9 (List.mem_of_getElem? (i := 121) rfl)⟩
theorem lw_p109 : lw_okq (⟨"WideMapModel", "isBuilder", "(I)Z"⟩, 56) := ⟨⟨by decide +kernel, by decide +kernel⟩, lw_t7 (List.mem_of_getElem? (i := 129) rfl), lw_t9 (List.mem_of_getElem? (i := 132) rfl), lw_t9 (List.mem_of_getElem? (i := 133) rfl)⟩
theorem lw_p110 : lw_okq (⟨"WideMapModel", "lays", "(IIIZ)I"⟩, 56) := ⟨⟨by decide +kernel, by decide +kernel⟩, lw_t7 (List.mem_of_getElem? (i := 129) rfl), lw_t9 (List.mem_of_getElem? (i := 140) rfl), lw_t9 (List.mem_of_getElem? (i := 141) rfl)⟩
theorem lw_p111 : lw_okq (⟨"WideMapModel", "stops", "(IZ)I"⟩, 56) := ⟨⟨by decide +kernel, by decide +kernel⟩, lw_t7 (List.mem_of_getElem? (i := 129) rfl), lw_t9 (List.mem_of_getElem? (i := 144) rfl), lw_t9 (List.mem_of_getElem? (i := 145) rfl)⟩
def lw_privs_7 : List (MethodName × Nat) := [(⟨"WideMapModel", "keysOf", "(I)I"⟩, 56), (⟨"WideMapModel", "takes", "(III)I"⟩, 56), (⟨"WideMapModel", "takesFrom", "(II)V"⟩, 56), (⟨"WideMapModel", "least", "()I"⟩, 56), (⟨"WideMapModel", "fills", "(III)V"⟩, 56), (⟨"WideMapModel", "laysTwo", "(II)V"⟩, 56), (⟨"WideMapModel", "laysThere", "(II)V"⟩, 56), (⟨"WideMapModel", "laysOwn", "(I)V"⟩, 56), (⟨"WideMapModel", "laysThree", "(III)V"⟩, 56), (⟨"WideMapModel", "asWhich", "(II)I"⟩, 56), (⟨"WideMapModel", "isUnlike", "(III)Z"⟩, 56), (⟨"WideMapModel", "isConflict", "(I)Z"⟩, 56), (⟨"WideMapModel", "cuts", "(IIIZI)I"⟩, 56), (⟨"WideMapModel", "isBuilder", "(I)Z"⟩, 56), (⟨"WideMapModel", "lays", "(IIIZ)I"⟩, 56), (⟨"WideMapModel", "stops", "(IZ)I"⟩, 56)]
theorem lw_r7 : ∀ q ∈ lw_privs_7, lw_okq q := List.forall_mem_cons.mpr ⟨lw_p96, List.forall_mem_cons.mpr ⟨lw_p97, List.forall_mem_cons.mpr ⟨lw_p98, List.forall_mem_cons.mpr ⟨lw_p99, List.forall_mem_cons.mpr ⟨lw_p100, List.forall_mem_cons.mpr ⟨lw_p101, List.forall_mem_cons.mpr ⟨lw_p102, List.forall_mem_cons.mpr ⟨lw_p103, List.forall_mem_cons.mpr ⟨lw_p104, List.forall_mem_cons.mpr ⟨lw_p105, List.forall_mem_cons.mpr ⟨lw_p106, List.forall_mem_cons.mpr ⟨lw_p107, List.forall_mem_cons.mpr ⟨lw_p108, List.forall_mem_cons.mpr ⟨lw_p109, List.forall_mem_cons.mpr ⟨lw_p110, List.forall_mem_cons.mpr ⟨lw_p111, fun _ h => absurd h List.not_mem_nil⟩⟩⟩⟩⟩⟩⟩⟩⟩⟩⟩⟩⟩⟩⟩⟩
theorem lw_p112 : lw_okq (⟨"WideMapModel", "isOpen", "(I)Z"⟩, 56) := ⟨⟨by decide +kernel, by decide +kernel⟩, lw_t7 (List.mem_of_getElem? (i := 129) rfl), lw_t9 (List.mem_of_getElem? (i := 148) rfl), lw_t9 (List.mem_of_getElem? (i := 149) rfl)⟩
theorem lw_p113 : lw_okq (⟨"WideMapModel", "canPut", "(II)Z"⟩, 56) := ⟨⟨by decide +kernel, by decide +kernel⟩, lw_t7 (List.mem_of_getElem? (i := 129) rfl), lw_t9 (List.mem_of_getElem? (i := 152) rfl), lw_t9 (List.mem_of_getElem? (i := 153) rfl)⟩
theorem lw_p114 : lw_okq (⟨"WideMapModel", "builderAdds", "(III)V"⟩, 56) := ⟨⟨by decide +kernel, by decide +kernel⟩, lw_t7 (List.mem_of_getElem? (i := 129) rfl), lw_t9 (List.mem_of_getElem? (i := 156) rfl), lw_t9 (List.mem_of_getElem? (i := 157) rfl)⟩
theorem lw_p115 : lw_okq (⟨"WideMapModel", "builderPuts", "(III)V"⟩, 56) := ⟨⟨by decide +kernel, by decide +kernel⟩, lw_t7 (List.mem_of_getElem? (i := 129) rfl), lw_t9 (List.mem_of_getElem? (i := 160) rfl), lw_t9 (List.mem_of_getElem? (i := 161) rfl)⟩
theorem lw_p116 : lw_okq (⟨"WideMapModel", "builderIncs", "(IIII)V"⟩, 56) := ⟨⟨by decide +kernel, by decide +kernel⟩, lw_t7 (List.mem_of_getElem? (i := 129) rfl), lw_t9 (List.mem_of_getElem? (i := 180) rfl), lw_t9 (List.mem_of_getElem? (i := 181) rfl)⟩
theorem lw_p117 : lw_okq (⟨"WideMapModel", "snapped", "(I)I"⟩, 56) := ⟨⟨by decide +kernel, by decide +kernel⟩, lw_t7 (List.mem_of_getElem? (i := 129) rfl), lw_t9 (List.mem_of_getElem? (i := 188) rfl), lw_t9 (List.mem_of_getElem? (i := 189) rfl)⟩
theorem lw_p118 : lw_okq (⟨"WideMapModel", "ownNodes", "(I)I"⟩, 56) := ⟨⟨by decide +kernel, by decide +kernel⟩, lw_t7 (List.mem_of_getElem? (i := 129) rfl), lw_t9 (List.mem_of_getElem? (i := 205) rfl), lw_t9 (List.mem_of_getElem? (i := 206) rfl)⟩
theorem lw_p119 : lw_okq (⟨"WideMapModel", "draw", "(I)I"⟩, 56) := ⟨⟨by decide +kernel, by decide +kernel⟩, lw_t7 (List.mem_of_getElem? (i := 129) rfl), lw_t9 (List.mem_of_getElem? (i := 214) rfl), lw_t9 (List.mem_of_getElem? (i := 215) rfl)⟩
theorem lw_p120 : lw_okq (⟨"WideMapModel", "goesStep", "(II)Z"⟩, 56) := ⟨⟨by decide +kernel, by decide +kernel⟩, lw_t7 (List.mem_of_getElem? (i := 129) rfl), lw_t9 (List.mem_of_getElem? (i := 228) rfl), lw_t9 (List.mem_of_getElem? (i := 229) rfl)⟩
theorem lw_p121 : lw_okq (⟨"WideMapModel", "sharedBy", "(II)I"⟩, 56) := ⟨⟨by decide +kernel, by decide +kernel⟩, lw_t7 (List.mem_of_getElem? (i := 129) rfl), lw_t9 (List.mem_of_getElem? (i := 236) rfl), lw_t9 (List.mem_of_getElem? (i := 237) rfl)⟩
theorem lw_p122 : lw_okq (⟨"WideMapModel", "holdSame", "(II)Z"⟩, 56) := ⟨⟨by decide +kernel, by decide +kernel⟩, lw_t7 (List.mem_of_getElem? (i := 129) rfl), lw_t10 (List.mem_of_getElem? (i := 12) rfl), lw_t10 (List.mem_of_getElem? (i := 13) rfl)⟩
theorem lw_p123 : lw_okq (⟨"WideMapModel", "areNodesAlike", "(II)Z"⟩, 56) := ⟨⟨by decide +kernel, by decide +kernel⟩, lw_t7 (List.mem_of_getElem? (i := 129) rfl), lw_t10 (List.mem_of_getElem? (i := 16) rfl), lw_t10 (List.mem_of_getElem? (i := 17) rfl)⟩
theorem lw_p124 : lw_okq (⟨"WideMapModel", "laysSources", "(II)V"⟩, 56) := ⟨⟨by decide +kernel, by decide +kernel⟩, lw_t7 (List.mem_of_getElem? (i := 129) rfl), lw_t10 (List.mem_of_getElem? (i := 24) rfl), lw_t10 (List.mem_of_getElem? (i := 25) rfl)⟩
theorem lw_p125 : lw_okq (⟨"WideMapModel", "laysShown", "(I)V"⟩, 56) := ⟨⟨by decide +kernel, by decide +kernel⟩, lw_t7 (List.mem_of_getElem? (i := 129) rfl), lw_t10 (List.mem_of_getElem? (i := 36) rfl), lw_t10 (List.mem_of_getElem? (i := 37) rfl)⟩
theorem lw_p126 : lw_okq (⟨"WideMapModel", "writesNode", "(I)V"⟩, 56) := ⟨⟨by decide +kernel, by decide +kernel⟩, lw_t7 (List.mem_of_getElem? (i := 129) rfl), lw_t10 (List.mem_of_getElem? (i := 40) rfl), lw_t10 (List.mem_of_getElem? (i := 41) rfl)⟩
theorem lw_p127 : lw_okq (⟨"WideMapModel", "writes", "(I)V"⟩, 56) := ⟨⟨by decide +kernel, by decide +kernel⟩, lw_t7 (List.mem_of_getElem? (i := 129) rfl), lw_t10 (List.mem_of_getElem? (i := 44) rfl), lw_t10 (List.mem_of_getElem? (i := 45) rfl)⟩
def lw_privs_8 : List (MethodName × Nat) := [(⟨"WideMapModel", "isOpen", "(I)Z"⟩, 56), (⟨"WideMapModel", "canPut", "(II)Z"⟩, 56), (⟨"WideMapModel", "builderAdds", "(III)V"⟩, 56), (⟨"WideMapModel", "builderPuts", "(III)V"⟩, 56), (⟨"WideMapModel", "builderIncs", "(IIII)V"⟩, 56), (⟨"WideMapModel", "snapped", "(I)I"⟩, 56), (⟨"WideMapModel", "ownNodes", "(I)I"⟩, 56), (⟨"WideMapModel", "draw", "(I)I"⟩, 56), (⟨"WideMapModel", "goesStep", "(II)Z"⟩, 56), (⟨"WideMapModel", "sharedBy", "(II)I"⟩, 56), (⟨"WideMapModel", "holdSame", "(II)Z"⟩, 56), (⟨"WideMapModel", "areNodesAlike", "(II)Z"⟩, 56), (⟨"WideMapModel", "laysSources", "(II)V"⟩, 56), (⟨"WideMapModel", "laysShown", "(I)V"⟩, 56), (⟨"WideMapModel", "writesNode", "(I)V"⟩, 56), (⟨"WideMapModel", "writes", "(I)V"⟩, 56)]
theorem lw_r8 : ∀ q ∈ lw_privs_8, lw_okq q := List.forall_mem_cons.mpr ⟨lw_p112, List.forall_mem_cons.mpr ⟨lw_p113, List.forall_mem_cons.mpr ⟨lw_p114, List.forall_mem_cons.mpr ⟨lw_p115, List.forall_mem_cons.mpr ⟨lw_p116, List.forall_mem_cons.mpr ⟨lw_p117, List.forall_mem_cons.mpr ⟨lw_p118, List.forall_mem_cons.mpr ⟨lw_p119, List.forall_mem_cons.mpr ⟨lw_p120, List.forall_mem_cons.mpr ⟨lw_p121, List.forall_mem_cons.mpr ⟨lw_p122, List.forall_mem_cons.mpr ⟨lw_p123, List.forall_mem_cons.mpr ⟨lw_p124, List.forall_mem_cons.mpr ⟨lw_p125, List.forall_mem_cons.mpr ⟨lw_p126, List.forall_mem_cons.mpr ⟨lw_p127, fun _ h => absurd h List.not_mem_nil⟩⟩⟩⟩⟩⟩⟩⟩⟩⟩⟩⟩⟩⟩⟩⟩
theorem lw_p128 : lw_okq (⟨"WideMapModel", "writesNumber", "(I)V"⟩, 56) := ⟨⟨by decide +kernel, by decide +kernel⟩, lw_t7 (List.mem_of_getElem? (i := 129) rfl), lw_t10 (List.mem_of_getElem? (i := 48) rfl), lw_t10 (List.mem_of_getElem? (i := 49) rfl)⟩
theorem lw_p129 : lw_okq (⟨"WideMapModel", "live", "()I"⟩, 56) := ⟨⟨by decide +kernel, by decide +kernel⟩, lw_t7 (List.mem_of_getElem? (i := 129) rfl), lw_t10 (List.mem_of_getElem? (i := 81) rfl), lw_t10 (List.mem_of_getElem? (i := 82) rfl)⟩
def lw_privs_9 : List (MethodName × Nat) := [(⟨"WideMapModel", "writesNumber", "(I)V"⟩, 56), (⟨"WideMapModel", "live", "()I"⟩, 56)]
theorem lw_r9 : ∀ q ∈ lw_privs_9, lw_okq q := List.forall_mem_cons.mpr ⟨lw_p128, List.forall_mem_cons.mpr ⟨lw_p129, fun _ h => absurd h List.not_mem_nil⟩⟩
def lw_privs : List (MethodName × Nat) := lw_privs_1 ++ (lw_privs_2 ++ (lw_privs_3 ++ (lw_privs_4 ++ (lw_privs_5 ++ (lw_privs_6 ++ (lw_privs_7 ++ (lw_privs_8 ++ (lw_privs_9))))))))
def lw_tbl : List Cond := k2_sels lw_privs ++ tables_1
theorem lw_privs_ok : ∀ q ∈ lw_privs, lw_okq q := by
  show ∀ q ∈ lw_privs_1 ++ (lw_privs_2 ++ (lw_privs_3 ++ (lw_privs_4 ++ (lw_privs_5 ++ (lw_privs_6 ++ (lw_privs_7 ++ (lw_privs_8 ++ (lw_privs_9)))))))), lw_okq q
  exact List.forall_mem_append.mpr ⟨lw_r1, List.forall_mem_append.mpr ⟨lw_r2, List.forall_mem_append.mpr ⟨lw_r3, List.forall_mem_append.mpr ⟨lw_r4, List.forall_mem_append.mpr ⟨lw_r5, List.forall_mem_append.mpr ⟨lw_r6, List.forall_mem_append.mpr ⟨lw_r7, List.forall_mem_append.mpr ⟨lw_r8, lw_r9⟩⟩⟩⟩⟩⟩⟩⟩
-- ===== ONE list of words for every method: the tables' words that hold all through a run =====
def lw_all : List Cond := lw_tbl.filter goodWord
/-- a word of the tables by its place: claim/WORDS.tsv -/
theorem lw_w {w : Cond} (i : Nat) (h : lw_tbl[i]? = some w) (g : goodWord w = true) : w ∈ lw_all := List.mem_filter.mpr ⟨List.mem_of_getElem? h, g⟩
theorem lw_all_tbl {w : Cond} (h : w ∈ lw_all) : w ∈ lw_tbl := (List.mem_filter.mp h).1
theorem lw_self : GoodIn lw_all lw_all := fun w h => ⟨h, good_of_word (List.mem_filter.mp h).2⟩
/-- a class's field words, by their places -/
theorem lw_in (ws : List Cond) (ps : List Nat) (hp : ws = ps.filterMap (fun i => lw_tbl[i]?)) (hg : ws.all goodWord = true) : ∀ w ∈ ws, w ∈ lw_all := by
  intro w h
  have h1 := List.all_eq_true.mp hg w h
  rw [hp] at h
  obtain ⟨i, -, hi⟩ := List.mem_filterMap.mp h
  exact lw_w i hi h1
/-- the words of a contract for the method y with code b, L locals, answer r -/
abbrev ws_ (y : MethodName) (b : ByteArray) (L : Nat) (r : Option FieldType) : List Cond := Cond.code y b L r :: lw_all
theorem lw_meth {y : MethodName} {b : ByteArray} {L : Nat} {r : Option FieldType} (h : Cond.code y b L r ∈ lw_all) : GoodIn lw_all (ws_ y b L r) := by
  intro w hw
  rcases List.mem_cons.mp hw with e | e
  · rw [e]
    exact lw_self _ h
  · exact lw_self _ e
theorem lw_app {a c : List Cond} (ha : ∀ w ∈ a, w ∈ lw_all) (hc : GoodIn lw_all c) : GoodIn lw_all (a ++ c) := by
  intro w hw
  rcases List.mem_append.mp hw with e | e
  · exact lw_self w (ha w e)
  · exact hc w e
/-- what a call through an object asks: cwV n hts (lw_V ..) -/
theorem lw_V {own : String} {idx : Nat} {C : String} {y : MethodName} {b : ByteArray} {L : Nat} {r : Option FieldType} (h1 : Cond.methodLink own idx y ∈ lw_all) (h2 : Cond.instanceMethod y ∈ lw_all) (h3 : Cond.selects C y y ∈ lw_all) (h4 : Cond.initialized C ∈ lw_all) (h5 : Cond.code y b L r ∈ lw_all) : GoodIn lw_all (wsV own idx C y (ws_ y b L r)) := by
  refine lw_app ?_ (lw_meth h5)
  intro w hw
  simp only [List.mem_cons, List.not_mem_nil, or_false] at hw
  rcases hw with e | e | e | e
  · rw [e]; exact h1
  · rw [e]; exact h2
  · rw [e]; exact h3
  · rw [e]; exact h4
/-- what a static call asks: va_cwS n hts (lw_S ..) -/
theorem lw_S {own : String} {idx : Nat} {y : MethodName} {b : ByteArray} {L : Nat} {r : Option FieldType} (h1 : Cond.methodLink own idx y ∈ lw_all) (h2 : Cond.static y ∈ lw_all) (h3 : Cond.initialized y.cls ∈ lw_all) (h4 : Cond.code y b L r ∈ lw_all) : GoodIn lw_all (va_wsS own idx y (ws_ y b L r)) := by
  refine lw_app ?_ (lw_meth h4)
  intro w hw
  simp only [List.mem_cons, List.not_mem_nil, or_false] at hw
  rcases hw with e | e | e
  · rw [e]; exact h1
  · rw [e]; exact h2
  · rw [e]; exact h3
/-- the words of a contract for a method WITH HANDLERS (hh: its table) -/
abbrev wsW_ (y : MethodName) (b : ByteArray) (L : Nat) (r : Option FieldType) (hh : List (Nat × Nat × Nat × Nat)) : List Cond := Cond.codeWith y b L r hh :: lw_all
theorem lw_methW {y : MethodName} {b : ByteArray} {L : Nat} {r : Option FieldType} {hh : List (Nat × Nat × Nat × Nat)} (h : Cond.codeWith y b L r hh ∈ lw_all) : GoodIn lw_all (wsW_ y b L r hh) := by
  intro w hw
  rcases List.mem_cons.mp hw with e | e
  · rw [e]
    exact lw_self _ h
  · exact lw_self _ e
/-- any list of words by their places (lw_in), good -/
theorem lw_good {ws : List Cond} (h : ∀ w ∈ ws, w ∈ lw_all) : GoodIn lw_all ws := fun w hw => lw_self w (h w hw)
/-- what a call of a method with handlers asks: vx_cwVW n hts (lw_VW ..), vx_cwSW n hts (lw_SW ..) -/
theorem lw_VW {own : String} {idx : Nat} {C : String} {y : MethodName} {b : ByteArray} {L : Nat} {r : Option FieldType} {hh : List (Nat × Nat × Nat × Nat)} (h1 : Cond.methodLink own idx y ∈ lw_all) (h2 : Cond.instanceMethod y ∈ lw_all) (h3 : Cond.selects C y y ∈ lw_all) (h4 : Cond.initialized C ∈ lw_all) (h5 : Cond.codeWith y b L r hh ∈ lw_all) : GoodIn lw_all (wsV own idx C y (wsW_ y b L r hh)) := by
  refine lw_app ?_ (lw_methW h5)
  intro w hw
  simp only [List.mem_cons, List.not_mem_nil, or_false] at hw
  rcases hw with e | e | e | e
  · rw [e]; exact h1
  · rw [e]; exact h2
  · rw [e]; exact h3
  · rw [e]; exact h4
theorem lw_SW {own : String} {idx : Nat} {y : MethodName} {b : ByteArray} {L : Nat} {r : Option FieldType} {hh : List (Nat × Nat × Nat × Nat)} (h1 : Cond.methodLink own idx y ∈ lw_all) (h2 : Cond.static y ∈ lw_all) (h3 : Cond.initialized y.cls ∈ lw_all) (h4 : Cond.codeWith y b L r hh ∈ lw_all) : GoodIn lw_all (va_wsS own idx y (wsW_ y b L r hh)) := by
  refine lw_app ?_ (lw_methW h4)
  intro w hw
  simp only [List.mem_cons, List.not_mem_nil, or_false] at hw
  rcases hw with e | e | e
  · rw [e]; exact h1
  · rw [e]; exact h2
  · rw [e]; exact h3
/-- a word by its place in its run of the tables -/
theorem lw_at {r : List Cond} (hr : ∀ w ∈ r, w ∈ lw_tbl) {w : Cond} (i : Nat) (h : r[i]? = some w) : w ∈ lw_tbl := hr w (List.mem_of_getElem? h)
theorem lw_g {w : Cond} (h : w ∈ lw_tbl) (g : goodWord w = true) : w ∈ lw_all := List.mem_filter.mpr ⟨h, g⟩
theorem lw_ms : ∀ w ∈ k2_sels lw_privs, w ∈ lw_tbl := fun w h => show w ∈ k2_sels lw_privs ++ tables_1 from List.mem_append_left _ h
theorem lw_m1 : ∀ w ∈ tables_1_1, w ∈ lw_tbl := fun w h => show w ∈ k2_sels lw_privs ++ tables_1 from List.mem_append_right (k2_sels lw_privs) (show w ∈ tables_1 from List.mem_append_left _ h)
theorem lw_m2 : ∀ w ∈ tables_1_2, w ∈ lw_tbl := fun w h => show w ∈ k2_sels lw_privs ++ tables_1 from List.mem_append_right (k2_sels lw_privs) (show w ∈ tables_1 from List.mem_append_right _ (List.mem_append_left _ h))
theorem lw_m3 : ∀ w ∈ tables_1_3, w ∈ lw_tbl := fun w h => show w ∈ k2_sels lw_privs ++ tables_1 from List.mem_append_right (k2_sels lw_privs) (show w ∈ tables_1 from List.mem_append_right _ (List.mem_append_right _ (List.mem_append_left _ h)))
theorem lw_m4 : ∀ w ∈ tables_1_4, w ∈ lw_tbl := fun w h => show w ∈ k2_sels lw_privs ++ tables_1 from List.mem_append_right (k2_sels lw_privs) (show w ∈ tables_1 from List.mem_append_right _ (List.mem_append_right _ (List.mem_append_right _ (List.mem_append_left _ h))))
theorem lw_m5 : ∀ w ∈ tables_1_5, w ∈ lw_tbl := fun w h => show w ∈ k2_sels lw_privs ++ tables_1 from List.mem_append_right (k2_sels lw_privs) (show w ∈ tables_1 from List.mem_append_right _ (List.mem_append_right _ (List.mem_append_right _ (List.mem_append_right _ (List.mem_append_left _ h)))))
theorem lw_m6 : ∀ w ∈ tables_1_6, w ∈ lw_tbl := fun w h => show w ∈ k2_sels lw_privs ++ tables_1 from List.mem_append_right (k2_sels lw_privs) (show w ∈ tables_1 from List.mem_append_right _ (List.mem_append_right _ (List.mem_append_right _ (List.mem_append_right _ (List.mem_append_right _ (List.mem_append_left _ h))))))
theorem lw_m7 : ∀ w ∈ tables_1_7, w ∈ lw_tbl := fun w h => show w ∈ k2_sels lw_privs ++ tables_1 from List.mem_append_right (k2_sels lw_privs) (show w ∈ tables_1 from List.mem_append_right _ (List.mem_append_right _ (List.mem_append_right _ (List.mem_append_right _ (List.mem_append_right _ (List.mem_append_right _ (List.mem_append_left _ h)))))))
theorem lw_m8 : ∀ w ∈ tables_1_8, w ∈ lw_tbl := fun w h => show w ∈ k2_sels lw_privs ++ tables_1 from List.mem_append_right (k2_sels lw_privs) (show w ∈ tables_1 from List.mem_append_right _ (List.mem_append_right _ (List.mem_append_right _ (List.mem_append_right _ (List.mem_append_right _ (List.mem_append_right _ (List.mem_append_right _ (List.mem_append_left _ h))))))))
theorem lw_m9 : ∀ w ∈ tables_1_9, w ∈ lw_tbl := fun w h => show w ∈ k2_sels lw_privs ++ tables_1 from List.mem_append_right (k2_sels lw_privs) (show w ∈ tables_1 from List.mem_append_right _ (List.mem_append_right _ (List.mem_append_right _ (List.mem_append_right _ (List.mem_append_right _ (List.mem_append_right _ (List.mem_append_right _ (List.mem_append_right _ (List.mem_append_left _ h)))))))))
theorem lw_m10 : ∀ w ∈ tables_1_10, w ∈ lw_tbl := fun w h => show w ∈ k2_sels lw_privs ++ tables_1 from List.mem_append_right (k2_sels lw_privs) (show w ∈ tables_1 from List.mem_append_right _ (List.mem_append_right _ (List.mem_append_right _ (List.mem_append_right _ (List.mem_append_right _ (List.mem_append_right _ (List.mem_append_right _ (List.mem_append_right _ (List.mem_append_right _ h)))))))))
theorem qs0 : (Cond.selects "java/lang/Throwable" ⟨"java/lang/Throwable", "fillInStackTrace", "(I)Ljava/lang/Throwable;"⟩ ⟨"java/lang/Throwable", "fillInStackTrace", "(I)Ljava/lang/Throwable;"⟩) ∈ lw_all := lw_g (lw_at lw_ms 0 rfl) rfl
theorem qs1 : (Cond.selects "WideMap" ⟨"WideMap", "opens", "(I)V"⟩ ⟨"WideMap", "opens", "(I)V"⟩) ∈ lw_all := lw_g (lw_at lw_ms 1 rfl) rfl
theorem qs2 : (Cond.selects "WideMap" ⟨"WideMap", "stales", "(I)V"⟩ ⟨"WideMap", "stales", "(I)V"⟩) ∈ lw_all := lw_g (lw_at lw_ms 2 rfl) rfl
theorem qs3 : (Cond.selects "WideMap" ⟨"WideMap", "wholeMap", "()V"⟩ ⟨"WideMap", "wholeMap", "()V"⟩) ∈ lw_all := lw_g (lw_at lw_ms 3 rfl) rfl
theorem qs4 : (Cond.selects "WideMap" ⟨"WideMap", "next", "()I"⟩ ⟨"WideMap", "next", "()I"⟩) ∈ lw_all := lw_g (lw_at lw_ms 4 rfl) rfl
theorem qs5 : (Cond.selects "WideMap" ⟨"WideMap", "here", "()I"⟩ ⟨"WideMap", "here", "()I"⟩) ∈ lw_all := lw_g (lw_at lw_ms 5 rfl) rfl
theorem qs6 : (Cond.selects "WideMap" ⟨"WideMap", "keyRead", "()I"⟩ ⟨"WideMap", "keyRead", "()I"⟩) ∈ lw_all := lw_g (lw_at lw_ms 6 rfl) rfl
theorem qs7 : (Cond.selects "WideMap" ⟨"WideMap", "digits", "()I"⟩ ⟨"WideMap", "digits", "()I"⟩) ∈ lw_all := lw_g (lw_at lw_ms 7 rfl) rfl
theorem qs8 : (Cond.selects "WideMap" ⟨"WideMap", "must", "(Z)V"⟩ ⟨"WideMap", "must", "(Z)V"⟩) ∈ lw_all := lw_g (lw_at lw_ms 8 rfl) rfl
theorem qs9 : (Cond.selects "WideMap" ⟨"WideMap", "valueRead", "()I"⟩ ⟨"WideMap", "valueRead", "()I"⟩) ∈ lw_all := lw_g (lw_at lw_ms 9 rfl) rfl
theorem qs10 : (Cond.selects "WideMap" ⟨"WideMap", "wholeProgram", "(I)V"⟩ ⟨"WideMap", "wholeProgram", "(I)V"⟩) ∈ lw_all := lw_g (lw_at lw_ms 10 rfl) rfl
theorem qs11 : (Cond.selects "WideMap" ⟨"WideMap", "stepRead", "(I)V"⟩ ⟨"WideMap", "stepRead", "(I)V"⟩) ∈ lw_all := lw_g (lw_at lw_ms 11 rfl) rfl
theorem qs12 : (Cond.selects "WideMap" ⟨"WideMap", "word", "()Ljava/lang/String;"⟩ ⟨"WideMap", "word", "()Ljava/lang/String;"⟩) ∈ lw_all := lw_g (lw_at lw_ms 12 rfl) rfl
theorem qs13 : (Cond.selects "WideMap" ⟨"WideMap", "beginsWord", "(Ljava/lang/String;)Z"⟩ ⟨"WideMap", "beginsWord", "(Ljava/lang/String;)Z"⟩) ∈ lw_all := lw_g (lw_at lw_ms 13 rfl) rfl
theorem qs14 : (Cond.selects "WideMap" ⟨"WideMap", "programRead", "()I"⟩ ⟨"WideMap", "programRead", "()I"⟩) ∈ lw_all := lw_g (lw_at lw_ms 14 rfl) rfl
theorem qs15 : (Cond.selects "WideMap" ⟨"WideMap", "isRoom", "()Z"⟩ ⟨"WideMap", "isRoom", "()Z"⟩) ∈ lw_all := lw_g (lw_at lw_ms 15 rfl) rfl
theorem qs16 : (Cond.selects "WideMap" ⟨"WideMap", "isRefused", "(I)Z"⟩ ⟨"WideMap", "isRefused", "(I)Z"⟩) ∈ lw_all := lw_g (lw_at lw_ms 16 rfl) rfl
theorem qs17 : (Cond.selects "WideMap" ⟨"WideMap", "work", "(LWideMap$Node;LWideMap$Token;)V"⟩ ⟨"WideMap", "work", "(LWideMap$Node;LWideMap$Token;)V"⟩) ∈ lw_all := lw_g (lw_at lw_ms 17 rfl) rfl
theorem qs18 : (Cond.selects "WideMap" ⟨"WideMap", "layNow", "(II)V"⟩ ⟨"WideMap", "layNow", "(II)V"⟩) ∈ lw_all := lw_g (lw_at lw_ms 18 rfl) rfl
theorem qs19 : (Cond.selects "WideMap$Leaf" ⟨"WideMap$Leaf", "put", "(III)V"⟩ ⟨"WideMap$Leaf", "put", "(III)V"⟩) ∈ lw_all := lw_g (lw_at lw_ms 19 rfl) rfl
theorem qs20 : (Cond.selects "WideMap$Leaf" ⟨"WideMap$Leaf", "placeOf", "(I)I"⟩ ⟨"WideMap$Leaf", "placeOf", "(I)I"⟩) ∈ lw_all := lw_g (lw_at lw_ms 20 rfl) rfl
theorem qs21 : (Cond.selects "WideMap$Leaf" ⟨"WideMap$Leaf", "makeRoom", "(I)V"⟩ ⟨"WideMap$Leaf", "makeRoom", "(I)V"⟩) ∈ lw_all := lw_g (lw_at lw_ms 21 rfl) rfl
theorem qs22 : (Cond.selects "WideMap$Inner" ⟨"WideMap$Inner", "makeRoom", "(I)V"⟩ ⟨"WideMap$Inner", "makeRoom", "(I)V"⟩) ∈ lw_all := lw_g (lw_at lw_ms 22 rfl) rfl
theorem qs23 : (Cond.selects "WideMap" ⟨"WideMap", "holds", "(LWideMap$Node;II)I"⟩ ⟨"WideMap", "holds", "(LWideMap$Node;II)I"⟩) ∈ lw_all := lw_g (lw_at lw_ms 23 rfl) rfl
theorem qs24 : (Cond.selects "WideMap" ⟨"WideMap", "isMap", "(I)Z"⟩ ⟨"WideMap", "isMap", "(I)Z"⟩) ∈ lw_all := lw_g (lw_at lw_ms 24 rfl) rfl
theorem qs25 : (Cond.selects "WideMap" ⟨"WideMap", "placeOf", "(I)I"⟩ ⟨"WideMap", "placeOf", "(I)I"⟩) ∈ lw_all := lw_g (lw_at lw_ms 25 rfl) rfl
theorem qs26 : (Cond.selects "WideMap" ⟨"WideMap", "rootOf", "(I)LWideMap$Node;"⟩ ⟨"WideMap", "rootOf", "(I)LWideMap$Node;"⟩) ∈ lw_all := lw_g (lw_at lw_ms 26 rfl) rfl
theorem qs27 : (Cond.selects "WideMap" ⟨"WideMap", "totalOf", "(LWideMap$Node;II)I"⟩ ⟨"WideMap", "totalOf", "(LWideMap$Node;II)I"⟩) ∈ lw_all := lw_g (lw_at lw_ms 27 rfl) rfl
theorem qs28 : (Cond.selects "WideMap" ⟨"WideMap", "flat", "(LWideMap$Node;)I"⟩ ⟨"WideMap", "flat", "(LWideMap$Node;)I"⟩) ∈ lw_all := lw_g (lw_at lw_ms 28 rfl) rfl
theorem qs29 : (Cond.selects "WideMap" ⟨"WideMap", "flatten", "(LWideMap$Node;)V"⟩ ⟨"WideMap", "flatten", "(LWideMap$Node;)V"⟩) ∈ lw_all := lw_g (lw_at lw_ms 29 rfl) rfl
theorem qs30 : (Cond.selects "WideMap" ⟨"WideMap", "seek", "(LWideMap$Node;I)LWideMap$Node;"⟩ ⟨"WideMap", "seek", "(LWideMap$Node;I)LWideMap$Node;"⟩) ∈ lw_all := lw_g (lw_at lw_ms 30 rfl) rfl
theorem qs31 : (Cond.selects "WideMap" ⟨"WideMap", "inHowMany", "(LWideMap$Node;)I"⟩ ⟨"WideMap", "inHowMany", "(LWideMap$Node;)I"⟩) ∈ lw_all := lw_g (lw_at lw_ms 31 rfl) rfl
theorem qs32 : (Cond.selects "WideMap" ⟨"WideMap", "canLay", "(LWideMap$Node;I)Z"⟩ ⟨"WideMap", "canLay", "(LWideMap$Node;I)Z"⟩) ∈ lw_all := lw_g (lw_at lw_ms 32 rfl) rfl
theorem qs33 : (Cond.selects "WideMap" ⟨"WideMap", "takeNow", "(I)V"⟩ ⟨"WideMap", "takeNow", "(I)V"⟩) ∈ lw_all := lw_g (lw_at lw_ms 33 rfl) rfl
theorem qs34 : (Cond.selects "WideMap$Leaf" ⟨"WideMap$Leaf", "close", "(I)V"⟩ ⟨"WideMap$Leaf", "close", "(I)V"⟩) ∈ lw_all := lw_g (lw_at lw_ms 34 rfl) rfl
theorem qs35 : (Cond.selects "WideMap$Inner" ⟨"WideMap$Inner", "mend", "(LWideMap$Token;II)V"⟩ ⟨"WideMap$Inner", "mend", "(LWideMap$Token;II)V"⟩) ∈ lw_all := lw_g (lw_at lw_ms 35 rfl) rfl
theorem qs36 : (Cond.selects "WideMap$Inner" ⟨"WideMap$Inner", "close", "(I)V"⟩ ⟨"WideMap$Inner", "close", "(I)V"⟩) ∈ lw_all := lw_g (lw_at lw_ms 36 rfl) rfl
theorem qs37 : (Cond.selects "WideMap" ⟨"WideMap", "unionOf", "(LWideMap$Node;LWideMap$Node;)I"⟩ ⟨"WideMap", "unionOf", "(LWideMap$Node;LWideMap$Node;)I"⟩) ∈ lw_all := lw_g (lw_at lw_ms 37 rfl) rfl
theorem qs38 : (Cond.selects "WideMap" ⟨"WideMap", "mergeNow", "(LWideMap$Node;LWideMap$Node;II)V"⟩ ⟨"WideMap", "mergeNow", "(LWideMap$Node;LWideMap$Node;II)V"⟩) ∈ lw_all := lw_g (lw_at lw_ms 38 rfl) rfl
theorem qs39 : (Cond.selects "WideMap" ⟨"WideMap", "whyNotThree", "(IIII)I"⟩ ⟨"WideMap", "whyNotThree", "(IIII)I"⟩) ∈ lw_all := lw_g (lw_at lw_ms 39 rfl) rfl
theorem qs40 : (Cond.selects "WideMap" ⟨"WideMap", "threeMany", "(LWideMap$Node;LWideMap$Node;LWideMap$Node;I)I"⟩ ⟨"WideMap", "threeMany", "(LWideMap$Node;LWideMap$Node;LWideMap$Node;I)I"⟩) ∈ lw_all := lw_g (lw_at lw_ms 40 rfl) rfl
theorem qs41 : (Cond.selects "WideMap" ⟨"WideMap", "becomes", "(II)V"⟩ ⟨"WideMap", "becomes", "(II)V"⟩) ∈ lw_all := lw_g (lw_at lw_ms 41 rfl) rfl
theorem qs42 : (Cond.selects "WideMap" ⟨"WideMap", "cutNow", "(II)V"⟩ ⟨"WideMap", "cutNow", "(II)V"⟩) ∈ lw_all := lw_g (lw_at lw_ms 42 rfl) rfl
theorem qs43 : (Cond.selects "WideMap" ⟨"WideMap", "isBuilder", "(I)Z"⟩ ⟨"WideMap", "isBuilder", "(I)Z"⟩) ∈ lw_all := lw_g (lw_at lw_ms 43 rfl) rfl
theorem qs44 : (Cond.selects "WideMap" ⟨"WideMap", "whyNotLaid", "(III)I"⟩ ⟨"WideMap", "whyNotLaid", "(III)I"⟩) ∈ lw_all := lw_g (lw_at lw_ms 44 rfl) rfl
theorem qs45 : (Cond.selects "WideMap" ⟨"WideMap", "whyNot", "(IZ)I"⟩ ⟨"WideMap", "whyNot", "(IZ)I"⟩) ∈ lw_all := lw_g (lw_at lw_ms 45 rfl) rfl
theorem qs46 : (Cond.selects "WideMap" ⟨"WideMap", "isStale", "(I)Z"⟩ ⟨"WideMap", "isStale", "(I)Z"⟩) ∈ lw_all := lw_g (lw_at lw_ms 46 rfl) rfl
theorem qs47 : (Cond.selects "WideMap" ⟨"WideMap", "begins", "(I)I"⟩ ⟨"WideMap", "begins", "(I)I"⟩) ∈ lw_all := lw_g (lw_at lw_ms 47 rfl) rfl
theorem qs48 : (Cond.selects "WideMap" ⟨"WideMap", "ends", "(II)I"⟩ ⟨"WideMap", "ends", "(II)I"⟩) ∈ lw_all := lw_g (lw_at lw_ms 48 rfl) rfl
theorem qs49 : (Cond.selects "WideMap" ⟨"WideMap", "addNow", "(II)V"⟩ ⟨"WideMap", "addNow", "(II)V"⟩) ∈ lw_all := lw_g (lw_at lw_ms 49 rfl) rfl
theorem qs50 : (Cond.selects "WideMap" ⟨"WideMap", "raiseNow", "(III)V"⟩ ⟨"WideMap", "raiseNow", "(III)V"⟩) ∈ lw_all := lw_g (lw_at lw_ms 50 rfl) rfl
theorem qs51 : (Cond.selects "WideMap" ⟨"WideMap", "snapNow", "(I)I"⟩ ⟨"WideMap", "snapNow", "(I)I"⟩) ∈ lw_all := lw_g (lw_at lw_ms 51 rfl) rfl
theorem qs52 : (Cond.selects "WideMap" ⟨"WideMap", "drawOne", "()V"⟩ ⟨"WideMap", "drawOne", "()V"⟩) ∈ lw_all := lw_g (lw_at lw_ms 52 rfl) rfl
theorem qs53 : (Cond.selects "WideMap" ⟨"WideMap", "draw", "(I)I"⟩ ⟨"WideMap", "draw", "(I)I"⟩) ∈ lw_all := lw_g (lw_at lw_ms 53 rfl) rfl
theorem qs54 : (Cond.selects "WideMap" ⟨"WideMap", "doStep", "(II)Z"⟩ ⟨"WideMap", "doStep", "(II)Z"⟩) ∈ lw_all := lw_g (lw_at lw_ms 54 rfl) rfl
theorem qs55 : (Cond.selects "WideMap" ⟨"WideMap", "areMaps", "(II)Z"⟩ ⟨"WideMap", "areMaps", "(II)Z"⟩) ∈ lw_all := lw_g (lw_at lw_ms 55 rfl) rfl
theorem qs56 : (Cond.selects "WideMap" ⟨"WideMap", "sharedOf", "(LWideMap$Node;LWideMap$Node;)I"⟩ ⟨"WideMap", "sharedOf", "(LWideMap$Node;LWideMap$Node;)I"⟩) ∈ lw_all := lw_g (lw_at lw_ms 56 rfl) rfl
theorem qs57 : (Cond.selects "WideMap" ⟨"WideMap", "layLine", "(I[Z)V"⟩ ⟨"WideMap", "layLine", "(I[Z)V"⟩) ∈ lw_all := lw_g (lw_at lw_ms 57 rfl) rfl
theorem qs58 : (Cond.selects "WideMap" ⟨"WideMap", "live", "()I"⟩ ⟨"WideMap", "live", "()I"⟩) ∈ lw_all := lw_g (lw_at lw_ms 58 rfl) rfl
theorem qs59 : (Cond.selects "WideMap" ⟨"WideMap", "fresh", "()I"⟩ ⟨"WideMap", "fresh", "()I"⟩) ∈ lw_all := lw_g (lw_at lw_ms 59 rfl) rfl
theorem qs60 : (Cond.selects "WideMapModel" ⟨"WideMapModel", "brings", "(I)V"⟩ ⟨"WideMapModel", "brings", "(I)V"⟩) ∈ lw_all := lw_g (lw_at lw_ms 60 rfl) rfl
theorem qs61 : (Cond.selects "WideMapModel" ⟨"WideMapModel", "readEntries", "()V"⟩ ⟨"WideMapModel", "readEntries", "()V"⟩) ∈ lw_all := lw_g (lw_at lw_ms 61 rfl) rfl
theorem qs62 : (Cond.selects "WideMapModel" ⟨"WideMapModel", "look", "()I"⟩ ⟨"WideMapModel", "look", "()I"⟩) ∈ lw_all := lw_g (lw_at lw_ms 62 rfl) rfl
theorem qs63 : (Cond.selects "WideMapModel" ⟨"WideMapModel", "here", "()I"⟩ ⟨"WideMapModel", "here", "()I"⟩) ∈ lw_all := lw_g (lw_at lw_ms 63 rfl) rfl
theorem qs64 : (Cond.selects "WideMapModel" ⟨"WideMapModel", "number", "()I"⟩ ⟨"WideMapModel", "number", "()I"⟩) ∈ lw_all := lw_g (lw_at lw_ms 64 rfl) rfl
theorem qs65 : (Cond.selects "WideMapModel" ⟨"WideMapModel", "isDigit", "()Z"⟩ ⟨"WideMapModel", "isDigit", "()Z"⟩) ∈ lw_all := lw_g (lw_at lw_ms 65 rfl) rfl
theorem qs66 : (Cond.selects "WideMapModel" ⟨"WideMapModel", "fails", "()V"⟩ ⟨"WideMapModel", "fails", "()V"⟩) ∈ lw_all := lw_g (lw_at lw_ms 66 rfl) rfl
theorem qs67 : (Cond.selects "WideMapModel" ⟨"WideMapModel", "value", "()I"⟩ ⟨"WideMapModel", "value", "()I"⟩) ∈ lw_all := lw_g (lw_at lw_ms 67 rfl) rfl
theorem qs68 : (Cond.selects "WideMapModel" ⟨"WideMapModel", "readPlan", "()V"⟩ ⟨"WideMapModel", "readPlan", "()V"⟩) ∈ lw_all := lw_g (lw_at lw_ms 68 rfl) rfl
theorem qs69 : (Cond.selects "WideMapModel" ⟨"WideMapModel", "readStep", "(I)V"⟩ ⟨"WideMapModel", "readStep", "(I)V"⟩) ∈ lw_all := lw_g (lw_at lw_ms 69 rfl) rfl
theorem qs70 : (Cond.selects "WideMapModel" ⟨"WideMapModel", "word", "()I"⟩ ⟨"WideMapModel", "word", "()I"⟩) ∈ lw_all := lw_g (lw_at lw_ms 70 rfl) rfl
theorem qs71 : (Cond.selects "WideMapModel" ⟨"WideMapModel", "hasRoom", "()Z"⟩ ⟨"WideMapModel", "hasRoom", "()Z"⟩) ∈ lw_all := lw_g (lw_at lw_ms 71 rfl) rfl
theorem qs72 : (Cond.selects "WideMapModel" ⟨"WideMapModel", "refused", "(I)I"⟩ ⟨"WideMapModel", "refused", "(I)I"⟩) ∈ lw_all := lw_g (lw_at lw_ms 72 rfl) rfl
theorem qs73 : (Cond.selects "WideMapModel" ⟨"WideMapModel", "newToken", "()I"⟩ ⟨"WideMapModel", "newToken", "()I"⟩) ∈ lw_all := lw_g (lw_at lw_ms 73 rfl) rfl
theorem qs74 : (Cond.selects "WideMapModel" ⟨"WideMapModel", "sweeps", "()V"⟩ ⟨"WideMapModel", "sweeps", "()V"⟩) ∈ lw_all := lw_g (lw_at lw_ms 74 rfl) rfl
theorem qs75 : (Cond.selects "WideMapModel" ⟨"WideMapModel", "marks", "(I)I"⟩ ⟨"WideMapModel", "marks", "(I)I"⟩) ∈ lw_all := lw_g (lw_at lw_ms 75 rfl) rfl
theorem qs76 : (Cond.selects "WideMapModel" ⟨"WideMapModel", "child", "(II)I"⟩ ⟨"WideMapModel", "child", "(II)I"⟩) ∈ lw_all := lw_g (lw_at lw_ms 76 rfl) rfl
theorem qs77 : (Cond.selects "WideMapModel" ⟨"WideMapModel", "fresh", "(II)I"⟩ ⟨"WideMapModel", "fresh", "(II)I"⟩) ∈ lw_all := lw_g (lw_at lw_ms 77 rfl) rfl
theorem qs78 : (Cond.selects "WideMapModel" ⟨"WideMapModel", "puts", "(IIII)I"⟩ ⟨"WideMapModel", "puts", "(IIII)I"⟩) ∈ lw_all := lw_g (lw_at lw_ms 78 rfl) rfl
theorem qs79 : (Cond.selects "WideMapModel" ⟨"WideMapModel", "valueAt", "(II)I"⟩ ⟨"WideMapModel", "valueAt", "(II)I"⟩) ∈ lw_all := lw_g (lw_at lw_ms 79 rfl) rfl
theorem qs80 : (Cond.selects "WideMapModel" ⟨"WideMapModel", "leafFor", "(II)I"⟩ ⟨"WideMapModel", "leafFor", "(II)I"⟩) ∈ lw_all := lw_g (lw_at lw_ms 80 rfl) rfl
theorem qs81 : (Cond.selects "WideMapModel" ⟨"WideMapModel", "spotFor", "(II)I"⟩ ⟨"WideMapModel", "spotFor", "(II)I"⟩) ∈ lw_all := lw_g (lw_at lw_ms 81 rfl) rfl
theorem qs82 : (Cond.selects "WideMapModel" ⟨"WideMapModel", "lowest", "(I)I"⟩ ⟨"WideMapModel", "lowest", "(I)I"⟩) ∈ lw_all := lw_g (lw_at lw_ms 82 rfl) rfl
theorem qs83 : (Cond.selects "WideMapModel" ⟨"WideMapModel", "spotIn", "(II)I"⟩ ⟨"WideMapModel", "spotIn", "(II)I"⟩) ∈ lw_all := lw_g (lw_at lw_ms 83 rfl) rfl
theorem qs84 : (Cond.selects "WideMapModel" ⟨"WideMapModel", "goesDown", "(III)I"⟩ ⟨"WideMapModel", "goesDown", "(III)I"⟩) ∈ lw_all := lw_g (lw_at lw_ms 84 rfl) rfl
theorem qs85 : (Cond.selects "WideMapModel" ⟨"WideMapModel", "edited", "(II)I"⟩ ⟨"WideMapModel", "edited", "(II)I"⟩) ∈ lw_all := lw_g (lw_at lw_ms 85 rfl) rfl
theorem qs86 : (Cond.selects "WideMapModel" ⟨"WideMapModel", "putsIn", "(IIII)V"⟩ ⟨"WideMapModel", "putsIn", "(IIII)V"⟩) ∈ lw_all := lw_g (lw_at lw_ms 86 rfl) rfl
theorem qs87 : (Cond.selects "WideMapModel" ⟨"WideMapModel", "parted", "(II)I"⟩ ⟨"WideMapModel", "parted", "(II)I"⟩) ∈ lw_all := lw_g (lw_at lw_ms 87 rfl) rfl
theorem qs88 : (Cond.selects "WideMapModel" ⟨"WideMapModel", "newMap", "(III)I"⟩ ⟨"WideMapModel", "newMap", "(III)I"⟩) ∈ lw_all := lw_g (lw_at lw_ms 88 rfl) rfl
theorem qs89 : (Cond.selects "WideMapModel" ⟨"WideMapModel", "isMap", "(I)Z"⟩ ⟨"WideMapModel", "isMap", "(I)Z"⟩) ∈ lw_all := lw_g (lw_at lw_ms 89 rfl) rfl
theorem qs90 : (Cond.selects "WideMapModel" ⟨"WideMapModel", "laysTree", "(I)V"⟩ ⟨"WideMapModel", "laysTree", "(I)V"⟩) ∈ lw_all := lw_g (lw_at lw_ms 90 rfl) rfl
theorem qs91 : (Cond.selects "WideMapModel" ⟨"WideMapModel", "goesThrough", "(II)V"⟩ ⟨"WideMapModel", "goesThrough", "(II)V"⟩) ∈ lw_all := lw_g (lw_at lw_ms 91 rfl) rfl
theorem qs92 : (Cond.selects "WideMapModel" ⟨"WideMapModel", "levels", "()I"⟩ ⟨"WideMapModel", "levels", "()I"⟩) ∈ lw_all := lw_g (lw_at lw_ms 92 rfl) rfl
theorem qs93 : (Cond.selects "WideMapModel" ⟨"WideMapModel", "leaves", "()I"⟩ ⟨"WideMapModel", "leaves", "()I"⟩) ∈ lw_all := lw_g (lw_at lw_ms 93 rfl) rfl
theorem qs94 : (Cond.selects "WideMapModel" ⟨"WideMapModel", "sumOf", "(II)I"⟩ ⟨"WideMapModel", "sumOf", "(II)I"⟩) ∈ lw_all := lw_g (lw_at lw_ms 94 rfl) rfl
theorem qs95 : (Cond.selects "WideMapModel" ⟨"WideMapModel", "holders", "(I)I"⟩ ⟨"WideMapModel", "holders", "(I)I"⟩) ∈ lw_all := lw_g (lw_at lw_ms 95 rfl) rfl
theorem qs96 : (Cond.selects "WideMapModel" ⟨"WideMapModel", "keysOf", "(I)I"⟩ ⟨"WideMapModel", "keysOf", "(I)I"⟩) ∈ lw_all := lw_g (lw_at lw_ms 96 rfl) rfl
theorem qs97 : (Cond.selects "WideMapModel" ⟨"WideMapModel", "takes", "(III)I"⟩ ⟨"WideMapModel", "takes", "(III)I"⟩) ∈ lw_all := lw_g (lw_at lw_ms 97 rfl) rfl
theorem qs98 : (Cond.selects "WideMapModel" ⟨"WideMapModel", "takesFrom", "(II)V"⟩ ⟨"WideMapModel", "takesFrom", "(II)V"⟩) ∈ lw_all := lw_g (lw_at lw_ms 98 rfl) rfl
theorem qs99 : (Cond.selects "WideMapModel" ⟨"WideMapModel", "least", "()I"⟩ ⟨"WideMapModel", "least", "()I"⟩) ∈ lw_all := lw_g (lw_at lw_ms 99 rfl) rfl
theorem qs100 : (Cond.selects "WideMapModel" ⟨"WideMapModel", "fills", "(III)V"⟩ ⟨"WideMapModel", "fills", "(III)V"⟩) ∈ lw_all := lw_g (lw_at lw_ms 100 rfl) rfl
theorem qs101 : (Cond.selects "WideMapModel" ⟨"WideMapModel", "laysTwo", "(II)V"⟩ ⟨"WideMapModel", "laysTwo", "(II)V"⟩) ∈ lw_all := lw_g (lw_at lw_ms 101 rfl) rfl
theorem qs102 : (Cond.selects "WideMapModel" ⟨"WideMapModel", "laysThere", "(II)V"⟩ ⟨"WideMapModel", "laysThere", "(II)V"⟩) ∈ lw_all := lw_g (lw_at lw_ms 102 rfl) rfl
theorem qs103 : (Cond.selects "WideMapModel" ⟨"WideMapModel", "laysOwn", "(I)V"⟩ ⟨"WideMapModel", "laysOwn", "(I)V"⟩) ∈ lw_all := lw_g (lw_at lw_ms 103 rfl) rfl
theorem qs104 : (Cond.selects "WideMapModel" ⟨"WideMapModel", "laysThree", "(III)V"⟩ ⟨"WideMapModel", "laysThree", "(III)V"⟩) ∈ lw_all := lw_g (lw_at lw_ms 104 rfl) rfl
theorem qs105 : (Cond.selects "WideMapModel" ⟨"WideMapModel", "asWhich", "(II)I"⟩ ⟨"WideMapModel", "asWhich", "(II)I"⟩) ∈ lw_all := lw_g (lw_at lw_ms 105 rfl) rfl
theorem qs106 : (Cond.selects "WideMapModel" ⟨"WideMapModel", "isUnlike", "(III)Z"⟩ ⟨"WideMapModel", "isUnlike", "(III)Z"⟩) ∈ lw_all := lw_g (lw_at lw_ms 106 rfl) rfl
theorem qs107 : (Cond.selects "WideMapModel" ⟨"WideMapModel", "isConflict", "(I)Z"⟩ ⟨"WideMapModel", "isConflict", "(I)Z"⟩) ∈ lw_all := lw_g (lw_at lw_ms 107 rfl) rfl
theorem qs108 : (Cond.selects "WideMapModel" ⟨"WideMapModel", "cuts", "(IIIZI)I"⟩ ⟨"WideMapModel", "cuts", "(IIIZI)I"⟩) ∈ lw_all := lw_g (lw_at lw_ms 108 rfl) rfl
theorem qs109 : (Cond.selects "WideMapModel" ⟨"WideMapModel", "isBuilder", "(I)Z"⟩ ⟨"WideMapModel", "isBuilder", "(I)Z"⟩) ∈ lw_all := lw_g (lw_at lw_ms 109 rfl) rfl
theorem qs110 : (Cond.selects "WideMapModel" ⟨"WideMapModel", "lays", "(IIIZ)I"⟩ ⟨"WideMapModel", "lays", "(IIIZ)I"⟩) ∈ lw_all := lw_g (lw_at lw_ms 110 rfl) rfl
theorem qs111 : (Cond.selects "WideMapModel" ⟨"WideMapModel", "stops", "(IZ)I"⟩ ⟨"WideMapModel", "stops", "(IZ)I"⟩) ∈ lw_all := lw_g (lw_at lw_ms 111 rfl) rfl
theorem qs112 : (Cond.selects "WideMapModel" ⟨"WideMapModel", "isOpen", "(I)Z"⟩ ⟨"WideMapModel", "isOpen", "(I)Z"⟩) ∈ lw_all := lw_g (lw_at lw_ms 112 rfl) rfl
theorem qs113 : (Cond.selects "WideMapModel" ⟨"WideMapModel", "canPut", "(II)Z"⟩ ⟨"WideMapModel", "canPut", "(II)Z"⟩) ∈ lw_all := lw_g (lw_at lw_ms 113 rfl) rfl
theorem qs114 : (Cond.selects "WideMapModel" ⟨"WideMapModel", "builderAdds", "(III)V"⟩ ⟨"WideMapModel", "builderAdds", "(III)V"⟩) ∈ lw_all := lw_g (lw_at lw_ms 114 rfl) rfl
theorem qs115 : (Cond.selects "WideMapModel" ⟨"WideMapModel", "builderPuts", "(III)V"⟩ ⟨"WideMapModel", "builderPuts", "(III)V"⟩) ∈ lw_all := lw_g (lw_at lw_ms 115 rfl) rfl
theorem qs116 : (Cond.selects "WideMapModel" ⟨"WideMapModel", "builderIncs", "(IIII)V"⟩ ⟨"WideMapModel", "builderIncs", "(IIII)V"⟩) ∈ lw_all := lw_g (lw_at lw_ms 116 rfl) rfl
theorem qs117 : (Cond.selects "WideMapModel" ⟨"WideMapModel", "snapped", "(I)I"⟩ ⟨"WideMapModel", "snapped", "(I)I"⟩) ∈ lw_all := lw_g (lw_at lw_ms 117 rfl) rfl
theorem qs118 : (Cond.selects "WideMapModel" ⟨"WideMapModel", "ownNodes", "(I)I"⟩ ⟨"WideMapModel", "ownNodes", "(I)I"⟩) ∈ lw_all := lw_g (lw_at lw_ms 118 rfl) rfl
theorem qs119 : (Cond.selects "WideMapModel" ⟨"WideMapModel", "draw", "(I)I"⟩ ⟨"WideMapModel", "draw", "(I)I"⟩) ∈ lw_all := lw_g (lw_at lw_ms 119 rfl) rfl
theorem qs120 : (Cond.selects "WideMapModel" ⟨"WideMapModel", "goesStep", "(II)Z"⟩ ⟨"WideMapModel", "goesStep", "(II)Z"⟩) ∈ lw_all := lw_g (lw_at lw_ms 120 rfl) rfl
theorem qs121 : (Cond.selects "WideMapModel" ⟨"WideMapModel", "sharedBy", "(II)I"⟩ ⟨"WideMapModel", "sharedBy", "(II)I"⟩) ∈ lw_all := lw_g (lw_at lw_ms 121 rfl) rfl
theorem qs122 : (Cond.selects "WideMapModel" ⟨"WideMapModel", "holdSame", "(II)Z"⟩ ⟨"WideMapModel", "holdSame", "(II)Z"⟩) ∈ lw_all := lw_g (lw_at lw_ms 122 rfl) rfl
theorem qs123 : (Cond.selects "WideMapModel" ⟨"WideMapModel", "areNodesAlike", "(II)Z"⟩ ⟨"WideMapModel", "areNodesAlike", "(II)Z"⟩) ∈ lw_all := lw_g (lw_at lw_ms 123 rfl) rfl
theorem qs124 : (Cond.selects "WideMapModel" ⟨"WideMapModel", "laysSources", "(II)V"⟩ ⟨"WideMapModel", "laysSources", "(II)V"⟩) ∈ lw_all := lw_g (lw_at lw_ms 124 rfl) rfl
theorem qs125 : (Cond.selects "WideMapModel" ⟨"WideMapModel", "laysShown", "(I)V"⟩ ⟨"WideMapModel", "laysShown", "(I)V"⟩) ∈ lw_all := lw_g (lw_at lw_ms 125 rfl) rfl
theorem qs126 : (Cond.selects "WideMapModel" ⟨"WideMapModel", "writesNode", "(I)V"⟩ ⟨"WideMapModel", "writesNode", "(I)V"⟩) ∈ lw_all := lw_g (lw_at lw_ms 126 rfl) rfl
theorem qs127 : (Cond.selects "WideMapModel" ⟨"WideMapModel", "writes", "(I)V"⟩ ⟨"WideMapModel", "writes", "(I)V"⟩) ∈ lw_all := lw_g (lw_at lw_ms 127 rfl) rfl
theorem qs128 : (Cond.selects "WideMapModel" ⟨"WideMapModel", "writesNumber", "(I)V"⟩ ⟨"WideMapModel", "writesNumber", "(I)V"⟩) ∈ lw_all := lw_g (lw_at lw_ms 128 rfl) rfl
theorem qs129 : (Cond.selects "WideMapModel" ⟨"WideMapModel", "live", "()I"⟩ ⟨"WideMapModel", "live", "()I"⟩) ∈ lw_all := lw_g (lw_at lw_ms 129 rfl) rfl
