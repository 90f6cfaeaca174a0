/-! a constant String, read while the heap is kept: charAt -/
abbrev sk_N : Nat → Prop := fun _ => False
/-- the constant at q: its bytes at b, n of them -/
def sk_K (A : Nat → Prop) (q b n : Nat) (f : Nat → Int32) (v : Option Nat) (U : State) : Prop :=
  va_O RJ4 q A U U.heap ∧ va_OF RJ4 "coder" "B" (.int 0) q A U U.heap ∧ va_OF RJ4 "value" "[B" (.ref b) q A U U.heap ∧ va_T .byte b n (fun j => .int (f j)) A U U.heap ∧ va_Z RJ4 "COMPACT_STRINGS" "Z" (.int 1) A U U.heap ∧ va_Z "jdk/internal/util/Preconditions" "SIOOBE_FORMATTER" "Ljava/util/function/BiFunction;" (va_rf v) A U U.heap
theorem sk_K.to {A : Nat → Prop} {q b n : Nat} {f : Nat → Int32} {v : Option Nat} {u U : State} (hal : u.vm.Alike U.vm) (hk : ∀ a : Nat, a < u.heap.size → ¬ A a → U.heap[a]? = u.heap[a]?) (h : sk_K A q b n f v u) : sk_K A q b n f v U :=
  ⟨(h.1.moved hal).kept hk, (h.2.1.moved hal).kept hk, (h.2.2.1.moved hal).kept hk, (h.2.2.2.1.moved hal).kept hk, (h.2.2.2.2.1.moved hal).kept hk, (h.2.2.2.2.2.moved hal).kept hk⟩
theorem sk_K.narrow {A B : Nat → Prop} {q b n : Nat} {f : Nat → Int32} {v : Option Nat} {U : State} (hAB : ∀ q, B q → A q) (h : sk_K A q b n f v U) : sk_K B q b n f v U :=
  ⟨h.1.narrow hAB, h.2.1.narrow hAB, h.2.2.1.narrow hAB, h.2.2.2.1.narrow hAB, h.2.2.2.2.1.narrow hAB, h.2.2.2.2.2.narrow hAB⟩
def sk_Met (l : Launch) (y : MethodName) (b : ByteArray) (L : Nat) (ret : Option FieldType) (fr lo : Nat) (K : State → Prop) (As : List Value) (r : Int32) : Prop :=
  Met l y (ws_ y b L ret) { frames := fr, cells := 0, slots := 0, locals := lo } (va_Pc As K) (va_Qi (fun (r' : Int32) (_ : Unit) => r' = r) (fun _ _ => True) sk_N) 0 0 sk_N
def sk_MetV (l : Launch) (y : MethodName) (b : ByteArray) (L : Nat) (fr lo : Nat) (K : State → Prop) (As : List Value) : Prop :=
  Met l y (ws_ y b L none) { frames := fr, cells := 0, slots := 0, locals := lo } (va_Pc As K) (va_Qv (fun (_ : Unit) => True) (fun _ _ => True) sk_N) 0 0 sk_N
section SKM
variable {l : Launch} {y : MethodName} {b : ByteArray} {L fr lo : Nat} {ret : Option FieldType} {K : State → Prop} {As : List Value} {own : String}
theorem sk_sI {r : Int32} (hy : y.cls = own ∧ plainName y.cls = true) (L0 : List (Nat × Value)) (hsl : (lg_sl As).length ≤ L ∧ lv_args 0 As = L0)
    (body : ∀ (p : Program) (e : Env) (s : State) (m : MethodId) (args : Array Value) (below : List Frame) (meth : Method) (c : Code) (Rm : Room) (Q : State → Prop), ww_C p m c b L s args own lw_all → K s → fr ≤ Rm.frames → lo ≤ Rm.locals →
      (∀ {pc : Nat} {H : Heap} {locs : List Loc} {ls : Array Slot} {v : Int32} {ty : FieldType}, decode b pc = .ok (.ireturn, 1) → ret = some ty → narrow ty (.int v) = .int v → v = r → va_S sk_N s.heap H locs → W p l e Rm s m args below meth c H locs 0 0 Q (F0 m pc ls [.int v])) →
      ∀ ls : Array Slot, lv_has ls L L0 → va_S sk_N s.heap s.heap [] → W p l e Rm s m args below meth c s.heap [] 0 0 Q (F0 m 0 ls [])) : sk_Met l y b L ret fr lo K As r := by
  refine Met.ofW (cc := b) (maxL := L) (ret := ret) hy.2 rfl ?_
  intro p e s m args below meth c s₁ B hml hv
  obtain ⟨rfl, hK⟩ := hv
  have hts := atoms_spec (ws := ws_ y b L ret) B.pre
  have hts : ∀ w ∈ lw_all, w.before _ s = true := fun w h => hts w (List.mem_cons_of_mem _ h)
  have hown : s.vm.findClass y.cls = some m.cls := findClass_of_methodNamed B.named
  rw [hy.1] at hown
  have hlocks := B.notSynchronized
  have hrr := B.returns
  have hl := lv_entry As (n := L) hsl.1
  rw [hsl.2] at hl
  rw [lg_entry_eq]
  refine body p e s m _ below meth c _ _ ⟨B.exec, B.bytes, hml, hown, hts⟩ hK (Nat.le_refl _) (Nat.le_refl _) ?_ _ hl va_S.rf
  intro pc H locs ls v ty hdg hty hn hq hS
  subst hq
  exact W.zret B.exec B.bytes (hrr.trans hty) hn (fun t ht hW => ⟨⟨_, (), rfl, rfl, trivial⟩, hS.F ht⟩) hS.2.2 hdg hlocks
theorem sk_sV (hy : y.cls = own ∧ plainName y.cls = true) (L0 : List (Nat × Value)) (hsl : (lg_sl As).length ≤ L ∧ lv_args 0 As = L0)
    (body : ∀ (p : Program) (e : Env) (s : State) (m : MethodId) (args : Array Value) (below : List Frame) (meth : Method) (c : Code) (Rm : Room) (Q : State → Prop), ww_C p m c b L s args own lw_all → K s → fr ≤ Rm.frames → lo ≤ Rm.locals →
      (∀ {pc : Nat} {H : Heap} {locs : List Loc} {ls : Array Slot}, decode b pc = .ok (.return_, 1) → va_S sk_N s.heap H locs → W p l e Rm s m args below meth c H locs 0 0 Q (F0 m pc ls [])) →
      ∀ ls : Array Slot, lv_has ls L L0 → va_S sk_N s.heap s.heap [] → W p l e Rm s m args below meth c s.heap [] 0 0 Q (F0 m 0 ls [])) : sk_MetV l y b L fr lo K As := by
  refine Met.ofW (cc := b) (maxL := L) (ret := none) hy.2 rfl ?_
  intro p e s m args below meth c s₁ B hml hv
  obtain ⟨rfl, hK⟩ := hv
  have hts := atoms_spec (ws := ws_ y b L none) B.pre
  have hts : ∀ w ∈ lw_all, w.before _ s = true := fun w h => hts w (List.mem_cons_of_mem _ h)
  have hown : s.vm.findClass y.cls = some m.cls := findClass_of_methodNamed B.named
  rw [hy.1] at hown
  have hlocks := B.notSynchronized
  have hrr := B.returns
  have hl := lv_entry As (n := L) hsl.1
  rw [hsl.2] at hl
  rw [lg_entry_eq]
  refine body p e s m _ below meth c _ _ ⟨B.exec, B.bytes, hml, hown, hts⟩ hK (Nat.le_refl _) (Nat.le_refl _) ?_ _ hl va_S.rf
  intro pc H locs ls hdg hS
  exact W.vret B.exec B.bytes hrr (fun t ht hW => ⟨⟨(), rfl, trivial, trivial⟩, hS.F ht⟩) hS.2.2 hdg hlocks
theorem sk_pS {A : Nat → Prop} {q b n : Nat} {f : Nat → Int32} {v : Option Nat} {s : State} {H : Heap} {locs : List Loc} {As : List Value} (hK : sk_K A q b n f v s) (hS : va_S A s.heap H locs) : PreS s H (va_Pc As (sk_K sk_N q b n f v)) As :=
  ⟨fun a U g mk h => ⟨h.1, h.2.to (Vm.Alike.refl U.vm) (fun _ _ _ => rfl)⟩, fun U hU hW => ⟨rfl, (hK.to hW.alike (by rw [hU]; exact hS.2.1)).narrow (fun _ h => h.elim)⟩⟩
theorem sk_pV {A : Nat → Prop} {q b n : Nat} {f : Nat → Int32} {v : Option Nat} {s : State} {H : Heap} {locs : List Loc} {As : List Value} (hK : sk_K A q b n f v s) (hS : va_S A s.heap H locs) : PreV s H RJ4 q (va_Pc (.ref q :: As) (sk_K sk_N q b n f v)) As := by
  refine ⟨fun a U g mk h => ⟨h.1, h.2.to (Vm.Alike.refl U.vm) (fun _ _ _ => rfl)⟩, ?_, fun U hU hW => ⟨rfl, (hK.to hW.alike (by rw [hU]; exact hS.2.1)).narrow (fun _ h => h.elim)⟩⟩
  obtain ⟨cell, h1, h2, h3, -⟩ := hK.1.kept hS.2.1
  exact ⟨cell, h1, h2, h3⟩
end SKM
theorem sk_J10_checkIndex (l : Launch) {x0 x1 : Int32} {x2 : Option Nat} (h1 : ¬ x0 < 0) (h2 : x0 < x1) : sk_Met l yJ10_checkIndex cJ10_checkIndex 3 (some Jvm.ClassFile.FieldType.int) 0 0 (fun _ => True) [.int x0, .int x1, va_rf x2] x0 := by
  refine sk_sI (own := RJ10) (by decide +kernel) [(0, .int x0), (1, .int x1), (2, va_rf x2)] ⟨by cases x2 <;> exact Nat.le_of_ble_eq_true rfl, by cases x2 <;> rfl⟩ ?_
  intro p e s m args below meth c Rm Q X hK hF hLo hend ls hl hS
  obtain ⟨hx, hb, hml, hown, hts⟩ := id X
  refine lv_iload_n hx hb dJ10_checkIndex_0 rfl (lv_at hl 0 rfl) ?_
  refine lv_if_lt (tgt := 9) hx hb dJ10_checkIndex_1 (by decide) (fun c_1 => absurd c_1 h1) (fun c_1 => ?_)
  refine lv_iload_n hx hb dJ10_checkIndex_4 rfl (lv_at hl 0 rfl) ?_
  refine lv_iload_n hx hb dJ10_checkIndex_5 rfl (lv_at hl 1 rfl) ?_
  refine lv_icmp_lt (tgt := 16) hx hb dJ10_checkIndex_6 (by decide) (fun c_2 => ?_) (fun c_2 => absurd h2 c_2)
  refine lv_iload_n hx hb dJ10_checkIndex_16 rfl (lv_at hl 0 rfl) ?_
  exact hend dJ10_checkIndex_17 rfl rfl rfl hS
section SKW
variable {q b n : Nat} {f : Nat → Int32} {v : Option Nat}
theorem sk_J4_checkIndex (l : Launch) {x0 x1 : Int32} (h1 : ¬ x0 < 0) (h2 : x0 < x1) : sk_MetV l yJ4_checkIndex cJ4_checkIndex 2 1 22 (sk_K sk_N q b n f v) [.int x0, .int x1] := by
  refine sk_sV (own := RJ4) (by decide +kernel) [(0, .int x0), (1, .int x1)] ⟨Nat.le_of_ble_eq_true rfl, rfl⟩ ?_
  intro p e s m args below meth c Rm Q X hK hF hLo hend ls hl hS
  obtain ⟨hx, hb, hml, hown, hts⟩ := id X
  refine lv_iload_n hx hb dJ4_checkIndex_0 rfl (lv_at hl 0 rfl) ?_
  refine lv_iload_n hx hb dJ4_checkIndex_1 rfl (lv_at hl 1 rfl) ?_
  refine va_gets hx hb hK.2.2.2.2.2 hS hown (hts _ q525) (fun _ h9 => h9) dJ4_checkIndex_2 ?_
  refine va_calli (va_runS (As := [.int x0, .int x1, va_rf v]) (rest := []) X (sk_J10_checkIndex l h1 h2) (va_cwS 3 X.2.2.2.2 (lw_S q548 q549 q145 q550) rfl rfl rfl (by decide +kernel) ⟨Nat.le_trans (Nat.le_of_ble_eq_true rfl) hF, Nat.le_trans (Nat.le_of_ble_eq_true rfl) hLo⟩) ⟨fun a U g mk h => h, fun U hU hW => ⟨rfl, trivial⟩⟩ rfl rfl hl.1 rfl (lv_room (Nat.le_of_ble_eq_true rfl)) dJ4_checkIndex_5 ⟨Nat.zero_le _, Nat.zero_le _⟩) hS (fun q _ h => h) (fun q h => h) (fun r' u t H1 locs1 ht hvm hw hB hz1 hk1 hS1 => ?_)
  refine lv_pop hx hb dJ4_checkIndex_8 rfl ?_
  exact hend dJ4_checkIndex_9 hS1
theorem sk_J9_charAt (l : Launch) {x1 r : Int32} (h1 : ¬ x1 < 0) (h2 : x1 < Int32.ofNat n) (h3 : vp_in x1 n) (h4 : ((f x1.toNatClampNeg &&& (255 : Int32)).toUInt32 % 65536).toInt32 = r) (h5 : ww_nw .char r = true) : sk_Met l yJ9_charAt cJ9_charAt 2 (some Jvm.ClassFile.FieldType.char) 2 43 (sk_K sk_N q b n f v) [.ref b, .int x1] r := by
  refine sk_sI (own := RJ9) (by decide +kernel) [(0, .ref b), (1, .int x1)] ⟨Nat.le_of_ble_eq_true rfl, rfl⟩ ?_
  intro p e s m args below meth c Rm Q X hK hF hLo hend ls hl hS
  obtain ⟨hx, hb, hml, hown, hts⟩ := id X
  refine lv_iload_n hx hb dJ9_charAt_0 rfl (lv_at hl 1 rfl) ?_
  refine lv_aload_n hx hb dJ9_charAt_1 rfl (lv_at hl 0 rfl) ?_
  refine va_tlen hx hb hK.2.2.2.1 hS rfl dJ9_charAt_2 ?_
  refine va_callv (va_runS (As := [.int x1, .int (Int32.ofNat n)]) (rest := []) X (sk_J4_checkIndex (q := q) (b := b) (n := n) (f := f) (v := v) l h1 h2) (va_cwS 2 X.2.2.2.2 (lw_S q1623 q546 q138 q547) rfl rfl rfl (by decide +kernel) ⟨Nat.le_trans (Nat.le_of_ble_eq_true rfl) hF, Nat.le_trans (Nat.le_of_ble_eq_true rfl) hLo⟩) (sk_pS hK hS) rfl rfl hl.1 rfl (lv_room (Nat.le_of_ble_eq_true rfl)) dJ9_charAt_3 ⟨Nat.zero_le _, Nat.zero_le _⟩) hS (fun q _ h => h) (fun q h => h) (fun u t H1 locs1 ht hvm hw hB hz1 hk1 hS1 => ?_)
  refine lv_aload_n hx hb dJ9_charAt_6 rfl (lv_at hl 0 rfl) ?_
  refine lv_iload_n hx hb dJ9_charAt_7 rfl (lv_at hl 1 rfl) ?_
  refine va_tb hx hb hK.2.2.2.1 hS1 h3 rfl dJ9_charAt_8 ?_
  refine lv_sipush (v := (255 : Int32)) hx hb dJ9_charAt_9 (by decide) ?_
  refine lv_iand hx hb dJ9_charAt_12 ?_
  refine lv_i2c (v := r) hx hb dJ9_charAt_13 h4 ?_
  exact hend dJ9_charAt_14 rfl (ww_nwC h5) rfl hS1
theorem sk_J4_isLatin1 (l : Launch) : sk_Met l yJ4_isLatin1 cJ4_isLatin1 1 (some Jvm.ClassFile.FieldType.boolean) 0 0 (sk_K sk_N q b n f v) [.ref q] 1 := by
  refine sk_sI (own := RJ4) (by decide +kernel) [(0, .ref q)] ⟨Nat.le_of_ble_eq_true rfl, rfl⟩ ?_
  intro p e s m args below meth c Rm Q X hK hF hLo hend ls hl hS
  obtain ⟨hx, hb, hml, hown, hts⟩ := id X
  refine va_gets hx hb hK.2.2.2.2.1 hS hown (hts _ q587) (fun _ h9 => h9) dJ4_isLatin1_0 ?_
  refine lv_if_eq (tgt := 17) hx hb dJ4_isLatin1_3 (by decide) (fun c_1 => absurd c_1 (by decide)) (fun c_1 => ?_)
  refine lv_aload_n hx hb dJ4_isLatin1_6 rfl (lv_at hl 0 rfl) ?_
  refine vk_getf hx hb hK.2.1 hS hown (hts _ q602) (fun _ h9 => h9) dJ4_isLatin1_7 ?_
  refine lv_if_ne (tgt := 17) hx hb dJ4_isLatin1_10 (by decide) (fun c_1 => absurd rfl c_1) (fun c_1 => ?_)
  refine lv_iconst (v := (1 : Int32)) hx hb dJ4_isLatin1_13 (by decide) ?_
  refine lv_goto (tgt := 18) hx hb dJ4_isLatin1_14 (by decide) ?_
  exact hend dJ4_isLatin1_18 rfl (by decide) rfl hS
theorem sk_J4_charAt (l : Launch) {x1 r : Int32} (h1 : ¬ x1 < 0) (h2 : x1 < Int32.ofNat n) (h3 : vp_in x1 n) (h4 : ((f x1.toNatClampNeg &&& (255 : Int32)).toUInt32 % 65536).toInt32 = r) (h5 : ww_nw .char r = true) : sk_Met l yJ4_charAt cJ4_charAt 2 (some Jvm.ClassFile.FieldType.char) 3 64 (sk_K sk_N q b n f v) [.ref q, .int x1] r := by
  refine sk_sI (own := RJ4) (by decide +kernel) [(0, .ref q), (1, .int x1)] ⟨Nat.le_of_ble_eq_true rfl, rfl⟩ ?_
  intro p e s m args below meth c Rm Q X hK hF hLo hend ls hl hS
  obtain ⟨hx, hb, hml, hown, hts⟩ := id X
  refine lv_aload_n hx hb dJ4_charAt_0 rfl (lv_at hl 0 rfl) ?_
  refine va_calli (va_runV (C := RJ4) (As := []) (rest := []) (b := q) X (sk_J4_isLatin1 (q := q) (b := b) (n := n) (f := f) (v := v) l) (cwV 0 X.2.2.2.2 (lw_V q751 q752 q753 q138 q754) rfl rfl rfl (by decide +kernel) ⟨Nat.le_trans (Nat.le_of_ble_eq_true rfl) hF, Nat.le_trans (Nat.le_of_ble_eq_true rfl) hLo⟩) (sk_pV hK hS) rfl rfl hl.1 rfl (lv_room (Nat.le_of_ble_eq_true rfl)) dJ4_charAt_1 ⟨Nat.zero_le _, Nat.zero_le _⟩) hS (fun q _ h => h) (fun q h => h) (fun r' u t H1 locs1 ht hvm hw hB hz1 hk1 hS1 => ?_)
  subst hw
  refine lv_if_eq (tgt := 16) hx hb dJ4_charAt_4 (by decide) (fun c_1 => absurd c_1 (by decide)) (fun c_1 => ?_)
  refine lv_aload_n hx hb dJ4_charAt_7 rfl (lv_at hl 0 rfl) ?_
  refine vk_getf hx hb hK.2.2.1 hS1 hown (hts _ q601) (fun _ h9 => h9) dJ4_charAt_8 ?_
  refine lv_iload_n hx hb dJ4_charAt_11 rfl (lv_at hl 1 rfl) ?_
  refine va_calli (va_runS (As := [.ref b, .int x1]) (rest := []) X (sk_J9_charAt (q := q) (b := b) (n := n) (f := f) (v := v) l h1 h2 h3 h4 h5) (va_cwS 2 X.2.2.2.2 (lw_S q1620 q1621 q144 q1622) rfl rfl rfl (by decide +kernel) ⟨Nat.le_trans (Nat.le_of_ble_eq_true rfl) hF, Nat.le_trans (Nat.le_of_ble_eq_true rfl) hLo⟩) (sk_pS hK hS1) rfl rfl hl.1 rfl (lv_room (Nat.le_of_ble_eq_true rfl)) dJ4_charAt_12 ⟨Nat.zero_le _, Nat.zero_le _⟩) hS1 (fun q _ h => h) (fun q h => h) (fun r' u t H1 locs1 ht hvm hw hB hz1 hk1 hS2 => ?_)
  subst hw
  exact hend dJ4_charAt_15 rfl (ww_nwC h5) rfl hS2
end SKW
