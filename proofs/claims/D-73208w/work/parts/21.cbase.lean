/-! THE CLASS's world: the main object (as the reference's), and a store of all other objects and arrays by their addresses; the next address -/
/-- kind, may be written, fields, length, numbers, references. Kinds: 0 Token, 1 Leaf, 2 Inner, 3 String, 4 StringBuilder, 5 Fault, 6 NoSuchElementException; 20 int[], 21 byte[], 22 Node[] -/
abbrev cw_O : Type := Nat × Bool × (Nat → Value) × Nat × (Nat → Int32) × (Nat → Option Nat)
abbrev cw_D : Type := ww_M × (Nat → Option cw_O) × Nat
/-- main object's, the kinds' classes and slots, the least address that may be made, constants' addresses (by pseudo fields: 99 the main object, 100.. texts, 110 111 the digits' tables) -/
abbrev cw_E : Type := ww_E × (Nat → ClassId) × (Nat → Nat → Nat) × Nat × (Nat → Option Nat)
abbrev cwCl : List vw_C := [(RX4, TX4, 1), (RX7, TX7, 5), (RX8, TX8, 4), (RJ4, TJ4, 4), (RJ3, TJ3, 4), (RX2, TX2, 0), (RJ15, TJ15, 0)]
def cw_el : Nat → FieldType := fun k => match k with
  | 20 => .int
  | 21 => .byte
  | _ => .object "WideMap$Node"
def cw_ct (o : cw_O) : (Nat → Int32) ⊕ (Nat → Int64) ⊕ (Nat → UInt32) ⊕ (Nat → UInt64) ⊕ (Nat → Option Nat) := match o.1 with
  | 20 => .inl o.2.2.2.2.1
  | 21 => .inl o.2.2.2.2.1
  | _ => .inr (.inr (.inr (.inr o.2.2.2.2.2)))
/-- constants (kinds 3, 21, not written) may bear what the machine keeps of a cell beside its slots; all else is as it was made -/
def cw_at (E : cw_E) (a : Nat) (o : cw_O) (H : Heap) : Prop :=
  (o.1 < 20 → ∃ r : vw_C, cwCl[o.1]? = some r ∧ ∃ cell : Cell, H[a]? = some cell ∧ cell.cls = E.2.1 o.1 ∧ (cell.vm = .none ∨ o.2.1 = false ∧ o.1 = 3) ∧ cell.vm.isStatics = false ∧ cell.vm ≠ .unknown ∧ ∀ k, k < r.2.2 → cell.slots[E.2.2.1 o.1 k]? = some (o.2.2.1 k)) ∧
  (20 ≤ o.1 → ∃ cell : Cell, H[a]? = some cell ∧ cell.cls = E.1.2.2.2.2 (cw_el o.1) ∧ (cell = vp_cell (E.1.2.2.2.2 (cw_el o.1)) (o.2.2.2.1, cw_ct o) ∨ o.2.1 = false) ∧ cell.vm.isStatics = false ∧ cell.vm ≠ .unknown ∧ cell.slots = (vp_cell (E.1.2.2.2.2 (cw_el o.1)) (o.2.2.2.1, cw_ct o)).slots)
theorem vp_cell_vm (C : ClassId) (x : vp_A) : (vp_cell C x).vm = .none ∧ (vp_cell C x).cls = C := by
  obtain ⟨n, f⟩ := x
  match f with
  | .inl _ => exact ⟨rfl, rfl⟩
  | .inr (.inl _) => exact ⟨rfl, rfl⟩
  | .inr (.inr (.inl _)) => exact ⟨rfl, rfl⟩
  | .inr (.inr (.inr (.inl _))) => exact ⟨rfl, rfl⟩
  | .inr (.inr (.inr (.inr _))) => exact ⟨rfl, rfl⟩
theorem cw_at.obj {E : cw_E} {a : Nat} {o : cw_O} {H : Heap} {r : vw_C} (hl : o.1 < 20) (hr : cwCl[o.1]? = some r) (h : t_OB a (E.2.1 o.1) r.2.2 (E.2.2.1 o.1) H o.2.2.1) : cw_at E a o H := by
  obtain ⟨cell, q1, q2, q3, q4⟩ := h
  exact ⟨fun _ => ⟨r, hr, cell, q1, q2, Or.inl q3, by rw [q3]; rfl, by rw [q3]; exact fun h => (by cases h), q4⟩, fun h => absurd h (by omega)⟩
theorem cw_at.arr {E : cw_E} {a : Nat} {o : cw_O} {H : Heap} (hl : 20 ≤ o.1) (h : H[a]? = some (vp_cell (E.1.2.2.2.2 (cw_el o.1)) (o.2.2.2.1, cw_ct o))) : cw_at E a o H :=
  ⟨fun h => absurd h (by omega), fun _ => ⟨_, h, (vp_cell_vm _ _).2, Or.inl rfl, by rw [(vp_cell_vm _ _).1]; rfl, by rw [(vp_cell_vm _ _).1]; exact fun h => (by cases h), rfl⟩⟩
theorem cw_at.ow {E : cw_E} {a : Nat} {o : cw_O} {H : Heap} (h : cw_at E a o H) (hl : o.1 < 20) (hw : o.2.1 = true) : ∃ r : vw_C, cwCl[o.1]? = some r ∧ t_OB a (E.2.1 o.1) r.2.2 (E.2.2.1 o.1) H o.2.2.1 := by
  obtain ⟨r, h1, cell, q1, q2, q3, q4, q5, q6⟩ := h.1 hl
  refine ⟨r, h1, cell, q1, q2, ?_, q6⟩
  rcases q3 with q3 | ⟨q3, -⟩
  · exact q3
  · rw [hw] at q3; cases q3
theorem cw_at.aw {E : cw_E} {a : Nat} {o : cw_O} {H : Heap} (h : cw_at E a o H) (hl : 20 ≤ o.1) (hw : o.2.1 = true) : H[a]? = some (vp_cell (E.1.2.2.2.2 (cw_el o.1)) (o.2.2.2.1, cw_ct o)) := by
  obtain ⟨cell, q1, q2, q3, -⟩ := h.2 hl
  rcases q3 with q3 | q3
  · rw [q1, q3]
  · rw [hw] at q3; cases q3
abbrev c1_A (E : cw_E) : Nat → Prop := ww_A 38 tyX1 E.1
/-- where nothing of the store lies: the main object's cells; a region that is another's -/
def cw_N (E : cw_E) (q : Nat) : Prop := c1_A E q ∨ ∃ z, E.2.2.2.2 98 = some z ∧ z ≤ q ∧ q < E.2.2.2.1
def cw_H (E : cw_E) (A : Nat → Prop) (D : cw_D) (H : Heap) : Prop :=
  ww_H 38 tyX1 c1_len E.1 D.1 H ∧ (∀ (a : Nat) (o : cw_O), D.2.1 a = some o → cw_at E a o H ∧ ¬ cw_N E a ∧ (o.2.1 = true → A a)) ∧ H.size = D.2.2 ∧ E.2.2.2.1 ≤ D.2.2 ∧ ∀ j, 99 ≤ j → D.1.2.2.2.1 j = E.2.2.2.2 j
/-- an interface's default method: what its call asks -/
def cw_Fd (C : String) (x y : MethodName) (U : State) : Prop := (Cond.declares x).before #[] U = true ∧ (Cond.interfaceMethod x.cls x.cls x.name x.desc).before #[] U = true ∧ (Cond.publicMethod y).before #[] U = true ∧ (Cond.landsInDefault C x y).before #[] U = true ∧ (Cond.castable C x.cls).before #[] U = true
theorem cw_Fd.moved {C : String} {x y : MethodName} (hx : x.cls ≠ "java/lang/invoke/MethodHandle" ∧ x.cls ≠ "java/lang/invoke/VarHandle") {u U : State} (hvm : u.vm.Alike U.vm) (h : cw_Fd C x y u) : cw_Fd C x y U := by
  obtain ⟨h1, h2, h3, h4, h5⟩ := h
  obtain ⟨r, meth, hn, -⟩ := Cond.declares_spec h1
  have tr : ∀ {c : Cond}, c.onTables = true → c.before #[] (u.setVm U.vm) = true → c.before #[] U = true := by
    intro c hc h
    have e := Cond.onTables_vm (A := #[]) (A' := #[]) (U := u) (U' := U) U.vm c hc
    have hU : U.setVm U.vm = U := rfl
    rw [hU] at e
    rw [← e]
    exact h
  refine ⟨tr rfl (by rw [Cond.declares_setVm hvm]; exact h1), tr rfl (by rw [Cond.interfaceMethod_setVm hvm (r := r) hn hx]; exact h2), tr rfl (by rw [Cond.publicMethod_setVm hvm]; exact h3), ?_, tr rfl (by rw [Cond.castable_setVm hvm]; exact h5)⟩
  have h6 : (Cond.landsInDefault C x y).before #[] (u.setVm U.vm) = true := (Cond.landsInDefault_setVm hvm (State.methodFound?_setVm hvm _ _ _)).trans h4
  exact h6
/-- Inner's own call of kidFor lands in Node's default -/
def cw_Up (U : State) : Prop := (Cond.methodLink "WideMap$Inner" 26 ⟨"WideMap$Inner", "kidFor", "(I)I"⟩).before #[] U = true ∧ (Cond.sameMethod "WideMap$Inner" "WideMap$Node" "kidFor" "(I)I").before #[] U = true ∧ (Cond.landsInDefault "WideMap$Inner" ⟨"WideMap$Inner", "kidFor", "(I)I"⟩ ⟨"WideMap$Node", "kidFor", "(I)I"⟩).before #[] U = true
theorem cw_Up.warm {s U : State} (hW : s.WarmedH U.vm) (h : cw_Up s) : cw_Up U := by
  refine ⟨word_at hW (Or.inl rfl) h.1, word_at hW (Or.inl rfl) h.2.1, ?_⟩
  have h6 : (Cond.landsInDefault "WideMap$Inner" ⟨"WideMap$Inner", "kidFor", "(I)I"⟩ ⟨"WideMap$Node", "kidFor", "(I)I"⟩).before #[] (s.setVm U.vm) = true := (Cond.landsInDefault_setVm hW.alike (State.methodFound?_setVm hW.alike _ _ _)).trans h.2.2
  exact h6
/-- constants: statics, texts -/
def cw_Tw (A : Nat → Prop) (U : State) : Prop := (∀ q ∈ cwPv, (Cond.privateMethod q).before #[] U = true) ∧ (∀ q ∈ cwCa, (Cond.castable q.1 q.2).before #[] U = true) ∧ (∀ q ∈ cwDe, (Cond.declares q).before #[] U = true) ∧ vx_Zq Bundle.tN "UNASSIGNED_STACK" Bundle.steD A U U.heap ∧ vx_Zq Bundle.tN "SUPPRESSED_SENTINEL" Bundle.listD A U U.heap
theorem cw_Tw.moved {A : Nat → Prop} {u U : State} (hvm : u.vm.Alike U.vm) (hk : ∀ a : Nat, a < u.heap.size → ¬ A a → U.heap[a]? = u.heap[a]?) (h : cw_Tw A u) : cw_Tw A U := by
  have tr : ∀ {c : Cond}, c.onTables = true → c.before #[] (u.setVm U.vm) = true → c.before #[] U = true := by
    intro c hc h
    have e := Cond.onTables_vm (A := #[]) (A' := #[]) (U := u) (U' := U) U.vm c hc
    have hU : U.setVm U.vm = U := rfl
    rw [hU] at e
    rw [← e]
    exact h
  exact ⟨fun q hq => tr rfl (by rw [Cond.privateMethod_setVm hvm]; exact h.1 q hq), fun q hq => tr rfl (by rw [Cond.castable_setVm hvm]; exact h.2.1 q hq), fun q hq => tr rfl (by rw [Cond.declares_setVm hvm]; exact h.2.2.1 q hq), (h.2.2.2.1.moved hvm).kept hk, (h.2.2.2.2.moved hvm).kept hk⟩
def cw_Ct (E : cw_E) (A : Nat → Prop) (U : State) : Prop :=
  E.2.2.2.2 99 = some E.1.1 ∧ va_Z "java/lang/String" "COMPACT_STRINGS" "Z" (.int 1) A U U.heap ∧ va_Z "java/lang/Integer" "DigitOnes" "[B" (va_rf (E.2.2.2.2 110)) A U U.heap ∧ va_Z "java/lang/Integer" "DigitTens" "[B" (va_rf (E.2.2.2.2 111)) A U U.heap ∧ va_Z "jdk/internal/util/Preconditions" "SIOOBE_FORMATTER" "Ljava/util/function/BiFunction;" (va_rf (E.2.2.2.2 112)) A U U.heap ∧
  (∀ q ∈ cwStr, ∃ a : Nat, E.2.2.2.2 q.1 = some a ∧ vk_R q.2.1 q.2.2.1 q.2.2.2 a U) ∧ cw_Tw A U
theorem cw_Ct.warm {E : cw_E} {A : Nat → Prop} {s U : State} (hW : s.WarmedH U.vm) (hk : ∀ a : Nat, a < s.heap.size → ¬ A a → U.heap[a]? = s.heap[a]?) (h : cw_Ct E A s) : cw_Ct E A U := by
  obtain ⟨h1, h2, h3, h4, h5, h6, h7⟩ := h
  exact ⟨h1, (h2.moved hW.alike).kept hk, (h3.moved hW.alike).kept hk, (h4.moved hW.alike).kept hk, (h5.moved hW.alike).kept hk, fun q hq => by obtain ⟨a, q1, q2⟩ := h6 q hq; exact ⟨a, q1, q2.warm hW⟩, h7.moved hW.alike hk⟩
/-- what the tables say all through a run: classes, arrays, interfaces, nest mates; and the main object's cells are apart, they and all that comes may be written -/
def cw_K (E : cw_E) (A : Nat → Prop) (U : State) : Prop :=
  ww_Kn RX1 TX1 38 tyX1 E.1 U ∧ (∀ (k : Nat) (r : vw_C), cwCl[k]? = some r → u_Kn U r.1 r.2.1 r.2.2 (E.2.1 k) (E.2.2.1 k)) ∧ (∀ el ∈ cwEls, ArrOfT U (E.1.2.2.2.2 el) el ∧ va_RA U (E.1.2.2.2.2 el) el) ∧
  (∀ q ∈ cwFw, va_Fw q.1 q.2.1 q.2.2 U) ∧ (∀ q ∈ cwFd, cw_Fd q.1 q.2.1 q.2.2 U) ∧
  (va_Nw (.fieldLinkNest "WideMap$Token" 13 "WideMap" "made" "I" "WideMap") U ∧ va_Nw (.fieldLinkNest "WideMap$Node" 16 "WideMap$Inner" "kids" "[LWideMap$Node;" "WideMap") U ∧ va_Nw (.methodLinkNest "WideMap" 38 ⟨"WideMap$Fault", "<init>", "()V"⟩ "WideMap") U ∧ va_Nw (.methodLinkNest "WideMap" 215 ⟨"WideMap$Token", "<init>", "(LWideMap;)V"⟩ "WideMap") U) ∧
  (va_AO "WideMap$Node" U ∧ va_AO "WideMap$Token" U ∧ cw_Up U) ∧
  (ww_D 38 tyX1 E.1 ∧ (∀ q, c1_A E q → A q) ∧ ∀ q, E.2.2.2.1 ≤ q → A q) ∧ cw_Ct E A U
theorem cw_K.apart {E : cw_E} {A : Nat → Prop} {U : State} (h : cw_K E A U) : ww_D 38 tyX1 E.1 := h.2.2.2.2.2.2.2.1.1
theorem cw_K.main {E : cw_E} {A : Nat → Prop} {U : State} (h : cw_K E A U) : ∀ q, c1_A E q → A q := h.2.2.2.2.2.2.2.1.2.1
theorem cw_K.new {E : cw_E} {A : Nat → Prop} {U : State} (h : cw_K E A U) : ∀ q, E.2.2.2.1 ≤ q → A q := h.2.2.2.2.2.2.2.1.2.2
theorem cw_K.ct {E : cw_E} {A : Nat → Prop} {U : State} (h : cw_K E A U) : cw_Ct E A U := h.2.2.2.2.2.2.2.2
theorem cw_this {E : cw_E} {A : Nat → Prop} {U : State} {D : cw_D} {H : Heap} (h : cw_K E A U) (hR : cw_H E A D H) : D.1.2.2.2.1 99 = some E.1.1 := (hR.2.2.2.2 99 (Nat.le_refl _)).trans h.ct.1
theorem cw_notMH {L : List (String × MethodName × MethodName)} (h : (L.all fun q => decide (q.2.1.cls ≠ "java/lang/invoke/MethodHandle") && decide (q.2.1.cls ≠ "java/lang/invoke/VarHandle")) = true) : ∀ q ∈ L, q.2.1.cls ≠ "java/lang/invoke/MethodHandle" ∧ q.2.1.cls ≠ "java/lang/invoke/VarHandle" := by
  intro q hq
  have h1 := List.all_eq_true.mp h q hq
  rw [Bool.and_eq_true, decide_eq_true_eq, decide_eq_true_eq] at h1
  exact h1
theorem cw_K.warm {E : cw_E} {A : Nat → Prop} {s U : State} (hW : s.WarmedH U.vm) (hk : ∀ a : Nat, a < s.heap.size → ¬ A a → U.heap[a]? = s.heap[a]?) (h : cw_K E A s) : cw_K E A U := by
  obtain ⟨h1, h2, h3, h4, h5, ⟨n1, n2, n3, n4⟩, ⟨o1, o2, o3⟩, h8, h9⟩ := h
  exact ⟨h1.moved hW.alike, fun k r hr => u_Kn_moved hW.alike (h2 k r hr), fun el he => ⟨arrOfT_moved hW.alike (h3 el he).1, (h3 el he).2.moved hW.alike⟩, fun q hq => va_Fw.moved (cw_notMH (by decide +kernel) q hq) hW.alike (h4 q hq), fun q hq => cw_Fd.moved (cw_notMH (by decide +kernel) q hq) hW.alike (h5 q hq), ⟨n1.warmF hW, n2.warmF hW, n3.warmM hW, n4.warmM hW⟩, ⟨va_AO.moved hW.alike o1, va_AO.moved hW.alike o2, o3.warm hW⟩, h8, h9.warm hW hk⟩
theorem cw_K.call {E : cw_E} {A : Nat → Prop} {U : State} (g : JFrame) (mk : MethodId) (a : Array Value) (h : cw_K E A U) : cw_K E A (U.calling g mk a) := by
  obtain ⟨h1, h2, h3, h4, h5, ⟨n1, n2, n3, n4⟩, ⟨o1, o2, o3⟩, h8, h9⟩ := h
  have hal : U.vm.Alike (U.calling g mk a).vm := Vm.Alike.refl U.vm
  have hvm : U.vm = (U.calling g mk a).vm := rfl
  exact ⟨h1.moved hal, fun k r hr => u_Kn_moved hal (h2 k r hr), fun el he => ⟨arrOfT_moved hal (h3 el he).1, (h3 el he).2.moved hal⟩, fun q hq => va_Fw.moved (cw_notMH (by decide +kernel) q hq) hal (h4 q hq), fun q hq => cw_Fd.moved (cw_notMH (by decide +kernel) q hq) hal (h5 q hq), ⟨n1.same rfl hvm, n2.same rfl hvm, n3.same rfl hvm, n4.same rfl hvm⟩, ⟨va_AO.moved hal o1, va_AO.moved hal o2, o3.warm (U := U.calling g mk a) (State.WarmedH.refl U)⟩, h8, h9.warm (U := U.calling g mk a) (State.WarmedH.refl U) (fun _ _ _ => rfl)⟩
theorem cw_at.kept {E : cw_E} {a : Nat} {o : cw_O} {H H1 : Heap} (h : cw_at E a o H) (h1 : H1[a]? = H[a]?) : cw_at E a o H1 :=
  ⟨fun hk => by obtain ⟨r, q1, cell, q2, q3⟩ := h.1 hk; exact ⟨r, q1, cell, h1.trans q2, q3⟩, fun hk => by obtain ⟨cell, q2, q3⟩ := h.2 hk; exact ⟨cell, h1.trans q2, q3⟩⟩
theorem cw_at.lt {E : cw_E} {a : Nat} {o : cw_O} {H : Heap} (h : cw_at E a o H) : a < H.size := by
  rcases Nat.lt_or_ge o.1 20 with hk | hk
  · obtain ⟨r, -, cell, q, -⟩ := h.1 hk
    exact (Array.getElem?_eq_some_iff.mp q).1
  · obtain ⟨cell, q, -⟩ := h.2 hk
    exact (Array.getElem?_eq_some_iff.mp q).1
def cw_up (S : Nat → Option cw_O) (a : Nat) (o : cw_O) : Nat → Option cw_O := fun q => if q = a then some o else S q
theorem cw_H.setMain {E : cw_E} {A : Nat → Prop} {D : cw_D} {H H1 : Heap} {M' : ww_M} (h : cw_H E A D H) (hM : ww_H 38 tyX1 c1_len E.1 M' H1) (h9 : ∀ j, 99 ≤ j → M'.2.2.2.1 j = D.1.2.2.2.1 j) (hz : H1.size = H.size) (ho : ∀ q, ¬ c1_A E q → H1[q]? = H[q]?) : cw_H E A (M', D.2) H1 :=
  ⟨hM, fun a o hao => ⟨(h.2.1 a o hao).1.kept (ho a (fun q => (h.2.1 a o hao).2.1 (Or.inl q))), (h.2.1 a o hao).2⟩, hz.trans h.2.2.1, h.2.2.2.1, fun j hj => (h9 j hj).trans (h.2.2.2.2 j hj)⟩
theorem cw_H.setAt {E : cw_E} {A : Nat → Prop} {D : cw_D} {H H1 : Heap} {a : Nat} {o o' : cw_O} (h : cw_H E A D H) (hao : D.2.1 a = some o) (hn : cw_at E a o' H1) (hw : o'.2.1 = o.2.1) (hz : H1.size = H.size) (oq : ∀ q, q ≠ a → H1[q]? = H[q]?) : cw_H E A (D.1, cw_up D.2.1 a o', D.2.2) H1 := by
  obtain ⟨h1, h2, h3, h4⟩ := h
  refine ⟨h1.kept (fun q hq => oq q (fun e => (h2 a o hao).2.1 (Or.inl (e ▸ hq)))), fun b ob hb => ?_, hz.trans h3, h4⟩
  by_cases hba : b = a
  · subst hba
    have hb : (if b = b then some o' else D.2.1 b) = some ob := hb
    rw [if_pos rfl] at hb
    cases hb
    exact ⟨hn, (h2 b o hao).2.1, fun hq => (h2 b o hao).2.2 (hw ▸ hq)⟩
  · have hb : (if b = a then some o' else D.2.1 b) = some ob := hb
    rw [if_neg hba] at hb
    exact ⟨(h2 b ob hb).1.kept (oq b hba), (h2 b ob hb).2⟩
theorem cw_H.push {E : cw_E} {A : Nat → Prop} {D : cw_D} {H H1 : Heap} {o : cw_O} (h : cw_H E A D H) (hA : ∀ q, E.2.2.2.1 ≤ q → A q) (hn : cw_at E H.size o H1) (hz : H1.size = H.size + 1) (oq : ∀ q, q < H.size → H1[q]? = H[q]?) : cw_H E A (D.1, cw_up D.2.1 D.2.2 o, D.2.2 + 1) H1 := by
  obtain ⟨h1, h2, h3, h4⟩ := h
  refine ⟨h1.kept (fun q hq => oq q (h1.lt hq)), fun b ob hb => ?_, by show H1.size = D.2.2 + 1; rw [hz, h3], by have := h4.1; show E.2.2.2.1 ≤ D.2.2 + 1; omega, h4.2⟩
  by_cases hba : b = D.2.2
  · subst hba
    have hb : (if D.2.2 = D.2.2 then some o else D.2.1 D.2.2) = some ob := hb
    rw [if_pos rfl] at hb
    cases hb
    exact ⟨h3 ▸ hn, fun hq => hq.elim (fun hq => by have := h1.lt hq; omega) (fun ⟨z, _, _, hq⟩ => by have := h4.1; omega), fun _ => hA _ h4.1⟩
  · have hb : (if b = D.2.2 then some o else D.2.1 b) = some ob := hb
    rw [if_neg hba] at hb
    exact ⟨(h2 b ob hb).1.kept (oq b (h2 b ob hb).1.lt), (h2 b ob hb).2⟩
/-- an object that an array of C's takes -/
def cw_is (E : cw_E) (s : State) (H : Heap) (C : String) (a : Nat) : Prop := ∃ (cv : Cell) (kv : Class), H[a]? = some cv ∧ (∀ q, cv.vm ≠ .statics q) ∧ s.vm.classes[cv.cls]? = some kv ∧ ∀ comp : ClassId, s.vm.findClass C = some comp → ∃ kcomp : Class, s.vm.classes[comp]? = some kcomp ∧ s.vm.assignable cv.cls comp = true
def cw_sF (D : cw_D) (k : Nat) (v : Int32) : cw_D := (ww_sF D.1 k v, D.2)
def cw_sX (D : cw_D) (k : Nat) (i v : Int32) : cw_D := (ww_sX D.1 k i v, D.2)
def cw_sL (D : cw_D) (v : Int64) : cw_D := (ww_sL D.1 v, D.2)
def cw_sR (D : cw_D) (k : Nat) (r : Option Nat) : cw_D := (ww_sR D.1 k r, D.2)
def cw_sY (D : cw_D) (k : Nat) (i : Int32) (r : Option Nat) : cw_D := (ww_sY D.1 k i r, D.2)

section CWR
variable {p : Program} {l : Launch} {e : Env} {R : Room} {s : State} {m : MethodId} {args : Array Value} {below : List Frame} {meth : Method} {c : Code} {H : Heap} {locs : List Loc} {cells slots : Nat} {Q : State → Prop}
variable {cc : ByteArray} {pc : Nat} {ls : Array Slot} {rest : List Value} {nL : Nat} {own : String} {E : cw_E} {D : cw_D} {A : Nat → Prop} {H0 : Heap} {a : Nat}
theorem cw_mget (X : ww_C p m c cc nL s args own lw_all) (hK : cw_K E A s) (hR : cw_H E A D H) {ref : String} {index : Nat} (k : Nat) (hk : k < 38) (hlink : Cond.fieldLink own index ref (TX1 k).2.1 (TX1 k).2.2.1 ∈ lw_all) (hsame : ∀ x, s.fieldFound? (TX1 k).1 (TX1 k).2.1 (TX1 k).2.2.1 = some x → s.fieldFound? ref (TX1 k).2.1 (TX1 k).2.2.1 = some x) {v : Value} (hv : ww_v tyX1 E.1.2.1 D.1 k = v) (hdg : decode cc pc = .ok (.getfield index, 3)) (kk : W p l e R s m args below meth c H locs cells slots Q (F0 m (pc + 3) ls (v :: rest))) : W p l e R s m args below meth c H locs cells slots Q (F0 m pc ls (.ref E.1.1 :: rest)) :=
  ww_get X in_X1 hK.1 hR.1 k hk hlink hsame hv hdg kk
theorem cw_mput (X : ww_C p m c cc nL s args own lw_all) (hK : cw_K E A s) (hR : cw_H E A D H) (hS0 : va_S A H0 H locs) {ref : String} {index : Nat} (k : Nat) (hk : k < 38) (hlink : Cond.fieldLink own index ref (TX1 k).2.1 (TX1 k).2.2.1 ∈ lw_all) (hsame : ∀ x, s.fieldFound? (TX1 k).1 (TX1 k).2.1 (TX1 k).2.2.1 = some x → s.fieldFound? ref (TX1 k).2.1 (TX1 k).2.2.1 = some x) (hfin : (TX1 k).2.2.2 = false) {t : FieldType} (ht : tyX1 k = t) {v : Value} (hn : narrow t v = v) (hfit : fits t v = true) {M' : ww_M} (hM : ∀ j, j < 38 → ww_v tyX1 E.1.2.1 M' j = updV (ww_v tyX1 E.1.2.1 D.1) k v j) (hM2 : ∀ j el, ww_c el M' j = ww_c el D.1 j) (h9 : ∀ j, 99 ≤ j → M'.2.2.2.1 j = D.1.2.2.2.1 j) (hdg : decode cc pc = .ok (.putfield index, 3)) (kk : ∀ (H1 : Heap) (locs1 : List Loc), cw_H E A (M', D.2) H1 → va_S A H0 H1 locs1 → W p l e R s m args below meth c H1 locs1 cells slots Q (F0 m (pc + 3) ls (rest))) : W p l e R s m args below meth c H locs cells slots Q (F0 m pc ls (v :: .ref E.1.1 :: rest)) := by
  obtain ⟨hx, hb, -, hown, hts⟩ := X
  have hap := ww_apart hts in_X1 tyX1 tyX1_ok nmX1 hK.1
  obtain ⟨cell, q1, q2, q3, q4⟩ := hR.1.1
  obtain ⟨hS, hfc, kC, hkC, hkind⟩ := hK.1.1
  obtain ⟨cf, kf, fi, f, hi, hsl⟩ := hS k hk
  have hlay := hts _ (in_X1 _ (u_in_lay hk))
  unfold u_lay at hlay
  rw [if_neg (by rw [hfin]; decide)] at hlay
  have hst := (u_facts hfc hkC (u_lays hts in_X1 hk) hi).1
  have h6 := u_store hfc hkC hkind hlay hi ((tyX1_ok k hk).trans (congrArg some ht)) hn hfit
  refine W.putK hx hb (f := f) ⟨hown, hts _ hlink, ⟨_, _, _, hsame _ hi⟩, hst⟩ (by rw [q2]; exact h6) q1 q3 (by rw [hsl]; exact k2_hasslot (q4 k hk)) rfl rfl hdg fun H' e1 e2 e3 => ?_
  rw [hsl] at e1 ⊢
  refine kk H' _ (hR.setMain ⟨t_OB.to (V := updV (ww_v tyX1 E.1.2.1 D.1) k v) ⟨_, e1, q2, q3, t_set q4 hap hk v⟩ (fun j hj => (hM j hj).symm), fun j hj el he => ?_⟩ h9 e2 (fun q hq => e3 q (fun h => hq (Or.inl h)))) (hS0.put e2 e3 (hK.main _ (Or.inl rfl)))
  rw [e3 _ (hK.apart.1 j hj el he), hM2]
  exact hR.1.2 j hj el he
theorem cw_mputI (X : ww_C p m c cc nL s args own lw_all) (hK : cw_K E A s) (hR : cw_H E A D H) (hS0 : va_S A H0 H locs) {ref : String} {index : Nat} (k : Nat) (hk : k < 38) (hlink : Cond.fieldLink own index ref (TX1 k).2.1 (TX1 k).2.2.1 ∈ lw_all) (hsame : ∀ x, s.fieldFound? (TX1 k).1 (TX1 k).2.1 (TX1 k).2.2.1 = some x → s.fieldFound? ref (TX1 k).2.1 (TX1 k).2.2.1 = some x) (hfin : (TX1 k).2.2.2 = false) (ht : tyX1 k = .int) {v : Int32} (hdg : decode cc pc = .ok (.putfield index, 3)) (kk : ∀ (H1 : Heap) (locs1 : List Loc), cw_H E A (cw_sF D k v) H1 → va_S A H0 H1 locs1 → W p l e R s m args below meth c H1 locs1 cells slots Q (F0 m (pc + 3) ls (rest))) : W p l e R s m args below meth c H locs cells slots Q (F0 m pc ls (.int v :: .ref E.1.1 :: rest)) := by
  refine cw_mput (M' := ww_sF D.1 k v) X hK hR hS0 k hk hlink hsame hfin ht rfl rfl (fun j _ => ?_) (fun j el => ?_) (fun _ _ => rfl) hdg kk
  · by_cases h : j = k
    · subst h
      simp [ww_v, updV, ww_sF, ht]
    · simp only [ww_v, updV, ww_sF, if_neg h]
  · cases el <;> rfl
theorem cw_mputR (X : ww_C p m c cc nL s args own lw_all) (hK : cw_K E A s) (hR : cw_H E A D H) (hS0 : va_S A H0 H locs) {ref : String} {index : Nat} (k : Nat) (hk : k < 38) (hlink : Cond.fieldLink own index ref (TX1 k).2.1 (TX1 k).2.2.1 ∈ lw_all) (hsame : ∀ x, s.fieldFound? (TX1 k).1 (TX1 k).2.1 (TX1 k).2.2.1 = some x → s.fieldFound? ref (TX1 k).2.1 (TX1 k).2.2.1 = some x) (hfin : (TX1 k).2.2.2 = false) {C : String} (ht : tyX1 k = (.object C)) {v : Option Nat} (hdg : decode cc pc = .ok (.putfield index, 3)) (kk : ∀ (H1 : Heap) (locs1 : List Loc), cw_H E A (cw_sR D k v) H1 → va_S A H0 H1 locs1 → W p l e R s m args below meth c H1 locs1 cells slots Q (F0 m (pc + 3) ls (rest))) : W p l e R s m args below meth c H locs cells slots Q (F0 m pc ls (va_rf v :: .ref E.1.1 :: rest)) := by
  refine cw_mput (M' := ww_sR D.1 k v) X hK hR hS0 k hk hlink hsame hfin ht (by cases v <;> rfl) (by cases v <;> rfl) (fun j _ => ?_) (fun j el => ?_) (fun j hj => by show (if j = k then v else _) = _; rw [if_neg (by omega)]) hdg kk
  · by_cases h : j = k
    · subst h
      simp [ww_v, updV, ww_sR, ht]
    · simp only [ww_v, updV, ww_sR, if_neg h]
  · cases el <;> rfl
theorem cw_mputL (X : ww_C p m c cc nL s args own lw_all) (hK : cw_K E A s) (hR : cw_H E A D H) (hS0 : va_S A H0 H locs) {ref : String} {index : Nat} (k : Nat) (hk : k < 38) (hlink : Cond.fieldLink own index ref (TX1 k).2.1 (TX1 k).2.2.1 ∈ lw_all) (hsame : ∀ x, s.fieldFound? (TX1 k).1 (TX1 k).2.1 (TX1 k).2.2.1 = some x → s.fieldFound? ref (TX1 k).2.1 (TX1 k).2.2.1 = some x) (hfin : (TX1 k).2.2.2 = false) (ht : ∀ j, j < 38 → (tyX1 j = .long ↔ j = k)) {v : Int64} (hdg : decode cc pc = .ok (.putfield index, 3)) (kk : ∀ (H1 : Heap) (locs1 : List Loc), cw_H E A (cw_sL D v) H1 → va_S A H0 H1 locs1 → W p l e R s m args below meth c H1 locs1 cells slots Q (F0 m (pc + 3) ls (rest))) : W p l e R s m args below meth c H locs cells slots Q (F0 m pc ls (.long v :: .ref E.1.1 :: rest)) := by
  refine cw_mput (M' := ww_sL D.1 v) X hK hR hS0 k hk hlink hsame hfin ((ht k hk).mpr rfl) rfl rfl (fun j hj => ?_) (fun j el => ?_) (fun _ _ => rfl) hdg kk
  · by_cases h : j = k
    · subst h
      simp [ww_v, updV, ww_sL, (ht j hj).mpr rfl]
    · have h1 : tyX1 j ≠ .long := fun q => h ((ht j hj).mp q)
      simp only [ww_v, updV, ww_sL, if_neg h]
      split <;> first | rfl | (rename_i q; exact absurd q h1)
  · cases el <;> rfl
theorem cw_miald (X : ww_C p m c cc nL s args own lw_all) (hK : cw_K E A s) (hR : cw_H E A D H) (k : Nat) (hk : k < 38) (ht : tyX1 k = .array .int) {n : Nat} (hn : c1_len k = n) {i : Int32} (hi : ww_i i n = true) (hdg : decode cc pc = .ok (.iaload, 1)) (kk : W p l e R s m args below meth c H locs cells slots Q (F0 m (pc + 1) ls (.int (ww_X D.1 k i) :: rest))) : W p l e R s m args below meth c H locs cells slots Q (F0 m pc ls (.int i :: .ref (E.1.2.1 k) :: rest)) :=
  ww_iald X hK.1 hR.1 k hk ht hn hi hdg kk
theorem cw_miast (X : ww_C p m c cc nL s args own lw_all) (hK : cw_K E A s) (hR : cw_H E A D H) (hS : va_S A H0 H locs) (k : Nat) (hk : k < 38) (ht : tyX1 k = .array .int) {n : Nat} (hn : c1_len k = n) {i x : Int32} (hi : ww_i i n = true) (hdg : decode cc pc = .ok (.iastore, 1)) (kk : ∀ (H1 : Heap) (locs1 : List Loc), cw_H E A (cw_sX D k i x) H1 → va_S A H0 H1 locs1 → W p l e R s m args below meth c H1 locs1 cells slots Q (F0 m (pc + 1) ls (rest))) : W p l e R s m args below meth c H locs cells slots Q (F0 m pc ls (.int x :: .int i :: .ref (E.1.2.1 k) :: rest)) := by
  subst hn
  refine W.iast X.1 X.2.1 (hR.1.2 k hk _ ht) ((hK.1.2 k hk _ ht).1 _ (fun j => .int (D.1.2.1 k j))) (fun q => by cases q) (by show ¬ (i < 0 ∨ (arrV _ _ _).slots.size ≤ _); rw [arrV_size]; exact ww_iv hi) rfl rfl hdg fun H1 e1 z oq => ?_
  exact kk H1 _ (hR.setMain (ww_sto (fun _ h => by cases h) hK.apart hR.1 k hk ht e1 oq) (fun _ _ => rfl) z (fun q hq => oq q (fun h => hq (Or.inr ⟨k, hk, ⟨_, ht⟩, h⟩)))) (hS.put z oq (hK.main _ (Or.inr ⟨k, hk, ⟨_, ht⟩, rfl⟩)))
theorem cw_mbald (X : ww_C p m c cc nL s args own lw_all) (hK : cw_K E A s) (hR : cw_H E A D H) (k : Nat) (hk : k < 38) (ht : tyX1 k = .array .byte) {n : Nat} (hn : c1_len k = n) {i : Int32} (hi : ww_i i n = true) (hdg : decode cc pc = .ok (.baload, 1)) (kk : W p l e R s m args below meth c H locs cells slots Q (F0 m (pc + 1) ls (.int (ww_X D.1 k i) :: rest))) : W p l e R s m args below meth c H locs cells slots Q (F0 m pc ls (.int i :: .ref (E.1.2.1 k) :: rest)) :=
  ww_bald X hK.1 hR.1 k hk ht hn hi hdg kk
theorem cw_mbast (X : ww_C p m c cc nL s args own lw_all) (hK : cw_K E A s) (hR : cw_H E A D H) (hS : va_S A H0 H locs) (k : Nat) (hk : k < 38) (ht : tyX1 k = .array .byte) {n : Nat} (hn : c1_len k = n) {i x : Int32} (hi : ww_i i n = true) (hdg : decode cc pc = .ok (.bastore, 1)) (kk : ∀ (H1 : Heap) (locs1 : List Loc), cw_H E A (cw_sX D k i (vp_nar .byte x)) H1 → va_S A H0 H1 locs1 → W p l e R s m args below meth c H1 locs1 cells slots Q (F0 m (pc + 1) ls (rest))) : W p l e R s m args below meth c H locs cells slots Q (F0 m pc ls (.int x :: .int i :: .ref (E.1.2.1 k) :: rest)) := by
  subst hn
  refine W.bast X.1 X.2.1 (hR.1.2 k hk _ ht) ((hK.1.2 k hk _ ht).1 _ (fun j => .int (D.1.2.1 k j))) (fun q => by cases q) (by show ¬ (i < 0 ∨ (arrV _ _ _).slots.size ≤ _); rw [arrV_size]; exact ww_iv hi) rfl rfl hdg fun H1 e1 z oq => ?_
  exact kk H1 _ (hR.setMain (ww_sto (fun _ h => by cases h) hK.apart hR.1 k hk ht e1 oq) (fun _ _ => rfl) z (fun q hq => oq q (fun h => hq (Or.inr ⟨k, hk, ⟨_, ht⟩, h⟩)))) (hS.put z oq (hK.main _ (Or.inr ⟨k, hk, ⟨_, ht⟩, rfl⟩)))
theorem cw_mzald (X : ww_C p m c cc nL s args own lw_all) (hK : cw_K E A s) (hR : cw_H E A D H) (k : Nat) (hk : k < 38) (ht : tyX1 k = .array .boolean) {n : Nat} (hn : c1_len k = n) {i : Int32} (hi : ww_i i n = true) (hdg : decode cc pc = .ok (.baload, 1)) (kk : W p l e R s m args below meth c H locs cells slots Q (F0 m (pc + 1) ls (.int (ww_X D.1 k i) :: rest))) : W p l e R s m args below meth c H locs cells slots Q (F0 m pc ls (.int i :: .ref (E.1.2.1 k) :: rest)) :=
  ww_zald X hK.1 hR.1 k hk ht hn hi hdg kk
theorem cw_mzast (X : ww_C p m c cc nL s args own lw_all) (hK : cw_K E A s) (hR : cw_H E A D H) (hS : va_S A H0 H locs) (k : Nat) (hk : k < 38) (ht : tyX1 k = .array .boolean) {n : Nat} (hn : c1_len k = n) {i x : Int32} (hi : ww_i i n = true) (hdg : decode cc pc = .ok (.bastore, 1)) (kk : ∀ (H1 : Heap) (locs1 : List Loc), cw_H E A (cw_sX D k i (vp_nar .boolean x)) H1 → va_S A H0 H1 locs1 → W p l e R s m args below meth c H1 locs1 cells slots Q (F0 m (pc + 1) ls (rest))) : W p l e R s m args below meth c H locs cells slots Q (F0 m pc ls (.int x :: .int i :: .ref (E.1.2.1 k) :: rest)) := by
  subst hn
  refine W.zast X.1 X.2.1 (hR.1.2 k hk _ ht) ((hK.1.2 k hk _ ht).1 _ (fun j => .int (D.1.2.1 k j))) (fun q => by cases q) (by show ¬ (i < 0 ∨ (arrV _ _ _).slots.size ≤ _); rw [arrV_size]; exact ww_iv hi) rfl rfl hdg fun H1 e1 z oq => ?_
  exact kk H1 _ (hR.setMain (ww_sto (fun _ h => by cases h) hK.apart hR.1 k hk ht e1 oq) (fun _ _ => rfl) z (fun q hq => oq q (fun h => hq (Or.inr ⟨k, hk, ⟨_, ht⟩, h⟩)))) (hS.put z oq (hK.main _ (Or.inr ⟨k, hk, ⟨_, ht⟩, rfl⟩)))
theorem cw_maald (X : ww_C p m c cc nL s args own lw_all) (hK : cw_K E A s) (hR : cw_H E A D H) (k : Nat) (hk : k < 38) {C : String} (ht : tyX1 k = .array (.object C)) {n : Nat} (hn : c1_len k = n) {i : Int32} (hi : ww_i i n = true) {r : Option Nat} (he : some (ww_Y D.1 k i) = some r) (hdg : decode cc pc = .ok (.aaload, 1)) (kk : W p l e R s m args below meth c H locs cells slots Q (F0 m (pc + 1) ls (va_rf r :: rest))) : W p l e R s m args below meth c H locs cells slots Q (F0 m pc ls (.int i :: .ref (E.1.2.1 k) :: rest)) := by
  subst hn
  have hin := ww_iv hi
  have hlt : i.toNatClampNeg < c1_len k := Nat.not_le.mp fun q => hin (Or.inr q)
  have he : ww_Y D.1 k i = r := Option.some.inj he
  exact W.aald (v := va_rf r) (ty := .object C) X.1 X.2.1 (hR.1.2 k hk _ ht) ((hK.1.2 k hk _ ht).1 _ (fun j => va_rf (D.1.2.2.2.2 k j))) rfl (fun q => by cases q) (by show ¬ (i < 0 ∨ (arrV _ _ _).slots.size ≤ _); rw [arrV_size]; exact hin) (by show (arrV _ _ _).slots[_]? = _; rw [arrV_read _ _ hlt, ← he]; rfl) rfl rfl hdg kk
/-- behind a write to one of the main object's arrays of references -/
theorem cw_stoR {N : Nat} {ty : Nat → FieldType} {len : Nat → Nat} {E : ww_E} {M : ww_M} {C : String} (hD : ww_D N ty E) (hR : ww_H N ty len E M H) (k : Nat) (hk : k < N) (ht : ty k = .array (.object C)) {i : Int32} {x : Option Nat} {H1 : Heap} (e1 : H1[E.2.1 k]? = some ((vp_cell (E.2.2.2.2 (.object C)) (len k, ww_c (.object C) M k)).setSlot i.toNatClampNeg (va_rf x))) (oq : ∀ q : Nat, q ≠ E.2.1 k → H1[q]? = H[q]?) : ww_H N ty len E (ww_sY M k i x) H1 := by
  refine ⟨?_, fun j hj el' he => ?_⟩
  · refine (hR.1.kept (oq _ (fun q => hD.1 k hk _ ht q.symm))).to (fun j _ => ?_)
    unfold ww_v
    cases ty j <;> rfl
  · by_cases hjk : j = k
    · subst hjk
      cases (show FieldType.array el' = .array (.object C) from he.symm.trans ht)
      rw [e1]
      show some ((vp_cell _ (len j, .inr (.inr (.inr (.inr (M.2.2.2.2 j)))))).setSlot _ _) = some (vp_cell _ (len j, .inr (.inr (.inr (.inr ((ww_sY M j i x).2.2.2.2 j))))))
      rw [vp_cell_q, vp_cell_q, arrV_store]
      congr 2
      funext q
      by_cases hq : q = i.toNatClampNeg
      · subst hq
        simp [updV, ww_sY]
      · simp [updV, ww_sY, hq]
    · rw [oq _ (fun q => hjk (hD.2 j k hj hk ⟨_, he⟩ ⟨_, ht⟩ q)), hR.2 j hj _ he]
      have : ww_c el' (ww_sY M k i x) j = ww_c el' M j := by
        unfold ww_c ww_sY
        cases el' <;> simp [hjk]
      rw [this]
theorem cw_maast (X : ww_C p m c cc nL s args own lw_all) (hK : cw_K E A s) (hR : cw_H E A D H) (hS : va_S A H0 H locs) (k : Nat) (hk : k < 38) {C : String} (ht : tyX1 k = .array (.object C)) {n : Nat} (hn : c1_len k = n) {i : Int32} {x : Option Nat} (hi : ww_i i n = true) (hx : ∀ a, x = some a → cw_is E s H C a) (hdg : decode cc pc = .ok (.aastore, 1)) (kk : ∀ (H1 : Heap) (locs1 : List Loc), cw_H E A (cw_sY D k i x) H1 → va_S A H0 H1 locs1 → W p l e R s m args below meth c H1 locs1 cells slots Q (F0 m (pc + 1) ls (rest))) : W p l e R s m args below meth c H locs cells slots Q (F0 m pc ls (va_rf x :: .int i :: .ref (E.1.2.1 k) :: rest)) := by
  subst hn
  have hin := ww_iv hi
  have hlt : i.toNatClampNeg < c1_len k := Nat.not_le.mp fun q => hin (Or.inr q)
  have h0 : ¬ i < 0 := fun q => hin (Or.inl q)
  have fin : ∀ (H1 : Heap) (L : List Loc), H1[E.1.2.1 k]? = some ((vp_cell (E.1.2.2.2.2 (.object C)) (c1_len k, ww_c (.object C) D.1 k)).setSlot i.toNatClampNeg (va_rf x)) → H1.size = H.size → (∀ q : Nat, q ≠ E.1.2.1 k → H1[q]? = H[q]?) → L = locs ++ [⟨E.1.2.1 k, i.toNatClampNeg⟩] → W p l e R s m args below meth c H1 L cells slots Q (F0 m (pc + 1) ls (rest)) := by
    intro H1 L e1 z oq hL
    subst hL
    exact kk H1 _ (hR.setMain (cw_stoR hK.apart hR.1 k hk ht e1 oq) (fun _ _ => rfl) z (fun q hq => oq q (fun h => hq (Or.inr ⟨k, hk, ⟨_, ht⟩, h⟩)))) (hS.put z oq (hK.main _ (Or.inr ⟨k, hk, ⟨_, ht⟩, rfl⟩)))
  cases x with
  | none =>
    exact va_WaastN (C := C) X.1 X.2.1 (hR.1.2 k hk _ ht) ((hK.1.2 k hk _ ht).1 _ (fun j => va_rf (D.1.2.2.2.2 k j))) (fun h => by cases h) (by show ¬ (i < 0 ∨ (arrV _ _ _).slots.size ≤ _); rw [arrV_size]; exact hin) rfl rfl hdg fun H1 e1 z oq => fin H1 _ e1 z oq rfl
  | some v =>
    obtain ⟨cv, kv, g1, g2, g3, g4⟩ := hx v rfl
    obtain ⟨kA, comp, k1, k2, k3, -⟩ := (hK.1.2 k hk _ ht).2
    obtain ⟨kcomp, hkcomp⟩ := g4 comp k3
    exact W.aast X.1 X.2.1 (hR.1.2 k hk _ ht) (fun q h => by cases h) (fun h => by cases h) k1 k2 rfl hkcomp.1 ⟨h0, by show _ < (arrV _ _ _).slots.size; rw [arrV_size]; exact hlt⟩ g1 g2 g3 hkcomp.2 rfl rfl hdg fun H1 e1 z oq => fin H1 _ e1 z oq rfl
end CWR
