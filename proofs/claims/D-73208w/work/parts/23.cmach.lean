/-! THE CLASS's methods: what a contract says, how a body begins and ends, calls -/
def cw_MetI (l : Launch) (y : MethodName) (b : ByteArray) (L : Nat) (ret : Option FieldType) (fr lo : Nat) (E : cw_E) (A : Nat → Prop) (As : List Value) (D D' : cw_D) (r : Int32) (nc ns : Nat) : Prop :=
  Met l y (ws_ y b L ret) { frames := fr, cells := nc, slots := ns, locals := lo } (va_Pc As (fun U => cw_K E A U ∧ cw_H E A D U.heap)) (va_Qi (fun (r' : Int32) (_ : Unit) => r' = r) (fun _ t => cw_H E A D' t.heap) A) nc ns A
def cw_MetV (l : Launch) (y : MethodName) (b : ByteArray) (L : Nat) (fr lo : Nat) (E : cw_E) (A : Nat → Prop) (As : List Value) (D D' : cw_D) (nc ns : Nat) : Prop :=
  Met l y (ws_ y b L none) { frames := fr, cells := nc, slots := ns, locals := lo } (va_Pc As (fun U => cw_K E A U ∧ cw_H E A D U.heap)) (va_Qv (fun (_ : Unit) => True) (fun _ t => cw_H E A D' t.heap) A) nc ns A
def cw_MetQ (l : Launch) (y : MethodName) (b : ByteArray) (L : Nat) (ret : Option FieldType) (fr lo : Nat) (E : cw_E) (A : Nat → Prop) (As : List Value) (D D' : cw_D) (r : Option Nat) (nc ns : Nat) : Prop :=
  Met l y (ws_ y b L ret) { frames := fr, cells := nc, slots := ns, locals := lo } (va_Pc As (fun U => cw_K E A U ∧ cw_H E A D U.heap)) (va_Qq (fun (r' : Option Nat) (_ : Unit) => r' = r) (fun _ t => cw_H E A D' t.heap) A) nc ns A
theorem cw_rv (x : Option Nat) : va_rf x = .null ∨ ∃ a, va_rf x = .ref a := by
  cases x with
  | none => exact Or.inl rfl
  | some a => exact Or.inr ⟨a, rfl⟩
section CWM
variable {l : Launch} {y : MethodName} {b : ByteArray} {L fr lo nc ns : Nat} {ret : Option FieldType} {E : cw_E} {A : Nat → Prop} {As : List Value} {D D' : cw_D} {own : String}
theorem cw_sIP {r : Int32} (hy : y.cls = own ∧ plainName y.cls = true) (L0 : List (Nat × Value)) (hsl : (lg_sl As).length ≤ L ∧ lv_args 0 As = L0)
    (body : ∀ (p : Program) (e : Env) (s : State) (m : MethodId) (args : Array Value) (below : List Frame) (meth : Method) (c : Code) (Rm : Room) (Q : State → Prop), ww_C p m c b L s args own lw_all → cw_K E A s → fr ≤ Rm.frames → lo ≤ Rm.locals → meth.name = y.name →
      (∀ {pc : Nat} {H : Heap} {locs : List Loc} {ls : Array Slot} {v : Int32} {ty : FieldType}, decode b pc = .ok (.ireturn, 1) → ret = some ty → narrow ty (.int v) = .int v → some v = some r → cw_H E A D H → va_S A s.heap H locs → W p l e Rm s m args below meth c H locs 0 0 Q (F0 m pc ls [.int v])) →
      ∀ ls : Array Slot, lv_has ls L L0 → cw_H E A D s.heap → va_S A s.heap s.heap [] → W p l e Rm s m args below meth c s.heap [] 0 0 Q (F0 m 0 ls [])) : cw_MetI l y b L ret fr lo E A As D D r 0 0 := by
  refine Met.ofW (cc := b) (maxL := L) (ret := ret) hy.2 rfl ?_
  intro p e s m args below meth c s₁ B hml hv
  obtain ⟨rfl, hK, hR⟩ := hv
  have hts := atoms_spec (ws := ws_ y b L ret) B.pre
  have hts : ∀ w ∈ lw_all, w.before _ s = true := fun w h => hts w (List.mem_cons_of_mem _ h)
  have hown : s.vm.findClass y.cls = some m.cls := findClass_of_methodNamed B.named
  rw [hy.1] at hown
  have hlocks := B.notSynchronized
  have hrr := B.returns
  have hl := lv_entry As (n := L) hsl.1
  rw [hsl.2] at hl
  rw [lg_entry_eq]
  refine body p e s m _ below meth c _ _ ⟨B.exec, B.bytes, hml, hown, hts⟩ hK (Nat.le_refl _) (Nat.le_refl _) (name_of_methodNamed B.named B.method).1 ?_ _ hl hR va_S.rf
  intro pc H locs ls v ty hdg hty hn hq hR hS
  cases hq
  exact W.zret B.exec B.bytes (hrr.trans hty) hn (fun t ht hW => ⟨⟨_, (), rfl, rfl, by subst ht; exact hR⟩, hS.F ht⟩) hS.2.2 hdg hlocks
theorem cw_sID {r : Int32} (hy : y.cls = own ∧ plainName y.cls = true) (L0 : List (Nat × Value)) (hsl : (lg_sl As).length ≤ L ∧ lv_args 0 As = L0)
    (body : ∀ (p : Program) (e : Env) (s : State) (m : MethodId) (args : Array Value) (below : List Frame) (meth : Method) (c : Code) (Rm : Room) (Q : State → Prop), ww_C p m c b L s args own lw_all → cw_K E A s → fr ≤ Rm.frames → lo ≤ Rm.locals → meth.name = y.name →
      (∀ {pc : Nat} {H : Heap} {locs : List Loc} {ls : Array Slot} {v : Int32} {ty : FieldType} {D1 : cw_D}, decode b pc = .ok (.ireturn, 1) → ret = some ty → narrow ty (.int v) = .int v → some (v, D1) = some (r, D') → cw_H E A D1 H → va_S A s.heap H locs → W p l e Rm s m args below meth c H locs 0 0 Q (F0 m pc ls [.int v])) →
      ∀ ls : Array Slot, lv_has ls L L0 → cw_H E A D s.heap → va_S A s.heap s.heap [] → W p l e Rm s m args below meth c s.heap [] 0 0 Q (F0 m 0 ls [])) : cw_MetI l y b L ret fr lo E A As D D' r 0 0 := by
  refine Met.ofW (cc := b) (maxL := L) (ret := ret) hy.2 rfl ?_
  intro p e s m args below meth c s₁ B hml hv
  obtain ⟨rfl, hK, hR⟩ := hv
  have hts := atoms_spec (ws := ws_ y b L ret) B.pre
  have hts : ∀ w ∈ lw_all, w.before _ s = true := fun w h => hts w (List.mem_cons_of_mem _ h)
  have hown : s.vm.findClass y.cls = some m.cls := findClass_of_methodNamed B.named
  rw [hy.1] at hown
  have hlocks := B.notSynchronized
  have hrr := B.returns
  have hl := lv_entry As (n := L) hsl.1
  rw [hsl.2] at hl
  rw [lg_entry_eq]
  refine body p e s m _ below meth c _ _ ⟨B.exec, B.bytes, hml, hown, hts⟩ hK (Nat.le_refl _) (Nat.le_refl _) (name_of_methodNamed B.named B.method).1 ?_ _ hl hR va_S.rf
  intro pc H locs ls v ty D1 hdg hty hn hq hR hS
  cases hq
  exact W.zret B.exec B.bytes (hrr.trans hty) hn (fun t ht hW => ⟨⟨_, (), rfl, rfl, by subst ht; exact hR⟩, hS.F ht⟩) hS.2.2 hdg hlocks
theorem cw_sIN {r : Int32} (hy : y.cls = own ∧ plainName y.cls = true) (L0 : List (Nat × Value)) (hsl : (lg_sl As).length ≤ L ∧ lv_args 0 As = L0)
    (body : ∀ (p : Program) (e : Env) (s : State) (m : MethodId) (args : Array Value) (below : List Frame) (meth : Method) (c : Code) (Rm : Room) (Q : State → Prop), ww_C p m c b L s args own lw_all → cw_K E A s → fr ≤ Rm.frames → lo ≤ Rm.locals → nc ≤ Rm.cells ∧ ns ≤ Rm.slots → meth.name = y.name →
      (∀ {pc : Nat} {H : Heap} {locs : List Loc} {ls : Array Slot} {v : Int32} {ty : FieldType} {D1 : cw_D} {c1 k1 : Nat}, decode b pc = .ok (.ireturn, 1) → ret = some ty → narrow ty (.int v) = .int v → some (v, D1, c1, k1) = some (r, D', nc, ns) → cw_H E A D1 H → va_S A s.heap H locs → W p l e Rm s m args below meth c H locs c1 k1 Q (F0 m pc ls [.int v])) →
      ∀ ls : Array Slot, lv_has ls L L0 → cw_H E A D s.heap → va_S A s.heap s.heap [] → W p l e Rm s m args below meth c s.heap [] 0 0 Q (F0 m 0 ls [])) : cw_MetI l y b L ret fr lo E A As D D' r nc ns := by
  refine Met.ofW (cc := b) (maxL := L) (ret := ret) hy.2 rfl ?_
  intro p e s m args below meth c s₁ B hml hv
  obtain ⟨rfl, hK, hR⟩ := hv
  have hts := atoms_spec (ws := ws_ y b L ret) B.pre
  have hts : ∀ w ∈ lw_all, w.before _ s = true := fun w h => hts w (List.mem_cons_of_mem _ h)
  have hown : s.vm.findClass y.cls = some m.cls := findClass_of_methodNamed B.named
  rw [hy.1] at hown
  have hlocks := B.notSynchronized
  have hrr := B.returns
  have hl := lv_entry As (n := L) hsl.1
  rw [hsl.2] at hl
  rw [lg_entry_eq]
  refine body p e s m _ below meth c _ _ ⟨B.exec, B.bytes, hml, hown, hts⟩ hK (Nat.le_refl _) (Nat.le_refl _) ⟨Nat.le_refl _, Nat.le_refl _⟩ (name_of_methodNamed B.named B.method).1 ?_ _ hl hR va_S.rf
  intro pc H locs ls v ty D1 c1 k1 hdg hty hn hq hR hS
  cases hq
  exact W.zret B.exec B.bytes (hrr.trans hty) hn (fun t ht hW => ⟨⟨_, (), rfl, rfl, by subst ht; exact hR⟩, hS.F ht⟩) hS.2.2 hdg hlocks
theorem cw_sVD (hy : y.cls = own ∧ plainName y.cls = true) (L0 : List (Nat × Value)) (hsl : (lg_sl As).length ≤ L ∧ lv_args 0 As = L0)
    (body : ∀ (p : Program) (e : Env) (s : State) (m : MethodId) (args : Array Value) (below : List Frame) (meth : Method) (c : Code) (Rm : Room) (Q : State → Prop), ww_C p m c b L s args own lw_all → cw_K E A s → fr ≤ Rm.frames → lo ≤ Rm.locals → meth.name = y.name →
      (∀ {pc : Nat} {H : Heap} {locs : List Loc} {ls : Array Slot} {D1 : cw_D}, decode b pc = .ok (.return_, 1) → some D1 = some D' → cw_H E A D1 H → va_S A s.heap H locs → W p l e Rm s m args below meth c H locs 0 0 Q (F0 m pc ls [])) →
      ∀ ls : Array Slot, lv_has ls L L0 → cw_H E A D s.heap → va_S A s.heap s.heap [] → W p l e Rm s m args below meth c s.heap [] 0 0 Q (F0 m 0 ls [])) : cw_MetV l y b L fr lo E A As D D' 0 0 := by
  refine Met.ofW (cc := b) (maxL := L) (ret := none) hy.2 rfl ?_
  intro p e s m args below meth c s₁ B hml hv
  obtain ⟨rfl, hK, hR⟩ := hv
  have hts := atoms_spec (ws := ws_ y b L none) B.pre
  have hts : ∀ w ∈ lw_all, w.before _ s = true := fun w h => hts w (List.mem_cons_of_mem _ h)
  have hown : s.vm.findClass y.cls = some m.cls := findClass_of_methodNamed B.named
  rw [hy.1] at hown
  have hlocks := B.notSynchronized
  have hrr := B.returns
  have hl := lv_entry As (n := L) hsl.1
  rw [hsl.2] at hl
  rw [lg_entry_eq]
  refine body p e s m _ below meth c _ _ ⟨B.exec, B.bytes, hml, hown, hts⟩ hK (Nat.le_refl _) (Nat.le_refl _) (name_of_methodNamed B.named B.method).1 ?_ _ hl hR va_S.rf
  intro pc H locs ls D1 hdg hq hR hS
  cases hq
  exact W.vret B.exec B.bytes hrr (fun t ht hW => ⟨⟨(), rfl, trivial, by subst ht; exact hR⟩, hS.F ht⟩) hS.2.2 hdg hlocks
theorem cw_sVN (hy : y.cls = own ∧ plainName y.cls = true) (L0 : List (Nat × Value)) (hsl : (lg_sl As).length ≤ L ∧ lv_args 0 As = L0)
    (body : ∀ (p : Program) (e : Env) (s : State) (m : MethodId) (args : Array Value) (below : List Frame) (meth : Method) (c : Code) (Rm : Room) (Q : State → Prop), ww_C p m c b L s args own lw_all → cw_K E A s → fr ≤ Rm.frames → lo ≤ Rm.locals → nc ≤ Rm.cells ∧ ns ≤ Rm.slots → meth.name = y.name →
      (∀ {pc : Nat} {H : Heap} {locs : List Loc} {ls : Array Slot} {D1 : cw_D} {c1 k1 : Nat}, decode b pc = .ok (.return_, 1) → some (D1, c1, k1) = some (D', nc, ns) → cw_H E A D1 H → va_S A s.heap H locs → W p l e Rm s m args below meth c H locs c1 k1 Q (F0 m pc ls [])) →
      ∀ ls : Array Slot, lv_has ls L L0 → cw_H E A D s.heap → va_S A s.heap s.heap [] → W p l e Rm s m args below meth c s.heap [] 0 0 Q (F0 m 0 ls [])) : cw_MetV l y b L fr lo E A As D D' nc ns := by
  refine Met.ofW (cc := b) (maxL := L) (ret := none) hy.2 rfl ?_
  intro p e s m args below meth c s₁ B hml hv
  obtain ⟨rfl, hK, hR⟩ := hv
  have hts := atoms_spec (ws := ws_ y b L none) B.pre
  have hts : ∀ w ∈ lw_all, w.before _ s = true := fun w h => hts w (List.mem_cons_of_mem _ h)
  have hown : s.vm.findClass y.cls = some m.cls := findClass_of_methodNamed B.named
  rw [hy.1] at hown
  have hlocks := B.notSynchronized
  have hrr := B.returns
  have hl := lv_entry As (n := L) hsl.1
  rw [hsl.2] at hl
  rw [lg_entry_eq]
  refine body p e s m _ below meth c _ _ ⟨B.exec, B.bytes, hml, hown, hts⟩ hK (Nat.le_refl _) (Nat.le_refl _) ⟨Nat.le_refl _, Nat.le_refl _⟩ (name_of_methodNamed B.named B.method).1 ?_ _ hl hR va_S.rf
  intro pc H locs ls D1 c1 k1 hdg hq hR hS
  cases hq
  exact W.vret B.exec B.bytes hrr (fun t ht hW => ⟨⟨(), rfl, trivial, by subst ht; exact hR⟩, hS.F ht⟩) hS.2.2 hdg hlocks
theorem cw_sQP {r : Option Nat} (hy : y.cls = own ∧ plainName y.cls = true) (L0 : List (Nat × Value)) (hsl : (lg_sl As).length ≤ L ∧ lv_args 0 As = L0)
    (body : ∀ (p : Program) (e : Env) (s : State) (m : MethodId) (args : Array Value) (below : List Frame) (meth : Method) (c : Code) (Rm : Room) (Q : State → Prop), ww_C p m c b L s args own lw_all → cw_K E A s → fr ≤ Rm.frames → lo ≤ Rm.locals → meth.name = y.name →
      (∀ {pc : Nat} {H : Heap} {locs : List Loc} {ls : Array Slot} {v : Option Nat} {rt : FieldType}, decode b pc = .ok (.areturn, 1) → ret = some rt → ((∃ n, rt = .object n) ∨ ∃ t, rt = .array t) → some v = some r → cw_H E A D H → va_S A s.heap H locs → W p l e Rm s m args below meth c H locs 0 0 Q (F0 m pc ls [va_rf v])) →
      ∀ ls : Array Slot, lv_has ls L L0 → cw_H E A D s.heap → va_S A s.heap s.heap [] → W p l e Rm s m args below meth c s.heap [] 0 0 Q (F0 m 0 ls [])) : cw_MetQ l y b L ret fr lo E A As D D r 0 0 := by
  refine Met.ofW (cc := b) (maxL := L) (ret := ret) hy.2 rfl ?_
  intro p e s m args below meth c s₁ B hml hv
  obtain ⟨rfl, hK, hR⟩ := hv
  have hts := atoms_spec (ws := ws_ y b L ret) B.pre
  have hts : ∀ w ∈ lw_all, w.before _ s = true := fun w h => hts w (List.mem_cons_of_mem _ h)
  have hown : s.vm.findClass y.cls = some m.cls := findClass_of_methodNamed B.named
  rw [hy.1] at hown
  have hlocks := B.notSynchronized
  have hrr := B.returns
  have hl := lv_entry As (n := L) hsl.1
  rw [hsl.2] at hl
  rw [lg_entry_eq]
  refine body p e s m _ below meth c _ _ ⟨B.exec, B.bytes, hml, hown, hts⟩ hK (Nat.le_refl _) (Nat.le_refl _) (name_of_methodNamed B.named B.method).1 ?_ _ hl hR va_S.rf
  intro pc H locs ls v rt hdg hty hrt hq hR hS
  cases hq
  exact W.aret B.exec B.bytes (hrr.trans hty) hrt (cw_rv _) (fun t ht hW => ⟨⟨_, (), rfl, rfl, by subst ht; exact hR⟩, hS.F ht⟩) hS.2.2 hdg hlocks
theorem cw_sQD {r : Option Nat} (hy : y.cls = own ∧ plainName y.cls = true) (L0 : List (Nat × Value)) (hsl : (lg_sl As).length ≤ L ∧ lv_args 0 As = L0)
    (body : ∀ (p : Program) (e : Env) (s : State) (m : MethodId) (args : Array Value) (below : List Frame) (meth : Method) (c : Code) (Rm : Room) (Q : State → Prop), ww_C p m c b L s args own lw_all → cw_K E A s → fr ≤ Rm.frames → lo ≤ Rm.locals → meth.name = y.name →
      (∀ {pc : Nat} {H : Heap} {locs : List Loc} {ls : Array Slot} {v : Option Nat} {rt : FieldType} {D1 : cw_D}, decode b pc = .ok (.areturn, 1) → ret = some rt → ((∃ n, rt = .object n) ∨ ∃ t, rt = .array t) → some (v, D1) = some (r, D') → cw_H E A D1 H → va_S A s.heap H locs → W p l e Rm s m args below meth c H locs 0 0 Q (F0 m pc ls [va_rf v])) →
      ∀ ls : Array Slot, lv_has ls L L0 → cw_H E A D s.heap → va_S A s.heap s.heap [] → W p l e Rm s m args below meth c s.heap [] 0 0 Q (F0 m 0 ls [])) : cw_MetQ l y b L ret fr lo E A As D D' r 0 0 := by
  refine Met.ofW (cc := b) (maxL := L) (ret := ret) hy.2 rfl ?_
  intro p e s m args below meth c s₁ B hml hv
  obtain ⟨rfl, hK, hR⟩ := hv
  have hts := atoms_spec (ws := ws_ y b L ret) B.pre
  have hts : ∀ w ∈ lw_all, w.before _ s = true := fun w h => hts w (List.mem_cons_of_mem _ h)
  have hown : s.vm.findClass y.cls = some m.cls := findClass_of_methodNamed B.named
  rw [hy.1] at hown
  have hlocks := B.notSynchronized
  have hrr := B.returns
  have hl := lv_entry As (n := L) hsl.1
  rw [hsl.2] at hl
  rw [lg_entry_eq]
  refine body p e s m _ below meth c _ _ ⟨B.exec, B.bytes, hml, hown, hts⟩ hK (Nat.le_refl _) (Nat.le_refl _) (name_of_methodNamed B.named B.method).1 ?_ _ hl hR va_S.rf
  intro pc H locs ls v rt D1 hdg hty hrt hq hR hS
  cases hq
  exact W.aret B.exec B.bytes (hrr.trans hty) hrt (cw_rv _) (fun t ht hW => ⟨⟨_, (), rfl, rfl, by subst ht; exact hR⟩, hS.F ht⟩) hS.2.2 hdg hlocks
theorem cw_sQN {r : Option Nat} (hy : y.cls = own ∧ plainName y.cls = true) (L0 : List (Nat × Value)) (hsl : (lg_sl As).length ≤ L ∧ lv_args 0 As = L0)
    (body : ∀ (p : Program) (e : Env) (s : State) (m : MethodId) (args : Array Value) (below : List Frame) (meth : Method) (c : Code) (Rm : Room) (Q : State → Prop), ww_C p m c b L s args own lw_all → cw_K E A s → fr ≤ Rm.frames → lo ≤ Rm.locals → nc ≤ Rm.cells ∧ ns ≤ Rm.slots → meth.name = y.name →
      (∀ {pc : Nat} {H : Heap} {locs : List Loc} {ls : Array Slot} {v : Option Nat} {rt : FieldType} {D1 : cw_D} {c1 k1 : Nat}, decode b pc = .ok (.areturn, 1) → ret = some rt → ((∃ n, rt = .object n) ∨ ∃ t, rt = .array t) → some (v, D1, c1, k1) = some (r, D', nc, ns) → cw_H E A D1 H → va_S A s.heap H locs → W p l e Rm s m args below meth c H locs c1 k1 Q (F0 m pc ls [va_rf v])) →
      ∀ ls : Array Slot, lv_has ls L L0 → cw_H E A D s.heap → va_S A s.heap s.heap [] → W p l e Rm s m args below meth c s.heap [] 0 0 Q (F0 m 0 ls [])) : cw_MetQ l y b L ret fr lo E A As D D' r nc ns := by
  refine Met.ofW (cc := b) (maxL := L) (ret := ret) hy.2 rfl ?_
  intro p e s m args below meth c s₁ B hml hv
  obtain ⟨rfl, hK, hR⟩ := hv
  have hts := atoms_spec (ws := ws_ y b L ret) B.pre
  have hts : ∀ w ∈ lw_all, w.before _ s = true := fun w h => hts w (List.mem_cons_of_mem _ h)
  have hown : s.vm.findClass y.cls = some m.cls := findClass_of_methodNamed B.named
  rw [hy.1] at hown
  have hlocks := B.notSynchronized
  have hrr := B.returns
  have hl := lv_entry As (n := L) hsl.1
  rw [hsl.2] at hl
  rw [lg_entry_eq]
  refine body p e s m _ below meth c _ _ ⟨B.exec, B.bytes, hml, hown, hts⟩ hK (Nat.le_refl _) (Nat.le_refl _) ⟨Nat.le_refl _, Nat.le_refl _⟩ (name_of_methodNamed B.named B.method).1 ?_ _ hl hR va_S.rf
  intro pc H locs ls v rt D1 c1 k1 hdg hty hrt hq hR hS
  cases hq
  exact W.aret B.exec B.bytes (hrr.trans hty) hrt (cw_rv _) (fun t ht hW => ⟨⟨_, (), rfl, rfl, by subst ht; exact hR⟩, hS.F ht⟩) hS.2.2 hdg hlocks
end CWM
section CWC
variable {p : Program} {l : Launch} {e : Env} {R : Room} {s : State} {m : MethodId} {args : Array Value} {below : List Frame} {meth : Method} {c : Code} {H : Heap} {locs : List Loc} {cells slots : Nat} {Q : State → Prop}
variable {cc : ByteArray} {pc : Nat} {ls : Array Slot} {rest st0 : List Value} {nL : Nat} {E : cw_E} {A : Nat → Prop} {D D' : cw_D} {H0 : Heap} {a : Nat} {own C host : String}
variable {x y : MethodName} {b : ByteArray} {L fr lo n index count nc ns : Nat} {ret : Option FieldType} {As : List Value}
theorem cw_rcM (hK : cw_K E A s) (hR : cw_H E A D H) : ∃ cellB : Cell, H[E.1.1]? = some cellB ∧ cellB.vm.isStatics = false ∧ s.vm.findClass RX1 = some cellB.cls := by
  obtain ⟨cell, q1, q2, q3, -⟩ := hR.1.1
  obtain ⟨-, hfc, -⟩ := hK.1.1
  exact ⟨cell, q1, by rw [q3]; rfl, by rw [q2]; exact hfc⟩
theorem cw_kd1 {k : Nat} (h : cw_kd D [k] (some a) = true) : ∃ o, D.2.1 a = some o ∧ o.1 = k := by
  have h : (match D.2.1 a with | some o => decide (o.1 ∈ [k]) | none => false) = true := h
  cases ho : D.2.1 a with
  | none => simp only [ho] at h; cases h
  | some o =>
    simp only [ho] at h
    have hm := of_decide_eq_true h
    exact ⟨o, rfl, by simpa using hm⟩
theorem cw_kd2 {j k : Nat} (h : cw_kd D [j, k] (some a) = true) : cw_kd D [j] (some a) = true ∨ cw_kd D [k] (some a) = true := by
  have h : (match D.2.1 a with | some o => decide (o.1 ∈ [j, k]) | none => false) = true := h
  show (match D.2.1 a with | some o => decide (o.1 ∈ [j]) | none => false) = true ∨ (match D.2.1 a with | some o => decide (o.1 ∈ [k]) | none => false) = true
  cases ho : D.2.1 a with
  | none => simp only [ho] at h; cases h
  | some o =>
    simp only [ho] at h ⊢
    have hm := of_decide_eq_true h
    have hm : o.1 = j ∨ o.1 = k := by simpa using hm
    rcases hm with hm | hm
    · exact Or.inl (by simp [hm])
    · exact Or.inr (by simp [hm])
theorem cw_rc {k : Nat} {T : u_T} {N : Nat} (hc : cwCl[k]? = some (C, T, N)) (hl : k < 20) (hK : cw_K E A s) (hR : cw_H E A D H) (h : cw_kd D [k] (some a) = true) : ∃ cellB : Cell, H[a]? = some cellB ∧ cellB.vm.isStatics = false ∧ s.vm.findClass C = some cellB.cls := by
  obtain ⟨o, ho, hk⟩ := cw_kd1 h
  subst hk
  obtain ⟨r, h1, cell, q1, q2, -, q3, -⟩ := (hR.2.1 a o ho).1.1 hl
  obtain ⟨-, hfc, -⟩ := hK.2.1 o.1 _ hc
  exact ⟨cell, q1, q3, by rw [q2]; exact hfc⟩
theorem cw_cls {k : Nat} {T : u_T} {N : Nat} (hc : cwCl[k]? = some (C, T, N)) (hK : cw_K E A s) : ClassAt s C (E.2.1 k) := (hK.2.1 k _ hc).2
theorem cw_pV (hK : cw_K E A s) (hR : cw_H E A D H) (hS : va_S A s.heap H locs) (hrc : ∃ cellB : Cell, H[a]? = some cellB ∧ cellB.vm.isStatics = false ∧ s.vm.findClass C = some cellB.cls) : PreV s H C a (va_Pc (.ref a :: As) (fun U => cw_K E A U ∧ cw_H E A D U.heap)) As :=
  ⟨fun a U g mk q => by obtain ⟨q0, qK, qR⟩ := q; exact ⟨q0, qK.call g mk a, qR⟩, hrc, fun U hU hW => ⟨rfl, hK.warm hW (by rw [hU]; exact hS.2.1), by rw [hU]; exact hR⟩⟩
theorem cw_pS (hK : cw_K E A s) (hR : cw_H E A D H) (hS : va_S A s.heap H locs) : PreS s H (va_Pc As (fun U => cw_K E A U ∧ cw_H E A D U.heap)) As :=
  ⟨fun a U g mk q => by obtain ⟨q0, qK, qR⟩ := q; exact ⟨q0, qK.call g mk a, qR⟩, fun U hU hW => ⟨rfl, hK.warm hW (by rw [hU]; exact hS.2.1), by rw [hU]; exact hR⟩⟩
/-- a call through an interface that lands in its own default method -/
theorem cw_runFD {bytes : ByteArray} {maxL mc ms : Nat} {ws : List Cond} {rm : Room} {Pc : Array Value → State → Prop} {Qc : Array Value → State → Outcome → State → Prop} {free : Addr → Prop} {Ts : List Cond} {cC : ClassId} {g : JFrame}
    (hat : ClassAt s C cC) (S : CallFix p m c cc nL s args Ts own) (hM : Met l y ws rm Pc Qc mc ms free) (hlink : Cond.methodLink own index x ∈ Ts) (hF : cw_Fd C x y s) (hinst : Cond.instanceMethod y ∈ Ts) (hini : Cond.initialized y.cls ∈ Ts) (hG : GoodIn Ts ws) {ws' : List Cond} (hw : ws = Cond.code y bytes maxL ret :: ws') (hrc : rm.cells = mc) (hrs : rm.slots = ms) (hRm : rm.frames + 1 ≤ R.frames ∧ 8 + (maxL + 11) + rm.locals ≤ R.locals)
    (hx9 : x.cls ≠ "java/lang/invoke/MethodHandle" ∧ x.cls ≠ "java/lang/invoke/VarHandle" ∧ (parseMethodDescriptor x.desc).map (fun d => d.parameters.length) = some n) (hp : PreV s H C a Pc As)
    (hg : g.method = m) (hn : As.length = n) (hsize : g.locals.size = nL) (hstack : g.stack = As.reverse ++ .ref a :: rest) (hW : 2 * g.monitorRoom + (rest.map fun v => v.category).sum ≤ 8) (hdg : decode cc g.pc = .ok (.invokeinterface index count, 5)) (hf : cells + mc ≤ R.cells ∧ slots + ms ≤ R.slots) :
    va_Run5 p l e R s m args below meth c H locs cells slots mc ms g rest (Qc (Value.ref a :: As).toArray) (free) := by
  have hcw : Cond.code y bytes maxL ret ∈ ws := by rw [hw]; exact List.mem_cons_self
  obtain ⟨hx, hb, hml, ho, ht⟩ := S
  have hK : Back l R p e below s args y 5 8 (PreOf R mc ms Pc) (PostOf Qc mc ms free) := back_of (bytes := bytes) (maxL := maxL) (ret := ret) hM hp.1 hrc hrs hRm.1 hRm.2 (pay_in ht hG) hcw (fun a' U hW => word_at hW (Or.inl (by first | rfl | simp [Cond.onTables, Cond.keeps, Cond.steady])) (ht _ hini))
  obtain ⟨-, ⟨cellB, hcB, hoB, hclB⟩, hPc⟩ := hp
  obtain ⟨hfc, kB, hkB, -⟩ := hat
  cases hfc.symm.trans hclB
  obtain ⟨f1, f2, f3, f4, f5⟩ := hF
  intro T hT X
  obtain ⟨v, vm₁, ⟨U', l2, c2, s2⟩, hW₁, X', ⟨g', mk, t, L, e1, e2, hq, h1, hL, h2, h3⟩, st⟩ := X.interfaceBackD hx ho (ht _ hlink) (va_any rfl f1) (va_any rfl f2) (show (Cond.landsInDefault C x y).before args s = true from f4) (ht _ hinst) (va_any rfl f3) (va_any rfl f5) ⟨hx9.1, hx9.2.1⟩ hK hfc hkB ⟨cellB, by rw [hT]; exact hcB, rfl, hoB⟩ hg (hsize.trans hml.symm) (Steps.refl _) (argsL := As) (rest := rest) (fun sig h => by have h2 := hx9.2.2; rw [h] at h2; exact hn.trans (Option.some.inj h2).symm) hstack hW (by rw [hb]; exact hdg)
    (fun vm₁ hW₁ => ⟨hf.1, hf.2, hPc (T.setVm vm₁) hT hW₁⟩)
  dsimp only [Pt.U, Pt.locs, Pt.cells, Pt.slots] at X' e1 e2 h1 h2 h3 st
  subst h1; subst h2; subst h3
  exact ⟨v, (T.setVm vm₁).calling g' mk (Value.ref a :: As).toArray, t, U', L, hT, X', hL, e1, e2, hq, fun target h9 => st.trans h9⟩
/-- Inner's own call of a method that lands in Node's default -/
theorem cw_runUD {bytes : ByteArray} {maxL mc ms : Nat} {ws : List Cond} {rm : Room} {Pc : Array Value → State → Prop} {Qc : Array Value → State → Outcome → State → Prop} {free : Addr → Prop} {Ts : List Cond} {cC : ClassId} {g : JFrame} {owner : String}
    (hat : ClassAt s C cC) (S : CallFix p m c cc nL s args Ts own) (hM : Met l y ws rm Pc Qc mc ms free) (hlink : (Cond.methodLink own index x).before args s = true) (hsame : (Cond.sameMethod x.cls owner x.name x.desc).before args s = true) (hdecl : (Cond.declares ⟨owner, x.name, x.desc⟩).before args s = true) (howner : owner ≠ "java/lang/invoke/MethodHandle" ∧ owner ≠ "java/lang/invoke/VarHandle") (hsel : (Cond.landsInDefault C x y).before args s = true) (hinst : Cond.instanceMethod y ∈ Ts) (hini : Cond.initialized y.cls ∈ Ts) (hG : GoodIn Ts ws) {ws' : List Cond} (hw : ws = Cond.code y bytes maxL ret :: ws') (hrc : rm.cells = mc) (hrs : rm.slots = ms) (hRm : rm.frames + 1 ≤ R.frames ∧ 8 + (maxL + 11) + rm.locals ≤ R.locals)
    (hx9 : (parseMethodDescriptor x.desc).map (fun d => d.parameters.length) = some n) (hp : PreV s H C a Pc As)
    (hg : g.method = m) (hn : As.length = n) (hsize : g.locals.size = nL) (hstack : g.stack = As.reverse ++ .ref a :: rest) (hW : 2 * g.monitorRoom + (rest.map fun v => v.category).sum ≤ 8) (hdg : decode cc g.pc = .ok (.invokevirtual index, 3)) (hf : cells + mc ≤ R.cells ∧ slots + ms ≤ R.slots) :
    va_Run p l e R s m args below meth c H locs cells slots mc ms g rest (Qc (Value.ref a :: As).toArray) (free) := by
  have hcw : Cond.code y bytes maxL ret ∈ ws := by rw [hw]; exact List.mem_cons_self
  obtain ⟨hx, hb, hml, ho, ht⟩ := S
  have hK : Back l R p e below s args y 3 8 (PreOf R mc ms Pc) (PostOf Qc mc ms free) := back_of (bytes := bytes) (maxL := maxL) (ret := ret) hM hp.1 hrc hrs hRm.1 hRm.2 (pay_in ht hG) hcw (fun a' U hW => word_at hW (Or.inl (by first | rfl | simp [Cond.onTables, Cond.keeps, Cond.steady])) (ht _ hini))
  obtain ⟨-, ⟨cellB, hcB, hoB, hclB⟩, hPc⟩ := hp
  obtain ⟨hfc, kB, hkB, -⟩ := hat
  cases hfc.symm.trans hclB
  intro T hT X
  obtain ⟨v, vm₁, ⟨U', l2, c2, s2⟩, hW₁, X', ⟨g', mk, t, L, e1, e2, hq, h1, hL, h2, h3⟩, st⟩ := X.virtualBackUpD hx ho hlink hsame hdecl howner hsel (ht _ hinst) hK hfc ⟨cellB, by rw [hT]; exact hcB, rfl, hoB⟩ hg (hsize.trans hml.symm) (Steps.refl _) (argsL := As) (rest := rest) (fun sig h => by have h2 := hx9; rw [h] at h2; exact hn.trans (Option.some.inj h2).symm) hstack hW (by rw [hb]; exact hdg)
    (fun vm₁ hW₁ => ⟨hf.1, hf.2, hPc (T.setVm vm₁) hT hW₁⟩)
  dsimp only [Pt.U, Pt.locs, Pt.cells, Pt.slots] at X' e1 e2 h1 h2 h3 st
  subst h1; subst h2; subst h3
  exact ⟨v, (T.setVm vm₁).calling g' mk (Value.ref a :: As).toArray, t, U', L, hT, X', hL, e1, e2, hq, fun target h9 => st.trans h9⟩
end CWC
