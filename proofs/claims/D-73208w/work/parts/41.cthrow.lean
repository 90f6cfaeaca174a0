/-! methods that may throw the main object's fault: a result z tells which; cells and slots made -/
abbrev cx_Z (α : Type) : Type := (cw_D × Nat × Nat) ⊕ (α × cw_D × Nat × Nat)
def cx_c {α : Type} (z : cx_Z α) : Nat := match z with
  | .inl (_, c, _) => c
  | .inr (_, _, c, _) => c
def cx_k {α : Type} (z : cx_Z α) : Nat := match z with
  | .inl (_, _, k) => k
  | .inr (_, _, _, k) => k
/-- thrown first, then returned -/
def ww_t {α β : Type} (x : Option (cx_Z α)) (g : cw_D → Nat → Nat → Option β) (f : α → cw_D → Nat → Nat → Option β) : Option β := match x with
  | some (.inl (D, c, k)) => g D c k
  | some (.inr (a, D, c, k)) => f a D c k
  | none => none
theorem ww_tS {α β : Type} {x : Option (cx_Z α)} {g : cw_D → Nat → Nat → Option β} {f : α → cw_D → Nat → Nat → Option β} {w : β} (h : ww_t x g f = some w) : (∃ D c k, x = some (.inl (D, c, k)) ∧ g D c k = some w) ∨ ∃ a D c k, x = some (.inr (a, D, c, k)) ∧ f a D c k = some w := by
  match x, h with
  | some (.inl (D, c, k)), h => exact Or.inl ⟨D, c, k, rfl, h⟩
  | some (.inr (a, D, c, k)), h => exact Or.inr ⟨a, D, c, k, rfl, h⟩
abbrev RFault : String := "WideMap$Fault"
def cx_X {α : Type} (E : cw_E) (A : Nat → Prop) (z : cx_Z α) : String → State → State → Prop := vx_X (fun q : cw_D × Nat × Nat => z = .inl q) (fun Ex q t => Ex = RFault ∧ cw_H E A q.1 t.heap) A
def cx_MetI (l : Launch) (y : MethodName) (b : ByteArray) (L : Nat) (ret : Option FieldType) (fr lo : Nat) (E : cw_E) (A : Nat → Prop) (As : List Value) (D : cw_D) (z : cx_Z Int32) : Prop :=
  vx_Met l y (ws_ y b L ret) { frames := fr, cells := cx_c z, slots := cx_k z, locals := lo } (va_Pc As (fun U => cw_K E A U ∧ cw_H E A D U.heap)) (va_Qi (fun r' (q : cw_D × Nat × Nat) => z = .inr (r', q)) (fun q t => cw_H E A q.1 t.heap) A) (cx_X E A z) (cx_c z) (cx_k z) A
def cx_MetQ (l : Launch) (y : MethodName) (b : ByteArray) (L : Nat) (ret : Option FieldType) (fr lo : Nat) (E : cw_E) (A : Nat → Prop) (As : List Value) (D : cw_D) (z : cx_Z (Option Nat)) : Prop :=
  vx_Met l y (ws_ y b L ret) { frames := fr, cells := cx_c z, slots := cx_k z, locals := lo } (va_Pc As (fun U => cw_K E A U ∧ cw_H E A D U.heap)) (va_Qq (fun r' (q : cw_D × Nat × Nat) => z = .inr (r', q)) (fun q t => cw_H E A q.1 t.heap) A) (cx_X E A z) (cx_c z) (cx_k z) A
def cx_MetV (l : Launch) (y : MethodName) (b : ByteArray) (L : Nat) (fr lo : Nat) (E : cw_E) (A : Nat → Prop) (As : List Value) (D : cw_D) (z : cx_Z Unit) : Prop :=
  vx_Met l y (ws_ y b L none) { frames := fr, cells := cx_c z, slots := cx_k z, locals := lo } (va_Pc As (fun U => cw_K E A U ∧ cw_H E A D U.heap)) (va_Qv (fun (q : cw_D × Nat × Nat) => z = .inr ((), q)) (fun q t => cw_H E A q.1 t.heap) A) (cx_X E A z) (cx_c z) (cx_k z) A
/-- a method with a table of its own that doesn't throw -/
def cw_MetIW (l : Launch) (y : MethodName) (b : ByteArray) (L : Nat) (ret : Option FieldType) (hh : List (Nat × Nat × Nat × Nat)) (fr lo : Nat) (E : cw_E) (A : Nat → Prop) (As : List Value) (D D' : cw_D) (r : Int32) (nc ns : Nat) : Prop :=
  Met l y (wsW_ y b L ret hh) { frames := fr, cells := nc, slots := ns, locals := lo } (va_Pc As (fun U => cw_K E A U ∧ cw_H E A D U.heap)) (va_Qi (fun (r' : Int32) (_ : Unit) => r' = r) (fun _ t => cw_H E A D' t.heap) A) nc ns A
section CXM
variable {l : Launch} {y : MethodName} {b : ByteArray} {L fr lo nc ns : Nat} {ret : Option FieldType} {E : cw_E} {A : Nat → Prop} {As : List Value} {D D' : cw_D} {own : String}
theorem cx_sI {z : cx_Z Int32} (hy : y.cls = own ∧ plainName y.cls = true) (L0 : List (Nat × Value)) (hsl : (lg_sl As).length ≤ L ∧ lv_args 0 As = L0)
    (body : ∀ (p : Program) (e : Env) (s : State) (m : MethodId) (args : Array Value) (below : List Frame) (meth : Method) (c : Code) (Rm : Room) (Q : State → Prop), ww_C p m c b L s args own lw_all → cw_K E A s → fr ≤ Rm.frames → lo ≤ Rm.locals → cx_c z ≤ Rm.cells ∧ cx_k z ≤ Rm.slots → meth.name = y.name →
      (∀ {pc : Nat} {H : Heap} {locs : List Loc} {ls : Array Slot} {v : Int32} {ty : FieldType} {D1 : cw_D} {c1 k1 : Nat}, decode b pc = .ok (.ireturn, 1) → ret = some ty → narrow ty (.int v) = .int v → some (Sum.inr (v, D1, c1, k1)) = some z → cw_H E A D1 H → va_S A s.heap H locs → W p l e Rm s m args below meth c H locs c1 k1 Q (F0 m pc ls [.int v])) →
      (∀ {pc : Nat} {H : Heap} {locs : List Loc} {ls : Array Slot} {rest : List Value} {q : Nat} {ce : Cell} {D1 : cw_D} {c1 k1 : Nat}, some (Sum.inl (D1, c1, k1)) = some z → cw_H E A D1 H → va_S A s.heap H locs → H[q]? = some ce → ce.vm = .none → s.vm.findClass RFault = some ce.cls → vx_W p l e Rm s m args below meth c H locs c1 k1 Q (F0 m pc ls rest) q) →
      ∀ ls : Array Slot, lv_has ls L L0 → cw_H E A D s.heap → va_S A s.heap s.heap [] → W p l e Rm s m args below meth c s.heap [] 0 0 Q (F0 m 0 ls [])) : cx_MetI l y b L ret fr lo E A As D z := by
  refine vx_ofW (cc := b) (maxL := L) (ret := ret) hy.2 rfl ?_
  intro p e s m args below meth c s₁ B hml hnt hv
  obtain ⟨rfl, hK, hR⟩ := hv
  have hts := atoms_spec (ws := ws_ y b L ret) B.pre
  have hts : ∀ w ∈ lw_all, w.before _ s = true := fun w h => hts w (List.mem_cons_of_mem _ h)
  have hown : s.vm.findClass y.cls = some m.cls := findClass_of_methodNamed B.named
  rw [hy.1] at hown
  have hlocks := B.notSynchronized
  have hrr := B.returns
  have hl := lv_entry As (n := L) hsl.1
  rw [hsl.2] at hl
  rw [lg_entry_eq]
  refine body p e s m _ below meth c _ _ ⟨B.exec, B.bytes, hml, hown, hts⟩ hK (Nat.le_refl _) (Nat.le_refl _) ⟨Nat.le_refl _, Nat.le_refl _⟩ (name_of_methodNamed B.named B.method).1 ?_ ?_ _ hl hR va_S.rf
  · intro pc H locs ls v ty D1 c1 k1 hdg hty hn hq hR hS
    cases hq
    exact vx_ret (W.zret B.exec B.bytes (hrr.trans hty) hn (fun t ht hW => ⟨⟨_, (D1, c1, k1), rfl, rfl, by subst ht; exact hR⟩, hS.F ht⟩) hS.2.2 hdg hlocks)
  · intro pc H locs ls rest q ce D1 c1 k1 hq hR hS hce hcv hcl
    cases hq
    exact vx_out (fun x hx => (hnt x hx).elim) hlocks hce hcv hcl (fun t ht hal => ⟨(D1, c1, k1), rfl, ⟨rfl, by subst ht; exact hR⟩, hS.F ht⟩) hS.2.2 (Nat.le_refl _) (Nat.le_refl _)
theorem cx_sV {z : cx_Z Unit} (hy : y.cls = own ∧ plainName y.cls = true) (L0 : List (Nat × Value)) (hsl : (lg_sl As).length ≤ L ∧ lv_args 0 As = L0)
    (body : ∀ (p : Program) (e : Env) (s : State) (m : MethodId) (args : Array Value) (below : List Frame) (meth : Method) (c : Code) (Rm : Room) (Q : State → Prop), ww_C p m c b L s args own lw_all → cw_K E A s → fr ≤ Rm.frames → lo ≤ Rm.locals → cx_c z ≤ Rm.cells ∧ cx_k z ≤ Rm.slots → meth.name = y.name →
      (∀ {pc : Nat} {H : Heap} {locs : List Loc} {ls : Array Slot} {D1 : cw_D} {c1 k1 : Nat}, decode b pc = .ok (.return_, 1) → some (Sum.inr ((), D1, c1, k1)) = some z → cw_H E A D1 H → va_S A s.heap H locs → W p l e Rm s m args below meth c H locs c1 k1 Q (F0 m pc ls [])) →
      (∀ {pc : Nat} {H : Heap} {locs : List Loc} {ls : Array Slot} {rest : List Value} {q : Nat} {ce : Cell} {D1 : cw_D} {c1 k1 : Nat}, some (Sum.inl (D1, c1, k1)) = some z → cw_H E A D1 H → va_S A s.heap H locs → H[q]? = some ce → ce.vm = .none → s.vm.findClass RFault = some ce.cls → vx_W p l e Rm s m args below meth c H locs c1 k1 Q (F0 m pc ls rest) q) →
      ∀ ls : Array Slot, lv_has ls L L0 → cw_H E A D s.heap → va_S A s.heap s.heap [] → W p l e Rm s m args below meth c s.heap [] 0 0 Q (F0 m 0 ls [])) : cx_MetV l y b L fr lo E A As D z := by
  refine vx_ofW (cc := b) (maxL := L) (ret := none) hy.2 rfl ?_
  intro p e s m args below meth c s₁ B hml hnt hv
  obtain ⟨rfl, hK, hR⟩ := hv
  have hts := atoms_spec (ws := ws_ y b L none) B.pre
  have hts : ∀ w ∈ lw_all, w.before _ s = true := fun w h => hts w (List.mem_cons_of_mem _ h)
  have hown : s.vm.findClass y.cls = some m.cls := findClass_of_methodNamed B.named
  rw [hy.1] at hown
  have hlocks := B.notSynchronized
  have hrr := B.returns
  have hl := lv_entry As (n := L) hsl.1
  rw [hsl.2] at hl
  rw [lg_entry_eq]
  refine body p e s m _ below meth c _ _ ⟨B.exec, B.bytes, hml, hown, hts⟩ hK (Nat.le_refl _) (Nat.le_refl _) ⟨Nat.le_refl _, Nat.le_refl _⟩ (name_of_methodNamed B.named B.method).1 ?_ ?_ _ hl hR va_S.rf
  · intro pc H locs ls D1 c1 k1 hdg hq hR hS
    cases hq
    exact vx_ret (W.vret B.exec B.bytes hrr (fun t ht hW => ⟨⟨(D1, c1, k1), rfl, rfl, by subst ht; exact hR⟩, hS.F ht⟩) hS.2.2 hdg hlocks)
  · intro pc H locs ls rest q ce D1 c1 k1 hq hR hS hce hcv hcl
    cases hq
    exact vx_out (fun x hx => (hnt x hx).elim) hlocks hce hcv hcl (fun t ht hal => ⟨(D1, c1, k1), rfl, ⟨rfl, by subst ht; exact hR⟩, hS.F ht⟩) hS.2.2 (Nat.le_refl _) (Nat.le_refl _)
theorem cx_sQ {z : cx_Z (Option Nat)} (hy : y.cls = own ∧ plainName y.cls = true) (L0 : List (Nat × Value)) (hsl : (lg_sl As).length ≤ L ∧ lv_args 0 As = L0)
    (body : ∀ (p : Program) (e : Env) (s : State) (m : MethodId) (args : Array Value) (below : List Frame) (meth : Method) (c : Code) (Rm : Room) (Q : State → Prop), ww_C p m c b L s args own lw_all → cw_K E A s → fr ≤ Rm.frames → lo ≤ Rm.locals → cx_c z ≤ Rm.cells ∧ cx_k z ≤ Rm.slots → meth.name = y.name →
      (∀ {pc : Nat} {H : Heap} {locs : List Loc} {ls : Array Slot} {v : Option Nat} {rt : FieldType} {D1 : cw_D} {c1 k1 : Nat}, decode b pc = .ok (.areturn, 1) → ret = some rt → ((∃ n, rt = .object n) ∨ ∃ t, rt = .array t) → some (Sum.inr (v, D1, c1, k1)) = some z → cw_H E A D1 H → va_S A s.heap H locs → W p l e Rm s m args below meth c H locs c1 k1 Q (F0 m pc ls [va_rf v])) →
      (∀ {pc : Nat} {H : Heap} {locs : List Loc} {ls : Array Slot} {rest : List Value} {q : Nat} {ce : Cell} {D1 : cw_D} {c1 k1 : Nat}, some (Sum.inl (D1, c1, k1)) = some z → cw_H E A D1 H → va_S A s.heap H locs → H[q]? = some ce → ce.vm = .none → s.vm.findClass RFault = some ce.cls → vx_W p l e Rm s m args below meth c H locs c1 k1 Q (F0 m pc ls rest) q) →
      ∀ ls : Array Slot, lv_has ls L L0 → cw_H E A D s.heap → va_S A s.heap s.heap [] → W p l e Rm s m args below meth c s.heap [] 0 0 Q (F0 m 0 ls [])) : cx_MetQ l y b L ret fr lo E A As D z := by
  refine vx_ofW (cc := b) (maxL := L) (ret := ret) hy.2 rfl ?_
  intro p e s m args below meth c s₁ B hml hnt hv
  obtain ⟨rfl, hK, hR⟩ := hv
  have hts := atoms_spec (ws := ws_ y b L ret) B.pre
  have hts : ∀ w ∈ lw_all, w.before _ s = true := fun w h => hts w (List.mem_cons_of_mem _ h)
  have hown : s.vm.findClass y.cls = some m.cls := findClass_of_methodNamed B.named
  rw [hy.1] at hown
  have hlocks := B.notSynchronized
  have hrr := B.returns
  have hl := lv_entry As (n := L) hsl.1
  rw [hsl.2] at hl
  rw [lg_entry_eq]
  refine body p e s m _ below meth c _ _ ⟨B.exec, B.bytes, hml, hown, hts⟩ hK (Nat.le_refl _) (Nat.le_refl _) ⟨Nat.le_refl _, Nat.le_refl _⟩ (name_of_methodNamed B.named B.method).1 ?_ ?_ _ hl hR va_S.rf
  · intro pc H locs ls v rt D1 c1 k1 hdg hty hrt hq hR hS
    cases hq
    exact vx_ret (W.aret B.exec B.bytes (hrr.trans hty) hrt (cw_rv _) (fun t ht hW => ⟨⟨_, (D1, c1, k1), rfl, rfl, by subst ht; exact hR⟩, hS.F ht⟩) hS.2.2 hdg hlocks)
  · intro pc H locs ls rest q ce D1 c1 k1 hq hR hS hce hcv hcl
    cases hq
    exact vx_out (fun x hx => (hnt x hx).elim) hlocks hce hcv hcl (fun t ht hal => ⟨(D1, c1, k1), rfl, ⟨rfl, by subst ht; exact hR⟩, hS.F ht⟩) hS.2.2 (Nat.le_refl _) (Nat.le_refl _)
theorem cw_sIW {hh : List (Nat × Nat × Nat × Nat)} {r : Int32} (hy : y.cls = own ∧ plainName y.cls = true) (L0 : List (Nat × Value)) (hsl : (lg_sl As).length ≤ L ∧ lv_args 0 As = L0)
    (body : ∀ (p : Program) (e : Env) (s : State) (m : MethodId) (args : Array Value) (below : List Frame) (meth : Method) (c : Code) (Rm : Room) (Q : State → Prop), ww_C p m c b L s args own lw_all → cw_K E A s → fr ≤ Rm.frames → lo ≤ Rm.locals → nc ≤ Rm.cells ∧ ns ≤ Rm.slots → meth.name = y.name → c.exceptionTable.toList = tableOf hh →
      (∀ {pc : Nat} {H : Heap} {locs : List Loc} {ls : Array Slot} {v : Int32} {ty : FieldType} {D1 : cw_D} {c1 k1 : Nat}, decode b pc = .ok (.ireturn, 1) → ret = some ty → narrow ty (.int v) = .int v → some (v, D1, c1, k1) = some (r, D', nc, ns) → cw_H E A D1 H → va_S A s.heap H locs → W p l e Rm s m args below meth c H locs c1 k1 Q (F0 m pc ls [.int v])) →
      ∀ ls : Array Slot, lv_has ls L L0 → cw_H E A D s.heap → va_S A s.heap s.heap [] → W p l e Rm s m args below meth c s.heap [] 0 0 Q (F0 m 0 ls [])) : cw_MetIW l y b L ret hh fr lo E A As D D' r nc ns := by
  have h9 : vx_Met l y (wsW_ y b L ret hh) { frames := fr, cells := nc, slots := ns, locals := lo } (va_Pc As (fun U => cw_K E A U ∧ cw_H E A D U.heap)) (va_Qi (fun (r' : Int32) (_ : Unit) => r' = r) (fun _ t => cw_H E A D' t.heap) A) (fun _ _ _ => False) nc ns A := by
    refine vx_ofWH (cc := b) (maxL := L) (ret := ret) (hh := hh) hy.2 rfl ?_
    intro p e s m args below meth c s₁ B hml hv
    obtain ⟨rfl, hK, hR⟩ := hv
    have hts := atoms_spec (ws := wsW_ y b L ret hh) B.pre
    have htab := vx_table (x := y) B (hts _ List.mem_cons_self)
    have hts : ∀ w ∈ lw_all, w.before _ s = true := fun w h => hts w (List.mem_cons_of_mem _ h)
    have hown : s.vm.findClass y.cls = some m.cls := findClass_of_methodNamed B.named
    rw [hy.1] at hown
    have hlocks := B.notSynchronized
    have hrr := B.returns
    have hl := lv_entry As (n := L) hsl.1
    rw [hsl.2] at hl
    rw [lg_entry_eq]
    refine body p e s m _ below meth c _ _ ⟨B.exec, B.bytes, hml, hown, hts⟩ hK (Nat.le_refl _) (Nat.le_refl _) ⟨Nat.le_refl _, Nat.le_refl _⟩ (name_of_methodNamed B.named B.method).1 htab ?_ _ hl hR va_S.rf
    intro pc H locs ls v ty D1 c1 k1 hdg hty hn hq hR hS
    cases hq
    exact vx_ret (W.zret B.exec B.bytes (hrr.trans hty) hn (fun t ht hW => ⟨⟨_, (), rfl, rfl, by subst ht; exact hR⟩, hS.F ht⟩) hS.2.2 hdg hlocks)
  intro p e h1 h2 h3 s m args below h4 h5 h6 h7
  obtain ⟨n, o, k1, k2, k3, k4⟩ := h9 p e h1 h2 h3 s m args below h4 h5 h6 h7
  refine ⟨n, o, k1, k2, k3, ?_⟩
  rcases k4 with k4 | ⟨q, -, Ex, ce, Ls, k4, -⟩
  · exact k4
  · exact k4.elim
end CXM
section CXC
variable {p : Program} {l : Launch} {e : Env} {R : Room} {s : State} {m : MethodId} {args : Array Value} {below : List Frame} {meth : Method} {c : Code} {H : Heap} {locs : List Loc} {cells slots : Nat} {Q : State → Prop}
variable {cc : ByteArray} {pc : Nat} {ls : Array Slot} {rest : List Value} {nL : Nat} {E : cw_E} {A : Nat → Prop} {D : cw_D} {H0 : Heap} {a : Nat}
theorem cw_flt (hK : cw_K E A s) (hR : cw_H E A D H) (h : cw_kd D [5] (some a) = true) : ∃ ce : Cell, H[a]? = some ce ∧ ce.vm = .none ∧ s.vm.findClass RFault = some ce.cls := by
  obtain ⟨o, ho, hk⟩ := cw_kd1 h
  obtain ⟨r, h1, cell, q1, q2, q3, -⟩ := (hR.2.1 a o ho).1.1 (by omega)
  replace q3 : cell.vm = .none := q3.elim id (fun z => absurd (hk.symm.trans z.2) (by decide))
  rw [hk] at h1 q2
  cases h1
  exact ⟨cell, q1, q3, by rw [q2]; exact (hK.2.1 5 _ rfl).2.1⟩
theorem cw_catch {hh : List (Nat × Nat × Nat × Nat)} {x : ExceptionTableEntry} {q : Nat} {ce : Cell} (htab : c.exceptionTable.toList = tableOf hh) (hx1 : tableOf hh = [x]) (X : ww_C p m c cc nL s args RX1 lw_all) (hK : cw_K E A s) (hx : covers x pc = true) (h0 : x.catchType ≠ 0) (hlink : Cond.classLink RX1 x.catchType RFault ∈ lw_all) (hce : H[q]? = some ce) (hcv : ce.vm = .none) (hcl : s.vm.findClass RFault = some ce.cls) {hpc : Nat} (hpe : x.handlerPc = hpc)
    (kk : W p l e R s m args below meth c H locs cells slots Q (F0 m hpc ls [.ref q])) : vx_W p l e R s m args below meth c H locs cells slots Q (F0 m pc ls rest) q := by
  subst hpe
  exact vx_catch X.2.2.2.1 [] x [] (htab.trans hx1) (fun z hz => nomatch hz) hx h0 (X.2.2.2.2 _ hlink) (va_Nw.use rfl (hK.ct.2.2.2.2.2.2.2.1 (RFault, RFault) (by decide +kernel))) hce hcv hcl kk
end CXC
