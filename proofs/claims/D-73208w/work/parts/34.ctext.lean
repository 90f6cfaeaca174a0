/-! texts: rows for the JDK's own methods: bytes copied, an array cloned, constants, statics, calls of private and of inherited methods -/
def cw_cp (D : cw_D) (a : Nat) (sp : Int32) (b : Nat) (dp n : Int32) : Option cw_D := match D.2.1 a with
  | some o => match D.2.1 b with
    | some q => if (o.1 = 21 ∧ q.1 = 21 ∧ q.2.1 = true) ∧ (¬ sp < 0 ∧ ¬ dp < 0 ∧ ¬ n < 0 ∧ sp.toNatClampNeg + n.toNatClampNeg ≤ o.2.2.2.1 ∧ dp.toNatClampNeg + n.toNatClampNeg ≤ q.2.2.2.1) ∧ ∀ i, i < n.toNatClampNeg → fits .byte (.int (o.2.2.2.2.1 (sp.toNatClampNeg + i))) = true
        then some (D.1, cw_up D.2.1 b (q.1, q.2.1, q.2.2.1, q.2.2.2.1, va_cpy o.2.2.2.2.1 q.2.2.2.2.1 sp.toNatClampNeg dp.toNatClampNeg n.toNatClampNeg, q.2.2.2.2.2), D.2.2) else none
    | none => none
  | none => none
theorem cw_cp_o {D D' : cw_D} {a b : Nat} {sp dp n : Int32} (h : cw_cp D a sp b dp n = some D') : ∃ o q, D.2.1 a = some o ∧ D.2.1 b = some q ∧ (o.1 = 21 ∧ q.1 = 21 ∧ q.2.1 = true) ∧ (¬ sp < 0 ∧ ¬ dp < 0 ∧ ¬ n < 0 ∧ sp.toNatClampNeg + n.toNatClampNeg ≤ o.2.2.2.1 ∧ dp.toNatClampNeg + n.toNatClampNeg ≤ q.2.2.2.1) ∧ (∀ i, i < n.toNatClampNeg → fits .byte (.int (o.2.2.2.2.1 (sp.toNatClampNeg + i))) = true) ∧ D' = (D.1, cw_up D.2.1 b (q.1, q.2.1, q.2.2.1, q.2.2.2.1, va_cpy o.2.2.2.2.1 q.2.2.2.2.1 sp.toNatClampNeg dp.toNatClampNeg n.toNatClampNeg, q.2.2.2.2.2), D.2.2) := by
  unfold cw_cp at h
  cases ho : D.2.1 a with
  | none => simp only [ho] at h; cases h
  | some o =>
    simp only [ho] at h
    cases hq : D.2.1 b with
    | none => simp only [hq] at h; cases h
    | some q =>
      simp only [hq] at h
      split at h
      · rename_i hc
        cases h
        exact ⟨o, q, rfl, rfl, hc.1, hc.2.1, hc.2.2, rfl⟩
      · cases h
/-- a byte array's copy, at the next address -/
def cw_cl (D : cw_D) (a : Nat) : Option (Nat × cw_D) := match D.2.1 a with
  | some o => if o.1 = 21 ∧ ∀ i, i < o.2.2.2.1 → fits .byte (.int (o.2.2.2.2.1 i)) = true then some (o.2.2.2.1, (D.1, cw_up D.2.1 D.2.2 (21, true, (fun _ => .null), o.2.2.2.1, o.2.2.2.2.1, fun _ => none), D.2.2 + 1)) else none
  | none => none
section CTX
variable {p : Program} {l : Launch} {e : Env} {R : Room} {s : State} {m : MethodId} {args : Array Value} {below : List Frame} {meth : Method} {c : Code} {H : Heap} {locs : List Loc} {cells slots : Nat} {Q : State → Prop}
variable {cc : ByteArray} {pc : Nat} {ls : Array Slot} {rest : List Value} {nL : Nat} {own : String} {E : cw_E} {D : cw_D} {A : Nat → Prop} {H0 : Heap} {a : Nat}
theorem cw_bytes (hR : cw_H E A D H) {o : cw_O} (ho : D.2.1 a = some o) (hk : o.1 = 21) : ∃ cell : Cell, H[a]? = some cell ∧ cell.cls = E.1.2.2.2.2 .byte ∧ cell.vm.isStatics = false ∧ cell.vm ≠ .unknown ∧ cell.slots = (vp_cell (E.1.2.2.2.2 .byte) (o.2.2.2.1, .inl o.2.2.2.2.1)).slots := by
  obtain ⟨cell, q1, q2, -, q4, q5, q6⟩ := (hR.2.1 a o ho).1.2 (by omega)
  rw [hk] at q2
  rw [hk, cw_ctI (Or.inr hk)] at q6
  exact ⟨cell, q1, q2, q4, q5, q6⟩
theorem cw_bytesW (hR : cw_H E A D H) {o : cw_O} (ho : D.2.1 a = some o) (hk : o.1 = 21) (hw : o.2.1 = true) : H[a]? = some (vp_cell (E.1.2.2.2.2 .byte) (o.2.2.2.1, .inl o.2.2.2.2.1)) := by
  have h := (hR.2.1 a o ho).1.aw (by omega) hw
  rw [hk, cw_ctI (Or.inr hk)] at h
  exact h
theorem cw_arc (X : ww_C p m c cc nL s args own lw_all) (hsz : ls.size = nL) (hK : cw_K E A s) (hR : cw_H E A D H) (hS : va_S A H0 H locs) {index : Nat} (hlink : Cond.methodLink own index arraycopyName ∈ lw_all) (hnat : Cond.native arraycopyName ∈ lw_all) (hstat : Cond.static arraycopyName ∈ lw_all) (hini : Cond.initialized "java/lang/System" ∈ lw_all) {b : Nat} {sp dp n : Int32} {D' : cw_D} (h : cw_cp D a sp b dp n = some D')
    (hframes : 1 ≤ R.frames) (hlocals : 100 ≤ R.locals) (hrest : (rest.map fun v => v.category).sum ≤ 8) (hdg : decode cc pc = .ok (.invokestatic index, 3))
    (kk : ∀ (H1 : Heap) (locs1 : List Loc), cw_H E A D' H1 → va_S A H0 H1 locs1 → W p l e R s m args below meth c H1 locs1 cells slots Q (F0 m (pc + 3) ls rest)) : W p l e R s m args below meth c H locs cells slots Q (F0 m pc ls (.int n :: .int dp :: .ref b :: .int sp :: .ref a :: rest)) := by
  obtain ⟨o, q, ho, hq, ⟨k1, k2, hw⟩, ⟨h1, h2, h3, h4, h5⟩, hfit, rfl⟩ := cw_cp_o h
  obtain ⟨hexec, hb, hml, hown, hts⟩ := X
  have nn : ∀ z : Int32, ¬ z < 0 → z.toInt = (z.toNatClampNeg : Int) := by
    intro z hz
    have hz0 : (0 : Int) ≤ z.toInt := by
      have := Int32.not_lt.mp hz
      simpa using Int32.le_iff_toInt_le.mp this
    show z.toInt = ((z.toInt.toNat : Nat) : Int)
    omega
  obtain ⟨cs, hc0, hcc, hcv, hcu, hcs⟩ := cw_bytes hR ho k1
  have hcn : ∀ k, cs.vm ≠ .statics k := fun k h => by rw [h] at hcv; cases hcv
  have hc1 := cw_bytesW hR hq k2 hw
  have hwr := (hR.2.1 b q hq).2.2 hw
  intro T hT X
  obtain ⟨-, c0, hk0, cm0, hkk0⟩ := (cw_arr hK (kd := 21) o.2.2.2.1 (fun j => .int (o.2.2.2.2.1 j)) .byte rfl).1
  obtain ⟨-, c1, hk1, cm1, hkk1⟩ := (cw_arr hK (kd := 21) q.2.2.2.1 (fun j => .int (q.2.2.2.2.1 j)) .byte rfl).1
  obtain ⟨vm', X', step⟩ := X.arraycopy hexec hown (hts _ hlink) (hts _ hnat) (hts _ hstat) (hts _ hini) (src := a) (dst := b) (cs := cs) (cd := vp_cell (E.1.2.2.2.2 .byte) (q.2.2.2.1, .inl q.2.2.2.2.1)) (srcPos := sp) (destPos := dp) (n := n) (by rw [hT]; exact hc0) (by rw [hT]; exact hc1)
    (fun k h => hcn k h) (fun _ h => by cases h) hcu (fun h => by cases h) (by rw [hcc]; exact hk0) hk1 hkk0 hkk1 rfl h1 h2 h3
    (by rw [nn sp h1, nn n h3, hcs]; show ¬ _ > ((arrV _ o.2.2.2.1 (fun j => .int (o.2.2.2.2.1 j))).slots.size : Int); rw [arrV_size]; omega)
    (by rw [nn dp h2, nn n h3]; show ¬ _ > ((arrV _ q.2.2.2.1 (fun j => .int (q.2.2.2.2.1 j))).slots.size : Int); rw [arrV_size]; omega)
    (fun vm₁ _ i hi => by
      have e : cs.slots.getD (sp.toNatClampNeg + i) .null = .int (o.2.2.2.2.1 (sp.toNatClampNeg + i)) := by
        rw [hcs]
        show (arrV _ o.2.2.2.1 (fun j => .int (o.2.2.2.2.1 j))).slots.getD _ _ = _
        rw [Array.getD_eq_getD_getElem?, arrV_read _ _ (by omega)]
        rfl
      refine ⟨?_, ?_⟩
      · rw [e]
        exact hfit i hi
      · rw [e]
        exact trivial)
    (g := F0 m pc ls (.int n :: .int dp :: .ref b :: .int sp :: .ref a :: rest)) rfl (by rw [hml]; exact hsz) (rest := rest) rfl (by rw [hb]; exact hdg) hframes (by
      have : nativeFrameWords "java/lang/System" "arraycopy" 5 + 11 ≤ 92 := by decide +kernel
      show 2 * 0 + _ + _ ≤ _; omega)
  have e1 : copied cs (vp_cell (E.1.2.2.2.2 .byte) (q.2.2.2.1, .inl q.2.2.2.2.1)) sp dp n = vp_cell (E.1.2.2.2.2 .byte) (q.2.2.2.1, .inl (va_cpy o.2.2.2.2.1 q.2.2.2.2.1 sp.toNatClampNeg dp.toNatClampNeg n.toNatClampNeg)) := by
    have e0 : copied cs (vp_cell (E.1.2.2.2.2 .byte) (q.2.2.2.1, .inl q.2.2.2.2.1)) sp dp n = copied (vp_cell (E.1.2.2.2.2 .byte) (o.2.2.2.1, .inl o.2.2.2.2.1)) (vp_cell (E.1.2.2.2.2 .byte) (q.2.2.2.1, .inl q.2.2.2.2.1)) sp dp n := by unfold copied Cell.stretch; rw [hcs]
    rw [e0]
    exact va_copied (fun z => .int z) _ _ o.2.2.2.2.1 q.2.2.2.2.1 h4
  rw [e1] at X' step
  generalize hcl : vp_cell (E.1.2.2.2.2 .byte) (q.2.2.2.1, .inl (va_cpy o.2.2.2.2.1 q.2.2.2.2.1 sp.toNatClampNeg dp.toNatClampNeg n.toNatClampNeg)) = cl at X' step
  have hl : b < H.size := (Array.getElem?_eq_some_iff.mp hc1).1
  have hheap : ((T.setVm vm').setCell b cl).heap = H.setIfInBounds b cl := by rw [← hT]; rfl
  have oq : ∀ z : Nat, z ≠ b → (H.setIfInBounds b cl)[z]? = H[z]? := fun z hz => by simp [Array.getElem?_setIfInBounds, Ne.symm hz]
  have ob : (H.setIfInBounds b cl)[b]? = some cl := by simp [Array.getElem?_setIfInBounds, hl]
  have hct2 : cw_ct (q.1, q.2.1, q.2.2.1, q.2.2.2.1, va_cpy o.2.2.2.2.1 q.2.2.2.2.1 sp.toNatClampNeg dp.toNatClampNeg n.toNatClampNeg, q.2.2.2.2.2) = .inl (va_cpy o.2.2.2.2.1 q.2.2.2.2.1 sp.toNatClampNeg dp.toNatClampNeg n.toNatClampNeg) := cw_ctI (Or.inr (show q.1 = 21 from k2))
  obtain ⟨t, a1, b1⟩ := kk _ _ (hR.setAt (o' := (q.1, q.2.1, q.2.2.1, q.2.2.2.1, va_cpy o.2.2.2.2.1 q.2.2.2.2.1 sp.toNatClampNeg dp.toNatClampNeg n.toNatClampNeg, q.2.2.2.2.2)) hq (cw_at.arr (show 20 ≤ q.1 by omega) (by
      rw [hct2, ob, ← hcl]
      show _ = some (vp_cell (E.1.2.2.2.2 (cw_el q.1)) _)
      rw [k2]
      rfl)) rfl (by simp) oq) ⟨by simp; exact hS.1, fun z g1 g2 => by
      rw [oq z (fun e => g2 (by rw [e]; exact hwr))]
      exact hS.2.1 z g1 g2, fun z hz => by
      rcases List.mem_append.mp hz with h | h
      · exact hS.2.2 z h
      · obtain ⟨y, -, hy⟩ := List.mem_map.mp h
        rw [← hy]
        exact hwr⟩ _ hheap X'
  exact ⟨t, step t a1, b1⟩
theorem cw_nameB (hK : cw_K E A s) : s.vm.findClass "[B" = some (E.1.2.2.2.2 .byte) := (hK.2.2.1 .byte (by decide)).2
theorem cw_clone (X : ww_C p m c cc nL s args own lw_all) (hsz : ls.size = nL) (hK : cw_K E A s) (hR : cw_H E A D H) (hS : va_S A H0 H locs) {index : Nat}
    (hlink : Cond.methodLink own index ⟨"[B", "clone", "()Ljava/lang/Object;"⟩ ∈ lw_all) (hsame : Cond.sameMethod "[B" "java/lang/Object" "clone" "()Ljava/lang/Object;" ∈ lw_all)
    (hnat : Cond.native ⟨"java/lang/Object", "clone", "()Ljava/lang/Object;"⟩ ∈ lw_all) (hinst : Cond.instanceMethod ⟨"java/lang/Object", "clone", "()Ljava/lang/Object;"⟩ ∈ lw_all)
    (hsel : Cond.selects "[B" ⟨"[B", "clone", "()Ljava/lang/Object;"⟩ ⟨"java/lang/Object", "clone", "()Ljava/lang/Object;"⟩ ∈ lw_all) {n : Nat} {D' : cw_D} (h : cw_cl D a = some (n, D'))
    (hframes : 1 ≤ R.frames) (hlocals : 30 ≤ R.locals) (hrest : (rest.map fun v => v.category).sum ≤ 8) (hcells : cells + 1 ≤ R.cells) (hslots : slots + n ≤ R.slots) (hdg : decode cc pc = .ok (.invokevirtual index, 3))
    (kk : ∀ (H1 : Heap), cw_H E A D' H1 → va_S A H0 H1 locs → W p l e R s m args below meth c H1 locs (cells + 1) (slots + n) Q (F0 m (pc + 3) ls (.ref D.2.2 :: rest))) : W p l e R s m args below meth c H locs cells slots Q (F0 m pc ls (.ref a :: rest)) := by
  unfold cw_cl at h
  cases ho : D.2.1 a with
  | none => simp only [ho] at h; cases h
  | some o =>
  simp only [ho] at h
  split at h
  case isFalse => cases h
  case isTrue hc =>
  obtain ⟨k1, hfit⟩ := hc
  cases h
  obtain ⟨cs, hcell, hcc, hcv, hcu, hcs⟩ := cw_bytes hR ho k1
  have hcn : ∀ k, cs.vm ≠ .statics k := fun k h => by rw [h] at hcv; cases hcv
  obtain ⟨hexec, hb, hml, hown, hts⟩ := X
  obtain ⟨c0, t0, f1, f2, f3⟩ := Cond.castable_spec (args := args) (va_Nw.use rfl (hK.ct.2.2.2.2.2.2.2.1 ("[B", "java/lang/Cloneable") (by decide +kernel)))
  cases (cw_nameB hK).symm.trans f1
  intro T hT X
  have hcellT : T.heap[a]? = some cs := by rw [hT]; exact hcell
  obtain ⟨-, kA, hkA, comp, hkind⟩ := State.isArrayOf_alike X.warmed.alike (cw_arr hK (kd := 21) o.2.2.2.1 (fun j => .int (o.2.2.2.2.1 j)) .byte rfl).1
  obtain ⟨-, kS, hkS, compS, hkindS⟩ := (cw_arr hK (kd := 21) o.2.2.2.1 (fun j => .int (o.2.2.2.2.1 j)) .byte rfl).1
  obtain ⟨vm', X', st⟩ := X.cloneArray hexec hown (hts _ hlink) (hts _ hsame) (hts _ hnat) (hts _ hinst) (hts _ hsel) (a := a) (cell := cs) hcellT hcn hcu (by rw [hcc]; exact cw_nameB hK) f2 (by rw [hcc]; exact f3)
    (fun i v hv => by
      have hk' : T.vm.classes[E.1.2.2.2.2 .byte]? = some kA := hkA
      have hv : (arrV (E.1.2.2.2.2 .byte) o.2.2.2.1 (fun j => .int (o.2.2.2.2.1 j))).slots[i]? = some v := by rw [hcs] at hv; exact hv
      have hf9 : fits .byte v = true := by
        by_cases hi : i < o.2.2.2.1
        · rw [arrV_read _ _ hi] at hv
          cases hv
          exact hfit i hi
        · rw [Array.getElem?_eq_none (by rw [arrV_size]; omega)] at hv
          cases hv
      show T.fitsSlot cs.cls .none i v = true
      rw [hcc]
      simpa [State.fitsSlot, State.slotType?, hk', hkind] using hf9)
    (g := F0 m pc ls (.ref a :: rest)) rfl (by rw [hml]; exact hsz) rfl (by rw [hb]; exact hdg) hframes (by show 2 * 0 + _ + 14 ≤ _; omega) hcells (by rw [hcs]; show slots + (arrV _ _ _).slots.size ≤ _; rw [arrV_size]; exact hslots) (hloader := Vm.clonesLoader_of_array (by rw [hcc]; exact hkS) hkindS)
  have hsz9 : cs.slots.size = o.2.2.2.1 := by rw [hcs]; exact arrV_size _ _ _
  have hcellE : ({ cls := cs.cls, slots := cs.slots } : Cell) = vp_cell (E.1.2.2.2.2 .byte) (o.2.2.2.1, .inl o.2.2.2.2.1) := by rw [hcc, hcs]; rfl
  rw [hcellE, hsz9] at X'
  generalize hcl : vp_cell (E.1.2.2.2.2 .byte) (o.2.2.2.1, .inl o.2.2.2.2.1) = cl at X' st hcellE
  generalize hH1 : H.push cl = H1
  have z1 : H1.size = H.size + 1 := by rw [← hH1, Array.size_push]
  have e1 : H1[H.size]? = some cl := by rw [← hH1, Array.getElem?_push_size]
  have o1 : ∀ q : Nat, q < H.size → H1[q]? = H[q]? := fun q hq => by rw [← hH1, Array.getElem?_push, if_neg (Nat.ne_of_lt hq)]
  have hz : H.size = D.2.2 := hR.2.2.1
  obtain ⟨t, b1, b2⟩ := kk H1 (hR.push hK.new (cw_at.arr (show 20 ≤ 21 by omega) (by rw [e1, ← hcl]; rfl)) z1 o1) ⟨Nat.le_trans hS.1 (by omega), fun y h1 h2 => (o1 y (Nat.lt_of_lt_of_le h1 hS.1)).trans (hS.2.1 y h1 h2), hS.2.2⟩ ((T.setVm vm').pushCell cl) (by rw [← hH1, ← hT]; rfl) X'
  refine ⟨t, st t ?_, b2⟩
  rw [hcellE, hT, hz]
  exact b1
theorem cw_castB (X : ww_C p m c cc nL s args own lw_all) (hK : cw_K E A s) (hR : cw_H E A D H) {index : Nat} (hlink : Cond.classLink own index "[B" ∈ lw_all) (h : cw_kd D [21] (some a) = true) (hdg : decode cc pc = .ok (.checkcast index, 3))
    (k : W p l e R s m args below meth c H locs cells slots Q (F0 m (pc + 3) ls (.ref a :: rest))) : W p l e R s m args below meth c H locs cells slots Q (F0 m pc ls (.ref a :: rest)) := by
  obtain ⟨hexec, hb, hml, hown, hts⟩ := X
  obtain ⟨o, ho, hk⟩ := cw_kd1 h
  obtain ⟨cs, hc, hcc, hcv, -, -⟩ := cw_bytes hR ho hk
  intro T hT X
  obtain ⟨vm', X', st⟩ := X.checkcastYes hexec hown (hts _ hlink) (by rw [hT]; exact hc) hcv (cw_nameB hK) (by rw [hcc]; exact va_asg _ _) (g := F0 m pc ls (.ref a :: rest)) rfl rfl (by rw [hb]; exact hdg)
  obtain ⟨t, a1, b1⟩ := k (T.setVm vm') hT X'
  exact ⟨t, st t a1, b1⟩
theorem cw_getsR (X : ww_C p m c cc nL s args own lw_all) (hR : cw_H E A D H) (hS : va_S A s.heap H locs) {j : Nat} (hj : 99 ≤ j) {r : Option Nat} (he : some (ww_R D.1 j) = some r) {C n d : String} {index : Nat} (hZ : va_Z C n d (va_rf (E.2.2.2.2 j)) A s s.heap) (hlink : Cond.fieldLink own index C n d ∈ lw_all) (hdg : decode cc pc = .ok (.getstatic index, 3))
    (kk : W p l e R s m args below meth c H locs cells slots Q (F0 m (pc + 3) ls (va_rf r :: rest))) : W p l e R s m args below meth c H locs cells slots Q (F0 m pc ls rest) := by
  have h9 : r = E.2.2.2.2 j := (Option.some.inj he).symm.trans (hR.2.2.2.2 j hj)
  subst h9
  exact va_gets X.1 X.2.1 hZ hS X.2.2.2.1 (X.2.2.2.2 _ hlink) (fun _ h => h) hdg kk
theorem cw_ldcS (X : ww_C p m c cc nL s args own lw_all) (hK : cw_K E A s) (hR : cw_H E A D H) {j index : Nat} {tx : String} (hq : (j, own, index, tx) ∈ cwStr) (hj : 99 ≤ j) {r : Option Nat} (he : some (ww_R D.1 j) = some r) (hdg : decode cc pc = .ok (.ldc index, 2))
    (kk : W p l e R s m args below meth c H locs cells slots Q (F0 m (pc + 2) ls (va_rf r :: rest))) : W p l e R s m args below meth c H locs cells slots Q (F0 m pc ls rest) := by
  obtain ⟨b, h1, h2⟩ := hK.ct.2.2.2.2.2.1 _ hq
  have h9 : r = some b := (Option.some.inj he).symm.trans ((hR.2.2.2.2 j hj).trans h1)
  subst h9
  exact va_ldcS X.1 X.2.1 X.2.2.2.1 h2 hdg kk
end CTX
theorem cw_SU {own : String} {idx : Nat} {y : MethodName} {b : ByteArray} {L : Nat} {r : Option FieldType} (h1 : Cond.methodLink own idx y ∈ lw_all) (h2 : Cond.sameMethod y.cls y.cls y.name y.desc ∈ lw_all) (h3 : Cond.superclass own y.cls ∈ lw_all) (h4 : Cond.instanceMethod y ∈ lw_all) (h5 : Cond.initialized y.cls ∈ lw_all) (h6 : Cond.code y b L r ∈ lw_all) : GoodIn lw_all (va_wsSU own idx y (ws_ y b L r)) := by
  refine lw_app ?_ (lw_meth h6)
  intro w hw
  simp only [List.mem_cons, List.not_mem_nil, or_false] at hw
  rcases hw with e | e | e | e | e
  · rw [e]; exact h1
  · rw [e]; exact h2
  · rw [e]; exact h3
  · rw [e]; exact h4
  · rw [e]; exact h5
theorem cw_OV {own C owner : String} {idx : Nat} {x y : MethodName} {b : ByteArray} {L : Nat} {r : Option FieldType} (h1 : Cond.methodLink own idx x ∈ lw_all) (h2 : Cond.sameMethod x.cls owner x.name x.desc ∈ lw_all) (h3 : Cond.instanceMethod ⟨owner, x.name, x.desc⟩ ∈ lw_all) (h4 : Cond.selects C x y ∈ lw_all) (h5 : Cond.instanceMethod y ∈ lw_all) (h6 : Cond.initialized y.cls ∈ lw_all) (h7 : Cond.code y b L r ∈ lw_all) : GoodIn lw_all (va_wsO own idx C owner x y (ws_ y b L r)) := by
  refine lw_app ?_ (lw_meth h7)
  intro w hw
  simp only [List.mem_cons, List.not_mem_nil, or_false] at hw
  rcases hw with e | e | e | e | e | e
  · rw [e]; exact h1
  · rw [e]; exact h2
  · rw [e]; exact h3
  · rw [e]; exact h4
  · rw [e]; exact h5
  · rw [e]; exact h6
section CPV
variable {p : Program} {l : Launch} {e : Env} {R : Room} {s : State} {m : MethodId} {args : Array Value} {below : List Frame} {meth : Method} {c : Code} {H : Heap} {locs : List Loc} {cells slots : Nat}
variable {y : MethodName} {cc : ByteArray} {nL n index : Nat} {ret : Option FieldType} {own C : String} {a : Nat} {As rest : List Value}
/-- a private method by invokevirtual -/
theorem cw_runP {bytes : ByteArray} {maxL mc ms : Nat} {ws : List Cond} {rm : Room} {Pc : Array Value → State → Prop} {Qc : Array Value → State → Outcome → State → Prop} {free : Addr → Prop} {Ts : List Cond} {g : JFrame}
    (hsame : Cond.sameMethod y.cls y.cls y.name y.desc ∈ Ts) (S : CallFix p m c cc nL s args Ts own) (hM : Met l y ws rm Pc Qc mc ms free) (hlink : Cond.methodLink own index y ∈ Ts) (hpv : (Cond.privateMethod y).before #[] s = true) (hinst : Cond.instanceMethod y ∈ Ts) (hini : Cond.initialized y.cls ∈ Ts) (hG : GoodIn Ts ws) {ws' : List Cond} (hw : ws = Cond.code y bytes maxL ret :: ws') (hrc : rm.cells = mc) (hrs : rm.slots = ms) (hRm : rm.frames + 1 ≤ R.frames ∧ 8 + (maxL + 11) + rm.locals ≤ R.locals)
    (hx9 : y.cls ≠ "java/lang/invoke/MethodHandle" ∧ y.cls ≠ "java/lang/invoke/VarHandle" ∧ (parseMethodDescriptor y.desc).map (fun d => d.parameters.length) = some n) (hp : PreV s H C a Pc As)
    (hg : g.method = m) (hn : As.length = n) (hsize : g.locals.size = nL) (hstack : g.stack = As.reverse ++ .ref a :: rest) (hW : 2 * g.monitorRoom + (rest.map fun v => v.category).sum ≤ 8) (hdg : decode cc g.pc = .ok (.invokevirtual index, 3)) (hf : cells + mc ≤ R.cells ∧ slots + ms ≤ R.slots) :
    va_Run p l e R s m args below meth c H locs cells slots mc ms g rest (Qc (Value.ref a :: As).toArray) (free) := by
  have hcw : Cond.code y bytes maxL ret ∈ ws := by rw [hw]; exact List.mem_cons_self
  obtain ⟨hx, hb, hml, ho, ht⟩ := S
  have hK : Back l R p e below s args y 3 8 (PreOf R mc ms Pc) (PostOf Qc mc ms free) := back_of (bytes := bytes) (maxL := maxL) (ret := ret) hM hp.1 hrc hrs hRm.1 hRm.2 (pay_in ht hG) hcw (fun a' U hW => word_at hW (Or.inl (by first | rfl | simp [Cond.onTables, Cond.keeps, Cond.steady])) (ht _ hini))
  obtain ⟨-, ⟨cellB, hcB, hoB, hclB⟩, hPc⟩ := hp
  obtain ⟨cn, ck, r1, hfc, hkB, hni, -, -⟩ := Cond.sameMethod_found (ht _ hsame)
  have hpa : s.PrivateAt y := Cond.privateMethod_at hpv
  intro T hT X
  obtain ⟨v, vm₁, ⟨U', l2, c2, s2⟩, hW₁, X', ⟨g', mk, t, L, e1, e2, hq, h1, hL, h2, h3⟩, st⟩ := X.privateBack hx ho (ht _ hlink) (ht _ hinst) (Stand.selects_self_of_private hfc hkB hni hpa (args := args) (ht _ hinst) ⟨hx9.1, hx9.2.1⟩) hpa (ht _ (hG _ hcw).1) ⟨hx9.1, hx9.2.1⟩ hK hg (hsize.trans hml.symm) (Steps.refl _) (by rw [hT]; exact hcB) (fun z h => by rw [h] at hoB; cases hoB) (argsL := As) (rest := rest) (fun sig h => by have h2 := hx9.2.2; rw [h] at h2; exact hn.trans (Option.some.inj h2).symm) hstack hW (by rw [hb]; exact hdg)
    (fun vm₁ hW₁ => ⟨hf.1, hf.2, hPc (T.setVm vm₁) hT hW₁⟩)
  dsimp only [Pt.U, Pt.locs, Pt.cells, Pt.slots] at X' e1 e2 h1 h2 h3 st
  subst h1; subst h2; subst h3
  exact ⟨v, (T.setVm vm₁).calling g' mk (Value.ref a :: As).toArray, t, U', L, hT, X', hL, e1, e2, hq, fun target h9 => st.trans h9⟩
end CPV
section CTY
variable {p : Program} {l : Launch} {e : Env} {R : Room} {s : State} {m : MethodId} {args : Array Value} {below : List Frame} {meth : Method} {c : Code} {H : Heap} {locs : List Loc} {cells slots : Nat} {Q : State → Prop}
variable {cc : ByteArray} {pc : Nat} {ls : Array Slot} {rest : List Value} {nL : Nat} {own : String} {E : cw_E} {D : cw_D} {A : Nat → Prop} {H0 : Heap} {a : Nat}
theorem cw_marl (X : ww_C p m c cc nL s args own lw_all) (hK : cw_K E A s) (hR : cw_H E A D H) (k : Nat) (hk : k < 38) {C : String} (ht : tyX1 k = .array (.object C)) {v : Int32} (hv : Int32.ofNat (c1_len k) = v) (hdg : decode cc pc = .ok (.arraylength, 1)) (kk : W p l e R s m args below meth c H locs cells slots Q (F0 m (pc + 1) ls (.int v :: rest))) : W p l e R s m args below meth c H locs cells slots Q (F0 m pc ls (.ref (E.1.2.1 k) :: rest)) := by
  subst hv
  exact W.alen X.1 X.2.1 (hR.1.2 k hk _ ht) ((hK.1.2 k hk _ ht).1 _ (fun j => va_rf (D.1.2.2.2.2 k j))) (by show (arrV _ _ _).slots.size.toInt32 = _; rw [arrV_size]) rfl rfl hdg kk
theorem cw_cwV {R : Room} {s : State} {args : Array Value} {own C : String} {index maxL mc ms : Nat} {y : MethodName} {bytes : ByteArray} {ret : Option FieldType} {ws' : List Cond} {rm : Room} (n : Nat) (ht : ∀ w ∈ lw_all, w.before args s = true) (h1 : Cond.methodLink own index y ∈ lw_all) (h2 : Cond.instanceMethod y ∈ lw_all) (h3 : Cond.selects C y y ∈ lw_all) (h4 : Cond.initialized y.cls ∈ lw_all) (h5 : Cond.code y bytes maxL ret ∈ lw_all) (hw : ws_ y bytes maxL ret = Cond.code y bytes maxL ret :: ws') (hrc : rm.cells = mc) (hrs : rm.slots = ms)
    (hd : y.cls ≠ "java/lang/invoke/MethodHandle" ∧ y.cls ≠ "java/lang/invoke/VarHandle" ∧ (parseMethodDescriptor y.desc).map (fun d => d.parameters.length) = some n) (hR : rm.frames + 1 ≤ R.frames ∧ 8 + (maxL + 11) + rm.locals ≤ R.locals) : CallW R s args own C index y bytes maxL ret (ws_ y bytes maxL ret) rm mc ms n :=
  ⟨callB_of n ht (lw_meth h5) hw hrc hrs (ht _ h4) (ht _ h1) hd hR, ht _ h2, ht _ h3⟩
end CTY
def ww_nw (t : FieldType) (v : Int32) : Bool := decide (vp_nar t v = v)
theorem ww_nwC {v : Int32} (h : ww_nw .char v = true) : narrow .char (.int v) = .int v := congrArg Value.int (show v.toUInt32.toUInt16.toUInt32.toInt32 = v from of_decide_eq_true h)
theorem ww_nwB {v : Int32} (h : ww_nw .byte v = true) : narrow .byte (.int v) = .int v := congrArg Value.int (show v.toInt8.toInt32 = v from of_decide_eq_true h)
