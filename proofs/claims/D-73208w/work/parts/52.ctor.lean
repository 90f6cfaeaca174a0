/-! CONSTRUCTORS of the main objects: the fields ahead of j are set, the others bare; arrays are born on the way -/
def cb_v (ty : Nat → FieldType) (ad : Nat → Nat) (M : ww_M) (j k : Nat) : Value := if k < j then ww_v ty ad M k else defaultValue (ty k)
def cb_H (N : Nat) (ty : Nat → FieldType) (len : Nat → Nat) (E : ww_E) (base : Nat) (M : ww_M) (j : Nat) (H : Heap) : Prop :=
  t_OB E.1 E.2.2.1 N E.2.2.2.1 H (cb_v ty E.2.1 M j) ∧ base ≤ H.size ∧
  (∀ k, k < j → ∀ el, ty k = .array el → H[E.2.1 k]? = some (vp_cell (E.2.2.2.2 el) (len k, ww_c el M k)) ∧ base ≤ E.2.1 k) ∧
  (∀ i k, i < j → k < j → (∃ el, ty i = .array el) → (∃ el, ty k = .array el) → E.2.1 i = E.2.1 k → i = k)
theorem cb_H.start {N : Nat} {ty : Nat → FieldType} {len : Nat → Nat} {E : ww_E} {base : Nat} {M : ww_M} {H : Heap} (h : t_OB E.1 E.2.2.1 N E.2.2.2.1 H (fun k => defaultValue (ty k))) (hb : base ≤ H.size) : cb_H N ty len E base M 0 H :=
  ⟨h.to (fun k _ => by unfold cb_v; rw [if_neg (Nat.not_lt_zero k)]), hb, fun k hk => absurd hk (Nat.not_lt_zero k), fun i _ hi => absurd hi (Nat.not_lt_zero i)⟩
theorem cb_H.skip {N : Nat} {ty : Nat → FieldType} {len : Nat → Nat} {E : ww_E} {base : Nat} {M : ww_M} {j : Nat} {H : Heap} (h : cb_H N ty len E base M j H) (ht : ∀ el, ty j ≠ .array el) (hv : ww_v ty E.2.1 M j = defaultValue (ty j)) : cb_H N ty len E base M (j + 1) H := by
  obtain ⟨h1, h0, h2, h3⟩ := h
  refine ⟨h1.to (fun k _ => ?_), h0, fun k hk el he => ?_, fun i k hi hk a b e => ?_⟩
  · unfold cb_v
    by_cases hk : k < j
    · rw [if_pos hk, if_pos (by omega)]
    · by_cases e : k = j
      · subst e; rw [if_neg hk, if_pos (by omega), hv]
      · rw [if_neg hk, if_neg (by omega)]
  · by_cases e : k = j
    · subst e; exact absurd he (ht el)
    · exact h2 k (by omega) el he
  · have hi' : i ≠ j := fun e => by subst e; obtain ⟨el, he⟩ := a; exact ht el he
    have hk' : k ≠ j := fun e => by subst e; obtain ⟨el, he⟩ := b; exact ht el he
    exact h3 i k (by omega) (by omega) a b e
theorem cb_H.o {N : Nat} {ty : Nat → FieldType} {len : Nat → Nat} {E : ww_E} {base : Nat} {M : ww_M} {j : Nat} {H : Heap} (h : cb_H N ty len E base M j H) : E.1 < H.size := by
  obtain ⟨⟨cell, h1, -⟩, -⟩ := h
  exact (Array.getElem?_eq_some_iff.mp h1).1
theorem cb_H.kept {N : Nat} {ty : Nat → FieldType} {len : Nat → Nat} {E : ww_E} {base : Nat} {M : ww_M} {j : Nat} {H H1 : Heap} (h : cb_H N ty len E base M j H) (hz : H.size ≤ H1.size) (hq : ∀ q : Nat, q < H.size → H1[q]? = H[q]?) : cb_H N ty len E base M j H1 := by
  have ho := h.o
  obtain ⟨h1, h0, h2, h3⟩ := h
  refine ⟨h1.kept (hq _ ho), Nat.le_trans h0 hz, fun k hk el he => ?_, h3⟩
  obtain ⟨e1, e2⟩ := h2 k hk el he
  exact ⟨(hq _ (Array.getElem?_eq_some_iff.mp e1).1).trans e1, e2⟩
theorem cb_H.toM {N : Nat} {ty : Nat → FieldType} {len : Nat → Nat} {E : ww_E} {base : Nat} {M M' : ww_M} {j : Nat} {H : Heap} (h : cb_H N ty len E base M j H) (hv : ∀ k, k < j → ww_v ty E.2.1 M' k = ww_v ty E.2.1 M k) (hc : ∀ k, k < j → ∀ el, ty k = .array el → ww_c el M' k = ww_c el M k) : cb_H N ty len E base M' j H := by
  obtain ⟨h1, h0, h2, h3⟩ := h
  refine ⟨h1.to (fun k _ => ?_), h0, fun k hk el he => ?_, h3⟩
  · unfold cb_v
    by_cases hk : k < j
    · rw [if_pos hk, if_pos hk, hv k hk]
    · rw [if_neg hk, if_neg hk]
  · obtain ⟨e1, e2⟩ := h2 k hk el he
    exact ⟨by rw [e1, hc k hk el he], e2⟩
theorem cb_H.done {N : Nat} {ty : Nat → FieldType} {len : Nat → Nat} {E : ww_E} {base : Nat} {M : ww_M} {H : Heap} (h : cb_H N ty len E base M N H) (ho : E.1 < base) : ww_H N ty len E M H ∧ ww_D N ty E ∧ ∀ k, k < N → ∀ el, ty k = .array el → base ≤ E.2.1 k := by
  obtain ⟨h1, h0, h2, h3⟩ := h
  refine ⟨⟨h1.to (fun k hk => by unfold cb_v; rw [if_pos hk]), fun k hk el he => (h2 k hk el he).1⟩, ⟨fun k hk el he e => ?_, h3⟩, fun k hk el he => (h2 k hk el he).2⟩
  have := (h2 k hk el he).2
  omega
section CBC
variable {p : Program} {l : Launch} {e : Env} {R : Room} {s : State} {m : MethodId} {args : Array Value} {below : List Frame} {meth : Method} {c : Code} {H : Heap} {locs : List Loc} {cells slots : Nat} {Q : State → Prop}
variable {cc : ByteArray} {pc : Nat} {ls : Array Slot} {rest : List Value} {nL : Nat} {own : String} {T : u_T} {N : Nat} {ty : Nat → FieldType} {len : Nat → Nat} {E : ww_E} {M : ww_M} {A : Nat → Prop} {H0 : Heap} {base : Nat}
theorem cb_put {Ts : List Cond} (X : ww_C p m c cc nL s args own Ts) (hin : ∀ w ∈ u_ws own T N, w ∈ Ts) (hty : ∀ k, k < N → parseFieldDescriptor (T k).2.2.1 = some (ty k)) (hnm : ∀ a, a < N → ∀ b, b < N → a ≠ b → (T a).2.1 ≠ (T b).2.1) (hK : ww_Kn own T N ty E s) (ho : E.1 < base) (hA : ∀ q, q = E.1 ∨ base ≤ q → A q) (hS0 : va_S A H0 H locs) (j : Nat) (hj : j < N) {ad : Nat → Nat} (h : cb_H N ty len E base M j H) {index : Nat} (hlink : Cond.fieldLink own index own (T j).2.1 (T j).2.2.1 ∈ Ts) (hO : (T j).1 = own) (hfin : (T j).2.2.2 = true → meth.name = "<init>") {v : Value} (hn : narrow (ty j) v = v) (hfit : fits (ty j) v = true) (hv : ww_v ty ad M j = v) (had : ∀ k, k < j → ad k = E.2.1 k)
    (hnew : ∀ el, ty j = .array el → H[ad j]? = some (vp_cell (E.2.2.2.2 el) (len j, ww_c el M j)) ∧ base ≤ ad j ∧ ∀ k, k < j → (∃ el, ty k = .array el) → E.2.1 k ≠ ad j) (hdg : decode cc pc = .ok (.putfield index, 3))
    (kk : ∀ (H1 : Heap) (locs1 : List Loc), cb_H N ty len (E.1, ad, E.2.2) base M (j + 1) H1 → va_S A H0 H1 locs1 → H1.size = H.size → (∀ q, q ≠ E.1 → H1[q]? = H[q]?) → W p l e R s m args below meth c H1 locs1 cells slots Q (F0 m (pc + 3) ls rest)) : W p l e R s m args below meth c H locs cells slots Q (F0 m pc ls (v :: .ref E.1 :: rest)) := by
  obtain ⟨hx, hb, -, hown, hts⟩ := X
  have hap := ww_apart hts hin ty hty hnm hK
  obtain ⟨⟨cell, q1, q2, q3, q4⟩, h0, h2, h3⟩ := h
  obtain ⟨hS, hfc, kC, hkC, hkind⟩ := hK.1
  obtain ⟨cf, kf, fi, f, hi, hsl⟩ := hS j hj
  have hst := (u_facts hfc hkC (u_lays hts hin hj) hi).1
  have h6 := u_fits hfc hkC hkind (u_lays hts hin hj) hi (hty j hj) hn hfit
  have fin : ∀ H' : Heap, H'[E.1]? = some (cell.setSlot f.slot v) → H'.size = H.size → (∀ q, q ≠ E.1 → H'[q]? = H[q]?) → W p l e R s m args below meth c H' (locs ++ [⟨E.1, f.slot⟩]) cells slots Q (F0 m (pc + 3) ls rest) := by
    intro H' e1 e2 e3
    rw [hsl] at e1 ⊢
    refine kk H' _ ⟨t_OB.to (V := updV (cb_v ty E.2.1 M j) j v) ⟨_, e1, q2, q3, t_set q4 hap hj v⟩ (fun k _ => ?_), by rw [e2]; exact h0, fun k hk el he => ?_, fun i k hi hk a b e => ?_⟩ (hS0.put e2 e3 (hA _ (Or.inl rfl))) e2 e3
    · by_cases hkj : k = j
      · subst hkj
        show (if k = k then v else _) = cb_v ty ad M (k + 1) k
        rw [if_pos rfl, ← hv]
        unfold cb_v
        rw [if_pos (by omega)]
      · show (if k = j then v else cb_v ty E.2.1 M j k) = cb_v ty ad M (j + 1) k
        rw [if_neg hkj]
        unfold cb_v
        by_cases hk : k < j
        · rw [if_pos hk, if_pos (by omega)]
          unfold ww_v
          rw [had k hk]
        · rw [if_neg hk, if_neg (by omega)]
    · show H'[ad k]? = _ ∧ base ≤ ad k
      by_cases hkj : k = j
      · subst hkj
        obtain ⟨n1, n2, n3⟩ := hnew el he
        exact ⟨(e3 _ (by omega)).trans n1, n2⟩
      · rw [had k (by omega)]
        obtain ⟨n1, n2⟩ := h2 k (by omega) el he
        exact ⟨(e3 _ (by omega)).trans n1, n2⟩
    · have e : ad i = ad k := e
      by_cases hij : i = j
      · subst hij
        by_cases hkj : k = i
        · exact hkj.symm
        · obtain ⟨el, he⟩ := a
          have hkl : k < i := by omega
          rw [had k hkl] at e
          exact absurd e.symm ((hnew el he).2.2 k hkl b)
      · by_cases hkj : k = j
        · subst hkj
          obtain ⟨el, he⟩ := b
          have hil : i < k := by omega
          rw [had i hil] at e
          exact absurd e ((hnew el he).2.2 i hil a)
        · rw [had i (by omega), had k (by omega)] at e
          exact h3 i k (by omega) (by omega) a b e
  rw [hO] at hi
  have hlay := hts _ (hin _ (u_in_lay hj))
  unfold u_lay at hlay
  by_cases hf : (T j).2.2.2 = true
  · rw [if_pos hf, hO] at hlay
    have hcf : m.cls = cf := by
      obtain ⟨_, _, c', _, _, _, -, -, hf', -, -, -, hown2, -⟩ := Cond.laysFinal_spec hlay
      have e1 : c' = cf := by have := hi.symm.trans hf'; simp at this; exact this.1.symm
      rw [← e1]; exact Option.some.inj (hown.symm.trans hown2)
    exact W.putFinK hx hb hown (hts _ hlink) hi hst hcf (hfin hf) (by rw [q2]; exact h6) q1 q3 (by rw [hsl]; exact k2_hasslot (q4 j hj)) rfl rfl hdg fin
  · rw [if_neg hf, hO] at hlay
    have h7 := u_store hfc hkC hkind hlay hi (hty j hj) hn hfit
    exact W.putK hx hb (f := f) ⟨hown, hts _ hlink, ⟨_, _, _, hi⟩, hst⟩ (by rw [q2]; exact h7) q1 q3 (by rw [hsl]; exact k2_hasslot (q4 j hj)) rfl rfl hdg fin
/-- an array is born (it lies at the end of the heap), its field set -/
theorem cb_arr {Ts : List Cond} (X : ww_C p m c cc nL s args own Ts) (hin : ∀ w ∈ u_ws own T N, w ∈ Ts) (hty : ∀ k, k < N → parseFieldDescriptor (T k).2.2.1 = some (ty k)) (hnm : ∀ a, a < N → ∀ b, b < N → a ≠ b → (T a).2.1 ≠ (T b).2.1) (hK : ww_Kn own T N ty E s) (ho : E.1 < base) (hA : ∀ q, q = E.1 ∨ base ≤ q → A q) (hS0 : va_S A H0 H locs) (j : Nat) (hj : j < N) (h : cb_H N ty len E base M j H) {index : Nat} (hlink : Cond.fieldLink own index own (T j).2.1 (T j).2.2.1 ∈ Ts) (hO : (T j).1 = own) (hfin : (T j).2.2.2 = true → meth.name = "<init>") {el : FieldType} (ht : ty j = .array el) {q : Nat} (hb : base ≤ q) (hq : ∀ k, k < j → (∃ el, ty k = .array el) → E.2.1 k ≠ q) (hc : H[q]? = some (vp_cell (E.2.2.2.2 el) (len j, ww_c el M j))) (hdg : decode cc pc = .ok (.putfield index, 3))
    (kk : ∀ (ad : Nat → Nat) (H1 : Heap) (locs1 : List Loc), cb_H N ty len (E.1, ad, E.2.2) base M (j + 1) H1 → va_S A H0 H1 locs1 → (∀ y, y ≠ E.1 → H1[y]? = H[y]?) → H1.size = H.size → W p l e R s m args below meth c H1 locs1 cells slots Q (F0 m (pc + 3) ls rest)) : W p l e R s m args below meth c H locs cells slots Q (F0 m pc ls (.ref q :: .ref E.1 :: rest)) := by
  refine cb_put (ad := fun k => if k = j then q else E.2.1 k) X hin hty hnm hK ho hA hS0 j hj h hlink hO hfin (by rw [ht]; rfl) (by rw [ht]; rfl) ?_ (fun k hk => if_neg (by omega)) (fun el' he => ?_) hdg (fun H1 locs1 a1 a2 a3 a4 => kk _ H1 locs1 a1 a2 a4 a3)
  · unfold ww_v
    rw [ht]
    show Value.ref (if j = j then q else _) = _
    rw [if_pos rfl]
  · cases (show FieldType.array el' = .array el from he.symm.trans ht)
    show H[if j = j then q else _]? = _ ∧ base ≤ (if j = j then q else _) ∧ _
    rw [if_pos rfl]
    exact ⟨hc, hb, hq⟩
theorem cb_newa (X : ww_C p m c cc nL s args own lw_all) (hin : ∀ w ∈ u_ws own T N, w ∈ lw_all) (hty : ∀ k, k < N → parseFieldDescriptor (T k).2.2.1 = some (ty k)) (hnm : ∀ a, a < N → ∀ b, b < N → a ≠ b → (T a).2.1 ≠ (T b).2.1) (hK : ww_Kn own T N ty E s) (ho : E.1 < base) (hA : ∀ q, q = E.1 ∨ base ≤ q → A q) (hS0 : va_S A H0 H locs) (j : Nat) (hj : j < N) (h : cb_H N ty len E base M j H) {index : Nat} (hlink : Cond.fieldLink own index own (T j).2.1 (T j).2.2.1 ∈ lw_all) (hO : (T j).1 = own) (hfin : (T j).2.2.2 = true → meth.name = "<init>") {atype : ArrayType} (ht : ty j = .array (newarray.typeOf atype)) (harr : Cond.arrayClass (newarray.typeOf atype) ∈ lw_all) {n : Int32} (hn : ww_i n 100000 = true) {L : Nat} (hL : len j = L) (hN : n.toNatClampNeg = L) (hM : ∀ cA, vp_cell cA (L, ww_c (newarray.typeOf atype) M j) = arrV cA L (fun _ => defaultValue (newarray.typeOf atype))) (hcells : cells + 1 ≤ R.cells) (hslots : slots + L ≤ R.slots) (d1 : decode cc pc = .ok (.newarray atype, 2)) (d2 : decode cc (pc + 2) = .ok (.putfield index, 3))
    (kk : ∀ (ad : Nat → Nat) (H1 : Heap) (locs1 : List Loc), cb_H N ty len (E.1, ad, E.2.2) base M (j + 1) H1 → va_S A H0 H1 locs1 → (∀ y, y < H.size → y ≠ E.1 → H1[y]? = H[y]?) → H.size ≤ H1.size → W p l e R s m args below meth c H1 locs1 (cells + 1) (slots + L) Q (F0 m (pc + 2 + 3) ls rest)) : W p l e R s m args below meth c H locs cells slots Q (F0 m pc ls (.int n :: .ref E.1 :: rest)) := by
  have hin' := ww_iv hn
  have h0 : ¬ n < 0 := fun q => hin' (Or.inl q)
  have hlt : n.toNatClampNeg < 100000 := Nat.not_le.mp fun q => hin' (Or.inr q)
  have hbytes : L * componentBytes (newarray.typeOf atype) ≤ 536870912 := by
    have : componentBytes (newarray.typeOf atype) ≤ 8 := by cases atype <;> decide
    have h9 := Nat.mul_le_mul (Nat.le_of_lt (by omega : L < 100000)) this
    omega
  refine va_newaK X.1 X.2.1 (X.2.2.2.2 _ harr) rfl d1 rfl h0 hN hbytes hcells hslots rfl fun H1 cA e1 z1 o1 hAr hNm => ?_
  have hcA : cA = E.2.2.2.2 (newarray.typeOf atype) := by
    have h1 := (hK.2 j hj _ ht).2
    have h2 : s.vm.findClass ("[" ++ (newarray.typeOf atype).toString) = some (E.2.2.2.2 (newarray.typeOf atype)) := by
      revert h1
      cases atype <;> exact fun h1 => h1
    exact Option.some.inj (hNm.symm.trans h2)
  subst hcA
  have h' := h.kept (by omega) o1
  refine cb_arr X hin hty hnm hK ho hA (⟨Nat.le_trans hS0.1 (by omega), fun x q1 q2 => (o1 x (Nat.lt_of_lt_of_le q1 hS0.1)).trans (hS0.2.1 x q1 q2), hS0.2.2⟩ : va_S A H0 H1 locs) j hj h' hlink hO hfin ht (q := H.size) h.2.1 (fun k hk he e => ?_) (by rw [e1, hL, hM]) d2 (fun ad H2 locs2 a1 a2 a3 a4 => kk ad H2 locs2 a1 a2 (fun y y1 y2 => (a3 y y2).trans (o1 y y1)) (by omega))
  obtain ⟨el, he⟩ := he
  have := (Array.getElem?_eq_some_iff.mp (h.2.2.1 k hk el he).1).1
  omega
theorem cb_anew (X : ww_C p m c cc nL s args own lw_all) (hin : ∀ w ∈ u_ws own T N, w ∈ lw_all) (hty : ∀ k, k < N → parseFieldDescriptor (T k).2.2.1 = some (ty k)) (hnm : ∀ a, a < N → ∀ b, b < N → a ≠ b → (T a).2.1 ≠ (T b).2.1) (hK : ww_Kn own T N ty E s) (ho : E.1 < base) (hA : ∀ q, q = E.1 ∨ base ≤ q → A q) (hS0 : va_S A H0 H locs) (j : Nat) (hj : j < N) (h : cb_H N ty len E base M j H) {index i2 : Nat} (hlink : Cond.fieldLink own index own (T j).2.1 (T j).2.2.1 ∈ lw_all) (hO : (T j).1 = own) (hfin : (T j).2.2.2 = true → meth.name = "<init>") {C : String} (ht : ty j = .array (.object C)) (hcl : Cond.classLink own i2 C ∈ lw_all) (hover : va_AO C s) {n : Int32} (hn : ww_i n 100000 = true) {L : Nat} (hL : len j = L) (hN : n.toNatClampNeg = L) (hM : M.2.2.2.2 j = fun _ => none) (hcells : cells + 1 ≤ R.cells) (hslots : slots + L ≤ R.slots) (d1 : decode cc pc = .ok (.anewarray i2, 3)) (d2 : decode cc (pc + 3) = .ok (.putfield index, 3))
    (kk : ∀ (ad : Nat → Nat) (H1 : Heap) (locs1 : List Loc), cb_H N ty len (E.1, ad, E.2.2) base M (j + 1) H1 → va_S A H0 H1 locs1 → (∀ y, y < H.size → y ≠ E.1 → H1[y]? = H[y]?) → H.size ≤ H1.size → W p l e R s m args below meth c H1 locs1 (cells + 1) (slots + L) Q (F0 m (pc + 3 + 3) ls rest)) : W p l e R s m args below meth c H locs cells slots Q (F0 m pc ls (.int n :: .ref E.1 :: rest)) := by
  have hin' := ww_iv hn
  have h0 : ¬ n < 0 := fun q => hin' (Or.inl q)
  have hlt : n.toNatClampNeg < 100000 := Nat.not_le.mp fun q => hin' (Or.inr q)
  subst hN
  refine W.anew X.1 X.2.1 X.2.2.2.1 (X.2.2.2.2 _ hcl) (va_AO.use hover) rfl d1 rfl h0 (by omega) hcells hslots fun cA kA comp f1 f2 f3 f4 => ?_
  generalize hH1 : H.push ({ cls := cA, slots := Array.replicate n.toNatClampNeg .null, vm := .none } : Cell) = H1
  have z1 : H1.size = H.size + 1 := by rw [← hH1, Array.size_push]
  have e1 : H1[H.size]? = some (arrV cA n.toNatClampNeg (fun _ => .null)) := by rw [← hH1, Array.getElem?_push_size, ← arrV_new]
  have o1 : ∀ q : Nat, q < H.size → H1[q]? = H[q]? := fun q hq => by rw [← hH1, Array.getElem?_push, if_neg (Nat.ne_of_lt hq)]
  have hcA : cA = E.2.2.2.2 (.object C) := by
    obtain ⟨kA', comp', k1, k2, k3, k4⟩ := (hK.2 j hj _ ht).2
    exact Option.some.inj (f1.symm.trans k4)
  subst hcA
  have h' := h.kept (by omega) o1
  refine cb_arr X hin hty hnm hK ho hA (⟨Nat.le_trans hS0.1 (by omega), fun x q1 q2 => (o1 x (Nat.lt_of_lt_of_le q1 hS0.1)).trans (hS0.2.1 x q1 q2), hS0.2.2⟩ : va_S A H0 H1 locs) j hj h' hlink hO hfin ht (q := H.size) h.2.1 (fun k hk he e => ?_) ?_ d2 (fun ad H2 locs2 a1 a2 a3 a4 => kk ad H2 locs2 a1 a2 (fun y y1 y2 => (a3 y y2).trans (o1 y y1)) (by omega))
  · obtain ⟨el, he⟩ := he
    have := (Array.getElem?_eq_some_iff.mp (h.2.2.1 k hk el he).1).1
    omega
  · rw [e1, hL]
    show _ = some (vp_cell _ (_, .inr (.inr (.inr (.inr (M.2.2.2.2 j))))))
    rw [hM]
    rfl
end CBC
