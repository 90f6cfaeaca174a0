/-! rows of the store: objects and arrays by their addresses -/
def cw_gI (D : cw_D) (cs : List Nat) (a k : Nat) : Option Int32 := match D.2.1 a with
  | some o => if o.1 ∈ cs then (match o.2.2.1 k with | .int v => some v | _ => none) else none
  | none => none
def cw_gR (D : cw_D) (cs : List Nat) (a k : Nat) : Option (Option Nat) := match D.2.1 a with
  | some o => if o.1 ∈ cs then (match o.2.2.1 k with | .ref b => some (some b) | .null => some none | _ => none) else none
  | none => none
def cw_p (D : cw_D) (cs : List Nat) (a k : Nat) (v : Value) : Option cw_D := match D.2.1 a with
  | some o => if o.1 ∈ cs ∧ o.2.1 = true then some (D.1, cw_up D.2.1 a (o.1, o.2.1, updV o.2.2.1 k v, o.2.2.2), D.2.2) else none
  | none => none
def cw_df (ci : Nat) : Nat → Value := match ci with
  | 0 => fun k => defaultValue (tyX4 k)
  | 1 => fun k => defaultValue (tyX7 k)
  | 2 => fun k => defaultValue (tyX8 k)
  | 3 => fun k => defaultValue (tyJ4 k)
  | _ => fun k => defaultValue (tyJ3 k)
/-- a new object of a kind; a new array -/
def cw_nO (D : cw_D) (ci : Nat) : cw_D := (D.1, cw_up D.2.1 D.2.2 (ci, true, cw_df ci, 0, (fun _ => 0), fun _ => none), D.2.2 + 1)
def cw_nA (D : cw_D) (kd n : Nat) : cw_D := (D.1, cw_up D.2.1 D.2.2 (kd, true, (fun _ => .null), n, (fun _ => 0), fun _ => none), D.2.2 + 1)
def cw_xI (D : cw_D) (kd a : Nat) (i : Int32) : Option Int32 := match D.2.1 a with
  | some o => if o.1 = kd ∧ ww_i i o.2.2.2.1 = true then some (o.2.2.2.2.1 i.toNatClampNeg) else none
  | none => none
def cw_ln (D : cw_D) (a : Nat) : Option Int32 := match D.2.1 a with
  | some o => if 20 ≤ o.1 then some (Int32.ofNat o.2.2.2.1) else none
  | none => none
def cw_sI (D : cw_D) (kd a : Nat) (i x : Int32) : Option cw_D := match D.2.1 a with
  | some o => if o.1 = kd ∧ o.2.1 = true ∧ ww_i i o.2.2.2.1 = true then some (D.1, cw_up D.2.1 a (o.1, o.2.1, o.2.2.1, o.2.2.2.1, upd o.2.2.2.2.1 i.toNatClampNeg x, o.2.2.2.2.2), D.2.2) else none
  | none => none
def cw_xR (D : cw_D) (a : Nat) (i : Int32) : Option (Option Nat) := match D.2.1 a with
  | some o => if o.1 = 22 ∧ ww_i i o.2.2.2.1 = true then some (o.2.2.2.2.2 i.toNatClampNeg) else none
  | none => none
/-- of one of these kinds, or nothing -/
def cw_kd (D : cw_D) (cs : List Nat) (x : Option Nat) : Bool := match x with
  | none => true
  | some a => match D.2.1 a with
    | some o => decide (o.1 ∈ cs)
    | none => false
def cw_tR (D : cw_D) (a : Nat) (i : Int32) (x : Option Nat) : Option cw_D := match D.2.1 a with
  | some o => if o.1 = 22 ∧ o.2.1 = true ∧ ww_i i o.2.2.2.1 = true ∧ cw_kd D [1, 2] x = true then some (D.1, cw_up D.2.1 a (o.1, o.2.1, o.2.2.1, o.2.2.2.1, o.2.2.2.2.1, va_up o.2.2.2.2.2 i.toNatClampNeg x), D.2.2) else none
  | none => none
theorem cw_cat (x : Option Nat) : (va_rf x).category = 1 := by cases x <;> rfl
theorem cw_gI_o {D : cw_D} {cs : List Nat} {a k : Nat} {v : Int32} (h : cw_gI D cs a k = some v) : ∃ o, D.2.1 a = some o ∧ o.1 ∈ cs ∧ o.2.2.1 k = .int v := by
  unfold cw_gI at h
  cases ho : D.2.1 a with
  | none => simp only [ho] at h; cases h
  | some o =>
    simp only [ho] at h
    by_cases hc : o.1 ∈ cs
    · rw [if_pos hc] at h
      cases hv : o.2.2.1 k with
      | int w => simp only [hv] at h; cases h; exact ⟨o, rfl, hc, hv⟩
      | _ => simp only [hv] at h; cases h
    · rw [if_neg hc] at h; cases h
theorem cw_gR_o {D : cw_D} {cs : List Nat} {a k : Nat} {v : Option Nat} (h : cw_gR D cs a k = some v) : ∃ o, D.2.1 a = some o ∧ o.1 ∈ cs ∧ o.2.2.1 k = va_rf v := by
  unfold cw_gR at h
  cases ho : D.2.1 a with
  | none => simp only [ho] at h; cases h
  | some o =>
    simp only [ho] at h
    by_cases hc : o.1 ∈ cs
    · rw [if_pos hc] at h
      cases hv : o.2.2.1 k with
      | ref w => simp only [hv] at h; cases h; exact ⟨o, rfl, hc, hv⟩
      | null => simp only [hv] at h; cases h; exact ⟨o, rfl, hc, hv⟩
      | _ => simp only [hv] at h; cases h
    · rw [if_neg hc] at h; cases h
theorem cw_p_o {D D' : cw_D} {cs : List Nat} {a k : Nat} {v : Value} (h : cw_p D cs a k v = some D') : ∃ o, D.2.1 a = some o ∧ o.1 ∈ cs ∧ o.2.1 = true ∧ D' = (D.1, cw_up D.2.1 a (o.1, o.2.1, updV o.2.2.1 k v, o.2.2.2), D.2.2) := by
  unfold cw_p at h
  cases ho : D.2.1 a with
  | none => simp only [ho] at h; cases h
  | some o =>
    simp only [ho] at h
    by_cases hc : o.1 ∈ cs ∧ o.2.1 = true
    · rw [if_pos hc] at h; cases h; exact ⟨o, rfl, hc.1, hc.2, rfl⟩
    · rw [if_neg hc] at h; cases h
theorem cw_xI_o {D : cw_D} {kd a : Nat} {i v : Int32} (h : cw_xI D kd a i = some v) : ∃ o, D.2.1 a = some o ∧ o.1 = kd ∧ ww_i i o.2.2.2.1 = true ∧ v = o.2.2.2.2.1 i.toNatClampNeg := by
  unfold cw_xI at h
  cases ho : D.2.1 a with
  | none => simp only [ho] at h; cases h
  | some o =>
    simp only [ho] at h
    by_cases hc : o.1 = kd ∧ ww_i i o.2.2.2.1 = true
    · rw [if_pos hc] at h; cases h; exact ⟨o, rfl, hc.1, hc.2, rfl⟩
    · rw [if_neg hc] at h; cases h
theorem cw_ln_o {D : cw_D} {a : Nat} {v : Int32} (h : cw_ln D a = some v) : ∃ o, D.2.1 a = some o ∧ 20 ≤ o.1 ∧ v = Int32.ofNat o.2.2.2.1 := by
  unfold cw_ln at h
  cases ho : D.2.1 a with
  | none => simp only [ho] at h; cases h
  | some o =>
    simp only [ho] at h
    by_cases hc : 20 ≤ o.1
    · rw [if_pos hc] at h; cases h; exact ⟨o, rfl, hc, rfl⟩
    · rw [if_neg hc] at h; cases h
theorem cw_sI_o {D D' : cw_D} {kd a : Nat} {i x : Int32} (h : cw_sI D kd a i x = some D') : ∃ o, D.2.1 a = some o ∧ o.1 = kd ∧ o.2.1 = true ∧ ww_i i o.2.2.2.1 = true ∧ D' = (D.1, cw_up D.2.1 a (o.1, o.2.1, o.2.2.1, o.2.2.2.1, upd o.2.2.2.2.1 i.toNatClampNeg x, o.2.2.2.2.2), D.2.2) := by
  unfold cw_sI at h
  cases ho : D.2.1 a with
  | none => simp only [ho] at h; cases h
  | some o =>
    simp only [ho] at h
    by_cases hc : o.1 = kd ∧ o.2.1 = true ∧ ww_i i o.2.2.2.1 = true
    · rw [if_pos hc] at h; cases h; exact ⟨o, rfl, hc.1, hc.2.1, hc.2.2, rfl⟩
    · rw [if_neg hc] at h; cases h
theorem cw_xR_o {D : cw_D} {a : Nat} {i : Int32} {v : Option Nat} (h : cw_xR D a i = some v) : ∃ o, D.2.1 a = some o ∧ o.1 = 22 ∧ ww_i i o.2.2.2.1 = true ∧ v = o.2.2.2.2.2 i.toNatClampNeg := by
  unfold cw_xR at h
  cases ho : D.2.1 a with
  | none => simp only [ho] at h; cases h
  | some o =>
    simp only [ho] at h
    by_cases hc : o.1 = 22 ∧ ww_i i o.2.2.2.1 = true
    · rw [if_pos hc] at h; cases h; exact ⟨o, rfl, hc.1, hc.2, rfl⟩
    · rw [if_neg hc] at h; cases h
theorem cw_tR_o {D D' : cw_D} {a : Nat} {i : Int32} {x : Option Nat} (h : cw_tR D a i x = some D') : ∃ o, D.2.1 a = some o ∧ o.1 = 22 ∧ o.2.1 = true ∧ ww_i i o.2.2.2.1 = true ∧ cw_kd D [1, 2] x = true ∧ D' = (D.1, cw_up D.2.1 a (o.1, o.2.1, o.2.2.1, o.2.2.2.1, o.2.2.2.2.1, va_up o.2.2.2.2.2 i.toNatClampNeg x), D.2.2) := by
  unfold cw_tR at h
  cases ho : D.2.1 a with
  | none => simp only [ho] at h; cases h
  | some o =>
    simp only [ho] at h
    by_cases hc : o.1 = 22 ∧ o.2.1 = true ∧ ww_i i o.2.2.2.1 = true ∧ cw_kd D [1, 2] x = true
    · rw [if_pos hc] at h; cases h; exact ⟨o, rfl, hc.1, hc.2.1, hc.2.2.1, hc.2.2.2, rfl⟩
    · rw [if_neg hc] at h; cases h
theorem cw_ctI {o : cw_O} (h : o.1 = 20 ∨ o.1 = 21) : cw_ct o = .inl o.2.2.2.2.1 := by
  obtain ⟨k, q⟩ := o
  rcases h with h | h <;> (have h : k = _ := h; subst h; rfl)
theorem cw_ctR {o : cw_O} (h : o.1 = 22) : cw_ct o = .inr (.inr (.inr (.inr o.2.2.2.2.2))) := by
  obtain ⟨k, q⟩ := o
  have h : k = _ := h
  subst h
  rfl
section CST
variable {p : Program} {l : Launch} {e : Env} {R : Room} {s : State} {m : MethodId} {args : Array Value} {below : List Frame} {meth : Method} {c : Code} {H : Heap} {locs : List Loc} {cells slots : Nat} {Q : State → Prop}
variable {cc : ByteArray} {pc : Nat} {ls : Array Slot} {rest : List Value} {nL : Nat} {own : String} {E : cw_E} {D : cw_D} {A : Nat → Prop} {H0 : Heap} {a : Nat}
theorem cw_oget {ci : Nat} {C : String} {T : u_T} {N : Nat} (hc : cwCl[ci]? = some (C, T, N)) (hin : ∀ w ∈ u_ws C T N, w ∈ lw_all) (X : ww_C p m c cc nL s args own lw_all) (hK : cw_K E A s) (hR : cw_H E A D H) {ref : String} {index : Nat} (k : Nat) (hk : k < N) (hlink : (Cond.fieldLink own index ref (T k).2.1 (T k).2.2.1).before args s = true ∨ ∃ host, (Cond.fieldLinkNest own index ref (T k).2.1 (T k).2.2.1 host).before args s = true) (hsame : ∀ x, s.fieldFound? (T k).1 (T k).2.1 (T k).2.2.1 = some x → s.fieldFound? ref (T k).2.1 (T k).2.2.1 = some x) {x : Option Nat} (he : x = some a) {o : cw_O} (ho : D.2.1 a = some o) (hci : o.1 = ci) (hl : ci < 20) {v : Value} (hv : o.2.2.1 k = v) (hdg : decode cc pc = .ok (.getfield index, 3))
    (kk : W p l e R s m args below meth c H locs cells slots Q (F0 m (pc + 3) ls (v :: rest))) : W p l e R s m args below meth c H locs cells slots Q (F0 m pc ls (va_rf x :: rest)) := by
  subst he; subst hci
  obtain ⟨hx, hb, -, hown, hts⟩ := X
  obtain ⟨r, h1, cell, q1, q2, -, -, q3, q4⟩ := (hR.2.1 a o ho).1.1 hl
  have hr : r = (C, T, N) := Option.some.inj (h1.symm.trans hc)
  subst hr
  obtain ⟨hS, hfc, kC, hkC, hkind⟩ := hK.2.1 o.1 _ hc
  obtain ⟨cf, kf, fi, f, hi, hsl⟩ := hS k hk
  rcases hlink with hlink | ⟨host, hlink⟩
  · refine W.getf hx hb hown hlink (hsame _ hi) (u_facts hfc hkC (u_lays hts hin hk) hi).1 q1 q3 (v := v) ?_ rfl rfl hdg kk
    rw [hsl, q4 k hk, hv]
  · refine va_Wgetf hx hb hown hlink (hsame _ hi) (u_facts hfc hkC (u_lays hts hin hk) hi).1 q1 q3 (v := v) ?_ rfl rfl hdg kk
    rw [hsl, q4 k hk, hv]
theorem cw_oput {ci : Nat} {C : String} {T : u_T} {N : Nat} (hc : cwCl[ci]? = some (C, T, N)) (hin : ∀ w ∈ u_ws C T N, w ∈ lw_all) (ty : Nat → FieldType) (hty : ∀ k, k < N → parseFieldDescriptor (T k).2.2.1 = some (ty k)) (hnm : ∀ a, a < N → ∀ b, b < N → a ≠ b → (T a).2.1 ≠ (T b).2.1) (X : ww_C p m c cc nL s args own lw_all) (hK : cw_K E A s) (hR : cw_H E A D H) (hS0 : va_S A H0 H locs) {ref : String} {index : Nat} (k : Nat) (hk : k < N) (hlink : Cond.fieldLink own index ref (T k).2.1 (T k).2.2.1 ∈ lw_all) (hsame : ∀ x, s.fieldFound? (T k).1 (T k).2.1 (T k).2.2.1 = some x → s.fieldFound? ref (T k).2.1 (T k).2.2.1 = some x) (hfin : (T k).2.2.2 = false ∨ ((T k).2.2.2 = true ∧ meth.name = "<init>" ∧ (T k).1 = own)) {x : Option Nat} (he : x = some a) {o : cw_O} (ho : D.2.1 a = some o) (hci : o.1 = ci) (hl : ci < 20) (hw : o.2.1 = true) {t : FieldType} (ht : ty k = t) {v : Value} (hn : narrow t v = v) (hfit : fits t v = true) (hdg : decode cc pc = .ok (.putfield index, 3))
    (kk : ∀ (H1 : Heap) (locs1 : List Loc), cw_H E A (D.1, cw_up D.2.1 a (o.1, o.2.1, updV o.2.2.1 k v, o.2.2.2), D.2.2) H1 → va_S A H0 H1 locs1 → W p l e R s m args below meth c H1 locs1 cells slots Q (F0 m (pc + 3) ls rest)) : W p l e R s m args below meth c H locs cells slots Q (F0 m pc ls (v :: va_rf x :: rest)) := by
  subst he; subst hci
  obtain ⟨hx, hb, -, hown, hts⟩ := X
  obtain ⟨hat, -, hwr⟩ := hR.2.1 a o ho
  obtain ⟨r, h1, cell, q1, q2, q3, q4⟩ := hat.ow hl hw
  have hr : r = (C, T, N) := Option.some.inj (h1.symm.trans hc)
  subst hr
  have hKn := hK.2.1 o.1 _ hc
  have hap : ∀ x y, x < N → y < N → x ≠ y → E.2.2.1 o.1 x ≠ E.2.2.1 o.1 y := by
    intro x y hx hy hne
    obtain ⟨hS, -⟩ := hKn
    obtain ⟨_, _, _, fa, hia, ea⟩ := hS x hx
    obtain ⟨_, _, _, fb, hib, eb⟩ := hS y hy
    rw [← ea, ← eb]
    refine u_apart (u_lays hts hin hx) (u_lays hts hin hy) hia hib ?_
    rw [(State.fieldFound?_type hia (hty x hx)).1, (State.fieldFound?_type hib (hty y hy)).1]
    exact hnm x hx y hy hne
  obtain ⟨hS, hfc, kC, hkC, hkind⟩ := hKn
  obtain ⟨cf, kf, fi, f, hi, hsl⟩ := hS k hk
  have hst := (u_facts hfc hkC (u_lays hts hin hk) hi).1
  have fin : ∀ (H' : Heap), H'[a]? = some (cell.setSlot f.slot v) → H'.size = H.size → (∀ q, q ≠ a → H'[q]? = H[q]?) → W p l e R s m args below meth c H' (locs ++ [⟨a, f.slot⟩]) cells slots Q (F0 m (pc + 3) ls rest) := by
    intro H' e1 e2 e3
    rw [hsl] at e1 ⊢
    exact kk H' _ (hR.setAt ho (cw_at.obj hl hc ⟨_, e1, q2, q3, t_set q4 hap hk v⟩) rfl e2 e3) (hS0.put e2 e3 (hwr hw))
  have hlay := hts _ (hin _ (u_in_lay hk))
  unfold u_lay at hlay
  rcases hfin with hfin | ⟨hfin, hin2, hdecl⟩
  · rw [if_neg (by rw [hfin]; decide)] at hlay
    have h6 := u_store hfc hkC hkind hlay hi ((hty k hk).trans (congrArg some ht)) hn hfit
    exact W.putK hx hb (f := f) ⟨hown, hts _ hlink, ⟨_, _, _, hsame _ hi⟩, hst⟩ (by rw [q2]; exact h6) q1 q3 (by rw [hsl]; exact k2_hasslot (q4 k hk)) rfl rfl hdg fin
  · rw [if_pos hfin] at hlay
    have hcf : m.cls = cf := by
      obtain ⟨_, _, c', _, _, _, -, -, hf', -, -, -, hown2, -⟩ := Cond.laysFinal_spec hlay
      have e1 : c' = cf := by have := hi.symm.trans hf'; simp at this; exact this.1.symm
      rw [hdecl] at hown2
      rw [← e1]; exact Option.some.inj (hown.symm.trans hown2)
    have h6 := u_fits hfc hkC hkind (Or.inr hlay) hi ((hty k hk).trans (congrArg some ht)) hn hfit
    exact W.putFinK hx hb hown (hts _ hlink) (hsame _ hi) hst hcf hin2 (by rw [q2]; exact h6) q1 q3 (by rw [hsl]; exact k2_hasslot (q4 k hk)) rfl rfl hdg fin
theorem cw_arr (hK : cw_K E A s) {kd : Nat} (n : Nat) (z : Nat → Value) (el : FieldType) (he : cw_el kd = el) : s.isArrayOf (arrV (E.1.2.2.2.2 (cw_el kd)) n z) el ∧ va_RA s (E.1.2.2.2.2 (cw_el kd)) el := by
  have hm : cw_el kd ∈ cwEls := by
    unfold cw_el
    split <;> decide
  have h := hK.2.2.1 _ hm
  subst he
  exact ⟨h.1 n z, h.2⟩
/-- an array's cell, whatever else it bears -/
theorem cw_arc0 (hK : cw_K E A s) {o : cw_O} (hat : cw_at E a o H) (hl : 20 ≤ o.1) : ∃ cell : Cell, H[a]? = some cell ∧ cell.cls = E.1.2.2.2.2 (cw_el o.1) ∧ cell.vm.isStatics = false ∧ cell.vm ≠ .unknown ∧ cell.slots = (vp_cell (E.1.2.2.2.2 (cw_el o.1)) (o.2.2.2.1, cw_ct o)).slots ∧ s.isArrayOf cell (cw_el o.1) := by
  obtain ⟨cell, q1, q2, -, q4, q5, q6⟩ := hat.2 hl
  have hz : ∃ k, s.vm.classes[cell.cls]? = some k ∧ ∃ comp, k.kind = .array comp (cw_el o.1) := by
    rw [q2]
    exact (cw_arr hK (kd := o.1) 0 (fun _ => .null) _ rfl).1.2
  exact ⟨cell, q1, q2, q4, q5, q6, (fun k h => by rw [h] at q4; cases q4), hz⟩
theorem cw_oxI {kd : Nat} {op : Instr} (X : ww_C p m c cc nL s args own lw_all) (hK : cw_K E A s) (hR : cw_H E A D H) (hkd : (kd = 20 ∧ op = .iaload) ∨ (kd = 21 ∧ op = .baload)) {x : Option Nat} (he : x = some a) {i v : Int32} (h : cw_xI D kd a i = some v) (hdg : decode cc pc = .ok (op, 1))
    (kk : W p l e R s m args below meth c H locs cells slots Q (F0 m (pc + 1) ls (.int v :: rest))) : W p l e R s m args below meth c H locs cells slots Q (F0 m pc ls (.int i :: va_rf x :: rest)) := by
  subst he
  obtain ⟨o, ho, hk, hi, rfl⟩ := cw_xI_o h
  obtain ⟨cell, q1, q2, q3, q4, q5, q6⟩ := cw_arc0 hK (hR.2.1 a o ho).1 (by omega)
  have hin := ww_iv hi
  have hlt : i.toNatClampNeg < o.2.2.2.1 := Nat.not_le.mp fun q => hin (Or.inr q)
  have hct : cw_ct o = .inl o.2.2.2.2.1 := cw_ctI (by omega)
  rw [hct] at q5
  have hsz : cell.slots.size = o.2.2.2.1 := by rw [q5, vp_cell_i, arrV_size]
  have hrd : cell.slots[i.toNatClampNeg]? = some (.int (o.2.2.2.2.1 i.toNatClampNeg)) := by rw [q5, vp_cell_i, arrV_read _ _ hlt]
  rw [hk] at q6
  rcases hkd with ⟨rfl, rfl⟩ | ⟨rfl, rfl⟩
  · exact W.iald (v := .int (o.2.2.2.2.1 i.toNatClampNeg)) X.1 X.2.1 q1 q6 q4 (by rw [hsz]; exact hin) hrd rfl rfl hdg kk
  · exact W.bald (v := .int (o.2.2.2.2.1 i.toNatClampNeg)) X.1 X.2.1 q1 q6 q4 (by rw [hsz]; exact hin) hrd rfl rfl hdg kk
theorem cw_oln (X : ww_C p m c cc nL s args own lw_all) (hK : cw_K E A s) (hR : cw_H E A D H) {x : Option Nat} (he : x = some a) {v : Int32} (h : cw_ln D a = some v) (hdg : decode cc pc = .ok (.arraylength, 1))
    (kk : W p l e R s m args below meth c H locs cells slots Q (F0 m (pc + 1) ls (.int v :: rest))) : W p l e R s m args below meth c H locs cells slots Q (F0 m pc ls (va_rf x :: rest)) := by
  subst he
  obtain ⟨o, ho, hk, rfl⟩ := cw_ln_o h
  obtain ⟨cell, q1, q2, q3, q4, q5, q6⟩ := cw_arc0 hK (hR.2.1 a o ho).1 hk
  have hsz : cell.slots.size = o.2.2.2.1 := by
    rw [q5]
    generalize cw_ct o = q
    match q with
    | .inl f => exact arrV_size _ _ _
    | .inr (.inl f) => exact arrV_size _ _ _
    | .inr (.inr (.inl f)) => exact arrV_size _ _ _
    | .inr (.inr (.inr (.inl f))) => exact arrV_size _ _ _
    | .inr (.inr (.inr (.inr f))) => exact arrV_size _ _ _
  exact W.alen X.1 X.2.1 q1 q6 (by rw [hsz]) rfl rfl hdg kk
theorem cw_osI {kd : Nat} {op : Instr} {v' : Int32} {x' : Option Nat} (X : ww_C p m c cc nL s args own lw_all) (hK : cw_K E A s) (hR : cw_H E A D H) (hS : va_S A H0 H locs) {v : Int32} (hkd : (kd = 20 ∧ op = .iastore ∧ v' = v) ∨ (kd = 21 ∧ op = .bastore ∧ v' = vp_nar .byte v)) (he : x' = some a) {i : Int32} {D' : cw_D} (h : cw_sI D kd a i v' = some D') (hdg : decode cc pc = .ok (op, 1))
    (kk : ∀ (H1 : Heap) (locs1 : List Loc), cw_H E A D' H1 → va_S A H0 H1 locs1 → W p l e R s m args below meth c H1 locs1 cells slots Q (F0 m (pc + 1) ls rest)) : W p l e R s m args below meth c H locs cells slots Q (F0 m pc ls (.int v :: .int i :: va_rf x' :: rest)) := by
  subst he
  obtain ⟨o, ho, hk, hw, hi, rfl⟩ := cw_sI_o h
  obtain ⟨hat, -, hwr⟩ := hR.2.1 a o ho
  have hcell := hat.aw (by omega) hw
  have hin := ww_iv hi
  have fin : ∀ (y : Int32) (H1 : Heap), 20 ≤ o.1 → cw_ct o = .inl o.2.2.2.2.1 → (∀ g : Nat → Int32, cw_ct (o.1, o.2.1, o.2.2.1, o.2.2.2.1, g, o.2.2.2.2.2) = .inl g) → H1[a]? = some ((vp_cell (E.1.2.2.2.2 (cw_el o.1)) (o.2.2.2.1, .inl o.2.2.2.2.1)).setSlot i.toNatClampNeg (.int y)) → H1.size = H.size → (∀ q, q ≠ a → H1[q]? = H[q]?) → cw_H E A (D.1, cw_up D.2.1 a (o.1, o.2.1, o.2.2.1, o.2.2.2.1, upd o.2.2.2.2.1 i.toNatClampNeg y, o.2.2.2.2.2), D.2.2) H1 := by
    intro y H1 h20 hct hct2 e1 z oq
    refine hR.setAt ho (cw_at.arr h20 ?_) rfl z oq
    rw [hct2]
    show H1[a]? = some (vp_cell (E.1.2.2.2.2 (cw_el o.1)) (o.2.2.2.1, .inl (upd o.2.2.2.2.1 i.toNatClampNeg y)))
    rw [e1, vp_cell_i, arrV_store, ww_upd0]
    rfl
  rcases hkd with ⟨rfl, rfl, rfl⟩ | ⟨rfl, rfl, rfl⟩
  · have hct : cw_ct o = .inl o.2.2.2.2.1 := cw_ctI (by omega)
    have hct2 : ∀ g : Nat → Int32, cw_ct (o.1, o.2.1, o.2.2.1, o.2.2.2.1, g, o.2.2.2.2.2) = .inl g := fun g => cw_ctI (show o.1 = 20 ∨ o.1 = 21 by omega)
    rw [hct] at hcell
    have hcell2 := hcell
    rw [hk] at hcell2
    refine W.iast X.1 X.2.1 hcell2 (cw_arr hK (kd := 20) _ (fun j => .int (o.2.2.2.2.1 j)) .int rfl).1 (fun q => by cases q) (by show ¬ (i < 0 ∨ (arrV _ _ _).slots.size ≤ _); rw [arrV_size]; exact hin) rfl rfl hdg fun H1 e1 z oq => ?_
    exact kk H1 _ (fin v' H1 (by omega) hct hct2 (by rw [hk]; exact e1) z oq) (hS.put z oq (hwr hw))
  · have hct : cw_ct o = .inl o.2.2.2.2.1 := cw_ctI (by omega)
    have hct2 : ∀ g : Nat → Int32, cw_ct (o.1, o.2.1, o.2.2.1, o.2.2.2.1, g, o.2.2.2.2.2) = .inl g := fun g => cw_ctI (show o.1 = 20 ∨ o.1 = 21 by omega)
    rw [hct] at hcell
    have hcell2 := hcell
    rw [hk] at hcell2
    refine W.bast X.1 X.2.1 hcell2 (cw_arr hK (kd := 21) _ (fun j => .int (o.2.2.2.2.1 j)) .byte rfl).1 (fun q => by cases q) (by show ¬ (i < 0 ∨ (arrV _ _ _).slots.size ≤ _); rw [arrV_size]; exact hin) rfl rfl hdg fun H1 e1 z oq => ?_
    exact kk H1 _ (fin (vp_nar .byte v) H1 (by omega) hct hct2 (by rw [hk]; exact e1) z oq) (hS.put z oq (hwr hw))
theorem cw_oxR (X : ww_C p m c cc nL s args own lw_all) (hK : cw_K E A s) (hR : cw_H E A D H) {x : Option Nat} (he : x = some a) {i : Int32} {v : Option Nat} (h : cw_xR D a i = some v) (hdg : decode cc pc = .ok (.aaload, 1))
    (kk : W p l e R s m args below meth c H locs cells slots Q (F0 m (pc + 1) ls (va_rf v :: rest))) : W p l e R s m args below meth c H locs cells slots Q (F0 m pc ls (.int i :: va_rf x :: rest)) := by
  subst he
  obtain ⟨o, ho, hk, hi, rfl⟩ := cw_xR_o h
  obtain ⟨cell, q1, q2, q3, q4, q5, q6⟩ := cw_arc0 hK (hR.2.1 a o ho).1 (by omega)
  have hin := ww_iv hi
  have hlt : i.toNatClampNeg < o.2.2.2.1 := Nat.not_le.mp fun q => hin (Or.inr q)
  have hct : cw_ct o = .inr (.inr (.inr (.inr o.2.2.2.2.2))) := cw_ctR hk
  rw [hct] at q5
  have hsz : cell.slots.size = o.2.2.2.1 := by rw [q5, vp_cell_q, arrV_size]
  rw [hk] at q6
  exact W.aald (v := va_rf (o.2.2.2.2.2 i.toNatClampNeg)) (ty := .object "WideMap$Node") X.1 X.2.1 q1 q6 rfl q4 (by rw [hsz]; exact hin) (by rw [q5, vp_cell_q, arrV_read _ _ hlt]) rfl rfl hdg kk
/-- of kind Leaf or Inner: an array of nodes takes it; and so on -/
theorem cw_isN (hK : cw_K E A s) (hR : cw_H E A D H) {x : Option Nat} (h : cw_kd D [1, 2] x = true) : ∀ a, x = some a → cw_is E s H "WideMap$Node" a := by
  intro a he
  subst he
  have h : (match D.2.1 a with | some o => decide (o.1 ∈ [1, 2]) | none => false) = true := h
  cases ho : D.2.1 a with
  | none => simp only [ho] at h; cases h
  | some o =>
    simp only [ho] at h
    have hm := of_decide_eq_true h
    have hm : o.1 = 1 ∨ o.1 = 2 := by simpa using hm
    have key : ∀ (C : String) (T : u_T) (N : Nat), cwCl[o.1]? = some (C, T, N) → (Cond.castable C "WideMap$Node").before #[] s = true → cw_is E s H "WideMap$Node" a := by
      intro C T N hc hcast
      obtain ⟨r, h1, cell, q1, q2, -, q3, -, q4⟩ := (hR.2.1 a o ho).1.1 (by omega)
      have hr : r = (C, T, N) := Option.some.inj (h1.symm.trans hc)
      subst hr
      obtain ⟨-, hfc, kC, hkC, -⟩ := hK.2.1 o.1 _ hc
      obtain ⟨c3, t3, w1, w2, w3⟩ := Cond.castable_spec hcast
      cases hfc.symm.trans w1
      refine ⟨cell, kC, q1, (fun q hq => by rw [hq] at q3; cases q3), by rw [q2]; exact hkC, fun comp hcomp => ?_⟩
      cases hcomp.symm.trans w2
      obtain ⟨x3, hx3⟩ : ∃ kA : Class, s.vm.classes[t3]? = some kA := by
        have hra := (hK.2.2.1 (.object "WideMap$Node") (by decide)).1 0 (fun _ => .null)
        obtain ⟨-, kA, hkA, comp', hkind⟩ := hra
        have hF := (hK.2.2.2.1 ("WideMap$Leaf", ⟨"WideMap$Node", "isLeaf", "()Z"⟩, ⟨"WideMap$Leaf", "isLeaf", "()Z"⟩) (by decide +kernel)).2.1
        obtain ⟨cL, kL, r1, hcL, hkL, -⟩ := Cond.interfaceMethod_spec hF
        cases hcomp.symm.trans hcL
        exact ⟨_, hkL⟩
      exact ⟨x3, hx3, by rw [q2]; exact w3⟩
    rcases hm with hm | hm
    · exact key RX7 TX7 5 (by rw [hm]; rfl) (hK.2.2.2.1 ("WideMap$Leaf", ⟨"WideMap$Node", "isLeaf", "()Z"⟩, ⟨"WideMap$Leaf", "isLeaf", "()Z"⟩) (by decide +kernel)).2.2.2.2
    · exact key RX8 TX8 4 (by rw [hm]; rfl) (hK.2.2.2.1 ("WideMap$Inner", ⟨"WideMap$Node", "isLeaf", "()Z"⟩, ⟨"WideMap$Inner", "isLeaf", "()Z"⟩) (by decide +kernel)).2.2.2.2
theorem cw_isC (hK : cw_K E A s) (hR : cw_H E A D H) {k : Nat} {C : String} {T : u_T} {N : Nat} (hc : cwCl[k]? = some (C, T, N)) (hk : k < 20) {x : Option Nat} (h : cw_kd D [k] x = true) : ∀ a, x = some a → cw_is E s H C a := by
  intro a he
  subst he
  have h : (match D.2.1 a with | some o => decide (o.1 ∈ [k]) | none => false) = true := h
  cases ho : D.2.1 a with
  | none => simp only [ho] at h; cases h
  | some o =>
    simp only [ho] at h
    have hm := of_decide_eq_true h
    have hm : o.1 = k := by simpa using hm
    obtain ⟨r, h1, cell, q1, q2, -, q3, -, q4⟩ := (hR.2.1 a o ho).1.1 (by omega)
    have hr : r = (C, T, N) := Option.some.inj (h1.symm.trans (by rw [hm]; exact hc))
    subst hr
    have hat := (hK.2.1 o.1 _ (by rw [hm]; exact hc)).2
    obtain ⟨hfc, kC, hkC, -⟩ := id hat
    refine ⟨cell, kC, q1, (fun q hq => by rw [hq] at q3; cases q3), by rw [q2]; exact hkC, fun comp hcomp => ?_⟩
    cases hcomp.symm.trans hfc
    exact ⟨kC, hkC, by rw [q2]; exact va_assign hat⟩
theorem cw_otR {x' : Option Nat} (X : ww_C p m c cc nL s args own lw_all) (hK : cw_K E A s) (hR : cw_H E A D H) (hS : va_S A H0 H locs) {v : Option Nat} (he : x' = some a) {i : Int32} {D' : cw_D} (h : cw_tR D a i v = some D') (hdg : decode cc pc = .ok (.aastore, 1))
    (kk : ∀ (H1 : Heap) (locs1 : List Loc), cw_H E A D' H1 → va_S A H0 H1 locs1 → W p l e R s m args below meth c H1 locs1 cells slots Q (F0 m (pc + 1) ls rest)) : W p l e R s m args below meth c H locs cells slots Q (F0 m pc ls (va_rf v :: .int i :: va_rf x' :: rest)) := by
  subst he
  obtain ⟨o, ho, hk, hw, hi, hv, rfl⟩ := cw_tR_o h
  obtain ⟨hat, -, hwr⟩ := hR.2.1 a o ho
  have hcell := hat.aw (by omega) hw
  have hin := ww_iv hi
  have hlt : i.toNatClampNeg < o.2.2.2.1 := Nat.not_le.mp fun q => hin (Or.inr q)
  have h0 : ¬ i < 0 := fun q => hin (Or.inl q)
  rw [hk] at hcell
  have hct : cw_ct o = .inr (.inr (.inr (.inr o.2.2.2.2.2))) := cw_ctR hk
  have hct2 : ∀ g : Nat → Option Nat, cw_ct (o.1, o.2.1, o.2.2.1, o.2.2.2.1, o.2.2.2.2.1, g) = .inr (.inr (.inr (.inr g))) := fun g => cw_ctR (show o.1 = 22 from hk)
  rw [hct] at hcell
  have fin : ∀ (H1 : Heap) (L : List Loc), H1[a]? = some ((vp_cell (E.1.2.2.2.2 (cw_el 22)) (o.2.2.2.1, .inr (.inr (.inr (.inr o.2.2.2.2.2))))).setSlot i.toNatClampNeg (va_rf v)) → H1.size = H.size → (∀ q : Nat, q ≠ a → H1[q]? = H[q]?) → L = locs ++ [⟨a, i.toNatClampNeg⟩] → W p l e R s m args below meth c H1 L cells slots Q (F0 m (pc + 1) ls rest) := by
    intro H1 L e1 z oq hL
    subst hL
    refine kk H1 _ (hR.setAt ho (cw_at.arr (show 20 ≤ o.1 by omega) ?_) rfl z oq) (hS.put z oq (hwr hw))
    rw [hct2]
    show H1[a]? = some (vp_cell (E.1.2.2.2.2 (cw_el o.1)) (o.2.2.2.1, .inr (.inr (.inr (.inr (va_up o.2.2.2.2.2 i.toNatClampNeg v))))))
    rw [e1, hk, vp_cell_q, vp_cell_q, arrV_store]
    congr 2
    funext q
    by_cases hq : q = i.toNatClampNeg
    · subst hq
      simp [updV, va_up]
    · simp [updV, va_up, hq]
  have harr := cw_arr hK (kd := 22) o.2.2.2.1 (fun j => va_rf (o.2.2.2.2.2 j)) _ rfl
  cases v with
  | none =>
    exact va_WaastN (C := "WideMap$Node") X.1 X.2.1 hcell harr.1 (fun h => by cases h) (by show ¬ (i < 0 ∨ (arrV _ _ _).slots.size ≤ _); rw [arrV_size]; exact hin) rfl rfl hdg fun H1 e1 z oq => fin H1 _ e1 z oq rfl
  | some v =>
    obtain ⟨cv, kv, g1, g2, g3, g4⟩ := cw_isN hK hR hv v rfl
    obtain ⟨kA, comp, k1, k2, k3, -⟩ := harr.2
    obtain ⟨kcomp, hkcomp⟩ := g4 comp k3
    exact W.aast X.1 X.2.1 hcell (fun q h => by cases h) (fun h => by cases h) k1 k2 rfl hkcomp.1 ⟨h0, by show _ < (arrV _ _ _).slots.size; rw [arrV_size]; exact hlt⟩ g1 g2 g3 hkcomp.2 rfl rfl hdg fun H1 e1 z oq => fin H1 _ e1 z oq rfl
theorem cw_onew {ci : Nat} {C : String} {T : u_T} {N : Nat} (hc : cwCl[ci]? = some (C, T, N)) (hl : ci < 20) (hin : ∀ w ∈ u_ws C T N, w ∈ lw_all) (ty : Nat → FieldType) (hty : ∀ k, k < N → parseFieldDescriptor (T k).2.2.1 = some (ty k)) (hdf : cw_df ci = fun k => defaultValue (ty k)) (X : ww_C p m c cc nL s args own lw_all) (hK : cw_K E A s) (hR : cw_H E A D H) (hS : va_S A H0 H locs) {index : Nat} (hcl : Cond.classLink own index C ∈ lw_all) (hinst : Cond.instantiable C N ∈ lw_all) (hini : Cond.initialized C ∈ lw_all) (hcells : cells + 1 ≤ R.cells) (hslots : slots + N ≤ R.slots) (hdg : decode cc pc = .ok (.new index, 3))
    (kk : ∀ (H1 : Heap), cw_H E A (cw_nO D ci) H1 → va_S A H0 H1 locs → W p l e R s m args below meth c H1 locs (cells + 1) (slots + N) Q (F0 m (pc + 3) ls (.ref D.2.2 :: rest))) : W p l e R s m args below meth c H locs cells slots Q (F0 m pc ls rest) := by
  obtain ⟨hx, hb, -, hown, hts⟩ := X
  have hKn := hK.2.1 ci _ hc
  refine W.newcK hx hb hown (hts _ hcl) (hts _ hinst) (hts _ hini) rfl hdg hcells hslots hKn.2.1 hR.2.2.1 fun H1 kC hkC e1 z1 o1 => ?_
  rw [← hR.2.2.1] at e1 z1 o1
  refine kk H1 (hR.push hK.new (cw_at.obj hl hc ((u_born ty hts hin hKn hkC e1 hty).to (fun k _ => by rw [hdf]))) z1 o1) ⟨Nat.le_trans hS.1 (by omega), fun x h1 h2 => (o1 x (Nat.lt_of_lt_of_le h1 hS.1)).trans (hS.2.1 x h1 h2), hS.2.2⟩
theorem cw_onewa {kd : Nat} {at_ : ArrayType} (X : ww_C p m c cc nL s args own lw_all) (hK : cw_K E A s) (hR : cw_H E A D H) (hS : va_S A H0 H locs) (hkd : (kd = 20 ∧ at_ = .int) ∨ (kd = 21 ∧ at_ = .byte)) {n : Int32} {N : Nat} (hn : ww_i n 100000000 = true) (hN : n.toNatClampNeg = N) (hcells : cells + 1 ≤ R.cells) (hslots : slots + N ≤ R.slots) (hdg : decode cc pc = .ok (.newarray at_, 2)) (harr : Cond.arrayClass (newarray.typeOf at_) ∈ lw_all)
    (kk : ∀ (H1 : Heap), cw_H E A (cw_nA D kd N) H1 → va_S A H0 H1 locs → W p l e R s m args below meth c H1 locs (cells + 1) (slots + N) Q (F0 m (pc + 2) ls (.ref D.2.2 :: rest))) : W p l e R s m args below meth c H locs cells slots Q (F0 m pc ls (.int n :: rest)) := by
  obtain ⟨hx, hb, -, hown, hts⟩ := X
  have hin := ww_iv hn
  have h0 : ¬ n < 0 := fun q => hin (Or.inl q)
  have hlt : n.toNatClampNeg < 100000000 := Nat.not_le.mp fun q => hin (Or.inr q)
  have hbytes : N * componentBytes (newarray.typeOf at_) ≤ 536870912 := by
    rcases hkd with ⟨-, rfl⟩ | ⟨-, rfl⟩
    · show N * 4 ≤ _; omega
    · show N * 1 ≤ _; omega
  refine va_newaK hx hb (hts _ harr) rfl hdg rfl h0 hN hbytes hcells hslots hR.2.2.1 fun H1 cA e1 z1 o1 hAr hNm => ?_
  rw [← hR.2.2.1] at e1 z1 o1
  have hS1 : va_S A H0 H1 locs := ⟨Nat.le_trans hS.1 (by omega), fun x h1 h2 => (o1 x (Nat.lt_of_lt_of_le h1 hS.1)).trans (hS.2.1 x h1 h2), hS.2.2⟩
  have hcA : ∀ el, newarray.typeOf at_ = el → el ∈ cwEls → (∀ C, el ≠ .object C) → cA = E.1.2.2.2.2 el := by
    intro el he hm hno
    have h2 := (hK.2.2.1 el hm).2
    rw [he] at hNm
    have h3 : s.vm.findClass ("[" ++ el.toString) = some (E.1.2.2.2.2 el) := by
      cases el <;> first | exact absurd rfl (hno _) | exact h2
    exact Option.some.inj (hNm.symm.trans h3)
  refine kk H1 (hR.push hK.new (cw_at.arr (show 20 ≤ kd by omega) ?_) z1 o1) hS1
  rcases hkd with ⟨rfl, rfl⟩ | ⟨rfl, rfl⟩
  · have := hcA .int rfl (by decide) (fun _ h => by cases h)
    subst this
    exact e1
  · have := hcA .byte rfl (by decide) (fun _ h => by cases h)
    subst this
    exact e1
theorem cw_onewq (X : ww_C p m c cc nL s args own lw_all) (hK : cw_K E A s) (hR : cw_H E A D H) (hS : va_S A H0 H locs) {index : Nat} (hcl : Cond.classLink own index "WideMap$Node" ∈ lw_all) {n : Int32} {N : Nat} (hn : ww_i n 100000000 = true) (hN : n.toNatClampNeg = N) (hcells : cells + 1 ≤ R.cells) (hslots : slots + N ≤ R.slots) (hdg : decode cc pc = .ok (.anewarray index, 3))
    (kk : ∀ (H1 : Heap), cw_H E A (cw_nA D 22 N) H1 → va_S A H0 H1 locs → W p l e R s m args below meth c H1 locs (cells + 1) (slots + N) Q (F0 m (pc + 3) ls (.ref D.2.2 :: rest))) : W p l e R s m args below meth c H locs cells slots Q (F0 m pc ls (.int n :: rest)) := by
  obtain ⟨hx, hb, -, hown, hts⟩ := X
  have hin := ww_iv hn
  have h0 : ¬ n < 0 := fun q => hin (Or.inl q)
  have hlt : n.toNatClampNeg < 100000000 := Nat.not_le.mp fun q => hin (Or.inr q)
  subst hN
  refine W.anew hx hb hown (hts _ hcl) (va_AO.use hK.2.2.2.2.2.2.1.1) rfl hdg rfl h0 (by omega) hcells hslots fun cA kA comp f1 f2 f3 f4 => ?_
  generalize hH1 : H.push ({ cls := cA, slots := Array.replicate n.toNatClampNeg .null, vm := .none } : Cell) = H1
  have z1 : H1.size = H.size + 1 := by rw [← hH1, Array.size_push]
  have e1 : H1[H.size]? = some (arrV cA n.toNatClampNeg (fun _ => .null)) := by rw [← hH1, Array.getElem?_push_size, ← arrV_new]
  have o1 : ∀ q : Nat, q < H.size → H1[q]? = H[q]? := fun q hq => by rw [← hH1, Array.getElem?_push, if_neg (Nat.ne_of_lt hq)]
  have hS1 : va_S A H0 H1 locs := ⟨Nat.le_trans hS.1 (by omega), fun x h1 h2 => (o1 x (Nat.lt_of_lt_of_le h1 hS.1)).trans (hS.2.1 x h1 h2), hS.2.2⟩
  obtain ⟨kA', comp', k1, k2, k3, k4⟩ := (hK.2.2.1 (.object "WideMap$Node") (by decide)).2
  cases f1.symm.trans k4
  have hz : H.size = D.2.2 := hR.2.2.1
  have hfin := kk H1 (hR.push hK.new (cw_at.arr (show 20 ≤ 22 by omega) e1) z1 o1) hS1
  rw [← hz] at hfin
  exact hfin
end CST
