/-! references in locals, in the functions; results of several parts -/
def ww_o {β : Type} (x : Option Nat) (f : Option β) (g : Nat → Option β) : Option β := match x with
  | none => f
  | some a => g a
theorem ww_oN {β : Type} {f : Option β} {g : Nat → Option β} {z : β} (h : ww_o none f g = some z) : f = some z := h
theorem ww_oS {β : Type} {a : Nat} {f : Option β} {g : Nat → Option β} {z : β} (h : ww_o (some a) f g = some z) : g a = some z := h
def ww_b3 {α β γ δ : Type} (x : Option (α × β × γ)) (f : α → β → γ → Option δ) : Option δ := match x with
  | some (a, b, c) => f a b c
  | none => none
theorem ww_b3S {α β γ δ : Type} {x : Option (α × β × γ)} {f : α → β → γ → Option δ} {z : δ} (h : ww_b3 x f = some z) : ∃ a b c, x = some (a, b, c) ∧ f a b c = some z := by
  cases x with
  | some q => exact ⟨q.1, q.2.1, q.2.2, rfl, h⟩
  | none => cases h
theorem ww_b3t {α β γ δ : Type} {x : Option (α × β × γ)} {f : α → β → γ → Option δ} {a : α} {b : β} {c : γ} (h : x = some (a, b, c)) : ww_b3 x f = f a b c := by rw [h]; rfl
def ww_b4 {α β γ δ ε : Type} (x : Option (α × β × γ × δ)) (f : α → β → γ → δ → Option ε) : Option ε := match x with
  | some (a, b, c, d) => f a b c d
  | none => none
theorem ww_b4S {α β γ δ ε : Type} {x : Option (α × β × γ × δ)} {f : α → β → γ → δ → Option ε} {z : ε} (h : ww_b4 x f = some z) : ∃ a b c d, x = some (a, b, c, d) ∧ f a b c d = some z := by
  cases x with
  | some q => exact ⟨q.1, q.2.1, q.2.2.1, q.2.2.2, rfl, h⟩
  | none => cases h
theorem ww_b4t {α β γ δ ε : Type} {x : Option (α × β × γ × δ)} {f : α → β → γ → δ → Option ε} {a : α} {b : β} {c : γ} {d : δ} (h : x = some (a, b, c, d)) : ww_b4 x f = f a b c d := by rw [h]; rfl
theorem cw_rest : ∀ {l : List Value}, l.length ≤ 4 → (l.map fun v => v.category).sum ≤ 8 := by
  intro l h
  have key : ∀ (n : Nat) (l : List Value), l.length ≤ n → (l.map fun v => v.category).sum ≤ 2 * n := by
    intro n
    induction n with
    | zero => intro l h; cases l with | nil => simp | cons a l => simp at h
    | succ n ih =>
      intro l h
      cases l with
      | nil => simp
      | cons a l =>
        have h1 := ih l (by simpa using h)
        have h2 : a.category ≤ 2 := by cases a <;> simp [Value.category]
        simp only [List.map_cons, List.sum_cons]
        omega
  exact key 4 l h
section CML
variable {p : Program} {l : Launch} {e : Env} {R : Room} {s : State} {m : MethodId} {args : Array Value} {below : List Frame} {meth : Method} {c : Code} {H : Heap} {locs : List Loc} {cells slots : Nat} {Q : State → Prop}
variable {cc : ByteArray} {pc : Nat} {ls : Array Slot} {rest : List Value} {x : Option Nat}
theorem cw_aload_n (hexec : p.tables.exec = Jvm.exec) (hb : c.code = cc) {k : Fin 4} {i : Nat} (hdg : decode cc pc = .ok (.aload_n k, 1)) (hi : (k : Nat) = i) (hl : ls[i]? = some (.val (va_rf x)))
    (k : W p l e R s m args below meth c H locs cells slots Q (F0 m (pc + 1) ls (va_rf x :: rest))) : W p l e R s m args below meth c H locs cells slots Q (F0 m pc ls (rest)) := by
  cases x with
  | none => exact lv_aload_nN hexec hb hdg hi hl k
  | some a => exact lv_aload_n hexec hb hdg hi hl k
theorem cw_aload (hexec : p.tables.exec = Jvm.exec) (hb : c.code = cc) {i : Nat} (hdg : decode cc pc = .ok (.aload i, 2)) (hl : ls[i]? = some (.val (va_rf x)))
    (k : W p l e R s m args below meth c H locs cells slots Q (F0 m (pc + 2) ls (va_rf x :: rest))) : W p l e R s m args below meth c H locs cells slots Q (F0 m pc ls (rest)) := by
  cases x with
  | none => exact lv_aloadN hexec hb hdg hl k
  | some a => exact lv_aload hexec hb hdg hl k
theorem cw_astore_n (hexec : p.tables.exec = Jvm.exec) (hb : c.code = cc) {k : Fin 4} {i nL : Nat} {lv lv' : List (Nat × Value)} (hdg : decode cc pc = .ok (.astore_n k, 1)) (hi : (k : Nat) = i) (h : lv_has ls nL lv) (hn : i < nL) (hl : (i, va_rf x) :: lv.filter (fun q => !(q.1 == i) && !(q.1 + 1 == i && q.2.category == 2)) = lv')
    (kk : ∀ ls' : Array Slot, lv_has ls' nL lv' → W p l e R s m args below meth c H locs cells slots Q (F0 m (pc + 1) ls' rest)) : W p l e R s m args below meth c H locs cells slots Q (F0 m pc ls (va_rf x :: rest)) := by
  cases x with
  | none => exact lv_astore_nN hexec hb hdg hi h hn hl kk
  | some a => exact lv_astore_n hexec hb hdg hi h hn hl kk
theorem cw_astore (hexec : p.tables.exec = Jvm.exec) (hb : c.code = cc) {i nL : Nat} {lv lv' : List (Nat × Value)} (hdg : decode cc pc = .ok (.astore i, 2)) (h : lv_has ls nL lv) (hn : i < nL) (hl : (i, va_rf x) :: lv.filter (fun q => !(q.1 == i) && !(q.1 + 1 == i && q.2.category == 2)) = lv')
    (kk : ∀ ls' : Array Slot, lv_has ls' nL lv' → W p l e R s m args below meth c H locs cells slots Q (F0 m (pc + 2) ls' rest)) : W p l e R s m args below meth c H locs cells slots Q (F0 m pc ls (va_rf x :: rest)) := by
  cases x with
  | none => exact lv_astoreN hexec hb hdg h hn hl kk
  | some a => exact lv_astore hexec hb hdg h hn hl kk
end CML
section CSW
variable {p : Program} {l : Launch} {e : Env} {R : Room} {s : State} {m : MethodId} {args : Array Value} {below : List Frame} {meth : Method} {c : Code} {H : Heap} {locs : List Loc} {cells slots : Nat} {Q : State → Prop}
variable {cc : ByteArray} {pc : Nat} {ls : Array Slot} {rest : List Value}
theorem ww_lin (hexec : p.tables.exec = Jvm.exec) (hb : c.code = cc) {k : Int32} {dflt : Int} {ps : Array (Int × Int)} {len : Nat} {x : Int32} {off : Int} {tgt : Nat} (hdg : decode cc pc = .ok (.lookupswitch dflt ps, len)) (hx : x = k) (hp : (ps.toList.zip (ps.toList.drop 1)).all (fun (a, next) => a.1 < next.1) = true) (ho : Op.lookupswitch.offset ps.toList dflt k.toInt = off) (ht : (pc : Int) + off = (tgt : Int))
    (kk : W p l e R s m args below meth c H locs cells slots Q (F0 m tgt ls rest)) : W p l e R s m args below meth c H locs cells slots Q (F0 m pc ls (.int x :: rest)) := by
  subst hx
  exact lv_lookup hexec hb hdg hp ho ht kk
theorem ww_loff {x : Int32} {d : Int} : ∀ {r : List (Int × Int)}, (∀ q ∈ r, ¬ x.toInt = q.1) → Op.lookupswitch.offset r d x.toInt = d := by
  intro r
  induction r with
  | nil => intro _; rfl
  | cons q r ih =>
    intro h
    obtain ⟨a, o⟩ := q
    rw [Op.lookupswitch.offset_cons, if_neg (fun e => h (a, o) List.mem_cons_self e.symm)]
    exact ih (fun z hz => h z (List.mem_cons_of_mem _ hz))
theorem ww_lout (ks : List Int32) (hexec : p.tables.exec = Jvm.exec) (hb : c.code = cc) {dflt : Int} {ps : Array (Int × Int)} {len : Nat} {x : Int32} {tgt : Nat} (hdg : decode cc pc = .ok (.lookupswitch dflt ps, len)) (hx : ww_ne x ks) (hp : (ps.toList.zip (ps.toList.drop 1)).all (fun (a, next) => a.1 < next.1) = true) (hk : (ps.toList.all fun q => ks.any fun k => decide (k.toInt = q.1)) = true) (ht : (pc : Int) + dflt = (tgt : Int))
    (kk : W p l e R s m args below meth c H locs cells slots Q (F0 m tgt ls rest)) : W p l e R s m args below meth c H locs cells slots Q (F0 m pc ls (.int x :: rest)) := by
  refine lv_lookup hexec hb hdg hp (ww_loff fun q hq e => ?_) ht kk
  obtain ⟨k, hk1, hk2⟩ := List.any_eq_true.mp (List.all_eq_true.mp hk q hq)
  exact ww_ne_mem hx k hk1 (Int32.toInt_inj.mp (e.trans (of_decide_eq_true hk2).symm))
end CSW
