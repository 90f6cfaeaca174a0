/-! WideMap.<init>: words, what it begins with and leaves -/
abbrev ci_at : List Cond := (nx_atoms RX2 ["java/lang/Exception"]).filter vx_no
theorem ci_in : ∀ w ∈ ci_at.filter goodWord, w ∈ lw_all := lw_in (ci_at.filter goodWord) [132, 194, 203, 206, 209, 211, 195, 196, 164, 165, 197, 202, 207, 220, 184, 221, 186, 222, 188, 198, 200, 190, 213, 214, 215, 216, 216, 217, 218, 195, 175, 181, 182, 183, 185, 187, 189, 193, 192, 191] (by decide +kernel) (by decide +kernel)
theorem ci_rest : ∀ w ∈ ci_at.filter (fun w => !goodWord w), w ∈ [Cond.declares ⟨"java/lang/Exception", "<init>", "()V"⟩, Cond.declares ⟨"java/lang/Throwable", "<init>", "()V"⟩, Cond.castable RX2 RX2] := by decide +kernel
theorem ci_good : ∀ w ∈ Cond.classLink RX1 36 RX2 :: Cond.initialized RX2 :: Cond.methodLinkNest RX1 38 (Bundle.init0 RX2) RX1 :: ci_at, vx_ot w = true := List.all_eq_true.mp (by decide +kernel)
theorem ci_hat {E : cw_E} {A : Nat → Prop} {s : State} {args : Array Value} (hts : ∀ w ∈ lw_all, w.before args s = true) (hK : cw_K E A s) : ∀ w ∈ ci_at, w.before args s = true := by
  have hT := hK.ct.2.2.2.2.2.2
  refine vx_hat (fun w hw => hts w (ci_in w hw)) ci_rest (vx_c ?_ (vx_c ?_ (vx_c ?_ vx_n)))
  · exact va_any rfl (hT.2.2.1 ⟨"java/lang/Exception", "<init>", "()V"⟩ (by decide +kernel))
  · exact va_any rfl (hT.2.2.1 ⟨"java/lang/Throwable", "<init>", "()V"⟩ (by decide +kernel))
  · exact va_any rfl (hT.2.1 (RX2, RX2) (by decide +kernel))
abbrev ci_G : Type := ClassId × (Nat → Nat) × (FieldType → ClassId)
abbrev ci_E (o : Nat) (G : ci_G) (cl : Nat → ClassId) (sl : Nat → Nat → Nat) (base : Nat) (cst : Nat → Option Nat) (ad : Nat → Nat) : cw_E := ((o, ad, G), cl, sl, base, cst)
abbrev ci_A (o base : Nat) : Nat → Prop := fun q => q = o ∨ base ≤ q
/-- the main object as it is made, the Fault at fa -/
def ci_M (fa : Nat) (cst : Nat → Option Nat) : ww_M :=
  (fun k => if k = 19 then -1 else 0, fun _ _ => 0, 0, fun k => if 99 ≤ k then cst k else if k = 1 then some fa else if k = 37 then cst 106 else none, fun k i => if k = 0 then (if i < 6 then cst (100 + i) else none) else none)
def ci_D0 (fa nx : Nat) (cst : Nat → Option Nat) (S0 : Nat → Option cw_O) : cw_D := (ci_M fa cst, fun a => if a = fa then some (5, false, (fun _ => .null), 0, (fun _ => 0), fun _ => none) else S0 a, nx)
def ci_K (o : Nat) (G : ci_G) (cl : Nat → ClassId) (sl : Nat → Nat → Nat) (base : Nat) (cst : Nat → Option Nat) (U : State) : Prop :=
  (∀ ad : Nat → Nat, ww_D 38 tyX1 (o, ad, G) → (∀ k, k < 38 → ∀ el, tyX1 k = .array el → base ≤ ad k) → cw_K (ci_E o G cl sl base cst ad) (ci_A o base) U) ∧ va_AO "java/lang/String" U
/-- the constants that lie in the heap already -/
def ci_S (o : Nat) (G : ci_G) (cl : Nat → ClassId) (sl : Nat → Nat → Nat) (base : Nat) (cst : Nat → Option Nat) (S0 : Nat → Option cw_O) (H : Heap) : Prop :=
  (∀ a ob, S0 a = some ob → cw_at (ci_E o G cl sl base cst (fun _ => 0)) a ob H ∧ ob.2.1 = false ∧ a < base ∧ a ≠ o) ∧ (∀ q ∈ cwStr, ∃ a ob, cst q.1 = some a ∧ S0 a = some ob ∧ ob.1 = 3) ∧ cst 98 = none
theorem ci_K.call {o : Nat} {G : ci_G} {cl : Nat → ClassId} {sl : Nat → Nat → Nat} {base : Nat} {cst : Nat → Option Nat} {U : State} (g : JFrame) (mk : MethodId) (a : Array Value) (h : ci_K o G cl sl base cst U) : ci_K o G cl sl base cst (U.calling g mk a) :=
  ⟨fun ad h1 h2 => (h.1 ad h1 h2).call g mk a, va_AO.moved (Vm.Alike.refl U.vm) h.2⟩
theorem ci_K.warm {o : Nat} {G : ci_G} {cl : Nat → ClassId} {sl : Nat → Nat → Nat} {base : Nat} {cst : Nat → Option Nat} {s U : State} (hW : s.WarmedH U.vm) (hk : ∀ a : Nat, a < s.heap.size → ¬ ci_A o base a → U.heap[a]? = s.heap[a]?) (h : ci_K o G cl sl base cst s) : ci_K o G cl sl base cst U :=
  ⟨fun ad h1 h2 => (h.1 ad h1 h2).warm hW hk, va_AO.moved hW.alike h.2⟩
/-- some addresses that would do -/
theorem ci_K.some {o : Nat} {G : ci_G} {cl : Nat → ClassId} {sl : Nat → Nat → Nat} {base : Nat} {cst : Nat → Option Nat} {U : State} (ho : o < base) (h : ci_K o G cl sl base cst U) : cw_K (ci_E o G cl sl base cst (fun k => base + k)) (ci_A o base) U :=
  h.1 _ ⟨fun k _ el _ => by show base + k ≠ o; omega, fun j k _ _ _ _ e => by have e : base + j = base + k := e; omega⟩ (fun k _ el _ => by omega)
theorem ci_text {o : Nat} {G : ci_G} {cl : Nat → ClassId} {sl : Nat → Nat → Nat} {base : Nat} {cst : Nat → Option Nat} {ad : Nat → Nat} {S0 : Nat → Option cw_O} {s : State} {H : Heap} {locs : List Loc} (hK : cw_K (ci_E o G cl sl base cst ad) (ci_A o base) s) (hS0 : ci_S o G cl sl base cst S0 s.heap) (hS : va_S (ci_A o base) s.heap H locs) {k : Nat} (hk : k ∈ [100, 101, 102, 103, 104, 105, 106]) : ∃ a, cst k = some a ∧ cw_is (ci_E o G cl sl base cst ad) s H "java/lang/String" a := by
  obtain ⟨q, hq, e⟩ : ∃ q ∈ cwStr, q.1 = k := by
    simp only [List.mem_cons, List.not_mem_nil, or_false] at hk
    rcases hk with e | e | e | e | e | e | e <;> subst e
    · exact ⟨_, List.mem_of_getElem? (i := 0) rfl, rfl⟩
    · exact ⟨_, List.mem_of_getElem? (i := 1) rfl, rfl⟩
    · exact ⟨_, List.mem_of_getElem? (i := 2) rfl, rfl⟩
    · exact ⟨_, List.mem_of_getElem? (i := 3) rfl, rfl⟩
    · exact ⟨_, List.mem_of_getElem? (i := 4) rfl, rfl⟩
    · exact ⟨_, List.mem_of_getElem? (i := 5) rfl, rfl⟩
    · exact ⟨_, List.mem_of_getElem? (i := 6) rfl, rfl⟩
  obtain ⟨a, ob, h1, h2, h3⟩ := hS0.2.1 q hq
  obtain ⟨h4, h5, h6, h7⟩ := hS0.1 a ob h2
  refine ⟨a, by rw [← e]; exact h1, ?_⟩
  obtain ⟨r, r1, cell, q1, q2, -, q3, -, q4⟩ := h4.1 (by omega)
  have hr : r = (RJ4, TJ4, 4) := Option.some.inj (r1.symm.trans (by rw [h3]; rfl))
  subst hr
  have hat := (hK.2.1 ob.1 _ (by rw [h3]; rfl)).2
  obtain ⟨hfc, kC, hkC, -⟩ := id hat
  have hlt : a < s.heap.size := (Array.getElem?_eq_some_iff.mp q1).1
  refine ⟨cell, kC, (hS.2.1 a hlt (fun z => by rcases z with z | z <;> omega)).trans q1, (fun q hq => by rw [hq] at q3; cases q3), by rw [q2]; exact hkC, fun comp hcomp => ?_⟩
  cases hcomp.symm.trans hfc
  exact ⟨kC, hkC, by rw [q2]; exact va_assign hat⟩
section CINI
variable {p : Program} {l : Launch} {e : Env} {R : Room} {s : State} {m : MethodId} {args : Array Value} {below : List Frame} {meth : Method} {c : Code} {H : Heap} {locs : List Loc} {cells slots : Nat} {Q : State → Prop}
variable {cc : ByteArray} {pc : Nat} {ls : Array Slot} {rest : List Value} {nL : Nat} {own : String} {A : Nat → Prop} {H0 : Heap}
/-- a text into a new array -/
theorem ci_wst {Ts : List Cond} (X : ww_C p m c cc nL s args own Ts) {E : cw_E} {C : String} {cA : ClassId} {r n a : Nat} {f : Nat → Option Nat} (hra : ArrOfT s cA (.object C) ∧ va_RA s cA (.object C)) (hcell : H[r]? = some (vp_cell cA (n, .inr (.inr (.inr (.inr f)))))) {i : Int32} (hi : ww_i i n = true) (hx : cw_is E s H C a) (hAr : A r) (hS : va_S A H0 H locs) (hdg : decode cc pc = .ok (.aastore, 1))
    (kk : ∀ (H1 : Heap) (locs1 : List Loc), H1[r]? = some (vp_cell cA (n, .inr (.inr (.inr (.inr (va_up f i.toNatClampNeg (some a))))))) → va_S A H0 H1 locs1 → H1.size = H.size → (∀ q, q ≠ r → H1[q]? = H[q]?) → W p l e R s m args below meth c H1 locs1 cells slots Q (F0 m (pc + 1) ls rest)) : W p l e R s m args below meth c H locs cells slots Q (F0 m pc ls (.ref a :: .int i :: .ref r :: rest)) := by
  have hin := ww_iv hi
  have hlt : i.toNatClampNeg < n := Nat.not_le.mp fun q => hin (Or.inr q)
  have h0 : ¬ i < 0 := fun q => hin (Or.inl q)
  obtain ⟨cv, kv, g1, g2, g3, g4⟩ := hx
  obtain ⟨kA, comp, k1, k2, k3, -⟩ := hra.2
  obtain ⟨kcomp, hkcomp⟩ := g4 comp k3
  refine W.aast X.1 X.2.1 hcell (fun q h => by cases h) (fun h => by cases h) k1 k2 rfl hkcomp.1 ⟨h0, by show _ < (arrV _ _ _).slots.size; rw [arrV_size]; exact hlt⟩ g1 g2 g3 hkcomp.2 rfl rfl hdg fun H1 e1 z oq => ?_
  refine kk H1 _ ?_ (hS.put z oq hAr) z oq
  rw [e1, vp_cell_q, vp_cell_q, arrV_store]
  congr 2
  funext q
  by_cases hq : q = i.toNatClampNeg
  · subst hq
    simp [updV, va_up, va_rf]
  · simp [updV, va_up, hq]
theorem ci_anew {Ts : List Cond} (X : ww_C p m c cc nL s args own Ts) {C : String} {cA : ClassId} (hra : ArrOfT s cA (.object C) ∧ va_RA s cA (.object C)) {i2 : Nat} (hcl : Cond.classLink own i2 C ∈ Ts) (hover : va_AO C s) {n : Int32} (hn : ww_i n 100000 = true) {L : Nat} (hN : n.toNatClampNeg = L) (hS : va_S A H0 H locs) (hcells : cells + 1 ≤ R.cells) (hslots : slots + L ≤ R.slots) (d1 : decode cc pc = .ok (.anewarray i2, 3))
    (kk : ∀ (H1 : Heap), H1[H.size]? = some (vp_cell cA (L, .inr (.inr (.inr (.inr (fun _ => none)))))) → va_S A H0 H1 locs → H1.size = H.size + 1 → (∀ q, q < H.size → H1[q]? = H[q]?) → W p l e R s m args below meth c H1 locs (cells + 1) (slots + L) Q (F0 m (pc + 3) ls (.ref H.size :: rest))) : W p l e R s m args below meth c H locs cells slots Q (F0 m pc ls (.int n :: rest)) := by
  have hin' := ww_iv hn
  have h0 : ¬ n < 0 := fun q => hin' (Or.inl q)
  have hlt : n.toNatClampNeg < 100000 := Nat.not_le.mp fun q => hin' (Or.inr q)
  subst hN
  refine W.anew X.1 X.2.1 X.2.2.2.1 (X.2.2.2.2 _ hcl) (va_AO.use hover) rfl d1 rfl h0 (by omega) hcells hslots fun cB kA comp f1 f2 f3 f4 => ?_
  generalize hH1 : H.push ({ cls := cB, slots := Array.replicate n.toNatClampNeg .null, vm := .none } : Cell) = H1
  have z1 : H1.size = H.size + 1 := by rw [← hH1, Array.size_push]
  have e1 : H1[H.size]? = some (arrV cB n.toNatClampNeg (fun _ => .null)) := by rw [← hH1, Array.getElem?_push_size, ← arrV_new]
  have o1 : ∀ q : Nat, q < H.size → H1[q]? = H[q]? := fun q hq => by rw [← hH1, Array.getElem?_push, if_neg (Nat.ne_of_lt hq)]
  have hcA : cB = cA := by
    obtain ⟨kA', comp', k1, k2, k3, k4⟩ := hra.2
    exact Option.some.inj (f1.symm.trans k4)
  subst hcA
  exact kk H1 e1 ⟨Nat.le_trans hS.1 (by omega), fun x q1 q2 => (o1 x (Nat.lt_of_lt_of_le q1 hS.1)).trans (hS.2.1 x q1 q2), hS.2.2⟩ z1 o1
end CINI
/-- an array is no object -/
theorem ci_kinds {s : State} {C : String} {T : u_T} {N : Nat} {cC cA : ClassId} {iS : Nat → Nat} {el : FieldType} (h1 : u_Kn s C T N cC iS) (h2 : ArrOfT s cA el) : cC ≠ cA := by
  intro e
  obtain ⟨-, hfc, kC, hkC, hkind⟩ := h1
  obtain ⟨-, kL, hkL, cmL, hkindL⟩ := h2 0 (fun _ => .null)
  have hkL : s.vm.classes[cA]? = some kL := hkL
  rw [e] at hkC
  cases hkL.symm.trans hkC
  rw [hkindL] at hkind
  cases hkind
/-- all fields set: the world stands -/
theorem ci_fin {o : Nat} {G : ci_G} {cl : Nat → ClassId} {sl : Nat → Nat → Nat} {base : Nat} {cst : Nat → Option Nat} {ad : Nat → Nat} {S0 : Nat → Option cw_O} {s : State} {H : Heap} {locs : List Loc} {fa : Nat} {ce : Cell} (ho : o < base) (hKK : ci_K o G cl sl base cst s) (hS0 : ci_S o G cl sl base cst S0 s.heap) (hS : va_S (ci_A o base) s.heap H locs)
    (h : cb_H 38 tyX1 c1_len (o, ad, G) base (ci_M fa cst) 38 H) (hfa : H[fa]? = some ce) (hvm : ce.vm = .none) (hcls : s.vm.findClass RX2 = some ce.cls) (hfb : base ≤ fa) :
    cw_K (ci_E o G cl sl base cst ad) (ci_A o base) s ∧ cw_H (ci_E o G cl sl base cst ad) (ci_A o base) (ci_D0 fa H.size cst S0) H ∧ ww_D 38 tyX1 (o, ad, G) ∧ ∀ k, k < 38 → ∀ el, tyX1 k = .array el → base ≤ ad k := by
  obtain ⟨h1, h2, h3⟩ := h.done ho
  have hK := hKK.1 ad h2 h3
  have hn5 := hK.2.1 5 _ (show cwCl[5]? = some (RX2, TX2, 0) from rfl)
  have hce : ce.cls = cl 5 := by
    obtain ⟨-, hfc, -⟩ := hn5
    exact Option.some.inj (hcls.symm.trans hfc)
  refine ⟨hK, ⟨h1, fun a ob hob => ?_, rfl, h.2.1, fun j hj => ?_⟩, h2, h3⟩
  · have hob : (if a = fa then _ else S0 a) = some ob := hob
    by_cases q : a = fa
    · rw [if_pos q] at hob
      cases hob
      subst q
      refine ⟨cw_at.obj (r := (RX2, TX2, 0)) (show 5 < 20 by decide) rfl ⟨ce, hfa, hce, hvm, fun k hk => absurd hk (Nat.not_lt_zero k)⟩, fun hq => ?_, fun hz => by cases hz⟩
      rcases hq with (hq | ⟨k, hk, ⟨el, he⟩, hq⟩) | ⟨z, hz, -⟩
      · have hq : a = o := hq
        omega
      · have hq : a = ad k := hq
        have e1 := h1.2 k hk el he
        have e1 : H[ad k]? = _ := e1
        rw [← hq, hfa] at e1
        have e2 := Option.some.inj e1
        have e3 : ce.cls = G.2.2 el := by
          rw [e2]
          generalize ww_c el (ci_M a cst) k = ct
          match ct with
          | .inl _ => rfl
          | .inr (.inl _) => rfl
          | .inr (.inr (.inl _)) => rfl
          | .inr (.inr (.inr (.inl _))) => rfl
          | .inr (.inr (.inr (.inr _))) => rfl
        exact ci_kinds hn5 (hK.1.2 k hk el he).1 (hce.symm.trans e3)
      · cases hS0.2.2.symm.trans hz
    · rw [if_neg q] at hob
      obtain ⟨a1, a2, a3, a4⟩ := hS0.1 a ob hob
      have hlt : a < s.heap.size := a1.lt
      refine ⟨cw_at.kept (E := ci_E o G cl sl base cst ad) a1 (hS.2.1 a hlt (fun z => by rcases z with z | z <;> omega)), fun hq => ?_, fun hz => by rw [a2] at hz; cases hz⟩
      rcases hq with (hq | ⟨k, hk, ⟨el, he⟩, hq⟩) | ⟨z, hz, -⟩
      · exact a4 hq
      · have hq : a = ad k := hq
        have h9 : base ≤ ad k := h3 k hk el he
        omega
      · cases hS0.2.2.symm.trans hz
  · show (if 99 ≤ j then cst j else _) = cst j
    rw [if_pos hj]
theorem cb_H.kept2 {N : Nat} {ty : Nat → FieldType} {len : Nat → Nat} {E : ww_E} {base : Nat} {M : ww_M} {H H1 : Heap} {r : Nat} (h : cb_H N ty len E base M 0 H) (hz : H.size ≤ H1.size) (hr : r ≠ E.1) (hq : ∀ q : Nat, q ≠ r → H1[q]? = H[q]?) : cb_H N ty len E base M 0 H1 :=
  ⟨h.1.kept (hq _ hr.symm), Nat.le_trans h.2.1 hz, fun k hk => absurd hk (Nat.not_lt_zero k), h.2.2.2⟩
theorem ci_words {fa : Nat} {cst : Nat → Option Nat} {a0 a1 a2 a3 a4 a5 : Nat} (h0 : cst 100 = some a0) (h1 : cst 101 = some a1) (h2 : cst 102 = some a2) (h3 : cst 103 = some a3) (h4 : cst 104 = some a4) (h5 : cst 105 = some a5) : ww_c (.object "java/lang/String") (ci_M fa cst) 0 = .inr (.inr (.inr (.inr (va_up (va_up (va_up (va_up (va_up (va_up (fun _ => none) 0 (some a0)) 1 (some a1)) 2 (some a2)) 3 (some a3)) 4 (some a4)) 5 (some a5))))) := by
  show Sum.inr (Sum.inr (Sum.inr (Sum.inr (fun i => if (0 : Nat) = 0 then (if i < 6 then cst (100 + i) else none) else none)))) = _
  congr 4
  funext i
  rw [if_pos rfl]
  match i with
  | 0 => exact h0
  | 1 => exact h1
  | 2 => exact h2
  | 3 => exact h3
  | 4 => exact h4
  | 5 => exact h5
  | n + 6 => rw [if_neg (by omega)]; simp [va_up]
def ci_Ini (l : Launch) (o : Nat) (G : ci_G) (cl : Nat → ClassId) (sl : Nat → Nat → Nat) (base : Nat) (cst : Nat → Option Nat) (S0 : Nat → Option cw_O) (nc ns : Nat) : Prop :=
  Met l yX1_init (ws_ yX1_init cX1_init 1 none) { frames := 6, cells := nc, slots := ns, locals := 90 } (va_Pc [.ref o] (fun U => ci_K o G cl sl base cst U ∧ t_OB o G.1 38 G.2.1 U.heap (fun k => defaultValue (tyX1 k)) ∧ base ≤ U.heap.size ∧ ci_S o G cl sl base cst S0 U.heap))
    (va_Qv (fun _ : Unit => True) (fun _ t => ∃ (ad : Nat → Nat) (fa nx : Nat) (D1 : cw_D), f1_opens (ci_D0 fa nx cst S0) 4 = some D1 ∧ cw_H (ci_E o G cl sl base cst ad) (ci_A o base) D1 t.heap ∧ ww_D 38 tyX1 (o, ad, G) ∧ (∀ k, k < 38 → ∀ el, tyX1 k = .array el → base ≤ ad k) ∧ base ≤ fa ∧ base ≤ nx) (ci_A o base)) nc ns (ci_A o base)
