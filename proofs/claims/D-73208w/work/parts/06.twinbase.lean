/-! THE REFERENCE's methods: what a contract says, how a body begins and ends, a call -/
/-- an int (or boolean) method: from the world M to the answer r and the world M' -/
def t3_Met (l : Launch) (y : MethodName) (b : ByteArray) (L : Nat) (ret : Option FieldType) (fr lo : Nat) (E : ww_E) (As : List Value) (M M' : ww_M) (r : Int32) : Prop :=
  Met l y (ws_ y b L ret) { frames := fr, cells := 0, slots := 0, locals := lo } (va_Pc (.ref E.1 :: As) (fun U => t3_Kn E U ∧ t3_H E M U.heap)) (va_Qi (fun (r' : Int32) (_ : Unit) => r' = r) (fun _ t => t3_H E M' t.heap) (t3_A E)) 0 0 (t3_A E)
def t3_MetV (l : Launch) (y : MethodName) (b : ByteArray) (L : Nat) (fr lo : Nat) (E : ww_E) (As : List Value) (M M' : ww_M) : Prop :=
  Met l y (ws_ y b L none) { frames := fr, cells := 0, slots := 0, locals := lo } (va_Pc (.ref E.1 :: As) (fun U => t3_Kn E U ∧ t3_H E M U.heap)) (va_Qv (fun (_ : Unit) => True) (fun _ t => t3_H E M' t.heap) (t3_A E)) 0 0 (t3_A E)
def t3_MetS (l : Launch) (y : MethodName) (b : ByteArray) (L : Nat) (ret : Option FieldType) (fr lo : Nat) (As : List Value) (r : Int32) : Prop :=
  Met l y (ws_ y b L ret) { frames := fr, cells := 0, slots := 0, locals := lo } (va_Pc As (fun _ => True)) (vp_Si (fun r' : Int32 => r' = r)) 0 0 (fun _ => False)
section T3M
variable {l : Launch} {y : MethodName} {b : ByteArray} {L fr lo : Nat} {ret : Option FieldType} {E : ww_E} {As : List Value} {M M' : ww_M} {r : Int32}
theorem t3_start (hy : y.cls = RX3 ∧ plainName y.cls = true) (hsl : (lg_sl (.ref E.1 :: As)).length ≤ L)
    (body : ∀ (p : Program) (e : Env) (s : State) (m : MethodId) (args : Array Value) (below : List Frame) (meth : Method) (c : Code) (Rm : Room) (Q : State → Prop), ww_C p m c b L s args RX3 lw_all → t3_Kn E s → fr ≤ Rm.frames → lo ≤ Rm.locals →
      (∀ {pc : Nat} {H : Heap} {locs : List Loc} {ls : Array Slot} {v : Int32} {M1 : ww_M} {ty : FieldType}, decode b pc = .ok (.ireturn, 1) → ret = some ty → narrow ty (.int v) = .int v → some (v, M1) = some (r, M') → t3_H E M1 H → va_S (t3_A E) s.heap H locs → W p l e Rm s m args below meth c H locs 0 0 Q (F0 m pc ls [.int v])) →
      ∀ ls : Array Slot, lv_has ls L (lv_args 0 (.ref E.1 :: As)) → t3_H E M s.heap → va_S (t3_A E) s.heap s.heap [] → W p l e Rm s m args below meth c s.heap [] 0 0 Q (F0 m 0 ls [])) : t3_Met l y b L ret fr lo E As M M' r := by
  refine Met.ofW (cc := b) (maxL := L) (ret := ret) hy.2 rfl ?_
  intro p e s m args below meth c s₁ B hml hv
  obtain ⟨rfl, hK, hR⟩ := hv
  have hts := atoms_spec (ws := ws_ y b L ret) B.pre
  have hts : ∀ w ∈ lw_all, w.before _ s = true := fun w h => hts w (List.mem_cons_of_mem _ h)
  have hown : s.vm.findClass y.cls = some m.cls := findClass_of_methodNamed B.named
  rw [hy.1] at hown
  have hlocks := B.notSynchronized
  have hrr := B.returns
  have hl := lv_entry (.ref E.1 :: As) (n := L) hsl
  rw [lg_entry_eq]
  refine body p e s m _ below meth c _ _ ⟨B.exec, B.bytes, hml, hown, hts⟩ hK (Nat.le_refl _) (Nat.le_refl _) ?_ _ hl hR va_S.rf
  intro pc H locs ls v M1 ty hdg hty hn hq hR hS
  cases hq
  exact W.zret B.exec B.bytes (hrr.trans hty) hn (fun t ht hW => ⟨⟨_, (), rfl, rfl, by subst ht; exact hR⟩, hS.F ht⟩) hS.2.2 hdg hlocks
theorem t3_startP (hy : y.cls = RX3 ∧ plainName y.cls = true) (hsl : (lg_sl (.ref E.1 :: As)).length ≤ L)
    (body : ∀ (p : Program) (e : Env) (s : State) (m : MethodId) (args : Array Value) (below : List Frame) (meth : Method) (c : Code) (Rm : Room) (Q : State → Prop), ww_C p m c b L s args RX3 lw_all → t3_Kn E s → fr ≤ Rm.frames → lo ≤ Rm.locals →
      (∀ {pc : Nat} {H : Heap} {locs : List Loc} {ls : Array Slot} {v : Int32} {ty : FieldType}, decode b pc = .ok (.ireturn, 1) → ret = some ty → narrow ty (.int v) = .int v → some v = some r → t3_H E M H → va_S (t3_A E) s.heap H locs → W p l e Rm s m args below meth c H locs 0 0 Q (F0 m pc ls [.int v])) →
      ∀ ls : Array Slot, lv_has ls L (lv_args 0 (.ref E.1 :: As)) → t3_H E M s.heap → va_S (t3_A E) s.heap s.heap [] → W p l e Rm s m args below meth c s.heap [] 0 0 Q (F0 m 0 ls [])) : t3_Met l y b L ret fr lo E As M M r := by
  refine Met.ofW (cc := b) (maxL := L) (ret := ret) hy.2 rfl ?_
  intro p e s m args below meth c s₁ B hml hv
  obtain ⟨rfl, hK, hR⟩ := hv
  have hts := atoms_spec (ws := ws_ y b L ret) B.pre
  have hts : ∀ w ∈ lw_all, w.before _ s = true := fun w h => hts w (List.mem_cons_of_mem _ h)
  have hown : s.vm.findClass y.cls = some m.cls := findClass_of_methodNamed B.named
  rw [hy.1] at hown
  have hlocks := B.notSynchronized
  have hrr := B.returns
  have hl := lv_entry (.ref E.1 :: As) (n := L) hsl
  rw [lg_entry_eq]
  refine body p e s m _ below meth c _ _ ⟨B.exec, B.bytes, hml, hown, hts⟩ hK (Nat.le_refl _) (Nat.le_refl _) ?_ _ hl hR va_S.rf
  intro pc H locs ls v ty hdg hty hn hq hR hS
  cases hq
  exact W.zret B.exec B.bytes (hrr.trans hty) hn (fun t ht hW => ⟨⟨_, (), rfl, rfl, by subst ht; exact hR⟩, hS.F ht⟩) hS.2.2 hdg hlocks
theorem t3_startV (hy : y.cls = RX3 ∧ plainName y.cls = true) (hsl : (lg_sl (.ref E.1 :: As)).length ≤ L)
    (body : ∀ (p : Program) (e : Env) (s : State) (m : MethodId) (args : Array Value) (below : List Frame) (meth : Method) (c : Code) (Rm : Room) (Q : State → Prop), ww_C p m c b L s args RX3 lw_all → t3_Kn E s → fr ≤ Rm.frames → lo ≤ Rm.locals →
      (∀ {pc : Nat} {H : Heap} {locs : List Loc} {ls : Array Slot} {M1 : ww_M}, decode b pc = .ok (.return_, 1) → some M1 = some M' → t3_H E M1 H → va_S (t3_A E) s.heap H locs → W p l e Rm s m args below meth c H locs 0 0 Q (F0 m pc ls [])) →
      ∀ ls : Array Slot, lv_has ls L (lv_args 0 (.ref E.1 :: As)) → t3_H E M s.heap → va_S (t3_A E) s.heap s.heap [] → W p l e Rm s m args below meth c s.heap [] 0 0 Q (F0 m 0 ls [])) : t3_MetV l y b L fr lo E As M M' := by
  refine Met.ofW (cc := b) (maxL := L) (ret := none) hy.2 rfl ?_
  intro p e s m args below meth c s₁ B hml hv
  obtain ⟨rfl, hK, hR⟩ := hv
  have hts := atoms_spec (ws := ws_ y b L none) B.pre
  have hts : ∀ w ∈ lw_all, w.before _ s = true := fun w h => hts w (List.mem_cons_of_mem _ h)
  have hown : s.vm.findClass y.cls = some m.cls := findClass_of_methodNamed B.named
  rw [hy.1] at hown
  have hlocks := B.notSynchronized
  have hrr := B.returns
  have hl := lv_entry (.ref E.1 :: As) (n := L) hsl
  rw [lg_entry_eq]
  refine body p e s m _ below meth c _ _ ⟨B.exec, B.bytes, hml, hown, hts⟩ hK (Nat.le_refl _) (Nat.le_refl _) ?_ _ hl hR va_S.rf
  intro pc H locs ls M1 hdg hq hR hS
  cases hq
  exact W.vret B.exec B.bytes hrr (fun t ht hW => ⟨⟨(), rfl, trivial, by subst ht; exact hR⟩, hS.F ht⟩) hS.2.2 hdg hlocks
theorem t3_startS {own : String} (hy : y.cls = own ∧ plainName y.cls = true) (hsl : (lg_sl As).length ≤ L)
    (body : ∀ (p : Program) (e : Env) (s : State) (m : MethodId) (args : Array Value) (below : List Frame) (meth : Method) (c : Code) (Rm : Room) (Q : State → Prop), ww_C p m c b L s args own lw_all → fr ≤ Rm.frames → lo ≤ Rm.locals →
      (∀ {pc : Nat} {H : Heap} {locs : List Loc} {ls : Array Slot} {v : Int32} {ty : FieldType}, decode b pc = .ok (.ireturn, 1) → ret = some ty → narrow ty (.int v) = .int v → some v = some r → H = s.heap → va_S (fun _ => False) s.heap H locs → W p l e Rm s m args below meth c H locs 0 0 Q (F0 m pc ls [.int v])) →
      ∀ ls : Array Slot, lv_has ls L (lv_args 0 As) → va_S (fun _ => False) s.heap s.heap [] → W p l e Rm s m args below meth c s.heap [] 0 0 Q (F0 m 0 ls [])) : t3_MetS l y b L ret fr lo As r := by
  refine Met.ofW (cc := b) (maxL := L) (ret := ret) hy.2 rfl ?_
  intro p e s m args below meth c s₁ B hml hv
  obtain ⟨rfl, -⟩ := hv
  have hts := atoms_spec (ws := ws_ y b L ret) B.pre
  have hts : ∀ w ∈ lw_all, w.before _ s = true := fun w h => hts w (List.mem_cons_of_mem _ h)
  have hown : s.vm.findClass y.cls = some m.cls := findClass_of_methodNamed B.named
  rw [hy.1] at hown
  have hlocks := B.notSynchronized
  have hrr := B.returns
  have hl := lv_entry As (n := L) hsl
  rw [lg_entry_eq]
  refine body p e s m _ below meth c _ _ ⟨B.exec, B.bytes, hml, hown, hts⟩ (Nat.le_refl _) (Nat.le_refl _) ?_ _ hl va_S.rf
  intro pc H locs ls v ty hdg hty hn hq hH hS
  cases hq
  exact W.zret B.exec B.bytes (hrr.trans hty) hn (fun t ht hW => ⟨_, rfl, rfl, ht.trans hH⟩) hS.2.2 hdg hlocks
end T3M
section T3C
variable {p : Program} {l : Launch} {e : Env} {R : Room} {s : State} {m : MethodId} {args : Array Value} {below : List Frame} {meth : Method} {c : Code} {H : Heap} {locs : List Loc} {cells slots : Nat} {Q : State → Prop}
variable {cc : ByteArray} {pc : Nat} {ls : Array Slot} {rest : List Value} {nL : Nat} {E : ww_E} {M M' : ww_M} {A : Nat → Prop} {H0 : Heap}
variable {y : MethodName} {b : ByteArray} {L fr lo n index : Nat} {ret : Option FieldType} {As : List Value} {r : Int32}
theorem t3_recv (hK : t3_Kn E s) (hR : t3_H E M H) : ∃ cellB : Cell, H[E.1]? = some cellB ∧ cellB.vm.isStatics = false ∧ s.vm.findClass RX3 = some cellB.cls := by
  obtain ⟨cell, q1, q2, q3, -⟩ := hR.1
  obtain ⟨-, hfc, -⟩ := hK.1
  exact ⟨cell, q1, by rw [q3]; rfl, by rw [q2]; exact hfc⟩
theorem t3_pre (hK : t3_Kn E s) (hR : t3_H E M H) : PreV s H RX3 E.1 (va_Pc (.ref E.1 :: As) (fun U => t3_Kn E U ∧ t3_H E M U.heap)) As :=
  ⟨fun a U g mk q => by obtain ⟨q0, qK, qR⟩ := q; exact ⟨q0, ww_Kn.moved (u := U) (U := U.calling g mk a) (Vm.Alike.refl U.vm) qK, qR⟩, t3_recv hK hR, fun U hU hW => ⟨rfl, ww_Kn.moved hW.alike hK, by rw [hU]; exact hR⟩⟩
theorem t3_callI (X : ww_C p m c cc nL s args RX3 lw_all) (hsz : ls.size = nL) (hK : t3_Kn E s) (hR : t3_H E M H) (hS : va_S (t3_A E) H0 H locs) (hM : t3_Met l y b L ret fr lo E As M M' r) (hq : GoodIn lw_all (wsV RX3 index RX3 y (ws_ y b L ret))) (hy : y.cls = RX3 ∧ y.cls ≠ "java/lang/invoke/MethodHandle" ∧ y.cls ≠ "java/lang/invoke/VarHandle" ∧ (parseMethodDescriptor y.desc).map (fun d => d.parameters.length) = some n) (hn : As.length = n) (hF : fr + 1 ≤ R.frames) (hLo : 8 + (L + 11) + lo ≤ R.locals) (hc : cells ≤ R.cells) (hs : slots ≤ R.slots) (hrest : (rest.map fun v => v.category).sum ≤ 8) (hdg : decode cc pc = .ok (.invokevirtual index, 3))
    (kk : ∀ (H1 : Heap) (locs1 : List Loc), t3_H E M' H1 → va_S (t3_A E) H0 H1 locs1 → W p l e R s m args below meth c H1 locs1 cells slots Q (F0 m (pc + 3) ls (.int r :: rest))) : W p l e R s m args below meth c H locs cells slots Q (F0 m pc ls (As.reverse ++ .ref E.1 :: rest)) := by
  refine va_calli (va_runV (As := As) (rest := rest) (b := E.1) X hM (cwV n X.2.2.2.2 hq rfl rfl rfl hy ⟨hF, hLo⟩) (t3_pre hK hR) rfl hn hsz rfl (lv_room hrest) hdg ⟨hc, hs⟩) hS (fun q _ h => h) (fun q h => h) (fun r' u t H1 locs1 ht hvm hw hB hz1 hk1 hS1 => ?_)
  subst hw
  rw [ht] at hB
  exact kk H1 locs1 hB hS1
theorem t3_callV (X : ww_C p m c cc nL s args RX3 lw_all) (hsz : ls.size = nL) (hK : t3_Kn E s) (hR : t3_H E M H) (hS : va_S (t3_A E) H0 H locs) (hM : t3_MetV l y b L fr lo E As M M') (hq : GoodIn lw_all (wsV RX3 index RX3 y (ws_ y b L none))) (hy : y.cls = RX3 ∧ y.cls ≠ "java/lang/invoke/MethodHandle" ∧ y.cls ≠ "java/lang/invoke/VarHandle" ∧ (parseMethodDescriptor y.desc).map (fun d => d.parameters.length) = some n) (hn : As.length = n) (hF : fr + 1 ≤ R.frames) (hLo : 8 + (L + 11) + lo ≤ R.locals) (hc : cells ≤ R.cells) (hs : slots ≤ R.slots) (hrest : (rest.map fun v => v.category).sum ≤ 8) (hdg : decode cc pc = .ok (.invokevirtual index, 3))
    (kk : ∀ (H1 : Heap) (locs1 : List Loc), t3_H E M' H1 → va_S (t3_A E) H0 H1 locs1 → W p l e R s m args below meth c H1 locs1 cells slots Q (F0 m (pc + 3) ls (rest))) : W p l e R s m args below meth c H locs cells slots Q (F0 m pc ls (As.reverse ++ .ref E.1 :: rest)) := by
  refine va_callv (va_runV (As := As) (rest := rest) (b := E.1) X hM (cwV n X.2.2.2.2 hq rfl rfl rfl hy ⟨hF, hLo⟩) (t3_pre hK hR) rfl hn hsz rfl (lv_room hrest) hdg ⟨hc, hs⟩) hS (fun q _ h => h) (fun q h => h) (fun u t H1 locs1 ht hvm hw hB hz1 hk1 hS1 => ?_)
  rw [ht] at hB
  exact kk H1 locs1 hB hS1
theorem t3_callS {own : String} (X : ww_C p m c cc nL s args own lw_all) (hsz : ls.size = nL) (hM : t3_MetS l y b L ret fr lo As r) (hq : GoodIn lw_all (va_wsS own index y (ws_ y b L ret))) (hy : y.cls ≠ "java/lang/invoke/MethodHandle" ∧ y.cls ≠ "java/lang/invoke/VarHandle" ∧ (parseMethodDescriptor y.desc).map (fun d => d.parameters.length) = some n) (hn : As.length = n) (hF : fr + 1 ≤ R.frames) (hLo : 8 + (L + 11) + lo ≤ R.locals) (hc : cells ≤ R.cells) (hs : slots ≤ R.slots) (hrest : (rest.map fun v => v.category).sum ≤ 8) (hdg : decode cc pc = .ok (.invokestatic index, 3))
    (kk : W p l e R s m args below meth c H locs cells slots Q (F0 m (pc + 3) ls (.int r :: rest))) : W p l e R s m args below meth c H locs cells slots Q (F0 m pc ls (As.reverse ++ rest)) := by
  have hr := va_runS (p := p) (l := l) (e := e) (s := s) (below := below) (meth := meth) (H := H) (locs := locs) (cells := cells) (slots := slots) (As := As) (rest := rest) (g := F0 m pc ls (As.reverse ++ rest)) X hM (va_cwS n X.2.2.2.2 hq rfl rfl rfl hy ⟨hF, hLo⟩) ⟨fun a U g mk q => ⟨q.1, trivial⟩, fun U hU hW => ⟨rfl, trivial⟩⟩ rfl hn hsz rfl (lv_room hrest) hdg ⟨hc, hs⟩
  intro T hT Y
  obtain ⟨v, st₀, t, T', L', h0, Y', hL, e1, -, ⟨r', hv, hp, hh⟩, st⟩ := hr T hT Y
  cases hv
  subst hp
  obtain ⟨t2, a1, b1⟩ := kk T' (by rw [e1, hh, h0]) (Stand.forget Y' (fun q h => (hL q h).elim))
  exact ⟨t2, st t2 a1, b1⟩
end T3C
