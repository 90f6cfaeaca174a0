/-! the reference's methods that read its constant String -/
def ws_f : Nat → Int32 := fun j => ([112, 117, 116, 100, 101, 108, 97, 100, 100, 99, 117, 116, 105, 110, 99, 115, 110, 97, 112] : List Int32).getD j 0
def sk_ch (i : Int32) : Option Int32 := ww_g (ww_i i 19) (ww_g (ww_nw .char (((ws_f i.toNatClampNeg &&& (255 : Int32)).toUInt32 % 65536).toInt32)) (some (((ws_f i.toNatClampNeg &&& (255 : Int32)).toUInt32 % 65536).toInt32)))
def t3_Cn (E : ww_E) (U : State) : Prop := ∃ (q b : Nat) (v : Option Nat), sk_K (t3_A E) q b 19 ws_f v U ∧ vk_R RX3 159 "putdeladdcutincsnap" q U
abbrev tw_Kn (E : ww_E) (U : State) : Prop := t3_Kn E U ∧ t3_Cn E U
theorem t3_Cn.warm {E : ww_E} {u U : State} (hW : u.WarmedH U.vm) (hk : ∀ a : Nat, a < u.heap.size → ¬ t3_A E a → U.heap[a]? = u.heap[a]?) (h : t3_Cn E u) : t3_Cn E U := by
  obtain ⟨q, b, v, h1, h2⟩ := h
  exact ⟨q, b, v, h1.to hW.alike hk, h2.warm hW⟩
theorem t3_Cn.call {E : ww_E} {U : State} (g : JFrame) (mk : MethodId) (a : Array Value) (h : t3_Cn E U) : t3_Cn E (U.calling g mk a) := by
  obtain ⟨q, b, v, h1, h2⟩ := h
  exact ⟨q, b, v, h1.to (Vm.Alike.refl U.vm) (fun _ _ _ => rfl), h2.same rfl⟩
def t4_Met (l : Launch) (y : MethodName) (b : ByteArray) (L : Nat) (ret : Option FieldType) (fr lo : Nat) (E : ww_E) (As : List Value) (M M' : ww_M) (r : Int32) : Prop :=
  Met l y (ws_ y b L ret) { frames := fr, cells := 0, slots := 0, locals := lo } (va_Pc (.ref E.1 :: As) (fun U => tw_Kn E U ∧ t3_H E M U.heap)) (va_Qi (fun (r' : Int32) (_ : Unit) => r' = r) (fun _ t => t3_H E M' t.heap) (t3_A E)) 0 0 (t3_A E)
def t4_MetV (l : Launch) (y : MethodName) (b : ByteArray) (L : Nat) (fr lo : Nat) (E : ww_E) (As : List Value) (M M' : ww_M) : Prop :=
  Met l y (ws_ y b L none) { frames := fr, cells := 0, slots := 0, locals := lo } (va_Pc (.ref E.1 :: As) (fun U => tw_Kn E U ∧ t3_H E M U.heap)) (va_Qv (fun (_ : Unit) => True) (fun _ t => t3_H E M' t.heap) (t3_A E)) 0 0 (t3_A E)
section T4M
variable {l : Launch} {y : MethodName} {b : ByteArray} {L fr lo : Nat} {ret : Option FieldType} {E : ww_E} {As : List Value} {M M' : ww_M} {r : Int32}
theorem t4_start (hy : y.cls = RX3 ∧ plainName y.cls = true) (hsl : (lg_sl (.ref E.1 :: As)).length ≤ L)
    (body : ∀ (p : Program) (e : Env) (s : State) (m : MethodId) (args : Array Value) (below : List Frame) (meth : Method) (c : Code) (Rm : Room) (Q : State → Prop), ww_C p m c b L s args RX3 lw_all → tw_Kn E s → fr ≤ Rm.frames → lo ≤ Rm.locals →
      (∀ {pc : Nat} {H : Heap} {locs : List Loc} {ls : Array Slot} {v : Int32} {M1 : ww_M} {ty : FieldType}, decode b pc = .ok (.ireturn, 1) → ret = some ty → narrow ty (.int v) = .int v → some (v, M1) = some (r, M') → t3_H E M1 H → va_S (t3_A E) s.heap H locs → W p l e Rm s m args below meth c H locs 0 0 Q (F0 m pc ls [.int v])) →
      ∀ ls : Array Slot, lv_has ls L (lv_args 0 (.ref E.1 :: As)) → t3_H E M s.heap → va_S (t3_A E) s.heap s.heap [] → W p l e Rm s m args below meth c s.heap [] 0 0 Q (F0 m 0 ls [])) : t4_Met l y b L ret fr lo E As M M' r := by
  refine Met.ofW (cc := b) (maxL := L) (ret := ret) hy.2 rfl ?_
  intro p e s m args below meth c s₁ B hml hv
  obtain ⟨rfl, hK, hR⟩ := hv
  have hts := atoms_spec (ws := ws_ y b L ret) B.pre
  have hts : ∀ w ∈ lw_all, w.before _ s = true := fun w h => hts w (List.mem_cons_of_mem _ h)
  have hown : s.vm.findClass y.cls = some m.cls := findClass_of_methodNamed B.named
  rw [hy.1] at hown
  have hlocks := B.notSynchronized
  have hrr := B.returns
  have hl := lv_entry (.ref E.1 :: As) (n := L) hsl
  rw [lg_entry_eq]
  refine body p e s m _ below meth c _ _ ⟨B.exec, B.bytes, hml, hown, hts⟩ hK (Nat.le_refl _) (Nat.le_refl _) ?_ _ hl hR va_S.rf
  intro pc H locs ls v M1 ty hdg hty hn hq hR hS
  cases hq
  exact W.zret B.exec B.bytes (hrr.trans hty) hn (fun t ht hW => ⟨⟨_, (), rfl, rfl, by subst ht; exact hR⟩, hS.F ht⟩) hS.2.2 hdg hlocks
theorem t4_startP (hy : y.cls = RX3 ∧ plainName y.cls = true) (hsl : (lg_sl (.ref E.1 :: As)).length ≤ L)
    (body : ∀ (p : Program) (e : Env) (s : State) (m : MethodId) (args : Array Value) (below : List Frame) (meth : Method) (c : Code) (Rm : Room) (Q : State → Prop), ww_C p m c b L s args RX3 lw_all → tw_Kn E s → fr ≤ Rm.frames → lo ≤ Rm.locals →
      (∀ {pc : Nat} {H : Heap} {locs : List Loc} {ls : Array Slot} {v : Int32} {ty : FieldType}, decode b pc = .ok (.ireturn, 1) → ret = some ty → narrow ty (.int v) = .int v → some v = some r → t3_H E M H → va_S (t3_A E) s.heap H locs → W p l e Rm s m args below meth c H locs 0 0 Q (F0 m pc ls [.int v])) →
      ∀ ls : Array Slot, lv_has ls L (lv_args 0 (.ref E.1 :: As)) → t3_H E M s.heap → va_S (t3_A E) s.heap s.heap [] → W p l e Rm s m args below meth c s.heap [] 0 0 Q (F0 m 0 ls [])) : t4_Met l y b L ret fr lo E As M M r := by
  refine Met.ofW (cc := b) (maxL := L) (ret := ret) hy.2 rfl ?_
  intro p e s m args below meth c s₁ B hml hv
  obtain ⟨rfl, hK, hR⟩ := hv
  have hts := atoms_spec (ws := ws_ y b L ret) B.pre
  have hts : ∀ w ∈ lw_all, w.before _ s = true := fun w h => hts w (List.mem_cons_of_mem _ h)
  have hown : s.vm.findClass y.cls = some m.cls := findClass_of_methodNamed B.named
  rw [hy.1] at hown
  have hlocks := B.notSynchronized
  have hrr := B.returns
  have hl := lv_entry (.ref E.1 :: As) (n := L) hsl
  rw [lg_entry_eq]
  refine body p e s m _ below meth c _ _ ⟨B.exec, B.bytes, hml, hown, hts⟩ hK (Nat.le_refl _) (Nat.le_refl _) ?_ _ hl hR va_S.rf
  intro pc H locs ls v ty hdg hty hn hq hR hS
  cases hq
  exact W.zret B.exec B.bytes (hrr.trans hty) hn (fun t ht hW => ⟨⟨_, (), rfl, rfl, by subst ht; exact hR⟩, hS.F ht⟩) hS.2.2 hdg hlocks
theorem t4_startV (hy : y.cls = RX3 ∧ plainName y.cls = true) (hsl : (lg_sl (.ref E.1 :: As)).length ≤ L)
    (body : ∀ (p : Program) (e : Env) (s : State) (m : MethodId) (args : Array Value) (below : List Frame) (meth : Method) (c : Code) (Rm : Room) (Q : State → Prop), ww_C p m c b L s args RX3 lw_all → tw_Kn E s → fr ≤ Rm.frames → lo ≤ Rm.locals →
      (∀ {pc : Nat} {H : Heap} {locs : List Loc} {ls : Array Slot} {M1 : ww_M}, decode b pc = .ok (.return_, 1) → some M1 = some M' → t3_H E M1 H → va_S (t3_A E) s.heap H locs → W p l e Rm s m args below meth c H locs 0 0 Q (F0 m pc ls [])) →
      ∀ ls : Array Slot, lv_has ls L (lv_args 0 (.ref E.1 :: As)) → t3_H E M s.heap → va_S (t3_A E) s.heap s.heap [] → W p l e Rm s m args below meth c s.heap [] 0 0 Q (F0 m 0 ls [])) : t4_MetV l y b L fr lo E As M M' := by
  refine Met.ofW (cc := b) (maxL := L) (ret := none) hy.2 rfl ?_
  intro p e s m args below meth c s₁ B hml hv
  obtain ⟨rfl, hK, hR⟩ := hv
  have hts := atoms_spec (ws := ws_ y b L none) B.pre
  have hts : ∀ w ∈ lw_all, w.before _ s = true := fun w h => hts w (List.mem_cons_of_mem _ h)
  have hown : s.vm.findClass y.cls = some m.cls := findClass_of_methodNamed B.named
  rw [hy.1] at hown
  have hlocks := B.notSynchronized
  have hrr := B.returns
  have hl := lv_entry (.ref E.1 :: As) (n := L) hsl
  rw [lg_entry_eq]
  refine body p e s m _ below meth c _ _ ⟨B.exec, B.bytes, hml, hown, hts⟩ hK (Nat.le_refl _) (Nat.le_refl _) ?_ _ hl hR va_S.rf
  intro pc H locs ls M1 hdg hq hR hS
  cases hq
  exact W.vret B.exec B.bytes hrr (fun t ht hW => ⟨⟨(), rfl, trivial, by subst ht; exact hR⟩, hS.F ht⟩) hS.2.2 hdg hlocks
end T4M
section T4C
variable {p : Program} {l : Launch} {e : Env} {R : Room} {s : State} {m : MethodId} {args : Array Value} {below : List Frame} {meth : Method} {c : Code} {H : Heap} {locs : List Loc} {cells slots : Nat} {Q : State → Prop}
variable {cc : ByteArray} {pc : Nat} {ls : Array Slot} {rest : List Value} {nL : Nat} {E : ww_E} {M M' : ww_M} {A : Nat → Prop} {H0 : Heap}
variable {y : MethodName} {b : ByteArray} {L fr lo n index : Nat} {ret : Option FieldType} {As : List Value} {r : Int32}
theorem t4_pre (hK : tw_Kn E s) (hR : t3_H E M H) (hS : va_S (t3_A E) s.heap H locs) : PreV s H RX3 E.1 (va_Pc (.ref E.1 :: As) (fun U => tw_Kn E U ∧ t3_H E M U.heap)) As :=
  ⟨fun a U g mk q => by obtain ⟨q0, qK, qR⟩ := q; exact ⟨q0, ⟨ww_Kn.moved (u := U) (U := U.calling g mk a) (Vm.Alike.refl U.vm) qK.1, qK.2.call g mk a⟩, qR⟩, t3_recv hK.1 hR, fun U hU hW => ⟨rfl, ⟨ww_Kn.moved hW.alike hK.1, hK.2.warm hW (by rw [hU]; exact hS.2.1)⟩, by rw [hU]; exact hR⟩⟩
theorem t4_callI (X : ww_C p m c cc nL s args RX3 lw_all) (hsz : ls.size = nL) (hK : tw_Kn E s) (hR : t3_H E M H) (hS : va_S (t3_A E) s.heap H locs) (hM : t4_Met l y b L ret fr lo E As M M' r) (hq : GoodIn lw_all (wsV RX3 index RX3 y (ws_ y b L ret))) (hy : y.cls = RX3 ∧ y.cls ≠ "java/lang/invoke/MethodHandle" ∧ y.cls ≠ "java/lang/invoke/VarHandle" ∧ (parseMethodDescriptor y.desc).map (fun d => d.parameters.length) = some n) (hn : As.length = n) (hF : fr + 1 ≤ R.frames) (hLo : 8 + (L + 11) + lo ≤ R.locals) (hc : cells ≤ R.cells) (hs : slots ≤ R.slots) (hrest : (rest.map fun v => v.category).sum ≤ 8) (hdg : decode cc pc = .ok (.invokevirtual index, 3))
    (kk : ∀ (H1 : Heap) (locs1 : List Loc), t3_H E M' H1 → va_S (t3_A E) s.heap H1 locs1 → W p l e R s m args below meth c H1 locs1 cells slots Q (F0 m (pc + 3) ls (.int r :: rest))) : W p l e R s m args below meth c H locs cells slots Q (F0 m pc ls (As.reverse ++ .ref E.1 :: rest)) := by
  refine va_calli (va_runV (As := As) (rest := rest) (b := E.1) X hM (cwV n X.2.2.2.2 hq rfl rfl rfl hy ⟨hF, hLo⟩) (t4_pre hK hR hS) rfl hn hsz rfl (lv_room hrest) hdg ⟨hc, hs⟩) hS (fun q _ h => h) (fun q h => h) (fun r' u t H1 locs1 ht hvm hw hB hz1 hk1 hS1 => ?_)
  subst hw
  rw [ht] at hB
  exact kk H1 locs1 hB hS1
theorem t4_callV (X : ww_C p m c cc nL s args RX3 lw_all) (hsz : ls.size = nL) (hK : tw_Kn E s) (hR : t3_H E M H) (hS : va_S (t3_A E) s.heap H locs) (hM : t4_MetV l y b L fr lo E As M M') (hq : GoodIn lw_all (wsV RX3 index RX3 y (ws_ y b L none))) (hy : y.cls = RX3 ∧ y.cls ≠ "java/lang/invoke/MethodHandle" ∧ y.cls ≠ "java/lang/invoke/VarHandle" ∧ (parseMethodDescriptor y.desc).map (fun d => d.parameters.length) = some n) (hn : As.length = n) (hF : fr + 1 ≤ R.frames) (hLo : 8 + (L + 11) + lo ≤ R.locals) (hc : cells ≤ R.cells) (hs : slots ≤ R.slots) (hrest : (rest.map fun v => v.category).sum ≤ 8) (hdg : decode cc pc = .ok (.invokevirtual index, 3))
    (kk : ∀ (H1 : Heap) (locs1 : List Loc), t3_H E M' H1 → va_S (t3_A E) s.heap H1 locs1 → W p l e R s m args below meth c H1 locs1 cells slots Q (F0 m (pc + 3) ls (rest))) : W p l e R s m args below meth c H locs cells slots Q (F0 m pc ls (As.reverse ++ .ref E.1 :: rest)) := by
  refine va_callv (va_runV (As := As) (rest := rest) (b := E.1) X hM (cwV n X.2.2.2.2 hq rfl rfl rfl hy ⟨hF, hLo⟩) (t4_pre hK hR hS) rfl hn hsz rfl (lv_room hrest) hdg ⟨hc, hs⟩) hS (fun q _ h => h) (fun q h => h) (fun u t H1 locs1 ht hvm hw hB hz1 hk1 hS1 => ?_)
  rw [ht] at hB
  exact kk H1 locs1 hB hS1
theorem t4_chr (X : ww_C p m c cc nL s args RX3 lw_all) (hsz : ls.size = nL) {q9 b9 : Nat} {v9 : Option Nat} (hC : sk_K (t3_A E) q9 b9 19 ws_f v9 s) (hR : t3_H E M H) (hS : va_S (t3_A E) s.heap H locs) (hF : 4 ≤ R.frames) (hLo : 85 ≤ R.locals) {i r : Int32} (h : sk_ch i = some r) (hrest : (rest.map fun v => v.category).sum ≤ 8) (hdg : decode cc pc = .ok (.invokevirtual 161, 3))
    (kk : ∀ (H1 : Heap) (locs1 : List Loc), t3_H E M H1 → va_S (t3_A E) s.heap H1 locs1 → W p l e R s m args below meth c H1 locs1 0 0 Q (F0 m (pc + 3) ls (.int r :: rest))) : W p l e R s m args below meth c H locs 0 0 Q (F0 m pc ls (.int i :: .ref q9 :: rest)) := by
  unfold sk_ch at h
  obtain ⟨h1, h⟩ := ww_gS h
  obtain ⟨h2, h⟩ := ww_gS h
  have h3 := Option.some.inj h
  have hin := ww_iv h1
  have h0 : ¬ i < 0 := fun z => hin (Or.inl z)
  have hlt : i.toNatClampNeg < 19 := Nat.not_le.mp fun z => hin (Or.inr z)
  have h19 : i < Int32.ofNat 19 := by
    have hz : (0 : Int) ≤ i.toInt := by
      have := Int32.not_lt.mp h0
      simpa using Int32.le_iff_toInt_le.mp this
    rw [Int32.lt_iff_toInt_lt]
    have e1 : (Int32.ofNat 19).toInt = 19 := by decide
    have e2 : i.toInt.toNat < 19 := hlt
    rw [e1]
    omega
  refine va_calli (va_runV (C := RJ4) (As := [.int i]) (rest := rest) (b := q9) X (sk_J4_charAt (q := q9) (b := b9) (n := 19) (f := ws_f) (v := v9) l h0 h19 hin h3 (by rw [← h3]; exact h2)) (cwV 1 X.2.2.2.2 (lw_V q1941 q1617 q2387 q138 q1619) rfl rfl rfl (by decide +kernel) ⟨hF, hLo⟩) (sk_pV hC hS) rfl rfl hsz rfl (lv_room hrest) hdg ⟨Nat.zero_le _, Nat.zero_le _⟩) hS (fun q _ h => h.elim) (fun q h => h.elim) (fun r' u t H1 locs1 ht hvm hw hB hz1 hk1 hS1 => ?_)
  subst hw
  exact kk H1 locs1 (hR.kept fun q hq => hk1 q (hR.lt hq) (fun z => z)) hS1
end T4C
