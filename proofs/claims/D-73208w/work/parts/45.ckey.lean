/-! WideMap.key, that may throw a new NoSuchElementException -/
abbrev RNse : String := "java/util/NoSuchElementException"
theorem cw_H.grow {E : cw_E} {A : Nat → Prop} {D : cw_D} {H H1 : Heap} (h : cw_H E A D H) (hz : H.size ≤ H1.size) (oq : ∀ q, q < H.size → H1[q]? = H[q]?) : cw_H E A (D.1, D.2.1, H1.size) H1 := by
  obtain ⟨h1, h2, h3, h4⟩ := h
  refine ⟨h1.kept (fun q hq => oq q (h1.lt hq)), fun b ob hb => ⟨(h2 b ob hb).1.kept (oq b (h2 b ob hb).1.lt), (h2 b ob hb).2⟩, rfl, ?_, h4.2⟩
  have := h4.1
  show E.2.2.2.1 ≤ H1.size
  omega
def ck_X (E : cw_E) (A : Nat → Prop) (z : cx_Z Int32) : String → State → State → Prop := vx_X (fun q : cw_D × Nat × Nat => z = .inl q) (fun Ex q t => Ex = RNse ∧ ∃ n, q.1.2.2 ≤ n ∧ cw_H E A (q.1.1, q.1.2.1, n) t.heap) A
def ck_MetI (l : Launch) (y : MethodName) (b : ByteArray) (L : Nat) (ret : Option FieldType) (fr lo : Nat) (E : cw_E) (A : Nat → Prop) (As : List Value) (D : cw_D) (z : cx_Z Int32) : Prop :=
  vx_Met l y (ws_ y b L ret) { frames := fr, cells := cx_c z, slots := cx_k z, locals := lo } (va_Pc As (fun U => cw_K E A U ∧ cw_H E A D U.heap)) (va_Qi (fun r' (q : cw_D × Nat × Nat) => z = .inr (r', q)) (fun q t => cw_H E A q.1 t.heap) A) (ck_X E A z) (cx_c z) (cx_k z) A
abbrev ck_at : List Cond := vx_at0 RX1 341 RNse ["java/lang/RuntimeException", "java/lang/Exception"]
theorem ck_in : ∀ w ∈ ck_at.filter goodWord, w ∈ lw_all := lw_in (ck_at.filter goodWord) [132, 194, 203, 206, 209, 211, 195, 196, 164, 165, 197, 202, 207, 220, 184, 221, 186, 222, 188, 198, 200, 190, 1690, 1691, 1692, 1693, 1693, 1694, 1695, 216, 216, 217, 218, 195, 1689, 1679, 1683, 205, 1684, 1685, 1686, 1687, 193, 192, 1688] (by decide +kernel) (by decide +kernel)
theorem ck_rest : ∀ w ∈ ck_at.filter (fun w => !goodWord w), w ∈ [Cond.declares ⟨"java/lang/RuntimeException", "<init>", "()V"⟩, Cond.declares ⟨"java/lang/Exception", "<init>", "()V"⟩, Cond.declares ⟨"java/lang/Throwable", "<init>", "()V"⟩, Cond.castable RNse RNse] := by decide +kernel
theorem ck_good : ∀ w ∈ Cond.classLink RX1 339 RNse :: Cond.initialized RNse :: ck_at, vx_ot w = true := List.all_eq_true.mp (by decide +kernel)
theorem ck_hat {E : cw_E} {A : Nat → Prop} {s : State} {args : Array Value} (hts : ∀ w ∈ lw_all, w.before args s = true) (hK : cw_K E A s) : ∀ w ∈ ck_at, w.before args s = true := by
  have hT := hK.ct.2.2.2.2.2.2
  refine vx_hat (fun w hw => hts w (ck_in w hw)) ck_rest (vx_c ?_ (vx_c ?_ (vx_c ?_ (vx_c ?_ vx_n))))
  · exact va_any rfl (hT.2.2.1 ⟨"java/lang/RuntimeException", "<init>", "()V"⟩ (by decide +kernel))
  · exact va_any rfl (hT.2.2.1 ⟨"java/lang/Exception", "<init>", "()V"⟩ (by decide +kernel))
  · exact va_any rfl (hT.2.2.1 ⟨"java/lang/Throwable", "<init>", "()V"⟩ (by decide +kernel))
  · exact va_any rfl (hT.2.1 (RNse, RNse) (by decide +kernel))
theorem ck_sI {l : Launch} {y : MethodName} {b : ByteArray} {L fr lo : Nat} {ret : Option FieldType} {E : cw_E} {A : Nat → Prop} {As : List Value} {D : cw_D} (hl9 : l.stackTraces = false) {z : cx_Z Int32} (hy : y.cls = RX1 ∧ plainName y.cls = true) (L0 : List (Nat × Value)) (hsl : (lg_sl As).length ≤ L ∧ lv_args 0 As = L0)
    (body : ∀ (p : Program) (e : Env) (s : State) (m : MethodId) (args : Array Value) (below : List Frame) (meth : Method) (c : Code) (Rm : Room) (Q : State → Prop), ww_C p m c b L s args RX1 lw_all → cw_K E A s → fr ≤ Rm.frames → lo ≤ Rm.locals → cx_c z ≤ Rm.cells ∧ cx_k z ≤ Rm.slots → meth.name = y.name →
      (∀ {pc : Nat} {H : Heap} {locs : List Loc} {ls : Array Slot} {v : Int32} {ty : FieldType} {D1 : cw_D} {c1 k1 : Nat}, decode b pc = .ok (.ireturn, 1) → ret = some ty → narrow ty (.int v) = .int v → some (Sum.inr (v, D1, c1, k1)) = some z → cw_H E A D1 H → va_S A s.heap H locs → W p l e Rm s m args below meth c H locs c1 k1 Q (F0 m pc ls [.int v])) →
      (∀ {pc : Nat} {H : Heap} {locs : List Loc} {ls : Array Slot} {D1 : cw_D} {c1 k1 : Nat}, decode b pc = .ok (.new 339, 3) → decode b (pc + 3) = .ok (.dup, 1) → decode b (pc + 4) = .ok (.invokespecial 341, 3) → decode b (pc + 7) = .ok (.athrow, 1) → ls.size = L → 6 ≤ Rm.frames → 81 ≤ Rm.locals → some (Sum.inl (D1, c1 + 1, k1 + 6)) = some z → cw_H E A D1 H → va_S A s.heap H locs → W p l e Rm s m args below meth c H locs c1 k1 Q (F0 m pc ls [])) →
      ∀ ls : Array Slot, lv_has ls L L0 → cw_H E A D s.heap → va_S A s.heap s.heap [] → W p l e Rm s m args below meth c s.heap [] 0 0 Q (F0 m 0 ls [])) : ck_MetI l y b L ret fr lo E A As D z := by
  refine vx_ofW (cc := b) (maxL := L) (ret := ret) hy.2 rfl ?_
  intro p e s m args below meth c s₁ B hml hnt hv
  obtain ⟨rfl, hK, hR⟩ := hv
  have hts := atoms_spec (ws := ws_ y b L ret) B.pre
  have hts : ∀ w ∈ lw_all, w.before _ s = true := fun w h => hts w (List.mem_cons_of_mem _ h)
  have hown : s.vm.findClass y.cls = some m.cls := findClass_of_methodNamed B.named
  rw [hy.1] at hown
  have hlocks := B.notSynchronized
  have hrr := B.returns
  have hl := lv_entry As (n := L) hsl.1
  rw [hsl.2] at hl
  rw [lg_entry_eq]
  refine body p e s m _ below meth c _ _ ⟨B.exec, B.bytes, hml, hown, hts⟩ hK (Nat.le_refl _) (Nat.le_refl _) ⟨Nat.le_refl _, Nat.le_refl _⟩ (name_of_methodNamed B.named B.method).1 ?_ ?_ _ hl hR va_S.rf
  · intro pc H locs ls v ty D1 c1 k1 hdg hty hn hq hR hS
    cases hq
    exact vx_ret (W.zret B.exec B.bytes (hrr.trans hty) hn (fun t ht hW => ⟨⟨_, (D1, c1, k1), rfl, rfl, by subst ht; exact hR⟩, hS.F ht⟩) hS.2.2 hdg hlocks)
  · intro pc H locs ls D1 c1 k1 d0 d3 d4 d7 hsz hF hLo hq hR hS
    cases hq
    have hT := hK.ct.2.2.2.2.2.2
    exact vx_throw0 (own := RX1) (cls := RNse) (names := ["java/lang/RuntimeException", "java/lang/Exception"]) (A := A) B.exec B.bytes hl9 hown (by decide +kernel) (by decide +kernel) (hts _ q1678) (hts _ q157) (ck_hat hts hK) ck_good hT.2.2.2.1 hT.2.2.2.2 hS (hsz.trans hml.symm) d0 d3 d4 d7 (fun x hx => (hnt x hx).elim) (show 2 + 3 < fr by exact hF) (show 0 + (13 * (2 + 1) + 42) ≤ lo from by have h9 : 81 ≤ lo := hLo; omega) (Nat.le_refl _) (Nat.le_refl _) hlocks
      (fun t hal hz oq => ⟨(D1, c1 + 1, k1 + 6), rfl, ⟨rfl, t.heap.size, by show D1.2.2 ≤ t.heap.size; rw [← hR.2.2.1]; exact hz, hR.grow hz oq⟩, ⟨Nat.le_trans hS.1 hz, fun q h1 h2 => (oq q (Nat.lt_of_lt_of_le h1 hS.1)).trans (hS.2.1 q h1 h2)⟩⟩) hS.2.2 (Nat.le_refl _) (Nat.le_refl _)
