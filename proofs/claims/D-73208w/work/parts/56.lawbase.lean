/-! WideMapLaw.law: both worlds in one heap, beside the script and the long array -/
def lc_K (l : Launch) (s : State) (E : cw_E) (A : Nat → Prop) (E3 : ww_E) (ol : Nat) (cL : ClassId) : Prop :=
  cw_K E A s ∧ tw_Kn E3 s ∧ t3_D E3 ∧ ArrOfT s cL .long ∧ (∀ q, A q → ¬ t3_A E3 q ∧ q ≠ ol ∧ s.heap.size ≤ q) ∧ (∀ q, t3_A E3 q → q ≠ ol ∧ s.heap.size ≤ q ∧ cw_N E q) ∧ s.heap.size ≤ ol ∧ l.stackTraces = false
def lc_W (s : State) (E : cw_E) (A : Nat → Prop) (E3 : ww_E) (ol : Nat) (cL : ClassId) (D : cw_D) (M : ww_M) (g : Nat → Int64) (H : Heap) : Prop :=
  cw_H E A D H ∧ t3_H E3 M H ∧ H[ol]? = some (vp_cell cL (1, .inr (.inl g))) ∧ va_S (fun q => s.heap.size ≤ q) s.heap H []
section LCB
variable {p : Program} {l : Launch} {e : Env} {R : Room} {s : State} {m : MethodId} {args : Array Value} {below : List Frame} {meth : Method} {c : Code} {H : Heap} {cells slots : Nat} {Q : State → Prop}
variable {cc : ByteArray} {pc : Nat} {ls : Array Slot} {rest : List Value} {nL : Nat} {E : cw_E} {A : Nat → Prop} {E3 : ww_E} {ol : Nat} {cL : ClassId} {D D' : cw_D} {M M' : ww_M} {g : Nat → Int64}
variable {y : MethodName} {b : ByteArray} {L fr lo n index nc ns : Nat} {ret : Option FieldType} {As : List Value} {r : Int32}
theorem lc_sA (hW : lc_W s E A E3 ol cL D M g H) : va_S A s.heap H [] := ⟨hW.2.2.2.1, fun q h1 _ => hW.2.2.2.2.1 q h1 (by omega), fun _ h => nomatch h⟩
theorem lc_s3 (hW : lc_W s E A E3 ol cL D M g H) : va_S (t3_A E3) s.heap H [] := ⟨hW.2.2.2.1, fun q h1 _ => hW.2.2.2.2.1 q h1 (by omega), fun _ h => nomatch h⟩
/-- a call of the class's -/
theorem lc_c1 (X : ww_C p m c cc nL s args RX0 lw_all) (hsz : ls.size = nL) (hK : lc_K l s E A E3 ol cL) (hW : lc_W s E A E3 ol cL D M g H) (hM : cw_MetI l y b L ret fr lo E A (.ref E.1.1 :: As) D D' r nc ns) (hq : GoodIn lw_all (wsV RX0 index RX1 y (ws_ y b L ret))) (hy : y.cls = RX1 ∧ y.cls ≠ "java/lang/invoke/MethodHandle" ∧ y.cls ≠ "java/lang/invoke/VarHandle" ∧ (parseMethodDescriptor y.desc).map (fun d => d.parameters.length) = some n) (hn : As.length = n) (hF : fr + 1 ≤ R.frames) (hLo : 8 + (L + 11) + lo ≤ R.locals) (hc : cells + nc ≤ R.cells) (hs : slots + ns ≤ R.slots) (hrest : (rest.map fun v => v.category).sum ≤ 8) (hdg : decode cc pc = .ok (.invokevirtual index, 3))
    (kk : ∀ (H1 : Heap), lc_W s E A E3 ol cL D' M g H1 → W p l e R s m args below meth c H1 [] (cells + nc) (slots + ns) Q (F0 m (pc + 3) ls (.int r :: rest))) : W p l e R s m args below meth c H [] cells slots Q (F0 m pc ls (As.reverse ++ .ref E.1.1 :: rest)) := by
  refine va_calli (va_runV (As := As) (rest := rest) (b := E.1.1) X hM (cwV n X.2.2.2.2 hq rfl rfl rfl hy ⟨hF, hLo⟩) (cw_pV hK.1 hW.1 (lc_sA hW) (cw_rcM hK.1 hW.1)) rfl hn hsz rfl (lv_room hrest) hdg ⟨hc, hs⟩) hW.2.2.2 (fun q _ h => (hK.2.2.2.2.1 q h).2.2) (fun q h => (hK.2.2.2.2.1 q h).2.2) (fun r' u t H1 locs1 ht hvm hw hB hz1 hk1 hS1 => ?_)
  subst hw
  rw [ht] at hB
  refine va_forget (fun q hq => hS1.2.2 q hq) (kk H1 ⟨hB, hW.2.1.kept (fun q hq => hk1 q (hW.2.1.lt hq) (fun z => (hK.2.2.2.2.1 q z).1 hq)), ?_, hS1.1, hS1.2.1, fun _ h => nomatch h⟩)
  rw [hk1 ol (Array.getElem?_eq_some_iff.mp hW.2.2.1).1 (fun z => (hK.2.2.2.2.1 ol z).2.1 rfl)]
  exact hW.2.2.1
theorem lc_c1W {hh : List (Nat × Nat × Nat × Nat)} (X : ww_C p m c cc nL s args RX0 lw_all) (hsz : ls.size = nL) (hK : lc_K l s E A E3 ol cL) (hW : lc_W s E A E3 ol cL D M g H) (hM : cw_MetIW l y b L ret hh fr lo E A (.ref E.1.1 :: As) D D' r nc ns) (hq : GoodIn lw_all (wsV RX0 index RX1 y (wsW_ y b L ret hh))) (hy : y.cls = RX1 ∧ y.cls ≠ "java/lang/invoke/MethodHandle" ∧ y.cls ≠ "java/lang/invoke/VarHandle" ∧ (parseMethodDescriptor y.desc).map (fun d => d.parameters.length) = some n) (hn : As.length = n) (hF : fr + 1 ≤ R.frames) (hLo : 8 + (L + 11) + lo ≤ R.locals) (hc : cells + nc ≤ R.cells) (hs : slots + ns ≤ R.slots) (hrest : (rest.map fun v => v.category).sum ≤ 8) (hdg : decode cc pc = .ok (.invokevirtual index, 3))
    (kk : ∀ (H1 : Heap), lc_W s E A E3 ol cL D' M g H1 → W p l e R s m args below meth c H1 [] (cells + nc) (slots + ns) Q (F0 m (pc + 3) ls (.int r :: rest))) : W p l e R s m args below meth c H [] cells slots Q (F0 m pc ls (As.reverse ++ .ref E.1.1 :: rest)) := by
  refine va_calli (vx_runVW (As := As) (rest := rest) (b := E.1.1) X hM (vx_cwVW n X.2.2.2.2 hq rfl rfl rfl hy ⟨hF, hLo⟩) (cw_pV hK.1 hW.1 (lc_sA hW) (cw_rcM hK.1 hW.1)) rfl hn hsz rfl (lv_room hrest) hdg ⟨hc, hs⟩) hW.2.2.2 (fun q _ h => (hK.2.2.2.2.1 q h).2.2) (fun q h => (hK.2.2.2.2.1 q h).2.2) (fun r' u t H1 locs1 ht hvm hw hB hz1 hk1 hS1 => ?_)
  subst hw
  rw [ht] at hB
  refine va_forget (fun q hq => hS1.2.2 q hq) (kk H1 ⟨hB, hW.2.1.kept (fun q hq => hk1 q (hW.2.1.lt hq) (fun z => (hK.2.2.2.2.1 q z).1 hq)), ?_, hS1.1, hS1.2.1, fun _ h => nomatch h⟩)
  rw [hk1 ol (Array.getElem?_eq_some_iff.mp hW.2.2.1).1 (fun z => (hK.2.2.2.2.1 ol z).2.1 rfl)]
  exact hW.2.2.1
/-- behind a call of the reference's: the class's next address may have grown -/
theorem lc_fin3 (hK : lc_K l s E A E3 ol cL) (hW : lc_W s E A E3 ol cL D M g H) {H1 : Heap} {locs1 : List Loc} (hB : t3_H E3 M' H1) (hz : H.size ≤ H1.size) (hk1 : ∀ q : Nat, q < H.size → ¬ t3_A E3 q → H1[q]? = H[q]?) (hS1 : va_S (fun q => s.heap.size ≤ q) s.heap H1 locs1) : D.2.2 ≤ H1.size ∧ lc_W s E A E3 ol cL (D.1, D.2.1, H1.size) M' g H1 := by
  have hd : H.size = D.2.2 := hW.1.2.2.1
  refine ⟨by omega, ⟨hW.1.1.kept (fun q hq => hk1 q (hW.1.1.lt hq) (fun z => (hK.2.2.2.2.1 q (hK.1.main q hq)).1 z)), fun a o ho => ?_, rfl, ?_, hW.1.2.2.2.2⟩, hB, ?_, hS1.1, hS1.2.1, fun _ h => nomatch h⟩
  · obtain ⟨h1, h2, h3⟩ := hW.1.2.1 a o ho
    exact ⟨h1.kept (hk1 a h1.lt (fun z => h2 (hK.2.2.2.2.2.1 a z).2.2)), h2, h3⟩
  · have := hW.1.2.2.2.1
    show E.2.2.2.1 ≤ H1.size
    omega
  · rw [hk1 ol (Array.getElem?_eq_some_iff.mp hW.2.2.1).1 (fun z => (hK.2.2.2.2.2.1 ol z).1 rfl)]
    exact hW.2.2.1
theorem lc_c3 (X : ww_C p m c cc nL s args RX0 lw_all) (hsz : ls.size = nL) (hK : lc_K l s E A E3 ol cL) (hW : lc_W s E A E3 ol cL D M g H) (hM : t3_Met l y b L ret fr lo E3 As M M' r) (hq : GoodIn lw_all (wsV RX0 index RX3 y (ws_ y b L ret))) (hy : y.cls = RX3 ∧ y.cls ≠ "java/lang/invoke/MethodHandle" ∧ y.cls ≠ "java/lang/invoke/VarHandle" ∧ (parseMethodDescriptor y.desc).map (fun d => d.parameters.length) = some n) (hn : As.length = n) (hF : fr + 1 ≤ R.frames) (hLo : 8 + (L + 11) + lo ≤ R.locals) (hc : cells ≤ R.cells) (hs : slots ≤ R.slots) (hrest : (rest.map fun v => v.category).sum ≤ 8) (hdg : decode cc pc = .ok (.invokevirtual index, 3))
    (kk : ∀ (H1 : Heap) (nx : Nat), D.2.2 ≤ nx → lc_W s E A E3 ol cL (D.1, D.2.1, nx) M' g H1 → W p l e R s m args below meth c H1 [] cells slots Q (F0 m (pc + 3) ls (.int r :: rest))) : W p l e R s m args below meth c H [] cells slots Q (F0 m pc ls (As.reverse ++ .ref E3.1 :: rest)) := by
  refine va_calli (va_runV (As := As) (rest := rest) (b := E3.1) X hM (cwV n X.2.2.2.2 hq rfl rfl rfl hy ⟨hF, hLo⟩) (t3_pre hK.2.1.1 hW.2.1) rfl hn hsz rfl (lv_room hrest) hdg ⟨hc, hs⟩) hW.2.2.2 (fun q _ h => (hK.2.2.2.2.2.1 q h).2.1) (fun q h => (hK.2.2.2.2.2.1 q h).2.1) (fun r' u t H1 locs1 ht hvm hw hB hz1 hk1 hS1 => ?_)
  subst hw
  rw [ht] at hB
  obtain ⟨h1, h2⟩ := lc_fin3 hK hW hB hz1 hk1 hS1
  exact va_forget (fun q hq => hS1.2.2 q hq) (kk H1 _ h1 h2)
theorem lc_c4 (X : ww_C p m c cc nL s args RX0 lw_all) (hsz : ls.size = nL) (hK : lc_K l s E A E3 ol cL) (hW : lc_W s E A E3 ol cL D M g H) (hM : t4_Met l y b L ret fr lo E3 As M M' r) (hq : GoodIn lw_all (wsV RX0 index RX3 y (ws_ y b L ret))) (hy : y.cls = RX3 ∧ y.cls ≠ "java/lang/invoke/MethodHandle" ∧ y.cls ≠ "java/lang/invoke/VarHandle" ∧ (parseMethodDescriptor y.desc).map (fun d => d.parameters.length) = some n) (hn : As.length = n) (hF : fr + 1 ≤ R.frames) (hLo : 8 + (L + 11) + lo ≤ R.locals) (hc : cells ≤ R.cells) (hs : slots ≤ R.slots) (hrest : (rest.map fun v => v.category).sum ≤ 8) (hdg : decode cc pc = .ok (.invokevirtual index, 3))
    (kk : ∀ (H1 : Heap) (nx : Nat), D.2.2 ≤ nx → lc_W s E A E3 ol cL (D.1, D.2.1, nx) M' g H1 → W p l e R s m args below meth c H1 [] cells slots Q (F0 m (pc + 3) ls (.int r :: rest))) : W p l e R s m args below meth c H [] cells slots Q (F0 m pc ls (As.reverse ++ .ref E3.1 :: rest)) := by
  refine va_calli (va_runV (As := As) (rest := rest) (b := E3.1) X hM (cwV n X.2.2.2.2 hq rfl rfl rfl hy ⟨hF, hLo⟩) (t4_pre hK.2.1 hW.2.1 (lc_s3 hW)) rfl hn hsz rfl (lv_room hrest) hdg ⟨hc, hs⟩) hW.2.2.2 (fun q _ h => (hK.2.2.2.2.2.1 q h).2.1) (fun q h => (hK.2.2.2.2.2.1 q h).2.1) (fun r' u t H1 locs1 ht hvm hw hB hz1 hk1 hS1 => ?_)
  subst hw
  rw [ht] at hB
  obtain ⟨h1, h2⟩ := lc_fin3 hK hW hB hz1 hk1 hS1
  exact va_forget (fun q hq => hS1.2.2 q hq) (kk H1 _ h1 h2)
/-- WideMapLaw.key -/
theorem lc_key {z : cx_Z Int32} {x1 x2 : Int32} (X : ww_C p m c cc nL s args RX0 lw_all) (hsz : ls.size = nL) (hK : lc_K l s E A E3 ol cL) (hW : lc_W s E A E3 ol cL D M g H) (hM : lk_Met l fr lo E A ol cL g D x1 x2 z) (hq : GoodIn lw_all (va_wsS RX0 index yX0_key (wsW_ yX0_key cX0_key 5 (some Jvm.ClassFile.FieldType.int) lk_hh))) (hF : fr + 1 ≤ R.frames) (hLo : 8 + (5 + 11) + lo ≤ R.locals) (hc : cells + cx_c z ≤ R.cells) (hs : slots + cx_k z ≤ R.slots) (hrest : (rest.map fun v => v.category).sum ≤ 8) (hdg : decode cc pc = .ok (.invokestatic index, 3))
    (kk : ∀ (H1 : Heap) (r : Int32) (q : cw_D × (Nat → Int64)), lk_z z g r q → lc_W s E A E3 ol cL q.1 M q.2 H1 → W p l e R s m args below meth c H1 [] (cells + cx_c z) (slots + cx_k z) Q (F0 m (pc + 3) ls (.int r :: rest))) : W p l e R s m args below meth c H [] cells slots Q (F0 m pc ls (.ref ol :: .int x2 :: .int x1 :: .ref E.1.1 :: rest)) := by
  refine va_calli (vx_runSW (As := [.ref E.1.1, .int x1, .int x2, .ref ol]) (rest := rest) X hM (vx_cwSW 4 X.2.2.2.2 hq rfl rfl rfl (by decide +kernel) ⟨hF, hLo⟩) ⟨fun a U g' mk q => by obtain ⟨q0, ⟨qK, qL⟩, qR, qO⟩ := q; exact ⟨q0, ⟨qK.call g' mk a, arrOfT_moved (Vm.Alike.refl U.vm) qL⟩, qR, qO⟩, fun U hU hW9 => ⟨rfl, ⟨hK.1.warm hW9 (by rw [hU]; exact (lc_sA hW).2.1), arrOfT_moved hW9.alike hK.2.2.2.1⟩, by rw [hU]; exact hW.1, by rw [hU]; exact hW.2.2.1⟩⟩ rfl rfl hsz rfl (lv_room hrest) hdg ⟨hc, hs⟩) hW.2.2.2 (fun q _ h => by rcases h with h | h; exact (hK.2.2.2.2.1 q h).2.2; rw [h]; exact hK.2.2.2.2.2.2.1) (fun q h => by rcases h with h | h; exact (hK.2.2.2.2.1 q h).2.2; rw [h]; exact hK.2.2.2.2.2.2.1) (fun r' u t H1 locs1 ht hvm hw hB hz1 hk1 hS1 => ?_)
  obtain ⟨hB1, hB2⟩ := hB
  rw [ht] at hB1 hB2
  refine va_forget (fun q hq => hS1.2.2 q hq) (kk H1 r' u hw ⟨hB1, hW.2.1.kept (fun q hq => hk1 q (hW.2.1.lt hq) (fun z => by rcases z with z | z; exact (hK.2.2.2.2.1 q z).1 hq; exact (hK.2.2.2.2.2.1 q hq).1 z)), hB2, hS1.1, hS1.2.1, fun _ h => nomatch h⟩)
/-- one int of the script, by its place in this turn -/
theorem lc_arg {b L : Nat} {xs : Nat → Int32} {k j : Nat} {o1 o3 : Nat} (X : ww_C p m c cc nL s args RX0 lw_all) (hW : lc_W s E A E3 ol cL D M g H) (hl : lv_has ls nL ([(4, .int (nI (6 * k))), (3, .ref ol), (2, .ref o3), (1, .ref o1), (0, .ref b)])) (hX : va_X b L xs s s.heap) (hb : b < s.heap.size) (hj : 6 * k + j < L) (hL : L ≤ 144) {v : Int32} (hv : v = nI j) (d0 : decode cc pc = .ok (.aload_n 0, 1)) (d1 : decode cc (pc + 1) = .ok (.iload 4, 2)) (d4 : decode cc (pc + 4) = .ok (.iadd, 1)) (d5 : decode cc (pc + 5) = .ok (.iaload, 1))
    (hc : ∀ {rest : List Value}, W p l e R s m args below meth c H [] cells slots Q (F0 m (pc + 4) ls (.int v :: rest)) → W p l e R s m args below meth c H [] cells slots Q (F0 m (pc + 3) ls rest))
    (kk : W p l e R s m args below meth c H [] cells slots Q (F0 m (pc + 6) ls (.int (xs (6 * k + j)) :: rest))) : W p l e R s m args below meth c H [] cells slots Q (F0 m pc ls rest) := by
  subst hv
  refine lv_aload_n X.1 X.2.1 d0 rfl (lv_at hl 4 rfl) ?_
  refine lv_iload X.1 X.2.1 d1 (lv_at hl 0 rfl) ?_
  refine hc ?_
  refine lv_iadd X.1 X.2.1 d4 ?_
  rw [show nI (6 * k) + nI j = nI (6 * k + j) from (Int32.ofNat_add (6 * k) j).symm]
  refine va_sld (i := nI (6 * k + j)) X.1 X.2.1 hX hb (A := fun q => s.heap.size ≤ q) (Nat.not_le_of_lt hb) hW.2.2.2 (vp_in_nI hj (by omega)) d5 ?_
  rw [nI_clamp (show 6 * k + j < 2 ^ 31 by omega)]
  exact kk
end LCB
/-! what the plain law owes: the two worlds answer alike -/
def lj_P (J : cw_D → ww_M → Prop) (D : cw_D) (x : Option Int32) (y : Option (Int32 × ww_M)) : Prop := ∃ r M', x = some r ∧ y = some (r, M') ∧ J D M'
def lj_D (J : cw_D → ww_M → Prop) (x : Option (Int32 × cw_D)) (y : Option (Int32 × ww_M)) : Prop := ∃ r D' M', x = some (r, D') ∧ y = some (r, M') ∧ J D' M'
def lj_N (J : cw_D → ww_M → Prop) (x : Option (Int32 × cw_D × Nat × Nat)) (y : Option (Int32 × ww_M)) : Prop := ∃ r D' nc ns M', x = some (r, D', nc, ns) ∧ y = some (r, M') ∧ J D' M' ∧ nc ≤ 49000 ∧ ns ≤ 217000
def lj_K (J : cw_D → ww_M → Prop) (x : Option (cx_Z Int32)) (y : Option (Int32 × ww_M)) : Prop := ∃ z r M', x = some z ∧ y = some (r, M') ∧ cx_c z ≤ 49000 ∧ cx_k z ≤ 217000 ∧ match z with
  | .inl (D', _) => f3_thrown M' = some 1 ∧ J D' M'
  | .inr (v, D', _) => f3_thrown M' = some 0 ∧ v = r ∧ J D' M'
def lj_op (J : cw_D → ww_M → Prop) (D : cw_D) (M : ww_M) (i : Nat) (a : Nat → Int32) : Prop := match i with
  | 0 => lj_D J (f1_feed D (a 1) (a 2) (a 3) (a 4) (a 5)) (f3_feed M (a 1) (a 2) (a 3) (a 4) (a 5))
  | 1 => lj_D J (f1_end D (a 1)) (f3_end M (a 1))
  | 2 => lj_N J (f1_fault D (a 1)) (f3_fault M (a 1))
  | 3 => lj_N J (f1_text D (a 1)) (f3_text M (a 1))
  | 4 => lj_D J (f1_wide D (a 1)) (f3_wide M (a 1))
  | 5 => lj_P J D (f1_find D (a 1) (a 2)) (f3_find M (a 1) (a 2))
  | 6 => lj_K J (f1_key D (a 1) (a 2)) (f3_key M (a 1) (a 2))
  | 7 => lj_D J (f1_about D (a 1) (a 2)) (f3_about M (a 1) (a 2))
  | 8 => lj_D J (f1_below D (a 1) (a 2)) (f3_below M (a 1) (a 2))
  | 9 => lj_D J (f1_near D (a 1) (a 2) (a 3)) (f3_near M (a 1) (a 2) (a 3))
  | 10 => lj_D J (f1_total D (a 1) (a 2) (a 3)) (f3_total M (a 1) (a 2) (a 3))
  | 11 => lj_D J (f1_node D (a 1) (a 2) (a 3)) (f3_node M (a 1) (a 2) (a 3))
  | 12 => lj_N J (f1_having D (a 1) (a 2) (a 3)) (f3_having M (a 1) (a 2) (a 3))
  | 13 => lj_N J (f1_lacking D (a 1) (a 2)) (f3_lacking M (a 1) (a 2))
  | 14 => lj_N J (f1_merge D (a 1) (a 2) (a 3)) (f3_merge M (a 1) (a 2) (a 3))
  | 15 => lj_N J (f1_three D (a 1) (a 2) (a 3) (a 4)) (f3_three M (a 1) (a 2) (a 3) (a 4))
  | 16 => lj_P J D (f1_conflicts D (a 1) (a 2) (a 3)) (f3_conflicts M (a 1) (a 2) (a 3))
  | 17 => lj_N J (f1_slice D (a 1) (a 2) (a 3)) (f3_slice M (a 1) (a 2) (a 3))
  | 18 => lj_D J (f1_drop D (a 1)) (f3_drop M (a 1))
  | 19 => lj_N J (f1_build D (a 1) (a 2)) (f3_build M (a 1) (a 2))
  | 20 => lj_N J (f1_lay D (a 1) (a 2) (a 3)) (f3_lay M (a 1) (a 2) (a 3))
  | 21 => lj_N J (f1_take D (a 1) (a 2)) (f3_take M (a 1) (a 2))
  | 22 => lj_N J (f1_add D (a 1) (a 2) (a 3)) (f3_add M (a 1) (a 2) (a 3))
  | 23 => lj_N J (f1_cut D (a 1) (a 2) (a 3)) (f3_cut M (a 1) (a 2) (a 3))
  | 24 => lj_N J (f1_inc D (a 1) (a 2) (a 3) (a 4)) (f3_inc M (a 1) (a 2) (a 3) (a 4))
  | 25 => lj_N J (f1_snap D (a 1)) (f3_snap M (a 1))
  | 26 => lj_N J (f1_freeze D (a 1)) (f3_freeze M (a 1))
  | 27 => lj_P J D (f1_peek D (a 1) (a 2)) (f3_peek M (a 1) (a 2))
  | 28 => lj_D J (f1_builder D (a 1) (a 2)) (f3_builder M (a 1) (a 2))
  | 29 => ∀ sd : Int64, lj_N J (f1_draws D (a 1) (a 2) sd) (f3_draws M (a 1) (a 2) sd)
  | 30 => lj_P J D (f1_step D (a 1) (a 2) (a 3)) (f3_step M (a 1) (a 2) (a 3))
  | 31 => lj_N J (f1_run D (a 1) (a 2)) (f3_run M (a 1) (a 2))
  | 32 => lj_D J (f1_shared D (a 1) (a 2)) (f3_shared M (a 1) (a 2))
  | 33 => lj_D J (f1_looked D (a 1) (a 2)) (f3_looked M (a 1) (a 2))
  | 34 => lj_P J D (f1_difference D (a 1) (a 2) (a 3) (a 4)) (f3_difference M (a 1) (a 2) (a 3) (a 4))
  | 35 => lj_N J (f1_alike D (a 1) (a 2) (a 3)) (f3_alike M (a 1) (a 2) (a 3))
  | 36 => lj_D J (f1_fork D (a 1) (a 2)) (f3_fork M (a 1) (a 2))
  | 37 => lj_D J (f1_comesFrom D (a 1) (a 2)) (f3_comesFrom M (a 1) (a 2))
  | 38 => lj_N J (f1_show D (a 1)) (f3_show M (a 1))
  | 39 => lj_D J (f1_shown D (a 1)) (f3_shown M (a 1))
  | 40 => lj_N J (f1_digest D (a 1)) (f3_digest M (a 1))
  | 41 => lj_P J D (f1_status D (a 1)) (f3_status M (a 1))
  | 42 => lj_D J (f1_image D) (f3_image M)
  | 43 => lj_D J (f1_back D) (f3_back M)
  | 44 => lj_D J (f1_count D (a 1)) (f3_count M (a 1))
  | _ => True
def pl_J (J : Nat → cw_D → ww_M → Prop) : Prop :=
  (∀ k D M, J k D M → J (k + 1) D M) ∧ (∀ k D M n, J k D M → D.2.2 ≤ n → J k (D.1, D.2.1, n) M) ∧ ∀ k D M i a, k < 24 → J k D M → lj_op (J (k + 1)) D M i a
theorem lc_cmp (x : Int64) : lg_cmp x x = 0 := by
  unfold lg_cmp
  rw [if_neg (by simp [Int64.lt_iff_toInt_lt]), if_pos rfl]
theorem lc_last {L i : Nat} (hL : L ≤ 144) (hi : i ≤ 144) (h : ¬ nI i > Int32.ofNat L - (6 : Int32)) : i + 6 ≤ L := by
  have h1 : ¬ (Int32.ofNat L - (6 : Int32)) < nI i := h
  rw [Int32.lt_iff_toInt_lt, nI_toInt (by omega), Int32.toInt_sub] at h1
  have h2 : (Int32.ofNat L).toInt = (L : Int) := nI_toInt (n := L) (by omega)
  have h3 : (6 : Int32).toInt = 6 := by decide
  rw [h2, h3, Int.bmod_def] at h1
  omega
section LCL0
variable {p : Program} {l : Launch} {e : Env} {R : Room} {s : State} {m : MethodId} {args : Array Value} {below : List Frame} {meth : Method} {c : Code} {H : Heap} {cells slots : Nat} {Q : State → Prop}
variable {cc : ByteArray} {pc : Nat} {ls : Array Slot} {rest : List Value} {nL : Nat} {E : cw_E} {A : Nat → Prop} {E3 : ww_E} {ol : Nat} {cL : ClassId} {D : cw_D} {M : ww_M} {g : Nat → Int64}
/-- the long array's only place -/
theorem lc_lald (X : ww_C p m c cc nL s args RX0 lw_all) (hK : lc_K l s E A E3 ol cL) (hW : lc_W s E A E3 ol cL D M g H) (hdg : decode cc pc = .ok (.laload, 1))
    (kk : W p l e R s m args below meth c H [] cells slots Q (F0 m (pc + 1) ls (.long (g 0) :: rest))) : W p l e R s m args below meth c H [] cells slots Q (F0 m pc ls (.int (0 : Int32) :: .ref ol :: rest)) := by
  have h1 := hW.2.2.1
  rw [vp_cell_l] at h1
  exact W.lald (v := .long (g 0)) X.1 X.2.1 h1 (hK.2.2.2.1 1 (fun j => .long (g j))) (fun q => by cases q) (by show ¬ ((0 : Int32) < 0 ∨ (arrV _ _ _).slots.size ≤ _); rw [arrV_size]; decide) (by show (arrV _ _ _).slots[_]? = _; rw [arrV_read _ _ (by decide)]; rfl) rfl rfl hdg kk
end LCL0
