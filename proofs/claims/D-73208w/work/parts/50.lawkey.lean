/-! WideMapLaw.key: catches what WideMap.key throws -/
theorem cw_catch2 {p : Program} {l : Launch} {e : Env} {R : Room} {s : State} {m : MethodId} {args : Array Value} {below : List Frame} {meth : Method} {c : Code} {H : Heap} {locs : List Loc} {cells slots pc : Nat} {Q : State → Prop} {ls : Array Slot} {rest : List Value} {own name : String} {hh : List (Nat × Nat × Nat × Nat)} {x : ExceptionTableEntry} {q : Nat} {ce : Cell} (hown : s.vm.findClass own = some m.cls) (htab : c.exceptionTable.toList = tableOf hh) (hx1 : tableOf hh = [x]) (hx : covers x pc = true) (h0 : x.catchType ≠ 0) (hlink : (Cond.classLink own x.catchType name).before args s = true) (hcast : (Cond.castable name name).before args s = true) (hce : H[q]? = some ce) (hcv : ce.vm = .none) (hcl : s.vm.findClass name = some ce.cls) {hpc : Nat} (hpe : x.handlerPc = hpc)
    (kk : W p l e R s m args below meth c H locs cells slots Q (F0 m hpc ls [.ref q])) : vx_W p l e R s m args below meth c H locs cells slots Q (F0 m pc ls rest) q := by
  subst hpe
  exact vx_catch hown [] x [] (htab.trans hx1) (fun z hz => nomatch hz) hx h0 hlink hcast hce hcv hcl kk
/-- no thing of the class's lies where a long array lies -/
theorem lk_no {E : cw_E} {A : Nat → Prop} {s : State} {D : cw_D} {H : Heap} {o n : Nat} {cL : ClassId} {g : Nat → Int64} (hK : cw_K E A s) (hR : cw_H E A D H) (hL : ArrOfT s cL .long) (hO : H[o]? = some (vp_cell cL (n, .inr (.inl g)))) : D.2.1 o = none := by
  cases ho : D.2.1 o with
  | none => rfl
  | some ob =>
    obtain ⟨-, kL, hkL, cmL, hkindL⟩ := hL 0 (fun _ => .null)
    by_cases h20 : ob.1 < 20
    · obtain ⟨r, h1, cell, q1, q2, q3, -⟩ := (hR.2.1 o ob ho).1.1 h20
      obtain ⟨-, hfc, kC, hkC, hkind⟩ := hK.2.1 ob.1 r h1
      cases hO.symm.trans q1
      have e1 : cL = E.2.1 ob.1 := q2
      rw [← e1] at hkC
      cases hkL.symm.trans hkC
      rw [hkindL] at hkind
      cases hkind
    · obtain ⟨cell, q1, q2, -⟩ := (hR.2.1 o ob ho).1.2 (by omega)
      cases hO.symm.trans q1
      have e1 : cL = E.1.2.2.2.2 (cw_el ob.1) := q2
      obtain ⟨-, kA, hkA, cmA, hkindA⟩ := (cw_arr hK (kd := ob.1) 0 (fun _ => .null) _ rfl).1
      have hkA : s.vm.classes[E.1.2.2.2.2 (cw_el ob.1)]? = some kA := hkA
      have hkL : s.vm.classes[cL]? = some kL := hkL
      rw [← e1] at hkA
      cases hkL.symm.trans hkA
      rw [hkindL] at hkindA
      have h5 : FieldType.long = cw_el ob.1 := by injection hkindA
      unfold cw_el at h5
      split at h5 <;> cases h5
theorem lk_put {E : cw_E} {A : Nat → Prop} {D : cw_D} {H H1 : Heap} {o : Nat} (hR : cw_H E A D H) (hno : D.2.1 o = none) (hm : ¬ c1_A E o) (hz : H1.size = H.size) (oq : ∀ q : Nat, q ≠ o → H1[q]? = H[q]?) : cw_H E A D H1 := by
  obtain ⟨h1, h2, h3, h4⟩ := hR
  refine ⟨h1.kept (fun q hq => oq q (fun e => hm (e ▸ hq))), fun b ob hb => ⟨(h2 b ob hb).1.kept (oq b (fun e => ?_)), (h2 b ob hb).2⟩, hz.trans h3, h4⟩
  subst e
  rw [hno] at hb
  cases hb
def lk_z (z : cx_Z Int32) (g : Nat → Int64) (r : Int32) (q : cw_D × (Nat → Int64)) : Prop := match z with
  | .inr (v, D1, _) => r = 0 ∧ q = (D1, fun j => if j = 0 then v.toInt64 else g j)
  | .inl (D1, _) => r = 1 ∧ q.2 = g ∧ ∃ n, D1.2.2 ≤ n ∧ q.1 = (D1.1, D1.2.1, n)
def lk_Q (E : cw_E) (A : Nat → Prop) (o : Nat) (cL : ClassId) (g : Nat → Int64) (z : cx_Z Int32) : Array Value → State → Outcome → State → Prop := va_Qi (lk_z z g) (fun q t => cw_H E A q.1 t.heap ∧ t.heap[o]? = some (vp_cell cL (1, .inr (.inl q.2)))) (fun q => A q ∨ q = o)
abbrev lk_hh : List (Nat × Nat × Nat × Nat) := [((0 : Nat), (10 : Nat), (13 : Nat), (13 : Nat))]
def lk_Met (l : Launch) (fr lo : Nat) (E : cw_E) (A : Nat → Prop) (o : Nat) (cL : ClassId) (g : Nat → Int64) (D : cw_D) (x1 x2 : Int32) (z : cx_Z Int32) : Prop :=
  Met l yX0_key (wsW_ yX0_key cX0_key 5 (some Jvm.ClassFile.FieldType.int) lk_hh) { frames := fr, cells := cx_c z, slots := cx_k z, locals := lo } (va_Pc [.ref E.1.1, .int x1, .int x2, .ref o] (fun U => (cw_K E A U ∧ ArrOfT U cL .long) ∧ cw_H E A D U.heap ∧ U.heap[o]? = some (vp_cell cL (1, .inr (.inl g))))) (lk_Q E A o cL g z) (cx_c z) (cx_k z) (fun q => A q ∨ q = o)
set_option maxHeartbeats 4000000 in
theorem lk_key (l : Launch) (hl9 : l.stackTraces = false) {E : cw_E} {A : Nat → Prop} {o : Nat} {cL : ClassId} {g : Nat → Int64} (ho : ¬ A o) (D : cw_D) (x1 x2 : Int32) (z : cx_Z Int32) (hf : f1_key D x1 x2 = some z) : lk_Met l 22 462 E A o cL g D x1 x2 z := by
  have h9 : vx_Met l yX0_key (wsW_ yX0_key cX0_key 5 (some Jvm.ClassFile.FieldType.int) lk_hh) { frames := 22, cells := cx_c z, slots := cx_k z, locals := 462 } (va_Pc [.ref E.1.1, .int x1, .int x2, .ref o] (fun U => (cw_K E A U ∧ ArrOfT U cL .long) ∧ cw_H E A D U.heap ∧ U.heap[o]? = some (vp_cell cL (1, .inr (.inl g))))) (lk_Q E A o cL g z) (fun _ _ _ => False) (cx_c z) (cx_k z) (fun q => A q ∨ q = o) := by
    refine vx_ofWH (cc := cX0_key) (maxL := 5) (ret := some Jvm.ClassFile.FieldType.int) (hh := lk_hh) (by decide +kernel) rfl ?_
    intro p e s m args below meth c s₁ B hml hv
    obtain ⟨rfl, ⟨hK, hL⟩, hR, hO⟩ := hv
    have hts0 := atoms_spec (ws := wsW_ yX0_key cX0_key 5 (some Jvm.ClassFile.FieldType.int) lk_hh) B.pre
    have htab := vx_table (x := yX0_key) B (hts0 _ List.mem_cons_self)
    have hts : ∀ w ∈ lw_all, w.before _ s = true := fun w h => hts0 w (List.mem_cons_of_mem _ h)
    have hown : s.vm.findClass RX0 = some m.cls := findClass_of_methodNamed B.named
    have hlocks := B.notSynchronized
    have hrr := B.returns
    have hx := B.exec
    have hb := B.bytes
    have hl0 := lv_entry [.ref E.1.1, .int x1, .int x2, .ref o] (n := 5) (Nat.le_of_ble_eq_true rfl)
    rw [lg_entry_eq]
    suffices body : ∀ ls : Array Slot, lv_has ls 5 [(0, .ref E.1.1), (1, .int x1), (2, .int x2), (3, .ref o)] → W p l e (headSpec (wsW_ yX0_key cX0_key 5 (some Jvm.ClassFile.FieldType.int) lk_hh) { frames := 22, cells := cx_c z, slots := cx_k z, locals := 462 }).room s m _ below meth c s.heap [] 0 0 (vx_MQ below (lk_Q E A o cL g z) (fun _ _ _ => False) _ s (cx_c z) (cx_k z) (fun q => A q ∨ q = o)) (F0 m 0 ls []) from body _ hl0
    intro ls hl
    have hlt : o < s.heap.size := (Array.getElem?_eq_some_iff.mp hO).1
    refine lv_aload_n hx hb dX0_key_0 rfl (lv_at hl 3 rfl) ?_
    refine lv_iconst (v := (0 : Int32)) hx hb dX0_key_1 (by decide) ?_
    refine lv_aload_n hx hb dX0_key_2 rfl (lv_at hl 0 rfl) ?_
    refine lv_iload_n hx hb dX0_key_3 rfl (lv_at hl 1 rfl) ?_
    refine lv_iload_n hx hb dX0_key_4 rfl (lv_at hl 2 rfl) ?_
    refine vx_calli (A0 := fun q => A q ∨ q = o) (H0 := s.heap) (vx_runV (C := RX1) (As := [.int x1, .int x2]) (rest := [.int 0, .ref o]) (b := E.1.1) ⟨hx, hb, hml, hown, hts⟩ (met1_key l hl9 D x1 x2 z hf) (cwV 2 hts (lw_V q1674 q1675 q1676 q131 q1677) rfl rfl rfl (by decide +kernel) ⟨Nat.le_of_ble_eq_true rfl, Nat.le_of_ble_eq_true rfl⟩) (cw_pV hK hR va_S.rf (cw_rcM hK hR)) rfl rfl hl.1 rfl (lv_room (Nat.le_of_ble_eq_true rfl)) dX0_key_5 ⟨Nat.le_of_eq (Nat.zero_add _), Nat.le_of_eq (Nat.zero_add _)⟩) va_S.rf (fun q _ h => Or.inl h) (fun q h => Or.inl h) (fun q _ h => Or.inl h)
      (fun Ex ce q9 u t H1 locs1 ht hal hp hB hz hk hS1 hce hcv hcl => ?_) (fun r u t H1 locs1 ht hal hp hB hz hk hS1 => ?_)
    · obtain ⟨hE, n, hn, hB⟩ := hB
      subst hE
      rw [ht] at hB
      have hO1 : H1[o]? = some (vp_cell cL (1, .inr (.inl g))) := (hk o hlt ho).trans hO
      refine cw_catch2 (own := RX0) (name := RNse) (hpc := 13) hown htab rfl (by decide +kernel) (by decide) (hts _ q1673) (va_any rfl (hK.ct.2.2.2.2.2.2.2.1 (RNse, RNse) (by decide +kernel))) hce hcv hcl rfl ?_
      refine lv_astore (lv' := [(4, .ref q9), (0, .ref E.1.1), (1, .int x1), (2, .int x2), (3, .ref o)]) hx hb dX0_key_13 hl (by decide) rfl (fun ls hl => ?_)
      refine lv_iconst (v := (1 : Int32)) hx hb dX0_key_15 (by decide) ?_
      rw [Nat.zero_add, Nat.zero_add]
      exact vx_ret (W.zret hx hb hrr rfl (fun t ht hW => ⟨⟨_, ((u.1.1, u.1.2.1, n), g), rfl, by have hp : z = .inl u := hp; rw [hp]; exact ⟨rfl, rfl, n, hn, rfl⟩, by show cw_H E A (u.1.1, u.1.2.1, n) t.heap ∧ t.heap[o]? = _; rw [ht]; exact ⟨hB, hO1⟩⟩, hS1.F ht⟩) hS1.2.2 dX0_key_16 hlocks)
    · rw [ht] at hB
      have hO1 : H1[o]? = some (vp_cell cL (1, .inr (.inl g))) := (hk o hlt ho).trans hO
      refine lv_i2l (v := r.toInt64) hx hb dX0_key_8 rfl ?_
      refine W.last hx hb hO1 (hL _ (fun j => .long (g j))) (fun h => by cases h) (by show ¬ ((0 : Int32) < 0 ∨ (arrV cL 1 (fun j => .long (g j))).slots.size ≤ _); rw [arrV_size]; decide) rfl rfl dX0_key_9 (fun H2 e1 z1 oq => ?_)
      show W p l e _ s m _ below meth c H2 _ _ _ _ (F0 m 10 ls [])
      refine lv_goto (tgt := 17) hx hb dX0_key_10 (by decide) ?_
      refine lv_iconst (v := (0 : Int32)) hx hb dX0_key_17 (by decide) ?_
      rw [Nat.zero_add, Nat.zero_add]
      have hB2 : cw_H E A u.1 H2 := lk_put hB (lk_no hK hB hL hO1) (fun h => ho (hK.main _ h)) z1 oq
      have hS2 := hS1.put (k := (0 : Int32).toNatClampNeg) z1 oq (Or.inr rfl)
      exact vx_ret (W.zret hx hb hrr rfl (fun t ht hW => ⟨⟨_, (u.1, fun j => if j = 0 then r.toInt64 else g j), rfl, by have hp : z = .inr (r, u) := hp; rw [hp]; exact ⟨rfl, rfl⟩, by
        show cw_H E A u.1 t.heap ∧ t.heap[o]? = _
        rw [ht]
        refine ⟨hB2, ?_⟩
        rw [e1, vp_cell_l, vp_cell_l, arrV_store]
        congr 2
        funext j
        by_cases hj : j = 0
        · subst hj; rfl
        · simp only [updV, if_neg hj]
          exact if_neg hj⟩, hS2.F ht⟩) hS2.2.2 dX0_key_18 hlocks)
  intro p e h1 h2 h3 s m args below h4 h5 h6 h7
  obtain ⟨n, o9, k1, k2, k3, k4⟩ := h9 p e h1 h2 h3 s m args below h4 h5 h6 h7
  refine ⟨n, o9, k1, k2, k3, ?_⟩
  rcases k4 with k4 | ⟨q, -, Ex, ce, Ls, k4, -⟩
  · exact k4
  · exact k4.elim
