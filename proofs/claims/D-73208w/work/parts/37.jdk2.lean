noncomputable def fJ8_checkLength (D : cw_D) (x0 : Int32) (x1 : Int32) : Option (cw_D) :=
  if x0 ≤ x1 then some D else none
section C_J8_checkLength_k
variable {p : Program} {l : Launch} {e : Env} {R : Room} {s : State} {m : MethodId} {args : Array Value} {below : List Frame} {meth : Method} {c : Code} {H : Heap} {locs : List Loc} {cells slots : Nat} {Q : State → Prop}
variable {cc : ByteArray} {pc : Nat} {ls : Array Slot} {rest : List Value} {nL : Nat} {E : cw_E} {A : Nat → Prop} {H0 : Heap}
theorem cJ8k_J8_checkLength {D : cw_D} {x0 : Int32} {x1 : Int32} {D' : cw_D} (X : ww_C p m c cc nL s args RJ8 lw_all) (hsz : ls.size = nL) (hK : cw_K E A s) (hR : cw_H E A D H) (hS : va_S A s.heap H locs) (hF : 1 ≤ R.frames) (hLo : 21 ≤ R.locals) (hc : cells ≤ R.cells) (hs : slots ≤ R.slots) (hM : cw_MetV l yJ8_checkLength cJ8_checkLength 2 0 0 E A [.int x0, .int x1] D D' 0 0) (hrest : (rest.map fun v => v.category).sum ≤ 8) (hdg : decode cc pc = .ok (.invokestatic 343, 3)) (kk : ∀ (H1 : Heap) (locs1 : List Loc), cw_H E A D' H1 → va_S A s.heap H1 locs1 → W p l e R s m args below meth c H1 locs1 cells slots Q (F0 m (pc + 3) ls (rest))) : W p l e R s m args below meth c H locs cells slots Q (F0 m pc ls (.int x1 :: .int x0 :: rest)) :=
  va_callv (va_runS (As := [.int x0, .int x1]) (rest := rest) X hM (va_cwS 2 X.2.2.2.2 (lw_S q584 q585 q142 q586) rfl rfl rfl (by decide +kernel) ⟨hF, hLo⟩) (cw_pS hK hR hS) rfl rfl hsz rfl (lv_room hrest) hdg ⟨hc, hs⟩) hS (fun q _ h => h) (fun q h => h) (fun u t H1 locs1 ht hvm hw hB hz1 hk1 hS1 => by rw [ht] at hB; exact kk H1 locs1 hB hS1)
end C_J8_checkLength_k
set_option maxHeartbeats 4000000 in
set_option maxRecDepth 100000 in
theorem metJ8_checkLength (l : Launch) {E : cw_E} {A : Nat → Prop} (D : cw_D) (x0 : Int32) (x1 : Int32) (D' : cw_D) (hf : fJ8_checkLength D x0 x1 = some D') : cw_MetV l yJ8_checkLength cJ8_checkLength 2 0 0 E A [.int x0, .int x1] D D' 0 0 := by
  unfold fJ8_checkLength at hf
  refine cw_sVD (own := RJ8) (by decide +kernel) [(0, .int x0), (1, .int x1)] ⟨Nat.le_of_ble_eq_true rfl, rfl⟩ ?_
  intro p e s m args below meth c Rm Q X hK hF hLo hin hend ls hl hR hS
  obtain ⟨hx, hb, hml, hown, hts⟩ := id X
  refine lv_iload_n hx hb dJ8_checkLength_0 rfl (lv_at hl 1 rfl) ?_
  refine lv_iload_n hx hb dJ8_checkLength_1 rfl (lv_at hl 0 rfl) ?_
  refine lv_icmp_ge (tgt := 37) hx hb dJ8_checkLength_2 (by decide) (fun c_1 => ?_) (fun c_1 => ?_)
  · replace hf := ww_ip hf c_1
    exact hend dJ8_checkLength_37 hf hR hS
  · replace hf := ww_in hf c_1
    cases hf
section C_J8_checkLength_c
variable {p : Program} {l : Launch} {e : Env} {R : Room} {s : State} {m : MethodId} {args : Array Value} {below : List Frame} {meth : Method} {c : Code} {H : Heap} {locs : List Loc} {cells slots : Nat} {Q : State → Prop}
variable {cc : ByteArray} {pc : Nat} {ls : Array Slot} {rest : List Value} {nL : Nat} {E : cw_E} {A : Nat → Prop} {H0 : Heap}
theorem cJ8c_J8_checkLength {D : cw_D} {x0 : Int32} {x1 : Int32} {D' : cw_D} (X : ww_C p m c cc nL s args RJ8 lw_all) (hsz : ls.size = nL) (hK : cw_K E A s) (hR : cw_H E A D H) (hS : va_S A s.heap H locs) (hF : 1 ≤ R.frames) (hLo : 21 ≤ R.locals) (hc : cells ≤ R.cells) (hs : slots ≤ R.slots) (hf : fJ8_checkLength D x0 x1 = some D') (hrest : (rest.map fun v => v.category).sum ≤ 8) (hdg : decode cc pc = .ok (.invokestatic 343, 3)) (kk : ∀ (H1 : Heap) (locs1 : List Loc), cw_H E A D' H1 → va_S A s.heap H1 locs1 → W p l e R s m args below meth c H1 locs1 cells slots Q (F0 m (pc + 3) ls (rest))) : W p l e R s m args below meth c H locs cells slots Q (F0 m pc ls (.int x1 :: .int x0 :: rest)) :=
  cJ8k_J8_checkLength X hsz hK hR hS hF hLo hc hs (metJ8_checkLength l _ _ _ _ hf) hrest hdg kk
end C_J8_checkLength_c
noncomputable def fJ8_copyOfRangeByte (D : cw_D) (x0 : Option Nat) (x1 : Int32) (x2 : Int32) : Option (Option Nat × cw_D × Nat × Nat) :=
  ww_b (fJ8_checkLength D x1 x2) (fun D_1 => ww_g (ww_i (x2 - x1) 100000000) (ww_b x0 (fun a_3 => ww_b (cw_ln (cw_nA D_1 21 (x2 - x1).toNatClampNeg) a_3) (fun r_4 => ww_b (cw_cp (cw_nA D_1 21 (x2 - x1).toNatClampNeg) a_3 x1 D_1.2.2 (0 : Int32) (if (x2 - x1) < (r_4 - x1) then (x2 - x1) else (r_4 - x1))) (fun D_5 => some ((some D_1.2.2), D_5, (0 + 1), (0 + (x2 - x1).toNatClampNeg)))))))
section C_J8_copyOfRangeByte_k
variable {p : Program} {l : Launch} {e : Env} {R : Room} {s : State} {m : MethodId} {args : Array Value} {below : List Frame} {meth : Method} {c : Code} {H : Heap} {locs : List Loc} {cells slots : Nat} {Q : State → Prop}
variable {cc : ByteArray} {pc : Nat} {ls : Array Slot} {rest : List Value} {nL : Nat} {E : cw_E} {A : Nat → Prop} {H0 : Heap}
theorem cJ8k_J8_copyOfRangeByte {D : cw_D} {x0 : Option Nat} {x1 : Int32} {x2 : Int32} {r : Option Nat} {D' : cw_D} {nc ns : Nat} (X : ww_C p m c cc nL s args RJ8 lw_all) (hsz : ls.size = nL) (hK : cw_K E A s) (hR : cw_H E A D H) (hS : va_S A s.heap H locs) (hF : 2 ≤ R.frames) (hLo : 124 ≤ R.locals) (hc : cells + nc ≤ R.cells) (hs : slots + ns ≤ R.slots) (hM : cw_MetQ l yJ8_copyOfRangeByte cJ8_copyOfRangeByte 5 (some (Jvm.ClassFile.FieldType.array Jvm.ClassFile.FieldType.byte)) 1 100 E A [va_rf x0, .int x1, .int x2] D D' r nc ns) (hrest : (rest.map fun v => v.category).sum ≤ 8) (hdg : decode cc pc = .ok (.invokestatic 339, 3)) (kk : ∀ (H1 : Heap) (locs1 : List Loc), cw_H E A D' H1 → va_S A s.heap H1 locs1 → W p l e R s m args below meth c H1 locs1 (cells + nc) (slots + ns) Q (F0 m (pc + 3) ls (va_rf r :: rest))) : W p l e R s m args below meth c H locs cells slots Q (F0 m pc ls (.int x2 :: .int x1 :: va_rf x0 :: rest)) :=
  va_callq (va_runS (As := [va_rf x0, .int x1, .int x2]) (rest := rest) X hM (va_cwS 3 X.2.2.2.2 (lw_S q581 q582 q142 q583) rfl rfl rfl (by decide +kernel) ⟨hF, hLo⟩) (cw_pS hK hR hS) rfl rfl hsz rfl (lv_room hrest) hdg ⟨hc, hs⟩) hS (fun q _ h => h) (fun q h => h) (fun r' u t H1 locs1 ht hvm hw hB hz1 hk1 hS1 => by subst hw; rw [ht] at hB; exact kk H1 locs1 hB hS1)
end C_J8_copyOfRangeByte_k
set_option maxHeartbeats 4000000 in
set_option maxRecDepth 100000 in
theorem metJ8_copyOfRangeByte (l : Launch) {E : cw_E} {A : Nat → Prop} (D : cw_D) (x0 : Option Nat) (x1 : Int32) (x2 : Int32) (r : Option Nat) (D' : cw_D) (nc ns : Nat) (hf : fJ8_copyOfRangeByte D x0 x1 x2 = some (r, D', nc, ns)) : cw_MetQ l yJ8_copyOfRangeByte cJ8_copyOfRangeByte 5 (some (Jvm.ClassFile.FieldType.array Jvm.ClassFile.FieldType.byte)) 1 100 E A [va_rf x0, .int x1, .int x2] D D' r nc ns := by
  unfold fJ8_copyOfRangeByte at hf
  refine cw_sQN (own := RJ8) (by decide +kernel) [(0, va_rf x0), (1, .int x1), (2, .int x2)] ⟨by cases x0 <;> exact Nat.le_of_ble_eq_true rfl, by cases x0 <;> rfl⟩ ?_
  intro p e s m args below meth c Rm Q X hK hF hLo hC hin hend ls hl hR hS
  obtain ⟨hx, hb, hml, hown, hts⟩ := id X
  have hm9 : 0 ≤ nc ∧ 0 ≤ ns := ⟨Nat.zero_le _, Nat.zero_le _⟩
  refine lv_iload_n hx hb dJ8_copyOfRangeByte_0 rfl (lv_at hl 1 rfl) ?_
  refine lv_iload_n hx hb dJ8_copyOfRangeByte_1 rfl (lv_at hl 2 rfl) ?_
  obtain ⟨D_1, h_1, hq⟩ := ww_bS hf; replace hf := hq; clear hq
  refine cJ8c_J8_checkLength X hl.1 hK hR hS (Nat.le_trans (Nat.le_of_ble_eq_true rfl) hF) (Nat.le_trans (Nat.le_of_ble_eq_true rfl) hLo) (Nat.le_trans hm9.1 hC.1) (Nat.le_trans hm9.2 hC.2) h_1 (cw_rest (Nat.le_of_ble_eq_true rfl)) dJ8_copyOfRangeByte_2 (fun H locs hR hS => ?_)
  refine lv_iload_n hx hb dJ8_copyOfRangeByte_5 rfl (lv_at hl 2 rfl) ?_
  refine lv_iload_n hx hb dJ8_copyOfRangeByte_6 rfl (lv_at hl 1 rfl) ?_
  refine lv_isub hx hb dJ8_copyOfRangeByte_7 ?_
  refine lv_istore_n (lv' := [(3, .int (x2 - x1)), (0, va_rf x0), (1, .int x1), (2, .int x2)]) hx hb dJ8_copyOfRangeByte_8 rfl hl (by decide) rfl (fun ls hl => ?_)
  refine lv_iload_n hx hb dJ8_copyOfRangeByte_9 rfl (lv_at hl 0 rfl) ?_
  obtain ⟨h_2, hq⟩ := ww_gS hf; replace hf := hq; clear hq
  have hm9 : (0 + 1) ≤ nc ∧ (0 + (x2 - x1).toNatClampNeg) ≤ ns := by
    obtain ⟨a_3, e_3, hq⟩ := ww_bS hf; replace hf := hq; clear hq
    subst e_3
    obtain ⟨r_4, h_4, hq⟩ := ww_bS hf; replace hf := hq; clear hq
    obtain ⟨D_5, h_5, hq⟩ := ww_bS hf; replace hf := hq; clear hq
    have e9 := hf
    simp only [Option.some.injEq, Prod.mk.injEq] at e9
    omega
  refine cw_onewa (kd := 21) X hK hR hS (by decide) h_2 rfl (Nat.le_trans hm9.1 hC.1) (Nat.le_trans hm9.2 hC.2) dJ8_copyOfRangeByte_10 q231 (fun H hR hS => ?_)
  refine lv_astore (lv' := [(4, .ref D_1.2.2), (3, .int (x2 - x1)), (0, va_rf x0), (1, .int x1), (2, .int x2)]) hx hb dJ8_copyOfRangeByte_12 hl (by decide) rfl (fun ls hl => ?_)
  refine cw_aload_n (x := x0) hx hb dJ8_copyOfRangeByte_14 rfl (lv_at hl 2 rfl) ?_
  refine lv_iload_n hx hb dJ8_copyOfRangeByte_15 rfl (lv_at hl 3 rfl) ?_
  refine lv_aload hx hb dJ8_copyOfRangeByte_16 (lv_at hl 0 rfl) ?_
  refine lv_iconst (v := (0 : Int32)) hx hb dJ8_copyOfRangeByte_18 (by decide) ?_
  refine cw_aload_n (x := x0) hx hb dJ8_copyOfRangeByte_19 rfl (lv_at hl 2 rfl) ?_
  obtain ⟨a_3, e_3, hq⟩ := ww_bS hf; replace hf := hq; clear hq
  subst e_3
  obtain ⟨r_4, h_4, hq⟩ := ww_bS hf; replace hf := hq; clear hq
  refine cw_oln (x := some a_3) X hK hR rfl h_4 dJ8_copyOfRangeByte_20 ?_
  refine lv_iload_n hx hb dJ8_copyOfRangeByte_21 rfl (lv_at hl 3 rfl) ?_
  refine lv_isub hx hb dJ8_copyOfRangeByte_22 ?_
  refine lv_iload_n hx hb dJ8_copyOfRangeByte_23 rfl (lv_at hl 1 rfl) ?_
  refine va_mmin hx hb (hml.trans hl.1.symm) hown (hts _ q492) (hts _ q493) (hts _ q141) (hts _ q494) (Nat.le_trans (Nat.le_of_ble_eq_true rfl) hF) (Nat.le_trans (Nat.le_of_ble_eq_true rfl) hLo) (Nat.le_trans hm9.1 hC.1) (Nat.le_trans hm9.2 hC.2) dJ8_copyOfRangeByte_24 ?_
  obtain ⟨D_5, h_5, hq⟩ := ww_bS hf; replace hf := hq; clear hq
  refine cw_arc X hl.1 hK hR hS q495 q497 q496 q143 h_5 (Nat.le_trans (Nat.le_of_ble_eq_true rfl) hF) (Nat.le_trans (Nat.le_of_ble_eq_true rfl) hLo) (cw_rest (Nat.le_of_ble_eq_true rfl)) dJ8_copyOfRangeByte_27 (fun H locs hR hS => ?_)
  refine lv_aload hx hb dJ8_copyOfRangeByte_30 (lv_at hl 0 rfl) ?_
  exact hend (v := (some D_1.2.2)) dJ8_copyOfRangeByte_32 rfl (Or.inr ⟨_, rfl⟩) hf hR hS
section C_J8_copyOfRangeByte_c
variable {p : Program} {l : Launch} {e : Env} {R : Room} {s : State} {m : MethodId} {args : Array Value} {below : List Frame} {meth : Method} {c : Code} {H : Heap} {locs : List Loc} {cells slots : Nat} {Q : State → Prop}
variable {cc : ByteArray} {pc : Nat} {ls : Array Slot} {rest : List Value} {nL : Nat} {E : cw_E} {A : Nat → Prop} {H0 : Heap}
theorem cJ8c_J8_copyOfRangeByte {D : cw_D} {x0 : Option Nat} {x1 : Int32} {x2 : Int32} {r : Option Nat} {D' : cw_D} {nc ns : Nat} (X : ww_C p m c cc nL s args RJ8 lw_all) (hsz : ls.size = nL) (hK : cw_K E A s) (hR : cw_H E A D H) (hS : va_S A s.heap H locs) (hF : 2 ≤ R.frames) (hLo : 124 ≤ R.locals) (hc : cells + nc ≤ R.cells) (hs : slots + ns ≤ R.slots) (hf : fJ8_copyOfRangeByte D x0 x1 x2 = some (r, D', nc, ns)) (hrest : (rest.map fun v => v.category).sum ≤ 8) (hdg : decode cc pc = .ok (.invokestatic 339, 3)) (kk : ∀ (H1 : Heap) (locs1 : List Loc), cw_H E A D' H1 → va_S A s.heap H1 locs1 → W p l e R s m args below meth c H1 locs1 (cells + nc) (slots + ns) Q (F0 m (pc + 3) ls (va_rf r :: rest))) : W p l e R s m args below meth c H locs cells slots Q (F0 m pc ls (.int x2 :: .int x1 :: va_rf x0 :: rest)) :=
  cJ8k_J8_copyOfRangeByte X hsz hK hR hS hF hLo hc hs (metJ8_copyOfRangeByte l _ _ _ _ _ _ _ _ hf) hrest hdg kk
end C_J8_copyOfRangeByte_c
noncomputable def fJ8_copyOfRange (D : cw_D) (x0 : Option Nat) (x1 : Int32) (x2 : Int32) : Option (Option Nat × cw_D × Nat × Nat) :=
  if x1 = 0 then ww_b x0 (fun a_3 => ww_b (cw_ln D a_3) (fun r_4 => if x2 = r_4 then ww_b2 (cw_cl D a_3) (fun n_6 D_6 => ww_g (cw_kd D_6 [21] (some D.2.2)) (some ((some D.2.2), D_6, (0 + 1), (0 + n_6)))) else ww_b4 (fJ8_copyOfRangeByte D (some a_3) x1 x2) (fun r_8 D_8 c_8 k_8 => some (r_8, D_8, (0 + c_8), (0 + k_8))))) else ww_b4 (fJ8_copyOfRangeByte D x0 x1 x2) (fun r_2 D_2 c_2 k_2 => some (r_2, D_2, (0 + c_2), (0 + k_2)))
section C_J8_copyOfRange_k
variable {p : Program} {l : Launch} {e : Env} {R : Room} {s : State} {m : MethodId} {args : Array Value} {below : List Frame} {meth : Method} {c : Code} {H : Heap} {locs : List Loc} {cells slots : Nat} {Q : State → Prop}
variable {cc : ByteArray} {pc : Nat} {ls : Array Slot} {rest : List Value} {nL : Nat} {E : cw_E} {A : Nat → Prop} {H0 : Heap}
theorem cJ4k_J8_copyOfRange {D : cw_D} {x0 : Option Nat} {x1 : Int32} {x2 : Int32} {r : Option Nat} {D' : cw_D} {nc ns : Nat} (X : ww_C p m c cc nL s args RJ4 lw_all) (hsz : ls.size = nL) (hK : cw_K E A s) (hR : cw_H E A D H) (hS : va_S A s.heap H locs) (hF : 3 ≤ R.frames) (hLo : 146 ≤ R.locals) (hc : cells + nc ≤ R.cells) (hs : slots + ns ≤ R.slots) (hM : cw_MetQ l yJ8_copyOfRange cJ8_copyOfRange 3 (some (Jvm.ClassFile.FieldType.array Jvm.ClassFile.FieldType.byte)) 2 124 E A [va_rf x0, .int x1, .int x2] D D' r nc ns) (hrest : (rest.map fun v => v.category).sum ≤ 8) (hdg : decode cc pc = .ok (.invokestatic 54, 3)) (kk : ∀ (H1 : Heap) (locs1 : List Loc), cw_H E A D' H1 → va_S A s.heap H1 locs1 → W p l e R s m args below meth c H1 locs1 (cells + nc) (slots + ns) Q (F0 m (pc + 3) ls (va_rf r :: rest))) : W p l e R s m args below meth c H locs cells slots Q (F0 m pc ls (.int x2 :: .int x1 :: va_rf x0 :: rest)) :=
  va_callq (va_runS (As := [va_rf x0, .int x1, .int x2]) (rest := rest) X hM (va_cwS 3 X.2.2.2.2 (lw_S q578 q579 q142 q580) rfl rfl rfl (by decide +kernel) ⟨hF, hLo⟩) (cw_pS hK hR hS) rfl rfl hsz rfl (lv_room hrest) hdg ⟨hc, hs⟩) hS (fun q _ h => h) (fun q h => h) (fun r' u t H1 locs1 ht hvm hw hB hz1 hk1 hS1 => by subst hw; rw [ht] at hB; exact kk H1 locs1 hB hS1)
end C_J8_copyOfRange_k
set_option maxHeartbeats 4000000 in
set_option maxRecDepth 100000 in
theorem metJ8_copyOfRange (l : Launch) {E : cw_E} {A : Nat → Prop} (D : cw_D) (x0 : Option Nat) (x1 : Int32) (x2 : Int32) (r : Option Nat) (D' : cw_D) (nc ns : Nat) (hf : fJ8_copyOfRange D x0 x1 x2 = some (r, D', nc, ns)) : cw_MetQ l yJ8_copyOfRange cJ8_copyOfRange 3 (some (Jvm.ClassFile.FieldType.array Jvm.ClassFile.FieldType.byte)) 2 124 E A [va_rf x0, .int x1, .int x2] D D' r nc ns := by
  unfold fJ8_copyOfRange at hf
  refine cw_sQN (own := RJ8) (by decide +kernel) [(0, va_rf x0), (1, .int x1), (2, .int x2)] ⟨by cases x0 <;> exact Nat.le_of_ble_eq_true rfl, by cases x0 <;> rfl⟩ ?_
  intro p e s m args below meth c Rm Q X hK hF hLo hC hin hend ls hl hR hS
  obtain ⟨hx, hb, hml, hown, hts⟩ := id X
  have hm9 : 0 ≤ nc ∧ 0 ≤ ns := ⟨Nat.zero_le _, Nat.zero_le _⟩
  refine lv_iload_n hx hb dJ8_copyOfRange_0 rfl (lv_at hl 1 rfl) ?_
  refine lv_if_ne (tgt := 10) hx hb dJ8_copyOfRange_1 (by decide) (fun c_1 => ?_) (fun c_1 => ?_)
  · replace hf := ww_in hf c_1
    refine cw_aload_n (x := x0) hx hb dJ8_copyOfRange_10 rfl (lv_at hl 0 rfl) ?_
    refine lv_iload_n hx hb dJ8_copyOfRange_11 rfl (lv_at hl 1 rfl) ?_
    refine lv_iload_n hx hb dJ8_copyOfRange_12 rfl (lv_at hl 2 rfl) ?_
    obtain ⟨r_2, D_2, c_2, k_2, h_2, hq⟩ := ww_b4S hf; replace hf := hq; clear hq
    have hm9 : (0 + c_2) ≤ nc ∧ (0 + k_2) ≤ ns := by
      have e9 := hf
      simp only [Option.some.injEq, Prod.mk.injEq] at e9
      omega
    refine cJ8c_J8_copyOfRangeByte (x0 := x0) X hl.1 hK hR hS (Nat.le_trans (Nat.le_of_ble_eq_true rfl) hF) (Nat.le_trans (Nat.le_of_ble_eq_true rfl) hLo) (Nat.le_trans hm9.1 hC.1) (Nat.le_trans hm9.2 hC.2) h_2 (cw_rest (Nat.le_of_ble_eq_true rfl)) dJ8_copyOfRange_13 (fun H locs hR hS => ?_)
    exact hend (v := r_2) dJ8_copyOfRange_16 rfl (Or.inr ⟨_, rfl⟩) hf hR hS
  · replace hf := ww_ip hf c_1
    refine lv_iload_n hx hb dJ8_copyOfRange_4 rfl (lv_at hl 2 rfl) ?_
    refine cw_aload_n (x := x0) hx hb dJ8_copyOfRange_5 rfl (lv_at hl 0 rfl) ?_
    obtain ⟨a_3, e_3, hq⟩ := ww_bS hf; replace hf := hq; clear hq
    subst e_3
    obtain ⟨r_4, h_4, hq⟩ := ww_bS hf; replace hf := hq; clear hq
    refine cw_oln (x := some a_3) X hK hR rfl h_4 dJ8_copyOfRange_6 ?_
    refine lv_icmp_eq (tgt := 17) hx hb dJ8_copyOfRange_7 (by decide) (fun c_5 => ?_) (fun c_5 => ?_)
    · replace hf := ww_ip hf c_5
      refine lv_aload_n hx hb dJ8_copyOfRange_17 rfl (lv_at hl 0 rfl) ?_
      obtain ⟨n_6, D_6, h_6, hq⟩ := ww_b2S hf; replace hf := hq; clear hq
      have hm9 : (0 + 1) ≤ nc ∧ (0 + n_6) ≤ ns := by
        obtain ⟨h_7, hq⟩ := ww_gS hf; replace hf := hq; clear hq
        have e9 := hf
        simp only [Option.some.injEq, Prod.mk.injEq] at e9
        omega
      refine cw_clone X hl.1 hK hR hS q485 q486 q487 q488 q489 h_6 (Nat.le_trans (Nat.le_of_ble_eq_true rfl) hF) (Nat.le_trans (Nat.le_of_ble_eq_true rfl) hLo) (cw_rest (Nat.le_of_ble_eq_true rfl)) (Nat.le_trans hm9.1 hC.1) (Nat.le_trans hm9.2 hC.2) dJ8_copyOfRange_18 (fun H hR hS => ?_)
      obtain ⟨h_7, hq⟩ := ww_gS hf; replace hf := hq; clear hq
      refine cw_castB X hK hR q491 h_7 dJ8_copyOfRange_21 ?_
      exact hend (v := (some D.2.2)) dJ8_copyOfRange_24 rfl (Or.inr ⟨_, rfl⟩) hf hR hS
    · replace hf := ww_in hf c_5
      refine lv_aload_n hx hb dJ8_copyOfRange_10 rfl (lv_at hl 0 rfl) ?_
      refine lv_iload_n hx hb dJ8_copyOfRange_11 rfl (lv_at hl 1 rfl) ?_
      refine lv_iload_n hx hb dJ8_copyOfRange_12 rfl (lv_at hl 2 rfl) ?_
      obtain ⟨r_8, D_8, c_8, k_8, h_8, hq⟩ := ww_b4S hf; replace hf := hq; clear hq
      have hm9 : (0 + c_8) ≤ nc ∧ (0 + k_8) ≤ ns := by
        have e9 := hf
        simp only [Option.some.injEq, Prod.mk.injEq] at e9
        omega
      refine cJ8c_J8_copyOfRangeByte (x0 := (some a_3)) X hl.1 hK hR hS (Nat.le_trans (Nat.le_of_ble_eq_true rfl) hF) (Nat.le_trans (Nat.le_of_ble_eq_true rfl) hLo) (Nat.le_trans hm9.1 hC.1) (Nat.le_trans hm9.2 hC.2) h_8 (cw_rest (Nat.le_of_ble_eq_true rfl)) dJ8_copyOfRange_13 (fun H locs hR hS => ?_)
      exact hend (v := r_8) dJ8_copyOfRange_16 rfl (Or.inr ⟨_, rfl⟩) hf hR hS
section C_J8_copyOfRange_c
variable {p : Program} {l : Launch} {e : Env} {R : Room} {s : State} {m : MethodId} {args : Array Value} {below : List Frame} {meth : Method} {c : Code} {H : Heap} {locs : List Loc} {cells slots : Nat} {Q : State → Prop}
variable {cc : ByteArray} {pc : Nat} {ls : Array Slot} {rest : List Value} {nL : Nat} {E : cw_E} {A : Nat → Prop} {H0 : Heap}
theorem cJ4c_J8_copyOfRange {D : cw_D} {x0 : Option Nat} {x1 : Int32} {x2 : Int32} {r : Option Nat} {D' : cw_D} {nc ns : Nat} (X : ww_C p m c cc nL s args RJ4 lw_all) (hsz : ls.size = nL) (hK : cw_K E A s) (hR : cw_H E A D H) (hS : va_S A s.heap H locs) (hF : 3 ≤ R.frames) (hLo : 146 ≤ R.locals) (hc : cells + nc ≤ R.cells) (hs : slots + ns ≤ R.slots) (hf : fJ8_copyOfRange D x0 x1 x2 = some (r, D', nc, ns)) (hrest : (rest.map fun v => v.category).sum ≤ 8) (hdg : decode cc pc = .ok (.invokestatic 54, 3)) (kk : ∀ (H1 : Heap) (locs1 : List Loc), cw_H E A D' H1 → va_S A s.heap H1 locs1 → W p l e R s m args below meth c H1 locs1 (cells + nc) (slots + ns) Q (F0 m (pc + 3) ls (va_rf r :: rest))) : W p l e R s m args below meth c H locs cells slots Q (F0 m pc ls (.int x2 :: .int x1 :: va_rf x0 :: rest)) :=
  cJ4k_J8_copyOfRange X hsz hK hR hS hF hLo hc hs (metJ8_copyOfRange l _ _ _ _ _ _ _ _ hf) hrest hdg kk
end C_J8_copyOfRange_c
noncomputable def fJ9_canEncode (x0 : Int32) : Option (Int32) :=
  if (255 : Int32) < x0 then some (0 : Int32) else some (1 : Int32)
set_option maxHeartbeats 4000000 in
set_option maxRecDepth 100000 in
theorem metJ9_canEncode (l : Launch) (x0 : Int32) (r : Int32) (hf : fJ9_canEncode x0 = some r) : t3_MetS l yJ9_canEncode cJ9_canEncode 1 (some Jvm.ClassFile.FieldType.boolean) 0 0 [.int x0] r := by
  unfold fJ9_canEncode at hf
  refine t3_startS (own := RJ9) (by decide +kernel) (Nat.le_of_ble_eq_true rfl) ?_
  intro p e s m args below meth c Rm Q X hF hLo hend ls hl hS; have hR : s.heap = s.heap := rfl
  obtain ⟨hx, hb, hml, hown, hts⟩ := id X
  replace hl : lv_has ls 1 [(0, .int x0)] := hl
  refine lv_iload_n hx hb dJ9_canEncode_0 rfl (lv_at hl 0 rfl) ?_
  refine lv_sipush (v := (255 : Int32)) hx hb dJ9_canEncode_1 (by decide) ?_
  refine lv_icmp_gt (tgt := 11) hx hb dJ9_canEncode_4 (by decide) (fun c_1 => ?_) (fun c_1 => ?_)
  · replace hf := ww_ip hf c_1
    refine lv_iconst (v := (0 : Int32)) hx hb dJ9_canEncode_11 (by decide) ?_
    exact hend dJ9_canEncode_12 rfl (by decide) hf hR hS
  · replace hf := ww_in hf c_1
    refine lv_iconst (v := (1 : Int32)) hx hb dJ9_canEncode_7 (by decide) ?_
    refine lv_goto (tgt := 12) hx hb dJ9_canEncode_8 (by decide) ?_
    exact hend dJ9_canEncode_12 rfl (by decide) hf hR hS
section C_J9_canEncode_c
variable {p : Program} {l : Launch} {e : Env} {R : Room} {s : State} {m : MethodId} {args : Array Value} {below : List Frame} {meth : Method} {c : Code} {H : Heap} {locs : List Loc} {cells slots : Nat} {Q : State → Prop}
variable {cc : ByteArray} {pc : Nat} {ls : Array Slot} {rest : List Value} {nL : Nat} {E : cw_E} {A : Nat → Prop} {H0 : Heap}
theorem cJ2c_J9_canEncode {x0 : Int32} {r : Int32} (X : ww_C p m c cc nL s args RJ2 lw_all) (hsz : ls.size = nL) (hF : 1 ≤ R.frames) (hLo : 20 ≤ R.locals) (hc : cells ≤ R.cells) (hs : slots ≤ R.slots) (hf : fJ9_canEncode x0 = some r) (hrest : (rest.map fun v => v.category).sum ≤ 8) (hdg : decode cc pc = .ok (.invokestatic 191, 3)) (kk : W p l e R s m args below meth c H locs cells slots Q (F0 m (pc + 3) ls (.int r :: rest))) : W p l e R s m args below meth c H locs cells slots Q (F0 m pc ls (.int x0 :: rest)) :=
  t3_callS (n := 1) X hsz (As := [.int x0]) (metJ9_canEncode l x0 r hf) (lw_S q503 q504 q144 q505) (by decide +kernel) rfl hF hLo hc hs hrest hdg kk
end C_J9_canEncode_c
noncomputable def fJ9_equals_b1c (D : cw_D) (y0 : Nat) (y1 : Nat) (x2 : Int32) : Option ((Int32) ⊕ (Int32)) :=
  ww_b (cw_ln D y0) (fun r_6 => if r_6 ≤ x2 then ww_x (some (1 : Int32)) else ww_b (cw_xI D 21 y0 x2) (fun r_8 => ww_b (cw_xI D 21 y1 x2) (fun r_9 => if r_8 = r_9 then some (.inl (x2 + (1 : Int32))) else ww_x (some (0 : Int32)))))
noncomputable def fJ9_equals_b1 (D : cw_D) (y0 : Nat) (y1 : Nat) : Int32 → Option ((Int32) ⊕ (Int32)) := fun s9 => fJ9_equals_b1c D y0 y1 s9
noncomputable def fJ9_equals (D : cw_D) (x0 : Option Nat) (x1 : Option Nat) : Option (Int32) :=
  ww_b x0 (fun a_1 => ww_b (cw_ln D a_1) (fun r_2 => ww_b x1 (fun a_3 => ww_b (cw_ln D a_3) (fun r_4 => if r_2 = r_4 then ww_U (fJ9_equals_b1 D a_1 a_3) (0 : Int32) else some (0 : Int32)))))
section C_J9_equals_k
variable {p : Program} {l : Launch} {e : Env} {R : Room} {s : State} {m : MethodId} {args : Array Value} {below : List Frame} {meth : Method} {c : Code} {H : Heap} {locs : List Loc} {cells slots : Nat} {Q : State → Prop}
variable {cc : ByteArray} {pc : Nat} {ls : Array Slot} {rest : List Value} {nL : Nat} {E : cw_E} {A : Nat → Prop} {H0 : Heap}
theorem cJ4k_J9_equals {D : cw_D} {x0 : Option Nat} {x1 : Option Nat} {r : Int32} (X : ww_C p m c cc nL s args RJ4 lw_all) (hsz : ls.size = nL) (hK : cw_K E A s) (hR : cw_H E A D H) (hS : va_S A s.heap H locs) (hF : 1 ≤ R.frames) (hLo : 22 ≤ R.locals) (hc : cells ≤ R.cells) (hs : slots ≤ R.slots) (hM : cw_MetI l yJ9_equals cJ9_equals 3 (some Jvm.ClassFile.FieldType.boolean) 0 0 E A [va_rf x0, va_rf x1] D D r 0 0) (hrest : (rest.map fun v => v.category).sum ≤ 8) (hdg : decode cc pc = .ok (.invokestatic 541, 3)) (kk : ∀ (H1 : Heap) (locs1 : List Loc), cw_H E A D H1 → va_S A s.heap H1 locs1 → W p l e R s m args below meth c H1 locs1 cells slots Q (F0 m (pc + 3) ls (.int r :: rest))) : W p l e R s m args below meth c H locs cells slots Q (F0 m pc ls (va_rf x1 :: va_rf x0 :: rest)) :=
  va_calli (va_runS (As := [va_rf x0, va_rf x1]) (rest := rest) X hM (va_cwS 2 X.2.2.2.2 (lw_S q744 q745 q144 q746) rfl rfl rfl (by decide +kernel) ⟨hF, hLo⟩) (cw_pS hK hR hS) rfl rfl hsz rfl (lv_room hrest) hdg ⟨hc, hs⟩) hS (fun q _ h => h) (fun q h => h) (fun r' u t H1 locs1 ht hvm hw hB hz1 hk1 hS1 => by subst hw; rw [ht] at hB; exact kk H1 locs1 hB hS1)
end C_J9_equals_k
set_option maxHeartbeats 4000000 in
set_option maxRecDepth 100000 in
theorem metJ9_equals (l : Launch) {E : cw_E} {A : Nat → Prop} (D : cw_D) (x0 : Option Nat) (x1 : Option Nat) (r : Int32) (hf : fJ9_equals D x0 x1 = some r) : cw_MetI l yJ9_equals cJ9_equals 3 (some Jvm.ClassFile.FieldType.boolean) 0 0 E A [va_rf x0, va_rf x1] D D r 0 0 := by
  unfold fJ9_equals at hf
  refine cw_sIP (own := RJ9) (by decide +kernel) [(0, va_rf x0), (1, va_rf x1)] ⟨by cases x0 <;> cases x1 <;> exact Nat.le_of_ble_eq_true rfl, by cases x0 <;> cases x1 <;> rfl⟩ ?_
  intro p e s m args below meth c Rm Q X hK hF hLo hin hend ls hl hR hS
  obtain ⟨hx, hb, hml, hown, hts⟩ := id X
  refine cw_aload_n (x := x0) hx hb dJ9_equals_0 rfl (lv_at hl 0 rfl) ?_
  obtain ⟨a_1, e_1, hq⟩ := ww_bS hf; replace hf := hq; clear hq
  subst e_1
  obtain ⟨r_2, h_2, hq⟩ := ww_bS hf; replace hf := hq; clear hq
  refine cw_oln (x := some a_1) X hK hR rfl h_2 dJ9_equals_1 ?_
  refine cw_aload_n (x := x1) hx hb dJ9_equals_2 rfl (lv_at hl 1 rfl) ?_
  obtain ⟨a_3, e_3, hq⟩ := ww_bS hf; replace hf := hq; clear hq
  subst e_3
  obtain ⟨r_4, h_4, hq⟩ := ww_bS hf; replace hf := hq; clear hq
  refine cw_oln (x := some a_3) X hK hR rfl h_4 dJ9_equals_3 ?_
  refine lv_icmp_ne (tgt := 34) hx hb dJ9_equals_4 (by decide) (fun c_5 => ?_) (fun c_5 => ?_)
  · replace hf := ww_in hf c_5
    refine lv_iconst (v := (0 : Int32)) hx hb dJ9_equals_34 (by decide) ?_
    exact hend dJ9_equals_35 rfl (by decide) hf hR hS
  · replace hf := ww_ip hf c_5
    refine lv_iconst (v := (0 : Int32)) hx hb dJ9_equals_7 (by decide) ?_
    refine lv_istore_n (lv' := [(2, .int (0 : Int32)), (0, .ref a_1), (1, .ref a_3)]) hx hb dJ9_equals_8 rfl hl (by decide) rfl (fun ls hl => ?_)
    have hL_1 : ∀ s9 : Int32, ww_U (fJ9_equals_b1 D a_1 a_3) s9 = some r → ∀ (H : Heap) (locs : List Loc) (ls : Array Slot), cw_H E A D H → va_S A s.heap H locs → lv_has ls 3 [(0, .ref a_1), (1, .ref a_3), (2, .int s9)] → W p l e Rm s m args below meth c H locs 0 0 Q (F0 m 9 ls []) := by
      clear hf
      refine ww_ind _ r ?_
      intro s9 z_1 hf hz_1
      obtain ⟨x2, e9⟩ : ∃ q9, q9 = s9 := ⟨_, rfl⟩; subst e9
      replace hf : fJ9_equals_b1c D a_1 a_3 x2 = some z_1 := hf
      unfold fJ9_equals_b1c at hf
      try clear hl
      try clear hS
      try clear hR
      intro H locs ls hR hS hl
      replace hl : lv_has ls 3 [(0, .ref a_1), (1, .ref a_3), (2, .int x2)] := hl
      refine lv_iload_n hx hb dJ9_equals_9 rfl (lv_at hl 2 rfl) ?_
      refine lv_aload_n hx hb dJ9_equals_10 rfl (lv_at hl 0 rfl) ?_
      obtain ⟨r_6, h_6, hq⟩ := ww_bS hf; replace hf := hq; clear hq
      refine cw_oln (x := some a_1) X hK hR rfl h_6 dJ9_equals_11 ?_
      refine lv_icmp_ge (tgt := 32) hx hb dJ9_equals_12 (by decide) (fun c_7 => ?_) (fun c_7 => ?_)
      · replace hf := ww_ip hf c_7
        replace hf := ww_xK hf hz_1
        refine lv_iconst (v := (1 : Int32)) hx hb dJ9_equals_32 (by decide) ?_
        exact hend dJ9_equals_33 rfl (by decide) hf hR hS
      · replace hf := ww_in hf c_7
        refine lv_aload_n hx hb dJ9_equals_15 rfl (lv_at hl 0 rfl) ?_
        refine lv_iload_n hx hb dJ9_equals_16 rfl (lv_at hl 2 rfl) ?_
        obtain ⟨r_8, h_8, hq⟩ := ww_bS hf; replace hf := hq; clear hq
        refine cw_oxI (kd := 21) (x := some a_1) X hK hR (by decide) rfl h_8 dJ9_equals_17 ?_
        refine lv_aload_n hx hb dJ9_equals_18 rfl (lv_at hl 1 rfl) ?_
        refine lv_iload_n hx hb dJ9_equals_19 rfl (lv_at hl 2 rfl) ?_
        obtain ⟨r_9, h_9, hq⟩ := ww_bS hf; replace hf := hq; clear hq
        refine cw_oxI (kd := 21) (x := some a_3) X hK hR (by decide) rfl h_9 dJ9_equals_20 ?_
        refine lv_icmp_eq (tgt := 26) hx hb dJ9_equals_21 (by decide) (fun c_10 => ?_) (fun c_10 => ?_)
        · replace hf := ww_ip hf c_10
          refine lv_iinc (k := 2) (v := x2 + (1 : Int32)) (lv' := [(2, .int (x2 + (1 : Int32))), (0, .ref a_1), (1, .ref a_3)]) hx hb dJ9_equals_26 hl rfl rfl (by decide) rfl (fun ls hl => ?_)
          refine lv_goto (tgt := 9) hx hb dJ9_equals_29 (by decide) ?_
          exact ww_lK hf hz_1 _ _ _ hR hS (lv_sub hl [1, 2, 0] rfl)
        · replace hf := ww_in hf c_10
          replace hf := ww_xK hf hz_1
          refine lv_iconst (v := (0 : Int32)) hx hb dJ9_equals_24 (by decide) ?_
          exact hend dJ9_equals_25 rfl (by decide) hf hR hS
    exact hL_1 (0 : Int32) hf _ _ _ hR hS (lv_sub hl [1, 2, 0] rfl)
section C_J9_equals_c
variable {p : Program} {l : Launch} {e : Env} {R : Room} {s : State} {m : MethodId} {args : Array Value} {below : List Frame} {meth : Method} {c : Code} {H : Heap} {locs : List Loc} {cells slots : Nat} {Q : State → Prop}
variable {cc : ByteArray} {pc : Nat} {ls : Array Slot} {rest : List Value} {nL : Nat} {E : cw_E} {A : Nat → Prop} {H0 : Heap}
theorem cJ4c_J9_equals {D : cw_D} {x0 : Option Nat} {x1 : Option Nat} {r : Int32} (X : ww_C p m c cc nL s args RJ4 lw_all) (hsz : ls.size = nL) (hK : cw_K E A s) (hR : cw_H E A D H) (hS : va_S A s.heap H locs) (hF : 1 ≤ R.frames) (hLo : 22 ≤ R.locals) (hc : cells ≤ R.cells) (hs : slots ≤ R.slots) (hf : fJ9_equals D x0 x1 = some r) (hrest : (rest.map fun v => v.category).sum ≤ 8) (hdg : decode cc pc = .ok (.invokestatic 541, 3)) (kk : ∀ (H1 : Heap) (locs1 : List Loc), cw_H E A D H1 → va_S A s.heap H1 locs1 → W p l e R s m args below meth c H1 locs1 cells slots Q (F0 m (pc + 3) ls (.int r :: rest))) : W p l e R s m args below meth c H locs cells slots Q (F0 m pc ls (va_rf x1 :: va_rf x0 :: rest)) :=
  cJ4k_J9_equals X hsz hK hR hS hF hLo hc hs (metJ9_equals l _ _ _ _ hf) hrest hdg kk
end C_J9_equals_c
noncomputable def fJ9_hashCode (D : cw_D) (x0 : Option Nat) : Option (Int32) :=
  ww_b x0 (fun a_1 => ww_b (cw_ln D a_1) (fun r_2 => if r_2 = 0 then some (0 : Int32) else if r_2 = 1 then ww_b (cw_xI D 21 a_1 (0 : Int32)) (fun r_5 => some (r_5 &&& (255 : Int32))) else ww_b (cw_ln D a_1) (fun r_6 => ww_b (fJ6_vectorizedHashCode D (some a_1) (0 : Int32) r_6 (0 : Int32) (4 : Int32)) (fun r_7 => some r_7))))
section C_J9_hashCode_k
variable {p : Program} {l : Launch} {e : Env} {R : Room} {s : State} {m : MethodId} {args : Array Value} {below : List Frame} {meth : Method} {c : Code} {H : Heap} {locs : List Loc} {cells slots : Nat} {Q : State → Prop}
variable {cc : ByteArray} {pc : Nat} {ls : Array Slot} {rest : List Value} {nL : Nat} {E : cw_E} {A : Nat → Prop} {H0 : Heap}
theorem cJ4k_J9_hashCode {D : cw_D} {x0 : Option Nat} {r : Int32} (X : ww_C p m c cc nL s args RJ4 lw_all) (hsz : ls.size = nL) (hK : cw_K E A s) (hR : cw_H E A D H) (hS : va_S A s.heap H locs) (hF : 3 ≤ R.frames) (hLo : 69 ≤ R.locals) (hc : cells ≤ R.cells) (hs : slots ≤ R.slots) (hM : cw_MetI l yJ9_hashCode cJ9_hashCode 1 (some Jvm.ClassFile.FieldType.int) 2 49 E A [va_rf x0] D D r 0 0) (hrest : (rest.map fun v => v.category).sum ≤ 8) (hdg : decode cc pc = .ok (.invokestatic 628, 3)) (kk : ∀ (H1 : Heap) (locs1 : List Loc), cw_H E A D H1 → va_S A s.heap H1 locs1 → W p l e R s m args below meth c H1 locs1 cells slots Q (F0 m (pc + 3) ls (.int r :: rest))) : W p l e R s m args below meth c H locs cells slots Q (F0 m pc ls (va_rf x0 :: rest)) :=
  va_calli (va_runS (As := [va_rf x0]) (rest := rest) X hM (va_cwS 1 X.2.2.2.2 (lw_S q755 q756 q144 q757) rfl rfl rfl (by decide +kernel) ⟨hF, hLo⟩) (cw_pS hK hR hS) rfl rfl hsz rfl (lv_room hrest) hdg ⟨hc, hs⟩) hS (fun q _ h => h) (fun q h => h) (fun r' u t H1 locs1 ht hvm hw hB hz1 hk1 hS1 => by subst hw; rw [ht] at hB; exact kk H1 locs1 hB hS1)
end C_J9_hashCode_k
set_option maxHeartbeats 4000000 in
set_option maxRecDepth 100000 in
theorem metJ9_hashCode (l : Launch) {E : cw_E} {A : Nat → Prop} (D : cw_D) (x0 : Option Nat) (r : Int32) (hf : fJ9_hashCode D x0 = some r) : cw_MetI l yJ9_hashCode cJ9_hashCode 1 (some Jvm.ClassFile.FieldType.int) 2 49 E A [va_rf x0] D D r 0 0 := by
  unfold fJ9_hashCode at hf
  refine cw_sIP (own := RJ9) (by decide +kernel) [(0, va_rf x0)] ⟨by cases x0 <;> exact Nat.le_of_ble_eq_true rfl, by cases x0 <;> rfl⟩ ?_
  intro p e s m args below meth c Rm Q X hK hF hLo hin hend ls hl hR hS
  obtain ⟨hx, hb, hml, hown, hts⟩ := id X
  refine cw_aload_n (x := x0) hx hb dJ9_hashCode_0 rfl (lv_at hl 0 rfl) ?_
  obtain ⟨a_1, e_1, hq⟩ := ww_bS hf; replace hf := hq; clear hq
  subst e_1
  obtain ⟨r_2, h_2, hq⟩ := ww_bS hf; replace hf := hq; clear hq
  refine cw_oln (x := some a_1) X hK hR rfl h_2 dJ9_hashCode_1 ?_
  refine ww_by (r_2 = 0) (fun c_3 => ?_) (fun c_3 => ?_)
  · replace hf := ww_ip hf c_3
    refine ww_lin (k := 0) (off := 26) (tgt := 28) hx hb dJ9_hashCode_2 c_3 (by decide) (by decide) (by decide) ?_
    refine lv_iconst (v := (0 : Int32)) hx hb dJ9_hashCode_28 (by decide) ?_
    refine lv_goto (tgt := 51) hx hb dJ9_hashCode_29 (by decide) ?_
    exact hend dJ9_hashCode_51 rfl rfl hf hR hS
  replace hf := ww_in hf c_3
  refine ww_by (r_2 = 1) (fun c_4 => ?_) (fun c_4 => ?_)
  · replace hf := ww_ip hf c_4
    refine ww_lin (k := 1) (off := 30) (tgt := 32) hx hb dJ9_hashCode_2 c_4 (by decide) (by decide) (by decide) ?_
    refine lv_aload_n hx hb dJ9_hashCode_32 rfl (lv_at hl 0 rfl) ?_
    refine lv_iconst (v := (0 : Int32)) hx hb dJ9_hashCode_33 (by decide) ?_
    obtain ⟨r_5, h_5, hq⟩ := ww_bS hf; replace hf := hq; clear hq
    refine cw_oxI (kd := 21) (x := some a_1) X hK hR (by decide) rfl h_5 dJ9_hashCode_34 ?_
    refine lv_sipush (v := (255 : Int32)) hx hb dJ9_hashCode_35 (by decide) ?_
    refine lv_iand hx hb dJ9_hashCode_38 ?_
    refine lv_goto (tgt := 51) hx hb dJ9_hashCode_39 (by decide) ?_
    exact hend dJ9_hashCode_51 rfl rfl hf hR hS
  replace hf := ww_in hf c_4
  refine ww_lout (tgt := 42) [0, 1] hx hb dJ9_hashCode_2 ⟨c_3, c_4, trivial⟩ (by decide) (by decide) (by decide) ?_
  refine lv_aload_n hx hb dJ9_hashCode_42 rfl (lv_at hl 0 rfl) ?_
  refine lv_iconst (v := (0 : Int32)) hx hb dJ9_hashCode_43 (by decide) ?_
  refine lv_aload_n hx hb dJ9_hashCode_44 rfl (lv_at hl 0 rfl) ?_
  obtain ⟨r_6, h_6, hq⟩ := ww_bS hf; replace hf := hq; clear hq
  refine cw_oln (x := some a_1) X hK hR rfl h_6 dJ9_hashCode_45 ?_
  refine lv_iconst (v := (0 : Int32)) hx hb dJ9_hashCode_46 (by decide) ?_
  refine lv_iconst (v := (4 : Int32)) hx hb dJ9_hashCode_47 (by decide) ?_
  obtain ⟨r_7, h_7, hq⟩ := ww_bS hf; replace hf := hq; clear hq
  refine cJ9c_J6_vectorizedHashCode (x0 := (some a_1)) X hl.1 hK hR hS (Nat.le_trans (Nat.le_of_ble_eq_true rfl) hF) (Nat.le_trans (Nat.le_of_ble_eq_true rfl) hLo) (Nat.zero_le _) (Nat.zero_le _) h_7 (cw_rest (Nat.le_of_ble_eq_true rfl)) dJ9_hashCode_48 (fun H locs hR hS => ?_)
  exact hend dJ9_hashCode_51 rfl rfl hf hR hS
section C_J9_hashCode_c
variable {p : Program} {l : Launch} {e : Env} {R : Room} {s : State} {m : MethodId} {args : Array Value} {below : List Frame} {meth : Method} {c : Code} {H : Heap} {locs : List Loc} {cells slots : Nat} {Q : State → Prop}
variable {cc : ByteArray} {pc : Nat} {ls : Array Slot} {rest : List Value} {nL : Nat} {E : cw_E} {A : Nat → Prop} {H0 : Heap}
theorem cJ4c_J9_hashCode {D : cw_D} {x0 : Option Nat} {r : Int32} (X : ww_C p m c cc nL s args RJ4 lw_all) (hsz : ls.size = nL) (hK : cw_K E A s) (hR : cw_H E A D H) (hS : va_S A s.heap H locs) (hF : 3 ≤ R.frames) (hLo : 69 ≤ R.locals) (hc : cells ≤ R.cells) (hs : slots ≤ R.slots) (hf : fJ9_hashCode D x0 = some r) (hrest : (rest.map fun v => v.category).sum ≤ 8) (hdg : decode cc pc = .ok (.invokestatic 628, 3)) (kk : ∀ (H1 : Heap) (locs1 : List Loc), cw_H E A D H1 → va_S A s.heap H1 locs1 → W p l e R s m args below meth c H1 locs1 cells slots Q (F0 m (pc + 3) ls (.int r :: rest))) : W p l e R s m args below meth c H locs cells slots Q (F0 m pc ls (va_rf x0 :: rest)) :=
  cJ4k_J9_hashCode X hsz hK hR hS hF hLo hc hs (metJ9_hashCode l _ _ _ hf) hrest hdg kk
end C_J9_hashCode_c
noncomputable def fJ4_checkIndex (D : cw_D) (x0 : Int32) (x1 : Int32) : Option (cw_D) :=
  ww_b (some (ww_R D.1 112)) (fun r_1 => ww_b (fJ10_checkIndex D x0 x1 r_1) (fun r_2 => some D))
section C_J4_checkIndex_k
variable {p : Program} {l : Launch} {e : Env} {R : Room} {s : State} {m : MethodId} {args : Array Value} {below : List Frame} {meth : Method} {c : Code} {H : Heap} {locs : List Loc} {cells slots : Nat} {Q : State → Prop}
variable {cc : ByteArray} {pc : Nat} {ls : Array Slot} {rest : List Value} {nL : Nat} {E : cw_E} {A : Nat → Prop} {H0 : Heap}
theorem cJ9k_J4_checkIndex {D : cw_D} {x0 : Int32} {x1 : Int32} {D' : cw_D} (X : ww_C p m c cc nL s args RJ9 lw_all) (hsz : ls.size = nL) (hK : cw_K E A s) (hR : cw_H E A D H) (hS : va_S A s.heap H locs) (hF : 2 ≤ R.frames) (hLo : 43 ≤ R.locals) (hc : cells ≤ R.cells) (hs : slots ≤ R.slots) (hM : cw_MetV l yJ4_checkIndex cJ4_checkIndex 2 1 22 E A [.int x0, .int x1] D D' 0 0) (hrest : (rest.map fun v => v.category).sum ≤ 8) (hdg : decode cc pc = .ok (.invokestatic 9, 3)) (kk : ∀ (H1 : Heap) (locs1 : List Loc), cw_H E A D' H1 → va_S A s.heap H1 locs1 → W p l e R s m args below meth c H1 locs1 cells slots Q (F0 m (pc + 3) ls (rest))) : W p l e R s m args below meth c H locs cells slots Q (F0 m pc ls (.int x1 :: .int x0 :: rest)) :=
  va_callv (va_runS (As := [.int x0, .int x1]) (rest := rest) X hM (va_cwS 2 X.2.2.2.2 (lw_S q1623 q546 q138 q547) rfl rfl rfl (by decide +kernel) ⟨hF, hLo⟩) (cw_pS hK hR hS) rfl rfl hsz rfl (lv_room hrest) hdg ⟨hc, hs⟩) hS (fun q _ h => h) (fun q h => h) (fun u t H1 locs1 ht hvm hw hB hz1 hk1 hS1 => by rw [ht] at hB; exact kk H1 locs1 hB hS1)
end C_J4_checkIndex_k
set_option maxHeartbeats 4000000 in
set_option maxRecDepth 100000 in
theorem metJ4_checkIndex (l : Launch) {E : cw_E} {A : Nat → Prop} (D : cw_D) (x0 : Int32) (x1 : Int32) (D' : cw_D) (hf : fJ4_checkIndex D x0 x1 = some D') : cw_MetV l yJ4_checkIndex cJ4_checkIndex 2 1 22 E A [.int x0, .int x1] D D' 0 0 := by
  unfold fJ4_checkIndex at hf
  refine cw_sVD (own := RJ4) (by decide +kernel) [(0, .int x0), (1, .int x1)] ⟨Nat.le_of_ble_eq_true rfl, rfl⟩ ?_
  intro p e s m args below meth c Rm Q X hK hF hLo hin hend ls hl hR hS
  obtain ⟨hx, hb, hml, hown, hts⟩ := id X
  refine lv_iload_n hx hb dJ4_checkIndex_0 rfl (lv_at hl 0 rfl) ?_
  refine lv_iload_n hx hb dJ4_checkIndex_1 rfl (lv_at hl 1 rfl) ?_
  obtain ⟨r_1, h_1, hq⟩ := ww_bS hf; replace hf := hq; clear hq
  refine cw_getsR (j := 112) X hR hS (by decide) h_1 hK.ct.2.2.2.2.1 q525 dJ4_checkIndex_2 ?_
  obtain ⟨r_2, h_2, hq⟩ := ww_bS hf; replace hf := hq; clear hq
  refine cJ4c_J10_checkIndex (x2 := r_1) X hl.1 hK hR hS (Nat.le_trans (Nat.le_of_ble_eq_true rfl) hF) (Nat.le_trans (Nat.le_of_ble_eq_true rfl) hLo) (Nat.zero_le _) (Nat.zero_le _) h_2 (cw_rest (Nat.le_of_ble_eq_true rfl)) dJ4_checkIndex_5 (fun H locs hR hS => ?_)
  refine lv_pop hx hb dJ4_checkIndex_8 rfl ?_
  exact hend dJ4_checkIndex_9 hf hR hS
section C_J4_checkIndex_c
variable {p : Program} {l : Launch} {e : Env} {R : Room} {s : State} {m : MethodId} {args : Array Value} {below : List Frame} {meth : Method} {c : Code} {H : Heap} {locs : List Loc} {cells slots : Nat} {Q : State → Prop}
variable {cc : ByteArray} {pc : Nat} {ls : Array Slot} {rest : List Value} {nL : Nat} {E : cw_E} {A : Nat → Prop} {H0 : Heap}
theorem cJ9c_J4_checkIndex {D : cw_D} {x0 : Int32} {x1 : Int32} {D' : cw_D} (X : ww_C p m c cc nL s args RJ9 lw_all) (hsz : ls.size = nL) (hK : cw_K E A s) (hR : cw_H E A D H) (hS : va_S A s.heap H locs) (hF : 2 ≤ R.frames) (hLo : 43 ≤ R.locals) (hc : cells ≤ R.cells) (hs : slots ≤ R.slots) (hf : fJ4_checkIndex D x0 x1 = some D') (hrest : (rest.map fun v => v.category).sum ≤ 8) (hdg : decode cc pc = .ok (.invokestatic 9, 3)) (kk : ∀ (H1 : Heap) (locs1 : List Loc), cw_H E A D' H1 → va_S A s.heap H1 locs1 → W p l e R s m args below meth c H1 locs1 cells slots Q (F0 m (pc + 3) ls (rest))) : W p l e R s m args below meth c H locs cells slots Q (F0 m pc ls (.int x1 :: .int x0 :: rest)) :=
  cJ9k_J4_checkIndex X hsz hK hR hS hF hLo hc hs (metJ4_checkIndex l _ _ _ _ hf) hrest hdg kk
end C_J4_checkIndex_c
noncomputable def fJ9_charAt (D : cw_D) (x0 : Option Nat) (x1 : Int32) : Option (Int32 × cw_D) :=
  ww_b x0 (fun a_1 => ww_b (cw_ln D a_1) (fun r_2 => ww_b (fJ4_checkIndex D x1 r_2) (fun D_3 => ww_b (cw_xI D_3 21 a_1 x1) (fun r_4 => ww_g (ww_nw .char (((r_4 &&& (255 : Int32)).toUInt32 % 65536).toInt32)) (some (((r_4 &&& (255 : Int32)).toUInt32 % 65536).toInt32, D_3))))))
section C_J9_charAt_k
variable {p : Program} {l : Launch} {e : Env} {R : Room} {s : State} {m : MethodId} {args : Array Value} {below : List Frame} {meth : Method} {c : Code} {H : Heap} {locs : List Loc} {cells slots : Nat} {Q : State → Prop}
variable {cc : ByteArray} {pc : Nat} {ls : Array Slot} {rest : List Value} {nL : Nat} {E : cw_E} {A : Nat → Prop} {H0 : Heap}
theorem cJ4k_J9_charAt {D : cw_D} {x0 : Option Nat} {x1 : Int32} {r : Int32} {D' : cw_D} (X : ww_C p m c cc nL s args RJ4 lw_all) (hsz : ls.size = nL) (hK : cw_K E A s) (hR : cw_H E A D H) (hS : va_S A s.heap H locs) (hF : 3 ≤ R.frames) (hLo : 64 ≤ R.locals) (hc : cells ≤ R.cells) (hs : slots ≤ R.slots) (hM : cw_MetI l yJ9_charAt cJ9_charAt 2 (some Jvm.ClassFile.FieldType.char) 2 43 E A [va_rf x0, .int x1] D D' r 0 0) (hrest : (rest.map fun v => v.category).sum ≤ 8) (hdg : decode cc pc = .ok (.invokestatic 495, 3)) (kk : ∀ (H1 : Heap) (locs1 : List Loc), cw_H E A D' H1 → va_S A s.heap H1 locs1 → W p l e R s m args below meth c H1 locs1 cells slots Q (F0 m (pc + 3) ls (.int r :: rest))) : W p l e R s m args below meth c H locs cells slots Q (F0 m pc ls (.int x1 :: va_rf x0 :: rest)) :=
  va_calli (va_runS (As := [va_rf x0, .int x1]) (rest := rest) X hM (va_cwS 2 X.2.2.2.2 (lw_S q1620 q1621 q144 q1622) rfl rfl rfl (by decide +kernel) ⟨hF, hLo⟩) (cw_pS hK hR hS) rfl rfl hsz rfl (lv_room hrest) hdg ⟨hc, hs⟩) hS (fun q _ h => h) (fun q h => h) (fun r' u t H1 locs1 ht hvm hw hB hz1 hk1 hS1 => by subst hw; rw [ht] at hB; exact kk H1 locs1 hB hS1)
end C_J9_charAt_k
set_option maxHeartbeats 4000000 in
set_option maxRecDepth 100000 in
theorem metJ9_charAt (l : Launch) {E : cw_E} {A : Nat → Prop} (D : cw_D) (x0 : Option Nat) (x1 : Int32) (r : Int32) (D' : cw_D) (hf : fJ9_charAt D x0 x1 = some (r, D')) : cw_MetI l yJ9_charAt cJ9_charAt 2 (some Jvm.ClassFile.FieldType.char) 2 43 E A [va_rf x0, .int x1] D D' r 0 0 := by
  unfold fJ9_charAt at hf
  refine cw_sID (own := RJ9) (by decide +kernel) [(0, va_rf x0), (1, .int x1)] ⟨by cases x0 <;> exact Nat.le_of_ble_eq_true rfl, by cases x0 <;> rfl⟩ ?_
  intro p e s m args below meth c Rm Q X hK hF hLo hin hend ls hl hR hS
  obtain ⟨hx, hb, hml, hown, hts⟩ := id X
  refine lv_iload_n hx hb dJ9_charAt_0 rfl (lv_at hl 1 rfl) ?_
  refine cw_aload_n (x := x0) hx hb dJ9_charAt_1 rfl (lv_at hl 0 rfl) ?_
  obtain ⟨a_1, e_1, hq⟩ := ww_bS hf; replace hf := hq; clear hq
  subst e_1
  obtain ⟨r_2, h_2, hq⟩ := ww_bS hf; replace hf := hq; clear hq
  refine cw_oln (x := some a_1) X hK hR rfl h_2 dJ9_charAt_2 ?_
  obtain ⟨D_3, h_3, hq⟩ := ww_bS hf; replace hf := hq; clear hq
  refine cJ9c_J4_checkIndex X hl.1 hK hR hS (Nat.le_trans (Nat.le_of_ble_eq_true rfl) hF) (Nat.le_trans (Nat.le_of_ble_eq_true rfl) hLo) (Nat.zero_le _) (Nat.zero_le _) h_3 (cw_rest (Nat.le_of_ble_eq_true rfl)) dJ9_charAt_3 (fun H locs hR hS => ?_)
  refine lv_aload_n hx hb dJ9_charAt_6 rfl (lv_at hl 0 rfl) ?_
  refine lv_iload_n hx hb dJ9_charAt_7 rfl (lv_at hl 1 rfl) ?_
  obtain ⟨r_4, h_4, hq⟩ := ww_bS hf; replace hf := hq; clear hq
  refine cw_oxI (kd := 21) (x := some a_1) X hK hR (by decide) rfl h_4 dJ9_charAt_8 ?_
  refine lv_sipush (v := (255 : Int32)) hx hb dJ9_charAt_9 (by decide) ?_
  refine lv_iand hx hb dJ9_charAt_12 ?_
  refine lv_i2c (v := ((r_4 &&& (255 : Int32)).toUInt32 % 65536).toInt32) hx hb dJ9_charAt_13 rfl ?_
  obtain ⟨h_5, hq⟩ := ww_gS hf; replace hf := hq; clear hq
  exact hend dJ9_charAt_14 rfl (ww_nwC h_5) hf hR hS
section C_J9_charAt_c
variable {p : Program} {l : Launch} {e : Env} {R : Room} {s : State} {m : MethodId} {args : Array Value} {below : List Frame} {meth : Method} {c : Code} {H : Heap} {locs : List Loc} {cells slots : Nat} {Q : State → Prop}
variable {cc : ByteArray} {pc : Nat} {ls : Array Slot} {rest : List Value} {nL : Nat} {E : cw_E} {A : Nat → Prop} {H0 : Heap}
theorem cJ4c_J9_charAt {D : cw_D} {x0 : Option Nat} {x1 : Int32} {r : Int32} {D' : cw_D} (X : ww_C p m c cc nL s args RJ4 lw_all) (hsz : ls.size = nL) (hK : cw_K E A s) (hR : cw_H E A D H) (hS : va_S A s.heap H locs) (hF : 3 ≤ R.frames) (hLo : 64 ≤ R.locals) (hc : cells ≤ R.cells) (hs : slots ≤ R.slots) (hf : fJ9_charAt D x0 x1 = some (r, D')) (hrest : (rest.map fun v => v.category).sum ≤ 8) (hdg : decode cc pc = .ok (.invokestatic 495, 3)) (kk : ∀ (H1 : Heap) (locs1 : List Loc), cw_H E A D' H1 → va_S A s.heap H1 locs1 → W p l e R s m args below meth c H1 locs1 cells slots Q (F0 m (pc + 3) ls (.int r :: rest))) : W p l e R s m args below meth c H locs cells slots Q (F0 m pc ls (.int x1 :: va_rf x0 :: rest)) :=
  cJ4k_J9_charAt X hsz hK hR hS hF hLo hc hs (metJ9_charAt l _ _ _ _ _ hf) hrest hdg kk
end C_J9_charAt_c
noncomputable def fJ2_getValue (D : cw_D) (a0 : Nat) : Option (Option Nat) :=
  ww_b (cw_gR D [4] a0 0) (fun r_1 => some r_1)
section C_J2_getValue_k
variable {p : Program} {l : Launch} {e : Env} {R : Room} {s : State} {m : MethodId} {args : Array Value} {below : List Frame} {meth : Method} {c : Code} {H : Heap} {locs : List Loc} {cells slots : Nat} {Q : State → Prop}
variable {cc : ByteArray} {pc : Nat} {ls : Array Slot} {rest : List Value} {nL : Nat} {E : cw_E} {A : Nat → Prop} {H0 : Heap}
theorem cJ4k_J2_getValue {D : cw_D} {a0 : Nat} {r : Option Nat} (X : ww_C p m c cc nL s args RJ4 lw_all) (hsz : ls.size = nL) (hK : cw_K E A s) (hR : cw_H E A D H) (hS : va_S A s.heap H locs) (hF : 1 ≤ R.frames) (hLo : 20 ≤ R.locals) (hc : cells ≤ R.cells) (hs : slots ≤ R.slots) (hkd : cw_kd D [4] (some a0) = true) (hM : cw_MetQ l yJ2_getValue cJ2_getValue 1 (some (Jvm.ClassFile.FieldType.array Jvm.ClassFile.FieldType.byte)) 0 0 E A [.ref a0] D D r 0 0) (hrest : (rest.map fun v => v.category).sum ≤ 8) (hdg : decode cc pc = .ok (.invokevirtual 552, 3)) (kk : ∀ (H1 : Heap) (locs1 : List Loc), cw_H E A D H1 → va_S A s.heap H1 locs1 → W p l e R s m args below meth c H1 locs1 cells slots Q (F0 m (pc + 3) ls (va_rf r :: rest))) : W p l e R s m args below meth c H locs cells slots Q (F0 m pc ls (.ref a0 :: rest)) :=
  va_callq (va_runV (C := RJ3) (As := []) (rest := rest) (b := a0) X hM (cw_cwV 0 X.2.2.2.2 q564 q565 q567 q136 q568 rfl rfl rfl (by decide +kernel) ⟨hF, hLo⟩) (cw_pV hK hR hS (cw_rc (k := 4) (C := RJ3) (T := TJ3) (N := 4) rfl (by decide) hK hR hkd)) rfl rfl hsz rfl (lv_room hrest) hdg ⟨hc, hs⟩) hS (fun q _ h => h) (fun q h => h) (fun r' u t H1 locs1 ht hvm hw hB hz1 hk1 hS1 => by subst hw; rw [ht] at hB; exact kk H1 locs1 hB hS1)
end C_J2_getValue_k
set_option maxHeartbeats 4000000 in
set_option maxRecDepth 100000 in
theorem metJ2_getValue (l : Launch) {E : cw_E} {A : Nat → Prop} (D : cw_D) (a0 : Nat) (r : Option Nat) (hf : fJ2_getValue D a0 = some r) : cw_MetQ l yJ2_getValue cJ2_getValue 1 (some (Jvm.ClassFile.FieldType.array Jvm.ClassFile.FieldType.byte)) 0 0 E A [.ref a0] D D r 0 0 := by
  unfold fJ2_getValue at hf
  refine cw_sQP (own := RJ2) (by decide +kernel) [(0, .ref a0)] ⟨Nat.le_of_ble_eq_true rfl, rfl⟩ ?_
  intro p e s m args below meth c Rm Q X hK hF hLo hin hend ls hl hR hS
  obtain ⟨hx, hb, hml, hown, hts⟩ := id X
  refine lv_aload_n hx hb dJ2_getValue_0 rfl (lv_at hl 0 rfl) ?_
  obtain ⟨r_1, h_1, hq⟩ := ww_bS hf; replace hf := hq; clear hq
  refine cJ2g_15 X hK hR h_1 dJ2_getValue_1 ?_
  exact hend (v := r_1) dJ2_getValue_4 rfl (Or.inr ⟨_, rfl⟩) hf hR hS
section C_J2_getValue_c
variable {p : Program} {l : Launch} {e : Env} {R : Room} {s : State} {m : MethodId} {args : Array Value} {below : List Frame} {meth : Method} {c : Code} {H : Heap} {locs : List Loc} {cells slots : Nat} {Q : State → Prop}
variable {cc : ByteArray} {pc : Nat} {ls : Array Slot} {rest : List Value} {nL : Nat} {E : cw_E} {A : Nat → Prop} {H0 : Heap}
theorem cJ4c_J2_getValue {D : cw_D} {a0 : Nat} {r : Option Nat} (X : ww_C p m c cc nL s args RJ4 lw_all) (hsz : ls.size = nL) (hK : cw_K E A s) (hR : cw_H E A D H) (hS : va_S A s.heap H locs) (hF : 1 ≤ R.frames) (hLo : 20 ≤ R.locals) (hc : cells ≤ R.cells) (hs : slots ≤ R.slots) (hkd : cw_kd D [4] (some a0) = true) (hf : fJ2_getValue D a0 = some r) (hrest : (rest.map fun v => v.category).sum ≤ 8) (hdg : decode cc pc = .ok (.invokevirtual 552, 3)) (kk : ∀ (H1 : Heap) (locs1 : List Loc), cw_H E A D H1 → va_S A s.heap H1 locs1 → W p l e R s m args below meth c H1 locs1 cells slots Q (F0 m (pc + 3) ls (va_rf r :: rest))) : W p l e R s m args below meth c H locs cells slots Q (F0 m pc ls (.ref a0 :: rest)) :=
  cJ4k_J2_getValue X hsz hK hR hS hF hLo hc hs hkd (metJ2_getValue l _ _ _ hf) hrest hdg kk
end C_J2_getValue_c
noncomputable def fJ2_length (D : cw_D) (a0 : Nat) : Option (Int32) :=
  ww_b (cw_gI D [4] a0 3) (fun r_1 => some r_1)
section C_J2_length_k
variable {p : Program} {l : Launch} {e : Env} {R : Room} {s : State} {m : MethodId} {args : Array Value} {below : List Frame} {meth : Method} {c : Code} {H : Heap} {locs : List Loc} {cells slots : Nat} {Q : State → Prop}
variable {cc : ByteArray} {pc : Nat} {ls : Array Slot} {rest : List Value} {nL : Nat} {E : cw_E} {A : Nat → Prop} {H0 : Heap}
theorem cJ3k_J2_length {D : cw_D} {a0 : Nat} {r : Int32} (X : ww_C p m c cc nL s args RJ3 lw_all) (hsz : ls.size = nL) (hK : cw_K E A s) (hR : cw_H E A D H) (hS : va_S A s.heap H locs) (hF : 1 ≤ R.frames) (hLo : 20 ≤ R.locals) (hc : cells ≤ R.cells) (hs : slots ≤ R.slots) (hkd : cw_kd D [4] (some a0) = true) (hM : cw_MetI l yJ2_length cJ2_length 1 (some Jvm.ClassFile.FieldType.int) 0 0 E A [.ref a0] D D r 0 0) (hrest : (rest.map fun v => v.category).sum ≤ 8) (hdg : decode cc pc = .ok (.invokespecial 343, 3)) (kk : ∀ (H1 : Heap) (locs1 : List Loc), cw_H E A D H1 → va_S A s.heap H1 locs1 → W p l e R s m args below meth c H1 locs1 cells slots Q (F0 m (pc + 3) ls (.int r :: rest))) : W p l e R s m args below meth c H locs cells slots Q (F0 m pc ls (.ref a0 :: rest)) :=
  va_calli (va_runSU (C := RJ3) (As := []) (rest := rest) (b := a0) (cw_cls (k := 4) (C := RJ3) (T := TJ3) (N := 4) rfl hK) X hM (va_cwSU 0 X.2.2.2.2 (cw_SU q575 q571 q455 q570 q136 q576) rfl rfl rfl (by decide +kernel) ⟨hF, hLo⟩) (cw_pV hK hR hS (cw_rc (k := 4) (C := RJ3) (T := TJ3) (N := 4) rfl (by decide) hK hR hkd)) rfl rfl hsz rfl (lv_room hrest) hdg ⟨hc, hs⟩) hS (fun q _ h => h) (fun q h => h) (fun r' u t H1 locs1 ht hvm hw hB hz1 hk1 hS1 => by subst hw; rw [ht] at hB; exact kk H1 locs1 hB hS1)
end C_J2_length_k
set_option maxHeartbeats 4000000 in
set_option maxRecDepth 100000 in
theorem metJ2_length (l : Launch) {E : cw_E} {A : Nat → Prop} (D : cw_D) (a0 : Nat) (r : Int32) (hf : fJ2_length D a0 = some r) : cw_MetI l yJ2_length cJ2_length 1 (some Jvm.ClassFile.FieldType.int) 0 0 E A [.ref a0] D D r 0 0 := by
  unfold fJ2_length at hf
  refine cw_sIP (own := RJ2) (by decide +kernel) [(0, .ref a0)] ⟨Nat.le_of_ble_eq_true rfl, rfl⟩ ?_
  intro p e s m args below meth c Rm Q X hK hF hLo hin hend ls hl hR hS
  obtain ⟨hx, hb, hml, hown, hts⟩ := id X
  refine lv_aload_n hx hb dJ2_length_0 rfl (lv_at hl 0 rfl) ?_
  obtain ⟨r_1, h_1, hq⟩ := ww_bS hf; replace hf := hq; clear hq
  refine cJ2g_79 X hK hR h_1 dJ2_length_1 ?_
  exact hend dJ2_length_4 rfl rfl hf hR hS
section C_J2_length_c
variable {p : Program} {l : Launch} {e : Env} {R : Room} {s : State} {m : MethodId} {args : Array Value} {below : List Frame} {meth : Method} {c : Code} {H : Heap} {locs : List Loc} {cells slots : Nat} {Q : State → Prop}
variable {cc : ByteArray} {pc : Nat} {ls : Array Slot} {rest : List Value} {nL : Nat} {E : cw_E} {A : Nat → Prop} {H0 : Heap}
theorem cJ3c_J2_length {D : cw_D} {a0 : Nat} {r : Int32} (X : ww_C p m c cc nL s args RJ3 lw_all) (hsz : ls.size = nL) (hK : cw_K E A s) (hR : cw_H E A D H) (hS : va_S A s.heap H locs) (hF : 1 ≤ R.frames) (hLo : 20 ≤ R.locals) (hc : cells ≤ R.cells) (hs : slots ≤ R.slots) (hkd : cw_kd D [4] (some a0) = true) (hf : fJ2_length D a0 = some r) (hrest : (rest.map fun v => v.category).sum ≤ 8) (hdg : decode cc pc = .ok (.invokespecial 343, 3)) (kk : ∀ (H1 : Heap) (locs1 : List Loc), cw_H E A D H1 → va_S A s.heap H1 locs1 → W p l e R s m args below meth c H1 locs1 cells slots Q (F0 m (pc + 3) ls (.int r :: rest))) : W p l e R s m args below meth c H locs cells slots Q (F0 m pc ls (.ref a0 :: rest)) :=
  cJ3k_J2_length X hsz hK hR hS hF hLo hc hs hkd (metJ2_length l _ _ _ hf) hrest hdg kk
end C_J2_length_c
noncomputable def fJ3_length (D : cw_D) (a0 : Nat) : Option (Int32) :=
  ww_g (cw_kd D [4] (some a0)) (ww_b (fJ2_length D a0) (fun r_2 => some r_2))
set_option maxHeartbeats 4000000 in
set_option maxRecDepth 100000 in
theorem metJ3_length (l : Launch) {E : cw_E} {A : Nat → Prop} (D : cw_D) (a0 : Nat) (r : Int32) (hf : fJ3_length D a0 = some r) : cw_MetI l yJ3_length cJ3_length 1 (some Jvm.ClassFile.FieldType.int) 1 20 E A [.ref a0] D D r 0 0 := by
  unfold fJ3_length at hf
  refine cw_sIP (own := RJ3) (by decide +kernel) [(0, .ref a0)] ⟨Nat.le_of_ble_eq_true rfl, rfl⟩ ?_
  intro p e s m args below meth c Rm Q X hK hF hLo hin hend ls hl hR hS
  obtain ⟨hx, hb, hml, hown, hts⟩ := id X
  refine lv_aload_n hx hb dJ3_length_0 rfl (lv_at hl 0 rfl) ?_
  obtain ⟨h_1, hq⟩ := ww_gS hf; replace hf := hq; clear hq
  obtain ⟨r_2, h_2, hq⟩ := ww_bS hf; replace hf := hq; clear hq
  refine cJ3c_J2_length X hl.1 hK hR hS (Nat.le_trans (Nat.le_of_ble_eq_true rfl) hF) (Nat.le_trans (Nat.le_of_ble_eq_true rfl) hLo) (Nat.zero_le _) (Nat.zero_le _) h_1 h_2 (cw_rest (Nat.le_of_ble_eq_true rfl)) dJ3_length_1 (fun H locs hR hS => ?_)
  exact hend dJ3_length_4 rfl rfl hf hR hS
section C_J3_length_c
variable {p : Program} {l : Launch} {e : Env} {R : Room} {s : State} {m : MethodId} {args : Array Value} {below : List Frame} {meth : Method} {c : Code} {H : Heap} {locs : List Loc} {cells slots : Nat} {Q : State → Prop}
variable {cc : ByteArray} {pc : Nat} {ls : Array Slot} {rest : List Value} {nL : Nat} {E : cw_E} {A : Nat → Prop} {H0 : Heap}
theorem cJ4c_J3_length {D : cw_D} {a0 : Nat} {r : Int32} (X : ww_C p m c cc nL s args RJ4 lw_all) (hsz : ls.size = nL) (hK : cw_K E A s) (hR : cw_H E A D H) (hS : va_S A s.heap H locs) (hF : 2 ≤ R.frames) (hLo : 40 ≤ R.locals) (hc : cells ≤ R.cells) (hs : slots ≤ R.slots) (hkd : cw_kd D [4] (some a0) = true) (hf : fJ3_length D a0 = some r) (hrest : (rest.map fun v => v.category).sum ≤ 8) (hdg : decode cc pc = .ok (.invokevirtual 549, 3)) (kk : ∀ (H1 : Heap) (locs1 : List Loc), cw_H E A D H1 → va_S A s.heap H1 locs1 → W p l e R s m args below meth c H1 locs1 cells slots Q (F0 m (pc + 3) ls (.int r :: rest))) : W p l e R s m args below meth c H locs cells slots Q (F0 m pc ls (.ref a0 :: rest)) :=
  va_calli (va_runU (C := RJ3) (owner := "java/lang/AbstractStringBuilder") (x := ⟨"java/lang/AbstractStringBuilder", "length", "()I"⟩) (As := []) (rest := rest) (b := a0) X (metJ3_length l _ _ _ hf) (va_cwO (owner := "java/lang/AbstractStringBuilder") 0 X.2.2.2.2 (cw_OV q569 q571 q570 q572 q573 q137 q574) rfl rfl rfl q576 (by decide +kernel) ⟨hF, hLo⟩) (cw_pV hK hR hS (cw_rc (k := 4) (C := RJ3) (T := TJ3) (N := 4) rfl (by decide) hK hR hkd)) rfl rfl hsz rfl (lv_room hrest) hdg ⟨hc, hs⟩) hS (fun q _ h => h) (fun q h => h) (fun r' u t H1 locs1 ht hvm hw hB hz1 hk1 hS1 => by subst hw; rw [ht] at hB; exact kk H1 locs1 hB hS1)
end C_J3_length_c
noncomputable def fJ2_isLatin1 (D : cw_D) (a0 : Nat) : Option (Int32) :=
  if (1 : Int32) = 0 then some (0 : Int32) else ww_b (cw_gI D [4] a0 1) (fun r_2 => if r_2 = 0 then some (1 : Int32) else some (0 : Int32))
section C_J2_isLatin1_k
variable {p : Program} {l : Launch} {e : Env} {R : Room} {s : State} {m : MethodId} {args : Array Value} {below : List Frame} {meth : Method} {c : Code} {H : Heap} {locs : List Loc} {cells slots : Nat} {Q : State → Prop}
variable {cc : ByteArray} {pc : Nat} {ls : Array Slot} {rest : List Value} {nL : Nat} {E : cw_E} {A : Nat → Prop} {H0 : Heap}
theorem cJ2k_J2_isLatin1 {D : cw_D} {a0 : Nat} {r : Int32} (X : ww_C p m c cc nL s args RJ2 lw_all) (hsz : ls.size = nL) (hK : cw_K E A s) (hR : cw_H E A D H) (hS : va_S A s.heap H locs) (hF : 1 ≤ R.frames) (hLo : 20 ≤ R.locals) (hc : cells ≤ R.cells) (hs : slots ≤ R.slots) (hkd : cw_kd D [4] (some a0) = true) (hM : cw_MetI l yJ2_isLatin1 cJ2_isLatin1 1 (some Jvm.ClassFile.FieldType.boolean) 0 0 E A [.ref a0] D D r 0 0) (hrest : (rest.map fun v => v.category).sum ≤ 8) (hdg : decode cc pc = .ok (.invokevirtual 83, 3)) (kk : ∀ (H1 : Heap) (locs1 : List Loc), cw_H E A D H1 → va_S A s.heap H1 locs1 → W p l e R s m args below meth c H1 locs1 cells slots Q (F0 m (pc + 3) ls (.int r :: rest))) : W p l e R s m args below meth c H locs cells slots Q (F0 m pc ls (.ref a0 :: rest)) :=
  va_calli (va_runV (C := RJ3) (As := []) (rest := rest) (b := a0) X hM (cw_cwV 0 X.2.2.2.2 q498 q499 q501 q136 q502 rfl rfl rfl (by decide +kernel) ⟨hF, hLo⟩) (cw_pV hK hR hS (cw_rc (k := 4) (C := RJ3) (T := TJ3) (N := 4) rfl (by decide) hK hR hkd)) rfl rfl hsz rfl (lv_room hrest) hdg ⟨hc, hs⟩) hS (fun q _ h => h) (fun q h => h) (fun r' u t H1 locs1 ht hvm hw hB hz1 hk1 hS1 => by subst hw; rw [ht] at hB; exact kk H1 locs1 hB hS1)
theorem cJ4k_J2_isLatin1 {D : cw_D} {a0 : Nat} {r : Int32} (X : ww_C p m c cc nL s args RJ4 lw_all) (hsz : ls.size = nL) (hK : cw_K E A s) (hR : cw_H E A D H) (hS : va_S A s.heap H locs) (hF : 1 ≤ R.frames) (hLo : 20 ≤ R.locals) (hc : cells ≤ R.cells) (hs : slots ≤ R.slots) (hkd : cw_kd D [4] (some a0) = true) (hM : cw_MetI l yJ2_isLatin1 cJ2_isLatin1 1 (some Jvm.ClassFile.FieldType.boolean) 0 0 E A [.ref a0] D D r 0 0) (hrest : (rest.map fun v => v.category).sum ≤ 8) (hdg : decode cc pc = .ok (.invokevirtual 1047, 3)) (kk : ∀ (H1 : Heap) (locs1 : List Loc), cw_H E A D H1 → va_S A s.heap H1 locs1 → W p l e R s m args below meth c H1 locs1 cells slots Q (F0 m (pc + 3) ls (.int r :: rest))) : W p l e R s m args below meth c H locs cells slots Q (F0 m pc ls (.ref a0 :: rest)) :=
  va_calli (va_runV (C := RJ3) (As := []) (rest := rest) (b := a0) X hM (cw_cwV 0 X.2.2.2.2 q577 q499 q501 q136 q502 rfl rfl rfl (by decide +kernel) ⟨hF, hLo⟩) (cw_pV hK hR hS (cw_rc (k := 4) (C := RJ3) (T := TJ3) (N := 4) rfl (by decide) hK hR hkd)) rfl rfl hsz rfl (lv_room hrest) hdg ⟨hc, hs⟩) hS (fun q _ h => h) (fun q h => h) (fun r' u t H1 locs1 ht hvm hw hB hz1 hk1 hS1 => by subst hw; rw [ht] at hB; exact kk H1 locs1 hB hS1)
end C_J2_isLatin1_k
set_option maxHeartbeats 4000000 in
set_option maxRecDepth 100000 in
theorem metJ2_isLatin1 (l : Launch) {E : cw_E} {A : Nat → Prop} (D : cw_D) (a0 : Nat) (r : Int32) (hf : fJ2_isLatin1 D a0 = some r) : cw_MetI l yJ2_isLatin1 cJ2_isLatin1 1 (some Jvm.ClassFile.FieldType.boolean) 0 0 E A [.ref a0] D D r 0 0 := by
  unfold fJ2_isLatin1 at hf
  refine cw_sIP (own := RJ2) (by decide +kernel) [(0, .ref a0)] ⟨Nat.le_of_ble_eq_true rfl, rfl⟩ ?_
  intro p e s m args below meth c Rm Q X hK hF hLo hin hend ls hl hR hS
  obtain ⟨hx, hb, hml, hown, hts⟩ := id X
  refine va_gets hx hb hK.ct.2.1 hS hown (hts _ q434) (fun _ h9 => h9) dJ2_isLatin1_0 ?_
  refine lv_if_eq (tgt := 17) hx hb dJ2_isLatin1_3 (by decide) (fun c_1 => ?_) (fun c_1 => ?_)
  · replace hf := ww_ip hf c_1
    refine lv_iconst (v := (0 : Int32)) hx hb dJ2_isLatin1_17 (by decide) ?_
    exact hend dJ2_isLatin1_18 rfl (by decide) hf hR hS
  · replace hf := ww_in hf c_1
    refine lv_aload_n hx hb dJ2_isLatin1_6 rfl (lv_at hl 0 rfl) ?_
    obtain ⟨r_2, h_2, hq⟩ := ww_bS hf; replace hf := hq; clear hq
    refine cJ2g_22 X hK hR h_2 dJ2_isLatin1_7 ?_
    refine lv_if_ne (tgt := 17) hx hb dJ2_isLatin1_10 (by decide) (fun c_3 => ?_) (fun c_3 => ?_)
    · replace hf := ww_in hf c_3
      refine lv_iconst (v := (0 : Int32)) hx hb dJ2_isLatin1_17 (by decide) ?_
      exact hend dJ2_isLatin1_18 rfl (by decide) hf hR hS
    · replace hf := ww_ip hf c_3
      refine lv_iconst (v := (1 : Int32)) hx hb dJ2_isLatin1_13 (by decide) ?_
      refine lv_goto (tgt := 18) hx hb dJ2_isLatin1_14 (by decide) ?_
      exact hend dJ2_isLatin1_18 rfl (by decide) hf hR hS
section C_J2_isLatin1_c
variable {p : Program} {l : Launch} {e : Env} {R : Room} {s : State} {m : MethodId} {args : Array Value} {below : List Frame} {meth : Method} {c : Code} {H : Heap} {locs : List Loc} {cells slots : Nat} {Q : State → Prop}
variable {cc : ByteArray} {pc : Nat} {ls : Array Slot} {rest : List Value} {nL : Nat} {E : cw_E} {A : Nat → Prop} {H0 : Heap}
theorem cJ2c_J2_isLatin1 {D : cw_D} {a0 : Nat} {r : Int32} (X : ww_C p m c cc nL s args RJ2 lw_all) (hsz : ls.size = nL) (hK : cw_K E A s) (hR : cw_H E A D H) (hS : va_S A s.heap H locs) (hF : 1 ≤ R.frames) (hLo : 20 ≤ R.locals) (hc : cells ≤ R.cells) (hs : slots ≤ R.slots) (hkd : cw_kd D [4] (some a0) = true) (hf : fJ2_isLatin1 D a0 = some r) (hrest : (rest.map fun v => v.category).sum ≤ 8) (hdg : decode cc pc = .ok (.invokevirtual 83, 3)) (kk : ∀ (H1 : Heap) (locs1 : List Loc), cw_H E A D H1 → va_S A s.heap H1 locs1 → W p l e R s m args below meth c H1 locs1 cells slots Q (F0 m (pc + 3) ls (.int r :: rest))) : W p l e R s m args below meth c H locs cells slots Q (F0 m pc ls (.ref a0 :: rest)) :=
  cJ2k_J2_isLatin1 X hsz hK hR hS hF hLo hc hs hkd (metJ2_isLatin1 l _ _ _ hf) hrest hdg kk
theorem cJ4c_J2_isLatin1 {D : cw_D} {a0 : Nat} {r : Int32} (X : ww_C p m c cc nL s args RJ4 lw_all) (hsz : ls.size = nL) (hK : cw_K E A s) (hR : cw_H E A D H) (hS : va_S A s.heap H locs) (hF : 1 ≤ R.frames) (hLo : 20 ≤ R.locals) (hc : cells ≤ R.cells) (hs : slots ≤ R.slots) (hkd : cw_kd D [4] (some a0) = true) (hf : fJ2_isLatin1 D a0 = some r) (hrest : (rest.map fun v => v.category).sum ≤ 8) (hdg : decode cc pc = .ok (.invokevirtual 1047, 3)) (kk : ∀ (H1 : Heap) (locs1 : List Loc), cw_H E A D H1 → va_S A s.heap H1 locs1 → W p l e R s m args below meth c H1 locs1 cells slots Q (F0 m (pc + 3) ls (.int r :: rest))) : W p l e R s m args below meth c H locs cells slots Q (F0 m pc ls (.ref a0 :: rest)) :=
  cJ4k_J2_isLatin1 X hsz hK hR hS hF hLo hc hs hkd (metJ2_isLatin1 l _ _ _ hf) hrest hdg kk
end C_J2_isLatin1_c
noncomputable def fJ4_init_2 (D : cw_D) (a0 : Nat) (x1 : Option Nat) (x2 : Option Nat) : Option (cw_D × Nat × Nat) :=
  ww_b x1 (fun a_1 => ww_g (cw_kd D [4] (some a_1)) (ww_b (fJ2_getValue D a_1) (fun r_3 => ww_g (cw_kd D [4] (some a_1)) (ww_b (fJ3_length D a_1) (fun r_5 => ww_g (cw_kd D [4] (some a_1)) (ww_b (fJ2_isLatin1 D a_1) (fun r_7 => if r_7 = 0 then none else ww_b (cw_p D [3] a0 1 (.int (0 : Int32))) (fun D_9 => ww_b4 (fJ8_copyOfRange D_9 r_3 (0 : Int32) r_5) (fun r_10 D_10 c_10 k_10 => ww_b (cw_p D_10 [3] a0 0 (va_rf r_10)) (fun D_11 => some (D_11, (0 + c_10), (0 + k_10))))))))))))
section C_J4_init_2_k
variable {p : Program} {l : Launch} {e : Env} {R : Room} {s : State} {m : MethodId} {args : Array Value} {below : List Frame} {meth : Method} {c : Code} {H : Heap} {locs : List Loc} {cells slots : Nat} {Q : State → Prop}
variable {cc : ByteArray} {pc : Nat} {ls : Array Slot} {rest : List Value} {nL : Nat} {E : cw_E} {A : Nat → Prop} {H0 : Heap}
theorem cJ4k_J4_init_2 {D : cw_D} {a0 : Nat} {x1 : Option Nat} {x2 : Option Nat} {D' : cw_D} {nc ns : Nat} (X : ww_C p m c cc nL s args RJ4 lw_all) (hsz : ls.size = nL) (hK : cw_K E A s) (hR : cw_H E A D H) (hS : va_S A s.heap H locs) (hF : 4 ≤ R.frames) (hLo : 170 ≤ R.locals) (hc : cells + nc ≤ R.cells) (hs : slots + ns ≤ R.slots) (hM : cw_MetV l yJ4_init_2 cJ4_init_2 5 3 146 E A [.ref a0, va_rf x1, va_rf x2] D D' nc ns) (hrest : (rest.map fun v => v.category).sum ≤ 8) (hdg : decode cc pc = .ok (.invokespecial 489, 3)) (kk : ∀ (H1 : Heap) (locs1 : List Loc), cw_H E A D' H1 → va_S A s.heap H1 locs1 → W p l e R s m args below meth c H1 locs1 (cells + nc) (slots + ns) Q (F0 m (pc + 3) ls (rest))) : W p l e R s m args below meth c H locs cells slots Q (F0 m pc ls (va_rf x2 :: va_rf x1 :: .ref a0 :: rest)) :=
  va_callv (va_runI (As := [va_rf x1, va_rf x2]) (rest := rest) (b := a0) X hM (cwI 2 X.2.2.2.2 (lw_meth q562) rfl rfl rfl (X.2.2.2.2 _ q138) (X.2.2.2.2 _ q560) (X.2.2.2.2 _ q561) rfl (by decide +kernel) ⟨hF, hLo⟩) (cw_pS hK hR hS) rfl rfl hsz rfl (lv_room hrest) hdg ⟨hc, hs⟩) hS (fun q _ h => h) (fun q h => h) (fun u t H1 locs1 ht hvm hw hB hz1 hk1 hS1 => by rw [ht] at hB; exact kk H1 locs1 hB hS1)
end C_J4_init_2_k
set_option maxHeartbeats 4000000 in
set_option maxRecDepth 100000 in
theorem metJ4_init_2 (l : Launch) {E : cw_E} {A : Nat → Prop} (D : cw_D) (a0 : Nat) (x1 : Option Nat) (x2 : Option Nat) (D' : cw_D) (nc ns : Nat) (hf : fJ4_init_2 D a0 x1 x2 = some (D', nc, ns)) : cw_MetV l yJ4_init_2 cJ4_init_2 5 3 146 E A [.ref a0, va_rf x1, va_rf x2] D D' nc ns := by
  unfold fJ4_init_2 at hf
  refine cw_sVN (own := RJ4) (by decide +kernel) [(0, .ref a0), (1, va_rf x1), (2, va_rf x2)] ⟨by cases x1 <;> cases x2 <;> exact Nat.le_of_ble_eq_true rfl, by cases x1 <;> cases x2 <;> rfl⟩ ?_
  intro p e s m args below meth c Rm Q X hK hF hLo hC hin hend ls hl hR hS
  obtain ⟨hx, hb, hml, hown, hts⟩ := id X
  have hm9 : 0 ≤ nc ∧ 0 ≤ ns := ⟨Nat.zero_le _, Nat.zero_le _⟩
  refine lv_aload_n hx hb dJ4_init_2_0 rfl (lv_at hl 0 rfl) ?_
  refine W.objInit hx hb hown (hts _ q563) (hts _ q164) (hts _ q165) rfl (by rw [hml]; exact hl.1) rfl dJ4_init_2_1 (Nat.le_trans (Nat.le_of_ble_eq_true rfl) hF) (Nat.le_trans (Nat.le_of_ble_eq_true rfl) hLo) ?_
  refine W.eq (g2 := F0 m 4 ls []) rfl ?_
  refine cw_aload_n (x := x1) hx hb dJ4_init_2_4 rfl (lv_at hl 1 rfl) ?_
  obtain ⟨a_1, e_1, hq⟩ := ww_bS hf; replace hf := hq; clear hq
  subst e_1
  obtain ⟨h_2, hq⟩ := ww_gS hf; replace hf := hq; clear hq
  obtain ⟨r_3, h_3, hq⟩ := ww_bS hf; replace hf := hq; clear hq
  refine cJ4c_J2_getValue X hl.1 hK hR hS (Nat.le_trans (Nat.le_of_ble_eq_true rfl) hF) (Nat.le_trans (Nat.le_of_ble_eq_true rfl) hLo) (Nat.le_trans hm9.1 hC.1) (Nat.le_trans hm9.2 hC.2) h_2 h_3 (cw_rest (Nat.le_of_ble_eq_true rfl)) dJ4_init_2_5 (fun H locs hR hS => ?_)
  refine cw_astore_n (x := r_3) (lv' := [(3, va_rf r_3), (0, .ref a0), (1, .ref a_1), (2, va_rf x2)]) hx hb dJ4_init_2_8 rfl hl (by decide) (by cases x2 <;> rfl) (fun ls hl => ?_)
  refine lv_aload_n hx hb dJ4_init_2_9 rfl (lv_at hl 2 rfl) ?_
  obtain ⟨h_4, hq⟩ := ww_gS hf; replace hf := hq; clear hq
  obtain ⟨r_5, h_5, hq⟩ := ww_bS hf; replace hf := hq; clear hq
  refine cJ4c_J3_length X hl.1 hK hR hS (Nat.le_trans (Nat.le_of_ble_eq_true rfl) hF) (Nat.le_trans (Nat.le_of_ble_eq_true rfl) hLo) (Nat.le_trans hm9.1 hC.1) (Nat.le_trans hm9.2 hC.2) h_4 h_5 (cw_rest (Nat.le_of_ble_eq_true rfl)) dJ4_init_2_10 (fun H locs hR hS => ?_)
  refine lv_istore (lv' := [(4, .int r_5), (3, va_rf r_3), (0, .ref a0), (1, .ref a_1), (2, va_rf x2)]) hx hb dJ4_init_2_13 hl (by decide) (by cases r_3 <;> rfl) (fun ls hl => ?_)
  refine lv_aload_n hx hb dJ4_init_2_15 rfl (lv_at hl 3 rfl) ?_
  obtain ⟨h_6, hq⟩ := ww_gS hf; replace hf := hq; clear hq
  obtain ⟨r_7, h_7, hq⟩ := ww_bS hf; replace hf := hq; clear hq
  refine cJ4c_J2_isLatin1 X hl.1 hK hR hS (Nat.le_trans (Nat.le_of_ble_eq_true rfl) hF) (Nat.le_trans (Nat.le_of_ble_eq_true rfl) hLo) (Nat.le_trans hm9.1 hC.1) (Nat.le_trans hm9.2 hC.2) h_6 h_7 (cw_rest (Nat.le_of_ble_eq_true rfl)) dJ4_init_2_16 (fun H locs hR hS => ?_)
  refine lv_if_eq (tgt := 41) hx hb dJ4_init_2_19 (by decide) (fun c_8 => ?_) (fun c_8 => ?_)
  · replace hf := ww_ip hf c_8
    cases hf
  · replace hf := ww_in hf c_8
    refine lv_aload_n hx hb dJ4_init_2_22 rfl (lv_at hl 2 rfl) ?_
    refine lv_iconst (v := (0 : Int32)) hx hb dJ4_init_2_23 (by decide) ?_
    obtain ⟨D_9, h_9, hq⟩ := ww_bS hf; replace hf := hq; clear hq
    refine cJ4p_15 X hK hR hS h_9 dJ4_init_2_24 hin (fun H locs hR hS => ?_)
    refine lv_aload_n hx hb dJ4_init_2_27 rfl (lv_at hl 2 rfl) ?_
    refine cw_aload_n (x := r_3) hx hb dJ4_init_2_28 rfl (lv_at hl 1 rfl) ?_
    refine lv_iconst (v := (0 : Int32)) hx hb dJ4_init_2_29 (by decide) ?_
    refine lv_iload hx hb dJ4_init_2_30 (lv_at hl 0 rfl) ?_
    obtain ⟨r_10, D_10, c_10, k_10, h_10, hq⟩ := ww_b4S hf; replace hf := hq; clear hq
    have hm9 : (0 + c_10) ≤ nc ∧ (0 + k_10) ≤ ns := by
      obtain ⟨D_11, h_11, hq⟩ := ww_bS hf; replace hf := hq; clear hq
      have e9 := hf
      simp only [Option.some.injEq, Prod.mk.injEq] at e9
      omega
    refine cJ4c_J8_copyOfRange (x0 := r_3) X hl.1 hK hR hS (Nat.le_trans (Nat.le_of_ble_eq_true rfl) hF) (Nat.le_trans (Nat.le_of_ble_eq_true rfl) hLo) (Nat.le_trans hm9.1 hC.1) (Nat.le_trans hm9.2 hC.2) h_10 (cw_rest (Nat.le_of_ble_eq_true rfl)) dJ4_init_2_32 (fun H locs hR hS => ?_)
    obtain ⟨D_11, h_11, hq⟩ := ww_bS hf; replace hf := hq; clear hq
    refine cJ4p_9 (v := r_10) X hK hR hS h_11 dJ4_init_2_35 hin (fun H locs hR hS => ?_)
    refine lv_goto (tgt := 97) hx hb dJ4_init_2_38 (by decide) ?_
    exact hend dJ4_init_2_97 hf hR hS
section C_J4_init_2_c
variable {p : Program} {l : Launch} {e : Env} {R : Room} {s : State} {m : MethodId} {args : Array Value} {below : List Frame} {meth : Method} {c : Code} {H : Heap} {locs : List Loc} {cells slots : Nat} {Q : State → Prop}
variable {cc : ByteArray} {pc : Nat} {ls : Array Slot} {rest : List Value} {nL : Nat} {E : cw_E} {A : Nat → Prop} {H0 : Heap}
theorem cJ4c_J4_init_2 {D : cw_D} {a0 : Nat} {x1 : Option Nat} {x2 : Option Nat} {D' : cw_D} {nc ns : Nat} (X : ww_C p m c cc nL s args RJ4 lw_all) (hsz : ls.size = nL) (hK : cw_K E A s) (hR : cw_H E A D H) (hS : va_S A s.heap H locs) (hF : 4 ≤ R.frames) (hLo : 170 ≤ R.locals) (hc : cells + nc ≤ R.cells) (hs : slots + ns ≤ R.slots) (hf : fJ4_init_2 D a0 x1 x2 = some (D', nc, ns)) (hrest : (rest.map fun v => v.category).sum ≤ 8) (hdg : decode cc pc = .ok (.invokespecial 489, 3)) (kk : ∀ (H1 : Heap) (locs1 : List Loc), cw_H E A D' H1 → va_S A s.heap H1 locs1 → W p l e R s m args below meth c H1 locs1 (cells + nc) (slots + ns) Q (F0 m (pc + 3) ls (rest))) : W p l e R s m args below meth c H locs cells slots Q (F0 m pc ls (va_rf x2 :: va_rf x1 :: .ref a0 :: rest)) :=
  cJ4k_J4_init_2 X hsz hK hR hS hF hLo hc hs (metJ4_init_2 l _ _ _ _ _ _ _ hf) hrest hdg kk
end C_J4_init_2_c
noncomputable def fJ4_init (D : cw_D) (a0 : Nat) (x1 : Option Nat) : Option (cw_D × Nat × Nat) :=
  ww_b3 (fJ4_init_2 D a0 x1 none) (fun D_1 c_1 k_1 => some (D_1, (0 + c_1), (0 + k_1)))
section C_J4_init_k
variable {p : Program} {l : Launch} {e : Env} {R : Room} {s : State} {m : MethodId} {args : Array Value} {below : List Frame} {meth : Method} {c : Code} {H : Heap} {locs : List Loc} {cells slots : Nat} {Q : State → Prop}
variable {cc : ByteArray} {pc : Nat} {ls : Array Slot} {rest : List Value} {nL : Nat} {E : cw_E} {A : Nat → Prop} {H0 : Heap}
theorem cJ3k_J4_init {D : cw_D} {a0 : Nat} {x1 : Option Nat} {D' : cw_D} {nc ns : Nat} (X : ww_C p m c cc nL s args RJ3 lw_all) (hsz : ls.size = nL) (hK : cw_K E A s) (hR : cw_H E A D H) (hS : va_S A s.heap H locs) (hF : 5 ≤ R.frames) (hLo : 191 ≤ R.locals) (hc : cells + nc ≤ R.cells) (hs : slots + ns ≤ R.slots) (hM : cw_MetV l yJ4_init cJ4_init 2 4 170 E A [.ref a0, va_rf x1] D D' nc ns) (hrest : (rest.map fun v => v.category).sum ≤ 8) (hdg : decode cc pc = .ok (.invokespecial 137, 3)) (kk : ∀ (H1 : Heap) (locs1 : List Loc), cw_H E A D' H1 → va_S A s.heap H1 locs1 → W p l e R s m args below meth c H1 locs1 (cells + nc) (slots + ns) Q (F0 m (pc + 3) ls (rest))) : W p l e R s m args below meth c H locs cells slots Q (F0 m pc ls (va_rf x1 :: .ref a0 :: rest)) :=
  va_callv (va_runI (As := [va_rf x1]) (rest := rest) (b := a0) X hM (cwI 1 X.2.2.2.2 (lw_meth q559) rfl rfl rfl (X.2.2.2.2 _ q138) (X.2.2.2.2 _ q557) (X.2.2.2.2 _ q558) rfl (by decide +kernel) ⟨hF, hLo⟩) (cw_pS hK hR hS) rfl rfl hsz rfl (lv_room hrest) hdg ⟨hc, hs⟩) hS (fun q _ h => h) (fun q h => h) (fun u t H1 locs1 ht hvm hw hB hz1 hk1 hS1 => by rw [ht] at hB; exact kk H1 locs1 hB hS1)
end C_J4_init_k
set_option maxHeartbeats 4000000 in
set_option maxRecDepth 100000 in
theorem metJ4_init (l : Launch) {E : cw_E} {A : Nat → Prop} (D : cw_D) (a0 : Nat) (x1 : Option Nat) (D' : cw_D) (nc ns : Nat) (hf : fJ4_init D a0 x1 = some (D', nc, ns)) : cw_MetV l yJ4_init cJ4_init 2 4 170 E A [.ref a0, va_rf x1] D D' nc ns := by
  unfold fJ4_init at hf
  refine cw_sVN (own := RJ4) (by decide +kernel) [(0, .ref a0), (1, va_rf x1)] ⟨by cases x1 <;> exact Nat.le_of_ble_eq_true rfl, by cases x1 <;> rfl⟩ ?_
  intro p e s m args below meth c Rm Q X hK hF hLo hC hin hend ls hl hR hS
  obtain ⟨hx, hb, hml, hown, hts⟩ := id X
  have hm9 : 0 ≤ nc ∧ 0 ≤ ns := ⟨Nat.zero_le _, Nat.zero_le _⟩
  refine lv_aload_n hx hb dJ4_init_0 rfl (lv_at hl 0 rfl) ?_
  refine cw_aload_n (x := x1) hx hb dJ4_init_1 rfl (lv_at hl 1 rfl) ?_
  refine lv_null hx hb dJ4_init_2 ?_
  obtain ⟨D_1, c_1, k_1, h_1, hq⟩ := ww_b3S hf; replace hf := hq; clear hq
  have hm9 : (0 + c_1) ≤ nc ∧ (0 + k_1) ≤ ns := by
    have e9 := hf
    simp only [Option.some.injEq, Prod.mk.injEq] at e9
    omega
  refine cJ4c_J4_init_2 (x1 := x1) (x2 := none) X hl.1 hK hR hS (Nat.le_trans (Nat.le_of_ble_eq_true rfl) hF) (Nat.le_trans (Nat.le_of_ble_eq_true rfl) hLo) (Nat.le_trans hm9.1 hC.1) (Nat.le_trans hm9.2 hC.2) h_1 (cw_rest (Nat.le_of_ble_eq_true rfl)) dJ4_init_3 (fun H locs hR hS => ?_)
  exact hend dJ4_init_6 hf hR hS
section C_J4_init_c
variable {p : Program} {l : Launch} {e : Env} {R : Room} {s : State} {m : MethodId} {args : Array Value} {below : List Frame} {meth : Method} {c : Code} {H : Heap} {locs : List Loc} {cells slots : Nat} {Q : State → Prop}
variable {cc : ByteArray} {pc : Nat} {ls : Array Slot} {rest : List Value} {nL : Nat} {E : cw_E} {A : Nat → Prop} {H0 : Heap}
theorem cJ3c_J4_init {D : cw_D} {a0 : Nat} {x1 : Option Nat} {D' : cw_D} {nc ns : Nat} (X : ww_C p m c cc nL s args RJ3 lw_all) (hsz : ls.size = nL) (hK : cw_K E A s) (hR : cw_H E A D H) (hS : va_S A s.heap H locs) (hF : 5 ≤ R.frames) (hLo : 191 ≤ R.locals) (hc : cells + nc ≤ R.cells) (hs : slots + ns ≤ R.slots) (hf : fJ4_init D a0 x1 = some (D', nc, ns)) (hrest : (rest.map fun v => v.category).sum ≤ 8) (hdg : decode cc pc = .ok (.invokespecial 137, 3)) (kk : ∀ (H1 : Heap) (locs1 : List Loc), cw_H E A D' H1 → va_S A s.heap H1 locs1 → W p l e R s m args below meth c H1 locs1 (cells + nc) (slots + ns) Q (F0 m (pc + 3) ls (rest))) : W p l e R s m args below meth c H locs cells slots Q (F0 m pc ls (va_rf x1 :: .ref a0 :: rest)) :=
  cJ3k_J4_init X hsz hK hR hS hF hLo hc hs (metJ4_init l _ _ _ _ _ _ hf) hrest hdg kk
end C_J4_init_c
noncomputable def fJ4_coder (D : cw_D) (a0 : Nat) : Option (Int32) :=
  if (1 : Int32) = 0 then ww_g (ww_nw .byte (1 : Int32)) (some (1 : Int32)) else ww_b (cw_gI D [3] a0 1) (fun r_3 => ww_g (ww_nw .byte r_3) (some r_3))
section C_J4_coder_k
variable {p : Program} {l : Launch} {e : Env} {R : Room} {s : State} {m : MethodId} {args : Array Value} {below : List Frame} {meth : Method} {c : Code} {H : Heap} {locs : List Loc} {cells slots : Nat} {Q : State → Prop}
variable {cc : ByteArray} {pc : Nat} {ls : Array Slot} {rest : List Value} {nL : Nat} {E : cw_E} {A : Nat → Prop} {H0 : Heap}
theorem cJ2k_J4_coder {D : cw_D} {a0 : Nat} {r : Int32} (X : ww_C p m c cc nL s args RJ2 lw_all) (hsz : ls.size = nL) (hK : cw_K E A s) (hR : cw_H E A D H) (hS : va_S A s.heap H locs) (hF : 1 ≤ R.frames) (hLo : 20 ≤ R.locals) (hc : cells ≤ R.cells) (hs : slots ≤ R.slots) (hkd : cw_kd D [3] (some a0) = true) (hM : cw_MetI l yJ4_coder cJ4_coder 1 (some Jvm.ClassFile.FieldType.byte) 0 0 E A [.ref a0] D D r 0 0) (hrest : (rest.map fun v => v.category).sum ≤ 8) (hdg : decode cc pc = .ok (.invokevirtual 40, 3)) (kk : ∀ (H1 : Heap) (locs1 : List Loc), cw_H E A D H1 → va_S A s.heap H1 locs1 → W p l e R s m args below meth c H1 locs1 cells slots Q (F0 m (pc + 3) ls (.int r :: rest))) : W p l e R s m args below meth c H locs cells slots Q (F0 m pc ls (.ref a0 :: rest)) :=
  va_calli (va_runV (C := RJ4) (As := []) (rest := rest) (b := a0) X hM (cwV 0 X.2.2.2.2 (lw_V q1547 q631 q632 q138 q633) rfl rfl rfl (by decide +kernel) ⟨hF, hLo⟩) (cw_pV hK hR hS (cw_rc (k := 3) (C := RJ4) (T := TJ4) (N := 4) rfl (by decide) hK hR hkd)) rfl rfl hsz rfl (lv_room hrest) hdg ⟨hc, hs⟩) hS (fun q _ h => h) (fun q h => h) (fun r' u t H1 locs1 ht hvm hw hB hz1 hk1 hS1 => by subst hw; rw [ht] at hB; exact kk H1 locs1 hB hS1)
theorem cJ4k_J4_coder {D : cw_D} {a0 : Nat} {r : Int32} (X : ww_C p m c cc nL s args RJ4 lw_all) (hsz : ls.size = nL) (hK : cw_K E A s) (hR : cw_H E A D H) (hS : va_S A s.heap H locs) (hF : 1 ≤ R.frames) (hLo : 20 ≤ R.locals) (hc : cells ≤ R.cells) (hs : slots ≤ R.slots) (hkd : cw_kd D [3] (some a0) = true) (hM : cw_MetI l yJ4_coder cJ4_coder 1 (some Jvm.ClassFile.FieldType.byte) 0 0 E A [.ref a0] D D r 0 0) (hrest : (rest.map fun v => v.category).sum ≤ 8) (hdg : decode cc pc = .ok (.invokevirtual 335, 3)) (kk : ∀ (H1 : Heap) (locs1 : List Loc), cw_H E A D H1 → va_S A s.heap H1 locs1 → W p l e R s m args below meth c H1 locs1 cells slots Q (F0 m (pc + 3) ls (.int r :: rest))) : W p l e R s m args below meth c H locs cells slots Q (F0 m pc ls (.ref a0 :: rest)) :=
  va_calli (va_runV (C := RJ4) (As := []) (rest := rest) (b := a0) X hM (cwV 0 X.2.2.2.2 (lw_V q630 q631 q632 q138 q633) rfl rfl rfl (by decide +kernel) ⟨hF, hLo⟩) (cw_pV hK hR hS (cw_rc (k := 3) (C := RJ4) (T := TJ4) (N := 4) rfl (by decide) hK hR hkd)) rfl rfl hsz rfl (lv_room hrest) hdg ⟨hc, hs⟩) hS (fun q _ h => h) (fun q h => h) (fun r' u t H1 locs1 ht hvm hw hB hz1 hk1 hS1 => by subst hw; rw [ht] at hB; exact kk H1 locs1 hB hS1)
end C_J4_coder_k
set_option maxHeartbeats 4000000 in
set_option maxRecDepth 100000 in
theorem metJ4_coder (l : Launch) {E : cw_E} {A : Nat → Prop} (D : cw_D) (a0 : Nat) (r : Int32) (hf : fJ4_coder D a0 = some r) : cw_MetI l yJ4_coder cJ4_coder 1 (some Jvm.ClassFile.FieldType.byte) 0 0 E A [.ref a0] D D r 0 0 := by
  unfold fJ4_coder at hf
  refine cw_sIP (own := RJ4) (by decide +kernel) [(0, .ref a0)] ⟨Nat.le_of_ble_eq_true rfl, rfl⟩ ?_
  intro p e s m args below meth c Rm Q X hK hF hLo hin hend ls hl hR hS
  obtain ⟨hx, hb, hml, hown, hts⟩ := id X
  refine va_gets hx hb hK.ct.2.1 hS hown (hts _ q587) (fun _ h9 => h9) dJ4_coder_0 ?_
  refine lv_if_eq (tgt := 13) hx hb dJ4_coder_3 (by decide) (fun c_1 => ?_) (fun c_1 => ?_)
  · replace hf := ww_ip hf c_1
    refine lv_iconst (v := (1 : Int32)) hx hb dJ4_coder_13 (by decide) ?_
    obtain ⟨h_2, hq⟩ := ww_gS hf; replace hf := hq; clear hq
    exact hend dJ4_coder_14 rfl (ww_nwB h_2) hf hR hS
  · replace hf := ww_in hf c_1
    refine lv_aload_n hx hb dJ4_coder_6 rfl (lv_at hl 0 rfl) ?_
    obtain ⟨r_3, h_3, hq⟩ := ww_bS hf; replace hf := hq; clear hq
    refine cJ4g_15 X hK hR h_3 dJ4_coder_7 ?_
    refine lv_goto (tgt := 14) hx hb dJ4_coder_10 (by decide) ?_
    obtain ⟨h_4, hq⟩ := ww_gS hf; replace hf := hq; clear hq
    exact hend dJ4_coder_14 rfl (ww_nwB h_4) hf hR hS
section C_J4_coder_c
variable {p : Program} {l : Launch} {e : Env} {R : Room} {s : State} {m : MethodId} {args : Array Value} {below : List Frame} {meth : Method} {c : Code} {H : Heap} {locs : List Loc} {cells slots : Nat} {Q : State → Prop}
variable {cc : ByteArray} {pc : Nat} {ls : Array Slot} {rest : List Value} {nL : Nat} {E : cw_E} {A : Nat → Prop} {H0 : Heap}
theorem cJ2c_J4_coder {D : cw_D} {a0 : Nat} {r : Int32} (X : ww_C p m c cc nL s args RJ2 lw_all) (hsz : ls.size = nL) (hK : cw_K E A s) (hR : cw_H E A D H) (hS : va_S A s.heap H locs) (hF : 1 ≤ R.frames) (hLo : 20 ≤ R.locals) (hc : cells ≤ R.cells) (hs : slots ≤ R.slots) (hkd : cw_kd D [3] (some a0) = true) (hf : fJ4_coder D a0 = some r) (hrest : (rest.map fun v => v.category).sum ≤ 8) (hdg : decode cc pc = .ok (.invokevirtual 40, 3)) (kk : ∀ (H1 : Heap) (locs1 : List Loc), cw_H E A D H1 → va_S A s.heap H1 locs1 → W p l e R s m args below meth c H1 locs1 cells slots Q (F0 m (pc + 3) ls (.int r :: rest))) : W p l e R s m args below meth c H locs cells slots Q (F0 m pc ls (.ref a0 :: rest)) :=
  cJ2k_J4_coder X hsz hK hR hS hF hLo hc hs hkd (metJ4_coder l _ _ _ hf) hrest hdg kk
theorem cJ4c_J4_coder {D : cw_D} {a0 : Nat} {r : Int32} (X : ww_C p m c cc nL s args RJ4 lw_all) (hsz : ls.size = nL) (hK : cw_K E A s) (hR : cw_H E A D H) (hS : va_S A s.heap H locs) (hF : 1 ≤ R.frames) (hLo : 20 ≤ R.locals) (hc : cells ≤ R.cells) (hs : slots ≤ R.slots) (hkd : cw_kd D [3] (some a0) = true) (hf : fJ4_coder D a0 = some r) (hrest : (rest.map fun v => v.category).sum ≤ 8) (hdg : decode cc pc = .ok (.invokevirtual 335, 3)) (kk : ∀ (H1 : Heap) (locs1 : List Loc), cw_H E A D H1 → va_S A s.heap H1 locs1 → W p l e R s m args below meth c H1 locs1 cells slots Q (F0 m (pc + 3) ls (.int r :: rest))) : W p l e R s m args below meth c H locs cells slots Q (F0 m pc ls (.ref a0 :: rest)) :=
  cJ4k_J4_coder X hsz hK hR hS hF hLo hc hs hkd (metJ4_coder l _ _ _ hf) hrest hdg kk
end C_J4_coder_c
noncomputable def fJ4_length (D : cw_D) (a0 : Nat) : Option (Int32) :=
  ww_b (cw_gR D [3] a0 0) (fun r_1 => ww_b r_1 (fun a_2 => ww_b (cw_ln D a_2) (fun r_3 => ww_g (cw_kd D [3] (some a0)) (ww_b (fJ4_coder D a0) (fun r_5 => some (r_3 >>> (r_5 &&& 31)))))))
section C_J4_length_k
variable {p : Program} {l : Launch} {e : Env} {R : Room} {s : State} {m : MethodId} {args : Array Value} {below : List Frame} {meth : Method} {c : Code} {H : Heap} {locs : List Loc} {cells slots : Nat} {Q : State → Prop}
variable {cc : ByteArray} {pc : Nat} {ls : Array Slot} {rest : List Value} {nL : Nat} {E : cw_E} {A : Nat → Prop} {H0 : Heap}
theorem cJ2k_J4_length {D : cw_D} {a0 : Nat} {r : Int32} (X : ww_C p m c cc nL s args RJ2 lw_all) (hsz : ls.size = nL) (hK : cw_K E A s) (hR : cw_H E A D H) (hS : va_S A s.heap H locs) (hF : 2 ≤ R.frames) (hLo : 40 ≤ R.locals) (hc : cells ≤ R.cells) (hs : slots ≤ R.slots) (hkd : cw_kd D [3] (some a0) = true) (hM : cw_MetI l yJ4_length cJ4_length 1 (some Jvm.ClassFile.FieldType.int) 1 20 E A [.ref a0] D D r 0 0) (hrest : (rest.map fun v => v.category).sum ≤ 8) (hdg : decode cc pc = .ok (.invokevirtual 32, 3)) (kk : ∀ (H1 : Heap) (locs1 : List Loc), cw_H E A D H1 → va_S A s.heap H1 locs1 → W p l e R s m args below meth c H1 locs1 cells slots Q (F0 m (pc + 3) ls (.int r :: rest))) : W p l e R s m args below meth c H locs cells slots Q (F0 m pc ls (.ref a0 :: rest)) :=
  va_calli (va_runV (C := RJ4) (As := []) (rest := rest) (b := a0) X hM (cwV 0 X.2.2.2.2 (lw_V q1538 q627 q628 q138 q629) rfl rfl rfl (by decide +kernel) ⟨hF, hLo⟩) (cw_pV hK hR hS (cw_rc (k := 3) (C := RJ4) (T := TJ4) (N := 4) rfl (by decide) hK hR hkd)) rfl rfl hsz rfl (lv_room hrest) hdg ⟨hc, hs⟩) hS (fun q _ h => h) (fun q h => h) (fun r' u t H1 locs1 ht hvm hw hB hz1 hk1 hS1 => by subst hw; rw [ht] at hB; exact kk H1 locs1 hB hS1)
theorem cJ4k_J4_length {D : cw_D} {a0 : Nat} {r : Int32} (X : ww_C p m c cc nL s args RJ4 lw_all) (hsz : ls.size = nL) (hK : cw_K E A s) (hR : cw_H E A D H) (hS : va_S A s.heap H locs) (hF : 2 ≤ R.frames) (hLo : 40 ≤ R.locals) (hc : cells ≤ R.cells) (hs : slots ≤ R.slots) (hkd : cw_kd D [3] (some a0) = true) (hM : cw_MetI l yJ4_length cJ4_length 1 (some Jvm.ClassFile.FieldType.int) 1 20 E A [.ref a0] D D r 0 0) (hrest : (rest.map fun v => v.category).sum ≤ 8) (hdg : decode cc pc = .ok (.invokevirtual 505, 3)) (kk : ∀ (H1 : Heap) (locs1 : List Loc), cw_H E A D H1 → va_S A s.heap H1 locs1 → W p l e R s m args below meth c H1 locs1 cells slots Q (F0 m (pc + 3) ls (.int r :: rest))) : W p l e R s m args below meth c H locs cells slots Q (F0 m pc ls (.ref a0 :: rest)) :=
  va_calli (va_runV (C := RJ4) (As := []) (rest := rest) (b := a0) X hM (cwV 0 X.2.2.2.2 (lw_V q626 q627 q628 q138 q629) rfl rfl rfl (by decide +kernel) ⟨hF, hLo⟩) (cw_pV hK hR hS (cw_rc (k := 3) (C := RJ4) (T := TJ4) (N := 4) rfl (by decide) hK hR hkd)) rfl rfl hsz rfl (lv_room hrest) hdg ⟨hc, hs⟩) hS (fun q _ h => h) (fun q h => h) (fun r' u t H1 locs1 ht hvm hw hB hz1 hk1 hS1 => by subst hw; rw [ht] at hB; exact kk H1 locs1 hB hS1)
end C_J4_length_k
set_option maxHeartbeats 4000000 in
set_option maxRecDepth 100000 in
theorem metJ4_length (l : Launch) {E : cw_E} {A : Nat → Prop} (D : cw_D) (a0 : Nat) (r : Int32) (hf : fJ4_length D a0 = some r) : cw_MetI l yJ4_length cJ4_length 1 (some Jvm.ClassFile.FieldType.int) 1 20 E A [.ref a0] D D r 0 0 := by
  unfold fJ4_length at hf
  refine cw_sIP (own := RJ4) (by decide +kernel) [(0, .ref a0)] ⟨Nat.le_of_ble_eq_true rfl, rfl⟩ ?_
  intro p e s m args below meth c Rm Q X hK hF hLo hin hend ls hl hR hS
  obtain ⟨hx, hb, hml, hown, hts⟩ := id X
  refine lv_aload_n hx hb dJ4_length_0 rfl (lv_at hl 0 rfl) ?_
  obtain ⟨r_1, h_1, hq⟩ := ww_bS hf; replace hf := hq; clear hq
  refine cJ4g_9 X hK hR h_1 dJ4_length_1 ?_
  obtain ⟨a_2, e_2, hq⟩ := ww_bS hf; replace hf := hq; clear hq
  subst e_2
  obtain ⟨r_3, h_3, hq⟩ := ww_bS hf; replace hf := hq; clear hq
  refine cw_oln (x := some a_2) X hK hR rfl h_3 dJ4_length_4 ?_
  refine lv_aload_n hx hb dJ4_length_5 rfl (lv_at hl 0 rfl) ?_
  obtain ⟨h_4, hq⟩ := ww_gS hf; replace hf := hq; clear hq
  obtain ⟨r_5, h_5, hq⟩ := ww_bS hf; replace hf := hq; clear hq
  refine cJ4c_J4_coder X hl.1 hK hR hS (Nat.le_trans (Nat.le_of_ble_eq_true rfl) hF) (Nat.le_trans (Nat.le_of_ble_eq_true rfl) hLo) (Nat.zero_le _) (Nat.zero_le _) h_4 h_5 (cw_rest (Nat.le_of_ble_eq_true rfl)) dJ4_length_6 (fun H locs hR hS => ?_)
  refine lv_ishr hx hb dJ4_length_9 ?_
  exact hend dJ4_length_10 rfl rfl hf hR hS
section C_J4_length_c
variable {p : Program} {l : Launch} {e : Env} {R : Room} {s : State} {m : MethodId} {args : Array Value} {below : List Frame} {meth : Method} {c : Code} {H : Heap} {locs : List Loc} {cells slots : Nat} {Q : State → Prop}
variable {cc : ByteArray} {pc : Nat} {ls : Array Slot} {rest : List Value} {nL : Nat} {E : cw_E} {A : Nat → Prop} {H0 : Heap}
theorem cJ2c_J4_length {D : cw_D} {a0 : Nat} {r : Int32} (X : ww_C p m c cc nL s args RJ2 lw_all) (hsz : ls.size = nL) (hK : cw_K E A s) (hR : cw_H E A D H) (hS : va_S A s.heap H locs) (hF : 2 ≤ R.frames) (hLo : 40 ≤ R.locals) (hc : cells ≤ R.cells) (hs : slots ≤ R.slots) (hkd : cw_kd D [3] (some a0) = true) (hf : fJ4_length D a0 = some r) (hrest : (rest.map fun v => v.category).sum ≤ 8) (hdg : decode cc pc = .ok (.invokevirtual 32, 3)) (kk : ∀ (H1 : Heap) (locs1 : List Loc), cw_H E A D H1 → va_S A s.heap H1 locs1 → W p l e R s m args below meth c H1 locs1 cells slots Q (F0 m (pc + 3) ls (.int r :: rest))) : W p l e R s m args below meth c H locs cells slots Q (F0 m pc ls (.ref a0 :: rest)) :=
  cJ2k_J4_length X hsz hK hR hS hF hLo hc hs hkd (metJ4_length l _ _ _ hf) hrest hdg kk
theorem cJ4c_J4_length {D : cw_D} {a0 : Nat} {r : Int32} (X : ww_C p m c cc nL s args RJ4 lw_all) (hsz : ls.size = nL) (hK : cw_K E A s) (hR : cw_H E A D H) (hS : va_S A s.heap H locs) (hF : 2 ≤ R.frames) (hLo : 40 ≤ R.locals) (hc : cells ≤ R.cells) (hs : slots ≤ R.slots) (hkd : cw_kd D [3] (some a0) = true) (hf : fJ4_length D a0 = some r) (hrest : (rest.map fun v => v.category).sum ≤ 8) (hdg : decode cc pc = .ok (.invokevirtual 505, 3)) (kk : ∀ (H1 : Heap) (locs1 : List Loc), cw_H E A D H1 → va_S A s.heap H1 locs1 → W p l e R s m args below meth c H1 locs1 cells slots Q (F0 m (pc + 3) ls (.int r :: rest))) : W p l e R s m args below meth c H locs cells slots Q (F0 m pc ls (.ref a0 :: rest)) :=
  cJ4k_J4_length X hsz hK hR hS hF hLo hc hs hkd (metJ4_length l _ _ _ hf) hrest hdg kk
theorem c1f_J4_length {D : cw_D} {a0 : Nat} {r : Int32} (X : ww_C p m c cc nL s args RX1 lw_all) (hsz : ls.size = nL) (hK : cw_K E A s) (hR : cw_H E A D H) (hS : va_S A s.heap H locs) (hF : 2 ≤ R.frames) (hLo : 40 ≤ R.locals) (hc : cells ≤ R.cells) (hs : slots ≤ R.slots) (hkd : cw_kd D [3] (some a0) = true) (hf : fJ4_length D a0 = some r) (hrest : (rest.map fun v => v.category).sum ≤ 8) (hdg : decode cc pc = .ok (.invokeinterface 483 1, 5)) (kk : ∀ (H1 : Heap) (locs1 : List Loc), cw_H E A D H1 → va_S A s.heap H1 locs1 → W p l e R s m args below meth c H1 locs1 cells slots Q (F0 m (pc + 5) ls (.int r :: rest))) : W p l e R s m args below meth c H locs cells slots Q (F0 m pc ls (.ref a0 :: rest)) :=
  va_callFi (va_runF (C := RJ4) (x := ⟨"java/lang/CharSequence", "length", "()I"⟩) (As := []) (rest := rest) (b := a0) (cw_cls (k := 3) (C := RJ4) (T := TJ4) (N := 4) rfl hK) X (metJ4_length l _ _ _ hf) (va_cwF 0 X.2.2.2.2 (cw_F q1596 q1600 q627 q138 q629) rfl rfl rfl (hK.2.2.2.1 ("java/lang/String", ⟨"java/lang/CharSequence", "length", "()I"⟩, ⟨"java/lang/String", "length", "()I"⟩) (by decide +kernel)) (by decide +kernel) ⟨hF, hLo⟩) (cw_pV hK hR hS (cw_rc (k := 3) (C := RJ4) (T := TJ4) (N := 4) rfl (by decide) hK hR hkd)) rfl rfl hsz rfl (lv_room hrest) hdg ⟨hc, hs⟩) hS (fun q _ h => h) (fun q h => h) (fun r' u t H1 locs1 ht hvm hw hB hz1 hk1 hS1 => by subst hw; rw [ht] at hB; exact kk H1 locs1 hB hS1)
end C_J4_length_c
noncomputable def fJ4_startsWith_2 (D : cw_D) (a0 : Nat) (x1 : Option Nat) (x2 : Int32) : Option (Int32) :=
  if x2 < 0 then some (0 : Int32) else ww_g (cw_kd D [3] (some a0)) (ww_b (fJ4_length D a0) (fun r_3 => ww_b x1 (fun a_4 => ww_g (cw_kd D [3] (some a_4)) (ww_b (fJ4_length D a_4) (fun r_6 => if x2 ≤ (r_3 - r_6) then ww_b (cw_gR D [3] a0 0) (fun r_8 => ww_b (cw_gR D [3] a_4 0) (fun r_9 => ww_b r_9 (fun a_10 => ww_b (cw_ln D a_10) (fun r_11 => ww_g (cw_kd D [3] (some a0)) (ww_b (fJ4_coder D a0) (fun r_13 => ww_g (cw_kd D [3] (some a_4)) (ww_b (fJ4_coder D a_4) (fun r_15 => if r_13 = r_15 then if r_13 = (1 : Int32) then none else ww_b (fJ6_mismatch D r_8 x2 (some a_10) (0 : Int32) r_11) (fun r_18 => if 0 ≤ r_18 then some (0 : Int32) else some (1 : Int32)) else none)))))))) else some (0 : Int32))))))
section C_J4_startsWith_2_k
variable {p : Program} {l : Launch} {e : Env} {R : Room} {s : State} {m : MethodId} {args : Array Value} {below : List Frame} {meth : Method} {c : Code} {H : Heap} {locs : List Loc} {cells slots : Nat} {Q : State → Prop}
variable {cc : ByteArray} {pc : Nat} {ls : Array Slot} {rest : List Value} {nL : Nat} {E : cw_E} {A : Nat → Prop} {H0 : Heap}
theorem cJ4k_J4_startsWith_2 {D : cw_D} {a0 : Nat} {x1 : Option Nat} {x2 : Int32} {r : Int32} (X : ww_C p m c cc nL s args RJ4 lw_all) (hsz : ls.size = nL) (hK : cw_K E A s) (hR : cw_H E A D H) (hS : va_S A s.heap H locs) (hF : 3 ≤ R.frames) (hLo : 67 ≤ R.locals) (hc : cells ≤ R.cells) (hs : slots ≤ R.slots) (hkd : cw_kd D [3] (some a0) = true) (hM : cw_MetI l yJ4_startsWith_2 cJ4_startsWith_2 8 (some Jvm.ClassFile.FieldType.boolean) 2 40 E A [.ref a0, va_rf x1, .int x2] D D r 0 0) (hrest : (rest.map fun v => v.category).sum ≤ 8) (hdg : decode cc pc = .ok (.invokevirtual 624, 3)) (kk : ∀ (H1 : Heap) (locs1 : List Loc), cw_H E A D H1 → va_S A s.heap H1 locs1 → W p l e R s m args below meth c H1 locs1 cells slots Q (F0 m (pc + 3) ls (.int r :: rest))) : W p l e R s m args below meth c H locs cells slots Q (F0 m pc ls (.int x2 :: va_rf x1 :: .ref a0 :: rest)) :=
  va_calli (va_runV (C := RJ4) (As := [va_rf x1, .int x2]) (rest := rest) (b := a0) X hM (cwV 2 X.2.2.2.2 (lw_V q622 q623 q624 q138 q625) rfl rfl rfl (by decide +kernel) ⟨hF, hLo⟩) (cw_pV hK hR hS (cw_rc (k := 3) (C := RJ4) (T := TJ4) (N := 4) rfl (by decide) hK hR hkd)) rfl rfl hsz rfl (lv_room hrest) hdg ⟨hc, hs⟩) hS (fun q _ h => h) (fun q h => h) (fun r' u t H1 locs1 ht hvm hw hB hz1 hk1 hS1 => by subst hw; rw [ht] at hB; exact kk H1 locs1 hB hS1)
end C_J4_startsWith_2_k
set_option maxHeartbeats 4000000 in
set_option maxRecDepth 100000 in
theorem metJ4_startsWith_2 (l : Launch) {E : cw_E} {A : Nat → Prop} (D : cw_D) (a0 : Nat) (x1 : Option Nat) (x2 : Int32) (r : Int32) (hf : fJ4_startsWith_2 D a0 x1 x2 = some r) : cw_MetI l yJ4_startsWith_2 cJ4_startsWith_2 8 (some Jvm.ClassFile.FieldType.boolean) 2 40 E A [.ref a0, va_rf x1, .int x2] D D r 0 0 := by
  unfold fJ4_startsWith_2 at hf
  refine cw_sIP (own := RJ4) (by decide +kernel) [(0, .ref a0), (1, va_rf x1), (2, .int x2)] ⟨by cases x1 <;> exact Nat.le_of_ble_eq_true rfl, by cases x1 <;> rfl⟩ ?_
  intro p e s m args below meth c Rm Q X hK hF hLo hin hend ls hl hR hS
  obtain ⟨hx, hb, hml, hown, hts⟩ := id X
  refine lv_iload_n hx hb dJ4_startsWith_2_0 rfl (lv_at hl 2 rfl) ?_
  refine lv_if_lt (tgt := 17) hx hb dJ4_startsWith_2_1 (by decide) (fun c_1 => ?_) (fun c_1 => ?_)
  · replace hf := ww_ip hf c_1
    refine lv_iconst (v := (0 : Int32)) hx hb dJ4_startsWith_2_17 (by decide) ?_
    exact hend dJ4_startsWith_2_18 rfl (by decide) hf hR hS
  · replace hf := ww_in hf c_1
    refine lv_iload_n hx hb dJ4_startsWith_2_4 rfl (lv_at hl 2 rfl) ?_
    refine lv_aload_n hx hb dJ4_startsWith_2_5 rfl (lv_at hl 0 rfl) ?_
    obtain ⟨h_2, hq⟩ := ww_gS hf; replace hf := hq; clear hq
    obtain ⟨r_3, h_3, hq⟩ := ww_bS hf; replace hf := hq; clear hq
    refine cJ4c_J4_length X hl.1 hK hR hS (Nat.le_trans (Nat.le_of_ble_eq_true rfl) hF) (Nat.le_trans (Nat.le_of_ble_eq_true rfl) hLo) (Nat.zero_le _) (Nat.zero_le _) h_2 h_3 (cw_rest (Nat.le_of_ble_eq_true rfl)) dJ4_startsWith_2_6 (fun H locs hR hS => ?_)
    refine cw_aload_n (x := x1) hx hb dJ4_startsWith_2_9 rfl (lv_at hl 1 rfl) ?_
    obtain ⟨a_4, e_4, hq⟩ := ww_bS hf; replace hf := hq; clear hq
    subst e_4
    obtain ⟨h_5, hq⟩ := ww_gS hf; replace hf := hq; clear hq
    obtain ⟨r_6, h_6, hq⟩ := ww_bS hf; replace hf := hq; clear hq
    refine cJ4c_J4_length X hl.1 hK hR hS (Nat.le_trans (Nat.le_of_ble_eq_true rfl) hF) (Nat.le_trans (Nat.le_of_ble_eq_true rfl) hLo) (Nat.zero_le _) (Nat.zero_le _) h_5 h_6 (cw_rest (Nat.le_of_ble_eq_true rfl)) dJ4_startsWith_2_10 (fun H locs hR hS => ?_)
    refine lv_isub hx hb dJ4_startsWith_2_13 ?_
    refine lv_icmp_le (tgt := 19) hx hb dJ4_startsWith_2_14 (by decide) (fun c_7 => ?_) (fun c_7 => ?_)
    · replace hf := ww_ip hf c_7
      refine lv_aload_n hx hb dJ4_startsWith_2_19 rfl (lv_at hl 0 rfl) ?_
      obtain ⟨r_8, h_8, hq⟩ := ww_bS hf; replace hf := hq; clear hq
      refine cJ4g_9 X hK hR h_8 dJ4_startsWith_2_20 ?_
      refine cw_astore_n (x := r_8) (lv' := [(3, va_rf r_8), (0, .ref a0), (1, .ref a_4), (2, .int x2)]) hx hb dJ4_startsWith_2_23 rfl hl (by decide) rfl (fun ls hl => ?_)
      refine lv_aload_n hx hb dJ4_startsWith_2_24 rfl (lv_at hl 2 rfl) ?_
      obtain ⟨r_9, h_9, hq⟩ := ww_bS hf; replace hf := hq; clear hq
      refine cJ4g_9 X hK hR h_9 dJ4_startsWith_2_25 ?_
      refine cw_astore (x := r_9) (lv' := [(4, va_rf r_9), (3, va_rf r_8), (0, .ref a0), (1, .ref a_4), (2, .int x2)]) hx hb dJ4_startsWith_2_28 hl (by decide) (by cases r_8 <;> rfl) (fun ls hl => ?_)
      refine lv_iconst (v := (0 : Int32)) hx hb dJ4_startsWith_2_30 (by decide) ?_
      refine lv_istore (lv' := [(5, .int (0 : Int32)), (4, va_rf r_9), (3, va_rf r_8), (0, .ref a0), (1, .ref a_4), (2, .int x2)]) hx hb dJ4_startsWith_2_31 hl (by decide) (by cases r_9 <;> rfl) (fun ls hl => ?_)
      refine cw_aload (x := r_9) hx hb dJ4_startsWith_2_33 (lv_at hl 1 rfl) ?_
      obtain ⟨a_10, e_10, hq⟩ := ww_bS hf; replace hf := hq; clear hq
      subst e_10
      obtain ⟨r_11, h_11, hq⟩ := ww_bS hf; replace hf := hq; clear hq
      refine cw_oln (x := some a_10) X hK hR rfl h_11 dJ4_startsWith_2_35 ?_
      refine lv_istore (lv' := [(6, .int r_11), (5, .int (0 : Int32)), (4, .ref a_10), (3, va_rf r_8), (0, .ref a0), (1, .ref a_4), (2, .int x2)]) hx hb dJ4_startsWith_2_36 hl (by decide) rfl (fun ls hl => ?_)
      refine lv_aload_n hx hb dJ4_startsWith_2_38 rfl (lv_at hl 4 rfl) ?_
      obtain ⟨h_12, hq⟩ := ww_gS hf; replace hf := hq; clear hq
      obtain ⟨r_13, h_13, hq⟩ := ww_bS hf; replace hf := hq; clear hq
      refine cJ4c_J4_coder X hl.1 hK hR hS (Nat.le_trans (Nat.le_of_ble_eq_true rfl) hF) (Nat.le_trans (Nat.le_of_ble_eq_true rfl) hLo) (Nat.zero_le _) (Nat.zero_le _) h_12 h_13 (cw_rest (Nat.le_of_ble_eq_true rfl)) dJ4_startsWith_2_39 (fun H locs hR hS => ?_)
      refine lv_istore (lv' := [(7, .int r_13), (6, .int r_11), (5, .int (0 : Int32)), (4, .ref a_10), (3, va_rf r_8), (0, .ref a0), (1, .ref a_4), (2, .int x2)]) hx hb dJ4_startsWith_2_42 hl (by decide) rfl (fun ls hl => ?_)
      refine lv_iload hx hb dJ4_startsWith_2_44 (lv_at hl 0 rfl) ?_
      refine lv_aload_n hx hb dJ4_startsWith_2_46 rfl (lv_at hl 6 rfl) ?_
      obtain ⟨h_14, hq⟩ := ww_gS hf; replace hf := hq; clear hq
      obtain ⟨r_15, h_15, hq⟩ := ww_bS hf; replace hf := hq; clear hq
      refine cJ4c_J4_coder X hl.1 hK hR hS (Nat.le_trans (Nat.le_of_ble_eq_true rfl) hF) (Nat.le_trans (Nat.le_of_ble_eq_true rfl) hLo) (Nat.zero_le _) (Nat.zero_le _) h_14 h_15 (cw_rest (Nat.le_of_ble_eq_true rfl)) dJ4_startsWith_2_47 (fun H locs hR hS => ?_)
      refine lv_icmp_ne (tgt := 82) hx hb dJ4_startsWith_2_50 (by decide) (fun c_16 => ?_) (fun c_16 => ?_)
      · replace hf := ww_in hf c_16
        cases hf
      · replace hf := ww_ip hf c_16
        refine lv_iload hx hb dJ4_startsWith_2_53 (lv_at hl 0 rfl) ?_
        refine lv_iconst (v := (1 : Int32)) hx hb dJ4_startsWith_2_55 (by decide) ?_
        refine lv_icmp_ne (tgt := 63) hx hb dJ4_startsWith_2_56 (by decide) (fun c_17 => ?_) (fun c_17 => ?_)
        · replace hf := ww_in hf c_17
          refine cw_aload_n (x := r_8) hx hb dJ4_startsWith_2_63 rfl (lv_at hl 4 rfl) ?_
          refine lv_iload_n hx hb dJ4_startsWith_2_64 rfl (lv_at hl 7 rfl) ?_
          refine lv_aload hx hb dJ4_startsWith_2_65 (lv_at hl 3 rfl) ?_
          refine lv_iconst (v := (0 : Int32)) hx hb dJ4_startsWith_2_67 (by decide) ?_
          refine lv_iload hx hb dJ4_startsWith_2_68 (lv_at hl 1 rfl) ?_
          obtain ⟨r_18, h_18, hq⟩ := ww_bS hf; replace hf := hq; clear hq
          refine cJ4c_J6_mismatch (x0 := r_8) (x2 := (some a_10)) X hl.1 hK hR hS (Nat.le_trans (Nat.le_of_ble_eq_true rfl) hF) (Nat.le_trans (Nat.le_of_ble_eq_true rfl) hLo) (Nat.zero_le _) (Nat.zero_le _) h_18 (cw_rest (Nat.le_of_ble_eq_true rfl)) dJ4_startsWith_2_70 (fun H locs hR hS => ?_)
          refine lv_if_ge (tgt := 80) hx hb dJ4_startsWith_2_73 (by decide) (fun c_19 => ?_) (fun c_19 => ?_)
          · replace hf := ww_ip hf c_19
            refine lv_iconst (v := (0 : Int32)) hx hb dJ4_startsWith_2_80 (by decide) ?_
            exact hend dJ4_startsWith_2_81 rfl (by decide) hf hR hS
          · replace hf := ww_in hf c_19
            refine lv_iconst (v := (1 : Int32)) hx hb dJ4_startsWith_2_76 (by decide) ?_
            refine lv_goto (tgt := 81) hx hb dJ4_startsWith_2_77 (by decide) ?_
            exact hend dJ4_startsWith_2_81 rfl (by decide) hf hR hS
        · replace hf := ww_ip hf c_17
          cases hf
    · replace hf := ww_in hf c_7
      refine lv_iconst (v := (0 : Int32)) hx hb dJ4_startsWith_2_17 (by decide) ?_
      exact hend dJ4_startsWith_2_18 rfl (by decide) hf hR hS
section C_J4_startsWith_2_c
variable {p : Program} {l : Launch} {e : Env} {R : Room} {s : State} {m : MethodId} {args : Array Value} {below : List Frame} {meth : Method} {c : Code} {H : Heap} {locs : List Loc} {cells slots : Nat} {Q : State → Prop}
variable {cc : ByteArray} {pc : Nat} {ls : Array Slot} {rest : List Value} {nL : Nat} {E : cw_E} {A : Nat → Prop} {H0 : Heap}
theorem cJ4c_J4_startsWith_2 {D : cw_D} {a0 : Nat} {x1 : Option Nat} {x2 : Int32} {r : Int32} (X : ww_C p m c cc nL s args RJ4 lw_all) (hsz : ls.size = nL) (hK : cw_K E A s) (hR : cw_H E A D H) (hS : va_S A s.heap H locs) (hF : 3 ≤ R.frames) (hLo : 67 ≤ R.locals) (hc : cells ≤ R.cells) (hs : slots ≤ R.slots) (hkd : cw_kd D [3] (some a0) = true) (hf : fJ4_startsWith_2 D a0 x1 x2 = some r) (hrest : (rest.map fun v => v.category).sum ≤ 8) (hdg : decode cc pc = .ok (.invokevirtual 624, 3)) (kk : ∀ (H1 : Heap) (locs1 : List Loc), cw_H E A D H1 → va_S A s.heap H1 locs1 → W p l e R s m args below meth c H1 locs1 cells slots Q (F0 m (pc + 3) ls (.int r :: rest))) : W p l e R s m args below meth c H locs cells slots Q (F0 m pc ls (.int x2 :: va_rf x1 :: .ref a0 :: rest)) :=
  cJ4k_J4_startsWith_2 X hsz hK hR hS hF hLo hc hs hkd (metJ4_startsWith_2 l _ _ _ _ _ hf) hrest hdg kk
end C_J4_startsWith_2_c
noncomputable def fJ4_startsWith (D : cw_D) (a0 : Nat) (x1 : Option Nat) : Option (Int32) :=
  ww_g (cw_kd D [3] (some a0)) (ww_b (fJ4_startsWith_2 D a0 x1 (0 : Int32)) (fun r_2 => ww_g (ww_z r_2) (some r_2)))
section C_J4_startsWith_k
variable {p : Program} {l : Launch} {e : Env} {R : Room} {s : State} {m : MethodId} {args : Array Value} {below : List Frame} {meth : Method} {c : Code} {H : Heap} {locs : List Loc} {cells slots : Nat} {Q : State → Prop}
variable {cc : ByteArray} {pc : Nat} {ls : Array Slot} {rest : List Value} {nL : Nat} {E : cw_E} {A : Nat → Prop} {H0 : Heap}
theorem c1k_J4_startsWith {D : cw_D} {a0 : Nat} {x1 : Option Nat} {r : Int32} (X : ww_C p m c cc nL s args RX1 lw_all) (hsz : ls.size = nL) (hK : cw_K E A s) (hR : cw_H E A D H) (hS : va_S A s.heap H locs) (hF : 4 ≤ R.frames) (hLo : 88 ≤ R.locals) (hc : cells ≤ R.cells) (hs : slots ≤ R.slots) (hkd : cw_kd D [3] (some a0) = true) (hM : cw_MetI l yJ4_startsWith cJ4_startsWith 2 (some Jvm.ClassFile.FieldType.boolean) 3 67 E A [.ref a0, va_rf x1] D D r 0 0) (hrest : (rest.map fun v => v.category).sum ≤ 8) (hdg : decode cc pc = .ok (.invokevirtual 152, 3)) (kk : ∀ (H1 : Heap) (locs1 : List Loc), cw_H E A D H1 → va_S A s.heap H1 locs1 → W p l e R s m args below meth c H1 locs1 cells slots Q (F0 m (pc + 3) ls (.int r :: rest))) : W p l e R s m args below meth c H locs cells slots Q (F0 m pc ls (va_rf x1 :: .ref a0 :: rest)) :=
  va_calli (va_runV (C := RJ4) (As := [va_rf x1]) (rest := rest) (b := a0) X hM (cwV 1 X.2.2.2.2 (lw_V q618 q619 q620 q138 q621) rfl rfl rfl (by decide +kernel) ⟨hF, hLo⟩) (cw_pV hK hR hS (cw_rc (k := 3) (C := RJ4) (T := TJ4) (N := 4) rfl (by decide) hK hR hkd)) rfl rfl hsz rfl (lv_room hrest) hdg ⟨hc, hs⟩) hS (fun q _ h => h) (fun q h => h) (fun r' u t H1 locs1 ht hvm hw hB hz1 hk1 hS1 => by subst hw; rw [ht] at hB; exact kk H1 locs1 hB hS1)
end C_J4_startsWith_k
set_option maxHeartbeats 4000000 in
set_option maxRecDepth 100000 in
theorem metJ4_startsWith (l : Launch) {E : cw_E} {A : Nat → Prop} (D : cw_D) (a0 : Nat) (x1 : Option Nat) (r : Int32) (hf : fJ4_startsWith D a0 x1 = some r) : cw_MetI l yJ4_startsWith cJ4_startsWith 2 (some Jvm.ClassFile.FieldType.boolean) 3 67 E A [.ref a0, va_rf x1] D D r 0 0 := by
  unfold fJ4_startsWith at hf
  refine cw_sIP (own := RJ4) (by decide +kernel) [(0, .ref a0), (1, va_rf x1)] ⟨by cases x1 <;> exact Nat.le_of_ble_eq_true rfl, by cases x1 <;> rfl⟩ ?_
  intro p e s m args below meth c Rm Q X hK hF hLo hin hend ls hl hR hS
  obtain ⟨hx, hb, hml, hown, hts⟩ := id X
  refine lv_aload_n hx hb dJ4_startsWith_0 rfl (lv_at hl 0 rfl) ?_
  refine cw_aload_n (x := x1) hx hb dJ4_startsWith_1 rfl (lv_at hl 1 rfl) ?_
  refine lv_iconst (v := (0 : Int32)) hx hb dJ4_startsWith_2 (by decide) ?_
  obtain ⟨h_1, hq⟩ := ww_gS hf; replace hf := hq; clear hq
  obtain ⟨r_2, h_2, hq⟩ := ww_bS hf; replace hf := hq; clear hq
  refine cJ4c_J4_startsWith_2 (x1 := x1) X hl.1 hK hR hS (Nat.le_trans (Nat.le_of_ble_eq_true rfl) hF) (Nat.le_trans (Nat.le_of_ble_eq_true rfl) hLo) (Nat.zero_le _) (Nat.zero_le _) h_1 h_2 (cw_rest (Nat.le_of_ble_eq_true rfl)) dJ4_startsWith_3 (fun H locs hR hS => ?_)
  obtain ⟨h_3, hq⟩ := ww_gS hf; replace hf := hq; clear hq
  exact hend dJ4_startsWith_6 rfl (ww_zn h_3) hf hR hS
section C_J4_startsWith_c
variable {p : Program} {l : Launch} {e : Env} {R : Room} {s : State} {m : MethodId} {args : Array Value} {below : List Frame} {meth : Method} {c : Code} {H : Heap} {locs : List Loc} {cells slots : Nat} {Q : State → Prop}
variable {cc : ByteArray} {pc : Nat} {ls : Array Slot} {rest : List Value} {nL : Nat} {E : cw_E} {A : Nat → Prop} {H0 : Heap}
theorem c1c_J4_startsWith {D : cw_D} {a0 : Nat} {x1 : Option Nat} {r : Int32} (X : ww_C p m c cc nL s args RX1 lw_all) (hsz : ls.size = nL) (hK : cw_K E A s) (hR : cw_H E A D H) (hS : va_S A s.heap H locs) (hF : 4 ≤ R.frames) (hLo : 88 ≤ R.locals) (hc : cells ≤ R.cells) (hs : slots ≤ R.slots) (hkd : cw_kd D [3] (some a0) = true) (hf : fJ4_startsWith D a0 x1 = some r) (hrest : (rest.map fun v => v.category).sum ≤ 8) (hdg : decode cc pc = .ok (.invokevirtual 152, 3)) (kk : ∀ (H1 : Heap) (locs1 : List Loc), cw_H E A D H1 → va_S A s.heap H1 locs1 → W p l e R s m args below meth c H1 locs1 cells slots Q (F0 m (pc + 3) ls (.int r :: rest))) : W p l e R s m args below meth c H locs cells slots Q (F0 m pc ls (va_rf x1 :: .ref a0 :: rest)) :=
  c1k_J4_startsWith X hsz hK hR hS hF hLo hc hs hkd (metJ4_startsWith l _ _ _ _ hf) hrest hdg kk
end C_J4_startsWith_c
noncomputable def fJ4_equals_j1 (D : cw_D) (y0 : Nat) (y2 : Nat) : Option (Int32) :=
  ww_b (cw_gR D [3] y0 0) (fun r_6 => ww_b (cw_gR D [3] y2 0) (fun r_7 => ww_b (fJ9_equals D r_6 r_7) (fun r_8 => if r_8 = 0 then some (0 : Int32) else some (1 : Int32))))
noncomputable def fJ4_equals (D : cw_D) (a0 : Nat) (x1 : Option Nat) : Option (Int32) :=
  if (some a0) = x1 then some (1 : Int32) else ww_b x1 (fun a_2 => ww_g (cw_kd D [3] (some a_2)) (if (1 : Int32) = 0 then some (0 : Int32) else ww_g (cw_kd D [3] (some a_2)) (if (1 : Int32) = 0 then fJ4_equals_j1 D a0 a_2 else ww_b (cw_gI D [3] a0 1) (fun r_11 => ww_b (cw_gI D [3] a_2 1) (fun r_12 => if r_11 = r_12 then fJ4_equals_j1 D a0 a_2 else some (0 : Int32))))))
section C_J4_equals_k
variable {p : Program} {l : Launch} {e : Env} {R : Room} {s : State} {m : MethodId} {args : Array Value} {below : List Frame} {meth : Method} {c : Code} {H : Heap} {locs : List Loc} {cells slots : Nat} {Q : State → Prop}
variable {cc : ByteArray} {pc : Nat} {ls : Array Slot} {rest : List Value} {nL : Nat} {E : cw_E} {A : Nat → Prop} {H0 : Heap}
theorem c1k_J4_equals {D : cw_D} {a0 : Nat} {x1 : Option Nat} {r : Int32} (X : ww_C p m c cc nL s args RX1 lw_all) (hsz : ls.size = nL) (hK : cw_K E A s) (hR : cw_H E A D H) (hS : va_S A s.heap H locs) (hF : 2 ≤ R.frames) (hLo : 44 ≤ R.locals) (hc : cells ≤ R.cells) (hs : slots ≤ R.slots) (hkd : cw_kd D [3] (some a0) = true) (hM : cw_MetI l yJ4_equals cJ4_equals 3 (some Jvm.ClassFile.FieldType.boolean) 1 22 E A [.ref a0, va_rf x1] D D r 0 0) (hrest : (rest.map fun v => v.category).sum ≤ 8) (hdg : decode cc pc = .ok (.invokevirtual 170, 3)) (kk : ∀ (H1 : Heap) (locs1 : List Loc), cw_H E A D H1 → va_S A s.heap H1 locs1 → W p l e R s m args below meth c H1 locs1 cells slots Q (F0 m (pc + 3) ls (.int r :: rest))) : W p l e R s m args below meth c H locs cells slots Q (F0 m pc ls (va_rf x1 :: .ref a0 :: rest)) :=
  va_calli (va_runV (C := RJ4) (As := [va_rf x1]) (rest := rest) (b := a0) X hM (cwV 1 X.2.2.2.2 (lw_V q739 q740 q741 q138 q742) rfl rfl rfl (by decide +kernel) ⟨hF, hLo⟩) (cw_pV hK hR hS (cw_rc (k := 3) (C := RJ4) (T := TJ4) (N := 4) rfl (by decide) hK hR hkd)) rfl rfl hsz rfl (lv_room hrest) hdg ⟨hc, hs⟩) hS (fun q _ h => h) (fun q h => h) (fun r' u t H1 locs1 ht hvm hw hB hz1 hk1 hS1 => by subst hw; rw [ht] at hB; exact kk H1 locs1 hB hS1)
end C_J4_equals_k
set_option maxHeartbeats 4000000 in
set_option maxRecDepth 100000 in
theorem metJ4_equals (l : Launch) {E : cw_E} {A : Nat → Prop} (D : cw_D) (a0 : Nat) (x1 : Option Nat) (r : Int32) (hf : fJ4_equals D a0 x1 = some r) : cw_MetI l yJ4_equals cJ4_equals 3 (some Jvm.ClassFile.FieldType.boolean) 1 22 E A [.ref a0, va_rf x1] D D r 0 0 := by
  unfold fJ4_equals at hf
  refine cw_sIP (own := RJ4) (by decide +kernel) [(0, .ref a0), (1, va_rf x1)] ⟨by cases x1 <;> exact Nat.le_of_ble_eq_true rfl, by cases x1 <;> rfl⟩ ?_
  intro p e s m args below meth c Rm Q X hK hF hLo hin hend ls hl hR hS
  obtain ⟨hx, hb, hml, hown, hts⟩ := id X
  refine lv_aload_n hx hb dJ4_equals_0 rfl (lv_at hl 0 rfl) ?_
  refine cw_aload_n (x := x1) hx hb dJ4_equals_1 rfl (lv_at hl 1 rfl) ?_
  refine lv_acmp_ne (rx := (some a0)) (ry := x1) (tgt := 7) hx hb dJ4_equals_2 (by decide) (fun c_1 => ?_) (fun c_1 => ?_)
  · replace hf := ww_in hf c_1
    refine cw_aload_n (x := x1) hx hb dJ4_equals_7 rfl (lv_at hl 1 rfl) ?_
    obtain ⟨a_2, e_2, hq⟩ := ww_bS hf; replace hf := hq; clear hq
    subst e_2
    obtain ⟨h_3, hq⟩ := ww_gS hf; replace hf := hq; clear hq
    refine va_instS hx hb hown (hts _ q743) (cw_cls (k := 3) (T := TJ4) (N := 4) rfl hK) (cw_rc (k := 3) (C := RJ4) (T := TJ4) (N := 4) rfl (by decide) hK hR h_3) dJ4_equals_8 ?_
    refine lv_if_eq (tgt := 54) hx hb dJ4_equals_11 (by decide) (fun c_4 => ?_) (fun c_4 => ?_)
    · replace hf := ww_ip hf c_4
      refine lv_iconst (v := (0 : Int32)) hx hb dJ4_equals_54 (by decide) ?_
      exact hend dJ4_equals_55 rfl (by decide) hf hR hS
    · replace hf := ww_in hf c_4
      refine lv_aload_n hx hb dJ4_equals_14 rfl (lv_at hl 1 rfl) ?_
      obtain ⟨h_5, hq⟩ := ww_gS hf; replace hf := hq; clear hq
      refine va_castS hx hb hown (hts _ q743) (cw_cls (k := 3) (T := TJ4) (N := 4) rfl hK) (cw_rc (k := 3) (C := RJ4) (T := TJ4) (N := 4) rfl (by decide) hK hR h_5) dJ4_equals_15 ?_
      refine lv_astore_n (lv' := [(2, .ref a_2), (0, .ref a0), (1, .ref a_2)]) hx hb dJ4_equals_18 rfl hl (by decide) rfl (fun ls hl => ?_)
      refine va_gets hx hb hK.ct.2.1 hS hown (hts _ q587) (fun _ h9 => h9) dJ4_equals_19 ?_
      have hj_1 : fJ4_equals_j1 D a0 a_2 = some r → ∀ (H : Heap) (locs : List Loc) (ls : Array Slot), cw_H E A D H → va_S A s.heap H locs → lv_has ls 3 [(0, .ref a0), (2, .ref a_2)] → W p l e Rm s m args below meth c H locs 0 0 Q (F0 m 36 ls []) := by
        clear hf
        intro  hf
        unfold fJ4_equals_j1 at hf
        try clear hl
        try clear hS
        try clear hR
        intro H locs ls hR hS hl
        refine lv_aload_n hx hb dJ4_equals_36 rfl (lv_at hl 0 rfl) ?_
        obtain ⟨r_6, h_6, hq⟩ := ww_bS hf; replace hf := hq; clear hq
        refine cJ4g_9 X hK hR h_6 dJ4_equals_37 ?_
        refine lv_aload_n hx hb dJ4_equals_40 rfl (lv_at hl 1 rfl) ?_
        obtain ⟨r_7, h_7, hq⟩ := ww_bS hf; replace hf := hq; clear hq
        refine cJ4g_9 X hK hR h_7 dJ4_equals_41 ?_
        obtain ⟨r_8, h_8, hq⟩ := ww_bS hf; replace hf := hq; clear hq
        refine cJ4c_J9_equals (x0 := r_6) (x1 := r_7) X hl.1 hK hR hS (Nat.le_trans (Nat.le_of_ble_eq_true rfl) hF) (Nat.le_trans (Nat.le_of_ble_eq_true rfl) hLo) (Nat.zero_le _) (Nat.zero_le _) h_8 (cw_rest (Nat.le_of_ble_eq_true rfl)) dJ4_equals_44 (fun H locs hR hS => ?_)
        refine lv_if_eq (tgt := 54) hx hb dJ4_equals_47 (by decide) (fun c_9 => ?_) (fun c_9 => ?_)
        · replace hf := ww_ip hf c_9
          refine lv_iconst (v := (0 : Int32)) hx hb dJ4_equals_54 (by decide) ?_
          exact hend dJ4_equals_55 rfl (by decide) hf hR hS
        · replace hf := ww_in hf c_9
          refine lv_iconst (v := (1 : Int32)) hx hb dJ4_equals_50 (by decide) ?_
          refine lv_goto (tgt := 55) hx hb dJ4_equals_51 (by decide) ?_
          exact hend dJ4_equals_55 rfl (by decide) hf hR hS
      refine lv_if_eq (tgt := 36) hx hb dJ4_equals_22 (by decide) (fun c_10 => ?_) (fun c_10 => ?_)
      · replace hf := ww_ip hf c_10
        exact hj_1 hf _ _ _ hR hS (lv_sub hl [1, 0] rfl)
      · replace hf := ww_in hf c_10
        refine lv_aload_n hx hb dJ4_equals_25 rfl (lv_at hl 1 rfl) ?_
        obtain ⟨r_11, h_11, hq⟩ := ww_bS hf; replace hf := hq; clear hq
        refine cJ4g_15 X hK hR h_11 dJ4_equals_26 ?_
        refine lv_aload_n hx hb dJ4_equals_29 rfl (lv_at hl 0 rfl) ?_
        obtain ⟨r_12, h_12, hq⟩ := ww_bS hf; replace hf := hq; clear hq
        refine cJ4g_15 X hK hR h_12 dJ4_equals_30 ?_
        refine lv_icmp_ne (tgt := 54) hx hb dJ4_equals_33 (by decide) (fun c_13 => ?_) (fun c_13 => ?_)
        · replace hf := ww_in hf c_13
          refine lv_iconst (v := (0 : Int32)) hx hb dJ4_equals_54 (by decide) ?_
          exact hend dJ4_equals_55 rfl (by decide) hf hR hS
        · replace hf := ww_ip hf c_13
          exact hj_1 hf _ _ _ hR hS (lv_sub hl [1, 0] rfl)
  · replace hf := ww_ip hf c_1
    refine lv_iconst (v := (1 : Int32)) hx hb dJ4_equals_5 (by decide) ?_
    exact hend dJ4_equals_6 rfl (by decide) hf hR hS
section C_J4_equals_c
variable {p : Program} {l : Launch} {e : Env} {R : Room} {s : State} {m : MethodId} {args : Array Value} {below : List Frame} {meth : Method} {c : Code} {H : Heap} {locs : List Loc} {cells slots : Nat} {Q : State → Prop}
variable {cc : ByteArray} {pc : Nat} {ls : Array Slot} {rest : List Value} {nL : Nat} {E : cw_E} {A : Nat → Prop} {H0 : Heap}
theorem c1c_J4_equals {D : cw_D} {a0 : Nat} {x1 : Option Nat} {r : Int32} (X : ww_C p m c cc nL s args RX1 lw_all) (hsz : ls.size = nL) (hK : cw_K E A s) (hR : cw_H E A D H) (hS : va_S A s.heap H locs) (hF : 2 ≤ R.frames) (hLo : 44 ≤ R.locals) (hc : cells ≤ R.cells) (hs : slots ≤ R.slots) (hkd : cw_kd D [3] (some a0) = true) (hf : fJ4_equals D a0 x1 = some r) (hrest : (rest.map fun v => v.category).sum ≤ 8) (hdg : decode cc pc = .ok (.invokevirtual 170, 3)) (kk : ∀ (H1 : Heap) (locs1 : List Loc), cw_H E A D H1 → va_S A s.heap H1 locs1 → W p l e R s m args below meth c H1 locs1 cells slots Q (F0 m (pc + 3) ls (.int r :: rest))) : W p l e R s m args below meth c H locs cells slots Q (F0 m pc ls (va_rf x1 :: .ref a0 :: rest)) :=
  c1k_J4_equals X hsz hK hR hS hF hLo hc hs hkd (metJ4_equals l _ _ _ _ hf) hrest hdg kk
end C_J4_equals_c
