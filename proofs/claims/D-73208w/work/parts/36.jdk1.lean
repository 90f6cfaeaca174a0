noncomputable def fJ10_checkIndex (D : cw_D) (x0 : Int32) (x1 : Int32) (x2 : Option Nat) : Option (Int32) :=
  if x0 < 0 then none else if x0 < x1 then some x0 else none
section C_J10_checkIndex_k
variable {p : Program} {l : Launch} {e : Env} {R : Room} {s : State} {m : MethodId} {args : Array Value} {below : List Frame} {meth : Method} {c : Code} {H : Heap} {locs : List Loc} {cells slots : Nat} {Q : State → Prop}
variable {cc : ByteArray} {pc : Nat} {ls : Array Slot} {rest : List Value} {nL : Nat} {E : cw_E} {A : Nat → Prop} {H0 : Heap}
theorem cJ4k_J10_checkIndex {D : cw_D} {x0 : Int32} {x1 : Int32} {x2 : Option Nat} {r : Int32} (X : ww_C p m c cc nL s args RJ4 lw_all) (hsz : ls.size = nL) (hK : cw_K E A s) (hR : cw_H E A D H) (hS : va_S A s.heap H locs) (hF : 1 ≤ R.frames) (hLo : 22 ≤ R.locals) (hc : cells ≤ R.cells) (hs : slots ≤ R.slots) (hM : cw_MetI l yJ10_checkIndex cJ10_checkIndex 3 (some Jvm.ClassFile.FieldType.int) 0 0 E A [.int x0, .int x1, va_rf x2] D D r 0 0) (hrest : (rest.map fun v => v.category).sum ≤ 8) (hdg : decode cc pc = .ok (.invokestatic 1059, 3)) (kk : ∀ (H1 : Heap) (locs1 : List Loc), cw_H E A D H1 → va_S A s.heap H1 locs1 → W p l e R s m args below meth c H1 locs1 cells slots Q (F0 m (pc + 3) ls (.int r :: rest))) : W p l e R s m args below meth c H locs cells slots Q (F0 m pc ls (va_rf x2 :: .int x1 :: .int x0 :: rest)) :=
  va_calli (va_runS (As := [.int x0, .int x1, va_rf x2]) (rest := rest) X hM (va_cwS 3 X.2.2.2.2 (lw_S q548 q549 q145 q550) rfl rfl rfl (by decide +kernel) ⟨hF, hLo⟩) (cw_pS hK hR hS) rfl rfl hsz rfl (lv_room hrest) hdg ⟨hc, hs⟩) hS (fun q _ h => h) (fun q h => h) (fun r' u t H1 locs1 ht hvm hw hB hz1 hk1 hS1 => by subst hw; rw [ht] at hB; exact kk H1 locs1 hB hS1)
end C_J10_checkIndex_k
set_option maxHeartbeats 4000000 in
set_option maxRecDepth 100000 in
theorem metJ10_checkIndex (l : Launch) {E : cw_E} {A : Nat → Prop} (D : cw_D) (x0 : Int32) (x1 : Int32) (x2 : Option Nat) (r : Int32) (hf : fJ10_checkIndex D x0 x1 x2 = some r) : cw_MetI l yJ10_checkIndex cJ10_checkIndex 3 (some Jvm.ClassFile.FieldType.int) 0 0 E A [.int x0, .int x1, va_rf x2] D D r 0 0 := by
  unfold fJ10_checkIndex at hf
  refine cw_sIP (own := RJ10) (by decide +kernel) [(0, .int x0), (1, .int x1), (2, va_rf x2)] ⟨by cases x2 <;> exact Nat.le_of_ble_eq_true rfl, by cases x2 <;> rfl⟩ ?_
  intro p e s m args below meth c Rm Q X hK hF hLo hin hend ls hl hR hS
  obtain ⟨hx, hb, hml, hown, hts⟩ := id X
  refine lv_iload_n hx hb dJ10_checkIndex_0 rfl (lv_at hl 0 rfl) ?_
  refine lv_if_lt (tgt := 9) hx hb dJ10_checkIndex_1 (by decide) (fun c_1 => ?_) (fun c_1 => ?_)
  · replace hf := ww_ip hf c_1
    cases hf
  · replace hf := ww_in hf c_1
    refine lv_iload_n hx hb dJ10_checkIndex_4 rfl (lv_at hl 0 rfl) ?_
    refine lv_iload_n hx hb dJ10_checkIndex_5 rfl (lv_at hl 1 rfl) ?_
    refine lv_icmp_lt (tgt := 16) hx hb dJ10_checkIndex_6 (by decide) (fun c_2 => ?_) (fun c_2 => ?_)
    · replace hf := ww_ip hf c_2
      refine lv_iload_n hx hb dJ10_checkIndex_16 rfl (lv_at hl 0 rfl) ?_
      exact hend dJ10_checkIndex_17 rfl rfl hf hR hS
    · replace hf := ww_in hf c_2
      cases hf
section C_J10_checkIndex_c
variable {p : Program} {l : Launch} {e : Env} {R : Room} {s : State} {m : MethodId} {args : Array Value} {below : List Frame} {meth : Method} {c : Code} {H : Heap} {locs : List Loc} {cells slots : Nat} {Q : State → Prop}
variable {cc : ByteArray} {pc : Nat} {ls : Array Slot} {rest : List Value} {nL : Nat} {E : cw_E} {A : Nat → Prop} {H0 : Heap}
theorem cJ4c_J10_checkIndex {D : cw_D} {x0 : Int32} {x1 : Int32} {x2 : Option Nat} {r : Int32} (X : ww_C p m c cc nL s args RJ4 lw_all) (hsz : ls.size = nL) (hK : cw_K E A s) (hR : cw_H E A D H) (hS : va_S A s.heap H locs) (hF : 1 ≤ R.frames) (hLo : 22 ≤ R.locals) (hc : cells ≤ R.cells) (hs : slots ≤ R.slots) (hf : fJ10_checkIndex D x0 x1 x2 = some r) (hrest : (rest.map fun v => v.category).sum ≤ 8) (hdg : decode cc pc = .ok (.invokestatic 1059, 3)) (kk : ∀ (H1 : Heap) (locs1 : List Loc), cw_H E A D H1 → va_S A s.heap H1 locs1 → W p l e R s m args below meth c H1 locs1 cells slots Q (F0 m (pc + 3) ls (.int r :: rest))) : W p l e R s m args below meth c H locs cells slots Q (F0 m pc ls (va_rf x2 :: .int x1 :: .int x0 :: rest)) :=
  cJ4k_J10_checkIndex X hsz hK hR hS hF hLo hc hs (metJ10_checkIndex l _ _ _ _ _ hf) hrest hdg kk
end C_J10_checkIndex_c
noncomputable def fJ13_stringSize_b1c (y0 : Int32) (y1 : Int32) (x2 : Int32) (x3 : Int32) : Option ((Int32 × Int32) ⊕ (Int32)) :=
  if (10 : Int32) ≤ x3 then ww_x (some ((10 : Int32) + y1)) else if y0 ≤ x2 then some (.inl (((10 : Int32) * x2), (x3 + (1 : Int32)))) else ww_x (some (x3 + y1))
noncomputable def fJ13_stringSize_b1 (y0 : Int32) (y1 : Int32) : (Int32 × Int32) → Option ((Int32 × Int32) ⊕ (Int32)) := fun s9 => fJ13_stringSize_b1c y0 y1 s9.1 s9.2
noncomputable def fJ13_stringSize_j1 (x0_1 : Int32) (x1 : Int32) : Option (Int32) :=
  ww_U (fJ13_stringSize_b1 x0_1 x1) ((-10 : Int32), (1 : Int32))
noncomputable def fJ13_stringSize (x0 : Int32) : Option (Int32) :=
  if x0 < 0 then fJ13_stringSize_j1 x0 (1 : Int32) else fJ13_stringSize_j1 (-x0) (0 : Int32)
set_option maxHeartbeats 4000000 in
set_option maxRecDepth 100000 in
theorem metJ13_stringSize (l : Launch) (x0 : Int32) (r : Int32) (hf : fJ13_stringSize x0 = some r) : t3_MetS l yJ13_stringSize cJ13_stringSize 4 (some Jvm.ClassFile.FieldType.int) 0 0 [.int x0] r := by
  unfold fJ13_stringSize at hf
  refine t3_startS (own := RJ13) (by decide +kernel) (Nat.le_of_ble_eq_true rfl) ?_
  intro p e s m args below meth c Rm Q X hF hLo hend ls hl hS; have hR : s.heap = s.heap := rfl
  obtain ⟨hx, hb, hml, hown, hts⟩ := id X
  replace hl : lv_has ls 4 [(0, .int x0)] := hl
  refine lv_iconst (v := (1 : Int32)) hx hb dJ13_stringSize_0 (by decide) ?_
  refine lv_istore_n (lv' := [(1, .int (1 : Int32)), (0, .int x0)]) hx hb dJ13_stringSize_1 rfl hl (by decide) rfl (fun ls hl => ?_)
  refine lv_iload_n hx hb dJ13_stringSize_2 rfl (lv_at hl 1 rfl) ?_
  have hj_1 : ∀ (x0_1 : Int32) (x1 : Int32), fJ13_stringSize_j1 x0_1 x1 = some r → ∀ (H : Heap) (locs : List Loc) (ls : Array Slot), H = s.heap → va_S (fun _ => False) s.heap H locs → lv_has ls 4 [(0, .int x0_1), (1, .int x1)] → W p l e Rm s m args below meth c H locs 0 0 Q (F0 m 11 ls []) := by
    clear hf
    intro x0_1 x1 hf
    unfold fJ13_stringSize_j1 at hf
    try clear hl
    try clear hS
    try clear hR
    intro H locs ls hR hS hl
    refine lv_bipush (v := (-10 : Int32)) hx hb dJ13_stringSize_11 (by decide) ?_
    refine lv_istore_n (lv' := [(2, .int (-10 : Int32)), (0, .int x0_1), (1, .int x1)]) hx hb dJ13_stringSize_13 rfl hl (by decide) rfl (fun ls hl => ?_)
    refine lv_iconst (v := (1 : Int32)) hx hb dJ13_stringSize_14 (by decide) ?_
    refine lv_istore_n (lv' := [(3, .int (1 : Int32)), (2, .int (-10 : Int32)), (0, .int x0_1), (1, .int x1)]) hx hb dJ13_stringSize_15 rfl hl (by decide) rfl (fun ls hl => ?_)
    have hL_1 : ∀ s9 : Int32 × Int32, ww_U (fJ13_stringSize_b1 x0_1 x1) s9 = some r → ∀ (H : Heap) (locs : List Loc) (ls : Array Slot), H = s.heap → va_S (fun _ => False) s.heap H locs → lv_has ls 4 [(0, .int x0_1), (1, .int x1), (2, .int s9.1), (3, .int s9.2)] → W p l e Rm s m args below meth c H locs 0 0 Q (F0 m 16 ls []) := by
      clear hf
      refine ww_ind _ r ?_
      intro s9 z_1 hf hz_1
      obtain ⟨x2, x3⟩ := s9
      replace hf : fJ13_stringSize_b1c x0_1 x1 x2 x3 = some z_1 := hf
      unfold fJ13_stringSize_b1c at hf
      try clear hl
      try clear hS
      try clear hR
      intro H locs ls hR hS hl
      replace hl : lv_has ls 4 [(0, .int x0_1), (1, .int x1), (2, .int x2), (3, .int x3)] := hl
      refine lv_iload_n hx hb dJ13_stringSize_16 rfl (lv_at hl 3 rfl) ?_
      refine lv_bipush (v := (10 : Int32)) hx hb dJ13_stringSize_17 (by decide) ?_
      refine lv_icmp_ge (tgt := 42) hx hb dJ13_stringSize_19 (by decide) (fun c_1 => ?_) (fun c_1 => ?_)
      · replace hf := ww_ip hf c_1
        replace hf := ww_xK hf hz_1
        refine lv_bipush (v := (10 : Int32)) hx hb dJ13_stringSize_42 (by decide) ?_
        refine lv_iload_n hx hb dJ13_stringSize_44 rfl (lv_at hl 1 rfl) ?_
        refine lv_iadd hx hb dJ13_stringSize_45 ?_
        exact hend dJ13_stringSize_46 rfl rfl hf hR hS
      · replace hf := ww_in hf c_1
        refine lv_iload_n hx hb dJ13_stringSize_22 rfl (lv_at hl 0 rfl) ?_
        refine lv_iload_n hx hb dJ13_stringSize_23 rfl (lv_at hl 2 rfl) ?_
        refine lv_icmp_le (tgt := 31) hx hb dJ13_stringSize_24 (by decide) (fun c_2 => ?_) (fun c_2 => ?_)
        · replace hf := ww_ip hf c_2
          refine lv_bipush (v := (10 : Int32)) hx hb dJ13_stringSize_31 (by decide) ?_
          refine lv_iload_n hx hb dJ13_stringSize_33 rfl (lv_at hl 2 rfl) ?_
          refine lv_imul hx hb dJ13_stringSize_34 ?_
          refine lv_istore_n (lv' := [(2, .int ((10 : Int32) * x2)), (0, .int x0_1), (1, .int x1), (3, .int x3)]) hx hb dJ13_stringSize_35 rfl hl (by decide) rfl (fun ls hl => ?_)
          refine lv_iinc (k := 3) (v := x3 + (1 : Int32)) (lv' := [(3, .int (x3 + (1 : Int32))), (2, .int ((10 : Int32) * x2)), (0, .int x0_1), (1, .int x1)]) hx hb dJ13_stringSize_36 hl rfl rfl (by decide) rfl (fun ls hl => ?_)
          refine lv_goto (tgt := 16) hx hb dJ13_stringSize_39 (by decide) ?_
          exact ww_lK hf hz_1 _ _ _ hR hS (lv_sub hl [2, 3, 1, 0] rfl)
        · replace hf := ww_in hf c_2
          replace hf := ww_xK hf hz_1
          refine lv_iload_n hx hb dJ13_stringSize_27 rfl (lv_at hl 3 rfl) ?_
          refine lv_iload_n hx hb dJ13_stringSize_28 rfl (lv_at hl 1 rfl) ?_
          refine lv_iadd hx hb dJ13_stringSize_29 ?_
          exact hend dJ13_stringSize_30 rfl rfl hf hR hS
    exact hL_1 ((-10 : Int32), (1 : Int32)) hf _ _ _ hR hS (lv_sub hl [2, 3, 1, 0] rfl)
  refine lv_if_lt (tgt := 11) hx hb dJ13_stringSize_3 (by decide) (fun c_3 => ?_) (fun c_3 => ?_)
  · replace hf := ww_ip hf c_3
    exact hj_1 x0 (1 : Int32) hf _ _ _ hR hS (lv_sub hl [1, 0] rfl)
  · replace hf := ww_in hf c_3
    refine lv_iconst (v := (0 : Int32)) hx hb dJ13_stringSize_6 (by decide) ?_
    refine lv_istore_n (lv' := [(1, .int (0 : Int32)), (0, .int x0)]) hx hb dJ13_stringSize_7 rfl hl (by decide) rfl (fun ls hl => ?_)
    refine lv_iload_n hx hb dJ13_stringSize_8 rfl (lv_at hl 1 rfl) ?_
    refine lv_ineg hx hb dJ13_stringSize_9 ?_
    refine lv_istore_n (lv' := [(0, .int (-x0)), (1, .int (0 : Int32))]) hx hb dJ13_stringSize_10 rfl hl (by decide) rfl (fun ls hl => ?_)
    exact hj_1 (-x0) (0 : Int32) hf _ _ _ hR hS hl
section C_J13_stringSize_c
variable {p : Program} {l : Launch} {e : Env} {R : Room} {s : State} {m : MethodId} {args : Array Value} {below : List Frame} {meth : Method} {c : Code} {H : Heap} {locs : List Loc} {cells slots : Nat} {Q : State → Prop}
variable {cc : ByteArray} {pc : Nat} {ls : Array Slot} {rest : List Value} {nL : Nat} {E : cw_E} {A : Nat → Prop} {H0 : Heap}
theorem cJ2c_J13_stringSize {x0 : Int32} {r : Int32} (X : ww_C p m c cc nL s args RJ2 lw_all) (hsz : ls.size = nL) (hF : 1 ≤ R.frames) (hLo : 23 ≤ R.locals) (hc : cells ≤ R.cells) (hs : slots ≤ R.slots) (hf : fJ13_stringSize x0 = some r) (hrest : (rest.map fun v => v.category).sum ≤ 8) (hdg : decode cc pc = .ok (.invokestatic 245, 3)) (kk : W p l e R s m args below meth c H locs cells slots Q (F0 m (pc + 3) ls (.int r :: rest))) : W p l e R s m args below meth c H locs cells slots Q (F0 m pc ls (.int x0 :: rest)) :=
  t3_callS (n := 1) X hsz (As := [.int x0]) (metJ13_stringSize l x0 r hf) (lw_S q1561 q1562 q150 q1563) (by decide +kernel) rfl hF hLo hc hs hrest hdg kk
end C_J13_stringSize_c
noncomputable def fJ13_getChars_j2 (y2 : Nat) (y6 : Int32) (D_9 : cw_D) (x5_1 : Int32) : Option (Int32 × cw_D) :=
  if y6 = 0 then some (x5_1, D_9) else ww_b (cw_sI D_9 21 y2 (x5_1 + (-1 : Int32)) (vp_nar .byte (45 : Int32))) (fun D_11 => some ((x5_1 + (-1 : Int32)), D_11))
noncomputable def fJ13_getChars_b1c (y2 : Option Nat) (y6 : Int32) (D_2 : cw_D) (x0 : Int32) (x5 : Int32) : Option ((cw_D × Int32 × Int32) ⊕ (Int32 × cw_D)) :=
  if (-100 : Int32) < x0 then ww_x (ww_b (some (ww_R D_2.1 110)) (fun r_4 => ww_b r_4 (fun a_5 => ww_b (cw_xI D_2 21 a_5 (-x0)) (fun r_6 => ww_b y2 (fun a_7 => ww_b (cw_sI D_2 21 a_7 (x5 + (-1 : Int32)) (vp_nar .byte r_6)) (fun D_8 => if (-9 : Int32) ≤ x0 then fJ13_getChars_j2 a_7 y6 D_8 (x5 + (-1 : Int32)) else ww_b (some (ww_R D_8.1 111)) (fun r_13 => ww_b r_13 (fun a_14 => ww_b (cw_xI D_8 21 a_14 (-x0)) (fun r_15 => ww_b (cw_sI D_8 21 a_7 ((x5 + (-1 : Int32)) + (-1 : Int32)) (vp_nar .byte r_15)) (fun D_16 => fJ13_getChars_j2 a_7 y6 D_16 ((x5 + (-1 : Int32)) + (-1 : Int32)))))))))))) else ww_b (some (ww_R D_2.1 110)) (fun r_17 => ww_b r_17 (fun a_18 => ww_b (cw_xI D_2 21 a_18 (((x0 / (100 : Int32)) * (100 : Int32)) - x0)) (fun r_19 => ww_b y2 (fun a_20 => ww_b (cw_sI D_2 21 a_20 (x5 + (-1 : Int32)) (vp_nar .byte r_19)) (fun D_21 => ww_b (some (ww_R D_21.1 111)) (fun r_22 => ww_b r_22 (fun a_23 => ww_b (cw_xI D_21 21 a_23 (((x0 / (100 : Int32)) * (100 : Int32)) - x0)) (fun r_24 => ww_b (cw_sI D_21 21 a_20 ((x5 + (-1 : Int32)) + (-1 : Int32)) (vp_nar .byte r_24)) (fun D_25 => some (.inl (D_25, (x0 / (100 : Int32)), ((x5 + (-1 : Int32)) + (-1 : Int32)))))))))))))
noncomputable def fJ13_getChars_b1 (y2 : Option Nat) (y6 : Int32) : (cw_D × Int32 × Int32) → Option ((cw_D × Int32 × Int32) ⊕ (Int32 × cw_D)) := fun s9 => fJ13_getChars_b1c y2 y6 s9.1 s9.2.1 s9.2.2
noncomputable def fJ13_getChars_j3 (y2 : Nat) (y6 : Int32) (D_33 : cw_D) (x5_1 : Int32) : Option (Int32 × cw_D) :=
  if y6 = 0 then some (x5_1, D_33) else ww_b (cw_sI D_33 21 y2 (x5_1 + (-1 : Int32)) (vp_nar .byte (45 : Int32))) (fun D_35 => some ((x5_1 + (-1 : Int32)), D_35))
noncomputable def fJ13_getChars_b2c (y2 : Option Nat) (y6 : Int32) (D_26 : cw_D) (x0 : Int32) (x5 : Int32) : Option ((cw_D × Int32 × Int32) ⊕ (Int32 × cw_D)) :=
  if (-100 : Int32) < x0 then ww_x (ww_b (some (ww_R D_26.1 110)) (fun r_28 => ww_b r_28 (fun a_29 => ww_b (cw_xI D_26 21 a_29 (-x0)) (fun r_30 => ww_b y2 (fun a_31 => ww_b (cw_sI D_26 21 a_31 (x5 + (-1 : Int32)) (vp_nar .byte r_30)) (fun D_32 => if (-9 : Int32) ≤ x0 then fJ13_getChars_j3 a_31 y6 D_32 (x5 + (-1 : Int32)) else ww_b (some (ww_R D_32.1 111)) (fun r_37 => ww_b r_37 (fun a_38 => ww_b (cw_xI D_32 21 a_38 (-x0)) (fun r_39 => ww_b (cw_sI D_32 21 a_31 ((x5 + (-1 : Int32)) + (-1 : Int32)) (vp_nar .byte r_39)) (fun D_40 => fJ13_getChars_j3 a_31 y6 D_40 ((x5 + (-1 : Int32)) + (-1 : Int32)))))))))))) else ww_b (some (ww_R D_26.1 110)) (fun r_41 => ww_b r_41 (fun a_42 => ww_b (cw_xI D_26 21 a_42 (((x0 / (100 : Int32)) * (100 : Int32)) - x0)) (fun r_43 => ww_b y2 (fun a_44 => ww_b (cw_sI D_26 21 a_44 (x5 + (-1 : Int32)) (vp_nar .byte r_43)) (fun D_45 => ww_b (some (ww_R D_45.1 111)) (fun r_46 => ww_b r_46 (fun a_47 => ww_b (cw_xI D_45 21 a_47 (((x0 / (100 : Int32)) * (100 : Int32)) - x0)) (fun r_48 => ww_b (cw_sI D_45 21 a_44 ((x5 + (-1 : Int32)) + (-1 : Int32)) (vp_nar .byte r_48)) (fun D_49 => some (.inl (D_49, (x0 / (100 : Int32)), ((x5 + (-1 : Int32)) + (-1 : Int32)))))))))))))
noncomputable def fJ13_getChars_b2 (y2 : Option Nat) (y6 : Int32) : (cw_D × Int32 × Int32) → Option ((cw_D × Int32 × Int32) ⊕ (Int32 × cw_D)) := fun s9 => fJ13_getChars_b2c y2 y6 s9.1 s9.2.1 s9.2.2
noncomputable def fJ13_getChars_j1 (D : cw_D) (y0 : Int32) (y2 : Option Nat) (y5 : Int32) (t0 : Int32) : Option (Int32 × cw_D) :=
  if t0 = 0 then ww_U (fJ13_getChars_b2 y2 t0) (D, (-y0), y5) else ww_U (fJ13_getChars_b1 y2 t0) (D, y0, y5)
noncomputable def fJ13_getChars (D : cw_D) (x0 : Int32) (x1 : Int32) (x2 : Option Nat) : Option (Int32 × cw_D) :=
  if 0 ≤ x0 then fJ13_getChars_j1 D x0 x2 x1 (0 : Int32) else fJ13_getChars_j1 D x0 x2 x1 (1 : Int32)
section C_J13_getChars_k
variable {p : Program} {l : Launch} {e : Env} {R : Room} {s : State} {m : MethodId} {args : Array Value} {below : List Frame} {meth : Method} {c : Code} {H : Heap} {locs : List Loc} {cells slots : Nat} {Q : State → Prop}
variable {cc : ByteArray} {pc : Nat} {ls : Array Slot} {rest : List Value} {nL : Nat} {E : cw_E} {A : Nat → Prop} {H0 : Heap}
theorem cJ2k_J13_getChars {D : cw_D} {x0 : Int32} {x1 : Int32} {x2 : Option Nat} {r : Int32} {D' : cw_D} (X : ww_C p m c cc nL s args RJ2 lw_all) (hsz : ls.size = nL) (hK : cw_K E A s) (hR : cw_H E A D H) (hS : va_S A s.heap H locs) (hF : 1 ≤ R.frames) (hLo : 26 ≤ R.locals) (hc : cells ≤ R.cells) (hs : slots ≤ R.slots) (hM : cw_MetI l yJ13_getChars cJ13_getChars 7 (some Jvm.ClassFile.FieldType.int) 0 0 E A [.int x0, .int x1, va_rf x2] D D' r 0 0) (hrest : (rest.map fun v => v.category).sum ≤ 8) (hdg : decode cc pc = .ok (.invokestatic 248, 3)) (kk : ∀ (H1 : Heap) (locs1 : List Loc), cw_H E A D' H1 → va_S A s.heap H1 locs1 → W p l e R s m args below meth c H1 locs1 cells slots Q (F0 m (pc + 3) ls (.int r :: rest))) : W p l e R s m args below meth c H locs cells slots Q (F0 m pc ls (va_rf x2 :: .int x1 :: .int x0 :: rest)) :=
  va_calli (va_runS (As := [.int x0, .int x1, va_rf x2]) (rest := rest) X hM (va_cwS 3 X.2.2.2.2 (lw_S q1564 q1565 q150 q1566) rfl rfl rfl (by decide +kernel) ⟨hF, hLo⟩) (cw_pS hK hR hS) rfl rfl hsz rfl (lv_room hrest) hdg ⟨hc, hs⟩) hS (fun q _ h => h) (fun q h => h) (fun r' u t H1 locs1 ht hvm hw hB hz1 hk1 hS1 => by subst hw; rw [ht] at hB; exact kk H1 locs1 hB hS1)
end C_J13_getChars_k
set_option maxHeartbeats 4000000 in
set_option maxRecDepth 100000 in
theorem metJ13_getChars (l : Launch) {E : cw_E} {A : Nat → Prop} (D : cw_D) (x0 : Int32) (x1 : Int32) (x2 : Option Nat) (r : Int32) (D' : cw_D) (hf : fJ13_getChars D x0 x1 x2 = some (r, D')) : cw_MetI l yJ13_getChars cJ13_getChars 7 (some Jvm.ClassFile.FieldType.int) 0 0 E A [.int x0, .int x1, va_rf x2] D D' r 0 0 := by
  unfold fJ13_getChars at hf
  refine cw_sID (own := RJ13) (by decide +kernel) [(0, .int x0), (1, .int x1), (2, va_rf x2)] ⟨by cases x2 <;> exact Nat.le_of_ble_eq_true rfl, by cases x2 <;> rfl⟩ ?_
  intro p e s m args below meth c Rm Q X hK hF hLo hin hend ls hl hR hS
  obtain ⟨hx, hb, hml, hown, hts⟩ := id X
  refine lv_iload_n hx hb dJ13_getChars_0 rfl (lv_at hl 1 rfl) ?_
  refine lv_istore (lv' := [(5, .int x1), (0, .int x0), (1, .int x1), (2, va_rf x2)]) hx hb dJ13_getChars_1 hl (by decide) rfl (fun ls hl => ?_)
  refine lv_iload_n hx hb dJ13_getChars_3 rfl (lv_at hl 1 rfl) ?_
  have hj_1 : ∀ (t0 : Int32), fJ13_getChars_j1 D x0 x2 x1 t0 = some (r, D') → ∀ (H : Heap) (locs : List Loc) (ls : Array Slot), cw_H E A D H → va_S A s.heap H locs → lv_has ls 7 [(0, .int x0), (2, va_rf x2), (5, .int x1)] → W p l e Rm s m args below meth c H locs 0 0 Q (F0 m 12 ls [.int t0]) := by
    clear hf
    intro t0 hf
    unfold fJ13_getChars_j1 at hf
    try clear hl
    try clear hS
    try clear hR
    intro H locs ls hR hS hl
    refine lv_istore (lv' := [(6, .int t0), (0, .int x0), (2, va_rf x2), (5, .int x1)]) hx hb dJ13_getChars_12 hl (by decide) rfl (fun ls hl => ?_)
    refine lv_iload hx hb dJ13_getChars_14 (lv_at hl 0 rfl) ?_
    refine lv_if_ne (tgt := 22) hx hb dJ13_getChars_16 (by decide) (fun c_1 => ?_) (fun c_1 => ?_)
    · replace hf := ww_in hf c_1
      have hL_1 : ∀ s9 : cw_D × Int32 × Int32, ww_U (fJ13_getChars_b1 x2 t0) s9 = some (r, D') → ∀ (H : Heap) (locs : List Loc) (ls : Array Slot), cw_H E A s9.1 H → va_S A s.heap H locs → lv_has ls 7 [(0, .int s9.2.1), (2, va_rf x2), (5, .int s9.2.2), (6, .int t0)] → W p l e Rm s m args below meth c H locs 0 0 Q (F0 m 22 ls []) := by
        clear hf
        refine ww_ind _ (r, D') ?_
        intro s9 z_1 hf hz_1
        obtain ⟨D_2, x0_1, x5⟩ := s9
        replace hf : fJ13_getChars_b1c x2 t0 D_2 x0_1 x5 = some z_1 := hf
        unfold fJ13_getChars_b1c at hf
        try clear hl
        try clear hS
        try clear hR
        intro H locs ls hR hS hl
        replace hR : cw_H E A D_2 H := hR
        replace hl : lv_has ls 7 [(0, .int x0_1), (2, va_rf x2), (5, .int x5), (6, .int t0)] := hl
        refine lv_iload_n hx hb dJ13_getChars_22 rfl (lv_at hl 0 rfl) ?_
        refine lv_bipush (v := (-100 : Int32)) hx hb dJ13_getChars_23 (by decide) ?_
        refine lv_icmp_gt (tgt := 72) hx hb dJ13_getChars_25 (by decide) (fun c_3 => ?_) (fun c_3 => ?_)
        · replace hf := ww_ip hf c_3
          replace hf := ww_xK hf hz_1
          refine cw_aload_n (x := x2) hx hb dJ13_getChars_72 rfl (lv_at hl 1 rfl) ?_
          refine lv_iinc (k := 2) (v := x5 + (-1 : Int32)) (lv' := [(5, .int (x5 + (-1 : Int32))), (0, .int x0_1), (2, va_rf x2), (6, .int t0)]) hx hb dJ13_getChars_73 hl rfl rfl (by decide) rfl (fun ls hl => ?_)
          refine lv_iload hx hb dJ13_getChars_76 (lv_at hl 0 rfl) ?_
          obtain ⟨r_4, h_4, hq⟩ := ww_bS hf; replace hf := hq; clear hq
          refine cw_getsR (j := 110) X hR hS (by decide) h_4 hK.ct.2.2.1 q1567 dJ13_getChars_78 ?_
          refine lv_iload_n hx hb dJ13_getChars_81 rfl (lv_at hl 1 rfl) ?_
          refine lv_ineg hx hb dJ13_getChars_82 ?_
          obtain ⟨a_5, e_5, hq⟩ := ww_bS hf; replace hf := hq; clear hq
          subst e_5
          obtain ⟨r_6, h_6, hq⟩ := ww_bS hf; replace hf := hq; clear hq
          refine cw_oxI (kd := 21) (x := some a_5) X hK hR (by decide) rfl h_6 dJ13_getChars_83 ?_
          obtain ⟨a_7, e_7, hq⟩ := ww_bS hf; replace hf := hq; clear hq
          subst e_7
          obtain ⟨D_8, h_8, hq⟩ := ww_bS hf; replace hf := hq; clear hq
          refine cw_osI (kd := 21) (x' := some a_7) (v := r_6) X hK hR hS (Or.inr ⟨rfl, rfl, rfl⟩) rfl h_8 dJ13_getChars_84 (fun H locs hR hS => ?_)
          refine lv_iload_n hx hb dJ13_getChars_85 rfl (lv_at hl 1 rfl) ?_
          refine lv_bipush (v := (-9 : Int32)) hx hb dJ13_getChars_86 (by decide) ?_
          have hj_2 : ∀ (D_9 : cw_D) (x5_1 : Int32), fJ13_getChars_j2 a_7 t0 D_9 x5_1 = some (r, D') → ∀ (H : Heap) (locs : List Loc) (ls : Array Slot), cw_H E A D_9 H → va_S A s.heap H locs → lv_has ls 7 [(2, .ref a_7), (5, .int x5_1), (6, .int t0)] → W p l e Rm s m args below meth c H locs 0 0 Q (F0 m 104 ls []) := by
            clear hf
            intro D_9 x5_1 hf
            unfold fJ13_getChars_j2 at hf
            try clear hl
            try clear hS
            try clear hR
            intro H locs ls hR hS hl
            refine lv_iload hx hb dJ13_getChars_104 (lv_at hl 2 rfl) ?_
            refine lv_if_eq (tgt := 118) hx hb dJ13_getChars_106 (by decide) (fun c_10 => ?_) (fun c_10 => ?_)
            · replace hf := ww_ip hf c_10
              refine lv_iload hx hb dJ13_getChars_118 (lv_at hl 1 rfl) ?_
              exact hend dJ13_getChars_120 rfl rfl hf hR hS
            · replace hf := ww_in hf c_10
              refine lv_aload_n hx hb dJ13_getChars_109 rfl (lv_at hl 0 rfl) ?_
              refine lv_iinc (k := 1) (v := x5_1 + (-1 : Int32)) (lv' := [(5, .int (x5_1 + (-1 : Int32))), (2, .ref a_7), (6, .int t0)]) hx hb dJ13_getChars_110 hl rfl rfl (by decide) rfl (fun ls hl => ?_)
              refine lv_iload hx hb dJ13_getChars_113 (lv_at hl 0 rfl) ?_
              refine lv_bipush (v := (45 : Int32)) hx hb dJ13_getChars_115 (by decide) ?_
              obtain ⟨D_11, h_11, hq⟩ := ww_bS hf; replace hf := hq; clear hq
              refine cw_osI (kd := 21) (x' := some a_7) (v := (45 : Int32)) X hK hR hS (Or.inr ⟨rfl, rfl, rfl⟩) rfl h_11 dJ13_getChars_117 (fun H locs hR hS => ?_)
              refine lv_iload hx hb dJ13_getChars_118 (lv_at hl 0 rfl) ?_
              exact hend dJ13_getChars_120 rfl rfl hf hR hS
          refine lv_icmp_ge (tgt := 104) hx hb dJ13_getChars_88 (by decide) (fun c_12 => ?_) (fun c_12 => ?_)
          · replace hf := ww_ip hf c_12
            exact hj_2 D_8 (x5 + (-1 : Int32)) hf _ _ _ hR hS (lv_sub hl [2, 0, 3] rfl)
          · replace hf := ww_in hf c_12
            refine lv_aload_n hx hb dJ13_getChars_91 rfl (lv_at hl 2 rfl) ?_
            refine lv_iinc (k := 0) (v := (x5 + (-1 : Int32)) + (-1 : Int32)) (lv' := [(5, .int ((x5 + (-1 : Int32)) + (-1 : Int32))), (0, .int x0_1), (2, .ref a_7), (6, .int t0)]) hx hb dJ13_getChars_92 hl rfl rfl (by decide) rfl (fun ls hl => ?_)
            refine lv_iload hx hb dJ13_getChars_95 (lv_at hl 0 rfl) ?_
            obtain ⟨r_13, h_13, hq⟩ := ww_bS hf; replace hf := hq; clear hq
            refine cw_getsR (j := 111) X hR hS (by decide) h_13 hK.ct.2.2.2.1 q1569 dJ13_getChars_97 ?_
            refine lv_iload_n hx hb dJ13_getChars_100 rfl (lv_at hl 1 rfl) ?_
            refine lv_ineg hx hb dJ13_getChars_101 ?_
            obtain ⟨a_14, e_14, hq⟩ := ww_bS hf; replace hf := hq; clear hq
            subst e_14
            obtain ⟨r_15, h_15, hq⟩ := ww_bS hf; replace hf := hq; clear hq
            refine cw_oxI (kd := 21) (x := some a_14) X hK hR (by decide) rfl h_15 dJ13_getChars_102 ?_
            obtain ⟨D_16, h_16, hq⟩ := ww_bS hf; replace hf := hq; clear hq
            refine cw_osI (kd := 21) (x' := some a_7) (v := r_15) X hK hR hS (Or.inr ⟨rfl, rfl, rfl⟩) rfl h_16 dJ13_getChars_103 (fun H locs hR hS => ?_)
            exact hj_2 D_16 ((x5 + (-1 : Int32)) + (-1 : Int32)) hf _ _ _ hR hS (lv_sub hl [2, 0, 3] rfl)
        · replace hf := ww_in hf c_3
          refine lv_iload_n hx hb dJ13_getChars_28 rfl (lv_at hl 0 rfl) ?_
          refine lv_bipush (v := (100 : Int32)) hx hb dJ13_getChars_29 (by decide) ?_
          refine lv_idiv hx hb dJ13_getChars_31 (by decide) ?_
          refine lv_istore_n (lv' := [(3, .int (x0_1 / (100 : Int32))), (0, .int x0_1), (2, va_rf x2), (5, .int x5), (6, .int t0)]) hx hb dJ13_getChars_32 rfl hl (by decide) (by cases x2 <;> rfl) (fun ls hl => ?_)
          refine lv_iload_n hx hb dJ13_getChars_33 rfl (lv_at hl 0 rfl) ?_
          refine lv_bipush (v := (100 : Int32)) hx hb dJ13_getChars_34 (by decide) ?_
          refine lv_imul hx hb dJ13_getChars_36 ?_
          refine lv_iload_n hx hb dJ13_getChars_37 rfl (lv_at hl 1 rfl) ?_
          refine lv_isub hx hb dJ13_getChars_38 ?_
          refine lv_istore (lv' := [(4, .int (((x0_1 / (100 : Int32)) * (100 : Int32)) - x0_1)), (3, .int (x0_1 / (100 : Int32))), (0, .int x0_1), (2, va_rf x2), (5, .int x5), (6, .int t0)]) hx hb dJ13_getChars_39 hl (by decide) rfl (fun ls hl => ?_)
          refine lv_iload_n hx hb dJ13_getChars_41 rfl (lv_at hl 1 rfl) ?_
          refine lv_istore_n (lv' := [(0, .int (x0_1 / (100 : Int32))), (4, .int (((x0_1 / (100 : Int32)) * (100 : Int32)) - x0_1)), (3, .int (x0_1 / (100 : Int32))), (2, va_rf x2), (5, .int x5), (6, .int t0)]) hx hb dJ13_getChars_42 rfl hl (by decide) rfl (fun ls hl => ?_)
          refine cw_aload_n (x := x2) hx hb dJ13_getChars_43 rfl (lv_at hl 3 rfl) ?_
          refine lv_iinc (k := 4) (v := x5 + (-1 : Int32)) (lv' := [(5, .int (x5 + (-1 : Int32))), (0, .int (x0_1 / (100 : Int32))), (4, .int (((x0_1 / (100 : Int32)) * (100 : Int32)) - x0_1)), (3, .int (x0_1 / (100 : Int32))), (2, va_rf x2), (6, .int t0)]) hx hb dJ13_getChars_44 hl rfl rfl (by decide) rfl (fun ls hl => ?_)
          refine lv_iload hx hb dJ13_getChars_47 (lv_at hl 0 rfl) ?_
          obtain ⟨r_17, h_17, hq⟩ := ww_bS hf; replace hf := hq; clear hq
          refine cw_getsR (j := 110) X hR hS (by decide) h_17 hK.ct.2.2.1 q1567 dJ13_getChars_49 ?_
          refine lv_iload hx hb dJ13_getChars_52 (lv_at hl 2 rfl) ?_
          obtain ⟨a_18, e_18, hq⟩ := ww_bS hf; replace hf := hq; clear hq
          subst e_18
          obtain ⟨r_19, h_19, hq⟩ := ww_bS hf; replace hf := hq; clear hq
          refine cw_oxI (kd := 21) (x := some a_18) X hK hR (by decide) rfl h_19 dJ13_getChars_54 ?_
          obtain ⟨a_20, e_20, hq⟩ := ww_bS hf; replace hf := hq; clear hq
          subst e_20
          obtain ⟨D_21, h_21, hq⟩ := ww_bS hf; replace hf := hq; clear hq
          refine cw_osI (kd := 21) (x' := some a_20) (v := r_19) X hK hR hS (Or.inr ⟨rfl, rfl, rfl⟩) rfl h_21 dJ13_getChars_55 (fun H locs hR hS => ?_)
          refine lv_aload_n hx hb dJ13_getChars_56 rfl (lv_at hl 4 rfl) ?_
          refine lv_iinc (k := 0) (v := (x5 + (-1 : Int32)) + (-1 : Int32)) (lv' := [(5, .int ((x5 + (-1 : Int32)) + (-1 : Int32))), (0, .int (x0_1 / (100 : Int32))), (4, .int (((x0_1 / (100 : Int32)) * (100 : Int32)) - x0_1)), (3, .int (x0_1 / (100 : Int32))), (2, .ref a_20), (6, .int t0)]) hx hb dJ13_getChars_57 hl rfl rfl (by decide) rfl (fun ls hl => ?_)
          refine lv_iload hx hb dJ13_getChars_60 (lv_at hl 0 rfl) ?_
          obtain ⟨r_22, h_22, hq⟩ := ww_bS hf; replace hf := hq; clear hq
          refine cw_getsR (j := 111) X hR hS (by decide) h_22 hK.ct.2.2.2.1 q1569 dJ13_getChars_62 ?_
          refine lv_iload hx hb dJ13_getChars_65 (lv_at hl 2 rfl) ?_
          obtain ⟨a_23, e_23, hq⟩ := ww_bS hf; replace hf := hq; clear hq
          subst e_23
          obtain ⟨r_24, h_24, hq⟩ := ww_bS hf; replace hf := hq; clear hq
          refine cw_oxI (kd := 21) (x := some a_23) X hK hR (by decide) rfl h_24 dJ13_getChars_67 ?_
          obtain ⟨D_25, h_25, hq⟩ := ww_bS hf; replace hf := hq; clear hq
          refine cw_osI (kd := 21) (x' := some a_20) (v := r_24) X hK hR hS (Or.inr ⟨rfl, rfl, rfl⟩) rfl h_25 dJ13_getChars_68 (fun H locs hR hS => ?_)
          refine lv_goto (tgt := 22) hx hb dJ13_getChars_69 (by decide) ?_
          exact ww_lK hf hz_1 _ _ _ hR hS (lv_sub hl [1, 4, 0, 5] rfl)
      exact hL_1 (D, x0, x1) hf _ _ _ hR hS (lv_sub hl [1, 2, 3, 0] rfl)
    · replace hf := ww_ip hf c_1
      refine lv_iload_n hx hb dJ13_getChars_19 rfl (lv_at hl 1 rfl) ?_
      refine lv_ineg hx hb dJ13_getChars_20 ?_
      refine lv_istore_n (lv' := [(0, .int (-x0)), (6, .int t0), (2, va_rf x2), (5, .int x1)]) hx hb dJ13_getChars_21 rfl hl (by decide) rfl (fun ls hl => ?_)
      have hL_2 : ∀ s9 : cw_D × Int32 × Int32, ww_U (fJ13_getChars_b2 x2 t0) s9 = some (r, D') → ∀ (H : Heap) (locs : List Loc) (ls : Array Slot), cw_H E A s9.1 H → va_S A s.heap H locs → lv_has ls 7 [(0, .int s9.2.1), (2, va_rf x2), (5, .int s9.2.2), (6, .int t0)] → W p l e Rm s m args below meth c H locs 0 0 Q (F0 m 22 ls []) := by
        clear hf
        refine ww_ind _ (r, D') ?_
        intro s9 z_2 hf hz_2
        obtain ⟨D_26, x0_1, x5⟩ := s9
        replace hf : fJ13_getChars_b2c x2 t0 D_26 x0_1 x5 = some z_2 := hf
        unfold fJ13_getChars_b2c at hf
        try clear hl
        try clear hS
        try clear hR
        intro H locs ls hR hS hl
        replace hR : cw_H E A D_26 H := hR
        replace hl : lv_has ls 7 [(0, .int x0_1), (2, va_rf x2), (5, .int x5), (6, .int t0)] := hl
        refine lv_iload_n hx hb dJ13_getChars_22 rfl (lv_at hl 0 rfl) ?_
        refine lv_bipush (v := (-100 : Int32)) hx hb dJ13_getChars_23 (by decide) ?_
        refine lv_icmp_gt (tgt := 72) hx hb dJ13_getChars_25 (by decide) (fun c_27 => ?_) (fun c_27 => ?_)
        · replace hf := ww_ip hf c_27
          replace hf := ww_xK hf hz_2
          refine cw_aload_n (x := x2) hx hb dJ13_getChars_72 rfl (lv_at hl 1 rfl) ?_
          refine lv_iinc (k := 2) (v := x5 + (-1 : Int32)) (lv' := [(5, .int (x5 + (-1 : Int32))), (0, .int x0_1), (2, va_rf x2), (6, .int t0)]) hx hb dJ13_getChars_73 hl rfl rfl (by decide) rfl (fun ls hl => ?_)
          refine lv_iload hx hb dJ13_getChars_76 (lv_at hl 0 rfl) ?_
          obtain ⟨r_28, h_28, hq⟩ := ww_bS hf; replace hf := hq; clear hq
          refine cw_getsR (j := 110) X hR hS (by decide) h_28 hK.ct.2.2.1 q1567 dJ13_getChars_78 ?_
          refine lv_iload_n hx hb dJ13_getChars_81 rfl (lv_at hl 1 rfl) ?_
          refine lv_ineg hx hb dJ13_getChars_82 ?_
          obtain ⟨a_29, e_29, hq⟩ := ww_bS hf; replace hf := hq; clear hq
          subst e_29
          obtain ⟨r_30, h_30, hq⟩ := ww_bS hf; replace hf := hq; clear hq
          refine cw_oxI (kd := 21) (x := some a_29) X hK hR (by decide) rfl h_30 dJ13_getChars_83 ?_
          obtain ⟨a_31, e_31, hq⟩ := ww_bS hf; replace hf := hq; clear hq
          subst e_31
          obtain ⟨D_32, h_32, hq⟩ := ww_bS hf; replace hf := hq; clear hq
          refine cw_osI (kd := 21) (x' := some a_31) (v := r_30) X hK hR hS (Or.inr ⟨rfl, rfl, rfl⟩) rfl h_32 dJ13_getChars_84 (fun H locs hR hS => ?_)
          refine lv_iload_n hx hb dJ13_getChars_85 rfl (lv_at hl 1 rfl) ?_
          refine lv_bipush (v := (-9 : Int32)) hx hb dJ13_getChars_86 (by decide) ?_
          have hj_3 : ∀ (D_33 : cw_D) (x5_1 : Int32), fJ13_getChars_j3 a_31 t0 D_33 x5_1 = some (r, D') → ∀ (H : Heap) (locs : List Loc) (ls : Array Slot), cw_H E A D_33 H → va_S A s.heap H locs → lv_has ls 7 [(2, .ref a_31), (5, .int x5_1), (6, .int t0)] → W p l e Rm s m args below meth c H locs 0 0 Q (F0 m 104 ls []) := by
            clear hf
            intro D_33 x5_1 hf
            unfold fJ13_getChars_j3 at hf
            try clear hl
            try clear hS
            try clear hR
            intro H locs ls hR hS hl
            refine lv_iload hx hb dJ13_getChars_104 (lv_at hl 2 rfl) ?_
            refine lv_if_eq (tgt := 118) hx hb dJ13_getChars_106 (by decide) (fun c_34 => ?_) (fun c_34 => ?_)
            · replace hf := ww_ip hf c_34
              refine lv_iload hx hb dJ13_getChars_118 (lv_at hl 1 rfl) ?_
              exact hend dJ13_getChars_120 rfl rfl hf hR hS
            · replace hf := ww_in hf c_34
              refine lv_aload_n hx hb dJ13_getChars_109 rfl (lv_at hl 0 rfl) ?_
              refine lv_iinc (k := 1) (v := x5_1 + (-1 : Int32)) (lv' := [(5, .int (x5_1 + (-1 : Int32))), (2, .ref a_31), (6, .int t0)]) hx hb dJ13_getChars_110 hl rfl rfl (by decide) rfl (fun ls hl => ?_)
              refine lv_iload hx hb dJ13_getChars_113 (lv_at hl 0 rfl) ?_
              refine lv_bipush (v := (45 : Int32)) hx hb dJ13_getChars_115 (by decide) ?_
              obtain ⟨D_35, h_35, hq⟩ := ww_bS hf; replace hf := hq; clear hq
              refine cw_osI (kd := 21) (x' := some a_31) (v := (45 : Int32)) X hK hR hS (Or.inr ⟨rfl, rfl, rfl⟩) rfl h_35 dJ13_getChars_117 (fun H locs hR hS => ?_)
              refine lv_iload hx hb dJ13_getChars_118 (lv_at hl 0 rfl) ?_
              exact hend dJ13_getChars_120 rfl rfl hf hR hS
          refine lv_icmp_ge (tgt := 104) hx hb dJ13_getChars_88 (by decide) (fun c_36 => ?_) (fun c_36 => ?_)
          · replace hf := ww_ip hf c_36
            exact hj_3 D_32 (x5 + (-1 : Int32)) hf _ _ _ hR hS (lv_sub hl [2, 0, 3] rfl)
          · replace hf := ww_in hf c_36
            refine lv_aload_n hx hb dJ13_getChars_91 rfl (lv_at hl 2 rfl) ?_
            refine lv_iinc (k := 0) (v := (x5 + (-1 : Int32)) + (-1 : Int32)) (lv' := [(5, .int ((x5 + (-1 : Int32)) + (-1 : Int32))), (0, .int x0_1), (2, .ref a_31), (6, .int t0)]) hx hb dJ13_getChars_92 hl rfl rfl (by decide) rfl (fun ls hl => ?_)
            refine lv_iload hx hb dJ13_getChars_95 (lv_at hl 0 rfl) ?_
            obtain ⟨r_37, h_37, hq⟩ := ww_bS hf; replace hf := hq; clear hq
            refine cw_getsR (j := 111) X hR hS (by decide) h_37 hK.ct.2.2.2.1 q1569 dJ13_getChars_97 ?_
            refine lv_iload_n hx hb dJ13_getChars_100 rfl (lv_at hl 1 rfl) ?_
            refine lv_ineg hx hb dJ13_getChars_101 ?_
            obtain ⟨a_38, e_38, hq⟩ := ww_bS hf; replace hf := hq; clear hq
            subst e_38
            obtain ⟨r_39, h_39, hq⟩ := ww_bS hf; replace hf := hq; clear hq
            refine cw_oxI (kd := 21) (x := some a_38) X hK hR (by decide) rfl h_39 dJ13_getChars_102 ?_
            obtain ⟨D_40, h_40, hq⟩ := ww_bS hf; replace hf := hq; clear hq
            refine cw_osI (kd := 21) (x' := some a_31) (v := r_39) X hK hR hS (Or.inr ⟨rfl, rfl, rfl⟩) rfl h_40 dJ13_getChars_103 (fun H locs hR hS => ?_)
            exact hj_3 D_40 ((x5 + (-1 : Int32)) + (-1 : Int32)) hf _ _ _ hR hS (lv_sub hl [2, 0, 3] rfl)
        · replace hf := ww_in hf c_27
          refine lv_iload_n hx hb dJ13_getChars_28 rfl (lv_at hl 0 rfl) ?_
          refine lv_bipush (v := (100 : Int32)) hx hb dJ13_getChars_29 (by decide) ?_
          refine lv_idiv hx hb dJ13_getChars_31 (by decide) ?_
          refine lv_istore_n (lv' := [(3, .int (x0_1 / (100 : Int32))), (0, .int x0_1), (2, va_rf x2), (5, .int x5), (6, .int t0)]) hx hb dJ13_getChars_32 rfl hl (by decide) (by cases x2 <;> rfl) (fun ls hl => ?_)
          refine lv_iload_n hx hb dJ13_getChars_33 rfl (lv_at hl 0 rfl) ?_
          refine lv_bipush (v := (100 : Int32)) hx hb dJ13_getChars_34 (by decide) ?_
          refine lv_imul hx hb dJ13_getChars_36 ?_
          refine lv_iload_n hx hb dJ13_getChars_37 rfl (lv_at hl 1 rfl) ?_
          refine lv_isub hx hb dJ13_getChars_38 ?_
          refine lv_istore (lv' := [(4, .int (((x0_1 / (100 : Int32)) * (100 : Int32)) - x0_1)), (3, .int (x0_1 / (100 : Int32))), (0, .int x0_1), (2, va_rf x2), (5, .int x5), (6, .int t0)]) hx hb dJ13_getChars_39 hl (by decide) rfl (fun ls hl => ?_)
          refine lv_iload_n hx hb dJ13_getChars_41 rfl (lv_at hl 1 rfl) ?_
          refine lv_istore_n (lv' := [(0, .int (x0_1 / (100 : Int32))), (4, .int (((x0_1 / (100 : Int32)) * (100 : Int32)) - x0_1)), (3, .int (x0_1 / (100 : Int32))), (2, va_rf x2), (5, .int x5), (6, .int t0)]) hx hb dJ13_getChars_42 rfl hl (by decide) rfl (fun ls hl => ?_)
          refine cw_aload_n (x := x2) hx hb dJ13_getChars_43 rfl (lv_at hl 3 rfl) ?_
          refine lv_iinc (k := 4) (v := x5 + (-1 : Int32)) (lv' := [(5, .int (x5 + (-1 : Int32))), (0, .int (x0_1 / (100 : Int32))), (4, .int (((x0_1 / (100 : Int32)) * (100 : Int32)) - x0_1)), (3, .int (x0_1 / (100 : Int32))), (2, va_rf x2), (6, .int t0)]) hx hb dJ13_getChars_44 hl rfl rfl (by decide) rfl (fun ls hl => ?_)
          refine lv_iload hx hb dJ13_getChars_47 (lv_at hl 0 rfl) ?_
          obtain ⟨r_41, h_41, hq⟩ := ww_bS hf; replace hf := hq; clear hq
          refine cw_getsR (j := 110) X hR hS (by decide) h_41 hK.ct.2.2.1 q1567 dJ13_getChars_49 ?_
          refine lv_iload hx hb dJ13_getChars_52 (lv_at hl 2 rfl) ?_
          obtain ⟨a_42, e_42, hq⟩ := ww_bS hf; replace hf := hq; clear hq
          subst e_42
          obtain ⟨r_43, h_43, hq⟩ := ww_bS hf; replace hf := hq; clear hq
          refine cw_oxI (kd := 21) (x := some a_42) X hK hR (by decide) rfl h_43 dJ13_getChars_54 ?_
          obtain ⟨a_44, e_44, hq⟩ := ww_bS hf; replace hf := hq; clear hq
          subst e_44
          obtain ⟨D_45, h_45, hq⟩ := ww_bS hf; replace hf := hq; clear hq
          refine cw_osI (kd := 21) (x' := some a_44) (v := r_43) X hK hR hS (Or.inr ⟨rfl, rfl, rfl⟩) rfl h_45 dJ13_getChars_55 (fun H locs hR hS => ?_)
          refine lv_aload_n hx hb dJ13_getChars_56 rfl (lv_at hl 4 rfl) ?_
          refine lv_iinc (k := 0) (v := (x5 + (-1 : Int32)) + (-1 : Int32)) (lv' := [(5, .int ((x5 + (-1 : Int32)) + (-1 : Int32))), (0, .int (x0_1 / (100 : Int32))), (4, .int (((x0_1 / (100 : Int32)) * (100 : Int32)) - x0_1)), (3, .int (x0_1 / (100 : Int32))), (2, .ref a_44), (6, .int t0)]) hx hb dJ13_getChars_57 hl rfl rfl (by decide) rfl (fun ls hl => ?_)
          refine lv_iload hx hb dJ13_getChars_60 (lv_at hl 0 rfl) ?_
          obtain ⟨r_46, h_46, hq⟩ := ww_bS hf; replace hf := hq; clear hq
          refine cw_getsR (j := 111) X hR hS (by decide) h_46 hK.ct.2.2.2.1 q1569 dJ13_getChars_62 ?_
          refine lv_iload hx hb dJ13_getChars_65 (lv_at hl 2 rfl) ?_
          obtain ⟨a_47, e_47, hq⟩ := ww_bS hf; replace hf := hq; clear hq
          subst e_47
          obtain ⟨r_48, h_48, hq⟩ := ww_bS hf; replace hf := hq; clear hq
          refine cw_oxI (kd := 21) (x := some a_47) X hK hR (by decide) rfl h_48 dJ13_getChars_67 ?_
          obtain ⟨D_49, h_49, hq⟩ := ww_bS hf; replace hf := hq; clear hq
          refine cw_osI (kd := 21) (x' := some a_44) (v := r_48) X hK hR hS (Or.inr ⟨rfl, rfl, rfl⟩) rfl h_49 dJ13_getChars_68 (fun H locs hR hS => ?_)
          refine lv_goto (tgt := 22) hx hb dJ13_getChars_69 (by decide) ?_
          exact ww_lK hf hz_2 _ _ _ hR hS (lv_sub hl [1, 4, 0, 5] rfl)
      exact hL_2 (D, (-x0), x1) hf _ _ _ hR hS (lv_sub hl [0, 2, 3, 1] rfl)
  refine lv_if_ge (tgt := 11) hx hb dJ13_getChars_4 (by decide) (fun c_50 => ?_) (fun c_50 => ?_)
  · replace hf := ww_ip hf c_50
    refine lv_iconst (v := (0 : Int32)) hx hb dJ13_getChars_11 (by decide) ?_
    exact hj_1 (0 : Int32) hf _ _ _ hR hS (lv_sub hl [1, 3, 0] rfl)
  · replace hf := ww_in hf c_50
    refine lv_iconst (v := (1 : Int32)) hx hb dJ13_getChars_7 (by decide) ?_
    refine lv_goto (tgt := 12) hx hb dJ13_getChars_8 (by decide) ?_
    exact hj_1 (1 : Int32) hf _ _ _ hR hS (lv_sub hl [1, 3, 0] rfl)
section C_J13_getChars_c
variable {p : Program} {l : Launch} {e : Env} {R : Room} {s : State} {m : MethodId} {args : Array Value} {below : List Frame} {meth : Method} {c : Code} {H : Heap} {locs : List Loc} {cells slots : Nat} {Q : State → Prop}
variable {cc : ByteArray} {pc : Nat} {ls : Array Slot} {rest : List Value} {nL : Nat} {E : cw_E} {A : Nat → Prop} {H0 : Heap}
theorem cJ2c_J13_getChars {D : cw_D} {x0 : Int32} {x1 : Int32} {x2 : Option Nat} {r : Int32} {D' : cw_D} (X : ww_C p m c cc nL s args RJ2 lw_all) (hsz : ls.size = nL) (hK : cw_K E A s) (hR : cw_H E A D H) (hS : va_S A s.heap H locs) (hF : 1 ≤ R.frames) (hLo : 26 ≤ R.locals) (hc : cells ≤ R.cells) (hs : slots ≤ R.slots) (hf : fJ13_getChars D x0 x1 x2 = some (r, D')) (hrest : (rest.map fun v => v.category).sum ≤ 8) (hdg : decode cc pc = .ok (.invokestatic 248, 3)) (kk : ∀ (H1 : Heap) (locs1 : List Loc), cw_H E A D' H1 → va_S A s.heap H1 locs1 → W p l e R s m args below meth c H1 locs1 cells slots Q (F0 m (pc + 3) ls (.int r :: rest))) : W p l e R s m args below meth c H locs cells slots Q (F0 m pc ls (va_rf x2 :: .int x1 :: .int x0 :: rest)) :=
  cJ2k_J13_getChars X hsz hK hR hS hF hLo hc hs (metJ13_getChars l _ _ _ _ _ _ hf) hrest hdg kk
end C_J13_getChars_c
noncomputable def fJ6_newLength (x0 : Int32) (x1 : Int32) (x2 : Int32) : Option (Int32) :=
  if (x0 + (if x1 < x2 then x2 else x1)) ≤ (0 : Int32) then none else if (2147483639 : Int32) < (x0 + (if x1 < x2 then x2 else x1)) then none else some (x0 + (if x1 < x2 then x2 else x1))
set_option maxHeartbeats 4000000 in
set_option maxRecDepth 100000 in
theorem metJ6_newLength (l : Launch) (x0 : Int32) (x1 : Int32) (x2 : Int32) (r : Int32) (hf : fJ6_newLength x0 x1 x2 = some r) : t3_MetS l yJ6_newLength cJ6_newLength 4 (some Jvm.ClassFile.FieldType.int) 1 100 [.int x0, .int x1, .int x2] r := by
  unfold fJ6_newLength at hf
  refine t3_startS (own := RJ6) (by decide +kernel) (Nat.le_of_ble_eq_true rfl) ?_
  intro p e s m args below meth c Rm Q X hF hLo hend ls hl hS; have hR : s.heap = s.heap := rfl
  obtain ⟨hx, hb, hml, hown, hts⟩ := id X
  replace hl : lv_has ls 4 [(0, .int x0), (1, .int x1), (2, .int x2)] := hl
  refine lv_iload_n hx hb dJ6_newLength_0 rfl (lv_at hl 0 rfl) ?_
  refine lv_iload_n hx hb dJ6_newLength_1 rfl (lv_at hl 1 rfl) ?_
  refine lv_iload_n hx hb dJ6_newLength_2 rfl (lv_at hl 2 rfl) ?_
  refine va_mmax hx hb (hml.trans hl.1.symm) hown (hts _ q474) (hts _ q475) (hts _ q141) (hts _ q476) (Nat.le_trans (Nat.le_of_ble_eq_true rfl) hF) (Nat.le_trans (Nat.le_of_ble_eq_true rfl) hLo) (Nat.zero_le _) (Nat.zero_le _) dJ6_newLength_3 ?_
  refine lv_iadd hx hb dJ6_newLength_6 ?_
  refine lv_istore_n (lv' := [(3, .int (x0 + (if x1 < x2 then x2 else x1))), (0, .int x0), (1, .int x1), (2, .int x2)]) hx hb dJ6_newLength_7 rfl hl (by decide) rfl (fun ls hl => ?_)
  refine lv_iconst (v := (0 : Int32)) hx hb dJ6_newLength_8 (by decide) ?_
  refine lv_iload_n hx hb dJ6_newLength_9 rfl (lv_at hl 0 rfl) ?_
  refine lv_icmp_ge (tgt := 21) hx hb dJ6_newLength_10 (by decide) (fun c_1 => ?_) (fun c_1 => ?_)
  · replace hf := ww_ip hf c_1
    cases hf
  · replace hf := ww_in hf c_1
    refine lv_iload_n hx hb dJ6_newLength_13 rfl (lv_at hl 0 rfl) ?_
    refine lv_ldc (v := (2147483639 : Int32)) hx hb hown (hts _ q477) dJ6_newLength_14 ?_
    refine lv_icmp_gt (tgt := 21) hx hb dJ6_newLength_16 (by decide) (fun c_2 => ?_) (fun c_2 => ?_)
    · replace hf := ww_ip hf c_2
      cases hf
    · replace hf := ww_in hf c_2
      refine lv_iload_n hx hb dJ6_newLength_19 rfl (lv_at hl 0 rfl) ?_
      exact hend dJ6_newLength_20 rfl rfl hf hR hS
section C_J6_newLength_c
variable {p : Program} {l : Launch} {e : Env} {R : Room} {s : State} {m : MethodId} {args : Array Value} {below : List Frame} {meth : Method} {c : Code} {H : Heap} {locs : List Loc} {cells slots : Nat} {Q : State → Prop}
variable {cc : ByteArray} {pc : Nat} {ls : Array Slot} {rest : List Value} {nL : Nat} {E : cw_E} {A : Nat → Prop} {H0 : Heap}
theorem cJ2c_J6_newLength {x0 : Int32} {x1 : Int32} {x2 : Int32} {r : Int32} (X : ww_C p m c cc nL s args RJ2 lw_all) (hsz : ls.size = nL) (hF : 2 ≤ R.frames) (hLo : 123 ≤ R.locals) (hc : cells ≤ R.cells) (hs : slots ≤ R.slots) (hf : fJ6_newLength x0 x1 x2 = some r) (hrest : (rest.map fun v => v.category).sum ≤ 8) (hdg : decode cc pc = .ok (.invokestatic 114, 3)) (kk : W p l e R s m args below meth c H locs cells slots Q (F0 m (pc + 3) ls (.int r :: rest))) : W p l e R s m args below meth c H locs cells slots Q (F0 m pc ls (.int x2 :: .int x1 :: .int x0 :: rest)) :=
  t3_callS (n := 3) X hsz (As := [.int x0, .int x1, .int x2]) (metJ6_newLength l x0 x1 x2 r hf) (lw_S q471 q472 q140 q473) (by decide +kernel) rfl hF hLo hc hs hrest hdg kk
end C_J6_newLength_c
noncomputable def fJ6_mismatch_b1c (D : cw_D) (y0 : Option Nat) (y1 : Int32) (y2 : Option Nat) (y3 : Int32) (y4 : Int32) (x5 : Int32) : Option ((Int32) ⊕ (Int32)) :=
  if y4 ≤ x5 then ww_x (some (-1 : Int32)) else ww_b y0 (fun a_3 => ww_b (cw_xI D 21 a_3 (y1 + x5)) (fun r_4 => ww_b y2 (fun a_5 => ww_b (cw_xI D 21 a_5 (y3 + x5)) (fun r_6 => if r_4 = r_6 then some (.inl (x5 + (1 : Int32))) else ww_x (some x5)))))
noncomputable def fJ6_mismatch_b1 (D : cw_D) (y0 : Option Nat) (y1 : Int32) (y2 : Option Nat) (y3 : Int32) (y4 : Int32) : Int32 → Option ((Int32) ⊕ (Int32)) := fun s9 => fJ6_mismatch_b1c D y0 y1 y2 y3 y4 s9
noncomputable def fJ6_mismatch (D : cw_D) (x0 : Option Nat) (x1 : Int32) (x2 : Option Nat) (x3 : Int32) (x4 : Int32) : Option (Int32) :=
  if x4 ≤ (7 : Int32) then ww_U (fJ6_mismatch_b1 D x0 x1 x2 x3 x4) (0 : Int32) else none
section C_J6_mismatch_k
variable {p : Program} {l : Launch} {e : Env} {R : Room} {s : State} {m : MethodId} {args : Array Value} {below : List Frame} {meth : Method} {c : Code} {H : Heap} {locs : List Loc} {cells slots : Nat} {Q : State → Prop}
variable {cc : ByteArray} {pc : Nat} {ls : Array Slot} {rest : List Value} {nL : Nat} {E : cw_E} {A : Nat → Prop} {H0 : Heap}
theorem cJ4k_J6_mismatch {D : cw_D} {x0 : Option Nat} {x1 : Int32} {x2 : Option Nat} {x3 : Int32} {x4 : Int32} {r : Int32} (X : ww_C p m c cc nL s args RJ4 lw_all) (hsz : ls.size = nL) (hK : cw_K E A s) (hR : cw_H E A D H) (hS : va_S A s.heap H locs) (hF : 1 ≤ R.frames) (hLo : 27 ≤ R.locals) (hc : cells ≤ R.cells) (hs : slots ≤ R.slots) (hM : cw_MetI l yJ6_mismatch cJ6_mismatch 8 (some Jvm.ClassFile.FieldType.int) 0 0 E A [va_rf x0, .int x1, va_rf x2, .int x3, .int x4] D D r 0 0) (hrest : (rest.map fun v => v.category).sum ≤ 8) (hdg : decode cc pc = .ok (.invokestatic 607, 3)) (kk : ∀ (H1 : Heap) (locs1 : List Loc), cw_H E A D H1 → va_S A s.heap H1 locs1 → W p l e R s m args below meth c H1 locs1 cells slots Q (F0 m (pc + 3) ls (.int r :: rest))) : W p l e R s m args below meth c H locs cells slots Q (F0 m pc ls (.int x4 :: .int x3 :: va_rf x2 :: .int x1 :: va_rf x0 :: rest)) :=
  va_calli (va_runS (As := [va_rf x0, .int x1, va_rf x2, .int x3, .int x4]) (rest := rest) X hM (va_cwS 5 X.2.2.2.2 (lw_S q634 q635 q140 q636) rfl rfl rfl (by decide +kernel) ⟨hF, hLo⟩) (cw_pS hK hR hS) rfl rfl hsz rfl (lv_room hrest) hdg ⟨hc, hs⟩) hS (fun q _ h => h) (fun q h => h) (fun r' u t H1 locs1 ht hvm hw hB hz1 hk1 hS1 => by subst hw; rw [ht] at hB; exact kk H1 locs1 hB hS1)
end C_J6_mismatch_k
set_option maxHeartbeats 4000000 in
set_option maxRecDepth 100000 in
theorem metJ6_mismatch (l : Launch) {E : cw_E} {A : Nat → Prop} (D : cw_D) (x0 : Option Nat) (x1 : Int32) (x2 : Option Nat) (x3 : Int32) (x4 : Int32) (r : Int32) (hf : fJ6_mismatch D x0 x1 x2 x3 x4 = some r) : cw_MetI l yJ6_mismatch cJ6_mismatch 8 (some Jvm.ClassFile.FieldType.int) 0 0 E A [va_rf x0, .int x1, va_rf x2, .int x3, .int x4] D D r 0 0 := by
  unfold fJ6_mismatch at hf
  refine cw_sIP (own := RJ6) (by decide +kernel) [(0, va_rf x0), (1, .int x1), (2, va_rf x2), (3, .int x3), (4, .int x4)] ⟨by cases x0 <;> cases x2 <;> exact Nat.le_of_ble_eq_true rfl, by cases x0 <;> cases x2 <;> rfl⟩ ?_
  intro p e s m args below meth c Rm Q X hK hF hLo hin hend ls hl hR hS
  obtain ⟨hx, hb, hml, hown, hts⟩ := id X
  refine lv_iconst (v := (0 : Int32)) hx hb dJ6_mismatch_0 (by decide) ?_
  refine lv_istore (lv' := [(5, .int (0 : Int32)), (0, va_rf x0), (1, .int x1), (2, va_rf x2), (3, .int x3), (4, .int x4)]) hx hb dJ6_mismatch_1 hl (by decide) rfl (fun ls hl => ?_)
  refine lv_iload hx hb dJ6_mismatch_3 (lv_at hl 5 rfl) ?_
  refine lv_bipush (v := (7 : Int32)) hx hb dJ6_mismatch_5 (by decide) ?_
  refine lv_icmp_le (tgt := 70) hx hb dJ6_mismatch_7 (by decide) (fun c_1 => ?_) (fun c_1 => ?_)
  · replace hf := ww_ip hf c_1
    have hL_1 : ∀ s9 : Int32, ww_U (fJ6_mismatch_b1 D x0 x1 x2 x3 x4) s9 = some r → ∀ (H : Heap) (locs : List Loc) (ls : Array Slot), cw_H E A D H → va_S A s.heap H locs → lv_has ls 8 [(0, va_rf x0), (1, .int x1), (2, va_rf x2), (3, .int x3), (4, .int x4), (5, .int s9)] → W p l e Rm s m args below meth c H locs 0 0 Q (F0 m 70 ls []) := by
      clear hf
      refine ww_ind _ r ?_
      intro s9 z_1 hf hz_1
      obtain ⟨x5, e9⟩ : ∃ q9, q9 = s9 := ⟨_, rfl⟩; subst e9
      replace hf : fJ6_mismatch_b1c D x0 x1 x2 x3 x4 x5 = some z_1 := hf
      unfold fJ6_mismatch_b1c at hf
      try clear hl
      try clear hS
      try clear hR
      intro H locs ls hR hS hl
      replace hl : lv_has ls 8 [(0, va_rf x0), (1, .int x1), (2, va_rf x2), (3, .int x3), (4, .int x4), (5, .int x5)] := hl
      refine lv_iload hx hb dJ6_mismatch_70 (lv_at hl 5 rfl) ?_
      refine lv_iload hx hb dJ6_mismatch_72 (lv_at hl 4 rfl) ?_
      refine lv_icmp_ge (tgt := 101) hx hb dJ6_mismatch_74 (by decide) (fun c_2 => ?_) (fun c_2 => ?_)
      · replace hf := ww_ip hf c_2
        replace hf := ww_xK hf hz_1
        refine lv_iconst (v := (-1 : Int32)) hx hb dJ6_mismatch_101 (by decide) ?_
        exact hend dJ6_mismatch_102 rfl rfl hf hR hS
      · replace hf := ww_in hf c_2
        refine cw_aload_n (x := x0) hx hb dJ6_mismatch_77 rfl (lv_at hl 0 rfl) ?_
        refine lv_iload_n hx hb dJ6_mismatch_78 rfl (lv_at hl 1 rfl) ?_
        refine lv_iload hx hb dJ6_mismatch_79 (lv_at hl 5 rfl) ?_
        refine lv_iadd hx hb dJ6_mismatch_81 ?_
        obtain ⟨a_3, e_3, hq⟩ := ww_bS hf; replace hf := hq; clear hq
        subst e_3
        obtain ⟨r_4, h_4, hq⟩ := ww_bS hf; replace hf := hq; clear hq
        refine cw_oxI (kd := 21) (x := some a_3) X hK hR (by decide) rfl h_4 dJ6_mismatch_82 ?_
        refine cw_aload_n (x := x2) hx hb dJ6_mismatch_83 rfl (lv_at hl 2 rfl) ?_
        refine lv_iload_n hx hb dJ6_mismatch_84 rfl (lv_at hl 3 rfl) ?_
        refine lv_iload hx hb dJ6_mismatch_85 (lv_at hl 5 rfl) ?_
        refine lv_iadd hx hb dJ6_mismatch_87 ?_
        obtain ⟨a_5, e_5, hq⟩ := ww_bS hf; replace hf := hq; clear hq
        subst e_5
        obtain ⟨r_6, h_6, hq⟩ := ww_bS hf; replace hf := hq; clear hq
        refine cw_oxI (kd := 21) (x := some a_5) X hK hR (by decide) rfl h_6 dJ6_mismatch_88 ?_
        refine lv_icmp_eq (tgt := 95) hx hb dJ6_mismatch_89 (by decide) (fun c_7 => ?_) (fun c_7 => ?_)
        · replace hf := ww_ip hf c_7
          refine lv_iinc (k := 5) (v := x5 + (1 : Int32)) (lv' := [(5, .int (x5 + (1 : Int32))), (0, .ref a_3), (1, .int x1), (2, .ref a_5), (3, .int x3), (4, .int x4)]) hx hb dJ6_mismatch_95 hl rfl rfl (by decide) rfl (fun ls hl => ?_)
          refine lv_goto (tgt := 70) hx hb dJ6_mismatch_98 (by decide) ?_
          exact ww_lK hf hz_1 _ _ _ hR hS (lv_sub hl [1, 2, 3, 4, 5, 0] rfl)
        · replace hf := ww_in hf c_7
          replace hf := ww_xK hf hz_1
          refine lv_iload hx hb dJ6_mismatch_92 (lv_at hl 5 rfl) ?_
          exact hend dJ6_mismatch_94 rfl rfl hf hR hS
    exact hL_1 (0 : Int32) hf _ _ _ hR hS (lv_sub hl [1, 2, 3, 4, 5, 0] rfl)
  · replace hf := ww_in hf c_1
    cases hf
section C_J6_mismatch_c
variable {p : Program} {l : Launch} {e : Env} {R : Room} {s : State} {m : MethodId} {args : Array Value} {below : List Frame} {meth : Method} {c : Code} {H : Heap} {locs : List Loc} {cells slots : Nat} {Q : State → Prop}
variable {cc : ByteArray} {pc : Nat} {ls : Array Slot} {rest : List Value} {nL : Nat} {E : cw_E} {A : Nat → Prop} {H0 : Heap}
theorem cJ4c_J6_mismatch {D : cw_D} {x0 : Option Nat} {x1 : Int32} {x2 : Option Nat} {x3 : Int32} {x4 : Int32} {r : Int32} (X : ww_C p m c cc nL s args RJ4 lw_all) (hsz : ls.size = nL) (hK : cw_K E A s) (hR : cw_H E A D H) (hS : va_S A s.heap H locs) (hF : 1 ≤ R.frames) (hLo : 27 ≤ R.locals) (hc : cells ≤ R.cells) (hs : slots ≤ R.slots) (hf : fJ6_mismatch D x0 x1 x2 x3 x4 = some r) (hrest : (rest.map fun v => v.category).sum ≤ 8) (hdg : decode cc pc = .ok (.invokestatic 607, 3)) (kk : ∀ (H1 : Heap) (locs1 : List Loc), cw_H E A D H1 → va_S A s.heap H1 locs1 → W p l e R s m args below meth c H1 locs1 cells slots Q (F0 m (pc + 3) ls (.int r :: rest))) : W p l e R s m args below meth c H locs cells slots Q (F0 m pc ls (.int x4 :: .int x3 :: va_rf x2 :: .int x1 :: va_rf x0 :: rest)) :=
  cJ4k_J6_mismatch X hsz hK hR hS hF hLo hc hs (metJ6_mismatch l _ _ _ _ _ _ _ hf) hrest hdg kk
end C_J6_mismatch_c
noncomputable def fJ6_signedHashCode_b1c (D : cw_D) (y1 : Option Nat) (y4 : Int32) (x0_1 : Int32) (x5 : Int32) : Option ((Int32 × Int32) ⊕ (Int32)) :=
  if y4 ≤ x5 then ww_x (some x0_1) else ww_b y1 (fun a_2 => ww_b (cw_xI D 21 a_2 x5) (fun r_3 => some (.inl ((((31 : Int32) * x0_1) + (r_3 &&& (255 : Int32))), (x5 + (1 : Int32))))))
noncomputable def fJ6_signedHashCode_b1 (D : cw_D) (y1 : Option Nat) (y4 : Int32) : (Int32 × Int32) → Option ((Int32 × Int32) ⊕ (Int32)) := fun s9 => fJ6_signedHashCode_b1c D y1 y4 s9.1 s9.2
noncomputable def fJ6_signedHashCode (D : cw_D) (x0 : Int32) (x1 : Option Nat) (x2 : Int32) (x3 : Int32) : Option (Int32) :=
  ww_U (fJ6_signedHashCode_b1 D x1 (x2 + x3)) (x0, x2)
section C_J6_signedHashCode_k
variable {p : Program} {l : Launch} {e : Env} {R : Room} {s : State} {m : MethodId} {args : Array Value} {below : List Frame} {meth : Method} {c : Code} {H : Heap} {locs : List Loc} {cells slots : Nat} {Q : State → Prop}
variable {cc : ByteArray} {pc : Nat} {ls : Array Slot} {rest : List Value} {nL : Nat} {E : cw_E} {A : Nat → Prop} {H0 : Heap}
theorem cJ6k_J6_signedHashCode {D : cw_D} {x0 : Int32} {x1 : Option Nat} {x2 : Int32} {x3 : Int32} {r : Int32} (X : ww_C p m c cc nL s args RJ6 lw_all) (hsz : ls.size = nL) (hK : cw_K E A s) (hR : cw_H E A D H) (hS : va_S A s.heap H locs) (hF : 1 ≤ R.frames) (hLo : 25 ≤ R.locals) (hc : cells ≤ R.cells) (hs : slots ≤ R.slots) (hM : cw_MetI l yJ6_signedHashCode cJ6_signedHashCode 6 (some Jvm.ClassFile.FieldType.int) 0 0 E A [.int x0, va_rf x1, .int x2, .int x3] D D r 0 0) (hrest : (rest.map fun v => v.category).sum ≤ 8) (hdg : decode cc pc = .ok (.invokestatic 62, 3)) (kk : ∀ (H1 : Heap) (locs1 : List Loc), cw_H E A D H1 → va_S A s.heap H1 locs1 → W p l e R s m args below meth c H1 locs1 cells slots Q (F0 m (pc + 3) ls (.int r :: rest))) : W p l e R s m args below meth c H locs cells slots Q (F0 m pc ls (.int x3 :: .int x2 :: va_rf x1 :: .int x0 :: rest)) :=
  va_calli (va_runS (As := [.int x0, va_rf x1, .int x2, .int x3]) (rest := rest) X hM (va_cwS 4 X.2.2.2.2 (lw_S q762 q763 q140 q764) rfl rfl rfl (by decide +kernel) ⟨hF, hLo⟩) (cw_pS hK hR hS) rfl rfl hsz rfl (lv_room hrest) hdg ⟨hc, hs⟩) hS (fun q _ h => h) (fun q h => h) (fun r' u t H1 locs1 ht hvm hw hB hz1 hk1 hS1 => by subst hw; rw [ht] at hB; exact kk H1 locs1 hB hS1)
end C_J6_signedHashCode_k
set_option maxHeartbeats 4000000 in
set_option maxRecDepth 100000 in
theorem metJ6_signedHashCode (l : Launch) {E : cw_E} {A : Nat → Prop} (D : cw_D) (x0 : Int32) (x1 : Option Nat) (x2 : Int32) (x3 : Int32) (r : Int32) (hf : fJ6_signedHashCode D x0 x1 x2 x3 = some r) : cw_MetI l yJ6_signedHashCode cJ6_signedHashCode 6 (some Jvm.ClassFile.FieldType.int) 0 0 E A [.int x0, va_rf x1, .int x2, .int x3] D D r 0 0 := by
  unfold fJ6_signedHashCode at hf
  refine cw_sIP (own := RJ6) (by decide +kernel) [(0, .int x0), (1, va_rf x1), (2, .int x2), (3, .int x3)] ⟨by cases x1 <;> exact Nat.le_of_ble_eq_true rfl, by cases x1 <;> rfl⟩ ?_
  intro p e s m args below meth c Rm Q X hK hF hLo hin hend ls hl hR hS
  obtain ⟨hx, hb, hml, hown, hts⟩ := id X
  refine lv_iload_n hx hb dJ6_signedHashCode_0 rfl (lv_at hl 2 rfl) ?_
  refine lv_iload_n hx hb dJ6_signedHashCode_1 rfl (lv_at hl 3 rfl) ?_
  refine lv_iadd hx hb dJ6_signedHashCode_2 ?_
  refine lv_istore (lv' := [(4, .int (x2 + x3)), (0, .int x0), (1, va_rf x1), (2, .int x2), (3, .int x3)]) hx hb dJ6_signedHashCode_3 hl (by decide) rfl (fun ls hl => ?_)
  refine lv_iload_n hx hb dJ6_signedHashCode_5 rfl (lv_at hl 3 rfl) ?_
  refine lv_istore (lv' := [(5, .int x2), (4, .int (x2 + x3)), (0, .int x0), (1, va_rf x1), (2, .int x2), (3, .int x3)]) hx hb dJ6_signedHashCode_6 hl (by decide) rfl (fun ls hl => ?_)
  have hL_1 : ∀ s9 : Int32 × Int32, ww_U (fJ6_signedHashCode_b1 D x1 (x2 + x3)) s9 = some r → ∀ (H : Heap) (locs : List Loc) (ls : Array Slot), cw_H E A D H → va_S A s.heap H locs → lv_has ls 6 [(0, .int s9.1), (1, va_rf x1), (4, .int (x2 + x3)), (5, .int s9.2)] → W p l e Rm s m args below meth c H locs 0 0 Q (F0 m 8 ls []) := by
    clear hf
    refine ww_ind _ r ?_
    intro s9 z_1 hf hz_1
    obtain ⟨x0_1, x5⟩ := s9
    replace hf : fJ6_signedHashCode_b1c D x1 (x2 + x3) x0_1 x5 = some z_1 := hf
    unfold fJ6_signedHashCode_b1c at hf
    try clear hl
    try clear hS
    try clear hR
    intro H locs ls hR hS hl
    replace hl : lv_has ls 6 [(0, .int x0_1), (1, va_rf x1), (4, .int (x2 + x3)), (5, .int x5)] := hl
    refine lv_iload hx hb dJ6_signedHashCode_8 (lv_at hl 3 rfl) ?_
    refine lv_iload hx hb dJ6_signedHashCode_10 (lv_at hl 2 rfl) ?_
    refine lv_icmp_ge (tgt := 35) hx hb dJ6_signedHashCode_12 (by decide) (fun c_1 => ?_) (fun c_1 => ?_)
    · replace hf := ww_ip hf c_1
      replace hf := ww_xK hf hz_1
      refine lv_iload_n hx hb dJ6_signedHashCode_35 rfl (lv_at hl 0 rfl) ?_
      exact hend dJ6_signedHashCode_36 rfl rfl hf hR hS
    · replace hf := ww_in hf c_1
      refine lv_bipush (v := (31 : Int32)) hx hb dJ6_signedHashCode_15 (by decide) ?_
      refine lv_iload_n hx hb dJ6_signedHashCode_17 rfl (lv_at hl 0 rfl) ?_
      refine lv_imul hx hb dJ6_signedHashCode_18 ?_
      refine cw_aload_n (x := x1) hx hb dJ6_signedHashCode_19 rfl (lv_at hl 1 rfl) ?_
      refine lv_iload hx hb dJ6_signedHashCode_20 (lv_at hl 3 rfl) ?_
      obtain ⟨a_2, e_2, hq⟩ := ww_bS hf; replace hf := hq; clear hq
      subst e_2
      obtain ⟨r_3, h_3, hq⟩ := ww_bS hf; replace hf := hq; clear hq
      refine cw_oxI (kd := 21) (x := some a_2) X hK hR (by decide) rfl h_3 dJ6_signedHashCode_22 ?_
      refine lv_sipush (v := (255 : Int32)) hx hb dJ6_signedHashCode_23 (by decide) ?_
      refine lv_iand hx hb dJ6_signedHashCode_26 ?_
      refine lv_iadd hx hb dJ6_signedHashCode_27 ?_
      refine lv_istore_n (lv' := [(0, .int (((31 : Int32) * x0_1) + (r_3 &&& (255 : Int32)))), (1, .ref a_2), (4, .int (x2 + x3)), (5, .int x5)]) hx hb dJ6_signedHashCode_28 rfl hl (by decide) rfl (fun ls hl => ?_)
      refine lv_iinc (k := 3) (v := x5 + (1 : Int32)) (lv' := [(5, .int (x5 + (1 : Int32))), (0, .int (((31 : Int32) * x0_1) + (r_3 &&& (255 : Int32)))), (1, .ref a_2), (4, .int (x2 + x3))]) hx hb dJ6_signedHashCode_29 hl rfl rfl (by decide) rfl (fun ls hl => ?_)
      refine lv_goto (tgt := 8) hx hb dJ6_signedHashCode_32 (by decide) ?_
      exact ww_lK hf hz_1 _ _ _ hR hS (lv_sub hl [1, 2, 3, 0] rfl)
  exact hL_1 (x0, x2) hf _ _ _ hR hS (lv_sub hl [2, 3, 1, 0] rfl)
section C_J6_signedHashCode_c
variable {p : Program} {l : Launch} {e : Env} {R : Room} {s : State} {m : MethodId} {args : Array Value} {below : List Frame} {meth : Method} {c : Code} {H : Heap} {locs : List Loc} {cells slots : Nat} {Q : State → Prop}
variable {cc : ByteArray} {pc : Nat} {ls : Array Slot} {rest : List Value} {nL : Nat} {E : cw_E} {A : Nat → Prop} {H0 : Heap}
theorem cJ6c_J6_signedHashCode {D : cw_D} {x0 : Int32} {x1 : Option Nat} {x2 : Int32} {x3 : Int32} {r : Int32} (X : ww_C p m c cc nL s args RJ6 lw_all) (hsz : ls.size = nL) (hK : cw_K E A s) (hR : cw_H E A D H) (hS : va_S A s.heap H locs) (hF : 1 ≤ R.frames) (hLo : 25 ≤ R.locals) (hc : cells ≤ R.cells) (hs : slots ≤ R.slots) (hf : fJ6_signedHashCode D x0 x1 x2 x3 = some r) (hrest : (rest.map fun v => v.category).sum ≤ 8) (hdg : decode cc pc = .ok (.invokestatic 62, 3)) (kk : ∀ (H1 : Heap) (locs1 : List Loc), cw_H E A D H1 → va_S A s.heap H1 locs1 → W p l e R s m args below meth c H1 locs1 cells slots Q (F0 m (pc + 3) ls (.int r :: rest))) : W p l e R s m args below meth c H locs cells slots Q (F0 m pc ls (.int x3 :: .int x2 :: va_rf x1 :: .int x0 :: rest)) :=
  cJ6k_J6_signedHashCode X hsz hK hR hS hF hLo hc hs (metJ6_signedHashCode l _ _ _ _ _ _ hf) hrest hdg kk
end C_J6_signedHashCode_c
noncomputable def fJ6_vectorizedHashCode (D : cw_D) (x0 : Option Nat) (x1 : Int32) (x2 : Int32) (x3 : Int32) (x4 : Int32) : Option (Int32) :=
  if x4 = 4 then ww_b x0 (fun a_2 => ww_g (cw_kd D [21] (some a_2)) (ww_b (fJ6_signedHashCode D x3 (some a_2) x1 x2) (fun r_4 => some r_4))) else if x4 = 5 then none else if x4 = 6 then none else if x4 = 7 then none else if x4 = 8 then none else if x4 = 9 then none else if x4 = 10 then none else none
section C_J6_vectorizedHashCode_k
variable {p : Program} {l : Launch} {e : Env} {R : Room} {s : State} {m : MethodId} {args : Array Value} {below : List Frame} {meth : Method} {c : Code} {H : Heap} {locs : List Loc} {cells slots : Nat} {Q : State → Prop}
variable {cc : ByteArray} {pc : Nat} {ls : Array Slot} {rest : List Value} {nL : Nat} {E : cw_E} {A : Nat → Prop} {H0 : Heap}
theorem cJ9k_J6_vectorizedHashCode {D : cw_D} {x0 : Option Nat} {x1 : Int32} {x2 : Int32} {x3 : Int32} {x4 : Int32} {r : Int32} (X : ww_C p m c cc nL s args RJ9 lw_all) (hsz : ls.size = nL) (hK : cw_K E A s) (hR : cw_H E A D H) (hS : va_S A s.heap H locs) (hF : 2 ≤ R.frames) (hLo : 49 ≤ R.locals) (hc : cells ≤ R.cells) (hs : slots ≤ R.slots) (hM : cw_MetI l yJ6_vectorizedHashCode cJ6_vectorizedHashCode 5 (some Jvm.ClassFile.FieldType.int) 1 25 E A [va_rf x0, .int x1, .int x2, .int x3, .int x4] D D r 0 0) (hrest : (rest.map fun v => v.category).sum ≤ 8) (hdg : decode cc pc = .ok (.invokestatic 84, 3)) (kk : ∀ (H1 : Heap) (locs1 : List Loc), cw_H E A D H1 → va_S A s.heap H1 locs1 → W p l e R s m args below meth c H1 locs1 cells slots Q (F0 m (pc + 3) ls (.int r :: rest))) : W p l e R s m args below meth c H locs cells slots Q (F0 m pc ls (.int x4 :: .int x3 :: .int x2 :: .int x1 :: va_rf x0 :: rest)) :=
  va_calli (va_runS (As := [va_rf x0, .int x1, .int x2, .int x3, .int x4]) (rest := rest) X hM (va_cwS 5 X.2.2.2.2 (lw_S q758 q759 q140 q760) rfl rfl rfl (by decide +kernel) ⟨hF, hLo⟩) (cw_pS hK hR hS) rfl rfl hsz rfl (lv_room hrest) hdg ⟨hc, hs⟩) hS (fun q _ h => h) (fun q h => h) (fun r' u t H1 locs1 ht hvm hw hB hz1 hk1 hS1 => by subst hw; rw [ht] at hB; exact kk H1 locs1 hB hS1)
end C_J6_vectorizedHashCode_k
set_option maxHeartbeats 4000000 in
set_option maxRecDepth 100000 in
theorem metJ6_vectorizedHashCode (l : Launch) {E : cw_E} {A : Nat → Prop} (D : cw_D) (x0 : Option Nat) (x1 : Int32) (x2 : Int32) (x3 : Int32) (x4 : Int32) (r : Int32) (hf : fJ6_vectorizedHashCode D x0 x1 x2 x3 x4 = some r) : cw_MetI l yJ6_vectorizedHashCode cJ6_vectorizedHashCode 5 (some Jvm.ClassFile.FieldType.int) 1 25 E A [va_rf x0, .int x1, .int x2, .int x3, .int x4] D D r 0 0 := by
  unfold fJ6_vectorizedHashCode at hf
  refine cw_sIP (own := RJ6) (by decide +kernel) [(0, va_rf x0), (1, .int x1), (2, .int x2), (3, .int x3), (4, .int x4)] ⟨by cases x0 <;> exact Nat.le_of_ble_eq_true rfl, by cases x0 <;> rfl⟩ ?_
  intro p e s m args below meth c Rm Q X hK hF hLo hin hend ls hl hR hS
  obtain ⟨hx, hb, hml, hown, hts⟩ := id X
  refine lv_iload hx hb dJ6_vectorizedHashCode_0 (lv_at hl 4 rfl) ?_
  refine ww_by (x4 = 4) (fun c_1 => ?_) (fun c_1 => ?_)
  · replace hf := ww_ip hf c_1
    refine ww_tin (k := 4) (off := 42) (tgt := 44) hx hb dJ6_vectorizedHashCode_2 c_1 (by decide) (by decide) (by decide) (by decide) ?_
    refine lv_iload_n hx hb dJ6_vectorizedHashCode_44 rfl (lv_at hl 3 rfl) ?_
    refine cw_aload_n (x := x0) hx hb dJ6_vectorizedHashCode_45 rfl (lv_at hl 0 rfl) ?_
    obtain ⟨a_2, e_2, hq⟩ := ww_bS hf; replace hf := hq; clear hq
    subst e_2
    obtain ⟨h_3, hq⟩ := ww_gS hf; replace hf := hq; clear hq
    refine cw_castB X hK hR q761 h_3 dJ6_vectorizedHashCode_46 ?_
    refine lv_iload_n hx hb dJ6_vectorizedHashCode_49 rfl (lv_at hl 1 rfl) ?_
    refine lv_iload_n hx hb dJ6_vectorizedHashCode_50 rfl (lv_at hl 2 rfl) ?_
    obtain ⟨r_4, h_4, hq⟩ := ww_bS hf; replace hf := hq; clear hq
    refine cJ6c_J6_signedHashCode (x1 := (some a_2)) X hl.1 hK hR hS (Nat.le_trans (Nat.le_of_ble_eq_true rfl) hF) (Nat.le_trans (Nat.le_of_ble_eq_true rfl) hLo) (Nat.zero_le _) (Nat.zero_le _) h_4 (cw_rest (Nat.le_of_ble_eq_true rfl)) dJ6_vectorizedHashCode_51 (fun H locs hR hS => ?_)
    refine lv_goto (tgt := 157) hx hb dJ6_vectorizedHashCode_54 (by decide) ?_
    exact hend dJ6_vectorizedHashCode_157 rfl rfl hf hR hS
  replace hf := ww_in hf c_1
  refine ww_by (x4 = 5) (fun c_5 => ?_) (fun c_5 => ?_)
  · replace hf := ww_ip hf c_5
    refine ww_tin (k := 5) (off := 55) (tgt := 57) hx hb dJ6_vectorizedHashCode_2 c_5 (by decide) (by decide) (by decide) (by decide) ?_
    cases hf
  replace hf := ww_in hf c_5
  refine ww_by (x4 = 6) (fun c_6 => ?_) (fun c_6 => ?_)
  · replace hf := ww_ip hf c_6
    refine ww_tin (k := 6) (off := 127) (tgt := 129) hx hb dJ6_vectorizedHashCode_2 c_6 (by decide) (by decide) (by decide) (by decide) ?_
    cases hf
  replace hf := ww_in hf c_6
  refine ww_by (x4 = 7) (fun c_7 => ?_) (fun c_7 => ?_)
  · replace hf := ww_ip hf c_7
    refine ww_tin (k := 7) (off := 127) (tgt := 129) hx hb dJ6_vectorizedHashCode_2 c_7 (by decide) (by decide) (by decide) (by decide) ?_
    cases hf
  replace hf := ww_in hf c_7
  refine ww_by (x4 = 8) (fun c_8 => ?_) (fun c_8 => ?_)
  · replace hf := ww_ip hf c_8
    refine ww_tin (k := 8) (off := 88) (tgt := 90) hx hb dJ6_vectorizedHashCode_2 c_8 (by decide) (by decide) (by decide) (by decide) ?_
    cases hf
  replace hf := ww_in hf c_8
  refine ww_by (x4 = 9) (fun c_9 => ?_) (fun c_9 => ?_)
  · replace hf := ww_ip hf c_9
    refine ww_tin (k := 9) (off := 101) (tgt := 103) hx hb dJ6_vectorizedHashCode_2 c_9 (by decide) (by decide) (by decide) (by decide) ?_
    cases hf
  replace hf := ww_in hf c_9
  refine ww_by (x4 = 10) (fun c_10 => ?_) (fun c_10 => ?_)
  · replace hf := ww_ip hf c_10
    refine ww_tin (k := 10) (off := 114) (tgt := 116) hx hb dJ6_vectorizedHashCode_2 c_10 (by decide) (by decide) (by decide) (by decide) ?_
    cases hf
  replace hf := ww_in hf c_10
  refine ww_tout (tgt := 129) [4, 5, 6, 7, 8, 9, 10] hx hb dJ6_vectorizedHashCode_2 ⟨c_1, c_5, c_6, c_7, c_8, c_9, c_10, trivial⟩ (by decide) (by decide) ?_
  cases hf
section C_J6_vectorizedHashCode_c
variable {p : Program} {l : Launch} {e : Env} {R : Room} {s : State} {m : MethodId} {args : Array Value} {below : List Frame} {meth : Method} {c : Code} {H : Heap} {locs : List Loc} {cells slots : Nat} {Q : State → Prop}
variable {cc : ByteArray} {pc : Nat} {ls : Array Slot} {rest : List Value} {nL : Nat} {E : cw_E} {A : Nat → Prop} {H0 : Heap}
theorem cJ9c_J6_vectorizedHashCode {D : cw_D} {x0 : Option Nat} {x1 : Int32} {x2 : Int32} {x3 : Int32} {x4 : Int32} {r : Int32} (X : ww_C p m c cc nL s args RJ9 lw_all) (hsz : ls.size = nL) (hK : cw_K E A s) (hR : cw_H E A D H) (hS : va_S A s.heap H locs) (hF : 2 ≤ R.frames) (hLo : 49 ≤ R.locals) (hc : cells ≤ R.cells) (hs : slots ≤ R.slots) (hf : fJ6_vectorizedHashCode D x0 x1 x2 x3 x4 = some r) (hrest : (rest.map fun v => v.category).sum ≤ 8) (hdg : decode cc pc = .ok (.invokestatic 84, 3)) (kk : ∀ (H1 : Heap) (locs1 : List Loc), cw_H E A D H1 → va_S A s.heap H1 locs1 → W p l e R s m args below meth c H1 locs1 cells slots Q (F0 m (pc + 3) ls (.int r :: rest))) : W p l e R s m args below meth c H locs cells slots Q (F0 m pc ls (.int x4 :: .int x3 :: .int x2 :: .int x1 :: va_rf x0 :: rest)) :=
  cJ9k_J6_vectorizedHashCode X hsz hK hR hS hF hLo hc hs (metJ6_vectorizedHashCode l _ _ _ _ _ _ _ hf) hrest hdg kk
end C_J6_vectorizedHashCode_c
noncomputable def fJ8_copyOf (D : cw_D) (x0 : Option Nat) (x1 : Int32) : Option (Option Nat × cw_D × Nat × Nat) :=
  ww_b x0 (fun a_1 => ww_b (cw_ln D a_1) (fun r_2 => if x1 = r_2 then none else ww_g (ww_i x1 100000000) (ww_b (cw_ln (cw_nA D 21 x1.toNatClampNeg) a_1) (fun r_5 => ww_b (cw_cp (cw_nA D 21 x1.toNatClampNeg) a_1 (0 : Int32) D.2.2 (0 : Int32) (if x1 < r_5 then x1 else r_5)) (fun D_6 => some ((some D.2.2), D_6, (0 + 1), (0 + x1.toNatClampNeg)))))))
section C_J8_copyOf_k
variable {p : Program} {l : Launch} {e : Env} {R : Room} {s : State} {m : MethodId} {args : Array Value} {below : List Frame} {meth : Method} {c : Code} {H : Heap} {locs : List Loc} {cells slots : Nat} {Q : State → Prop}
variable {cc : ByteArray} {pc : Nat} {ls : Array Slot} {rest : List Value} {nL : Nat} {E : cw_E} {A : Nat → Prop} {H0 : Heap}
theorem cJ2k_J8_copyOf {D : cw_D} {x0 : Option Nat} {x1 : Int32} {r : Option Nat} {D' : cw_D} {nc ns : Nat} (X : ww_C p m c cc nL s args RJ2 lw_all) (hsz : ls.size = nL) (hK : cw_K E A s) (hR : cw_H E A D H) (hS : va_S A s.heap H locs) (hF : 2 ≤ R.frames) (hLo : 122 ≤ R.locals) (hc : cells + nc ≤ R.cells) (hs : slots + ns ≤ R.slots) (hM : cw_MetQ l yJ8_copyOf cJ8_copyOf 3 (some (Jvm.ClassFile.FieldType.array Jvm.ClassFile.FieldType.byte)) 1 100 E A [va_rf x0, .int x1] D D' r nc ns) (hrest : (rest.map fun v => v.category).sum ≤ 8) (hdg : decode cc pc = .ok (.invokestatic 108, 3)) (kk : ∀ (H1 : Heap) (locs1 : List Loc), cw_H E A D' H1 → va_S A s.heap H1 locs1 → W p l e R s m args below meth c H1 locs1 (cells + nc) (slots + ns) Q (F0 m (pc + 3) ls (va_rf r :: rest))) : W p l e R s m args below meth c H locs cells slots Q (F0 m pc ls (.int x1 :: va_rf x0 :: rest)) :=
  va_callq (va_runS (As := [va_rf x0, .int x1]) (rest := rest) X hM (va_cwS 2 X.2.2.2.2 (lw_S q482 q483 q142 q484) rfl rfl rfl (by decide +kernel) ⟨hF, hLo⟩) (cw_pS hK hR hS) rfl rfl hsz rfl (lv_room hrest) hdg ⟨hc, hs⟩) hS (fun q _ h => h) (fun q h => h) (fun r' u t H1 locs1 ht hvm hw hB hz1 hk1 hS1 => by subst hw; rw [ht] at hB; exact kk H1 locs1 hB hS1)
end C_J8_copyOf_k
set_option maxHeartbeats 4000000 in
set_option maxRecDepth 100000 in
theorem metJ8_copyOf (l : Launch) {E : cw_E} {A : Nat → Prop} (D : cw_D) (x0 : Option Nat) (x1 : Int32) (r : Option Nat) (D' : cw_D) (nc ns : Nat) (hf : fJ8_copyOf D x0 x1 = some (r, D', nc, ns)) : cw_MetQ l yJ8_copyOf cJ8_copyOf 3 (some (Jvm.ClassFile.FieldType.array Jvm.ClassFile.FieldType.byte)) 1 100 E A [va_rf x0, .int x1] D D' r nc ns := by
  unfold fJ8_copyOf at hf
  refine cw_sQN (own := RJ8) (by decide +kernel) [(0, va_rf x0), (1, .int x1)] ⟨by cases x0 <;> exact Nat.le_of_ble_eq_true rfl, by cases x0 <;> rfl⟩ ?_
  intro p e s m args below meth c Rm Q X hK hF hLo hC hin hend ls hl hR hS
  obtain ⟨hx, hb, hml, hown, hts⟩ := id X
  have hm9 : 0 ≤ nc ∧ 0 ≤ ns := ⟨Nat.zero_le _, Nat.zero_le _⟩
  refine lv_iload_n hx hb dJ8_copyOf_0 rfl (lv_at hl 1 rfl) ?_
  refine cw_aload_n (x := x0) hx hb dJ8_copyOf_1 rfl (lv_at hl 0 rfl) ?_
  obtain ⟨a_1, e_1, hq⟩ := ww_bS hf; replace hf := hq; clear hq
  subst e_1
  obtain ⟨r_2, h_2, hq⟩ := ww_bS hf; replace hf := hq; clear hq
  refine cw_oln (x := some a_1) X hK hR rfl h_2 dJ8_copyOf_2 ?_
  refine lv_icmp_ne (tgt := 14) hx hb dJ8_copyOf_3 (by decide) (fun c_3 => ?_) (fun c_3 => ?_)
  · replace hf := ww_in hf c_3
    refine lv_iload_n hx hb dJ8_copyOf_14 rfl (lv_at hl 1 rfl) ?_
    obtain ⟨h_4, hq⟩ := ww_gS hf; replace hf := hq; clear hq
    have hm9 : (0 + 1) ≤ nc ∧ (0 + x1.toNatClampNeg) ≤ ns := by
      obtain ⟨r_5, h_5, hq⟩ := ww_bS hf; replace hf := hq; clear hq
      obtain ⟨D_6, h_6, hq⟩ := ww_bS hf; replace hf := hq; clear hq
      have e9 := hf
      simp only [Option.some.injEq, Prod.mk.injEq] at e9
      omega
    refine cw_onewa (kd := 21) X hK hR hS (by decide) h_4 rfl (Nat.le_trans hm9.1 hC.1) (Nat.le_trans hm9.2 hC.2) dJ8_copyOf_15 q231 (fun H hR hS => ?_)
    refine lv_astore_n (lv' := [(2, .ref D.2.2), (0, .ref a_1), (1, .int x1)]) hx hb dJ8_copyOf_17 rfl hl (by decide) rfl (fun ls hl => ?_)
    refine lv_aload_n hx hb dJ8_copyOf_18 rfl (lv_at hl 1 rfl) ?_
    refine lv_iconst (v := (0 : Int32)) hx hb dJ8_copyOf_19 (by decide) ?_
    refine lv_aload_n hx hb dJ8_copyOf_20 rfl (lv_at hl 0 rfl) ?_
    refine lv_iconst (v := (0 : Int32)) hx hb dJ8_copyOf_21 (by decide) ?_
    refine lv_aload_n hx hb dJ8_copyOf_22 rfl (lv_at hl 1 rfl) ?_
    obtain ⟨r_5, h_5, hq⟩ := ww_bS hf; replace hf := hq; clear hq
    refine cw_oln (x := some a_1) X hK hR rfl h_5 dJ8_copyOf_23 ?_
    refine lv_iload_n hx hb dJ8_copyOf_24 rfl (lv_at hl 2 rfl) ?_
    refine va_mmin hx hb (hml.trans hl.1.symm) hown (hts _ q492) (hts _ q493) (hts _ q141) (hts _ q494) (Nat.le_trans (Nat.le_of_ble_eq_true rfl) hF) (Nat.le_trans (Nat.le_of_ble_eq_true rfl) hLo) (Nat.le_trans hm9.1 hC.1) (Nat.le_trans hm9.2 hC.2) dJ8_copyOf_25 ?_
    obtain ⟨D_6, h_6, hq⟩ := ww_bS hf; replace hf := hq; clear hq
    refine cw_arc X hl.1 hK hR hS q495 q497 q496 q143 h_6 (Nat.le_trans (Nat.le_of_ble_eq_true rfl) hF) (Nat.le_trans (Nat.le_of_ble_eq_true rfl) hLo) (cw_rest (Nat.le_of_ble_eq_true rfl)) dJ8_copyOf_28 (fun H locs hR hS => ?_)
    refine lv_aload_n hx hb dJ8_copyOf_31 rfl (lv_at hl 0 rfl) ?_
    exact hend (v := (some D.2.2)) dJ8_copyOf_32 rfl (Or.inr ⟨_, rfl⟩) hf hR hS
  · replace hf := ww_ip hf c_3
    cases hf
section C_J8_copyOf_c
variable {p : Program} {l : Launch} {e : Env} {R : Room} {s : State} {m : MethodId} {args : Array Value} {below : List Frame} {meth : Method} {c : Code} {H : Heap} {locs : List Loc} {cells slots : Nat} {Q : State → Prop}
variable {cc : ByteArray} {pc : Nat} {ls : Array Slot} {rest : List Value} {nL : Nat} {E : cw_E} {A : Nat → Prop} {H0 : Heap}
theorem cJ2c_J8_copyOf {D : cw_D} {x0 : Option Nat} {x1 : Int32} {r : Option Nat} {D' : cw_D} {nc ns : Nat} (X : ww_C p m c cc nL s args RJ2 lw_all) (hsz : ls.size = nL) (hK : cw_K E A s) (hR : cw_H E A D H) (hS : va_S A s.heap H locs) (hF : 2 ≤ R.frames) (hLo : 122 ≤ R.locals) (hc : cells + nc ≤ R.cells) (hs : slots + ns ≤ R.slots) (hf : fJ8_copyOf D x0 x1 = some (r, D', nc, ns)) (hrest : (rest.map fun v => v.category).sum ≤ 8) (hdg : decode cc pc = .ok (.invokestatic 108, 3)) (kk : ∀ (H1 : Heap) (locs1 : List Loc), cw_H E A D' H1 → va_S A s.heap H1 locs1 → W p l e R s m args below meth c H1 locs1 (cells + nc) (slots + ns) Q (F0 m (pc + 3) ls (va_rf r :: rest))) : W p l e R s m args below meth c H locs cells slots Q (F0 m pc ls (.int x1 :: va_rf x0 :: rest)) :=
  cJ2k_J8_copyOf X hsz hK hR hS hF hLo hc hs (metJ8_copyOf l _ _ _ _ _ _ _ hf) hrest hdg kk
end C_J8_copyOf_c
