noncomputable def f3_thrown (M : ww_M) : Option (Int32) :=
  some (ww_F M 0)
set_option maxHeartbeats 4000000 in
set_option maxRecDepth 100000 in
theorem met3_thrown (l : Launch) {E : ww_E} (hD : t3_D E) (M : ww_M) (r : Int32) (hf : f3_thrown M = some r) : t3_Met l yX3_thrown cX3_thrown 1 (some Jvm.ClassFile.FieldType.int) 0 0 E [] M M r := by
  unfold f3_thrown at hf
  refine t3_startP (by decide +kernel) (Nat.le_of_ble_eq_true rfl) ?_
  intro p e s m args below meth c Rm Q X hK hF hLo hend ls hl hR hS
  obtain ⟨hx, hb, hml, hown, hts⟩ := id X
  replace hl : lv_has ls 1 [(0, .ref E.1)] := hl
  refine lv_aload_n hx hb dX3_thrown_0 rfl (lv_at hl 0 rfl) ?_
  refine t3g_0 X hK hR dX3_thrown_1 ?_
  exact hend dX3_thrown_4 rfl rfl hf hR hS
noncomputable def f3_bytesOf_b1c (y0 : Int32) (x1 : Int32) (x2 : Int32) : Option ((Int32 × Int32) ⊕ (Int32)) :=
  if (4 : Int32) ≤ x2 then ww_x (some x1) else if ((y0 >>> (((8 : Int32) * x2) &&& 31)) &&& (255 : Int32)) = 0 then some (.inl ((x1 + (0 : Int32)), (x2 + (1 : Int32)))) else some (.inl ((x1 + (1 : Int32)), (x2 + (1 : Int32))))
noncomputable def f3_bytesOf_b1 (y0 : Int32) : (Int32 × Int32) → Option ((Int32 × Int32) ⊕ (Int32)) := fun s9 => f3_bytesOf_b1c y0 s9.1 s9.2
noncomputable def f3_bytesOf (x0 : Int32) : Option (Int32) :=
  ww_U (f3_bytesOf_b1 x0) ((0 : Int32), (0 : Int32))
set_option maxHeartbeats 4000000 in
set_option maxRecDepth 100000 in
theorem met3_bytesOf (l : Launch) (x0 : Int32) (r : Int32) (hf : f3_bytesOf x0 = some r) : t3_MetS l yX3_bytesOf cX3_bytesOf 3 (some Jvm.ClassFile.FieldType.int) 0 0 [.int x0] r := by
  unfold f3_bytesOf at hf
  refine t3_startS (own := RX3) (by decide +kernel) (Nat.le_of_ble_eq_true rfl) ?_
  intro p e s m args below meth c Rm Q X hF hLo hend ls hl hS; have hR : s.heap = s.heap := rfl
  obtain ⟨hx, hb, hml, hown, hts⟩ := id X
  replace hl : lv_has ls 3 [(0, .int x0)] := hl
  refine lv_iconst (v := (0 : Int32)) hx hb dX3_bytesOf_0 (by decide) ?_
  refine lv_istore_n (lv' := [(1, .int (0 : Int32)), (0, .int x0)]) hx hb dX3_bytesOf_1 rfl hl (by decide) rfl (fun ls hl => ?_)
  refine lv_iconst (v := (0 : Int32)) hx hb dX3_bytesOf_2 (by decide) ?_
  refine lv_istore_n (lv' := [(2, .int (0 : Int32)), (1, .int (0 : Int32)), (0, .int x0)]) hx hb dX3_bytesOf_3 rfl hl (by decide) rfl (fun ls hl => ?_)
  have hL_1 : ∀ s9 : Int32 × Int32, ww_U (f3_bytesOf_b1 x0) s9 = some r → ∀ (H : Heap) (locs : List Loc) (ls : Array Slot), H = s.heap → va_S (fun _ => False) s.heap H locs → lv_has ls 3 [(0, .int x0), (1, .int s9.1), (2, .int s9.2)] → W p l e Rm s m args below meth c H locs 0 0 Q (F0 m 4 ls []) := by
    refine ww_ind _ r ?_
    intro s9 z_1 hf hz_1 H locs ls hR hS hl
    obtain ⟨x1, x2⟩ := s9
    replace hf : f3_bytesOf_b1c x0 x1 x2 = some z_1 := hf
    unfold f3_bytesOf_b1c at hf
    replace hl : lv_has ls 3 [(0, .int x0), (1, .int x1), (2, .int x2)] := hl
    refine lv_iload_n hx hb dX3_bytesOf_4 rfl (lv_at hl 2 rfl) ?_
    refine lv_iconst (v := (4 : Int32)) hx hb dX3_bytesOf_5 (by decide) ?_
    refine lv_icmp_ge (tgt := 36) hx hb dX3_bytesOf_6 (by decide) (fun c_1 => ?_) (fun c_1 => ?_)
    · replace hf := ww_ip hf c_1
      replace hf := ww_xK hf hz_1
      refine lv_iload_n hx hb dX3_bytesOf_36 rfl (lv_at hl 1 rfl) ?_
      exact hend dX3_bytesOf_37 rfl rfl hf hR hS
    · replace hf := ww_in hf c_1
      refine lv_iload_n hx hb dX3_bytesOf_9 rfl (lv_at hl 1 rfl) ?_
      refine lv_iload_n hx hb dX3_bytesOf_10 rfl (lv_at hl 0 rfl) ?_
      refine lv_bipush (v := (8 : Int32)) hx hb dX3_bytesOf_11 (by decide) ?_
      refine lv_iload_n hx hb dX3_bytesOf_13 rfl (lv_at hl 2 rfl) ?_
      refine lv_imul hx hb dX3_bytesOf_14 ?_
      refine lv_ishr hx hb dX3_bytesOf_15 ?_
      refine lv_sipush (v := (255 : Int32)) hx hb dX3_bytesOf_16 (by decide) ?_
      refine lv_iand hx hb dX3_bytesOf_19 ?_
      refine lv_if_ne (tgt := 27) hx hb dX3_bytesOf_20 (by decide) (fun c_2 => ?_) (fun c_2 => ?_)
      · replace hf := ww_in hf c_2
        refine lv_iconst (v := (1 : Int32)) hx hb dX3_bytesOf_27 (by decide) ?_
        refine lv_iadd hx hb dX3_bytesOf_28 ?_
        refine lv_istore_n (lv' := [(1, .int (x1 + (1 : Int32))), (0, .int x0), (2, .int x2)]) hx hb dX3_bytesOf_29 rfl hl (by decide) rfl (fun ls hl => ?_)
        refine lv_iinc (k := 2) (v := x2 + (1 : Int32)) (lv' := [(2, .int (x2 + (1 : Int32))), (1, .int (x1 + (1 : Int32))), (0, .int x0)]) hx hb dX3_bytesOf_30 hl rfl rfl (by decide) rfl (fun ls hl => ?_)
        refine lv_goto (tgt := 4) hx hb dX3_bytesOf_33 (by decide) ?_
        exact ww_lK hf hz_1 _ _ _ hR hS (lv_sub hl [2, 1, 0] rfl)
      · replace hf := ww_ip hf c_2
        refine lv_iconst (v := (0 : Int32)) hx hb dX3_bytesOf_23 (by decide) ?_
        refine lv_goto (tgt := 28) hx hb dX3_bytesOf_24 (by decide) ?_
        refine lv_iadd hx hb dX3_bytesOf_28 ?_
        refine lv_istore_n (lv' := [(1, .int (x1 + (0 : Int32))), (0, .int x0), (2, .int x2)]) hx hb dX3_bytesOf_29 rfl hl (by decide) rfl (fun ls hl => ?_)
        refine lv_iinc (k := 2) (v := x2 + (1 : Int32)) (lv' := [(2, .int (x2 + (1 : Int32))), (1, .int (x1 + (0 : Int32))), (0, .int x0)]) hx hb dX3_bytesOf_30 hl rfl rfl (by decide) rfl (fun ls hl => ?_)
        refine lv_goto (tgt := 4) hx hb dX3_bytesOf_33 (by decide) ?_
        exact ww_lK hf hz_1 _ _ _ hR hS (lv_sub hl [2, 1, 0] rfl)
  exact hL_1 ((0 : Int32), (0 : Int32)) hf _ _ _ hR hS (lv_sub hl [2, 1, 0] rfl)
section T3_bytesOf_c
variable {p : Program} {l : Launch} {e : Env} {R : Room} {s : State} {m : MethodId} {args : Array Value} {below : List Frame} {meth : Method} {c : Code} {H : Heap} {locs : List Loc} {Q : State → Prop}
variable {cc : ByteArray} {pc : Nat} {ls : Array Slot} {rest : List Value} {nL : Nat} {E : ww_E} {A : Nat → Prop} {H0 : Heap}
theorem t3c_bytesOf {x0 : Int32} {r : Int32} (X : ww_C p m c cc nL s args RX3 lw_all) (hsz : ls.size = nL) (hF : 1 ≤ R.frames) (hLo : 22 ≤ R.locals) (hf : f3_bytesOf x0 = some r) (hrest : (rest.map fun v => v.category).sum ≤ 8) (hdg : decode cc pc = .ok (.invokestatic 122, 3)) (kk : W p l e R s m args below meth c H locs 0 0 Q (F0 m (pc + 3) ls (.int r :: rest))) : W p l e R s m args below meth c H locs 0 0 Q (F0 m pc ls (.int x0 :: rest)) :=
  t3_callS (n := 1) X hsz (As := [.int x0]) (met3_bytesOf l x0 r hf) (lw_S q1882 q1883 q135 q1884) (by decide +kernel) rfl hF hLo (Nat.zero_le _) (Nat.zero_le _) hrest hdg kk
end T3_bytesOf_c
noncomputable def f3_brings_b1c (y1 : Int32) (M_1 : ww_M) (x2 : Int32) : Option ((ww_M × Int32) ⊕ (ww_M)) :=
  if x2 < 0 then ww_x (some M_1) else if ((y1 >>> (x2 &&& 31)) &&& (255 : Int32)) = 0 then some (.inl (M_1, (x2 + (-8 : Int32)))) else ww_g (ww_i (ww_F M_1 2) 240) (some (.inl ((ww_sF (ww_sX M_1 1 (ww_F M_1 2) (vp_nar .byte (((y1 >>> (x2 &&& 31)) &&& (255 : Int32)).toInt8.toInt32))) 2 ((ww_F (ww_sX M_1 1 (ww_F M_1 2) (vp_nar .byte (((y1 >>> (x2 &&& 31)) &&& (255 : Int32)).toInt8.toInt32))) 2) + (1 : Int32))), (x2 + (-8 : Int32)))))
noncomputable def f3_brings_b1 (y1 : Int32) : (ww_M × Int32) → Option ((ww_M × Int32) ⊕ (ww_M)) := fun s9 => f3_brings_b1c y1 s9.1 s9.2
noncomputable def f3_brings (M : ww_M) (x1 : Int32) : Option (ww_M) :=
  ww_U (f3_brings_b1 x1) (M, (24 : Int32))
section T3_brings_k
variable {p : Program} {l : Launch} {e : Env} {R : Room} {s : State} {m : MethodId} {args : Array Value} {below : List Frame} {meth : Method} {c : Code} {H : Heap} {locs : List Loc} {Q : State → Prop}
variable {cc : ByteArray} {pc : Nat} {ls : Array Slot} {rest : List Value} {nL : Nat} {E : ww_E} {A : Nat → Prop} {H0 : Heap}
theorem t3k_brings {M M' : ww_M} {x1 : Int32} (X : ww_C p m c cc nL s args RX3 lw_all) (hsz : ls.size = nL) (hK : t3_Kn E s) (hD : t3_D E) (hR : t3_H E M H) (hS : va_S (t3_A E) H0 H locs) (hF : 1 ≤ R.frames) (hLo : 23 ≤ R.locals) (hM : t3_MetV l yX3_brings cX3_brings 4 0 0 E [.int x1] M M') (hrest : (rest.map fun v => v.category).sum ≤ 8) (hdg : decode cc pc = .ok (.invokevirtual 126, 3)) (kk : ∀ (H1 : Heap) (locs1 : List Loc), t3_H E M' H1 → va_S (t3_A E) H0 H1 locs1 → W p l e R s m args below meth c H1 locs1 0 0 Q (F0 m (pc + 3) ls (rest))) : W p l e R s m args below meth c H locs 0 0 Q (F0 m pc ls (.int x1 :: .ref E.1 :: rest)) :=
  t3_callV (n := 1) X hsz hK hR hS (As := [.int x1]) hM (lw_V q1885 q1887 qs60 q135 q1888) (by decide +kernel) rfl hF hLo (Nat.zero_le _) (Nat.zero_le _) hrest hdg kk
end T3_brings_k
set_option maxHeartbeats 4000000 in
set_option maxRecDepth 100000 in
theorem met3_brings (l : Launch) {E : ww_E} (hD : t3_D E) (M : ww_M) (x1 : Int32) (M' : ww_M) (hf : f3_brings M x1 = some M') : t3_MetV l yX3_brings cX3_brings 4 0 0 E [.int x1] M M' := by
  unfold f3_brings at hf
  refine t3_startV (by decide +kernel) (Nat.le_of_ble_eq_true rfl) ?_
  intro p e s m args below meth c Rm Q X hK hF hLo hend ls hl hR hS
  obtain ⟨hx, hb, hml, hown, hts⟩ := id X
  replace hl : lv_has ls 4 [(0, .ref E.1), (1, .int x1)] := hl
  refine lv_bipush (v := (24 : Int32)) hx hb dX3_brings_0 (by decide) ?_
  refine lv_istore_n (lv' := [(2, .int (24 : Int32)), (0, .ref E.1), (1, .int x1)]) hx hb dX3_brings_2 rfl hl (by decide) rfl (fun ls hl => ?_)
  have hL_1 : ∀ s9 : ww_M × Int32, ww_U (f3_brings_b1 x1) s9 = some M' → ∀ (H : Heap) (locs : List Loc) (ls : Array Slot), t3_H E s9.1 H → va_S (t3_A E) s.heap H locs → lv_has ls 4 [(0, .ref E.1), (1, .int x1), (2, .int s9.2)] → W p l e Rm s m args below meth c H locs 0 0 Q (F0 m 3 ls []) := by
    refine ww_ind _ M' ?_
    intro s9 z_1 hf hz_1 H locs ls hR hS hl
    obtain ⟨M_1, x2⟩ := s9
    replace hf : f3_brings_b1c x1 M_1 x2 = some z_1 := hf
    unfold f3_brings_b1c at hf
    replace hR : t3_H E M_1 H := hR
    replace hl : lv_has ls 4 [(0, .ref E.1), (1, .int x1), (2, .int x2)] := hl
    refine lv_iload_n hx hb dX3_brings_3 rfl (lv_at hl 2 rfl) ?_
    refine lv_if_lt (tgt := 49) hx hb dX3_brings_4 (by decide) (fun c_2 => ?_) (fun c_2 => ?_)
    · replace hf := ww_ip hf c_2
      replace hf := ww_xK hf hz_1
      exact hend dX3_brings_49 hf hR hS
    · replace hf := ww_in hf c_2
      refine lv_iload_n hx hb dX3_brings_7 rfl (lv_at hl 1 rfl) ?_
      refine lv_iload_n hx hb dX3_brings_8 rfl (lv_at hl 2 rfl) ?_
      refine lv_ishr hx hb dX3_brings_9 ?_
      refine lv_sipush (v := (255 : Int32)) hx hb dX3_brings_10 (by decide) ?_
      refine lv_iand hx hb dX3_brings_13 ?_
      refine lv_istore_n (lv' := [(3, .int ((x1 >>> (x2 &&& 31)) &&& (255 : Int32))), (0, .ref E.1), (1, .int x1), (2, .int x2)]) hx hb dX3_brings_14 rfl hl (by decide) rfl (fun ls hl => ?_)
      refine lv_iload_n hx hb dX3_brings_15 rfl (lv_at hl 0 rfl) ?_
      refine lv_if_ne (tgt := 22) hx hb dX3_brings_16 (by decide) (fun c_3 => ?_) (fun c_3 => ?_)
      · replace hf := ww_in hf c_3
        refine lv_aload_n hx hb dX3_brings_22 rfl (lv_at hl 1 rfl) ?_
        refine t3g_1 X hK hR dX3_brings_23 ?_
        refine lv_aload_n hx hb dX3_brings_26 rfl (lv_at hl 1 rfl) ?_
        refine t3g_2 X hK hR dX3_brings_27 ?_
        refine lv_iload_n hx hb dX3_brings_30 rfl (lv_at hl 0 rfl) ?_
        refine lv_i2b (v := ((x1 >>> (x2 &&& 31)) &&& (255 : Int32)).toInt8.toInt32) hx hb dX3_brings_31 rfl ?_
        obtain ⟨h_4, hf⟩ := ww_gS hf
        refine t3s_1 X hK hD hR hS h_4 dX3_brings_32 (fun H locs hR hS => ?_)
        refine lv_aload_n hx hb dX3_brings_33 rfl (lv_at hl 1 rfl) ?_
        refine lv_dup hx hb dX3_brings_34 rfl ?_
        refine t3g_2 X hK hR dX3_brings_35 ?_
        refine lv_iconst (v := (1 : Int32)) hx hb dX3_brings_38 (by decide) ?_
        refine lv_iadd hx hb dX3_brings_39 ?_
        refine t3p_2 X hK hD hR hS dX3_brings_40 (fun H locs hR hS => ?_)
        refine lv_iinc (k := 3) (v := x2 + (-8 : Int32)) (lv' := [(2, .int (x2 + (-8 : Int32))), (3, .int ((x1 >>> (x2 &&& 31)) &&& (255 : Int32))), (0, .ref E.1), (1, .int x1)]) hx hb dX3_brings_43 hl rfl rfl (by decide) rfl (fun ls hl => ?_)
        refine lv_goto (tgt := 3) hx hb dX3_brings_46 (by decide) ?_
        exact ww_lK hf hz_1 _ _ _ hR hS (lv_sub hl [2, 3, 0] rfl)
      · replace hf := ww_ip hf c_3
        refine lv_goto (tgt := 43) hx hb dX3_brings_19 (by decide) ?_
        refine lv_iinc (k := 3) (v := x2 + (-8 : Int32)) (lv' := [(2, .int (x2 + (-8 : Int32))), (3, .int ((x1 >>> (x2 &&& 31)) &&& (255 : Int32))), (0, .ref E.1), (1, .int x1)]) hx hb dX3_brings_43 hl rfl rfl (by decide) rfl (fun ls hl => ?_)
        refine lv_goto (tgt := 3) hx hb dX3_brings_46 (by decide) ?_
        exact ww_lK hf hz_1 _ _ _ hR hS (lv_sub hl [2, 3, 0] rfl)
  exact hL_1 (M, (24 : Int32)) hf _ _ _ hR hS (lv_sub hl [1, 2, 0] rfl)
section T3_brings_c
variable {p : Program} {l : Launch} {e : Env} {R : Room} {s : State} {m : MethodId} {args : Array Value} {below : List Frame} {meth : Method} {c : Code} {H : Heap} {locs : List Loc} {Q : State → Prop}
variable {cc : ByteArray} {pc : Nat} {ls : Array Slot} {rest : List Value} {nL : Nat} {E : ww_E} {A : Nat → Prop} {H0 : Heap}
theorem t3c_brings {M M' : ww_M} {x1 : Int32} (X : ww_C p m c cc nL s args RX3 lw_all) (hsz : ls.size = nL) (hK : t3_Kn E s) (hD : t3_D E) (hR : t3_H E M H) (hS : va_S (t3_A E) H0 H locs) (hF : 1 ≤ R.frames) (hLo : 23 ≤ R.locals) (hf : f3_brings M x1 = some M') (hrest : (rest.map fun v => v.category).sum ≤ 8) (hdg : decode cc pc = .ok (.invokevirtual 126, 3)) (kk : ∀ (H1 : Heap) (locs1 : List Loc), t3_H E M' H1 → va_S (t3_A E) H0 H1 locs1 → W p l e R s m args below meth c H1 locs1 0 0 Q (F0 m (pc + 3) ls (rest))) : W p l e R s m args below meth c H locs 0 0 Q (F0 m pc ls (.int x1 :: .ref E.1 :: rest)) :=
  t3k_brings X hsz hK hD hR hS hF hLo (met3_brings l hD _ _ _ hf) hrest hdg kk
end T3_brings_c
noncomputable def f3_feed (M : ww_M) (x1 : Int32) (x2 : Int32) (x3 : Int32) (x4 : Int32) (x5 : Int32) : Option (Int32 × ww_M) :=
  ww_b (f3_bytesOf x1) (fun r_1 => ww_b (f3_bytesOf x2) (fun r_2 => ww_b (f3_bytesOf x3) (fun r_3 => ww_b (f3_bytesOf x4) (fun r_4 => ww_b (f3_bytesOf x5) (fun r_5 => if ((((((ww_F (ww_sF M 0 (0 : Int32)) 2) + r_1) + r_2) + r_3) + r_4) + r_5) ≤ (240 : Int32) then ww_b (f3_brings (ww_sF M 0 (0 : Int32)) x1) (fun M_7 => ww_b (f3_brings M_7 x2) (fun M_8 => ww_b (f3_brings M_8 x3) (fun M_9 => ww_b (f3_brings M_9 x4) (fun M_10 => ww_b (f3_brings M_10 x5) (fun M_11 => some ((ww_F M_11 2), M_11)))))) else some ((-1 : Int32), (ww_sF M 0 (0 : Int32))))))))
set_option maxHeartbeats 4000000 in
set_option maxRecDepth 100000 in
theorem met3_feed (l : Launch) {E : ww_E} (hD : t3_D E) (M : ww_M) (x1 : Int32) (x2 : Int32) (x3 : Int32) (x4 : Int32) (x5 : Int32) (r : Int32) (M' : ww_M) (hf : f3_feed M x1 x2 x3 x4 x5 = some (r, M')) : t3_Met l yX3_feed cX3_feed 6 (some Jvm.ClassFile.FieldType.int) 1 23 E [.int x1, .int x2, .int x3, .int x4, .int x5] M M' r := by
  unfold f3_feed at hf
  refine t3_start (by decide +kernel) (Nat.le_of_ble_eq_true rfl) ?_
  intro p e s m args below meth c Rm Q X hK hF hLo hend ls hl hR hS
  obtain ⟨hx, hb, hml, hown, hts⟩ := id X
  replace hl : lv_has ls 6 [(0, .ref E.1), (1, .int x1), (2, .int x2), (3, .int x3), (4, .int x4), (5, .int x5)] := hl
  refine lv_aload_n hx hb dX3_feed_0 rfl (lv_at hl 0 rfl) ?_
  refine lv_iconst (v := (0 : Int32)) hx hb dX3_feed_1 (by decide) ?_
  refine t3p_0 X hK hD hR hS dX3_feed_2 (fun H locs hR hS => ?_)
  refine lv_aload_n hx hb dX3_feed_5 rfl (lv_at hl 0 rfl) ?_
  refine t3g_2 X hK hR dX3_feed_6 ?_
  refine lv_iload_n hx hb dX3_feed_9 rfl (lv_at hl 1 rfl) ?_
  obtain ⟨r_1, h_1, hf⟩ := ww_bS hf
  refine t3c_bytesOf X hl.1 (Nat.le_trans (Nat.le_of_ble_eq_true rfl) hF) (Nat.le_trans (Nat.le_of_ble_eq_true rfl) hLo) h_1 (Nat.le_of_ble_eq_true rfl) dX3_feed_10 ?_
  refine lv_iadd hx hb dX3_feed_13 ?_
  refine lv_iload_n hx hb dX3_feed_14 rfl (lv_at hl 2 rfl) ?_
  obtain ⟨r_2, h_2, hf⟩ := ww_bS hf
  refine t3c_bytesOf X hl.1 (Nat.le_trans (Nat.le_of_ble_eq_true rfl) hF) (Nat.le_trans (Nat.le_of_ble_eq_true rfl) hLo) h_2 (Nat.le_of_ble_eq_true rfl) dX3_feed_15 ?_
  refine lv_iadd hx hb dX3_feed_18 ?_
  refine lv_iload_n hx hb dX3_feed_19 rfl (lv_at hl 3 rfl) ?_
  obtain ⟨r_3, h_3, hf⟩ := ww_bS hf
  refine t3c_bytesOf X hl.1 (Nat.le_trans (Nat.le_of_ble_eq_true rfl) hF) (Nat.le_trans (Nat.le_of_ble_eq_true rfl) hLo) h_3 (Nat.le_of_ble_eq_true rfl) dX3_feed_20 ?_
  refine lv_iadd hx hb dX3_feed_23 ?_
  refine lv_iload hx hb dX3_feed_24 (lv_at hl 4 rfl) ?_
  obtain ⟨r_4, h_4, hf⟩ := ww_bS hf
  refine t3c_bytesOf X hl.1 (Nat.le_trans (Nat.le_of_ble_eq_true rfl) hF) (Nat.le_trans (Nat.le_of_ble_eq_true rfl) hLo) h_4 (Nat.le_of_ble_eq_true rfl) dX3_feed_26 ?_
  refine lv_iadd hx hb dX3_feed_29 ?_
  refine lv_iload hx hb dX3_feed_30 (lv_at hl 5 rfl) ?_
  obtain ⟨r_5, h_5, hf⟩ := ww_bS hf
  refine t3c_bytesOf X hl.1 (Nat.le_trans (Nat.le_of_ble_eq_true rfl) hF) (Nat.le_trans (Nat.le_of_ble_eq_true rfl) hLo) h_5 (Nat.le_of_ble_eq_true rfl) dX3_feed_32 ?_
  refine lv_iadd hx hb dX3_feed_35 ?_
  refine lv_sipush (v := (240 : Int32)) hx hb dX3_feed_36 (by decide) ?_
  refine lv_icmp_le (tgt := 44) hx hb dX3_feed_39 (by decide) (fun c_6 => ?_) (fun c_6 => ?_)
  · replace hf := ww_ip hf c_6
    refine lv_aload_n hx hb dX3_feed_44 rfl (lv_at hl 0 rfl) ?_
    refine lv_iload_n hx hb dX3_feed_45 rfl (lv_at hl 1 rfl) ?_
    obtain ⟨M_7, h_7, hf⟩ := ww_bS hf
    refine t3c_brings X hl.1 hK hD hR hS (Nat.le_trans (Nat.le_of_ble_eq_true rfl) hF) (Nat.le_trans (Nat.le_of_ble_eq_true rfl) hLo) h_7 (Nat.le_of_ble_eq_true rfl) dX3_feed_46 (fun H locs hR hS => ?_)
    refine lv_aload_n hx hb dX3_feed_49 rfl (lv_at hl 0 rfl) ?_
    refine lv_iload_n hx hb dX3_feed_50 rfl (lv_at hl 2 rfl) ?_
    obtain ⟨M_8, h_8, hf⟩ := ww_bS hf
    refine t3c_brings X hl.1 hK hD hR hS (Nat.le_trans (Nat.le_of_ble_eq_true rfl) hF) (Nat.le_trans (Nat.le_of_ble_eq_true rfl) hLo) h_8 (Nat.le_of_ble_eq_true rfl) dX3_feed_51 (fun H locs hR hS => ?_)
    refine lv_aload_n hx hb dX3_feed_54 rfl (lv_at hl 0 rfl) ?_
    refine lv_iload_n hx hb dX3_feed_55 rfl (lv_at hl 3 rfl) ?_
    obtain ⟨M_9, h_9, hf⟩ := ww_bS hf
    refine t3c_brings X hl.1 hK hD hR hS (Nat.le_trans (Nat.le_of_ble_eq_true rfl) hF) (Nat.le_trans (Nat.le_of_ble_eq_true rfl) hLo) h_9 (Nat.le_of_ble_eq_true rfl) dX3_feed_56 (fun H locs hR hS => ?_)
    refine lv_aload_n hx hb dX3_feed_59 rfl (lv_at hl 0 rfl) ?_
    refine lv_iload hx hb dX3_feed_60 (lv_at hl 4 rfl) ?_
    obtain ⟨M_10, h_10, hf⟩ := ww_bS hf
    refine t3c_brings X hl.1 hK hD hR hS (Nat.le_trans (Nat.le_of_ble_eq_true rfl) hF) (Nat.le_trans (Nat.le_of_ble_eq_true rfl) hLo) h_10 (Nat.le_of_ble_eq_true rfl) dX3_feed_62 (fun H locs hR hS => ?_)
    refine lv_aload_n hx hb dX3_feed_65 rfl (lv_at hl 0 rfl) ?_
    refine lv_iload hx hb dX3_feed_66 (lv_at hl 5 rfl) ?_
    obtain ⟨M_11, h_11, hf⟩ := ww_bS hf
    refine t3c_brings X hl.1 hK hD hR hS (Nat.le_trans (Nat.le_of_ble_eq_true rfl) hF) (Nat.le_trans (Nat.le_of_ble_eq_true rfl) hLo) h_11 (Nat.le_of_ble_eq_true rfl) dX3_feed_68 (fun H locs hR hS => ?_)
    refine lv_aload_n hx hb dX3_feed_71 rfl (lv_at hl 0 rfl) ?_
    refine t3g_2 X hK hR dX3_feed_72 ?_
    exact hend dX3_feed_75 rfl rfl hf hR hS
  · replace hf := ww_in hf c_6
    refine lv_iconst (v := (-1 : Int32)) hx hb dX3_feed_42 (by decide) ?_
    exact hend dX3_feed_43 rfl rfl hf hR hS
noncomputable def f3_end (M : ww_M) (x1 : Int32) : Option (Int32 × ww_M) :=
  if x1 < 0 then some ((0 : Int32), (ww_sF M 0 (0 : Int32))) else if x1 ≤ (ww_F (ww_sF M 0 (0 : Int32)) 2) then some ((1 : Int32), (ww_sF (ww_sF M 0 (0 : Int32)) 2 x1)) else some ((0 : Int32), (ww_sF M 0 (0 : Int32)))
set_option maxHeartbeats 4000000 in
set_option maxRecDepth 100000 in
theorem met3_end (l : Launch) {E : ww_E} (hD : t3_D E) (M : ww_M) (x1 : Int32) (r : Int32) (M' : ww_M) (hf : f3_end M x1 = some (r, M')) : t3_Met l yX3_end cX3_end 2 (some Jvm.ClassFile.FieldType.boolean) 0 0 E [.int x1] M M' r := by
  unfold f3_end at hf
  refine t3_start (by decide +kernel) (Nat.le_of_ble_eq_true rfl) ?_
  intro p e s m args below meth c Rm Q X hK hF hLo hend ls hl hR hS
  obtain ⟨hx, hb, hml, hown, hts⟩ := id X
  replace hl : lv_has ls 2 [(0, .ref E.1), (1, .int x1)] := hl
  refine lv_aload_n hx hb dX3_end_0 rfl (lv_at hl 0 rfl) ?_
  refine lv_iconst (v := (0 : Int32)) hx hb dX3_end_1 (by decide) ?_
  refine t3p_0 X hK hD hR hS dX3_end_2 (fun H locs hR hS => ?_)
  refine lv_iload_n hx hb dX3_end_5 rfl (lv_at hl 1 rfl) ?_
  refine lv_if_lt (tgt := 17) hx hb dX3_end_6 (by decide) (fun c_1 => ?_) (fun c_1 => ?_)
  · replace hf := ww_ip hf c_1
    refine lv_iconst (v := (0 : Int32)) hx hb dX3_end_17 (by decide) ?_
    exact hend dX3_end_18 rfl (by decide) hf hR hS
  · replace hf := ww_in hf c_1
    refine lv_iload_n hx hb dX3_end_9 rfl (lv_at hl 1 rfl) ?_
    refine lv_aload_n hx hb dX3_end_10 rfl (lv_at hl 0 rfl) ?_
    refine t3g_2 X hK hR dX3_end_11 ?_
    refine lv_icmp_le (tgt := 19) hx hb dX3_end_14 (by decide) (fun c_2 => ?_) (fun c_2 => ?_)
    · replace hf := ww_ip hf c_2
      refine lv_aload_n hx hb dX3_end_19 rfl (lv_at hl 0 rfl) ?_
      refine lv_iload_n hx hb dX3_end_20 rfl (lv_at hl 1 rfl) ?_
      refine t3p_2 X hK hD hR hS dX3_end_21 (fun H locs hR hS => ?_)
      refine lv_iconst (v := (1 : Int32)) hx hb dX3_end_24 (by decide) ?_
      exact hend dX3_end_25 rfl (by decide) hf hR hS
    · replace hf := ww_in hf c_2
      refine lv_iconst (v := (0 : Int32)) hx hb dX3_end_17 (by decide) ?_
      exact hend dX3_end_18 rfl (by decide) hf hR hS
noncomputable def f3_isIn (x0 : Int64) (x2 : Int64) (x4 : Int64) : Option (Int32) :=
  if (lg_cmp x0 x2) < 0 then some (0 : Int32) else if 0 < (lg_cmp x0 x4) then some (0 : Int32) else some (1 : Int32)
set_option maxHeartbeats 4000000 in
set_option maxRecDepth 100000 in
theorem met3_isIn (l : Launch) (x0 : Int64) (x2 : Int64) (x4 : Int64) (r : Int32) (hf : f3_isIn x0 x2 x4 = some r) : t3_MetS l yX3_isIn cX3_isIn 6 (some Jvm.ClassFile.FieldType.boolean) 0 0 [.long x0, .long x2, .long x4] r := by
  unfold f3_isIn at hf
  refine t3_startS (own := RX3) (by decide +kernel) (Nat.le_of_ble_eq_true rfl) ?_
  intro p e s m args below meth c Rm Q X hF hLo hend ls hl hS; have hR : s.heap = s.heap := rfl
  obtain ⟨hx, hb, hml, hown, hts⟩ := id X
  replace hl : lv_has ls 6 [(0, .long x0), (2, .long x2), (4, .long x4)] := hl
  refine lv_lload_n hx hb dX3_isIn_0 rfl (lv_at hl 0 rfl) ?_
  refine lv_lload_n hx hb dX3_isIn_1 rfl (lv_at hl 1 rfl) ?_
  refine W.lcmp hx hb dX3_isIn_2 ?_
  refine lv_if_lt (tgt := 17) hx hb dX3_isIn_3 (by decide) (fun c_1 => ?_) (fun c_1 => ?_)
  · replace hf := ww_ip hf c_1
    refine lv_iconst (v := (0 : Int32)) hx hb dX3_isIn_17 (by decide) ?_
    exact hend dX3_isIn_18 rfl (by decide) hf hR hS
  · replace hf := ww_in hf c_1
    refine lv_lload_n hx hb dX3_isIn_6 rfl (lv_at hl 0 rfl) ?_
    refine lv_lload hx hb dX3_isIn_7 (lv_at hl 2 rfl) ?_
    refine W.lcmp hx hb dX3_isIn_9 ?_
    refine lv_if_gt (tgt := 17) hx hb dX3_isIn_10 (by decide) (fun c_2 => ?_) (fun c_2 => ?_)
    · replace hf := ww_ip hf c_2
      refine lv_iconst (v := (0 : Int32)) hx hb dX3_isIn_17 (by decide) ?_
      exact hend dX3_isIn_18 rfl (by decide) hf hR hS
    · replace hf := ww_in hf c_2
      refine lv_iconst (v := (1 : Int32)) hx hb dX3_isIn_13 (by decide) ?_
      refine lv_goto (tgt := 18) hx hb dX3_isIn_14 (by decide) ?_
      exact hend dX3_isIn_18 rfl (by decide) hf hR hS
section T3_isIn_c
variable {p : Program} {l : Launch} {e : Env} {R : Room} {s : State} {m : MethodId} {args : Array Value} {below : List Frame} {meth : Method} {c : Code} {H : Heap} {locs : List Loc} {Q : State → Prop}
variable {cc : ByteArray} {pc : Nat} {ls : Array Slot} {rest : List Value} {nL : Nat} {E : ww_E} {A : Nat → Prop} {H0 : Heap}
theorem t3c_isIn {x0 : Int64} {x2 : Int64} {x4 : Int64} {r : Int32} (X : ww_C p m c cc nL s args RX3 lw_all) (hsz : ls.size = nL) (hF : 1 ≤ R.frames) (hLo : 25 ≤ R.locals) (hf : f3_isIn x0 x2 x4 = some r) (hrest : (rest.map fun v => v.category).sum ≤ 8) (hdg : decode cc pc = .ok (.invokestatic 174, 3)) (kk : W p l e R s m args below meth c H locs 0 0 Q (F0 m (pc + 3) ls (.int r :: rest))) : W p l e R s m args below meth c H locs 0 0 Q (F0 m pc ls (.long x4 :: .long x2 :: .long x0 :: rest)) :=
  t3_callS (n := 3) X hsz (As := [.long x0, .long x2, .long x4]) (met3_isIn l x0 x2 x4 r hf) (lw_S q1897 q1898 q135 q1899) (by decide +kernel) rfl hF hLo (Nat.zero_le _) (Nat.zero_le _) hrest hdg kk
end T3_isIn_c
noncomputable def f3_here (M : ww_M) : Option (Int32) :=
  if (ww_F M 2) ≤ (ww_F M 3) then some (-1 : Int32) else ww_g (ww_i (ww_F M 3) 240) (some ((ww_X M 1 (ww_F M 3)) &&& (255 : Int32)))
section T3_here_k
variable {p : Program} {l : Launch} {e : Env} {R : Room} {s : State} {m : MethodId} {args : Array Value} {below : List Frame} {meth : Method} {c : Code} {H : Heap} {locs : List Loc} {Q : State → Prop}
variable {cc : ByteArray} {pc : Nat} {ls : Array Slot} {rest : List Value} {nL : Nat} {E : ww_E} {A : Nat → Prop} {H0 : Heap}
theorem t3k_here {M : ww_M} {r : Int32} (X : ww_C p m c cc nL s args RX3 lw_all) (hsz : ls.size = nL) (hK : t3_Kn E s) (hD : t3_D E) (hR : t3_H E M H) (hS : va_S (t3_A E) H0 H locs) (hF : 1 ≤ R.frames) (hLo : 20 ≤ R.locals) (hM : t3_Met l yX3_here cX3_here 1 (some Jvm.ClassFile.FieldType.int) 0 0 E [] M M r) (hrest : (rest.map fun v => v.category).sum ≤ 8) (hdg : decode cc pc = .ok (.invokevirtual 133, 3)) (kk : ∀ (H1 : Heap) (locs1 : List Loc), t3_H E M H1 → va_S (t3_A E) H0 H1 locs1 → W p l e R s m args below meth c H1 locs1 0 0 Q (F0 m (pc + 3) ls (.int r :: rest))) : W p l e R s m args below meth c H locs 0 0 Q (F0 m pc ls (.ref E.1 :: rest)) :=
  t3_callI (n := 0) X hsz hK hR hS (As := []) hM (lw_V q1908 q1910 qs63 q135 q1911) (by decide +kernel) rfl hF hLo (Nat.zero_le _) (Nat.zero_le _) hrest hdg kk
end T3_here_k
set_option maxHeartbeats 4000000 in
set_option maxRecDepth 100000 in
theorem met3_here (l : Launch) {E : ww_E} (hD : t3_D E) (M : ww_M) (r : Int32) (hf : f3_here M = some r) : t3_Met l yX3_here cX3_here 1 (some Jvm.ClassFile.FieldType.int) 0 0 E [] M M r := by
  unfold f3_here at hf
  refine t3_startP (by decide +kernel) (Nat.le_of_ble_eq_true rfl) ?_
  intro p e s m args below meth c Rm Q X hK hF hLo hend ls hl hR hS
  obtain ⟨hx, hb, hml, hown, hts⟩ := id X
  replace hl : lv_has ls 1 [(0, .ref E.1)] := hl
  refine lv_aload_n hx hb dX3_here_0 rfl (lv_at hl 0 rfl) ?_
  refine t3g_3 X hK hR dX3_here_1 ?_
  refine lv_aload_n hx hb dX3_here_4 rfl (lv_at hl 0 rfl) ?_
  refine t3g_2 X hK hR dX3_here_5 ?_
  refine lv_icmp_ge (tgt := 27) hx hb dX3_here_8 (by decide) (fun c_1 => ?_) (fun c_1 => ?_)
  · replace hf := ww_ip hf c_1
    refine lv_iconst (v := (-1 : Int32)) hx hb dX3_here_27 (by decide) ?_
    exact hend dX3_here_28 rfl rfl hf hR hS
  · replace hf := ww_in hf c_1
    refine lv_aload_n hx hb dX3_here_11 rfl (lv_at hl 0 rfl) ?_
    refine t3g_1 X hK hR dX3_here_12 ?_
    refine lv_aload_n hx hb dX3_here_15 rfl (lv_at hl 0 rfl) ?_
    refine t3g_3 X hK hR dX3_here_16 ?_
    obtain ⟨h_2, hf⟩ := ww_gS hf
    refine t3l_1 X hK hR h_2 dX3_here_19 ?_
    refine lv_sipush (v := (255 : Int32)) hx hb dX3_here_20 (by decide) ?_
    refine lv_iand hx hb dX3_here_23 ?_
    refine lv_goto (tgt := 28) hx hb dX3_here_24 (by decide) ?_
    exact hend dX3_here_28 rfl rfl hf hR hS
section T3_here_c
variable {p : Program} {l : Launch} {e : Env} {R : Room} {s : State} {m : MethodId} {args : Array Value} {below : List Frame} {meth : Method} {c : Code} {H : Heap} {locs : List Loc} {Q : State → Prop}
variable {cc : ByteArray} {pc : Nat} {ls : Array Slot} {rest : List Value} {nL : Nat} {E : ww_E} {A : Nat → Prop} {H0 : Heap}
theorem t3c_here {M : ww_M} {r : Int32} (X : ww_C p m c cc nL s args RX3 lw_all) (hsz : ls.size = nL) (hK : t3_Kn E s) (hD : t3_D E) (hR : t3_H E M H) (hS : va_S (t3_A E) H0 H locs) (hF : 1 ≤ R.frames) (hLo : 20 ≤ R.locals) (hf : f3_here M = some r) (hrest : (rest.map fun v => v.category).sum ≤ 8) (hdg : decode cc pc = .ok (.invokevirtual 133, 3)) (kk : ∀ (H1 : Heap) (locs1 : List Loc), t3_H E M H1 → va_S (t3_A E) H0 H1 locs1 → W p l e R s m args below meth c H1 locs1 0 0 Q (F0 m (pc + 3) ls (.int r :: rest))) : W p l e R s m args below meth c H locs 0 0 Q (F0 m pc ls (.ref E.1 :: rest)) :=
  t3k_here X hsz hK hD hR hS hF hLo (met3_here l hD _ _ hf) hrest hdg kk
end T3_here_c
noncomputable def f3_look_b1c (M_1 : ww_M) : Option ((ww_M) ⊕ (Int32 × ww_M)) :=
  ww_b (f3_here M_1) (fun r_2 => if r_2 = (32 : Int32) then some (.inl (ww_sF M_1 3 ((ww_F M_1 3) + (1 : Int32)))) else ww_x (ww_b (f3_here M_1) (fun r_4 => some (r_4, M_1))))
noncomputable def f3_look_b1 : ww_M → Option ((ww_M) ⊕ (Int32 × ww_M)) := fun s9 => f3_look_b1c s9
noncomputable def f3_look (M : ww_M) : Option (Int32 × ww_M) :=
  ww_U (f3_look_b1) M
section T3_look_k
variable {p : Program} {l : Launch} {e : Env} {R : Room} {s : State} {m : MethodId} {args : Array Value} {below : List Frame} {meth : Method} {c : Code} {H : Heap} {locs : List Loc} {Q : State → Prop}
variable {cc : ByteArray} {pc : Nat} {ls : Array Slot} {rest : List Value} {nL : Nat} {E : ww_E} {A : Nat → Prop} {H0 : Heap}
theorem t3k_look {M M' : ww_M} {r : Int32} (X : ww_C p m c cc nL s args RX3 lw_all) (hsz : ls.size = nL) (hK : t3_Kn E s) (hD : t3_D E) (hR : t3_H E M H) (hS : va_S (t3_A E) H0 H locs) (hF : 2 ≤ R.frames) (hLo : 40 ≤ R.locals) (hM : t3_Met l yX3_look cX3_look 1 (some Jvm.ClassFile.FieldType.int) 1 20 E [] M M' r) (hrest : (rest.map fun v => v.category).sum ≤ 8) (hdg : decode cc pc = .ok (.invokevirtual 140, 3)) (kk : ∀ (H1 : Heap) (locs1 : List Loc), t3_H E M' H1 → va_S (t3_A E) H0 H1 locs1 → W p l e R s m args below meth c H1 locs1 0 0 Q (F0 m (pc + 3) ls (.int r :: rest))) : W p l e R s m args below meth c H locs 0 0 Q (F0 m pc ls (.ref E.1 :: rest)) :=
  t3_callI (n := 0) X hsz hK hR hS (As := []) hM (lw_V q1904 q1906 qs62 q135 q1907) (by decide +kernel) rfl hF hLo (Nat.zero_le _) (Nat.zero_le _) hrest hdg kk
end T3_look_k
set_option maxHeartbeats 4000000 in
set_option maxRecDepth 100000 in
theorem met3_look (l : Launch) {E : ww_E} (hD : t3_D E) (M : ww_M) (r : Int32) (M' : ww_M) (hf : f3_look M = some (r, M')) : t3_Met l yX3_look cX3_look 1 (some Jvm.ClassFile.FieldType.int) 1 20 E [] M M' r := by
  unfold f3_look at hf
  refine t3_start (by decide +kernel) (Nat.le_of_ble_eq_true rfl) ?_
  intro p e s m args below meth c Rm Q X hK hF hLo hend ls hl hR hS
  obtain ⟨hx, hb, hml, hown, hts⟩ := id X
  replace hl : lv_has ls 1 [(0, .ref E.1)] := hl
  have hL_1 : ∀ s9 : ww_M, ww_U (f3_look_b1) s9 = some (r, M') → ∀ (H : Heap) (locs : List Loc) (ls : Array Slot), t3_H E s9 H → va_S (t3_A E) s.heap H locs → lv_has ls 1 [(0, .ref E.1)] → W p l e Rm s m args below meth c H locs 0 0 Q (F0 m 0 ls []) := by
    refine ww_ind _ (r, M') ?_
    intro s9 z_1 hf hz_1 H locs ls hR hS hl
    obtain ⟨M_1, e9⟩ : ∃ q9, q9 = s9 := ⟨_, rfl⟩; subst e9
    replace hf : f3_look_b1c M_1 = some z_1 := hf
    unfold f3_look_b1c at hf
    replace hR : t3_H E M_1 H := hR
    replace hl : lv_has ls 1 [(0, .ref E.1)] := hl
    refine lv_aload_n hx hb dX3_look_0 rfl (lv_at hl 0 rfl) ?_
    obtain ⟨r_2, h_2, hf⟩ := ww_bS hf
    refine t3c_here X hl.1 hK hD hR hS (Nat.le_trans (Nat.le_of_ble_eq_true rfl) hF) (Nat.le_trans (Nat.le_of_ble_eq_true rfl) hLo) h_2 (Nat.le_of_ble_eq_true rfl) dX3_look_1 (fun H locs hR hS => ?_)
    refine lv_bipush (v := (32 : Int32)) hx hb dX3_look_4 (by decide) ?_
    refine lv_icmp_ne (tgt := 22) hx hb dX3_look_6 (by decide) (fun c_3 => ?_) (fun c_3 => ?_)
    · replace hf := ww_in hf c_3
      replace hf := ww_xK hf hz_1
      refine lv_aload_n hx hb dX3_look_22 rfl (lv_at hl 0 rfl) ?_
      obtain ⟨r_4, h_4, hf⟩ := ww_bS hf
      refine t3c_here X hl.1 hK hD hR hS (Nat.le_trans (Nat.le_of_ble_eq_true rfl) hF) (Nat.le_trans (Nat.le_of_ble_eq_true rfl) hLo) h_4 (Nat.le_of_ble_eq_true rfl) dX3_look_23 (fun H locs hR hS => ?_)
      exact hend dX3_look_26 rfl rfl hf hR hS
    · replace hf := ww_ip hf c_3
      refine lv_aload_n hx hb dX3_look_9 rfl (lv_at hl 0 rfl) ?_
      refine lv_dup hx hb dX3_look_10 rfl ?_
      refine t3g_3 X hK hR dX3_look_11 ?_
      refine lv_iconst (v := (1 : Int32)) hx hb dX3_look_14 (by decide) ?_
      refine lv_iadd hx hb dX3_look_15 ?_
      refine t3p_3 X hK hD hR hS dX3_look_16 (fun H locs hR hS => ?_)
      refine lv_goto (tgt := 0) hx hb dX3_look_19 (by decide) ?_
      exact ww_lK hf hz_1 _ _ _ hR hS hl
  exact hL_1 M hf _ _ _ hR hS hl
section T3_look_c
variable {p : Program} {l : Launch} {e : Env} {R : Room} {s : State} {m : MethodId} {args : Array Value} {below : List Frame} {meth : Method} {c : Code} {H : Heap} {locs : List Loc} {Q : State → Prop}
variable {cc : ByteArray} {pc : Nat} {ls : Array Slot} {rest : List Value} {nL : Nat} {E : ww_E} {A : Nat → Prop} {H0 : Heap}
theorem t3c_look {M M' : ww_M} {r : Int32} (X : ww_C p m c cc nL s args RX3 lw_all) (hsz : ls.size = nL) (hK : t3_Kn E s) (hD : t3_D E) (hR : t3_H E M H) (hS : va_S (t3_A E) H0 H locs) (hF : 2 ≤ R.frames) (hLo : 40 ≤ R.locals) (hf : f3_look M = some (r, M')) (hrest : (rest.map fun v => v.category).sum ≤ 8) (hdg : decode cc pc = .ok (.invokevirtual 140, 3)) (kk : ∀ (H1 : Heap) (locs1 : List Loc), t3_H E M' H1 → va_S (t3_A E) H0 H1 locs1 → W p l e R s m args below meth c H1 locs1 0 0 Q (F0 m (pc + 3) ls (.int r :: rest))) : W p l e R s m args below meth c H locs 0 0 Q (F0 m pc ls (.ref E.1 :: rest)) :=
  t3k_look X hsz hK hD hR hS hF hLo (met3_look l hD _ _ _ hf) hrest hdg kk
end T3_look_c
noncomputable def f3_isDigit (M : ww_M) : Option (Int32) :=
  ww_b (f3_here M) (fun r_1 => if r_1 < (48 : Int32) then some (0 : Int32) else ww_b (f3_here M) (fun r_3 => if (57 : Int32) < r_3 then some (0 : Int32) else some (1 : Int32)))
section T3_isDigit_k
variable {p : Program} {l : Launch} {e : Env} {R : Room} {s : State} {m : MethodId} {args : Array Value} {below : List Frame} {meth : Method} {c : Code} {H : Heap} {locs : List Loc} {Q : State → Prop}
variable {cc : ByteArray} {pc : Nat} {ls : Array Slot} {rest : List Value} {nL : Nat} {E : ww_E} {A : Nat → Prop} {H0 : Heap}
theorem t3k_isDigit {M : ww_M} {r : Int32} (X : ww_C p m c cc nL s args RX3 lw_all) (hsz : ls.size = nL) (hK : t3_Kn E s) (hD : t3_D E) (hR : t3_H E M H) (hS : va_S (t3_A E) H0 H locs) (hF : 2 ≤ R.frames) (hLo : 40 ≤ R.locals) (hM : t3_Met l yX3_isDigit cX3_isDigit 1 (some Jvm.ClassFile.FieldType.boolean) 1 20 E [] M M r) (hrest : (rest.map fun v => v.category).sum ≤ 8) (hdg : decode cc pc = .ok (.invokevirtual 143, 3)) (kk : ∀ (H1 : Heap) (locs1 : List Loc), t3_H E M H1 → va_S (t3_A E) H0 H1 locs1 → W p l e R s m args below meth c H1 locs1 0 0 Q (F0 m (pc + 3) ls (.int r :: rest))) : W p l e R s m args below meth c H locs 0 0 Q (F0 m pc ls (.ref E.1 :: rest)) :=
  t3_callI (n := 0) X hsz hK hR hS (As := []) hM (lw_V q1916 q1918 qs65 q135 q1919) (by decide +kernel) rfl hF hLo (Nat.zero_le _) (Nat.zero_le _) hrest hdg kk
end T3_isDigit_k
set_option maxHeartbeats 4000000 in
set_option maxRecDepth 100000 in
theorem met3_isDigit (l : Launch) {E : ww_E} (hD : t3_D E) (M : ww_M) (r : Int32) (hf : f3_isDigit M = some r) : t3_Met l yX3_isDigit cX3_isDigit 1 (some Jvm.ClassFile.FieldType.boolean) 1 20 E [] M M r := by
  unfold f3_isDigit at hf
  refine t3_startP (by decide +kernel) (Nat.le_of_ble_eq_true rfl) ?_
  intro p e s m args below meth c Rm Q X hK hF hLo hend ls hl hR hS
  obtain ⟨hx, hb, hml, hown, hts⟩ := id X
  replace hl : lv_has ls 1 [(0, .ref E.1)] := hl
  refine lv_aload_n hx hb dX3_isDigit_0 rfl (lv_at hl 0 rfl) ?_
  obtain ⟨r_1, h_1, hf⟩ := ww_bS hf
  refine t3c_here X hl.1 hK hD hR hS (Nat.le_trans (Nat.le_of_ble_eq_true rfl) hF) (Nat.le_trans (Nat.le_of_ble_eq_true rfl) hLo) h_1 (Nat.le_of_ble_eq_true rfl) dX3_isDigit_1 (fun H locs hR hS => ?_)
  refine lv_bipush (v := (48 : Int32)) hx hb dX3_isDigit_4 (by decide) ?_
  refine lv_icmp_lt (tgt := 22) hx hb dX3_isDigit_6 (by decide) (fun c_2 => ?_) (fun c_2 => ?_)
  · replace hf := ww_ip hf c_2
    refine lv_iconst (v := (0 : Int32)) hx hb dX3_isDigit_22 (by decide) ?_
    exact hend dX3_isDigit_23 rfl (by decide) hf hR hS
  · replace hf := ww_in hf c_2
    refine lv_aload_n hx hb dX3_isDigit_9 rfl (lv_at hl 0 rfl) ?_
    obtain ⟨r_3, h_3, hf⟩ := ww_bS hf
    refine t3c_here X hl.1 hK hD hR hS (Nat.le_trans (Nat.le_of_ble_eq_true rfl) hF) (Nat.le_trans (Nat.le_of_ble_eq_true rfl) hLo) h_3 (Nat.le_of_ble_eq_true rfl) dX3_isDigit_10 (fun H locs hR hS => ?_)
    refine lv_bipush (v := (57 : Int32)) hx hb dX3_isDigit_13 (by decide) ?_
    refine lv_icmp_gt (tgt := 22) hx hb dX3_isDigit_15 (by decide) (fun c_4 => ?_) (fun c_4 => ?_)
    · replace hf := ww_ip hf c_4
      refine lv_iconst (v := (0 : Int32)) hx hb dX3_isDigit_22 (by decide) ?_
      exact hend dX3_isDigit_23 rfl (by decide) hf hR hS
    · replace hf := ww_in hf c_4
      refine lv_iconst (v := (1 : Int32)) hx hb dX3_isDigit_18 (by decide) ?_
      refine lv_goto (tgt := 23) hx hb dX3_isDigit_19 (by decide) ?_
      exact hend dX3_isDigit_23 rfl (by decide) hf hR hS
section T3_isDigit_c
variable {p : Program} {l : Launch} {e : Env} {R : Room} {s : State} {m : MethodId} {args : Array Value} {below : List Frame} {meth : Method} {c : Code} {H : Heap} {locs : List Loc} {Q : State → Prop}
variable {cc : ByteArray} {pc : Nat} {ls : Array Slot} {rest : List Value} {nL : Nat} {E : ww_E} {A : Nat → Prop} {H0 : Heap}
theorem t3c_isDigit {M : ww_M} {r : Int32} (X : ww_C p m c cc nL s args RX3 lw_all) (hsz : ls.size = nL) (hK : t3_Kn E s) (hD : t3_D E) (hR : t3_H E M H) (hS : va_S (t3_A E) H0 H locs) (hF : 2 ≤ R.frames) (hLo : 40 ≤ R.locals) (hf : f3_isDigit M = some r) (hrest : (rest.map fun v => v.category).sum ≤ 8) (hdg : decode cc pc = .ok (.invokevirtual 143, 3)) (kk : ∀ (H1 : Heap) (locs1 : List Loc), t3_H E M H1 → va_S (t3_A E) H0 H1 locs1 → W p l e R s m args below meth c H1 locs1 0 0 Q (F0 m (pc + 3) ls (.int r :: rest))) : W p l e R s m args below meth c H locs 0 0 Q (F0 m pc ls (.ref E.1 :: rest)) :=
  t3k_isDigit X hsz hK hD hR hS hF hLo (met3_isDigit l hD _ _ hf) hrest hdg kk
end T3_isDigit_c
noncomputable def f3_fails (M : ww_M) : Option (ww_M) :=
  if (ww_F M 4) = (-1 : Int32) then some (ww_sF M 4 (ww_F M 3)) else some M
section T3_fails_k
variable {p : Program} {l : Launch} {e : Env} {R : Room} {s : State} {m : MethodId} {args : Array Value} {below : List Frame} {meth : Method} {c : Code} {H : Heap} {locs : List Loc} {Q : State → Prop}
variable {cc : ByteArray} {pc : Nat} {ls : Array Slot} {rest : List Value} {nL : Nat} {E : ww_E} {A : Nat → Prop} {H0 : Heap}
theorem t3k_fails {M M' : ww_M} (X : ww_C p m c cc nL s args RX3 lw_all) (hsz : ls.size = nL) (hK : t3_Kn E s) (hD : t3_D E) (hR : t3_H E M H) (hS : va_S (t3_A E) H0 H locs) (hF : 1 ≤ R.frames) (hLo : 20 ≤ R.locals) (hM : t3_MetV l yX3_fails cX3_fails 1 0 0 E [] M M') (hrest : (rest.map fun v => v.category).sum ≤ 8) (hdg : decode cc pc = .ok (.invokevirtual 147, 3)) (kk : ∀ (H1 : Heap) (locs1 : List Loc), t3_H E M' H1 → va_S (t3_A E) H0 H1 locs1 → W p l e R s m args below meth c H1 locs1 0 0 Q (F0 m (pc + 3) ls (rest))) : W p l e R s m args below meth c H locs 0 0 Q (F0 m pc ls (.ref E.1 :: rest)) :=
  t3_callV (n := 0) X hsz hK hR hS (As := []) hM (lw_V q1920 q1922 qs66 q135 q1923) (by decide +kernel) rfl hF hLo (Nat.zero_le _) (Nat.zero_le _) hrest hdg kk
end T3_fails_k
set_option maxHeartbeats 4000000 in
set_option maxRecDepth 100000 in
theorem met3_fails (l : Launch) {E : ww_E} (hD : t3_D E) (M : ww_M) (M' : ww_M) (hf : f3_fails M = some M') : t3_MetV l yX3_fails cX3_fails 1 0 0 E [] M M' := by
  unfold f3_fails at hf
  refine t3_startV (by decide +kernel) (Nat.le_of_ble_eq_true rfl) ?_
  intro p e s m args below meth c Rm Q X hK hF hLo hend ls hl hR hS
  obtain ⟨hx, hb, hml, hown, hts⟩ := id X
  replace hl : lv_has ls 1 [(0, .ref E.1)] := hl
  refine lv_aload_n hx hb dX3_fails_0 rfl (lv_at hl 0 rfl) ?_
  refine t3g_4 X hK hR dX3_fails_1 ?_
  refine lv_iconst (v := (-1 : Int32)) hx hb dX3_fails_4 (by decide) ?_
  refine lv_icmp_ne (tgt := 16) hx hb dX3_fails_5 (by decide) (fun c_1 => ?_) (fun c_1 => ?_)
  · replace hf := ww_in hf c_1
    exact hend dX3_fails_16 hf hR hS
  · replace hf := ww_ip hf c_1
    refine lv_aload_n hx hb dX3_fails_8 rfl (lv_at hl 0 rfl) ?_
    refine lv_aload_n hx hb dX3_fails_9 rfl (lv_at hl 0 rfl) ?_
    refine t3g_3 X hK hR dX3_fails_10 ?_
    refine t3p_4 X hK hD hR hS dX3_fails_13 (fun H locs hR hS => ?_)
    exact hend dX3_fails_16 hf hR hS
section T3_fails_c
variable {p : Program} {l : Launch} {e : Env} {R : Room} {s : State} {m : MethodId} {args : Array Value} {below : List Frame} {meth : Method} {c : Code} {H : Heap} {locs : List Loc} {Q : State → Prop}
variable {cc : ByteArray} {pc : Nat} {ls : Array Slot} {rest : List Value} {nL : Nat} {E : ww_E} {A : Nat → Prop} {H0 : Heap}
theorem t3c_fails {M M' : ww_M} (X : ww_C p m c cc nL s args RX3 lw_all) (hsz : ls.size = nL) (hK : t3_Kn E s) (hD : t3_D E) (hR : t3_H E M H) (hS : va_S (t3_A E) H0 H locs) (hF : 1 ≤ R.frames) (hLo : 20 ≤ R.locals) (hf : f3_fails M = some M') (hrest : (rest.map fun v => v.category).sum ≤ 8) (hdg : decode cc pc = .ok (.invokevirtual 147, 3)) (kk : ∀ (H1 : Heap) (locs1 : List Loc), t3_H E M' H1 → va_S (t3_A E) H0 H1 locs1 → W p l e R s m args below meth c H1 locs1 0 0 Q (F0 m (pc + 3) ls (rest))) : W p l e R s m args below meth c H locs 0 0 Q (F0 m pc ls (.ref E.1 :: rest)) :=
  t3k_fails X hsz hK hD hR hS hF hLo (met3_fails l hD _ _ hf) hrest hdg kk
end T3_fails_c
noncomputable def f3_number_b1c (M_4 : ww_M) (x1 : Int32) (x2 : Int32) : Option ((ww_M × Int32 × Int32) ⊕ (Int32 × ww_M)) :=
  if (3 : Int32) ≤ x2 then ww_x (ww_b (f3_isDigit M_4) (fun r_6 => if r_6 = 0 then some (x1, M_4) else ww_b (f3_fails M_4) (fun M_8 => some (x1, M_8)))) else ww_b (f3_isDigit M_4) (fun r_9 => if r_9 = 0 then ww_x (ww_b (f3_isDigit M_4) (fun r_11 => if r_11 = 0 then some (x1, M_4) else ww_b (f3_fails M_4) (fun M_13 => some (x1, M_13)))) else ww_b (f3_here M_4) (fun r_14 => some (.inl ((ww_sF M_4 3 ((ww_F M_4 3) + (1 : Int32))), ((((10 : Int32) * x1) + r_14) - (48 : Int32)), (x2 + (1 : Int32))))))
noncomputable def f3_number_b1 : (ww_M × Int32 × Int32) → Option ((ww_M × Int32 × Int32) ⊕ (Int32 × ww_M)) := fun s9 => f3_number_b1c s9.1 s9.2.1 s9.2.2
noncomputable def f3_number (M : ww_M) : Option (Int32 × ww_M) :=
  ww_b2 (f3_look M) (fun r_1 M_1 => ww_b (f3_isDigit M_1) (fun r_2 => if r_2 = 0 then ww_b (f3_fails M_1) (fun M_15 => some ((0 : Int32), M_15)) else ww_U (f3_number_b1) (M_1, (0 : Int32), (0 : Int32))))
section T3_number_k
variable {p : Program} {l : Launch} {e : Env} {R : Room} {s : State} {m : MethodId} {args : Array Value} {below : List Frame} {meth : Method} {c : Code} {H : Heap} {locs : List Loc} {Q : State → Prop}
variable {cc : ByteArray} {pc : Nat} {ls : Array Slot} {rest : List Value} {nL : Nat} {E : ww_E} {A : Nat → Prop} {H0 : Heap}
theorem t3k_number {M M' : ww_M} {r : Int32} (X : ww_C p m c cc nL s args RX3 lw_all) (hsz : ls.size = nL) (hK : t3_Kn E s) (hD : t3_D E) (hR : t3_H E M H) (hS : va_S (t3_A E) H0 H locs) (hF : 3 ≤ R.frames) (hLo : 62 ≤ R.locals) (hM : t3_Met l yX3_number cX3_number 3 (some Jvm.ClassFile.FieldType.int) 2 40 E [] M M' r) (hrest : (rest.map fun v => v.category).sum ≤ 8) (hdg : decode cc pc = .ok (.invokevirtual 150, 3)) (kk : ∀ (H1 : Heap) (locs1 : List Loc), t3_H E M' H1 → va_S (t3_A E) H0 H1 locs1 → W p l e R s m args below meth c H1 locs1 0 0 Q (F0 m (pc + 3) ls (.int r :: rest))) : W p l e R s m args below meth c H locs 0 0 Q (F0 m pc ls (.ref E.1 :: rest)) :=
  t3_callI (n := 0) X hsz hK hR hS (As := []) hM (lw_V q1912 q1914 qs64 q135 q1915) (by decide +kernel) rfl hF hLo (Nat.zero_le _) (Nat.zero_le _) hrest hdg kk
end T3_number_k
set_option maxHeartbeats 4000000 in
set_option maxRecDepth 100000 in
theorem met3_number (l : Launch) {E : ww_E} (hD : t3_D E) (M : ww_M) (r : Int32) (M' : ww_M) (hf : f3_number M = some (r, M')) : t3_Met l yX3_number cX3_number 3 (some Jvm.ClassFile.FieldType.int) 2 40 E [] M M' r := by
  unfold f3_number at hf
  refine t3_start (by decide +kernel) (Nat.le_of_ble_eq_true rfl) ?_
  intro p e s m args below meth c Rm Q X hK hF hLo hend ls hl hR hS
  obtain ⟨hx, hb, hml, hown, hts⟩ := id X
  replace hl : lv_has ls 3 [(0, .ref E.1)] := hl
  refine lv_aload_n hx hb dX3_number_0 rfl (lv_at hl 0 rfl) ?_
  obtain ⟨r_1, M_1, h_1, hf⟩ := ww_b2S hf
  refine t3c_look X hl.1 hK hD hR hS (Nat.le_trans (Nat.le_of_ble_eq_true rfl) hF) (Nat.le_trans (Nat.le_of_ble_eq_true rfl) hLo) h_1 (Nat.le_of_ble_eq_true rfl) dX3_number_1 (fun H locs hR hS => ?_)
  refine lv_pop hx hb dX3_number_4 rfl ?_
  refine lv_aload_n hx hb dX3_number_5 rfl (lv_at hl 0 rfl) ?_
  obtain ⟨r_2, h_2, hf⟩ := ww_bS hf
  refine t3c_isDigit X hl.1 hK hD hR hS (Nat.le_trans (Nat.le_of_ble_eq_true rfl) hF) (Nat.le_trans (Nat.le_of_ble_eq_true rfl) hLo) h_2 (Nat.le_of_ble_eq_true rfl) dX3_number_6 (fun H locs hR hS => ?_)
  refine lv_if_ne (tgt := 18) hx hb dX3_number_9 (by decide) (fun c_3 => ?_) (fun c_3 => ?_)
  · replace hf := ww_in hf c_3
    refine lv_iconst (v := (0 : Int32)) hx hb dX3_number_18 (by decide) ?_
    refine lv_istore_n (lv' := [(1, .int (0 : Int32)), (0, .ref E.1)]) hx hb dX3_number_19 rfl hl (by decide) rfl (fun ls hl => ?_)
    refine lv_iconst (v := (0 : Int32)) hx hb dX3_number_20 (by decide) ?_
    refine lv_istore_n (lv' := [(2, .int (0 : Int32)), (1, .int (0 : Int32)), (0, .ref E.1)]) hx hb dX3_number_21 rfl hl (by decide) rfl (fun ls hl => ?_)
    have hL_1 : ∀ s9 : ww_M × Int32 × Int32, ww_U (f3_number_b1) s9 = some (r, M') → ∀ (H : Heap) (locs : List Loc) (ls : Array Slot), t3_H E s9.1 H → va_S (t3_A E) s.heap H locs → lv_has ls 3 [(0, .ref E.1), (1, .int s9.2.1), (2, .int s9.2.2)] → W p l e Rm s m args below meth c H locs 0 0 Q (F0 m 22 ls []) := by
      refine ww_ind _ (r, M') ?_
      intro s9 z_1 hf hz_1 H locs ls hR hS hl
      obtain ⟨M_4, x1, x2⟩ := s9
      replace hf : f3_number_b1c M_4 x1 x2 = some z_1 := hf
      unfold f3_number_b1c at hf
      replace hR : t3_H E M_4 H := hR
      replace hl : lv_has ls 3 [(0, .ref E.1), (1, .int x1), (2, .int x2)] := hl
      refine lv_iload_n hx hb dX3_number_22 rfl (lv_at hl 2 rfl) ?_
      refine lv_iconst (v := (3 : Int32)) hx hb dX3_number_23 (by decide) ?_
      refine lv_icmp_ge (tgt := 63) hx hb dX3_number_24 (by decide) (fun c_5 => ?_) (fun c_5 => ?_)
      · replace hf := ww_ip hf c_5
        replace hf := ww_xK hf hz_1
        refine lv_aload_n hx hb dX3_number_63 rfl (lv_at hl 0 rfl) ?_
        obtain ⟨r_6, h_6, hf⟩ := ww_bS hf
        refine t3c_isDigit X hl.1 hK hD hR hS (Nat.le_trans (Nat.le_of_ble_eq_true rfl) hF) (Nat.le_trans (Nat.le_of_ble_eq_true rfl) hLo) h_6 (Nat.le_of_ble_eq_true rfl) dX3_number_64 (fun H locs hR hS => ?_)
        refine lv_if_eq (tgt := 74) hx hb dX3_number_67 (by decide) (fun c_7 => ?_) (fun c_7 => ?_)
        · replace hf := ww_ip hf c_7
          refine lv_iload_n hx hb dX3_number_74 rfl (lv_at hl 1 rfl) ?_
          exact hend dX3_number_75 rfl rfl hf hR hS
        · replace hf := ww_in hf c_7
          refine lv_aload_n hx hb dX3_number_70 rfl (lv_at hl 0 rfl) ?_
          obtain ⟨M_8, h_8, hf⟩ := ww_bS hf
          refine t3c_fails X hl.1 hK hD hR hS (Nat.le_trans (Nat.le_of_ble_eq_true rfl) hF) (Nat.le_trans (Nat.le_of_ble_eq_true rfl) hLo) h_8 (Nat.le_of_ble_eq_true rfl) dX3_number_71 (fun H locs hR hS => ?_)
          refine lv_iload_n hx hb dX3_number_74 rfl (lv_at hl 1 rfl) ?_
          exact hend dX3_number_75 rfl rfl hf hR hS
      · replace hf := ww_in hf c_5
        refine lv_aload_n hx hb dX3_number_27 rfl (lv_at hl 0 rfl) ?_
        obtain ⟨r_9, h_9, hf⟩ := ww_bS hf
        refine t3c_isDigit X hl.1 hK hD hR hS (Nat.le_trans (Nat.le_of_ble_eq_true rfl) hF) (Nat.le_trans (Nat.le_of_ble_eq_true rfl) hLo) h_9 (Nat.le_of_ble_eq_true rfl) dX3_number_28 (fun H locs hR hS => ?_)
        refine lv_if_eq (tgt := 63) hx hb dX3_number_31 (by decide) (fun c_10 => ?_) (fun c_10 => ?_)
        · replace hf := ww_ip hf c_10
          replace hf := ww_xK hf hz_1
          refine lv_aload_n hx hb dX3_number_63 rfl (lv_at hl 0 rfl) ?_
          obtain ⟨r_11, h_11, hf⟩ := ww_bS hf
          refine t3c_isDigit X hl.1 hK hD hR hS (Nat.le_trans (Nat.le_of_ble_eq_true rfl) hF) (Nat.le_trans (Nat.le_of_ble_eq_true rfl) hLo) h_11 (Nat.le_of_ble_eq_true rfl) dX3_number_64 (fun H locs hR hS => ?_)
          refine lv_if_eq (tgt := 74) hx hb dX3_number_67 (by decide) (fun c_12 => ?_) (fun c_12 => ?_)
          · replace hf := ww_ip hf c_12
            refine lv_iload_n hx hb dX3_number_74 rfl (lv_at hl 1 rfl) ?_
            exact hend dX3_number_75 rfl rfl hf hR hS
          · replace hf := ww_in hf c_12
            refine lv_aload_n hx hb dX3_number_70 rfl (lv_at hl 0 rfl) ?_
            obtain ⟨M_13, h_13, hf⟩ := ww_bS hf
            refine t3c_fails X hl.1 hK hD hR hS (Nat.le_trans (Nat.le_of_ble_eq_true rfl) hF) (Nat.le_trans (Nat.le_of_ble_eq_true rfl) hLo) h_13 (Nat.le_of_ble_eq_true rfl) dX3_number_71 (fun H locs hR hS => ?_)
            refine lv_iload_n hx hb dX3_number_74 rfl (lv_at hl 1 rfl) ?_
            exact hend dX3_number_75 rfl rfl hf hR hS
        · replace hf := ww_in hf c_10
          refine lv_bipush (v := (10 : Int32)) hx hb dX3_number_34 (by decide) ?_
          refine lv_iload_n hx hb dX3_number_36 rfl (lv_at hl 1 rfl) ?_
          refine lv_imul hx hb dX3_number_37 ?_
          refine lv_aload_n hx hb dX3_number_38 rfl (lv_at hl 0 rfl) ?_
          obtain ⟨r_14, h_14, hf⟩ := ww_bS hf
          refine t3c_here X hl.1 hK hD hR hS (Nat.le_trans (Nat.le_of_ble_eq_true rfl) hF) (Nat.le_trans (Nat.le_of_ble_eq_true rfl) hLo) h_14 (Nat.le_of_ble_eq_true rfl) dX3_number_39 (fun H locs hR hS => ?_)
          refine lv_iadd hx hb dX3_number_42 ?_
          refine lv_bipush (v := (48 : Int32)) hx hb dX3_number_43 (by decide) ?_
          refine lv_isub hx hb dX3_number_45 ?_
          refine lv_istore_n (lv' := [(1, .int ((((10 : Int32) * x1) + r_14) - (48 : Int32))), (0, .ref E.1), (2, .int x2)]) hx hb dX3_number_46 rfl hl (by decide) rfl (fun ls hl => ?_)
          refine lv_aload_n hx hb dX3_number_47 rfl (lv_at hl 1 rfl) ?_
          refine lv_dup hx hb dX3_number_48 rfl ?_
          refine t3g_3 X hK hR dX3_number_49 ?_
          refine lv_iconst (v := (1 : Int32)) hx hb dX3_number_52 (by decide) ?_
          refine lv_iadd hx hb dX3_number_53 ?_
          refine t3p_3 X hK hD hR hS dX3_number_54 (fun H locs hR hS => ?_)
          refine lv_iinc (k := 2) (v := x2 + (1 : Int32)) (lv' := [(2, .int (x2 + (1 : Int32))), (1, .int ((((10 : Int32) * x1) + r_14) - (48 : Int32))), (0, .ref E.1)]) hx hb dX3_number_57 hl rfl rfl (by decide) rfl (fun ls hl => ?_)
          refine lv_goto (tgt := 22) hx hb dX3_number_60 (by decide) ?_
          exact ww_lK hf hz_1 _ _ _ hR hS (lv_sub hl [2, 1, 0] rfl)
    exact hL_1 (M_1, (0 : Int32), (0 : Int32)) hf _ _ _ hR hS (lv_sub hl [2, 1, 0] rfl)
  · replace hf := ww_ip hf c_3
    refine lv_aload_n hx hb dX3_number_12 rfl (lv_at hl 0 rfl) ?_
    obtain ⟨M_15, h_15, hf⟩ := ww_bS hf
    refine t3c_fails X hl.1 hK hD hR hS (Nat.le_trans (Nat.le_of_ble_eq_true rfl) hF) (Nat.le_trans (Nat.le_of_ble_eq_true rfl) hLo) h_15 (Nat.le_of_ble_eq_true rfl) dX3_number_13 (fun H locs hR hS => ?_)
    refine lv_iconst (v := (0 : Int32)) hx hb dX3_number_16 (by decide) ?_
    exact hend dX3_number_17 rfl rfl hf hR hS
section T3_number_c
variable {p : Program} {l : Launch} {e : Env} {R : Room} {s : State} {m : MethodId} {args : Array Value} {below : List Frame} {meth : Method} {c : Code} {H : Heap} {locs : List Loc} {Q : State → Prop}
variable {cc : ByteArray} {pc : Nat} {ls : Array Slot} {rest : List Value} {nL : Nat} {E : ww_E} {A : Nat → Prop} {H0 : Heap}
theorem t3c_number {M M' : ww_M} {r : Int32} (X : ww_C p m c cc nL s args RX3 lw_all) (hsz : ls.size = nL) (hK : t3_Kn E s) (hD : t3_D E) (hR : t3_H E M H) (hS : va_S (t3_A E) H0 H locs) (hF : 3 ≤ R.frames) (hLo : 62 ≤ R.locals) (hf : f3_number M = some (r, M')) (hrest : (rest.map fun v => v.category).sum ≤ 8) (hdg : decode cc pc = .ok (.invokevirtual 150, 3)) (kk : ∀ (H1 : Heap) (locs1 : List Loc), t3_H E M' H1 → va_S (t3_A E) H0 H1 locs1 → W p l e R s m args below meth c H1 locs1 0 0 Q (F0 m (pc + 3) ls (.int r :: rest))) : W p l e R s m args below meth c H locs 0 0 Q (F0 m pc ls (.ref E.1 :: rest)) :=
  t3k_number X hsz hK hD hR hS hF hLo (met3_number l hD _ _ _ hf) hrest hdg kk
end T3_number_c
noncomputable def f3_value_j3 (M : ww_M) (y1 : Int32) : Option (Int32 × ww_M) :=
  ww_b2 (f3_number M) (fun r_3 M_3 => if y1 = 0 then some (r_3, M_3) else some ((-r_3), M_3))
noncomputable def f3_value_j2 (y1 : Int32) (M_2 : ww_M) : Option (Int32 × ww_M) :=
  if y1 = 0 then f3_value_j3 M_2 y1 else ww_b (f3_isDigit M_2) (fun r_6 => if r_6 = 0 then ww_b (f3_fails M_2) (fun M_8 => some ((0 : Int32), M_8)) else f3_value_j3 M_2 y1)
noncomputable def f3_value_j1 (M : ww_M) (t0 : Int32) : Option (Int32 × ww_M) :=
  if t0 = 0 then f3_value_j2 t0 M else f3_value_j2 t0 (ww_sF M 3 ((ww_F M 3) + (1 : Int32)))
noncomputable def f3_value (M : ww_M) : Option (Int32 × ww_M) :=
  ww_b2 (f3_look M) (fun r_1 M_1 => if r_1 = (45 : Int32) then f3_value_j1 M_1 (1 : Int32) else f3_value_j1 M_1 (0 : Int32))
section T3_value_k
variable {p : Program} {l : Launch} {e : Env} {R : Room} {s : State} {m : MethodId} {args : Array Value} {below : List Frame} {meth : Method} {c : Code} {H : Heap} {locs : List Loc} {Q : State → Prop}
variable {cc : ByteArray} {pc : Nat} {ls : Array Slot} {rest : List Value} {nL : Nat} {E : ww_E} {A : Nat → Prop} {H0 : Heap}
theorem t3k_value {M M' : ww_M} {r : Int32} (X : ww_C p m c cc nL s args RX3 lw_all) (hsz : ls.size = nL) (hK : t3_Kn E s) (hD : t3_D E) (hR : t3_H E M H) (hS : va_S (t3_A E) H0 H locs) (hF : 4 ≤ R.frames) (hLo : 84 ≤ R.locals) (hM : t3_Met l yX3_value cX3_value 3 (some Jvm.ClassFile.FieldType.int) 3 62 E [] M M' r) (hrest : (rest.map fun v => v.category).sum ≤ 8) (hdg : decode cc pc = .ok (.invokevirtual 156, 3)) (kk : ∀ (H1 : Heap) (locs1 : List Loc), t3_H E M' H1 → va_S (t3_A E) H0 H1 locs1 → W p l e R s m args below meth c H1 locs1 0 0 Q (F0 m (pc + 3) ls (.int r :: rest))) : W p l e R s m args below meth c H locs 0 0 Q (F0 m pc ls (.ref E.1 :: rest)) :=
  t3_callI (n := 0) X hsz hK hR hS (As := []) hM (lw_V q1924 q1926 qs67 q135 q1927) (by decide +kernel) rfl hF hLo (Nat.zero_le _) (Nat.zero_le _) hrest hdg kk
end T3_value_k
set_option maxHeartbeats 4000000 in
set_option maxRecDepth 100000 in
theorem met3_value (l : Launch) {E : ww_E} (hD : t3_D E) (M : ww_M) (r : Int32) (M' : ww_M) (hf : f3_value M = some (r, M')) : t3_Met l yX3_value cX3_value 3 (some Jvm.ClassFile.FieldType.int) 3 62 E [] M M' r := by
  unfold f3_value at hf
  refine t3_start (by decide +kernel) (Nat.le_of_ble_eq_true rfl) ?_
  intro p e s m args below meth c Rm Q X hK hF hLo hend ls hl hR hS
  obtain ⟨hx, hb, hml, hown, hts⟩ := id X
  replace hl : lv_has ls 3 [(0, .ref E.1)] := hl
  refine lv_aload_n hx hb dX3_value_0 rfl (lv_at hl 0 rfl) ?_
  obtain ⟨r_1, M_1, h_1, hf⟩ := ww_b2S hf
  refine t3c_look X hl.1 hK hD hR hS (Nat.le_trans (Nat.le_of_ble_eq_true rfl) hF) (Nat.le_trans (Nat.le_of_ble_eq_true rfl) hLo) h_1 (Nat.le_of_ble_eq_true rfl) dX3_value_1 (fun H locs hR hS => ?_)
  refine lv_bipush (v := (45 : Int32)) hx hb dX3_value_4 (by decide) ?_
  have hj_1 : ∀ (t0 : Int32), f3_value_j1 M_1 t0 = some (r, M') → ∀ (H : Heap) (locs : List Loc) (ls : Array Slot), t3_H E M_1 H → va_S (t3_A E) s.heap H locs → lv_has ls 3 [(0, .ref E.1)] → W p l e Rm s m args below meth c H locs 0 0 Q (F0 m 14 ls [.int t0]) := by
    intro t0 hf H locs ls hR hS hl
    unfold f3_value_j1 at hf
    refine lv_istore_n (lv' := [(1, .int t0), (0, .ref E.1)]) hx hb dX3_value_14 rfl hl (by decide) rfl (fun ls hl => ?_)
    refine lv_iload_n hx hb dX3_value_15 rfl (lv_at hl 0 rfl) ?_
    have hj_2 : ∀ (M_2 : ww_M), f3_value_j2 t0 M_2 = some (r, M') → ∀ (H : Heap) (locs : List Loc) (ls : Array Slot), t3_H E M_2 H → va_S (t3_A E) s.heap H locs → lv_has ls 3 [(0, .ref E.1), (1, .int t0)] → W p l e Rm s m args below meth c H locs 0 0 Q (F0 m 29 ls []) := by
      intro M_2 hf H locs ls hR hS hl
      unfold f3_value_j2 at hf
      refine lv_iload_n hx hb dX3_value_29 rfl (lv_at hl 1 rfl) ?_
      have hj_3 : f3_value_j3 M_2 t0 = some (r, M') → ∀ (H : Heap) (locs : List Loc) (ls : Array Slot), t3_H E M_2 H → va_S (t3_A E) s.heap H locs → lv_has ls 3 [(0, .ref E.1), (1, .int t0)] → W p l e Rm s m args below meth c H locs 0 0 Q (F0 m 46 ls []) := by
        intro  hf H locs ls hR hS hl
        unfold f3_value_j3 at hf
        refine lv_aload_n hx hb dX3_value_46 rfl (lv_at hl 0 rfl) ?_
        obtain ⟨r_3, M_3, h_3, hf⟩ := ww_b2S hf
        refine t3c_number X hl.1 hK hD hR hS (Nat.le_trans (Nat.le_of_ble_eq_true rfl) hF) (Nat.le_trans (Nat.le_of_ble_eq_true rfl) hLo) h_3 (Nat.le_of_ble_eq_true rfl) dX3_value_47 (fun H locs hR hS => ?_)
        refine lv_istore_n (lv' := [(2, .int r_3), (0, .ref E.1), (1, .int t0)]) hx hb dX3_value_50 rfl hl (by decide) rfl (fun ls hl => ?_)
        refine lv_iload_n hx hb dX3_value_51 rfl (lv_at hl 2 rfl) ?_
        refine lv_if_eq (tgt := 60) hx hb dX3_value_52 (by decide) (fun c_4 => ?_) (fun c_4 => ?_)
        · replace hf := ww_ip hf c_4
          refine lv_iload_n hx hb dX3_value_60 rfl (lv_at hl 0 rfl) ?_
          exact hend dX3_value_61 rfl rfl hf hR hS
        · replace hf := ww_in hf c_4
          refine lv_iload_n hx hb dX3_value_55 rfl (lv_at hl 0 rfl) ?_
          refine lv_ineg hx hb dX3_value_56 ?_
          refine lv_goto (tgt := 61) hx hb dX3_value_57 (by decide) ?_
          exact hend dX3_value_61 rfl rfl hf hR hS
      refine lv_if_eq (tgt := 46) hx hb dX3_value_30 (by decide) (fun c_5 => ?_) (fun c_5 => ?_)
      · replace hf := ww_ip hf c_5
        exact hj_3 hf _ _ _ hR hS hl
      · replace hf := ww_in hf c_5
        refine lv_aload_n hx hb dX3_value_33 rfl (lv_at hl 0 rfl) ?_
        obtain ⟨r_6, h_6, hf⟩ := ww_bS hf
        refine t3c_isDigit X hl.1 hK hD hR hS (Nat.le_trans (Nat.le_of_ble_eq_true rfl) hF) (Nat.le_trans (Nat.le_of_ble_eq_true rfl) hLo) h_6 (Nat.le_of_ble_eq_true rfl) dX3_value_34 (fun H locs hR hS => ?_)
        refine lv_if_ne (tgt := 46) hx hb dX3_value_37 (by decide) (fun c_7 => ?_) (fun c_7 => ?_)
        · replace hf := ww_in hf c_7
          exact hj_3 hf _ _ _ hR hS hl
        · replace hf := ww_ip hf c_7
          refine lv_aload_n hx hb dX3_value_40 rfl (lv_at hl 0 rfl) ?_
          obtain ⟨M_8, h_8, hf⟩ := ww_bS hf
          refine t3c_fails X hl.1 hK hD hR hS (Nat.le_trans (Nat.le_of_ble_eq_true rfl) hF) (Nat.le_trans (Nat.le_of_ble_eq_true rfl) hLo) h_8 (Nat.le_of_ble_eq_true rfl) dX3_value_41 (fun H locs hR hS => ?_)
          refine lv_iconst (v := (0 : Int32)) hx hb dX3_value_44 (by decide) ?_
          exact hend dX3_value_45 rfl rfl hf hR hS
    refine lv_if_eq (tgt := 29) hx hb dX3_value_16 (by decide) (fun c_9 => ?_) (fun c_9 => ?_)
    · replace hf := ww_ip hf c_9
      exact hj_2 M_1 hf _ _ _ hR hS (lv_sub hl [1, 0] rfl)
    · replace hf := ww_in hf c_9
      refine lv_aload_n hx hb dX3_value_19 rfl (lv_at hl 1 rfl) ?_
      refine lv_dup hx hb dX3_value_20 rfl ?_
      refine t3g_3 X hK hR dX3_value_21 ?_
      refine lv_iconst (v := (1 : Int32)) hx hb dX3_value_24 (by decide) ?_
      refine lv_iadd hx hb dX3_value_25 ?_
      refine t3p_3 X hK hD hR hS dX3_value_26 (fun H locs hR hS => ?_)
      exact hj_2 (ww_sF M_1 3 ((ww_F M_1 3) + (1 : Int32))) hf _ _ _ hR hS (lv_sub hl [1, 0] rfl)
  refine lv_icmp_ne (tgt := 13) hx hb dX3_value_6 (by decide) (fun c_10 => ?_) (fun c_10 => ?_)
  · replace hf := ww_in hf c_10
    refine lv_iconst (v := (0 : Int32)) hx hb dX3_value_13 (by decide) ?_
    exact hj_1 (0 : Int32) hf _ _ _ hR hS hl
  · replace hf := ww_ip hf c_10
    refine lv_iconst (v := (1 : Int32)) hx hb dX3_value_9 (by decide) ?_
    refine lv_goto (tgt := 14) hx hb dX3_value_10 (by decide) ?_
    exact hj_1 (1 : Int32) hf _ _ _ hR hS hl
section T3_value_c
variable {p : Program} {l : Launch} {e : Env} {R : Room} {s : State} {m : MethodId} {args : Array Value} {below : List Frame} {meth : Method} {c : Code} {H : Heap} {locs : List Loc} {Q : State → Prop}
variable {cc : ByteArray} {pc : Nat} {ls : Array Slot} {rest : List Value} {nL : Nat} {E : ww_E} {A : Nat → Prop} {H0 : Heap}
theorem t3c_value {M M' : ww_M} {r : Int32} (X : ww_C p m c cc nL s args RX3 lw_all) (hsz : ls.size = nL) (hK : t3_Kn E s) (hD : t3_D E) (hR : t3_H E M H) (hS : va_S (t3_A E) H0 H locs) (hF : 4 ≤ R.frames) (hLo : 84 ≤ R.locals) (hf : f3_value M = some (r, M')) (hrest : (rest.map fun v => v.category).sum ≤ 8) (hdg : decode cc pc = .ok (.invokevirtual 156, 3)) (kk : ∀ (H1 : Heap) (locs1 : List Loc), t3_H E M' H1 → va_S (t3_A E) H0 H1 locs1 → W p l e R s m args below meth c H1 locs1 0 0 Q (F0 m (pc + 3) ls (.int r :: rest))) : W p l e R s m args below meth c H locs 0 0 Q (F0 m pc ls (.ref E.1 :: rest)) :=
  t3k_value X hsz hK hD hR hS hF hLo (met3_value l hD _ _ _ hf) hrest hdg kk
end T3_value_c
noncomputable def f3_readEntries_j1 (M_3 : ww_M) : Option (ww_M) :=
  if (ww_F M_3 4) = (-1 : Int32) then ww_b2 (f3_look M_3) (fun r_5 M_5 => if r_5 = (-1 : Int32) then some M_5 else ww_b (f3_fails M_5) (fun M_7 => some M_7)) else some M_3
noncomputable def f3_readEntries_j4 (M : ww_M) (t0_1 : Int32) : Option ((ww_M × Int32) ⊕ (ww_M)) :=
  if t0_1 = 0 then some (.inl (M, t0_1)) else some (.inl ((ww_sF M 3 ((ww_F M 3) + (1 : Int32))), t0_1))
noncomputable def f3_readEntries_j3 (y2 : Int32) (M_13 : ww_M) (t0 : Int32) : Option ((ww_M × Int32) ⊕ (ww_M)) :=
  if (ww_F M_13 4) = (-1 : Int32) then ww_g (ww_i ((2 : Int32) * (ww_F M_13 8)) 480) (ww_g (ww_i (((2 : Int32) * (ww_F (ww_sX M_13 5 ((2 : Int32) * (ww_F M_13 8)) y2) 8)) + (1 : Int32)) 480) (ww_b2 (f3_look (ww_sF (ww_sX (ww_sX M_13 5 ((2 : Int32) * (ww_F M_13 8)) y2) 5 (((2 : Int32) * (ww_F (ww_sX M_13 5 ((2 : Int32) * (ww_F M_13 8)) y2) 8)) + (1 : Int32)) t0) 8 ((ww_F (ww_sX (ww_sX M_13 5 ((2 : Int32) * (ww_F M_13 8)) y2) 5 (((2 : Int32) * (ww_F (ww_sX M_13 5 ((2 : Int32) * (ww_F M_13 8)) y2) 8)) + (1 : Int32)) t0) 8) + (1 : Int32)))) (fun r_17 M_17 => if r_17 = (44 : Int32) then f3_readEntries_j4 M_17 (1 : Int32) else f3_readEntries_j4 M_17 (0 : Int32)))) else ww_x (some M_13)
noncomputable def f3_readEntries_j2 (y2 : Int32) (M_12 : ww_M) : Option ((ww_M × Int32) ⊕ (ww_M)) :=
  if (ww_F (ww_sF M_12 3 ((ww_F M_12 3) + (1 : Int32))) 4) = (-1 : Int32) then ww_b2 (f3_value (ww_sF M_12 3 ((ww_F M_12 3) + (1 : Int32)))) (fun r_21 M_21 => f3_readEntries_j3 y2 M_21 r_21) else f3_readEntries_j3 y2 (ww_sF M_12 3 ((ww_F M_12 3) + (1 : Int32))) (0 : Int32)
noncomputable def f3_readEntries_b1c (M_8 : ww_M) (x1 : Int32) : Option ((ww_M × Int32) ⊕ (ww_M)) :=
  if x1 = 0 then ww_x (f3_readEntries_j1 M_8) else if (ww_F M_8 4) = (-1 : Int32) then ww_b2 (f3_number M_8) (fun r_11 M_11 => if (ww_F M_11 4) = (-1 : Int32) then ww_b2 (f3_look M_11) (fun r_23 M_23 => if r_23 = (58 : Int32) then f3_readEntries_j2 r_11 M_23 else ww_b (f3_fails M_23) (fun M_25 => f3_readEntries_j2 r_11 M_25)) else f3_readEntries_j2 r_11 M_11) else ww_x (f3_readEntries_j1 M_8)
noncomputable def f3_readEntries_b1 : (ww_M × Int32) → Option ((ww_M × Int32) ⊕ (ww_M)) := fun s9 => f3_readEntries_b1c s9.1 s9.2
noncomputable def f3_readEntries (M : ww_M) : Option (ww_M) :=
  ww_b2 (f3_look (ww_sF M 8 (0 : Int32))) (fun r_1 M_1 => if r_1 = (-1 : Int32) then some M_1 else ww_U (f3_readEntries_b1) (M_1, (1 : Int32)))
section T3_readEntries_k
variable {p : Program} {l : Launch} {e : Env} {R : Room} {s : State} {m : MethodId} {args : Array Value} {below : List Frame} {meth : Method} {c : Code} {H : Heap} {locs : List Loc} {Q : State → Prop}
variable {cc : ByteArray} {pc : Nat} {ls : Array Slot} {rest : List Value} {nL : Nat} {E : ww_E} {A : Nat → Prop} {H0 : Heap}
theorem t3k_readEntries {M M' : ww_M} (X : ww_C p m c cc nL s args RX3 lw_all) (hsz : ls.size = nL) (hK : t3_Kn E s) (hD : t3_D E) (hR : t3_H E M H) (hS : va_S (t3_A E) H0 H locs) (hF : 5 ≤ R.frames) (hLo : 107 ≤ R.locals) (hM : t3_MetV l yX3_readEntries cX3_readEntries 4 4 84 E [] M M') (hrest : (rest.map fun v => v.category).sum ≤ 8) (hdg : decode cc pc = .ok (.invokevirtual 178, 3)) (kk : ∀ (H1 : Heap) (locs1 : List Loc), t3_H E M' H1 → va_S (t3_A E) H0 H1 locs1 → W p l e R s m args below meth c H1 locs1 0 0 Q (F0 m (pc + 3) ls (rest))) : W p l e R s m args below meth c H locs 0 0 Q (F0 m pc ls (.ref E.1 :: rest)) :=
  t3_callV (n := 0) X hsz hK hR hS (As := []) hM (lw_V q1900 q1902 qs61 q135 q1903) (by decide +kernel) rfl hF hLo (Nat.zero_le _) (Nat.zero_le _) hrest hdg kk
end T3_readEntries_k
set_option maxHeartbeats 4000000 in
set_option maxRecDepth 100000 in
theorem met3_readEntries (l : Launch) {E : ww_E} (hD : t3_D E) (M : ww_M) (M' : ww_M) (hf : f3_readEntries M = some M') : t3_MetV l yX3_readEntries cX3_readEntries 4 4 84 E [] M M' := by
  unfold f3_readEntries at hf
  refine t3_startV (by decide +kernel) (Nat.le_of_ble_eq_true rfl) ?_
  intro p e s m args below meth c Rm Q X hK hF hLo hend ls hl hR hS
  obtain ⟨hx, hb, hml, hown, hts⟩ := id X
  replace hl : lv_has ls 4 [(0, .ref E.1)] := hl
  refine lv_aload_n hx hb dX3_readEntries_0 rfl (lv_at hl 0 rfl) ?_
  refine lv_iconst (v := (0 : Int32)) hx hb dX3_readEntries_1 (by decide) ?_
  refine t3p_8 X hK hD hR hS dX3_readEntries_2 (fun H locs hR hS => ?_)
  refine lv_aload_n hx hb dX3_readEntries_5 rfl (lv_at hl 0 rfl) ?_
  obtain ⟨r_1, M_1, h_1, hf⟩ := ww_b2S hf
  refine t3c_look X hl.1 hK hD hR hS (Nat.le_trans (Nat.le_of_ble_eq_true rfl) hF) (Nat.le_trans (Nat.le_of_ble_eq_true rfl) hLo) h_1 (Nat.le_of_ble_eq_true rfl) dX3_readEntries_6 (fun H locs hR hS => ?_)
  refine lv_iconst (v := (-1 : Int32)) hx hb dX3_readEntries_9 (by decide) ?_
  refine lv_icmp_ne (tgt := 14) hx hb dX3_readEntries_10 (by decide) (fun c_2 => ?_) (fun c_2 => ?_)
  · replace hf := ww_in hf c_2
    refine lv_iconst (v := (1 : Int32)) hx hb dX3_readEntries_14 (by decide) ?_
    refine lv_istore_n (lv' := [(1, .int (1 : Int32)), (0, .ref E.1)]) hx hb dX3_readEntries_15 rfl hl (by decide) rfl (fun ls hl => ?_)
    have hj_1 : ∀ (M_3 : ww_M), f3_readEntries_j1 M_3 = some M' → ∀ (H : Heap) (locs : List Loc) (ls : Array Slot), t3_H E M_3 H → va_S (t3_A E) s.heap H locs → lv_has ls 4 [(0, .ref E.1)] → W p l e Rm s m args below meth c H locs 0 0 Q (F0 m 158 ls []) := by
      intro M_3 hf H locs ls hR hS hl
      unfold f3_readEntries_j1 at hf
      refine lv_aload_n hx hb dX3_readEntries_158 rfl (lv_at hl 0 rfl) ?_
      refine t3g_4 X hK hR dX3_readEntries_159 ?_
      refine lv_iconst (v := (-1 : Int32)) hx hb dX3_readEntries_162 (by decide) ?_
      refine lv_icmp_ne (tgt := 178) hx hb dX3_readEntries_163 (by decide) (fun c_4 => ?_) (fun c_4 => ?_)
      · replace hf := ww_in hf c_4
        exact hend dX3_readEntries_178 hf hR hS
      · replace hf := ww_ip hf c_4
        refine lv_aload_n hx hb dX3_readEntries_166 rfl (lv_at hl 0 rfl) ?_
        obtain ⟨r_5, M_5, h_5, hf⟩ := ww_b2S hf
        refine t3c_look X hl.1 hK hD hR hS (Nat.le_trans (Nat.le_of_ble_eq_true rfl) hF) (Nat.le_trans (Nat.le_of_ble_eq_true rfl) hLo) h_5 (Nat.le_of_ble_eq_true rfl) dX3_readEntries_167 (fun H locs hR hS => ?_)
        refine lv_iconst (v := (-1 : Int32)) hx hb dX3_readEntries_170 (by decide) ?_
        refine lv_icmp_eq (tgt := 178) hx hb dX3_readEntries_171 (by decide) (fun c_6 => ?_) (fun c_6 => ?_)
        · replace hf := ww_ip hf c_6
          exact hend dX3_readEntries_178 hf hR hS
        · replace hf := ww_in hf c_6
          refine lv_aload_n hx hb dX3_readEntries_174 rfl (lv_at hl 0 rfl) ?_
          obtain ⟨M_7, h_7, hf⟩ := ww_bS hf
          refine t3c_fails X hl.1 hK hD hR hS (Nat.le_trans (Nat.le_of_ble_eq_true rfl) hF) (Nat.le_trans (Nat.le_of_ble_eq_true rfl) hLo) h_7 (Nat.le_of_ble_eq_true rfl) dX3_readEntries_175 (fun H locs hR hS => ?_)
          exact hend dX3_readEntries_178 hf hR hS
    have hL_1 : ∀ s9 : ww_M × Int32, ww_U (f3_readEntries_b1) s9 = some M' → ∀ (H : Heap) (locs : List Loc) (ls : Array Slot), t3_H E s9.1 H → va_S (t3_A E) s.heap H locs → lv_has ls 4 [(0, .ref E.1), (1, .int s9.2)] → W p l e Rm s m args below meth c H locs 0 0 Q (F0 m 16 ls []) := by
      refine ww_ind _ M' ?_
      intro s9 z_1 hf hz_1 H locs ls hR hS hl
      obtain ⟨M_8, x1⟩ := s9
      replace hf : f3_readEntries_b1c M_8 x1 = some z_1 := hf
      unfold f3_readEntries_b1c at hf
      replace hR : t3_H E M_8 H := hR
      replace hl : lv_has ls 4 [(0, .ref E.1), (1, .int x1)] := hl
      refine lv_iload_n hx hb dX3_readEntries_16 rfl (lv_at hl 1 rfl) ?_
      refine lv_if_eq (tgt := 158) hx hb dX3_readEntries_17 (by decide) (fun c_9 => ?_) (fun c_9 => ?_)
      · replace hf := ww_ip hf c_9
        replace hf := ww_xK hf hz_1
        exact hj_1 M_8 hf _ _ _ hR hS (lv_sub hl [0] rfl)
      · replace hf := ww_in hf c_9
        refine lv_aload_n hx hb dX3_readEntries_20 rfl (lv_at hl 0 rfl) ?_
        refine t3g_4 X hK hR dX3_readEntries_21 ?_
        refine lv_iconst (v := (-1 : Int32)) hx hb dX3_readEntries_24 (by decide) ?_
        refine lv_icmp_ne (tgt := 158) hx hb dX3_readEntries_25 (by decide) (fun c_10 => ?_) (fun c_10 => ?_)
        · replace hf := ww_in hf c_10
          replace hf := ww_xK hf hz_1
          exact hj_1 M_8 hf _ _ _ hR hS (lv_sub hl [0] rfl)
        · replace hf := ww_ip hf c_10
          refine lv_aload_n hx hb dX3_readEntries_28 rfl (lv_at hl 0 rfl) ?_
          obtain ⟨r_11, M_11, h_11, hf⟩ := ww_b2S hf
          refine t3c_number X hl.1 hK hD hR hS (Nat.le_trans (Nat.le_of_ble_eq_true rfl) hF) (Nat.le_trans (Nat.le_of_ble_eq_true rfl) hLo) h_11 (Nat.le_of_ble_eq_true rfl) dX3_readEntries_29 (fun H locs hR hS => ?_)
          refine lv_istore_n (lv' := [(2, .int r_11), (0, .ref E.1), (1, .int x1)]) hx hb dX3_readEntries_32 rfl hl (by decide) rfl (fun ls hl => ?_)
          refine lv_aload_n hx hb dX3_readEntries_33 rfl (lv_at hl 1 rfl) ?_
          refine t3g_4 X hK hR dX3_readEntries_34 ?_
          refine lv_iconst (v := (-1 : Int32)) hx hb dX3_readEntries_37 (by decide) ?_
          have hj_2 : ∀ (M_12 : ww_M), f3_readEntries_j2 r_11 M_12 = some z_1 → ∀ (H : Heap) (locs : List Loc) (ls : Array Slot), t3_H E M_12 H → va_S (t3_A E) s.heap H locs → lv_has ls 4 [(0, .ref E.1), (2, .int r_11)] → W p l e Rm s m args below meth c H locs 0 0 Q (F0 m 54 ls []) := by
            intro M_12 hf H locs ls hR hS hl
            unfold f3_readEntries_j2 at hf
            refine lv_aload_n hx hb dX3_readEntries_54 rfl (lv_at hl 0 rfl) ?_
            refine lv_dup hx hb dX3_readEntries_55 rfl ?_
            refine t3g_3 X hK hR dX3_readEntries_56 ?_
            refine lv_iconst (v := (1 : Int32)) hx hb dX3_readEntries_59 (by decide) ?_
            refine lv_iadd hx hb dX3_readEntries_60 ?_
            refine t3p_3 X hK hD hR hS dX3_readEntries_61 (fun H locs hR hS => ?_)
            refine lv_aload_n hx hb dX3_readEntries_64 rfl (lv_at hl 0 rfl) ?_
            refine t3g_4 X hK hR dX3_readEntries_65 ?_
            refine lv_iconst (v := (-1 : Int32)) hx hb dX3_readEntries_68 (by decide) ?_
            have hj_3 : ∀ (M_13 : ww_M) (t0 : Int32), f3_readEntries_j3 r_11 M_13 t0 = some z_1 → ∀ (H : Heap) (locs : List Loc) (ls : Array Slot), t3_H E M_13 H → va_S (t3_A E) s.heap H locs → lv_has ls 4 [(0, .ref E.1), (2, .int r_11)] → W p l e Rm s m args below meth c H locs 0 0 Q (F0 m 80 ls [.int t0]) := by
              intro M_13 t0 hf H locs ls hR hS hl
              unfold f3_readEntries_j3 at hf
              refine lv_istore_n (lv' := [(3, .int t0), (0, .ref E.1), (2, .int r_11)]) hx hb dX3_readEntries_80 rfl hl (by decide) rfl (fun ls hl => ?_)
              refine lv_aload_n hx hb dX3_readEntries_81 rfl (lv_at hl 1 rfl) ?_
              refine t3g_4 X hK hR dX3_readEntries_82 ?_
              refine lv_iconst (v := (-1 : Int32)) hx hb dX3_readEntries_85 (by decide) ?_
              refine lv_icmp_eq (tgt := 90) hx hb dX3_readEntries_86 (by decide) (fun c_14 => ?_) (fun c_14 => ?_)
              · replace hf := ww_ip hf c_14
                refine lv_aload_n hx hb dX3_readEntries_90 rfl (lv_at hl 1 rfl) ?_
                refine t3g_5 X hK hR dX3_readEntries_91 ?_
                refine lv_iconst (v := (2 : Int32)) hx hb dX3_readEntries_94 (by decide) ?_
                refine lv_aload_n hx hb dX3_readEntries_95 rfl (lv_at hl 1 rfl) ?_
                refine t3g_8 X hK hR dX3_readEntries_96 ?_
                refine lv_imul hx hb dX3_readEntries_99 ?_
                refine lv_iload_n hx hb dX3_readEntries_100 rfl (lv_at hl 2 rfl) ?_
                obtain ⟨h_15, hf⟩ := ww_gS hf
                refine t3s_5 X hK hD hR hS h_15 dX3_readEntries_101 (fun H locs hR hS => ?_)
                refine lv_aload_n hx hb dX3_readEntries_102 rfl (lv_at hl 1 rfl) ?_
                refine t3g_5 X hK hR dX3_readEntries_103 ?_
                refine lv_iconst (v := (2 : Int32)) hx hb dX3_readEntries_106 (by decide) ?_
                refine lv_aload_n hx hb dX3_readEntries_107 rfl (lv_at hl 1 rfl) ?_
                refine t3g_8 X hK hR dX3_readEntries_108 ?_
                refine lv_imul hx hb dX3_readEntries_111 ?_
                refine lv_iconst (v := (1 : Int32)) hx hb dX3_readEntries_112 (by decide) ?_
                refine lv_iadd hx hb dX3_readEntries_113 ?_
                refine lv_iload_n hx hb dX3_readEntries_114 rfl (lv_at hl 0 rfl) ?_
                obtain ⟨h_16, hf⟩ := ww_gS hf
                refine t3s_5 X hK hD hR hS h_16 dX3_readEntries_115 (fun H locs hR hS => ?_)
                refine lv_aload_n hx hb dX3_readEntries_116 rfl (lv_at hl 1 rfl) ?_
                refine lv_dup hx hb dX3_readEntries_117 rfl ?_
                refine t3g_8 X hK hR dX3_readEntries_118 ?_
                refine lv_iconst (v := (1 : Int32)) hx hb dX3_readEntries_121 (by decide) ?_
                refine lv_iadd hx hb dX3_readEntries_122 ?_
                refine t3p_8 X hK hD hR hS dX3_readEntries_123 (fun H locs hR hS => ?_)
                refine lv_aload_n hx hb dX3_readEntries_126 rfl (lv_at hl 1 rfl) ?_
                obtain ⟨r_17, M_17, h_17, hf⟩ := ww_b2S hf
                refine t3c_look X hl.1 hK hD hR hS (Nat.le_trans (Nat.le_of_ble_eq_true rfl) hF) (Nat.le_trans (Nat.le_of_ble_eq_true rfl) hLo) h_17 (Nat.le_of_ble_eq_true rfl) dX3_readEntries_127 (fun H locs hR hS => ?_)
                refine lv_bipush (v := (44 : Int32)) hx hb dX3_readEntries_130 (by decide) ?_
                have hj_4 : ∀ (t0_1 : Int32), f3_readEntries_j4 M_17 t0_1 = some z_1 → ∀ (H : Heap) (locs : List Loc) (ls : Array Slot), t3_H E M_17 H → va_S (t3_A E) s.heap H locs → lv_has ls 4 [(0, .ref E.1)] → W p l e Rm s m args below meth c H locs 0 0 Q (F0 m 140 ls [.int t0_1]) := by
                  intro t0_1 hf H locs ls hR hS hl
                  unfold f3_readEntries_j4 at hf
                  refine lv_istore_n (lv' := [(1, .int t0_1), (0, .ref E.1)]) hx hb dX3_readEntries_140 rfl hl (by decide) rfl (fun ls hl => ?_)
                  refine lv_iload_n hx hb dX3_readEntries_141 rfl (lv_at hl 0 rfl) ?_
                  refine lv_if_eq (tgt := 155) hx hb dX3_readEntries_142 (by decide) (fun c_18 => ?_) (fun c_18 => ?_)
                  · replace hf := ww_ip hf c_18
                    refine lv_goto (tgt := 16) hx hb dX3_readEntries_155 (by decide) ?_
                    exact ww_lK hf hz_1 _ _ _ hR hS (lv_sub hl [1, 0] rfl)
                  · replace hf := ww_in hf c_18
                    refine lv_aload_n hx hb dX3_readEntries_145 rfl (lv_at hl 1 rfl) ?_
                    refine lv_dup hx hb dX3_readEntries_146 rfl ?_
                    refine t3g_3 X hK hR dX3_readEntries_147 ?_
                    refine lv_iconst (v := (1 : Int32)) hx hb dX3_readEntries_150 (by decide) ?_
                    refine lv_iadd hx hb dX3_readEntries_151 ?_
                    refine t3p_3 X hK hD hR hS dX3_readEntries_152 (fun H locs hR hS => ?_)
                    refine lv_goto (tgt := 16) hx hb dX3_readEntries_155 (by decide) ?_
                    exact ww_lK hf hz_1 _ _ _ hR hS (lv_sub hl [1, 0] rfl)
                refine lv_icmp_ne (tgt := 139) hx hb dX3_readEntries_132 (by decide) (fun c_19 => ?_) (fun c_19 => ?_)
                · replace hf := ww_in hf c_19
                  refine lv_iconst (v := (0 : Int32)) hx hb dX3_readEntries_139 (by decide) ?_
                  exact hj_4 (0 : Int32) hf _ _ _ hR hS (lv_sub hl [1] rfl)
                · replace hf := ww_ip hf c_19
                  refine lv_iconst (v := (1 : Int32)) hx hb dX3_readEntries_135 (by decide) ?_
                  refine lv_goto (tgt := 140) hx hb dX3_readEntries_136 (by decide) ?_
                  exact hj_4 (1 : Int32) hf _ _ _ hR hS (lv_sub hl [1] rfl)
              · replace hf := ww_in hf c_14
                replace hf := ww_xK hf hz_1
                exact hend dX3_readEntries_89 hf hR hS
            refine lv_icmp_ne (tgt := 79) hx hb dX3_readEntries_69 (by decide) (fun c_20 => ?_) (fun c_20 => ?_)
            · replace hf := ww_in hf c_20
              refine lv_iconst (v := (0 : Int32)) hx hb dX3_readEntries_79 (by decide) ?_
              exact hj_3 (ww_sF M_12 3 ((ww_F M_12 3) + (1 : Int32))) (0 : Int32) hf _ _ _ hR hS hl
            · replace hf := ww_ip hf c_20
              refine lv_aload_n hx hb dX3_readEntries_72 rfl (lv_at hl 0 rfl) ?_
              obtain ⟨r_21, M_21, h_21, hf⟩ := ww_b2S hf
              refine t3c_value X hl.1 hK hD hR hS (Nat.le_trans (Nat.le_of_ble_eq_true rfl) hF) (Nat.le_trans (Nat.le_of_ble_eq_true rfl) hLo) h_21 (Nat.le_of_ble_eq_true rfl) dX3_readEntries_73 (fun H locs hR hS => ?_)
              refine lv_goto (tgt := 80) hx hb dX3_readEntries_76 (by decide) ?_
              exact hj_3 M_21 r_21 hf _ _ _ hR hS hl
          refine lv_icmp_ne (tgt := 54) hx hb dX3_readEntries_38 (by decide) (fun c_22 => ?_) (fun c_22 => ?_)
          · replace hf := ww_in hf c_22
            exact hj_2 M_11 hf _ _ _ hR hS (lv_sub hl [1, 0] rfl)
          · replace hf := ww_ip hf c_22
            refine lv_aload_n hx hb dX3_readEntries_41 rfl (lv_at hl 1 rfl) ?_
            obtain ⟨r_23, M_23, h_23, hf⟩ := ww_b2S hf
            refine t3c_look X hl.1 hK hD hR hS (Nat.le_trans (Nat.le_of_ble_eq_true rfl) hF) (Nat.le_trans (Nat.le_of_ble_eq_true rfl) hLo) h_23 (Nat.le_of_ble_eq_true rfl) dX3_readEntries_42 (fun H locs hR hS => ?_)
            refine lv_bipush (v := (58 : Int32)) hx hb dX3_readEntries_45 (by decide) ?_
            refine lv_icmp_eq (tgt := 54) hx hb dX3_readEntries_47 (by decide) (fun c_24 => ?_) (fun c_24 => ?_)
            · replace hf := ww_ip hf c_24
              exact hj_2 M_23 hf _ _ _ hR hS (lv_sub hl [1, 0] rfl)
            · replace hf := ww_in hf c_24
              refine lv_aload_n hx hb dX3_readEntries_50 rfl (lv_at hl 1 rfl) ?_
              obtain ⟨M_25, h_25, hf⟩ := ww_bS hf
              refine t3c_fails X hl.1 hK hD hR hS (Nat.le_trans (Nat.le_of_ble_eq_true rfl) hF) (Nat.le_trans (Nat.le_of_ble_eq_true rfl) hLo) h_25 (Nat.le_of_ble_eq_true rfl) dX3_readEntries_51 (fun H locs hR hS => ?_)
              exact hj_2 M_25 hf _ _ _ hR hS (lv_sub hl [1, 0] rfl)
    exact hL_1 (M_1, (1 : Int32)) hf _ _ _ hR hS (lv_sub hl [1, 0] rfl)
  · replace hf := ww_ip hf c_2
    exact hend dX3_readEntries_13 hf hR hS
section T3_readEntries_c
variable {p : Program} {l : Launch} {e : Env} {R : Room} {s : State} {m : MethodId} {args : Array Value} {below : List Frame} {meth : Method} {c : Code} {H : Heap} {locs : List Loc} {Q : State → Prop}
variable {cc : ByteArray} {pc : Nat} {ls : Array Slot} {rest : List Value} {nL : Nat} {E : ww_E} {A : Nat → Prop} {H0 : Heap}
theorem t3c_readEntries {M M' : ww_M} (X : ww_C p m c cc nL s args RX3 lw_all) (hsz : ls.size = nL) (hK : t3_Kn E s) (hD : t3_D E) (hR : t3_H E M H) (hS : va_S (t3_A E) H0 H locs) (hF : 5 ≤ R.frames) (hLo : 107 ≤ R.locals) (hf : f3_readEntries M = some M') (hrest : (rest.map fun v => v.category).sum ≤ 8) (hdg : decode cc pc = .ok (.invokevirtual 178, 3)) (kk : ∀ (H1 : Heap) (locs1 : List Loc), t3_H E M' H1 → va_S (t3_A E) H0 H1 locs1 → W p l e R s m args below meth c H1 locs1 0 0 Q (F0 m (pc + 3) ls (rest))) : W p l e R s m args below meth c H locs 0 0 Q (F0 m pc ls (.ref E.1 :: rest)) :=
  t3k_readEntries X hsz hK hD hR hS hF hLo (met3_readEntries l hD _ _ hf) hrest hdg kk
end T3_readEntries_c
noncomputable def f3_hasRoom (M : ww_M) : Option (Int32) :=
  if (16 : Int32) ≤ (ww_F M 42) then some (0 : Int32) else if (999 : Int32) ≤ (ww_F M 41) then some (0 : Int32) else some (1 : Int32)
section T3_hasRoom_k
variable {p : Program} {l : Launch} {e : Env} {R : Room} {s : State} {m : MethodId} {args : Array Value} {below : List Frame} {meth : Method} {c : Code} {H : Heap} {locs : List Loc} {Q : State → Prop}
variable {cc : ByteArray} {pc : Nat} {ls : Array Slot} {rest : List Value} {nL : Nat} {E : ww_E} {A : Nat → Prop} {H0 : Heap}
theorem t3k_hasRoom {M : ww_M} {r : Int32} (X : ww_C p m c cc nL s args RX3 lw_all) (hsz : ls.size = nL) (hK : t3_Kn E s) (hD : t3_D E) (hR : t3_H E M H) (hS : va_S (t3_A E) H0 H locs) (hF : 1 ≤ R.frames) (hLo : 20 ≤ R.locals) (hM : t3_Met l yX3_hasRoom cX3_hasRoom 1 (some Jvm.ClassFile.FieldType.boolean) 0 0 E [] M M r) (hrest : (rest.map fun v => v.category).sum ≤ 8) (hdg : decode cc pc = .ok (.invokevirtual 289, 3)) (kk : ∀ (H1 : Heap) (locs1 : List Loc), t3_H E M H1 → va_S (t3_A E) H0 H1 locs1 → W p l e R s m args below meth c H1 locs1 0 0 Q (F0 m (pc + 3) ls (.int r :: rest))) : W p l e R s m args below meth c H locs 0 0 Q (F0 m pc ls (.ref E.1 :: rest)) :=
  t3_callI (n := 0) X hsz hK hR hS (As := []) hM (lw_V q1948 q1950 qs71 q135 q1951) (by decide +kernel) rfl hF hLo (Nat.zero_le _) (Nat.zero_le _) hrest hdg kk
end T3_hasRoom_k
set_option maxHeartbeats 4000000 in
set_option maxRecDepth 100000 in
theorem met3_hasRoom (l : Launch) {E : ww_E} (hD : t3_D E) (M : ww_M) (r : Int32) (hf : f3_hasRoom M = some r) : t3_Met l yX3_hasRoom cX3_hasRoom 1 (some Jvm.ClassFile.FieldType.boolean) 0 0 E [] M M r := by
  unfold f3_hasRoom at hf
  refine t3_startP (by decide +kernel) (Nat.le_of_ble_eq_true rfl) ?_
  intro p e s m args below meth c Rm Q X hK hF hLo hend ls hl hR hS
  obtain ⟨hx, hb, hml, hown, hts⟩ := id X
  replace hl : lv_has ls 1 [(0, .ref E.1)] := hl
  refine lv_aload_n hx hb dX3_hasRoom_0 rfl (lv_at hl 0 rfl) ?_
  refine t3g_42 X hK hR dX3_hasRoom_1 ?_
  refine lv_bipush (v := (16 : Int32)) hx hb dX3_hasRoom_4 (by decide) ?_
  refine lv_icmp_ge (tgt := 23) hx hb dX3_hasRoom_6 (by decide) (fun c_1 => ?_) (fun c_1 => ?_)
  · replace hf := ww_ip hf c_1
    refine lv_iconst (v := (0 : Int32)) hx hb dX3_hasRoom_23 (by decide) ?_
    exact hend dX3_hasRoom_24 rfl (by decide) hf hR hS
  · replace hf := ww_in hf c_1
    refine lv_aload_n hx hb dX3_hasRoom_9 rfl (lv_at hl 0 rfl) ?_
    refine t3g_41 X hK hR dX3_hasRoom_10 ?_
    refine lv_sipush (v := (999 : Int32)) hx hb dX3_hasRoom_13 (by decide) ?_
    refine lv_icmp_ge (tgt := 23) hx hb dX3_hasRoom_16 (by decide) (fun c_2 => ?_) (fun c_2 => ?_)
    · replace hf := ww_ip hf c_2
      refine lv_iconst (v := (0 : Int32)) hx hb dX3_hasRoom_23 (by decide) ?_
      exact hend dX3_hasRoom_24 rfl (by decide) hf hR hS
    · replace hf := ww_in hf c_2
      refine lv_iconst (v := (1 : Int32)) hx hb dX3_hasRoom_19 (by decide) ?_
      refine lv_goto (tgt := 24) hx hb dX3_hasRoom_20 (by decide) ?_
      exact hend dX3_hasRoom_24 rfl (by decide) hf hR hS
section T3_hasRoom_c
variable {p : Program} {l : Launch} {e : Env} {R : Room} {s : State} {m : MethodId} {args : Array Value} {below : List Frame} {meth : Method} {c : Code} {H : Heap} {locs : List Loc} {Q : State → Prop}
variable {cc : ByteArray} {pc : Nat} {ls : Array Slot} {rest : List Value} {nL : Nat} {E : ww_E} {A : Nat → Prop} {H0 : Heap}
theorem t3c_hasRoom {M : ww_M} {r : Int32} (X : ww_C p m c cc nL s args RX3 lw_all) (hsz : ls.size = nL) (hK : t3_Kn E s) (hD : t3_D E) (hR : t3_H E M H) (hS : va_S (t3_A E) H0 H locs) (hF : 1 ≤ R.frames) (hLo : 20 ≤ R.locals) (hf : f3_hasRoom M = some r) (hrest : (rest.map fun v => v.category).sum ≤ 8) (hdg : decode cc pc = .ok (.invokevirtual 289, 3)) (kk : ∀ (H1 : Heap) (locs1 : List Loc), t3_H E M H1 → va_S (t3_A E) H0 H1 locs1 → W p l e R s m args below meth c H1 locs1 0 0 Q (F0 m (pc + 3) ls (.int r :: rest))) : W p l e R s m args below meth c H locs 0 0 Q (F0 m pc ls (.ref E.1 :: rest)) :=
  t3k_hasRoom X hsz hK hD hR hS hF hLo (met3_hasRoom l hD _ _ hf) hrest hdg kk
end T3_hasRoom_c
noncomputable def f3_refused (M : ww_M) (x1 : Int32) : Option (Int32 × ww_M) :=
  ww_g (ww_i x1 5) (ww_g (ww_i x1 5) (some ((-1 : Int32), (ww_sX M 38 x1 ((ww_X M 38 x1) + (1 : Int32))))))
section T3_refused_k
variable {p : Program} {l : Launch} {e : Env} {R : Room} {s : State} {m : MethodId} {args : Array Value} {below : List Frame} {meth : Method} {c : Code} {H : Heap} {locs : List Loc} {Q : State → Prop}
variable {cc : ByteArray} {pc : Nat} {ls : Array Slot} {rest : List Value} {nL : Nat} {E : ww_E} {A : Nat → Prop} {H0 : Heap}
theorem t3k_refused {M M' : ww_M} {x1 : Int32} {r : Int32} (X : ww_C p m c cc nL s args RX3 lw_all) (hsz : ls.size = nL) (hK : t3_Kn E s) (hD : t3_D E) (hR : t3_H E M H) (hS : va_S (t3_A E) H0 H locs) (hF : 1 ≤ R.frames) (hLo : 21 ≤ R.locals) (hM : t3_Met l yX3_refused cX3_refused 2 (some Jvm.ClassFile.FieldType.int) 0 0 E [.int x1] M M' r) (hrest : (rest.map fun v => v.category).sum ≤ 8) (hdg : decode cc pc = .ok (.invokevirtual 292, 3)) (kk : ∀ (H1 : Heap) (locs1 : List Loc), t3_H E M' H1 → va_S (t3_A E) H0 H1 locs1 → W p l e R s m args below meth c H1 locs1 0 0 Q (F0 m (pc + 3) ls (.int r :: rest))) : W p l e R s m args below meth c H locs 0 0 Q (F0 m pc ls (.int x1 :: .ref E.1 :: rest)) :=
  t3_callI (n := 1) X hsz hK hR hS (As := [.int x1]) hM (lw_V q1952 q1954 qs72 q135 q1955) (by decide +kernel) rfl hF hLo (Nat.zero_le _) (Nat.zero_le _) hrest hdg kk
end T3_refused_k
set_option maxHeartbeats 4000000 in
set_option maxRecDepth 100000 in
theorem met3_refused (l : Launch) {E : ww_E} (hD : t3_D E) (M : ww_M) (x1 : Int32) (r : Int32) (M' : ww_M) (hf : f3_refused M x1 = some (r, M')) : t3_Met l yX3_refused cX3_refused 2 (some Jvm.ClassFile.FieldType.int) 0 0 E [.int x1] M M' r := by
  unfold f3_refused at hf
  refine t3_start (by decide +kernel) (Nat.le_of_ble_eq_true rfl) ?_
  intro p e s m args below meth c Rm Q X hK hF hLo hend ls hl hR hS
  obtain ⟨hx, hb, hml, hown, hts⟩ := id X
  replace hl : lv_has ls 2 [(0, .ref E.1), (1, .int x1)] := hl
  refine lv_aload_n hx hb dX3_refused_0 rfl (lv_at hl 0 rfl) ?_
  refine t3g_38 X hK hR dX3_refused_1 ?_
  refine lv_iload_n hx hb dX3_refused_4 rfl (lv_at hl 1 rfl) ?_
  refine lv_dup2_11 hx hb dX3_refused_5 rfl rfl ?_
  obtain ⟨h_1, hf⟩ := ww_gS hf
  refine t3l_38 X hK hR h_1 dX3_refused_6 ?_
  refine lv_iconst (v := (1 : Int32)) hx hb dX3_refused_7 (by decide) ?_
  refine lv_iadd hx hb dX3_refused_8 ?_
  obtain ⟨h_2, hf⟩ := ww_gS hf
  refine t3s_38 X hK hD hR hS h_2 dX3_refused_9 (fun H locs hR hS => ?_)
  refine lv_iconst (v := (-1 : Int32)) hx hb dX3_refused_10 (by decide) ?_
  exact hend dX3_refused_11 rfl rfl hf hR hS
section T3_refused_c
variable {p : Program} {l : Launch} {e : Env} {R : Room} {s : State} {m : MethodId} {args : Array Value} {below : List Frame} {meth : Method} {c : Code} {H : Heap} {locs : List Loc} {Q : State → Prop}
variable {cc : ByteArray} {pc : Nat} {ls : Array Slot} {rest : List Value} {nL : Nat} {E : ww_E} {A : Nat → Prop} {H0 : Heap}
theorem t3c_refused {M M' : ww_M} {x1 : Int32} {r : Int32} (X : ww_C p m c cc nL s args RX3 lw_all) (hsz : ls.size = nL) (hK : t3_Kn E s) (hD : t3_D E) (hR : t3_H E M H) (hS : va_S (t3_A E) H0 H locs) (hF : 1 ≤ R.frames) (hLo : 21 ≤ R.locals) (hf : f3_refused M x1 = some (r, M')) (hrest : (rest.map fun v => v.category).sum ≤ 8) (hdg : decode cc pc = .ok (.invokevirtual 292, 3)) (kk : ∀ (H1 : Heap) (locs1 : List Loc), t3_H E M' H1 → va_S (t3_A E) H0 H1 locs1 → W p l e R s m args below meth c H1 locs1 0 0 Q (F0 m (pc + 3) ls (.int r :: rest))) : W p l e R s m args below meth c H locs 0 0 Q (F0 m pc ls (.int x1 :: .ref E.1 :: rest)) :=
  t3k_refused X hsz hK hD hR hS hF hLo (met3_refused l hD _ _ _ _ hf) hrest hdg kk
end T3_refused_c
noncomputable def f3_child (M : ww_M) (x1 : Int32) (x2 : Int32) : Option (Int32) :=
  ww_g (ww_i (((7 : Int32) * x1) + x2) 84000) (some (ww_X M 15 (((7 : Int32) * x1) + x2)))
section T3_child_k
variable {p : Program} {l : Launch} {e : Env} {R : Room} {s : State} {m : MethodId} {args : Array Value} {below : List Frame} {meth : Method} {c : Code} {H : Heap} {locs : List Loc} {Q : State → Prop}
variable {cc : ByteArray} {pc : Nat} {ls : Array Slot} {rest : List Value} {nL : Nat} {E : ww_E} {A : Nat → Prop} {H0 : Heap}
theorem t3k_child {M : ww_M} {x1 : Int32} {x2 : Int32} {r : Int32} (X : ww_C p m c cc nL s args RX3 lw_all) (hsz : ls.size = nL) (hK : t3_Kn E s) (hD : t3_D E) (hR : t3_H E M H) (hS : va_S (t3_A E) H0 H locs) (hF : 1 ≤ R.frames) (hLo : 22 ≤ R.locals) (hM : t3_Met l yX3_child cX3_child 3 (some Jvm.ClassFile.FieldType.int) 0 0 E [.int x1, .int x2] M M r) (hrest : (rest.map fun v => v.category).sum ≤ 8) (hdg : decode cc pc = .ok (.invokevirtual 197, 3)) (kk : ∀ (H1 : Heap) (locs1 : List Loc), t3_H E M H1 → va_S (t3_A E) H0 H1 locs1 → W p l e R s m args below meth c H1 locs1 0 0 Q (F0 m (pc + 3) ls (.int r :: rest))) : W p l e R s m args below meth c H locs 0 0 Q (F0 m pc ls (.int x2 :: .int x1 :: .ref E.1 :: rest)) :=
  t3_callI (n := 2) X hsz hK hR hS (As := [.int x1, .int x2]) hM (lw_V q1968 q1970 qs76 q135 q1971) (by decide +kernel) rfl hF hLo (Nat.zero_le _) (Nat.zero_le _) hrest hdg kk
end T3_child_k
set_option maxHeartbeats 4000000 in
set_option maxRecDepth 100000 in
theorem met3_child (l : Launch) {E : ww_E} (hD : t3_D E) (M : ww_M) (x1 : Int32) (x2 : Int32) (r : Int32) (hf : f3_child M x1 x2 = some r) : t3_Met l yX3_child cX3_child 3 (some Jvm.ClassFile.FieldType.int) 0 0 E [.int x1, .int x2] M M r := by
  unfold f3_child at hf
  refine t3_startP (by decide +kernel) (Nat.le_of_ble_eq_true rfl) ?_
  intro p e s m args below meth c Rm Q X hK hF hLo hend ls hl hR hS
  obtain ⟨hx, hb, hml, hown, hts⟩ := id X
  replace hl : lv_has ls 3 [(0, .ref E.1), (1, .int x1), (2, .int x2)] := hl
  refine lv_aload_n hx hb dX3_child_0 rfl (lv_at hl 0 rfl) ?_
  refine t3g_15 X hK hR dX3_child_1 ?_
  refine lv_bipush (v := (7 : Int32)) hx hb dX3_child_4 (by decide) ?_
  refine lv_iload_n hx hb dX3_child_6 rfl (lv_at hl 1 rfl) ?_
  refine lv_imul hx hb dX3_child_7 ?_
  refine lv_iload_n hx hb dX3_child_8 rfl (lv_at hl 2 rfl) ?_
  refine lv_iadd hx hb dX3_child_9 ?_
  obtain ⟨h_1, hf⟩ := ww_gS hf
  refine t3l_15 X hK hR h_1 dX3_child_10 ?_
  exact hend dX3_child_11 rfl rfl hf hR hS
section T3_child_c
variable {p : Program} {l : Launch} {e : Env} {R : Room} {s : State} {m : MethodId} {args : Array Value} {below : List Frame} {meth : Method} {c : Code} {H : Heap} {locs : List Loc} {Q : State → Prop}
variable {cc : ByteArray} {pc : Nat} {ls : Array Slot} {rest : List Value} {nL : Nat} {E : ww_E} {A : Nat → Prop} {H0 : Heap}
theorem t3c_child {M : ww_M} {x1 : Int32} {x2 : Int32} {r : Int32} (X : ww_C p m c cc nL s args RX3 lw_all) (hsz : ls.size = nL) (hK : t3_Kn E s) (hD : t3_D E) (hR : t3_H E M H) (hS : va_S (t3_A E) H0 H locs) (hF : 1 ≤ R.frames) (hLo : 22 ≤ R.locals) (hf : f3_child M x1 x2 = some r) (hrest : (rest.map fun v => v.category).sum ≤ 8) (hdg : decode cc pc = .ok (.invokevirtual 197, 3)) (kk : ∀ (H1 : Heap) (locs1 : List Loc), t3_H E M H1 → va_S (t3_A E) H0 H1 locs1 → W p l e R s m args below meth c H1 locs1 0 0 Q (F0 m (pc + 3) ls (.int r :: rest))) : W p l e R s m args below meth c H locs 0 0 Q (F0 m pc ls (.int x2 :: .int x1 :: .ref E.1 :: rest)) :=
  t3k_child X hsz hK hD hR hS hF hLo (met3_child l hD _ _ _ _ hf) hrest hdg kk
end T3_child_c
noncomputable def f3_marks_b1c (rec : ww_M → Int32 → Option (Int32 × ww_M)) (y1 : Int32) (M_3 : ww_M) (x2 : Int32) (x3 : Int32) : Option ((ww_M × Int32 × Int32) ⊕ (Int32 × ww_M)) :=
  ww_g (ww_i y1 12000) (if (ww_X M_3 11 y1) ≤ x3 then ww_x (some (x2, M_3)) else ww_g (ww_i y1 12000) (if (ww_X M_3 10 y1) = 0 then ww_b (f3_child M_3 y1 x3) (fun r_8 => ww_b2 (rec M_3 r_8) (fun r_9 M_9 => some (.inl (M_9, (x2 + r_9), (x3 + (1 : Int32)))))) else ww_x (some (x2, M_3))))
noncomputable def f3_marks_b1 (rec : ww_M → Int32 → Option (Int32 × ww_M)) (y1 : Int32) : (ww_M × Int32 × Int32) → Option ((ww_M × Int32 × Int32) ⊕ (Int32 × ww_M)) := fun s9 => f3_marks_b1c rec y1 s9.1 s9.2.1 s9.2.2
noncomputable def f3_marks_j1 (rec : ww_M → Int32 → Option (Int32 × ww_M)) (M : ww_M) (y1 : Int32) (t0 : Int32) : Option (Int32 × ww_M) :=
  ww_g (ww_i y1 12000) (ww_U (f3_marks_b1 rec y1) ((ww_sX M 13 y1 (ww_F M 22)), t0, (0 : Int32)))
noncomputable def f3_marks_r (rec : ww_M → Int32 → Option (Int32 × ww_M)) (M : ww_M) (x1 : Int32) : Option (Int32 × ww_M) :=
  ww_g (ww_i x1 12000) (if (ww_X M 13 x1) = (ww_F M 22) then f3_marks_j1 rec M x1 (0 : Int32) else f3_marks_j1 rec M x1 (1 : Int32))
noncomputable def f3_marks : Nat → ww_M → Int32 → Option (Int32 × ww_M)
  | 0 => fun _ _ => none
  | d + 1 => f3_marks_r (f3_marks d)
section T3_marks_k
variable {p : Program} {l : Launch} {e : Env} {R : Room} {s : State} {m : MethodId} {args : Array Value} {below : List Frame} {meth : Method} {c : Code} {H : Heap} {locs : List Loc} {Q : State → Prop}
variable {cc : ByteArray} {pc : Nat} {ls : Array Slot} {rest : List Value} {nL : Nat} {E : ww_E} {A : Nat → Prop} {H0 : Heap}
theorem t3k_marks {M M' : ww_M} {x1 : Int32} {r : Int32} {d : Nat} (X : ww_C p m c cc nL s args RX3 lw_all) (hsz : ls.size = nL) (hK : t3_Kn E s) (hD : t3_D E) (hR : t3_H E M H) (hS : va_S (t3_A E) H0 H locs) (hF : (d + 1) + 1 ≤ R.frames) (hLo : 8 + (4 + 11) + (23 * d + 22) ≤ R.locals) (hM : t3_Met l yX3_marks cX3_marks 4 (some Jvm.ClassFile.FieldType.int) (d + 1) (23 * d + 22) E [.int x1] M M' r) (hrest : (rest.map fun v => v.category).sum ≤ 8) (hdg : decode cc pc = .ok (.invokevirtual 258, 3)) (kk : ∀ (H1 : Heap) (locs1 : List Loc), t3_H E M' H1 → va_S (t3_A E) H0 H1 locs1 → W p l e R s m args below meth c H1 locs1 0 0 Q (F0 m (pc + 3) ls (.int r :: rest))) : W p l e R s m args below meth c H locs 0 0 Q (F0 m pc ls (.int x1 :: .ref E.1 :: rest)) :=
  t3_callI (n := 1) X hsz hK hR hS (As := [.int x1]) hM (lw_V q1964 q1966 qs75 q135 q1967) (by decide +kernel) rfl hF hLo (Nat.zero_le _) (Nat.zero_le _) hrest hdg kk
end T3_marks_k
set_option maxHeartbeats 4000000 in
set_option maxRecDepth 100000 in
theorem met3_marks (l : Launch) {E : ww_E} (hD : t3_D E) : ∀ (d : Nat) (M : ww_M) (x1 : Int32) (r : Int32) (M' : ww_M), f3_marks d M x1 = some (r, M') → t3_Met l yX3_marks cX3_marks 4 (some Jvm.ClassFile.FieldType.int) (d + 1) (23 * d + 22) E [.int x1] M M' r := by
  intro d
  induction d with
  | zero => intro M x1 r M' hf; cases hf
  | succ d ih =>
    intro M x1 r M' hf
    replace hf : f3_marks_r (f3_marks d) M x1 = some (r, M') := hf
    unfold f3_marks_r at hf
    refine t3_start (by decide +kernel) (Nat.le_of_ble_eq_true rfl) ?_
    intro p e s m args below meth c Rm Q X hK hF hLo hend ls hl hR hS
    obtain ⟨hx, hb, hml, hown, hts⟩ := id X
    replace hl : lv_has ls 4 [(0, .ref E.1), (1, .int x1)] := hl
    refine lv_aload_n hx hb dX3_marks_0 rfl (lv_at hl 0 rfl) ?_
    refine t3g_13 X hK hR dX3_marks_1 ?_
    refine lv_iload_n hx hb dX3_marks_4 rfl (lv_at hl 1 rfl) ?_
    obtain ⟨h_1, hf⟩ := ww_gS hf
    refine t3l_13 X hK hR h_1 dX3_marks_5 ?_
    refine lv_aload_n hx hb dX3_marks_6 rfl (lv_at hl 0 rfl) ?_
    refine t3g_22 X hK hR dX3_marks_7 ?_
    have hj_1 : ∀ (t0 : Int32), f3_marks_j1 (f3_marks d) M x1 t0 = some (r, M') → ∀ (H : Heap) (locs : List Loc) (ls : Array Slot), t3_H E M H → va_S (t3_A E) s.heap H locs → lv_has ls 4 [(0, .ref E.1), (1, .int x1)] → W p l e Rm s m args below meth c H locs 0 0 Q (F0 m 18 ls [.int t0]) := by
      intro t0 hf H locs ls hR hS hl
      unfold f3_marks_j1 at hf
      refine lv_istore_n (lv' := [(2, .int t0), (0, .ref E.1), (1, .int x1)]) hx hb dX3_marks_18 rfl hl (by decide) rfl (fun ls hl => ?_)
      refine lv_aload_n hx hb dX3_marks_19 rfl (lv_at hl 1 rfl) ?_
      refine t3g_13 X hK hR dX3_marks_20 ?_
      refine lv_iload_n hx hb dX3_marks_23 rfl (lv_at hl 2 rfl) ?_
      refine lv_aload_n hx hb dX3_marks_24 rfl (lv_at hl 1 rfl) ?_
      refine t3g_22 X hK hR dX3_marks_25 ?_
      obtain ⟨h_2, hf⟩ := ww_gS hf
      refine t3s_13 X hK hD hR hS h_2 dX3_marks_28 (fun H locs hR hS => ?_)
      refine lv_iconst (v := (0 : Int32)) hx hb dX3_marks_29 (by decide) ?_
      refine lv_istore_n (lv' := [(3, .int (0 : Int32)), (2, .int t0), (0, .ref E.1), (1, .int x1)]) hx hb dX3_marks_30 rfl hl (by decide) rfl (fun ls hl => ?_)
      have hL_1 : ∀ s9 : ww_M × Int32 × Int32, ww_U (f3_marks_b1 (f3_marks d) x1) s9 = some (r, M') → ∀ (H : Heap) (locs : List Loc) (ls : Array Slot), t3_H E s9.1 H → va_S (t3_A E) s.heap H locs → lv_has ls 4 [(0, .ref E.1), (1, .int x1), (2, .int s9.2.1), (3, .int s9.2.2)] → W p l e Rm s m args below meth c H locs 0 0 Q (F0 m 31 ls []) := by
        refine ww_ind _ (r, M') ?_
        intro s9 z_1 hf hz_1 H locs ls hR hS hl
        obtain ⟨M_3, x2, x3⟩ := s9
        replace hf : f3_marks_b1c (f3_marks d) x1 M_3 x2 x3 = some z_1 := hf
        unfold f3_marks_b1c at hf
        replace hR : t3_H E M_3 H := hR
        replace hl : lv_has ls 4 [(0, .ref E.1), (1, .int x1), (2, .int x2), (3, .int x3)] := hl
        refine lv_iload_n hx hb dX3_marks_31 rfl (lv_at hl 3 rfl) ?_
        refine lv_aload_n hx hb dX3_marks_32 rfl (lv_at hl 0 rfl) ?_
        refine t3g_11 X hK hR dX3_marks_33 ?_
        refine lv_iload_n hx hb dX3_marks_36 rfl (lv_at hl 1 rfl) ?_
        obtain ⟨h_4, hf⟩ := ww_gS hf
        refine t3l_11 X hK hR h_4 dX3_marks_37 ?_
        refine lv_icmp_ge (tgt := 69) hx hb dX3_marks_38 (by decide) (fun c_5 => ?_) (fun c_5 => ?_)
        · replace hf := ww_ip hf c_5
          replace hf := ww_xK hf hz_1
          refine lv_iload_n hx hb dX3_marks_69 rfl (lv_at hl 2 rfl) ?_
          exact hend dX3_marks_70 rfl rfl hf hR hS
        · replace hf := ww_in hf c_5
          refine lv_aload_n hx hb dX3_marks_41 rfl (lv_at hl 0 rfl) ?_
          refine t3g_10 X hK hR dX3_marks_42 ?_
          refine lv_iload_n hx hb dX3_marks_45 rfl (lv_at hl 1 rfl) ?_
          obtain ⟨h_6, hf⟩ := ww_gS hf
          refine t3l_10 X hK hR h_6 dX3_marks_46 ?_
          refine lv_if_ne (tgt := 69) hx hb dX3_marks_47 (by decide) (fun c_7 => ?_) (fun c_7 => ?_)
          · replace hf := ww_in hf c_7
            replace hf := ww_xK hf hz_1
            refine lv_iload_n hx hb dX3_marks_69 rfl (lv_at hl 2 rfl) ?_
            exact hend dX3_marks_70 rfl rfl hf hR hS
          · replace hf := ww_ip hf c_7
            refine lv_iload_n hx hb dX3_marks_50 rfl (lv_at hl 2 rfl) ?_
            refine lv_aload_n hx hb dX3_marks_51 rfl (lv_at hl 0 rfl) ?_
            refine lv_aload_n hx hb dX3_marks_52 rfl (lv_at hl 0 rfl) ?_
            refine lv_iload_n hx hb dX3_marks_53 rfl (lv_at hl 1 rfl) ?_
            refine lv_iload_n hx hb dX3_marks_54 rfl (lv_at hl 3 rfl) ?_
            obtain ⟨r_8, h_8, hf⟩ := ww_bS hf
            refine t3c_child X hl.1 hK hD hR hS (by omega) (by omega) h_8 (Nat.le_of_ble_eq_true rfl) dX3_marks_55 (fun H locs hR hS => ?_)
            obtain ⟨r_9, M_9, h_9, hf⟩ := ww_b2S hf
            refine t3k_marks X hl.1 hK hD hR hS (by omega) (by omega) (ih _ _ _ _ h_9) (Nat.le_of_ble_eq_true rfl) dX3_marks_58 (fun H locs hR hS => ?_)
            refine lv_iadd hx hb dX3_marks_61 ?_
            refine lv_istore_n (lv' := [(2, .int (x2 + r_9)), (0, .ref E.1), (1, .int x1), (3, .int x3)]) hx hb dX3_marks_62 rfl hl (by decide) rfl (fun ls hl => ?_)
            refine lv_iinc (k := 3) (v := x3 + (1 : Int32)) (lv' := [(3, .int (x3 + (1 : Int32))), (2, .int (x2 + r_9)), (0, .ref E.1), (1, .int x1)]) hx hb dX3_marks_63 hl rfl rfl (by decide) rfl (fun ls hl => ?_)
            refine lv_goto (tgt := 31) hx hb dX3_marks_66 (by decide) ?_
            exact ww_lK hf hz_1 _ _ _ hR hS (lv_sub hl [2, 3, 1, 0] rfl)
      exact hL_1 ((ww_sX M 13 x1 (ww_F M 22)), t0, (0 : Int32)) hf _ _ _ hR hS (lv_sub hl [2, 3, 1, 0] rfl)
    refine lv_icmp_ne (tgt := 17) hx hb dX3_marks_10 (by decide) (fun c_10 => ?_) (fun c_10 => ?_)
    · replace hf := ww_in hf c_10
      refine lv_iconst (v := (1 : Int32)) hx hb dX3_marks_17 (by decide) ?_
      exact hj_1 (1 : Int32) hf _ _ _ hR hS hl
    · replace hf := ww_ip hf c_10
      refine lv_iconst (v := (0 : Int32)) hx hb dX3_marks_13 (by decide) ?_
      refine lv_goto (tgt := 18) hx hb dX3_marks_14 (by decide) ?_
      exact hj_1 (0 : Int32) hf _ _ _ hR hS hl
section T3_marks_c
variable {p : Program} {l : Launch} {e : Env} {R : Room} {s : State} {m : MethodId} {args : Array Value} {below : List Frame} {meth : Method} {c : Code} {H : Heap} {locs : List Loc} {Q : State → Prop}
variable {cc : ByteArray} {pc : Nat} {ls : Array Slot} {rest : List Value} {nL : Nat} {E : ww_E} {A : Nat → Prop} {H0 : Heap}
theorem t3c_marks {M M' : ww_M} {x1 : Int32} {r : Int32} (X : ww_C p m c cc nL s args RX3 lw_all) (hsz : ls.size = nL) (hK : t3_Kn E s) (hD : t3_D E) (hR : t3_H E M H) (hS : va_S (t3_A E) H0 H locs) (hF : 12 ≤ R.frames) (hLo : 275 ≤ R.locals) (hf : f3_marks 10 M x1 = some (r, M')) (hrest : (rest.map fun v => v.category).sum ≤ 8) (hdg : decode cc pc = .ok (.invokevirtual 258, 3)) (kk : ∀ (H1 : Heap) (locs1 : List Loc), t3_H E M' H1 → va_S (t3_A E) H0 H1 locs1 → W p l e R s m args below meth c H1 locs1 0 0 Q (F0 m (pc + 3) ls (.int r :: rest))) : W p l e R s m args below meth c H locs 0 0 Q (F0 m pc ls (.int x1 :: .ref E.1 :: rest)) :=
  t3k_marks (d := 10) X hsz hK hD hR hS hF hLo (met3_marks l hD 10 _ _ _ _ hf) hrest hdg kk
end T3_marks_c
noncomputable def f3_has (x0 : Int32) (x1 : Int32) : Option (Int32) :=
  if ((x0 >>> (x1 &&& 31)) &&& (1 : Int32)) = (1 : Int32) then some (1 : Int32) else some (0 : Int32)
set_option maxHeartbeats 4000000 in
set_option maxRecDepth 100000 in
theorem met3_has (l : Launch) (x0 : Int32) (x1 : Int32) (r : Int32) (hf : f3_has x0 x1 = some r) : t3_MetS l yX3_has cX3_has 2 (some Jvm.ClassFile.FieldType.boolean) 0 0 [.int x0, .int x1] r := by
  unfold f3_has at hf
  refine t3_startS (own := RX3) (by decide +kernel) (Nat.le_of_ble_eq_true rfl) ?_
  intro p e s m args below meth c Rm Q X hF hLo hend ls hl hS; have hR : s.heap = s.heap := rfl
  obtain ⟨hx, hb, hml, hown, hts⟩ := id X
  replace hl : lv_has ls 2 [(0, .int x0), (1, .int x1)] := hl
  refine lv_iload_n hx hb dX3_has_0 rfl (lv_at hl 0 rfl) ?_
  refine lv_iload_n hx hb dX3_has_1 rfl (lv_at hl 1 rfl) ?_
  refine lv_ishr hx hb dX3_has_2 ?_
  refine lv_iconst (v := (1 : Int32)) hx hb dX3_has_3 (by decide) ?_
  refine lv_iand hx hb dX3_has_4 ?_
  refine lv_iconst (v := (1 : Int32)) hx hb dX3_has_5 (by decide) ?_
  refine lv_icmp_ne (tgt := 13) hx hb dX3_has_6 (by decide) (fun c_1 => ?_) (fun c_1 => ?_)
  · replace hf := ww_in hf c_1
    refine lv_iconst (v := (0 : Int32)) hx hb dX3_has_13 (by decide) ?_
    exact hend dX3_has_14 rfl (by decide) hf hR hS
  · replace hf := ww_ip hf c_1
    refine lv_iconst (v := (1 : Int32)) hx hb dX3_has_9 (by decide) ?_
    refine lv_goto (tgt := 14) hx hb dX3_has_10 (by decide) ?_
    exact hend dX3_has_14 rfl (by decide) hf hR hS
section T3_has_c
variable {p : Program} {l : Launch} {e : Env} {R : Room} {s : State} {m : MethodId} {args : Array Value} {below : List Frame} {meth : Method} {c : Code} {H : Heap} {locs : List Loc} {Q : State → Prop}
variable {cc : ByteArray} {pc : Nat} {ls : Array Slot} {rest : List Value} {nL : Nat} {E : ww_E} {A : Nat → Prop} {H0 : Heap}
theorem t3c_has {x0 : Int32} {x1 : Int32} {r : Int32} (X : ww_C p m c cc nL s args RX3 lw_all) (hsz : ls.size = nL) (hF : 1 ≤ R.frames) (hLo : 21 ≤ R.locals) (hf : f3_has x0 x1 = some r) (hrest : (rest.map fun v => v.category).sum ≤ 8) (hdg : decode cc pc = .ok (.invokestatic 271, 3)) (kk : W p l e R s m args below meth c H locs 0 0 Q (F0 m (pc + 3) ls (.int r :: rest))) : W p l e R s m args below meth c H locs 0 0 Q (F0 m pc ls (.int x1 :: .int x0 :: rest)) :=
  t3_callS (n := 2) X hsz (As := [.int x0, .int x1]) (met3_has l x0 x1 r hf) (lw_S q1972 q1973 q135 q1974) (by decide +kernel) rfl hF hLo (Nat.zero_le _) (Nat.zero_le _) hrest hdg kk
end T3_has_c
noncomputable def f3_sweeps_b3c (M_6 : ww_M) (x2 : Int32) : Option ((ww_M × Int32) ⊕ (ww_M)) :=
  if (ww_F M_6 18) ≤ x2 then ww_x (some M_6) else ww_g (ww_i x2 12000) (if (ww_X M_6 13 x2) = (ww_F M_6 22) then some (.inl (M_6, (x2 + (1 : Int32)))) else ww_g (ww_i (ww_F M_6 17) 12000) (some (.inl ((ww_sF (ww_sX M_6 14 (ww_F M_6 17) x2) 17 ((ww_F (ww_sX M_6 14 (ww_F M_6 17) x2) 17) + (1 : Int32))), (x2 + (1 : Int32))))))
noncomputable def f3_sweeps_b3 : (ww_M × Int32) → Option ((ww_M × Int32) ⊕ (ww_M)) := fun s9 => f3_sweeps_b3c s9.1 s9.2
noncomputable def f3_sweeps_b2c (M_4 : ww_M) (x1_1 : Int32) (x2 : Int32) : Option ((ww_M × Int32 × Int32) ⊕ (ww_M)) :=
  if (4 : Int32) ≤ x2 then ww_x (ww_U (f3_sweeps_b3) ((ww_sF M_4 17 (0 : Int32)), (0 : Int32))) else ww_b (f3_has (ww_F M_4 43) x2) (fun r_11 => if r_11 = 0 then some (.inl (M_4, x1_1, (x2 + (1 : Int32)))) else ww_g (ww_i x2 4) (ww_b2 (f3_marks 10 M_4 (ww_X M_4 35 x2)) (fun r_14 M_14 => some (.inl (M_14, (x1_1 + r_14), (x2 + (1 : Int32)))))))
noncomputable def f3_sweeps_b2 : (ww_M × Int32 × Int32) → Option ((ww_M × Int32 × Int32) ⊕ (ww_M)) := fun s9 => f3_sweeps_b2c s9.1 s9.2.1 s9.2.2
noncomputable def f3_sweeps_j1 (M : ww_M) (y1 : Int32) (y2 : Int32) : Option ((ww_M × Int32 × Int32) ⊕ (ww_M)) :=
  ww_g (ww_i y2 999) (ww_b2 (f3_marks 10 M (ww_X M 32 y2)) (fun r_17 M_17 => some (.inl (M_17, (y1 + r_17), (y2 + (1 : Int32))))))
noncomputable def f3_sweeps_b1c (M_2 : ww_M) (x1 : Int32) (x2 : Int32) : Option ((ww_M × Int32 × Int32) ⊕ (ww_M)) :=
  if (ww_F M_2 41) ≤ x2 then ww_x (ww_U (f3_sweeps_b2) (M_2, x1, (0 : Int32))) else ww_g (ww_i x2 999) (if (ww_X M_2 39 x2) = 0 then if (ww_F M_2 44) = 0 then some (.inl (M_2, x1, (x2 + (1 : Int32)))) else ww_g (ww_i x2 999) (if (ww_X M_2 40 x2) = 0 then some (.inl (M_2, x1, (x2 + (1 : Int32)))) else f3_sweeps_j1 M_2 x1 x2) else f3_sweeps_j1 M_2 x1 x2)
noncomputable def f3_sweeps_b1 : (ww_M × Int32 × Int32) → Option ((ww_M × Int32 × Int32) ⊕ (ww_M)) := fun s9 => f3_sweeps_b1c s9.1 s9.2.1 s9.2.2
noncomputable def f3_sweeps (M : ww_M) : Option (ww_M) :=
  if (((ww_F M 17) + (12000 : Int32)) - (ww_F M 18)) ≤ (5000 : Int32) then ww_U (f3_sweeps_b1) ((ww_sF M 22 ((ww_F M 22) + (1 : Int32))), (0 : Int32), (0 : Int32)) else some M
section T3_sweeps_k
variable {p : Program} {l : Launch} {e : Env} {R : Room} {s : State} {m : MethodId} {args : Array Value} {below : List Frame} {meth : Method} {c : Code} {H : Heap} {locs : List Loc} {Q : State → Prop}
variable {cc : ByteArray} {pc : Nat} {ls : Array Slot} {rest : List Value} {nL : Nat} {E : ww_E} {A : Nat → Prop} {H0 : Heap}
theorem t3k_sweeps {M M' : ww_M} (X : ww_C p m c cc nL s args RX3 lw_all) (hsz : ls.size = nL) (hK : t3_Kn E s) (hD : t3_D E) (hR : t3_H E M H) (hS : va_S (t3_A E) H0 H locs) (hF : 13 ≤ R.frames) (hLo : 297 ≤ R.locals) (hM : t3_MetV l yX3_sweeps cX3_sweeps 3 12 275 E [] M M') (hrest : (rest.map fun v => v.category).sum ≤ 8) (hdg : decode cc pc = .ok (.invokevirtual 278, 3)) (kk : ∀ (H1 : Heap) (locs1 : List Loc), t3_H E M' H1 → va_S (t3_A E) H0 H1 locs1 → W p l e R s m args below meth c H1 locs1 0 0 Q (F0 m (pc + 3) ls (rest))) : W p l e R s m args below meth c H locs 0 0 Q (F0 m pc ls (.ref E.1 :: rest)) :=
  t3_callV (n := 0) X hsz hK hR hS (As := []) hM (lw_V q1960 q1962 qs74 q135 q1963) (by decide +kernel) rfl hF hLo (Nat.zero_le _) (Nat.zero_le _) hrest hdg kk
end T3_sweeps_k
set_option maxHeartbeats 4000000 in
set_option maxRecDepth 100000 in
theorem met3_sweeps (l : Launch) {E : ww_E} (hD : t3_D E) (M : ww_M) (M' : ww_M) (hf : f3_sweeps M = some M') : t3_MetV l yX3_sweeps cX3_sweeps 3 12 275 E [] M M' := by
  unfold f3_sweeps at hf
  refine t3_startV (by decide +kernel) (Nat.le_of_ble_eq_true rfl) ?_
  intro p e s m args below meth c Rm Q X hK hF hLo hend ls hl hR hS
  obtain ⟨hx, hb, hml, hown, hts⟩ := id X
  replace hl : lv_has ls 3 [(0, .ref E.1)] := hl
  refine lv_aload_n hx hb dX3_sweeps_0 rfl (lv_at hl 0 rfl) ?_
  refine t3g_17 X hK hR dX3_sweeps_1 ?_
  refine lv_sipush (v := (12000 : Int32)) hx hb dX3_sweeps_4 (by decide) ?_
  refine lv_iadd hx hb dX3_sweeps_7 ?_
  refine lv_aload_n hx hb dX3_sweeps_8 rfl (lv_at hl 0 rfl) ?_
  refine t3g_18 X hK hR dX3_sweeps_9 ?_
  refine lv_isub hx hb dX3_sweeps_12 ?_
  refine lv_sipush (v := (5000 : Int32)) hx hb dX3_sweeps_13 (by decide) ?_
  refine lv_icmp_le (tgt := 20) hx hb dX3_sweeps_16 (by decide) (fun c_1 => ?_) (fun c_1 => ?_)
  · replace hf := ww_ip hf c_1
    refine lv_aload_n hx hb dX3_sweeps_20 rfl (lv_at hl 0 rfl) ?_
    refine lv_dup hx hb dX3_sweeps_21 rfl ?_
    refine t3g_22 X hK hR dX3_sweeps_22 ?_
    refine lv_iconst (v := (1 : Int32)) hx hb dX3_sweeps_25 (by decide) ?_
    refine lv_iadd hx hb dX3_sweeps_26 ?_
    refine t3p_22 X hK hD hR hS dX3_sweeps_27 (fun H locs hR hS => ?_)
    refine lv_iconst (v := (0 : Int32)) hx hb dX3_sweeps_30 (by decide) ?_
    refine lv_istore_n (lv' := [(1, .int (0 : Int32)), (0, .ref E.1)]) hx hb dX3_sweeps_31 rfl hl (by decide) rfl (fun ls hl => ?_)
    refine lv_iconst (v := (0 : Int32)) hx hb dX3_sweeps_32 (by decide) ?_
    refine lv_istore_n (lv' := [(2, .int (0 : Int32)), (1, .int (0 : Int32)), (0, .ref E.1)]) hx hb dX3_sweeps_33 rfl hl (by decide) rfl (fun ls hl => ?_)
    have hL_1 : ∀ s9 : ww_M × Int32 × Int32, ww_U (f3_sweeps_b1) s9 = some M' → ∀ (H : Heap) (locs : List Loc) (ls : Array Slot), t3_H E s9.1 H → va_S (t3_A E) s.heap H locs → lv_has ls 3 [(0, .ref E.1), (1, .int s9.2.1), (2, .int s9.2.2)] → W p l e Rm s m args below meth c H locs 0 0 Q (F0 m 34 ls []) := by
      refine ww_ind _ M' ?_
      intro s9 z_1 hf hz_1 H locs ls hR hS hl
      obtain ⟨M_2, x1, x2⟩ := s9
      replace hf : f3_sweeps_b1c M_2 x1 x2 = some z_1 := hf
      unfold f3_sweeps_b1c at hf
      replace hR : t3_H E M_2 H := hR
      replace hl : lv_has ls 3 [(0, .ref E.1), (1, .int x1), (2, .int x2)] := hl
      refine lv_iload_n hx hb dX3_sweeps_34 rfl (lv_at hl 2 rfl) ?_
      refine lv_aload_n hx hb dX3_sweeps_35 rfl (lv_at hl 0 rfl) ?_
      refine t3g_41 X hK hR dX3_sweeps_36 ?_
      refine lv_icmp_ge (tgt := 86) hx hb dX3_sweeps_39 (by decide) (fun c_3 => ?_) (fun c_3 => ?_)
      · replace hf := ww_ip hf c_3
        replace hf := ww_xK hf hz_1
        refine lv_iconst (v := (0 : Int32)) hx hb dX3_sweeps_86 (by decide) ?_
        refine lv_istore_n (lv' := [(2, .int (0 : Int32)), (0, .ref E.1), (1, .int x1)]) hx hb dX3_sweeps_87 rfl hl (by decide) rfl (fun ls hl => ?_)
        have hL_2 : ∀ s9 : ww_M × Int32 × Int32, ww_U (f3_sweeps_b2) s9 = some M' → ∀ (H : Heap) (locs : List Loc) (ls : Array Slot), t3_H E s9.1 H → va_S (t3_A E) s.heap H locs → lv_has ls 3 [(0, .ref E.1), (1, .int s9.2.1), (2, .int s9.2.2)] → W p l e Rm s m args below meth c H locs 0 0 Q (F0 m 88 ls []) := by
          refine ww_ind _ M' ?_
          intro s9 z_2 hf hz_2 H locs ls hR hS hl
          obtain ⟨M_4, x1_1, x2⟩ := s9
          replace hf : f3_sweeps_b2c M_4 x1_1 x2 = some z_2 := hf
          unfold f3_sweeps_b2c at hf
          replace hR : t3_H E M_4 H := hR
          replace hl : lv_has ls 3 [(0, .ref E.1), (1, .int x1_1), (2, .int x2)] := hl
          refine lv_iload_n hx hb dX3_sweeps_88 rfl (lv_at hl 2 rfl) ?_
          refine lv_iconst (v := (4 : Int32)) hx hb dX3_sweeps_89 (by decide) ?_
          refine lv_icmp_ge (tgt := 123) hx hb dX3_sweeps_90 (by decide) (fun c_5 => ?_) (fun c_5 => ?_)
          · replace hf := ww_ip hf c_5
            replace hf := ww_xK hf hz_2
            refine lv_aload_n hx hb dX3_sweeps_123 rfl (lv_at hl 0 rfl) ?_
            refine lv_iconst (v := (0 : Int32)) hx hb dX3_sweeps_124 (by decide) ?_
            refine t3p_17 X hK hD hR hS dX3_sweeps_125 (fun H locs hR hS => ?_)
            refine lv_iconst (v := (0 : Int32)) hx hb dX3_sweeps_128 (by decide) ?_
            refine lv_istore_n (lv' := [(2, .int (0 : Int32)), (0, .ref E.1), (1, .int x1_1)]) hx hb dX3_sweeps_129 rfl hl (by decide) rfl (fun ls hl => ?_)
            have hL_3 : ∀ s9 : ww_M × Int32, ww_U (f3_sweeps_b3) s9 = some M' → ∀ (H : Heap) (locs : List Loc) (ls : Array Slot), t3_H E s9.1 H → va_S (t3_A E) s.heap H locs → lv_has ls 3 [(0, .ref E.1), (2, .int s9.2)] → W p l e Rm s m args below meth c H locs 0 0 Q (F0 m 130 ls []) := by
              refine ww_ind _ M' ?_
              intro s9 z_3 hf hz_3 H locs ls hR hS hl
              obtain ⟨M_6, x2⟩ := s9
              replace hf : f3_sweeps_b3c M_6 x2 = some z_3 := hf
              unfold f3_sweeps_b3c at hf
              replace hR : t3_H E M_6 H := hR
              replace hl : lv_has ls 3 [(0, .ref E.1), (2, .int x2)] := hl
              refine lv_iload_n hx hb dX3_sweeps_130 rfl (lv_at hl 1 rfl) ?_
              refine lv_aload_n hx hb dX3_sweeps_131 rfl (lv_at hl 0 rfl) ?_
              refine t3g_18 X hK hR dX3_sweeps_132 ?_
              refine lv_icmp_ge (tgt := 180) hx hb dX3_sweeps_135 (by decide) (fun c_7 => ?_) (fun c_7 => ?_)
              · replace hf := ww_ip hf c_7
                replace hf := ww_xK hf hz_3
                exact hend dX3_sweeps_180 hf hR hS
              · replace hf := ww_in hf c_7
                refine lv_aload_n hx hb dX3_sweeps_138 rfl (lv_at hl 0 rfl) ?_
                refine t3g_13 X hK hR dX3_sweeps_139 ?_
                refine lv_iload_n hx hb dX3_sweeps_142 rfl (lv_at hl 1 rfl) ?_
                obtain ⟨h_8, hf⟩ := ww_gS hf
                refine t3l_13 X hK hR h_8 dX3_sweeps_143 ?_
                refine lv_aload_n hx hb dX3_sweeps_144 rfl (lv_at hl 0 rfl) ?_
                refine t3g_22 X hK hR dX3_sweeps_145 ?_
                refine lv_icmp_ne (tgt := 154) hx hb dX3_sweeps_148 (by decide) (fun c_9 => ?_) (fun c_9 => ?_)
                · replace hf := ww_in hf c_9
                  refine lv_aload_n hx hb dX3_sweeps_154 rfl (lv_at hl 0 rfl) ?_
                  refine t3g_14 X hK hR dX3_sweeps_155 ?_
                  refine lv_aload_n hx hb dX3_sweeps_158 rfl (lv_at hl 0 rfl) ?_
                  refine t3g_17 X hK hR dX3_sweeps_159 ?_
                  refine lv_iload_n hx hb dX3_sweeps_162 rfl (lv_at hl 1 rfl) ?_
                  obtain ⟨h_10, hf⟩ := ww_gS hf
                  refine t3s_14 X hK hD hR hS h_10 dX3_sweeps_163 (fun H locs hR hS => ?_)
                  refine lv_aload_n hx hb dX3_sweeps_164 rfl (lv_at hl 0 rfl) ?_
                  refine lv_dup hx hb dX3_sweeps_165 rfl ?_
                  refine t3g_17 X hK hR dX3_sweeps_166 ?_
                  refine lv_iconst (v := (1 : Int32)) hx hb dX3_sweeps_169 (by decide) ?_
                  refine lv_iadd hx hb dX3_sweeps_170 ?_
                  refine t3p_17 X hK hD hR hS dX3_sweeps_171 (fun H locs hR hS => ?_)
                  refine lv_iinc (k := 1) (v := x2 + (1 : Int32)) (lv' := [(2, .int (x2 + (1 : Int32))), (0, .ref E.1)]) hx hb dX3_sweeps_174 hl rfl rfl (by decide) rfl (fun ls hl => ?_)
                  refine lv_goto (tgt := 130) hx hb dX3_sweeps_177 (by decide) ?_
                  exact ww_lK hf hz_3 _ _ _ hR hS (lv_sub hl [1, 0] rfl)
                · replace hf := ww_ip hf c_9
                  refine lv_goto (tgt := 174) hx hb dX3_sweeps_151 (by decide) ?_
                  refine lv_iinc (k := 1) (v := x2 + (1 : Int32)) (lv' := [(2, .int (x2 + (1 : Int32))), (0, .ref E.1)]) hx hb dX3_sweeps_174 hl rfl rfl (by decide) rfl (fun ls hl => ?_)
                  refine lv_goto (tgt := 130) hx hb dX3_sweeps_177 (by decide) ?_
                  exact ww_lK hf hz_3 _ _ _ hR hS (lv_sub hl [1, 0] rfl)
            exact hL_3 ((ww_sF M_4 17 (0 : Int32)), (0 : Int32)) hf _ _ _ hR hS (lv_sub hl [1, 0] rfl)
          · replace hf := ww_in hf c_5
            refine lv_aload_n hx hb dX3_sweeps_93 rfl (lv_at hl 0 rfl) ?_
            refine t3g_43 X hK hR dX3_sweeps_94 ?_
            refine lv_iload_n hx hb dX3_sweeps_97 rfl (lv_at hl 2 rfl) ?_
            obtain ⟨r_11, h_11, hf⟩ := ww_bS hf
            refine t3c_has X hl.1 (Nat.le_trans (Nat.le_of_ble_eq_true rfl) hF) (Nat.le_trans (Nat.le_of_ble_eq_true rfl) hLo) h_11 (Nat.le_of_ble_eq_true rfl) dX3_sweeps_98 ?_
            refine lv_if_eq (tgt := 117) hx hb dX3_sweeps_101 (by decide) (fun c_12 => ?_) (fun c_12 => ?_)
            · replace hf := ww_ip hf c_12
              refine lv_iinc (k := 2) (v := x2 + (1 : Int32)) (lv' := [(2, .int (x2 + (1 : Int32))), (0, .ref E.1), (1, .int x1_1)]) hx hb dX3_sweeps_117 hl rfl rfl (by decide) rfl (fun ls hl => ?_)
              refine lv_goto (tgt := 88) hx hb dX3_sweeps_120 (by decide) ?_
              exact ww_lK hf hz_2 _ _ _ hR hS (lv_sub hl [1, 2, 0] rfl)
            · replace hf := ww_in hf c_12
              refine lv_iload_n hx hb dX3_sweeps_104 rfl (lv_at hl 1 rfl) ?_
              refine lv_aload_n hx hb dX3_sweeps_105 rfl (lv_at hl 0 rfl) ?_
              refine lv_aload_n hx hb dX3_sweeps_106 rfl (lv_at hl 0 rfl) ?_
              refine t3g_35 X hK hR dX3_sweeps_107 ?_
              refine lv_iload_n hx hb dX3_sweeps_110 rfl (lv_at hl 2 rfl) ?_
              obtain ⟨h_13, hf⟩ := ww_gS hf
              refine t3l_35 X hK hR h_13 dX3_sweeps_111 ?_
              obtain ⟨r_14, M_14, h_14, hf⟩ := ww_b2S hf
              refine t3c_marks X hl.1 hK hD hR hS (Nat.le_trans (Nat.le_of_ble_eq_true rfl) hF) (Nat.le_trans (Nat.le_of_ble_eq_true rfl) hLo) h_14 (Nat.le_of_ble_eq_true rfl) dX3_sweeps_112 (fun H locs hR hS => ?_)
              refine lv_iadd hx hb dX3_sweeps_115 ?_
              refine lv_istore_n (lv' := [(1, .int (x1_1 + r_14)), (0, .ref E.1), (2, .int x2)]) hx hb dX3_sweeps_116 rfl hl (by decide) rfl (fun ls hl => ?_)
              refine lv_iinc (k := 2) (v := x2 + (1 : Int32)) (lv' := [(2, .int (x2 + (1 : Int32))), (1, .int (x1_1 + r_14)), (0, .ref E.1)]) hx hb dX3_sweeps_117 hl rfl rfl (by decide) rfl (fun ls hl => ?_)
              refine lv_goto (tgt := 88) hx hb dX3_sweeps_120 (by decide) ?_
              exact ww_lK hf hz_2 _ _ _ hR hS (lv_sub hl [2, 1, 0] rfl)
        exact hL_2 (M_2, x1, (0 : Int32)) hf _ _ _ hR hS (lv_sub hl [1, 2, 0] rfl)
      · replace hf := ww_in hf c_3
        refine lv_aload_n hx hb dX3_sweeps_42 rfl (lv_at hl 0 rfl) ?_
        refine t3g_39 X hK hR dX3_sweeps_43 ?_
        refine lv_iload_n hx hb dX3_sweeps_46 rfl (lv_at hl 2 rfl) ?_
        obtain ⟨h_15, hf⟩ := ww_gS hf
        refine t3l_39 X hK hR h_15 dX3_sweeps_47 ?_
        have hj_1 : f3_sweeps_j1 M_2 x1 x2 = some z_1 → ∀ (H : Heap) (locs : List Loc) (ls : Array Slot), t3_H E M_2 H → va_S (t3_A E) s.heap H locs → lv_has ls 3 [(0, .ref E.1), (1, .int x1), (2, .int x2)] → W p l e Rm s m args below meth c H locs 0 0 Q (F0 m 67 ls []) := by
          intro  hf H locs ls hR hS hl
          unfold f3_sweeps_j1 at hf
          refine lv_iload_n hx hb dX3_sweeps_67 rfl (lv_at hl 1 rfl) ?_
          refine lv_aload_n hx hb dX3_sweeps_68 rfl (lv_at hl 0 rfl) ?_
          refine lv_aload_n hx hb dX3_sweeps_69 rfl (lv_at hl 0 rfl) ?_
          refine t3g_32 X hK hR dX3_sweeps_70 ?_
          refine lv_iload_n hx hb dX3_sweeps_73 rfl (lv_at hl 2 rfl) ?_
          obtain ⟨h_16, hf⟩ := ww_gS hf
          refine t3l_32 X hK hR h_16 dX3_sweeps_74 ?_
          obtain ⟨r_17, M_17, h_17, hf⟩ := ww_b2S hf
          refine t3c_marks X hl.1 hK hD hR hS (Nat.le_trans (Nat.le_of_ble_eq_true rfl) hF) (Nat.le_trans (Nat.le_of_ble_eq_true rfl) hLo) h_17 (Nat.le_of_ble_eq_true rfl) dX3_sweeps_75 (fun H locs hR hS => ?_)
          refine lv_iadd hx hb dX3_sweeps_78 ?_
          refine lv_istore_n (lv' := [(1, .int (x1 + r_17)), (0, .ref E.1), (2, .int x2)]) hx hb dX3_sweeps_79 rfl hl (by decide) rfl (fun ls hl => ?_)
          refine lv_iinc (k := 2) (v := x2 + (1 : Int32)) (lv' := [(2, .int (x2 + (1 : Int32))), (1, .int (x1 + r_17)), (0, .ref E.1)]) hx hb dX3_sweeps_80 hl rfl rfl (by decide) rfl (fun ls hl => ?_)
          refine lv_goto (tgt := 34) hx hb dX3_sweeps_83 (by decide) ?_
          exact ww_lK hf hz_1 _ _ _ hR hS (lv_sub hl [2, 1, 0] rfl)
        refine lv_if_ne (tgt := 67) hx hb dX3_sweeps_48 (by decide) (fun c_18 => ?_) (fun c_18 => ?_)
        · replace hf := ww_in hf c_18
          exact hj_1 hf _ _ _ hR hS hl
        · replace hf := ww_ip hf c_18
          refine lv_aload_n hx hb dX3_sweeps_51 rfl (lv_at hl 0 rfl) ?_
          refine t3g_44 X hK hR dX3_sweeps_52 ?_
          refine lv_if_eq (tgt := 80) hx hb dX3_sweeps_55 (by decide) (fun c_19 => ?_) (fun c_19 => ?_)
          · replace hf := ww_ip hf c_19
            refine lv_iinc (k := 2) (v := x2 + (1 : Int32)) (lv' := [(2, .int (x2 + (1 : Int32))), (0, .ref E.1), (1, .int x1)]) hx hb dX3_sweeps_80 hl rfl rfl (by decide) rfl (fun ls hl => ?_)
            refine lv_goto (tgt := 34) hx hb dX3_sweeps_83 (by decide) ?_
            exact ww_lK hf hz_1 _ _ _ hR hS (lv_sub hl [1, 2, 0] rfl)
          · replace hf := ww_in hf c_19
            refine lv_aload_n hx hb dX3_sweeps_58 rfl (lv_at hl 0 rfl) ?_
            refine t3g_40 X hK hR dX3_sweeps_59 ?_
            refine lv_iload_n hx hb dX3_sweeps_62 rfl (lv_at hl 2 rfl) ?_
            obtain ⟨h_20, hf⟩ := ww_gS hf
            refine t3l_40 X hK hR h_20 dX3_sweeps_63 ?_
            refine lv_if_eq (tgt := 80) hx hb dX3_sweeps_64 (by decide) (fun c_21 => ?_) (fun c_21 => ?_)
            · replace hf := ww_ip hf c_21
              refine lv_iinc (k := 2) (v := x2 + (1 : Int32)) (lv' := [(2, .int (x2 + (1 : Int32))), (0, .ref E.1), (1, .int x1)]) hx hb dX3_sweeps_80 hl rfl rfl (by decide) rfl (fun ls hl => ?_)
              refine lv_goto (tgt := 34) hx hb dX3_sweeps_83 (by decide) ?_
              exact ww_lK hf hz_1 _ _ _ hR hS (lv_sub hl [1, 2, 0] rfl)
            · replace hf := ww_in hf c_21
              exact hj_1 hf _ _ _ hR hS hl
    exact hL_1 ((ww_sF M 22 ((ww_F M 22) + (1 : Int32))), (0 : Int32), (0 : Int32)) hf _ _ _ hR hS (lv_sub hl [2, 1, 0] rfl)
  · replace hf := ww_in hf c_1
    exact hend dX3_sweeps_19 hf hR hS
section T3_sweeps_c
variable {p : Program} {l : Launch} {e : Env} {R : Room} {s : State} {m : MethodId} {args : Array Value} {below : List Frame} {meth : Method} {c : Code} {H : Heap} {locs : List Loc} {Q : State → Prop}
variable {cc : ByteArray} {pc : Nat} {ls : Array Slot} {rest : List Value} {nL : Nat} {E : ww_E} {A : Nat → Prop} {H0 : Heap}
theorem t3c_sweeps {M M' : ww_M} (X : ww_C p m c cc nL s args RX3 lw_all) (hsz : ls.size = nL) (hK : t3_Kn E s) (hD : t3_D E) (hR : t3_H E M H) (hS : va_S (t3_A E) H0 H locs) (hF : 13 ≤ R.frames) (hLo : 297 ≤ R.locals) (hf : f3_sweeps M = some M') (hrest : (rest.map fun v => v.category).sum ≤ 8) (hdg : decode cc pc = .ok (.invokevirtual 278, 3)) (kk : ∀ (H1 : Heap) (locs1 : List Loc), t3_H E M' H1 → va_S (t3_A E) H0 H1 locs1 → W p l e R s m args below meth c H1 locs1 0 0 Q (F0 m (pc + 3) ls (rest))) : W p l e R s m args below meth c H locs 0 0 Q (F0 m pc ls (.ref E.1 :: rest)) :=
  t3k_sweeps X hsz hK hD hR hS hF hLo (met3_sweeps l hD _ _ hf) hrest hdg kk
end T3_sweeps_c
noncomputable def f3_newToken (M : ww_M) : Option (Int32 × ww_M) :=
  ww_b (f3_sweeps M) (fun M_1 => some ((ww_F (ww_sF M_1 21 ((ww_F M_1 21) + (1 : Int32))) 21), (ww_sF M_1 21 ((ww_F M_1 21) + (1 : Int32)))))
section T3_newToken_k
variable {p : Program} {l : Launch} {e : Env} {R : Room} {s : State} {m : MethodId} {args : Array Value} {below : List Frame} {meth : Method} {c : Code} {H : Heap} {locs : List Loc} {Q : State → Prop}
variable {cc : ByteArray} {pc : Nat} {ls : Array Slot} {rest : List Value} {nL : Nat} {E : ww_E} {A : Nat → Prop} {H0 : Heap}
theorem t3k_newToken {M M' : ww_M} {r : Int32} (X : ww_C p m c cc nL s args RX3 lw_all) (hsz : ls.size = nL) (hK : t3_Kn E s) (hD : t3_D E) (hR : t3_H E M H) (hS : va_S (t3_A E) H0 H locs) (hF : 14 ≤ R.frames) (hLo : 317 ≤ R.locals) (hM : t3_Met l yX3_newToken cX3_newToken 1 (some Jvm.ClassFile.FieldType.int) 13 297 E [] M M' r) (hrest : (rest.map fun v => v.category).sum ≤ 8) (hdg : decode cc pc = .ok (.invokevirtual 295, 3)) (kk : ∀ (H1 : Heap) (locs1 : List Loc), t3_H E M' H1 → va_S (t3_A E) H0 H1 locs1 → W p l e R s m args below meth c H1 locs1 0 0 Q (F0 m (pc + 3) ls (.int r :: rest))) : W p l e R s m args below meth c H locs 0 0 Q (F0 m pc ls (.ref E.1 :: rest)) :=
  t3_callI (n := 0) X hsz hK hR hS (As := []) hM (lw_V q1956 q1958 qs73 q135 q1959) (by decide +kernel) rfl hF hLo (Nat.zero_le _) (Nat.zero_le _) hrest hdg kk
end T3_newToken_k
set_option maxHeartbeats 4000000 in
set_option maxRecDepth 100000 in
theorem met3_newToken (l : Launch) {E : ww_E} (hD : t3_D E) (M : ww_M) (r : Int32) (M' : ww_M) (hf : f3_newToken M = some (r, M')) : t3_Met l yX3_newToken cX3_newToken 1 (some Jvm.ClassFile.FieldType.int) 13 297 E [] M M' r := by
  unfold f3_newToken at hf
  refine t3_start (by decide +kernel) (Nat.le_of_ble_eq_true rfl) ?_
  intro p e s m args below meth c Rm Q X hK hF hLo hend ls hl hR hS
  obtain ⟨hx, hb, hml, hown, hts⟩ := id X
  replace hl : lv_has ls 1 [(0, .ref E.1)] := hl
  refine lv_aload_n hx hb dX3_newToken_0 rfl (lv_at hl 0 rfl) ?_
  obtain ⟨M_1, h_1, hf⟩ := ww_bS hf
  refine t3c_sweeps X hl.1 hK hD hR hS (Nat.le_trans (Nat.le_of_ble_eq_true rfl) hF) (Nat.le_trans (Nat.le_of_ble_eq_true rfl) hLo) h_1 (Nat.le_of_ble_eq_true rfl) dX3_newToken_1 (fun H locs hR hS => ?_)
  refine lv_aload_n hx hb dX3_newToken_4 rfl (lv_at hl 0 rfl) ?_
  refine lv_dup hx hb dX3_newToken_5 rfl ?_
  refine t3g_21 X hK hR dX3_newToken_6 ?_
  refine lv_iconst (v := (1 : Int32)) hx hb dX3_newToken_9 (by decide) ?_
  refine lv_iadd hx hb dX3_newToken_10 ?_
  refine t3p_21 X hK hD hR hS dX3_newToken_11 (fun H locs hR hS => ?_)
  refine lv_aload_n hx hb dX3_newToken_14 rfl (lv_at hl 0 rfl) ?_
  refine t3g_21 X hK hR dX3_newToken_15 ?_
  exact hend dX3_newToken_18 rfl rfl hf hR hS
section T3_newToken_c
variable {p : Program} {l : Launch} {e : Env} {R : Room} {s : State} {m : MethodId} {args : Array Value} {below : List Frame} {meth : Method} {c : Code} {H : Heap} {locs : List Loc} {Q : State → Prop}
variable {cc : ByteArray} {pc : Nat} {ls : Array Slot} {rest : List Value} {nL : Nat} {E : ww_E} {A : Nat → Prop} {H0 : Heap}
theorem t3c_newToken {M M' : ww_M} {r : Int32} (X : ww_C p m c cc nL s args RX3 lw_all) (hsz : ls.size = nL) (hK : t3_Kn E s) (hD : t3_D E) (hR : t3_H E M H) (hS : va_S (t3_A E) H0 H locs) (hF : 14 ≤ R.frames) (hLo : 317 ≤ R.locals) (hf : f3_newToken M = some (r, M')) (hrest : (rest.map fun v => v.category).sum ≤ 8) (hdg : decode cc pc = .ok (.invokevirtual 295, 3)) (kk : ∀ (H1 : Heap) (locs1 : List Loc), t3_H E M' H1 → va_S (t3_A E) H0 H1 locs1 → W p l e R s m args below meth c H1 locs1 0 0 Q (F0 m (pc + 3) ls (.int r :: rest))) : W p l e R s m args below meth c H locs 0 0 Q (F0 m pc ls (.ref E.1 :: rest)) :=
  t3k_newToken X hsz hK hD hR hS hF hLo (met3_newToken l hD _ _ _ hf) hrest hdg kk
end T3_newToken_c
noncomputable def f3_fresh_j1 (y1 : Int32) (y2 : Int32) (M_1 : ww_M) (x3 : Int32) : Option (Int32 × ww_M) :=
  ww_g (ww_i x3 12000) (ww_g (ww_i x3 12000) (ww_g (ww_i x3 12000) (some (x3, (ww_sF (ww_sX (ww_sX (ww_sX M_1 10 x3 y1) 11 x3 (0 : Int32)) 12 x3 y2) 20 ((ww_F (ww_sX (ww_sX (ww_sX M_1 10 x3 y1) 11 x3 (0 : Int32)) 12 x3 y2) 20) + (1 : Int32)))))))
noncomputable def f3_fresh (M : ww_M) (x1 : Int32) (x2 : Int32) : Option (Int32 × ww_M) :=
  if (ww_F M 17) ≤ 0 then f3_fresh_j1 x1 x2 (ww_sF M 18 ((ww_F M 18) + (1 : Int32))) (ww_F M 18) else ww_g (ww_i (ww_F (ww_sF M 17 ((ww_F M 17) - (1 : Int32))) 17) 12000) (f3_fresh_j1 x1 x2 (ww_sF M 17 ((ww_F M 17) - (1 : Int32))) (ww_X (ww_sF M 17 ((ww_F M 17) - (1 : Int32))) 14 (ww_F (ww_sF M 17 ((ww_F M 17) - (1 : Int32))) 17)))
section T3_fresh_k
variable {p : Program} {l : Launch} {e : Env} {R : Room} {s : State} {m : MethodId} {args : Array Value} {below : List Frame} {meth : Method} {c : Code} {H : Heap} {locs : List Loc} {Q : State → Prop}
variable {cc : ByteArray} {pc : Nat} {ls : Array Slot} {rest : List Value} {nL : Nat} {E : ww_E} {A : Nat → Prop} {H0 : Heap}
theorem t3k_fresh {M M' : ww_M} {x1 : Int32} {x2 : Int32} {r : Int32} (X : ww_C p m c cc nL s args RX3 lw_all) (hsz : ls.size = nL) (hK : t3_Kn E s) (hD : t3_D E) (hR : t3_H E M H) (hS : va_S (t3_A E) H0 H locs) (hF : 1 ≤ R.frames) (hLo : 23 ≤ R.locals) (hM : t3_Met l yX3_fresh cX3_fresh 4 (some Jvm.ClassFile.FieldType.int) 0 0 E [.int x1, .int x2] M M' r) (hrest : (rest.map fun v => v.category).sum ≤ 8) (hdg : decode cc pc = .ok (.invokevirtual 193, 3)) (kk : ∀ (H1 : Heap) (locs1 : List Loc), t3_H E M' H1 → va_S (t3_A E) H0 H1 locs1 → W p l e R s m args below meth c H1 locs1 0 0 Q (F0 m (pc + 3) ls (.int r :: rest))) : W p l e R s m args below meth c H locs 0 0 Q (F0 m pc ls (.int x2 :: .int x1 :: .ref E.1 :: rest)) :=
  t3_callI (n := 2) X hsz hK hR hS (As := [.int x1, .int x2]) hM (lw_V q1975 q1977 qs77 q135 q1978) (by decide +kernel) rfl hF hLo (Nat.zero_le _) (Nat.zero_le _) hrest hdg kk
end T3_fresh_k
set_option maxHeartbeats 4000000 in
set_option maxRecDepth 100000 in
theorem met3_fresh (l : Launch) {E : ww_E} (hD : t3_D E) (M : ww_M) (x1 : Int32) (x2 : Int32) (r : Int32) (M' : ww_M) (hf : f3_fresh M x1 x2 = some (r, M')) : t3_Met l yX3_fresh cX3_fresh 4 (some Jvm.ClassFile.FieldType.int) 0 0 E [.int x1, .int x2] M M' r := by
  unfold f3_fresh at hf
  refine t3_start (by decide +kernel) (Nat.le_of_ble_eq_true rfl) ?_
  intro p e s m args below meth c Rm Q X hK hF hLo hend ls hl hR hS
  obtain ⟨hx, hb, hml, hown, hts⟩ := id X
  replace hl : lv_has ls 4 [(0, .ref E.1), (1, .int x1), (2, .int x2)] := hl
  refine lv_aload_n hx hb dX3_fresh_0 rfl (lv_at hl 0 rfl) ?_
  refine t3g_17 X hK hR dX3_fresh_1 ?_
  have hj_1 : ∀ (M_1 : ww_M) (x3 : Int32), f3_fresh_j1 x1 x2 M_1 x3 = some (r, M') → ∀ (H : Heap) (locs : List Loc) (ls : Array Slot), t3_H E M_1 H → va_S (t3_A E) s.heap H locs → lv_has ls 4 [(0, .ref E.1), (1, .int x1), (2, .int x2), (3, .int x3)] → W p l e Rm s m args below meth c H locs 0 0 Q (F0 m 45 ls []) := by
    intro M_1 x3 hf H locs ls hR hS hl
    unfold f3_fresh_j1 at hf
    refine lv_aload_n hx hb dX3_fresh_45 rfl (lv_at hl 0 rfl) ?_
    refine t3g_10 X hK hR dX3_fresh_46 ?_
    refine lv_iload_n hx hb dX3_fresh_49 rfl (lv_at hl 3 rfl) ?_
    refine lv_iload_n hx hb dX3_fresh_50 rfl (lv_at hl 1 rfl) ?_
    obtain ⟨h_2, hf⟩ := ww_gS hf
    refine t3s_10 X hK hD hR hS h_2 dX3_fresh_51 (fun H locs hR hS => ?_)
    refine lv_aload_n hx hb dX3_fresh_52 rfl (lv_at hl 0 rfl) ?_
    refine t3g_11 X hK hR dX3_fresh_53 ?_
    refine lv_iload_n hx hb dX3_fresh_56 rfl (lv_at hl 3 rfl) ?_
    refine lv_iconst (v := (0 : Int32)) hx hb dX3_fresh_57 (by decide) ?_
    obtain ⟨h_3, hf⟩ := ww_gS hf
    refine t3s_11 X hK hD hR hS h_3 dX3_fresh_58 (fun H locs hR hS => ?_)
    refine lv_aload_n hx hb dX3_fresh_59 rfl (lv_at hl 0 rfl) ?_
    refine t3g_12 X hK hR dX3_fresh_60 ?_
    refine lv_iload_n hx hb dX3_fresh_63 rfl (lv_at hl 3 rfl) ?_
    refine lv_iload_n hx hb dX3_fresh_64 rfl (lv_at hl 2 rfl) ?_
    obtain ⟨h_4, hf⟩ := ww_gS hf
    refine t3s_12 X hK hD hR hS h_4 dX3_fresh_65 (fun H locs hR hS => ?_)
    refine lv_aload_n hx hb dX3_fresh_66 rfl (lv_at hl 0 rfl) ?_
    refine lv_dup hx hb dX3_fresh_67 rfl ?_
    refine t3g_20 X hK hR dX3_fresh_68 ?_
    refine lv_iconst (v := (1 : Int32)) hx hb dX3_fresh_71 (by decide) ?_
    refine lv_iadd hx hb dX3_fresh_72 ?_
    refine t3p_20 X hK hD hR hS dX3_fresh_73 (fun H locs hR hS => ?_)
    refine lv_iload_n hx hb dX3_fresh_76 rfl (lv_at hl 3 rfl) ?_
    exact hend dX3_fresh_77 rfl rfl hf hR hS
  refine lv_if_le (tgt := 30) hx hb dX3_fresh_4 (by decide) (fun c_5 => ?_) (fun c_5 => ?_)
  · replace hf := ww_ip hf c_5
    refine lv_aload_n hx hb dX3_fresh_30 rfl (lv_at hl 0 rfl) ?_
    refine t3g_18 X hK hR dX3_fresh_31 ?_
    refine lv_istore_n (lv' := [(3, .int (ww_F M 18)), (0, .ref E.1), (1, .int x1), (2, .int x2)]) hx hb dX3_fresh_34 rfl hl (by decide) rfl (fun ls hl => ?_)
    refine lv_aload_n hx hb dX3_fresh_35 rfl (lv_at hl 1 rfl) ?_
    refine lv_dup hx hb dX3_fresh_36 rfl ?_
    refine t3g_18 X hK hR dX3_fresh_37 ?_
    refine lv_iconst (v := (1 : Int32)) hx hb dX3_fresh_40 (by decide) ?_
    refine lv_iadd hx hb dX3_fresh_41 ?_
    refine t3p_18 X hK hD hR hS dX3_fresh_42 (fun H locs hR hS => ?_)
    exact hj_1 (ww_sF M 18 ((ww_F M 18) + (1 : Int32))) (ww_F M 18) hf _ _ _ hR hS (lv_sub hl [1, 2, 3, 0] rfl)
  · replace hf := ww_in hf c_5
    refine lv_aload_n hx hb dX3_fresh_7 rfl (lv_at hl 0 rfl) ?_
    refine lv_dup hx hb dX3_fresh_8 rfl ?_
    refine t3g_17 X hK hR dX3_fresh_9 ?_
    refine lv_iconst (v := (1 : Int32)) hx hb dX3_fresh_12 (by decide) ?_
    refine lv_isub hx hb dX3_fresh_13 ?_
    refine t3p_17 X hK hD hR hS dX3_fresh_14 (fun H locs hR hS => ?_)
    refine lv_aload_n hx hb dX3_fresh_17 rfl (lv_at hl 0 rfl) ?_
    refine t3g_14 X hK hR dX3_fresh_18 ?_
    refine lv_aload_n hx hb dX3_fresh_21 rfl (lv_at hl 0 rfl) ?_
    refine t3g_17 X hK hR dX3_fresh_22 ?_
    obtain ⟨h_6, hf⟩ := ww_gS hf
    refine t3l_14 X hK hR h_6 dX3_fresh_25 ?_
    refine lv_istore_n (lv' := [(3, .int (ww_X (ww_sF M 17 ((ww_F M 17) - (1 : Int32))) 14 (ww_F (ww_sF M 17 ((ww_F M 17) - (1 : Int32))) 17))), (0, .ref E.1), (1, .int x1), (2, .int x2)]) hx hb dX3_fresh_26 rfl hl (by decide) rfl (fun ls hl => ?_)
    refine lv_goto (tgt := 45) hx hb dX3_fresh_27 (by decide) ?_
    exact hj_1 (ww_sF M 17 ((ww_F M 17) - (1 : Int32))) (ww_X (ww_sF M 17 ((ww_F M 17) - (1 : Int32))) 14 (ww_F (ww_sF M 17 ((ww_F M 17) - (1 : Int32))) 17)) hf _ _ _ hR hS (lv_sub hl [1, 2, 3, 0] rfl)
section T3_fresh_c
variable {p : Program} {l : Launch} {e : Env} {R : Room} {s : State} {m : MethodId} {args : Array Value} {below : List Frame} {meth : Method} {c : Code} {H : Heap} {locs : List Loc} {Q : State → Prop}
variable {cc : ByteArray} {pc : Nat} {ls : Array Slot} {rest : List Value} {nL : Nat} {E : ww_E} {A : Nat → Prop} {H0 : Heap}
theorem t3c_fresh {M M' : ww_M} {x1 : Int32} {x2 : Int32} {r : Int32} (X : ww_C p m c cc nL s args RX3 lw_all) (hsz : ls.size = nL) (hK : t3_Kn E s) (hD : t3_D E) (hR : t3_H E M H) (hS : va_S (t3_A E) H0 H locs) (hF : 1 ≤ R.frames) (hLo : 23 ≤ R.locals) (hf : f3_fresh M x1 x2 = some (r, M')) (hrest : (rest.map fun v => v.category).sum ≤ 8) (hdg : decode cc pc = .ok (.invokevirtual 193, 3)) (kk : ∀ (H1 : Heap) (locs1 : List Loc), t3_H E M' H1 → va_S (t3_A E) H0 H1 locs1 → W p l e R s m args below meth c H1 locs1 0 0 Q (F0 m (pc + 3) ls (.int r :: rest))) : W p l e R s m args below meth c H locs 0 0 Q (F0 m pc ls (.int x2 :: .int x1 :: .ref E.1 :: rest)) :=
  t3k_fresh X hsz hK hD hR hS hF hLo (met3_fresh l hD _ _ _ _ _ hf) hrest hdg kk
end T3_fresh_c
noncomputable def f3_lowest_b1c (M : ww_M) (x1_1 : Int32) : Option ((Int32) ⊕ (Int32)) :=
  ww_g (ww_i x1_1 12000) (if (ww_X M 10 x1_1) = 0 then ww_b (f3_child M x1_1 (0 : Int32)) (fun r_6 => some (.inl r_6)) else ww_x (ww_g (ww_i x1_1 12000) (if (ww_X M 11 x1_1) = 0 then some (-1 : Int32) else ww_g (ww_i ((7 : Int32) * x1_1) 84000) (some (ww_X M 15 ((7 : Int32) * x1_1))))))
noncomputable def f3_lowest_b1 (M : ww_M) : Int32 → Option ((Int32) ⊕ (Int32)) := fun s9 => f3_lowest_b1c M s9
noncomputable def f3_lowest (M : ww_M) (x1 : Int32) : Option (Int32) :=
  ww_U (f3_lowest_b1 M) x1
section T3_lowest_k
variable {p : Program} {l : Launch} {e : Env} {R : Room} {s : State} {m : MethodId} {args : Array Value} {below : List Frame} {meth : Method} {c : Code} {H : Heap} {locs : List Loc} {Q : State → Prop}
variable {cc : ByteArray} {pc : Nat} {ls : Array Slot} {rest : List Value} {nL : Nat} {E : ww_E} {A : Nat → Prop} {H0 : Heap}
theorem t3k_lowest {M : ww_M} {x1 : Int32} {r : Int32} (X : ww_C p m c cc nL s args RX3 lw_all) (hsz : ls.size = nL) (hK : t3_Kn E s) (hD : t3_D E) (hR : t3_H E M H) (hS : va_S (t3_A E) H0 H locs) (hF : 2 ≤ R.frames) (hLo : 43 ≤ R.locals) (hM : t3_Met l yX3_lowest cX3_lowest 2 (some Jvm.ClassFile.FieldType.int) 1 22 E [.int x1] M M r) (hrest : (rest.map fun v => v.category).sum ≤ 8) (hdg : decode cc pc = .ok (.invokevirtual 200, 3)) (kk : ∀ (H1 : Heap) (locs1 : List Loc), t3_H E M H1 → va_S (t3_A E) H0 H1 locs1 → W p l e R s m args below meth c H1 locs1 0 0 Q (F0 m (pc + 3) ls (.int r :: rest))) : W p l e R s m args below meth c H locs 0 0 Q (F0 m pc ls (.int x1 :: .ref E.1 :: rest)) :=
  t3_callI (n := 1) X hsz hK hR hS (As := [.int x1]) hM (lw_V q1995 q1997 qs82 q135 q1998) (by decide +kernel) rfl hF hLo (Nat.zero_le _) (Nat.zero_le _) hrest hdg kk
end T3_lowest_k
set_option maxHeartbeats 4000000 in
set_option maxRecDepth 100000 in
theorem met3_lowest (l : Launch) {E : ww_E} (hD : t3_D E) (M : ww_M) (x1 : Int32) (r : Int32) (hf : f3_lowest M x1 = some r) : t3_Met l yX3_lowest cX3_lowest 2 (some Jvm.ClassFile.FieldType.int) 1 22 E [.int x1] M M r := by
  unfold f3_lowest at hf
  refine t3_startP (by decide +kernel) (Nat.le_of_ble_eq_true rfl) ?_
  intro p e s m args below meth c Rm Q X hK hF hLo hend ls hl hR hS
  obtain ⟨hx, hb, hml, hown, hts⟩ := id X
  replace hl : lv_has ls 2 [(0, .ref E.1), (1, .int x1)] := hl
  have hL_1 : ∀ s9 : Int32, ww_U (f3_lowest_b1 M) s9 = some r → ∀ (H : Heap) (locs : List Loc) (ls : Array Slot), t3_H E M H → va_S (t3_A E) s.heap H locs → lv_has ls 2 [(0, .ref E.1), (1, .int s9)] → W p l e Rm s m args below meth c H locs 0 0 Q (F0 m 0 ls []) := by
    refine ww_ind _ r ?_
    intro s9 z_1 hf hz_1 H locs ls hR hS hl
    obtain ⟨x1_1, e9⟩ : ∃ q9, q9 = s9 := ⟨_, rfl⟩; subst e9
    replace hf : f3_lowest_b1c M x1_1 = some z_1 := hf
    unfold f3_lowest_b1c at hf
    replace hl : lv_has ls 2 [(0, .ref E.1), (1, .int x1_1)] := hl
    refine lv_aload_n hx hb dX3_lowest_0 rfl (lv_at hl 0 rfl) ?_
    refine t3g_10 X hK hR dX3_lowest_1 ?_
    refine lv_iload_n hx hb dX3_lowest_4 rfl (lv_at hl 1 rfl) ?_
    obtain ⟨h_1, hf⟩ := ww_gS hf
    refine t3l_10 X hK hR h_1 dX3_lowest_5 ?_
    refine lv_if_ne (tgt := 19) hx hb dX3_lowest_6 (by decide) (fun c_2 => ?_) (fun c_2 => ?_)
    · replace hf := ww_in hf c_2
      replace hf := ww_xK hf hz_1
      refine lv_aload_n hx hb dX3_lowest_19 rfl (lv_at hl 0 rfl) ?_
      refine t3g_11 X hK hR dX3_lowest_20 ?_
      refine lv_iload_n hx hb dX3_lowest_23 rfl (lv_at hl 1 rfl) ?_
      obtain ⟨h_3, hf⟩ := ww_gS hf
      refine t3l_11 X hK hR h_3 dX3_lowest_24 ?_
      refine lv_if_ne (tgt := 32) hx hb dX3_lowest_25 (by decide) (fun c_4 => ?_) (fun c_4 => ?_)
      · replace hf := ww_in hf c_4
        refine lv_aload_n hx hb dX3_lowest_32 rfl (lv_at hl 0 rfl) ?_
        refine t3g_15 X hK hR dX3_lowest_33 ?_
        refine lv_bipush (v := (7 : Int32)) hx hb dX3_lowest_36 (by decide) ?_
        refine lv_iload_n hx hb dX3_lowest_38 rfl (lv_at hl 1 rfl) ?_
        refine lv_imul hx hb dX3_lowest_39 ?_
        obtain ⟨h_5, hf⟩ := ww_gS hf
        refine t3l_15 X hK hR h_5 dX3_lowest_40 ?_
        exact hend dX3_lowest_41 rfl rfl hf hR hS
      · replace hf := ww_ip hf c_4
        refine lv_iconst (v := (-1 : Int32)) hx hb dX3_lowest_28 (by decide) ?_
        refine lv_goto (tgt := 41) hx hb dX3_lowest_29 (by decide) ?_
        exact hend dX3_lowest_41 rfl rfl hf hR hS
    · replace hf := ww_ip hf c_2
      refine lv_aload_n hx hb dX3_lowest_9 rfl (lv_at hl 0 rfl) ?_
      refine lv_iload_n hx hb dX3_lowest_10 rfl (lv_at hl 1 rfl) ?_
      refine lv_iconst (v := (0 : Int32)) hx hb dX3_lowest_11 (by decide) ?_
      obtain ⟨r_6, h_6, hf⟩ := ww_bS hf
      refine t3c_child X hl.1 hK hD hR hS (Nat.le_trans (Nat.le_of_ble_eq_true rfl) hF) (Nat.le_trans (Nat.le_of_ble_eq_true rfl) hLo) h_6 (Nat.le_of_ble_eq_true rfl) dX3_lowest_12 (fun H locs hR hS => ?_)
      refine lv_istore_n (lv' := [(1, .int r_6), (0, .ref E.1)]) hx hb dX3_lowest_15 rfl hl (by decide) rfl (fun ls hl => ?_)
      refine lv_goto (tgt := 0) hx hb dX3_lowest_16 (by decide) ?_
      exact ww_lK hf hz_1 _ _ _ hR hS (lv_sub hl [1, 0] rfl)
  exact hL_1 x1 hf _ _ _ hR hS hl
section T3_lowest_c
variable {p : Program} {l : Launch} {e : Env} {R : Room} {s : State} {m : MethodId} {args : Array Value} {below : List Frame} {meth : Method} {c : Code} {H : Heap} {locs : List Loc} {Q : State → Prop}
variable {cc : ByteArray} {pc : Nat} {ls : Array Slot} {rest : List Value} {nL : Nat} {E : ww_E} {A : Nat → Prop} {H0 : Heap}
theorem t3c_lowest {M : ww_M} {x1 : Int32} {r : Int32} (X : ww_C p m c cc nL s args RX3 lw_all) (hsz : ls.size = nL) (hK : t3_Kn E s) (hD : t3_D E) (hR : t3_H E M H) (hS : va_S (t3_A E) H0 H locs) (hF : 2 ≤ R.frames) (hLo : 43 ≤ R.locals) (hf : f3_lowest M x1 = some r) (hrest : (rest.map fun v => v.category).sum ≤ 8) (hdg : decode cc pc = .ok (.invokevirtual 200, 3)) (kk : ∀ (H1 : Heap) (locs1 : List Loc), t3_H E M H1 → va_S (t3_A E) H0 H1 locs1 → W p l e R s m args below meth c H1 locs1 0 0 Q (F0 m (pc + 3) ls (.int r :: rest))) : W p l e R s m args below meth c H locs 0 0 Q (F0 m pc ls (.int x1 :: .ref E.1 :: rest)) :=
  t3k_lowest X hsz hK hD hR hS hF hLo (met3_lowest l hD _ _ _ hf) hrest hdg kk
end T3_lowest_c
noncomputable def f3_spotFor_b1c (M : ww_M) (y1 : Int32) (y2 : Int32) (x3 : Int32) (x4 : Int32) : Option ((Int32 × Int32) ⊕ (Int32)) :=
  ww_g (ww_i y1 12000) (if (ww_X M 11 y1) ≤ x4 then ww_x (some x3) else ww_b (f3_child M y1 x4) (fun r_3 => ww_b (f3_lowest M r_3) (fun r_4 => if y2 < r_4 then some (.inl (x3, (x4 + (1 : Int32)))) else some (.inl (x4, (x4 + (1 : Int32)))))))
noncomputable def f3_spotFor_b1 (M : ww_M) (y1 : Int32) (y2 : Int32) : (Int32 × Int32) → Option ((Int32 × Int32) ⊕ (Int32)) := fun s9 => f3_spotFor_b1c M y1 y2 s9.1 s9.2
noncomputable def f3_spotFor (M : ww_M) (x1 : Int32) (x2 : Int32) : Option (Int32) :=
  ww_U (f3_spotFor_b1 M x1 x2) ((0 : Int32), (1 : Int32))
section T3_spotFor_k
variable {p : Program} {l : Launch} {e : Env} {R : Room} {s : State} {m : MethodId} {args : Array Value} {below : List Frame} {meth : Method} {c : Code} {H : Heap} {locs : List Loc} {Q : State → Prop}
variable {cc : ByteArray} {pc : Nat} {ls : Array Slot} {rest : List Value} {nL : Nat} {E : ww_E} {A : Nat → Prop} {H0 : Heap}
theorem t3k_spotFor {M : ww_M} {x1 : Int32} {x2 : Int32} {r : Int32} (X : ww_C p m c cc nL s args RX3 lw_all) (hsz : ls.size = nL) (hK : t3_Kn E s) (hD : t3_D E) (hR : t3_H E M H) (hS : va_S (t3_A E) H0 H locs) (hF : 3 ≤ R.frames) (hLo : 67 ≤ R.locals) (hM : t3_Met l yX3_spotFor cX3_spotFor 5 (some Jvm.ClassFile.FieldType.int) 2 43 E [.int x1, .int x2] M M r) (hrest : (rest.map fun v => v.category).sum ≤ 8) (hdg : decode cc pc = .ok (.invokevirtual 203, 3)) (kk : ∀ (H1 : Heap) (locs1 : List Loc), t3_H E M H1 → va_S (t3_A E) H0 H1 locs1 → W p l e R s m args below meth c H1 locs1 0 0 Q (F0 m (pc + 3) ls (.int r :: rest))) : W p l e R s m args below meth c H locs 0 0 Q (F0 m pc ls (.int x2 :: .int x1 :: .ref E.1 :: rest)) :=
  t3_callI (n := 2) X hsz hK hR hS (As := [.int x1, .int x2]) hM (lw_V q1991 q1993 qs81 q135 q1994) (by decide +kernel) rfl hF hLo (Nat.zero_le _) (Nat.zero_le _) hrest hdg kk
end T3_spotFor_k
set_option maxHeartbeats 4000000 in
set_option maxRecDepth 100000 in
theorem met3_spotFor (l : Launch) {E : ww_E} (hD : t3_D E) (M : ww_M) (x1 : Int32) (x2 : Int32) (r : Int32) (hf : f3_spotFor M x1 x2 = some r) : t3_Met l yX3_spotFor cX3_spotFor 5 (some Jvm.ClassFile.FieldType.int) 2 43 E [.int x1, .int x2] M M r := by
  unfold f3_spotFor at hf
  refine t3_startP (by decide +kernel) (Nat.le_of_ble_eq_true rfl) ?_
  intro p e s m args below meth c Rm Q X hK hF hLo hend ls hl hR hS
  obtain ⟨hx, hb, hml, hown, hts⟩ := id X
  replace hl : lv_has ls 5 [(0, .ref E.1), (1, .int x1), (2, .int x2)] := hl
  refine lv_iconst (v := (0 : Int32)) hx hb dX3_spotFor_0 (by decide) ?_
  refine lv_istore_n (lv' := [(3, .int (0 : Int32)), (0, .ref E.1), (1, .int x1), (2, .int x2)]) hx hb dX3_spotFor_1 rfl hl (by decide) rfl (fun ls hl => ?_)
  refine lv_iconst (v := (1 : Int32)) hx hb dX3_spotFor_2 (by decide) ?_
  refine lv_istore (lv' := [(4, .int (1 : Int32)), (3, .int (0 : Int32)), (0, .ref E.1), (1, .int x1), (2, .int x2)]) hx hb dX3_spotFor_3 hl (by decide) rfl (fun ls hl => ?_)
  have hL_1 : ∀ s9 : Int32 × Int32, ww_U (f3_spotFor_b1 M x1 x2) s9 = some r → ∀ (H : Heap) (locs : List Loc) (ls : Array Slot), t3_H E M H → va_S (t3_A E) s.heap H locs → lv_has ls 5 [(0, .ref E.1), (1, .int x1), (2, .int x2), (3, .int s9.1), (4, .int s9.2)] → W p l e Rm s m args below meth c H locs 0 0 Q (F0 m 5 ls []) := by
    refine ww_ind _ r ?_
    intro s9 z_1 hf hz_1 H locs ls hR hS hl
    obtain ⟨x3, x4⟩ := s9
    replace hf : f3_spotFor_b1c M x1 x2 x3 x4 = some z_1 := hf
    unfold f3_spotFor_b1c at hf
    replace hl : lv_has ls 5 [(0, .ref E.1), (1, .int x1), (2, .int x2), (3, .int x3), (4, .int x4)] := hl
    refine lv_iload hx hb dX3_spotFor_5 (lv_at hl 4 rfl) ?_
    refine lv_aload_n hx hb dX3_spotFor_7 rfl (lv_at hl 0 rfl) ?_
    refine t3g_11 X hK hR dX3_spotFor_8 ?_
    refine lv_iload_n hx hb dX3_spotFor_11 rfl (lv_at hl 1 rfl) ?_
    obtain ⟨h_1, hf⟩ := ww_gS hf
    refine t3l_11 X hK hR h_1 dX3_spotFor_12 ?_
    refine lv_icmp_ge (tgt := 40) hx hb dX3_spotFor_13 (by decide) (fun c_2 => ?_) (fun c_2 => ?_)
    · replace hf := ww_ip hf c_2
      replace hf := ww_xK hf hz_1
      refine lv_iload_n hx hb dX3_spotFor_40 rfl (lv_at hl 3 rfl) ?_
      exact hend dX3_spotFor_41 rfl rfl hf hR hS
    · replace hf := ww_in hf c_2
      refine lv_aload_n hx hb dX3_spotFor_16 rfl (lv_at hl 0 rfl) ?_
      refine lv_aload_n hx hb dX3_spotFor_17 rfl (lv_at hl 0 rfl) ?_
      refine lv_iload_n hx hb dX3_spotFor_18 rfl (lv_at hl 1 rfl) ?_
      refine lv_iload hx hb dX3_spotFor_19 (lv_at hl 4 rfl) ?_
      obtain ⟨r_3, h_3, hf⟩ := ww_bS hf
      refine t3c_child X hl.1 hK hD hR hS (Nat.le_trans (Nat.le_of_ble_eq_true rfl) hF) (Nat.le_trans (Nat.le_of_ble_eq_true rfl) hLo) h_3 (Nat.le_of_ble_eq_true rfl) dX3_spotFor_21 (fun H locs hR hS => ?_)
      obtain ⟨r_4, h_4, hf⟩ := ww_bS hf
      refine t3c_lowest X hl.1 hK hD hR hS (Nat.le_trans (Nat.le_of_ble_eq_true rfl) hF) (Nat.le_trans (Nat.le_of_ble_eq_true rfl) hLo) h_4 (Nat.le_of_ble_eq_true rfl) dX3_spotFor_24 (fun H locs hR hS => ?_)
      refine lv_iload_n hx hb dX3_spotFor_27 rfl (lv_at hl 2 rfl) ?_
      refine lv_icmp_gt (tgt := 34) hx hb dX3_spotFor_28 (by decide) (fun c_5 => ?_) (fun c_5 => ?_)
      · replace hf := ww_ip hf c_5
        refine lv_iinc (k := 4) (v := x4 + (1 : Int32)) (lv' := [(4, .int (x4 + (1 : Int32))), (0, .ref E.1), (1, .int x1), (2, .int x2), (3, .int x3)]) hx hb dX3_spotFor_34 hl rfl rfl (by decide) rfl (fun ls hl => ?_)
        refine lv_goto (tgt := 5) hx hb dX3_spotFor_37 (by decide) ?_
        exact ww_lK hf hz_1 _ _ _ hR hS (lv_sub hl [1, 2, 3, 4, 0] rfl)
      · replace hf := ww_in hf c_5
        refine lv_iload hx hb dX3_spotFor_31 (lv_at hl 4 rfl) ?_
        refine lv_istore_n (lv' := [(3, .int x4), (0, .ref E.1), (1, .int x1), (2, .int x2), (4, .int x4)]) hx hb dX3_spotFor_33 rfl hl (by decide) rfl (fun ls hl => ?_)
        refine lv_iinc (k := 4) (v := x4 + (1 : Int32)) (lv' := [(4, .int (x4 + (1 : Int32))), (3, .int x4), (0, .ref E.1), (1, .int x1), (2, .int x2)]) hx hb dX3_spotFor_34 hl rfl rfl (by decide) rfl (fun ls hl => ?_)
        refine lv_goto (tgt := 5) hx hb dX3_spotFor_37 (by decide) ?_
        exact ww_lK hf hz_1 _ _ _ hR hS (lv_sub hl [2, 3, 4, 1, 0] rfl)
  exact hL_1 ((0 : Int32), (1 : Int32)) hf _ _ _ hR hS (lv_sub hl [2, 3, 4, 1, 0] rfl)
section T3_spotFor_c
variable {p : Program} {l : Launch} {e : Env} {R : Room} {s : State} {m : MethodId} {args : Array Value} {below : List Frame} {meth : Method} {c : Code} {H : Heap} {locs : List Loc} {Q : State → Prop}
variable {cc : ByteArray} {pc : Nat} {ls : Array Slot} {rest : List Value} {nL : Nat} {E : ww_E} {A : Nat → Prop} {H0 : Heap}
theorem t3c_spotFor {M : ww_M} {x1 : Int32} {x2 : Int32} {r : Int32} (X : ww_C p m c cc nL s args RX3 lw_all) (hsz : ls.size = nL) (hK : t3_Kn E s) (hD : t3_D E) (hR : t3_H E M H) (hS : va_S (t3_A E) H0 H locs) (hF : 3 ≤ R.frames) (hLo : 67 ≤ R.locals) (hf : f3_spotFor M x1 x2 = some r) (hrest : (rest.map fun v => v.category).sum ≤ 8) (hdg : decode cc pc = .ok (.invokevirtual 203, 3)) (kk : ∀ (H1 : Heap) (locs1 : List Loc), t3_H E M H1 → va_S (t3_A E) H0 H1 locs1 → W p l e R s m args below meth c H1 locs1 0 0 Q (F0 m (pc + 3) ls (.int r :: rest))) : W p l e R s m args below meth c H locs 0 0 Q (F0 m pc ls (.int x2 :: .int x1 :: .ref E.1 :: rest)) :=
  t3k_spotFor X hsz hK hD hR hS hF hLo (met3_spotFor l hD _ _ _ _ hf) hrest hdg kk
end T3_spotFor_c
noncomputable def f3_leafFor_b1c (M : ww_M) (y2 : Int32) (x3 : Int32) : Option ((Int32) ⊕ (Int32)) :=
  ww_g (ww_i x3 12000) (if (ww_X M 10 x3) = 0 then ww_b (f3_spotFor M x3 y2) (fun r_3 => ww_b (f3_child M x3 r_3) (fun r_4 => some (.inl r_4))) else ww_x (some x3))
noncomputable def f3_leafFor_b1 (M : ww_M) (y2 : Int32) : Int32 → Option ((Int32) ⊕ (Int32)) := fun s9 => f3_leafFor_b1c M y2 s9
noncomputable def f3_leafFor (M : ww_M) (x1 : Int32) (x2 : Int32) : Option (Int32) :=
  ww_U (f3_leafFor_b1 M x2) x1
section T3_leafFor_k
variable {p : Program} {l : Launch} {e : Env} {R : Room} {s : State} {m : MethodId} {args : Array Value} {below : List Frame} {meth : Method} {c : Code} {H : Heap} {locs : List Loc} {Q : State → Prop}
variable {cc : ByteArray} {pc : Nat} {ls : Array Slot} {rest : List Value} {nL : Nat} {E : ww_E} {A : Nat → Prop} {H0 : Heap}
theorem t3k_leafFor {M : ww_M} {x1 : Int32} {x2 : Int32} {r : Int32} (X : ww_C p m c cc nL s args RX3 lw_all) (hsz : ls.size = nL) (hK : t3_Kn E s) (hD : t3_D E) (hR : t3_H E M H) (hS : va_S (t3_A E) H0 H locs) (hF : 4 ≤ R.frames) (hLo : 90 ≤ R.locals) (hM : t3_Met l yX3_leafFor cX3_leafFor 4 (some Jvm.ClassFile.FieldType.int) 3 67 E [.int x1, .int x2] M M r) (hrest : (rest.map fun v => v.category).sum ≤ 8) (hdg : decode cc pc = .ok (.invokevirtual 206, 3)) (kk : ∀ (H1 : Heap) (locs1 : List Loc), t3_H E M H1 → va_S (t3_A E) H0 H1 locs1 → W p l e R s m args below meth c H1 locs1 0 0 Q (F0 m (pc + 3) ls (.int r :: rest))) : W p l e R s m args below meth c H locs 0 0 Q (F0 m pc ls (.int x2 :: .int x1 :: .ref E.1 :: rest)) :=
  t3_callI (n := 2) X hsz hK hR hS (As := [.int x1, .int x2]) hM (lw_V q1987 q1989 qs80 q135 q1990) (by decide +kernel) rfl hF hLo (Nat.zero_le _) (Nat.zero_le _) hrest hdg kk
end T3_leafFor_k
set_option maxHeartbeats 4000000 in
set_option maxRecDepth 100000 in
theorem met3_leafFor (l : Launch) {E : ww_E} (hD : t3_D E) (M : ww_M) (x1 : Int32) (x2 : Int32) (r : Int32) (hf : f3_leafFor M x1 x2 = some r) : t3_Met l yX3_leafFor cX3_leafFor 4 (some Jvm.ClassFile.FieldType.int) 3 67 E [.int x1, .int x2] M M r := by
  unfold f3_leafFor at hf
  refine t3_startP (by decide +kernel) (Nat.le_of_ble_eq_true rfl) ?_
  intro p e s m args below meth c Rm Q X hK hF hLo hend ls hl hR hS
  obtain ⟨hx, hb, hml, hown, hts⟩ := id X
  replace hl : lv_has ls 4 [(0, .ref E.1), (1, .int x1), (2, .int x2)] := hl
  refine lv_iload_n hx hb dX3_leafFor_0 rfl (lv_at hl 1 rfl) ?_
  refine lv_istore_n (lv' := [(3, .int x1), (0, .ref E.1), (1, .int x1), (2, .int x2)]) hx hb dX3_leafFor_1 rfl hl (by decide) rfl (fun ls hl => ?_)
  have hL_1 : ∀ s9 : Int32, ww_U (f3_leafFor_b1 M x2) s9 = some r → ∀ (H : Heap) (locs : List Loc) (ls : Array Slot), t3_H E M H → va_S (t3_A E) s.heap H locs → lv_has ls 4 [(0, .ref E.1), (2, .int x2), (3, .int s9)] → W p l e Rm s m args below meth c H locs 0 0 Q (F0 m 2 ls []) := by
    refine ww_ind _ r ?_
    intro s9 z_1 hf hz_1 H locs ls hR hS hl
    obtain ⟨x3, e9⟩ : ∃ q9, q9 = s9 := ⟨_, rfl⟩; subst e9
    replace hf : f3_leafFor_b1c M x2 x3 = some z_1 := hf
    unfold f3_leafFor_b1c at hf
    replace hl : lv_has ls 4 [(0, .ref E.1), (2, .int x2), (3, .int x3)] := hl
    refine lv_aload_n hx hb dX3_leafFor_2 rfl (lv_at hl 0 rfl) ?_
    refine t3g_10 X hK hR dX3_leafFor_3 ?_
    refine lv_iload_n hx hb dX3_leafFor_6 rfl (lv_at hl 2 rfl) ?_
    obtain ⟨h_1, hf⟩ := ww_gS hf
    refine t3l_10 X hK hR h_1 dX3_leafFor_7 ?_
    refine lv_if_ne (tgt := 26) hx hb dX3_leafFor_8 (by decide) (fun c_2 => ?_) (fun c_2 => ?_)
    · replace hf := ww_in hf c_2
      replace hf := ww_xK hf hz_1
      refine lv_iload_n hx hb dX3_leafFor_26 rfl (lv_at hl 2 rfl) ?_
      exact hend dX3_leafFor_27 rfl rfl hf hR hS
    · replace hf := ww_ip hf c_2
      refine lv_aload_n hx hb dX3_leafFor_11 rfl (lv_at hl 0 rfl) ?_
      refine lv_iload_n hx hb dX3_leafFor_12 rfl (lv_at hl 2 rfl) ?_
      refine lv_aload_n hx hb dX3_leafFor_13 rfl (lv_at hl 0 rfl) ?_
      refine lv_iload_n hx hb dX3_leafFor_14 rfl (lv_at hl 2 rfl) ?_
      refine lv_iload_n hx hb dX3_leafFor_15 rfl (lv_at hl 1 rfl) ?_
      obtain ⟨r_3, h_3, hf⟩ := ww_bS hf
      refine t3c_spotFor X hl.1 hK hD hR hS (Nat.le_trans (Nat.le_of_ble_eq_true rfl) hF) (Nat.le_trans (Nat.le_of_ble_eq_true rfl) hLo) h_3 (Nat.le_of_ble_eq_true rfl) dX3_leafFor_16 (fun H locs hR hS => ?_)
      obtain ⟨r_4, h_4, hf⟩ := ww_bS hf
      refine t3c_child X hl.1 hK hD hR hS (Nat.le_trans (Nat.le_of_ble_eq_true rfl) hF) (Nat.le_trans (Nat.le_of_ble_eq_true rfl) hLo) h_4 (Nat.le_of_ble_eq_true rfl) dX3_leafFor_19 (fun H locs hR hS => ?_)
      refine lv_istore_n (lv' := [(3, .int r_4), (0, .ref E.1), (2, .int x2)]) hx hb dX3_leafFor_22 rfl hl (by decide) rfl (fun ls hl => ?_)
      refine lv_goto (tgt := 2) hx hb dX3_leafFor_23 (by decide) ?_
      exact ww_lK hf hz_1 _ _ _ hR hS (lv_sub hl [1, 2, 0] rfl)
  exact hL_1 x1 hf _ _ _ hR hS (lv_sub hl [1, 3, 0] rfl)
section T3_leafFor_c
variable {p : Program} {l : Launch} {e : Env} {R : Room} {s : State} {m : MethodId} {args : Array Value} {below : List Frame} {meth : Method} {c : Code} {H : Heap} {locs : List Loc} {Q : State → Prop}
variable {cc : ByteArray} {pc : Nat} {ls : Array Slot} {rest : List Value} {nL : Nat} {E : ww_E} {A : Nat → Prop} {H0 : Heap}
theorem t3c_leafFor {M : ww_M} {x1 : Int32} {x2 : Int32} {r : Int32} (X : ww_C p m c cc nL s args RX3 lw_all) (hsz : ls.size = nL) (hK : t3_Kn E s) (hD : t3_D E) (hR : t3_H E M H) (hS : va_S (t3_A E) H0 H locs) (hF : 4 ≤ R.frames) (hLo : 90 ≤ R.locals) (hf : f3_leafFor M x1 x2 = some r) (hrest : (rest.map fun v => v.category).sum ≤ 8) (hdg : decode cc pc = .ok (.invokevirtual 206, 3)) (kk : ∀ (H1 : Heap) (locs1 : List Loc), t3_H E M H1 → va_S (t3_A E) H0 H1 locs1 → W p l e R s m args below meth c H1 locs1 0 0 Q (F0 m (pc + 3) ls (.int r :: rest))) : W p l e R s m args below meth c H locs 0 0 Q (F0 m pc ls (.int x2 :: .int x1 :: .ref E.1 :: rest)) :=
  t3k_leafFor X hsz hK hD hR hS hF hLo (met3_leafFor l hD _ _ _ _ hf) hrest hdg kk
end T3_leafFor_c
noncomputable def f3_spotIn_b1c (M : ww_M) (y1 : Int32) (y2 : Int32) (x3 : Int32) : Option ((Int32) ⊕ (Int32)) :=
  ww_g (ww_i y1 12000) (if (ww_X M 11 y1) ≤ x3 then ww_x (some (-1 : Int32)) else ww_g (ww_i (((7 : Int32) * y1) + x3) 84000) (if (ww_X M 15 (((7 : Int32) * y1) + x3)) = y2 then ww_x (some x3) else some (.inl (x3 + (1 : Int32)))))
noncomputable def f3_spotIn_b1 (M : ww_M) (y1 : Int32) (y2 : Int32) : Int32 → Option ((Int32) ⊕ (Int32)) := fun s9 => f3_spotIn_b1c M y1 y2 s9
noncomputable def f3_spotIn (M : ww_M) (x1 : Int32) (x2 : Int32) : Option (Int32) :=
  ww_U (f3_spotIn_b1 M x1 x2) (0 : Int32)
section T3_spotIn_k
variable {p : Program} {l : Launch} {e : Env} {R : Room} {s : State} {m : MethodId} {args : Array Value} {below : List Frame} {meth : Method} {c : Code} {H : Heap} {locs : List Loc} {Q : State → Prop}
variable {cc : ByteArray} {pc : Nat} {ls : Array Slot} {rest : List Value} {nL : Nat} {E : ww_E} {A : Nat → Prop} {H0 : Heap}
theorem t3k_spotIn {M : ww_M} {x1 : Int32} {x2 : Int32} {r : Int32} (X : ww_C p m c cc nL s args RX3 lw_all) (hsz : ls.size = nL) (hK : t3_Kn E s) (hD : t3_D E) (hR : t3_H E M H) (hS : va_S (t3_A E) H0 H locs) (hF : 1 ≤ R.frames) (hLo : 23 ≤ R.locals) (hM : t3_Met l yX3_spotIn cX3_spotIn 4 (some Jvm.ClassFile.FieldType.int) 0 0 E [.int x1, .int x2] M M r) (hrest : (rest.map fun v => v.category).sum ≤ 8) (hdg : decode cc pc = .ok (.invokevirtual 209, 3)) (kk : ∀ (H1 : Heap) (locs1 : List Loc), t3_H E M H1 → va_S (t3_A E) H0 H1 locs1 → W p l e R s m args below meth c H1 locs1 0 0 Q (F0 m (pc + 3) ls (.int r :: rest))) : W p l e R s m args below meth c H locs 0 0 Q (F0 m pc ls (.int x2 :: .int x1 :: .ref E.1 :: rest)) :=
  t3_callI (n := 2) X hsz hK hR hS (As := [.int x1, .int x2]) hM (lw_V q1999 q2001 qs83 q135 q2002) (by decide +kernel) rfl hF hLo (Nat.zero_le _) (Nat.zero_le _) hrest hdg kk
end T3_spotIn_k
set_option maxHeartbeats 4000000 in
set_option maxRecDepth 100000 in
theorem met3_spotIn (l : Launch) {E : ww_E} (hD : t3_D E) (M : ww_M) (x1 : Int32) (x2 : Int32) (r : Int32) (hf : f3_spotIn M x1 x2 = some r) : t3_Met l yX3_spotIn cX3_spotIn 4 (some Jvm.ClassFile.FieldType.int) 0 0 E [.int x1, .int x2] M M r := by
  unfold f3_spotIn at hf
  refine t3_startP (by decide +kernel) (Nat.le_of_ble_eq_true rfl) ?_
  intro p e s m args below meth c Rm Q X hK hF hLo hend ls hl hR hS
  obtain ⟨hx, hb, hml, hown, hts⟩ := id X
  replace hl : lv_has ls 4 [(0, .ref E.1), (1, .int x1), (2, .int x2)] := hl
  refine lv_iconst (v := (0 : Int32)) hx hb dX3_spotIn_0 (by decide) ?_
  refine lv_istore_n (lv' := [(3, .int (0 : Int32)), (0, .ref E.1), (1, .int x1), (2, .int x2)]) hx hb dX3_spotIn_1 rfl hl (by decide) rfl (fun ls hl => ?_)
  have hL_1 : ∀ s9 : Int32, ww_U (f3_spotIn_b1 M x1 x2) s9 = some r → ∀ (H : Heap) (locs : List Loc) (ls : Array Slot), t3_H E M H → va_S (t3_A E) s.heap H locs → lv_has ls 4 [(0, .ref E.1), (1, .int x1), (2, .int x2), (3, .int s9)] → W p l e Rm s m args below meth c H locs 0 0 Q (F0 m 2 ls []) := by
    refine ww_ind _ r ?_
    intro s9 z_1 hf hz_1 H locs ls hR hS hl
    obtain ⟨x3, e9⟩ : ∃ q9, q9 = s9 := ⟨_, rfl⟩; subst e9
    replace hf : f3_spotIn_b1c M x1 x2 x3 = some z_1 := hf
    unfold f3_spotIn_b1c at hf
    replace hl : lv_has ls 4 [(0, .ref E.1), (1, .int x1), (2, .int x2), (3, .int x3)] := hl
    refine lv_iload_n hx hb dX3_spotIn_2 rfl (lv_at hl 3 rfl) ?_
    refine lv_aload_n hx hb dX3_spotIn_3 rfl (lv_at hl 0 rfl) ?_
    refine t3g_11 X hK hR dX3_spotIn_4 ?_
    refine lv_iload_n hx hb dX3_spotIn_7 rfl (lv_at hl 1 rfl) ?_
    obtain ⟨h_1, hf⟩ := ww_gS hf
    refine t3l_11 X hK hR h_1 dX3_spotIn_8 ?_
    refine lv_icmp_ge (tgt := 35) hx hb dX3_spotIn_9 (by decide) (fun c_2 => ?_) (fun c_2 => ?_)
    · replace hf := ww_ip hf c_2
      replace hf := ww_xK hf hz_1
      refine lv_iconst (v := (-1 : Int32)) hx hb dX3_spotIn_35 (by decide) ?_
      exact hend dX3_spotIn_36 rfl rfl hf hR hS
    · replace hf := ww_in hf c_2
      refine lv_aload_n hx hb dX3_spotIn_12 rfl (lv_at hl 0 rfl) ?_
      refine t3g_15 X hK hR dX3_spotIn_13 ?_
      refine lv_bipush (v := (7 : Int32)) hx hb dX3_spotIn_16 (by decide) ?_
      refine lv_iload_n hx hb dX3_spotIn_18 rfl (lv_at hl 1 rfl) ?_
      refine lv_imul hx hb dX3_spotIn_19 ?_
      refine lv_iload_n hx hb dX3_spotIn_20 rfl (lv_at hl 3 rfl) ?_
      refine lv_iadd hx hb dX3_spotIn_21 ?_
      obtain ⟨h_3, hf⟩ := ww_gS hf
      refine t3l_15 X hK hR h_3 dX3_spotIn_22 ?_
      refine lv_iload_n hx hb dX3_spotIn_23 rfl (lv_at hl 2 rfl) ?_
      refine lv_icmp_ne (tgt := 29) hx hb dX3_spotIn_24 (by decide) (fun c_4 => ?_) (fun c_4 => ?_)
      · replace hf := ww_in hf c_4
        refine lv_iinc (k := 3) (v := x3 + (1 : Int32)) (lv' := [(3, .int (x3 + (1 : Int32))), (0, .ref E.1), (1, .int x1), (2, .int x2)]) hx hb dX3_spotIn_29 hl rfl rfl (by decide) rfl (fun ls hl => ?_)
        refine lv_goto (tgt := 2) hx hb dX3_spotIn_32 (by decide) ?_
        exact ww_lK hf hz_1 _ _ _ hR hS (lv_sub hl [1, 2, 3, 0] rfl)
      · replace hf := ww_ip hf c_4
        replace hf := ww_xK hf hz_1
        refine lv_iload_n hx hb dX3_spotIn_27 rfl (lv_at hl 3 rfl) ?_
        exact hend dX3_spotIn_28 rfl rfl hf hR hS
  exact hL_1 (0 : Int32) hf _ _ _ hR hS (lv_sub hl [1, 2, 3, 0] rfl)
section T3_spotIn_c
variable {p : Program} {l : Launch} {e : Env} {R : Room} {s : State} {m : MethodId} {args : Array Value} {below : List Frame} {meth : Method} {c : Code} {H : Heap} {locs : List Loc} {Q : State → Prop}
variable {cc : ByteArray} {pc : Nat} {ls : Array Slot} {rest : List Value} {nL : Nat} {E : ww_E} {A : Nat → Prop} {H0 : Heap}
theorem t3c_spotIn {M : ww_M} {x1 : Int32} {x2 : Int32} {r : Int32} (X : ww_C p m c cc nL s args RX3 lw_all) (hsz : ls.size = nL) (hK : t3_Kn E s) (hD : t3_D E) (hR : t3_H E M H) (hS : va_S (t3_A E) H0 H locs) (hF : 1 ≤ R.frames) (hLo : 23 ≤ R.locals) (hf : f3_spotIn M x1 x2 = some r) (hrest : (rest.map fun v => v.category).sum ≤ 8) (hdg : decode cc pc = .ok (.invokevirtual 209, 3)) (kk : ∀ (H1 : Heap) (locs1 : List Loc), t3_H E M H1 → va_S (t3_A E) H0 H1 locs1 → W p l e R s m args below meth c H1 locs1 0 0 Q (F0 m (pc + 3) ls (.int r :: rest))) : W p l e R s m args below meth c H locs 0 0 Q (F0 m pc ls (.int x2 :: .int x1 :: .ref E.1 :: rest)) :=
  t3k_spotIn X hsz hK hD hR hS hF hLo (met3_spotIn l hD _ _ _ _ hf) hrest hdg kk
end T3_spotIn_c
noncomputable def f3_valueAt (M : ww_M) (x1 : Int32) (x2 : Int32) : Option (Int32) :=
  ww_b (f3_leafFor M x1 x2) (fun r_1 => ww_b (f3_spotIn M r_1 x2) (fun r_2 => if r_2 = (-1 : Int32) then some (-1000000 : Int32) else ww_g (ww_i (((7 : Int32) * r_1) + r_2) 84000) (some (ww_X M 16 (((7 : Int32) * r_1) + r_2)))))
section T3_valueAt_k
variable {p : Program} {l : Launch} {e : Env} {R : Room} {s : State} {m : MethodId} {args : Array Value} {below : List Frame} {meth : Method} {c : Code} {H : Heap} {locs : List Loc} {Q : State → Prop}
variable {cc : ByteArray} {pc : Nat} {ls : Array Slot} {rest : List Value} {nL : Nat} {E : ww_E} {A : Nat → Prop} {H0 : Heap}
theorem t3k_valueAt {M : ww_M} {x1 : Int32} {x2 : Int32} {r : Int32} (X : ww_C p m c cc nL s args RX3 lw_all) (hsz : ls.size = nL) (hK : t3_Kn E s) (hD : t3_D E) (hR : t3_H E M H) (hS : va_S (t3_A E) H0 H locs) (hF : 5 ≤ R.frames) (hLo : 114 ≤ R.locals) (hM : t3_Met l yX3_valueAt cX3_valueAt 5 (some Jvm.ClassFile.FieldType.int) 4 90 E [.int x1, .int x2] M M r) (hrest : (rest.map fun v => v.category).sum ≤ 8) (hdg : decode cc pc = .ok (.invokevirtual 218, 3)) (kk : ∀ (H1 : Heap) (locs1 : List Loc), t3_H E M H1 → va_S (t3_A E) H0 H1 locs1 → W p l e R s m args below meth c H1 locs1 0 0 Q (F0 m (pc + 3) ls (.int r :: rest))) : W p l e R s m args below meth c H locs 0 0 Q (F0 m pc ls (.int x2 :: .int x1 :: .ref E.1 :: rest)) :=
  t3_callI (n := 2) X hsz hK hR hS (As := [.int x1, .int x2]) hM (lw_V q1983 q1985 qs79 q135 q1986) (by decide +kernel) rfl hF hLo (Nat.zero_le _) (Nat.zero_le _) hrest hdg kk
end T3_valueAt_k
set_option maxHeartbeats 4000000 in
set_option maxRecDepth 100000 in
theorem met3_valueAt (l : Launch) {E : ww_E} (hD : t3_D E) (M : ww_M) (x1 : Int32) (x2 : Int32) (r : Int32) (hf : f3_valueAt M x1 x2 = some r) : t3_Met l yX3_valueAt cX3_valueAt 5 (some Jvm.ClassFile.FieldType.int) 4 90 E [.int x1, .int x2] M M r := by
  unfold f3_valueAt at hf
  refine t3_startP (by decide +kernel) (Nat.le_of_ble_eq_true rfl) ?_
  intro p e s m args below meth c Rm Q X hK hF hLo hend ls hl hR hS
  obtain ⟨hx, hb, hml, hown, hts⟩ := id X
  replace hl : lv_has ls 5 [(0, .ref E.1), (1, .int x1), (2, .int x2)] := hl
  refine lv_aload_n hx hb dX3_valueAt_0 rfl (lv_at hl 0 rfl) ?_
  refine lv_iload_n hx hb dX3_valueAt_1 rfl (lv_at hl 1 rfl) ?_
  refine lv_iload_n hx hb dX3_valueAt_2 rfl (lv_at hl 2 rfl) ?_
  obtain ⟨r_1, h_1, hf⟩ := ww_bS hf
  refine t3c_leafFor X hl.1 hK hD hR hS (Nat.le_trans (Nat.le_of_ble_eq_true rfl) hF) (Nat.le_trans (Nat.le_of_ble_eq_true rfl) hLo) h_1 (Nat.le_of_ble_eq_true rfl) dX3_valueAt_3 (fun H locs hR hS => ?_)
  refine lv_istore_n (lv' := [(3, .int r_1), (0, .ref E.1), (1, .int x1), (2, .int x2)]) hx hb dX3_valueAt_6 rfl hl (by decide) rfl (fun ls hl => ?_)
  refine lv_aload_n hx hb dX3_valueAt_7 rfl (lv_at hl 1 rfl) ?_
  refine lv_iload_n hx hb dX3_valueAt_8 rfl (lv_at hl 0 rfl) ?_
  refine lv_iload_n hx hb dX3_valueAt_9 rfl (lv_at hl 3 rfl) ?_
  obtain ⟨r_2, h_2, hf⟩ := ww_bS hf
  refine t3c_spotIn X hl.1 hK hD hR hS (Nat.le_trans (Nat.le_of_ble_eq_true rfl) hF) (Nat.le_trans (Nat.le_of_ble_eq_true rfl) hLo) h_2 (Nat.le_of_ble_eq_true rfl) dX3_valueAt_10 (fun H locs hR hS => ?_)
  refine lv_istore (lv' := [(4, .int r_2), (3, .int r_1), (0, .ref E.1), (1, .int x1), (2, .int x2)]) hx hb dX3_valueAt_13 hl (by decide) rfl (fun ls hl => ?_)
  refine lv_iload hx hb dX3_valueAt_15 (lv_at hl 0 rfl) ?_
  refine lv_iconst (v := (-1 : Int32)) hx hb dX3_valueAt_17 (by decide) ?_
  refine lv_icmp_ne (tgt := 26) hx hb dX3_valueAt_18 (by decide) (fun c_3 => ?_) (fun c_3 => ?_)
  · replace hf := ww_in hf c_3
    refine lv_aload_n hx hb dX3_valueAt_26 rfl (lv_at hl 2 rfl) ?_
    refine t3g_16 X hK hR dX3_valueAt_27 ?_
    refine lv_bipush (v := (7 : Int32)) hx hb dX3_valueAt_30 (by decide) ?_
    refine lv_iload_n hx hb dX3_valueAt_32 rfl (lv_at hl 1 rfl) ?_
    refine lv_imul hx hb dX3_valueAt_33 ?_
    refine lv_iload hx hb dX3_valueAt_34 (lv_at hl 0 rfl) ?_
    refine lv_iadd hx hb dX3_valueAt_36 ?_
    obtain ⟨h_4, hf⟩ := ww_gS hf
    refine t3l_16 X hK hR h_4 dX3_valueAt_37 ?_
    exact hend dX3_valueAt_38 rfl rfl hf hR hS
  · replace hf := ww_ip hf c_3
    refine lv_ldc (v := (-1000000 : Int32)) hx hb hown (hts _ q1942) dX3_valueAt_21 ?_
    refine lv_goto (tgt := 38) hx hb dX3_valueAt_23 (by decide) ?_
    exact hend dX3_valueAt_38 rfl rfl hf hR hS
section T3_valueAt_c
variable {p : Program} {l : Launch} {e : Env} {R : Room} {s : State} {m : MethodId} {args : Array Value} {below : List Frame} {meth : Method} {c : Code} {H : Heap} {locs : List Loc} {Q : State → Prop}
variable {cc : ByteArray} {pc : Nat} {ls : Array Slot} {rest : List Value} {nL : Nat} {E : ww_E} {A : Nat → Prop} {H0 : Heap}
theorem t3c_valueAt {M : ww_M} {x1 : Int32} {x2 : Int32} {r : Int32} (X : ww_C p m c cc nL s args RX3 lw_all) (hsz : ls.size = nL) (hK : t3_Kn E s) (hD : t3_D E) (hR : t3_H E M H) (hS : va_S (t3_A E) H0 H locs) (hF : 5 ≤ R.frames) (hLo : 114 ≤ R.locals) (hf : f3_valueAt M x1 x2 = some r) (hrest : (rest.map fun v => v.category).sum ≤ 8) (hdg : decode cc pc = .ok (.invokevirtual 218, 3)) (kk : ∀ (H1 : Heap) (locs1 : List Loc), t3_H E M H1 → va_S (t3_A E) H0 H1 locs1 → W p l e R s m args below meth c H1 locs1 0 0 Q (F0 m (pc + 3) ls (.int r :: rest))) : W p l e R s m args below meth c H locs 0 0 Q (F0 m pc ls (.int x2 :: .int x1 :: .ref E.1 :: rest)) :=
  t3k_valueAt X hsz hK hD hR hS hF hLo (met3_valueAt l hD _ _ _ _ hf) hrest hdg kk
end T3_valueAt_c
