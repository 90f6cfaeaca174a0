noncomputable def f8_close_b1c (y0 : Nat) (D_1 : cw_D) (x2 : Int32) : Option ((cw_D × Int32) ⊕ (cw_D)) :=
  ww_b (cw_gI D_1 [2] y0 1) (fun r_2 => if (r_2 - (1 : Int32)) ≤ x2 then ww_x (ww_b (cw_gI D_1 [2] y0 1) (fun r_4 => ww_b (cw_p D_1 [2] y0 1 (.int (r_4 - (1 : Int32)))) (fun D_5 => ww_b (cw_gR D_5 [2] y0 3) (fun r_6 => ww_b (cw_gI D_5 [2] y0 1) (fun r_7 => ww_b r_6 (fun a_8 => ww_b (cw_tR D_5 a_8 r_7 none) (fun D_9 => some D_9))))))) else ww_b (cw_gR D_1 [2] y0 3) (fun r_10 => ww_b (cw_gR D_1 [2] y0 3) (fun r_11 => ww_b r_11 (fun a_13 => ww_b (cw_xR D_1 a_13 (x2 + (1 : Int32))) (fun r_12 => ww_b r_10 (fun a_14 => ww_b (cw_tR D_1 a_14 x2 r_12) (fun D_15 => some (.inl (D_15, (x2 + (1 : Int32)))))))))))
noncomputable def f8_close_b1 (y0 : Nat) : (cw_D × Int32) → Option ((cw_D × Int32) ⊕ (cw_D)) := fun s9 => f8_close_b1c y0 s9.1 s9.2
noncomputable def f8_close (D : cw_D) (a0 : Nat) (x1 : Int32) : Option (cw_D) :=
  ww_U (f8_close_b1 a0) (D, x1)
section C_8_close_k
variable {p : Program} {l : Launch} {e : Env} {R : Room} {s : State} {m : MethodId} {args : Array Value} {below : List Frame} {meth : Method} {c : Code} {H : Heap} {locs : List Loc} {cells slots : Nat} {Q : State → Prop}
variable {cc : ByteArray} {pc : Nat} {ls : Array Slot} {rest : List Value} {nL : Nat} {E : cw_E} {A : Nat → Prop} {H0 : Heap}
theorem c8k_8_close {D : cw_D} {a0 : Nat} {x1 : Int32} {D' : cw_D} (X : ww_C p m c cc nL s args RX8 lw_all) (hsz : ls.size = nL) (hK : cw_K E A s) (hR : cw_H E A D H) (hS : va_S A s.heap H locs) (hF : 1 ≤ R.frames) (hLo : 22 ≤ R.locals) (hc : cells ≤ R.cells) (hs : slots ≤ R.slots) (hkd : cw_kd D [2] (some a0) = true) (hM : cw_MetV l yX8_close cX8_close 3 0 0 E A [.ref a0, .int x1] D D' 0 0) (hrest : (rest.map fun v => v.category).sum ≤ 8) (hdg : decode cc pc = .ok (.invokevirtual 68, 3)) (kk : ∀ (H1 : Heap) (locs1 : List Loc), cw_H E A D' H1 → va_S A s.heap H1 locs1 → W p l e R s m args below meth c H1 locs1 cells slots Q (F0 m (pc + 3) ls (rest))) : W p l e R s m args below meth c H locs cells slots Q (F0 m pc ls (.int x1 :: .ref a0 :: rest)) :=
  va_callv (va_runV (C := RX8) (As := [.int x1]) (rest := rest) (b := a0) X hM (cwV 1 X.2.2.2.2 (lw_V q1259 q1261 qs36 q155 q1262) rfl rfl rfl (by decide +kernel) ⟨hF, hLo⟩) (cw_pV hK hR hS (cw_rc (k := 2) (C := RX8) (T := TX8) (N := 4) rfl (by decide) hK hR hkd)) rfl rfl hsz rfl (lv_room hrest) hdg ⟨hc, hs⟩) hS (fun q _ h => h) (fun q h => h) (fun u t H1 locs1 ht hvm hw hB hz1 hk1 hS1 => by rw [ht] at hB; exact kk H1 locs1 hB hS1)
end C_8_close_k
set_option maxHeartbeats 4000000 in
set_option maxRecDepth 100000 in
theorem met8_close (l : Launch) {E : cw_E} {A : Nat → Prop} (D : cw_D) (a0 : Nat) (x1 : Int32) (D' : cw_D) (hf : f8_close D a0 x1 = some D') : cw_MetV l yX8_close cX8_close 3 0 0 E A [.ref a0, .int x1] D D' 0 0 := by
  unfold f8_close at hf
  refine cw_sVD (own := RX8) (by decide +kernel) [(0, .ref a0), (1, .int x1)] ⟨Nat.le_of_ble_eq_true rfl, rfl⟩ ?_
  intro p e s m args below meth c Rm Q X hK hF hLo hin hend ls hl hR hS
  obtain ⟨hx, hb, hml, hown, hts⟩ := id X
  refine lv_iload_n hx hb dX8_close_0 rfl (lv_at hl 1 rfl) ?_
  refine lv_istore_n (lv' := [(2, .int x1), (0, .ref a0), (1, .int x1)]) hx hb dX8_close_1 rfl hl (by decide) rfl (fun ls hl => ?_)
  have hL_1 : ∀ s9 : cw_D × Int32, ww_U (f8_close_b1 a0) s9 = some D' → ∀ (H : Heap) (locs : List Loc) (ls : Array Slot), cw_H E A s9.1 H → va_S A s.heap H locs → lv_has ls 3 [(0, .ref a0), (2, .int s9.2)] → W p l e Rm s m args below meth c H locs 0 0 Q (F0 m 2 ls []) := by
    clear hf
    refine ww_ind _ D' ?_
    intro s9 z_1 hf hz_1
    obtain ⟨D_1, x2⟩ := s9
    replace hf : f8_close_b1c a0 D_1 x2 = some z_1 := hf
    unfold f8_close_b1c at hf
    try clear hl
    try clear hS
    try clear hR
    intro H locs ls hR hS hl
    replace hR : cw_H E A D_1 H := hR
    replace hl : lv_has ls 3 [(0, .ref a0), (2, .int x2)] := hl
    refine lv_iload_n hx hb dX8_close_2 rfl (lv_at hl 1 rfl) ?_
    refine lv_aload_n hx hb dX8_close_3 rfl (lv_at hl 0 rfl) ?_
    obtain ⟨r_2, h_2, hq⟩ := ww_bS hf; replace hf := hq; clear hq
    refine c8g_22 X hK hR h_2 dX8_close_4 ?_
    refine lv_iconst (v := (1 : Int32)) hx hb dX8_close_7 (by decide) ?_
    refine lv_isub hx hb dX8_close_8 ?_
    refine lv_icmp_ge (tgt := 32) hx hb dX8_close_9 (by decide) (fun c_3 => ?_) (fun c_3 => ?_)
    · replace hf := ww_ip hf c_3
      replace hf := ww_xK hf hz_1
      refine lv_aload_n hx hb dX8_close_32 rfl (lv_at hl 0 rfl) ?_
      refine lv_dup hx hb dX8_close_33 rfl ?_
      obtain ⟨r_4, h_4, hq⟩ := ww_bS hf; replace hf := hq; clear hq
      refine c8g_22 X hK hR h_4 dX8_close_34 ?_
      refine lv_iconst (v := (1 : Int32)) hx hb dX8_close_37 (by decide) ?_
      refine lv_isub hx hb dX8_close_38 ?_
      obtain ⟨D_5, h_5, hq⟩ := ww_bS hf; replace hf := hq; clear hq
      refine c8p_22 X hK hR hS h_5 dX8_close_39 (fun H locs hR hS => ?_)
      refine lv_aload_n hx hb dX8_close_42 rfl (lv_at hl 0 rfl) ?_
      obtain ⟨r_6, h_6, hq⟩ := ww_bS hf; replace hf := hq; clear hq
      refine c8g_9 X hK hR h_6 dX8_close_43 ?_
      refine lv_aload_n hx hb dX8_close_46 rfl (lv_at hl 0 rfl) ?_
      obtain ⟨r_7, h_7, hq⟩ := ww_bS hf; replace hf := hq; clear hq
      refine c8g_22 X hK hR h_7 dX8_close_47 ?_
      refine lv_null hx hb dX8_close_50 ?_
      obtain ⟨a_8, e_8, hq⟩ := ww_bS hf; replace hf := hq; clear hq
      subst e_8
      obtain ⟨D_9, h_9, hq⟩ := ww_bS hf; replace hf := hq; clear hq
      refine cw_otR (x' := some a_8) (v := none) X hK hR hS rfl h_9 dX8_close_51 (fun H locs hR hS => ?_)
      exact hend dX8_close_52 hf hR hS
    · replace hf := ww_in hf c_3
      refine lv_aload_n hx hb dX8_close_12 rfl (lv_at hl 0 rfl) ?_
      obtain ⟨r_10, h_10, hq⟩ := ww_bS hf; replace hf := hq; clear hq
      refine c8g_9 X hK hR h_10 dX8_close_13 ?_
      refine lv_iload_n hx hb dX8_close_16 rfl (lv_at hl 1 rfl) ?_
      refine lv_aload_n hx hb dX8_close_17 rfl (lv_at hl 0 rfl) ?_
      obtain ⟨r_11, h_11, hq⟩ := ww_bS hf; replace hf := hq; clear hq
      refine c8g_9 X hK hR h_11 dX8_close_18 ?_
      refine lv_iload_n hx hb dX8_close_21 rfl (lv_at hl 1 rfl) ?_
      refine lv_iconst (v := (1 : Int32)) hx hb dX8_close_22 (by decide) ?_
      refine lv_iadd hx hb dX8_close_23 ?_
      obtain ⟨a_13, e_13, hq⟩ := ww_bS hf; replace hf := hq; clear hq
      subst e_13
      obtain ⟨r_12, h_12, hq⟩ := ww_bS hf; replace hf := hq; clear hq
      refine cw_oxR (x := some a_13) X hK hR rfl h_12 dX8_close_24 ?_
      obtain ⟨a_14, e_14, hq⟩ := ww_bS hf; replace hf := hq; clear hq
      subst e_14
      obtain ⟨D_15, h_15, hq⟩ := ww_bS hf; replace hf := hq; clear hq
      refine cw_otR (x' := some a_14) (v := r_12) X hK hR hS rfl h_15 dX8_close_25 (fun H locs hR hS => ?_)
      refine lv_iinc (k := 1) (v := x2 + (1 : Int32)) (lv' := [(2, .int (x2 + (1 : Int32))), (0, .ref a0)]) hx hb dX8_close_26 hl rfl rfl (by decide) rfl (fun ls hl => ?_)
      refine lv_goto (tgt := 2) hx hb dX8_close_29 (by decide) ?_
      exact ww_lK hf hz_1 _ _ _ hR hS (lv_sub hl [1, 0] rfl)
  exact hL_1 (D, x1) hf _ _ _ hR hS (lv_sub hl [1, 0] rfl)
section C_8_close_c
variable {p : Program} {l : Launch} {e : Env} {R : Room} {s : State} {m : MethodId} {args : Array Value} {below : List Frame} {meth : Method} {c : Code} {H : Heap} {locs : List Loc} {cells slots : Nat} {Q : State → Prop}
variable {cc : ByteArray} {pc : Nat} {ls : Array Slot} {rest : List Value} {nL : Nat} {E : cw_E} {A : Nat → Prop} {H0 : Heap}
theorem c8c_8_close {D : cw_D} {a0 : Nat} {x1 : Int32} {D' : cw_D} (X : ww_C p m c cc nL s args RX8 lw_all) (hsz : ls.size = nL) (hK : cw_K E A s) (hR : cw_H E A D H) (hS : va_S A s.heap H locs) (hF : 1 ≤ R.frames) (hLo : 22 ≤ R.locals) (hc : cells ≤ R.cells) (hs : slots ≤ R.slots) (hkd : cw_kd D [2] (some a0) = true) (hf : f8_close D a0 x1 = some D') (hrest : (rest.map fun v => v.category).sum ≤ 8) (hdg : decode cc pc = .ok (.invokevirtual 68, 3)) (kk : ∀ (H1 : Heap) (locs1 : List Loc), cw_H E A D' H1 → va_S A s.heap H1 locs1 → W p l e R s m args below meth c H1 locs1 cells slots Q (F0 m (pc + 3) ls (rest))) : W p l e R s m args below meth c H locs cells slots Q (F0 m pc ls (.int x1 :: .ref a0 :: rest)) :=
  c8k_8_close X hsz hK hR hS hF hLo hc hs hkd (met8_close l _ _ _ _ hf) hrest hdg kk
end C_8_close_c
noncomputable def f8_lastOf (D : cw_D) (a0 : Nat) (x1 : Option Nat) : Option (cw_D) :=
  ww_b x1 (fun a_1 => ww_g (cw_kd D [2] (some a_1)) (ww_g (cw_kd D [2] (some a0)) (ww_b (f8_makeRoom D a0 (0 : Int32)) (fun D_4 => ww_b (cw_gR D_4 [2] a0 3) (fun r_5 => ww_b (cw_gR D_4 [2] a_1 3) (fun r_6 => ww_b (cw_gI D_4 [2] a_1 1) (fun r_7 => ww_b r_6 (fun a_9 => ww_b (cw_xR D_4 a_9 (r_7 - (1 : Int32))) (fun r_8 => ww_b r_5 (fun a_10 => ww_b (cw_tR D_4 a_10 (0 : Int32) r_8) (fun D_11 => ww_b (cw_gI D_11 [2] a_1 1) (fun r_12 => ww_g (cw_kd D_11 [2] (some a_1)) (ww_b (f8_close D_11 a_1 (r_12 - (1 : Int32))) (fun D_14 => some D_14))))))))))))))
set_option maxHeartbeats 4000000 in
set_option maxRecDepth 100000 in
theorem met8_lastOf (l : Launch) {E : cw_E} {A : Nat → Prop} (D : cw_D) (a0 : Nat) (x1 : Option Nat) (D' : cw_D) (hf : f8_lastOf D a0 x1 = some D') : cw_MetV l yX8_lastOf cX8_lastOf 3 1 22 E A [.ref a0, va_rf x1] D D' 0 0 := by
  unfold f8_lastOf at hf
  refine cw_sVD (own := RX8) (by decide +kernel) [(0, .ref a0), (1, va_rf x1)] ⟨by cases x1 <;> exact Nat.le_of_ble_eq_true rfl, by cases x1 <;> rfl⟩ ?_
  intro p e s m args below meth c Rm Q X hK hF hLo hin hend ls hl hR hS
  obtain ⟨hx, hb, hml, hown, hts⟩ := id X
  refine cw_aload_n (x := x1) hx hb dX8_lastOf_0 rfl (lv_at hl 1 rfl) ?_
  obtain ⟨a_1, e_1, hq⟩ := ww_bS hf; replace hf := hq; clear hq
  subst e_1
  obtain ⟨h_2, hq⟩ := ww_gS hf; replace hf := hq; clear hq
  refine va_castS hx hb hown (hts _ q1012) (cw_cls (k := 2) (T := TX8) (N := 4) rfl hK) (cw_rc (k := 2) (C := RX8) (T := TX8) (N := 4) rfl (by decide) hK hR h_2) dX8_lastOf_1 ?_
  refine lv_astore_n (lv' := [(2, .ref a_1), (0, .ref a0), (1, .ref a_1)]) hx hb dX8_lastOf_4 rfl hl (by decide) rfl (fun ls hl => ?_)
  refine lv_aload_n hx hb dX8_lastOf_5 rfl (lv_at hl 1 rfl) ?_
  refine lv_iconst (v := (0 : Int32)) hx hb dX8_lastOf_6 (by decide) ?_
  obtain ⟨h_3, hq⟩ := ww_gS hf; replace hf := hq; clear hq
  obtain ⟨D_4, h_4, hq⟩ := ww_bS hf; replace hf := hq; clear hq
  refine c8c_8_makeRoom X hl.1 hK hR hS (Nat.le_trans (Nat.le_of_ble_eq_true rfl) hF) (Nat.le_trans (Nat.le_of_ble_eq_true rfl) hLo) (Nat.zero_le _) (Nat.zero_le _) h_3 h_4 (cw_rest (Nat.le_of_ble_eq_true rfl)) dX8_lastOf_7 (fun H locs hR hS => ?_)
  refine lv_aload_n hx hb dX8_lastOf_10 rfl (lv_at hl 1 rfl) ?_
  obtain ⟨r_5, h_5, hq⟩ := ww_bS hf; replace hf := hq; clear hq
  refine c8g_9 X hK hR h_5 dX8_lastOf_11 ?_
  refine lv_iconst (v := (0 : Int32)) hx hb dX8_lastOf_14 (by decide) ?_
  refine lv_aload_n hx hb dX8_lastOf_15 rfl (lv_at hl 0 rfl) ?_
  obtain ⟨r_6, h_6, hq⟩ := ww_bS hf; replace hf := hq; clear hq
  refine c8g_9 X hK hR h_6 dX8_lastOf_16 ?_
  refine lv_aload_n hx hb dX8_lastOf_19 rfl (lv_at hl 0 rfl) ?_
  obtain ⟨r_7, h_7, hq⟩ := ww_bS hf; replace hf := hq; clear hq
  refine c8g_22 X hK hR h_7 dX8_lastOf_20 ?_
  refine lv_iconst (v := (1 : Int32)) hx hb dX8_lastOf_23 (by decide) ?_
  refine lv_isub hx hb dX8_lastOf_24 ?_
  obtain ⟨a_9, e_9, hq⟩ := ww_bS hf; replace hf := hq; clear hq
  subst e_9
  obtain ⟨r_8, h_8, hq⟩ := ww_bS hf; replace hf := hq; clear hq
  refine cw_oxR (x := some a_9) X hK hR rfl h_8 dX8_lastOf_25 ?_
  obtain ⟨a_10, e_10, hq⟩ := ww_bS hf; replace hf := hq; clear hq
  subst e_10
  obtain ⟨D_11, h_11, hq⟩ := ww_bS hf; replace hf := hq; clear hq
  refine cw_otR (x' := some a_10) (v := r_8) X hK hR hS rfl h_11 dX8_lastOf_26 (fun H locs hR hS => ?_)
  refine lv_aload_n hx hb dX8_lastOf_27 rfl (lv_at hl 0 rfl) ?_
  refine lv_aload_n hx hb dX8_lastOf_28 rfl (lv_at hl 0 rfl) ?_
  obtain ⟨r_12, h_12, hq⟩ := ww_bS hf; replace hf := hq; clear hq
  refine c8g_22 X hK hR h_12 dX8_lastOf_29 ?_
  refine lv_iconst (v := (1 : Int32)) hx hb dX8_lastOf_32 (by decide) ?_
  refine lv_isub hx hb dX8_lastOf_33 ?_
  obtain ⟨h_13, hq⟩ := ww_gS hf; replace hf := hq; clear hq
  obtain ⟨D_14, h_14, hq⟩ := ww_bS hf; replace hf := hq; clear hq
  refine c8c_8_close X hl.1 hK hR hS (Nat.le_trans (Nat.le_of_ble_eq_true rfl) hF) (Nat.le_trans (Nat.le_of_ble_eq_true rfl) hLo) (Nat.zero_le _) (Nat.zero_le _) h_13 h_14 (cw_rest (Nat.le_of_ble_eq_true rfl)) dX8_lastOf_34 (fun H locs hR hS => ?_)
  exact hend dX8_lastOf_37 hf hR hS
noncomputable def f5r_lastOf (r8 : cw_D → Nat → Option Nat → Option (cw_D)) : cw_D → Nat → Option Nat → Option (cw_D) := fun D a x1 =>
  if cw_kd D [1] (some a) = true then f7_lastOf D a x1 else if cw_kd D [2] (some a) = true then r8 D a x1 else none
section C_8_lastOf_i
variable {p : Program} {l : Launch} {e : Env} {R : Room} {s : State} {m : MethodId} {args : Array Value} {below : List Frame} {meth : Method} {c : Code} {H : Heap} {locs : List Loc} {cells slots : Nat} {Q : State → Prop}
variable {cc : ByteArray} {pc : Nat} {ls : Array Slot} {rest : List Value} {nL : Nat} {E : cw_E} {A : Nat → Prop} {H0 : Heap}
theorem c8i_lastOf {D : cw_D} {a0 : Nat} {x1 : Option Nat} {D' : cw_D} (X : ww_C p m c cc nL s args RX8 lw_all) (hsz : ls.size = nL) (hK : cw_K E A s) (hR : cw_H E A D H) (hS : va_S A s.heap H locs) (hF : 3 ≤ R.frames) (hLo : 67 ≤ R.locals) (hc : cells ≤ R.cells) (hs : slots ≤ R.slots) (hf : f5r_lastOf f8_lastOf D a0 x1 = some D') (hrest : (rest.map fun v => v.category).sum ≤ 8) {count : Nat} (hdg : decode cc pc = .ok (.invokeinterface 58 count, 5)) (kk : ∀ (H1 : Heap) (locs1 : List Loc), cw_H E A D' H1 → va_S A s.heap H1 locs1 → W p l e R s m args below meth c H1 locs1 cells slots Q (F0 m (pc + 5) ls (rest))) : W p l e R s m args below meth c H locs cells slots Q (F0 m pc ls (va_rf x1 :: .ref a0 :: rest)) := by
  unfold f5r_lastOf at hf
  by_cases hkd : cw_kd D [1] (some a0) = true
  · rw [if_pos hkd] at hf
    exact va_callFv (va_runF (C := RX7) (x := ⟨"WideMap$Node", "lastOf", "(LWideMap$Node;)V"⟩) (As := [va_rf x1]) (rest := rest) (b := a0) (cw_cls (k := 1) (C := RX7) (T := TX7) (N := 5) rfl hK) X (met7_lastOf l _ _ _ _ hf) (va_cwF 1 X.2.2.2.2 (cw_F q1251 q1263 q1265 q154 q1267) rfl rfl rfl (hK.2.2.2.1 ("WideMap$Leaf", ⟨"WideMap$Node", "lastOf", "(LWideMap$Node;)V"⟩, ⟨"WideMap$Leaf", "lastOf", "(LWideMap$Node;)V"⟩) (by decide +kernel)) (by decide +kernel) ⟨(show 3 ≤ R.frames by omega), (show 67 ≤ R.locals by omega)⟩) (cw_pV hK hR hS (cw_rc (k := 1) (C := RX7) (T := TX7) (N := 5) rfl (by decide) hK hR hkd)) rfl rfl hsz rfl (lv_room hrest) hdg ⟨hc, hs⟩) hS (fun q _ h => h) (fun q h => h) (fun u t H1 locs1 ht hvm hw hB hz1 hk1 hS1 => by rw [ht] at hB; exact kk H1 locs1 hB hS1)
  · rw [if_neg hkd] at hf
    by_cases hkd : cw_kd D [2] (some a0) = true
    · rw [if_pos hkd] at hf
      exact va_callFv (va_runF (C := RX8) (x := ⟨"WideMap$Node", "lastOf", "(LWideMap$Node;)V"⟩) (As := [va_rf x1]) (rest := rest) (b := a0) (cw_cls (k := 2) (C := RX8) (T := TX8) (N := 4) rfl hK) X (met8_lastOf l _ _ _ _ hf) (va_cwF 1 X.2.2.2.2 (cw_F q1251 q1254 q1256 q155 q1258) rfl rfl rfl (hK.2.2.2.1 ("WideMap$Inner", ⟨"WideMap$Node", "lastOf", "(LWideMap$Node;)V"⟩, ⟨"WideMap$Inner", "lastOf", "(LWideMap$Node;)V"⟩) (by decide +kernel)) (by decide +kernel) ⟨(show 2 ≤ R.frames by omega), (show 44 ≤ R.locals by omega)⟩) (cw_pV hK hR hS (cw_rc (k := 2) (C := RX8) (T := TX8) (N := 4) rfl (by decide) hK hR hkd)) rfl rfl hsz rfl (lv_room hrest) hdg ⟨hc, hs⟩) hS (fun q _ h => h) (fun q h => h) (fun u t H1 locs1 ht hvm hw hB hz1 hk1 hS1 => by rw [ht] at hB; exact kk H1 locs1 hB hS1)
    · rw [if_neg hkd] at hf
      cases hf
end C_8_lastOf_i
noncomputable def f8_firstOf (D : cw_D) (a0 : Nat) (x1 : Option Nat) : Option (cw_D) :=
  ww_b x1 (fun a_1 => ww_g (cw_kd D [2] (some a_1)) (ww_b (cw_gR D [2] a0 3) (fun r_3 => ww_b (cw_gI D [2] a0 1) (fun r_4 => ww_b (cw_gR D [2] a_1 3) (fun r_5 => ww_b r_5 (fun a_7 => ww_b (cw_xR D a_7 (0 : Int32)) (fun r_6 => ww_b r_3 (fun a_8 => ww_b (cw_tR D a_8 r_4 r_6) (fun D_9 => ww_b (cw_gI D_9 [2] a0 1) (fun r_10 => ww_b (cw_p D_9 [2] a0 1 (.int (r_10 + (1 : Int32)))) (fun D_11 => ww_g (cw_kd D_11 [2] (some a_1)) (ww_b (f8_close D_11 a_1 (0 : Int32)) (fun D_13 => some D_13)))))))))))))
set_option maxHeartbeats 4000000 in
set_option maxRecDepth 100000 in
theorem met8_firstOf (l : Launch) {E : cw_E} {A : Nat → Prop} (D : cw_D) (a0 : Nat) (x1 : Option Nat) (D' : cw_D) (hf : f8_firstOf D a0 x1 = some D') : cw_MetV l yX8_firstOf cX8_firstOf 3 1 22 E A [.ref a0, va_rf x1] D D' 0 0 := by
  unfold f8_firstOf at hf
  refine cw_sVD (own := RX8) (by decide +kernel) [(0, .ref a0), (1, va_rf x1)] ⟨by cases x1 <;> exact Nat.le_of_ble_eq_true rfl, by cases x1 <;> rfl⟩ ?_
  intro p e s m args below meth c Rm Q X hK hF hLo hin hend ls hl hR hS
  obtain ⟨hx, hb, hml, hown, hts⟩ := id X
  refine cw_aload_n (x := x1) hx hb dX8_firstOf_0 rfl (lv_at hl 1 rfl) ?_
  obtain ⟨a_1, e_1, hq⟩ := ww_bS hf; replace hf := hq; clear hq
  subst e_1
  obtain ⟨h_2, hq⟩ := ww_gS hf; replace hf := hq; clear hq
  refine va_castS hx hb hown (hts _ q1012) (cw_cls (k := 2) (T := TX8) (N := 4) rfl hK) (cw_rc (k := 2) (C := RX8) (T := TX8) (N := 4) rfl (by decide) hK hR h_2) dX8_firstOf_1 ?_
  refine lv_astore_n (lv' := [(2, .ref a_1), (0, .ref a0), (1, .ref a_1)]) hx hb dX8_firstOf_4 rfl hl (by decide) rfl (fun ls hl => ?_)
  refine lv_aload_n hx hb dX8_firstOf_5 rfl (lv_at hl 1 rfl) ?_
  obtain ⟨r_3, h_3, hq⟩ := ww_bS hf; replace hf := hq; clear hq
  refine c8g_9 X hK hR h_3 dX8_firstOf_6 ?_
  refine lv_aload_n hx hb dX8_firstOf_9 rfl (lv_at hl 1 rfl) ?_
  obtain ⟨r_4, h_4, hq⟩ := ww_bS hf; replace hf := hq; clear hq
  refine c8g_22 X hK hR h_4 dX8_firstOf_10 ?_
  refine lv_aload_n hx hb dX8_firstOf_13 rfl (lv_at hl 0 rfl) ?_
  obtain ⟨r_5, h_5, hq⟩ := ww_bS hf; replace hf := hq; clear hq
  refine c8g_9 X hK hR h_5 dX8_firstOf_14 ?_
  refine lv_iconst (v := (0 : Int32)) hx hb dX8_firstOf_17 (by decide) ?_
  obtain ⟨a_7, e_7, hq⟩ := ww_bS hf; replace hf := hq; clear hq
  subst e_7
  obtain ⟨r_6, h_6, hq⟩ := ww_bS hf; replace hf := hq; clear hq
  refine cw_oxR (x := some a_7) X hK hR rfl h_6 dX8_firstOf_18 ?_
  obtain ⟨a_8, e_8, hq⟩ := ww_bS hf; replace hf := hq; clear hq
  subst e_8
  obtain ⟨D_9, h_9, hq⟩ := ww_bS hf; replace hf := hq; clear hq
  refine cw_otR (x' := some a_8) (v := r_6) X hK hR hS rfl h_9 dX8_firstOf_19 (fun H locs hR hS => ?_)
  refine lv_aload_n hx hb dX8_firstOf_20 rfl (lv_at hl 1 rfl) ?_
  refine lv_dup hx hb dX8_firstOf_21 rfl ?_
  obtain ⟨r_10, h_10, hq⟩ := ww_bS hf; replace hf := hq; clear hq
  refine c8g_22 X hK hR h_10 dX8_firstOf_22 ?_
  refine lv_iconst (v := (1 : Int32)) hx hb dX8_firstOf_25 (by decide) ?_
  refine lv_iadd hx hb dX8_firstOf_26 ?_
  obtain ⟨D_11, h_11, hq⟩ := ww_bS hf; replace hf := hq; clear hq
  refine c8p_22 X hK hR hS h_11 dX8_firstOf_27 (fun H locs hR hS => ?_)
  refine lv_aload_n hx hb dX8_firstOf_30 rfl (lv_at hl 0 rfl) ?_
  refine lv_iconst (v := (0 : Int32)) hx hb dX8_firstOf_31 (by decide) ?_
  obtain ⟨h_12, hq⟩ := ww_gS hf; replace hf := hq; clear hq
  obtain ⟨D_13, h_13, hq⟩ := ww_bS hf; replace hf := hq; clear hq
  refine c8c_8_close X hl.1 hK hR hS (Nat.le_trans (Nat.le_of_ble_eq_true rfl) hF) (Nat.le_trans (Nat.le_of_ble_eq_true rfl) hLo) (Nat.zero_le _) (Nat.zero_le _) h_12 h_13 (cw_rest (Nat.le_of_ble_eq_true rfl)) dX8_firstOf_32 (fun H locs hR hS => ?_)
  exact hend dX8_firstOf_35 hf hR hS
noncomputable def f5r_firstOf (r8 : cw_D → Nat → Option Nat → Option (cw_D)) : cw_D → Nat → Option Nat → Option (cw_D) := fun D a x1 =>
  if cw_kd D [1] (some a) = true then f7_firstOf D a x1 else if cw_kd D [2] (some a) = true then r8 D a x1 else none
section C_8_firstOf_i
variable {p : Program} {l : Launch} {e : Env} {R : Room} {s : State} {m : MethodId} {args : Array Value} {below : List Frame} {meth : Method} {c : Code} {H : Heap} {locs : List Loc} {cells slots : Nat} {Q : State → Prop}
variable {cc : ByteArray} {pc : Nat} {ls : Array Slot} {rest : List Value} {nL : Nat} {E : cw_E} {A : Nat → Prop} {H0 : Heap}
theorem c8i_firstOf {D : cw_D} {a0 : Nat} {x1 : Option Nat} {D' : cw_D} (X : ww_C p m c cc nL s args RX8 lw_all) (hsz : ls.size = nL) (hK : cw_K E A s) (hR : cw_H E A D H) (hS : va_S A s.heap H locs) (hF : 3 ≤ R.frames) (hLo : 67 ≤ R.locals) (hc : cells ≤ R.cells) (hs : slots ≤ R.slots) (hf : f5r_firstOf f8_firstOf D a0 x1 = some D') (hrest : (rest.map fun v => v.category).sum ≤ 8) {count : Nat} (hdg : decode cc pc = .ok (.invokeinterface 62 count, 5)) (kk : ∀ (H1 : Heap) (locs1 : List Loc), cw_H E A D' H1 → va_S A s.heap H1 locs1 → W p l e R s m args below meth c H1 locs1 cells slots Q (F0 m (pc + 5) ls (rest))) : W p l e R s m args below meth c H locs cells slots Q (F0 m pc ls (va_rf x1 :: .ref a0 :: rest)) := by
  unfold f5r_firstOf at hf
  by_cases hkd : cw_kd D [1] (some a0) = true
  · rw [if_pos hkd] at hf
    exact va_callFv (va_runF (C := RX7) (x := ⟨"WideMap$Node", "firstOf", "(LWideMap$Node;)V"⟩) (As := [va_rf x1]) (rest := rest) (b := a0) (cw_cls (k := 1) (C := RX7) (T := TX7) (N := 5) rfl hK) X (met7_firstOf l _ _ _ _ hf) (va_cwF 1 X.2.2.2.2 (cw_F q1269 q1277 q1279 q154 q1281) rfl rfl rfl (hK.2.2.2.1 ("WideMap$Leaf", ⟨"WideMap$Node", "firstOf", "(LWideMap$Node;)V"⟩, ⟨"WideMap$Leaf", "firstOf", "(LWideMap$Node;)V"⟩) (by decide +kernel)) (by decide +kernel) ⟨(show 3 ≤ R.frames by omega), (show 67 ≤ R.locals by omega)⟩) (cw_pV hK hR hS (cw_rc (k := 1) (C := RX7) (T := TX7) (N := 5) rfl (by decide) hK hR hkd)) rfl rfl hsz rfl (lv_room hrest) hdg ⟨hc, hs⟩) hS (fun q _ h => h) (fun q h => h) (fun u t H1 locs1 ht hvm hw hB hz1 hk1 hS1 => by rw [ht] at hB; exact kk H1 locs1 hB hS1)
  · rw [if_neg hkd] at hf
    by_cases hkd : cw_kd D [2] (some a0) = true
    · rw [if_pos hkd] at hf
      exact va_callFv (va_runF (C := RX8) (x := ⟨"WideMap$Node", "firstOf", "(LWideMap$Node;)V"⟩) (As := [va_rf x1]) (rest := rest) (b := a0) (cw_cls (k := 2) (C := RX8) (T := TX8) (N := 4) rfl hK) X (met8_firstOf l _ _ _ _ hf) (va_cwF 1 X.2.2.2.2 (cw_F q1269 q1272 q1274 q155 q1276) rfl rfl rfl (hK.2.2.2.1 ("WideMap$Inner", ⟨"WideMap$Node", "firstOf", "(LWideMap$Node;)V"⟩, ⟨"WideMap$Inner", "firstOf", "(LWideMap$Node;)V"⟩) (by decide +kernel)) (by decide +kernel) ⟨(show 2 ≤ R.frames by omega), (show 44 ≤ R.locals by omega)⟩) (cw_pV hK hR hS (cw_rc (k := 2) (C := RX8) (T := TX8) (N := 4) rfl (by decide) hK hR hkd)) rfl rfl hsz rfl (lv_room hrest) hdg ⟨hc, hs⟩) hS (fun q _ h => h) (fun q h => h) (fun u t H1 locs1 ht hvm hw hB hz1 hk1 hS1 => by rw [ht] at hB; exact kk H1 locs1 hB hS1)
    · rw [if_neg hkd] at hf
      cases hf
end C_8_firstOf_i
noncomputable def f8_allOf_b1c (y0 : Nat) (y1 : Option Nat) (D_1 : cw_D) (x2 : Int32) : Option ((cw_D × Int32) ⊕ (cw_D)) :=
  ww_b y1 (fun a_2 => ww_g (cw_kd D_1 [1, 2] (some a_2)) (ww_b (f6_many D_1 a_2) (fun r_4 => if r_4 ≤ x2 then ww_x (ww_b (cw_gI D_1 [2] y0 1) (fun r_6 => ww_g (cw_kd D_1 [1, 2] (some a_2)) (ww_b (f6_many D_1 a_2) (fun r_8 => ww_b (cw_p D_1 [2] y0 1 (.int (r_6 + r_8))) (fun D_9 => some D_9))))) else ww_b (cw_gR D_1 [2] y0 3) (fun r_10 => ww_b (cw_gI D_1 [2] y0 1) (fun r_11 => ww_b (f5r_kid f8_kid D_1 a_2 x2) (fun r_12 => ww_b r_10 (fun a_13 => ww_b (cw_tR D_1 a_13 (r_11 + x2) r_12) (fun D_14 => some (.inl (D_14, (x2 + (1 : Int32))))))))))))
noncomputable def f8_allOf_b1 (y0 : Nat) (y1 : Option Nat) : (cw_D × Int32) → Option ((cw_D × Int32) ⊕ (cw_D)) := fun s9 => f8_allOf_b1c y0 y1 s9.1 s9.2
noncomputable def f8_allOf (D : cw_D) (a0 : Nat) (x1 : Option Nat) : Option (cw_D) :=
  ww_U (f8_allOf_b1 a0 x1) (D, (0 : Int32))
set_option maxHeartbeats 4000000 in
set_option maxRecDepth 100000 in
theorem met8_allOf (l : Launch) {E : cw_E} {A : Nat → Prop} (D : cw_D) (a0 : Nat) (x1 : Option Nat) (D' : cw_D) (hf : f8_allOf D a0 x1 = some D') : cw_MetV l yX8_allOf cX8_allOf 3 1 21 E A [.ref a0, va_rf x1] D D' 0 0 := by
  unfold f8_allOf at hf
  refine cw_sVD (own := RX8) (by decide +kernel) [(0, .ref a0), (1, va_rf x1)] ⟨by cases x1 <;> exact Nat.le_of_ble_eq_true rfl, by cases x1 <;> rfl⟩ ?_
  intro p e s m args below meth c Rm Q X hK hF hLo hin hend ls hl hR hS
  obtain ⟨hx, hb, hml, hown, hts⟩ := id X
  refine lv_iconst (v := (0 : Int32)) hx hb dX8_allOf_0 (by decide) ?_
  refine lv_istore_n (lv' := [(2, .int (0 : Int32)), (0, .ref a0), (1, va_rf x1)]) hx hb dX8_allOf_1 rfl hl (by decide) (by cases x1 <;> rfl) (fun ls hl => ?_)
  have hL_1 : ∀ s9 : cw_D × Int32, ww_U (f8_allOf_b1 a0 x1) s9 = some D' → ∀ (H : Heap) (locs : List Loc) (ls : Array Slot), cw_H E A s9.1 H → va_S A s.heap H locs → lv_has ls 3 [(0, .ref a0), (1, va_rf x1), (2, .int s9.2)] → W p l e Rm s m args below meth c H locs 0 0 Q (F0 m 2 ls []) := by
    clear hf
    refine ww_ind _ D' ?_
    intro s9 z_1 hf hz_1
    obtain ⟨D_1, x2⟩ := s9
    replace hf : f8_allOf_b1c a0 x1 D_1 x2 = some z_1 := hf
    unfold f8_allOf_b1c at hf
    try clear hl
    try clear hS
    try clear hR
    intro H locs ls hR hS hl
    replace hR : cw_H E A D_1 H := hR
    replace hl : lv_has ls 3 [(0, .ref a0), (1, va_rf x1), (2, .int x2)] := hl
    refine lv_iload_n hx hb dX8_allOf_2 rfl (lv_at hl 2 rfl) ?_
    refine cw_aload_n (x := x1) hx hb dX8_allOf_3 rfl (lv_at hl 1 rfl) ?_
    obtain ⟨a_2, e_2, hq⟩ := ww_bS hf; replace hf := hq; clear hq
    subst e_2
    obtain ⟨h_3, hq⟩ := ww_gS hf; replace hf := hq; clear hq
    obtain ⟨r_4, h_4, hq⟩ := ww_bS hf; replace hf := hq; clear hq
    refine c8i_many X hl.1 hK hR hS (Nat.le_trans (Nat.le_of_ble_eq_true rfl) hF) (Nat.le_trans (Nat.le_of_ble_eq_true rfl) hLo) (Nat.zero_le _) (Nat.zero_le _) h_3 h_4 (cw_rest (Nat.le_of_ble_eq_true rfl)) dX8_allOf_4 (fun H locs hR hS => ?_)
    refine lv_icmp_ge (tgt := 36) hx hb dX8_allOf_9 (by decide) (fun c_5 => ?_) (fun c_5 => ?_)
    · replace hf := ww_ip hf c_5
      replace hf := ww_xK hf hz_1
      refine lv_aload_n hx hb dX8_allOf_36 rfl (lv_at hl 0 rfl) ?_
      refine lv_dup hx hb dX8_allOf_37 rfl ?_
      obtain ⟨r_6, h_6, hq⟩ := ww_bS hf; replace hf := hq; clear hq
      refine c8g_22 X hK hR h_6 dX8_allOf_38 ?_
      refine lv_aload_n hx hb dX8_allOf_41 rfl (lv_at hl 1 rfl) ?_
      obtain ⟨h_7, hq⟩ := ww_gS hf; replace hf := hq; clear hq
      obtain ⟨r_8, h_8, hq⟩ := ww_bS hf; replace hf := hq; clear hq
      refine c8i_many X hl.1 hK hR hS (Nat.le_trans (Nat.le_of_ble_eq_true rfl) hF) (Nat.le_trans (Nat.le_of_ble_eq_true rfl) hLo) (Nat.zero_le _) (Nat.zero_le _) h_7 h_8 (cw_rest (Nat.le_of_ble_eq_true rfl)) dX8_allOf_42 (fun H locs hR hS => ?_)
      refine lv_iadd hx hb dX8_allOf_47 ?_
      obtain ⟨D_9, h_9, hq⟩ := ww_bS hf; replace hf := hq; clear hq
      refine c8p_22 X hK hR hS h_9 dX8_allOf_48 (fun H locs hR hS => ?_)
      exact hend dX8_allOf_51 hf hR hS
    · replace hf := ww_in hf c_5
      refine lv_aload_n hx hb dX8_allOf_12 rfl (lv_at hl 0 rfl) ?_
      obtain ⟨r_10, h_10, hq⟩ := ww_bS hf; replace hf := hq; clear hq
      refine c8g_9 X hK hR h_10 dX8_allOf_13 ?_
      refine lv_aload_n hx hb dX8_allOf_16 rfl (lv_at hl 0 rfl) ?_
      obtain ⟨r_11, h_11, hq⟩ := ww_bS hf; replace hf := hq; clear hq
      refine c8g_22 X hK hR h_11 dX8_allOf_17 ?_
      refine lv_iload_n hx hb dX8_allOf_20 rfl (lv_at hl 2 rfl) ?_
      refine lv_iadd hx hb dX8_allOf_21 ?_
      refine lv_aload_n hx hb dX8_allOf_22 rfl (lv_at hl 1 rfl) ?_
      refine lv_iload_n hx hb dX8_allOf_23 rfl (lv_at hl 2 rfl) ?_
      obtain ⟨r_12, h_12, hq⟩ := ww_bS hf; replace hf := hq; clear hq
      refine c8i_kid X hl.1 hK hR hS (Nat.le_trans (Nat.le_of_ble_eq_true rfl) hF) (Nat.le_trans (Nat.le_of_ble_eq_true rfl) hLo) (Nat.zero_le _) (Nat.zero_le _) h_12 (cw_rest (Nat.le_of_ble_eq_true rfl)) dX8_allOf_24 (fun H locs hR hS => ?_)
      obtain ⟨a_13, e_13, hq⟩ := ww_bS hf; replace hf := hq; clear hq
      subst e_13
      obtain ⟨D_14, h_14, hq⟩ := ww_bS hf; replace hf := hq; clear hq
      refine cw_otR (x' := some a_13) (v := r_12) X hK hR hS rfl h_14 dX8_allOf_29 (fun H locs hR hS => ?_)
      refine lv_iinc (k := 2) (v := x2 + (1 : Int32)) (lv' := [(2, .int (x2 + (1 : Int32))), (0, .ref a0), (1, .ref a_2)]) hx hb dX8_allOf_30 hl rfl rfl (by decide) rfl (fun ls hl => ?_)
      refine lv_goto (tgt := 2) hx hb dX8_allOf_33 (by decide) ?_
      exact ww_lK hf hz_1 _ _ _ hR hS (lv_sub hl [1, 2, 0] rfl)
  exact hL_1 (D, (0 : Int32)) hf _ _ _ hR hS (lv_sub hl [1, 2, 0] rfl)
noncomputable def f5r_allOf (r8 : cw_D → Nat → Option Nat → Option (cw_D)) : cw_D → Nat → Option Nat → Option (cw_D) := fun D a x1 =>
  if cw_kd D [1] (some a) = true then f7_allOf D a x1 else if cw_kd D [2] (some a) = true then r8 D a x1 else none
section C_8_allOf_i
variable {p : Program} {l : Launch} {e : Env} {R : Room} {s : State} {m : MethodId} {args : Array Value} {below : List Frame} {meth : Method} {c : Code} {H : Heap} {locs : List Loc} {cells slots : Nat} {Q : State → Prop}
variable {cc : ByteArray} {pc : Nat} {ls : Array Slot} {rest : List Value} {nL : Nat} {E : cw_E} {A : Nat → Prop} {H0 : Heap}
theorem c8i_allOf {D : cw_D} {a0 : Nat} {x1 : Option Nat} {D' : cw_D} (X : ww_C p m c cc nL s args RX8 lw_all) (hsz : ls.size = nL) (hK : cw_K E A s) (hR : cw_H E A D H) (hS : va_S A s.heap H locs) (hF : 12 ≤ R.frames) (hLo : 243 ≤ R.locals) (hc : cells ≤ R.cells) (hs : slots ≤ R.slots) (hf : f5r_allOf f8_allOf D a0 x1 = some D') (hrest : (rest.map fun v => v.category).sum ≤ 8) {count : Nat} (hdg : decode cc pc = .ok (.invokeinterface 65 count, 5)) (kk : ∀ (H1 : Heap) (locs1 : List Loc), cw_H E A D' H1 → va_S A s.heap H1 locs1 → W p l e R s m args below meth c H1 locs1 cells slots Q (F0 m (pc + 5) ls (rest))) : W p l e R s m args below meth c H locs cells slots Q (F0 m pc ls (va_rf x1 :: .ref a0 :: rest)) := by
  unfold f5r_allOf at hf
  by_cases hkd : cw_kd D [1] (some a0) = true
  · rw [if_pos hkd] at hf
    exact va_callFv (va_runF (C := RX7) (x := ⟨"WideMap$Node", "allOf", "(LWideMap$Node;)V"⟩) (As := [va_rf x1]) (rest := rest) (b := a0) (cw_cls (k := 1) (C := RX7) (T := TX7) (N := 5) rfl hK) X (met7_allOf l _ _ _ _ hf) (va_cwF 1 X.2.2.2.2 (cw_F q1283 q1293 q1295 q154 q1297) rfl rfl rfl (hK.2.2.2.1 ("WideMap$Leaf", ⟨"WideMap$Node", "allOf", "(LWideMap$Node;)V"⟩, ⟨"WideMap$Leaf", "allOf", "(LWideMap$Node;)V"⟩) (by decide +kernel)) (by decide +kernel) ⟨(show 12 ≤ R.frames by omega), (show 243 ≤ R.locals by omega)⟩) (cw_pV hK hR hS (cw_rc (k := 1) (C := RX7) (T := TX7) (N := 5) rfl (by decide) hK hR hkd)) rfl rfl hsz rfl (lv_room hrest) hdg ⟨hc, hs⟩) hS (fun q _ h => h) (fun q h => h) (fun u t H1 locs1 ht hvm hw hB hz1 hk1 hS1 => by rw [ht] at hB; exact kk H1 locs1 hB hS1)
  · rw [if_neg hkd] at hf
    by_cases hkd : cw_kd D [2] (some a0) = true
    · rw [if_pos hkd] at hf
      exact va_callFv (va_runF (C := RX8) (x := ⟨"WideMap$Node", "allOf", "(LWideMap$Node;)V"⟩) (As := [va_rf x1]) (rest := rest) (b := a0) (cw_cls (k := 2) (C := RX8) (T := TX8) (N := 4) rfl hK) X (met8_allOf l _ _ _ _ hf) (va_cwF 1 X.2.2.2.2 (cw_F q1283 q1286 q1288 q155 q1290) rfl rfl rfl (hK.2.2.2.1 ("WideMap$Inner", ⟨"WideMap$Node", "allOf", "(LWideMap$Node;)V"⟩, ⟨"WideMap$Inner", "allOf", "(LWideMap$Node;)V"⟩) (by decide +kernel)) (by decide +kernel) ⟨(show 2 ≤ R.frames by omega), (show 43 ≤ R.locals by omega)⟩) (cw_pV hK hR hS (cw_rc (k := 2) (C := RX8) (T := TX8) (N := 4) rfl (by decide) hK hR hkd)) rfl rfl hsz rfl (lv_room hrest) hdg ⟨hc, hs⟩) hS (fun q _ h => h) (fun q h => h) (fun u t H1 locs1 ht hvm hw hB hz1 hk1 hS1 => by rw [ht] at hB; exact kk H1 locs1 hB hS1)
    · rw [if_neg hkd] at hf
      cases hf
end C_8_allOf_i
noncomputable def f8_mend_j2 (D : cw_D) (cf : Nat) (kf : Nat) (y0 : Nat) (y1 : Option Nat) (y2 : Int32) : Option (cw_D × Nat × Nat) :=
  if y2 ≤ 0 then ww_b (cw_gR D [2] y0 3) (fun r_3 => ww_b r_3 (fun a_5 => ww_b (cw_xR D a_5 y2) (fun r_4 => ww_b (cw_gR D [2] y0 3) (fun r_6 => ww_b r_6 (fun a_8 => ww_b (cw_xR D a_8 (y2 + (1 : Int32))) (fun r_7 => ww_b r_4 (fun a_9 => ww_b (f5r_allOf f8_allOf D a_9 r_7) (fun D_10 => ww_g (cw_kd D_10 [2] (some y0)) (ww_b (f8_close D_10 y0 (y2 + (1 : Int32))) (fun D_12 => some (D_12, cf, kf))))))))))) else ww_b (cw_gR D [2] y0 3) (fun r_13 => ww_b (cw_gR D [2] y0 3) (fun r_14 => ww_b r_14 (fun a_16 => ww_b (cw_xR D a_16 (y2 - (1 : Int32))) (fun r_15 => ww_b r_15 (fun a_17 => ww_g (cw_kd D [1, 2] (some a_17)) (ww_b4 (f5_edited D a_17 y1) (fun r_19 D_19 c_19 k_19 => ww_b r_13 (fun a_20 => ww_b (cw_tR D_19 a_20 (y2 - (1 : Int32)) r_19) (fun D_21 => ww_b (cw_gR D_21 [2] y0 3) (fun r_22 => ww_b r_22 (fun a_24 => ww_b (cw_xR D_21 a_24 (y2 - (1 : Int32))) (fun r_23 => ww_b (cw_gR D_21 [2] y0 3) (fun r_25 => ww_b r_25 (fun a_27 => ww_b (cw_xR D_21 a_27 y2) (fun r_26 => ww_b r_23 (fun a_28 => ww_b (f5r_allOf f8_allOf D_21 a_28 r_26) (fun D_29 => ww_g (cw_kd D_29 [2] (some y0)) (ww_b (f8_close D_29 y0 y2) (fun D_31 => some (D_31, (cf + c_19), (kf + k_19)))))))))))))))))))))
noncomputable def f8_mend_j1 (D : cw_D) (cf : Nat) (kf : Nat) (y0 : Nat) (y1 : Option Nat) (y2 : Int32) (y3 : Int32) : Option (cw_D × Nat × Nat) :=
  ww_b (cw_gI D [2] y0 1) (fun r_1 => if (r_1 - (1 : Int32)) ≤ y2 then f8_mend_j2 D cf kf y0 y1 y2 else ww_b (cw_gR D [2] y0 3) (fun r_33 => ww_b r_33 (fun a_35 => ww_b (cw_xR D a_35 (y2 + (1 : Int32))) (fun r_34 => ww_b r_34 (fun a_36 => ww_g (cw_kd D [1, 2] (some a_36)) (ww_b (f6_many D a_36) (fun r_38 => if r_38 ≤ y3 then f8_mend_j2 D cf kf y0 y1 y2 else ww_b (cw_gR D [2] y0 3) (fun r_40 => ww_b (cw_gR D [2] y0 3) (fun r_41 => ww_b r_41 (fun a_43 => ww_b (cw_xR D a_43 (y2 + (1 : Int32))) (fun r_42 => ww_b r_42 (fun a_44 => ww_g (cw_kd D [1, 2] (some a_44)) (ww_b4 (f5_edited D a_44 y1) (fun r_46 D_46 c_46 k_46 => ww_b r_40 (fun a_47 => ww_b (cw_tR D_46 a_47 (y2 + (1 : Int32)) r_46) (fun D_48 => ww_b (cw_gR D_48 [2] y0 3) (fun r_49 => ww_b r_49 (fun a_51 => ww_b (cw_xR D_48 a_51 y2) (fun r_50 => ww_b (cw_gR D_48 [2] y0 3) (fun r_52 => ww_b r_52 (fun a_54 => ww_b (cw_xR D_48 a_54 (y2 + (1 : Int32))) (fun r_53 => ww_b r_50 (fun a_55 => ww_b (f5r_firstOf f8_firstOf D_48 a_55 r_53) (fun D_56 => some (D_56, (cf + c_46), (kf + k_46))))))))))))))))))))))))))
noncomputable def f8_mend (D : cw_D) (a0 : Nat) (x1 : Option Nat) (x2 : Int32) (x3 : Int32) : Option (cw_D × Nat × Nat) :=
  if x2 ≤ 0 then f8_mend_j1 D 0 0 a0 x1 x2 x3 else ww_b (cw_gR D [2] a0 3) (fun r_58 => ww_b r_58 (fun a_60 => ww_b (cw_xR D a_60 (x2 - (1 : Int32))) (fun r_59 => ww_b r_59 (fun a_61 => ww_g (cw_kd D [1, 2] (some a_61)) (ww_b (f6_many D a_61) (fun r_63 => if r_63 ≤ x3 then f8_mend_j1 D 0 0 a0 x1 x2 x3 else ww_b (cw_gR D [2] a0 3) (fun r_65 => ww_b (cw_gR D [2] a0 3) (fun r_66 => ww_b r_66 (fun a_68 => ww_b (cw_xR D a_68 (x2 - (1 : Int32))) (fun r_67 => ww_b r_67 (fun a_69 => ww_g (cw_kd D [1, 2] (some a_69)) (ww_b4 (f5_edited D a_69 x1) (fun r_71 D_71 c_71 k_71 => ww_b r_65 (fun a_72 => ww_b (cw_tR D_71 a_72 (x2 - (1 : Int32)) r_71) (fun D_73 => ww_b (cw_gR D_73 [2] a0 3) (fun r_74 => ww_b r_74 (fun a_76 => ww_b (cw_xR D_73 a_76 x2) (fun r_75 => ww_b (cw_gR D_73 [2] a0 3) (fun r_77 => ww_b r_77 (fun a_79 => ww_b (cw_xR D_73 a_79 (x2 - (1 : Int32))) (fun r_78 => ww_b r_75 (fun a_80 => ww_b (f5r_lastOf f8_lastOf D_73 a_80 r_78) (fun D_81 => some (D_81, (0 + c_71), (0 + k_71)))))))))))))))))))))))))
section C_8_mend_k
variable {p : Program} {l : Launch} {e : Env} {R : Room} {s : State} {m : MethodId} {args : Array Value} {below : List Frame} {meth : Method} {c : Code} {H : Heap} {locs : List Loc} {cells slots : Nat} {Q : State → Prop}
variable {cc : ByteArray} {pc : Nat} {ls : Array Slot} {rest : List Value} {nL : Nat} {E : cw_E} {A : Nat → Prop} {H0 : Heap}
theorem c8k_8_mend {D : cw_D} {a0 : Nat} {x1 : Option Nat} {x2 : Int32} {x3 : Int32} {D' : cw_D} {nc ns : Nat} (X : ww_C p m c cc nL s args RX8 lw_all) (hsz : ls.size = nL) (hK : cw_K E A s) (hR : cw_H E A D H) (hS : va_S A s.heap H locs) (hF : 13 ≤ R.frames) (hLo : 266 ≤ R.locals) (hc : cells + nc ≤ R.cells) (hs : slots + ns ≤ R.slots) (hkd : cw_kd D [2] (some a0) = true) (hM : cw_MetV l yX8_mend cX8_mend 4 12 243 E A [.ref a0, va_rf x1, .int x2, .int x3] D D' nc ns) (hrest : (rest.map fun v => v.category).sum ≤ 8) (hdg : decode cc pc = .ok (.invokevirtual 55, 3)) (kk : ∀ (H1 : Heap) (locs1 : List Loc), cw_H E A D' H1 → va_S A s.heap H1 locs1 → W p l e R s m args below meth c H1 locs1 (cells + nc) (slots + ns) Q (F0 m (pc + 3) ls (rest))) : W p l e R s m args below meth c H locs cells slots Q (F0 m pc ls (.int x3 :: .int x2 :: va_rf x1 :: .ref a0 :: rest)) :=
  va_callv (va_runV (C := RX8) (As := [va_rf x1, .int x2, .int x3]) (rest := rest) (b := a0) X hM (cwV 3 X.2.2.2.2 (lw_V q1246 q1248 qs35 q155 q1249) rfl rfl rfl (by decide +kernel) ⟨hF, hLo⟩) (cw_pV hK hR hS (cw_rc (k := 2) (C := RX8) (T := TX8) (N := 4) rfl (by decide) hK hR hkd)) rfl rfl hsz rfl (lv_room hrest) hdg ⟨hc, hs⟩) hS (fun q _ h => h) (fun q h => h) (fun u t H1 locs1 ht hvm hw hB hz1 hk1 hS1 => by rw [ht] at hB; exact kk H1 locs1 hB hS1)
end C_8_mend_k
set_option maxHeartbeats 4000000 in
set_option maxRecDepth 100000 in
theorem met8_mend (l : Launch) {E : cw_E} {A : Nat → Prop} (D : cw_D) (a0 : Nat) (x1 : Option Nat) (x2 : Int32) (x3 : Int32) (D' : cw_D) (nc ns : Nat) (hf : f8_mend D a0 x1 x2 x3 = some (D', nc, ns)) : cw_MetV l yX8_mend cX8_mend 4 12 243 E A [.ref a0, va_rf x1, .int x2, .int x3] D D' nc ns := by
  unfold f8_mend at hf
  refine cw_sVN (own := RX8) (by decide +kernel) [(0, .ref a0), (1, va_rf x1), (2, .int x2), (3, .int x3)] ⟨by cases x1 <;> exact Nat.le_of_ble_eq_true rfl, by cases x1 <;> rfl⟩ ?_
  intro p e s m args below meth c Rm Q X hK hF hLo hC hin hend ls hl hR hS
  obtain ⟨hx, hb, hml, hown, hts⟩ := id X
  have hm9 : 0 ≤ nc ∧ 0 ≤ ns := ⟨Nat.zero_le _, Nat.zero_le _⟩
  refine lv_iload_n hx hb dX8_mend_0 rfl (lv_at hl 2 rfl) ?_
  have hj_1 : f8_mend_j1 D 0 0 a0 x1 x2 x3 = some (D', nc, ns) → (0 ≤ nc ∧ 0 ≤ ns) ∧ (∀ (H : Heap) (locs : List Loc) (ls : Array Slot), cw_H E A D H → va_S A s.heap H locs → lv_has ls 4 [(0, .ref a0), (1, va_rf x1), (2, .int x2), (3, .int x3)] → W p l e Rm s m args below meth c H locs 0 0 Q (F0 m 65 ls [])) := by
    clear hf
    intro  hf
    unfold f8_mend_j1 at hf
    have hm9 : 0 ≤ nc ∧ 0 ≤ ns := by
      obtain ⟨r_1, h_1, hq⟩ := ww_bS hf; replace hf := hq; clear hq
      have hj_2 : f8_mend_j2 D 0 0 a0 x1 x2 = some (D', nc, ns) → 0 ≤ nc ∧ 0 ≤ ns := by
        clear hf
        intro  hf
        unfold f8_mend_j2 at hf
        refine ww_by (x2 ≤ 0) (fun c_2 => ?_) (fun c_2 => ?_)
        · replace hf := ww_ip hf c_2
          obtain ⟨r_3, h_3, hq⟩ := ww_bS hf; replace hf := hq; clear hq
          obtain ⟨a_5, e_5, hq⟩ := ww_bS hf; replace hf := hq; clear hq
          subst e_5
          obtain ⟨r_4, h_4, hq⟩ := ww_bS hf; replace hf := hq; clear hq
          obtain ⟨r_6, h_6, hq⟩ := ww_bS hf; replace hf := hq; clear hq
          obtain ⟨a_8, e_8, hq⟩ := ww_bS hf; replace hf := hq; clear hq
          subst e_8
          obtain ⟨r_7, h_7, hq⟩ := ww_bS hf; replace hf := hq; clear hq
          obtain ⟨a_9, e_9, hq⟩ := ww_bS hf; replace hf := hq; clear hq
          subst e_9
          obtain ⟨D_10, h_10, hq⟩ := ww_bS hf; replace hf := hq; clear hq
          obtain ⟨h_11, hq⟩ := ww_gS hf; replace hf := hq; clear hq
          obtain ⟨D_12, h_12, hq⟩ := ww_bS hf; replace hf := hq; clear hq
          have e9 := hf
          simp only [Option.some.injEq, Prod.mk.injEq] at e9
          omega
        · replace hf := ww_in hf c_2
          obtain ⟨r_13, h_13, hq⟩ := ww_bS hf; replace hf := hq; clear hq
          obtain ⟨r_14, h_14, hq⟩ := ww_bS hf; replace hf := hq; clear hq
          obtain ⟨a_16, e_16, hq⟩ := ww_bS hf; replace hf := hq; clear hq
          subst e_16
          obtain ⟨r_15, h_15, hq⟩ := ww_bS hf; replace hf := hq; clear hq
          obtain ⟨a_17, e_17, hq⟩ := ww_bS hf; replace hf := hq; clear hq
          subst e_17
          obtain ⟨h_18, hq⟩ := ww_gS hf; replace hf := hq; clear hq
          obtain ⟨r_19, D_19, c_19, k_19, h_19, hq⟩ := ww_b4S hf; replace hf := hq; clear hq
          obtain ⟨a_20, e_20, hq⟩ := ww_bS hf; replace hf := hq; clear hq
          subst e_20
          obtain ⟨D_21, h_21, hq⟩ := ww_bS hf; replace hf := hq; clear hq
          obtain ⟨r_22, h_22, hq⟩ := ww_bS hf; replace hf := hq; clear hq
          obtain ⟨a_24, e_24, hq⟩ := ww_bS hf; replace hf := hq; clear hq
          subst e_24
          obtain ⟨r_23, h_23, hq⟩ := ww_bS hf; replace hf := hq; clear hq
          obtain ⟨r_25, h_25, hq⟩ := ww_bS hf; replace hf := hq; clear hq
          obtain ⟨a_27, e_27, hq⟩ := ww_bS hf; replace hf := hq; clear hq
          subst e_27
          obtain ⟨r_26, h_26, hq⟩ := ww_bS hf; replace hf := hq; clear hq
          obtain ⟨a_28, e_28, hq⟩ := ww_bS hf; replace hf := hq; clear hq
          subst e_28
          obtain ⟨D_29, h_29, hq⟩ := ww_bS hf; replace hf := hq; clear hq
          obtain ⟨h_30, hq⟩ := ww_gS hf; replace hf := hq; clear hq
          obtain ⟨D_31, h_31, hq⟩ := ww_bS hf; replace hf := hq; clear hq
          have e9 := hf
          simp only [Option.some.injEq, Prod.mk.injEq] at e9
          omega
      refine ww_by ((r_1 - (1 : Int32)) ≤ x2) (fun c_32 => ?_) (fun c_32 => ?_)
      · replace hf := ww_ip hf c_32
        have e9 := hj_2 hf
        omega
      · replace hf := ww_in hf c_32
        obtain ⟨r_33, h_33, hq⟩ := ww_bS hf; replace hf := hq; clear hq
        obtain ⟨a_35, e_35, hq⟩ := ww_bS hf; replace hf := hq; clear hq
        subst e_35
        obtain ⟨r_34, h_34, hq⟩ := ww_bS hf; replace hf := hq; clear hq
        obtain ⟨a_36, e_36, hq⟩ := ww_bS hf; replace hf := hq; clear hq
        subst e_36
        obtain ⟨h_37, hq⟩ := ww_gS hf; replace hf := hq; clear hq
        obtain ⟨r_38, h_38, hq⟩ := ww_bS hf; replace hf := hq; clear hq
        refine ww_by (r_38 ≤ x3) (fun c_39 => ?_) (fun c_39 => ?_)
        · replace hf := ww_ip hf c_39
          have e9 := hj_2 hf
          omega
        · replace hf := ww_in hf c_39
          obtain ⟨r_40, h_40, hq⟩ := ww_bS hf; replace hf := hq; clear hq
          obtain ⟨r_41, h_41, hq⟩ := ww_bS hf; replace hf := hq; clear hq
          obtain ⟨a_43, e_43, hq⟩ := ww_bS hf; replace hf := hq; clear hq
          subst e_43
          obtain ⟨r_42, h_42, hq⟩ := ww_bS hf; replace hf := hq; clear hq
          obtain ⟨a_44, e_44, hq⟩ := ww_bS hf; replace hf := hq; clear hq
          subst e_44
          obtain ⟨h_45, hq⟩ := ww_gS hf; replace hf := hq; clear hq
          obtain ⟨r_46, D_46, c_46, k_46, h_46, hq⟩ := ww_b4S hf; replace hf := hq; clear hq
          obtain ⟨a_47, e_47, hq⟩ := ww_bS hf; replace hf := hq; clear hq
          subst e_47
          obtain ⟨D_48, h_48, hq⟩ := ww_bS hf; replace hf := hq; clear hq
          obtain ⟨r_49, h_49, hq⟩ := ww_bS hf; replace hf := hq; clear hq
          obtain ⟨a_51, e_51, hq⟩ := ww_bS hf; replace hf := hq; clear hq
          subst e_51
          obtain ⟨r_50, h_50, hq⟩ := ww_bS hf; replace hf := hq; clear hq
          obtain ⟨r_52, h_52, hq⟩ := ww_bS hf; replace hf := hq; clear hq
          obtain ⟨a_54, e_54, hq⟩ := ww_bS hf; replace hf := hq; clear hq
          subst e_54
          obtain ⟨r_53, h_53, hq⟩ := ww_bS hf; replace hf := hq; clear hq
          obtain ⟨a_55, e_55, hq⟩ := ww_bS hf; replace hf := hq; clear hq
          subst e_55
          obtain ⟨D_56, h_56, hq⟩ := ww_bS hf; replace hf := hq; clear hq
          have e9 := hf
          simp only [Option.some.injEq, Prod.mk.injEq] at e9
          omega
    refine ⟨hm9, ?_⟩
    try clear hl
    try clear hS
    try clear hR
    intro H locs ls hR hS hl
    refine lv_iload_n hx hb dX8_mend_65 rfl (lv_at hl 2 rfl) ?_
    refine lv_aload_n hx hb dX8_mend_66 rfl (lv_at hl 0 rfl) ?_
    obtain ⟨r_1, h_1, hq⟩ := ww_bS hf; replace hf := hq; clear hq
    refine c8g_22 X hK hR h_1 dX8_mend_67 ?_
    refine lv_iconst (v := (1 : Int32)) hx hb dX8_mend_70 (by decide) ?_
    refine lv_isub hx hb dX8_mend_71 ?_
    have hj_2 : f8_mend_j2 D 0 0 a0 x1 x2 = some (D', nc, ns) → (0 ≤ nc ∧ 0 ≤ ns) ∧ (∀ (H : Heap) (locs : List Loc) (ls : Array Slot), cw_H E A D H → va_S A s.heap H locs → lv_has ls 4 [(0, .ref a0), (1, va_rf x1), (2, .int x2)] → W p l e Rm s m args below meth c H locs 0 0 Q (F0 m 136 ls [])) := by
      clear hf
      intro  hf
      unfold f8_mend_j2 at hf
      have hm9 : 0 ≤ nc ∧ 0 ≤ ns := by
        refine ww_by (x2 ≤ 0) (fun c_2 => ?_) (fun c_2 => ?_)
        · replace hf := ww_ip hf c_2
          obtain ⟨r_3, h_3, hq⟩ := ww_bS hf; replace hf := hq; clear hq
          obtain ⟨a_5, e_5, hq⟩ := ww_bS hf; replace hf := hq; clear hq
          subst e_5
          obtain ⟨r_4, h_4, hq⟩ := ww_bS hf; replace hf := hq; clear hq
          obtain ⟨r_6, h_6, hq⟩ := ww_bS hf; replace hf := hq; clear hq
          obtain ⟨a_8, e_8, hq⟩ := ww_bS hf; replace hf := hq; clear hq
          subst e_8
          obtain ⟨r_7, h_7, hq⟩ := ww_bS hf; replace hf := hq; clear hq
          obtain ⟨a_9, e_9, hq⟩ := ww_bS hf; replace hf := hq; clear hq
          subst e_9
          obtain ⟨D_10, h_10, hq⟩ := ww_bS hf; replace hf := hq; clear hq
          obtain ⟨h_11, hq⟩ := ww_gS hf; replace hf := hq; clear hq
          obtain ⟨D_12, h_12, hq⟩ := ww_bS hf; replace hf := hq; clear hq
          have e9 := hf
          simp only [Option.some.injEq, Prod.mk.injEq] at e9
          omega
        · replace hf := ww_in hf c_2
          obtain ⟨r_13, h_13, hq⟩ := ww_bS hf; replace hf := hq; clear hq
          obtain ⟨r_14, h_14, hq⟩ := ww_bS hf; replace hf := hq; clear hq
          obtain ⟨a_16, e_16, hq⟩ := ww_bS hf; replace hf := hq; clear hq
          subst e_16
          obtain ⟨r_15, h_15, hq⟩ := ww_bS hf; replace hf := hq; clear hq
          obtain ⟨a_17, e_17, hq⟩ := ww_bS hf; replace hf := hq; clear hq
          subst e_17
          obtain ⟨h_18, hq⟩ := ww_gS hf; replace hf := hq; clear hq
          obtain ⟨r_19, D_19, c_19, k_19, h_19, hq⟩ := ww_b4S hf; replace hf := hq; clear hq
          obtain ⟨a_20, e_20, hq⟩ := ww_bS hf; replace hf := hq; clear hq
          subst e_20
          obtain ⟨D_21, h_21, hq⟩ := ww_bS hf; replace hf := hq; clear hq
          obtain ⟨r_22, h_22, hq⟩ := ww_bS hf; replace hf := hq; clear hq
          obtain ⟨a_24, e_24, hq⟩ := ww_bS hf; replace hf := hq; clear hq
          subst e_24
          obtain ⟨r_23, h_23, hq⟩ := ww_bS hf; replace hf := hq; clear hq
          obtain ⟨r_25, h_25, hq⟩ := ww_bS hf; replace hf := hq; clear hq
          obtain ⟨a_27, e_27, hq⟩ := ww_bS hf; replace hf := hq; clear hq
          subst e_27
          obtain ⟨r_26, h_26, hq⟩ := ww_bS hf; replace hf := hq; clear hq
          obtain ⟨a_28, e_28, hq⟩ := ww_bS hf; replace hf := hq; clear hq
          subst e_28
          obtain ⟨D_29, h_29, hq⟩ := ww_bS hf; replace hf := hq; clear hq
          obtain ⟨h_30, hq⟩ := ww_gS hf; replace hf := hq; clear hq
          obtain ⟨D_31, h_31, hq⟩ := ww_bS hf; replace hf := hq; clear hq
          have e9 := hf
          simp only [Option.some.injEq, Prod.mk.injEq] at e9
          omega
      refine ⟨hm9, ?_⟩
      try clear hl
      try clear hS
      try clear hR
      intro H locs ls hR hS hl
      refine lv_iload_n hx hb dX8_mend_136 rfl (lv_at hl 2 rfl) ?_
      refine lv_if_le (tgt := 189) hx hb dX8_mend_137 (by decide) (fun c_2 => ?_) (fun c_2 => ?_)
      · replace hf := ww_ip hf c_2
        refine lv_aload_n hx hb dX8_mend_189 rfl (lv_at hl 0 rfl) ?_
        obtain ⟨r_3, h_3, hq⟩ := ww_bS hf; replace hf := hq; clear hq
        refine c8g_9 X hK hR h_3 dX8_mend_190 ?_
        refine lv_iload_n hx hb dX8_mend_193 rfl (lv_at hl 2 rfl) ?_
        obtain ⟨a_5, e_5, hq⟩ := ww_bS hf; replace hf := hq; clear hq
        subst e_5
        obtain ⟨r_4, h_4, hq⟩ := ww_bS hf; replace hf := hq; clear hq
        refine cw_oxR (x := some a_5) X hK hR rfl h_4 dX8_mend_194 ?_
        refine lv_aload_n hx hb dX8_mend_195 rfl (lv_at hl 0 rfl) ?_
        obtain ⟨r_6, h_6, hq⟩ := ww_bS hf; replace hf := hq; clear hq
        refine c8g_9 X hK hR h_6 dX8_mend_196 ?_
        refine lv_iload_n hx hb dX8_mend_199 rfl (lv_at hl 2 rfl) ?_
        refine lv_iconst (v := (1 : Int32)) hx hb dX8_mend_200 (by decide) ?_
        refine lv_iadd hx hb dX8_mend_201 ?_
        obtain ⟨a_8, e_8, hq⟩ := ww_bS hf; replace hf := hq; clear hq
        subst e_8
        obtain ⟨r_7, h_7, hq⟩ := ww_bS hf; replace hf := hq; clear hq
        refine cw_oxR (x := some a_8) X hK hR rfl h_7 dX8_mend_202 ?_
        obtain ⟨a_9, e_9, hq⟩ := ww_bS hf; replace hf := hq; clear hq
        subst e_9
        obtain ⟨D_10, h_10, hq⟩ := ww_bS hf; replace hf := hq; clear hq
        refine c8i_allOf (x1 := r_7) X hl.1 hK hR hS (Nat.le_trans (Nat.le_of_ble_eq_true rfl) hF) (Nat.le_trans (Nat.le_of_ble_eq_true rfl) hLo) (Nat.le_trans hm9.1 hC.1) (Nat.le_trans hm9.2 hC.2) h_10 (cw_rest (Nat.le_of_ble_eq_true rfl)) dX8_mend_203 (fun H locs hR hS => ?_)
        refine lv_aload_n hx hb dX8_mend_208 rfl (lv_at hl 0 rfl) ?_
        refine lv_iload_n hx hb dX8_mend_209 rfl (lv_at hl 2 rfl) ?_
        refine lv_iconst (v := (1 : Int32)) hx hb dX8_mend_210 (by decide) ?_
        refine lv_iadd hx hb dX8_mend_211 ?_
        obtain ⟨h_11, hq⟩ := ww_gS hf; replace hf := hq; clear hq
        obtain ⟨D_12, h_12, hq⟩ := ww_bS hf; replace hf := hq; clear hq
        refine c8c_8_close X hl.1 hK hR hS (Nat.le_trans (Nat.le_of_ble_eq_true rfl) hF) (Nat.le_trans (Nat.le_of_ble_eq_true rfl) hLo) (Nat.le_trans hm9.1 hC.1) (Nat.le_trans hm9.2 hC.2) h_11 h_12 (cw_rest (Nat.le_of_ble_eq_true rfl)) dX8_mend_212 (fun H locs hR hS => ?_)
        exact hend dX8_mend_215 hf hR hS
      · replace hf := ww_in hf c_2
        refine lv_aload_n hx hb dX8_mend_140 rfl (lv_at hl 0 rfl) ?_
        obtain ⟨r_13, h_13, hq⟩ := ww_bS hf; replace hf := hq; clear hq
        refine c8g_9 X hK hR h_13 dX8_mend_141 ?_
        refine lv_iload_n hx hb dX8_mend_144 rfl (lv_at hl 2 rfl) ?_
        refine lv_iconst (v := (1 : Int32)) hx hb dX8_mend_145 (by decide) ?_
        refine lv_isub hx hb dX8_mend_146 ?_
        refine lv_aload_n hx hb dX8_mend_147 rfl (lv_at hl 0 rfl) ?_
        obtain ⟨r_14, h_14, hq⟩ := ww_bS hf; replace hf := hq; clear hq
        refine c8g_9 X hK hR h_14 dX8_mend_148 ?_
        refine lv_iload_n hx hb dX8_mend_151 rfl (lv_at hl 2 rfl) ?_
        refine lv_iconst (v := (1 : Int32)) hx hb dX8_mend_152 (by decide) ?_
        refine lv_isub hx hb dX8_mend_153 ?_
        obtain ⟨a_16, e_16, hq⟩ := ww_bS hf; replace hf := hq; clear hq
        subst e_16
        obtain ⟨r_15, h_15, hq⟩ := ww_bS hf; replace hf := hq; clear hq
        refine cw_oxR (x := some a_16) X hK hR rfl h_15 dX8_mend_154 ?_
        refine cw_aload_n (x := x1) hx hb dX8_mend_155 rfl (lv_at hl 1 rfl) ?_
        obtain ⟨a_17, e_17, hq⟩ := ww_bS hf; replace hf := hq; clear hq
        subst e_17
        obtain ⟨h_18, hq⟩ := ww_gS hf; replace hf := hq; clear hq
        obtain ⟨r_19, D_19, c_19, k_19, h_19, hq⟩ := ww_b4S hf; replace hf := hq; clear hq
        have hm9 : (0 + c_19) ≤ nc ∧ (0 + k_19) ≤ ns := by
          obtain ⟨a_20, e_20, hq⟩ := ww_bS hf; replace hf := hq; clear hq
          subst e_20
          obtain ⟨D_21, h_21, hq⟩ := ww_bS hf; replace hf := hq; clear hq
          obtain ⟨r_22, h_22, hq⟩ := ww_bS hf; replace hf := hq; clear hq
          obtain ⟨a_24, e_24, hq⟩ := ww_bS hf; replace hf := hq; clear hq
          subst e_24
          obtain ⟨r_23, h_23, hq⟩ := ww_bS hf; replace hf := hq; clear hq
          obtain ⟨r_25, h_25, hq⟩ := ww_bS hf; replace hf := hq; clear hq
          obtain ⟨a_27, e_27, hq⟩ := ww_bS hf; replace hf := hq; clear hq
          subst e_27
          obtain ⟨r_26, h_26, hq⟩ := ww_bS hf; replace hf := hq; clear hq
          obtain ⟨a_28, e_28, hq⟩ := ww_bS hf; replace hf := hq; clear hq
          subst e_28
          obtain ⟨D_29, h_29, hq⟩ := ww_bS hf; replace hf := hq; clear hq
          obtain ⟨h_30, hq⟩ := ww_gS hf; replace hf := hq; clear hq
          obtain ⟨D_31, h_31, hq⟩ := ww_bS hf; replace hf := hq; clear hq
          have e9 := hf
          simp only [Option.some.injEq, Prod.mk.injEq] at e9
          omega
        refine c8i_edited (x1 := x1) X hl.1 hK hR hS (Nat.le_trans (Nat.le_of_ble_eq_true rfl) hF) (Nat.le_trans (Nat.le_of_ble_eq_true rfl) hLo) (Nat.le_trans hm9.1 hC.1) (Nat.le_trans hm9.2 hC.2) h_18 h_19 (cw_rest (Nat.le_of_ble_eq_true rfl)) dX8_mend_156 (fun H locs hR hS => ?_)
        obtain ⟨a_20, e_20, hq⟩ := ww_bS hf; replace hf := hq; clear hq
        subst e_20
        obtain ⟨D_21, h_21, hq⟩ := ww_bS hf; replace hf := hq; clear hq
        refine cw_otR (x' := some a_20) (v := r_19) X hK hR hS rfl h_21 dX8_mend_161 (fun H locs hR hS => ?_)
        refine lv_aload_n hx hb dX8_mend_162 rfl (lv_at hl 0 rfl) ?_
        obtain ⟨r_22, h_22, hq⟩ := ww_bS hf; replace hf := hq; clear hq
        refine c8g_9 X hK hR h_22 dX8_mend_163 ?_
        refine lv_iload_n hx hb dX8_mend_166 rfl (lv_at hl 2 rfl) ?_
        refine lv_iconst (v := (1 : Int32)) hx hb dX8_mend_167 (by decide) ?_
        refine lv_isub hx hb dX8_mend_168 ?_
        obtain ⟨a_24, e_24, hq⟩ := ww_bS hf; replace hf := hq; clear hq
        subst e_24
        obtain ⟨r_23, h_23, hq⟩ := ww_bS hf; replace hf := hq; clear hq
        refine cw_oxR (x := some a_24) X hK hR rfl h_23 dX8_mend_169 ?_
        refine lv_aload_n hx hb dX8_mend_170 rfl (lv_at hl 0 rfl) ?_
        obtain ⟨r_25, h_25, hq⟩ := ww_bS hf; replace hf := hq; clear hq
        refine c8g_9 X hK hR h_25 dX8_mend_171 ?_
        refine lv_iload_n hx hb dX8_mend_174 rfl (lv_at hl 2 rfl) ?_
        obtain ⟨a_27, e_27, hq⟩ := ww_bS hf; replace hf := hq; clear hq
        subst e_27
        obtain ⟨r_26, h_26, hq⟩ := ww_bS hf; replace hf := hq; clear hq
        refine cw_oxR (x := some a_27) X hK hR rfl h_26 dX8_mend_175 ?_
        obtain ⟨a_28, e_28, hq⟩ := ww_bS hf; replace hf := hq; clear hq
        subst e_28
        obtain ⟨D_29, h_29, hq⟩ := ww_bS hf; replace hf := hq; clear hq
        refine c8i_allOf (x1 := r_26) X hl.1 hK hR hS (Nat.le_trans (Nat.le_of_ble_eq_true rfl) hF) (Nat.le_trans (Nat.le_of_ble_eq_true rfl) hLo) (Nat.le_trans hm9.1 hC.1) (Nat.le_trans hm9.2 hC.2) h_29 (cw_rest (Nat.le_of_ble_eq_true rfl)) dX8_mend_176 (fun H locs hR hS => ?_)
        refine lv_aload_n hx hb dX8_mend_181 rfl (lv_at hl 0 rfl) ?_
        refine lv_iload_n hx hb dX8_mend_182 rfl (lv_at hl 2 rfl) ?_
        obtain ⟨h_30, hq⟩ := ww_gS hf; replace hf := hq; clear hq
        obtain ⟨D_31, h_31, hq⟩ := ww_bS hf; replace hf := hq; clear hq
        refine c8c_8_close X hl.1 hK hR hS (Nat.le_trans (Nat.le_of_ble_eq_true rfl) hF) (Nat.le_trans (Nat.le_of_ble_eq_true rfl) hLo) (Nat.le_trans hm9.1 hC.1) (Nat.le_trans hm9.2 hC.2) h_30 h_31 (cw_rest (Nat.le_of_ble_eq_true rfl)) dX8_mend_183 (fun H locs hR hS => ?_)
        refine lv_goto (tgt := 215) hx hb dX8_mend_186 (by decide) ?_
        exact hend dX8_mend_215 hf hR hS
    refine lv_icmp_ge (tgt := 136) hx hb dX8_mend_72 (by decide) (fun c_32 => ?_) (fun c_32 => ?_)
    · replace hf := ww_ip hf c_32
      exact (hj_2 hf).2 _ _ _ hR hS (lv_sub hl [0, 1, 2] rfl)
    · replace hf := ww_in hf c_32
      refine lv_aload_n hx hb dX8_mend_75 rfl (lv_at hl 0 rfl) ?_
      obtain ⟨r_33, h_33, hq⟩ := ww_bS hf; replace hf := hq; clear hq
      refine c8g_9 X hK hR h_33 dX8_mend_76 ?_
      refine lv_iload_n hx hb dX8_mend_79 rfl (lv_at hl 2 rfl) ?_
      refine lv_iconst (v := (1 : Int32)) hx hb dX8_mend_80 (by decide) ?_
      refine lv_iadd hx hb dX8_mend_81 ?_
      obtain ⟨a_35, e_35, hq⟩ := ww_bS hf; replace hf := hq; clear hq
      subst e_35
      obtain ⟨r_34, h_34, hq⟩ := ww_bS hf; replace hf := hq; clear hq
      refine cw_oxR (x := some a_35) X hK hR rfl h_34 dX8_mend_82 ?_
      obtain ⟨a_36, e_36, hq⟩ := ww_bS hf; replace hf := hq; clear hq
      subst e_36
      obtain ⟨h_37, hq⟩ := ww_gS hf; replace hf := hq; clear hq
      obtain ⟨r_38, h_38, hq⟩ := ww_bS hf; replace hf := hq; clear hq
      refine c8i_many X hl.1 hK hR hS (Nat.le_trans (Nat.le_of_ble_eq_true rfl) hF) (Nat.le_trans (Nat.le_of_ble_eq_true rfl) hLo) (Nat.le_trans hm9.1 hC.1) (Nat.le_trans hm9.2 hC.2) h_37 h_38 (cw_rest (Nat.le_of_ble_eq_true rfl)) dX8_mend_83 (fun H locs hR hS => ?_)
      refine lv_iload_n hx hb dX8_mend_88 rfl (lv_at hl 3 rfl) ?_
      refine lv_icmp_le (tgt := 136) hx hb dX8_mend_89 (by decide) (fun c_39 => ?_) (fun c_39 => ?_)
      · replace hf := ww_ip hf c_39
        exact (hj_2 hf).2 _ _ _ hR hS (lv_sub hl [0, 1, 2] rfl)
      · replace hf := ww_in hf c_39
        refine lv_aload_n hx hb dX8_mend_92 rfl (lv_at hl 0 rfl) ?_
        obtain ⟨r_40, h_40, hq⟩ := ww_bS hf; replace hf := hq; clear hq
        refine c8g_9 X hK hR h_40 dX8_mend_93 ?_
        refine lv_iload_n hx hb dX8_mend_96 rfl (lv_at hl 2 rfl) ?_
        refine lv_iconst (v := (1 : Int32)) hx hb dX8_mend_97 (by decide) ?_
        refine lv_iadd hx hb dX8_mend_98 ?_
        refine lv_aload_n hx hb dX8_mend_99 rfl (lv_at hl 0 rfl) ?_
        obtain ⟨r_41, h_41, hq⟩ := ww_bS hf; replace hf := hq; clear hq
        refine c8g_9 X hK hR h_41 dX8_mend_100 ?_
        refine lv_iload_n hx hb dX8_mend_103 rfl (lv_at hl 2 rfl) ?_
        refine lv_iconst (v := (1 : Int32)) hx hb dX8_mend_104 (by decide) ?_
        refine lv_iadd hx hb dX8_mend_105 ?_
        obtain ⟨a_43, e_43, hq⟩ := ww_bS hf; replace hf := hq; clear hq
        subst e_43
        obtain ⟨r_42, h_42, hq⟩ := ww_bS hf; replace hf := hq; clear hq
        refine cw_oxR (x := some a_43) X hK hR rfl h_42 dX8_mend_106 ?_
        refine cw_aload_n (x := x1) hx hb dX8_mend_107 rfl (lv_at hl 1 rfl) ?_
        obtain ⟨a_44, e_44, hq⟩ := ww_bS hf; replace hf := hq; clear hq
        subst e_44
        obtain ⟨h_45, hq⟩ := ww_gS hf; replace hf := hq; clear hq
        obtain ⟨r_46, D_46, c_46, k_46, h_46, hq⟩ := ww_b4S hf; replace hf := hq; clear hq
        have hm9 : (0 + c_46) ≤ nc ∧ (0 + k_46) ≤ ns := by
          obtain ⟨a_47, e_47, hq⟩ := ww_bS hf; replace hf := hq; clear hq
          subst e_47
          obtain ⟨D_48, h_48, hq⟩ := ww_bS hf; replace hf := hq; clear hq
          obtain ⟨r_49, h_49, hq⟩ := ww_bS hf; replace hf := hq; clear hq
          obtain ⟨a_51, e_51, hq⟩ := ww_bS hf; replace hf := hq; clear hq
          subst e_51
          obtain ⟨r_50, h_50, hq⟩ := ww_bS hf; replace hf := hq; clear hq
          obtain ⟨r_52, h_52, hq⟩ := ww_bS hf; replace hf := hq; clear hq
          obtain ⟨a_54, e_54, hq⟩ := ww_bS hf; replace hf := hq; clear hq
          subst e_54
          obtain ⟨r_53, h_53, hq⟩ := ww_bS hf; replace hf := hq; clear hq
          obtain ⟨a_55, e_55, hq⟩ := ww_bS hf; replace hf := hq; clear hq
          subst e_55
          obtain ⟨D_56, h_56, hq⟩ := ww_bS hf; replace hf := hq; clear hq
          have e9 := hf
          simp only [Option.some.injEq, Prod.mk.injEq] at e9
          omega
        refine c8i_edited (x1 := x1) X hl.1 hK hR hS (Nat.le_trans (Nat.le_of_ble_eq_true rfl) hF) (Nat.le_trans (Nat.le_of_ble_eq_true rfl) hLo) (Nat.le_trans hm9.1 hC.1) (Nat.le_trans hm9.2 hC.2) h_45 h_46 (cw_rest (Nat.le_of_ble_eq_true rfl)) dX8_mend_108 (fun H locs hR hS => ?_)
        obtain ⟨a_47, e_47, hq⟩ := ww_bS hf; replace hf := hq; clear hq
        subst e_47
        obtain ⟨D_48, h_48, hq⟩ := ww_bS hf; replace hf := hq; clear hq
        refine cw_otR (x' := some a_47) (v := r_46) X hK hR hS rfl h_48 dX8_mend_113 (fun H locs hR hS => ?_)
        refine lv_aload_n hx hb dX8_mend_114 rfl (lv_at hl 0 rfl) ?_
        obtain ⟨r_49, h_49, hq⟩ := ww_bS hf; replace hf := hq; clear hq
        refine c8g_9 X hK hR h_49 dX8_mend_115 ?_
        refine lv_iload_n hx hb dX8_mend_118 rfl (lv_at hl 2 rfl) ?_
        obtain ⟨a_51, e_51, hq⟩ := ww_bS hf; replace hf := hq; clear hq
        subst e_51
        obtain ⟨r_50, h_50, hq⟩ := ww_bS hf; replace hf := hq; clear hq
        refine cw_oxR (x := some a_51) X hK hR rfl h_50 dX8_mend_119 ?_
        refine lv_aload_n hx hb dX8_mend_120 rfl (lv_at hl 0 rfl) ?_
        obtain ⟨r_52, h_52, hq⟩ := ww_bS hf; replace hf := hq; clear hq
        refine c8g_9 X hK hR h_52 dX8_mend_121 ?_
        refine lv_iload_n hx hb dX8_mend_124 rfl (lv_at hl 2 rfl) ?_
        refine lv_iconst (v := (1 : Int32)) hx hb dX8_mend_125 (by decide) ?_
        refine lv_iadd hx hb dX8_mend_126 ?_
        obtain ⟨a_54, e_54, hq⟩ := ww_bS hf; replace hf := hq; clear hq
        subst e_54
        obtain ⟨r_53, h_53, hq⟩ := ww_bS hf; replace hf := hq; clear hq
        refine cw_oxR (x := some a_54) X hK hR rfl h_53 dX8_mend_127 ?_
        obtain ⟨a_55, e_55, hq⟩ := ww_bS hf; replace hf := hq; clear hq
        subst e_55
        obtain ⟨D_56, h_56, hq⟩ := ww_bS hf; replace hf := hq; clear hq
        refine c8i_firstOf (x1 := r_53) X hl.1 hK hR hS (Nat.le_trans (Nat.le_of_ble_eq_true rfl) hF) (Nat.le_trans (Nat.le_of_ble_eq_true rfl) hLo) (Nat.le_trans hm9.1 hC.1) (Nat.le_trans hm9.2 hC.2) h_56 (cw_rest (Nat.le_of_ble_eq_true rfl)) dX8_mend_128 (fun H locs hR hS => ?_)
        refine lv_goto (tgt := 215) hx hb dX8_mend_133 (by decide) ?_
        exact hend dX8_mend_215 hf hR hS
  refine lv_if_le (tgt := 65) hx hb dX8_mend_1 (by decide) (fun c_57 => ?_) (fun c_57 => ?_)
  · replace hf := ww_ip hf c_57
    exact (hj_1 hf).2 _ _ _ hR hS hl
  · replace hf := ww_in hf c_57
    refine lv_aload_n hx hb dX8_mend_4 rfl (lv_at hl 0 rfl) ?_
    obtain ⟨r_58, h_58, hq⟩ := ww_bS hf; replace hf := hq; clear hq
    refine c8g_9 X hK hR h_58 dX8_mend_5 ?_
    refine lv_iload_n hx hb dX8_mend_8 rfl (lv_at hl 2 rfl) ?_
    refine lv_iconst (v := (1 : Int32)) hx hb dX8_mend_9 (by decide) ?_
    refine lv_isub hx hb dX8_mend_10 ?_
    obtain ⟨a_60, e_60, hq⟩ := ww_bS hf; replace hf := hq; clear hq
    subst e_60
    obtain ⟨r_59, h_59, hq⟩ := ww_bS hf; replace hf := hq; clear hq
    refine cw_oxR (x := some a_60) X hK hR rfl h_59 dX8_mend_11 ?_
    obtain ⟨a_61, e_61, hq⟩ := ww_bS hf; replace hf := hq; clear hq
    subst e_61
    obtain ⟨h_62, hq⟩ := ww_gS hf; replace hf := hq; clear hq
    obtain ⟨r_63, h_63, hq⟩ := ww_bS hf; replace hf := hq; clear hq
    refine c8i_many X hl.1 hK hR hS (Nat.le_trans (Nat.le_of_ble_eq_true rfl) hF) (Nat.le_trans (Nat.le_of_ble_eq_true rfl) hLo) (Nat.le_trans hm9.1 hC.1) (Nat.le_trans hm9.2 hC.2) h_62 h_63 (cw_rest (Nat.le_of_ble_eq_true rfl)) dX8_mend_12 (fun H locs hR hS => ?_)
    refine lv_iload_n hx hb dX8_mend_17 rfl (lv_at hl 3 rfl) ?_
    refine lv_icmp_le (tgt := 65) hx hb dX8_mend_18 (by decide) (fun c_64 => ?_) (fun c_64 => ?_)
    · replace hf := ww_ip hf c_64
      exact (hj_1 hf).2 _ _ _ hR hS hl
    · replace hf := ww_in hf c_64
      refine lv_aload_n hx hb dX8_mend_21 rfl (lv_at hl 0 rfl) ?_
      obtain ⟨r_65, h_65, hq⟩ := ww_bS hf; replace hf := hq; clear hq
      refine c8g_9 X hK hR h_65 dX8_mend_22 ?_
      refine lv_iload_n hx hb dX8_mend_25 rfl (lv_at hl 2 rfl) ?_
      refine lv_iconst (v := (1 : Int32)) hx hb dX8_mend_26 (by decide) ?_
      refine lv_isub hx hb dX8_mend_27 ?_
      refine lv_aload_n hx hb dX8_mend_28 rfl (lv_at hl 0 rfl) ?_
      obtain ⟨r_66, h_66, hq⟩ := ww_bS hf; replace hf := hq; clear hq
      refine c8g_9 X hK hR h_66 dX8_mend_29 ?_
      refine lv_iload_n hx hb dX8_mend_32 rfl (lv_at hl 2 rfl) ?_
      refine lv_iconst (v := (1 : Int32)) hx hb dX8_mend_33 (by decide) ?_
      refine lv_isub hx hb dX8_mend_34 ?_
      obtain ⟨a_68, e_68, hq⟩ := ww_bS hf; replace hf := hq; clear hq
      subst e_68
      obtain ⟨r_67, h_67, hq⟩ := ww_bS hf; replace hf := hq; clear hq
      refine cw_oxR (x := some a_68) X hK hR rfl h_67 dX8_mend_35 ?_
      refine cw_aload_n (x := x1) hx hb dX8_mend_36 rfl (lv_at hl 1 rfl) ?_
      obtain ⟨a_69, e_69, hq⟩ := ww_bS hf; replace hf := hq; clear hq
      subst e_69
      obtain ⟨h_70, hq⟩ := ww_gS hf; replace hf := hq; clear hq
      obtain ⟨r_71, D_71, c_71, k_71, h_71, hq⟩ := ww_b4S hf; replace hf := hq; clear hq
      have hm9 : (0 + c_71) ≤ nc ∧ (0 + k_71) ≤ ns := by
        obtain ⟨a_72, e_72, hq⟩ := ww_bS hf; replace hf := hq; clear hq
        subst e_72
        obtain ⟨D_73, h_73, hq⟩ := ww_bS hf; replace hf := hq; clear hq
        obtain ⟨r_74, h_74, hq⟩ := ww_bS hf; replace hf := hq; clear hq
        obtain ⟨a_76, e_76, hq⟩ := ww_bS hf; replace hf := hq; clear hq
        subst e_76
        obtain ⟨r_75, h_75, hq⟩ := ww_bS hf; replace hf := hq; clear hq
        obtain ⟨r_77, h_77, hq⟩ := ww_bS hf; replace hf := hq; clear hq
        obtain ⟨a_79, e_79, hq⟩ := ww_bS hf; replace hf := hq; clear hq
        subst e_79
        obtain ⟨r_78, h_78, hq⟩ := ww_bS hf; replace hf := hq; clear hq
        obtain ⟨a_80, e_80, hq⟩ := ww_bS hf; replace hf := hq; clear hq
        subst e_80
        obtain ⟨D_81, h_81, hq⟩ := ww_bS hf; replace hf := hq; clear hq
        have e9 := hf
        simp only [Option.some.injEq, Prod.mk.injEq] at e9
        omega
      refine c8i_edited (x1 := x1) X hl.1 hK hR hS (Nat.le_trans (Nat.le_of_ble_eq_true rfl) hF) (Nat.le_trans (Nat.le_of_ble_eq_true rfl) hLo) (Nat.le_trans hm9.1 hC.1) (Nat.le_trans hm9.2 hC.2) h_70 h_71 (cw_rest (Nat.le_of_ble_eq_true rfl)) dX8_mend_37 (fun H locs hR hS => ?_)
      obtain ⟨a_72, e_72, hq⟩ := ww_bS hf; replace hf := hq; clear hq
      subst e_72
      obtain ⟨D_73, h_73, hq⟩ := ww_bS hf; replace hf := hq; clear hq
      refine cw_otR (x' := some a_72) (v := r_71) X hK hR hS rfl h_73 dX8_mend_42 (fun H locs hR hS => ?_)
      refine lv_aload_n hx hb dX8_mend_43 rfl (lv_at hl 0 rfl) ?_
      obtain ⟨r_74, h_74, hq⟩ := ww_bS hf; replace hf := hq; clear hq
      refine c8g_9 X hK hR h_74 dX8_mend_44 ?_
      refine lv_iload_n hx hb dX8_mend_47 rfl (lv_at hl 2 rfl) ?_
      obtain ⟨a_76, e_76, hq⟩ := ww_bS hf; replace hf := hq; clear hq
      subst e_76
      obtain ⟨r_75, h_75, hq⟩ := ww_bS hf; replace hf := hq; clear hq
      refine cw_oxR (x := some a_76) X hK hR rfl h_75 dX8_mend_48 ?_
      refine lv_aload_n hx hb dX8_mend_49 rfl (lv_at hl 0 rfl) ?_
      obtain ⟨r_77, h_77, hq⟩ := ww_bS hf; replace hf := hq; clear hq
      refine c8g_9 X hK hR h_77 dX8_mend_50 ?_
      refine lv_iload_n hx hb dX8_mend_53 rfl (lv_at hl 2 rfl) ?_
      refine lv_iconst (v := (1 : Int32)) hx hb dX8_mend_54 (by decide) ?_
      refine lv_isub hx hb dX8_mend_55 ?_
      obtain ⟨a_79, e_79, hq⟩ := ww_bS hf; replace hf := hq; clear hq
      subst e_79
      obtain ⟨r_78, h_78, hq⟩ := ww_bS hf; replace hf := hq; clear hq
      refine cw_oxR (x := some a_79) X hK hR rfl h_78 dX8_mend_56 ?_
      obtain ⟨a_80, e_80, hq⟩ := ww_bS hf; replace hf := hq; clear hq
      subst e_80
      obtain ⟨D_81, h_81, hq⟩ := ww_bS hf; replace hf := hq; clear hq
      refine c8i_lastOf (x1 := r_78) X hl.1 hK hR hS (Nat.le_trans (Nat.le_of_ble_eq_true rfl) hF) (Nat.le_trans (Nat.le_of_ble_eq_true rfl) hLo) (Nat.le_trans hm9.1 hC.1) (Nat.le_trans hm9.2 hC.2) h_81 (cw_rest (Nat.le_of_ble_eq_true rfl)) dX8_mend_57 (fun H locs hR hS => ?_)
      refine lv_goto (tgt := 215) hx hb dX8_mend_62 (by decide) ?_
      exact hend dX8_mend_215 hf hR hS
section C_8_mend_c
variable {p : Program} {l : Launch} {e : Env} {R : Room} {s : State} {m : MethodId} {args : Array Value} {below : List Frame} {meth : Method} {c : Code} {H : Heap} {locs : List Loc} {cells slots : Nat} {Q : State → Prop}
variable {cc : ByteArray} {pc : Nat} {ls : Array Slot} {rest : List Value} {nL : Nat} {E : cw_E} {A : Nat → Prop} {H0 : Heap}
theorem c8c_8_mend {D : cw_D} {a0 : Nat} {x1 : Option Nat} {x2 : Int32} {x3 : Int32} {D' : cw_D} {nc ns : Nat} (X : ww_C p m c cc nL s args RX8 lw_all) (hsz : ls.size = nL) (hK : cw_K E A s) (hR : cw_H E A D H) (hS : va_S A s.heap H locs) (hF : 13 ≤ R.frames) (hLo : 266 ≤ R.locals) (hc : cells + nc ≤ R.cells) (hs : slots + ns ≤ R.slots) (hkd : cw_kd D [2] (some a0) = true) (hf : f8_mend D a0 x1 x2 x3 = some (D', nc, ns)) (hrest : (rest.map fun v => v.category).sum ≤ 8) (hdg : decode cc pc = .ok (.invokevirtual 55, 3)) (kk : ∀ (H1 : Heap) (locs1 : List Loc), cw_H E A D' H1 → va_S A s.heap H1 locs1 → W p l e R s m args below meth c H1 locs1 (cells + nc) (slots + ns) Q (F0 m (pc + 3) ls (rest))) : W p l e R s m args below meth c H locs cells slots Q (F0 m pc ls (.int x3 :: .int x2 :: va_rf x1 :: .ref a0 :: rest)) :=
  c8k_8_mend X hsz hK hR hS hF hLo hc hs hkd (met8_mend l _ _ _ _ _ _ _ _ hf) hrest hdg kk
end C_8_mend_c
noncomputable def f8_takes_r (rec : cw_D → Nat → Option Nat → Int32 → Int32 → Option (cw_D × Nat × Nat)) (D : cw_D) (a0 : Nat) (x1 : Option Nat) (x2 : Int32) (x3 : Int32) : Option (cw_D × Nat × Nat) :=
  ww_g (cw_kd D [2] (some a0)) (ww_b (f5_kidFor D a0 x2) (fun r_2 => ww_b (cw_gR D [2] a0 3) (fun r_3 => ww_b (cw_gR D [2] a0 3) (fun r_4 => ww_b r_4 (fun a_6 => ww_b (cw_xR D a_6 r_2) (fun r_5 => ww_b r_5 (fun a_7 => ww_g (cw_kd D [1, 2] (some a_7)) (ww_b4 (f5_edited D a_7 x1) (fun r_9 D_9 c_9 k_9 => ww_b r_3 (fun a_10 => ww_b (cw_tR D_9 a_10 r_2 r_9) (fun D_11 => ww_b (cw_gR D_11 [2] a0 3) (fun r_12 => ww_b r_12 (fun a_14 => ww_b (cw_xR D_11 a_14 r_2) (fun r_13 => ww_b r_13 (fun a_15 => ww_b3 (f5r_takes rec D_11 a_15 x1 x2 x3) (fun D_16 c_16 k_16 => ww_b (cw_gR D_16 [2] a0 3) (fun r_17 => ww_b r_17 (fun a_19 => ww_b (cw_xR D_16 a_19 r_2) (fun r_18 => ww_b r_18 (fun a_20 => ww_g (cw_kd D_16 [1, 2] (some a_20)) (ww_b (f6_many D_16 a_20) (fun r_22 => if x3 ≤ r_22 then some (D_16, ((0 + c_9) + c_16), ((0 + k_9) + k_16)) else ww_g (cw_kd D_16 [2] (some a0)) (ww_b3 (f8_mend D_16 a0 x1 r_2 x3) (fun D_25 c_25 k_25 => some (D_25, (((0 + c_9) + c_16) + c_25), (((0 + k_9) + k_16) + k_25))))))))))))))))))))))))))
noncomputable def f8_takes : Nat → cw_D → Nat → Option Nat → Int32 → Int32 → Option (cw_D × Nat × Nat)
  | 0 => fun _ _ _ _ _ => none
  | d + 1 => f8_takes_r (f8_takes d)
section C_8_takes_j
variable {p : Program} {l : Launch} {e : Env} {R : Room} {s : State} {m : MethodId} {args : Array Value} {below : List Frame} {meth : Method} {c : Code} {H : Heap} {locs : List Loc} {cells slots : Nat} {Q : State → Prop}
variable {cc : ByteArray} {pc : Nat} {ls : Array Slot} {rest : List Value} {nL : Nat} {E : cw_E} {A : Nat → Prop} {H0 : Heap}
theorem c1j_takes {D : cw_D} {a0 : Nat} {x1 : Option Nat} {x2 : Int32} {x3 : Int32} {D' : cw_D} {nc ns : Nat} {d : Nat} (X : ww_C p m c cc nL s args RX1 lw_all) (hsz : ls.size = nL) (hK : cw_K E A s) (hR : cw_H E A D H) (hS : va_S A s.heap H locs) (hF : d + 13 + 1 ≤ R.frames) (hLo : 8 + (5 + 11) + (24 * d + 266) ≤ R.locals) (hc : cells + nc ≤ R.cells) (hs : slots + ns ≤ R.slots) (ih : f8_takes d D a0 x1 x2 x3 = some (D', nc, ns) → cw_MetV l yX8_takes cX8_takes 5 (d + 13) (24 * d + 266) E A [.ref a0, va_rf x1, .int x2, .int x3] D D' nc ns) (hf : f5r_takes (f8_takes d) D a0 x1 x2 x3 = some (D', nc, ns)) (hrest : (rest.map fun v => v.category).sum ≤ 8) {count : Nat} (hdg : decode cc pc = .ok (.invokeinterface 306 count, 5)) (kk : ∀ (H1 : Heap) (locs1 : List Loc), cw_H E A D' H1 → va_S A s.heap H1 locs1 → W p l e R s m args below meth c H1 locs1 (cells + nc) (slots + ns) Q (F0 m (pc + 5) ls (rest))) : W p l e R s m args below meth c H locs cells slots Q (F0 m pc ls (.int x3 :: .int x2 :: va_rf x1 :: .ref a0 :: rest)) := by
  unfold f5r_takes at hf
  by_cases hkd : cw_kd D [1] (some a0) = true
  · rw [if_pos hkd] at hf
    exact va_callFv (va_runF (C := RX7) (x := ⟨"WideMap$Node", "takes", "(LWideMap$Token;II)V"⟩) (As := [va_rf x1, .int x2, .int x3]) (rest := rest) (b := a0) (cw_cls (k := 1) (C := RX7) (T := TX7) (N := 5) rfl hK) X (met7_takes l _ _ _ _ _ _ _ _ hf) (va_cwF 3 X.2.2.2.2 (cw_F q1225 q1235 q1237 q154 q1239) rfl rfl rfl (hK.2.2.2.1 ("WideMap$Leaf", ⟨"WideMap$Node", "takes", "(LWideMap$Token;II)V"⟩, ⟨"WideMap$Leaf", "takes", "(LWideMap$Token;II)V"⟩) (by decide +kernel)) (by decide +kernel) ⟨(show 3 ≤ R.frames by omega), (show 68 ≤ R.locals by omega)⟩) (cw_pV hK hR hS (cw_rc (k := 1) (C := RX7) (T := TX7) (N := 5) rfl (by decide) hK hR hkd)) rfl rfl hsz rfl (lv_room hrest) hdg ⟨hc, hs⟩) hS (fun q _ h => h) (fun q h => h) (fun u t H1 locs1 ht hvm hw hB hz1 hk1 hS1 => by rw [ht] at hB; exact kk H1 locs1 hB hS1)
  · rw [if_neg hkd] at hf
    by_cases hkd : cw_kd D [2] (some a0) = true
    · rw [if_pos hkd] at hf
      exact va_callFv (va_runF (C := RX8) (x := ⟨"WideMap$Node", "takes", "(LWideMap$Token;II)V"⟩) (As := [va_rf x1, .int x2, .int x3]) (rest := rest) (b := a0) (cw_cls (k := 2) (C := RX8) (T := TX8) (N := 4) rfl hK) X (ih hf) (va_cwF 3 X.2.2.2.2 (cw_F q1225 q1228 q1230 q155 q1232) rfl rfl rfl (hK.2.2.2.1 ("WideMap$Inner", ⟨"WideMap$Node", "takes", "(LWideMap$Token;II)V"⟩, ⟨"WideMap$Inner", "takes", "(LWideMap$Token;II)V"⟩) (by decide +kernel)) (by decide +kernel) ⟨(show d + 13 + 1 ≤ R.frames by omega), (show 8 + (5 + 11) + (24 * d + 266) ≤ R.locals by omega)⟩) (cw_pV hK hR hS (cw_rc (k := 2) (C := RX8) (T := TX8) (N := 4) rfl (by decide) hK hR hkd)) rfl rfl hsz rfl (lv_room hrest) hdg ⟨hc, hs⟩) hS (fun q _ h => h) (fun q h => h) (fun u t H1 locs1 ht hvm hw hB hz1 hk1 hS1 => by rw [ht] at hB; exact kk H1 locs1 hB hS1)
    · rw [if_neg hkd] at hf
      cases hf
theorem c8j_takes {D : cw_D} {a0 : Nat} {x1 : Option Nat} {x2 : Int32} {x3 : Int32} {D' : cw_D} {nc ns : Nat} {d : Nat} (X : ww_C p m c cc nL s args RX8 lw_all) (hsz : ls.size = nL) (hK : cw_K E A s) (hR : cw_H E A D H) (hS : va_S A s.heap H locs) (hF : d + 13 + 1 ≤ R.frames) (hLo : 8 + (5 + 11) + (24 * d + 266) ≤ R.locals) (hc : cells + nc ≤ R.cells) (hs : slots + ns ≤ R.slots) (ih : f8_takes d D a0 x1 x2 x3 = some (D', nc, ns) → cw_MetV l yX8_takes cX8_takes 5 (d + 13) (24 * d + 266) E A [.ref a0, va_rf x1, .int x2, .int x3] D D' nc ns) (hf : f5r_takes (f8_takes d) D a0 x1 x2 x3 = some (D', nc, ns)) (hrest : (rest.map fun v => v.category).sum ≤ 8) {count : Nat} (hdg : decode cc pc = .ok (.invokeinterface 48 count, 5)) (kk : ∀ (H1 : Heap) (locs1 : List Loc), cw_H E A D' H1 → va_S A s.heap H1 locs1 → W p l e R s m args below meth c H1 locs1 (cells + nc) (slots + ns) Q (F0 m (pc + 5) ls (rest))) : W p l e R s m args below meth c H locs cells slots Q (F0 m pc ls (.int x3 :: .int x2 :: va_rf x1 :: .ref a0 :: rest)) := by
  unfold f5r_takes at hf
  by_cases hkd : cw_kd D [1] (some a0) = true
  · rw [if_pos hkd] at hf
    exact va_callFv (va_runF (C := RX7) (x := ⟨"WideMap$Node", "takes", "(LWideMap$Token;II)V"⟩) (As := [va_rf x1, .int x2, .int x3]) (rest := rest) (b := a0) (cw_cls (k := 1) (C := RX7) (T := TX7) (N := 5) rfl hK) X (met7_takes l _ _ _ _ _ _ _ _ hf) (va_cwF 3 X.2.2.2.2 (cw_F q1234 q1235 q1237 q154 q1239) rfl rfl rfl (hK.2.2.2.1 ("WideMap$Leaf", ⟨"WideMap$Node", "takes", "(LWideMap$Token;II)V"⟩, ⟨"WideMap$Leaf", "takes", "(LWideMap$Token;II)V"⟩) (by decide +kernel)) (by decide +kernel) ⟨(show 3 ≤ R.frames by omega), (show 68 ≤ R.locals by omega)⟩) (cw_pV hK hR hS (cw_rc (k := 1) (C := RX7) (T := TX7) (N := 5) rfl (by decide) hK hR hkd)) rfl rfl hsz rfl (lv_room hrest) hdg ⟨hc, hs⟩) hS (fun q _ h => h) (fun q h => h) (fun u t H1 locs1 ht hvm hw hB hz1 hk1 hS1 => by rw [ht] at hB; exact kk H1 locs1 hB hS1)
  · rw [if_neg hkd] at hf
    by_cases hkd : cw_kd D [2] (some a0) = true
    · rw [if_pos hkd] at hf
      exact va_callFv (va_runF (C := RX8) (x := ⟨"WideMap$Node", "takes", "(LWideMap$Token;II)V"⟩) (As := [va_rf x1, .int x2, .int x3]) (rest := rest) (b := a0) (cw_cls (k := 2) (C := RX8) (T := TX8) (N := 4) rfl hK) X (ih hf) (va_cwF 3 X.2.2.2.2 (cw_F q1234 q1228 q1230 q155 q1232) rfl rfl rfl (hK.2.2.2.1 ("WideMap$Inner", ⟨"WideMap$Node", "takes", "(LWideMap$Token;II)V"⟩, ⟨"WideMap$Inner", "takes", "(LWideMap$Token;II)V"⟩) (by decide +kernel)) (by decide +kernel) ⟨(show d + 13 + 1 ≤ R.frames by omega), (show 8 + (5 + 11) + (24 * d + 266) ≤ R.locals by omega)⟩) (cw_pV hK hR hS (cw_rc (k := 2) (C := RX8) (T := TX8) (N := 4) rfl (by decide) hK hR hkd)) rfl rfl hsz rfl (lv_room hrest) hdg ⟨hc, hs⟩) hS (fun q _ h => h) (fun q h => h) (fun u t H1 locs1 ht hvm hw hB hz1 hk1 hS1 => by rw [ht] at hB; exact kk H1 locs1 hB hS1)
    · rw [if_neg hkd] at hf
      cases hf
end C_8_takes_j
set_option maxHeartbeats 4000000 in
set_option maxRecDepth 100000 in
theorem met8_takes (l : Launch) {E : cw_E} {A : Nat → Prop} : ∀ (d : Nat) (D : cw_D) (a0 : Nat) (x1 : Option Nat) (x2 : Int32) (x3 : Int32) (D' : cw_D) (nc ns : Nat), f8_takes d D a0 x1 x2 x3 = some (D', nc, ns) → cw_MetV l yX8_takes cX8_takes 5 (d + 13) (24 * d + 266) E A [.ref a0, va_rf x1, .int x2, .int x3] D D' nc ns := by
  intro d
  induction d with
  | zero => intro D a0 x1 x2 x3 D' nc ns hf; cases hf
  | succ d ih =>
    intro D a0 x1 x2 x3 D' nc ns hf
    replace hf : f8_takes_r (f8_takes d) D a0 x1 x2 x3 = some (D', nc, ns) := hf
    unfold f8_takes_r at hf
    refine cw_sVN (own := RX8) (by decide +kernel) [(0, .ref a0), (1, va_rf x1), (2, .int x2), (3, .int x3)] ⟨by cases x1 <;> exact Nat.le_of_ble_eq_true rfl, by cases x1 <;> rfl⟩ ?_
    intro p e s m args below meth c Rm Q X hK hF hLo hC hin hend ls hl hR hS
    obtain ⟨hx, hb, hml, hown, hts⟩ := id X
    have hm9 : 0 ≤ nc ∧ 0 ≤ ns := ⟨Nat.zero_le _, Nat.zero_le _⟩
    refine lv_aload_n hx hb dX8_takes_0 rfl (lv_at hl 0 rfl) ?_
    refine lv_iload_n hx hb dX8_takes_1 rfl (lv_at hl 2 rfl) ?_
    obtain ⟨h_1, hq⟩ := ww_gS hf; replace hf := hq; clear hq
    obtain ⟨r_2, h_2, hq⟩ := ww_bS hf; replace hf := hq; clear hq
    refine c8c_5_kidFor X hl.1 hK hR hS (by omega) (by omega) (Nat.le_trans hm9.1 hC.1) (Nat.le_trans hm9.2 hC.2) h_1 h_2 (cw_rest (Nat.le_of_ble_eq_true rfl)) dX8_takes_2 (fun H locs hR hS => ?_)
    refine lv_istore (lv' := [(4, .int r_2), (0, .ref a0), (1, va_rf x1), (2, .int x2), (3, .int x3)]) hx hb dX8_takes_5 hl (by decide) rfl (fun ls hl => ?_)
    refine lv_aload_n hx hb dX8_takes_7 rfl (lv_at hl 1 rfl) ?_
    obtain ⟨r_3, h_3, hq⟩ := ww_bS hf; replace hf := hq; clear hq
    refine c8g_9 X hK hR h_3 dX8_takes_8 ?_
    refine lv_iload hx hb dX8_takes_11 (lv_at hl 0 rfl) ?_
    refine lv_aload_n hx hb dX8_takes_13 rfl (lv_at hl 1 rfl) ?_
    obtain ⟨r_4, h_4, hq⟩ := ww_bS hf; replace hf := hq; clear hq
    refine c8g_9 X hK hR h_4 dX8_takes_14 ?_
    refine lv_iload hx hb dX8_takes_17 (lv_at hl 0 rfl) ?_
    obtain ⟨a_6, e_6, hq⟩ := ww_bS hf; replace hf := hq; clear hq
    subst e_6
    obtain ⟨r_5, h_5, hq⟩ := ww_bS hf; replace hf := hq; clear hq
    refine cw_oxR (x := some a_6) X hK hR rfl h_5 dX8_takes_19 ?_
    refine cw_aload_n (x := x1) hx hb dX8_takes_20 rfl (lv_at hl 2 rfl) ?_
    obtain ⟨a_7, e_7, hq⟩ := ww_bS hf; replace hf := hq; clear hq
    subst e_7
    obtain ⟨h_8, hq⟩ := ww_gS hf; replace hf := hq; clear hq
    obtain ⟨r_9, D_9, c_9, k_9, h_9, hq⟩ := ww_b4S hf; replace hf := hq; clear hq
    have hm9 : (0 + c_9) ≤ nc ∧ (0 + k_9) ≤ ns := by
      obtain ⟨a_10, e_10, hq⟩ := ww_bS hf; replace hf := hq; clear hq
      subst e_10
      obtain ⟨D_11, h_11, hq⟩ := ww_bS hf; replace hf := hq; clear hq
      obtain ⟨r_12, h_12, hq⟩ := ww_bS hf; replace hf := hq; clear hq
      obtain ⟨a_14, e_14, hq⟩ := ww_bS hf; replace hf := hq; clear hq
      subst e_14
      obtain ⟨r_13, h_13, hq⟩ := ww_bS hf; replace hf := hq; clear hq
      obtain ⟨a_15, e_15, hq⟩ := ww_bS hf; replace hf := hq; clear hq
      subst e_15
      obtain ⟨D_16, c_16, k_16, h_16, hq⟩ := ww_b3S hf; replace hf := hq; clear hq
      obtain ⟨r_17, h_17, hq⟩ := ww_bS hf; replace hf := hq; clear hq
      obtain ⟨a_19, e_19, hq⟩ := ww_bS hf; replace hf := hq; clear hq
      subst e_19
      obtain ⟨r_18, h_18, hq⟩ := ww_bS hf; replace hf := hq; clear hq
      obtain ⟨a_20, e_20, hq⟩ := ww_bS hf; replace hf := hq; clear hq
      subst e_20
      obtain ⟨h_21, hq⟩ := ww_gS hf; replace hf := hq; clear hq
      obtain ⟨r_22, h_22, hq⟩ := ww_bS hf; replace hf := hq; clear hq
      refine ww_by (x3 ≤ r_22) (fun c_23 => ?_) (fun c_23 => ?_)
      · replace hf := ww_ip hf c_23
        have e9 := hf
        simp only [Option.some.injEq, Prod.mk.injEq] at e9
        omega
      · replace hf := ww_in hf c_23
        obtain ⟨h_24, hq⟩ := ww_gS hf; replace hf := hq; clear hq
        obtain ⟨D_25, c_25, k_25, h_25, hq⟩ := ww_b3S hf; replace hf := hq; clear hq
        have e9 := hf
        simp only [Option.some.injEq, Prod.mk.injEq] at e9
        omega
    refine c8i_edited (x1 := x1) X hl.1 hK hR hS (by omega) (by omega) (Nat.le_trans hm9.1 hC.1) (Nat.le_trans hm9.2 hC.2) h_8 h_9 (cw_rest (Nat.le_of_ble_eq_true rfl)) dX8_takes_21 (fun H locs hR hS => ?_)
    obtain ⟨a_10, e_10, hq⟩ := ww_bS hf; replace hf := hq; clear hq
    subst e_10
    obtain ⟨D_11, h_11, hq⟩ := ww_bS hf; replace hf := hq; clear hq
    refine cw_otR (x' := some a_10) (v := r_9) X hK hR hS rfl h_11 dX8_takes_26 (fun H locs hR hS => ?_)
    refine lv_aload_n hx hb dX8_takes_27 rfl (lv_at hl 1 rfl) ?_
    obtain ⟨r_12, h_12, hq⟩ := ww_bS hf; replace hf := hq; clear hq
    refine c8g_9 X hK hR h_12 dX8_takes_28 ?_
    refine lv_iload hx hb dX8_takes_31 (lv_at hl 0 rfl) ?_
    obtain ⟨a_14, e_14, hq⟩ := ww_bS hf; replace hf := hq; clear hq
    subst e_14
    obtain ⟨r_13, h_13, hq⟩ := ww_bS hf; replace hf := hq; clear hq
    refine cw_oxR (x := some a_14) X hK hR rfl h_13 dX8_takes_33 ?_
    refine cw_aload_n (x := x1) hx hb dX8_takes_34 rfl (lv_at hl 2 rfl) ?_
    refine lv_iload_n hx hb dX8_takes_35 rfl (lv_at hl 3 rfl) ?_
    refine lv_iload_n hx hb dX8_takes_36 rfl (lv_at hl 4 rfl) ?_
    obtain ⟨a_15, e_15, hq⟩ := ww_bS hf; replace hf := hq; clear hq
    subst e_15
    obtain ⟨D_16, c_16, k_16, h_16, hq⟩ := ww_b3S hf; replace hf := hq; clear hq
    have hm9 : ((0 + c_9) + c_16) ≤ nc ∧ ((0 + k_9) + k_16) ≤ ns := by
      obtain ⟨r_17, h_17, hq⟩ := ww_bS hf; replace hf := hq; clear hq
      obtain ⟨a_19, e_19, hq⟩ := ww_bS hf; replace hf := hq; clear hq
      subst e_19
      obtain ⟨r_18, h_18, hq⟩ := ww_bS hf; replace hf := hq; clear hq
      obtain ⟨a_20, e_20, hq⟩ := ww_bS hf; replace hf := hq; clear hq
      subst e_20
      obtain ⟨h_21, hq⟩ := ww_gS hf; replace hf := hq; clear hq
      obtain ⟨r_22, h_22, hq⟩ := ww_bS hf; replace hf := hq; clear hq
      refine ww_by (x3 ≤ r_22) (fun c_23 => ?_) (fun c_23 => ?_)
      · replace hf := ww_ip hf c_23
        have e9 := hf
        simp only [Option.some.injEq, Prod.mk.injEq] at e9
        omega
      · replace hf := ww_in hf c_23
        obtain ⟨h_24, hq⟩ := ww_gS hf; replace hf := hq; clear hq
        obtain ⟨D_25, c_25, k_25, h_25, hq⟩ := ww_b3S hf; replace hf := hq; clear hq
        have e9 := hf
        simp only [Option.some.injEq, Prod.mk.injEq] at e9
        omega
    refine c8j_takes (x1 := x1) X hl.1 hK hR hS (by omega) (by omega) (Nat.le_trans hm9.1 hC.1) (Nat.le_trans hm9.2 hC.2) (fun q9 => ih _ _ _ _ _ _ _ _ q9) h_16 (cw_rest (Nat.le_of_ble_eq_true rfl)) dX8_takes_37 (fun H locs hR hS => ?_)
    refine lv_aload_n hx hb dX8_takes_42 rfl (lv_at hl 1 rfl) ?_
    obtain ⟨r_17, h_17, hq⟩ := ww_bS hf; replace hf := hq; clear hq
    refine c8g_9 X hK hR h_17 dX8_takes_43 ?_
    refine lv_iload hx hb dX8_takes_46 (lv_at hl 0 rfl) ?_
    obtain ⟨a_19, e_19, hq⟩ := ww_bS hf; replace hf := hq; clear hq
    subst e_19
    obtain ⟨r_18, h_18, hq⟩ := ww_bS hf; replace hf := hq; clear hq
    refine cw_oxR (x := some a_19) X hK hR rfl h_18 dX8_takes_48 ?_
    obtain ⟨a_20, e_20, hq⟩ := ww_bS hf; replace hf := hq; clear hq
    subst e_20
    obtain ⟨h_21, hq⟩ := ww_gS hf; replace hf := hq; clear hq
    obtain ⟨r_22, h_22, hq⟩ := ww_bS hf; replace hf := hq; clear hq
    refine c8i_many X hl.1 hK hR hS (by omega) (by omega) (Nat.le_trans hm9.1 hC.1) (Nat.le_trans hm9.2 hC.2) h_21 h_22 (cw_rest (Nat.le_of_ble_eq_true rfl)) dX8_takes_49 (fun H locs hR hS => ?_)
    refine lv_iload_n hx hb dX8_takes_54 rfl (lv_at hl 4 rfl) ?_
    refine lv_icmp_ge (tgt := 66) hx hb dX8_takes_55 (by decide) (fun c_23 => ?_) (fun c_23 => ?_)
    · replace hf := ww_ip hf c_23
      exact hend dX8_takes_66 hf hR hS
    · replace hf := ww_in hf c_23
      refine lv_aload_n hx hb dX8_takes_58 rfl (lv_at hl 1 rfl) ?_
      refine cw_aload_n (x := x1) hx hb dX8_takes_59 rfl (lv_at hl 2 rfl) ?_
      refine lv_iload hx hb dX8_takes_60 (lv_at hl 0 rfl) ?_
      refine lv_iload_n hx hb dX8_takes_62 rfl (lv_at hl 4 rfl) ?_
      obtain ⟨h_24, hq⟩ := ww_gS hf; replace hf := hq; clear hq
      obtain ⟨D_25, c_25, k_25, h_25, hq⟩ := ww_b3S hf; replace hf := hq; clear hq
      have hm9 : (((0 + c_9) + c_16) + c_25) ≤ nc ∧ (((0 + k_9) + k_16) + k_25) ≤ ns := by
        have e9 := hf
        simp only [Option.some.injEq, Prod.mk.injEq] at e9
        omega
      refine c8c_8_mend (x1 := x1) X hl.1 hK hR hS (by omega) (by omega) (Nat.le_trans hm9.1 hC.1) (Nat.le_trans hm9.2 hC.2) h_24 h_25 (cw_rest (Nat.le_of_ble_eq_true rfl)) dX8_takes_63 (fun H locs hR hS => ?_)
      exact hend dX8_takes_66 hf hR hS
section C_8_takes_i
variable {p : Program} {l : Launch} {e : Env} {R : Room} {s : State} {m : MethodId} {args : Array Value} {below : List Frame} {meth : Method} {c : Code} {H : Heap} {locs : List Loc} {cells slots : Nat} {Q : State → Prop}
variable {cc : ByteArray} {pc : Nat} {ls : Array Slot} {rest : List Value} {nL : Nat} {E : cw_E} {A : Nat → Prop} {H0 : Heap}
theorem c1i_takes {D : cw_D} {a0 : Nat} {x1 : Option Nat} {x2 : Int32} {x3 : Int32} {D' : cw_D} {nc ns : Nat} (X : ww_C p m c cc nL s args RX1 lw_all) (hsz : ls.size = nL) (hK : cw_K E A s) (hR : cw_H E A D H) (hS : va_S A s.heap H locs) (hF : 22 ≤ R.frames) (hLo : 482 ≤ R.locals) (hc : cells + nc ≤ R.cells) (hs : slots + ns ≤ R.slots) (hf : f5r_takes (f8_takes 8) D a0 x1 x2 x3 = some (D', nc, ns)) (hrest : (rest.map fun v => v.category).sum ≤ 8) {count : Nat} (hdg : decode cc pc = .ok (.invokeinterface 306 count, 5)) (kk : ∀ (H1 : Heap) (locs1 : List Loc), cw_H E A D' H1 → va_S A s.heap H1 locs1 → W p l e R s m args below meth c H1 locs1 (cells + nc) (slots + ns) Q (F0 m (pc + 5) ls (rest))) : W p l e R s m args below meth c H locs cells slots Q (F0 m pc ls (.int x3 :: .int x2 :: va_rf x1 :: .ref a0 :: rest)) := by
  unfold f5r_takes at hf
  by_cases hkd : cw_kd D [1] (some a0) = true
  · rw [if_pos hkd] at hf
    exact va_callFv (va_runF (C := RX7) (x := ⟨"WideMap$Node", "takes", "(LWideMap$Token;II)V"⟩) (As := [va_rf x1, .int x2, .int x3]) (rest := rest) (b := a0) (cw_cls (k := 1) (C := RX7) (T := TX7) (N := 5) rfl hK) X (met7_takes l _ _ _ _ _ _ _ _ hf) (va_cwF 3 X.2.2.2.2 (cw_F q1225 q1235 q1237 q154 q1239) rfl rfl rfl (hK.2.2.2.1 ("WideMap$Leaf", ⟨"WideMap$Node", "takes", "(LWideMap$Token;II)V"⟩, ⟨"WideMap$Leaf", "takes", "(LWideMap$Token;II)V"⟩) (by decide +kernel)) (by decide +kernel) ⟨(show 3 ≤ R.frames by omega), (show 68 ≤ R.locals by omega)⟩) (cw_pV hK hR hS (cw_rc (k := 1) (C := RX7) (T := TX7) (N := 5) rfl (by decide) hK hR hkd)) rfl rfl hsz rfl (lv_room hrest) hdg ⟨hc, hs⟩) hS (fun q _ h => h) (fun q h => h) (fun u t H1 locs1 ht hvm hw hB hz1 hk1 hS1 => by rw [ht] at hB; exact kk H1 locs1 hB hS1)
  · rw [if_neg hkd] at hf
    by_cases hkd : cw_kd D [2] (some a0) = true
    · rw [if_pos hkd] at hf
      exact va_callFv (va_runF (C := RX8) (x := ⟨"WideMap$Node", "takes", "(LWideMap$Token;II)V"⟩) (As := [va_rf x1, .int x2, .int x3]) (rest := rest) (b := a0) (cw_cls (k := 2) (C := RX8) (T := TX8) (N := 4) rfl hK) X (met8_takes l 8 _ _ _ _ _ _ _ _ hf) (va_cwF 3 X.2.2.2.2 (cw_F q1225 q1228 q1230 q155 q1232) rfl rfl rfl (hK.2.2.2.1 ("WideMap$Inner", ⟨"WideMap$Node", "takes", "(LWideMap$Token;II)V"⟩, ⟨"WideMap$Inner", "takes", "(LWideMap$Token;II)V"⟩) (by decide +kernel)) (by decide +kernel) ⟨(show 22 ≤ R.frames by omega), (show 482 ≤ R.locals by omega)⟩) (cw_pV hK hR hS (cw_rc (k := 2) (C := RX8) (T := TX8) (N := 4) rfl (by decide) hK hR hkd)) rfl rfl hsz rfl (lv_room hrest) hdg ⟨hc, hs⟩) hS (fun q _ h => h) (fun q h => h) (fun u t H1 locs1 ht hvm hw hB hz1 hk1 hS1 => by rw [ht] at hB; exact kk H1 locs1 hB hS1)
    · rw [if_neg hkd] at hf
      cases hf
theorem c8i_takes {D : cw_D} {a0 : Nat} {x1 : Option Nat} {x2 : Int32} {x3 : Int32} {D' : cw_D} {nc ns : Nat} (X : ww_C p m c cc nL s args RX8 lw_all) (hsz : ls.size = nL) (hK : cw_K E A s) (hR : cw_H E A D H) (hS : va_S A s.heap H locs) (hF : 22 ≤ R.frames) (hLo : 482 ≤ R.locals) (hc : cells + nc ≤ R.cells) (hs : slots + ns ≤ R.slots) (hf : f5r_takes (f8_takes 8) D a0 x1 x2 x3 = some (D', nc, ns)) (hrest : (rest.map fun v => v.category).sum ≤ 8) {count : Nat} (hdg : decode cc pc = .ok (.invokeinterface 48 count, 5)) (kk : ∀ (H1 : Heap) (locs1 : List Loc), cw_H E A D' H1 → va_S A s.heap H1 locs1 → W p l e R s m args below meth c H1 locs1 (cells + nc) (slots + ns) Q (F0 m (pc + 5) ls (rest))) : W p l e R s m args below meth c H locs cells slots Q (F0 m pc ls (.int x3 :: .int x2 :: va_rf x1 :: .ref a0 :: rest)) := by
  unfold f5r_takes at hf
  by_cases hkd : cw_kd D [1] (some a0) = true
  · rw [if_pos hkd] at hf
    exact va_callFv (va_runF (C := RX7) (x := ⟨"WideMap$Node", "takes", "(LWideMap$Token;II)V"⟩) (As := [va_rf x1, .int x2, .int x3]) (rest := rest) (b := a0) (cw_cls (k := 1) (C := RX7) (T := TX7) (N := 5) rfl hK) X (met7_takes l _ _ _ _ _ _ _ _ hf) (va_cwF 3 X.2.2.2.2 (cw_F q1234 q1235 q1237 q154 q1239) rfl rfl rfl (hK.2.2.2.1 ("WideMap$Leaf", ⟨"WideMap$Node", "takes", "(LWideMap$Token;II)V"⟩, ⟨"WideMap$Leaf", "takes", "(LWideMap$Token;II)V"⟩) (by decide +kernel)) (by decide +kernel) ⟨(show 3 ≤ R.frames by omega), (show 68 ≤ R.locals by omega)⟩) (cw_pV hK hR hS (cw_rc (k := 1) (C := RX7) (T := TX7) (N := 5) rfl (by decide) hK hR hkd)) rfl rfl hsz rfl (lv_room hrest) hdg ⟨hc, hs⟩) hS (fun q _ h => h) (fun q h => h) (fun u t H1 locs1 ht hvm hw hB hz1 hk1 hS1 => by rw [ht] at hB; exact kk H1 locs1 hB hS1)
  · rw [if_neg hkd] at hf
    by_cases hkd : cw_kd D [2] (some a0) = true
    · rw [if_pos hkd] at hf
      exact va_callFv (va_runF (C := RX8) (x := ⟨"WideMap$Node", "takes", "(LWideMap$Token;II)V"⟩) (As := [va_rf x1, .int x2, .int x3]) (rest := rest) (b := a0) (cw_cls (k := 2) (C := RX8) (T := TX8) (N := 4) rfl hK) X (met8_takes l 8 _ _ _ _ _ _ _ _ hf) (va_cwF 3 X.2.2.2.2 (cw_F q1234 q1228 q1230 q155 q1232) rfl rfl rfl (hK.2.2.2.1 ("WideMap$Inner", ⟨"WideMap$Node", "takes", "(LWideMap$Token;II)V"⟩, ⟨"WideMap$Inner", "takes", "(LWideMap$Token;II)V"⟩) (by decide +kernel)) (by decide +kernel) ⟨(show 22 ≤ R.frames by omega), (show 482 ≤ R.locals by omega)⟩) (cw_pV hK hR hS (cw_rc (k := 2) (C := RX8) (T := TX8) (N := 4) rfl (by decide) hK hR hkd)) rfl rfl hsz rfl (lv_room hrest) hdg ⟨hc, hs⟩) hS (fun q _ h => h) (fun q h => h) (fun u t H1 locs1 ht hvm hw hB hz1 hk1 hS1 => by rw [ht] at hB; exact kk H1 locs1 hB hS1)
    · rw [if_neg hkd] at hf
      cases hf
end C_8_takes_i
noncomputable def f5_bare (D : cw_D) (x0 : Option Nat) (x1 : Int32) : Option (Option Nat × cw_D × Nat × Nat) :=
  ww_b x0 (fun a_1 => ww_g (cw_kd D [0] (some a_1)) (ww_b (f4_makes D a_1) (fun D_3 => ww_b3 (f7_init (cw_nO D_3 1) D_3.2.2 (some a_1) x1) (fun D_4 c_4 k_4 => some ((some D_3.2.2), D_4, ((0 + 1) + c_4), ((0 + 5) + k_4))))))
section C_5_bare_k
variable {p : Program} {l : Launch} {e : Env} {R : Room} {s : State} {m : MethodId} {args : Array Value} {below : List Frame} {meth : Method} {c : Code} {H : Heap} {locs : List Loc} {cells slots : Nat} {Q : State → Prop}
variable {cc : ByteArray} {pc : Nat} {ls : Array Slot} {rest : List Value} {nL : Nat} {E : cw_E} {A : Nat → Prop} {H0 : Heap}
theorem c1k_5_bare {D : cw_D} {x0 : Option Nat} {x1 : Int32} {r : Option Nat} {D' : cw_D} {nc ns : Nat} (X : ww_C p m c cc nL s args RX1 lw_all) (hsz : ls.size = nL) (hK : cw_K E A s) (hR : cw_H E A D H) (hS : va_S A s.heap H locs) (hF : 4 ≤ R.frames) (hLo : 104 ≤ R.locals) (hc : cells + nc ≤ R.cells) (hs : slots + ns ≤ R.slots) (hM : cw_MetQ l yX5_bare cX5_bare 2 (some (Jvm.ClassFile.FieldType.object "WideMap$Node")) 3 83 E A [va_rf x0, .int x1] D D' r nc ns) (hrest : (rest.map fun v => v.category).sum ≤ 8) (hdg : decode cc pc = .ok (.invokestatic 259, 3)) (kk : ∀ (H1 : Heap) (locs1 : List Loc), cw_H E A D' H1 → va_S A s.heap H1 locs1 → W p l e R s m args below meth c H1 locs1 (cells + nc) (slots + ns) Q (F0 m (pc + 3) ls (va_rf r :: rest))) : W p l e R s m args below meth c H locs cells slots Q (F0 m pc ls (.int x1 :: va_rf x0 :: rest)) :=
  va_callq (va_runS (As := [va_rf x0, .int x1]) (rest := rest) X hM (va_cwS 2 X.2.2.2.2 (lw_S q830 q831 q152 q832) rfl rfl rfl (by decide +kernel) ⟨hF, hLo⟩) (cw_pS hK hR hS) rfl rfl hsz rfl (lv_room hrest) hdg ⟨hc, hs⟩) hS (fun q _ h => h) (fun q h => h) (fun r' u t H1 locs1 ht hvm hw hB hz1 hk1 hS1 => by subst hw; rw [ht] at hB; exact kk H1 locs1 hB hS1)
end C_5_bare_k
set_option maxHeartbeats 4000000 in
set_option maxRecDepth 100000 in
theorem met5_bare (l : Launch) {E : cw_E} {A : Nat → Prop} (D : cw_D) (x0 : Option Nat) (x1 : Int32) (r : Option Nat) (D' : cw_D) (nc ns : Nat) (hf : f5_bare D x0 x1 = some (r, D', nc, ns)) : cw_MetQ l yX5_bare cX5_bare 2 (some (Jvm.ClassFile.FieldType.object "WideMap$Node")) 3 83 E A [va_rf x0, .int x1] D D' r nc ns := by
  unfold f5_bare at hf
  refine cw_sQN (own := RX5) (by decide +kernel) [(0, va_rf x0), (1, .int x1)] ⟨by cases x0 <;> exact Nat.le_of_ble_eq_true rfl, by cases x0 <;> rfl⟩ ?_
  intro p e s m args below meth c Rm Q X hK hF hLo hC hin hend ls hl hR hS
  obtain ⟨hx, hb, hml, hown, hts⟩ := id X
  have hm9 : 0 ≤ nc ∧ 0 ≤ ns := ⟨Nat.zero_le _, Nat.zero_le _⟩
  refine cw_aload_n (x := x0) hx hb dX5_bare_0 rfl (lv_at hl 0 rfl) ?_
  obtain ⟨a_1, e_1, hq⟩ := ww_bS hf; replace hf := hq; clear hq
  subst e_1
  obtain ⟨h_2, hq⟩ := ww_gS hf; replace hf := hq; clear hq
  obtain ⟨D_3, h_3, hq⟩ := ww_bS hf; replace hf := hq; clear hq
  refine c5c_4_makes X hl.1 hK hR hS (Nat.le_trans (Nat.le_of_ble_eq_true rfl) hF) (Nat.le_trans (Nat.le_of_ble_eq_true rfl) hLo) (Nat.le_trans hm9.1 hC.1) (Nat.le_trans hm9.2 hC.2) h_2 h_3 (cw_rest (Nat.le_of_ble_eq_true rfl)) dX5_bare_1 (fun H locs hR hS => ?_)
  have hm9 : (0 + 1) ≤ nc ∧ (0 + 5) ≤ ns := by
    obtain ⟨D_4, c_4, k_4, h_4, hq⟩ := ww_b3S hf; replace hf := hq; clear hq
    have e9 := hf
    simp only [Option.some.injEq, Prod.mk.injEq] at e9
    omega
  refine cw_onew (ci := 1) (C := RX7) (T := TX7) (N := 5) rfl (by decide) in_X7 tyX7 tyX7_ok rfl X hK hR hS q837 q838 q154 (Nat.le_trans hm9.1 hC.1) (Nat.le_trans hm9.2 hC.2) dX5_bare_4 (fun H hR hS => ?_)
  refine lv_dup hx hb dX5_bare_7 rfl ?_
  refine lv_aload_n hx hb dX5_bare_8 rfl (lv_at hl 0 rfl) ?_
  refine lv_iload_n hx hb dX5_bare_9 rfl (lv_at hl 1 rfl) ?_
  obtain ⟨D_4, c_4, k_4, h_4, hq⟩ := ww_b3S hf; replace hf := hq; clear hq
  have hm9 : ((0 + 1) + c_4) ≤ nc ∧ ((0 + 5) + k_4) ≤ ns := by
    have e9 := hf
    simp only [Option.some.injEq, Prod.mk.injEq] at e9
    omega
  refine c5c_7_init (x1 := (some a_1)) X hl.1 hK hR hS (Nat.le_trans (Nat.le_of_ble_eq_true rfl) hF) (Nat.le_trans (Nat.le_of_ble_eq_true rfl) hLo) (Nat.le_trans hm9.1 hC.1) (Nat.le_trans hm9.2 hC.2) h_4 (cw_rest (Nat.le_of_ble_eq_true rfl)) dX5_bare_10 (fun H locs hR hS => ?_)
  exact hend (v := (some D_3.2.2)) dX5_bare_13 rfl (Or.inl ⟨_, rfl⟩) hf hR hS
section C_5_bare_c
variable {p : Program} {l : Launch} {e : Env} {R : Room} {s : State} {m : MethodId} {args : Array Value} {below : List Frame} {meth : Method} {c : Code} {H : Heap} {locs : List Loc} {cells slots : Nat} {Q : State → Prop}
variable {cc : ByteArray} {pc : Nat} {ls : Array Slot} {rest : List Value} {nL : Nat} {E : cw_E} {A : Nat → Prop} {H0 : Heap}
theorem c1c_5_bare {D : cw_D} {x0 : Option Nat} {x1 : Int32} {r : Option Nat} {D' : cw_D} {nc ns : Nat} (X : ww_C p m c cc nL s args RX1 lw_all) (hsz : ls.size = nL) (hK : cw_K E A s) (hR : cw_H E A D H) (hS : va_S A s.heap H locs) (hF : 4 ≤ R.frames) (hLo : 104 ≤ R.locals) (hc : cells + nc ≤ R.cells) (hs : slots + ns ≤ R.slots) (hf : f5_bare D x0 x1 = some (r, D', nc, ns)) (hrest : (rest.map fun v => v.category).sum ≤ 8) (hdg : decode cc pc = .ok (.invokestatic 259, 3)) (kk : ∀ (H1 : Heap) (locs1 : List Loc), cw_H E A D' H1 → va_S A s.heap H1 locs1 → W p l e R s m args below meth c H1 locs1 (cells + nc) (slots + ns) Q (F0 m (pc + 3) ls (va_rf r :: rest))) : W p l e R s m args below meth c H locs cells slots Q (F0 m pc ls (.int x1 :: va_rf x0 :: rest)) :=
  c1k_5_bare X hsz hK hR hS hF hLo hc hs (met5_bare l _ _ _ _ _ _ _ hf) hrest hdg kk
end C_5_bare_c
noncomputable def f5_over (D : cw_D) (x0 : Option Nat) (x1 : Int32) (x2 : Option Nat) (x3 : Option Nat) : Option (Option Nat × cw_D × Nat × Nat) :=
  ww_b x0 (fun a_1 => ww_g (cw_kd D [0] (some a_1)) (ww_b (f4_makes D a_1) (fun D_3 => ww_b3 (f8_init (cw_nO D_3 2) D_3.2.2 (some a_1) x1) (fun D_4 c_4 k_4 => ww_b (cw_gR D_4 [2] D_3.2.2 3) (fun r_5 => ww_b r_5 (fun a_6 => ww_b (cw_tR D_4 a_6 (0 : Int32) x2) (fun D_7 => ww_b (cw_gR D_7 [2] D_3.2.2 3) (fun r_8 => ww_b r_8 (fun a_9 => ww_b (cw_tR D_7 a_9 (1 : Int32) x3) (fun D_10 => ww_b (cw_p D_10 [2] D_3.2.2 1 (.int (2 : Int32))) (fun D_11 => some ((some D_3.2.2), D_11, ((0 + 1) + c_4), ((0 + 4) + k_4)))))))))))))
section C_5_over_k
variable {p : Program} {l : Launch} {e : Env} {R : Room} {s : State} {m : MethodId} {args : Array Value} {below : List Frame} {meth : Method} {c : Code} {H : Heap} {locs : List Loc} {cells slots : Nat} {Q : State → Prop}
variable {cc : ByteArray} {pc : Nat} {ls : Array Slot} {rest : List Value} {nL : Nat} {E : cw_E} {A : Nat → Prop} {H0 : Heap}
theorem c1k_5_over {D : cw_D} {x0 : Option Nat} {x1 : Int32} {x2 : Option Nat} {x3 : Option Nat} {r : Option Nat} {D' : cw_D} {nc ns : Nat} (X : ww_C p m c cc nL s args RX1 lw_all) (hsz : ls.size = nL) (hK : cw_K E A s) (hR : cw_H E A D H) (hS : va_S A s.heap H locs) (hF : 4 ≤ R.frames) (hLo : 107 ≤ R.locals) (hc : cells + nc ≤ R.cells) (hs : slots + ns ≤ R.slots) (hM : cw_MetQ l yX5_over cX5_over 5 (some (Jvm.ClassFile.FieldType.object "WideMap$Node")) 3 83 E A [va_rf x0, .int x1, va_rf x2, va_rf x3] D D' r nc ns) (hrest : (rest.map fun v => v.category).sum ≤ 8) (hdg : decode cc pc = .ok (.invokestatic 302, 3)) (kk : ∀ (H1 : Heap) (locs1 : List Loc), cw_H E A D' H1 → va_S A s.heap H1 locs1 → W p l e R s m args below meth c H1 locs1 (cells + nc) (slots + ns) Q (F0 m (pc + 3) ls (va_rf r :: rest))) : W p l e R s m args below meth c H locs cells slots Q (F0 m pc ls (va_rf x3 :: va_rf x2 :: .int x1 :: va_rf x0 :: rest)) :=
  va_callq (va_runS (As := [va_rf x0, .int x1, va_rf x2, va_rf x3]) (rest := rest) X hM (va_cwS 4 X.2.2.2.2 (lw_S q1071 q1072 q152 q1073) rfl rfl rfl (by decide +kernel) ⟨hF, hLo⟩) (cw_pS hK hR hS) rfl rfl hsz rfl (lv_room hrest) hdg ⟨hc, hs⟩) hS (fun q _ h => h) (fun q h => h) (fun r' u t H1 locs1 ht hvm hw hB hz1 hk1 hS1 => by subst hw; rw [ht] at hB; exact kk H1 locs1 hB hS1)
end C_5_over_k
set_option maxHeartbeats 4000000 in
set_option maxRecDepth 100000 in
theorem met5_over (l : Launch) {E : cw_E} {A : Nat → Prop} (D : cw_D) (x0 : Option Nat) (x1 : Int32) (x2 : Option Nat) (x3 : Option Nat) (r : Option Nat) (D' : cw_D) (nc ns : Nat) (hf : f5_over D x0 x1 x2 x3 = some (r, D', nc, ns)) : cw_MetQ l yX5_over cX5_over 5 (some (Jvm.ClassFile.FieldType.object "WideMap$Node")) 3 83 E A [va_rf x0, .int x1, va_rf x2, va_rf x3] D D' r nc ns := by
  unfold f5_over at hf
  refine cw_sQN (own := RX5) (by decide +kernel) [(0, va_rf x0), (1, .int x1), (2, va_rf x2), (3, va_rf x3)] ⟨by cases x0 <;> cases x2 <;> cases x3 <;> exact Nat.le_of_ble_eq_true rfl, by cases x0 <;> cases x2 <;> cases x3 <;> rfl⟩ ?_
  intro p e s m args below meth c Rm Q X hK hF hLo hC hin hend ls hl hR hS
  obtain ⟨hx, hb, hml, hown, hts⟩ := id X
  have hm9 : 0 ≤ nc ∧ 0 ≤ ns := ⟨Nat.zero_le _, Nat.zero_le _⟩
  refine cw_aload_n (x := x0) hx hb dX5_over_0 rfl (lv_at hl 0 rfl) ?_
  obtain ⟨a_1, e_1, hq⟩ := ww_bS hf; replace hf := hq; clear hq
  subst e_1
  obtain ⟨h_2, hq⟩ := ww_gS hf; replace hf := hq; clear hq
  obtain ⟨D_3, h_3, hq⟩ := ww_bS hf; replace hf := hq; clear hq
  refine c5c_4_makes X hl.1 hK hR hS (Nat.le_trans (Nat.le_of_ble_eq_true rfl) hF) (Nat.le_trans (Nat.le_of_ble_eq_true rfl) hLo) (Nat.le_trans hm9.1 hC.1) (Nat.le_trans hm9.2 hC.2) h_2 h_3 (cw_rest (Nat.le_of_ble_eq_true rfl)) dX5_over_1 (fun H locs hR hS => ?_)
  have hm9 : (0 + 1) ≤ nc ∧ (0 + 4) ≤ ns := by
    obtain ⟨D_4, c_4, k_4, h_4, hq⟩ := ww_b3S hf; replace hf := hq; clear hq
    obtain ⟨r_5, h_5, hq⟩ := ww_bS hf; replace hf := hq; clear hq
    obtain ⟨a_6, e_6, hq⟩ := ww_bS hf; replace hf := hq; clear hq
    subst e_6
    obtain ⟨D_7, h_7, hq⟩ := ww_bS hf; replace hf := hq; clear hq
    obtain ⟨r_8, h_8, hq⟩ := ww_bS hf; replace hf := hq; clear hq
    obtain ⟨a_9, e_9, hq⟩ := ww_bS hf; replace hf := hq; clear hq
    subst e_9
    obtain ⟨D_10, h_10, hq⟩ := ww_bS hf; replace hf := hq; clear hq
    obtain ⟨D_11, h_11, hq⟩ := ww_bS hf; replace hf := hq; clear hq
    have e9 := hf
    simp only [Option.some.injEq, Prod.mk.injEq] at e9
    omega
  refine cw_onew (ci := 2) (C := RX8) (T := TX8) (N := 4) rfl (by decide) in_X8 tyX8 tyX8_ok rfl X hK hR hS q1074 q1013 q155 (Nat.le_trans hm9.1 hC.1) (Nat.le_trans hm9.2 hC.2) dX5_over_4 (fun H hR hS => ?_)
  refine lv_dup hx hb dX5_over_7 rfl ?_
  refine lv_aload_n hx hb dX5_over_8 rfl (lv_at hl 0 rfl) ?_
  refine lv_iload_n hx hb dX5_over_9 rfl (lv_at hl 1 rfl) ?_
  obtain ⟨D_4, c_4, k_4, h_4, hq⟩ := ww_b3S hf; replace hf := hq; clear hq
  have hm9 : ((0 + 1) + c_4) ≤ nc ∧ ((0 + 4) + k_4) ≤ ns := by
    obtain ⟨r_5, h_5, hq⟩ := ww_bS hf; replace hf := hq; clear hq
    obtain ⟨a_6, e_6, hq⟩ := ww_bS hf; replace hf := hq; clear hq
    subst e_6
    obtain ⟨D_7, h_7, hq⟩ := ww_bS hf; replace hf := hq; clear hq
    obtain ⟨r_8, h_8, hq⟩ := ww_bS hf; replace hf := hq; clear hq
    obtain ⟨a_9, e_9, hq⟩ := ww_bS hf; replace hf := hq; clear hq
    subst e_9
    obtain ⟨D_10, h_10, hq⟩ := ww_bS hf; replace hf := hq; clear hq
    obtain ⟨D_11, h_11, hq⟩ := ww_bS hf; replace hf := hq; clear hq
    have e9 := hf
    simp only [Option.some.injEq, Prod.mk.injEq] at e9
    omega
  refine c5c_8_init (x1 := (some a_1)) X hl.1 hK hR hS (Nat.le_trans (Nat.le_of_ble_eq_true rfl) hF) (Nat.le_trans (Nat.le_of_ble_eq_true rfl) hLo) (Nat.le_trans hm9.1 hC.1) (Nat.le_trans hm9.2 hC.2) h_4 (cw_rest (Nat.le_of_ble_eq_true rfl)) dX5_over_10 (fun H locs hR hS => ?_)
  refine lv_astore (lv' := [(4, .ref D_3.2.2), (0, .ref a_1), (1, .int x1), (2, va_rf x2), (3, va_rf x3)]) hx hb dX5_over_13 hl (by decide) (by cases x3 <;> rfl) (fun ls hl => ?_)
  refine lv_aload hx hb dX5_over_15 (lv_at hl 0 rfl) ?_
  obtain ⟨r_5, h_5, hq⟩ := ww_bS hf; replace hf := hq; clear hq
  refine c5g_16 X hK hR h_5 dX5_over_17 ?_
  refine lv_iconst (v := (0 : Int32)) hx hb dX5_over_20 (by decide) ?_
  refine cw_aload_n (x := x2) hx hb dX5_over_21 rfl (lv_at hl 3 rfl) ?_
  obtain ⟨a_6, e_6, hq⟩ := ww_bS hf; replace hf := hq; clear hq
  subst e_6
  obtain ⟨D_7, h_7, hq⟩ := ww_bS hf; replace hf := hq; clear hq
  refine cw_otR (x' := some a_6) (v := x2) X hK hR hS rfl h_7 dX5_over_22 (fun H locs hR hS => ?_)
  refine lv_aload hx hb dX5_over_23 (lv_at hl 0 rfl) ?_
  obtain ⟨r_8, h_8, hq⟩ := ww_bS hf; replace hf := hq; clear hq
  refine c5g_16 X hK hR h_8 dX5_over_25 ?_
  refine lv_iconst (v := (1 : Int32)) hx hb dX5_over_28 (by decide) ?_
  refine cw_aload_n (x := x3) hx hb dX5_over_29 rfl (lv_at hl 4 rfl) ?_
  obtain ⟨a_9, e_9, hq⟩ := ww_bS hf; replace hf := hq; clear hq
  subst e_9
  obtain ⟨D_10, h_10, hq⟩ := ww_bS hf; replace hf := hq; clear hq
  refine cw_otR (x' := some a_9) (v := x3) X hK hR hS rfl h_10 dX5_over_30 (fun H locs hR hS => ?_)
  refine lv_aload hx hb dX5_over_31 (lv_at hl 0 rfl) ?_
  refine lv_iconst (v := (2 : Int32)) hx hb dX5_over_33 (by decide) ?_
  obtain ⟨D_11, h_11, hq⟩ := ww_bS hf; replace hf := hq; clear hq
  refine c5p_20 X hK hR hS h_11 dX5_over_34 (fun H locs hR hS => ?_)
  refine lv_aload hx hb dX5_over_37 (lv_at hl 0 rfl) ?_
  exact hend (v := (some D_3.2.2)) dX5_over_39 rfl (Or.inl ⟨_, rfl⟩) hf hR hS
section C_5_over_c
variable {p : Program} {l : Launch} {e : Env} {R : Room} {s : State} {m : MethodId} {args : Array Value} {below : List Frame} {meth : Method} {c : Code} {H : Heap} {locs : List Loc} {cells slots : Nat} {Q : State → Prop}
variable {cc : ByteArray} {pc : Nat} {ls : Array Slot} {rest : List Value} {nL : Nat} {E : cw_E} {A : Nat → Prop} {H0 : Heap}
theorem c1c_5_over {D : cw_D} {x0 : Option Nat} {x1 : Int32} {x2 : Option Nat} {x3 : Option Nat} {r : Option Nat} {D' : cw_D} {nc ns : Nat} (X : ww_C p m c cc nL s args RX1 lw_all) (hsz : ls.size = nL) (hK : cw_K E A s) (hR : cw_H E A D H) (hS : va_S A s.heap H locs) (hF : 4 ≤ R.frames) (hLo : 107 ≤ R.locals) (hc : cells + nc ≤ R.cells) (hs : slots + ns ≤ R.slots) (hf : f5_over D x0 x1 x2 x3 = some (r, D', nc, ns)) (hrest : (rest.map fun v => v.category).sum ≤ 8) (hdg : decode cc pc = .ok (.invokestatic 302, 3)) (kk : ∀ (H1 : Heap) (locs1 : List Loc), cw_H E A D' H1 → va_S A s.heap H1 locs1 → W p l e R s m args below meth c H1 locs1 (cells + nc) (slots + ns) Q (F0 m (pc + 3) ls (va_rf r :: rest))) : W p l e R s m args below meth c H locs cells slots Q (F0 m pc ls (va_rf x3 :: va_rf x2 :: .int x1 :: va_rf x0 :: rest)) :=
  c1k_5_over X hsz hK hR hS hF hLo hc hs (met5_over l _ _ _ _ _ _ _ _ _ hf) hrest hdg kk
end C_5_over_c
noncomputable def f5_counts_b1c (rec : cw_D → Nat → Int32 → Int32 → Option Nat → Option (Int32 × cw_D)) (y0 : Nat) (y1 : Int32) (y2 : Int32) (y3 : Option Nat) (D_2 : cw_D) (x4 : Int32) (x5 : Int32) : Option ((cw_D × Int32 × Int32) ⊕ (Int32 × cw_D)) :=
  ww_g (cw_kd D_2 [1, 2] (some y0)) (ww_b (f6_many D_2 y0) (fun r_4 => if r_4 ≤ x5 then ww_x (some (x4, D_2)) else ww_b (f5r_isLeaf f8_isLeaf D_2 y0) (fun r_6 => if r_6 = 0 then ww_b (f5r_kid f8_kid D_2 y0 x5) (fun r_8 => ww_b r_8 (fun a_9 => ww_g (cw_kd D_2 [1, 2] (some a_9)) (ww_b2 (rec D_2 a_9 y1 y2 y3) (fun r_11 D_11 => some (.inl (D_11, (x4 + r_11), (x5 + (1 : Int32)))))))) else ww_x (some (x4, D_2)))))
noncomputable def f5_counts_b1 (rec : cw_D → Nat → Int32 → Int32 → Option Nat → Option (Int32 × cw_D)) (y0 : Nat) (y1 : Int32) (y2 : Int32) (y3 : Option Nat) : (cw_D × Int32 × Int32) → Option ((cw_D × Int32 × Int32) ⊕ (Int32 × cw_D)) := fun s9 => f5_counts_b1c rec y0 y1 y2 y3 s9.1 s9.2.1 s9.2.2
noncomputable def f5_counts_j2 (rec : cw_D → Nat → Int32 → Int32 → Option Nat → Option (Int32 × cw_D)) (y0 : Nat) (y1 : Int32) (y2 : Int32) (y3 : Option Nat) (y4 : Int32) (D_1 : cw_D) : Option (Int32 × cw_D) :=
  ww_U (f5_counts_b1 rec y0 y1 y2 y3) (D_1, y4, (0 : Int32))
noncomputable def f5_counts_j1 (rec : cw_D → Nat → Int32 → Int32 → Option Nat → Option (Int32 × cw_D)) (D : cw_D) (y0 : Nat) (y1 : Int32) (y2 : Int32) (y3 : Option Nat) (t0 : Int32) : Option (Int32 × cw_D) :=
  if y1 = (3 : Int32) then ww_g (cw_kd D [1, 2] (some y0)) (ww_b (f6_stamp D y0 y2) (fun D_14 => f5_counts_j2 rec y0 y1 y2 y3 t0 D_14)) else f5_counts_j2 rec y0 y1 y2 y3 t0 D
noncomputable def f5_counts_r (rec : cw_D → Nat → Int32 → Int32 → Option Nat → Option (Int32 × cw_D)) (D : cw_D) (a0 : Nat) (x1 : Int32) (x2 : Int32) (x3 : Option Nat) : Option (Int32 × cw_D) :=
  if x1 = 0 then f5_counts_j1 rec D a0 x1 x2 x3 (1 : Int32) else if x1 = 1 then ww_b (f5r_isLeaf f8_isLeaf D a0) (fun r_17 => if r_17 = 0 then f5_counts_j1 rec D a0 x1 x2 x3 (0 : Int32) else f5_counts_j1 rec D a0 x1 x2 x3 (1 : Int32)) else if x1 = 2 then ww_g (cw_kd D [1, 2] (some a0)) (ww_b (f6_isStamped D a0 x2) (fun r_21 => if r_21 = 0 then f5_counts_j1 rec D a0 x1 x2 x3 (0 : Int32) else f5_counts_j1 rec D a0 x1 x2 x3 (1 : Int32))) else if x1 = 3 then ww_g (cw_kd D [1, 2] (some a0)) (ww_b (f6_isStamped D a0 x2) (fun r_25 => if r_25 = 0 then f5_counts_j1 rec D a0 x1 x2 x3 (1 : Int32) else f5_counts_j1 rec D a0 x1 x2 x3 (0 : Int32))) else if x1 = 4 then ww_g (cw_kd D [1, 2] (some a0)) (ww_b (f5_isOf D a0 x3) (fun r_29 => if r_29 = 0 then f5_counts_j1 rec D a0 x1 x2 x3 (0 : Int32) else f5_counts_j1 rec D a0 x1 x2 x3 (1 : Int32))) else ww_b (f5r_isLeaf f8_isLeaf D a0) (fun r_31 => if r_31 = 0 then f5_counts_j1 rec D a0 x1 x2 x3 (0 : Int32) else ww_g (cw_kd D [1, 2] (some a0)) (ww_b (f6_many D a0) (fun r_34 => f5_counts_j1 rec D a0 x1 x2 x3 r_34)))
noncomputable def f5_counts : Nat → cw_D → Nat → Int32 → Int32 → Option Nat → Option (Int32 × cw_D)
  | 0 => fun _ _ _ _ _ => none
  | d + 1 => f5_counts_r (f5_counts d)
section C_5_counts_j
variable {p : Program} {l : Launch} {e : Env} {R : Room} {s : State} {m : MethodId} {args : Array Value} {below : List Frame} {meth : Method} {c : Code} {H : Heap} {locs : List Loc} {cells slots : Nat} {Q : State → Prop}
variable {cc : ByteArray} {pc : Nat} {ls : Array Slot} {rest : List Value} {nL : Nat} {E : cw_E} {A : Nat → Prop} {H0 : Heap}
theorem c1j_counts {D : cw_D} {a0 : Nat} {x1 : Int32} {x2 : Int32} {x3 : Option Nat} {r : Int32} {D' : cw_D} {d : Nat} (X : ww_C p m c cc nL s args RX1 lw_all) (hsz : ls.size = nL) (hK : cw_K E A s) (hR : cw_H E A D H) (hS : va_S A s.heap H locs) (hF : d + 2 + 1 ≤ R.frames) (hLo : 8 + (6 + 11) + (25 * d + 41) ≤ R.locals) (hc : cells ≤ R.cells) (hs : slots ≤ R.slots) (hkd2 : cw_kd D [1, 2] (some a0) = true) (hM : cw_MetI l yX5_counts cX5_counts 6 (some Jvm.ClassFile.FieldType.int) (d + 2) (25 * d + 41) E A [.ref a0, .int x1, .int x2, va_rf x3] D D' r 0 0) (hrest : (rest.map fun v => v.category).sum ≤ 8) {count : Nat} (hdg : decode cc pc = .ok (.invokeinterface 263 count, 5)) (kk : ∀ (H1 : Heap) (locs1 : List Loc), cw_H E A D' H1 → va_S A s.heap H1 locs1 → W p l e R s m args below meth c H1 locs1 cells slots Q (F0 m (pc + 5) ls (.int r :: rest))) : W p l e R s m args below meth c H locs cells slots Q (F0 m pc ls (va_rf x3 :: .int x2 :: .int x1 :: .ref a0 :: rest)) := by
  rcases cw_kd2 hkd2 with hkd | hkd
  · exact va_callFi (cw_runFD (n := 3) (C := RX7) (x := ⟨"WideMap$Node", "counts", "(IILWideMap$Token;)I"⟩) (As := [.int x1, .int x2, va_rf x3]) (rest := rest) (a := a0) (cw_cls (k := 1) (C := RX7) (T := TX7) (N := 5) rfl hK) X hM q1108 (hK.2.2.2.2.1 ("WideMap$Leaf", ⟨"WideMap$Node", "counts", "(IILWideMap$Token;)I"⟩, ⟨"WideMap$Node", "counts", "(IILWideMap$Token;)I"⟩) (by decide +kernel)) q1112 q152 (lw_meth q1114) rfl rfl rfl ⟨hF, hLo⟩ (by decide +kernel) (cw_pV hK hR hS (cw_rc (k := 1) (C := RX7) (T := TX7) (N := 5) rfl (by decide) hK hR hkd)) rfl rfl hsz rfl (lv_room hrest) hdg ⟨hc, hs⟩) hS (fun q _ h => h) (fun q h => h) (fun r' u t H1 locs1 ht hvm hw hB hz1 hk1 hS1 => by subst hw; rw [ht] at hB; exact kk H1 locs1 hB hS1)
  · exact va_callFi (cw_runFD (n := 3) (C := RX8) (x := ⟨"WideMap$Node", "counts", "(IILWideMap$Token;)I"⟩) (As := [.int x1, .int x2, va_rf x3]) (rest := rest) (a := a0) (cw_cls (k := 2) (C := RX8) (T := TX8) (N := 4) rfl hK) X hM q1108 (hK.2.2.2.2.1 ("WideMap$Inner", ⟨"WideMap$Node", "counts", "(IILWideMap$Token;)I"⟩, ⟨"WideMap$Node", "counts", "(IILWideMap$Token;)I"⟩) (by decide +kernel)) q1112 q152 (lw_meth q1114) rfl rfl rfl ⟨hF, hLo⟩ (by decide +kernel) (cw_pV hK hR hS (cw_rc (k := 2) (C := RX8) (T := TX8) (N := 4) rfl (by decide) hK hR hkd)) rfl rfl hsz rfl (lv_room hrest) hdg ⟨hc, hs⟩) hS (fun q _ h => h) (fun q h => h) (fun r' u t H1 locs1 ht hvm hw hB hz1 hk1 hS1 => by subst hw; rw [ht] at hB; exact kk H1 locs1 hB hS1)
theorem c5j_counts {D : cw_D} {a0 : Nat} {x1 : Int32} {x2 : Int32} {x3 : Option Nat} {r : Int32} {D' : cw_D} {d : Nat} (X : ww_C p m c cc nL s args RX5 lw_all) (hsz : ls.size = nL) (hK : cw_K E A s) (hR : cw_H E A D H) (hS : va_S A s.heap H locs) (hF : d + 2 + 1 ≤ R.frames) (hLo : 8 + (6 + 11) + (25 * d + 41) ≤ R.locals) (hc : cells ≤ R.cells) (hs : slots ≤ R.slots) (hkd2 : cw_kd D [1, 2] (some a0) = true) (hM : cw_MetI l yX5_counts cX5_counts 6 (some Jvm.ClassFile.FieldType.int) (d + 2) (25 * d + 41) E A [.ref a0, .int x1, .int x2, va_rf x3] D D' r 0 0) (hrest : (rest.map fun v => v.category).sum ≤ 8) {count : Nat} (hdg : decode cc pc = .ok (.invokeinterface 61 count, 5)) (kk : ∀ (H1 : Heap) (locs1 : List Loc), cw_H E A D' H1 → va_S A s.heap H1 locs1 → W p l e R s m args below meth c H1 locs1 cells slots Q (F0 m (pc + 5) ls (.int r :: rest))) : W p l e R s m args below meth c H locs cells slots Q (F0 m pc ls (va_rf x3 :: .int x2 :: .int x1 :: .ref a0 :: rest)) := by
  rcases cw_kd2 hkd2 with hkd | hkd
  · exact va_callFi (cw_runFD (n := 3) (C := RX7) (x := ⟨"WideMap$Node", "counts", "(IILWideMap$Token;)I"⟩) (As := [.int x1, .int x2, va_rf x3]) (rest := rest) (a := a0) (cw_cls (k := 1) (C := RX7) (T := TX7) (N := 5) rfl hK) X hM q1140 (hK.2.2.2.2.1 ("WideMap$Leaf", ⟨"WideMap$Node", "counts", "(IILWideMap$Token;)I"⟩, ⟨"WideMap$Node", "counts", "(IILWideMap$Token;)I"⟩) (by decide +kernel)) q1112 q152 (lw_meth q1114) rfl rfl rfl ⟨hF, hLo⟩ (by decide +kernel) (cw_pV hK hR hS (cw_rc (k := 1) (C := RX7) (T := TX7) (N := 5) rfl (by decide) hK hR hkd)) rfl rfl hsz rfl (lv_room hrest) hdg ⟨hc, hs⟩) hS (fun q _ h => h) (fun q h => h) (fun r' u t H1 locs1 ht hvm hw hB hz1 hk1 hS1 => by subst hw; rw [ht] at hB; exact kk H1 locs1 hB hS1)
  · exact va_callFi (cw_runFD (n := 3) (C := RX8) (x := ⟨"WideMap$Node", "counts", "(IILWideMap$Token;)I"⟩) (As := [.int x1, .int x2, va_rf x3]) (rest := rest) (a := a0) (cw_cls (k := 2) (C := RX8) (T := TX8) (N := 4) rfl hK) X hM q1140 (hK.2.2.2.2.1 ("WideMap$Inner", ⟨"WideMap$Node", "counts", "(IILWideMap$Token;)I"⟩, ⟨"WideMap$Node", "counts", "(IILWideMap$Token;)I"⟩) (by decide +kernel)) q1112 q152 (lw_meth q1114) rfl rfl rfl ⟨hF, hLo⟩ (by decide +kernel) (cw_pV hK hR hS (cw_rc (k := 2) (C := RX8) (T := TX8) (N := 4) rfl (by decide) hK hR hkd)) rfl rfl hsz rfl (lv_room hrest) hdg ⟨hc, hs⟩) hS (fun q _ h => h) (fun q h => h) (fun r' u t H1 locs1 ht hvm hw hB hz1 hk1 hS1 => by subst hw; rw [ht] at hB; exact kk H1 locs1 hB hS1)
end C_5_counts_j
set_option maxHeartbeats 4000000 in
set_option maxRecDepth 100000 in
theorem met5_counts (l : Launch) {E : cw_E} {A : Nat → Prop} : ∀ (d : Nat) (D : cw_D) (a0 : Nat) (x1 : Int32) (x2 : Int32) (x3 : Option Nat) (r : Int32) (D' : cw_D), f5_counts d D a0 x1 x2 x3 = some (r, D') → cw_MetI l yX5_counts cX5_counts 6 (some Jvm.ClassFile.FieldType.int) (d + 2) (25 * d + 41) E A [.ref a0, .int x1, .int x2, va_rf x3] D D' r 0 0 := by
  intro d
  induction d with
  | zero => intro D a0 x1 x2 x3 r D' hf; cases hf
  | succ d ih =>
    intro D a0 x1 x2 x3 r D' hf
    replace hf : f5_counts_r (f5_counts d) D a0 x1 x2 x3 = some (r, D') := hf
    unfold f5_counts_r at hf
    refine cw_sID (own := RX5) (by decide +kernel) [(0, .ref a0), (1, .int x1), (2, .int x2), (3, va_rf x3)] ⟨by cases x3 <;> exact Nat.le_of_ble_eq_true rfl, by cases x3 <;> rfl⟩ ?_
    intro p e s m args below meth c Rm Q X hK hF hLo hin hend ls hl hR hS
    obtain ⟨hx, hb, hml, hown, hts⟩ := id X
    refine lv_iload_n hx hb dX5_counts_0 rfl (lv_at hl 1 rfl) ?_
    have hj_1 : ∀ (t0 : Int32), f5_counts_j1 (f5_counts d) D a0 x1 x2 x3 t0 = some (r, D') → ∀ (H : Heap) (locs : List Loc) (ls : Array Slot), cw_H E A D H → va_S A s.heap H locs → lv_has ls 6 [(0, .ref a0), (1, .int x1), (2, .int x2), (3, va_rf x3)] → W p l e Rm s m args below meth c H locs 0 0 Q (F0 m 130 ls [.int t0]) := by
      clear hf
      intro t0 hf
      unfold f5_counts_j1 at hf
      try clear hl
      try clear hS
      try clear hR
      intro H locs ls hR hS hl
      refine lv_istore (lv' := [(4, .int t0), (0, .ref a0), (1, .int x1), (2, .int x2), (3, va_rf x3)]) hx hb dX5_counts_130 hl (by decide) (by cases x3 <;> rfl) (fun ls hl => ?_)
      refine lv_iload_n hx hb dX5_counts_132 rfl (lv_at hl 2 rfl) ?_
      refine lv_iconst (v := (3 : Int32)) hx hb dX5_counts_133 (by decide) ?_
      have hj_2 : ∀ (D_1 : cw_D), f5_counts_j2 (f5_counts d) a0 x1 x2 x3 t0 D_1 = some (r, D') → ∀ (H : Heap) (locs : List Loc) (ls : Array Slot), cw_H E A D_1 H → va_S A s.heap H locs → lv_has ls 6 [(0, .ref a0), (1, .int x1), (2, .int x2), (3, va_rf x3), (4, .int t0)] → W p l e Rm s m args below meth c H locs 0 0 Q (F0 m 144 ls []) := by
        clear hf
        intro D_1 hf
        unfold f5_counts_j2 at hf
        try clear hl
        try clear hS
        try clear hR
        intro H locs ls hR hS hl
        refine lv_iconst (v := (0 : Int32)) hx hb dX5_counts_144 (by decide) ?_
        refine lv_istore (lv' := [(5, .int (0 : Int32)), (0, .ref a0), (1, .int x1), (2, .int x2), (3, va_rf x3), (4, .int t0)]) hx hb dX5_counts_145 hl (by decide) rfl (fun ls hl => ?_)
        have hL_1 : ∀ s9 : cw_D × Int32 × Int32, ww_U (f5_counts_b1 (f5_counts d) a0 x1 x2 x3) s9 = some (r, D') → ∀ (H : Heap) (locs : List Loc) (ls : Array Slot), cw_H E A s9.1 H → va_S A s.heap H locs → lv_has ls 6 [(0, .ref a0), (1, .int x1), (2, .int x2), (3, va_rf x3), (4, .int s9.2.1), (5, .int s9.2.2)] → W p l e Rm s m args below meth c H locs 0 0 Q (F0 m 147 ls []) := by
          clear hf
          refine ww_ind _ (r, D') ?_
          intro s9 z_1 hf hz_1
          obtain ⟨D_2, x4, x5⟩ := s9
          replace hf : f5_counts_b1c (f5_counts d) a0 x1 x2 x3 D_2 x4 x5 = some z_1 := hf
          unfold f5_counts_b1c at hf
          try clear hl
          try clear hS
          try clear hR
          intro H locs ls hR hS hl
          replace hR : cw_H E A D_2 H := hR
          replace hl : lv_has ls 6 [(0, .ref a0), (1, .int x1), (2, .int x2), (3, va_rf x3), (4, .int x4), (5, .int x5)] := hl
          refine lv_iload hx hb dX5_counts_147 (lv_at hl 5 rfl) ?_
          refine lv_aload_n hx hb dX5_counts_149 rfl (lv_at hl 0 rfl) ?_
          obtain ⟨h_3, hq⟩ := ww_gS hf; replace hf := hq; clear hq
          obtain ⟨r_4, h_4, hq⟩ := ww_bS hf; replace hf := hq; clear hq
          refine c5i_many X hl.1 hK hR hS (by omega) (by omega) (Nat.zero_le _) (Nat.zero_le _) h_3 h_4 (cw_rest (Nat.le_of_ble_eq_true rfl)) dX5_counts_150 (fun H locs hR hS => ?_)
          refine lv_icmp_ge (tgt := 194) hx hb dX5_counts_155 (by decide) (fun c_5 => ?_) (fun c_5 => ?_)
          · replace hf := ww_ip hf c_5
            replace hf := ww_xK hf hz_1
            refine lv_iload hx hb dX5_counts_194 (lv_at hl 4 rfl) ?_
            exact hend dX5_counts_196 rfl rfl hf hR hS
          · replace hf := ww_in hf c_5
            refine lv_aload_n hx hb dX5_counts_158 rfl (lv_at hl 0 rfl) ?_
            obtain ⟨r_6, h_6, hq⟩ := ww_bS hf; replace hf := hq; clear hq
            refine c5i_isLeaf X hl.1 hK hR hS (by omega) (by omega) (Nat.zero_le _) (Nat.zero_le _) h_6 (cw_rest (Nat.le_of_ble_eq_true rfl)) dX5_counts_159 (fun H locs hR hS => ?_)
            refine lv_if_ne (tgt := 194) hx hb dX5_counts_164 (by decide) (fun c_7 => ?_) (fun c_7 => ?_)
            · replace hf := ww_in hf c_7
              replace hf := ww_xK hf hz_1
              refine lv_iload hx hb dX5_counts_194 (lv_at hl 4 rfl) ?_
              exact hend dX5_counts_196 rfl rfl hf hR hS
            · replace hf := ww_ip hf c_7
              refine lv_iload hx hb dX5_counts_167 (lv_at hl 4 rfl) ?_
              refine lv_aload_n hx hb dX5_counts_169 rfl (lv_at hl 0 rfl) ?_
              refine lv_iload hx hb dX5_counts_170 (lv_at hl 5 rfl) ?_
              obtain ⟨r_8, h_8, hq⟩ := ww_bS hf; replace hf := hq; clear hq
              refine c5i_kid X hl.1 hK hR hS (by omega) (by omega) (Nat.zero_le _) (Nat.zero_le _) h_8 (cw_rest (Nat.le_of_ble_eq_true rfl)) dX5_counts_172 (fun H locs hR hS => ?_)
              refine lv_iload_n hx hb dX5_counts_177 rfl (lv_at hl 1 rfl) ?_
              refine lv_iload_n hx hb dX5_counts_178 rfl (lv_at hl 2 rfl) ?_
              refine cw_aload_n (x := x3) hx hb dX5_counts_179 rfl (lv_at hl 3 rfl) ?_
              obtain ⟨a_9, e_9, hq⟩ := ww_bS hf; replace hf := hq; clear hq
              subst e_9
              obtain ⟨h_10, hq⟩ := ww_gS hf; replace hf := hq; clear hq
              obtain ⟨r_11, D_11, h_11, hq⟩ := ww_b2S hf; replace hf := hq; clear hq
              refine c5j_counts (x3 := x3) X hl.1 hK hR hS (by omega) (by omega) (Nat.zero_le _) (Nat.zero_le _) h_10 (ih _ _ _ _ _ _ _ h_11) (cw_rest (Nat.le_of_ble_eq_true rfl)) dX5_counts_180 (fun H locs hR hS => ?_)
              refine lv_iadd hx hb dX5_counts_185 ?_
              refine lv_istore (lv' := [(4, .int (x4 + r_11)), (0, .ref a0), (1, .int x1), (2, .int x2), (3, va_rf x3), (5, .int x5)]) hx hb dX5_counts_186 hl (by decide) (by cases x3 <;> rfl) (fun ls hl => ?_)
              refine lv_iinc (k := 5) (v := x5 + (1 : Int32)) (lv' := [(5, .int (x5 + (1 : Int32))), (4, .int (x4 + r_11)), (0, .ref a0), (1, .int x1), (2, .int x2), (3, va_rf x3)]) hx hb dX5_counts_188 hl rfl rfl (by decide) rfl (fun ls hl => ?_)
              refine lv_goto (tgt := 147) hx hb dX5_counts_191 (by decide) ?_
              exact ww_lK hf hz_1 _ _ _ hR hS (lv_sub hl [2, 3, 4, 5, 1, 0] rfl)
        exact hL_1 (D_1, t0, (0 : Int32)) hf _ _ _ hR hS (lv_sub hl [1, 2, 3, 4, 5, 0] rfl)
      refine lv_icmp_ne (tgt := 144) hx hb dX5_counts_134 (by decide) (fun c_12 => ?_) (fun c_12 => ?_)
      · replace hf := ww_in hf c_12
        exact hj_2 D hf _ _ _ hR hS (lv_sub hl [1, 2, 3, 4, 0] rfl)
      · replace hf := ww_ip hf c_12
        refine lv_aload_n hx hb dX5_counts_137 rfl (lv_at hl 1 rfl) ?_
        refine lv_iload_n hx hb dX5_counts_138 rfl (lv_at hl 3 rfl) ?_
        obtain ⟨h_13, hq⟩ := ww_gS hf; replace hf := hq; clear hq
        obtain ⟨D_14, h_14, hq⟩ := ww_bS hf; replace hf := hq; clear hq
        refine c5i_stamp X hl.1 hK hR hS (by omega) (by omega) (Nat.zero_le _) (Nat.zero_le _) h_13 h_14 (cw_rest (Nat.le_of_ble_eq_true rfl)) dX5_counts_139 (fun H locs hR hS => ?_)
        exact hj_2 D_14 hf _ _ _ hR hS (lv_sub hl [1, 2, 3, 4, 0] rfl)
    refine ww_by (x1 = 0) (fun c_15 => ?_) (fun c_15 => ?_)
    · replace hf := ww_ip hf c_15
      refine ww_tin (k := 0) (off := 35) (tgt := 36) hx hb dX5_counts_1 c_15 (by decide) (by decide) (by decide) (by decide) ?_
      refine lv_iconst (v := (1 : Int32)) hx hb dX5_counts_36 (by decide) ?_
      refine lv_goto (tgt := 130) hx hb dX5_counts_37 (by decide) ?_
      exact hj_1 (1 : Int32) hf _ _ _ hR hS hl
    replace hf := ww_in hf c_15
    refine ww_by (x1 = 1) (fun c_16 => ?_) (fun c_16 => ?_)
    · replace hf := ww_ip hf c_16
      refine ww_tin (k := 1) (off := 39) (tgt := 40) hx hb dX5_counts_1 c_16 (by decide) (by decide) (by decide) (by decide) ?_
      refine lv_aload_n hx hb dX5_counts_40 rfl (lv_at hl 0 rfl) ?_
      obtain ⟨r_17, h_17, hq⟩ := ww_bS hf; replace hf := hq; clear hq
      refine c5i_isLeaf X hl.1 hK hR hS (by omega) (by omega) (Nat.zero_le _) (Nat.zero_le _) h_17 (cw_rest (Nat.le_of_ble_eq_true rfl)) dX5_counts_41 (fun H locs hR hS => ?_)
      refine lv_if_eq (tgt := 53) hx hb dX5_counts_46 (by decide) (fun c_18 => ?_) (fun c_18 => ?_)
      · replace hf := ww_ip hf c_18
        refine lv_iconst (v := (0 : Int32)) hx hb dX5_counts_53 (by decide) ?_
        refine lv_goto (tgt := 130) hx hb dX5_counts_54 (by decide) ?_
        exact hj_1 (0 : Int32) hf _ _ _ hR hS hl
      · replace hf := ww_in hf c_18
        refine lv_iconst (v := (1 : Int32)) hx hb dX5_counts_49 (by decide) ?_
        refine lv_goto (tgt := 130) hx hb dX5_counts_50 (by decide) ?_
        exact hj_1 (1 : Int32) hf _ _ _ hR hS hl
    replace hf := ww_in hf c_16
    refine ww_by (x1 = 2) (fun c_19 => ?_) (fun c_19 => ?_)
    · replace hf := ww_ip hf c_19
      refine ww_tin (k := 2) (off := 56) (tgt := 57) hx hb dX5_counts_1 c_19 (by decide) (by decide) (by decide) (by decide) ?_
      refine lv_aload_n hx hb dX5_counts_57 rfl (lv_at hl 0 rfl) ?_
      refine lv_iload_n hx hb dX5_counts_58 rfl (lv_at hl 2 rfl) ?_
      obtain ⟨h_20, hq⟩ := ww_gS hf; replace hf := hq; clear hq
      obtain ⟨r_21, h_21, hq⟩ := ww_bS hf; replace hf := hq; clear hq
      refine c5i_isStamped X hl.1 hK hR hS (by omega) (by omega) (Nat.zero_le _) (Nat.zero_le _) h_20 h_21 (cw_rest (Nat.le_of_ble_eq_true rfl)) dX5_counts_59 (fun H locs hR hS => ?_)
      refine lv_if_eq (tgt := 71) hx hb dX5_counts_64 (by decide) (fun c_22 => ?_) (fun c_22 => ?_)
      · replace hf := ww_ip hf c_22
        refine lv_iconst (v := (0 : Int32)) hx hb dX5_counts_71 (by decide) ?_
        refine lv_goto (tgt := 130) hx hb dX5_counts_72 (by decide) ?_
        exact hj_1 (0 : Int32) hf _ _ _ hR hS hl
      · replace hf := ww_in hf c_22
        refine lv_iconst (v := (1 : Int32)) hx hb dX5_counts_67 (by decide) ?_
        refine lv_goto (tgt := 130) hx hb dX5_counts_68 (by decide) ?_
        exact hj_1 (1 : Int32) hf _ _ _ hR hS hl
    replace hf := ww_in hf c_19
    refine ww_by (x1 = 3) (fun c_23 => ?_) (fun c_23 => ?_)
    · replace hf := ww_ip hf c_23
      refine ww_tin (k := 3) (off := 74) (tgt := 75) hx hb dX5_counts_1 c_23 (by decide) (by decide) (by decide) (by decide) ?_
      refine lv_aload_n hx hb dX5_counts_75 rfl (lv_at hl 0 rfl) ?_
      refine lv_iload_n hx hb dX5_counts_76 rfl (lv_at hl 2 rfl) ?_
      obtain ⟨h_24, hq⟩ := ww_gS hf; replace hf := hq; clear hq
      obtain ⟨r_25, h_25, hq⟩ := ww_bS hf; replace hf := hq; clear hq
      refine c5i_isStamped X hl.1 hK hR hS (by omega) (by omega) (Nat.zero_le _) (Nat.zero_le _) h_24 h_25 (cw_rest (Nat.le_of_ble_eq_true rfl)) dX5_counts_77 (fun H locs hR hS => ?_)
      refine lv_if_eq (tgt := 89) hx hb dX5_counts_82 (by decide) (fun c_26 => ?_) (fun c_26 => ?_)
      · replace hf := ww_ip hf c_26
        refine lv_iconst (v := (1 : Int32)) hx hb dX5_counts_89 (by decide) ?_
        refine lv_goto (tgt := 130) hx hb dX5_counts_90 (by decide) ?_
        exact hj_1 (1 : Int32) hf _ _ _ hR hS hl
      · replace hf := ww_in hf c_26
        refine lv_iconst (v := (0 : Int32)) hx hb dX5_counts_85 (by decide) ?_
        refine lv_goto (tgt := 130) hx hb dX5_counts_86 (by decide) ?_
        exact hj_1 (0 : Int32) hf _ _ _ hR hS hl
    replace hf := ww_in hf c_23
    refine ww_by (x1 = 4) (fun c_27 => ?_) (fun c_27 => ?_)
    · replace hf := ww_ip hf c_27
      refine ww_tin (k := 4) (off := 92) (tgt := 93) hx hb dX5_counts_1 c_27 (by decide) (by decide) (by decide) (by decide) ?_
      refine lv_aload_n hx hb dX5_counts_93 rfl (lv_at hl 0 rfl) ?_
      refine cw_aload_n (x := x3) hx hb dX5_counts_94 rfl (lv_at hl 3 rfl) ?_
      obtain ⟨h_28, hq⟩ := ww_gS hf; replace hf := hq; clear hq
      obtain ⟨r_29, h_29, hq⟩ := ww_bS hf; replace hf := hq; clear hq
      refine c5i_isOf (x1 := x3) X hl.1 hK hR hS (by omega) (by omega) (Nat.zero_le _) (Nat.zero_le _) h_28 h_29 (cw_rest (Nat.le_of_ble_eq_true rfl)) dX5_counts_95 (fun H locs hR hS => ?_)
      refine lv_if_eq (tgt := 107) hx hb dX5_counts_100 (by decide) (fun c_30 => ?_) (fun c_30 => ?_)
      · replace hf := ww_ip hf c_30
        refine lv_iconst (v := (0 : Int32)) hx hb dX5_counts_107 (by decide) ?_
        refine lv_goto (tgt := 130) hx hb dX5_counts_108 (by decide) ?_
        exact hj_1 (0 : Int32) hf _ _ _ hR hS hl
      · replace hf := ww_in hf c_30
        refine lv_iconst (v := (1 : Int32)) hx hb dX5_counts_103 (by decide) ?_
        refine lv_goto (tgt := 130) hx hb dX5_counts_104 (by decide) ?_
        exact hj_1 (1 : Int32) hf _ _ _ hR hS hl
    replace hf := ww_in hf c_27
    refine ww_tout (tgt := 111) [0, 1, 2, 3, 4] hx hb dX5_counts_1 ⟨c_15, c_16, c_19, c_23, c_27, trivial⟩ (by decide) (by decide) ?_
    refine lv_aload_n hx hb dX5_counts_111 rfl (lv_at hl 0 rfl) ?_
    obtain ⟨r_31, h_31, hq⟩ := ww_bS hf; replace hf := hq; clear hq
    refine c5i_isLeaf X hl.1 hK hR hS (by omega) (by omega) (Nat.zero_le _) (Nat.zero_le _) h_31 (cw_rest (Nat.le_of_ble_eq_true rfl)) dX5_counts_112 (fun H locs hR hS => ?_)
    refine lv_if_eq (tgt := 129) hx hb dX5_counts_117 (by decide) (fun c_32 => ?_) (fun c_32 => ?_)
    · replace hf := ww_ip hf c_32
      refine lv_iconst (v := (0 : Int32)) hx hb dX5_counts_129 (by decide) ?_
      exact hj_1 (0 : Int32) hf _ _ _ hR hS hl
    · replace hf := ww_in hf c_32
      refine lv_aload_n hx hb dX5_counts_120 rfl (lv_at hl 0 rfl) ?_
      obtain ⟨h_33, hq⟩ := ww_gS hf; replace hf := hq; clear hq
      obtain ⟨r_34, h_34, hq⟩ := ww_bS hf; replace hf := hq; clear hq
      refine c5i_many X hl.1 hK hR hS (by omega) (by omega) (Nat.zero_le _) (Nat.zero_le _) h_33 h_34 (cw_rest (Nat.le_of_ble_eq_true rfl)) dX5_counts_121 (fun H locs hR hS => ?_)
      refine lv_goto (tgt := 130) hx hb dX5_counts_126 (by decide) ?_
      exact hj_1 r_34 hf _ _ _ hR hS hl
section C_5_counts_i
variable {p : Program} {l : Launch} {e : Env} {R : Room} {s : State} {m : MethodId} {args : Array Value} {below : List Frame} {meth : Method} {c : Code} {H : Heap} {locs : List Loc} {cells slots : Nat} {Q : State → Prop}
variable {cc : ByteArray} {pc : Nat} {ls : Array Slot} {rest : List Value} {nL : Nat} {E : cw_E} {A : Nat → Prop} {H0 : Heap}
theorem c1i_counts {D : cw_D} {a0 : Nat} {x1 : Int32} {x2 : Int32} {x3 : Option Nat} {r : Int32} {D' : cw_D} (X : ww_C p m c cc nL s args RX1 lw_all) (hsz : ls.size = nL) (hK : cw_K E A s) (hR : cw_H E A D H) (hS : va_S A s.heap H locs) (hF : 11 ≤ R.frames) (hLo : 266 ≤ R.locals) (hc : cells ≤ R.cells) (hs : slots ≤ R.slots) (hkd2 : cw_kd D [1, 2] (some a0) = true) (hf : f5_counts 8 D a0 x1 x2 x3 = some (r, D')) (hrest : (rest.map fun v => v.category).sum ≤ 8) {count : Nat} (hdg : decode cc pc = .ok (.invokeinterface 263 count, 5)) (kk : ∀ (H1 : Heap) (locs1 : List Loc), cw_H E A D' H1 → va_S A s.heap H1 locs1 → W p l e R s m args below meth c H1 locs1 cells slots Q (F0 m (pc + 5) ls (.int r :: rest))) : W p l e R s m args below meth c H locs cells slots Q (F0 m pc ls (va_rf x3 :: .int x2 :: .int x1 :: .ref a0 :: rest)) := by
  rcases cw_kd2 hkd2 with hkd | hkd
  · exact va_callFi (cw_runFD (n := 3) (C := RX7) (x := ⟨"WideMap$Node", "counts", "(IILWideMap$Token;)I"⟩) (As := [.int x1, .int x2, va_rf x3]) (rest := rest) (a := a0) (cw_cls (k := 1) (C := RX7) (T := TX7) (N := 5) rfl hK) X (met5_counts l 8 _ _ _ _ _ _ _ hf) q1108 (hK.2.2.2.2.1 ("WideMap$Leaf", ⟨"WideMap$Node", "counts", "(IILWideMap$Token;)I"⟩, ⟨"WideMap$Node", "counts", "(IILWideMap$Token;)I"⟩) (by decide +kernel)) q1112 q152 (lw_meth q1114) rfl rfl rfl ⟨hF, hLo⟩ (by decide +kernel) (cw_pV hK hR hS (cw_rc (k := 1) (C := RX7) (T := TX7) (N := 5) rfl (by decide) hK hR hkd)) rfl rfl hsz rfl (lv_room hrest) hdg ⟨hc, hs⟩) hS (fun q _ h => h) (fun q h => h) (fun r' u t H1 locs1 ht hvm hw hB hz1 hk1 hS1 => by subst hw; rw [ht] at hB; exact kk H1 locs1 hB hS1)
  · exact va_callFi (cw_runFD (n := 3) (C := RX8) (x := ⟨"WideMap$Node", "counts", "(IILWideMap$Token;)I"⟩) (As := [.int x1, .int x2, va_rf x3]) (rest := rest) (a := a0) (cw_cls (k := 2) (C := RX8) (T := TX8) (N := 4) rfl hK) X (met5_counts l 8 _ _ _ _ _ _ _ hf) q1108 (hK.2.2.2.2.1 ("WideMap$Inner", ⟨"WideMap$Node", "counts", "(IILWideMap$Token;)I"⟩, ⟨"WideMap$Node", "counts", "(IILWideMap$Token;)I"⟩) (by decide +kernel)) q1112 q152 (lw_meth q1114) rfl rfl rfl ⟨hF, hLo⟩ (by decide +kernel) (cw_pV hK hR hS (cw_rc (k := 2) (C := RX8) (T := TX8) (N := 4) rfl (by decide) hK hR hkd)) rfl rfl hsz rfl (lv_room hrest) hdg ⟨hc, hs⟩) hS (fun q _ h => h) (fun q h => h) (fun r' u t H1 locs1 ht hvm hw hB hz1 hk1 hS1 => by subst hw; rw [ht] at hB; exact kk H1 locs1 hB hS1)
theorem c5i_counts {D : cw_D} {a0 : Nat} {x1 : Int32} {x2 : Int32} {x3 : Option Nat} {r : Int32} {D' : cw_D} (X : ww_C p m c cc nL s args RX5 lw_all) (hsz : ls.size = nL) (hK : cw_K E A s) (hR : cw_H E A D H) (hS : va_S A s.heap H locs) (hF : 11 ≤ R.frames) (hLo : 266 ≤ R.locals) (hc : cells ≤ R.cells) (hs : slots ≤ R.slots) (hkd2 : cw_kd D [1, 2] (some a0) = true) (hf : f5_counts 8 D a0 x1 x2 x3 = some (r, D')) (hrest : (rest.map fun v => v.category).sum ≤ 8) {count : Nat} (hdg : decode cc pc = .ok (.invokeinterface 61 count, 5)) (kk : ∀ (H1 : Heap) (locs1 : List Loc), cw_H E A D' H1 → va_S A s.heap H1 locs1 → W p l e R s m args below meth c H1 locs1 cells slots Q (F0 m (pc + 5) ls (.int r :: rest))) : W p l e R s m args below meth c H locs cells slots Q (F0 m pc ls (va_rf x3 :: .int x2 :: .int x1 :: .ref a0 :: rest)) := by
  rcases cw_kd2 hkd2 with hkd | hkd
  · exact va_callFi (cw_runFD (n := 3) (C := RX7) (x := ⟨"WideMap$Node", "counts", "(IILWideMap$Token;)I"⟩) (As := [.int x1, .int x2, va_rf x3]) (rest := rest) (a := a0) (cw_cls (k := 1) (C := RX7) (T := TX7) (N := 5) rfl hK) X (met5_counts l 8 _ _ _ _ _ _ _ hf) q1140 (hK.2.2.2.2.1 ("WideMap$Leaf", ⟨"WideMap$Node", "counts", "(IILWideMap$Token;)I"⟩, ⟨"WideMap$Node", "counts", "(IILWideMap$Token;)I"⟩) (by decide +kernel)) q1112 q152 (lw_meth q1114) rfl rfl rfl ⟨hF, hLo⟩ (by decide +kernel) (cw_pV hK hR hS (cw_rc (k := 1) (C := RX7) (T := TX7) (N := 5) rfl (by decide) hK hR hkd)) rfl rfl hsz rfl (lv_room hrest) hdg ⟨hc, hs⟩) hS (fun q _ h => h) (fun q h => h) (fun r' u t H1 locs1 ht hvm hw hB hz1 hk1 hS1 => by subst hw; rw [ht] at hB; exact kk H1 locs1 hB hS1)
  · exact va_callFi (cw_runFD (n := 3) (C := RX8) (x := ⟨"WideMap$Node", "counts", "(IILWideMap$Token;)I"⟩) (As := [.int x1, .int x2, va_rf x3]) (rest := rest) (a := a0) (cw_cls (k := 2) (C := RX8) (T := TX8) (N := 4) rfl hK) X (met5_counts l 8 _ _ _ _ _ _ _ hf) q1140 (hK.2.2.2.2.1 ("WideMap$Inner", ⟨"WideMap$Node", "counts", "(IILWideMap$Token;)I"⟩, ⟨"WideMap$Node", "counts", "(IILWideMap$Token;)I"⟩) (by decide +kernel)) q1112 q152 (lw_meth q1114) rfl rfl rfl ⟨hF, hLo⟩ (by decide +kernel) (cw_pV hK hR hS (cw_rc (k := 2) (C := RX8) (T := TX8) (N := 4) rfl (by decide) hK hR hkd)) rfl rfl hsz rfl (lv_room hrest) hdg ⟨hc, hs⟩) hS (fun q _ h => h) (fun q h => h) (fun r' u t H1 locs1 ht hvm hw hB hz1 hk1 hS1 => by subst hw; rw [ht] at hB; exact kk H1 locs1 hB hS1)
end C_5_counts_i
noncomputable def f5_levels_r (rec : cw_D → Nat → Option (Int32)) (D : cw_D) (a0 : Nat) : Option (Int32) :=
  ww_b (f5r_isLeaf f8_isLeaf D a0) (fun r_1 => if r_1 = 0 then ww_b (f5r_kid f8_kid D a0 (0 : Int32)) (fun r_3 => ww_b r_3 (fun a_4 => ww_g (cw_kd D [1, 2] (some a_4)) (ww_b (rec D a_4) (fun r_6 => some ((1 : Int32) + r_6))))) else some (1 : Int32))
noncomputable def f5_levels : Nat → cw_D → Nat → Option (Int32)
  | 0 => fun _ _ => none
  | d + 1 => f5_levels_r (f5_levels d)
section C_5_levels_j
variable {p : Program} {l : Launch} {e : Env} {R : Room} {s : State} {m : MethodId} {args : Array Value} {below : List Frame} {meth : Method} {c : Code} {H : Heap} {locs : List Loc} {cells slots : Nat} {Q : State → Prop}
variable {cc : ByteArray} {pc : Nat} {ls : Array Slot} {rest : List Value} {nL : Nat} {E : cw_E} {A : Nat → Prop} {H0 : Heap}
theorem c1j_levels {D : cw_D} {a0 : Nat} {r : Int32} {d : Nat} (X : ww_C p m c cc nL s args RX1 lw_all) (hsz : ls.size = nL) (hK : cw_K E A s) (hR : cw_H E A D H) (hS : va_S A s.heap H locs) (hF : d + 1 + 1 ≤ R.frames) (hLo : 8 + (1 + 11) + (20 * d + 21) ≤ R.locals) (hc : cells ≤ R.cells) (hs : slots ≤ R.slots) (hkd2 : cw_kd D [1, 2] (some a0) = true) (hM : cw_MetI l yX5_levels cX5_levels 1 (some Jvm.ClassFile.FieldType.int) (d + 1) (20 * d + 21) E A [.ref a0] D D r 0 0) (hrest : (rest.map fun v => v.category).sum ≤ 8) {count : Nat} (hdg : decode cc pc = .ok (.invokeinterface 342 count, 5)) (kk : ∀ (H1 : Heap) (locs1 : List Loc), cw_H E A D H1 → va_S A s.heap H1 locs1 → W p l e R s m args below meth c H1 locs1 cells slots Q (F0 m (pc + 5) ls (.int r :: rest))) : W p l e R s m args below meth c H locs cells slots Q (F0 m pc ls (.ref a0 :: rest)) := by
  rcases cw_kd2 hkd2 with hkd | hkd
  · exact va_callFi (cw_runFD (n := 0) (C := RX7) (x := ⟨"WideMap$Node", "levels", "()I"⟩) (As := []) (rest := rest) (a := a0) (cw_cls (k := 1) (C := RX7) (T := TX7) (N := 5) rfl hK) X hM q1143 (hK.2.2.2.2.1 ("WideMap$Leaf", ⟨"WideMap$Node", "levels", "()I"⟩, ⟨"WideMap$Node", "levels", "()I"⟩) (by decide +kernel)) q1147 q152 (lw_meth q1149) rfl rfl rfl ⟨hF, hLo⟩ (by decide +kernel) (cw_pV hK hR hS (cw_rc (k := 1) (C := RX7) (T := TX7) (N := 5) rfl (by decide) hK hR hkd)) rfl rfl hsz rfl (lv_room hrest) hdg ⟨hc, hs⟩) hS (fun q _ h => h) (fun q h => h) (fun r' u t H1 locs1 ht hvm hw hB hz1 hk1 hS1 => by subst hw; rw [ht] at hB; exact kk H1 locs1 hB hS1)
  · exact va_callFi (cw_runFD (n := 0) (C := RX8) (x := ⟨"WideMap$Node", "levels", "()I"⟩) (As := []) (rest := rest) (a := a0) (cw_cls (k := 2) (C := RX8) (T := TX8) (N := 4) rfl hK) X hM q1143 (hK.2.2.2.2.1 ("WideMap$Inner", ⟨"WideMap$Node", "levels", "()I"⟩, ⟨"WideMap$Node", "levels", "()I"⟩) (by decide +kernel)) q1147 q152 (lw_meth q1149) rfl rfl rfl ⟨hF, hLo⟩ (by decide +kernel) (cw_pV hK hR hS (cw_rc (k := 2) (C := RX8) (T := TX8) (N := 4) rfl (by decide) hK hR hkd)) rfl rfl hsz rfl (lv_room hrest) hdg ⟨hc, hs⟩) hS (fun q _ h => h) (fun q h => h) (fun r' u t H1 locs1 ht hvm hw hB hz1 hk1 hS1 => by subst hw; rw [ht] at hB; exact kk H1 locs1 hB hS1)
theorem c5j_levels {D : cw_D} {a0 : Nat} {r : Int32} {d : Nat} (X : ww_C p m c cc nL s args RX5 lw_all) (hsz : ls.size = nL) (hK : cw_K E A s) (hR : cw_H E A D H) (hS : va_S A s.heap H locs) (hF : d + 1 + 1 ≤ R.frames) (hLo : 8 + (1 + 11) + (20 * d + 21) ≤ R.locals) (hc : cells ≤ R.cells) (hs : slots ≤ R.slots) (hkd2 : cw_kd D [1, 2] (some a0) = true) (hM : cw_MetI l yX5_levels cX5_levels 1 (some Jvm.ClassFile.FieldType.int) (d + 1) (20 * d + 21) E A [.ref a0] D D r 0 0) (hrest : (rest.map fun v => v.category).sum ≤ 8) {count : Nat} (hdg : decode cc pc = .ok (.invokeinterface 65 count, 5)) (kk : ∀ (H1 : Heap) (locs1 : List Loc), cw_H E A D H1 → va_S A s.heap H1 locs1 → W p l e R s m args below meth c H1 locs1 cells slots Q (F0 m (pc + 5) ls (.int r :: rest))) : W p l e R s m args below meth c H locs cells slots Q (F0 m pc ls (.ref a0 :: rest)) := by
  rcases cw_kd2 hkd2 with hkd | hkd
  · exact va_callFi (cw_runFD (n := 0) (C := RX7) (x := ⟨"WideMap$Node", "levels", "()I"⟩) (As := []) (rest := rest) (a := a0) (cw_cls (k := 1) (C := RX7) (T := TX7) (N := 5) rfl hK) X hM q1151 (hK.2.2.2.2.1 ("WideMap$Leaf", ⟨"WideMap$Node", "levels", "()I"⟩, ⟨"WideMap$Node", "levels", "()I"⟩) (by decide +kernel)) q1147 q152 (lw_meth q1149) rfl rfl rfl ⟨hF, hLo⟩ (by decide +kernel) (cw_pV hK hR hS (cw_rc (k := 1) (C := RX7) (T := TX7) (N := 5) rfl (by decide) hK hR hkd)) rfl rfl hsz rfl (lv_room hrest) hdg ⟨hc, hs⟩) hS (fun q _ h => h) (fun q h => h) (fun r' u t H1 locs1 ht hvm hw hB hz1 hk1 hS1 => by subst hw; rw [ht] at hB; exact kk H1 locs1 hB hS1)
  · exact va_callFi (cw_runFD (n := 0) (C := RX8) (x := ⟨"WideMap$Node", "levels", "()I"⟩) (As := []) (rest := rest) (a := a0) (cw_cls (k := 2) (C := RX8) (T := TX8) (N := 4) rfl hK) X hM q1151 (hK.2.2.2.2.1 ("WideMap$Inner", ⟨"WideMap$Node", "levels", "()I"⟩, ⟨"WideMap$Node", "levels", "()I"⟩) (by decide +kernel)) q1147 q152 (lw_meth q1149) rfl rfl rfl ⟨hF, hLo⟩ (by decide +kernel) (cw_pV hK hR hS (cw_rc (k := 2) (C := RX8) (T := TX8) (N := 4) rfl (by decide) hK hR hkd)) rfl rfl hsz rfl (lv_room hrest) hdg ⟨hc, hs⟩) hS (fun q _ h => h) (fun q h => h) (fun r' u t H1 locs1 ht hvm hw hB hz1 hk1 hS1 => by subst hw; rw [ht] at hB; exact kk H1 locs1 hB hS1)
end C_5_levels_j
set_option maxHeartbeats 4000000 in
set_option maxRecDepth 100000 in
theorem met5_levels (l : Launch) {E : cw_E} {A : Nat → Prop} : ∀ (d : Nat) (D : cw_D) (a0 : Nat) (r : Int32), f5_levels d D a0 = some r → cw_MetI l yX5_levels cX5_levels 1 (some Jvm.ClassFile.FieldType.int) (d + 1) (20 * d + 21) E A [.ref a0] D D r 0 0 := by
  intro d
  induction d with
  | zero => intro D a0 r hf; cases hf
  | succ d ih =>
    intro D a0 r hf
    replace hf : f5_levels_r (f5_levels d) D a0 = some r := hf
    unfold f5_levels_r at hf
    refine cw_sIP (own := RX5) (by decide +kernel) [(0, .ref a0)] ⟨Nat.le_of_ble_eq_true rfl, rfl⟩ ?_
    intro p e s m args below meth c Rm Q X hK hF hLo hin hend ls hl hR hS
    obtain ⟨hx, hb, hml, hown, hts⟩ := id X
    refine lv_aload_n hx hb dX5_levels_0 rfl (lv_at hl 0 rfl) ?_
    obtain ⟨r_1, h_1, hq⟩ := ww_bS hf; replace hf := hq; clear hq
    refine c5i_isLeaf X hl.1 hK hR hS (by omega) (by omega) (Nat.zero_le _) (Nat.zero_le _) h_1 (cw_rest (Nat.le_of_ble_eq_true rfl)) dX5_levels_1 (fun H locs hR hS => ?_)
    refine lv_if_eq (tgt := 13) hx hb dX5_levels_6 (by decide) (fun c_2 => ?_) (fun c_2 => ?_)
    · replace hf := ww_ip hf c_2
      refine lv_iconst (v := (1 : Int32)) hx hb dX5_levels_13 (by decide) ?_
      refine lv_aload_n hx hb dX5_levels_14 rfl (lv_at hl 0 rfl) ?_
      refine lv_iconst (v := (0 : Int32)) hx hb dX5_levels_15 (by decide) ?_
      obtain ⟨r_3, h_3, hq⟩ := ww_bS hf; replace hf := hq; clear hq
      refine c5i_kid X hl.1 hK hR hS (by omega) (by omega) (Nat.zero_le _) (Nat.zero_le _) h_3 (cw_rest (Nat.le_of_ble_eq_true rfl)) dX5_levels_16 (fun H locs hR hS => ?_)
      obtain ⟨a_4, e_4, hq⟩ := ww_bS hf; replace hf := hq; clear hq
      subst e_4
      obtain ⟨h_5, hq⟩ := ww_gS hf; replace hf := hq; clear hq
      obtain ⟨r_6, h_6, hq⟩ := ww_bS hf; replace hf := hq; clear hq
      refine c5j_levels X hl.1 hK hR hS (by omega) (by omega) (Nat.zero_le _) (Nat.zero_le _) h_5 (ih _ _ _ h_6) (cw_rest (Nat.le_of_ble_eq_true rfl)) dX5_levels_21 (fun H locs hR hS => ?_)
      refine lv_iadd hx hb dX5_levels_26 ?_
      exact hend dX5_levels_27 rfl rfl hf hR hS
    · replace hf := ww_in hf c_2
      refine lv_iconst (v := (1 : Int32)) hx hb dX5_levels_9 (by decide) ?_
      refine lv_goto (tgt := 27) hx hb dX5_levels_10 (by decide) ?_
      exact hend dX5_levels_27 rfl rfl hf hR hS
section C_5_levels_i
variable {p : Program} {l : Launch} {e : Env} {R : Room} {s : State} {m : MethodId} {args : Array Value} {below : List Frame} {meth : Method} {c : Code} {H : Heap} {locs : List Loc} {cells slots : Nat} {Q : State → Prop}
variable {cc : ByteArray} {pc : Nat} {ls : Array Slot} {rest : List Value} {nL : Nat} {E : cw_E} {A : Nat → Prop} {H0 : Heap}
theorem c1i_levels {D : cw_D} {a0 : Nat} {r : Int32} (X : ww_C p m c cc nL s args RX1 lw_all) (hsz : ls.size = nL) (hK : cw_K E A s) (hR : cw_H E A D H) (hS : va_S A s.heap H locs) (hF : 10 ≤ R.frames) (hLo : 201 ≤ R.locals) (hc : cells ≤ R.cells) (hs : slots ≤ R.slots) (hkd2 : cw_kd D [1, 2] (some a0) = true) (hf : f5_levels 8 D a0 = some r) (hrest : (rest.map fun v => v.category).sum ≤ 8) {count : Nat} (hdg : decode cc pc = .ok (.invokeinterface 342 count, 5)) (kk : ∀ (H1 : Heap) (locs1 : List Loc), cw_H E A D H1 → va_S A s.heap H1 locs1 → W p l e R s m args below meth c H1 locs1 cells slots Q (F0 m (pc + 5) ls (.int r :: rest))) : W p l e R s m args below meth c H locs cells slots Q (F0 m pc ls (.ref a0 :: rest)) := by
  rcases cw_kd2 hkd2 with hkd | hkd
  · exact va_callFi (cw_runFD (n := 0) (C := RX7) (x := ⟨"WideMap$Node", "levels", "()I"⟩) (As := []) (rest := rest) (a := a0) (cw_cls (k := 1) (C := RX7) (T := TX7) (N := 5) rfl hK) X (met5_levels l 8 _ _ _ hf) q1143 (hK.2.2.2.2.1 ("WideMap$Leaf", ⟨"WideMap$Node", "levels", "()I"⟩, ⟨"WideMap$Node", "levels", "()I"⟩) (by decide +kernel)) q1147 q152 (lw_meth q1149) rfl rfl rfl ⟨hF, hLo⟩ (by decide +kernel) (cw_pV hK hR hS (cw_rc (k := 1) (C := RX7) (T := TX7) (N := 5) rfl (by decide) hK hR hkd)) rfl rfl hsz rfl (lv_room hrest) hdg ⟨hc, hs⟩) hS (fun q _ h => h) (fun q h => h) (fun r' u t H1 locs1 ht hvm hw hB hz1 hk1 hS1 => by subst hw; rw [ht] at hB; exact kk H1 locs1 hB hS1)
  · exact va_callFi (cw_runFD (n := 0) (C := RX8) (x := ⟨"WideMap$Node", "levels", "()I"⟩) (As := []) (rest := rest) (a := a0) (cw_cls (k := 2) (C := RX8) (T := TX8) (N := 4) rfl hK) X (met5_levels l 8 _ _ _ hf) q1143 (hK.2.2.2.2.1 ("WideMap$Inner", ⟨"WideMap$Node", "levels", "()I"⟩, ⟨"WideMap$Node", "levels", "()I"⟩) (by decide +kernel)) q1147 q152 (lw_meth q1149) rfl rfl rfl ⟨hF, hLo⟩ (by decide +kernel) (cw_pV hK hR hS (cw_rc (k := 2) (C := RX8) (T := TX8) (N := 4) rfl (by decide) hK hR hkd)) rfl rfl hsz rfl (lv_room hrest) hdg ⟨hc, hs⟩) hS (fun q _ h => h) (fun q h => h) (fun r' u t H1 locs1 ht hvm hw hB hz1 hk1 hS1 => by subst hw; rw [ht] at hB; exact kk H1 locs1 hB hS1)
theorem c5i_levels {D : cw_D} {a0 : Nat} {r : Int32} (X : ww_C p m c cc nL s args RX5 lw_all) (hsz : ls.size = nL) (hK : cw_K E A s) (hR : cw_H E A D H) (hS : va_S A s.heap H locs) (hF : 10 ≤ R.frames) (hLo : 201 ≤ R.locals) (hc : cells ≤ R.cells) (hs : slots ≤ R.slots) (hkd2 : cw_kd D [1, 2] (some a0) = true) (hf : f5_levels 8 D a0 = some r) (hrest : (rest.map fun v => v.category).sum ≤ 8) {count : Nat} (hdg : decode cc pc = .ok (.invokeinterface 65 count, 5)) (kk : ∀ (H1 : Heap) (locs1 : List Loc), cw_H E A D H1 → va_S A s.heap H1 locs1 → W p l e R s m args below meth c H1 locs1 cells slots Q (F0 m (pc + 5) ls (.int r :: rest))) : W p l e R s m args below meth c H locs cells slots Q (F0 m pc ls (.ref a0 :: rest)) := by
  rcases cw_kd2 hkd2 with hkd | hkd
  · exact va_callFi (cw_runFD (n := 0) (C := RX7) (x := ⟨"WideMap$Node", "levels", "()I"⟩) (As := []) (rest := rest) (a := a0) (cw_cls (k := 1) (C := RX7) (T := TX7) (N := 5) rfl hK) X (met5_levels l 8 _ _ _ hf) q1151 (hK.2.2.2.2.1 ("WideMap$Leaf", ⟨"WideMap$Node", "levels", "()I"⟩, ⟨"WideMap$Node", "levels", "()I"⟩) (by decide +kernel)) q1147 q152 (lw_meth q1149) rfl rfl rfl ⟨hF, hLo⟩ (by decide +kernel) (cw_pV hK hR hS (cw_rc (k := 1) (C := RX7) (T := TX7) (N := 5) rfl (by decide) hK hR hkd)) rfl rfl hsz rfl (lv_room hrest) hdg ⟨hc, hs⟩) hS (fun q _ h => h) (fun q h => h) (fun r' u t H1 locs1 ht hvm hw hB hz1 hk1 hS1 => by subst hw; rw [ht] at hB; exact kk H1 locs1 hB hS1)
  · exact va_callFi (cw_runFD (n := 0) (C := RX8) (x := ⟨"WideMap$Node", "levels", "()I"⟩) (As := []) (rest := rest) (a := a0) (cw_cls (k := 2) (C := RX8) (T := TX8) (N := 4) rfl hK) X (met5_levels l 8 _ _ _ hf) q1151 (hK.2.2.2.2.1 ("WideMap$Inner", ⟨"WideMap$Node", "levels", "()I"⟩, ⟨"WideMap$Node", "levels", "()I"⟩) (by decide +kernel)) q1147 q152 (lw_meth q1149) rfl rfl rfl ⟨hF, hLo⟩ (by decide +kernel) (cw_pV hK hR hS (cw_rc (k := 2) (C := RX8) (T := TX8) (N := 4) rfl (by decide) hK hR hkd)) rfl rfl hsz rfl (lv_room hrest) hdg ⟨hc, hs⟩) hS (fun q _ h => h) (fun q h => h) (fun r' u t H1 locs1 ht hvm hw hB hz1 hk1 hS1 => by subst hw; rw [ht] at hB; exact kk H1 locs1 hB hS1)
end C_5_levels_i
noncomputable def f5_hasIn_b1c (rec : cw_D → Nat → Option Nat → Option (Int32)) (D : cw_D) (y0 : Nat) (y1 : Option Nat) (x2 : Int32) : Option ((Int32) ⊕ (Int32)) :=
  ww_g (cw_kd D [1, 2] (some y0)) (ww_b (f6_many D y0) (fun r_3 => if r_3 ≤ x2 then ww_x (some (0 : Int32)) else ww_b (f5r_isLeaf f8_isLeaf D y0) (fun r_5 => if r_5 = 0 then ww_b (f5r_kid f8_kid D y0 x2) (fun r_7 => ww_b r_7 (fun a_8 => ww_g (cw_kd D [1, 2] (some a_8)) (ww_b (rec D a_8 y1) (fun r_10 => if r_10 = 0 then some (.inl (x2 + (1 : Int32))) else ww_x (some (1 : Int32)))))) else ww_x (some (0 : Int32)))))
noncomputable def f5_hasIn_b1 (rec : cw_D → Nat → Option Nat → Option (Int32)) (D : cw_D) (y0 : Nat) (y1 : Option Nat) : Int32 → Option ((Int32) ⊕ (Int32)) := fun s9 => f5_hasIn_b1c rec D y0 y1 s9
noncomputable def f5_hasIn_r (rec : cw_D → Nat → Option Nat → Option (Int32)) (D : cw_D) (a0 : Nat) (x1 : Option Nat) : Option (Int32) :=
  if (some a0) = x1 then some (1 : Int32) else ww_U (f5_hasIn_b1 rec D a0 x1) (0 : Int32)
noncomputable def f5_hasIn : Nat → cw_D → Nat → Option Nat → Option (Int32)
  | 0 => fun _ _ _ => none
  | d + 1 => f5_hasIn_r (f5_hasIn d)
section C_5_hasIn_j
variable {p : Program} {l : Launch} {e : Env} {R : Room} {s : State} {m : MethodId} {args : Array Value} {below : List Frame} {meth : Method} {c : Code} {H : Heap} {locs : List Loc} {cells slots : Nat} {Q : State → Prop}
variable {cc : ByteArray} {pc : Nat} {ls : Array Slot} {rest : List Value} {nL : Nat} {E : cw_E} {A : Nat → Prop} {H0 : Heap}
theorem c1j_hasIn {D : cw_D} {a0 : Nat} {x1 : Option Nat} {r : Int32} {d : Nat} (X : ww_C p m c cc nL s args RX1 lw_all) (hsz : ls.size = nL) (hK : cw_K E A s) (hR : cw_H E A D H) (hS : va_S A s.heap H locs) (hF : d + 1 + 1 ≤ R.frames) (hLo : 8 + (3 + 11) + (22 * d + 21) ≤ R.locals) (hc : cells ≤ R.cells) (hs : slots ≤ R.slots) (hkd2 : cw_kd D [1, 2] (some a0) = true) (hM : cw_MetI l yX5_hasIn cX5_hasIn 3 (some Jvm.ClassFile.FieldType.boolean) (d + 1) (22 * d + 21) E A [.ref a0, va_rf x1] D D r 0 0) (hrest : (rest.map fun v => v.category).sum ≤ 8) {count : Nat} (hdg : decode cc pc = .ok (.invokeinterface 357 count, 5)) (kk : ∀ (H1 : Heap) (locs1 : List Loc), cw_H E A D H1 → va_S A s.heap H1 locs1 → W p l e R s m args below meth c H1 locs1 cells slots Q (F0 m (pc + 5) ls (.int r :: rest))) : W p l e R s m args below meth c H locs cells slots Q (F0 m pc ls (va_rf x1 :: .ref a0 :: rest)) := by
  rcases cw_kd2 hkd2 with hkd | hkd
  · exact va_callFi (cw_runFD (n := 1) (C := RX7) (x := ⟨"WideMap$Node", "hasIn", "(LWideMap$Node;)Z"⟩) (As := [va_rf x1]) (rest := rest) (a := a0) (cw_cls (k := 1) (C := RX7) (T := TX7) (N := 5) rfl hK) X hM q1192 (hK.2.2.2.2.1 ("WideMap$Leaf", ⟨"WideMap$Node", "hasIn", "(LWideMap$Node;)Z"⟩, ⟨"WideMap$Node", "hasIn", "(LWideMap$Node;)Z"⟩) (by decide +kernel)) q1196 q152 (lw_meth q1198) rfl rfl rfl ⟨hF, hLo⟩ (by decide +kernel) (cw_pV hK hR hS (cw_rc (k := 1) (C := RX7) (T := TX7) (N := 5) rfl (by decide) hK hR hkd)) rfl rfl hsz rfl (lv_room hrest) hdg ⟨hc, hs⟩) hS (fun q _ h => h) (fun q h => h) (fun r' u t H1 locs1 ht hvm hw hB hz1 hk1 hS1 => by subst hw; rw [ht] at hB; exact kk H1 locs1 hB hS1)
  · exact va_callFi (cw_runFD (n := 1) (C := RX8) (x := ⟨"WideMap$Node", "hasIn", "(LWideMap$Node;)Z"⟩) (As := [va_rf x1]) (rest := rest) (a := a0) (cw_cls (k := 2) (C := RX8) (T := TX8) (N := 4) rfl hK) X hM q1192 (hK.2.2.2.2.1 ("WideMap$Inner", ⟨"WideMap$Node", "hasIn", "(LWideMap$Node;)Z"⟩, ⟨"WideMap$Node", "hasIn", "(LWideMap$Node;)Z"⟩) (by decide +kernel)) q1196 q152 (lw_meth q1198) rfl rfl rfl ⟨hF, hLo⟩ (by decide +kernel) (cw_pV hK hR hS (cw_rc (k := 2) (C := RX8) (T := TX8) (N := 4) rfl (by decide) hK hR hkd)) rfl rfl hsz rfl (lv_room hrest) hdg ⟨hc, hs⟩) hS (fun q _ h => h) (fun q h => h) (fun r' u t H1 locs1 ht hvm hw hB hz1 hk1 hS1 => by subst hw; rw [ht] at hB; exact kk H1 locs1 hB hS1)
theorem c5j_hasIn {D : cw_D} {a0 : Nat} {x1 : Option Nat} {r : Int32} {d : Nat} (X : ww_C p m c cc nL s args RX5 lw_all) (hsz : ls.size = nL) (hK : cw_K E A s) (hR : cw_H E A D H) (hS : va_S A s.heap H locs) (hF : d + 1 + 1 ≤ R.frames) (hLo : 8 + (3 + 11) + (22 * d + 21) ≤ R.locals) (hc : cells ≤ R.cells) (hs : slots ≤ R.slots) (hkd2 : cw_kd D [1, 2] (some a0) = true) (hM : cw_MetI l yX5_hasIn cX5_hasIn 3 (some Jvm.ClassFile.FieldType.boolean) (d + 1) (22 * d + 21) E A [.ref a0, va_rf x1] D D r 0 0) (hrest : (rest.map fun v => v.category).sum ≤ 8) {count : Nat} (hdg : decode cc pc = .ok (.invokeinterface 68 count, 5)) (kk : ∀ (H1 : Heap) (locs1 : List Loc), cw_H E A D H1 → va_S A s.heap H1 locs1 → W p l e R s m args below meth c H1 locs1 cells slots Q (F0 m (pc + 5) ls (.int r :: rest))) : W p l e R s m args below meth c H locs cells slots Q (F0 m pc ls (va_rf x1 :: .ref a0 :: rest)) := by
  rcases cw_kd2 hkd2 with hkd | hkd
  · exact va_callFi (cw_runFD (n := 1) (C := RX7) (x := ⟨"WideMap$Node", "hasIn", "(LWideMap$Node;)Z"⟩) (As := [va_rf x1]) (rest := rest) (a := a0) (cw_cls (k := 1) (C := RX7) (T := TX7) (N := 5) rfl hK) X hM q1200 (hK.2.2.2.2.1 ("WideMap$Leaf", ⟨"WideMap$Node", "hasIn", "(LWideMap$Node;)Z"⟩, ⟨"WideMap$Node", "hasIn", "(LWideMap$Node;)Z"⟩) (by decide +kernel)) q1196 q152 (lw_meth q1198) rfl rfl rfl ⟨hF, hLo⟩ (by decide +kernel) (cw_pV hK hR hS (cw_rc (k := 1) (C := RX7) (T := TX7) (N := 5) rfl (by decide) hK hR hkd)) rfl rfl hsz rfl (lv_room hrest) hdg ⟨hc, hs⟩) hS (fun q _ h => h) (fun q h => h) (fun r' u t H1 locs1 ht hvm hw hB hz1 hk1 hS1 => by subst hw; rw [ht] at hB; exact kk H1 locs1 hB hS1)
  · exact va_callFi (cw_runFD (n := 1) (C := RX8) (x := ⟨"WideMap$Node", "hasIn", "(LWideMap$Node;)Z"⟩) (As := [va_rf x1]) (rest := rest) (a := a0) (cw_cls (k := 2) (C := RX8) (T := TX8) (N := 4) rfl hK) X hM q1200 (hK.2.2.2.2.1 ("WideMap$Inner", ⟨"WideMap$Node", "hasIn", "(LWideMap$Node;)Z"⟩, ⟨"WideMap$Node", "hasIn", "(LWideMap$Node;)Z"⟩) (by decide +kernel)) q1196 q152 (lw_meth q1198) rfl rfl rfl ⟨hF, hLo⟩ (by decide +kernel) (cw_pV hK hR hS (cw_rc (k := 2) (C := RX8) (T := TX8) (N := 4) rfl (by decide) hK hR hkd)) rfl rfl hsz rfl (lv_room hrest) hdg ⟨hc, hs⟩) hS (fun q _ h => h) (fun q h => h) (fun r' u t H1 locs1 ht hvm hw hB hz1 hk1 hS1 => by subst hw; rw [ht] at hB; exact kk H1 locs1 hB hS1)
end C_5_hasIn_j
set_option maxHeartbeats 4000000 in
set_option maxRecDepth 100000 in
theorem met5_hasIn (l : Launch) {E : cw_E} {A : Nat → Prop} : ∀ (d : Nat) (D : cw_D) (a0 : Nat) (x1 : Option Nat) (r : Int32), f5_hasIn d D a0 x1 = some r → cw_MetI l yX5_hasIn cX5_hasIn 3 (some Jvm.ClassFile.FieldType.boolean) (d + 1) (22 * d + 21) E A [.ref a0, va_rf x1] D D r 0 0 := by
  intro d
  induction d with
  | zero => intro D a0 x1 r hf; cases hf
  | succ d ih =>
    intro D a0 x1 r hf
    replace hf : f5_hasIn_r (f5_hasIn d) D a0 x1 = some r := hf
    unfold f5_hasIn_r at hf
    refine cw_sIP (own := RX5) (by decide +kernel) [(0, .ref a0), (1, va_rf x1)] ⟨by cases x1 <;> exact Nat.le_of_ble_eq_true rfl, by cases x1 <;> rfl⟩ ?_
    intro p e s m args below meth c Rm Q X hK hF hLo hin hend ls hl hR hS
    obtain ⟨hx, hb, hml, hown, hts⟩ := id X
    refine lv_aload_n hx hb dX5_hasIn_0 rfl (lv_at hl 0 rfl) ?_
    refine cw_aload_n (x := x1) hx hb dX5_hasIn_1 rfl (lv_at hl 1 rfl) ?_
    refine lv_acmp_ne (rx := (some a0)) (ry := x1) (tgt := 7) hx hb dX5_hasIn_2 (by decide) (fun c_1 => ?_) (fun c_1 => ?_)
    · replace hf := ww_in hf c_1
      refine lv_iconst (v := (0 : Int32)) hx hb dX5_hasIn_7 (by decide) ?_
      refine lv_istore_n (lv' := [(2, .int (0 : Int32)), (0, .ref a0), (1, va_rf x1)]) hx hb dX5_hasIn_8 rfl hl (by decide) (by cases x1 <;> rfl) (fun ls hl => ?_)
      have hL_1 : ∀ s9 : Int32, ww_U (f5_hasIn_b1 (f5_hasIn d) D a0 x1) s9 = some r → ∀ (H : Heap) (locs : List Loc) (ls : Array Slot), cw_H E A D H → va_S A s.heap H locs → lv_has ls 3 [(0, .ref a0), (1, va_rf x1), (2, .int s9)] → W p l e Rm s m args below meth c H locs 0 0 Q (F0 m 9 ls []) := by
        clear hf
        refine ww_ind _ r ?_
        intro s9 z_1 hf hz_1
        obtain ⟨x2, e9⟩ : ∃ q9, q9 = s9 := ⟨_, rfl⟩; subst e9
        replace hf : f5_hasIn_b1c (f5_hasIn d) D a0 x1 x2 = some z_1 := hf
        unfold f5_hasIn_b1c at hf
        try clear hl
        try clear hS
        try clear hR
        intro H locs ls hR hS hl
        replace hl : lv_has ls 3 [(0, .ref a0), (1, va_rf x1), (2, .int x2)] := hl
        refine lv_iload_n hx hb dX5_hasIn_9 rfl (lv_at hl 2 rfl) ?_
        refine lv_aload_n hx hb dX5_hasIn_10 rfl (lv_at hl 0 rfl) ?_
        obtain ⟨h_2, hq⟩ := ww_gS hf; replace hf := hq; clear hq
        obtain ⟨r_3, h_3, hq⟩ := ww_bS hf; replace hf := hq; clear hq
        refine c5i_many X hl.1 hK hR hS (by omega) (by omega) (Nat.zero_le _) (Nat.zero_le _) h_2 h_3 (cw_rest (Nat.le_of_ble_eq_true rfl)) dX5_hasIn_11 (fun H locs hR hS => ?_)
        refine lv_icmp_ge (tgt := 52) hx hb dX5_hasIn_16 (by decide) (fun c_4 => ?_) (fun c_4 => ?_)
        · replace hf := ww_ip hf c_4
          replace hf := ww_xK hf hz_1
          refine lv_iconst (v := (0 : Int32)) hx hb dX5_hasIn_52 (by decide) ?_
          exact hend dX5_hasIn_53 rfl (by decide) hf hR hS
        · replace hf := ww_in hf c_4
          refine lv_aload_n hx hb dX5_hasIn_19 rfl (lv_at hl 0 rfl) ?_
          obtain ⟨r_5, h_5, hq⟩ := ww_bS hf; replace hf := hq; clear hq
          refine c5i_isLeaf X hl.1 hK hR hS (by omega) (by omega) (Nat.zero_le _) (Nat.zero_le _) h_5 (cw_rest (Nat.le_of_ble_eq_true rfl)) dX5_hasIn_20 (fun H locs hR hS => ?_)
          refine lv_if_ne (tgt := 52) hx hb dX5_hasIn_25 (by decide) (fun c_6 => ?_) (fun c_6 => ?_)
          · replace hf := ww_in hf c_6
            replace hf := ww_xK hf hz_1
            refine lv_iconst (v := (0 : Int32)) hx hb dX5_hasIn_52 (by decide) ?_
            exact hend dX5_hasIn_53 rfl (by decide) hf hR hS
          · replace hf := ww_ip hf c_6
            refine lv_aload_n hx hb dX5_hasIn_28 rfl (lv_at hl 0 rfl) ?_
            refine lv_iload_n hx hb dX5_hasIn_29 rfl (lv_at hl 2 rfl) ?_
            obtain ⟨r_7, h_7, hq⟩ := ww_bS hf; replace hf := hq; clear hq
            refine c5i_kid X hl.1 hK hR hS (by omega) (by omega) (Nat.zero_le _) (Nat.zero_le _) h_7 (cw_rest (Nat.le_of_ble_eq_true rfl)) dX5_hasIn_30 (fun H locs hR hS => ?_)
            refine cw_aload_n (x := x1) hx hb dX5_hasIn_35 rfl (lv_at hl 1 rfl) ?_
            obtain ⟨a_8, e_8, hq⟩ := ww_bS hf; replace hf := hq; clear hq
            subst e_8
            obtain ⟨h_9, hq⟩ := ww_gS hf; replace hf := hq; clear hq
            obtain ⟨r_10, h_10, hq⟩ := ww_bS hf; replace hf := hq; clear hq
            refine c5j_hasIn (x1 := x1) X hl.1 hK hR hS (by omega) (by omega) (Nat.zero_le _) (Nat.zero_le _) h_9 (ih _ _ _ _ h_10) (cw_rest (Nat.le_of_ble_eq_true rfl)) dX5_hasIn_36 (fun H locs hR hS => ?_)
            refine lv_if_eq (tgt := 46) hx hb dX5_hasIn_41 (by decide) (fun c_11 => ?_) (fun c_11 => ?_)
            · replace hf := ww_ip hf c_11
              refine lv_iinc (k := 2) (v := x2 + (1 : Int32)) (lv' := [(2, .int (x2 + (1 : Int32))), (0, .ref a0), (1, va_rf x1)]) hx hb dX5_hasIn_46 hl rfl rfl (by decide) (by cases x1 <;> rfl) (fun ls hl => ?_)
              refine lv_goto (tgt := 9) hx hb dX5_hasIn_49 (by decide) ?_
              exact ww_lK hf hz_1 _ _ _ hR hS (lv_sub hl [1, 2, 0] rfl)
            · replace hf := ww_in hf c_11
              replace hf := ww_xK hf hz_1
              refine lv_iconst (v := (1 : Int32)) hx hb dX5_hasIn_44 (by decide) ?_
              exact hend dX5_hasIn_45 rfl (by decide) hf hR hS
      exact hL_1 (0 : Int32) hf _ _ _ hR hS (lv_sub hl [1, 2, 0] rfl)
    · replace hf := ww_ip hf c_1
      refine lv_iconst (v := (1 : Int32)) hx hb dX5_hasIn_5 (by decide) ?_
      exact hend dX5_hasIn_6 rfl (by decide) hf hR hS
section C_5_hasIn_i
variable {p : Program} {l : Launch} {e : Env} {R : Room} {s : State} {m : MethodId} {args : Array Value} {below : List Frame} {meth : Method} {c : Code} {H : Heap} {locs : List Loc} {cells slots : Nat} {Q : State → Prop}
variable {cc : ByteArray} {pc : Nat} {ls : Array Slot} {rest : List Value} {nL : Nat} {E : cw_E} {A : Nat → Prop} {H0 : Heap}
theorem c1i_hasIn {D : cw_D} {a0 : Nat} {x1 : Option Nat} {r : Int32} (X : ww_C p m c cc nL s args RX1 lw_all) (hsz : ls.size = nL) (hK : cw_K E A s) (hR : cw_H E A D H) (hS : va_S A s.heap H locs) (hF : 10 ≤ R.frames) (hLo : 219 ≤ R.locals) (hc : cells ≤ R.cells) (hs : slots ≤ R.slots) (hkd2 : cw_kd D [1, 2] (some a0) = true) (hf : f5_hasIn 8 D a0 x1 = some r) (hrest : (rest.map fun v => v.category).sum ≤ 8) {count : Nat} (hdg : decode cc pc = .ok (.invokeinterface 357 count, 5)) (kk : ∀ (H1 : Heap) (locs1 : List Loc), cw_H E A D H1 → va_S A s.heap H1 locs1 → W p l e R s m args below meth c H1 locs1 cells slots Q (F0 m (pc + 5) ls (.int r :: rest))) : W p l e R s m args below meth c H locs cells slots Q (F0 m pc ls (va_rf x1 :: .ref a0 :: rest)) := by
  rcases cw_kd2 hkd2 with hkd | hkd
  · exact va_callFi (cw_runFD (n := 1) (C := RX7) (x := ⟨"WideMap$Node", "hasIn", "(LWideMap$Node;)Z"⟩) (As := [va_rf x1]) (rest := rest) (a := a0) (cw_cls (k := 1) (C := RX7) (T := TX7) (N := 5) rfl hK) X (met5_hasIn l 8 _ _ _ _ hf) q1192 (hK.2.2.2.2.1 ("WideMap$Leaf", ⟨"WideMap$Node", "hasIn", "(LWideMap$Node;)Z"⟩, ⟨"WideMap$Node", "hasIn", "(LWideMap$Node;)Z"⟩) (by decide +kernel)) q1196 q152 (lw_meth q1198) rfl rfl rfl ⟨hF, hLo⟩ (by decide +kernel) (cw_pV hK hR hS (cw_rc (k := 1) (C := RX7) (T := TX7) (N := 5) rfl (by decide) hK hR hkd)) rfl rfl hsz rfl (lv_room hrest) hdg ⟨hc, hs⟩) hS (fun q _ h => h) (fun q h => h) (fun r' u t H1 locs1 ht hvm hw hB hz1 hk1 hS1 => by subst hw; rw [ht] at hB; exact kk H1 locs1 hB hS1)
  · exact va_callFi (cw_runFD (n := 1) (C := RX8) (x := ⟨"WideMap$Node", "hasIn", "(LWideMap$Node;)Z"⟩) (As := [va_rf x1]) (rest := rest) (a := a0) (cw_cls (k := 2) (C := RX8) (T := TX8) (N := 4) rfl hK) X (met5_hasIn l 8 _ _ _ _ hf) q1192 (hK.2.2.2.2.1 ("WideMap$Inner", ⟨"WideMap$Node", "hasIn", "(LWideMap$Node;)Z"⟩, ⟨"WideMap$Node", "hasIn", "(LWideMap$Node;)Z"⟩) (by decide +kernel)) q1196 q152 (lw_meth q1198) rfl rfl rfl ⟨hF, hLo⟩ (by decide +kernel) (cw_pV hK hR hS (cw_rc (k := 2) (C := RX8) (T := TX8) (N := 4) rfl (by decide) hK hR hkd)) rfl rfl hsz rfl (lv_room hrest) hdg ⟨hc, hs⟩) hS (fun q _ h => h) (fun q h => h) (fun r' u t H1 locs1 ht hvm hw hB hz1 hk1 hS1 => by subst hw; rw [ht] at hB; exact kk H1 locs1 hB hS1)
theorem c5i_hasIn {D : cw_D} {a0 : Nat} {x1 : Option Nat} {r : Int32} (X : ww_C p m c cc nL s args RX5 lw_all) (hsz : ls.size = nL) (hK : cw_K E A s) (hR : cw_H E A D H) (hS : va_S A s.heap H locs) (hF : 10 ≤ R.frames) (hLo : 219 ≤ R.locals) (hc : cells ≤ R.cells) (hs : slots ≤ R.slots) (hkd2 : cw_kd D [1, 2] (some a0) = true) (hf : f5_hasIn 8 D a0 x1 = some r) (hrest : (rest.map fun v => v.category).sum ≤ 8) {count : Nat} (hdg : decode cc pc = .ok (.invokeinterface 68 count, 5)) (kk : ∀ (H1 : Heap) (locs1 : List Loc), cw_H E A D H1 → va_S A s.heap H1 locs1 → W p l e R s m args below meth c H1 locs1 cells slots Q (F0 m (pc + 5) ls (.int r :: rest))) : W p l e R s m args below meth c H locs cells slots Q (F0 m pc ls (va_rf x1 :: .ref a0 :: rest)) := by
  rcases cw_kd2 hkd2 with hkd | hkd
  · exact va_callFi (cw_runFD (n := 1) (C := RX7) (x := ⟨"WideMap$Node", "hasIn", "(LWideMap$Node;)Z"⟩) (As := [va_rf x1]) (rest := rest) (a := a0) (cw_cls (k := 1) (C := RX7) (T := TX7) (N := 5) rfl hK) X (met5_hasIn l 8 _ _ _ _ hf) q1200 (hK.2.2.2.2.1 ("WideMap$Leaf", ⟨"WideMap$Node", "hasIn", "(LWideMap$Node;)Z"⟩, ⟨"WideMap$Node", "hasIn", "(LWideMap$Node;)Z"⟩) (by decide +kernel)) q1196 q152 (lw_meth q1198) rfl rfl rfl ⟨hF, hLo⟩ (by decide +kernel) (cw_pV hK hR hS (cw_rc (k := 1) (C := RX7) (T := TX7) (N := 5) rfl (by decide) hK hR hkd)) rfl rfl hsz rfl (lv_room hrest) hdg ⟨hc, hs⟩) hS (fun q _ h => h) (fun q h => h) (fun r' u t H1 locs1 ht hvm hw hB hz1 hk1 hS1 => by subst hw; rw [ht] at hB; exact kk H1 locs1 hB hS1)
  · exact va_callFi (cw_runFD (n := 1) (C := RX8) (x := ⟨"WideMap$Node", "hasIn", "(LWideMap$Node;)Z"⟩) (As := [va_rf x1]) (rest := rest) (a := a0) (cw_cls (k := 2) (C := RX8) (T := TX8) (N := 4) rfl hK) X (met5_hasIn l 8 _ _ _ _ hf) q1200 (hK.2.2.2.2.1 ("WideMap$Inner", ⟨"WideMap$Node", "hasIn", "(LWideMap$Node;)Z"⟩, ⟨"WideMap$Node", "hasIn", "(LWideMap$Node;)Z"⟩) (by decide +kernel)) q1196 q152 (lw_meth q1198) rfl rfl rfl ⟨hF, hLo⟩ (by decide +kernel) (cw_pV hK hR hS (cw_rc (k := 2) (C := RX8) (T := TX8) (N := 4) rfl (by decide) hK hR hkd)) rfl rfl hsz rfl (lv_room hrest) hdg ⟨hc, hs⟩) hS (fun q _ h => h) (fun q h => h) (fun r' u t H1 locs1 ht hvm hw hB hz1 hk1 hS1 => by subst hw; rw [ht] at hB; exact kk H1 locs1 hB hS1)
end C_5_hasIn_i
noncomputable def f1_stales (D : cw_D) (x1 : Int32) : Option (cw_D) :=
  ww_g (ww_i x1 4) (ww_g (cw_kd D [1, 2] none) (ww_g (ww_i x1 4) (ww_g (cw_kd (cw_sY D 24 x1 none) [0] none) (some (cw_sY (cw_sY D 24 x1 none) 25 x1 none)))))
section C_1_stales_k
variable {p : Program} {l : Launch} {e : Env} {R : Room} {s : State} {m : MethodId} {args : Array Value} {below : List Frame} {meth : Method} {c : Code} {H : Heap} {locs : List Loc} {cells slots : Nat} {Q : State → Prop}
variable {cc : ByteArray} {pc : Nat} {ls : Array Slot} {rest : List Value} {nL : Nat} {E : cw_E} {A : Nat → Prop} {H0 : Heap}
theorem c1k_1_stales {D : cw_D} {x1 : Int32} {D' : cw_D} (X : ww_C p m c cc nL s args RX1 lw_all) (hsz : ls.size = nL) (hK : cw_K E A s) (hR : cw_H E A D H) (hS : va_S A s.heap H locs) (hF : 1 ≤ R.frames) (hLo : 21 ≤ R.locals) (hc : cells ≤ R.cells) (hs : slots ≤ R.slots) (hM : cw_MetV l yX1_stales cX1_stales 2 0 0 E A [.ref E.1.1, .int x1] D D' 0 0) (hrest : (rest.map fun v => v.category).sum ≤ 8) (hdg : decode cc pc = .ok (.invokevirtual 249, 3)) (kk : ∀ (H1 : Heap) (locs1 : List Loc), cw_H E A D' H1 → va_S A s.heap H1 locs1 → W p l e R s m args below meth c H1 locs1 cells slots Q (F0 m (pc + 3) ls (rest))) : W p l e R s m args below meth c H locs cells slots Q (F0 m pc ls (.int x1 :: .ref E.1.1 :: rest)) :=
  va_callv (va_runV (C := RX1) (As := [.int x1]) (rest := rest) (b := E.1.1) X hM (cwV 1 X.2.2.2.2 (lw_V q241 q243 qs2 q131 q244) rfl rfl rfl (by decide +kernel) ⟨hF, hLo⟩) (cw_pV hK hR hS (cw_rcM hK hR)) rfl rfl hsz rfl (lv_room hrest) hdg ⟨hc, hs⟩) hS (fun q _ h => h) (fun q h => h) (fun u t H1 locs1 ht hvm hw hB hz1 hk1 hS1 => by rw [ht] at hB; exact kk H1 locs1 hB hS1)
end C_1_stales_k
set_option maxHeartbeats 4000000 in
set_option maxRecDepth 100000 in
theorem met1_stales (l : Launch) {E : cw_E} {A : Nat → Prop} (D : cw_D) (x1 : Int32) (D' : cw_D) (hf : f1_stales D x1 = some D') : cw_MetV l yX1_stales cX1_stales 2 0 0 E A [.ref E.1.1, .int x1] D D' 0 0 := by
  unfold f1_stales at hf
  refine cw_sVD (own := RX1) (by decide +kernel) [(0, .ref E.1.1), (1, .int x1)] ⟨Nat.le_of_ble_eq_true rfl, rfl⟩ ?_
  intro p e s m args below meth c Rm Q X hK hF hLo hin hend ls hl hR hS
  obtain ⟨hx, hb, hml, hown, hts⟩ := id X
  refine lv_aload_n hx hb dX1_stales_0 rfl (lv_at hl 0 rfl) ?_
  refine c1g_85 X hK hR dX1_stales_1 ?_
  refine lv_iload_n hx hb dX1_stales_4 rfl (lv_at hl 1 rfl) ?_
  refine lv_null hx hb dX1_stales_5 ?_
  obtain ⟨h_1, hq⟩ := ww_gS hf; replace hf := hq; clear hq
  obtain ⟨h_2, hq⟩ := ww_gS hf; replace hf := hq; clear hq
  refine c1s_24 (x := none) X hK hR hS h_1 h_2 dX1_stales_6 (fun H locs hR hS => ?_)
  refine lv_aload_n hx hb dX1_stales_7 rfl (lv_at hl 0 rfl) ?_
  refine c1g_90 X hK hR dX1_stales_8 ?_
  refine lv_iload_n hx hb dX1_stales_11 rfl (lv_at hl 1 rfl) ?_
  refine lv_null hx hb dX1_stales_12 ?_
  obtain ⟨h_3, hq⟩ := ww_gS hf; replace hf := hq; clear hq
  obtain ⟨h_4, hq⟩ := ww_gS hf; replace hf := hq; clear hq
  refine c1s_25 (x := none) X hK hR hS h_3 h_4 dX1_stales_13 (fun H locs hR hS => ?_)
  exact hend dX1_stales_14 hf hR hS
section C_1_stales_c
variable {p : Program} {l : Launch} {e : Env} {R : Room} {s : State} {m : MethodId} {args : Array Value} {below : List Frame} {meth : Method} {c : Code} {H : Heap} {locs : List Loc} {cells slots : Nat} {Q : State → Prop}
variable {cc : ByteArray} {pc : Nat} {ls : Array Slot} {rest : List Value} {nL : Nat} {E : cw_E} {A : Nat → Prop} {H0 : Heap}
theorem c1c_1_stales {D : cw_D} {x1 : Int32} {D' : cw_D} (X : ww_C p m c cc nL s args RX1 lw_all) (hsz : ls.size = nL) (hK : cw_K E A s) (hR : cw_H E A D H) (hS : va_S A s.heap H locs) (hF : 1 ≤ R.frames) (hLo : 21 ≤ R.locals) (hc : cells ≤ R.cells) (hs : slots ≤ R.slots) (hf : f1_stales D x1 = some D') (hrest : (rest.map fun v => v.category).sum ≤ 8) (hdg : decode cc pc = .ok (.invokevirtual 249, 3)) (kk : ∀ (H1 : Heap) (locs1 : List Loc), cw_H E A D' H1 → va_S A s.heap H1 locs1 → W p l e R s m args below meth c H1 locs1 cells slots Q (F0 m (pc + 3) ls (rest))) : W p l e R s m args below meth c H locs cells slots Q (F0 m pc ls (.int x1 :: .ref E.1.1 :: rest)) :=
  c1k_1_stales X hsz hK hR hS hF hLo hc hs (met1_stales l _ _ _ hf) hrest hdg kk
end C_1_stales_c
noncomputable def f1_opens_b3c (D_5 : cw_D) (x2 : Int32) : Option ((cw_D × Int32) ⊕ (cw_D)) :=
  if (4 : Int32) ≤ x2 then ww_x (some D_5) else ww_b (f1_stales D_5 x2) (fun D_7 => some (.inl (D_7, (x2 + (1 : Int32)))))
noncomputable def f1_opens_b3 : (cw_D × Int32) → Option ((cw_D × Int32) ⊕ (cw_D)) := fun s9 => f1_opens_b3c s9.1 s9.2
noncomputable def f1_opens_b2c (D_3 : cw_D) (x2 : Int32) : Option ((cw_D × Int32) ⊕ (cw_D)) :=
  if (16 : Int32) ≤ x2 then ww_x (ww_U (f1_opens_b3) ((cw_sF (cw_sF (cw_sF (cw_sF D_3 14 (0 : Int32)) 15 (0 : Int32)) 16 (0 : Int32)) 19 (-1 : Int32)), (0 : Int32))) else ww_g (ww_i x2 16) (ww_g (cw_kd D_3 [1, 2] none) (some (.inl ((cw_sY D_3 13 x2 none), (x2 + (1 : Int32))))))
noncomputable def f1_opens_b2 : (cw_D × Int32) → Option ((cw_D × Int32) ⊕ (cw_D)) := fun s9 => f1_opens_b2c s9.1 s9.2
noncomputable def f1_opens_b1c (D_1 : cw_D) (x2 : Int32) : Option ((cw_D × Int32) ⊕ (cw_D)) :=
  if (16 : Int32) ≤ x2 then ww_x (ww_U (f1_opens_b2) (D_1, (0 : Int32))) else ww_g (ww_i x2 16) (ww_g (cw_kd D_1 [1, 2] none) (some (.inl ((cw_sY D_1 12 x2 none), (x2 + (1 : Int32))))))
noncomputable def f1_opens_b1 : (cw_D × Int32) → Option ((cw_D × Int32) ⊕ (cw_D)) := fun s9 => f1_opens_b1c s9.1 s9.2
noncomputable def f1_opens (D : cw_D) (x1 : Int32) : Option (cw_D) :=
  ww_U (f1_opens_b1) ((cw_sF (cw_sF D 17 x1) 18 ((x1 + (1 : Int32)) / (2 : Int32))), (0 : Int32))
section C_1_opens_k
variable {p : Program} {l : Launch} {e : Env} {R : Room} {s : State} {m : MethodId} {args : Array Value} {below : List Frame} {meth : Method} {c : Code} {H : Heap} {locs : List Loc} {cells slots : Nat} {Q : State → Prop}
variable {cc : ByteArray} {pc : Nat} {ls : Array Slot} {rest : List Value} {nL : Nat} {E : cw_E} {A : Nat → Prop} {H0 : Heap}
theorem c1k_1_opens {D : cw_D} {x1 : Int32} {D' : cw_D} (X : ww_C p m c cc nL s args RX1 lw_all) (hsz : ls.size = nL) (hK : cw_K E A s) (hR : cw_H E A D H) (hS : va_S A s.heap H locs) (hF : 2 ≤ R.frames) (hLo : 43 ≤ R.locals) (hc : cells ≤ R.cells) (hs : slots ≤ R.slots) (hM : cw_MetV l yX1_opens cX1_opens 3 1 21 E A [.ref E.1.1, .int x1] D D' 0 0) (hrest : (rest.map fun v => v.category).sum ≤ 8) (hdg : decode cc pc = .ok (.invokevirtual 116, 3)) (kk : ∀ (H1 : Heap) (locs1 : List Loc), cw_H E A D' H1 → va_S A s.heap H1 locs1 → W p l e R s m args below meth c H1 locs1 cells slots Q (F0 m (pc + 3) ls (rest))) : W p l e R s m args below meth c H locs cells slots Q (F0 m pc ls (.int x1 :: .ref E.1.1 :: rest)) :=
  va_callv (va_runV (C := RX1) (As := [.int x1]) (rest := rest) (b := E.1.1) X hM (cwV 1 X.2.2.2.2 (lw_V q237 q239 qs1 q131 q240) rfl rfl rfl (by decide +kernel) ⟨hF, hLo⟩) (cw_pV hK hR hS (cw_rcM hK hR)) rfl rfl hsz rfl (lv_room hrest) hdg ⟨hc, hs⟩) hS (fun q _ h => h) (fun q h => h) (fun u t H1 locs1 ht hvm hw hB hz1 hk1 hS1 => by rw [ht] at hB; exact kk H1 locs1 hB hS1)
end C_1_opens_k
set_option maxHeartbeats 4000000 in
set_option maxRecDepth 100000 in
theorem met1_opens (l : Launch) {E : cw_E} {A : Nat → Prop} (D : cw_D) (x1 : Int32) (D' : cw_D) (hf : f1_opens D x1 = some D') : cw_MetV l yX1_opens cX1_opens 3 1 21 E A [.ref E.1.1, .int x1] D D' 0 0 := by
  unfold f1_opens at hf
  refine cw_sVD (own := RX1) (by decide +kernel) [(0, .ref E.1.1), (1, .int x1)] ⟨Nat.le_of_ble_eq_true rfl, rfl⟩ ?_
  intro p e s m args below meth c Rm Q X hK hF hLo hin hend ls hl hR hS
  obtain ⟨hx, hb, hml, hown, hts⟩ := id X
  refine lv_aload_n hx hb dX1_opens_0 rfl (lv_at hl 0 rfl) ?_
  refine lv_iload_n hx hb dX1_opens_1 rfl (lv_at hl 1 rfl) ?_
  refine c1p_234 X hK hR hS dX1_opens_2 (fun H locs hR hS => ?_)
  refine lv_aload_n hx hb dX1_opens_5 rfl (lv_at hl 0 rfl) ?_
  refine lv_iload_n hx hb dX1_opens_6 rfl (lv_at hl 1 rfl) ?_
  refine lv_iconst (v := (1 : Int32)) hx hb dX1_opens_7 (by decide) ?_
  refine lv_iadd hx hb dX1_opens_8 ?_
  refine lv_iconst (v := (2 : Int32)) hx hb dX1_opens_9 (by decide) ?_
  refine lv_idiv hx hb dX1_opens_10 (by decide) ?_
  refine c1p_237 X hK hR hS dX1_opens_11 (fun H locs hR hS => ?_)
  refine lv_iconst (v := (0 : Int32)) hx hb dX1_opens_14 (by decide) ?_
  refine lv_istore_n (lv' := [(2, .int (0 : Int32)), (0, .ref E.1.1), (1, .int x1)]) hx hb dX1_opens_15 rfl hl (by decide) rfl (fun ls hl => ?_)
  have hL_1 : ∀ s9 : cw_D × Int32, ww_U (f1_opens_b1) s9 = some D' → ∀ (H : Heap) (locs : List Loc) (ls : Array Slot), cw_H E A s9.1 H → va_S A s.heap H locs → lv_has ls 3 [(0, .ref E.1.1), (2, .int s9.2)] → W p l e Rm s m args below meth c H locs 0 0 Q (F0 m 16 ls []) := by
    clear hf
    refine ww_ind _ D' ?_
    intro s9 z_1 hf hz_1
    obtain ⟨D_1, x2⟩ := s9
    replace hf : f1_opens_b1c D_1 x2 = some z_1 := hf
    unfold f1_opens_b1c at hf
    try clear hl
    try clear hS
    try clear hR
    intro H locs ls hR hS hl
    replace hR : cw_H E A D_1 H := hR
    replace hl : lv_has ls 3 [(0, .ref E.1.1), (2, .int x2)] := hl
    refine lv_iload_n hx hb dX1_opens_16 rfl (lv_at hl 1 rfl) ?_
    refine lv_bipush (v := (16 : Int32)) hx hb dX1_opens_17 (by decide) ?_
    refine lv_icmp_ge (tgt := 35) hx hb dX1_opens_19 (by decide) (fun c_2 => ?_) (fun c_2 => ?_)
    · replace hf := ww_ip hf c_2
      replace hf := ww_xK hf hz_1
      refine lv_iconst (v := (0 : Int32)) hx hb dX1_opens_35 (by decide) ?_
      refine lv_istore_n (lv' := [(2, .int (0 : Int32)), (0, .ref E.1.1)]) hx hb dX1_opens_36 rfl hl (by decide) rfl (fun ls hl => ?_)
      have hL_2 : ∀ s9 : cw_D × Int32, ww_U (f1_opens_b2) s9 = some D' → ∀ (H : Heap) (locs : List Loc) (ls : Array Slot), cw_H E A s9.1 H → va_S A s.heap H locs → lv_has ls 3 [(0, .ref E.1.1), (2, .int s9.2)] → W p l e Rm s m args below meth c H locs 0 0 Q (F0 m 37 ls []) := by
        clear hf
        refine ww_ind _ D' ?_
        intro s9 z_2 hf hz_2
        obtain ⟨D_3, x2⟩ := s9
        replace hf : f1_opens_b2c D_3 x2 = some z_2 := hf
        unfold f1_opens_b2c at hf
        try clear hl
        try clear hS
        try clear hR
        intro H locs ls hR hS hl
        replace hR : cw_H E A D_3 H := hR
        replace hl : lv_has ls 3 [(0, .ref E.1.1), (2, .int x2)] := hl
        refine lv_iload_n hx hb dX1_opens_37 rfl (lv_at hl 1 rfl) ?_
        refine lv_bipush (v := (16 : Int32)) hx hb dX1_opens_38 (by decide) ?_
        refine lv_icmp_ge (tgt := 56) hx hb dX1_opens_40 (by decide) (fun c_4 => ?_) (fun c_4 => ?_)
        · replace hf := ww_ip hf c_4
          replace hf := ww_xK hf hz_2
          refine lv_aload_n hx hb dX1_opens_56 rfl (lv_at hl 0 rfl) ?_
          refine lv_iconst (v := (0 : Int32)) hx hb dX1_opens_57 (by decide) ?_
          refine c1p_240 X hK hR hS dX1_opens_58 (fun H locs hR hS => ?_)
          refine lv_aload_n hx hb dX1_opens_61 rfl (lv_at hl 0 rfl) ?_
          refine lv_iconst (v := (0 : Int32)) hx hb dX1_opens_62 (by decide) ?_
          refine c1p_243 X hK hR hS dX1_opens_63 (fun H locs hR hS => ?_)
          refine lv_aload_n hx hb dX1_opens_66 rfl (lv_at hl 0 rfl) ?_
          refine lv_iconst (v := (0 : Int32)) hx hb dX1_opens_67 (by decide) ?_
          refine c1p_246 X hK hR hS dX1_opens_68 (fun H locs hR hS => ?_)
          refine lv_aload_n hx hb dX1_opens_71 rfl (lv_at hl 0 rfl) ?_
          refine lv_iconst (v := (-1 : Int32)) hx hb dX1_opens_72 (by decide) ?_
          refine c1p_72 X hK hR hS dX1_opens_73 (fun H locs hR hS => ?_)
          refine lv_iconst (v := (0 : Int32)) hx hb dX1_opens_76 (by decide) ?_
          refine lv_istore_n (lv' := [(2, .int (0 : Int32)), (0, .ref E.1.1)]) hx hb dX1_opens_77 rfl hl (by decide) rfl (fun ls hl => ?_)
          have hL_3 : ∀ s9 : cw_D × Int32, ww_U (f1_opens_b3) s9 = some D' → ∀ (H : Heap) (locs : List Loc) (ls : Array Slot), cw_H E A s9.1 H → va_S A s.heap H locs → lv_has ls 3 [(0, .ref E.1.1), (2, .int s9.2)] → W p l e Rm s m args below meth c H locs 0 0 Q (F0 m 78 ls []) := by
            clear hf
            refine ww_ind _ D' ?_
            intro s9 z_3 hf hz_3
            obtain ⟨D_5, x2⟩ := s9
            replace hf : f1_opens_b3c D_5 x2 = some z_3 := hf
            unfold f1_opens_b3c at hf
            try clear hl
            try clear hS
            try clear hR
            intro H locs ls hR hS hl
            replace hR : cw_H E A D_5 H := hR
            replace hl : lv_has ls 3 [(0, .ref E.1.1), (2, .int x2)] := hl
            refine lv_iload_n hx hb dX1_opens_78 rfl (lv_at hl 1 rfl) ?_
            refine lv_iconst (v := (4 : Int32)) hx hb dX1_opens_79 (by decide) ?_
            refine lv_icmp_ge (tgt := 94) hx hb dX1_opens_80 (by decide) (fun c_6 => ?_) (fun c_6 => ?_)
            · replace hf := ww_ip hf c_6
              replace hf := ww_xK hf hz_3
              exact hend dX1_opens_94 hf hR hS
            · replace hf := ww_in hf c_6
              refine lv_aload_n hx hb dX1_opens_83 rfl (lv_at hl 0 rfl) ?_
              refine lv_iload_n hx hb dX1_opens_84 rfl (lv_at hl 1 rfl) ?_
              obtain ⟨D_7, h_7, hq⟩ := ww_bS hf; replace hf := hq; clear hq
              refine c1c_1_stales X hl.1 hK hR hS (Nat.le_trans (Nat.le_of_ble_eq_true rfl) hF) (Nat.le_trans (Nat.le_of_ble_eq_true rfl) hLo) (Nat.zero_le _) (Nat.zero_le _) h_7 (cw_rest (Nat.le_of_ble_eq_true rfl)) dX1_opens_85 (fun H locs hR hS => ?_)
              refine lv_iinc (k := 1) (v := x2 + (1 : Int32)) (lv' := [(2, .int (x2 + (1 : Int32))), (0, .ref E.1.1)]) hx hb dX1_opens_88 hl rfl rfl (by decide) rfl (fun ls hl => ?_)
              refine lv_goto (tgt := 78) hx hb dX1_opens_91 (by decide) ?_
              exact ww_lK hf hz_3 _ _ _ hR hS (lv_sub hl [1, 0] rfl)
          exact hL_3 ((cw_sF (cw_sF (cw_sF (cw_sF D_3 14 (0 : Int32)) 15 (0 : Int32)) 16 (0 : Int32)) 19 (-1 : Int32)), (0 : Int32)) hf _ _ _ hR hS (lv_sub hl [1, 0] rfl)
        · replace hf := ww_in hf c_4
          refine lv_aload_n hx hb dX1_opens_43 rfl (lv_at hl 0 rfl) ?_
          refine c1g_69 X hK hR dX1_opens_44 ?_
          refine lv_iload_n hx hb dX1_opens_47 rfl (lv_at hl 1 rfl) ?_
          refine lv_null hx hb dX1_opens_48 ?_
          obtain ⟨h_8, hq⟩ := ww_gS hf; replace hf := hq; clear hq
          obtain ⟨h_9, hq⟩ := ww_gS hf; replace hf := hq; clear hq
          refine c1s_13 (x := none) X hK hR hS h_8 h_9 dX1_opens_49 (fun H locs hR hS => ?_)
          refine lv_iinc (k := 1) (v := x2 + (1 : Int32)) (lv' := [(2, .int (x2 + (1 : Int32))), (0, .ref E.1.1)]) hx hb dX1_opens_50 hl rfl rfl (by decide) rfl (fun ls hl => ?_)
          refine lv_goto (tgt := 37) hx hb dX1_opens_53 (by decide) ?_
          exact ww_lK hf hz_2 _ _ _ hR hS (lv_sub hl [1, 0] rfl)
      exact hL_2 (D_1, (0 : Int32)) hf _ _ _ hR hS (lv_sub hl [1, 0] rfl)
    · replace hf := ww_in hf c_2
      refine lv_aload_n hx hb dX1_opens_22 rfl (lv_at hl 0 rfl) ?_
      refine c1g_65 X hK hR dX1_opens_23 ?_
      refine lv_iload_n hx hb dX1_opens_26 rfl (lv_at hl 1 rfl) ?_
      refine lv_null hx hb dX1_opens_27 ?_
      obtain ⟨h_10, hq⟩ := ww_gS hf; replace hf := hq; clear hq
      obtain ⟨h_11, hq⟩ := ww_gS hf; replace hf := hq; clear hq
      refine c1s_12 (x := none) X hK hR hS h_10 h_11 dX1_opens_28 (fun H locs hR hS => ?_)
      refine lv_iinc (k := 1) (v := x2 + (1 : Int32)) (lv' := [(2, .int (x2 + (1 : Int32))), (0, .ref E.1.1)]) hx hb dX1_opens_29 hl rfl rfl (by decide) rfl (fun ls hl => ?_)
      refine lv_goto (tgt := 16) hx hb dX1_opens_32 (by decide) ?_
      exact ww_lK hf hz_1 _ _ _ hR hS (lv_sub hl [1, 0] rfl)
  exact hL_1 ((cw_sF (cw_sF D 17 x1) 18 ((x1 + (1 : Int32)) / (2 : Int32))), (0 : Int32)) hf _ _ _ hR hS (lv_sub hl [1, 0] rfl)
section C_1_opens_c
variable {p : Program} {l : Launch} {e : Env} {R : Room} {s : State} {m : MethodId} {args : Array Value} {below : List Frame} {meth : Method} {c : Code} {H : Heap} {locs : List Loc} {cells slots : Nat} {Q : State → Prop}
variable {cc : ByteArray} {pc : Nat} {ls : Array Slot} {rest : List Value} {nL : Nat} {E : cw_E} {A : Nat → Prop} {H0 : Heap}
theorem c1c_1_opens {D : cw_D} {x1 : Int32} {D' : cw_D} (X : ww_C p m c cc nL s args RX1 lw_all) (hsz : ls.size = nL) (hK : cw_K E A s) (hR : cw_H E A D H) (hS : va_S A s.heap H locs) (hF : 2 ≤ R.frames) (hLo : 43 ≤ R.locals) (hc : cells ≤ R.cells) (hs : slots ≤ R.slots) (hf : f1_opens D x1 = some D') (hrest : (rest.map fun v => v.category).sum ≤ 8) (hdg : decode cc pc = .ok (.invokevirtual 116, 3)) (kk : ∀ (H1 : Heap) (locs1 : List Loc), cw_H E A D' H1 → va_S A s.heap H1 locs1 → W p l e R s m args below meth c H1 locs1 cells slots Q (F0 m (pc + 3) ls (rest))) : W p l e R s m args below meth c H locs cells slots Q (F0 m pc ls (.int x1 :: .ref E.1.1 :: rest)) :=
  c1k_1_opens X hsz hK hR hS hF hLo hc hs (met1_opens l _ _ _ hf) hrest hdg kk
end C_1_opens_c
noncomputable def f1_byteOf_j1 (y5 : Int32) (t0 : Int32) : Option (Int32) :=
  some ((t0 >>> (((24 : Int32) - ((8 : Int32) * (y5 - y5 / (4 : Int32) * (4 : Int32)))) &&& 31)) &&& (255 : Int32))
noncomputable def f1_byteOf (x0 : Int32) (x1 : Int32) (x2 : Int32) (x3 : Int32) (x4 : Int32) (x5 : Int32) : Option (Int32) :=
  if (x5 / (4 : Int32)) = 0 then f1_byteOf_j1 x5 x0 else if (x5 / (4 : Int32)) = 1 then f1_byteOf_j1 x5 x1 else if (x5 / (4 : Int32)) = 2 then f1_byteOf_j1 x5 x2 else if (x5 / (4 : Int32)) = 3 then f1_byteOf_j1 x5 x3 else f1_byteOf_j1 x5 x4
set_option maxHeartbeats 4000000 in
set_option maxRecDepth 100000 in
theorem met1_byteOf (l : Launch) (x0 : Int32) (x1 : Int32) (x2 : Int32) (x3 : Int32) (x4 : Int32) (x5 : Int32) (r : Int32) (hf : f1_byteOf x0 x1 x2 x3 x4 x5 = some r) : t3_MetS l yX1_byteOf cX1_byteOf 7 (some Jvm.ClassFile.FieldType.int) 0 0 [.int x0, .int x1, .int x2, .int x3, .int x4, .int x5] r := by
  unfold f1_byteOf at hf
  refine t3_startS (own := RX1) (by decide +kernel) (Nat.le_of_ble_eq_true rfl) ?_
  intro p e s m args below meth c Rm Q X hF hLo hend ls hl hS; have hR : s.heap = s.heap := rfl
  obtain ⟨hx, hb, hml, hown, hts⟩ := id X
  replace hl : lv_has ls 7 [(0, .int x0), (1, .int x1), (2, .int x2), (3, .int x3), (4, .int x4), (5, .int x5)] := hl
  refine lv_iload hx hb dX1_byteOf_0 (lv_at hl 5 rfl) ?_
  refine lv_iconst (v := (4 : Int32)) hx hb dX1_byteOf_2 (by decide) ?_
  refine lv_idiv hx hb dX1_byteOf_3 (by decide) ?_
  have hj_1 : ∀ (t0 : Int32), f1_byteOf_j1 x5 t0 = some r → ∀ (H : Heap) (locs : List Loc) (ls : Array Slot), H = s.heap → va_S (fun _ => False) s.heap H locs → lv_has ls 7 [(5, .int x5)] → W p l e Rm s m args below meth c H locs 0 0 Q (F0 m 54 ls [.int t0]) := by
    clear hf
    intro t0 hf
    unfold f1_byteOf_j1 at hf
    try clear hl
    try clear hS
    try clear hR
    intro H locs ls hR hS hl
    refine lv_istore (lv' := [(6, .int t0), (5, .int x5)]) hx hb dX1_byteOf_54 hl (by decide) rfl (fun ls hl => ?_)
    refine lv_iload hx hb dX1_byteOf_56 (lv_at hl 0 rfl) ?_
    refine lv_bipush (v := (24 : Int32)) hx hb dX1_byteOf_58 (by decide) ?_
    refine lv_bipush (v := (8 : Int32)) hx hb dX1_byteOf_60 (by decide) ?_
    refine lv_iload hx hb dX1_byteOf_62 (lv_at hl 1 rfl) ?_
    refine lv_iconst (v := (4 : Int32)) hx hb dX1_byteOf_64 (by decide) ?_
    refine lv_irem hx hb dX1_byteOf_65 (by decide) ?_
    refine lv_imul hx hb dX1_byteOf_66 ?_
    refine lv_isub hx hb dX1_byteOf_67 ?_
    refine lv_ishr hx hb dX1_byteOf_68 ?_
    refine lv_sipush (v := (255 : Int32)) hx hb dX1_byteOf_69 (by decide) ?_
    refine lv_iand hx hb dX1_byteOf_72 ?_
    exact hend dX1_byteOf_73 rfl rfl hf hR hS
  refine ww_by ((x5 / (4 : Int32)) = 0) (fun c_1 => ?_) (fun c_1 => ?_)
  · replace hf := ww_ip hf c_1
    refine ww_tin (k := 0) (off := 32) (tgt := 36) hx hb dX1_byteOf_4 c_1 (by decide) (by decide) (by decide) (by decide) ?_
    refine lv_iload_n hx hb dX1_byteOf_36 rfl (lv_at hl 0 rfl) ?_
    refine lv_goto (tgt := 54) hx hb dX1_byteOf_37 (by decide) ?_
    exact hj_1 x0 hf _ _ _ hR hS (lv_sub hl [5] rfl)
  replace hf := ww_in hf c_1
  refine ww_by ((x5 / (4 : Int32)) = 1) (fun c_2 => ?_) (fun c_2 => ?_)
  · replace hf := ww_ip hf c_2
    refine ww_tin (k := 1) (off := 36) (tgt := 40) hx hb dX1_byteOf_4 c_2 (by decide) (by decide) (by decide) (by decide) ?_
    refine lv_iload_n hx hb dX1_byteOf_40 rfl (lv_at hl 1 rfl) ?_
    refine lv_goto (tgt := 54) hx hb dX1_byteOf_41 (by decide) ?_
    exact hj_1 x1 hf _ _ _ hR hS (lv_sub hl [5] rfl)
  replace hf := ww_in hf c_2
  refine ww_by ((x5 / (4 : Int32)) = 2) (fun c_3 => ?_) (fun c_3 => ?_)
  · replace hf := ww_ip hf c_3
    refine ww_tin (k := 2) (off := 40) (tgt := 44) hx hb dX1_byteOf_4 c_3 (by decide) (by decide) (by decide) (by decide) ?_
    refine lv_iload_n hx hb dX1_byteOf_44 rfl (lv_at hl 2 rfl) ?_
    refine lv_goto (tgt := 54) hx hb dX1_byteOf_45 (by decide) ?_
    exact hj_1 x2 hf _ _ _ hR hS (lv_sub hl [5] rfl)
  replace hf := ww_in hf c_3
  refine ww_by ((x5 / (4 : Int32)) = 3) (fun c_4 => ?_) (fun c_4 => ?_)
  · replace hf := ww_ip hf c_4
    refine ww_tin (k := 3) (off := 44) (tgt := 48) hx hb dX1_byteOf_4 c_4 (by decide) (by decide) (by decide) (by decide) ?_
    refine lv_iload_n hx hb dX1_byteOf_48 rfl (lv_at hl 3 rfl) ?_
    refine lv_goto (tgt := 54) hx hb dX1_byteOf_49 (by decide) ?_
    exact hj_1 x3 hf _ _ _ hR hS (lv_sub hl [5] rfl)
  replace hf := ww_in hf c_4
  refine ww_tout (tgt := 52) [0, 1, 2, 3] hx hb dX1_byteOf_4 ⟨c_1, c_2, c_3, c_4, trivial⟩ (by decide) (by decide) ?_
  refine lv_iload hx hb dX1_byteOf_52 (lv_at hl 4 rfl) ?_
  exact hj_1 x4 hf _ _ _ hR hS (lv_sub hl [5] rfl)
section C_1_byteOf_c
variable {p : Program} {l : Launch} {e : Env} {R : Room} {s : State} {m : MethodId} {args : Array Value} {below : List Frame} {meth : Method} {c : Code} {H : Heap} {locs : List Loc} {cells slots : Nat} {Q : State → Prop}
variable {cc : ByteArray} {pc : Nat} {ls : Array Slot} {rest : List Value} {nL : Nat} {E : cw_E} {A : Nat → Prop} {H0 : Heap}
theorem c1c_1_byteOf {x0 : Int32} {x1 : Int32} {x2 : Int32} {x3 : Int32} {x4 : Int32} {x5 : Int32} {r : Int32} (X : ww_C p m c cc nL s args RX1 lw_all) (hsz : ls.size = nL) (hF : 1 ≤ R.frames) (hLo : 26 ≤ R.locals) (hc : cells ≤ R.cells) (hs : slots ≤ R.slots) (hf : f1_byteOf x0 x1 x2 x3 x4 x5 = some r) (hrest : (rest.map fun v => v.category).sum ≤ 8) (hdg : decode cc pc = .ok (.invokestatic 120, 3)) (kk : W p l e R s m args below meth c H locs cells slots Q (F0 m (pc + 3) ls (.int r :: rest))) : W p l e R s m args below meth c H locs cells slots Q (F0 m pc ls (.int x5 :: .int x4 :: .int x3 :: .int x2 :: .int x1 :: .int x0 :: rest)) :=
  t3_callS (n := 6) X hsz (As := [.int x0, .int x1, .int x2, .int x3, .int x4, .int x5]) (met1_byteOf l x0 x1 x2 x3 x4 x5 r hf) (lw_S q367 q368 q131 q369) (by decide +kernel) rfl hF hLo hc hs hrest hdg kk
end C_1_byteOf_c
