noncomputable def f1_lay (D : cw_D) (x1 : Int32) (x2 : Int32) (x3 : Int32) : Option (Int32 × cw_D × Nat × Nat) :=
  ww_b2 (f1_whyNotLaid D x1 x2 x3) (fun r_1 D_1 => ww_b2 (f1_isRefused D_1 r_1) (fun r_2 D_2 => if r_2 = 0 then ww_b4 (f1_begins D_2 x1) (fun r_4 D_4 c_4 k_4 => ww_b3 (f1_layNow D_4 x2 x3) (fun D_5 c_5 k_5 => ww_b2 (f1_ends D_5 x1 r_4) (fun r_6 D_6 => some (r_6, D_6, ((0 + c_4) + c_5), ((0 + k_4) + k_5))))) else some ((-1 : Int32), D_2, 0, 0)))
set_option maxHeartbeats 4000000 in
set_option maxRecDepth 100000 in
theorem met1_lay (l : Launch) {E : cw_E} {A : Nat → Prop} (D : cw_D) (x1 : Int32) (x2 : Int32) (x3 : Int32) (r : Int32) (D' : cw_D) (nc ns : Nat) (hf : f1_lay D x1 x2 x3 = some (r, D', nc, ns)) : cw_MetI l yX1_lay cX1_lay 5 (some Jvm.ClassFile.FieldType.int) 21 497 E A [.ref E.1.1, .int x1, .int x2, .int x3] D D' r nc ns := by
  unfold f1_lay at hf
  refine cw_sIN (own := RX1) (by decide +kernel) [(0, .ref E.1.1), (1, .int x1), (2, .int x2), (3, .int x3)] ⟨Nat.le_of_ble_eq_true rfl, rfl⟩ ?_
  intro p e s m args below meth c Rm Q X hK hF hLo hC hin hend ls hl hR hS
  obtain ⟨hx, hb, hml, hown, hts⟩ := id X
  have hm9 : 0 ≤ nc ∧ 0 ≤ ns := ⟨Nat.zero_le _, Nat.zero_le _⟩
  refine lv_aload_n hx hb dX1_lay_0 rfl (lv_at hl 0 rfl) ?_
  refine lv_aload_n hx hb dX1_lay_1 rfl (lv_at hl 0 rfl) ?_
  refine lv_iload_n hx hb dX1_lay_2 rfl (lv_at hl 1 rfl) ?_
  refine lv_iload_n hx hb dX1_lay_3 rfl (lv_at hl 2 rfl) ?_
  refine lv_iload_n hx hb dX1_lay_4 rfl (lv_at hl 3 rfl) ?_
  obtain ⟨r_1, D_1, h_1, hq⟩ := ww_b2S hf; replace hf := hq; clear hq
  refine c1c_1_whyNotLaid X hl.1 hK hR hS (Nat.le_trans (Nat.le_of_ble_eq_true rfl) hF) (Nat.le_trans (Nat.le_of_ble_eq_true rfl) hLo) (Nat.le_trans hm9.1 hC.1) (Nat.le_trans hm9.2 hC.2) h_1 (cw_rest (Nat.le_of_ble_eq_true rfl)) dX1_lay_5 (fun H locs hR hS => ?_)
  obtain ⟨r_2, D_2, h_2, hq⟩ := ww_b2S hf; replace hf := hq; clear hq
  refine c1c_1_isRefused X hl.1 hK hR hS (Nat.le_trans (Nat.le_of_ble_eq_true rfl) hF) (Nat.le_trans (Nat.le_of_ble_eq_true rfl) hLo) (Nat.le_trans hm9.1 hC.1) (Nat.le_trans hm9.2 hC.2) h_2 (cw_rest (Nat.le_of_ble_eq_true rfl)) dX1_lay_8 (fun H locs hR hS => ?_)
  refine lv_if_eq (tgt := 16) hx hb dX1_lay_11 (by decide) (fun c_3 => ?_) (fun c_3 => ?_)
  · replace hf := ww_ip hf c_3
    refine lv_aload_n hx hb dX1_lay_16 rfl (lv_at hl 0 rfl) ?_
    refine lv_iload_n hx hb dX1_lay_17 rfl (lv_at hl 1 rfl) ?_
    obtain ⟨r_4, D_4, c_4, k_4, h_4, hq⟩ := ww_b4S hf; replace hf := hq; clear hq
    have hm9 : (0 + c_4) ≤ nc ∧ (0 + k_4) ≤ ns := by
      obtain ⟨D_5, c_5, k_5, h_5, hq⟩ := ww_b3S hf; replace hf := hq; clear hq
      obtain ⟨r_6, D_6, h_6, hq⟩ := ww_b2S hf; replace hf := hq; clear hq
      have e9 := hf
      simp only [Option.some.injEq, Prod.mk.injEq] at e9
      omega
    refine c1c_1_begins X hl.1 hK hR hS (Nat.le_trans (Nat.le_of_ble_eq_true rfl) hF) (Nat.le_trans (Nat.le_of_ble_eq_true rfl) hLo) (Nat.le_trans hm9.1 hC.1) (Nat.le_trans hm9.2 hC.2) h_4 (cw_rest (Nat.le_of_ble_eq_true rfl)) dX1_lay_18 (fun H locs hR hS => ?_)
    refine lv_istore (lv' := [(4, .int r_4), (0, .ref E.1.1), (1, .int x1), (2, .int x2), (3, .int x3)]) hx hb dX1_lay_21 hl (by decide) rfl (fun ls hl => ?_)
    refine lv_aload_n hx hb dX1_lay_23 rfl (lv_at hl 1 rfl) ?_
    refine lv_iload_n hx hb dX1_lay_24 rfl (lv_at hl 3 rfl) ?_
    refine lv_iload_n hx hb dX1_lay_25 rfl (lv_at hl 4 rfl) ?_
    obtain ⟨D_5, c_5, k_5, h_5, hq⟩ := ww_b3S hf; replace hf := hq; clear hq
    have hm9 : ((0 + c_4) + c_5) ≤ nc ∧ ((0 + k_4) + k_5) ≤ ns := by
      obtain ⟨r_6, D_6, h_6, hq⟩ := ww_b2S hf; replace hf := hq; clear hq
      have e9 := hf
      simp only [Option.some.injEq, Prod.mk.injEq] at e9
      omega
    refine c1c_1_layNow X hl.1 hK hR hS (Nat.le_trans (Nat.le_of_ble_eq_true rfl) hF) (Nat.le_trans (Nat.le_of_ble_eq_true rfl) hLo) (Nat.le_trans hm9.1 hC.1) (Nat.le_trans hm9.2 hC.2) h_5 (cw_rest (Nat.le_of_ble_eq_true rfl)) dX1_lay_26 (fun H locs hR hS => ?_)
    refine lv_aload_n hx hb dX1_lay_29 rfl (lv_at hl 1 rfl) ?_
    refine lv_iload_n hx hb dX1_lay_30 rfl (lv_at hl 2 rfl) ?_
    refine lv_iload hx hb dX1_lay_31 (lv_at hl 0 rfl) ?_
    obtain ⟨r_6, D_6, h_6, hq⟩ := ww_b2S hf; replace hf := hq; clear hq
    refine c1c_1_ends X hl.1 hK hR hS (Nat.le_trans (Nat.le_of_ble_eq_true rfl) hF) (Nat.le_trans (Nat.le_of_ble_eq_true rfl) hLo) (Nat.le_trans hm9.1 hC.1) (Nat.le_trans hm9.2 hC.2) h_6 (cw_rest (Nat.le_of_ble_eq_true rfl)) dX1_lay_33 (fun H locs hR hS => ?_)
    exact hend dX1_lay_36 rfl rfl hf hR hS
  · replace hf := ww_in hf c_3
    refine lv_iconst (v := (-1 : Int32)) hx hb dX1_lay_14 (by decide) ?_
    exact hend dX1_lay_15 rfl rfl hf hR hS
noncomputable def f1_take (D : cw_D) (x1 : Int32) (x2 : Int32) : Option (Int32 × cw_D × Nat × Nat) :=
  ww_b (f1_isKey x2) (fun r_1 => ww_b (f1_whyNot D x1 r_1) (fun r_2 => ww_b2 (f1_isRefused D r_2) (fun r_3 D_3 => if r_3 = 0 then ww_b4 (f1_begins D_3 x1) (fun r_5 D_5 c_5 k_5 => ww_b3 (f1_takeNow D_5 x2) (fun D_6 c_6 k_6 => ww_b2 (f1_ends D_6 x1 r_5) (fun r_7 D_7 => some (r_7, D_7, ((0 + c_5) + c_6), ((0 + k_5) + k_6))))) else some ((-1 : Int32), D_3, 0, 0))))
set_option maxHeartbeats 4000000 in
set_option maxRecDepth 100000 in
theorem met1_take (l : Launch) {E : cw_E} {A : Nat → Prop} (D : cw_D) (x1 : Int32) (x2 : Int32) (r : Int32) (D' : cw_D) (nc ns : Nat) (hf : f1_take D x1 x2 = some (r, D', nc, ns)) : cw_MetI l yX1_take cX1_take 4 (some Jvm.ClassFile.FieldType.int) 23 503 E A [.ref E.1.1, .int x1, .int x2] D D' r nc ns := by
  unfold f1_take at hf
  refine cw_sIN (own := RX1) (by decide +kernel) [(0, .ref E.1.1), (1, .int x1), (2, .int x2)] ⟨Nat.le_of_ble_eq_true rfl, rfl⟩ ?_
  intro p e s m args below meth c Rm Q X hK hF hLo hC hin hend ls hl hR hS
  obtain ⟨hx, hb, hml, hown, hts⟩ := id X
  have hm9 : 0 ≤ nc ∧ 0 ≤ ns := ⟨Nat.zero_le _, Nat.zero_le _⟩
  refine lv_aload_n hx hb dX1_take_0 rfl (lv_at hl 0 rfl) ?_
  refine lv_aload_n hx hb dX1_take_1 rfl (lv_at hl 0 rfl) ?_
  refine lv_iload_n hx hb dX1_take_2 rfl (lv_at hl 1 rfl) ?_
  refine lv_iload_n hx hb dX1_take_3 rfl (lv_at hl 2 rfl) ?_
  obtain ⟨r_1, h_1, hq⟩ := ww_bS hf; replace hf := hq; clear hq
  refine c1c_1_isKey X hl.1 (Nat.le_trans (Nat.le_of_ble_eq_true rfl) hF) (Nat.le_trans (Nat.le_of_ble_eq_true rfl) hLo) (Nat.le_trans hm9.1 hC.1) (Nat.le_trans hm9.2 hC.2) h_1 (cw_rest (Nat.le_of_ble_eq_true rfl)) dX1_take_4 ?_
  obtain ⟨r_2, h_2, hq⟩ := ww_bS hf; replace hf := hq; clear hq
  refine c1c_1_whyNot X hl.1 hK hR hS (Nat.le_trans (Nat.le_of_ble_eq_true rfl) hF) (Nat.le_trans (Nat.le_of_ble_eq_true rfl) hLo) (Nat.le_trans hm9.1 hC.1) (Nat.le_trans hm9.2 hC.2) h_2 (cw_rest (Nat.le_of_ble_eq_true rfl)) dX1_take_7 (fun H locs hR hS => ?_)
  obtain ⟨r_3, D_3, h_3, hq⟩ := ww_b2S hf; replace hf := hq; clear hq
  refine c1c_1_isRefused X hl.1 hK hR hS (Nat.le_trans (Nat.le_of_ble_eq_true rfl) hF) (Nat.le_trans (Nat.le_of_ble_eq_true rfl) hLo) (Nat.le_trans hm9.1 hC.1) (Nat.le_trans hm9.2 hC.2) h_3 (cw_rest (Nat.le_of_ble_eq_true rfl)) dX1_take_10 (fun H locs hR hS => ?_)
  refine lv_if_eq (tgt := 18) hx hb dX1_take_13 (by decide) (fun c_4 => ?_) (fun c_4 => ?_)
  · replace hf := ww_ip hf c_4
    refine lv_aload_n hx hb dX1_take_18 rfl (lv_at hl 0 rfl) ?_
    refine lv_iload_n hx hb dX1_take_19 rfl (lv_at hl 1 rfl) ?_
    obtain ⟨r_5, D_5, c_5, k_5, h_5, hq⟩ := ww_b4S hf; replace hf := hq; clear hq
    have hm9 : (0 + c_5) ≤ nc ∧ (0 + k_5) ≤ ns := by
      obtain ⟨D_6, c_6, k_6, h_6, hq⟩ := ww_b3S hf; replace hf := hq; clear hq
      obtain ⟨r_7, D_7, h_7, hq⟩ := ww_b2S hf; replace hf := hq; clear hq
      have e9 := hf
      simp only [Option.some.injEq, Prod.mk.injEq] at e9
      omega
    refine c1c_1_begins X hl.1 hK hR hS (Nat.le_trans (Nat.le_of_ble_eq_true rfl) hF) (Nat.le_trans (Nat.le_of_ble_eq_true rfl) hLo) (Nat.le_trans hm9.1 hC.1) (Nat.le_trans hm9.2 hC.2) h_5 (cw_rest (Nat.le_of_ble_eq_true rfl)) dX1_take_20 (fun H locs hR hS => ?_)
    refine lv_istore_n (lv' := [(3, .int r_5), (0, .ref E.1.1), (1, .int x1), (2, .int x2)]) hx hb dX1_take_23 rfl hl (by decide) rfl (fun ls hl => ?_)
    refine lv_aload_n hx hb dX1_take_24 rfl (lv_at hl 1 rfl) ?_
    refine lv_iload_n hx hb dX1_take_25 rfl (lv_at hl 3 rfl) ?_
    obtain ⟨D_6, c_6, k_6, h_6, hq⟩ := ww_b3S hf; replace hf := hq; clear hq
    have hm9 : ((0 + c_5) + c_6) ≤ nc ∧ ((0 + k_5) + k_6) ≤ ns := by
      obtain ⟨r_7, D_7, h_7, hq⟩ := ww_b2S hf; replace hf := hq; clear hq
      have e9 := hf
      simp only [Option.some.injEq, Prod.mk.injEq] at e9
      omega
    refine c1c_1_takeNow X hl.1 hK hR hS (Nat.le_trans (Nat.le_of_ble_eq_true rfl) hF) (Nat.le_trans (Nat.le_of_ble_eq_true rfl) hLo) (Nat.le_trans hm9.1 hC.1) (Nat.le_trans hm9.2 hC.2) h_6 (cw_rest (Nat.le_of_ble_eq_true rfl)) dX1_take_26 (fun H locs hR hS => ?_)
    refine lv_aload_n hx hb dX1_take_29 rfl (lv_at hl 1 rfl) ?_
    refine lv_iload_n hx hb dX1_take_30 rfl (lv_at hl 2 rfl) ?_
    refine lv_iload_n hx hb dX1_take_31 rfl (lv_at hl 0 rfl) ?_
    obtain ⟨r_7, D_7, h_7, hq⟩ := ww_b2S hf; replace hf := hq; clear hq
    refine c1c_1_ends X hl.1 hK hR hS (Nat.le_trans (Nat.le_of_ble_eq_true rfl) hF) (Nat.le_trans (Nat.le_of_ble_eq_true rfl) hLo) (Nat.le_trans hm9.1 hC.1) (Nat.le_trans hm9.2 hC.2) h_7 (cw_rest (Nat.le_of_ble_eq_true rfl)) dX1_take_32 (fun H locs hR hS => ?_)
    exact hend dX1_take_35 rfl rfl hf hR hS
  · replace hf := ww_in hf c_4
    refine lv_iconst (v := (-1 : Int32)) hx hb dX1_take_16 (by decide) ?_
    exact hend dX1_take_17 rfl rfl hf hR hS
noncomputable def f1_addNow (D : cw_D) (x1 : Int32) (x2 : Int32) : Option (cw_D × Nat × Nat) :=
  ww_b (some (ww_R D.1 27)) (fun r_1 => ww_b (f1_valueIn D r_1 x1) (fun r_2 => if r_2 = (-1000000 : Int32) then ww_b3 (f1_layNow D x1 x2) (fun D_6 c_6 k_6 => some (D_6, (0 + c_6), (0 + k_6))) else ww_b (f1_held (r_2 + x2)) (fun r_4 => ww_b3 (f1_layNow D x1 r_4) (fun D_5 c_5 k_5 => some (D_5, (0 + c_5), (0 + k_5))))))
section C_1_addNow_k
variable {p : Program} {l : Launch} {e : Env} {R : Room} {s : State} {m : MethodId} {args : Array Value} {below : List Frame} {meth : Method} {c : Code} {H : Heap} {locs : List Loc} {cells slots : Nat} {Q : State → Prop}
variable {cc : ByteArray} {pc : Nat} {ls : Array Slot} {rest : List Value} {nL : Nat} {E : cw_E} {A : Nat → Prop} {H0 : Heap}
theorem c1k_1_addNow {D : cw_D} {x1 : Int32} {x2 : Int32} {D' : cw_D} {nc ns : Nat} (X : ww_C p m c cc nL s args RX1 lw_all) (hsz : ls.size = nL) (hK : cw_K E A s) (hR : cw_H E A D H) (hS : va_S A s.heap H locs) (hF : 22 ≤ R.frames) (hLo : 520 ≤ R.locals) (hc : cells + nc ≤ R.cells) (hs : slots + ns ≤ R.slots) (hM : cw_MetV l yX1_addNow cX1_addNow 4 21 497 E A [.ref E.1.1, .int x1, .int x2] D D' nc ns) (hrest : (rest.map fun v => v.category).sum ≤ 8) (hdg : decode cc pc = .ok (.invokevirtual 330, 3)) (kk : ∀ (H1 : Heap) (locs1 : List Loc), cw_H E A D' H1 → va_S A s.heap H1 locs1 → W p l e R s m args below meth c H1 locs1 (cells + nc) (slots + ns) Q (F0 m (pc + 3) ls (rest))) : W p l e R s m args below meth c H locs cells slots Q (F0 m pc ls (.int x2 :: .int x1 :: .ref E.1.1 :: rest)) :=
  va_callv (va_runV (C := RX1) (As := [.int x1, .int x2]) (rest := rest) (b := E.1.1) X hM (cwV 2 X.2.2.2.2 (lw_V q1404 q1406 qs49 q131 q1407) rfl rfl rfl (by decide +kernel) ⟨hF, hLo⟩) (cw_pV hK hR hS (cw_rcM hK hR)) rfl rfl hsz rfl (lv_room hrest) hdg ⟨hc, hs⟩) hS (fun q _ h => h) (fun q h => h) (fun u t H1 locs1 ht hvm hw hB hz1 hk1 hS1 => by rw [ht] at hB; exact kk H1 locs1 hB hS1)
end C_1_addNow_k
set_option maxHeartbeats 4000000 in
set_option maxRecDepth 100000 in
theorem met1_addNow (l : Launch) {E : cw_E} {A : Nat → Prop} (D : cw_D) (x1 : Int32) (x2 : Int32) (D' : cw_D) (nc ns : Nat) (hf : f1_addNow D x1 x2 = some (D', nc, ns)) : cw_MetV l yX1_addNow cX1_addNow 4 21 497 E A [.ref E.1.1, .int x1, .int x2] D D' nc ns := by
  unfold f1_addNow at hf
  refine cw_sVN (own := RX1) (by decide +kernel) [(0, .ref E.1.1), (1, .int x1), (2, .int x2)] ⟨Nat.le_of_ble_eq_true rfl, rfl⟩ ?_
  intro p e s m args below meth c Rm Q X hK hF hLo hC hin hend ls hl hR hS
  obtain ⟨hx, hb, hml, hown, hts⟩ := id X
  have hm9 : 0 ≤ nc ∧ 0 ≤ ns := ⟨Nat.zero_le _, Nat.zero_le _⟩
  refine lv_aload_n hx hb dX1_addNow_0 rfl (lv_at hl 0 rfl) ?_
  obtain ⟨r_1, h_1, hq⟩ := ww_bS hf; replace hf := hq; clear hq
  refine c1g_226 X hK hR h_1 dX1_addNow_1 ?_
  refine lv_iload_n hx hb dX1_addNow_4 rfl (lv_at hl 1 rfl) ?_
  obtain ⟨r_2, h_2, hq⟩ := ww_bS hf; replace hf := hq; clear hq
  refine c1c_1_valueIn (x0 := r_1) X hl.1 hK hR hS (Nat.le_trans (Nat.le_of_ble_eq_true rfl) hF) (Nat.le_trans (Nat.le_of_ble_eq_true rfl) hLo) (Nat.le_trans hm9.1 hC.1) (Nat.le_trans hm9.2 hC.2) h_2 (cw_rest (Nat.le_of_ble_eq_true rfl)) dX1_addNow_5 (fun H locs hR hS => ?_)
  refine lv_istore_n (lv' := [(3, .int r_2), (0, .ref E.1.1), (1, .int x1), (2, .int x2)]) hx hb dX1_addNow_8 rfl hl (by decide) rfl (fun ls hl => ?_)
  refine lv_aload_n hx hb dX1_addNow_9 rfl (lv_at hl 1 rfl) ?_
  refine lv_iload_n hx hb dX1_addNow_10 rfl (lv_at hl 2 rfl) ?_
  refine lv_iload_n hx hb dX1_addNow_11 rfl (lv_at hl 0 rfl) ?_
  refine lv_ldc (v := (-1000000 : Int32)) hx hb hown (hts _ q420) dX1_addNow_12 ?_
  refine lv_icmp_ne (tgt := 21) hx hb dX1_addNow_14 (by decide) (fun c_3 => ?_) (fun c_3 => ?_)
  · replace hf := ww_in hf c_3
    refine lv_iload_n hx hb dX1_addNow_21 rfl (lv_at hl 0 rfl) ?_
    refine lv_iload_n hx hb dX1_addNow_22 rfl (lv_at hl 3 rfl) ?_
    refine lv_iadd hx hb dX1_addNow_23 ?_
    obtain ⟨r_4, h_4, hq⟩ := ww_bS hf; replace hf := hq; clear hq
    refine c1c_1_held X hl.1 (Nat.le_trans (Nat.le_of_ble_eq_true rfl) hF) (Nat.le_trans (Nat.le_of_ble_eq_true rfl) hLo) (Nat.le_trans hm9.1 hC.1) (Nat.le_trans hm9.2 hC.2) h_4 (cw_rest (Nat.le_of_ble_eq_true rfl)) dX1_addNow_24 ?_
    obtain ⟨D_5, c_5, k_5, h_5, hq⟩ := ww_b3S hf; replace hf := hq; clear hq
    have hm9 : (0 + c_5) ≤ nc ∧ (0 + k_5) ≤ ns := by
      have e9 := hf
      simp only [Option.some.injEq, Prod.mk.injEq] at e9
      omega
    refine c1c_1_layNow X hl.1 hK hR hS (Nat.le_trans (Nat.le_of_ble_eq_true rfl) hF) (Nat.le_trans (Nat.le_of_ble_eq_true rfl) hLo) (Nat.le_trans hm9.1 hC.1) (Nat.le_trans hm9.2 hC.2) h_5 (cw_rest (Nat.le_of_ble_eq_true rfl)) dX1_addNow_27 (fun H locs hR hS => ?_)
    exact hend dX1_addNow_30 hf hR hS
  · replace hf := ww_ip hf c_3
    refine lv_iload_n hx hb dX1_addNow_17 rfl (lv_at hl 3 rfl) ?_
    refine lv_goto (tgt := 27) hx hb dX1_addNow_18 (by decide) ?_
    obtain ⟨D_6, c_6, k_6, h_6, hq⟩ := ww_b3S hf; replace hf := hq; clear hq
    have hm9 : (0 + c_6) ≤ nc ∧ (0 + k_6) ≤ ns := by
      have e9 := hf
      simp only [Option.some.injEq, Prod.mk.injEq] at e9
      omega
    refine c1c_1_layNow X hl.1 hK hR hS (Nat.le_trans (Nat.le_of_ble_eq_true rfl) hF) (Nat.le_trans (Nat.le_of_ble_eq_true rfl) hLo) (Nat.le_trans hm9.1 hC.1) (Nat.le_trans hm9.2 hC.2) h_6 (cw_rest (Nat.le_of_ble_eq_true rfl)) dX1_addNow_27 (fun H locs hR hS => ?_)
    exact hend dX1_addNow_30 hf hR hS
section C_1_addNow_c
variable {p : Program} {l : Launch} {e : Env} {R : Room} {s : State} {m : MethodId} {args : Array Value} {below : List Frame} {meth : Method} {c : Code} {H : Heap} {locs : List Loc} {cells slots : Nat} {Q : State → Prop}
variable {cc : ByteArray} {pc : Nat} {ls : Array Slot} {rest : List Value} {nL : Nat} {E : cw_E} {A : Nat → Prop} {H0 : Heap}
theorem c1c_1_addNow {D : cw_D} {x1 : Int32} {x2 : Int32} {D' : cw_D} {nc ns : Nat} (X : ww_C p m c cc nL s args RX1 lw_all) (hsz : ls.size = nL) (hK : cw_K E A s) (hR : cw_H E A D H) (hS : va_S A s.heap H locs) (hF : 22 ≤ R.frames) (hLo : 520 ≤ R.locals) (hc : cells + nc ≤ R.cells) (hs : slots + ns ≤ R.slots) (hf : f1_addNow D x1 x2 = some (D', nc, ns)) (hrest : (rest.map fun v => v.category).sum ≤ 8) (hdg : decode cc pc = .ok (.invokevirtual 330, 3)) (kk : ∀ (H1 : Heap) (locs1 : List Loc), cw_H E A D' H1 → va_S A s.heap H1 locs1 → W p l e R s m args below meth c H1 locs1 (cells + nc) (slots + ns) Q (F0 m (pc + 3) ls (rest))) : W p l e R s m args below meth c H locs cells slots Q (F0 m pc ls (.int x2 :: .int x1 :: .ref E.1.1 :: rest)) :=
  c1k_1_addNow X hsz hK hR hS hF hLo hc hs (met1_addNow l _ _ _ _ _ _ hf) hrest hdg kk
end C_1_addNow_c
noncomputable def f1_add (D : cw_D) (x1 : Int32) (x2 : Int32) (x3 : Int32) : Option (Int32 × cw_D × Nat × Nat) :=
  ww_b2 (f1_whyNotLaid D x1 x2 x3) (fun r_1 D_1 => ww_b2 (f1_isRefused D_1 r_1) (fun r_2 D_2 => if r_2 = 0 then ww_b4 (f1_begins D_2 x1) (fun r_4 D_4 c_4 k_4 => ww_b3 (f1_addNow D_4 x2 x3) (fun D_5 c_5 k_5 => ww_b2 (f1_ends D_5 x1 r_4) (fun r_6 D_6 => some (r_6, D_6, ((0 + c_4) + c_5), ((0 + k_4) + k_5))))) else some ((-1 : Int32), D_2, 0, 0)))
set_option maxHeartbeats 4000000 in
set_option maxRecDepth 100000 in
theorem met1_add (l : Launch) {E : cw_E} {A : Nat → Prop} (D : cw_D) (x1 : Int32) (x2 : Int32) (x3 : Int32) (r : Int32) (D' : cw_D) (nc ns : Nat) (hf : f1_add D x1 x2 x3 = some (r, D', nc, ns)) : cw_MetI l yX1_add cX1_add 5 (some Jvm.ClassFile.FieldType.int) 22 520 E A [.ref E.1.1, .int x1, .int x2, .int x3] D D' r nc ns := by
  unfold f1_add at hf
  refine cw_sIN (own := RX1) (by decide +kernel) [(0, .ref E.1.1), (1, .int x1), (2, .int x2), (3, .int x3)] ⟨Nat.le_of_ble_eq_true rfl, rfl⟩ ?_
  intro p e s m args below meth c Rm Q X hK hF hLo hC hin hend ls hl hR hS
  obtain ⟨hx, hb, hml, hown, hts⟩ := id X
  have hm9 : 0 ≤ nc ∧ 0 ≤ ns := ⟨Nat.zero_le _, Nat.zero_le _⟩
  refine lv_aload_n hx hb dX1_add_0 rfl (lv_at hl 0 rfl) ?_
  refine lv_aload_n hx hb dX1_add_1 rfl (lv_at hl 0 rfl) ?_
  refine lv_iload_n hx hb dX1_add_2 rfl (lv_at hl 1 rfl) ?_
  refine lv_iload_n hx hb dX1_add_3 rfl (lv_at hl 2 rfl) ?_
  refine lv_iload_n hx hb dX1_add_4 rfl (lv_at hl 3 rfl) ?_
  obtain ⟨r_1, D_1, h_1, hq⟩ := ww_b2S hf; replace hf := hq; clear hq
  refine c1c_1_whyNotLaid X hl.1 hK hR hS (Nat.le_trans (Nat.le_of_ble_eq_true rfl) hF) (Nat.le_trans (Nat.le_of_ble_eq_true rfl) hLo) (Nat.le_trans hm9.1 hC.1) (Nat.le_trans hm9.2 hC.2) h_1 (cw_rest (Nat.le_of_ble_eq_true rfl)) dX1_add_5 (fun H locs hR hS => ?_)
  obtain ⟨r_2, D_2, h_2, hq⟩ := ww_b2S hf; replace hf := hq; clear hq
  refine c1c_1_isRefused X hl.1 hK hR hS (Nat.le_trans (Nat.le_of_ble_eq_true rfl) hF) (Nat.le_trans (Nat.le_of_ble_eq_true rfl) hLo) (Nat.le_trans hm9.1 hC.1) (Nat.le_trans hm9.2 hC.2) h_2 (cw_rest (Nat.le_of_ble_eq_true rfl)) dX1_add_8 (fun H locs hR hS => ?_)
  refine lv_if_eq (tgt := 16) hx hb dX1_add_11 (by decide) (fun c_3 => ?_) (fun c_3 => ?_)
  · replace hf := ww_ip hf c_3
    refine lv_aload_n hx hb dX1_add_16 rfl (lv_at hl 0 rfl) ?_
    refine lv_iload_n hx hb dX1_add_17 rfl (lv_at hl 1 rfl) ?_
    obtain ⟨r_4, D_4, c_4, k_4, h_4, hq⟩ := ww_b4S hf; replace hf := hq; clear hq
    have hm9 : (0 + c_4) ≤ nc ∧ (0 + k_4) ≤ ns := by
      obtain ⟨D_5, c_5, k_5, h_5, hq⟩ := ww_b3S hf; replace hf := hq; clear hq
      obtain ⟨r_6, D_6, h_6, hq⟩ := ww_b2S hf; replace hf := hq; clear hq
      have e9 := hf
      simp only [Option.some.injEq, Prod.mk.injEq] at e9
      omega
    refine c1c_1_begins X hl.1 hK hR hS (Nat.le_trans (Nat.le_of_ble_eq_true rfl) hF) (Nat.le_trans (Nat.le_of_ble_eq_true rfl) hLo) (Nat.le_trans hm9.1 hC.1) (Nat.le_trans hm9.2 hC.2) h_4 (cw_rest (Nat.le_of_ble_eq_true rfl)) dX1_add_18 (fun H locs hR hS => ?_)
    refine lv_istore (lv' := [(4, .int r_4), (0, .ref E.1.1), (1, .int x1), (2, .int x2), (3, .int x3)]) hx hb dX1_add_21 hl (by decide) rfl (fun ls hl => ?_)
    refine lv_aload_n hx hb dX1_add_23 rfl (lv_at hl 1 rfl) ?_
    refine lv_iload_n hx hb dX1_add_24 rfl (lv_at hl 3 rfl) ?_
    refine lv_iload_n hx hb dX1_add_25 rfl (lv_at hl 4 rfl) ?_
    obtain ⟨D_5, c_5, k_5, h_5, hq⟩ := ww_b3S hf; replace hf := hq; clear hq
    have hm9 : ((0 + c_4) + c_5) ≤ nc ∧ ((0 + k_4) + k_5) ≤ ns := by
      obtain ⟨r_6, D_6, h_6, hq⟩ := ww_b2S hf; replace hf := hq; clear hq
      have e9 := hf
      simp only [Option.some.injEq, Prod.mk.injEq] at e9
      omega
    refine c1c_1_addNow X hl.1 hK hR hS (Nat.le_trans (Nat.le_of_ble_eq_true rfl) hF) (Nat.le_trans (Nat.le_of_ble_eq_true rfl) hLo) (Nat.le_trans hm9.1 hC.1) (Nat.le_trans hm9.2 hC.2) h_5 (cw_rest (Nat.le_of_ble_eq_true rfl)) dX1_add_26 (fun H locs hR hS => ?_)
    refine lv_aload_n hx hb dX1_add_29 rfl (lv_at hl 1 rfl) ?_
    refine lv_iload_n hx hb dX1_add_30 rfl (lv_at hl 2 rfl) ?_
    refine lv_iload hx hb dX1_add_31 (lv_at hl 0 rfl) ?_
    obtain ⟨r_6, D_6, h_6, hq⟩ := ww_b2S hf; replace hf := hq; clear hq
    refine c1c_1_ends X hl.1 hK hR hS (Nat.le_trans (Nat.le_of_ble_eq_true rfl) hF) (Nat.le_trans (Nat.le_of_ble_eq_true rfl) hLo) (Nat.le_trans hm9.1 hC.1) (Nat.le_trans hm9.2 hC.2) h_6 (cw_rest (Nat.le_of_ble_eq_true rfl)) dX1_add_33 (fun H locs hR hS => ?_)
    exact hend dX1_add_36 rfl rfl hf hR hS
  · replace hf := ww_in hf c_3
    refine lv_iconst (v := (-1 : Int32)) hx hb dX1_add_14 (by decide) ?_
    exact hend dX1_add_15 rfl rfl hf hR hS
noncomputable def f1_cut_j1 (D : cw_D) (cf : Nat) (kf : Nat) (y1 : Int32) (y2 : Int32) (y3 : Int32) (t2 : Int32) (t3 : Int32) : Option (Int32 × cw_D × Nat × Nat) :=
  ww_b (f1_whyNot D t2 t3) (fun r_2 => ww_b2 (f1_isRefused D r_2) (fun r_3 D_3 => if r_3 = 0 then ww_b4 (f1_begins D_3 y1) (fun r_5 D_5 c_5 k_5 => ww_b3 (f1_cutNow D_5 y2 y3) (fun D_6 c_6 k_6 => ww_b2 (f1_ends D_6 y1 r_5) (fun r_7 D_7 => some (r_7, D_7, ((cf + c_5) + c_6), ((kf + k_5) + k_6))))) else some ((-1 : Int32), D_3, cf, kf)))
noncomputable def f1_cut (D : cw_D) (x1 : Int32) (x2 : Int32) (x3 : Int32) : Option (Int32 × cw_D × Nat × Nat) :=
  ww_b (f1_isKey x2) (fun r_1 => if r_1 = 0 then f1_cut_j1 D 0 0 x1 x2 x3 x1 (0 : Int32) else ww_b (f1_isKey x3) (fun r_9 => if r_9 = 0 then f1_cut_j1 D 0 0 x1 x2 x3 x1 (0 : Int32) else if x3 < x2 then f1_cut_j1 D 0 0 x1 x2 x3 x1 (0 : Int32) else f1_cut_j1 D 0 0 x1 x2 x3 x1 (1 : Int32)))
set_option maxHeartbeats 4000000 in
set_option maxRecDepth 100000 in
theorem met1_cut (l : Launch) {E : cw_E} {A : Nat → Prop} (D : cw_D) (x1 : Int32) (x2 : Int32) (x3 : Int32) (r : Int32) (D' : cw_D) (nc ns : Nat) (hf : f1_cut D x1 x2 x3 = some (r, D', nc, ns)) : cw_MetI l yX1_cut cX1_cut 5 (some Jvm.ClassFile.FieldType.int) 24 527 E A [.ref E.1.1, .int x1, .int x2, .int x3] D D' r nc ns := by
  unfold f1_cut at hf
  refine cw_sIN (own := RX1) (by decide +kernel) [(0, .ref E.1.1), (1, .int x1), (2, .int x2), (3, .int x3)] ⟨Nat.le_of_ble_eq_true rfl, rfl⟩ ?_
  intro p e s m args below meth c Rm Q X hK hF hLo hC hin hend ls hl hR hS
  obtain ⟨hx, hb, hml, hown, hts⟩ := id X
  have hm9 : 0 ≤ nc ∧ 0 ≤ ns := ⟨Nat.zero_le _, Nat.zero_le _⟩
  refine lv_aload_n hx hb dX1_cut_0 rfl (lv_at hl 0 rfl) ?_
  refine lv_aload_n hx hb dX1_cut_1 rfl (lv_at hl 0 rfl) ?_
  refine lv_iload_n hx hb dX1_cut_2 rfl (lv_at hl 1 rfl) ?_
  refine lv_iload_n hx hb dX1_cut_3 rfl (lv_at hl 2 rfl) ?_
  obtain ⟨r_1, h_1, hq⟩ := ww_bS hf; replace hf := hq; clear hq
  refine c1c_1_isKey X hl.1 (Nat.le_trans (Nat.le_of_ble_eq_true rfl) hF) (Nat.le_trans (Nat.le_of_ble_eq_true rfl) hLo) (Nat.le_trans hm9.1 hC.1) (Nat.le_trans hm9.2 hC.2) h_1 (cw_rest (Nat.le_of_ble_eq_true rfl)) dX1_cut_4 ?_
  have hj_1 : ∀ (t2 : Int32) (t3 : Int32), f1_cut_j1 D 0 0 x1 x2 x3 t2 t3 = some (r, D', nc, ns) → (0 ≤ nc ∧ 0 ≤ ns) ∧ (∀ (H : Heap) (locs : List Loc) (ls : Array Slot), cw_H E A D H → va_S A s.heap H locs → lv_has ls 5 [(0, .ref E.1.1), (1, .int x1), (2, .int x2), (3, .int x3)] → W p l e Rm s m args below meth c H locs 0 0 Q (F0 m 27 ls [.int t3, .int t2, .ref E.1.1, .ref E.1.1])) := by
    clear hf
    intro t2 t3 hf
    unfold f1_cut_j1 at hf
    have hm9 : 0 ≤ nc ∧ 0 ≤ ns := by
      obtain ⟨r_2, h_2, hq⟩ := ww_bS hf; replace hf := hq; clear hq
      obtain ⟨r_3, D_3, h_3, hq⟩ := ww_b2S hf; replace hf := hq; clear hq
      refine ww_by (r_3 = 0) (fun c_4 => ?_) (fun c_4 => ?_)
      · replace hf := ww_ip hf c_4
        obtain ⟨r_5, D_5, c_5, k_5, h_5, hq⟩ := ww_b4S hf; replace hf := hq; clear hq
        obtain ⟨D_6, c_6, k_6, h_6, hq⟩ := ww_b3S hf; replace hf := hq; clear hq
        obtain ⟨r_7, D_7, h_7, hq⟩ := ww_b2S hf; replace hf := hq; clear hq
        have e9 := hf
        simp only [Option.some.injEq, Prod.mk.injEq] at e9
        omega
      · replace hf := ww_in hf c_4
        have e9 := hf
        simp only [Option.some.injEq, Prod.mk.injEq] at e9
        omega
    refine ⟨hm9, ?_⟩
    try clear hl
    try clear hS
    try clear hR
    intro H locs ls hR hS hl
    obtain ⟨r_2, h_2, hq⟩ := ww_bS hf; replace hf := hq; clear hq
    refine c1c_1_whyNot X hl.1 hK hR hS (Nat.le_trans (Nat.le_of_ble_eq_true rfl) hF) (Nat.le_trans (Nat.le_of_ble_eq_true rfl) hLo) (Nat.le_trans hm9.1 hC.1) (Nat.le_trans hm9.2 hC.2) h_2 (cw_rest (Nat.le_of_ble_eq_true rfl)) dX1_cut_27 (fun H locs hR hS => ?_)
    obtain ⟨r_3, D_3, h_3, hq⟩ := ww_b2S hf; replace hf := hq; clear hq
    refine c1c_1_isRefused X hl.1 hK hR hS (Nat.le_trans (Nat.le_of_ble_eq_true rfl) hF) (Nat.le_trans (Nat.le_of_ble_eq_true rfl) hLo) (Nat.le_trans hm9.1 hC.1) (Nat.le_trans hm9.2 hC.2) h_3 (cw_rest (Nat.le_of_ble_eq_true rfl)) dX1_cut_30 (fun H locs hR hS => ?_)
    refine lv_if_eq (tgt := 38) hx hb dX1_cut_33 (by decide) (fun c_4 => ?_) (fun c_4 => ?_)
    · replace hf := ww_ip hf c_4
      refine lv_aload_n hx hb dX1_cut_38 rfl (lv_at hl 0 rfl) ?_
      refine lv_iload_n hx hb dX1_cut_39 rfl (lv_at hl 1 rfl) ?_
      obtain ⟨r_5, D_5, c_5, k_5, h_5, hq⟩ := ww_b4S hf; replace hf := hq; clear hq
      have hm9 : (0 + c_5) ≤ nc ∧ (0 + k_5) ≤ ns := by
        obtain ⟨D_6, c_6, k_6, h_6, hq⟩ := ww_b3S hf; replace hf := hq; clear hq
        obtain ⟨r_7, D_7, h_7, hq⟩ := ww_b2S hf; replace hf := hq; clear hq
        have e9 := hf
        simp only [Option.some.injEq, Prod.mk.injEq] at e9
        omega
      refine c1c_1_begins X hl.1 hK hR hS (Nat.le_trans (Nat.le_of_ble_eq_true rfl) hF) (Nat.le_trans (Nat.le_of_ble_eq_true rfl) hLo) (Nat.le_trans hm9.1 hC.1) (Nat.le_trans hm9.2 hC.2) h_5 (cw_rest (Nat.le_of_ble_eq_true rfl)) dX1_cut_40 (fun H locs hR hS => ?_)
      refine lv_istore (lv' := [(4, .int r_5), (0, .ref E.1.1), (1, .int x1), (2, .int x2), (3, .int x3)]) hx hb dX1_cut_43 hl (by decide) rfl (fun ls hl => ?_)
      refine lv_aload_n hx hb dX1_cut_45 rfl (lv_at hl 1 rfl) ?_
      refine lv_iload_n hx hb dX1_cut_46 rfl (lv_at hl 3 rfl) ?_
      refine lv_iload_n hx hb dX1_cut_47 rfl (lv_at hl 4 rfl) ?_
      obtain ⟨D_6, c_6, k_6, h_6, hq⟩ := ww_b3S hf; replace hf := hq; clear hq
      have hm9 : ((0 + c_5) + c_6) ≤ nc ∧ ((0 + k_5) + k_6) ≤ ns := by
        obtain ⟨r_7, D_7, h_7, hq⟩ := ww_b2S hf; replace hf := hq; clear hq
        have e9 := hf
        simp only [Option.some.injEq, Prod.mk.injEq] at e9
        omega
      refine c1c_1_cutNow X hl.1 hK hR hS (Nat.le_trans (Nat.le_of_ble_eq_true rfl) hF) (Nat.le_trans (Nat.le_of_ble_eq_true rfl) hLo) (Nat.le_trans hm9.1 hC.1) (Nat.le_trans hm9.2 hC.2) h_6 (cw_rest (Nat.le_of_ble_eq_true rfl)) dX1_cut_48 (fun H locs hR hS => ?_)
      refine lv_aload_n hx hb dX1_cut_51 rfl (lv_at hl 1 rfl) ?_
      refine lv_iload_n hx hb dX1_cut_52 rfl (lv_at hl 2 rfl) ?_
      refine lv_iload hx hb dX1_cut_53 (lv_at hl 0 rfl) ?_
      obtain ⟨r_7, D_7, h_7, hq⟩ := ww_b2S hf; replace hf := hq; clear hq
      refine c1c_1_ends X hl.1 hK hR hS (Nat.le_trans (Nat.le_of_ble_eq_true rfl) hF) (Nat.le_trans (Nat.le_of_ble_eq_true rfl) hLo) (Nat.le_trans hm9.1 hC.1) (Nat.le_trans hm9.2 hC.2) h_7 (cw_rest (Nat.le_of_ble_eq_true rfl)) dX1_cut_55 (fun H locs hR hS => ?_)
      exact hend dX1_cut_58 rfl rfl hf hR hS
    · replace hf := ww_in hf c_4
      refine lv_iconst (v := (-1 : Int32)) hx hb dX1_cut_36 (by decide) ?_
      exact hend dX1_cut_37 rfl rfl hf hR hS
  refine lv_if_eq (tgt := 26) hx hb dX1_cut_7 (by decide) (fun c_8 => ?_) (fun c_8 => ?_)
  · replace hf := ww_ip hf c_8
    refine lv_iconst (v := (0 : Int32)) hx hb dX1_cut_26 (by decide) ?_
    exact (hj_1 x1 (0 : Int32) hf).2 _ _ _ hR hS hl
  · replace hf := ww_in hf c_8
    refine lv_iload_n hx hb dX1_cut_10 rfl (lv_at hl 3 rfl) ?_
    obtain ⟨r_9, h_9, hq⟩ := ww_bS hf; replace hf := hq; clear hq
    refine c1c_1_isKey X hl.1 (Nat.le_trans (Nat.le_of_ble_eq_true rfl) hF) (Nat.le_trans (Nat.le_of_ble_eq_true rfl) hLo) (Nat.le_trans hm9.1 hC.1) (Nat.le_trans hm9.2 hC.2) h_9 (cw_rest (Nat.le_of_ble_eq_true rfl)) dX1_cut_11 ?_
    refine lv_if_eq (tgt := 26) hx hb dX1_cut_14 (by decide) (fun c_10 => ?_) (fun c_10 => ?_)
    · replace hf := ww_ip hf c_10
      refine lv_iconst (v := (0 : Int32)) hx hb dX1_cut_26 (by decide) ?_
      exact (hj_1 x1 (0 : Int32) hf).2 _ _ _ hR hS hl
    · replace hf := ww_in hf c_10
      refine lv_iload_n hx hb dX1_cut_17 rfl (lv_at hl 2 rfl) ?_
      refine lv_iload_n hx hb dX1_cut_18 rfl (lv_at hl 3 rfl) ?_
      refine lv_icmp_gt (tgt := 26) hx hb dX1_cut_19 (by decide) (fun c_11 => ?_) (fun c_11 => ?_)
      · replace hf := ww_ip hf c_11
        refine lv_iconst (v := (0 : Int32)) hx hb dX1_cut_26 (by decide) ?_
        exact (hj_1 x1 (0 : Int32) hf).2 _ _ _ hR hS hl
      · replace hf := ww_in hf c_11
        refine lv_iconst (v := (1 : Int32)) hx hb dX1_cut_22 (by decide) ?_
        refine lv_goto (tgt := 27) hx hb dX1_cut_23 (by decide) ?_
        exact (hj_1 x1 (1 : Int32) hf).2 _ _ _ hR hS hl
noncomputable def f1_raiseNow_b1c (y1 : Int32) (y2 : Int32) (y3 : Int32) (y4 : Int32) (D_3 : cw_D) (c_1b : Nat) (k_1b : Nat) (x5 : Int32) : Option ((cw_D × Nat × Nat × Int32) ⊕ (cw_D × Nat × Nat)) :=
  if y4 ≤ x5 then ww_x (some (D_3, c_1b, k_1b)) else ww_g (ww_i x5 120) (ww_b (f1_in (ww_X D_3.1 29 x5) y1 y2) (fun r_6 => if r_6 = 0 then some (.inl (D_3, c_1b, k_1b, (x5 + (1 : Int32)))) else ww_g (ww_i x5 120) (ww_b3 (f1_addNow D_3 (ww_X D_3.1 29 x5) y3) (fun D_9 c_9 k_9 => some (.inl (D_9, (c_1b + c_9), (k_1b + k_9), (x5 + (1 : Int32))))))))
noncomputable def f1_raiseNow_b1 (y1 : Int32) (y2 : Int32) (y3 : Int32) (y4 : Int32) : (cw_D × Nat × Nat × Int32) → Option ((cw_D × Nat × Nat × Int32) ⊕ (cw_D × Nat × Nat)) := fun s9 => f1_raiseNow_b1c y1 y2 y3 y4 s9.1 s9.2.1 s9.2.2.1 s9.2.2.2
noncomputable def f1_raiseNow (D : cw_D) (x1 : Int32) (x2 : Int32) (x3 : Int32) : Option (cw_D × Nat × Nat) :=
  ww_b (some (ww_R D.1 27)) (fun r_1 => ww_b2 (f1_flat D r_1) (fun r_2 D_2 => ww_U (f1_raiseNow_b1 x1 x2 x3 r_2) (D_2, 0, 0, (0 : Int32))))
section C_1_raiseNow_k
variable {p : Program} {l : Launch} {e : Env} {R : Room} {s : State} {m : MethodId} {args : Array Value} {below : List Frame} {meth : Method} {c : Code} {H : Heap} {locs : List Loc} {cells slots : Nat} {Q : State → Prop}
variable {cc : ByteArray} {pc : Nat} {ls : Array Slot} {rest : List Value} {nL : Nat} {E : cw_E} {A : Nat → Prop} {H0 : Heap}
theorem c1k_1_raiseNow {D : cw_D} {x1 : Int32} {x2 : Int32} {x3 : Int32} {D' : cw_D} {nc ns : Nat} (X : ww_C p m c cc nL s args RX1 lw_all) (hsz : ls.size = nL) (hK : cw_K E A s) (hR : cw_H E A D H) (hS : va_S A s.heap H locs) (hF : 23 ≤ R.frames) (hLo : 545 ≤ R.locals) (hc : cells + nc ≤ R.cells) (hs : slots + ns ≤ R.slots) (hM : cw_MetV l yX1_raiseNow cX1_raiseNow 6 22 520 E A [.ref E.1.1, .int x1, .int x2, .int x3] D D' nc ns) (hrest : (rest.map fun v => v.category).sum ≤ 8) (hdg : decode cc pc = .ok (.invokevirtual 435, 3)) (kk : ∀ (H1 : Heap) (locs1 : List Loc), cw_H E A D' H1 → va_S A s.heap H1 locs1 → W p l e R s m args below meth c H1 locs1 (cells + nc) (slots + ns) Q (F0 m (pc + 3) ls (rest))) : W p l e R s m args below meth c H locs cells slots Q (F0 m pc ls (.int x3 :: .int x2 :: .int x1 :: .ref E.1.1 :: rest)) :=
  va_callv (va_runV (C := RX1) (As := [.int x1, .int x2, .int x3]) (rest := rest) (b := E.1.1) X hM (cwV 3 X.2.2.2.2 (lw_V q1416 q1418 qs50 q131 q1419) rfl rfl rfl (by decide +kernel) ⟨hF, hLo⟩) (cw_pV hK hR hS (cw_rcM hK hR)) rfl rfl hsz rfl (lv_room hrest) hdg ⟨hc, hs⟩) hS (fun q _ h => h) (fun q h => h) (fun u t H1 locs1 ht hvm hw hB hz1 hk1 hS1 => by rw [ht] at hB; exact kk H1 locs1 hB hS1)
end C_1_raiseNow_k
set_option maxHeartbeats 4000000 in
set_option maxRecDepth 100000 in
theorem met1_raiseNow (l : Launch) {E : cw_E} {A : Nat → Prop} (D : cw_D) (x1 : Int32) (x2 : Int32) (x3 : Int32) (D' : cw_D) (nc ns : Nat) (hf : f1_raiseNow D x1 x2 x3 = some (D', nc, ns)) : cw_MetV l yX1_raiseNow cX1_raiseNow 6 22 520 E A [.ref E.1.1, .int x1, .int x2, .int x3] D D' nc ns := by
  unfold f1_raiseNow at hf
  refine cw_sVN (own := RX1) (by decide +kernel) [(0, .ref E.1.1), (1, .int x1), (2, .int x2), (3, .int x3)] ⟨Nat.le_of_ble_eq_true rfl, rfl⟩ ?_
  intro p e s m args below meth c Rm Q X hK hF hLo hC hin hend ls hl hR hS
  obtain ⟨hx, hb, hml, hown, hts⟩ := id X
  have hm9 : 0 ≤ nc ∧ 0 ≤ ns := ⟨Nat.zero_le _, Nat.zero_le _⟩
  refine lv_aload_n hx hb dX1_raiseNow_0 rfl (lv_at hl 0 rfl) ?_
  refine lv_aload_n hx hb dX1_raiseNow_1 rfl (lv_at hl 0 rfl) ?_
  obtain ⟨r_1, h_1, hq⟩ := ww_bS hf; replace hf := hq; clear hq
  refine c1g_226 X hK hR h_1 dX1_raiseNow_2 ?_
  obtain ⟨r_2, D_2, h_2, hq⟩ := ww_b2S hf; replace hf := hq; clear hq
  refine c1c_1_flat (x1 := r_1) X hl.1 hK hR hS (Nat.le_trans (Nat.le_of_ble_eq_true rfl) hF) (Nat.le_trans (Nat.le_of_ble_eq_true rfl) hLo) (Nat.le_trans hm9.1 hC.1) (Nat.le_trans hm9.2 hC.2) h_2 (cw_rest (Nat.le_of_ble_eq_true rfl)) dX1_raiseNow_5 (fun H locs hR hS => ?_)
  refine lv_istore (lv' := [(4, .int r_2), (0, .ref E.1.1), (1, .int x1), (2, .int x2), (3, .int x3)]) hx hb dX1_raiseNow_8 hl (by decide) rfl (fun ls hl => ?_)
  refine lv_iconst (v := (0 : Int32)) hx hb dX1_raiseNow_10 (by decide) ?_
  refine lv_istore (lv' := [(5, .int (0 : Int32)), (4, .int r_2), (0, .ref E.1.1), (1, .int x1), (2, .int x2), (3, .int x3)]) hx hb dX1_raiseNow_11 hl (by decide) rfl (fun ls hl => ?_)
  have hL_1 : ∀ s9 : cw_D × Nat × Nat × Int32, ww_U (f1_raiseNow_b1 x1 x2 x3 r_2) s9 = some (D', nc, ns) → (s9.2.1 ≤ nc ∧ s9.2.2.1 ≤ ns) ∧ (∀ (H : Heap) (locs : List Loc) (ls : Array Slot), cw_H E A s9.1 H → va_S A s.heap H locs → lv_has ls 6 [(0, .ref E.1.1), (1, .int x1), (2, .int x2), (3, .int x3), (4, .int r_2), (5, .int s9.2.2.2)] → W p l e Rm s m args below meth c H locs s9.2.1 s9.2.2.1 Q (F0 m 13 ls [])) := by
    clear hf
    refine ww_ind _ (D', nc, ns) ?_
    intro s9 z_1 hf hz_1
    obtain ⟨D_3, c_1b, k_1b, x5⟩ := s9
    replace hf : f1_raiseNow_b1c x1 x2 x3 r_2 D_3 c_1b k_1b x5 = some z_1 := hf
    unfold f1_raiseNow_b1c at hf
    have hm9 : c_1b ≤ nc ∧ k_1b ≤ ns := by
      show c_1b ≤ nc ∧ k_1b ≤ ns
      refine ww_by (r_2 ≤ x5) (fun c_4 => ?_) (fun c_4 => ?_)
      · replace hf := ww_ip hf c_4
        replace hf := ww_xK hf hz_1
        have e9 := hf
        simp only [Option.some.injEq, Prod.mk.injEq] at e9
        omega
      · replace hf := ww_in hf c_4
        obtain ⟨h_5, hq⟩ := ww_gS hf; replace hf := hq; clear hq
        obtain ⟨r_6, h_6, hq⟩ := ww_bS hf; replace hf := hq; clear hq
        refine ww_by (r_6 = 0) (fun c_7 => ?_) (fun c_7 => ?_)
        · replace hf := ww_ip hf c_7
          have e9 := (ww_lK hf hz_1).1
          try dsimp only at e9
          omega
        · replace hf := ww_in hf c_7
          obtain ⟨h_8, hq⟩ := ww_gS hf; replace hf := hq; clear hq
          obtain ⟨D_9, c_9, k_9, h_9, hq⟩ := ww_b3S hf; replace hf := hq; clear hq
          have e9 := (ww_lK hf hz_1).1
          try dsimp only at e9
          omega
    refine ⟨hm9, ?_⟩
    try clear hl
    try clear hS
    try clear hR
    intro H locs ls hR hS hl
    replace hR : cw_H E A D_3 H := hR
    replace hl : lv_has ls 6 [(0, .ref E.1.1), (1, .int x1), (2, .int x2), (3, .int x3), (4, .int r_2), (5, .int x5)] := hl
    show W p l e Rm s m args below meth c H locs c_1b k_1b Q _
    refine lv_iload hx hb dX1_raiseNow_13 (lv_at hl 5 rfl) ?_
    refine lv_iload hx hb dX1_raiseNow_15 (lv_at hl 4 rfl) ?_
    refine lv_icmp_ge (tgt := 53) hx hb dX1_raiseNow_17 (by decide) (fun c_4 => ?_) (fun c_4 => ?_)
    · replace hf := ww_ip hf c_4
      replace hf := ww_xK hf hz_1
      exact hend dX1_raiseNow_53 hf hR hS
    · replace hf := ww_in hf c_4
      refine lv_aload_n hx hb dX1_raiseNow_20 rfl (lv_at hl 0 rfl) ?_
      refine c1g_97 X hK hR dX1_raiseNow_21 ?_
      refine lv_iload hx hb dX1_raiseNow_24 (lv_at hl 5 rfl) ?_
      obtain ⟨h_5, hq⟩ := ww_gS hf; replace hf := hq; clear hq
      refine c1l_29 X hK hR h_5 dX1_raiseNow_26 ?_
      refine lv_iload_n hx hb dX1_raiseNow_27 rfl (lv_at hl 1 rfl) ?_
      refine lv_iload_n hx hb dX1_raiseNow_28 rfl (lv_at hl 2 rfl) ?_
      obtain ⟨r_6, h_6, hq⟩ := ww_bS hf; replace hf := hq; clear hq
      refine c1c_1_in X hl.1 (Nat.le_trans (Nat.le_of_ble_eq_true rfl) hF) (Nat.le_trans (Nat.le_of_ble_eq_true rfl) hLo) (Nat.le_trans hm9.1 hC.1) (Nat.le_trans hm9.2 hC.2) h_6 (cw_rest (Nat.le_of_ble_eq_true rfl)) dX1_raiseNow_29 ?_
      refine lv_if_eq (tgt := 47) hx hb dX1_raiseNow_32 (by decide) (fun c_7 => ?_) (fun c_7 => ?_)
      · replace hf := ww_ip hf c_7
        refine lv_iinc (k := 5) (v := x5 + (1 : Int32)) (lv' := [(5, .int (x5 + (1 : Int32))), (0, .ref E.1.1), (1, .int x1), (2, .int x2), (3, .int x3), (4, .int r_2)]) hx hb dX1_raiseNow_47 hl rfl rfl (by decide) rfl (fun ls hl => ?_)
        refine lv_goto (tgt := 13) hx hb dX1_raiseNow_50 (by decide) ?_
        exact (ww_lK hf hz_1).2 _ _ _ hR hS (lv_sub hl [1, 2, 3, 4, 5, 0] rfl)
      · replace hf := ww_in hf c_7
        refine lv_aload_n hx hb dX1_raiseNow_35 rfl (lv_at hl 0 rfl) ?_
        refine lv_aload_n hx hb dX1_raiseNow_36 rfl (lv_at hl 0 rfl) ?_
        refine c1g_97 X hK hR dX1_raiseNow_37 ?_
        refine lv_iload hx hb dX1_raiseNow_40 (lv_at hl 5 rfl) ?_
        obtain ⟨h_8, hq⟩ := ww_gS hf; replace hf := hq; clear hq
        refine c1l_29 X hK hR h_8 dX1_raiseNow_42 ?_
        refine lv_iload_n hx hb dX1_raiseNow_43 rfl (lv_at hl 3 rfl) ?_
        obtain ⟨D_9, c_9, k_9, h_9, hq⟩ := ww_b3S hf; replace hf := hq; clear hq
        have hm9 : (c_1b + c_9) ≤ nc ∧ (k_1b + k_9) ≤ ns := by
          have e9 := (ww_lK hf hz_1).1
          try dsimp only at e9
          omega
        refine c1c_1_addNow X hl.1 hK hR hS (Nat.le_trans (Nat.le_of_ble_eq_true rfl) hF) (Nat.le_trans (Nat.le_of_ble_eq_true rfl) hLo) (Nat.le_trans hm9.1 hC.1) (Nat.le_trans hm9.2 hC.2) h_9 (cw_rest (Nat.le_of_ble_eq_true rfl)) dX1_raiseNow_44 (fun H locs hR hS => ?_)
        refine lv_iinc (k := 5) (v := x5 + (1 : Int32)) (lv' := [(5, .int (x5 + (1 : Int32))), (0, .ref E.1.1), (1, .int x1), (2, .int x2), (3, .int x3), (4, .int r_2)]) hx hb dX1_raiseNow_47 hl rfl rfl (by decide) rfl (fun ls hl => ?_)
        refine lv_goto (tgt := 13) hx hb dX1_raiseNow_50 (by decide) ?_
        exact (ww_lK hf hz_1).2 _ _ _ hR hS (lv_sub hl [1, 2, 3, 4, 5, 0] rfl)
  exact (hL_1 (D_2, 0, 0, (0 : Int32)) hf).2 _ _ _ hR hS (lv_sub hl [2, 3, 4, 5, 1, 0] rfl)
section C_1_raiseNow_c
variable {p : Program} {l : Launch} {e : Env} {R : Room} {s : State} {m : MethodId} {args : Array Value} {below : List Frame} {meth : Method} {c : Code} {H : Heap} {locs : List Loc} {cells slots : Nat} {Q : State → Prop}
variable {cc : ByteArray} {pc : Nat} {ls : Array Slot} {rest : List Value} {nL : Nat} {E : cw_E} {A : Nat → Prop} {H0 : Heap}
theorem c1c_1_raiseNow {D : cw_D} {x1 : Int32} {x2 : Int32} {x3 : Int32} {D' : cw_D} {nc ns : Nat} (X : ww_C p m c cc nL s args RX1 lw_all) (hsz : ls.size = nL) (hK : cw_K E A s) (hR : cw_H E A D H) (hS : va_S A s.heap H locs) (hF : 23 ≤ R.frames) (hLo : 545 ≤ R.locals) (hc : cells + nc ≤ R.cells) (hs : slots + ns ≤ R.slots) (hf : f1_raiseNow D x1 x2 x3 = some (D', nc, ns)) (hrest : (rest.map fun v => v.category).sum ≤ 8) (hdg : decode cc pc = .ok (.invokevirtual 435, 3)) (kk : ∀ (H1 : Heap) (locs1 : List Loc), cw_H E A D' H1 → va_S A s.heap H1 locs1 → W p l e R s m args below meth c H1 locs1 (cells + nc) (slots + ns) Q (F0 m (pc + 3) ls (rest))) : W p l e R s m args below meth c H locs cells slots Q (F0 m pc ls (.int x3 :: .int x2 :: .int x1 :: .ref E.1.1 :: rest)) :=
  c1k_1_raiseNow X hsz hK hR hS hF hLo hc hs (met1_raiseNow l _ _ _ _ _ _ _ hf) hrest hdg kk
end C_1_raiseNow_c
noncomputable def f1_inc_j1 (D : cw_D) (cf : Nat) (kf : Nat) (y1 : Int32) (y2 : Int32) (y3 : Int32) (y4 : Int32) (t2 : Int32) (t3 : Int32) : Option (Int32 × cw_D × Nat × Nat) :=
  ww_b (f1_whyNot D t2 t3) (fun r_2 => ww_b2 (f1_isRefused D r_2) (fun r_3 D_3 => if r_3 = 0 then ww_b4 (f1_begins D_3 y1) (fun r_5 D_5 c_5 k_5 => ww_b3 (f1_raiseNow D_5 y2 y3 y4) (fun D_6 c_6 k_6 => ww_b2 (f1_ends D_6 y1 r_5) (fun r_7 D_7 => some (r_7, D_7, ((cf + c_5) + c_6), ((kf + k_5) + k_6))))) else some ((-1 : Int32), D_3, cf, kf)))
noncomputable def f1_inc (D : cw_D) (x1 : Int32) (x2 : Int32) (x3 : Int32) (x4 : Int32) : Option (Int32 × cw_D × Nat × Nat) :=
  ww_b (f1_isKey x2) (fun r_1 => if r_1 = 0 then f1_inc_j1 D 0 0 x1 x2 x3 x4 x1 (0 : Int32) else ww_b (f1_isKey x3) (fun r_9 => if r_9 = 0 then f1_inc_j1 D 0 0 x1 x2 x3 x4 x1 (0 : Int32) else if x3 < x2 then f1_inc_j1 D 0 0 x1 x2 x3 x4 x1 (0 : Int32) else ww_b (f1_isValue x4) (fun r_12 => if r_12 = 0 then f1_inc_j1 D 0 0 x1 x2 x3 x4 x1 (0 : Int32) else f1_inc_j1 D 0 0 x1 x2 x3 x4 x1 (1 : Int32))))
set_option maxHeartbeats 4000000 in
set_option maxRecDepth 100000 in
theorem met1_inc (l : Launch) {E : cw_E} {A : Nat → Prop} (D : cw_D) (x1 : Int32) (x2 : Int32) (x3 : Int32) (x4 : Int32) (r : Int32) (D' : cw_D) (nc ns : Nat) (hf : f1_inc D x1 x2 x3 x4 = some (r, D', nc, ns)) : cw_MetI l yX1_inc cX1_inc 6 (some Jvm.ClassFile.FieldType.int) 23 545 E A [.ref E.1.1, .int x1, .int x2, .int x3, .int x4] D D' r nc ns := by
  unfold f1_inc at hf
  refine cw_sIN (own := RX1) (by decide +kernel) [(0, .ref E.1.1), (1, .int x1), (2, .int x2), (3, .int x3), (4, .int x4)] ⟨Nat.le_of_ble_eq_true rfl, rfl⟩ ?_
  intro p e s m args below meth c Rm Q X hK hF hLo hC hin hend ls hl hR hS
  obtain ⟨hx, hb, hml, hown, hts⟩ := id X
  have hm9 : 0 ≤ nc ∧ 0 ≤ ns := ⟨Nat.zero_le _, Nat.zero_le _⟩
  refine lv_aload_n hx hb dX1_inc_0 rfl (lv_at hl 0 rfl) ?_
  refine lv_aload_n hx hb dX1_inc_1 rfl (lv_at hl 0 rfl) ?_
  refine lv_iload_n hx hb dX1_inc_2 rfl (lv_at hl 1 rfl) ?_
  refine lv_iload_n hx hb dX1_inc_3 rfl (lv_at hl 2 rfl) ?_
  obtain ⟨r_1, h_1, hq⟩ := ww_bS hf; replace hf := hq; clear hq
  refine c1c_1_isKey X hl.1 (Nat.le_trans (Nat.le_of_ble_eq_true rfl) hF) (Nat.le_trans (Nat.le_of_ble_eq_true rfl) hLo) (Nat.le_trans hm9.1 hC.1) (Nat.le_trans hm9.2 hC.2) h_1 (cw_rest (Nat.le_of_ble_eq_true rfl)) dX1_inc_4 ?_
  have hj_1 : ∀ (t2 : Int32) (t3 : Int32), f1_inc_j1 D 0 0 x1 x2 x3 x4 t2 t3 = some (r, D', nc, ns) → (0 ≤ nc ∧ 0 ≤ ns) ∧ (∀ (H : Heap) (locs : List Loc) (ls : Array Slot), cw_H E A D H → va_S A s.heap H locs → lv_has ls 6 [(0, .ref E.1.1), (1, .int x1), (2, .int x2), (3, .int x3), (4, .int x4)] → W p l e Rm s m args below meth c H locs 0 0 Q (F0 m 35 ls [.int t3, .int t2, .ref E.1.1, .ref E.1.1])) := by
    clear hf
    intro t2 t3 hf
    unfold f1_inc_j1 at hf
    have hm9 : 0 ≤ nc ∧ 0 ≤ ns := by
      obtain ⟨r_2, h_2, hq⟩ := ww_bS hf; replace hf := hq; clear hq
      obtain ⟨r_3, D_3, h_3, hq⟩ := ww_b2S hf; replace hf := hq; clear hq
      refine ww_by (r_3 = 0) (fun c_4 => ?_) (fun c_4 => ?_)
      · replace hf := ww_ip hf c_4
        obtain ⟨r_5, D_5, c_5, k_5, h_5, hq⟩ := ww_b4S hf; replace hf := hq; clear hq
        obtain ⟨D_6, c_6, k_6, h_6, hq⟩ := ww_b3S hf; replace hf := hq; clear hq
        obtain ⟨r_7, D_7, h_7, hq⟩ := ww_b2S hf; replace hf := hq; clear hq
        have e9 := hf
        simp only [Option.some.injEq, Prod.mk.injEq] at e9
        omega
      · replace hf := ww_in hf c_4
        have e9 := hf
        simp only [Option.some.injEq, Prod.mk.injEq] at e9
        omega
    refine ⟨hm9, ?_⟩
    try clear hl
    try clear hS
    try clear hR
    intro H locs ls hR hS hl
    obtain ⟨r_2, h_2, hq⟩ := ww_bS hf; replace hf := hq; clear hq
    refine c1c_1_whyNot X hl.1 hK hR hS (Nat.le_trans (Nat.le_of_ble_eq_true rfl) hF) (Nat.le_trans (Nat.le_of_ble_eq_true rfl) hLo) (Nat.le_trans hm9.1 hC.1) (Nat.le_trans hm9.2 hC.2) h_2 (cw_rest (Nat.le_of_ble_eq_true rfl)) dX1_inc_35 (fun H locs hR hS => ?_)
    obtain ⟨r_3, D_3, h_3, hq⟩ := ww_b2S hf; replace hf := hq; clear hq
    refine c1c_1_isRefused X hl.1 hK hR hS (Nat.le_trans (Nat.le_of_ble_eq_true rfl) hF) (Nat.le_trans (Nat.le_of_ble_eq_true rfl) hLo) (Nat.le_trans hm9.1 hC.1) (Nat.le_trans hm9.2 hC.2) h_3 (cw_rest (Nat.le_of_ble_eq_true rfl)) dX1_inc_38 (fun H locs hR hS => ?_)
    refine lv_if_eq (tgt := 46) hx hb dX1_inc_41 (by decide) (fun c_4 => ?_) (fun c_4 => ?_)
    · replace hf := ww_ip hf c_4
      refine lv_aload_n hx hb dX1_inc_46 rfl (lv_at hl 0 rfl) ?_
      refine lv_iload_n hx hb dX1_inc_47 rfl (lv_at hl 1 rfl) ?_
      obtain ⟨r_5, D_5, c_5, k_5, h_5, hq⟩ := ww_b4S hf; replace hf := hq; clear hq
      have hm9 : (0 + c_5) ≤ nc ∧ (0 + k_5) ≤ ns := by
        obtain ⟨D_6, c_6, k_6, h_6, hq⟩ := ww_b3S hf; replace hf := hq; clear hq
        obtain ⟨r_7, D_7, h_7, hq⟩ := ww_b2S hf; replace hf := hq; clear hq
        have e9 := hf
        simp only [Option.some.injEq, Prod.mk.injEq] at e9
        omega
      refine c1c_1_begins X hl.1 hK hR hS (Nat.le_trans (Nat.le_of_ble_eq_true rfl) hF) (Nat.le_trans (Nat.le_of_ble_eq_true rfl) hLo) (Nat.le_trans hm9.1 hC.1) (Nat.le_trans hm9.2 hC.2) h_5 (cw_rest (Nat.le_of_ble_eq_true rfl)) dX1_inc_48 (fun H locs hR hS => ?_)
      refine lv_istore (lv' := [(5, .int r_5), (0, .ref E.1.1), (1, .int x1), (2, .int x2), (3, .int x3), (4, .int x4)]) hx hb dX1_inc_51 hl (by decide) rfl (fun ls hl => ?_)
      refine lv_aload_n hx hb dX1_inc_53 rfl (lv_at hl 1 rfl) ?_
      refine lv_iload_n hx hb dX1_inc_54 rfl (lv_at hl 3 rfl) ?_
      refine lv_iload_n hx hb dX1_inc_55 rfl (lv_at hl 4 rfl) ?_
      refine lv_iload hx hb dX1_inc_56 (lv_at hl 5 rfl) ?_
      obtain ⟨D_6, c_6, k_6, h_6, hq⟩ := ww_b3S hf; replace hf := hq; clear hq
      have hm9 : ((0 + c_5) + c_6) ≤ nc ∧ ((0 + k_5) + k_6) ≤ ns := by
        obtain ⟨r_7, D_7, h_7, hq⟩ := ww_b2S hf; replace hf := hq; clear hq
        have e9 := hf
        simp only [Option.some.injEq, Prod.mk.injEq] at e9
        omega
      refine c1c_1_raiseNow X hl.1 hK hR hS (Nat.le_trans (Nat.le_of_ble_eq_true rfl) hF) (Nat.le_trans (Nat.le_of_ble_eq_true rfl) hLo) (Nat.le_trans hm9.1 hC.1) (Nat.le_trans hm9.2 hC.2) h_6 (cw_rest (Nat.le_of_ble_eq_true rfl)) dX1_inc_58 (fun H locs hR hS => ?_)
      refine lv_aload_n hx hb dX1_inc_61 rfl (lv_at hl 1 rfl) ?_
      refine lv_iload_n hx hb dX1_inc_62 rfl (lv_at hl 2 rfl) ?_
      refine lv_iload hx hb dX1_inc_63 (lv_at hl 0 rfl) ?_
      obtain ⟨r_7, D_7, h_7, hq⟩ := ww_b2S hf; replace hf := hq; clear hq
      refine c1c_1_ends X hl.1 hK hR hS (Nat.le_trans (Nat.le_of_ble_eq_true rfl) hF) (Nat.le_trans (Nat.le_of_ble_eq_true rfl) hLo) (Nat.le_trans hm9.1 hC.1) (Nat.le_trans hm9.2 hC.2) h_7 (cw_rest (Nat.le_of_ble_eq_true rfl)) dX1_inc_65 (fun H locs hR hS => ?_)
      exact hend dX1_inc_68 rfl rfl hf hR hS
    · replace hf := ww_in hf c_4
      refine lv_iconst (v := (-1 : Int32)) hx hb dX1_inc_44 (by decide) ?_
      exact hend dX1_inc_45 rfl rfl hf hR hS
  refine lv_if_eq (tgt := 34) hx hb dX1_inc_7 (by decide) (fun c_8 => ?_) (fun c_8 => ?_)
  · replace hf := ww_ip hf c_8
    refine lv_iconst (v := (0 : Int32)) hx hb dX1_inc_34 (by decide) ?_
    exact (hj_1 x1 (0 : Int32) hf).2 _ _ _ hR hS hl
  · replace hf := ww_in hf c_8
    refine lv_iload_n hx hb dX1_inc_10 rfl (lv_at hl 3 rfl) ?_
    obtain ⟨r_9, h_9, hq⟩ := ww_bS hf; replace hf := hq; clear hq
    refine c1c_1_isKey X hl.1 (Nat.le_trans (Nat.le_of_ble_eq_true rfl) hF) (Nat.le_trans (Nat.le_of_ble_eq_true rfl) hLo) (Nat.le_trans hm9.1 hC.1) (Nat.le_trans hm9.2 hC.2) h_9 (cw_rest (Nat.le_of_ble_eq_true rfl)) dX1_inc_11 ?_
    refine lv_if_eq (tgt := 34) hx hb dX1_inc_14 (by decide) (fun c_10 => ?_) (fun c_10 => ?_)
    · replace hf := ww_ip hf c_10
      refine lv_iconst (v := (0 : Int32)) hx hb dX1_inc_34 (by decide) ?_
      exact (hj_1 x1 (0 : Int32) hf).2 _ _ _ hR hS hl
    · replace hf := ww_in hf c_10
      refine lv_iload_n hx hb dX1_inc_17 rfl (lv_at hl 2 rfl) ?_
      refine lv_iload_n hx hb dX1_inc_18 rfl (lv_at hl 3 rfl) ?_
      refine lv_icmp_gt (tgt := 34) hx hb dX1_inc_19 (by decide) (fun c_11 => ?_) (fun c_11 => ?_)
      · replace hf := ww_ip hf c_11
        refine lv_iconst (v := (0 : Int32)) hx hb dX1_inc_34 (by decide) ?_
        exact (hj_1 x1 (0 : Int32) hf).2 _ _ _ hR hS hl
      · replace hf := ww_in hf c_11
        refine lv_iload hx hb dX1_inc_22 (lv_at hl 4 rfl) ?_
        obtain ⟨r_12, h_12, hq⟩ := ww_bS hf; replace hf := hq; clear hq
        refine c1c_1_isValue X hl.1 (Nat.le_trans (Nat.le_of_ble_eq_true rfl) hF) (Nat.le_trans (Nat.le_of_ble_eq_true rfl) hLo) (Nat.le_trans hm9.1 hC.1) (Nat.le_trans hm9.2 hC.2) h_12 (cw_rest (Nat.le_of_ble_eq_true rfl)) dX1_inc_24 ?_
        refine lv_if_eq (tgt := 34) hx hb dX1_inc_27 (by decide) (fun c_13 => ?_) (fun c_13 => ?_)
        · replace hf := ww_ip hf c_13
          refine lv_iconst (v := (0 : Int32)) hx hb dX1_inc_34 (by decide) ?_
          exact (hj_1 x1 (0 : Int32) hf).2 _ _ _ hR hS hl
        · replace hf := ww_in hf c_13
          refine lv_iconst (v := (1 : Int32)) hx hb dX1_inc_30 (by decide) ?_
          refine lv_goto (tgt := 35) hx hb dX1_inc_31 (by decide) ?_
          exact (hj_1 x1 (1 : Int32) hf).2 _ _ _ hR hS hl
noncomputable def f1_snapNow (D : cw_D) (x1 : Int32) : Option (Int32 × cw_D × Nat × Nat) :=
  ww_g (ww_i x1 4) (ww_b (some (ww_Y D.1 24 x1)) (fun r_1 => ww_g (ww_i x1 4) (ww_b2 (f1_holds D r_1 (ww_X D.1 26 x1) (-1 : Int32)) (fun r_4 D_4 => ww_g (ww_i x1 4) (ww_b (f4_init (cw_nO (cw_sX D_4 26 x1 r_4) 0) ((cw_sX D_4 26 x1 r_4).2.2) (ww_R (cw_nO (cw_sX D_4 26 x1 r_4) 0).1 99)) (fun D_6 => ww_g (ww_i x1 4) (ww_g (cw_kd D_6 [0] (some ((cw_sX D_4 26 x1 r_4).2.2))) (ww_g (ww_i x1 4) (some ((ww_X (cw_sY D_6 25 x1 (some ((cw_sX D_4 26 x1 r_4).2.2))).1 26 x1), (cw_sY D_6 25 x1 (some ((cw_sX D_4 26 x1 r_4).2.2))), (0 + 1), (0 + 1)))))))))))
section C_1_snapNow_k
variable {p : Program} {l : Launch} {e : Env} {R : Room} {s : State} {m : MethodId} {args : Array Value} {below : List Frame} {meth : Method} {c : Code} {H : Heap} {locs : List Loc} {cells slots : Nat} {Q : State → Prop}
variable {cc : ByteArray} {pc : Nat} {ls : Array Slot} {rest : List Value} {nL : Nat} {E : cw_E} {A : Nat → Prop} {H0 : Heap}
theorem c1k_1_snapNow {D : cw_D} {x1 : Int32} {r : Int32} {D' : cw_D} {nc ns : Nat} (X : ww_C p m c cc nL s args RX1 lw_all) (hsz : ls.size = nL) (hK : cw_K E A s) (hR : cw_H E A D H) (hS : va_S A s.heap H locs) (hF : 3 ≤ R.frames) (hLo : 82 ≤ R.locals) (hc : cells + nc ≤ R.cells) (hs : slots + ns ≤ R.slots) (hM : cw_MetI l yX1_snapNow cX1_snapNow 2 (some Jvm.ClassFile.FieldType.int) 2 61 E A [.ref E.1.1, .int x1] D D' r nc ns) (hrest : (rest.map fun v => v.category).sum ≤ 8) (hdg : decode cc pc = .ok (.invokevirtual 439, 3)) (kk : ∀ (H1 : Heap) (locs1 : List Loc), cw_H E A D' H1 → va_S A s.heap H1 locs1 → W p l e R s m args below meth c H1 locs1 (cells + nc) (slots + ns) Q (F0 m (pc + 3) ls (.int r :: rest))) : W p l e R s m args below meth c H locs cells slots Q (F0 m pc ls (.int x1 :: .ref E.1.1 :: rest)) :=
  va_calli (va_runV (C := RX1) (As := [.int x1]) (rest := rest) (b := E.1.1) X hM (cwV 1 X.2.2.2.2 (lw_V q1424 q1426 qs51 q131 q1427) rfl rfl rfl (by decide +kernel) ⟨hF, hLo⟩) (cw_pV hK hR hS (cw_rcM hK hR)) rfl rfl hsz rfl (lv_room hrest) hdg ⟨hc, hs⟩) hS (fun q _ h => h) (fun q h => h) (fun r' u t H1 locs1 ht hvm hw hB hz1 hk1 hS1 => by subst hw; rw [ht] at hB; exact kk H1 locs1 hB hS1)
end C_1_snapNow_k
set_option maxHeartbeats 4000000 in
set_option maxRecDepth 100000 in
theorem met1_snapNow (l : Launch) {E : cw_E} {A : Nat → Prop} (D : cw_D) (x1 : Int32) (r : Int32) (D' : cw_D) (nc ns : Nat) (hf : f1_snapNow D x1 = some (r, D', nc, ns)) : cw_MetI l yX1_snapNow cX1_snapNow 2 (some Jvm.ClassFile.FieldType.int) 2 61 E A [.ref E.1.1, .int x1] D D' r nc ns := by
  unfold f1_snapNow at hf
  refine cw_sIN (own := RX1) (by decide +kernel) [(0, .ref E.1.1), (1, .int x1)] ⟨Nat.le_of_ble_eq_true rfl, rfl⟩ ?_
  intro p e s m args below meth c Rm Q X hK hF hLo hC hin hend ls hl hR hS
  obtain ⟨hx, hb, hml, hown, hts⟩ := id X
  have hm9 : 0 ≤ nc ∧ 0 ≤ ns := ⟨Nat.zero_le _, Nat.zero_le _⟩
  refine lv_aload_n hx hb dX1_snapNow_0 rfl (lv_at hl 0 rfl) ?_
  refine c1g_94 X hK hR dX1_snapNow_1 ?_
  refine lv_iload_n hx hb dX1_snapNow_4 rfl (lv_at hl 1 rfl) ?_
  refine lv_aload_n hx hb dX1_snapNow_5 rfl (lv_at hl 0 rfl) ?_
  refine lv_aload_n hx hb dX1_snapNow_6 rfl (lv_at hl 0 rfl) ?_
  refine c1g_85 X hK hR dX1_snapNow_7 ?_
  refine lv_iload_n hx hb dX1_snapNow_10 rfl (lv_at hl 1 rfl) ?_
  obtain ⟨h_2, hq⟩ := ww_gS hf; replace hf := hq; clear hq
  obtain ⟨r_1, h_1, hq⟩ := ww_bS hf; replace hf := hq; clear hq
  refine c1l_24 X hK hR h_2 h_1 dX1_snapNow_11 ?_
  refine lv_aload_n hx hb dX1_snapNow_12 rfl (lv_at hl 0 rfl) ?_
  refine c1g_94 X hK hR dX1_snapNow_13 ?_
  refine lv_iload_n hx hb dX1_snapNow_16 rfl (lv_at hl 1 rfl) ?_
  obtain ⟨h_3, hq⟩ := ww_gS hf; replace hf := hq; clear hq
  refine c1l_26 X hK hR h_3 dX1_snapNow_17 ?_
  refine lv_iconst (v := (-1 : Int32)) hx hb dX1_snapNow_18 (by decide) ?_
  obtain ⟨r_4, D_4, h_4, hq⟩ := ww_b2S hf; replace hf := hq; clear hq
  refine c1c_1_holds (x1 := r_1) X hl.1 hK hR hS (Nat.le_trans (Nat.le_of_ble_eq_true rfl) hF) (Nat.le_trans (Nat.le_of_ble_eq_true rfl) hLo) (Nat.le_trans hm9.1 hC.1) (Nat.le_trans hm9.2 hC.2) h_4 (cw_rest (Nat.le_of_ble_eq_true rfl)) dX1_snapNow_19 (fun H locs hR hS => ?_)
  obtain ⟨h_5, hq⟩ := ww_gS hf; replace hf := hq; clear hq
  refine c1s_26 X hK hR hS h_5 dX1_snapNow_22 (fun H locs hR hS => ?_)
  refine lv_aload_n hx hb dX1_snapNow_23 rfl (lv_at hl 0 rfl) ?_
  refine c1g_90 X hK hR dX1_snapNow_24 ?_
  refine lv_iload_n hx hb dX1_snapNow_27 rfl (lv_at hl 1 rfl) ?_
  have hm9 : (0 + 1) ≤ nc ∧ (0 + 1) ≤ ns := by
    obtain ⟨D_6, h_6, hq⟩ := ww_bS hf; replace hf := hq; clear hq
    obtain ⟨h_7, hq⟩ := ww_gS hf; replace hf := hq; clear hq
    obtain ⟨h_8, hq⟩ := ww_gS hf; replace hf := hq; clear hq
    obtain ⟨h_9, hq⟩ := ww_gS hf; replace hf := hq; clear hq
    have e9 := hf
    simp only [Option.some.injEq, Prod.mk.injEq] at e9
    omega
  refine cw_onew (ci := 0) (C := RX4) (T := TX4) (N := 1) rfl (by decide) in_X4 tyX4 tyX4_ok rfl X hK hR hS q234 q817 q151 (Nat.le_trans hm9.1 hC.1) (Nat.le_trans hm9.2 hC.2) dX1_snapNow_28 (fun H hR hS => ?_)
  refine lv_dup hx hb dX1_snapNow_31 rfl ?_
  refine lv_aload_n hx hb dX1_snapNow_32 rfl (lv_at hl 0 rfl) ?_
  obtain ⟨D_6, h_6, hq⟩ := ww_bS hf; replace hf := hq; clear hq
  rw [show ww_R (cw_nO (cw_sX D_4 26 x1 r_4) 0).1 99 = some E.1.1 from cw_this hK hR] at h_6
  refine c1c_4_init (x1 := (some E.1.1)) X hl.1 hK hR hS (Nat.le_trans (Nat.le_of_ble_eq_true rfl) hF) (Nat.le_trans (Nat.le_of_ble_eq_true rfl) hLo) (Nat.le_trans hm9.1 hC.1) (Nat.le_trans hm9.2 hC.2) h_6 (cw_rest (Nat.le_of_ble_eq_true rfl)) dX1_snapNow_33 (fun H locs hR hS => ?_)
  obtain ⟨h_7, hq⟩ := ww_gS hf; replace hf := hq; clear hq
  obtain ⟨h_8, hq⟩ := ww_gS hf; replace hf := hq; clear hq
  refine c1s_25 (x := (some ((cw_sX D_4 26 x1 r_4).2.2))) X hK hR hS h_7 h_8 dX1_snapNow_36 (fun H locs hR hS => ?_)
  refine lv_aload_n hx hb dX1_snapNow_37 rfl (lv_at hl 0 rfl) ?_
  refine c1g_94 X hK hR dX1_snapNow_38 ?_
  refine lv_iload_n hx hb dX1_snapNow_41 rfl (lv_at hl 1 rfl) ?_
  obtain ⟨h_9, hq⟩ := ww_gS hf; replace hf := hq; clear hq
  refine c1l_26 X hK hR h_9 dX1_snapNow_42 ?_
  exact hend dX1_snapNow_43 rfl rfl hf hR hS
section C_1_snapNow_c
variable {p : Program} {l : Launch} {e : Env} {R : Room} {s : State} {m : MethodId} {args : Array Value} {below : List Frame} {meth : Method} {c : Code} {H : Heap} {locs : List Loc} {cells slots : Nat} {Q : State → Prop}
variable {cc : ByteArray} {pc : Nat} {ls : Array Slot} {rest : List Value} {nL : Nat} {E : cw_E} {A : Nat → Prop} {H0 : Heap}
theorem c1c_1_snapNow {D : cw_D} {x1 : Int32} {r : Int32} {D' : cw_D} {nc ns : Nat} (X : ww_C p m c cc nL s args RX1 lw_all) (hsz : ls.size = nL) (hK : cw_K E A s) (hR : cw_H E A D H) (hS : va_S A s.heap H locs) (hF : 3 ≤ R.frames) (hLo : 82 ≤ R.locals) (hc : cells + nc ≤ R.cells) (hs : slots + ns ≤ R.slots) (hf : f1_snapNow D x1 = some (r, D', nc, ns)) (hrest : (rest.map fun v => v.category).sum ≤ 8) (hdg : decode cc pc = .ok (.invokevirtual 439, 3)) (kk : ∀ (H1 : Heap) (locs1 : List Loc), cw_H E A D' H1 → va_S A s.heap H1 locs1 → W p l e R s m args below meth c H1 locs1 (cells + nc) (slots + ns) Q (F0 m (pc + 3) ls (.int r :: rest))) : W p l e R s m args below meth c H locs cells slots Q (F0 m pc ls (.int x1 :: .ref E.1.1 :: rest)) :=
  c1k_1_snapNow X hsz hK hR hS hF hLo hc hs (met1_snapNow l _ _ _ _ _ _ hf) hrest hdg kk
end C_1_snapNow_c
noncomputable def f1_snap (D : cw_D) (x1 : Int32) : Option (Int32 × cw_D × Nat × Nat) :=
  ww_b (f1_whyNot D x1 (1 : Int32)) (fun r_1 => if r_1 = (-1 : Int32) then ww_b (f1_isRoom D) (fun r_3 => if r_3 = 0 then ww_b2 (f1_isRefused D (4 : Int32)) (fun r_5 D_5 => if r_5 = 0 then ww_b4 (f1_snapNow D_5 x1) (fun r_7 D_7 c_7 k_7 => some (r_7, D_7, (0 + c_7), (0 + k_7))) else some ((-1 : Int32), D_5, 0, 0)) else ww_b2 (f1_isRefused D (-1 : Int32)) (fun r_8 D_8 => if r_8 = 0 then ww_b4 (f1_snapNow D_8 x1) (fun r_10 D_10 c_10 k_10 => some (r_10, D_10, (0 + c_10), (0 + k_10))) else some ((-1 : Int32), D_8, 0, 0))) else ww_b2 (f1_isRefused D r_1) (fun r_11 D_11 => if r_11 = 0 then ww_b4 (f1_snapNow D_11 x1) (fun r_13 D_13 c_13 k_13 => some (r_13, D_13, (0 + c_13), (0 + k_13))) else some ((-1 : Int32), D_11, 0, 0)))
section C_1_snap_k
variable {p : Program} {l : Launch} {e : Env} {R : Room} {s : State} {m : MethodId} {args : Array Value} {below : List Frame} {meth : Method} {c : Code} {H : Heap} {locs : List Loc} {cells slots : Nat} {Q : State → Prop}
variable {cc : ByteArray} {pc : Nat} {ls : Array Slot} {rest : List Value} {nL : Nat} {E : cw_E} {A : Nat → Prop} {H0 : Heap}
theorem c1k_1_snap {D : cw_D} {x1 : Int32} {r : Int32} {D' : cw_D} {nc ns : Nat} (X : ww_C p m c cc nL s args RX1 lw_all) (hsz : ls.size = nL) (hK : cw_K E A s) (hR : cw_H E A D H) (hS : va_S A s.heap H locs) (hF : 4 ≤ R.frames) (hLo : 104 ≤ R.locals) (hc : cells + nc ≤ R.cells) (hs : slots + ns ≤ R.slots) (hM : cw_MetI l yX1_snap cX1_snap 3 (some Jvm.ClassFile.FieldType.int) 3 82 E A [.ref E.1.1, .int x1] D D' r nc ns) (hrest : (rest.map fun v => v.category).sum ≤ 8) (hdg : decode cc pc = .ok (.invokevirtual 442, 3)) (kk : ∀ (H1 : Heap) (locs1 : List Loc), cw_H E A D' H1 → va_S A s.heap H1 locs1 → W p l e R s m args below meth c H1 locs1 (cells + nc) (slots + ns) Q (F0 m (pc + 3) ls (.int r :: rest))) : W p l e R s m args below meth c H locs cells slots Q (F0 m pc ls (.int x1 :: .ref E.1.1 :: rest)) :=
  va_calli (va_runV (C := RX1) (As := [.int x1]) (rest := rest) (b := E.1.1) X hM (cwV 1 X.2.2.2.2 (lw_V q1432 q1421 q1422 q131 q1423) rfl rfl rfl (by decide +kernel) ⟨hF, hLo⟩) (cw_pV hK hR hS (cw_rcM hK hR)) rfl rfl hsz rfl (lv_room hrest) hdg ⟨hc, hs⟩) hS (fun q _ h => h) (fun q h => h) (fun r' u t H1 locs1 ht hvm hw hB hz1 hk1 hS1 => by subst hw; rw [ht] at hB; exact kk H1 locs1 hB hS1)
end C_1_snap_k
set_option maxHeartbeats 4000000 in
set_option maxRecDepth 100000 in
theorem met1_snap (l : Launch) {E : cw_E} {A : Nat → Prop} (D : cw_D) (x1 : Int32) (r : Int32) (D' : cw_D) (nc ns : Nat) (hf : f1_snap D x1 = some (r, D', nc, ns)) : cw_MetI l yX1_snap cX1_snap 3 (some Jvm.ClassFile.FieldType.int) 3 82 E A [.ref E.1.1, .int x1] D D' r nc ns := by
  unfold f1_snap at hf
  refine cw_sIN (own := RX1) (by decide +kernel) [(0, .ref E.1.1), (1, .int x1)] ⟨Nat.le_of_ble_eq_true rfl, rfl⟩ ?_
  intro p e s m args below meth c Rm Q X hK hF hLo hC hin hend ls hl hR hS
  obtain ⟨hx, hb, hml, hown, hts⟩ := id X
  have hm9 : 0 ≤ nc ∧ 0 ≤ ns := ⟨Nat.zero_le _, Nat.zero_le _⟩
  refine lv_aload_n hx hb dX1_snap_0 rfl (lv_at hl 0 rfl) ?_
  refine lv_iload_n hx hb dX1_snap_1 rfl (lv_at hl 1 rfl) ?_
  refine lv_iconst (v := (1 : Int32)) hx hb dX1_snap_2 (by decide) ?_
  obtain ⟨r_1, h_1, hq⟩ := ww_bS hf; replace hf := hq; clear hq
  refine c1c_1_whyNot X hl.1 hK hR hS (Nat.le_trans (Nat.le_of_ble_eq_true rfl) hF) (Nat.le_trans (Nat.le_of_ble_eq_true rfl) hLo) (Nat.le_trans hm9.1 hC.1) (Nat.le_trans hm9.2 hC.2) h_1 (cw_rest (Nat.le_of_ble_eq_true rfl)) dX1_snap_3 (fun H locs hR hS => ?_)
  refine lv_istore_n (lv' := [(2, .int r_1), (0, .ref E.1.1), (1, .int x1)]) hx hb dX1_snap_6 rfl hl (by decide) rfl (fun ls hl => ?_)
  refine lv_aload_n hx hb dX1_snap_7 rfl (lv_at hl 1 rfl) ?_
  refine lv_iload_n hx hb dX1_snap_8 rfl (lv_at hl 0 rfl) ?_
  refine lv_iconst (v := (-1 : Int32)) hx hb dX1_snap_9 (by decide) ?_
  refine lv_icmp_eq (tgt := 17) hx hb dX1_snap_10 (by decide) (fun c_2 => ?_) (fun c_2 => ?_)
  · replace hf := ww_ip hf c_2
    refine lv_aload_n hx hb dX1_snap_17 rfl (lv_at hl 1 rfl) ?_
    obtain ⟨r_3, h_3, hq⟩ := ww_bS hf; replace hf := hq; clear hq
    refine c1c_1_isRoom X hl.1 hK hR hS (Nat.le_trans (Nat.le_of_ble_eq_true rfl) hF) (Nat.le_trans (Nat.le_of_ble_eq_true rfl) hLo) (Nat.le_trans hm9.1 hC.1) (Nat.le_trans hm9.2 hC.2) h_3 (cw_rest (Nat.le_of_ble_eq_true rfl)) dX1_snap_18 (fun H locs hR hS => ?_)
    refine lv_if_eq (tgt := 28) hx hb dX1_snap_21 (by decide) (fun c_4 => ?_) (fun c_4 => ?_)
    · replace hf := ww_ip hf c_4
      refine lv_iconst (v := (4 : Int32)) hx hb dX1_snap_28 (by decide) ?_
      obtain ⟨r_5, D_5, h_5, hq⟩ := ww_b2S hf; replace hf := hq; clear hq
      refine c1c_1_isRefused X hl.1 hK hR hS (Nat.le_trans (Nat.le_of_ble_eq_true rfl) hF) (Nat.le_trans (Nat.le_of_ble_eq_true rfl) hLo) (Nat.le_trans hm9.1 hC.1) (Nat.le_trans hm9.2 hC.2) h_5 (cw_rest (Nat.le_of_ble_eq_true rfl)) dX1_snap_29 (fun H locs hR hS => ?_)
      refine lv_if_eq (tgt := 37) hx hb dX1_snap_32 (by decide) (fun c_6 => ?_) (fun c_6 => ?_)
      · replace hf := ww_ip hf c_6
        refine lv_aload_n hx hb dX1_snap_37 rfl (lv_at hl 1 rfl) ?_
        refine lv_iload_n hx hb dX1_snap_38 rfl (lv_at hl 2 rfl) ?_
        obtain ⟨r_7, D_7, c_7, k_7, h_7, hq⟩ := ww_b4S hf; replace hf := hq; clear hq
        have hm9 : (0 + c_7) ≤ nc ∧ (0 + k_7) ≤ ns := by
          have e9 := hf
          simp only [Option.some.injEq, Prod.mk.injEq] at e9
          omega
        refine c1c_1_snapNow X hl.1 hK hR hS (Nat.le_trans (Nat.le_of_ble_eq_true rfl) hF) (Nat.le_trans (Nat.le_of_ble_eq_true rfl) hLo) (Nat.le_trans hm9.1 hC.1) (Nat.le_trans hm9.2 hC.2) h_7 (cw_rest (Nat.le_of_ble_eq_true rfl)) dX1_snap_39 (fun H locs hR hS => ?_)
        exact hend dX1_snap_42 rfl rfl hf hR hS
      · replace hf := ww_in hf c_6
        refine lv_iconst (v := (-1 : Int32)) hx hb dX1_snap_35 (by decide) ?_
        exact hend dX1_snap_36 rfl rfl hf hR hS
    · replace hf := ww_in hf c_4
      refine lv_iconst (v := (-1 : Int32)) hx hb dX1_snap_24 (by decide) ?_
      refine lv_goto (tgt := 29) hx hb dX1_snap_25 (by decide) ?_
      obtain ⟨r_8, D_8, h_8, hq⟩ := ww_b2S hf; replace hf := hq; clear hq
      refine c1c_1_isRefused X hl.1 hK hR hS (Nat.le_trans (Nat.le_of_ble_eq_true rfl) hF) (Nat.le_trans (Nat.le_of_ble_eq_true rfl) hLo) (Nat.le_trans hm9.1 hC.1) (Nat.le_trans hm9.2 hC.2) h_8 (cw_rest (Nat.le_of_ble_eq_true rfl)) dX1_snap_29 (fun H locs hR hS => ?_)
      refine lv_if_eq (tgt := 37) hx hb dX1_snap_32 (by decide) (fun c_9 => ?_) (fun c_9 => ?_)
      · replace hf := ww_ip hf c_9
        refine lv_aload_n hx hb dX1_snap_37 rfl (lv_at hl 1 rfl) ?_
        refine lv_iload_n hx hb dX1_snap_38 rfl (lv_at hl 2 rfl) ?_
        obtain ⟨r_10, D_10, c_10, k_10, h_10, hq⟩ := ww_b4S hf; replace hf := hq; clear hq
        have hm9 : (0 + c_10) ≤ nc ∧ (0 + k_10) ≤ ns := by
          have e9 := hf
          simp only [Option.some.injEq, Prod.mk.injEq] at e9
          omega
        refine c1c_1_snapNow X hl.1 hK hR hS (Nat.le_trans (Nat.le_of_ble_eq_true rfl) hF) (Nat.le_trans (Nat.le_of_ble_eq_true rfl) hLo) (Nat.le_trans hm9.1 hC.1) (Nat.le_trans hm9.2 hC.2) h_10 (cw_rest (Nat.le_of_ble_eq_true rfl)) dX1_snap_39 (fun H locs hR hS => ?_)
        exact hend dX1_snap_42 rfl rfl hf hR hS
      · replace hf := ww_in hf c_9
        refine lv_iconst (v := (-1 : Int32)) hx hb dX1_snap_35 (by decide) ?_
        exact hend dX1_snap_36 rfl rfl hf hR hS
  · replace hf := ww_in hf c_2
    refine lv_iload_n hx hb dX1_snap_13 rfl (lv_at hl 0 rfl) ?_
    refine lv_goto (tgt := 29) hx hb dX1_snap_14 (by decide) ?_
    obtain ⟨r_11, D_11, h_11, hq⟩ := ww_b2S hf; replace hf := hq; clear hq
    refine c1c_1_isRefused X hl.1 hK hR hS (Nat.le_trans (Nat.le_of_ble_eq_true rfl) hF) (Nat.le_trans (Nat.le_of_ble_eq_true rfl) hLo) (Nat.le_trans hm9.1 hC.1) (Nat.le_trans hm9.2 hC.2) h_11 (cw_rest (Nat.le_of_ble_eq_true rfl)) dX1_snap_29 (fun H locs hR hS => ?_)
    refine lv_if_eq (tgt := 37) hx hb dX1_snap_32 (by decide) (fun c_12 => ?_) (fun c_12 => ?_)
    · replace hf := ww_ip hf c_12
      refine lv_aload_n hx hb dX1_snap_37 rfl (lv_at hl 1 rfl) ?_
      refine lv_iload_n hx hb dX1_snap_38 rfl (lv_at hl 2 rfl) ?_
      obtain ⟨r_13, D_13, c_13, k_13, h_13, hq⟩ := ww_b4S hf; replace hf := hq; clear hq
      have hm9 : (0 + c_13) ≤ nc ∧ (0 + k_13) ≤ ns := by
        have e9 := hf
        simp only [Option.some.injEq, Prod.mk.injEq] at e9
        omega
      refine c1c_1_snapNow X hl.1 hK hR hS (Nat.le_trans (Nat.le_of_ble_eq_true rfl) hF) (Nat.le_trans (Nat.le_of_ble_eq_true rfl) hLo) (Nat.le_trans hm9.1 hC.1) (Nat.le_trans hm9.2 hC.2) h_13 (cw_rest (Nat.le_of_ble_eq_true rfl)) dX1_snap_39 (fun H locs hR hS => ?_)
      exact hend dX1_snap_42 rfl rfl hf hR hS
    · replace hf := ww_in hf c_12
      refine lv_iconst (v := (-1 : Int32)) hx hb dX1_snap_35 (by decide) ?_
      exact hend dX1_snap_36 rfl rfl hf hR hS
section C_1_snap_c
variable {p : Program} {l : Launch} {e : Env} {R : Room} {s : State} {m : MethodId} {args : Array Value} {below : List Frame} {meth : Method} {c : Code} {H : Heap} {locs : List Loc} {cells slots : Nat} {Q : State → Prop}
variable {cc : ByteArray} {pc : Nat} {ls : Array Slot} {rest : List Value} {nL : Nat} {E : cw_E} {A : Nat → Prop} {H0 : Heap}
theorem c1c_1_snap {D : cw_D} {x1 : Int32} {r : Int32} {D' : cw_D} {nc ns : Nat} (X : ww_C p m c cc nL s args RX1 lw_all) (hsz : ls.size = nL) (hK : cw_K E A s) (hR : cw_H E A D H) (hS : va_S A s.heap H locs) (hF : 4 ≤ R.frames) (hLo : 104 ≤ R.locals) (hc : cells + nc ≤ R.cells) (hs : slots + ns ≤ R.slots) (hf : f1_snap D x1 = some (r, D', nc, ns)) (hrest : (rest.map fun v => v.category).sum ≤ 8) (hdg : decode cc pc = .ok (.invokevirtual 442, 3)) (kk : ∀ (H1 : Heap) (locs1 : List Loc), cw_H E A D' H1 → va_S A s.heap H1 locs1 → W p l e R s m args below meth c H1 locs1 (cells + nc) (slots + ns) Q (F0 m (pc + 3) ls (.int r :: rest))) : W p l e R s m args below meth c H locs cells slots Q (F0 m pc ls (.int x1 :: .ref E.1.1 :: rest)) :=
  c1k_1_snap X hsz hK hR hS hF hLo hc hs (met1_snap l _ _ _ _ _ _ hf) hrest hdg kk
end C_1_snap_c
noncomputable def f1_freeze (D : cw_D) (x1 : Int32) : Option (Int32 × cw_D × Nat × Nat) :=
  ww_b4 (f1_snap D x1) (fun r_1 D_1 c_1 k_1 => if r_1 = (-1 : Int32) then some (r_1, D_1, (0 + c_1), (0 + k_1)) else ww_b (f1_stales D_1 x1) (fun D_3 => some (r_1, D_3, (0 + c_1), (0 + k_1))))
set_option maxHeartbeats 4000000 in
set_option maxRecDepth 100000 in
theorem met1_freeze (l : Launch) {E : cw_E} {A : Nat → Prop} (D : cw_D) (x1 : Int32) (r : Int32) (D' : cw_D) (nc ns : Nat) (hf : f1_freeze D x1 = some (r, D', nc, ns)) : cw_MetI l yX1_freeze cX1_freeze 3 (some Jvm.ClassFile.FieldType.int) 4 104 E A [.ref E.1.1, .int x1] D D' r nc ns := by
  unfold f1_freeze at hf
  refine cw_sIN (own := RX1) (by decide +kernel) [(0, .ref E.1.1), (1, .int x1)] ⟨Nat.le_of_ble_eq_true rfl, rfl⟩ ?_
  intro p e s m args below meth c Rm Q X hK hF hLo hC hin hend ls hl hR hS
  obtain ⟨hx, hb, hml, hown, hts⟩ := id X
  have hm9 : 0 ≤ nc ∧ 0 ≤ ns := ⟨Nat.zero_le _, Nat.zero_le _⟩
  refine lv_aload_n hx hb dX1_freeze_0 rfl (lv_at hl 0 rfl) ?_
  refine lv_iload_n hx hb dX1_freeze_1 rfl (lv_at hl 1 rfl) ?_
  obtain ⟨r_1, D_1, c_1, k_1, h_1, hq⟩ := ww_b4S hf; replace hf := hq; clear hq
  have hm9 : (0 + c_1) ≤ nc ∧ (0 + k_1) ≤ ns := by
    refine ww_by (r_1 = (-1 : Int32)) (fun c_2 => ?_) (fun c_2 => ?_)
    · replace hf := ww_ip hf c_2
      have e9 := hf
      simp only [Option.some.injEq, Prod.mk.injEq] at e9
      omega
    · replace hf := ww_in hf c_2
      obtain ⟨D_3, h_3, hq⟩ := ww_bS hf; replace hf := hq; clear hq
      have e9 := hf
      simp only [Option.some.injEq, Prod.mk.injEq] at e9
      omega
  refine c1c_1_snap X hl.1 hK hR hS (Nat.le_trans (Nat.le_of_ble_eq_true rfl) hF) (Nat.le_trans (Nat.le_of_ble_eq_true rfl) hLo) (Nat.le_trans hm9.1 hC.1) (Nat.le_trans hm9.2 hC.2) h_1 (cw_rest (Nat.le_of_ble_eq_true rfl)) dX1_freeze_2 (fun H locs hR hS => ?_)
  refine lv_istore_n (lv' := [(2, .int r_1), (0, .ref E.1.1), (1, .int x1)]) hx hb dX1_freeze_5 rfl hl (by decide) rfl (fun ls hl => ?_)
  refine lv_iload_n hx hb dX1_freeze_6 rfl (lv_at hl 0 rfl) ?_
  refine lv_iconst (v := (-1 : Int32)) hx hb dX1_freeze_7 (by decide) ?_
  refine lv_icmp_eq (tgt := 16) hx hb dX1_freeze_8 (by decide) (fun c_2 => ?_) (fun c_2 => ?_)
  · replace hf := ww_ip hf c_2
    refine lv_iload_n hx hb dX1_freeze_16 rfl (lv_at hl 0 rfl) ?_
    exact hend dX1_freeze_17 rfl rfl hf hR hS
  · replace hf := ww_in hf c_2
    refine lv_aload_n hx hb dX1_freeze_11 rfl (lv_at hl 1 rfl) ?_
    refine lv_iload_n hx hb dX1_freeze_12 rfl (lv_at hl 2 rfl) ?_
    obtain ⟨D_3, h_3, hq⟩ := ww_bS hf; replace hf := hq; clear hq
    refine c1c_1_stales X hl.1 hK hR hS (Nat.le_trans (Nat.le_of_ble_eq_true rfl) hF) (Nat.le_trans (Nat.le_of_ble_eq_true rfl) hLo) (Nat.le_trans hm9.1 hC.1) (Nat.le_trans hm9.2 hC.2) h_3 (cw_rest (Nat.le_of_ble_eq_true rfl)) dX1_freeze_13 (fun H locs hR hS => ?_)
    refine lv_iload_n hx hb dX1_freeze_16 rfl (lv_at hl 0 rfl) ?_
    exact hend dX1_freeze_17 rfl rfl hf hR hS
noncomputable def f1_peek (D : cw_D) (x1 : Int32) (x2 : Int32) : Option (Int32) :=
  ww_b (f1_isBuilder D x1) (fun r_1 => if r_1 = 0 then some (-1000000 : Int32) else ww_b (f1_isStale D x1) (fun r_3 => if r_3 = 0 then ww_g (ww_i x1 4) (ww_b (some (ww_Y D.1 24 x1)) (fun r_5 => ww_b (f1_valueIn D r_5 x2) (fun r_7 => some r_7))) else some (-1000000 : Int32)))
set_option maxHeartbeats 4000000 in
set_option maxRecDepth 100000 in
theorem met1_peek (l : Launch) {E : cw_E} {A : Nat → Prop} (D : cw_D) (x1 : Int32) (x2 : Int32) (r : Int32) (hf : f1_peek D x1 x2 = some r) : cw_MetI l yX1_peek cX1_peek 3 (some Jvm.ClassFile.FieldType.int) 13 267 E A [.ref E.1.1, .int x1, .int x2] D D r 0 0 := by
  unfold f1_peek at hf
  refine cw_sIP (own := RX1) (by decide +kernel) [(0, .ref E.1.1), (1, .int x1), (2, .int x2)] ⟨Nat.le_of_ble_eq_true rfl, rfl⟩ ?_
  intro p e s m args below meth c Rm Q X hK hF hLo hin hend ls hl hR hS
  obtain ⟨hx, hb, hml, hown, hts⟩ := id X
  refine lv_aload_n hx hb dX1_peek_0 rfl (lv_at hl 0 rfl) ?_
  refine lv_iload_n hx hb dX1_peek_1 rfl (lv_at hl 1 rfl) ?_
  obtain ⟨r_1, h_1, hq⟩ := ww_bS hf; replace hf := hq; clear hq
  refine c1c_1_isBuilder X hl.1 hK hR hS (Nat.le_trans (Nat.le_of_ble_eq_true rfl) hF) (Nat.le_trans (Nat.le_of_ble_eq_true rfl) hLo) (Nat.zero_le _) (Nat.zero_le _) h_1 (cw_rest (Nat.le_of_ble_eq_true rfl)) dX1_peek_2 (fun H locs hR hS => ?_)
  refine lv_if_eq (tgt := 29) hx hb dX1_peek_5 (by decide) (fun c_2 => ?_) (fun c_2 => ?_)
  · replace hf := ww_ip hf c_2
    refine lv_ldc (v := (-1000000 : Int32)) hx hb hown (hts _ q420) dX1_peek_29 ?_
    exact hend dX1_peek_31 rfl rfl hf hR hS
  · replace hf := ww_in hf c_2
    refine lv_aload_n hx hb dX1_peek_8 rfl (lv_at hl 0 rfl) ?_
    refine lv_iload_n hx hb dX1_peek_9 rfl (lv_at hl 1 rfl) ?_
    obtain ⟨r_3, h_3, hq⟩ := ww_bS hf; replace hf := hq; clear hq
    refine c1c_1_isStale X hl.1 hK hR hS (Nat.le_trans (Nat.le_of_ble_eq_true rfl) hF) (Nat.le_trans (Nat.le_of_ble_eq_true rfl) hLo) (Nat.zero_le _) (Nat.zero_le _) h_3 (cw_rest (Nat.le_of_ble_eq_true rfl)) dX1_peek_10 (fun H locs hR hS => ?_)
    refine lv_if_ne (tgt := 29) hx hb dX1_peek_13 (by decide) (fun c_4 => ?_) (fun c_4 => ?_)
    · replace hf := ww_in hf c_4
      refine lv_ldc (v := (-1000000 : Int32)) hx hb hown (hts _ q420) dX1_peek_29 ?_
      exact hend dX1_peek_31 rfl rfl hf hR hS
    · replace hf := ww_ip hf c_4
      refine lv_aload_n hx hb dX1_peek_16 rfl (lv_at hl 0 rfl) ?_
      refine c1g_85 X hK hR dX1_peek_17 ?_
      refine lv_iload_n hx hb dX1_peek_20 rfl (lv_at hl 1 rfl) ?_
      obtain ⟨h_6, hq⟩ := ww_gS hf; replace hf := hq; clear hq
      obtain ⟨r_5, h_5, hq⟩ := ww_bS hf; replace hf := hq; clear hq
      refine c1l_24 X hK hR h_6 h_5 dX1_peek_21 ?_
      refine lv_iload_n hx hb dX1_peek_22 rfl (lv_at hl 2 rfl) ?_
      obtain ⟨r_7, h_7, hq⟩ := ww_bS hf; replace hf := hq; clear hq
      refine c1c_1_valueIn (x0 := r_5) X hl.1 hK hR hS (Nat.le_trans (Nat.le_of_ble_eq_true rfl) hF) (Nat.le_trans (Nat.le_of_ble_eq_true rfl) hLo) (Nat.zero_le _) (Nat.zero_le _) h_7 (cw_rest (Nat.le_of_ble_eq_true rfl)) dX1_peek_23 (fun H locs hR hS => ?_)
      refine lv_goto (tgt := 31) hx hb dX1_peek_26 (by decide) ?_
      exact hend dX1_peek_31 rfl rfl hf hR hS
noncomputable def f1_builder (D : cw_D) (x1 : Int32) (x2 : Int32) : Option (Int32 × cw_D) :=
  ww_b (f1_isBuilder D x1) (fun r_1 => if r_1 = 0 then some ((-1000000 : Int32), D) else ww_b (f1_in x2 (0 : Int32) (3 : Int32)) (fun r_3 => if r_3 = 0 then some ((-1000000 : Int32), D) else ww_b (f1_isStale D x1) (fun r_5 => if r_5 = 0 then if x2 = 0 then ww_g (ww_i x1 4) (ww_b (some (ww_Y D.1 24 x1)) (fun r_8 => ww_b2 (f1_sizeOf D r_8) (fun r_10 D_10 => some (r_10, D_10)))) else if x2 = 1 then ww_g (ww_i x1 4) (ww_b (some (ww_Y D.1 24 x1)) (fun r_12 => ww_b r_12 (fun a_14 => ww_g (cw_kd D [1, 2] (some a_14)) (ww_b2 (f5_counts 8 D a_14 (0 : Int32) (0 : Int32) none) (fun r_16 D_16 => some (r_16, D_16)))))) else if x2 = 2 then ww_g (ww_i x1 4) (ww_b (some (ww_Y D.1 24 x1)) (fun r_18 => ww_g (ww_i x1 4) (ww_b (some (ww_Y D.1 25 x1)) (fun r_20 => ww_b r_18 (fun a_22 => ww_g (cw_kd D [1, 2] (some a_22)) (ww_b2 (f5_counts 8 D a_22 (4 : Int32) (0 : Int32) r_20) (fun r_24 D_24 => some (r_24, D_24)))))))) else ww_g (ww_i x1 4) (some ((ww_X D.1 26 x1), D)) else some ((-1000000 : Int32), D))))
set_option maxHeartbeats 4000000 in
set_option maxRecDepth 100000 in
theorem met1_builder (l : Launch) {E : cw_E} {A : Nat → Prop} (D : cw_D) (x1 : Int32) (x2 : Int32) (r : Int32) (D' : cw_D) (hf : f1_builder D x1 x2 = some (r, D')) : cw_MetI l yX1_builder cX1_builder 3 (some Jvm.ClassFile.FieldType.int) 12 286 E A [.ref E.1.1, .int x1, .int x2] D D' r 0 0 := by
  unfold f1_builder at hf
  refine cw_sID (own := RX1) (by decide +kernel) [(0, .ref E.1.1), (1, .int x1), (2, .int x2)] ⟨Nat.le_of_ble_eq_true rfl, rfl⟩ ?_
  intro p e s m args below meth c Rm Q X hK hF hLo hin hend ls hl hR hS
  obtain ⟨hx, hb, hml, hown, hts⟩ := id X
  refine lv_aload_n hx hb dX1_builder_0 rfl (lv_at hl 0 rfl) ?_
  refine lv_iload_n hx hb dX1_builder_1 rfl (lv_at hl 1 rfl) ?_
  obtain ⟨r_1, h_1, hq⟩ := ww_bS hf; replace hf := hq; clear hq
  refine c1c_1_isBuilder X hl.1 hK hR hS (Nat.le_trans (Nat.le_of_ble_eq_true rfl) hF) (Nat.le_trans (Nat.le_of_ble_eq_true rfl) hLo) (Nat.zero_le _) (Nat.zero_le _) h_1 (cw_rest (Nat.le_of_ble_eq_true rfl)) dX1_builder_2 (fun H locs hR hS => ?_)
  refine lv_if_eq (tgt := 25) hx hb dX1_builder_5 (by decide) (fun c_2 => ?_) (fun c_2 => ?_)
  · replace hf := ww_ip hf c_2
    refine lv_ldc (v := (-1000000 : Int32)) hx hb hown (hts _ q420) dX1_builder_25 ?_
    exact hend dX1_builder_27 rfl rfl hf hR hS
  · replace hf := ww_in hf c_2
    refine lv_iload_n hx hb dX1_builder_8 rfl (lv_at hl 2 rfl) ?_
    refine lv_iconst (v := (0 : Int32)) hx hb dX1_builder_9 (by decide) ?_
    refine lv_iconst (v := (3 : Int32)) hx hb dX1_builder_10 (by decide) ?_
    obtain ⟨r_3, h_3, hq⟩ := ww_bS hf; replace hf := hq; clear hq
    refine c1c_1_in X hl.1 (Nat.le_trans (Nat.le_of_ble_eq_true rfl) hF) (Nat.le_trans (Nat.le_of_ble_eq_true rfl) hLo) (Nat.zero_le _) (Nat.zero_le _) h_3 (cw_rest (Nat.le_of_ble_eq_true rfl)) dX1_builder_11 ?_
    refine lv_if_eq (tgt := 25) hx hb dX1_builder_14 (by decide) (fun c_4 => ?_) (fun c_4 => ?_)
    · replace hf := ww_ip hf c_4
      refine lv_ldc (v := (-1000000 : Int32)) hx hb hown (hts _ q420) dX1_builder_25 ?_
      exact hend dX1_builder_27 rfl rfl hf hR hS
    · replace hf := ww_in hf c_4
      refine lv_aload_n hx hb dX1_builder_17 rfl (lv_at hl 0 rfl) ?_
      refine lv_iload_n hx hb dX1_builder_18 rfl (lv_at hl 1 rfl) ?_
      obtain ⟨r_5, h_5, hq⟩ := ww_bS hf; replace hf := hq; clear hq
      refine c1c_1_isStale X hl.1 hK hR hS (Nat.le_trans (Nat.le_of_ble_eq_true rfl) hF) (Nat.le_trans (Nat.le_of_ble_eq_true rfl) hLo) (Nat.zero_le _) (Nat.zero_le _) h_5 (cw_rest (Nat.le_of_ble_eq_true rfl)) dX1_builder_19 (fun H locs hR hS => ?_)
      refine lv_if_eq (tgt := 28) hx hb dX1_builder_22 (by decide) (fun c_6 => ?_) (fun c_6 => ?_)
      · replace hf := ww_ip hf c_6
        refine lv_iload_n hx hb dX1_builder_28 rfl (lv_at hl 2 rfl) ?_
        refine ww_by (x2 = 0) (fun c_7 => ?_) (fun c_7 => ?_)
        · replace hf := ww_ip hf c_7
          refine ww_tin (k := 0) (off := 27) (tgt := 56) hx hb dX1_builder_29 c_7 (by decide) (by decide) (by decide) (by decide) ?_
          refine lv_aload_n hx hb dX1_builder_56 rfl (lv_at hl 0 rfl) ?_
          refine c1g_85 X hK hR dX1_builder_57 ?_
          refine lv_iload_n hx hb dX1_builder_60 rfl (lv_at hl 1 rfl) ?_
          obtain ⟨h_9, hq⟩ := ww_gS hf; replace hf := hq; clear hq
          obtain ⟨r_8, h_8, hq⟩ := ww_bS hf; replace hf := hq; clear hq
          refine c1l_24 X hK hR h_9 h_8 dX1_builder_61 ?_
          obtain ⟨r_10, D_10, h_10, hq⟩ := ww_b2S hf; replace hf := hq; clear hq
          refine c1c_1_sizeOf (x0 := r_8) X hl.1 hK hR hS (Nat.le_trans (Nat.le_of_ble_eq_true rfl) hF) (Nat.le_trans (Nat.le_of_ble_eq_true rfl) hLo) (Nat.zero_le _) (Nat.zero_le _) h_10 (cw_rest (Nat.le_of_ble_eq_true rfl)) dX1_builder_62 (fun H locs hR hS => ?_)
          refine lv_goto (tgt := 113) hx hb dX1_builder_65 (by decide) ?_
          exact hend dX1_builder_113 rfl rfl hf hR hS
        replace hf := ww_in hf c_7
        refine ww_by (x2 = 1) (fun c_11 => ?_) (fun c_11 => ?_)
        · replace hf := ww_ip hf c_11
          refine ww_tin (k := 1) (off := 39) (tgt := 68) hx hb dX1_builder_29 c_11 (by decide) (by decide) (by decide) (by decide) ?_
          refine lv_aload_n hx hb dX1_builder_68 rfl (lv_at hl 0 rfl) ?_
          refine c1g_85 X hK hR dX1_builder_69 ?_
          refine lv_iload_n hx hb dX1_builder_72 rfl (lv_at hl 1 rfl) ?_
          obtain ⟨h_13, hq⟩ := ww_gS hf; replace hf := hq; clear hq
          obtain ⟨r_12, h_12, hq⟩ := ww_bS hf; replace hf := hq; clear hq
          refine c1l_24 X hK hR h_13 h_12 dX1_builder_73 ?_
          refine lv_iconst (v := (0 : Int32)) hx hb dX1_builder_74 (by decide) ?_
          refine lv_iconst (v := (0 : Int32)) hx hb dX1_builder_75 (by decide) ?_
          refine lv_null hx hb dX1_builder_76 ?_
          obtain ⟨a_14, e_14, hq⟩ := ww_bS hf; replace hf := hq; clear hq
          subst e_14
          obtain ⟨h_15, hq⟩ := ww_gS hf; replace hf := hq; clear hq
          obtain ⟨r_16, D_16, h_16, hq⟩ := ww_b2S hf; replace hf := hq; clear hq
          refine c1i_counts (x3 := none) X hl.1 hK hR hS (Nat.le_trans (Nat.le_of_ble_eq_true rfl) hF) (Nat.le_trans (Nat.le_of_ble_eq_true rfl) hLo) (Nat.zero_le _) (Nat.zero_le _) h_15 h_16 (cw_rest (Nat.le_of_ble_eq_true rfl)) dX1_builder_77 (fun H locs hR hS => ?_)
          refine lv_goto (tgt := 113) hx hb dX1_builder_82 (by decide) ?_
          exact hend dX1_builder_113 rfl rfl hf hR hS
        replace hf := ww_in hf c_11
        refine ww_by (x2 = 2) (fun c_17 => ?_) (fun c_17 => ?_)
        · replace hf := ww_ip hf c_17
          refine ww_tin (k := 2) (off := 56) (tgt := 85) hx hb dX1_builder_29 c_17 (by decide) (by decide) (by decide) (by decide) ?_
          refine lv_aload_n hx hb dX1_builder_85 rfl (lv_at hl 0 rfl) ?_
          refine c1g_85 X hK hR dX1_builder_86 ?_
          refine lv_iload_n hx hb dX1_builder_89 rfl (lv_at hl 1 rfl) ?_
          obtain ⟨h_19, hq⟩ := ww_gS hf; replace hf := hq; clear hq
          obtain ⟨r_18, h_18, hq⟩ := ww_bS hf; replace hf := hq; clear hq
          refine c1l_24 X hK hR h_19 h_18 dX1_builder_90 ?_
          refine lv_iconst (v := (4 : Int32)) hx hb dX1_builder_91 (by decide) ?_
          refine lv_iconst (v := (0 : Int32)) hx hb dX1_builder_92 (by decide) ?_
          refine lv_aload_n hx hb dX1_builder_93 rfl (lv_at hl 0 rfl) ?_
          refine c1g_90 X hK hR dX1_builder_94 ?_
          refine lv_iload_n hx hb dX1_builder_97 rfl (lv_at hl 1 rfl) ?_
          obtain ⟨h_21, hq⟩ := ww_gS hf; replace hf := hq; clear hq
          obtain ⟨r_20, h_20, hq⟩ := ww_bS hf; replace hf := hq; clear hq
          refine c1l_25 X hK hR h_21 h_20 dX1_builder_98 ?_
          obtain ⟨a_22, e_22, hq⟩ := ww_bS hf; replace hf := hq; clear hq
          subst e_22
          obtain ⟨h_23, hq⟩ := ww_gS hf; replace hf := hq; clear hq
          obtain ⟨r_24, D_24, h_24, hq⟩ := ww_b2S hf; replace hf := hq; clear hq
          refine c1i_counts (x3 := r_20) X hl.1 hK hR hS (Nat.le_trans (Nat.le_of_ble_eq_true rfl) hF) (Nat.le_trans (Nat.le_of_ble_eq_true rfl) hLo) (Nat.zero_le _) (Nat.zero_le _) h_23 h_24 (cw_rest (Nat.le_of_ble_eq_true rfl)) dX1_builder_99 (fun H locs hR hS => ?_)
          refine lv_goto (tgt := 113) hx hb dX1_builder_104 (by decide) ?_
          exact hend dX1_builder_113 rfl rfl hf hR hS
        replace hf := ww_in hf c_17
        refine ww_tout (tgt := 107) [0, 1, 2] hx hb dX1_builder_29 ⟨c_7, c_11, c_17, trivial⟩ (by decide) (by decide) ?_
        refine lv_aload_n hx hb dX1_builder_107 rfl (lv_at hl 0 rfl) ?_
        refine c1g_94 X hK hR dX1_builder_108 ?_
        refine lv_iload_n hx hb dX1_builder_111 rfl (lv_at hl 1 rfl) ?_
        obtain ⟨h_25, hq⟩ := ww_gS hf; replace hf := hq; clear hq
        refine c1l_26 X hK hR h_25 dX1_builder_112 ?_
        exact hend dX1_builder_113 rfl rfl hf hR hS
      · replace hf := ww_in hf c_6
        refine lv_ldc (v := (-1000000 : Int32)) hx hb hown (hts _ q420) dX1_builder_25 ?_
        exact hend dX1_builder_27 rfl rfl hf hR hS
noncomputable def f1_draw (D : cw_D) (x1 : Int32) : Option (Int32 × cw_D) :=
  ww_g (decide (¬ x1.toInt64 = 0)) (some ((((((ww_L (cw_sL D (((ww_L D.1) * (6364136223846793005 : Int64)) + (1442695040888963407 : Int64))).1)).toUInt64 >>> ((33 : Int32).toInt64.toUInt64 &&& Int64.toUInt64 63)).toInt64) - ((((ww_L (cw_sL D (((ww_L D.1) * (6364136223846793005 : Int64)) + (1442695040888963407 : Int64))).1)).toUInt64 >>> ((33 : Int32).toInt64.toUInt64 &&& Int64.toUInt64 63)).toInt64) / x1.toInt64 * x1.toInt64).toInt32, (cw_sL D (((ww_L D.1) * (6364136223846793005 : Int64)) + (1442695040888963407 : Int64)))))
section C_1_draw_k
variable {p : Program} {l : Launch} {e : Env} {R : Room} {s : State} {m : MethodId} {args : Array Value} {below : List Frame} {meth : Method} {c : Code} {H : Heap} {locs : List Loc} {cells slots : Nat} {Q : State → Prop}
variable {cc : ByteArray} {pc : Nat} {ls : Array Slot} {rest : List Value} {nL : Nat} {E : cw_E} {A : Nat → Prop} {H0 : Heap}
theorem c1k_1_draw {D : cw_D} {x1 : Int32} {r : Int32} {D' : cw_D} (X : ww_C p m c cc nL s args RX1 lw_all) (hsz : ls.size = nL) (hK : cw_K E A s) (hR : cw_H E A D H) (hS : va_S A s.heap H locs) (hF : 1 ≤ R.frames) (hLo : 21 ≤ R.locals) (hc : cells ≤ R.cells) (hs : slots ≤ R.slots) (hM : cw_MetI l yX1_draw cX1_draw 2 (some Jvm.ClassFile.FieldType.int) 0 0 E A [.ref E.1.1, .int x1] D D' r 0 0) (hrest : (rest.map fun v => v.category).sum ≤ 8) (hdg : decode cc pc = .ok (.invokevirtual 452, 3)) (kk : ∀ (H1 : Heap) (locs1 : List Loc), cw_H E A D' H1 → va_S A s.heap H1 locs1 → W p l e R s m args below meth c H1 locs1 cells slots Q (F0 m (pc + 3) ls (.int r :: rest))) : W p l e R s m args below meth c H locs cells slots Q (F0 m pc ls (.int x1 :: .ref E.1.1 :: rest)) :=
  va_calli (va_runV (C := RX1) (As := [.int x1]) (rest := rest) (b := E.1.1) X hM (cwV 1 X.2.2.2.2 (lw_V q1449 q1451 qs53 q131 q1452) rfl rfl rfl (by decide +kernel) ⟨hF, hLo⟩) (cw_pV hK hR hS (cw_rcM hK hR)) rfl rfl hsz rfl (lv_room hrest) hdg ⟨hc, hs⟩) hS (fun q _ h => h) (fun q h => h) (fun r' u t H1 locs1 ht hvm hw hB hz1 hk1 hS1 => by subst hw; rw [ht] at hB; exact kk H1 locs1 hB hS1)
end C_1_draw_k
set_option maxHeartbeats 4000000 in
set_option maxRecDepth 100000 in
theorem met1_draw (l : Launch) {E : cw_E} {A : Nat → Prop} (D : cw_D) (x1 : Int32) (r : Int32) (D' : cw_D) (hf : f1_draw D x1 = some (r, D')) : cw_MetI l yX1_draw cX1_draw 2 (some Jvm.ClassFile.FieldType.int) 0 0 E A [.ref E.1.1, .int x1] D D' r 0 0 := by
  unfold f1_draw at hf
  refine cw_sID (own := RX1) (by decide +kernel) [(0, .ref E.1.1), (1, .int x1)] ⟨Nat.le_of_ble_eq_true rfl, rfl⟩ ?_
  intro p e s m args below meth c Rm Q X hK hF hLo hin hend ls hl hR hS
  obtain ⟨hx, hb, hml, hown, hts⟩ := id X
  refine lv_aload_n hx hb dX1_draw_0 rfl (lv_at hl 0 rfl) ?_
  refine lv_aload_n hx hb dX1_draw_1 rfl (lv_at hl 0 rfl) ?_
  refine c1g_444 X hK hR dX1_draw_2 ?_
  refine lv_ldc2 (v := (6364136223846793005 : Int64)) hx hb hown (hts _ q1453) dX1_draw_5 ?_
  refine lv_lmul hx hb dX1_draw_8 ?_
  refine lv_ldc2 (v := (1442695040888963407 : Int64)) hx hb hown (hts _ q1454) dX1_draw_9 ?_
  refine lv_ladd hx hb dX1_draw_12 ?_
  refine c1p_444 X hK hR hS dX1_draw_13 (fun H locs hR hS => ?_)
  refine lv_aload_n hx hb dX1_draw_16 rfl (lv_at hl 0 rfl) ?_
  refine c1g_444 X hK hR dX1_draw_17 ?_
  refine lv_bipush (v := (33 : Int32)) hx hb dX1_draw_20 (by decide) ?_
  refine lv_lushr hx hb dX1_draw_22 rfl ?_
  refine lv_iload_n hx hb dX1_draw_23 rfl (lv_at hl 1 rfl) ?_
  refine lv_i2l (v := x1.toInt64) hx hb dX1_draw_24 rfl ?_
  obtain ⟨h_1, hq⟩ := ww_gS hf; replace hf := hq; clear hq
  refine lv_lrem hx hb dX1_draw_25 (of_decide_eq_true h_1) ?_
  refine lv_l2i (v := (((((ww_L (cw_sL D (((ww_L D.1) * (6364136223846793005 : Int64)) + (1442695040888963407 : Int64))).1)).toUInt64 >>> ((33 : Int32).toInt64.toUInt64 &&& Int64.toUInt64 63)).toInt64) - ((((ww_L (cw_sL D (((ww_L D.1) * (6364136223846793005 : Int64)) + (1442695040888963407 : Int64))).1)).toUInt64 >>> ((33 : Int32).toInt64.toUInt64 &&& Int64.toUInt64 63)).toInt64) / x1.toInt64 * x1.toInt64).toInt32) hx hb dX1_draw_26 rfl ?_
  exact hend dX1_draw_27 rfl rfl hf hR hS
section C_1_draw_c
variable {p : Program} {l : Launch} {e : Env} {R : Room} {s : State} {m : MethodId} {args : Array Value} {below : List Frame} {meth : Method} {c : Code} {H : Heap} {locs : List Loc} {cells slots : Nat} {Q : State → Prop}
variable {cc : ByteArray} {pc : Nat} {ls : Array Slot} {rest : List Value} {nL : Nat} {E : cw_E} {A : Nat → Prop} {H0 : Heap}
theorem c1c_1_draw {D : cw_D} {x1 : Int32} {r : Int32} {D' : cw_D} (X : ww_C p m c cc nL s args RX1 lw_all) (hsz : ls.size = nL) (hK : cw_K E A s) (hR : cw_H E A D H) (hS : va_S A s.heap H locs) (hF : 1 ≤ R.frames) (hLo : 21 ≤ R.locals) (hc : cells ≤ R.cells) (hs : slots ≤ R.slots) (hf : f1_draw D x1 = some (r, D')) (hrest : (rest.map fun v => v.category).sum ≤ 8) (hdg : decode cc pc = .ok (.invokevirtual 452, 3)) (kk : ∀ (H1 : Heap) (locs1 : List Loc), cw_H E A D' H1 → va_S A s.heap H1 locs1 → W p l e R s m args below meth c H1 locs1 cells slots Q (F0 m (pc + 3) ls (.int r :: rest))) : W p l e R s m args below meth c H locs cells slots Q (F0 m pc ls (.int x1 :: .ref E.1.1 :: rest)) :=
  c1k_1_draw X hsz hK hR hS hF hLo hc hs (met1_draw l _ _ _ _ hf) hrest hdg kk
end C_1_draw_c
noncomputable def f1_drawOne (D : cw_D) : Option (cw_D × Nat × Nat) :=
  ww_b2 (f1_draw D (4 : Int32)) (fun r_1 D_1 => ww_b2 (f1_draw D_1 (100 : Int32)) (fun r_2 D_2 => ww_b2 (f1_draw D_2 (19 : Int32)) (fun r_3 D_3 => if r_1 = (3 : Int32) then ww_b3 (f1_takeNow D_3 r_2) (fun D_11 c_11 k_11 => some (D_11, (0 + c_11), (0 + k_11))) else ww_b (some (ww_R D_3.1 27)) (fun r_5 => ww_b2 (f1_canLay D_3 r_5 r_2) (fun r_6 D_6 => if r_6 = 0 then some (D_6, 0, 0) else if r_1 = (2 : Int32) then ww_b3 (f1_addNow D_6 r_2 (r_3 - (9 : Int32))) (fun D_10 c_10 k_10 => some (D_10, (0 + c_10), (0 + k_10))) else ww_b3 (f1_layNow D_6 r_2 (r_3 - (9 : Int32))) (fun D_9 c_9 k_9 => some (D_9, (0 + c_9), (0 + k_9))))))))
section C_1_drawOne_k
variable {p : Program} {l : Launch} {e : Env} {R : Room} {s : State} {m : MethodId} {args : Array Value} {below : List Frame} {meth : Method} {c : Code} {H : Heap} {locs : List Loc} {cells slots : Nat} {Q : State → Prop}
variable {cc : ByteArray} {pc : Nat} {ls : Array Slot} {rest : List Value} {nL : Nat} {E : cw_E} {A : Nat → Prop} {H0 : Heap}
theorem c1k_1_drawOne {D : cw_D} {D' : cw_D} {nc ns : Nat} (X : ww_C p m c cc nL s args RX1 lw_all) (hsz : ls.size = nL) (hK : cw_K E A s) (hR : cw_H E A D H) (hS : va_S A s.heap H locs) (hF : 24 ≤ R.frames) (hLo : 543 ≤ R.locals) (hc : cells + nc ≤ R.cells) (hs : slots + ns ≤ R.slots) (hM : cw_MetV l yX1_drawOne cX1_drawOne 4 23 520 E A [.ref E.1.1] D D' nc ns) (hrest : (rest.map fun v => v.category).sum ≤ 8) (hdg : decode cc pc = .ok (.invokevirtual 455, 3)) (kk : ∀ (H1 : Heap) (locs1 : List Loc), cw_H E A D' H1 → va_S A s.heap H1 locs1 → W p l e R s m args below meth c H1 locs1 (cells + nc) (slots + ns) Q (F0 m (pc + 3) ls (rest))) : W p l e R s m args below meth c H locs cells slots Q (F0 m pc ls (.ref E.1.1 :: rest)) :=
  va_callv (va_runV (C := RX1) (As := []) (rest := rest) (b := E.1.1) X hM (cwV 0 X.2.2.2.2 (lw_V q1445 q1447 qs52 q131 q1448) rfl rfl rfl (by decide +kernel) ⟨hF, hLo⟩) (cw_pV hK hR hS (cw_rcM hK hR)) rfl rfl hsz rfl (lv_room hrest) hdg ⟨hc, hs⟩) hS (fun q _ h => h) (fun q h => h) (fun u t H1 locs1 ht hvm hw hB hz1 hk1 hS1 => by rw [ht] at hB; exact kk H1 locs1 hB hS1)
end C_1_drawOne_k
set_option maxHeartbeats 4000000 in
set_option maxRecDepth 100000 in
theorem met1_drawOne (l : Launch) {E : cw_E} {A : Nat → Prop} (D : cw_D) (D' : cw_D) (nc ns : Nat) (hf : f1_drawOne D = some (D', nc, ns)) : cw_MetV l yX1_drawOne cX1_drawOne 4 23 520 E A [.ref E.1.1] D D' nc ns := by
  unfold f1_drawOne at hf
  refine cw_sVN (own := RX1) (by decide +kernel) [(0, .ref E.1.1)] ⟨Nat.le_of_ble_eq_true rfl, rfl⟩ ?_
  intro p e s m args below meth c Rm Q X hK hF hLo hC hin hend ls hl hR hS
  obtain ⟨hx, hb, hml, hown, hts⟩ := id X
  have hm9 : 0 ≤ nc ∧ 0 ≤ ns := ⟨Nat.zero_le _, Nat.zero_le _⟩
  refine lv_aload_n hx hb dX1_drawOne_0 rfl (lv_at hl 0 rfl) ?_
  refine lv_iconst (v := (4 : Int32)) hx hb dX1_drawOne_1 (by decide) ?_
  obtain ⟨r_1, D_1, h_1, hq⟩ := ww_b2S hf; replace hf := hq; clear hq
  refine c1c_1_draw X hl.1 hK hR hS (Nat.le_trans (Nat.le_of_ble_eq_true rfl) hF) (Nat.le_trans (Nat.le_of_ble_eq_true rfl) hLo) (Nat.le_trans hm9.1 hC.1) (Nat.le_trans hm9.2 hC.2) h_1 (cw_rest (Nat.le_of_ble_eq_true rfl)) dX1_drawOne_2 (fun H locs hR hS => ?_)
  refine lv_istore_n (lv' := [(1, .int r_1), (0, .ref E.1.1)]) hx hb dX1_drawOne_5 rfl hl (by decide) rfl (fun ls hl => ?_)
  refine lv_aload_n hx hb dX1_drawOne_6 rfl (lv_at hl 1 rfl) ?_
  refine lv_bipush (v := (100 : Int32)) hx hb dX1_drawOne_7 (by decide) ?_
  obtain ⟨r_2, D_2, h_2, hq⟩ := ww_b2S hf; replace hf := hq; clear hq
  refine c1c_1_draw X hl.1 hK hR hS (Nat.le_trans (Nat.le_of_ble_eq_true rfl) hF) (Nat.le_trans (Nat.le_of_ble_eq_true rfl) hLo) (Nat.le_trans hm9.1 hC.1) (Nat.le_trans hm9.2 hC.2) h_2 (cw_rest (Nat.le_of_ble_eq_true rfl)) dX1_drawOne_9 (fun H locs hR hS => ?_)
  refine lv_istore_n (lv' := [(2, .int r_2), (1, .int r_1), (0, .ref E.1.1)]) hx hb dX1_drawOne_12 rfl hl (by decide) rfl (fun ls hl => ?_)
  refine lv_aload_n hx hb dX1_drawOne_13 rfl (lv_at hl 2 rfl) ?_
  refine lv_bipush (v := (19 : Int32)) hx hb dX1_drawOne_14 (by decide) ?_
  obtain ⟨r_3, D_3, h_3, hq⟩ := ww_b2S hf; replace hf := hq; clear hq
  refine c1c_1_draw X hl.1 hK hR hS (Nat.le_trans (Nat.le_of_ble_eq_true rfl) hF) (Nat.le_trans (Nat.le_of_ble_eq_true rfl) hLo) (Nat.le_trans hm9.1 hC.1) (Nat.le_trans hm9.2 hC.2) h_3 (cw_rest (Nat.le_of_ble_eq_true rfl)) dX1_drawOne_16 (fun H locs hR hS => ?_)
  refine lv_bipush (v := (9 : Int32)) hx hb dX1_drawOne_19 (by decide) ?_
  refine lv_isub hx hb dX1_drawOne_21 ?_
  refine lv_istore_n (lv' := [(3, .int (r_3 - (9 : Int32))), (2, .int r_2), (1, .int r_1), (0, .ref E.1.1)]) hx hb dX1_drawOne_22 rfl hl (by decide) rfl (fun ls hl => ?_)
  refine lv_iload_n hx hb dX1_drawOne_23 rfl (lv_at hl 2 rfl) ?_
  refine lv_iconst (v := (3 : Int32)) hx hb dX1_drawOne_24 (by decide) ?_
  refine lv_icmp_ne (tgt := 36) hx hb dX1_drawOne_25 (by decide) (fun c_4 => ?_) (fun c_4 => ?_)
  · replace hf := ww_in hf c_4
    refine lv_aload_n hx hb dX1_drawOne_36 rfl (lv_at hl 3 rfl) ?_
    refine lv_aload_n hx hb dX1_drawOne_37 rfl (lv_at hl 3 rfl) ?_
    obtain ⟨r_5, h_5, hq⟩ := ww_bS hf; replace hf := hq; clear hq
    refine c1g_226 X hK hR h_5 dX1_drawOne_38 ?_
    refine lv_iload_n hx hb dX1_drawOne_41 rfl (lv_at hl 1 rfl) ?_
    obtain ⟨r_6, D_6, h_6, hq⟩ := ww_b2S hf; replace hf := hq; clear hq
    refine c1c_1_canLay (x1 := r_5) X hl.1 hK hR hS (Nat.le_trans (Nat.le_of_ble_eq_true rfl) hF) (Nat.le_trans (Nat.le_of_ble_eq_true rfl) hLo) (Nat.le_trans hm9.1 hC.1) (Nat.le_trans hm9.2 hC.2) h_6 (cw_rest (Nat.le_of_ble_eq_true rfl)) dX1_drawOne_42 (fun H locs hR hS => ?_)
    refine lv_if_ne (tgt := 49) hx hb dX1_drawOne_45 (by decide) (fun c_7 => ?_) (fun c_7 => ?_)
    · replace hf := ww_in hf c_7
      refine lv_iload_n hx hb dX1_drawOne_49 rfl (lv_at hl 2 rfl) ?_
      refine lv_iconst (v := (2 : Int32)) hx hb dX1_drawOne_50 (by decide) ?_
      refine lv_icmp_ne (tgt := 63) hx hb dX1_drawOne_51 (by decide) (fun c_8 => ?_) (fun c_8 => ?_)
      · replace hf := ww_in hf c_8
        refine lv_aload_n hx hb dX1_drawOne_63 rfl (lv_at hl 3 rfl) ?_
        refine lv_iload_n hx hb dX1_drawOne_64 rfl (lv_at hl 1 rfl) ?_
        refine lv_iload_n hx hb dX1_drawOne_65 rfl (lv_at hl 0 rfl) ?_
        obtain ⟨D_9, c_9, k_9, h_9, hq⟩ := ww_b3S hf; replace hf := hq; clear hq
        have hm9 : (0 + c_9) ≤ nc ∧ (0 + k_9) ≤ ns := by
          have e9 := hf
          simp only [Option.some.injEq, Prod.mk.injEq] at e9
          omega
        refine c1c_1_layNow X hl.1 hK hR hS (Nat.le_trans (Nat.le_of_ble_eq_true rfl) hF) (Nat.le_trans (Nat.le_of_ble_eq_true rfl) hLo) (Nat.le_trans hm9.1 hC.1) (Nat.le_trans hm9.2 hC.2) h_9 (cw_rest (Nat.le_of_ble_eq_true rfl)) dX1_drawOne_66 (fun H locs hR hS => ?_)
        exact hend dX1_drawOne_69 hf hR hS
      · replace hf := ww_ip hf c_8
        refine lv_aload_n hx hb dX1_drawOne_54 rfl (lv_at hl 3 rfl) ?_
        refine lv_iload_n hx hb dX1_drawOne_55 rfl (lv_at hl 1 rfl) ?_
        refine lv_iload_n hx hb dX1_drawOne_56 rfl (lv_at hl 0 rfl) ?_
        obtain ⟨D_10, c_10, k_10, h_10, hq⟩ := ww_b3S hf; replace hf := hq; clear hq
        have hm9 : (0 + c_10) ≤ nc ∧ (0 + k_10) ≤ ns := by
          have e9 := hf
          simp only [Option.some.injEq, Prod.mk.injEq] at e9
          omega
        refine c1c_1_addNow X hl.1 hK hR hS (Nat.le_trans (Nat.le_of_ble_eq_true rfl) hF) (Nat.le_trans (Nat.le_of_ble_eq_true rfl) hLo) (Nat.le_trans hm9.1 hC.1) (Nat.le_trans hm9.2 hC.2) h_10 (cw_rest (Nat.le_of_ble_eq_true rfl)) dX1_drawOne_57 (fun H locs hR hS => ?_)
        refine lv_goto (tgt := 69) hx hb dX1_drawOne_60 (by decide) ?_
        exact hend dX1_drawOne_69 hf hR hS
    · replace hf := ww_ip hf c_7
      exact hend dX1_drawOne_48 hf hR hS
  · replace hf := ww_ip hf c_4
    refine lv_aload_n hx hb dX1_drawOne_28 rfl (lv_at hl 3 rfl) ?_
    refine lv_iload_n hx hb dX1_drawOne_29 rfl (lv_at hl 1 rfl) ?_
    obtain ⟨D_11, c_11, k_11, h_11, hq⟩ := ww_b3S hf; replace hf := hq; clear hq
    have hm9 : (0 + c_11) ≤ nc ∧ (0 + k_11) ≤ ns := by
      have e9 := hf
      simp only [Option.some.injEq, Prod.mk.injEq] at e9
      omega
    refine c1c_1_takeNow X hl.1 hK hR hS (Nat.le_trans (Nat.le_of_ble_eq_true rfl) hF) (Nat.le_trans (Nat.le_of_ble_eq_true rfl) hLo) (Nat.le_trans hm9.1 hC.1) (Nat.le_trans hm9.2 hC.2) h_11 (cw_rest (Nat.le_of_ble_eq_true rfl)) dX1_drawOne_30 (fun H locs hR hS => ?_)
    refine lv_goto (tgt := 69) hx hb dX1_drawOne_33 (by decide) ?_
    exact hend dX1_drawOne_69 hf hR hS
section C_1_drawOne_c
variable {p : Program} {l : Launch} {e : Env} {R : Room} {s : State} {m : MethodId} {args : Array Value} {below : List Frame} {meth : Method} {c : Code} {H : Heap} {locs : List Loc} {cells slots : Nat} {Q : State → Prop}
variable {cc : ByteArray} {pc : Nat} {ls : Array Slot} {rest : List Value} {nL : Nat} {E : cw_E} {A : Nat → Prop} {H0 : Heap}
theorem c1c_1_drawOne {D : cw_D} {D' : cw_D} {nc ns : Nat} (X : ww_C p m c cc nL s args RX1 lw_all) (hsz : ls.size = nL) (hK : cw_K E A s) (hR : cw_H E A D H) (hS : va_S A s.heap H locs) (hF : 24 ≤ R.frames) (hLo : 543 ≤ R.locals) (hc : cells + nc ≤ R.cells) (hs : slots + ns ≤ R.slots) (hf : f1_drawOne D = some (D', nc, ns)) (hrest : (rest.map fun v => v.category).sum ≤ 8) (hdg : decode cc pc = .ok (.invokevirtual 455, 3)) (kk : ∀ (H1 : Heap) (locs1 : List Loc), cw_H E A D' H1 → va_S A s.heap H1 locs1 → W p l e R s m args below meth c H1 locs1 (cells + nc) (slots + ns) Q (F0 m (pc + 3) ls (rest))) : W p l e R s m args below meth c H locs cells slots Q (F0 m pc ls (.ref E.1.1 :: rest)) :=
  c1k_1_drawOne X hsz hK hR hS hF hLo hc hs (met1_drawOne l _ _ _ _ hf) hrest hdg kk
end C_1_drawOne_c
noncomputable def f1_draws_b1c (y1 : Int32) (y2 : Int32) (y5 : Int32) (D_6 : cw_D) (c_1b : Nat) (k_1b : Nat) (x6 : Int32) : Option ((cw_D × Nat × Nat × Int32) ⊕ (Int32 × cw_D × Nat × Nat)) :=
  if y2 ≤ x6 then ww_x (ww_b2 (f1_ends D_6 y1 y5) (fun r_8 D_8 => some (r_8, D_8, c_1b, k_1b))) else ww_b3 (f1_drawOne D_6) (fun D_9 c_9 k_9 => some (.inl (D_9, (c_1b + c_9), (k_1b + k_9), (x6 + (1 : Int32)))))
noncomputable def f1_draws_b1 (y1 : Int32) (y2 : Int32) (y5 : Int32) : (cw_D × Nat × Nat × Int32) → Option ((cw_D × Nat × Nat × Int32) ⊕ (Int32 × cw_D × Nat × Nat)) := fun s9 => f1_draws_b1c y1 y2 y5 s9.1 s9.2.1 s9.2.2.1 s9.2.2.2
noncomputable def f1_draws (D : cw_D) (x1 : Int32) (x2 : Int32) (x3 : Int64) : Option (Int32 × cw_D × Nat × Nat) :=
  ww_b (f1_in x2 (1 : Int32) (30 : Int32)) (fun r_1 => ww_b (f1_whyNot D x1 r_1) (fun r_2 => ww_b2 (f1_isRefused D r_2) (fun r_3 D_3 => if r_3 = 0 then ww_b4 (f1_begins (cw_sL D_3 x3) x1) (fun r_5 D_5 c_5 k_5 => ww_U (f1_draws_b1 x1 x2 r_5) (D_5, (0 + c_5), (0 + k_5), (0 : Int32))) else some ((-1 : Int32), D_3, 0, 0))))
set_option maxHeartbeats 4000000 in
set_option maxRecDepth 100000 in
theorem met1_draws (l : Launch) {E : cw_E} {A : Nat → Prop} (D : cw_D) (x1 : Int32) (x2 : Int32) (x3 : Int64) (r : Int32) (D' : cw_D) (nc ns : Nat) (hf : f1_draws D x1 x2 x3 = some (r, D', nc, ns)) : cw_MetI l yX1_draws cX1_draws 7 (some Jvm.ClassFile.FieldType.int) 24 543 E A [.ref E.1.1, .int x1, .int x2, .long x3] D D' r nc ns := by
  unfold f1_draws at hf
  refine cw_sIN (own := RX1) (by decide +kernel) [(0, .ref E.1.1), (1, .int x1), (2, .int x2), (3, .long x3)] ⟨Nat.le_of_ble_eq_true rfl, rfl⟩ ?_
  intro p e s m args below meth c Rm Q X hK hF hLo hC hin hend ls hl hR hS
  obtain ⟨hx, hb, hml, hown, hts⟩ := id X
  have hm9 : 0 ≤ nc ∧ 0 ≤ ns := ⟨Nat.zero_le _, Nat.zero_le _⟩
  refine lv_aload_n hx hb dX1_draws_0 rfl (lv_at hl 0 rfl) ?_
  refine lv_aload_n hx hb dX1_draws_1 rfl (lv_at hl 0 rfl) ?_
  refine lv_iload_n hx hb dX1_draws_2 rfl (lv_at hl 1 rfl) ?_
  refine lv_iload_n hx hb dX1_draws_3 rfl (lv_at hl 2 rfl) ?_
  refine lv_iconst (v := (1 : Int32)) hx hb dX1_draws_4 (by decide) ?_
  refine lv_bipush (v := (30 : Int32)) hx hb dX1_draws_5 (by decide) ?_
  obtain ⟨r_1, h_1, hq⟩ := ww_bS hf; replace hf := hq; clear hq
  refine c1c_1_in X hl.1 (Nat.le_trans (Nat.le_of_ble_eq_true rfl) hF) (Nat.le_trans (Nat.le_of_ble_eq_true rfl) hLo) (Nat.le_trans hm9.1 hC.1) (Nat.le_trans hm9.2 hC.2) h_1 (cw_rest (Nat.le_of_ble_eq_true rfl)) dX1_draws_7 ?_
  obtain ⟨r_2, h_2, hq⟩ := ww_bS hf; replace hf := hq; clear hq
  refine c1c_1_whyNot X hl.1 hK hR hS (Nat.le_trans (Nat.le_of_ble_eq_true rfl) hF) (Nat.le_trans (Nat.le_of_ble_eq_true rfl) hLo) (Nat.le_trans hm9.1 hC.1) (Nat.le_trans hm9.2 hC.2) h_2 (cw_rest (Nat.le_of_ble_eq_true rfl)) dX1_draws_10 (fun H locs hR hS => ?_)
  obtain ⟨r_3, D_3, h_3, hq⟩ := ww_b2S hf; replace hf := hq; clear hq
  refine c1c_1_isRefused X hl.1 hK hR hS (Nat.le_trans (Nat.le_of_ble_eq_true rfl) hF) (Nat.le_trans (Nat.le_of_ble_eq_true rfl) hLo) (Nat.le_trans hm9.1 hC.1) (Nat.le_trans hm9.2 hC.2) h_3 (cw_rest (Nat.le_of_ble_eq_true rfl)) dX1_draws_13 (fun H locs hR hS => ?_)
  refine lv_if_eq (tgt := 21) hx hb dX1_draws_16 (by decide) (fun c_4 => ?_) (fun c_4 => ?_)
  · replace hf := ww_ip hf c_4
    refine lv_aload_n hx hb dX1_draws_21 rfl (lv_at hl 0 rfl) ?_
    refine lv_lload_n hx hb dX1_draws_22 rfl (lv_at hl 3 rfl) ?_
    refine c1p_444 X hK hR hS dX1_draws_23 (fun H locs hR hS => ?_)
    refine lv_aload_n hx hb dX1_draws_26 rfl (lv_at hl 0 rfl) ?_
    refine lv_iload_n hx hb dX1_draws_27 rfl (lv_at hl 1 rfl) ?_
    obtain ⟨r_5, D_5, c_5, k_5, h_5, hq⟩ := ww_b4S hf; replace hf := hq; clear hq
    have hm9 : (0 + c_5) ≤ nc ∧ (0 + k_5) ≤ ns := by
      have hL_1 : ∀ s9 : cw_D × Nat × Nat × Int32, ww_U (f1_draws_b1 x1 x2 r_5) s9 = some (r, D', nc, ns) → s9.2.1 ≤ nc ∧ s9.2.2.1 ≤ ns := by
        clear hf
        refine ww_ind _ (r, D', nc, ns) ?_
        intro s9 z_1 hf hz_1
        obtain ⟨D_6, c_1b, k_1b, x6⟩ := s9
        replace hf : f1_draws_b1c x1 x2 r_5 D_6 c_1b k_1b x6 = some z_1 := hf
        unfold f1_draws_b1c at hf
        show c_1b ≤ nc ∧ k_1b ≤ ns
        refine ww_by (x2 ≤ x6) (fun c_7 => ?_) (fun c_7 => ?_)
        · replace hf := ww_ip hf c_7
          replace hf := ww_xK hf hz_1
          obtain ⟨r_8, D_8, h_8, hq⟩ := ww_b2S hf; replace hf := hq; clear hq
          have e9 := hf
          simp only [Option.some.injEq, Prod.mk.injEq] at e9
          omega
        · replace hf := ww_in hf c_7
          obtain ⟨D_9, c_9, k_9, h_9, hq⟩ := ww_b3S hf; replace hf := hq; clear hq
          have e9 := ww_lK hf hz_1
          try dsimp only at e9
          omega
      have e9 := hL_1 (D_5, (0 + c_5), (0 + k_5), (0 : Int32)) hf
      try dsimp only at e9
      omega
    refine c1c_1_begins X hl.1 hK hR hS (Nat.le_trans (Nat.le_of_ble_eq_true rfl) hF) (Nat.le_trans (Nat.le_of_ble_eq_true rfl) hLo) (Nat.le_trans hm9.1 hC.1) (Nat.le_trans hm9.2 hC.2) h_5 (cw_rest (Nat.le_of_ble_eq_true rfl)) dX1_draws_28 (fun H locs hR hS => ?_)
    refine lv_istore (lv' := [(5, .int r_5), (0, .ref E.1.1), (1, .int x1), (2, .int x2), (3, .long x3)]) hx hb dX1_draws_31 hl (by decide) rfl (fun ls hl => ?_)
    refine lv_iconst (v := (0 : Int32)) hx hb dX1_draws_33 (by decide) ?_
    refine lv_istore (lv' := [(6, .int (0 : Int32)), (5, .int r_5), (0, .ref E.1.1), (1, .int x1), (2, .int x2), (3, .long x3)]) hx hb dX1_draws_34 hl (by decide) rfl (fun ls hl => ?_)
    have hL_1 : ∀ s9 : cw_D × Nat × Nat × Int32, ww_U (f1_draws_b1 x1 x2 r_5) s9 = some (r, D', nc, ns) → (s9.2.1 ≤ nc ∧ s9.2.2.1 ≤ ns) ∧ (∀ (H : Heap) (locs : List Loc) (ls : Array Slot), cw_H E A s9.1 H → va_S A s.heap H locs → lv_has ls 7 [(0, .ref E.1.1), (1, .int x1), (2, .int x2), (5, .int r_5), (6, .int s9.2.2.2)] → W p l e Rm s m args below meth c H locs s9.2.1 s9.2.2.1 Q (F0 m 36 ls [])) := by
      clear hf
      refine ww_ind _ (r, D', nc, ns) ?_
      intro s9 z_1 hf hz_1
      obtain ⟨D_6, c_1b, k_1b, x6⟩ := s9
      replace hf : f1_draws_b1c x1 x2 r_5 D_6 c_1b k_1b x6 = some z_1 := hf
      unfold f1_draws_b1c at hf
      have hm9 : c_1b ≤ nc ∧ k_1b ≤ ns := by
        show c_1b ≤ nc ∧ k_1b ≤ ns
        refine ww_by (x2 ≤ x6) (fun c_7 => ?_) (fun c_7 => ?_)
        · replace hf := ww_ip hf c_7
          replace hf := ww_xK hf hz_1
          obtain ⟨r_8, D_8, h_8, hq⟩ := ww_b2S hf; replace hf := hq; clear hq
          have e9 := hf
          simp only [Option.some.injEq, Prod.mk.injEq] at e9
          omega
        · replace hf := ww_in hf c_7
          obtain ⟨D_9, c_9, k_9, h_9, hq⟩ := ww_b3S hf; replace hf := hq; clear hq
          have e9 := (ww_lK hf hz_1).1
          try dsimp only at e9
          omega
      refine ⟨hm9, ?_⟩
      try clear hl
      try clear hS
      try clear hR
      intro H locs ls hR hS hl
      replace hR : cw_H E A D_6 H := hR
      replace hl : lv_has ls 7 [(0, .ref E.1.1), (1, .int x1), (2, .int x2), (5, .int r_5), (6, .int x6)] := hl
      show W p l e Rm s m args below meth c H locs c_1b k_1b Q _
      refine lv_iload hx hb dX1_draws_36 (lv_at hl 4 rfl) ?_
      refine lv_iload_n hx hb dX1_draws_38 rfl (lv_at hl 2 rfl) ?_
      refine lv_icmp_ge (tgt := 52) hx hb dX1_draws_39 (by decide) (fun c_7 => ?_) (fun c_7 => ?_)
      · replace hf := ww_ip hf c_7
        replace hf := ww_xK hf hz_1
        refine lv_aload_n hx hb dX1_draws_52 rfl (lv_at hl 0 rfl) ?_
        refine lv_iload_n hx hb dX1_draws_53 rfl (lv_at hl 1 rfl) ?_
        refine lv_iload hx hb dX1_draws_54 (lv_at hl 3 rfl) ?_
        obtain ⟨r_8, D_8, h_8, hq⟩ := ww_b2S hf; replace hf := hq; clear hq
        refine c1c_1_ends X hl.1 hK hR hS (Nat.le_trans (Nat.le_of_ble_eq_true rfl) hF) (Nat.le_trans (Nat.le_of_ble_eq_true rfl) hLo) (Nat.le_trans hm9.1 hC.1) (Nat.le_trans hm9.2 hC.2) h_8 (cw_rest (Nat.le_of_ble_eq_true rfl)) dX1_draws_56 (fun H locs hR hS => ?_)
        exact hend dX1_draws_59 rfl rfl hf hR hS
      · replace hf := ww_in hf c_7
        refine lv_aload_n hx hb dX1_draws_42 rfl (lv_at hl 0 rfl) ?_
        obtain ⟨D_9, c_9, k_9, h_9, hq⟩ := ww_b3S hf; replace hf := hq; clear hq
        have hm9 : (c_1b + c_9) ≤ nc ∧ (k_1b + k_9) ≤ ns := by
          have e9 := (ww_lK hf hz_1).1
          try dsimp only at e9
          omega
        refine c1c_1_drawOne X hl.1 hK hR hS (Nat.le_trans (Nat.le_of_ble_eq_true rfl) hF) (Nat.le_trans (Nat.le_of_ble_eq_true rfl) hLo) (Nat.le_trans hm9.1 hC.1) (Nat.le_trans hm9.2 hC.2) h_9 (cw_rest (Nat.le_of_ble_eq_true rfl)) dX1_draws_43 (fun H locs hR hS => ?_)
        refine lv_iinc (k := 4) (v := x6 + (1 : Int32)) (lv' := [(6, .int (x6 + (1 : Int32))), (0, .ref E.1.1), (1, .int x1), (2, .int x2), (5, .int r_5)]) hx hb dX1_draws_46 hl rfl rfl (by decide) rfl (fun ls hl => ?_)
        refine lv_goto (tgt := 36) hx hb dX1_draws_49 (by decide) ?_
        exact (ww_lK hf hz_1).2 _ _ _ hR hS (lv_sub hl [1, 2, 3, 4, 0] rfl)
    exact (hL_1 (D_5, (0 + c_5), (0 + k_5), (0 : Int32)) hf).2 _ _ _ hR hS (lv_sub hl [2, 3, 4, 1, 0] rfl)
  · replace hf := ww_in hf c_4
    refine lv_iconst (v := (-1 : Int32)) hx hb dX1_draws_19 (by decide) ?_
    exact hend dX1_draws_20 rfl rfl hf hR hS
noncomputable def f1_step (D : cw_D) (x1 : Int32) (x2 : Int32) (x3 : Int32) : Option (Int32) :=
  ww_b (f1_in x1 (0 : Int32) ((ww_F D.1 7) - (1 : Int32))) (fun r_1 => if r_1 = 0 then some (-1000000 : Int32) else ww_g (ww_i x1 5) (ww_b (f1_in x2 (0 : Int32) ((ww_X D.1 6 x1) - (1 : Int32))) (fun r_4 => if r_4 = 0 then some (-1000000 : Int32) else ww_b (f1_in x3 (0 : Int32) (3 : Int32)) (fun r_6 => if r_6 = 0 then some (-1000000 : Int32) else ww_g (ww_i (((4 : Int32) * (((16 : Int32) * x1) + x2)) + x3) 320) (some (ww_X D.1 5 (((4 : Int32) * (((16 : Int32) * x1) + x2)) + x3)))))))
set_option maxHeartbeats 4000000 in
set_option maxRecDepth 100000 in
theorem met1_step (l : Launch) {E : cw_E} {A : Nat → Prop} (D : cw_D) (x1 : Int32) (x2 : Int32) (x3 : Int32) (r : Int32) (hf : f1_step D x1 x2 x3 = some r) : cw_MetI l yX1_step cX1_step 4 (some Jvm.ClassFile.FieldType.int) 1 22 E A [.ref E.1.1, .int x1, .int x2, .int x3] D D r 0 0 := by
  unfold f1_step at hf
  refine cw_sIP (own := RX1) (by decide +kernel) [(0, .ref E.1.1), (1, .int x1), (2, .int x2), (3, .int x3)] ⟨Nat.le_of_ble_eq_true rfl, rfl⟩ ?_
  intro p e s m args below meth c Rm Q X hK hF hLo hin hend ls hl hR hS
  obtain ⟨hx, hb, hml, hown, hts⟩ := id X
  refine lv_iload_n hx hb dX1_step_0 rfl (lv_at hl 1 rfl) ?_
  refine lv_iconst (v := (0 : Int32)) hx hb dX1_step_1 (by decide) ?_
  refine lv_aload_n hx hb dX1_step_2 rfl (lv_at hl 0 rfl) ?_
  refine c1g_199 X hK hR dX1_step_3 ?_
  refine lv_iconst (v := (1 : Int32)) hx hb dX1_step_6 (by decide) ?_
  refine lv_isub hx hb dX1_step_7 ?_
  obtain ⟨r_1, h_1, hq⟩ := ww_bS hf; replace hf := hq; clear hq
  refine c1c_1_in X hl.1 (Nat.le_trans (Nat.le_of_ble_eq_true rfl) hF) (Nat.le_trans (Nat.le_of_ble_eq_true rfl) hLo) (Nat.zero_le _) (Nat.zero_le _) h_1 (cw_rest (Nat.le_of_ble_eq_true rfl)) dX1_step_8 ?_
  refine lv_if_eq (tgt := 57) hx hb dX1_step_11 (by decide) (fun c_2 => ?_) (fun c_2 => ?_)
  · replace hf := ww_ip hf c_2
    refine lv_ldc (v := (-1000000 : Int32)) hx hb hown (hts _ q420) dX1_step_57 ?_
    exact hend dX1_step_59 rfl rfl hf hR hS
  · replace hf := ww_in hf c_2
    refine lv_iload_n hx hb dX1_step_14 rfl (lv_at hl 2 rfl) ?_
    refine lv_iconst (v := (0 : Int32)) hx hb dX1_step_15 (by decide) ?_
    refine lv_aload_n hx hb dX1_step_16 rfl (lv_at hl 0 rfl) ?_
    refine c1g_51 X hK hR dX1_step_17 ?_
    refine lv_iload_n hx hb dX1_step_20 rfl (lv_at hl 1 rfl) ?_
    obtain ⟨h_3, hq⟩ := ww_gS hf; replace hf := hq; clear hq
    refine c1l_6 X hK hR h_3 dX1_step_21 ?_
    refine lv_iconst (v := (1 : Int32)) hx hb dX1_step_22 (by decide) ?_
    refine lv_isub hx hb dX1_step_23 ?_
    obtain ⟨r_4, h_4, hq⟩ := ww_bS hf; replace hf := hq; clear hq
    refine c1c_1_in X hl.1 (Nat.le_trans (Nat.le_of_ble_eq_true rfl) hF) (Nat.le_trans (Nat.le_of_ble_eq_true rfl) hLo) (Nat.zero_le _) (Nat.zero_le _) h_4 (cw_rest (Nat.le_of_ble_eq_true rfl)) dX1_step_24 ?_
    refine lv_if_eq (tgt := 57) hx hb dX1_step_27 (by decide) (fun c_5 => ?_) (fun c_5 => ?_)
    · replace hf := ww_ip hf c_5
      refine lv_ldc (v := (-1000000 : Int32)) hx hb hown (hts _ q420) dX1_step_57 ?_
      exact hend dX1_step_59 rfl rfl hf hR hS
    · replace hf := ww_in hf c_5
      refine lv_iload_n hx hb dX1_step_30 rfl (lv_at hl 3 rfl) ?_
      refine lv_iconst (v := (0 : Int32)) hx hb dX1_step_31 (by decide) ?_
      refine lv_iconst (v := (3 : Int32)) hx hb dX1_step_32 (by decide) ?_
      obtain ⟨r_6, h_6, hq⟩ := ww_bS hf; replace hf := hq; clear hq
      refine c1c_1_in X hl.1 (Nat.le_trans (Nat.le_of_ble_eq_true rfl) hF) (Nat.le_trans (Nat.le_of_ble_eq_true rfl) hLo) (Nat.zero_le _) (Nat.zero_le _) h_6 (cw_rest (Nat.le_of_ble_eq_true rfl)) dX1_step_33 ?_
      refine lv_if_eq (tgt := 57) hx hb dX1_step_36 (by decide) (fun c_7 => ?_) (fun c_7 => ?_)
      · replace hf := ww_ip hf c_7
        refine lv_ldc (v := (-1000000 : Int32)) hx hb hown (hts _ q420) dX1_step_57 ?_
        exact hend dX1_step_59 rfl rfl hf hR hS
      · replace hf := ww_in hf c_7
        refine lv_aload_n hx hb dX1_step_39 rfl (lv_at hl 0 rfl) ?_
        refine c1g_47 X hK hR dX1_step_40 ?_
        refine lv_iconst (v := (4 : Int32)) hx hb dX1_step_43 (by decide) ?_
        refine lv_bipush (v := (16 : Int32)) hx hb dX1_step_44 (by decide) ?_
        refine lv_iload_n hx hb dX1_step_46 rfl (lv_at hl 1 rfl) ?_
        refine lv_imul hx hb dX1_step_47 ?_
        refine lv_iload_n hx hb dX1_step_48 rfl (lv_at hl 2 rfl) ?_
        refine lv_iadd hx hb dX1_step_49 ?_
        refine lv_imul hx hb dX1_step_50 ?_
        refine lv_iload_n hx hb dX1_step_51 rfl (lv_at hl 3 rfl) ?_
        refine lv_iadd hx hb dX1_step_52 ?_
        obtain ⟨h_8, hq⟩ := ww_gS hf; replace hf := hq; clear hq
        refine c1l_5 X hK hR h_8 dX1_step_53 ?_
        refine lv_goto (tgt := 59) hx hb dX1_step_54 (by decide) ?_
        exact hend dX1_step_59 rfl rfl hf hR hS
noncomputable def f1_doStep_j2 (D : cw_D) (cf : Nat) (kf : Nat) (y1 : Int32) (y2 : Int32) (y3 : Int32) (y4 : Int32) (y5 : Int32) : Option (Int32 × cw_D × Nat × Nat) :=
  if y5 ≤ (4 : Int32) then ww_b4 (f1_begins D y1) (fun r_6 D_6 c_6 k_6 => if y5 = 0 then ww_b3 (f1_layNow D_6 y3 y4) (fun D_8 c_8 k_8 => ww_b2 (f1_ends D_8 y1 r_6) (fun r_9 D_9 => some ((1 : Int32), D_9, ((cf + c_6) + c_8), ((kf + k_6) + k_8)))) else if y5 = 1 then ww_b3 (f1_takeNow D_6 y3) (fun D_11 c_11 k_11 => ww_b2 (f1_ends D_11 y1 r_6) (fun r_12 D_12 => some ((1 : Int32), D_12, ((cf + c_6) + c_11), ((kf + k_6) + k_11)))) else if y5 = 2 then ww_b3 (f1_addNow D_6 y3 y4) (fun D_14 c_14 k_14 => ww_b2 (f1_ends D_14 y1 r_6) (fun r_15 D_15 => some ((1 : Int32), D_15, ((cf + c_6) + c_14), ((kf + k_6) + k_14)))) else if y5 = 3 then ww_b3 (f1_cutNow D_6 y3 y4) (fun D_17 c_17 k_17 => ww_b2 (f1_ends D_17 y1 r_6) (fun r_18 D_18 => some ((1 : Int32), D_18, ((cf + c_6) + c_17), ((kf + k_6) + k_17)))) else ww_g (ww_i (y2 + (3 : Int32)) 320) (ww_b3 (f1_raiseNow D_6 y3 y4 (ww_X D_6.1 5 (y2 + (3 : Int32)))) (fun D_20 c_20 k_20 => ww_b2 (f1_ends D_20 y1 r_6) (fun r_21 D_21 => some ((1 : Int32), D_21, ((cf + c_6) + c_20), ((kf + k_6) + k_20)))))) else ww_b4 (f1_snapNow D y1) (fun r_22 D_22 c_22 k_22 => some ((1 : Int32), D_22, (cf + c_22), (kf + k_22)))
noncomputable def f1_doStep_j1 (cf : Nat) (kf : Nat) (y1 : Int32) (y2 : Int32) (y3 : Int32) (y4 : Int32) (y5 : Int32) (D_4 : cw_D) : Option (Int32 × cw_D × Nat × Nat) :=
  if y5 ≤ (4 : Int32) then f1_doStep_j2 D_4 cf kf y1 y2 y3 y4 y5 else ww_b (f1_isRoom D_4) (fun r_24 => if r_24 = 0 then some ((0 : Int32), D_4, cf, kf) else f1_doStep_j2 D_4 cf kf y1 y2 y3 y4 y5)
noncomputable def f1_doStep_j3 (D : cw_D) (cf : Nat) (kf : Nat) (y1 : Int32) (y2 : Int32) (y3 : Int32) (y4 : Int32) (y5 : Int32) : Option (Int32 × cw_D × Nat × Nat) :=
  ww_g (ww_i y1 4) (ww_b (some (ww_Y D.1 24 y1)) (fun r_26 => ww_b2 (f1_canLay D r_26 y3) (fun r_28 D_28 => if r_28 = 0 then some ((0 : Int32), D_28, cf, kf) else f1_doStep_j1 cf kf y1 y2 y3 y4 y5 D_28)))
noncomputable def f1_doStep (D : cw_D) (x1 : Int32) (x2 : Int32) : Option (Int32 × cw_D × Nat × Nat) :=
  ww_g (ww_i (x2 + (1 : Int32)) 320) (ww_g (ww_i (x2 + (2 : Int32)) 320) (ww_g (ww_i x2 320) (if (ww_X D.1 5 x2) = 0 then f1_doStep_j3 D 0 0 x1 x2 (ww_X D.1 5 (x2 + (1 : Int32))) (ww_X D.1 5 (x2 + (2 : Int32))) (ww_X D.1 5 x2) else if (ww_X D.1 5 x2) = (2 : Int32) then f1_doStep_j3 D 0 0 x1 x2 (ww_X D.1 5 (x2 + (1 : Int32))) (ww_X D.1 5 (x2 + (2 : Int32))) (ww_X D.1 5 x2) else f1_doStep_j1 0 0 x1 x2 (ww_X D.1 5 (x2 + (1 : Int32))) (ww_X D.1 5 (x2 + (2 : Int32))) (ww_X D.1 5 x2) D)))
section C_1_doStep_k
variable {p : Program} {l : Launch} {e : Env} {R : Room} {s : State} {m : MethodId} {args : Array Value} {below : List Frame} {meth : Method} {c : Code} {H : Heap} {locs : List Loc} {cells slots : Nat} {Q : State → Prop}
variable {cc : ByteArray} {pc : Nat} {ls : Array Slot} {rest : List Value} {nL : Nat} {E : cw_E} {A : Nat → Prop} {H0 : Heap}
theorem c1k_1_doStep {D : cw_D} {x1 : Int32} {x2 : Int32} {r : Int32} {D' : cw_D} {nc ns : Nat} (X : ww_C p m c cc nL s args RX1 lw_all) (hsz : ls.size = nL) (hK : cw_K E A s) (hR : cw_H E A D H) (hS : va_S A s.heap H locs) (hF : 25 ≤ R.frames) (hLo : 571 ≤ R.locals) (hc : cells + nc ≤ R.cells) (hs : slots + ns ≤ R.slots) (hM : cw_MetI l yX1_doStep cX1_doStep 7 (some Jvm.ClassFile.FieldType.boolean) 24 545 E A [.ref E.1.1, .int x1, .int x2] D D' r nc ns) (hrest : (rest.map fun v => v.category).sum ≤ 8) (hdg : decode cc pc = .ok (.invokevirtual 458, 3)) (kk : ∀ (H1 : Heap) (locs1 : List Loc), cw_H E A D' H1 → va_S A s.heap H1 locs1 → W p l e R s m args below meth c H1 locs1 (cells + nc) (slots + ns) Q (F0 m (pc + 3) ls (.int r :: rest))) : W p l e R s m args below meth c H locs cells slots Q (F0 m pc ls (.int x2 :: .int x1 :: .ref E.1.1 :: rest)) :=
  va_calli (va_runV (C := RX1) (As := [.int x1, .int x2]) (rest := rest) (b := E.1.1) X hM (cwV 2 X.2.2.2.2 (lw_V q1463 q1465 qs54 q131 q1466) rfl rfl rfl (by decide +kernel) ⟨hF, hLo⟩) (cw_pV hK hR hS (cw_rcM hK hR)) rfl rfl hsz rfl (lv_room hrest) hdg ⟨hc, hs⟩) hS (fun q _ h => h) (fun q h => h) (fun r' u t H1 locs1 ht hvm hw hB hz1 hk1 hS1 => by subst hw; rw [ht] at hB; exact kk H1 locs1 hB hS1)
end C_1_doStep_k
set_option maxHeartbeats 4000000 in
set_option maxRecDepth 100000 in
theorem met1_doStep (l : Launch) {E : cw_E} {A : Nat → Prop} (D : cw_D) (x1 : Int32) (x2 : Int32) (r : Int32) (D' : cw_D) (nc ns : Nat) (hf : f1_doStep D x1 x2 = some (r, D', nc, ns)) : cw_MetI l yX1_doStep cX1_doStep 7 (some Jvm.ClassFile.FieldType.boolean) 24 545 E A [.ref E.1.1, .int x1, .int x2] D D' r nc ns := by
  unfold f1_doStep at hf
  refine cw_sIN (own := RX1) (by decide +kernel) [(0, .ref E.1.1), (1, .int x1), (2, .int x2)] ⟨Nat.le_of_ble_eq_true rfl, rfl⟩ ?_
  intro p e s m args below meth c Rm Q X hK hF hLo hC hin hend ls hl hR hS
  obtain ⟨hx, hb, hml, hown, hts⟩ := id X
  have hm9 : 0 ≤ nc ∧ 0 ≤ ns := ⟨Nat.zero_le _, Nat.zero_le _⟩
  refine lv_aload_n hx hb dX1_doStep_0 rfl (lv_at hl 0 rfl) ?_
  refine c1g_47 X hK hR dX1_doStep_1 ?_
  refine lv_iload_n hx hb dX1_doStep_4 rfl (lv_at hl 2 rfl) ?_
  refine lv_iconst (v := (1 : Int32)) hx hb dX1_doStep_5 (by decide) ?_
  refine lv_iadd hx hb dX1_doStep_6 ?_
  obtain ⟨h_1, hq⟩ := ww_gS hf; replace hf := hq; clear hq
  refine c1l_5 X hK hR h_1 dX1_doStep_7 ?_
  refine lv_istore_n (lv' := [(3, .int (ww_X D.1 5 (x2 + (1 : Int32)))), (0, .ref E.1.1), (1, .int x1), (2, .int x2)]) hx hb dX1_doStep_8 rfl hl (by decide) rfl (fun ls hl => ?_)
  refine lv_aload_n hx hb dX1_doStep_9 rfl (lv_at hl 1 rfl) ?_
  refine c1g_47 X hK hR dX1_doStep_10 ?_
  refine lv_iload_n hx hb dX1_doStep_13 rfl (lv_at hl 3 rfl) ?_
  refine lv_iconst (v := (2 : Int32)) hx hb dX1_doStep_14 (by decide) ?_
  refine lv_iadd hx hb dX1_doStep_15 ?_
  obtain ⟨h_2, hq⟩ := ww_gS hf; replace hf := hq; clear hq
  refine c1l_5 X hK hR h_2 dX1_doStep_16 ?_
  refine lv_istore (lv' := [(4, .int (ww_X D.1 5 (x2 + (2 : Int32)))), (3, .int (ww_X D.1 5 (x2 + (1 : Int32)))), (0, .ref E.1.1), (1, .int x1), (2, .int x2)]) hx hb dX1_doStep_17 hl (by decide) rfl (fun ls hl => ?_)
  refine lv_aload_n hx hb dX1_doStep_19 rfl (lv_at hl 2 rfl) ?_
  refine c1g_47 X hK hR dX1_doStep_20 ?_
  refine lv_iload_n hx hb dX1_doStep_23 rfl (lv_at hl 4 rfl) ?_
  obtain ⟨h_3, hq⟩ := ww_gS hf; replace hf := hq; clear hq
  refine c1l_5 X hK hR h_3 dX1_doStep_24 ?_
  refine lv_istore (lv' := [(5, .int (ww_X D.1 5 x2)), (4, .int (ww_X D.1 5 (x2 + (2 : Int32)))), (3, .int (ww_X D.1 5 (x2 + (1 : Int32)))), (0, .ref E.1.1), (1, .int x1), (2, .int x2)]) hx hb dX1_doStep_25 hl (by decide) rfl (fun ls hl => ?_)
  refine lv_iload hx hb dX1_doStep_27 (lv_at hl 0 rfl) ?_
  have hj_1 : ∀ (D_4 : cw_D), f1_doStep_j1 0 0 x1 x2 (ww_X D.1 5 (x2 + (1 : Int32))) (ww_X D.1 5 (x2 + (2 : Int32))) (ww_X D.1 5 x2) D_4 = some (r, D', nc, ns) → (0 ≤ nc ∧ 0 ≤ ns) ∧ (∀ (H : Heap) (locs : List Loc) (ls : Array Slot), cw_H E A D_4 H → va_S A s.heap H locs → lv_has ls 7 [(0, .ref E.1.1), (1, .int x1), (2, .int x2), (3, .int (ww_X D.1 5 (x2 + (1 : Int32)))), (4, .int (ww_X D.1 5 (x2 + (2 : Int32)))), (5, .int (ww_X D.1 5 x2))] → W p l e Rm s m args below meth c H locs 0 0 Q (F0 m 52 ls [])) := by
    clear hf
    intro D_4 hf
    unfold f1_doStep_j1 at hf
    have hm9 : 0 ≤ nc ∧ 0 ≤ ns := by
      have hj_2 : f1_doStep_j2 D_4 0 0 x1 x2 (ww_X D.1 5 (x2 + (1 : Int32))) (ww_X D.1 5 (x2 + (2 : Int32))) (ww_X D.1 5 x2) = some (r, D', nc, ns) → 0 ≤ nc ∧ 0 ≤ ns := by
        clear hf
        intro  hf
        unfold f1_doStep_j2 at hf
        refine ww_by ((ww_X D.1 5 x2) ≤ (4 : Int32)) (fun c_5 => ?_) (fun c_5 => ?_)
        · replace hf := ww_ip hf c_5
          obtain ⟨r_6, D_6, c_6, k_6, h_6, hq⟩ := ww_b4S hf; replace hf := hq; clear hq
          refine ww_by ((ww_X D.1 5 x2) = 0) (fun c_7 => ?_) (fun c_7 => ?_)
          · replace hf := ww_ip hf c_7
            obtain ⟨D_8, c_8, k_8, h_8, hq⟩ := ww_b3S hf; replace hf := hq; clear hq
            obtain ⟨r_9, D_9, h_9, hq⟩ := ww_b2S hf; replace hf := hq; clear hq
            have e9 := hf
            simp only [Option.some.injEq, Prod.mk.injEq] at e9
            omega
          replace hf := ww_in hf c_7
          refine ww_by ((ww_X D.1 5 x2) = 1) (fun c_10 => ?_) (fun c_10 => ?_)
          · replace hf := ww_ip hf c_10
            obtain ⟨D_11, c_11, k_11, h_11, hq⟩ := ww_b3S hf; replace hf := hq; clear hq
            obtain ⟨r_12, D_12, h_12, hq⟩ := ww_b2S hf; replace hf := hq; clear hq
            have e9 := hf
            simp only [Option.some.injEq, Prod.mk.injEq] at e9
            omega
          replace hf := ww_in hf c_10
          refine ww_by ((ww_X D.1 5 x2) = 2) (fun c_13 => ?_) (fun c_13 => ?_)
          · replace hf := ww_ip hf c_13
            obtain ⟨D_14, c_14, k_14, h_14, hq⟩ := ww_b3S hf; replace hf := hq; clear hq
            obtain ⟨r_15, D_15, h_15, hq⟩ := ww_b2S hf; replace hf := hq; clear hq
            have e9 := hf
            simp only [Option.some.injEq, Prod.mk.injEq] at e9
            omega
          replace hf := ww_in hf c_13
          refine ww_by ((ww_X D.1 5 x2) = 3) (fun c_16 => ?_) (fun c_16 => ?_)
          · replace hf := ww_ip hf c_16
            obtain ⟨D_17, c_17, k_17, h_17, hq⟩ := ww_b3S hf; replace hf := hq; clear hq
            obtain ⟨r_18, D_18, h_18, hq⟩ := ww_b2S hf; replace hf := hq; clear hq
            have e9 := hf
            simp only [Option.some.injEq, Prod.mk.injEq] at e9
            omega
          replace hf := ww_in hf c_16
          obtain ⟨h_19, hq⟩ := ww_gS hf; replace hf := hq; clear hq
          obtain ⟨D_20, c_20, k_20, h_20, hq⟩ := ww_b3S hf; replace hf := hq; clear hq
          obtain ⟨r_21, D_21, h_21, hq⟩ := ww_b2S hf; replace hf := hq; clear hq
          have e9 := hf
          simp only [Option.some.injEq, Prod.mk.injEq] at e9
          omega
        · replace hf := ww_in hf c_5
          obtain ⟨r_22, D_22, c_22, k_22, h_22, hq⟩ := ww_b4S hf; replace hf := hq; clear hq
          have e9 := hf
          simp only [Option.some.injEq, Prod.mk.injEq] at e9
          omega
      refine ww_by ((ww_X D.1 5 x2) ≤ (4 : Int32)) (fun c_23 => ?_) (fun c_23 => ?_)
      · replace hf := ww_ip hf c_23
        have e9 := hj_2 hf
        omega
      · replace hf := ww_in hf c_23
        obtain ⟨r_24, h_24, hq⟩ := ww_bS hf; replace hf := hq; clear hq
        refine ww_by (r_24 = 0) (fun c_25 => ?_) (fun c_25 => ?_)
        · replace hf := ww_ip hf c_25
          have e9 := hf
          simp only [Option.some.injEq, Prod.mk.injEq] at e9
          omega
        · replace hf := ww_in hf c_25
          have e9 := hj_2 hf
          omega
    refine ⟨hm9, ?_⟩
    try clear hl
    try clear hS
    try clear hR
    intro H locs ls hR hS hl
    refine lv_iload hx hb dX1_doStep_52 (lv_at hl 5 rfl) ?_
    refine lv_iconst (v := (4 : Int32)) hx hb dX1_doStep_54 (by decide) ?_
    have hj_2 : f1_doStep_j2 D_4 0 0 x1 x2 (ww_X D.1 5 (x2 + (1 : Int32))) (ww_X D.1 5 (x2 + (2 : Int32))) (ww_X D.1 5 x2) = some (r, D', nc, ns) → (0 ≤ nc ∧ 0 ≤ ns) ∧ (∀ (H : Heap) (locs : List Loc) (ls : Array Slot), cw_H E A D_4 H → va_S A s.heap H locs → lv_has ls 7 [(0, .ref E.1.1), (1, .int x1), (2, .int x2), (3, .int (ww_X D.1 5 (x2 + (1 : Int32)))), (4, .int (ww_X D.1 5 (x2 + (2 : Int32)))), (5, .int (ww_X D.1 5 x2))] → W p l e Rm s m args below meth c H locs 0 0 Q (F0 m 67 ls [])) := by
      clear hf
      intro  hf
      unfold f1_doStep_j2 at hf
      have hm9 : 0 ≤ nc ∧ 0 ≤ ns := by
        refine ww_by ((ww_X D.1 5 x2) ≤ (4 : Int32)) (fun c_5 => ?_) (fun c_5 => ?_)
        · replace hf := ww_ip hf c_5
          obtain ⟨r_6, D_6, c_6, k_6, h_6, hq⟩ := ww_b4S hf; replace hf := hq; clear hq
          refine ww_by ((ww_X D.1 5 x2) = 0) (fun c_7 => ?_) (fun c_7 => ?_)
          · replace hf := ww_ip hf c_7
            obtain ⟨D_8, c_8, k_8, h_8, hq⟩ := ww_b3S hf; replace hf := hq; clear hq
            obtain ⟨r_9, D_9, h_9, hq⟩ := ww_b2S hf; replace hf := hq; clear hq
            have e9 := hf
            simp only [Option.some.injEq, Prod.mk.injEq] at e9
            omega
          replace hf := ww_in hf c_7
          refine ww_by ((ww_X D.1 5 x2) = 1) (fun c_10 => ?_) (fun c_10 => ?_)
          · replace hf := ww_ip hf c_10
            obtain ⟨D_11, c_11, k_11, h_11, hq⟩ := ww_b3S hf; replace hf := hq; clear hq
            obtain ⟨r_12, D_12, h_12, hq⟩ := ww_b2S hf; replace hf := hq; clear hq
            have e9 := hf
            simp only [Option.some.injEq, Prod.mk.injEq] at e9
            omega
          replace hf := ww_in hf c_10
          refine ww_by ((ww_X D.1 5 x2) = 2) (fun c_13 => ?_) (fun c_13 => ?_)
          · replace hf := ww_ip hf c_13
            obtain ⟨D_14, c_14, k_14, h_14, hq⟩ := ww_b3S hf; replace hf := hq; clear hq
            obtain ⟨r_15, D_15, h_15, hq⟩ := ww_b2S hf; replace hf := hq; clear hq
            have e9 := hf
            simp only [Option.some.injEq, Prod.mk.injEq] at e9
            omega
          replace hf := ww_in hf c_13
          refine ww_by ((ww_X D.1 5 x2) = 3) (fun c_16 => ?_) (fun c_16 => ?_)
          · replace hf := ww_ip hf c_16
            obtain ⟨D_17, c_17, k_17, h_17, hq⟩ := ww_b3S hf; replace hf := hq; clear hq
            obtain ⟨r_18, D_18, h_18, hq⟩ := ww_b2S hf; replace hf := hq; clear hq
            have e9 := hf
            simp only [Option.some.injEq, Prod.mk.injEq] at e9
            omega
          replace hf := ww_in hf c_16
          obtain ⟨h_19, hq⟩ := ww_gS hf; replace hf := hq; clear hq
          obtain ⟨D_20, c_20, k_20, h_20, hq⟩ := ww_b3S hf; replace hf := hq; clear hq
          obtain ⟨r_21, D_21, h_21, hq⟩ := ww_b2S hf; replace hf := hq; clear hq
          have e9 := hf
          simp only [Option.some.injEq, Prod.mk.injEq] at e9
          omega
        · replace hf := ww_in hf c_5
          obtain ⟨r_22, D_22, c_22, k_22, h_22, hq⟩ := ww_b4S hf; replace hf := hq; clear hq
          have e9 := hf
          simp only [Option.some.injEq, Prod.mk.injEq] at e9
          omega
      refine ⟨hm9, ?_⟩
      try clear hl
      try clear hS
      try clear hR
      intro H locs ls hR hS hl
      refine lv_iload hx hb dX1_doStep_67 (lv_at hl 5 rfl) ?_
      refine lv_iconst (v := (4 : Int32)) hx hb dX1_doStep_69 (by decide) ?_
      refine lv_icmp_le (tgt := 81) hx hb dX1_doStep_70 (by decide) (fun c_5 => ?_) (fun c_5 => ?_)
      · replace hf := ww_ip hf c_5
        refine lv_aload_n hx hb dX1_doStep_81 rfl (lv_at hl 0 rfl) ?_
        refine lv_iload_n hx hb dX1_doStep_82 rfl (lv_at hl 1 rfl) ?_
        obtain ⟨r_6, D_6, c_6, k_6, h_6, hq⟩ := ww_b4S hf; replace hf := hq; clear hq
        have hm9 : (0 + c_6) ≤ nc ∧ (0 + k_6) ≤ ns := by
          refine ww_by ((ww_X D.1 5 x2) = 0) (fun c_7 => ?_) (fun c_7 => ?_)
          · replace hf := ww_ip hf c_7
            obtain ⟨D_8, c_8, k_8, h_8, hq⟩ := ww_b3S hf; replace hf := hq; clear hq
            obtain ⟨r_9, D_9, h_9, hq⟩ := ww_b2S hf; replace hf := hq; clear hq
            have e9 := hf
            simp only [Option.some.injEq, Prod.mk.injEq] at e9
            omega
          replace hf := ww_in hf c_7
          refine ww_by ((ww_X D.1 5 x2) = 1) (fun c_10 => ?_) (fun c_10 => ?_)
          · replace hf := ww_ip hf c_10
            obtain ⟨D_11, c_11, k_11, h_11, hq⟩ := ww_b3S hf; replace hf := hq; clear hq
            obtain ⟨r_12, D_12, h_12, hq⟩ := ww_b2S hf; replace hf := hq; clear hq
            have e9 := hf
            simp only [Option.some.injEq, Prod.mk.injEq] at e9
            omega
          replace hf := ww_in hf c_10
          refine ww_by ((ww_X D.1 5 x2) = 2) (fun c_13 => ?_) (fun c_13 => ?_)
          · replace hf := ww_ip hf c_13
            obtain ⟨D_14, c_14, k_14, h_14, hq⟩ := ww_b3S hf; replace hf := hq; clear hq
            obtain ⟨r_15, D_15, h_15, hq⟩ := ww_b2S hf; replace hf := hq; clear hq
            have e9 := hf
            simp only [Option.some.injEq, Prod.mk.injEq] at e9
            omega
          replace hf := ww_in hf c_13
          refine ww_by ((ww_X D.1 5 x2) = 3) (fun c_16 => ?_) (fun c_16 => ?_)
          · replace hf := ww_ip hf c_16
            obtain ⟨D_17, c_17, k_17, h_17, hq⟩ := ww_b3S hf; replace hf := hq; clear hq
            obtain ⟨r_18, D_18, h_18, hq⟩ := ww_b2S hf; replace hf := hq; clear hq
            have e9 := hf
            simp only [Option.some.injEq, Prod.mk.injEq] at e9
            omega
          replace hf := ww_in hf c_16
          obtain ⟨h_19, hq⟩ := ww_gS hf; replace hf := hq; clear hq
          obtain ⟨D_20, c_20, k_20, h_20, hq⟩ := ww_b3S hf; replace hf := hq; clear hq
          obtain ⟨r_21, D_21, h_21, hq⟩ := ww_b2S hf; replace hf := hq; clear hq
          have e9 := hf
          simp only [Option.some.injEq, Prod.mk.injEq] at e9
          omega
        refine c1c_1_begins X hl.1 hK hR hS (Nat.le_trans (Nat.le_of_ble_eq_true rfl) hF) (Nat.le_trans (Nat.le_of_ble_eq_true rfl) hLo) (Nat.le_trans hm9.1 hC.1) (Nat.le_trans hm9.2 hC.2) h_6 (cw_rest (Nat.le_of_ble_eq_true rfl)) dX1_doStep_83 (fun H locs hR hS => ?_)
        refine lv_istore (lv' := [(6, .int r_6), (0, .ref E.1.1), (1, .int x1), (2, .int x2), (3, .int (ww_X D.1 5 (x2 + (1 : Int32)))), (4, .int (ww_X D.1 5 (x2 + (2 : Int32)))), (5, .int (ww_X D.1 5 x2))]) hx hb dX1_doStep_86 hl (by decide) rfl (fun ls hl => ?_)
        refine lv_iload hx hb dX1_doStep_88 (lv_at hl 6 rfl) ?_
        refine ww_by ((ww_X D.1 5 x2) = 0) (fun c_7 => ?_) (fun c_7 => ?_)
        · replace hf := ww_ip hf c_7
          refine ww_tin (k := 0) (off := 30) (tgt := 120) hx hb dX1_doStep_90 c_7 (by decide) (by decide) (by decide) (by decide) ?_
          refine lv_aload_n hx hb dX1_doStep_120 rfl (lv_at hl 1 rfl) ?_
          refine lv_iload_n hx hb dX1_doStep_121 rfl (lv_at hl 4 rfl) ?_
          refine lv_iload hx hb dX1_doStep_122 (lv_at hl 5 rfl) ?_
          obtain ⟨D_8, c_8, k_8, h_8, hq⟩ := ww_b3S hf; replace hf := hq; clear hq
          have hm9 : ((0 + c_6) + c_8) ≤ nc ∧ ((0 + k_6) + k_8) ≤ ns := by
            obtain ⟨r_9, D_9, h_9, hq⟩ := ww_b2S hf; replace hf := hq; clear hq
            have e9 := hf
            simp only [Option.some.injEq, Prod.mk.injEq] at e9
            omega
          refine c1c_1_layNow X hl.1 hK hR hS (Nat.le_trans (Nat.le_of_ble_eq_true rfl) hF) (Nat.le_trans (Nat.le_of_ble_eq_true rfl) hLo) (Nat.le_trans hm9.1 hC.1) (Nat.le_trans hm9.2 hC.2) h_8 (cw_rest (Nat.le_of_ble_eq_true rfl)) dX1_doStep_124 (fun H locs hR hS => ?_)
          refine lv_goto (tgt := 173) hx hb dX1_doStep_127 (by decide) ?_
          refine lv_aload_n hx hb dX1_doStep_173 rfl (lv_at hl 1 rfl) ?_
          refine lv_iload_n hx hb dX1_doStep_174 rfl (lv_at hl 2 rfl) ?_
          refine lv_iload hx hb dX1_doStep_175 (lv_at hl 0 rfl) ?_
          obtain ⟨r_9, D_9, h_9, hq⟩ := ww_b2S hf; replace hf := hq; clear hq
          refine c1c_1_ends X hl.1 hK hR hS (Nat.le_trans (Nat.le_of_ble_eq_true rfl) hF) (Nat.le_trans (Nat.le_of_ble_eq_true rfl) hLo) (Nat.le_trans hm9.1 hC.1) (Nat.le_trans hm9.2 hC.2) h_9 (cw_rest (Nat.le_of_ble_eq_true rfl)) dX1_doStep_177 (fun H locs hR hS => ?_)
          refine lv_pop hx hb dX1_doStep_180 rfl ?_
          refine lv_iconst (v := (1 : Int32)) hx hb dX1_doStep_181 (by decide) ?_
          exact hend dX1_doStep_182 rfl (by decide) hf hR hS
        replace hf := ww_in hf c_7
        refine ww_by ((ww_X D.1 5 x2) = 1) (fun c_10 => ?_) (fun c_10 => ?_)
        · replace hf := ww_ip hf c_10
          refine ww_tin (k := 1) (off := 40) (tgt := 130) hx hb dX1_doStep_90 c_10 (by decide) (by decide) (by decide) (by decide) ?_
          refine lv_aload_n hx hb dX1_doStep_130 rfl (lv_at hl 1 rfl) ?_
          refine lv_iload_n hx hb dX1_doStep_131 rfl (lv_at hl 4 rfl) ?_
          obtain ⟨D_11, c_11, k_11, h_11, hq⟩ := ww_b3S hf; replace hf := hq; clear hq
          have hm9 : ((0 + c_6) + c_11) ≤ nc ∧ ((0 + k_6) + k_11) ≤ ns := by
            obtain ⟨r_12, D_12, h_12, hq⟩ := ww_b2S hf; replace hf := hq; clear hq
            have e9 := hf
            simp only [Option.some.injEq, Prod.mk.injEq] at e9
            omega
          refine c1c_1_takeNow X hl.1 hK hR hS (Nat.le_trans (Nat.le_of_ble_eq_true rfl) hF) (Nat.le_trans (Nat.le_of_ble_eq_true rfl) hLo) (Nat.le_trans hm9.1 hC.1) (Nat.le_trans hm9.2 hC.2) h_11 (cw_rest (Nat.le_of_ble_eq_true rfl)) dX1_doStep_132 (fun H locs hR hS => ?_)
          refine lv_goto (tgt := 173) hx hb dX1_doStep_135 (by decide) ?_
          refine lv_aload_n hx hb dX1_doStep_173 rfl (lv_at hl 1 rfl) ?_
          refine lv_iload_n hx hb dX1_doStep_174 rfl (lv_at hl 2 rfl) ?_
          refine lv_iload hx hb dX1_doStep_175 (lv_at hl 0 rfl) ?_
          obtain ⟨r_12, D_12, h_12, hq⟩ := ww_b2S hf; replace hf := hq; clear hq
          refine c1c_1_ends X hl.1 hK hR hS (Nat.le_trans (Nat.le_of_ble_eq_true rfl) hF) (Nat.le_trans (Nat.le_of_ble_eq_true rfl) hLo) (Nat.le_trans hm9.1 hC.1) (Nat.le_trans hm9.2 hC.2) h_12 (cw_rest (Nat.le_of_ble_eq_true rfl)) dX1_doStep_177 (fun H locs hR hS => ?_)
          refine lv_pop hx hb dX1_doStep_180 rfl ?_
          refine lv_iconst (v := (1 : Int32)) hx hb dX1_doStep_181 (by decide) ?_
          exact hend dX1_doStep_182 rfl (by decide) hf hR hS
        replace hf := ww_in hf c_10
        refine ww_by ((ww_X D.1 5 x2) = 2) (fun c_13 => ?_) (fun c_13 => ?_)
        · replace hf := ww_ip hf c_13
          refine ww_tin (k := 2) (off := 48) (tgt := 138) hx hb dX1_doStep_90 c_13 (by decide) (by decide) (by decide) (by decide) ?_
          refine lv_aload_n hx hb dX1_doStep_138 rfl (lv_at hl 1 rfl) ?_
          refine lv_iload_n hx hb dX1_doStep_139 rfl (lv_at hl 4 rfl) ?_
          refine lv_iload hx hb dX1_doStep_140 (lv_at hl 5 rfl) ?_
          obtain ⟨D_14, c_14, k_14, h_14, hq⟩ := ww_b3S hf; replace hf := hq; clear hq
          have hm9 : ((0 + c_6) + c_14) ≤ nc ∧ ((0 + k_6) + k_14) ≤ ns := by
            obtain ⟨r_15, D_15, h_15, hq⟩ := ww_b2S hf; replace hf := hq; clear hq
            have e9 := hf
            simp only [Option.some.injEq, Prod.mk.injEq] at e9
            omega
          refine c1c_1_addNow X hl.1 hK hR hS (Nat.le_trans (Nat.le_of_ble_eq_true rfl) hF) (Nat.le_trans (Nat.le_of_ble_eq_true rfl) hLo) (Nat.le_trans hm9.1 hC.1) (Nat.le_trans hm9.2 hC.2) h_14 (cw_rest (Nat.le_of_ble_eq_true rfl)) dX1_doStep_142 (fun H locs hR hS => ?_)
          refine lv_goto (tgt := 173) hx hb dX1_doStep_145 (by decide) ?_
          refine lv_aload_n hx hb dX1_doStep_173 rfl (lv_at hl 1 rfl) ?_
          refine lv_iload_n hx hb dX1_doStep_174 rfl (lv_at hl 2 rfl) ?_
          refine lv_iload hx hb dX1_doStep_175 (lv_at hl 0 rfl) ?_
          obtain ⟨r_15, D_15, h_15, hq⟩ := ww_b2S hf; replace hf := hq; clear hq
          refine c1c_1_ends X hl.1 hK hR hS (Nat.le_trans (Nat.le_of_ble_eq_true rfl) hF) (Nat.le_trans (Nat.le_of_ble_eq_true rfl) hLo) (Nat.le_trans hm9.1 hC.1) (Nat.le_trans hm9.2 hC.2) h_15 (cw_rest (Nat.le_of_ble_eq_true rfl)) dX1_doStep_177 (fun H locs hR hS => ?_)
          refine lv_pop hx hb dX1_doStep_180 rfl ?_
          refine lv_iconst (v := (1 : Int32)) hx hb dX1_doStep_181 (by decide) ?_
          exact hend dX1_doStep_182 rfl (by decide) hf hR hS
        replace hf := ww_in hf c_13
        refine ww_by ((ww_X D.1 5 x2) = 3) (fun c_16 => ?_) (fun c_16 => ?_)
        · replace hf := ww_ip hf c_16
          refine ww_tin (k := 3) (off := 58) (tgt := 148) hx hb dX1_doStep_90 c_16 (by decide) (by decide) (by decide) (by decide) ?_
          refine lv_aload_n hx hb dX1_doStep_148 rfl (lv_at hl 1 rfl) ?_
          refine lv_iload_n hx hb dX1_doStep_149 rfl (lv_at hl 4 rfl) ?_
          refine lv_iload hx hb dX1_doStep_150 (lv_at hl 5 rfl) ?_
          obtain ⟨D_17, c_17, k_17, h_17, hq⟩ := ww_b3S hf; replace hf := hq; clear hq
          have hm9 : ((0 + c_6) + c_17) ≤ nc ∧ ((0 + k_6) + k_17) ≤ ns := by
            obtain ⟨r_18, D_18, h_18, hq⟩ := ww_b2S hf; replace hf := hq; clear hq
            have e9 := hf
            simp only [Option.some.injEq, Prod.mk.injEq] at e9
            omega
          refine c1c_1_cutNow X hl.1 hK hR hS (Nat.le_trans (Nat.le_of_ble_eq_true rfl) hF) (Nat.le_trans (Nat.le_of_ble_eq_true rfl) hLo) (Nat.le_trans hm9.1 hC.1) (Nat.le_trans hm9.2 hC.2) h_17 (cw_rest (Nat.le_of_ble_eq_true rfl)) dX1_doStep_152 (fun H locs hR hS => ?_)
          refine lv_goto (tgt := 173) hx hb dX1_doStep_155 (by decide) ?_
          refine lv_aload_n hx hb dX1_doStep_173 rfl (lv_at hl 1 rfl) ?_
          refine lv_iload_n hx hb dX1_doStep_174 rfl (lv_at hl 2 rfl) ?_
          refine lv_iload hx hb dX1_doStep_175 (lv_at hl 0 rfl) ?_
          obtain ⟨r_18, D_18, h_18, hq⟩ := ww_b2S hf; replace hf := hq; clear hq
          refine c1c_1_ends X hl.1 hK hR hS (Nat.le_trans (Nat.le_of_ble_eq_true rfl) hF) (Nat.le_trans (Nat.le_of_ble_eq_true rfl) hLo) (Nat.le_trans hm9.1 hC.1) (Nat.le_trans hm9.2 hC.2) h_18 (cw_rest (Nat.le_of_ble_eq_true rfl)) dX1_doStep_177 (fun H locs hR hS => ?_)
          refine lv_pop hx hb dX1_doStep_180 rfl ?_
          refine lv_iconst (v := (1 : Int32)) hx hb dX1_doStep_181 (by decide) ?_
          exact hend dX1_doStep_182 rfl (by decide) hf hR hS
        replace hf := ww_in hf c_16
        refine ww_tout (tgt := 158) [0, 1, 2, 3] hx hb dX1_doStep_90 ⟨c_7, c_10, c_13, c_16, trivial⟩ (by decide) (by decide) ?_
        refine lv_aload_n hx hb dX1_doStep_158 rfl (lv_at hl 1 rfl) ?_
        refine lv_iload_n hx hb dX1_doStep_159 rfl (lv_at hl 4 rfl) ?_
        refine lv_iload hx hb dX1_doStep_160 (lv_at hl 5 rfl) ?_
        refine lv_aload_n hx hb dX1_doStep_162 rfl (lv_at hl 1 rfl) ?_
        refine c1g_47 X hK hR dX1_doStep_163 ?_
        refine lv_iload_n hx hb dX1_doStep_166 rfl (lv_at hl 3 rfl) ?_
        refine lv_iconst (v := (3 : Int32)) hx hb dX1_doStep_167 (by decide) ?_
        refine lv_iadd hx hb dX1_doStep_168 ?_
        obtain ⟨h_19, hq⟩ := ww_gS hf; replace hf := hq; clear hq
        refine c1l_5 X hK hR h_19 dX1_doStep_169 ?_
        obtain ⟨D_20, c_20, k_20, h_20, hq⟩ := ww_b3S hf; replace hf := hq; clear hq
        have hm9 : ((0 + c_6) + c_20) ≤ nc ∧ ((0 + k_6) + k_20) ≤ ns := by
          obtain ⟨r_21, D_21, h_21, hq⟩ := ww_b2S hf; replace hf := hq; clear hq
          have e9 := hf
          simp only [Option.some.injEq, Prod.mk.injEq] at e9
          omega
        refine c1c_1_raiseNow X hl.1 hK hR hS (Nat.le_trans (Nat.le_of_ble_eq_true rfl) hF) (Nat.le_trans (Nat.le_of_ble_eq_true rfl) hLo) (Nat.le_trans hm9.1 hC.1) (Nat.le_trans hm9.2 hC.2) h_20 (cw_rest (Nat.le_of_ble_eq_true rfl)) dX1_doStep_170 (fun H locs hR hS => ?_)
        refine lv_aload_n hx hb dX1_doStep_173 rfl (lv_at hl 1 rfl) ?_
        refine lv_iload_n hx hb dX1_doStep_174 rfl (lv_at hl 2 rfl) ?_
        refine lv_iload hx hb dX1_doStep_175 (lv_at hl 0 rfl) ?_
        obtain ⟨r_21, D_21, h_21, hq⟩ := ww_b2S hf; replace hf := hq; clear hq
        refine c1c_1_ends X hl.1 hK hR hS (Nat.le_trans (Nat.le_of_ble_eq_true rfl) hF) (Nat.le_trans (Nat.le_of_ble_eq_true rfl) hLo) (Nat.le_trans hm9.1 hC.1) (Nat.le_trans hm9.2 hC.2) h_21 (cw_rest (Nat.le_of_ble_eq_true rfl)) dX1_doStep_177 (fun H locs hR hS => ?_)
        refine lv_pop hx hb dX1_doStep_180 rfl ?_
        refine lv_iconst (v := (1 : Int32)) hx hb dX1_doStep_181 (by decide) ?_
        exact hend dX1_doStep_182 rfl (by decide) hf hR hS
      · replace hf := ww_in hf c_5
        refine lv_aload_n hx hb dX1_doStep_73 rfl (lv_at hl 0 rfl) ?_
        refine lv_iload_n hx hb dX1_doStep_74 rfl (lv_at hl 1 rfl) ?_
        obtain ⟨r_22, D_22, c_22, k_22, h_22, hq⟩ := ww_b4S hf; replace hf := hq; clear hq
        have hm9 : (0 + c_22) ≤ nc ∧ (0 + k_22) ≤ ns := by
          have e9 := hf
          simp only [Option.some.injEq, Prod.mk.injEq] at e9
          omega
        refine c1c_1_snapNow X hl.1 hK hR hS (Nat.le_trans (Nat.le_of_ble_eq_true rfl) hF) (Nat.le_trans (Nat.le_of_ble_eq_true rfl) hLo) (Nat.le_trans hm9.1 hC.1) (Nat.le_trans hm9.2 hC.2) h_22 (cw_rest (Nat.le_of_ble_eq_true rfl)) dX1_doStep_75 (fun H locs hR hS => ?_)
        refine lv_pop hx hb dX1_doStep_78 rfl ?_
        refine lv_iconst (v := (1 : Int32)) hx hb dX1_doStep_79 (by decide) ?_
        exact hend dX1_doStep_80 rfl (by decide) hf hR hS
    refine lv_icmp_le (tgt := 67) hx hb dX1_doStep_55 (by decide) (fun c_23 => ?_) (fun c_23 => ?_)
    · replace hf := ww_ip hf c_23
      exact (hj_2 hf).2 _ _ _ hR hS hl
    · replace hf := ww_in hf c_23
      refine lv_aload_n hx hb dX1_doStep_58 rfl (lv_at hl 0 rfl) ?_
      obtain ⟨r_24, h_24, hq⟩ := ww_bS hf; replace hf := hq; clear hq
      refine c1c_1_isRoom X hl.1 hK hR hS (Nat.le_trans (Nat.le_of_ble_eq_true rfl) hF) (Nat.le_trans (Nat.le_of_ble_eq_true rfl) hLo) (Nat.le_trans hm9.1 hC.1) (Nat.le_trans hm9.2 hC.2) h_24 (cw_rest (Nat.le_of_ble_eq_true rfl)) dX1_doStep_59 (fun H locs hR hS => ?_)
      refine lv_if_ne (tgt := 67) hx hb dX1_doStep_62 (by decide) (fun c_25 => ?_) (fun c_25 => ?_)
      · replace hf := ww_in hf c_25
        exact (hj_2 hf).2 _ _ _ hR hS hl
      · replace hf := ww_ip hf c_25
        refine lv_iconst (v := (0 : Int32)) hx hb dX1_doStep_65 (by decide) ?_
        exact hend dX1_doStep_66 rfl (by decide) hf hR hS
  have hj_3 : f1_doStep_j3 D 0 0 x1 x2 (ww_X D.1 5 (x2 + (1 : Int32))) (ww_X D.1 5 (x2 + (2 : Int32))) (ww_X D.1 5 x2) = some (r, D', nc, ns) → (0 ≤ nc ∧ 0 ≤ ns) ∧ (∀ (H : Heap) (locs : List Loc) (ls : Array Slot), cw_H E A D H → va_S A s.heap H locs → lv_has ls 7 [(0, .ref E.1.1), (1, .int x1), (2, .int x2), (3, .int (ww_X D.1 5 (x2 + (1 : Int32)))), (4, .int (ww_X D.1 5 (x2 + (2 : Int32)))), (5, .int (ww_X D.1 5 x2))] → W p l e Rm s m args below meth c H locs 0 0 Q (F0 m 38 ls [])) := by
    clear hf
    intro  hf
    unfold f1_doStep_j3 at hf
    have hm9 : 0 ≤ nc ∧ 0 ≤ ns := by
      obtain ⟨h_27, hq⟩ := ww_gS hf; replace hf := hq; clear hq
      obtain ⟨r_26, h_26, hq⟩ := ww_bS hf; replace hf := hq; clear hq
      obtain ⟨r_28, D_28, h_28, hq⟩ := ww_b2S hf; replace hf := hq; clear hq
      refine ww_by (r_28 = 0) (fun c_29 => ?_) (fun c_29 => ?_)
      · replace hf := ww_ip hf c_29
        have e9 := hf
        simp only [Option.some.injEq, Prod.mk.injEq] at e9
        omega
      · replace hf := ww_in hf c_29
        have e9 := (hj_1 D_28 hf).1
        omega
    refine ⟨hm9, ?_⟩
    try clear hl
    try clear hS
    try clear hR
    intro H locs ls hR hS hl
    refine lv_aload_n hx hb dX1_doStep_38 rfl (lv_at hl 0 rfl) ?_
    refine lv_aload_n hx hb dX1_doStep_39 rfl (lv_at hl 0 rfl) ?_
    refine c1g_85 X hK hR dX1_doStep_40 ?_
    refine lv_iload_n hx hb dX1_doStep_43 rfl (lv_at hl 1 rfl) ?_
    obtain ⟨h_27, hq⟩ := ww_gS hf; replace hf := hq; clear hq
    obtain ⟨r_26, h_26, hq⟩ := ww_bS hf; replace hf := hq; clear hq
    refine c1l_24 X hK hR h_27 h_26 dX1_doStep_44 ?_
    refine lv_iload_n hx hb dX1_doStep_45 rfl (lv_at hl 3 rfl) ?_
    obtain ⟨r_28, D_28, h_28, hq⟩ := ww_b2S hf; replace hf := hq; clear hq
    refine c1c_1_canLay (x1 := r_26) X hl.1 hK hR hS (Nat.le_trans (Nat.le_of_ble_eq_true rfl) hF) (Nat.le_trans (Nat.le_of_ble_eq_true rfl) hLo) (Nat.le_trans hm9.1 hC.1) (Nat.le_trans hm9.2 hC.2) h_28 (cw_rest (Nat.le_of_ble_eq_true rfl)) dX1_doStep_46 (fun H locs hR hS => ?_)
    refine lv_if_eq (tgt := 65) hx hb dX1_doStep_49 (by decide) (fun c_29 => ?_) (fun c_29 => ?_)
    · replace hf := ww_ip hf c_29
      refine lv_iconst (v := (0 : Int32)) hx hb dX1_doStep_65 (by decide) ?_
      exact hend dX1_doStep_66 rfl (by decide) hf hR hS
    · replace hf := ww_in hf c_29
      exact (hj_1 D_28 hf).2 _ _ _ hR hS hl
  refine lv_if_eq (tgt := 38) hx hb dX1_doStep_29 (by decide) (fun c_30 => ?_) (fun c_30 => ?_)
  · replace hf := ww_ip hf c_30
    exact (hj_3 hf).2 _ _ _ hR hS (lv_sub hl [3, 4, 5, 2, 1, 0] rfl)
  · replace hf := ww_in hf c_30
    refine lv_iload hx hb dX1_doStep_32 (lv_at hl 0 rfl) ?_
    refine lv_iconst (v := (2 : Int32)) hx hb dX1_doStep_34 (by decide) ?_
    refine lv_icmp_ne (tgt := 52) hx hb dX1_doStep_35 (by decide) (fun c_31 => ?_) (fun c_31 => ?_)
    · replace hf := ww_in hf c_31
      exact (hj_1 D hf).2 _ _ _ hR hS (lv_sub hl [3, 4, 5, 2, 1, 0] rfl)
    · replace hf := ww_ip hf c_31
      exact (hj_3 hf).2 _ _ _ hR hS (lv_sub hl [3, 4, 5, 2, 1, 0] rfl)
section C_1_doStep_c
variable {p : Program} {l : Launch} {e : Env} {R : Room} {s : State} {m : MethodId} {args : Array Value} {below : List Frame} {meth : Method} {c : Code} {H : Heap} {locs : List Loc} {cells slots : Nat} {Q : State → Prop}
variable {cc : ByteArray} {pc : Nat} {ls : Array Slot} {rest : List Value} {nL : Nat} {E : cw_E} {A : Nat → Prop} {H0 : Heap}
theorem c1c_1_doStep {D : cw_D} {x1 : Int32} {x2 : Int32} {r : Int32} {D' : cw_D} {nc ns : Nat} (X : ww_C p m c cc nL s args RX1 lw_all) (hsz : ls.size = nL) (hK : cw_K E A s) (hR : cw_H E A D H) (hS : va_S A s.heap H locs) (hF : 25 ≤ R.frames) (hLo : 571 ≤ R.locals) (hc : cells + nc ≤ R.cells) (hs : slots + ns ≤ R.slots) (hf : f1_doStep D x1 x2 = some (r, D', nc, ns)) (hrest : (rest.map fun v => v.category).sum ≤ 8) (hdg : decode cc pc = .ok (.invokevirtual 458, 3)) (kk : ∀ (H1 : Heap) (locs1 : List Loc), cw_H E A D' H1 → va_S A s.heap H1 locs1 → W p l e R s m args below meth c H1 locs1 (cells + nc) (slots + ns) Q (F0 m (pc + 3) ls (.int r :: rest))) : W p l e R s m args below meth c H locs cells slots Q (F0 m pc ls (.int x2 :: .int x1 :: .ref E.1.1 :: rest)) :=
  c1k_1_doStep X hsz hK hR hS hF hLo hc hs (met1_doStep l _ _ _ _ _ _ _ hf) hrest hdg kk
end C_1_doStep_c
