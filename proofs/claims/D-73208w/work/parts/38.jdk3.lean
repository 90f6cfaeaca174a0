noncomputable def fJ4_isLatin1 (D : cw_D) (a0 : Nat) : Option (Int32) :=
  if (1 : Int32) = 0 then some (0 : Int32) else ww_b (cw_gI D [3] a0 1) (fun r_2 => if r_2 = 0 then some (1 : Int32) else some (0 : Int32))
section C_J4_isLatin1_k
variable {p : Program} {l : Launch} {e : Env} {R : Room} {s : State} {m : MethodId} {args : Array Value} {below : List Frame} {meth : Method} {c : Code} {H : Heap} {locs : List Loc} {cells slots : Nat} {Q : State → Prop}
variable {cc : ByteArray} {pc : Nat} {ls : Array Slot} {rest : List Value} {nL : Nat} {E : cw_E} {A : Nat → Prop} {H0 : Heap}
theorem cJ4k_J4_isLatin1 {D : cw_D} {a0 : Nat} {r : Int32} (X : ww_C p m c cc nL s args RJ4 lw_all) (hsz : ls.size = nL) (hK : cw_K E A s) (hR : cw_H E A D H) (hS : va_S A s.heap H locs) (hF : 1 ≤ R.frames) (hLo : 20 ≤ R.locals) (hc : cells ≤ R.cells) (hs : slots ≤ R.slots) (hkd : cw_kd D [3] (some a0) = true) (hM : cw_MetI l yJ4_isLatin1 cJ4_isLatin1 1 (some Jvm.ClassFile.FieldType.boolean) 0 0 E A [.ref a0] D D r 0 0) (hrest : (rest.map fun v => v.category).sum ≤ 8) (hdg : decode cc pc = .ok (.invokevirtual 492, 3)) (kk : ∀ (H1 : Heap) (locs1 : List Loc), cw_H E A D H1 → va_S A s.heap H1 locs1 → W p l e R s m args below meth c H1 locs1 cells slots Q (F0 m (pc + 3) ls (.int r :: rest))) : W p l e R s m args below meth c H locs cells slots Q (F0 m pc ls (.ref a0 :: rest)) :=
  va_calli (va_runV (C := RJ4) (As := []) (rest := rest) (b := a0) X hM (cwV 0 X.2.2.2.2 (lw_V q751 q752 q753 q138 q754) rfl rfl rfl (by decide +kernel) ⟨hF, hLo⟩) (cw_pV hK hR hS (cw_rc (k := 3) (C := RJ4) (T := TJ4) (N := 4) rfl (by decide) hK hR hkd)) rfl rfl hsz rfl (lv_room hrest) hdg ⟨hc, hs⟩) hS (fun q _ h => h) (fun q h => h) (fun r' u t H1 locs1 ht hvm hw hB hz1 hk1 hS1 => by subst hw; rw [ht] at hB; exact kk H1 locs1 hB hS1)
end C_J4_isLatin1_k
set_option maxHeartbeats 4000000 in
set_option maxRecDepth 100000 in
theorem metJ4_isLatin1 (l : Launch) {E : cw_E} {A : Nat → Prop} (D : cw_D) (a0 : Nat) (r : Int32) (hf : fJ4_isLatin1 D a0 = some r) : cw_MetI l yJ4_isLatin1 cJ4_isLatin1 1 (some Jvm.ClassFile.FieldType.boolean) 0 0 E A [.ref a0] D D r 0 0 := by
  unfold fJ4_isLatin1 at hf
  refine cw_sIP (own := RJ4) (by decide +kernel) [(0, .ref a0)] ⟨Nat.le_of_ble_eq_true rfl, rfl⟩ ?_
  intro p e s m args below meth c Rm Q X hK hF hLo hin hend ls hl hR hS
  obtain ⟨hx, hb, hml, hown, hts⟩ := id X
  refine va_gets hx hb hK.ct.2.1 hS hown (hts _ q587) (fun _ h9 => h9) dJ4_isLatin1_0 ?_
  refine lv_if_eq (tgt := 17) hx hb dJ4_isLatin1_3 (by decide) (fun c_1 => ?_) (fun c_1 => ?_)
  · replace hf := ww_ip hf c_1
    refine lv_iconst (v := (0 : Int32)) hx hb dJ4_isLatin1_17 (by decide) ?_
    exact hend dJ4_isLatin1_18 rfl (by decide) hf hR hS
  · replace hf := ww_in hf c_1
    refine lv_aload_n hx hb dJ4_isLatin1_6 rfl (lv_at hl 0 rfl) ?_
    obtain ⟨r_2, h_2, hq⟩ := ww_bS hf; replace hf := hq; clear hq
    refine cJ4g_15 X hK hR h_2 dJ4_isLatin1_7 ?_
    refine lv_if_ne (tgt := 17) hx hb dJ4_isLatin1_10 (by decide) (fun c_3 => ?_) (fun c_3 => ?_)
    · replace hf := ww_in hf c_3
      refine lv_iconst (v := (0 : Int32)) hx hb dJ4_isLatin1_17 (by decide) ?_
      exact hend dJ4_isLatin1_18 rfl (by decide) hf hR hS
    · replace hf := ww_ip hf c_3
      refine lv_iconst (v := (1 : Int32)) hx hb dJ4_isLatin1_13 (by decide) ?_
      refine lv_goto (tgt := 18) hx hb dJ4_isLatin1_14 (by decide) ?_
      exact hend dJ4_isLatin1_18 rfl (by decide) hf hR hS
section C_J4_isLatin1_c
variable {p : Program} {l : Launch} {e : Env} {R : Room} {s : State} {m : MethodId} {args : Array Value} {below : List Frame} {meth : Method} {c : Code} {H : Heap} {locs : List Loc} {cells slots : Nat} {Q : State → Prop}
variable {cc : ByteArray} {pc : Nat} {ls : Array Slot} {rest : List Value} {nL : Nat} {E : cw_E} {A : Nat → Prop} {H0 : Heap}
theorem cJ4c_J4_isLatin1 {D : cw_D} {a0 : Nat} {r : Int32} (X : ww_C p m c cc nL s args RJ4 lw_all) (hsz : ls.size = nL) (hK : cw_K E A s) (hR : cw_H E A D H) (hS : va_S A s.heap H locs) (hF : 1 ≤ R.frames) (hLo : 20 ≤ R.locals) (hc : cells ≤ R.cells) (hs : slots ≤ R.slots) (hkd : cw_kd D [3] (some a0) = true) (hf : fJ4_isLatin1 D a0 = some r) (hrest : (rest.map fun v => v.category).sum ≤ 8) (hdg : decode cc pc = .ok (.invokevirtual 492, 3)) (kk : ∀ (H1 : Heap) (locs1 : List Loc), cw_H E A D H1 → va_S A s.heap H1 locs1 → W p l e R s m args below meth c H1 locs1 cells slots Q (F0 m (pc + 3) ls (.int r :: rest))) : W p l e R s m args below meth c H locs cells slots Q (F0 m pc ls (.ref a0 :: rest)) :=
  cJ4k_J4_isLatin1 X hsz hK hR hS hF hLo hc hs hkd (metJ4_isLatin1 l _ _ _ hf) hrest hdg kk
end C_J4_isLatin1_c
noncomputable def fJ4_hashCode (D : cw_D) (a0 : Nat) : Option (Int32 × cw_D) :=
  ww_b (cw_gI D [3] a0 2) (fun r_1 => if r_1 = 0 then ww_b (cw_gI D [3] a0 3) (fun r_3 => if r_3 = 0 then ww_g (cw_kd D [3] (some a0)) (ww_b (fJ4_isLatin1 D a0) (fun r_6 => if r_6 = 0 then none else ww_b (cw_gR D [3] a0 0) (fun r_8 => ww_b (fJ9_hashCode D r_8) (fun r_9 => if r_9 = 0 then ww_b (cw_p D [3] a0 3 (.int (1 : Int32))) (fun D_12 => some (r_9, D_12)) else ww_b (cw_p D [3] a0 2 (.int r_9)) (fun D_11 => some (r_9, D_11)))))) else some (r_1, D)) else some (r_1, D))
section C_J4_hashCode_k
variable {p : Program} {l : Launch} {e : Env} {R : Room} {s : State} {m : MethodId} {args : Array Value} {below : List Frame} {meth : Method} {c : Code} {H : Heap} {locs : List Loc} {cells slots : Nat} {Q : State → Prop}
variable {cc : ByteArray} {pc : Nat} {ls : Array Slot} {rest : List Value} {nL : Nat} {E : cw_E} {A : Nat → Prop} {H0 : Heap}
theorem c1k_J4_hashCode {D : cw_D} {a0 : Nat} {r : Int32} {D' : cw_D} (X : ww_C p m c cc nL s args RX1 lw_all) (hsz : ls.size = nL) (hK : cw_K E A s) (hR : cw_H E A D H) (hS : va_S A s.heap H locs) (hF : 4 ≤ R.frames) (hLo : 90 ≤ R.locals) (hc : cells ≤ R.cells) (hs : slots ≤ R.slots) (hkd : cw_kd D [3] (some a0) = true) (hM : cw_MetI l yJ4_hashCode cJ4_hashCode 2 (some Jvm.ClassFile.FieldType.int) 3 69 E A [.ref a0] D D' r 0 0) (hrest : (rest.map fun v => v.category).sum ≤ 8) (hdg : decode cc pc = .ok (.invokevirtual 178, 3)) (kk : ∀ (H1 : Heap) (locs1 : List Loc), cw_H E A D' H1 → va_S A s.heap H1 locs1 → W p l e R s m args below meth c H1 locs1 cells slots Q (F0 m (pc + 3) ls (.int r :: rest))) : W p l e R s m args below meth c H locs cells slots Q (F0 m pc ls (.ref a0 :: rest)) :=
  va_calli (va_runV (C := RJ4) (As := []) (rest := rest) (b := a0) X hM (cwV 0 X.2.2.2.2 (lw_V q747 q748 q749 q138 q750) rfl rfl rfl (by decide +kernel) ⟨hF, hLo⟩) (cw_pV hK hR hS (cw_rc (k := 3) (C := RJ4) (T := TJ4) (N := 4) rfl (by decide) hK hR hkd)) rfl rfl hsz rfl (lv_room hrest) hdg ⟨hc, hs⟩) hS (fun q _ h => h) (fun q h => h) (fun r' u t H1 locs1 ht hvm hw hB hz1 hk1 hS1 => by subst hw; rw [ht] at hB; exact kk H1 locs1 hB hS1)
end C_J4_hashCode_k
set_option maxHeartbeats 4000000 in
set_option maxRecDepth 100000 in
theorem metJ4_hashCode (l : Launch) {E : cw_E} {A : Nat → Prop} (D : cw_D) (a0 : Nat) (r : Int32) (D' : cw_D) (hf : fJ4_hashCode D a0 = some (r, D')) : cw_MetI l yJ4_hashCode cJ4_hashCode 2 (some Jvm.ClassFile.FieldType.int) 3 69 E A [.ref a0] D D' r 0 0 := by
  unfold fJ4_hashCode at hf
  refine cw_sID (own := RJ4) (by decide +kernel) [(0, .ref a0)] ⟨Nat.le_of_ble_eq_true rfl, rfl⟩ ?_
  intro p e s m args below meth c Rm Q X hK hF hLo hin hend ls hl hR hS
  obtain ⟨hx, hb, hml, hown, hts⟩ := id X
  refine lv_aload_n hx hb dJ4_hashCode_0 rfl (lv_at hl 0 rfl) ?_
  obtain ⟨r_1, h_1, hq⟩ := ww_bS hf; replace hf := hq; clear hq
  refine cJ4g_19 X hK hR h_1 dJ4_hashCode_1 ?_
  refine lv_istore_n (lv' := [(1, .int r_1), (0, .ref a0)]) hx hb dJ4_hashCode_4 rfl hl (by decide) rfl (fun ls hl => ?_)
  refine lv_iload_n hx hb dJ4_hashCode_5 rfl (lv_at hl 0 rfl) ?_
  refine lv_if_ne (tgt := 58) hx hb dJ4_hashCode_6 (by decide) (fun c_2 => ?_) (fun c_2 => ?_)
  · replace hf := ww_in hf c_2
    refine lv_iload_n hx hb dJ4_hashCode_58 rfl (lv_at hl 0 rfl) ?_
    exact hend dJ4_hashCode_59 rfl rfl hf hR hS
  · replace hf := ww_ip hf c_2
    refine lv_aload_n hx hb dJ4_hashCode_9 rfl (lv_at hl 1 rfl) ?_
    obtain ⟨r_3, h_3, hq⟩ := ww_bS hf; replace hf := hq; clear hq
    refine cJ4g_23 X hK hR h_3 dJ4_hashCode_10 ?_
    refine lv_if_ne (tgt := 58) hx hb dJ4_hashCode_13 (by decide) (fun c_4 => ?_) (fun c_4 => ?_)
    · replace hf := ww_in hf c_4
      refine lv_iload_n hx hb dJ4_hashCode_58 rfl (lv_at hl 0 rfl) ?_
      exact hend dJ4_hashCode_59 rfl rfl hf hR hS
    · replace hf := ww_ip hf c_4
      refine lv_aload_n hx hb dJ4_hashCode_16 rfl (lv_at hl 1 rfl) ?_
      obtain ⟨h_5, hq⟩ := ww_gS hf; replace hf := hq; clear hq
      obtain ⟨r_6, h_6, hq⟩ := ww_bS hf; replace hf := hq; clear hq
      refine cJ4c_J4_isLatin1 X hl.1 hK hR hS (Nat.le_trans (Nat.le_of_ble_eq_true rfl) hF) (Nat.le_trans (Nat.le_of_ble_eq_true rfl) hLo) (Nat.zero_le _) (Nat.zero_le _) h_5 h_6 (cw_rest (Nat.le_of_ble_eq_true rfl)) dJ4_hashCode_17 (fun H locs hR hS => ?_)
      refine lv_if_eq (tgt := 33) hx hb dJ4_hashCode_20 (by decide) (fun c_7 => ?_) (fun c_7 => ?_)
      · replace hf := ww_ip hf c_7
        cases hf
      · replace hf := ww_in hf c_7
        refine lv_aload_n hx hb dJ4_hashCode_23 rfl (lv_at hl 1 rfl) ?_
        obtain ⟨r_8, h_8, hq⟩ := ww_bS hf; replace hf := hq; clear hq
        refine cJ4g_9 X hK hR h_8 dJ4_hashCode_24 ?_
        obtain ⟨r_9, h_9, hq⟩ := ww_bS hf; replace hf := hq; clear hq
        refine cJ4c_J9_hashCode (x0 := r_8) X hl.1 hK hR hS (Nat.le_trans (Nat.le_of_ble_eq_true rfl) hF) (Nat.le_trans (Nat.le_of_ble_eq_true rfl) hLo) (Nat.zero_le _) (Nat.zero_le _) h_9 (cw_rest (Nat.le_of_ble_eq_true rfl)) dJ4_hashCode_27 (fun H locs hR hS => ?_)
        refine lv_goto (tgt := 40) hx hb dJ4_hashCode_30 (by decide) ?_
        refine lv_istore_n (lv' := [(1, .int r_9), (0, .ref a0)]) hx hb dJ4_hashCode_40 rfl hl (by decide) rfl (fun ls hl => ?_)
        refine lv_iload_n hx hb dJ4_hashCode_41 rfl (lv_at hl 0 rfl) ?_
        refine lv_if_ne (tgt := 53) hx hb dJ4_hashCode_42 (by decide) (fun c_10 => ?_) (fun c_10 => ?_)
        · replace hf := ww_in hf c_10
          refine lv_aload_n hx hb dJ4_hashCode_53 rfl (lv_at hl 1 rfl) ?_
          refine lv_iload_n hx hb dJ4_hashCode_54 rfl (lv_at hl 0 rfl) ?_
          obtain ⟨D_11, h_11, hq⟩ := ww_bS hf; replace hf := hq; clear hq
          refine cJ4p_19 X hK hR hS h_11 dJ4_hashCode_55 (fun H locs hR hS => ?_)
          refine lv_iload_n hx hb dJ4_hashCode_58 rfl (lv_at hl 0 rfl) ?_
          exact hend dJ4_hashCode_59 rfl rfl hf hR hS
        · replace hf := ww_ip hf c_10
          refine lv_aload_n hx hb dJ4_hashCode_45 rfl (lv_at hl 1 rfl) ?_
          refine lv_iconst (v := (1 : Int32)) hx hb dJ4_hashCode_46 (by decide) ?_
          obtain ⟨D_12, h_12, hq⟩ := ww_bS hf; replace hf := hq; clear hq
          refine cJ4p_23 X hK hR hS h_12 dJ4_hashCode_47 (fun H locs hR hS => ?_)
          refine lv_goto (tgt := 58) hx hb dJ4_hashCode_50 (by decide) ?_
          refine lv_iload_n hx hb dJ4_hashCode_58 rfl (lv_at hl 0 rfl) ?_
          exact hend dJ4_hashCode_59 rfl rfl hf hR hS
section C_J4_hashCode_c
variable {p : Program} {l : Launch} {e : Env} {R : Room} {s : State} {m : MethodId} {args : Array Value} {below : List Frame} {meth : Method} {c : Code} {H : Heap} {locs : List Loc} {cells slots : Nat} {Q : State → Prop}
variable {cc : ByteArray} {pc : Nat} {ls : Array Slot} {rest : List Value} {nL : Nat} {E : cw_E} {A : Nat → Prop} {H0 : Heap}
theorem c1c_J4_hashCode {D : cw_D} {a0 : Nat} {r : Int32} {D' : cw_D} (X : ww_C p m c cc nL s args RX1 lw_all) (hsz : ls.size = nL) (hK : cw_K E A s) (hR : cw_H E A D H) (hS : va_S A s.heap H locs) (hF : 4 ≤ R.frames) (hLo : 90 ≤ R.locals) (hc : cells ≤ R.cells) (hs : slots ≤ R.slots) (hkd : cw_kd D [3] (some a0) = true) (hf : fJ4_hashCode D a0 = some (r, D')) (hrest : (rest.map fun v => v.category).sum ≤ 8) (hdg : decode cc pc = .ok (.invokevirtual 178, 3)) (kk : ∀ (H1 : Heap) (locs1 : List Loc), cw_H E A D' H1 → va_S A s.heap H1 locs1 → W p l e R s m args below meth c H1 locs1 cells slots Q (F0 m (pc + 3) ls (.int r :: rest))) : W p l e R s m args below meth c H locs cells slots Q (F0 m pc ls (.ref a0 :: rest)) :=
  c1k_J4_hashCode X hsz hK hR hS hF hLo hc hs hkd (metJ4_hashCode l _ _ _ _ hf) hrest hdg kk
end C_J4_hashCode_c
noncomputable def fJ4_getBytes (D : cw_D) (a0 : Nat) (x1 : Option Nat) (x2 : Int32) (x3 : Int32) : Option (cw_D) :=
  ww_g (cw_kd D [3] (some a0)) (ww_b (fJ4_coder D a0) (fun r_2 => if r_2 = x3 then ww_b (cw_gR D [3] a0 0) (fun r_4 => ww_b (cw_gR D [3] a0 0) (fun r_5 => ww_b r_5 (fun a_6 => ww_b (cw_ln D a_6) (fun r_7 => ww_b r_4 (fun a_8 => ww_b x1 (fun a_9 => ww_b (cw_cp D a_8 (0 : Int32) a_9 (x2 <<< (x3 &&& 31)) r_7) (fun D_10 => some D_10))))))) else none))
section C_J4_getBytes_k
variable {p : Program} {l : Launch} {e : Env} {R : Room} {s : State} {m : MethodId} {args : Array Value} {below : List Frame} {meth : Method} {c : Code} {H : Heap} {locs : List Loc} {cells slots : Nat} {Q : State → Prop}
variable {cc : ByteArray} {pc : Nat} {ls : Array Slot} {rest : List Value} {nL : Nat} {E : cw_E} {A : Nat → Prop} {H0 : Heap}
theorem cJ2k_J4_getBytes {D : cw_D} {a0 : Nat} {x1 : Option Nat} {x2 : Int32} {x3 : Int32} {D' : cw_D} (X : ww_C p m c cc nL s args RJ2 lw_all) (hsz : ls.size = nL) (hK : cw_K E A s) (hR : cw_H E A D H) (hS : va_S A s.heap H locs) (hF : 2 ≤ R.frames) (hLo : 123 ≤ R.locals) (hc : cells ≤ R.cells) (hs : slots ≤ R.slots) (hkd : cw_kd D [3] (some a0) = true) (hM : cw_MetV l yJ4_getBytes cJ4_getBytes 4 1 100 E A [.ref a0, va_rf x1, .int x2, .int x3] D D' 0 0) (hrest : (rest.map fun v => v.category).sum ≤ 8) (hdg : decode cc pc = .ok (.invokevirtual 399, 3)) (kk : ∀ (H1 : Heap) (locs1 : List Loc), cw_H E A D' H1 → va_S A s.heap H1 locs1 → W p l e R s m args below meth c H1 locs1 cells slots Q (F0 m (pc + 3) ls (rest))) : W p l e R s m args below meth c H locs cells slots Q (F0 m pc ls (.int x3 :: .int x2 :: va_rf x1 :: .ref a0 :: rest)) :=
  va_callv (va_runV (C := RJ4) (As := [va_rf x1, .int x2, .int x3]) (rest := rest) (b := a0) X hM (cwV 3 X.2.2.2.2 (lw_V q1548 q1549 q1550 q138 q1551) rfl rfl rfl (by decide +kernel) ⟨hF, hLo⟩) (cw_pV hK hR hS (cw_rc (k := 3) (C := RJ4) (T := TJ4) (N := 4) rfl (by decide) hK hR hkd)) rfl rfl hsz rfl (lv_room hrest) hdg ⟨hc, hs⟩) hS (fun q _ h => h) (fun q h => h) (fun u t H1 locs1 ht hvm hw hB hz1 hk1 hS1 => by rw [ht] at hB; exact kk H1 locs1 hB hS1)
end C_J4_getBytes_k
set_option maxHeartbeats 4000000 in
set_option maxRecDepth 100000 in
theorem metJ4_getBytes (l : Launch) {E : cw_E} {A : Nat → Prop} (D : cw_D) (a0 : Nat) (x1 : Option Nat) (x2 : Int32) (x3 : Int32) (D' : cw_D) (hf : fJ4_getBytes D a0 x1 x2 x3 = some D') : cw_MetV l yJ4_getBytes cJ4_getBytes 4 1 100 E A [.ref a0, va_rf x1, .int x2, .int x3] D D' 0 0 := by
  unfold fJ4_getBytes at hf
  refine cw_sVD (own := RJ4) (by decide +kernel) [(0, .ref a0), (1, va_rf x1), (2, .int x2), (3, .int x3)] ⟨by cases x1 <;> exact Nat.le_of_ble_eq_true rfl, by cases x1 <;> rfl⟩ ?_
  intro p e s m args below meth c Rm Q X hK hF hLo hin hend ls hl hR hS
  obtain ⟨hx, hb, hml, hown, hts⟩ := id X
  refine lv_aload_n hx hb dJ4_getBytes_0 rfl (lv_at hl 0 rfl) ?_
  obtain ⟨h_1, hq⟩ := ww_gS hf; replace hf := hq; clear hq
  obtain ⟨r_2, h_2, hq⟩ := ww_bS hf; replace hf := hq; clear hq
  refine cJ4c_J4_coder X hl.1 hK hR hS (Nat.le_trans (Nat.le_of_ble_eq_true rfl) hF) (Nat.le_trans (Nat.le_of_ble_eq_true rfl) hLo) (Nat.zero_le _) (Nat.zero_le _) h_1 h_2 (cw_rest (Nat.le_of_ble_eq_true rfl)) dJ4_getBytes_1 (fun H locs hR hS => ?_)
  refine lv_iload_n hx hb dJ4_getBytes_4 rfl (lv_at hl 3 rfl) ?_
  refine lv_icmp_ne (tgt := 28) hx hb dJ4_getBytes_5 (by decide) (fun c_3 => ?_) (fun c_3 => ?_)
  · replace hf := ww_in hf c_3
    cases hf
  · replace hf := ww_ip hf c_3
    refine lv_aload_n hx hb dJ4_getBytes_8 rfl (lv_at hl 0 rfl) ?_
    obtain ⟨r_4, h_4, hq⟩ := ww_bS hf; replace hf := hq; clear hq
    refine cJ4g_9 X hK hR h_4 dJ4_getBytes_9 ?_
    refine lv_iconst (v := (0 : Int32)) hx hb dJ4_getBytes_12 (by decide) ?_
    refine cw_aload_n (x := x1) hx hb dJ4_getBytes_13 rfl (lv_at hl 1 rfl) ?_
    refine lv_iload_n hx hb dJ4_getBytes_14 rfl (lv_at hl 2 rfl) ?_
    refine lv_iload_n hx hb dJ4_getBytes_15 rfl (lv_at hl 3 rfl) ?_
    refine lv_ishl hx hb dJ4_getBytes_16 ?_
    refine lv_aload_n hx hb dJ4_getBytes_17 rfl (lv_at hl 0 rfl) ?_
    obtain ⟨r_5, h_5, hq⟩ := ww_bS hf; replace hf := hq; clear hq
    refine cJ4g_9 X hK hR h_5 dJ4_getBytes_18 ?_
    obtain ⟨a_6, e_6, hq⟩ := ww_bS hf; replace hf := hq; clear hq
    subst e_6
    obtain ⟨r_7, h_7, hq⟩ := ww_bS hf; replace hf := hq; clear hq
    refine cw_oln (x := some a_6) X hK hR rfl h_7 dJ4_getBytes_21 ?_
    obtain ⟨a_8, e_8, hq⟩ := ww_bS hf; replace hf := hq; clear hq
    subst e_8
    obtain ⟨a_9, e_9, hq⟩ := ww_bS hf; replace hf := hq; clear hq
    subst e_9
    obtain ⟨D_10, h_10, hq⟩ := ww_bS hf; replace hf := hq; clear hq
    refine cw_arc X hl.1 hK hR hS q1552 q497 q496 q143 h_10 (Nat.le_trans (Nat.le_of_ble_eq_true rfl) hF) (Nat.le_trans (Nat.le_of_ble_eq_true rfl) hLo) (cw_rest (Nat.le_of_ble_eq_true rfl)) dJ4_getBytes_22 (fun H locs hR hS => ?_)
    refine lv_goto (tgt := 43) hx hb dJ4_getBytes_25 (by decide) ?_
    exact hend dJ4_getBytes_43 hf hR hS
section C_J4_getBytes_c
variable {p : Program} {l : Launch} {e : Env} {R : Room} {s : State} {m : MethodId} {args : Array Value} {below : List Frame} {meth : Method} {c : Code} {H : Heap} {locs : List Loc} {cells slots : Nat} {Q : State → Prop}
variable {cc : ByteArray} {pc : Nat} {ls : Array Slot} {rest : List Value} {nL : Nat} {E : cw_E} {A : Nat → Prop} {H0 : Heap}
theorem cJ2c_J4_getBytes {D : cw_D} {a0 : Nat} {x1 : Option Nat} {x2 : Int32} {x3 : Int32} {D' : cw_D} (X : ww_C p m c cc nL s args RJ2 lw_all) (hsz : ls.size = nL) (hK : cw_K E A s) (hR : cw_H E A D H) (hS : va_S A s.heap H locs) (hF : 2 ≤ R.frames) (hLo : 123 ≤ R.locals) (hc : cells ≤ R.cells) (hs : slots ≤ R.slots) (hkd : cw_kd D [3] (some a0) = true) (hf : fJ4_getBytes D a0 x1 x2 x3 = some D') (hrest : (rest.map fun v => v.category).sum ≤ 8) (hdg : decode cc pc = .ok (.invokevirtual 399, 3)) (kk : ∀ (H1 : Heap) (locs1 : List Loc), cw_H E A D' H1 → va_S A s.heap H1 locs1 → W p l e R s m args below meth c H1 locs1 cells slots Q (F0 m (pc + 3) ls (rest))) : W p l e R s m args below meth c H locs cells slots Q (F0 m pc ls (.int x3 :: .int x2 :: va_rf x1 :: .ref a0 :: rest)) :=
  cJ2k_J4_getBytes X hsz hK hR hS hF hLo hc hs hkd (metJ4_getBytes l _ _ _ _ _ _ hf) hrest hdg kk
end C_J4_getBytes_c
noncomputable def fJ4_charAt (D : cw_D) (a0 : Nat) (x1 : Int32) : Option (Int32 × cw_D) :=
  ww_g (cw_kd D [3] (some a0)) (ww_b (fJ4_isLatin1 D a0) (fun r_2 => if r_2 = 0 then none else ww_b (cw_gR D [3] a0 0) (fun r_4 => ww_b2 (fJ9_charAt D r_4 x1) (fun r_5 D_5 => ww_g (ww_nw .char r_5) (some (r_5, D_5))))))
set_option maxHeartbeats 4000000 in
set_option maxRecDepth 100000 in
theorem metJ4_charAt (l : Launch) {E : cw_E} {A : Nat → Prop} (D : cw_D) (a0 : Nat) (x1 : Int32) (r : Int32) (D' : cw_D) (hf : fJ4_charAt D a0 x1 = some (r, D')) : cw_MetI l yJ4_charAt cJ4_charAt 2 (some Jvm.ClassFile.FieldType.char) 3 64 E A [.ref a0, .int x1] D D' r 0 0 := by
  unfold fJ4_charAt at hf
  refine cw_sID (own := RJ4) (by decide +kernel) [(0, .ref a0), (1, .int x1)] ⟨Nat.le_of_ble_eq_true rfl, rfl⟩ ?_
  intro p e s m args below meth c Rm Q X hK hF hLo hin hend ls hl hR hS
  obtain ⟨hx, hb, hml, hown, hts⟩ := id X
  refine lv_aload_n hx hb dJ4_charAt_0 rfl (lv_at hl 0 rfl) ?_
  obtain ⟨h_1, hq⟩ := ww_gS hf; replace hf := hq; clear hq
  obtain ⟨r_2, h_2, hq⟩ := ww_bS hf; replace hf := hq; clear hq
  refine cJ4c_J4_isLatin1 X hl.1 hK hR hS (Nat.le_trans (Nat.le_of_ble_eq_true rfl) hF) (Nat.le_trans (Nat.le_of_ble_eq_true rfl) hLo) (Nat.zero_le _) (Nat.zero_le _) h_1 h_2 (cw_rest (Nat.le_of_ble_eq_true rfl)) dJ4_charAt_1 (fun H locs hR hS => ?_)
  refine lv_if_eq (tgt := 16) hx hb dJ4_charAt_4 (by decide) (fun c_3 => ?_) (fun c_3 => ?_)
  · replace hf := ww_ip hf c_3
    cases hf
  · replace hf := ww_in hf c_3
    refine lv_aload_n hx hb dJ4_charAt_7 rfl (lv_at hl 0 rfl) ?_
    obtain ⟨r_4, h_4, hq⟩ := ww_bS hf; replace hf := hq; clear hq
    refine cJ4g_9 X hK hR h_4 dJ4_charAt_8 ?_
    refine lv_iload_n hx hb dJ4_charAt_11 rfl (lv_at hl 1 rfl) ?_
    obtain ⟨r_5, D_5, h_5, hq⟩ := ww_b2S hf; replace hf := hq; clear hq
    refine cJ4c_J9_charAt (x0 := r_4) X hl.1 hK hR hS (Nat.le_trans (Nat.le_of_ble_eq_true rfl) hF) (Nat.le_trans (Nat.le_of_ble_eq_true rfl) hLo) (Nat.zero_le _) (Nat.zero_le _) h_5 (cw_rest (Nat.le_of_ble_eq_true rfl)) dJ4_charAt_12 (fun H locs hR hS => ?_)
    obtain ⟨h_6, hq⟩ := ww_gS hf; replace hf := hq; clear hq
    exact hend dJ4_charAt_15 rfl (ww_nwC h_6) hf hR hS
section C_J4_charAt_c
variable {p : Program} {l : Launch} {e : Env} {R : Room} {s : State} {m : MethodId} {args : Array Value} {below : List Frame} {meth : Method} {c : Code} {H : Heap} {locs : List Loc} {cells slots : Nat} {Q : State → Prop}
variable {cc : ByteArray} {pc : Nat} {ls : Array Slot} {rest : List Value} {nL : Nat} {E : cw_E} {A : Nat → Prop} {H0 : Heap}
theorem c1f_J4_charAt {D : cw_D} {a0 : Nat} {x1 : Int32} {r : Int32} {D' : cw_D} (X : ww_C p m c cc nL s args RX1 lw_all) (hsz : ls.size = nL) (hK : cw_K E A s) (hR : cw_H E A D H) (hS : va_S A s.heap H locs) (hF : 4 ≤ R.frames) (hLo : 85 ≤ R.locals) (hc : cells ≤ R.cells) (hs : slots ≤ R.slots) (hkd : cw_kd D [3] (some a0) = true) (hf : fJ4_charAt D a0 x1 = some (r, D')) (hrest : (rest.map fun v => v.category).sum ≤ 8) (hdg : decode cc pc = .ok (.invokeinterface 488 2, 5)) (kk : ∀ (H1 : Heap) (locs1 : List Loc), cw_H E A D' H1 → va_S A s.heap H1 locs1 → W p l e R s m args below meth c H1 locs1 cells slots Q (F0 m (pc + 5) ls (.int r :: rest))) : W p l e R s m args below meth c H locs cells slots Q (F0 m pc ls (.int x1 :: .ref a0 :: rest)) :=
  va_callFi (va_runF (C := RJ4) (x := ⟨"java/lang/CharSequence", "charAt", "(I)C"⟩) (As := [.int x1]) (rest := rest) (b := a0) (cw_cls (k := 3) (C := RJ4) (T := TJ4) (N := 4) rfl hK) X (metJ4_charAt l _ _ _ _ _ hf) (va_cwF 1 X.2.2.2.2 (cw_F q1612 q1615 q1617 q138 q1619) rfl rfl rfl (hK.2.2.2.1 ("java/lang/String", ⟨"java/lang/CharSequence", "charAt", "(I)C"⟩, ⟨"java/lang/String", "charAt", "(I)C"⟩) (by decide +kernel)) (by decide +kernel) ⟨hF, hLo⟩) (cw_pV hK hR hS (cw_rc (k := 3) (C := RJ4) (T := TJ4) (N := 4) rfl (by decide) hK hR hkd)) rfl rfl hsz rfl (lv_room hrest) hdg ⟨hc, hs⟩) hS (fun q _ h => h) (fun q h => h) (fun r' u t H1 locs1 ht hvm hw hB hz1 hk1 hS1 => by subst hw; rw [ht] at hB; exact kk H1 locs1 hB hS1)
end C_J4_charAt_c
noncomputable def fJ2_init (D : cw_D) (a0 : Nat) (x1 : Int32) : Option (cw_D × Nat × Nat) :=
  if (1 : Int32) = 0 then none else ww_g (ww_i x1 100000000) (ww_b (cw_p (cw_nA D 21 x1.toNatClampNeg) [4] a0 0 (va_rf (some D.2.2))) (fun D_3 => ww_b (cw_p D_3 [4] a0 1 (.int (0 : Int32))) (fun D_4 => some (D_4, (0 + 1), (0 + x1.toNatClampNeg)))))
section C_J2_init_k
variable {p : Program} {l : Launch} {e : Env} {R : Room} {s : State} {m : MethodId} {args : Array Value} {below : List Frame} {meth : Method} {c : Code} {H : Heap} {locs : List Loc} {cells slots : Nat} {Q : State → Prop}
variable {cc : ByteArray} {pc : Nat} {ls : Array Slot} {rest : List Value} {nL : Nat} {E : cw_E} {A : Nat → Prop} {H0 : Heap}
theorem cJ3k_J2_init {D : cw_D} {a0 : Nat} {x1 : Int32} {D' : cw_D} {nc ns : Nat} (X : ww_C p m c cc nL s args RJ3 lw_all) (hsz : ls.size = nL) (hK : cw_K E A s) (hR : cw_H E A D H) (hS : va_S A s.heap H locs) (hF : 2 ≤ R.frames) (hLo : 121 ≤ R.locals) (hc : cells + nc ≤ R.cells) (hs : slots + ns ≤ R.slots) (hM : cw_MetV l yJ2_init cJ2_init 2 1 100 E A [.ref a0, .int x1] D D' nc ns) (hrest : (rest.map fun v => v.category).sum ≤ 8) (hdg : decode cc pc = .ok (.invokespecial 1, 3)) (kk : ∀ (H1 : Heap) (locs1 : List Loc), cw_H E A D' H1 → va_S A s.heap H1 locs1 → W p l e R s m args below meth c H1 locs1 (cells + nc) (slots + ns) Q (F0 m (pc + 3) ls (rest))) : W p l e R s m args below meth c H locs cells slots Q (F0 m pc ls (.int x1 :: .ref a0 :: rest)) :=
  va_callv (va_runI (As := [.int x1]) (rest := rest) (b := a0) X hM (cwI 1 X.2.2.2.2 (lw_meth q432) rfl rfl rfl (X.2.2.2.2 _ q136) (X.2.2.2.2 _ q430) (X.2.2.2.2 _ q431) rfl (by decide +kernel) ⟨hF, hLo⟩) (cw_pS hK hR hS) rfl rfl hsz rfl (lv_room hrest) hdg ⟨hc, hs⟩) hS (fun q _ h => h) (fun q h => h) (fun u t H1 locs1 ht hvm hw hB hz1 hk1 hS1 => by rw [ht] at hB; exact kk H1 locs1 hB hS1)
end C_J2_init_k
set_option maxHeartbeats 4000000 in
set_option maxRecDepth 100000 in
theorem metJ2_init (l : Launch) {E : cw_E} {A : Nat → Prop} (D : cw_D) (a0 : Nat) (x1 : Int32) (D' : cw_D) (nc ns : Nat) (hf : fJ2_init D a0 x1 = some (D', nc, ns)) : cw_MetV l yJ2_init cJ2_init 2 1 100 E A [.ref a0, .int x1] D D' nc ns := by
  unfold fJ2_init at hf
  refine cw_sVN (own := RJ2) (by decide +kernel) [(0, .ref a0), (1, .int x1)] ⟨Nat.le_of_ble_eq_true rfl, rfl⟩ ?_
  intro p e s m args below meth c Rm Q X hK hF hLo hC hin hend ls hl hR hS
  obtain ⟨hx, hb, hml, hown, hts⟩ := id X
  have hm9 : 0 ≤ nc ∧ 0 ≤ ns := ⟨Nat.zero_le _, Nat.zero_le _⟩
  refine lv_aload_n hx hb dJ2_init_0 rfl (lv_at hl 0 rfl) ?_
  refine W.objInit hx hb hown (hts _ q433) (hts _ q164) (hts _ q165) rfl (by rw [hml]; exact hl.1) rfl dJ2_init_1 (Nat.le_trans (Nat.le_of_ble_eq_true rfl) hF) (Nat.le_trans (Nat.le_of_ble_eq_true rfl) hLo) ?_
  refine W.eq (g2 := F0 m 4 ls []) rfl ?_
  refine va_gets hx hb hK.ct.2.1 hS hown (hts _ q434) (fun _ h9 => h9) dJ2_init_4 ?_
  refine lv_if_eq (tgt := 25) hx hb dJ2_init_7 (by decide) (fun c_1 => ?_) (fun c_1 => ?_)
  · replace hf := ww_ip hf c_1
    cases hf
  · replace hf := ww_in hf c_1
    refine lv_aload_n hx hb dJ2_init_10 rfl (lv_at hl 0 rfl) ?_
    refine lv_iload_n hx hb dJ2_init_11 rfl (lv_at hl 1 rfl) ?_
    obtain ⟨h_2, hq⟩ := ww_gS hf; replace hf := hq; clear hq
    have hm9 : (0 + 1) ≤ nc ∧ (0 + x1.toNatClampNeg) ≤ ns := by
      obtain ⟨D_3, h_3, hq⟩ := ww_bS hf; replace hf := hq; clear hq
      obtain ⟨D_4, h_4, hq⟩ := ww_bS hf; replace hf := hq; clear hq
      have e9 := hf
      simp only [Option.some.injEq, Prod.mk.injEq] at e9
      omega
    refine cw_onewa (kd := 21) X hK hR hS (by decide) h_2 rfl (Nat.le_trans hm9.1 hC.1) (Nat.le_trans hm9.2 hC.2) dJ2_init_12 q231 (fun H hR hS => ?_)
    obtain ⟨D_3, h_3, hq⟩ := ww_bS hf; replace hf := hq; clear hq
    refine cJ2p_15 (v := (some D.2.2)) X hK hR hS h_3 dJ2_init_14 (fun H locs hR hS => ?_)
    refine lv_aload_n hx hb dJ2_init_17 rfl (lv_at hl 0 rfl) ?_
    refine lv_iconst (v := (0 : Int32)) hx hb dJ2_init_18 (by decide) ?_
    obtain ⟨D_4, h_4, hq⟩ := ww_bS hf; replace hf := hq; clear hq
    refine cJ2p_22 X hK hR hS h_4 dJ2_init_19 (fun H locs hR hS => ?_)
    refine lv_goto (tgt := 38) hx hb dJ2_init_22 (by decide) ?_
    exact hend dJ2_init_38 hf hR hS
section C_J2_init_c
variable {p : Program} {l : Launch} {e : Env} {R : Room} {s : State} {m : MethodId} {args : Array Value} {below : List Frame} {meth : Method} {c : Code} {H : Heap} {locs : List Loc} {cells slots : Nat} {Q : State → Prop}
variable {cc : ByteArray} {pc : Nat} {ls : Array Slot} {rest : List Value} {nL : Nat} {E : cw_E} {A : Nat → Prop} {H0 : Heap}
theorem cJ3c_J2_init {D : cw_D} {a0 : Nat} {x1 : Int32} {D' : cw_D} {nc ns : Nat} (X : ww_C p m c cc nL s args RJ3 lw_all) (hsz : ls.size = nL) (hK : cw_K E A s) (hR : cw_H E A D H) (hS : va_S A s.heap H locs) (hF : 2 ≤ R.frames) (hLo : 121 ≤ R.locals) (hc : cells + nc ≤ R.cells) (hs : slots + ns ≤ R.slots) (hf : fJ2_init D a0 x1 = some (D', nc, ns)) (hrest : (rest.map fun v => v.category).sum ≤ 8) (hdg : decode cc pc = .ok (.invokespecial 1, 3)) (kk : ∀ (H1 : Heap) (locs1 : List Loc), cw_H E A D' H1 → va_S A s.heap H1 locs1 → W p l e R s m args below meth c H1 locs1 (cells + nc) (slots + ns) Q (F0 m (pc + 3) ls (rest))) : W p l e R s m args below meth c H locs cells slots Q (F0 m pc ls (.int x1 :: .ref a0 :: rest)) :=
  cJ3k_J2_init X hsz hK hR hS hF hLo hc hs (metJ2_init l _ _ _ _ _ _ hf) hrest hdg kk
end C_J2_init_c
noncomputable def fJ2_newCapacity (D : cw_D) (a0 : Nat) (x1 : Int32) : Option (Int32) :=
  ww_b (cw_gR D [4] a0 0) (fun r_1 => ww_b r_1 (fun a_2 => ww_b (cw_ln D a_2) (fun r_3 => ww_b (cw_gI D [4] a0 1) (fun r_4 => ww_b (cw_gI D [4] a0 1) (fun r_5 => ww_b (fJ6_newLength r_3 ((x1 <<< (r_4 &&& 31)) - r_3) (r_3 + ((2 : Int32) <<< (r_5 &&& 31)))) (fun r_6 => if r_6 = (2147483647 : Int32) then none else ww_b (cw_gI D [4] a0 1) (fun r_8 => some (r_6 >>> (r_8 &&& 31)))))))))
section C_J2_newCapacity_k
variable {p : Program} {l : Launch} {e : Env} {R : Room} {s : State} {m : MethodId} {args : Array Value} {below : List Frame} {meth : Method} {c : Code} {H : Heap} {locs : List Loc} {cells slots : Nat} {Q : State → Prop}
variable {cc : ByteArray} {pc : Nat} {ls : Array Slot} {rest : List Value} {nL : Nat} {E : cw_E} {A : Nat → Prop} {H0 : Heap}
theorem cJ2k_J2_newCapacity {D : cw_D} {a0 : Nat} {x1 : Int32} {r : Int32} (X : ww_C p m c cc nL s args RJ2 lw_all) (hsz : ls.size = nL) (hK : cw_K E A s) (hR : cw_H E A D H) (hS : va_S A s.heap H locs) (hF : 3 ≤ R.frames) (hLo : 148 ≤ R.locals) (hc : cells ≤ R.cells) (hs : slots ≤ R.slots) (hkd : cw_kd D [4] (some a0) = true) (hM : cw_MetI l yJ2_newCapacity cJ2_newCapacity 6 (some Jvm.ClassFile.FieldType.int) 2 123 E A [.ref a0, .int x1] D D r 0 0) (hrest : (rest.map fun v => v.category).sum ≤ 8) (hdg : decode cc pc = .ok (.invokevirtual 104, 3)) (kk : ∀ (H1 : Heap) (locs1 : List Loc), cw_H E A D H1 → va_S A s.heap H1 locs1 → W p l e R s m args below meth c H1 locs1 cells slots Q (F0 m (pc + 3) ls (.int r :: rest))) : W p l e R s m args below meth c H locs cells slots Q (F0 m pc ls (.int x1 :: .ref a0 :: rest)) :=
  va_calli (cw_runP (n := 1) (C := RJ3) (As := [.int x1]) (rest := rest) (a := a0) q2379 X hM q467 (hK.ct.2.2.2.2.2.2.1 ⟨"java/lang/AbstractStringBuilder", "newCapacity", "(I)I"⟩ (by decide +kernel)) q469 q136 (lw_meth q470) rfl rfl rfl ⟨hF, hLo⟩ (by decide +kernel) (cw_pV hK hR hS (cw_rc (k := 4) (C := RJ3) (T := TJ3) (N := 4) rfl (by decide) hK hR hkd)) rfl rfl hsz rfl (lv_room hrest) hdg ⟨hc, hs⟩) hS (fun q _ h => h) (fun q h => h) (fun r' u t H1 locs1 ht hvm hw hB hz1 hk1 hS1 => by subst hw; rw [ht] at hB; exact kk H1 locs1 hB hS1)
end C_J2_newCapacity_k
set_option maxHeartbeats 4000000 in
set_option maxRecDepth 100000 in
theorem metJ2_newCapacity (l : Launch) {E : cw_E} {A : Nat → Prop} (D : cw_D) (a0 : Nat) (x1 : Int32) (r : Int32) (hf : fJ2_newCapacity D a0 x1 = some r) : cw_MetI l yJ2_newCapacity cJ2_newCapacity 6 (some Jvm.ClassFile.FieldType.int) 2 123 E A [.ref a0, .int x1] D D r 0 0 := by
  unfold fJ2_newCapacity at hf
  refine cw_sIP (own := RJ2) (by decide +kernel) [(0, .ref a0), (1, .int x1)] ⟨Nat.le_of_ble_eq_true rfl, rfl⟩ ?_
  intro p e s m args below meth c Rm Q X hK hF hLo hin hend ls hl hR hS
  obtain ⟨hx, hb, hml, hown, hts⟩ := id X
  refine lv_aload_n hx hb dJ2_newCapacity_0 rfl (lv_at hl 0 rfl) ?_
  obtain ⟨r_1, h_1, hq⟩ := ww_bS hf; replace hf := hq; clear hq
  refine cJ2g_15 X hK hR h_1 dJ2_newCapacity_1 ?_
  obtain ⟨a_2, e_2, hq⟩ := ww_bS hf; replace hf := hq; clear hq
  subst e_2
  obtain ⟨r_3, h_3, hq⟩ := ww_bS hf; replace hf := hq; clear hq
  refine cw_oln (x := some a_2) X hK hR rfl h_3 dJ2_newCapacity_4 ?_
  refine lv_istore_n (lv' := [(2, .int r_3), (0, .ref a0), (1, .int x1)]) hx hb dJ2_newCapacity_5 rfl hl (by decide) rfl (fun ls hl => ?_)
  refine lv_iload_n hx hb dJ2_newCapacity_6 rfl (lv_at hl 2 rfl) ?_
  refine lv_aload_n hx hb dJ2_newCapacity_7 rfl (lv_at hl 1 rfl) ?_
  obtain ⟨r_4, h_4, hq⟩ := ww_bS hf; replace hf := hq; clear hq
  refine cJ2g_22 X hK hR h_4 dJ2_newCapacity_8 ?_
  refine lv_ishl hx hb dJ2_newCapacity_11 ?_
  refine lv_istore_n (lv' := [(3, .int (x1 <<< (r_4 &&& 31))), (2, .int r_3), (0, .ref a0), (1, .int x1)]) hx hb dJ2_newCapacity_12 rfl hl (by decide) rfl (fun ls hl => ?_)
  refine lv_iload_n hx hb dJ2_newCapacity_13 rfl (lv_at hl 0 rfl) ?_
  refine lv_iload_n hx hb dJ2_newCapacity_14 rfl (lv_at hl 1 rfl) ?_
  refine lv_isub hx hb dJ2_newCapacity_15 ?_
  refine lv_istore (lv' := [(4, .int ((x1 <<< (r_4 &&& 31)) - r_3)), (3, .int (x1 <<< (r_4 &&& 31))), (2, .int r_3), (0, .ref a0), (1, .int x1)]) hx hb dJ2_newCapacity_16 hl (by decide) rfl (fun ls hl => ?_)
  refine lv_iload_n hx hb dJ2_newCapacity_18 rfl (lv_at hl 2 rfl) ?_
  refine lv_iload hx hb dJ2_newCapacity_19 (lv_at hl 0 rfl) ?_
  refine lv_iload_n hx hb dJ2_newCapacity_21 rfl (lv_at hl 2 rfl) ?_
  refine lv_iconst (v := (2 : Int32)) hx hb dJ2_newCapacity_22 (by decide) ?_
  refine lv_aload_n hx hb dJ2_newCapacity_23 rfl (lv_at hl 3 rfl) ?_
  obtain ⟨r_5, h_5, hq⟩ := ww_bS hf; replace hf := hq; clear hq
  refine cJ2g_22 X hK hR h_5 dJ2_newCapacity_24 ?_
  refine lv_ishl hx hb dJ2_newCapacity_27 ?_
  refine lv_iadd hx hb dJ2_newCapacity_28 ?_
  obtain ⟨r_6, h_6, hq⟩ := ww_bS hf; replace hf := hq; clear hq
  refine cJ2c_J6_newLength X hl.1 (Nat.le_trans (Nat.le_of_ble_eq_true rfl) hF) (Nat.le_trans (Nat.le_of_ble_eq_true rfl) hLo) (Nat.zero_le _) (Nat.zero_le _) h_6 (cw_rest (Nat.le_of_ble_eq_true rfl)) dJ2_newCapacity_29 ?_
  refine lv_istore (lv' := [(5, .int r_6), (4, .int ((x1 <<< (r_4 &&& 31)) - r_3)), (3, .int (x1 <<< (r_4 &&& 31))), (2, .int r_3), (0, .ref a0), (1, .int x1)]) hx hb dJ2_newCapacity_32 hl (by decide) rfl (fun ls hl => ?_)
  refine lv_iload hx hb dJ2_newCapacity_34 (lv_at hl 0 rfl) ?_
  refine lv_ldc (v := (2147483647 : Int32)) hx hb hown (hts _ q481) dJ2_newCapacity_36 ?_
  refine lv_icmp_ne (tgt := 51) hx hb dJ2_newCapacity_38 (by decide) (fun c_7 => ?_) (fun c_7 => ?_)
  · replace hf := ww_in hf c_7
    refine lv_iload hx hb dJ2_newCapacity_51 (lv_at hl 0 rfl) ?_
    refine lv_aload_n hx hb dJ2_newCapacity_53 rfl (lv_at hl 4 rfl) ?_
    obtain ⟨r_8, h_8, hq⟩ := ww_bS hf; replace hf := hq; clear hq
    refine cJ2g_22 X hK hR h_8 dJ2_newCapacity_54 ?_
    refine lv_ishr hx hb dJ2_newCapacity_57 ?_
    exact hend dJ2_newCapacity_58 rfl rfl hf hR hS
  · replace hf := ww_ip hf c_7
    cases hf
section C_J2_newCapacity_c
variable {p : Program} {l : Launch} {e : Env} {R : Room} {s : State} {m : MethodId} {args : Array Value} {below : List Frame} {meth : Method} {c : Code} {H : Heap} {locs : List Loc} {cells slots : Nat} {Q : State → Prop}
variable {cc : ByteArray} {pc : Nat} {ls : Array Slot} {rest : List Value} {nL : Nat} {E : cw_E} {A : Nat → Prop} {H0 : Heap}
theorem cJ2c_J2_newCapacity {D : cw_D} {a0 : Nat} {x1 : Int32} {r : Int32} (X : ww_C p m c cc nL s args RJ2 lw_all) (hsz : ls.size = nL) (hK : cw_K E A s) (hR : cw_H E A D H) (hS : va_S A s.heap H locs) (hF : 3 ≤ R.frames) (hLo : 148 ≤ R.locals) (hc : cells ≤ R.cells) (hs : slots ≤ R.slots) (hkd : cw_kd D [4] (some a0) = true) (hf : fJ2_newCapacity D a0 x1 = some r) (hrest : (rest.map fun v => v.category).sum ≤ 8) (hdg : decode cc pc = .ok (.invokevirtual 104, 3)) (kk : ∀ (H1 : Heap) (locs1 : List Loc), cw_H E A D H1 → va_S A s.heap H1 locs1 → W p l e R s m args below meth c H1 locs1 cells slots Q (F0 m (pc + 3) ls (.int r :: rest))) : W p l e R s m args below meth c H locs cells slots Q (F0 m pc ls (.int x1 :: .ref a0 :: rest)) :=
  cJ2k_J2_newCapacity X hsz hK hR hS hF hLo hc hs hkd (metJ2_newCapacity l _ _ _ _ hf) hrest hdg kk
end C_J2_newCapacity_c
noncomputable def fJ2_ensureCapacityInternal (D : cw_D) (a0 : Nat) (x1 : Int32) : Option (cw_D × Nat × Nat) :=
  ww_b (cw_gR D [4] a0 0) (fun r_1 => ww_b r_1 (fun a_2 => ww_b (cw_ln D a_2) (fun r_3 => ww_b (cw_gI D [4] a0 1) (fun r_4 => if (x1 - (r_3 >>> (r_4 &&& 31))) ≤ 0 then some (D, 0, 0) else ww_b (cw_gR D [4] a0 0) (fun r_6 => ww_g (cw_kd D [4] (some a0)) (ww_b (fJ2_newCapacity D a0 x1) (fun r_8 => ww_b (cw_gI D [4] a0 1) (fun r_9 => ww_b4 (fJ8_copyOf D r_6 (r_8 <<< (r_9 &&& 31))) (fun r_10 D_10 c_10 k_10 => ww_b (cw_p D_10 [4] a0 0 (va_rf r_10)) (fun D_11 => some (D_11, (0 + c_10), (0 + k_10))))))))))))
section C_J2_ensureCapacityInternal_k
variable {p : Program} {l : Launch} {e : Env} {R : Room} {s : State} {m : MethodId} {args : Array Value} {below : List Frame} {meth : Method} {c : Code} {H : Heap} {locs : List Loc} {cells slots : Nat} {Q : State → Prop}
variable {cc : ByteArray} {pc : Nat} {ls : Array Slot} {rest : List Value} {nL : Nat} {E : cw_E} {A : Nat → Prop} {H0 : Heap}
theorem cJ2k_J2_ensureCapacityInternal {D : cw_D} {a0 : Nat} {x1 : Int32} {D' : cw_D} {nc ns : Nat} (X : ww_C p m c cc nL s args RJ2 lw_all) (hsz : ls.size = nL) (hK : cw_K E A s) (hR : cw_H E A D H) (hS : va_S A s.heap H locs) (hF : 4 ≤ R.frames) (hLo : 170 ≤ R.locals) (hc : cells + nc ≤ R.cells) (hs : slots + ns ≤ R.slots) (hkd : cw_kd D [4] (some a0) = true) (hM : cw_MetV l yJ2_ensureCapacityInternal cJ2_ensureCapacityInternal 3 3 148 E A [.ref a0, .int x1] D D' nc ns) (hrest : (rest.map fun v => v.category).sum ≤ 8) (hdg : decode cc pc = .ok (.invokevirtual 100, 3)) (kk : ∀ (H1 : Heap) (locs1 : List Loc), cw_H E A D' H1 → va_S A s.heap H1 locs1 → W p l e R s m args below meth c H1 locs1 (cells + nc) (slots + ns) Q (F0 m (pc + 3) ls (rest))) : W p l e R s m args below meth c H locs cells slots Q (F0 m pc ls (.int x1 :: .ref a0 :: rest)) :=
  va_callv (cw_runP (n := 1) (C := RJ3) (As := [.int x1]) (rest := rest) (a := a0) q2378 X hM q463 (hK.ct.2.2.2.2.2.2.1 ⟨"java/lang/AbstractStringBuilder", "ensureCapacityInternal", "(I)V"⟩ (by decide +kernel)) q465 q136 (lw_meth q466) rfl rfl rfl ⟨hF, hLo⟩ (by decide +kernel) (cw_pV hK hR hS (cw_rc (k := 4) (C := RJ3) (T := TJ3) (N := 4) rfl (by decide) hK hR hkd)) rfl rfl hsz rfl (lv_room hrest) hdg ⟨hc, hs⟩) hS (fun q _ h => h) (fun q h => h) (fun u t H1 locs1 ht hvm hw hB hz1 hk1 hS1 => by rw [ht] at hB; exact kk H1 locs1 hB hS1)
end C_J2_ensureCapacityInternal_k
set_option maxHeartbeats 4000000 in
set_option maxRecDepth 100000 in
theorem metJ2_ensureCapacityInternal (l : Launch) {E : cw_E} {A : Nat → Prop} (D : cw_D) (a0 : Nat) (x1 : Int32) (D' : cw_D) (nc ns : Nat) (hf : fJ2_ensureCapacityInternal D a0 x1 = some (D', nc, ns)) : cw_MetV l yJ2_ensureCapacityInternal cJ2_ensureCapacityInternal 3 3 148 E A [.ref a0, .int x1] D D' nc ns := by
  unfold fJ2_ensureCapacityInternal at hf
  refine cw_sVN (own := RJ2) (by decide +kernel) [(0, .ref a0), (1, .int x1)] ⟨Nat.le_of_ble_eq_true rfl, rfl⟩ ?_
  intro p e s m args below meth c Rm Q X hK hF hLo hC hin hend ls hl hR hS
  obtain ⟨hx, hb, hml, hown, hts⟩ := id X
  have hm9 : 0 ≤ nc ∧ 0 ≤ ns := ⟨Nat.zero_le _, Nat.zero_le _⟩
  refine lv_aload_n hx hb dJ2_ensureCapacityInternal_0 rfl (lv_at hl 0 rfl) ?_
  obtain ⟨r_1, h_1, hq⟩ := ww_bS hf; replace hf := hq; clear hq
  refine cJ2g_15 X hK hR h_1 dJ2_ensureCapacityInternal_1 ?_
  obtain ⟨a_2, e_2, hq⟩ := ww_bS hf; replace hf := hq; clear hq
  subst e_2
  obtain ⟨r_3, h_3, hq⟩ := ww_bS hf; replace hf := hq; clear hq
  refine cw_oln (x := some a_2) X hK hR rfl h_3 dJ2_ensureCapacityInternal_4 ?_
  refine lv_aload_n hx hb dJ2_ensureCapacityInternal_5 rfl (lv_at hl 0 rfl) ?_
  obtain ⟨r_4, h_4, hq⟩ := ww_bS hf; replace hf := hq; clear hq
  refine cJ2g_22 X hK hR h_4 dJ2_ensureCapacityInternal_6 ?_
  refine lv_ishr hx hb dJ2_ensureCapacityInternal_9 ?_
  refine lv_istore_n (lv' := [(2, .int (r_3 >>> (r_4 &&& 31))), (0, .ref a0), (1, .int x1)]) hx hb dJ2_ensureCapacityInternal_10 rfl hl (by decide) rfl (fun ls hl => ?_)
  refine lv_iload_n hx hb dJ2_ensureCapacityInternal_11 rfl (lv_at hl 2 rfl) ?_
  refine lv_iload_n hx hb dJ2_ensureCapacityInternal_12 rfl (lv_at hl 0 rfl) ?_
  refine lv_isub hx hb dJ2_ensureCapacityInternal_13 ?_
  refine lv_if_le (tgt := 38) hx hb dJ2_ensureCapacityInternal_14 (by decide) (fun c_5 => ?_) (fun c_5 => ?_)
  · replace hf := ww_ip hf c_5
    exact hend dJ2_ensureCapacityInternal_38 hf hR hS
  · replace hf := ww_in hf c_5
    refine lv_aload_n hx hb dJ2_ensureCapacityInternal_17 rfl (lv_at hl 1 rfl) ?_
    refine lv_aload_n hx hb dJ2_ensureCapacityInternal_18 rfl (lv_at hl 1 rfl) ?_
    obtain ⟨r_6, h_6, hq⟩ := ww_bS hf; replace hf := hq; clear hq
    refine cJ2g_15 X hK hR h_6 dJ2_ensureCapacityInternal_19 ?_
    refine lv_aload_n hx hb dJ2_ensureCapacityInternal_22 rfl (lv_at hl 1 rfl) ?_
    refine lv_iload_n hx hb dJ2_ensureCapacityInternal_23 rfl (lv_at hl 2 rfl) ?_
    obtain ⟨h_7, hq⟩ := ww_gS hf; replace hf := hq; clear hq
    obtain ⟨r_8, h_8, hq⟩ := ww_bS hf; replace hf := hq; clear hq
    refine cJ2c_J2_newCapacity X hl.1 hK hR hS (Nat.le_trans (Nat.le_of_ble_eq_true rfl) hF) (Nat.le_trans (Nat.le_of_ble_eq_true rfl) hLo) (Nat.le_trans hm9.1 hC.1) (Nat.le_trans hm9.2 hC.2) h_7 h_8 (cw_rest (Nat.le_of_ble_eq_true rfl)) dJ2_ensureCapacityInternal_24 (fun H locs hR hS => ?_)
    refine lv_aload_n hx hb dJ2_ensureCapacityInternal_27 rfl (lv_at hl 1 rfl) ?_
    obtain ⟨r_9, h_9, hq⟩ := ww_bS hf; replace hf := hq; clear hq
    refine cJ2g_22 X hK hR h_9 dJ2_ensureCapacityInternal_28 ?_
    refine lv_ishl hx hb dJ2_ensureCapacityInternal_31 ?_
    obtain ⟨r_10, D_10, c_10, k_10, h_10, hq⟩ := ww_b4S hf; replace hf := hq; clear hq
    have hm9 : (0 + c_10) ≤ nc ∧ (0 + k_10) ≤ ns := by
      obtain ⟨D_11, h_11, hq⟩ := ww_bS hf; replace hf := hq; clear hq
      have e9 := hf
      simp only [Option.some.injEq, Prod.mk.injEq] at e9
      omega
    refine cJ2c_J8_copyOf (x0 := r_6) X hl.1 hK hR hS (Nat.le_trans (Nat.le_of_ble_eq_true rfl) hF) (Nat.le_trans (Nat.le_of_ble_eq_true rfl) hLo) (Nat.le_trans hm9.1 hC.1) (Nat.le_trans hm9.2 hC.2) h_10 (cw_rest (Nat.le_of_ble_eq_true rfl)) dJ2_ensureCapacityInternal_32 (fun H locs hR hS => ?_)
    obtain ⟨D_11, h_11, hq⟩ := ww_bS hf; replace hf := hq; clear hq
    refine cJ2p_15 (v := r_10) X hK hR hS h_11 dJ2_ensureCapacityInternal_35 (fun H locs hR hS => ?_)
    exact hend dJ2_ensureCapacityInternal_38 hf hR hS
section C_J2_ensureCapacityInternal_c
variable {p : Program} {l : Launch} {e : Env} {R : Room} {s : State} {m : MethodId} {args : Array Value} {below : List Frame} {meth : Method} {c : Code} {H : Heap} {locs : List Loc} {cells slots : Nat} {Q : State → Prop}
variable {cc : ByteArray} {pc : Nat} {ls : Array Slot} {rest : List Value} {nL : Nat} {E : cw_E} {A : Nat → Prop} {H0 : Heap}
theorem cJ2c_J2_ensureCapacityInternal {D : cw_D} {a0 : Nat} {x1 : Int32} {D' : cw_D} {nc ns : Nat} (X : ww_C p m c cc nL s args RJ2 lw_all) (hsz : ls.size = nL) (hK : cw_K E A s) (hR : cw_H E A D H) (hS : va_S A s.heap H locs) (hF : 4 ≤ R.frames) (hLo : 170 ≤ R.locals) (hc : cells + nc ≤ R.cells) (hs : slots + ns ≤ R.slots) (hkd : cw_kd D [4] (some a0) = true) (hf : fJ2_ensureCapacityInternal D a0 x1 = some (D', nc, ns)) (hrest : (rest.map fun v => v.category).sum ≤ 8) (hdg : decode cc pc = .ok (.invokevirtual 100, 3)) (kk : ∀ (H1 : Heap) (locs1 : List Loc), cw_H E A D' H1 → va_S A s.heap H1 locs1 → W p l e R s m args below meth c H1 locs1 (cells + nc) (slots + ns) Q (F0 m (pc + 3) ls (rest))) : W p l e R s m args below meth c H locs cells slots Q (F0 m pc ls (.int x1 :: .ref a0 :: rest)) :=
  cJ2k_J2_ensureCapacityInternal X hsz hK hR hS hF hLo hc hs hkd (metJ2_ensureCapacityInternal l _ _ _ _ _ _ hf) hrest hdg kk
end C_J2_ensureCapacityInternal_c
noncomputable def fJ2_append (D : cw_D) (a0 : Nat) (x1 : Int32) : Option (Option Nat × cw_D × Nat × Nat) :=
  ww_b (cw_gI D [4] a0 3) (fun r_1 => ww_g (cw_kd D [4] (some a0)) (ww_b3 (fJ2_ensureCapacityInternal D a0 (r_1 + (1 : Int32))) (fun D_3 c_3 k_3 => ww_g (cw_kd D_3 [4] (some a0)) (ww_b (fJ2_isLatin1 D_3 a0) (fun r_5 => if r_5 = 0 then none else ww_b (fJ9_canEncode x1) (fun r_7 => if r_7 = 0 then none else ww_b (cw_gR D_3 [4] a0 0) (fun r_9 => ww_b (cw_gI D_3 [4] a0 3) (fun r_10 => ww_b (cw_p D_3 [4] a0 3 (.int (r_10 + (1 : Int32)))) (fun D_11 => ww_b r_9 (fun a_12 => ww_b (cw_sI D_11 21 a_12 r_10 (vp_nar .byte x1.toInt8.toInt32)) (fun D_13 => some ((some a0), D_13, (0 + c_3), (0 + k_3)))))))))))))
section C_J2_append_k
variable {p : Program} {l : Launch} {e : Env} {R : Room} {s : State} {m : MethodId} {args : Array Value} {below : List Frame} {meth : Method} {c : Code} {H : Heap} {locs : List Loc} {cells slots : Nat} {Q : State → Prop}
variable {cc : ByteArray} {pc : Nat} {ls : Array Slot} {rest : List Value} {nL : Nat} {E : cw_E} {A : Nat → Prop} {H0 : Heap}
theorem cJ3k_J2_append {D : cw_D} {a0 : Nat} {x1 : Int32} {r : Option Nat} {D' : cw_D} {nc ns : Nat} (X : ww_C p m c cc nL s args RJ3 lw_all) (hsz : ls.size = nL) (hK : cw_K E A s) (hR : cw_H E A D H) (hS : va_S A s.heap H locs) (hF : 5 ≤ R.frames) (hLo : 191 ≤ R.locals) (hc : cells + nc ≤ R.cells) (hs : slots + ns ≤ R.slots) (hkd : cw_kd D [4] (some a0) = true) (hM : cw_MetQ l yJ2_append cJ2_append 2 (some (Jvm.ClassFile.FieldType.object "java/lang/AbstractStringBuilder")) 4 170 E A [.ref a0, .int x1] D D' r nc ns) (hrest : (rest.map fun v => v.category).sum ≤ 8) (hdg : decode cc pc = .ok (.invokespecial 50, 3)) (kk : ∀ (H1 : Heap) (locs1 : List Loc), cw_H E A D' H1 → va_S A s.heap H1 locs1 → W p l e R s m args below meth c H1 locs1 (cells + nc) (slots + ns) Q (F0 m (pc + 3) ls (va_rf r :: rest))) : W p l e R s m args below meth c H locs cells slots Q (F0 m pc ls (.int x1 :: .ref a0 :: rest)) :=
  va_callq (va_runSU (C := RJ3) (As := [.int x1]) (rest := rest) (b := a0) (cw_cls (k := 4) (C := RJ3) (T := TJ3) (N := 4) rfl hK) X hM (va_cwSU 1 X.2.2.2.2 (cw_SU q460 q2377 q455 q461 q136 q462) rfl rfl rfl (by decide +kernel) ⟨hF, hLo⟩) (cw_pV hK hR hS (cw_rc (k := 4) (C := RJ3) (T := TJ3) (N := 4) rfl (by decide) hK hR hkd)) rfl rfl hsz rfl (lv_room hrest) hdg ⟨hc, hs⟩) hS (fun q _ h => h) (fun q h => h) (fun r' u t H1 locs1 ht hvm hw hB hz1 hk1 hS1 => by subst hw; rw [ht] at hB; exact kk H1 locs1 hB hS1)
end C_J2_append_k
set_option maxHeartbeats 4000000 in
set_option maxRecDepth 100000 in
theorem metJ2_append (l : Launch) {E : cw_E} {A : Nat → Prop} (D : cw_D) (a0 : Nat) (x1 : Int32) (r : Option Nat) (D' : cw_D) (nc ns : Nat) (hf : fJ2_append D a0 x1 = some (r, D', nc, ns)) : cw_MetQ l yJ2_append cJ2_append 2 (some (Jvm.ClassFile.FieldType.object "java/lang/AbstractStringBuilder")) 4 170 E A [.ref a0, .int x1] D D' r nc ns := by
  unfold fJ2_append at hf
  refine cw_sQN (own := RJ2) (by decide +kernel) [(0, .ref a0), (1, .int x1)] ⟨Nat.le_of_ble_eq_true rfl, rfl⟩ ?_
  intro p e s m args below meth c Rm Q X hK hF hLo hC hin hend ls hl hR hS
  obtain ⟨hx, hb, hml, hown, hts⟩ := id X
  have hm9 : 0 ≤ nc ∧ 0 ≤ ns := ⟨Nat.zero_le _, Nat.zero_le _⟩
  refine lv_aload_n hx hb dJ2_append_0 rfl (lv_at hl 0 rfl) ?_
  refine lv_aload_n hx hb dJ2_append_1 rfl (lv_at hl 0 rfl) ?_
  obtain ⟨r_1, h_1, hq⟩ := ww_bS hf; replace hf := hq; clear hq
  refine cJ2g_79 X hK hR h_1 dJ2_append_2 ?_
  refine lv_iconst (v := (1 : Int32)) hx hb dJ2_append_5 (by decide) ?_
  refine lv_iadd hx hb dJ2_append_6 ?_
  obtain ⟨h_2, hq⟩ := ww_gS hf; replace hf := hq; clear hq
  obtain ⟨D_3, c_3, k_3, h_3, hq⟩ := ww_b3S hf; replace hf := hq; clear hq
  have hm9 : (0 + c_3) ≤ nc ∧ (0 + k_3) ≤ ns := by
    obtain ⟨h_4, hq⟩ := ww_gS hf; replace hf := hq; clear hq
    obtain ⟨r_5, h_5, hq⟩ := ww_bS hf; replace hf := hq; clear hq
    refine ww_by (r_5 = 0) (fun c_6 => ?_) (fun c_6 => ?_)
    · replace hf := ww_ip hf c_6
      cases hf
    · replace hf := ww_in hf c_6
      obtain ⟨r_7, h_7, hq⟩ := ww_bS hf; replace hf := hq; clear hq
      refine ww_by (r_7 = 0) (fun c_8 => ?_) (fun c_8 => ?_)
      · replace hf := ww_ip hf c_8
        cases hf
      · replace hf := ww_in hf c_8
        obtain ⟨r_9, h_9, hq⟩ := ww_bS hf; replace hf := hq; clear hq
        obtain ⟨r_10, h_10, hq⟩ := ww_bS hf; replace hf := hq; clear hq
        obtain ⟨D_11, h_11, hq⟩ := ww_bS hf; replace hf := hq; clear hq
        obtain ⟨a_12, e_12, hq⟩ := ww_bS hf; replace hf := hq; clear hq
        subst e_12
        obtain ⟨D_13, h_13, hq⟩ := ww_bS hf; replace hf := hq; clear hq
        have e9 := hf
        simp only [Option.some.injEq, Prod.mk.injEq] at e9
        omega
  refine cJ2c_J2_ensureCapacityInternal X hl.1 hK hR hS (Nat.le_trans (Nat.le_of_ble_eq_true rfl) hF) (Nat.le_trans (Nat.le_of_ble_eq_true rfl) hLo) (Nat.le_trans hm9.1 hC.1) (Nat.le_trans hm9.2 hC.2) h_2 h_3 (cw_rest (Nat.le_of_ble_eq_true rfl)) dJ2_append_7 (fun H locs hR hS => ?_)
  refine lv_aload_n hx hb dJ2_append_10 rfl (lv_at hl 0 rfl) ?_
  obtain ⟨h_4, hq⟩ := ww_gS hf; replace hf := hq; clear hq
  obtain ⟨r_5, h_5, hq⟩ := ww_bS hf; replace hf := hq; clear hq
  refine cJ2c_J2_isLatin1 X hl.1 hK hR hS (Nat.le_trans (Nat.le_of_ble_eq_true rfl) hF) (Nat.le_trans (Nat.le_of_ble_eq_true rfl) hLo) (Nat.le_trans hm9.1 hC.1) (Nat.le_trans hm9.2 hC.2) h_4 h_5 (cw_rest (Nat.le_of_ble_eq_true rfl)) dJ2_append_11 (fun H locs hR hS => ?_)
  refine lv_if_eq (tgt := 45) hx hb dJ2_append_14 (by decide) (fun c_6 => ?_) (fun c_6 => ?_)
  · replace hf := ww_ip hf c_6
    cases hf
  · replace hf := ww_in hf c_6
    refine lv_iload_n hx hb dJ2_append_17 rfl (lv_at hl 1 rfl) ?_
    obtain ⟨r_7, h_7, hq⟩ := ww_bS hf; replace hf := hq; clear hq
    refine cJ2c_J9_canEncode X hl.1 (Nat.le_trans (Nat.le_of_ble_eq_true rfl) hF) (Nat.le_trans (Nat.le_of_ble_eq_true rfl) hLo) (Nat.le_trans hm9.1 hC.1) (Nat.le_trans hm9.2 hC.2) h_7 (cw_rest (Nat.le_of_ble_eq_true rfl)) dJ2_append_18 ?_
    refine lv_if_eq (tgt := 45) hx hb dJ2_append_21 (by decide) (fun c_8 => ?_) (fun c_8 => ?_)
    · replace hf := ww_ip hf c_8
      cases hf
    · replace hf := ww_in hf c_8
      refine lv_aload_n hx hb dJ2_append_24 rfl (lv_at hl 0 rfl) ?_
      obtain ⟨r_9, h_9, hq⟩ := ww_bS hf; replace hf := hq; clear hq
      refine cJ2g_15 X hK hR h_9 dJ2_append_25 ?_
      refine lv_aload_n hx hb dJ2_append_28 rfl (lv_at hl 0 rfl) ?_
      refine lv_dup hx hb dJ2_append_29 rfl ?_
      obtain ⟨r_10, h_10, hq⟩ := ww_bS hf; replace hf := hq; clear hq
      refine cJ2g_79 X hK hR h_10 dJ2_append_30 ?_
      refine lv_dup_x1 hx hb dJ2_append_33 rfl rfl ?_
      refine lv_iconst (v := (1 : Int32)) hx hb dJ2_append_34 (by decide) ?_
      refine lv_iadd hx hb dJ2_append_35 ?_
      obtain ⟨D_11, h_11, hq⟩ := ww_bS hf; replace hf := hq; clear hq
      refine cJ2p_79 X hK hR hS h_11 dJ2_append_36 (fun H locs hR hS => ?_)
      refine lv_iload_n hx hb dJ2_append_39 rfl (lv_at hl 1 rfl) ?_
      refine lv_i2b (v := x1.toInt8.toInt32) hx hb dJ2_append_40 rfl ?_
      obtain ⟨a_12, e_12, hq⟩ := ww_bS hf; replace hf := hq; clear hq
      subst e_12
      obtain ⟨D_13, h_13, hq⟩ := ww_bS hf; replace hf := hq; clear hq
      refine cw_osI (kd := 21) (x' := some a_12) (v := x1.toInt8.toInt32) X hK hR hS (Or.inr ⟨rfl, rfl, rfl⟩) rfl h_13 dJ2_append_41 (fun H locs hR hS => ?_)
      refine lv_goto (tgt := 75) hx hb dJ2_append_42 (by decide) ?_
      refine lv_aload_n hx hb dJ2_append_75 rfl (lv_at hl 0 rfl) ?_
      exact hend (v := (some a0)) dJ2_append_76 rfl (Or.inl ⟨_, rfl⟩) hf hR hS
section C_J2_append_c
variable {p : Program} {l : Launch} {e : Env} {R : Room} {s : State} {m : MethodId} {args : Array Value} {below : List Frame} {meth : Method} {c : Code} {H : Heap} {locs : List Loc} {cells slots : Nat} {Q : State → Prop}
variable {cc : ByteArray} {pc : Nat} {ls : Array Slot} {rest : List Value} {nL : Nat} {E : cw_E} {A : Nat → Prop} {H0 : Heap}
theorem cJ3c_J2_append {D : cw_D} {a0 : Nat} {x1 : Int32} {r : Option Nat} {D' : cw_D} {nc ns : Nat} (X : ww_C p m c cc nL s args RJ3 lw_all) (hsz : ls.size = nL) (hK : cw_K E A s) (hR : cw_H E A D H) (hS : va_S A s.heap H locs) (hF : 5 ≤ R.frames) (hLo : 191 ≤ R.locals) (hc : cells + nc ≤ R.cells) (hs : slots + ns ≤ R.slots) (hkd : cw_kd D [4] (some a0) = true) (hf : fJ2_append D a0 x1 = some (r, D', nc, ns)) (hrest : (rest.map fun v => v.category).sum ≤ 8) (hdg : decode cc pc = .ok (.invokespecial 50, 3)) (kk : ∀ (H1 : Heap) (locs1 : List Loc), cw_H E A D' H1 → va_S A s.heap H1 locs1 → W p l e R s m args below meth c H1 locs1 (cells + nc) (slots + ns) Q (F0 m (pc + 3) ls (va_rf r :: rest))) : W p l e R s m args below meth c H locs cells slots Q (F0 m pc ls (.int x1 :: .ref a0 :: rest)) :=
  cJ3k_J2_append X hsz hK hR hS hF hLo hc hs hkd (metJ2_append l _ _ _ _ _ _ _ hf) hrest hdg kk
end C_J2_append_c
noncomputable def fJ2_inflateIfNeededFor (D : cw_D) (a0 : Nat) (x1 : Option Nat) : Option (cw_D) :=
  if (1 : Int32) = 0 then some D else ww_b (cw_gI D [4] a0 1) (fun r_2 => ww_b x1 (fun a_3 => ww_g (cw_kd D [3] (some a_3)) (ww_b (fJ4_coder D a_3) (fun r_5 => if r_2 = r_5 then some D else none))))
section C_J2_inflateIfNeededFor_k
variable {p : Program} {l : Launch} {e : Env} {R : Room} {s : State} {m : MethodId} {args : Array Value} {below : List Frame} {meth : Method} {c : Code} {H : Heap} {locs : List Loc} {cells slots : Nat} {Q : State → Prop}
variable {cc : ByteArray} {pc : Nat} {ls : Array Slot} {rest : List Value} {nL : Nat} {E : cw_E} {A : Nat → Prop} {H0 : Heap}
theorem cJ2k_J2_inflateIfNeededFor {D : cw_D} {a0 : Nat} {x1 : Option Nat} {D' : cw_D} (X : ww_C p m c cc nL s args RJ2 lw_all) (hsz : ls.size = nL) (hK : cw_K E A s) (hR : cw_H E A D H) (hS : va_S A s.heap H locs) (hF : 2 ≤ R.frames) (hLo : 41 ≤ R.locals) (hc : cells ≤ R.cells) (hs : slots ≤ R.slots) (hkd : cw_kd D [4] (some a0) = true) (hM : cw_MetV l yJ2_inflateIfNeededFor cJ2_inflateIfNeededFor 2 1 20 E A [.ref a0, va_rf x1] D D' 0 0) (hrest : (rest.map fun v => v.category).sum ≤ 8) (hdg : decode cc pc = .ok (.invokevirtual 397, 3)) (kk : ∀ (H1 : Heap) (locs1 : List Loc), cw_H E A D' H1 → va_S A s.heap H1 locs1 → W p l e R s m args below meth c H1 locs1 cells slots Q (F0 m (pc + 3) ls (rest))) : W p l e R s m args below meth c H locs cells slots Q (F0 m pc ls (va_rf x1 :: .ref a0 :: rest)) :=
  va_callv (cw_runP (n := 1) (C := RJ3) (As := [va_rf x1]) (rest := rest) (a := a0) q2384 X hM q1543 (hK.ct.2.2.2.2.2.2.1 ⟨"java/lang/AbstractStringBuilder", "inflateIfNeededFor", "(Ljava/lang/String;)V"⟩ (by decide +kernel)) q1545 q136 (lw_meth q1546) rfl rfl rfl ⟨hF, hLo⟩ (by decide +kernel) (cw_pV hK hR hS (cw_rc (k := 4) (C := RJ3) (T := TJ3) (N := 4) rfl (by decide) hK hR hkd)) rfl rfl hsz rfl (lv_room hrest) hdg ⟨hc, hs⟩) hS (fun q _ h => h) (fun q h => h) (fun u t H1 locs1 ht hvm hw hB hz1 hk1 hS1 => by rw [ht] at hB; exact kk H1 locs1 hB hS1)
end C_J2_inflateIfNeededFor_k
set_option maxHeartbeats 4000000 in
set_option maxRecDepth 100000 in
theorem metJ2_inflateIfNeededFor (l : Launch) {E : cw_E} {A : Nat → Prop} (D : cw_D) (a0 : Nat) (x1 : Option Nat) (D' : cw_D) (hf : fJ2_inflateIfNeededFor D a0 x1 = some D') : cw_MetV l yJ2_inflateIfNeededFor cJ2_inflateIfNeededFor 2 1 20 E A [.ref a0, va_rf x1] D D' 0 0 := by
  unfold fJ2_inflateIfNeededFor at hf
  refine cw_sVD (own := RJ2) (by decide +kernel) [(0, .ref a0), (1, va_rf x1)] ⟨by cases x1 <;> exact Nat.le_of_ble_eq_true rfl, by cases x1 <;> rfl⟩ ?_
  intro p e s m args below meth c Rm Q X hK hF hLo hin hend ls hl hR hS
  obtain ⟨hx, hb, hml, hown, hts⟩ := id X
  refine va_gets hx hb hK.ct.2.1 hS hown (hts _ q434) (fun _ h9 => h9) dJ2_inflateIfNeededFor_0 ?_
  refine lv_if_eq (tgt := 21) hx hb dJ2_inflateIfNeededFor_3 (by decide) (fun c_1 => ?_) (fun c_1 => ?_)
  · replace hf := ww_ip hf c_1
    exact hend dJ2_inflateIfNeededFor_21 hf hR hS
  · replace hf := ww_in hf c_1
    refine lv_aload_n hx hb dJ2_inflateIfNeededFor_6 rfl (lv_at hl 0 rfl) ?_
    obtain ⟨r_2, h_2, hq⟩ := ww_bS hf; replace hf := hq; clear hq
    refine cJ2g_22 X hK hR h_2 dJ2_inflateIfNeededFor_7 ?_
    refine cw_aload_n (x := x1) hx hb dJ2_inflateIfNeededFor_10 rfl (lv_at hl 1 rfl) ?_
    obtain ⟨a_3, e_3, hq⟩ := ww_bS hf; replace hf := hq; clear hq
    subst e_3
    obtain ⟨h_4, hq⟩ := ww_gS hf; replace hf := hq; clear hq
    obtain ⟨r_5, h_5, hq⟩ := ww_bS hf; replace hf := hq; clear hq
    refine cJ2c_J4_coder X hl.1 hK hR hS (Nat.le_trans (Nat.le_of_ble_eq_true rfl) hF) (Nat.le_trans (Nat.le_of_ble_eq_true rfl) hLo) (Nat.zero_le _) (Nat.zero_le _) h_4 h_5 (cw_rest (Nat.le_of_ble_eq_true rfl)) dJ2_inflateIfNeededFor_11 (fun H locs hR hS => ?_)
    refine lv_icmp_eq (tgt := 21) hx hb dJ2_inflateIfNeededFor_14 (by decide) (fun c_6 => ?_) (fun c_6 => ?_)
    · replace hf := ww_ip hf c_6
      exact hend dJ2_inflateIfNeededFor_21 hf hR hS
    · replace hf := ww_in hf c_6
      cases hf
section C_J2_inflateIfNeededFor_c
variable {p : Program} {l : Launch} {e : Env} {R : Room} {s : State} {m : MethodId} {args : Array Value} {below : List Frame} {meth : Method} {c : Code} {H : Heap} {locs : List Loc} {cells slots : Nat} {Q : State → Prop}
variable {cc : ByteArray} {pc : Nat} {ls : Array Slot} {rest : List Value} {nL : Nat} {E : cw_E} {A : Nat → Prop} {H0 : Heap}
theorem cJ2c_J2_inflateIfNeededFor {D : cw_D} {a0 : Nat} {x1 : Option Nat} {D' : cw_D} (X : ww_C p m c cc nL s args RJ2 lw_all) (hsz : ls.size = nL) (hK : cw_K E A s) (hR : cw_H E A D H) (hS : va_S A s.heap H locs) (hF : 2 ≤ R.frames) (hLo : 41 ≤ R.locals) (hc : cells ≤ R.cells) (hs : slots ≤ R.slots) (hkd : cw_kd D [4] (some a0) = true) (hf : fJ2_inflateIfNeededFor D a0 x1 = some D') (hrest : (rest.map fun v => v.category).sum ≤ 8) (hdg : decode cc pc = .ok (.invokevirtual 397, 3)) (kk : ∀ (H1 : Heap) (locs1 : List Loc), cw_H E A D' H1 → va_S A s.heap H1 locs1 → W p l e R s m args below meth c H1 locs1 cells slots Q (F0 m (pc + 3) ls (rest))) : W p l e R s m args below meth c H locs cells slots Q (F0 m pc ls (va_rf x1 :: .ref a0 :: rest)) :=
  cJ2k_J2_inflateIfNeededFor X hsz hK hR hS hF hLo hc hs hkd (metJ2_inflateIfNeededFor l _ _ _ _ hf) hrest hdg kk
end C_J2_inflateIfNeededFor_c
noncomputable def fJ2_putStringAt (D : cw_D) (a0 : Nat) (x1 : Int32) (x2 : Option Nat) : Option (cw_D) :=
  ww_g (cw_kd D [4] (some a0)) (ww_b (fJ2_inflateIfNeededFor D a0 x2) (fun D_2 => ww_b (cw_gR D_2 [4] a0 0) (fun r_3 => ww_b (cw_gI D_2 [4] a0 1) (fun r_4 => ww_b x2 (fun a_5 => ww_g (cw_kd D_2 [3] (some a_5)) (ww_b (fJ4_getBytes D_2 a_5 r_3 x1 r_4) (fun D_7 => some D_7)))))))
section C_J2_putStringAt_k
variable {p : Program} {l : Launch} {e : Env} {R : Room} {s : State} {m : MethodId} {args : Array Value} {below : List Frame} {meth : Method} {c : Code} {H : Heap} {locs : List Loc} {cells slots : Nat} {Q : State → Prop}
variable {cc : ByteArray} {pc : Nat} {ls : Array Slot} {rest : List Value} {nL : Nat} {E : cw_E} {A : Nat → Prop} {H0 : Heap}
theorem cJ2k_J2_putStringAt {D : cw_D} {a0 : Nat} {x1 : Int32} {x2 : Option Nat} {D' : cw_D} (X : ww_C p m c cc nL s args RJ2 lw_all) (hsz : ls.size = nL) (hK : cw_K E A s) (hR : cw_H E A D H) (hS : va_S A s.heap H locs) (hF : 3 ≤ R.frames) (hLo : 145 ≤ R.locals) (hc : cells ≤ R.cells) (hs : slots ≤ R.slots) (hkd : cw_kd D [4] (some a0) = true) (hM : cw_MetV l yJ2_putStringAt cJ2_putStringAt 3 2 123 E A [.ref a0, .int x1, va_rf x2] D D' 0 0) (hrest : (rest.map fun v => v.category).sum ≤ 8) (hdg : decode cc pc = .ok (.invokevirtual 208, 3)) (kk : ∀ (H1 : Heap) (locs1 : List Loc), cw_H E A D' H1 → va_S A s.heap H1 locs1 → W p l e R s m args below meth c H1 locs1 cells slots Q (F0 m (pc + 3) ls (rest))) : W p l e R s m args below meth c H locs cells slots Q (F0 m pc ls (va_rf x2 :: .int x1 :: .ref a0 :: rest)) :=
  va_callv (cw_runP (n := 2) (C := RJ3) (As := [.int x1, va_rf x2]) (rest := rest) (a := a0) q2383 X hM q1539 (hK.ct.2.2.2.2.2.2.1 ⟨"java/lang/AbstractStringBuilder", "putStringAt", "(ILjava/lang/String;)V"⟩ (by decide +kernel)) q1541 q136 (lw_meth q1542) rfl rfl rfl ⟨hF, hLo⟩ (by decide +kernel) (cw_pV hK hR hS (cw_rc (k := 4) (C := RJ3) (T := TJ3) (N := 4) rfl (by decide) hK hR hkd)) rfl rfl hsz rfl (lv_room hrest) hdg ⟨hc, hs⟩) hS (fun q _ h => h) (fun q h => h) (fun u t H1 locs1 ht hvm hw hB hz1 hk1 hS1 => by rw [ht] at hB; exact kk H1 locs1 hB hS1)
end C_J2_putStringAt_k
set_option maxHeartbeats 4000000 in
set_option maxRecDepth 100000 in
theorem metJ2_putStringAt (l : Launch) {E : cw_E} {A : Nat → Prop} (D : cw_D) (a0 : Nat) (x1 : Int32) (x2 : Option Nat) (D' : cw_D) (hf : fJ2_putStringAt D a0 x1 x2 = some D') : cw_MetV l yJ2_putStringAt cJ2_putStringAt 3 2 123 E A [.ref a0, .int x1, va_rf x2] D D' 0 0 := by
  unfold fJ2_putStringAt at hf
  refine cw_sVD (own := RJ2) (by decide +kernel) [(0, .ref a0), (1, .int x1), (2, va_rf x2)] ⟨by cases x2 <;> exact Nat.le_of_ble_eq_true rfl, by cases x2 <;> rfl⟩ ?_
  intro p e s m args below meth c Rm Q X hK hF hLo hin hend ls hl hR hS
  obtain ⟨hx, hb, hml, hown, hts⟩ := id X
  refine lv_aload_n hx hb dJ2_putStringAt_0 rfl (lv_at hl 0 rfl) ?_
  refine cw_aload_n (x := x2) hx hb dJ2_putStringAt_1 rfl (lv_at hl 2 rfl) ?_
  obtain ⟨h_1, hq⟩ := ww_gS hf; replace hf := hq; clear hq
  obtain ⟨D_2, h_2, hq⟩ := ww_bS hf; replace hf := hq; clear hq
  refine cJ2c_J2_inflateIfNeededFor (x1 := x2) X hl.1 hK hR hS (Nat.le_trans (Nat.le_of_ble_eq_true rfl) hF) (Nat.le_trans (Nat.le_of_ble_eq_true rfl) hLo) (Nat.zero_le _) (Nat.zero_le _) h_1 h_2 (cw_rest (Nat.le_of_ble_eq_true rfl)) dJ2_putStringAt_2 (fun H locs hR hS => ?_)
  refine cw_aload_n (x := x2) hx hb dJ2_putStringAt_5 rfl (lv_at hl 2 rfl) ?_
  refine lv_aload_n hx hb dJ2_putStringAt_6 rfl (lv_at hl 0 rfl) ?_
  obtain ⟨r_3, h_3, hq⟩ := ww_bS hf; replace hf := hq; clear hq
  refine cJ2g_15 X hK hR h_3 dJ2_putStringAt_7 ?_
  refine lv_iload_n hx hb dJ2_putStringAt_10 rfl (lv_at hl 1 rfl) ?_
  refine lv_aload_n hx hb dJ2_putStringAt_11 rfl (lv_at hl 0 rfl) ?_
  obtain ⟨r_4, h_4, hq⟩ := ww_bS hf; replace hf := hq; clear hq
  refine cJ2g_22 X hK hR h_4 dJ2_putStringAt_12 ?_
  obtain ⟨a_5, e_5, hq⟩ := ww_bS hf; replace hf := hq; clear hq
  subst e_5
  obtain ⟨h_6, hq⟩ := ww_gS hf; replace hf := hq; clear hq
  obtain ⟨D_7, h_7, hq⟩ := ww_bS hf; replace hf := hq; clear hq
  refine cJ2c_J4_getBytes (x1 := r_3) X hl.1 hK hR hS (Nat.le_trans (Nat.le_of_ble_eq_true rfl) hF) (Nat.le_trans (Nat.le_of_ble_eq_true rfl) hLo) (Nat.zero_le _) (Nat.zero_le _) h_6 h_7 (cw_rest (Nat.le_of_ble_eq_true rfl)) dJ2_putStringAt_15 (fun H locs hR hS => ?_)
  exact hend dJ2_putStringAt_18 hf hR hS
section C_J2_putStringAt_c
variable {p : Program} {l : Launch} {e : Env} {R : Room} {s : State} {m : MethodId} {args : Array Value} {below : List Frame} {meth : Method} {c : Code} {H : Heap} {locs : List Loc} {cells slots : Nat} {Q : State → Prop}
variable {cc : ByteArray} {pc : Nat} {ls : Array Slot} {rest : List Value} {nL : Nat} {E : cw_E} {A : Nat → Prop} {H0 : Heap}
theorem cJ2c_J2_putStringAt {D : cw_D} {a0 : Nat} {x1 : Int32} {x2 : Option Nat} {D' : cw_D} (X : ww_C p m c cc nL s args RJ2 lw_all) (hsz : ls.size = nL) (hK : cw_K E A s) (hR : cw_H E A D H) (hS : va_S A s.heap H locs) (hF : 3 ≤ R.frames) (hLo : 145 ≤ R.locals) (hc : cells ≤ R.cells) (hs : slots ≤ R.slots) (hkd : cw_kd D [4] (some a0) = true) (hf : fJ2_putStringAt D a0 x1 x2 = some D') (hrest : (rest.map fun v => v.category).sum ≤ 8) (hdg : decode cc pc = .ok (.invokevirtual 208, 3)) (kk : ∀ (H1 : Heap) (locs1 : List Loc), cw_H E A D' H1 → va_S A s.heap H1 locs1 → W p l e R s m args below meth c H1 locs1 cells slots Q (F0 m (pc + 3) ls (rest))) : W p l e R s m args below meth c H locs cells slots Q (F0 m pc ls (va_rf x2 :: .int x1 :: .ref a0 :: rest)) :=
  cJ2k_J2_putStringAt X hsz hK hR hS hF hLo hc hs hkd (metJ2_putStringAt l _ _ _ _ _ hf) hrest hdg kk
end C_J2_putStringAt_c
noncomputable def fJ2_append_2 (D : cw_D) (a0 : Nat) (x1 : Option Nat) : Option (Option Nat × cw_D × Nat × Nat) :=
  ww_o x1 (none) (fun a_1 => ww_g (cw_kd D [3] (some a_1)) (ww_b (fJ4_length D a_1) (fun r_3 => ww_b (cw_gI D [4] a0 3) (fun r_4 => ww_g (cw_kd D [4] (some a0)) (ww_b3 (fJ2_ensureCapacityInternal D a0 (r_4 + r_3)) (fun D_6 c_6 k_6 => ww_b (cw_gI D_6 [4] a0 3) (fun r_7 => ww_g (cw_kd D_6 [4] (some a0)) (ww_b (fJ2_putStringAt D_6 a0 r_7 (some a_1)) (fun D_9 => ww_b (cw_gI D_9 [4] a0 3) (fun r_10 => ww_b (cw_p D_9 [4] a0 3 (.int (r_10 + r_3))) (fun D_11 => some ((some a0), D_11, (0 + c_6), (0 + k_6)))))))))))))
section C_J2_append_2_k
variable {p : Program} {l : Launch} {e : Env} {R : Room} {s : State} {m : MethodId} {args : Array Value} {below : List Frame} {meth : Method} {c : Code} {H : Heap} {locs : List Loc} {cells slots : Nat} {Q : State → Prop}
variable {cc : ByteArray} {pc : Nat} {ls : Array Slot} {rest : List Value} {nL : Nat} {E : cw_E} {A : Nat → Prop} {H0 : Heap}
theorem cJ3k_J2_append_2 {D : cw_D} {a0 : Nat} {x1 : Option Nat} {r : Option Nat} {D' : cw_D} {nc ns : Nat} (X : ww_C p m c cc nL s args RJ3 lw_all) (hsz : ls.size = nL) (hK : cw_K E A s) (hR : cw_H E A D H) (hS : va_S A s.heap H locs) (hF : 5 ≤ R.frames) (hLo : 192 ≤ R.locals) (hc : cells + nc ≤ R.cells) (hs : slots + ns ≤ R.slots) (hkd : cw_kd D [4] (some a0) = true) (hM : cw_MetQ l yJ2_append_2 cJ2_append_2 3 (some (Jvm.ClassFile.FieldType.object "java/lang/AbstractStringBuilder")) 4 170 E A [.ref a0, va_rf x1] D D' r nc ns) (hrest : (rest.map fun v => v.category).sum ≤ 8) (hdg : decode cc pc = .ok (.invokespecial 29, 3)) (kk : ∀ (H1 : Heap) (locs1 : List Loc), cw_H E A D' H1 → va_S A s.heap H1 locs1 → W p l e R s m args below meth c H1 locs1 (cells + nc) (slots + ns) Q (F0 m (pc + 3) ls (va_rf r :: rest))) : W p l e R s m args below meth c H locs cells slots Q (F0 m pc ls (va_rf x1 :: .ref a0 :: rest)) :=
  va_callq (va_runSU (C := RJ3) (As := [va_rf x1]) (rest := rest) (b := a0) (cw_cls (k := 4) (C := RJ3) (T := TJ3) (N := 4) rfl hK) X hM (va_cwSU 1 X.2.2.2.2 (cw_SU q1519 q2381 q455 q1520 q136 q1521) rfl rfl rfl (by decide +kernel) ⟨hF, hLo⟩) (cw_pV hK hR hS (cw_rc (k := 4) (C := RJ3) (T := TJ3) (N := 4) rfl (by decide) hK hR hkd)) rfl rfl hsz rfl (lv_room hrest) hdg ⟨hc, hs⟩) hS (fun q _ h => h) (fun q h => h) (fun r' u t H1 locs1 ht hvm hw hB hz1 hk1 hS1 => by subst hw; rw [ht] at hB; exact kk H1 locs1 hB hS1)
end C_J2_append_2_k
set_option maxHeartbeats 4000000 in
set_option maxRecDepth 100000 in
theorem metJ2_append_2 (l : Launch) {E : cw_E} {A : Nat → Prop} (D : cw_D) (a0 : Nat) (x1 : Option Nat) (r : Option Nat) (D' : cw_D) (nc ns : Nat) (hf : fJ2_append_2 D a0 x1 = some (r, D', nc, ns)) : cw_MetQ l yJ2_append_2 cJ2_append_2 3 (some (Jvm.ClassFile.FieldType.object "java/lang/AbstractStringBuilder")) 4 170 E A [.ref a0, va_rf x1] D D' r nc ns := by
  unfold fJ2_append_2 at hf
  refine cw_sQN (own := RJ2) (by decide +kernel) [(0, .ref a0), (1, va_rf x1)] ⟨by cases x1 <;> exact Nat.le_of_ble_eq_true rfl, by cases x1 <;> rfl⟩ ?_
  intro p e s m args below meth c Rm Q X hK hF hLo hC hin hend ls hl hR hS
  obtain ⟨hx, hb, hml, hown, hts⟩ := id X
  have hm9 : 0 ≤ nc ∧ 0 ≤ ns := ⟨Nat.zero_le _, Nat.zero_le _⟩
  refine cw_aload_n (x := x1) hx hb dJ2_append_2_0 rfl (lv_at hl 1 rfl) ?_
  rcases x1 with _ | a_1
  · replace hf := ww_oN hf
    refine lv_ifnonnullN hx hb dJ2_append_2_1 ?_
    cases hf
  · replace hf := ww_oS hf
    refine lv_ifnonnull (tgt := 9) hx hb dJ2_append_2_1 (by decide) ?_
    refine lv_aload_n hx hb dJ2_append_2_9 rfl (lv_at hl 1 rfl) ?_
    obtain ⟨h_2, hq⟩ := ww_gS hf; replace hf := hq; clear hq
    obtain ⟨r_3, h_3, hq⟩ := ww_bS hf; replace hf := hq; clear hq
    refine cJ2c_J4_length X hl.1 hK hR hS (Nat.le_trans (Nat.le_of_ble_eq_true rfl) hF) (Nat.le_trans (Nat.le_of_ble_eq_true rfl) hLo) (Nat.le_trans hm9.1 hC.1) (Nat.le_trans hm9.2 hC.2) h_2 h_3 (cw_rest (Nat.le_of_ble_eq_true rfl)) dJ2_append_2_10 (fun H locs hR hS => ?_)
    refine lv_istore_n (lv' := [(2, .int r_3), (0, .ref a0), (1, .ref a_1)]) hx hb dJ2_append_2_13 rfl hl (by decide) rfl (fun ls hl => ?_)
    refine lv_aload_n hx hb dJ2_append_2_14 rfl (lv_at hl 1 rfl) ?_
    refine lv_aload_n hx hb dJ2_append_2_15 rfl (lv_at hl 1 rfl) ?_
    obtain ⟨r_4, h_4, hq⟩ := ww_bS hf; replace hf := hq; clear hq
    refine cJ2g_79 X hK hR h_4 dJ2_append_2_16 ?_
    refine lv_iload_n hx hb dJ2_append_2_19 rfl (lv_at hl 0 rfl) ?_
    refine lv_iadd hx hb dJ2_append_2_20 ?_
    obtain ⟨h_5, hq⟩ := ww_gS hf; replace hf := hq; clear hq
    obtain ⟨D_6, c_6, k_6, h_6, hq⟩ := ww_b3S hf; replace hf := hq; clear hq
    have hm9 : (0 + c_6) ≤ nc ∧ (0 + k_6) ≤ ns := by
      obtain ⟨r_7, h_7, hq⟩ := ww_bS hf; replace hf := hq; clear hq
      obtain ⟨h_8, hq⟩ := ww_gS hf; replace hf := hq; clear hq
      obtain ⟨D_9, h_9, hq⟩ := ww_bS hf; replace hf := hq; clear hq
      obtain ⟨r_10, h_10, hq⟩ := ww_bS hf; replace hf := hq; clear hq
      obtain ⟨D_11, h_11, hq⟩ := ww_bS hf; replace hf := hq; clear hq
      have e9 := hf
      simp only [Option.some.injEq, Prod.mk.injEq] at e9
      omega
    refine cJ2c_J2_ensureCapacityInternal X hl.1 hK hR hS (Nat.le_trans (Nat.le_of_ble_eq_true rfl) hF) (Nat.le_trans (Nat.le_of_ble_eq_true rfl) hLo) (Nat.le_trans hm9.1 hC.1) (Nat.le_trans hm9.2 hC.2) h_5 h_6 (cw_rest (Nat.le_of_ble_eq_true rfl)) dJ2_append_2_21 (fun H locs hR hS => ?_)
    refine lv_aload_n hx hb dJ2_append_2_24 rfl (lv_at hl 1 rfl) ?_
    refine lv_aload_n hx hb dJ2_append_2_25 rfl (lv_at hl 1 rfl) ?_
    obtain ⟨r_7, h_7, hq⟩ := ww_bS hf; replace hf := hq; clear hq
    refine cJ2g_79 X hK hR h_7 dJ2_append_2_26 ?_
    refine lv_aload_n hx hb dJ2_append_2_29 rfl (lv_at hl 2 rfl) ?_
    obtain ⟨h_8, hq⟩ := ww_gS hf; replace hf := hq; clear hq
    obtain ⟨D_9, h_9, hq⟩ := ww_bS hf; replace hf := hq; clear hq
    refine cJ2c_J2_putStringAt (x2 := (some a_1)) X hl.1 hK hR hS (Nat.le_trans (Nat.le_of_ble_eq_true rfl) hF) (Nat.le_trans (Nat.le_of_ble_eq_true rfl) hLo) (Nat.le_trans hm9.1 hC.1) (Nat.le_trans hm9.2 hC.2) h_8 h_9 (cw_rest (Nat.le_of_ble_eq_true rfl)) dJ2_append_2_30 (fun H locs hR hS => ?_)
    refine lv_aload_n hx hb dJ2_append_2_33 rfl (lv_at hl 1 rfl) ?_
    refine lv_dup hx hb dJ2_append_2_34 rfl ?_
    obtain ⟨r_10, h_10, hq⟩ := ww_bS hf; replace hf := hq; clear hq
    refine cJ2g_79 X hK hR h_10 dJ2_append_2_35 ?_
    refine lv_iload_n hx hb dJ2_append_2_38 rfl (lv_at hl 0 rfl) ?_
    refine lv_iadd hx hb dJ2_append_2_39 ?_
    obtain ⟨D_11, h_11, hq⟩ := ww_bS hf; replace hf := hq; clear hq
    refine cJ2p_79 X hK hR hS h_11 dJ2_append_2_40 (fun H locs hR hS => ?_)
    refine lv_aload_n hx hb dJ2_append_2_43 rfl (lv_at hl 1 rfl) ?_
    exact hend (v := (some a0)) dJ2_append_2_44 rfl (Or.inl ⟨_, rfl⟩) hf hR hS
section C_J2_append_2_c
variable {p : Program} {l : Launch} {e : Env} {R : Room} {s : State} {m : MethodId} {args : Array Value} {below : List Frame} {meth : Method} {c : Code} {H : Heap} {locs : List Loc} {cells slots : Nat} {Q : State → Prop}
variable {cc : ByteArray} {pc : Nat} {ls : Array Slot} {rest : List Value} {nL : Nat} {E : cw_E} {A : Nat → Prop} {H0 : Heap}
theorem cJ3c_J2_append_2 {D : cw_D} {a0 : Nat} {x1 : Option Nat} {r : Option Nat} {D' : cw_D} {nc ns : Nat} (X : ww_C p m c cc nL s args RJ3 lw_all) (hsz : ls.size = nL) (hK : cw_K E A s) (hR : cw_H E A D H) (hS : va_S A s.heap H locs) (hF : 5 ≤ R.frames) (hLo : 192 ≤ R.locals) (hc : cells + nc ≤ R.cells) (hs : slots + ns ≤ R.slots) (hkd : cw_kd D [4] (some a0) = true) (hf : fJ2_append_2 D a0 x1 = some (r, D', nc, ns)) (hrest : (rest.map fun v => v.category).sum ≤ 8) (hdg : decode cc pc = .ok (.invokespecial 29, 3)) (kk : ∀ (H1 : Heap) (locs1 : List Loc), cw_H E A D' H1 → va_S A s.heap H1 locs1 → W p l e R s m args below meth c H1 locs1 (cells + nc) (slots + ns) Q (F0 m (pc + 3) ls (va_rf r :: rest))) : W p l e R s m args below meth c H locs cells slots Q (F0 m pc ls (va_rf x1 :: .ref a0 :: rest)) :=
  cJ3k_J2_append_2 X hsz hK hR hS hF hLo hc hs hkd (metJ2_append_2 l _ _ _ _ _ _ _ hf) hrest hdg kk
end C_J2_append_2_c
noncomputable def fJ2_append_3 (D : cw_D) (a0 : Nat) (x1 : Int32) : Option (Option Nat × cw_D × Nat × Nat) :=
  ww_b (cw_gI D [4] a0 3) (fun r_1 => ww_b (fJ13_stringSize x1) (fun r_2 => ww_g (cw_kd D [4] (some a0)) (ww_b3 (fJ2_ensureCapacityInternal D a0 (r_1 + r_2)) (fun D_4 c_4 k_4 => ww_g (cw_kd D_4 [4] (some a0)) (ww_b (fJ2_isLatin1 D_4 a0) (fun r_6 => if r_6 = 0 then none else ww_b (cw_gR D_4 [4] a0 0) (fun r_8 => ww_b2 (fJ13_getChars D_4 x1 (r_1 + r_2) r_8) (fun r_9 D_9 => ww_b (cw_p D_9 [4] a0 3 (.int (r_1 + r_2))) (fun D_10 => some ((some a0), D_10, (0 + c_4), (0 + k_4)))))))))))
section C_J2_append_3_k
variable {p : Program} {l : Launch} {e : Env} {R : Room} {s : State} {m : MethodId} {args : Array Value} {below : List Frame} {meth : Method} {c : Code} {H : Heap} {locs : List Loc} {cells slots : Nat} {Q : State → Prop}
variable {cc : ByteArray} {pc : Nat} {ls : Array Slot} {rest : List Value} {nL : Nat} {E : cw_E} {A : Nat → Prop} {H0 : Heap}
theorem cJ3k_J2_append_3 {D : cw_D} {a0 : Nat} {x1 : Int32} {r : Option Nat} {D' : cw_D} {nc ns : Nat} (X : ww_C p m c cc nL s args RJ3 lw_all) (hsz : ls.size = nL) (hK : cw_K E A s) (hR : cw_H E A D H) (hS : va_S A s.heap H locs) (hF : 5 ≤ R.frames) (hLo : 193 ≤ R.locals) (hc : cells + nc ≤ R.cells) (hs : slots + ns ≤ R.slots) (hkd : cw_kd D [4] (some a0) = true) (hM : cw_MetQ l yJ2_append_3 cJ2_append_3 4 (some (Jvm.ClassFile.FieldType.object "java/lang/AbstractStringBuilder")) 4 170 E A [.ref a0, .int x1] D D' r nc ns) (hrest : (rest.map fun v => v.category).sum ≤ 8) (hdg : decode cc pc = .ok (.invokespecial 53, 3)) (kk : ∀ (H1 : Heap) (locs1 : List Loc), cw_H E A D' H1 → va_S A s.heap H1 locs1 → W p l e R s m args below meth c H1 locs1 (cells + nc) (slots + ns) Q (F0 m (pc + 3) ls (va_rf r :: rest))) : W p l e R s m args below meth c H locs cells slots Q (F0 m pc ls (.int x1 :: .ref a0 :: rest)) :=
  va_callq (va_runSU (C := RJ3) (As := [.int x1]) (rest := rest) (b := a0) (cw_cls (k := 4) (C := RJ3) (T := TJ3) (N := 4) rfl hK) X hM (va_cwSU 1 X.2.2.2.2 (cw_SU q1558 q2385 q455 q1559 q136 q1560) rfl rfl rfl (by decide +kernel) ⟨hF, hLo⟩) (cw_pV hK hR hS (cw_rc (k := 4) (C := RJ3) (T := TJ3) (N := 4) rfl (by decide) hK hR hkd)) rfl rfl hsz rfl (lv_room hrest) hdg ⟨hc, hs⟩) hS (fun q _ h => h) (fun q h => h) (fun r' u t H1 locs1 ht hvm hw hB hz1 hk1 hS1 => by subst hw; rw [ht] at hB; exact kk H1 locs1 hB hS1)
end C_J2_append_3_k
set_option maxHeartbeats 4000000 in
set_option maxRecDepth 100000 in
theorem metJ2_append_3 (l : Launch) {E : cw_E} {A : Nat → Prop} (D : cw_D) (a0 : Nat) (x1 : Int32) (r : Option Nat) (D' : cw_D) (nc ns : Nat) (hf : fJ2_append_3 D a0 x1 = some (r, D', nc, ns)) : cw_MetQ l yJ2_append_3 cJ2_append_3 4 (some (Jvm.ClassFile.FieldType.object "java/lang/AbstractStringBuilder")) 4 170 E A [.ref a0, .int x1] D D' r nc ns := by
  unfold fJ2_append_3 at hf
  refine cw_sQN (own := RJ2) (by decide +kernel) [(0, .ref a0), (1, .int x1)] ⟨Nat.le_of_ble_eq_true rfl, rfl⟩ ?_
  intro p e s m args below meth c Rm Q X hK hF hLo hC hin hend ls hl hR hS
  obtain ⟨hx, hb, hml, hown, hts⟩ := id X
  have hm9 : 0 ≤ nc ∧ 0 ≤ ns := ⟨Nat.zero_le _, Nat.zero_le _⟩
  refine lv_aload_n hx hb dJ2_append_3_0 rfl (lv_at hl 0 rfl) ?_
  obtain ⟨r_1, h_1, hq⟩ := ww_bS hf; replace hf := hq; clear hq
  refine cJ2g_79 X hK hR h_1 dJ2_append_3_1 ?_
  refine lv_istore_n (lv' := [(2, .int r_1), (0, .ref a0), (1, .int x1)]) hx hb dJ2_append_3_4 rfl hl (by decide) rfl (fun ls hl => ?_)
  refine lv_iload_n hx hb dJ2_append_3_5 rfl (lv_at hl 0 rfl) ?_
  refine lv_iload_n hx hb dJ2_append_3_6 rfl (lv_at hl 2 rfl) ?_
  obtain ⟨r_2, h_2, hq⟩ := ww_bS hf; replace hf := hq; clear hq
  refine cJ2c_J13_stringSize X hl.1 (Nat.le_trans (Nat.le_of_ble_eq_true rfl) hF) (Nat.le_trans (Nat.le_of_ble_eq_true rfl) hLo) (Nat.le_trans hm9.1 hC.1) (Nat.le_trans hm9.2 hC.2) h_2 (cw_rest (Nat.le_of_ble_eq_true rfl)) dJ2_append_3_7 ?_
  refine lv_iadd hx hb dJ2_append_3_10 ?_
  refine lv_istore_n (lv' := [(3, .int (r_1 + r_2)), (2, .int r_1), (0, .ref a0), (1, .int x1)]) hx hb dJ2_append_3_11 rfl hl (by decide) rfl (fun ls hl => ?_)
  refine lv_aload_n hx hb dJ2_append_3_12 rfl (lv_at hl 2 rfl) ?_
  refine lv_iload_n hx hb dJ2_append_3_13 rfl (lv_at hl 0 rfl) ?_
  obtain ⟨h_3, hq⟩ := ww_gS hf; replace hf := hq; clear hq
  obtain ⟨D_4, c_4, k_4, h_4, hq⟩ := ww_b3S hf; replace hf := hq; clear hq
  have hm9 : (0 + c_4) ≤ nc ∧ (0 + k_4) ≤ ns := by
    obtain ⟨h_5, hq⟩ := ww_gS hf; replace hf := hq; clear hq
    obtain ⟨r_6, h_6, hq⟩ := ww_bS hf; replace hf := hq; clear hq
    refine ww_by (r_6 = 0) (fun c_7 => ?_) (fun c_7 => ?_)
    · replace hf := ww_ip hf c_7
      cases hf
    · replace hf := ww_in hf c_7
      obtain ⟨r_8, h_8, hq⟩ := ww_bS hf; replace hf := hq; clear hq
      obtain ⟨r_9, D_9, h_9, hq⟩ := ww_b2S hf; replace hf := hq; clear hq
      obtain ⟨D_10, h_10, hq⟩ := ww_bS hf; replace hf := hq; clear hq
      have e9 := hf
      simp only [Option.some.injEq, Prod.mk.injEq] at e9
      omega
  refine cJ2c_J2_ensureCapacityInternal X hl.1 hK hR hS (Nat.le_trans (Nat.le_of_ble_eq_true rfl) hF) (Nat.le_trans (Nat.le_of_ble_eq_true rfl) hLo) (Nat.le_trans hm9.1 hC.1) (Nat.le_trans hm9.2 hC.2) h_3 h_4 (cw_rest (Nat.le_of_ble_eq_true rfl)) dJ2_append_3_14 (fun H locs hR hS => ?_)
  refine lv_aload_n hx hb dJ2_append_3_17 rfl (lv_at hl 2 rfl) ?_
  obtain ⟨h_5, hq⟩ := ww_gS hf; replace hf := hq; clear hq
  obtain ⟨r_6, h_6, hq⟩ := ww_bS hf; replace hf := hq; clear hq
  refine cJ2c_J2_isLatin1 X hl.1 hK hR hS (Nat.le_trans (Nat.le_of_ble_eq_true rfl) hF) (Nat.le_trans (Nat.le_of_ble_eq_true rfl) hLo) (Nat.le_trans hm9.1 hC.1) (Nat.le_trans hm9.2 hC.2) h_5 h_6 (cw_rest (Nat.le_of_ble_eq_true rfl)) dJ2_append_3_18 (fun H locs hR hS => ?_)
  refine lv_if_eq (tgt := 37) hx hb dJ2_append_3_21 (by decide) (fun c_7 => ?_) (fun c_7 => ?_)
  · replace hf := ww_ip hf c_7
    cases hf
  · replace hf := ww_in hf c_7
    refine lv_iload_n hx hb dJ2_append_3_24 rfl (lv_at hl 3 rfl) ?_
    refine lv_iload_n hx hb dJ2_append_3_25 rfl (lv_at hl 0 rfl) ?_
    refine lv_aload_n hx hb dJ2_append_3_26 rfl (lv_at hl 2 rfl) ?_
    obtain ⟨r_8, h_8, hq⟩ := ww_bS hf; replace hf := hq; clear hq
    refine cJ2g_15 X hK hR h_8 dJ2_append_3_27 ?_
    obtain ⟨r_9, D_9, h_9, hq⟩ := ww_b2S hf; replace hf := hq; clear hq
    refine cJ2c_J13_getChars (x2 := r_8) X hl.1 hK hR hS (Nat.le_trans (Nat.le_of_ble_eq_true rfl) hF) (Nat.le_trans (Nat.le_of_ble_eq_true rfl) hLo) (Nat.le_trans hm9.1 hC.1) (Nat.le_trans hm9.2 hC.2) h_9 (cw_rest (Nat.le_of_ble_eq_true rfl)) dJ2_append_3_30 (fun H locs hR hS => ?_)
    refine lv_pop hx hb dJ2_append_3_33 rfl ?_
    refine lv_goto (tgt := 48) hx hb dJ2_append_3_34 (by decide) ?_
    refine lv_aload_n hx hb dJ2_append_3_48 rfl (lv_at hl 2 rfl) ?_
    refine lv_iload_n hx hb dJ2_append_3_49 rfl (lv_at hl 0 rfl) ?_
    obtain ⟨D_10, h_10, hq⟩ := ww_bS hf; replace hf := hq; clear hq
    refine cJ2p_79 X hK hR hS h_10 dJ2_append_3_50 (fun H locs hR hS => ?_)
    refine lv_aload_n hx hb dJ2_append_3_53 rfl (lv_at hl 2 rfl) ?_
    exact hend (v := (some a0)) dJ2_append_3_54 rfl (Or.inl ⟨_, rfl⟩) hf hR hS
section C_J2_append_3_c
variable {p : Program} {l : Launch} {e : Env} {R : Room} {s : State} {m : MethodId} {args : Array Value} {below : List Frame} {meth : Method} {c : Code} {H : Heap} {locs : List Loc} {cells slots : Nat} {Q : State → Prop}
variable {cc : ByteArray} {pc : Nat} {ls : Array Slot} {rest : List Value} {nL : Nat} {E : cw_E} {A : Nat → Prop} {H0 : Heap}
theorem cJ3c_J2_append_3 {D : cw_D} {a0 : Nat} {x1 : Int32} {r : Option Nat} {D' : cw_D} {nc ns : Nat} (X : ww_C p m c cc nL s args RJ3 lw_all) (hsz : ls.size = nL) (hK : cw_K E A s) (hR : cw_H E A D H) (hS : va_S A s.heap H locs) (hF : 5 ≤ R.frames) (hLo : 193 ≤ R.locals) (hc : cells + nc ≤ R.cells) (hs : slots + ns ≤ R.slots) (hkd : cw_kd D [4] (some a0) = true) (hf : fJ2_append_3 D a0 x1 = some (r, D', nc, ns)) (hrest : (rest.map fun v => v.category).sum ≤ 8) (hdg : decode cc pc = .ok (.invokespecial 53, 3)) (kk : ∀ (H1 : Heap) (locs1 : List Loc), cw_H E A D' H1 → va_S A s.heap H1 locs1 → W p l e R s m args below meth c H1 locs1 (cells + nc) (slots + ns) Q (F0 m (pc + 3) ls (va_rf r :: rest))) : W p l e R s m args below meth c H locs cells slots Q (F0 m pc ls (.int x1 :: .ref a0 :: rest)) :=
  cJ3k_J2_append_3 X hsz hK hR hS hF hLo hc hs hkd (metJ2_append_3 l _ _ _ _ _ _ _ hf) hrest hdg kk
end C_J2_append_3_c
noncomputable def fJ3_init (D : cw_D) (a0 : Nat) : Option (cw_D × Nat × Nat) :=
  ww_b3 (fJ2_init D a0 (16 : Int32)) (fun D_1 c_1 k_1 => some (D_1, (0 + c_1), (0 + k_1)))
section C_J3_init_k
variable {p : Program} {l : Launch} {e : Env} {R : Room} {s : State} {m : MethodId} {args : Array Value} {below : List Frame} {meth : Method} {c : Code} {H : Heap} {locs : List Loc} {cells slots : Nat} {Q : State → Prop}
variable {cc : ByteArray} {pc : Nat} {ls : Array Slot} {rest : List Value} {nL : Nat} {E : cw_E} {A : Nat → Prop} {H0 : Heap}
theorem c1k_J3_init {D : cw_D} {a0 : Nat} {D' : cw_D} {nc ns : Nat} (X : ww_C p m c cc nL s args RX1 lw_all) (hsz : ls.size = nL) (hK : cw_K E A s) (hR : cw_H E A D H) (hS : va_S A s.heap H locs) (hF : 3 ≤ R.frames) (hLo : 141 ≤ R.locals) (hc : cells + nc ≤ R.cells) (hs : slots + ns ≤ R.slots) (hM : cw_MetV l yJ3_init cJ3_init 1 2 121 E A [.ref a0] D D' nc ns) (hrest : (rest.map fun v => v.category).sum ≤ 8) (hdg : decode cc pc = .ok (.invokespecial 158, 3)) (kk : ∀ (H1 : Heap) (locs1 : List Loc), cw_H E A D' H1 → va_S A s.heap H1 locs1 → W p l e R s m args below meth c H1 locs1 (cells + nc) (slots + ns) Q (F0 m (pc + 3) ls (rest))) : W p l e R s m args below meth c H locs cells slots Q (F0 m pc ls (.ref a0 :: rest)) :=
  va_callv (va_runI (As := []) (rest := rest) (b := a0) X hM (cwI 0 X.2.2.2.2 (lw_meth q429) rfl rfl rfl (X.2.2.2.2 _ q137) (X.2.2.2.2 _ q427) (X.2.2.2.2 _ q428) rfl (by decide +kernel) ⟨hF, hLo⟩) (cw_pS hK hR hS) rfl rfl hsz rfl (lv_room hrest) hdg ⟨hc, hs⟩) hS (fun q _ h => h) (fun q h => h) (fun u t H1 locs1 ht hvm hw hB hz1 hk1 hS1 => by rw [ht] at hB; exact kk H1 locs1 hB hS1)
end C_J3_init_k
set_option maxHeartbeats 4000000 in
set_option maxRecDepth 100000 in
theorem metJ3_init (l : Launch) {E : cw_E} {A : Nat → Prop} (D : cw_D) (a0 : Nat) (D' : cw_D) (nc ns : Nat) (hf : fJ3_init D a0 = some (D', nc, ns)) : cw_MetV l yJ3_init cJ3_init 1 2 121 E A [.ref a0] D D' nc ns := by
  unfold fJ3_init at hf
  refine cw_sVN (own := RJ3) (by decide +kernel) [(0, .ref a0)] ⟨Nat.le_of_ble_eq_true rfl, rfl⟩ ?_
  intro p e s m args below meth c Rm Q X hK hF hLo hC hin hend ls hl hR hS
  obtain ⟨hx, hb, hml, hown, hts⟩ := id X
  have hm9 : 0 ≤ nc ∧ 0 ≤ ns := ⟨Nat.zero_le _, Nat.zero_le _⟩
  refine lv_aload_n hx hb dJ3_init_0 rfl (lv_at hl 0 rfl) ?_
  refine lv_bipush (v := (16 : Int32)) hx hb dJ3_init_1 (by decide) ?_
  obtain ⟨D_1, c_1, k_1, h_1, hq⟩ := ww_b3S hf; replace hf := hq; clear hq
  have hm9 : (0 + c_1) ≤ nc ∧ (0 + k_1) ≤ ns := by
    have e9 := hf
    simp only [Option.some.injEq, Prod.mk.injEq] at e9
    omega
  refine cJ3c_J2_init X hl.1 hK hR hS (Nat.le_trans (Nat.le_of_ble_eq_true rfl) hF) (Nat.le_trans (Nat.le_of_ble_eq_true rfl) hLo) (Nat.le_trans hm9.1 hC.1) (Nat.le_trans hm9.2 hC.2) h_1 (cw_rest (Nat.le_of_ble_eq_true rfl)) dJ3_init_3 (fun H locs hR hS => ?_)
  exact hend dJ3_init_6 hf hR hS
section C_J3_init_c
variable {p : Program} {l : Launch} {e : Env} {R : Room} {s : State} {m : MethodId} {args : Array Value} {below : List Frame} {meth : Method} {c : Code} {H : Heap} {locs : List Loc} {cells slots : Nat} {Q : State → Prop}
variable {cc : ByteArray} {pc : Nat} {ls : Array Slot} {rest : List Value} {nL : Nat} {E : cw_E} {A : Nat → Prop} {H0 : Heap}
theorem c1c_J3_init {D : cw_D} {a0 : Nat} {D' : cw_D} {nc ns : Nat} (X : ww_C p m c cc nL s args RX1 lw_all) (hsz : ls.size = nL) (hK : cw_K E A s) (hR : cw_H E A D H) (hS : va_S A s.heap H locs) (hF : 3 ≤ R.frames) (hLo : 141 ≤ R.locals) (hc : cells + nc ≤ R.cells) (hs : slots + ns ≤ R.slots) (hf : fJ3_init D a0 = some (D', nc, ns)) (hrest : (rest.map fun v => v.category).sum ≤ 8) (hdg : decode cc pc = .ok (.invokespecial 158, 3)) (kk : ∀ (H1 : Heap) (locs1 : List Loc), cw_H E A D' H1 → va_S A s.heap H1 locs1 → W p l e R s m args below meth c H1 locs1 (cells + nc) (slots + ns) Q (F0 m (pc + 3) ls (rest))) : W p l e R s m args below meth c H locs cells slots Q (F0 m pc ls (.ref a0 :: rest)) :=
  c1k_J3_init X hsz hK hR hS hF hLo hc hs (metJ3_init l _ _ _ _ _ hf) hrest hdg kk
end C_J3_init_c
noncomputable def fJ3_append (D : cw_D) (a0 : Nat) (x1 : Int32) : Option (Option Nat × cw_D × Nat × Nat) :=
  ww_g (cw_kd D [4] (some a0)) (ww_b4 (fJ2_append D a0 x1) (fun r_2 D_2 c_2 k_2 => some ((some a0), D_2, (0 + c_2), (0 + k_2))))
section C_J3_append_k
variable {p : Program} {l : Launch} {e : Env} {R : Room} {s : State} {m : MethodId} {args : Array Value} {below : List Frame} {meth : Method} {c : Code} {H : Heap} {locs : List Loc} {cells slots : Nat} {Q : State → Prop}
variable {cc : ByteArray} {pc : Nat} {ls : Array Slot} {rest : List Value} {nL : Nat} {E : cw_E} {A : Nat → Prop} {H0 : Heap}
theorem c1k_J3_append {D : cw_D} {a0 : Nat} {x1 : Int32} {r : Option Nat} {D' : cw_D} {nc ns : Nat} (X : ww_C p m c cc nL s args RX1 lw_all) (hsz : ls.size = nL) (hK : cw_K E A s) (hR : cw_H E A D H) (hS : va_S A s.heap H locs) (hF : 6 ≤ R.frames) (hLo : 212 ≤ R.locals) (hc : cells + nc ≤ R.cells) (hs : slots + ns ≤ R.slots) (hkd : cw_kd D [4] (some a0) = true) (hM : cw_MetQ l yJ3_append cJ3_append 2 (some (Jvm.ClassFile.FieldType.object "java/lang/StringBuilder")) 5 191 E A [.ref a0, .int x1] D D' r nc ns) (hrest : (rest.map fun v => v.category).sum ≤ 8) (hdg : decode cc pc = .ok (.invokevirtual 159, 3)) (kk : ∀ (H1 : Heap) (locs1 : List Loc), cw_H E A D' H1 → va_S A s.heap H1 locs1 → W p l e R s m args below meth c H1 locs1 (cells + nc) (slots + ns) Q (F0 m (pc + 3) ls (va_rf r :: rest))) : W p l e R s m args below meth c H locs cells slots Q (F0 m pc ls (.int x1 :: .ref a0 :: rest)) :=
  va_callq (va_runV (C := RJ3) (As := [.int x1]) (rest := rest) (b := a0) X hM (cwV 1 X.2.2.2.2 (lw_V q456 q457 q458 q137 q459) rfl rfl rfl (by decide +kernel) ⟨hF, hLo⟩) (cw_pV hK hR hS (cw_rc (k := 4) (C := RJ3) (T := TJ3) (N := 4) rfl (by decide) hK hR hkd)) rfl rfl hsz rfl (lv_room hrest) hdg ⟨hc, hs⟩) hS (fun q _ h => h) (fun q h => h) (fun r' u t H1 locs1 ht hvm hw hB hz1 hk1 hS1 => by subst hw; rw [ht] at hB; exact kk H1 locs1 hB hS1)
theorem c7k_J3_append {D : cw_D} {a0 : Nat} {x1 : Int32} {r : Option Nat} {D' : cw_D} {nc ns : Nat} (X : ww_C p m c cc nL s args RX7 lw_all) (hsz : ls.size = nL) (hK : cw_K E A s) (hR : cw_H E A D H) (hS : va_S A s.heap H locs) (hF : 6 ≤ R.frames) (hLo : 212 ≤ R.locals) (hc : cells + nc ≤ R.cells) (hs : slots + ns ≤ R.slots) (hkd : cw_kd D [4] (some a0) = true) (hM : cw_MetQ l yJ3_append cJ3_append 2 (some (Jvm.ClassFile.FieldType.object "java/lang/StringBuilder")) 5 191 E A [.ref a0, .int x1] D D' r nc ns) (hrest : (rest.map fun v => v.category).sum ≤ 8) (hdg : decode cc pc = .ok (.invokevirtual 58, 3)) (kk : ∀ (H1 : Heap) (locs1 : List Loc), cw_H E A D' H1 → va_S A s.heap H1 locs1 → W p l e R s m args below meth c H1 locs1 (cells + nc) (slots + ns) Q (F0 m (pc + 3) ls (va_rf r :: rest))) : W p l e R s m args below meth c H locs cells slots Q (F0 m pc ls (.int x1 :: .ref a0 :: rest)) :=
  va_callq (va_runV (C := RJ3) (As := [.int x1]) (rest := rest) (b := a0) X hM (cwV 1 X.2.2.2.2 (lw_V q1512 q457 q458 q137 q459) rfl rfl rfl (by decide +kernel) ⟨hF, hLo⟩) (cw_pV hK hR hS (cw_rc (k := 4) (C := RJ3) (T := TJ3) (N := 4) rfl (by decide) hK hR hkd)) rfl rfl hsz rfl (lv_room hrest) hdg ⟨hc, hs⟩) hS (fun q _ h => h) (fun q h => h) (fun r' u t H1 locs1 ht hvm hw hB hz1 hk1 hS1 => by subst hw; rw [ht] at hB; exact kk H1 locs1 hB hS1)
theorem c8k_J3_append {D : cw_D} {a0 : Nat} {x1 : Int32} {r : Option Nat} {D' : cw_D} {nc ns : Nat} (X : ww_C p m c cc nL s args RX8 lw_all) (hsz : ls.size = nL) (hK : cw_K E A s) (hR : cw_H E A D H) (hS : va_S A s.heap H locs) (hF : 6 ≤ R.frames) (hLo : 212 ≤ R.locals) (hc : cells + nc ≤ R.cells) (hs : slots + ns ≤ R.slots) (hkd : cw_kd D [4] (some a0) = true) (hM : cw_MetQ l yJ3_append cJ3_append 2 (some (Jvm.ClassFile.FieldType.object "java/lang/StringBuilder")) 5 191 E A [.ref a0, .int x1] D D' r nc ns) (hrest : (rest.map fun v => v.category).sum ≤ 8) (hdg : decode cc pc = .ok (.invokevirtual 75, 3)) (kk : ∀ (H1 : Heap) (locs1 : List Loc), cw_H E A D' H1 → va_S A s.heap H1 locs1 → W p l e R s m args below meth c H1 locs1 (cells + nc) (slots + ns) Q (F0 m (pc + 3) ls (va_rf r :: rest))) : W p l e R s m args below meth c H locs cells slots Q (F0 m pc ls (.int x1 :: .ref a0 :: rest)) :=
  va_callq (va_runV (C := RJ3) (As := [.int x1]) (rest := rest) (b := a0) X hM (cwV 1 X.2.2.2.2 (lw_V q1504 q457 q458 q137 q459) rfl rfl rfl (by decide +kernel) ⟨hF, hLo⟩) (cw_pV hK hR hS (cw_rc (k := 4) (C := RJ3) (T := TJ3) (N := 4) rfl (by decide) hK hR hkd)) rfl rfl hsz rfl (lv_room hrest) hdg ⟨hc, hs⟩) hS (fun q _ h => h) (fun q h => h) (fun r' u t H1 locs1 ht hvm hw hB hz1 hk1 hS1 => by subst hw; rw [ht] at hB; exact kk H1 locs1 hB hS1)
end C_J3_append_k
set_option maxHeartbeats 4000000 in
set_option maxRecDepth 100000 in
theorem metJ3_append (l : Launch) {E : cw_E} {A : Nat → Prop} (D : cw_D) (a0 : Nat) (x1 : Int32) (r : Option Nat) (D' : cw_D) (nc ns : Nat) (hf : fJ3_append D a0 x1 = some (r, D', nc, ns)) : cw_MetQ l yJ3_append cJ3_append 2 (some (Jvm.ClassFile.FieldType.object "java/lang/StringBuilder")) 5 191 E A [.ref a0, .int x1] D D' r nc ns := by
  unfold fJ3_append at hf
  refine cw_sQN (own := RJ3) (by decide +kernel) [(0, .ref a0), (1, .int x1)] ⟨Nat.le_of_ble_eq_true rfl, rfl⟩ ?_
  intro p e s m args below meth c Rm Q X hK hF hLo hC hin hend ls hl hR hS
  obtain ⟨hx, hb, hml, hown, hts⟩ := id X
  have hm9 : 0 ≤ nc ∧ 0 ≤ ns := ⟨Nat.zero_le _, Nat.zero_le _⟩
  refine lv_aload_n hx hb dJ3_append_0 rfl (lv_at hl 0 rfl) ?_
  refine lv_iload_n hx hb dJ3_append_1 rfl (lv_at hl 1 rfl) ?_
  obtain ⟨h_1, hq⟩ := ww_gS hf; replace hf := hq; clear hq
  obtain ⟨r_2, D_2, c_2, k_2, h_2, hq⟩ := ww_b4S hf; replace hf := hq; clear hq
  have hm9 : (0 + c_2) ≤ nc ∧ (0 + k_2) ≤ ns := by
    have e9 := hf
    simp only [Option.some.injEq, Prod.mk.injEq] at e9
    omega
  refine cJ3c_J2_append X hl.1 hK hR hS (Nat.le_trans (Nat.le_of_ble_eq_true rfl) hF) (Nat.le_trans (Nat.le_of_ble_eq_true rfl) hLo) (Nat.le_trans hm9.1 hC.1) (Nat.le_trans hm9.2 hC.2) h_1 h_2 (cw_rest (Nat.le_of_ble_eq_true rfl)) dJ3_append_2 (fun H locs hR hS => ?_)
  refine lv_pop hx hb dJ3_append_5 (cw_cat _) ?_
  refine lv_aload_n hx hb dJ3_append_6 rfl (lv_at hl 0 rfl) ?_
  exact hend (v := (some a0)) dJ3_append_7 rfl (Or.inl ⟨_, rfl⟩) hf hR hS
section C_J3_append_c
variable {p : Program} {l : Launch} {e : Env} {R : Room} {s : State} {m : MethodId} {args : Array Value} {below : List Frame} {meth : Method} {c : Code} {H : Heap} {locs : List Loc} {cells slots : Nat} {Q : State → Prop}
variable {cc : ByteArray} {pc : Nat} {ls : Array Slot} {rest : List Value} {nL : Nat} {E : cw_E} {A : Nat → Prop} {H0 : Heap}
theorem c1c_J3_append {D : cw_D} {a0 : Nat} {x1 : Int32} {r : Option Nat} {D' : cw_D} {nc ns : Nat} (X : ww_C p m c cc nL s args RX1 lw_all) (hsz : ls.size = nL) (hK : cw_K E A s) (hR : cw_H E A D H) (hS : va_S A s.heap H locs) (hF : 6 ≤ R.frames) (hLo : 212 ≤ R.locals) (hc : cells + nc ≤ R.cells) (hs : slots + ns ≤ R.slots) (hkd : cw_kd D [4] (some a0) = true) (hf : fJ3_append D a0 x1 = some (r, D', nc, ns)) (hrest : (rest.map fun v => v.category).sum ≤ 8) (hdg : decode cc pc = .ok (.invokevirtual 159, 3)) (kk : ∀ (H1 : Heap) (locs1 : List Loc), cw_H E A D' H1 → va_S A s.heap H1 locs1 → W p l e R s m args below meth c H1 locs1 (cells + nc) (slots + ns) Q (F0 m (pc + 3) ls (va_rf r :: rest))) : W p l e R s m args below meth c H locs cells slots Q (F0 m pc ls (.int x1 :: .ref a0 :: rest)) :=
  c1k_J3_append X hsz hK hR hS hF hLo hc hs hkd (metJ3_append l _ _ _ _ _ _ _ hf) hrest hdg kk
theorem c7c_J3_append {D : cw_D} {a0 : Nat} {x1 : Int32} {r : Option Nat} {D' : cw_D} {nc ns : Nat} (X : ww_C p m c cc nL s args RX7 lw_all) (hsz : ls.size = nL) (hK : cw_K E A s) (hR : cw_H E A D H) (hS : va_S A s.heap H locs) (hF : 6 ≤ R.frames) (hLo : 212 ≤ R.locals) (hc : cells + nc ≤ R.cells) (hs : slots + ns ≤ R.slots) (hkd : cw_kd D [4] (some a0) = true) (hf : fJ3_append D a0 x1 = some (r, D', nc, ns)) (hrest : (rest.map fun v => v.category).sum ≤ 8) (hdg : decode cc pc = .ok (.invokevirtual 58, 3)) (kk : ∀ (H1 : Heap) (locs1 : List Loc), cw_H E A D' H1 → va_S A s.heap H1 locs1 → W p l e R s m args below meth c H1 locs1 (cells + nc) (slots + ns) Q (F0 m (pc + 3) ls (va_rf r :: rest))) : W p l e R s m args below meth c H locs cells slots Q (F0 m pc ls (.int x1 :: .ref a0 :: rest)) :=
  c7k_J3_append X hsz hK hR hS hF hLo hc hs hkd (metJ3_append l _ _ _ _ _ _ _ hf) hrest hdg kk
theorem c8c_J3_append {D : cw_D} {a0 : Nat} {x1 : Int32} {r : Option Nat} {D' : cw_D} {nc ns : Nat} (X : ww_C p m c cc nL s args RX8 lw_all) (hsz : ls.size = nL) (hK : cw_K E A s) (hR : cw_H E A D H) (hS : va_S A s.heap H locs) (hF : 6 ≤ R.frames) (hLo : 212 ≤ R.locals) (hc : cells + nc ≤ R.cells) (hs : slots + ns ≤ R.slots) (hkd : cw_kd D [4] (some a0) = true) (hf : fJ3_append D a0 x1 = some (r, D', nc, ns)) (hrest : (rest.map fun v => v.category).sum ≤ 8) (hdg : decode cc pc = .ok (.invokevirtual 75, 3)) (kk : ∀ (H1 : Heap) (locs1 : List Loc), cw_H E A D' H1 → va_S A s.heap H1 locs1 → W p l e R s m args below meth c H1 locs1 (cells + nc) (slots + ns) Q (F0 m (pc + 3) ls (va_rf r :: rest))) : W p l e R s m args below meth c H locs cells slots Q (F0 m pc ls (.int x1 :: .ref a0 :: rest)) :=
  c8k_J3_append X hsz hK hR hS hF hLo hc hs hkd (metJ3_append l _ _ _ _ _ _ _ hf) hrest hdg kk
end C_J3_append_c
noncomputable def fJ3_toString (D : cw_D) (a0 : Nat) : Option (Option Nat × cw_D × Nat × Nat) :=
  ww_b3 (fJ4_init (cw_nO D 3) D.2.2 (some a0)) (fun D_1 c_1 k_1 => some ((some D.2.2), D_1, ((0 + 1) + c_1), ((0 + 4) + k_1)))
section C_J3_toString_k
variable {p : Program} {l : Launch} {e : Env} {R : Room} {s : State} {m : MethodId} {args : Array Value} {below : List Frame} {meth : Method} {c : Code} {H : Heap} {locs : List Loc} {cells slots : Nat} {Q : State → Prop}
variable {cc : ByteArray} {pc : Nat} {ls : Array Slot} {rest : List Value} {nL : Nat} {E : cw_E} {A : Nat → Prop} {H0 : Heap}
theorem c1k_J3_toString {D : cw_D} {a0 : Nat} {r : Option Nat} {D' : cw_D} {nc ns : Nat} (X : ww_C p m c cc nL s args RX1 lw_all) (hsz : ls.size = nL) (hK : cw_K E A s) (hR : cw_H E A D H) (hS : va_S A s.heap H locs) (hF : 6 ≤ R.frames) (hLo : 211 ≤ R.locals) (hc : cells + nc ≤ R.cells) (hs : slots + ns ≤ R.slots) (hkd : cw_kd D [4] (some a0) = true) (hM : cw_MetQ l yJ3_toString cJ3_toString 1 (some (Jvm.ClassFile.FieldType.object "java/lang/String")) 5 191 E A [.ref a0] D D' r nc ns) (hrest : (rest.map fun v => v.category).sum ≤ 8) (hdg : decode cc pc = .ok (.invokevirtual 163, 3)) (kk : ∀ (H1 : Heap) (locs1 : List Loc), cw_H E A D' H1 → va_S A s.heap H1 locs1 → W p l e R s m args below meth c H1 locs1 (cells + nc) (slots + ns) Q (F0 m (pc + 3) ls (va_rf r :: rest))) : W p l e R s m args below meth c H locs cells slots Q (F0 m pc ls (.ref a0 :: rest)) :=
  va_callq (va_runV (C := RJ3) (As := []) (rest := rest) (b := a0) X hM (cwV 0 X.2.2.2.2 (lw_V q551 q552 q553 q137 q554) rfl rfl rfl (by decide +kernel) ⟨hF, hLo⟩) (cw_pV hK hR hS (cw_rc (k := 4) (C := RJ3) (T := TJ3) (N := 4) rfl (by decide) hK hR hkd)) rfl rfl hsz rfl (lv_room hrest) hdg ⟨hc, hs⟩) hS (fun q _ h => h) (fun q h => h) (fun r' u t H1 locs1 ht hvm hw hB hz1 hk1 hS1 => by subst hw; rw [ht] at hB; exact kk H1 locs1 hB hS1)
end C_J3_toString_k
set_option maxHeartbeats 4000000 in
set_option maxRecDepth 100000 in
theorem metJ3_toString (l : Launch) {E : cw_E} {A : Nat → Prop} (D : cw_D) (a0 : Nat) (r : Option Nat) (D' : cw_D) (nc ns : Nat) (hf : fJ3_toString D a0 = some (r, D', nc, ns)) : cw_MetQ l yJ3_toString cJ3_toString 1 (some (Jvm.ClassFile.FieldType.object "java/lang/String")) 5 191 E A [.ref a0] D D' r nc ns := by
  unfold fJ3_toString at hf
  refine cw_sQN (own := RJ3) (by decide +kernel) [(0, .ref a0)] ⟨Nat.le_of_ble_eq_true rfl, rfl⟩ ?_
  intro p e s m args below meth c Rm Q X hK hF hLo hC hin hend ls hl hR hS
  obtain ⟨hx, hb, hml, hown, hts⟩ := id X
  have hm9 : 0 ≤ nc ∧ 0 ≤ ns := ⟨Nat.zero_le _, Nat.zero_le _⟩
  have hm9 : (0 + 1) ≤ nc ∧ (0 + 4) ≤ ns := by
    obtain ⟨D_1, c_1, k_1, h_1, hq⟩ := ww_b3S hf; replace hf := hq; clear hq
    have e9 := hf
    simp only [Option.some.injEq, Prod.mk.injEq] at e9
    omega
  refine cw_onew (ci := 3) (C := RJ4) (T := TJ4) (N := 4) rfl (by decide) in_J4 tyJ4 tyJ4_ok rfl X hK hR hS q555 q556 q138 (Nat.le_trans hm9.1 hC.1) (Nat.le_trans hm9.2 hC.2) dJ3_toString_0 (fun H hR hS => ?_)
  refine lv_dup hx hb dJ3_toString_3 rfl ?_
  refine lv_aload_n hx hb dJ3_toString_4 rfl (lv_at hl 0 rfl) ?_
  obtain ⟨D_1, c_1, k_1, h_1, hq⟩ := ww_b3S hf; replace hf := hq; clear hq
  have hm9 : ((0 + 1) + c_1) ≤ nc ∧ ((0 + 4) + k_1) ≤ ns := by
    have e9 := hf
    simp only [Option.some.injEq, Prod.mk.injEq] at e9
    omega
  refine cJ3c_J4_init (x1 := (some a0)) X hl.1 hK hR hS (Nat.le_trans (Nat.le_of_ble_eq_true rfl) hF) (Nat.le_trans (Nat.le_of_ble_eq_true rfl) hLo) (Nat.le_trans hm9.1 hC.1) (Nat.le_trans hm9.2 hC.2) h_1 (cw_rest (Nat.le_of_ble_eq_true rfl)) dJ3_toString_5 (fun H locs hR hS => ?_)
  exact hend (v := (some D.2.2)) dJ3_toString_8 rfl (Or.inl ⟨_, rfl⟩) hf hR hS
section C_J3_toString_c
variable {p : Program} {l : Launch} {e : Env} {R : Room} {s : State} {m : MethodId} {args : Array Value} {below : List Frame} {meth : Method} {c : Code} {H : Heap} {locs : List Loc} {cells slots : Nat} {Q : State → Prop}
variable {cc : ByteArray} {pc : Nat} {ls : Array Slot} {rest : List Value} {nL : Nat} {E : cw_E} {A : Nat → Prop} {H0 : Heap}
theorem c1c_J3_toString {D : cw_D} {a0 : Nat} {r : Option Nat} {D' : cw_D} {nc ns : Nat} (X : ww_C p m c cc nL s args RX1 lw_all) (hsz : ls.size = nL) (hK : cw_K E A s) (hR : cw_H E A D H) (hS : va_S A s.heap H locs) (hF : 6 ≤ R.frames) (hLo : 211 ≤ R.locals) (hc : cells + nc ≤ R.cells) (hs : slots + ns ≤ R.slots) (hkd : cw_kd D [4] (some a0) = true) (hf : fJ3_toString D a0 = some (r, D', nc, ns)) (hrest : (rest.map fun v => v.category).sum ≤ 8) (hdg : decode cc pc = .ok (.invokevirtual 163, 3)) (kk : ∀ (H1 : Heap) (locs1 : List Loc), cw_H E A D' H1 → va_S A s.heap H1 locs1 → W p l e R s m args below meth c H1 locs1 (cells + nc) (slots + ns) Q (F0 m (pc + 3) ls (va_rf r :: rest))) : W p l e R s m args below meth c H locs cells slots Q (F0 m pc ls (.ref a0 :: rest)) :=
  c1k_J3_toString X hsz hK hR hS hF hLo hc hs hkd (metJ3_toString l _ _ _ _ _ _ hf) hrest hdg kk
end C_J3_toString_c
noncomputable def fJ3_append_2 (D : cw_D) (a0 : Nat) (x1 : Option Nat) : Option (Option Nat × cw_D × Nat × Nat) :=
  ww_g (cw_kd D [4] (some a0)) (ww_b4 (fJ2_append_2 D a0 x1) (fun r_2 D_2 c_2 k_2 => some ((some a0), D_2, (0 + c_2), (0 + k_2))))
section C_J3_append_2_k
variable {p : Program} {l : Launch} {e : Env} {R : Room} {s : State} {m : MethodId} {args : Array Value} {below : List Frame} {meth : Method} {c : Code} {H : Heap} {locs : List Loc} {cells slots : Nat} {Q : State → Prop}
variable {cc : ByteArray} {pc : Nat} {ls : Array Slot} {rest : List Value} {nL : Nat} {E : cw_E} {A : Nat → Prop} {H0 : Heap}
theorem c7k_J3_append_2 {D : cw_D} {a0 : Nat} {x1 : Option Nat} {r : Option Nat} {D' : cw_D} {nc ns : Nat} (X : ww_C p m c cc nL s args RX7 lw_all) (hsz : ls.size = nL) (hK : cw_K E A s) (hR : cw_H E A D H) (hS : va_S A s.heap H locs) (hF : 6 ≤ R.frames) (hLo : 213 ≤ R.locals) (hc : cells + nc ≤ R.cells) (hs : slots + ns ≤ R.slots) (hkd : cw_kd D [4] (some a0) = true) (hM : cw_MetQ l yJ3_append_2 cJ3_append_2 2 (some (Jvm.ClassFile.FieldType.object "java/lang/StringBuilder")) 5 192 E A [.ref a0, va_rf x1] D D' r nc ns) (hrest : (rest.map fun v => v.category).sum ≤ 8) (hdg : decode cc pc = .ok (.invokevirtual 68, 3)) (kk : ∀ (H1 : Heap) (locs1 : List Loc), cw_H E A D' H1 → va_S A s.heap H1 locs1 → W p l e R s m args below meth c H1 locs1 (cells + nc) (slots + ns) Q (F0 m (pc + 3) ls (va_rf r :: rest))) : W p l e R s m args below meth c H locs cells slots Q (F0 m pc ls (va_rf x1 :: .ref a0 :: rest)) :=
  va_callq (va_runV (C := RJ3) (As := [va_rf x1]) (rest := rest) (b := a0) X hM (cwV 1 X.2.2.2.2 (lw_V q1515 q1516 q1517 q137 q1518) rfl rfl rfl (by decide +kernel) ⟨hF, hLo⟩) (cw_pV hK hR hS (cw_rc (k := 4) (C := RJ3) (T := TJ3) (N := 4) rfl (by decide) hK hR hkd)) rfl rfl hsz rfl (lv_room hrest) hdg ⟨hc, hs⟩) hS (fun q _ h => h) (fun q h => h) (fun r' u t H1 locs1 ht hvm hw hB hz1 hk1 hS1 => by subst hw; rw [ht] at hB; exact kk H1 locs1 hB hS1)
end C_J3_append_2_k
set_option maxHeartbeats 4000000 in
set_option maxRecDepth 100000 in
theorem metJ3_append_2 (l : Launch) {E : cw_E} {A : Nat → Prop} (D : cw_D) (a0 : Nat) (x1 : Option Nat) (r : Option Nat) (D' : cw_D) (nc ns : Nat) (hf : fJ3_append_2 D a0 x1 = some (r, D', nc, ns)) : cw_MetQ l yJ3_append_2 cJ3_append_2 2 (some (Jvm.ClassFile.FieldType.object "java/lang/StringBuilder")) 5 192 E A [.ref a0, va_rf x1] D D' r nc ns := by
  unfold fJ3_append_2 at hf
  refine cw_sQN (own := RJ3) (by decide +kernel) [(0, .ref a0), (1, va_rf x1)] ⟨by cases x1 <;> exact Nat.le_of_ble_eq_true rfl, by cases x1 <;> rfl⟩ ?_
  intro p e s m args below meth c Rm Q X hK hF hLo hC hin hend ls hl hR hS
  obtain ⟨hx, hb, hml, hown, hts⟩ := id X
  have hm9 : 0 ≤ nc ∧ 0 ≤ ns := ⟨Nat.zero_le _, Nat.zero_le _⟩
  refine lv_aload_n hx hb dJ3_append_2_0 rfl (lv_at hl 0 rfl) ?_
  refine cw_aload_n (x := x1) hx hb dJ3_append_2_1 rfl (lv_at hl 1 rfl) ?_
  obtain ⟨h_1, hq⟩ := ww_gS hf; replace hf := hq; clear hq
  obtain ⟨r_2, D_2, c_2, k_2, h_2, hq⟩ := ww_b4S hf; replace hf := hq; clear hq
  have hm9 : (0 + c_2) ≤ nc ∧ (0 + k_2) ≤ ns := by
    have e9 := hf
    simp only [Option.some.injEq, Prod.mk.injEq] at e9
    omega
  refine cJ3c_J2_append_2 (x1 := x1) X hl.1 hK hR hS (Nat.le_trans (Nat.le_of_ble_eq_true rfl) hF) (Nat.le_trans (Nat.le_of_ble_eq_true rfl) hLo) (Nat.le_trans hm9.1 hC.1) (Nat.le_trans hm9.2 hC.2) h_1 h_2 (cw_rest (Nat.le_of_ble_eq_true rfl)) dJ3_append_2_2 (fun H locs hR hS => ?_)
  refine lv_pop hx hb dJ3_append_2_5 (cw_cat _) ?_
  refine lv_aload_n hx hb dJ3_append_2_6 rfl (lv_at hl 0 rfl) ?_
  exact hend (v := (some a0)) dJ3_append_2_7 rfl (Or.inl ⟨_, rfl⟩) hf hR hS
section C_J3_append_2_c
variable {p : Program} {l : Launch} {e : Env} {R : Room} {s : State} {m : MethodId} {args : Array Value} {below : List Frame} {meth : Method} {c : Code} {H : Heap} {locs : List Loc} {cells slots : Nat} {Q : State → Prop}
variable {cc : ByteArray} {pc : Nat} {ls : Array Slot} {rest : List Value} {nL : Nat} {E : cw_E} {A : Nat → Prop} {H0 : Heap}
theorem c7c_J3_append_2 {D : cw_D} {a0 : Nat} {x1 : Option Nat} {r : Option Nat} {D' : cw_D} {nc ns : Nat} (X : ww_C p m c cc nL s args RX7 lw_all) (hsz : ls.size = nL) (hK : cw_K E A s) (hR : cw_H E A D H) (hS : va_S A s.heap H locs) (hF : 6 ≤ R.frames) (hLo : 213 ≤ R.locals) (hc : cells + nc ≤ R.cells) (hs : slots + ns ≤ R.slots) (hkd : cw_kd D [4] (some a0) = true) (hf : fJ3_append_2 D a0 x1 = some (r, D', nc, ns)) (hrest : (rest.map fun v => v.category).sum ≤ 8) (hdg : decode cc pc = .ok (.invokevirtual 68, 3)) (kk : ∀ (H1 : Heap) (locs1 : List Loc), cw_H E A D' H1 → va_S A s.heap H1 locs1 → W p l e R s m args below meth c H1 locs1 (cells + nc) (slots + ns) Q (F0 m (pc + 3) ls (va_rf r :: rest))) : W p l e R s m args below meth c H locs cells slots Q (F0 m pc ls (va_rf x1 :: .ref a0 :: rest)) :=
  c7k_J3_append_2 X hsz hK hR hS hF hLo hc hs hkd (metJ3_append_2 l _ _ _ _ _ _ _ hf) hrest hdg kk
end C_J3_append_2_c
