noncomputable def f1_threeAt (D : cw_D) (x0 : Option Nat) (x1 : Option Nat) (x2 : Option Nat) (x3 : Int32) : Option (Int32) :=
  ww_b (f1_valueIn D x0 x3) (fun r_1 => ww_b (f1_valueIn D x1 x3) (fun r_2 => ww_b (f1_valueIn D x2 x3) (fun r_3 => if r_3 = r_1 then some (-1 : Int32) else if r_3 = r_2 then some (-1 : Int32) else if r_2 = r_1 then some (0 : Int32) else some (1 : Int32))))
section C_1_threeAt_k
variable {p : Program} {l : Launch} {e : Env} {R : Room} {s : State} {m : MethodId} {args : Array Value} {below : List Frame} {meth : Method} {c : Code} {H : Heap} {locs : List Loc} {cells slots : Nat} {Q : State → Prop}
variable {cc : ByteArray} {pc : Nat} {ls : Array Slot} {rest : List Value} {nL : Nat} {E : cw_E} {A : Nat → Prop} {H0 : Heap}
theorem c1k_1_threeAt {D : cw_D} {x0 : Option Nat} {x1 : Option Nat} {x2 : Option Nat} {x3 : Int32} {r : Int32} (X : ww_C p m c cc nL s args RX1 lw_all) (hsz : ls.size = nL) (hK : cw_K E A s) (hR : cw_H E A D H) (hS : va_S A s.heap H locs) (hF : 14 ≤ R.frames) (hLo : 293 ≤ R.locals) (hc : cells ≤ R.cells) (hs : slots ≤ R.slots) (hM : cw_MetI l yX1_threeAt cX1_threeAt 7 (some Jvm.ClassFile.FieldType.int) 13 267 E A [va_rf x0, va_rf x1, va_rf x2, .int x3] D D r 0 0) (hrest : (rest.map fun v => v.category).sum ≤ 8) (hdg : decode cc pc = .ok (.invokestatic 395, 3)) (kk : ∀ (H1 : Heap) (locs1 : List Loc), cw_H E A D H1 → va_S A s.heap H1 locs1 → W p l e R s m args below meth c H1 locs1 cells slots Q (F0 m (pc + 3) ls (.int r :: rest))) : W p l e R s m args below meth c H locs cells slots Q (F0 m pc ls (.int x3 :: va_rf x2 :: va_rf x1 :: va_rf x0 :: rest)) :=
  va_calli (va_runS (As := [va_rf x0, va_rf x1, va_rf x2, .int x3]) (rest := rest) X hM (va_cwS 4 X.2.2.2.2 (lw_S q1341 q1342 q131 q1343) rfl rfl rfl (by decide +kernel) ⟨hF, hLo⟩) (cw_pS hK hR hS) rfl rfl hsz rfl (lv_room hrest) hdg ⟨hc, hs⟩) hS (fun q _ h => h) (fun q h => h) (fun r' u t H1 locs1 ht hvm hw hB hz1 hk1 hS1 => by subst hw; rw [ht] at hB; exact kk H1 locs1 hB hS1)
end C_1_threeAt_k
set_option maxHeartbeats 4000000 in
set_option maxRecDepth 100000 in
theorem met1_threeAt (l : Launch) {E : cw_E} {A : Nat → Prop} (D : cw_D) (x0 : Option Nat) (x1 : Option Nat) (x2 : Option Nat) (x3 : Int32) (r : Int32) (hf : f1_threeAt D x0 x1 x2 x3 = some r) : cw_MetI l yX1_threeAt cX1_threeAt 7 (some Jvm.ClassFile.FieldType.int) 13 267 E A [va_rf x0, va_rf x1, va_rf x2, .int x3] D D r 0 0 := by
  unfold f1_threeAt at hf
  refine cw_sIP (own := RX1) (by decide +kernel) [(0, va_rf x0), (1, va_rf x1), (2, va_rf x2), (3, .int x3)] ⟨by cases x0 <;> cases x1 <;> cases x2 <;> exact Nat.le_of_ble_eq_true rfl, by cases x0 <;> cases x1 <;> cases x2 <;> rfl⟩ ?_
  intro p e s m args below meth c Rm Q X hK hF hLo hin hend ls hl hR hS
  obtain ⟨hx, hb, hml, hown, hts⟩ := id X
  refine cw_aload_n (x := x0) hx hb dX1_threeAt_0 rfl (lv_at hl 0 rfl) ?_
  refine lv_iload_n hx hb dX1_threeAt_1 rfl (lv_at hl 3 rfl) ?_
  obtain ⟨r_1, h_1, hq⟩ := ww_bS hf; replace hf := hq; clear hq
  refine c1c_1_valueIn (x0 := x0) X hl.1 hK hR hS (Nat.le_trans (Nat.le_of_ble_eq_true rfl) hF) (Nat.le_trans (Nat.le_of_ble_eq_true rfl) hLo) (Nat.zero_le _) (Nat.zero_le _) h_1 (cw_rest (Nat.le_of_ble_eq_true rfl)) dX1_threeAt_2 (fun H locs hR hS => ?_)
  refine lv_istore (lv' := [(4, .int r_1), (0, va_rf x0), (1, va_rf x1), (2, va_rf x2), (3, .int x3)]) hx hb dX1_threeAt_5 hl (by decide) rfl (fun ls hl => ?_)
  refine cw_aload_n (x := x1) hx hb dX1_threeAt_7 rfl (lv_at hl 2 rfl) ?_
  refine lv_iload_n hx hb dX1_threeAt_8 rfl (lv_at hl 4 rfl) ?_
  obtain ⟨r_2, h_2, hq⟩ := ww_bS hf; replace hf := hq; clear hq
  refine c1c_1_valueIn (x0 := x1) X hl.1 hK hR hS (Nat.le_trans (Nat.le_of_ble_eq_true rfl) hF) (Nat.le_trans (Nat.le_of_ble_eq_true rfl) hLo) (Nat.zero_le _) (Nat.zero_le _) h_2 (cw_rest (Nat.le_of_ble_eq_true rfl)) dX1_threeAt_9 (fun H locs hR hS => ?_)
  refine lv_istore (lv' := [(5, .int r_2), (4, .int r_1), (0, va_rf x0), (1, va_rf x1), (2, va_rf x2), (3, .int x3)]) hx hb dX1_threeAt_12 hl (by decide) rfl (fun ls hl => ?_)
  refine cw_aload_n (x := x2) hx hb dX1_threeAt_14 rfl (lv_at hl 4 rfl) ?_
  refine lv_iload_n hx hb dX1_threeAt_15 rfl (lv_at hl 5 rfl) ?_
  obtain ⟨r_3, h_3, hq⟩ := ww_bS hf; replace hf := hq; clear hq
  refine c1c_1_valueIn (x0 := x2) X hl.1 hK hR hS (Nat.le_trans (Nat.le_of_ble_eq_true rfl) hF) (Nat.le_trans (Nat.le_of_ble_eq_true rfl) hLo) (Nat.zero_le _) (Nat.zero_le _) h_3 (cw_rest (Nat.le_of_ble_eq_true rfl)) dX1_threeAt_16 (fun H locs hR hS => ?_)
  refine lv_istore (lv' := [(6, .int r_3), (5, .int r_2), (4, .int r_1), (0, va_rf x0), (1, va_rf x1), (2, va_rf x2), (3, .int x3)]) hx hb dX1_threeAt_19 hl (by decide) rfl (fun ls hl => ?_)
  refine lv_iload hx hb dX1_threeAt_21 (lv_at hl 0 rfl) ?_
  refine lv_iload hx hb dX1_threeAt_23 (lv_at hl 2 rfl) ?_
  refine lv_icmp_eq (tgt := 35) hx hb dX1_threeAt_25 (by decide) (fun c_4 => ?_) (fun c_4 => ?_)
  · replace hf := ww_ip hf c_4
    refine lv_iconst (v := (-1 : Int32)) hx hb dX1_threeAt_35 (by decide) ?_
    refine lv_goto (tgt := 51) hx hb dX1_threeAt_36 (by decide) ?_
    exact hend dX1_threeAt_51 rfl rfl hf hR hS
  · replace hf := ww_in hf c_4
    refine lv_iload hx hb dX1_threeAt_28 (lv_at hl 0 rfl) ?_
    refine lv_iload hx hb dX1_threeAt_30 (lv_at hl 1 rfl) ?_
    refine lv_icmp_ne (tgt := 39) hx hb dX1_threeAt_32 (by decide) (fun c_5 => ?_) (fun c_5 => ?_)
    · replace hf := ww_in hf c_5
      refine lv_iload hx hb dX1_threeAt_39 (lv_at hl 1 rfl) ?_
      refine lv_iload hx hb dX1_threeAt_41 (lv_at hl 2 rfl) ?_
      refine lv_icmp_ne (tgt := 50) hx hb dX1_threeAt_43 (by decide) (fun c_6 => ?_) (fun c_6 => ?_)
      · replace hf := ww_in hf c_6
        refine lv_iconst (v := (1 : Int32)) hx hb dX1_threeAt_50 (by decide) ?_
        exact hend dX1_threeAt_51 rfl rfl hf hR hS
      · replace hf := ww_ip hf c_6
        refine lv_iconst (v := (0 : Int32)) hx hb dX1_threeAt_46 (by decide) ?_
        refine lv_goto (tgt := 51) hx hb dX1_threeAt_47 (by decide) ?_
        exact hend dX1_threeAt_51 rfl rfl hf hR hS
    · replace hf := ww_ip hf c_5
      refine lv_iconst (v := (-1 : Int32)) hx hb dX1_threeAt_35 (by decide) ?_
      refine lv_goto (tgt := 51) hx hb dX1_threeAt_36 (by decide) ?_
      exact hend dX1_threeAt_51 rfl rfl hf hR hS
section C_1_threeAt_c
variable {p : Program} {l : Launch} {e : Env} {R : Room} {s : State} {m : MethodId} {args : Array Value} {below : List Frame} {meth : Method} {c : Code} {H : Heap} {locs : List Loc} {cells slots : Nat} {Q : State → Prop}
variable {cc : ByteArray} {pc : Nat} {ls : Array Slot} {rest : List Value} {nL : Nat} {E : cw_E} {A : Nat → Prop} {H0 : Heap}
theorem c1c_1_threeAt {D : cw_D} {x0 : Option Nat} {x1 : Option Nat} {x2 : Option Nat} {x3 : Int32} {r : Int32} (X : ww_C p m c cc nL s args RX1 lw_all) (hsz : ls.size = nL) (hK : cw_K E A s) (hR : cw_H E A D H) (hS : va_S A s.heap H locs) (hF : 14 ≤ R.frames) (hLo : 293 ≤ R.locals) (hc : cells ≤ R.cells) (hs : slots ≤ R.slots) (hf : f1_threeAt D x0 x1 x2 x3 = some r) (hrest : (rest.map fun v => v.category).sum ≤ 8) (hdg : decode cc pc = .ok (.invokestatic 395, 3)) (kk : ∀ (H1 : Heap) (locs1 : List Loc), cw_H E A D H1 → va_S A s.heap H1 locs1 → W p l e R s m args below meth c H1 locs1 cells slots Q (F0 m (pc + 3) ls (.int r :: rest))) : W p l e R s m args below meth c H locs cells slots Q (F0 m pc ls (.int x3 :: va_rf x2 :: va_rf x1 :: va_rf x0 :: rest)) :=
  c1k_1_threeAt X hsz hK hR hS hF hLo hc hs (met1_threeAt l _ _ _ _ _ _ hf) hrest hdg kk
end C_1_threeAt_c
noncomputable def f1_comesTo (D : cw_D) (x0 : Option Nat) (x1 : Option Nat) (x2 : Option Nat) (x3 : Int32) (x4 : Int32) : Option (Int32) :=
  ww_b (f1_threeAt D x0 x1 x2 x3) (fun r_1 => if r_1 = 0 then ww_b (f1_valueIn D x2 x3) (fun r_3 => some r_3) else if r_1 = 1 then if x4 = 0 then ww_b (f1_valueIn D x1 x3) (fun r_9 => some r_9) else if x4 = (1 : Int32) then ww_b (f1_valueIn D x2 x3) (fun r_8 => some r_8) else ww_b (f1_valueIn D x0 x3) (fun r_7 => some r_7) else ww_b (f1_valueIn D x1 x3) (fun r_10 => some r_10))
section C_1_comesTo_k
variable {p : Program} {l : Launch} {e : Env} {R : Room} {s : State} {m : MethodId} {args : Array Value} {below : List Frame} {meth : Method} {c : Code} {H : Heap} {locs : List Loc} {cells slots : Nat} {Q : State → Prop}
variable {cc : ByteArray} {pc : Nat} {ls : Array Slot} {rest : List Value} {nL : Nat} {E : cw_E} {A : Nat → Prop} {H0 : Heap}
theorem c1k_1_comesTo {D : cw_D} {x0 : Option Nat} {x1 : Option Nat} {x2 : Option Nat} {x3 : Int32} {x4 : Int32} {r : Int32} (X : ww_C p m c cc nL s args RX1 lw_all) (hsz : ls.size = nL) (hK : cw_K E A s) (hR : cw_H E A D H) (hS : va_S A s.heap H locs) (hF : 15 ≤ R.frames) (hLo : 317 ≤ R.locals) (hc : cells ≤ R.cells) (hs : slots ≤ R.slots) (hM : cw_MetI l yX1_comesTo cX1_comesTo 5 (some Jvm.ClassFile.FieldType.int) 14 293 E A [va_rf x0, va_rf x1, va_rf x2, .int x3, .int x4] D D r 0 0) (hrest : (rest.map fun v => v.category).sum ≤ 8) (hdg : decode cc pc = .ok (.invokestatic 399, 3)) (kk : ∀ (H1 : Heap) (locs1 : List Loc), cw_H E A D H1 → va_S A s.heap H1 locs1 → W p l e R s m args below meth c H1 locs1 cells slots Q (F0 m (pc + 3) ls (.int r :: rest))) : W p l e R s m args below meth c H locs cells slots Q (F0 m pc ls (.int x4 :: .int x3 :: va_rf x2 :: va_rf x1 :: va_rf x0 :: rest)) :=
  va_calli (va_runS (As := [va_rf x0, va_rf x1, va_rf x2, .int x3, .int x4]) (rest := rest) X hM (va_cwS 5 X.2.2.2.2 (lw_S q1338 q1339 q131 q1340) rfl rfl rfl (by decide +kernel) ⟨hF, hLo⟩) (cw_pS hK hR hS) rfl rfl hsz rfl (lv_room hrest) hdg ⟨hc, hs⟩) hS (fun q _ h => h) (fun q h => h) (fun r' u t H1 locs1 ht hvm hw hB hz1 hk1 hS1 => by subst hw; rw [ht] at hB; exact kk H1 locs1 hB hS1)
end C_1_comesTo_k
set_option maxHeartbeats 4000000 in
set_option maxRecDepth 100000 in
theorem met1_comesTo (l : Launch) {E : cw_E} {A : Nat → Prop} (D : cw_D) (x0 : Option Nat) (x1 : Option Nat) (x2 : Option Nat) (x3 : Int32) (x4 : Int32) (r : Int32) (hf : f1_comesTo D x0 x1 x2 x3 x4 = some r) : cw_MetI l yX1_comesTo cX1_comesTo 5 (some Jvm.ClassFile.FieldType.int) 14 293 E A [va_rf x0, va_rf x1, va_rf x2, .int x3, .int x4] D D r 0 0 := by
  unfold f1_comesTo at hf
  refine cw_sIP (own := RX1) (by decide +kernel) [(0, va_rf x0), (1, va_rf x1), (2, va_rf x2), (3, .int x3), (4, .int x4)] ⟨by cases x0 <;> cases x1 <;> cases x2 <;> exact Nat.le_of_ble_eq_true rfl, by cases x0 <;> cases x1 <;> cases x2 <;> rfl⟩ ?_
  intro p e s m args below meth c Rm Q X hK hF hLo hin hend ls hl hR hS
  obtain ⟨hx, hb, hml, hown, hts⟩ := id X
  refine cw_aload_n (x := x0) hx hb dX1_comesTo_0 rfl (lv_at hl 0 rfl) ?_
  refine cw_aload_n (x := x1) hx hb dX1_comesTo_1 rfl (lv_at hl 1 rfl) ?_
  refine cw_aload_n (x := x2) hx hb dX1_comesTo_2 rfl (lv_at hl 2 rfl) ?_
  refine lv_iload_n hx hb dX1_comesTo_3 rfl (lv_at hl 3 rfl) ?_
  obtain ⟨r_1, h_1, hq⟩ := ww_bS hf; replace hf := hq; clear hq
  refine c1c_1_threeAt (x0 := x0) (x1 := x1) (x2 := x2) X hl.1 hK hR hS (Nat.le_trans (Nat.le_of_ble_eq_true rfl) hF) (Nat.le_trans (Nat.le_of_ble_eq_true rfl) hLo) (Nat.zero_le _) (Nat.zero_le _) h_1 (cw_rest (Nat.le_of_ble_eq_true rfl)) dX1_comesTo_4 (fun H locs hR hS => ?_)
  refine ww_by (r_1 = 0) (fun c_2 => ?_) (fun c_2 => ?_)
  · replace hf := ww_ip hf c_2
    refine ww_lin (k := 0) (off := 25) (tgt := 32) hx hb dX1_comesTo_7 c_2 (by decide) (by decide) (by decide) ?_
    refine cw_aload_n (x := x2) hx hb dX1_comesTo_32 rfl (lv_at hl 2 rfl) ?_
    refine lv_iload_n hx hb dX1_comesTo_33 rfl (lv_at hl 3 rfl) ?_
    obtain ⟨r_3, h_3, hq⟩ := ww_bS hf; replace hf := hq; clear hq
    refine c1c_1_valueIn (x0 := x2) X hl.1 hK hR hS (Nat.le_trans (Nat.le_of_ble_eq_true rfl) hF) (Nat.le_trans (Nat.le_of_ble_eq_true rfl) hLo) (Nat.zero_le _) (Nat.zero_le _) h_3 (cw_rest (Nat.le_of_ble_eq_true rfl)) dX1_comesTo_34 (fun H locs hR hS => ?_)
    refine lv_goto (tgt := 72) hx hb dX1_comesTo_37 (by decide) ?_
    exact hend dX1_comesTo_72 rfl rfl hf hR hS
  replace hf := ww_in hf c_2
  refine ww_by (r_1 = 1) (fun c_4 => ?_) (fun c_4 => ?_)
  · replace hf := ww_ip hf c_4
    refine ww_lin (k := 1) (off := 33) (tgt := 40) hx hb dX1_comesTo_7 c_4 (by decide) (by decide) (by decide) ?_
    refine lv_iload hx hb dX1_comesTo_40 (lv_at hl 4 rfl) ?_
    refine lv_if_ne (tgt := 49) hx hb dX1_comesTo_42 (by decide) (fun c_5 => ?_) (fun c_5 => ?_)
    · replace hf := ww_in hf c_5
      refine lv_iload hx hb dX1_comesTo_49 (lv_at hl 4 rfl) ?_
      refine lv_iconst (v := (1 : Int32)) hx hb dX1_comesTo_51 (by decide) ?_
      refine lv_icmp_ne (tgt := 59) hx hb dX1_comesTo_52 (by decide) (fun c_6 => ?_) (fun c_6 => ?_)
      · replace hf := ww_in hf c_6
        refine cw_aload_n (x := x0) hx hb dX1_comesTo_59 rfl (lv_at hl 0 rfl) ?_
        refine lv_iload_n hx hb dX1_comesTo_60 rfl (lv_at hl 3 rfl) ?_
        obtain ⟨r_7, h_7, hq⟩ := ww_bS hf; replace hf := hq; clear hq
        refine c1c_1_valueIn (x0 := x0) X hl.1 hK hR hS (Nat.le_trans (Nat.le_of_ble_eq_true rfl) hF) (Nat.le_trans (Nat.le_of_ble_eq_true rfl) hLo) (Nat.zero_le _) (Nat.zero_le _) h_7 (cw_rest (Nat.le_of_ble_eq_true rfl)) dX1_comesTo_61 (fun H locs hR hS => ?_)
        refine lv_goto (tgt := 72) hx hb dX1_comesTo_64 (by decide) ?_
        exact hend dX1_comesTo_72 rfl rfl hf hR hS
      · replace hf := ww_ip hf c_6
        refine cw_aload_n (x := x2) hx hb dX1_comesTo_55 rfl (lv_at hl 2 rfl) ?_
        refine lv_goto (tgt := 60) hx hb dX1_comesTo_56 (by decide) ?_
        refine lv_iload_n hx hb dX1_comesTo_60 rfl (lv_at hl 3 rfl) ?_
        obtain ⟨r_8, h_8, hq⟩ := ww_bS hf; replace hf := hq; clear hq
        refine c1c_1_valueIn (x0 := x2) X hl.1 hK hR hS (Nat.le_trans (Nat.le_of_ble_eq_true rfl) hF) (Nat.le_trans (Nat.le_of_ble_eq_true rfl) hLo) (Nat.zero_le _) (Nat.zero_le _) h_8 (cw_rest (Nat.le_of_ble_eq_true rfl)) dX1_comesTo_61 (fun H locs hR hS => ?_)
        refine lv_goto (tgt := 72) hx hb dX1_comesTo_64 (by decide) ?_
        exact hend dX1_comesTo_72 rfl rfl hf hR hS
    · replace hf := ww_ip hf c_5
      refine cw_aload_n (x := x1) hx hb dX1_comesTo_45 rfl (lv_at hl 1 rfl) ?_
      refine lv_goto (tgt := 60) hx hb dX1_comesTo_46 (by decide) ?_
      refine lv_iload_n hx hb dX1_comesTo_60 rfl (lv_at hl 3 rfl) ?_
      obtain ⟨r_9, h_9, hq⟩ := ww_bS hf; replace hf := hq; clear hq
      refine c1c_1_valueIn (x0 := x1) X hl.1 hK hR hS (Nat.le_trans (Nat.le_of_ble_eq_true rfl) hF) (Nat.le_trans (Nat.le_of_ble_eq_true rfl) hLo) (Nat.zero_le _) (Nat.zero_le _) h_9 (cw_rest (Nat.le_of_ble_eq_true rfl)) dX1_comesTo_61 (fun H locs hR hS => ?_)
      refine lv_goto (tgt := 72) hx hb dX1_comesTo_64 (by decide) ?_
      exact hend dX1_comesTo_72 rfl rfl hf hR hS
  replace hf := ww_in hf c_4
  refine ww_lout (tgt := 67) [0, 1] hx hb dX1_comesTo_7 ⟨c_2, c_4, trivial⟩ (by decide) (by decide) (by decide) ?_
  refine cw_aload_n (x := x1) hx hb dX1_comesTo_67 rfl (lv_at hl 1 rfl) ?_
  refine lv_iload_n hx hb dX1_comesTo_68 rfl (lv_at hl 3 rfl) ?_
  obtain ⟨r_10, h_10, hq⟩ := ww_bS hf; replace hf := hq; clear hq
  refine c1c_1_valueIn (x0 := x1) X hl.1 hK hR hS (Nat.le_trans (Nat.le_of_ble_eq_true rfl) hF) (Nat.le_trans (Nat.le_of_ble_eq_true rfl) hLo) (Nat.zero_le _) (Nat.zero_le _) h_10 (cw_rest (Nat.le_of_ble_eq_true rfl)) dX1_comesTo_69 (fun H locs hR hS => ?_)
  exact hend dX1_comesTo_72 rfl rfl hf hR hS
section C_1_comesTo_c
variable {p : Program} {l : Launch} {e : Env} {R : Room} {s : State} {m : MethodId} {args : Array Value} {below : List Frame} {meth : Method} {c : Code} {H : Heap} {locs : List Loc} {cells slots : Nat} {Q : State → Prop}
variable {cc : ByteArray} {pc : Nat} {ls : Array Slot} {rest : List Value} {nL : Nat} {E : cw_E} {A : Nat → Prop} {H0 : Heap}
theorem c1c_1_comesTo {D : cw_D} {x0 : Option Nat} {x1 : Option Nat} {x2 : Option Nat} {x3 : Int32} {x4 : Int32} {r : Int32} (X : ww_C p m c cc nL s args RX1 lw_all) (hsz : ls.size = nL) (hK : cw_K E A s) (hR : cw_H E A D H) (hS : va_S A s.heap H locs) (hF : 15 ≤ R.frames) (hLo : 317 ≤ R.locals) (hc : cells ≤ R.cells) (hs : slots ≤ R.slots) (hf : f1_comesTo D x0 x1 x2 x3 x4 = some r) (hrest : (rest.map fun v => v.category).sum ≤ 8) (hdg : decode cc pc = .ok (.invokestatic 399, 3)) (kk : ∀ (H1 : Heap) (locs1 : List Loc), cw_H E A D H1 → va_S A s.heap H1 locs1 → W p l e R s m args below meth c H1 locs1 cells slots Q (F0 m (pc + 3) ls (.int r :: rest))) : W p l e R s m args below meth c H locs cells slots Q (F0 m pc ls (.int x4 :: .int x3 :: va_rf x2 :: va_rf x1 :: va_rf x0 :: rest)) :=
  c1k_1_comesTo X hsz hK hR hS hF hLo hc hs (met1_comesTo l _ _ _ _ _ _ _ hf) hrest hdg kk
end C_1_comesTo_c
noncomputable def f1_threeMany_b1c (D : cw_D) (y1 : Option Nat) (y2 : Option Nat) (y3 : Option Nat) (y4 : Int32) (x5 : Int32) (x6 : Int32) : Option ((Int32 × Int32) ⊕ (Int32)) :=
  if (999 : Int32) < x6 then ww_x (some x5) else ww_b (f1_comesTo D y1 y2 y3 x6 y4) (fun r_2 => if r_2 = (-1000000 : Int32) then some (.inl (x5, (x6 + (1 : Int32)))) else some (.inl ((x5 + (1 : Int32)), (x6 + (1 : Int32)))))
noncomputable def f1_threeMany_b1 (D : cw_D) (y1 : Option Nat) (y2 : Option Nat) (y3 : Option Nat) (y4 : Int32) : (Int32 × Int32) → Option ((Int32 × Int32) ⊕ (Int32)) := fun s9 => f1_threeMany_b1c D y1 y2 y3 y4 s9.1 s9.2
noncomputable def f1_threeMany (D : cw_D) (x1 : Option Nat) (x2 : Option Nat) (x3 : Option Nat) (x4 : Int32) : Option (Int32) :=
  ww_U (f1_threeMany_b1 D x1 x2 x3 x4) ((0 : Int32), (0 : Int32))
section C_1_threeMany_k
variable {p : Program} {l : Launch} {e : Env} {R : Room} {s : State} {m : MethodId} {args : Array Value} {below : List Frame} {meth : Method} {c : Code} {H : Heap} {locs : List Loc} {cells slots : Nat} {Q : State → Prop}
variable {cc : ByteArray} {pc : Nat} {ls : Array Slot} {rest : List Value} {nL : Nat} {E : cw_E} {A : Nat → Prop} {H0 : Heap}
theorem c1k_1_threeMany {D : cw_D} {x1 : Option Nat} {x2 : Option Nat} {x3 : Option Nat} {x4 : Int32} {r : Int32} (X : ww_C p m c cc nL s args RX1 lw_all) (hsz : ls.size = nL) (hK : cw_K E A s) (hR : cw_H E A D H) (hS : va_S A s.heap H locs) (hF : 16 ≤ R.frames) (hLo : 343 ≤ R.locals) (hc : cells ≤ R.cells) (hs : slots ≤ R.slots) (hM : cw_MetI l yX1_threeMany cX1_threeMany 7 (some Jvm.ClassFile.FieldType.int) 15 317 E A [.ref E.1.1, va_rf x1, va_rf x2, va_rf x3, .int x4] D D r 0 0) (hrest : (rest.map fun v => v.category).sum ≤ 8) (hdg : decode cc pc = .ok (.invokevirtual 403, 3)) (kk : ∀ (H1 : Heap) (locs1 : List Loc), cw_H E A D H1 → va_S A s.heap H1 locs1 → W p l e R s m args below meth c H1 locs1 cells slots Q (F0 m (pc + 3) ls (.int r :: rest))) : W p l e R s m args below meth c H locs cells slots Q (F0 m pc ls (.int x4 :: va_rf x3 :: va_rf x2 :: va_rf x1 :: .ref E.1.1 :: rest)) :=
  va_calli (va_runV (C := RX1) (As := [va_rf x1, va_rf x2, va_rf x3, .int x4]) (rest := rest) (b := E.1.1) X hM (cwV 4 X.2.2.2.2 (lw_V q1334 q1336 qs40 q131 q1337) rfl rfl rfl (by decide +kernel) ⟨hF, hLo⟩) (cw_pV hK hR hS (cw_rcM hK hR)) rfl rfl hsz rfl (lv_room hrest) hdg ⟨hc, hs⟩) hS (fun q _ h => h) (fun q h => h) (fun r' u t H1 locs1 ht hvm hw hB hz1 hk1 hS1 => by subst hw; rw [ht] at hB; exact kk H1 locs1 hB hS1)
end C_1_threeMany_k
set_option maxHeartbeats 4000000 in
set_option maxRecDepth 100000 in
theorem met1_threeMany (l : Launch) {E : cw_E} {A : Nat → Prop} (D : cw_D) (x1 : Option Nat) (x2 : Option Nat) (x3 : Option Nat) (x4 : Int32) (r : Int32) (hf : f1_threeMany D x1 x2 x3 x4 = some r) : cw_MetI l yX1_threeMany cX1_threeMany 7 (some Jvm.ClassFile.FieldType.int) 15 317 E A [.ref E.1.1, va_rf x1, va_rf x2, va_rf x3, .int x4] D D r 0 0 := by
  unfold f1_threeMany at hf
  refine cw_sIP (own := RX1) (by decide +kernel) [(0, .ref E.1.1), (1, va_rf x1), (2, va_rf x2), (3, va_rf x3), (4, .int x4)] ⟨by cases x1 <;> cases x2 <;> cases x3 <;> exact Nat.le_of_ble_eq_true rfl, by cases x1 <;> cases x2 <;> cases x3 <;> rfl⟩ ?_
  intro p e s m args below meth c Rm Q X hK hF hLo hin hend ls hl hR hS
  obtain ⟨hx, hb, hml, hown, hts⟩ := id X
  refine lv_iconst (v := (0 : Int32)) hx hb dX1_threeMany_0 (by decide) ?_
  refine lv_istore (lv' := [(5, .int (0 : Int32)), (0, .ref E.1.1), (1, va_rf x1), (2, va_rf x2), (3, va_rf x3), (4, .int x4)]) hx hb dX1_threeMany_1 hl (by decide) rfl (fun ls hl => ?_)
  refine lv_iconst (v := (0 : Int32)) hx hb dX1_threeMany_3 (by decide) ?_
  refine lv_istore (lv' := [(6, .int (0 : Int32)), (5, .int (0 : Int32)), (0, .ref E.1.1), (1, va_rf x1), (2, va_rf x2), (3, va_rf x3), (4, .int x4)]) hx hb dX1_threeMany_4 hl (by decide) rfl (fun ls hl => ?_)
  have hL_1 : ∀ s9 : Int32 × Int32, ww_U (f1_threeMany_b1 D x1 x2 x3 x4) s9 = some r → ∀ (H : Heap) (locs : List Loc) (ls : Array Slot), cw_H E A D H → va_S A s.heap H locs → lv_has ls 7 [(1, va_rf x1), (2, va_rf x2), (3, va_rf x3), (4, .int x4), (5, .int s9.1), (6, .int s9.2)] → W p l e Rm s m args below meth c H locs 0 0 Q (F0 m 6 ls []) := by
    clear hf
    refine ww_ind _ r ?_
    intro s9 z_1 hf hz_1
    obtain ⟨x5, x6⟩ := s9
    replace hf : f1_threeMany_b1c D x1 x2 x3 x4 x5 x6 = some z_1 := hf
    unfold f1_threeMany_b1c at hf
    try clear hl
    try clear hS
    try clear hR
    intro H locs ls hR hS hl
    replace hl : lv_has ls 7 [(1, va_rf x1), (2, va_rf x2), (3, va_rf x3), (4, .int x4), (5, .int x5), (6, .int x6)] := hl
    refine lv_iload hx hb dX1_threeMany_6 (lv_at hl 5 rfl) ?_
    refine lv_sipush (v := (999 : Int32)) hx hb dX1_threeMany_8 (by decide) ?_
    refine lv_icmp_gt (tgt := 38) hx hb dX1_threeMany_11 (by decide) (fun c_1 => ?_) (fun c_1 => ?_)
    · replace hf := ww_ip hf c_1
      replace hf := ww_xK hf hz_1
      refine lv_iload hx hb dX1_threeMany_38 (lv_at hl 4 rfl) ?_
      exact hend dX1_threeMany_40 rfl rfl hf hR hS
    · replace hf := ww_in hf c_1
      refine cw_aload_n (x := x1) hx hb dX1_threeMany_14 rfl (lv_at hl 0 rfl) ?_
      refine cw_aload_n (x := x2) hx hb dX1_threeMany_15 rfl (lv_at hl 1 rfl) ?_
      refine cw_aload_n (x := x3) hx hb dX1_threeMany_16 rfl (lv_at hl 2 rfl) ?_
      refine lv_iload hx hb dX1_threeMany_17 (lv_at hl 5 rfl) ?_
      refine lv_iload hx hb dX1_threeMany_19 (lv_at hl 3 rfl) ?_
      obtain ⟨r_2, h_2, hq⟩ := ww_bS hf; replace hf := hq; clear hq
      refine c1c_1_comesTo (x0 := x1) (x1 := x2) (x2 := x3) X hl.1 hK hR hS (Nat.le_trans (Nat.le_of_ble_eq_true rfl) hF) (Nat.le_trans (Nat.le_of_ble_eq_true rfl) hLo) (Nat.zero_le _) (Nat.zero_le _) h_2 (cw_rest (Nat.le_of_ble_eq_true rfl)) dX1_threeMany_21 (fun H locs hR hS => ?_)
      refine lv_ldc (v := (-1000000 : Int32)) hx hb hown (hts _ q420) dX1_threeMany_24 ?_
      refine lv_icmp_eq (tgt := 32) hx hb dX1_threeMany_26 (by decide) (fun c_3 => ?_) (fun c_3 => ?_)
      · replace hf := ww_ip hf c_3
        refine lv_iinc (k := 5) (v := x6 + (1 : Int32)) (lv' := [(6, .int (x6 + (1 : Int32))), (1, va_rf x1), (2, va_rf x2), (3, va_rf x3), (4, .int x4), (5, .int x5)]) hx hb dX1_threeMany_32 hl rfl rfl (by decide) rfl (fun ls hl => ?_)
        refine lv_goto (tgt := 6) hx hb dX1_threeMany_35 (by decide) ?_
        exact ww_lK hf hz_1 _ _ _ hR hS (lv_sub hl [1, 2, 3, 4, 5, 0] rfl)
      · replace hf := ww_in hf c_3
        refine lv_iinc (k := 4) (v := x5 + (1 : Int32)) (lv' := [(5, .int (x5 + (1 : Int32))), (1, va_rf x1), (2, va_rf x2), (3, va_rf x3), (4, .int x4), (6, .int x6)]) hx hb dX1_threeMany_29 hl rfl rfl (by decide) rfl (fun ls hl => ?_)
        refine lv_iinc (k := 5) (v := x6 + (1 : Int32)) (lv' := [(6, .int (x6 + (1 : Int32))), (5, .int (x5 + (1 : Int32))), (1, va_rf x1), (2, va_rf x2), (3, va_rf x3), (4, .int x4)]) hx hb dX1_threeMany_32 hl rfl rfl (by decide) rfl (fun ls hl => ?_)
        refine lv_goto (tgt := 6) hx hb dX1_threeMany_35 (by decide) ?_
        exact ww_lK hf hz_1 _ _ _ hR hS (lv_sub hl [2, 3, 4, 5, 1, 0] rfl)
  exact hL_1 ((0 : Int32), (0 : Int32)) hf _ _ _ hR hS (lv_sub hl [3, 4, 5, 6, 1, 0] rfl)
section C_1_threeMany_c
variable {p : Program} {l : Launch} {e : Env} {R : Room} {s : State} {m : MethodId} {args : Array Value} {below : List Frame} {meth : Method} {c : Code} {H : Heap} {locs : List Loc} {cells slots : Nat} {Q : State → Prop}
variable {cc : ByteArray} {pc : Nat} {ls : Array Slot} {rest : List Value} {nL : Nat} {E : cw_E} {A : Nat → Prop} {H0 : Heap}
theorem c1c_1_threeMany {D : cw_D} {x1 : Option Nat} {x2 : Option Nat} {x3 : Option Nat} {x4 : Int32} {r : Int32} (X : ww_C p m c cc nL s args RX1 lw_all) (hsz : ls.size = nL) (hK : cw_K E A s) (hR : cw_H E A D H) (hS : va_S A s.heap H locs) (hF : 16 ≤ R.frames) (hLo : 343 ≤ R.locals) (hc : cells ≤ R.cells) (hs : slots ≤ R.slots) (hf : f1_threeMany D x1 x2 x3 x4 = some r) (hrest : (rest.map fun v => v.category).sum ≤ 8) (hdg : decode cc pc = .ok (.invokevirtual 403, 3)) (kk : ∀ (H1 : Heap) (locs1 : List Loc), cw_H E A D H1 → va_S A s.heap H1 locs1 → W p l e R s m args below meth c H1 locs1 cells slots Q (F0 m (pc + 3) ls (.int r :: rest))) : W p l e R s m args below meth c H locs cells slots Q (F0 m pc ls (.int x4 :: va_rf x3 :: va_rf x2 :: va_rf x1 :: .ref E.1.1 :: rest)) :=
  c1k_1_threeMany X hsz hK hR hS hF hLo hc hs (met1_threeMany l _ _ _ _ _ _ hf) hrest hdg kk
end C_1_threeMany_c
noncomputable def f1_whyNotThree (D : cw_D) (x1 : Int32) (x2 : Int32) (x3 : Int32) (x4 : Int32) : Option (Int32) :=
  ww_b (f1_isMap D x1) (fun r_1 => if r_1 = 0 then some (0 : Int32) else ww_b (f1_isMap D x2) (fun r_3 => if r_3 = 0 then some (0 : Int32) else ww_b (f1_isMap D x3) (fun r_5 => if r_5 = 0 then some (0 : Int32) else ww_b (f1_in x4 (0 : Int32) (2 : Int32)) (fun r_7 => if r_7 = 0 then some (1 : Int32) else ww_b (f1_rootOf D x1) (fun r_9 => ww_b (f1_rootOf D x2) (fun r_10 => ww_b (f1_rootOf D x3) (fun r_11 => ww_b (f1_threeMany D r_9 r_10 r_11 x4) (fun r_12 => if r_12 ≤ (60 : Int32) then ww_b (f1_isRoom D) (fun r_14 => if r_14 = 0 then some (4 : Int32) else some (-1 : Int32)) else some (3 : Int32)))))))))
section C_1_whyNotThree_k
variable {p : Program} {l : Launch} {e : Env} {R : Room} {s : State} {m : MethodId} {args : Array Value} {below : List Frame} {meth : Method} {c : Code} {H : Heap} {locs : List Loc} {cells slots : Nat} {Q : State → Prop}
variable {cc : ByteArray} {pc : Nat} {ls : Array Slot} {rest : List Value} {nL : Nat} {E : cw_E} {A : Nat → Prop} {H0 : Heap}
theorem c1k_1_whyNotThree {D : cw_D} {x1 : Int32} {x2 : Int32} {x3 : Int32} {x4 : Int32} {r : Int32} (X : ww_C p m c cc nL s args RX1 lw_all) (hsz : ls.size = nL) (hK : cw_K E A s) (hR : cw_H E A D H) (hS : va_S A s.heap H locs) (hF : 17 ≤ R.frames) (hLo : 367 ≤ R.locals) (hc : cells ≤ R.cells) (hs : slots ≤ R.slots) (hM : cw_MetI l yX1_whyNotThree cX1_whyNotThree 5 (some Jvm.ClassFile.FieldType.int) 16 343 E A [.ref E.1.1, .int x1, .int x2, .int x3, .int x4] D D r 0 0) (hrest : (rest.map fun v => v.category).sum ≤ 8) (hdg : decode cc pc = .ok (.invokevirtual 406, 3)) (kk : ∀ (H1 : Heap) (locs1 : List Loc), cw_H E A D H1 → va_S A s.heap H1 locs1 → W p l e R s m args below meth c H1 locs1 cells slots Q (F0 m (pc + 3) ls (.int r :: rest))) : W p l e R s m args below meth c H locs cells slots Q (F0 m pc ls (.int x4 :: .int x3 :: .int x2 :: .int x1 :: .ref E.1.1 :: rest)) :=
  va_calli (va_runV (C := RX1) (As := [.int x1, .int x2, .int x3, .int x4]) (rest := rest) (b := E.1.1) X hM (cwV 4 X.2.2.2.2 (lw_V q1330 q1332 qs39 q131 q1333) rfl rfl rfl (by decide +kernel) ⟨hF, hLo⟩) (cw_pV hK hR hS (cw_rcM hK hR)) rfl rfl hsz rfl (lv_room hrest) hdg ⟨hc, hs⟩) hS (fun q _ h => h) (fun q h => h) (fun r' u t H1 locs1 ht hvm hw hB hz1 hk1 hS1 => by subst hw; rw [ht] at hB; exact kk H1 locs1 hB hS1)
end C_1_whyNotThree_k
set_option maxHeartbeats 4000000 in
set_option maxRecDepth 100000 in
theorem met1_whyNotThree (l : Launch) {E : cw_E} {A : Nat → Prop} (D : cw_D) (x1 : Int32) (x2 : Int32) (x3 : Int32) (x4 : Int32) (r : Int32) (hf : f1_whyNotThree D x1 x2 x3 x4 = some r) : cw_MetI l yX1_whyNotThree cX1_whyNotThree 5 (some Jvm.ClassFile.FieldType.int) 16 343 E A [.ref E.1.1, .int x1, .int x2, .int x3, .int x4] D D r 0 0 := by
  unfold f1_whyNotThree at hf
  refine cw_sIP (own := RX1) (by decide +kernel) [(0, .ref E.1.1), (1, .int x1), (2, .int x2), (3, .int x3), (4, .int x4)] ⟨Nat.le_of_ble_eq_true rfl, rfl⟩ ?_
  intro p e s m args below meth c Rm Q X hK hF hLo hin hend ls hl hR hS
  obtain ⟨hx, hb, hml, hown, hts⟩ := id X
  refine lv_aload_n hx hb dX1_whyNotThree_0 rfl (lv_at hl 0 rfl) ?_
  refine lv_iload_n hx hb dX1_whyNotThree_1 rfl (lv_at hl 1 rfl) ?_
  obtain ⟨r_1, h_1, hq⟩ := ww_bS hf; replace hf := hq; clear hq
  refine c1c_1_isMap X hl.1 hK hR hS (Nat.le_trans (Nat.le_of_ble_eq_true rfl) hF) (Nat.le_trans (Nat.le_of_ble_eq_true rfl) hLo) (Nat.zero_le _) (Nat.zero_le _) h_1 (cw_rest (Nat.le_of_ble_eq_true rfl)) dX1_whyNotThree_2 (fun H locs hR hS => ?_)
  refine lv_if_eq (tgt := 24) hx hb dX1_whyNotThree_5 (by decide) (fun c_2 => ?_) (fun c_2 => ?_)
  · replace hf := ww_ip hf c_2
    refine lv_iconst (v := (0 : Int32)) hx hb dX1_whyNotThree_24 (by decide) ?_
    exact hend dX1_whyNotThree_25 rfl rfl hf hR hS
  · replace hf := ww_in hf c_2
    refine lv_aload_n hx hb dX1_whyNotThree_8 rfl (lv_at hl 0 rfl) ?_
    refine lv_iload_n hx hb dX1_whyNotThree_9 rfl (lv_at hl 2 rfl) ?_
    obtain ⟨r_3, h_3, hq⟩ := ww_bS hf; replace hf := hq; clear hq
    refine c1c_1_isMap X hl.1 hK hR hS (Nat.le_trans (Nat.le_of_ble_eq_true rfl) hF) (Nat.le_trans (Nat.le_of_ble_eq_true rfl) hLo) (Nat.zero_le _) (Nat.zero_le _) h_3 (cw_rest (Nat.le_of_ble_eq_true rfl)) dX1_whyNotThree_10 (fun H locs hR hS => ?_)
    refine lv_if_eq (tgt := 24) hx hb dX1_whyNotThree_13 (by decide) (fun c_4 => ?_) (fun c_4 => ?_)
    · replace hf := ww_ip hf c_4
      refine lv_iconst (v := (0 : Int32)) hx hb dX1_whyNotThree_24 (by decide) ?_
      exact hend dX1_whyNotThree_25 rfl rfl hf hR hS
    · replace hf := ww_in hf c_4
      refine lv_aload_n hx hb dX1_whyNotThree_16 rfl (lv_at hl 0 rfl) ?_
      refine lv_iload_n hx hb dX1_whyNotThree_17 rfl (lv_at hl 3 rfl) ?_
      obtain ⟨r_5, h_5, hq⟩ := ww_bS hf; replace hf := hq; clear hq
      refine c1c_1_isMap X hl.1 hK hR hS (Nat.le_trans (Nat.le_of_ble_eq_true rfl) hF) (Nat.le_trans (Nat.le_of_ble_eq_true rfl) hLo) (Nat.zero_le _) (Nat.zero_le _) h_5 (cw_rest (Nat.le_of_ble_eq_true rfl)) dX1_whyNotThree_18 (fun H locs hR hS => ?_)
      refine lv_if_ne (tgt := 26) hx hb dX1_whyNotThree_21 (by decide) (fun c_6 => ?_) (fun c_6 => ?_)
      · replace hf := ww_in hf c_6
        refine lv_iload hx hb dX1_whyNotThree_26 (lv_at hl 4 rfl) ?_
        refine lv_iconst (v := (0 : Int32)) hx hb dX1_whyNotThree_28 (by decide) ?_
        refine lv_iconst (v := (2 : Int32)) hx hb dX1_whyNotThree_29 (by decide) ?_
        obtain ⟨r_7, h_7, hq⟩ := ww_bS hf; replace hf := hq; clear hq
        refine c1c_1_in X hl.1 (Nat.le_trans (Nat.le_of_ble_eq_true rfl) hF) (Nat.le_trans (Nat.le_of_ble_eq_true rfl) hLo) (Nat.zero_le _) (Nat.zero_le _) h_7 (cw_rest (Nat.le_of_ble_eq_true rfl)) dX1_whyNotThree_30 ?_
        refine lv_if_ne (tgt := 38) hx hb dX1_whyNotThree_33 (by decide) (fun c_8 => ?_) (fun c_8 => ?_)
        · replace hf := ww_in hf c_8
          refine lv_aload_n hx hb dX1_whyNotThree_38 rfl (lv_at hl 0 rfl) ?_
          refine lv_aload_n hx hb dX1_whyNotThree_39 rfl (lv_at hl 0 rfl) ?_
          refine lv_iload_n hx hb dX1_whyNotThree_40 rfl (lv_at hl 1 rfl) ?_
          obtain ⟨r_9, h_9, hq⟩ := ww_bS hf; replace hf := hq; clear hq
          refine c1c_1_rootOf X hl.1 hK hR hS (Nat.le_trans (Nat.le_of_ble_eq_true rfl) hF) (Nat.le_trans (Nat.le_of_ble_eq_true rfl) hLo) (Nat.zero_le _) (Nat.zero_le _) h_9 (cw_rest (Nat.le_of_ble_eq_true rfl)) dX1_whyNotThree_41 (fun H locs hR hS => ?_)
          refine lv_aload_n hx hb dX1_whyNotThree_44 rfl (lv_at hl 0 rfl) ?_
          refine lv_iload_n hx hb dX1_whyNotThree_45 rfl (lv_at hl 2 rfl) ?_
          obtain ⟨r_10, h_10, hq⟩ := ww_bS hf; replace hf := hq; clear hq
          refine c1c_1_rootOf X hl.1 hK hR hS (Nat.le_trans (Nat.le_of_ble_eq_true rfl) hF) (Nat.le_trans (Nat.le_of_ble_eq_true rfl) hLo) (Nat.zero_le _) (Nat.zero_le _) h_10 (cw_rest (Nat.le_of_ble_eq_true rfl)) dX1_whyNotThree_46 (fun H locs hR hS => ?_)
          refine lv_aload_n hx hb dX1_whyNotThree_49 rfl (lv_at hl 0 rfl) ?_
          refine lv_iload_n hx hb dX1_whyNotThree_50 rfl (lv_at hl 3 rfl) ?_
          obtain ⟨r_11, h_11, hq⟩ := ww_bS hf; replace hf := hq; clear hq
          refine c1c_1_rootOf X hl.1 hK hR hS (Nat.le_trans (Nat.le_of_ble_eq_true rfl) hF) (Nat.le_trans (Nat.le_of_ble_eq_true rfl) hLo) (Nat.zero_le _) (Nat.zero_le _) h_11 (cw_rest (Nat.le_of_ble_eq_true rfl)) dX1_whyNotThree_51 (fun H locs hR hS => ?_)
          refine lv_iload hx hb dX1_whyNotThree_54 (lv_at hl 4 rfl) ?_
          obtain ⟨r_12, h_12, hq⟩ := ww_bS hf; replace hf := hq; clear hq
          refine c1c_1_threeMany (x1 := r_9) (x2 := r_10) (x3 := r_11) X hl.1 hK hR hS (Nat.le_trans (Nat.le_of_ble_eq_true rfl) hF) (Nat.le_trans (Nat.le_of_ble_eq_true rfl) hLo) (Nat.zero_le _) (Nat.zero_le _) h_12 (cw_rest (Nat.le_of_ble_eq_true rfl)) dX1_whyNotThree_56 (fun H locs hR hS => ?_)
          refine lv_bipush (v := (60 : Int32)) hx hb dX1_whyNotThree_59 (by decide) ?_
          refine lv_icmp_le (tgt := 68) hx hb dX1_whyNotThree_61 (by decide) (fun c_13 => ?_) (fun c_13 => ?_)
          · replace hf := ww_ip hf c_13
            refine lv_aload_n hx hb dX1_whyNotThree_68 rfl (lv_at hl 0 rfl) ?_
            obtain ⟨r_14, h_14, hq⟩ := ww_bS hf; replace hf := hq; clear hq
            refine c1c_1_isRoom X hl.1 hK hR hS (Nat.le_trans (Nat.le_of_ble_eq_true rfl) hF) (Nat.le_trans (Nat.le_of_ble_eq_true rfl) hLo) (Nat.zero_le _) (Nat.zero_le _) h_14 (cw_rest (Nat.le_of_ble_eq_true rfl)) dX1_whyNotThree_69 (fun H locs hR hS => ?_)
            refine lv_if_eq (tgt := 79) hx hb dX1_whyNotThree_72 (by decide) (fun c_15 => ?_) (fun c_15 => ?_)
            · replace hf := ww_ip hf c_15
              refine lv_iconst (v := (4 : Int32)) hx hb dX1_whyNotThree_79 (by decide) ?_
              exact hend dX1_whyNotThree_80 rfl rfl hf hR hS
            · replace hf := ww_in hf c_15
              refine lv_iconst (v := (-1 : Int32)) hx hb dX1_whyNotThree_75 (by decide) ?_
              refine lv_goto (tgt := 80) hx hb dX1_whyNotThree_76 (by decide) ?_
              exact hend dX1_whyNotThree_80 rfl rfl hf hR hS
          · replace hf := ww_in hf c_13
            refine lv_iconst (v := (3 : Int32)) hx hb dX1_whyNotThree_64 (by decide) ?_
            refine lv_goto (tgt := 80) hx hb dX1_whyNotThree_65 (by decide) ?_
            exact hend dX1_whyNotThree_80 rfl rfl hf hR hS
        · replace hf := ww_ip hf c_8
          refine lv_iconst (v := (1 : Int32)) hx hb dX1_whyNotThree_36 (by decide) ?_
          exact hend dX1_whyNotThree_37 rfl rfl hf hR hS
      · replace hf := ww_ip hf c_6
        refine lv_iconst (v := (0 : Int32)) hx hb dX1_whyNotThree_24 (by decide) ?_
        exact hend dX1_whyNotThree_25 rfl rfl hf hR hS
section C_1_whyNotThree_c
variable {p : Program} {l : Launch} {e : Env} {R : Room} {s : State} {m : MethodId} {args : Array Value} {below : List Frame} {meth : Method} {c : Code} {H : Heap} {locs : List Loc} {cells slots : Nat} {Q : State → Prop}
variable {cc : ByteArray} {pc : Nat} {ls : Array Slot} {rest : List Value} {nL : Nat} {E : cw_E} {A : Nat → Prop} {H0 : Heap}
theorem c1c_1_whyNotThree {D : cw_D} {x1 : Int32} {x2 : Int32} {x3 : Int32} {x4 : Int32} {r : Int32} (X : ww_C p m c cc nL s args RX1 lw_all) (hsz : ls.size = nL) (hK : cw_K E A s) (hR : cw_H E A D H) (hS : va_S A s.heap H locs) (hF : 17 ≤ R.frames) (hLo : 367 ≤ R.locals) (hc : cells ≤ R.cells) (hs : slots ≤ R.slots) (hf : f1_whyNotThree D x1 x2 x3 x4 = some r) (hrest : (rest.map fun v => v.category).sum ≤ 8) (hdg : decode cc pc = .ok (.invokevirtual 406, 3)) (kk : ∀ (H1 : Heap) (locs1 : List Loc), cw_H E A D H1 → va_S A s.heap H1 locs1 → W p l e R s m args below meth c H1 locs1 cells slots Q (F0 m (pc + 3) ls (.int r :: rest))) : W p l e R s m args below meth c H locs cells slots Q (F0 m pc ls (.int x4 :: .int x3 :: .int x2 :: .int x1 :: .ref E.1.1 :: rest)) :=
  c1k_1_whyNotThree X hsz hK hR hS hF hLo hc hs (met1_whyNotThree l _ _ _ _ _ _ hf) hrest hdg kk
end C_1_whyNotThree_c
noncomputable def f1_becomes (D : cw_D) (x1 : Int32) (x2 : Int32) : Option (cw_D × Nat × Nat) :=
  if x2 = (-1000000 : Int32) then ww_b3 (f1_takeNow D x1) (fun D_3 c_3 k_3 => some (D_3, (0 + c_3), (0 + k_3))) else ww_b3 (f1_layNow D x1 x2) (fun D_2 c_2 k_2 => some (D_2, (0 + c_2), (0 + k_2)))
section C_1_becomes_k
variable {p : Program} {l : Launch} {e : Env} {R : Room} {s : State} {m : MethodId} {args : Array Value} {below : List Frame} {meth : Method} {c : Code} {H : Heap} {locs : List Loc} {cells slots : Nat} {Q : State → Prop}
variable {cc : ByteArray} {pc : Nat} {ls : Array Slot} {rest : List Value} {nL : Nat} {E : cw_E} {A : Nat → Prop} {H0 : Heap}
theorem c1k_1_becomes {D : cw_D} {x1 : Int32} {x2 : Int32} {D' : cw_D} {nc ns : Nat} (X : ww_C p m c cc nL s args RX1 lw_all) (hsz : ls.size = nL) (hK : cw_K E A s) (hR : cw_H E A D H) (hS : va_S A s.heap H locs) (hF : 24 ≤ R.frames) (hLo : 525 ≤ R.locals) (hc : cells + nc ≤ R.cells) (hs : slots + ns ≤ R.slots) (hM : cw_MetV l yX1_becomes cX1_becomes 3 23 503 E A [.ref E.1.1, .int x1, .int x2] D D' nc ns) (hrest : (rest.map fun v => v.category).sum ≤ 8) (hdg : decode cc pc = .ok (.invokevirtual 410, 3)) (kk : ∀ (H1 : Heap) (locs1 : List Loc), cw_H E A D' H1 → va_S A s.heap H1 locs1 → W p l e R s m args below meth c H1 locs1 (cells + nc) (slots + ns) Q (F0 m (pc + 3) ls (rest))) : W p l e R s m args below meth c H locs cells slots Q (F0 m pc ls (.int x2 :: .int x1 :: .ref E.1.1 :: rest)) :=
  va_callv (va_runV (C := RX1) (As := [.int x1, .int x2]) (rest := rest) (b := E.1.1) X hM (cwV 2 X.2.2.2.2 (lw_V q1344 q1346 qs41 q131 q1347) rfl rfl rfl (by decide +kernel) ⟨hF, hLo⟩) (cw_pV hK hR hS (cw_rcM hK hR)) rfl rfl hsz rfl (lv_room hrest) hdg ⟨hc, hs⟩) hS (fun q _ h => h) (fun q h => h) (fun u t H1 locs1 ht hvm hw hB hz1 hk1 hS1 => by rw [ht] at hB; exact kk H1 locs1 hB hS1)
end C_1_becomes_k
set_option maxHeartbeats 4000000 in
set_option maxRecDepth 100000 in
theorem met1_becomes (l : Launch) {E : cw_E} {A : Nat → Prop} (D : cw_D) (x1 : Int32) (x2 : Int32) (D' : cw_D) (nc ns : Nat) (hf : f1_becomes D x1 x2 = some (D', nc, ns)) : cw_MetV l yX1_becomes cX1_becomes 3 23 503 E A [.ref E.1.1, .int x1, .int x2] D D' nc ns := by
  unfold f1_becomes at hf
  refine cw_sVN (own := RX1) (by decide +kernel) [(0, .ref E.1.1), (1, .int x1), (2, .int x2)] ⟨Nat.le_of_ble_eq_true rfl, rfl⟩ ?_
  intro p e s m args below meth c Rm Q X hK hF hLo hC hin hend ls hl hR hS
  obtain ⟨hx, hb, hml, hown, hts⟩ := id X
  have hm9 : 0 ≤ nc ∧ 0 ≤ ns := ⟨Nat.zero_le _, Nat.zero_le _⟩
  refine lv_iload_n hx hb dX1_becomes_0 rfl (lv_at hl 2 rfl) ?_
  refine lv_ldc (v := (-1000000 : Int32)) hx hb hown (hts _ q420) dX1_becomes_1 ?_
  refine lv_icmp_ne (tgt := 14) hx hb dX1_becomes_3 (by decide) (fun c_1 => ?_) (fun c_1 => ?_)
  · replace hf := ww_in hf c_1
    refine lv_aload_n hx hb dX1_becomes_14 rfl (lv_at hl 0 rfl) ?_
    refine lv_iload_n hx hb dX1_becomes_15 rfl (lv_at hl 1 rfl) ?_
    refine lv_iload_n hx hb dX1_becomes_16 rfl (lv_at hl 2 rfl) ?_
    obtain ⟨D_2, c_2, k_2, h_2, hq⟩ := ww_b3S hf; replace hf := hq; clear hq
    have hm9 : (0 + c_2) ≤ nc ∧ (0 + k_2) ≤ ns := by
      have e9 := hf
      simp only [Option.some.injEq, Prod.mk.injEq] at e9
      omega
    refine c1c_1_layNow X hl.1 hK hR hS (Nat.le_trans (Nat.le_of_ble_eq_true rfl) hF) (Nat.le_trans (Nat.le_of_ble_eq_true rfl) hLo) (Nat.le_trans hm9.1 hC.1) (Nat.le_trans hm9.2 hC.2) h_2 (cw_rest (Nat.le_of_ble_eq_true rfl)) dX1_becomes_17 (fun H locs hR hS => ?_)
    exact hend dX1_becomes_20 hf hR hS
  · replace hf := ww_ip hf c_1
    refine lv_aload_n hx hb dX1_becomes_6 rfl (lv_at hl 0 rfl) ?_
    refine lv_iload_n hx hb dX1_becomes_7 rfl (lv_at hl 1 rfl) ?_
    obtain ⟨D_3, c_3, k_3, h_3, hq⟩ := ww_b3S hf; replace hf := hq; clear hq
    have hm9 : (0 + c_3) ≤ nc ∧ (0 + k_3) ≤ ns := by
      have e9 := hf
      simp only [Option.some.injEq, Prod.mk.injEq] at e9
      omega
    refine c1c_1_takeNow X hl.1 hK hR hS (Nat.le_trans (Nat.le_of_ble_eq_true rfl) hF) (Nat.le_trans (Nat.le_of_ble_eq_true rfl) hLo) (Nat.le_trans hm9.1 hC.1) (Nat.le_trans hm9.2 hC.2) h_3 (cw_rest (Nat.le_of_ble_eq_true rfl)) dX1_becomes_8 (fun H locs hR hS => ?_)
    refine lv_goto (tgt := 20) hx hb dX1_becomes_11 (by decide) ?_
    exact hend dX1_becomes_20 hf hR hS
section C_1_becomes_c
variable {p : Program} {l : Launch} {e : Env} {R : Room} {s : State} {m : MethodId} {args : Array Value} {below : List Frame} {meth : Method} {c : Code} {H : Heap} {locs : List Loc} {cells slots : Nat} {Q : State → Prop}
variable {cc : ByteArray} {pc : Nat} {ls : Array Slot} {rest : List Value} {nL : Nat} {E : cw_E} {A : Nat → Prop} {H0 : Heap}
theorem c1c_1_becomes {D : cw_D} {x1 : Int32} {x2 : Int32} {D' : cw_D} {nc ns : Nat} (X : ww_C p m c cc nL s args RX1 lw_all) (hsz : ls.size = nL) (hK : cw_K E A s) (hR : cw_H E A D H) (hS : va_S A s.heap H locs) (hF : 24 ≤ R.frames) (hLo : 525 ≤ R.locals) (hc : cells + nc ≤ R.cells) (hs : slots + ns ≤ R.slots) (hf : f1_becomes D x1 x2 = some (D', nc, ns)) (hrest : (rest.map fun v => v.category).sum ≤ 8) (hdg : decode cc pc = .ok (.invokevirtual 410, 3)) (kk : ∀ (H1 : Heap) (locs1 : List Loc), cw_H E A D' H1 → va_S A s.heap H1 locs1 → W p l e R s m args below meth c H1 locs1 (cells + nc) (slots + ns) Q (F0 m (pc + 3) ls (rest))) : W p l e R s m args below meth c H locs cells slots Q (F0 m pc ls (.int x2 :: .int x1 :: .ref E.1.1 :: rest)) :=
  c1k_1_becomes X hsz hK hR hS hF hLo hc hs (met1_becomes l _ _ _ _ _ _ hf) hrest hdg kk
end C_1_becomes_c
noncomputable def f1_three_j1 (D : cw_D) (cf : Nat) (kf : Nat) (y1 : Int32) (y2 : Int32) (y3 : Int32) (y4 : Int32) (y5 : Option Nat) (y6 : Int32) : Option ((cw_D × Nat × Nat × Int32) ⊕ (Int32 × cw_D × Nat × Nat)) :=
  ww_b (f1_rootOf D y1) (fun r_14 => ww_b (f1_rootOf D y3) (fun r_15 => ww_b (f1_comesTo D r_14 y5 r_15 y6 y4) (fun r_16 => ww_b3 (f1_becomes D y6 r_16) (fun D_17 c_17 k_17 => some (.inl (D_17, (cf + c_17), (kf + k_17), (y6 + (1 : Int32))))))))
noncomputable def f1_three_b1c (y1 : Int32) (y2 : Int32) (y3 : Int32) (y4 : Int32) (y5 : Option Nat) (D_7 : cw_D) (c_1b : Nat) (k_1b : Nat) (x6 : Int32) : Option ((cw_D × Nat × Nat × Int32) ⊕ (Int32 × cw_D × Nat × Nat)) :=
  if (999 : Int32) < x6 then ww_x (ww_b (some (ww_R D_7.1 27)) (fun r_9 => ww_b2 (f1_holds D_7 r_9 y2 y3) (fun r_10 D_10 => some (r_10, D_10, c_1b, k_1b)))) else ww_b (f1_rootOf D_7 y1) (fun r_11 => ww_b (f1_rootOf D_7 y3) (fun r_12 => ww_b (f1_threeAt D_7 r_11 y5 r_12 x6) (fun r_13 => if r_13 = 0 then f1_three_j1 D_7 c_1b k_1b y1 y2 y3 y4 y5 x6 else if r_13 = (1 : Int32) then if y4 ≤ 0 then some (.inl (D_7, c_1b, k_1b, (x6 + (1 : Int32)))) else f1_three_j1 D_7 c_1b k_1b y1 y2 y3 y4 y5 x6 else some (.inl (D_7, c_1b, k_1b, (x6 + (1 : Int32)))))))
noncomputable def f1_three_b1 (y1 : Int32) (y2 : Int32) (y3 : Int32) (y4 : Int32) (y5 : Option Nat) : (cw_D × Nat × Nat × Int32) → Option ((cw_D × Nat × Nat × Int32) ⊕ (Int32 × cw_D × Nat × Nat)) := fun s9 => f1_three_b1c y1 y2 y3 y4 y5 s9.1 s9.2.1 s9.2.2.1 s9.2.2.2
noncomputable def f1_three (D : cw_D) (x1 : Int32) (x2 : Int32) (x3 : Int32) (x4 : Int32) : Option (Int32 × cw_D × Nat × Nat) :=
  ww_b (f1_whyNotThree D x1 x2 x3 x4) (fun r_1 => ww_b2 (f1_isRefused D r_1) (fun r_2 D_2 => if r_2 = 0 then ww_b (f1_rootOf D_2 x2) (fun r_4 => ww_b (f4_init (cw_nO D_2 0) D_2.2.2 (ww_R (cw_nO D_2 0).1 99)) (fun D_5 => ww_b3 (f1_work D_5 r_4 (some D_2.2.2)) (fun D_6 c_6 k_6 => ww_U (f1_three_b1 x1 x2 x3 x4 r_4) (D_6, ((0 + 1) + c_6), ((0 + 1) + k_6), (0 : Int32))))) else some ((-1 : Int32), D_2, 0, 0)))
set_option maxHeartbeats 4000000 in
set_option maxRecDepth 100000 in
theorem met1_three (l : Launch) {E : cw_E} {A : Nat → Prop} (D : cw_D) (x1 : Int32) (x2 : Int32) (x3 : Int32) (x4 : Int32) (r : Int32) (D' : cw_D) (nc ns : Nat) (hf : f1_three D x1 x2 x3 x4 = some (r, D', nc, ns)) : cw_MetI l yX1_three cX1_three 8 (some Jvm.ClassFile.FieldType.int) 24 525 E A [.ref E.1.1, .int x1, .int x2, .int x3, .int x4] D D' r nc ns := by
  unfold f1_three at hf
  refine cw_sIN (own := RX1) (by decide +kernel) [(0, .ref E.1.1), (1, .int x1), (2, .int x2), (3, .int x3), (4, .int x4)] ⟨Nat.le_of_ble_eq_true rfl, rfl⟩ ?_
  intro p e s m args below meth c Rm Q X hK hF hLo hC hin hend ls hl hR hS
  obtain ⟨hx, hb, hml, hown, hts⟩ := id X
  have hm9 : 0 ≤ nc ∧ 0 ≤ ns := ⟨Nat.zero_le _, Nat.zero_le _⟩
  refine lv_aload_n hx hb dX1_three_0 rfl (lv_at hl 0 rfl) ?_
  refine lv_aload_n hx hb dX1_three_1 rfl (lv_at hl 0 rfl) ?_
  refine lv_iload_n hx hb dX1_three_2 rfl (lv_at hl 1 rfl) ?_
  refine lv_iload_n hx hb dX1_three_3 rfl (lv_at hl 2 rfl) ?_
  refine lv_iload_n hx hb dX1_three_4 rfl (lv_at hl 3 rfl) ?_
  refine lv_iload hx hb dX1_three_5 (lv_at hl 4 rfl) ?_
  obtain ⟨r_1, h_1, hq⟩ := ww_bS hf; replace hf := hq; clear hq
  refine c1c_1_whyNotThree X hl.1 hK hR hS (Nat.le_trans (Nat.le_of_ble_eq_true rfl) hF) (Nat.le_trans (Nat.le_of_ble_eq_true rfl) hLo) (Nat.le_trans hm9.1 hC.1) (Nat.le_trans hm9.2 hC.2) h_1 (cw_rest (Nat.le_of_ble_eq_true rfl)) dX1_three_7 (fun H locs hR hS => ?_)
  obtain ⟨r_2, D_2, h_2, hq⟩ := ww_b2S hf; replace hf := hq; clear hq
  refine c1c_1_isRefused X hl.1 hK hR hS (Nat.le_trans (Nat.le_of_ble_eq_true rfl) hF) (Nat.le_trans (Nat.le_of_ble_eq_true rfl) hLo) (Nat.le_trans hm9.1 hC.1) (Nat.le_trans hm9.2 hC.2) h_2 (cw_rest (Nat.le_of_ble_eq_true rfl)) dX1_three_10 (fun H locs hR hS => ?_)
  refine lv_if_eq (tgt := 18) hx hb dX1_three_13 (by decide) (fun c_3 => ?_) (fun c_3 => ?_)
  · replace hf := ww_ip hf c_3
    refine lv_aload_n hx hb dX1_three_18 rfl (lv_at hl 0 rfl) ?_
    refine lv_iload_n hx hb dX1_three_19 rfl (lv_at hl 2 rfl) ?_
    obtain ⟨r_4, h_4, hq⟩ := ww_bS hf; replace hf := hq; clear hq
    refine c1c_1_rootOf X hl.1 hK hR hS (Nat.le_trans (Nat.le_of_ble_eq_true rfl) hF) (Nat.le_trans (Nat.le_of_ble_eq_true rfl) hLo) (Nat.le_trans hm9.1 hC.1) (Nat.le_trans hm9.2 hC.2) h_4 (cw_rest (Nat.le_of_ble_eq_true rfl)) dX1_three_20 (fun H locs hR hS => ?_)
    refine cw_astore (x := r_4) (lv' := [(5, va_rf r_4), (0, .ref E.1.1), (1, .int x1), (2, .int x2), (3, .int x3), (4, .int x4)]) hx hb dX1_three_23 hl (by decide) rfl (fun ls hl => ?_)
    refine lv_aload_n hx hb dX1_three_25 rfl (lv_at hl 1 rfl) ?_
    refine cw_aload (x := r_4) hx hb dX1_three_26 (lv_at hl 0 rfl) ?_
    have hm9 : (0 + 1) ≤ nc ∧ (0 + 1) ≤ ns := by
      obtain ⟨D_5, h_5, hq⟩ := ww_bS hf; replace hf := hq; clear hq
      obtain ⟨D_6, c_6, k_6, h_6, hq⟩ := ww_b3S hf; replace hf := hq; clear hq
      have hL_1 : ∀ s9 : cw_D × Nat × Nat × Int32, ww_U (f1_three_b1 x1 x2 x3 x4 r_4) s9 = some (r, D', nc, ns) → s9.2.1 ≤ nc ∧ s9.2.2.1 ≤ ns := by
        clear hf
        refine ww_ind _ (r, D', nc, ns) ?_
        intro s9 z_1 hf hz_1
        obtain ⟨D_7, c_1b, k_1b, x6⟩ := s9
        replace hf : f1_three_b1c x1 x2 x3 x4 r_4 D_7 c_1b k_1b x6 = some z_1 := hf
        unfold f1_three_b1c at hf
        show c_1b ≤ nc ∧ k_1b ≤ ns
        refine ww_by ((999 : Int32) < x6) (fun c_8 => ?_) (fun c_8 => ?_)
        · replace hf := ww_ip hf c_8
          replace hf := ww_xK hf hz_1
          obtain ⟨r_9, h_9, hq⟩ := ww_bS hf; replace hf := hq; clear hq
          obtain ⟨r_10, D_10, h_10, hq⟩ := ww_b2S hf; replace hf := hq; clear hq
          have e9 := hf
          simp only [Option.some.injEq, Prod.mk.injEq] at e9
          omega
        · replace hf := ww_in hf c_8
          obtain ⟨r_11, h_11, hq⟩ := ww_bS hf; replace hf := hq; clear hq
          obtain ⟨r_12, h_12, hq⟩ := ww_bS hf; replace hf := hq; clear hq
          obtain ⟨r_13, h_13, hq⟩ := ww_bS hf; replace hf := hq; clear hq
          have hj_1 : f1_three_j1 D_7 c_1b k_1b x1 x2 x3 x4 r_4 x6 = some z_1 → c_1b ≤ nc ∧ k_1b ≤ ns := by
            clear hf
            intro  hf
            unfold f1_three_j1 at hf
            obtain ⟨r_14, h_14, hq⟩ := ww_bS hf; replace hf := hq; clear hq
            obtain ⟨r_15, h_15, hq⟩ := ww_bS hf; replace hf := hq; clear hq
            obtain ⟨r_16, h_16, hq⟩ := ww_bS hf; replace hf := hq; clear hq
            obtain ⟨D_17, c_17, k_17, h_17, hq⟩ := ww_b3S hf; replace hf := hq; clear hq
            have e9 := ww_lK hf hz_1
            try dsimp only at e9
            omega
          refine ww_by (r_13 = 0) (fun c_18 => ?_) (fun c_18 => ?_)
          · replace hf := ww_ip hf c_18
            have e9 := hj_1 hf
            omega
          · replace hf := ww_in hf c_18
            refine ww_by (r_13 = (1 : Int32)) (fun c_19 => ?_) (fun c_19 => ?_)
            · replace hf := ww_ip hf c_19
              refine ww_by (x4 ≤ 0) (fun c_20 => ?_) (fun c_20 => ?_)
              · replace hf := ww_ip hf c_20
                have e9 := ww_lK hf hz_1
                try dsimp only at e9
                omega
              · replace hf := ww_in hf c_20
                have e9 := hj_1 hf
                omega
            · replace hf := ww_in hf c_19
              have e9 := ww_lK hf hz_1
              try dsimp only at e9
              omega
      have e9 := hL_1 (D_6, ((0 + 1) + c_6), ((0 + 1) + k_6), (0 : Int32)) hf
      try dsimp only at e9
      omega
    refine cw_onew (ci := 0) (C := RX4) (T := TX4) (N := 1) rfl (by decide) in_X4 tyX4 tyX4_ok rfl X hK hR hS q234 q817 q151 (Nat.le_trans hm9.1 hC.1) (Nat.le_trans hm9.2 hC.2) dX1_three_28 (fun H hR hS => ?_)
    refine lv_dup hx hb dX1_three_31 rfl ?_
    refine lv_aload_n hx hb dX1_three_32 rfl (lv_at hl 1 rfl) ?_
    obtain ⟨D_5, h_5, hq⟩ := ww_bS hf; replace hf := hq; clear hq
    rw [show ww_R (cw_nO D_2 0).1 99 = some E.1.1 from cw_this hK hR] at h_5
    refine c1c_4_init (x1 := (some E.1.1)) X hl.1 hK hR hS (Nat.le_trans (Nat.le_of_ble_eq_true rfl) hF) (Nat.le_trans (Nat.le_of_ble_eq_true rfl) hLo) (Nat.le_trans hm9.1 hC.1) (Nat.le_trans hm9.2 hC.2) h_5 (cw_rest (Nat.le_of_ble_eq_true rfl)) dX1_three_33 (fun H locs hR hS => ?_)
    obtain ⟨D_6, c_6, k_6, h_6, hq⟩ := ww_b3S hf; replace hf := hq; clear hq
    have hm9 : ((0 + 1) + c_6) ≤ nc ∧ ((0 + 1) + k_6) ≤ ns := by
      have hL_1 : ∀ s9 : cw_D × Nat × Nat × Int32, ww_U (f1_three_b1 x1 x2 x3 x4 r_4) s9 = some (r, D', nc, ns) → s9.2.1 ≤ nc ∧ s9.2.2.1 ≤ ns := by
        clear hf
        refine ww_ind _ (r, D', nc, ns) ?_
        intro s9 z_1 hf hz_1
        obtain ⟨D_7, c_1b, k_1b, x6⟩ := s9
        replace hf : f1_three_b1c x1 x2 x3 x4 r_4 D_7 c_1b k_1b x6 = some z_1 := hf
        unfold f1_three_b1c at hf
        show c_1b ≤ nc ∧ k_1b ≤ ns
        refine ww_by ((999 : Int32) < x6) (fun c_8 => ?_) (fun c_8 => ?_)
        · replace hf := ww_ip hf c_8
          replace hf := ww_xK hf hz_1
          obtain ⟨r_9, h_9, hq⟩ := ww_bS hf; replace hf := hq; clear hq
          obtain ⟨r_10, D_10, h_10, hq⟩ := ww_b2S hf; replace hf := hq; clear hq
          have e9 := hf
          simp only [Option.some.injEq, Prod.mk.injEq] at e9
          omega
        · replace hf := ww_in hf c_8
          obtain ⟨r_11, h_11, hq⟩ := ww_bS hf; replace hf := hq; clear hq
          obtain ⟨r_12, h_12, hq⟩ := ww_bS hf; replace hf := hq; clear hq
          obtain ⟨r_13, h_13, hq⟩ := ww_bS hf; replace hf := hq; clear hq
          have hj_1 : f1_three_j1 D_7 c_1b k_1b x1 x2 x3 x4 r_4 x6 = some z_1 → c_1b ≤ nc ∧ k_1b ≤ ns := by
            clear hf
            intro  hf
            unfold f1_three_j1 at hf
            obtain ⟨r_14, h_14, hq⟩ := ww_bS hf; replace hf := hq; clear hq
            obtain ⟨r_15, h_15, hq⟩ := ww_bS hf; replace hf := hq; clear hq
            obtain ⟨r_16, h_16, hq⟩ := ww_bS hf; replace hf := hq; clear hq
            obtain ⟨D_17, c_17, k_17, h_17, hq⟩ := ww_b3S hf; replace hf := hq; clear hq
            have e9 := ww_lK hf hz_1
            try dsimp only at e9
            omega
          refine ww_by (r_13 = 0) (fun c_18 => ?_) (fun c_18 => ?_)
          · replace hf := ww_ip hf c_18
            have e9 := hj_1 hf
            omega
          · replace hf := ww_in hf c_18
            refine ww_by (r_13 = (1 : Int32)) (fun c_19 => ?_) (fun c_19 => ?_)
            · replace hf := ww_ip hf c_19
              refine ww_by (x4 ≤ 0) (fun c_20 => ?_) (fun c_20 => ?_)
              · replace hf := ww_ip hf c_20
                have e9 := ww_lK hf hz_1
                try dsimp only at e9
                omega
              · replace hf := ww_in hf c_20
                have e9 := hj_1 hf
                omega
            · replace hf := ww_in hf c_19
              have e9 := ww_lK hf hz_1
              try dsimp only at e9
              omega
      have e9 := hL_1 (D_6, ((0 + 1) + c_6), ((0 + 1) + k_6), (0 : Int32)) hf
      try dsimp only at e9
      omega
    refine c1c_1_work (x1 := r_4) (x2 := (some D_2.2.2)) X hl.1 hK hR hS (Nat.le_trans (Nat.le_of_ble_eq_true rfl) hF) (Nat.le_trans (Nat.le_of_ble_eq_true rfl) hLo) (Nat.le_trans hm9.1 hC.1) (Nat.le_trans hm9.2 hC.2) h_6 (cw_rest (Nat.le_of_ble_eq_true rfl)) dX1_three_36 (fun H locs hR hS => ?_)
    refine lv_iconst (v := (0 : Int32)) hx hb dX1_three_39 (by decide) ?_
    refine lv_istore (lv' := [(6, .int (0 : Int32)), (5, va_rf r_4), (0, .ref E.1.1), (1, .int x1), (2, .int x2), (3, .int x3), (4, .int x4)]) hx hb dX1_three_40 hl (by decide) (by cases r_4 <;> rfl) (fun ls hl => ?_)
    have hL_1 : ∀ s9 : cw_D × Nat × Nat × Int32, ww_U (f1_three_b1 x1 x2 x3 x4 r_4) s9 = some (r, D', nc, ns) → (s9.2.1 ≤ nc ∧ s9.2.2.1 ≤ ns) ∧ (∀ (H : Heap) (locs : List Loc) (ls : Array Slot), cw_H E A s9.1 H → va_S A s.heap H locs → lv_has ls 8 [(0, .ref E.1.1), (1, .int x1), (2, .int x2), (3, .int x3), (4, .int x4), (5, va_rf r_4), (6, .int s9.2.2.2)] → W p l e Rm s m args below meth c H locs s9.2.1 s9.2.2.1 Q (F0 m 42 ls [])) := by
      clear hf
      refine ww_ind _ (r, D', nc, ns) ?_
      intro s9 z_1 hf hz_1
      obtain ⟨D_7, c_1b, k_1b, x6⟩ := s9
      replace hf : f1_three_b1c x1 x2 x3 x4 r_4 D_7 c_1b k_1b x6 = some z_1 := hf
      unfold f1_three_b1c at hf
      have hm9 : c_1b ≤ nc ∧ k_1b ≤ ns := by
        show c_1b ≤ nc ∧ k_1b ≤ ns
        refine ww_by ((999 : Int32) < x6) (fun c_8 => ?_) (fun c_8 => ?_)
        · replace hf := ww_ip hf c_8
          replace hf := ww_xK hf hz_1
          obtain ⟨r_9, h_9, hq⟩ := ww_bS hf; replace hf := hq; clear hq
          obtain ⟨r_10, D_10, h_10, hq⟩ := ww_b2S hf; replace hf := hq; clear hq
          have e9 := hf
          simp only [Option.some.injEq, Prod.mk.injEq] at e9
          omega
        · replace hf := ww_in hf c_8
          obtain ⟨r_11, h_11, hq⟩ := ww_bS hf; replace hf := hq; clear hq
          obtain ⟨r_12, h_12, hq⟩ := ww_bS hf; replace hf := hq; clear hq
          obtain ⟨r_13, h_13, hq⟩ := ww_bS hf; replace hf := hq; clear hq
          have hj_1 : f1_three_j1 D_7 c_1b k_1b x1 x2 x3 x4 r_4 x6 = some z_1 → c_1b ≤ nc ∧ k_1b ≤ ns := by
            clear hf
            intro  hf
            unfold f1_three_j1 at hf
            obtain ⟨r_14, h_14, hq⟩ := ww_bS hf; replace hf := hq; clear hq
            obtain ⟨r_15, h_15, hq⟩ := ww_bS hf; replace hf := hq; clear hq
            obtain ⟨r_16, h_16, hq⟩ := ww_bS hf; replace hf := hq; clear hq
            obtain ⟨D_17, c_17, k_17, h_17, hq⟩ := ww_b3S hf; replace hf := hq; clear hq
            have e9 := (ww_lK hf hz_1).1
            try dsimp only at e9
            omega
          refine ww_by (r_13 = 0) (fun c_18 => ?_) (fun c_18 => ?_)
          · replace hf := ww_ip hf c_18
            have e9 := hj_1 hf
            omega
          · replace hf := ww_in hf c_18
            refine ww_by (r_13 = (1 : Int32)) (fun c_19 => ?_) (fun c_19 => ?_)
            · replace hf := ww_ip hf c_19
              refine ww_by (x4 ≤ 0) (fun c_20 => ?_) (fun c_20 => ?_)
              · replace hf := ww_ip hf c_20
                have e9 := (ww_lK hf hz_1).1
                try dsimp only at e9
                omega
              · replace hf := ww_in hf c_20
                have e9 := hj_1 hf
                omega
            · replace hf := ww_in hf c_19
              have e9 := (ww_lK hf hz_1).1
              try dsimp only at e9
              omega
      refine ⟨hm9, ?_⟩
      try clear hl
      try clear hS
      try clear hR
      intro H locs ls hR hS hl
      replace hR : cw_H E A D_7 H := hR
      replace hl : lv_has ls 8 [(0, .ref E.1.1), (1, .int x1), (2, .int x2), (3, .int x3), (4, .int x4), (5, va_rf r_4), (6, .int x6)] := hl
      show W p l e Rm s m args below meth c H locs c_1b k_1b Q _
      refine lv_iload hx hb dX1_three_42 (lv_at hl 6 rfl) ?_
      refine lv_sipush (v := (999 : Int32)) hx hb dX1_three_44 (by decide) ?_
      refine lv_icmp_gt (tgt := 116) hx hb dX1_three_47 (by decide) (fun c_8 => ?_) (fun c_8 => ?_)
      · replace hf := ww_ip hf c_8
        replace hf := ww_xK hf hz_1
        refine lv_aload_n hx hb dX1_three_116 rfl (lv_at hl 0 rfl) ?_
        refine lv_aload_n hx hb dX1_three_117 rfl (lv_at hl 0 rfl) ?_
        obtain ⟨r_9, h_9, hq⟩ := ww_bS hf; replace hf := hq; clear hq
        refine c1g_226 X hK hR h_9 dX1_three_118 ?_
        refine lv_iload_n hx hb dX1_three_121 rfl (lv_at hl 2 rfl) ?_
        refine lv_iload_n hx hb dX1_three_122 rfl (lv_at hl 3 rfl) ?_
        obtain ⟨r_10, D_10, h_10, hq⟩ := ww_b2S hf; replace hf := hq; clear hq
        refine c1c_1_holds (x1 := r_9) X hl.1 hK hR hS (Nat.le_trans (Nat.le_of_ble_eq_true rfl) hF) (Nat.le_trans (Nat.le_of_ble_eq_true rfl) hLo) (Nat.le_trans hm9.1 hC.1) (Nat.le_trans hm9.2 hC.2) h_10 (cw_rest (Nat.le_of_ble_eq_true rfl)) dX1_three_123 (fun H locs hR hS => ?_)
        exact hend dX1_three_126 rfl rfl hf hR hS
      · replace hf := ww_in hf c_8
        refine lv_aload_n hx hb dX1_three_50 rfl (lv_at hl 0 rfl) ?_
        refine lv_iload_n hx hb dX1_three_51 rfl (lv_at hl 1 rfl) ?_
        obtain ⟨r_11, h_11, hq⟩ := ww_bS hf; replace hf := hq; clear hq
        refine c1c_1_rootOf X hl.1 hK hR hS (Nat.le_trans (Nat.le_of_ble_eq_true rfl) hF) (Nat.le_trans (Nat.le_of_ble_eq_true rfl) hLo) (Nat.le_trans hm9.1 hC.1) (Nat.le_trans hm9.2 hC.2) h_11 (cw_rest (Nat.le_of_ble_eq_true rfl)) dX1_three_52 (fun H locs hR hS => ?_)
        refine cw_aload (x := r_4) hx hb dX1_three_55 (lv_at hl 5 rfl) ?_
        refine lv_aload_n hx hb dX1_three_57 rfl (lv_at hl 0 rfl) ?_
        refine lv_iload_n hx hb dX1_three_58 rfl (lv_at hl 3 rfl) ?_
        obtain ⟨r_12, h_12, hq⟩ := ww_bS hf; replace hf := hq; clear hq
        refine c1c_1_rootOf X hl.1 hK hR hS (Nat.le_trans (Nat.le_of_ble_eq_true rfl) hF) (Nat.le_trans (Nat.le_of_ble_eq_true rfl) hLo) (Nat.le_trans hm9.1 hC.1) (Nat.le_trans hm9.2 hC.2) h_12 (cw_rest (Nat.le_of_ble_eq_true rfl)) dX1_three_59 (fun H locs hR hS => ?_)
        refine lv_iload hx hb dX1_three_62 (lv_at hl 6 rfl) ?_
        obtain ⟨r_13, h_13, hq⟩ := ww_bS hf; replace hf := hq; clear hq
        refine c1c_1_threeAt (x0 := r_11) (x1 := r_4) (x2 := r_12) X hl.1 hK hR hS (Nat.le_trans (Nat.le_of_ble_eq_true rfl) hF) (Nat.le_trans (Nat.le_of_ble_eq_true rfl) hLo) (Nat.le_trans hm9.1 hC.1) (Nat.le_trans hm9.2 hC.2) h_13 (cw_rest (Nat.le_of_ble_eq_true rfl)) dX1_three_64 (fun H locs hR hS => ?_)
        refine lv_istore (lv' := [(7, .int r_13), (0, .ref E.1.1), (1, .int x1), (2, .int x2), (3, .int x3), (4, .int x4), (5, va_rf r_4), (6, .int x6)]) hx hb dX1_three_67 hl (by decide) rfl (fun ls hl => ?_)
        refine lv_iload hx hb dX1_three_69 (lv_at hl 0 rfl) ?_
        have hj_1 : f1_three_j1 D_7 c_1b k_1b x1 x2 x3 x4 r_4 x6 = some z_1 → (c_1b ≤ nc ∧ k_1b ≤ ns) ∧ (∀ (H : Heap) (locs : List Loc) (ls : Array Slot), cw_H E A D_7 H → va_S A s.heap H locs → lv_has ls 8 [(0, .ref E.1.1), (1, .int x1), (2, .int x2), (3, .int x3), (4, .int x4), (5, va_rf r_4), (6, .int x6)] → W p l e Rm s m args below meth c H locs c_1b k_1b Q (F0 m 85 ls [])) := by
          clear hf
          intro  hf
          unfold f1_three_j1 at hf
          have hm9 : c_1b ≤ nc ∧ k_1b ≤ ns := by
            obtain ⟨r_14, h_14, hq⟩ := ww_bS hf; replace hf := hq; clear hq
            obtain ⟨r_15, h_15, hq⟩ := ww_bS hf; replace hf := hq; clear hq
            obtain ⟨r_16, h_16, hq⟩ := ww_bS hf; replace hf := hq; clear hq
            obtain ⟨D_17, c_17, k_17, h_17, hq⟩ := ww_b3S hf; replace hf := hq; clear hq
            have e9 := (ww_lK hf hz_1).1
            try dsimp only at e9
            omega
          refine ⟨hm9, ?_⟩
          try clear hl
          try clear hS
          try clear hR
          intro H locs ls hR hS hl
          refine lv_aload_n hx hb dX1_three_85 rfl (lv_at hl 0 rfl) ?_
          refine lv_iload hx hb dX1_three_86 (lv_at hl 6 rfl) ?_
          refine lv_aload_n hx hb dX1_three_88 rfl (lv_at hl 0 rfl) ?_
          refine lv_iload_n hx hb dX1_three_89 rfl (lv_at hl 1 rfl) ?_
          obtain ⟨r_14, h_14, hq⟩ := ww_bS hf; replace hf := hq; clear hq
          refine c1c_1_rootOf X hl.1 hK hR hS (Nat.le_trans (Nat.le_of_ble_eq_true rfl) hF) (Nat.le_trans (Nat.le_of_ble_eq_true rfl) hLo) (Nat.le_trans hm9.1 hC.1) (Nat.le_trans hm9.2 hC.2) h_14 (cw_rest (Nat.le_of_ble_eq_true rfl)) dX1_three_90 (fun H locs hR hS => ?_)
          refine cw_aload (x := r_4) hx hb dX1_three_93 (lv_at hl 5 rfl) ?_
          refine lv_aload_n hx hb dX1_three_95 rfl (lv_at hl 0 rfl) ?_
          refine lv_iload_n hx hb dX1_three_96 rfl (lv_at hl 3 rfl) ?_
          obtain ⟨r_15, h_15, hq⟩ := ww_bS hf; replace hf := hq; clear hq
          refine c1c_1_rootOf X hl.1 hK hR hS (Nat.le_trans (Nat.le_of_ble_eq_true rfl) hF) (Nat.le_trans (Nat.le_of_ble_eq_true rfl) hLo) (Nat.le_trans hm9.1 hC.1) (Nat.le_trans hm9.2 hC.2) h_15 (cw_rest (Nat.le_of_ble_eq_true rfl)) dX1_three_97 (fun H locs hR hS => ?_)
          refine lv_iload hx hb dX1_three_100 (lv_at hl 6 rfl) ?_
          refine lv_iload hx hb dX1_three_102 (lv_at hl 4 rfl) ?_
          obtain ⟨r_16, h_16, hq⟩ := ww_bS hf; replace hf := hq; clear hq
          refine c1c_1_comesTo (x0 := r_14) (x1 := r_4) (x2 := r_15) X hl.1 hK hR hS (Nat.le_trans (Nat.le_of_ble_eq_true rfl) hF) (Nat.le_trans (Nat.le_of_ble_eq_true rfl) hLo) (Nat.le_trans hm9.1 hC.1) (Nat.le_trans hm9.2 hC.2) h_16 (cw_rest (Nat.le_of_ble_eq_true rfl)) dX1_three_104 (fun H locs hR hS => ?_)
          obtain ⟨D_17, c_17, k_17, h_17, hq⟩ := ww_b3S hf; replace hf := hq; clear hq
          have hm9 : (c_1b + c_17) ≤ nc ∧ (k_1b + k_17) ≤ ns := by
            have e9 := (ww_lK hf hz_1).1
            try dsimp only at e9
            omega
          refine c1c_1_becomes X hl.1 hK hR hS (Nat.le_trans (Nat.le_of_ble_eq_true rfl) hF) (Nat.le_trans (Nat.le_of_ble_eq_true rfl) hLo) (Nat.le_trans hm9.1 hC.1) (Nat.le_trans hm9.2 hC.2) h_17 (cw_rest (Nat.le_of_ble_eq_true rfl)) dX1_three_107 (fun H locs hR hS => ?_)
          refine lv_iinc (k := 6) (v := x6 + (1 : Int32)) (lv' := [(6, .int (x6 + (1 : Int32))), (0, .ref E.1.1), (1, .int x1), (2, .int x2), (3, .int x3), (4, .int x4), (5, va_rf r_4)]) hx hb dX1_three_110 hl rfl rfl (by decide) (by cases r_4 <;> rfl) (fun ls hl => ?_)
          refine lv_goto (tgt := 42) hx hb dX1_three_113 (by decide) ?_
          exact (ww_lK hf hz_1).2 _ _ _ hR hS (lv_sub hl [1, 2, 3, 4, 5, 6, 0] rfl)
        refine lv_if_eq (tgt := 85) hx hb dX1_three_71 (by decide) (fun c_18 => ?_) (fun c_18 => ?_)
        · replace hf := ww_ip hf c_18
          exact (hj_1 hf).2 _ _ _ hR hS (lv_sub hl [1, 2, 3, 4, 5, 6, 7] rfl)
        · replace hf := ww_in hf c_18
          refine lv_iload hx hb dX1_three_74 (lv_at hl 0 rfl) ?_
          refine lv_iconst (v := (1 : Int32)) hx hb dX1_three_76 (by decide) ?_
          refine lv_icmp_ne (tgt := 110) hx hb dX1_three_77 (by decide) (fun c_19 => ?_) (fun c_19 => ?_)
          · replace hf := ww_in hf c_19
            refine lv_iinc (k := 7) (v := x6 + (1 : Int32)) (lv' := [(6, .int (x6 + (1 : Int32))), (7, .int r_13), (0, .ref E.1.1), (1, .int x1), (2, .int x2), (3, .int x3), (4, .int x4), (5, va_rf r_4)]) hx hb dX1_three_110 hl rfl rfl (by decide) (by cases r_4 <;> rfl) (fun ls hl => ?_)
            refine lv_goto (tgt := 42) hx hb dX1_three_113 (by decide) ?_
            exact (ww_lK hf hz_1).2 _ _ _ hR hS (lv_sub hl [2, 3, 4, 5, 6, 7, 0] rfl)
          · replace hf := ww_ip hf c_19
            refine lv_iload hx hb dX1_three_80 (lv_at hl 5 rfl) ?_
            refine lv_if_le (tgt := 110) hx hb dX1_three_82 (by decide) (fun c_20 => ?_) (fun c_20 => ?_)
            · replace hf := ww_ip hf c_20
              refine lv_iinc (k := 7) (v := x6 + (1 : Int32)) (lv' := [(6, .int (x6 + (1 : Int32))), (7, .int r_13), (0, .ref E.1.1), (1, .int x1), (2, .int x2), (3, .int x3), (4, .int x4), (5, va_rf r_4)]) hx hb dX1_three_110 hl rfl rfl (by decide) (by cases r_4 <;> rfl) (fun ls hl => ?_)
              refine lv_goto (tgt := 42) hx hb dX1_three_113 (by decide) ?_
              exact (ww_lK hf hz_1).2 _ _ _ hR hS (lv_sub hl [2, 3, 4, 5, 6, 7, 0] rfl)
            · replace hf := ww_in hf c_20
              exact (hj_1 hf).2 _ _ _ hR hS (lv_sub hl [1, 2, 3, 4, 5, 6, 7] rfl)
    exact (hL_1 (D_6, ((0 + 1) + c_6), ((0 + 1) + k_6), (0 : Int32)) hf).2 _ _ _ hR hS (lv_sub hl [2, 3, 4, 5, 6, 1, 0] rfl)
  · replace hf := ww_in hf c_3
    refine lv_iconst (v := (-1 : Int32)) hx hb dX1_three_16 (by decide) ?_
    exact hend dX1_three_17 rfl rfl hf hR hS
noncomputable def f1_conflicts_b1c (D : cw_D) (y1 : Int32) (y2 : Int32) (y3 : Int32) (x4 : Int32) (x5 : Int32) : Option ((Int32 × Int32) ⊕ (Int32)) :=
  if (999 : Int32) < x5 then ww_x (some x4) else ww_b (f1_rootOf D y1) (fun r_8 => ww_b (f1_rootOf D y2) (fun r_9 => ww_b (f1_rootOf D y3) (fun r_10 => ww_b (f1_threeAt D r_8 r_9 r_10 x5) (fun r_11 => if r_11 = (1 : Int32) then some (.inl ((x4 + (1 : Int32)), (x5 + (1 : Int32)))) else some (.inl (x4, (x5 + (1 : Int32))))))))
noncomputable def f1_conflicts_b1 (D : cw_D) (y1 : Int32) (y2 : Int32) (y3 : Int32) : (Int32 × Int32) → Option ((Int32 × Int32) ⊕ (Int32)) := fun s9 => f1_conflicts_b1c D y1 y2 y3 s9.1 s9.2
noncomputable def f1_conflicts (D : cw_D) (x1 : Int32) (x2 : Int32) (x3 : Int32) : Option (Int32) :=
  ww_b (f1_isMap D x1) (fun r_1 => if r_1 = 0 then some (-1 : Int32) else ww_b (f1_isMap D x2) (fun r_3 => if r_3 = 0 then some (-1 : Int32) else ww_b (f1_isMap D x3) (fun r_5 => if r_5 = 0 then some (-1 : Int32) else ww_U (f1_conflicts_b1 D x1 x2 x3) ((0 : Int32), (0 : Int32)))))
set_option maxHeartbeats 4000000 in
set_option maxRecDepth 100000 in
theorem met1_conflicts (l : Launch) {E : cw_E} {A : Nat → Prop} (D : cw_D) (x1 : Int32) (x2 : Int32) (x3 : Int32) (r : Int32) (hf : f1_conflicts D x1 x2 x3 = some r) : cw_MetI l yX1_conflicts cX1_conflicts 6 (some Jvm.ClassFile.FieldType.int) 14 293 E A [.ref E.1.1, .int x1, .int x2, .int x3] D D r 0 0 := by
  unfold f1_conflicts at hf
  refine cw_sIP (own := RX1) (by decide +kernel) [(0, .ref E.1.1), (1, .int x1), (2, .int x2), (3, .int x3)] ⟨Nat.le_of_ble_eq_true rfl, rfl⟩ ?_
  intro p e s m args below meth c Rm Q X hK hF hLo hin hend ls hl hR hS
  obtain ⟨hx, hb, hml, hown, hts⟩ := id X
  refine lv_aload_n hx hb dX1_conflicts_0 rfl (lv_at hl 0 rfl) ?_
  refine lv_iload_n hx hb dX1_conflicts_1 rfl (lv_at hl 1 rfl) ?_
  obtain ⟨r_1, h_1, hq⟩ := ww_bS hf; replace hf := hq; clear hq
  refine c1c_1_isMap X hl.1 hK hR hS (Nat.le_trans (Nat.le_of_ble_eq_true rfl) hF) (Nat.le_trans (Nat.le_of_ble_eq_true rfl) hLo) (Nat.zero_le _) (Nat.zero_le _) h_1 (cw_rest (Nat.le_of_ble_eq_true rfl)) dX1_conflicts_2 (fun H locs hR hS => ?_)
  refine lv_if_eq (tgt := 24) hx hb dX1_conflicts_5 (by decide) (fun c_2 => ?_) (fun c_2 => ?_)
  · replace hf := ww_ip hf c_2
    refine lv_iconst (v := (-1 : Int32)) hx hb dX1_conflicts_24 (by decide) ?_
    exact hend dX1_conflicts_25 rfl rfl hf hR hS
  · replace hf := ww_in hf c_2
    refine lv_aload_n hx hb dX1_conflicts_8 rfl (lv_at hl 0 rfl) ?_
    refine lv_iload_n hx hb dX1_conflicts_9 rfl (lv_at hl 2 rfl) ?_
    obtain ⟨r_3, h_3, hq⟩ := ww_bS hf; replace hf := hq; clear hq
    refine c1c_1_isMap X hl.1 hK hR hS (Nat.le_trans (Nat.le_of_ble_eq_true rfl) hF) (Nat.le_trans (Nat.le_of_ble_eq_true rfl) hLo) (Nat.zero_le _) (Nat.zero_le _) h_3 (cw_rest (Nat.le_of_ble_eq_true rfl)) dX1_conflicts_10 (fun H locs hR hS => ?_)
    refine lv_if_eq (tgt := 24) hx hb dX1_conflicts_13 (by decide) (fun c_4 => ?_) (fun c_4 => ?_)
    · replace hf := ww_ip hf c_4
      refine lv_iconst (v := (-1 : Int32)) hx hb dX1_conflicts_24 (by decide) ?_
      exact hend dX1_conflicts_25 rfl rfl hf hR hS
    · replace hf := ww_in hf c_4
      refine lv_aload_n hx hb dX1_conflicts_16 rfl (lv_at hl 0 rfl) ?_
      refine lv_iload_n hx hb dX1_conflicts_17 rfl (lv_at hl 3 rfl) ?_
      obtain ⟨r_5, h_5, hq⟩ := ww_bS hf; replace hf := hq; clear hq
      refine c1c_1_isMap X hl.1 hK hR hS (Nat.le_trans (Nat.le_of_ble_eq_true rfl) hF) (Nat.le_trans (Nat.le_of_ble_eq_true rfl) hLo) (Nat.zero_le _) (Nat.zero_le _) h_5 (cw_rest (Nat.le_of_ble_eq_true rfl)) dX1_conflicts_18 (fun H locs hR hS => ?_)
      refine lv_if_ne (tgt := 26) hx hb dX1_conflicts_21 (by decide) (fun c_6 => ?_) (fun c_6 => ?_)
      · replace hf := ww_in hf c_6
        refine lv_iconst (v := (0 : Int32)) hx hb dX1_conflicts_26 (by decide) ?_
        refine lv_istore (lv' := [(4, .int (0 : Int32)), (0, .ref E.1.1), (1, .int x1), (2, .int x2), (3, .int x3)]) hx hb dX1_conflicts_27 hl (by decide) rfl (fun ls hl => ?_)
        refine lv_iconst (v := (0 : Int32)) hx hb dX1_conflicts_29 (by decide) ?_
        refine lv_istore (lv' := [(5, .int (0 : Int32)), (4, .int (0 : Int32)), (0, .ref E.1.1), (1, .int x1), (2, .int x2), (3, .int x3)]) hx hb dX1_conflicts_30 hl (by decide) rfl (fun ls hl => ?_)
        have hL_1 : ∀ s9 : Int32 × Int32, ww_U (f1_conflicts_b1 D x1 x2 x3) s9 = some r → ∀ (H : Heap) (locs : List Loc) (ls : Array Slot), cw_H E A D H → va_S A s.heap H locs → lv_has ls 6 [(0, .ref E.1.1), (1, .int x1), (2, .int x2), (3, .int x3), (4, .int s9.1), (5, .int s9.2)] → W p l e Rm s m args below meth c H locs 0 0 Q (F0 m 32 ls []) := by
          clear hf
          refine ww_ind _ r ?_
          intro s9 z_1 hf hz_1
          obtain ⟨x4, x5⟩ := s9
          replace hf : f1_conflicts_b1c D x1 x2 x3 x4 x5 = some z_1 := hf
          unfold f1_conflicts_b1c at hf
          try clear hl
          try clear hS
          try clear hR
          intro H locs ls hR hS hl
          replace hl : lv_has ls 6 [(0, .ref E.1.1), (1, .int x1), (2, .int x2), (3, .int x3), (4, .int x4), (5, .int x5)] := hl
          refine lv_iload hx hb dX1_conflicts_32 (lv_at hl 5 rfl) ?_
          refine lv_sipush (v := (999 : Int32)) hx hb dX1_conflicts_34 (by decide) ?_
          refine lv_icmp_gt (tgt := 73) hx hb dX1_conflicts_37 (by decide) (fun c_7 => ?_) (fun c_7 => ?_)
          · replace hf := ww_ip hf c_7
            replace hf := ww_xK hf hz_1
            refine lv_iload hx hb dX1_conflicts_73 (lv_at hl 4 rfl) ?_
            exact hend dX1_conflicts_75 rfl rfl hf hR hS
          · replace hf := ww_in hf c_7
            refine lv_aload_n hx hb dX1_conflicts_40 rfl (lv_at hl 0 rfl) ?_
            refine lv_iload_n hx hb dX1_conflicts_41 rfl (lv_at hl 1 rfl) ?_
            obtain ⟨r_8, h_8, hq⟩ := ww_bS hf; replace hf := hq; clear hq
            refine c1c_1_rootOf X hl.1 hK hR hS (Nat.le_trans (Nat.le_of_ble_eq_true rfl) hF) (Nat.le_trans (Nat.le_of_ble_eq_true rfl) hLo) (Nat.zero_le _) (Nat.zero_le _) h_8 (cw_rest (Nat.le_of_ble_eq_true rfl)) dX1_conflicts_42 (fun H locs hR hS => ?_)
            refine lv_aload_n hx hb dX1_conflicts_45 rfl (lv_at hl 0 rfl) ?_
            refine lv_iload_n hx hb dX1_conflicts_46 rfl (lv_at hl 2 rfl) ?_
            obtain ⟨r_9, h_9, hq⟩ := ww_bS hf; replace hf := hq; clear hq
            refine c1c_1_rootOf X hl.1 hK hR hS (Nat.le_trans (Nat.le_of_ble_eq_true rfl) hF) (Nat.le_trans (Nat.le_of_ble_eq_true rfl) hLo) (Nat.zero_le _) (Nat.zero_le _) h_9 (cw_rest (Nat.le_of_ble_eq_true rfl)) dX1_conflicts_47 (fun H locs hR hS => ?_)
            refine lv_aload_n hx hb dX1_conflicts_50 rfl (lv_at hl 0 rfl) ?_
            refine lv_iload_n hx hb dX1_conflicts_51 rfl (lv_at hl 3 rfl) ?_
            obtain ⟨r_10, h_10, hq⟩ := ww_bS hf; replace hf := hq; clear hq
            refine c1c_1_rootOf X hl.1 hK hR hS (Nat.le_trans (Nat.le_of_ble_eq_true rfl) hF) (Nat.le_trans (Nat.le_of_ble_eq_true rfl) hLo) (Nat.zero_le _) (Nat.zero_le _) h_10 (cw_rest (Nat.le_of_ble_eq_true rfl)) dX1_conflicts_52 (fun H locs hR hS => ?_)
            refine lv_iload hx hb dX1_conflicts_55 (lv_at hl 5 rfl) ?_
            obtain ⟨r_11, h_11, hq⟩ := ww_bS hf; replace hf := hq; clear hq
            refine c1c_1_threeAt (x0 := r_8) (x1 := r_9) (x2 := r_10) X hl.1 hK hR hS (Nat.le_trans (Nat.le_of_ble_eq_true rfl) hF) (Nat.le_trans (Nat.le_of_ble_eq_true rfl) hLo) (Nat.zero_le _) (Nat.zero_le _) h_11 (cw_rest (Nat.le_of_ble_eq_true rfl)) dX1_conflicts_57 (fun H locs hR hS => ?_)
            refine lv_iconst (v := (1 : Int32)) hx hb dX1_conflicts_60 (by decide) ?_
            refine lv_icmp_ne (tgt := 67) hx hb dX1_conflicts_61 (by decide) (fun c_12 => ?_) (fun c_12 => ?_)
            · replace hf := ww_in hf c_12
              refine lv_iinc (k := 5) (v := x5 + (1 : Int32)) (lv' := [(5, .int (x5 + (1 : Int32))), (0, .ref E.1.1), (1, .int x1), (2, .int x2), (3, .int x3), (4, .int x4)]) hx hb dX1_conflicts_67 hl rfl rfl (by decide) rfl (fun ls hl => ?_)
              refine lv_goto (tgt := 32) hx hb dX1_conflicts_70 (by decide) ?_
              exact ww_lK hf hz_1 _ _ _ hR hS (lv_sub hl [1, 2, 3, 4, 5, 0] rfl)
            · replace hf := ww_ip hf c_12
              refine lv_iinc (k := 4) (v := x4 + (1 : Int32)) (lv' := [(4, .int (x4 + (1 : Int32))), (0, .ref E.1.1), (1, .int x1), (2, .int x2), (3, .int x3), (5, .int x5)]) hx hb dX1_conflicts_64 hl rfl rfl (by decide) rfl (fun ls hl => ?_)
              refine lv_iinc (k := 5) (v := x5 + (1 : Int32)) (lv' := [(5, .int (x5 + (1 : Int32))), (4, .int (x4 + (1 : Int32))), (0, .ref E.1.1), (1, .int x1), (2, .int x2), (3, .int x3)]) hx hb dX1_conflicts_67 hl rfl rfl (by decide) rfl (fun ls hl => ?_)
              refine lv_goto (tgt := 32) hx hb dX1_conflicts_70 (by decide) ?_
              exact ww_lK hf hz_1 _ _ _ hR hS (lv_sub hl [2, 3, 4, 5, 1, 0] rfl)
        exact hL_1 ((0 : Int32), (0 : Int32)) hf _ _ _ hR hS (lv_sub hl [2, 3, 4, 5, 1, 0] rfl)
      · replace hf := ww_ip hf c_6
        refine lv_iconst (v := (-1 : Int32)) hx hb dX1_conflicts_24 (by decide) ?_
        exact hend dX1_conflicts_25 rfl rfl hf hR hS
noncomputable def f1_cutNow_b1c (y1 : Int32) (y2 : Int32) (y3 : Int32) (D_3 : cw_D) (c_1b : Nat) (k_1b : Nat) (x4 : Int32) : Option ((cw_D × Nat × Nat × Int32) ⊕ (cw_D × Nat × Nat)) :=
  if y3 ≤ x4 then ww_x (some (D_3, c_1b, k_1b)) else ww_g (ww_i x4 120) (ww_b (f1_in (ww_X D_3.1 29 x4) y1 y2) (fun r_6 => if r_6 = 0 then some (.inl (D_3, c_1b, k_1b, (x4 + (1 : Int32)))) else ww_g (ww_i x4 120) (ww_b3 (f1_takeNow D_3 (ww_X D_3.1 29 x4)) (fun D_9 c_9 k_9 => some (.inl (D_9, (c_1b + c_9), (k_1b + k_9), (x4 + (1 : Int32))))))))
noncomputable def f1_cutNow_b1 (y1 : Int32) (y2 : Int32) (y3 : Int32) : (cw_D × Nat × Nat × Int32) → Option ((cw_D × Nat × Nat × Int32) ⊕ (cw_D × Nat × Nat)) := fun s9 => f1_cutNow_b1c y1 y2 y3 s9.1 s9.2.1 s9.2.2.1 s9.2.2.2
noncomputable def f1_cutNow (D : cw_D) (x1 : Int32) (x2 : Int32) : Option (cw_D × Nat × Nat) :=
  ww_b (some (ww_R D.1 27)) (fun r_1 => ww_b2 (f1_flat D r_1) (fun r_2 D_2 => ww_U (f1_cutNow_b1 x1 x2 r_2) (D_2, 0, 0, (0 : Int32))))
section C_1_cutNow_k
variable {p : Program} {l : Launch} {e : Env} {R : Room} {s : State} {m : MethodId} {args : Array Value} {below : List Frame} {meth : Method} {c : Code} {H : Heap} {locs : List Loc} {cells slots : Nat} {Q : State → Prop}
variable {cc : ByteArray} {pc : Nat} {ls : Array Slot} {rest : List Value} {nL : Nat} {E : cw_E} {A : Nat → Prop} {H0 : Heap}
theorem c1k_1_cutNow {D : cw_D} {x1 : Int32} {x2 : Int32} {D' : cw_D} {nc ns : Nat} (X : ww_C p m c cc nL s args RX1 lw_all) (hsz : ls.size = nL) (hK : cw_K E A s) (hR : cw_H E A D H) (hS : va_S A s.heap H locs) (hF : 24 ≤ R.frames) (hLo : 527 ≤ R.locals) (hc : cells + nc ≤ R.cells) (hs : slots + ns ≤ R.slots) (hM : cw_MetV l yX1_cutNow cX1_cutNow 5 23 503 E A [.ref E.1.1, .int x1, .int x2] D D' nc ns) (hrest : (rest.map fun v => v.category).sum ≤ 8) (hdg : decode cc pc = .ok (.invokevirtual 413, 3)) (kk : ∀ (H1 : Heap) (locs1 : List Loc), cw_H E A D' H1 → va_S A s.heap H1 locs1 → W p l e R s m args below meth c H1 locs1 (cells + nc) (slots + ns) Q (F0 m (pc + 3) ls (rest))) : W p l e R s m args below meth c H locs cells slots Q (F0 m pc ls (.int x2 :: .int x1 :: .ref E.1.1 :: rest)) :=
  va_callv (va_runV (C := RX1) (As := [.int x1, .int x2]) (rest := rest) (b := E.1.1) X hM (cwV 2 X.2.2.2.2 (lw_V q1356 q1358 qs42 q131 q1359) rfl rfl rfl (by decide +kernel) ⟨hF, hLo⟩) (cw_pV hK hR hS (cw_rcM hK hR)) rfl rfl hsz rfl (lv_room hrest) hdg ⟨hc, hs⟩) hS (fun q _ h => h) (fun q h => h) (fun u t H1 locs1 ht hvm hw hB hz1 hk1 hS1 => by rw [ht] at hB; exact kk H1 locs1 hB hS1)
end C_1_cutNow_k
set_option maxHeartbeats 4000000 in
set_option maxRecDepth 100000 in
theorem met1_cutNow (l : Launch) {E : cw_E} {A : Nat → Prop} (D : cw_D) (x1 : Int32) (x2 : Int32) (D' : cw_D) (nc ns : Nat) (hf : f1_cutNow D x1 x2 = some (D', nc, ns)) : cw_MetV l yX1_cutNow cX1_cutNow 5 23 503 E A [.ref E.1.1, .int x1, .int x2] D D' nc ns := by
  unfold f1_cutNow at hf
  refine cw_sVN (own := RX1) (by decide +kernel) [(0, .ref E.1.1), (1, .int x1), (2, .int x2)] ⟨Nat.le_of_ble_eq_true rfl, rfl⟩ ?_
  intro p e s m args below meth c Rm Q X hK hF hLo hC hin hend ls hl hR hS
  obtain ⟨hx, hb, hml, hown, hts⟩ := id X
  have hm9 : 0 ≤ nc ∧ 0 ≤ ns := ⟨Nat.zero_le _, Nat.zero_le _⟩
  refine lv_aload_n hx hb dX1_cutNow_0 rfl (lv_at hl 0 rfl) ?_
  refine lv_aload_n hx hb dX1_cutNow_1 rfl (lv_at hl 0 rfl) ?_
  obtain ⟨r_1, h_1, hq⟩ := ww_bS hf; replace hf := hq; clear hq
  refine c1g_226 X hK hR h_1 dX1_cutNow_2 ?_
  obtain ⟨r_2, D_2, h_2, hq⟩ := ww_b2S hf; replace hf := hq; clear hq
  refine c1c_1_flat (x1 := r_1) X hl.1 hK hR hS (Nat.le_trans (Nat.le_of_ble_eq_true rfl) hF) (Nat.le_trans (Nat.le_of_ble_eq_true rfl) hLo) (Nat.le_trans hm9.1 hC.1) (Nat.le_trans hm9.2 hC.2) h_2 (cw_rest (Nat.le_of_ble_eq_true rfl)) dX1_cutNow_5 (fun H locs hR hS => ?_)
  refine lv_istore_n (lv' := [(3, .int r_2), (0, .ref E.1.1), (1, .int x1), (2, .int x2)]) hx hb dX1_cutNow_8 rfl hl (by decide) rfl (fun ls hl => ?_)
  refine lv_iconst (v := (0 : Int32)) hx hb dX1_cutNow_9 (by decide) ?_
  refine lv_istore (lv' := [(4, .int (0 : Int32)), (3, .int r_2), (0, .ref E.1.1), (1, .int x1), (2, .int x2)]) hx hb dX1_cutNow_10 hl (by decide) rfl (fun ls hl => ?_)
  have hL_1 : ∀ s9 : cw_D × Nat × Nat × Int32, ww_U (f1_cutNow_b1 x1 x2 r_2) s9 = some (D', nc, ns) → (s9.2.1 ≤ nc ∧ s9.2.2.1 ≤ ns) ∧ (∀ (H : Heap) (locs : List Loc) (ls : Array Slot), cw_H E A s9.1 H → va_S A s.heap H locs → lv_has ls 5 [(0, .ref E.1.1), (1, .int x1), (2, .int x2), (3, .int r_2), (4, .int s9.2.2.2)] → W p l e Rm s m args below meth c H locs s9.2.1 s9.2.2.1 Q (F0 m 12 ls [])) := by
    clear hf
    refine ww_ind _ (D', nc, ns) ?_
    intro s9 z_1 hf hz_1
    obtain ⟨D_3, c_1b, k_1b, x4⟩ := s9
    replace hf : f1_cutNow_b1c x1 x2 r_2 D_3 c_1b k_1b x4 = some z_1 := hf
    unfold f1_cutNow_b1c at hf
    have hm9 : c_1b ≤ nc ∧ k_1b ≤ ns := by
      show c_1b ≤ nc ∧ k_1b ≤ ns
      refine ww_by (r_2 ≤ x4) (fun c_4 => ?_) (fun c_4 => ?_)
      · replace hf := ww_ip hf c_4
        replace hf := ww_xK hf hz_1
        have e9 := hf
        simp only [Option.some.injEq, Prod.mk.injEq] at e9
        omega
      · replace hf := ww_in hf c_4
        obtain ⟨h_5, hq⟩ := ww_gS hf; replace hf := hq; clear hq
        obtain ⟨r_6, h_6, hq⟩ := ww_bS hf; replace hf := hq; clear hq
        refine ww_by (r_6 = 0) (fun c_7 => ?_) (fun c_7 => ?_)
        · replace hf := ww_ip hf c_7
          have e9 := (ww_lK hf hz_1).1
          try dsimp only at e9
          omega
        · replace hf := ww_in hf c_7
          obtain ⟨h_8, hq⟩ := ww_gS hf; replace hf := hq; clear hq
          obtain ⟨D_9, c_9, k_9, h_9, hq⟩ := ww_b3S hf; replace hf := hq; clear hq
          have e9 := (ww_lK hf hz_1).1
          try dsimp only at e9
          omega
    refine ⟨hm9, ?_⟩
    try clear hl
    try clear hS
    try clear hR
    intro H locs ls hR hS hl
    replace hR : cw_H E A D_3 H := hR
    replace hl : lv_has ls 5 [(0, .ref E.1.1), (1, .int x1), (2, .int x2), (3, .int r_2), (4, .int x4)] := hl
    show W p l e Rm s m args below meth c H locs c_1b k_1b Q _
    refine lv_iload hx hb dX1_cutNow_12 (lv_at hl 4 rfl) ?_
    refine lv_iload_n hx hb dX1_cutNow_14 rfl (lv_at hl 3 rfl) ?_
    refine lv_icmp_ge (tgt := 50) hx hb dX1_cutNow_15 (by decide) (fun c_4 => ?_) (fun c_4 => ?_)
    · replace hf := ww_ip hf c_4
      replace hf := ww_xK hf hz_1
      exact hend dX1_cutNow_50 hf hR hS
    · replace hf := ww_in hf c_4
      refine lv_aload_n hx hb dX1_cutNow_18 rfl (lv_at hl 0 rfl) ?_
      refine c1g_97 X hK hR dX1_cutNow_19 ?_
      refine lv_iload hx hb dX1_cutNow_22 (lv_at hl 4 rfl) ?_
      obtain ⟨h_5, hq⟩ := ww_gS hf; replace hf := hq; clear hq
      refine c1l_29 X hK hR h_5 dX1_cutNow_24 ?_
      refine lv_iload_n hx hb dX1_cutNow_25 rfl (lv_at hl 1 rfl) ?_
      refine lv_iload_n hx hb dX1_cutNow_26 rfl (lv_at hl 2 rfl) ?_
      obtain ⟨r_6, h_6, hq⟩ := ww_bS hf; replace hf := hq; clear hq
      refine c1c_1_in X hl.1 (Nat.le_trans (Nat.le_of_ble_eq_true rfl) hF) (Nat.le_trans (Nat.le_of_ble_eq_true rfl) hLo) (Nat.le_trans hm9.1 hC.1) (Nat.le_trans hm9.2 hC.2) h_6 (cw_rest (Nat.le_of_ble_eq_true rfl)) dX1_cutNow_27 ?_
      refine lv_if_eq (tgt := 44) hx hb dX1_cutNow_30 (by decide) (fun c_7 => ?_) (fun c_7 => ?_)
      · replace hf := ww_ip hf c_7
        refine lv_iinc (k := 4) (v := x4 + (1 : Int32)) (lv' := [(4, .int (x4 + (1 : Int32))), (0, .ref E.1.1), (1, .int x1), (2, .int x2), (3, .int r_2)]) hx hb dX1_cutNow_44 hl rfl rfl (by decide) rfl (fun ls hl => ?_)
        refine lv_goto (tgt := 12) hx hb dX1_cutNow_47 (by decide) ?_
        exact (ww_lK hf hz_1).2 _ _ _ hR hS (lv_sub hl [1, 2, 3, 4, 0] rfl)
      · replace hf := ww_in hf c_7
        refine lv_aload_n hx hb dX1_cutNow_33 rfl (lv_at hl 0 rfl) ?_
        refine lv_aload_n hx hb dX1_cutNow_34 rfl (lv_at hl 0 rfl) ?_
        refine c1g_97 X hK hR dX1_cutNow_35 ?_
        refine lv_iload hx hb dX1_cutNow_38 (lv_at hl 4 rfl) ?_
        obtain ⟨h_8, hq⟩ := ww_gS hf; replace hf := hq; clear hq
        refine c1l_29 X hK hR h_8 dX1_cutNow_40 ?_
        obtain ⟨D_9, c_9, k_9, h_9, hq⟩ := ww_b3S hf; replace hf := hq; clear hq
        have hm9 : (c_1b + c_9) ≤ nc ∧ (k_1b + k_9) ≤ ns := by
          have e9 := (ww_lK hf hz_1).1
          try dsimp only at e9
          omega
        refine c1c_1_takeNow X hl.1 hK hR hS (Nat.le_trans (Nat.le_of_ble_eq_true rfl) hF) (Nat.le_trans (Nat.le_of_ble_eq_true rfl) hLo) (Nat.le_trans hm9.1 hC.1) (Nat.le_trans hm9.2 hC.2) h_9 (cw_rest (Nat.le_of_ble_eq_true rfl)) dX1_cutNow_41 (fun H locs hR hS => ?_)
        refine lv_iinc (k := 4) (v := x4 + (1 : Int32)) (lv' := [(4, .int (x4 + (1 : Int32))), (0, .ref E.1.1), (1, .int x1), (2, .int x2), (3, .int r_2)]) hx hb dX1_cutNow_44 hl rfl rfl (by decide) rfl (fun ls hl => ?_)
        refine lv_goto (tgt := 12) hx hb dX1_cutNow_47 (by decide) ?_
        exact (ww_lK hf hz_1).2 _ _ _ hR hS (lv_sub hl [1, 2, 3, 4, 0] rfl)
  exact (hL_1 (D_2, 0, 0, (0 : Int32)) hf).2 _ _ _ hR hS (lv_sub hl [2, 3, 4, 1, 0] rfl)
section C_1_cutNow_c
variable {p : Program} {l : Launch} {e : Env} {R : Room} {s : State} {m : MethodId} {args : Array Value} {below : List Frame} {meth : Method} {c : Code} {H : Heap} {locs : List Loc} {cells slots : Nat} {Q : State → Prop}
variable {cc : ByteArray} {pc : Nat} {ls : Array Slot} {rest : List Value} {nL : Nat} {E : cw_E} {A : Nat → Prop} {H0 : Heap}
theorem c1c_1_cutNow {D : cw_D} {x1 : Int32} {x2 : Int32} {D' : cw_D} {nc ns : Nat} (X : ww_C p m c cc nL s args RX1 lw_all) (hsz : ls.size = nL) (hK : cw_K E A s) (hR : cw_H E A D H) (hS : va_S A s.heap H locs) (hF : 24 ≤ R.frames) (hLo : 527 ≤ R.locals) (hc : cells + nc ≤ R.cells) (hs : slots + ns ≤ R.slots) (hf : f1_cutNow D x1 x2 = some (D', nc, ns)) (hrest : (rest.map fun v => v.category).sum ≤ 8) (hdg : decode cc pc = .ok (.invokevirtual 413, 3)) (kk : ∀ (H1 : Heap) (locs1 : List Loc), cw_H E A D' H1 → va_S A s.heap H1 locs1 → W p l e R s m args below meth c H1 locs1 (cells + nc) (slots + ns) Q (F0 m (pc + 3) ls (rest))) : W p l e R s m args below meth c H locs cells slots Q (F0 m pc ls (.int x2 :: .int x1 :: .ref E.1.1 :: rest)) :=
  c1k_1_cutNow X hsz hK hR hS hF hLo hc hs (met1_cutNow l _ _ _ _ _ _ hf) hrest hdg kk
end C_1_cutNow_c
noncomputable def f1_slice_j1 (D : cw_D) (cf : Nat) (kf : Nat) (y1 : Int32) (y2 : Int32) (y3 : Int32) (t1 : Int32) : Option (Int32 × cw_D × Nat × Nat) :=
  ww_b2 (f1_isRefused D t1) (fun r_2 D_2 => if r_2 = 0 then ww_b (f1_rootOf D_2 y1) (fun r_4 => ww_b (f4_init (cw_nO D_2 0) D_2.2.2 (ww_R (cw_nO D_2 0).1 99)) (fun D_5 => ww_b3 (f1_work D_5 r_4 (some D_2.2.2)) (fun D_6 c_6 k_6 => ww_b3 (f1_cutNow D_6 (0 : Int32) (y2 - (1 : Int32))) (fun D_7 c_7 k_7 => ww_b3 (f1_cutNow D_7 (y3 + (1 : Int32)) (999 : Int32)) (fun D_8 c_8 k_8 => ww_b (some (ww_R D_8.1 27)) (fun r_9 => ww_b2 (f1_holds D_8 r_9 y1 (-1 : Int32)) (fun r_10 D_10 => some (r_10, D_10, ((((cf + 1) + c_6) + c_7) + c_8), ((((kf + 1) + k_6) + k_7) + k_8))))))))) else some ((-1 : Int32), D_2, cf, kf))
noncomputable def f1_slice (D : cw_D) (x1 : Int32) (x2 : Int32) (x3 : Int32) : Option (Int32 × cw_D × Nat × Nat) :=
  ww_b (f1_isMap D x1) (fun r_1 => if r_1 = 0 then f1_slice_j1 D 0 0 x1 x2 x3 (0 : Int32) else ww_b (f1_isKey x2) (fun r_12 => if r_12 = 0 then f1_slice_j1 D 0 0 x1 x2 x3 (1 : Int32) else ww_b (f1_isKey x3) (fun r_14 => if r_14 = 0 then f1_slice_j1 D 0 0 x1 x2 x3 (1 : Int32) else if x2 ≤ x3 then ww_b (f1_isRoom D) (fun r_17 => if r_17 = 0 then f1_slice_j1 D 0 0 x1 x2 x3 (4 : Int32) else f1_slice_j1 D 0 0 x1 x2 x3 (-1 : Int32)) else f1_slice_j1 D 0 0 x1 x2 x3 (1 : Int32))))
set_option maxHeartbeats 4000000 in
set_option maxRecDepth 100000 in
theorem met1_slice (l : Launch) {E : cw_E} {A : Nat → Prop} (D : cw_D) (x1 : Int32) (x2 : Int32) (x3 : Int32) (r : Int32) (D' : cw_D) (nc ns : Nat) (hf : f1_slice D x1 x2 x3 = some (r, D', nc, ns)) : cw_MetI l yX1_slice cX1_slice 4 (some Jvm.ClassFile.FieldType.int) 24 527 E A [.ref E.1.1, .int x1, .int x2, .int x3] D D' r nc ns := by
  unfold f1_slice at hf
  refine cw_sIN (own := RX1) (by decide +kernel) [(0, .ref E.1.1), (1, .int x1), (2, .int x2), (3, .int x3)] ⟨Nat.le_of_ble_eq_true rfl, rfl⟩ ?_
  intro p e s m args below meth c Rm Q X hK hF hLo hC hin hend ls hl hR hS
  obtain ⟨hx, hb, hml, hown, hts⟩ := id X
  have hm9 : 0 ≤ nc ∧ 0 ≤ ns := ⟨Nat.zero_le _, Nat.zero_le _⟩
  refine lv_aload_n hx hb dX1_slice_0 rfl (lv_at hl 0 rfl) ?_
  refine lv_aload_n hx hb dX1_slice_1 rfl (lv_at hl 0 rfl) ?_
  refine lv_iload_n hx hb dX1_slice_2 rfl (lv_at hl 1 rfl) ?_
  obtain ⟨r_1, h_1, hq⟩ := ww_bS hf; replace hf := hq; clear hq
  refine c1c_1_isMap X hl.1 hK hR hS (Nat.le_trans (Nat.le_of_ble_eq_true rfl) hF) (Nat.le_trans (Nat.le_of_ble_eq_true rfl) hLo) (Nat.le_trans hm9.1 hC.1) (Nat.le_trans hm9.2 hC.2) h_1 (cw_rest (Nat.le_of_ble_eq_true rfl)) dX1_slice_3 (fun H locs hR hS => ?_)
  have hj_1 : ∀ (t1 : Int32), f1_slice_j1 D 0 0 x1 x2 x3 t1 = some (r, D', nc, ns) → (0 ≤ nc ∧ 0 ≤ ns) ∧ (∀ (H : Heap) (locs : List Loc) (ls : Array Slot), cw_H E A D H → va_S A s.heap H locs → lv_has ls 4 [(0, .ref E.1.1), (1, .int x1), (2, .int x2), (3, .int x3)] → W p l e Rm s m args below meth c H locs 0 0 Q (F0 m 48 ls [.int t1, .ref E.1.1])) := by
    clear hf
    intro t1 hf
    unfold f1_slice_j1 at hf
    have hm9 : 0 ≤ nc ∧ 0 ≤ ns := by
      obtain ⟨r_2, D_2, h_2, hq⟩ := ww_b2S hf; replace hf := hq; clear hq
      refine ww_by (r_2 = 0) (fun c_3 => ?_) (fun c_3 => ?_)
      · replace hf := ww_ip hf c_3
        obtain ⟨r_4, h_4, hq⟩ := ww_bS hf; replace hf := hq; clear hq
        obtain ⟨D_5, h_5, hq⟩ := ww_bS hf; replace hf := hq; clear hq
        obtain ⟨D_6, c_6, k_6, h_6, hq⟩ := ww_b3S hf; replace hf := hq; clear hq
        obtain ⟨D_7, c_7, k_7, h_7, hq⟩ := ww_b3S hf; replace hf := hq; clear hq
        obtain ⟨D_8, c_8, k_8, h_8, hq⟩ := ww_b3S hf; replace hf := hq; clear hq
        obtain ⟨r_9, h_9, hq⟩ := ww_bS hf; replace hf := hq; clear hq
        obtain ⟨r_10, D_10, h_10, hq⟩ := ww_b2S hf; replace hf := hq; clear hq
        have e9 := hf
        simp only [Option.some.injEq, Prod.mk.injEq] at e9
        omega
      · replace hf := ww_in hf c_3
        have e9 := hf
        simp only [Option.some.injEq, Prod.mk.injEq] at e9
        omega
    refine ⟨hm9, ?_⟩
    try clear hl
    try clear hS
    try clear hR
    intro H locs ls hR hS hl
    obtain ⟨r_2, D_2, h_2, hq⟩ := ww_b2S hf; replace hf := hq; clear hq
    refine c1c_1_isRefused X hl.1 hK hR hS (Nat.le_trans (Nat.le_of_ble_eq_true rfl) hF) (Nat.le_trans (Nat.le_of_ble_eq_true rfl) hLo) (Nat.le_trans hm9.1 hC.1) (Nat.le_trans hm9.2 hC.2) h_2 (cw_rest (Nat.le_of_ble_eq_true rfl)) dX1_slice_48 (fun H locs hR hS => ?_)
    refine lv_if_eq (tgt := 56) hx hb dX1_slice_51 (by decide) (fun c_3 => ?_) (fun c_3 => ?_)
    · replace hf := ww_ip hf c_3
      refine lv_aload_n hx hb dX1_slice_56 rfl (lv_at hl 0 rfl) ?_
      refine lv_aload_n hx hb dX1_slice_57 rfl (lv_at hl 0 rfl) ?_
      refine lv_iload_n hx hb dX1_slice_58 rfl (lv_at hl 1 rfl) ?_
      obtain ⟨r_4, h_4, hq⟩ := ww_bS hf; replace hf := hq; clear hq
      refine c1c_1_rootOf X hl.1 hK hR hS (Nat.le_trans (Nat.le_of_ble_eq_true rfl) hF) (Nat.le_trans (Nat.le_of_ble_eq_true rfl) hLo) (Nat.le_trans hm9.1 hC.1) (Nat.le_trans hm9.2 hC.2) h_4 (cw_rest (Nat.le_of_ble_eq_true rfl)) dX1_slice_59 (fun H locs hR hS => ?_)
      have hm9 : (0 + 1) ≤ nc ∧ (0 + 1) ≤ ns := by
        obtain ⟨D_5, h_5, hq⟩ := ww_bS hf; replace hf := hq; clear hq
        obtain ⟨D_6, c_6, k_6, h_6, hq⟩ := ww_b3S hf; replace hf := hq; clear hq
        obtain ⟨D_7, c_7, k_7, h_7, hq⟩ := ww_b3S hf; replace hf := hq; clear hq
        obtain ⟨D_8, c_8, k_8, h_8, hq⟩ := ww_b3S hf; replace hf := hq; clear hq
        obtain ⟨r_9, h_9, hq⟩ := ww_bS hf; replace hf := hq; clear hq
        obtain ⟨r_10, D_10, h_10, hq⟩ := ww_b2S hf; replace hf := hq; clear hq
        have e9 := hf
        simp only [Option.some.injEq, Prod.mk.injEq] at e9
        omega
      refine cw_onew (ci := 0) (C := RX4) (T := TX4) (N := 1) rfl (by decide) in_X4 tyX4 tyX4_ok rfl X hK hR hS q234 q817 q151 (Nat.le_trans hm9.1 hC.1) (Nat.le_trans hm9.2 hC.2) dX1_slice_62 (fun H hR hS => ?_)
      refine lv_dup hx hb dX1_slice_65 rfl ?_
      refine lv_aload_n hx hb dX1_slice_66 rfl (lv_at hl 0 rfl) ?_
      obtain ⟨D_5, h_5, hq⟩ := ww_bS hf; replace hf := hq; clear hq
      rw [show ww_R (cw_nO D_2 0).1 99 = some E.1.1 from cw_this hK hR] at h_5
      refine c1c_4_init (x1 := (some E.1.1)) X hl.1 hK hR hS (Nat.le_trans (Nat.le_of_ble_eq_true rfl) hF) (Nat.le_trans (Nat.le_of_ble_eq_true rfl) hLo) (Nat.le_trans hm9.1 hC.1) (Nat.le_trans hm9.2 hC.2) h_5 (cw_rest (Nat.le_of_ble_eq_true rfl)) dX1_slice_67 (fun H locs hR hS => ?_)
      obtain ⟨D_6, c_6, k_6, h_6, hq⟩ := ww_b3S hf; replace hf := hq; clear hq
      have hm9 : ((0 + 1) + c_6) ≤ nc ∧ ((0 + 1) + k_6) ≤ ns := by
        obtain ⟨D_7, c_7, k_7, h_7, hq⟩ := ww_b3S hf; replace hf := hq; clear hq
        obtain ⟨D_8, c_8, k_8, h_8, hq⟩ := ww_b3S hf; replace hf := hq; clear hq
        obtain ⟨r_9, h_9, hq⟩ := ww_bS hf; replace hf := hq; clear hq
        obtain ⟨r_10, D_10, h_10, hq⟩ := ww_b2S hf; replace hf := hq; clear hq
        have e9 := hf
        simp only [Option.some.injEq, Prod.mk.injEq] at e9
        omega
      refine c1c_1_work (x1 := r_4) (x2 := (some D_2.2.2)) X hl.1 hK hR hS (Nat.le_trans (Nat.le_of_ble_eq_true rfl) hF) (Nat.le_trans (Nat.le_of_ble_eq_true rfl) hLo) (Nat.le_trans hm9.1 hC.1) (Nat.le_trans hm9.2 hC.2) h_6 (cw_rest (Nat.le_of_ble_eq_true rfl)) dX1_slice_70 (fun H locs hR hS => ?_)
      refine lv_aload_n hx hb dX1_slice_73 rfl (lv_at hl 0 rfl) ?_
      refine lv_iconst (v := (0 : Int32)) hx hb dX1_slice_74 (by decide) ?_
      refine lv_iload_n hx hb dX1_slice_75 rfl (lv_at hl 2 rfl) ?_
      refine lv_iconst (v := (1 : Int32)) hx hb dX1_slice_76 (by decide) ?_
      refine lv_isub hx hb dX1_slice_77 ?_
      obtain ⟨D_7, c_7, k_7, h_7, hq⟩ := ww_b3S hf; replace hf := hq; clear hq
      have hm9 : (((0 + 1) + c_6) + c_7) ≤ nc ∧ (((0 + 1) + k_6) + k_7) ≤ ns := by
        obtain ⟨D_8, c_8, k_8, h_8, hq⟩ := ww_b3S hf; replace hf := hq; clear hq
        obtain ⟨r_9, h_9, hq⟩ := ww_bS hf; replace hf := hq; clear hq
        obtain ⟨r_10, D_10, h_10, hq⟩ := ww_b2S hf; replace hf := hq; clear hq
        have e9 := hf
        simp only [Option.some.injEq, Prod.mk.injEq] at e9
        omega
      refine c1c_1_cutNow X hl.1 hK hR hS (Nat.le_trans (Nat.le_of_ble_eq_true rfl) hF) (Nat.le_trans (Nat.le_of_ble_eq_true rfl) hLo) (Nat.le_trans hm9.1 hC.1) (Nat.le_trans hm9.2 hC.2) h_7 (cw_rest (Nat.le_of_ble_eq_true rfl)) dX1_slice_78 (fun H locs hR hS => ?_)
      refine lv_aload_n hx hb dX1_slice_81 rfl (lv_at hl 0 rfl) ?_
      refine lv_iload_n hx hb dX1_slice_82 rfl (lv_at hl 3 rfl) ?_
      refine lv_iconst (v := (1 : Int32)) hx hb dX1_slice_83 (by decide) ?_
      refine lv_iadd hx hb dX1_slice_84 ?_
      refine lv_sipush (v := (999 : Int32)) hx hb dX1_slice_85 (by decide) ?_
      obtain ⟨D_8, c_8, k_8, h_8, hq⟩ := ww_b3S hf; replace hf := hq; clear hq
      have hm9 : ((((0 + 1) + c_6) + c_7) + c_8) ≤ nc ∧ ((((0 + 1) + k_6) + k_7) + k_8) ≤ ns := by
        obtain ⟨r_9, h_9, hq⟩ := ww_bS hf; replace hf := hq; clear hq
        obtain ⟨r_10, D_10, h_10, hq⟩ := ww_b2S hf; replace hf := hq; clear hq
        have e9 := hf
        simp only [Option.some.injEq, Prod.mk.injEq] at e9
        omega
      refine c1c_1_cutNow X hl.1 hK hR hS (Nat.le_trans (Nat.le_of_ble_eq_true rfl) hF) (Nat.le_trans (Nat.le_of_ble_eq_true rfl) hLo) (Nat.le_trans hm9.1 hC.1) (Nat.le_trans hm9.2 hC.2) h_8 (cw_rest (Nat.le_of_ble_eq_true rfl)) dX1_slice_88 (fun H locs hR hS => ?_)
      refine lv_aload_n hx hb dX1_slice_91 rfl (lv_at hl 0 rfl) ?_
      refine lv_aload_n hx hb dX1_slice_92 rfl (lv_at hl 0 rfl) ?_
      obtain ⟨r_9, h_9, hq⟩ := ww_bS hf; replace hf := hq; clear hq
      refine c1g_226 X hK hR h_9 dX1_slice_93 ?_
      refine lv_iload_n hx hb dX1_slice_96 rfl (lv_at hl 1 rfl) ?_
      refine lv_iconst (v := (-1 : Int32)) hx hb dX1_slice_97 (by decide) ?_
      obtain ⟨r_10, D_10, h_10, hq⟩ := ww_b2S hf; replace hf := hq; clear hq
      refine c1c_1_holds (x1 := r_9) X hl.1 hK hR hS (Nat.le_trans (Nat.le_of_ble_eq_true rfl) hF) (Nat.le_trans (Nat.le_of_ble_eq_true rfl) hLo) (Nat.le_trans hm9.1 hC.1) (Nat.le_trans hm9.2 hC.2) h_10 (cw_rest (Nat.le_of_ble_eq_true rfl)) dX1_slice_98 (fun H locs hR hS => ?_)
      exact hend dX1_slice_101 rfl rfl hf hR hS
    · replace hf := ww_in hf c_3
      refine lv_iconst (v := (-1 : Int32)) hx hb dX1_slice_54 (by decide) ?_
      exact hend dX1_slice_55 rfl rfl hf hR hS
  refine lv_if_ne (tgt := 13) hx hb dX1_slice_6 (by decide) (fun c_11 => ?_) (fun c_11 => ?_)
  · replace hf := ww_in hf c_11
    refine lv_iload_n hx hb dX1_slice_13 rfl (lv_at hl 2 rfl) ?_
    obtain ⟨r_12, h_12, hq⟩ := ww_bS hf; replace hf := hq; clear hq
    refine c1c_1_isKey X hl.1 (Nat.le_trans (Nat.le_of_ble_eq_true rfl) hF) (Nat.le_trans (Nat.le_of_ble_eq_true rfl) hLo) (Nat.le_trans hm9.1 hC.1) (Nat.le_trans hm9.2 hC.2) h_12 (cw_rest (Nat.le_of_ble_eq_true rfl)) dX1_slice_14 ?_
    refine lv_if_eq (tgt := 32) hx hb dX1_slice_17 (by decide) (fun c_13 => ?_) (fun c_13 => ?_)
    · replace hf := ww_ip hf c_13
      refine lv_iconst (v := (1 : Int32)) hx hb dX1_slice_32 (by decide) ?_
      refine lv_goto (tgt := 48) hx hb dX1_slice_33 (by decide) ?_
      exact (hj_1 (1 : Int32) hf).2 _ _ _ hR hS hl
    · replace hf := ww_in hf c_13
      refine lv_iload_n hx hb dX1_slice_20 rfl (lv_at hl 3 rfl) ?_
      obtain ⟨r_14, h_14, hq⟩ := ww_bS hf; replace hf := hq; clear hq
      refine c1c_1_isKey X hl.1 (Nat.le_trans (Nat.le_of_ble_eq_true rfl) hF) (Nat.le_trans (Nat.le_of_ble_eq_true rfl) hLo) (Nat.le_trans hm9.1 hC.1) (Nat.le_trans hm9.2 hC.2) h_14 (cw_rest (Nat.le_of_ble_eq_true rfl)) dX1_slice_21 ?_
      refine lv_if_eq (tgt := 32) hx hb dX1_slice_24 (by decide) (fun c_15 => ?_) (fun c_15 => ?_)
      · replace hf := ww_ip hf c_15
        refine lv_iconst (v := (1 : Int32)) hx hb dX1_slice_32 (by decide) ?_
        refine lv_goto (tgt := 48) hx hb dX1_slice_33 (by decide) ?_
        exact (hj_1 (1 : Int32) hf).2 _ _ _ hR hS hl
      · replace hf := ww_in hf c_15
        refine lv_iload_n hx hb dX1_slice_27 rfl (lv_at hl 2 rfl) ?_
        refine lv_iload_n hx hb dX1_slice_28 rfl (lv_at hl 3 rfl) ?_
        refine lv_icmp_le (tgt := 36) hx hb dX1_slice_29 (by decide) (fun c_16 => ?_) (fun c_16 => ?_)
        · replace hf := ww_ip hf c_16
          refine lv_aload_n hx hb dX1_slice_36 rfl (lv_at hl 0 rfl) ?_
          obtain ⟨r_17, h_17, hq⟩ := ww_bS hf; replace hf := hq; clear hq
          refine c1c_1_isRoom X hl.1 hK hR hS (Nat.le_trans (Nat.le_of_ble_eq_true rfl) hF) (Nat.le_trans (Nat.le_of_ble_eq_true rfl) hLo) (Nat.le_trans hm9.1 hC.1) (Nat.le_trans hm9.2 hC.2) h_17 (cw_rest (Nat.le_of_ble_eq_true rfl)) dX1_slice_37 (fun H locs hR hS => ?_)
          refine lv_if_ne (tgt := 47) hx hb dX1_slice_40 (by decide) (fun c_18 => ?_) (fun c_18 => ?_)
          · replace hf := ww_in hf c_18
            refine lv_iconst (v := (-1 : Int32)) hx hb dX1_slice_47 (by decide) ?_
            exact (hj_1 (-1 : Int32) hf).2 _ _ _ hR hS hl
          · replace hf := ww_ip hf c_18
            refine lv_iconst (v := (4 : Int32)) hx hb dX1_slice_43 (by decide) ?_
            refine lv_goto (tgt := 48) hx hb dX1_slice_44 (by decide) ?_
            exact (hj_1 (4 : Int32) hf).2 _ _ _ hR hS hl
        · replace hf := ww_in hf c_16
          refine lv_iconst (v := (1 : Int32)) hx hb dX1_slice_32 (by decide) ?_
          refine lv_goto (tgt := 48) hx hb dX1_slice_33 (by decide) ?_
          exact (hj_1 (1 : Int32) hf).2 _ _ _ hR hS hl
  · replace hf := ww_ip hf c_11
    refine lv_iconst (v := (0 : Int32)) hx hb dX1_slice_9 (by decide) ?_
    refine lv_goto (tgt := 48) hx hb dX1_slice_10 (by decide) ?_
    exact (hj_1 (0 : Int32) hf).2 _ _ _ hR hS hl
noncomputable def f1_drop_b1c (D_5 : cw_D) (x2 : Int32) : Option ((cw_D × Int32) ⊕ (Int32 × cw_D)) :=
  if ((ww_F D_5.1 14) - (1 : Int32)) ≤ x2 then ww_x (ww_g (ww_i (ww_F (cw_sF D_5 14 ((ww_F D_5.1 14) - (1 : Int32))).1 14) 16) (ww_g (cw_kd (cw_sF D_5 14 ((ww_F D_5.1 14) - (1 : Int32))) [1, 2] none) (some ((ww_F (cw_sY (cw_sF D_5 14 ((ww_F D_5.1 14) - (1 : Int32))) 12 (ww_F (cw_sF D_5 14 ((ww_F D_5.1 14) - (1 : Int32))).1 14) none).1 14), (cw_sY (cw_sF D_5 14 ((ww_F D_5.1 14) - (1 : Int32))) 12 (ww_F (cw_sF D_5 14 ((ww_F D_5.1 14) - (1 : Int32))).1 14) none))))) else ww_g (ww_i (x2 + (1 : Int32)) 16) (ww_g (ww_i x2 16) (ww_g (ww_i (x2 + (1 : Int32)) 16) (ww_b (some (ww_Y (cw_sX D_5 10 x2 (ww_X D_5.1 10 (x2 + (1 : Int32)))).1 12 (x2 + (1 : Int32)))) (fun r_11 => ww_g (ww_i x2 16) (ww_g (cw_kd (cw_sX D_5 10 x2 (ww_X D_5.1 10 (x2 + (1 : Int32)))) [1, 2] r_11) (some (.inl ((cw_sY (cw_sX D_5 10 x2 (ww_X D_5.1 10 (x2 + (1 : Int32)))) 12 x2 r_11), (x2 + (1 : Int32))))))))))
noncomputable def f1_drop_b1 : (cw_D × Int32) → Option ((cw_D × Int32) ⊕ (Int32 × cw_D)) := fun s9 => f1_drop_b1c s9.1 s9.2
noncomputable def f1_drop_j1 (D : cw_D) (y1 : Int32) (t1 : Int32) : Option (Int32 × cw_D) :=
  ww_b2 (f1_isRefused D t1) (fun r_2 D_2 => if r_2 = 0 then ww_b (f1_placeOf D_2 y1) (fun r_4 => ww_U (f1_drop_b1) (D_2, r_4)) else some ((-1 : Int32), D_2))
noncomputable def f1_drop (D : cw_D) (x1 : Int32) : Option (Int32 × cw_D) :=
  ww_b (f1_isMap D x1) (fun r_1 => if r_1 = 0 then f1_drop_j1 D x1 (0 : Int32) else f1_drop_j1 D x1 (-1 : Int32))
set_option maxHeartbeats 4000000 in
set_option maxRecDepth 100000 in
theorem met1_drop (l : Launch) {E : cw_E} {A : Nat → Prop} (D : cw_D) (x1 : Int32) (r : Int32) (D' : cw_D) (hf : f1_drop D x1 = some (r, D')) : cw_MetI l yX1_drop cX1_drop 3 (some Jvm.ClassFile.FieldType.int) 2 43 E A [.ref E.1.1, .int x1] D D' r 0 0 := by
  unfold f1_drop at hf
  refine cw_sID (own := RX1) (by decide +kernel) [(0, .ref E.1.1), (1, .int x1)] ⟨Nat.le_of_ble_eq_true rfl, rfl⟩ ?_
  intro p e s m args below meth c Rm Q X hK hF hLo hin hend ls hl hR hS
  obtain ⟨hx, hb, hml, hown, hts⟩ := id X
  refine lv_aload_n hx hb dX1_drop_0 rfl (lv_at hl 0 rfl) ?_
  refine lv_aload_n hx hb dX1_drop_1 rfl (lv_at hl 0 rfl) ?_
  refine lv_iload_n hx hb dX1_drop_2 rfl (lv_at hl 1 rfl) ?_
  obtain ⟨r_1, h_1, hq⟩ := ww_bS hf; replace hf := hq; clear hq
  refine c1c_1_isMap X hl.1 hK hR hS (Nat.le_trans (Nat.le_of_ble_eq_true rfl) hF) (Nat.le_trans (Nat.le_of_ble_eq_true rfl) hLo) (Nat.zero_le _) (Nat.zero_le _) h_1 (cw_rest (Nat.le_of_ble_eq_true rfl)) dX1_drop_3 (fun H locs hR hS => ?_)
  have hj_1 : ∀ (t1 : Int32), f1_drop_j1 D x1 t1 = some (r, D') → ∀ (H : Heap) (locs : List Loc) (ls : Array Slot), cw_H E A D H → va_S A s.heap H locs → lv_has ls 3 [(0, .ref E.1.1), (1, .int x1)] → W p l e Rm s m args below meth c H locs 0 0 Q (F0 m 14 ls [.int t1, .ref E.1.1]) := by
    clear hf
    intro t1 hf
    unfold f1_drop_j1 at hf
    try clear hl
    try clear hS
    try clear hR
    intro H locs ls hR hS hl
    obtain ⟨r_2, D_2, h_2, hq⟩ := ww_b2S hf; replace hf := hq; clear hq
    refine c1c_1_isRefused X hl.1 hK hR hS (Nat.le_trans (Nat.le_of_ble_eq_true rfl) hF) (Nat.le_trans (Nat.le_of_ble_eq_true rfl) hLo) (Nat.zero_le _) (Nat.zero_le _) h_2 (cw_rest (Nat.le_of_ble_eq_true rfl)) dX1_drop_14 (fun H locs hR hS => ?_)
    refine lv_if_eq (tgt := 22) hx hb dX1_drop_17 (by decide) (fun c_3 => ?_) (fun c_3 => ?_)
    · replace hf := ww_ip hf c_3
      refine lv_aload_n hx hb dX1_drop_22 rfl (lv_at hl 0 rfl) ?_
      refine lv_iload_n hx hb dX1_drop_23 rfl (lv_at hl 1 rfl) ?_
      obtain ⟨r_4, h_4, hq⟩ := ww_bS hf; replace hf := hq; clear hq
      refine c1c_1_placeOf X hl.1 hK hR hS (Nat.le_trans (Nat.le_of_ble_eq_true rfl) hF) (Nat.le_trans (Nat.le_of_ble_eq_true rfl) hLo) (Nat.zero_le _) (Nat.zero_le _) h_4 (cw_rest (Nat.le_of_ble_eq_true rfl)) dX1_drop_24 (fun H locs hR hS => ?_)
      refine lv_istore_n (lv' := [(2, .int r_4), (0, .ref E.1.1), (1, .int x1)]) hx hb dX1_drop_27 rfl hl (by decide) rfl (fun ls hl => ?_)
      have hL_1 : ∀ s9 : cw_D × Int32, ww_U (f1_drop_b1) s9 = some (r, D') → ∀ (H : Heap) (locs : List Loc) (ls : Array Slot), cw_H E A s9.1 H → va_S A s.heap H locs → lv_has ls 3 [(0, .ref E.1.1), (2, .int s9.2)] → W p l e Rm s m args below meth c H locs 0 0 Q (F0 m 28 ls []) := by
        clear hf
        refine ww_ind _ (r, D') ?_
        intro s9 z_1 hf hz_1
        obtain ⟨D_5, x2⟩ := s9
        replace hf : f1_drop_b1c D_5 x2 = some z_1 := hf
        unfold f1_drop_b1c at hf
        try clear hl
        try clear hS
        try clear hR
        intro H locs ls hR hS hl
        replace hR : cw_H E A D_5 H := hR
        replace hl : lv_has ls 3 [(0, .ref E.1.1), (2, .int x2)] := hl
        refine lv_iload_n hx hb dX1_drop_28 rfl (lv_at hl 1 rfl) ?_
        refine lv_aload_n hx hb dX1_drop_29 rfl (lv_at hl 0 rfl) ?_
        refine c1g_240 X hK hR dX1_drop_30 ?_
        refine lv_iconst (v := (1 : Int32)) hx hb dX1_drop_33 (by decide) ?_
        refine lv_isub hx hb dX1_drop_34 ?_
        refine lv_icmp_ge (tgt := 72) hx hb dX1_drop_35 (by decide) (fun c_6 => ?_) (fun c_6 => ?_)
        · replace hf := ww_ip hf c_6
          replace hf := ww_xK hf hz_1
          refine lv_aload_n hx hb dX1_drop_72 rfl (lv_at hl 0 rfl) ?_
          refine lv_dup hx hb dX1_drop_73 rfl ?_
          refine c1g_240 X hK hR dX1_drop_74 ?_
          refine lv_iconst (v := (1 : Int32)) hx hb dX1_drop_77 (by decide) ?_
          refine lv_isub hx hb dX1_drop_78 ?_
          refine c1p_240 X hK hR hS dX1_drop_79 (fun H locs hR hS => ?_)
          refine lv_aload_n hx hb dX1_drop_82 rfl (lv_at hl 0 rfl) ?_
          refine c1g_65 X hK hR dX1_drop_83 ?_
          refine lv_aload_n hx hb dX1_drop_86 rfl (lv_at hl 0 rfl) ?_
          refine c1g_240 X hK hR dX1_drop_87 ?_
          refine lv_null hx hb dX1_drop_90 ?_
          obtain ⟨h_7, hq⟩ := ww_gS hf; replace hf := hq; clear hq
          obtain ⟨h_8, hq⟩ := ww_gS hf; replace hf := hq; clear hq
          refine c1s_12 (x := none) X hK hR hS h_7 h_8 dX1_drop_91 (fun H locs hR hS => ?_)
          refine lv_aload_n hx hb dX1_drop_92 rfl (lv_at hl 0 rfl) ?_
          refine c1g_240 X hK hR dX1_drop_93 ?_
          exact hend dX1_drop_96 rfl rfl hf hR hS
        · replace hf := ww_in hf c_6
          refine lv_aload_n hx hb dX1_drop_38 rfl (lv_at hl 0 rfl) ?_
          refine c1g_57 X hK hR dX1_drop_39 ?_
          refine lv_iload_n hx hb dX1_drop_42 rfl (lv_at hl 1 rfl) ?_
          refine lv_aload_n hx hb dX1_drop_43 rfl (lv_at hl 0 rfl) ?_
          refine c1g_57 X hK hR dX1_drop_44 ?_
          refine lv_iload_n hx hb dX1_drop_47 rfl (lv_at hl 1 rfl) ?_
          refine lv_iconst (v := (1 : Int32)) hx hb dX1_drop_48 (by decide) ?_
          refine lv_iadd hx hb dX1_drop_49 ?_
          obtain ⟨h_9, hq⟩ := ww_gS hf; replace hf := hq; clear hq
          refine c1l_10 X hK hR h_9 dX1_drop_50 ?_
          obtain ⟨h_10, hq⟩ := ww_gS hf; replace hf := hq; clear hq
          refine c1s_10 X hK hR hS h_10 dX1_drop_51 (fun H locs hR hS => ?_)
          refine lv_aload_n hx hb dX1_drop_52 rfl (lv_at hl 0 rfl) ?_
          refine c1g_65 X hK hR dX1_drop_53 ?_
          refine lv_iload_n hx hb dX1_drop_56 rfl (lv_at hl 1 rfl) ?_
          refine lv_aload_n hx hb dX1_drop_57 rfl (lv_at hl 0 rfl) ?_
          refine c1g_65 X hK hR dX1_drop_58 ?_
          refine lv_iload_n hx hb dX1_drop_61 rfl (lv_at hl 1 rfl) ?_
          refine lv_iconst (v := (1 : Int32)) hx hb dX1_drop_62 (by decide) ?_
          refine lv_iadd hx hb dX1_drop_63 ?_
          obtain ⟨h_12, hq⟩ := ww_gS hf; replace hf := hq; clear hq
          obtain ⟨r_11, h_11, hq⟩ := ww_bS hf; replace hf := hq; clear hq
          refine c1l_12 X hK hR h_12 h_11 dX1_drop_64 ?_
          obtain ⟨h_13, hq⟩ := ww_gS hf; replace hf := hq; clear hq
          obtain ⟨h_14, hq⟩ := ww_gS hf; replace hf := hq; clear hq
          refine c1s_12 (x := r_11) X hK hR hS h_13 h_14 dX1_drop_65 (fun H locs hR hS => ?_)
          refine lv_iinc (k := 1) (v := x2 + (1 : Int32)) (lv' := [(2, .int (x2 + (1 : Int32))), (0, .ref E.1.1)]) hx hb dX1_drop_66 hl rfl rfl (by decide) rfl (fun ls hl => ?_)
          refine lv_goto (tgt := 28) hx hb dX1_drop_69 (by decide) ?_
          exact ww_lK hf hz_1 _ _ _ hR hS (lv_sub hl [1, 0] rfl)
      exact hL_1 (D_2, r_4) hf _ _ _ hR hS (lv_sub hl [1, 0] rfl)
    · replace hf := ww_in hf c_3
      refine lv_iconst (v := (-1 : Int32)) hx hb dX1_drop_20 (by decide) ?_
      exact hend dX1_drop_21 rfl rfl hf hR hS
  refine lv_if_eq (tgt := 13) hx hb dX1_drop_6 (by decide) (fun c_15 => ?_) (fun c_15 => ?_)
  · replace hf := ww_ip hf c_15
    refine lv_iconst (v := (0 : Int32)) hx hb dX1_drop_13 (by decide) ?_
    exact hj_1 (0 : Int32) hf _ _ _ hR hS hl
  · replace hf := ww_in hf c_15
    refine lv_iconst (v := (-1 : Int32)) hx hb dX1_drop_9 (by decide) ?_
    refine lv_goto (tgt := 14) hx hb dX1_drop_10 (by decide) ?_
    exact hj_1 (-1 : Int32) hf _ _ _ hR hS hl
noncomputable def f1_isBuilder (D : cw_D) (x1 : Int32) : Option (Int32) :=
  ww_b (f1_in x1 (0 : Int32) (3 : Int32)) (fun r_1 => ww_g (ww_z r_1) (some r_1))
section C_1_isBuilder_k
variable {p : Program} {l : Launch} {e : Env} {R : Room} {s : State} {m : MethodId} {args : Array Value} {below : List Frame} {meth : Method} {c : Code} {H : Heap} {locs : List Loc} {cells slots : Nat} {Q : State → Prop}
variable {cc : ByteArray} {pc : Nat} {ls : Array Slot} {rest : List Value} {nL : Nat} {E : cw_E} {A : Nat → Prop} {H0 : Heap}
theorem c1k_1_isBuilder {D : cw_D} {x1 : Int32} {r : Int32} (X : ww_C p m c cc nL s args RX1 lw_all) (hsz : ls.size = nL) (hK : cw_K E A s) (hR : cw_H E A D H) (hS : va_S A s.heap H locs) (hF : 2 ≤ R.frames) (hLo : 43 ≤ R.locals) (hc : cells ≤ R.cells) (hs : slots ≤ R.slots) (hM : cw_MetI l yX1_isBuilder cX1_isBuilder 2 (some Jvm.ClassFile.FieldType.boolean) 1 22 E A [.ref E.1.1, .int x1] D D r 0 0) (hrest : (rest.map fun v => v.category).sum ≤ 8) (hdg : decode cc pc = .ok (.invokevirtual 416, 3)) (kk : ∀ (H1 : Heap) (locs1 : List Loc), cw_H E A D H1 → va_S A s.heap H1 locs1 → W p l e R s m args below meth c H1 locs1 cells slots Q (F0 m (pc + 3) ls (.int r :: rest))) : W p l e R s m args below meth c H locs cells slots Q (F0 m pc ls (.int x1 :: .ref E.1.1 :: rest)) :=
  va_calli (va_runV (C := RX1) (As := [.int x1]) (rest := rest) (b := E.1.1) X hM (cwV 1 X.2.2.2.2 (lw_V q1368 q1370 qs43 q131 q1371) rfl rfl rfl (by decide +kernel) ⟨hF, hLo⟩) (cw_pV hK hR hS (cw_rcM hK hR)) rfl rfl hsz rfl (lv_room hrest) hdg ⟨hc, hs⟩) hS (fun q _ h => h) (fun q h => h) (fun r' u t H1 locs1 ht hvm hw hB hz1 hk1 hS1 => by subst hw; rw [ht] at hB; exact kk H1 locs1 hB hS1)
end C_1_isBuilder_k
set_option maxHeartbeats 4000000 in
set_option maxRecDepth 100000 in
theorem met1_isBuilder (l : Launch) {E : cw_E} {A : Nat → Prop} (D : cw_D) (x1 : Int32) (r : Int32) (hf : f1_isBuilder D x1 = some r) : cw_MetI l yX1_isBuilder cX1_isBuilder 2 (some Jvm.ClassFile.FieldType.boolean) 1 22 E A [.ref E.1.1, .int x1] D D r 0 0 := by
  unfold f1_isBuilder at hf
  refine cw_sIP (own := RX1) (by decide +kernel) [(0, .ref E.1.1), (1, .int x1)] ⟨Nat.le_of_ble_eq_true rfl, rfl⟩ ?_
  intro p e s m args below meth c Rm Q X hK hF hLo hin hend ls hl hR hS
  obtain ⟨hx, hb, hml, hown, hts⟩ := id X
  refine lv_iload_n hx hb dX1_isBuilder_0 rfl (lv_at hl 1 rfl) ?_
  refine lv_iconst (v := (0 : Int32)) hx hb dX1_isBuilder_1 (by decide) ?_
  refine lv_iconst (v := (3 : Int32)) hx hb dX1_isBuilder_2 (by decide) ?_
  obtain ⟨r_1, h_1, hq⟩ := ww_bS hf; replace hf := hq; clear hq
  refine c1c_1_in X hl.1 (Nat.le_trans (Nat.le_of_ble_eq_true rfl) hF) (Nat.le_trans (Nat.le_of_ble_eq_true rfl) hLo) (Nat.zero_le _) (Nat.zero_le _) h_1 (cw_rest (Nat.le_of_ble_eq_true rfl)) dX1_isBuilder_3 ?_
  obtain ⟨h_2, hq⟩ := ww_gS hf; replace hf := hq; clear hq
  exact hend dX1_isBuilder_6 rfl (ww_zn h_2) hf hR hS
section C_1_isBuilder_c
variable {p : Program} {l : Launch} {e : Env} {R : Room} {s : State} {m : MethodId} {args : Array Value} {below : List Frame} {meth : Method} {c : Code} {H : Heap} {locs : List Loc} {cells slots : Nat} {Q : State → Prop}
variable {cc : ByteArray} {pc : Nat} {ls : Array Slot} {rest : List Value} {nL : Nat} {E : cw_E} {A : Nat → Prop} {H0 : Heap}
theorem c1c_1_isBuilder {D : cw_D} {x1 : Int32} {r : Int32} (X : ww_C p m c cc nL s args RX1 lw_all) (hsz : ls.size = nL) (hK : cw_K E A s) (hR : cw_H E A D H) (hS : va_S A s.heap H locs) (hF : 2 ≤ R.frames) (hLo : 43 ≤ R.locals) (hc : cells ≤ R.cells) (hs : slots ≤ R.slots) (hf : f1_isBuilder D x1 = some r) (hrest : (rest.map fun v => v.category).sum ≤ 8) (hdg : decode cc pc = .ok (.invokevirtual 416, 3)) (kk : ∀ (H1 : Heap) (locs1 : List Loc), cw_H E A D H1 → va_S A s.heap H1 locs1 → W p l e R s m args below meth c H1 locs1 cells slots Q (F0 m (pc + 3) ls (.int r :: rest))) : W p l e R s m args below meth c H locs cells slots Q (F0 m pc ls (.int x1 :: .ref E.1.1 :: rest)) :=
  c1k_1_isBuilder X hsz hK hR hS hF hLo hc hs (met1_isBuilder l _ _ _ hf) hrest hdg kk
end C_1_isBuilder_c
noncomputable def f1_build_j1 (D : cw_D) (cf : Nat) (kf : Nat) (y1 : Int32) (y2 : Int32) (t1 : Int32) : Option (Int32 × cw_D × Nat × Nat) :=
  ww_b2 (f1_isRefused D t1) (fun r_2 D_2 => if r_2 = 0 then ww_b (f1_rootOf D_2 y2) (fun r_4 => ww_g (ww_i y1 4) (ww_g (cw_kd D_2 [1, 2] r_4) (ww_b (f4_init (cw_nO (cw_sY D_2 24 y1 r_4) 0) ((cw_sY D_2 24 y1 r_4).2.2) (ww_R (cw_nO (cw_sY D_2 24 y1 r_4) 0).1 99)) (fun D_7 => ww_g (ww_i y1 4) (ww_g (cw_kd D_7 [0] (some ((cw_sY D_2 24 y1 r_4).2.2))) (ww_g (ww_i y1 4) (ww_g (ww_i y1 4) (ww_b (some (ww_Y (cw_sX (cw_sY D_7 25 y1 (some ((cw_sY D_2 24 y1 r_4).2.2))) 26 y1 y2).1 24 y1)) (fun r_11 => ww_b r_11 (fun a_13 => ww_g (cw_kd (cw_sX (cw_sY D_7 25 y1 (some ((cw_sY D_2 24 y1 r_4).2.2))) 26 y1 y2) [1, 2] (some a_13)) (ww_b2 (f5_counts 8 (cw_sX (cw_sY D_7 25 y1 (some ((cw_sY D_2 24 y1 r_4).2.2))) 26 y1 y2) a_13 (0 : Int32) (0 : Int32) none) (fun r_15 D_15 => some (r_15, D_15, (cf + 1), (kf + 1)))))))))))))) else some ((-1 : Int32), D_2, cf, kf))
noncomputable def f1_build (D : cw_D) (x1 : Int32) (x2 : Int32) : Option (Int32 × cw_D × Nat × Nat) :=
  ww_b (f1_isMap D x2) (fun r_1 => if r_1 = 0 then f1_build_j1 D 0 0 x1 x2 (0 : Int32) else ww_b (f1_isBuilder D x1) (fun r_17 => if r_17 = 0 then f1_build_j1 D 0 0 x1 x2 (0 : Int32) else f1_build_j1 D 0 0 x1 x2 (-1 : Int32)))
set_option maxHeartbeats 4000000 in
set_option maxRecDepth 100000 in
theorem met1_build (l : Launch) {E : cw_E} {A : Nat → Prop} (D : cw_D) (x1 : Int32) (x2 : Int32) (r : Int32) (D' : cw_D) (nc ns : Nat) (hf : f1_build D x1 x2 = some (r, D', nc, ns)) : cw_MetI l yX1_build cX1_build 3 (some Jvm.ClassFile.FieldType.int) 11 266 E A [.ref E.1.1, .int x1, .int x2] D D' r nc ns := by
  unfold f1_build at hf
  refine cw_sIN (own := RX1) (by decide +kernel) [(0, .ref E.1.1), (1, .int x1), (2, .int x2)] ⟨Nat.le_of_ble_eq_true rfl, rfl⟩ ?_
  intro p e s m args below meth c Rm Q X hK hF hLo hC hin hend ls hl hR hS
  obtain ⟨hx, hb, hml, hown, hts⟩ := id X
  have hm9 : 0 ≤ nc ∧ 0 ≤ ns := ⟨Nat.zero_le _, Nat.zero_le _⟩
  refine lv_aload_n hx hb dX1_build_0 rfl (lv_at hl 0 rfl) ?_
  refine lv_aload_n hx hb dX1_build_1 rfl (lv_at hl 0 rfl) ?_
  refine lv_iload_n hx hb dX1_build_2 rfl (lv_at hl 2 rfl) ?_
  obtain ⟨r_1, h_1, hq⟩ := ww_bS hf; replace hf := hq; clear hq
  refine c1c_1_isMap X hl.1 hK hR hS (Nat.le_trans (Nat.le_of_ble_eq_true rfl) hF) (Nat.le_trans (Nat.le_of_ble_eq_true rfl) hLo) (Nat.le_trans hm9.1 hC.1) (Nat.le_trans hm9.2 hC.2) h_1 (cw_rest (Nat.le_of_ble_eq_true rfl)) dX1_build_3 (fun H locs hR hS => ?_)
  have hj_1 : ∀ (t1 : Int32), f1_build_j1 D 0 0 x1 x2 t1 = some (r, D', nc, ns) → (0 ≤ nc ∧ 0 ≤ ns) ∧ (∀ (H : Heap) (locs : List Loc) (ls : Array Slot), cw_H E A D H → va_S A s.heap H locs → lv_has ls 3 [(0, .ref E.1.1), (1, .int x1), (2, .int x2)] → W p l e Rm s m args below meth c H locs 0 0 Q (F0 m 22 ls [.int t1, .ref E.1.1])) := by
    clear hf
    intro t1 hf
    unfold f1_build_j1 at hf
    have hm9 : 0 ≤ nc ∧ 0 ≤ ns := by
      obtain ⟨r_2, D_2, h_2, hq⟩ := ww_b2S hf; replace hf := hq; clear hq
      refine ww_by (r_2 = 0) (fun c_3 => ?_) (fun c_3 => ?_)
      · replace hf := ww_ip hf c_3
        obtain ⟨r_4, h_4, hq⟩ := ww_bS hf; replace hf := hq; clear hq
        obtain ⟨h_5, hq⟩ := ww_gS hf; replace hf := hq; clear hq
        obtain ⟨h_6, hq⟩ := ww_gS hf; replace hf := hq; clear hq
        obtain ⟨D_7, h_7, hq⟩ := ww_bS hf; replace hf := hq; clear hq
        obtain ⟨h_8, hq⟩ := ww_gS hf; replace hf := hq; clear hq
        obtain ⟨h_9, hq⟩ := ww_gS hf; replace hf := hq; clear hq
        obtain ⟨h_10, hq⟩ := ww_gS hf; replace hf := hq; clear hq
        obtain ⟨h_12, hq⟩ := ww_gS hf; replace hf := hq; clear hq
        obtain ⟨r_11, h_11, hq⟩ := ww_bS hf; replace hf := hq; clear hq
        obtain ⟨a_13, e_13, hq⟩ := ww_bS hf; replace hf := hq; clear hq
        subst e_13
        obtain ⟨h_14, hq⟩ := ww_gS hf; replace hf := hq; clear hq
        obtain ⟨r_15, D_15, h_15, hq⟩ := ww_b2S hf; replace hf := hq; clear hq
        have e9 := hf
        simp only [Option.some.injEq, Prod.mk.injEq] at e9
        omega
      · replace hf := ww_in hf c_3
        have e9 := hf
        simp only [Option.some.injEq, Prod.mk.injEq] at e9
        omega
    refine ⟨hm9, ?_⟩
    try clear hl
    try clear hS
    try clear hR
    intro H locs ls hR hS hl
    obtain ⟨r_2, D_2, h_2, hq⟩ := ww_b2S hf; replace hf := hq; clear hq
    refine c1c_1_isRefused X hl.1 hK hR hS (Nat.le_trans (Nat.le_of_ble_eq_true rfl) hF) (Nat.le_trans (Nat.le_of_ble_eq_true rfl) hLo) (Nat.le_trans hm9.1 hC.1) (Nat.le_trans hm9.2 hC.2) h_2 (cw_rest (Nat.le_of_ble_eq_true rfl)) dX1_build_22 (fun H locs hR hS => ?_)
    refine lv_if_eq (tgt := 30) hx hb dX1_build_25 (by decide) (fun c_3 => ?_) (fun c_3 => ?_)
    · replace hf := ww_ip hf c_3
      refine lv_aload_n hx hb dX1_build_30 rfl (lv_at hl 0 rfl) ?_
      refine c1g_85 X hK hR dX1_build_31 ?_
      refine lv_iload_n hx hb dX1_build_34 rfl (lv_at hl 1 rfl) ?_
      refine lv_aload_n hx hb dX1_build_35 rfl (lv_at hl 0 rfl) ?_
      refine lv_iload_n hx hb dX1_build_36 rfl (lv_at hl 2 rfl) ?_
      obtain ⟨r_4, h_4, hq⟩ := ww_bS hf; replace hf := hq; clear hq
      refine c1c_1_rootOf X hl.1 hK hR hS (Nat.le_trans (Nat.le_of_ble_eq_true rfl) hF) (Nat.le_trans (Nat.le_of_ble_eq_true rfl) hLo) (Nat.le_trans hm9.1 hC.1) (Nat.le_trans hm9.2 hC.2) h_4 (cw_rest (Nat.le_of_ble_eq_true rfl)) dX1_build_37 (fun H locs hR hS => ?_)
      obtain ⟨h_5, hq⟩ := ww_gS hf; replace hf := hq; clear hq
      obtain ⟨h_6, hq⟩ := ww_gS hf; replace hf := hq; clear hq
      refine c1s_24 (x := r_4) X hK hR hS h_5 h_6 dX1_build_40 (fun H locs hR hS => ?_)
      refine lv_aload_n hx hb dX1_build_41 rfl (lv_at hl 0 rfl) ?_
      refine c1g_90 X hK hR dX1_build_42 ?_
      refine lv_iload_n hx hb dX1_build_45 rfl (lv_at hl 1 rfl) ?_
      have hm9 : (0 + 1) ≤ nc ∧ (0 + 1) ≤ ns := by
        obtain ⟨D_7, h_7, hq⟩ := ww_bS hf; replace hf := hq; clear hq
        obtain ⟨h_8, hq⟩ := ww_gS hf; replace hf := hq; clear hq
        obtain ⟨h_9, hq⟩ := ww_gS hf; replace hf := hq; clear hq
        obtain ⟨h_10, hq⟩ := ww_gS hf; replace hf := hq; clear hq
        obtain ⟨h_12, hq⟩ := ww_gS hf; replace hf := hq; clear hq
        obtain ⟨r_11, h_11, hq⟩ := ww_bS hf; replace hf := hq; clear hq
        obtain ⟨a_13, e_13, hq⟩ := ww_bS hf; replace hf := hq; clear hq
        subst e_13
        obtain ⟨h_14, hq⟩ := ww_gS hf; replace hf := hq; clear hq
        obtain ⟨r_15, D_15, h_15, hq⟩ := ww_b2S hf; replace hf := hq; clear hq
        have e9 := hf
        simp only [Option.some.injEq, Prod.mk.injEq] at e9
        omega
      refine cw_onew (ci := 0) (C := RX4) (T := TX4) (N := 1) rfl (by decide) in_X4 tyX4 tyX4_ok rfl X hK hR hS q234 q817 q151 (Nat.le_trans hm9.1 hC.1) (Nat.le_trans hm9.2 hC.2) dX1_build_46 (fun H hR hS => ?_)
      refine lv_dup hx hb dX1_build_49 rfl ?_
      refine lv_aload_n hx hb dX1_build_50 rfl (lv_at hl 0 rfl) ?_
      obtain ⟨D_7, h_7, hq⟩ := ww_bS hf; replace hf := hq; clear hq
      rw [show ww_R (cw_nO (cw_sY D_2 24 x1 r_4) 0).1 99 = some E.1.1 from cw_this hK hR] at h_7
      refine c1c_4_init (x1 := (some E.1.1)) X hl.1 hK hR hS (Nat.le_trans (Nat.le_of_ble_eq_true rfl) hF) (Nat.le_trans (Nat.le_of_ble_eq_true rfl) hLo) (Nat.le_trans hm9.1 hC.1) (Nat.le_trans hm9.2 hC.2) h_7 (cw_rest (Nat.le_of_ble_eq_true rfl)) dX1_build_51 (fun H locs hR hS => ?_)
      obtain ⟨h_8, hq⟩ := ww_gS hf; replace hf := hq; clear hq
      obtain ⟨h_9, hq⟩ := ww_gS hf; replace hf := hq; clear hq
      refine c1s_25 (x := (some ((cw_sY D_2 24 x1 r_4).2.2))) X hK hR hS h_8 h_9 dX1_build_54 (fun H locs hR hS => ?_)
      refine lv_aload_n hx hb dX1_build_55 rfl (lv_at hl 0 rfl) ?_
      refine c1g_94 X hK hR dX1_build_56 ?_
      refine lv_iload_n hx hb dX1_build_59 rfl (lv_at hl 1 rfl) ?_
      refine lv_iload_n hx hb dX1_build_60 rfl (lv_at hl 2 rfl) ?_
      obtain ⟨h_10, hq⟩ := ww_gS hf; replace hf := hq; clear hq
      refine c1s_26 X hK hR hS h_10 dX1_build_61 (fun H locs hR hS => ?_)
      refine lv_aload_n hx hb dX1_build_62 rfl (lv_at hl 0 rfl) ?_
      refine c1g_85 X hK hR dX1_build_63 ?_
      refine lv_iload_n hx hb dX1_build_66 rfl (lv_at hl 1 rfl) ?_
      obtain ⟨h_12, hq⟩ := ww_gS hf; replace hf := hq; clear hq
      obtain ⟨r_11, h_11, hq⟩ := ww_bS hf; replace hf := hq; clear hq
      refine c1l_24 X hK hR h_12 h_11 dX1_build_67 ?_
      refine lv_iconst (v := (0 : Int32)) hx hb dX1_build_68 (by decide) ?_
      refine lv_iconst (v := (0 : Int32)) hx hb dX1_build_69 (by decide) ?_
      refine lv_null hx hb dX1_build_70 ?_
      obtain ⟨a_13, e_13, hq⟩ := ww_bS hf; replace hf := hq; clear hq
      subst e_13
      obtain ⟨h_14, hq⟩ := ww_gS hf; replace hf := hq; clear hq
      obtain ⟨r_15, D_15, h_15, hq⟩ := ww_b2S hf; replace hf := hq; clear hq
      refine c1i_counts (x3 := none) X hl.1 hK hR hS (Nat.le_trans (Nat.le_of_ble_eq_true rfl) hF) (Nat.le_trans (Nat.le_of_ble_eq_true rfl) hLo) (Nat.le_trans hm9.1 hC.1) (Nat.le_trans hm9.2 hC.2) h_14 h_15 (cw_rest (Nat.le_of_ble_eq_true rfl)) dX1_build_71 (fun H locs hR hS => ?_)
      exact hend dX1_build_76 rfl rfl hf hR hS
    · replace hf := ww_in hf c_3
      refine lv_iconst (v := (-1 : Int32)) hx hb dX1_build_28 (by decide) ?_
      exact hend dX1_build_29 rfl rfl hf hR hS
  refine lv_if_eq (tgt := 17) hx hb dX1_build_6 (by decide) (fun c_16 => ?_) (fun c_16 => ?_)
  · replace hf := ww_ip hf c_16
    refine lv_iconst (v := (0 : Int32)) hx hb dX1_build_17 (by decide) ?_
    refine lv_goto (tgt := 22) hx hb dX1_build_18 (by decide) ?_
    exact (hj_1 (0 : Int32) hf).2 _ _ _ hR hS hl
  · replace hf := ww_in hf c_16
    refine lv_aload_n hx hb dX1_build_9 rfl (lv_at hl 0 rfl) ?_
    refine lv_iload_n hx hb dX1_build_10 rfl (lv_at hl 1 rfl) ?_
    obtain ⟨r_17, h_17, hq⟩ := ww_bS hf; replace hf := hq; clear hq
    refine c1c_1_isBuilder X hl.1 hK hR hS (Nat.le_trans (Nat.le_of_ble_eq_true rfl) hF) (Nat.le_trans (Nat.le_of_ble_eq_true rfl) hLo) (Nat.le_trans hm9.1 hC.1) (Nat.le_trans hm9.2 hC.2) h_17 (cw_rest (Nat.le_of_ble_eq_true rfl)) dX1_build_11 (fun H locs hR hS => ?_)
    refine lv_if_ne (tgt := 21) hx hb dX1_build_14 (by decide) (fun c_18 => ?_) (fun c_18 => ?_)
    · replace hf := ww_in hf c_18
      refine lv_iconst (v := (-1 : Int32)) hx hb dX1_build_21 (by decide) ?_
      exact (hj_1 (-1 : Int32) hf).2 _ _ _ hR hS hl
    · replace hf := ww_ip hf c_18
      refine lv_iconst (v := (0 : Int32)) hx hb dX1_build_17 (by decide) ?_
      refine lv_goto (tgt := 22) hx hb dX1_build_18 (by decide) ?_
      exact (hj_1 (0 : Int32) hf).2 _ _ _ hR hS hl
noncomputable def f1_isStale (D : cw_D) (x1 : Int32) : Option (Int32) :=
  ww_g (ww_i x1 4) (ww_b (some (ww_Y D.1 25 x1)) (fun r_1 => ww_o r_1 (some (1 : Int32)) (fun a_3 => some (0 : Int32))))
section C_1_isStale_k
variable {p : Program} {l : Launch} {e : Env} {R : Room} {s : State} {m : MethodId} {args : Array Value} {below : List Frame} {meth : Method} {c : Code} {H : Heap} {locs : List Loc} {cells slots : Nat} {Q : State → Prop}
variable {cc : ByteArray} {pc : Nat} {ls : Array Slot} {rest : List Value} {nL : Nat} {E : cw_E} {A : Nat → Prop} {H0 : Heap}
theorem c1k_1_isStale {D : cw_D} {x1 : Int32} {r : Int32} (X : ww_C p m c cc nL s args RX1 lw_all) (hsz : ls.size = nL) (hK : cw_K E A s) (hR : cw_H E A D H) (hS : va_S A s.heap H locs) (hF : 1 ≤ R.frames) (hLo : 21 ≤ R.locals) (hc : cells ≤ R.cells) (hs : slots ≤ R.slots) (hM : cw_MetI l yX1_isStale cX1_isStale 2 (some Jvm.ClassFile.FieldType.boolean) 0 0 E A [.ref E.1.1, .int x1] D D r 0 0) (hrest : (rest.map fun v => v.category).sum ≤ 8) (hdg : decode cc pc = .ok (.invokevirtual 419, 3)) (kk : ∀ (H1 : Heap) (locs1 : List Loc), cw_H E A D H1 → va_S A s.heap H1 locs1 → W p l e R s m args below meth c H1 locs1 cells slots Q (F0 m (pc + 3) ls (.int r :: rest))) : W p l e R s m args below meth c H locs cells slots Q (F0 m pc ls (.int x1 :: .ref E.1.1 :: rest)) :=
  va_calli (va_runV (C := RX1) (As := [.int x1]) (rest := rest) (b := E.1.1) X hM (cwV 1 X.2.2.2.2 (lw_V q1384 q1386 qs46 q131 q1387) rfl rfl rfl (by decide +kernel) ⟨hF, hLo⟩) (cw_pV hK hR hS (cw_rcM hK hR)) rfl rfl hsz rfl (lv_room hrest) hdg ⟨hc, hs⟩) hS (fun q _ h => h) (fun q h => h) (fun r' u t H1 locs1 ht hvm hw hB hz1 hk1 hS1 => by subst hw; rw [ht] at hB; exact kk H1 locs1 hB hS1)
end C_1_isStale_k
set_option maxHeartbeats 4000000 in
set_option maxRecDepth 100000 in
theorem met1_isStale (l : Launch) {E : cw_E} {A : Nat → Prop} (D : cw_D) (x1 : Int32) (r : Int32) (hf : f1_isStale D x1 = some r) : cw_MetI l yX1_isStale cX1_isStale 2 (some Jvm.ClassFile.FieldType.boolean) 0 0 E A [.ref E.1.1, .int x1] D D r 0 0 := by
  unfold f1_isStale at hf
  refine cw_sIP (own := RX1) (by decide +kernel) [(0, .ref E.1.1), (1, .int x1)] ⟨Nat.le_of_ble_eq_true rfl, rfl⟩ ?_
  intro p e s m args below meth c Rm Q X hK hF hLo hin hend ls hl hR hS
  obtain ⟨hx, hb, hml, hown, hts⟩ := id X
  refine lv_aload_n hx hb dX1_isStale_0 rfl (lv_at hl 0 rfl) ?_
  refine c1g_90 X hK hR dX1_isStale_1 ?_
  refine lv_iload_n hx hb dX1_isStale_4 rfl (lv_at hl 1 rfl) ?_
  obtain ⟨h_2, hq⟩ := ww_gS hf; replace hf := hq; clear hq
  obtain ⟨r_1, h_1, hq⟩ := ww_bS hf; replace hf := hq; clear hq
  refine c1l_25 X hK hR h_2 h_1 dX1_isStale_5 ?_
  rcases r_1 with _ | a_3
  · replace hf := ww_oN hf
    refine lv_ifnonnullN hx hb dX1_isStale_6 ?_
    refine lv_iconst (v := (1 : Int32)) hx hb dX1_isStale_9 (by decide) ?_
    refine lv_goto (tgt := 14) hx hb dX1_isStale_10 (by decide) ?_
    exact hend dX1_isStale_14 rfl (by decide) hf hR hS
  · replace hf := ww_oS hf
    refine lv_ifnonnull (tgt := 13) hx hb dX1_isStale_6 (by decide) ?_
    refine lv_iconst (v := (0 : Int32)) hx hb dX1_isStale_13 (by decide) ?_
    exact hend dX1_isStale_14 rfl (by decide) hf hR hS
section C_1_isStale_c
variable {p : Program} {l : Launch} {e : Env} {R : Room} {s : State} {m : MethodId} {args : Array Value} {below : List Frame} {meth : Method} {c : Code} {H : Heap} {locs : List Loc} {cells slots : Nat} {Q : State → Prop}
variable {cc : ByteArray} {pc : Nat} {ls : Array Slot} {rest : List Value} {nL : Nat} {E : cw_E} {A : Nat → Prop} {H0 : Heap}
theorem c1c_1_isStale {D : cw_D} {x1 : Int32} {r : Int32} (X : ww_C p m c cc nL s args RX1 lw_all) (hsz : ls.size = nL) (hK : cw_K E A s) (hR : cw_H E A D H) (hS : va_S A s.heap H locs) (hF : 1 ≤ R.frames) (hLo : 21 ≤ R.locals) (hc : cells ≤ R.cells) (hs : slots ≤ R.slots) (hf : f1_isStale D x1 = some r) (hrest : (rest.map fun v => v.category).sum ≤ 8) (hdg : decode cc pc = .ok (.invokevirtual 419, 3)) (kk : ∀ (H1 : Heap) (locs1 : List Loc), cw_H E A D H1 → va_S A s.heap H1 locs1 → W p l e R s m args below meth c H1 locs1 cells slots Q (F0 m (pc + 3) ls (.int r :: rest))) : W p l e R s m args below meth c H locs cells slots Q (F0 m pc ls (.int x1 :: .ref E.1.1 :: rest)) :=
  c1k_1_isStale X hsz hK hR hS hF hLo hc hs (met1_isStale l _ _ _ hf) hrest hdg kk
end C_1_isStale_c
noncomputable def f1_whyNot (D : cw_D) (x1 : Int32) (x2 : Int32) : Option (Int32) :=
  ww_b (f1_isBuilder D x1) (fun r_1 => if r_1 = 0 then some (0 : Int32) else if x2 = 0 then some (1 : Int32) else ww_b (f1_isStale D x1) (fun r_4 => if r_4 = 0 then some (-1 : Int32) else some (2 : Int32)))
section C_1_whyNot_k
variable {p : Program} {l : Launch} {e : Env} {R : Room} {s : State} {m : MethodId} {args : Array Value} {below : List Frame} {meth : Method} {c : Code} {H : Heap} {locs : List Loc} {cells slots : Nat} {Q : State → Prop}
variable {cc : ByteArray} {pc : Nat} {ls : Array Slot} {rest : List Value} {nL : Nat} {E : cw_E} {A : Nat → Prop} {H0 : Heap}
theorem c1k_1_whyNot {D : cw_D} {x1 : Int32} {x2 : Int32} {r : Int32} (X : ww_C p m c cc nL s args RX1 lw_all) (hsz : ls.size = nL) (hK : cw_K E A s) (hR : cw_H E A D H) (hS : va_S A s.heap H locs) (hF : 3 ≤ R.frames) (hLo : 65 ≤ R.locals) (hc : cells ≤ R.cells) (hs : slots ≤ R.slots) (hM : cw_MetI l yX1_whyNot cX1_whyNot 3 (some Jvm.ClassFile.FieldType.int) 2 43 E A [.ref E.1.1, .int x1, .int x2] D D r 0 0) (hrest : (rest.map fun v => v.category).sum ≤ 8) (hdg : decode cc pc = .ok (.invokevirtual 422, 3)) (kk : ∀ (H1 : Heap) (locs1 : List Loc), cw_H E A D H1 → va_S A s.heap H1 locs1 → W p l e R s m args below meth c H1 locs1 cells slots Q (F0 m (pc + 3) ls (.int r :: rest))) : W p l e R s m args below meth c H locs cells slots Q (F0 m pc ls (.int x2 :: .int x1 :: .ref E.1.1 :: rest)) :=
  va_calli (va_runV (C := RX1) (As := [.int x1, .int x2]) (rest := rest) (b := E.1.1) X hM (cwV 2 X.2.2.2.2 (lw_V q1380 q1382 qs45 q131 q1383) rfl rfl rfl (by decide +kernel) ⟨hF, hLo⟩) (cw_pV hK hR hS (cw_rcM hK hR)) rfl rfl hsz rfl (lv_room hrest) hdg ⟨hc, hs⟩) hS (fun q _ h => h) (fun q h => h) (fun r' u t H1 locs1 ht hvm hw hB hz1 hk1 hS1 => by subst hw; rw [ht] at hB; exact kk H1 locs1 hB hS1)
end C_1_whyNot_k
set_option maxHeartbeats 4000000 in
set_option maxRecDepth 100000 in
theorem met1_whyNot (l : Launch) {E : cw_E} {A : Nat → Prop} (D : cw_D) (x1 : Int32) (x2 : Int32) (r : Int32) (hf : f1_whyNot D x1 x2 = some r) : cw_MetI l yX1_whyNot cX1_whyNot 3 (some Jvm.ClassFile.FieldType.int) 2 43 E A [.ref E.1.1, .int x1, .int x2] D D r 0 0 := by
  unfold f1_whyNot at hf
  refine cw_sIP (own := RX1) (by decide +kernel) [(0, .ref E.1.1), (1, .int x1), (2, .int x2)] ⟨Nat.le_of_ble_eq_true rfl, rfl⟩ ?_
  intro p e s m args below meth c Rm Q X hK hF hLo hin hend ls hl hR hS
  obtain ⟨hx, hb, hml, hown, hts⟩ := id X
  refine lv_aload_n hx hb dX1_whyNot_0 rfl (lv_at hl 0 rfl) ?_
  refine lv_iload_n hx hb dX1_whyNot_1 rfl (lv_at hl 1 rfl) ?_
  obtain ⟨r_1, h_1, hq⟩ := ww_bS hf; replace hf := hq; clear hq
  refine c1c_1_isBuilder X hl.1 hK hR hS (Nat.le_trans (Nat.le_of_ble_eq_true rfl) hF) (Nat.le_trans (Nat.le_of_ble_eq_true rfl) hLo) (Nat.zero_le _) (Nat.zero_le _) h_1 (cw_rest (Nat.le_of_ble_eq_true rfl)) dX1_whyNot_2 (fun H locs hR hS => ?_)
  refine lv_if_ne (tgt := 12) hx hb dX1_whyNot_5 (by decide) (fun c_2 => ?_) (fun c_2 => ?_)
  · replace hf := ww_in hf c_2
    refine lv_iload_n hx hb dX1_whyNot_12 rfl (lv_at hl 2 rfl) ?_
    refine lv_if_ne (tgt := 20) hx hb dX1_whyNot_13 (by decide) (fun c_3 => ?_) (fun c_3 => ?_)
    · replace hf := ww_in hf c_3
      refine lv_aload_n hx hb dX1_whyNot_20 rfl (lv_at hl 0 rfl) ?_
      refine lv_iload_n hx hb dX1_whyNot_21 rfl (lv_at hl 1 rfl) ?_
      obtain ⟨r_4, h_4, hq⟩ := ww_bS hf; replace hf := hq; clear hq
      refine c1c_1_isStale X hl.1 hK hR hS (Nat.le_trans (Nat.le_of_ble_eq_true rfl) hF) (Nat.le_trans (Nat.le_of_ble_eq_true rfl) hLo) (Nat.zero_le _) (Nat.zero_le _) h_4 (cw_rest (Nat.le_of_ble_eq_true rfl)) dX1_whyNot_22 (fun H locs hR hS => ?_)
      refine lv_if_eq (tgt := 32) hx hb dX1_whyNot_25 (by decide) (fun c_5 => ?_) (fun c_5 => ?_)
      · replace hf := ww_ip hf c_5
        refine lv_iconst (v := (-1 : Int32)) hx hb dX1_whyNot_32 (by decide) ?_
        exact hend dX1_whyNot_33 rfl rfl hf hR hS
      · replace hf := ww_in hf c_5
        refine lv_iconst (v := (2 : Int32)) hx hb dX1_whyNot_28 (by decide) ?_
        refine lv_goto (tgt := 33) hx hb dX1_whyNot_29 (by decide) ?_
        exact hend dX1_whyNot_33 rfl rfl hf hR hS
    · replace hf := ww_ip hf c_3
      refine lv_iconst (v := (1 : Int32)) hx hb dX1_whyNot_16 (by decide) ?_
      refine lv_goto (tgt := 33) hx hb dX1_whyNot_17 (by decide) ?_
      exact hend dX1_whyNot_33 rfl rfl hf hR hS
  · replace hf := ww_ip hf c_2
    refine lv_iconst (v := (0 : Int32)) hx hb dX1_whyNot_8 (by decide) ?_
    refine lv_goto (tgt := 33) hx hb dX1_whyNot_9 (by decide) ?_
    exact hend dX1_whyNot_33 rfl rfl hf hR hS
section C_1_whyNot_c
variable {p : Program} {l : Launch} {e : Env} {R : Room} {s : State} {m : MethodId} {args : Array Value} {below : List Frame} {meth : Method} {c : Code} {H : Heap} {locs : List Loc} {cells slots : Nat} {Q : State → Prop}
variable {cc : ByteArray} {pc : Nat} {ls : Array Slot} {rest : List Value} {nL : Nat} {E : cw_E} {A : Nat → Prop} {H0 : Heap}
theorem c1c_1_whyNot {D : cw_D} {x1 : Int32} {x2 : Int32} {r : Int32} (X : ww_C p m c cc nL s args RX1 lw_all) (hsz : ls.size = nL) (hK : cw_K E A s) (hR : cw_H E A D H) (hS : va_S A s.heap H locs) (hF : 3 ≤ R.frames) (hLo : 65 ≤ R.locals) (hc : cells ≤ R.cells) (hs : slots ≤ R.slots) (hf : f1_whyNot D x1 x2 = some r) (hrest : (rest.map fun v => v.category).sum ≤ 8) (hdg : decode cc pc = .ok (.invokevirtual 422, 3)) (kk : ∀ (H1 : Heap) (locs1 : List Loc), cw_H E A D H1 → va_S A s.heap H1 locs1 → W p l e R s m args below meth c H1 locs1 cells slots Q (F0 m (pc + 3) ls (.int r :: rest))) : W p l e R s m args below meth c H locs cells slots Q (F0 m pc ls (.int x2 :: .int x1 :: .ref E.1.1 :: rest)) :=
  c1k_1_whyNot X hsz hK hR hS hF hLo hc hs (met1_whyNot l _ _ _ _ hf) hrest hdg kk
end C_1_whyNot_c
noncomputable def f1_whyNotLaid_j1 (D : cw_D) (y1 : Int32) (y2 : Int32) (t1 : Int32) (t2 : Int32) : Option (Int32 × cw_D) :=
  ww_b (f1_whyNot D t1 t2) (fun r_2 => if r_2 = (-1 : Int32) then ww_g (ww_i y1 4) (ww_b (some (ww_Y D.1 24 y1)) (fun r_4 => ww_b2 (f1_canLay D r_4 y2) (fun r_6 D_6 => if r_6 = 0 then some ((3 : Int32), D_6) else some ((-1 : Int32), D_6)))) else some (r_2, D))
noncomputable def f1_whyNotLaid (D : cw_D) (x1 : Int32) (x2 : Int32) (x3 : Int32) : Option (Int32 × cw_D) :=
  ww_b (f1_isKey x2) (fun r_1 => if r_1 = 0 then f1_whyNotLaid_j1 D x1 x2 x1 (0 : Int32) else ww_b (f1_isValue x3) (fun r_9 => if r_9 = 0 then f1_whyNotLaid_j1 D x1 x2 x1 (0 : Int32) else f1_whyNotLaid_j1 D x1 x2 x1 (1 : Int32)))
section C_1_whyNotLaid_k
variable {p : Program} {l : Launch} {e : Env} {R : Room} {s : State} {m : MethodId} {args : Array Value} {below : List Frame} {meth : Method} {c : Code} {H : Heap} {locs : List Loc} {cells slots : Nat} {Q : State → Prop}
variable {cc : ByteArray} {pc : Nat} {ls : Array Slot} {rest : List Value} {nL : Nat} {E : cw_E} {A : Nat → Prop} {H0 : Heap}
theorem c1k_1_whyNotLaid {D : cw_D} {x1 : Int32} {x2 : Int32} {x3 : Int32} {r : Int32} {D' : cw_D} (X : ww_C p m c cc nL s args RX1 lw_all) (hsz : ls.size = nL) (hK : cw_K E A s) (hR : cw_H E A D H) (hS : va_S A s.heap H locs) (hF : 15 ≤ R.frames) (hLo : 332 ≤ R.locals) (hc : cells ≤ R.cells) (hs : slots ≤ R.slots) (hM : cw_MetI l yX1_whyNotLaid cX1_whyNotLaid 5 (some Jvm.ClassFile.FieldType.int) 14 308 E A [.ref E.1.1, .int x1, .int x2, .int x3] D D' r 0 0) (hrest : (rest.map fun v => v.category).sum ≤ 8) (hdg : decode cc pc = .ok (.invokevirtual 426, 3)) (kk : ∀ (H1 : Heap) (locs1 : List Loc), cw_H E A D' H1 → va_S A s.heap H1 locs1 → W p l e R s m args below meth c H1 locs1 cells slots Q (F0 m (pc + 3) ls (.int r :: rest))) : W p l e R s m args below meth c H locs cells slots Q (F0 m pc ls (.int x3 :: .int x2 :: .int x1 :: .ref E.1.1 :: rest)) :=
  va_calli (va_runV (C := RX1) (As := [.int x1, .int x2, .int x3]) (rest := rest) (b := E.1.1) X hM (cwV 3 X.2.2.2.2 (lw_V q1376 q1378 qs44 q131 q1379) rfl rfl rfl (by decide +kernel) ⟨hF, hLo⟩) (cw_pV hK hR hS (cw_rcM hK hR)) rfl rfl hsz rfl (lv_room hrest) hdg ⟨hc, hs⟩) hS (fun q _ h => h) (fun q h => h) (fun r' u t H1 locs1 ht hvm hw hB hz1 hk1 hS1 => by subst hw; rw [ht] at hB; exact kk H1 locs1 hB hS1)
end C_1_whyNotLaid_k
set_option maxHeartbeats 4000000 in
set_option maxRecDepth 100000 in
theorem met1_whyNotLaid (l : Launch) {E : cw_E} {A : Nat → Prop} (D : cw_D) (x1 : Int32) (x2 : Int32) (x3 : Int32) (r : Int32) (D' : cw_D) (hf : f1_whyNotLaid D x1 x2 x3 = some (r, D')) : cw_MetI l yX1_whyNotLaid cX1_whyNotLaid 5 (some Jvm.ClassFile.FieldType.int) 14 308 E A [.ref E.1.1, .int x1, .int x2, .int x3] D D' r 0 0 := by
  unfold f1_whyNotLaid at hf
  refine cw_sID (own := RX1) (by decide +kernel) [(0, .ref E.1.1), (1, .int x1), (2, .int x2), (3, .int x3)] ⟨Nat.le_of_ble_eq_true rfl, rfl⟩ ?_
  intro p e s m args below meth c Rm Q X hK hF hLo hin hend ls hl hR hS
  obtain ⟨hx, hb, hml, hown, hts⟩ := id X
  refine lv_aload_n hx hb dX1_whyNotLaid_0 rfl (lv_at hl 0 rfl) ?_
  refine lv_iload_n hx hb dX1_whyNotLaid_1 rfl (lv_at hl 1 rfl) ?_
  refine lv_iload_n hx hb dX1_whyNotLaid_2 rfl (lv_at hl 2 rfl) ?_
  obtain ⟨r_1, h_1, hq⟩ := ww_bS hf; replace hf := hq; clear hq
  refine c1c_1_isKey X hl.1 (Nat.le_trans (Nat.le_of_ble_eq_true rfl) hF) (Nat.le_trans (Nat.le_of_ble_eq_true rfl) hLo) (Nat.zero_le _) (Nat.zero_le _) h_1 (cw_rest (Nat.le_of_ble_eq_true rfl)) dX1_whyNotLaid_3 ?_
  have hj_1 : ∀ (t1 : Int32) (t2 : Int32), f1_whyNotLaid_j1 D x1 x2 t1 t2 = some (r, D') → ∀ (H : Heap) (locs : List Loc) (ls : Array Slot), cw_H E A D H → va_S A s.heap H locs → lv_has ls 5 [(0, .ref E.1.1), (1, .int x1), (2, .int x2)] → W p l e Rm s m args below meth c H locs 0 0 Q (F0 m 21 ls [.int t2, .int t1, .ref E.1.1]) := by
    clear hf
    intro t1 t2 hf
    unfold f1_whyNotLaid_j1 at hf
    try clear hl
    try clear hS
    try clear hR
    intro H locs ls hR hS hl
    obtain ⟨r_2, h_2, hq⟩ := ww_bS hf; replace hf := hq; clear hq
    refine c1c_1_whyNot X hl.1 hK hR hS (Nat.le_trans (Nat.le_of_ble_eq_true rfl) hF) (Nat.le_trans (Nat.le_of_ble_eq_true rfl) hLo) (Nat.zero_le _) (Nat.zero_le _) h_2 (cw_rest (Nat.le_of_ble_eq_true rfl)) dX1_whyNotLaid_21 (fun H locs hR hS => ?_)
    refine lv_istore (lv' := [(4, .int r_2), (0, .ref E.1.1), (1, .int x1), (2, .int x2)]) hx hb dX1_whyNotLaid_24 hl (by decide) rfl (fun ls hl => ?_)
    refine lv_iload hx hb dX1_whyNotLaid_26 (lv_at hl 0 rfl) ?_
    refine lv_iconst (v := (-1 : Int32)) hx hb dX1_whyNotLaid_28 (by decide) ?_
    refine lv_icmp_eq (tgt := 37) hx hb dX1_whyNotLaid_29 (by decide) (fun c_3 => ?_) (fun c_3 => ?_)
    · replace hf := ww_ip hf c_3
      refine lv_aload_n hx hb dX1_whyNotLaid_37 rfl (lv_at hl 1 rfl) ?_
      refine lv_aload_n hx hb dX1_whyNotLaid_38 rfl (lv_at hl 1 rfl) ?_
      refine c1g_85 X hK hR dX1_whyNotLaid_39 ?_
      refine lv_iload_n hx hb dX1_whyNotLaid_42 rfl (lv_at hl 2 rfl) ?_
      obtain ⟨h_5, hq⟩ := ww_gS hf; replace hf := hq; clear hq
      obtain ⟨r_4, h_4, hq⟩ := ww_bS hf; replace hf := hq; clear hq
      refine c1l_24 X hK hR h_5 h_4 dX1_whyNotLaid_43 ?_
      refine lv_iload_n hx hb dX1_whyNotLaid_44 rfl (lv_at hl 3 rfl) ?_
      obtain ⟨r_6, D_6, h_6, hq⟩ := ww_b2S hf; replace hf := hq; clear hq
      refine c1c_1_canLay (x1 := r_4) X hl.1 hK hR hS (Nat.le_trans (Nat.le_of_ble_eq_true rfl) hF) (Nat.le_trans (Nat.le_of_ble_eq_true rfl) hLo) (Nat.zero_le _) (Nat.zero_le _) h_6 (cw_rest (Nat.le_of_ble_eq_true rfl)) dX1_whyNotLaid_45 (fun H locs hR hS => ?_)
      refine lv_if_ne (tgt := 55) hx hb dX1_whyNotLaid_48 (by decide) (fun c_7 => ?_) (fun c_7 => ?_)
      · replace hf := ww_in hf c_7
        refine lv_iconst (v := (-1 : Int32)) hx hb dX1_whyNotLaid_55 (by decide) ?_
        exact hend dX1_whyNotLaid_56 rfl rfl hf hR hS
      · replace hf := ww_ip hf c_7
        refine lv_iconst (v := (3 : Int32)) hx hb dX1_whyNotLaid_51 (by decide) ?_
        refine lv_goto (tgt := 56) hx hb dX1_whyNotLaid_52 (by decide) ?_
        exact hend dX1_whyNotLaid_56 rfl rfl hf hR hS
    · replace hf := ww_in hf c_3
      refine lv_iload hx hb dX1_whyNotLaid_32 (lv_at hl 0 rfl) ?_
      refine lv_goto (tgt := 56) hx hb dX1_whyNotLaid_34 (by decide) ?_
      exact hend dX1_whyNotLaid_56 rfl rfl hf hR hS
  refine lv_if_eq (tgt := 20) hx hb dX1_whyNotLaid_6 (by decide) (fun c_8 => ?_) (fun c_8 => ?_)
  · replace hf := ww_ip hf c_8
    refine lv_iconst (v := (0 : Int32)) hx hb dX1_whyNotLaid_20 (by decide) ?_
    exact hj_1 x1 (0 : Int32) hf _ _ _ hR hS (lv_sub hl [0, 1, 2] rfl)
  · replace hf := ww_in hf c_8
    refine lv_iload_n hx hb dX1_whyNotLaid_9 rfl (lv_at hl 3 rfl) ?_
    obtain ⟨r_9, h_9, hq⟩ := ww_bS hf; replace hf := hq; clear hq
    refine c1c_1_isValue X hl.1 (Nat.le_trans (Nat.le_of_ble_eq_true rfl) hF) (Nat.le_trans (Nat.le_of_ble_eq_true rfl) hLo) (Nat.zero_le _) (Nat.zero_le _) h_9 (cw_rest (Nat.le_of_ble_eq_true rfl)) dX1_whyNotLaid_10 ?_
    refine lv_if_eq (tgt := 20) hx hb dX1_whyNotLaid_13 (by decide) (fun c_10 => ?_) (fun c_10 => ?_)
    · replace hf := ww_ip hf c_10
      refine lv_iconst (v := (0 : Int32)) hx hb dX1_whyNotLaid_20 (by decide) ?_
      exact hj_1 x1 (0 : Int32) hf _ _ _ hR hS (lv_sub hl [0, 1, 2] rfl)
    · replace hf := ww_in hf c_10
      refine lv_iconst (v := (1 : Int32)) hx hb dX1_whyNotLaid_16 (by decide) ?_
      refine lv_goto (tgt := 21) hx hb dX1_whyNotLaid_17 (by decide) ?_
      exact hj_1 x1 (1 : Int32) hf _ _ _ hR hS (lv_sub hl [0, 1, 2] rfl)
section C_1_whyNotLaid_c
variable {p : Program} {l : Launch} {e : Env} {R : Room} {s : State} {m : MethodId} {args : Array Value} {below : List Frame} {meth : Method} {c : Code} {H : Heap} {locs : List Loc} {cells slots : Nat} {Q : State → Prop}
variable {cc : ByteArray} {pc : Nat} {ls : Array Slot} {rest : List Value} {nL : Nat} {E : cw_E} {A : Nat → Prop} {H0 : Heap}
theorem c1c_1_whyNotLaid {D : cw_D} {x1 : Int32} {x2 : Int32} {x3 : Int32} {r : Int32} {D' : cw_D} (X : ww_C p m c cc nL s args RX1 lw_all) (hsz : ls.size = nL) (hK : cw_K E A s) (hR : cw_H E A D H) (hS : va_S A s.heap H locs) (hF : 15 ≤ R.frames) (hLo : 332 ≤ R.locals) (hc : cells ≤ R.cells) (hs : slots ≤ R.slots) (hf : f1_whyNotLaid D x1 x2 x3 = some (r, D')) (hrest : (rest.map fun v => v.category).sum ≤ 8) (hdg : decode cc pc = .ok (.invokevirtual 426, 3)) (kk : ∀ (H1 : Heap) (locs1 : List Loc), cw_H E A D' H1 → va_S A s.heap H1 locs1 → W p l e R s m args below meth c H1 locs1 cells slots Q (F0 m (pc + 3) ls (.int r :: rest))) : W p l e R s m args below meth c H locs cells slots Q (F0 m pc ls (.int x3 :: .int x2 :: .int x1 :: .ref E.1.1 :: rest)) :=
  c1k_1_whyNotLaid X hsz hK hR hS hF hLo hc hs (met1_whyNotLaid l _ _ _ _ _ _ hf) hrest hdg kk
end C_1_whyNotLaid_c
noncomputable def f1_begins (D : cw_D) (x1 : Int32) : Option (Int32 × cw_D × Nat × Nat) :=
  ww_g (ww_i x1 4) (ww_b (some (ww_Y D.1 24 x1)) (fun r_1 => ww_g (ww_i x1 4) (ww_b (some (ww_Y D.1 25 x1)) (fun r_3 => ww_b3 (f1_work D r_1 r_3) (fun D_5 c_5 k_5 => some ((ww_F D_5.1 16), D_5, (0 + c_5), (0 + k_5)))))))
section C_1_begins_k
variable {p : Program} {l : Launch} {e : Env} {R : Room} {s : State} {m : MethodId} {args : Array Value} {below : List Frame} {meth : Method} {c : Code} {H : Heap} {locs : List Loc} {cells slots : Nat} {Q : State → Prop}
variable {cc : ByteArray} {pc : Nat} {ls : Array Slot} {rest : List Value} {nL : Nat} {E : cw_E} {A : Nat → Prop} {H0 : Heap}
theorem c1k_1_begins {D : cw_D} {x1 : Int32} {r : Int32} {D' : cw_D} {nc ns : Nat} (X : ww_C p m c cc nL s args RX1 lw_all) (hsz : ls.size = nL) (hK : cw_K E A s) (hR : cw_H E A D H) (hS : va_S A s.heap H locs) (hF : 6 ≤ R.frames) (hLo : 147 ≤ R.locals) (hc : cells + nc ≤ R.cells) (hs : slots + ns ≤ R.slots) (hM : cw_MetI l yX1_begins cX1_begins 2 (some Jvm.ClassFile.FieldType.int) 5 126 E A [.ref E.1.1, .int x1] D D' r nc ns) (hrest : (rest.map fun v => v.category).sum ≤ 8) (hdg : decode cc pc = .ok (.invokevirtual 429, 3)) (kk : ∀ (H1 : Heap) (locs1 : List Loc), cw_H E A D' H1 → va_S A s.heap H1 locs1 → W p l e R s m args below meth c H1 locs1 (cells + nc) (slots + ns) Q (F0 m (pc + 3) ls (.int r :: rest))) : W p l e R s m args below meth c H locs cells slots Q (F0 m pc ls (.int x1 :: .ref E.1.1 :: rest)) :=
  va_calli (va_runV (C := RX1) (As := [.int x1]) (rest := rest) (b := E.1.1) X hM (cwV 1 X.2.2.2.2 (lw_V q1388 q1390 qs47 q131 q1391) rfl rfl rfl (by decide +kernel) ⟨hF, hLo⟩) (cw_pV hK hR hS (cw_rcM hK hR)) rfl rfl hsz rfl (lv_room hrest) hdg ⟨hc, hs⟩) hS (fun q _ h => h) (fun q h => h) (fun r' u t H1 locs1 ht hvm hw hB hz1 hk1 hS1 => by subst hw; rw [ht] at hB; exact kk H1 locs1 hB hS1)
end C_1_begins_k
set_option maxHeartbeats 4000000 in
set_option maxRecDepth 100000 in
theorem met1_begins (l : Launch) {E : cw_E} {A : Nat → Prop} (D : cw_D) (x1 : Int32) (r : Int32) (D' : cw_D) (nc ns : Nat) (hf : f1_begins D x1 = some (r, D', nc, ns)) : cw_MetI l yX1_begins cX1_begins 2 (some Jvm.ClassFile.FieldType.int) 5 126 E A [.ref E.1.1, .int x1] D D' r nc ns := by
  unfold f1_begins at hf
  refine cw_sIN (own := RX1) (by decide +kernel) [(0, .ref E.1.1), (1, .int x1)] ⟨Nat.le_of_ble_eq_true rfl, rfl⟩ ?_
  intro p e s m args below meth c Rm Q X hK hF hLo hC hin hend ls hl hR hS
  obtain ⟨hx, hb, hml, hown, hts⟩ := id X
  have hm9 : 0 ≤ nc ∧ 0 ≤ ns := ⟨Nat.zero_le _, Nat.zero_le _⟩
  refine lv_aload_n hx hb dX1_begins_0 rfl (lv_at hl 0 rfl) ?_
  refine lv_aload_n hx hb dX1_begins_1 rfl (lv_at hl 0 rfl) ?_
  refine c1g_85 X hK hR dX1_begins_2 ?_
  refine lv_iload_n hx hb dX1_begins_5 rfl (lv_at hl 1 rfl) ?_
  obtain ⟨h_2, hq⟩ := ww_gS hf; replace hf := hq; clear hq
  obtain ⟨r_1, h_1, hq⟩ := ww_bS hf; replace hf := hq; clear hq
  refine c1l_24 X hK hR h_2 h_1 dX1_begins_6 ?_
  refine lv_aload_n hx hb dX1_begins_7 rfl (lv_at hl 0 rfl) ?_
  refine c1g_90 X hK hR dX1_begins_8 ?_
  refine lv_iload_n hx hb dX1_begins_11 rfl (lv_at hl 1 rfl) ?_
  obtain ⟨h_4, hq⟩ := ww_gS hf; replace hf := hq; clear hq
  obtain ⟨r_3, h_3, hq⟩ := ww_bS hf; replace hf := hq; clear hq
  refine c1l_25 X hK hR h_4 h_3 dX1_begins_12 ?_
  obtain ⟨D_5, c_5, k_5, h_5, hq⟩ := ww_b3S hf; replace hf := hq; clear hq
  have hm9 : (0 + c_5) ≤ nc ∧ (0 + k_5) ≤ ns := by
    have e9 := hf
    simp only [Option.some.injEq, Prod.mk.injEq] at e9
    omega
  refine c1c_1_work (x1 := r_1) (x2 := r_3) X hl.1 hK hR hS (Nat.le_trans (Nat.le_of_ble_eq_true rfl) hF) (Nat.le_trans (Nat.le_of_ble_eq_true rfl) hLo) (Nat.le_trans hm9.1 hC.1) (Nat.le_trans hm9.2 hC.2) h_5 (cw_rest (Nat.le_of_ble_eq_true rfl)) dX1_begins_13 (fun H locs hR hS => ?_)
  refine lv_aload_n hx hb dX1_begins_16 rfl (lv_at hl 0 rfl) ?_
  refine c1g_246 X hK hR dX1_begins_17 ?_
  exact hend dX1_begins_20 rfl rfl hf hR hS
section C_1_begins_c
variable {p : Program} {l : Launch} {e : Env} {R : Room} {s : State} {m : MethodId} {args : Array Value} {below : List Frame} {meth : Method} {c : Code} {H : Heap} {locs : List Loc} {cells slots : Nat} {Q : State → Prop}
variable {cc : ByteArray} {pc : Nat} {ls : Array Slot} {rest : List Value} {nL : Nat} {E : cw_E} {A : Nat → Prop} {H0 : Heap}
theorem c1c_1_begins {D : cw_D} {x1 : Int32} {r : Int32} {D' : cw_D} {nc ns : Nat} (X : ww_C p m c cc nL s args RX1 lw_all) (hsz : ls.size = nL) (hK : cw_K E A s) (hR : cw_H E A D H) (hS : va_S A s.heap H locs) (hF : 6 ≤ R.frames) (hLo : 147 ≤ R.locals) (hc : cells + nc ≤ R.cells) (hs : slots + ns ≤ R.slots) (hf : f1_begins D x1 = some (r, D', nc, ns)) (hrest : (rest.map fun v => v.category).sum ≤ 8) (hdg : decode cc pc = .ok (.invokevirtual 429, 3)) (kk : ∀ (H1 : Heap) (locs1 : List Loc), cw_H E A D' H1 → va_S A s.heap H1 locs1 → W p l e R s m args below meth c H1 locs1 (cells + nc) (slots + ns) Q (F0 m (pc + 3) ls (.int r :: rest))) : W p l e R s m args below meth c H locs cells slots Q (F0 m pc ls (.int x1 :: .ref E.1.1 :: rest)) :=
  c1k_1_begins X hsz hK hR hS hF hLo hc hs (met1_begins l _ _ _ _ _ _ hf) hrest hdg kk
end C_1_begins_c
noncomputable def f1_ends (D : cw_D) (x1 : Int32) (x2 : Int32) : Option (Int32 × cw_D) :=
  ww_b (some (ww_R D.1 27)) (fun r_1 => ww_g (ww_i x1 4) (ww_g (cw_kd D [1, 2] r_1) (some (((ww_F (cw_sY D 24 x1 r_1).1 16) - x2), (cw_sY D 24 x1 r_1)))))
section C_1_ends_k
variable {p : Program} {l : Launch} {e : Env} {R : Room} {s : State} {m : MethodId} {args : Array Value} {below : List Frame} {meth : Method} {c : Code} {H : Heap} {locs : List Loc} {cells slots : Nat} {Q : State → Prop}
variable {cc : ByteArray} {pc : Nat} {ls : Array Slot} {rest : List Value} {nL : Nat} {E : cw_E} {A : Nat → Prop} {H0 : Heap}
theorem c1k_1_ends {D : cw_D} {x1 : Int32} {x2 : Int32} {r : Int32} {D' : cw_D} (X : ww_C p m c cc nL s args RX1 lw_all) (hsz : ls.size = nL) (hK : cw_K E A s) (hR : cw_H E A D H) (hS : va_S A s.heap H locs) (hF : 1 ≤ R.frames) (hLo : 22 ≤ R.locals) (hc : cells ≤ R.cells) (hs : slots ≤ R.slots) (hM : cw_MetI l yX1_ends cX1_ends 3 (some Jvm.ClassFile.FieldType.int) 0 0 E A [.ref E.1.1, .int x1, .int x2] D D' r 0 0) (hrest : (rest.map fun v => v.category).sum ≤ 8) (hdg : decode cc pc = .ok (.invokevirtual 432, 3)) (kk : ∀ (H1 : Heap) (locs1 : List Loc), cw_H E A D' H1 → va_S A s.heap H1 locs1 → W p l e R s m args below meth c H1 locs1 cells slots Q (F0 m (pc + 3) ls (.int r :: rest))) : W p l e R s m args below meth c H locs cells slots Q (F0 m pc ls (.int x2 :: .int x1 :: .ref E.1.1 :: rest)) :=
  va_calli (va_runV (C := RX1) (As := [.int x1, .int x2]) (rest := rest) (b := E.1.1) X hM (cwV 2 X.2.2.2.2 (lw_V q1392 q1394 qs48 q131 q1395) rfl rfl rfl (by decide +kernel) ⟨hF, hLo⟩) (cw_pV hK hR hS (cw_rcM hK hR)) rfl rfl hsz rfl (lv_room hrest) hdg ⟨hc, hs⟩) hS (fun q _ h => h) (fun q h => h) (fun r' u t H1 locs1 ht hvm hw hB hz1 hk1 hS1 => by subst hw; rw [ht] at hB; exact kk H1 locs1 hB hS1)
end C_1_ends_k
set_option maxHeartbeats 4000000 in
set_option maxRecDepth 100000 in
theorem met1_ends (l : Launch) {E : cw_E} {A : Nat → Prop} (D : cw_D) (x1 : Int32) (x2 : Int32) (r : Int32) (D' : cw_D) (hf : f1_ends D x1 x2 = some (r, D')) : cw_MetI l yX1_ends cX1_ends 3 (some Jvm.ClassFile.FieldType.int) 0 0 E A [.ref E.1.1, .int x1, .int x2] D D' r 0 0 := by
  unfold f1_ends at hf
  refine cw_sID (own := RX1) (by decide +kernel) [(0, .ref E.1.1), (1, .int x1), (2, .int x2)] ⟨Nat.le_of_ble_eq_true rfl, rfl⟩ ?_
  intro p e s m args below meth c Rm Q X hK hF hLo hin hend ls hl hR hS
  obtain ⟨hx, hb, hml, hown, hts⟩ := id X
  refine lv_aload_n hx hb dX1_ends_0 rfl (lv_at hl 0 rfl) ?_
  refine c1g_85 X hK hR dX1_ends_1 ?_
  refine lv_iload_n hx hb dX1_ends_4 rfl (lv_at hl 1 rfl) ?_
  refine lv_aload_n hx hb dX1_ends_5 rfl (lv_at hl 0 rfl) ?_
  obtain ⟨r_1, h_1, hq⟩ := ww_bS hf; replace hf := hq; clear hq
  refine c1g_226 X hK hR h_1 dX1_ends_6 ?_
  obtain ⟨h_2, hq⟩ := ww_gS hf; replace hf := hq; clear hq
  obtain ⟨h_3, hq⟩ := ww_gS hf; replace hf := hq; clear hq
  refine c1s_24 (x := r_1) X hK hR hS h_2 h_3 dX1_ends_9 (fun H locs hR hS => ?_)
  refine lv_aload_n hx hb dX1_ends_10 rfl (lv_at hl 0 rfl) ?_
  refine c1g_246 X hK hR dX1_ends_11 ?_
  refine lv_iload_n hx hb dX1_ends_14 rfl (lv_at hl 2 rfl) ?_
  refine lv_isub hx hb dX1_ends_15 ?_
  exact hend dX1_ends_16 rfl rfl hf hR hS
section C_1_ends_c
variable {p : Program} {l : Launch} {e : Env} {R : Room} {s : State} {m : MethodId} {args : Array Value} {below : List Frame} {meth : Method} {c : Code} {H : Heap} {locs : List Loc} {cells slots : Nat} {Q : State → Prop}
variable {cc : ByteArray} {pc : Nat} {ls : Array Slot} {rest : List Value} {nL : Nat} {E : cw_E} {A : Nat → Prop} {H0 : Heap}
theorem c1c_1_ends {D : cw_D} {x1 : Int32} {x2 : Int32} {r : Int32} {D' : cw_D} (X : ww_C p m c cc nL s args RX1 lw_all) (hsz : ls.size = nL) (hK : cw_K E A s) (hR : cw_H E A D H) (hS : va_S A s.heap H locs) (hF : 1 ≤ R.frames) (hLo : 22 ≤ R.locals) (hc : cells ≤ R.cells) (hs : slots ≤ R.slots) (hf : f1_ends D x1 x2 = some (r, D')) (hrest : (rest.map fun v => v.category).sum ≤ 8) (hdg : decode cc pc = .ok (.invokevirtual 432, 3)) (kk : ∀ (H1 : Heap) (locs1 : List Loc), cw_H E A D' H1 → va_S A s.heap H1 locs1 → W p l e R s m args below meth c H1 locs1 cells slots Q (F0 m (pc + 3) ls (.int r :: rest))) : W p l e R s m args below meth c H locs cells slots Q (F0 m pc ls (.int x2 :: .int x1 :: .ref E.1.1 :: rest)) :=
  c1k_1_ends X hsz hK hR hS hF hLo hc hs (met1_ends l _ _ _ _ _ hf) hrest hdg kk
end C_1_ends_c
