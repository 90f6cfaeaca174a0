noncomputable def f3_sumOf_b1c (M : ww_M) (y1 : Int32) (y2 : Int32) (x3 : Int32) (x4 : Int32) : Option ((Int32 × Int32) ⊕ (Int32)) :=
  if (ww_F M 30) ≤ x4 then ww_x (some x3) else ww_g (ww_i x4 140) (if (ww_X M 26 x4) < y1 then some (.inl ((x3 + (0 : Int32)), (x4 + (1 : Int32)))) else ww_g (ww_i x4 140) (if y2 < (ww_X M 26 x4) then some (.inl ((x3 + (0 : Int32)), (x4 + (1 : Int32)))) else ww_g (ww_i x4 140) (some (.inl ((x3 + (ww_X M 27 x4)), (x4 + (1 : Int32)))))))
noncomputable def f3_sumOf_b1 (M : ww_M) (y1 : Int32) (y2 : Int32) : (Int32 × Int32) → Option ((Int32 × Int32) ⊕ (Int32)) := fun s9 => f3_sumOf_b1c M y1 y2 s9.1 s9.2
noncomputable def f3_sumOf (M : ww_M) (x1 : Int32) (x2 : Int32) : Option (Int32) :=
  ww_U (f3_sumOf_b1 M x1 x2) ((0 : Int32), (0 : Int32))
section T3_sumOf_k
variable {p : Program} {l : Launch} {e : Env} {R : Room} {s : State} {m : MethodId} {args : Array Value} {below : List Frame} {meth : Method} {c : Code} {H : Heap} {locs : List Loc} {Q : State → Prop}
variable {cc : ByteArray} {pc : Nat} {ls : Array Slot} {rest : List Value} {nL : Nat} {E : ww_E} {A : Nat → Prop} {H0 : Heap}
theorem t3k_sumOf {M : ww_M} {x1 : Int32} {x2 : Int32} {r : Int32} (X : ww_C p m c cc nL s args RX3 lw_all) (hsz : ls.size = nL) (hK : t3_Kn E s) (hD : t3_D E) (hR : t3_H E M H) (hS : va_S (t3_A E) H0 H locs) (hF : 1 ≤ R.frames) (hLo : 24 ≤ R.locals) (hM : t3_Met l yX3_sumOf cX3_sumOf 5 (some Jvm.ClassFile.FieldType.int) 0 0 E [.int x1, .int x2] M M r) (hrest : (rest.map fun v => v.category).sum ≤ 8) (hdg : decode cc pc = .ok (.invokevirtual 324, 3)) (kk : ∀ (H1 : Heap) (locs1 : List Loc), t3_H E M H1 → va_S (t3_A E) H0 H1 locs1 → W p l e R s m args below meth c H1 locs1 0 0 Q (F0 m (pc + 3) ls (.int r :: rest))) : W p l e R s m args below meth c H locs 0 0 Q (F0 m pc ls (.int x2 :: .int x1 :: .ref E.1 :: rest)) :=
  t3_callI (n := 2) X hsz hK hR hS (As := [.int x1, .int x2]) hM (lw_V q2062 q2064 qs94 q135 q2065) (by decide +kernel) rfl hF hLo (Nat.zero_le _) (Nat.zero_le _) hrest hdg kk
end T3_sumOf_k
set_option maxHeartbeats 4000000 in
set_option maxRecDepth 100000 in
theorem met3_sumOf (l : Launch) {E : ww_E} (hD : t3_D E) (M : ww_M) (x1 : Int32) (x2 : Int32) (r : Int32) (hf : f3_sumOf M x1 x2 = some r) : t3_Met l yX3_sumOf cX3_sumOf 5 (some Jvm.ClassFile.FieldType.int) 0 0 E [.int x1, .int x2] M M r := by
  unfold f3_sumOf at hf
  refine t3_startP (by decide +kernel) (Nat.le_of_ble_eq_true rfl) ?_
  intro p e s m args below meth c Rm Q X hK hF hLo hend ls hl hR hS
  obtain ⟨hx, hb, hml, hown, hts⟩ := id X
  replace hl : lv_has ls 5 [(0, .ref E.1), (1, .int x1), (2, .int x2)] := hl
  refine lv_iconst (v := (0 : Int32)) hx hb dX3_sumOf_0 (by decide) ?_
  refine lv_istore_n (lv' := [(3, .int (0 : Int32)), (0, .ref E.1), (1, .int x1), (2, .int x2)]) hx hb dX3_sumOf_1 rfl hl (by decide) rfl (fun ls hl => ?_)
  refine lv_iconst (v := (0 : Int32)) hx hb dX3_sumOf_2 (by decide) ?_
  refine lv_istore (lv' := [(4, .int (0 : Int32)), (3, .int (0 : Int32)), (0, .ref E.1), (1, .int x1), (2, .int x2)]) hx hb dX3_sumOf_3 hl (by decide) rfl (fun ls hl => ?_)
  have hL_1 : ∀ s9 : Int32 × Int32, ww_U (f3_sumOf_b1 M x1 x2) s9 = some r → ∀ (H : Heap) (locs : List Loc) (ls : Array Slot), t3_H E M H → va_S (t3_A E) s.heap H locs → lv_has ls 5 [(0, .ref E.1), (1, .int x1), (2, .int x2), (3, .int s9.1), (4, .int s9.2)] → W p l e Rm s m args below meth c H locs 0 0 Q (F0 m 5 ls []) := by
    refine ww_ind _ r ?_
    intro s9 z_1 hf hz_1 H locs ls hR hS hl
    obtain ⟨x3, x4⟩ := s9
    replace hf : f3_sumOf_b1c M x1 x2 x3 x4 = some z_1 := hf
    unfold f3_sumOf_b1c at hf
    replace hl : lv_has ls 5 [(0, .ref E.1), (1, .int x1), (2, .int x2), (3, .int x3), (4, .int x4)] := hl
    refine lv_iload hx hb dX3_sumOf_5 (lv_at hl 4 rfl) ?_
    refine lv_aload_n hx hb dX3_sumOf_7 rfl (lv_at hl 0 rfl) ?_
    refine t3g_30 X hK hR dX3_sumOf_8 ?_
    refine lv_icmp_ge (tgt := 56) hx hb dX3_sumOf_11 (by decide) (fun c_1 => ?_) (fun c_1 => ?_)
    · replace hf := ww_ip hf c_1
      replace hf := ww_xK hf hz_1
      refine lv_iload_n hx hb dX3_sumOf_56 rfl (lv_at hl 3 rfl) ?_
      exact hend dX3_sumOf_57 rfl rfl hf hR hS
    · replace hf := ww_in hf c_1
      refine lv_iload_n hx hb dX3_sumOf_14 rfl (lv_at hl 3 rfl) ?_
      refine lv_aload_n hx hb dX3_sumOf_15 rfl (lv_at hl 0 rfl) ?_
      refine t3g_26 X hK hR dX3_sumOf_16 ?_
      refine lv_iload hx hb dX3_sumOf_19 (lv_at hl 4 rfl) ?_
      obtain ⟨h_2, hf⟩ := ww_gS hf
      refine t3l_26 X hK hR h_2 dX3_sumOf_21 ?_
      refine lv_iload_n hx hb dX3_sumOf_22 rfl (lv_at hl 1 rfl) ?_
      refine lv_icmp_lt (tgt := 47) hx hb dX3_sumOf_23 (by decide) (fun c_3 => ?_) (fun c_3 => ?_)
      · replace hf := ww_ip hf c_3
        refine lv_iconst (v := (0 : Int32)) hx hb dX3_sumOf_47 (by decide) ?_
        refine lv_iadd hx hb dX3_sumOf_48 ?_
        refine lv_istore_n (lv' := [(3, .int (x3 + (0 : Int32))), (0, .ref E.1), (1, .int x1), (2, .int x2), (4, .int x4)]) hx hb dX3_sumOf_49 rfl hl (by decide) rfl (fun ls hl => ?_)
        refine lv_iinc (k := 4) (v := x4 + (1 : Int32)) (lv' := [(4, .int (x4 + (1 : Int32))), (3, .int (x3 + (0 : Int32))), (0, .ref E.1), (1, .int x1), (2, .int x2)]) hx hb dX3_sumOf_50 hl rfl rfl (by decide) rfl (fun ls hl => ?_)
        refine lv_goto (tgt := 5) hx hb dX3_sumOf_53 (by decide) ?_
        exact ww_lK hf hz_1 _ _ _ hR hS (lv_sub hl [2, 3, 4, 1, 0] rfl)
      · replace hf := ww_in hf c_3
        refine lv_aload_n hx hb dX3_sumOf_26 rfl (lv_at hl 0 rfl) ?_
        refine t3g_26 X hK hR dX3_sumOf_27 ?_
        refine lv_iload hx hb dX3_sumOf_30 (lv_at hl 4 rfl) ?_
        obtain ⟨h_4, hf⟩ := ww_gS hf
        refine t3l_26 X hK hR h_4 dX3_sumOf_32 ?_
        refine lv_iload_n hx hb dX3_sumOf_33 rfl (lv_at hl 2 rfl) ?_
        refine lv_icmp_gt (tgt := 47) hx hb dX3_sumOf_34 (by decide) (fun c_5 => ?_) (fun c_5 => ?_)
        · replace hf := ww_ip hf c_5
          refine lv_iconst (v := (0 : Int32)) hx hb dX3_sumOf_47 (by decide) ?_
          refine lv_iadd hx hb dX3_sumOf_48 ?_
          refine lv_istore_n (lv' := [(3, .int (x3 + (0 : Int32))), (0, .ref E.1), (1, .int x1), (2, .int x2), (4, .int x4)]) hx hb dX3_sumOf_49 rfl hl (by decide) rfl (fun ls hl => ?_)
          refine lv_iinc (k := 4) (v := x4 + (1 : Int32)) (lv' := [(4, .int (x4 + (1 : Int32))), (3, .int (x3 + (0 : Int32))), (0, .ref E.1), (1, .int x1), (2, .int x2)]) hx hb dX3_sumOf_50 hl rfl rfl (by decide) rfl (fun ls hl => ?_)
          refine lv_goto (tgt := 5) hx hb dX3_sumOf_53 (by decide) ?_
          exact ww_lK hf hz_1 _ _ _ hR hS (lv_sub hl [2, 3, 4, 1, 0] rfl)
        · replace hf := ww_in hf c_5
          refine lv_aload_n hx hb dX3_sumOf_37 rfl (lv_at hl 0 rfl) ?_
          refine t3g_27 X hK hR dX3_sumOf_38 ?_
          refine lv_iload hx hb dX3_sumOf_41 (lv_at hl 4 rfl) ?_
          obtain ⟨h_6, hf⟩ := ww_gS hf
          refine t3l_27 X hK hR h_6 dX3_sumOf_43 ?_
          refine lv_goto (tgt := 48) hx hb dX3_sumOf_44 (by decide) ?_
          refine lv_iadd hx hb dX3_sumOf_48 ?_
          refine lv_istore_n (lv' := [(3, .int (x3 + (ww_X M 27 x4))), (0, .ref E.1), (1, .int x1), (2, .int x2), (4, .int x4)]) hx hb dX3_sumOf_49 rfl hl (by decide) rfl (fun ls hl => ?_)
          refine lv_iinc (k := 4) (v := x4 + (1 : Int32)) (lv' := [(4, .int (x4 + (1 : Int32))), (3, .int (x3 + (ww_X M 27 x4))), (0, .ref E.1), (1, .int x1), (2, .int x2)]) hx hb dX3_sumOf_50 hl rfl rfl (by decide) rfl (fun ls hl => ?_)
          refine lv_goto (tgt := 5) hx hb dX3_sumOf_53 (by decide) ?_
          exact ww_lK hf hz_1 _ _ _ hR hS (lv_sub hl [2, 3, 4, 1, 0] rfl)
  exact hL_1 ((0 : Int32), (0 : Int32)) hf _ _ _ hR hS (lv_sub hl [2, 3, 4, 1, 0] rfl)
section T3_sumOf_c
variable {p : Program} {l : Launch} {e : Env} {R : Room} {s : State} {m : MethodId} {args : Array Value} {below : List Frame} {meth : Method} {c : Code} {H : Heap} {locs : List Loc} {Q : State → Prop}
variable {cc : ByteArray} {pc : Nat} {ls : Array Slot} {rest : List Value} {nL : Nat} {E : ww_E} {A : Nat → Prop} {H0 : Heap}
theorem t3c_sumOf {M : ww_M} {x1 : Int32} {x2 : Int32} {r : Int32} (X : ww_C p m c cc nL s args RX3 lw_all) (hsz : ls.size = nL) (hK : t3_Kn E s) (hD : t3_D E) (hR : t3_H E M H) (hS : va_S (t3_A E) H0 H locs) (hF : 1 ≤ R.frames) (hLo : 24 ≤ R.locals) (hf : f3_sumOf M x1 x2 = some r) (hrest : (rest.map fun v => v.category).sum ≤ 8) (hdg : decode cc pc = .ok (.invokevirtual 324, 3)) (kk : ∀ (H1 : Heap) (locs1 : List Loc), t3_H E M H1 → va_S (t3_A E) H0 H1 locs1 → W p l e R s m args below meth c H1 locs1 0 0 Q (F0 m (pc + 3) ls (.int r :: rest))) : W p l e R s m args below meth c H locs 0 0 Q (F0 m pc ls (.int x2 :: .int x1 :: .ref E.1 :: rest)) :=
  t3k_sumOf X hsz hK hD hR hS hF hLo (met3_sumOf l hD _ _ _ _ hf) hrest hdg kk
end T3_sumOf_c
noncomputable def f3_about (M : ww_M) (x1 : Int32) (x2 : Int32) : Option (Int32 × ww_M) :=
  ww_b (f3_isMap (ww_sF M 0 (0 : Int32)) x1) (fun r_1 => if r_1 = 0 then some ((-1000000 : Int32), (ww_sF M 0 (0 : Int32))) else ww_b (f3_isIn x2.toInt64 (0 : Int64) (6 : Int64)) (fun r_3 => if r_3 = 0 then some ((-1000000 : Int32), (ww_sF M 0 (0 : Int32))) else ww_g (ww_i x1 999) (ww_b (f3_laysTree (ww_sF M 0 (0 : Int32)) (ww_X (ww_sF M 0 (0 : Int32)) 32 x1)) (fun M_6 => if x2 = 0 then some ((ww_F M_6 30), M_6) else if x2 = 1 then ww_b (f3_levels M_6) (fun r_9 => some (r_9, M_6)) else if x2 = 2 then some ((ww_F M_6 31), M_6) else if x2 = 3 then ww_b (f3_leaves M_6) (fun r_12 => some (r_12, M_6)) else if x2 = 4 then ww_b (f3_sumOf M_6 (0 : Int32) (999 : Int32)) (fun r_14 => some (r_14, M_6)) else if x2 = 5 then ww_g (ww_i x1 999) (some ((ww_X M_6 33 x1), M_6)) else ww_g (ww_i x1 999) (some ((ww_X M_6 34 x1), M_6))))))
set_option maxHeartbeats 4000000 in
set_option maxRecDepth 100000 in
theorem met3_about (l : Launch) {E : ww_E} (hD : t3_D E) (M : ww_M) (x1 : Int32) (x2 : Int32) (r : Int32) (M' : ww_M) (hf : f3_about M x1 x2 = some (r, M')) : t3_Met l yX3_about cX3_about 3 (some Jvm.ClassFile.FieldType.int) 13 296 E [.int x1, .int x2] M M' r := by
  unfold f3_about at hf
  refine t3_start (by decide +kernel) (Nat.le_of_ble_eq_true rfl) ?_
  intro p e s m args below meth c Rm Q X hK hF hLo hend ls hl hR hS
  obtain ⟨hx, hb, hml, hown, hts⟩ := id X
  replace hl : lv_has ls 3 [(0, .ref E.1), (1, .int x1), (2, .int x2)] := hl
  refine lv_aload_n hx hb dX3_about_0 rfl (lv_at hl 0 rfl) ?_
  refine lv_iconst (v := (0 : Int32)) hx hb dX3_about_1 (by decide) ?_
  refine t3p_0 X hK hD hR hS dX3_about_2 (fun H locs hR hS => ?_)
  refine lv_aload_n hx hb dX3_about_5 rfl (lv_at hl 0 rfl) ?_
  refine lv_iload_n hx hb dX3_about_6 rfl (lv_at hl 1 rfl) ?_
  obtain ⟨r_1, h_1, hf⟩ := ww_bS hf
  refine t3c_isMap X hl.1 hK hD hR hS (Nat.le_trans (Nat.le_of_ble_eq_true rfl) hF) (Nat.le_trans (Nat.le_of_ble_eq_true rfl) hLo) h_1 (Nat.le_of_ble_eq_true rfl) dX3_about_7 (fun H locs hR hS => ?_)
  refine lv_if_eq (tgt := 25) hx hb dX3_about_10 (by decide) (fun c_2 => ?_) (fun c_2 => ?_)
  · replace hf := ww_ip hf c_2
    refine lv_ldc (v := (-1000000 : Int32)) hx hb hown (hts _ q1942) dX3_about_25 ?_
    exact hend dX3_about_27 rfl rfl hf hR hS
  · replace hf := ww_in hf c_2
    refine lv_iload_n hx hb dX3_about_13 rfl (lv_at hl 2 rfl) ?_
    refine lv_i2l (v := x2.toInt64) hx hb dX3_about_14 rfl ?_
    refine lv_lconst (v := (0 : Int64)) hx hb dX3_about_15 (by decide) ?_
    refine lv_ldc2 (v := (6 : Int64)) hx hb hown (hts _ q2028) dX3_about_16 ?_
    obtain ⟨r_3, h_3, hf⟩ := ww_bS hf
    refine t3c_isIn X hl.1 (Nat.le_trans (Nat.le_of_ble_eq_true rfl) hF) (Nat.le_trans (Nat.le_of_ble_eq_true rfl) hLo) h_3 (Nat.le_of_ble_eq_true rfl) dX3_about_19 ?_
    refine lv_if_ne (tgt := 28) hx hb dX3_about_22 (by decide) (fun c_4 => ?_) (fun c_4 => ?_)
    · replace hf := ww_in hf c_4
      refine lv_aload_n hx hb dX3_about_28 rfl (lv_at hl 0 rfl) ?_
      refine lv_aload_n hx hb dX3_about_29 rfl (lv_at hl 0 rfl) ?_
      refine t3g_32 X hK hR dX3_about_30 ?_
      refine lv_iload_n hx hb dX3_about_33 rfl (lv_at hl 1 rfl) ?_
      obtain ⟨h_5, hf⟩ := ww_gS hf
      refine t3l_32 X hK hR h_5 dX3_about_34 ?_
      obtain ⟨M_6, h_6, hf⟩ := ww_bS hf
      refine t3c_laysTree X hl.1 hK hD hR hS (Nat.le_trans (Nat.le_of_ble_eq_true rfl) hF) (Nat.le_trans (Nat.le_of_ble_eq_true rfl) hLo) h_6 (Nat.le_of_ble_eq_true rfl) dX3_about_35 (fun H locs hR hS => ?_)
      refine lv_iload_n hx hb dX3_about_38 rfl (lv_at hl 2 rfl) ?_
      refine ww_by (x2 = 0) (fun c_7 => ?_) (fun c_7 => ?_)
      · replace hf := ww_ip hf c_7
        refine ww_tin (k := 0) (off := 37) (tgt := 76) hx hb dX3_about_39 c_7 (by decide) (by decide) (by decide) (by decide) ?_
        refine lv_aload_n hx hb dX3_about_76 rfl (lv_at hl 0 rfl) ?_
        refine t3g_30 X hK hR dX3_about_77 ?_
        exact hend dX3_about_80 rfl rfl hf hR hS
      replace hf := ww_in hf c_7
      refine ww_by (x2 = 1) (fun c_8 => ?_) (fun c_8 => ?_)
      · replace hf := ww_ip hf c_8
        refine ww_tin (k := 1) (off := 42) (tgt := 81) hx hb dX3_about_39 c_8 (by decide) (by decide) (by decide) (by decide) ?_
        refine lv_aload_n hx hb dX3_about_81 rfl (lv_at hl 0 rfl) ?_
        obtain ⟨r_9, h_9, hf⟩ := ww_bS hf
        refine t3c_levels X hl.1 hK hD hR hS (Nat.le_trans (Nat.le_of_ble_eq_true rfl) hF) (Nat.le_trans (Nat.le_of_ble_eq_true rfl) hLo) h_9 (Nat.le_of_ble_eq_true rfl) dX3_about_82 (fun H locs hR hS => ?_)
        exact hend dX3_about_85 rfl rfl hf hR hS
      replace hf := ww_in hf c_8
      refine ww_by (x2 = 2) (fun c_10 => ?_) (fun c_10 => ?_)
      · replace hf := ww_ip hf c_10
        refine ww_tin (k := 2) (off := 47) (tgt := 86) hx hb dX3_about_39 c_10 (by decide) (by decide) (by decide) (by decide) ?_
        refine lv_aload_n hx hb dX3_about_86 rfl (lv_at hl 0 rfl) ?_
        refine t3g_31 X hK hR dX3_about_87 ?_
        exact hend dX3_about_90 rfl rfl hf hR hS
      replace hf := ww_in hf c_10
      refine ww_by (x2 = 3) (fun c_11 => ?_) (fun c_11 => ?_)
      · replace hf := ww_ip hf c_11
        refine ww_tin (k := 3) (off := 52) (tgt := 91) hx hb dX3_about_39 c_11 (by decide) (by decide) (by decide) (by decide) ?_
        refine lv_aload_n hx hb dX3_about_91 rfl (lv_at hl 0 rfl) ?_
        obtain ⟨r_12, h_12, hf⟩ := ww_bS hf
        refine t3c_leaves X hl.1 hK hD hR hS (Nat.le_trans (Nat.le_of_ble_eq_true rfl) hF) (Nat.le_trans (Nat.le_of_ble_eq_true rfl) hLo) h_12 (Nat.le_of_ble_eq_true rfl) dX3_about_92 (fun H locs hR hS => ?_)
        exact hend dX3_about_95 rfl rfl hf hR hS
      replace hf := ww_in hf c_11
      refine ww_by (x2 = 4) (fun c_13 => ?_) (fun c_13 => ?_)
      · replace hf := ww_ip hf c_13
        refine ww_tin (k := 4) (off := 57) (tgt := 96) hx hb dX3_about_39 c_13 (by decide) (by decide) (by decide) (by decide) ?_
        refine lv_aload_n hx hb dX3_about_96 rfl (lv_at hl 0 rfl) ?_
        refine lv_iconst (v := (0 : Int32)) hx hb dX3_about_97 (by decide) ?_
        refine lv_sipush (v := (999 : Int32)) hx hb dX3_about_98 (by decide) ?_
        obtain ⟨r_14, h_14, hf⟩ := ww_bS hf
        refine t3c_sumOf X hl.1 hK hD hR hS (Nat.le_trans (Nat.le_of_ble_eq_true rfl) hF) (Nat.le_trans (Nat.le_of_ble_eq_true rfl) hLo) h_14 (Nat.le_of_ble_eq_true rfl) dX3_about_101 (fun H locs hR hS => ?_)
        exact hend dX3_about_104 rfl rfl hf hR hS
      replace hf := ww_in hf c_13
      refine ww_by (x2 = 5) (fun c_15 => ?_) (fun c_15 => ?_)
      · replace hf := ww_ip hf c_15
        refine ww_tin (k := 5) (off := 66) (tgt := 105) hx hb dX3_about_39 c_15 (by decide) (by decide) (by decide) (by decide) ?_
        refine lv_aload_n hx hb dX3_about_105 rfl (lv_at hl 0 rfl) ?_
        refine t3g_33 X hK hR dX3_about_106 ?_
        refine lv_iload_n hx hb dX3_about_109 rfl (lv_at hl 1 rfl) ?_
        obtain ⟨h_16, hf⟩ := ww_gS hf
        refine t3l_33 X hK hR h_16 dX3_about_110 ?_
        exact hend dX3_about_111 rfl rfl hf hR hS
      replace hf := ww_in hf c_15
      refine ww_tout (tgt := 112) [0, 1, 2, 3, 4, 5] hx hb dX3_about_39 ⟨c_7, c_8, c_10, c_11, c_13, c_15, trivial⟩ (by decide) (by decide) ?_
      refine lv_aload_n hx hb dX3_about_112 rfl (lv_at hl 0 rfl) ?_
      refine t3g_34 X hK hR dX3_about_113 ?_
      refine lv_iload_n hx hb dX3_about_116 rfl (lv_at hl 1 rfl) ?_
      obtain ⟨h_17, hf⟩ := ww_gS hf
      refine t3l_34 X hK hR h_17 dX3_about_117 ?_
      exact hend dX3_about_118 rfl rfl hf hR hS
    · replace hf := ww_ip hf c_4
      refine lv_ldc (v := (-1000000 : Int32)) hx hb hown (hts _ q1942) dX3_about_25 ?_
      exact hend dX3_about_27 rfl rfl hf hR hS
noncomputable def f3_below_b1c (M : ww_M) (y2 : Int32) (x3 : Int32) : Option ((Int32) ⊕ (Int32 × ww_M)) :=
  if (ww_F M 30) ≤ x3 then ww_x (some (x3, M)) else ww_g (ww_i x3 140) (if y2 ≤ (ww_X M 26 x3) then ww_x (some (x3, M)) else some (.inl (x3 + (1 : Int32))))
noncomputable def f3_below_b1 (M : ww_M) (y2 : Int32) : Int32 → Option ((Int32) ⊕ (Int32 × ww_M)) := fun s9 => f3_below_b1c M y2 s9
noncomputable def f3_below (M : ww_M) (x1 : Int32) (x2 : Int32) : Option (Int32 × ww_M) :=
  ww_b (f3_isMap (ww_sF M 0 (0 : Int32)) x1) (fun r_1 => if r_1 = 0 then some ((-1 : Int32), (ww_sF M 0 (0 : Int32))) else ww_g (ww_i x1 999) (ww_b (f3_laysTree (ww_sF M 0 (0 : Int32)) (ww_X (ww_sF M 0 (0 : Int32)) 32 x1)) (fun M_4 => ww_U (f3_below_b1 M_4 x2) (0 : Int32))))
set_option maxHeartbeats 4000000 in
set_option maxRecDepth 100000 in
theorem met3_below (l : Launch) {E : ww_E} (hD : t3_D E) (M : ww_M) (x1 : Int32) (x2 : Int32) (r : Int32) (M' : ww_M) (hf : f3_below M x1 x2 = some (r, M')) : t3_Met l yX3_below cX3_below 4 (some Jvm.ClassFile.FieldType.int) 13 296 E [.int x1, .int x2] M M' r := by
  unfold f3_below at hf
  refine t3_start (by decide +kernel) (Nat.le_of_ble_eq_true rfl) ?_
  intro p e s m args below meth c Rm Q X hK hF hLo hend ls hl hR hS
  obtain ⟨hx, hb, hml, hown, hts⟩ := id X
  replace hl : lv_has ls 4 [(0, .ref E.1), (1, .int x1), (2, .int x2)] := hl
  refine lv_aload_n hx hb dX3_below_0 rfl (lv_at hl 0 rfl) ?_
  refine lv_iconst (v := (0 : Int32)) hx hb dX3_below_1 (by decide) ?_
  refine t3p_0 X hK hD hR hS dX3_below_2 (fun H locs hR hS => ?_)
  refine lv_aload_n hx hb dX3_below_5 rfl (lv_at hl 0 rfl) ?_
  refine lv_iload_n hx hb dX3_below_6 rfl (lv_at hl 1 rfl) ?_
  obtain ⟨r_1, h_1, hf⟩ := ww_bS hf
  refine t3c_isMap X hl.1 hK hD hR hS (Nat.le_trans (Nat.le_of_ble_eq_true rfl) hF) (Nat.le_trans (Nat.le_of_ble_eq_true rfl) hLo) h_1 (Nat.le_of_ble_eq_true rfl) dX3_below_7 (fun H locs hR hS => ?_)
  refine lv_if_ne (tgt := 15) hx hb dX3_below_10 (by decide) (fun c_2 => ?_) (fun c_2 => ?_)
  · replace hf := ww_in hf c_2
    refine lv_aload_n hx hb dX3_below_15 rfl (lv_at hl 0 rfl) ?_
    refine lv_aload_n hx hb dX3_below_16 rfl (lv_at hl 0 rfl) ?_
    refine t3g_32 X hK hR dX3_below_17 ?_
    refine lv_iload_n hx hb dX3_below_20 rfl (lv_at hl 1 rfl) ?_
    obtain ⟨h_3, hf⟩ := ww_gS hf
    refine t3l_32 X hK hR h_3 dX3_below_21 ?_
    obtain ⟨M_4, h_4, hf⟩ := ww_bS hf
    refine t3c_laysTree X hl.1 hK hD hR hS (Nat.le_trans (Nat.le_of_ble_eq_true rfl) hF) (Nat.le_trans (Nat.le_of_ble_eq_true rfl) hLo) h_4 (Nat.le_of_ble_eq_true rfl) dX3_below_22 (fun H locs hR hS => ?_)
    refine lv_iconst (v := (0 : Int32)) hx hb dX3_below_25 (by decide) ?_
    refine lv_istore_n (lv' := [(3, .int (0 : Int32)), (0, .ref E.1), (1, .int x1), (2, .int x2)]) hx hb dX3_below_26 rfl hl (by decide) rfl (fun ls hl => ?_)
    have hL_1 : ∀ s9 : Int32, ww_U (f3_below_b1 M_4 x2) s9 = some (r, M') → ∀ (H : Heap) (locs : List Loc) (ls : Array Slot), t3_H E M_4 H → va_S (t3_A E) s.heap H locs → lv_has ls 4 [(0, .ref E.1), (2, .int x2), (3, .int s9)] → W p l e Rm s m args below meth c H locs 0 0 Q (F0 m 27 ls []) := by
      refine ww_ind _ (r, M') ?_
      intro s9 z_1 hf hz_1 H locs ls hR hS hl
      obtain ⟨x3, e9⟩ : ∃ q9, q9 = s9 := ⟨_, rfl⟩; subst e9
      replace hf : f3_below_b1c M_4 x2 x3 = some z_1 := hf
      unfold f3_below_b1c at hf
      replace hl : lv_has ls 4 [(0, .ref E.1), (2, .int x2), (3, .int x3)] := hl
      refine lv_iload_n hx hb dX3_below_27 rfl (lv_at hl 2 rfl) ?_
      refine lv_aload_n hx hb dX3_below_28 rfl (lv_at hl 0 rfl) ?_
      refine t3g_30 X hK hR dX3_below_29 ?_
      refine lv_icmp_ge (tgt := 51) hx hb dX3_below_32 (by decide) (fun c_5 => ?_) (fun c_5 => ?_)
      · replace hf := ww_ip hf c_5
        replace hf := ww_xK hf hz_1
        refine lv_iload_n hx hb dX3_below_51 rfl (lv_at hl 2 rfl) ?_
        exact hend dX3_below_52 rfl rfl hf hR hS
      · replace hf := ww_in hf c_5
        refine lv_aload_n hx hb dX3_below_35 rfl (lv_at hl 0 rfl) ?_
        refine t3g_26 X hK hR dX3_below_36 ?_
        refine lv_iload_n hx hb dX3_below_39 rfl (lv_at hl 2 rfl) ?_
        obtain ⟨h_6, hf⟩ := ww_gS hf
        refine t3l_26 X hK hR h_6 dX3_below_40 ?_
        refine lv_iload_n hx hb dX3_below_41 rfl (lv_at hl 1 rfl) ?_
        refine lv_icmp_ge (tgt := 51) hx hb dX3_below_42 (by decide) (fun c_7 => ?_) (fun c_7 => ?_)
        · replace hf := ww_ip hf c_7
          replace hf := ww_xK hf hz_1
          refine lv_iload_n hx hb dX3_below_51 rfl (lv_at hl 2 rfl) ?_
          exact hend dX3_below_52 rfl rfl hf hR hS
        · replace hf := ww_in hf c_7
          refine lv_iinc (k := 2) (v := x3 + (1 : Int32)) (lv' := [(3, .int (x3 + (1 : Int32))), (0, .ref E.1), (2, .int x2)]) hx hb dX3_below_45 hl rfl rfl (by decide) rfl (fun ls hl => ?_)
          refine lv_goto (tgt := 27) hx hb dX3_below_48 (by decide) ?_
          exact ww_lK hf hz_1 _ _ _ hR hS (lv_sub hl [1, 2, 0] rfl)
    exact hL_1 (0 : Int32) hf _ _ _ hR hS (lv_sub hl [1, 3, 0] rfl)
  · replace hf := ww_ip hf c_2
    refine lv_iconst (v := (-1 : Int32)) hx hb dX3_below_13 (by decide) ?_
    exact hend dX3_below_14 rfl rfl hf hR hS
noncomputable def f3_near_j1 (M : ww_M) (y2 : Int32) (y3 : Int32) (y5 : Int32) (y6 : Int32) (x4_1 : Int32) : Option ((Int32 × Int32 × Int32) ⊕ (Int32 × ww_M)) :=
  if y5 = (-1 : Int32) then ww_g (ww_i y6 140) (if y2 < (ww_X M 26 y6) then ww_g (ww_i y6 140) (some (.inl (x4_1, (ww_X M 26 y6), (y6 + (1 : Int32))))) else if y3 = (1 : Int32) then ww_g (ww_i y6 140) (if (ww_X M 26 y6) = y2 then ww_g (ww_i y6 140) (some (.inl (x4_1, (ww_X M 26 y6), (y6 + (1 : Int32))))) else some (.inl (x4_1, y5, (y6 + (1 : Int32))))) else some (.inl (x4_1, y5, (y6 + (1 : Int32))))) else some (.inl (x4_1, y5, (y6 + (1 : Int32))))
noncomputable def f3_near_b1c (M : ww_M) (y2 : Int32) (y3 : Int32) (x4 : Int32) (x5 : Int32) (x6 : Int32) : Option ((Int32 × Int32 × Int32) ⊕ (Int32 × ww_M)) :=
  if (ww_F M 30) ≤ x6 then ww_x (if y3 = 0 then some (x4, M) else if y3 = (2 : Int32) then some (x4, M) else some (x5, M)) else ww_g (ww_i x6 140) (if (ww_X M 26 x6) < y2 then ww_g (ww_i x6 140) (f3_near_j1 M y2 y3 x5 x6 (ww_X M 26 x6)) else if y3 = 0 then ww_g (ww_i x6 140) (if (ww_X M 26 x6) = y2 then ww_g (ww_i x6 140) (f3_near_j1 M y2 y3 x5 x6 (ww_X M 26 x6)) else f3_near_j1 M y2 y3 x5 x6 x4) else f3_near_j1 M y2 y3 x5 x6 x4)
noncomputable def f3_near_b1 (M : ww_M) (y2 : Int32) (y3 : Int32) : (Int32 × Int32 × Int32) → Option ((Int32 × Int32 × Int32) ⊕ (Int32 × ww_M)) := fun s9 => f3_near_b1c M y2 y3 s9.1 s9.2.1 s9.2.2
noncomputable def f3_near (M : ww_M) (x1 : Int32) (x2 : Int32) (x3 : Int32) : Option (Int32 × ww_M) :=
  ww_b (f3_isMap (ww_sF M 0 (0 : Int32)) x1) (fun r_1 => if r_1 = 0 then some ((-1 : Int32), (ww_sF M 0 (0 : Int32))) else ww_b (f3_isIn x3.toInt64 (0 : Int64) (3 : Int64)) (fun r_3 => if r_3 = 0 then some ((-1 : Int32), (ww_sF M 0 (0 : Int32))) else ww_g (ww_i x1 999) (ww_b (f3_laysTree (ww_sF M 0 (0 : Int32)) (ww_X (ww_sF M 0 (0 : Int32)) 32 x1)) (fun M_6 => ww_U (f3_near_b1 M_6 x2 x3) ((-1 : Int32), (-1 : Int32), (0 : Int32))))))
set_option maxHeartbeats 4000000 in
set_option maxRecDepth 100000 in
theorem met3_near (l : Launch) {E : ww_E} (hD : t3_D E) (M : ww_M) (x1 : Int32) (x2 : Int32) (x3 : Int32) (r : Int32) (M' : ww_M) (hf : f3_near M x1 x2 x3 = some (r, M')) : t3_Met l yX3_near cX3_near 7 (some Jvm.ClassFile.FieldType.int) 13 296 E [.int x1, .int x2, .int x3] M M' r := by
  unfold f3_near at hf
  refine t3_start (by decide +kernel) (Nat.le_of_ble_eq_true rfl) ?_
  intro p e s m args below meth c Rm Q X hK hF hLo hend ls hl hR hS
  obtain ⟨hx, hb, hml, hown, hts⟩ := id X
  replace hl : lv_has ls 7 [(0, .ref E.1), (1, .int x1), (2, .int x2), (3, .int x3)] := hl
  refine lv_aload_n hx hb dX3_near_0 rfl (lv_at hl 0 rfl) ?_
  refine lv_iconst (v := (0 : Int32)) hx hb dX3_near_1 (by decide) ?_
  refine t3p_0 X hK hD hR hS dX3_near_2 (fun H locs hR hS => ?_)
  refine lv_aload_n hx hb dX3_near_5 rfl (lv_at hl 0 rfl) ?_
  refine lv_iload_n hx hb dX3_near_6 rfl (lv_at hl 1 rfl) ?_
  obtain ⟨r_1, h_1, hf⟩ := ww_bS hf
  refine t3c_isMap X hl.1 hK hD hR hS (Nat.le_trans (Nat.le_of_ble_eq_true rfl) hF) (Nat.le_trans (Nat.le_of_ble_eq_true rfl) hLo) h_1 (Nat.le_of_ble_eq_true rfl) dX3_near_7 (fun H locs hR hS => ?_)
  refine lv_if_eq (tgt := 25) hx hb dX3_near_10 (by decide) (fun c_2 => ?_) (fun c_2 => ?_)
  · replace hf := ww_ip hf c_2
    refine lv_iconst (v := (-1 : Int32)) hx hb dX3_near_25 (by decide) ?_
    exact hend dX3_near_26 rfl rfl hf hR hS
  · replace hf := ww_in hf c_2
    refine lv_iload_n hx hb dX3_near_13 rfl (lv_at hl 3 rfl) ?_
    refine lv_i2l (v := x3.toInt64) hx hb dX3_near_14 rfl ?_
    refine lv_lconst (v := (0 : Int64)) hx hb dX3_near_15 (by decide) ?_
    refine lv_ldc2 (v := (3 : Int64)) hx hb hown (hts _ q2027) dX3_near_16 ?_
    obtain ⟨r_3, h_3, hf⟩ := ww_bS hf
    refine t3c_isIn X hl.1 (Nat.le_trans (Nat.le_of_ble_eq_true rfl) hF) (Nat.le_trans (Nat.le_of_ble_eq_true rfl) hLo) h_3 (Nat.le_of_ble_eq_true rfl) dX3_near_19 ?_
    refine lv_if_ne (tgt := 27) hx hb dX3_near_22 (by decide) (fun c_4 => ?_) (fun c_4 => ?_)
    · replace hf := ww_in hf c_4
      refine lv_aload_n hx hb dX3_near_27 rfl (lv_at hl 0 rfl) ?_
      refine lv_aload_n hx hb dX3_near_28 rfl (lv_at hl 0 rfl) ?_
      refine t3g_32 X hK hR dX3_near_29 ?_
      refine lv_iload_n hx hb dX3_near_32 rfl (lv_at hl 1 rfl) ?_
      obtain ⟨h_5, hf⟩ := ww_gS hf
      refine t3l_32 X hK hR h_5 dX3_near_33 ?_
      obtain ⟨M_6, h_6, hf⟩ := ww_bS hf
      refine t3c_laysTree X hl.1 hK hD hR hS (Nat.le_trans (Nat.le_of_ble_eq_true rfl) hF) (Nat.le_trans (Nat.le_of_ble_eq_true rfl) hLo) h_6 (Nat.le_of_ble_eq_true rfl) dX3_near_34 (fun H locs hR hS => ?_)
      refine lv_iconst (v := (-1 : Int32)) hx hb dX3_near_37 (by decide) ?_
      refine lv_istore (lv' := [(4, .int (-1 : Int32)), (0, .ref E.1), (1, .int x1), (2, .int x2), (3, .int x3)]) hx hb dX3_near_38 hl (by decide) rfl (fun ls hl => ?_)
      refine lv_iconst (v := (-1 : Int32)) hx hb dX3_near_40 (by decide) ?_
      refine lv_istore (lv' := [(5, .int (-1 : Int32)), (4, .int (-1 : Int32)), (0, .ref E.1), (1, .int x1), (2, .int x2), (3, .int x3)]) hx hb dX3_near_41 hl (by decide) rfl (fun ls hl => ?_)
      refine lv_iconst (v := (0 : Int32)) hx hb dX3_near_43 (by decide) ?_
      refine lv_istore (lv' := [(6, .int (0 : Int32)), (5, .int (-1 : Int32)), (4, .int (-1 : Int32)), (0, .ref E.1), (1, .int x1), (2, .int x2), (3, .int x3)]) hx hb dX3_near_44 hl (by decide) rfl (fun ls hl => ?_)
      have hL_1 : ∀ s9 : Int32 × Int32 × Int32, ww_U (f3_near_b1 M_6 x2 x3) s9 = some (r, M') → ∀ (H : Heap) (locs : List Loc) (ls : Array Slot), t3_H E M_6 H → va_S (t3_A E) s.heap H locs → lv_has ls 7 [(0, .ref E.1), (2, .int x2), (3, .int x3), (4, .int s9.1), (5, .int s9.2.1), (6, .int s9.2.2)] → W p l e Rm s m args below meth c H locs 0 0 Q (F0 m 46 ls []) := by
        refine ww_ind _ (r, M') ?_
        intro s9 z_1 hf hz_1 H locs ls hR hS hl
        obtain ⟨x4, x5, x6⟩ := s9
        replace hf : f3_near_b1c M_6 x2 x3 x4 x5 x6 = some z_1 := hf
        unfold f3_near_b1c at hf
        replace hl : lv_has ls 7 [(0, .ref E.1), (2, .int x2), (3, .int x3), (4, .int x4), (5, .int x5), (6, .int x6)] := hl
        refine lv_iload hx hb dX3_near_46 (lv_at hl 5 rfl) ?_
        refine lv_aload_n hx hb dX3_near_48 rfl (lv_at hl 0 rfl) ?_
        refine t3g_30 X hK hR dX3_near_49 ?_
        refine lv_icmp_ge (tgt := 138) hx hb dX3_near_52 (by decide) (fun c_7 => ?_) (fun c_7 => ?_)
        · replace hf := ww_ip hf c_7
          replace hf := ww_xK hf hz_1
          refine lv_iload_n hx hb dX3_near_138 rfl (lv_at hl 2 rfl) ?_
          refine lv_if_eq (tgt := 147) hx hb dX3_near_139 (by decide) (fun c_8 => ?_) (fun c_8 => ?_)
          · replace hf := ww_ip hf c_8
            refine lv_iload hx hb dX3_near_147 (lv_at hl 3 rfl) ?_
            refine lv_goto (tgt := 154) hx hb dX3_near_149 (by decide) ?_
            exact hend dX3_near_154 rfl rfl hf hR hS
          · replace hf := ww_in hf c_8
            refine lv_iload_n hx hb dX3_near_142 rfl (lv_at hl 2 rfl) ?_
            refine lv_iconst (v := (2 : Int32)) hx hb dX3_near_143 (by decide) ?_
            refine lv_icmp_ne (tgt := 152) hx hb dX3_near_144 (by decide) (fun c_9 => ?_) (fun c_9 => ?_)
            · replace hf := ww_in hf c_9
              refine lv_iload hx hb dX3_near_152 (lv_at hl 4 rfl) ?_
              exact hend dX3_near_154 rfl rfl hf hR hS
            · replace hf := ww_ip hf c_9
              refine lv_iload hx hb dX3_near_147 (lv_at hl 3 rfl) ?_
              refine lv_goto (tgt := 154) hx hb dX3_near_149 (by decide) ?_
              exact hend dX3_near_154 rfl rfl hf hR hS
        · replace hf := ww_in hf c_7
          refine lv_aload_n hx hb dX3_near_55 rfl (lv_at hl 0 rfl) ?_
          refine t3g_26 X hK hR dX3_near_56 ?_
          refine lv_iload hx hb dX3_near_59 (lv_at hl 5 rfl) ?_
          obtain ⟨h_10, hf⟩ := ww_gS hf
          refine t3l_26 X hK hR h_10 dX3_near_61 ?_
          refine lv_iload_n hx hb dX3_near_62 rfl (lv_at hl 1 rfl) ?_
          have hj_1 : ∀ (x4_1 : Int32), f3_near_j1 M_6 x2 x3 x5 x6 x4_1 = some z_1 → ∀ (H : Heap) (locs : List Loc) (ls : Array Slot), t3_H E M_6 H → va_S (t3_A E) s.heap H locs → lv_has ls 7 [(0, .ref E.1), (2, .int x2), (3, .int x3), (4, .int x4_1), (5, .int x5), (6, .int x6)] → W p l e Rm s m args below meth c H locs 0 0 Q (F0 m 90 ls []) := by
            intro x4_1 hf H locs ls hR hS hl
            unfold f3_near_j1 at hf
            refine lv_iload hx hb dX3_near_90 (lv_at hl 4 rfl) ?_
            refine lv_iconst (v := (-1 : Int32)) hx hb dX3_near_92 (by decide) ?_
            refine lv_icmp_ne (tgt := 132) hx hb dX3_near_93 (by decide) (fun c_11 => ?_) (fun c_11 => ?_)
            · replace hf := ww_in hf c_11
              refine lv_iinc (k := 5) (v := x6 + (1 : Int32)) (lv' := [(6, .int (x6 + (1 : Int32))), (0, .ref E.1), (2, .int x2), (3, .int x3), (4, .int x4_1), (5, .int x5)]) hx hb dX3_near_132 hl rfl rfl (by decide) rfl (fun ls hl => ?_)
              refine lv_goto (tgt := 46) hx hb dX3_near_135 (by decide) ?_
              exact ww_lK hf hz_1 _ _ _ hR hS (lv_sub hl [1, 2, 3, 4, 5, 0] rfl)
            · replace hf := ww_ip hf c_11
              refine lv_aload_n hx hb dX3_near_96 rfl (lv_at hl 0 rfl) ?_
              refine t3g_26 X hK hR dX3_near_97 ?_
              refine lv_iload hx hb dX3_near_100 (lv_at hl 5 rfl) ?_
              obtain ⟨h_12, hf⟩ := ww_gS hf
              refine t3l_26 X hK hR h_12 dX3_near_102 ?_
              refine lv_iload_n hx hb dX3_near_103 rfl (lv_at hl 1 rfl) ?_
              refine lv_icmp_gt (tgt := 123) hx hb dX3_near_104 (by decide) (fun c_13 => ?_) (fun c_13 => ?_)
              · replace hf := ww_ip hf c_13
                refine lv_aload_n hx hb dX3_near_123 rfl (lv_at hl 0 rfl) ?_
                refine t3g_26 X hK hR dX3_near_124 ?_
                refine lv_iload hx hb dX3_near_127 (lv_at hl 5 rfl) ?_
                obtain ⟨h_14, hf⟩ := ww_gS hf
                refine t3l_26 X hK hR h_14 dX3_near_129 ?_
                refine lv_istore (lv' := [(5, .int (ww_X M_6 26 x6)), (0, .ref E.1), (2, .int x2), (3, .int x3), (4, .int x4_1), (6, .int x6)]) hx hb dX3_near_130 hl (by decide) rfl (fun ls hl => ?_)
                refine lv_iinc (k := 5) (v := x6 + (1 : Int32)) (lv' := [(6, .int (x6 + (1 : Int32))), (5, .int (ww_X M_6 26 x6)), (0, .ref E.1), (2, .int x2), (3, .int x3), (4, .int x4_1)]) hx hb dX3_near_132 hl rfl rfl (by decide) rfl (fun ls hl => ?_)
                refine lv_goto (tgt := 46) hx hb dX3_near_135 (by decide) ?_
                exact ww_lK hf hz_1 _ _ _ hR hS (lv_sub hl [2, 3, 4, 5, 1, 0] rfl)
              · replace hf := ww_in hf c_13
                refine lv_iload_n hx hb dX3_near_107 rfl (lv_at hl 2 rfl) ?_
                refine lv_iconst (v := (1 : Int32)) hx hb dX3_near_108 (by decide) ?_
                refine lv_icmp_ne (tgt := 132) hx hb dX3_near_109 (by decide) (fun c_15 => ?_) (fun c_15 => ?_)
                · replace hf := ww_in hf c_15
                  refine lv_iinc (k := 5) (v := x6 + (1 : Int32)) (lv' := [(6, .int (x6 + (1 : Int32))), (0, .ref E.1), (2, .int x2), (3, .int x3), (4, .int x4_1), (5, .int x5)]) hx hb dX3_near_132 hl rfl rfl (by decide) rfl (fun ls hl => ?_)
                  refine lv_goto (tgt := 46) hx hb dX3_near_135 (by decide) ?_
                  exact ww_lK hf hz_1 _ _ _ hR hS (lv_sub hl [1, 2, 3, 4, 5, 0] rfl)
                · replace hf := ww_ip hf c_15
                  refine lv_aload_n hx hb dX3_near_112 rfl (lv_at hl 0 rfl) ?_
                  refine t3g_26 X hK hR dX3_near_113 ?_
                  refine lv_iload hx hb dX3_near_116 (lv_at hl 5 rfl) ?_
                  obtain ⟨h_16, hf⟩ := ww_gS hf
                  refine t3l_26 X hK hR h_16 dX3_near_118 ?_
                  refine lv_iload_n hx hb dX3_near_119 rfl (lv_at hl 1 rfl) ?_
                  refine lv_icmp_ne (tgt := 132) hx hb dX3_near_120 (by decide) (fun c_17 => ?_) (fun c_17 => ?_)
                  · replace hf := ww_in hf c_17
                    refine lv_iinc (k := 5) (v := x6 + (1 : Int32)) (lv' := [(6, .int (x6 + (1 : Int32))), (0, .ref E.1), (2, .int x2), (3, .int x3), (4, .int x4_1), (5, .int x5)]) hx hb dX3_near_132 hl rfl rfl (by decide) rfl (fun ls hl => ?_)
                    refine lv_goto (tgt := 46) hx hb dX3_near_135 (by decide) ?_
                    exact ww_lK hf hz_1 _ _ _ hR hS (lv_sub hl [1, 2, 3, 4, 5, 0] rfl)
                  · replace hf := ww_ip hf c_17
                    refine lv_aload_n hx hb dX3_near_123 rfl (lv_at hl 0 rfl) ?_
                    refine t3g_26 X hK hR dX3_near_124 ?_
                    refine lv_iload hx hb dX3_near_127 (lv_at hl 5 rfl) ?_
                    obtain ⟨h_18, hf⟩ := ww_gS hf
                    refine t3l_26 X hK hR h_18 dX3_near_129 ?_
                    refine lv_istore (lv' := [(5, .int (ww_X M_6 26 x6)), (0, .ref E.1), (2, .int x2), (3, .int x3), (4, .int x4_1), (6, .int x6)]) hx hb dX3_near_130 hl (by decide) rfl (fun ls hl => ?_)
                    refine lv_iinc (k := 5) (v := x6 + (1 : Int32)) (lv' := [(6, .int (x6 + (1 : Int32))), (5, .int (ww_X M_6 26 x6)), (0, .ref E.1), (2, .int x2), (3, .int x3), (4, .int x4_1)]) hx hb dX3_near_132 hl rfl rfl (by decide) rfl (fun ls hl => ?_)
                    refine lv_goto (tgt := 46) hx hb dX3_near_135 (by decide) ?_
                    exact ww_lK hf hz_1 _ _ _ hR hS (lv_sub hl [2, 3, 4, 5, 1, 0] rfl)
          refine lv_icmp_lt (tgt := 81) hx hb dX3_near_63 (by decide) (fun c_19 => ?_) (fun c_19 => ?_)
          · replace hf := ww_ip hf c_19
            refine lv_aload_n hx hb dX3_near_81 rfl (lv_at hl 0 rfl) ?_
            refine t3g_26 X hK hR dX3_near_82 ?_
            refine lv_iload hx hb dX3_near_85 (lv_at hl 5 rfl) ?_
            obtain ⟨h_20, hf⟩ := ww_gS hf
            refine t3l_26 X hK hR h_20 dX3_near_87 ?_
            refine lv_istore (lv' := [(4, .int (ww_X M_6 26 x6)), (0, .ref E.1), (2, .int x2), (3, .int x3), (5, .int x5), (6, .int x6)]) hx hb dX3_near_88 hl (by decide) rfl (fun ls hl => ?_)
            exact hj_1 (ww_X M_6 26 x6) hf _ _ _ hR hS (lv_sub hl [1, 2, 3, 0, 4, 5] rfl)
          · replace hf := ww_in hf c_19
            refine lv_iload_n hx hb dX3_near_66 rfl (lv_at hl 2 rfl) ?_
            refine lv_if_ne (tgt := 90) hx hb dX3_near_67 (by decide) (fun c_21 => ?_) (fun c_21 => ?_)
            · replace hf := ww_in hf c_21
              exact hj_1 x4 hf _ _ _ hR hS hl
            · replace hf := ww_ip hf c_21
              refine lv_aload_n hx hb dX3_near_70 rfl (lv_at hl 0 rfl) ?_
              refine t3g_26 X hK hR dX3_near_71 ?_
              refine lv_iload hx hb dX3_near_74 (lv_at hl 5 rfl) ?_
              obtain ⟨h_22, hf⟩ := ww_gS hf
              refine t3l_26 X hK hR h_22 dX3_near_76 ?_
              refine lv_iload_n hx hb dX3_near_77 rfl (lv_at hl 1 rfl) ?_
              refine lv_icmp_ne (tgt := 90) hx hb dX3_near_78 (by decide) (fun c_23 => ?_) (fun c_23 => ?_)
              · replace hf := ww_in hf c_23
                exact hj_1 x4 hf _ _ _ hR hS hl
              · replace hf := ww_ip hf c_23
                refine lv_aload_n hx hb dX3_near_81 rfl (lv_at hl 0 rfl) ?_
                refine t3g_26 X hK hR dX3_near_82 ?_
                refine lv_iload hx hb dX3_near_85 (lv_at hl 5 rfl) ?_
                obtain ⟨h_24, hf⟩ := ww_gS hf
                refine t3l_26 X hK hR h_24 dX3_near_87 ?_
                refine lv_istore (lv' := [(4, .int (ww_X M_6 26 x6)), (0, .ref E.1), (2, .int x2), (3, .int x3), (5, .int x5), (6, .int x6)]) hx hb dX3_near_88 hl (by decide) rfl (fun ls hl => ?_)
                exact hj_1 (ww_X M_6 26 x6) hf _ _ _ hR hS (lv_sub hl [1, 2, 3, 0, 4, 5] rfl)
      exact hL_1 ((-1 : Int32), (-1 : Int32), (0 : Int32)) hf _ _ _ hR hS (lv_sub hl [3, 5, 6, 2, 1, 0] rfl)
    · replace hf := ww_ip hf c_4
      refine lv_iconst (v := (-1 : Int32)) hx hb dX3_near_25 (by decide) ?_
      exact hend dX3_near_26 rfl rfl hf hR hS
noncomputable def f3_total (M : ww_M) (x1 : Int32) (x2 : Int32) (x3 : Int32) : Option (Int32 × ww_M) :=
  ww_b (f3_isMap (ww_sF M 0 (0 : Int32)) x1) (fun r_1 => if r_1 = 0 then some ((-1000000 : Int32), (ww_sF M 0 (0 : Int32))) else ww_g (ww_i x1 999) (ww_b (f3_laysTree (ww_sF M 0 (0 : Int32)) (ww_X (ww_sF M 0 (0 : Int32)) 32 x1)) (fun M_4 => ww_b (f3_sumOf M_4 x2 x3) (fun r_5 => some (r_5, M_4)))))
set_option maxHeartbeats 4000000 in
set_option maxRecDepth 100000 in
theorem met3_total (l : Launch) {E : ww_E} (hD : t3_D E) (M : ww_M) (x1 : Int32) (x2 : Int32) (x3 : Int32) (r : Int32) (M' : ww_M) (hf : f3_total M x1 x2 x3 = some (r, M')) : t3_Met l yX3_total cX3_total 4 (some Jvm.ClassFile.FieldType.int) 13 296 E [.int x1, .int x2, .int x3] M M' r := by
  unfold f3_total at hf
  refine t3_start (by decide +kernel) (Nat.le_of_ble_eq_true rfl) ?_
  intro p e s m args below meth c Rm Q X hK hF hLo hend ls hl hR hS
  obtain ⟨hx, hb, hml, hown, hts⟩ := id X
  replace hl : lv_has ls 4 [(0, .ref E.1), (1, .int x1), (2, .int x2), (3, .int x3)] := hl
  refine lv_aload_n hx hb dX3_total_0 rfl (lv_at hl 0 rfl) ?_
  refine lv_iconst (v := (0 : Int32)) hx hb dX3_total_1 (by decide) ?_
  refine t3p_0 X hK hD hR hS dX3_total_2 (fun H locs hR hS => ?_)
  refine lv_aload_n hx hb dX3_total_5 rfl (lv_at hl 0 rfl) ?_
  refine lv_iload_n hx hb dX3_total_6 rfl (lv_at hl 1 rfl) ?_
  obtain ⟨r_1, h_1, hf⟩ := ww_bS hf
  refine t3c_isMap X hl.1 hK hD hR hS (Nat.le_trans (Nat.le_of_ble_eq_true rfl) hF) (Nat.le_trans (Nat.le_of_ble_eq_true rfl) hLo) h_1 (Nat.le_of_ble_eq_true rfl) dX3_total_7 (fun H locs hR hS => ?_)
  refine lv_if_ne (tgt := 16) hx hb dX3_total_10 (by decide) (fun c_2 => ?_) (fun c_2 => ?_)
  · replace hf := ww_in hf c_2
    refine lv_aload_n hx hb dX3_total_16 rfl (lv_at hl 0 rfl) ?_
    refine lv_aload_n hx hb dX3_total_17 rfl (lv_at hl 0 rfl) ?_
    refine t3g_32 X hK hR dX3_total_18 ?_
    refine lv_iload_n hx hb dX3_total_21 rfl (lv_at hl 1 rfl) ?_
    obtain ⟨h_3, hf⟩ := ww_gS hf
    refine t3l_32 X hK hR h_3 dX3_total_22 ?_
    obtain ⟨M_4, h_4, hf⟩ := ww_bS hf
    refine t3c_laysTree X hl.1 hK hD hR hS (Nat.le_trans (Nat.le_of_ble_eq_true rfl) hF) (Nat.le_trans (Nat.le_of_ble_eq_true rfl) hLo) h_4 (Nat.le_of_ble_eq_true rfl) dX3_total_23 (fun H locs hR hS => ?_)
    refine lv_aload_n hx hb dX3_total_26 rfl (lv_at hl 0 rfl) ?_
    refine lv_iload_n hx hb dX3_total_27 rfl (lv_at hl 2 rfl) ?_
    refine lv_iload_n hx hb dX3_total_28 rfl (lv_at hl 3 rfl) ?_
    obtain ⟨r_5, h_5, hf⟩ := ww_bS hf
    refine t3c_sumOf X hl.1 hK hD hR hS (Nat.le_trans (Nat.le_of_ble_eq_true rfl) hF) (Nat.le_trans (Nat.le_of_ble_eq_true rfl) hLo) h_5 (Nat.le_of_ble_eq_true rfl) dX3_total_29 (fun H locs hR hS => ?_)
    exact hend dX3_total_32 rfl rfl hf hR hS
  · replace hf := ww_ip hf c_2
    refine lv_ldc (v := (-1000000 : Int32)) hx hb hown (hts _ q1942) dX3_total_13 ?_
    exact hend dX3_total_15 rfl rfl hf hR hS
noncomputable def f3_holders_b1c (y1 : Int32) (M_1 : ww_M) (x2 : Int32) (x3 : Int32) : Option ((ww_M × Int32 × Int32) ⊕ (Int32 × ww_M)) :=
  if (ww_F M_1 41) ≤ x3 then ww_x (some (x2, M_1)) else ww_g (ww_i x3 999) (if (ww_X M_1 39 x3) = 0 then some (.inl (M_1, x2, (x3 + (1 : Int32)))) else ww_g (ww_i x3 999) (ww_b2 (f3_marks 10 (ww_sF M_1 22 ((ww_F M_1 22) + (1 : Int32))) (ww_X (ww_sF M_1 22 ((ww_F M_1 22) + (1 : Int32))) 32 x3)) (fun r_6 M_6 => ww_g (ww_i y1 12000) (if (ww_X M_6 13 y1) = (ww_F M_6 22) then some (.inl (M_6, (x2 + (1 : Int32)), (x3 + (1 : Int32)))) else some (.inl (M_6, (x2 + (0 : Int32)), (x3 + (1 : Int32))))))))
noncomputable def f3_holders_b1 (y1 : Int32) : (ww_M × Int32 × Int32) → Option ((ww_M × Int32 × Int32) ⊕ (Int32 × ww_M)) := fun s9 => f3_holders_b1c y1 s9.1 s9.2.1 s9.2.2
noncomputable def f3_holders (M : ww_M) (x1 : Int32) : Option (Int32 × ww_M) :=
  ww_U (f3_holders_b1 x1) (M, (0 : Int32), (0 : Int32))
section T3_holders_k
variable {p : Program} {l : Launch} {e : Env} {R : Room} {s : State} {m : MethodId} {args : Array Value} {below : List Frame} {meth : Method} {c : Code} {H : Heap} {locs : List Loc} {Q : State → Prop}
variable {cc : ByteArray} {pc : Nat} {ls : Array Slot} {rest : List Value} {nL : Nat} {E : ww_E} {A : Nat → Prop} {H0 : Heap}
theorem t3k_holders {M M' : ww_M} {x1 : Int32} {r : Int32} (X : ww_C p m c cc nL s args RX3 lw_all) (hsz : ls.size = nL) (hK : t3_Kn E s) (hD : t3_D E) (hR : t3_H E M H) (hS : va_S (t3_A E) H0 H locs) (hF : 13 ≤ R.frames) (hLo : 299 ≤ R.locals) (hM : t3_Met l yX3_holders cX3_holders 5 (some Jvm.ClassFile.FieldType.int) 12 275 E [.int x1] M M' r) (hrest : (rest.map fun v => v.category).sum ≤ 8) (hdg : decode cc pc = .ok (.invokevirtual 329, 3)) (kk : ∀ (H1 : Heap) (locs1 : List Loc), t3_H E M' H1 → va_S (t3_A E) H0 H1 locs1 → W p l e R s m args below meth c H1 locs1 0 0 Q (F0 m (pc + 3) ls (.int r :: rest))) : W p l e R s m args below meth c H locs 0 0 Q (F0 m pc ls (.int x1 :: .ref E.1 :: rest)) :=
  t3_callI (n := 1) X hsz hK hR hS (As := [.int x1]) hM (lw_V q2083 q2085 qs95 q135 q2086) (by decide +kernel) rfl hF hLo (Nat.zero_le _) (Nat.zero_le _) hrest hdg kk
end T3_holders_k
set_option maxHeartbeats 4000000 in
set_option maxRecDepth 100000 in
theorem met3_holders (l : Launch) {E : ww_E} (hD : t3_D E) (M : ww_M) (x1 : Int32) (r : Int32) (M' : ww_M) (hf : f3_holders M x1 = some (r, M')) : t3_Met l yX3_holders cX3_holders 5 (some Jvm.ClassFile.FieldType.int) 12 275 E [.int x1] M M' r := by
  unfold f3_holders at hf
  refine t3_start (by decide +kernel) (Nat.le_of_ble_eq_true rfl) ?_
  intro p e s m args below meth c Rm Q X hK hF hLo hend ls hl hR hS
  obtain ⟨hx, hb, hml, hown, hts⟩ := id X
  replace hl : lv_has ls 5 [(0, .ref E.1), (1, .int x1)] := hl
  refine lv_iconst (v := (0 : Int32)) hx hb dX3_holders_0 (by decide) ?_
  refine lv_istore_n (lv' := [(2, .int (0 : Int32)), (0, .ref E.1), (1, .int x1)]) hx hb dX3_holders_1 rfl hl (by decide) rfl (fun ls hl => ?_)
  refine lv_iconst (v := (0 : Int32)) hx hb dX3_holders_2 (by decide) ?_
  refine lv_istore_n (lv' := [(3, .int (0 : Int32)), (2, .int (0 : Int32)), (0, .ref E.1), (1, .int x1)]) hx hb dX3_holders_3 rfl hl (by decide) rfl (fun ls hl => ?_)
  have hL_1 : ∀ s9 : ww_M × Int32 × Int32, ww_U (f3_holders_b1 x1) s9 = some (r, M') → ∀ (H : Heap) (locs : List Loc) (ls : Array Slot), t3_H E s9.1 H → va_S (t3_A E) s.heap H locs → lv_has ls 5 [(0, .ref E.1), (1, .int x1), (2, .int s9.2.1), (3, .int s9.2.2)] → W p l e Rm s m args below meth c H locs 0 0 Q (F0 m 4 ls []) := by
    refine ww_ind _ (r, M') ?_
    intro s9 z_1 hf hz_1 H locs ls hR hS hl
    obtain ⟨M_1, x2, x3⟩ := s9
    replace hf : f3_holders_b1c x1 M_1 x2 x3 = some z_1 := hf
    unfold f3_holders_b1c at hf
    replace hR : t3_H E M_1 H := hR
    replace hl : lv_has ls 5 [(0, .ref E.1), (1, .int x1), (2, .int x2), (3, .int x3)] := hl
    refine lv_iload_n hx hb dX3_holders_4 rfl (lv_at hl 3 rfl) ?_
    refine lv_aload_n hx hb dX3_holders_5 rfl (lv_at hl 0 rfl) ?_
    refine t3g_41 X hK hR dX3_holders_6 ?_
    refine lv_icmp_ge (tgt := 73) hx hb dX3_holders_9 (by decide) (fun c_2 => ?_) (fun c_2 => ?_)
    · replace hf := ww_ip hf c_2
      replace hf := ww_xK hf hz_1
      refine lv_iload_n hx hb dX3_holders_73 rfl (lv_at hl 2 rfl) ?_
      exact hend dX3_holders_74 rfl rfl hf hR hS
    · replace hf := ww_in hf c_2
      refine lv_aload_n hx hb dX3_holders_12 rfl (lv_at hl 0 rfl) ?_
      refine t3g_39 X hK hR dX3_holders_13 ?_
      refine lv_iload_n hx hb dX3_holders_16 rfl (lv_at hl 3 rfl) ?_
      obtain ⟨h_3, hf⟩ := ww_gS hf
      refine t3l_39 X hK hR h_3 dX3_holders_17 ?_
      refine lv_if_ne (tgt := 24) hx hb dX3_holders_18 (by decide) (fun c_4 => ?_) (fun c_4 => ?_)
      · replace hf := ww_in hf c_4
        refine lv_aload_n hx hb dX3_holders_24 rfl (lv_at hl 0 rfl) ?_
        refine lv_dup hx hb dX3_holders_25 rfl ?_
        refine t3g_22 X hK hR dX3_holders_26 ?_
        refine lv_iconst (v := (1 : Int32)) hx hb dX3_holders_29 (by decide) ?_
        refine lv_iadd hx hb dX3_holders_30 ?_
        refine t3p_22 X hK hD hR hS dX3_holders_31 (fun H locs hR hS => ?_)
        refine lv_aload_n hx hb dX3_holders_34 rfl (lv_at hl 0 rfl) ?_
        refine lv_aload_n hx hb dX3_holders_35 rfl (lv_at hl 0 rfl) ?_
        refine t3g_32 X hK hR dX3_holders_36 ?_
        refine lv_iload_n hx hb dX3_holders_39 rfl (lv_at hl 3 rfl) ?_
        obtain ⟨h_5, hf⟩ := ww_gS hf
        refine t3l_32 X hK hR h_5 dX3_holders_40 ?_
        obtain ⟨r_6, M_6, h_6, hf⟩ := ww_b2S hf
        refine t3c_marks X hl.1 hK hD hR hS (Nat.le_trans (Nat.le_of_ble_eq_true rfl) hF) (Nat.le_trans (Nat.le_of_ble_eq_true rfl) hLo) h_6 (Nat.le_of_ble_eq_true rfl) dX3_holders_41 (fun H locs hR hS => ?_)
        refine lv_istore (lv' := [(4, .int r_6), (0, .ref E.1), (1, .int x1), (2, .int x2), (3, .int x3)]) hx hb dX3_holders_44 hl (by decide) rfl (fun ls hl => ?_)
        refine lv_iload_n hx hb dX3_holders_46 rfl (lv_at hl 3 rfl) ?_
        refine lv_aload_n hx hb dX3_holders_47 rfl (lv_at hl 1 rfl) ?_
        refine t3g_13 X hK hR dX3_holders_48 ?_
        refine lv_iload_n hx hb dX3_holders_51 rfl (lv_at hl 2 rfl) ?_
        obtain ⟨h_7, hf⟩ := ww_gS hf
        refine t3l_13 X hK hR h_7 dX3_holders_52 ?_
        refine lv_aload_n hx hb dX3_holders_53 rfl (lv_at hl 1 rfl) ?_
        refine t3g_22 X hK hR dX3_holders_54 ?_
        refine lv_icmp_ne (tgt := 64) hx hb dX3_holders_57 (by decide) (fun c_8 => ?_) (fun c_8 => ?_)
        · replace hf := ww_in hf c_8
          refine lv_iconst (v := (0 : Int32)) hx hb dX3_holders_64 (by decide) ?_
          refine lv_iadd hx hb dX3_holders_65 ?_
          refine lv_istore_n (lv' := [(2, .int (x2 + (0 : Int32))), (4, .int r_6), (0, .ref E.1), (1, .int x1), (3, .int x3)]) hx hb dX3_holders_66 rfl hl (by decide) rfl (fun ls hl => ?_)
          refine lv_iinc (k := 4) (v := x3 + (1 : Int32)) (lv' := [(3, .int (x3 + (1 : Int32))), (2, .int (x2 + (0 : Int32))), (4, .int r_6), (0, .ref E.1), (1, .int x1)]) hx hb dX3_holders_67 hl rfl rfl (by decide) rfl (fun ls hl => ?_)
          refine lv_goto (tgt := 4) hx hb dX3_holders_70 (by decide) ?_
          exact ww_lK hf hz_1 _ _ _ hR hS (lv_sub hl [3, 4, 1, 0] rfl)
        · replace hf := ww_ip hf c_8
          refine lv_iconst (v := (1 : Int32)) hx hb dX3_holders_60 (by decide) ?_
          refine lv_goto (tgt := 65) hx hb dX3_holders_61 (by decide) ?_
          refine lv_iadd hx hb dX3_holders_65 ?_
          refine lv_istore_n (lv' := [(2, .int (x2 + (1 : Int32))), (4, .int r_6), (0, .ref E.1), (1, .int x1), (3, .int x3)]) hx hb dX3_holders_66 rfl hl (by decide) rfl (fun ls hl => ?_)
          refine lv_iinc (k := 4) (v := x3 + (1 : Int32)) (lv' := [(3, .int (x3 + (1 : Int32))), (2, .int (x2 + (1 : Int32))), (4, .int r_6), (0, .ref E.1), (1, .int x1)]) hx hb dX3_holders_67 hl rfl rfl (by decide) rfl (fun ls hl => ?_)
          refine lv_goto (tgt := 4) hx hb dX3_holders_70 (by decide) ?_
          exact ww_lK hf hz_1 _ _ _ hR hS (lv_sub hl [3, 4, 1, 0] rfl)
      · replace hf := ww_ip hf c_4
        refine lv_goto (tgt := 67) hx hb dX3_holders_21 (by decide) ?_
        refine lv_iinc (k := 3) (v := x3 + (1 : Int32)) (lv' := [(3, .int (x3 + (1 : Int32))), (0, .ref E.1), (1, .int x1), (2, .int x2)]) hx hb dX3_holders_67 hl rfl rfl (by decide) rfl (fun ls hl => ?_)
        refine lv_goto (tgt := 4) hx hb dX3_holders_70 (by decide) ?_
        exact ww_lK hf hz_1 _ _ _ hR hS (lv_sub hl [1, 2, 3, 0] rfl)
  exact hL_1 (M, (0 : Int32), (0 : Int32)) hf _ _ _ hR hS (lv_sub hl [2, 3, 1, 0] rfl)
section T3_holders_c
variable {p : Program} {l : Launch} {e : Env} {R : Room} {s : State} {m : MethodId} {args : Array Value} {below : List Frame} {meth : Method} {c : Code} {H : Heap} {locs : List Loc} {Q : State → Prop}
variable {cc : ByteArray} {pc : Nat} {ls : Array Slot} {rest : List Value} {nL : Nat} {E : ww_E} {A : Nat → Prop} {H0 : Heap}
theorem t3c_holders {M M' : ww_M} {x1 : Int32} {r : Int32} (X : ww_C p m c cc nL s args RX3 lw_all) (hsz : ls.size = nL) (hK : t3_Kn E s) (hD : t3_D E) (hR : t3_H E M H) (hS : va_S (t3_A E) H0 H locs) (hF : 13 ≤ R.frames) (hLo : 299 ≤ R.locals) (hf : f3_holders M x1 = some (r, M')) (hrest : (rest.map fun v => v.category).sum ≤ 8) (hdg : decode cc pc = .ok (.invokevirtual 329, 3)) (kk : ∀ (H1 : Heap) (locs1 : List Loc), t3_H E M' H1 → va_S (t3_A E) H0 H1 locs1 → W p l e R s m args below meth c H1 locs1 0 0 Q (F0 m (pc + 3) ls (.int r :: rest))) : W p l e R s m args below meth c H locs 0 0 Q (F0 m pc ls (.int x1 :: .ref E.1 :: rest)) :=
  t3k_holders X hsz hK hD hR hS hF hLo (met3_holders l hD _ _ _ _ hf) hrest hdg kk
end T3_holders_c
noncomputable def f3_keysOf (M : ww_M) (x1 : Int32) : Option (Int32 × ww_M) :=
  ww_b (f3_laysTree M x1) (fun M_1 => some ((ww_F M_1 30), M_1))
section T3_keysOf_k
variable {p : Program} {l : Launch} {e : Env} {R : Room} {s : State} {m : MethodId} {args : Array Value} {below : List Frame} {meth : Method} {c : Code} {H : Heap} {locs : List Loc} {Q : State → Prop}
variable {cc : ByteArray} {pc : Nat} {ls : Array Slot} {rest : List Value} {nL : Nat} {E : ww_E} {A : Nat → Prop} {H0 : Heap}
theorem t3k_keysOf {M M' : ww_M} {x1 : Int32} {r : Int32} (X : ww_C p m c cc nL s args RX3 lw_all) (hsz : ls.size = nL) (hK : t3_Kn E s) (hD : t3_D E) (hR : t3_H E M H) (hS : va_S (t3_A E) H0 H locs) (hF : 14 ≤ R.frames) (hLo : 317 ≤ R.locals) (hM : t3_Met l yX3_keysOf cX3_keysOf 2 (some Jvm.ClassFile.FieldType.int) 13 296 E [.int x1] M M' r) (hrest : (rest.map fun v => v.category).sum ≤ 8) (hdg : decode cc pc = .ok (.invokevirtual 332, 3)) (kk : ∀ (H1 : Heap) (locs1 : List Loc), t3_H E M' H1 → va_S (t3_A E) H0 H1 locs1 → W p l e R s m args below meth c H1 locs1 0 0 Q (F0 m (pc + 3) ls (.int r :: rest))) : W p l e R s m args below meth c H locs 0 0 Q (F0 m pc ls (.int x1 :: .ref E.1 :: rest)) :=
  t3_callI (n := 1) X hsz hK hR hS (As := [.int x1]) hM (lw_V q2087 q2089 qs96 q135 q2090) (by decide +kernel) rfl hF hLo (Nat.zero_le _) (Nat.zero_le _) hrest hdg kk
end T3_keysOf_k
set_option maxHeartbeats 4000000 in
set_option maxRecDepth 100000 in
theorem met3_keysOf (l : Launch) {E : ww_E} (hD : t3_D E) (M : ww_M) (x1 : Int32) (r : Int32) (M' : ww_M) (hf : f3_keysOf M x1 = some (r, M')) : t3_Met l yX3_keysOf cX3_keysOf 2 (some Jvm.ClassFile.FieldType.int) 13 296 E [.int x1] M M' r := by
  unfold f3_keysOf at hf
  refine t3_start (by decide +kernel) (Nat.le_of_ble_eq_true rfl) ?_
  intro p e s m args below meth c Rm Q X hK hF hLo hend ls hl hR hS
  obtain ⟨hx, hb, hml, hown, hts⟩ := id X
  replace hl : lv_has ls 2 [(0, .ref E.1), (1, .int x1)] := hl
  refine lv_aload_n hx hb dX3_keysOf_0 rfl (lv_at hl 0 rfl) ?_
  refine lv_iload_n hx hb dX3_keysOf_1 rfl (lv_at hl 1 rfl) ?_
  obtain ⟨M_1, h_1, hf⟩ := ww_bS hf
  refine t3c_laysTree X hl.1 hK hD hR hS (Nat.le_trans (Nat.le_of_ble_eq_true rfl) hF) (Nat.le_trans (Nat.le_of_ble_eq_true rfl) hLo) h_1 (Nat.le_of_ble_eq_true rfl) dX3_keysOf_2 (fun H locs hR hS => ?_)
  refine lv_aload_n hx hb dX3_keysOf_5 rfl (lv_at hl 0 rfl) ?_
  refine t3g_30 X hK hR dX3_keysOf_6 ?_
  exact hend dX3_keysOf_9 rfl rfl hf hR hS
section T3_keysOf_c
variable {p : Program} {l : Launch} {e : Env} {R : Room} {s : State} {m : MethodId} {args : Array Value} {below : List Frame} {meth : Method} {c : Code} {H : Heap} {locs : List Loc} {Q : State → Prop}
variable {cc : ByteArray} {pc : Nat} {ls : Array Slot} {rest : List Value} {nL : Nat} {E : ww_E} {A : Nat → Prop} {H0 : Heap}
theorem t3c_keysOf {M M' : ww_M} {x1 : Int32} {r : Int32} (X : ww_C p m c cc nL s args RX3 lw_all) (hsz : ls.size = nL) (hK : t3_Kn E s) (hD : t3_D E) (hR : t3_H E M H) (hS : va_S (t3_A E) H0 H locs) (hF : 14 ≤ R.frames) (hLo : 317 ≤ R.locals) (hf : f3_keysOf M x1 = some (r, M')) (hrest : (rest.map fun v => v.category).sum ≤ 8) (hdg : decode cc pc = .ok (.invokevirtual 332, 3)) (kk : ∀ (H1 : Heap) (locs1 : List Loc), t3_H E M' H1 → va_S (t3_A E) H0 H1 locs1 → W p l e R s m args below meth c H1 locs1 0 0 Q (F0 m (pc + 3) ls (.int r :: rest))) : W p l e R s m args below meth c H locs 0 0 Q (F0 m pc ls (.int x1 :: .ref E.1 :: rest)) :=
  t3k_keysOf X hsz hK hD hR hS hF hLo (met3_keysOf l hD _ _ _ _ hf) hrest hdg kk
end T3_keysOf_c
noncomputable def f3_node (M : ww_M) (x1 : Int32) (x2 : Int32) (x3 : Int32) : Option (Int32 × ww_M) :=
  ww_b (f3_isMap (ww_sF M 0 (0 : Int32)) x1) (fun r_1 => if r_1 = 0 then some ((-1000000 : Int32), (ww_sF M 0 (0 : Int32))) else if x2 < 0 then some ((-1000000 : Int32), (ww_sF M 0 (0 : Int32))) else ww_b (f3_isIn x3.toInt64 (0 : Int64) (5 : Int64)) (fun r_4 => if r_4 = 0 then some ((-1000000 : Int32), (ww_sF M 0 (0 : Int32))) else ww_g (ww_i x1 999) (ww_b (f3_laysTree (ww_sF M 0 (0 : Int32)) (ww_X (ww_sF M 0 (0 : Int32)) 32 x1)) (fun M_7 => if x2 < (ww_F M_7 31) then ww_g (ww_i x2 240) (if x3 = 0 then ww_g (ww_i (ww_X M_7 28 x2) 12000) (some ((ww_X M_7 10 (ww_X M_7 28 x2)), M_7)) else if x3 = 1 then ww_g (ww_i (ww_X M_7 28 x2) 12000) (some ((ww_X M_7 11 (ww_X M_7 28 x2)), M_7)) else if x3 = 2 then ww_b (f3_lowest M_7 (ww_X M_7 28 x2)) (fun r_15 => some (r_15, M_7)) else if x3 = 3 then ww_g (ww_i x2 240) (some ((ww_X M_7 29 x2), M_7)) else if x3 = 4 then ww_b2 (f3_holders M_7 (ww_X M_7 28 x2)) (fun r_19 M_19 => some (r_19, M_19)) else ww_b2 (f3_keysOf M_7 (ww_X M_7 28 x2)) (fun r_20 M_20 => some (r_20, M_20))) else some ((-1000000 : Int32), M_7)))))
set_option maxHeartbeats 4000000 in
set_option maxRecDepth 100000 in
theorem met3_node (l : Launch) {E : ww_E} (hD : t3_D E) (M : ww_M) (x1 : Int32) (x2 : Int32) (x3 : Int32) (r : Int32) (M' : ww_M) (hf : f3_node M x1 x2 x3 = some (r, M')) : t3_Met l yX3_node cX3_node 5 (some Jvm.ClassFile.FieldType.int) 14 317 E [.int x1, .int x2, .int x3] M M' r := by
  unfold f3_node at hf
  refine t3_start (by decide +kernel) (Nat.le_of_ble_eq_true rfl) ?_
  intro p e s m args below meth c Rm Q X hK hF hLo hend ls hl hR hS
  obtain ⟨hx, hb, hml, hown, hts⟩ := id X
  replace hl : lv_has ls 5 [(0, .ref E.1), (1, .int x1), (2, .int x2), (3, .int x3)] := hl
  refine lv_aload_n hx hb dX3_node_0 rfl (lv_at hl 0 rfl) ?_
  refine lv_iconst (v := (0 : Int32)) hx hb dX3_node_1 (by decide) ?_
  refine t3p_0 X hK hD hR hS dX3_node_2 (fun H locs hR hS => ?_)
  refine lv_aload_n hx hb dX3_node_5 rfl (lv_at hl 0 rfl) ?_
  refine lv_iload_n hx hb dX3_node_6 rfl (lv_at hl 1 rfl) ?_
  obtain ⟨r_1, h_1, hf⟩ := ww_bS hf
  refine t3c_isMap X hl.1 hK hD hR hS (Nat.le_trans (Nat.le_of_ble_eq_true rfl) hF) (Nat.le_trans (Nat.le_of_ble_eq_true rfl) hLo) h_1 (Nat.le_of_ble_eq_true rfl) dX3_node_7 (fun H locs hR hS => ?_)
  refine lv_if_eq (tgt := 29) hx hb dX3_node_10 (by decide) (fun c_2 => ?_) (fun c_2 => ?_)
  · replace hf := ww_ip hf c_2
    refine lv_ldc (v := (-1000000 : Int32)) hx hb hown (hts _ q1942) dX3_node_29 ?_
    exact hend dX3_node_31 rfl rfl hf hR hS
  · replace hf := ww_in hf c_2
    refine lv_iload_n hx hb dX3_node_13 rfl (lv_at hl 2 rfl) ?_
    refine lv_if_lt (tgt := 29) hx hb dX3_node_14 (by decide) (fun c_3 => ?_) (fun c_3 => ?_)
    · replace hf := ww_ip hf c_3
      refine lv_ldc (v := (-1000000 : Int32)) hx hb hown (hts _ q1942) dX3_node_29 ?_
      exact hend dX3_node_31 rfl rfl hf hR hS
    · replace hf := ww_in hf c_3
      refine lv_iload_n hx hb dX3_node_17 rfl (lv_at hl 3 rfl) ?_
      refine lv_i2l (v := x3.toInt64) hx hb dX3_node_18 rfl ?_
      refine lv_lconst (v := (0 : Int64)) hx hb dX3_node_19 (by decide) ?_
      refine lv_ldc2 (v := (5 : Int64)) hx hb hown (hts _ q2082) dX3_node_20 ?_
      obtain ⟨r_4, h_4, hf⟩ := ww_bS hf
      refine t3c_isIn X hl.1 (Nat.le_trans (Nat.le_of_ble_eq_true rfl) hF) (Nat.le_trans (Nat.le_of_ble_eq_true rfl) hLo) h_4 (Nat.le_of_ble_eq_true rfl) dX3_node_23 ?_
      refine lv_if_ne (tgt := 32) hx hb dX3_node_26 (by decide) (fun c_5 => ?_) (fun c_5 => ?_)
      · replace hf := ww_in hf c_5
        refine lv_aload_n hx hb dX3_node_32 rfl (lv_at hl 0 rfl) ?_
        refine lv_aload_n hx hb dX3_node_33 rfl (lv_at hl 0 rfl) ?_
        refine t3g_32 X hK hR dX3_node_34 ?_
        refine lv_iload_n hx hb dX3_node_37 rfl (lv_at hl 1 rfl) ?_
        obtain ⟨h_6, hf⟩ := ww_gS hf
        refine t3l_32 X hK hR h_6 dX3_node_38 ?_
        obtain ⟨M_7, h_7, hf⟩ := ww_bS hf
        refine t3c_laysTree X hl.1 hK hD hR hS (Nat.le_trans (Nat.le_of_ble_eq_true rfl) hF) (Nat.le_trans (Nat.le_of_ble_eq_true rfl) hLo) h_7 (Nat.le_of_ble_eq_true rfl) dX3_node_39 (fun H locs hR hS => ?_)
        refine lv_iload_n hx hb dX3_node_42 rfl (lv_at hl 2 rfl) ?_
        refine lv_aload_n hx hb dX3_node_43 rfl (lv_at hl 0 rfl) ?_
        refine t3g_31 X hK hR dX3_node_44 ?_
        refine lv_icmp_lt (tgt := 53) hx hb dX3_node_47 (by decide) (fun c_8 => ?_) (fun c_8 => ?_)
        · replace hf := ww_ip hf c_8
          refine lv_aload_n hx hb dX3_node_53 rfl (lv_at hl 0 rfl) ?_
          refine t3g_28 X hK hR dX3_node_54 ?_
          refine lv_iload_n hx hb dX3_node_57 rfl (lv_at hl 2 rfl) ?_
          obtain ⟨h_9, hf⟩ := ww_gS hf
          refine t3l_28 X hK hR h_9 dX3_node_58 ?_
          refine lv_istore (lv' := [(4, .int (ww_X M_7 28 x2)), (0, .ref E.1), (1, .int x1), (2, .int x2), (3, .int x3)]) hx hb dX3_node_59 hl (by decide) rfl (fun ls hl => ?_)
          refine lv_iload_n hx hb dX3_node_61 rfl (lv_at hl 4 rfl) ?_
          refine ww_by (x3 = 0) (fun c_10 => ?_) (fun c_10 => ?_)
          · replace hf := ww_ip hf c_10
            refine ww_tin (k := 0) (off := 34) (tgt := 96) hx hb dX3_node_62 c_10 (by decide) (by decide) (by decide) (by decide) ?_
            refine lv_aload_n hx hb dX3_node_96 rfl (lv_at hl 1 rfl) ?_
            refine t3g_10 X hK hR dX3_node_97 ?_
            refine lv_iload hx hb dX3_node_100 (lv_at hl 0 rfl) ?_
            obtain ⟨h_11, hf⟩ := ww_gS hf
            refine t3l_10 X hK hR h_11 dX3_node_102 ?_
            exact hend dX3_node_103 rfl rfl hf hR hS
          replace hf := ww_in hf c_10
          refine ww_by (x3 = 1) (fun c_12 => ?_) (fun c_12 => ?_)
          · replace hf := ww_ip hf c_12
            refine ww_tin (k := 1) (off := 42) (tgt := 104) hx hb dX3_node_62 c_12 (by decide) (by decide) (by decide) (by decide) ?_
            refine lv_aload_n hx hb dX3_node_104 rfl (lv_at hl 1 rfl) ?_
            refine t3g_11 X hK hR dX3_node_105 ?_
            refine lv_iload hx hb dX3_node_108 (lv_at hl 0 rfl) ?_
            obtain ⟨h_13, hf⟩ := ww_gS hf
            refine t3l_11 X hK hR h_13 dX3_node_110 ?_
            exact hend dX3_node_111 rfl rfl hf hR hS
          replace hf := ww_in hf c_12
          refine ww_by (x3 = 2) (fun c_14 => ?_) (fun c_14 => ?_)
          · replace hf := ww_ip hf c_14
            refine ww_tin (k := 2) (off := 50) (tgt := 112) hx hb dX3_node_62 c_14 (by decide) (by decide) (by decide) (by decide) ?_
            refine lv_aload_n hx hb dX3_node_112 rfl (lv_at hl 1 rfl) ?_
            refine lv_iload hx hb dX3_node_113 (lv_at hl 0 rfl) ?_
            obtain ⟨r_15, h_15, hf⟩ := ww_bS hf
            refine t3c_lowest X hl.1 hK hD hR hS (Nat.le_trans (Nat.le_of_ble_eq_true rfl) hF) (Nat.le_trans (Nat.le_of_ble_eq_true rfl) hLo) h_15 (Nat.le_of_ble_eq_true rfl) dX3_node_115 (fun H locs hR hS => ?_)
            exact hend dX3_node_118 rfl rfl hf hR hS
          replace hf := ww_in hf c_14
          refine ww_by (x3 = 3) (fun c_16 => ?_) (fun c_16 => ?_)
          · replace hf := ww_ip hf c_16
            refine ww_tin (k := 3) (off := 57) (tgt := 119) hx hb dX3_node_62 c_16 (by decide) (by decide) (by decide) (by decide) ?_
            refine lv_aload_n hx hb dX3_node_119 rfl (lv_at hl 1 rfl) ?_
            refine t3g_29 X hK hR dX3_node_120 ?_
            refine lv_iload_n hx hb dX3_node_123 rfl (lv_at hl 3 rfl) ?_
            obtain ⟨h_17, hf⟩ := ww_gS hf
            refine t3l_29 X hK hR h_17 dX3_node_124 ?_
            exact hend dX3_node_125 rfl rfl hf hR hS
          replace hf := ww_in hf c_16
          refine ww_by (x3 = 4) (fun c_18 => ?_) (fun c_18 => ?_)
          · replace hf := ww_ip hf c_18
            refine ww_tin (k := 4) (off := 64) (tgt := 126) hx hb dX3_node_62 c_18 (by decide) (by decide) (by decide) (by decide) ?_
            refine lv_aload_n hx hb dX3_node_126 rfl (lv_at hl 1 rfl) ?_
            refine lv_iload hx hb dX3_node_127 (lv_at hl 0 rfl) ?_
            obtain ⟨r_19, M_19, h_19, hf⟩ := ww_b2S hf
            refine t3c_holders X hl.1 hK hD hR hS (Nat.le_trans (Nat.le_of_ble_eq_true rfl) hF) (Nat.le_trans (Nat.le_of_ble_eq_true rfl) hLo) h_19 (Nat.le_of_ble_eq_true rfl) dX3_node_129 (fun H locs hR hS => ?_)
            exact hend dX3_node_132 rfl rfl hf hR hS
          replace hf := ww_in hf c_18
          refine ww_tout (tgt := 133) [0, 1, 2, 3, 4] hx hb dX3_node_62 ⟨c_10, c_12, c_14, c_16, c_18, trivial⟩ (by decide) (by decide) ?_
          refine lv_aload_n hx hb dX3_node_133 rfl (lv_at hl 1 rfl) ?_
          refine lv_iload hx hb dX3_node_134 (lv_at hl 0 rfl) ?_
          obtain ⟨r_20, M_20, h_20, hf⟩ := ww_b2S hf
          refine t3c_keysOf X hl.1 hK hD hR hS (Nat.le_trans (Nat.le_of_ble_eq_true rfl) hF) (Nat.le_trans (Nat.le_of_ble_eq_true rfl) hLo) h_20 (Nat.le_of_ble_eq_true rfl) dX3_node_136 (fun H locs hR hS => ?_)
          exact hend dX3_node_139 rfl rfl hf hR hS
        · replace hf := ww_in hf c_8
          refine lv_ldc (v := (-1000000 : Int32)) hx hb hown (hts _ q1942) dX3_node_50 ?_
          exact hend dX3_node_52 rfl rfl hf hR hS
      · replace hf := ww_ip hf c_5
        refine lv_ldc (v := (-1000000 : Int32)) hx hb hown (hts _ q1942) dX3_node_29 ?_
        exact hend dX3_node_31 rfl rfl hf hR hS
noncomputable def f3_having_j1 (M : ww_M) (y1 : Int32) (y2 : Int32) (y3 : Int32) : Option (Int32 × ww_M) :=
  ww_b (f3_hasRoom M) (fun r_10 => if r_10 = 0 then ww_b2 (f3_refused M (4 : Int32)) (fun r_16 M_16 => some (r_16, M_16)) else ww_g (ww_i y1 999) (ww_b2 (f3_newToken M) (fun r_13 M_13 => ww_b2 (f3_puts M_13 (ww_X M 32 y1) y2 y3 r_13) (fun r_14 M_14 => ww_b2 (f3_newMap M_14 r_14 y1 (-1 : Int32)) (fun r_15 M_15 => some (r_15, M_15))))))
noncomputable def f3_having (M : ww_M) (x1 : Int32) (x2 : Int32) (x3 : Int32) : Option (Int32 × ww_M) :=
  ww_b (f3_isMap (ww_sF M 0 (0 : Int32)) x1) (fun r_1 => if r_1 = 0 then ww_b2 (f3_refused (ww_sF M 0 (0 : Int32)) (0 : Int32)) (fun r_23 M_23 => some (r_23, M_23)) else ww_b (f3_isIn x2.toInt64 (0 : Int64) (999 : Int64)) (fun r_3 => if r_3 = 0 then ww_b2 (f3_refused (ww_sF M 0 (0 : Int32)) (1 : Int32)) (fun r_5 M_5 => some (r_5, M_5)) else ww_b (f3_isIn x3.toInt64 (-999 : Int64) (999 : Int64)) (fun r_6 => if r_6 = 0 then ww_b2 (f3_refused (ww_sF M 0 (0 : Int32)) (1 : Int32)) (fun r_22 M_22 => some (r_22, M_22)) else ww_g (ww_i x1 999) (ww_b2 (f3_keysOf (ww_sF M 0 (0 : Int32)) (ww_X (ww_sF M 0 (0 : Int32)) 32 x1)) (fun r_9 M_9 => if r_9 = (60 : Int32) then ww_g (ww_i x1 999) (ww_b (f3_valueAt M_9 (ww_X M_9 32 x1) x2) (fun r_19 => if r_19 = (-1000000 : Int32) then ww_b2 (f3_refused M_9 (3 : Int32)) (fun r_21 M_21 => some (r_21, M_21)) else f3_having_j1 M_9 x1 x2 x3)) else f3_having_j1 M_9 x1 x2 x3)))))
set_option maxHeartbeats 4000000 in
set_option maxRecDepth 100000 in
theorem met3_having (l : Launch) {E : ww_E} (hD : t3_D E) (M : ww_M) (x1 : Int32) (x2 : Int32) (x3 : Int32) (r : Int32) (M' : ww_M) (hf : f3_having M x1 x2 x3 = some (r, M')) : t3_Met l yX3_having cX3_having 4 (some Jvm.ClassFile.FieldType.int) 14 317 E [.int x1, .int x2, .int x3] M M' r := by
  unfold f3_having at hf
  refine t3_start (by decide +kernel) (Nat.le_of_ble_eq_true rfl) ?_
  intro p e s m args below meth c Rm Q X hK hF hLo hend ls hl hR hS
  obtain ⟨hx, hb, hml, hown, hts⟩ := id X
  replace hl : lv_has ls 4 [(0, .ref E.1), (1, .int x1), (2, .int x2), (3, .int x3)] := hl
  refine lv_aload_n hx hb dX3_having_0 rfl (lv_at hl 0 rfl) ?_
  refine lv_iconst (v := (0 : Int32)) hx hb dX3_having_1 (by decide) ?_
  refine t3p_0 X hK hD hR hS dX3_having_2 (fun H locs hR hS => ?_)
  refine lv_aload_n hx hb dX3_having_5 rfl (lv_at hl 0 rfl) ?_
  refine lv_iload_n hx hb dX3_having_6 rfl (lv_at hl 1 rfl) ?_
  obtain ⟨r_1, h_1, hf⟩ := ww_bS hf
  refine t3c_isMap X hl.1 hK hD hR hS (Nat.le_trans (Nat.le_of_ble_eq_true rfl) hF) (Nat.le_trans (Nat.le_of_ble_eq_true rfl) hLo) h_1 (Nat.le_of_ble_eq_true rfl) dX3_having_7 (fun H locs hR hS => ?_)
  refine lv_if_ne (tgt := 19) hx hb dX3_having_10 (by decide) (fun c_2 => ?_) (fun c_2 => ?_)
  · replace hf := ww_in hf c_2
    refine lv_iload_n hx hb dX3_having_19 rfl (lv_at hl 2 rfl) ?_
    refine lv_i2l (v := x2.toInt64) hx hb dX3_having_20 rfl ?_
    refine lv_lconst (v := (0 : Int64)) hx hb dX3_having_21 (by decide) ?_
    refine lv_ldc2 (v := (999 : Int64)) hx hb hown (hts _ q2095) dX3_having_22 ?_
    obtain ⟨r_3, h_3, hf⟩ := ww_bS hf
    refine t3c_isIn X hl.1 (Nat.le_trans (Nat.le_of_ble_eq_true rfl) hF) (Nat.le_trans (Nat.le_of_ble_eq_true rfl) hLo) h_3 (Nat.le_of_ble_eq_true rfl) dX3_having_25 ?_
    refine lv_if_eq (tgt := 45) hx hb dX3_having_28 (by decide) (fun c_4 => ?_) (fun c_4 => ?_)
    · replace hf := ww_ip hf c_4
      refine lv_aload_n hx hb dX3_having_45 rfl (lv_at hl 0 rfl) ?_
      refine lv_iconst (v := (1 : Int32)) hx hb dX3_having_46 (by decide) ?_
      obtain ⟨r_5, M_5, h_5, hf⟩ := ww_b2S hf
      refine t3c_refused X hl.1 hK hD hR hS (Nat.le_trans (Nat.le_of_ble_eq_true rfl) hF) (Nat.le_trans (Nat.le_of_ble_eq_true rfl) hLo) h_5 (Nat.le_of_ble_eq_true rfl) dX3_having_47 (fun H locs hR hS => ?_)
      exact hend dX3_having_50 rfl rfl hf hR hS
    · replace hf := ww_in hf c_4
      refine lv_iload_n hx hb dX3_having_31 rfl (lv_at hl 3 rfl) ?_
      refine lv_i2l (v := x3.toInt64) hx hb dX3_having_32 rfl ?_
      refine lv_ldc2 (v := (-999 : Int64)) hx hb hown (hts _ q2096) dX3_having_33 ?_
      refine lv_ldc2 (v := (999 : Int64)) hx hb hown (hts _ q2095) dX3_having_36 ?_
      obtain ⟨r_6, h_6, hf⟩ := ww_bS hf
      refine t3c_isIn X hl.1 (Nat.le_trans (Nat.le_of_ble_eq_true rfl) hF) (Nat.le_trans (Nat.le_of_ble_eq_true rfl) hLo) h_6 (Nat.le_of_ble_eq_true rfl) dX3_having_39 ?_
      refine lv_if_ne (tgt := 51) hx hb dX3_having_42 (by decide) (fun c_7 => ?_) (fun c_7 => ?_)
      · replace hf := ww_in hf c_7
        refine lv_aload_n hx hb dX3_having_51 rfl (lv_at hl 0 rfl) ?_
        refine lv_aload_n hx hb dX3_having_52 rfl (lv_at hl 0 rfl) ?_
        refine t3g_32 X hK hR dX3_having_53 ?_
        refine lv_iload_n hx hb dX3_having_56 rfl (lv_at hl 1 rfl) ?_
        obtain ⟨h_8, hf⟩ := ww_gS hf
        refine t3l_32 X hK hR h_8 dX3_having_57 ?_
        obtain ⟨r_9, M_9, h_9, hf⟩ := ww_b2S hf
        refine t3c_keysOf X hl.1 hK hD hR hS (Nat.le_trans (Nat.le_of_ble_eq_true rfl) hF) (Nat.le_trans (Nat.le_of_ble_eq_true rfl) hLo) h_9 (Nat.le_of_ble_eq_true rfl) dX3_having_58 (fun H locs hR hS => ?_)
        refine lv_bipush (v := (60 : Int32)) hx hb dX3_having_61 (by decide) ?_
        have hj_1 : f3_having_j1 M_9 x1 x2 x3 = some (r, M') → ∀ (H : Heap) (locs : List Loc) (ls : Array Slot), t3_H E M_9 H → va_S (t3_A E) s.heap H locs → lv_has ls 4 [(0, .ref E.1), (1, .int x1), (2, .int x2), (3, .int x3)] → W p l e Rm s m args below meth c H locs 0 0 Q (F0 m 88 ls []) := by
          intro  hf H locs ls hR hS hl
          unfold f3_having_j1 at hf
          refine lv_aload_n hx hb dX3_having_88 rfl (lv_at hl 0 rfl) ?_
          obtain ⟨r_10, h_10, hf⟩ := ww_bS hf
          refine t3c_hasRoom X hl.1 hK hD hR hS (Nat.le_trans (Nat.le_of_ble_eq_true rfl) hF) (Nat.le_trans (Nat.le_of_ble_eq_true rfl) hLo) h_10 (Nat.le_of_ble_eq_true rfl) dX3_having_89 (fun H locs hR hS => ?_)
          refine lv_if_ne (tgt := 101) hx hb dX3_having_92 (by decide) (fun c_11 => ?_) (fun c_11 => ?_)
          · replace hf := ww_in hf c_11
            refine lv_aload_n hx hb dX3_having_101 rfl (lv_at hl 0 rfl) ?_
            refine lv_aload_n hx hb dX3_having_102 rfl (lv_at hl 0 rfl) ?_
            refine lv_aload_n hx hb dX3_having_103 rfl (lv_at hl 0 rfl) ?_
            refine t3g_32 X hK hR dX3_having_104 ?_
            refine lv_iload_n hx hb dX3_having_107 rfl (lv_at hl 1 rfl) ?_
            obtain ⟨h_12, hf⟩ := ww_gS hf
            refine t3l_32 X hK hR h_12 dX3_having_108 ?_
            refine lv_iload_n hx hb dX3_having_109 rfl (lv_at hl 2 rfl) ?_
            refine lv_iload_n hx hb dX3_having_110 rfl (lv_at hl 3 rfl) ?_
            refine lv_aload_n hx hb dX3_having_111 rfl (lv_at hl 0 rfl) ?_
            obtain ⟨r_13, M_13, h_13, hf⟩ := ww_b2S hf
            refine t3c_newToken X hl.1 hK hD hR hS (Nat.le_trans (Nat.le_of_ble_eq_true rfl) hF) (Nat.le_trans (Nat.le_of_ble_eq_true rfl) hLo) h_13 (Nat.le_of_ble_eq_true rfl) dX3_having_112 (fun H locs hR hS => ?_)
            obtain ⟨r_14, M_14, h_14, hf⟩ := ww_b2S hf
            refine t3c_puts X hl.1 hK hD hR hS (Nat.le_trans (Nat.le_of_ble_eq_true rfl) hF) (Nat.le_trans (Nat.le_of_ble_eq_true rfl) hLo) h_14 (Nat.le_of_ble_eq_true rfl) dX3_having_115 (fun H locs hR hS => ?_)
            refine lv_iload_n hx hb dX3_having_118 rfl (lv_at hl 1 rfl) ?_
            refine lv_iconst (v := (-1 : Int32)) hx hb dX3_having_119 (by decide) ?_
            obtain ⟨r_15, M_15, h_15, hf⟩ := ww_b2S hf
            refine t3c_newMap X hl.1 hK hD hR hS (Nat.le_trans (Nat.le_of_ble_eq_true rfl) hF) (Nat.le_trans (Nat.le_of_ble_eq_true rfl) hLo) h_15 (Nat.le_of_ble_eq_true rfl) dX3_having_120 (fun H locs hR hS => ?_)
            exact hend dX3_having_123 rfl rfl hf hR hS
          · replace hf := ww_ip hf c_11
            refine lv_aload_n hx hb dX3_having_95 rfl (lv_at hl 0 rfl) ?_
            refine lv_iconst (v := (4 : Int32)) hx hb dX3_having_96 (by decide) ?_
            obtain ⟨r_16, M_16, h_16, hf⟩ := ww_b2S hf
            refine t3c_refused X hl.1 hK hD hR hS (Nat.le_trans (Nat.le_of_ble_eq_true rfl) hF) (Nat.le_trans (Nat.le_of_ble_eq_true rfl) hLo) h_16 (Nat.le_of_ble_eq_true rfl) dX3_having_97 (fun H locs hR hS => ?_)
            exact hend dX3_having_100 rfl rfl hf hR hS
        refine lv_icmp_ne (tgt := 88) hx hb dX3_having_63 (by decide) (fun c_17 => ?_) (fun c_17 => ?_)
        · replace hf := ww_in hf c_17
          exact hj_1 hf _ _ _ hR hS hl
        · replace hf := ww_ip hf c_17
          refine lv_aload_n hx hb dX3_having_66 rfl (lv_at hl 0 rfl) ?_
          refine lv_aload_n hx hb dX3_having_67 rfl (lv_at hl 0 rfl) ?_
          refine t3g_32 X hK hR dX3_having_68 ?_
          refine lv_iload_n hx hb dX3_having_71 rfl (lv_at hl 1 rfl) ?_
          obtain ⟨h_18, hf⟩ := ww_gS hf
          refine t3l_32 X hK hR h_18 dX3_having_72 ?_
          refine lv_iload_n hx hb dX3_having_73 rfl (lv_at hl 2 rfl) ?_
          obtain ⟨r_19, h_19, hf⟩ := ww_bS hf
          refine t3c_valueAt X hl.1 hK hD hR hS (Nat.le_trans (Nat.le_of_ble_eq_true rfl) hF) (Nat.le_trans (Nat.le_of_ble_eq_true rfl) hLo) h_19 (Nat.le_of_ble_eq_true rfl) dX3_having_74 (fun H locs hR hS => ?_)
          refine lv_ldc (v := (-1000000 : Int32)) hx hb hown (hts _ q1942) dX3_having_77 ?_
          refine lv_icmp_ne (tgt := 88) hx hb dX3_having_79 (by decide) (fun c_20 => ?_) (fun c_20 => ?_)
          · replace hf := ww_in hf c_20
            exact hj_1 hf _ _ _ hR hS hl
          · replace hf := ww_ip hf c_20
            refine lv_aload_n hx hb dX3_having_82 rfl (lv_at hl 0 rfl) ?_
            refine lv_iconst (v := (3 : Int32)) hx hb dX3_having_83 (by decide) ?_
            obtain ⟨r_21, M_21, h_21, hf⟩ := ww_b2S hf
            refine t3c_refused X hl.1 hK hD hR hS (Nat.le_trans (Nat.le_of_ble_eq_true rfl) hF) (Nat.le_trans (Nat.le_of_ble_eq_true rfl) hLo) h_21 (Nat.le_of_ble_eq_true rfl) dX3_having_84 (fun H locs hR hS => ?_)
            exact hend dX3_having_87 rfl rfl hf hR hS
      · replace hf := ww_ip hf c_7
        refine lv_aload_n hx hb dX3_having_45 rfl (lv_at hl 0 rfl) ?_
        refine lv_iconst (v := (1 : Int32)) hx hb dX3_having_46 (by decide) ?_
        obtain ⟨r_22, M_22, h_22, hf⟩ := ww_b2S hf
        refine t3c_refused X hl.1 hK hD hR hS (Nat.le_trans (Nat.le_of_ble_eq_true rfl) hF) (Nat.le_trans (Nat.le_of_ble_eq_true rfl) hLo) h_22 (Nat.le_of_ble_eq_true rfl) dX3_having_47 (fun H locs hR hS => ?_)
        exact hend dX3_having_50 rfl rfl hf hR hS
  · replace hf := ww_ip hf c_2
    refine lv_aload_n hx hb dX3_having_13 rfl (lv_at hl 0 rfl) ?_
    refine lv_iconst (v := (0 : Int32)) hx hb dX3_having_14 (by decide) ?_
    obtain ⟨r_23, M_23, h_23, hf⟩ := ww_b2S hf
    refine t3c_refused X hl.1 hK hD hR hS (Nat.le_trans (Nat.le_of_ble_eq_true rfl) hF) (Nat.le_trans (Nat.le_of_ble_eq_true rfl) hLo) h_23 (Nat.le_of_ble_eq_true rfl) dX3_having_15 (fun H locs hR hS => ?_)
    exact hend dX3_having_18 rfl rfl hf hR hS
noncomputable def f3_takesFrom_b1c (y1 : Int32) (M_3 : ww_M) (x3 : Int32) : Option ((ww_M × Int32) ⊕ (ww_M)) :=
  ww_g (ww_i y1 12000) (if (ww_X M_3 11 y1) ≤ x3 then ww_x (some M_3) else ww_g (ww_i ((((7 : Int32) * y1) + x3) + (1 : Int32)) 84000) (ww_g (ww_i (((7 : Int32) * y1) + x3) 84000) (ww_g (ww_i ((((7 : Int32) * y1) + x3) + (1 : Int32)) 84000) (ww_g (ww_i (((7 : Int32) * y1) + x3) 84000) (some (.inl ((ww_sX (ww_sX M_3 15 (((7 : Int32) * y1) + x3) (ww_X M_3 15 ((((7 : Int32) * y1) + x3) + (1 : Int32)))) 16 (((7 : Int32) * y1) + x3) (ww_X (ww_sX M_3 15 (((7 : Int32) * y1) + x3) (ww_X M_3 15 ((((7 : Int32) * y1) + x3) + (1 : Int32)))) 16 ((((7 : Int32) * y1) + x3) + (1 : Int32)))), (x3 + (1 : Int32)))))))))
noncomputable def f3_takesFrom_b1 (y1 : Int32) : (ww_M × Int32) → Option ((ww_M × Int32) ⊕ (ww_M)) := fun s9 => f3_takesFrom_b1c y1 s9.1 s9.2
noncomputable def f3_takesFrom (M : ww_M) (x1 : Int32) (x2 : Int32) : Option (ww_M) :=
  ww_g (ww_i x1 12000) (ww_g (ww_i x1 12000) (ww_U (f3_takesFrom_b1 x1) ((ww_sX M 11 x1 ((ww_X M 11 x1) - (1 : Int32))), x2)))
section T3_takesFrom_k
variable {p : Program} {l : Launch} {e : Env} {R : Room} {s : State} {m : MethodId} {args : Array Value} {below : List Frame} {meth : Method} {c : Code} {H : Heap} {locs : List Loc} {Q : State → Prop}
variable {cc : ByteArray} {pc : Nat} {ls : Array Slot} {rest : List Value} {nL : Nat} {E : ww_E} {A : Nat → Prop} {H0 : Heap}
theorem t3k_takesFrom {M M' : ww_M} {x1 : Int32} {x2 : Int32} (X : ww_C p m c cc nL s args RX3 lw_all) (hsz : ls.size = nL) (hK : t3_Kn E s) (hD : t3_D E) (hR : t3_H E M H) (hS : va_S (t3_A E) H0 H locs) (hF : 1 ≤ R.frames) (hLo : 23 ≤ R.locals) (hM : t3_MetV l yX3_takesFrom cX3_takesFrom 4 0 0 E [.int x1, .int x2] M M') (hrest : (rest.map fun v => v.category).sum ≤ 8) (hdg : decode cc pc = .ok (.invokevirtual 235, 3)) (kk : ∀ (H1 : Heap) (locs1 : List Loc), t3_H E M' H1 → va_S (t3_A E) H0 H1 locs1 → W p l e R s m args below meth c H1 locs1 0 0 Q (F0 m (pc + 3) ls (rest))) : W p l e R s m args below meth c H locs 0 0 Q (F0 m pc ls (.int x2 :: .int x1 :: .ref E.1 :: rest)) :=
  t3_callV (n := 2) X hsz hK hR hS (As := [.int x1, .int x2]) hM (lw_V q2105 q2107 qs98 q135 q2108) (by decide +kernel) rfl hF hLo (Nat.zero_le _) (Nat.zero_le _) hrest hdg kk
end T3_takesFrom_k
set_option maxHeartbeats 4000000 in
set_option maxRecDepth 100000 in
theorem met3_takesFrom (l : Launch) {E : ww_E} (hD : t3_D E) (M : ww_M) (x1 : Int32) (x2 : Int32) (M' : ww_M) (hf : f3_takesFrom M x1 x2 = some M') : t3_MetV l yX3_takesFrom cX3_takesFrom 4 0 0 E [.int x1, .int x2] M M' := by
  unfold f3_takesFrom at hf
  refine t3_startV (by decide +kernel) (Nat.le_of_ble_eq_true rfl) ?_
  intro p e s m args below meth c Rm Q X hK hF hLo hend ls hl hR hS
  obtain ⟨hx, hb, hml, hown, hts⟩ := id X
  replace hl : lv_has ls 4 [(0, .ref E.1), (1, .int x1), (2, .int x2)] := hl
  refine lv_aload_n hx hb dX3_takesFrom_0 rfl (lv_at hl 0 rfl) ?_
  refine t3g_11 X hK hR dX3_takesFrom_1 ?_
  refine lv_iload_n hx hb dX3_takesFrom_4 rfl (lv_at hl 1 rfl) ?_
  refine lv_dup2_11 hx hb dX3_takesFrom_5 rfl rfl ?_
  obtain ⟨h_1, hf⟩ := ww_gS hf
  refine t3l_11 X hK hR h_1 dX3_takesFrom_6 ?_
  refine lv_iconst (v := (1 : Int32)) hx hb dX3_takesFrom_7 (by decide) ?_
  refine lv_isub hx hb dX3_takesFrom_8 ?_
  obtain ⟨h_2, hf⟩ := ww_gS hf
  refine t3s_11 X hK hD hR hS h_2 dX3_takesFrom_9 (fun H locs hR hS => ?_)
  refine lv_iload_n hx hb dX3_takesFrom_10 rfl (lv_at hl 2 rfl) ?_
  refine lv_istore_n (lv' := [(3, .int x2), (0, .ref E.1), (1, .int x1), (2, .int x2)]) hx hb dX3_takesFrom_11 rfl hl (by decide) rfl (fun ls hl => ?_)
  have hL_1 : ∀ s9 : ww_M × Int32, ww_U (f3_takesFrom_b1 x1) s9 = some M' → ∀ (H : Heap) (locs : List Loc) (ls : Array Slot), t3_H E s9.1 H → va_S (t3_A E) s.heap H locs → lv_has ls 4 [(0, .ref E.1), (1, .int x1), (3, .int s9.2)] → W p l e Rm s m args below meth c H locs 0 0 Q (F0 m 12 ls []) := by
    refine ww_ind _ M' ?_
    intro s9 z_1 hf hz_1 H locs ls hR hS hl
    obtain ⟨M_3, x3⟩ := s9
    replace hf : f3_takesFrom_b1c x1 M_3 x3 = some z_1 := hf
    unfold f3_takesFrom_b1c at hf
    replace hR : t3_H E M_3 H := hR
    replace hl : lv_has ls 4 [(0, .ref E.1), (1, .int x1), (3, .int x3)] := hl
    refine lv_iload_n hx hb dX3_takesFrom_12 rfl (lv_at hl 2 rfl) ?_
    refine lv_aload_n hx hb dX3_takesFrom_13 rfl (lv_at hl 0 rfl) ?_
    refine t3g_11 X hK hR dX3_takesFrom_14 ?_
    refine lv_iload_n hx hb dX3_takesFrom_17 rfl (lv_at hl 1 rfl) ?_
    obtain ⟨h_4, hf⟩ := ww_gS hf
    refine t3l_11 X hK hR h_4 dX3_takesFrom_18 ?_
    refine lv_icmp_ge (tgt := 76) hx hb dX3_takesFrom_19 (by decide) (fun c_5 => ?_) (fun c_5 => ?_)
    · replace hf := ww_ip hf c_5
      replace hf := ww_xK hf hz_1
      exact hend dX3_takesFrom_76 hf hR hS
    · replace hf := ww_in hf c_5
      refine lv_aload_n hx hb dX3_takesFrom_22 rfl (lv_at hl 0 rfl) ?_
      refine t3g_15 X hK hR dX3_takesFrom_23 ?_
      refine lv_bipush (v := (7 : Int32)) hx hb dX3_takesFrom_26 (by decide) ?_
      refine lv_iload_n hx hb dX3_takesFrom_28 rfl (lv_at hl 1 rfl) ?_
      refine lv_imul hx hb dX3_takesFrom_29 ?_
      refine lv_iload_n hx hb dX3_takesFrom_30 rfl (lv_at hl 2 rfl) ?_
      refine lv_iadd hx hb dX3_takesFrom_31 ?_
      refine lv_aload_n hx hb dX3_takesFrom_32 rfl (lv_at hl 0 rfl) ?_
      refine t3g_15 X hK hR dX3_takesFrom_33 ?_
      refine lv_bipush (v := (7 : Int32)) hx hb dX3_takesFrom_36 (by decide) ?_
      refine lv_iload_n hx hb dX3_takesFrom_38 rfl (lv_at hl 1 rfl) ?_
      refine lv_imul hx hb dX3_takesFrom_39 ?_
      refine lv_iload_n hx hb dX3_takesFrom_40 rfl (lv_at hl 2 rfl) ?_
      refine lv_iadd hx hb dX3_takesFrom_41 ?_
      refine lv_iconst (v := (1 : Int32)) hx hb dX3_takesFrom_42 (by decide) ?_
      refine lv_iadd hx hb dX3_takesFrom_43 ?_
      obtain ⟨h_6, hf⟩ := ww_gS hf
      refine t3l_15 X hK hR h_6 dX3_takesFrom_44 ?_
      obtain ⟨h_7, hf⟩ := ww_gS hf
      refine t3s_15 X hK hD hR hS h_7 dX3_takesFrom_45 (fun H locs hR hS => ?_)
      refine lv_aload_n hx hb dX3_takesFrom_46 rfl (lv_at hl 0 rfl) ?_
      refine t3g_16 X hK hR dX3_takesFrom_47 ?_
      refine lv_bipush (v := (7 : Int32)) hx hb dX3_takesFrom_50 (by decide) ?_
      refine lv_iload_n hx hb dX3_takesFrom_52 rfl (lv_at hl 1 rfl) ?_
      refine lv_imul hx hb dX3_takesFrom_53 ?_
      refine lv_iload_n hx hb dX3_takesFrom_54 rfl (lv_at hl 2 rfl) ?_
      refine lv_iadd hx hb dX3_takesFrom_55 ?_
      refine lv_aload_n hx hb dX3_takesFrom_56 rfl (lv_at hl 0 rfl) ?_
      refine t3g_16 X hK hR dX3_takesFrom_57 ?_
      refine lv_bipush (v := (7 : Int32)) hx hb dX3_takesFrom_60 (by decide) ?_
      refine lv_iload_n hx hb dX3_takesFrom_62 rfl (lv_at hl 1 rfl) ?_
      refine lv_imul hx hb dX3_takesFrom_63 ?_
      refine lv_iload_n hx hb dX3_takesFrom_64 rfl (lv_at hl 2 rfl) ?_
      refine lv_iadd hx hb dX3_takesFrom_65 ?_
      refine lv_iconst (v := (1 : Int32)) hx hb dX3_takesFrom_66 (by decide) ?_
      refine lv_iadd hx hb dX3_takesFrom_67 ?_
      obtain ⟨h_8, hf⟩ := ww_gS hf
      refine t3l_16 X hK hR h_8 dX3_takesFrom_68 ?_
      obtain ⟨h_9, hf⟩ := ww_gS hf
      refine t3s_16 X hK hD hR hS h_9 dX3_takesFrom_69 (fun H locs hR hS => ?_)
      refine lv_iinc (k := 2) (v := x3 + (1 : Int32)) (lv' := [(3, .int (x3 + (1 : Int32))), (0, .ref E.1), (1, .int x1)]) hx hb dX3_takesFrom_70 hl rfl rfl (by decide) rfl (fun ls hl => ?_)
      refine lv_goto (tgt := 12) hx hb dX3_takesFrom_73 (by decide) ?_
      exact ww_lK hf hz_1 _ _ _ hR hS (lv_sub hl [1, 2, 0] rfl)
  exact hL_1 ((ww_sX M 11 x1 ((ww_X M 11 x1) - (1 : Int32))), x2) hf _ _ _ hR hS (lv_sub hl [1, 2, 0] rfl)
section T3_takesFrom_c
variable {p : Program} {l : Launch} {e : Env} {R : Room} {s : State} {m : MethodId} {args : Array Value} {below : List Frame} {meth : Method} {c : Code} {H : Heap} {locs : List Loc} {Q : State → Prop}
variable {cc : ByteArray} {pc : Nat} {ls : Array Slot} {rest : List Value} {nL : Nat} {E : ww_E} {A : Nat → Prop} {H0 : Heap}
theorem t3c_takesFrom {M M' : ww_M} {x1 : Int32} {x2 : Int32} (X : ww_C p m c cc nL s args RX3 lw_all) (hsz : ls.size = nL) (hK : t3_Kn E s) (hD : t3_D E) (hR : t3_H E M H) (hS : va_S (t3_A E) H0 H locs) (hF : 1 ≤ R.frames) (hLo : 23 ≤ R.locals) (hf : f3_takesFrom M x1 x2 = some M') (hrest : (rest.map fun v => v.category).sum ≤ 8) (hdg : decode cc pc = .ok (.invokevirtual 235, 3)) (kk : ∀ (H1 : Heap) (locs1 : List Loc), t3_H E M' H1 → va_S (t3_A E) H0 H1 locs1 → W p l e R s m args below meth c H1 locs1 0 0 Q (F0 m (pc + 3) ls (rest))) : W p l e R s m args below meth c H locs 0 0 Q (F0 m pc ls (.int x2 :: .int x1 :: .ref E.1 :: rest)) :=
  t3k_takesFrom X hsz hK hD hR hS hF hLo (met3_takesFrom l hD _ _ _ _ hf) hrest hdg kk
end T3_takesFrom_c
noncomputable def f3_least (M : ww_M) : Option (Int32) :=
  some (((ww_F M 19) + (1 : Int32)) / (2 : Int32))
section T3_least_k
variable {p : Program} {l : Launch} {e : Env} {R : Room} {s : State} {m : MethodId} {args : Array Value} {below : List Frame} {meth : Method} {c : Code} {H : Heap} {locs : List Loc} {Q : State → Prop}
variable {cc : ByteArray} {pc : Nat} {ls : Array Slot} {rest : List Value} {nL : Nat} {E : ww_E} {A : Nat → Prop} {H0 : Heap}
theorem t3k_least {M : ww_M} {r : Int32} (X : ww_C p m c cc nL s args RX3 lw_all) (hsz : ls.size = nL) (hK : t3_Kn E s) (hD : t3_D E) (hR : t3_H E M H) (hS : va_S (t3_A E) H0 H locs) (hF : 1 ≤ R.frames) (hLo : 20 ≤ R.locals) (hM : t3_Met l yX3_least cX3_least 1 (some Jvm.ClassFile.FieldType.int) 0 0 E [] M M r) (hrest : (rest.map fun v => v.category).sum ≤ 8) (hdg : decode cc pc = .ok (.invokevirtual 232, 3)) (kk : ∀ (H1 : Heap) (locs1 : List Loc), t3_H E M H1 → va_S (t3_A E) H0 H1 locs1 → W p l e R s m args below meth c H1 locs1 0 0 Q (F0 m (pc + 3) ls (.int r :: rest))) : W p l e R s m args below meth c H locs 0 0 Q (F0 m pc ls (.ref E.1 :: rest)) :=
  t3_callI (n := 0) X hsz hK hR hS (As := []) hM (lw_V q2109 q2111 qs99 q135 q2112) (by decide +kernel) rfl hF hLo (Nat.zero_le _) (Nat.zero_le _) hrest hdg kk
end T3_least_k
set_option maxHeartbeats 4000000 in
set_option maxRecDepth 100000 in
theorem met3_least (l : Launch) {E : ww_E} (hD : t3_D E) (M : ww_M) (r : Int32) (hf : f3_least M = some r) : t3_Met l yX3_least cX3_least 1 (some Jvm.ClassFile.FieldType.int) 0 0 E [] M M r := by
  unfold f3_least at hf
  refine t3_startP (by decide +kernel) (Nat.le_of_ble_eq_true rfl) ?_
  intro p e s m args below meth c Rm Q X hK hF hLo hend ls hl hR hS
  obtain ⟨hx, hb, hml, hown, hts⟩ := id X
  replace hl : lv_has ls 1 [(0, .ref E.1)] := hl
  refine lv_aload_n hx hb dX3_least_0 rfl (lv_at hl 0 rfl) ?_
  refine t3g_19 X hK hR dX3_least_1 ?_
  refine lv_iconst (v := (1 : Int32)) hx hb dX3_least_4 (by decide) ?_
  refine lv_iadd hx hb dX3_least_5 ?_
  refine lv_iconst (v := (2 : Int32)) hx hb dX3_least_6 (by decide) ?_
  refine lv_idiv hx hb dX3_least_7 (by decide) ?_
  exact hend dX3_least_8 rfl rfl hf hR hS
section T3_least_c
variable {p : Program} {l : Launch} {e : Env} {R : Room} {s : State} {m : MethodId} {args : Array Value} {below : List Frame} {meth : Method} {c : Code} {H : Heap} {locs : List Loc} {Q : State → Prop}
variable {cc : ByteArray} {pc : Nat} {ls : Array Slot} {rest : List Value} {nL : Nat} {E : ww_E} {A : Nat → Prop} {H0 : Heap}
theorem t3c_least {M : ww_M} {r : Int32} (X : ww_C p m c cc nL s args RX3 lw_all) (hsz : ls.size = nL) (hK : t3_Kn E s) (hD : t3_D E) (hR : t3_H E M H) (hS : va_S (t3_A E) H0 H locs) (hF : 1 ≤ R.frames) (hLo : 20 ≤ R.locals) (hf : f3_least M = some r) (hrest : (rest.map fun v => v.category).sum ≤ 8) (hdg : decode cc pc = .ok (.invokevirtual 232, 3)) (kk : ∀ (H1 : Heap) (locs1 : List Loc), t3_H E M H1 → va_S (t3_A E) H0 H1 locs1 → W p l e R s m args below meth c H1 locs1 0 0 Q (F0 m (pc + 3) ls (.int r :: rest))) : W p l e R s m args below meth c H locs 0 0 Q (F0 m pc ls (.ref E.1 :: rest)) :=
  t3k_least X hsz hK hD hR hS hF hLo (met3_least l hD _ _ hf) hrest hdg kk
end T3_least_c
noncomputable def f3_fills_b1c (y1 : Int32) (y2 : Int32) (y4 : Int32) (y6 : Int32) (M_4 : ww_M) (x7 : Int32) : Option ((ww_M × Int32) ⊕ (ww_M)) :=
  ww_g (ww_i y6 12000) (if (ww_X M_4 11 y6) ≤ x7 then ww_x (ww_b (f3_takesFrom M_4 y1 (y2 + (1 : Int32))) (fun M_7 => some M_7)) else ww_g (ww_i y4 12000) (ww_g (ww_i (((7 : Int32) * y6) + x7) 84000) (ww_g (ww_i (((7 : Int32) * y6) + x7) 84000) (ww_b (f3_putsIn M_4 y4 (ww_X M_4 11 y4) (ww_X M_4 15 (((7 : Int32) * y6) + x7)) (ww_X M_4 16 (((7 : Int32) * y6) + x7))) (fun M_11 => some (.inl (M_11, (x7 + (1 : Int32)))))))))
noncomputable def f3_fills_b1 (y1 : Int32) (y2 : Int32) (y4 : Int32) (y6 : Int32) : (ww_M × Int32) → Option ((ww_M × Int32) ⊕ (ww_M)) := fun s9 => f3_fills_b1c y1 y2 y4 y6 s9.1 s9.2
noncomputable def f3_fills_b2c (y1 : Int32) (y2 : Int32) (y4 : Int32) (y5 : Int32) (M_14 : ww_M) (x7 : Int32) : Option ((ww_M × Int32) ⊕ (ww_M)) :=
  ww_g (ww_i y4 12000) (if (ww_X M_14 11 y4) ≤ x7 then ww_x (ww_b (f3_takesFrom M_14 y1 y2) (fun M_17 => some M_17)) else ww_g (ww_i y5 12000) (ww_g (ww_i (((7 : Int32) * y4) + x7) 84000) (ww_g (ww_i (((7 : Int32) * y4) + x7) 84000) (ww_b (f3_putsIn M_14 y5 (ww_X M_14 11 y5) (ww_X M_14 15 (((7 : Int32) * y4) + x7)) (ww_X M_14 16 (((7 : Int32) * y4) + x7))) (fun M_21 => some (.inl (M_21, (x7 + (1 : Int32)))))))))
noncomputable def f3_fills_b2 (y1 : Int32) (y2 : Int32) (y4 : Int32) (y5 : Int32) : (ww_M × Int32) → Option ((ww_M × Int32) ⊕ (ww_M)) := fun s9 => f3_fills_b2c y1 y2 y4 y5 s9.1 s9.2
noncomputable def f3_fills_j4 (M : ww_M) (y1 : Int32) (y2 : Int32) (y3 : Int32) (y4 : Int32) (y5 : Int32) (y6 : Int32) : Option (ww_M) :=
  if y5 = (-1 : Int32) then ww_U (f3_fills_b1 y1 y2 y4 y6) (M, (0 : Int32)) else ww_b2 (f3_edited M y5 y3) (fun r_12 M_12 => ww_g (ww_i ((((7 : Int32) * y1) + y2) - (1 : Int32)) 84000) (ww_U (f3_fills_b2 y1 y2 y4 r_12) ((ww_sX M_12 15 ((((7 : Int32) * y1) + y2) - (1 : Int32)) r_12), (0 : Int32))))
noncomputable def f3_fills_j3 (M : ww_M) (y1 : Int32) (y2 : Int32) (y3 : Int32) (y4 : Int32) (y5 : Int32) (y6 : Int32) : Option (ww_M) :=
  if y6 = (-1 : Int32) then f3_fills_j4 M y1 y2 y3 y4 y5 y6 else ww_g (ww_i y6 12000) (ww_b (f3_least M) (fun r_24 => if (ww_X M 11 y6) ≤ r_24 then f3_fills_j4 M y1 y2 y3 y4 y5 y6 else ww_b2 (f3_edited M y6 y3) (fun r_26 M_26 => ww_g (ww_i ((((7 : Int32) * y1) + y2) + (1 : Int32)) 84000) (ww_g (ww_i y4 12000) (ww_g (ww_i ((7 : Int32) * r_26) 84000) (ww_g (ww_i ((7 : Int32) * r_26) 84000) (ww_b (f3_putsIn (ww_sX M_26 15 ((((7 : Int32) * y1) + y2) + (1 : Int32)) r_26) y4 (ww_X (ww_sX M_26 15 ((((7 : Int32) * y1) + y2) + (1 : Int32)) r_26) 11 y4) (ww_X (ww_sX M_26 15 ((((7 : Int32) * y1) + y2) + (1 : Int32)) r_26) 15 ((7 : Int32) * r_26)) (ww_X (ww_sX M_26 15 ((((7 : Int32) * y1) + y2) + (1 : Int32)) r_26) 16 ((7 : Int32) * r_26))) (fun M_31 => ww_b (f3_takesFrom M_31 r_26 (0 : Int32)) (fun M_32 => some M_32)))))))))
noncomputable def f3_fills_j2 (M : ww_M) (y1 : Int32) (y2 : Int32) (y3 : Int32) (y4 : Int32) (y5 : Int32) (t0_1 : Int32) : Option (ww_M) :=
  if y5 = (-1 : Int32) then f3_fills_j3 M y1 y2 y3 y4 y5 t0_1 else ww_g (ww_i y5 12000) (ww_b (f3_least M) (fun r_35 => if (ww_X M 11 y5) ≤ r_35 then f3_fills_j3 M y1 y2 y3 y4 y5 t0_1 else ww_b2 (f3_edited M y5 y3) (fun r_37 M_37 => ww_g (ww_i ((((7 : Int32) * y1) + y2) - (1 : Int32)) 84000) (ww_g (ww_i r_37 12000) (ww_g (ww_i ((((7 : Int32) * r_37) + (ww_X (ww_sX M_37 15 ((((7 : Int32) * y1) + y2) - (1 : Int32)) r_37) 11 r_37)) - (1 : Int32)) 84000) (ww_g (ww_i ((((7 : Int32) * r_37) + (ww_X (ww_sX M_37 15 ((((7 : Int32) * y1) + y2) - (1 : Int32)) r_37) 11 r_37)) - (1 : Int32)) 84000) (ww_b (f3_putsIn (ww_sX M_37 15 ((((7 : Int32) * y1) + y2) - (1 : Int32)) r_37) y4 (0 : Int32) (ww_X (ww_sX M_37 15 ((((7 : Int32) * y1) + y2) - (1 : Int32)) r_37) 15 ((((7 : Int32) * r_37) + (ww_X (ww_sX M_37 15 ((((7 : Int32) * y1) + y2) - (1 : Int32)) r_37) 11 r_37)) - (1 : Int32))) (ww_X (ww_sX M_37 15 ((((7 : Int32) * y1) + y2) - (1 : Int32)) r_37) 16 ((((7 : Int32) * r_37) + (ww_X (ww_sX M_37 15 ((((7 : Int32) * y1) + y2) - (1 : Int32)) r_37) 11 r_37)) - (1 : Int32)))) (fun M_42 => ww_g (ww_i r_37 12000) (ww_g (ww_i r_37 12000) (some (ww_sX M_42 11 r_37 ((ww_X M_42 11 r_37) - (1 : Int32)))))))))))))
noncomputable def f3_fills_j1 (M : ww_M) (y1 : Int32) (y2 : Int32) (y3 : Int32) (y4 : Int32) (t0 : Int32) : Option (ww_M) :=
  ww_g (ww_i y1 12000) (if (ww_X M 11 y1) ≤ (y2 + (1 : Int32)) then f3_fills_j2 M y1 y2 y3 y4 t0 (-1 : Int32) else ww_b (f3_child M y1 (y2 + (1 : Int32))) (fun r_46 => f3_fills_j2 M y1 y2 y3 y4 t0 r_46))
noncomputable def f3_fills (M : ww_M) (x1 : Int32) (x2 : Int32) (x3 : Int32) : Option (ww_M) :=
  ww_b (f3_child M x1 x2) (fun r_1 => if x2 ≤ 0 then f3_fills_j1 M x1 x2 x3 r_1 (-1 : Int32) else ww_b (f3_child M x1 (x2 - (1 : Int32))) (fun r_48 => f3_fills_j1 M x1 x2 x3 r_1 r_48))
section T3_fills_k
variable {p : Program} {l : Launch} {e : Env} {R : Room} {s : State} {m : MethodId} {args : Array Value} {below : List Frame} {meth : Method} {c : Code} {H : Heap} {locs : List Loc} {Q : State → Prop}
variable {cc : ByteArray} {pc : Nat} {ls : Array Slot} {rest : List Value} {nL : Nat} {E : ww_E} {A : Nat → Prop} {H0 : Heap}
theorem t3k_fills {M M' : ww_M} {x1 : Int32} {x2 : Int32} {x3 : Int32} (X : ww_C p m c cc nL s args RX3 lw_all) (hsz : ls.size = nL) (hK : t3_Kn E s) (hD : t3_D E) (hR : t3_H E M H) (hS : va_S (t3_A E) H0 H locs) (hF : 3 ≤ R.frames) (hLo : 74 ≤ R.locals) (hM : t3_MetV l yX3_fills cX3_fills 8 2 47 E [.int x1, .int x2, .int x3] M M') (hrest : (rest.map fun v => v.category).sum ≤ 8) (hdg : decode cc pc = .ok (.invokevirtual 239, 3)) (kk : ∀ (H1 : Heap) (locs1 : List Loc), t3_H E M' H1 → va_S (t3_A E) H0 H1 locs1 → W p l e R s m args below meth c H1 locs1 0 0 Q (F0 m (pc + 3) ls (rest))) : W p l e R s m args below meth c H locs 0 0 Q (F0 m pc ls (.int x3 :: .int x2 :: .int x1 :: .ref E.1 :: rest)) :=
  t3_callV (n := 3) X hsz hK hR hS (As := [.int x1, .int x2, .int x3]) hM (lw_V q2113 q2115 qs100 q135 q2116) (by decide +kernel) rfl hF hLo (Nat.zero_le _) (Nat.zero_le _) hrest hdg kk
end T3_fills_k
set_option maxHeartbeats 4000000 in
set_option maxRecDepth 100000 in
theorem met3_fills (l : Launch) {E : ww_E} (hD : t3_D E) (M : ww_M) (x1 : Int32) (x2 : Int32) (x3 : Int32) (M' : ww_M) (hf : f3_fills M x1 x2 x3 = some M') : t3_MetV l yX3_fills cX3_fills 8 2 47 E [.int x1, .int x2, .int x3] M M' := by
  unfold f3_fills at hf
  refine t3_startV (by decide +kernel) (Nat.le_of_ble_eq_true rfl) ?_
  intro p e s m args below meth c Rm Q X hK hF hLo hend ls hl hR hS
  obtain ⟨hx, hb, hml, hown, hts⟩ := id X
  replace hl : lv_has ls 8 [(0, .ref E.1), (1, .int x1), (2, .int x2), (3, .int x3)] := hl
  refine lv_aload_n hx hb dX3_fills_0 rfl (lv_at hl 0 rfl) ?_
  refine lv_iload_n hx hb dX3_fills_1 rfl (lv_at hl 1 rfl) ?_
  refine lv_iload_n hx hb dX3_fills_2 rfl (lv_at hl 2 rfl) ?_
  obtain ⟨r_1, h_1, hf⟩ := ww_bS hf
  refine t3c_child X hl.1 hK hD hR hS (Nat.le_trans (Nat.le_of_ble_eq_true rfl) hF) (Nat.le_trans (Nat.le_of_ble_eq_true rfl) hLo) h_1 (Nat.le_of_ble_eq_true rfl) dX3_fills_3 (fun H locs hR hS => ?_)
  refine lv_istore (lv' := [(4, .int r_1), (0, .ref E.1), (1, .int x1), (2, .int x2), (3, .int x3)]) hx hb dX3_fills_6 hl (by decide) rfl (fun ls hl => ?_)
  refine lv_iload_n hx hb dX3_fills_8 rfl (lv_at hl 3 rfl) ?_
  have hj_1 : ∀ (t0 : Int32), f3_fills_j1 M x1 x2 x3 r_1 t0 = some M' → ∀ (H : Heap) (locs : List Loc) (ls : Array Slot), t3_H E M H → va_S (t3_A E) s.heap H locs → lv_has ls 8 [(0, .ref E.1), (1, .int x1), (2, .int x2), (3, .int x3), (4, .int r_1)] → W p l e Rm s m args below meth c H locs 0 0 Q (F0 m 24 ls [.int t0]) := by
    intro t0 hf H locs ls hR hS hl
    unfold f3_fills_j1 at hf
    refine lv_istore (lv' := [(5, .int t0), (0, .ref E.1), (1, .int x1), (2, .int x2), (3, .int x3), (4, .int r_1)]) hx hb dX3_fills_24 hl (by decide) rfl (fun ls hl => ?_)
    refine lv_iload_n hx hb dX3_fills_26 rfl (lv_at hl 3 rfl) ?_
    refine lv_iconst (v := (1 : Int32)) hx hb dX3_fills_27 (by decide) ?_
    refine lv_iadd hx hb dX3_fills_28 ?_
    refine lv_aload_n hx hb dX3_fills_29 rfl (lv_at hl 1 rfl) ?_
    refine t3g_11 X hK hR dX3_fills_30 ?_
    refine lv_iload_n hx hb dX3_fills_33 rfl (lv_at hl 2 rfl) ?_
    obtain ⟨h_2, hf⟩ := ww_gS hf
    refine t3l_11 X hK hR h_2 dX3_fills_34 ?_
    have hj_2 : ∀ (t0_1 : Int32), f3_fills_j2 M x1 x2 x3 r_1 t0 t0_1 = some M' → ∀ (H : Heap) (locs : List Loc) (ls : Array Slot), t3_H E M H → va_S (t3_A E) s.heap H locs → lv_has ls 8 [(0, .ref E.1), (1, .int x1), (2, .int x2), (3, .int x3), (4, .int r_1), (5, .int t0)] → W p l e Rm s m args below meth c H locs 0 0 Q (F0 m 50 ls [.int t0_1]) := by
      intro t0_1 hf H locs ls hR hS hl
      unfold f3_fills_j2 at hf
      refine lv_istore (lv' := [(6, .int t0_1), (0, .ref E.1), (1, .int x1), (2, .int x2), (3, .int x3), (4, .int r_1), (5, .int t0)]) hx hb dX3_fills_50 hl (by decide) rfl (fun ls hl => ?_)
      refine lv_iload hx hb dX3_fills_52 (lv_at hl 6 rfl) ?_
      refine lv_iconst (v := (-1 : Int32)) hx hb dX3_fills_54 (by decide) ?_
      have hj_3 : f3_fills_j3 M x1 x2 x3 r_1 t0 t0_1 = some M' → ∀ (H : Heap) (locs : List Loc) (ls : Array Slot), t3_H E M H → va_S (t3_A E) s.heap H locs → lv_has ls 8 [(0, .ref E.1), (1, .int x1), (2, .int x2), (3, .int x3), (4, .int r_1), (5, .int t0), (6, .int t0_1)] → W p l e Rm s m args below meth c H locs 0 0 Q (F0 m 148 ls []) := by
        intro  hf H locs ls hR hS hl
        unfold f3_fills_j3 at hf
        refine lv_iload hx hb dX3_fills_148 (lv_at hl 6 rfl) ?_
        refine lv_iconst (v := (-1 : Int32)) hx hb dX3_fills_150 (by decide) ?_
        have hj_4 : f3_fills_j4 M x1 x2 x3 r_1 t0 t0_1 = some M' → ∀ (H : Heap) (locs : List Loc) (ls : Array Slot), t3_H E M H → va_S (t3_A E) s.heap H locs → lv_has ls 8 [(0, .ref E.1), (1, .int x1), (2, .int x2), (3, .int x3), (4, .int r_1), (5, .int t0), (6, .int t0_1)] → W p l e Rm s m args below meth c H locs 0 0 Q (F0 m 235 ls []) := by
          intro  hf H locs ls hR hS hl
          unfold f3_fills_j4 at hf
          refine lv_iload hx hb dX3_fills_235 (lv_at hl 5 rfl) ?_
          refine lv_iconst (v := (-1 : Int32)) hx hb dX3_fills_237 (by decide) ?_
          refine lv_icmp_eq (tgt := 334) hx hb dX3_fills_238 (by decide) (fun c_3 => ?_) (fun c_3 => ?_)
          · replace hf := ww_ip hf c_3
            refine lv_iconst (v := (0 : Int32)) hx hb dX3_fills_334 (by decide) ?_
            refine lv_istore (lv' := [(7, .int (0 : Int32)), (0, .ref E.1), (1, .int x1), (2, .int x2), (3, .int x3), (4, .int r_1), (5, .int t0), (6, .int t0_1)]) hx hb dX3_fills_335 hl (by decide) rfl (fun ls hl => ?_)
            have hL_1 : ∀ s9 : ww_M × Int32, ww_U (f3_fills_b1 x1 x2 r_1 t0_1) s9 = some M' → ∀ (H : Heap) (locs : List Loc) (ls : Array Slot), t3_H E s9.1 H → va_S (t3_A E) s.heap H locs → lv_has ls 8 [(0, .ref E.1), (1, .int x1), (2, .int x2), (4, .int r_1), (6, .int t0_1), (7, .int s9.2)] → W p l e Rm s m args below meth c H locs 0 0 Q (F0 m 337 ls []) := by
              refine ww_ind _ M' ?_
              intro s9 z_1 hf hz_1 H locs ls hR hS hl
              obtain ⟨M_4, x7⟩ := s9
              replace hf : f3_fills_b1c x1 x2 r_1 t0_1 M_4 x7 = some z_1 := hf
              unfold f3_fills_b1c at hf
              replace hR : t3_H E M_4 H := hR
              replace hl : lv_has ls 8 [(0, .ref E.1), (1, .int x1), (2, .int x2), (4, .int r_1), (6, .int t0_1), (7, .int x7)] := hl
              refine lv_iload hx hb dX3_fills_337 (lv_at hl 5 rfl) ?_
              refine lv_aload_n hx hb dX3_fills_339 rfl (lv_at hl 0 rfl) ?_
              refine t3g_11 X hK hR dX3_fills_340 ?_
              refine lv_iload hx hb dX3_fills_343 (lv_at hl 4 rfl) ?_
              obtain ⟨h_5, hf⟩ := ww_gS hf
              refine t3l_11 X hK hR h_5 dX3_fills_345 ?_
              refine lv_icmp_ge (tgt := 394) hx hb dX3_fills_346 (by decide) (fun c_6 => ?_) (fun c_6 => ?_)
              · replace hf := ww_ip hf c_6
                replace hf := ww_xK hf hz_1
                refine lv_aload_n hx hb dX3_fills_394 rfl (lv_at hl 0 rfl) ?_
                refine lv_iload_n hx hb dX3_fills_395 rfl (lv_at hl 1 rfl) ?_
                refine lv_iload_n hx hb dX3_fills_396 rfl (lv_at hl 2 rfl) ?_
                refine lv_iconst (v := (1 : Int32)) hx hb dX3_fills_397 (by decide) ?_
                refine lv_iadd hx hb dX3_fills_398 ?_
                obtain ⟨M_7, h_7, hf⟩ := ww_bS hf
                refine t3c_takesFrom X hl.1 hK hD hR hS (Nat.le_trans (Nat.le_of_ble_eq_true rfl) hF) (Nat.le_trans (Nat.le_of_ble_eq_true rfl) hLo) h_7 (Nat.le_of_ble_eq_true rfl) dX3_fills_399 (fun H locs hR hS => ?_)
                exact hend dX3_fills_402 hf hR hS
              · replace hf := ww_in hf c_6
                refine lv_aload_n hx hb dX3_fills_349 rfl (lv_at hl 0 rfl) ?_
                refine lv_iload hx hb dX3_fills_350 (lv_at hl 3 rfl) ?_
                refine lv_aload_n hx hb dX3_fills_352 rfl (lv_at hl 0 rfl) ?_
                refine t3g_11 X hK hR dX3_fills_353 ?_
                refine lv_iload hx hb dX3_fills_356 (lv_at hl 3 rfl) ?_
                obtain ⟨h_8, hf⟩ := ww_gS hf
                refine t3l_11 X hK hR h_8 dX3_fills_358 ?_
                refine lv_aload_n hx hb dX3_fills_359 rfl (lv_at hl 0 rfl) ?_
                refine t3g_15 X hK hR dX3_fills_360 ?_
                refine lv_bipush (v := (7 : Int32)) hx hb dX3_fills_363 (by decide) ?_
                refine lv_iload hx hb dX3_fills_365 (lv_at hl 4 rfl) ?_
                refine lv_imul hx hb dX3_fills_367 ?_
                refine lv_iload hx hb dX3_fills_368 (lv_at hl 5 rfl) ?_
                refine lv_iadd hx hb dX3_fills_370 ?_
                obtain ⟨h_9, hf⟩ := ww_gS hf
                refine t3l_15 X hK hR h_9 dX3_fills_371 ?_
                refine lv_aload_n hx hb dX3_fills_372 rfl (lv_at hl 0 rfl) ?_
                refine t3g_16 X hK hR dX3_fills_373 ?_
                refine lv_bipush (v := (7 : Int32)) hx hb dX3_fills_376 (by decide) ?_
                refine lv_iload hx hb dX3_fills_378 (lv_at hl 4 rfl) ?_
                refine lv_imul hx hb dX3_fills_380 ?_
                refine lv_iload hx hb dX3_fills_381 (lv_at hl 5 rfl) ?_
                refine lv_iadd hx hb dX3_fills_383 ?_
                obtain ⟨h_10, hf⟩ := ww_gS hf
                refine t3l_16 X hK hR h_10 dX3_fills_384 ?_
                obtain ⟨M_11, h_11, hf⟩ := ww_bS hf
                refine t3c_putsIn X hl.1 hK hD hR hS (Nat.le_trans (Nat.le_of_ble_eq_true rfl) hF) (Nat.le_trans (Nat.le_of_ble_eq_true rfl) hLo) h_11 (Nat.le_of_ble_eq_true rfl) dX3_fills_385 (fun H locs hR hS => ?_)
                refine lv_iinc (k := 5) (v := x7 + (1 : Int32)) (lv' := [(7, .int (x7 + (1 : Int32))), (0, .ref E.1), (1, .int x1), (2, .int x2), (4, .int r_1), (6, .int t0_1)]) hx hb dX3_fills_388 hl rfl rfl (by decide) rfl (fun ls hl => ?_)
                refine lv_goto (tgt := 337) hx hb dX3_fills_391 (by decide) ?_
                exact ww_lK hf hz_1 _ _ _ hR hS (lv_sub hl [1, 2, 3, 4, 5, 0] rfl)
            exact hL_1 (M, (0 : Int32)) hf _ _ _ hR hS (lv_sub hl [1, 2, 3, 5, 7, 0] rfl)
          · replace hf := ww_in hf c_3
            refine lv_aload_n hx hb dX3_fills_241 rfl (lv_at hl 0 rfl) ?_
            refine lv_iload hx hb dX3_fills_242 (lv_at hl 5 rfl) ?_
            refine lv_iload_n hx hb dX3_fills_244 rfl (lv_at hl 3 rfl) ?_
            obtain ⟨r_12, M_12, h_12, hf⟩ := ww_b2S hf
            refine t3c_edited X hl.1 hK hD hR hS (Nat.le_trans (Nat.le_of_ble_eq_true rfl) hF) (Nat.le_trans (Nat.le_of_ble_eq_true rfl) hLo) h_12 (Nat.le_of_ble_eq_true rfl) dX3_fills_245 (fun H locs hR hS => ?_)
            refine lv_istore (lv' := [(5, .int r_12), (0, .ref E.1), (1, .int x1), (2, .int x2), (3, .int x3), (4, .int r_1), (6, .int t0_1)]) hx hb dX3_fills_248 hl (by decide) rfl (fun ls hl => ?_)
            refine lv_aload_n hx hb dX3_fills_250 rfl (lv_at hl 1 rfl) ?_
            refine t3g_15 X hK hR dX3_fills_251 ?_
            refine lv_bipush (v := (7 : Int32)) hx hb dX3_fills_254 (by decide) ?_
            refine lv_iload_n hx hb dX3_fills_256 rfl (lv_at hl 2 rfl) ?_
            refine lv_imul hx hb dX3_fills_257 ?_
            refine lv_iload_n hx hb dX3_fills_258 rfl (lv_at hl 3 rfl) ?_
            refine lv_iadd hx hb dX3_fills_259 ?_
            refine lv_iconst (v := (1 : Int32)) hx hb dX3_fills_260 (by decide) ?_
            refine lv_isub hx hb dX3_fills_261 ?_
            refine lv_iload hx hb dX3_fills_262 (lv_at hl 0 rfl) ?_
            obtain ⟨h_13, hf⟩ := ww_gS hf
            refine t3s_15 X hK hD hR hS h_13 dX3_fills_264 (fun H locs hR hS => ?_)
            refine lv_iconst (v := (0 : Int32)) hx hb dX3_fills_265 (by decide) ?_
            refine lv_istore (lv' := [(7, .int (0 : Int32)), (5, .int r_12), (0, .ref E.1), (1, .int x1), (2, .int x2), (3, .int x3), (4, .int r_1), (6, .int t0_1)]) hx hb dX3_fills_266 hl (by decide) rfl (fun ls hl => ?_)
            have hL_2 : ∀ s9 : ww_M × Int32, ww_U (f3_fills_b2 x1 x2 r_1 r_12) s9 = some M' → ∀ (H : Heap) (locs : List Loc) (ls : Array Slot), t3_H E s9.1 H → va_S (t3_A E) s.heap H locs → lv_has ls 8 [(0, .ref E.1), (1, .int x1), (2, .int x2), (4, .int r_1), (5, .int r_12), (7, .int s9.2)] → W p l e Rm s m args below meth c H locs 0 0 Q (F0 m 268 ls []) := by
              refine ww_ind _ M' ?_
              intro s9 z_2 hf hz_2 H locs ls hR hS hl
              obtain ⟨M_14, x7⟩ := s9
              replace hf : f3_fills_b2c x1 x2 r_1 r_12 M_14 x7 = some z_2 := hf
              unfold f3_fills_b2c at hf
              replace hR : t3_H E M_14 H := hR
              replace hl : lv_has ls 8 [(0, .ref E.1), (1, .int x1), (2, .int x2), (4, .int r_1), (5, .int r_12), (7, .int x7)] := hl
              refine lv_iload hx hb dX3_fills_268 (lv_at hl 5 rfl) ?_
              refine lv_aload_n hx hb dX3_fills_270 rfl (lv_at hl 0 rfl) ?_
              refine t3g_11 X hK hR dX3_fills_271 ?_
              refine lv_iload hx hb dX3_fills_274 (lv_at hl 3 rfl) ?_
              obtain ⟨h_15, hf⟩ := ww_gS hf
              refine t3l_11 X hK hR h_15 dX3_fills_276 ?_
              refine lv_icmp_ge (tgt := 325) hx hb dX3_fills_277 (by decide) (fun c_16 => ?_) (fun c_16 => ?_)
              · replace hf := ww_ip hf c_16
                replace hf := ww_xK hf hz_2
                refine lv_aload_n hx hb dX3_fills_325 rfl (lv_at hl 0 rfl) ?_
                refine lv_iload_n hx hb dX3_fills_326 rfl (lv_at hl 1 rfl) ?_
                refine lv_iload_n hx hb dX3_fills_327 rfl (lv_at hl 2 rfl) ?_
                obtain ⟨M_17, h_17, hf⟩ := ww_bS hf
                refine t3c_takesFrom X hl.1 hK hD hR hS (Nat.le_trans (Nat.le_of_ble_eq_true rfl) hF) (Nat.le_trans (Nat.le_of_ble_eq_true rfl) hLo) h_17 (Nat.le_of_ble_eq_true rfl) dX3_fills_328 (fun H locs hR hS => ?_)
                refine lv_goto (tgt := 402) hx hb dX3_fills_331 (by decide) ?_
                exact hend dX3_fills_402 hf hR hS
              · replace hf := ww_in hf c_16
                refine lv_aload_n hx hb dX3_fills_280 rfl (lv_at hl 0 rfl) ?_
                refine lv_iload hx hb dX3_fills_281 (lv_at hl 4 rfl) ?_
                refine lv_aload_n hx hb dX3_fills_283 rfl (lv_at hl 0 rfl) ?_
                refine t3g_11 X hK hR dX3_fills_284 ?_
                refine lv_iload hx hb dX3_fills_287 (lv_at hl 4 rfl) ?_
                obtain ⟨h_18, hf⟩ := ww_gS hf
                refine t3l_11 X hK hR h_18 dX3_fills_289 ?_
                refine lv_aload_n hx hb dX3_fills_290 rfl (lv_at hl 0 rfl) ?_
                refine t3g_15 X hK hR dX3_fills_291 ?_
                refine lv_bipush (v := (7 : Int32)) hx hb dX3_fills_294 (by decide) ?_
                refine lv_iload hx hb dX3_fills_296 (lv_at hl 3 rfl) ?_
                refine lv_imul hx hb dX3_fills_298 ?_
                refine lv_iload hx hb dX3_fills_299 (lv_at hl 5 rfl) ?_
                refine lv_iadd hx hb dX3_fills_301 ?_
                obtain ⟨h_19, hf⟩ := ww_gS hf
                refine t3l_15 X hK hR h_19 dX3_fills_302 ?_
                refine lv_aload_n hx hb dX3_fills_303 rfl (lv_at hl 0 rfl) ?_
                refine t3g_16 X hK hR dX3_fills_304 ?_
                refine lv_bipush (v := (7 : Int32)) hx hb dX3_fills_307 (by decide) ?_
                refine lv_iload hx hb dX3_fills_309 (lv_at hl 3 rfl) ?_
                refine lv_imul hx hb dX3_fills_311 ?_
                refine lv_iload hx hb dX3_fills_312 (lv_at hl 5 rfl) ?_
                refine lv_iadd hx hb dX3_fills_314 ?_
                obtain ⟨h_20, hf⟩ := ww_gS hf
                refine t3l_16 X hK hR h_20 dX3_fills_315 ?_
                obtain ⟨M_21, h_21, hf⟩ := ww_bS hf
                refine t3c_putsIn X hl.1 hK hD hR hS (Nat.le_trans (Nat.le_of_ble_eq_true rfl) hF) (Nat.le_trans (Nat.le_of_ble_eq_true rfl) hLo) h_21 (Nat.le_of_ble_eq_true rfl) dX3_fills_316 (fun H locs hR hS => ?_)
                refine lv_iinc (k := 5) (v := x7 + (1 : Int32)) (lv' := [(7, .int (x7 + (1 : Int32))), (0, .ref E.1), (1, .int x1), (2, .int x2), (4, .int r_1), (5, .int r_12)]) hx hb dX3_fills_319 hl rfl rfl (by decide) rfl (fun ls hl => ?_)
                refine lv_goto (tgt := 268) hx hb dX3_fills_322 (by decide) ?_
                exact ww_lK hf hz_2 _ _ _ hR hS (lv_sub hl [1, 2, 3, 4, 5, 0] rfl)
            exact hL_2 ((ww_sX M_12 15 ((((7 : Int32) * x1) + x2) - (1 : Int32)) r_12), (0 : Int32)) hf _ _ _ hR hS (lv_sub hl [2, 3, 4, 6, 1, 0] rfl)
        refine lv_icmp_eq (tgt := 235) hx hb dX3_fills_151 (by decide) (fun c_22 => ?_) (fun c_22 => ?_)
        · replace hf := ww_ip hf c_22
          exact hj_4 hf _ _ _ hR hS hl
        · replace hf := ww_in hf c_22
          refine lv_aload_n hx hb dX3_fills_154 rfl (lv_at hl 0 rfl) ?_
          refine t3g_11 X hK hR dX3_fills_155 ?_
          refine lv_iload hx hb dX3_fills_158 (lv_at hl 6 rfl) ?_
          obtain ⟨h_23, hf⟩ := ww_gS hf
          refine t3l_11 X hK hR h_23 dX3_fills_160 ?_
          refine lv_aload_n hx hb dX3_fills_161 rfl (lv_at hl 0 rfl) ?_
          obtain ⟨r_24, h_24, hf⟩ := ww_bS hf
          refine t3c_least X hl.1 hK hD hR hS (Nat.le_trans (Nat.le_of_ble_eq_true rfl) hF) (Nat.le_trans (Nat.le_of_ble_eq_true rfl) hLo) h_24 (Nat.le_of_ble_eq_true rfl) dX3_fills_162 (fun H locs hR hS => ?_)
          refine lv_icmp_le (tgt := 235) hx hb dX3_fills_165 (by decide) (fun c_25 => ?_) (fun c_25 => ?_)
          · replace hf := ww_ip hf c_25
            exact hj_4 hf _ _ _ hR hS hl
          · replace hf := ww_in hf c_25
            refine lv_aload_n hx hb dX3_fills_168 rfl (lv_at hl 0 rfl) ?_
            refine lv_iload hx hb dX3_fills_169 (lv_at hl 6 rfl) ?_
            refine lv_iload_n hx hb dX3_fills_171 rfl (lv_at hl 3 rfl) ?_
            obtain ⟨r_26, M_26, h_26, hf⟩ := ww_b2S hf
            refine t3c_edited X hl.1 hK hD hR hS (Nat.le_trans (Nat.le_of_ble_eq_true rfl) hF) (Nat.le_trans (Nat.le_of_ble_eq_true rfl) hLo) h_26 (Nat.le_of_ble_eq_true rfl) dX3_fills_172 (fun H locs hR hS => ?_)
            refine lv_istore (lv' := [(6, .int r_26), (0, .ref E.1), (1, .int x1), (2, .int x2), (3, .int x3), (4, .int r_1), (5, .int t0)]) hx hb dX3_fills_175 hl (by decide) rfl (fun ls hl => ?_)
            refine lv_aload_n hx hb dX3_fills_177 rfl (lv_at hl 1 rfl) ?_
            refine t3g_15 X hK hR dX3_fills_178 ?_
            refine lv_bipush (v := (7 : Int32)) hx hb dX3_fills_181 (by decide) ?_
            refine lv_iload_n hx hb dX3_fills_183 rfl (lv_at hl 2 rfl) ?_
            refine lv_imul hx hb dX3_fills_184 ?_
            refine lv_iload_n hx hb dX3_fills_185 rfl (lv_at hl 3 rfl) ?_
            refine lv_iadd hx hb dX3_fills_186 ?_
            refine lv_iconst (v := (1 : Int32)) hx hb dX3_fills_187 (by decide) ?_
            refine lv_iadd hx hb dX3_fills_188 ?_
            refine lv_iload hx hb dX3_fills_189 (lv_at hl 0 rfl) ?_
            obtain ⟨h_27, hf⟩ := ww_gS hf
            refine t3s_15 X hK hD hR hS h_27 dX3_fills_191 (fun H locs hR hS => ?_)
            refine lv_aload_n hx hb dX3_fills_192 rfl (lv_at hl 1 rfl) ?_
            refine lv_iload hx hb dX3_fills_193 (lv_at hl 5 rfl) ?_
            refine lv_aload_n hx hb dX3_fills_195 rfl (lv_at hl 1 rfl) ?_
            refine t3g_11 X hK hR dX3_fills_196 ?_
            refine lv_iload hx hb dX3_fills_199 (lv_at hl 5 rfl) ?_
            obtain ⟨h_28, hf⟩ := ww_gS hf
            refine t3l_11 X hK hR h_28 dX3_fills_201 ?_
            refine lv_aload_n hx hb dX3_fills_202 rfl (lv_at hl 1 rfl) ?_
            refine t3g_15 X hK hR dX3_fills_203 ?_
            refine lv_bipush (v := (7 : Int32)) hx hb dX3_fills_206 (by decide) ?_
            refine lv_iload hx hb dX3_fills_208 (lv_at hl 0 rfl) ?_
            refine lv_imul hx hb dX3_fills_210 ?_
            obtain ⟨h_29, hf⟩ := ww_gS hf
            refine t3l_15 X hK hR h_29 dX3_fills_211 ?_
            refine lv_aload_n hx hb dX3_fills_212 rfl (lv_at hl 1 rfl) ?_
            refine t3g_16 X hK hR dX3_fills_213 ?_
            refine lv_bipush (v := (7 : Int32)) hx hb dX3_fills_216 (by decide) ?_
            refine lv_iload hx hb dX3_fills_218 (lv_at hl 0 rfl) ?_
            refine lv_imul hx hb dX3_fills_220 ?_
            obtain ⟨h_30, hf⟩ := ww_gS hf
            refine t3l_16 X hK hR h_30 dX3_fills_221 ?_
            obtain ⟨M_31, h_31, hf⟩ := ww_bS hf
            refine t3c_putsIn X hl.1 hK hD hR hS (Nat.le_trans (Nat.le_of_ble_eq_true rfl) hF) (Nat.le_trans (Nat.le_of_ble_eq_true rfl) hLo) h_31 (Nat.le_of_ble_eq_true rfl) dX3_fills_222 (fun H locs hR hS => ?_)
            refine lv_aload_n hx hb dX3_fills_225 rfl (lv_at hl 1 rfl) ?_
            refine lv_iload hx hb dX3_fills_226 (lv_at hl 0 rfl) ?_
            refine lv_iconst (v := (0 : Int32)) hx hb dX3_fills_228 (by decide) ?_
            obtain ⟨M_32, h_32, hf⟩ := ww_bS hf
            refine t3c_takesFrom X hl.1 hK hD hR hS (Nat.le_trans (Nat.le_of_ble_eq_true rfl) hF) (Nat.le_trans (Nat.le_of_ble_eq_true rfl) hLo) h_32 (Nat.le_of_ble_eq_true rfl) dX3_fills_229 (fun H locs hR hS => ?_)
            refine lv_goto (tgt := 402) hx hb dX3_fills_232 (by decide) ?_
            exact hend dX3_fills_402 hf hR hS
      refine lv_icmp_eq (tgt := 148) hx hb dX3_fills_55 (by decide) (fun c_33 => ?_) (fun c_33 => ?_)
      · replace hf := ww_ip hf c_33
        exact hj_3 hf _ _ _ hR hS (lv_sub hl [1, 2, 3, 4, 5, 6, 0] rfl)
      · replace hf := ww_in hf c_33
        refine lv_aload_n hx hb dX3_fills_58 rfl (lv_at hl 1 rfl) ?_
        refine t3g_11 X hK hR dX3_fills_59 ?_
        refine lv_iload hx hb dX3_fills_62 (lv_at hl 6 rfl) ?_
        obtain ⟨h_34, hf⟩ := ww_gS hf
        refine t3l_11 X hK hR h_34 dX3_fills_64 ?_
        refine lv_aload_n hx hb dX3_fills_65 rfl (lv_at hl 1 rfl) ?_
        obtain ⟨r_35, h_35, hf⟩ := ww_bS hf
        refine t3c_least X hl.1 hK hD hR hS (Nat.le_trans (Nat.le_of_ble_eq_true rfl) hF) (Nat.le_trans (Nat.le_of_ble_eq_true rfl) hLo) h_35 (Nat.le_of_ble_eq_true rfl) dX3_fills_66 (fun H locs hR hS => ?_)
        refine lv_icmp_le (tgt := 148) hx hb dX3_fills_69 (by decide) (fun c_36 => ?_) (fun c_36 => ?_)
        · replace hf := ww_ip hf c_36
          exact hj_3 hf _ _ _ hR hS (lv_sub hl [1, 2, 3, 4, 5, 6, 0] rfl)
        · replace hf := ww_in hf c_36
          refine lv_aload_n hx hb dX3_fills_72 rfl (lv_at hl 1 rfl) ?_
          refine lv_iload hx hb dX3_fills_73 (lv_at hl 6 rfl) ?_
          refine lv_iload_n hx hb dX3_fills_75 rfl (lv_at hl 4 rfl) ?_
          obtain ⟨r_37, M_37, h_37, hf⟩ := ww_b2S hf
          refine t3c_edited X hl.1 hK hD hR hS (Nat.le_trans (Nat.le_of_ble_eq_true rfl) hF) (Nat.le_trans (Nat.le_of_ble_eq_true rfl) hLo) h_37 (Nat.le_of_ble_eq_true rfl) dX3_fills_76 (fun H locs hR hS => ?_)
          refine lv_istore (lv' := [(5, .int r_37), (6, .int t0_1), (0, .ref E.1), (1, .int x1), (2, .int x2), (3, .int x3), (4, .int r_1)]) hx hb dX3_fills_79 hl (by decide) rfl (fun ls hl => ?_)
          refine lv_aload_n hx hb dX3_fills_81 rfl (lv_at hl 2 rfl) ?_
          refine t3g_15 X hK hR dX3_fills_82 ?_
          refine lv_bipush (v := (7 : Int32)) hx hb dX3_fills_85 (by decide) ?_
          refine lv_iload_n hx hb dX3_fills_87 rfl (lv_at hl 3 rfl) ?_
          refine lv_imul hx hb dX3_fills_88 ?_
          refine lv_iload_n hx hb dX3_fills_89 rfl (lv_at hl 4 rfl) ?_
          refine lv_iadd hx hb dX3_fills_90 ?_
          refine lv_iconst (v := (1 : Int32)) hx hb dX3_fills_91 (by decide) ?_
          refine lv_isub hx hb dX3_fills_92 ?_
          refine lv_iload hx hb dX3_fills_93 (lv_at hl 0 rfl) ?_
          obtain ⟨h_38, hf⟩ := ww_gS hf
          refine t3s_15 X hK hD hR hS h_38 dX3_fills_95 (fun H locs hR hS => ?_)
          refine lv_bipush (v := (7 : Int32)) hx hb dX3_fills_96 (by decide) ?_
          refine lv_iload hx hb dX3_fills_98 (lv_at hl 0 rfl) ?_
          refine lv_imul hx hb dX3_fills_100 ?_
          refine lv_aload_n hx hb dX3_fills_101 rfl (lv_at hl 2 rfl) ?_
          refine t3g_11 X hK hR dX3_fills_102 ?_
          refine lv_iload hx hb dX3_fills_105 (lv_at hl 0 rfl) ?_
          obtain ⟨h_39, hf⟩ := ww_gS hf
          refine t3l_11 X hK hR h_39 dX3_fills_107 ?_
          refine lv_iadd hx hb dX3_fills_108 ?_
          refine lv_iconst (v := (1 : Int32)) hx hb dX3_fills_109 (by decide) ?_
          refine lv_isub hx hb dX3_fills_110 ?_
          refine lv_istore (lv' := [(7, .int ((((7 : Int32) * r_37) + (ww_X (ww_sX M_37 15 ((((7 : Int32) * x1) + x2) - (1 : Int32)) r_37) 11 r_37)) - (1 : Int32))), (5, .int r_37), (6, .int t0_1), (0, .ref E.1), (1, .int x1), (2, .int x2), (3, .int x3), (4, .int r_1)]) hx hb dX3_fills_111 hl (by decide) rfl (fun ls hl => ?_)
          refine lv_aload_n hx hb dX3_fills_113 rfl (lv_at hl 3 rfl) ?_
          refine lv_iload hx hb dX3_fills_114 (lv_at hl 7 rfl) ?_
          refine lv_iconst (v := (0 : Int32)) hx hb dX3_fills_116 (by decide) ?_
          refine lv_aload_n hx hb dX3_fills_117 rfl (lv_at hl 3 rfl) ?_
          refine t3g_15 X hK hR dX3_fills_118 ?_
          refine lv_iload hx hb dX3_fills_121 (lv_at hl 0 rfl) ?_
          obtain ⟨h_40, hf⟩ := ww_gS hf
          refine t3l_15 X hK hR h_40 dX3_fills_123 ?_
          refine lv_aload_n hx hb dX3_fills_124 rfl (lv_at hl 3 rfl) ?_
          refine t3g_16 X hK hR dX3_fills_125 ?_
          refine lv_iload hx hb dX3_fills_128 (lv_at hl 0 rfl) ?_
          obtain ⟨h_41, hf⟩ := ww_gS hf
          refine t3l_16 X hK hR h_41 dX3_fills_130 ?_
          obtain ⟨M_42, h_42, hf⟩ := ww_bS hf
          refine t3c_putsIn X hl.1 hK hD hR hS (Nat.le_trans (Nat.le_of_ble_eq_true rfl) hF) (Nat.le_trans (Nat.le_of_ble_eq_true rfl) hLo) h_42 (Nat.le_of_ble_eq_true rfl) dX3_fills_131 (fun H locs hR hS => ?_)
          refine lv_aload_n hx hb dX3_fills_134 rfl (lv_at hl 3 rfl) ?_
          refine t3g_11 X hK hR dX3_fills_135 ?_
          refine lv_iload hx hb dX3_fills_138 (lv_at hl 1 rfl) ?_
          refine lv_dup2_11 hx hb dX3_fills_140 rfl rfl ?_
          obtain ⟨h_43, hf⟩ := ww_gS hf
          refine t3l_11 X hK hR h_43 dX3_fills_141 ?_
          refine lv_iconst (v := (1 : Int32)) hx hb dX3_fills_142 (by decide) ?_
          refine lv_isub hx hb dX3_fills_143 ?_
          obtain ⟨h_44, hf⟩ := ww_gS hf
          refine t3s_11 X hK hD hR hS h_44 dX3_fills_144 (fun H locs hR hS => ?_)
          refine lv_goto (tgt := 402) hx hb dX3_fills_145 (by decide) ?_
          exact hend dX3_fills_402 hf hR hS
    refine lv_icmp_ge (tgt := 49) hx hb dX3_fills_35 (by decide) (fun c_45 => ?_) (fun c_45 => ?_)
    · replace hf := ww_ip hf c_45
      refine lv_iconst (v := (-1 : Int32)) hx hb dX3_fills_49 (by decide) ?_
      exact hj_2 (-1 : Int32) hf _ _ _ hR hS (lv_sub hl [1, 2, 3, 4, 5, 0] rfl)
    · replace hf := ww_in hf c_45
      refine lv_aload_n hx hb dX3_fills_38 rfl (lv_at hl 1 rfl) ?_
      refine lv_iload_n hx hb dX3_fills_39 rfl (lv_at hl 2 rfl) ?_
      refine lv_iload_n hx hb dX3_fills_40 rfl (lv_at hl 3 rfl) ?_
      refine lv_iconst (v := (1 : Int32)) hx hb dX3_fills_41 (by decide) ?_
      refine lv_iadd hx hb dX3_fills_42 ?_
      obtain ⟨r_46, h_46, hf⟩ := ww_bS hf
      refine t3c_child X hl.1 hK hD hR hS (Nat.le_trans (Nat.le_of_ble_eq_true rfl) hF) (Nat.le_trans (Nat.le_of_ble_eq_true rfl) hLo) h_46 (Nat.le_of_ble_eq_true rfl) dX3_fills_43 (fun H locs hR hS => ?_)
      refine lv_goto (tgt := 50) hx hb dX3_fills_46 (by decide) ?_
      exact hj_2 r_46 hf _ _ _ hR hS (lv_sub hl [1, 2, 3, 4, 5, 0] rfl)
  refine lv_if_le (tgt := 23) hx hb dX3_fills_9 (by decide) (fun c_47 => ?_) (fun c_47 => ?_)
  · replace hf := ww_ip hf c_47
    refine lv_iconst (v := (-1 : Int32)) hx hb dX3_fills_23 (by decide) ?_
    exact hj_1 (-1 : Int32) hf _ _ _ hR hS (lv_sub hl [1, 2, 3, 4, 0] rfl)
  · replace hf := ww_in hf c_47
    refine lv_aload_n hx hb dX3_fills_12 rfl (lv_at hl 1 rfl) ?_
    refine lv_iload_n hx hb dX3_fills_13 rfl (lv_at hl 2 rfl) ?_
    refine lv_iload_n hx hb dX3_fills_14 rfl (lv_at hl 3 rfl) ?_
    refine lv_iconst (v := (1 : Int32)) hx hb dX3_fills_15 (by decide) ?_
    refine lv_isub hx hb dX3_fills_16 ?_
    obtain ⟨r_48, h_48, hf⟩ := ww_bS hf
    refine t3c_child X hl.1 hK hD hR hS (Nat.le_trans (Nat.le_of_ble_eq_true rfl) hF) (Nat.le_trans (Nat.le_of_ble_eq_true rfl) hLo) h_48 (Nat.le_of_ble_eq_true rfl) dX3_fills_17 (fun H locs hR hS => ?_)
    refine lv_goto (tgt := 24) hx hb dX3_fills_20 (by decide) ?_
    exact hj_1 r_48 hf _ _ _ hR hS (lv_sub hl [1, 2, 3, 4, 0] rfl)
section T3_fills_c
variable {p : Program} {l : Launch} {e : Env} {R : Room} {s : State} {m : MethodId} {args : Array Value} {below : List Frame} {meth : Method} {c : Code} {H : Heap} {locs : List Loc} {Q : State → Prop}
variable {cc : ByteArray} {pc : Nat} {ls : Array Slot} {rest : List Value} {nL : Nat} {E : ww_E} {A : Nat → Prop} {H0 : Heap}
theorem t3c_fills {M M' : ww_M} {x1 : Int32} {x2 : Int32} {x3 : Int32} (X : ww_C p m c cc nL s args RX3 lw_all) (hsz : ls.size = nL) (hK : t3_Kn E s) (hD : t3_D E) (hR : t3_H E M H) (hS : va_S (t3_A E) H0 H locs) (hF : 3 ≤ R.frames) (hLo : 74 ≤ R.locals) (hf : f3_fills M x1 x2 x3 = some M') (hrest : (rest.map fun v => v.category).sum ≤ 8) (hdg : decode cc pc = .ok (.invokevirtual 239, 3)) (kk : ∀ (H1 : Heap) (locs1 : List Loc), t3_H E M' H1 → va_S (t3_A E) H0 H1 locs1 → W p l e R s m args below meth c H1 locs1 0 0 Q (F0 m (pc + 3) ls (rest))) : W p l e R s m args below meth c H locs 0 0 Q (F0 m pc ls (.int x3 :: .int x2 :: .int x1 :: .ref E.1 :: rest)) :=
  t3k_fills X hsz hK hD hR hS hF hLo (met3_fills l hD _ _ _ _ _ hf) hrest hdg kk
end T3_fills_c
