noncomputable def f3_cuts_b2c (y5 : Int32) (y6 : Int32) (M_4 : ww_M) (x1 : Int32) (x7 : Int32) : Option ((ww_M × Int32 × Int32) ⊕ (Int32 × ww_M)) :=
  if y6 ≤ x7 then ww_x (some (x1, M_4)) else ww_g (ww_i x7 60) (ww_b2 (f3_takes M_4 x1 (ww_X M_4 47 x7) y5) (fun r_7 M_7 => some (.inl (M_7, r_7, (x7 + (1 : Int32))))))
noncomputable def f3_cuts_b2 (y5 : Int32) (y6 : Int32) : (ww_M × Int32 × Int32) → Option ((ww_M × Int32 × Int32) ⊕ (Int32 × ww_M)) := fun s9 => f3_cuts_b2c y5 y6 s9.1 s9.2.1 s9.2.2
noncomputable def f3_cuts_b1c (y1 : Int32) (y2 : Int32) (y3 : Int32) (y4 : Int32) (y5 : Int32) (M_2 : ww_M) (x6 : Int32) (x7 : Int32) : Option ((ww_M × Int32 × Int32) ⊕ (Int32 × ww_M)) :=
  if (ww_F M_2 30) ≤ x7 then ww_x (ww_U (f3_cuts_b2 y5 x6) (M_2, y1, (0 : Int32))) else ww_g (ww_i x7 140) (ww_b (f3_isIn ((ww_X M_2 26 x7).toInt64) y2.toInt64 y3.toInt64) (fun r_9 => if r_9 = y4 then ww_g (ww_i x7 140) (ww_g (ww_i x6 60) (some (.inl ((ww_sX M_2 47 x6 (ww_X M_2 26 x7)), (x6 + (1 : Int32)), (x7 + (1 : Int32)))))) else some (.inl (M_2, x6, (x7 + (1 : Int32))))))
noncomputable def f3_cuts_b1 (y1 : Int32) (y2 : Int32) (y3 : Int32) (y4 : Int32) (y5 : Int32) : (ww_M × Int32 × Int32) → Option ((ww_M × Int32 × Int32) ⊕ (Int32 × ww_M)) := fun s9 => f3_cuts_b1c y1 y2 y3 y4 y5 s9.1 s9.2.1 s9.2.2
noncomputable def f3_cuts (M : ww_M) (x1 : Int32) (x2 : Int32) (x3 : Int32) (x4 : Int32) (x5 : Int32) : Option (Int32 × ww_M) :=
  ww_b (f3_laysTree M x1) (fun M_1 => ww_U (f3_cuts_b1 x1 x2 x3 x4 x5) (M_1, (0 : Int32), (0 : Int32)))
section T3_cuts_k
variable {p : Program} {l : Launch} {e : Env} {R : Room} {s : State} {m : MethodId} {args : Array Value} {below : List Frame} {meth : Method} {c : Code} {H : Heap} {locs : List Loc} {Q : State → Prop}
variable {cc : ByteArray} {pc : Nat} {ls : Array Slot} {rest : List Value} {nL : Nat} {E : ww_E} {A : Nat → Prop} {H0 : Heap}
theorem t3k_cuts {M M' : ww_M} {x1 : Int32} {x2 : Int32} {x3 : Int32} {x4 : Int32} {x5 : Int32} {r : Int32} (X : ww_C p m c cc nL s args RX3 lw_all) (hsz : ls.size = nL) (hK : t3_Kn E s) (hD : t3_D E) (hR : t3_H E M H) (hS : va_S (t3_A E) H0 H locs) (hF : 14 ≤ R.frames) (hLo : 323 ≤ R.locals) (hM : t3_Met l yX3_cuts cX3_cuts 8 (some Jvm.ClassFile.FieldType.int) 13 296 E [.int x1, .int x2, .int x3, .int x4, .int x5] M M' r) (hrest : (rest.map fun v => v.category).sum ≤ 8) (hdg : decode cc pc = .ok (.invokevirtual 377, 3)) (kk : ∀ (H1 : Heap) (locs1 : List Loc), t3_H E M' H1 → va_S (t3_A E) H0 H1 locs1 → W p l e R s m args below meth c H1 locs1 0 0 Q (F0 m (pc + 3) ls (.int r :: rest))) : W p l e R s m args below meth c H locs 0 0 Q (F0 m pc ls (.int x5 :: .int x4 :: .int x3 :: .int x2 :: .int x1 :: .ref E.1 :: rest)) :=
  t3_callI (n := 5) X hsz hK hR hS (As := [.int x1, .int x2, .int x3, .int x4, .int x5]) hM (lw_V q2169 q2171 qs108 q135 q2172) (by decide +kernel) rfl hF hLo (Nat.zero_le _) (Nat.zero_le _) hrest hdg kk
end T3_cuts_k
set_option maxHeartbeats 4000000 in
set_option maxRecDepth 100000 in
theorem met3_cuts (l : Launch) {E : ww_E} (hD : t3_D E) (M : ww_M) (x1 : Int32) (x2 : Int32) (x3 : Int32) (x4 : Int32) (x5 : Int32) (r : Int32) (M' : ww_M) (hf : f3_cuts M x1 x2 x3 x4 x5 = some (r, M')) : t3_Met l yX3_cuts cX3_cuts 8 (some Jvm.ClassFile.FieldType.int) 13 296 E [.int x1, .int x2, .int x3, .int x4, .int x5] M M' r := by
  unfold f3_cuts at hf
  refine t3_start (by decide +kernel) (Nat.le_of_ble_eq_true rfl) ?_
  intro p e s m args below meth c Rm Q X hK hF hLo hend ls hl hR hS
  obtain ⟨hx, hb, hml, hown, hts⟩ := id X
  replace hl : lv_has ls 8 [(0, .ref E.1), (1, .int x1), (2, .int x2), (3, .int x3), (4, .int x4), (5, .int x5)] := hl
  refine lv_aload_n hx hb dX3_cuts_0 rfl (lv_at hl 0 rfl) ?_
  refine lv_iload_n hx hb dX3_cuts_1 rfl (lv_at hl 1 rfl) ?_
  obtain ⟨M_1, h_1, hf⟩ := ww_bS hf
  refine t3c_laysTree X hl.1 hK hD hR hS (Nat.le_trans (Nat.le_of_ble_eq_true rfl) hF) (Nat.le_trans (Nat.le_of_ble_eq_true rfl) hLo) h_1 (Nat.le_of_ble_eq_true rfl) dX3_cuts_2 (fun H locs hR hS => ?_)
  refine lv_iconst (v := (0 : Int32)) hx hb dX3_cuts_5 (by decide) ?_
  refine lv_istore (lv' := [(6, .int (0 : Int32)), (0, .ref E.1), (1, .int x1), (2, .int x2), (3, .int x3), (4, .int x4), (5, .int x5)]) hx hb dX3_cuts_6 hl (by decide) rfl (fun ls hl => ?_)
  refine lv_iconst (v := (0 : Int32)) hx hb dX3_cuts_8 (by decide) ?_
  refine lv_istore (lv' := [(7, .int (0 : Int32)), (6, .int (0 : Int32)), (0, .ref E.1), (1, .int x1), (2, .int x2), (3, .int x3), (4, .int x4), (5, .int x5)]) hx hb dX3_cuts_9 hl (by decide) rfl (fun ls hl => ?_)
  have hL_1 : ∀ s9 : ww_M × Int32 × Int32, ww_U (f3_cuts_b1 x1 x2 x3 x4 x5) s9 = some (r, M') → ∀ (H : Heap) (locs : List Loc) (ls : Array Slot), t3_H E s9.1 H → va_S (t3_A E) s.heap H locs → lv_has ls 8 [(0, .ref E.1), (1, .int x1), (2, .int x2), (3, .int x3), (4, .int x4), (5, .int x5), (6, .int s9.2.1), (7, .int s9.2.2)] → W p l e Rm s m args below meth c H locs 0 0 Q (F0 m 11 ls []) := by
    refine ww_ind _ (r, M') ?_
    intro s9 z_1 hf hz_1 H locs ls hR hS hl
    obtain ⟨M_2, x6, x7⟩ := s9
    replace hf : f3_cuts_b1c x1 x2 x3 x4 x5 M_2 x6 x7 = some z_1 := hf
    unfold f3_cuts_b1c at hf
    replace hR : t3_H E M_2 H := hR
    replace hl : lv_has ls 8 [(0, .ref E.1), (1, .int x1), (2, .int x2), (3, .int x3), (4, .int x4), (5, .int x5), (6, .int x6), (7, .int x7)] := hl
    refine lv_iload hx hb dX3_cuts_11 (lv_at hl 7 rfl) ?_
    refine lv_aload_n hx hb dX3_cuts_13 rfl (lv_at hl 0 rfl) ?_
    refine t3g_30 X hK hR dX3_cuts_14 ?_
    refine lv_icmp_ge (tgt := 66) hx hb dX3_cuts_17 (by decide) (fun c_3 => ?_) (fun c_3 => ?_)
    · replace hf := ww_ip hf c_3
      replace hf := ww_xK hf hz_1
      refine lv_iconst (v := (0 : Int32)) hx hb dX3_cuts_66 (by decide) ?_
      refine lv_istore (lv' := [(7, .int (0 : Int32)), (0, .ref E.1), (1, .int x1), (2, .int x2), (3, .int x3), (4, .int x4), (5, .int x5), (6, .int x6)]) hx hb dX3_cuts_67 hl (by decide) rfl (fun ls hl => ?_)
      have hL_2 : ∀ s9 : ww_M × Int32 × Int32, ww_U (f3_cuts_b2 x5 x6) s9 = some (r, M') → ∀ (H : Heap) (locs : List Loc) (ls : Array Slot), t3_H E s9.1 H → va_S (t3_A E) s.heap H locs → lv_has ls 8 [(0, .ref E.1), (1, .int s9.2.1), (5, .int x5), (6, .int x6), (7, .int s9.2.2)] → W p l e Rm s m args below meth c H locs 0 0 Q (F0 m 69 ls []) := by
        refine ww_ind _ (r, M') ?_
        intro s9 z_2 hf hz_2 H locs ls hR hS hl
        obtain ⟨M_4, x1_1, x7⟩ := s9
        replace hf : f3_cuts_b2c x5 x6 M_4 x1_1 x7 = some z_2 := hf
        unfold f3_cuts_b2c at hf
        replace hR : t3_H E M_4 H := hR
        replace hl : lv_has ls 8 [(0, .ref E.1), (1, .int x1_1), (5, .int x5), (6, .int x6), (7, .int x7)] := hl
        refine lv_iload hx hb dX3_cuts_69 (lv_at hl 4 rfl) ?_
        refine lv_iload hx hb dX3_cuts_71 (lv_at hl 3 rfl) ?_
        refine lv_icmp_ge (tgt := 97) hx hb dX3_cuts_73 (by decide) (fun c_5 => ?_) (fun c_5 => ?_)
        · replace hf := ww_ip hf c_5
          replace hf := ww_xK hf hz_2
          refine lv_iload_n hx hb dX3_cuts_97 rfl (lv_at hl 1 rfl) ?_
          exact hend dX3_cuts_98 rfl rfl hf hR hS
        · replace hf := ww_in hf c_5
          refine lv_aload_n hx hb dX3_cuts_76 rfl (lv_at hl 0 rfl) ?_
          refine lv_iload_n hx hb dX3_cuts_77 rfl (lv_at hl 1 rfl) ?_
          refine lv_aload_n hx hb dX3_cuts_78 rfl (lv_at hl 0 rfl) ?_
          refine t3g_47 X hK hR dX3_cuts_79 ?_
          refine lv_iload hx hb dX3_cuts_82 (lv_at hl 4 rfl) ?_
          obtain ⟨h_6, hf⟩ := ww_gS hf
          refine t3l_47 X hK hR h_6 dX3_cuts_84 ?_
          refine lv_iload hx hb dX3_cuts_85 (lv_at hl 2 rfl) ?_
          obtain ⟨r_7, M_7, h_7, hf⟩ := ww_b2S hf
          refine t3c_takes X hl.1 hK hD hR hS (Nat.le_trans (Nat.le_of_ble_eq_true rfl) hF) (Nat.le_trans (Nat.le_of_ble_eq_true rfl) hLo) h_7 (Nat.le_of_ble_eq_true rfl) dX3_cuts_87 (fun H locs hR hS => ?_)
          refine lv_istore_n (lv' := [(1, .int r_7), (0, .ref E.1), (5, .int x5), (6, .int x6), (7, .int x7)]) hx hb dX3_cuts_90 rfl hl (by decide) rfl (fun ls hl => ?_)
          refine lv_iinc (k := 4) (v := x7 + (1 : Int32)) (lv' := [(7, .int (x7 + (1 : Int32))), (1, .int r_7), (0, .ref E.1), (5, .int x5), (6, .int x6)]) hx hb dX3_cuts_91 hl rfl rfl (by decide) rfl (fun ls hl => ?_)
          refine lv_goto (tgt := 69) hx hb dX3_cuts_94 (by decide) ?_
          exact ww_lK hf hz_2 _ _ _ hR hS (lv_sub hl [2, 1, 3, 4, 0] rfl)
      exact hL_2 (M_2, x1, (0 : Int32)) hf _ _ _ hR hS (lv_sub hl [1, 2, 6, 7, 0] rfl)
    · replace hf := ww_in hf c_3
      refine lv_aload_n hx hb dX3_cuts_20 rfl (lv_at hl 0 rfl) ?_
      refine t3g_26 X hK hR dX3_cuts_21 ?_
      refine lv_iload hx hb dX3_cuts_24 (lv_at hl 7 rfl) ?_
      obtain ⟨h_8, hf⟩ := ww_gS hf
      refine t3l_26 X hK hR h_8 dX3_cuts_26 ?_
      refine lv_i2l (v := (ww_X M_2 26 x7).toInt64) hx hb dX3_cuts_27 rfl ?_
      refine lv_iload_n hx hb dX3_cuts_28 rfl (lv_at hl 2 rfl) ?_
      refine lv_i2l (v := x2.toInt64) hx hb dX3_cuts_29 rfl ?_
      refine lv_iload_n hx hb dX3_cuts_30 rfl (lv_at hl 3 rfl) ?_
      refine lv_i2l (v := x3.toInt64) hx hb dX3_cuts_31 rfl ?_
      obtain ⟨r_9, h_9, hf⟩ := ww_bS hf
      refine t3c_isIn X hl.1 (Nat.le_trans (Nat.le_of_ble_eq_true rfl) hF) (Nat.le_trans (Nat.le_of_ble_eq_true rfl) hLo) h_9 (Nat.le_of_ble_eq_true rfl) dX3_cuts_32 ?_
      refine lv_iload hx hb dX3_cuts_35 (lv_at hl 4 rfl) ?_
      refine lv_icmp_eq (tgt := 43) hx hb dX3_cuts_37 (by decide) (fun c_10 => ?_) (fun c_10 => ?_)
      · replace hf := ww_ip hf c_10
        refine lv_aload_n hx hb dX3_cuts_43 rfl (lv_at hl 0 rfl) ?_
        refine t3g_47 X hK hR dX3_cuts_44 ?_
        refine lv_iload hx hb dX3_cuts_47 (lv_at hl 6 rfl) ?_
        refine lv_aload_n hx hb dX3_cuts_49 rfl (lv_at hl 0 rfl) ?_
        refine t3g_26 X hK hR dX3_cuts_50 ?_
        refine lv_iload hx hb dX3_cuts_53 (lv_at hl 7 rfl) ?_
        obtain ⟨h_11, hf⟩ := ww_gS hf
        refine t3l_26 X hK hR h_11 dX3_cuts_55 ?_
        obtain ⟨h_12, hf⟩ := ww_gS hf
        refine t3s_47 X hK hD hR hS h_12 dX3_cuts_56 (fun H locs hR hS => ?_)
        refine lv_iinc (k := 6) (v := x6 + (1 : Int32)) (lv' := [(6, .int (x6 + (1 : Int32))), (0, .ref E.1), (1, .int x1), (2, .int x2), (3, .int x3), (4, .int x4), (5, .int x5), (7, .int x7)]) hx hb dX3_cuts_57 hl rfl rfl (by decide) rfl (fun ls hl => ?_)
        refine lv_iinc (k := 7) (v := x7 + (1 : Int32)) (lv' := [(7, .int (x7 + (1 : Int32))), (6, .int (x6 + (1 : Int32))), (0, .ref E.1), (1, .int x1), (2, .int x2), (3, .int x3), (4, .int x4), (5, .int x5)]) hx hb dX3_cuts_60 hl rfl rfl (by decide) rfl (fun ls hl => ?_)
        refine lv_goto (tgt := 11) hx hb dX3_cuts_63 (by decide) ?_
        exact ww_lK hf hz_1 _ _ _ hR hS (lv_sub hl [2, 3, 4, 5, 6, 7, 1, 0] rfl)
      · replace hf := ww_in hf c_10
        refine lv_goto (tgt := 60) hx hb dX3_cuts_40 (by decide) ?_
        refine lv_iinc (k := 7) (v := x7 + (1 : Int32)) (lv' := [(7, .int (x7 + (1 : Int32))), (0, .ref E.1), (1, .int x1), (2, .int x2), (3, .int x3), (4, .int x4), (5, .int x5), (6, .int x6)]) hx hb dX3_cuts_60 hl rfl rfl (by decide) rfl (fun ls hl => ?_)
        refine lv_goto (tgt := 11) hx hb dX3_cuts_63 (by decide) ?_
        exact ww_lK hf hz_1 _ _ _ hR hS (lv_sub hl [1, 2, 3, 4, 5, 6, 7, 0] rfl)
  exact hL_1 (M_1, (0 : Int32), (0 : Int32)) hf _ _ _ hR hS (lv_sub hl [2, 3, 4, 5, 6, 7, 1, 0] rfl)
section T3_cuts_c
variable {p : Program} {l : Launch} {e : Env} {R : Room} {s : State} {m : MethodId} {args : Array Value} {below : List Frame} {meth : Method} {c : Code} {H : Heap} {locs : List Loc} {Q : State → Prop}
variable {cc : ByteArray} {pc : Nat} {ls : Array Slot} {rest : List Value} {nL : Nat} {E : ww_E} {A : Nat → Prop} {H0 : Heap}
theorem t3c_cuts {M M' : ww_M} {x1 : Int32} {x2 : Int32} {x3 : Int32} {x4 : Int32} {x5 : Int32} {r : Int32} (X : ww_C p m c cc nL s args RX3 lw_all) (hsz : ls.size = nL) (hK : t3_Kn E s) (hD : t3_D E) (hR : t3_H E M H) (hS : va_S (t3_A E) H0 H locs) (hF : 14 ≤ R.frames) (hLo : 323 ≤ R.locals) (hf : f3_cuts M x1 x2 x3 x4 x5 = some (r, M')) (hrest : (rest.map fun v => v.category).sum ≤ 8) (hdg : decode cc pc = .ok (.invokevirtual 377, 3)) (kk : ∀ (H1 : Heap) (locs1 : List Loc), t3_H E M' H1 → va_S (t3_A E) H0 H1 locs1 → W p l e R s m args below meth c H1 locs1 0 0 Q (F0 m (pc + 3) ls (.int r :: rest))) : W p l e R s m args below meth c H locs 0 0 Q (F0 m pc ls (.int x5 :: .int x4 :: .int x3 :: .int x2 :: .int x1 :: .ref E.1 :: rest)) :=
  t3k_cuts X hsz hK hD hR hS hF hLo (met3_cuts l hD _ _ _ _ _ _ _ _ hf) hrest hdg kk
end T3_cuts_c
noncomputable def f3_slice (M : ww_M) (x1 : Int32) (x2 : Int32) (x3 : Int32) : Option (Int32 × ww_M) :=
  ww_b (f3_isMap (ww_sF M 0 (0 : Int32)) x1) (fun r_1 => if r_1 = 0 then ww_b2 (f3_refused (ww_sF M 0 (0 : Int32)) (0 : Int32)) (fun r_16 M_16 => some (r_16, M_16)) else ww_b (f3_isIn x2.toInt64 (0 : Int64) (999 : Int64)) (fun r_3 => if r_3 = 0 then ww_b2 (f3_refused (ww_sF M 0 (0 : Int32)) (1 : Int32)) (fun r_5 M_5 => some (r_5, M_5)) else ww_b (f3_isIn x3.toInt64 x2.toInt64 (999 : Int64)) (fun r_6 => if r_6 = 0 then ww_b2 (f3_refused (ww_sF M 0 (0 : Int32)) (1 : Int32)) (fun r_15 M_15 => some (r_15, M_15)) else ww_b (f3_hasRoom (ww_sF M 0 (0 : Int32))) (fun r_8 => if r_8 = 0 then ww_b2 (f3_refused (ww_sF M 0 (0 : Int32)) (4 : Int32)) (fun r_14 M_14 => some (r_14, M_14)) else ww_g (ww_i x1 999) (ww_b2 (f3_newToken (ww_sF M 0 (0 : Int32))) (fun r_11 M_11 => ww_b2 (f3_cuts M_11 (ww_X (ww_sF M 0 (0 : Int32)) 32 x1) x2 x3 (0 : Int32) r_11) (fun r_12 M_12 => ww_b2 (f3_newMap M_12 r_12 x1 (-1 : Int32)) (fun r_13 M_13 => some (r_13, M_13)))))))))
set_option maxHeartbeats 4000000 in
set_option maxRecDepth 100000 in
theorem met3_slice (l : Launch) {E : ww_E} (hD : t3_D E) (M : ww_M) (x1 : Int32) (x2 : Int32) (x3 : Int32) (r : Int32) (M' : ww_M) (hf : f3_slice M x1 x2 x3 = some (r, M')) : t3_Met l yX3_slice cX3_slice 4 (some Jvm.ClassFile.FieldType.int) 14 323 E [.int x1, .int x2, .int x3] M M' r := by
  unfold f3_slice at hf
  refine t3_start (by decide +kernel) (Nat.le_of_ble_eq_true rfl) ?_
  intro p e s m args below meth c Rm Q X hK hF hLo hend ls hl hR hS
  obtain ⟨hx, hb, hml, hown, hts⟩ := id X
  replace hl : lv_has ls 4 [(0, .ref E.1), (1, .int x1), (2, .int x2), (3, .int x3)] := hl
  refine lv_aload_n hx hb dX3_slice_0 rfl (lv_at hl 0 rfl) ?_
  refine lv_iconst (v := (0 : Int32)) hx hb dX3_slice_1 (by decide) ?_
  refine t3p_0 X hK hD hR hS dX3_slice_2 (fun H locs hR hS => ?_)
  refine lv_aload_n hx hb dX3_slice_5 rfl (lv_at hl 0 rfl) ?_
  refine lv_iload_n hx hb dX3_slice_6 rfl (lv_at hl 1 rfl) ?_
  obtain ⟨r_1, h_1, hf⟩ := ww_bS hf
  refine t3c_isMap X hl.1 hK hD hR hS (Nat.le_trans (Nat.le_of_ble_eq_true rfl) hF) (Nat.le_trans (Nat.le_of_ble_eq_true rfl) hLo) h_1 (Nat.le_of_ble_eq_true rfl) dX3_slice_7 (fun H locs hR hS => ?_)
  refine lv_if_ne (tgt := 19) hx hb dX3_slice_10 (by decide) (fun c_2 => ?_) (fun c_2 => ?_)
  · replace hf := ww_in hf c_2
    refine lv_iload_n hx hb dX3_slice_19 rfl (lv_at hl 2 rfl) ?_
    refine lv_i2l (v := x2.toInt64) hx hb dX3_slice_20 rfl ?_
    refine lv_lconst (v := (0 : Int64)) hx hb dX3_slice_21 (by decide) ?_
    refine lv_ldc2 (v := (999 : Int64)) hx hb hown (hts _ q2095) dX3_slice_22 ?_
    obtain ⟨r_3, h_3, hf⟩ := ww_bS hf
    refine t3c_isIn X hl.1 (Nat.le_trans (Nat.le_of_ble_eq_true rfl) hF) (Nat.le_trans (Nat.le_of_ble_eq_true rfl) hLo) h_3 (Nat.le_of_ble_eq_true rfl) dX3_slice_25 ?_
    refine lv_if_eq (tgt := 44) hx hb dX3_slice_28 (by decide) (fun c_4 => ?_) (fun c_4 => ?_)
    · replace hf := ww_ip hf c_4
      refine lv_aload_n hx hb dX3_slice_44 rfl (lv_at hl 0 rfl) ?_
      refine lv_iconst (v := (1 : Int32)) hx hb dX3_slice_45 (by decide) ?_
      obtain ⟨r_5, M_5, h_5, hf⟩ := ww_b2S hf
      refine t3c_refused X hl.1 hK hD hR hS (Nat.le_trans (Nat.le_of_ble_eq_true rfl) hF) (Nat.le_trans (Nat.le_of_ble_eq_true rfl) hLo) h_5 (Nat.le_of_ble_eq_true rfl) dX3_slice_46 (fun H locs hR hS => ?_)
      exact hend dX3_slice_49 rfl rfl hf hR hS
    · replace hf := ww_in hf c_4
      refine lv_iload_n hx hb dX3_slice_31 rfl (lv_at hl 3 rfl) ?_
      refine lv_i2l (v := x3.toInt64) hx hb dX3_slice_32 rfl ?_
      refine lv_iload_n hx hb dX3_slice_33 rfl (lv_at hl 2 rfl) ?_
      refine lv_i2l (v := x2.toInt64) hx hb dX3_slice_34 rfl ?_
      refine lv_ldc2 (v := (999 : Int64)) hx hb hown (hts _ q2095) dX3_slice_35 ?_
      obtain ⟨r_6, h_6, hf⟩ := ww_bS hf
      refine t3c_isIn X hl.1 (Nat.le_trans (Nat.le_of_ble_eq_true rfl) hF) (Nat.le_trans (Nat.le_of_ble_eq_true rfl) hLo) h_6 (Nat.le_of_ble_eq_true rfl) dX3_slice_38 ?_
      refine lv_if_ne (tgt := 50) hx hb dX3_slice_41 (by decide) (fun c_7 => ?_) (fun c_7 => ?_)
      · replace hf := ww_in hf c_7
        refine lv_aload_n hx hb dX3_slice_50 rfl (lv_at hl 0 rfl) ?_
        obtain ⟨r_8, h_8, hf⟩ := ww_bS hf
        refine t3c_hasRoom X hl.1 hK hD hR hS (Nat.le_trans (Nat.le_of_ble_eq_true rfl) hF) (Nat.le_trans (Nat.le_of_ble_eq_true rfl) hLo) h_8 (Nat.le_of_ble_eq_true rfl) dX3_slice_51 (fun H locs hR hS => ?_)
        refine lv_if_ne (tgt := 63) hx hb dX3_slice_54 (by decide) (fun c_9 => ?_) (fun c_9 => ?_)
        · replace hf := ww_in hf c_9
          refine lv_aload_n hx hb dX3_slice_63 rfl (lv_at hl 0 rfl) ?_
          refine lv_aload_n hx hb dX3_slice_64 rfl (lv_at hl 0 rfl) ?_
          refine lv_aload_n hx hb dX3_slice_65 rfl (lv_at hl 0 rfl) ?_
          refine t3g_32 X hK hR dX3_slice_66 ?_
          refine lv_iload_n hx hb dX3_slice_69 rfl (lv_at hl 1 rfl) ?_
          obtain ⟨h_10, hf⟩ := ww_gS hf
          refine t3l_32 X hK hR h_10 dX3_slice_70 ?_
          refine lv_iload_n hx hb dX3_slice_71 rfl (lv_at hl 2 rfl) ?_
          refine lv_iload_n hx hb dX3_slice_72 rfl (lv_at hl 3 rfl) ?_
          refine lv_iconst (v := (0 : Int32)) hx hb dX3_slice_73 (by decide) ?_
          refine lv_aload_n hx hb dX3_slice_74 rfl (lv_at hl 0 rfl) ?_
          obtain ⟨r_11, M_11, h_11, hf⟩ := ww_b2S hf
          refine t3c_newToken X hl.1 hK hD hR hS (Nat.le_trans (Nat.le_of_ble_eq_true rfl) hF) (Nat.le_trans (Nat.le_of_ble_eq_true rfl) hLo) h_11 (Nat.le_of_ble_eq_true rfl) dX3_slice_75 (fun H locs hR hS => ?_)
          obtain ⟨r_12, M_12, h_12, hf⟩ := ww_b2S hf
          refine t3c_cuts X hl.1 hK hD hR hS (Nat.le_trans (Nat.le_of_ble_eq_true rfl) hF) (Nat.le_trans (Nat.le_of_ble_eq_true rfl) hLo) h_12 (Nat.le_of_ble_eq_true rfl) dX3_slice_78 (fun H locs hR hS => ?_)
          refine lv_iload_n hx hb dX3_slice_81 rfl (lv_at hl 1 rfl) ?_
          refine lv_iconst (v := (-1 : Int32)) hx hb dX3_slice_82 (by decide) ?_
          obtain ⟨r_13, M_13, h_13, hf⟩ := ww_b2S hf
          refine t3c_newMap X hl.1 hK hD hR hS (Nat.le_trans (Nat.le_of_ble_eq_true rfl) hF) (Nat.le_trans (Nat.le_of_ble_eq_true rfl) hLo) h_13 (Nat.le_of_ble_eq_true rfl) dX3_slice_83 (fun H locs hR hS => ?_)
          exact hend dX3_slice_86 rfl rfl hf hR hS
        · replace hf := ww_ip hf c_9
          refine lv_aload_n hx hb dX3_slice_57 rfl (lv_at hl 0 rfl) ?_
          refine lv_iconst (v := (4 : Int32)) hx hb dX3_slice_58 (by decide) ?_
          obtain ⟨r_14, M_14, h_14, hf⟩ := ww_b2S hf
          refine t3c_refused X hl.1 hK hD hR hS (Nat.le_trans (Nat.le_of_ble_eq_true rfl) hF) (Nat.le_trans (Nat.le_of_ble_eq_true rfl) hLo) h_14 (Nat.le_of_ble_eq_true rfl) dX3_slice_59 (fun H locs hR hS => ?_)
          exact hend dX3_slice_62 rfl rfl hf hR hS
      · replace hf := ww_ip hf c_7
        refine lv_aload_n hx hb dX3_slice_44 rfl (lv_at hl 0 rfl) ?_
        refine lv_iconst (v := (1 : Int32)) hx hb dX3_slice_45 (by decide) ?_
        obtain ⟨r_15, M_15, h_15, hf⟩ := ww_b2S hf
        refine t3c_refused X hl.1 hK hD hR hS (Nat.le_trans (Nat.le_of_ble_eq_true rfl) hF) (Nat.le_trans (Nat.le_of_ble_eq_true rfl) hLo) h_15 (Nat.le_of_ble_eq_true rfl) dX3_slice_46 (fun H locs hR hS => ?_)
        exact hend dX3_slice_49 rfl rfl hf hR hS
  · replace hf := ww_ip hf c_2
    refine lv_aload_n hx hb dX3_slice_13 rfl (lv_at hl 0 rfl) ?_
    refine lv_iconst (v := (0 : Int32)) hx hb dX3_slice_14 (by decide) ?_
    obtain ⟨r_16, M_16, h_16, hf⟩ := ww_b2S hf
    refine t3c_refused X hl.1 hK hD hR hS (Nat.le_trans (Nat.le_of_ble_eq_true rfl) hF) (Nat.le_trans (Nat.le_of_ble_eq_true rfl) hLo) h_16 (Nat.le_of_ble_eq_true rfl) dX3_slice_15 (fun H locs hR hS => ?_)
    exact hend dX3_slice_18 rfl rfl hf hR hS
noncomputable def f3_drop (M : ww_M) (x1 : Int32) : Option (Int32 × ww_M) :=
  ww_b (f3_isMap (ww_sF M 0 (0 : Int32)) x1) (fun r_1 => if r_1 = 0 then ww_b2 (f3_refused (ww_sF M 0 (0 : Int32)) (0 : Int32)) (fun r_4 M_4 => some (r_4, M_4)) else ww_g (ww_i x1 999) (some ((ww_F (ww_sF (ww_sX (ww_sF M 0 (0 : Int32)) 39 x1 (vp_nar .boolean (0 : Int32))) 42 ((ww_F (ww_sX (ww_sF M 0 (0 : Int32)) 39 x1 (vp_nar .boolean (0 : Int32))) 42) - (1 : Int32))) 42), (ww_sF (ww_sX (ww_sF M 0 (0 : Int32)) 39 x1 (vp_nar .boolean (0 : Int32))) 42 ((ww_F (ww_sX (ww_sF M 0 (0 : Int32)) 39 x1 (vp_nar .boolean (0 : Int32))) 42) - (1 : Int32))))))
set_option maxHeartbeats 4000000 in
set_option maxRecDepth 100000 in
theorem met3_drop (l : Launch) {E : ww_E} (hD : t3_D E) (M : ww_M) (x1 : Int32) (r : Int32) (M' : ww_M) (hf : f3_drop M x1 = some (r, M')) : t3_Met l yX3_drop cX3_drop 2 (some Jvm.ClassFile.FieldType.int) 1 21 E [.int x1] M M' r := by
  unfold f3_drop at hf
  refine t3_start (by decide +kernel) (Nat.le_of_ble_eq_true rfl) ?_
  intro p e s m args below meth c Rm Q X hK hF hLo hend ls hl hR hS
  obtain ⟨hx, hb, hml, hown, hts⟩ := id X
  replace hl : lv_has ls 2 [(0, .ref E.1), (1, .int x1)] := hl
  refine lv_aload_n hx hb dX3_drop_0 rfl (lv_at hl 0 rfl) ?_
  refine lv_iconst (v := (0 : Int32)) hx hb dX3_drop_1 (by decide) ?_
  refine t3p_0 X hK hD hR hS dX3_drop_2 (fun H locs hR hS => ?_)
  refine lv_aload_n hx hb dX3_drop_5 rfl (lv_at hl 0 rfl) ?_
  refine lv_iload_n hx hb dX3_drop_6 rfl (lv_at hl 1 rfl) ?_
  obtain ⟨r_1, h_1, hf⟩ := ww_bS hf
  refine t3c_isMap X hl.1 hK hD hR hS (Nat.le_trans (Nat.le_of_ble_eq_true rfl) hF) (Nat.le_trans (Nat.le_of_ble_eq_true rfl) hLo) h_1 (Nat.le_of_ble_eq_true rfl) dX3_drop_7 (fun H locs hR hS => ?_)
  refine lv_if_ne (tgt := 19) hx hb dX3_drop_10 (by decide) (fun c_2 => ?_) (fun c_2 => ?_)
  · replace hf := ww_in hf c_2
    refine lv_aload_n hx hb dX3_drop_19 rfl (lv_at hl 0 rfl) ?_
    refine t3g_39 X hK hR dX3_drop_20 ?_
    refine lv_iload_n hx hb dX3_drop_23 rfl (lv_at hl 1 rfl) ?_
    refine lv_iconst (v := (0 : Int32)) hx hb dX3_drop_24 (by decide) ?_
    obtain ⟨h_3, hf⟩ := ww_gS hf
    refine t3s_39 X hK hD hR hS h_3 dX3_drop_25 (fun H locs hR hS => ?_)
    refine lv_aload_n hx hb dX3_drop_26 rfl (lv_at hl 0 rfl) ?_
    refine lv_dup hx hb dX3_drop_27 rfl ?_
    refine t3g_42 X hK hR dX3_drop_28 ?_
    refine lv_iconst (v := (1 : Int32)) hx hb dX3_drop_31 (by decide) ?_
    refine lv_isub hx hb dX3_drop_32 ?_
    refine t3p_42 X hK hD hR hS dX3_drop_33 (fun H locs hR hS => ?_)
    refine lv_aload_n hx hb dX3_drop_36 rfl (lv_at hl 0 rfl) ?_
    refine t3g_42 X hK hR dX3_drop_37 ?_
    exact hend dX3_drop_40 rfl rfl hf hR hS
  · replace hf := ww_ip hf c_2
    refine lv_aload_n hx hb dX3_drop_13 rfl (lv_at hl 0 rfl) ?_
    refine lv_iconst (v := (0 : Int32)) hx hb dX3_drop_14 (by decide) ?_
    obtain ⟨r_4, M_4, h_4, hf⟩ := ww_b2S hf
    refine t3c_refused X hl.1 hK hD hR hS (Nat.le_trans (Nat.le_of_ble_eq_true rfl) hF) (Nat.le_trans (Nat.le_of_ble_eq_true rfl) hLo) h_4 (Nat.le_of_ble_eq_true rfl) dX3_drop_15 (fun H locs hR hS => ?_)
    exact hend dX3_drop_18 rfl rfl hf hR hS
noncomputable def f3_isBuilder (M : ww_M) (x1 : Int32) : Option (Int32) :=
  ww_b (f3_isIn x1.toInt64 (0 : Int64) (3 : Int64)) (fun r_1 => ww_g (ww_z r_1) (some r_1))
section T3_isBuilder_k
variable {p : Program} {l : Launch} {e : Env} {R : Room} {s : State} {m : MethodId} {args : Array Value} {below : List Frame} {meth : Method} {c : Code} {H : Heap} {locs : List Loc} {Q : State → Prop}
variable {cc : ByteArray} {pc : Nat} {ls : Array Slot} {rest : List Value} {nL : Nat} {E : ww_E} {A : Nat → Prop} {H0 : Heap}
theorem t3k_isBuilder {M : ww_M} {x1 : Int32} {r : Int32} (X : ww_C p m c cc nL s args RX3 lw_all) (hsz : ls.size = nL) (hK : t3_Kn E s) (hD : t3_D E) (hR : t3_H E M H) (hS : va_S (t3_A E) H0 H locs) (hF : 2 ≤ R.frames) (hLo : 46 ≤ R.locals) (hM : t3_Met l yX3_isBuilder cX3_isBuilder 2 (some Jvm.ClassFile.FieldType.boolean) 1 25 E [.int x1] M M r) (hrest : (rest.map fun v => v.category).sum ≤ 8) (hdg : decode cc pc = .ok (.invokevirtual 381, 3)) (kk : ∀ (H1 : Heap) (locs1 : List Loc), t3_H E M H1 → va_S (t3_A E) H0 H1 locs1 → W p l e R s m args below meth c H1 locs1 0 0 Q (F0 m (pc + 3) ls (.int r :: rest))) : W p l e R s m args below meth c H locs 0 0 Q (F0 m pc ls (.int x1 :: .ref E.1 :: rest)) :=
  t3_callI (n := 1) X hsz hK hR hS (As := [.int x1]) hM (lw_V q2181 q2183 qs109 q135 q2184) (by decide +kernel) rfl hF hLo (Nat.zero_le _) (Nat.zero_le _) hrest hdg kk
end T3_isBuilder_k
set_option maxHeartbeats 4000000 in
set_option maxRecDepth 100000 in
theorem met3_isBuilder (l : Launch) {E : ww_E} (hD : t3_D E) (M : ww_M) (x1 : Int32) (r : Int32) (hf : f3_isBuilder M x1 = some r) : t3_Met l yX3_isBuilder cX3_isBuilder 2 (some Jvm.ClassFile.FieldType.boolean) 1 25 E [.int x1] M M r := by
  unfold f3_isBuilder at hf
  refine t3_startP (by decide +kernel) (Nat.le_of_ble_eq_true rfl) ?_
  intro p e s m args below meth c Rm Q X hK hF hLo hend ls hl hR hS
  obtain ⟨hx, hb, hml, hown, hts⟩ := id X
  replace hl : lv_has ls 2 [(0, .ref E.1), (1, .int x1)] := hl
  refine lv_iload_n hx hb dX3_isBuilder_0 rfl (lv_at hl 1 rfl) ?_
  refine lv_i2l (v := x1.toInt64) hx hb dX3_isBuilder_1 rfl ?_
  refine lv_lconst (v := (0 : Int64)) hx hb dX3_isBuilder_2 (by decide) ?_
  refine lv_ldc2 (v := (3 : Int64)) hx hb hown (hts _ q2027) dX3_isBuilder_3 ?_
  obtain ⟨r_1, h_1, hf⟩ := ww_bS hf
  refine t3c_isIn X hl.1 (Nat.le_trans (Nat.le_of_ble_eq_true rfl) hF) (Nat.le_trans (Nat.le_of_ble_eq_true rfl) hLo) h_1 (Nat.le_of_ble_eq_true rfl) dX3_isBuilder_6 ?_
  obtain ⟨h_2, hf⟩ := ww_gS hf
  exact hend dX3_isBuilder_9 rfl (ww_zn h_2) hf hR hS
section T3_isBuilder_c
variable {p : Program} {l : Launch} {e : Env} {R : Room} {s : State} {m : MethodId} {args : Array Value} {below : List Frame} {meth : Method} {c : Code} {H : Heap} {locs : List Loc} {Q : State → Prop}
variable {cc : ByteArray} {pc : Nat} {ls : Array Slot} {rest : List Value} {nL : Nat} {E : ww_E} {A : Nat → Prop} {H0 : Heap}
theorem t3c_isBuilder {M : ww_M} {x1 : Int32} {r : Int32} (X : ww_C p m c cc nL s args RX3 lw_all) (hsz : ls.size = nL) (hK : t3_Kn E s) (hD : t3_D E) (hR : t3_H E M H) (hS : va_S (t3_A E) H0 H locs) (hF : 2 ≤ R.frames) (hLo : 46 ≤ R.locals) (hf : f3_isBuilder M x1 = some r) (hrest : (rest.map fun v => v.category).sum ≤ 8) (hdg : decode cc pc = .ok (.invokevirtual 381, 3)) (kk : ∀ (H1 : Heap) (locs1 : List Loc), t3_H E M H1 → va_S (t3_A E) H0 H1 locs1 → W p l e R s m args below meth c H1 locs1 0 0 Q (F0 m (pc + 3) ls (.int r :: rest))) : W p l e R s m args below meth c H locs 0 0 Q (F0 m pc ls (.int x1 :: .ref E.1 :: rest)) :=
  t3k_isBuilder X hsz hK hD hR hS hF hLo (met3_isBuilder l hD _ _ _ hf) hrest hdg kk
end T3_isBuilder_c
noncomputable def f3_build (M : ww_M) (x1 : Int32) (x2 : Int32) : Option (Int32 × ww_M) :=
  ww_b (f3_isBuilder (ww_sF M 0 (0 : Int32)) x1) (fun r_1 => if r_1 = 0 then ww_b2 (f3_refused (ww_sF M 0 (0 : Int32)) (0 : Int32)) (fun r_3 M_3 => some (r_3, M_3)) else ww_b (f3_isMap (ww_sF M 0 (0 : Int32)) x2) (fun r_4 => if r_4 = 0 then ww_b2 (f3_refused (ww_sF M 0 (0 : Int32)) (0 : Int32)) (fun r_13 M_13 => some (r_13, M_13)) else ww_g (ww_i x2 999) (ww_g (ww_i x1 4) (ww_g (ww_i x1 4) (ww_b2 (f3_newToken (ww_sF (ww_sX (ww_sX (ww_sF M 0 (0 : Int32)) 35 x1 (ww_X (ww_sF M 0 (0 : Int32)) 32 x2)) 37 x1 x2) 43 ((ww_F (ww_sX (ww_sX (ww_sF M 0 (0 : Int32)) 35 x1 (ww_X (ww_sF M 0 (0 : Int32)) 32 x2)) 37 x1 x2) 43) ||| ((1 : Int32) <<< (x1 &&& 31))))) (fun r_9 M_9 => ww_g (ww_i x1 4) (ww_g (ww_i x2 999) (ww_b (f3_laysTree (ww_sX M_9 36 x1 r_9) (ww_X (ww_sX M_9 36 x1 r_9) 32 x2)) (fun M_12 => some ((ww_F M_12 31), M_12))))))))))
set_option maxHeartbeats 4000000 in
set_option maxRecDepth 100000 in
theorem met3_build (l : Launch) {E : ww_E} (hD : t3_D E) (M : ww_M) (x1 : Int32) (x2 : Int32) (r : Int32) (M' : ww_M) (hf : f3_build M x1 x2 = some (r, M')) : t3_Met l yX3_build cX3_build 3 (some Jvm.ClassFile.FieldType.int) 14 317 E [.int x1, .int x2] M M' r := by
  unfold f3_build at hf
  refine t3_start (by decide +kernel) (Nat.le_of_ble_eq_true rfl) ?_
  intro p e s m args below meth c Rm Q X hK hF hLo hend ls hl hR hS
  obtain ⟨hx, hb, hml, hown, hts⟩ := id X
  replace hl : lv_has ls 3 [(0, .ref E.1), (1, .int x1), (2, .int x2)] := hl
  refine lv_aload_n hx hb dX3_build_0 rfl (lv_at hl 0 rfl) ?_
  refine lv_iconst (v := (0 : Int32)) hx hb dX3_build_1 (by decide) ?_
  refine t3p_0 X hK hD hR hS dX3_build_2 (fun H locs hR hS => ?_)
  refine lv_aload_n hx hb dX3_build_5 rfl (lv_at hl 0 rfl) ?_
  refine lv_iload_n hx hb dX3_build_6 rfl (lv_at hl 1 rfl) ?_
  obtain ⟨r_1, h_1, hf⟩ := ww_bS hf
  refine t3c_isBuilder X hl.1 hK hD hR hS (Nat.le_trans (Nat.le_of_ble_eq_true rfl) hF) (Nat.le_trans (Nat.le_of_ble_eq_true rfl) hLo) h_1 (Nat.le_of_ble_eq_true rfl) dX3_build_7 (fun H locs hR hS => ?_)
  refine lv_if_eq (tgt := 21) hx hb dX3_build_10 (by decide) (fun c_2 => ?_) (fun c_2 => ?_)
  · replace hf := ww_ip hf c_2
    refine lv_aload_n hx hb dX3_build_21 rfl (lv_at hl 0 rfl) ?_
    refine lv_iconst (v := (0 : Int32)) hx hb dX3_build_22 (by decide) ?_
    obtain ⟨r_3, M_3, h_3, hf⟩ := ww_b2S hf
    refine t3c_refused X hl.1 hK hD hR hS (Nat.le_trans (Nat.le_of_ble_eq_true rfl) hF) (Nat.le_trans (Nat.le_of_ble_eq_true rfl) hLo) h_3 (Nat.le_of_ble_eq_true rfl) dX3_build_23 (fun H locs hR hS => ?_)
    exact hend dX3_build_26 rfl rfl hf hR hS
  · replace hf := ww_in hf c_2
    refine lv_aload_n hx hb dX3_build_13 rfl (lv_at hl 0 rfl) ?_
    refine lv_iload_n hx hb dX3_build_14 rfl (lv_at hl 2 rfl) ?_
    obtain ⟨r_4, h_4, hf⟩ := ww_bS hf
    refine t3c_isMap X hl.1 hK hD hR hS (Nat.le_trans (Nat.le_of_ble_eq_true rfl) hF) (Nat.le_trans (Nat.le_of_ble_eq_true rfl) hLo) h_4 (Nat.le_of_ble_eq_true rfl) dX3_build_15 (fun H locs hR hS => ?_)
    refine lv_if_ne (tgt := 27) hx hb dX3_build_18 (by decide) (fun c_5 => ?_) (fun c_5 => ?_)
    · replace hf := ww_in hf c_5
      refine lv_aload_n hx hb dX3_build_27 rfl (lv_at hl 0 rfl) ?_
      refine t3g_35 X hK hR dX3_build_28 ?_
      refine lv_iload_n hx hb dX3_build_31 rfl (lv_at hl 1 rfl) ?_
      refine lv_aload_n hx hb dX3_build_32 rfl (lv_at hl 0 rfl) ?_
      refine t3g_32 X hK hR dX3_build_33 ?_
      refine lv_iload_n hx hb dX3_build_36 rfl (lv_at hl 2 rfl) ?_
      obtain ⟨h_6, hf⟩ := ww_gS hf
      refine t3l_32 X hK hR h_6 dX3_build_37 ?_
      obtain ⟨h_7, hf⟩ := ww_gS hf
      refine t3s_35 X hK hD hR hS h_7 dX3_build_38 (fun H locs hR hS => ?_)
      refine lv_aload_n hx hb dX3_build_39 rfl (lv_at hl 0 rfl) ?_
      refine t3g_37 X hK hR dX3_build_40 ?_
      refine lv_iload_n hx hb dX3_build_43 rfl (lv_at hl 1 rfl) ?_
      refine lv_iload_n hx hb dX3_build_44 rfl (lv_at hl 2 rfl) ?_
      obtain ⟨h_8, hf⟩ := ww_gS hf
      refine t3s_37 X hK hD hR hS h_8 dX3_build_45 (fun H locs hR hS => ?_)
      refine lv_aload_n hx hb dX3_build_46 rfl (lv_at hl 0 rfl) ?_
      refine lv_dup hx hb dX3_build_47 rfl ?_
      refine t3g_43 X hK hR dX3_build_48 ?_
      refine lv_iconst (v := (1 : Int32)) hx hb dX3_build_51 (by decide) ?_
      refine lv_iload_n hx hb dX3_build_52 rfl (lv_at hl 1 rfl) ?_
      refine lv_ishl hx hb dX3_build_53 ?_
      refine lv_ior hx hb dX3_build_54 ?_
      refine t3p_43 X hK hD hR hS dX3_build_55 (fun H locs hR hS => ?_)
      refine lv_aload_n hx hb dX3_build_58 rfl (lv_at hl 0 rfl) ?_
      refine t3g_36 X hK hR dX3_build_59 ?_
      refine lv_iload_n hx hb dX3_build_62 rfl (lv_at hl 1 rfl) ?_
      refine lv_aload_n hx hb dX3_build_63 rfl (lv_at hl 0 rfl) ?_
      obtain ⟨r_9, M_9, h_9, hf⟩ := ww_b2S hf
      refine t3c_newToken X hl.1 hK hD hR hS (Nat.le_trans (Nat.le_of_ble_eq_true rfl) hF) (Nat.le_trans (Nat.le_of_ble_eq_true rfl) hLo) h_9 (Nat.le_of_ble_eq_true rfl) dX3_build_64 (fun H locs hR hS => ?_)
      obtain ⟨h_10, hf⟩ := ww_gS hf
      refine t3s_36 X hK hD hR hS h_10 dX3_build_67 (fun H locs hR hS => ?_)
      refine lv_aload_n hx hb dX3_build_68 rfl (lv_at hl 0 rfl) ?_
      refine lv_aload_n hx hb dX3_build_69 rfl (lv_at hl 0 rfl) ?_
      refine t3g_32 X hK hR dX3_build_70 ?_
      refine lv_iload_n hx hb dX3_build_73 rfl (lv_at hl 2 rfl) ?_
      obtain ⟨h_11, hf⟩ := ww_gS hf
      refine t3l_32 X hK hR h_11 dX3_build_74 ?_
      obtain ⟨M_12, h_12, hf⟩ := ww_bS hf
      refine t3c_laysTree X hl.1 hK hD hR hS (Nat.le_trans (Nat.le_of_ble_eq_true rfl) hF) (Nat.le_trans (Nat.le_of_ble_eq_true rfl) hLo) h_12 (Nat.le_of_ble_eq_true rfl) dX3_build_75 (fun H locs hR hS => ?_)
      refine lv_aload_n hx hb dX3_build_78 rfl (lv_at hl 0 rfl) ?_
      refine t3g_31 X hK hR dX3_build_79 ?_
      exact hend dX3_build_82 rfl rfl hf hR hS
    · replace hf := ww_ip hf c_5
      refine lv_aload_n hx hb dX3_build_21 rfl (lv_at hl 0 rfl) ?_
      refine lv_iconst (v := (0 : Int32)) hx hb dX3_build_22 (by decide) ?_
      obtain ⟨r_13, M_13, h_13, hf⟩ := ww_b2S hf
      refine t3c_refused X hl.1 hK hD hR hS (Nat.le_trans (Nat.le_of_ble_eq_true rfl) hF) (Nat.le_trans (Nat.le_of_ble_eq_true rfl) hLo) h_13 (Nat.le_of_ble_eq_true rfl) dX3_build_23 (fun H locs hR hS => ?_)
      exact hend dX3_build_26 rfl rfl hf hR hS
noncomputable def f3_isOpen (M : ww_M) (x1 : Int32) : Option (Int32) :=
  ww_b (f3_isBuilder M x1) (fun r_1 => if r_1 = 0 then some (0 : Int32) else ww_b (f3_has (ww_F M 43) x1) (fun r_3 => if r_3 = 0 then some (0 : Int32) else some (1 : Int32)))
section T3_isOpen_k
variable {p : Program} {l : Launch} {e : Env} {R : Room} {s : State} {m : MethodId} {args : Array Value} {below : List Frame} {meth : Method} {c : Code} {H : Heap} {locs : List Loc} {Q : State → Prop}
variable {cc : ByteArray} {pc : Nat} {ls : Array Slot} {rest : List Value} {nL : Nat} {E : ww_E} {A : Nat → Prop} {H0 : Heap}
theorem t3k_isOpen {M : ww_M} {x1 : Int32} {r : Int32} (X : ww_C p m c cc nL s args RX3 lw_all) (hsz : ls.size = nL) (hK : t3_Kn E s) (hD : t3_D E) (hR : t3_H E M H) (hS : va_S (t3_A E) H0 H locs) (hF : 3 ≤ R.frames) (hLo : 67 ≤ R.locals) (hM : t3_Met l yX3_isOpen cX3_isOpen 2 (some Jvm.ClassFile.FieldType.boolean) 2 46 E [.int x1] M M r) (hrest : (rest.map fun v => v.category).sum ≤ 8) (hdg : decode cc pc = .ok (.invokevirtual 390, 3)) (kk : ∀ (H1 : Heap) (locs1 : List Loc), t3_H E M H1 → va_S (t3_A E) H0 H1 locs1 → W p l e R s m args below meth c H1 locs1 0 0 Q (F0 m (pc + 3) ls (.int r :: rest))) : W p l e R s m args below meth c H locs 0 0 Q (F0 m pc ls (.int x1 :: .ref E.1 :: rest)) :=
  t3_callI (n := 1) X hsz hK hR hS (As := [.int x1]) hM (lw_V q2197 q2199 qs112 q135 q2200) (by decide +kernel) rfl hF hLo (Nat.zero_le _) (Nat.zero_le _) hrest hdg kk
end T3_isOpen_k
set_option maxHeartbeats 4000000 in
set_option maxRecDepth 100000 in
theorem met3_isOpen (l : Launch) {E : ww_E} (hD : t3_D E) (M : ww_M) (x1 : Int32) (r : Int32) (hf : f3_isOpen M x1 = some r) : t3_Met l yX3_isOpen cX3_isOpen 2 (some Jvm.ClassFile.FieldType.boolean) 2 46 E [.int x1] M M r := by
  unfold f3_isOpen at hf
  refine t3_startP (by decide +kernel) (Nat.le_of_ble_eq_true rfl) ?_
  intro p e s m args below meth c Rm Q X hK hF hLo hend ls hl hR hS
  obtain ⟨hx, hb, hml, hown, hts⟩ := id X
  replace hl : lv_has ls 2 [(0, .ref E.1), (1, .int x1)] := hl
  refine lv_aload_n hx hb dX3_isOpen_0 rfl (lv_at hl 0 rfl) ?_
  refine lv_iload_n hx hb dX3_isOpen_1 rfl (lv_at hl 1 rfl) ?_
  obtain ⟨r_1, h_1, hf⟩ := ww_bS hf
  refine t3c_isBuilder X hl.1 hK hD hR hS (Nat.le_trans (Nat.le_of_ble_eq_true rfl) hF) (Nat.le_trans (Nat.le_of_ble_eq_true rfl) hLo) h_1 (Nat.le_of_ble_eq_true rfl) dX3_isOpen_2 (fun H locs hR hS => ?_)
  refine lv_if_eq (tgt := 23) hx hb dX3_isOpen_5 (by decide) (fun c_2 => ?_) (fun c_2 => ?_)
  · replace hf := ww_ip hf c_2
    refine lv_iconst (v := (0 : Int32)) hx hb dX3_isOpen_23 (by decide) ?_
    exact hend dX3_isOpen_24 rfl (by decide) hf hR hS
  · replace hf := ww_in hf c_2
    refine lv_aload_n hx hb dX3_isOpen_8 rfl (lv_at hl 0 rfl) ?_
    refine t3g_43 X hK hR dX3_isOpen_9 ?_
    refine lv_iload_n hx hb dX3_isOpen_12 rfl (lv_at hl 1 rfl) ?_
    obtain ⟨r_3, h_3, hf⟩ := ww_bS hf
    refine t3c_has X hl.1 (Nat.le_trans (Nat.le_of_ble_eq_true rfl) hF) (Nat.le_trans (Nat.le_of_ble_eq_true rfl) hLo) h_3 (Nat.le_of_ble_eq_true rfl) dX3_isOpen_13 ?_
    refine lv_if_eq (tgt := 23) hx hb dX3_isOpen_16 (by decide) (fun c_4 => ?_) (fun c_4 => ?_)
    · replace hf := ww_ip hf c_4
      refine lv_iconst (v := (0 : Int32)) hx hb dX3_isOpen_23 (by decide) ?_
      exact hend dX3_isOpen_24 rfl (by decide) hf hR hS
    · replace hf := ww_in hf c_4
      refine lv_iconst (v := (1 : Int32)) hx hb dX3_isOpen_19 (by decide) ?_
      refine lv_goto (tgt := 24) hx hb dX3_isOpen_20 (by decide) ?_
      exact hend dX3_isOpen_24 rfl (by decide) hf hR hS
section T3_isOpen_c
variable {p : Program} {l : Launch} {e : Env} {R : Room} {s : State} {m : MethodId} {args : Array Value} {below : List Frame} {meth : Method} {c : Code} {H : Heap} {locs : List Loc} {Q : State → Prop}
variable {cc : ByteArray} {pc : Nat} {ls : Array Slot} {rest : List Value} {nL : Nat} {E : ww_E} {A : Nat → Prop} {H0 : Heap}
theorem t3c_isOpen {M : ww_M} {x1 : Int32} {r : Int32} (X : ww_C p m c cc nL s args RX3 lw_all) (hsz : ls.size = nL) (hK : t3_Kn E s) (hD : t3_D E) (hR : t3_H E M H) (hS : va_S (t3_A E) H0 H locs) (hF : 3 ≤ R.frames) (hLo : 67 ≤ R.locals) (hf : f3_isOpen M x1 = some r) (hrest : (rest.map fun v => v.category).sum ≤ 8) (hdg : decode cc pc = .ok (.invokevirtual 390, 3)) (kk : ∀ (H1 : Heap) (locs1 : List Loc), t3_H E M H1 → va_S (t3_A E) H0 H1 locs1 → W p l e R s m args below meth c H1 locs1 0 0 Q (F0 m (pc + 3) ls (.int r :: rest))) : W p l e R s m args below meth c H locs 0 0 Q (F0 m pc ls (.int x1 :: .ref E.1 :: rest)) :=
  t3k_isOpen X hsz hK hD hR hS hF hLo (met3_isOpen l hD _ _ _ hf) hrest hdg kk
end T3_isOpen_c
noncomputable def f3_stops (M : ww_M) (x1 : Int32) (x2 : Int32) : Option (Int32) :=
  ww_b (f3_isBuilder M x1) (fun r_1 => if r_1 = 0 then some (0 : Int32) else if x2 = 0 then some (1 : Int32) else ww_b (f3_isOpen M x1) (fun r_4 => if r_4 = 0 then some (2 : Int32) else some (-1 : Int32)))
section T3_stops_k
variable {p : Program} {l : Launch} {e : Env} {R : Room} {s : State} {m : MethodId} {args : Array Value} {below : List Frame} {meth : Method} {c : Code} {H : Heap} {locs : List Loc} {Q : State → Prop}
variable {cc : ByteArray} {pc : Nat} {ls : Array Slot} {rest : List Value} {nL : Nat} {E : ww_E} {A : Nat → Prop} {H0 : Heap}
theorem t3k_stops {M : ww_M} {x1 : Int32} {x2 : Int32} {r : Int32} (X : ww_C p m c cc nL s args RX3 lw_all) (hsz : ls.size = nL) (hK : t3_Kn E s) (hD : t3_D E) (hR : t3_H E M H) (hS : va_S (t3_A E) H0 H locs) (hF : 4 ≤ R.frames) (hLo : 89 ≤ R.locals) (hM : t3_Met l yX3_stops cX3_stops 3 (some Jvm.ClassFile.FieldType.int) 3 67 E [.int x1, .int x2] M M r) (hrest : (rest.map fun v => v.category).sum ≤ 8) (hdg : decode cc pc = .ok (.invokevirtual 393, 3)) (kk : ∀ (H1 : Heap) (locs1 : List Loc), t3_H E M H1 → va_S (t3_A E) H0 H1 locs1 → W p l e R s m args below meth c H1 locs1 0 0 Q (F0 m (pc + 3) ls (.int r :: rest))) : W p l e R s m args below meth c H locs 0 0 Q (F0 m pc ls (.int x2 :: .int x1 :: .ref E.1 :: rest)) :=
  t3_callI (n := 2) X hsz hK hR hS (As := [.int x1, .int x2]) hM (lw_V q2193 q2195 qs111 q135 q2196) (by decide +kernel) rfl hF hLo (Nat.zero_le _) (Nat.zero_le _) hrest hdg kk
end T3_stops_k
set_option maxHeartbeats 4000000 in
set_option maxRecDepth 100000 in
theorem met3_stops (l : Launch) {E : ww_E} (hD : t3_D E) (M : ww_M) (x1 : Int32) (x2 : Int32) (r : Int32) (hf : f3_stops M x1 x2 = some r) : t3_Met l yX3_stops cX3_stops 3 (some Jvm.ClassFile.FieldType.int) 3 67 E [.int x1, .int x2] M M r := by
  unfold f3_stops at hf
  refine t3_startP (by decide +kernel) (Nat.le_of_ble_eq_true rfl) ?_
  intro p e s m args below meth c Rm Q X hK hF hLo hend ls hl hR hS
  obtain ⟨hx, hb, hml, hown, hts⟩ := id X
  replace hl : lv_has ls 3 [(0, .ref E.1), (1, .int x1), (2, .int x2)] := hl
  refine lv_aload_n hx hb dX3_stops_0 rfl (lv_at hl 0 rfl) ?_
  refine lv_iload_n hx hb dX3_stops_1 rfl (lv_at hl 1 rfl) ?_
  obtain ⟨r_1, h_1, hf⟩ := ww_bS hf
  refine t3c_isBuilder X hl.1 hK hD hR hS (Nat.le_trans (Nat.le_of_ble_eq_true rfl) hF) (Nat.le_trans (Nat.le_of_ble_eq_true rfl) hLo) h_1 (Nat.le_of_ble_eq_true rfl) dX3_stops_2 (fun H locs hR hS => ?_)
  refine lv_if_ne (tgt := 12) hx hb dX3_stops_5 (by decide) (fun c_2 => ?_) (fun c_2 => ?_)
  · replace hf := ww_in hf c_2
    refine lv_iload_n hx hb dX3_stops_12 rfl (lv_at hl 2 rfl) ?_
    refine lv_if_ne (tgt := 20) hx hb dX3_stops_13 (by decide) (fun c_3 => ?_) (fun c_3 => ?_)
    · replace hf := ww_in hf c_3
      refine lv_aload_n hx hb dX3_stops_20 rfl (lv_at hl 0 rfl) ?_
      refine lv_iload_n hx hb dX3_stops_21 rfl (lv_at hl 1 rfl) ?_
      obtain ⟨r_4, h_4, hf⟩ := ww_bS hf
      refine t3c_isOpen X hl.1 hK hD hR hS (Nat.le_trans (Nat.le_of_ble_eq_true rfl) hF) (Nat.le_trans (Nat.le_of_ble_eq_true rfl) hLo) h_4 (Nat.le_of_ble_eq_true rfl) dX3_stops_22 (fun H locs hR hS => ?_)
      refine lv_if_ne (tgt := 32) hx hb dX3_stops_25 (by decide) (fun c_5 => ?_) (fun c_5 => ?_)
      · replace hf := ww_in hf c_5
        refine lv_iconst (v := (-1 : Int32)) hx hb dX3_stops_32 (by decide) ?_
        exact hend dX3_stops_33 rfl rfl hf hR hS
      · replace hf := ww_ip hf c_5
        refine lv_iconst (v := (2 : Int32)) hx hb dX3_stops_28 (by decide) ?_
        refine lv_goto (tgt := 33) hx hb dX3_stops_29 (by decide) ?_
        exact hend dX3_stops_33 rfl rfl hf hR hS
    · replace hf := ww_ip hf c_3
      refine lv_iconst (v := (1 : Int32)) hx hb dX3_stops_16 (by decide) ?_
      refine lv_goto (tgt := 33) hx hb dX3_stops_17 (by decide) ?_
      exact hend dX3_stops_33 rfl rfl hf hR hS
  · replace hf := ww_ip hf c_2
    refine lv_iconst (v := (0 : Int32)) hx hb dX3_stops_8 (by decide) ?_
    refine lv_goto (tgt := 33) hx hb dX3_stops_9 (by decide) ?_
    exact hend dX3_stops_33 rfl rfl hf hR hS
section T3_stops_c
variable {p : Program} {l : Launch} {e : Env} {R : Room} {s : State} {m : MethodId} {args : Array Value} {below : List Frame} {meth : Method} {c : Code} {H : Heap} {locs : List Loc} {Q : State → Prop}
variable {cc : ByteArray} {pc : Nat} {ls : Array Slot} {rest : List Value} {nL : Nat} {E : ww_E} {A : Nat → Prop} {H0 : Heap}
theorem t3c_stops {M : ww_M} {x1 : Int32} {x2 : Int32} {r : Int32} (X : ww_C p m c cc nL s args RX3 lw_all) (hsz : ls.size = nL) (hK : t3_Kn E s) (hD : t3_D E) (hR : t3_H E M H) (hS : va_S (t3_A E) H0 H locs) (hF : 4 ≤ R.frames) (hLo : 89 ≤ R.locals) (hf : f3_stops M x1 x2 = some r) (hrest : (rest.map fun v => v.category).sum ≤ 8) (hdg : decode cc pc = .ok (.invokevirtual 393, 3)) (kk : ∀ (H1 : Heap) (locs1 : List Loc), t3_H E M H1 → va_S (t3_A E) H0 H1 locs1 → W p l e R s m args below meth c H1 locs1 0 0 Q (F0 m (pc + 3) ls (.int r :: rest))) : W p l e R s m args below meth c H locs 0 0 Q (F0 m pc ls (.int x2 :: .int x1 :: .ref E.1 :: rest)) :=
  t3k_stops X hsz hK hD hR hS hF hLo (met3_stops l hD _ _ _ _ hf) hrest hdg kk
end T3_stops_c
noncomputable def f3_canPut (M : ww_M) (x1 : Int32) (x2 : Int32) : Option (Int32 × ww_M) :=
  ww_g (ww_i x1 4) (ww_b2 (f3_keysOf M (ww_X M 35 x1)) (fun r_2 M_2 => if r_2 < (60 : Int32) then some ((1 : Int32), M_2) else ww_g (ww_i x1 4) (ww_b (f3_valueAt M_2 (ww_X M_2 35 x1) x2) (fun r_5 => if r_5 = (-1000000 : Int32) then some ((0 : Int32), M_2) else some ((1 : Int32), M_2)))))
section T3_canPut_k
variable {p : Program} {l : Launch} {e : Env} {R : Room} {s : State} {m : MethodId} {args : Array Value} {below : List Frame} {meth : Method} {c : Code} {H : Heap} {locs : List Loc} {Q : State → Prop}
variable {cc : ByteArray} {pc : Nat} {ls : Array Slot} {rest : List Value} {nL : Nat} {E : ww_E} {A : Nat → Prop} {H0 : Heap}
theorem t3k_canPut {M M' : ww_M} {x1 : Int32} {x2 : Int32} {r : Int32} (X : ww_C p m c cc nL s args RX3 lw_all) (hsz : ls.size = nL) (hK : t3_Kn E s) (hD : t3_D E) (hR : t3_H E M H) (hS : va_S (t3_A E) H0 H locs) (hF : 15 ≤ R.frames) (hLo : 339 ≤ R.locals) (hM : t3_Met l yX3_canPut cX3_canPut 3 (some Jvm.ClassFile.FieldType.boolean) 14 317 E [.int x1, .int x2] M M' r) (hrest : (rest.map fun v => v.category).sum ≤ 8) (hdg : decode cc pc = .ok (.invokevirtual 397, 3)) (kk : ∀ (H1 : Heap) (locs1 : List Loc), t3_H E M' H1 → va_S (t3_A E) H0 H1 locs1 → W p l e R s m args below meth c H1 locs1 0 0 Q (F0 m (pc + 3) ls (.int r :: rest))) : W p l e R s m args below meth c H locs 0 0 Q (F0 m pc ls (.int x2 :: .int x1 :: .ref E.1 :: rest)) :=
  t3_callI (n := 2) X hsz hK hR hS (As := [.int x1, .int x2]) hM (lw_V q2201 q2203 qs113 q135 q2204) (by decide +kernel) rfl hF hLo (Nat.zero_le _) (Nat.zero_le _) hrest hdg kk
end T3_canPut_k
set_option maxHeartbeats 4000000 in
set_option maxRecDepth 100000 in
theorem met3_canPut (l : Launch) {E : ww_E} (hD : t3_D E) (M : ww_M) (x1 : Int32) (x2 : Int32) (r : Int32) (M' : ww_M) (hf : f3_canPut M x1 x2 = some (r, M')) : t3_Met l yX3_canPut cX3_canPut 3 (some Jvm.ClassFile.FieldType.boolean) 14 317 E [.int x1, .int x2] M M' r := by
  unfold f3_canPut at hf
  refine t3_start (by decide +kernel) (Nat.le_of_ble_eq_true rfl) ?_
  intro p e s m args below meth c Rm Q X hK hF hLo hend ls hl hR hS
  obtain ⟨hx, hb, hml, hown, hts⟩ := id X
  replace hl : lv_has ls 3 [(0, .ref E.1), (1, .int x1), (2, .int x2)] := hl
  refine lv_aload_n hx hb dX3_canPut_0 rfl (lv_at hl 0 rfl) ?_
  refine lv_aload_n hx hb dX3_canPut_1 rfl (lv_at hl 0 rfl) ?_
  refine t3g_35 X hK hR dX3_canPut_2 ?_
  refine lv_iload_n hx hb dX3_canPut_5 rfl (lv_at hl 1 rfl) ?_
  obtain ⟨h_1, hf⟩ := ww_gS hf
  refine t3l_35 X hK hR h_1 dX3_canPut_6 ?_
  obtain ⟨r_2, M_2, h_2, hf⟩ := ww_b2S hf
  refine t3c_keysOf X hl.1 hK hD hR hS (Nat.le_trans (Nat.le_of_ble_eq_true rfl) hF) (Nat.le_trans (Nat.le_of_ble_eq_true rfl) hLo) h_2 (Nat.le_of_ble_eq_true rfl) dX3_canPut_7 (fun H locs hR hS => ?_)
  refine lv_bipush (v := (60 : Int32)) hx hb dX3_canPut_10 (by decide) ?_
  refine lv_icmp_lt (tgt := 31) hx hb dX3_canPut_12 (by decide) (fun c_3 => ?_) (fun c_3 => ?_)
  · replace hf := ww_ip hf c_3
    refine lv_iconst (v := (1 : Int32)) hx hb dX3_canPut_31 (by decide) ?_
    refine lv_goto (tgt := 36) hx hb dX3_canPut_32 (by decide) ?_
    exact hend dX3_canPut_36 rfl (by decide) hf hR hS
  · replace hf := ww_in hf c_3
    refine lv_aload_n hx hb dX3_canPut_15 rfl (lv_at hl 0 rfl) ?_
    refine lv_aload_n hx hb dX3_canPut_16 rfl (lv_at hl 0 rfl) ?_
    refine t3g_35 X hK hR dX3_canPut_17 ?_
    refine lv_iload_n hx hb dX3_canPut_20 rfl (lv_at hl 1 rfl) ?_
    obtain ⟨h_4, hf⟩ := ww_gS hf
    refine t3l_35 X hK hR h_4 dX3_canPut_21 ?_
    refine lv_iload_n hx hb dX3_canPut_22 rfl (lv_at hl 2 rfl) ?_
    obtain ⟨r_5, h_5, hf⟩ := ww_bS hf
    refine t3c_valueAt X hl.1 hK hD hR hS (Nat.le_trans (Nat.le_of_ble_eq_true rfl) hF) (Nat.le_trans (Nat.le_of_ble_eq_true rfl) hLo) h_5 (Nat.le_of_ble_eq_true rfl) dX3_canPut_23 (fun H locs hR hS => ?_)
    refine lv_ldc (v := (-1000000 : Int32)) hx hb hown (hts _ q1942) dX3_canPut_26 ?_
    refine lv_icmp_eq (tgt := 35) hx hb dX3_canPut_28 (by decide) (fun c_6 => ?_) (fun c_6 => ?_)
    · replace hf := ww_ip hf c_6
      refine lv_iconst (v := (0 : Int32)) hx hb dX3_canPut_35 (by decide) ?_
      exact hend dX3_canPut_36 rfl (by decide) hf hR hS
    · replace hf := ww_in hf c_6
      refine lv_iconst (v := (1 : Int32)) hx hb dX3_canPut_31 (by decide) ?_
      refine lv_goto (tgt := 36) hx hb dX3_canPut_32 (by decide) ?_
      exact hend dX3_canPut_36 rfl (by decide) hf hR hS
section T3_canPut_c
variable {p : Program} {l : Launch} {e : Env} {R : Room} {s : State} {m : MethodId} {args : Array Value} {below : List Frame} {meth : Method} {c : Code} {H : Heap} {locs : List Loc} {Q : State → Prop}
variable {cc : ByteArray} {pc : Nat} {ls : Array Slot} {rest : List Value} {nL : Nat} {E : ww_E} {A : Nat → Prop} {H0 : Heap}
theorem t3c_canPut {M M' : ww_M} {x1 : Int32} {x2 : Int32} {r : Int32} (X : ww_C p m c cc nL s args RX3 lw_all) (hsz : ls.size = nL) (hK : t3_Kn E s) (hD : t3_D E) (hR : t3_H E M H) (hS : va_S (t3_A E) H0 H locs) (hF : 15 ≤ R.frames) (hLo : 339 ≤ R.locals) (hf : f3_canPut M x1 x2 = some (r, M')) (hrest : (rest.map fun v => v.category).sum ≤ 8) (hdg : decode cc pc = .ok (.invokevirtual 397, 3)) (kk : ∀ (H1 : Heap) (locs1 : List Loc), t3_H E M' H1 → va_S (t3_A E) H0 H1 locs1 → W p l e R s m args below meth c H1 locs1 0 0 Q (F0 m (pc + 3) ls (.int r :: rest))) : W p l e R s m args below meth c H locs 0 0 Q (F0 m pc ls (.int x2 :: .int x1 :: .ref E.1 :: rest)) :=
  t3k_canPut X hsz hK hD hR hS hF hLo (met3_canPut l hD _ _ _ _ _ hf) hrest hdg kk
end T3_canPut_c
noncomputable def f3_builderPuts (M : ww_M) (x1 : Int32) (x2 : Int32) (x3 : Int32) : Option (ww_M) :=
  ww_g (ww_i x1 4) (ww_g (ww_i x1 4) (ww_b2 (f3_puts M (ww_X M 35 x1) x2 x3 (ww_X M 36 x1)) (fun r_3 M_3 => ww_g (ww_i x1 4) (some (ww_sX M_3 35 x1 r_3)))))
section T3_builderPuts_k
variable {p : Program} {l : Launch} {e : Env} {R : Room} {s : State} {m : MethodId} {args : Array Value} {below : List Frame} {meth : Method} {c : Code} {H : Heap} {locs : List Loc} {Q : State → Prop}
variable {cc : ByteArray} {pc : Nat} {ls : Array Slot} {rest : List Value} {nL : Nat} {E : ww_E} {A : Nat → Prop} {H0 : Heap}
theorem t3k_builderPuts {M M' : ww_M} {x1 : Int32} {x2 : Int32} {x3 : Int32} (X : ww_C p m c cc nL s args RX3 lw_all) (hsz : ls.size = nL) (hK : t3_Kn E s) (hD : t3_D E) (hR : t3_H E M H) (hS : va_S (t3_A E) H0 H locs) (hF : 7 ≤ R.frames) (hLo : 167 ≤ R.locals) (hM : t3_MetV l yX3_builderPuts cX3_builderPuts 4 6 144 E [.int x1, .int x2, .int x3] M M') (hrest : (rest.map fun v => v.category).sum ≤ 8) (hdg : decode cc pc = .ok (.invokevirtual 384, 3)) (kk : ∀ (H1 : Heap) (locs1 : List Loc), t3_H E M' H1 → va_S (t3_A E) H0 H1 locs1 → W p l e R s m args below meth c H1 locs1 0 0 Q (F0 m (pc + 3) ls (rest))) : W p l e R s m args below meth c H locs 0 0 Q (F0 m pc ls (.int x3 :: .int x2 :: .int x1 :: .ref E.1 :: rest)) :=
  t3_callV (n := 3) X hsz hK hR hS (As := [.int x1, .int x2, .int x3]) hM (lw_V q2209 q2211 qs115 q135 q2212) (by decide +kernel) rfl hF hLo (Nat.zero_le _) (Nat.zero_le _) hrest hdg kk
end T3_builderPuts_k
set_option maxHeartbeats 4000000 in
set_option maxRecDepth 100000 in
theorem met3_builderPuts (l : Launch) {E : ww_E} (hD : t3_D E) (M : ww_M) (x1 : Int32) (x2 : Int32) (x3 : Int32) (M' : ww_M) (hf : f3_builderPuts M x1 x2 x3 = some M') : t3_MetV l yX3_builderPuts cX3_builderPuts 4 6 144 E [.int x1, .int x2, .int x3] M M' := by
  unfold f3_builderPuts at hf
  refine t3_startV (by decide +kernel) (Nat.le_of_ble_eq_true rfl) ?_
  intro p e s m args below meth c Rm Q X hK hF hLo hend ls hl hR hS
  obtain ⟨hx, hb, hml, hown, hts⟩ := id X
  replace hl : lv_has ls 4 [(0, .ref E.1), (1, .int x1), (2, .int x2), (3, .int x3)] := hl
  refine lv_aload_n hx hb dX3_builderPuts_0 rfl (lv_at hl 0 rfl) ?_
  refine t3g_35 X hK hR dX3_builderPuts_1 ?_
  refine lv_iload_n hx hb dX3_builderPuts_4 rfl (lv_at hl 1 rfl) ?_
  refine lv_aload_n hx hb dX3_builderPuts_5 rfl (lv_at hl 0 rfl) ?_
  refine lv_aload_n hx hb dX3_builderPuts_6 rfl (lv_at hl 0 rfl) ?_
  refine t3g_35 X hK hR dX3_builderPuts_7 ?_
  refine lv_iload_n hx hb dX3_builderPuts_10 rfl (lv_at hl 1 rfl) ?_
  obtain ⟨h_1, hf⟩ := ww_gS hf
  refine t3l_35 X hK hR h_1 dX3_builderPuts_11 ?_
  refine lv_iload_n hx hb dX3_builderPuts_12 rfl (lv_at hl 2 rfl) ?_
  refine lv_iload_n hx hb dX3_builderPuts_13 rfl (lv_at hl 3 rfl) ?_
  refine lv_aload_n hx hb dX3_builderPuts_14 rfl (lv_at hl 0 rfl) ?_
  refine t3g_36 X hK hR dX3_builderPuts_15 ?_
  refine lv_iload_n hx hb dX3_builderPuts_18 rfl (lv_at hl 1 rfl) ?_
  obtain ⟨h_2, hf⟩ := ww_gS hf
  refine t3l_36 X hK hR h_2 dX3_builderPuts_19 ?_
  obtain ⟨r_3, M_3, h_3, hf⟩ := ww_b2S hf
  refine t3c_puts X hl.1 hK hD hR hS (Nat.le_trans (Nat.le_of_ble_eq_true rfl) hF) (Nat.le_trans (Nat.le_of_ble_eq_true rfl) hLo) h_3 (Nat.le_of_ble_eq_true rfl) dX3_builderPuts_20 (fun H locs hR hS => ?_)
  obtain ⟨h_4, hf⟩ := ww_gS hf
  refine t3s_35 X hK hD hR hS h_4 dX3_builderPuts_23 (fun H locs hR hS => ?_)
  exact hend dX3_builderPuts_24 hf hR hS
section T3_builderPuts_c
variable {p : Program} {l : Launch} {e : Env} {R : Room} {s : State} {m : MethodId} {args : Array Value} {below : List Frame} {meth : Method} {c : Code} {H : Heap} {locs : List Loc} {Q : State → Prop}
variable {cc : ByteArray} {pc : Nat} {ls : Array Slot} {rest : List Value} {nL : Nat} {E : ww_E} {A : Nat → Prop} {H0 : Heap}
theorem t3c_builderPuts {M M' : ww_M} {x1 : Int32} {x2 : Int32} {x3 : Int32} (X : ww_C p m c cc nL s args RX3 lw_all) (hsz : ls.size = nL) (hK : t3_Kn E s) (hD : t3_D E) (hR : t3_H E M H) (hS : va_S (t3_A E) H0 H locs) (hF : 7 ≤ R.frames) (hLo : 167 ≤ R.locals) (hf : f3_builderPuts M x1 x2 x3 = some M') (hrest : (rest.map fun v => v.category).sum ≤ 8) (hdg : decode cc pc = .ok (.invokevirtual 384, 3)) (kk : ∀ (H1 : Heap) (locs1 : List Loc), t3_H E M' H1 → va_S (t3_A E) H0 H1 locs1 → W p l e R s m args below meth c H1 locs1 0 0 Q (F0 m (pc + 3) ls (rest))) : W p l e R s m args below meth c H locs 0 0 Q (F0 m pc ls (.int x3 :: .int x2 :: .int x1 :: .ref E.1 :: rest)) :=
  t3k_builderPuts X hsz hK hD hR hS hF hLo (met3_builderPuts l hD _ _ _ _ _ hf) hrest hdg kk
end T3_builderPuts_c
noncomputable def f3_builderAdds (M : ww_M) (x1 : Int32) (x2 : Int32) (x3 : Int32) : Option (ww_M) :=
  ww_g (ww_i x1 4) (ww_b (f3_valueAt M (ww_X M 35 x1) x2) (fun r_2 => if r_2 = (-1000000 : Int32) then ww_b (f3_builderPuts M x1 x2 x3) (fun M_6 => some M_6) else ww_b (f3_held (r_2 + x3)) (fun r_4 => ww_b (f3_builderPuts M x1 x2 r_4) (fun M_5 => some M_5))))
section T3_builderAdds_k
variable {p : Program} {l : Launch} {e : Env} {R : Room} {s : State} {m : MethodId} {args : Array Value} {below : List Frame} {meth : Method} {c : Code} {H : Heap} {locs : List Loc} {Q : State → Prop}
variable {cc : ByteArray} {pc : Nat} {ls : Array Slot} {rest : List Value} {nL : Nat} {E : ww_E} {A : Nat → Prop} {H0 : Heap}
theorem t3k_builderAdds {M M' : ww_M} {x1 : Int32} {x2 : Int32} {x3 : Int32} (X : ww_C p m c cc nL s args RX3 lw_all) (hsz : ls.size = nL) (hK : t3_Kn E s) (hD : t3_D E) (hR : t3_H E M H) (hS : va_S (t3_A E) H0 H locs) (hF : 8 ≤ R.frames) (hLo : 191 ≤ R.locals) (hM : t3_MetV l yX3_builderAdds cX3_builderAdds 5 7 167 E [.int x1, .int x2, .int x3] M M') (hrest : (rest.map fun v => v.category).sum ≤ 8) (hdg : decode cc pc = .ok (.invokevirtual 387, 3)) (kk : ∀ (H1 : Heap) (locs1 : List Loc), t3_H E M' H1 → va_S (t3_A E) H0 H1 locs1 → W p l e R s m args below meth c H1 locs1 0 0 Q (F0 m (pc + 3) ls (rest))) : W p l e R s m args below meth c H locs 0 0 Q (F0 m pc ls (.int x3 :: .int x2 :: .int x1 :: .ref E.1 :: rest)) :=
  t3_callV (n := 3) X hsz hK hR hS (As := [.int x1, .int x2, .int x3]) hM (lw_V q2205 q2207 qs114 q135 q2208) (by decide +kernel) rfl hF hLo (Nat.zero_le _) (Nat.zero_le _) hrest hdg kk
end T3_builderAdds_k
set_option maxHeartbeats 4000000 in
set_option maxRecDepth 100000 in
theorem met3_builderAdds (l : Launch) {E : ww_E} (hD : t3_D E) (M : ww_M) (x1 : Int32) (x2 : Int32) (x3 : Int32) (M' : ww_M) (hf : f3_builderAdds M x1 x2 x3 = some M') : t3_MetV l yX3_builderAdds cX3_builderAdds 5 7 167 E [.int x1, .int x2, .int x3] M M' := by
  unfold f3_builderAdds at hf
  refine t3_startV (by decide +kernel) (Nat.le_of_ble_eq_true rfl) ?_
  intro p e s m args below meth c Rm Q X hK hF hLo hend ls hl hR hS
  obtain ⟨hx, hb, hml, hown, hts⟩ := id X
  replace hl : lv_has ls 5 [(0, .ref E.1), (1, .int x1), (2, .int x2), (3, .int x3)] := hl
  refine lv_aload_n hx hb dX3_builderAdds_0 rfl (lv_at hl 0 rfl) ?_
  refine lv_aload_n hx hb dX3_builderAdds_1 rfl (lv_at hl 0 rfl) ?_
  refine t3g_35 X hK hR dX3_builderAdds_2 ?_
  refine lv_iload_n hx hb dX3_builderAdds_5 rfl (lv_at hl 1 rfl) ?_
  obtain ⟨h_1, hf⟩ := ww_gS hf
  refine t3l_35 X hK hR h_1 dX3_builderAdds_6 ?_
  refine lv_iload_n hx hb dX3_builderAdds_7 rfl (lv_at hl 2 rfl) ?_
  obtain ⟨r_2, h_2, hf⟩ := ww_bS hf
  refine t3c_valueAt X hl.1 hK hD hR hS (Nat.le_trans (Nat.le_of_ble_eq_true rfl) hF) (Nat.le_trans (Nat.le_of_ble_eq_true rfl) hLo) h_2 (Nat.le_of_ble_eq_true rfl) dX3_builderAdds_8 (fun H locs hR hS => ?_)
  refine lv_istore (lv' := [(4, .int r_2), (0, .ref E.1), (1, .int x1), (2, .int x2), (3, .int x3)]) hx hb dX3_builderAdds_11 hl (by decide) rfl (fun ls hl => ?_)
  refine lv_aload_n hx hb dX3_builderAdds_13 rfl (lv_at hl 1 rfl) ?_
  refine lv_iload_n hx hb dX3_builderAdds_14 rfl (lv_at hl 2 rfl) ?_
  refine lv_iload_n hx hb dX3_builderAdds_15 rfl (lv_at hl 3 rfl) ?_
  refine lv_iload hx hb dX3_builderAdds_16 (lv_at hl 0 rfl) ?_
  refine lv_ldc (v := (-1000000 : Int32)) hx hb hown (hts _ q1942) dX3_builderAdds_18 ?_
  refine lv_icmp_ne (tgt := 27) hx hb dX3_builderAdds_20 (by decide) (fun c_3 => ?_) (fun c_3 => ?_)
  · replace hf := ww_in hf c_3
    refine lv_iload hx hb dX3_builderAdds_27 (lv_at hl 0 rfl) ?_
    refine lv_iload_n hx hb dX3_builderAdds_29 rfl (lv_at hl 4 rfl) ?_
    refine lv_iadd hx hb dX3_builderAdds_30 ?_
    obtain ⟨r_4, h_4, hf⟩ := ww_bS hf
    refine t3c_held X hl.1 (Nat.le_trans (Nat.le_of_ble_eq_true rfl) hF) (Nat.le_trans (Nat.le_of_ble_eq_true rfl) hLo) h_4 (Nat.le_of_ble_eq_true rfl) dX3_builderAdds_31 ?_
    obtain ⟨M_5, h_5, hf⟩ := ww_bS hf
    refine t3c_builderPuts X hl.1 hK hD hR hS (Nat.le_trans (Nat.le_of_ble_eq_true rfl) hF) (Nat.le_trans (Nat.le_of_ble_eq_true rfl) hLo) h_5 (Nat.le_of_ble_eq_true rfl) dX3_builderAdds_34 (fun H locs hR hS => ?_)
    exact hend dX3_builderAdds_37 hf hR hS
  · replace hf := ww_ip hf c_3
    refine lv_iload_n hx hb dX3_builderAdds_23 rfl (lv_at hl 4 rfl) ?_
    refine lv_goto (tgt := 34) hx hb dX3_builderAdds_24 (by decide) ?_
    obtain ⟨M_6, h_6, hf⟩ := ww_bS hf
    refine t3c_builderPuts X hl.1 hK hD hR hS (Nat.le_trans (Nat.le_of_ble_eq_true rfl) hF) (Nat.le_trans (Nat.le_of_ble_eq_true rfl) hLo) h_6 (Nat.le_of_ble_eq_true rfl) dX3_builderAdds_34 (fun H locs hR hS => ?_)
    exact hend dX3_builderAdds_37 hf hR hS
section T3_builderAdds_c
variable {p : Program} {l : Launch} {e : Env} {R : Room} {s : State} {m : MethodId} {args : Array Value} {below : List Frame} {meth : Method} {c : Code} {H : Heap} {locs : List Loc} {Q : State → Prop}
variable {cc : ByteArray} {pc : Nat} {ls : Array Slot} {rest : List Value} {nL : Nat} {E : ww_E} {A : Nat → Prop} {H0 : Heap}
theorem t3c_builderAdds {M M' : ww_M} {x1 : Int32} {x2 : Int32} {x3 : Int32} (X : ww_C p m c cc nL s args RX3 lw_all) (hsz : ls.size = nL) (hK : t3_Kn E s) (hD : t3_D E) (hR : t3_H E M H) (hS : va_S (t3_A E) H0 H locs) (hF : 8 ≤ R.frames) (hLo : 191 ≤ R.locals) (hf : f3_builderAdds M x1 x2 x3 = some M') (hrest : (rest.map fun v => v.category).sum ≤ 8) (hdg : decode cc pc = .ok (.invokevirtual 387, 3)) (kk : ∀ (H1 : Heap) (locs1 : List Loc), t3_H E M' H1 → va_S (t3_A E) H0 H1 locs1 → W p l e R s m args below meth c H1 locs1 0 0 Q (F0 m (pc + 3) ls (rest))) : W p l e R s m args below meth c H locs 0 0 Q (F0 m pc ls (.int x3 :: .int x2 :: .int x1 :: .ref E.1 :: rest)) :=
  t3k_builderAdds X hsz hK hD hR hS hF hLo (met3_builderAdds l hD _ _ _ _ _ hf) hrest hdg kk
end T3_builderAdds_c
noncomputable def f3_lays_j2 (y1 : Int32) (y2 : Int32) (y3 : Int32) (y4 : Int32) (M_3 : ww_M) (x5 : Int32) : Option (Int32 × ww_M) :=
  if x5 = (-1 : Int32) then ww_b (f3_sweeps M_3) (fun M_5 => if y4 = 0 then ww_b (f3_builderPuts M_5 y1 y2 y3) (fun M_7 => some (((ww_F M_7 20) - (ww_F M_5 20)), M_7)) else ww_b (f3_builderAdds M_5 y1 y2 y3) (fun M_8 => some (((ww_F M_8 20) - (ww_F M_5 20)), M_8))) else ww_b2 (f3_refused M_3 x5) (fun r_9 M_9 => some (r_9, M_9))
noncomputable def f3_lays_j1 (M : ww_M) (y1 : Int32) (y2 : Int32) (y3 : Int32) (y4 : Int32) (t1 : Int32) (t2 : Int32) : Option (Int32 × ww_M) :=
  ww_b (f3_stops M t1 t2) (fun r_2 => if r_2 = (-1 : Int32) then ww_b2 (f3_canPut M y1 y2) (fun r_11 M_11 => if r_11 = 0 then f3_lays_j2 y1 y2 y3 y4 M_11 (3 : Int32) else f3_lays_j2 y1 y2 y3 y4 M_11 r_2) else f3_lays_j2 y1 y2 y3 y4 M r_2)
noncomputable def f3_lays (M : ww_M) (x1 : Int32) (x2 : Int32) (x3 : Int32) (x4 : Int32) : Option (Int32 × ww_M) :=
  ww_b (f3_isIn x2.toInt64 (0 : Int64) (999 : Int64)) (fun r_1 => if r_1 = 0 then f3_lays_j1 (ww_sF M 0 (0 : Int32)) x1 x2 x3 x4 x1 (0 : Int32) else ww_b (f3_isIn x3.toInt64 (-999 : Int64) (999 : Int64)) (fun r_14 => if r_14 = 0 then f3_lays_j1 (ww_sF M 0 (0 : Int32)) x1 x2 x3 x4 x1 (0 : Int32) else f3_lays_j1 (ww_sF M 0 (0 : Int32)) x1 x2 x3 x4 x1 (1 : Int32)))
section T3_lays_k
variable {p : Program} {l : Launch} {e : Env} {R : Room} {s : State} {m : MethodId} {args : Array Value} {below : List Frame} {meth : Method} {c : Code} {H : Heap} {locs : List Loc} {Q : State → Prop}
variable {cc : ByteArray} {pc : Nat} {ls : Array Slot} {rest : List Value} {nL : Nat} {E : ww_E} {A : Nat → Prop} {H0 : Heap}
theorem t3k_lays {M M' : ww_M} {x1 : Int32} {x2 : Int32} {x3 : Int32} {x4 : Int32} {r : Int32} (X : ww_C p m c cc nL s args RX3 lw_all) (hsz : ls.size = nL) (hK : t3_Kn E s) (hD : t3_D E) (hR : t3_H E M H) (hS : va_S (t3_A E) H0 H locs) (hF : 16 ≤ R.frames) (hLo : 365 ≤ R.locals) (hM : t3_Met l yX3_lays cX3_lays 7 (some Jvm.ClassFile.FieldType.int) 15 339 E [.int x1, .int x2, .int x3, .int x4] M M' r) (hrest : (rest.map fun v => v.category).sum ≤ 8) (hdg : decode cc pc = .ok (.invokevirtual 400, 3)) (kk : ∀ (H1 : Heap) (locs1 : List Loc), t3_H E M' H1 → va_S (t3_A E) H0 H1 locs1 → W p l e R s m args below meth c H1 locs1 0 0 Q (F0 m (pc + 3) ls (.int r :: rest))) : W p l e R s m args below meth c H locs 0 0 Q (F0 m pc ls (.int x4 :: .int x3 :: .int x2 :: .int x1 :: .ref E.1 :: rest)) :=
  t3_callI (n := 4) X hsz hK hR hS (As := [.int x1, .int x2, .int x3, .int x4]) hM (lw_V q2189 q2191 qs110 q135 q2192) (by decide +kernel) rfl hF hLo (Nat.zero_le _) (Nat.zero_le _) hrest hdg kk
end T3_lays_k
set_option maxHeartbeats 4000000 in
set_option maxRecDepth 100000 in
theorem met3_lays (l : Launch) {E : ww_E} (hD : t3_D E) (M : ww_M) (x1 : Int32) (x2 : Int32) (x3 : Int32) (x4 : Int32) (r : Int32) (M' : ww_M) (hf : f3_lays M x1 x2 x3 x4 = some (r, M')) : t3_Met l yX3_lays cX3_lays 7 (some Jvm.ClassFile.FieldType.int) 15 339 E [.int x1, .int x2, .int x3, .int x4] M M' r := by
  unfold f3_lays at hf
  refine t3_start (by decide +kernel) (Nat.le_of_ble_eq_true rfl) ?_
  intro p e s m args below meth c Rm Q X hK hF hLo hend ls hl hR hS
  obtain ⟨hx, hb, hml, hown, hts⟩ := id X
  replace hl : lv_has ls 7 [(0, .ref E.1), (1, .int x1), (2, .int x2), (3, .int x3), (4, .int x4)] := hl
  refine lv_aload_n hx hb dX3_lays_0 rfl (lv_at hl 0 rfl) ?_
  refine lv_iconst (v := (0 : Int32)) hx hb dX3_lays_1 (by decide) ?_
  refine t3p_0 X hK hD hR hS dX3_lays_2 (fun H locs hR hS => ?_)
  refine lv_aload_n hx hb dX3_lays_5 rfl (lv_at hl 0 rfl) ?_
  refine lv_iload_n hx hb dX3_lays_6 rfl (lv_at hl 1 rfl) ?_
  refine lv_iload_n hx hb dX3_lays_7 rfl (lv_at hl 2 rfl) ?_
  refine lv_i2l (v := x2.toInt64) hx hb dX3_lays_8 rfl ?_
  refine lv_lconst (v := (0 : Int64)) hx hb dX3_lays_9 (by decide) ?_
  refine lv_ldc2 (v := (999 : Int64)) hx hb hown (hts _ q2095) dX3_lays_10 ?_
  obtain ⟨r_1, h_1, hf⟩ := ww_bS hf
  refine t3c_isIn X hl.1 (Nat.le_trans (Nat.le_of_ble_eq_true rfl) hF) (Nat.le_trans (Nat.le_of_ble_eq_true rfl) hLo) h_1 (Nat.le_of_ble_eq_true rfl) dX3_lays_13 ?_
  have hj_1 : ∀ (t1 : Int32) (t2 : Int32), f3_lays_j1 (ww_sF M 0 (0 : Int32)) x1 x2 x3 x4 t1 t2 = some (r, M') → ∀ (H : Heap) (locs : List Loc) (ls : Array Slot), t3_H E (ww_sF M 0 (0 : Int32)) H → va_S (t3_A E) s.heap H locs → lv_has ls 7 [(0, .ref E.1), (1, .int x1), (2, .int x2), (3, .int x3), (4, .int x4)] → W p l e Rm s m args below meth c H locs 0 0 Q (F0 m 38 ls [.int t2, .int t1, .ref E.1]) := by
    intro t1 t2 hf H locs ls hR hS hl
    unfold f3_lays_j1 at hf
    obtain ⟨r_2, h_2, hf⟩ := ww_bS hf
    refine t3c_stops X hl.1 hK hD hR hS (Nat.le_trans (Nat.le_of_ble_eq_true rfl) hF) (Nat.le_trans (Nat.le_of_ble_eq_true rfl) hLo) h_2 (Nat.le_of_ble_eq_true rfl) dX3_lays_38 (fun H locs hR hS => ?_)
    refine lv_istore (lv' := [(5, .int r_2), (0, .ref E.1), (1, .int x1), (2, .int x2), (3, .int x3), (4, .int x4)]) hx hb dX3_lays_41 hl (by decide) rfl (fun ls hl => ?_)
    refine lv_iload hx hb dX3_lays_43 (lv_at hl 0 rfl) ?_
    refine lv_iconst (v := (-1 : Int32)) hx hb dX3_lays_45 (by decide) ?_
    have hj_2 : ∀ (M_3 : ww_M) (x5 : Int32), f3_lays_j2 x1 x2 x3 x4 M_3 x5 = some (r, M') → ∀ (H : Heap) (locs : List Loc) (ls : Array Slot), t3_H E M_3 H → va_S (t3_A E) s.heap H locs → lv_has ls 7 [(0, .ref E.1), (1, .int x1), (2, .int x2), (3, .int x3), (4, .int x4), (5, .int x5)] → W p l e Rm s m args below meth c H locs 0 0 Q (F0 m 61 ls []) := by
      intro M_3 x5 hf H locs ls hR hS hl
      unfold f3_lays_j2 at hf
      refine lv_iload hx hb dX3_lays_61 (lv_at hl 5 rfl) ?_
      refine lv_iconst (v := (-1 : Int32)) hx hb dX3_lays_63 (by decide) ?_
      refine lv_icmp_eq (tgt := 74) hx hb dX3_lays_64 (by decide) (fun c_4 => ?_) (fun c_4 => ?_)
      · replace hf := ww_ip hf c_4
        refine lv_aload_n hx hb dX3_lays_74 rfl (lv_at hl 0 rfl) ?_
        obtain ⟨M_5, h_5, hf⟩ := ww_bS hf
        refine t3c_sweeps X hl.1 hK hD hR hS (Nat.le_trans (Nat.le_of_ble_eq_true rfl) hF) (Nat.le_trans (Nat.le_of_ble_eq_true rfl) hLo) h_5 (Nat.le_of_ble_eq_true rfl) dX3_lays_75 (fun H locs hR hS => ?_)
        refine lv_aload_n hx hb dX3_lays_78 rfl (lv_at hl 0 rfl) ?_
        refine t3g_20 X hK hR dX3_lays_79 ?_
        refine lv_istore (lv' := [(6, .int (ww_F M_5 20)), (0, .ref E.1), (1, .int x1), (2, .int x2), (3, .int x3), (4, .int x4), (5, .int x5)]) hx hb dX3_lays_82 hl (by decide) rfl (fun ls hl => ?_)
        refine lv_iload hx hb dX3_lays_84 (lv_at hl 5 rfl) ?_
        refine lv_if_eq (tgt := 99) hx hb dX3_lays_86 (by decide) (fun c_6 => ?_) (fun c_6 => ?_)
        · replace hf := ww_ip hf c_6
          refine lv_aload_n hx hb dX3_lays_99 rfl (lv_at hl 1 rfl) ?_
          refine lv_iload_n hx hb dX3_lays_100 rfl (lv_at hl 2 rfl) ?_
          refine lv_iload_n hx hb dX3_lays_101 rfl (lv_at hl 3 rfl) ?_
          refine lv_iload_n hx hb dX3_lays_102 rfl (lv_at hl 4 rfl) ?_
          obtain ⟨M_7, h_7, hf⟩ := ww_bS hf
          refine t3c_builderPuts X hl.1 hK hD hR hS (Nat.le_trans (Nat.le_of_ble_eq_true rfl) hF) (Nat.le_trans (Nat.le_of_ble_eq_true rfl) hLo) h_7 (Nat.le_of_ble_eq_true rfl) dX3_lays_103 (fun H locs hR hS => ?_)
          refine lv_aload_n hx hb dX3_lays_106 rfl (lv_at hl 1 rfl) ?_
          refine t3g_20 X hK hR dX3_lays_107 ?_
          refine lv_iload hx hb dX3_lays_110 (lv_at hl 0 rfl) ?_
          refine lv_isub hx hb dX3_lays_112 ?_
          exact hend dX3_lays_113 rfl rfl hf hR hS
        · replace hf := ww_in hf c_6
          refine lv_aload_n hx hb dX3_lays_89 rfl (lv_at hl 1 rfl) ?_
          refine lv_iload_n hx hb dX3_lays_90 rfl (lv_at hl 2 rfl) ?_
          refine lv_iload_n hx hb dX3_lays_91 rfl (lv_at hl 3 rfl) ?_
          refine lv_iload_n hx hb dX3_lays_92 rfl (lv_at hl 4 rfl) ?_
          obtain ⟨M_8, h_8, hf⟩ := ww_bS hf
          refine t3c_builderAdds X hl.1 hK hD hR hS (Nat.le_trans (Nat.le_of_ble_eq_true rfl) hF) (Nat.le_trans (Nat.le_of_ble_eq_true rfl) hLo) h_8 (Nat.le_of_ble_eq_true rfl) dX3_lays_93 (fun H locs hR hS => ?_)
          refine lv_goto (tgt := 106) hx hb dX3_lays_96 (by decide) ?_
          refine lv_aload_n hx hb dX3_lays_106 rfl (lv_at hl 1 rfl) ?_
          refine t3g_20 X hK hR dX3_lays_107 ?_
          refine lv_iload hx hb dX3_lays_110 (lv_at hl 0 rfl) ?_
          refine lv_isub hx hb dX3_lays_112 ?_
          exact hend dX3_lays_113 rfl rfl hf hR hS
      · replace hf := ww_in hf c_4
        refine lv_aload_n hx hb dX3_lays_67 rfl (lv_at hl 0 rfl) ?_
        refine lv_iload hx hb dX3_lays_68 (lv_at hl 5 rfl) ?_
        obtain ⟨r_9, M_9, h_9, hf⟩ := ww_b2S hf
        refine t3c_refused X hl.1 hK hD hR hS (Nat.le_trans (Nat.le_of_ble_eq_true rfl) hF) (Nat.le_trans (Nat.le_of_ble_eq_true rfl) hLo) h_9 (Nat.le_of_ble_eq_true rfl) dX3_lays_70 (fun H locs hR hS => ?_)
        exact hend dX3_lays_73 rfl rfl hf hR hS
    refine lv_icmp_ne (tgt := 61) hx hb dX3_lays_46 (by decide) (fun c_10 => ?_) (fun c_10 => ?_)
    · replace hf := ww_in hf c_10
      exact hj_2 (ww_sF M 0 (0 : Int32)) r_2 hf _ _ _ hR hS (lv_sub hl [1, 2, 3, 4, 5, 0] rfl)
    · replace hf := ww_ip hf c_10
      refine lv_aload_n hx hb dX3_lays_49 rfl (lv_at hl 1 rfl) ?_
      refine lv_iload_n hx hb dX3_lays_50 rfl (lv_at hl 2 rfl) ?_
      refine lv_iload_n hx hb dX3_lays_51 rfl (lv_at hl 3 rfl) ?_
      obtain ⟨r_11, M_11, h_11, hf⟩ := ww_b2S hf
      refine t3c_canPut X hl.1 hK hD hR hS (Nat.le_trans (Nat.le_of_ble_eq_true rfl) hF) (Nat.le_trans (Nat.le_of_ble_eq_true rfl) hLo) h_11 (Nat.le_of_ble_eq_true rfl) dX3_lays_52 (fun H locs hR hS => ?_)
      refine lv_if_ne (tgt := 61) hx hb dX3_lays_55 (by decide) (fun c_12 => ?_) (fun c_12 => ?_)
      · replace hf := ww_in hf c_12
        exact hj_2 M_11 r_2 hf _ _ _ hR hS (lv_sub hl [1, 2, 3, 4, 5, 0] rfl)
      · replace hf := ww_ip hf c_12
        refine lv_iconst (v := (3 : Int32)) hx hb dX3_lays_58 (by decide) ?_
        refine lv_istore (lv' := [(5, .int (3 : Int32)), (0, .ref E.1), (1, .int x1), (2, .int x2), (3, .int x3), (4, .int x4)]) hx hb dX3_lays_59 hl (by decide) rfl (fun ls hl => ?_)
        exact hj_2 M_11 (3 : Int32) hf _ _ _ hR hS (lv_sub hl [1, 2, 3, 4, 5, 0] rfl)
  refine lv_if_eq (tgt := 37) hx hb dX3_lays_16 (by decide) (fun c_13 => ?_) (fun c_13 => ?_)
  · replace hf := ww_ip hf c_13
    refine lv_iconst (v := (0 : Int32)) hx hb dX3_lays_37 (by decide) ?_
    exact hj_1 x1 (0 : Int32) hf _ _ _ hR hS hl
  · replace hf := ww_in hf c_13
    refine lv_iload_n hx hb dX3_lays_19 rfl (lv_at hl 3 rfl) ?_
    refine lv_i2l (v := x3.toInt64) hx hb dX3_lays_20 rfl ?_
    refine lv_ldc2 (v := (-999 : Int64)) hx hb hown (hts _ q2096) dX3_lays_21 ?_
    refine lv_ldc2 (v := (999 : Int64)) hx hb hown (hts _ q2095) dX3_lays_24 ?_
    obtain ⟨r_14, h_14, hf⟩ := ww_bS hf
    refine t3c_isIn X hl.1 (Nat.le_trans (Nat.le_of_ble_eq_true rfl) hF) (Nat.le_trans (Nat.le_of_ble_eq_true rfl) hLo) h_14 (Nat.le_of_ble_eq_true rfl) dX3_lays_27 ?_
    refine lv_if_eq (tgt := 37) hx hb dX3_lays_30 (by decide) (fun c_15 => ?_) (fun c_15 => ?_)
    · replace hf := ww_ip hf c_15
      refine lv_iconst (v := (0 : Int32)) hx hb dX3_lays_37 (by decide) ?_
      exact hj_1 x1 (0 : Int32) hf _ _ _ hR hS hl
    · replace hf := ww_in hf c_15
      refine lv_iconst (v := (1 : Int32)) hx hb dX3_lays_33 (by decide) ?_
      refine lv_goto (tgt := 38) hx hb dX3_lays_34 (by decide) ?_
      exact hj_1 x1 (1 : Int32) hf _ _ _ hR hS hl
section T3_lays_c
variable {p : Program} {l : Launch} {e : Env} {R : Room} {s : State} {m : MethodId} {args : Array Value} {below : List Frame} {meth : Method} {c : Code} {H : Heap} {locs : List Loc} {Q : State → Prop}
variable {cc : ByteArray} {pc : Nat} {ls : Array Slot} {rest : List Value} {nL : Nat} {E : ww_E} {A : Nat → Prop} {H0 : Heap}
theorem t3c_lays {M M' : ww_M} {x1 : Int32} {x2 : Int32} {x3 : Int32} {x4 : Int32} {r : Int32} (X : ww_C p m c cc nL s args RX3 lw_all) (hsz : ls.size = nL) (hK : t3_Kn E s) (hD : t3_D E) (hR : t3_H E M H) (hS : va_S (t3_A E) H0 H locs) (hF : 16 ≤ R.frames) (hLo : 365 ≤ R.locals) (hf : f3_lays M x1 x2 x3 x4 = some (r, M')) (hrest : (rest.map fun v => v.category).sum ≤ 8) (hdg : decode cc pc = .ok (.invokevirtual 400, 3)) (kk : ∀ (H1 : Heap) (locs1 : List Loc), t3_H E M' H1 → va_S (t3_A E) H0 H1 locs1 → W p l e R s m args below meth c H1 locs1 0 0 Q (F0 m (pc + 3) ls (.int r :: rest))) : W p l e R s m args below meth c H locs 0 0 Q (F0 m pc ls (.int x4 :: .int x3 :: .int x2 :: .int x1 :: .ref E.1 :: rest)) :=
  t3k_lays X hsz hK hD hR hS hF hLo (met3_lays l hD _ _ _ _ _ _ _ hf) hrest hdg kk
end T3_lays_c
noncomputable def f3_lay (M : ww_M) (x1 : Int32) (x2 : Int32) (x3 : Int32) : Option (Int32 × ww_M) :=
  ww_b2 (f3_lays M x1 x2 x3 (0 : Int32)) (fun r_1 M_1 => some (r_1, M_1))
set_option maxHeartbeats 4000000 in
set_option maxRecDepth 100000 in
theorem met3_lay (l : Launch) {E : ww_E} (hD : t3_D E) (M : ww_M) (x1 : Int32) (x2 : Int32) (x3 : Int32) (r : Int32) (M' : ww_M) (hf : f3_lay M x1 x2 x3 = some (r, M')) : t3_Met l yX3_lay cX3_lay 4 (some Jvm.ClassFile.FieldType.int) 16 365 E [.int x1, .int x2, .int x3] M M' r := by
  unfold f3_lay at hf
  refine t3_start (by decide +kernel) (Nat.le_of_ble_eq_true rfl) ?_
  intro p e s m args below meth c Rm Q X hK hF hLo hend ls hl hR hS
  obtain ⟨hx, hb, hml, hown, hts⟩ := id X
  replace hl : lv_has ls 4 [(0, .ref E.1), (1, .int x1), (2, .int x2), (3, .int x3)] := hl
  refine lv_aload_n hx hb dX3_lay_0 rfl (lv_at hl 0 rfl) ?_
  refine lv_iload_n hx hb dX3_lay_1 rfl (lv_at hl 1 rfl) ?_
  refine lv_iload_n hx hb dX3_lay_2 rfl (lv_at hl 2 rfl) ?_
  refine lv_iload_n hx hb dX3_lay_3 rfl (lv_at hl 3 rfl) ?_
  refine lv_iconst (v := (0 : Int32)) hx hb dX3_lay_4 (by decide) ?_
  obtain ⟨r_1, M_1, h_1, hf⟩ := ww_b2S hf
  refine t3c_lays X hl.1 hK hD hR hS (Nat.le_trans (Nat.le_of_ble_eq_true rfl) hF) (Nat.le_trans (Nat.le_of_ble_eq_true rfl) hLo) h_1 (Nat.le_of_ble_eq_true rfl) dX3_lay_5 (fun H locs hR hS => ?_)
  exact hend dX3_lay_8 rfl rfl hf hR hS
noncomputable def f3_add (M : ww_M) (x1 : Int32) (x2 : Int32) (x3 : Int32) : Option (Int32 × ww_M) :=
  ww_b2 (f3_lays M x1 x2 x3 (1 : Int32)) (fun r_1 M_1 => some (r_1, M_1))
set_option maxHeartbeats 4000000 in
set_option maxRecDepth 100000 in
theorem met3_add (l : Launch) {E : ww_E} (hD : t3_D E) (M : ww_M) (x1 : Int32) (x2 : Int32) (x3 : Int32) (r : Int32) (M' : ww_M) (hf : f3_add M x1 x2 x3 = some (r, M')) : t3_Met l yX3_add cX3_add 4 (some Jvm.ClassFile.FieldType.int) 16 365 E [.int x1, .int x2, .int x3] M M' r := by
  unfold f3_add at hf
  refine t3_start (by decide +kernel) (Nat.le_of_ble_eq_true rfl) ?_
  intro p e s m args below meth c Rm Q X hK hF hLo hend ls hl hR hS
  obtain ⟨hx, hb, hml, hown, hts⟩ := id X
  replace hl : lv_has ls 4 [(0, .ref E.1), (1, .int x1), (2, .int x2), (3, .int x3)] := hl
  refine lv_aload_n hx hb dX3_add_0 rfl (lv_at hl 0 rfl) ?_
  refine lv_iload_n hx hb dX3_add_1 rfl (lv_at hl 1 rfl) ?_
  refine lv_iload_n hx hb dX3_add_2 rfl (lv_at hl 2 rfl) ?_
  refine lv_iload_n hx hb dX3_add_3 rfl (lv_at hl 3 rfl) ?_
  refine lv_iconst (v := (1 : Int32)) hx hb dX3_add_4 (by decide) ?_
  obtain ⟨r_1, M_1, h_1, hf⟩ := ww_b2S hf
  refine t3c_lays X hl.1 hK hD hR hS (Nat.le_trans (Nat.le_of_ble_eq_true rfl) hF) (Nat.le_trans (Nat.le_of_ble_eq_true rfl) hLo) h_1 (Nat.le_of_ble_eq_true rfl) dX3_add_5 (fun H locs hR hS => ?_)
  exact hend dX3_add_8 rfl rfl hf hR hS
noncomputable def f3_take (M : ww_M) (x1 : Int32) (x2 : Int32) : Option (Int32 × ww_M) :=
  ww_b (f3_isIn x2.toInt64 (0 : Int64) (999 : Int64)) (fun r_1 => ww_b (f3_stops (ww_sF M 0 (0 : Int32)) x1 r_1) (fun r_2 => if r_2 = (-1 : Int32) then ww_b (f3_sweeps (ww_sF M 0 (0 : Int32))) (fun M_4 => ww_g (ww_i x1 4) (ww_g (ww_i x1 4) (ww_b2 (f3_takes M_4 (ww_X M_4 35 x1) x2 (ww_X M_4 36 x1)) (fun r_7 M_7 => ww_g (ww_i x1 4) (some (((ww_F (ww_sX M_7 35 x1 r_7) 20) - (ww_F M_4 20)), (ww_sX M_7 35 x1 r_7))))))) else ww_b2 (f3_refused (ww_sF M 0 (0 : Int32)) r_2) (fun r_9 M_9 => some (r_9, M_9))))
set_option maxHeartbeats 4000000 in
set_option maxRecDepth 100000 in
theorem met3_take (l : Launch) {E : ww_E} (hD : t3_D E) (M : ww_M) (x1 : Int32) (x2 : Int32) (r : Int32) (M' : ww_M) (hf : f3_take M x1 x2 = some (r, M')) : t3_Met l yX3_take cX3_take 5 (some Jvm.ClassFile.FieldType.int) 13 297 E [.int x1, .int x2] M M' r := by
  unfold f3_take at hf
  refine t3_start (by decide +kernel) (Nat.le_of_ble_eq_true rfl) ?_
  intro p e s m args below meth c Rm Q X hK hF hLo hend ls hl hR hS
  obtain ⟨hx, hb, hml, hown, hts⟩ := id X
  replace hl : lv_has ls 5 [(0, .ref E.1), (1, .int x1), (2, .int x2)] := hl
  refine lv_aload_n hx hb dX3_take_0 rfl (lv_at hl 0 rfl) ?_
  refine lv_iconst (v := (0 : Int32)) hx hb dX3_take_1 (by decide) ?_
  refine t3p_0 X hK hD hR hS dX3_take_2 (fun H locs hR hS => ?_)
  refine lv_aload_n hx hb dX3_take_5 rfl (lv_at hl 0 rfl) ?_
  refine lv_iload_n hx hb dX3_take_6 rfl (lv_at hl 1 rfl) ?_
  refine lv_iload_n hx hb dX3_take_7 rfl (lv_at hl 2 rfl) ?_
  refine lv_i2l (v := x2.toInt64) hx hb dX3_take_8 rfl ?_
  refine lv_lconst (v := (0 : Int64)) hx hb dX3_take_9 (by decide) ?_
  refine lv_ldc2 (v := (999 : Int64)) hx hb hown (hts _ q2095) dX3_take_10 ?_
  obtain ⟨r_1, h_1, hf⟩ := ww_bS hf
  refine t3c_isIn X hl.1 (Nat.le_trans (Nat.le_of_ble_eq_true rfl) hF) (Nat.le_trans (Nat.le_of_ble_eq_true rfl) hLo) h_1 (Nat.le_of_ble_eq_true rfl) dX3_take_13 ?_
  obtain ⟨r_2, h_2, hf⟩ := ww_bS hf
  refine t3c_stops X hl.1 hK hD hR hS (Nat.le_trans (Nat.le_of_ble_eq_true rfl) hF) (Nat.le_trans (Nat.le_of_ble_eq_true rfl) hLo) h_2 (Nat.le_of_ble_eq_true rfl) dX3_take_16 (fun H locs hR hS => ?_)
  refine lv_istore_n (lv' := [(3, .int r_2), (0, .ref E.1), (1, .int x1), (2, .int x2)]) hx hb dX3_take_19 rfl hl (by decide) rfl (fun ls hl => ?_)
  refine lv_iload_n hx hb dX3_take_20 rfl (lv_at hl 0 rfl) ?_
  refine lv_iconst (v := (-1 : Int32)) hx hb dX3_take_21 (by decide) ?_
  refine lv_icmp_eq (tgt := 31) hx hb dX3_take_22 (by decide) (fun c_3 => ?_) (fun c_3 => ?_)
  · replace hf := ww_ip hf c_3
    refine lv_aload_n hx hb dX3_take_31 rfl (lv_at hl 1 rfl) ?_
    obtain ⟨M_4, h_4, hf⟩ := ww_bS hf
    refine t3c_sweeps X hl.1 hK hD hR hS (Nat.le_trans (Nat.le_of_ble_eq_true rfl) hF) (Nat.le_trans (Nat.le_of_ble_eq_true rfl) hLo) h_4 (Nat.le_of_ble_eq_true rfl) dX3_take_32 (fun H locs hR hS => ?_)
    refine lv_aload_n hx hb dX3_take_35 rfl (lv_at hl 1 rfl) ?_
    refine t3g_20 X hK hR dX3_take_36 ?_
    refine lv_istore (lv' := [(4, .int (ww_F M_4 20)), (3, .int r_2), (0, .ref E.1), (1, .int x1), (2, .int x2)]) hx hb dX3_take_39 hl (by decide) rfl (fun ls hl => ?_)
    refine lv_aload_n hx hb dX3_take_41 rfl (lv_at hl 2 rfl) ?_
    refine t3g_35 X hK hR dX3_take_42 ?_
    refine lv_iload_n hx hb dX3_take_45 rfl (lv_at hl 3 rfl) ?_
    refine lv_aload_n hx hb dX3_take_46 rfl (lv_at hl 2 rfl) ?_
    refine lv_aload_n hx hb dX3_take_47 rfl (lv_at hl 2 rfl) ?_
    refine t3g_35 X hK hR dX3_take_48 ?_
    refine lv_iload_n hx hb dX3_take_51 rfl (lv_at hl 3 rfl) ?_
    obtain ⟨h_5, hf⟩ := ww_gS hf
    refine t3l_35 X hK hR h_5 dX3_take_52 ?_
    refine lv_iload_n hx hb dX3_take_53 rfl (lv_at hl 4 rfl) ?_
    refine lv_aload_n hx hb dX3_take_54 rfl (lv_at hl 2 rfl) ?_
    refine t3g_36 X hK hR dX3_take_55 ?_
    refine lv_iload_n hx hb dX3_take_58 rfl (lv_at hl 3 rfl) ?_
    obtain ⟨h_6, hf⟩ := ww_gS hf
    refine t3l_36 X hK hR h_6 dX3_take_59 ?_
    obtain ⟨r_7, M_7, h_7, hf⟩ := ww_b2S hf
    refine t3c_takes X hl.1 hK hD hR hS (Nat.le_trans (Nat.le_of_ble_eq_true rfl) hF) (Nat.le_trans (Nat.le_of_ble_eq_true rfl) hLo) h_7 (Nat.le_of_ble_eq_true rfl) dX3_take_60 (fun H locs hR hS => ?_)
    obtain ⟨h_8, hf⟩ := ww_gS hf
    refine t3s_35 X hK hD hR hS h_8 dX3_take_63 (fun H locs hR hS => ?_)
    refine lv_aload_n hx hb dX3_take_64 rfl (lv_at hl 2 rfl) ?_
    refine t3g_20 X hK hR dX3_take_65 ?_
    refine lv_iload hx hb dX3_take_68 (lv_at hl 0 rfl) ?_
    refine lv_isub hx hb dX3_take_70 ?_
    exact hend dX3_take_71 rfl rfl hf hR hS
  · replace hf := ww_in hf c_3
    refine lv_aload_n hx hb dX3_take_25 rfl (lv_at hl 1 rfl) ?_
    refine lv_iload_n hx hb dX3_take_26 rfl (lv_at hl 0 rfl) ?_
    obtain ⟨r_9, M_9, h_9, hf⟩ := ww_b2S hf
    refine t3c_refused X hl.1 hK hD hR hS (Nat.le_trans (Nat.le_of_ble_eq_true rfl) hF) (Nat.le_trans (Nat.le_of_ble_eq_true rfl) hLo) h_9 (Nat.le_of_ble_eq_true rfl) dX3_take_27 (fun H locs hR hS => ?_)
    exact hend dX3_take_30 rfl rfl hf hR hS
noncomputable def f3_cut_j1 (M : ww_M) (y1 : Int32) (y2 : Int32) (y3 : Int32) (t1 : Int32) (t2 : Int32) : Option (Int32 × ww_M) :=
  ww_b (f3_stops M t1 t2) (fun r_2 => if r_2 = (-1 : Int32) then ww_b (f3_sweeps M) (fun M_4 => ww_g (ww_i y1 4) (ww_g (ww_i y1 4) (ww_b2 (f3_cuts M_4 (ww_X M_4 35 y1) y2 y3 (1 : Int32) (ww_X M_4 36 y1)) (fun r_7 M_7 => ww_g (ww_i y1 4) (some (((ww_F (ww_sX M_7 35 y1 r_7) 20) - (ww_F M_4 20)), (ww_sX M_7 35 y1 r_7))))))) else ww_b2 (f3_refused M r_2) (fun r_9 M_9 => some (r_9, M_9)))
noncomputable def f3_cut (M : ww_M) (x1 : Int32) (x2 : Int32) (x3 : Int32) : Option (Int32 × ww_M) :=
  ww_b (f3_isIn x2.toInt64 (0 : Int64) (999 : Int64)) (fun r_1 => if r_1 = 0 then f3_cut_j1 (ww_sF M 0 (0 : Int32)) x1 x2 x3 x1 (0 : Int32) else ww_b (f3_isIn x3.toInt64 x2.toInt64 (999 : Int64)) (fun r_11 => if r_11 = 0 then f3_cut_j1 (ww_sF M 0 (0 : Int32)) x1 x2 x3 x1 (0 : Int32) else f3_cut_j1 (ww_sF M 0 (0 : Int32)) x1 x2 x3 x1 (1 : Int32)))
set_option maxHeartbeats 4000000 in
set_option maxRecDepth 100000 in
theorem met3_cut (l : Launch) {E : ww_E} (hD : t3_D E) (M : ww_M) (x1 : Int32) (x2 : Int32) (x3 : Int32) (r : Int32) (M' : ww_M) (hf : f3_cut M x1 x2 x3 = some (r, M')) : t3_Met l yX3_cut cX3_cut 6 (some Jvm.ClassFile.FieldType.int) 14 323 E [.int x1, .int x2, .int x3] M M' r := by
  unfold f3_cut at hf
  refine t3_start (by decide +kernel) (Nat.le_of_ble_eq_true rfl) ?_
  intro p e s m args below meth c Rm Q X hK hF hLo hend ls hl hR hS
  obtain ⟨hx, hb, hml, hown, hts⟩ := id X
  replace hl : lv_has ls 6 [(0, .ref E.1), (1, .int x1), (2, .int x2), (3, .int x3)] := hl
  refine lv_aload_n hx hb dX3_cut_0 rfl (lv_at hl 0 rfl) ?_
  refine lv_iconst (v := (0 : Int32)) hx hb dX3_cut_1 (by decide) ?_
  refine t3p_0 X hK hD hR hS dX3_cut_2 (fun H locs hR hS => ?_)
  refine lv_aload_n hx hb dX3_cut_5 rfl (lv_at hl 0 rfl) ?_
  refine lv_iload_n hx hb dX3_cut_6 rfl (lv_at hl 1 rfl) ?_
  refine lv_iload_n hx hb dX3_cut_7 rfl (lv_at hl 2 rfl) ?_
  refine lv_i2l (v := x2.toInt64) hx hb dX3_cut_8 rfl ?_
  refine lv_lconst (v := (0 : Int64)) hx hb dX3_cut_9 (by decide) ?_
  refine lv_ldc2 (v := (999 : Int64)) hx hb hown (hts _ q2095) dX3_cut_10 ?_
  obtain ⟨r_1, h_1, hf⟩ := ww_bS hf
  refine t3c_isIn X hl.1 (Nat.le_trans (Nat.le_of_ble_eq_true rfl) hF) (Nat.le_trans (Nat.le_of_ble_eq_true rfl) hLo) h_1 (Nat.le_of_ble_eq_true rfl) dX3_cut_13 ?_
  have hj_1 : ∀ (t1 : Int32) (t2 : Int32), f3_cut_j1 (ww_sF M 0 (0 : Int32)) x1 x2 x3 t1 t2 = some (r, M') → ∀ (H : Heap) (locs : List Loc) (ls : Array Slot), t3_H E (ww_sF M 0 (0 : Int32)) H → va_S (t3_A E) s.heap H locs → lv_has ls 6 [(0, .ref E.1), (1, .int x1), (2, .int x2), (3, .int x3)] → W p l e Rm s m args below meth c H locs 0 0 Q (F0 m 37 ls [.int t2, .int t1, .ref E.1]) := by
    intro t1 t2 hf H locs ls hR hS hl
    unfold f3_cut_j1 at hf
    obtain ⟨r_2, h_2, hf⟩ := ww_bS hf
    refine t3c_stops X hl.1 hK hD hR hS (Nat.le_trans (Nat.le_of_ble_eq_true rfl) hF) (Nat.le_trans (Nat.le_of_ble_eq_true rfl) hLo) h_2 (Nat.le_of_ble_eq_true rfl) dX3_cut_37 (fun H locs hR hS => ?_)
    refine lv_istore (lv' := [(4, .int r_2), (0, .ref E.1), (1, .int x1), (2, .int x2), (3, .int x3)]) hx hb dX3_cut_40 hl (by decide) rfl (fun ls hl => ?_)
    refine lv_iload hx hb dX3_cut_42 (lv_at hl 0 rfl) ?_
    refine lv_iconst (v := (-1 : Int32)) hx hb dX3_cut_44 (by decide) ?_
    refine lv_icmp_eq (tgt := 55) hx hb dX3_cut_45 (by decide) (fun c_3 => ?_) (fun c_3 => ?_)
    · replace hf := ww_ip hf c_3
      refine lv_aload_n hx hb dX3_cut_55 rfl (lv_at hl 1 rfl) ?_
      obtain ⟨M_4, h_4, hf⟩ := ww_bS hf
      refine t3c_sweeps X hl.1 hK hD hR hS (Nat.le_trans (Nat.le_of_ble_eq_true rfl) hF) (Nat.le_trans (Nat.le_of_ble_eq_true rfl) hLo) h_4 (Nat.le_of_ble_eq_true rfl) dX3_cut_56 (fun H locs hR hS => ?_)
      refine lv_aload_n hx hb dX3_cut_59 rfl (lv_at hl 1 rfl) ?_
      refine t3g_20 X hK hR dX3_cut_60 ?_
      refine lv_istore (lv' := [(5, .int (ww_F M_4 20)), (4, .int r_2), (0, .ref E.1), (1, .int x1), (2, .int x2), (3, .int x3)]) hx hb dX3_cut_63 hl (by decide) rfl (fun ls hl => ?_)
      refine lv_aload_n hx hb dX3_cut_65 rfl (lv_at hl 2 rfl) ?_
      refine t3g_35 X hK hR dX3_cut_66 ?_
      refine lv_iload_n hx hb dX3_cut_69 rfl (lv_at hl 3 rfl) ?_
      refine lv_aload_n hx hb dX3_cut_70 rfl (lv_at hl 2 rfl) ?_
      refine lv_aload_n hx hb dX3_cut_71 rfl (lv_at hl 2 rfl) ?_
      refine t3g_35 X hK hR dX3_cut_72 ?_
      refine lv_iload_n hx hb dX3_cut_75 rfl (lv_at hl 3 rfl) ?_
      obtain ⟨h_5, hf⟩ := ww_gS hf
      refine t3l_35 X hK hR h_5 dX3_cut_76 ?_
      refine lv_iload_n hx hb dX3_cut_77 rfl (lv_at hl 4 rfl) ?_
      refine lv_iload_n hx hb dX3_cut_78 rfl (lv_at hl 5 rfl) ?_
      refine lv_iconst (v := (1 : Int32)) hx hb dX3_cut_79 (by decide) ?_
      refine lv_aload_n hx hb dX3_cut_80 rfl (lv_at hl 2 rfl) ?_
      refine t3g_36 X hK hR dX3_cut_81 ?_
      refine lv_iload_n hx hb dX3_cut_84 rfl (lv_at hl 3 rfl) ?_
      obtain ⟨h_6, hf⟩ := ww_gS hf
      refine t3l_36 X hK hR h_6 dX3_cut_85 ?_
      obtain ⟨r_7, M_7, h_7, hf⟩ := ww_b2S hf
      refine t3c_cuts X hl.1 hK hD hR hS (Nat.le_trans (Nat.le_of_ble_eq_true rfl) hF) (Nat.le_trans (Nat.le_of_ble_eq_true rfl) hLo) h_7 (Nat.le_of_ble_eq_true rfl) dX3_cut_86 (fun H locs hR hS => ?_)
      obtain ⟨h_8, hf⟩ := ww_gS hf
      refine t3s_35 X hK hD hR hS h_8 dX3_cut_89 (fun H locs hR hS => ?_)
      refine lv_aload_n hx hb dX3_cut_90 rfl (lv_at hl 2 rfl) ?_
      refine t3g_20 X hK hR dX3_cut_91 ?_
      refine lv_iload hx hb dX3_cut_94 (lv_at hl 0 rfl) ?_
      refine lv_isub hx hb dX3_cut_96 ?_
      exact hend dX3_cut_97 rfl rfl hf hR hS
    · replace hf := ww_in hf c_3
      refine lv_aload_n hx hb dX3_cut_48 rfl (lv_at hl 1 rfl) ?_
      refine lv_iload hx hb dX3_cut_49 (lv_at hl 0 rfl) ?_
      obtain ⟨r_9, M_9, h_9, hf⟩ := ww_b2S hf
      refine t3c_refused X hl.1 hK hD hR hS (Nat.le_trans (Nat.le_of_ble_eq_true rfl) hF) (Nat.le_trans (Nat.le_of_ble_eq_true rfl) hLo) h_9 (Nat.le_of_ble_eq_true rfl) dX3_cut_51 (fun H locs hR hS => ?_)
      exact hend dX3_cut_54 rfl rfl hf hR hS
  refine lv_if_eq (tgt := 36) hx hb dX3_cut_16 (by decide) (fun c_10 => ?_) (fun c_10 => ?_)
  · replace hf := ww_ip hf c_10
    refine lv_iconst (v := (0 : Int32)) hx hb dX3_cut_36 (by decide) ?_
    exact hj_1 x1 (0 : Int32) hf _ _ _ hR hS hl
  · replace hf := ww_in hf c_10
    refine lv_iload_n hx hb dX3_cut_19 rfl (lv_at hl 3 rfl) ?_
    refine lv_i2l (v := x3.toInt64) hx hb dX3_cut_20 rfl ?_
    refine lv_iload_n hx hb dX3_cut_21 rfl (lv_at hl 2 rfl) ?_
    refine lv_i2l (v := x2.toInt64) hx hb dX3_cut_22 rfl ?_
    refine lv_ldc2 (v := (999 : Int64)) hx hb hown (hts _ q2095) dX3_cut_23 ?_
    obtain ⟨r_11, h_11, hf⟩ := ww_bS hf
    refine t3c_isIn X hl.1 (Nat.le_trans (Nat.le_of_ble_eq_true rfl) hF) (Nat.le_trans (Nat.le_of_ble_eq_true rfl) hLo) h_11 (Nat.le_of_ble_eq_true rfl) dX3_cut_26 ?_
    refine lv_if_eq (tgt := 36) hx hb dX3_cut_29 (by decide) (fun c_12 => ?_) (fun c_12 => ?_)
    · replace hf := ww_ip hf c_12
      refine lv_iconst (v := (0 : Int32)) hx hb dX3_cut_36 (by decide) ?_
      exact hj_1 x1 (0 : Int32) hf _ _ _ hR hS hl
    · replace hf := ww_in hf c_12
      refine lv_iconst (v := (1 : Int32)) hx hb dX3_cut_32 (by decide) ?_
      refine lv_goto (tgt := 37) hx hb dX3_cut_33 (by decide) ?_
      exact hj_1 x1 (1 : Int32) hf _ _ _ hR hS hl
noncomputable def f3_builderIncs_b2c (y1 : Int32) (y4 : Int32) (y5 : Int32) (M_5 : ww_M) (x6 : Int32) : Option ((ww_M × Int32) ⊕ (ww_M)) :=
  if y5 ≤ x6 then ww_x (some M_5) else ww_g (ww_i x6 60) (ww_b (f3_builderAdds M_5 y1 (ww_X M_5 47 x6) y4) (fun M_8 => some (.inl (M_8, (x6 + (1 : Int32))))))
noncomputable def f3_builderIncs_b2 (y1 : Int32) (y4 : Int32) (y5 : Int32) : (ww_M × Int32) → Option ((ww_M × Int32) ⊕ (ww_M)) := fun s9 => f3_builderIncs_b2c y1 y4 y5 s9.1 s9.2
noncomputable def f3_builderIncs_b1c (y1 : Int32) (y2 : Int32) (y3 : Int32) (y4 : Int32) (M_3 : ww_M) (x5 : Int32) (x6 : Int32) : Option ((ww_M × Int32 × Int32) ⊕ (ww_M)) :=
  if (ww_F M_3 30) ≤ x6 then ww_x (ww_U (f3_builderIncs_b2 y1 y4 x5) (M_3, (0 : Int32))) else ww_g (ww_i x6 140) (ww_b (f3_isIn ((ww_X M_3 26 x6).toInt64) y2.toInt64 y3.toInt64) (fun r_10 => if r_10 = 0 then some (.inl (M_3, x5, (x6 + (1 : Int32)))) else ww_g (ww_i x6 140) (ww_g (ww_i x5 60) (some (.inl ((ww_sX M_3 47 x5 (ww_X M_3 26 x6)), (x5 + (1 : Int32)), (x6 + (1 : Int32))))))))
noncomputable def f3_builderIncs_b1 (y1 : Int32) (y2 : Int32) (y3 : Int32) (y4 : Int32) : (ww_M × Int32 × Int32) → Option ((ww_M × Int32 × Int32) ⊕ (ww_M)) := fun s9 => f3_builderIncs_b1c y1 y2 y3 y4 s9.1 s9.2.1 s9.2.2
noncomputable def f3_builderIncs (M : ww_M) (x1 : Int32) (x2 : Int32) (x3 : Int32) (x4 : Int32) : Option (ww_M) :=
  ww_g (ww_i x1 4) (ww_b (f3_laysTree M (ww_X M 35 x1)) (fun M_2 => ww_U (f3_builderIncs_b1 x1 x2 x3 x4) (M_2, (0 : Int32), (0 : Int32))))
section T3_builderIncs_k
variable {p : Program} {l : Launch} {e : Env} {R : Room} {s : State} {m : MethodId} {args : Array Value} {below : List Frame} {meth : Method} {c : Code} {H : Heap} {locs : List Loc} {Q : State → Prop}
variable {cc : ByteArray} {pc : Nat} {ls : Array Slot} {rest : List Value} {nL : Nat} {E : ww_E} {A : Nat → Prop} {H0 : Heap}
theorem t3k_builderIncs {M M' : ww_M} {x1 : Int32} {x2 : Int32} {x3 : Int32} {x4 : Int32} (X : ww_C p m c cc nL s args RX3 lw_all) (hsz : ls.size = nL) (hK : t3_Kn E s) (hD : t3_D E) (hR : t3_H E M H) (hS : va_S (t3_A E) H0 H locs) (hF : 14 ≤ R.frames) (hLo : 322 ≤ R.locals) (hM : t3_MetV l yX3_builderIncs cX3_builderIncs 7 13 296 E [.int x1, .int x2, .int x3, .int x4] M M') (hrest : (rest.map fun v => v.category).sum ≤ 8) (hdg : decode cc pc = .ok (.invokevirtual 404, 3)) (kk : ∀ (H1 : Heap) (locs1 : List Loc), t3_H E M' H1 → va_S (t3_A E) H0 H1 locs1 → W p l e R s m args below meth c H1 locs1 0 0 Q (F0 m (pc + 3) ls (rest))) : W p l e R s m args below meth c H locs 0 0 Q (F0 m pc ls (.int x4 :: .int x3 :: .int x2 :: .int x1 :: .ref E.1 :: rest)) :=
  t3_callV (n := 4) X hsz hK hR hS (As := [.int x1, .int x2, .int x3, .int x4]) hM (lw_V q2229 q2231 qs116 q135 q2232) (by decide +kernel) rfl hF hLo (Nat.zero_le _) (Nat.zero_le _) hrest hdg kk
end T3_builderIncs_k
set_option maxHeartbeats 4000000 in
set_option maxRecDepth 100000 in
theorem met3_builderIncs (l : Launch) {E : ww_E} (hD : t3_D E) (M : ww_M) (x1 : Int32) (x2 : Int32) (x3 : Int32) (x4 : Int32) (M' : ww_M) (hf : f3_builderIncs M x1 x2 x3 x4 = some M') : t3_MetV l yX3_builderIncs cX3_builderIncs 7 13 296 E [.int x1, .int x2, .int x3, .int x4] M M' := by
  unfold f3_builderIncs at hf
  refine t3_startV (by decide +kernel) (Nat.le_of_ble_eq_true rfl) ?_
  intro p e s m args below meth c Rm Q X hK hF hLo hend ls hl hR hS
  obtain ⟨hx, hb, hml, hown, hts⟩ := id X
  replace hl : lv_has ls 7 [(0, .ref E.1), (1, .int x1), (2, .int x2), (3, .int x3), (4, .int x4)] := hl
  refine lv_aload_n hx hb dX3_builderIncs_0 rfl (lv_at hl 0 rfl) ?_
  refine lv_aload_n hx hb dX3_builderIncs_1 rfl (lv_at hl 0 rfl) ?_
  refine t3g_35 X hK hR dX3_builderIncs_2 ?_
  refine lv_iload_n hx hb dX3_builderIncs_5 rfl (lv_at hl 1 rfl) ?_
  obtain ⟨h_1, hf⟩ := ww_gS hf
  refine t3l_35 X hK hR h_1 dX3_builderIncs_6 ?_
  obtain ⟨M_2, h_2, hf⟩ := ww_bS hf
  refine t3c_laysTree X hl.1 hK hD hR hS (Nat.le_trans (Nat.le_of_ble_eq_true rfl) hF) (Nat.le_trans (Nat.le_of_ble_eq_true rfl) hLo) h_2 (Nat.le_of_ble_eq_true rfl) dX3_builderIncs_7 (fun H locs hR hS => ?_)
  refine lv_iconst (v := (0 : Int32)) hx hb dX3_builderIncs_10 (by decide) ?_
  refine lv_istore (lv' := [(5, .int (0 : Int32)), (0, .ref E.1), (1, .int x1), (2, .int x2), (3, .int x3), (4, .int x4)]) hx hb dX3_builderIncs_11 hl (by decide) rfl (fun ls hl => ?_)
  refine lv_iconst (v := (0 : Int32)) hx hb dX3_builderIncs_13 (by decide) ?_
  refine lv_istore (lv' := [(6, .int (0 : Int32)), (5, .int (0 : Int32)), (0, .ref E.1), (1, .int x1), (2, .int x2), (3, .int x3), (4, .int x4)]) hx hb dX3_builderIncs_14 hl (by decide) rfl (fun ls hl => ?_)
  have hL_1 : ∀ s9 : ww_M × Int32 × Int32, ww_U (f3_builderIncs_b1 x1 x2 x3 x4) s9 = some M' → ∀ (H : Heap) (locs : List Loc) (ls : Array Slot), t3_H E s9.1 H → va_S (t3_A E) s.heap H locs → lv_has ls 7 [(0, .ref E.1), (1, .int x1), (2, .int x2), (3, .int x3), (4, .int x4), (5, .int s9.2.1), (6, .int s9.2.2)] → W p l e Rm s m args below meth c H locs 0 0 Q (F0 m 16 ls []) := by
    refine ww_ind _ M' ?_
    intro s9 z_1 hf hz_1 H locs ls hR hS hl
    obtain ⟨M_3, x5, x6⟩ := s9
    replace hf : f3_builderIncs_b1c x1 x2 x3 x4 M_3 x5 x6 = some z_1 := hf
    unfold f3_builderIncs_b1c at hf
    replace hR : t3_H E M_3 H := hR
    replace hl : lv_has ls 7 [(0, .ref E.1), (1, .int x1), (2, .int x2), (3, .int x3), (4, .int x4), (5, .int x5), (6, .int x6)] := hl
    refine lv_iload hx hb dX3_builderIncs_16 (lv_at hl 6 rfl) ?_
    refine lv_aload_n hx hb dX3_builderIncs_18 rfl (lv_at hl 0 rfl) ?_
    refine t3g_30 X hK hR dX3_builderIncs_19 ?_
    refine lv_icmp_ge (tgt := 69) hx hb dX3_builderIncs_22 (by decide) (fun c_4 => ?_) (fun c_4 => ?_)
    · replace hf := ww_ip hf c_4
      replace hf := ww_xK hf hz_1
      refine lv_iconst (v := (0 : Int32)) hx hb dX3_builderIncs_69 (by decide) ?_
      refine lv_istore (lv' := [(6, .int (0 : Int32)), (0, .ref E.1), (1, .int x1), (2, .int x2), (3, .int x3), (4, .int x4), (5, .int x5)]) hx hb dX3_builderIncs_70 hl (by decide) rfl (fun ls hl => ?_)
      have hL_2 : ∀ s9 : ww_M × Int32, ww_U (f3_builderIncs_b2 x1 x4 x5) s9 = some M' → ∀ (H : Heap) (locs : List Loc) (ls : Array Slot), t3_H E s9.1 H → va_S (t3_A E) s.heap H locs → lv_has ls 7 [(0, .ref E.1), (1, .int x1), (4, .int x4), (5, .int x5), (6, .int s9.2)] → W p l e Rm s m args below meth c H locs 0 0 Q (F0 m 72 ls []) := by
        refine ww_ind _ M' ?_
        intro s9 z_2 hf hz_2 H locs ls hR hS hl
        obtain ⟨M_5, x6⟩ := s9
        replace hf : f3_builderIncs_b2c x1 x4 x5 M_5 x6 = some z_2 := hf
        unfold f3_builderIncs_b2c at hf
        replace hR : t3_H E M_5 H := hR
        replace hl : lv_has ls 7 [(0, .ref E.1), (1, .int x1), (4, .int x4), (5, .int x5), (6, .int x6)] := hl
        refine lv_iload hx hb dX3_builderIncs_72 (lv_at hl 4 rfl) ?_
        refine lv_iload hx hb dX3_builderIncs_74 (lv_at hl 3 rfl) ?_
        refine lv_icmp_ge (tgt := 99) hx hb dX3_builderIncs_76 (by decide) (fun c_6 => ?_) (fun c_6 => ?_)
        · replace hf := ww_ip hf c_6
          replace hf := ww_xK hf hz_2
          exact hend dX3_builderIncs_99 hf hR hS
        · replace hf := ww_in hf c_6
          refine lv_aload_n hx hb dX3_builderIncs_79 rfl (lv_at hl 0 rfl) ?_
          refine lv_iload_n hx hb dX3_builderIncs_80 rfl (lv_at hl 1 rfl) ?_
          refine lv_aload_n hx hb dX3_builderIncs_81 rfl (lv_at hl 0 rfl) ?_
          refine t3g_47 X hK hR dX3_builderIncs_82 ?_
          refine lv_iload hx hb dX3_builderIncs_85 (lv_at hl 4 rfl) ?_
          obtain ⟨h_7, hf⟩ := ww_gS hf
          refine t3l_47 X hK hR h_7 dX3_builderIncs_87 ?_
          refine lv_iload hx hb dX3_builderIncs_88 (lv_at hl 2 rfl) ?_
          obtain ⟨M_8, h_8, hf⟩ := ww_bS hf
          refine t3c_builderAdds X hl.1 hK hD hR hS (Nat.le_trans (Nat.le_of_ble_eq_true rfl) hF) (Nat.le_trans (Nat.le_of_ble_eq_true rfl) hLo) h_8 (Nat.le_of_ble_eq_true rfl) dX3_builderIncs_90 (fun H locs hR hS => ?_)
          refine lv_iinc (k := 4) (v := x6 + (1 : Int32)) (lv' := [(6, .int (x6 + (1 : Int32))), (0, .ref E.1), (1, .int x1), (4, .int x4), (5, .int x5)]) hx hb dX3_builderIncs_93 hl rfl rfl (by decide) rfl (fun ls hl => ?_)
          refine lv_goto (tgt := 72) hx hb dX3_builderIncs_96 (by decide) ?_
          exact ww_lK hf hz_2 _ _ _ hR hS (lv_sub hl [1, 2, 3, 4, 0] rfl)
      exact hL_2 (M_3, (0 : Int32)) hf _ _ _ hR hS (lv_sub hl [1, 2, 5, 6, 0] rfl)
    · replace hf := ww_in hf c_4
      refine lv_aload_n hx hb dX3_builderIncs_25 rfl (lv_at hl 0 rfl) ?_
      refine t3g_26 X hK hR dX3_builderIncs_26 ?_
      refine lv_iload hx hb dX3_builderIncs_29 (lv_at hl 6 rfl) ?_
      obtain ⟨h_9, hf⟩ := ww_gS hf
      refine t3l_26 X hK hR h_9 dX3_builderIncs_31 ?_
      refine lv_i2l (v := (ww_X M_3 26 x6).toInt64) hx hb dX3_builderIncs_32 rfl ?_
      refine lv_iload_n hx hb dX3_builderIncs_33 rfl (lv_at hl 2 rfl) ?_
      refine lv_i2l (v := x2.toInt64) hx hb dX3_builderIncs_34 rfl ?_
      refine lv_iload_n hx hb dX3_builderIncs_35 rfl (lv_at hl 3 rfl) ?_
      refine lv_i2l (v := x3.toInt64) hx hb dX3_builderIncs_36 rfl ?_
      obtain ⟨r_10, h_10, hf⟩ := ww_bS hf
      refine t3c_isIn X hl.1 (Nat.le_trans (Nat.le_of_ble_eq_true rfl) hF) (Nat.le_trans (Nat.le_of_ble_eq_true rfl) hLo) h_10 (Nat.le_of_ble_eq_true rfl) dX3_builderIncs_37 ?_
      refine lv_if_ne (tgt := 46) hx hb dX3_builderIncs_40 (by decide) (fun c_11 => ?_) (fun c_11 => ?_)
      · replace hf := ww_in hf c_11
        refine lv_aload_n hx hb dX3_builderIncs_46 rfl (lv_at hl 0 rfl) ?_
        refine t3g_47 X hK hR dX3_builderIncs_47 ?_
        refine lv_iload hx hb dX3_builderIncs_50 (lv_at hl 5 rfl) ?_
        refine lv_aload_n hx hb dX3_builderIncs_52 rfl (lv_at hl 0 rfl) ?_
        refine t3g_26 X hK hR dX3_builderIncs_53 ?_
        refine lv_iload hx hb dX3_builderIncs_56 (lv_at hl 6 rfl) ?_
        obtain ⟨h_12, hf⟩ := ww_gS hf
        refine t3l_26 X hK hR h_12 dX3_builderIncs_58 ?_
        obtain ⟨h_13, hf⟩ := ww_gS hf
        refine t3s_47 X hK hD hR hS h_13 dX3_builderIncs_59 (fun H locs hR hS => ?_)
        refine lv_iinc (k := 5) (v := x5 + (1 : Int32)) (lv' := [(5, .int (x5 + (1 : Int32))), (0, .ref E.1), (1, .int x1), (2, .int x2), (3, .int x3), (4, .int x4), (6, .int x6)]) hx hb dX3_builderIncs_60 hl rfl rfl (by decide) rfl (fun ls hl => ?_)
        refine lv_iinc (k := 6) (v := x6 + (1 : Int32)) (lv' := [(6, .int (x6 + (1 : Int32))), (5, .int (x5 + (1 : Int32))), (0, .ref E.1), (1, .int x1), (2, .int x2), (3, .int x3), (4, .int x4)]) hx hb dX3_builderIncs_63 hl rfl rfl (by decide) rfl (fun ls hl => ?_)
        refine lv_goto (tgt := 16) hx hb dX3_builderIncs_66 (by decide) ?_
        exact ww_lK hf hz_1 _ _ _ hR hS (lv_sub hl [2, 3, 4, 5, 6, 1, 0] rfl)
      · replace hf := ww_ip hf c_11
        refine lv_goto (tgt := 63) hx hb dX3_builderIncs_43 (by decide) ?_
        refine lv_iinc (k := 6) (v := x6 + (1 : Int32)) (lv' := [(6, .int (x6 + (1 : Int32))), (0, .ref E.1), (1, .int x1), (2, .int x2), (3, .int x3), (4, .int x4), (5, .int x5)]) hx hb dX3_builderIncs_63 hl rfl rfl (by decide) rfl (fun ls hl => ?_)
        refine lv_goto (tgt := 16) hx hb dX3_builderIncs_66 (by decide) ?_
        exact ww_lK hf hz_1 _ _ _ hR hS (lv_sub hl [1, 2, 3, 4, 5, 6, 0] rfl)
  exact hL_1 (M_2, (0 : Int32), (0 : Int32)) hf _ _ _ hR hS (lv_sub hl [2, 3, 4, 5, 6, 1, 0] rfl)
section T3_builderIncs_c
variable {p : Program} {l : Launch} {e : Env} {R : Room} {s : State} {m : MethodId} {args : Array Value} {below : List Frame} {meth : Method} {c : Code} {H : Heap} {locs : List Loc} {Q : State → Prop}
variable {cc : ByteArray} {pc : Nat} {ls : Array Slot} {rest : List Value} {nL : Nat} {E : ww_E} {A : Nat → Prop} {H0 : Heap}
theorem t3c_builderIncs {M M' : ww_M} {x1 : Int32} {x2 : Int32} {x3 : Int32} {x4 : Int32} (X : ww_C p m c cc nL s args RX3 lw_all) (hsz : ls.size = nL) (hK : t3_Kn E s) (hD : t3_D E) (hR : t3_H E M H) (hS : va_S (t3_A E) H0 H locs) (hF : 14 ≤ R.frames) (hLo : 322 ≤ R.locals) (hf : f3_builderIncs M x1 x2 x3 x4 = some M') (hrest : (rest.map fun v => v.category).sum ≤ 8) (hdg : decode cc pc = .ok (.invokevirtual 404, 3)) (kk : ∀ (H1 : Heap) (locs1 : List Loc), t3_H E M' H1 → va_S (t3_A E) H0 H1 locs1 → W p l e R s m args below meth c H1 locs1 0 0 Q (F0 m (pc + 3) ls (rest))) : W p l e R s m args below meth c H locs 0 0 Q (F0 m pc ls (.int x4 :: .int x3 :: .int x2 :: .int x1 :: .ref E.1 :: rest)) :=
  t3k_builderIncs X hsz hK hD hR hS hF hLo (met3_builderIncs l hD _ _ _ _ _ _ hf) hrest hdg kk
end T3_builderIncs_c
noncomputable def f3_inc_j1 (M : ww_M) (y1 : Int32) (y2 : Int32) (y3 : Int32) (y4 : Int32) (t1 : Int32) (t2 : Int32) : Option (Int32 × ww_M) :=
  ww_b (f3_stops M t1 t2) (fun r_2 => if r_2 = (-1 : Int32) then ww_b (f3_sweeps M) (fun M_4 => ww_b (f3_builderIncs M_4 y1 y2 y3 y4) (fun M_5 => some (((ww_F M_5 20) - (ww_F M_4 20)), M_5))) else ww_b2 (f3_refused M r_2) (fun r_6 M_6 => some (r_6, M_6)))
noncomputable def f3_inc (M : ww_M) (x1 : Int32) (x2 : Int32) (x3 : Int32) (x4 : Int32) : Option (Int32 × ww_M) :=
  ww_b (f3_isIn x2.toInt64 (0 : Int64) (999 : Int64)) (fun r_1 => if r_1 = 0 then f3_inc_j1 (ww_sF M 0 (0 : Int32)) x1 x2 x3 x4 x1 (0 : Int32) else ww_b (f3_isIn x3.toInt64 x2.toInt64 (999 : Int64)) (fun r_8 => if r_8 = 0 then f3_inc_j1 (ww_sF M 0 (0 : Int32)) x1 x2 x3 x4 x1 (0 : Int32) else ww_b (f3_isIn x4.toInt64 (-999 : Int64) (999 : Int64)) (fun r_10 => if r_10 = 0 then f3_inc_j1 (ww_sF M 0 (0 : Int32)) x1 x2 x3 x4 x1 (0 : Int32) else f3_inc_j1 (ww_sF M 0 (0 : Int32)) x1 x2 x3 x4 x1 (1 : Int32))))
set_option maxHeartbeats 4000000 in
set_option maxRecDepth 100000 in
theorem met3_inc (l : Launch) {E : ww_E} (hD : t3_D E) (M : ww_M) (x1 : Int32) (x2 : Int32) (x3 : Int32) (x4 : Int32) (r : Int32) (M' : ww_M) (hf : f3_inc M x1 x2 x3 x4 = some (r, M')) : t3_Met l yX3_inc cX3_inc 7 (some Jvm.ClassFile.FieldType.int) 14 322 E [.int x1, .int x2, .int x3, .int x4] M M' r := by
  unfold f3_inc at hf
  refine t3_start (by decide +kernel) (Nat.le_of_ble_eq_true rfl) ?_
  intro p e s m args below meth c Rm Q X hK hF hLo hend ls hl hR hS
  obtain ⟨hx, hb, hml, hown, hts⟩ := id X
  replace hl : lv_has ls 7 [(0, .ref E.1), (1, .int x1), (2, .int x2), (3, .int x3), (4, .int x4)] := hl
  refine lv_aload_n hx hb dX3_inc_0 rfl (lv_at hl 0 rfl) ?_
  refine lv_iconst (v := (0 : Int32)) hx hb dX3_inc_1 (by decide) ?_
  refine t3p_0 X hK hD hR hS dX3_inc_2 (fun H locs hR hS => ?_)
  refine lv_aload_n hx hb dX3_inc_5 rfl (lv_at hl 0 rfl) ?_
  refine lv_iload_n hx hb dX3_inc_6 rfl (lv_at hl 1 rfl) ?_
  refine lv_iload_n hx hb dX3_inc_7 rfl (lv_at hl 2 rfl) ?_
  refine lv_i2l (v := x2.toInt64) hx hb dX3_inc_8 rfl ?_
  refine lv_lconst (v := (0 : Int64)) hx hb dX3_inc_9 (by decide) ?_
  refine lv_ldc2 (v := (999 : Int64)) hx hb hown (hts _ q2095) dX3_inc_10 ?_
  obtain ⟨r_1, h_1, hf⟩ := ww_bS hf
  refine t3c_isIn X hl.1 (Nat.le_trans (Nat.le_of_ble_eq_true rfl) hF) (Nat.le_trans (Nat.le_of_ble_eq_true rfl) hLo) h_1 (Nat.le_of_ble_eq_true rfl) dX3_inc_13 ?_
  have hj_1 : ∀ (t1 : Int32) (t2 : Int32), f3_inc_j1 (ww_sF M 0 (0 : Int32)) x1 x2 x3 x4 t1 t2 = some (r, M') → ∀ (H : Heap) (locs : List Loc) (ls : Array Slot), t3_H E (ww_sF M 0 (0 : Int32)) H → va_S (t3_A E) s.heap H locs → lv_has ls 7 [(0, .ref E.1), (1, .int x1), (2, .int x2), (3, .int x3), (4, .int x4)] → W p l e Rm s m args below meth c H locs 0 0 Q (F0 m 52 ls [.int t2, .int t1, .ref E.1]) := by
    intro t1 t2 hf H locs ls hR hS hl
    unfold f3_inc_j1 at hf
    obtain ⟨r_2, h_2, hf⟩ := ww_bS hf
    refine t3c_stops X hl.1 hK hD hR hS (Nat.le_trans (Nat.le_of_ble_eq_true rfl) hF) (Nat.le_trans (Nat.le_of_ble_eq_true rfl) hLo) h_2 (Nat.le_of_ble_eq_true rfl) dX3_inc_52 (fun H locs hR hS => ?_)
    refine lv_istore (lv' := [(5, .int r_2), (0, .ref E.1), (1, .int x1), (2, .int x2), (3, .int x3), (4, .int x4)]) hx hb dX3_inc_55 hl (by decide) rfl (fun ls hl => ?_)
    refine lv_iload hx hb dX3_inc_57 (lv_at hl 0 rfl) ?_
    refine lv_iconst (v := (-1 : Int32)) hx hb dX3_inc_59 (by decide) ?_
    refine lv_icmp_eq (tgt := 70) hx hb dX3_inc_60 (by decide) (fun c_3 => ?_) (fun c_3 => ?_)
    · replace hf := ww_ip hf c_3
      refine lv_aload_n hx hb dX3_inc_70 rfl (lv_at hl 1 rfl) ?_
      obtain ⟨M_4, h_4, hf⟩ := ww_bS hf
      refine t3c_sweeps X hl.1 hK hD hR hS (Nat.le_trans (Nat.le_of_ble_eq_true rfl) hF) (Nat.le_trans (Nat.le_of_ble_eq_true rfl) hLo) h_4 (Nat.le_of_ble_eq_true rfl) dX3_inc_71 (fun H locs hR hS => ?_)
      refine lv_aload_n hx hb dX3_inc_74 rfl (lv_at hl 1 rfl) ?_
      refine t3g_20 X hK hR dX3_inc_75 ?_
      refine lv_istore (lv' := [(6, .int (ww_F M_4 20)), (5, .int r_2), (0, .ref E.1), (1, .int x1), (2, .int x2), (3, .int x3), (4, .int x4)]) hx hb dX3_inc_78 hl (by decide) rfl (fun ls hl => ?_)
      refine lv_aload_n hx hb dX3_inc_80 rfl (lv_at hl 2 rfl) ?_
      refine lv_iload_n hx hb dX3_inc_81 rfl (lv_at hl 3 rfl) ?_
      refine lv_iload_n hx hb dX3_inc_82 rfl (lv_at hl 4 rfl) ?_
      refine lv_iload_n hx hb dX3_inc_83 rfl (lv_at hl 5 rfl) ?_
      refine lv_iload hx hb dX3_inc_84 (lv_at hl 6 rfl) ?_
      obtain ⟨M_5, h_5, hf⟩ := ww_bS hf
      refine t3c_builderIncs X hl.1 hK hD hR hS (Nat.le_trans (Nat.le_of_ble_eq_true rfl) hF) (Nat.le_trans (Nat.le_of_ble_eq_true rfl) hLo) h_5 (Nat.le_of_ble_eq_true rfl) dX3_inc_86 (fun H locs hR hS => ?_)
      refine lv_aload_n hx hb dX3_inc_89 rfl (lv_at hl 2 rfl) ?_
      refine t3g_20 X hK hR dX3_inc_90 ?_
      refine lv_iload hx hb dX3_inc_93 (lv_at hl 0 rfl) ?_
      refine lv_isub hx hb dX3_inc_95 ?_
      exact hend dX3_inc_96 rfl rfl hf hR hS
    · replace hf := ww_in hf c_3
      refine lv_aload_n hx hb dX3_inc_63 rfl (lv_at hl 1 rfl) ?_
      refine lv_iload hx hb dX3_inc_64 (lv_at hl 0 rfl) ?_
      obtain ⟨r_6, M_6, h_6, hf⟩ := ww_b2S hf
      refine t3c_refused X hl.1 hK hD hR hS (Nat.le_trans (Nat.le_of_ble_eq_true rfl) hF) (Nat.le_trans (Nat.le_of_ble_eq_true rfl) hLo) h_6 (Nat.le_of_ble_eq_true rfl) dX3_inc_66 (fun H locs hR hS => ?_)
      exact hend dX3_inc_69 rfl rfl hf hR hS
  refine lv_if_eq (tgt := 51) hx hb dX3_inc_16 (by decide) (fun c_7 => ?_) (fun c_7 => ?_)
  · replace hf := ww_ip hf c_7
    refine lv_iconst (v := (0 : Int32)) hx hb dX3_inc_51 (by decide) ?_
    exact hj_1 x1 (0 : Int32) hf _ _ _ hR hS hl
  · replace hf := ww_in hf c_7
    refine lv_iload_n hx hb dX3_inc_19 rfl (lv_at hl 3 rfl) ?_
    refine lv_i2l (v := x3.toInt64) hx hb dX3_inc_20 rfl ?_
    refine lv_iload_n hx hb dX3_inc_21 rfl (lv_at hl 2 rfl) ?_
    refine lv_i2l (v := x2.toInt64) hx hb dX3_inc_22 rfl ?_
    refine lv_ldc2 (v := (999 : Int64)) hx hb hown (hts _ q2095) dX3_inc_23 ?_
    obtain ⟨r_8, h_8, hf⟩ := ww_bS hf
    refine t3c_isIn X hl.1 (Nat.le_trans (Nat.le_of_ble_eq_true rfl) hF) (Nat.le_trans (Nat.le_of_ble_eq_true rfl) hLo) h_8 (Nat.le_of_ble_eq_true rfl) dX3_inc_26 ?_
    refine lv_if_eq (tgt := 51) hx hb dX3_inc_29 (by decide) (fun c_9 => ?_) (fun c_9 => ?_)
    · replace hf := ww_ip hf c_9
      refine lv_iconst (v := (0 : Int32)) hx hb dX3_inc_51 (by decide) ?_
      exact hj_1 x1 (0 : Int32) hf _ _ _ hR hS hl
    · replace hf := ww_in hf c_9
      refine lv_iload hx hb dX3_inc_32 (lv_at hl 4 rfl) ?_
      refine lv_i2l (v := x4.toInt64) hx hb dX3_inc_34 rfl ?_
      refine lv_ldc2 (v := (-999 : Int64)) hx hb hown (hts _ q2096) dX3_inc_35 ?_
      refine lv_ldc2 (v := (999 : Int64)) hx hb hown (hts _ q2095) dX3_inc_38 ?_
      obtain ⟨r_10, h_10, hf⟩ := ww_bS hf
      refine t3c_isIn X hl.1 (Nat.le_trans (Nat.le_of_ble_eq_true rfl) hF) (Nat.le_trans (Nat.le_of_ble_eq_true rfl) hLo) h_10 (Nat.le_of_ble_eq_true rfl) dX3_inc_41 ?_
      refine lv_if_eq (tgt := 51) hx hb dX3_inc_44 (by decide) (fun c_11 => ?_) (fun c_11 => ?_)
      · replace hf := ww_ip hf c_11
        refine lv_iconst (v := (0 : Int32)) hx hb dX3_inc_51 (by decide) ?_
        exact hj_1 x1 (0 : Int32) hf _ _ _ hR hS hl
      · replace hf := ww_in hf c_11
        refine lv_iconst (v := (1 : Int32)) hx hb dX3_inc_47 (by decide) ?_
        refine lv_goto (tgt := 52) hx hb dX3_inc_48 (by decide) ?_
        exact hj_1 x1 (1 : Int32) hf _ _ _ hR hS hl
noncomputable def f3_snapped (M : ww_M) (x1 : Int32) : Option (Int32 × ww_M) :=
  ww_g (ww_i x1 4) (ww_g (ww_i x1 4) (ww_b2 (f3_newMap M (ww_X M 35 x1) (ww_X M 37 x1) (-1 : Int32)) (fun r_3 M_3 => ww_g (ww_i x1 4) (ww_b2 (f3_newToken (ww_sX M_3 37 x1 r_3)) (fun r_5 M_5 => ww_g (ww_i x1 4) (some (r_3, (ww_sX M_5 36 x1 r_5))))))))
section T3_snapped_k
variable {p : Program} {l : Launch} {e : Env} {R : Room} {s : State} {m : MethodId} {args : Array Value} {below : List Frame} {meth : Method} {c : Code} {H : Heap} {locs : List Loc} {Q : State → Prop}
variable {cc : ByteArray} {pc : Nat} {ls : Array Slot} {rest : List Value} {nL : Nat} {E : ww_E} {A : Nat → Prop} {H0 : Heap}
theorem t3k_snapped {M M' : ww_M} {x1 : Int32} {r : Int32} (X : ww_C p m c cc nL s args RX3 lw_all) (hsz : ls.size = nL) (hK : t3_Kn E s) (hD : t3_D E) (hR : t3_H E M H) (hS : va_S (t3_A E) H0 H locs) (hF : 15 ≤ R.frames) (hLo : 339 ≤ R.locals) (hM : t3_Met l yX3_snapped cX3_snapped 3 (some Jvm.ClassFile.FieldType.int) 14 317 E [.int x1] M M' r) (hrest : (rest.map fun v => v.category).sum ≤ 8) (hdg : decode cc pc = .ok (.invokevirtual 407, 3)) (kk : ∀ (H1 : Heap) (locs1 : List Loc), t3_H E M' H1 → va_S (t3_A E) H0 H1 locs1 → W p l e R s m args below meth c H1 locs1 0 0 Q (F0 m (pc + 3) ls (.int r :: rest))) : W p l e R s m args below meth c H locs 0 0 Q (F0 m pc ls (.int x1 :: .ref E.1 :: rest)) :=
  t3_callI (n := 1) X hsz hK hR hS (As := [.int x1]) hM (lw_V q2237 q2239 qs117 q135 q2240) (by decide +kernel) rfl hF hLo (Nat.zero_le _) (Nat.zero_le _) hrest hdg kk
end T3_snapped_k
set_option maxHeartbeats 4000000 in
set_option maxRecDepth 100000 in
theorem met3_snapped (l : Launch) {E : ww_E} (hD : t3_D E) (M : ww_M) (x1 : Int32) (r : Int32) (M' : ww_M) (hf : f3_snapped M x1 = some (r, M')) : t3_Met l yX3_snapped cX3_snapped 3 (some Jvm.ClassFile.FieldType.int) 14 317 E [.int x1] M M' r := by
  unfold f3_snapped at hf
  refine t3_start (by decide +kernel) (Nat.le_of_ble_eq_true rfl) ?_
  intro p e s m args below meth c Rm Q X hK hF hLo hend ls hl hR hS
  obtain ⟨hx, hb, hml, hown, hts⟩ := id X
  replace hl : lv_has ls 3 [(0, .ref E.1), (1, .int x1)] := hl
  refine lv_aload_n hx hb dX3_snapped_0 rfl (lv_at hl 0 rfl) ?_
  refine lv_aload_n hx hb dX3_snapped_1 rfl (lv_at hl 0 rfl) ?_
  refine t3g_35 X hK hR dX3_snapped_2 ?_
  refine lv_iload_n hx hb dX3_snapped_5 rfl (lv_at hl 1 rfl) ?_
  obtain ⟨h_1, hf⟩ := ww_gS hf
  refine t3l_35 X hK hR h_1 dX3_snapped_6 ?_
  refine lv_aload_n hx hb dX3_snapped_7 rfl (lv_at hl 0 rfl) ?_
  refine t3g_37 X hK hR dX3_snapped_8 ?_
  refine lv_iload_n hx hb dX3_snapped_11 rfl (lv_at hl 1 rfl) ?_
  obtain ⟨h_2, hf⟩ := ww_gS hf
  refine t3l_37 X hK hR h_2 dX3_snapped_12 ?_
  refine lv_iconst (v := (-1 : Int32)) hx hb dX3_snapped_13 (by decide) ?_
  obtain ⟨r_3, M_3, h_3, hf⟩ := ww_b2S hf
  refine t3c_newMap X hl.1 hK hD hR hS (Nat.le_trans (Nat.le_of_ble_eq_true rfl) hF) (Nat.le_trans (Nat.le_of_ble_eq_true rfl) hLo) h_3 (Nat.le_of_ble_eq_true rfl) dX3_snapped_14 (fun H locs hR hS => ?_)
  refine lv_istore_n (lv' := [(2, .int r_3), (0, .ref E.1), (1, .int x1)]) hx hb dX3_snapped_17 rfl hl (by decide) rfl (fun ls hl => ?_)
  refine lv_aload_n hx hb dX3_snapped_18 rfl (lv_at hl 1 rfl) ?_
  refine t3g_37 X hK hR dX3_snapped_19 ?_
  refine lv_iload_n hx hb dX3_snapped_22 rfl (lv_at hl 2 rfl) ?_
  refine lv_iload_n hx hb dX3_snapped_23 rfl (lv_at hl 0 rfl) ?_
  obtain ⟨h_4, hf⟩ := ww_gS hf
  refine t3s_37 X hK hD hR hS h_4 dX3_snapped_24 (fun H locs hR hS => ?_)
  refine lv_aload_n hx hb dX3_snapped_25 rfl (lv_at hl 1 rfl) ?_
  refine t3g_36 X hK hR dX3_snapped_26 ?_
  refine lv_iload_n hx hb dX3_snapped_29 rfl (lv_at hl 2 rfl) ?_
  refine lv_aload_n hx hb dX3_snapped_30 rfl (lv_at hl 1 rfl) ?_
  obtain ⟨r_5, M_5, h_5, hf⟩ := ww_b2S hf
  refine t3c_newToken X hl.1 hK hD hR hS (Nat.le_trans (Nat.le_of_ble_eq_true rfl) hF) (Nat.le_trans (Nat.le_of_ble_eq_true rfl) hLo) h_5 (Nat.le_of_ble_eq_true rfl) dX3_snapped_31 (fun H locs hR hS => ?_)
  obtain ⟨h_6, hf⟩ := ww_gS hf
  refine t3s_36 X hK hD hR hS h_6 dX3_snapped_34 (fun H locs hR hS => ?_)
  refine lv_iload_n hx hb dX3_snapped_35 rfl (lv_at hl 0 rfl) ?_
  exact hend dX3_snapped_36 rfl rfl hf hR hS
section T3_snapped_c
variable {p : Program} {l : Launch} {e : Env} {R : Room} {s : State} {m : MethodId} {args : Array Value} {below : List Frame} {meth : Method} {c : Code} {H : Heap} {locs : List Loc} {Q : State → Prop}
variable {cc : ByteArray} {pc : Nat} {ls : Array Slot} {rest : List Value} {nL : Nat} {E : ww_E} {A : Nat → Prop} {H0 : Heap}
theorem t3c_snapped {M M' : ww_M} {x1 : Int32} {r : Int32} (X : ww_C p m c cc nL s args RX3 lw_all) (hsz : ls.size = nL) (hK : t3_Kn E s) (hD : t3_D E) (hR : t3_H E M H) (hS : va_S (t3_A E) H0 H locs) (hF : 15 ≤ R.frames) (hLo : 339 ≤ R.locals) (hf : f3_snapped M x1 = some (r, M')) (hrest : (rest.map fun v => v.category).sum ≤ 8) (hdg : decode cc pc = .ok (.invokevirtual 407, 3)) (kk : ∀ (H1 : Heap) (locs1 : List Loc), t3_H E M' H1 → va_S (t3_A E) H0 H1 locs1 → W p l e R s m args below meth c H1 locs1 0 0 Q (F0 m (pc + 3) ls (.int r :: rest))) : W p l e R s m args below meth c H locs 0 0 Q (F0 m pc ls (.int x1 :: .ref E.1 :: rest)) :=
  t3k_snapped X hsz hK hD hR hS hF hLo (met3_snapped l hD _ _ _ _ hf) hrest hdg kk
end T3_snapped_c
noncomputable def f3_snap_j1 (M : ww_M) (y1 : Int32) (x2 : Int32) : Option (Int32 × ww_M) :=
  if x2 = (-1 : Int32) then ww_b2 (f3_snapped M y1) (fun r_4 M_4 => some (r_4, M_4)) else ww_b2 (f3_refused M x2) (fun r_3 M_3 => some (r_3, M_3))
noncomputable def f3_snap (M : ww_M) (x1 : Int32) : Option (Int32 × ww_M) :=
  ww_b (f3_stops (ww_sF M 0 (0 : Int32)) x1 (1 : Int32)) (fun r_1 => if r_1 = (-1 : Int32) then ww_b (f3_hasRoom (ww_sF M 0 (0 : Int32))) (fun r_6 => if r_6 = 0 then f3_snap_j1 (ww_sF M 0 (0 : Int32)) x1 (4 : Int32) else f3_snap_j1 (ww_sF M 0 (0 : Int32)) x1 r_1) else f3_snap_j1 (ww_sF M 0 (0 : Int32)) x1 r_1)
section T3_snap_k
variable {p : Program} {l : Launch} {e : Env} {R : Room} {s : State} {m : MethodId} {args : Array Value} {below : List Frame} {meth : Method} {c : Code} {H : Heap} {locs : List Loc} {Q : State → Prop}
variable {cc : ByteArray} {pc : Nat} {ls : Array Slot} {rest : List Value} {nL : Nat} {E : ww_E} {A : Nat → Prop} {H0 : Heap}
theorem t3k_snap {M M' : ww_M} {x1 : Int32} {r : Int32} (X : ww_C p m c cc nL s args RX3 lw_all) (hsz : ls.size = nL) (hK : t3_Kn E s) (hD : t3_D E) (hR : t3_H E M H) (hS : va_S (t3_A E) H0 H locs) (hF : 16 ≤ R.frames) (hLo : 361 ≤ R.locals) (hM : t3_Met l yX3_snap cX3_snap 3 (some Jvm.ClassFile.FieldType.int) 15 339 E [.int x1] M M' r) (hrest : (rest.map fun v => v.category).sum ≤ 8) (hdg : decode cc pc = .ok (.invokevirtual 410, 3)) (kk : ∀ (H1 : Heap) (locs1 : List Loc), t3_H E M' H1 → va_S (t3_A E) H0 H1 locs1 → W p l e R s m args below meth c H1 locs1 0 0 Q (F0 m (pc + 3) ls (.int r :: rest))) : W p l e R s m args below meth c H locs 0 0 Q (F0 m pc ls (.int x1 :: .ref E.1 :: rest)) :=
  t3_callI (n := 1) X hsz hK hR hS (As := [.int x1]) hM (lw_V q2245 q2234 q2235 q135 q2236) (by decide +kernel) rfl hF hLo (Nat.zero_le _) (Nat.zero_le _) hrest hdg kk
end T3_snap_k
set_option maxHeartbeats 4000000 in
set_option maxRecDepth 100000 in
theorem met3_snap (l : Launch) {E : ww_E} (hD : t3_D E) (M : ww_M) (x1 : Int32) (r : Int32) (M' : ww_M) (hf : f3_snap M x1 = some (r, M')) : t3_Met l yX3_snap cX3_snap 3 (some Jvm.ClassFile.FieldType.int) 15 339 E [.int x1] M M' r := by
  unfold f3_snap at hf
  refine t3_start (by decide +kernel) (Nat.le_of_ble_eq_true rfl) ?_
  intro p e s m args below meth c Rm Q X hK hF hLo hend ls hl hR hS
  obtain ⟨hx, hb, hml, hown, hts⟩ := id X
  replace hl : lv_has ls 3 [(0, .ref E.1), (1, .int x1)] := hl
  refine lv_aload_n hx hb dX3_snap_0 rfl (lv_at hl 0 rfl) ?_
  refine lv_iconst (v := (0 : Int32)) hx hb dX3_snap_1 (by decide) ?_
  refine t3p_0 X hK hD hR hS dX3_snap_2 (fun H locs hR hS => ?_)
  refine lv_aload_n hx hb dX3_snap_5 rfl (lv_at hl 0 rfl) ?_
  refine lv_iload_n hx hb dX3_snap_6 rfl (lv_at hl 1 rfl) ?_
  refine lv_iconst (v := (1 : Int32)) hx hb dX3_snap_7 (by decide) ?_
  obtain ⟨r_1, h_1, hf⟩ := ww_bS hf
  refine t3c_stops X hl.1 hK hD hR hS (Nat.le_trans (Nat.le_of_ble_eq_true rfl) hF) (Nat.le_trans (Nat.le_of_ble_eq_true rfl) hLo) h_1 (Nat.le_of_ble_eq_true rfl) dX3_snap_8 (fun H locs hR hS => ?_)
  refine lv_istore_n (lv' := [(2, .int r_1), (0, .ref E.1), (1, .int x1)]) hx hb dX3_snap_11 rfl hl (by decide) rfl (fun ls hl => ?_)
  refine lv_iload_n hx hb dX3_snap_12 rfl (lv_at hl 0 rfl) ?_
  refine lv_iconst (v := (-1 : Int32)) hx hb dX3_snap_13 (by decide) ?_
  have hj_1 : ∀ (x2 : Int32), f3_snap_j1 (ww_sF M 0 (0 : Int32)) x1 x2 = some (r, M') → ∀ (H : Heap) (locs : List Loc) (ls : Array Slot), t3_H E (ww_sF M 0 (0 : Int32)) H → va_S (t3_A E) s.heap H locs → lv_has ls 3 [(0, .ref E.1), (1, .int x1), (2, .int x2)] → W p l e Rm s m args below meth c H locs 0 0 Q (F0 m 26 ls []) := by
    intro x2 hf H locs ls hR hS hl
    unfold f3_snap_j1 at hf
    refine lv_iload_n hx hb dX3_snap_26 rfl (lv_at hl 2 rfl) ?_
    refine lv_iconst (v := (-1 : Int32)) hx hb dX3_snap_27 (by decide) ?_
    refine lv_icmp_ne (tgt := 39) hx hb dX3_snap_28 (by decide) (fun c_2 => ?_) (fun c_2 => ?_)
    · replace hf := ww_in hf c_2
      refine lv_aload_n hx hb dX3_snap_39 rfl (lv_at hl 0 rfl) ?_
      refine lv_iload_n hx hb dX3_snap_40 rfl (lv_at hl 2 rfl) ?_
      obtain ⟨r_3, M_3, h_3, hf⟩ := ww_b2S hf
      refine t3c_refused X hl.1 hK hD hR hS (Nat.le_trans (Nat.le_of_ble_eq_true rfl) hF) (Nat.le_trans (Nat.le_of_ble_eq_true rfl) hLo) h_3 (Nat.le_of_ble_eq_true rfl) dX3_snap_41 (fun H locs hR hS => ?_)
      exact hend dX3_snap_44 rfl rfl hf hR hS
    · replace hf := ww_ip hf c_2
      refine lv_aload_n hx hb dX3_snap_31 rfl (lv_at hl 0 rfl) ?_
      refine lv_iload_n hx hb dX3_snap_32 rfl (lv_at hl 1 rfl) ?_
      obtain ⟨r_4, M_4, h_4, hf⟩ := ww_b2S hf
      refine t3c_snapped X hl.1 hK hD hR hS (Nat.le_trans (Nat.le_of_ble_eq_true rfl) hF) (Nat.le_trans (Nat.le_of_ble_eq_true rfl) hLo) h_4 (Nat.le_of_ble_eq_true rfl) dX3_snap_33 (fun H locs hR hS => ?_)
      refine lv_goto (tgt := 44) hx hb dX3_snap_36 (by decide) ?_
      exact hend dX3_snap_44 rfl rfl hf hR hS
  refine lv_icmp_ne (tgt := 26) hx hb dX3_snap_14 (by decide) (fun c_5 => ?_) (fun c_5 => ?_)
  · replace hf := ww_in hf c_5
    exact hj_1 r_1 hf _ _ _ hR hS (lv_sub hl [1, 2, 0] rfl)
  · replace hf := ww_ip hf c_5
    refine lv_aload_n hx hb dX3_snap_17 rfl (lv_at hl 1 rfl) ?_
    obtain ⟨r_6, h_6, hf⟩ := ww_bS hf
    refine t3c_hasRoom X hl.1 hK hD hR hS (Nat.le_trans (Nat.le_of_ble_eq_true rfl) hF) (Nat.le_trans (Nat.le_of_ble_eq_true rfl) hLo) h_6 (Nat.le_of_ble_eq_true rfl) dX3_snap_18 (fun H locs hR hS => ?_)
    refine lv_if_ne (tgt := 26) hx hb dX3_snap_21 (by decide) (fun c_7 => ?_) (fun c_7 => ?_)
    · replace hf := ww_in hf c_7
      exact hj_1 r_1 hf _ _ _ hR hS (lv_sub hl [1, 2, 0] rfl)
    · replace hf := ww_ip hf c_7
      refine lv_iconst (v := (4 : Int32)) hx hb dX3_snap_24 (by decide) ?_
      refine lv_istore_n (lv' := [(2, .int (4 : Int32)), (0, .ref E.1), (1, .int x1)]) hx hb dX3_snap_25 rfl hl (by decide) rfl (fun ls hl => ?_)
      exact hj_1 (4 : Int32) hf _ _ _ hR hS (lv_sub hl [1, 2, 0] rfl)
section T3_snap_c
variable {p : Program} {l : Launch} {e : Env} {R : Room} {s : State} {m : MethodId} {args : Array Value} {below : List Frame} {meth : Method} {c : Code} {H : Heap} {locs : List Loc} {Q : State → Prop}
variable {cc : ByteArray} {pc : Nat} {ls : Array Slot} {rest : List Value} {nL : Nat} {E : ww_E} {A : Nat → Prop} {H0 : Heap}
theorem t3c_snap {M M' : ww_M} {x1 : Int32} {r : Int32} (X : ww_C p m c cc nL s args RX3 lw_all) (hsz : ls.size = nL) (hK : t3_Kn E s) (hD : t3_D E) (hR : t3_H E M H) (hS : va_S (t3_A E) H0 H locs) (hF : 16 ≤ R.frames) (hLo : 361 ≤ R.locals) (hf : f3_snap M x1 = some (r, M')) (hrest : (rest.map fun v => v.category).sum ≤ 8) (hdg : decode cc pc = .ok (.invokevirtual 410, 3)) (kk : ∀ (H1 : Heap) (locs1 : List Loc), t3_H E M' H1 → va_S (t3_A E) H0 H1 locs1 → W p l e R s m args below meth c H1 locs1 0 0 Q (F0 m (pc + 3) ls (.int r :: rest))) : W p l e R s m args below meth c H locs 0 0 Q (F0 m pc ls (.int x1 :: .ref E.1 :: rest)) :=
  t3k_snap X hsz hK hD hR hS hF hLo (met3_snap l hD _ _ _ _ hf) hrest hdg kk
end T3_snap_c
noncomputable def f3_freeze (M : ww_M) (x1 : Int32) : Option (Int32 × ww_M) :=
  ww_b2 (f3_snap M x1) (fun r_1 M_1 => if r_1 = (-1 : Int32) then some (r_1, M_1) else some (r_1, (ww_sF M_1 43 ((ww_F M_1 43) &&& (((1 : Int32) <<< (x1 &&& 31)) ^^^ (-1 : Int32))))))
set_option maxHeartbeats 4000000 in
set_option maxRecDepth 100000 in
theorem met3_freeze (l : Launch) {E : ww_E} (hD : t3_D E) (M : ww_M) (x1 : Int32) (r : Int32) (M' : ww_M) (hf : f3_freeze M x1 = some (r, M')) : t3_Met l yX3_freeze cX3_freeze 3 (some Jvm.ClassFile.FieldType.int) 16 361 E [.int x1] M M' r := by
  unfold f3_freeze at hf
  refine t3_start (by decide +kernel) (Nat.le_of_ble_eq_true rfl) ?_
  intro p e s m args below meth c Rm Q X hK hF hLo hend ls hl hR hS
  obtain ⟨hx, hb, hml, hown, hts⟩ := id X
  replace hl : lv_has ls 3 [(0, .ref E.1), (1, .int x1)] := hl
  refine lv_aload_n hx hb dX3_freeze_0 rfl (lv_at hl 0 rfl) ?_
  refine lv_iload_n hx hb dX3_freeze_1 rfl (lv_at hl 1 rfl) ?_
  obtain ⟨r_1, M_1, h_1, hf⟩ := ww_b2S hf
  refine t3c_snap X hl.1 hK hD hR hS (Nat.le_trans (Nat.le_of_ble_eq_true rfl) hF) (Nat.le_trans (Nat.le_of_ble_eq_true rfl) hLo) h_1 (Nat.le_of_ble_eq_true rfl) dX3_freeze_2 (fun H locs hR hS => ?_)
  refine lv_istore_n (lv' := [(2, .int r_1), (0, .ref E.1), (1, .int x1)]) hx hb dX3_freeze_5 rfl hl (by decide) rfl (fun ls hl => ?_)
  refine lv_iload_n hx hb dX3_freeze_6 rfl (lv_at hl 0 rfl) ?_
  refine lv_iconst (v := (-1 : Int32)) hx hb dX3_freeze_7 (by decide) ?_
  refine lv_icmp_eq (tgt := 25) hx hb dX3_freeze_8 (by decide) (fun c_2 => ?_) (fun c_2 => ?_)
  · replace hf := ww_ip hf c_2
    refine lv_iload_n hx hb dX3_freeze_25 rfl (lv_at hl 0 rfl) ?_
    exact hend dX3_freeze_26 rfl rfl hf hR hS
  · replace hf := ww_in hf c_2
    refine lv_aload_n hx hb dX3_freeze_11 rfl (lv_at hl 1 rfl) ?_
    refine lv_dup hx hb dX3_freeze_12 rfl ?_
    refine t3g_43 X hK hR dX3_freeze_13 ?_
    refine lv_iconst (v := (1 : Int32)) hx hb dX3_freeze_16 (by decide) ?_
    refine lv_iload_n hx hb dX3_freeze_17 rfl (lv_at hl 2 rfl) ?_
    refine lv_ishl hx hb dX3_freeze_18 ?_
    refine lv_iconst (v := (-1 : Int32)) hx hb dX3_freeze_19 (by decide) ?_
    refine lv_ixor hx hb dX3_freeze_20 ?_
    refine lv_iand hx hb dX3_freeze_21 ?_
    refine t3p_43 X hK hD hR hS dX3_freeze_22 (fun H locs hR hS => ?_)
    refine lv_iload_n hx hb dX3_freeze_25 rfl (lv_at hl 0 rfl) ?_
    exact hend dX3_freeze_26 rfl rfl hf hR hS
noncomputable def f3_peek (M : ww_M) (x1 : Int32) (x2 : Int32) : Option (Int32 × ww_M) :=
  ww_b (f3_isOpen (ww_sF M 0 (0 : Int32)) x1) (fun r_1 => if r_1 = 0 then some ((-1000000 : Int32), (ww_sF M 0 (0 : Int32))) else ww_g (ww_i x1 4) (ww_b (f3_valueAt (ww_sF M 0 (0 : Int32)) (ww_X (ww_sF M 0 (0 : Int32)) 35 x1) x2) (fun r_4 => some (r_4, (ww_sF M 0 (0 : Int32))))))
set_option maxHeartbeats 4000000 in
set_option maxRecDepth 100000 in
theorem met3_peek (l : Launch) {E : ww_E} (hD : t3_D E) (M : ww_M) (x1 : Int32) (x2 : Int32) (r : Int32) (M' : ww_M) (hf : f3_peek M x1 x2 = some (r, M')) : t3_Met l yX3_peek cX3_peek 3 (some Jvm.ClassFile.FieldType.int) 5 114 E [.int x1, .int x2] M M' r := by
  unfold f3_peek at hf
  refine t3_start (by decide +kernel) (Nat.le_of_ble_eq_true rfl) ?_
  intro p e s m args below meth c Rm Q X hK hF hLo hend ls hl hR hS
  obtain ⟨hx, hb, hml, hown, hts⟩ := id X
  replace hl : lv_has ls 3 [(0, .ref E.1), (1, .int x1), (2, .int x2)] := hl
  refine lv_aload_n hx hb dX3_peek_0 rfl (lv_at hl 0 rfl) ?_
  refine lv_iconst (v := (0 : Int32)) hx hb dX3_peek_1 (by decide) ?_
  refine t3p_0 X hK hD hR hS dX3_peek_2 (fun H locs hR hS => ?_)
  refine lv_aload_n hx hb dX3_peek_5 rfl (lv_at hl 0 rfl) ?_
  refine lv_iload_n hx hb dX3_peek_6 rfl (lv_at hl 1 rfl) ?_
  obtain ⟨r_1, h_1, hf⟩ := ww_bS hf
  refine t3c_isOpen X hl.1 hK hD hR hS (Nat.le_trans (Nat.le_of_ble_eq_true rfl) hF) (Nat.le_trans (Nat.le_of_ble_eq_true rfl) hLo) h_1 (Nat.le_of_ble_eq_true rfl) dX3_peek_7 (fun H locs hR hS => ?_)
  refine lv_if_eq (tgt := 27) hx hb dX3_peek_10 (by decide) (fun c_2 => ?_) (fun c_2 => ?_)
  · replace hf := ww_ip hf c_2
    refine lv_ldc (v := (-1000000 : Int32)) hx hb hown (hts _ q1942) dX3_peek_27 ?_
    exact hend dX3_peek_29 rfl rfl hf hR hS
  · replace hf := ww_in hf c_2
    refine lv_aload_n hx hb dX3_peek_13 rfl (lv_at hl 0 rfl) ?_
    refine lv_aload_n hx hb dX3_peek_14 rfl (lv_at hl 0 rfl) ?_
    refine t3g_35 X hK hR dX3_peek_15 ?_
    refine lv_iload_n hx hb dX3_peek_18 rfl (lv_at hl 1 rfl) ?_
    obtain ⟨h_3, hf⟩ := ww_gS hf
    refine t3l_35 X hK hR h_3 dX3_peek_19 ?_
    refine lv_iload_n hx hb dX3_peek_20 rfl (lv_at hl 2 rfl) ?_
    obtain ⟨r_4, h_4, hf⟩ := ww_bS hf
    refine t3c_valueAt X hl.1 hK hD hR hS (Nat.le_trans (Nat.le_of_ble_eq_true rfl) hF) (Nat.le_trans (Nat.le_of_ble_eq_true rfl) hLo) h_4 (Nat.le_of_ble_eq_true rfl) dX3_peek_21 (fun H locs hR hS => ?_)
    refine lv_goto (tgt := 29) hx hb dX3_peek_24 (by decide) ?_
    exact hend dX3_peek_29 rfl rfl hf hR hS
noncomputable def f3_ownNodes_b1c (M : ww_M) (y1 : Int32) (x2 : Int32) (x3 : Int32) : Option ((Int32 × Int32) ⊕ (Int32)) :=
  if (ww_F M 31) ≤ x3 then ww_x (some x2) else ww_g (ww_i x3 240) (ww_g (ww_i (ww_X M 28 x3) 12000) (ww_g (ww_i y1 4) (if (ww_X M 12 (ww_X M 28 x3)) = (ww_X M 36 y1) then some (.inl ((x2 + (1 : Int32)), (x3 + (1 : Int32)))) else some (.inl ((x2 + (0 : Int32)), (x3 + (1 : Int32)))))))
noncomputable def f3_ownNodes_b1 (M : ww_M) (y1 : Int32) : (Int32 × Int32) → Option ((Int32 × Int32) ⊕ (Int32)) := fun s9 => f3_ownNodes_b1c M y1 s9.1 s9.2
noncomputable def f3_ownNodes (M : ww_M) (x1 : Int32) : Option (Int32) :=
  ww_U (f3_ownNodes_b1 M x1) ((0 : Int32), (0 : Int32))
section T3_ownNodes_k
variable {p : Program} {l : Launch} {e : Env} {R : Room} {s : State} {m : MethodId} {args : Array Value} {below : List Frame} {meth : Method} {c : Code} {H : Heap} {locs : List Loc} {Q : State → Prop}
variable {cc : ByteArray} {pc : Nat} {ls : Array Slot} {rest : List Value} {nL : Nat} {E : ww_E} {A : Nat → Prop} {H0 : Heap}
theorem t3k_ownNodes {M : ww_M} {x1 : Int32} {r : Int32} (X : ww_C p m c cc nL s args RX3 lw_all) (hsz : ls.size = nL) (hK : t3_Kn E s) (hD : t3_D E) (hR : t3_H E M H) (hS : va_S (t3_A E) H0 H locs) (hF : 1 ≤ R.frames) (hLo : 23 ≤ R.locals) (hM : t3_Met l yX3_ownNodes cX3_ownNodes 4 (some Jvm.ClassFile.FieldType.int) 0 0 E [.int x1] M M r) (hrest : (rest.map fun v => v.category).sum ≤ 8) (hdg : decode cc pc = .ok (.invokevirtual 413, 3)) (kk : ∀ (H1 : Heap) (locs1 : List Loc), t3_H E M H1 → va_S (t3_A E) H0 H1 locs1 → W p l e R s m args below meth c H1 locs1 0 0 Q (F0 m (pc + 3) ls (.int r :: rest))) : W p l e R s m args below meth c H locs 0 0 Q (F0 m pc ls (.int x1 :: .ref E.1 :: rest)) :=
  t3_callI (n := 1) X hsz hK hR hS (As := [.int x1]) hM (lw_V q2254 q2256 qs118 q135 q2257) (by decide +kernel) rfl hF hLo (Nat.zero_le _) (Nat.zero_le _) hrest hdg kk
end T3_ownNodes_k
set_option maxHeartbeats 4000000 in
set_option maxRecDepth 100000 in
theorem met3_ownNodes (l : Launch) {E : ww_E} (hD : t3_D E) (M : ww_M) (x1 : Int32) (r : Int32) (hf : f3_ownNodes M x1 = some r) : t3_Met l yX3_ownNodes cX3_ownNodes 4 (some Jvm.ClassFile.FieldType.int) 0 0 E [.int x1] M M r := by
  unfold f3_ownNodes at hf
  refine t3_startP (by decide +kernel) (Nat.le_of_ble_eq_true rfl) ?_
  intro p e s m args below meth c Rm Q X hK hF hLo hend ls hl hR hS
  obtain ⟨hx, hb, hml, hown, hts⟩ := id X
  replace hl : lv_has ls 4 [(0, .ref E.1), (1, .int x1)] := hl
  refine lv_iconst (v := (0 : Int32)) hx hb dX3_ownNodes_0 (by decide) ?_
  refine lv_istore_n (lv' := [(2, .int (0 : Int32)), (0, .ref E.1), (1, .int x1)]) hx hb dX3_ownNodes_1 rfl hl (by decide) rfl (fun ls hl => ?_)
  refine lv_iconst (v := (0 : Int32)) hx hb dX3_ownNodes_2 (by decide) ?_
  refine lv_istore_n (lv' := [(3, .int (0 : Int32)), (2, .int (0 : Int32)), (0, .ref E.1), (1, .int x1)]) hx hb dX3_ownNodes_3 rfl hl (by decide) rfl (fun ls hl => ?_)
  have hL_1 : ∀ s9 : Int32 × Int32, ww_U (f3_ownNodes_b1 M x1) s9 = some r → ∀ (H : Heap) (locs : List Loc) (ls : Array Slot), t3_H E M H → va_S (t3_A E) s.heap H locs → lv_has ls 4 [(0, .ref E.1), (1, .int x1), (2, .int s9.1), (3, .int s9.2)] → W p l e Rm s m args below meth c H locs 0 0 Q (F0 m 4 ls []) := by
    refine ww_ind _ r ?_
    intro s9 z_1 hf hz_1 H locs ls hR hS hl
    obtain ⟨x2, x3⟩ := s9
    replace hf : f3_ownNodes_b1c M x1 x2 x3 = some z_1 := hf
    unfold f3_ownNodes_b1c at hf
    replace hl : lv_has ls 4 [(0, .ref E.1), (1, .int x1), (2, .int x2), (3, .int x3)] := hl
    refine lv_iload_n hx hb dX3_ownNodes_4 rfl (lv_at hl 3 rfl) ?_
    refine lv_aload_n hx hb dX3_ownNodes_5 rfl (lv_at hl 0 rfl) ?_
    refine t3g_31 X hK hR dX3_ownNodes_6 ?_
    refine lv_icmp_ge (tgt := 46) hx hb dX3_ownNodes_9 (by decide) (fun c_1 => ?_) (fun c_1 => ?_)
    · replace hf := ww_ip hf c_1
      replace hf := ww_xK hf hz_1
      refine lv_iload_n hx hb dX3_ownNodes_46 rfl (lv_at hl 2 rfl) ?_
      exact hend dX3_ownNodes_47 rfl rfl hf hR hS
    · replace hf := ww_in hf c_1
      refine lv_iload_n hx hb dX3_ownNodes_12 rfl (lv_at hl 2 rfl) ?_
      refine lv_aload_n hx hb dX3_ownNodes_13 rfl (lv_at hl 0 rfl) ?_
      refine t3g_12 X hK hR dX3_ownNodes_14 ?_
      refine lv_aload_n hx hb dX3_ownNodes_17 rfl (lv_at hl 0 rfl) ?_
      refine t3g_28 X hK hR dX3_ownNodes_18 ?_
      refine lv_iload_n hx hb dX3_ownNodes_21 rfl (lv_at hl 3 rfl) ?_
      obtain ⟨h_2, hf⟩ := ww_gS hf
      refine t3l_28 X hK hR h_2 dX3_ownNodes_22 ?_
      obtain ⟨h_3, hf⟩ := ww_gS hf
      refine t3l_12 X hK hR h_3 dX3_ownNodes_23 ?_
      refine lv_aload_n hx hb dX3_ownNodes_24 rfl (lv_at hl 0 rfl) ?_
      refine t3g_36 X hK hR dX3_ownNodes_25 ?_
      refine lv_iload_n hx hb dX3_ownNodes_28 rfl (lv_at hl 1 rfl) ?_
      obtain ⟨h_4, hf⟩ := ww_gS hf
      refine t3l_36 X hK hR h_4 dX3_ownNodes_29 ?_
      refine lv_icmp_ne (tgt := 37) hx hb dX3_ownNodes_30 (by decide) (fun c_5 => ?_) (fun c_5 => ?_)
      · replace hf := ww_in hf c_5
        refine lv_iconst (v := (0 : Int32)) hx hb dX3_ownNodes_37 (by decide) ?_
        refine lv_iadd hx hb dX3_ownNodes_38 ?_
        refine lv_istore_n (lv' := [(2, .int (x2 + (0 : Int32))), (0, .ref E.1), (1, .int x1), (3, .int x3)]) hx hb dX3_ownNodes_39 rfl hl (by decide) rfl (fun ls hl => ?_)
        refine lv_iinc (k := 3) (v := x3 + (1 : Int32)) (lv' := [(3, .int (x3 + (1 : Int32))), (2, .int (x2 + (0 : Int32))), (0, .ref E.1), (1, .int x1)]) hx hb dX3_ownNodes_40 hl rfl rfl (by decide) rfl (fun ls hl => ?_)
        refine lv_goto (tgt := 4) hx hb dX3_ownNodes_43 (by decide) ?_
        exact ww_lK hf hz_1 _ _ _ hR hS (lv_sub hl [2, 3, 1, 0] rfl)
      · replace hf := ww_ip hf c_5
        refine lv_iconst (v := (1 : Int32)) hx hb dX3_ownNodes_33 (by decide) ?_
        refine lv_goto (tgt := 38) hx hb dX3_ownNodes_34 (by decide) ?_
        refine lv_iadd hx hb dX3_ownNodes_38 ?_
        refine lv_istore_n (lv' := [(2, .int (x2 + (1 : Int32))), (0, .ref E.1), (1, .int x1), (3, .int x3)]) hx hb dX3_ownNodes_39 rfl hl (by decide) rfl (fun ls hl => ?_)
        refine lv_iinc (k := 3) (v := x3 + (1 : Int32)) (lv' := [(3, .int (x3 + (1 : Int32))), (2, .int (x2 + (1 : Int32))), (0, .ref E.1), (1, .int x1)]) hx hb dX3_ownNodes_40 hl rfl rfl (by decide) rfl (fun ls hl => ?_)
        refine lv_goto (tgt := 4) hx hb dX3_ownNodes_43 (by decide) ?_
        exact ww_lK hf hz_1 _ _ _ hR hS (lv_sub hl [2, 3, 1, 0] rfl)
  exact hL_1 ((0 : Int32), (0 : Int32)) hf _ _ _ hR hS (lv_sub hl [2, 3, 1, 0] rfl)
section T3_ownNodes_c
variable {p : Program} {l : Launch} {e : Env} {R : Room} {s : State} {m : MethodId} {args : Array Value} {below : List Frame} {meth : Method} {c : Code} {H : Heap} {locs : List Loc} {Q : State → Prop}
variable {cc : ByteArray} {pc : Nat} {ls : Array Slot} {rest : List Value} {nL : Nat} {E : ww_E} {A : Nat → Prop} {H0 : Heap}
theorem t3c_ownNodes {M : ww_M} {x1 : Int32} {r : Int32} (X : ww_C p m c cc nL s args RX3 lw_all) (hsz : ls.size = nL) (hK : t3_Kn E s) (hD : t3_D E) (hR : t3_H E M H) (hS : va_S (t3_A E) H0 H locs) (hF : 1 ≤ R.frames) (hLo : 23 ≤ R.locals) (hf : f3_ownNodes M x1 = some r) (hrest : (rest.map fun v => v.category).sum ≤ 8) (hdg : decode cc pc = .ok (.invokevirtual 413, 3)) (kk : ∀ (H1 : Heap) (locs1 : List Loc), t3_H E M H1 → va_S (t3_A E) H0 H1 locs1 → W p l e R s m args below meth c H1 locs1 0 0 Q (F0 m (pc + 3) ls (.int r :: rest))) : W p l e R s m args below meth c H locs 0 0 Q (F0 m pc ls (.int x1 :: .ref E.1 :: rest)) :=
  t3k_ownNodes X hsz hK hD hR hS hF hLo (met3_ownNodes l hD _ _ _ hf) hrest hdg kk
end T3_ownNodes_c
noncomputable def f3_builder (M : ww_M) (x1 : Int32) (x2 : Int32) : Option (Int32 × ww_M) :=
  ww_b (f3_isOpen (ww_sF M 0 (0 : Int32)) x1) (fun r_1 => if r_1 = 0 then some ((-1000000 : Int32), (ww_sF M 0 (0 : Int32))) else ww_b (f3_isIn x2.toInt64 (0 : Int64) (3 : Int64)) (fun r_3 => if r_3 = 0 then some ((-1000000 : Int32), (ww_sF M 0 (0 : Int32))) else ww_g (ww_i x1 4) (ww_b (f3_laysTree (ww_sF M 0 (0 : Int32)) (ww_X (ww_sF M 0 (0 : Int32)) 35 x1)) (fun M_6 => if x2 = 0 then some ((ww_F M_6 30), M_6) else if x2 = (1 : Int32) then some ((ww_F M_6 31), M_6) else if x2 = (2 : Int32) then ww_b (f3_ownNodes M_6 x1) (fun r_11 => some (r_11, M_6)) else ww_g (ww_i x1 4) (some ((ww_X M_6 37 x1), M_6))))))
set_option maxHeartbeats 4000000 in
set_option maxRecDepth 100000 in
theorem met3_builder (l : Launch) {E : ww_E} (hD : t3_D E) (M : ww_M) (x1 : Int32) (x2 : Int32) (r : Int32) (M' : ww_M) (hf : f3_builder M x1 x2 = some (r, M')) : t3_Met l yX3_builder cX3_builder 3 (some Jvm.ClassFile.FieldType.int) 13 296 E [.int x1, .int x2] M M' r := by
  unfold f3_builder at hf
  refine t3_start (by decide +kernel) (Nat.le_of_ble_eq_true rfl) ?_
  intro p e s m args below meth c Rm Q X hK hF hLo hend ls hl hR hS
  obtain ⟨hx, hb, hml, hown, hts⟩ := id X
  replace hl : lv_has ls 3 [(0, .ref E.1), (1, .int x1), (2, .int x2)] := hl
  refine lv_aload_n hx hb dX3_builder_0 rfl (lv_at hl 0 rfl) ?_
  refine lv_iconst (v := (0 : Int32)) hx hb dX3_builder_1 (by decide) ?_
  refine t3p_0 X hK hD hR hS dX3_builder_2 (fun H locs hR hS => ?_)
  refine lv_aload_n hx hb dX3_builder_5 rfl (lv_at hl 0 rfl) ?_
  refine lv_iload_n hx hb dX3_builder_6 rfl (lv_at hl 1 rfl) ?_
  obtain ⟨r_1, h_1, hf⟩ := ww_bS hf
  refine t3c_isOpen X hl.1 hK hD hR hS (Nat.le_trans (Nat.le_of_ble_eq_true rfl) hF) (Nat.le_trans (Nat.le_of_ble_eq_true rfl) hLo) h_1 (Nat.le_of_ble_eq_true rfl) dX3_builder_7 (fun H locs hR hS => ?_)
  refine lv_if_eq (tgt := 25) hx hb dX3_builder_10 (by decide) (fun c_2 => ?_) (fun c_2 => ?_)
  · replace hf := ww_ip hf c_2
    refine lv_ldc (v := (-1000000 : Int32)) hx hb hown (hts _ q1942) dX3_builder_25 ?_
    exact hend dX3_builder_27 rfl rfl hf hR hS
  · replace hf := ww_in hf c_2
    refine lv_iload_n hx hb dX3_builder_13 rfl (lv_at hl 2 rfl) ?_
    refine lv_i2l (v := x2.toInt64) hx hb dX3_builder_14 rfl ?_
    refine lv_lconst (v := (0 : Int64)) hx hb dX3_builder_15 (by decide) ?_
    refine lv_ldc2 (v := (3 : Int64)) hx hb hown (hts _ q2027) dX3_builder_16 ?_
    obtain ⟨r_3, h_3, hf⟩ := ww_bS hf
    refine t3c_isIn X hl.1 (Nat.le_trans (Nat.le_of_ble_eq_true rfl) hF) (Nat.le_trans (Nat.le_of_ble_eq_true rfl) hLo) h_3 (Nat.le_of_ble_eq_true rfl) dX3_builder_19 ?_
    refine lv_if_ne (tgt := 28) hx hb dX3_builder_22 (by decide) (fun c_4 => ?_) (fun c_4 => ?_)
    · replace hf := ww_in hf c_4
      refine lv_aload_n hx hb dX3_builder_28 rfl (lv_at hl 0 rfl) ?_
      refine lv_aload_n hx hb dX3_builder_29 rfl (lv_at hl 0 rfl) ?_
      refine t3g_35 X hK hR dX3_builder_30 ?_
      refine lv_iload_n hx hb dX3_builder_33 rfl (lv_at hl 1 rfl) ?_
      obtain ⟨h_5, hf⟩ := ww_gS hf
      refine t3l_35 X hK hR h_5 dX3_builder_34 ?_
      obtain ⟨M_6, h_6, hf⟩ := ww_bS hf
      refine t3c_laysTree X hl.1 hK hD hR hS (Nat.le_trans (Nat.le_of_ble_eq_true rfl) hF) (Nat.le_trans (Nat.le_of_ble_eq_true rfl) hLo) h_6 (Nat.le_of_ble_eq_true rfl) dX3_builder_35 (fun H locs hR hS => ?_)
      refine lv_iload_n hx hb dX3_builder_38 rfl (lv_at hl 2 rfl) ?_
      refine lv_if_ne (tgt := 49) hx hb dX3_builder_39 (by decide) (fun c_7 => ?_) (fun c_7 => ?_)
      · replace hf := ww_in hf c_7
        refine lv_iload_n hx hb dX3_builder_49 rfl (lv_at hl 2 rfl) ?_
        refine lv_iconst (v := (1 : Int32)) hx hb dX3_builder_50 (by decide) ?_
        refine lv_icmp_ne (tgt := 61) hx hb dX3_builder_51 (by decide) (fun c_8 => ?_) (fun c_8 => ?_)
        · replace hf := ww_in hf c_8
          refine lv_iload_n hx hb dX3_builder_61 rfl (lv_at hl 2 rfl) ?_
          refine lv_iconst (v := (2 : Int32)) hx hb dX3_builder_62 (by decide) ?_
          refine lv_icmp_ne (tgt := 74) hx hb dX3_builder_63 (by decide) (fun c_9 => ?_) (fun c_9 => ?_)
          · replace hf := ww_in hf c_9
            refine lv_aload_n hx hb dX3_builder_74 rfl (lv_at hl 0 rfl) ?_
            refine t3g_37 X hK hR dX3_builder_75 ?_
            refine lv_iload_n hx hb dX3_builder_78 rfl (lv_at hl 1 rfl) ?_
            obtain ⟨h_10, hf⟩ := ww_gS hf
            refine t3l_37 X hK hR h_10 dX3_builder_79 ?_
            exact hend dX3_builder_80 rfl rfl hf hR hS
          · replace hf := ww_ip hf c_9
            refine lv_aload_n hx hb dX3_builder_66 rfl (lv_at hl 0 rfl) ?_
            refine lv_iload_n hx hb dX3_builder_67 rfl (lv_at hl 1 rfl) ?_
            obtain ⟨r_11, h_11, hf⟩ := ww_bS hf
            refine t3c_ownNodes X hl.1 hK hD hR hS (Nat.le_trans (Nat.le_of_ble_eq_true rfl) hF) (Nat.le_trans (Nat.le_of_ble_eq_true rfl) hLo) h_11 (Nat.le_of_ble_eq_true rfl) dX3_builder_68 (fun H locs hR hS => ?_)
            refine lv_goto (tgt := 80) hx hb dX3_builder_71 (by decide) ?_
            exact hend dX3_builder_80 rfl rfl hf hR hS
        · replace hf := ww_ip hf c_8
          refine lv_aload_n hx hb dX3_builder_54 rfl (lv_at hl 0 rfl) ?_
          refine t3g_31 X hK hR dX3_builder_55 ?_
          refine lv_goto (tgt := 80) hx hb dX3_builder_58 (by decide) ?_
          exact hend dX3_builder_80 rfl rfl hf hR hS
      · replace hf := ww_ip hf c_7
        refine lv_aload_n hx hb dX3_builder_42 rfl (lv_at hl 0 rfl) ?_
        refine t3g_30 X hK hR dX3_builder_43 ?_
        refine lv_goto (tgt := 80) hx hb dX3_builder_46 (by decide) ?_
        exact hend dX3_builder_80 rfl rfl hf hR hS
    · replace hf := ww_ip hf c_4
      refine lv_ldc (v := (-1000000 : Int32)) hx hb hown (hts _ q1942) dX3_builder_25 ?_
      exact hend dX3_builder_27 rfl rfl hf hR hS
