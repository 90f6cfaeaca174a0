noncomputable def f3_draw (M : ww_M) (x1 : Int32) : Option (Int32 × ww_M) :=
  ww_g (decide (¬ x1.toInt64 = 0)) (some ((((((ww_L (ww_sL M (((ww_L M) * (6364136223846793005 : Int64)) + (1442695040888963407 : Int64))))).toUInt64 >>> ((33 : Int32).toInt64.toUInt64 &&& Int64.toUInt64 63)).toInt64) - ((((ww_L (ww_sL M (((ww_L M) * (6364136223846793005 : Int64)) + (1442695040888963407 : Int64))))).toUInt64 >>> ((33 : Int32).toInt64.toUInt64 &&& Int64.toUInt64 63)).toInt64) / x1.toInt64 * x1.toInt64).toInt32, (ww_sL M (((ww_L M) * (6364136223846793005 : Int64)) + (1442695040888963407 : Int64)))))
section T3_draw_k
variable {p : Program} {l : Launch} {e : Env} {R : Room} {s : State} {m : MethodId} {args : Array Value} {below : List Frame} {meth : Method} {c : Code} {H : Heap} {locs : List Loc} {Q : State → Prop}
variable {cc : ByteArray} {pc : Nat} {ls : Array Slot} {rest : List Value} {nL : Nat} {E : ww_E} {A : Nat → Prop} {H0 : Heap}
theorem t3k_draw {M M' : ww_M} {x1 : Int32} {r : Int32} (X : ww_C p m c cc nL s args RX3 lw_all) (hsz : ls.size = nL) (hK : t3_Kn E s) (hD : t3_D E) (hR : t3_H E M H) (hS : va_S (t3_A E) H0 H locs) (hF : 1 ≤ R.frames) (hLo : 21 ≤ R.locals) (hM : t3_Met l yX3_draw cX3_draw 2 (some Jvm.ClassFile.FieldType.int) 0 0 E [.int x1] M M' r) (hrest : (rest.map fun v => v.category).sum ≤ 8) (hdg : decode cc pc = .ok (.invokevirtual 426, 3)) (kk : ∀ (H1 : Heap) (locs1 : List Loc), t3_H E M' H1 → va_S (t3_A E) H0 H1 locs1 → W p l e R s m args below meth c H1 locs1 0 0 Q (F0 m (pc + 3) ls (.int r :: rest))) : W p l e R s m args below meth c H locs 0 0 Q (F0 m pc ls (.int x1 :: .ref E.1 :: rest)) :=
  t3_callI (n := 1) X hsz hK hR hS (As := [.int x1]) hM (lw_V q2263 q2265 qs119 q135 q2266) (by decide +kernel) rfl hF hLo (Nat.zero_le _) (Nat.zero_le _) hrest hdg kk
end T3_draw_k
set_option maxHeartbeats 4000000 in
set_option maxRecDepth 100000 in
theorem met3_draw (l : Launch) {E : ww_E} (hD : t3_D E) (M : ww_M) (x1 : Int32) (r : Int32) (M' : ww_M) (hf : f3_draw M x1 = some (r, M')) : t3_Met l yX3_draw cX3_draw 2 (some Jvm.ClassFile.FieldType.int) 0 0 E [.int x1] M M' r := by
  unfold f3_draw at hf
  refine t3_start (by decide +kernel) (Nat.le_of_ble_eq_true rfl) ?_
  intro p e s m args below meth c Rm Q X hK hF hLo hend ls hl hR hS
  obtain ⟨hx, hb, hml, hown, hts⟩ := id X
  replace hl : lv_has ls 2 [(0, .ref E.1), (1, .int x1)] := hl
  refine lv_aload_n hx hb dX3_draw_0 rfl (lv_at hl 0 rfl) ?_
  refine lv_aload_n hx hb dX3_draw_1 rfl (lv_at hl 0 rfl) ?_
  refine t3g_50 X hK hR dX3_draw_2 ?_
  refine lv_ldc2 (v := (6364136223846793005 : Int64)) hx hb hown (hts _ q2267) dX3_draw_5 ?_
  refine lv_lmul hx hb dX3_draw_8 ?_
  refine lv_ldc2 (v := (1442695040888963407 : Int64)) hx hb hown (hts _ q2268) dX3_draw_9 ?_
  refine lv_ladd hx hb dX3_draw_12 ?_
  refine t3p_50 X hK hD hR hS dX3_draw_13 (fun H locs hR hS => ?_)
  refine lv_aload_n hx hb dX3_draw_16 rfl (lv_at hl 0 rfl) ?_
  refine t3g_50 X hK hR dX3_draw_17 ?_
  refine lv_bipush (v := (33 : Int32)) hx hb dX3_draw_20 (by decide) ?_
  refine lv_lushr hx hb dX3_draw_22 rfl ?_
  refine lv_iload_n hx hb dX3_draw_23 rfl (lv_at hl 1 rfl) ?_
  refine lv_i2l (v := x1.toInt64) hx hb dX3_draw_24 rfl ?_
  obtain ⟨h_1, hf⟩ := ww_gS hf
  refine lv_lrem hx hb dX3_draw_25 (of_decide_eq_true h_1) ?_
  refine lv_l2i (v := (((((ww_L (ww_sL M (((ww_L M) * (6364136223846793005 : Int64)) + (1442695040888963407 : Int64))))).toUInt64 >>> ((33 : Int32).toInt64.toUInt64 &&& Int64.toUInt64 63)).toInt64) - ((((ww_L (ww_sL M (((ww_L M) * (6364136223846793005 : Int64)) + (1442695040888963407 : Int64))))).toUInt64 >>> ((33 : Int32).toInt64.toUInt64 &&& Int64.toUInt64 63)).toInt64) / x1.toInt64 * x1.toInt64).toInt32) hx hb dX3_draw_26 rfl ?_
  exact hend dX3_draw_27 rfl rfl hf hR hS
section T3_draw_c
variable {p : Program} {l : Launch} {e : Env} {R : Room} {s : State} {m : MethodId} {args : Array Value} {below : List Frame} {meth : Method} {c : Code} {H : Heap} {locs : List Loc} {Q : State → Prop}
variable {cc : ByteArray} {pc : Nat} {ls : Array Slot} {rest : List Value} {nL : Nat} {E : ww_E} {A : Nat → Prop} {H0 : Heap}
theorem t3c_draw {M M' : ww_M} {x1 : Int32} {r : Int32} (X : ww_C p m c cc nL s args RX3 lw_all) (hsz : ls.size = nL) (hK : t3_Kn E s) (hD : t3_D E) (hR : t3_H E M H) (hS : va_S (t3_A E) H0 H locs) (hF : 1 ≤ R.frames) (hLo : 21 ≤ R.locals) (hf : f3_draw M x1 = some (r, M')) (hrest : (rest.map fun v => v.category).sum ≤ 8) (hdg : decode cc pc = .ok (.invokevirtual 426, 3)) (kk : ∀ (H1 : Heap) (locs1 : List Loc), t3_H E M' H1 → va_S (t3_A E) H0 H1 locs1 → W p l e R s m args below meth c H1 locs1 0 0 Q (F0 m (pc + 3) ls (.int r :: rest))) : W p l e R s m args below meth c H locs 0 0 Q (F0 m pc ls (.int x1 :: .ref E.1 :: rest)) :=
  t3k_draw X hsz hK hD hR hS hF hLo (met3_draw l hD _ _ _ _ hf) hrest hdg kk
end T3_draw_c
noncomputable def f3_draws_j1 (M : ww_M) (y1 : Int32) (y2 : Int32) (y6 : Int32) (y7 : Int32) (y9 : Int32) (y10 : Int32) : Option ((ww_M × Int32) ⊕ (Int32 × ww_M)) :=
  ww_b2 (f3_canPut M y1 y9) (fun r_12 M_12 => if r_12 = 0 then some (.inl (M_12, (y7 + (1 : Int32)))) else ww_b (f3_builderPuts M_12 y1 y9 y10) (fun M_14 => some (.inl (M_14, (y7 + (1 : Int32))))))
noncomputable def f3_draws_b1c (y1 : Int32) (y2 : Int32) (y6 : Int32) (M_5 : ww_M) (x7 : Int32) : Option ((ww_M × Int32) ⊕ (Int32 × ww_M)) :=
  if y2 ≤ x7 then ww_x (some (((ww_F M_5 20) - y6), M_5)) else ww_b2 (f3_draw M_5 (4 : Int32)) (fun r_7 M_7 => ww_b2 (f3_draw M_7 (100 : Int32)) (fun r_8 M_8 => ww_b2 (f3_draw M_8 (19 : Int32)) (fun r_9 M_9 => if r_7 = (3 : Int32) then ww_g (ww_i y1 4) (ww_g (ww_i y1 4) (ww_b2 (f3_takes M_9 (ww_X M_9 35 y1) r_8 (ww_X M_9 36 y1)) (fun r_20 M_20 => ww_g (ww_i y1 4) (some (.inl ((ww_sX M_20 35 y1 r_20), (x7 + (1 : Int32)))))))) else ww_b2 (f3_canPut M_9 y1 r_8) (fun r_11 M_11 => if r_11 = 0 then f3_draws_j1 M_11 y1 y2 y6 x7 r_8 (r_9 - (9 : Int32)) else if r_7 = (2 : Int32) then ww_b (f3_builderAdds M_11 y1 r_8 (r_9 - (9 : Int32))) (fun M_17 => some (.inl (M_17, (x7 + (1 : Int32))))) else f3_draws_j1 M_11 y1 y2 y6 x7 r_8 (r_9 - (9 : Int32))))))
noncomputable def f3_draws_b1 (y1 : Int32) (y2 : Int32) (y6 : Int32) : (ww_M × Int32) → Option ((ww_M × Int32) ⊕ (Int32 × ww_M)) := fun s9 => f3_draws_b1c y1 y2 y6 s9.1 s9.2
noncomputable def f3_draws (M : ww_M) (x1 : Int32) (x2 : Int32) (x3 : Int64) : Option (Int32 × ww_M) :=
  ww_b (f3_isIn x2.toInt64 (1 : Int64) (30 : Int64)) (fun r_1 => ww_b (f3_stops (ww_sF M 0 (0 : Int32)) x1 r_1) (fun r_2 => if r_2 = (-1 : Int32) then ww_b (f3_sweeps (ww_sF M 0 (0 : Int32))) (fun M_4 => ww_U (f3_draws_b1 x1 x2 (ww_F (ww_sL M_4 x3) 20)) ((ww_sL M_4 x3), (0 : Int32))) else ww_b2 (f3_refused (ww_sF M 0 (0 : Int32)) r_2) (fun r_22 M_22 => some (r_22, M_22))))
set_option maxHeartbeats 4000000 in
set_option maxRecDepth 100000 in
theorem met3_draws (l : Launch) {E : ww_E} (hD : t3_D E) (M : ww_M) (x1 : Int32) (x2 : Int32) (x3 : Int64) (r : Int32) (M' : ww_M) (hf : f3_draws M x1 x2 x3 = some (r, M')) : t3_Met l yX3_draws cX3_draws 11 (some Jvm.ClassFile.FieldType.int) 15 339 E [.int x1, .int x2, .long x3] M M' r := by
  unfold f3_draws at hf
  refine t3_start (by decide +kernel) (Nat.le_of_ble_eq_true rfl) ?_
  intro p e s m args below meth c Rm Q X hK hF hLo hend ls hl hR hS
  obtain ⟨hx, hb, hml, hown, hts⟩ := id X
  replace hl : lv_has ls 11 [(0, .ref E.1), (1, .int x1), (2, .int x2), (3, .long x3)] := hl
  refine lv_aload_n hx hb dX3_draws_0 rfl (lv_at hl 0 rfl) ?_
  refine lv_iconst (v := (0 : Int32)) hx hb dX3_draws_1 (by decide) ?_
  refine t3p_0 X hK hD hR hS dX3_draws_2 (fun H locs hR hS => ?_)
  refine lv_aload_n hx hb dX3_draws_5 rfl (lv_at hl 0 rfl) ?_
  refine lv_iload_n hx hb dX3_draws_6 rfl (lv_at hl 1 rfl) ?_
  refine lv_iload_n hx hb dX3_draws_7 rfl (lv_at hl 2 rfl) ?_
  refine lv_i2l (v := x2.toInt64) hx hb dX3_draws_8 rfl ?_
  refine lv_lconst (v := (1 : Int64)) hx hb dX3_draws_9 (by decide) ?_
  refine lv_ldc2 (v := (30 : Int64)) hx hb hown (hts _ q2262) dX3_draws_10 ?_
  obtain ⟨r_1, h_1, hf⟩ := ww_bS hf
  refine t3c_isIn X hl.1 (Nat.le_trans (Nat.le_of_ble_eq_true rfl) hF) (Nat.le_trans (Nat.le_of_ble_eq_true rfl) hLo) h_1 (Nat.le_of_ble_eq_true rfl) dX3_draws_13 ?_
  obtain ⟨r_2, h_2, hf⟩ := ww_bS hf
  refine t3c_stops X hl.1 hK hD hR hS (Nat.le_trans (Nat.le_of_ble_eq_true rfl) hF) (Nat.le_trans (Nat.le_of_ble_eq_true rfl) hLo) h_2 (Nat.le_of_ble_eq_true rfl) dX3_draws_16 (fun H locs hR hS => ?_)
  refine lv_istore (lv' := [(5, .int r_2), (0, .ref E.1), (1, .int x1), (2, .int x2), (3, .long x3)]) hx hb dX3_draws_19 hl (by decide) rfl (fun ls hl => ?_)
  refine lv_iload hx hb dX3_draws_21 (lv_at hl 0 rfl) ?_
  refine lv_iconst (v := (-1 : Int32)) hx hb dX3_draws_23 (by decide) ?_
  refine lv_icmp_eq (tgt := 34) hx hb dX3_draws_24 (by decide) (fun c_3 => ?_) (fun c_3 => ?_)
  · replace hf := ww_ip hf c_3
    refine lv_aload_n hx hb dX3_draws_34 rfl (lv_at hl 1 rfl) ?_
    obtain ⟨M_4, h_4, hf⟩ := ww_bS hf
    refine t3c_sweeps X hl.1 hK hD hR hS (Nat.le_trans (Nat.le_of_ble_eq_true rfl) hF) (Nat.le_trans (Nat.le_of_ble_eq_true rfl) hLo) h_4 (Nat.le_of_ble_eq_true rfl) dX3_draws_35 (fun H locs hR hS => ?_)
    refine lv_aload_n hx hb dX3_draws_38 rfl (lv_at hl 1 rfl) ?_
    refine lv_lload_n hx hb dX3_draws_39 rfl (lv_at hl 4 rfl) ?_
    refine t3p_50 X hK hD hR hS dX3_draws_40 (fun H locs hR hS => ?_)
    refine lv_aload_n hx hb dX3_draws_43 rfl (lv_at hl 1 rfl) ?_
    refine t3g_20 X hK hR dX3_draws_44 ?_
    refine lv_istore (lv' := [(6, .int (ww_F (ww_sL M_4 x3) 20)), (5, .int r_2), (0, .ref E.1), (1, .int x1), (2, .int x2), (3, .long x3)]) hx hb dX3_draws_47 hl (by decide) rfl (fun ls hl => ?_)
    refine lv_iconst (v := (0 : Int32)) hx hb dX3_draws_49 (by decide) ?_
    refine lv_istore (lv' := [(7, .int (0 : Int32)), (6, .int (ww_F (ww_sL M_4 x3) 20)), (5, .int r_2), (0, .ref E.1), (1, .int x1), (2, .int x2), (3, .long x3)]) hx hb dX3_draws_50 hl (by decide) rfl (fun ls hl => ?_)
    have hL_1 : ∀ s9 : ww_M × Int32, ww_U (f3_draws_b1 x1 x2 (ww_F (ww_sL M_4 x3) 20)) s9 = some (r, M') → ∀ (H : Heap) (locs : List Loc) (ls : Array Slot), t3_H E s9.1 H → va_S (t3_A E) s.heap H locs → lv_has ls 11 [(0, .ref E.1), (1, .int x1), (2, .int x2), (6, .int (ww_F (ww_sL M_4 x3) 20)), (7, .int s9.2)] → W p l e Rm s m args below meth c H locs 0 0 Q (F0 m 52 ls []) := by
      refine ww_ind _ (r, M') ?_
      intro s9 z_1 hf hz_1 H locs ls hR hS hl
      obtain ⟨M_5, x7⟩ := s9
      replace hf : f3_draws_b1c x1 x2 (ww_F (ww_sL M_4 x3) 20) M_5 x7 = some z_1 := hf
      unfold f3_draws_b1c at hf
      replace hR : t3_H E M_5 H := hR
      replace hl : lv_has ls 11 [(0, .ref E.1), (1, .int x1), (2, .int x2), (6, .int (ww_F (ww_sL M_4 x3) 20)), (7, .int x7)] := hl
      refine lv_iload hx hb dX3_draws_52 (lv_at hl 4 rfl) ?_
      refine lv_iload_n hx hb dX3_draws_54 rfl (lv_at hl 2 rfl) ?_
      refine lv_icmp_ge (tgt := 170) hx hb dX3_draws_55 (by decide) (fun c_6 => ?_) (fun c_6 => ?_)
      · replace hf := ww_ip hf c_6
        replace hf := ww_xK hf hz_1
        refine lv_aload_n hx hb dX3_draws_170 rfl (lv_at hl 0 rfl) ?_
        refine t3g_20 X hK hR dX3_draws_171 ?_
        refine lv_iload hx hb dX3_draws_174 (lv_at hl 3 rfl) ?_
        refine lv_isub hx hb dX3_draws_176 ?_
        exact hend dX3_draws_177 rfl rfl hf hR hS
      · replace hf := ww_in hf c_6
        refine lv_aload_n hx hb dX3_draws_58 rfl (lv_at hl 0 rfl) ?_
        refine lv_iconst (v := (4 : Int32)) hx hb dX3_draws_59 (by decide) ?_
        obtain ⟨r_7, M_7, h_7, hf⟩ := ww_b2S hf
        refine t3c_draw X hl.1 hK hD hR hS (Nat.le_trans (Nat.le_of_ble_eq_true rfl) hF) (Nat.le_trans (Nat.le_of_ble_eq_true rfl) hLo) h_7 (Nat.le_of_ble_eq_true rfl) dX3_draws_60 (fun H locs hR hS => ?_)
        refine lv_istore (lv' := [(8, .int r_7), (0, .ref E.1), (1, .int x1), (2, .int x2), (6, .int (ww_F (ww_sL M_4 x3) 20)), (7, .int x7)]) hx hb dX3_draws_63 hl (by decide) rfl (fun ls hl => ?_)
        refine lv_aload_n hx hb dX3_draws_65 rfl (lv_at hl 1 rfl) ?_
        refine lv_bipush (v := (100 : Int32)) hx hb dX3_draws_66 (by decide) ?_
        obtain ⟨r_8, M_8, h_8, hf⟩ := ww_b2S hf
        refine t3c_draw X hl.1 hK hD hR hS (Nat.le_trans (Nat.le_of_ble_eq_true rfl) hF) (Nat.le_trans (Nat.le_of_ble_eq_true rfl) hLo) h_8 (Nat.le_of_ble_eq_true rfl) dX3_draws_68 (fun H locs hR hS => ?_)
        refine lv_istore (lv' := [(9, .int r_8), (8, .int r_7), (0, .ref E.1), (1, .int x1), (2, .int x2), (6, .int (ww_F (ww_sL M_4 x3) 20)), (7, .int x7)]) hx hb dX3_draws_71 hl (by decide) rfl (fun ls hl => ?_)
        refine lv_aload_n hx hb dX3_draws_73 rfl (lv_at hl 2 rfl) ?_
        refine lv_bipush (v := (19 : Int32)) hx hb dX3_draws_74 (by decide) ?_
        obtain ⟨r_9, M_9, h_9, hf⟩ := ww_b2S hf
        refine t3c_draw X hl.1 hK hD hR hS (Nat.le_trans (Nat.le_of_ble_eq_true rfl) hF) (Nat.le_trans (Nat.le_of_ble_eq_true rfl) hLo) h_9 (Nat.le_of_ble_eq_true rfl) dX3_draws_76 (fun H locs hR hS => ?_)
        refine lv_bipush (v := (9 : Int32)) hx hb dX3_draws_79 (by decide) ?_
        refine lv_isub hx hb dX3_draws_81 ?_
        refine lv_istore (lv' := [(10, .int (r_9 - (9 : Int32))), (9, .int r_8), (8, .int r_7), (0, .ref E.1), (1, .int x1), (2, .int x2), (6, .int (ww_F (ww_sL M_4 x3) 20)), (7, .int x7)]) hx hb dX3_draws_82 hl (by decide) rfl (fun ls hl => ?_)
        refine lv_iload hx hb dX3_draws_84 (lv_at hl 2 rfl) ?_
        refine lv_iconst (v := (3 : Int32)) hx hb dX3_draws_86 (by decide) ?_
        refine lv_icmp_ne (tgt := 117) hx hb dX3_draws_87 (by decide) (fun c_10 => ?_) (fun c_10 => ?_)
        · replace hf := ww_in hf c_10
          refine lv_aload_n hx hb dX3_draws_117 rfl (lv_at hl 3 rfl) ?_
          refine lv_iload_n hx hb dX3_draws_118 rfl (lv_at hl 4 rfl) ?_
          refine lv_iload hx hb dX3_draws_119 (lv_at hl 1 rfl) ?_
          obtain ⟨r_11, M_11, h_11, hf⟩ := ww_b2S hf
          refine t3c_canPut X hl.1 hK hD hR hS (Nat.le_trans (Nat.le_of_ble_eq_true rfl) hF) (Nat.le_trans (Nat.le_of_ble_eq_true rfl) hLo) h_11 (Nat.le_of_ble_eq_true rfl) dX3_draws_121 (fun H locs hR hS => ?_)
          have hj_1 : f3_draws_j1 M_11 x1 x2 (ww_F (ww_sL M_4 x3) 20) x7 r_8 (r_9 - (9 : Int32)) = some z_1 → ∀ (H : Heap) (locs : List Loc) (ls : Array Slot), t3_H E M_11 H → va_S (t3_A E) s.heap H locs → lv_has ls 11 [(0, .ref E.1), (1, .int x1), (2, .int x2), (6, .int (ww_F (ww_sL M_4 x3) 20)), (7, .int x7), (9, .int r_8), (10, .int (r_9 - (9 : Int32)))] → W p l e Rm s m args below meth c H locs 0 0 Q (F0 m 145 ls []) := by
            intro  hf H locs ls hR hS hl
            unfold f3_draws_j1 at hf
            refine lv_aload_n hx hb dX3_draws_145 rfl (lv_at hl 0 rfl) ?_
            refine lv_iload_n hx hb dX3_draws_146 rfl (lv_at hl 1 rfl) ?_
            refine lv_iload hx hb dX3_draws_147 (lv_at hl 5 rfl) ?_
            obtain ⟨r_12, M_12, h_12, hf⟩ := ww_b2S hf
            refine t3c_canPut X hl.1 hK hD hR hS (Nat.le_trans (Nat.le_of_ble_eq_true rfl) hF) (Nat.le_trans (Nat.le_of_ble_eq_true rfl) hLo) h_12 (Nat.le_of_ble_eq_true rfl) dX3_draws_149 (fun H locs hR hS => ?_)
            refine lv_if_eq (tgt := 164) hx hb dX3_draws_152 (by decide) (fun c_13 => ?_) (fun c_13 => ?_)
            · replace hf := ww_ip hf c_13
              refine lv_iinc (k := 4) (v := x7 + (1 : Int32)) (lv' := [(7, .int (x7 + (1 : Int32))), (0, .ref E.1), (1, .int x1), (2, .int x2), (6, .int (ww_F (ww_sL M_4 x3) 20)), (9, .int r_8), (10, .int (r_9 - (9 : Int32)))]) hx hb dX3_draws_164 hl rfl rfl (by decide) rfl (fun ls hl => ?_)
              refine lv_goto (tgt := 52) hx hb dX3_draws_167 (by decide) ?_
              exact ww_lK hf hz_1 _ _ _ hR hS (lv_sub hl [1, 2, 3, 4, 0] rfl)
            · replace hf := ww_in hf c_13
              refine lv_aload_n hx hb dX3_draws_155 rfl (lv_at hl 0 rfl) ?_
              refine lv_iload_n hx hb dX3_draws_156 rfl (lv_at hl 1 rfl) ?_
              refine lv_iload hx hb dX3_draws_157 (lv_at hl 5 rfl) ?_
              refine lv_iload hx hb dX3_draws_159 (lv_at hl 6 rfl) ?_
              obtain ⟨M_14, h_14, hf⟩ := ww_bS hf
              refine t3c_builderPuts X hl.1 hK hD hR hS (Nat.le_trans (Nat.le_of_ble_eq_true rfl) hF) (Nat.le_trans (Nat.le_of_ble_eq_true rfl) hLo) h_14 (Nat.le_of_ble_eq_true rfl) dX3_draws_161 (fun H locs hR hS => ?_)
              refine lv_iinc (k := 4) (v := x7 + (1 : Int32)) (lv' := [(7, .int (x7 + (1 : Int32))), (0, .ref E.1), (1, .int x1), (2, .int x2), (6, .int (ww_F (ww_sL M_4 x3) 20)), (9, .int r_8), (10, .int (r_9 - (9 : Int32)))]) hx hb dX3_draws_164 hl rfl rfl (by decide) rfl (fun ls hl => ?_)
              refine lv_goto (tgt := 52) hx hb dX3_draws_167 (by decide) ?_
              exact ww_lK hf hz_1 _ _ _ hR hS (lv_sub hl [1, 2, 3, 4, 0] rfl)
          refine lv_if_eq (tgt := 145) hx hb dX3_draws_124 (by decide) (fun c_15 => ?_) (fun c_15 => ?_)
          · replace hf := ww_ip hf c_15
            exact hj_1 hf _ _ _ hR hS (lv_sub hl [3, 4, 5, 6, 7, 1, 0] rfl)
          · replace hf := ww_in hf c_15
            refine lv_iload hx hb dX3_draws_127 (lv_at hl 2 rfl) ?_
            refine lv_iconst (v := (2 : Int32)) hx hb dX3_draws_129 (by decide) ?_
            refine lv_icmp_ne (tgt := 145) hx hb dX3_draws_130 (by decide) (fun c_16 => ?_) (fun c_16 => ?_)
            · replace hf := ww_in hf c_16
              exact hj_1 hf _ _ _ hR hS (lv_sub hl [3, 4, 5, 6, 7, 1, 0] rfl)
            · replace hf := ww_ip hf c_16
              refine lv_aload_n hx hb dX3_draws_133 rfl (lv_at hl 3 rfl) ?_
              refine lv_iload_n hx hb dX3_draws_134 rfl (lv_at hl 4 rfl) ?_
              refine lv_iload hx hb dX3_draws_135 (lv_at hl 1 rfl) ?_
              refine lv_iload hx hb dX3_draws_137 (lv_at hl 0 rfl) ?_
              obtain ⟨M_17, h_17, hf⟩ := ww_bS hf
              refine t3c_builderAdds X hl.1 hK hD hR hS (Nat.le_trans (Nat.le_of_ble_eq_true rfl) hF) (Nat.le_trans (Nat.le_of_ble_eq_true rfl) hLo) h_17 (Nat.le_of_ble_eq_true rfl) dX3_draws_139 (fun H locs hR hS => ?_)
              refine lv_goto (tgt := 164) hx hb dX3_draws_142 (by decide) ?_
              refine lv_iinc (k := 7) (v := x7 + (1 : Int32)) (lv' := [(7, .int (x7 + (1 : Int32))), (10, .int (r_9 - (9 : Int32))), (9, .int r_8), (8, .int r_7), (0, .ref E.1), (1, .int x1), (2, .int x2), (6, .int (ww_F (ww_sL M_4 x3) 20))]) hx hb dX3_draws_164 hl rfl rfl (by decide) rfl (fun ls hl => ?_)
              refine lv_goto (tgt := 52) hx hb dX3_draws_167 (by decide) ?_
              exact ww_lK hf hz_1 _ _ _ hR hS (lv_sub hl [4, 5, 6, 7, 0] rfl)
        · replace hf := ww_ip hf c_10
          refine lv_aload_n hx hb dX3_draws_90 rfl (lv_at hl 3 rfl) ?_
          refine t3g_35 X hK hR dX3_draws_91 ?_
          refine lv_iload_n hx hb dX3_draws_94 rfl (lv_at hl 4 rfl) ?_
          refine lv_aload_n hx hb dX3_draws_95 rfl (lv_at hl 3 rfl) ?_
          refine lv_aload_n hx hb dX3_draws_96 rfl (lv_at hl 3 rfl) ?_
          refine t3g_35 X hK hR dX3_draws_97 ?_
          refine lv_iload_n hx hb dX3_draws_100 rfl (lv_at hl 4 rfl) ?_
          obtain ⟨h_18, hf⟩ := ww_gS hf
          refine t3l_35 X hK hR h_18 dX3_draws_101 ?_
          refine lv_iload hx hb dX3_draws_102 (lv_at hl 1 rfl) ?_
          refine lv_aload_n hx hb dX3_draws_104 rfl (lv_at hl 3 rfl) ?_
          refine t3g_36 X hK hR dX3_draws_105 ?_
          refine lv_iload_n hx hb dX3_draws_108 rfl (lv_at hl 4 rfl) ?_
          obtain ⟨h_19, hf⟩ := ww_gS hf
          refine t3l_36 X hK hR h_19 dX3_draws_109 ?_
          obtain ⟨r_20, M_20, h_20, hf⟩ := ww_b2S hf
          refine t3c_takes X hl.1 hK hD hR hS (Nat.le_trans (Nat.le_of_ble_eq_true rfl) hF) (Nat.le_trans (Nat.le_of_ble_eq_true rfl) hLo) h_20 (Nat.le_of_ble_eq_true rfl) dX3_draws_110 (fun H locs hR hS => ?_)
          obtain ⟨h_21, hf⟩ := ww_gS hf
          refine t3s_35 X hK hD hR hS h_21 dX3_draws_113 (fun H locs hR hS => ?_)
          refine lv_goto (tgt := 164) hx hb dX3_draws_114 (by decide) ?_
          refine lv_iinc (k := 7) (v := x7 + (1 : Int32)) (lv' := [(7, .int (x7 + (1 : Int32))), (10, .int (r_9 - (9 : Int32))), (9, .int r_8), (8, .int r_7), (0, .ref E.1), (1, .int x1), (2, .int x2), (6, .int (ww_F (ww_sL M_4 x3) 20))]) hx hb dX3_draws_164 hl rfl rfl (by decide) rfl (fun ls hl => ?_)
          refine lv_goto (tgt := 52) hx hb dX3_draws_167 (by decide) ?_
          exact ww_lK hf hz_1 _ _ _ hR hS (lv_sub hl [4, 5, 6, 7, 0] rfl)
    exact hL_1 ((ww_sL M_4 x3), (0 : Int32)) hf _ _ _ hR hS (lv_sub hl [3, 4, 5, 1, 0] rfl)
  · replace hf := ww_in hf c_3
    refine lv_aload_n hx hb dX3_draws_27 rfl (lv_at hl 1 rfl) ?_
    refine lv_iload hx hb dX3_draws_28 (lv_at hl 0 rfl) ?_
    obtain ⟨r_22, M_22, h_22, hf⟩ := ww_b2S hf
    refine t3c_refused X hl.1 hK hD hR hS (Nat.le_trans (Nat.le_of_ble_eq_true rfl) hF) (Nat.le_trans (Nat.le_of_ble_eq_true rfl) hLo) h_22 (Nat.le_of_ble_eq_true rfl) dX3_draws_30 (fun H locs hR hS => ?_)
    exact hend dX3_draws_33 rfl rfl hf hR hS
noncomputable def f3_step (M : ww_M) (x1 : Int32) (x2 : Int32) (x3 : Int32) : Option (Int32 × ww_M) :=
  ww_b (f3_isIn x1.toInt64 (0 : Int64) (((ww_F (ww_sF M 0 (0 : Int32)) 9) - (1 : Int32)).toInt64)) (fun r_1 => if r_1 = 0 then some ((-1000000 : Int32), (ww_sF M 0 (0 : Int32))) else ww_g (ww_i x1 5) (ww_b (f3_isIn x2.toInt64 (0 : Int64) (((ww_X (ww_sF M 0 (0 : Int32)) 7 x1) - (1 : Int32)).toInt64)) (fun r_4 => if r_4 = 0 then some ((-1000000 : Int32), (ww_sF M 0 (0 : Int32))) else ww_b (f3_isIn x3.toInt64 (0 : Int64) (3 : Int64)) (fun r_6 => if r_6 = 0 then some ((-1000000 : Int32), (ww_sF M 0 (0 : Int32))) else ww_g (ww_i (((4 : Int32) * (((16 : Int32) * x1) + x2)) + x3) 320) (some ((ww_X (ww_sF M 0 (0 : Int32)) 6 (((4 : Int32) * (((16 : Int32) * x1) + x2)) + x3)), (ww_sF M 0 (0 : Int32))))))))
set_option maxHeartbeats 4000000 in
set_option maxRecDepth 100000 in
theorem met3_step (l : Launch) {E : ww_E} (hD : t3_D E) (M : ww_M) (x1 : Int32) (x2 : Int32) (x3 : Int32) (r : Int32) (M' : ww_M) (hf : f3_step M x1 x2 x3 = some (r, M')) : t3_Met l yX3_step cX3_step 4 (some Jvm.ClassFile.FieldType.int) 1 25 E [.int x1, .int x2, .int x3] M M' r := by
  unfold f3_step at hf
  refine t3_start (by decide +kernel) (Nat.le_of_ble_eq_true rfl) ?_
  intro p e s m args below meth c Rm Q X hK hF hLo hend ls hl hR hS
  obtain ⟨hx, hb, hml, hown, hts⟩ := id X
  replace hl : lv_has ls 4 [(0, .ref E.1), (1, .int x1), (2, .int x2), (3, .int x3)] := hl
  refine lv_aload_n hx hb dX3_step_0 rfl (lv_at hl 0 rfl) ?_
  refine lv_iconst (v := (0 : Int32)) hx hb dX3_step_1 (by decide) ?_
  refine t3p_0 X hK hD hR hS dX3_step_2 (fun H locs hR hS => ?_)
  refine lv_iload_n hx hb dX3_step_5 rfl (lv_at hl 1 rfl) ?_
  refine lv_i2l (v := x1.toInt64) hx hb dX3_step_6 rfl ?_
  refine lv_lconst (v := (0 : Int64)) hx hb dX3_step_7 (by decide) ?_
  refine lv_aload_n hx hb dX3_step_8 rfl (lv_at hl 0 rfl) ?_
  refine t3g_9 X hK hR dX3_step_9 ?_
  refine lv_iconst (v := (1 : Int32)) hx hb dX3_step_12 (by decide) ?_
  refine lv_isub hx hb dX3_step_13 ?_
  refine lv_i2l (v := ((ww_F (ww_sF M 0 (0 : Int32)) 9) - (1 : Int32)).toInt64) hx hb dX3_step_14 rfl ?_
  obtain ⟨r_1, h_1, hf⟩ := ww_bS hf
  refine t3c_isIn X hl.1 (Nat.le_trans (Nat.le_of_ble_eq_true rfl) hF) (Nat.le_trans (Nat.le_of_ble_eq_true rfl) hLo) h_1 (Nat.le_of_ble_eq_true rfl) dX3_step_15 ?_
  refine lv_if_eq (tgt := 69) hx hb dX3_step_18 (by decide) (fun c_2 => ?_) (fun c_2 => ?_)
  · replace hf := ww_ip hf c_2
    refine lv_ldc (v := (-1000000 : Int32)) hx hb hown (hts _ q1942) dX3_step_69 ?_
    exact hend dX3_step_71 rfl rfl hf hR hS
  · replace hf := ww_in hf c_2
    refine lv_iload_n hx hb dX3_step_21 rfl (lv_at hl 2 rfl) ?_
    refine lv_i2l (v := x2.toInt64) hx hb dX3_step_22 rfl ?_
    refine lv_lconst (v := (0 : Int64)) hx hb dX3_step_23 (by decide) ?_
    refine lv_aload_n hx hb dX3_step_24 rfl (lv_at hl 0 rfl) ?_
    refine t3g_7 X hK hR dX3_step_25 ?_
    refine lv_iload_n hx hb dX3_step_28 rfl (lv_at hl 1 rfl) ?_
    obtain ⟨h_3, hf⟩ := ww_gS hf
    refine t3l_7 X hK hR h_3 dX3_step_29 ?_
    refine lv_iconst (v := (1 : Int32)) hx hb dX3_step_30 (by decide) ?_
    refine lv_isub hx hb dX3_step_31 ?_
    refine lv_i2l (v := ((ww_X (ww_sF M 0 (0 : Int32)) 7 x1) - (1 : Int32)).toInt64) hx hb dX3_step_32 rfl ?_
    obtain ⟨r_4, h_4, hf⟩ := ww_bS hf
    refine t3c_isIn X hl.1 (Nat.le_trans (Nat.le_of_ble_eq_true rfl) hF) (Nat.le_trans (Nat.le_of_ble_eq_true rfl) hLo) h_4 (Nat.le_of_ble_eq_true rfl) dX3_step_33 ?_
    refine lv_if_eq (tgt := 69) hx hb dX3_step_36 (by decide) (fun c_5 => ?_) (fun c_5 => ?_)
    · replace hf := ww_ip hf c_5
      refine lv_ldc (v := (-1000000 : Int32)) hx hb hown (hts _ q1942) dX3_step_69 ?_
      exact hend dX3_step_71 rfl rfl hf hR hS
    · replace hf := ww_in hf c_5
      refine lv_iload_n hx hb dX3_step_39 rfl (lv_at hl 3 rfl) ?_
      refine lv_i2l (v := x3.toInt64) hx hb dX3_step_40 rfl ?_
      refine lv_lconst (v := (0 : Int64)) hx hb dX3_step_41 (by decide) ?_
      refine lv_ldc2 (v := (3 : Int64)) hx hb hown (hts _ q2027) dX3_step_42 ?_
      obtain ⟨r_6, h_6, hf⟩ := ww_bS hf
      refine t3c_isIn X hl.1 (Nat.le_trans (Nat.le_of_ble_eq_true rfl) hF) (Nat.le_trans (Nat.le_of_ble_eq_true rfl) hLo) h_6 (Nat.le_of_ble_eq_true rfl) dX3_step_45 ?_
      refine lv_if_eq (tgt := 69) hx hb dX3_step_48 (by decide) (fun c_7 => ?_) (fun c_7 => ?_)
      · replace hf := ww_ip hf c_7
        refine lv_ldc (v := (-1000000 : Int32)) hx hb hown (hts _ q1942) dX3_step_69 ?_
        exact hend dX3_step_71 rfl rfl hf hR hS
      · replace hf := ww_in hf c_7
        refine lv_aload_n hx hb dX3_step_51 rfl (lv_at hl 0 rfl) ?_
        refine t3g_6 X hK hR dX3_step_52 ?_
        refine lv_iconst (v := (4 : Int32)) hx hb dX3_step_55 (by decide) ?_
        refine lv_bipush (v := (16 : Int32)) hx hb dX3_step_56 (by decide) ?_
        refine lv_iload_n hx hb dX3_step_58 rfl (lv_at hl 1 rfl) ?_
        refine lv_imul hx hb dX3_step_59 ?_
        refine lv_iload_n hx hb dX3_step_60 rfl (lv_at hl 2 rfl) ?_
        refine lv_iadd hx hb dX3_step_61 ?_
        refine lv_imul hx hb dX3_step_62 ?_
        refine lv_iload_n hx hb dX3_step_63 rfl (lv_at hl 3 rfl) ?_
        refine lv_iadd hx hb dX3_step_64 ?_
        obtain ⟨h_8, hf⟩ := ww_gS hf
        refine t3l_6 X hK hR h_8 dX3_step_65 ?_
        refine lv_goto (tgt := 71) hx hb dX3_step_66 (by decide) ?_
        exact hend dX3_step_71 rfl rfl hf hR hS
noncomputable def f3_goesStep (M : ww_M) (x1 : Int32) (x2 : Int32) : Option (Int32 × ww_M) :=
  ww_g (ww_i (x2 + (1 : Int32)) 320) (ww_g (ww_i (x2 + (2 : Int32)) 320) (ww_g (ww_i x2 320) (if (ww_X M 6 x2) = 0 then ww_b2 (f3_canPut M x1 (ww_X M 6 (x2 + (1 : Int32)))) (fun r_5 M_5 => if r_5 = 0 then some ((0 : Int32), M_5) else ww_g (ww_i x2 320) (if (ww_X M_5 6 x2) = 0 then ww_b (f3_builderPuts M_5 x1 (ww_X M 6 (x2 + (1 : Int32))) (ww_X M 6 (x2 + (2 : Int32)))) (fun M_10 => some ((1 : Int32), M_10)) else ww_b (f3_builderAdds M_5 x1 (ww_X M 6 (x2 + (1 : Int32))) (ww_X M 6 (x2 + (2 : Int32)))) (fun M_9 => some ((1 : Int32), M_9)))) else if (ww_X M 6 x2) = 1 then ww_g (ww_i x1 4) (ww_g (ww_i x1 4) (ww_b2 (f3_takes M (ww_X M 35 x1) (ww_X M 6 (x2 + (1 : Int32))) (ww_X M 36 x1)) (fun r_14 M_14 => ww_g (ww_i x1 4) (some ((1 : Int32), (ww_sX M_14 35 x1 r_14)))))) else if (ww_X M 6 x2) = 2 then ww_b2 (f3_canPut M x1 (ww_X M 6 (x2 + (1 : Int32)))) (fun r_17 M_17 => if r_17 = 0 then some ((0 : Int32), M_17) else ww_g (ww_i x2 320) (if (ww_X M_17 6 x2) = 0 then ww_b (f3_builderPuts M_17 x1 (ww_X M 6 (x2 + (1 : Int32))) (ww_X M 6 (x2 + (2 : Int32)))) (fun M_22 => some ((1 : Int32), M_22)) else ww_b (f3_builderAdds M_17 x1 (ww_X M 6 (x2 + (1 : Int32))) (ww_X M 6 (x2 + (2 : Int32)))) (fun M_21 => some ((1 : Int32), M_21)))) else if (ww_X M 6 x2) = 3 then ww_g (ww_i x1 4) (ww_g (ww_i x1 4) (ww_b2 (f3_cuts M (ww_X M 35 x1) (ww_X M 6 (x2 + (1 : Int32))) (ww_X M 6 (x2 + (2 : Int32))) (1 : Int32) (ww_X M 36 x1)) (fun r_26 M_26 => ww_g (ww_i x1 4) (some ((1 : Int32), (ww_sX M_26 35 x1 r_26)))))) else if (ww_X M 6 x2) = 4 then ww_g (ww_i (x2 + (3 : Int32)) 320) (ww_b (f3_builderIncs M x1 (ww_X M 6 (x2 + (1 : Int32))) (ww_X M 6 (x2 + (2 : Int32))) (ww_X M 6 (x2 + (3 : Int32)))) (fun M_30 => some ((1 : Int32), M_30))) else ww_b (f3_hasRoom M) (fun r_31 => if r_31 = 0 then some ((0 : Int32), M) else ww_b2 (f3_snapped M x1) (fun r_33 M_33 => some ((1 : Int32), M_33))))))
section T3_goesStep_k
variable {p : Program} {l : Launch} {e : Env} {R : Room} {s : State} {m : MethodId} {args : Array Value} {below : List Frame} {meth : Method} {c : Code} {H : Heap} {locs : List Loc} {Q : State → Prop}
variable {cc : ByteArray} {pc : Nat} {ls : Array Slot} {rest : List Value} {nL : Nat} {E : ww_E} {A : Nat → Prop} {H0 : Heap}
theorem t3k_goesStep {M M' : ww_M} {x1 : Int32} {x2 : Int32} {r : Int32} (X : ww_C p m c cc nL s args RX3 lw_all) (hsz : ls.size = nL) (hK : t3_Kn E s) (hD : t3_D E) (hR : t3_H E M H) (hS : va_S (t3_A E) H0 H locs) (hF : 16 ≤ R.frames) (hLo : 364 ≤ R.locals) (hM : t3_Met l yX3_goesStep cX3_goesStep 6 (some Jvm.ClassFile.FieldType.boolean) 15 339 E [.int x1, .int x2] M M' r) (hrest : (rest.map fun v => v.category).sum ≤ 8) (hdg : decode cc pc = .ok (.invokevirtual 429, 3)) (kk : ∀ (H1 : Heap) (locs1 : List Loc), t3_H E M' H1 → va_S (t3_A E) H0 H1 locs1 → W p l e R s m args below meth c H1 locs1 0 0 Q (F0 m (pc + 3) ls (.int r :: rest))) : W p l e R s m args below meth c H locs 0 0 Q (F0 m pc ls (.int x2 :: .int x1 :: .ref E.1 :: rest)) :=
  t3_callI (n := 2) X hsz hK hR hS (As := [.int x1, .int x2]) hM (lw_V q2277 q2279 qs120 q135 q2280) (by decide +kernel) rfl hF hLo (Nat.zero_le _) (Nat.zero_le _) hrest hdg kk
end T3_goesStep_k
set_option maxHeartbeats 4000000 in
set_option maxRecDepth 100000 in
theorem met3_goesStep (l : Launch) {E : ww_E} (hD : t3_D E) (M : ww_M) (x1 : Int32) (x2 : Int32) (r : Int32) (M' : ww_M) (hf : f3_goesStep M x1 x2 = some (r, M')) : t3_Met l yX3_goesStep cX3_goesStep 6 (some Jvm.ClassFile.FieldType.boolean) 15 339 E [.int x1, .int x2] M M' r := by
  unfold f3_goesStep at hf
  refine t3_start (by decide +kernel) (Nat.le_of_ble_eq_true rfl) ?_
  intro p e s m args below meth c Rm Q X hK hF hLo hend ls hl hR hS
  obtain ⟨hx, hb, hml, hown, hts⟩ := id X
  replace hl : lv_has ls 6 [(0, .ref E.1), (1, .int x1), (2, .int x2)] := hl
  refine lv_aload_n hx hb dX3_goesStep_0 rfl (lv_at hl 0 rfl) ?_
  refine t3g_6 X hK hR dX3_goesStep_1 ?_
  refine lv_iload_n hx hb dX3_goesStep_4 rfl (lv_at hl 2 rfl) ?_
  refine lv_iconst (v := (1 : Int32)) hx hb dX3_goesStep_5 (by decide) ?_
  refine lv_iadd hx hb dX3_goesStep_6 ?_
  obtain ⟨h_1, hf⟩ := ww_gS hf
  refine t3l_6 X hK hR h_1 dX3_goesStep_7 ?_
  refine lv_istore_n (lv' := [(3, .int (ww_X M 6 (x2 + (1 : Int32)))), (0, .ref E.1), (1, .int x1), (2, .int x2)]) hx hb dX3_goesStep_8 rfl hl (by decide) rfl (fun ls hl => ?_)
  refine lv_aload_n hx hb dX3_goesStep_9 rfl (lv_at hl 1 rfl) ?_
  refine t3g_6 X hK hR dX3_goesStep_10 ?_
  refine lv_iload_n hx hb dX3_goesStep_13 rfl (lv_at hl 3 rfl) ?_
  refine lv_iconst (v := (2 : Int32)) hx hb dX3_goesStep_14 (by decide) ?_
  refine lv_iadd hx hb dX3_goesStep_15 ?_
  obtain ⟨h_2, hf⟩ := ww_gS hf
  refine t3l_6 X hK hR h_2 dX3_goesStep_16 ?_
  refine lv_istore (lv' := [(4, .int (ww_X M 6 (x2 + (2 : Int32)))), (3, .int (ww_X M 6 (x2 + (1 : Int32)))), (0, .ref E.1), (1, .int x1), (2, .int x2)]) hx hb dX3_goesStep_17 hl (by decide) rfl (fun ls hl => ?_)
  refine lv_aload_n hx hb dX3_goesStep_19 rfl (lv_at hl 2 rfl) ?_
  refine t3g_6 X hK hR dX3_goesStep_20 ?_
  refine lv_iload_n hx hb dX3_goesStep_23 rfl (lv_at hl 4 rfl) ?_
  obtain ⟨h_3, hf⟩ := ww_gS hf
  refine t3l_6 X hK hR h_3 dX3_goesStep_24 ?_
  refine ww_by ((ww_X M 6 x2) = 0) (fun c_4 => ?_) (fun c_4 => ?_)
  · replace hf := ww_ip hf c_4
    refine ww_tin (k := 0) (off := 35) (tgt := 60) hx hb dX3_goesStep_25 c_4 (by decide) (by decide) (by decide) (by decide) ?_
    refine lv_aload_n hx hb dX3_goesStep_60 rfl (lv_at hl 2 rfl) ?_
    refine lv_iload_n hx hb dX3_goesStep_61 rfl (lv_at hl 3 rfl) ?_
    refine lv_iload_n hx hb dX3_goesStep_62 rfl (lv_at hl 1 rfl) ?_
    obtain ⟨r_5, M_5, h_5, hf⟩ := ww_b2S hf
    refine t3c_canPut X hl.1 hK hD hR hS (Nat.le_trans (Nat.le_of_ble_eq_true rfl) hF) (Nat.le_trans (Nat.le_of_ble_eq_true rfl) hLo) h_5 (Nat.le_of_ble_eq_true rfl) dX3_goesStep_63 (fun H locs hR hS => ?_)
    refine lv_if_ne (tgt := 71) hx hb dX3_goesStep_66 (by decide) (fun c_6 => ?_) (fun c_6 => ?_)
    · replace hf := ww_in hf c_6
      refine lv_aload_n hx hb dX3_goesStep_71 rfl (lv_at hl 2 rfl) ?_
      refine t3g_6 X hK hR dX3_goesStep_72 ?_
      refine lv_iload_n hx hb dX3_goesStep_75 rfl (lv_at hl 4 rfl) ?_
      obtain ⟨h_7, hf⟩ := ww_gS hf
      refine t3l_6 X hK hR h_7 dX3_goesStep_76 ?_
      refine lv_if_ne (tgt := 91) hx hb dX3_goesStep_77 (by decide) (fun c_8 => ?_) (fun c_8 => ?_)
      · replace hf := ww_in hf c_8
        refine lv_aload_n hx hb dX3_goesStep_91 rfl (lv_at hl 2 rfl) ?_
        refine lv_iload_n hx hb dX3_goesStep_92 rfl (lv_at hl 3 rfl) ?_
        refine lv_iload_n hx hb dX3_goesStep_93 rfl (lv_at hl 1 rfl) ?_
        refine lv_iload hx hb dX3_goesStep_94 (lv_at hl 0 rfl) ?_
        obtain ⟨M_9, h_9, hf⟩ := ww_bS hf
        refine t3c_builderAdds X hl.1 hK hD hR hS (Nat.le_trans (Nat.le_of_ble_eq_true rfl) hF) (Nat.le_trans (Nat.le_of_ble_eq_true rfl) hLo) h_9 (Nat.le_of_ble_eq_true rfl) dX3_goesStep_96 (fun H locs hR hS => ?_)
        refine lv_iconst (v := (1 : Int32)) hx hb dX3_goesStep_99 (by decide) ?_
        exact hend dX3_goesStep_100 rfl (by decide) hf hR hS
      · replace hf := ww_ip hf c_8
        refine lv_aload_n hx hb dX3_goesStep_80 rfl (lv_at hl 2 rfl) ?_
        refine lv_iload_n hx hb dX3_goesStep_81 rfl (lv_at hl 3 rfl) ?_
        refine lv_iload_n hx hb dX3_goesStep_82 rfl (lv_at hl 1 rfl) ?_
        refine lv_iload hx hb dX3_goesStep_83 (lv_at hl 0 rfl) ?_
        obtain ⟨M_10, h_10, hf⟩ := ww_bS hf
        refine t3c_builderPuts X hl.1 hK hD hR hS (Nat.le_trans (Nat.le_of_ble_eq_true rfl) hF) (Nat.le_trans (Nat.le_of_ble_eq_true rfl) hLo) h_10 (Nat.le_of_ble_eq_true rfl) dX3_goesStep_85 (fun H locs hR hS => ?_)
        refine lv_goto (tgt := 99) hx hb dX3_goesStep_88 (by decide) ?_
        refine lv_iconst (v := (1 : Int32)) hx hb dX3_goesStep_99 (by decide) ?_
        exact hend dX3_goesStep_100 rfl (by decide) hf hR hS
    · replace hf := ww_ip hf c_6
      refine lv_iconst (v := (0 : Int32)) hx hb dX3_goesStep_69 (by decide) ?_
      exact hend dX3_goesStep_70 rfl (by decide) hf hR hS
  replace hf := ww_in hf c_4
  refine ww_by ((ww_X M 6 x2) = 1) (fun c_11 => ?_) (fun c_11 => ?_)
  · replace hf := ww_ip hf c_11
    refine ww_tin (k := 1) (off := 76) (tgt := 101) hx hb dX3_goesStep_25 c_11 (by decide) (by decide) (by decide) (by decide) ?_
    refine lv_aload_n hx hb dX3_goesStep_101 rfl (lv_at hl 2 rfl) ?_
    refine t3g_35 X hK hR dX3_goesStep_102 ?_
    refine lv_iload_n hx hb dX3_goesStep_105 rfl (lv_at hl 3 rfl) ?_
    refine lv_aload_n hx hb dX3_goesStep_106 rfl (lv_at hl 2 rfl) ?_
    refine lv_aload_n hx hb dX3_goesStep_107 rfl (lv_at hl 2 rfl) ?_
    refine t3g_35 X hK hR dX3_goesStep_108 ?_
    refine lv_iload_n hx hb dX3_goesStep_111 rfl (lv_at hl 3 rfl) ?_
    obtain ⟨h_12, hf⟩ := ww_gS hf
    refine t3l_35 X hK hR h_12 dX3_goesStep_112 ?_
    refine lv_iload_n hx hb dX3_goesStep_113 rfl (lv_at hl 1 rfl) ?_
    refine lv_aload_n hx hb dX3_goesStep_114 rfl (lv_at hl 2 rfl) ?_
    refine t3g_36 X hK hR dX3_goesStep_115 ?_
    refine lv_iload_n hx hb dX3_goesStep_118 rfl (lv_at hl 3 rfl) ?_
    obtain ⟨h_13, hf⟩ := ww_gS hf
    refine t3l_36 X hK hR h_13 dX3_goesStep_119 ?_
    obtain ⟨r_14, M_14, h_14, hf⟩ := ww_b2S hf
    refine t3c_takes X hl.1 hK hD hR hS (Nat.le_trans (Nat.le_of_ble_eq_true rfl) hF) (Nat.le_trans (Nat.le_of_ble_eq_true rfl) hLo) h_14 (Nat.le_of_ble_eq_true rfl) dX3_goesStep_120 (fun H locs hR hS => ?_)
    obtain ⟨h_15, hf⟩ := ww_gS hf
    refine t3s_35 X hK hD hR hS h_15 dX3_goesStep_123 (fun H locs hR hS => ?_)
    refine lv_iconst (v := (1 : Int32)) hx hb dX3_goesStep_124 (by decide) ?_
    exact hend dX3_goesStep_125 rfl (by decide) hf hR hS
  replace hf := ww_in hf c_11
  refine ww_by ((ww_X M 6 x2) = 2) (fun c_16 => ?_) (fun c_16 => ?_)
  · replace hf := ww_ip hf c_16
    refine ww_tin (k := 2) (off := 35) (tgt := 60) hx hb dX3_goesStep_25 c_16 (by decide) (by decide) (by decide) (by decide) ?_
    refine lv_aload_n hx hb dX3_goesStep_60 rfl (lv_at hl 2 rfl) ?_
    refine lv_iload_n hx hb dX3_goesStep_61 rfl (lv_at hl 3 rfl) ?_
    refine lv_iload_n hx hb dX3_goesStep_62 rfl (lv_at hl 1 rfl) ?_
    obtain ⟨r_17, M_17, h_17, hf⟩ := ww_b2S hf
    refine t3c_canPut X hl.1 hK hD hR hS (Nat.le_trans (Nat.le_of_ble_eq_true rfl) hF) (Nat.le_trans (Nat.le_of_ble_eq_true rfl) hLo) h_17 (Nat.le_of_ble_eq_true rfl) dX3_goesStep_63 (fun H locs hR hS => ?_)
    refine lv_if_ne (tgt := 71) hx hb dX3_goesStep_66 (by decide) (fun c_18 => ?_) (fun c_18 => ?_)
    · replace hf := ww_in hf c_18
      refine lv_aload_n hx hb dX3_goesStep_71 rfl (lv_at hl 2 rfl) ?_
      refine t3g_6 X hK hR dX3_goesStep_72 ?_
      refine lv_iload_n hx hb dX3_goesStep_75 rfl (lv_at hl 4 rfl) ?_
      obtain ⟨h_19, hf⟩ := ww_gS hf
      refine t3l_6 X hK hR h_19 dX3_goesStep_76 ?_
      refine lv_if_ne (tgt := 91) hx hb dX3_goesStep_77 (by decide) (fun c_20 => ?_) (fun c_20 => ?_)
      · replace hf := ww_in hf c_20
        refine lv_aload_n hx hb dX3_goesStep_91 rfl (lv_at hl 2 rfl) ?_
        refine lv_iload_n hx hb dX3_goesStep_92 rfl (lv_at hl 3 rfl) ?_
        refine lv_iload_n hx hb dX3_goesStep_93 rfl (lv_at hl 1 rfl) ?_
        refine lv_iload hx hb dX3_goesStep_94 (lv_at hl 0 rfl) ?_
        obtain ⟨M_21, h_21, hf⟩ := ww_bS hf
        refine t3c_builderAdds X hl.1 hK hD hR hS (Nat.le_trans (Nat.le_of_ble_eq_true rfl) hF) (Nat.le_trans (Nat.le_of_ble_eq_true rfl) hLo) h_21 (Nat.le_of_ble_eq_true rfl) dX3_goesStep_96 (fun H locs hR hS => ?_)
        refine lv_iconst (v := (1 : Int32)) hx hb dX3_goesStep_99 (by decide) ?_
        exact hend dX3_goesStep_100 rfl (by decide) hf hR hS
      · replace hf := ww_ip hf c_20
        refine lv_aload_n hx hb dX3_goesStep_80 rfl (lv_at hl 2 rfl) ?_
        refine lv_iload_n hx hb dX3_goesStep_81 rfl (lv_at hl 3 rfl) ?_
        refine lv_iload_n hx hb dX3_goesStep_82 rfl (lv_at hl 1 rfl) ?_
        refine lv_iload hx hb dX3_goesStep_83 (lv_at hl 0 rfl) ?_
        obtain ⟨M_22, h_22, hf⟩ := ww_bS hf
        refine t3c_builderPuts X hl.1 hK hD hR hS (Nat.le_trans (Nat.le_of_ble_eq_true rfl) hF) (Nat.le_trans (Nat.le_of_ble_eq_true rfl) hLo) h_22 (Nat.le_of_ble_eq_true rfl) dX3_goesStep_85 (fun H locs hR hS => ?_)
        refine lv_goto (tgt := 99) hx hb dX3_goesStep_88 (by decide) ?_
        refine lv_iconst (v := (1 : Int32)) hx hb dX3_goesStep_99 (by decide) ?_
        exact hend dX3_goesStep_100 rfl (by decide) hf hR hS
    · replace hf := ww_ip hf c_18
      refine lv_iconst (v := (0 : Int32)) hx hb dX3_goesStep_69 (by decide) ?_
      exact hend dX3_goesStep_70 rfl (by decide) hf hR hS
  replace hf := ww_in hf c_16
  refine ww_by ((ww_X M 6 x2) = 3) (fun c_23 => ?_) (fun c_23 => ?_)
  · replace hf := ww_ip hf c_23
    refine ww_tin (k := 3) (off := 101) (tgt := 126) hx hb dX3_goesStep_25 c_23 (by decide) (by decide) (by decide) (by decide) ?_
    refine lv_aload_n hx hb dX3_goesStep_126 rfl (lv_at hl 2 rfl) ?_
    refine t3g_35 X hK hR dX3_goesStep_127 ?_
    refine lv_iload_n hx hb dX3_goesStep_130 rfl (lv_at hl 3 rfl) ?_
    refine lv_aload_n hx hb dX3_goesStep_131 rfl (lv_at hl 2 rfl) ?_
    refine lv_aload_n hx hb dX3_goesStep_132 rfl (lv_at hl 2 rfl) ?_
    refine t3g_35 X hK hR dX3_goesStep_133 ?_
    refine lv_iload_n hx hb dX3_goesStep_136 rfl (lv_at hl 3 rfl) ?_
    obtain ⟨h_24, hf⟩ := ww_gS hf
    refine t3l_35 X hK hR h_24 dX3_goesStep_137 ?_
    refine lv_iload_n hx hb dX3_goesStep_138 rfl (lv_at hl 1 rfl) ?_
    refine lv_iload hx hb dX3_goesStep_139 (lv_at hl 0 rfl) ?_
    refine lv_iconst (v := (1 : Int32)) hx hb dX3_goesStep_141 (by decide) ?_
    refine lv_aload_n hx hb dX3_goesStep_142 rfl (lv_at hl 2 rfl) ?_
    refine t3g_36 X hK hR dX3_goesStep_143 ?_
    refine lv_iload_n hx hb dX3_goesStep_146 rfl (lv_at hl 3 rfl) ?_
    obtain ⟨h_25, hf⟩ := ww_gS hf
    refine t3l_36 X hK hR h_25 dX3_goesStep_147 ?_
    obtain ⟨r_26, M_26, h_26, hf⟩ := ww_b2S hf
    refine t3c_cuts X hl.1 hK hD hR hS (Nat.le_trans (Nat.le_of_ble_eq_true rfl) hF) (Nat.le_trans (Nat.le_of_ble_eq_true rfl) hLo) h_26 (Nat.le_of_ble_eq_true rfl) dX3_goesStep_148 (fun H locs hR hS => ?_)
    obtain ⟨h_27, hf⟩ := ww_gS hf
    refine t3s_35 X hK hD hR hS h_27 dX3_goesStep_151 (fun H locs hR hS => ?_)
    refine lv_iconst (v := (1 : Int32)) hx hb dX3_goesStep_152 (by decide) ?_
    exact hend dX3_goesStep_153 rfl (by decide) hf hR hS
  replace hf := ww_in hf c_23
  refine ww_by ((ww_X M 6 x2) = 4) (fun c_28 => ?_) (fun c_28 => ?_)
  · replace hf := ww_ip hf c_28
    refine ww_tin (k := 4) (off := 129) (tgt := 154) hx hb dX3_goesStep_25 c_28 (by decide) (by decide) (by decide) (by decide) ?_
    refine lv_aload_n hx hb dX3_goesStep_154 rfl (lv_at hl 2 rfl) ?_
    refine lv_iload_n hx hb dX3_goesStep_155 rfl (lv_at hl 3 rfl) ?_
    refine lv_iload_n hx hb dX3_goesStep_156 rfl (lv_at hl 1 rfl) ?_
    refine lv_iload hx hb dX3_goesStep_157 (lv_at hl 0 rfl) ?_
    refine lv_aload_n hx hb dX3_goesStep_159 rfl (lv_at hl 2 rfl) ?_
    refine t3g_6 X hK hR dX3_goesStep_160 ?_
    refine lv_iload_n hx hb dX3_goesStep_163 rfl (lv_at hl 4 rfl) ?_
    refine lv_iconst (v := (3 : Int32)) hx hb dX3_goesStep_164 (by decide) ?_
    refine lv_iadd hx hb dX3_goesStep_165 ?_
    obtain ⟨h_29, hf⟩ := ww_gS hf
    refine t3l_6 X hK hR h_29 dX3_goesStep_166 ?_
    obtain ⟨M_30, h_30, hf⟩ := ww_bS hf
    refine t3c_builderIncs X hl.1 hK hD hR hS (Nat.le_trans (Nat.le_of_ble_eq_true rfl) hF) (Nat.le_trans (Nat.le_of_ble_eq_true rfl) hLo) h_30 (Nat.le_of_ble_eq_true rfl) dX3_goesStep_167 (fun H locs hR hS => ?_)
    refine lv_iconst (v := (1 : Int32)) hx hb dX3_goesStep_170 (by decide) ?_
    exact hend dX3_goesStep_171 rfl (by decide) hf hR hS
  replace hf := ww_in hf c_28
  refine ww_tout (tgt := 172) [0, 1, 2, 3, 4] hx hb dX3_goesStep_25 ⟨c_4, c_11, c_16, c_23, c_28, trivial⟩ (by decide) (by decide) ?_
  refine lv_aload_n hx hb dX3_goesStep_172 rfl (lv_at hl 2 rfl) ?_
  obtain ⟨r_31, h_31, hf⟩ := ww_bS hf
  refine t3c_hasRoom X hl.1 hK hD hR hS (Nat.le_trans (Nat.le_of_ble_eq_true rfl) hF) (Nat.le_trans (Nat.le_of_ble_eq_true rfl) hLo) h_31 (Nat.le_of_ble_eq_true rfl) dX3_goesStep_173 (fun H locs hR hS => ?_)
  refine lv_if_ne (tgt := 181) hx hb dX3_goesStep_176 (by decide) (fun c_32 => ?_) (fun c_32 => ?_)
  · replace hf := ww_in hf c_32
    refine lv_aload_n hx hb dX3_goesStep_181 rfl (lv_at hl 2 rfl) ?_
    refine lv_iload_n hx hb dX3_goesStep_182 rfl (lv_at hl 3 rfl) ?_
    obtain ⟨r_33, M_33, h_33, hf⟩ := ww_b2S hf
    refine t3c_snapped X hl.1 hK hD hR hS (Nat.le_trans (Nat.le_of_ble_eq_true rfl) hF) (Nat.le_trans (Nat.le_of_ble_eq_true rfl) hLo) h_33 (Nat.le_of_ble_eq_true rfl) dX3_goesStep_183 (fun H locs hR hS => ?_)
    refine lv_istore (lv' := [(5, .int r_33), (4, .int (ww_X M 6 (x2 + (2 : Int32)))), (3, .int (ww_X M 6 (x2 + (1 : Int32)))), (0, .ref E.1), (1, .int x1), (2, .int x2)]) hx hb dX3_goesStep_186 hl (by decide) rfl (fun ls hl => ?_)
    refine lv_iconst (v := (1 : Int32)) hx hb dX3_goesStep_188 (by decide) ?_
    exact hend dX3_goesStep_189 rfl (by decide) hf hR hS
  · replace hf := ww_ip hf c_32
    refine lv_iconst (v := (0 : Int32)) hx hb dX3_goesStep_179 (by decide) ?_
    exact hend dX3_goesStep_180 rfl (by decide) hf hR hS
section T3_goesStep_c
variable {p : Program} {l : Launch} {e : Env} {R : Room} {s : State} {m : MethodId} {args : Array Value} {below : List Frame} {meth : Method} {c : Code} {H : Heap} {locs : List Loc} {Q : State → Prop}
variable {cc : ByteArray} {pc : Nat} {ls : Array Slot} {rest : List Value} {nL : Nat} {E : ww_E} {A : Nat → Prop} {H0 : Heap}
theorem t3c_goesStep {M M' : ww_M} {x1 : Int32} {x2 : Int32} {r : Int32} (X : ww_C p m c cc nL s args RX3 lw_all) (hsz : ls.size = nL) (hK : t3_Kn E s) (hD : t3_D E) (hR : t3_H E M H) (hS : va_S (t3_A E) H0 H locs) (hF : 16 ≤ R.frames) (hLo : 364 ≤ R.locals) (hf : f3_goesStep M x1 x2 = some (r, M')) (hrest : (rest.map fun v => v.category).sum ≤ 8) (hdg : decode cc pc = .ok (.invokevirtual 429, 3)) (kk : ∀ (H1 : Heap) (locs1 : List Loc), t3_H E M' H1 → va_S (t3_A E) H0 H1 locs1 → W p l e R s m args below meth c H1 locs1 0 0 Q (F0 m (pc + 3) ls (.int r :: rest))) : W p l e R s m args below meth c H locs 0 0 Q (F0 m pc ls (.int x2 :: .int x1 :: .ref E.1 :: rest)) :=
  t3k_goesStep X hsz hK hD hR hS hF hLo (met3_goesStep l hD _ _ _ _ _ hf) hrest hdg kk
end T3_goesStep_c
noncomputable def f3_run_b1c (y1 : Int32) (y2 : Int32) (M_4 : ww_M) (x4 : Int32) : Option ((ww_M × Int32) ⊕ (Int32 × ww_M)) :=
  ww_g (ww_i y1 5) (if (ww_X M_4 7 y1) ≤ x4 then ww_x (some (x4, M_4)) else ww_b2 (f3_goesStep M_4 y2 ((4 : Int32) * (((16 : Int32) * y1) + x4))) (fun r_7 M_7 => if r_7 = 0 then ww_x (some (x4, M_7)) else some (.inl (M_7, (x4 + (1 : Int32))))))
noncomputable def f3_run_b1 (y1 : Int32) (y2 : Int32) : (ww_M × Int32) → Option ((ww_M × Int32) ⊕ (Int32 × ww_M)) := fun s9 => f3_run_b1c y1 y2 s9.1 s9.2
noncomputable def f3_run_j1 (M : ww_M) (y1 : Int32) (y2 : Int32) (t0 : Int32) : Option (Int32 × ww_M) :=
  if t0 = (-1 : Int32) then ww_b (f3_sweeps M) (fun M_3 => ww_U (f3_run_b1 y1 y2) (M_3, (0 : Int32))) else ww_b2 (f3_refused M t0) (fun r_9 M_9 => some (r_9, M_9))
noncomputable def f3_run (M : ww_M) (x1 : Int32) (x2 : Int32) : Option (Int32 × ww_M) :=
  ww_b (f3_isIn x1.toInt64 (0 : Int64) (((ww_F (ww_sF M 0 (0 : Int32)) 9) - (1 : Int32)).toInt64)) (fun r_1 => if r_1 = 0 then f3_run_j1 (ww_sF M 0 (0 : Int32)) x1 x2 (0 : Int32) else ww_b (f3_stops (ww_sF M 0 (0 : Int32)) x2 (1 : Int32)) (fun r_11 => f3_run_j1 (ww_sF M 0 (0 : Int32)) x1 x2 r_11))
set_option maxHeartbeats 4000000 in
set_option maxRecDepth 100000 in
theorem met3_run (l : Launch) {E : ww_E} (hD : t3_D E) (M : ww_M) (x1 : Int32) (x2 : Int32) (r : Int32) (M' : ww_M) (hf : f3_run M x1 x2 = some (r, M')) : t3_Met l yX3_run cX3_run 5 (some Jvm.ClassFile.FieldType.int) 16 364 E [.int x1, .int x2] M M' r := by
  unfold f3_run at hf
  refine t3_start (by decide +kernel) (Nat.le_of_ble_eq_true rfl) ?_
  intro p e s m args below meth c Rm Q X hK hF hLo hend ls hl hR hS
  obtain ⟨hx, hb, hml, hown, hts⟩ := id X
  replace hl : lv_has ls 5 [(0, .ref E.1), (1, .int x1), (2, .int x2)] := hl
  refine lv_aload_n hx hb dX3_run_0 rfl (lv_at hl 0 rfl) ?_
  refine lv_iconst (v := (0 : Int32)) hx hb dX3_run_1 (by decide) ?_
  refine t3p_0 X hK hD hR hS dX3_run_2 (fun H locs hR hS => ?_)
  refine lv_iload_n hx hb dX3_run_5 rfl (lv_at hl 1 rfl) ?_
  refine lv_i2l (v := x1.toInt64) hx hb dX3_run_6 rfl ?_
  refine lv_lconst (v := (0 : Int64)) hx hb dX3_run_7 (by decide) ?_
  refine lv_aload_n hx hb dX3_run_8 rfl (lv_at hl 0 rfl) ?_
  refine t3g_9 X hK hR dX3_run_9 ?_
  refine lv_iconst (v := (1 : Int32)) hx hb dX3_run_12 (by decide) ?_
  refine lv_isub hx hb dX3_run_13 ?_
  refine lv_i2l (v := ((ww_F (ww_sF M 0 (0 : Int32)) 9) - (1 : Int32)).toInt64) hx hb dX3_run_14 rfl ?_
  obtain ⟨r_1, h_1, hf⟩ := ww_bS hf
  refine t3c_isIn X hl.1 (Nat.le_trans (Nat.le_of_ble_eq_true rfl) hF) (Nat.le_trans (Nat.le_of_ble_eq_true rfl) hLo) h_1 (Nat.le_of_ble_eq_true rfl) dX3_run_15 ?_
  have hj_1 : ∀ (t0 : Int32), f3_run_j1 (ww_sF M 0 (0 : Int32)) x1 x2 t0 = some (r, M') → ∀ (H : Heap) (locs : List Loc) (ls : Array Slot), t3_H E (ww_sF M 0 (0 : Int32)) H → va_S (t3_A E) s.heap H locs → lv_has ls 5 [(0, .ref E.1), (1, .int x1), (2, .int x2)] → W p l e Rm s m args below meth c H locs 0 0 Q (F0 m 31 ls [.int t0]) := by
    intro t0 hf H locs ls hR hS hl
    unfold f3_run_j1 at hf
    refine lv_istore_n (lv' := [(3, .int t0), (0, .ref E.1), (1, .int x1), (2, .int x2)]) hx hb dX3_run_31 rfl hl (by decide) rfl (fun ls hl => ?_)
    refine lv_iload_n hx hb dX3_run_32 rfl (lv_at hl 0 rfl) ?_
    refine lv_iconst (v := (-1 : Int32)) hx hb dX3_run_33 (by decide) ?_
    refine lv_icmp_eq (tgt := 43) hx hb dX3_run_34 (by decide) (fun c_2 => ?_) (fun c_2 => ?_)
    · replace hf := ww_ip hf c_2
      refine lv_aload_n hx hb dX3_run_43 rfl (lv_at hl 1 rfl) ?_
      obtain ⟨M_3, h_3, hf⟩ := ww_bS hf
      refine t3c_sweeps X hl.1 hK hD hR hS (Nat.le_trans (Nat.le_of_ble_eq_true rfl) hF) (Nat.le_trans (Nat.le_of_ble_eq_true rfl) hLo) h_3 (Nat.le_of_ble_eq_true rfl) dX3_run_44 (fun H locs hR hS => ?_)
      refine lv_iconst (v := (0 : Int32)) hx hb dX3_run_47 (by decide) ?_
      refine lv_istore (lv' := [(4, .int (0 : Int32)), (3, .int t0), (0, .ref E.1), (1, .int x1), (2, .int x2)]) hx hb dX3_run_48 hl (by decide) rfl (fun ls hl => ?_)
      have hL_1 : ∀ s9 : ww_M × Int32, ww_U (f3_run_b1 x1 x2) s9 = some (r, M') → ∀ (H : Heap) (locs : List Loc) (ls : Array Slot), t3_H E s9.1 H → va_S (t3_A E) s.heap H locs → lv_has ls 5 [(0, .ref E.1), (1, .int x1), (2, .int x2), (4, .int s9.2)] → W p l e Rm s m args below meth c H locs 0 0 Q (F0 m 50 ls []) := by
        refine ww_ind _ (r, M') ?_
        intro s9 z_1 hf hz_1 H locs ls hR hS hl
        obtain ⟨M_4, x4⟩ := s9
        replace hf : f3_run_b1c x1 x2 M_4 x4 = some z_1 := hf
        unfold f3_run_b1c at hf
        replace hR : t3_H E M_4 H := hR
        replace hl : lv_has ls 5 [(0, .ref E.1), (1, .int x1), (2, .int x2), (4, .int x4)] := hl
        refine lv_iload hx hb dX3_run_50 (lv_at hl 3 rfl) ?_
        refine lv_aload_n hx hb dX3_run_52 rfl (lv_at hl 0 rfl) ?_
        refine t3g_7 X hK hR dX3_run_53 ?_
        refine lv_iload_n hx hb dX3_run_56 rfl (lv_at hl 1 rfl) ?_
        obtain ⟨h_5, hf⟩ := ww_gS hf
        refine t3l_7 X hK hR h_5 dX3_run_57 ?_
        refine lv_icmp_ge (tgt := 84) hx hb dX3_run_58 (by decide) (fun c_6 => ?_) (fun c_6 => ?_)
        · replace hf := ww_ip hf c_6
          replace hf := ww_xK hf hz_1
          refine lv_iload hx hb dX3_run_84 (lv_at hl 3 rfl) ?_
          exact hend dX3_run_86 rfl rfl hf hR hS
        · replace hf := ww_in hf c_6
          refine lv_aload_n hx hb dX3_run_61 rfl (lv_at hl 0 rfl) ?_
          refine lv_iload_n hx hb dX3_run_62 rfl (lv_at hl 2 rfl) ?_
          refine lv_iconst (v := (4 : Int32)) hx hb dX3_run_63 (by decide) ?_
          refine lv_bipush (v := (16 : Int32)) hx hb dX3_run_64 (by decide) ?_
          refine lv_iload_n hx hb dX3_run_66 rfl (lv_at hl 1 rfl) ?_
          refine lv_imul hx hb dX3_run_67 ?_
          refine lv_iload hx hb dX3_run_68 (lv_at hl 3 rfl) ?_
          refine lv_iadd hx hb dX3_run_70 ?_
          refine lv_imul hx hb dX3_run_71 ?_
          obtain ⟨r_7, M_7, h_7, hf⟩ := ww_b2S hf
          refine t3c_goesStep X hl.1 hK hD hR hS (Nat.le_trans (Nat.le_of_ble_eq_true rfl) hF) (Nat.le_trans (Nat.le_of_ble_eq_true rfl) hLo) h_7 (Nat.le_of_ble_eq_true rfl) dX3_run_72 (fun H locs hR hS => ?_)
          refine lv_if_eq (tgt := 84) hx hb dX3_run_75 (by decide) (fun c_8 => ?_) (fun c_8 => ?_)
          · replace hf := ww_ip hf c_8
            replace hf := ww_xK hf hz_1
            refine lv_iload hx hb dX3_run_84 (lv_at hl 3 rfl) ?_
            exact hend dX3_run_86 rfl rfl hf hR hS
          · replace hf := ww_in hf c_8
            refine lv_iinc (k := 3) (v := x4 + (1 : Int32)) (lv' := [(4, .int (x4 + (1 : Int32))), (0, .ref E.1), (1, .int x1), (2, .int x2)]) hx hb dX3_run_78 hl rfl rfl (by decide) rfl (fun ls hl => ?_)
            refine lv_goto (tgt := 50) hx hb dX3_run_81 (by decide) ?_
            exact ww_lK hf hz_1 _ _ _ hR hS (lv_sub hl [1, 2, 3, 0] rfl)
      exact hL_1 (M_3, (0 : Int32)) hf _ _ _ hR hS (lv_sub hl [2, 3, 4, 0] rfl)
    · replace hf := ww_in hf c_2
      refine lv_aload_n hx hb dX3_run_37 rfl (lv_at hl 1 rfl) ?_
      refine lv_iload_n hx hb dX3_run_38 rfl (lv_at hl 0 rfl) ?_
      obtain ⟨r_9, M_9, h_9, hf⟩ := ww_b2S hf
      refine t3c_refused X hl.1 hK hD hR hS (Nat.le_trans (Nat.le_of_ble_eq_true rfl) hF) (Nat.le_trans (Nat.le_of_ble_eq_true rfl) hLo) h_9 (Nat.le_of_ble_eq_true rfl) dX3_run_39 (fun H locs hR hS => ?_)
      exact hend dX3_run_42 rfl rfl hf hR hS
  refine lv_if_eq (tgt := 30) hx hb dX3_run_18 (by decide) (fun c_10 => ?_) (fun c_10 => ?_)
  · replace hf := ww_ip hf c_10
    refine lv_iconst (v := (0 : Int32)) hx hb dX3_run_30 (by decide) ?_
    exact hj_1 (0 : Int32) hf _ _ _ hR hS hl
  · replace hf := ww_in hf c_10
    refine lv_aload_n hx hb dX3_run_21 rfl (lv_at hl 0 rfl) ?_
    refine lv_iload_n hx hb dX3_run_22 rfl (lv_at hl 2 rfl) ?_
    refine lv_iconst (v := (1 : Int32)) hx hb dX3_run_23 (by decide) ?_
    obtain ⟨r_11, h_11, hf⟩ := ww_bS hf
    refine t3c_stops X hl.1 hK hD hR hS (Nat.le_trans (Nat.le_of_ble_eq_true rfl) hF) (Nat.le_trans (Nat.le_of_ble_eq_true rfl) hLo) h_11 (Nat.le_of_ble_eq_true rfl) dX3_run_24 (fun H locs hR hS => ?_)
    refine lv_goto (tgt := 31) hx hb dX3_run_27 (by decide) ?_
    exact hj_1 r_11 hf _ _ _ hR hS hl
noncomputable def f3_sharedBy_b1c (M : ww_M) (x4 : Int32) (x5 : Int32) : Option ((Int32 × Int32) ⊕ (Int32 × ww_M)) :=
  if (ww_F M 31) ≤ x5 then ww_x (some (x4, M)) else ww_g (ww_i x5 240) (ww_g (ww_i (ww_X M 28 x5) 12000) (if (ww_X M 13 (ww_X M 28 x5)) = (ww_F M 22) then some (.inl ((x4 + (1 : Int32)), (x5 + (1 : Int32)))) else some (.inl ((x4 + (0 : Int32)), (x5 + (1 : Int32))))))
noncomputable def f3_sharedBy_b1 (M : ww_M) : (Int32 × Int32) → Option ((Int32 × Int32) ⊕ (Int32 × ww_M)) := fun s9 => f3_sharedBy_b1c M s9.1 s9.2
noncomputable def f3_sharedBy (M : ww_M) (x1 : Int32) (x2 : Int32) : Option (Int32 × ww_M) :=
  ww_g (ww_i x1 999) (ww_b2 (f3_marks 10 (ww_sF M 22 ((ww_F M 22) + (1 : Int32))) (ww_X (ww_sF M 22 ((ww_F M 22) + (1 : Int32))) 32 x1)) (fun r_2 M_2 => ww_g (ww_i x2 999) (ww_b (f3_laysTree M_2 (ww_X M_2 32 x2)) (fun M_4 => ww_U (f3_sharedBy_b1 M_4) ((0 : Int32), (0 : Int32))))))
section T3_sharedBy_k
variable {p : Program} {l : Launch} {e : Env} {R : Room} {s : State} {m : MethodId} {args : Array Value} {below : List Frame} {meth : Method} {c : Code} {H : Heap} {locs : List Loc} {Q : State → Prop}
variable {cc : ByteArray} {pc : Nat} {ls : Array Slot} {rest : List Value} {nL : Nat} {E : ww_E} {A : Nat → Prop} {H0 : Heap}
theorem t3k_sharedBy {M M' : ww_M} {x1 : Int32} {x2 : Int32} {r : Int32} (X : ww_C p m c cc nL s args RX3 lw_all) (hsz : ls.size = nL) (hK : t3_Kn E s) (hD : t3_D E) (hR : t3_H E M H) (hS : va_S (t3_A E) H0 H locs) (hF : 14 ≤ R.frames) (hLo : 321 ≤ R.locals) (hM : t3_Met l yX3_sharedBy cX3_sharedBy 6 (some Jvm.ClassFile.FieldType.int) 13 296 E [.int x1, .int x2] M M' r) (hrest : (rest.map fun v => v.category).sum ≤ 8) (hdg : decode cc pc = .ok (.invokevirtual 432, 3)) (kk : ∀ (H1 : Heap) (locs1 : List Loc), t3_H E M' H1 → va_S (t3_A E) H0 H1 locs1 → W p l e R s m args below meth c H1 locs1 0 0 Q (F0 m (pc + 3) ls (.int r :: rest))) : W p l e R s m args below meth c H locs 0 0 Q (F0 m pc ls (.int x2 :: .int x1 :: .ref E.1 :: rest)) :=
  t3_callI (n := 2) X hsz hK hR hS (As := [.int x1, .int x2]) hM (lw_V q2285 q2287 qs121 q135 q2288) (by decide +kernel) rfl hF hLo (Nat.zero_le _) (Nat.zero_le _) hrest hdg kk
end T3_sharedBy_k
set_option maxHeartbeats 4000000 in
set_option maxRecDepth 100000 in
theorem met3_sharedBy (l : Launch) {E : ww_E} (hD : t3_D E) (M : ww_M) (x1 : Int32) (x2 : Int32) (r : Int32) (M' : ww_M) (hf : f3_sharedBy M x1 x2 = some (r, M')) : t3_Met l yX3_sharedBy cX3_sharedBy 6 (some Jvm.ClassFile.FieldType.int) 13 296 E [.int x1, .int x2] M M' r := by
  unfold f3_sharedBy at hf
  refine t3_start (by decide +kernel) (Nat.le_of_ble_eq_true rfl) ?_
  intro p e s m args below meth c Rm Q X hK hF hLo hend ls hl hR hS
  obtain ⟨hx, hb, hml, hown, hts⟩ := id X
  replace hl : lv_has ls 6 [(0, .ref E.1), (1, .int x1), (2, .int x2)] := hl
  refine lv_aload_n hx hb dX3_sharedBy_0 rfl (lv_at hl 0 rfl) ?_
  refine lv_dup hx hb dX3_sharedBy_1 rfl ?_
  refine t3g_22 X hK hR dX3_sharedBy_2 ?_
  refine lv_iconst (v := (1 : Int32)) hx hb dX3_sharedBy_5 (by decide) ?_
  refine lv_iadd hx hb dX3_sharedBy_6 ?_
  refine t3p_22 X hK hD hR hS dX3_sharedBy_7 (fun H locs hR hS => ?_)
  refine lv_aload_n hx hb dX3_sharedBy_10 rfl (lv_at hl 0 rfl) ?_
  refine lv_aload_n hx hb dX3_sharedBy_11 rfl (lv_at hl 0 rfl) ?_
  refine t3g_32 X hK hR dX3_sharedBy_12 ?_
  refine lv_iload_n hx hb dX3_sharedBy_15 rfl (lv_at hl 1 rfl) ?_
  obtain ⟨h_1, hf⟩ := ww_gS hf
  refine t3l_32 X hK hR h_1 dX3_sharedBy_16 ?_
  obtain ⟨r_2, M_2, h_2, hf⟩ := ww_b2S hf
  refine t3c_marks X hl.1 hK hD hR hS (Nat.le_trans (Nat.le_of_ble_eq_true rfl) hF) (Nat.le_trans (Nat.le_of_ble_eq_true rfl) hLo) h_2 (Nat.le_of_ble_eq_true rfl) dX3_sharedBy_17 (fun H locs hR hS => ?_)
  refine lv_istore_n (lv' := [(3, .int r_2), (0, .ref E.1), (1, .int x1), (2, .int x2)]) hx hb dX3_sharedBy_20 rfl hl (by decide) rfl (fun ls hl => ?_)
  refine lv_aload_n hx hb dX3_sharedBy_21 rfl (lv_at hl 1 rfl) ?_
  refine lv_aload_n hx hb dX3_sharedBy_22 rfl (lv_at hl 1 rfl) ?_
  refine t3g_32 X hK hR dX3_sharedBy_23 ?_
  refine lv_iload_n hx hb dX3_sharedBy_26 rfl (lv_at hl 3 rfl) ?_
  obtain ⟨h_3, hf⟩ := ww_gS hf
  refine t3l_32 X hK hR h_3 dX3_sharedBy_27 ?_
  obtain ⟨M_4, h_4, hf⟩ := ww_bS hf
  refine t3c_laysTree X hl.1 hK hD hR hS (Nat.le_trans (Nat.le_of_ble_eq_true rfl) hF) (Nat.le_trans (Nat.le_of_ble_eq_true rfl) hLo) h_4 (Nat.le_of_ble_eq_true rfl) dX3_sharedBy_28 (fun H locs hR hS => ?_)
  refine lv_iconst (v := (0 : Int32)) hx hb dX3_sharedBy_31 (by decide) ?_
  refine lv_istore (lv' := [(4, .int (0 : Int32)), (3, .int r_2), (0, .ref E.1), (1, .int x1), (2, .int x2)]) hx hb dX3_sharedBy_32 hl (by decide) rfl (fun ls hl => ?_)
  refine lv_iconst (v := (0 : Int32)) hx hb dX3_sharedBy_34 (by decide) ?_
  refine lv_istore (lv' := [(5, .int (0 : Int32)), (4, .int (0 : Int32)), (3, .int r_2), (0, .ref E.1), (1, .int x1), (2, .int x2)]) hx hb dX3_sharedBy_35 hl (by decide) rfl (fun ls hl => ?_)
  have hL_1 : ∀ s9 : Int32 × Int32, ww_U (f3_sharedBy_b1 M_4) s9 = some (r, M') → ∀ (H : Heap) (locs : List Loc) (ls : Array Slot), t3_H E M_4 H → va_S (t3_A E) s.heap H locs → lv_has ls 6 [(0, .ref E.1), (4, .int s9.1), (5, .int s9.2)] → W p l e Rm s m args below meth c H locs 0 0 Q (F0 m 37 ls []) := by
    refine ww_ind _ (r, M') ?_
    intro s9 z_1 hf hz_1 H locs ls hR hS hl
    obtain ⟨x4, x5⟩ := s9
    replace hf : f3_sharedBy_b1c M_4 x4 x5 = some z_1 := hf
    unfold f3_sharedBy_b1c at hf
    replace hl : lv_has ls 6 [(0, .ref E.1), (4, .int x4), (5, .int x5)] := hl
    refine lv_iload hx hb dX3_sharedBy_37 (lv_at hl 2 rfl) ?_
    refine lv_aload_n hx hb dX3_sharedBy_39 rfl (lv_at hl 0 rfl) ?_
    refine t3g_31 X hK hR dX3_sharedBy_40 ?_
    refine lv_icmp_ge (tgt := 81) hx hb dX3_sharedBy_43 (by decide) (fun c_5 => ?_) (fun c_5 => ?_)
    · replace hf := ww_ip hf c_5
      replace hf := ww_xK hf hz_1
      refine lv_iload hx hb dX3_sharedBy_81 (lv_at hl 1 rfl) ?_
      exact hend dX3_sharedBy_83 rfl rfl hf hR hS
    · replace hf := ww_in hf c_5
      refine lv_iload hx hb dX3_sharedBy_46 (lv_at hl 1 rfl) ?_
      refine lv_aload_n hx hb dX3_sharedBy_48 rfl (lv_at hl 0 rfl) ?_
      refine t3g_13 X hK hR dX3_sharedBy_49 ?_
      refine lv_aload_n hx hb dX3_sharedBy_52 rfl (lv_at hl 0 rfl) ?_
      refine t3g_28 X hK hR dX3_sharedBy_53 ?_
      refine lv_iload hx hb dX3_sharedBy_56 (lv_at hl 2 rfl) ?_
      obtain ⟨h_6, hf⟩ := ww_gS hf
      refine t3l_28 X hK hR h_6 dX3_sharedBy_58 ?_
      obtain ⟨h_7, hf⟩ := ww_gS hf
      refine t3l_13 X hK hR h_7 dX3_sharedBy_59 ?_
      refine lv_aload_n hx hb dX3_sharedBy_60 rfl (lv_at hl 0 rfl) ?_
      refine t3g_22 X hK hR dX3_sharedBy_61 ?_
      refine lv_icmp_ne (tgt := 71) hx hb dX3_sharedBy_64 (by decide) (fun c_8 => ?_) (fun c_8 => ?_)
      · replace hf := ww_in hf c_8
        refine lv_iconst (v := (0 : Int32)) hx hb dX3_sharedBy_71 (by decide) ?_
        refine lv_iadd hx hb dX3_sharedBy_72 ?_
        refine lv_istore (lv' := [(4, .int (x4 + (0 : Int32))), (0, .ref E.1), (5, .int x5)]) hx hb dX3_sharedBy_73 hl (by decide) rfl (fun ls hl => ?_)
        refine lv_iinc (k := 2) (v := x5 + (1 : Int32)) (lv' := [(5, .int (x5 + (1 : Int32))), (4, .int (x4 + (0 : Int32))), (0, .ref E.1)]) hx hb dX3_sharedBy_75 hl rfl rfl (by decide) rfl (fun ls hl => ?_)
        refine lv_goto (tgt := 37) hx hb dX3_sharedBy_78 (by decide) ?_
        exact ww_lK hf hz_1 _ _ _ hR hS (lv_sub hl [2, 1, 0] rfl)
      · replace hf := ww_ip hf c_8
        refine lv_iconst (v := (1 : Int32)) hx hb dX3_sharedBy_67 (by decide) ?_
        refine lv_goto (tgt := 72) hx hb dX3_sharedBy_68 (by decide) ?_
        refine lv_iadd hx hb dX3_sharedBy_72 ?_
        refine lv_istore (lv' := [(4, .int (x4 + (1 : Int32))), (0, .ref E.1), (5, .int x5)]) hx hb dX3_sharedBy_73 hl (by decide) rfl (fun ls hl => ?_)
        refine lv_iinc (k := 2) (v := x5 + (1 : Int32)) (lv' := [(5, .int (x5 + (1 : Int32))), (4, .int (x4 + (1 : Int32))), (0, .ref E.1)]) hx hb dX3_sharedBy_75 hl rfl rfl (by decide) rfl (fun ls hl => ?_)
        refine lv_goto (tgt := 37) hx hb dX3_sharedBy_78 (by decide) ?_
        exact ww_lK hf hz_1 _ _ _ hR hS (lv_sub hl [2, 1, 0] rfl)
  exact hL_1 ((0 : Int32), (0 : Int32)) hf _ _ _ hR hS (lv_sub hl [3, 1, 0] rfl)
section T3_sharedBy_c
variable {p : Program} {l : Launch} {e : Env} {R : Room} {s : State} {m : MethodId} {args : Array Value} {below : List Frame} {meth : Method} {c : Code} {H : Heap} {locs : List Loc} {Q : State → Prop}
variable {cc : ByteArray} {pc : Nat} {ls : Array Slot} {rest : List Value} {nL : Nat} {E : ww_E} {A : Nat → Prop} {H0 : Heap}
theorem t3c_sharedBy {M M' : ww_M} {x1 : Int32} {x2 : Int32} {r : Int32} (X : ww_C p m c cc nL s args RX3 lw_all) (hsz : ls.size = nL) (hK : t3_Kn E s) (hD : t3_D E) (hR : t3_H E M H) (hS : va_S (t3_A E) H0 H locs) (hF : 14 ≤ R.frames) (hLo : 321 ≤ R.locals) (hf : f3_sharedBy M x1 x2 = some (r, M')) (hrest : (rest.map fun v => v.category).sum ≤ 8) (hdg : decode cc pc = .ok (.invokevirtual 432, 3)) (kk : ∀ (H1 : Heap) (locs1 : List Loc), t3_H E M' H1 → va_S (t3_A E) H0 H1 locs1 → W p l e R s m args below meth c H1 locs1 0 0 Q (F0 m (pc + 3) ls (.int r :: rest))) : W p l e R s m args below meth c H locs 0 0 Q (F0 m pc ls (.int x2 :: .int x1 :: .ref E.1 :: rest)) :=
  t3k_sharedBy X hsz hK hD hR hS hF hLo (met3_sharedBy l hD _ _ _ _ _ hf) hrest hdg kk
end T3_sharedBy_c
noncomputable def f3_shared (M : ww_M) (x1 : Int32) (x2 : Int32) : Option (Int32 × ww_M) :=
  ww_b (f3_isMap (ww_sF M 0 (0 : Int32)) x1) (fun r_1 => if r_1 = 0 then some ((-1 : Int32), (ww_sF M 0 (0 : Int32))) else ww_b (f3_isMap (ww_sF M 0 (0 : Int32)) x2) (fun r_3 => if r_3 = 0 then some ((-1 : Int32), (ww_sF M 0 (0 : Int32))) else ww_b2 (f3_sharedBy (ww_sF M 0 (0 : Int32)) x1 x2) (fun r_5 M_5 => some (r_5, M_5))))
set_option maxHeartbeats 4000000 in
set_option maxRecDepth 100000 in
theorem met3_shared (l : Launch) {E : ww_E} (hD : t3_D E) (M : ww_M) (x1 : Int32) (x2 : Int32) (r : Int32) (M' : ww_M) (hf : f3_shared M x1 x2 = some (r, M')) : t3_Met l yX3_shared cX3_shared 3 (some Jvm.ClassFile.FieldType.int) 14 321 E [.int x1, .int x2] M M' r := by
  unfold f3_shared at hf
  refine t3_start (by decide +kernel) (Nat.le_of_ble_eq_true rfl) ?_
  intro p e s m args below meth c Rm Q X hK hF hLo hend ls hl hR hS
  obtain ⟨hx, hb, hml, hown, hts⟩ := id X
  replace hl : lv_has ls 3 [(0, .ref E.1), (1, .int x1), (2, .int x2)] := hl
  refine lv_aload_n hx hb dX3_shared_0 rfl (lv_at hl 0 rfl) ?_
  refine lv_iconst (v := (0 : Int32)) hx hb dX3_shared_1 (by decide) ?_
  refine t3p_0 X hK hD hR hS dX3_shared_2 (fun H locs hR hS => ?_)
  refine lv_aload_n hx hb dX3_shared_5 rfl (lv_at hl 0 rfl) ?_
  refine lv_iload_n hx hb dX3_shared_6 rfl (lv_at hl 1 rfl) ?_
  obtain ⟨r_1, h_1, hf⟩ := ww_bS hf
  refine t3c_isMap X hl.1 hK hD hR hS (Nat.le_trans (Nat.le_of_ble_eq_true rfl) hF) (Nat.le_trans (Nat.le_of_ble_eq_true rfl) hLo) h_1 (Nat.le_of_ble_eq_true rfl) dX3_shared_7 (fun H locs hR hS => ?_)
  refine lv_if_eq (tgt := 30) hx hb dX3_shared_10 (by decide) (fun c_2 => ?_) (fun c_2 => ?_)
  · replace hf := ww_ip hf c_2
    refine lv_iconst (v := (-1 : Int32)) hx hb dX3_shared_30 (by decide) ?_
    exact hend dX3_shared_31 rfl rfl hf hR hS
  · replace hf := ww_in hf c_2
    refine lv_aload_n hx hb dX3_shared_13 rfl (lv_at hl 0 rfl) ?_
    refine lv_iload_n hx hb dX3_shared_14 rfl (lv_at hl 2 rfl) ?_
    obtain ⟨r_3, h_3, hf⟩ := ww_bS hf
    refine t3c_isMap X hl.1 hK hD hR hS (Nat.le_trans (Nat.le_of_ble_eq_true rfl) hF) (Nat.le_trans (Nat.le_of_ble_eq_true rfl) hLo) h_3 (Nat.le_of_ble_eq_true rfl) dX3_shared_15 (fun H locs hR hS => ?_)
    refine lv_if_eq (tgt := 30) hx hb dX3_shared_18 (by decide) (fun c_4 => ?_) (fun c_4 => ?_)
    · replace hf := ww_ip hf c_4
      refine lv_iconst (v := (-1 : Int32)) hx hb dX3_shared_30 (by decide) ?_
      exact hend dX3_shared_31 rfl rfl hf hR hS
    · replace hf := ww_in hf c_4
      refine lv_aload_n hx hb dX3_shared_21 rfl (lv_at hl 0 rfl) ?_
      refine lv_iload_n hx hb dX3_shared_22 rfl (lv_at hl 1 rfl) ?_
      refine lv_iload_n hx hb dX3_shared_23 rfl (lv_at hl 2 rfl) ?_
      obtain ⟨r_5, M_5, h_5, hf⟩ := ww_b2S hf
      refine t3c_sharedBy X hl.1 hK hD hR hS (Nat.le_trans (Nat.le_of_ble_eq_true rfl) hF) (Nat.le_trans (Nat.le_of_ble_eq_true rfl) hLo) h_5 (Nat.le_of_ble_eq_true rfl) dX3_shared_24 (fun H locs hR hS => ?_)
      refine lv_goto (tgt := 31) hx hb dX3_shared_27 (by decide) ?_
      exact hend dX3_shared_31 rfl rfl hf hR hS
noncomputable def f3_looked (M : ww_M) (x1 : Int32) (x2 : Int32) : Option (Int32 × ww_M) :=
  ww_b (f3_isMap (ww_sF M 0 (0 : Int32)) x1) (fun r_1 => if r_1 = 0 then some ((-1 : Int32), (ww_sF M 0 (0 : Int32))) else ww_b (f3_isMap (ww_sF M 0 (0 : Int32)) x2) (fun r_3 => if r_3 = 0 then some ((-1 : Int32), (ww_sF M 0 (0 : Int32))) else ww_b2 (f3_sharedBy (ww_sF M 0 (0 : Int32)) x1 x2) (fun r_5 M_5 => ww_g (ww_i x1 999) (ww_b (f3_laysTree M_5 (ww_X M_5 32 x1)) (fun M_7 => some (((((-2 : Int32) * r_5) + (ww_F M_5 31)) + (ww_F M_7 31)), M_7))))))
set_option maxHeartbeats 4000000 in
set_option maxRecDepth 100000 in
theorem met3_looked (l : Launch) {E : ww_E} (hD : t3_D E) (M : ww_M) (x1 : Int32) (x2 : Int32) (r : Int32) (M' : ww_M) (hf : f3_looked M x1 x2 = some (r, M')) : t3_Met l yX3_looked cX3_looked 4 (some Jvm.ClassFile.FieldType.int) 14 321 E [.int x1, .int x2] M M' r := by
  unfold f3_looked at hf
  refine t3_start (by decide +kernel) (Nat.le_of_ble_eq_true rfl) ?_
  intro p e s m args below meth c Rm Q X hK hF hLo hend ls hl hR hS
  obtain ⟨hx, hb, hml, hown, hts⟩ := id X
  replace hl : lv_has ls 4 [(0, .ref E.1), (1, .int x1), (2, .int x2)] := hl
  refine lv_aload_n hx hb dX3_looked_0 rfl (lv_at hl 0 rfl) ?_
  refine lv_iconst (v := (0 : Int32)) hx hb dX3_looked_1 (by decide) ?_
  refine t3p_0 X hK hD hR hS dX3_looked_2 (fun H locs hR hS => ?_)
  refine lv_aload_n hx hb dX3_looked_5 rfl (lv_at hl 0 rfl) ?_
  refine lv_iload_n hx hb dX3_looked_6 rfl (lv_at hl 1 rfl) ?_
  obtain ⟨r_1, h_1, hf⟩ := ww_bS hf
  refine t3c_isMap X hl.1 hK hD hR hS (Nat.le_trans (Nat.le_of_ble_eq_true rfl) hF) (Nat.le_trans (Nat.le_of_ble_eq_true rfl) hLo) h_1 (Nat.le_of_ble_eq_true rfl) dX3_looked_7 (fun H locs hR hS => ?_)
  refine lv_if_eq (tgt := 21) hx hb dX3_looked_10 (by decide) (fun c_2 => ?_) (fun c_2 => ?_)
  · replace hf := ww_ip hf c_2
    refine lv_iconst (v := (-1 : Int32)) hx hb dX3_looked_21 (by decide) ?_
    exact hend dX3_looked_22 rfl rfl hf hR hS
  · replace hf := ww_in hf c_2
    refine lv_aload_n hx hb dX3_looked_13 rfl (lv_at hl 0 rfl) ?_
    refine lv_iload_n hx hb dX3_looked_14 rfl (lv_at hl 2 rfl) ?_
    obtain ⟨r_3, h_3, hf⟩ := ww_bS hf
    refine t3c_isMap X hl.1 hK hD hR hS (Nat.le_trans (Nat.le_of_ble_eq_true rfl) hF) (Nat.le_trans (Nat.le_of_ble_eq_true rfl) hLo) h_3 (Nat.le_of_ble_eq_true rfl) dX3_looked_15 (fun H locs hR hS => ?_)
    refine lv_if_ne (tgt := 23) hx hb dX3_looked_18 (by decide) (fun c_4 => ?_) (fun c_4 => ?_)
    · replace hf := ww_in hf c_4
      refine lv_bipush (v := (-2 : Int32)) hx hb dX3_looked_23 (by decide) ?_
      refine lv_aload_n hx hb dX3_looked_25 rfl (lv_at hl 0 rfl) ?_
      refine lv_iload_n hx hb dX3_looked_26 rfl (lv_at hl 1 rfl) ?_
      refine lv_iload_n hx hb dX3_looked_27 rfl (lv_at hl 2 rfl) ?_
      obtain ⟨r_5, M_5, h_5, hf⟩ := ww_b2S hf
      refine t3c_sharedBy X hl.1 hK hD hR hS (Nat.le_trans (Nat.le_of_ble_eq_true rfl) hF) (Nat.le_trans (Nat.le_of_ble_eq_true rfl) hLo) h_5 (Nat.le_of_ble_eq_true rfl) dX3_looked_28 (fun H locs hR hS => ?_)
      refine lv_imul hx hb dX3_looked_31 ?_
      refine lv_istore_n (lv' := [(3, .int ((-2 : Int32) * r_5)), (0, .ref E.1), (1, .int x1), (2, .int x2)]) hx hb dX3_looked_32 rfl hl (by decide) rfl (fun ls hl => ?_)
      refine lv_iload_n hx hb dX3_looked_33 rfl (lv_at hl 0 rfl) ?_
      refine lv_aload_n hx hb dX3_looked_34 rfl (lv_at hl 1 rfl) ?_
      refine t3g_31 X hK hR dX3_looked_35 ?_
      refine lv_iadd hx hb dX3_looked_38 ?_
      refine lv_istore_n (lv' := [(3, .int (((-2 : Int32) * r_5) + (ww_F M_5 31))), (0, .ref E.1), (1, .int x1), (2, .int x2)]) hx hb dX3_looked_39 rfl hl (by decide) rfl (fun ls hl => ?_)
      refine lv_aload_n hx hb dX3_looked_40 rfl (lv_at hl 1 rfl) ?_
      refine lv_aload_n hx hb dX3_looked_41 rfl (lv_at hl 1 rfl) ?_
      refine t3g_32 X hK hR dX3_looked_42 ?_
      refine lv_iload_n hx hb dX3_looked_45 rfl (lv_at hl 2 rfl) ?_
      obtain ⟨h_6, hf⟩ := ww_gS hf
      refine t3l_32 X hK hR h_6 dX3_looked_46 ?_
      obtain ⟨M_7, h_7, hf⟩ := ww_bS hf
      refine t3c_laysTree X hl.1 hK hD hR hS (Nat.le_trans (Nat.le_of_ble_eq_true rfl) hF) (Nat.le_trans (Nat.le_of_ble_eq_true rfl) hLo) h_7 (Nat.le_of_ble_eq_true rfl) dX3_looked_47 (fun H locs hR hS => ?_)
      refine lv_iload_n hx hb dX3_looked_50 rfl (lv_at hl 0 rfl) ?_
      refine lv_aload_n hx hb dX3_looked_51 rfl (lv_at hl 1 rfl) ?_
      refine t3g_31 X hK hR dX3_looked_52 ?_
      refine lv_iadd hx hb dX3_looked_55 ?_
      exact hend dX3_looked_56 rfl rfl hf hR hS
    · replace hf := ww_ip hf c_4
      refine lv_iconst (v := (-1 : Int32)) hx hb dX3_looked_21 (by decide) ?_
      exact hend dX3_looked_22 rfl rfl hf hR hS
noncomputable def f3_difference_b1c (M : ww_M) (y3 : Int32) (y4 : Int32) (x5 : Int32) (x6 : Int32) : Option ((Int32 × Int32) ⊕ (Int32 × ww_M)) :=
  if (999 : Int32) < x6 then ww_x (if y3 = (-1 : Int32) then some (x5, M) else some ((-1000000 : Int32), M)) else ww_b (f3_isUnlike M x6 (0 : Int32) (1 : Int32)) (fun r_11 => if r_11 = 0 then some (.inl (x5, (x6 + (1 : Int32)))) else if x5 = y3 then ww_x (if y4 = 0 then some (x6, M) else ww_g (ww_i x6 1000) (ww_b (f3_has (ww_X M 45 x6) (y4 - (1 : Int32))) (fun r_16 => if r_16 = 0 then some ((-1000000 : Int32), M) else ww_g (ww_i ((((3 : Int32) * x6) + y4) - (1 : Int32)) 3000) (some ((ww_X M 46 ((((3 : Int32) * x6) + y4) - (1 : Int32))), M))))) else some (.inl ((x5 + (1 : Int32)), (x6 + (1 : Int32)))))
noncomputable def f3_difference_b1 (M : ww_M) (y3 : Int32) (y4 : Int32) : (Int32 × Int32) → Option ((Int32 × Int32) ⊕ (Int32 × ww_M)) := fun s9 => f3_difference_b1c M y3 y4 s9.1 s9.2
noncomputable def f3_difference_j1 (M : ww_M) (y1 : Int32) (y2 : Int32) (y3 : Int32) (y4 : Int32) : Option (Int32 × ww_M) :=
  ww_g (ww_i y1 999) (ww_g (ww_i y2 999) (ww_b (f3_laysTwo M (ww_X M 32 y1) (ww_X M 32 y2)) (fun M_8 => ww_U (f3_difference_b1 M_8 y3 y4) ((0 : Int32), (0 : Int32)))))
noncomputable def f3_difference (M : ww_M) (x1 : Int32) (x2 : Int32) (x3 : Int32) (x4 : Int32) : Option (Int32 × ww_M) :=
  ww_b (f3_isMap (ww_sF M 0 (0 : Int32)) x1) (fun r_1 => if r_1 = 0 then some ((-1000000 : Int32), (ww_sF M 0 (0 : Int32))) else ww_b (f3_isMap (ww_sF M 0 (0 : Int32)) x2) (fun r_3 => if r_3 = 0 then some ((-1000000 : Int32), (ww_sF M 0 (0 : Int32))) else if x3 < (-1 : Int32) then some ((-1000000 : Int32), (ww_sF M 0 (0 : Int32))) else if x3 < 0 then f3_difference_j1 (ww_sF M 0 (0 : Int32)) x1 x2 x3 x4 else ww_b (f3_isIn x4.toInt64 (0 : Int64) (2 : Int64)) (fun r_20 => if r_20 = 0 then some ((-1000000 : Int32), (ww_sF M 0 (0 : Int32))) else f3_difference_j1 (ww_sF M 0 (0 : Int32)) x1 x2 x3 x4)))
set_option maxHeartbeats 4000000 in
set_option maxRecDepth 100000 in
theorem met3_difference (l : Launch) {E : ww_E} (hD : t3_D E) (M : ww_M) (x1 : Int32) (x2 : Int32) (x3 : Int32) (x4 : Int32) (r : Int32) (M' : ww_M) (hf : f3_difference M x1 x2 x3 x4 = some (r, M')) : t3_Met l yX3_difference cX3_difference 7 (some Jvm.ClassFile.FieldType.int) 15 342 E [.int x1, .int x2, .int x3, .int x4] M M' r := by
  unfold f3_difference at hf
  refine t3_start (by decide +kernel) (Nat.le_of_ble_eq_true rfl) ?_
  intro p e s m args below meth c Rm Q X hK hF hLo hend ls hl hR hS
  obtain ⟨hx, hb, hml, hown, hts⟩ := id X
  replace hl : lv_has ls 7 [(0, .ref E.1), (1, .int x1), (2, .int x2), (3, .int x3), (4, .int x4)] := hl
  refine lv_aload_n hx hb dX3_difference_0 rfl (lv_at hl 0 rfl) ?_
  refine lv_iconst (v := (0 : Int32)) hx hb dX3_difference_1 (by decide) ?_
  refine t3p_0 X hK hD hR hS dX3_difference_2 (fun H locs hR hS => ?_)
  refine lv_aload_n hx hb dX3_difference_5 rfl (lv_at hl 0 rfl) ?_
  refine lv_iload_n hx hb dX3_difference_6 rfl (lv_at hl 1 rfl) ?_
  obtain ⟨r_1, h_1, hf⟩ := ww_bS hf
  refine t3c_isMap X hl.1 hK hD hR hS (Nat.le_trans (Nat.le_of_ble_eq_true rfl) hF) (Nat.le_trans (Nat.le_of_ble_eq_true rfl) hLo) h_1 (Nat.le_of_ble_eq_true rfl) dX3_difference_7 (fun H locs hR hS => ?_)
  refine lv_if_eq (tgt := 43) hx hb dX3_difference_10 (by decide) (fun c_2 => ?_) (fun c_2 => ?_)
  · replace hf := ww_ip hf c_2
    refine lv_ldc (v := (-1000000 : Int32)) hx hb hown (hts _ q1942) dX3_difference_43 ?_
    exact hend dX3_difference_45 rfl rfl hf hR hS
  · replace hf := ww_in hf c_2
    refine lv_aload_n hx hb dX3_difference_13 rfl (lv_at hl 0 rfl) ?_
    refine lv_iload_n hx hb dX3_difference_14 rfl (lv_at hl 2 rfl) ?_
    obtain ⟨r_3, h_3, hf⟩ := ww_bS hf
    refine t3c_isMap X hl.1 hK hD hR hS (Nat.le_trans (Nat.le_of_ble_eq_true rfl) hF) (Nat.le_trans (Nat.le_of_ble_eq_true rfl) hLo) h_3 (Nat.le_of_ble_eq_true rfl) dX3_difference_15 (fun H locs hR hS => ?_)
    refine lv_if_eq (tgt := 43) hx hb dX3_difference_18 (by decide) (fun c_4 => ?_) (fun c_4 => ?_)
    · replace hf := ww_ip hf c_4
      refine lv_ldc (v := (-1000000 : Int32)) hx hb hown (hts _ q1942) dX3_difference_43 ?_
      exact hend dX3_difference_45 rfl rfl hf hR hS
    · replace hf := ww_in hf c_4
      refine lv_iload_n hx hb dX3_difference_21 rfl (lv_at hl 3 rfl) ?_
      refine lv_iconst (v := (-1 : Int32)) hx hb dX3_difference_22 (by decide) ?_
      refine lv_icmp_lt (tgt := 43) hx hb dX3_difference_23 (by decide) (fun c_5 => ?_) (fun c_5 => ?_)
      · replace hf := ww_ip hf c_5
        refine lv_ldc (v := (-1000000 : Int32)) hx hb hown (hts _ q1942) dX3_difference_43 ?_
        exact hend dX3_difference_45 rfl rfl hf hR hS
      · replace hf := ww_in hf c_5
        refine lv_iload_n hx hb dX3_difference_26 rfl (lv_at hl 3 rfl) ?_
        have hj_1 : f3_difference_j1 (ww_sF M 0 (0 : Int32)) x1 x2 x3 x4 = some (r, M') → ∀ (H : Heap) (locs : List Loc) (ls : Array Slot), t3_H E (ww_sF M 0 (0 : Int32)) H → va_S (t3_A E) s.heap H locs → lv_has ls 7 [(0, .ref E.1), (1, .int x1), (2, .int x2), (3, .int x3), (4, .int x4)] → W p l e Rm s m args below meth c H locs 0 0 Q (F0 m 46 ls []) := by
          intro  hf H locs ls hR hS hl
          unfold f3_difference_j1 at hf
          refine lv_aload_n hx hb dX3_difference_46 rfl (lv_at hl 0 rfl) ?_
          refine lv_aload_n hx hb dX3_difference_47 rfl (lv_at hl 0 rfl) ?_
          refine t3g_32 X hK hR dX3_difference_48 ?_
          refine lv_iload_n hx hb dX3_difference_51 rfl (lv_at hl 1 rfl) ?_
          obtain ⟨h_6, hf⟩ := ww_gS hf
          refine t3l_32 X hK hR h_6 dX3_difference_52 ?_
          refine lv_aload_n hx hb dX3_difference_53 rfl (lv_at hl 0 rfl) ?_
          refine t3g_32 X hK hR dX3_difference_54 ?_
          refine lv_iload_n hx hb dX3_difference_57 rfl (lv_at hl 2 rfl) ?_
          obtain ⟨h_7, hf⟩ := ww_gS hf
          refine t3l_32 X hK hR h_7 dX3_difference_58 ?_
          obtain ⟨M_8, h_8, hf⟩ := ww_bS hf
          refine t3c_laysTwo X hl.1 hK hD hR hS (Nat.le_trans (Nat.le_of_ble_eq_true rfl) hF) (Nat.le_trans (Nat.le_of_ble_eq_true rfl) hLo) h_8 (Nat.le_of_ble_eq_true rfl) dX3_difference_59 (fun H locs hR hS => ?_)
          refine lv_iconst (v := (0 : Int32)) hx hb dX3_difference_62 (by decide) ?_
          refine lv_istore (lv' := [(5, .int (0 : Int32)), (0, .ref E.1), (1, .int x1), (2, .int x2), (3, .int x3), (4, .int x4)]) hx hb dX3_difference_63 hl (by decide) rfl (fun ls hl => ?_)
          refine lv_iconst (v := (0 : Int32)) hx hb dX3_difference_65 (by decide) ?_
          refine lv_istore (lv' := [(6, .int (0 : Int32)), (5, .int (0 : Int32)), (0, .ref E.1), (1, .int x1), (2, .int x2), (3, .int x3), (4, .int x4)]) hx hb dX3_difference_66 hl (by decide) rfl (fun ls hl => ?_)
          have hL_1 : ∀ s9 : Int32 × Int32, ww_U (f3_difference_b1 M_8 x3 x4) s9 = some (r, M') → ∀ (H : Heap) (locs : List Loc) (ls : Array Slot), t3_H E M_8 H → va_S (t3_A E) s.heap H locs → lv_has ls 7 [(0, .ref E.1), (3, .int x3), (4, .int x4), (5, .int s9.1), (6, .int s9.2)] → W p l e Rm s m args below meth c H locs 0 0 Q (F0 m 68 ls []) := by
            refine ww_ind _ (r, M') ?_
            intro s9 z_1 hf hz_1 H locs ls hR hS hl
            obtain ⟨x5, x6⟩ := s9
            replace hf : f3_difference_b1c M_8 x3 x4 x5 x6 = some z_1 := hf
            unfold f3_difference_b1c at hf
            replace hl : lv_has ls 7 [(0, .ref E.1), (3, .int x3), (4, .int x4), (5, .int x5), (6, .int x6)] := hl
            refine lv_iload hx hb dX3_difference_68 (lv_at hl 4 rfl) ?_
            refine lv_sipush (v := (999 : Int32)) hx hb dX3_difference_70 (by decide) ?_
            refine lv_icmp_gt (tgt := 152) hx hb dX3_difference_73 (by decide) (fun c_9 => ?_) (fun c_9 => ?_)
            · replace hf := ww_ip hf c_9
              replace hf := ww_xK hf hz_1
              refine lv_iload_n hx hb dX3_difference_152 rfl (lv_at hl 1 rfl) ?_
              refine lv_iconst (v := (-1 : Int32)) hx hb dX3_difference_153 (by decide) ?_
              refine lv_icmp_ne (tgt := 162) hx hb dX3_difference_154 (by decide) (fun c_10 => ?_) (fun c_10 => ?_)
              · replace hf := ww_in hf c_10
                refine lv_ldc (v := (-1000000 : Int32)) hx hb hown (hts _ q1942) dX3_difference_162 ?_
                exact hend dX3_difference_164 rfl rfl hf hR hS
              · replace hf := ww_ip hf c_10
                refine lv_iload hx hb dX3_difference_157 (lv_at hl 3 rfl) ?_
                refine lv_goto (tgt := 164) hx hb dX3_difference_159 (by decide) ?_
                exact hend dX3_difference_164 rfl rfl hf hR hS
            · replace hf := ww_in hf c_9
              refine lv_aload_n hx hb dX3_difference_76 rfl (lv_at hl 0 rfl) ?_
              refine lv_iload hx hb dX3_difference_77 (lv_at hl 4 rfl) ?_
              refine lv_iconst (v := (0 : Int32)) hx hb dX3_difference_79 (by decide) ?_
              refine lv_iconst (v := (1 : Int32)) hx hb dX3_difference_80 (by decide) ?_
              obtain ⟨r_11, h_11, hf⟩ := ww_bS hf
              refine t3c_isUnlike X hl.1 hK hD hR hS (Nat.le_trans (Nat.le_of_ble_eq_true rfl) hF) (Nat.le_trans (Nat.le_of_ble_eq_true rfl) hLo) h_11 (Nat.le_of_ble_eq_true rfl) dX3_difference_81 (fun H locs hR hS => ?_)
              refine lv_if_ne (tgt := 90) hx hb dX3_difference_84 (by decide) (fun c_12 => ?_) (fun c_12 => ?_)
              · replace hf := ww_in hf c_12
                refine lv_iload hx hb dX3_difference_90 (lv_at hl 3 rfl) ?_
                refine lv_iload_n hx hb dX3_difference_92 rfl (lv_at hl 1 rfl) ?_
                refine lv_icmp_ne (tgt := 143) hx hb dX3_difference_93 (by decide) (fun c_13 => ?_) (fun c_13 => ?_)
                · replace hf := ww_in hf c_13
                  refine lv_iinc (k := 3) (v := x5 + (1 : Int32)) (lv' := [(5, .int (x5 + (1 : Int32))), (0, .ref E.1), (3, .int x3), (4, .int x4), (6, .int x6)]) hx hb dX3_difference_143 hl rfl rfl (by decide) rfl (fun ls hl => ?_)
                  refine lv_iinc (k := 4) (v := x6 + (1 : Int32)) (lv' := [(6, .int (x6 + (1 : Int32))), (5, .int (x5 + (1 : Int32))), (0, .ref E.1), (3, .int x3), (4, .int x4)]) hx hb dX3_difference_146 hl rfl rfl (by decide) rfl (fun ls hl => ?_)
                  refine lv_goto (tgt := 68) hx hb dX3_difference_149 (by decide) ?_
                  exact ww_lK hf hz_1 _ _ _ hR hS (lv_sub hl [2, 3, 4, 1, 0] rfl)
                · replace hf := ww_ip hf c_13
                  replace hf := ww_xK hf hz_1
                  refine lv_iload hx hb dX3_difference_96 (lv_at hl 2 rfl) ?_
                  refine lv_if_ne (tgt := 106) hx hb dX3_difference_98 (by decide) (fun c_14 => ?_) (fun c_14 => ?_)
                  · replace hf := ww_in hf c_14
                    refine lv_aload_n hx hb dX3_difference_106 rfl (lv_at hl 0 rfl) ?_
                    refine t3g_45 X hK hR dX3_difference_107 ?_
                    refine lv_iload hx hb dX3_difference_110 (lv_at hl 4 rfl) ?_
                    obtain ⟨h_15, hf⟩ := ww_gS hf
                    refine t3l_45 X hK hR h_15 dX3_difference_112 ?_
                    refine lv_iload hx hb dX3_difference_113 (lv_at hl 2 rfl) ?_
                    refine lv_iconst (v := (1 : Int32)) hx hb dX3_difference_115 (by decide) ?_
                    refine lv_isub hx hb dX3_difference_116 ?_
                    obtain ⟨r_16, h_16, hf⟩ := ww_bS hf
                    refine t3c_has X hl.1 (Nat.le_trans (Nat.le_of_ble_eq_true rfl) hF) (Nat.le_trans (Nat.le_of_ble_eq_true rfl) hLo) h_16 (Nat.le_of_ble_eq_true rfl) dX3_difference_117 ?_
                    refine lv_if_eq (tgt := 140) hx hb dX3_difference_120 (by decide) (fun c_17 => ?_) (fun c_17 => ?_)
                    · replace hf := ww_ip hf c_17
                      refine lv_ldc (v := (-1000000 : Int32)) hx hb hown (hts _ q1942) dX3_difference_140 ?_
                      exact hend dX3_difference_142 rfl rfl hf hR hS
                    · replace hf := ww_in hf c_17
                      refine lv_aload_n hx hb dX3_difference_123 rfl (lv_at hl 0 rfl) ?_
                      refine t3g_46 X hK hR dX3_difference_124 ?_
                      refine lv_iconst (v := (3 : Int32)) hx hb dX3_difference_127 (by decide) ?_
                      refine lv_iload hx hb dX3_difference_128 (lv_at hl 4 rfl) ?_
                      refine lv_imul hx hb dX3_difference_130 ?_
                      refine lv_iload hx hb dX3_difference_131 (lv_at hl 2 rfl) ?_
                      refine lv_iadd hx hb dX3_difference_133 ?_
                      refine lv_iconst (v := (1 : Int32)) hx hb dX3_difference_134 (by decide) ?_
                      refine lv_isub hx hb dX3_difference_135 ?_
                      obtain ⟨h_18, hf⟩ := ww_gS hf
                      refine t3l_46 X hK hR h_18 dX3_difference_136 ?_
                      refine lv_goto (tgt := 142) hx hb dX3_difference_137 (by decide) ?_
                      exact hend dX3_difference_142 rfl rfl hf hR hS
                  · replace hf := ww_ip hf c_14
                    refine lv_iload hx hb dX3_difference_101 (lv_at hl 4 rfl) ?_
                    refine lv_goto (tgt := 142) hx hb dX3_difference_103 (by decide) ?_
                    exact hend dX3_difference_142 rfl rfl hf hR hS
              · replace hf := ww_ip hf c_12
                refine lv_goto (tgt := 146) hx hb dX3_difference_87 (by decide) ?_
                refine lv_iinc (k := 4) (v := x6 + (1 : Int32)) (lv' := [(6, .int (x6 + (1 : Int32))), (0, .ref E.1), (3, .int x3), (4, .int x4), (5, .int x5)]) hx hb dX3_difference_146 hl rfl rfl (by decide) rfl (fun ls hl => ?_)
                refine lv_goto (tgt := 68) hx hb dX3_difference_149 (by decide) ?_
                exact ww_lK hf hz_1 _ _ _ hR hS (lv_sub hl [1, 2, 3, 4, 0] rfl)
          exact hL_1 ((0 : Int32), (0 : Int32)) hf _ _ _ hR hS (lv_sub hl [2, 5, 6, 1, 0] rfl)
        refine lv_if_lt (tgt := 46) hx hb dX3_difference_27 (by decide) (fun c_19 => ?_) (fun c_19 => ?_)
        · replace hf := ww_ip hf c_19
          exact hj_1 hf _ _ _ hR hS hl
        · replace hf := ww_in hf c_19
          refine lv_iload hx hb dX3_difference_30 (lv_at hl 4 rfl) ?_
          refine lv_i2l (v := x4.toInt64) hx hb dX3_difference_32 rfl ?_
          refine lv_lconst (v := (0 : Int64)) hx hb dX3_difference_33 (by decide) ?_
          refine lv_ldc2 (v := (2 : Int64)) hx hb hown (hts _ q2144) dX3_difference_34 ?_
          obtain ⟨r_20, h_20, hf⟩ := ww_bS hf
          refine t3c_isIn X hl.1 (Nat.le_trans (Nat.le_of_ble_eq_true rfl) hF) (Nat.le_trans (Nat.le_of_ble_eq_true rfl) hLo) h_20 (Nat.le_of_ble_eq_true rfl) dX3_difference_37 ?_
          refine lv_if_ne (tgt := 46) hx hb dX3_difference_40 (by decide) (fun c_21 => ?_) (fun c_21 => ?_)
          · replace hf := ww_in hf c_21
            exact hj_1 hf _ _ _ hR hS hl
          · replace hf := ww_ip hf c_21
            refine lv_ldc (v := (-1000000 : Int32)) hx hb hown (hts _ q1942) dX3_difference_43 ?_
            exact hend dX3_difference_45 rfl rfl hf hR hS
noncomputable def f3_holdSame_b1c (M : ww_M) (x3 : Int32) : Option ((Int32) ⊕ (Int32 × ww_M)) :=
  if (999 : Int32) < x3 then ww_x (some ((1 : Int32), M)) else ww_b (f3_isUnlike M x3 (0 : Int32) (1 : Int32)) (fun r_5 => if r_5 = 0 then some (.inl (x3 + (1 : Int32))) else ww_x (some ((0 : Int32), M)))
noncomputable def f3_holdSame_b1 (M : ww_M) : Int32 → Option ((Int32) ⊕ (Int32 × ww_M)) := fun s9 => f3_holdSame_b1c M s9
noncomputable def f3_holdSame (M : ww_M) (x1 : Int32) (x2 : Int32) : Option (Int32 × ww_M) :=
  ww_g (ww_i x1 999) (ww_g (ww_i x2 999) (ww_b (f3_laysTwo M (ww_X M 32 x1) (ww_X M 32 x2)) (fun M_3 => ww_U (f3_holdSame_b1 M_3) (0 : Int32))))
section T3_holdSame_k
variable {p : Program} {l : Launch} {e : Env} {R : Room} {s : State} {m : MethodId} {args : Array Value} {below : List Frame} {meth : Method} {c : Code} {H : Heap} {locs : List Loc} {Q : State → Prop}
variable {cc : ByteArray} {pc : Nat} {ls : Array Slot} {rest : List Value} {nL : Nat} {E : ww_E} {A : Nat → Prop} {H0 : Heap}
theorem t3k_holdSame {M M' : ww_M} {x1 : Int32} {x2 : Int32} {r : Int32} (X : ww_C p m c cc nL s args RX3 lw_all) (hsz : ls.size = nL) (hK : t3_Kn E s) (hD : t3_D E) (hR : t3_H E M H) (hS : va_S (t3_A E) H0 H locs) (hF : 16 ≤ R.frames) (hLo : 365 ≤ R.locals) (hM : t3_Met l yX3_holdSame cX3_holdSame 4 (some Jvm.ClassFile.FieldType.boolean) 15 342 E [.int x1, .int x2] M M' r) (hrest : (rest.map fun v => v.category).sum ≤ 8) (hdg : decode cc pc = .ok (.invokevirtual 453, 3)) (kk : ∀ (H1 : Heap) (locs1 : List Loc), t3_H E M' H1 → va_S (t3_A E) H0 H1 locs1 → W p l e R s m args below meth c H1 locs1 0 0 Q (F0 m (pc + 3) ls (.int r :: rest))) : W p l e R s m args below meth c H locs 0 0 Q (F0 m pc ls (.int x2 :: .int x1 :: .ref E.1 :: rest)) :=
  t3_callI (n := 2) X hsz hK hR hS (As := [.int x1, .int x2]) hM (lw_V q2301 q2303 qs122 q135 q2304) (by decide +kernel) rfl hF hLo (Nat.zero_le _) (Nat.zero_le _) hrest hdg kk
end T3_holdSame_k
set_option maxHeartbeats 4000000 in
set_option maxRecDepth 100000 in
theorem met3_holdSame (l : Launch) {E : ww_E} (hD : t3_D E) (M : ww_M) (x1 : Int32) (x2 : Int32) (r : Int32) (M' : ww_M) (hf : f3_holdSame M x1 x2 = some (r, M')) : t3_Met l yX3_holdSame cX3_holdSame 4 (some Jvm.ClassFile.FieldType.boolean) 15 342 E [.int x1, .int x2] M M' r := by
  unfold f3_holdSame at hf
  refine t3_start (by decide +kernel) (Nat.le_of_ble_eq_true rfl) ?_
  intro p e s m args below meth c Rm Q X hK hF hLo hend ls hl hR hS
  obtain ⟨hx, hb, hml, hown, hts⟩ := id X
  replace hl : lv_has ls 4 [(0, .ref E.1), (1, .int x1), (2, .int x2)] := hl
  refine lv_aload_n hx hb dX3_holdSame_0 rfl (lv_at hl 0 rfl) ?_
  refine lv_aload_n hx hb dX3_holdSame_1 rfl (lv_at hl 0 rfl) ?_
  refine t3g_32 X hK hR dX3_holdSame_2 ?_
  refine lv_iload_n hx hb dX3_holdSame_5 rfl (lv_at hl 1 rfl) ?_
  obtain ⟨h_1, hf⟩ := ww_gS hf
  refine t3l_32 X hK hR h_1 dX3_holdSame_6 ?_
  refine lv_aload_n hx hb dX3_holdSame_7 rfl (lv_at hl 0 rfl) ?_
  refine t3g_32 X hK hR dX3_holdSame_8 ?_
  refine lv_iload_n hx hb dX3_holdSame_11 rfl (lv_at hl 2 rfl) ?_
  obtain ⟨h_2, hf⟩ := ww_gS hf
  refine t3l_32 X hK hR h_2 dX3_holdSame_12 ?_
  obtain ⟨M_3, h_3, hf⟩ := ww_bS hf
  refine t3c_laysTwo X hl.1 hK hD hR hS (Nat.le_trans (Nat.le_of_ble_eq_true rfl) hF) (Nat.le_trans (Nat.le_of_ble_eq_true rfl) hLo) h_3 (Nat.le_of_ble_eq_true rfl) dX3_holdSame_13 (fun H locs hR hS => ?_)
  refine lv_iconst (v := (0 : Int32)) hx hb dX3_holdSame_16 (by decide) ?_
  refine lv_istore_n (lv' := [(3, .int (0 : Int32)), (0, .ref E.1), (1, .int x1), (2, .int x2)]) hx hb dX3_holdSame_17 rfl hl (by decide) rfl (fun ls hl => ?_)
  have hL_1 : ∀ s9 : Int32, ww_U (f3_holdSame_b1 M_3) s9 = some (r, M') → ∀ (H : Heap) (locs : List Loc) (ls : Array Slot), t3_H E M_3 H → va_S (t3_A E) s.heap H locs → lv_has ls 4 [(0, .ref E.1), (3, .int s9)] → W p l e Rm s m args below meth c H locs 0 0 Q (F0 m 18 ls []) := by
    refine ww_ind _ (r, M') ?_
    intro s9 z_1 hf hz_1 H locs ls hR hS hl
    obtain ⟨x3, e9⟩ : ∃ q9, q9 = s9 := ⟨_, rfl⟩; subst e9
    replace hf : f3_holdSame_b1c M_3 x3 = some z_1 := hf
    unfold f3_holdSame_b1c at hf
    replace hl : lv_has ls 4 [(0, .ref E.1), (3, .int x3)] := hl
    refine lv_iload_n hx hb dX3_holdSame_18 rfl (lv_at hl 1 rfl) ?_
    refine lv_sipush (v := (999 : Int32)) hx hb dX3_holdSame_19 (by decide) ?_
    refine lv_icmp_gt (tgt := 43) hx hb dX3_holdSame_22 (by decide) (fun c_4 => ?_) (fun c_4 => ?_)
    · replace hf := ww_ip hf c_4
      replace hf := ww_xK hf hz_1
      refine lv_iconst (v := (1 : Int32)) hx hb dX3_holdSame_43 (by decide) ?_
      exact hend dX3_holdSame_44 rfl (by decide) hf hR hS
    · replace hf := ww_in hf c_4
      refine lv_aload_n hx hb dX3_holdSame_25 rfl (lv_at hl 0 rfl) ?_
      refine lv_iload_n hx hb dX3_holdSame_26 rfl (lv_at hl 1 rfl) ?_
      refine lv_iconst (v := (0 : Int32)) hx hb dX3_holdSame_27 (by decide) ?_
      refine lv_iconst (v := (1 : Int32)) hx hb dX3_holdSame_28 (by decide) ?_
      obtain ⟨r_5, h_5, hf⟩ := ww_bS hf
      refine t3c_isUnlike X hl.1 hK hD hR hS (Nat.le_trans (Nat.le_of_ble_eq_true rfl) hF) (Nat.le_trans (Nat.le_of_ble_eq_true rfl) hLo) h_5 (Nat.le_of_ble_eq_true rfl) dX3_holdSame_29 (fun H locs hR hS => ?_)
      refine lv_if_eq (tgt := 37) hx hb dX3_holdSame_32 (by decide) (fun c_6 => ?_) (fun c_6 => ?_)
      · replace hf := ww_ip hf c_6
        refine lv_iinc (k := 1) (v := x3 + (1 : Int32)) (lv' := [(3, .int (x3 + (1 : Int32))), (0, .ref E.1)]) hx hb dX3_holdSame_37 hl rfl rfl (by decide) rfl (fun ls hl => ?_)
        refine lv_goto (tgt := 18) hx hb dX3_holdSame_40 (by decide) ?_
        exact ww_lK hf hz_1 _ _ _ hR hS (lv_sub hl [1, 0] rfl)
      · replace hf := ww_in hf c_6
        replace hf := ww_xK hf hz_1
        refine lv_iconst (v := (0 : Int32)) hx hb dX3_holdSame_35 (by decide) ?_
        exact hend dX3_holdSame_36 rfl (by decide) hf hR hS
  exact hL_1 (0 : Int32) hf _ _ _ hR hS (lv_sub hl [1, 0] rfl)
section T3_holdSame_c
variable {p : Program} {l : Launch} {e : Env} {R : Room} {s : State} {m : MethodId} {args : Array Value} {below : List Frame} {meth : Method} {c : Code} {H : Heap} {locs : List Loc} {Q : State → Prop}
variable {cc : ByteArray} {pc : Nat} {ls : Array Slot} {rest : List Value} {nL : Nat} {E : ww_E} {A : Nat → Prop} {H0 : Heap}
theorem t3c_holdSame {M M' : ww_M} {x1 : Int32} {x2 : Int32} {r : Int32} (X : ww_C p m c cc nL s args RX3 lw_all) (hsz : ls.size = nL) (hK : t3_Kn E s) (hD : t3_D E) (hR : t3_H E M H) (hS : va_S (t3_A E) H0 H locs) (hF : 16 ≤ R.frames) (hLo : 365 ≤ R.locals) (hf : f3_holdSame M x1 x2 = some (r, M')) (hrest : (rest.map fun v => v.category).sum ≤ 8) (hdg : decode cc pc = .ok (.invokevirtual 453, 3)) (kk : ∀ (H1 : Heap) (locs1 : List Loc), t3_H E M' H1 → va_S (t3_A E) H0 H1 locs1 → W p l e R s m args below meth c H1 locs1 0 0 Q (F0 m (pc + 3) ls (.int r :: rest))) : W p l e R s m args below meth c H locs 0 0 Q (F0 m pc ls (.int x2 :: .int x1 :: .ref E.1 :: rest)) :=
  t3k_holdSame X hsz hK hD hR hS hF hLo (met3_holdSame l hD _ _ _ _ _ hf) hrest hdg kk
end T3_holdSame_c
noncomputable def f3_areNodesAlike_b1c (rec : ww_M → Int32 → Int32 → Option (Int32)) (M : ww_M) (y1 : Int32) (y2 : Int32) (x3 : Int32) (x4 : Int32) : Option ((Int32 × Int32) ⊕ (Int32)) :=
  ww_g (ww_i y1 12000) (if (ww_X M 11 y1) ≤ x4 then ww_x (ww_g (ww_z x3) (some x3)) else if x3 = 0 then ww_x (ww_g (ww_z x3) (some x3)) else ww_g (ww_i y1 12000) (if (ww_X M 10 y1) = 0 then ww_b (f3_child M y1 x4) (fun r_20 => ww_b (f3_child M y2 x4) (fun r_21 => ww_b (rec M r_20 r_21) (fun r_22 => some (.inl (r_22, (x4 + (1 : Int32))))))) else ww_g (ww_i (((7 : Int32) * y1) + x4) 84000) (ww_g (ww_i (((7 : Int32) * y2) + x4) 84000) (if (ww_X M 15 (((7 : Int32) * y1) + x4)) = (ww_X M 15 (((7 : Int32) * y2) + x4)) then ww_g (ww_i (((7 : Int32) * y1) + x4) 84000) (ww_g (ww_i (((7 : Int32) * y2) + x4) 84000) (if (ww_X M 16 (((7 : Int32) * y1) + x4)) = (ww_X M 16 (((7 : Int32) * y2) + x4)) then some (.inl ((1 : Int32), (x4 + (1 : Int32)))) else some (.inl ((0 : Int32), (x4 + (1 : Int32)))))) else some (.inl ((0 : Int32), (x4 + (1 : Int32))))))))
noncomputable def f3_areNodesAlike_b1 (rec : ww_M → Int32 → Int32 → Option (Int32)) (M : ww_M) (y1 : Int32) (y2 : Int32) : (Int32 × Int32) → Option ((Int32 × Int32) ⊕ (Int32)) := fun s9 => f3_areNodesAlike_b1c rec M y1 y2 s9.1 s9.2
noncomputable def f3_areNodesAlike_r (rec : ww_M → Int32 → Int32 → Option (Int32)) (M : ww_M) (x1 : Int32) (x2 : Int32) : Option (Int32) :=
  ww_g (ww_i x1 12000) (ww_g (ww_i x2 12000) (if (ww_X M 10 x1) = (ww_X M 10 x2) then ww_g (ww_i x1 12000) (ww_g (ww_i x2 12000) (if (ww_X M 11 x1) = (ww_X M 11 x2) then ww_U (f3_areNodesAlike_b1 rec M x1 x2) ((1 : Int32), (0 : Int32)) else some (0 : Int32))) else some (0 : Int32)))
noncomputable def f3_areNodesAlike : Nat → ww_M → Int32 → Int32 → Option (Int32)
  | 0 => fun _ _ _ => none
  | d + 1 => f3_areNodesAlike_r (f3_areNodesAlike d)
section T3_areNodesAlike_k
variable {p : Program} {l : Launch} {e : Env} {R : Room} {s : State} {m : MethodId} {args : Array Value} {below : List Frame} {meth : Method} {c : Code} {H : Heap} {locs : List Loc} {Q : State → Prop}
variable {cc : ByteArray} {pc : Nat} {ls : Array Slot} {rest : List Value} {nL : Nat} {E : ww_E} {A : Nat → Prop} {H0 : Heap}
theorem t3k_areNodesAlike {M : ww_M} {x1 : Int32} {x2 : Int32} {r : Int32} {d : Nat} (X : ww_C p m c cc nL s args RX3 lw_all) (hsz : ls.size = nL) (hK : t3_Kn E s) (hD : t3_D E) (hR : t3_H E M H) (hS : va_S (t3_A E) H0 H locs) (hF : (d + 1) + 1 ≤ R.frames) (hLo : 8 + (5 + 11) + (24 * d + 22) ≤ R.locals) (hM : t3_Met l yX3_areNodesAlike cX3_areNodesAlike 5 (some Jvm.ClassFile.FieldType.boolean) (d + 1) (24 * d + 22) E [.int x1, .int x2] M M r) (hrest : (rest.map fun v => v.category).sum ≤ 8) (hdg : decode cc pc = .ok (.invokevirtual 450, 3)) (kk : ∀ (H1 : Heap) (locs1 : List Loc), t3_H E M H1 → va_S (t3_A E) H0 H1 locs1 → W p l e R s m args below meth c H1 locs1 0 0 Q (F0 m (pc + 3) ls (.int r :: rest))) : W p l e R s m args below meth c H locs 0 0 Q (F0 m pc ls (.int x2 :: .int x1 :: .ref E.1 :: rest)) :=
  t3_callI (n := 2) X hsz hK hR hS (As := [.int x1, .int x2]) hM (lw_V q2305 q2307 qs123 q135 q2308) (by decide +kernel) rfl hF hLo (Nat.zero_le _) (Nat.zero_le _) hrest hdg kk
end T3_areNodesAlike_k
set_option maxHeartbeats 4000000 in
set_option maxRecDepth 100000 in
theorem met3_areNodesAlike (l : Launch) {E : ww_E} (hD : t3_D E) : ∀ (d : Nat) (M : ww_M) (x1 : Int32) (x2 : Int32) (r : Int32), f3_areNodesAlike d M x1 x2 = some r → t3_Met l yX3_areNodesAlike cX3_areNodesAlike 5 (some Jvm.ClassFile.FieldType.boolean) (d + 1) (24 * d + 22) E [.int x1, .int x2] M M r := by
  intro d
  induction d with
  | zero => intro M x1 x2 r hf; cases hf
  | succ d ih =>
    intro M x1 x2 r hf
    replace hf : f3_areNodesAlike_r (f3_areNodesAlike d) M x1 x2 = some r := hf
    unfold f3_areNodesAlike_r at hf
    refine t3_startP (by decide +kernel) (Nat.le_of_ble_eq_true rfl) ?_
    intro p e s m args below meth c Rm Q X hK hF hLo hend ls hl hR hS
    obtain ⟨hx, hb, hml, hown, hts⟩ := id X
    replace hl : lv_has ls 5 [(0, .ref E.1), (1, .int x1), (2, .int x2)] := hl
    refine lv_aload_n hx hb dX3_areNodesAlike_0 rfl (lv_at hl 0 rfl) ?_
    refine t3g_10 X hK hR dX3_areNodesAlike_1 ?_
    refine lv_iload_n hx hb dX3_areNodesAlike_4 rfl (lv_at hl 1 rfl) ?_
    obtain ⟨h_1, hf⟩ := ww_gS hf
    refine t3l_10 X hK hR h_1 dX3_areNodesAlike_5 ?_
    refine lv_aload_n hx hb dX3_areNodesAlike_6 rfl (lv_at hl 0 rfl) ?_
    refine t3g_10 X hK hR dX3_areNodesAlike_7 ?_
    refine lv_iload_n hx hb dX3_areNodesAlike_10 rfl (lv_at hl 2 rfl) ?_
    obtain ⟨h_2, hf⟩ := ww_gS hf
    refine t3l_10 X hK hR h_2 dX3_areNodesAlike_11 ?_
    refine lv_icmp_ne (tgt := 30) hx hb dX3_areNodesAlike_12 (by decide) (fun c_3 => ?_) (fun c_3 => ?_)
    · replace hf := ww_in hf c_3
      refine lv_iconst (v := (0 : Int32)) hx hb dX3_areNodesAlike_30 (by decide) ?_
      exact hend dX3_areNodesAlike_31 rfl (by decide) hf hR hS
    · replace hf := ww_ip hf c_3
      refine lv_aload_n hx hb dX3_areNodesAlike_15 rfl (lv_at hl 0 rfl) ?_
      refine t3g_11 X hK hR dX3_areNodesAlike_16 ?_
      refine lv_iload_n hx hb dX3_areNodesAlike_19 rfl (lv_at hl 1 rfl) ?_
      obtain ⟨h_4, hf⟩ := ww_gS hf
      refine t3l_11 X hK hR h_4 dX3_areNodesAlike_20 ?_
      refine lv_aload_n hx hb dX3_areNodesAlike_21 rfl (lv_at hl 0 rfl) ?_
      refine t3g_11 X hK hR dX3_areNodesAlike_22 ?_
      refine lv_iload_n hx hb dX3_areNodesAlike_25 rfl (lv_at hl 2 rfl) ?_
      obtain ⟨h_5, hf⟩ := ww_gS hf
      refine t3l_11 X hK hR h_5 dX3_areNodesAlike_26 ?_
      refine lv_icmp_eq (tgt := 32) hx hb dX3_areNodesAlike_27 (by decide) (fun c_6 => ?_) (fun c_6 => ?_)
      · replace hf := ww_ip hf c_6
        refine lv_iconst (v := (1 : Int32)) hx hb dX3_areNodesAlike_32 (by decide) ?_
        refine lv_istore_n (lv' := [(3, .int (1 : Int32)), (0, .ref E.1), (1, .int x1), (2, .int x2)]) hx hb dX3_areNodesAlike_33 rfl hl (by decide) rfl (fun ls hl => ?_)
        refine lv_iconst (v := (0 : Int32)) hx hb dX3_areNodesAlike_34 (by decide) ?_
        refine lv_istore (lv' := [(4, .int (0 : Int32)), (3, .int (1 : Int32)), (0, .ref E.1), (1, .int x1), (2, .int x2)]) hx hb dX3_areNodesAlike_35 hl (by decide) rfl (fun ls hl => ?_)
        have hL_1 : ∀ s9 : Int32 × Int32, ww_U (f3_areNodesAlike_b1 (f3_areNodesAlike d) M x1 x2) s9 = some r → ∀ (H : Heap) (locs : List Loc) (ls : Array Slot), t3_H E M H → va_S (t3_A E) s.heap H locs → lv_has ls 5 [(0, .ref E.1), (1, .int x1), (2, .int x2), (3, .int s9.1), (4, .int s9.2)] → W p l e Rm s m args below meth c H locs 0 0 Q (F0 m 37 ls []) := by
          refine ww_ind _ r ?_
          intro s9 z_1 hf hz_1 H locs ls hR hS hl
          obtain ⟨x3, x4⟩ := s9
          replace hf : f3_areNodesAlike_b1c (f3_areNodesAlike d) M x1 x2 x3 x4 = some z_1 := hf
          unfold f3_areNodesAlike_b1c at hf
          replace hl : lv_has ls 5 [(0, .ref E.1), (1, .int x1), (2, .int x2), (3, .int x3), (4, .int x4)] := hl
          refine lv_iload hx hb dX3_areNodesAlike_37 (lv_at hl 4 rfl) ?_
          refine lv_aload_n hx hb dX3_areNodesAlike_39 rfl (lv_at hl 0 rfl) ?_
          refine t3g_11 X hK hR dX3_areNodesAlike_40 ?_
          refine lv_iload_n hx hb dX3_areNodesAlike_43 rfl (lv_at hl 1 rfl) ?_
          obtain ⟨h_7, hf⟩ := ww_gS hf
          refine t3l_11 X hK hR h_7 dX3_areNodesAlike_44 ?_
          refine lv_icmp_ge (tgt := 148) hx hb dX3_areNodesAlike_45 (by decide) (fun c_8 => ?_) (fun c_8 => ?_)
          · replace hf := ww_ip hf c_8
            replace hf := ww_xK hf hz_1
            refine lv_iload_n hx hb dX3_areNodesAlike_148 rfl (lv_at hl 3 rfl) ?_
            obtain ⟨h_9, hf⟩ := ww_gS hf
            exact hend dX3_areNodesAlike_149 rfl (ww_zn h_9) hf hR hS
          · replace hf := ww_in hf c_8
            refine lv_iload_n hx hb dX3_areNodesAlike_48 rfl (lv_at hl 3 rfl) ?_
            refine lv_if_eq (tgt := 148) hx hb dX3_areNodesAlike_49 (by decide) (fun c_10 => ?_) (fun c_10 => ?_)
            · replace hf := ww_ip hf c_10
              replace hf := ww_xK hf hz_1
              refine lv_iload_n hx hb dX3_areNodesAlike_148 rfl (lv_at hl 3 rfl) ?_
              obtain ⟨h_11, hf⟩ := ww_gS hf
              exact hend dX3_areNodesAlike_149 rfl (ww_zn h_11) hf hR hS
            · replace hf := ww_in hf c_10
              refine lv_aload_n hx hb dX3_areNodesAlike_52 rfl (lv_at hl 0 rfl) ?_
              refine t3g_10 X hK hR dX3_areNodesAlike_53 ?_
              refine lv_iload_n hx hb dX3_areNodesAlike_56 rfl (lv_at hl 1 rfl) ?_
              obtain ⟨h_12, hf⟩ := ww_gS hf
              refine t3l_10 X hK hR h_12 dX3_areNodesAlike_57 ?_
              refine lv_if_ne (tgt := 82) hx hb dX3_areNodesAlike_58 (by decide) (fun c_13 => ?_) (fun c_13 => ?_)
              · replace hf := ww_in hf c_13
                refine lv_aload_n hx hb dX3_areNodesAlike_82 rfl (lv_at hl 0 rfl) ?_
                refine t3g_15 X hK hR dX3_areNodesAlike_83 ?_
                refine lv_bipush (v := (7 : Int32)) hx hb dX3_areNodesAlike_86 (by decide) ?_
                refine lv_iload_n hx hb dX3_areNodesAlike_88 rfl (lv_at hl 1 rfl) ?_
                refine lv_imul hx hb dX3_areNodesAlike_89 ?_
                refine lv_iload hx hb dX3_areNodesAlike_90 (lv_at hl 4 rfl) ?_
                refine lv_iadd hx hb dX3_areNodesAlike_92 ?_
                obtain ⟨h_14, hf⟩ := ww_gS hf
                refine t3l_15 X hK hR h_14 dX3_areNodesAlike_93 ?_
                refine lv_aload_n hx hb dX3_areNodesAlike_94 rfl (lv_at hl 0 rfl) ?_
                refine t3g_15 X hK hR dX3_areNodesAlike_95 ?_
                refine lv_bipush (v := (7 : Int32)) hx hb dX3_areNodesAlike_98 (by decide) ?_
                refine lv_iload_n hx hb dX3_areNodesAlike_100 rfl (lv_at hl 2 rfl) ?_
                refine lv_imul hx hb dX3_areNodesAlike_101 ?_
                refine lv_iload hx hb dX3_areNodesAlike_102 (lv_at hl 4 rfl) ?_
                refine lv_iadd hx hb dX3_areNodesAlike_104 ?_
                obtain ⟨h_15, hf⟩ := ww_gS hf
                refine t3l_15 X hK hR h_15 dX3_areNodesAlike_105 ?_
                refine lv_icmp_ne (tgt := 140) hx hb dX3_areNodesAlike_106 (by decide) (fun c_16 => ?_) (fun c_16 => ?_)
                · replace hf := ww_in hf c_16
                  refine lv_iconst (v := (0 : Int32)) hx hb dX3_areNodesAlike_140 (by decide) ?_
                  refine lv_istore_n (lv' := [(3, .int (0 : Int32)), (0, .ref E.1), (1, .int x1), (2, .int x2), (4, .int x4)]) hx hb dX3_areNodesAlike_141 rfl hl (by decide) rfl (fun ls hl => ?_)
                  refine lv_iinc (k := 4) (v := x4 + (1 : Int32)) (lv' := [(4, .int (x4 + (1 : Int32))), (3, .int (0 : Int32)), (0, .ref E.1), (1, .int x1), (2, .int x2)]) hx hb dX3_areNodesAlike_142 hl rfl rfl (by decide) rfl (fun ls hl => ?_)
                  refine lv_goto (tgt := 37) hx hb dX3_areNodesAlike_145 (by decide) ?_
                  exact ww_lK hf hz_1 _ _ _ hR hS (lv_sub hl [2, 3, 4, 1, 0] rfl)
                · replace hf := ww_ip hf c_16
                  refine lv_aload_n hx hb dX3_areNodesAlike_109 rfl (lv_at hl 0 rfl) ?_
                  refine t3g_16 X hK hR dX3_areNodesAlike_110 ?_
                  refine lv_bipush (v := (7 : Int32)) hx hb dX3_areNodesAlike_113 (by decide) ?_
                  refine lv_iload_n hx hb dX3_areNodesAlike_115 rfl (lv_at hl 1 rfl) ?_
                  refine lv_imul hx hb dX3_areNodesAlike_116 ?_
                  refine lv_iload hx hb dX3_areNodesAlike_117 (lv_at hl 4 rfl) ?_
                  refine lv_iadd hx hb dX3_areNodesAlike_119 ?_
                  obtain ⟨h_17, hf⟩ := ww_gS hf
                  refine t3l_16 X hK hR h_17 dX3_areNodesAlike_120 ?_
                  refine lv_aload_n hx hb dX3_areNodesAlike_121 rfl (lv_at hl 0 rfl) ?_
                  refine t3g_16 X hK hR dX3_areNodesAlike_122 ?_
                  refine lv_bipush (v := (7 : Int32)) hx hb dX3_areNodesAlike_125 (by decide) ?_
                  refine lv_iload_n hx hb dX3_areNodesAlike_127 rfl (lv_at hl 2 rfl) ?_
                  refine lv_imul hx hb dX3_areNodesAlike_128 ?_
                  refine lv_iload hx hb dX3_areNodesAlike_129 (lv_at hl 4 rfl) ?_
                  refine lv_iadd hx hb dX3_areNodesAlike_131 ?_
                  obtain ⟨h_18, hf⟩ := ww_gS hf
                  refine t3l_16 X hK hR h_18 dX3_areNodesAlike_132 ?_
                  refine lv_icmp_ne (tgt := 140) hx hb dX3_areNodesAlike_133 (by decide) (fun c_19 => ?_) (fun c_19 => ?_)
                  · replace hf := ww_in hf c_19
                    refine lv_iconst (v := (0 : Int32)) hx hb dX3_areNodesAlike_140 (by decide) ?_
                    refine lv_istore_n (lv' := [(3, .int (0 : Int32)), (0, .ref E.1), (1, .int x1), (2, .int x2), (4, .int x4)]) hx hb dX3_areNodesAlike_141 rfl hl (by decide) rfl (fun ls hl => ?_)
                    refine lv_iinc (k := 4) (v := x4 + (1 : Int32)) (lv' := [(4, .int (x4 + (1 : Int32))), (3, .int (0 : Int32)), (0, .ref E.1), (1, .int x1), (2, .int x2)]) hx hb dX3_areNodesAlike_142 hl rfl rfl (by decide) rfl (fun ls hl => ?_)
                    refine lv_goto (tgt := 37) hx hb dX3_areNodesAlike_145 (by decide) ?_
                    exact ww_lK hf hz_1 _ _ _ hR hS (lv_sub hl [2, 3, 4, 1, 0] rfl)
                  · replace hf := ww_ip hf c_19
                    refine lv_iconst (v := (1 : Int32)) hx hb dX3_areNodesAlike_136 (by decide) ?_
                    refine lv_goto (tgt := 141) hx hb dX3_areNodesAlike_137 (by decide) ?_
                    refine lv_istore_n (lv' := [(3, .int (1 : Int32)), (0, .ref E.1), (1, .int x1), (2, .int x2), (4, .int x4)]) hx hb dX3_areNodesAlike_141 rfl hl (by decide) rfl (fun ls hl => ?_)
                    refine lv_iinc (k := 4) (v := x4 + (1 : Int32)) (lv' := [(4, .int (x4 + (1 : Int32))), (3, .int (1 : Int32)), (0, .ref E.1), (1, .int x1), (2, .int x2)]) hx hb dX3_areNodesAlike_142 hl rfl rfl (by decide) rfl (fun ls hl => ?_)
                    refine lv_goto (tgt := 37) hx hb dX3_areNodesAlike_145 (by decide) ?_
                    exact ww_lK hf hz_1 _ _ _ hR hS (lv_sub hl [2, 3, 4, 1, 0] rfl)
              · replace hf := ww_ip hf c_13
                refine lv_aload_n hx hb dX3_areNodesAlike_61 rfl (lv_at hl 0 rfl) ?_
                refine lv_aload_n hx hb dX3_areNodesAlike_62 rfl (lv_at hl 0 rfl) ?_
                refine lv_iload_n hx hb dX3_areNodesAlike_63 rfl (lv_at hl 1 rfl) ?_
                refine lv_iload hx hb dX3_areNodesAlike_64 (lv_at hl 4 rfl) ?_
                obtain ⟨r_20, h_20, hf⟩ := ww_bS hf
                refine t3c_child X hl.1 hK hD hR hS (by omega) (by omega) h_20 (Nat.le_of_ble_eq_true rfl) dX3_areNodesAlike_66 (fun H locs hR hS => ?_)
                refine lv_aload_n hx hb dX3_areNodesAlike_69 rfl (lv_at hl 0 rfl) ?_
                refine lv_iload_n hx hb dX3_areNodesAlike_70 rfl (lv_at hl 2 rfl) ?_
                refine lv_iload hx hb dX3_areNodesAlike_71 (lv_at hl 4 rfl) ?_
                obtain ⟨r_21, h_21, hf⟩ := ww_bS hf
                refine t3c_child X hl.1 hK hD hR hS (by omega) (by omega) h_21 (Nat.le_of_ble_eq_true rfl) dX3_areNodesAlike_73 (fun H locs hR hS => ?_)
                obtain ⟨r_22, h_22, hf⟩ := ww_bS hf
                refine t3k_areNodesAlike X hl.1 hK hD hR hS (by omega) (by omega) (ih _ _ _ _ h_22) (Nat.le_of_ble_eq_true rfl) dX3_areNodesAlike_76 (fun H locs hR hS => ?_)
                refine lv_goto (tgt := 141) hx hb dX3_areNodesAlike_79 (by decide) ?_
                refine lv_istore_n (lv' := [(3, .int r_22), (0, .ref E.1), (1, .int x1), (2, .int x2), (4, .int x4)]) hx hb dX3_areNodesAlike_141 rfl hl (by decide) rfl (fun ls hl => ?_)
                refine lv_iinc (k := 4) (v := x4 + (1 : Int32)) (lv' := [(4, .int (x4 + (1 : Int32))), (3, .int r_22), (0, .ref E.1), (1, .int x1), (2, .int x2)]) hx hb dX3_areNodesAlike_142 hl rfl rfl (by decide) rfl (fun ls hl => ?_)
                refine lv_goto (tgt := 37) hx hb dX3_areNodesAlike_145 (by decide) ?_
                exact ww_lK hf hz_1 _ _ _ hR hS (lv_sub hl [2, 3, 4, 1, 0] rfl)
        exact hL_1 ((1 : Int32), (0 : Int32)) hf _ _ _ hR hS (lv_sub hl [2, 3, 4, 1, 0] rfl)
      · replace hf := ww_in hf c_6
        refine lv_iconst (v := (0 : Int32)) hx hb dX3_areNodesAlike_30 (by decide) ?_
        exact hend dX3_areNodesAlike_31 rfl (by decide) hf hR hS
section T3_areNodesAlike_c
variable {p : Program} {l : Launch} {e : Env} {R : Room} {s : State} {m : MethodId} {args : Array Value} {below : List Frame} {meth : Method} {c : Code} {H : Heap} {locs : List Loc} {Q : State → Prop}
variable {cc : ByteArray} {pc : Nat} {ls : Array Slot} {rest : List Value} {nL : Nat} {E : ww_E} {A : Nat → Prop} {H0 : Heap}
theorem t3c_areNodesAlike {M : ww_M} {x1 : Int32} {x2 : Int32} {r : Int32} (X : ww_C p m c cc nL s args RX3 lw_all) (hsz : ls.size = nL) (hK : t3_Kn E s) (hD : t3_D E) (hR : t3_H E M H) (hS : va_S (t3_A E) H0 H locs) (hF : 12 ≤ R.frames) (hLo : 286 ≤ R.locals) (hf : f3_areNodesAlike 10 M x1 x2 = some r) (hrest : (rest.map fun v => v.category).sum ≤ 8) (hdg : decode cc pc = .ok (.invokevirtual 450, 3)) (kk : ∀ (H1 : Heap) (locs1 : List Loc), t3_H E M H1 → va_S (t3_A E) H0 H1 locs1 → W p l e R s m args below meth c H1 locs1 0 0 Q (F0 m (pc + 3) ls (.int r :: rest))) : W p l e R s m args below meth c H locs 0 0 Q (F0 m pc ls (.int x2 :: .int x1 :: .ref E.1 :: rest)) :=
  t3k_areNodesAlike (d := 10) X hsz hK hD hR hS hF hLo (met3_areNodesAlike l hD 10 _ _ _ _ hf) hrest hdg kk
end T3_areNodesAlike_c
noncomputable def f3_alike (M : ww_M) (x1 : Int32) (x2 : Int32) (x3 : Int32) : Option (Int32 × ww_M) :=
  ww_b (f3_isMap (ww_sF M 0 (0 : Int32)) x1) (fun r_1 => if r_1 = 0 then some ((-1 : Int32), (ww_sF M 0 (0 : Int32))) else ww_b (f3_isMap (ww_sF M 0 (0 : Int32)) x2) (fun r_3 => if r_3 = 0 then some ((-1 : Int32), (ww_sF M 0 (0 : Int32))) else ww_b (f3_isIn x3.toInt64 (0 : Int64) (1 : Int64)) (fun r_5 => if r_5 = 0 then some ((-1 : Int32), (ww_sF M 0 (0 : Int32))) else if x3 = 0 then ww_b2 (f3_holdSame (ww_sF M 0 (0 : Int32)) x1 x2) (fun r_12 M_12 => if r_12 = 0 then some ((0 : Int32), M_12) else some ((1 : Int32), M_12)) else ww_g (ww_i x1 999) (ww_g (ww_i x2 999) (ww_b (f3_areNodesAlike 10 (ww_sF M 0 (0 : Int32)) (ww_X (ww_sF M 0 (0 : Int32)) 32 x1) (ww_X (ww_sF M 0 (0 : Int32)) 32 x2)) (fun r_10 => if r_10 = 0 then some ((0 : Int32), (ww_sF M 0 (0 : Int32))) else some ((1 : Int32), (ww_sF M 0 (0 : Int32)))))))))
set_option maxHeartbeats 4000000 in
set_option maxRecDepth 100000 in
theorem met3_alike (l : Launch) {E : ww_E} (hD : t3_D E) (M : ww_M) (x1 : Int32) (x2 : Int32) (x3 : Int32) (r : Int32) (M' : ww_M) (hf : f3_alike M x1 x2 x3 = some (r, M')) : t3_Met l yX3_alike cX3_alike 4 (some Jvm.ClassFile.FieldType.int) 16 365 E [.int x1, .int x2, .int x3] M M' r := by
  unfold f3_alike at hf
  refine t3_start (by decide +kernel) (Nat.le_of_ble_eq_true rfl) ?_
  intro p e s m args below meth c Rm Q X hK hF hLo hend ls hl hR hS
  obtain ⟨hx, hb, hml, hown, hts⟩ := id X
  replace hl : lv_has ls 4 [(0, .ref E.1), (1, .int x1), (2, .int x2), (3, .int x3)] := hl
  refine lv_aload_n hx hb dX3_alike_0 rfl (lv_at hl 0 rfl) ?_
  refine lv_iconst (v := (0 : Int32)) hx hb dX3_alike_1 (by decide) ?_
  refine t3p_0 X hK hD hR hS dX3_alike_2 (fun H locs hR hS => ?_)
  refine lv_aload_n hx hb dX3_alike_5 rfl (lv_at hl 0 rfl) ?_
  refine lv_iload_n hx hb dX3_alike_6 rfl (lv_at hl 1 rfl) ?_
  obtain ⟨r_1, h_1, hf⟩ := ww_bS hf
  refine t3c_isMap X hl.1 hK hD hR hS (Nat.le_trans (Nat.le_of_ble_eq_true rfl) hF) (Nat.le_trans (Nat.le_of_ble_eq_true rfl) hLo) h_1 (Nat.le_of_ble_eq_true rfl) dX3_alike_7 (fun H locs hR hS => ?_)
  refine lv_if_eq (tgt := 31) hx hb dX3_alike_10 (by decide) (fun c_2 => ?_) (fun c_2 => ?_)
  · replace hf := ww_ip hf c_2
    refine lv_iconst (v := (-1 : Int32)) hx hb dX3_alike_31 (by decide) ?_
    exact hend dX3_alike_32 rfl rfl hf hR hS
  · replace hf := ww_in hf c_2
    refine lv_aload_n hx hb dX3_alike_13 rfl (lv_at hl 0 rfl) ?_
    refine lv_iload_n hx hb dX3_alike_14 rfl (lv_at hl 2 rfl) ?_
    obtain ⟨r_3, h_3, hf⟩ := ww_bS hf
    refine t3c_isMap X hl.1 hK hD hR hS (Nat.le_trans (Nat.le_of_ble_eq_true rfl) hF) (Nat.le_trans (Nat.le_of_ble_eq_true rfl) hLo) h_3 (Nat.le_of_ble_eq_true rfl) dX3_alike_15 (fun H locs hR hS => ?_)
    refine lv_if_eq (tgt := 31) hx hb dX3_alike_18 (by decide) (fun c_4 => ?_) (fun c_4 => ?_)
    · replace hf := ww_ip hf c_4
      refine lv_iconst (v := (-1 : Int32)) hx hb dX3_alike_31 (by decide) ?_
      exact hend dX3_alike_32 rfl rfl hf hR hS
    · replace hf := ww_in hf c_4
      refine lv_iload_n hx hb dX3_alike_21 rfl (lv_at hl 3 rfl) ?_
      refine lv_i2l (v := x3.toInt64) hx hb dX3_alike_22 rfl ?_
      refine lv_lconst (v := (0 : Int64)) hx hb dX3_alike_23 (by decide) ?_
      refine lv_lconst (v := (1 : Int64)) hx hb dX3_alike_24 (by decide) ?_
      obtain ⟨r_5, h_5, hf⟩ := ww_bS hf
      refine t3c_isIn X hl.1 (Nat.le_trans (Nat.le_of_ble_eq_true rfl) hF) (Nat.le_trans (Nat.le_of_ble_eq_true rfl) hLo) h_5 (Nat.le_of_ble_eq_true rfl) dX3_alike_25 ?_
      refine lv_if_ne (tgt := 33) hx hb dX3_alike_28 (by decide) (fun c_6 => ?_) (fun c_6 => ?_)
      · replace hf := ww_in hf c_6
        refine lv_iload_n hx hb dX3_alike_33 rfl (lv_at hl 3 rfl) ?_
        refine lv_if_ne (tgt := 49) hx hb dX3_alike_34 (by decide) (fun c_7 => ?_) (fun c_7 => ?_)
        · replace hf := ww_in hf c_7
          refine lv_aload_n hx hb dX3_alike_49 rfl (lv_at hl 0 rfl) ?_
          refine lv_aload_n hx hb dX3_alike_50 rfl (lv_at hl 0 rfl) ?_
          refine t3g_32 X hK hR dX3_alike_51 ?_
          refine lv_iload_n hx hb dX3_alike_54 rfl (lv_at hl 1 rfl) ?_
          obtain ⟨h_8, hf⟩ := ww_gS hf
          refine t3l_32 X hK hR h_8 dX3_alike_55 ?_
          refine lv_aload_n hx hb dX3_alike_56 rfl (lv_at hl 0 rfl) ?_
          refine t3g_32 X hK hR dX3_alike_57 ?_
          refine lv_iload_n hx hb dX3_alike_60 rfl (lv_at hl 2 rfl) ?_
          obtain ⟨h_9, hf⟩ := ww_gS hf
          refine t3l_32 X hK hR h_9 dX3_alike_61 ?_
          obtain ⟨r_10, h_10, hf⟩ := ww_bS hf
          refine t3c_areNodesAlike X hl.1 hK hD hR hS (Nat.le_trans (Nat.le_of_ble_eq_true rfl) hF) (Nat.le_trans (Nat.le_of_ble_eq_true rfl) hLo) h_10 (Nat.le_of_ble_eq_true rfl) dX3_alike_62 (fun H locs hR hS => ?_)
          refine lv_if_eq (tgt := 72) hx hb dX3_alike_65 (by decide) (fun c_11 => ?_) (fun c_11 => ?_)
          · replace hf := ww_ip hf c_11
            refine lv_iconst (v := (0 : Int32)) hx hb dX3_alike_72 (by decide) ?_
            exact hend dX3_alike_73 rfl rfl hf hR hS
          · replace hf := ww_in hf c_11
            refine lv_iconst (v := (1 : Int32)) hx hb dX3_alike_68 (by decide) ?_
            refine lv_goto (tgt := 73) hx hb dX3_alike_69 (by decide) ?_
            exact hend dX3_alike_73 rfl rfl hf hR hS
        · replace hf := ww_ip hf c_7
          refine lv_aload_n hx hb dX3_alike_37 rfl (lv_at hl 0 rfl) ?_
          refine lv_iload_n hx hb dX3_alike_38 rfl (lv_at hl 1 rfl) ?_
          refine lv_iload_n hx hb dX3_alike_39 rfl (lv_at hl 2 rfl) ?_
          obtain ⟨r_12, M_12, h_12, hf⟩ := ww_b2S hf
          refine t3c_holdSame X hl.1 hK hD hR hS (Nat.le_trans (Nat.le_of_ble_eq_true rfl) hF) (Nat.le_trans (Nat.le_of_ble_eq_true rfl) hLo) h_12 (Nat.le_of_ble_eq_true rfl) dX3_alike_40 (fun H locs hR hS => ?_)
          refine lv_if_eq (tgt := 72) hx hb dX3_alike_43 (by decide) (fun c_13 => ?_) (fun c_13 => ?_)
          · replace hf := ww_ip hf c_13
            refine lv_iconst (v := (0 : Int32)) hx hb dX3_alike_72 (by decide) ?_
            exact hend dX3_alike_73 rfl rfl hf hR hS
          · replace hf := ww_in hf c_13
            refine lv_goto (tgt := 68) hx hb dX3_alike_46 (by decide) ?_
            refine lv_iconst (v := (1 : Int32)) hx hb dX3_alike_68 (by decide) ?_
            refine lv_goto (tgt := 73) hx hb dX3_alike_69 (by decide) ?_
            exact hend dX3_alike_73 rfl rfl hf hR hS
      · replace hf := ww_ip hf c_6
        refine lv_iconst (v := (-1 : Int32)) hx hb dX3_alike_31 (by decide) ?_
        exact hend dX3_alike_32 rfl rfl hf hR hS
noncomputable def f3_laysSources_j1 (y2 : Int32) (y3 : Int32) (M_8 : ww_M) : Option ((ww_M × Int32) ⊕ (ww_M)) :=
  ww_g (ww_i y3 999) (if (ww_X M_8 34 y3) = (-1 : Int32) then some (.inl (M_8, (y3 + (-1 : Int32)))) else ww_g (ww_i y3 999) (ww_g (ww_i (ww_X M_8 34 y3) 999) (ww_g (ww_i (ww_X M_8 34 y3) 999) (some (.inl ((ww_sX M_8 55 (ww_X M_8 34 y3) ((ww_X M_8 55 (ww_X M_8 34 y3)) ||| y2)), (y3 + (-1 : Int32))))))))
noncomputable def f3_laysSources_b1c (y2 : Int32) (M_3 : ww_M) (x3 : Int32) : Option ((ww_M × Int32) ⊕ (ww_M)) :=
  if x3 < 0 then ww_x (some M_3) else ww_g (ww_i x3 999) (if ((ww_X M_3 55 x3) &&& y2) = 0 then some (.inl (M_3, (x3 + (-1 : Int32)))) else ww_g (ww_i x3 999) (if (ww_X M_3 33 x3) = (-1 : Int32) then f3_laysSources_j1 y2 x3 M_3 else ww_g (ww_i x3 999) (ww_g (ww_i (ww_X M_3 33 x3) 999) (ww_g (ww_i (ww_X M_3 33 x3) 999) (f3_laysSources_j1 y2 x3 (ww_sX M_3 55 (ww_X M_3 33 x3) ((ww_X M_3 55 (ww_X M_3 33 x3)) ||| y2)))))))
noncomputable def f3_laysSources_b1 (y2 : Int32) : (ww_M × Int32) → Option ((ww_M × Int32) ⊕ (ww_M)) := fun s9 => f3_laysSources_b1c y2 s9.1 s9.2
noncomputable def f3_laysSources (M : ww_M) (x1 : Int32) (x2 : Int32) : Option (ww_M) :=
  ww_g (ww_i x1 999) (ww_g (ww_i x1 999) (ww_U (f3_laysSources_b1 x2) ((ww_sX M 55 x1 ((ww_X M 55 x1) ||| x2)), x1)))
section T3_laysSources_k
variable {p : Program} {l : Launch} {e : Env} {R : Room} {s : State} {m : MethodId} {args : Array Value} {below : List Frame} {meth : Method} {c : Code} {H : Heap} {locs : List Loc} {Q : State → Prop}
variable {cc : ByteArray} {pc : Nat} {ls : Array Slot} {rest : List Value} {nL : Nat} {E : ww_E} {A : Nat → Prop} {H0 : Heap}
theorem t3k_laysSources {M M' : ww_M} {x1 : Int32} {x2 : Int32} (X : ww_C p m c cc nL s args RX3 lw_all) (hsz : ls.size = nL) (hK : t3_Kn E s) (hD : t3_D E) (hR : t3_H E M H) (hS : va_S (t3_A E) H0 H locs) (hF : 1 ≤ R.frames) (hLo : 23 ≤ R.locals) (hM : t3_MetV l yX3_laysSources cX3_laysSources 4 0 0 E [.int x1, .int x2] M M') (hrest : (rest.map fun v => v.category).sum ≤ 8) (hdg : decode cc pc = .ok (.invokevirtual 456, 3)) (kk : ∀ (H1 : Heap) (locs1 : List Loc), t3_H E M' H1 → va_S (t3_A E) H0 H1 locs1 → W p l e R s m args below meth c H1 locs1 0 0 Q (F0 m (pc + 3) ls (rest))) : W p l e R s m args below meth c H locs 0 0 Q (F0 m pc ls (.int x2 :: .int x1 :: .ref E.1 :: rest)) :=
  t3_callV (n := 2) X hsz hK hR hS (As := [.int x1, .int x2]) hM (lw_V q2313 q2315 qs124 q135 q2316) (by decide +kernel) rfl hF hLo (Nat.zero_le _) (Nat.zero_le _) hrest hdg kk
end T3_laysSources_k
set_option maxHeartbeats 4000000 in
set_option maxRecDepth 100000 in
theorem met3_laysSources (l : Launch) {E : ww_E} (hD : t3_D E) (M : ww_M) (x1 : Int32) (x2 : Int32) (M' : ww_M) (hf : f3_laysSources M x1 x2 = some M') : t3_MetV l yX3_laysSources cX3_laysSources 4 0 0 E [.int x1, .int x2] M M' := by
  unfold f3_laysSources at hf
  refine t3_startV (by decide +kernel) (Nat.le_of_ble_eq_true rfl) ?_
  intro p e s m args below meth c Rm Q X hK hF hLo hend ls hl hR hS
  obtain ⟨hx, hb, hml, hown, hts⟩ := id X
  replace hl : lv_has ls 4 [(0, .ref E.1), (1, .int x1), (2, .int x2)] := hl
  refine lv_aload_n hx hb dX3_laysSources_0 rfl (lv_at hl 0 rfl) ?_
  refine t3g_55 X hK hR dX3_laysSources_1 ?_
  refine lv_iload_n hx hb dX3_laysSources_4 rfl (lv_at hl 1 rfl) ?_
  refine lv_dup2_11 hx hb dX3_laysSources_5 rfl rfl ?_
  obtain ⟨h_1, hf⟩ := ww_gS hf
  refine t3l_55 X hK hR h_1 dX3_laysSources_6 ?_
  refine lv_iload_n hx hb dX3_laysSources_7 rfl (lv_at hl 2 rfl) ?_
  refine lv_ior hx hb dX3_laysSources_8 ?_
  obtain ⟨h_2, hf⟩ := ww_gS hf
  refine t3s_55 X hK hD hR hS h_2 dX3_laysSources_9 (fun H locs hR hS => ?_)
  refine lv_iload_n hx hb dX3_laysSources_10 rfl (lv_at hl 1 rfl) ?_
  refine lv_istore_n (lv' := [(3, .int x1), (0, .ref E.1), (1, .int x1), (2, .int x2)]) hx hb dX3_laysSources_11 rfl hl (by decide) rfl (fun ls hl => ?_)
  have hL_1 : ∀ s9 : ww_M × Int32, ww_U (f3_laysSources_b1 x2) s9 = some M' → ∀ (H : Heap) (locs : List Loc) (ls : Array Slot), t3_H E s9.1 H → va_S (t3_A E) s.heap H locs → lv_has ls 4 [(0, .ref E.1), (2, .int x2), (3, .int s9.2)] → W p l e Rm s m args below meth c H locs 0 0 Q (F0 m 12 ls []) := by
    refine ww_ind _ M' ?_
    intro s9 z_1 hf hz_1 H locs ls hR hS hl
    obtain ⟨M_3, x3⟩ := s9
    replace hf : f3_laysSources_b1c x2 M_3 x3 = some z_1 := hf
    unfold f3_laysSources_b1c at hf
    replace hR : t3_H E M_3 H := hR
    replace hl : lv_has ls 4 [(0, .ref E.1), (2, .int x2), (3, .int x3)] := hl
    refine lv_iload_n hx hb dX3_laysSources_12 rfl (lv_at hl 2 rfl) ?_
    refine lv_if_lt (tgt := 86) hx hb dX3_laysSources_13 (by decide) (fun c_4 => ?_) (fun c_4 => ?_)
    · replace hf := ww_ip hf c_4
      replace hf := ww_xK hf hz_1
      exact hend dX3_laysSources_86 hf hR hS
    · replace hf := ww_in hf c_4
      refine lv_aload_n hx hb dX3_laysSources_16 rfl (lv_at hl 0 rfl) ?_
      refine t3g_55 X hK hR dX3_laysSources_17 ?_
      refine lv_iload_n hx hb dX3_laysSources_20 rfl (lv_at hl 2 rfl) ?_
      obtain ⟨h_5, hf⟩ := ww_gS hf
      refine t3l_55 X hK hR h_5 dX3_laysSources_21 ?_
      refine lv_iload_n hx hb dX3_laysSources_22 rfl (lv_at hl 1 rfl) ?_
      refine lv_iand hx hb dX3_laysSources_23 ?_
      refine lv_if_ne (tgt := 30) hx hb dX3_laysSources_24 (by decide) (fun c_6 => ?_) (fun c_6 => ?_)
      · replace hf := ww_in hf c_6
        refine lv_aload_n hx hb dX3_laysSources_30 rfl (lv_at hl 0 rfl) ?_
        refine t3g_33 X hK hR dX3_laysSources_31 ?_
        refine lv_iload_n hx hb dX3_laysSources_34 rfl (lv_at hl 2 rfl) ?_
        obtain ⟨h_7, hf⟩ := ww_gS hf
        refine t3l_33 X hK hR h_7 dX3_laysSources_35 ?_
        refine lv_iconst (v := (-1 : Int32)) hx hb dX3_laysSources_36 (by decide) ?_
        have hj_1 : ∀ (M_8 : ww_M), f3_laysSources_j1 x2 x3 M_8 = some z_1 → ∀ (H : Heap) (locs : List Loc) (ls : Array Slot), t3_H E M_8 H → va_S (t3_A E) s.heap H locs → lv_has ls 4 [(0, .ref E.1), (2, .int x2), (3, .int x3)] → W p l e Rm s m args below meth c H locs 0 0 Q (F0 m 55 ls []) := by
          intro M_8 hf H locs ls hR hS hl
          unfold f3_laysSources_j1 at hf
          refine lv_aload_n hx hb dX3_laysSources_55 rfl (lv_at hl 0 rfl) ?_
          refine t3g_34 X hK hR dX3_laysSources_56 ?_
          refine lv_iload_n hx hb dX3_laysSources_59 rfl (lv_at hl 2 rfl) ?_
          obtain ⟨h_9, hf⟩ := ww_gS hf
          refine t3l_34 X hK hR h_9 dX3_laysSources_60 ?_
          refine lv_iconst (v := (-1 : Int32)) hx hb dX3_laysSources_61 (by decide) ?_
          refine lv_icmp_eq (tgt := 80) hx hb dX3_laysSources_62 (by decide) (fun c_10 => ?_) (fun c_10 => ?_)
          · replace hf := ww_ip hf c_10
            refine lv_iinc (k := 2) (v := x3 + (-1 : Int32)) (lv' := [(3, .int (x3 + (-1 : Int32))), (0, .ref E.1), (2, .int x2)]) hx hb dX3_laysSources_80 hl rfl rfl (by decide) rfl (fun ls hl => ?_)
            refine lv_goto (tgt := 12) hx hb dX3_laysSources_83 (by decide) ?_
            exact ww_lK hf hz_1 _ _ _ hR hS (lv_sub hl [1, 2, 0] rfl)
          · replace hf := ww_in hf c_10
            refine lv_aload_n hx hb dX3_laysSources_65 rfl (lv_at hl 0 rfl) ?_
            refine t3g_55 X hK hR dX3_laysSources_66 ?_
            refine lv_aload_n hx hb dX3_laysSources_69 rfl (lv_at hl 0 rfl) ?_
            refine t3g_34 X hK hR dX3_laysSources_70 ?_
            refine lv_iload_n hx hb dX3_laysSources_73 rfl (lv_at hl 2 rfl) ?_
            obtain ⟨h_11, hf⟩ := ww_gS hf
            refine t3l_34 X hK hR h_11 dX3_laysSources_74 ?_
            refine lv_dup2_11 hx hb dX3_laysSources_75 rfl rfl ?_
            obtain ⟨h_12, hf⟩ := ww_gS hf
            refine t3l_55 X hK hR h_12 dX3_laysSources_76 ?_
            refine lv_iload_n hx hb dX3_laysSources_77 rfl (lv_at hl 1 rfl) ?_
            refine lv_ior hx hb dX3_laysSources_78 ?_
            obtain ⟨h_13, hf⟩ := ww_gS hf
            refine t3s_55 X hK hD hR hS h_13 dX3_laysSources_79 (fun H locs hR hS => ?_)
            refine lv_iinc (k := 2) (v := x3 + (-1 : Int32)) (lv' := [(3, .int (x3 + (-1 : Int32))), (0, .ref E.1), (2, .int x2)]) hx hb dX3_laysSources_80 hl rfl rfl (by decide) rfl (fun ls hl => ?_)
            refine lv_goto (tgt := 12) hx hb dX3_laysSources_83 (by decide) ?_
            exact ww_lK hf hz_1 _ _ _ hR hS (lv_sub hl [1, 2, 0] rfl)
        refine lv_icmp_eq (tgt := 55) hx hb dX3_laysSources_37 (by decide) (fun c_14 => ?_) (fun c_14 => ?_)
        · replace hf := ww_ip hf c_14
          exact hj_1 M_3 hf _ _ _ hR hS hl
        · replace hf := ww_in hf c_14
          refine lv_aload_n hx hb dX3_laysSources_40 rfl (lv_at hl 0 rfl) ?_
          refine t3g_55 X hK hR dX3_laysSources_41 ?_
          refine lv_aload_n hx hb dX3_laysSources_44 rfl (lv_at hl 0 rfl) ?_
          refine t3g_33 X hK hR dX3_laysSources_45 ?_
          refine lv_iload_n hx hb dX3_laysSources_48 rfl (lv_at hl 2 rfl) ?_
          obtain ⟨h_15, hf⟩ := ww_gS hf
          refine t3l_33 X hK hR h_15 dX3_laysSources_49 ?_
          refine lv_dup2_11 hx hb dX3_laysSources_50 rfl rfl ?_
          obtain ⟨h_16, hf⟩ := ww_gS hf
          refine t3l_55 X hK hR h_16 dX3_laysSources_51 ?_
          refine lv_iload_n hx hb dX3_laysSources_52 rfl (lv_at hl 1 rfl) ?_
          refine lv_ior hx hb dX3_laysSources_53 ?_
          obtain ⟨h_17, hf⟩ := ww_gS hf
          refine t3s_55 X hK hD hR hS h_17 dX3_laysSources_54 (fun H locs hR hS => ?_)
          exact hj_1 (ww_sX M_3 55 (ww_X M_3 33 x3) ((ww_X M_3 55 (ww_X M_3 33 x3)) ||| x2)) hf _ _ _ hR hS hl
      · replace hf := ww_ip hf c_6
        refine lv_goto (tgt := 80) hx hb dX3_laysSources_27 (by decide) ?_
        refine lv_iinc (k := 2) (v := x3 + (-1 : Int32)) (lv' := [(3, .int (x3 + (-1 : Int32))), (0, .ref E.1), (2, .int x2)]) hx hb dX3_laysSources_80 hl rfl rfl (by decide) rfl (fun ls hl => ?_)
        refine lv_goto (tgt := 12) hx hb dX3_laysSources_83 (by decide) ?_
        exact ww_lK hf hz_1 _ _ _ hR hS (lv_sub hl [1, 2, 0] rfl)
  exact hL_1 ((ww_sX M 55 x1 ((ww_X M 55 x1) ||| x2)), x1) hf _ _ _ hR hS (lv_sub hl [1, 3, 0] rfl)
section T3_laysSources_c
variable {p : Program} {l : Launch} {e : Env} {R : Room} {s : State} {m : MethodId} {args : Array Value} {below : List Frame} {meth : Method} {c : Code} {H : Heap} {locs : List Loc} {Q : State → Prop}
variable {cc : ByteArray} {pc : Nat} {ls : Array Slot} {rest : List Value} {nL : Nat} {E : ww_E} {A : Nat → Prop} {H0 : Heap}
theorem t3c_laysSources {M M' : ww_M} {x1 : Int32} {x2 : Int32} (X : ww_C p m c cc nL s args RX3 lw_all) (hsz : ls.size = nL) (hK : t3_Kn E s) (hD : t3_D E) (hR : t3_H E M H) (hS : va_S (t3_A E) H0 H locs) (hF : 1 ≤ R.frames) (hLo : 23 ≤ R.locals) (hf : f3_laysSources M x1 x2 = some M') (hrest : (rest.map fun v => v.category).sum ≤ 8) (hdg : decode cc pc = .ok (.invokevirtual 456, 3)) (kk : ∀ (H1 : Heap) (locs1 : List Loc), t3_H E M' H1 → va_S (t3_A E) H0 H1 locs1 → W p l e R s m args below meth c H1 locs1 0 0 Q (F0 m (pc + 3) ls (rest))) : W p l e R s m args below meth c H locs 0 0 Q (F0 m pc ls (.int x2 :: .int x1 :: .ref E.1 :: rest)) :=
  t3k_laysSources X hsz hK hD hR hS hF hLo (met3_laysSources l hD _ _ _ _ hf) hrest hdg kk
end T3_laysSources_c
