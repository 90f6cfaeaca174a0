noncomputable def f1_feed_b2c (y1 : Int32) (y2 : Int32) (y3 : Int32) (y4 : Int32) (y5 : Int32) (D_3 : cw_D) (x7 : Int32) : Option ((cw_D × Int32) ⊕ (Int32 × cw_D)) :=
  if (20 : Int32) ≤ x7 then ww_x (some ((ww_F D_3.1 3), D_3)) else ww_b (f1_byteOf y1 y2 y3 y4 y5 x7) (fun r_5 => if r_5 = 0 then some (.inl (D_3, (x7 + (1 : Int32)))) else ww_g (ww_i (ww_F D_3.1 3) 240) (some (.inl ((cw_sX (cw_sF D_3 3 ((ww_F D_3.1 3) + (1 : Int32))) 2 (ww_F D_3.1 3) (vp_nar .byte r_5.toInt8.toInt32)), (x7 + (1 : Int32))))))
noncomputable def f1_feed_b2 (y1 : Int32) (y2 : Int32) (y3 : Int32) (y4 : Int32) (y5 : Int32) : (cw_D × Int32) → Option ((cw_D × Int32) ⊕ (Int32 × cw_D)) := fun s9 => f1_feed_b2c y1 y2 y3 y4 y5 s9.1 s9.2
noncomputable def f1_feed_b1c (D : cw_D) (y1 : Int32) (y2 : Int32) (y3 : Int32) (y4 : Int32) (y5 : Int32) (x6 : Int32) (x7 : Int32) : Option ((Int32 × Int32) ⊕ (Int32 × cw_D)) :=
  if (20 : Int32) ≤ x7 then ww_x (if ((ww_F D.1 3) + x6) ≤ (240 : Int32) then ww_U (f1_feed_b2 y1 y2 y3 y4 y5) (D, (0 : Int32)) else some ((-1 : Int32), D)) else ww_b (f1_byteOf y1 y2 y3 y4 y5 x7) (fun r_8 => if r_8 = 0 then some (.inl (x6, (x7 + (1 : Int32)))) else some (.inl ((x6 + (1 : Int32)), (x7 + (1 : Int32)))))
noncomputable def f1_feed_b1 (D : cw_D) (y1 : Int32) (y2 : Int32) (y3 : Int32) (y4 : Int32) (y5 : Int32) : (Int32 × Int32) → Option ((Int32 × Int32) ⊕ (Int32 × cw_D)) := fun s9 => f1_feed_b1c D y1 y2 y3 y4 y5 s9.1 s9.2
noncomputable def f1_feed (D : cw_D) (x1 : Int32) (x2 : Int32) (x3 : Int32) (x4 : Int32) (x5 : Int32) : Option (Int32 × cw_D) :=
  ww_U (f1_feed_b1 D x1 x2 x3 x4 x5) ((0 : Int32), (0 : Int32))
set_option maxHeartbeats 4000000 in
set_option maxRecDepth 100000 in
theorem met1_feed (l : Launch) {E : cw_E} {A : Nat → Prop} (D : cw_D) (x1 : Int32) (x2 : Int32) (x3 : Int32) (x4 : Int32) (x5 : Int32) (r : Int32) (D' : cw_D) (hf : f1_feed D x1 x2 x3 x4 x5 = some (r, D')) : cw_MetI l yX1_feed cX1_feed 9 (some Jvm.ClassFile.FieldType.int) 1 26 E A [.ref E.1.1, .int x1, .int x2, .int x3, .int x4, .int x5] D D' r 0 0 := by
  unfold f1_feed at hf
  refine cw_sID (own := RX1) (by decide +kernel) [(0, .ref E.1.1), (1, .int x1), (2, .int x2), (3, .int x3), (4, .int x4), (5, .int x5)] ⟨Nat.le_of_ble_eq_true rfl, rfl⟩ ?_
  intro p e s m args below meth c Rm Q X hK hF hLo hin hend ls hl hR hS
  obtain ⟨hx, hb, hml, hown, hts⟩ := id X
  refine lv_iconst (v := (0 : Int32)) hx hb dX1_feed_0 (by decide) ?_
  refine lv_istore (lv' := [(6, .int (0 : Int32)), (0, .ref E.1.1), (1, .int x1), (2, .int x2), (3, .int x3), (4, .int x4), (5, .int x5)]) hx hb dX1_feed_1 hl (by decide) rfl (fun ls hl => ?_)
  refine lv_iconst (v := (0 : Int32)) hx hb dX1_feed_3 (by decide) ?_
  refine lv_istore (lv' := [(7, .int (0 : Int32)), (6, .int (0 : Int32)), (0, .ref E.1.1), (1, .int x1), (2, .int x2), (3, .int x3), (4, .int x4), (5, .int x5)]) hx hb dX1_feed_4 hl (by decide) rfl (fun ls hl => ?_)
  have hL_1 : ∀ s9 : Int32 × Int32, ww_U (f1_feed_b1 D x1 x2 x3 x4 x5) s9 = some (r, D') → ∀ (H : Heap) (locs : List Loc) (ls : Array Slot), cw_H E A D H → va_S A s.heap H locs → lv_has ls 9 [(0, .ref E.1.1), (1, .int x1), (2, .int x2), (3, .int x3), (4, .int x4), (5, .int x5), (6, .int s9.1), (7, .int s9.2)] → W p l e Rm s m args below meth c H locs 0 0 Q (F0 m 6 ls []) := by
    clear hf
    refine ww_ind _ (r, D') ?_
    intro s9 z_1 hf hz_1
    obtain ⟨x6, x7⟩ := s9
    replace hf : f1_feed_b1c D x1 x2 x3 x4 x5 x6 x7 = some z_1 := hf
    unfold f1_feed_b1c at hf
    try clear hl
    try clear hS
    try clear hR
    intro H locs ls hR hS hl
    replace hl : lv_has ls 9 [(0, .ref E.1.1), (1, .int x1), (2, .int x2), (3, .int x3), (4, .int x4), (5, .int x5), (6, .int x6), (7, .int x7)] := hl
    refine lv_iload hx hb dX1_feed_6 (lv_at hl 7 rfl) ?_
    refine lv_bipush (v := (20 : Int32)) hx hb dX1_feed_8 (by decide) ?_
    refine lv_icmp_ge (tgt := 37) hx hb dX1_feed_10 (by decide) (fun c_1 => ?_) (fun c_1 => ?_)
    · replace hf := ww_ip hf c_1
      replace hf := ww_xK hf hz_1
      refine lv_aload_n hx hb dX1_feed_37 rfl (lv_at hl 0 rfl) ?_
      refine c1g_124 X hK hR dX1_feed_38 ?_
      refine lv_iload hx hb dX1_feed_41 (lv_at hl 6 rfl) ?_
      refine lv_iadd hx hb dX1_feed_43 ?_
      refine lv_sipush (v := (240 : Int32)) hx hb dX1_feed_44 (by decide) ?_
      refine lv_icmp_le (tgt := 52) hx hb dX1_feed_47 (by decide) (fun c_2 => ?_) (fun c_2 => ?_)
      · replace hf := ww_ip hf c_2
        refine lv_iconst (v := (0 : Int32)) hx hb dX1_feed_52 (by decide) ?_
        refine lv_istore (lv' := [(7, .int (0 : Int32)), (0, .ref E.1.1), (1, .int x1), (2, .int x2), (3, .int x3), (4, .int x4), (5, .int x5), (6, .int x6)]) hx hb dX1_feed_53 hl (by decide) rfl (fun ls hl => ?_)
        have hL_2 : ∀ s9 : cw_D × Int32, ww_U (f1_feed_b2 x1 x2 x3 x4 x5) s9 = some (r, D') → ∀ (H : Heap) (locs : List Loc) (ls : Array Slot), cw_H E A s9.1 H → va_S A s.heap H locs → lv_has ls 9 [(0, .ref E.1.1), (1, .int x1), (2, .int x2), (3, .int x3), (4, .int x4), (5, .int x5), (7, .int s9.2)] → W p l e Rm s m args below meth c H locs 0 0 Q (F0 m 55 ls []) := by
          clear hf
          refine ww_ind _ (r, D') ?_
          intro s9 z_2 hf hz_2
          obtain ⟨D_3, x7⟩ := s9
          replace hf : f1_feed_b2c x1 x2 x3 x4 x5 D_3 x7 = some z_2 := hf
          unfold f1_feed_b2c at hf
          try clear hl
          try clear hS
          try clear hR
          intro H locs ls hR hS hl
          replace hR : cw_H E A D_3 H := hR
          replace hl : lv_has ls 9 [(0, .ref E.1.1), (1, .int x1), (2, .int x2), (3, .int x3), (4, .int x4), (5, .int x5), (7, .int x7)] := hl
          refine lv_iload hx hb dX1_feed_55 (lv_at hl 6 rfl) ?_
          refine lv_bipush (v := (20 : Int32)) hx hb dX1_feed_57 (by decide) ?_
          refine lv_icmp_ge (tgt := 106) hx hb dX1_feed_59 (by decide) (fun c_4 => ?_) (fun c_4 => ?_)
          · replace hf := ww_ip hf c_4
            replace hf := ww_xK hf hz_2
            refine lv_aload_n hx hb dX1_feed_106 rfl (lv_at hl 0 rfl) ?_
            refine c1g_124 X hK hR dX1_feed_107 ?_
            exact hend dX1_feed_110 rfl rfl hf hR hS
          · replace hf := ww_in hf c_4
            refine lv_iload_n hx hb dX1_feed_62 rfl (lv_at hl 1 rfl) ?_
            refine lv_iload_n hx hb dX1_feed_63 rfl (lv_at hl 2 rfl) ?_
            refine lv_iload_n hx hb dX1_feed_64 rfl (lv_at hl 3 rfl) ?_
            refine lv_iload hx hb dX1_feed_65 (lv_at hl 4 rfl) ?_
            refine lv_iload hx hb dX1_feed_67 (lv_at hl 5 rfl) ?_
            refine lv_iload hx hb dX1_feed_69 (lv_at hl 6 rfl) ?_
            obtain ⟨r_5, h_5, hq⟩ := ww_bS hf; replace hf := hq; clear hq
            refine c1c_1_byteOf X hl.1 (Nat.le_trans (Nat.le_of_ble_eq_true rfl) hF) (Nat.le_trans (Nat.le_of_ble_eq_true rfl) hLo) (Nat.zero_le _) (Nat.zero_le _) h_5 (cw_rest (Nat.le_of_ble_eq_true rfl)) dX1_feed_71 ?_
            refine lv_istore (lv' := [(8, .int r_5), (0, .ref E.1.1), (1, .int x1), (2, .int x2), (3, .int x3), (4, .int x4), (5, .int x5), (7, .int x7)]) hx hb dX1_feed_74 hl (by decide) rfl (fun ls hl => ?_)
            refine lv_iload hx hb dX1_feed_76 (lv_at hl 0 rfl) ?_
            refine lv_if_eq (tgt := 100) hx hb dX1_feed_78 (by decide) (fun c_6 => ?_) (fun c_6 => ?_)
            · replace hf := ww_ip hf c_6
              refine lv_iinc (k := 7) (v := x7 + (1 : Int32)) (lv' := [(7, .int (x7 + (1 : Int32))), (8, .int r_5), (0, .ref E.1.1), (1, .int x1), (2, .int x2), (3, .int x3), (4, .int x4), (5, .int x5)]) hx hb dX1_feed_100 hl rfl rfl (by decide) rfl (fun ls hl => ?_)
              refine lv_goto (tgt := 55) hx hb dX1_feed_103 (by decide) ?_
              exact ww_lK hf hz_2 _ _ _ hR hS (lv_sub hl [2, 3, 4, 5, 6, 7, 0] rfl)
            · replace hf := ww_in hf c_6
              refine lv_aload_n hx hb dX1_feed_81 rfl (lv_at hl 1 rfl) ?_
              refine c1g_43 X hK hR dX1_feed_82 ?_
              refine lv_aload_n hx hb dX1_feed_85 rfl (lv_at hl 1 rfl) ?_
              refine lv_dup hx hb dX1_feed_86 rfl ?_
              refine c1g_124 X hK hR dX1_feed_87 ?_
              refine lv_dup_x1 hx hb dX1_feed_90 rfl rfl ?_
              refine lv_iconst (v := (1 : Int32)) hx hb dX1_feed_91 (by decide) ?_
              refine lv_iadd hx hb dX1_feed_92 ?_
              refine c1p_124 X hK hR hS dX1_feed_93 (fun H locs hR hS => ?_)
              refine lv_iload hx hb dX1_feed_96 (lv_at hl 0 rfl) ?_
              refine lv_i2b (v := r_5.toInt8.toInt32) hx hb dX1_feed_98 rfl ?_
              obtain ⟨h_7, hq⟩ := ww_gS hf; replace hf := hq; clear hq
              refine c1s_2 X hK hR hS h_7 dX1_feed_99 (fun H locs hR hS => ?_)
              refine lv_iinc (k := 7) (v := x7 + (1 : Int32)) (lv' := [(7, .int (x7 + (1 : Int32))), (8, .int r_5), (0, .ref E.1.1), (1, .int x1), (2, .int x2), (3, .int x3), (4, .int x4), (5, .int x5)]) hx hb dX1_feed_100 hl rfl rfl (by decide) rfl (fun ls hl => ?_)
              refine lv_goto (tgt := 55) hx hb dX1_feed_103 (by decide) ?_
              exact ww_lK hf hz_2 _ _ _ hR hS (lv_sub hl [2, 3, 4, 5, 6, 7, 0] rfl)
        exact hL_2 (D, (0 : Int32)) hf _ _ _ hR hS (lv_sub hl [1, 2, 3, 4, 5, 6, 0] rfl)
      · replace hf := ww_in hf c_2
        refine lv_iconst (v := (-1 : Int32)) hx hb dX1_feed_50 (by decide) ?_
        exact hend dX1_feed_51 rfl rfl hf hR hS
    · replace hf := ww_in hf c_1
      refine lv_iload_n hx hb dX1_feed_13 rfl (lv_at hl 1 rfl) ?_
      refine lv_iload_n hx hb dX1_feed_14 rfl (lv_at hl 2 rfl) ?_
      refine lv_iload_n hx hb dX1_feed_15 rfl (lv_at hl 3 rfl) ?_
      refine lv_iload hx hb dX1_feed_16 (lv_at hl 4 rfl) ?_
      refine lv_iload hx hb dX1_feed_18 (lv_at hl 5 rfl) ?_
      refine lv_iload hx hb dX1_feed_20 (lv_at hl 7 rfl) ?_
      obtain ⟨r_8, h_8, hq⟩ := ww_bS hf; replace hf := hq; clear hq
      refine c1c_1_byteOf X hl.1 (Nat.le_trans (Nat.le_of_ble_eq_true rfl) hF) (Nat.le_trans (Nat.le_of_ble_eq_true rfl) hLo) (Nat.zero_le _) (Nat.zero_le _) h_8 (cw_rest (Nat.le_of_ble_eq_true rfl)) dX1_feed_22 ?_
      refine lv_if_eq (tgt := 31) hx hb dX1_feed_25 (by decide) (fun c_9 => ?_) (fun c_9 => ?_)
      · replace hf := ww_ip hf c_9
        refine lv_iinc (k := 7) (v := x7 + (1 : Int32)) (lv' := [(7, .int (x7 + (1 : Int32))), (0, .ref E.1.1), (1, .int x1), (2, .int x2), (3, .int x3), (4, .int x4), (5, .int x5), (6, .int x6)]) hx hb dX1_feed_31 hl rfl rfl (by decide) rfl (fun ls hl => ?_)
        refine lv_goto (tgt := 6) hx hb dX1_feed_34 (by decide) ?_
        exact ww_lK hf hz_1 _ _ _ hR hS (lv_sub hl [1, 2, 3, 4, 5, 6, 7, 0] rfl)
      · replace hf := ww_in hf c_9
        refine lv_iinc (k := 6) (v := x6 + (1 : Int32)) (lv' := [(6, .int (x6 + (1 : Int32))), (0, .ref E.1.1), (1, .int x1), (2, .int x2), (3, .int x3), (4, .int x4), (5, .int x5), (7, .int x7)]) hx hb dX1_feed_28 hl rfl rfl (by decide) rfl (fun ls hl => ?_)
        refine lv_iinc (k := 7) (v := x7 + (1 : Int32)) (lv' := [(7, .int (x7 + (1 : Int32))), (6, .int (x6 + (1 : Int32))), (0, .ref E.1.1), (1, .int x1), (2, .int x2), (3, .int x3), (4, .int x4), (5, .int x5)]) hx hb dX1_feed_31 hl rfl rfl (by decide) rfl (fun ls hl => ?_)
        refine lv_goto (tgt := 6) hx hb dX1_feed_34 (by decide) ?_
        exact ww_lK hf hz_1 _ _ _ hR hS (lv_sub hl [2, 3, 4, 5, 6, 7, 1, 0] rfl)
  exact hL_1 ((0 : Int32), (0 : Int32)) hf _ _ _ hR hS (lv_sub hl [2, 3, 4, 5, 6, 7, 1, 0] rfl)
noncomputable def f1_in (x0 : Int32) (x1 : Int32) (x2 : Int32) : Option (Int32) :=
  if x0 < x1 then some (0 : Int32) else if x2 < x0 then some (0 : Int32) else some (1 : Int32)
set_option maxHeartbeats 4000000 in
set_option maxRecDepth 100000 in
theorem met1_in (l : Launch) (x0 : Int32) (x1 : Int32) (x2 : Int32) (r : Int32) (hf : f1_in x0 x1 x2 = some r) : t3_MetS l yX1_in cX1_in 3 (some Jvm.ClassFile.FieldType.boolean) 0 0 [.int x0, .int x1, .int x2] r := by
  unfold f1_in at hf
  refine t3_startS (own := RX1) (by decide +kernel) (Nat.le_of_ble_eq_true rfl) ?_
  intro p e s m args below meth c Rm Q X hF hLo hend ls hl hS; have hR : s.heap = s.heap := rfl
  obtain ⟨hx, hb, hml, hown, hts⟩ := id X
  replace hl : lv_has ls 3 [(0, .int x0), (1, .int x1), (2, .int x2)] := hl
  refine lv_iload_n hx hb dX1_in_0 rfl (lv_at hl 0 rfl) ?_
  refine lv_iload_n hx hb dX1_in_1 rfl (lv_at hl 1 rfl) ?_
  refine lv_icmp_lt (tgt := 14) hx hb dX1_in_2 (by decide) (fun c_1 => ?_) (fun c_1 => ?_)
  · replace hf := ww_ip hf c_1
    refine lv_iconst (v := (0 : Int32)) hx hb dX1_in_14 (by decide) ?_
    exact hend dX1_in_15 rfl (by decide) hf hR hS
  · replace hf := ww_in hf c_1
    refine lv_iload_n hx hb dX1_in_5 rfl (lv_at hl 0 rfl) ?_
    refine lv_iload_n hx hb dX1_in_6 rfl (lv_at hl 2 rfl) ?_
    refine lv_icmp_gt (tgt := 14) hx hb dX1_in_7 (by decide) (fun c_2 => ?_) (fun c_2 => ?_)
    · replace hf := ww_ip hf c_2
      refine lv_iconst (v := (0 : Int32)) hx hb dX1_in_14 (by decide) ?_
      exact hend dX1_in_15 rfl (by decide) hf hR hS
    · replace hf := ww_in hf c_2
      refine lv_iconst (v := (1 : Int32)) hx hb dX1_in_10 (by decide) ?_
      refine lv_goto (tgt := 15) hx hb dX1_in_11 (by decide) ?_
      exact hend dX1_in_15 rfl (by decide) hf hR hS
section C_1_in_c
variable {p : Program} {l : Launch} {e : Env} {R : Room} {s : State} {m : MethodId} {args : Array Value} {below : List Frame} {meth : Method} {c : Code} {H : Heap} {locs : List Loc} {cells slots : Nat} {Q : State → Prop}
variable {cc : ByteArray} {pc : Nat} {ls : Array Slot} {rest : List Value} {nL : Nat} {E : cw_E} {A : Nat → Prop} {H0 : Heap}
theorem c1c_1_in {x0 : Int32} {x1 : Int32} {x2 : Int32} {r : Int32} (X : ww_C p m c cc nL s args RX1 lw_all) (hsz : ls.size = nL) (hF : 1 ≤ R.frames) (hLo : 22 ≤ R.locals) (hc : cells ≤ R.cells) (hs : slots ≤ R.slots) (hf : f1_in x0 x1 x2 = some r) (hrest : (rest.map fun v => v.category).sum ≤ 8) (hdg : decode cc pc = .ok (.invokestatic 127, 3)) (kk : W p l e R s m args below meth c H locs cells slots Q (F0 m (pc + 3) ls (.int r :: rest))) : W p l e R s m args below meth c H locs cells slots Q (F0 m pc ls (.int x2 :: .int x1 :: .int x0 :: rest)) :=
  t3_callS (n := 3) X hsz (As := [.int x0, .int x1, .int x2]) (met1_in l x0 x1 x2 r hf) (lw_S q374 q375 q131 q376) (by decide +kernel) rfl hF hLo hc hs hrest hdg kk
end C_1_in_c
noncomputable def f1_end (D : cw_D) (x1 : Int32) : Option (Int32 × cw_D) :=
  ww_b (f1_in x1 (0 : Int32) (ww_F D.1 3)) (fun r_1 => if r_1 = 0 then some ((0 : Int32), D) else some ((1 : Int32), (cw_sF D 3 x1)))
set_option maxHeartbeats 4000000 in
set_option maxRecDepth 100000 in
theorem met1_end (l : Launch) {E : cw_E} {A : Nat → Prop} (D : cw_D) (x1 : Int32) (r : Int32) (D' : cw_D) (hf : f1_end D x1 = some (r, D')) : cw_MetI l yX1_end cX1_end 2 (some Jvm.ClassFile.FieldType.boolean) 1 22 E A [.ref E.1.1, .int x1] D D' r 0 0 := by
  unfold f1_end at hf
  refine cw_sID (own := RX1) (by decide +kernel) [(0, .ref E.1.1), (1, .int x1)] ⟨Nat.le_of_ble_eq_true rfl, rfl⟩ ?_
  intro p e s m args below meth c Rm Q X hK hF hLo hin hend ls hl hR hS
  obtain ⟨hx, hb, hml, hown, hts⟩ := id X
  refine lv_iload_n hx hb dX1_end_0 rfl (lv_at hl 1 rfl) ?_
  refine lv_iconst (v := (0 : Int32)) hx hb dX1_end_1 (by decide) ?_
  refine lv_aload_n hx hb dX1_end_2 rfl (lv_at hl 0 rfl) ?_
  refine c1g_124 X hK hR dX1_end_3 ?_
  obtain ⟨r_1, h_1, hq⟩ := ww_bS hf; replace hf := hq; clear hq
  refine c1c_1_in X hl.1 (Nat.le_trans (Nat.le_of_ble_eq_true rfl) hF) (Nat.le_trans (Nat.le_of_ble_eq_true rfl) hLo) (Nat.zero_le _) (Nat.zero_le _) h_1 (cw_rest (Nat.le_of_ble_eq_true rfl)) dX1_end_6 ?_
  refine lv_if_ne (tgt := 14) hx hb dX1_end_9 (by decide) (fun c_2 => ?_) (fun c_2 => ?_)
  · replace hf := ww_in hf c_2
    refine lv_aload_n hx hb dX1_end_14 rfl (lv_at hl 0 rfl) ?_
    refine lv_iload_n hx hb dX1_end_15 rfl (lv_at hl 1 rfl) ?_
    refine c1p_124 X hK hR hS dX1_end_16 (fun H locs hR hS => ?_)
    refine lv_iconst (v := (1 : Int32)) hx hb dX1_end_19 (by decide) ?_
    exact hend dX1_end_20 rfl (by decide) hf hR hS
  · replace hf := ww_ip hf c_2
    refine lv_iconst (v := (0 : Int32)) hx hb dX1_end_12 (by decide) ?_
    exact hend dX1_end_13 rfl (by decide) hf hR hS
noncomputable def f1_here (D : cw_D) : Option (Int32) :=
  if (ww_F D.1 3) ≤ (ww_F D.1 4) then some (-1 : Int32) else ww_g (ww_i (ww_F D.1 4) 240) (some ((ww_X D.1 2 (ww_F D.1 4)) &&& (255 : Int32)))
section C_1_here_k
variable {p : Program} {l : Launch} {e : Env} {R : Room} {s : State} {m : MethodId} {args : Array Value} {below : List Frame} {meth : Method} {c : Code} {H : Heap} {locs : List Loc} {cells slots : Nat} {Q : State → Prop}
variable {cc : ByteArray} {pc : Nat} {ls : Array Slot} {rest : List Value} {nL : Nat} {E : cw_E} {A : Nat → Prop} {H0 : Heap}
theorem c1k_1_here {D : cw_D} {r : Int32} (X : ww_C p m c cc nL s args RX1 lw_all) (hsz : ls.size = nL) (hK : cw_K E A s) (hR : cw_H E A D H) (hS : va_S A s.heap H locs) (hF : 1 ≤ R.frames) (hLo : 20 ≤ R.locals) (hc : cells ≤ R.cells) (hs : slots ≤ R.slots) (hM : cw_MetI l yX1_here cX1_here 1 (some Jvm.ClassFile.FieldType.int) 0 0 E A [.ref E.1.1] D D r 0 0) (hrest : (rest.map fun v => v.category).sum ≤ 8) (hdg : decode cc pc = .ok (.invokevirtual 134, 3)) (kk : ∀ (H1 : Heap) (locs1 : List Loc), cw_H E A D H1 → va_S A s.heap H1 locs1 → W p l e R s m args below meth c H1 locs1 cells slots Q (F0 m (pc + 3) ls (.int r :: rest))) : W p l e R s m args below meth c H locs cells slots Q (F0 m pc ls (.ref E.1.1 :: rest)) :=
  va_calli (va_runV (C := RX1) (As := []) (rest := rest) (b := E.1.1) X hM (cwV 0 X.2.2.2.2 (lw_V q389 q391 qs5 q131 q392) rfl rfl rfl (by decide +kernel) ⟨hF, hLo⟩) (cw_pV hK hR hS (cw_rcM hK hR)) rfl rfl hsz rfl (lv_room hrest) hdg ⟨hc, hs⟩) hS (fun q _ h => h) (fun q h => h) (fun r' u t H1 locs1 ht hvm hw hB hz1 hk1 hS1 => by subst hw; rw [ht] at hB; exact kk H1 locs1 hB hS1)
end C_1_here_k
set_option maxHeartbeats 4000000 in
set_option maxRecDepth 100000 in
theorem met1_here (l : Launch) {E : cw_E} {A : Nat → Prop} (D : cw_D) (r : Int32) (hf : f1_here D = some r) : cw_MetI l yX1_here cX1_here 1 (some Jvm.ClassFile.FieldType.int) 0 0 E A [.ref E.1.1] D D r 0 0 := by
  unfold f1_here at hf
  refine cw_sIP (own := RX1) (by decide +kernel) [(0, .ref E.1.1)] ⟨Nat.le_of_ble_eq_true rfl, rfl⟩ ?_
  intro p e s m args below meth c Rm Q X hK hF hLo hin hend ls hl hR hS
  obtain ⟨hx, hb, hml, hown, hts⟩ := id X
  refine lv_aload_n hx hb dX1_here_0 rfl (lv_at hl 0 rfl) ?_
  refine c1g_131 X hK hR dX1_here_1 ?_
  refine lv_aload_n hx hb dX1_here_4 rfl (lv_at hl 0 rfl) ?_
  refine c1g_124 X hK hR dX1_here_5 ?_
  refine lv_icmp_ge (tgt := 27) hx hb dX1_here_8 (by decide) (fun c_1 => ?_) (fun c_1 => ?_)
  · replace hf := ww_ip hf c_1
    refine lv_iconst (v := (-1 : Int32)) hx hb dX1_here_27 (by decide) ?_
    exact hend dX1_here_28 rfl rfl hf hR hS
  · replace hf := ww_in hf c_1
    refine lv_aload_n hx hb dX1_here_11 rfl (lv_at hl 0 rfl) ?_
    refine c1g_43 X hK hR dX1_here_12 ?_
    refine lv_aload_n hx hb dX1_here_15 rfl (lv_at hl 0 rfl) ?_
    refine c1g_131 X hK hR dX1_here_16 ?_
    obtain ⟨h_2, hq⟩ := ww_gS hf; replace hf := hq; clear hq
    refine c1l_2 X hK hR h_2 dX1_here_19 ?_
    refine lv_sipush (v := (255 : Int32)) hx hb dX1_here_20 (by decide) ?_
    refine lv_iand hx hb dX1_here_23 ?_
    refine lv_goto (tgt := 28) hx hb dX1_here_24 (by decide) ?_
    exact hend dX1_here_28 rfl rfl hf hR hS
section C_1_here_c
variable {p : Program} {l : Launch} {e : Env} {R : Room} {s : State} {m : MethodId} {args : Array Value} {below : List Frame} {meth : Method} {c : Code} {H : Heap} {locs : List Loc} {cells slots : Nat} {Q : State → Prop}
variable {cc : ByteArray} {pc : Nat} {ls : Array Slot} {rest : List Value} {nL : Nat} {E : cw_E} {A : Nat → Prop} {H0 : Heap}
theorem c1c_1_here {D : cw_D} {r : Int32} (X : ww_C p m c cc nL s args RX1 lw_all) (hsz : ls.size = nL) (hK : cw_K E A s) (hR : cw_H E A D H) (hS : va_S A s.heap H locs) (hF : 1 ≤ R.frames) (hLo : 20 ≤ R.locals) (hc : cells ≤ R.cells) (hs : slots ≤ R.slots) (hf : f1_here D = some r) (hrest : (rest.map fun v => v.category).sum ≤ 8) (hdg : decode cc pc = .ok (.invokevirtual 134, 3)) (kk : ∀ (H1 : Heap) (locs1 : List Loc), cw_H E A D H1 → va_S A s.heap H1 locs1 → W p l e R s m args below meth c H1 locs1 cells slots Q (F0 m (pc + 3) ls (.int r :: rest))) : W p l e R s m args below meth c H locs cells slots Q (F0 m pc ls (.ref E.1.1 :: rest)) :=
  c1k_1_here X hsz hK hR hS hF hLo hc hs (met1_here l _ _ hf) hrest hdg kk
end C_1_here_c
noncomputable def f1_next_b1c (D_1 : cw_D) : Option ((cw_D) ⊕ (Int32 × cw_D)) :=
  ww_b (f1_here D_1) (fun r_2 => if r_2 = (32 : Int32) then some (.inl (cw_sF D_1 4 ((ww_F D_1.1 4) + (1 : Int32)))) else ww_x (ww_b (f1_here D_1) (fun r_4 => some (r_4, D_1))))
noncomputable def f1_next_b1 : cw_D → Option ((cw_D) ⊕ (Int32 × cw_D)) := fun s9 => f1_next_b1c s9
noncomputable def f1_next (D : cw_D) : Option (Int32 × cw_D) :=
  ww_U (f1_next_b1) D
section C_1_next_k
variable {p : Program} {l : Launch} {e : Env} {R : Room} {s : State} {m : MethodId} {args : Array Value} {below : List Frame} {meth : Method} {c : Code} {H : Heap} {locs : List Loc} {cells slots : Nat} {Q : State → Prop}
variable {cc : ByteArray} {pc : Nat} {ls : Array Slot} {rest : List Value} {nL : Nat} {E : cw_E} {A : Nat → Prop} {H0 : Heap}
theorem c1k_1_next {D : cw_D} {r : Int32} {D' : cw_D} (X : ww_C p m c cc nL s args RX1 lw_all) (hsz : ls.size = nL) (hK : cw_K E A s) (hR : cw_H E A D H) (hS : va_S A s.heap H locs) (hF : 2 ≤ R.frames) (hLo : 40 ≤ R.locals) (hc : cells ≤ R.cells) (hs : slots ≤ R.slots) (hM : cw_MetI l yX1_next cX1_next 1 (some Jvm.ClassFile.FieldType.int) 1 20 E A [.ref E.1.1] D D' r 0 0) (hrest : (rest.map fun v => v.category).sum ≤ 8) (hdg : decode cc pc = .ok (.invokevirtual 146, 3)) (kk : ∀ (H1 : Heap) (locs1 : List Loc), cw_H E A D' H1 → va_S A s.heap H1 locs1 → W p l e R s m args below meth c H1 locs1 cells slots Q (F0 m (pc + 3) ls (.int r :: rest))) : W p l e R s m args below meth c H locs cells slots Q (F0 m pc ls (.ref E.1.1 :: rest)) :=
  va_calli (va_runV (C := RX1) (As := []) (rest := rest) (b := E.1.1) X hM (cwV 0 X.2.2.2.2 (lw_V q385 q387 qs4 q131 q388) rfl rfl rfl (by decide +kernel) ⟨hF, hLo⟩) (cw_pV hK hR hS (cw_rcM hK hR)) rfl rfl hsz rfl (lv_room hrest) hdg ⟨hc, hs⟩) hS (fun q _ h => h) (fun q h => h) (fun r' u t H1 locs1 ht hvm hw hB hz1 hk1 hS1 => by subst hw; rw [ht] at hB; exact kk H1 locs1 hB hS1)
end C_1_next_k
set_option maxHeartbeats 4000000 in
set_option maxRecDepth 100000 in
theorem met1_next (l : Launch) {E : cw_E} {A : Nat → Prop} (D : cw_D) (r : Int32) (D' : cw_D) (hf : f1_next D = some (r, D')) : cw_MetI l yX1_next cX1_next 1 (some Jvm.ClassFile.FieldType.int) 1 20 E A [.ref E.1.1] D D' r 0 0 := by
  unfold f1_next at hf
  refine cw_sID (own := RX1) (by decide +kernel) [(0, .ref E.1.1)] ⟨Nat.le_of_ble_eq_true rfl, rfl⟩ ?_
  intro p e s m args below meth c Rm Q X hK hF hLo hin hend ls hl hR hS
  obtain ⟨hx, hb, hml, hown, hts⟩ := id X
  have hL_1 : ∀ s9 : cw_D, ww_U (f1_next_b1) s9 = some (r, D') → ∀ (H : Heap) (locs : List Loc) (ls : Array Slot), cw_H E A s9 H → va_S A s.heap H locs → lv_has ls 1 [(0, .ref E.1.1)] → W p l e Rm s m args below meth c H locs 0 0 Q (F0 m 0 ls []) := by
    clear hf
    refine ww_ind _ (r, D') ?_
    intro s9 z_1 hf hz_1
    obtain ⟨D_1, e9⟩ : ∃ q9, q9 = s9 := ⟨_, rfl⟩; subst e9
    replace hf : f1_next_b1c D_1 = some z_1 := hf
    unfold f1_next_b1c at hf
    try clear hl
    try clear hS
    try clear hR
    intro H locs ls hR hS hl
    replace hR : cw_H E A D_1 H := hR
    replace hl : lv_has ls 1 [(0, .ref E.1.1)] := hl
    refine lv_aload_n hx hb dX1_next_0 rfl (lv_at hl 0 rfl) ?_
    obtain ⟨r_2, h_2, hq⟩ := ww_bS hf; replace hf := hq; clear hq
    refine c1c_1_here X hl.1 hK hR hS (Nat.le_trans (Nat.le_of_ble_eq_true rfl) hF) (Nat.le_trans (Nat.le_of_ble_eq_true rfl) hLo) (Nat.zero_le _) (Nat.zero_le _) h_2 (cw_rest (Nat.le_of_ble_eq_true rfl)) dX1_next_1 (fun H locs hR hS => ?_)
    refine lv_bipush (v := (32 : Int32)) hx hb dX1_next_4 (by decide) ?_
    refine lv_icmp_ne (tgt := 22) hx hb dX1_next_6 (by decide) (fun c_3 => ?_) (fun c_3 => ?_)
    · replace hf := ww_in hf c_3
      replace hf := ww_xK hf hz_1
      refine lv_aload_n hx hb dX1_next_22 rfl (lv_at hl 0 rfl) ?_
      obtain ⟨r_4, h_4, hq⟩ := ww_bS hf; replace hf := hq; clear hq
      refine c1c_1_here X hl.1 hK hR hS (Nat.le_trans (Nat.le_of_ble_eq_true rfl) hF) (Nat.le_trans (Nat.le_of_ble_eq_true rfl) hLo) (Nat.zero_le _) (Nat.zero_le _) h_4 (cw_rest (Nat.le_of_ble_eq_true rfl)) dX1_next_23 (fun H locs hR hS => ?_)
      exact hend dX1_next_26 rfl rfl hf hR hS
    · replace hf := ww_ip hf c_3
      refine lv_aload_n hx hb dX1_next_9 rfl (lv_at hl 0 rfl) ?_
      refine lv_dup hx hb dX1_next_10 rfl ?_
      refine c1g_131 X hK hR dX1_next_11 ?_
      refine lv_iconst (v := (1 : Int32)) hx hb dX1_next_14 (by decide) ?_
      refine lv_iadd hx hb dX1_next_15 ?_
      refine c1p_131 X hK hR hS dX1_next_16 (fun H locs hR hS => ?_)
      refine lv_goto (tgt := 0) hx hb dX1_next_19 (by decide) ?_
      exact ww_lK hf hz_1 _ _ _ hR hS hl
  exact hL_1 D hf _ _ _ hR hS hl
section C_1_next_c
variable {p : Program} {l : Launch} {e : Env} {R : Room} {s : State} {m : MethodId} {args : Array Value} {below : List Frame} {meth : Method} {c : Code} {H : Heap} {locs : List Loc} {cells slots : Nat} {Q : State → Prop}
variable {cc : ByteArray} {pc : Nat} {ls : Array Slot} {rest : List Value} {nL : Nat} {E : cw_E} {A : Nat → Prop} {H0 : Heap}
theorem c1c_1_next {D : cw_D} {r : Int32} {D' : cw_D} (X : ww_C p m c cc nL s args RX1 lw_all) (hsz : ls.size = nL) (hK : cw_K E A s) (hR : cw_H E A D H) (hS : va_S A s.heap H locs) (hF : 2 ≤ R.frames) (hLo : 40 ≤ R.locals) (hc : cells ≤ R.cells) (hs : slots ≤ R.slots) (hf : f1_next D = some (r, D')) (hrest : (rest.map fun v => v.category).sum ≤ 8) (hdg : decode cc pc = .ok (.invokevirtual 146, 3)) (kk : ∀ (H1 : Heap) (locs1 : List Loc), cw_H E A D' H1 → va_S A s.heap H1 locs1 → W p l e R s m args below meth c H1 locs1 cells slots Q (F0 m (pc + 3) ls (.int r :: rest))) : W p l e R s m args below meth c H locs cells slots Q (F0 m pc ls (.ref E.1.1 :: rest)) :=
  c1k_1_next X hsz hK hR hS hF hLo hc hs (met1_next l _ _ _ hf) hrest hdg kk
end C_1_next_c
noncomputable def f1_isDigit (x0 : Int32) : Option (Int32) :=
  ww_b (f1_in x0 (48 : Int32) (57 : Int32)) (fun r_1 => ww_g (ww_z r_1) (some r_1))
set_option maxHeartbeats 4000000 in
set_option maxRecDepth 100000 in
theorem met1_isDigit (l : Launch) (x0 : Int32) (r : Int32) (hf : f1_isDigit x0 = some r) : t3_MetS l yX1_isDigit cX1_isDigit 1 (some Jvm.ClassFile.FieldType.boolean) 1 22 [.int x0] r := by
  unfold f1_isDigit at hf
  refine t3_startS (own := RX1) (by decide +kernel) (Nat.le_of_ble_eq_true rfl) ?_
  intro p e s m args below meth c Rm Q X hF hLo hend ls hl hS; have hR : s.heap = s.heap := rfl
  obtain ⟨hx, hb, hml, hown, hts⟩ := id X
  replace hl : lv_has ls 1 [(0, .int x0)] := hl
  refine lv_iload_n hx hb dX1_isDigit_0 rfl (lv_at hl 0 rfl) ?_
  refine lv_bipush (v := (48 : Int32)) hx hb dX1_isDigit_1 (by decide) ?_
  refine lv_bipush (v := (57 : Int32)) hx hb dX1_isDigit_3 (by decide) ?_
  obtain ⟨r_1, h_1, hq⟩ := ww_bS hf; replace hf := hq; clear hq
  refine c1c_1_in X hl.1 (Nat.le_trans (Nat.le_of_ble_eq_true rfl) hF) (Nat.le_trans (Nat.le_of_ble_eq_true rfl) hLo) (Nat.zero_le _) (Nat.zero_le _) h_1 (cw_rest (Nat.le_of_ble_eq_true rfl)) dX1_isDigit_5 ?_
  obtain ⟨h_2, hq⟩ := ww_gS hf; replace hf := hq; clear hq
  exact hend dX1_isDigit_8 rfl (ww_zn h_2) hf hR hS
section C_1_isDigit_c
variable {p : Program} {l : Launch} {e : Env} {R : Room} {s : State} {m : MethodId} {args : Array Value} {below : List Frame} {meth : Method} {c : Code} {H : Heap} {locs : List Loc} {cells slots : Nat} {Q : State → Prop}
variable {cc : ByteArray} {pc : Nat} {ls : Array Slot} {rest : List Value} {nL : Nat} {E : cw_E} {A : Nat → Prop} {H0 : Heap}
theorem c1c_1_isDigit {x0 : Int32} {r : Int32} (X : ww_C p m c cc nL s args RX1 lw_all) (hsz : ls.size = nL) (hF : 2 ≤ R.frames) (hLo : 42 ≤ R.locals) (hc : cells ≤ R.cells) (hs : slots ≤ R.slots) (hf : f1_isDigit x0 = some r) (hrest : (rest.map fun v => v.category).sum ≤ 8) (hdg : decode cc pc = .ok (.invokestatic 138, 3)) (kk : W p l e R s m args below meth c H locs cells slots Q (F0 m (pc + 3) ls (.int r :: rest))) : W p l e R s m args below meth c H locs cells slots Q (F0 m pc ls (.int x0 :: rest)) :=
  t3_callS (n := 1) X hsz (As := [.int x0]) (met1_isDigit l x0 r hf) (lw_S q401 q402 q131 q403) (by decide +kernel) rfl hF hLo hc hs hrest hdg kk
end C_1_isDigit_c
noncomputable def f1_isRoom (D : cw_D) : Option (Int32) :=
  if (16 : Int32) ≤ (ww_F D.1 14) then some (0 : Int32) else if (999 : Int32) ≤ (ww_F D.1 15) then some (0 : Int32) else some (1 : Int32)
section C_1_isRoom_k
variable {p : Program} {l : Launch} {e : Env} {R : Room} {s : State} {m : MethodId} {args : Array Value} {below : List Frame} {meth : Method} {c : Code} {H : Heap} {locs : List Loc} {cells slots : Nat} {Q : State → Prop}
variable {cc : ByteArray} {pc : Nat} {ls : Array Slot} {rest : List Value} {nL : Nat} {E : cw_E} {A : Nat → Prop} {H0 : Heap}
theorem c1k_1_isRoom {D : cw_D} {r : Int32} (X : ww_C p m c cc nL s args RX1 lw_all) (hsz : ls.size = nL) (hK : cw_K E A s) (hR : cw_H E A D H) (hS : va_S A s.heap H locs) (hF : 1 ≤ R.frames) (hLo : 20 ≤ R.locals) (hc : cells ≤ R.cells) (hs : slots ≤ R.slots) (hM : cw_MetI l yX1_isRoom cX1_isRoom 1 (some Jvm.ClassFile.FieldType.boolean) 0 0 E A [.ref E.1.1] D D r 0 0) (hrest : (rest.map fun v => v.category).sum ≤ 8) (hdg : decode cc pc = .ok (.invokevirtual 208, 3)) (kk : ∀ (H1 : Heap) (locs1 : List Loc), cw_H E A D H1 → va_S A s.heap H1 locs1 → W p l e R s m args below meth c H1 locs1 cells slots Q (F0 m (pc + 3) ls (.int r :: rest))) : W p l e R s m args below meth c H locs cells slots Q (F0 m pc ls (.ref E.1.1 :: rest)) :=
  va_calli (va_runV (C := RX1) (As := []) (rest := rest) (b := E.1.1) X hM (cwV 0 X.2.2.2.2 (lw_V q809 q811 qs15 q131 q812) rfl rfl rfl (by decide +kernel) ⟨hF, hLo⟩) (cw_pV hK hR hS (cw_rcM hK hR)) rfl rfl hsz rfl (lv_room hrest) hdg ⟨hc, hs⟩) hS (fun q _ h => h) (fun q h => h) (fun r' u t H1 locs1 ht hvm hw hB hz1 hk1 hS1 => by subst hw; rw [ht] at hB; exact kk H1 locs1 hB hS1)
end C_1_isRoom_k
set_option maxHeartbeats 4000000 in
set_option maxRecDepth 100000 in
theorem met1_isRoom (l : Launch) {E : cw_E} {A : Nat → Prop} (D : cw_D) (r : Int32) (hf : f1_isRoom D = some r) : cw_MetI l yX1_isRoom cX1_isRoom 1 (some Jvm.ClassFile.FieldType.boolean) 0 0 E A [.ref E.1.1] D D r 0 0 := by
  unfold f1_isRoom at hf
  refine cw_sIP (own := RX1) (by decide +kernel) [(0, .ref E.1.1)] ⟨Nat.le_of_ble_eq_true rfl, rfl⟩ ?_
  intro p e s m args below meth c Rm Q X hK hF hLo hin hend ls hl hR hS
  obtain ⟨hx, hb, hml, hown, hts⟩ := id X
  refine lv_aload_n hx hb dX1_isRoom_0 rfl (lv_at hl 0 rfl) ?_
  refine c1g_240 X hK hR dX1_isRoom_1 ?_
  refine lv_bipush (v := (16 : Int32)) hx hb dX1_isRoom_4 (by decide) ?_
  refine lv_icmp_ge (tgt := 23) hx hb dX1_isRoom_6 (by decide) (fun c_1 => ?_) (fun c_1 => ?_)
  · replace hf := ww_ip hf c_1
    refine lv_iconst (v := (0 : Int32)) hx hb dX1_isRoom_23 (by decide) ?_
    exact hend dX1_isRoom_24 rfl (by decide) hf hR hS
  · replace hf := ww_in hf c_1
    refine lv_aload_n hx hb dX1_isRoom_9 rfl (lv_at hl 0 rfl) ?_
    refine c1g_243 X hK hR dX1_isRoom_10 ?_
    refine lv_sipush (v := (999 : Int32)) hx hb dX1_isRoom_13 (by decide) ?_
    refine lv_icmp_ge (tgt := 23) hx hb dX1_isRoom_16 (by decide) (fun c_2 => ?_) (fun c_2 => ?_)
    · replace hf := ww_ip hf c_2
      refine lv_iconst (v := (0 : Int32)) hx hb dX1_isRoom_23 (by decide) ?_
      exact hend dX1_isRoom_24 rfl (by decide) hf hR hS
    · replace hf := ww_in hf c_2
      refine lv_iconst (v := (1 : Int32)) hx hb dX1_isRoom_19 (by decide) ?_
      refine lv_goto (tgt := 24) hx hb dX1_isRoom_20 (by decide) ?_
      exact hend dX1_isRoom_24 rfl (by decide) hf hR hS
section C_1_isRoom_c
variable {p : Program} {l : Launch} {e : Env} {R : Room} {s : State} {m : MethodId} {args : Array Value} {below : List Frame} {meth : Method} {c : Code} {H : Heap} {locs : List Loc} {cells slots : Nat} {Q : State → Prop}
variable {cc : ByteArray} {pc : Nat} {ls : Array Slot} {rest : List Value} {nL : Nat} {E : cw_E} {A : Nat → Prop} {H0 : Heap}
theorem c1c_1_isRoom {D : cw_D} {r : Int32} (X : ww_C p m c cc nL s args RX1 lw_all) (hsz : ls.size = nL) (hK : cw_K E A s) (hR : cw_H E A D H) (hS : va_S A s.heap H locs) (hF : 1 ≤ R.frames) (hLo : 20 ≤ R.locals) (hc : cells ≤ R.cells) (hs : slots ≤ R.slots) (hf : f1_isRoom D = some r) (hrest : (rest.map fun v => v.category).sum ≤ 8) (hdg : decode cc pc = .ok (.invokevirtual 208, 3)) (kk : ∀ (H1 : Heap) (locs1 : List Loc), cw_H E A D H1 → va_S A s.heap H1 locs1 → W p l e R s m args below meth c H1 locs1 cells slots Q (F0 m (pc + 3) ls (.int r :: rest))) : W p l e R s m args below meth c H locs cells slots Q (F0 m pc ls (.ref E.1.1 :: rest)) :=
  c1k_1_isRoom X hsz hK hR hS hF hLo hc hs (met1_isRoom l _ _ hf) hrest hdg kk
end C_1_isRoom_c
noncomputable def f1_isRefused (D : cw_D) (x1 : Int32) : Option (Int32 × cw_D) :=
  if x1 = (-1 : Int32) then if x1 = (-1 : Int32) then some ((0 : Int32), D) else some ((1 : Int32), D) else ww_g (ww_i x1 5) (ww_g (ww_i x1 5) (if x1 = (-1 : Int32) then some ((0 : Int32), (cw_sX D 23 x1 ((ww_X D.1 23 x1) + (1 : Int32)))) else some ((1 : Int32), (cw_sX D 23 x1 ((ww_X D.1 23 x1) + (1 : Int32))))))
section C_1_isRefused_k
variable {p : Program} {l : Launch} {e : Env} {R : Room} {s : State} {m : MethodId} {args : Array Value} {below : List Frame} {meth : Method} {c : Code} {H : Heap} {locs : List Loc} {cells slots : Nat} {Q : State → Prop}
variable {cc : ByteArray} {pc : Nat} {ls : Array Slot} {rest : List Value} {nL : Nat} {E : cw_E} {A : Nat → Prop} {H0 : Heap}
theorem c1k_1_isRefused {D : cw_D} {x1 : Int32} {r : Int32} {D' : cw_D} (X : ww_C p m c cc nL s args RX1 lw_all) (hsz : ls.size = nL) (hK : cw_K E A s) (hR : cw_H E A D H) (hS : va_S A s.heap H locs) (hF : 1 ≤ R.frames) (hLo : 21 ≤ R.locals) (hc : cells ≤ R.cells) (hs : slots ≤ R.slots) (hM : cw_MetI l yX1_isRefused cX1_isRefused 2 (some Jvm.ClassFile.FieldType.boolean) 0 0 E A [.ref E.1.1, .int x1] D D' r 0 0) (hrest : (rest.map fun v => v.category).sum ≤ 8) (hdg : decode cc pc = .ok (.invokevirtual 212, 3)) (kk : ∀ (H1 : Heap) (locs1 : List Loc), cw_H E A D' H1 → va_S A s.heap H1 locs1 → W p l e R s m args below meth c H1 locs1 cells slots Q (F0 m (pc + 3) ls (.int r :: rest))) : W p l e R s m args below meth c H locs cells slots Q (F0 m pc ls (.int x1 :: .ref E.1.1 :: rest)) :=
  va_calli (va_runV (C := RX1) (As := [.int x1]) (rest := rest) (b := E.1.1) X hM (cwV 1 X.2.2.2.2 (lw_V q813 q815 qs16 q131 q816) rfl rfl rfl (by decide +kernel) ⟨hF, hLo⟩) (cw_pV hK hR hS (cw_rcM hK hR)) rfl rfl hsz rfl (lv_room hrest) hdg ⟨hc, hs⟩) hS (fun q _ h => h) (fun q h => h) (fun r' u t H1 locs1 ht hvm hw hB hz1 hk1 hS1 => by subst hw; rw [ht] at hB; exact kk H1 locs1 hB hS1)
end C_1_isRefused_k
set_option maxHeartbeats 4000000 in
set_option maxRecDepth 100000 in
theorem met1_isRefused (l : Launch) {E : cw_E} {A : Nat → Prop} (D : cw_D) (x1 : Int32) (r : Int32) (D' : cw_D) (hf : f1_isRefused D x1 = some (r, D')) : cw_MetI l yX1_isRefused cX1_isRefused 2 (some Jvm.ClassFile.FieldType.boolean) 0 0 E A [.ref E.1.1, .int x1] D D' r 0 0 := by
  unfold f1_isRefused at hf
  refine cw_sID (own := RX1) (by decide +kernel) [(0, .ref E.1.1), (1, .int x1)] ⟨Nat.le_of_ble_eq_true rfl, rfl⟩ ?_
  intro p e s m args below meth c Rm Q X hK hF hLo hin hend ls hl hR hS
  obtain ⟨hx, hb, hml, hown, hts⟩ := id X
  refine lv_iload_n hx hb dX1_isRefused_0 rfl (lv_at hl 1 rfl) ?_
  refine lv_iconst (v := (-1 : Int32)) hx hb dX1_isRefused_1 (by decide) ?_
  refine lv_icmp_eq (tgt := 15) hx hb dX1_isRefused_2 (by decide) (fun c_1 => ?_) (fun c_1 => ?_)
  · replace hf := ww_ip hf c_1
    refine lv_iload_n hx hb dX1_isRefused_15 rfl (lv_at hl 1 rfl) ?_
    refine lv_iconst (v := (-1 : Int32)) hx hb dX1_isRefused_16 (by decide) ?_
    refine lv_icmp_eq (tgt := 24) hx hb dX1_isRefused_17 (by decide) (fun c_2 => ?_) (fun c_2 => ?_)
    · replace hf := ww_ip hf c_2
      refine lv_iconst (v := (0 : Int32)) hx hb dX1_isRefused_24 (by decide) ?_
      exact hend dX1_isRefused_25 rfl (by decide) hf hR hS
    · replace hf := ww_in hf c_2
      refine lv_iconst (v := (1 : Int32)) hx hb dX1_isRefused_20 (by decide) ?_
      refine lv_goto (tgt := 25) hx hb dX1_isRefused_21 (by decide) ?_
      exact hend dX1_isRefused_25 rfl (by decide) hf hR hS
  · replace hf := ww_in hf c_1
    refine lv_aload_n hx hb dX1_isRefused_5 rfl (lv_at hl 0 rfl) ?_
    refine c1g_82 X hK hR dX1_isRefused_6 ?_
    refine lv_iload_n hx hb dX1_isRefused_9 rfl (lv_at hl 1 rfl) ?_
    refine lv_dup2_11 hx hb dX1_isRefused_10 rfl rfl ?_
    obtain ⟨h_3, hq⟩ := ww_gS hf; replace hf := hq; clear hq
    refine c1l_23 X hK hR h_3 dX1_isRefused_11 ?_
    refine lv_iconst (v := (1 : Int32)) hx hb dX1_isRefused_12 (by decide) ?_
    refine lv_iadd hx hb dX1_isRefused_13 ?_
    obtain ⟨h_4, hq⟩ := ww_gS hf; replace hf := hq; clear hq
    refine c1s_23 X hK hR hS h_4 dX1_isRefused_14 (fun H locs hR hS => ?_)
    refine lv_iload_n hx hb dX1_isRefused_15 rfl (lv_at hl 1 rfl) ?_
    refine lv_iconst (v := (-1 : Int32)) hx hb dX1_isRefused_16 (by decide) ?_
    refine lv_icmp_eq (tgt := 24) hx hb dX1_isRefused_17 (by decide) (fun c_5 => ?_) (fun c_5 => ?_)
    · replace hf := ww_ip hf c_5
      refine lv_iconst (v := (0 : Int32)) hx hb dX1_isRefused_24 (by decide) ?_
      exact hend dX1_isRefused_25 rfl (by decide) hf hR hS
    · replace hf := ww_in hf c_5
      refine lv_iconst (v := (1 : Int32)) hx hb dX1_isRefused_20 (by decide) ?_
      refine lv_goto (tgt := 25) hx hb dX1_isRefused_21 (by decide) ?_
      exact hend dX1_isRefused_25 rfl (by decide) hf hR hS
section C_1_isRefused_c
variable {p : Program} {l : Launch} {e : Env} {R : Room} {s : State} {m : MethodId} {args : Array Value} {below : List Frame} {meth : Method} {c : Code} {H : Heap} {locs : List Loc} {cells slots : Nat} {Q : State → Prop}
variable {cc : ByteArray} {pc : Nat} {ls : Array Slot} {rest : List Value} {nL : Nat} {E : cw_E} {A : Nat → Prop} {H0 : Heap}
theorem c1c_1_isRefused {D : cw_D} {x1 : Int32} {r : Int32} {D' : cw_D} (X : ww_C p m c cc nL s args RX1 lw_all) (hsz : ls.size = nL) (hK : cw_K E A s) (hR : cw_H E A D H) (hS : va_S A s.heap H locs) (hF : 1 ≤ R.frames) (hLo : 21 ≤ R.locals) (hc : cells ≤ R.cells) (hs : slots ≤ R.slots) (hf : f1_isRefused D x1 = some (r, D')) (hrest : (rest.map fun v => v.category).sum ≤ 8) (hdg : decode cc pc = .ok (.invokevirtual 212, 3)) (kk : ∀ (H1 : Heap) (locs1 : List Loc), cw_H E A D' H1 → va_S A s.heap H1 locs1 → W p l e R s m args below meth c H1 locs1 cells slots Q (F0 m (pc + 3) ls (.int r :: rest))) : W p l e R s m args below meth c H locs cells slots Q (F0 m pc ls (.int x1 :: .ref E.1.1 :: rest)) :=
  c1k_1_isRefused X hsz hK hR hS hF hLo hc hs (met1_isRefused l _ _ _ _ hf) hrest hdg kk
end C_1_isRefused_c
noncomputable def f1_work (D : cw_D) (x1 : Option Nat) (x2 : Option Nat) : Option (cw_D × Nat × Nat) :=
  ww_o x1 (ww_b4 (f5_bare (cw_sR D 28 x2) x2 (ww_F (cw_sR D 28 x2).1 17)) (fun r_2 D_2 c_2 k_2 => some ((cw_sR D_2 27 r_2), (0 + c_2), (0 + k_2)))) (fun a_1 => some ((cw_sR (cw_sR D 28 x2) 27 (some a_1)), 0, 0))
section C_1_work_k
variable {p : Program} {l : Launch} {e : Env} {R : Room} {s : State} {m : MethodId} {args : Array Value} {below : List Frame} {meth : Method} {c : Code} {H : Heap} {locs : List Loc} {cells slots : Nat} {Q : State → Prop}
variable {cc : ByteArray} {pc : Nat} {ls : Array Slot} {rest : List Value} {nL : Nat} {E : cw_E} {A : Nat → Prop} {H0 : Heap}
theorem c1k_1_work {D : cw_D} {x1 : Option Nat} {x2 : Option Nat} {D' : cw_D} {nc ns : Nat} (X : ww_C p m c cc nL s args RX1 lw_all) (hsz : ls.size = nL) (hK : cw_K E A s) (hR : cw_H E A D H) (hS : va_S A s.heap H locs) (hF : 5 ≤ R.frames) (hLo : 126 ≤ R.locals) (hc : cells + nc ≤ R.cells) (hs : slots + ns ≤ R.slots) (hM : cw_MetV l yX1_work cX1_work 3 4 104 E A [.ref E.1.1, va_rf x1, va_rf x2] D D' nc ns) (hrest : (rest.map fun v => v.category).sum ≤ 8) (hdg : decode cc pc = .ok (.invokevirtual 218, 3)) (kk : ∀ (H1 : Heap) (locs1 : List Loc), cw_H E A D' H1 → va_S A s.heap H1 locs1 → W p l e R s m args below meth c H1 locs1 (cells + nc) (slots + ns) Q (F0 m (pc + 3) ls (rest))) : W p l e R s m args below meth c H locs cells slots Q (F0 m pc ls (va_rf x2 :: va_rf x1 :: .ref E.1.1 :: rest)) :=
  va_callv (va_runV (C := RX1) (As := [va_rf x1, va_rf x2]) (rest := rest) (b := E.1.1) X hM (cwV 2 X.2.2.2.2 (lw_V q826 q828 qs17 q131 q829) rfl rfl rfl (by decide +kernel) ⟨hF, hLo⟩) (cw_pV hK hR hS (cw_rcM hK hR)) rfl rfl hsz rfl (lv_room hrest) hdg ⟨hc, hs⟩) hS (fun q _ h => h) (fun q h => h) (fun u t H1 locs1 ht hvm hw hB hz1 hk1 hS1 => by rw [ht] at hB; exact kk H1 locs1 hB hS1)
end C_1_work_k
set_option maxHeartbeats 4000000 in
set_option maxRecDepth 100000 in
theorem met1_work (l : Launch) {E : cw_E} {A : Nat → Prop} (D : cw_D) (x1 : Option Nat) (x2 : Option Nat) (D' : cw_D) (nc ns : Nat) (hf : f1_work D x1 x2 = some (D', nc, ns)) : cw_MetV l yX1_work cX1_work 3 4 104 E A [.ref E.1.1, va_rf x1, va_rf x2] D D' nc ns := by
  unfold f1_work at hf
  refine cw_sVN (own := RX1) (by decide +kernel) [(0, .ref E.1.1), (1, va_rf x1), (2, va_rf x2)] ⟨by cases x1 <;> cases x2 <;> exact Nat.le_of_ble_eq_true rfl, by cases x1 <;> cases x2 <;> rfl⟩ ?_
  intro p e s m args below meth c Rm Q X hK hF hLo hC hin hend ls hl hR hS
  obtain ⟨hx, hb, hml, hown, hts⟩ := id X
  have hm9 : 0 ≤ nc ∧ 0 ≤ ns := ⟨Nat.zero_le _, Nat.zero_le _⟩
  refine lv_aload_n hx hb dX1_work_0 rfl (lv_at hl 0 rfl) ?_
  refine cw_aload_n (x := x2) hx hb dX1_work_1 rfl (lv_at hl 2 rfl) ?_
  refine c1p_255 (v := x2) X hK hR hS dX1_work_2 (fun H locs hR hS => ?_)
  refine lv_aload_n hx hb dX1_work_5 rfl (lv_at hl 0 rfl) ?_
  refine cw_aload_n (x := x1) hx hb dX1_work_6 rfl (lv_at hl 1 rfl) ?_
  rcases x1 with _ | a_1
  · replace hf := ww_oN hf
    refine lv_ifnonnullN hx hb dX1_work_7 ?_
    refine cw_aload_n (x := x2) hx hb dX1_work_10 rfl (lv_at hl 2 rfl) ?_
    refine lv_aload_n hx hb dX1_work_11 rfl (lv_at hl 0 rfl) ?_
    refine c1g_234 X hK hR dX1_work_12 ?_
    obtain ⟨r_2, D_2, c_2, k_2, h_2, hq⟩ := ww_b4S hf; replace hf := hq; clear hq
    have hm9 : (0 + c_2) ≤ nc ∧ (0 + k_2) ≤ ns := by
      have e9 := hf
      simp only [Option.some.injEq, Prod.mk.injEq] at e9
      omega
    refine c1c_5_bare (x0 := x2) X hl.1 hK hR hS (Nat.le_trans (Nat.le_of_ble_eq_true rfl) hF) (Nat.le_trans (Nat.le_of_ble_eq_true rfl) hLo) (Nat.le_trans hm9.1 hC.1) (Nat.le_trans hm9.2 hC.2) h_2 (cw_rest (Nat.le_of_ble_eq_true rfl)) dX1_work_15 (fun H locs hR hS => ?_)
    refine lv_goto (tgt := 22) hx hb dX1_work_18 (by decide) ?_
    refine c1p_226 (v := r_2) X hK hR hS dX1_work_22 (fun H locs hR hS => ?_)
    exact hend dX1_work_25 hf hR hS
  · replace hf := ww_oS hf
    refine lv_ifnonnull (tgt := 21) hx hb dX1_work_7 (by decide) ?_
    refine lv_aload_n hx hb dX1_work_21 rfl (lv_at hl 1 rfl) ?_
    refine c1p_226 (v := (some a_1)) X hK hR hS dX1_work_22 (fun H locs hR hS => ?_)
    exact hend dX1_work_25 hf hR hS
section C_1_work_c
variable {p : Program} {l : Launch} {e : Env} {R : Room} {s : State} {m : MethodId} {args : Array Value} {below : List Frame} {meth : Method} {c : Code} {H : Heap} {locs : List Loc} {cells slots : Nat} {Q : State → Prop}
variable {cc : ByteArray} {pc : Nat} {ls : Array Slot} {rest : List Value} {nL : Nat} {E : cw_E} {A : Nat → Prop} {H0 : Heap}
theorem c1c_1_work {D : cw_D} {x1 : Option Nat} {x2 : Option Nat} {D' : cw_D} {nc ns : Nat} (X : ww_C p m c cc nL s args RX1 lw_all) (hsz : ls.size = nL) (hK : cw_K E A s) (hR : cw_H E A D H) (hS : va_S A s.heap H locs) (hF : 5 ≤ R.frames) (hLo : 126 ≤ R.locals) (hc : cells + nc ≤ R.cells) (hs : slots + ns ≤ R.slots) (hf : f1_work D x1 x2 = some (D', nc, ns)) (hrest : (rest.map fun v => v.category).sum ≤ 8) (hdg : decode cc pc = .ok (.invokevirtual 218, 3)) (kk : ∀ (H1 : Heap) (locs1 : List Loc), cw_H E A D' H1 → va_S A s.heap H1 locs1 → W p l e R s m args below meth c H1 locs1 (cells + nc) (slots + ns) Q (F0 m (pc + 3) ls (rest))) : W p l e R s m args below meth c H locs cells slots Q (F0 m pc ls (va_rf x2 :: va_rf x1 :: .ref E.1.1 :: rest)) :=
  c1k_1_work X hsz hK hR hS hF hLo hc hs (met1_work l _ _ _ _ _ _ hf) hrest hdg kk
end C_1_work_c
noncomputable def f1_leafOf_b1c (D : cw_D) (y1 : Int32) (x2 : Option Nat) : Option ((Option Nat) ⊕ (Option Nat)) :=
  ww_b x2 (fun a_1 => ww_b (f5r_isLeaf f8_isLeaf D a_1) (fun r_2 => if r_2 = 0 then ww_g (cw_kd D [1, 2] (some a_1)) (ww_b (f5_kidFor D a_1 y1) (fun r_5 => ww_b (f5r_kid f8_kid D a_1 r_5) (fun r_6 => some (.inl r_6)))) else ww_x (some (some a_1))))
noncomputable def f1_leafOf_b1 (D : cw_D) (y1 : Int32) : Option Nat → Option ((Option Nat) ⊕ (Option Nat)) := fun s9 => f1_leafOf_b1c D y1 s9
noncomputable def f1_leafOf (D : cw_D) (x0 : Option Nat) (x1 : Int32) : Option (Option Nat) :=
  ww_U (f1_leafOf_b1 D x1) x0
section C_1_leafOf_k
variable {p : Program} {l : Launch} {e : Env} {R : Room} {s : State} {m : MethodId} {args : Array Value} {below : List Frame} {meth : Method} {c : Code} {H : Heap} {locs : List Loc} {cells slots : Nat} {Q : State → Prop}
variable {cc : ByteArray} {pc : Nat} {ls : Array Slot} {rest : List Value} {nL : Nat} {E : cw_E} {A : Nat → Prop} {H0 : Heap}
theorem c1k_1_leafOf {D : cw_D} {x0 : Option Nat} {x1 : Int32} {r : Option Nat} (X : ww_C p m c cc nL s args RX1 lw_all) (hsz : ls.size = nL) (hK : cw_K E A s) (hR : cw_H E A D H) (hS : va_S A s.heap H locs) (hF : 12 ≤ R.frames) (hLo : 244 ≤ R.locals) (hc : cells ≤ R.cells) (hs : slots ≤ R.slots) (hM : cw_MetQ l yX1_leafOf cX1_leafOf 3 (some (Jvm.ClassFile.FieldType.object "WideMap$Node")) 11 222 E A [va_rf x0, .int x1] D D r 0 0) (hrest : (rest.map fun v => v.category).sum ≤ 8) (hdg : decode cc pc = .ok (.invokestatic 277, 3)) (kk : ∀ (H1 : Heap) (locs1 : List Loc), cw_H E A D H1 → va_S A s.heap H1 locs1 → W p l e R s m args below meth c H1 locs1 cells slots Q (F0 m (pc + 3) ls (va_rf r :: rest))) : W p l e R s m args below meth c H locs cells slots Q (F0 m pc ls (.int x1 :: va_rf x0 :: rest)) :=
  va_callq (va_runS (As := [va_rf x0, .int x1]) (rest := rest) X hM (va_cwS 2 X.2.2.2.2 (lw_S q874 q875 q131 q876) rfl rfl rfl (by decide +kernel) ⟨hF, hLo⟩) (cw_pS hK hR hS) rfl rfl hsz rfl (lv_room hrest) hdg ⟨hc, hs⟩) hS (fun q _ h => h) (fun q h => h) (fun r' u t H1 locs1 ht hvm hw hB hz1 hk1 hS1 => by subst hw; rw [ht] at hB; exact kk H1 locs1 hB hS1)
end C_1_leafOf_k
set_option maxHeartbeats 4000000 in
set_option maxRecDepth 100000 in
theorem met1_leafOf (l : Launch) {E : cw_E} {A : Nat → Prop} (D : cw_D) (x0 : Option Nat) (x1 : Int32) (r : Option Nat) (hf : f1_leafOf D x0 x1 = some r) : cw_MetQ l yX1_leafOf cX1_leafOf 3 (some (Jvm.ClassFile.FieldType.object "WideMap$Node")) 11 222 E A [va_rf x0, .int x1] D D r 0 0 := by
  unfold f1_leafOf at hf
  refine cw_sQP (own := RX1) (by decide +kernel) [(0, va_rf x0), (1, .int x1)] ⟨by cases x0 <;> exact Nat.le_of_ble_eq_true rfl, by cases x0 <;> rfl⟩ ?_
  intro p e s m args below meth c Rm Q X hK hF hLo hin hend ls hl hR hS
  obtain ⟨hx, hb, hml, hown, hts⟩ := id X
  refine cw_aload_n (x := x0) hx hb dX1_leafOf_0 rfl (lv_at hl 0 rfl) ?_
  refine cw_astore_n (x := x0) (lv' := [(2, va_rf x0), (0, va_rf x0), (1, .int x1)]) hx hb dX1_leafOf_1 rfl hl (by decide) rfl (fun ls hl => ?_)
  have hL_1 : ∀ s9 : Option Nat, ww_U (f1_leafOf_b1 D x1) s9 = some r → ∀ (H : Heap) (locs : List Loc) (ls : Array Slot), cw_H E A D H → va_S A s.heap H locs → lv_has ls 3 [(1, .int x1), (2, va_rf s9)] → W p l e Rm s m args below meth c H locs 0 0 Q (F0 m 2 ls []) := by
    clear hf
    refine ww_ind _ r ?_
    intro s9 z_1 hf hz_1
    obtain ⟨x2, e9⟩ : ∃ q9, q9 = s9 := ⟨_, rfl⟩; subst e9
    replace hf : f1_leafOf_b1c D x1 x2 = some z_1 := hf
    unfold f1_leafOf_b1c at hf
    try clear hl
    try clear hS
    try clear hR
    intro H locs ls hR hS hl
    replace hl : lv_has ls 3 [(1, .int x1), (2, va_rf x2)] := hl
    refine cw_aload_n (x := x2) hx hb dX1_leafOf_2 rfl (lv_at hl 1 rfl) ?_
    obtain ⟨a_1, e_1, hq⟩ := ww_bS hf; replace hf := hq; clear hq
    subst e_1
    obtain ⟨r_2, h_2, hq⟩ := ww_bS hf; replace hf := hq; clear hq
    refine c1i_isLeaf X hl.1 hK hR hS (Nat.le_trans (Nat.le_of_ble_eq_true rfl) hF) (Nat.le_trans (Nat.le_of_ble_eq_true rfl) hLo) (Nat.zero_le _) (Nat.zero_le _) h_2 (cw_rest (Nat.le_of_ble_eq_true rfl)) dX1_leafOf_3 (fun H locs hR hS => ?_)
    refine lv_if_ne (tgt := 28) hx hb dX1_leafOf_8 (by decide) (fun c_3 => ?_) (fun c_3 => ?_)
    · replace hf := ww_in hf c_3
      replace hf := ww_xK hf hz_1
      refine lv_aload_n hx hb dX1_leafOf_28 rfl (lv_at hl 1 rfl) ?_
      exact hend (v := (some a_1)) dX1_leafOf_29 rfl (Or.inl ⟨_, rfl⟩) hf hR hS
    · replace hf := ww_ip hf c_3
      refine lv_aload_n hx hb dX1_leafOf_11 rfl (lv_at hl 1 rfl) ?_
      refine lv_aload_n hx hb dX1_leafOf_12 rfl (lv_at hl 1 rfl) ?_
      refine lv_iload_n hx hb dX1_leafOf_13 rfl (lv_at hl 0 rfl) ?_
      obtain ⟨h_4, hq⟩ := ww_gS hf; replace hf := hq; clear hq
      obtain ⟨r_5, h_5, hq⟩ := ww_bS hf; replace hf := hq; clear hq
      refine c1i_kidFor X hl.1 hK hR hS (Nat.le_trans (Nat.le_of_ble_eq_true rfl) hF) (Nat.le_trans (Nat.le_of_ble_eq_true rfl) hLo) (Nat.zero_le _) (Nat.zero_le _) h_4 h_5 (cw_rest (Nat.le_of_ble_eq_true rfl)) dX1_leafOf_14 (fun H locs hR hS => ?_)
      obtain ⟨r_6, h_6, hq⟩ := ww_bS hf; replace hf := hq; clear hq
      refine c1i_kid X hl.1 hK hR hS (Nat.le_trans (Nat.le_of_ble_eq_true rfl) hF) (Nat.le_trans (Nat.le_of_ble_eq_true rfl) hLo) (Nat.zero_le _) (Nat.zero_le _) h_6 (cw_rest (Nat.le_of_ble_eq_true rfl)) dX1_leafOf_19 (fun H locs hR hS => ?_)
      refine cw_astore_n (x := r_6) (lv' := [(2, va_rf r_6), (1, .int x1)]) hx hb dX1_leafOf_24 rfl hl (by decide) rfl (fun ls hl => ?_)
      refine lv_goto (tgt := 2) hx hb dX1_leafOf_25 (by decide) ?_
      exact ww_lK hf hz_1 _ _ _ hR hS (lv_sub hl [1, 0] rfl)
  exact hL_1 x0 hf _ _ _ hR hS (lv_sub hl [2, 0] rfl)
section C_1_leafOf_c
variable {p : Program} {l : Launch} {e : Env} {R : Room} {s : State} {m : MethodId} {args : Array Value} {below : List Frame} {meth : Method} {c : Code} {H : Heap} {locs : List Loc} {cells slots : Nat} {Q : State → Prop}
variable {cc : ByteArray} {pc : Nat} {ls : Array Slot} {rest : List Value} {nL : Nat} {E : cw_E} {A : Nat → Prop} {H0 : Heap}
theorem c1c_1_leafOf {D : cw_D} {x0 : Option Nat} {x1 : Int32} {r : Option Nat} (X : ww_C p m c cc nL s args RX1 lw_all) (hsz : ls.size = nL) (hK : cw_K E A s) (hR : cw_H E A D H) (hS : va_S A s.heap H locs) (hF : 12 ≤ R.frames) (hLo : 244 ≤ R.locals) (hc : cells ≤ R.cells) (hs : slots ≤ R.slots) (hf : f1_leafOf D x0 x1 = some r) (hrest : (rest.map fun v => v.category).sum ≤ 8) (hdg : decode cc pc = .ok (.invokestatic 277, 3)) (kk : ∀ (H1 : Heap) (locs1 : List Loc), cw_H E A D H1 → va_S A s.heap H1 locs1 → W p l e R s m args below meth c H1 locs1 cells slots Q (F0 m (pc + 3) ls (va_rf r :: rest))) : W p l e R s m args below meth c H locs cells slots Q (F0 m pc ls (.int x1 :: va_rf x0 :: rest)) :=
  c1k_1_leafOf X hsz hK hR hS hF hLo hc hs (met1_leafOf l _ _ _ _ hf) hrest hdg kk
end C_1_leafOf_c
noncomputable def f1_valueIn_b1c (D : cw_D) (y1 : Int32) (y2 : Option Nat) (x3 : Int32) : Option ((Int32) ⊕ (Int32)) :=
  ww_b y2 (fun a_2 => ww_g (cw_kd D [1, 2] (some a_2)) (ww_b (f6_many D a_2) (fun r_4 => if r_4 ≤ x3 then ww_x (some (-1000000 : Int32)) else ww_b (f5r_keyAt f8_keyAt D a_2 x3) (fun r_6 => if r_6 = y1 then ww_x (ww_b (f5r_valueAt f8_valueAt D a_2 x3) (fun r_8 => some r_8)) else some (.inl (x3 + (1 : Int32)))))))
noncomputable def f1_valueIn_b1 (D : cw_D) (y1 : Int32) (y2 : Option Nat) : Int32 → Option ((Int32) ⊕ (Int32)) := fun s9 => f1_valueIn_b1c D y1 y2 s9
noncomputable def f1_valueIn (D : cw_D) (x0 : Option Nat) (x1 : Int32) : Option (Int32) :=
  ww_b (f1_leafOf D x0 x1) (fun r_1 => ww_U (f1_valueIn_b1 D x1 r_1) (0 : Int32))
section C_1_valueIn_k
variable {p : Program} {l : Launch} {e : Env} {R : Room} {s : State} {m : MethodId} {args : Array Value} {below : List Frame} {meth : Method} {c : Code} {H : Heap} {locs : List Loc} {cells slots : Nat} {Q : State → Prop}
variable {cc : ByteArray} {pc : Nat} {ls : Array Slot} {rest : List Value} {nL : Nat} {E : cw_E} {A : Nat → Prop} {H0 : Heap}
theorem c1k_1_valueIn {D : cw_D} {x0 : Option Nat} {x1 : Int32} {r : Int32} (X : ww_C p m c cc nL s args RX1 lw_all) (hsz : ls.size = nL) (hK : cw_K E A s) (hR : cw_H E A D H) (hS : va_S A s.heap H locs) (hF : 13 ≤ R.frames) (hLo : 267 ≤ R.locals) (hc : cells ≤ R.cells) (hs : slots ≤ R.slots) (hM : cw_MetI l yX1_valueIn cX1_valueIn 4 (some Jvm.ClassFile.FieldType.int) 12 244 E A [va_rf x0, .int x1] D D r 0 0) (hrest : (rest.map fun v => v.category).sum ≤ 8) (hdg : decode cc pc = .ok (.invokestatic 290, 3)) (kk : ∀ (H1 : Heap) (locs1 : List Loc), cw_H E A D H1 → va_S A s.heap H1 locs1 → W p l e R s m args below meth c H1 locs1 cells slots Q (F0 m (pc + 3) ls (.int r :: rest))) : W p l e R s m args below meth c H locs cells slots Q (F0 m pc ls (.int x1 :: va_rf x0 :: rest)) :=
  va_calli (va_runS (As := [va_rf x0, .int x1]) (rest := rest) X hM (va_cwS 2 X.2.2.2.2 (lw_S q871 q872 q131 q873) rfl rfl rfl (by decide +kernel) ⟨hF, hLo⟩) (cw_pS hK hR hS) rfl rfl hsz rfl (lv_room hrest) hdg ⟨hc, hs⟩) hS (fun q _ h => h) (fun q h => h) (fun r' u t H1 locs1 ht hvm hw hB hz1 hk1 hS1 => by subst hw; rw [ht] at hB; exact kk H1 locs1 hB hS1)
end C_1_valueIn_k
set_option maxHeartbeats 4000000 in
set_option maxRecDepth 100000 in
theorem met1_valueIn (l : Launch) {E : cw_E} {A : Nat → Prop} (D : cw_D) (x0 : Option Nat) (x1 : Int32) (r : Int32) (hf : f1_valueIn D x0 x1 = some r) : cw_MetI l yX1_valueIn cX1_valueIn 4 (some Jvm.ClassFile.FieldType.int) 12 244 E A [va_rf x0, .int x1] D D r 0 0 := by
  unfold f1_valueIn at hf
  refine cw_sIP (own := RX1) (by decide +kernel) [(0, va_rf x0), (1, .int x1)] ⟨by cases x0 <;> exact Nat.le_of_ble_eq_true rfl, by cases x0 <;> rfl⟩ ?_
  intro p e s m args below meth c Rm Q X hK hF hLo hin hend ls hl hR hS
  obtain ⟨hx, hb, hml, hown, hts⟩ := id X
  refine cw_aload_n (x := x0) hx hb dX1_valueIn_0 rfl (lv_at hl 0 rfl) ?_
  refine lv_iload_n hx hb dX1_valueIn_1 rfl (lv_at hl 1 rfl) ?_
  obtain ⟨r_1, h_1, hq⟩ := ww_bS hf; replace hf := hq; clear hq
  refine c1c_1_leafOf (x0 := x0) X hl.1 hK hR hS (Nat.le_trans (Nat.le_of_ble_eq_true rfl) hF) (Nat.le_trans (Nat.le_of_ble_eq_true rfl) hLo) (Nat.zero_le _) (Nat.zero_le _) h_1 (cw_rest (Nat.le_of_ble_eq_true rfl)) dX1_valueIn_2 (fun H locs hR hS => ?_)
  refine cw_astore_n (x := r_1) (lv' := [(2, va_rf r_1), (0, va_rf x0), (1, .int x1)]) hx hb dX1_valueIn_5 rfl hl (by decide) rfl (fun ls hl => ?_)
  refine lv_iconst (v := (0 : Int32)) hx hb dX1_valueIn_6 (by decide) ?_
  refine lv_istore_n (lv' := [(3, .int (0 : Int32)), (2, va_rf r_1), (0, va_rf x0), (1, .int x1)]) hx hb dX1_valueIn_7 rfl hl (by decide) (by cases r_1 <;> rfl) (fun ls hl => ?_)
  have hL_1 : ∀ s9 : Int32, ww_U (f1_valueIn_b1 D x1 r_1) s9 = some r → ∀ (H : Heap) (locs : List Loc) (ls : Array Slot), cw_H E A D H → va_S A s.heap H locs → lv_has ls 4 [(1, .int x1), (2, va_rf r_1), (3, .int s9)] → W p l e Rm s m args below meth c H locs 0 0 Q (F0 m 8 ls []) := by
    clear hf
    refine ww_ind _ r ?_
    intro s9 z_1 hf hz_1
    obtain ⟨x3, e9⟩ : ∃ q9, q9 = s9 := ⟨_, rfl⟩; subst e9
    replace hf : f1_valueIn_b1c D x1 r_1 x3 = some z_1 := hf
    unfold f1_valueIn_b1c at hf
    try clear hl
    try clear hS
    try clear hR
    intro H locs ls hR hS hl
    replace hl : lv_has ls 4 [(1, .int x1), (2, va_rf r_1), (3, .int x3)] := hl
    refine lv_iload_n hx hb dX1_valueIn_8 rfl (lv_at hl 2 rfl) ?_
    refine cw_aload_n (x := r_1) hx hb dX1_valueIn_9 rfl (lv_at hl 1 rfl) ?_
    obtain ⟨a_2, e_2, hq⟩ := ww_bS hf; replace hf := hq; clear hq
    subst e_2
    obtain ⟨h_3, hq⟩ := ww_gS hf; replace hf := hq; clear hq
    obtain ⟨r_4, h_4, hq⟩ := ww_bS hf; replace hf := hq; clear hq
    refine c1i_many X hl.1 hK hR hS (Nat.le_trans (Nat.le_of_ble_eq_true rfl) hF) (Nat.le_trans (Nat.le_of_ble_eq_true rfl) hLo) (Nat.zero_le _) (Nat.zero_le _) h_3 h_4 (cw_rest (Nat.le_of_ble_eq_true rfl)) dX1_valueIn_10 (fun H locs hR hS => ?_)
    refine lv_icmp_ge (tgt := 43) hx hb dX1_valueIn_15 (by decide) (fun c_5 => ?_) (fun c_5 => ?_)
    · replace hf := ww_ip hf c_5
      replace hf := ww_xK hf hz_1
      refine lv_ldc (v := (-1000000 : Int32)) hx hb hown (hts _ q420) dX1_valueIn_43 ?_
      exact hend dX1_valueIn_45 rfl rfl hf hR hS
    · replace hf := ww_in hf c_5
      refine lv_aload_n hx hb dX1_valueIn_18 rfl (lv_at hl 1 rfl) ?_
      refine lv_iload_n hx hb dX1_valueIn_19 rfl (lv_at hl 2 rfl) ?_
      obtain ⟨r_6, h_6, hq⟩ := ww_bS hf; replace hf := hq; clear hq
      refine c1i_keyAt X hl.1 hK hR hS (Nat.le_trans (Nat.le_of_ble_eq_true rfl) hF) (Nat.le_trans (Nat.le_of_ble_eq_true rfl) hLo) (Nat.zero_le _) (Nat.zero_le _) h_6 (cw_rest (Nat.le_of_ble_eq_true rfl)) dX1_valueIn_20 (fun H locs hR hS => ?_)
      refine lv_iload_n hx hb dX1_valueIn_25 rfl (lv_at hl 0 rfl) ?_
      refine lv_icmp_ne (tgt := 37) hx hb dX1_valueIn_26 (by decide) (fun c_7 => ?_) (fun c_7 => ?_)
      · replace hf := ww_in hf c_7
        refine lv_iinc (k := 2) (v := x3 + (1 : Int32)) (lv' := [(3, .int (x3 + (1 : Int32))), (1, .int x1), (2, .ref a_2)]) hx hb dX1_valueIn_37 hl rfl rfl (by decide) rfl (fun ls hl => ?_)
        refine lv_goto (tgt := 8) hx hb dX1_valueIn_40 (by decide) ?_
        exact ww_lK hf hz_1 _ _ _ hR hS (lv_sub hl [1, 2, 0] rfl)
      · replace hf := ww_ip hf c_7
        replace hf := ww_xK hf hz_1
        refine lv_aload_n hx hb dX1_valueIn_29 rfl (lv_at hl 1 rfl) ?_
        refine lv_iload_n hx hb dX1_valueIn_30 rfl (lv_at hl 2 rfl) ?_
        obtain ⟨r_8, h_8, hq⟩ := ww_bS hf; replace hf := hq; clear hq
        refine c1i_valueAt X hl.1 hK hR hS (Nat.le_trans (Nat.le_of_ble_eq_true rfl) hF) (Nat.le_trans (Nat.le_of_ble_eq_true rfl) hLo) (Nat.zero_le _) (Nat.zero_le _) h_8 (cw_rest (Nat.le_of_ble_eq_true rfl)) dX1_valueIn_31 (fun H locs hR hS => ?_)
        exact hend dX1_valueIn_36 rfl rfl hf hR hS
  exact hL_1 (0 : Int32) hf _ _ _ hR hS (lv_sub hl [3, 1, 0] rfl)
section C_1_valueIn_c
variable {p : Program} {l : Launch} {e : Env} {R : Room} {s : State} {m : MethodId} {args : Array Value} {below : List Frame} {meth : Method} {c : Code} {H : Heap} {locs : List Loc} {cells slots : Nat} {Q : State → Prop}
variable {cc : ByteArray} {pc : Nat} {ls : Array Slot} {rest : List Value} {nL : Nat} {E : cw_E} {A : Nat → Prop} {H0 : Heap}
theorem c1c_1_valueIn {D : cw_D} {x0 : Option Nat} {x1 : Int32} {r : Int32} (X : ww_C p m c cc nL s args RX1 lw_all) (hsz : ls.size = nL) (hK : cw_K E A s) (hR : cw_H E A D H) (hS : va_S A s.heap H locs) (hF : 13 ≤ R.frames) (hLo : 267 ≤ R.locals) (hc : cells ≤ R.cells) (hs : slots ≤ R.slots) (hf : f1_valueIn D x0 x1 = some r) (hrest : (rest.map fun v => v.category).sum ≤ 8) (hdg : decode cc pc = .ok (.invokestatic 290, 3)) (kk : ∀ (H1 : Heap) (locs1 : List Loc), cw_H E A D H1 → va_S A s.heap H1 locs1 → W p l e R s m args below meth c H1 locs1 cells slots Q (F0 m (pc + 3) ls (.int r :: rest))) : W p l e R s m args below meth c H locs cells slots Q (F0 m pc ls (.int x1 :: va_rf x0 :: rest)) :=
  c1k_1_valueIn X hsz hK hR hS hF hLo hc hs (met1_valueIn l _ _ _ _ hf) hrest hdg kk
end C_1_valueIn_c
noncomputable def f1_layNow (D : cw_D) (x1 : Int32) (x2 : Int32) : Option (cw_D × Nat × Nat) :=
  ww_b (some (ww_R D.1 27)) (fun r_1 => ww_b (f1_valueIn D r_1 x1) (fun r_2 => if r_2 = x2 then some (D, 0, 0) else ww_b (some (ww_R D.1 27)) (fun r_4 => ww_b (some (ww_R D.1 28)) (fun r_5 => ww_b r_4 (fun a_6 => ww_g (cw_kd D [1, 2] (some a_6)) (ww_b4 (f5_edited D a_6 r_5) (fun r_8 D_8 c_8 k_8 => ww_b (some (ww_R (cw_sR D_8 27 r_8).1 27)) (fun r_9 => ww_b (some (ww_R (cw_sR D_8 27 r_8).1 28)) (fun r_10 => ww_b r_9 (fun a_11 => ww_b4 (f5r_lays (f8_lays 8) (cw_sR D_8 27 r_8) a_11 r_10 x1 x2 (ww_F (cw_sR D_8 27 r_8).1 17)) (fun r_12 D_12 c_12 k_12 => ww_o r_12 (some (D_12, ((0 + c_8) + c_12), ((0 + k_8) + k_12))) (fun a_13 => ww_b (some (ww_R D_12.1 28)) (fun r_14 => ww_b (some (ww_R D_12.1 27)) (fun r_15 => ww_b4 (f5_over D_12 r_14 (ww_F D_12.1 17) r_15 (some a_13)) (fun r_16 D_16 c_16 k_16 => some ((cw_sR D_16 27 r_16), (((0 + c_8) + c_12) + c_16), (((0 + k_8) + k_12) + k_16)))))))))))))))))
section C_1_layNow_k
variable {p : Program} {l : Launch} {e : Env} {R : Room} {s : State} {m : MethodId} {args : Array Value} {below : List Frame} {meth : Method} {c : Code} {H : Heap} {locs : List Loc} {cells slots : Nat} {Q : State → Prop}
variable {cc : ByteArray} {pc : Nat} {ls : Array Slot} {rest : List Value} {nL : Nat} {E : cw_E} {A : Nat → Prop} {H0 : Heap}
theorem c1k_1_layNow {D : cw_D} {x1 : Int32} {x2 : Int32} {D' : cw_D} {nc ns : Nat} (X : ww_C p m c cc nL s args RX1 lw_all) (hsz : ls.size = nL) (hK : cw_K E A s) (hR : cw_H E A D H) (hS : va_S A s.heap H locs) (hF : 21 ≤ R.frames) (hLo : 497 ≤ R.locals) (hc : cells + nc ≤ R.cells) (hs : slots + ns ≤ R.slots) (hM : cw_MetV l yX1_layNow cX1_layNow 4 20 474 E A [.ref E.1.1, .int x1, .int x2] D D' nc ns) (hrest : (rest.map fun v => v.category).sum ≤ 8) (hdg : decode cc pc = .ok (.invokevirtual 222, 3)) (kk : ∀ (H1 : Heap) (locs1 : List Loc), cw_H E A D' H1 → va_S A s.heap H1 locs1 → W p l e R s m args below meth c H1 locs1 (cells + nc) (slots + ns) Q (F0 m (pc + 3) ls (rest))) : W p l e R s m args below meth c H locs cells slots Q (F0 m pc ls (.int x2 :: .int x1 :: .ref E.1.1 :: rest)) :=
  va_callv (va_runV (C := RX1) (As := [.int x1, .int x2]) (rest := rest) (b := E.1.1) X hM (cwV 2 X.2.2.2.2 (lw_V q867 q869 qs18 q131 q870) rfl rfl rfl (by decide +kernel) ⟨hF, hLo⟩) (cw_pV hK hR hS (cw_rcM hK hR)) rfl rfl hsz rfl (lv_room hrest) hdg ⟨hc, hs⟩) hS (fun q _ h => h) (fun q h => h) (fun u t H1 locs1 ht hvm hw hB hz1 hk1 hS1 => by rw [ht] at hB; exact kk H1 locs1 hB hS1)
end C_1_layNow_k
set_option maxHeartbeats 4000000 in
set_option maxRecDepth 100000 in
theorem met1_layNow (l : Launch) {E : cw_E} {A : Nat → Prop} (D : cw_D) (x1 : Int32) (x2 : Int32) (D' : cw_D) (nc ns : Nat) (hf : f1_layNow D x1 x2 = some (D', nc, ns)) : cw_MetV l yX1_layNow cX1_layNow 4 20 474 E A [.ref E.1.1, .int x1, .int x2] D D' nc ns := by
  unfold f1_layNow at hf
  refine cw_sVN (own := RX1) (by decide +kernel) [(0, .ref E.1.1), (1, .int x1), (2, .int x2)] ⟨Nat.le_of_ble_eq_true rfl, rfl⟩ ?_
  intro p e s m args below meth c Rm Q X hK hF hLo hC hin hend ls hl hR hS
  obtain ⟨hx, hb, hml, hown, hts⟩ := id X
  have hm9 : 0 ≤ nc ∧ 0 ≤ ns := ⟨Nat.zero_le _, Nat.zero_le _⟩
  refine lv_aload_n hx hb dX1_layNow_0 rfl (lv_at hl 0 rfl) ?_
  obtain ⟨r_1, h_1, hq⟩ := ww_bS hf; replace hf := hq; clear hq
  refine c1g_226 X hK hR h_1 dX1_layNow_1 ?_
  refine lv_iload_n hx hb dX1_layNow_4 rfl (lv_at hl 1 rfl) ?_
  obtain ⟨r_2, h_2, hq⟩ := ww_bS hf; replace hf := hq; clear hq
  refine c1c_1_valueIn (x0 := r_1) X hl.1 hK hR hS (Nat.le_trans (Nat.le_of_ble_eq_true rfl) hF) (Nat.le_trans (Nat.le_of_ble_eq_true rfl) hLo) (Nat.le_trans hm9.1 hC.1) (Nat.le_trans hm9.2 hC.2) h_2 (cw_rest (Nat.le_of_ble_eq_true rfl)) dX1_layNow_5 (fun H locs hR hS => ?_)
  refine lv_iload_n hx hb dX1_layNow_8 rfl (lv_at hl 2 rfl) ?_
  refine lv_icmp_ne (tgt := 13) hx hb dX1_layNow_9 (by decide) (fun c_3 => ?_) (fun c_3 => ?_)
  · replace hf := ww_in hf c_3
    refine lv_aload_n hx hb dX1_layNow_13 rfl (lv_at hl 0 rfl) ?_
    refine lv_aload_n hx hb dX1_layNow_14 rfl (lv_at hl 0 rfl) ?_
    obtain ⟨r_4, h_4, hq⟩ := ww_bS hf; replace hf := hq; clear hq
    refine c1g_226 X hK hR h_4 dX1_layNow_15 ?_
    refine lv_aload_n hx hb dX1_layNow_18 rfl (lv_at hl 0 rfl) ?_
    obtain ⟨r_5, h_5, hq⟩ := ww_bS hf; replace hf := hq; clear hq
    refine c1g_255 X hK hR h_5 dX1_layNow_19 ?_
    obtain ⟨a_6, e_6, hq⟩ := ww_bS hf; replace hf := hq; clear hq
    subst e_6
    obtain ⟨h_7, hq⟩ := ww_gS hf; replace hf := hq; clear hq
    obtain ⟨r_8, D_8, c_8, k_8, h_8, hq⟩ := ww_b4S hf; replace hf := hq; clear hq
    have hm9 : (0 + c_8) ≤ nc ∧ (0 + k_8) ≤ ns := by
      obtain ⟨r_9, h_9, hq⟩ := ww_bS hf; replace hf := hq; clear hq
      obtain ⟨r_10, h_10, hq⟩ := ww_bS hf; replace hf := hq; clear hq
      obtain ⟨a_11, e_11, hq⟩ := ww_bS hf; replace hf := hq; clear hq
      subst e_11
      obtain ⟨r_12, D_12, c_12, k_12, h_12, hq⟩ := ww_b4S hf; replace hf := hq; clear hq
      rcases r_12 with _ | a_13
      · replace hf := ww_oN hf
        have e9 := hf
        simp only [Option.some.injEq, Prod.mk.injEq] at e9
        omega
      · replace hf := ww_oS hf
        obtain ⟨r_14, h_14, hq⟩ := ww_bS hf; replace hf := hq; clear hq
        obtain ⟨r_15, h_15, hq⟩ := ww_bS hf; replace hf := hq; clear hq
        obtain ⟨r_16, D_16, c_16, k_16, h_16, hq⟩ := ww_b4S hf; replace hf := hq; clear hq
        have e9 := hf
        simp only [Option.some.injEq, Prod.mk.injEq] at e9
        omega
    refine c1i_edited (x1 := r_5) X hl.1 hK hR hS (Nat.le_trans (Nat.le_of_ble_eq_true rfl) hF) (Nat.le_trans (Nat.le_of_ble_eq_true rfl) hLo) (Nat.le_trans hm9.1 hC.1) (Nat.le_trans hm9.2 hC.2) h_7 h_8 (cw_rest (Nat.le_of_ble_eq_true rfl)) dX1_layNow_22 (fun H locs hR hS => ?_)
    refine c1p_226 (v := r_8) X hK hR hS dX1_layNow_27 (fun H locs hR hS => ?_)
    refine lv_aload_n hx hb dX1_layNow_30 rfl (lv_at hl 0 rfl) ?_
    obtain ⟨r_9, h_9, hq⟩ := ww_bS hf; replace hf := hq; clear hq
    refine c1g_226 X hK hR h_9 dX1_layNow_31 ?_
    refine lv_aload_n hx hb dX1_layNow_34 rfl (lv_at hl 0 rfl) ?_
    obtain ⟨r_10, h_10, hq⟩ := ww_bS hf; replace hf := hq; clear hq
    refine c1g_255 X hK hR h_10 dX1_layNow_35 ?_
    refine lv_iload_n hx hb dX1_layNow_38 rfl (lv_at hl 1 rfl) ?_
    refine lv_iload_n hx hb dX1_layNow_39 rfl (lv_at hl 2 rfl) ?_
    refine lv_aload_n hx hb dX1_layNow_40 rfl (lv_at hl 0 rfl) ?_
    refine c1g_234 X hK hR dX1_layNow_41 ?_
    obtain ⟨a_11, e_11, hq⟩ := ww_bS hf; replace hf := hq; clear hq
    subst e_11
    obtain ⟨r_12, D_12, c_12, k_12, h_12, hq⟩ := ww_b4S hf; replace hf := hq; clear hq
    have hm9 : ((0 + c_8) + c_12) ≤ nc ∧ ((0 + k_8) + k_12) ≤ ns := by
      rcases r_12 with _ | a_13
      · replace hf := ww_oN hf
        have e9 := hf
        simp only [Option.some.injEq, Prod.mk.injEq] at e9
        omega
      · replace hf := ww_oS hf
        obtain ⟨r_14, h_14, hq⟩ := ww_bS hf; replace hf := hq; clear hq
        obtain ⟨r_15, h_15, hq⟩ := ww_bS hf; replace hf := hq; clear hq
        obtain ⟨r_16, D_16, c_16, k_16, h_16, hq⟩ := ww_b4S hf; replace hf := hq; clear hq
        have e9 := hf
        simp only [Option.some.injEq, Prod.mk.injEq] at e9
        omega
    refine c1i_lays (x1 := r_10) X hl.1 hK hR hS (Nat.le_trans (Nat.le_of_ble_eq_true rfl) hF) (Nat.le_trans (Nat.le_of_ble_eq_true rfl) hLo) (Nat.le_trans hm9.1 hC.1) (Nat.le_trans hm9.2 hC.2) h_12 (cw_rest (Nat.le_of_ble_eq_true rfl)) dX1_layNow_44 (fun H locs hR hS => ?_)
    refine cw_astore_n (x := r_12) (lv' := [(3, va_rf r_12), (0, .ref E.1.1), (1, .int x1), (2, .int x2)]) hx hb dX1_layNow_49 rfl hl (by decide) rfl (fun ls hl => ?_)
    refine cw_aload_n (x := r_12) hx hb dX1_layNow_50 rfl (lv_at hl 0 rfl) ?_
    rcases r_12 with _ | a_13
    · replace hf := ww_oN hf
      refine lv_ifnullN (tgt := 74) hx hb dX1_layNow_51 (by decide) ?_
      exact hend dX1_layNow_74 hf hR hS
    · replace hf := ww_oS hf
      refine lv_ifnull hx hb dX1_layNow_51 ?_
      refine lv_aload_n hx hb dX1_layNow_54 rfl (lv_at hl 1 rfl) ?_
      refine lv_aload_n hx hb dX1_layNow_55 rfl (lv_at hl 1 rfl) ?_
      obtain ⟨r_14, h_14, hq⟩ := ww_bS hf; replace hf := hq; clear hq
      refine c1g_255 X hK hR h_14 dX1_layNow_56 ?_
      refine lv_aload_n hx hb dX1_layNow_59 rfl (lv_at hl 1 rfl) ?_
      refine c1g_234 X hK hR dX1_layNow_60 ?_
      refine lv_aload_n hx hb dX1_layNow_63 rfl (lv_at hl 1 rfl) ?_
      obtain ⟨r_15, h_15, hq⟩ := ww_bS hf; replace hf := hq; clear hq
      refine c1g_226 X hK hR h_15 dX1_layNow_64 ?_
      refine lv_aload_n hx hb dX1_layNow_67 rfl (lv_at hl 0 rfl) ?_
      obtain ⟨r_16, D_16, c_16, k_16, h_16, hq⟩ := ww_b4S hf; replace hf := hq; clear hq
      have hm9 : (((0 + c_8) + c_12) + c_16) ≤ nc ∧ (((0 + k_8) + k_12) + k_16) ≤ ns := by
        have e9 := hf
        simp only [Option.some.injEq, Prod.mk.injEq] at e9
        omega
      refine c1c_5_over (x0 := r_14) (x2 := r_15) (x3 := (some a_13)) X hl.1 hK hR hS (Nat.le_trans (Nat.le_of_ble_eq_true rfl) hF) (Nat.le_trans (Nat.le_of_ble_eq_true rfl) hLo) (Nat.le_trans hm9.1 hC.1) (Nat.le_trans hm9.2 hC.2) h_16 (cw_rest (Nat.le_of_ble_eq_true rfl)) dX1_layNow_68 (fun H locs hR hS => ?_)
      refine c1p_226 (v := r_16) X hK hR hS dX1_layNow_71 (fun H locs hR hS => ?_)
      exact hend dX1_layNow_74 hf hR hS
  · replace hf := ww_ip hf c_3
    exact hend dX1_layNow_12 hf hR hS
section C_1_layNow_c
variable {p : Program} {l : Launch} {e : Env} {R : Room} {s : State} {m : MethodId} {args : Array Value} {below : List Frame} {meth : Method} {c : Code} {H : Heap} {locs : List Loc} {cells slots : Nat} {Q : State → Prop}
variable {cc : ByteArray} {pc : Nat} {ls : Array Slot} {rest : List Value} {nL : Nat} {E : cw_E} {A : Nat → Prop} {H0 : Heap}
theorem c1c_1_layNow {D : cw_D} {x1 : Int32} {x2 : Int32} {D' : cw_D} {nc ns : Nat} (X : ww_C p m c cc nL s args RX1 lw_all) (hsz : ls.size = nL) (hK : cw_K E A s) (hR : cw_H E A D H) (hS : va_S A s.heap H locs) (hF : 21 ≤ R.frames) (hLo : 497 ≤ R.locals) (hc : cells + nc ≤ R.cells) (hs : slots + ns ≤ R.slots) (hf : f1_layNow D x1 x2 = some (D', nc, ns)) (hrest : (rest.map fun v => v.category).sum ≤ 8) (hdg : decode cc pc = .ok (.invokevirtual 222, 3)) (kk : ∀ (H1 : Heap) (locs1 : List Loc), cw_H E A D' H1 → va_S A s.heap H1 locs1 → W p l e R s m args below meth c H1 locs1 (cells + nc) (slots + ns) Q (F0 m (pc + 3) ls (rest))) : W p l e R s m args below meth c H locs cells slots Q (F0 m pc ls (.int x2 :: .int x1 :: .ref E.1.1 :: rest)) :=
  c1k_1_layNow X hsz hK hR hS hF hLo hc hs (met1_layNow l _ _ _ _ _ _ hf) hrest hdg kk
end C_1_layNow_c
noncomputable def f1_holds (D : cw_D) (x1 : Option Nat) (x2 : Int32) (x3 : Int32) : Option (Int32 × cw_D) :=
  ww_g (ww_i (ww_F D.1 14) 16) (ww_g (ww_i (ww_F (cw_sX D 10 (ww_F D.1 14) (ww_F D.1 15)).1 14) 16) (ww_g (cw_kd (cw_sX D 10 (ww_F D.1 14) (ww_F D.1 15)) [1, 2] x1) (ww_g (ww_i (ww_F (cw_sF (cw_sY (cw_sX D 10 (ww_F D.1 14) (ww_F D.1 15)) 12 (ww_F (cw_sX D 10 (ww_F D.1 14) (ww_F D.1 15)).1 14) x1) 14 ((ww_F (cw_sY (cw_sX D 10 (ww_F D.1 14) (ww_F D.1 15)) 12 (ww_F (cw_sX D 10 (ww_F D.1 14) (ww_F D.1 15)).1 14) x1).1 14) + (1 : Int32))).1 15) 999) (ww_g (ww_i (ww_F (cw_sX (cw_sF (cw_sY (cw_sX D 10 (ww_F D.1 14) (ww_F D.1 15)) 12 (ww_F (cw_sX D 10 (ww_F D.1 14) (ww_F D.1 15)).1 14) x1) 14 ((ww_F (cw_sY (cw_sX D 10 (ww_F D.1 14) (ww_F D.1 15)) 12 (ww_F (cw_sX D 10 (ww_F D.1 14) (ww_F D.1 15)).1 14) x1).1 14) + (1 : Int32))) 21 (ww_F (cw_sF (cw_sY (cw_sX D 10 (ww_F D.1 14) (ww_F D.1 15)) 12 (ww_F (cw_sX D 10 (ww_F D.1 14) (ww_F D.1 15)).1 14) x1) 14 ((ww_F (cw_sY (cw_sX D 10 (ww_F D.1 14) (ww_F D.1 15)) 12 (ww_F (cw_sX D 10 (ww_F D.1 14) (ww_F D.1 15)).1 14) x1).1 14) + (1 : Int32))).1 15) x2).1 15) 999) (some (((ww_F (cw_sF (cw_sX (cw_sX (cw_sF (cw_sY (cw_sX D 10 (ww_F D.1 14) (ww_F D.1 15)) 12 (ww_F (cw_sX D 10 (ww_F D.1 14) (ww_F D.1 15)).1 14) x1) 14 ((ww_F (cw_sY (cw_sX D 10 (ww_F D.1 14) (ww_F D.1 15)) 12 (ww_F (cw_sX D 10 (ww_F D.1 14) (ww_F D.1 15)).1 14) x1).1 14) + (1 : Int32))) 21 (ww_F (cw_sF (cw_sY (cw_sX D 10 (ww_F D.1 14) (ww_F D.1 15)) 12 (ww_F (cw_sX D 10 (ww_F D.1 14) (ww_F D.1 15)).1 14) x1) 14 ((ww_F (cw_sY (cw_sX D 10 (ww_F D.1 14) (ww_F D.1 15)) 12 (ww_F (cw_sX D 10 (ww_F D.1 14) (ww_F D.1 15)).1 14) x1).1 14) + (1 : Int32))).1 15) x2) 22 (ww_F (cw_sX (cw_sF (cw_sY (cw_sX D 10 (ww_F D.1 14) (ww_F D.1 15)) 12 (ww_F (cw_sX D 10 (ww_F D.1 14) (ww_F D.1 15)).1 14) x1) 14 ((ww_F (cw_sY (cw_sX D 10 (ww_F D.1 14) (ww_F D.1 15)) 12 (ww_F (cw_sX D 10 (ww_F D.1 14) (ww_F D.1 15)).1 14) x1).1 14) + (1 : Int32))) 21 (ww_F (cw_sF (cw_sY (cw_sX D 10 (ww_F D.1 14) (ww_F D.1 15)) 12 (ww_F (cw_sX D 10 (ww_F D.1 14) (ww_F D.1 15)).1 14) x1) 14 ((ww_F (cw_sY (cw_sX D 10 (ww_F D.1 14) (ww_F D.1 15)) 12 (ww_F (cw_sX D 10 (ww_F D.1 14) (ww_F D.1 15)).1 14) x1).1 14) + (1 : Int32))).1 15) x2).1 15) x3) 15 ((ww_F (cw_sX (cw_sX (cw_sF (cw_sY (cw_sX D 10 (ww_F D.1 14) (ww_F D.1 15)) 12 (ww_F (cw_sX D 10 (ww_F D.1 14) (ww_F D.1 15)).1 14) x1) 14 ((ww_F (cw_sY (cw_sX D 10 (ww_F D.1 14) (ww_F D.1 15)) 12 (ww_F (cw_sX D 10 (ww_F D.1 14) (ww_F D.1 15)).1 14) x1).1 14) + (1 : Int32))) 21 (ww_F (cw_sF (cw_sY (cw_sX D 10 (ww_F D.1 14) (ww_F D.1 15)) 12 (ww_F (cw_sX D 10 (ww_F D.1 14) (ww_F D.1 15)).1 14) x1) 14 ((ww_F (cw_sY (cw_sX D 10 (ww_F D.1 14) (ww_F D.1 15)) 12 (ww_F (cw_sX D 10 (ww_F D.1 14) (ww_F D.1 15)).1 14) x1).1 14) + (1 : Int32))).1 15) x2) 22 (ww_F (cw_sX (cw_sF (cw_sY (cw_sX D 10 (ww_F D.1 14) (ww_F D.1 15)) 12 (ww_F (cw_sX D 10 (ww_F D.1 14) (ww_F D.1 15)).1 14) x1) 14 ((ww_F (cw_sY (cw_sX D 10 (ww_F D.1 14) (ww_F D.1 15)) 12 (ww_F (cw_sX D 10 (ww_F D.1 14) (ww_F D.1 15)).1 14) x1).1 14) + (1 : Int32))) 21 (ww_F (cw_sF (cw_sY (cw_sX D 10 (ww_F D.1 14) (ww_F D.1 15)) 12 (ww_F (cw_sX D 10 (ww_F D.1 14) (ww_F D.1 15)).1 14) x1) 14 ((ww_F (cw_sY (cw_sX D 10 (ww_F D.1 14) (ww_F D.1 15)) 12 (ww_F (cw_sX D 10 (ww_F D.1 14) (ww_F D.1 15)).1 14) x1).1 14) + (1 : Int32))).1 15) x2).1 15) x3).1 15) + (1 : Int32))).1 15) - (1 : Int32)), (cw_sF (cw_sX (cw_sX (cw_sF (cw_sY (cw_sX D 10 (ww_F D.1 14) (ww_F D.1 15)) 12 (ww_F (cw_sX D 10 (ww_F D.1 14) (ww_F D.1 15)).1 14) x1) 14 ((ww_F (cw_sY (cw_sX D 10 (ww_F D.1 14) (ww_F D.1 15)) 12 (ww_F (cw_sX D 10 (ww_F D.1 14) (ww_F D.1 15)).1 14) x1).1 14) + (1 : Int32))) 21 (ww_F (cw_sF (cw_sY (cw_sX D 10 (ww_F D.1 14) (ww_F D.1 15)) 12 (ww_F (cw_sX D 10 (ww_F D.1 14) (ww_F D.1 15)).1 14) x1) 14 ((ww_F (cw_sY (cw_sX D 10 (ww_F D.1 14) (ww_F D.1 15)) 12 (ww_F (cw_sX D 10 (ww_F D.1 14) (ww_F D.1 15)).1 14) x1).1 14) + (1 : Int32))).1 15) x2) 22 (ww_F (cw_sX (cw_sF (cw_sY (cw_sX D 10 (ww_F D.1 14) (ww_F D.1 15)) 12 (ww_F (cw_sX D 10 (ww_F D.1 14) (ww_F D.1 15)).1 14) x1) 14 ((ww_F (cw_sY (cw_sX D 10 (ww_F D.1 14) (ww_F D.1 15)) 12 (ww_F (cw_sX D 10 (ww_F D.1 14) (ww_F D.1 15)).1 14) x1).1 14) + (1 : Int32))) 21 (ww_F (cw_sF (cw_sY (cw_sX D 10 (ww_F D.1 14) (ww_F D.1 15)) 12 (ww_F (cw_sX D 10 (ww_F D.1 14) (ww_F D.1 15)).1 14) x1) 14 ((ww_F (cw_sY (cw_sX D 10 (ww_F D.1 14) (ww_F D.1 15)) 12 (ww_F (cw_sX D 10 (ww_F D.1 14) (ww_F D.1 15)).1 14) x1).1 14) + (1 : Int32))).1 15) x2).1 15) x3) 15 ((ww_F (cw_sX (cw_sX (cw_sF (cw_sY (cw_sX D 10 (ww_F D.1 14) (ww_F D.1 15)) 12 (ww_F (cw_sX D 10 (ww_F D.1 14) (ww_F D.1 15)).1 14) x1) 14 ((ww_F (cw_sY (cw_sX D 10 (ww_F D.1 14) (ww_F D.1 15)) 12 (ww_F (cw_sX D 10 (ww_F D.1 14) (ww_F D.1 15)).1 14) x1).1 14) + (1 : Int32))) 21 (ww_F (cw_sF (cw_sY (cw_sX D 10 (ww_F D.1 14) (ww_F D.1 15)) 12 (ww_F (cw_sX D 10 (ww_F D.1 14) (ww_F D.1 15)).1 14) x1) 14 ((ww_F (cw_sY (cw_sX D 10 (ww_F D.1 14) (ww_F D.1 15)) 12 (ww_F (cw_sX D 10 (ww_F D.1 14) (ww_F D.1 15)).1 14) x1).1 14) + (1 : Int32))).1 15) x2) 22 (ww_F (cw_sX (cw_sF (cw_sY (cw_sX D 10 (ww_F D.1 14) (ww_F D.1 15)) 12 (ww_F (cw_sX D 10 (ww_F D.1 14) (ww_F D.1 15)).1 14) x1) 14 ((ww_F (cw_sY (cw_sX D 10 (ww_F D.1 14) (ww_F D.1 15)) 12 (ww_F (cw_sX D 10 (ww_F D.1 14) (ww_F D.1 15)).1 14) x1).1 14) + (1 : Int32))) 21 (ww_F (cw_sF (cw_sY (cw_sX D 10 (ww_F D.1 14) (ww_F D.1 15)) 12 (ww_F (cw_sX D 10 (ww_F D.1 14) (ww_F D.1 15)).1 14) x1) 14 ((ww_F (cw_sY (cw_sX D 10 (ww_F D.1 14) (ww_F D.1 15)) 12 (ww_F (cw_sX D 10 (ww_F D.1 14) (ww_F D.1 15)).1 14) x1).1 14) + (1 : Int32))).1 15) x2).1 15) x3).1 15) + (1 : Int32)))))))))
section C_1_holds_k
variable {p : Program} {l : Launch} {e : Env} {R : Room} {s : State} {m : MethodId} {args : Array Value} {below : List Frame} {meth : Method} {c : Code} {H : Heap} {locs : List Loc} {cells slots : Nat} {Q : State → Prop}
variable {cc : ByteArray} {pc : Nat} {ls : Array Slot} {rest : List Value} {nL : Nat} {E : cw_E} {A : Nat → Prop} {H0 : Heap}
theorem c1k_1_holds {D : cw_D} {x1 : Option Nat} {x2 : Int32} {x3 : Int32} {r : Int32} {D' : cw_D} (X : ww_C p m c cc nL s args RX1 lw_all) (hsz : ls.size = nL) (hK : cw_K E A s) (hR : cw_H E A D H) (hS : va_S A s.heap H locs) (hF : 1 ≤ R.frames) (hLo : 23 ≤ R.locals) (hc : cells ≤ R.cells) (hs : slots ≤ R.slots) (hM : cw_MetI l yX1_holds cX1_holds 4 (some Jvm.ClassFile.FieldType.int) 0 0 E A [.ref E.1.1, va_rf x1, .int x2, .int x3] D D' r 0 0) (hrest : (rest.map fun v => v.category).sum ≤ 8) (hdg : decode cc pc = .ok (.invokevirtual 230, 3)) (kk : ∀ (H1 : Heap) (locs1 : List Loc), cw_H E A D' H1 → va_S A s.heap H1 locs1 → W p l e R s m args below meth c H1 locs1 cells slots Q (F0 m (pc + 3) ls (.int r :: rest))) : W p l e R s m args below meth c H locs cells slots Q (F0 m pc ls (.int x3 :: .int x2 :: va_rf x1 :: .ref E.1.1 :: rest)) :=
  va_calli (va_runV (C := RX1) (As := [va_rf x1, .int x2, .int x3]) (rest := rest) (b := E.1.1) X hM (cwV 3 X.2.2.2.2 (lw_V q1076 q1078 qs23 q131 q1079) rfl rfl rfl (by decide +kernel) ⟨hF, hLo⟩) (cw_pV hK hR hS (cw_rcM hK hR)) rfl rfl hsz rfl (lv_room hrest) hdg ⟨hc, hs⟩) hS (fun q _ h => h) (fun q h => h) (fun r' u t H1 locs1 ht hvm hw hB hz1 hk1 hS1 => by subst hw; rw [ht] at hB; exact kk H1 locs1 hB hS1)
end C_1_holds_k
set_option maxHeartbeats 4000000 in
set_option maxRecDepth 100000 in
theorem met1_holds (l : Launch) {E : cw_E} {A : Nat → Prop} (D : cw_D) (x1 : Option Nat) (x2 : Int32) (x3 : Int32) (r : Int32) (D' : cw_D) (hf : f1_holds D x1 x2 x3 = some (r, D')) : cw_MetI l yX1_holds cX1_holds 4 (some Jvm.ClassFile.FieldType.int) 0 0 E A [.ref E.1.1, va_rf x1, .int x2, .int x3] D D' r 0 0 := by
  unfold f1_holds at hf
  refine cw_sID (own := RX1) (by decide +kernel) [(0, .ref E.1.1), (1, va_rf x1), (2, .int x2), (3, .int x3)] ⟨by cases x1 <;> exact Nat.le_of_ble_eq_true rfl, by cases x1 <;> rfl⟩ ?_
  intro p e s m args below meth c Rm Q X hK hF hLo hin hend ls hl hR hS
  obtain ⟨hx, hb, hml, hown, hts⟩ := id X
  refine lv_aload_n hx hb dX1_holds_0 rfl (lv_at hl 0 rfl) ?_
  refine c1g_57 X hK hR dX1_holds_1 ?_
  refine lv_aload_n hx hb dX1_holds_4 rfl (lv_at hl 0 rfl) ?_
  refine c1g_240 X hK hR dX1_holds_5 ?_
  refine lv_aload_n hx hb dX1_holds_8 rfl (lv_at hl 0 rfl) ?_
  refine c1g_243 X hK hR dX1_holds_9 ?_
  obtain ⟨h_1, hq⟩ := ww_gS hf; replace hf := hq; clear hq
  refine c1s_10 X hK hR hS h_1 dX1_holds_12 (fun H locs hR hS => ?_)
  refine lv_aload_n hx hb dX1_holds_13 rfl (lv_at hl 0 rfl) ?_
  refine c1g_65 X hK hR dX1_holds_14 ?_
  refine lv_aload_n hx hb dX1_holds_17 rfl (lv_at hl 0 rfl) ?_
  refine c1g_240 X hK hR dX1_holds_18 ?_
  refine cw_aload_n (x := x1) hx hb dX1_holds_21 rfl (lv_at hl 1 rfl) ?_
  obtain ⟨h_2, hq⟩ := ww_gS hf; replace hf := hq; clear hq
  obtain ⟨h_3, hq⟩ := ww_gS hf; replace hf := hq; clear hq
  refine c1s_12 (x := x1) X hK hR hS h_2 h_3 dX1_holds_22 (fun H locs hR hS => ?_)
  refine lv_aload_n hx hb dX1_holds_23 rfl (lv_at hl 0 rfl) ?_
  refine lv_dup hx hb dX1_holds_24 rfl ?_
  refine c1g_240 X hK hR dX1_holds_25 ?_
  refine lv_iconst (v := (1 : Int32)) hx hb dX1_holds_28 (by decide) ?_
  refine lv_iadd hx hb dX1_holds_29 ?_
  refine c1p_240 X hK hR hS dX1_holds_30 (fun H locs hR hS => ?_)
  refine lv_aload_n hx hb dX1_holds_33 rfl (lv_at hl 0 rfl) ?_
  refine c1g_76 X hK hR dX1_holds_34 ?_
  refine lv_aload_n hx hb dX1_holds_37 rfl (lv_at hl 0 rfl) ?_
  refine c1g_243 X hK hR dX1_holds_38 ?_
  refine lv_iload_n hx hb dX1_holds_41 rfl (lv_at hl 2 rfl) ?_
  obtain ⟨h_4, hq⟩ := ww_gS hf; replace hf := hq; clear hq
  refine c1s_21 X hK hR hS h_4 dX1_holds_42 (fun H locs hR hS => ?_)
  refine lv_aload_n hx hb dX1_holds_43 rfl (lv_at hl 0 rfl) ?_
  refine c1g_79 X hK hR dX1_holds_44 ?_
  refine lv_aload_n hx hb dX1_holds_47 rfl (lv_at hl 0 rfl) ?_
  refine c1g_243 X hK hR dX1_holds_48 ?_
  refine lv_iload_n hx hb dX1_holds_51 rfl (lv_at hl 3 rfl) ?_
  obtain ⟨h_5, hq⟩ := ww_gS hf; replace hf := hq; clear hq
  refine c1s_22 X hK hR hS h_5 dX1_holds_52 (fun H locs hR hS => ?_)
  refine lv_aload_n hx hb dX1_holds_53 rfl (lv_at hl 0 rfl) ?_
  refine lv_dup hx hb dX1_holds_54 rfl ?_
  refine c1g_243 X hK hR dX1_holds_55 ?_
  refine lv_iconst (v := (1 : Int32)) hx hb dX1_holds_58 (by decide) ?_
  refine lv_iadd hx hb dX1_holds_59 ?_
  refine c1p_243 X hK hR hS dX1_holds_60 (fun H locs hR hS => ?_)
  refine lv_aload_n hx hb dX1_holds_63 rfl (lv_at hl 0 rfl) ?_
  refine c1g_243 X hK hR dX1_holds_64 ?_
  refine lv_iconst (v := (1 : Int32)) hx hb dX1_holds_67 (by decide) ?_
  refine lv_isub hx hb dX1_holds_68 ?_
  exact hend dX1_holds_69 rfl rfl hf hR hS
section C_1_holds_c
variable {p : Program} {l : Launch} {e : Env} {R : Room} {s : State} {m : MethodId} {args : Array Value} {below : List Frame} {meth : Method} {c : Code} {H : Heap} {locs : List Loc} {cells slots : Nat} {Q : State → Prop}
variable {cc : ByteArray} {pc : Nat} {ls : Array Slot} {rest : List Value} {nL : Nat} {E : cw_E} {A : Nat → Prop} {H0 : Heap}
theorem c1c_1_holds {D : cw_D} {x1 : Option Nat} {x2 : Int32} {x3 : Int32} {r : Int32} {D' : cw_D} (X : ww_C p m c cc nL s args RX1 lw_all) (hsz : ls.size = nL) (hK : cw_K E A s) (hR : cw_H E A D H) (hS : va_S A s.heap H locs) (hF : 1 ≤ R.frames) (hLo : 23 ≤ R.locals) (hc : cells ≤ R.cells) (hs : slots ≤ R.slots) (hf : f1_holds D x1 x2 x3 = some (r, D')) (hrest : (rest.map fun v => v.category).sum ≤ 8) (hdg : decode cc pc = .ok (.invokevirtual 230, 3)) (kk : ∀ (H1 : Heap) (locs1 : List Loc), cw_H E A D' H1 → va_S A s.heap H1 locs1 → W p l e R s m args below meth c H1 locs1 cells slots Q (F0 m (pc + 3) ls (.int r :: rest))) : W p l e R s m args below meth c H locs cells slots Q (F0 m pc ls (.int x3 :: .int x2 :: va_rf x1 :: .ref E.1.1 :: rest)) :=
  c1k_1_holds X hsz hK hR hS hF hLo hc hs (met1_holds l _ _ _ _ _ _ hf) hrest hdg kk
end C_1_holds_c
noncomputable def f1_wide (D : cw_D) (x1 : Int32) : Option (Int32 × cw_D) :=
  ww_b (f1_in x1 (3 : Int32) (6 : Int32)) (fun r_1 => if r_1 = 0 then ww_b2 (f1_isRefused D (1 : Int32)) (fun r_3 D_3 => if r_3 = 0 then ww_b (f1_opens D_3 x1) (fun D_5 => some (x1, D_5)) else some ((-1 : Int32), D_3)) else ww_b2 (f1_isRefused D (-1 : Int32)) (fun r_6 D_6 => if r_6 = 0 then ww_b (f1_opens D_6 x1) (fun D_8 => some (x1, D_8)) else some ((-1 : Int32), D_6)))
set_option maxHeartbeats 4000000 in
set_option maxRecDepth 100000 in
theorem met1_wide (l : Launch) {E : cw_E} {A : Nat → Prop} (D : cw_D) (x1 : Int32) (r : Int32) (D' : cw_D) (hf : f1_wide D x1 = some (r, D')) : cw_MetI l yX1_wide cX1_wide 2 (some Jvm.ClassFile.FieldType.int) 2 43 E A [.ref E.1.1, .int x1] D D' r 0 0 := by
  unfold f1_wide at hf
  refine cw_sID (own := RX1) (by decide +kernel) [(0, .ref E.1.1), (1, .int x1)] ⟨Nat.le_of_ble_eq_true rfl, rfl⟩ ?_
  intro p e s m args below meth c Rm Q X hK hF hLo hin hend ls hl hR hS
  obtain ⟨hx, hb, hml, hown, hts⟩ := id X
  refine lv_aload_n hx hb dX1_wide_0 rfl (lv_at hl 0 rfl) ?_
  refine lv_iload_n hx hb dX1_wide_1 rfl (lv_at hl 1 rfl) ?_
  refine lv_iconst (v := (3 : Int32)) hx hb dX1_wide_2 (by decide) ?_
  refine lv_bipush (v := (6 : Int32)) hx hb dX1_wide_3 (by decide) ?_
  obtain ⟨r_1, h_1, hq⟩ := ww_bS hf; replace hf := hq; clear hq
  refine c1c_1_in X hl.1 (Nat.le_trans (Nat.le_of_ble_eq_true rfl) hF) (Nat.le_trans (Nat.le_of_ble_eq_true rfl) hLo) (Nat.zero_le _) (Nat.zero_le _) h_1 (cw_rest (Nat.le_of_ble_eq_true rfl)) dX1_wide_5 ?_
  refine lv_if_eq (tgt := 15) hx hb dX1_wide_8 (by decide) (fun c_2 => ?_) (fun c_2 => ?_)
  · replace hf := ww_ip hf c_2
    refine lv_iconst (v := (1 : Int32)) hx hb dX1_wide_15 (by decide) ?_
    obtain ⟨r_3, D_3, h_3, hq⟩ := ww_b2S hf; replace hf := hq; clear hq
    refine c1c_1_isRefused X hl.1 hK hR hS (Nat.le_trans (Nat.le_of_ble_eq_true rfl) hF) (Nat.le_trans (Nat.le_of_ble_eq_true rfl) hLo) (Nat.zero_le _) (Nat.zero_le _) h_3 (cw_rest (Nat.le_of_ble_eq_true rfl)) dX1_wide_16 (fun H locs hR hS => ?_)
    refine lv_if_eq (tgt := 24) hx hb dX1_wide_19 (by decide) (fun c_4 => ?_) (fun c_4 => ?_)
    · replace hf := ww_ip hf c_4
      refine lv_aload_n hx hb dX1_wide_24 rfl (lv_at hl 0 rfl) ?_
      refine lv_iload_n hx hb dX1_wide_25 rfl (lv_at hl 1 rfl) ?_
      obtain ⟨D_5, h_5, hq⟩ := ww_bS hf; replace hf := hq; clear hq
      refine c1c_1_opens X hl.1 hK hR hS (Nat.le_trans (Nat.le_of_ble_eq_true rfl) hF) (Nat.le_trans (Nat.le_of_ble_eq_true rfl) hLo) (Nat.zero_le _) (Nat.zero_le _) h_5 (cw_rest (Nat.le_of_ble_eq_true rfl)) dX1_wide_26 (fun H locs hR hS => ?_)
      refine lv_iload_n hx hb dX1_wide_29 rfl (lv_at hl 1 rfl) ?_
      exact hend dX1_wide_30 rfl rfl hf hR hS
    · replace hf := ww_in hf c_4
      refine lv_iconst (v := (-1 : Int32)) hx hb dX1_wide_22 (by decide) ?_
      exact hend dX1_wide_23 rfl rfl hf hR hS
  · replace hf := ww_in hf c_2
    refine lv_iconst (v := (-1 : Int32)) hx hb dX1_wide_11 (by decide) ?_
    refine lv_goto (tgt := 16) hx hb dX1_wide_12 (by decide) ?_
    obtain ⟨r_6, D_6, h_6, hq⟩ := ww_b2S hf; replace hf := hq; clear hq
    refine c1c_1_isRefused X hl.1 hK hR hS (Nat.le_trans (Nat.le_of_ble_eq_true rfl) hF) (Nat.le_trans (Nat.le_of_ble_eq_true rfl) hLo) (Nat.zero_le _) (Nat.zero_le _) h_6 (cw_rest (Nat.le_of_ble_eq_true rfl)) dX1_wide_16 (fun H locs hR hS => ?_)
    refine lv_if_eq (tgt := 24) hx hb dX1_wide_19 (by decide) (fun c_7 => ?_) (fun c_7 => ?_)
    · replace hf := ww_ip hf c_7
      refine lv_aload_n hx hb dX1_wide_24 rfl (lv_at hl 0 rfl) ?_
      refine lv_iload_n hx hb dX1_wide_25 rfl (lv_at hl 1 rfl) ?_
      obtain ⟨D_8, h_8, hq⟩ := ww_bS hf; replace hf := hq; clear hq
      refine c1c_1_opens X hl.1 hK hR hS (Nat.le_trans (Nat.le_of_ble_eq_true rfl) hF) (Nat.le_trans (Nat.le_of_ble_eq_true rfl) hLo) (Nat.zero_le _) (Nat.zero_le _) h_8 (cw_rest (Nat.le_of_ble_eq_true rfl)) dX1_wide_26 (fun H locs hR hS => ?_)
      refine lv_iload_n hx hb dX1_wide_29 rfl (lv_at hl 1 rfl) ?_
      exact hend dX1_wide_30 rfl rfl hf hR hS
    · replace hf := ww_in hf c_7
      refine lv_iconst (v := (-1 : Int32)) hx hb dX1_wide_22 (by decide) ?_
      exact hend dX1_wide_23 rfl rfl hf hR hS
noncomputable def f1_placeOf_b1c (D : cw_D) (y1 : Int32) (x2 : Int32) : Option ((Int32) ⊕ (Int32)) :=
  if (ww_F D.1 14) ≤ x2 then ww_x (some (-1 : Int32)) else ww_g (ww_i x2 16) (if (ww_X D.1 10 x2) = y1 then ww_x (some x2) else some (.inl (x2 + (1 : Int32))))
noncomputable def f1_placeOf_b1 (D : cw_D) (y1 : Int32) : Int32 → Option ((Int32) ⊕ (Int32)) := fun s9 => f1_placeOf_b1c D y1 s9
noncomputable def f1_placeOf (D : cw_D) (x1 : Int32) : Option (Int32) :=
  ww_U (f1_placeOf_b1 D x1) (0 : Int32)
section C_1_placeOf_k
variable {p : Program} {l : Launch} {e : Env} {R : Room} {s : State} {m : MethodId} {args : Array Value} {below : List Frame} {meth : Method} {c : Code} {H : Heap} {locs : List Loc} {cells slots : Nat} {Q : State → Prop}
variable {cc : ByteArray} {pc : Nat} {ls : Array Slot} {rest : List Value} {nL : Nat} {E : cw_E} {A : Nat → Prop} {H0 : Heap}
theorem c1k_1_placeOf {D : cw_D} {x1 : Int32} {r : Int32} (X : ww_C p m c cc nL s args RX1 lw_all) (hsz : ls.size = nL) (hK : cw_K E A s) (hR : cw_H E A D H) (hS : va_S A s.heap H locs) (hF : 1 ≤ R.frames) (hLo : 22 ≤ R.locals) (hc : cells ≤ R.cells) (hs : slots ≤ R.slots) (hM : cw_MetI l yX1_placeOf cX1_placeOf 3 (some Jvm.ClassFile.FieldType.int) 0 0 E A [.ref E.1.1, .int x1] D D r 0 0) (hrest : (rest.map fun v => v.category).sum ≤ 8) (hdg : decode cc pc = .ok (.invokevirtual 252, 3)) (kk : ∀ (H1 : Heap) (locs1 : List Loc), cw_H E A D H1 → va_S A s.heap H1 locs1 → W p l e R s m args below meth c H1 locs1 cells slots Q (F0 m (pc + 3) ls (.int r :: rest))) : W p l e R s m args below meth c H locs cells slots Q (F0 m pc ls (.int x1 :: .ref E.1.1 :: rest)) :=
  va_calli (va_runV (C := RX1) (As := [.int x1]) (rest := rest) (b := E.1.1) X hM (cwV 1 X.2.2.2.2 (lw_V q1092 q1094 qs25 q131 q1095) rfl rfl rfl (by decide +kernel) ⟨hF, hLo⟩) (cw_pV hK hR hS (cw_rcM hK hR)) rfl rfl hsz rfl (lv_room hrest) hdg ⟨hc, hs⟩) hS (fun q _ h => h) (fun q h => h) (fun r' u t H1 locs1 ht hvm hw hB hz1 hk1 hS1 => by subst hw; rw [ht] at hB; exact kk H1 locs1 hB hS1)
end C_1_placeOf_k
set_option maxHeartbeats 4000000 in
set_option maxRecDepth 100000 in
theorem met1_placeOf (l : Launch) {E : cw_E} {A : Nat → Prop} (D : cw_D) (x1 : Int32) (r : Int32) (hf : f1_placeOf D x1 = some r) : cw_MetI l yX1_placeOf cX1_placeOf 3 (some Jvm.ClassFile.FieldType.int) 0 0 E A [.ref E.1.1, .int x1] D D r 0 0 := by
  unfold f1_placeOf at hf
  refine cw_sIP (own := RX1) (by decide +kernel) [(0, .ref E.1.1), (1, .int x1)] ⟨Nat.le_of_ble_eq_true rfl, rfl⟩ ?_
  intro p e s m args below meth c Rm Q X hK hF hLo hin hend ls hl hR hS
  obtain ⟨hx, hb, hml, hown, hts⟩ := id X
  refine lv_iconst (v := (0 : Int32)) hx hb dX1_placeOf_0 (by decide) ?_
  refine lv_istore_n (lv' := [(2, .int (0 : Int32)), (0, .ref E.1.1), (1, .int x1)]) hx hb dX1_placeOf_1 rfl hl (by decide) rfl (fun ls hl => ?_)
  have hL_1 : ∀ s9 : Int32, ww_U (f1_placeOf_b1 D x1) s9 = some r → ∀ (H : Heap) (locs : List Loc) (ls : Array Slot), cw_H E A D H → va_S A s.heap H locs → lv_has ls 3 [(0, .ref E.1.1), (1, .int x1), (2, .int s9)] → W p l e Rm s m args below meth c H locs 0 0 Q (F0 m 2 ls []) := by
    clear hf
    refine ww_ind _ r ?_
    intro s9 z_1 hf hz_1
    obtain ⟨x2, e9⟩ : ∃ q9, q9 = s9 := ⟨_, rfl⟩; subst e9
    replace hf : f1_placeOf_b1c D x1 x2 = some z_1 := hf
    unfold f1_placeOf_b1c at hf
    try clear hl
    try clear hS
    try clear hR
    intro H locs ls hR hS hl
    replace hl : lv_has ls 3 [(0, .ref E.1.1), (1, .int x1), (2, .int x2)] := hl
    refine lv_iload_n hx hb dX1_placeOf_2 rfl (lv_at hl 2 rfl) ?_
    refine lv_aload_n hx hb dX1_placeOf_3 rfl (lv_at hl 0 rfl) ?_
    refine c1g_240 X hK hR dX1_placeOf_4 ?_
    refine lv_icmp_ge (tgt := 28) hx hb dX1_placeOf_7 (by decide) (fun c_1 => ?_) (fun c_1 => ?_)
    · replace hf := ww_ip hf c_1
      replace hf := ww_xK hf hz_1
      refine lv_iconst (v := (-1 : Int32)) hx hb dX1_placeOf_28 (by decide) ?_
      exact hend dX1_placeOf_29 rfl rfl hf hR hS
    · replace hf := ww_in hf c_1
      refine lv_aload_n hx hb dX1_placeOf_10 rfl (lv_at hl 0 rfl) ?_
      refine c1g_57 X hK hR dX1_placeOf_11 ?_
      refine lv_iload_n hx hb dX1_placeOf_14 rfl (lv_at hl 2 rfl) ?_
      obtain ⟨h_2, hq⟩ := ww_gS hf; replace hf := hq; clear hq
      refine c1l_10 X hK hR h_2 dX1_placeOf_15 ?_
      refine lv_iload_n hx hb dX1_placeOf_16 rfl (lv_at hl 1 rfl) ?_
      refine lv_icmp_ne (tgt := 22) hx hb dX1_placeOf_17 (by decide) (fun c_3 => ?_) (fun c_3 => ?_)
      · replace hf := ww_in hf c_3
        refine lv_iinc (k := 2) (v := x2 + (1 : Int32)) (lv' := [(2, .int (x2 + (1 : Int32))), (0, .ref E.1.1), (1, .int x1)]) hx hb dX1_placeOf_22 hl rfl rfl (by decide) rfl (fun ls hl => ?_)
        refine lv_goto (tgt := 2) hx hb dX1_placeOf_25 (by decide) ?_
        exact ww_lK hf hz_1 _ _ _ hR hS (lv_sub hl [1, 2, 0] rfl)
      · replace hf := ww_ip hf c_3
        replace hf := ww_xK hf hz_1
        refine lv_iload_n hx hb dX1_placeOf_20 rfl (lv_at hl 2 rfl) ?_
        exact hend dX1_placeOf_21 rfl rfl hf hR hS
  exact hL_1 (0 : Int32) hf _ _ _ hR hS (lv_sub hl [1, 2, 0] rfl)
section C_1_placeOf_c
variable {p : Program} {l : Launch} {e : Env} {R : Room} {s : State} {m : MethodId} {args : Array Value} {below : List Frame} {meth : Method} {c : Code} {H : Heap} {locs : List Loc} {cells slots : Nat} {Q : State → Prop}
variable {cc : ByteArray} {pc : Nat} {ls : Array Slot} {rest : List Value} {nL : Nat} {E : cw_E} {A : Nat → Prop} {H0 : Heap}
theorem c1c_1_placeOf {D : cw_D} {x1 : Int32} {r : Int32} (X : ww_C p m c cc nL s args RX1 lw_all) (hsz : ls.size = nL) (hK : cw_K E A s) (hR : cw_H E A D H) (hS : va_S A s.heap H locs) (hF : 1 ≤ R.frames) (hLo : 22 ≤ R.locals) (hc : cells ≤ R.cells) (hs : slots ≤ R.slots) (hf : f1_placeOf D x1 = some r) (hrest : (rest.map fun v => v.category).sum ≤ 8) (hdg : decode cc pc = .ok (.invokevirtual 252, 3)) (kk : ∀ (H1 : Heap) (locs1 : List Loc), cw_H E A D H1 → va_S A s.heap H1 locs1 → W p l e R s m args below meth c H1 locs1 cells slots Q (F0 m (pc + 3) ls (.int r :: rest))) : W p l e R s m args below meth c H locs cells slots Q (F0 m pc ls (.int x1 :: .ref E.1.1 :: rest)) :=
  c1k_1_placeOf X hsz hK hR hS hF hLo hc hs (met1_placeOf l _ _ _ hf) hrest hdg kk
end C_1_placeOf_c
noncomputable def f1_isMap (D : cw_D) (x1 : Int32) : Option (Int32) :=
  ww_b (f1_placeOf D x1) (fun r_1 => if r_1 = (-1 : Int32) then some (0 : Int32) else some (1 : Int32))
section C_1_isMap_k
variable {p : Program} {l : Launch} {e : Env} {R : Room} {s : State} {m : MethodId} {args : Array Value} {below : List Frame} {meth : Method} {c : Code} {H : Heap} {locs : List Loc} {cells slots : Nat} {Q : State → Prop}
variable {cc : ByteArray} {pc : Nat} {ls : Array Slot} {rest : List Value} {nL : Nat} {E : cw_E} {A : Nat → Prop} {H0 : Heap}
theorem c1k_1_isMap {D : cw_D} {x1 : Int32} {r : Int32} (X : ww_C p m c cc nL s args RX1 lw_all) (hsz : ls.size = nL) (hK : cw_K E A s) (hR : cw_H E A D H) (hS : va_S A s.heap H locs) (hF : 2 ≤ R.frames) (hLo : 43 ≤ R.locals) (hc : cells ≤ R.cells) (hs : slots ≤ R.slots) (hM : cw_MetI l yX1_isMap cX1_isMap 2 (some Jvm.ClassFile.FieldType.boolean) 1 22 E A [.ref E.1.1, .int x1] D D r 0 0) (hrest : (rest.map fun v => v.category).sum ≤ 8) (hdg : decode cc pc = .ok (.invokevirtual 333, 3)) (kk : ∀ (H1 : Heap) (locs1 : List Loc), cw_H E A D H1 → va_S A s.heap H1 locs1 → W p l e R s m args below meth c H1 locs1 cells slots Q (F0 m (pc + 3) ls (.int r :: rest))) : W p l e R s m args below meth c H locs cells slots Q (F0 m pc ls (.int x1 :: .ref E.1.1 :: rest)) :=
  va_calli (va_runV (C := RX1) (As := [.int x1]) (rest := rest) (b := E.1.1) X hM (cwV 1 X.2.2.2.2 (lw_V q1088 q1090 qs24 q131 q1091) rfl rfl rfl (by decide +kernel) ⟨hF, hLo⟩) (cw_pV hK hR hS (cw_rcM hK hR)) rfl rfl hsz rfl (lv_room hrest) hdg ⟨hc, hs⟩) hS (fun q _ h => h) (fun q h => h) (fun r' u t H1 locs1 ht hvm hw hB hz1 hk1 hS1 => by subst hw; rw [ht] at hB; exact kk H1 locs1 hB hS1)
end C_1_isMap_k
set_option maxHeartbeats 4000000 in
set_option maxRecDepth 100000 in
theorem met1_isMap (l : Launch) {E : cw_E} {A : Nat → Prop} (D : cw_D) (x1 : Int32) (r : Int32) (hf : f1_isMap D x1 = some r) : cw_MetI l yX1_isMap cX1_isMap 2 (some Jvm.ClassFile.FieldType.boolean) 1 22 E A [.ref E.1.1, .int x1] D D r 0 0 := by
  unfold f1_isMap at hf
  refine cw_sIP (own := RX1) (by decide +kernel) [(0, .ref E.1.1), (1, .int x1)] ⟨Nat.le_of_ble_eq_true rfl, rfl⟩ ?_
  intro p e s m args below meth c Rm Q X hK hF hLo hin hend ls hl hR hS
  obtain ⟨hx, hb, hml, hown, hts⟩ := id X
  refine lv_aload_n hx hb dX1_isMap_0 rfl (lv_at hl 0 rfl) ?_
  refine lv_iload_n hx hb dX1_isMap_1 rfl (lv_at hl 1 rfl) ?_
  obtain ⟨r_1, h_1, hq⟩ := ww_bS hf; replace hf := hq; clear hq
  refine c1c_1_placeOf X hl.1 hK hR hS (Nat.le_trans (Nat.le_of_ble_eq_true rfl) hF) (Nat.le_trans (Nat.le_of_ble_eq_true rfl) hLo) (Nat.zero_le _) (Nat.zero_le _) h_1 (cw_rest (Nat.le_of_ble_eq_true rfl)) dX1_isMap_2 (fun H locs hR hS => ?_)
  refine lv_iconst (v := (-1 : Int32)) hx hb dX1_isMap_5 (by decide) ?_
  refine lv_icmp_eq (tgt := 13) hx hb dX1_isMap_6 (by decide) (fun c_2 => ?_) (fun c_2 => ?_)
  · replace hf := ww_ip hf c_2
    refine lv_iconst (v := (0 : Int32)) hx hb dX1_isMap_13 (by decide) ?_
    exact hend dX1_isMap_14 rfl (by decide) hf hR hS
  · replace hf := ww_in hf c_2
    refine lv_iconst (v := (1 : Int32)) hx hb dX1_isMap_9 (by decide) ?_
    refine lv_goto (tgt := 14) hx hb dX1_isMap_10 (by decide) ?_
    exact hend dX1_isMap_14 rfl (by decide) hf hR hS
section C_1_isMap_c
variable {p : Program} {l : Launch} {e : Env} {R : Room} {s : State} {m : MethodId} {args : Array Value} {below : List Frame} {meth : Method} {c : Code} {H : Heap} {locs : List Loc} {cells slots : Nat} {Q : State → Prop}
variable {cc : ByteArray} {pc : Nat} {ls : Array Slot} {rest : List Value} {nL : Nat} {E : cw_E} {A : Nat → Prop} {H0 : Heap}
theorem c1c_1_isMap {D : cw_D} {x1 : Int32} {r : Int32} (X : ww_C p m c cc nL s args RX1 lw_all) (hsz : ls.size = nL) (hK : cw_K E A s) (hR : cw_H E A D H) (hS : va_S A s.heap H locs) (hF : 2 ≤ R.frames) (hLo : 43 ≤ R.locals) (hc : cells ≤ R.cells) (hs : slots ≤ R.slots) (hf : f1_isMap D x1 = some r) (hrest : (rest.map fun v => v.category).sum ≤ 8) (hdg : decode cc pc = .ok (.invokevirtual 333, 3)) (kk : ∀ (H1 : Heap) (locs1 : List Loc), cw_H E A D H1 → va_S A s.heap H1 locs1 → W p l e R s m args below meth c H1 locs1 cells slots Q (F0 m (pc + 3) ls (.int r :: rest))) : W p l e R s m args below meth c H locs cells slots Q (F0 m pc ls (.int x1 :: .ref E.1.1 :: rest)) :=
  c1k_1_isMap X hsz hK hR hS hF hLo hc hs (met1_isMap l _ _ _ hf) hrest hdg kk
end C_1_isMap_c
noncomputable def f1_rootOf (D : cw_D) (x1 : Int32) : Option (Option Nat) :=
  ww_b (f1_placeOf D x1) (fun r_1 => ww_g (ww_i r_1 16) (ww_b (some (ww_Y D.1 12 r_1)) (fun r_2 => some r_2)))
section C_1_rootOf_k
variable {p : Program} {l : Launch} {e : Env} {R : Room} {s : State} {m : MethodId} {args : Array Value} {below : List Frame} {meth : Method} {c : Code} {H : Heap} {locs : List Loc} {cells slots : Nat} {Q : State → Prop}
variable {cc : ByteArray} {pc : Nat} {ls : Array Slot} {rest : List Value} {nL : Nat} {E : cw_E} {A : Nat → Prop} {H0 : Heap}
theorem c1k_1_rootOf {D : cw_D} {x1 : Int32} {r : Option Nat} (X : ww_C p m c cc nL s args RX1 lw_all) (hsz : ls.size = nL) (hK : cw_K E A s) (hR : cw_H E A D H) (hS : va_S A s.heap H locs) (hF : 2 ≤ R.frames) (hLo : 43 ≤ R.locals) (hc : cells ≤ R.cells) (hs : slots ≤ R.slots) (hM : cw_MetQ l yX1_rootOf cX1_rootOf 2 (some (Jvm.ClassFile.FieldType.object "WideMap$Node")) 1 22 E A [.ref E.1.1, .int x1] D D r 0 0) (hrest : (rest.map fun v => v.category).sum ≤ 8) (hdg : decode cc pc = .ok (.invokevirtual 336, 3)) (kk : ∀ (H1 : Heap) (locs1 : List Loc), cw_H E A D H1 → va_S A s.heap H1 locs1 → W p l e R s m args below meth c H1 locs1 cells slots Q (F0 m (pc + 3) ls (va_rf r :: rest))) : W p l e R s m args below meth c H locs cells slots Q (F0 m pc ls (.int x1 :: .ref E.1.1 :: rest)) :=
  va_callq (va_runV (C := RX1) (As := [.int x1]) (rest := rest) (b := E.1.1) X hM (cwV 1 X.2.2.2.2 (lw_V q1096 q1098 qs26 q131 q1099) rfl rfl rfl (by decide +kernel) ⟨hF, hLo⟩) (cw_pV hK hR hS (cw_rcM hK hR)) rfl rfl hsz rfl (lv_room hrest) hdg ⟨hc, hs⟩) hS (fun q _ h => h) (fun q h => h) (fun r' u t H1 locs1 ht hvm hw hB hz1 hk1 hS1 => by subst hw; rw [ht] at hB; exact kk H1 locs1 hB hS1)
end C_1_rootOf_k
set_option maxHeartbeats 4000000 in
set_option maxRecDepth 100000 in
theorem met1_rootOf (l : Launch) {E : cw_E} {A : Nat → Prop} (D : cw_D) (x1 : Int32) (r : Option Nat) (hf : f1_rootOf D x1 = some r) : cw_MetQ l yX1_rootOf cX1_rootOf 2 (some (Jvm.ClassFile.FieldType.object "WideMap$Node")) 1 22 E A [.ref E.1.1, .int x1] D D r 0 0 := by
  unfold f1_rootOf at hf
  refine cw_sQP (own := RX1) (by decide +kernel) [(0, .ref E.1.1), (1, .int x1)] ⟨Nat.le_of_ble_eq_true rfl, rfl⟩ ?_
  intro p e s m args below meth c Rm Q X hK hF hLo hin hend ls hl hR hS
  obtain ⟨hx, hb, hml, hown, hts⟩ := id X
  refine lv_aload_n hx hb dX1_rootOf_0 rfl (lv_at hl 0 rfl) ?_
  refine c1g_65 X hK hR dX1_rootOf_1 ?_
  refine lv_aload_n hx hb dX1_rootOf_4 rfl (lv_at hl 0 rfl) ?_
  refine lv_iload_n hx hb dX1_rootOf_5 rfl (lv_at hl 1 rfl) ?_
  obtain ⟨r_1, h_1, hq⟩ := ww_bS hf; replace hf := hq; clear hq
  refine c1c_1_placeOf X hl.1 hK hR hS (Nat.le_trans (Nat.le_of_ble_eq_true rfl) hF) (Nat.le_trans (Nat.le_of_ble_eq_true rfl) hLo) (Nat.zero_le _) (Nat.zero_le _) h_1 (cw_rest (Nat.le_of_ble_eq_true rfl)) dX1_rootOf_6 (fun H locs hR hS => ?_)
  obtain ⟨h_3, hq⟩ := ww_gS hf; replace hf := hq; clear hq
  obtain ⟨r_2, h_2, hq⟩ := ww_bS hf; replace hf := hq; clear hq
  refine c1l_12 X hK hR h_3 h_2 dX1_rootOf_9 ?_
  exact hend (v := r_2) dX1_rootOf_10 rfl (Or.inl ⟨_, rfl⟩) hf hR hS
section C_1_rootOf_c
variable {p : Program} {l : Launch} {e : Env} {R : Room} {s : State} {m : MethodId} {args : Array Value} {below : List Frame} {meth : Method} {c : Code} {H : Heap} {locs : List Loc} {cells slots : Nat} {Q : State → Prop}
variable {cc : ByteArray} {pc : Nat} {ls : Array Slot} {rest : List Value} {nL : Nat} {E : cw_E} {A : Nat → Prop} {H0 : Heap}
theorem c1c_1_rootOf {D : cw_D} {x1 : Int32} {r : Option Nat} (X : ww_C p m c cc nL s args RX1 lw_all) (hsz : ls.size = nL) (hK : cw_K E A s) (hR : cw_H E A D H) (hS : va_S A s.heap H locs) (hF : 2 ≤ R.frames) (hLo : 43 ≤ R.locals) (hc : cells ≤ R.cells) (hs : slots ≤ R.slots) (hf : f1_rootOf D x1 = some r) (hrest : (rest.map fun v => v.category).sum ≤ 8) (hdg : decode cc pc = .ok (.invokevirtual 336, 3)) (kk : ∀ (H1 : Heap) (locs1 : List Loc), cw_H E A D H1 → va_S A s.heap H1 locs1 → W p l e R s m args below meth c H1 locs1 cells slots Q (F0 m (pc + 3) ls (va_rf r :: rest))) : W p l e R s m args below meth c H locs cells slots Q (F0 m pc ls (.int x1 :: .ref E.1.1 :: rest)) :=
  c1k_1_rootOf X hsz hK hR hS hF hLo hc hs (met1_rootOf l _ _ _ hf) hrest hdg kk
end C_1_rootOf_c
noncomputable def f1_find (D : cw_D) (x1 : Int32) (x2 : Int32) : Option (Int32) :=
  ww_b (f1_isMap D x1) (fun r_1 => if r_1 = 0 then some (-1000000 : Int32) else ww_b (f1_rootOf D x1) (fun r_3 => ww_b (f1_valueIn D r_3 x2) (fun r_4 => some r_4)))
set_option maxHeartbeats 4000000 in
set_option maxRecDepth 100000 in
theorem met1_find (l : Launch) {E : cw_E} {A : Nat → Prop} (D : cw_D) (x1 : Int32) (x2 : Int32) (r : Int32) (hf : f1_find D x1 x2 = some r) : cw_MetI l yX1_find cX1_find 3 (some Jvm.ClassFile.FieldType.int) 13 267 E A [.ref E.1.1, .int x1, .int x2] D D r 0 0 := by
  unfold f1_find at hf
  refine cw_sIP (own := RX1) (by decide +kernel) [(0, .ref E.1.1), (1, .int x1), (2, .int x2)] ⟨Nat.le_of_ble_eq_true rfl, rfl⟩ ?_
  intro p e s m args below meth c Rm Q X hK hF hLo hin hend ls hl hR hS
  obtain ⟨hx, hb, hml, hown, hts⟩ := id X
  refine lv_aload_n hx hb dX1_find_0 rfl (lv_at hl 0 rfl) ?_
  refine lv_iload_n hx hb dX1_find_1 rfl (lv_at hl 1 rfl) ?_
  obtain ⟨r_1, h_1, hq⟩ := ww_bS hf; replace hf := hq; clear hq
  refine c1c_1_isMap X hl.1 hK hR hS (Nat.le_trans (Nat.le_of_ble_eq_true rfl) hF) (Nat.le_trans (Nat.le_of_ble_eq_true rfl) hLo) (Nat.zero_le _) (Nat.zero_le _) h_1 (cw_rest (Nat.le_of_ble_eq_true rfl)) dX1_find_2 (fun H locs hR hS => ?_)
  refine lv_if_eq (tgt := 20) hx hb dX1_find_5 (by decide) (fun c_2 => ?_) (fun c_2 => ?_)
  · replace hf := ww_ip hf c_2
    refine lv_ldc (v := (-1000000 : Int32)) hx hb hown (hts _ q420) dX1_find_20 ?_
    exact hend dX1_find_22 rfl rfl hf hR hS
  · replace hf := ww_in hf c_2
    refine lv_aload_n hx hb dX1_find_8 rfl (lv_at hl 0 rfl) ?_
    refine lv_iload_n hx hb dX1_find_9 rfl (lv_at hl 1 rfl) ?_
    obtain ⟨r_3, h_3, hq⟩ := ww_bS hf; replace hf := hq; clear hq
    refine c1c_1_rootOf X hl.1 hK hR hS (Nat.le_trans (Nat.le_of_ble_eq_true rfl) hF) (Nat.le_trans (Nat.le_of_ble_eq_true rfl) hLo) (Nat.zero_le _) (Nat.zero_le _) h_3 (cw_rest (Nat.le_of_ble_eq_true rfl)) dX1_find_10 (fun H locs hR hS => ?_)
    refine lv_iload_n hx hb dX1_find_13 rfl (lv_at hl 2 rfl) ?_
    obtain ⟨r_4, h_4, hq⟩ := ww_bS hf; replace hf := hq; clear hq
    refine c1c_1_valueIn (x0 := r_3) X hl.1 hK hR hS (Nat.le_trans (Nat.le_of_ble_eq_true rfl) hF) (Nat.le_trans (Nat.le_of_ble_eq_true rfl) hLo) (Nat.zero_le _) (Nat.zero_le _) h_4 (cw_rest (Nat.le_of_ble_eq_true rfl)) dX1_find_14 (fun H locs hR hS => ?_)
    refine lv_goto (tgt := 22) hx hb dX1_find_17 (by decide) ?_
    exact hend dX1_find_22 rfl rfl hf hR hS
noncomputable def f1_sizeOf (D : cw_D) (x0 : Option Nat) : Option (Int32 × cw_D) :=
  ww_b x0 (fun a_1 => ww_g (cw_kd D [1, 2] (some a_1)) (ww_b2 (f5_counts 8 D a_1 (5 : Int32) (0 : Int32) none) (fun r_3 D_3 => some (r_3, D_3))))
section C_1_sizeOf_k
variable {p : Program} {l : Launch} {e : Env} {R : Room} {s : State} {m : MethodId} {args : Array Value} {below : List Frame} {meth : Method} {c : Code} {H : Heap} {locs : List Loc} {cells slots : Nat} {Q : State → Prop}
variable {cc : ByteArray} {pc : Nat} {ls : Array Slot} {rest : List Value} {nL : Nat} {E : cw_E} {A : Nat → Prop} {H0 : Heap}
theorem c1k_1_sizeOf {D : cw_D} {x0 : Option Nat} {r : Int32} {D' : cw_D} (X : ww_C p m c cc nL s args RX1 lw_all) (hsz : ls.size = nL) (hK : cw_K E A s) (hR : cw_H E A D H) (hS : va_S A s.heap H locs) (hF : 12 ≤ R.frames) (hLo : 286 ≤ R.locals) (hc : cells ≤ R.cells) (hs : slots ≤ R.slots) (hM : cw_MetI l yX1_sizeOf cX1_sizeOf 1 (some Jvm.ClassFile.FieldType.int) 11 266 E A [va_rf x0] D D' r 0 0) (hrest : (rest.map fun v => v.category).sum ≤ 8) (hdg : decode cc pc = .ok (.invokestatic 310, 3)) (kk : ∀ (H1 : Heap) (locs1 : List Loc), cw_H E A D' H1 → va_S A s.heap H1 locs1 → W p l e R s m args below meth c H1 locs1 cells slots Q (F0 m (pc + 3) ls (.int r :: rest))) : W p l e R s m args below meth c H locs cells slots Q (F0 m pc ls (va_rf x0 :: rest)) :=
  va_calli (va_runS (As := [va_rf x0]) (rest := rest) X hM (va_cwS 1 X.2.2.2.2 (lw_S q1104 q1105 q131 q1106) rfl rfl rfl (by decide +kernel) ⟨hF, hLo⟩) (cw_pS hK hR hS) rfl rfl hsz rfl (lv_room hrest) hdg ⟨hc, hs⟩) hS (fun q _ h => h) (fun q h => h) (fun r' u t H1 locs1 ht hvm hw hB hz1 hk1 hS1 => by subst hw; rw [ht] at hB; exact kk H1 locs1 hB hS1)
end C_1_sizeOf_k
set_option maxHeartbeats 4000000 in
set_option maxRecDepth 100000 in
theorem met1_sizeOf (l : Launch) {E : cw_E} {A : Nat → Prop} (D : cw_D) (x0 : Option Nat) (r : Int32) (D' : cw_D) (hf : f1_sizeOf D x0 = some (r, D')) : cw_MetI l yX1_sizeOf cX1_sizeOf 1 (some Jvm.ClassFile.FieldType.int) 11 266 E A [va_rf x0] D D' r 0 0 := by
  unfold f1_sizeOf at hf
  refine cw_sID (own := RX1) (by decide +kernel) [(0, va_rf x0)] ⟨by cases x0 <;> exact Nat.le_of_ble_eq_true rfl, by cases x0 <;> rfl⟩ ?_
  intro p e s m args below meth c Rm Q X hK hF hLo hin hend ls hl hR hS
  obtain ⟨hx, hb, hml, hown, hts⟩ := id X
  refine cw_aload_n (x := x0) hx hb dX1_sizeOf_0 rfl (lv_at hl 0 rfl) ?_
  refine lv_iconst (v := (5 : Int32)) hx hb dX1_sizeOf_1 (by decide) ?_
  refine lv_iconst (v := (0 : Int32)) hx hb dX1_sizeOf_2 (by decide) ?_
  refine lv_null hx hb dX1_sizeOf_3 ?_
  obtain ⟨a_1, e_1, hq⟩ := ww_bS hf; replace hf := hq; clear hq
  subst e_1
  obtain ⟨h_2, hq⟩ := ww_gS hf; replace hf := hq; clear hq
  obtain ⟨r_3, D_3, h_3, hq⟩ := ww_b2S hf; replace hf := hq; clear hq
  refine c1i_counts (x3 := none) X hl.1 hK hR hS (Nat.le_trans (Nat.le_of_ble_eq_true rfl) hF) (Nat.le_trans (Nat.le_of_ble_eq_true rfl) hLo) (Nat.zero_le _) (Nat.zero_le _) h_2 h_3 (cw_rest (Nat.le_of_ble_eq_true rfl)) dX1_sizeOf_4 (fun H locs hR hS => ?_)
  exact hend dX1_sizeOf_9 rfl rfl hf hR hS
section C_1_sizeOf_c
variable {p : Program} {l : Launch} {e : Env} {R : Room} {s : State} {m : MethodId} {args : Array Value} {below : List Frame} {meth : Method} {c : Code} {H : Heap} {locs : List Loc} {cells slots : Nat} {Q : State → Prop}
variable {cc : ByteArray} {pc : Nat} {ls : Array Slot} {rest : List Value} {nL : Nat} {E : cw_E} {A : Nat → Prop} {H0 : Heap}
theorem c1c_1_sizeOf {D : cw_D} {x0 : Option Nat} {r : Int32} {D' : cw_D} (X : ww_C p m c cc nL s args RX1 lw_all) (hsz : ls.size = nL) (hK : cw_K E A s) (hR : cw_H E A D H) (hS : va_S A s.heap H locs) (hF : 12 ≤ R.frames) (hLo : 286 ≤ R.locals) (hc : cells ≤ R.cells) (hs : slots ≤ R.slots) (hf : f1_sizeOf D x0 = some (r, D')) (hrest : (rest.map fun v => v.category).sum ≤ 8) (hdg : decode cc pc = .ok (.invokestatic 310, 3)) (kk : ∀ (H1 : Heap) (locs1 : List Loc), cw_H E A D' H1 → va_S A s.heap H1 locs1 → W p l e R s m args below meth c H1 locs1 cells slots Q (F0 m (pc + 3) ls (.int r :: rest))) : W p l e R s m args below meth c H locs cells slots Q (F0 m pc ls (va_rf x0 :: rest)) :=
  c1k_1_sizeOf X hsz hK hR hS hF hLo hc hs (met1_sizeOf l _ _ _ _ hf) hrest hdg kk
end C_1_sizeOf_c
noncomputable def f1_flatten_b1c (rec : cw_D → Option Nat → Option (cw_D)) (y1 : Option Nat) (D_1 : cw_D) (x2 : Int32) : Option ((cw_D × Int32) ⊕ (cw_D)) :=
  ww_b y1 (fun a_2 => ww_g (cw_kd D_1 [1, 2] (some a_2)) (ww_b (f6_many D_1 a_2) (fun r_4 => if r_4 ≤ x2 then ww_x (some D_1) else ww_b (f5r_isLeaf f8_isLeaf D_1 a_2) (fun r_6 => if r_6 = 0 then ww_b (f5r_kid f8_kid D_1 a_2 x2) (fun r_8 => ww_b (rec D_1 r_8) (fun D_9 => some (.inl (D_9, (x2 + (1 : Int32)))))) else ww_b (f5r_keyAt f8_keyAt D_1 a_2 x2) (fun r_10 => ww_g (ww_i (ww_F D_1.1 31) 120) (ww_b (f5r_valueAt f8_valueAt (cw_sX D_1 29 (ww_F D_1.1 31) r_10) a_2 x2) (fun r_12 => ww_g (ww_i (ww_F (cw_sX D_1 29 (ww_F D_1.1 31) r_10).1 31) 120) (some (.inl ((cw_sF (cw_sX (cw_sX D_1 29 (ww_F D_1.1 31) r_10) 30 (ww_F (cw_sX D_1 29 (ww_F D_1.1 31) r_10).1 31) r_12) 31 ((ww_F (cw_sX (cw_sX D_1 29 (ww_F D_1.1 31) r_10) 30 (ww_F (cw_sX D_1 29 (ww_F D_1.1 31) r_10).1 31) r_12).1 31) + (1 : Int32))), (x2 + (1 : Int32))))))))))))
noncomputable def f1_flatten_b1 (rec : cw_D → Option Nat → Option (cw_D)) (y1 : Option Nat) : (cw_D × Int32) → Option ((cw_D × Int32) ⊕ (cw_D)) := fun s9 => f1_flatten_b1c rec y1 s9.1 s9.2
noncomputable def f1_flatten_r (rec : cw_D → Option Nat → Option (cw_D)) (D : cw_D) (x1 : Option Nat) : Option (cw_D) :=
  ww_U (f1_flatten_b1 rec x1) (D, (0 : Int32))
noncomputable def f1_flatten : Nat → cw_D → Option Nat → Option (cw_D)
  | 0 => fun _ _ => none
  | d + 1 => f1_flatten_r (f1_flatten d)
section C_1_flatten_k
variable {p : Program} {l : Launch} {e : Env} {R : Room} {s : State} {m : MethodId} {args : Array Value} {below : List Frame} {meth : Method} {c : Code} {H : Heap} {locs : List Loc} {cells slots : Nat} {Q : State → Prop}
variable {cc : ByteArray} {pc : Nat} {ls : Array Slot} {rest : List Value} {nL : Nat} {E : cw_E} {A : Nat → Prop} {H0 : Heap}
theorem c1k_1_flatten {D : cw_D} {x1 : Option Nat} {D' : cw_D} {d : Nat} (X : ww_C p m c cc nL s args RX1 lw_all) (hsz : ls.size = nL) (hK : cw_K E A s) (hR : cw_H E A D H) (hS : va_S A s.heap H locs) (hF : (d + 11) + 1 ≤ R.frames) (hLo : 8 + (3 + 11) + (22 * d + 221) ≤ R.locals) (hc : cells ≤ R.cells) (hs : slots ≤ R.slots) (hM : cw_MetV l yX1_flatten cX1_flatten 3 (d + 11) (22 * d + 221) E A [.ref E.1.1, va_rf x1] D D' 0 0) (hrest : (rest.map fun v => v.category).sum ≤ 8) (hdg : decode cc pc = .ok (.invokevirtual 320, 3)) (kk : ∀ (H1 : Heap) (locs1 : List Loc), cw_H E A D' H1 → va_S A s.heap H1 locs1 → W p l e R s m args below meth c H1 locs1 cells slots Q (F0 m (pc + 3) ls (rest))) : W p l e R s m args below meth c H locs cells slots Q (F0 m pc ls (va_rf x1 :: .ref E.1.1 :: rest)) :=
  va_callv (va_runV (C := RX1) (As := [va_rf x1]) (rest := rest) (b := E.1.1) X hM (cwV 1 X.2.2.2.2 (lw_V q1161 q1163 qs29 q131 q1164) rfl rfl rfl (by decide +kernel) ⟨hF, hLo⟩) (cw_pV hK hR hS (cw_rcM hK hR)) rfl rfl hsz rfl (lv_room hrest) hdg ⟨hc, hs⟩) hS (fun q _ h => h) (fun q h => h) (fun u t H1 locs1 ht hvm hw hB hz1 hk1 hS1 => by rw [ht] at hB; exact kk H1 locs1 hB hS1)
end C_1_flatten_k
set_option maxHeartbeats 4000000 in
set_option maxRecDepth 100000 in
theorem met1_flatten (l : Launch) {E : cw_E} {A : Nat → Prop} : ∀ (d : Nat) (D : cw_D) (x1 : Option Nat) (D' : cw_D), f1_flatten d D x1 = some D' → cw_MetV l yX1_flatten cX1_flatten 3 (d + 11) (22 * d + 221) E A [.ref E.1.1, va_rf x1] D D' 0 0 := by
  intro d
  induction d with
  | zero => intro D x1 D' hf; cases hf
  | succ d ih =>
    intro D x1 D' hf
    replace hf : f1_flatten_r (f1_flatten d) D x1 = some D' := hf
    unfold f1_flatten_r at hf
    refine cw_sVD (own := RX1) (by decide +kernel) [(0, .ref E.1.1), (1, va_rf x1)] ⟨by cases x1 <;> exact Nat.le_of_ble_eq_true rfl, by cases x1 <;> rfl⟩ ?_
    intro p e s m args below meth c Rm Q X hK hF hLo hin hend ls hl hR hS
    obtain ⟨hx, hb, hml, hown, hts⟩ := id X
    refine lv_iconst (v := (0 : Int32)) hx hb dX1_flatten_0 (by decide) ?_
    refine lv_istore_n (lv' := [(2, .int (0 : Int32)), (0, .ref E.1.1), (1, va_rf x1)]) hx hb dX1_flatten_1 rfl hl (by decide) (by cases x1 <;> rfl) (fun ls hl => ?_)
    have hL_1 : ∀ s9 : cw_D × Int32, ww_U (f1_flatten_b1 (f1_flatten d) x1) s9 = some D' → ∀ (H : Heap) (locs : List Loc) (ls : Array Slot), cw_H E A s9.1 H → va_S A s.heap H locs → lv_has ls 3 [(0, .ref E.1.1), (1, va_rf x1), (2, .int s9.2)] → W p l e Rm s m args below meth c H locs 0 0 Q (F0 m 2 ls []) := by
      clear hf
      refine ww_ind _ D' ?_
      intro s9 z_1 hf hz_1
      obtain ⟨D_1, x2⟩ := s9
      replace hf : f1_flatten_b1c (f1_flatten d) x1 D_1 x2 = some z_1 := hf
      unfold f1_flatten_b1c at hf
      try clear hl
      try clear hS
      try clear hR
      intro H locs ls hR hS hl
      replace hR : cw_H E A D_1 H := hR
      replace hl : lv_has ls 3 [(0, .ref E.1.1), (1, va_rf x1), (2, .int x2)] := hl
      refine lv_iload_n hx hb dX1_flatten_2 rfl (lv_at hl 2 rfl) ?_
      refine cw_aload_n (x := x1) hx hb dX1_flatten_3 rfl (lv_at hl 1 rfl) ?_
      obtain ⟨a_2, e_2, hq⟩ := ww_bS hf; replace hf := hq; clear hq
      subst e_2
      obtain ⟨h_3, hq⟩ := ww_gS hf; replace hf := hq; clear hq
      obtain ⟨r_4, h_4, hq⟩ := ww_bS hf; replace hf := hq; clear hq
      refine c1i_many X hl.1 hK hR hS (by omega) (by omega) (Nat.zero_le _) (Nat.zero_le _) h_3 h_4 (cw_rest (Nat.le_of_ble_eq_true rfl)) dX1_flatten_4 (fun H locs hR hS => ?_)
      refine lv_icmp_ge (tgt := 83) hx hb dX1_flatten_9 (by decide) (fun c_5 => ?_) (fun c_5 => ?_)
      · replace hf := ww_ip hf c_5
        replace hf := ww_xK hf hz_1
        exact hend dX1_flatten_83 hf hR hS
      · replace hf := ww_in hf c_5
        refine lv_aload_n hx hb dX1_flatten_12 rfl (lv_at hl 1 rfl) ?_
        obtain ⟨r_6, h_6, hq⟩ := ww_bS hf; replace hf := hq; clear hq
        refine c1i_isLeaf X hl.1 hK hR hS (by omega) (by omega) (Nat.zero_le _) (Nat.zero_le _) h_6 (cw_rest (Nat.le_of_ble_eq_true rfl)) dX1_flatten_13 (fun H locs hR hS => ?_)
        refine lv_if_eq (tgt := 66) hx hb dX1_flatten_18 (by decide) (fun c_7 => ?_) (fun c_7 => ?_)
        · replace hf := ww_ip hf c_7
          refine lv_aload_n hx hb dX1_flatten_66 rfl (lv_at hl 0 rfl) ?_
          refine lv_aload_n hx hb dX1_flatten_67 rfl (lv_at hl 1 rfl) ?_
          refine lv_iload_n hx hb dX1_flatten_68 rfl (lv_at hl 2 rfl) ?_
          obtain ⟨r_8, h_8, hq⟩ := ww_bS hf; replace hf := hq; clear hq
          refine c1i_kid X hl.1 hK hR hS (by omega) (by omega) (Nat.zero_le _) (Nat.zero_le _) h_8 (cw_rest (Nat.le_of_ble_eq_true rfl)) dX1_flatten_69 (fun H locs hR hS => ?_)
          obtain ⟨D_9, h_9, hq⟩ := ww_bS hf; replace hf := hq; clear hq
          refine c1k_1_flatten (x1 := r_8) X hl.1 hK hR hS (by omega) (by omega) (Nat.zero_le _) (Nat.zero_le _) (ih _ _ _ h_9) (cw_rest (Nat.le_of_ble_eq_true rfl)) dX1_flatten_74 (fun H locs hR hS => ?_)
          refine lv_iinc (k := 2) (v := x2 + (1 : Int32)) (lv' := [(2, .int (x2 + (1 : Int32))), (0, .ref E.1.1), (1, .ref a_2)]) hx hb dX1_flatten_77 hl rfl rfl (by decide) rfl (fun ls hl => ?_)
          refine lv_goto (tgt := 2) hx hb dX1_flatten_80 (by decide) ?_
          exact ww_lK hf hz_1 _ _ _ hR hS (lv_sub hl [1, 2, 0] rfl)
        · replace hf := ww_in hf c_7
          refine lv_aload_n hx hb dX1_flatten_21 rfl (lv_at hl 0 rfl) ?_
          refine c1g_97 X hK hR dX1_flatten_22 ?_
          refine lv_aload_n hx hb dX1_flatten_25 rfl (lv_at hl 0 rfl) ?_
          refine c1g_317 X hK hR dX1_flatten_26 ?_
          refine lv_aload_n hx hb dX1_flatten_29 rfl (lv_at hl 1 rfl) ?_
          refine lv_iload_n hx hb dX1_flatten_30 rfl (lv_at hl 2 rfl) ?_
          obtain ⟨r_10, h_10, hq⟩ := ww_bS hf; replace hf := hq; clear hq
          refine c1i_keyAt X hl.1 hK hR hS (by omega) (by omega) (Nat.zero_le _) (Nat.zero_le _) h_10 (cw_rest (Nat.le_of_ble_eq_true rfl)) dX1_flatten_31 (fun H locs hR hS => ?_)
          obtain ⟨h_11, hq⟩ := ww_gS hf; replace hf := hq; clear hq
          refine c1s_29 X hK hR hS h_11 dX1_flatten_36 (fun H locs hR hS => ?_)
          refine lv_aload_n hx hb dX1_flatten_37 rfl (lv_at hl 0 rfl) ?_
          refine c1g_100 X hK hR dX1_flatten_38 ?_
          refine lv_aload_n hx hb dX1_flatten_41 rfl (lv_at hl 0 rfl) ?_
          refine c1g_317 X hK hR dX1_flatten_42 ?_
          refine lv_aload_n hx hb dX1_flatten_45 rfl (lv_at hl 1 rfl) ?_
          refine lv_iload_n hx hb dX1_flatten_46 rfl (lv_at hl 2 rfl) ?_
          obtain ⟨r_12, h_12, hq⟩ := ww_bS hf; replace hf := hq; clear hq
          refine c1i_valueAt X hl.1 hK hR hS (by omega) (by omega) (Nat.zero_le _) (Nat.zero_le _) h_12 (cw_rest (Nat.le_of_ble_eq_true rfl)) dX1_flatten_47 (fun H locs hR hS => ?_)
          obtain ⟨h_13, hq⟩ := ww_gS hf; replace hf := hq; clear hq
          refine c1s_30 X hK hR hS h_13 dX1_flatten_52 (fun H locs hR hS => ?_)
          refine lv_aload_n hx hb dX1_flatten_53 rfl (lv_at hl 0 rfl) ?_
          refine lv_dup hx hb dX1_flatten_54 rfl ?_
          refine c1g_317 X hK hR dX1_flatten_55 ?_
          refine lv_iconst (v := (1 : Int32)) hx hb dX1_flatten_58 (by decide) ?_
          refine lv_iadd hx hb dX1_flatten_59 ?_
          refine c1p_317 X hK hR hS dX1_flatten_60 (fun H locs hR hS => ?_)
          refine lv_goto (tgt := 77) hx hb dX1_flatten_63 (by decide) ?_
          refine lv_iinc (k := 2) (v := x2 + (1 : Int32)) (lv' := [(2, .int (x2 + (1 : Int32))), (0, .ref E.1.1), (1, .ref a_2)]) hx hb dX1_flatten_77 hl rfl rfl (by decide) rfl (fun ls hl => ?_)
          refine lv_goto (tgt := 2) hx hb dX1_flatten_80 (by decide) ?_
          exact ww_lK hf hz_1 _ _ _ hR hS (lv_sub hl [1, 2, 0] rfl)
    exact hL_1 (D, (0 : Int32)) hf _ _ _ hR hS (lv_sub hl [1, 2, 0] rfl)
section C_1_flatten_c
variable {p : Program} {l : Launch} {e : Env} {R : Room} {s : State} {m : MethodId} {args : Array Value} {below : List Frame} {meth : Method} {c : Code} {H : Heap} {locs : List Loc} {cells slots : Nat} {Q : State → Prop}
variable {cc : ByteArray} {pc : Nat} {ls : Array Slot} {rest : List Value} {nL : Nat} {E : cw_E} {A : Nat → Prop} {H0 : Heap}
theorem c1c_1_flatten {D : cw_D} {x1 : Option Nat} {D' : cw_D} (X : ww_C p m c cc nL s args RX1 lw_all) (hsz : ls.size = nL) (hK : cw_K E A s) (hR : cw_H E A D H) (hS : va_S A s.heap H locs) (hF : 20 ≤ R.frames) (hLo : 419 ≤ R.locals) (hc : cells ≤ R.cells) (hs : slots ≤ R.slots) (hf : f1_flatten 8 D x1 = some D') (hrest : (rest.map fun v => v.category).sum ≤ 8) (hdg : decode cc pc = .ok (.invokevirtual 320, 3)) (kk : ∀ (H1 : Heap) (locs1 : List Loc), cw_H E A D' H1 → va_S A s.heap H1 locs1 → W p l e R s m args below meth c H1 locs1 cells slots Q (F0 m (pc + 3) ls (rest))) : W p l e R s m args below meth c H locs cells slots Q (F0 m pc ls (va_rf x1 :: .ref E.1.1 :: rest)) :=
  c1k_1_flatten (d := 8) X hsz hK hR hS hF hLo hc hs (met1_flatten l 8 _ _ _ hf) hrest hdg kk
end C_1_flatten_c
noncomputable def f1_flat (D : cw_D) (x1 : Option Nat) : Option (Int32 × cw_D) :=
  ww_b (f1_flatten 8 (cw_sF D 31 (0 : Int32)) x1) (fun D_1 => some ((ww_F D_1.1 31), D_1))
section C_1_flat_k
variable {p : Program} {l : Launch} {e : Env} {R : Room} {s : State} {m : MethodId} {args : Array Value} {below : List Frame} {meth : Method} {c : Code} {H : Heap} {locs : List Loc} {cells slots : Nat} {Q : State → Prop}
variable {cc : ByteArray} {pc : Nat} {ls : Array Slot} {rest : List Value} {nL : Nat} {E : cw_E} {A : Nat → Prop} {H0 : Heap}
theorem c1k_1_flat {D : cw_D} {x1 : Option Nat} {r : Int32} {D' : cw_D} (X : ww_C p m c cc nL s args RX1 lw_all) (hsz : ls.size = nL) (hK : cw_K E A s) (hR : cw_H E A D H) (hS : va_S A s.heap H locs) (hF : 21 ≤ R.frames) (hLo : 440 ≤ R.locals) (hc : cells ≤ R.cells) (hs : slots ≤ R.slots) (hM : cw_MetI l yX1_flat cX1_flat 2 (some Jvm.ClassFile.FieldType.int) 20 419 E A [.ref E.1.1, va_rf x1] D D' r 0 0) (hrest : (rest.map fun v => v.category).sum ≤ 8) (hdg : decode cc pc = .ok (.invokevirtual 324, 3)) (kk : ∀ (H1 : Heap) (locs1 : List Loc), cw_H E A D' H1 → va_S A s.heap H1 locs1 → W p l e R s m args below meth c H1 locs1 cells slots Q (F0 m (pc + 3) ls (.int r :: rest))) : W p l e R s m args below meth c H locs cells slots Q (F0 m pc ls (va_rf x1 :: .ref E.1.1 :: rest)) :=
  va_calli (va_runV (C := RX1) (As := [va_rf x1]) (rest := rest) (b := E.1.1) X hM (cwV 1 X.2.2.2.2 (lw_V q1157 q1159 qs28 q131 q1160) rfl rfl rfl (by decide +kernel) ⟨hF, hLo⟩) (cw_pV hK hR hS (cw_rcM hK hR)) rfl rfl hsz rfl (lv_room hrest) hdg ⟨hc, hs⟩) hS (fun q _ h => h) (fun q h => h) (fun r' u t H1 locs1 ht hvm hw hB hz1 hk1 hS1 => by subst hw; rw [ht] at hB; exact kk H1 locs1 hB hS1)
end C_1_flat_k
set_option maxHeartbeats 4000000 in
set_option maxRecDepth 100000 in
theorem met1_flat (l : Launch) {E : cw_E} {A : Nat → Prop} (D : cw_D) (x1 : Option Nat) (r : Int32) (D' : cw_D) (hf : f1_flat D x1 = some (r, D')) : cw_MetI l yX1_flat cX1_flat 2 (some Jvm.ClassFile.FieldType.int) 20 419 E A [.ref E.1.1, va_rf x1] D D' r 0 0 := by
  unfold f1_flat at hf
  refine cw_sID (own := RX1) (by decide +kernel) [(0, .ref E.1.1), (1, va_rf x1)] ⟨by cases x1 <;> exact Nat.le_of_ble_eq_true rfl, by cases x1 <;> rfl⟩ ?_
  intro p e s m args below meth c Rm Q X hK hF hLo hin hend ls hl hR hS
  obtain ⟨hx, hb, hml, hown, hts⟩ := id X
  refine lv_aload_n hx hb dX1_flat_0 rfl (lv_at hl 0 rfl) ?_
  refine lv_iconst (v := (0 : Int32)) hx hb dX1_flat_1 (by decide) ?_
  refine c1p_317 X hK hR hS dX1_flat_2 (fun H locs hR hS => ?_)
  refine lv_aload_n hx hb dX1_flat_5 rfl (lv_at hl 0 rfl) ?_
  refine cw_aload_n (x := x1) hx hb dX1_flat_6 rfl (lv_at hl 1 rfl) ?_
  obtain ⟨D_1, h_1, hq⟩ := ww_bS hf; replace hf := hq; clear hq
  refine c1c_1_flatten (x1 := x1) X hl.1 hK hR hS (Nat.le_trans (Nat.le_of_ble_eq_true rfl) hF) (Nat.le_trans (Nat.le_of_ble_eq_true rfl) hLo) (Nat.zero_le _) (Nat.zero_le _) h_1 (cw_rest (Nat.le_of_ble_eq_true rfl)) dX1_flat_7 (fun H locs hR hS => ?_)
  refine lv_aload_n hx hb dX1_flat_10 rfl (lv_at hl 0 rfl) ?_
  refine c1g_317 X hK hR dX1_flat_11 ?_
  exact hend dX1_flat_14 rfl rfl hf hR hS
section C_1_flat_c
variable {p : Program} {l : Launch} {e : Env} {R : Room} {s : State} {m : MethodId} {args : Array Value} {below : List Frame} {meth : Method} {c : Code} {H : Heap} {locs : List Loc} {cells slots : Nat} {Q : State → Prop}
variable {cc : ByteArray} {pc : Nat} {ls : Array Slot} {rest : List Value} {nL : Nat} {E : cw_E} {A : Nat → Prop} {H0 : Heap}
theorem c1c_1_flat {D : cw_D} {x1 : Option Nat} {r : Int32} {D' : cw_D} (X : ww_C p m c cc nL s args RX1 lw_all) (hsz : ls.size = nL) (hK : cw_K E A s) (hR : cw_H E A D H) (hS : va_S A s.heap H locs) (hF : 21 ≤ R.frames) (hLo : 440 ≤ R.locals) (hc : cells ≤ R.cells) (hs : slots ≤ R.slots) (hf : f1_flat D x1 = some (r, D')) (hrest : (rest.map fun v => v.category).sum ≤ 8) (hdg : decode cc pc = .ok (.invokevirtual 324, 3)) (kk : ∀ (H1 : Heap) (locs1 : List Loc), cw_H E A D' H1 → va_S A s.heap H1 locs1 → W p l e R s m args below meth c H1 locs1 cells slots Q (F0 m (pc + 3) ls (.int r :: rest))) : W p l e R s m args below meth c H locs cells slots Q (F0 m pc ls (va_rf x1 :: .ref E.1.1 :: rest)) :=
  c1k_1_flat X hsz hK hR hS hF hLo hc hs (met1_flat l _ _ _ _ hf) hrest hdg kk
end C_1_flat_c
noncomputable def f1_totalOf_b1c (D : cw_D) (y2 : Int32) (y3 : Int32) (y4 : Int32) (x5 : Int32) (x6 : Int32) : Option ((Int32 × Int32) ⊕ (Int32 × cw_D)) :=
  if y4 ≤ x6 then ww_x (some (x5, D)) else ww_g (ww_i x6 120) (ww_b (f1_in (ww_X D.1 29 x6) y2 y3) (fun r_4 => if r_4 = 0 then some (.inl (x5, (x6 + (1 : Int32)))) else ww_g (ww_i x6 120) (some (.inl ((x5 + (ww_X D.1 30 x6)), (x6 + (1 : Int32)))))))
noncomputable def f1_totalOf_b1 (D : cw_D) (y2 : Int32) (y3 : Int32) (y4 : Int32) : (Int32 × Int32) → Option ((Int32 × Int32) ⊕ (Int32 × cw_D)) := fun s9 => f1_totalOf_b1c D y2 y3 y4 s9.1 s9.2
noncomputable def f1_totalOf (D : cw_D) (x1 : Option Nat) (x2 : Int32) (x3 : Int32) : Option (Int32 × cw_D) :=
  ww_b2 (f1_flat D x1) (fun r_1 D_1 => ww_U (f1_totalOf_b1 D_1 x2 x3 r_1) ((0 : Int32), (0 : Int32)))
section C_1_totalOf_k
variable {p : Program} {l : Launch} {e : Env} {R : Room} {s : State} {m : MethodId} {args : Array Value} {below : List Frame} {meth : Method} {c : Code} {H : Heap} {locs : List Loc} {cells slots : Nat} {Q : State → Prop}
variable {cc : ByteArray} {pc : Nat} {ls : Array Slot} {rest : List Value} {nL : Nat} {E : cw_E} {A : Nat → Prop} {H0 : Heap}
theorem c1k_1_totalOf {D : cw_D} {x1 : Option Nat} {x2 : Int32} {x3 : Int32} {r : Int32} {D' : cw_D} (X : ww_C p m c cc nL s args RX1 lw_all) (hsz : ls.size = nL) (hK : cw_K E A s) (hR : cw_H E A D H) (hS : va_S A s.heap H locs) (hF : 22 ≤ R.frames) (hLo : 466 ≤ R.locals) (hc : cells ≤ R.cells) (hs : slots ≤ R.slots) (hM : cw_MetI l yX1_totalOf cX1_totalOf 7 (some Jvm.ClassFile.FieldType.int) 21 440 E A [.ref E.1.1, va_rf x1, .int x2, .int x3] D D' r 0 0) (hrest : (rest.map fun v => v.category).sum ≤ 8) (hdg : decode cc pc = .ok (.invokevirtual 345, 3)) (kk : ∀ (H1 : Heap) (locs1 : List Loc), cw_H E A D' H1 → va_S A s.heap H1 locs1 → W p l e R s m args below meth c H1 locs1 cells slots Q (F0 m (pc + 3) ls (.int r :: rest))) : W p l e R s m args below meth c H locs cells slots Q (F0 m pc ls (.int x3 :: .int x2 :: va_rf x1 :: .ref E.1.1 :: rest)) :=
  va_calli (va_runV (C := RX1) (As := [va_rf x1, .int x2, .int x3]) (rest := rest) (b := E.1.1) X hM (cwV 3 X.2.2.2.2 (lw_V q1153 q1155 qs27 q131 q1156) rfl rfl rfl (by decide +kernel) ⟨hF, hLo⟩) (cw_pV hK hR hS (cw_rcM hK hR)) rfl rfl hsz rfl (lv_room hrest) hdg ⟨hc, hs⟩) hS (fun q _ h => h) (fun q h => h) (fun r' u t H1 locs1 ht hvm hw hB hz1 hk1 hS1 => by subst hw; rw [ht] at hB; exact kk H1 locs1 hB hS1)
end C_1_totalOf_k
set_option maxHeartbeats 4000000 in
set_option maxRecDepth 100000 in
theorem met1_totalOf (l : Launch) {E : cw_E} {A : Nat → Prop} (D : cw_D) (x1 : Option Nat) (x2 : Int32) (x3 : Int32) (r : Int32) (D' : cw_D) (hf : f1_totalOf D x1 x2 x3 = some (r, D')) : cw_MetI l yX1_totalOf cX1_totalOf 7 (some Jvm.ClassFile.FieldType.int) 21 440 E A [.ref E.1.1, va_rf x1, .int x2, .int x3] D D' r 0 0 := by
  unfold f1_totalOf at hf
  refine cw_sID (own := RX1) (by decide +kernel) [(0, .ref E.1.1), (1, va_rf x1), (2, .int x2), (3, .int x3)] ⟨by cases x1 <;> exact Nat.le_of_ble_eq_true rfl, by cases x1 <;> rfl⟩ ?_
  intro p e s m args below meth c Rm Q X hK hF hLo hin hend ls hl hR hS
  obtain ⟨hx, hb, hml, hown, hts⟩ := id X
  refine lv_aload_n hx hb dX1_totalOf_0 rfl (lv_at hl 0 rfl) ?_
  refine cw_aload_n (x := x1) hx hb dX1_totalOf_1 rfl (lv_at hl 1 rfl) ?_
  obtain ⟨r_1, D_1, h_1, hq⟩ := ww_b2S hf; replace hf := hq; clear hq
  refine c1c_1_flat (x1 := x1) X hl.1 hK hR hS (Nat.le_trans (Nat.le_of_ble_eq_true rfl) hF) (Nat.le_trans (Nat.le_of_ble_eq_true rfl) hLo) (Nat.zero_le _) (Nat.zero_le _) h_1 (cw_rest (Nat.le_of_ble_eq_true rfl)) dX1_totalOf_2 (fun H locs hR hS => ?_)
  refine lv_istore (lv' := [(4, .int r_1), (0, .ref E.1.1), (1, va_rf x1), (2, .int x2), (3, .int x3)]) hx hb dX1_totalOf_5 hl (by decide) rfl (fun ls hl => ?_)
  refine lv_iconst (v := (0 : Int32)) hx hb dX1_totalOf_7 (by decide) ?_
  refine lv_istore (lv' := [(5, .int (0 : Int32)), (4, .int r_1), (0, .ref E.1.1), (1, va_rf x1), (2, .int x2), (3, .int x3)]) hx hb dX1_totalOf_8 hl (by decide) rfl (fun ls hl => ?_)
  refine lv_iconst (v := (0 : Int32)) hx hb dX1_totalOf_10 (by decide) ?_
  refine lv_istore (lv' := [(6, .int (0 : Int32)), (5, .int (0 : Int32)), (4, .int r_1), (0, .ref E.1.1), (1, va_rf x1), (2, .int x2), (3, .int x3)]) hx hb dX1_totalOf_11 hl (by decide) rfl (fun ls hl => ?_)
  have hL_1 : ∀ s9 : Int32 × Int32, ww_U (f1_totalOf_b1 D_1 x2 x3 r_1) s9 = some (r, D') → ∀ (H : Heap) (locs : List Loc) (ls : Array Slot), cw_H E A D_1 H → va_S A s.heap H locs → lv_has ls 7 [(0, .ref E.1.1), (2, .int x2), (3, .int x3), (4, .int r_1), (5, .int s9.1), (6, .int s9.2)] → W p l e Rm s m args below meth c H locs 0 0 Q (F0 m 13 ls []) := by
    clear hf
    refine ww_ind _ (r, D') ?_
    intro s9 z_1 hf hz_1
    obtain ⟨x5, x6⟩ := s9
    replace hf : f1_totalOf_b1c D_1 x2 x3 r_1 x5 x6 = some z_1 := hf
    unfold f1_totalOf_b1c at hf
    try clear hl
    try clear hS
    try clear hR
    intro H locs ls hR hS hl
    replace hl : lv_has ls 7 [(0, .ref E.1.1), (2, .int x2), (3, .int x3), (4, .int r_1), (5, .int x5), (6, .int x6)] := hl
    refine lv_iload hx hb dX1_totalOf_13 (lv_at hl 5 rfl) ?_
    refine lv_iload hx hb dX1_totalOf_15 (lv_at hl 3 rfl) ?_
    refine lv_icmp_ge (tgt := 53) hx hb dX1_totalOf_17 (by decide) (fun c_2 => ?_) (fun c_2 => ?_)
    · replace hf := ww_ip hf c_2
      replace hf := ww_xK hf hz_1
      refine lv_iload hx hb dX1_totalOf_53 (lv_at hl 4 rfl) ?_
      exact hend dX1_totalOf_55 rfl rfl hf hR hS
    · replace hf := ww_in hf c_2
      refine lv_aload_n hx hb dX1_totalOf_20 rfl (lv_at hl 0 rfl) ?_
      refine c1g_97 X hK hR dX1_totalOf_21 ?_
      refine lv_iload hx hb dX1_totalOf_24 (lv_at hl 5 rfl) ?_
      obtain ⟨h_3, hq⟩ := ww_gS hf; replace hf := hq; clear hq
      refine c1l_29 X hK hR h_3 dX1_totalOf_26 ?_
      refine lv_iload_n hx hb dX1_totalOf_27 rfl (lv_at hl 1 rfl) ?_
      refine lv_iload_n hx hb dX1_totalOf_28 rfl (lv_at hl 2 rfl) ?_
      obtain ⟨r_4, h_4, hq⟩ := ww_bS hf; replace hf := hq; clear hq
      refine c1c_1_in X hl.1 (Nat.le_trans (Nat.le_of_ble_eq_true rfl) hF) (Nat.le_trans (Nat.le_of_ble_eq_true rfl) hLo) (Nat.zero_le _) (Nat.zero_le _) h_4 (cw_rest (Nat.le_of_ble_eq_true rfl)) dX1_totalOf_29 ?_
      refine lv_if_eq (tgt := 47) hx hb dX1_totalOf_32 (by decide) (fun c_5 => ?_) (fun c_5 => ?_)
      · replace hf := ww_ip hf c_5
        refine lv_iinc (k := 5) (v := x6 + (1 : Int32)) (lv' := [(6, .int (x6 + (1 : Int32))), (0, .ref E.1.1), (2, .int x2), (3, .int x3), (4, .int r_1), (5, .int x5)]) hx hb dX1_totalOf_47 hl rfl rfl (by decide) rfl (fun ls hl => ?_)
        refine lv_goto (tgt := 13) hx hb dX1_totalOf_50 (by decide) ?_
        exact ww_lK hf hz_1 _ _ _ hR hS (lv_sub hl [1, 2, 3, 4, 5, 0] rfl)
      · replace hf := ww_in hf c_5
        refine lv_iload hx hb dX1_totalOf_35 (lv_at hl 4 rfl) ?_
        refine lv_aload_n hx hb dX1_totalOf_37 rfl (lv_at hl 0 rfl) ?_
        refine c1g_100 X hK hR dX1_totalOf_38 ?_
        refine lv_iload hx hb dX1_totalOf_41 (lv_at hl 5 rfl) ?_
        obtain ⟨h_6, hq⟩ := ww_gS hf; replace hf := hq; clear hq
        refine c1l_30 X hK hR h_6 dX1_totalOf_43 ?_
        refine lv_iadd hx hb dX1_totalOf_44 ?_
        refine lv_istore (lv' := [(5, .int (x5 + (ww_X D_1.1 30 x6))), (0, .ref E.1.1), (2, .int x2), (3, .int x3), (4, .int r_1), (6, .int x6)]) hx hb dX1_totalOf_45 hl (by decide) rfl (fun ls hl => ?_)
        refine lv_iinc (k := 5) (v := x6 + (1 : Int32)) (lv' := [(6, .int (x6 + (1 : Int32))), (5, .int (x5 + (ww_X D_1.1 30 x6))), (0, .ref E.1.1), (2, .int x2), (3, .int x3), (4, .int r_1)]) hx hb dX1_totalOf_47 hl rfl rfl (by decide) rfl (fun ls hl => ?_)
        refine lv_goto (tgt := 13) hx hb dX1_totalOf_50 (by decide) ?_
        exact ww_lK hf hz_1 _ _ _ hR hS (lv_sub hl [2, 3, 4, 5, 1, 0] rfl)
  exact hL_1 ((0 : Int32), (0 : Int32)) hf _ _ _ hR hS (lv_sub hl [3, 5, 6, 2, 1, 0] rfl)
section C_1_totalOf_c
variable {p : Program} {l : Launch} {e : Env} {R : Room} {s : State} {m : MethodId} {args : Array Value} {below : List Frame} {meth : Method} {c : Code} {H : Heap} {locs : List Loc} {cells slots : Nat} {Q : State → Prop}
variable {cc : ByteArray} {pc : Nat} {ls : Array Slot} {rest : List Value} {nL : Nat} {E : cw_E} {A : Nat → Prop} {H0 : Heap}
theorem c1c_1_totalOf {D : cw_D} {x1 : Option Nat} {x2 : Int32} {x3 : Int32} {r : Int32} {D' : cw_D} (X : ww_C p m c cc nL s args RX1 lw_all) (hsz : ls.size = nL) (hK : cw_K E A s) (hR : cw_H E A D H) (hS : va_S A s.heap H locs) (hF : 22 ≤ R.frames) (hLo : 466 ≤ R.locals) (hc : cells ≤ R.cells) (hs : slots ≤ R.slots) (hf : f1_totalOf D x1 x2 x3 = some (r, D')) (hrest : (rest.map fun v => v.category).sum ≤ 8) (hdg : decode cc pc = .ok (.invokevirtual 345, 3)) (kk : ∀ (H1 : Heap) (locs1 : List Loc), cw_H E A D' H1 → va_S A s.heap H1 locs1 → W p l e R s m args below meth c H1 locs1 cells slots Q (F0 m (pc + 3) ls (.int r :: rest))) : W p l e R s m args below meth c H locs cells slots Q (F0 m pc ls (.int x3 :: .int x2 :: va_rf x1 :: .ref E.1.1 :: rest)) :=
  c1k_1_totalOf X hsz hK hR hS hF hLo hc hs (met1_totalOf l _ _ _ _ _ _ hf) hrest hdg kk
end C_1_totalOf_c
noncomputable def f1_about (D : cw_D) (x1 : Int32) (x2 : Int32) : Option (Int32 × cw_D) :=
  ww_b (f1_isMap D x1) (fun r_1 => if r_1 = 0 then some ((-1000000 : Int32), D) else ww_b (f1_in x2 (0 : Int32) (6 : Int32)) (fun r_3 => if r_3 = 0 then some ((-1000000 : Int32), D) else ww_b (f1_rootOf D x1) (fun r_5 => if x2 = 0 then ww_b2 (f1_sizeOf D r_5) (fun r_7 D_7 => some (r_7, D_7)) else if x2 = 1 then ww_b r_5 (fun a_9 => ww_g (cw_kd D [1, 2] (some a_9)) (ww_b (f5_levels 8 D a_9) (fun r_11 => some (r_11, D)))) else if x2 = 2 then ww_b r_5 (fun a_13 => ww_g (cw_kd D [1, 2] (some a_13)) (ww_b2 (f5_counts 8 D a_13 (0 : Int32) (0 : Int32) none) (fun r_15 D_15 => some (r_15, D_15)))) else if x2 = 3 then ww_b r_5 (fun a_17 => ww_g (cw_kd D [1, 2] (some a_17)) (ww_b2 (f5_counts 8 D a_17 (1 : Int32) (0 : Int32) none) (fun r_19 D_19 => some (r_19, D_19)))) else if x2 = 4 then ww_b2 (f1_totalOf D r_5 (0 : Int32) (999 : Int32)) (fun r_21 D_21 => some (r_21, D_21)) else if x2 = 5 then ww_g (ww_i x1 999) (some ((ww_X D.1 21 x1), D)) else ww_g (ww_i x1 999) (some ((ww_X D.1 22 x1), D)))))
set_option maxHeartbeats 4000000 in
set_option maxRecDepth 100000 in
theorem met1_about (l : Launch) {E : cw_E} {A : Nat → Prop} (D : cw_D) (x1 : Int32) (x2 : Int32) (r : Int32) (D' : cw_D) (hf : f1_about D x1 x2 = some (r, D')) : cw_MetI l yX1_about cX1_about 4 (some Jvm.ClassFile.FieldType.int) 22 466 E A [.ref E.1.1, .int x1, .int x2] D D' r 0 0 := by
  unfold f1_about at hf
  refine cw_sID (own := RX1) (by decide +kernel) [(0, .ref E.1.1), (1, .int x1), (2, .int x2)] ⟨Nat.le_of_ble_eq_true rfl, rfl⟩ ?_
  intro p e s m args below meth c Rm Q X hK hF hLo hin hend ls hl hR hS
  obtain ⟨hx, hb, hml, hown, hts⟩ := id X
  refine lv_aload_n hx hb dX1_about_0 rfl (lv_at hl 0 rfl) ?_
  refine lv_iload_n hx hb dX1_about_1 rfl (lv_at hl 1 rfl) ?_
  obtain ⟨r_1, h_1, hq⟩ := ww_bS hf; replace hf := hq; clear hq
  refine c1c_1_isMap X hl.1 hK hR hS (Nat.le_trans (Nat.le_of_ble_eq_true rfl) hF) (Nat.le_trans (Nat.le_of_ble_eq_true rfl) hLo) (Nat.zero_le _) (Nat.zero_le _) h_1 (cw_rest (Nat.le_of_ble_eq_true rfl)) dX1_about_2 (fun H locs hR hS => ?_)
  refine lv_if_eq (tgt := 18) hx hb dX1_about_5 (by decide) (fun c_2 => ?_) (fun c_2 => ?_)
  · replace hf := ww_ip hf c_2
    refine lv_ldc (v := (-1000000 : Int32)) hx hb hown (hts _ q420) dX1_about_18 ?_
    exact hend dX1_about_20 rfl rfl hf hR hS
  · replace hf := ww_in hf c_2
    refine lv_iload_n hx hb dX1_about_8 rfl (lv_at hl 2 rfl) ?_
    refine lv_iconst (v := (0 : Int32)) hx hb dX1_about_9 (by decide) ?_
    refine lv_bipush (v := (6 : Int32)) hx hb dX1_about_10 (by decide) ?_
    obtain ⟨r_3, h_3, hq⟩ := ww_bS hf; replace hf := hq; clear hq
    refine c1c_1_in X hl.1 (Nat.le_trans (Nat.le_of_ble_eq_true rfl) hF) (Nat.le_trans (Nat.le_of_ble_eq_true rfl) hLo) (Nat.zero_le _) (Nat.zero_le _) h_3 (cw_rest (Nat.le_of_ble_eq_true rfl)) dX1_about_12 ?_
    refine lv_if_ne (tgt := 21) hx hb dX1_about_15 (by decide) (fun c_4 => ?_) (fun c_4 => ?_)
    · replace hf := ww_in hf c_4
      refine lv_aload_n hx hb dX1_about_21 rfl (lv_at hl 0 rfl) ?_
      refine lv_iload_n hx hb dX1_about_22 rfl (lv_at hl 1 rfl) ?_
      obtain ⟨r_5, h_5, hq⟩ := ww_bS hf; replace hf := hq; clear hq
      refine c1c_1_rootOf X hl.1 hK hR hS (Nat.le_trans (Nat.le_of_ble_eq_true rfl) hF) (Nat.le_trans (Nat.le_of_ble_eq_true rfl) hLo) (Nat.zero_le _) (Nat.zero_le _) h_5 (cw_rest (Nat.le_of_ble_eq_true rfl)) dX1_about_23 (fun H locs hR hS => ?_)
      refine cw_astore_n (x := r_5) (lv' := [(3, va_rf r_5), (0, .ref E.1.1), (1, .int x1), (2, .int x2)]) hx hb dX1_about_26 rfl hl (by decide) rfl (fun ls hl => ?_)
      refine lv_iload_n hx hb dX1_about_27 rfl (lv_at hl 3 rfl) ?_
      refine ww_by (x2 = 0) (fun c_6 => ?_) (fun c_6 => ?_)
      · replace hf := ww_ip hf c_6
        refine ww_tin (k := 0) (off := 40) (tgt := 68) hx hb dX1_about_28 c_6 (by decide) (by decide) (by decide) (by decide) ?_
        refine cw_aload_n (x := r_5) hx hb dX1_about_68 rfl (lv_at hl 0 rfl) ?_
        obtain ⟨r_7, D_7, h_7, hq⟩ := ww_b2S hf; replace hf := hq; clear hq
        refine c1c_1_sizeOf (x0 := r_5) X hl.1 hK hR hS (Nat.le_trans (Nat.le_of_ble_eq_true rfl) hF) (Nat.le_trans (Nat.le_of_ble_eq_true rfl) hLo) (Nat.zero_le _) (Nat.zero_le _) h_7 (cw_rest (Nat.le_of_ble_eq_true rfl)) dX1_about_69 (fun H locs hR hS => ?_)
        refine lv_goto (tgt := 135) hx hb dX1_about_72 (by decide) ?_
        exact hend dX1_about_135 rfl rfl hf hR hS
      replace hf := ww_in hf c_6
      refine ww_by (x2 = 1) (fun c_8 => ?_) (fun c_8 => ?_)
      · replace hf := ww_ip hf c_8
        refine ww_tin (k := 1) (off := 47) (tgt := 75) hx hb dX1_about_28 c_8 (by decide) (by decide) (by decide) (by decide) ?_
        refine cw_aload_n (x := r_5) hx hb dX1_about_75 rfl (lv_at hl 0 rfl) ?_
        obtain ⟨a_9, e_9, hq⟩ := ww_bS hf; replace hf := hq; clear hq
        subst e_9
        obtain ⟨h_10, hq⟩ := ww_gS hf; replace hf := hq; clear hq
        obtain ⟨r_11, h_11, hq⟩ := ww_bS hf; replace hf := hq; clear hq
        refine c1i_levels X hl.1 hK hR hS (Nat.le_trans (Nat.le_of_ble_eq_true rfl) hF) (Nat.le_trans (Nat.le_of_ble_eq_true rfl) hLo) (Nat.zero_le _) (Nat.zero_le _) h_10 h_11 (cw_rest (Nat.le_of_ble_eq_true rfl)) dX1_about_76 (fun H locs hR hS => ?_)
        refine lv_goto (tgt := 135) hx hb dX1_about_81 (by decide) ?_
        exact hend dX1_about_135 rfl rfl hf hR hS
      replace hf := ww_in hf c_8
      refine ww_by (x2 = 2) (fun c_12 => ?_) (fun c_12 => ?_)
      · replace hf := ww_ip hf c_12
        refine ww_tin (k := 2) (off := 56) (tgt := 84) hx hb dX1_about_28 c_12 (by decide) (by decide) (by decide) (by decide) ?_
        refine cw_aload_n (x := r_5) hx hb dX1_about_84 rfl (lv_at hl 0 rfl) ?_
        refine lv_iconst (v := (0 : Int32)) hx hb dX1_about_85 (by decide) ?_
        refine lv_iconst (v := (0 : Int32)) hx hb dX1_about_86 (by decide) ?_
        refine lv_null hx hb dX1_about_87 ?_
        obtain ⟨a_13, e_13, hq⟩ := ww_bS hf; replace hf := hq; clear hq
        subst e_13
        obtain ⟨h_14, hq⟩ := ww_gS hf; replace hf := hq; clear hq
        obtain ⟨r_15, D_15, h_15, hq⟩ := ww_b2S hf; replace hf := hq; clear hq
        refine c1i_counts (x3 := none) X hl.1 hK hR hS (Nat.le_trans (Nat.le_of_ble_eq_true rfl) hF) (Nat.le_trans (Nat.le_of_ble_eq_true rfl) hLo) (Nat.zero_le _) (Nat.zero_le _) h_14 h_15 (cw_rest (Nat.le_of_ble_eq_true rfl)) dX1_about_88 (fun H locs hR hS => ?_)
        refine lv_goto (tgt := 135) hx hb dX1_about_93 (by decide) ?_
        exact hend dX1_about_135 rfl rfl hf hR hS
      replace hf := ww_in hf c_12
      refine ww_by (x2 = 3) (fun c_16 => ?_) (fun c_16 => ?_)
      · replace hf := ww_ip hf c_16
        refine ww_tin (k := 3) (off := 68) (tgt := 96) hx hb dX1_about_28 c_16 (by decide) (by decide) (by decide) (by decide) ?_
        refine cw_aload_n (x := r_5) hx hb dX1_about_96 rfl (lv_at hl 0 rfl) ?_
        refine lv_iconst (v := (1 : Int32)) hx hb dX1_about_97 (by decide) ?_
        refine lv_iconst (v := (0 : Int32)) hx hb dX1_about_98 (by decide) ?_
        refine lv_null hx hb dX1_about_99 ?_
        obtain ⟨a_17, e_17, hq⟩ := ww_bS hf; replace hf := hq; clear hq
        subst e_17
        obtain ⟨h_18, hq⟩ := ww_gS hf; replace hf := hq; clear hq
        obtain ⟨r_19, D_19, h_19, hq⟩ := ww_b2S hf; replace hf := hq; clear hq
        refine c1i_counts (x3 := none) X hl.1 hK hR hS (Nat.le_trans (Nat.le_of_ble_eq_true rfl) hF) (Nat.le_trans (Nat.le_of_ble_eq_true rfl) hLo) (Nat.zero_le _) (Nat.zero_le _) h_18 h_19 (cw_rest (Nat.le_of_ble_eq_true rfl)) dX1_about_100 (fun H locs hR hS => ?_)
        refine lv_goto (tgt := 135) hx hb dX1_about_105 (by decide) ?_
        exact hend dX1_about_135 rfl rfl hf hR hS
      replace hf := ww_in hf c_16
      refine ww_by (x2 = 4) (fun c_20 => ?_) (fun c_20 => ?_)
      · replace hf := ww_ip hf c_20
        refine ww_tin (k := 4) (off := 80) (tgt := 108) hx hb dX1_about_28 c_20 (by decide) (by decide) (by decide) (by decide) ?_
        refine lv_aload_n hx hb dX1_about_108 rfl (lv_at hl 1 rfl) ?_
        refine cw_aload_n (x := r_5) hx hb dX1_about_109 rfl (lv_at hl 0 rfl) ?_
        refine lv_iconst (v := (0 : Int32)) hx hb dX1_about_110 (by decide) ?_
        refine lv_sipush (v := (999 : Int32)) hx hb dX1_about_111 (by decide) ?_
        obtain ⟨r_21, D_21, h_21, hq⟩ := ww_b2S hf; replace hf := hq; clear hq
        refine c1c_1_totalOf (x1 := r_5) X hl.1 hK hR hS (Nat.le_trans (Nat.le_of_ble_eq_true rfl) hF) (Nat.le_trans (Nat.le_of_ble_eq_true rfl) hLo) (Nat.zero_le _) (Nat.zero_le _) h_21 (cw_rest (Nat.le_of_ble_eq_true rfl)) dX1_about_114 (fun H locs hR hS => ?_)
        refine lv_goto (tgt := 135) hx hb dX1_about_117 (by decide) ?_
        exact hend dX1_about_135 rfl rfl hf hR hS
      replace hf := ww_in hf c_20
      refine ww_by (x2 = 5) (fun c_22 => ?_) (fun c_22 => ?_)
      · replace hf := ww_ip hf c_22
        refine ww_tin (k := 5) (off := 92) (tgt := 120) hx hb dX1_about_28 c_22 (by decide) (by decide) (by decide) (by decide) ?_
        refine lv_aload_n hx hb dX1_about_120 rfl (lv_at hl 1 rfl) ?_
        refine c1g_76 X hK hR dX1_about_121 ?_
        refine lv_iload_n hx hb dX1_about_124 rfl (lv_at hl 2 rfl) ?_
        obtain ⟨h_23, hq⟩ := ww_gS hf; replace hf := hq; clear hq
        refine c1l_21 X hK hR h_23 dX1_about_125 ?_
        refine lv_goto (tgt := 135) hx hb dX1_about_126 (by decide) ?_
        exact hend dX1_about_135 rfl rfl hf hR hS
      replace hf := ww_in hf c_22
      refine ww_tout (tgt := 129) [0, 1, 2, 3, 4, 5] hx hb dX1_about_28 ⟨c_6, c_8, c_12, c_16, c_20, c_22, trivial⟩ (by decide) (by decide) ?_
      refine lv_aload_n hx hb dX1_about_129 rfl (lv_at hl 1 rfl) ?_
      refine c1g_79 X hK hR dX1_about_130 ?_
      refine lv_iload_n hx hb dX1_about_133 rfl (lv_at hl 2 rfl) ?_
      obtain ⟨h_24, hq⟩ := ww_gS hf; replace hf := hq; clear hq
      refine c1l_22 X hK hR h_24 dX1_about_134 ?_
      exact hend dX1_about_135 rfl rfl hf hR hS
    · replace hf := ww_ip hf c_4
      refine lv_ldc (v := (-1000000 : Int32)) hx hb hown (hts _ q420) dX1_about_18 ?_
      exact hend dX1_about_20 rfl rfl hf hR hS
noncomputable def f1_below_b1c (D : cw_D) (y2 : Int32) (y3 : Int32) (x4 : Int32) : Option ((Int32) ⊕ (Int32 × cw_D)) :=
  if y3 ≤ x4 then ww_x (some (x4, D)) else ww_g (ww_i x4 120) (if y2 ≤ (ww_X D.1 29 x4) then ww_x (some (x4, D)) else some (.inl (x4 + (1 : Int32))))
noncomputable def f1_below_b1 (D : cw_D) (y2 : Int32) (y3 : Int32) : Int32 → Option ((Int32) ⊕ (Int32 × cw_D)) := fun s9 => f1_below_b1c D y2 y3 s9
noncomputable def f1_below (D : cw_D) (x1 : Int32) (x2 : Int32) : Option (Int32 × cw_D) :=
  ww_b (f1_isMap D x1) (fun r_1 => if r_1 = 0 then some ((-1 : Int32), D) else ww_b (f1_rootOf D x1) (fun r_3 => ww_b2 (f1_flat D r_3) (fun r_4 D_4 => ww_U (f1_below_b1 D_4 x2 r_4) (0 : Int32))))
set_option maxHeartbeats 4000000 in
set_option maxRecDepth 100000 in
theorem met1_below (l : Launch) {E : cw_E} {A : Nat → Prop} (D : cw_D) (x1 : Int32) (x2 : Int32) (r : Int32) (D' : cw_D) (hf : f1_below D x1 x2 = some (r, D')) : cw_MetI l yX1_below cX1_below 5 (some Jvm.ClassFile.FieldType.int) 21 440 E A [.ref E.1.1, .int x1, .int x2] D D' r 0 0 := by
  unfold f1_below at hf
  refine cw_sID (own := RX1) (by decide +kernel) [(0, .ref E.1.1), (1, .int x1), (2, .int x2)] ⟨Nat.le_of_ble_eq_true rfl, rfl⟩ ?_
  intro p e s m args below meth c Rm Q X hK hF hLo hin hend ls hl hR hS
  obtain ⟨hx, hb, hml, hown, hts⟩ := id X
  refine lv_aload_n hx hb dX1_below_0 rfl (lv_at hl 0 rfl) ?_
  refine lv_iload_n hx hb dX1_below_1 rfl (lv_at hl 1 rfl) ?_
  obtain ⟨r_1, h_1, hq⟩ := ww_bS hf; replace hf := hq; clear hq
  refine c1c_1_isMap X hl.1 hK hR hS (Nat.le_trans (Nat.le_of_ble_eq_true rfl) hF) (Nat.le_trans (Nat.le_of_ble_eq_true rfl) hLo) (Nat.zero_le _) (Nat.zero_le _) h_1 (cw_rest (Nat.le_of_ble_eq_true rfl)) dX1_below_2 (fun H locs hR hS => ?_)
  refine lv_if_ne (tgt := 10) hx hb dX1_below_5 (by decide) (fun c_2 => ?_) (fun c_2 => ?_)
  · replace hf := ww_in hf c_2
    refine lv_aload_n hx hb dX1_below_10 rfl (lv_at hl 0 rfl) ?_
    refine lv_aload_n hx hb dX1_below_11 rfl (lv_at hl 0 rfl) ?_
    refine lv_iload_n hx hb dX1_below_12 rfl (lv_at hl 1 rfl) ?_
    obtain ⟨r_3, h_3, hq⟩ := ww_bS hf; replace hf := hq; clear hq
    refine c1c_1_rootOf X hl.1 hK hR hS (Nat.le_trans (Nat.le_of_ble_eq_true rfl) hF) (Nat.le_trans (Nat.le_of_ble_eq_true rfl) hLo) (Nat.zero_le _) (Nat.zero_le _) h_3 (cw_rest (Nat.le_of_ble_eq_true rfl)) dX1_below_13 (fun H locs hR hS => ?_)
    obtain ⟨r_4, D_4, h_4, hq⟩ := ww_b2S hf; replace hf := hq; clear hq
    refine c1c_1_flat (x1 := r_3) X hl.1 hK hR hS (Nat.le_trans (Nat.le_of_ble_eq_true rfl) hF) (Nat.le_trans (Nat.le_of_ble_eq_true rfl) hLo) (Nat.zero_le _) (Nat.zero_le _) h_4 (cw_rest (Nat.le_of_ble_eq_true rfl)) dX1_below_16 (fun H locs hR hS => ?_)
    refine lv_istore_n (lv' := [(3, .int r_4), (0, .ref E.1.1), (1, .int x1), (2, .int x2)]) hx hb dX1_below_19 rfl hl (by decide) rfl (fun ls hl => ?_)
    refine lv_iconst (v := (0 : Int32)) hx hb dX1_below_20 (by decide) ?_
    refine lv_istore (lv' := [(4, .int (0 : Int32)), (3, .int r_4), (0, .ref E.1.1), (1, .int x1), (2, .int x2)]) hx hb dX1_below_21 hl (by decide) rfl (fun ls hl => ?_)
    have hL_1 : ∀ s9 : Int32, ww_U (f1_below_b1 D_4 x2 r_4) s9 = some (r, D') → ∀ (H : Heap) (locs : List Loc) (ls : Array Slot), cw_H E A D_4 H → va_S A s.heap H locs → lv_has ls 5 [(0, .ref E.1.1), (2, .int x2), (3, .int r_4), (4, .int s9)] → W p l e Rm s m args below meth c H locs 0 0 Q (F0 m 23 ls []) := by
      clear hf
      refine ww_ind _ (r, D') ?_
      intro s9 z_1 hf hz_1
      obtain ⟨x4, e9⟩ : ∃ q9, q9 = s9 := ⟨_, rfl⟩; subst e9
      replace hf : f1_below_b1c D_4 x2 r_4 x4 = some z_1 := hf
      unfold f1_below_b1c at hf
      try clear hl
      try clear hS
      try clear hR
      intro H locs ls hR hS hl
      replace hl : lv_has ls 5 [(0, .ref E.1.1), (2, .int x2), (3, .int r_4), (4, .int x4)] := hl
      refine lv_iload hx hb dX1_below_23 (lv_at hl 3 rfl) ?_
      refine lv_iload_n hx hb dX1_below_25 rfl (lv_at hl 2 rfl) ?_
      refine lv_icmp_ge (tgt := 46) hx hb dX1_below_26 (by decide) (fun c_5 => ?_) (fun c_5 => ?_)
      · replace hf := ww_ip hf c_5
        replace hf := ww_xK hf hz_1
        refine lv_iload hx hb dX1_below_46 (lv_at hl 3 rfl) ?_
        exact hend dX1_below_48 rfl rfl hf hR hS
      · replace hf := ww_in hf c_5
        refine lv_aload_n hx hb dX1_below_29 rfl (lv_at hl 0 rfl) ?_
        refine c1g_97 X hK hR dX1_below_30 ?_
        refine lv_iload hx hb dX1_below_33 (lv_at hl 3 rfl) ?_
        obtain ⟨h_6, hq⟩ := ww_gS hf; replace hf := hq; clear hq
        refine c1l_29 X hK hR h_6 dX1_below_35 ?_
        refine lv_iload_n hx hb dX1_below_36 rfl (lv_at hl 1 rfl) ?_
        refine lv_icmp_ge (tgt := 46) hx hb dX1_below_37 (by decide) (fun c_7 => ?_) (fun c_7 => ?_)
        · replace hf := ww_ip hf c_7
          replace hf := ww_xK hf hz_1
          refine lv_iload hx hb dX1_below_46 (lv_at hl 3 rfl) ?_
          exact hend dX1_below_48 rfl rfl hf hR hS
        · replace hf := ww_in hf c_7
          refine lv_iinc (k := 3) (v := x4 + (1 : Int32)) (lv' := [(4, .int (x4 + (1 : Int32))), (0, .ref E.1.1), (2, .int x2), (3, .int r_4)]) hx hb dX1_below_40 hl rfl rfl (by decide) rfl (fun ls hl => ?_)
          refine lv_goto (tgt := 23) hx hb dX1_below_43 (by decide) ?_
          exact ww_lK hf hz_1 _ _ _ hR hS (lv_sub hl [1, 2, 3, 0] rfl)
    exact hL_1 (0 : Int32) hf _ _ _ hR hS (lv_sub hl [2, 4, 1, 0] rfl)
  · replace hf := ww_ip hf c_2
    refine lv_iconst (v := (-1 : Int32)) hx hb dX1_below_8 (by decide) ?_
    exact hend dX1_below_9 rfl rfl hf hR hS
