noncomputable def f3_edited_b1c (y1 : Int32) (y3 : Int32) (M_7 : ww_M) (x4 : Int32) : Option ((ww_M × Int32) ⊕ (Int32 × ww_M)) :=
  ww_g (ww_i y1 12000) (if (ww_X M_7 11 y1) ≤ x4 then ww_x (some (y3, M_7)) else ww_g (ww_i (((7 : Int32) * y1) + x4) 84000) (ww_g (ww_i (((7 : Int32) * y3) + x4) 84000) (ww_g (ww_i (((7 : Int32) * y1) + x4) 84000) (ww_g (ww_i (((7 : Int32) * y3) + x4) 84000) (some (.inl ((ww_sX (ww_sX M_7 15 (((7 : Int32) * y3) + x4) (ww_X M_7 15 (((7 : Int32) * y1) + x4))) 16 (((7 : Int32) * y3) + x4) (ww_X (ww_sX M_7 15 (((7 : Int32) * y3) + x4) (ww_X M_7 15 (((7 : Int32) * y1) + x4))) 16 (((7 : Int32) * y1) + x4))), (x4 + (1 : Int32)))))))))
noncomputable def f3_edited_b1 (y1 : Int32) (y3 : Int32) : (ww_M × Int32) → Option ((ww_M × Int32) ⊕ (Int32 × ww_M)) := fun s9 => f3_edited_b1c y1 y3 s9.1 s9.2
noncomputable def f3_edited (M : ww_M) (x1 : Int32) (x2 : Int32) : Option (Int32 × ww_M) :=
  ww_g (ww_i x1 12000) (if (ww_X M 12 x1) = x2 then some (x1, M) else ww_g (ww_i x1 12000) (ww_b2 (f3_fresh M (ww_X M 10 x1) x2) (fun r_4 M_4 => ww_g (ww_i x1 12000) (ww_g (ww_i r_4 12000) (ww_U (f3_edited_b1 x1 r_4) ((ww_sX M_4 11 r_4 (ww_X M_4 11 x1)), (0 : Int32)))))))
section T3_edited_k
variable {p : Program} {l : Launch} {e : Env} {R : Room} {s : State} {m : MethodId} {args : Array Value} {below : List Frame} {meth : Method} {c : Code} {H : Heap} {locs : List Loc} {Q : State → Prop}
variable {cc : ByteArray} {pc : Nat} {ls : Array Slot} {rest : List Value} {nL : Nat} {E : ww_E} {A : Nat → Prop} {H0 : Heap}
theorem t3k_edited {M M' : ww_M} {x1 : Int32} {x2 : Int32} {r : Int32} (X : ww_C p m c cc nL s args RX3 lw_all) (hsz : ls.size = nL) (hK : t3_Kn E s) (hD : t3_D E) (hR : t3_H E M H) (hS : va_S (t3_A E) H0 H locs) (hF : 2 ≤ R.frames) (hLo : 47 ≤ R.locals) (hM : t3_Met l yX3_edited cX3_edited 5 (some Jvm.ClassFile.FieldType.int) 1 23 E [.int x1, .int x2] M M' r) (hrest : (rest.map fun v => v.category).sum ≤ 8) (hdg : decode cc pc = .ok (.invokevirtual 212, 3)) (kk : ∀ (H1 : Heap) (locs1 : List Loc), t3_H E M' H1 → va_S (t3_A E) H0 H1 locs1 → W p l e R s m args below meth c H1 locs1 0 0 Q (F0 m (pc + 3) ls (.int r :: rest))) : W p l e R s m args below meth c H locs 0 0 Q (F0 m pc ls (.int x2 :: .int x1 :: .ref E.1 :: rest)) :=
  t3_callI (n := 2) X hsz hK hR hS (As := [.int x1, .int x2]) hM (lw_V q2007 q2009 qs85 q135 q2010) (by decide +kernel) rfl hF hLo (Nat.zero_le _) (Nat.zero_le _) hrest hdg kk
end T3_edited_k
set_option maxHeartbeats 4000000 in
set_option maxRecDepth 100000 in
theorem met3_edited (l : Launch) {E : ww_E} (hD : t3_D E) (M : ww_M) (x1 : Int32) (x2 : Int32) (r : Int32) (M' : ww_M) (hf : f3_edited M x1 x2 = some (r, M')) : t3_Met l yX3_edited cX3_edited 5 (some Jvm.ClassFile.FieldType.int) 1 23 E [.int x1, .int x2] M M' r := by
  unfold f3_edited at hf
  refine t3_start (by decide +kernel) (Nat.le_of_ble_eq_true rfl) ?_
  intro p e s m args below meth c Rm Q X hK hF hLo hend ls hl hR hS
  obtain ⟨hx, hb, hml, hown, hts⟩ := id X
  replace hl : lv_has ls 5 [(0, .ref E.1), (1, .int x1), (2, .int x2)] := hl
  refine lv_aload_n hx hb dX3_edited_0 rfl (lv_at hl 0 rfl) ?_
  refine t3g_12 X hK hR dX3_edited_1 ?_
  refine lv_iload_n hx hb dX3_edited_4 rfl (lv_at hl 1 rfl) ?_
  obtain ⟨h_1, hf⟩ := ww_gS hf
  refine t3l_12 X hK hR h_1 dX3_edited_5 ?_
  refine lv_iload_n hx hb dX3_edited_6 rfl (lv_at hl 2 rfl) ?_
  refine lv_icmp_ne (tgt := 12) hx hb dX3_edited_7 (by decide) (fun c_2 => ?_) (fun c_2 => ?_)
  · replace hf := ww_in hf c_2
    refine lv_aload_n hx hb dX3_edited_12 rfl (lv_at hl 0 rfl) ?_
    refine lv_aload_n hx hb dX3_edited_13 rfl (lv_at hl 0 rfl) ?_
    refine t3g_10 X hK hR dX3_edited_14 ?_
    refine lv_iload_n hx hb dX3_edited_17 rfl (lv_at hl 1 rfl) ?_
    obtain ⟨h_3, hf⟩ := ww_gS hf
    refine t3l_10 X hK hR h_3 dX3_edited_18 ?_
    refine lv_iload_n hx hb dX3_edited_19 rfl (lv_at hl 2 rfl) ?_
    obtain ⟨r_4, M_4, h_4, hf⟩ := ww_b2S hf
    refine t3c_fresh X hl.1 hK hD hR hS (Nat.le_trans (Nat.le_of_ble_eq_true rfl) hF) (Nat.le_trans (Nat.le_of_ble_eq_true rfl) hLo) h_4 (Nat.le_of_ble_eq_true rfl) dX3_edited_20 (fun H locs hR hS => ?_)
    refine lv_istore_n (lv' := [(3, .int r_4), (0, .ref E.1), (1, .int x1), (2, .int x2)]) hx hb dX3_edited_23 rfl hl (by decide) rfl (fun ls hl => ?_)
    refine lv_aload_n hx hb dX3_edited_24 rfl (lv_at hl 1 rfl) ?_
    refine t3g_11 X hK hR dX3_edited_25 ?_
    refine lv_iload_n hx hb dX3_edited_28 rfl (lv_at hl 0 rfl) ?_
    refine lv_aload_n hx hb dX3_edited_29 rfl (lv_at hl 1 rfl) ?_
    refine t3g_11 X hK hR dX3_edited_30 ?_
    refine lv_iload_n hx hb dX3_edited_33 rfl (lv_at hl 2 rfl) ?_
    obtain ⟨h_5, hf⟩ := ww_gS hf
    refine t3l_11 X hK hR h_5 dX3_edited_34 ?_
    obtain ⟨h_6, hf⟩ := ww_gS hf
    refine t3s_11 X hK hD hR hS h_6 dX3_edited_35 (fun H locs hR hS => ?_)
    refine lv_iconst (v := (0 : Int32)) hx hb dX3_edited_36 (by decide) ?_
    refine lv_istore (lv' := [(4, .int (0 : Int32)), (3, .int r_4), (0, .ref E.1), (1, .int x1), (2, .int x2)]) hx hb dX3_edited_37 hl (by decide) rfl (fun ls hl => ?_)
    have hL_1 : ∀ s9 : ww_M × Int32, ww_U (f3_edited_b1 x1 r_4) s9 = some (r, M') → ∀ (H : Heap) (locs : List Loc) (ls : Array Slot), t3_H E s9.1 H → va_S (t3_A E) s.heap H locs → lv_has ls 5 [(0, .ref E.1), (1, .int x1), (3, .int r_4), (4, .int s9.2)] → W p l e Rm s m args below meth c H locs 0 0 Q (F0 m 39 ls []) := by
      refine ww_ind _ (r, M') ?_
      intro s9 z_1 hf hz_1 H locs ls hR hS hl
      obtain ⟨M_7, x4⟩ := s9
      replace hf : f3_edited_b1c x1 r_4 M_7 x4 = some z_1 := hf
      unfold f3_edited_b1c at hf
      replace hR : t3_H E M_7 H := hR
      replace hl : lv_has ls 5 [(0, .ref E.1), (1, .int x1), (3, .int r_4), (4, .int x4)] := hl
      refine lv_iload hx hb dX3_edited_39 (lv_at hl 3 rfl) ?_
      refine lv_aload_n hx hb dX3_edited_41 rfl (lv_at hl 0 rfl) ?_
      refine t3g_11 X hK hR dX3_edited_42 ?_
      refine lv_iload_n hx hb dX3_edited_45 rfl (lv_at hl 1 rfl) ?_
      obtain ⟨h_8, hf⟩ := ww_gS hf
      refine t3l_11 X hK hR h_8 dX3_edited_46 ?_
      refine lv_icmp_ge (tgt := 104) hx hb dX3_edited_47 (by decide) (fun c_9 => ?_) (fun c_9 => ?_)
      · replace hf := ww_ip hf c_9
        replace hf := ww_xK hf hz_1
        refine lv_iload_n hx hb dX3_edited_104 rfl (lv_at hl 2 rfl) ?_
        exact hend dX3_edited_105 rfl rfl hf hR hS
      · replace hf := ww_in hf c_9
        refine lv_aload_n hx hb dX3_edited_50 rfl (lv_at hl 0 rfl) ?_
        refine t3g_15 X hK hR dX3_edited_51 ?_
        refine lv_bipush (v := (7 : Int32)) hx hb dX3_edited_54 (by decide) ?_
        refine lv_iload_n hx hb dX3_edited_56 rfl (lv_at hl 2 rfl) ?_
        refine lv_imul hx hb dX3_edited_57 ?_
        refine lv_iload hx hb dX3_edited_58 (lv_at hl 3 rfl) ?_
        refine lv_iadd hx hb dX3_edited_60 ?_
        refine lv_aload_n hx hb dX3_edited_61 rfl (lv_at hl 0 rfl) ?_
        refine t3g_15 X hK hR dX3_edited_62 ?_
        refine lv_bipush (v := (7 : Int32)) hx hb dX3_edited_65 (by decide) ?_
        refine lv_iload_n hx hb dX3_edited_67 rfl (lv_at hl 1 rfl) ?_
        refine lv_imul hx hb dX3_edited_68 ?_
        refine lv_iload hx hb dX3_edited_69 (lv_at hl 3 rfl) ?_
        refine lv_iadd hx hb dX3_edited_71 ?_
        obtain ⟨h_10, hf⟩ := ww_gS hf
        refine t3l_15 X hK hR h_10 dX3_edited_72 ?_
        obtain ⟨h_11, hf⟩ := ww_gS hf
        refine t3s_15 X hK hD hR hS h_11 dX3_edited_73 (fun H locs hR hS => ?_)
        refine lv_aload_n hx hb dX3_edited_74 rfl (lv_at hl 0 rfl) ?_
        refine t3g_16 X hK hR dX3_edited_75 ?_
        refine lv_bipush (v := (7 : Int32)) hx hb dX3_edited_78 (by decide) ?_
        refine lv_iload_n hx hb dX3_edited_80 rfl (lv_at hl 2 rfl) ?_
        refine lv_imul hx hb dX3_edited_81 ?_
        refine lv_iload hx hb dX3_edited_82 (lv_at hl 3 rfl) ?_
        refine lv_iadd hx hb dX3_edited_84 ?_
        refine lv_aload_n hx hb dX3_edited_85 rfl (lv_at hl 0 rfl) ?_
        refine t3g_16 X hK hR dX3_edited_86 ?_
        refine lv_bipush (v := (7 : Int32)) hx hb dX3_edited_89 (by decide) ?_
        refine lv_iload_n hx hb dX3_edited_91 rfl (lv_at hl 1 rfl) ?_
        refine lv_imul hx hb dX3_edited_92 ?_
        refine lv_iload hx hb dX3_edited_93 (lv_at hl 3 rfl) ?_
        refine lv_iadd hx hb dX3_edited_95 ?_
        obtain ⟨h_12, hf⟩ := ww_gS hf
        refine t3l_16 X hK hR h_12 dX3_edited_96 ?_
        obtain ⟨h_13, hf⟩ := ww_gS hf
        refine t3s_16 X hK hD hR hS h_13 dX3_edited_97 (fun H locs hR hS => ?_)
        refine lv_iinc (k := 3) (v := x4 + (1 : Int32)) (lv' := [(4, .int (x4 + (1 : Int32))), (0, .ref E.1), (1, .int x1), (3, .int r_4)]) hx hb dX3_edited_98 hl rfl rfl (by decide) rfl (fun ls hl => ?_)
        refine lv_goto (tgt := 39) hx hb dX3_edited_101 (by decide) ?_
        exact ww_lK hf hz_1 _ _ _ hR hS (lv_sub hl [1, 2, 3, 0] rfl)
    exact hL_1 ((ww_sX M_4 11 r_4 (ww_X M_4 11 x1)), (0 : Int32)) hf _ _ _ hR hS (lv_sub hl [2, 3, 1, 0] rfl)
  · replace hf := ww_ip hf c_2
    refine lv_iload_n hx hb dX3_edited_10 rfl (lv_at hl 1 rfl) ?_
    exact hend dX3_edited_11 rfl rfl hf hR hS
section T3_edited_c
variable {p : Program} {l : Launch} {e : Env} {R : Room} {s : State} {m : MethodId} {args : Array Value} {below : List Frame} {meth : Method} {c : Code} {H : Heap} {locs : List Loc} {Q : State → Prop}
variable {cc : ByteArray} {pc : Nat} {ls : Array Slot} {rest : List Value} {nL : Nat} {E : ww_E} {A : Nat → Prop} {H0 : Heap}
theorem t3c_edited {M M' : ww_M} {x1 : Int32} {x2 : Int32} {r : Int32} (X : ww_C p m c cc nL s args RX3 lw_all) (hsz : ls.size = nL) (hK : t3_Kn E s) (hD : t3_D E) (hR : t3_H E M H) (hS : va_S (t3_A E) H0 H locs) (hF : 2 ≤ R.frames) (hLo : 47 ≤ R.locals) (hf : f3_edited M x1 x2 = some (r, M')) (hrest : (rest.map fun v => v.category).sum ≤ 8) (hdg : decode cc pc = .ok (.invokevirtual 212, 3)) (kk : ∀ (H1 : Heap) (locs1 : List Loc), t3_H E M' H1 → va_S (t3_A E) H0 H1 locs1 → W p l e R s m args below meth c H1 locs1 0 0 Q (F0 m (pc + 3) ls (.int r :: rest))) : W p l e R s m args below meth c H locs 0 0 Q (F0 m pc ls (.int x2 :: .int x1 :: .ref E.1 :: rest)) :=
  t3k_edited X hsz hK hD hR hS hF hLo (met3_edited l hD _ _ _ _ _ hf) hrest hdg kk
end T3_edited_c
noncomputable def f3_goesDown_b1c (y2 : Int32) (y3 : Int32) (y5 : Int32) (M_2 : ww_M) (x4 : Int32) : Option ((ww_M × Int32) ⊕ (Int32 × ww_M)) :=
  ww_g (ww_i x4 12000) (if (ww_X M_2 10 x4) = 0 then ww_b (f3_spotFor M_2 x4 y2) (fun r_6 => ww_b (f3_child M_2 x4 r_6) (fun r_7 => ww_b2 (f3_edited M_2 r_7 y3) (fun r_8 M_8 => ww_g (ww_i (((7 : Int32) * x4) + r_6) 84000) (ww_g (ww_i (ww_F (ww_sX M_8 15 (((7 : Int32) * x4) + r_6) r_8) 25) 10) (ww_g (ww_i (ww_F (ww_sX (ww_sX M_8 15 (((7 : Int32) * x4) + r_6) r_8) 23 (ww_F (ww_sX M_8 15 (((7 : Int32) * x4) + r_6) r_8) 25) x4) 25) 10) (some (.inl ((ww_sF (ww_sX (ww_sX (ww_sX M_8 15 (((7 : Int32) * x4) + r_6) r_8) 23 (ww_F (ww_sX M_8 15 (((7 : Int32) * x4) + r_6) r_8) 25) x4) 24 (ww_F (ww_sX (ww_sX M_8 15 (((7 : Int32) * x4) + r_6) r_8) 23 (ww_F (ww_sX M_8 15 (((7 : Int32) * x4) + r_6) r_8) 25) x4) 25) r_6) 25 ((ww_F (ww_sX (ww_sX (ww_sX M_8 15 (((7 : Int32) * x4) + r_6) r_8) 23 (ww_F (ww_sX M_8 15 (((7 : Int32) * x4) + r_6) r_8) 25) x4) 24 (ww_F (ww_sX (ww_sX M_8 15 (((7 : Int32) * x4) + r_6) r_8) 23 (ww_F (ww_sX M_8 15 (((7 : Int32) * x4) + r_6) r_8) 25) x4) 25) r_6) 25) + (1 : Int32))), r_8)))))))) else ww_x (ww_g (ww_i (ww_F M_2 25) 10) (some (y5, (ww_sX M_2 23 (ww_F M_2 25) x4)))))
noncomputable def f3_goesDown_b1 (y2 : Int32) (y3 : Int32) (y5 : Int32) : (ww_M × Int32) → Option ((ww_M × Int32) ⊕ (Int32 × ww_M)) := fun s9 => f3_goesDown_b1c y2 y3 y5 s9.1 s9.2
noncomputable def f3_goesDown (M : ww_M) (x1 : Int32) (x2 : Int32) (x3 : Int32) : Option (Int32 × ww_M) :=
  ww_b2 (f3_edited M x1 x3) (fun r_1 M_1 => ww_U (f3_goesDown_b1 x2 x3 r_1) ((ww_sF M_1 25 (0 : Int32)), r_1))
section T3_goesDown_k
variable {p : Program} {l : Launch} {e : Env} {R : Room} {s : State} {m : MethodId} {args : Array Value} {below : List Frame} {meth : Method} {c : Code} {H : Heap} {locs : List Loc} {Q : State → Prop}
variable {cc : ByteArray} {pc : Nat} {ls : Array Slot} {rest : List Value} {nL : Nat} {E : ww_E} {A : Nat → Prop} {H0 : Heap}
theorem t3k_goesDown {M M' : ww_M} {x1 : Int32} {x2 : Int32} {x3 : Int32} {r : Int32} (X : ww_C p m c cc nL s args RX3 lw_all) (hsz : ls.size = nL) (hK : t3_Kn E s) (hD : t3_D E) (hR : t3_H E M H) (hS : va_S (t3_A E) H0 H locs) (hF : 4 ≤ R.frames) (hLo : 94 ≤ R.locals) (hM : t3_Met l yX3_goesDown cX3_goesDown 8 (some Jvm.ClassFile.FieldType.int) 3 67 E [.int x1, .int x2, .int x3] M M' r) (hrest : (rest.map fun v => v.category).sum ≤ 8) (hdg : decode cc pc = .ok (.invokevirtual 221, 3)) (kk : ∀ (H1 : Heap) (locs1 : List Loc), t3_H E M' H1 → va_S (t3_A E) H0 H1 locs1 → W p l e R s m args below meth c H1 locs1 0 0 Q (F0 m (pc + 3) ls (.int r :: rest))) : W p l e R s m args below meth c H locs 0 0 Q (F0 m pc ls (.int x3 :: .int x2 :: .int x1 :: .ref E.1 :: rest)) :=
  t3_callI (n := 3) X hsz hK hR hS (As := [.int x1, .int x2, .int x3]) hM (lw_V q2003 q2005 qs84 q135 q2006) (by decide +kernel) rfl hF hLo (Nat.zero_le _) (Nat.zero_le _) hrest hdg kk
end T3_goesDown_k
set_option maxHeartbeats 4000000 in
set_option maxRecDepth 100000 in
theorem met3_goesDown (l : Launch) {E : ww_E} (hD : t3_D E) (M : ww_M) (x1 : Int32) (x2 : Int32) (x3 : Int32) (r : Int32) (M' : ww_M) (hf : f3_goesDown M x1 x2 x3 = some (r, M')) : t3_Met l yX3_goesDown cX3_goesDown 8 (some Jvm.ClassFile.FieldType.int) 3 67 E [.int x1, .int x2, .int x3] M M' r := by
  unfold f3_goesDown at hf
  refine t3_start (by decide +kernel) (Nat.le_of_ble_eq_true rfl) ?_
  intro p e s m args below meth c Rm Q X hK hF hLo hend ls hl hR hS
  obtain ⟨hx, hb, hml, hown, hts⟩ := id X
  replace hl : lv_has ls 8 [(0, .ref E.1), (1, .int x1), (2, .int x2), (3, .int x3)] := hl
  refine lv_aload_n hx hb dX3_goesDown_0 rfl (lv_at hl 0 rfl) ?_
  refine lv_iload_n hx hb dX3_goesDown_1 rfl (lv_at hl 1 rfl) ?_
  refine lv_iload_n hx hb dX3_goesDown_2 rfl (lv_at hl 3 rfl) ?_
  obtain ⟨r_1, M_1, h_1, hf⟩ := ww_b2S hf
  refine t3c_edited X hl.1 hK hD hR hS (Nat.le_trans (Nat.le_of_ble_eq_true rfl) hF) (Nat.le_trans (Nat.le_of_ble_eq_true rfl) hLo) h_1 (Nat.le_of_ble_eq_true rfl) dX3_goesDown_3 (fun H locs hR hS => ?_)
  refine lv_istore (lv' := [(4, .int r_1), (0, .ref E.1), (1, .int x1), (2, .int x2), (3, .int x3)]) hx hb dX3_goesDown_6 hl (by decide) rfl (fun ls hl => ?_)
  refine lv_iload hx hb dX3_goesDown_8 (lv_at hl 0 rfl) ?_
  refine lv_istore (lv' := [(5, .int r_1), (4, .int r_1), (0, .ref E.1), (1, .int x1), (2, .int x2), (3, .int x3)]) hx hb dX3_goesDown_10 hl (by decide) rfl (fun ls hl => ?_)
  refine lv_aload_n hx hb dX3_goesDown_12 rfl (lv_at hl 2 rfl) ?_
  refine lv_iconst (v := (0 : Int32)) hx hb dX3_goesDown_13 (by decide) ?_
  refine t3p_25 X hK hD hR hS dX3_goesDown_14 (fun H locs hR hS => ?_)
  have hL_1 : ∀ s9 : ww_M × Int32, ww_U (f3_goesDown_b1 x2 x3 r_1) s9 = some (r, M') → ∀ (H : Heap) (locs : List Loc) (ls : Array Slot), t3_H E s9.1 H → va_S (t3_A E) s.heap H locs → lv_has ls 8 [(0, .ref E.1), (2, .int x2), (3, .int x3), (4, .int s9.2), (5, .int r_1)] → W p l e Rm s m args below meth c H locs 0 0 Q (F0 m 17 ls []) := by
    refine ww_ind _ (r, M') ?_
    intro s9 z_1 hf hz_1 H locs ls hR hS hl
    obtain ⟨M_2, x4⟩ := s9
    replace hf : f3_goesDown_b1c x2 x3 r_1 M_2 x4 = some z_1 := hf
    unfold f3_goesDown_b1c at hf
    replace hR : t3_H E M_2 H := hR
    replace hl : lv_has ls 8 [(0, .ref E.1), (2, .int x2), (3, .int x3), (4, .int x4), (5, .int r_1)] := hl
    refine lv_aload_n hx hb dX3_goesDown_17 rfl (lv_at hl 0 rfl) ?_
    refine t3g_10 X hK hR dX3_goesDown_18 ?_
    refine lv_iload hx hb dX3_goesDown_21 (lv_at hl 3 rfl) ?_
    obtain ⟨h_3, hf⟩ := ww_gS hf
    refine t3l_10 X hK hR h_3 dX3_goesDown_23 ?_
    refine lv_if_ne (tgt := 105) hx hb dX3_goesDown_24 (by decide) (fun c_4 => ?_) (fun c_4 => ?_)
    · replace hf := ww_in hf c_4
      replace hf := ww_xK hf hz_1
      refine lv_aload_n hx hb dX3_goesDown_105 rfl (lv_at hl 0 rfl) ?_
      refine t3g_23 X hK hR dX3_goesDown_106 ?_
      refine lv_aload_n hx hb dX3_goesDown_109 rfl (lv_at hl 0 rfl) ?_
      refine t3g_25 X hK hR dX3_goesDown_110 ?_
      refine lv_iload hx hb dX3_goesDown_113 (lv_at hl 3 rfl) ?_
      obtain ⟨h_5, hf⟩ := ww_gS hf
      refine t3s_23 X hK hD hR hS h_5 dX3_goesDown_115 (fun H locs hR hS => ?_)
      refine lv_iload hx hb dX3_goesDown_116 (lv_at hl 4 rfl) ?_
      exact hend dX3_goesDown_118 rfl rfl hf hR hS
    · replace hf := ww_ip hf c_4
      refine lv_aload_n hx hb dX3_goesDown_27 rfl (lv_at hl 0 rfl) ?_
      refine lv_iload hx hb dX3_goesDown_28 (lv_at hl 3 rfl) ?_
      refine lv_iload_n hx hb dX3_goesDown_30 rfl (lv_at hl 1 rfl) ?_
      obtain ⟨r_6, h_6, hf⟩ := ww_bS hf
      refine t3c_spotFor X hl.1 hK hD hR hS (Nat.le_trans (Nat.le_of_ble_eq_true rfl) hF) (Nat.le_trans (Nat.le_of_ble_eq_true rfl) hLo) h_6 (Nat.le_of_ble_eq_true rfl) dX3_goesDown_31 (fun H locs hR hS => ?_)
      refine lv_istore (lv' := [(6, .int r_6), (0, .ref E.1), (2, .int x2), (3, .int x3), (4, .int x4), (5, .int r_1)]) hx hb dX3_goesDown_34 hl (by decide) rfl (fun ls hl => ?_)
      refine lv_aload_n hx hb dX3_goesDown_36 rfl (lv_at hl 1 rfl) ?_
      refine lv_aload_n hx hb dX3_goesDown_37 rfl (lv_at hl 1 rfl) ?_
      refine lv_iload hx hb dX3_goesDown_38 (lv_at hl 4 rfl) ?_
      refine lv_iload hx hb dX3_goesDown_40 (lv_at hl 0 rfl) ?_
      obtain ⟨r_7, h_7, hf⟩ := ww_bS hf
      refine t3c_child X hl.1 hK hD hR hS (Nat.le_trans (Nat.le_of_ble_eq_true rfl) hF) (Nat.le_trans (Nat.le_of_ble_eq_true rfl) hLo) h_7 (Nat.le_of_ble_eq_true rfl) dX3_goesDown_42 (fun H locs hR hS => ?_)
      refine lv_iload_n hx hb dX3_goesDown_45 rfl (lv_at hl 3 rfl) ?_
      obtain ⟨r_8, M_8, h_8, hf⟩ := ww_b2S hf
      refine t3c_edited X hl.1 hK hD hR hS (Nat.le_trans (Nat.le_of_ble_eq_true rfl) hF) (Nat.le_trans (Nat.le_of_ble_eq_true rfl) hLo) h_8 (Nat.le_of_ble_eq_true rfl) dX3_goesDown_46 (fun H locs hR hS => ?_)
      refine lv_istore (lv' := [(7, .int r_8), (6, .int r_6), (0, .ref E.1), (2, .int x2), (3, .int x3), (4, .int x4), (5, .int r_1)]) hx hb dX3_goesDown_49 hl (by decide) rfl (fun ls hl => ?_)
      refine lv_aload_n hx hb dX3_goesDown_51 rfl (lv_at hl 2 rfl) ?_
      refine t3g_15 X hK hR dX3_goesDown_52 ?_
      refine lv_bipush (v := (7 : Int32)) hx hb dX3_goesDown_55 (by decide) ?_
      refine lv_iload hx hb dX3_goesDown_57 (lv_at hl 5 rfl) ?_
      refine lv_imul hx hb dX3_goesDown_59 ?_
      refine lv_iload hx hb dX3_goesDown_60 (lv_at hl 1 rfl) ?_
      refine lv_iadd hx hb dX3_goesDown_62 ?_
      refine lv_iload hx hb dX3_goesDown_63 (lv_at hl 0 rfl) ?_
      obtain ⟨h_9, hf⟩ := ww_gS hf
      refine t3s_15 X hK hD hR hS h_9 dX3_goesDown_65 (fun H locs hR hS => ?_)
      refine lv_aload_n hx hb dX3_goesDown_66 rfl (lv_at hl 2 rfl) ?_
      refine t3g_23 X hK hR dX3_goesDown_67 ?_
      refine lv_aload_n hx hb dX3_goesDown_70 rfl (lv_at hl 2 rfl) ?_
      refine t3g_25 X hK hR dX3_goesDown_71 ?_
      refine lv_iload hx hb dX3_goesDown_74 (lv_at hl 5 rfl) ?_
      obtain ⟨h_10, hf⟩ := ww_gS hf
      refine t3s_23 X hK hD hR hS h_10 dX3_goesDown_76 (fun H locs hR hS => ?_)
      refine lv_aload_n hx hb dX3_goesDown_77 rfl (lv_at hl 2 rfl) ?_
      refine t3g_24 X hK hR dX3_goesDown_78 ?_
      refine lv_aload_n hx hb dX3_goesDown_81 rfl (lv_at hl 2 rfl) ?_
      refine t3g_25 X hK hR dX3_goesDown_82 ?_
      refine lv_iload hx hb dX3_goesDown_85 (lv_at hl 1 rfl) ?_
      obtain ⟨h_11, hf⟩ := ww_gS hf
      refine t3s_24 X hK hD hR hS h_11 dX3_goesDown_87 (fun H locs hR hS => ?_)
      refine lv_aload_n hx hb dX3_goesDown_88 rfl (lv_at hl 2 rfl) ?_
      refine lv_dup hx hb dX3_goesDown_89 rfl ?_
      refine t3g_25 X hK hR dX3_goesDown_90 ?_
      refine lv_iconst (v := (1 : Int32)) hx hb dX3_goesDown_93 (by decide) ?_
      refine lv_iadd hx hb dX3_goesDown_94 ?_
      refine t3p_25 X hK hD hR hS dX3_goesDown_95 (fun H locs hR hS => ?_)
      refine lv_iload hx hb dX3_goesDown_98 (lv_at hl 0 rfl) ?_
      refine lv_istore (lv' := [(4, .int r_8), (7, .int r_8), (6, .int r_6), (0, .ref E.1), (2, .int x2), (3, .int x3), (5, .int r_1)]) hx hb dX3_goesDown_100 hl (by decide) rfl (fun ls hl => ?_)
      refine lv_goto (tgt := 17) hx hb dX3_goesDown_102 (by decide) ?_
      exact ww_lK hf hz_1 _ _ _ hR hS (lv_sub hl [3, 4, 5, 0, 6] rfl)
  exact hL_1 ((ww_sF M_1 25 (0 : Int32)), r_1) hf _ _ _ hR hS (lv_sub hl [2, 4, 5, 1, 0] rfl)
section T3_goesDown_c
variable {p : Program} {l : Launch} {e : Env} {R : Room} {s : State} {m : MethodId} {args : Array Value} {below : List Frame} {meth : Method} {c : Code} {H : Heap} {locs : List Loc} {Q : State → Prop}
variable {cc : ByteArray} {pc : Nat} {ls : Array Slot} {rest : List Value} {nL : Nat} {E : ww_E} {A : Nat → Prop} {H0 : Heap}
theorem t3c_goesDown {M M' : ww_M} {x1 : Int32} {x2 : Int32} {x3 : Int32} {r : Int32} (X : ww_C p m c cc nL s args RX3 lw_all) (hsz : ls.size = nL) (hK : t3_Kn E s) (hD : t3_D E) (hR : t3_H E M H) (hS : va_S (t3_A E) H0 H locs) (hF : 4 ≤ R.frames) (hLo : 94 ≤ R.locals) (hf : f3_goesDown M x1 x2 x3 = some (r, M')) (hrest : (rest.map fun v => v.category).sum ≤ 8) (hdg : decode cc pc = .ok (.invokevirtual 221, 3)) (kk : ∀ (H1 : Heap) (locs1 : List Loc), t3_H E M' H1 → va_S (t3_A E) H0 H1 locs1 → W p l e R s m args below meth c H1 locs1 0 0 Q (F0 m (pc + 3) ls (.int r :: rest))) : W p l e R s m args below meth c H locs 0 0 Q (F0 m pc ls (.int x3 :: .int x2 :: .int x1 :: .ref E.1 :: rest)) :=
  t3k_goesDown X hsz hK hD hR hS hF hLo (met3_goesDown l hD _ _ _ _ _ _ hf) hrest hdg kk
end T3_goesDown_c
noncomputable def f3_putsIn_b1c (y1 : Int32) (y2 : Int32) (y3 : Int32) (y4 : Int32) (M_2 : ww_M) (x5 : Int32) : Option ((ww_M × Int32) ⊕ (ww_M)) :=
  if x5 ≤ y2 then ww_x (ww_g (ww_i (((7 : Int32) * y1) + y2) 84000) (ww_g (ww_i (((7 : Int32) * y1) + y2) 84000) (ww_g (ww_i y1 12000) (ww_g (ww_i y1 12000) (some (ww_sX (ww_sX (ww_sX M_2 15 (((7 : Int32) * y1) + y2) y3) 16 (((7 : Int32) * y1) + y2) y4) 11 y1 ((ww_X (ww_sX (ww_sX M_2 15 (((7 : Int32) * y1) + y2) y3) 16 (((7 : Int32) * y1) + y2) y4) 11 y1) + (1 : Int32)))))))) else ww_g (ww_i ((((7 : Int32) * y1) + x5) - (1 : Int32)) 84000) (ww_g (ww_i (((7 : Int32) * y1) + x5) 84000) (ww_g (ww_i ((((7 : Int32) * y1) + x5) - (1 : Int32)) 84000) (ww_g (ww_i (((7 : Int32) * y1) + x5) 84000) (some (.inl ((ww_sX (ww_sX M_2 15 (((7 : Int32) * y1) + x5) (ww_X M_2 15 ((((7 : Int32) * y1) + x5) - (1 : Int32)))) 16 (((7 : Int32) * y1) + x5) (ww_X (ww_sX M_2 15 (((7 : Int32) * y1) + x5) (ww_X M_2 15 ((((7 : Int32) * y1) + x5) - (1 : Int32)))) 16 ((((7 : Int32) * y1) + x5) - (1 : Int32)))), (x5 + (-1 : Int32))))))))
noncomputable def f3_putsIn_b1 (y1 : Int32) (y2 : Int32) (y3 : Int32) (y4 : Int32) : (ww_M × Int32) → Option ((ww_M × Int32) ⊕ (ww_M)) := fun s9 => f3_putsIn_b1c y1 y2 y3 y4 s9.1 s9.2
noncomputable def f3_putsIn (M : ww_M) (x1 : Int32) (x2 : Int32) (x3 : Int32) (x4 : Int32) : Option (ww_M) :=
  ww_g (ww_i x1 12000) (ww_U (f3_putsIn_b1 x1 x2 x3 x4) (M, (ww_X M 11 x1)))
section T3_putsIn_k
variable {p : Program} {l : Launch} {e : Env} {R : Room} {s : State} {m : MethodId} {args : Array Value} {below : List Frame} {meth : Method} {c : Code} {H : Heap} {locs : List Loc} {Q : State → Prop}
variable {cc : ByteArray} {pc : Nat} {ls : Array Slot} {rest : List Value} {nL : Nat} {E : ww_E} {A : Nat → Prop} {H0 : Heap}
theorem t3k_putsIn {M M' : ww_M} {x1 : Int32} {x2 : Int32} {x3 : Int32} {x4 : Int32} (X : ww_C p m c cc nL s args RX3 lw_all) (hsz : ls.size = nL) (hK : t3_Kn E s) (hD : t3_D E) (hR : t3_H E M H) (hS : va_S (t3_A E) H0 H locs) (hF : 1 ≤ R.frames) (hLo : 25 ≤ R.locals) (hM : t3_MetV l yX3_putsIn cX3_putsIn 6 0 0 E [.int x1, .int x2, .int x3, .int x4] M M') (hrest : (rest.map fun v => v.category).sum ≤ 8) (hdg : decode cc pc = .ok (.invokevirtual 225, 3)) (kk : ∀ (H1 : Heap) (locs1 : List Loc), t3_H E M' H1 → va_S (t3_A E) H0 H1 locs1 → W p l e R s m args below meth c H1 locs1 0 0 Q (F0 m (pc + 3) ls (rest))) : W p l e R s m args below meth c H locs 0 0 Q (F0 m pc ls (.int x4 :: .int x3 :: .int x2 :: .int x1 :: .ref E.1 :: rest)) :=
  t3_callV (n := 4) X hsz hK hR hS (As := [.int x1, .int x2, .int x3, .int x4]) hM (lw_V q2011 q2013 qs86 q135 q2014) (by decide +kernel) rfl hF hLo (Nat.zero_le _) (Nat.zero_le _) hrest hdg kk
end T3_putsIn_k
set_option maxHeartbeats 4000000 in
set_option maxRecDepth 100000 in
theorem met3_putsIn (l : Launch) {E : ww_E} (hD : t3_D E) (M : ww_M) (x1 : Int32) (x2 : Int32) (x3 : Int32) (x4 : Int32) (M' : ww_M) (hf : f3_putsIn M x1 x2 x3 x4 = some M') : t3_MetV l yX3_putsIn cX3_putsIn 6 0 0 E [.int x1, .int x2, .int x3, .int x4] M M' := by
  unfold f3_putsIn at hf
  refine t3_startV (by decide +kernel) (Nat.le_of_ble_eq_true rfl) ?_
  intro p e s m args below meth c Rm Q X hK hF hLo hend ls hl hR hS
  obtain ⟨hx, hb, hml, hown, hts⟩ := id X
  replace hl : lv_has ls 6 [(0, .ref E.1), (1, .int x1), (2, .int x2), (3, .int x3), (4, .int x4)] := hl
  refine lv_aload_n hx hb dX3_putsIn_0 rfl (lv_at hl 0 rfl) ?_
  refine t3g_11 X hK hR dX3_putsIn_1 ?_
  refine lv_iload_n hx hb dX3_putsIn_4 rfl (lv_at hl 1 rfl) ?_
  obtain ⟨h_1, hf⟩ := ww_gS hf
  refine t3l_11 X hK hR h_1 dX3_putsIn_5 ?_
  refine lv_istore (lv' := [(5, .int (ww_X M 11 x1)), (0, .ref E.1), (1, .int x1), (2, .int x2), (3, .int x3), (4, .int x4)]) hx hb dX3_putsIn_6 hl (by decide) rfl (fun ls hl => ?_)
  have hL_1 : ∀ s9 : ww_M × Int32, ww_U (f3_putsIn_b1 x1 x2 x3 x4) s9 = some M' → ∀ (H : Heap) (locs : List Loc) (ls : Array Slot), t3_H E s9.1 H → va_S (t3_A E) s.heap H locs → lv_has ls 6 [(0, .ref E.1), (1, .int x1), (2, .int x2), (3, .int x3), (4, .int x4), (5, .int s9.2)] → W p l e Rm s m args below meth c H locs 0 0 Q (F0 m 8 ls []) := by
    refine ww_ind _ M' ?_
    intro s9 z_1 hf hz_1 H locs ls hR hS hl
    obtain ⟨M_2, x5⟩ := s9
    replace hf : f3_putsIn_b1c x1 x2 x3 x4 M_2 x5 = some z_1 := hf
    unfold f3_putsIn_b1c at hf
    replace hR : t3_H E M_2 H := hR
    replace hl : lv_has ls 6 [(0, .ref E.1), (1, .int x1), (2, .int x2), (3, .int x3), (4, .int x4), (5, .int x5)] := hl
    refine lv_iload hx hb dX3_putsIn_8 (lv_at hl 5 rfl) ?_
    refine lv_iload_n hx hb dX3_putsIn_10 rfl (lv_at hl 2 rfl) ?_
    refine lv_icmp_le (tgt := 72) hx hb dX3_putsIn_11 (by decide) (fun c_3 => ?_) (fun c_3 => ?_)
    · replace hf := ww_ip hf c_3
      replace hf := ww_xK hf hz_1
      refine lv_aload_n hx hb dX3_putsIn_72 rfl (lv_at hl 0 rfl) ?_
      refine t3g_15 X hK hR dX3_putsIn_73 ?_
      refine lv_bipush (v := (7 : Int32)) hx hb dX3_putsIn_76 (by decide) ?_
      refine lv_iload_n hx hb dX3_putsIn_78 rfl (lv_at hl 1 rfl) ?_
      refine lv_imul hx hb dX3_putsIn_79 ?_
      refine lv_iload_n hx hb dX3_putsIn_80 rfl (lv_at hl 2 rfl) ?_
      refine lv_iadd hx hb dX3_putsIn_81 ?_
      refine lv_iload_n hx hb dX3_putsIn_82 rfl (lv_at hl 3 rfl) ?_
      obtain ⟨h_4, hf⟩ := ww_gS hf
      refine t3s_15 X hK hD hR hS h_4 dX3_putsIn_83 (fun H locs hR hS => ?_)
      refine lv_aload_n hx hb dX3_putsIn_84 rfl (lv_at hl 0 rfl) ?_
      refine t3g_16 X hK hR dX3_putsIn_85 ?_
      refine lv_bipush (v := (7 : Int32)) hx hb dX3_putsIn_88 (by decide) ?_
      refine lv_iload_n hx hb dX3_putsIn_90 rfl (lv_at hl 1 rfl) ?_
      refine lv_imul hx hb dX3_putsIn_91 ?_
      refine lv_iload_n hx hb dX3_putsIn_92 rfl (lv_at hl 2 rfl) ?_
      refine lv_iadd hx hb dX3_putsIn_93 ?_
      refine lv_iload hx hb dX3_putsIn_94 (lv_at hl 4 rfl) ?_
      obtain ⟨h_5, hf⟩ := ww_gS hf
      refine t3s_16 X hK hD hR hS h_5 dX3_putsIn_96 (fun H locs hR hS => ?_)
      refine lv_aload_n hx hb dX3_putsIn_97 rfl (lv_at hl 0 rfl) ?_
      refine t3g_11 X hK hR dX3_putsIn_98 ?_
      refine lv_iload_n hx hb dX3_putsIn_101 rfl (lv_at hl 1 rfl) ?_
      refine lv_dup2_11 hx hb dX3_putsIn_102 rfl rfl ?_
      obtain ⟨h_6, hf⟩ := ww_gS hf
      refine t3l_11 X hK hR h_6 dX3_putsIn_103 ?_
      refine lv_iconst (v := (1 : Int32)) hx hb dX3_putsIn_104 (by decide) ?_
      refine lv_iadd hx hb dX3_putsIn_105 ?_
      obtain ⟨h_7, hf⟩ := ww_gS hf
      refine t3s_11 X hK hD hR hS h_7 dX3_putsIn_106 (fun H locs hR hS => ?_)
      exact hend dX3_putsIn_107 hf hR hS
    · replace hf := ww_in hf c_3
      refine lv_aload_n hx hb dX3_putsIn_14 rfl (lv_at hl 0 rfl) ?_
      refine t3g_15 X hK hR dX3_putsIn_15 ?_
      refine lv_bipush (v := (7 : Int32)) hx hb dX3_putsIn_18 (by decide) ?_
      refine lv_iload_n hx hb dX3_putsIn_20 rfl (lv_at hl 1 rfl) ?_
      refine lv_imul hx hb dX3_putsIn_21 ?_
      refine lv_iload hx hb dX3_putsIn_22 (lv_at hl 5 rfl) ?_
      refine lv_iadd hx hb dX3_putsIn_24 ?_
      refine lv_aload_n hx hb dX3_putsIn_25 rfl (lv_at hl 0 rfl) ?_
      refine t3g_15 X hK hR dX3_putsIn_26 ?_
      refine lv_bipush (v := (7 : Int32)) hx hb dX3_putsIn_29 (by decide) ?_
      refine lv_iload_n hx hb dX3_putsIn_31 rfl (lv_at hl 1 rfl) ?_
      refine lv_imul hx hb dX3_putsIn_32 ?_
      refine lv_iload hx hb dX3_putsIn_33 (lv_at hl 5 rfl) ?_
      refine lv_iadd hx hb dX3_putsIn_35 ?_
      refine lv_iconst (v := (1 : Int32)) hx hb dX3_putsIn_36 (by decide) ?_
      refine lv_isub hx hb dX3_putsIn_37 ?_
      obtain ⟨h_8, hf⟩ := ww_gS hf
      refine t3l_15 X hK hR h_8 dX3_putsIn_38 ?_
      obtain ⟨h_9, hf⟩ := ww_gS hf
      refine t3s_15 X hK hD hR hS h_9 dX3_putsIn_39 (fun H locs hR hS => ?_)
      refine lv_aload_n hx hb dX3_putsIn_40 rfl (lv_at hl 0 rfl) ?_
      refine t3g_16 X hK hR dX3_putsIn_41 ?_
      refine lv_bipush (v := (7 : Int32)) hx hb dX3_putsIn_44 (by decide) ?_
      refine lv_iload_n hx hb dX3_putsIn_46 rfl (lv_at hl 1 rfl) ?_
      refine lv_imul hx hb dX3_putsIn_47 ?_
      refine lv_iload hx hb dX3_putsIn_48 (lv_at hl 5 rfl) ?_
      refine lv_iadd hx hb dX3_putsIn_50 ?_
      refine lv_aload_n hx hb dX3_putsIn_51 rfl (lv_at hl 0 rfl) ?_
      refine t3g_16 X hK hR dX3_putsIn_52 ?_
      refine lv_bipush (v := (7 : Int32)) hx hb dX3_putsIn_55 (by decide) ?_
      refine lv_iload_n hx hb dX3_putsIn_57 rfl (lv_at hl 1 rfl) ?_
      refine lv_imul hx hb dX3_putsIn_58 ?_
      refine lv_iload hx hb dX3_putsIn_59 (lv_at hl 5 rfl) ?_
      refine lv_iadd hx hb dX3_putsIn_61 ?_
      refine lv_iconst (v := (1 : Int32)) hx hb dX3_putsIn_62 (by decide) ?_
      refine lv_isub hx hb dX3_putsIn_63 ?_
      obtain ⟨h_10, hf⟩ := ww_gS hf
      refine t3l_16 X hK hR h_10 dX3_putsIn_64 ?_
      obtain ⟨h_11, hf⟩ := ww_gS hf
      refine t3s_16 X hK hD hR hS h_11 dX3_putsIn_65 (fun H locs hR hS => ?_)
      refine lv_iinc (k := 5) (v := x5 + (-1 : Int32)) (lv' := [(5, .int (x5 + (-1 : Int32))), (0, .ref E.1), (1, .int x1), (2, .int x2), (3, .int x3), (4, .int x4)]) hx hb dX3_putsIn_66 hl rfl rfl (by decide) rfl (fun ls hl => ?_)
      refine lv_goto (tgt := 8) hx hb dX3_putsIn_69 (by decide) ?_
      exact ww_lK hf hz_1 _ _ _ hR hS (lv_sub hl [1, 2, 3, 4, 5, 0] rfl)
  exact hL_1 (M, (ww_X M 11 x1)) hf _ _ _ hR hS (lv_sub hl [1, 2, 3, 4, 5, 0] rfl)
section T3_putsIn_c
variable {p : Program} {l : Launch} {e : Env} {R : Room} {s : State} {m : MethodId} {args : Array Value} {below : List Frame} {meth : Method} {c : Code} {H : Heap} {locs : List Loc} {Q : State → Prop}
variable {cc : ByteArray} {pc : Nat} {ls : Array Slot} {rest : List Value} {nL : Nat} {E : ww_E} {A : Nat → Prop} {H0 : Heap}
theorem t3c_putsIn {M M' : ww_M} {x1 : Int32} {x2 : Int32} {x3 : Int32} {x4 : Int32} (X : ww_C p m c cc nL s args RX3 lw_all) (hsz : ls.size = nL) (hK : t3_Kn E s) (hD : t3_D E) (hR : t3_H E M H) (hS : va_S (t3_A E) H0 H locs) (hF : 1 ≤ R.frames) (hLo : 25 ≤ R.locals) (hf : f3_putsIn M x1 x2 x3 x4 = some M') (hrest : (rest.map fun v => v.category).sum ≤ 8) (hdg : decode cc pc = .ok (.invokevirtual 225, 3)) (kk : ∀ (H1 : Heap) (locs1 : List Loc), t3_H E M' H1 → va_S (t3_A E) H0 H1 locs1 → W p l e R s m args below meth c H1 locs1 0 0 Q (F0 m (pc + 3) ls (rest))) : W p l e R s m args below meth c H locs 0 0 Q (F0 m pc ls (.int x4 :: .int x3 :: .int x2 :: .int x1 :: .ref E.1 :: rest)) :=
  t3k_putsIn X hsz hK hD hR hS hF hLo (met3_putsIn l hD _ _ _ _ _ _ hf) hrest hdg kk
end T3_putsIn_c
noncomputable def f3_parted_b1c (y1 : Int32) (y3 : Int32) (y4 : Int32) (y5 : Int32) (M_4 : ww_M) (x6 : Int32) : Option ((ww_M × Int32) ⊕ (Int32 × ww_M)) :=
  if y4 ≤ x6 then ww_x (ww_g (ww_i y3 12000) (ww_g (ww_i y1 12000) (some (y3, (ww_sX (ww_sX M_4 11 y3 y4) 11 y1 y5))))) else ww_g (ww_i ((((7 : Int32) * y1) + y5) + x6) 84000) (ww_g (ww_i (((7 : Int32) * y3) + x6) 84000) (ww_g (ww_i ((((7 : Int32) * y1) + y5) + x6) 84000) (ww_g (ww_i (((7 : Int32) * y3) + x6) 84000) (some (.inl ((ww_sX (ww_sX M_4 15 (((7 : Int32) * y3) + x6) (ww_X M_4 15 ((((7 : Int32) * y1) + y5) + x6))) 16 (((7 : Int32) * y3) + x6) (ww_X (ww_sX M_4 15 (((7 : Int32) * y3) + x6) (ww_X M_4 15 ((((7 : Int32) * y1) + y5) + x6))) 16 ((((7 : Int32) * y1) + y5) + x6))), (x6 + (1 : Int32))))))))
noncomputable def f3_parted_b1 (y1 : Int32) (y3 : Int32) (y4 : Int32) (y5 : Int32) : (ww_M × Int32) → Option ((ww_M × Int32) ⊕ (Int32 × ww_M)) := fun s9 => f3_parted_b1c y1 y3 y4 y5 s9.1 s9.2
noncomputable def f3_parted (M : ww_M) (x1 : Int32) (x2 : Int32) : Option (Int32 × ww_M) :=
  ww_g (ww_i x1 12000) (ww_b2 (f3_fresh M (ww_X M 10 x1) x2) (fun r_2 M_2 => ww_g (ww_i x1 12000) (ww_U (f3_parted_b1 x1 r_2 (((ww_F M_2 19) + (1 : Int32)) / (2 : Int32)) ((ww_X M_2 11 x1) - (((ww_F M_2 19) + (1 : Int32)) / (2 : Int32)))) (M_2, (0 : Int32)))))
section T3_parted_k
variable {p : Program} {l : Launch} {e : Env} {R : Room} {s : State} {m : MethodId} {args : Array Value} {below : List Frame} {meth : Method} {c : Code} {H : Heap} {locs : List Loc} {Q : State → Prop}
variable {cc : ByteArray} {pc : Nat} {ls : Array Slot} {rest : List Value} {nL : Nat} {E : ww_E} {A : Nat → Prop} {H0 : Heap}
theorem t3k_parted {M M' : ww_M} {x1 : Int32} {x2 : Int32} {r : Int32} (X : ww_C p m c cc nL s args RX3 lw_all) (hsz : ls.size = nL) (hK : t3_Kn E s) (hD : t3_D E) (hR : t3_H E M H) (hS : va_S (t3_A E) H0 H locs) (hF : 2 ≤ R.frames) (hLo : 49 ≤ R.locals) (hM : t3_Met l yX3_parted cX3_parted 7 (some Jvm.ClassFile.FieldType.int) 1 23 E [.int x1, .int x2] M M' r) (hrest : (rest.map fun v => v.category).sum ≤ 8) (hdg : decode cc pc = .ok (.invokevirtual 229, 3)) (kk : ∀ (H1 : Heap) (locs1 : List Loc), t3_H E M' H1 → va_S (t3_A E) H0 H1 locs1 → W p l e R s m args below meth c H1 locs1 0 0 Q (F0 m (pc + 3) ls (.int r :: rest))) : W p l e R s m args below meth c H locs 0 0 Q (F0 m pc ls (.int x2 :: .int x1 :: .ref E.1 :: rest)) :=
  t3_callI (n := 2) X hsz hK hR hS (As := [.int x1, .int x2]) hM (lw_V q2015 q2017 qs87 q135 q2018) (by decide +kernel) rfl hF hLo (Nat.zero_le _) (Nat.zero_le _) hrest hdg kk
end T3_parted_k
set_option maxHeartbeats 4000000 in
set_option maxRecDepth 100000 in
theorem met3_parted (l : Launch) {E : ww_E} (hD : t3_D E) (M : ww_M) (x1 : Int32) (x2 : Int32) (r : Int32) (M' : ww_M) (hf : f3_parted M x1 x2 = some (r, M')) : t3_Met l yX3_parted cX3_parted 7 (some Jvm.ClassFile.FieldType.int) 1 23 E [.int x1, .int x2] M M' r := by
  unfold f3_parted at hf
  refine t3_start (by decide +kernel) (Nat.le_of_ble_eq_true rfl) ?_
  intro p e s m args below meth c Rm Q X hK hF hLo hend ls hl hR hS
  obtain ⟨hx, hb, hml, hown, hts⟩ := id X
  replace hl : lv_has ls 7 [(0, .ref E.1), (1, .int x1), (2, .int x2)] := hl
  refine lv_aload_n hx hb dX3_parted_0 rfl (lv_at hl 0 rfl) ?_
  refine lv_aload_n hx hb dX3_parted_1 rfl (lv_at hl 0 rfl) ?_
  refine t3g_10 X hK hR dX3_parted_2 ?_
  refine lv_iload_n hx hb dX3_parted_5 rfl (lv_at hl 1 rfl) ?_
  obtain ⟨h_1, hf⟩ := ww_gS hf
  refine t3l_10 X hK hR h_1 dX3_parted_6 ?_
  refine lv_iload_n hx hb dX3_parted_7 rfl (lv_at hl 2 rfl) ?_
  obtain ⟨r_2, M_2, h_2, hf⟩ := ww_b2S hf
  refine t3c_fresh X hl.1 hK hD hR hS (Nat.le_trans (Nat.le_of_ble_eq_true rfl) hF) (Nat.le_trans (Nat.le_of_ble_eq_true rfl) hLo) h_2 (Nat.le_of_ble_eq_true rfl) dX3_parted_8 (fun H locs hR hS => ?_)
  refine lv_istore_n (lv' := [(3, .int r_2), (0, .ref E.1), (1, .int x1), (2, .int x2)]) hx hb dX3_parted_11 rfl hl (by decide) rfl (fun ls hl => ?_)
  refine lv_aload_n hx hb dX3_parted_12 rfl (lv_at hl 1 rfl) ?_
  refine t3g_19 X hK hR dX3_parted_13 ?_
  refine lv_iconst (v := (1 : Int32)) hx hb dX3_parted_16 (by decide) ?_
  refine lv_iadd hx hb dX3_parted_17 ?_
  refine lv_iconst (v := (2 : Int32)) hx hb dX3_parted_18 (by decide) ?_
  refine lv_idiv hx hb dX3_parted_19 (by decide) ?_
  refine lv_istore (lv' := [(4, .int (((ww_F M_2 19) + (1 : Int32)) / (2 : Int32))), (3, .int r_2), (0, .ref E.1), (1, .int x1), (2, .int x2)]) hx hb dX3_parted_20 hl (by decide) rfl (fun ls hl => ?_)
  refine lv_aload_n hx hb dX3_parted_22 rfl (lv_at hl 2 rfl) ?_
  refine t3g_11 X hK hR dX3_parted_23 ?_
  refine lv_iload_n hx hb dX3_parted_26 rfl (lv_at hl 3 rfl) ?_
  obtain ⟨h_3, hf⟩ := ww_gS hf
  refine t3l_11 X hK hR h_3 dX3_parted_27 ?_
  refine lv_iload hx hb dX3_parted_28 (lv_at hl 0 rfl) ?_
  refine lv_isub hx hb dX3_parted_30 ?_
  refine lv_istore (lv' := [(5, .int ((ww_X M_2 11 x1) - (((ww_F M_2 19) + (1 : Int32)) / (2 : Int32)))), (4, .int (((ww_F M_2 19) + (1 : Int32)) / (2 : Int32))), (3, .int r_2), (0, .ref E.1), (1, .int x1), (2, .int x2)]) hx hb dX3_parted_31 hl (by decide) rfl (fun ls hl => ?_)
  refine lv_iconst (v := (0 : Int32)) hx hb dX3_parted_33 (by decide) ?_
  refine lv_istore (lv' := [(6, .int (0 : Int32)), (5, .int ((ww_X M_2 11 x1) - (((ww_F M_2 19) + (1 : Int32)) / (2 : Int32)))), (4, .int (((ww_F M_2 19) + (1 : Int32)) / (2 : Int32))), (3, .int r_2), (0, .ref E.1), (1, .int x1), (2, .int x2)]) hx hb dX3_parted_34 hl (by decide) rfl (fun ls hl => ?_)
  have hL_1 : ∀ s9 : ww_M × Int32, ww_U (f3_parted_b1 x1 r_2 (((ww_F M_2 19) + (1 : Int32)) / (2 : Int32)) ((ww_X M_2 11 x1) - (((ww_F M_2 19) + (1 : Int32)) / (2 : Int32)))) s9 = some (r, M') → ∀ (H : Heap) (locs : List Loc) (ls : Array Slot), t3_H E s9.1 H → va_S (t3_A E) s.heap H locs → lv_has ls 7 [(0, .ref E.1), (1, .int x1), (3, .int r_2), (4, .int (((ww_F M_2 19) + (1 : Int32)) / (2 : Int32))), (5, .int ((ww_X M_2 11 x1) - (((ww_F M_2 19) + (1 : Int32)) / (2 : Int32)))), (6, .int s9.2)] → W p l e Rm s m args below meth c H locs 0 0 Q (F0 m 36 ls []) := by
    refine ww_ind _ (r, M') ?_
    intro s9 z_1 hf hz_1 H locs ls hR hS hl
    obtain ⟨M_4, x6⟩ := s9
    replace hf : f3_parted_b1c x1 r_2 (((ww_F M_2 19) + (1 : Int32)) / (2 : Int32)) ((ww_X M_2 11 x1) - (((ww_F M_2 19) + (1 : Int32)) / (2 : Int32))) M_4 x6 = some z_1 := hf
    unfold f3_parted_b1c at hf
    replace hR : t3_H E M_4 H := hR
    replace hl : lv_has ls 7 [(0, .ref E.1), (1, .int x1), (3, .int r_2), (4, .int (((ww_F M_2 19) + (1 : Int32)) / (2 : Int32))), (5, .int ((ww_X M_2 11 x1) - (((ww_F M_2 19) + (1 : Int32)) / (2 : Int32)))), (6, .int x6)] := hl
    refine lv_iload hx hb dX3_parted_36 (lv_at hl 5 rfl) ?_
    refine lv_iload hx hb dX3_parted_38 (lv_at hl 3 rfl) ?_
    refine lv_icmp_ge (tgt := 103) hx hb dX3_parted_40 (by decide) (fun c_5 => ?_) (fun c_5 => ?_)
    · replace hf := ww_ip hf c_5
      replace hf := ww_xK hf hz_1
      refine lv_aload_n hx hb dX3_parted_103 rfl (lv_at hl 0 rfl) ?_
      refine t3g_11 X hK hR dX3_parted_104 ?_
      refine lv_iload_n hx hb dX3_parted_107 rfl (lv_at hl 2 rfl) ?_
      refine lv_iload hx hb dX3_parted_108 (lv_at hl 3 rfl) ?_
      obtain ⟨h_6, hf⟩ := ww_gS hf
      refine t3s_11 X hK hD hR hS h_6 dX3_parted_110 (fun H locs hR hS => ?_)
      refine lv_aload_n hx hb dX3_parted_111 rfl (lv_at hl 0 rfl) ?_
      refine t3g_11 X hK hR dX3_parted_112 ?_
      refine lv_iload_n hx hb dX3_parted_115 rfl (lv_at hl 1 rfl) ?_
      refine lv_iload hx hb dX3_parted_116 (lv_at hl 4 rfl) ?_
      obtain ⟨h_7, hf⟩ := ww_gS hf
      refine t3s_11 X hK hD hR hS h_7 dX3_parted_118 (fun H locs hR hS => ?_)
      refine lv_iload_n hx hb dX3_parted_119 rfl (lv_at hl 2 rfl) ?_
      exact hend dX3_parted_120 rfl rfl hf hR hS
    · replace hf := ww_in hf c_5
      refine lv_aload_n hx hb dX3_parted_43 rfl (lv_at hl 0 rfl) ?_
      refine t3g_15 X hK hR dX3_parted_44 ?_
      refine lv_bipush (v := (7 : Int32)) hx hb dX3_parted_47 (by decide) ?_
      refine lv_iload_n hx hb dX3_parted_49 rfl (lv_at hl 2 rfl) ?_
      refine lv_imul hx hb dX3_parted_50 ?_
      refine lv_iload hx hb dX3_parted_51 (lv_at hl 5 rfl) ?_
      refine lv_iadd hx hb dX3_parted_53 ?_
      refine lv_aload_n hx hb dX3_parted_54 rfl (lv_at hl 0 rfl) ?_
      refine t3g_15 X hK hR dX3_parted_55 ?_
      refine lv_bipush (v := (7 : Int32)) hx hb dX3_parted_58 (by decide) ?_
      refine lv_iload_n hx hb dX3_parted_60 rfl (lv_at hl 1 rfl) ?_
      refine lv_imul hx hb dX3_parted_61 ?_
      refine lv_iload hx hb dX3_parted_62 (lv_at hl 4 rfl) ?_
      refine lv_iadd hx hb dX3_parted_64 ?_
      refine lv_iload hx hb dX3_parted_65 (lv_at hl 5 rfl) ?_
      refine lv_iadd hx hb dX3_parted_67 ?_
      obtain ⟨h_8, hf⟩ := ww_gS hf
      refine t3l_15 X hK hR h_8 dX3_parted_68 ?_
      obtain ⟨h_9, hf⟩ := ww_gS hf
      refine t3s_15 X hK hD hR hS h_9 dX3_parted_69 (fun H locs hR hS => ?_)
      refine lv_aload_n hx hb dX3_parted_70 rfl (lv_at hl 0 rfl) ?_
      refine t3g_16 X hK hR dX3_parted_71 ?_
      refine lv_bipush (v := (7 : Int32)) hx hb dX3_parted_74 (by decide) ?_
      refine lv_iload_n hx hb dX3_parted_76 rfl (lv_at hl 2 rfl) ?_
      refine lv_imul hx hb dX3_parted_77 ?_
      refine lv_iload hx hb dX3_parted_78 (lv_at hl 5 rfl) ?_
      refine lv_iadd hx hb dX3_parted_80 ?_
      refine lv_aload_n hx hb dX3_parted_81 rfl (lv_at hl 0 rfl) ?_
      refine t3g_16 X hK hR dX3_parted_82 ?_
      refine lv_bipush (v := (7 : Int32)) hx hb dX3_parted_85 (by decide) ?_
      refine lv_iload_n hx hb dX3_parted_87 rfl (lv_at hl 1 rfl) ?_
      refine lv_imul hx hb dX3_parted_88 ?_
      refine lv_iload hx hb dX3_parted_89 (lv_at hl 4 rfl) ?_
      refine lv_iadd hx hb dX3_parted_91 ?_
      refine lv_iload hx hb dX3_parted_92 (lv_at hl 5 rfl) ?_
      refine lv_iadd hx hb dX3_parted_94 ?_
      obtain ⟨h_10, hf⟩ := ww_gS hf
      refine t3l_16 X hK hR h_10 dX3_parted_95 ?_
      obtain ⟨h_11, hf⟩ := ww_gS hf
      refine t3s_16 X hK hD hR hS h_11 dX3_parted_96 (fun H locs hR hS => ?_)
      refine lv_iinc (k := 5) (v := x6 + (1 : Int32)) (lv' := [(6, .int (x6 + (1 : Int32))), (0, .ref E.1), (1, .int x1), (3, .int r_2), (4, .int (((ww_F M_2 19) + (1 : Int32)) / (2 : Int32))), (5, .int ((ww_X M_2 11 x1) - (((ww_F M_2 19) + (1 : Int32)) / (2 : Int32))))]) hx hb dX3_parted_97 hl rfl rfl (by decide) rfl (fun ls hl => ?_)
      refine lv_goto (tgt := 36) hx hb dX3_parted_100 (by decide) ?_
      exact ww_lK hf hz_1 _ _ _ hR hS (lv_sub hl [1, 2, 3, 4, 5, 0] rfl)
  exact hL_1 (M_2, (0 : Int32)) hf _ _ _ hR hS (lv_sub hl [4, 5, 3, 2, 1, 0] rfl)
section T3_parted_c
variable {p : Program} {l : Launch} {e : Env} {R : Room} {s : State} {m : MethodId} {args : Array Value} {below : List Frame} {meth : Method} {c : Code} {H : Heap} {locs : List Loc} {Q : State → Prop}
variable {cc : ByteArray} {pc : Nat} {ls : Array Slot} {rest : List Value} {nL : Nat} {E : ww_E} {A : Nat → Prop} {H0 : Heap}
theorem t3c_parted {M M' : ww_M} {x1 : Int32} {x2 : Int32} {r : Int32} (X : ww_C p m c cc nL s args RX3 lw_all) (hsz : ls.size = nL) (hK : t3_Kn E s) (hD : t3_D E) (hR : t3_H E M H) (hS : va_S (t3_A E) H0 H locs) (hF : 2 ≤ R.frames) (hLo : 49 ≤ R.locals) (hf : f3_parted M x1 x2 = some (r, M')) (hrest : (rest.map fun v => v.category).sum ≤ 8) (hdg : decode cc pc = .ok (.invokevirtual 229, 3)) (kk : ∀ (H1 : Heap) (locs1 : List Loc), t3_H E M' H1 → va_S (t3_A E) H0 H1 locs1 → W p l e R s m args below meth c H1 locs1 0 0 Q (F0 m (pc + 3) ls (.int r :: rest))) : W p l e R s m args below meth c H locs 0 0 Q (F0 m pc ls (.int x2 :: .int x1 :: .ref E.1 :: rest)) :=
  t3k_parted X hsz hK hD hR hS hF hLo (met3_parted l hD _ _ _ _ _ hf) hrest hdg kk
end T3_parted_c
noncomputable def f3_puts_b1c (y4 : Int32) (M_8 : ww_M) (x5 : Int32) (x8 : Int32) : Option ((ww_M × Int32 × Int32) ⊕ (Int32 × ww_M)) :=
  if x8 < 0 then ww_x (some (x5, M_8)) else ww_g (ww_i x8 10) (ww_g (ww_i (ww_X M_8 23 x8) 12000) (if (ww_X M_8 11 (ww_X M_8 23 x8)) ≤ (ww_F M_8 19) then ww_x (some (x5, M_8)) else ww_g (ww_i x8 10) (ww_b2 (f3_parted M_8 (ww_X M_8 23 x8) y4) (fun r_14 M_14 => if x8 ≤ 0 then ww_b2 (f3_fresh M_14 (0 : Int32) y4) (fun r_16 M_16 => ww_g (ww_i (0 : Int32) 10) (ww_b (f3_putsIn M_16 r_16 (0 : Int32) (ww_X M_16 23 (0 : Int32)) (0 : Int32)) (fun M_18 => ww_b (f3_putsIn M_18 r_16 (1 : Int32) r_14 (0 : Int32)) (fun M_19 => some (.inl (M_19, r_16, (x8 + (-1 : Int32)))))))) else ww_g (ww_i (x8 - (1 : Int32)) 10) (ww_g (ww_i (x8 - (1 : Int32)) 10) (ww_b (f3_putsIn M_14 (ww_X M_14 23 (x8 - (1 : Int32))) ((ww_X M_14 24 (x8 - (1 : Int32))) + (1 : Int32)) r_14 (0 : Int32)) (fun M_22 => some (.inl (M_22, x5, (x8 + (-1 : Int32)))))))))))
noncomputable def f3_puts_b1 (y4 : Int32) : (ww_M × Int32 × Int32) → Option ((ww_M × Int32 × Int32) ⊕ (Int32 × ww_M)) := fun s9 => f3_puts_b1c y4 s9.1 s9.2.1 s9.2.2
noncomputable def f3_puts_j1 (M : ww_M) (y2 : Int32) (y3 : Int32) (y4 : Int32) (y5 : Int32) (y6 : Int32) (x7 : Int32) : Option (Int32 × ww_M) :=
  ww_b (f3_putsIn M y6 x7 y2 y3) (fun M_7 => ww_U (f3_puts_b1 y4) (M_7, y5, (ww_F M_7 25)))
noncomputable def f3_puts_b2c (M : ww_M) (y2 : Int32) (y3 : Int32) (y4 : Int32) (y5 : Int32) (y6 : Int32) (x7 : Int32) : Option ((Int32) ⊕ (Int32 × ww_M)) :=
  ww_g (ww_i y6 12000) (if (ww_X M 11 y6) ≤ x7 then ww_x (f3_puts_j1 M y2 y3 y4 y5 y6 x7) else ww_g (ww_i (((7 : Int32) * y6) + x7) 84000) (if y2 ≤ (ww_X M 15 (((7 : Int32) * y6) + x7)) then ww_x (f3_puts_j1 M y2 y3 y4 y5 y6 x7) else some (.inl (x7 + (1 : Int32)))))
noncomputable def f3_puts_b2 (M : ww_M) (y2 : Int32) (y3 : Int32) (y4 : Int32) (y5 : Int32) (y6 : Int32) : Int32 → Option ((Int32) ⊕ (Int32 × ww_M)) := fun s9 => f3_puts_b2c M y2 y3 y4 y5 y6 s9
noncomputable def f3_puts (M : ww_M) (x1 : Int32) (x2 : Int32) (x3 : Int32) (x4 : Int32) : Option (Int32 × ww_M) :=
  ww_b (f3_valueAt M x1 x2) (fun r_1 => if r_1 = x3 then some (x1, M) else ww_b2 (f3_goesDown M x1 x2 x4) (fun r_3 M_3 => ww_g (ww_i (ww_F M_3 25) 10) (ww_b (f3_spotIn M_3 (ww_X M_3 23 (ww_F M_3 25)) x2) (fun r_5 => if r_5 = (-1 : Int32) then ww_U (f3_puts_b2 M_3 x2 x3 x4 r_3 (ww_X M_3 23 (ww_F M_3 25))) (0 : Int32) else ww_g (ww_i (((7 : Int32) * (ww_X M_3 23 (ww_F M_3 25))) + r_5) 84000) (some (r_3, (ww_sX M_3 16 (((7 : Int32) * (ww_X M_3 23 (ww_F M_3 25))) + r_5) x3)))))))
section T3_puts_k
variable {p : Program} {l : Launch} {e : Env} {R : Room} {s : State} {m : MethodId} {args : Array Value} {below : List Frame} {meth : Method} {c : Code} {H : Heap} {locs : List Loc} {Q : State → Prop}
variable {cc : ByteArray} {pc : Nat} {ls : Array Slot} {rest : List Value} {nL : Nat} {E : ww_E} {A : Nat → Prop} {H0 : Heap}
theorem t3k_puts {M M' : ww_M} {x1 : Int32} {x2 : Int32} {x3 : Int32} {x4 : Int32} {r : Int32} (X : ww_C p m c cc nL s args RX3 lw_all) (hsz : ls.size = nL) (hK : t3_Kn E s) (hD : t3_D E) (hR : t3_H E M H) (hS : va_S (t3_A E) H0 H locs) (hF : 6 ≤ R.frames) (hLo : 144 ≤ R.locals) (hM : t3_Met l yX3_puts cX3_puts 11 (some Jvm.ClassFile.FieldType.int) 5 114 E [.int x1, .int x2, .int x3, .int x4] M M' r) (hrest : (rest.map fun v => v.category).sum ≤ 8) (hdg : decode cc pc = .ok (.invokevirtual 298, 3)) (kk : ∀ (H1 : Heap) (locs1 : List Loc), t3_H E M' H1 → va_S (t3_A E) H0 H1 locs1 → W p l e R s m args below meth c H1 locs1 0 0 Q (F0 m (pc + 3) ls (.int r :: rest))) : W p l e R s m args below meth c H locs 0 0 Q (F0 m pc ls (.int x4 :: .int x3 :: .int x2 :: .int x1 :: .ref E.1 :: rest)) :=
  t3_callI (n := 4) X hsz hK hR hS (As := [.int x1, .int x2, .int x3, .int x4]) hM (lw_V q1979 q1981 qs78 q135 q1982) (by decide +kernel) rfl hF hLo (Nat.zero_le _) (Nat.zero_le _) hrest hdg kk
end T3_puts_k
set_option maxHeartbeats 4000000 in
set_option maxRecDepth 100000 in
theorem met3_puts (l : Launch) {E : ww_E} (hD : t3_D E) (M : ww_M) (x1 : Int32) (x2 : Int32) (x3 : Int32) (x4 : Int32) (r : Int32) (M' : ww_M) (hf : f3_puts M x1 x2 x3 x4 = some (r, M')) : t3_Met l yX3_puts cX3_puts 11 (some Jvm.ClassFile.FieldType.int) 5 114 E [.int x1, .int x2, .int x3, .int x4] M M' r := by
  unfold f3_puts at hf
  refine t3_start (by decide +kernel) (Nat.le_of_ble_eq_true rfl) ?_
  intro p e s m args below meth c Rm Q X hK hF hLo hend ls hl hR hS
  obtain ⟨hx, hb, hml, hown, hts⟩ := id X
  replace hl : lv_has ls 11 [(0, .ref E.1), (1, .int x1), (2, .int x2), (3, .int x3), (4, .int x4)] := hl
  refine lv_aload_n hx hb dX3_puts_0 rfl (lv_at hl 0 rfl) ?_
  refine lv_iload_n hx hb dX3_puts_1 rfl (lv_at hl 1 rfl) ?_
  refine lv_iload_n hx hb dX3_puts_2 rfl (lv_at hl 2 rfl) ?_
  obtain ⟨r_1, h_1, hf⟩ := ww_bS hf
  refine t3c_valueAt X hl.1 hK hD hR hS (Nat.le_trans (Nat.le_of_ble_eq_true rfl) hF) (Nat.le_trans (Nat.le_of_ble_eq_true rfl) hLo) h_1 (Nat.le_of_ble_eq_true rfl) dX3_puts_3 (fun H locs hR hS => ?_)
  refine lv_iload_n hx hb dX3_puts_6 rfl (lv_at hl 3 rfl) ?_
  refine lv_icmp_ne (tgt := 12) hx hb dX3_puts_7 (by decide) (fun c_2 => ?_) (fun c_2 => ?_)
  · replace hf := ww_in hf c_2
    refine lv_aload_n hx hb dX3_puts_12 rfl (lv_at hl 0 rfl) ?_
    refine lv_iload_n hx hb dX3_puts_13 rfl (lv_at hl 1 rfl) ?_
    refine lv_iload_n hx hb dX3_puts_14 rfl (lv_at hl 2 rfl) ?_
    refine lv_iload hx hb dX3_puts_15 (lv_at hl 4 rfl) ?_
    obtain ⟨r_3, M_3, h_3, hf⟩ := ww_b2S hf
    refine t3c_goesDown X hl.1 hK hD hR hS (Nat.le_trans (Nat.le_of_ble_eq_true rfl) hF) (Nat.le_trans (Nat.le_of_ble_eq_true rfl) hLo) h_3 (Nat.le_of_ble_eq_true rfl) dX3_puts_17 (fun H locs hR hS => ?_)
    refine lv_istore (lv' := [(5, .int r_3), (0, .ref E.1), (1, .int x1), (2, .int x2), (3, .int x3), (4, .int x4)]) hx hb dX3_puts_20 hl (by decide) rfl (fun ls hl => ?_)
    refine lv_aload_n hx hb dX3_puts_22 rfl (lv_at hl 1 rfl) ?_
    refine t3g_23 X hK hR dX3_puts_23 ?_
    refine lv_aload_n hx hb dX3_puts_26 rfl (lv_at hl 1 rfl) ?_
    refine t3g_25 X hK hR dX3_puts_27 ?_
    obtain ⟨h_4, hf⟩ := ww_gS hf
    refine t3l_23 X hK hR h_4 dX3_puts_30 ?_
    refine lv_istore (lv' := [(6, .int (ww_X M_3 23 (ww_F M_3 25))), (5, .int r_3), (0, .ref E.1), (1, .int x1), (2, .int x2), (3, .int x3), (4, .int x4)]) hx hb dX3_puts_31 hl (by decide) rfl (fun ls hl => ?_)
    refine lv_aload_n hx hb dX3_puts_33 rfl (lv_at hl 2 rfl) ?_
    refine lv_iload hx hb dX3_puts_34 (lv_at hl 0 rfl) ?_
    refine lv_iload_n hx hb dX3_puts_36 rfl (lv_at hl 4 rfl) ?_
    obtain ⟨r_5, h_5, hf⟩ := ww_bS hf
    refine t3c_spotIn X hl.1 hK hD hR hS (Nat.le_trans (Nat.le_of_ble_eq_true rfl) hF) (Nat.le_trans (Nat.le_of_ble_eq_true rfl) hLo) h_5 (Nat.le_of_ble_eq_true rfl) dX3_puts_37 (fun H locs hR hS => ?_)
    refine lv_istore (lv' := [(7, .int r_5), (6, .int (ww_X M_3 23 (ww_F M_3 25))), (5, .int r_3), (0, .ref E.1), (1, .int x1), (2, .int x2), (3, .int x3), (4, .int x4)]) hx hb dX3_puts_40 hl (by decide) rfl (fun ls hl => ?_)
    refine lv_iload hx hb dX3_puts_42 (lv_at hl 0 rfl) ?_
    refine lv_iconst (v := (-1 : Int32)) hx hb dX3_puts_44 (by decide) ?_
    refine lv_icmp_eq (tgt := 65) hx hb dX3_puts_45 (by decide) (fun c_6 => ?_) (fun c_6 => ?_)
    · replace hf := ww_ip hf c_6
      refine lv_iconst (v := (0 : Int32)) hx hb dX3_puts_65 (by decide) ?_
      refine lv_istore (lv' := [(7, .int (0 : Int32)), (6, .int (ww_X M_3 23 (ww_F M_3 25))), (5, .int r_3), (0, .ref E.1), (1, .int x1), (2, .int x2), (3, .int x3), (4, .int x4)]) hx hb dX3_puts_66 hl (by decide) rfl (fun ls hl => ?_)
      have hj_1 : ∀ (x7 : Int32), f3_puts_j1 M_3 x2 x3 x4 r_3 (ww_X M_3 23 (ww_F M_3 25)) x7 = some (r, M') → ∀ (H : Heap) (locs : List Loc) (ls : Array Slot), t3_H E M_3 H → va_S (t3_A E) s.heap H locs → lv_has ls 11 [(0, .ref E.1), (2, .int x2), (3, .int x3), (4, .int x4), (5, .int r_3), (6, .int (ww_X M_3 23 (ww_F M_3 25))), (7, .int x7)] → W p l e Rm s m args below meth c H locs 0 0 Q (F0 m 103 ls []) := by
        intro x7 hf H locs ls hR hS hl
        unfold f3_puts_j1 at hf
        refine lv_aload_n hx hb dX3_puts_103 rfl (lv_at hl 0 rfl) ?_
        refine lv_iload hx hb dX3_puts_104 (lv_at hl 5 rfl) ?_
        refine lv_iload hx hb dX3_puts_106 (lv_at hl 6 rfl) ?_
        refine lv_iload_n hx hb dX3_puts_108 rfl (lv_at hl 1 rfl) ?_
        refine lv_iload_n hx hb dX3_puts_109 rfl (lv_at hl 2 rfl) ?_
        obtain ⟨M_7, h_7, hf⟩ := ww_bS hf
        refine t3c_putsIn X hl.1 hK hD hR hS (Nat.le_trans (Nat.le_of_ble_eq_true rfl) hF) (Nat.le_trans (Nat.le_of_ble_eq_true rfl) hLo) h_7 (Nat.le_of_ble_eq_true rfl) dX3_puts_110 (fun H locs hR hS => ?_)
        refine lv_aload_n hx hb dX3_puts_113 rfl (lv_at hl 0 rfl) ?_
        refine t3g_25 X hK hR dX3_puts_114 ?_
        refine lv_istore (lv' := [(8, .int (ww_F M_7 25)), (0, .ref E.1), (2, .int x2), (3, .int x3), (4, .int x4), (5, .int r_3), (6, .int (ww_X M_3 23 (ww_F M_3 25))), (7, .int x7)]) hx hb dX3_puts_117 hl (by decide) rfl (fun ls hl => ?_)
        have hL_1 : ∀ s9 : ww_M × Int32 × Int32, ww_U (f3_puts_b1 x4) s9 = some (r, M') → ∀ (H : Heap) (locs : List Loc) (ls : Array Slot), t3_H E s9.1 H → va_S (t3_A E) s.heap H locs → lv_has ls 11 [(0, .ref E.1), (4, .int x4), (5, .int s9.2.1), (8, .int s9.2.2)] → W p l e Rm s m args below meth c H locs 0 0 Q (F0 m 119 ls []) := by
          refine ww_ind _ (r, M') ?_
          intro s9 z_1 hf hz_1 H locs ls hR hS hl
          obtain ⟨M_8, x5, x8⟩ := s9
          replace hf : f3_puts_b1c x4 M_8 x5 x8 = some z_1 := hf
          unfold f3_puts_b1c at hf
          replace hR : t3_H E M_8 H := hR
          replace hl : lv_has ls 11 [(0, .ref E.1), (4, .int x4), (5, .int x5), (8, .int x8)] := hl
          refine lv_iload hx hb dX3_puts_119 (lv_at hl 3 rfl) ?_
          refine lv_if_lt (tgt := 236) hx hb dX3_puts_121 (by decide) (fun c_9 => ?_) (fun c_9 => ?_)
          · replace hf := ww_ip hf c_9
            replace hf := ww_xK hf hz_1
            refine lv_iload hx hb dX3_puts_236 (lv_at hl 2 rfl) ?_
            exact hend dX3_puts_238 rfl rfl hf hR hS
          · replace hf := ww_in hf c_9
            refine lv_aload_n hx hb dX3_puts_124 rfl (lv_at hl 0 rfl) ?_
            refine t3g_11 X hK hR dX3_puts_125 ?_
            refine lv_aload_n hx hb dX3_puts_128 rfl (lv_at hl 0 rfl) ?_
            refine t3g_23 X hK hR dX3_puts_129 ?_
            refine lv_iload hx hb dX3_puts_132 (lv_at hl 3 rfl) ?_
            obtain ⟨h_10, hf⟩ := ww_gS hf
            refine t3l_23 X hK hR h_10 dX3_puts_134 ?_
            obtain ⟨h_11, hf⟩ := ww_gS hf
            refine t3l_11 X hK hR h_11 dX3_puts_135 ?_
            refine lv_aload_n hx hb dX3_puts_136 rfl (lv_at hl 0 rfl) ?_
            refine t3g_19 X hK hR dX3_puts_137 ?_
            refine lv_icmp_le (tgt := 236) hx hb dX3_puts_140 (by decide) (fun c_12 => ?_) (fun c_12 => ?_)
            · replace hf := ww_ip hf c_12
              replace hf := ww_xK hf hz_1
              refine lv_iload hx hb dX3_puts_236 (lv_at hl 2 rfl) ?_
              exact hend dX3_puts_238 rfl rfl hf hR hS
            · replace hf := ww_in hf c_12
              refine lv_aload_n hx hb dX3_puts_143 rfl (lv_at hl 0 rfl) ?_
              refine lv_aload_n hx hb dX3_puts_144 rfl (lv_at hl 0 rfl) ?_
              refine t3g_23 X hK hR dX3_puts_145 ?_
              refine lv_iload hx hb dX3_puts_148 (lv_at hl 3 rfl) ?_
              obtain ⟨h_13, hf⟩ := ww_gS hf
              refine t3l_23 X hK hR h_13 dX3_puts_150 ?_
              refine lv_iload hx hb dX3_puts_151 (lv_at hl 1 rfl) ?_
              obtain ⟨r_14, M_14, h_14, hf⟩ := ww_b2S hf
              refine t3c_parted X hl.1 hK hD hR hS (Nat.le_trans (Nat.le_of_ble_eq_true rfl) hF) (Nat.le_trans (Nat.le_of_ble_eq_true rfl) hLo) h_14 (Nat.le_of_ble_eq_true rfl) dX3_puts_153 (fun H locs hR hS => ?_)
              refine lv_istore (lv' := [(9, .int r_14), (0, .ref E.1), (4, .int x4), (5, .int x5), (8, .int x8)]) hx hb dX3_puts_156 hl (by decide) rfl (fun ls hl => ?_)
              refine lv_iload hx hb dX3_puts_158 (lv_at hl 4 rfl) ?_
              refine lv_if_le (tgt := 193) hx hb dX3_puts_160 (by decide) (fun c_15 => ?_) (fun c_15 => ?_)
              · replace hf := ww_ip hf c_15
                refine lv_aload_n hx hb dX3_puts_193 rfl (lv_at hl 1 rfl) ?_
                refine lv_iconst (v := (0 : Int32)) hx hb dX3_puts_194 (by decide) ?_
                refine lv_iload hx hb dX3_puts_195 (lv_at hl 2 rfl) ?_
                obtain ⟨r_16, M_16, h_16, hf⟩ := ww_b2S hf
                refine t3c_fresh X hl.1 hK hD hR hS (Nat.le_trans (Nat.le_of_ble_eq_true rfl) hF) (Nat.le_trans (Nat.le_of_ble_eq_true rfl) hLo) h_16 (Nat.le_of_ble_eq_true rfl) dX3_puts_197 (fun H locs hR hS => ?_)
                refine lv_istore (lv' := [(10, .int r_16), (9, .int r_14), (0, .ref E.1), (4, .int x4), (5, .int x5), (8, .int x8)]) hx hb dX3_puts_200 hl (by decide) rfl (fun ls hl => ?_)
                refine lv_aload_n hx hb dX3_puts_202 rfl (lv_at hl 2 rfl) ?_
                refine lv_iload hx hb dX3_puts_203 (lv_at hl 0 rfl) ?_
                refine lv_iconst (v := (0 : Int32)) hx hb dX3_puts_205 (by decide) ?_
                refine lv_aload_n hx hb dX3_puts_206 rfl (lv_at hl 2 rfl) ?_
                refine t3g_23 X hK hR dX3_puts_207 ?_
                refine lv_iconst (v := (0 : Int32)) hx hb dX3_puts_210 (by decide) ?_
                obtain ⟨h_17, hf⟩ := ww_gS hf
                refine t3l_23 X hK hR h_17 dX3_puts_211 ?_
                refine lv_iconst (v := (0 : Int32)) hx hb dX3_puts_212 (by decide) ?_
                obtain ⟨M_18, h_18, hf⟩ := ww_bS hf
                refine t3c_putsIn X hl.1 hK hD hR hS (Nat.le_trans (Nat.le_of_ble_eq_true rfl) hF) (Nat.le_trans (Nat.le_of_ble_eq_true rfl) hLo) h_18 (Nat.le_of_ble_eq_true rfl) dX3_puts_213 (fun H locs hR hS => ?_)
                refine lv_aload_n hx hb dX3_puts_216 rfl (lv_at hl 2 rfl) ?_
                refine lv_iload hx hb dX3_puts_217 (lv_at hl 0 rfl) ?_
                refine lv_iconst (v := (1 : Int32)) hx hb dX3_puts_219 (by decide) ?_
                refine lv_iload hx hb dX3_puts_220 (lv_at hl 1 rfl) ?_
                refine lv_iconst (v := (0 : Int32)) hx hb dX3_puts_222 (by decide) ?_
                obtain ⟨M_19, h_19, hf⟩ := ww_bS hf
                refine t3c_putsIn X hl.1 hK hD hR hS (Nat.le_trans (Nat.le_of_ble_eq_true rfl) hF) (Nat.le_trans (Nat.le_of_ble_eq_true rfl) hLo) h_19 (Nat.le_of_ble_eq_true rfl) dX3_puts_223 (fun H locs hR hS => ?_)
                refine lv_iload hx hb dX3_puts_226 (lv_at hl 0 rfl) ?_
                refine lv_istore (lv' := [(5, .int r_16), (10, .int r_16), (9, .int r_14), (0, .ref E.1), (4, .int x4), (8, .int x8)]) hx hb dX3_puts_228 hl (by decide) rfl (fun ls hl => ?_)
                refine lv_iinc (k := 5) (v := x8 + (-1 : Int32)) (lv' := [(8, .int (x8 + (-1 : Int32))), (5, .int r_16), (10, .int r_16), (9, .int r_14), (0, .ref E.1), (4, .int x4)]) hx hb dX3_puts_230 hl rfl rfl (by decide) rfl (fun ls hl => ?_)
                refine lv_goto (tgt := 119) hx hb dX3_puts_233 (by decide) ?_
                exact ww_lK hf hz_1 _ _ _ hR hS (lv_sub hl [4, 5, 1, 0] rfl)
              · replace hf := ww_in hf c_15
                refine lv_aload_n hx hb dX3_puts_163 rfl (lv_at hl 1 rfl) ?_
                refine lv_aload_n hx hb dX3_puts_164 rfl (lv_at hl 1 rfl) ?_
                refine t3g_23 X hK hR dX3_puts_165 ?_
                refine lv_iload hx hb dX3_puts_168 (lv_at hl 4 rfl) ?_
                refine lv_iconst (v := (1 : Int32)) hx hb dX3_puts_170 (by decide) ?_
                refine lv_isub hx hb dX3_puts_171 ?_
                obtain ⟨h_20, hf⟩ := ww_gS hf
                refine t3l_23 X hK hR h_20 dX3_puts_172 ?_
                refine lv_aload_n hx hb dX3_puts_173 rfl (lv_at hl 1 rfl) ?_
                refine t3g_24 X hK hR dX3_puts_174 ?_
                refine lv_iload hx hb dX3_puts_177 (lv_at hl 4 rfl) ?_
                refine lv_iconst (v := (1 : Int32)) hx hb dX3_puts_179 (by decide) ?_
                refine lv_isub hx hb dX3_puts_180 ?_
                obtain ⟨h_21, hf⟩ := ww_gS hf
                refine t3l_24 X hK hR h_21 dX3_puts_181 ?_
                refine lv_iconst (v := (1 : Int32)) hx hb dX3_puts_182 (by decide) ?_
                refine lv_iadd hx hb dX3_puts_183 ?_
                refine lv_iload hx hb dX3_puts_184 (lv_at hl 0 rfl) ?_
                refine lv_iconst (v := (0 : Int32)) hx hb dX3_puts_186 (by decide) ?_
                obtain ⟨M_22, h_22, hf⟩ := ww_bS hf
                refine t3c_putsIn X hl.1 hK hD hR hS (Nat.le_trans (Nat.le_of_ble_eq_true rfl) hF) (Nat.le_trans (Nat.le_of_ble_eq_true rfl) hLo) h_22 (Nat.le_of_ble_eq_true rfl) dX3_puts_187 (fun H locs hR hS => ?_)
                refine lv_goto (tgt := 230) hx hb dX3_puts_190 (by decide) ?_
                refine lv_iinc (k := 4) (v := x8 + (-1 : Int32)) (lv' := [(8, .int (x8 + (-1 : Int32))), (9, .int r_14), (0, .ref E.1), (4, .int x4), (5, .int x5)]) hx hb dX3_puts_230 hl rfl rfl (by decide) rfl (fun ls hl => ?_)
                refine lv_goto (tgt := 119) hx hb dX3_puts_233 (by decide) ?_
                exact ww_lK hf hz_1 _ _ _ hR hS (lv_sub hl [2, 3, 4, 0] rfl)
        exact hL_1 (M_7, r_3, (ww_F M_7 25)) hf _ _ _ hR hS (lv_sub hl [1, 4, 5, 0] rfl)
      have hL_2 : ∀ s9 : Int32, ww_U (f3_puts_b2 M_3 x2 x3 x4 r_3 (ww_X M_3 23 (ww_F M_3 25))) s9 = some (r, M') → ∀ (H : Heap) (locs : List Loc) (ls : Array Slot), t3_H E M_3 H → va_S (t3_A E) s.heap H locs → lv_has ls 11 [(0, .ref E.1), (2, .int x2), (3, .int x3), (4, .int x4), (5, .int r_3), (6, .int (ww_X M_3 23 (ww_F M_3 25))), (7, .int s9)] → W p l e Rm s m args below meth c H locs 0 0 Q (F0 m 68 ls []) := by
        refine ww_ind _ (r, M') ?_
        intro s9 z_2 hf hz_2 H locs ls hR hS hl
        obtain ⟨x7, e9⟩ : ∃ q9, q9 = s9 := ⟨_, rfl⟩; subst e9
        replace hf : f3_puts_b2c M_3 x2 x3 x4 r_3 (ww_X M_3 23 (ww_F M_3 25)) x7 = some z_2 := hf
        unfold f3_puts_b2c at hf
        replace hl : lv_has ls 11 [(0, .ref E.1), (2, .int x2), (3, .int x3), (4, .int x4), (5, .int r_3), (6, .int (ww_X M_3 23 (ww_F M_3 25))), (7, .int x7)] := hl
        refine lv_iload hx hb dX3_puts_68 (lv_at hl 6 rfl) ?_
        refine lv_aload_n hx hb dX3_puts_70 rfl (lv_at hl 0 rfl) ?_
        refine t3g_11 X hK hR dX3_puts_71 ?_
        refine lv_iload hx hb dX3_puts_74 (lv_at hl 5 rfl) ?_
        obtain ⟨h_23, hf⟩ := ww_gS hf
        refine t3l_11 X hK hR h_23 dX3_puts_76 ?_
        refine lv_icmp_ge (tgt := 103) hx hb dX3_puts_77 (by decide) (fun c_24 => ?_) (fun c_24 => ?_)
        · replace hf := ww_ip hf c_24
          replace hf := ww_xK hf hz_2
          exact hj_1 x7 hf _ _ _ hR hS hl
        · replace hf := ww_in hf c_24
          refine lv_aload_n hx hb dX3_puts_80 rfl (lv_at hl 0 rfl) ?_
          refine t3g_15 X hK hR dX3_puts_81 ?_
          refine lv_bipush (v := (7 : Int32)) hx hb dX3_puts_84 (by decide) ?_
          refine lv_iload hx hb dX3_puts_86 (lv_at hl 5 rfl) ?_
          refine lv_imul hx hb dX3_puts_88 ?_
          refine lv_iload hx hb dX3_puts_89 (lv_at hl 6 rfl) ?_
          refine lv_iadd hx hb dX3_puts_91 ?_
          obtain ⟨h_25, hf⟩ := ww_gS hf
          refine t3l_15 X hK hR h_25 dX3_puts_92 ?_
          refine lv_iload_n hx hb dX3_puts_93 rfl (lv_at hl 1 rfl) ?_
          refine lv_icmp_ge (tgt := 103) hx hb dX3_puts_94 (by decide) (fun c_26 => ?_) (fun c_26 => ?_)
          · replace hf := ww_ip hf c_26
            replace hf := ww_xK hf hz_2
            exact hj_1 x7 hf _ _ _ hR hS hl
          · replace hf := ww_in hf c_26
            refine lv_iinc (k := 6) (v := x7 + (1 : Int32)) (lv' := [(7, .int (x7 + (1 : Int32))), (0, .ref E.1), (2, .int x2), (3, .int x3), (4, .int x4), (5, .int r_3), (6, .int (ww_X M_3 23 (ww_F M_3 25)))]) hx hb dX3_puts_97 hl rfl rfl (by decide) rfl (fun ls hl => ?_)
            refine lv_goto (tgt := 68) hx hb dX3_puts_100 (by decide) ?_
            exact ww_lK hf hz_2 _ _ _ hR hS (lv_sub hl [1, 2, 3, 4, 5, 6, 0] rfl)
      exact hL_2 (0 : Int32) hf _ _ _ hR hS (lv_sub hl [3, 5, 6, 7, 2, 1, 0] rfl)
    · replace hf := ww_in hf c_6
      refine lv_aload_n hx hb dX3_puts_48 rfl (lv_at hl 3 rfl) ?_
      refine t3g_16 X hK hR dX3_puts_49 ?_
      refine lv_bipush (v := (7 : Int32)) hx hb dX3_puts_52 (by decide) ?_
      refine lv_iload hx hb dX3_puts_54 (lv_at hl 1 rfl) ?_
      refine lv_imul hx hb dX3_puts_56 ?_
      refine lv_iload hx hb dX3_puts_57 (lv_at hl 0 rfl) ?_
      refine lv_iadd hx hb dX3_puts_59 ?_
      refine lv_iload_n hx hb dX3_puts_60 rfl (lv_at hl 6 rfl) ?_
      obtain ⟨h_27, hf⟩ := ww_gS hf
      refine t3s_16 X hK hD hR hS h_27 dX3_puts_61 (fun H locs hR hS => ?_)
      refine lv_iload hx hb dX3_puts_62 (lv_at hl 2 rfl) ?_
      exact hend dX3_puts_64 rfl rfl hf hR hS
  · replace hf := ww_ip hf c_2
    refine lv_iload_n hx hb dX3_puts_10 rfl (lv_at hl 1 rfl) ?_
    exact hend dX3_puts_11 rfl rfl hf hR hS
section T3_puts_c
variable {p : Program} {l : Launch} {e : Env} {R : Room} {s : State} {m : MethodId} {args : Array Value} {below : List Frame} {meth : Method} {c : Code} {H : Heap} {locs : List Loc} {Q : State → Prop}
variable {cc : ByteArray} {pc : Nat} {ls : Array Slot} {rest : List Value} {nL : Nat} {E : ww_E} {A : Nat → Prop} {H0 : Heap}
theorem t3c_puts {M M' : ww_M} {x1 : Int32} {x2 : Int32} {x3 : Int32} {x4 : Int32} {r : Int32} (X : ww_C p m c cc nL s args RX3 lw_all) (hsz : ls.size = nL) (hK : t3_Kn E s) (hD : t3_D E) (hR : t3_H E M H) (hS : va_S (t3_A E) H0 H locs) (hF : 6 ≤ R.frames) (hLo : 144 ≤ R.locals) (hf : f3_puts M x1 x2 x3 x4 = some (r, M')) (hrest : (rest.map fun v => v.category).sum ≤ 8) (hdg : decode cc pc = .ok (.invokevirtual 298, 3)) (kk : ∀ (H1 : Heap) (locs1 : List Loc), t3_H E M' H1 → va_S (t3_A E) H0 H1 locs1 → W p l e R s m args below meth c H1 locs1 0 0 Q (F0 m (pc + 3) ls (.int r :: rest))) : W p l e R s m args below meth c H locs 0 0 Q (F0 m pc ls (.int x4 :: .int x3 :: .int x2 :: .int x1 :: .ref E.1 :: rest)) :=
  t3k_puts X hsz hK hD hR hS hF hLo (met3_puts l hD _ _ _ _ _ _ _ hf) hrest hdg kk
end T3_puts_c
noncomputable def f3_newMap (M : ww_M) (x1 : Int32) (x2 : Int32) (x3 : Int32) : Option (Int32 × ww_M) :=
  ww_g (ww_i (ww_F M 41) 999) (ww_g (ww_i (ww_F (ww_sX M 32 (ww_F M 41) x1) 41) 999) (ww_g (ww_i (ww_F (ww_sX (ww_sX M 32 (ww_F M 41) x1) 33 (ww_F (ww_sX M 32 (ww_F M 41) x1) 41) x2) 41) 999) (ww_g (ww_i (ww_F (ww_sX (ww_sX (ww_sX M 32 (ww_F M 41) x1) 33 (ww_F (ww_sX M 32 (ww_F M 41) x1) 41) x2) 34 (ww_F (ww_sX (ww_sX M 32 (ww_F M 41) x1) 33 (ww_F (ww_sX M 32 (ww_F M 41) x1) 41) x2) 41) x3) 41) 999) (ww_g (ww_i (ww_F (ww_sX (ww_sX (ww_sX (ww_sX M 32 (ww_F M 41) x1) 33 (ww_F (ww_sX M 32 (ww_F M 41) x1) 41) x2) 34 (ww_F (ww_sX (ww_sX M 32 (ww_F M 41) x1) 33 (ww_F (ww_sX M 32 (ww_F M 41) x1) 41) x2) 41) x3) 39 (ww_F (ww_sX (ww_sX (ww_sX M 32 (ww_F M 41) x1) 33 (ww_F (ww_sX M 32 (ww_F M 41) x1) 41) x2) 34 (ww_F (ww_sX (ww_sX M 32 (ww_F M 41) x1) 33 (ww_F (ww_sX M 32 (ww_F M 41) x1) 41) x2) 41) x3) 41) (vp_nar .boolean (1 : Int32))) 41) 999) (some (((ww_F (ww_sF (ww_sF (ww_sX (ww_sX (ww_sX (ww_sX (ww_sX M 32 (ww_F M 41) x1) 33 (ww_F (ww_sX M 32 (ww_F M 41) x1) 41) x2) 34 (ww_F (ww_sX (ww_sX M 32 (ww_F M 41) x1) 33 (ww_F (ww_sX M 32 (ww_F M 41) x1) 41) x2) 41) x3) 39 (ww_F (ww_sX (ww_sX (ww_sX M 32 (ww_F M 41) x1) 33 (ww_F (ww_sX M 32 (ww_F M 41) x1) 41) x2) 34 (ww_F (ww_sX (ww_sX M 32 (ww_F M 41) x1) 33 (ww_F (ww_sX M 32 (ww_F M 41) x1) 41) x2) 41) x3) 41) (vp_nar .boolean (1 : Int32))) 40 (ww_F (ww_sX (ww_sX (ww_sX (ww_sX M 32 (ww_F M 41) x1) 33 (ww_F (ww_sX M 32 (ww_F M 41) x1) 41) x2) 34 (ww_F (ww_sX (ww_sX M 32 (ww_F M 41) x1) 33 (ww_F (ww_sX M 32 (ww_F M 41) x1) 41) x2) 41) x3) 39 (ww_F (ww_sX (ww_sX (ww_sX M 32 (ww_F M 41) x1) 33 (ww_F (ww_sX M 32 (ww_F M 41) x1) 41) x2) 34 (ww_F (ww_sX (ww_sX M 32 (ww_F M 41) x1) 33 (ww_F (ww_sX M 32 (ww_F M 41) x1) 41) x2) 41) x3) 41) (vp_nar .boolean (1 : Int32))) 41) (vp_nar .boolean (0 : Int32))) 42 ((ww_F (ww_sX (ww_sX (ww_sX (ww_sX (ww_sX M 32 (ww_F M 41) x1) 33 (ww_F (ww_sX M 32 (ww_F M 41) x1) 41) x2) 34 (ww_F (ww_sX (ww_sX M 32 (ww_F M 41) x1) 33 (ww_F (ww_sX M 32 (ww_F M 41) x1) 41) x2) 41) x3) 39 (ww_F (ww_sX (ww_sX (ww_sX M 32 (ww_F M 41) x1) 33 (ww_F (ww_sX M 32 (ww_F M 41) x1) 41) x2) 34 (ww_F (ww_sX (ww_sX M 32 (ww_F M 41) x1) 33 (ww_F (ww_sX M 32 (ww_F M 41) x1) 41) x2) 41) x3) 41) (vp_nar .boolean (1 : Int32))) 40 (ww_F (ww_sX (ww_sX (ww_sX (ww_sX M 32 (ww_F M 41) x1) 33 (ww_F (ww_sX M 32 (ww_F M 41) x1) 41) x2) 34 (ww_F (ww_sX (ww_sX M 32 (ww_F M 41) x1) 33 (ww_F (ww_sX M 32 (ww_F M 41) x1) 41) x2) 41) x3) 39 (ww_F (ww_sX (ww_sX (ww_sX M 32 (ww_F M 41) x1) 33 (ww_F (ww_sX M 32 (ww_F M 41) x1) 41) x2) 34 (ww_F (ww_sX (ww_sX M 32 (ww_F M 41) x1) 33 (ww_F (ww_sX M 32 (ww_F M 41) x1) 41) x2) 41) x3) 41) (vp_nar .boolean (1 : Int32))) 41) (vp_nar .boolean (0 : Int32))) 42) + (1 : Int32))) 41 ((ww_F (ww_sF (ww_sX (ww_sX (ww_sX (ww_sX (ww_sX M 32 (ww_F M 41) x1) 33 (ww_F (ww_sX M 32 (ww_F M 41) x1) 41) x2) 34 (ww_F (ww_sX (ww_sX M 32 (ww_F M 41) x1) 33 (ww_F (ww_sX M 32 (ww_F M 41) x1) 41) x2) 41) x3) 39 (ww_F (ww_sX (ww_sX (ww_sX M 32 (ww_F M 41) x1) 33 (ww_F (ww_sX M 32 (ww_F M 41) x1) 41) x2) 34 (ww_F (ww_sX (ww_sX M 32 (ww_F M 41) x1) 33 (ww_F (ww_sX M 32 (ww_F M 41) x1) 41) x2) 41) x3) 41) (vp_nar .boolean (1 : Int32))) 40 (ww_F (ww_sX (ww_sX (ww_sX (ww_sX M 32 (ww_F M 41) x1) 33 (ww_F (ww_sX M 32 (ww_F M 41) x1) 41) x2) 34 (ww_F (ww_sX (ww_sX M 32 (ww_F M 41) x1) 33 (ww_F (ww_sX M 32 (ww_F M 41) x1) 41) x2) 41) x3) 39 (ww_F (ww_sX (ww_sX (ww_sX M 32 (ww_F M 41) x1) 33 (ww_F (ww_sX M 32 (ww_F M 41) x1) 41) x2) 34 (ww_F (ww_sX (ww_sX M 32 (ww_F M 41) x1) 33 (ww_F (ww_sX M 32 (ww_F M 41) x1) 41) x2) 41) x3) 41) (vp_nar .boolean (1 : Int32))) 41) (vp_nar .boolean (0 : Int32))) 42 ((ww_F (ww_sX (ww_sX (ww_sX (ww_sX (ww_sX M 32 (ww_F M 41) x1) 33 (ww_F (ww_sX M 32 (ww_F M 41) x1) 41) x2) 34 (ww_F (ww_sX (ww_sX M 32 (ww_F M 41) x1) 33 (ww_F (ww_sX M 32 (ww_F M 41) x1) 41) x2) 41) x3) 39 (ww_F (ww_sX (ww_sX (ww_sX M 32 (ww_F M 41) x1) 33 (ww_F (ww_sX M 32 (ww_F M 41) x1) 41) x2) 34 (ww_F (ww_sX (ww_sX M 32 (ww_F M 41) x1) 33 (ww_F (ww_sX M 32 (ww_F M 41) x1) 41) x2) 41) x3) 41) (vp_nar .boolean (1 : Int32))) 40 (ww_F (ww_sX (ww_sX (ww_sX (ww_sX M 32 (ww_F M 41) x1) 33 (ww_F (ww_sX M 32 (ww_F M 41) x1) 41) x2) 34 (ww_F (ww_sX (ww_sX M 32 (ww_F M 41) x1) 33 (ww_F (ww_sX M 32 (ww_F M 41) x1) 41) x2) 41) x3) 39 (ww_F (ww_sX (ww_sX (ww_sX M 32 (ww_F M 41) x1) 33 (ww_F (ww_sX M 32 (ww_F M 41) x1) 41) x2) 34 (ww_F (ww_sX (ww_sX M 32 (ww_F M 41) x1) 33 (ww_F (ww_sX M 32 (ww_F M 41) x1) 41) x2) 41) x3) 41) (vp_nar .boolean (1 : Int32))) 41) (vp_nar .boolean (0 : Int32))) 42) + (1 : Int32))) 41) + (1 : Int32))) 41) - (1 : Int32)), (ww_sF (ww_sF (ww_sX (ww_sX (ww_sX (ww_sX (ww_sX M 32 (ww_F M 41) x1) 33 (ww_F (ww_sX M 32 (ww_F M 41) x1) 41) x2) 34 (ww_F (ww_sX (ww_sX M 32 (ww_F M 41) x1) 33 (ww_F (ww_sX M 32 (ww_F M 41) x1) 41) x2) 41) x3) 39 (ww_F (ww_sX (ww_sX (ww_sX M 32 (ww_F M 41) x1) 33 (ww_F (ww_sX M 32 (ww_F M 41) x1) 41) x2) 34 (ww_F (ww_sX (ww_sX M 32 (ww_F M 41) x1) 33 (ww_F (ww_sX M 32 (ww_F M 41) x1) 41) x2) 41) x3) 41) (vp_nar .boolean (1 : Int32))) 40 (ww_F (ww_sX (ww_sX (ww_sX (ww_sX M 32 (ww_F M 41) x1) 33 (ww_F (ww_sX M 32 (ww_F M 41) x1) 41) x2) 34 (ww_F (ww_sX (ww_sX M 32 (ww_F M 41) x1) 33 (ww_F (ww_sX M 32 (ww_F M 41) x1) 41) x2) 41) x3) 39 (ww_F (ww_sX (ww_sX (ww_sX M 32 (ww_F M 41) x1) 33 (ww_F (ww_sX M 32 (ww_F M 41) x1) 41) x2) 34 (ww_F (ww_sX (ww_sX M 32 (ww_F M 41) x1) 33 (ww_F (ww_sX M 32 (ww_F M 41) x1) 41) x2) 41) x3) 41) (vp_nar .boolean (1 : Int32))) 41) (vp_nar .boolean (0 : Int32))) 42 ((ww_F (ww_sX (ww_sX (ww_sX (ww_sX (ww_sX M 32 (ww_F M 41) x1) 33 (ww_F (ww_sX M 32 (ww_F M 41) x1) 41) x2) 34 (ww_F (ww_sX (ww_sX M 32 (ww_F M 41) x1) 33 (ww_F (ww_sX M 32 (ww_F M 41) x1) 41) x2) 41) x3) 39 (ww_F (ww_sX (ww_sX (ww_sX M 32 (ww_F M 41) x1) 33 (ww_F (ww_sX M 32 (ww_F M 41) x1) 41) x2) 34 (ww_F (ww_sX (ww_sX M 32 (ww_F M 41) x1) 33 (ww_F (ww_sX M 32 (ww_F M 41) x1) 41) x2) 41) x3) 41) (vp_nar .boolean (1 : Int32))) 40 (ww_F (ww_sX (ww_sX (ww_sX (ww_sX M 32 (ww_F M 41) x1) 33 (ww_F (ww_sX M 32 (ww_F M 41) x1) 41) x2) 34 (ww_F (ww_sX (ww_sX M 32 (ww_F M 41) x1) 33 (ww_F (ww_sX M 32 (ww_F M 41) x1) 41) x2) 41) x3) 39 (ww_F (ww_sX (ww_sX (ww_sX M 32 (ww_F M 41) x1) 33 (ww_F (ww_sX M 32 (ww_F M 41) x1) 41) x2) 34 (ww_F (ww_sX (ww_sX M 32 (ww_F M 41) x1) 33 (ww_F (ww_sX M 32 (ww_F M 41) x1) 41) x2) 41) x3) 41) (vp_nar .boolean (1 : Int32))) 41) (vp_nar .boolean (0 : Int32))) 42) + (1 : Int32))) 41 ((ww_F (ww_sF (ww_sX (ww_sX (ww_sX (ww_sX (ww_sX M 32 (ww_F M 41) x1) 33 (ww_F (ww_sX M 32 (ww_F M 41) x1) 41) x2) 34 (ww_F (ww_sX (ww_sX M 32 (ww_F M 41) x1) 33 (ww_F (ww_sX M 32 (ww_F M 41) x1) 41) x2) 41) x3) 39 (ww_F (ww_sX (ww_sX (ww_sX M 32 (ww_F M 41) x1) 33 (ww_F (ww_sX M 32 (ww_F M 41) x1) 41) x2) 34 (ww_F (ww_sX (ww_sX M 32 (ww_F M 41) x1) 33 (ww_F (ww_sX M 32 (ww_F M 41) x1) 41) x2) 41) x3) 41) (vp_nar .boolean (1 : Int32))) 40 (ww_F (ww_sX (ww_sX (ww_sX (ww_sX M 32 (ww_F M 41) x1) 33 (ww_F (ww_sX M 32 (ww_F M 41) x1) 41) x2) 34 (ww_F (ww_sX (ww_sX M 32 (ww_F M 41) x1) 33 (ww_F (ww_sX M 32 (ww_F M 41) x1) 41) x2) 41) x3) 39 (ww_F (ww_sX (ww_sX (ww_sX M 32 (ww_F M 41) x1) 33 (ww_F (ww_sX M 32 (ww_F M 41) x1) 41) x2) 34 (ww_F (ww_sX (ww_sX M 32 (ww_F M 41) x1) 33 (ww_F (ww_sX M 32 (ww_F M 41) x1) 41) x2) 41) x3) 41) (vp_nar .boolean (1 : Int32))) 41) (vp_nar .boolean (0 : Int32))) 42 ((ww_F (ww_sX (ww_sX (ww_sX (ww_sX (ww_sX M 32 (ww_F M 41) x1) 33 (ww_F (ww_sX M 32 (ww_F M 41) x1) 41) x2) 34 (ww_F (ww_sX (ww_sX M 32 (ww_F M 41) x1) 33 (ww_F (ww_sX M 32 (ww_F M 41) x1) 41) x2) 41) x3) 39 (ww_F (ww_sX (ww_sX (ww_sX M 32 (ww_F M 41) x1) 33 (ww_F (ww_sX M 32 (ww_F M 41) x1) 41) x2) 34 (ww_F (ww_sX (ww_sX M 32 (ww_F M 41) x1) 33 (ww_F (ww_sX M 32 (ww_F M 41) x1) 41) x2) 41) x3) 41) (vp_nar .boolean (1 : Int32))) 40 (ww_F (ww_sX (ww_sX (ww_sX (ww_sX M 32 (ww_F M 41) x1) 33 (ww_F (ww_sX M 32 (ww_F M 41) x1) 41) x2) 34 (ww_F (ww_sX (ww_sX M 32 (ww_F M 41) x1) 33 (ww_F (ww_sX M 32 (ww_F M 41) x1) 41) x2) 41) x3) 39 (ww_F (ww_sX (ww_sX (ww_sX M 32 (ww_F M 41) x1) 33 (ww_F (ww_sX M 32 (ww_F M 41) x1) 41) x2) 34 (ww_F (ww_sX (ww_sX M 32 (ww_F M 41) x1) 33 (ww_F (ww_sX M 32 (ww_F M 41) x1) 41) x2) 41) x3) 41) (vp_nar .boolean (1 : Int32))) 41) (vp_nar .boolean (0 : Int32))) 42) + (1 : Int32))) 41) + (1 : Int32)))))))))
section T3_newMap_k
variable {p : Program} {l : Launch} {e : Env} {R : Room} {s : State} {m : MethodId} {args : Array Value} {below : List Frame} {meth : Method} {c : Code} {H : Heap} {locs : List Loc} {Q : State → Prop}
variable {cc : ByteArray} {pc : Nat} {ls : Array Slot} {rest : List Value} {nL : Nat} {E : ww_E} {A : Nat → Prop} {H0 : Heap}
theorem t3k_newMap {M M' : ww_M} {x1 : Int32} {x2 : Int32} {x3 : Int32} {r : Int32} (X : ww_C p m c cc nL s args RX3 lw_all) (hsz : ls.size = nL) (hK : t3_Kn E s) (hD : t3_D E) (hR : t3_H E M H) (hS : va_S (t3_A E) H0 H locs) (hF : 1 ≤ R.frames) (hLo : 23 ≤ R.locals) (hM : t3_Met l yX3_newMap cX3_newMap 4 (some Jvm.ClassFile.FieldType.int) 0 0 E [.int x1, .int x2, .int x3] M M' r) (hrest : (rest.map fun v => v.category).sum ≤ 8) (hdg : decode cc pc = .ok (.invokevirtual 302, 3)) (kk : ∀ (H1 : Heap) (locs1 : List Loc), t3_H E M' H1 → va_S (t3_A E) H0 H1 locs1 → W p l e R s m args below meth c H1 locs1 0 0 Q (F0 m (pc + 3) ls (.int r :: rest))) : W p l e R s m args below meth c H locs 0 0 Q (F0 m pc ls (.int x3 :: .int x2 :: .int x1 :: .ref E.1 :: rest)) :=
  t3_callI (n := 3) X hsz hK hR hS (As := [.int x1, .int x2, .int x3]) hM (lw_V q2019 q2021 qs88 q135 q2022) (by decide +kernel) rfl hF hLo (Nat.zero_le _) (Nat.zero_le _) hrest hdg kk
end T3_newMap_k
set_option maxHeartbeats 4000000 in
set_option maxRecDepth 100000 in
theorem met3_newMap (l : Launch) {E : ww_E} (hD : t3_D E) (M : ww_M) (x1 : Int32) (x2 : Int32) (x3 : Int32) (r : Int32) (M' : ww_M) (hf : f3_newMap M x1 x2 x3 = some (r, M')) : t3_Met l yX3_newMap cX3_newMap 4 (some Jvm.ClassFile.FieldType.int) 0 0 E [.int x1, .int x2, .int x3] M M' r := by
  unfold f3_newMap at hf
  refine t3_start (by decide +kernel) (Nat.le_of_ble_eq_true rfl) ?_
  intro p e s m args below meth c Rm Q X hK hF hLo hend ls hl hR hS
  obtain ⟨hx, hb, hml, hown, hts⟩ := id X
  replace hl : lv_has ls 4 [(0, .ref E.1), (1, .int x1), (2, .int x2), (3, .int x3)] := hl
  refine lv_aload_n hx hb dX3_newMap_0 rfl (lv_at hl 0 rfl) ?_
  refine t3g_32 X hK hR dX3_newMap_1 ?_
  refine lv_aload_n hx hb dX3_newMap_4 rfl (lv_at hl 0 rfl) ?_
  refine t3g_41 X hK hR dX3_newMap_5 ?_
  refine lv_iload_n hx hb dX3_newMap_8 rfl (lv_at hl 1 rfl) ?_
  obtain ⟨h_1, hf⟩ := ww_gS hf
  refine t3s_32 X hK hD hR hS h_1 dX3_newMap_9 (fun H locs hR hS => ?_)
  refine lv_aload_n hx hb dX3_newMap_10 rfl (lv_at hl 0 rfl) ?_
  refine t3g_33 X hK hR dX3_newMap_11 ?_
  refine lv_aload_n hx hb dX3_newMap_14 rfl (lv_at hl 0 rfl) ?_
  refine t3g_41 X hK hR dX3_newMap_15 ?_
  refine lv_iload_n hx hb dX3_newMap_18 rfl (lv_at hl 2 rfl) ?_
  obtain ⟨h_2, hf⟩ := ww_gS hf
  refine t3s_33 X hK hD hR hS h_2 dX3_newMap_19 (fun H locs hR hS => ?_)
  refine lv_aload_n hx hb dX3_newMap_20 rfl (lv_at hl 0 rfl) ?_
  refine t3g_34 X hK hR dX3_newMap_21 ?_
  refine lv_aload_n hx hb dX3_newMap_24 rfl (lv_at hl 0 rfl) ?_
  refine t3g_41 X hK hR dX3_newMap_25 ?_
  refine lv_iload_n hx hb dX3_newMap_28 rfl (lv_at hl 3 rfl) ?_
  obtain ⟨h_3, hf⟩ := ww_gS hf
  refine t3s_34 X hK hD hR hS h_3 dX3_newMap_29 (fun H locs hR hS => ?_)
  refine lv_aload_n hx hb dX3_newMap_30 rfl (lv_at hl 0 rfl) ?_
  refine t3g_39 X hK hR dX3_newMap_31 ?_
  refine lv_aload_n hx hb dX3_newMap_34 rfl (lv_at hl 0 rfl) ?_
  refine t3g_41 X hK hR dX3_newMap_35 ?_
  refine lv_iconst (v := (1 : Int32)) hx hb dX3_newMap_38 (by decide) ?_
  obtain ⟨h_4, hf⟩ := ww_gS hf
  refine t3s_39 X hK hD hR hS h_4 dX3_newMap_39 (fun H locs hR hS => ?_)
  refine lv_aload_n hx hb dX3_newMap_40 rfl (lv_at hl 0 rfl) ?_
  refine t3g_40 X hK hR dX3_newMap_41 ?_
  refine lv_aload_n hx hb dX3_newMap_44 rfl (lv_at hl 0 rfl) ?_
  refine t3g_41 X hK hR dX3_newMap_45 ?_
  refine lv_iconst (v := (0 : Int32)) hx hb dX3_newMap_48 (by decide) ?_
  obtain ⟨h_5, hf⟩ := ww_gS hf
  refine t3s_40 X hK hD hR hS h_5 dX3_newMap_49 (fun H locs hR hS => ?_)
  refine lv_aload_n hx hb dX3_newMap_50 rfl (lv_at hl 0 rfl) ?_
  refine lv_dup hx hb dX3_newMap_51 rfl ?_
  refine t3g_42 X hK hR dX3_newMap_52 ?_
  refine lv_iconst (v := (1 : Int32)) hx hb dX3_newMap_55 (by decide) ?_
  refine lv_iadd hx hb dX3_newMap_56 ?_
  refine t3p_42 X hK hD hR hS dX3_newMap_57 (fun H locs hR hS => ?_)
  refine lv_aload_n hx hb dX3_newMap_60 rfl (lv_at hl 0 rfl) ?_
  refine lv_dup hx hb dX3_newMap_61 rfl ?_
  refine t3g_41 X hK hR dX3_newMap_62 ?_
  refine lv_iconst (v := (1 : Int32)) hx hb dX3_newMap_65 (by decide) ?_
  refine lv_iadd hx hb dX3_newMap_66 ?_
  refine t3p_41 X hK hD hR hS dX3_newMap_67 (fun H locs hR hS => ?_)
  refine lv_aload_n hx hb dX3_newMap_70 rfl (lv_at hl 0 rfl) ?_
  refine t3g_41 X hK hR dX3_newMap_71 ?_
  refine lv_iconst (v := (1 : Int32)) hx hb dX3_newMap_74 (by decide) ?_
  refine lv_isub hx hb dX3_newMap_75 ?_
  exact hend dX3_newMap_76 rfl rfl hf hR hS
section T3_newMap_c
variable {p : Program} {l : Launch} {e : Env} {R : Room} {s : State} {m : MethodId} {args : Array Value} {below : List Frame} {meth : Method} {c : Code} {H : Heap} {locs : List Loc} {Q : State → Prop}
variable {cc : ByteArray} {pc : Nat} {ls : Array Slot} {rest : List Value} {nL : Nat} {E : ww_E} {A : Nat → Prop} {H0 : Heap}
theorem t3c_newMap {M M' : ww_M} {x1 : Int32} {x2 : Int32} {x3 : Int32} {r : Int32} (X : ww_C p m c cc nL s args RX3 lw_all) (hsz : ls.size = nL) (hK : t3_Kn E s) (hD : t3_D E) (hR : t3_H E M H) (hS : va_S (t3_A E) H0 H locs) (hF : 1 ≤ R.frames) (hLo : 23 ≤ R.locals) (hf : f3_newMap M x1 x2 x3 = some (r, M')) (hrest : (rest.map fun v => v.category).sum ≤ 8) (hdg : decode cc pc = .ok (.invokevirtual 302, 3)) (kk : ∀ (H1 : Heap) (locs1 : List Loc), t3_H E M' H1 → va_S (t3_A E) H0 H1 locs1 → W p l e R s m args below meth c H1 locs1 0 0 Q (F0 m (pc + 3) ls (.int r :: rest))) : W p l e R s m args below meth c H locs 0 0 Q (F0 m pc ls (.int x3 :: .int x2 :: .int x1 :: .ref E.1 :: rest)) :=
  t3k_newMap X hsz hK hD hR hS hF hLo (met3_newMap l hD _ _ _ _ _ _ hf) hrest hdg kk
end T3_newMap_c
noncomputable def f3_wide_b1c (y1 : Int32) (M_3 : ww_M) (x2 : Int32) : Option ((ww_M × Int32) ⊕ (Int32 × ww_M)) :=
  if (ww_F M_3 41) ≤ x2 then ww_x (some (y1, (ww_sF (ww_sF (ww_sF (ww_sF (ww_sF (ww_sF (ww_sF M_3 41 (0 : Int32)) 42 (0 : Int32)) 43 (0 : Int32)) 20 (0 : Int32)) 44 (0 : Int32)) 17 (0 : Int32)) 18 (0 : Int32)))) else ww_g (ww_i x2 999) (some (.inl ((ww_sX M_3 39 x2 (vp_nar .boolean (0 : Int32))), (x2 + (1 : Int32)))))
noncomputable def f3_wide_b1 (y1 : Int32) : (ww_M × Int32) → Option ((ww_M × Int32) ⊕ (Int32 × ww_M)) := fun s9 => f3_wide_b1c y1 s9.1 s9.2
noncomputable def f3_wide (M : ww_M) (x1 : Int32) : Option (Int32 × ww_M) :=
  ww_b (f3_isIn x1.toInt64 (3 : Int64) (6 : Int64)) (fun r_1 => if r_1 = 0 then ww_b2 (f3_refused (ww_sF M 0 (0 : Int32)) (1 : Int32)) (fun r_6 M_6 => some (r_6, M_6)) else ww_U (f3_wide_b1 x1) ((ww_sF (ww_sF M 0 (0 : Int32)) 19 x1), (0 : Int32)))
set_option maxHeartbeats 4000000 in
set_option maxRecDepth 100000 in
theorem met3_wide (l : Launch) {E : ww_E} (hD : t3_D E) (M : ww_M) (x1 : Int32) (r : Int32) (M' : ww_M) (hf : f3_wide M x1 = some (r, M')) : t3_Met l yX3_wide cX3_wide 3 (some Jvm.ClassFile.FieldType.int) 1 25 E [.int x1] M M' r := by
  unfold f3_wide at hf
  refine t3_start (by decide +kernel) (Nat.le_of_ble_eq_true rfl) ?_
  intro p e s m args below meth c Rm Q X hK hF hLo hend ls hl hR hS
  obtain ⟨hx, hb, hml, hown, hts⟩ := id X
  replace hl : lv_has ls 3 [(0, .ref E.1), (1, .int x1)] := hl
  refine lv_aload_n hx hb dX3_wide_0 rfl (lv_at hl 0 rfl) ?_
  refine lv_iconst (v := (0 : Int32)) hx hb dX3_wide_1 (by decide) ?_
  refine t3p_0 X hK hD hR hS dX3_wide_2 (fun H locs hR hS => ?_)
  refine lv_iload_n hx hb dX3_wide_5 rfl (lv_at hl 1 rfl) ?_
  refine lv_i2l (v := x1.toInt64) hx hb dX3_wide_6 rfl ?_
  refine lv_ldc2 (v := (3 : Int64)) hx hb hown (hts _ q2027) dX3_wide_7 ?_
  refine lv_ldc2 (v := (6 : Int64)) hx hb hown (hts _ q2028) dX3_wide_10 ?_
  obtain ⟨r_1, h_1, hf⟩ := ww_bS hf
  refine t3c_isIn X hl.1 (Nat.le_trans (Nat.le_of_ble_eq_true rfl) hF) (Nat.le_trans (Nat.le_of_ble_eq_true rfl) hLo) h_1 (Nat.le_of_ble_eq_true rfl) dX3_wide_13 ?_
  refine lv_if_ne (tgt := 25) hx hb dX3_wide_16 (by decide) (fun c_2 => ?_) (fun c_2 => ?_)
  · replace hf := ww_in hf c_2
    refine lv_aload_n hx hb dX3_wide_25 rfl (lv_at hl 0 rfl) ?_
    refine lv_iload_n hx hb dX3_wide_26 rfl (lv_at hl 1 rfl) ?_
    refine t3p_19 X hK hD hR hS dX3_wide_27 (fun H locs hR hS => ?_)
    refine lv_iconst (v := (0 : Int32)) hx hb dX3_wide_30 (by decide) ?_
    refine lv_istore_n (lv' := [(2, .int (0 : Int32)), (0, .ref E.1), (1, .int x1)]) hx hb dX3_wide_31 rfl hl (by decide) rfl (fun ls hl => ?_)
    have hL_1 : ∀ s9 : ww_M × Int32, ww_U (f3_wide_b1 x1) s9 = some (r, M') → ∀ (H : Heap) (locs : List Loc) (ls : Array Slot), t3_H E s9.1 H → va_S (t3_A E) s.heap H locs → lv_has ls 3 [(0, .ref E.1), (1, .int x1), (2, .int s9.2)] → W p l e Rm s m args below meth c H locs 0 0 Q (F0 m 32 ls []) := by
      refine ww_ind _ (r, M') ?_
      intro s9 z_1 hf hz_1 H locs ls hR hS hl
      obtain ⟨M_3, x2⟩ := s9
      replace hf : f3_wide_b1c x1 M_3 x2 = some z_1 := hf
      unfold f3_wide_b1c at hf
      replace hR : t3_H E M_3 H := hR
      replace hl : lv_has ls 3 [(0, .ref E.1), (1, .int x1), (2, .int x2)] := hl
      refine lv_iload_n hx hb dX3_wide_32 rfl (lv_at hl 2 rfl) ?_
      refine lv_aload_n hx hb dX3_wide_33 rfl (lv_at hl 0 rfl) ?_
      refine t3g_41 X hK hR dX3_wide_34 ?_
      refine lv_icmp_ge (tgt := 53) hx hb dX3_wide_37 (by decide) (fun c_4 => ?_) (fun c_4 => ?_)
      · replace hf := ww_ip hf c_4
        replace hf := ww_xK hf hz_1
        refine lv_aload_n hx hb dX3_wide_53 rfl (lv_at hl 0 rfl) ?_
        refine lv_iconst (v := (0 : Int32)) hx hb dX3_wide_54 (by decide) ?_
        refine t3p_41 X hK hD hR hS dX3_wide_55 (fun H locs hR hS => ?_)
        refine lv_aload_n hx hb dX3_wide_58 rfl (lv_at hl 0 rfl) ?_
        refine lv_iconst (v := (0 : Int32)) hx hb dX3_wide_59 (by decide) ?_
        refine t3p_42 X hK hD hR hS dX3_wide_60 (fun H locs hR hS => ?_)
        refine lv_aload_n hx hb dX3_wide_63 rfl (lv_at hl 0 rfl) ?_
        refine lv_iconst (v := (0 : Int32)) hx hb dX3_wide_64 (by decide) ?_
        refine t3p_43 X hK hD hR hS dX3_wide_65 (fun H locs hR hS => ?_)
        refine lv_aload_n hx hb dX3_wide_68 rfl (lv_at hl 0 rfl) ?_
        refine lv_iconst (v := (0 : Int32)) hx hb dX3_wide_69 (by decide) ?_
        refine t3p_20 X hK hD hR hS dX3_wide_70 (fun H locs hR hS => ?_)
        refine lv_aload_n hx hb dX3_wide_73 rfl (lv_at hl 0 rfl) ?_
        refine lv_iconst (v := (0 : Int32)) hx hb dX3_wide_74 (by decide) ?_
        refine t3p_44 X hK hD hR hS (by decide) dX3_wide_75 (fun H locs hR hS => ?_)
        refine lv_aload_n hx hb dX3_wide_78 rfl (lv_at hl 0 rfl) ?_
        refine lv_iconst (v := (0 : Int32)) hx hb dX3_wide_79 (by decide) ?_
        refine t3p_17 X hK hD hR hS dX3_wide_80 (fun H locs hR hS => ?_)
        refine lv_aload_n hx hb dX3_wide_83 rfl (lv_at hl 0 rfl) ?_
        refine lv_iconst (v := (0 : Int32)) hx hb dX3_wide_84 (by decide) ?_
        refine t3p_18 X hK hD hR hS dX3_wide_85 (fun H locs hR hS => ?_)
        refine lv_iload_n hx hb dX3_wide_88 rfl (lv_at hl 1 rfl) ?_
        exact hend dX3_wide_89 rfl rfl hf hR hS
      · replace hf := ww_in hf c_4
        refine lv_aload_n hx hb dX3_wide_40 rfl (lv_at hl 0 rfl) ?_
        refine t3g_39 X hK hR dX3_wide_41 ?_
        refine lv_iload_n hx hb dX3_wide_44 rfl (lv_at hl 2 rfl) ?_
        refine lv_iconst (v := (0 : Int32)) hx hb dX3_wide_45 (by decide) ?_
        obtain ⟨h_5, hf⟩ := ww_gS hf
        refine t3s_39 X hK hD hR hS h_5 dX3_wide_46 (fun H locs hR hS => ?_)
        refine lv_iinc (k := 2) (v := x2 + (1 : Int32)) (lv' := [(2, .int (x2 + (1 : Int32))), (0, .ref E.1), (1, .int x1)]) hx hb dX3_wide_47 hl rfl rfl (by decide) rfl (fun ls hl => ?_)
        refine lv_goto (tgt := 32) hx hb dX3_wide_50 (by decide) ?_
        exact ww_lK hf hz_1 _ _ _ hR hS (lv_sub hl [1, 2, 0] rfl)
    exact hL_1 ((ww_sF (ww_sF M 0 (0 : Int32)) 19 x1), (0 : Int32)) hf _ _ _ hR hS (lv_sub hl [1, 2, 0] rfl)
  · replace hf := ww_ip hf c_2
    refine lv_aload_n hx hb dX3_wide_19 rfl (lv_at hl 0 rfl) ?_
    refine lv_iconst (v := (1 : Int32)) hx hb dX3_wide_20 (by decide) ?_
    obtain ⟨r_6, M_6, h_6, hf⟩ := ww_b2S hf
    refine t3c_refused X hl.1 hK hD hR hS (Nat.le_trans (Nat.le_of_ble_eq_true rfl) hF) (Nat.le_trans (Nat.le_of_ble_eq_true rfl) hLo) h_6 (Nat.le_of_ble_eq_true rfl) dX3_wide_21 (fun H locs hR hS => ?_)
    exact hend dX3_wide_24 rfl rfl hf hR hS
noncomputable def f3_isMap (M : ww_M) (x1 : Int32) : Option (Int32) :=
  if x1 < 0 then some (0 : Int32) else if (ww_F M 41) ≤ x1 then some (0 : Int32) else ww_g (ww_i x1 999) (if (ww_X M 39 x1) = 0 then some (0 : Int32) else some (1 : Int32))
section T3_isMap_k
variable {p : Program} {l : Launch} {e : Env} {R : Room} {s : State} {m : MethodId} {args : Array Value} {below : List Frame} {meth : Method} {c : Code} {H : Heap} {locs : List Loc} {Q : State → Prop}
variable {cc : ByteArray} {pc : Nat} {ls : Array Slot} {rest : List Value} {nL : Nat} {E : ww_E} {A : Nat → Prop} {H0 : Heap}
theorem t3k_isMap {M : ww_M} {x1 : Int32} {r : Int32} (X : ww_C p m c cc nL s args RX3 lw_all) (hsz : ls.size = nL) (hK : t3_Kn E s) (hD : t3_D E) (hR : t3_H E M H) (hS : va_S (t3_A E) H0 H locs) (hF : 1 ≤ R.frames) (hLo : 21 ≤ R.locals) (hM : t3_Met l yX3_isMap cX3_isMap 2 (some Jvm.ClassFile.FieldType.boolean) 0 0 E [.int x1] M M r) (hrest : (rest.map fun v => v.category).sum ≤ 8) (hdg : decode cc pc = .ok (.invokevirtual 309, 3)) (kk : ∀ (H1 : Heap) (locs1 : List Loc), t3_H E M H1 → va_S (t3_A E) H0 H1 locs1 → W p l e R s m args below meth c H1 locs1 0 0 Q (F0 m (pc + 3) ls (.int r :: rest))) : W p l e R s m args below meth c H locs 0 0 Q (F0 m pc ls (.int x1 :: .ref E.1 :: rest)) :=
  t3_callI (n := 1) X hsz hK hR hS (As := [.int x1]) hM (lw_V q2033 q2035 qs89 q135 q2036) (by decide +kernel) rfl hF hLo (Nat.zero_le _) (Nat.zero_le _) hrest hdg kk
end T3_isMap_k
set_option maxHeartbeats 4000000 in
set_option maxRecDepth 100000 in
theorem met3_isMap (l : Launch) {E : ww_E} (hD : t3_D E) (M : ww_M) (x1 : Int32) (r : Int32) (hf : f3_isMap M x1 = some r) : t3_Met l yX3_isMap cX3_isMap 2 (some Jvm.ClassFile.FieldType.boolean) 0 0 E [.int x1] M M r := by
  unfold f3_isMap at hf
  refine t3_startP (by decide +kernel) (Nat.le_of_ble_eq_true rfl) ?_
  intro p e s m args below meth c Rm Q X hK hF hLo hend ls hl hR hS
  obtain ⟨hx, hb, hml, hown, hts⟩ := id X
  replace hl : lv_has ls 2 [(0, .ref E.1), (1, .int x1)] := hl
  refine lv_iload_n hx hb dX3_isMap_0 rfl (lv_at hl 1 rfl) ?_
  refine lv_if_lt (tgt := 25) hx hb dX3_isMap_1 (by decide) (fun c_1 => ?_) (fun c_1 => ?_)
  · replace hf := ww_ip hf c_1
    refine lv_iconst (v := (0 : Int32)) hx hb dX3_isMap_25 (by decide) ?_
    exact hend dX3_isMap_26 rfl (by decide) hf hR hS
  · replace hf := ww_in hf c_1
    refine lv_iload_n hx hb dX3_isMap_4 rfl (lv_at hl 1 rfl) ?_
    refine lv_aload_n hx hb dX3_isMap_5 rfl (lv_at hl 0 rfl) ?_
    refine t3g_41 X hK hR dX3_isMap_6 ?_
    refine lv_icmp_ge (tgt := 25) hx hb dX3_isMap_9 (by decide) (fun c_2 => ?_) (fun c_2 => ?_)
    · replace hf := ww_ip hf c_2
      refine lv_iconst (v := (0 : Int32)) hx hb dX3_isMap_25 (by decide) ?_
      exact hend dX3_isMap_26 rfl (by decide) hf hR hS
    · replace hf := ww_in hf c_2
      refine lv_aload_n hx hb dX3_isMap_12 rfl (lv_at hl 0 rfl) ?_
      refine t3g_39 X hK hR dX3_isMap_13 ?_
      refine lv_iload_n hx hb dX3_isMap_16 rfl (lv_at hl 1 rfl) ?_
      obtain ⟨h_3, hf⟩ := ww_gS hf
      refine t3l_39 X hK hR h_3 dX3_isMap_17 ?_
      refine lv_if_eq (tgt := 25) hx hb dX3_isMap_18 (by decide) (fun c_4 => ?_) (fun c_4 => ?_)
      · replace hf := ww_ip hf c_4
        refine lv_iconst (v := (0 : Int32)) hx hb dX3_isMap_25 (by decide) ?_
        exact hend dX3_isMap_26 rfl (by decide) hf hR hS
      · replace hf := ww_in hf c_4
        refine lv_iconst (v := (1 : Int32)) hx hb dX3_isMap_21 (by decide) ?_
        refine lv_goto (tgt := 26) hx hb dX3_isMap_22 (by decide) ?_
        exact hend dX3_isMap_26 rfl (by decide) hf hR hS
section T3_isMap_c
variable {p : Program} {l : Launch} {e : Env} {R : Room} {s : State} {m : MethodId} {args : Array Value} {below : List Frame} {meth : Method} {c : Code} {H : Heap} {locs : List Loc} {Q : State → Prop}
variable {cc : ByteArray} {pc : Nat} {ls : Array Slot} {rest : List Value} {nL : Nat} {E : ww_E} {A : Nat → Prop} {H0 : Heap}
theorem t3c_isMap {M : ww_M} {x1 : Int32} {r : Int32} (X : ww_C p m c cc nL s args RX3 lw_all) (hsz : ls.size = nL) (hK : t3_Kn E s) (hD : t3_D E) (hR : t3_H E M H) (hS : va_S (t3_A E) H0 H locs) (hF : 1 ≤ R.frames) (hLo : 21 ≤ R.locals) (hf : f3_isMap M x1 = some r) (hrest : (rest.map fun v => v.category).sum ≤ 8) (hdg : decode cc pc = .ok (.invokevirtual 309, 3)) (kk : ∀ (H1 : Heap) (locs1 : List Loc), t3_H E M H1 → va_S (t3_A E) H0 H1 locs1 → W p l e R s m args below meth c H1 locs1 0 0 Q (F0 m (pc + 3) ls (.int r :: rest))) : W p l e R s m args below meth c H locs 0 0 Q (F0 m pc ls (.int x1 :: .ref E.1 :: rest)) :=
  t3k_isMap X hsz hK hD hR hS hF hLo (met3_isMap l hD _ _ _ hf) hrest hdg kk
end T3_isMap_c
noncomputable def f3_find (M : ww_M) (x1 : Int32) (x2 : Int32) : Option (Int32 × ww_M) :=
  ww_b (f3_isMap (ww_sF M 0 (0 : Int32)) x1) (fun r_1 => if r_1 = 0 then some ((-1000000 : Int32), (ww_sF M 0 (0 : Int32))) else ww_g (ww_i x1 999) (ww_b (f3_valueAt (ww_sF M 0 (0 : Int32)) (ww_X (ww_sF M 0 (0 : Int32)) 32 x1) x2) (fun r_4 => some (r_4, (ww_sF M 0 (0 : Int32))))))
set_option maxHeartbeats 4000000 in
set_option maxRecDepth 100000 in
theorem met3_find (l : Launch) {E : ww_E} (hD : t3_D E) (M : ww_M) (x1 : Int32) (x2 : Int32) (r : Int32) (M' : ww_M) (hf : f3_find M x1 x2 = some (r, M')) : t3_Met l yX3_find cX3_find 3 (some Jvm.ClassFile.FieldType.int) 5 114 E [.int x1, .int x2] M M' r := by
  unfold f3_find at hf
  refine t3_start (by decide +kernel) (Nat.le_of_ble_eq_true rfl) ?_
  intro p e s m args below meth c Rm Q X hK hF hLo hend ls hl hR hS
  obtain ⟨hx, hb, hml, hown, hts⟩ := id X
  replace hl : lv_has ls 3 [(0, .ref E.1), (1, .int x1), (2, .int x2)] := hl
  refine lv_aload_n hx hb dX3_find_0 rfl (lv_at hl 0 rfl) ?_
  refine lv_iconst (v := (0 : Int32)) hx hb dX3_find_1 (by decide) ?_
  refine t3p_0 X hK hD hR hS dX3_find_2 (fun H locs hR hS => ?_)
  refine lv_aload_n hx hb dX3_find_5 rfl (lv_at hl 0 rfl) ?_
  refine lv_iload_n hx hb dX3_find_6 rfl (lv_at hl 1 rfl) ?_
  obtain ⟨r_1, h_1, hf⟩ := ww_bS hf
  refine t3c_isMap X hl.1 hK hD hR hS (Nat.le_trans (Nat.le_of_ble_eq_true rfl) hF) (Nat.le_trans (Nat.le_of_ble_eq_true rfl) hLo) h_1 (Nat.le_of_ble_eq_true rfl) dX3_find_7 (fun H locs hR hS => ?_)
  refine lv_if_eq (tgt := 27) hx hb dX3_find_10 (by decide) (fun c_2 => ?_) (fun c_2 => ?_)
  · replace hf := ww_ip hf c_2
    refine lv_ldc (v := (-1000000 : Int32)) hx hb hown (hts _ q1942) dX3_find_27 ?_
    exact hend dX3_find_29 rfl rfl hf hR hS
  · replace hf := ww_in hf c_2
    refine lv_aload_n hx hb dX3_find_13 rfl (lv_at hl 0 rfl) ?_
    refine lv_aload_n hx hb dX3_find_14 rfl (lv_at hl 0 rfl) ?_
    refine t3g_32 X hK hR dX3_find_15 ?_
    refine lv_iload_n hx hb dX3_find_18 rfl (lv_at hl 1 rfl) ?_
    obtain ⟨h_3, hf⟩ := ww_gS hf
    refine t3l_32 X hK hR h_3 dX3_find_19 ?_
    refine lv_iload_n hx hb dX3_find_20 rfl (lv_at hl 2 rfl) ?_
    obtain ⟨r_4, h_4, hf⟩ := ww_bS hf
    refine t3c_valueAt X hl.1 hK hD hR hS (Nat.le_trans (Nat.le_of_ble_eq_true rfl) hF) (Nat.le_trans (Nat.le_of_ble_eq_true rfl) hLo) h_4 (Nat.le_of_ble_eq_true rfl) dX3_find_21 (fun H locs hR hS => ?_)
    refine lv_goto (tgt := 29) hx hb dX3_find_24 (by decide) ?_
    exact hend dX3_find_29 rfl rfl hf hR hS
noncomputable def f3_goesThrough_b1c (rec : ww_M → Int32 → Int32 → Option (ww_M)) (y1 : Int32) (y2 : Int32) (M_3 : ww_M) (x3 : Int32) : Option ((ww_M × Int32) ⊕ (ww_M)) :=
  ww_g (ww_i y1 12000) (if (ww_X M_3 11 y1) ≤ x3 then ww_x (some M_3) else ww_g (ww_i y1 12000) (if (ww_X M_3 10 y1) = 0 then ww_b (f3_child M_3 y1 x3) (fun r_12 => ww_b (rec M_3 r_12 (y2 + (1 : Int32))) (fun M_13 => some (.inl (M_13, (x3 + (1 : Int32)))))) else ww_g (ww_i (((7 : Int32) * y1) + x3) 84000) (ww_g (ww_i (ww_F M_3 30) 140) (ww_g (ww_i (((7 : Int32) * y1) + x3) 84000) (ww_g (ww_i (ww_F (ww_sX M_3 26 (ww_F M_3 30) (ww_X M_3 15 (((7 : Int32) * y1) + x3))) 30) 140) (some (.inl ((ww_sF (ww_sX (ww_sX M_3 26 (ww_F M_3 30) (ww_X M_3 15 (((7 : Int32) * y1) + x3))) 27 (ww_F (ww_sX M_3 26 (ww_F M_3 30) (ww_X M_3 15 (((7 : Int32) * y1) + x3))) 30) (ww_X (ww_sX M_3 26 (ww_F M_3 30) (ww_X M_3 15 (((7 : Int32) * y1) + x3))) 16 (((7 : Int32) * y1) + x3))) 30 ((ww_F (ww_sX (ww_sX M_3 26 (ww_F M_3 30) (ww_X M_3 15 (((7 : Int32) * y1) + x3))) 27 (ww_F (ww_sX M_3 26 (ww_F M_3 30) (ww_X M_3 15 (((7 : Int32) * y1) + x3))) 30) (ww_X (ww_sX M_3 26 (ww_F M_3 30) (ww_X M_3 15 (((7 : Int32) * y1) + x3))) 16 (((7 : Int32) * y1) + x3))) 30) + (1 : Int32))), (x3 + (1 : Int32))))))))))
noncomputable def f3_goesThrough_b1 (rec : ww_M → Int32 → Int32 → Option (ww_M)) (y1 : Int32) (y2 : Int32) : (ww_M × Int32) → Option ((ww_M × Int32) ⊕ (ww_M)) := fun s9 => f3_goesThrough_b1c rec y1 y2 s9.1 s9.2
noncomputable def f3_goesThrough_r (rec : ww_M → Int32 → Int32 → Option (ww_M)) (M : ww_M) (x1 : Int32) (x2 : Int32) : Option (ww_M) :=
  ww_g (ww_i (ww_F M 31) 240) (ww_g (ww_i (ww_F (ww_sX M 28 (ww_F M 31) x1) 31) 240) (ww_U (f3_goesThrough_b1 rec x1 x2) ((ww_sF (ww_sX (ww_sX M 28 (ww_F M 31) x1) 29 (ww_F (ww_sX M 28 (ww_F M 31) x1) 31) x2) 31 ((ww_F (ww_sX (ww_sX M 28 (ww_F M 31) x1) 29 (ww_F (ww_sX M 28 (ww_F M 31) x1) 31) x2) 31) + (1 : Int32))), (0 : Int32))))
noncomputable def f3_goesThrough : Nat → ww_M → Int32 → Int32 → Option (ww_M)
  | 0 => fun _ _ _ => none
  | d + 1 => f3_goesThrough_r (f3_goesThrough d)
section T3_goesThrough_k
variable {p : Program} {l : Launch} {e : Env} {R : Room} {s : State} {m : MethodId} {args : Array Value} {below : List Frame} {meth : Method} {c : Code} {H : Heap} {locs : List Loc} {Q : State → Prop}
variable {cc : ByteArray} {pc : Nat} {ls : Array Slot} {rest : List Value} {nL : Nat} {E : ww_E} {A : Nat → Prop} {H0 : Heap}
theorem t3k_goesThrough {M M' : ww_M} {x1 : Int32} {x2 : Int32} {d : Nat} (X : ww_C p m c cc nL s args RX3 lw_all) (hsz : ls.size = nL) (hK : t3_Kn E s) (hD : t3_D E) (hR : t3_H E M H) (hS : va_S (t3_A E) H0 H locs) (hF : (d + 1) + 1 ≤ R.frames) (hLo : 8 + (4 + 11) + (23 * d + 22) ≤ R.locals) (hM : t3_MetV l yX3_goesThrough cX3_goesThrough 4 (d + 1) (23 * d + 22) E [.int x1, .int x2] M M') (hrest : (rest.map fun v => v.category).sum ≤ 8) (hdg : decode cc pc = .ok (.invokevirtual 246, 3)) (kk : ∀ (H1 : Heap) (locs1 : List Loc), t3_H E M' H1 → va_S (t3_A E) H0 H1 locs1 → W p l e R s m args below meth c H1 locs1 0 0 Q (F0 m (pc + 3) ls (rest))) : W p l e R s m args below meth c H locs 0 0 Q (F0 m pc ls (.int x2 :: .int x1 :: .ref E.1 :: rest)) :=
  t3_callV (n := 2) X hsz hK hR hS (As := [.int x1, .int x2]) hM (lw_V q2045 q2047 qs91 q135 q2048) (by decide +kernel) rfl hF hLo (Nat.zero_le _) (Nat.zero_le _) hrest hdg kk
end T3_goesThrough_k
set_option maxHeartbeats 4000000 in
set_option maxRecDepth 100000 in
theorem met3_goesThrough (l : Launch) {E : ww_E} (hD : t3_D E) : ∀ (d : Nat) (M : ww_M) (x1 : Int32) (x2 : Int32) (M' : ww_M), f3_goesThrough d M x1 x2 = some M' → t3_MetV l yX3_goesThrough cX3_goesThrough 4 (d + 1) (23 * d + 22) E [.int x1, .int x2] M M' := by
  intro d
  induction d with
  | zero => intro M x1 x2 M' hf; cases hf
  | succ d ih =>
    intro M x1 x2 M' hf
    replace hf : f3_goesThrough_r (f3_goesThrough d) M x1 x2 = some M' := hf
    unfold f3_goesThrough_r at hf
    refine t3_startV (by decide +kernel) (Nat.le_of_ble_eq_true rfl) ?_
    intro p e s m args below meth c Rm Q X hK hF hLo hend ls hl hR hS
    obtain ⟨hx, hb, hml, hown, hts⟩ := id X
    replace hl : lv_has ls 4 [(0, .ref E.1), (1, .int x1), (2, .int x2)] := hl
    refine lv_aload_n hx hb dX3_goesThrough_0 rfl (lv_at hl 0 rfl) ?_
    refine t3g_28 X hK hR dX3_goesThrough_1 ?_
    refine lv_aload_n hx hb dX3_goesThrough_4 rfl (lv_at hl 0 rfl) ?_
    refine t3g_31 X hK hR dX3_goesThrough_5 ?_
    refine lv_iload_n hx hb dX3_goesThrough_8 rfl (lv_at hl 1 rfl) ?_
    obtain ⟨h_1, hf⟩ := ww_gS hf
    refine t3s_28 X hK hD hR hS h_1 dX3_goesThrough_9 (fun H locs hR hS => ?_)
    refine lv_aload_n hx hb dX3_goesThrough_10 rfl (lv_at hl 0 rfl) ?_
    refine t3g_29 X hK hR dX3_goesThrough_11 ?_
    refine lv_aload_n hx hb dX3_goesThrough_14 rfl (lv_at hl 0 rfl) ?_
    refine t3g_31 X hK hR dX3_goesThrough_15 ?_
    refine lv_iload_n hx hb dX3_goesThrough_18 rfl (lv_at hl 2 rfl) ?_
    obtain ⟨h_2, hf⟩ := ww_gS hf
    refine t3s_29 X hK hD hR hS h_2 dX3_goesThrough_19 (fun H locs hR hS => ?_)
    refine lv_aload_n hx hb dX3_goesThrough_20 rfl (lv_at hl 0 rfl) ?_
    refine lv_dup hx hb dX3_goesThrough_21 rfl ?_
    refine t3g_31 X hK hR dX3_goesThrough_22 ?_
    refine lv_iconst (v := (1 : Int32)) hx hb dX3_goesThrough_25 (by decide) ?_
    refine lv_iadd hx hb dX3_goesThrough_26 ?_
    refine t3p_31 X hK hD hR hS dX3_goesThrough_27 (fun H locs hR hS => ?_)
    refine lv_iconst (v := (0 : Int32)) hx hb dX3_goesThrough_30 (by decide) ?_
    refine lv_istore_n (lv' := [(3, .int (0 : Int32)), (0, .ref E.1), (1, .int x1), (2, .int x2)]) hx hb dX3_goesThrough_31 rfl hl (by decide) rfl (fun ls hl => ?_)
    have hL_1 : ∀ s9 : ww_M × Int32, ww_U (f3_goesThrough_b1 (f3_goesThrough d) x1 x2) s9 = some M' → ∀ (H : Heap) (locs : List Loc) (ls : Array Slot), t3_H E s9.1 H → va_S (t3_A E) s.heap H locs → lv_has ls 4 [(0, .ref E.1), (1, .int x1), (2, .int x2), (3, .int s9.2)] → W p l e Rm s m args below meth c H locs 0 0 Q (F0 m 32 ls []) := by
      refine ww_ind _ M' ?_
      intro s9 z_1 hf hz_1 H locs ls hR hS hl
      obtain ⟨M_3, x3⟩ := s9
      replace hf : f3_goesThrough_b1c (f3_goesThrough d) x1 x2 M_3 x3 = some z_1 := hf
      unfold f3_goesThrough_b1c at hf
      replace hR : t3_H E M_3 H := hR
      replace hl : lv_has ls 4 [(0, .ref E.1), (1, .int x1), (2, .int x2), (3, .int x3)] := hl
      refine lv_iload_n hx hb dX3_goesThrough_32 rfl (lv_at hl 3 rfl) ?_
      refine lv_aload_n hx hb dX3_goesThrough_33 rfl (lv_at hl 0 rfl) ?_
      refine t3g_11 X hK hR dX3_goesThrough_34 ?_
      refine lv_iload_n hx hb dX3_goesThrough_37 rfl (lv_at hl 1 rfl) ?_
      obtain ⟨h_4, hf⟩ := ww_gS hf
      refine t3l_11 X hK hR h_4 dX3_goesThrough_38 ?_
      refine lv_icmp_ge (tgt := 123) hx hb dX3_goesThrough_39 (by decide) (fun c_5 => ?_) (fun c_5 => ?_)
      · replace hf := ww_ip hf c_5
        replace hf := ww_xK hf hz_1
        exact hend dX3_goesThrough_123 hf hR hS
      · replace hf := ww_in hf c_5
        refine lv_aload_n hx hb dX3_goesThrough_42 rfl (lv_at hl 0 rfl) ?_
        refine t3g_10 X hK hR dX3_goesThrough_43 ?_
        refine lv_iload_n hx hb dX3_goesThrough_46 rfl (lv_at hl 1 rfl) ?_
        obtain ⟨h_6, hf⟩ := ww_gS hf
        refine t3l_10 X hK hR h_6 dX3_goesThrough_47 ?_
        refine lv_if_ne (tgt := 67) hx hb dX3_goesThrough_48 (by decide) (fun c_7 => ?_) (fun c_7 => ?_)
        · replace hf := ww_in hf c_7
          refine lv_aload_n hx hb dX3_goesThrough_67 rfl (lv_at hl 0 rfl) ?_
          refine t3g_26 X hK hR dX3_goesThrough_68 ?_
          refine lv_aload_n hx hb dX3_goesThrough_71 rfl (lv_at hl 0 rfl) ?_
          refine t3g_30 X hK hR dX3_goesThrough_72 ?_
          refine lv_aload_n hx hb dX3_goesThrough_75 rfl (lv_at hl 0 rfl) ?_
          refine t3g_15 X hK hR dX3_goesThrough_76 ?_
          refine lv_bipush (v := (7 : Int32)) hx hb dX3_goesThrough_79 (by decide) ?_
          refine lv_iload_n hx hb dX3_goesThrough_81 rfl (lv_at hl 1 rfl) ?_
          refine lv_imul hx hb dX3_goesThrough_82 ?_
          refine lv_iload_n hx hb dX3_goesThrough_83 rfl (lv_at hl 3 rfl) ?_
          refine lv_iadd hx hb dX3_goesThrough_84 ?_
          obtain ⟨h_8, hf⟩ := ww_gS hf
          refine t3l_15 X hK hR h_8 dX3_goesThrough_85 ?_
          obtain ⟨h_9, hf⟩ := ww_gS hf
          refine t3s_26 X hK hD hR hS h_9 dX3_goesThrough_86 (fun H locs hR hS => ?_)
          refine lv_aload_n hx hb dX3_goesThrough_87 rfl (lv_at hl 0 rfl) ?_
          refine t3g_27 X hK hR dX3_goesThrough_88 ?_
          refine lv_aload_n hx hb dX3_goesThrough_91 rfl (lv_at hl 0 rfl) ?_
          refine t3g_30 X hK hR dX3_goesThrough_92 ?_
          refine lv_aload_n hx hb dX3_goesThrough_95 rfl (lv_at hl 0 rfl) ?_
          refine t3g_16 X hK hR dX3_goesThrough_96 ?_
          refine lv_bipush (v := (7 : Int32)) hx hb dX3_goesThrough_99 (by decide) ?_
          refine lv_iload_n hx hb dX3_goesThrough_101 rfl (lv_at hl 1 rfl) ?_
          refine lv_imul hx hb dX3_goesThrough_102 ?_
          refine lv_iload_n hx hb dX3_goesThrough_103 rfl (lv_at hl 3 rfl) ?_
          refine lv_iadd hx hb dX3_goesThrough_104 ?_
          obtain ⟨h_10, hf⟩ := ww_gS hf
          refine t3l_16 X hK hR h_10 dX3_goesThrough_105 ?_
          obtain ⟨h_11, hf⟩ := ww_gS hf
          refine t3s_27 X hK hD hR hS h_11 dX3_goesThrough_106 (fun H locs hR hS => ?_)
          refine lv_aload_n hx hb dX3_goesThrough_107 rfl (lv_at hl 0 rfl) ?_
          refine lv_dup hx hb dX3_goesThrough_108 rfl ?_
          refine t3g_30 X hK hR dX3_goesThrough_109 ?_
          refine lv_iconst (v := (1 : Int32)) hx hb dX3_goesThrough_112 (by decide) ?_
          refine lv_iadd hx hb dX3_goesThrough_113 ?_
          refine t3p_30 X hK hD hR hS dX3_goesThrough_114 (fun H locs hR hS => ?_)
          refine lv_iinc (k := 3) (v := x3 + (1 : Int32)) (lv' := [(3, .int (x3 + (1 : Int32))), (0, .ref E.1), (1, .int x1), (2, .int x2)]) hx hb dX3_goesThrough_117 hl rfl rfl (by decide) rfl (fun ls hl => ?_)
          refine lv_goto (tgt := 32) hx hb dX3_goesThrough_120 (by decide) ?_
          exact ww_lK hf hz_1 _ _ _ hR hS (lv_sub hl [1, 2, 3, 0] rfl)
        · replace hf := ww_ip hf c_7
          refine lv_aload_n hx hb dX3_goesThrough_51 rfl (lv_at hl 0 rfl) ?_
          refine lv_aload_n hx hb dX3_goesThrough_52 rfl (lv_at hl 0 rfl) ?_
          refine lv_iload_n hx hb dX3_goesThrough_53 rfl (lv_at hl 1 rfl) ?_
          refine lv_iload_n hx hb dX3_goesThrough_54 rfl (lv_at hl 3 rfl) ?_
          obtain ⟨r_12, h_12, hf⟩ := ww_bS hf
          refine t3c_child X hl.1 hK hD hR hS (by omega) (by omega) h_12 (Nat.le_of_ble_eq_true rfl) dX3_goesThrough_55 (fun H locs hR hS => ?_)
          refine lv_iload_n hx hb dX3_goesThrough_58 rfl (lv_at hl 2 rfl) ?_
          refine lv_iconst (v := (1 : Int32)) hx hb dX3_goesThrough_59 (by decide) ?_
          refine lv_iadd hx hb dX3_goesThrough_60 ?_
          obtain ⟨M_13, h_13, hf⟩ := ww_bS hf
          refine t3k_goesThrough X hl.1 hK hD hR hS (by omega) (by omega) (ih _ _ _ _ h_13) (Nat.le_of_ble_eq_true rfl) dX3_goesThrough_61 (fun H locs hR hS => ?_)
          refine lv_goto (tgt := 117) hx hb dX3_goesThrough_64 (by decide) ?_
          refine lv_iinc (k := 3) (v := x3 + (1 : Int32)) (lv' := [(3, .int (x3 + (1 : Int32))), (0, .ref E.1), (1, .int x1), (2, .int x2)]) hx hb dX3_goesThrough_117 hl rfl rfl (by decide) rfl (fun ls hl => ?_)
          refine lv_goto (tgt := 32) hx hb dX3_goesThrough_120 (by decide) ?_
          exact ww_lK hf hz_1 _ _ _ hR hS (lv_sub hl [1, 2, 3, 0] rfl)
    exact hL_1 ((ww_sF (ww_sX (ww_sX M 28 (ww_F M 31) x1) 29 (ww_F (ww_sX M 28 (ww_F M 31) x1) 31) x2) 31 ((ww_F (ww_sX (ww_sX M 28 (ww_F M 31) x1) 29 (ww_F (ww_sX M 28 (ww_F M 31) x1) 31) x2) 31) + (1 : Int32))), (0 : Int32)) hf _ _ _ hR hS (lv_sub hl [1, 2, 3, 0] rfl)
section T3_goesThrough_c
variable {p : Program} {l : Launch} {e : Env} {R : Room} {s : State} {m : MethodId} {args : Array Value} {below : List Frame} {meth : Method} {c : Code} {H : Heap} {locs : List Loc} {Q : State → Prop}
variable {cc : ByteArray} {pc : Nat} {ls : Array Slot} {rest : List Value} {nL : Nat} {E : ww_E} {A : Nat → Prop} {H0 : Heap}
theorem t3c_goesThrough {M M' : ww_M} {x1 : Int32} {x2 : Int32} (X : ww_C p m c cc nL s args RX3 lw_all) (hsz : ls.size = nL) (hK : t3_Kn E s) (hD : t3_D E) (hR : t3_H E M H) (hS : va_S (t3_A E) H0 H locs) (hF : 12 ≤ R.frames) (hLo : 275 ≤ R.locals) (hf : f3_goesThrough 10 M x1 x2 = some M') (hrest : (rest.map fun v => v.category).sum ≤ 8) (hdg : decode cc pc = .ok (.invokevirtual 246, 3)) (kk : ∀ (H1 : Heap) (locs1 : List Loc), t3_H E M' H1 → va_S (t3_A E) H0 H1 locs1 → W p l e R s m args below meth c H1 locs1 0 0 Q (F0 m (pc + 3) ls (rest))) : W p l e R s m args below meth c H locs 0 0 Q (F0 m pc ls (.int x2 :: .int x1 :: .ref E.1 :: rest)) :=
  t3k_goesThrough (d := 10) X hsz hK hD hR hS hF hLo (met3_goesThrough l hD 10 _ _ _ _ hf) hrest hdg kk
end T3_goesThrough_c
noncomputable def f3_laysTree (M : ww_M) (x1 : Int32) : Option (ww_M) :=
  ww_b (f3_goesThrough 10 (ww_sF (ww_sF M 30 (0 : Int32)) 31 (0 : Int32)) x1 (0 : Int32)) (fun M_1 => some M_1)
section T3_laysTree_k
variable {p : Program} {l : Launch} {e : Env} {R : Room} {s : State} {m : MethodId} {args : Array Value} {below : List Frame} {meth : Method} {c : Code} {H : Heap} {locs : List Loc} {Q : State → Prop}
variable {cc : ByteArray} {pc : Nat} {ls : Array Slot} {rest : List Value} {nL : Nat} {E : ww_E} {A : Nat → Prop} {H0 : Heap}
theorem t3k_laysTree {M M' : ww_M} {x1 : Int32} (X : ww_C p m c cc nL s args RX3 lw_all) (hsz : ls.size = nL) (hK : t3_Kn E s) (hD : t3_D E) (hR : t3_H E M H) (hS : va_S (t3_A E) H0 H locs) (hF : 13 ≤ R.frames) (hLo : 296 ≤ R.locals) (hM : t3_MetV l yX3_laysTree cX3_laysTree 2 12 275 E [.int x1] M M') (hrest : (rest.map fun v => v.category).sum ≤ 8) (hdg : decode cc pc = .ok (.invokevirtual 252, 3)) (kk : ∀ (H1 : Heap) (locs1 : List Loc), t3_H E M' H1 → va_S (t3_A E) H0 H1 locs1 → W p l e R s m args below meth c H1 locs1 0 0 Q (F0 m (pc + 3) ls (rest))) : W p l e R s m args below meth c H locs 0 0 Q (F0 m pc ls (.int x1 :: .ref E.1 :: rest)) :=
  t3_callV (n := 1) X hsz hK hR hS (As := [.int x1]) hM (lw_V q2041 q2043 qs90 q135 q2044) (by decide +kernel) rfl hF hLo (Nat.zero_le _) (Nat.zero_le _) hrest hdg kk
end T3_laysTree_k
set_option maxHeartbeats 4000000 in
set_option maxRecDepth 100000 in
theorem met3_laysTree (l : Launch) {E : ww_E} (hD : t3_D E) (M : ww_M) (x1 : Int32) (M' : ww_M) (hf : f3_laysTree M x1 = some M') : t3_MetV l yX3_laysTree cX3_laysTree 2 12 275 E [.int x1] M M' := by
  unfold f3_laysTree at hf
  refine t3_startV (by decide +kernel) (Nat.le_of_ble_eq_true rfl) ?_
  intro p e s m args below meth c Rm Q X hK hF hLo hend ls hl hR hS
  obtain ⟨hx, hb, hml, hown, hts⟩ := id X
  replace hl : lv_has ls 2 [(0, .ref E.1), (1, .int x1)] := hl
  refine lv_aload_n hx hb dX3_laysTree_0 rfl (lv_at hl 0 rfl) ?_
  refine lv_iconst (v := (0 : Int32)) hx hb dX3_laysTree_1 (by decide) ?_
  refine t3p_30 X hK hD hR hS dX3_laysTree_2 (fun H locs hR hS => ?_)
  refine lv_aload_n hx hb dX3_laysTree_5 rfl (lv_at hl 0 rfl) ?_
  refine lv_iconst (v := (0 : Int32)) hx hb dX3_laysTree_6 (by decide) ?_
  refine t3p_31 X hK hD hR hS dX3_laysTree_7 (fun H locs hR hS => ?_)
  refine lv_aload_n hx hb dX3_laysTree_10 rfl (lv_at hl 0 rfl) ?_
  refine lv_iload_n hx hb dX3_laysTree_11 rfl (lv_at hl 1 rfl) ?_
  refine lv_iconst (v := (0 : Int32)) hx hb dX3_laysTree_12 (by decide) ?_
  obtain ⟨M_1, h_1, hf⟩ := ww_bS hf
  refine t3c_goesThrough X hl.1 hK hD hR hS (Nat.le_trans (Nat.le_of_ble_eq_true rfl) hF) (Nat.le_trans (Nat.le_of_ble_eq_true rfl) hLo) h_1 (Nat.le_of_ble_eq_true rfl) dX3_laysTree_13 (fun H locs hR hS => ?_)
  exact hend dX3_laysTree_16 hf hR hS
section T3_laysTree_c
variable {p : Program} {l : Launch} {e : Env} {R : Room} {s : State} {m : MethodId} {args : Array Value} {below : List Frame} {meth : Method} {c : Code} {H : Heap} {locs : List Loc} {Q : State → Prop}
variable {cc : ByteArray} {pc : Nat} {ls : Array Slot} {rest : List Value} {nL : Nat} {E : ww_E} {A : Nat → Prop} {H0 : Heap}
theorem t3c_laysTree {M M' : ww_M} {x1 : Int32} (X : ww_C p m c cc nL s args RX3 lw_all) (hsz : ls.size = nL) (hK : t3_Kn E s) (hD : t3_D E) (hR : t3_H E M H) (hS : va_S (t3_A E) H0 H locs) (hF : 13 ≤ R.frames) (hLo : 296 ≤ R.locals) (hf : f3_laysTree M x1 = some M') (hrest : (rest.map fun v => v.category).sum ≤ 8) (hdg : decode cc pc = .ok (.invokevirtual 252, 3)) (kk : ∀ (H1 : Heap) (locs1 : List Loc), t3_H E M' H1 → va_S (t3_A E) H0 H1 locs1 → W p l e R s m args below meth c H1 locs1 0 0 Q (F0 m (pc + 3) ls (rest))) : W p l e R s m args below meth c H locs 0 0 Q (F0 m pc ls (.int x1 :: .ref E.1 :: rest)) :=
  t3k_laysTree X hsz hK hD hR hS hF hLo (met3_laysTree l hD _ _ _ hf) hrest hdg kk
end T3_laysTree_c
noncomputable def f3_key (M : ww_M) (x1 : Int32) (x2 : Int32) : Option (Int32 × ww_M) :=
  ww_b (f3_isMap (ww_sF M 0 (1 : Int32)) x1) (fun r_1 => if r_1 = 0 then some ((0 : Int32), (ww_sF M 0 (1 : Int32))) else if 0 ≤ x2 then ww_g (ww_i x1 999) (ww_b (f3_laysTree (ww_sF M 0 (1 : Int32)) (ww_X (ww_sF M 0 (1 : Int32)) 32 x1)) (fun M_5 => if x2 < (ww_F M_5 30) then ww_g (ww_i x2 140) (some ((ww_X (ww_sF M_5 0 (0 : Int32)) 26 x2), (ww_sF M_5 0 (0 : Int32)))) else some ((0 : Int32), M_5))) else some ((0 : Int32), (ww_sF M 0 (1 : Int32))))
set_option maxHeartbeats 4000000 in
set_option maxRecDepth 100000 in
theorem met3_key (l : Launch) {E : ww_E} (hD : t3_D E) (M : ww_M) (x1 : Int32) (x2 : Int32) (r : Int32) (M' : ww_M) (hf : f3_key M x1 x2 = some (r, M')) : t3_Met l yX3_key cX3_key 3 (some Jvm.ClassFile.FieldType.int) 13 296 E [.int x1, .int x2] M M' r := by
  unfold f3_key at hf
  refine t3_start (by decide +kernel) (Nat.le_of_ble_eq_true rfl) ?_
  intro p e s m args below meth c Rm Q X hK hF hLo hend ls hl hR hS
  obtain ⟨hx, hb, hml, hown, hts⟩ := id X
  replace hl : lv_has ls 3 [(0, .ref E.1), (1, .int x1), (2, .int x2)] := hl
  refine lv_aload_n hx hb dX3_key_0 rfl (lv_at hl 0 rfl) ?_
  refine lv_iconst (v := (1 : Int32)) hx hb dX3_key_1 (by decide) ?_
  refine t3p_0 X hK hD hR hS dX3_key_2 (fun H locs hR hS => ?_)
  refine lv_aload_n hx hb dX3_key_5 rfl (lv_at hl 0 rfl) ?_
  refine lv_iload_n hx hb dX3_key_6 rfl (lv_at hl 1 rfl) ?_
  obtain ⟨r_1, h_1, hf⟩ := ww_bS hf
  refine t3c_isMap X hl.1 hK hD hR hS (Nat.le_trans (Nat.le_of_ble_eq_true rfl) hF) (Nat.le_trans (Nat.le_of_ble_eq_true rfl) hLo) h_1 (Nat.le_of_ble_eq_true rfl) dX3_key_7 (fun H locs hR hS => ?_)
  refine lv_if_eq (tgt := 17) hx hb dX3_key_10 (by decide) (fun c_2 => ?_) (fun c_2 => ?_)
  · replace hf := ww_ip hf c_2
    refine lv_iconst (v := (0 : Int32)) hx hb dX3_key_17 (by decide) ?_
    exact hend dX3_key_18 rfl rfl hf hR hS
  · replace hf := ww_in hf c_2
    refine lv_iload_n hx hb dX3_key_13 rfl (lv_at hl 2 rfl) ?_
    refine lv_if_ge (tgt := 19) hx hb dX3_key_14 (by decide) (fun c_3 => ?_) (fun c_3 => ?_)
    · replace hf := ww_ip hf c_3
      refine lv_aload_n hx hb dX3_key_19 rfl (lv_at hl 0 rfl) ?_
      refine lv_aload_n hx hb dX3_key_20 rfl (lv_at hl 0 rfl) ?_
      refine t3g_32 X hK hR dX3_key_21 ?_
      refine lv_iload_n hx hb dX3_key_24 rfl (lv_at hl 1 rfl) ?_
      obtain ⟨h_4, hf⟩ := ww_gS hf
      refine t3l_32 X hK hR h_4 dX3_key_25 ?_
      obtain ⟨M_5, h_5, hf⟩ := ww_bS hf
      refine t3c_laysTree X hl.1 hK hD hR hS (Nat.le_trans (Nat.le_of_ble_eq_true rfl) hF) (Nat.le_trans (Nat.le_of_ble_eq_true rfl) hLo) h_5 (Nat.le_of_ble_eq_true rfl) dX3_key_26 (fun H locs hR hS => ?_)
      refine lv_iload_n hx hb dX3_key_29 rfl (lv_at hl 2 rfl) ?_
      refine lv_aload_n hx hb dX3_key_30 rfl (lv_at hl 0 rfl) ?_
      refine t3g_30 X hK hR dX3_key_31 ?_
      refine lv_icmp_lt (tgt := 39) hx hb dX3_key_34 (by decide) (fun c_6 => ?_) (fun c_6 => ?_)
      · replace hf := ww_ip hf c_6
        refine lv_aload_n hx hb dX3_key_39 rfl (lv_at hl 0 rfl) ?_
        refine lv_iconst (v := (0 : Int32)) hx hb dX3_key_40 (by decide) ?_
        refine t3p_0 X hK hD hR hS dX3_key_41 (fun H locs hR hS => ?_)
        refine lv_aload_n hx hb dX3_key_44 rfl (lv_at hl 0 rfl) ?_
        refine t3g_26 X hK hR dX3_key_45 ?_
        refine lv_iload_n hx hb dX3_key_48 rfl (lv_at hl 2 rfl) ?_
        obtain ⟨h_7, hf⟩ := ww_gS hf
        refine t3l_26 X hK hR h_7 dX3_key_49 ?_
        exact hend dX3_key_50 rfl rfl hf hR hS
      · replace hf := ww_in hf c_6
        refine lv_iconst (v := (0 : Int32)) hx hb dX3_key_37 (by decide) ?_
        exact hend dX3_key_38 rfl rfl hf hR hS
    · replace hf := ww_in hf c_3
      refine lv_iconst (v := (0 : Int32)) hx hb dX3_key_17 (by decide) ?_
      exact hend dX3_key_18 rfl rfl hf hR hS
noncomputable def f3_levels_b1c (M : ww_M) (x1 : Int32) (x2 : Int32) : Option ((Int32 × Int32) ⊕ (Int32)) :=
  if (ww_F M 31) ≤ x2 then ww_x (some x1) else ww_g (ww_i x2 240) (some (.inl ((if x1 < ((ww_X M 29 x2) + (1 : Int32)) then ((ww_X M 29 x2) + (1 : Int32)) else x1), (x2 + (1 : Int32)))))
noncomputable def f3_levels_b1 (M : ww_M) : (Int32 × Int32) → Option ((Int32 × Int32) ⊕ (Int32)) := fun s9 => f3_levels_b1c M s9.1 s9.2
noncomputable def f3_levels (M : ww_M) : Option (Int32) :=
  ww_U (f3_levels_b1 M) ((0 : Int32), (0 : Int32))
section T3_levels_k
variable {p : Program} {l : Launch} {e : Env} {R : Room} {s : State} {m : MethodId} {args : Array Value} {below : List Frame} {meth : Method} {c : Code} {H : Heap} {locs : List Loc} {Q : State → Prop}
variable {cc : ByteArray} {pc : Nat} {ls : Array Slot} {rest : List Value} {nL : Nat} {E : ww_E} {A : Nat → Prop} {H0 : Heap}
theorem t3k_levels {M : ww_M} {r : Int32} (X : ww_C p m c cc nL s args RX3 lw_all) (hsz : ls.size = nL) (hK : t3_Kn E s) (hD : t3_D E) (hR : t3_H E M H) (hS : va_S (t3_A E) H0 H locs) (hF : 2 ≤ R.frames) (hLo : 62 ≤ R.locals) (hM : t3_Met l yX3_levels cX3_levels 3 (some Jvm.ClassFile.FieldType.int) 1 40 E [] M M r) (hrest : (rest.map fun v => v.category).sum ≤ 8) (hdg : decode cc pc = .ok (.invokevirtual 318, 3)) (kk : ∀ (H1 : Heap) (locs1 : List Loc), t3_H E M H1 → va_S (t3_A E) H0 H1 locs1 → W p l e R s m args below meth c H1 locs1 0 0 Q (F0 m (pc + 3) ls (.int r :: rest))) : W p l e R s m args below meth c H locs 0 0 Q (F0 m pc ls (.ref E.1 :: rest)) :=
  t3_callI (n := 0) X hsz hK hR hS (As := []) hM (lw_V q2053 q2055 qs92 q135 q2056) (by decide +kernel) rfl hF hLo (Nat.zero_le _) (Nat.zero_le _) hrest hdg kk
end T3_levels_k
set_option maxHeartbeats 4000000 in
set_option maxRecDepth 100000 in
theorem met3_levels (l : Launch) {E : ww_E} (hD : t3_D E) (M : ww_M) (r : Int32) (hf : f3_levels M = some r) : t3_Met l yX3_levels cX3_levels 3 (some Jvm.ClassFile.FieldType.int) 1 40 E [] M M r := by
  unfold f3_levels at hf
  refine t3_startP (by decide +kernel) (Nat.le_of_ble_eq_true rfl) ?_
  intro p e s m args below meth c Rm Q X hK hF hLo hend ls hl hR hS
  obtain ⟨hx, hb, hml, hown, hts⟩ := id X
  replace hl : lv_has ls 3 [(0, .ref E.1)] := hl
  refine lv_iconst (v := (0 : Int32)) hx hb dX3_levels_0 (by decide) ?_
  refine lv_istore_n (lv' := [(1, .int (0 : Int32)), (0, .ref E.1)]) hx hb dX3_levels_1 rfl hl (by decide) rfl (fun ls hl => ?_)
  refine lv_iconst (v := (0 : Int32)) hx hb dX3_levels_2 (by decide) ?_
  refine lv_istore_n (lv' := [(2, .int (0 : Int32)), (1, .int (0 : Int32)), (0, .ref E.1)]) hx hb dX3_levels_3 rfl hl (by decide) rfl (fun ls hl => ?_)
  have hL_1 : ∀ s9 : Int32 × Int32, ww_U (f3_levels_b1 M) s9 = some r → ∀ (H : Heap) (locs : List Loc) (ls : Array Slot), t3_H E M H → va_S (t3_A E) s.heap H locs → lv_has ls 3 [(0, .ref E.1), (1, .int s9.1), (2, .int s9.2)] → W p l e Rm s m args below meth c H locs 0 0 Q (F0 m 4 ls []) := by
    refine ww_ind _ r ?_
    intro s9 z_1 hf hz_1 H locs ls hR hS hl
    obtain ⟨x1, x2⟩ := s9
    replace hf : f3_levels_b1c M x1 x2 = some z_1 := hf
    unfold f3_levels_b1c at hf
    replace hl : lv_has ls 3 [(0, .ref E.1), (1, .int x1), (2, .int x2)] := hl
    refine lv_iload_n hx hb dX3_levels_4 rfl (lv_at hl 2 rfl) ?_
    refine lv_aload_n hx hb dX3_levels_5 rfl (lv_at hl 0 rfl) ?_
    refine t3g_31 X hK hR dX3_levels_6 ?_
    refine lv_icmp_ge (tgt := 31) hx hb dX3_levels_9 (by decide) (fun c_1 => ?_) (fun c_1 => ?_)
    · replace hf := ww_ip hf c_1
      replace hf := ww_xK hf hz_1
      refine lv_iload_n hx hb dX3_levels_31 rfl (lv_at hl 1 rfl) ?_
      exact hend dX3_levels_32 rfl rfl hf hR hS
    · replace hf := ww_in hf c_1
      refine lv_iload_n hx hb dX3_levels_12 rfl (lv_at hl 1 rfl) ?_
      refine lv_aload_n hx hb dX3_levels_13 rfl (lv_at hl 0 rfl) ?_
      refine t3g_29 X hK hR dX3_levels_14 ?_
      refine lv_iload_n hx hb dX3_levels_17 rfl (lv_at hl 2 rfl) ?_
      obtain ⟨h_2, hf⟩ := ww_gS hf
      refine t3l_29 X hK hR h_2 dX3_levels_18 ?_
      refine lv_iconst (v := (1 : Int32)) hx hb dX3_levels_19 (by decide) ?_
      refine lv_iadd hx hb dX3_levels_20 ?_
      refine va_mmax hx hb (hml.trans hl.1.symm) hown (hts _ q2057) (hts _ q475) (hts _ q141) (hts _ q476) (Nat.le_trans (Nat.le_of_ble_eq_true rfl) hF) (Nat.le_trans (Nat.le_of_ble_eq_true rfl) hLo) (Nat.zero_le _) (Nat.zero_le _) dX3_levels_21 ?_
      refine lv_istore_n (lv' := [(1, .int (if x1 < ((ww_X M 29 x2) + (1 : Int32)) then ((ww_X M 29 x2) + (1 : Int32)) else x1)), (0, .ref E.1), (2, .int x2)]) hx hb dX3_levels_24 rfl hl (by decide) rfl (fun ls hl => ?_)
      refine lv_iinc (k := 2) (v := x2 + (1 : Int32)) (lv' := [(2, .int (x2 + (1 : Int32))), (1, .int (if x1 < ((ww_X M 29 x2) + (1 : Int32)) then ((ww_X M 29 x2) + (1 : Int32)) else x1)), (0, .ref E.1)]) hx hb dX3_levels_25 hl rfl rfl (by decide) rfl (fun ls hl => ?_)
      refine lv_goto (tgt := 4) hx hb dX3_levels_28 (by decide) ?_
      exact ww_lK hf hz_1 _ _ _ hR hS (lv_sub hl [2, 1, 0] rfl)
  exact hL_1 ((0 : Int32), (0 : Int32)) hf _ _ _ hR hS (lv_sub hl [2, 1, 0] rfl)
section T3_levels_c
variable {p : Program} {l : Launch} {e : Env} {R : Room} {s : State} {m : MethodId} {args : Array Value} {below : List Frame} {meth : Method} {c : Code} {H : Heap} {locs : List Loc} {Q : State → Prop}
variable {cc : ByteArray} {pc : Nat} {ls : Array Slot} {rest : List Value} {nL : Nat} {E : ww_E} {A : Nat → Prop} {H0 : Heap}
theorem t3c_levels {M : ww_M} {r : Int32} (X : ww_C p m c cc nL s args RX3 lw_all) (hsz : ls.size = nL) (hK : t3_Kn E s) (hD : t3_D E) (hR : t3_H E M H) (hS : va_S (t3_A E) H0 H locs) (hF : 2 ≤ R.frames) (hLo : 62 ≤ R.locals) (hf : f3_levels M = some r) (hrest : (rest.map fun v => v.category).sum ≤ 8) (hdg : decode cc pc = .ok (.invokevirtual 318, 3)) (kk : ∀ (H1 : Heap) (locs1 : List Loc), t3_H E M H1 → va_S (t3_A E) H0 H1 locs1 → W p l e R s m args below meth c H1 locs1 0 0 Q (F0 m (pc + 3) ls (.int r :: rest))) : W p l e R s m args below meth c H locs 0 0 Q (F0 m pc ls (.ref E.1 :: rest)) :=
  t3k_levels X hsz hK hD hR hS hF hLo (met3_levels l hD _ _ hf) hrest hdg kk
end T3_levels_c
noncomputable def f3_leaves_b1c (M : ww_M) (x1 : Int32) (x2 : Int32) : Option ((Int32 × Int32) ⊕ (Int32)) :=
  if (ww_F M 31) ≤ x2 then ww_x (some x1) else ww_g (ww_i x2 240) (ww_g (ww_i (ww_X M 28 x2) 12000) (some (.inl ((x1 + (ww_X M 10 (ww_X M 28 x2))), (x2 + (1 : Int32))))))
noncomputable def f3_leaves_b1 (M : ww_M) : (Int32 × Int32) → Option ((Int32 × Int32) ⊕ (Int32)) := fun s9 => f3_leaves_b1c M s9.1 s9.2
noncomputable def f3_leaves (M : ww_M) : Option (Int32) :=
  ww_U (f3_leaves_b1 M) ((0 : Int32), (0 : Int32))
section T3_leaves_k
variable {p : Program} {l : Launch} {e : Env} {R : Room} {s : State} {m : MethodId} {args : Array Value} {below : List Frame} {meth : Method} {c : Code} {H : Heap} {locs : List Loc} {Q : State → Prop}
variable {cc : ByteArray} {pc : Nat} {ls : Array Slot} {rest : List Value} {nL : Nat} {E : ww_E} {A : Nat → Prop} {H0 : Heap}
theorem t3k_leaves {M : ww_M} {r : Int32} (X : ww_C p m c cc nL s args RX3 lw_all) (hsz : ls.size = nL) (hK : t3_Kn E s) (hD : t3_D E) (hR : t3_H E M H) (hS : va_S (t3_A E) H0 H locs) (hF : 1 ≤ R.frames) (hLo : 22 ≤ R.locals) (hM : t3_Met l yX3_leaves cX3_leaves 3 (some Jvm.ClassFile.FieldType.int) 0 0 E [] M M r) (hrest : (rest.map fun v => v.category).sum ≤ 8) (hdg : decode cc pc = .ok (.invokevirtual 321, 3)) (kk : ∀ (H1 : Heap) (locs1 : List Loc), t3_H E M H1 → va_S (t3_A E) H0 H1 locs1 → W p l e R s m args below meth c H1 locs1 0 0 Q (F0 m (pc + 3) ls (.int r :: rest))) : W p l e R s m args below meth c H locs 0 0 Q (F0 m pc ls (.ref E.1 :: rest)) :=
  t3_callI (n := 0) X hsz hK hR hS (As := []) hM (lw_V q2058 q2060 qs93 q135 q2061) (by decide +kernel) rfl hF hLo (Nat.zero_le _) (Nat.zero_le _) hrest hdg kk
end T3_leaves_k
set_option maxHeartbeats 4000000 in
set_option maxRecDepth 100000 in
theorem met3_leaves (l : Launch) {E : ww_E} (hD : t3_D E) (M : ww_M) (r : Int32) (hf : f3_leaves M = some r) : t3_Met l yX3_leaves cX3_leaves 3 (some Jvm.ClassFile.FieldType.int) 0 0 E [] M M r := by
  unfold f3_leaves at hf
  refine t3_startP (by decide +kernel) (Nat.le_of_ble_eq_true rfl) ?_
  intro p e s m args below meth c Rm Q X hK hF hLo hend ls hl hR hS
  obtain ⟨hx, hb, hml, hown, hts⟩ := id X
  replace hl : lv_has ls 3 [(0, .ref E.1)] := hl
  refine lv_iconst (v := (0 : Int32)) hx hb dX3_leaves_0 (by decide) ?_
  refine lv_istore_n (lv' := [(1, .int (0 : Int32)), (0, .ref E.1)]) hx hb dX3_leaves_1 rfl hl (by decide) rfl (fun ls hl => ?_)
  refine lv_iconst (v := (0 : Int32)) hx hb dX3_leaves_2 (by decide) ?_
  refine lv_istore_n (lv' := [(2, .int (0 : Int32)), (1, .int (0 : Int32)), (0, .ref E.1)]) hx hb dX3_leaves_3 rfl hl (by decide) rfl (fun ls hl => ?_)
  have hL_1 : ∀ s9 : Int32 × Int32, ww_U (f3_leaves_b1 M) s9 = some r → ∀ (H : Heap) (locs : List Loc) (ls : Array Slot), t3_H E M H → va_S (t3_A E) s.heap H locs → lv_has ls 3 [(0, .ref E.1), (1, .int s9.1), (2, .int s9.2)] → W p l e Rm s m args below meth c H locs 0 0 Q (F0 m 4 ls []) := by
    refine ww_ind _ r ?_
    intro s9 z_1 hf hz_1 H locs ls hR hS hl
    obtain ⟨x1, x2⟩ := s9
    replace hf : f3_leaves_b1c M x1 x2 = some z_1 := hf
    unfold f3_leaves_b1c at hf
    replace hl : lv_has ls 3 [(0, .ref E.1), (1, .int x1), (2, .int x2)] := hl
    refine lv_iload_n hx hb dX3_leaves_4 rfl (lv_at hl 2 rfl) ?_
    refine lv_aload_n hx hb dX3_leaves_5 rfl (lv_at hl 0 rfl) ?_
    refine t3g_31 X hK hR dX3_leaves_6 ?_
    refine lv_icmp_ge (tgt := 32) hx hb dX3_leaves_9 (by decide) (fun c_1 => ?_) (fun c_1 => ?_)
    · replace hf := ww_ip hf c_1
      replace hf := ww_xK hf hz_1
      refine lv_iload_n hx hb dX3_leaves_32 rfl (lv_at hl 1 rfl) ?_
      exact hend dX3_leaves_33 rfl rfl hf hR hS
    · replace hf := ww_in hf c_1
      refine lv_iload_n hx hb dX3_leaves_12 rfl (lv_at hl 1 rfl) ?_
      refine lv_aload_n hx hb dX3_leaves_13 rfl (lv_at hl 0 rfl) ?_
      refine t3g_10 X hK hR dX3_leaves_14 ?_
      refine lv_aload_n hx hb dX3_leaves_17 rfl (lv_at hl 0 rfl) ?_
      refine t3g_28 X hK hR dX3_leaves_18 ?_
      refine lv_iload_n hx hb dX3_leaves_21 rfl (lv_at hl 2 rfl) ?_
      obtain ⟨h_2, hf⟩ := ww_gS hf
      refine t3l_28 X hK hR h_2 dX3_leaves_22 ?_
      obtain ⟨h_3, hf⟩ := ww_gS hf
      refine t3l_10 X hK hR h_3 dX3_leaves_23 ?_
      refine lv_iadd hx hb dX3_leaves_24 ?_
      refine lv_istore_n (lv' := [(1, .int (x1 + (ww_X M 10 (ww_X M 28 x2)))), (0, .ref E.1), (2, .int x2)]) hx hb dX3_leaves_25 rfl hl (by decide) rfl (fun ls hl => ?_)
      refine lv_iinc (k := 2) (v := x2 + (1 : Int32)) (lv' := [(2, .int (x2 + (1 : Int32))), (1, .int (x1 + (ww_X M 10 (ww_X M 28 x2)))), (0, .ref E.1)]) hx hb dX3_leaves_26 hl rfl rfl (by decide) rfl (fun ls hl => ?_)
      refine lv_goto (tgt := 4) hx hb dX3_leaves_29 (by decide) ?_
      exact ww_lK hf hz_1 _ _ _ hR hS (lv_sub hl [2, 1, 0] rfl)
  exact hL_1 ((0 : Int32), (0 : Int32)) hf _ _ _ hR hS (lv_sub hl [2, 1, 0] rfl)
section T3_leaves_c
variable {p : Program} {l : Launch} {e : Env} {R : Room} {s : State} {m : MethodId} {args : Array Value} {below : List Frame} {meth : Method} {c : Code} {H : Heap} {locs : List Loc} {Q : State → Prop}
variable {cc : ByteArray} {pc : Nat} {ls : Array Slot} {rest : List Value} {nL : Nat} {E : ww_E} {A : Nat → Prop} {H0 : Heap}
theorem t3c_leaves {M : ww_M} {r : Int32} (X : ww_C p m c cc nL s args RX3 lw_all) (hsz : ls.size = nL) (hK : t3_Kn E s) (hD : t3_D E) (hR : t3_H E M H) (hS : va_S (t3_A E) H0 H locs) (hF : 1 ≤ R.frames) (hLo : 22 ≤ R.locals) (hf : f3_leaves M = some r) (hrest : (rest.map fun v => v.category).sum ≤ 8) (hdg : decode cc pc = .ok (.invokevirtual 321, 3)) (kk : ∀ (H1 : Heap) (locs1 : List Loc), t3_H E M H1 → va_S (t3_A E) H0 H1 locs1 → W p l e R s m args below meth c H1 locs1 0 0 Q (F0 m (pc + 3) ls (.int r :: rest))) : W p l e R s m args below meth c H locs 0 0 Q (F0 m pc ls (.ref E.1 :: rest)) :=
  t3k_leaves X hsz hK hD hR hS hF hLo (met3_leaves l hD _ _ hf) hrest hdg kk
end T3_leaves_c
