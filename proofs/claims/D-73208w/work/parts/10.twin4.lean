noncomputable def f3_takes_b2c (M : ww_M) (x4 : Int32) : Option ((Int32) ⊕ (Int32 × ww_M)) :=
  ww_g (ww_i x4 12000) (if (ww_X M 10 x4) = 0 then ww_g (ww_i x4 12000) (if (ww_X M 11 x4) = (1 : Int32) then ww_b (f3_child M x4 (0 : Int32)) (fun r_13 => some (.inl r_13)) else ww_x (some (x4, M))) else ww_x (some (x4, M)))
noncomputable def f3_takes_b2 (M : ww_M) : Int32 → Option ((Int32) ⊕ (Int32 × ww_M)) := fun s9 => f3_takes_b2c M s9
noncomputable def f3_takes_b1c (y3 : Int32) (y4 : Int32) (M_7 : ww_M) (x6 : Int32) : Option ((ww_M × Int32) ⊕ (Int32 × ww_M)) :=
  if x6 < 0 then ww_x (ww_U (f3_takes_b2 M_7) y4) else ww_g (ww_i (x6 + (1 : Int32)) 10) (ww_g (ww_i (ww_X M_7 23 (x6 + (1 : Int32))) 12000) (ww_b (f3_least M_7) (fun r_16 => if r_16 ≤ (ww_X M_7 11 (ww_X M_7 23 (x6 + (1 : Int32)))) then some (.inl (M_7, (x6 + (-1 : Int32)))) else ww_g (ww_i x6 10) (ww_g (ww_i x6 10) (ww_b (f3_fills M_7 (ww_X M_7 23 x6) (ww_X M_7 24 x6) y3) (fun M_20 => some (.inl (M_20, (x6 + (-1 : Int32))))))))))
noncomputable def f3_takes_b1 (y3 : Int32) (y4 : Int32) : (ww_M × Int32) → Option ((ww_M × Int32) ⊕ (Int32 × ww_M)) := fun s9 => f3_takes_b1c y3 y4 s9.1 s9.2
noncomputable def f3_takes (M : ww_M) (x1 : Int32) (x2 : Int32) (x3 : Int32) : Option (Int32 × ww_M) :=
  ww_b (f3_valueAt M x1 x2) (fun r_1 => if r_1 = (-1000000 : Int32) then some (x1, M) else ww_b2 (f3_goesDown M x1 x2 x3) (fun r_3 M_3 => ww_g (ww_i (ww_F M_3 25) 10) (ww_b (f3_spotIn M_3 (ww_X M_3 23 (ww_F M_3 25)) x2) (fun r_5 => ww_b (f3_takesFrom M_3 (ww_X M_3 23 (ww_F M_3 25)) r_5) (fun M_6 => ww_U (f3_takes_b1 x3 r_3) (M_6, ((ww_F M_6 25) - (1 : Int32))))))))
section T3_takes_k
variable {p : Program} {l : Launch} {e : Env} {R : Room} {s : State} {m : MethodId} {args : Array Value} {below : List Frame} {meth : Method} {c : Code} {H : Heap} {locs : List Loc} {Q : State → Prop}
variable {cc : ByteArray} {pc : Nat} {ls : Array Slot} {rest : List Value} {nL : Nat} {E : ww_E} {A : Nat → Prop} {H0 : Heap}
theorem t3k_takes {M M' : ww_M} {x1 : Int32} {x2 : Int32} {x3 : Int32} {r : Int32} (X : ww_C p m c cc nL s args RX3 lw_all) (hsz : ls.size = nL) (hK : t3_Kn E s) (hD : t3_D E) (hR : t3_H E M H) (hS : va_S (t3_A E) H0 H locs) (hF : 6 ≤ R.frames) (hLo : 140 ≤ R.locals) (hM : t3_Met l yX3_takes cX3_takes 7 (some Jvm.ClassFile.FieldType.int) 5 114 E [.int x1, .int x2, .int x3] M M' r) (hrest : (rest.map fun v => v.category).sum ≤ 8) (hdg : decode cc pc = .ok (.invokevirtual 339, 3)) (kk : ∀ (H1 : Heap) (locs1 : List Loc), t3_H E M' H1 → va_S (t3_A E) H0 H1 locs1 → W p l e R s m args below meth c H1 locs1 0 0 Q (F0 m (pc + 3) ls (.int r :: rest))) : W p l e R s m args below meth c H locs 0 0 Q (F0 m pc ls (.int x3 :: .int x2 :: .int x1 :: .ref E.1 :: rest)) :=
  t3_callI (n := 3) X hsz hK hR hS (As := [.int x1, .int x2, .int x3]) hM (lw_V q2101 q2103 qs97 q135 q2104) (by decide +kernel) rfl hF hLo (Nat.zero_le _) (Nat.zero_le _) hrest hdg kk
end T3_takes_k
set_option maxHeartbeats 4000000 in
set_option maxRecDepth 100000 in
theorem met3_takes (l : Launch) {E : ww_E} (hD : t3_D E) (M : ww_M) (x1 : Int32) (x2 : Int32) (x3 : Int32) (r : Int32) (M' : ww_M) (hf : f3_takes M x1 x2 x3 = some (r, M')) : t3_Met l yX3_takes cX3_takes 7 (some Jvm.ClassFile.FieldType.int) 5 114 E [.int x1, .int x2, .int x3] M M' r := by
  unfold f3_takes at hf
  refine t3_start (by decide +kernel) (Nat.le_of_ble_eq_true rfl) ?_
  intro p e s m args below meth c Rm Q X hK hF hLo hend ls hl hR hS
  obtain ⟨hx, hb, hml, hown, hts⟩ := id X
  replace hl : lv_has ls 7 [(0, .ref E.1), (1, .int x1), (2, .int x2), (3, .int x3)] := hl
  refine lv_aload_n hx hb dX3_takes_0 rfl (lv_at hl 0 rfl) ?_
  refine lv_iload_n hx hb dX3_takes_1 rfl (lv_at hl 1 rfl) ?_
  refine lv_iload_n hx hb dX3_takes_2 rfl (lv_at hl 2 rfl) ?_
  obtain ⟨r_1, h_1, hf⟩ := ww_bS hf
  refine t3c_valueAt X hl.1 hK hD hR hS (Nat.le_trans (Nat.le_of_ble_eq_true rfl) hF) (Nat.le_trans (Nat.le_of_ble_eq_true rfl) hLo) h_1 (Nat.le_of_ble_eq_true rfl) dX3_takes_3 (fun H locs hR hS => ?_)
  refine lv_ldc (v := (-1000000 : Int32)) hx hb hown (hts _ q1942) dX3_takes_6 ?_
  refine lv_icmp_ne (tgt := 13) hx hb dX3_takes_8 (by decide) (fun c_2 => ?_) (fun c_2 => ?_)
  · replace hf := ww_in hf c_2
    refine lv_aload_n hx hb dX3_takes_13 rfl (lv_at hl 0 rfl) ?_
    refine lv_iload_n hx hb dX3_takes_14 rfl (lv_at hl 1 rfl) ?_
    refine lv_iload_n hx hb dX3_takes_15 rfl (lv_at hl 2 rfl) ?_
    refine lv_iload_n hx hb dX3_takes_16 rfl (lv_at hl 3 rfl) ?_
    obtain ⟨r_3, M_3, h_3, hf⟩ := ww_b2S hf
    refine t3c_goesDown X hl.1 hK hD hR hS (Nat.le_trans (Nat.le_of_ble_eq_true rfl) hF) (Nat.le_trans (Nat.le_of_ble_eq_true rfl) hLo) h_3 (Nat.le_of_ble_eq_true rfl) dX3_takes_17 (fun H locs hR hS => ?_)
    refine lv_istore (lv' := [(4, .int r_3), (0, .ref E.1), (1, .int x1), (2, .int x2), (3, .int x3)]) hx hb dX3_takes_20 hl (by decide) rfl (fun ls hl => ?_)
    refine lv_aload_n hx hb dX3_takes_22 rfl (lv_at hl 1 rfl) ?_
    refine t3g_23 X hK hR dX3_takes_23 ?_
    refine lv_aload_n hx hb dX3_takes_26 rfl (lv_at hl 1 rfl) ?_
    refine t3g_25 X hK hR dX3_takes_27 ?_
    obtain ⟨h_4, hf⟩ := ww_gS hf
    refine t3l_23 X hK hR h_4 dX3_takes_30 ?_
    refine lv_istore (lv' := [(5, .int (ww_X M_3 23 (ww_F M_3 25))), (4, .int r_3), (0, .ref E.1), (1, .int x1), (2, .int x2), (3, .int x3)]) hx hb dX3_takes_31 hl (by decide) rfl (fun ls hl => ?_)
    refine lv_aload_n hx hb dX3_takes_33 rfl (lv_at hl 2 rfl) ?_
    refine lv_iload hx hb dX3_takes_34 (lv_at hl 0 rfl) ?_
    refine lv_aload_n hx hb dX3_takes_36 rfl (lv_at hl 2 rfl) ?_
    refine lv_iload hx hb dX3_takes_37 (lv_at hl 0 rfl) ?_
    refine lv_iload_n hx hb dX3_takes_39 rfl (lv_at hl 4 rfl) ?_
    obtain ⟨r_5, h_5, hf⟩ := ww_bS hf
    refine t3c_spotIn X hl.1 hK hD hR hS (Nat.le_trans (Nat.le_of_ble_eq_true rfl) hF) (Nat.le_trans (Nat.le_of_ble_eq_true rfl) hLo) h_5 (Nat.le_of_ble_eq_true rfl) dX3_takes_40 (fun H locs hR hS => ?_)
    obtain ⟨M_6, h_6, hf⟩ := ww_bS hf
    refine t3c_takesFrom X hl.1 hK hD hR hS (Nat.le_trans (Nat.le_of_ble_eq_true rfl) hF) (Nat.le_trans (Nat.le_of_ble_eq_true rfl) hLo) h_6 (Nat.le_of_ble_eq_true rfl) dX3_takes_43 (fun H locs hR hS => ?_)
    refine lv_aload_n hx hb dX3_takes_46 rfl (lv_at hl 2 rfl) ?_
    refine t3g_25 X hK hR dX3_takes_47 ?_
    refine lv_iconst (v := (1 : Int32)) hx hb dX3_takes_50 (by decide) ?_
    refine lv_isub hx hb dX3_takes_51 ?_
    refine lv_istore (lv' := [(6, .int ((ww_F M_6 25) - (1 : Int32))), (5, .int (ww_X M_3 23 (ww_F M_3 25))), (4, .int r_3), (0, .ref E.1), (1, .int x1), (2, .int x2), (3, .int x3)]) hx hb dX3_takes_52 hl (by decide) rfl (fun ls hl => ?_)
    have hL_1 : ∀ s9 : ww_M × Int32, ww_U (f3_takes_b1 x3 r_3) s9 = some (r, M') → ∀ (H : Heap) (locs : List Loc) (ls : Array Slot), t3_H E s9.1 H → va_S (t3_A E) s.heap H locs → lv_has ls 7 [(0, .ref E.1), (3, .int x3), (4, .int r_3), (6, .int s9.2)] → W p l e Rm s m args below meth c H locs 0 0 Q (F0 m 54 ls []) := by
      refine ww_ind _ (r, M') ?_
      intro s9 z_1 hf hz_1 H locs ls hR hS hl
      obtain ⟨M_7, x6⟩ := s9
      replace hf : f3_takes_b1c x3 r_3 M_7 x6 = some z_1 := hf
      unfold f3_takes_b1c at hf
      replace hR : t3_H E M_7 H := hR
      replace hl : lv_has ls 7 [(0, .ref E.1), (3, .int x3), (4, .int r_3), (6, .int x6)] := hl
      refine lv_iload hx hb dX3_takes_54 (lv_at hl 3 rfl) ?_
      refine lv_if_lt (tgt := 105) hx hb dX3_takes_56 (by decide) (fun c_8 => ?_) (fun c_8 => ?_)
      · replace hf := ww_ip hf c_8
        replace hf := ww_xK hf hz_1
        have hL_2 : ∀ s9 : Int32, ww_U (f3_takes_b2 M_7) s9 = some (r, M') → ∀ (H : Heap) (locs : List Loc) (ls : Array Slot), t3_H E M_7 H → va_S (t3_A E) s.heap H locs → lv_has ls 7 [(0, .ref E.1), (4, .int s9)] → W p l e Rm s m args below meth c H locs 0 0 Q (F0 m 105 ls []) := by
          refine ww_ind _ (r, M') ?_
          intro s9 z_2 hf hz_2 H locs ls hR hS hl
          obtain ⟨x4, e9⟩ : ∃ q9, q9 = s9 := ⟨_, rfl⟩; subst e9
          replace hf : f3_takes_b2c M_7 x4 = some z_2 := hf
          unfold f3_takes_b2c at hf
          replace hl : lv_has ls 7 [(0, .ref E.1), (4, .int x4)] := hl
          refine lv_aload_n hx hb dX3_takes_105 rfl (lv_at hl 0 rfl) ?_
          refine t3g_10 X hK hR dX3_takes_106 ?_
          refine lv_iload hx hb dX3_takes_109 (lv_at hl 1 rfl) ?_
          obtain ⟨h_9, hf⟩ := ww_gS hf
          refine t3l_10 X hK hR h_9 dX3_takes_111 ?_
          refine lv_if_ne (tgt := 138) hx hb dX3_takes_112 (by decide) (fun c_10 => ?_) (fun c_10 => ?_)
          · replace hf := ww_in hf c_10
            replace hf := ww_xK hf hz_2
            refine lv_iload hx hb dX3_takes_138 (lv_at hl 1 rfl) ?_
            exact hend dX3_takes_140 rfl rfl hf hR hS
          · replace hf := ww_ip hf c_10
            refine lv_aload_n hx hb dX3_takes_115 rfl (lv_at hl 0 rfl) ?_
            refine t3g_11 X hK hR dX3_takes_116 ?_
            refine lv_iload hx hb dX3_takes_119 (lv_at hl 1 rfl) ?_
            obtain ⟨h_11, hf⟩ := ww_gS hf
            refine t3l_11 X hK hR h_11 dX3_takes_121 ?_
            refine lv_iconst (v := (1 : Int32)) hx hb dX3_takes_122 (by decide) ?_
            refine lv_icmp_ne (tgt := 138) hx hb dX3_takes_123 (by decide) (fun c_12 => ?_) (fun c_12 => ?_)
            · replace hf := ww_in hf c_12
              replace hf := ww_xK hf hz_2
              refine lv_iload hx hb dX3_takes_138 (lv_at hl 1 rfl) ?_
              exact hend dX3_takes_140 rfl rfl hf hR hS
            · replace hf := ww_ip hf c_12
              refine lv_aload_n hx hb dX3_takes_126 rfl (lv_at hl 0 rfl) ?_
              refine lv_iload hx hb dX3_takes_127 (lv_at hl 1 rfl) ?_
              refine lv_iconst (v := (0 : Int32)) hx hb dX3_takes_129 (by decide) ?_
              obtain ⟨r_13, h_13, hf⟩ := ww_bS hf
              refine t3c_child X hl.1 hK hD hR hS (Nat.le_trans (Nat.le_of_ble_eq_true rfl) hF) (Nat.le_trans (Nat.le_of_ble_eq_true rfl) hLo) h_13 (Nat.le_of_ble_eq_true rfl) dX3_takes_130 (fun H locs hR hS => ?_)
              refine lv_istore (lv' := [(4, .int r_13), (0, .ref E.1)]) hx hb dX3_takes_133 hl (by decide) rfl (fun ls hl => ?_)
              refine lv_goto (tgt := 105) hx hb dX3_takes_135 (by decide) ?_
              exact ww_lK hf hz_2 _ _ _ hR hS (lv_sub hl [1, 0] rfl)
        exact hL_2 r_3 hf _ _ _ hR hS (lv_sub hl [0, 2] rfl)
      · replace hf := ww_in hf c_8
        refine lv_aload_n hx hb dX3_takes_59 rfl (lv_at hl 0 rfl) ?_
        refine t3g_11 X hK hR dX3_takes_60 ?_
        refine lv_aload_n hx hb dX3_takes_63 rfl (lv_at hl 0 rfl) ?_
        refine t3g_23 X hK hR dX3_takes_64 ?_
        refine lv_iload hx hb dX3_takes_67 (lv_at hl 3 rfl) ?_
        refine lv_iconst (v := (1 : Int32)) hx hb dX3_takes_69 (by decide) ?_
        refine lv_iadd hx hb dX3_takes_70 ?_
        obtain ⟨h_14, hf⟩ := ww_gS hf
        refine t3l_23 X hK hR h_14 dX3_takes_71 ?_
        obtain ⟨h_15, hf⟩ := ww_gS hf
        refine t3l_11 X hK hR h_15 dX3_takes_72 ?_
        refine lv_aload_n hx hb dX3_takes_73 rfl (lv_at hl 0 rfl) ?_
        obtain ⟨r_16, h_16, hf⟩ := ww_bS hf
        refine t3c_least X hl.1 hK hD hR hS (Nat.le_trans (Nat.le_of_ble_eq_true rfl) hF) (Nat.le_trans (Nat.le_of_ble_eq_true rfl) hLo) h_16 (Nat.le_of_ble_eq_true rfl) dX3_takes_74 (fun H locs hR hS => ?_)
        refine lv_icmp_ge (tgt := 99) hx hb dX3_takes_77 (by decide) (fun c_17 => ?_) (fun c_17 => ?_)
        · replace hf := ww_ip hf c_17
          refine lv_iinc (k := 3) (v := x6 + (-1 : Int32)) (lv' := [(6, .int (x6 + (-1 : Int32))), (0, .ref E.1), (3, .int x3), (4, .int r_3)]) hx hb dX3_takes_99 hl rfl rfl (by decide) rfl (fun ls hl => ?_)
          refine lv_goto (tgt := 54) hx hb dX3_takes_102 (by decide) ?_
          exact ww_lK hf hz_1 _ _ _ hR hS (lv_sub hl [1, 2, 3, 0] rfl)
        · replace hf := ww_in hf c_17
          refine lv_aload_n hx hb dX3_takes_80 rfl (lv_at hl 0 rfl) ?_
          refine lv_aload_n hx hb dX3_takes_81 rfl (lv_at hl 0 rfl) ?_
          refine t3g_23 X hK hR dX3_takes_82 ?_
          refine lv_iload hx hb dX3_takes_85 (lv_at hl 3 rfl) ?_
          obtain ⟨h_18, hf⟩ := ww_gS hf
          refine t3l_23 X hK hR h_18 dX3_takes_87 ?_
          refine lv_aload_n hx hb dX3_takes_88 rfl (lv_at hl 0 rfl) ?_
          refine t3g_24 X hK hR dX3_takes_89 ?_
          refine lv_iload hx hb dX3_takes_92 (lv_at hl 3 rfl) ?_
          obtain ⟨h_19, hf⟩ := ww_gS hf
          refine t3l_24 X hK hR h_19 dX3_takes_94 ?_
          refine lv_iload_n hx hb dX3_takes_95 rfl (lv_at hl 1 rfl) ?_
          obtain ⟨M_20, h_20, hf⟩ := ww_bS hf
          refine t3c_fills X hl.1 hK hD hR hS (Nat.le_trans (Nat.le_of_ble_eq_true rfl) hF) (Nat.le_trans (Nat.le_of_ble_eq_true rfl) hLo) h_20 (Nat.le_of_ble_eq_true rfl) dX3_takes_96 (fun H locs hR hS => ?_)
          refine lv_iinc (k := 3) (v := x6 + (-1 : Int32)) (lv' := [(6, .int (x6 + (-1 : Int32))), (0, .ref E.1), (3, .int x3), (4, .int r_3)]) hx hb dX3_takes_99 hl rfl rfl (by decide) rfl (fun ls hl => ?_)
          refine lv_goto (tgt := 54) hx hb dX3_takes_102 (by decide) ?_
          exact ww_lK hf hz_1 _ _ _ hR hS (lv_sub hl [1, 2, 3, 0] rfl)
    exact hL_1 (M_6, ((ww_F M_6 25) - (1 : Int32))) hf _ _ _ hR hS (lv_sub hl [3, 6, 2, 0] rfl)
  · replace hf := ww_ip hf c_2
    refine lv_iload_n hx hb dX3_takes_11 rfl (lv_at hl 1 rfl) ?_
    exact hend dX3_takes_12 rfl rfl hf hR hS
section T3_takes_c
variable {p : Program} {l : Launch} {e : Env} {R : Room} {s : State} {m : MethodId} {args : Array Value} {below : List Frame} {meth : Method} {c : Code} {H : Heap} {locs : List Loc} {Q : State → Prop}
variable {cc : ByteArray} {pc : Nat} {ls : Array Slot} {rest : List Value} {nL : Nat} {E : ww_E} {A : Nat → Prop} {H0 : Heap}
theorem t3c_takes {M M' : ww_M} {x1 : Int32} {x2 : Int32} {x3 : Int32} {r : Int32} (X : ww_C p m c cc nL s args RX3 lw_all) (hsz : ls.size = nL) (hK : t3_Kn E s) (hD : t3_D E) (hR : t3_H E M H) (hS : va_S (t3_A E) H0 H locs) (hF : 6 ≤ R.frames) (hLo : 140 ≤ R.locals) (hf : f3_takes M x1 x2 x3 = some (r, M')) (hrest : (rest.map fun v => v.category).sum ≤ 8) (hdg : decode cc pc = .ok (.invokevirtual 339, 3)) (kk : ∀ (H1 : Heap) (locs1 : List Loc), t3_H E M' H1 → va_S (t3_A E) H0 H1 locs1 → W p l e R s m args below meth c H1 locs1 0 0 Q (F0 m (pc + 3) ls (.int r :: rest))) : W p l e R s m args below meth c H locs 0 0 Q (F0 m pc ls (.int x3 :: .int x2 :: .int x1 :: .ref E.1 :: rest)) :=
  t3k_takes X hsz hK hD hR hS hF hLo (met3_takes l hD _ _ _ _ _ _ hf) hrest hdg kk
end T3_takes_c
noncomputable def f3_lacking (M : ww_M) (x1 : Int32) (x2 : Int32) : Option (Int32 × ww_M) :=
  ww_b (f3_isMap (ww_sF M 0 (0 : Int32)) x1) (fun r_1 => if r_1 = 0 then ww_b2 (f3_refused (ww_sF M 0 (0 : Int32)) (0 : Int32)) (fun r_13 M_13 => some (r_13, M_13)) else ww_b (f3_isIn x2.toInt64 (0 : Int64) (999 : Int64)) (fun r_3 => if r_3 = 0 then ww_b2 (f3_refused (ww_sF M 0 (0 : Int32)) (1 : Int32)) (fun r_12 M_12 => some (r_12, M_12)) else ww_b (f3_hasRoom (ww_sF M 0 (0 : Int32))) (fun r_5 => if r_5 = 0 then ww_b2 (f3_refused (ww_sF M 0 (0 : Int32)) (4 : Int32)) (fun r_11 M_11 => some (r_11, M_11)) else ww_g (ww_i x1 999) (ww_b2 (f3_newToken (ww_sF M 0 (0 : Int32))) (fun r_8 M_8 => ww_b2 (f3_takes M_8 (ww_X (ww_sF M 0 (0 : Int32)) 32 x1) x2 r_8) (fun r_9 M_9 => ww_b2 (f3_newMap M_9 r_9 x1 (-1 : Int32)) (fun r_10 M_10 => some (r_10, M_10))))))))
set_option maxHeartbeats 4000000 in
set_option maxRecDepth 100000 in
theorem met3_lacking (l : Launch) {E : ww_E} (hD : t3_D E) (M : ww_M) (x1 : Int32) (x2 : Int32) (r : Int32) (M' : ww_M) (hf : f3_lacking M x1 x2 = some (r, M')) : t3_Met l yX3_lacking cX3_lacking 3 (some Jvm.ClassFile.FieldType.int) 14 317 E [.int x1, .int x2] M M' r := by
  unfold f3_lacking at hf
  refine t3_start (by decide +kernel) (Nat.le_of_ble_eq_true rfl) ?_
  intro p e s m args below meth c Rm Q X hK hF hLo hend ls hl hR hS
  obtain ⟨hx, hb, hml, hown, hts⟩ := id X
  replace hl : lv_has ls 3 [(0, .ref E.1), (1, .int x1), (2, .int x2)] := hl
  refine lv_aload_n hx hb dX3_lacking_0 rfl (lv_at hl 0 rfl) ?_
  refine lv_iconst (v := (0 : Int32)) hx hb dX3_lacking_1 (by decide) ?_
  refine t3p_0 X hK hD hR hS dX3_lacking_2 (fun H locs hR hS => ?_)
  refine lv_aload_n hx hb dX3_lacking_5 rfl (lv_at hl 0 rfl) ?_
  refine lv_iload_n hx hb dX3_lacking_6 rfl (lv_at hl 1 rfl) ?_
  obtain ⟨r_1, h_1, hf⟩ := ww_bS hf
  refine t3c_isMap X hl.1 hK hD hR hS (Nat.le_trans (Nat.le_of_ble_eq_true rfl) hF) (Nat.le_trans (Nat.le_of_ble_eq_true rfl) hLo) h_1 (Nat.le_of_ble_eq_true rfl) dX3_lacking_7 (fun H locs hR hS => ?_)
  refine lv_if_ne (tgt := 19) hx hb dX3_lacking_10 (by decide) (fun c_2 => ?_) (fun c_2 => ?_)
  · replace hf := ww_in hf c_2
    refine lv_iload_n hx hb dX3_lacking_19 rfl (lv_at hl 2 rfl) ?_
    refine lv_i2l (v := x2.toInt64) hx hb dX3_lacking_20 rfl ?_
    refine lv_lconst (v := (0 : Int64)) hx hb dX3_lacking_21 (by decide) ?_
    refine lv_ldc2 (v := (999 : Int64)) hx hb hown (hts _ q2095) dX3_lacking_22 ?_
    obtain ⟨r_3, h_3, hf⟩ := ww_bS hf
    refine t3c_isIn X hl.1 (Nat.le_trans (Nat.le_of_ble_eq_true rfl) hF) (Nat.le_trans (Nat.le_of_ble_eq_true rfl) hLo) h_3 (Nat.le_of_ble_eq_true rfl) dX3_lacking_25 ?_
    refine lv_if_ne (tgt := 37) hx hb dX3_lacking_28 (by decide) (fun c_4 => ?_) (fun c_4 => ?_)
    · replace hf := ww_in hf c_4
      refine lv_aload_n hx hb dX3_lacking_37 rfl (lv_at hl 0 rfl) ?_
      obtain ⟨r_5, h_5, hf⟩ := ww_bS hf
      refine t3c_hasRoom X hl.1 hK hD hR hS (Nat.le_trans (Nat.le_of_ble_eq_true rfl) hF) (Nat.le_trans (Nat.le_of_ble_eq_true rfl) hLo) h_5 (Nat.le_of_ble_eq_true rfl) dX3_lacking_38 (fun H locs hR hS => ?_)
      refine lv_if_ne (tgt := 50) hx hb dX3_lacking_41 (by decide) (fun c_6 => ?_) (fun c_6 => ?_)
      · replace hf := ww_in hf c_6
        refine lv_aload_n hx hb dX3_lacking_50 rfl (lv_at hl 0 rfl) ?_
        refine lv_aload_n hx hb dX3_lacking_51 rfl (lv_at hl 0 rfl) ?_
        refine lv_aload_n hx hb dX3_lacking_52 rfl (lv_at hl 0 rfl) ?_
        refine t3g_32 X hK hR dX3_lacking_53 ?_
        refine lv_iload_n hx hb dX3_lacking_56 rfl (lv_at hl 1 rfl) ?_
        obtain ⟨h_7, hf⟩ := ww_gS hf
        refine t3l_32 X hK hR h_7 dX3_lacking_57 ?_
        refine lv_iload_n hx hb dX3_lacking_58 rfl (lv_at hl 2 rfl) ?_
        refine lv_aload_n hx hb dX3_lacking_59 rfl (lv_at hl 0 rfl) ?_
        obtain ⟨r_8, M_8, h_8, hf⟩ := ww_b2S hf
        refine t3c_newToken X hl.1 hK hD hR hS (Nat.le_trans (Nat.le_of_ble_eq_true rfl) hF) (Nat.le_trans (Nat.le_of_ble_eq_true rfl) hLo) h_8 (Nat.le_of_ble_eq_true rfl) dX3_lacking_60 (fun H locs hR hS => ?_)
        obtain ⟨r_9, M_9, h_9, hf⟩ := ww_b2S hf
        refine t3c_takes X hl.1 hK hD hR hS (Nat.le_trans (Nat.le_of_ble_eq_true rfl) hF) (Nat.le_trans (Nat.le_of_ble_eq_true rfl) hLo) h_9 (Nat.le_of_ble_eq_true rfl) dX3_lacking_63 (fun H locs hR hS => ?_)
        refine lv_iload_n hx hb dX3_lacking_66 rfl (lv_at hl 1 rfl) ?_
        refine lv_iconst (v := (-1 : Int32)) hx hb dX3_lacking_67 (by decide) ?_
        obtain ⟨r_10, M_10, h_10, hf⟩ := ww_b2S hf
        refine t3c_newMap X hl.1 hK hD hR hS (Nat.le_trans (Nat.le_of_ble_eq_true rfl) hF) (Nat.le_trans (Nat.le_of_ble_eq_true rfl) hLo) h_10 (Nat.le_of_ble_eq_true rfl) dX3_lacking_68 (fun H locs hR hS => ?_)
        exact hend dX3_lacking_71 rfl rfl hf hR hS
      · replace hf := ww_ip hf c_6
        refine lv_aload_n hx hb dX3_lacking_44 rfl (lv_at hl 0 rfl) ?_
        refine lv_iconst (v := (4 : Int32)) hx hb dX3_lacking_45 (by decide) ?_
        obtain ⟨r_11, M_11, h_11, hf⟩ := ww_b2S hf
        refine t3c_refused X hl.1 hK hD hR hS (Nat.le_trans (Nat.le_of_ble_eq_true rfl) hF) (Nat.le_trans (Nat.le_of_ble_eq_true rfl) hLo) h_11 (Nat.le_of_ble_eq_true rfl) dX3_lacking_46 (fun H locs hR hS => ?_)
        exact hend dX3_lacking_49 rfl rfl hf hR hS
    · replace hf := ww_ip hf c_4
      refine lv_aload_n hx hb dX3_lacking_31 rfl (lv_at hl 0 rfl) ?_
      refine lv_iconst (v := (1 : Int32)) hx hb dX3_lacking_32 (by decide) ?_
      obtain ⟨r_12, M_12, h_12, hf⟩ := ww_b2S hf
      refine t3c_refused X hl.1 hK hD hR hS (Nat.le_trans (Nat.le_of_ble_eq_true rfl) hF) (Nat.le_trans (Nat.le_of_ble_eq_true rfl) hLo) h_12 (Nat.le_of_ble_eq_true rfl) dX3_lacking_33 (fun H locs hR hS => ?_)
      exact hend dX3_lacking_36 rfl rfl hf hR hS
  · replace hf := ww_ip hf c_2
    refine lv_aload_n hx hb dX3_lacking_13 rfl (lv_at hl 0 rfl) ?_
    refine lv_iconst (v := (0 : Int32)) hx hb dX3_lacking_14 (by decide) ?_
    obtain ⟨r_13, M_13, h_13, hf⟩ := ww_b2S hf
    refine t3c_refused X hl.1 hK hD hR hS (Nat.le_trans (Nat.le_of_ble_eq_true rfl) hF) (Nat.le_trans (Nat.le_of_ble_eq_true rfl) hLo) h_13 (Nat.le_of_ble_eq_true rfl) dX3_lacking_15 (fun H locs hR hS => ?_)
    exact hend dX3_lacking_18 rfl rfl hf hR hS
noncomputable def f3_laysThere_b1c (y2 : Int32) (M_2 : ww_M) (x3 : Int32) : Option ((ww_M × Int32) ⊕ (ww_M)) :=
  if (ww_F M_2 30) ≤ x3 then ww_x (some M_2) else ww_g (ww_i x3 140) (ww_g (ww_i (ww_X M_2 26 x3) 1000) (ww_g (ww_i (ww_X M_2 26 x3) 1000) (ww_g (ww_i x3 140) (ww_g (ww_i x3 140) (ww_g (ww_i (((3 : Int32) * (ww_X (ww_sX M_2 45 (ww_X M_2 26 x3) ((ww_X M_2 45 (ww_X M_2 26 x3)) ||| ((1 : Int32) <<< (y2 &&& 31)))) 26 x3)) + y2) 3000) (some (.inl ((ww_sX (ww_sX M_2 45 (ww_X M_2 26 x3) ((ww_X M_2 45 (ww_X M_2 26 x3)) ||| ((1 : Int32) <<< (y2 &&& 31)))) 46 (((3 : Int32) * (ww_X (ww_sX M_2 45 (ww_X M_2 26 x3) ((ww_X M_2 45 (ww_X M_2 26 x3)) ||| ((1 : Int32) <<< (y2 &&& 31)))) 26 x3)) + y2) (ww_X (ww_sX M_2 45 (ww_X M_2 26 x3) ((ww_X M_2 45 (ww_X M_2 26 x3)) ||| ((1 : Int32) <<< (y2 &&& 31)))) 27 x3)), (x3 + (1 : Int32))))))))))
noncomputable def f3_laysThere_b1 (y2 : Int32) : (ww_M × Int32) → Option ((ww_M × Int32) ⊕ (ww_M)) := fun s9 => f3_laysThere_b1c y2 s9.1 s9.2
noncomputable def f3_laysThere (M : ww_M) (x1 : Int32) (x2 : Int32) : Option (ww_M) :=
  ww_b (f3_laysTree M x1) (fun M_1 => ww_U (f3_laysThere_b1 x2) (M_1, (0 : Int32)))
section T3_laysThere_k
variable {p : Program} {l : Launch} {e : Env} {R : Room} {s : State} {m : MethodId} {args : Array Value} {below : List Frame} {meth : Method} {c : Code} {H : Heap} {locs : List Loc} {Q : State → Prop}
variable {cc : ByteArray} {pc : Nat} {ls : Array Slot} {rest : List Value} {nL : Nat} {E : ww_E} {A : Nat → Prop} {H0 : Heap}
theorem t3k_laysThere {M M' : ww_M} {x1 : Int32} {x2 : Int32} (X : ww_C p m c cc nL s args RX3 lw_all) (hsz : ls.size = nL) (hK : t3_Kn E s) (hD : t3_D E) (hR : t3_H E M H) (hS : va_S (t3_A E) H0 H locs) (hF : 14 ≤ R.frames) (hLo : 319 ≤ R.locals) (hM : t3_MetV l yX3_laysThere cX3_laysThere 4 13 296 E [.int x1, .int x2] M M') (hrest : (rest.map fun v => v.category).sum ≤ 8) (hdg : decode cc pc = .ok (.invokevirtual 342, 3)) (kk : ∀ (H1 : Heap) (locs1 : List Loc), t3_H E M' H1 → va_S (t3_A E) H0 H1 locs1 → W p l e R s m args below meth c H1 locs1 0 0 Q (F0 m (pc + 3) ls (rest))) : W p l e R s m args below meth c H locs 0 0 Q (F0 m pc ls (.int x2 :: .int x1 :: .ref E.1 :: rest)) :=
  t3_callV (n := 2) X hsz hK hR hS (As := [.int x1, .int x2]) hM (lw_V q2125 q2127 qs102 q135 q2128) (by decide +kernel) rfl hF hLo (Nat.zero_le _) (Nat.zero_le _) hrest hdg kk
end T3_laysThere_k
set_option maxHeartbeats 4000000 in
set_option maxRecDepth 100000 in
theorem met3_laysThere (l : Launch) {E : ww_E} (hD : t3_D E) (M : ww_M) (x1 : Int32) (x2 : Int32) (M' : ww_M) (hf : f3_laysThere M x1 x2 = some M') : t3_MetV l yX3_laysThere cX3_laysThere 4 13 296 E [.int x1, .int x2] M M' := by
  unfold f3_laysThere at hf
  refine t3_startV (by decide +kernel) (Nat.le_of_ble_eq_true rfl) ?_
  intro p e s m args below meth c Rm Q X hK hF hLo hend ls hl hR hS
  obtain ⟨hx, hb, hml, hown, hts⟩ := id X
  replace hl : lv_has ls 4 [(0, .ref E.1), (1, .int x1), (2, .int x2)] := hl
  refine lv_aload_n hx hb dX3_laysThere_0 rfl (lv_at hl 0 rfl) ?_
  refine lv_iload_n hx hb dX3_laysThere_1 rfl (lv_at hl 1 rfl) ?_
  obtain ⟨M_1, h_1, hf⟩ := ww_bS hf
  refine t3c_laysTree X hl.1 hK hD hR hS (Nat.le_trans (Nat.le_of_ble_eq_true rfl) hF) (Nat.le_trans (Nat.le_of_ble_eq_true rfl) hLo) h_1 (Nat.le_of_ble_eq_true rfl) dX3_laysThere_2 (fun H locs hR hS => ?_)
  refine lv_iconst (v := (0 : Int32)) hx hb dX3_laysThere_5 (by decide) ?_
  refine lv_istore_n (lv' := [(3, .int (0 : Int32)), (0, .ref E.1), (1, .int x1), (2, .int x2)]) hx hb dX3_laysThere_6 rfl hl (by decide) rfl (fun ls hl => ?_)
  have hL_1 : ∀ s9 : ww_M × Int32, ww_U (f3_laysThere_b1 x2) s9 = some M' → ∀ (H : Heap) (locs : List Loc) (ls : Array Slot), t3_H E s9.1 H → va_S (t3_A E) s.heap H locs → lv_has ls 4 [(0, .ref E.1), (2, .int x2), (3, .int s9.2)] → W p l e Rm s m args below meth c H locs 0 0 Q (F0 m 7 ls []) := by
    refine ww_ind _ M' ?_
    intro s9 z_1 hf hz_1 H locs ls hR hS hl
    obtain ⟨M_2, x3⟩ := s9
    replace hf : f3_laysThere_b1c x2 M_2 x3 = some z_1 := hf
    unfold f3_laysThere_b1c at hf
    replace hR : t3_H E M_2 H := hR
    replace hl : lv_has ls 4 [(0, .ref E.1), (2, .int x2), (3, .int x3)] := hl
    refine lv_iload_n hx hb dX3_laysThere_7 rfl (lv_at hl 2 rfl) ?_
    refine lv_aload_n hx hb dX3_laysThere_8 rfl (lv_at hl 0 rfl) ?_
    refine t3g_30 X hK hR dX3_laysThere_9 ?_
    refine lv_icmp_ge (tgt := 59) hx hb dX3_laysThere_12 (by decide) (fun c_3 => ?_) (fun c_3 => ?_)
    · replace hf := ww_ip hf c_3
      replace hf := ww_xK hf hz_1
      exact hend dX3_laysThere_59 hf hR hS
    · replace hf := ww_in hf c_3
      refine lv_aload_n hx hb dX3_laysThere_15 rfl (lv_at hl 0 rfl) ?_
      refine t3g_45 X hK hR dX3_laysThere_16 ?_
      refine lv_aload_n hx hb dX3_laysThere_19 rfl (lv_at hl 0 rfl) ?_
      refine t3g_26 X hK hR dX3_laysThere_20 ?_
      refine lv_iload_n hx hb dX3_laysThere_23 rfl (lv_at hl 2 rfl) ?_
      obtain ⟨h_4, hf⟩ := ww_gS hf
      refine t3l_26 X hK hR h_4 dX3_laysThere_24 ?_
      refine lv_dup2_11 hx hb dX3_laysThere_25 rfl rfl ?_
      obtain ⟨h_5, hf⟩ := ww_gS hf
      refine t3l_45 X hK hR h_5 dX3_laysThere_26 ?_
      refine lv_iconst (v := (1 : Int32)) hx hb dX3_laysThere_27 (by decide) ?_
      refine lv_iload_n hx hb dX3_laysThere_28 rfl (lv_at hl 1 rfl) ?_
      refine lv_ishl hx hb dX3_laysThere_29 ?_
      refine lv_ior hx hb dX3_laysThere_30 ?_
      obtain ⟨h_6, hf⟩ := ww_gS hf
      refine t3s_45 X hK hD hR hS h_6 dX3_laysThere_31 (fun H locs hR hS => ?_)
      refine lv_aload_n hx hb dX3_laysThere_32 rfl (lv_at hl 0 rfl) ?_
      refine t3g_46 X hK hR dX3_laysThere_33 ?_
      refine lv_iconst (v := (3 : Int32)) hx hb dX3_laysThere_36 (by decide) ?_
      refine lv_aload_n hx hb dX3_laysThere_37 rfl (lv_at hl 0 rfl) ?_
      refine t3g_26 X hK hR dX3_laysThere_38 ?_
      refine lv_iload_n hx hb dX3_laysThere_41 rfl (lv_at hl 2 rfl) ?_
      obtain ⟨h_7, hf⟩ := ww_gS hf
      refine t3l_26 X hK hR h_7 dX3_laysThere_42 ?_
      refine lv_imul hx hb dX3_laysThere_43 ?_
      refine lv_iload_n hx hb dX3_laysThere_44 rfl (lv_at hl 1 rfl) ?_
      refine lv_iadd hx hb dX3_laysThere_45 ?_
      refine lv_aload_n hx hb dX3_laysThere_46 rfl (lv_at hl 0 rfl) ?_
      refine t3g_27 X hK hR dX3_laysThere_47 ?_
      refine lv_iload_n hx hb dX3_laysThere_50 rfl (lv_at hl 2 rfl) ?_
      obtain ⟨h_8, hf⟩ := ww_gS hf
      refine t3l_27 X hK hR h_8 dX3_laysThere_51 ?_
      obtain ⟨h_9, hf⟩ := ww_gS hf
      refine t3s_46 X hK hD hR hS h_9 dX3_laysThere_52 (fun H locs hR hS => ?_)
      refine lv_iinc (k := 2) (v := x3 + (1 : Int32)) (lv' := [(3, .int (x3 + (1 : Int32))), (0, .ref E.1), (2, .int x2)]) hx hb dX3_laysThere_53 hl rfl rfl (by decide) rfl (fun ls hl => ?_)
      refine lv_goto (tgt := 7) hx hb dX3_laysThere_56 (by decide) ?_
      exact ww_lK hf hz_1 _ _ _ hR hS (lv_sub hl [1, 2, 0] rfl)
  exact hL_1 (M_1, (0 : Int32)) hf _ _ _ hR hS (lv_sub hl [1, 3, 0] rfl)
section T3_laysThere_c
variable {p : Program} {l : Launch} {e : Env} {R : Room} {s : State} {m : MethodId} {args : Array Value} {below : List Frame} {meth : Method} {c : Code} {H : Heap} {locs : List Loc} {Q : State → Prop}
variable {cc : ByteArray} {pc : Nat} {ls : Array Slot} {rest : List Value} {nL : Nat} {E : ww_E} {A : Nat → Prop} {H0 : Heap}
theorem t3c_laysThere {M M' : ww_M} {x1 : Int32} {x2 : Int32} (X : ww_C p m c cc nL s args RX3 lw_all) (hsz : ls.size = nL) (hK : t3_Kn E s) (hD : t3_D E) (hR : t3_H E M H) (hS : va_S (t3_A E) H0 H locs) (hF : 14 ≤ R.frames) (hLo : 319 ≤ R.locals) (hf : f3_laysThere M x1 x2 = some M') (hrest : (rest.map fun v => v.category).sum ≤ 8) (hdg : decode cc pc = .ok (.invokevirtual 342, 3)) (kk : ∀ (H1 : Heap) (locs1 : List Loc), t3_H E M' H1 → va_S (t3_A E) H0 H1 locs1 → W p l e R s m args below meth c H1 locs1 0 0 Q (F0 m (pc + 3) ls (rest))) : W p l e R s m args below meth c H locs 0 0 Q (F0 m pc ls (.int x2 :: .int x1 :: .ref E.1 :: rest)) :=
  t3k_laysThere X hsz hK hD hR hS hF hLo (met3_laysThere l hD _ _ _ _ hf) hrest hdg kk
end T3_laysThere_c
noncomputable def f3_laysTwo_b1c (y1 : Int32) (y2 : Int32) (M_1 : ww_M) (x3 : Int32) : Option ((ww_M × Int32) ⊕ (ww_M)) :=
  if (999 : Int32) < x3 then ww_x (ww_b (f3_laysThere M_1 y1 (0 : Int32)) (fun M_3 => ww_b (f3_laysThere M_3 y2 (1 : Int32)) (fun M_4 => some M_4))) else ww_g (ww_i x3 1000) (some (.inl ((ww_sX M_1 45 x3 (0 : Int32)), (x3 + (1 : Int32)))))
noncomputable def f3_laysTwo_b1 (y1 : Int32) (y2 : Int32) : (ww_M × Int32) → Option ((ww_M × Int32) ⊕ (ww_M)) := fun s9 => f3_laysTwo_b1c y1 y2 s9.1 s9.2
noncomputable def f3_laysTwo (M : ww_M) (x1 : Int32) (x2 : Int32) : Option (ww_M) :=
  ww_U (f3_laysTwo_b1 x1 x2) (M, (0 : Int32))
section T3_laysTwo_k
variable {p : Program} {l : Launch} {e : Env} {R : Room} {s : State} {m : MethodId} {args : Array Value} {below : List Frame} {meth : Method} {c : Code} {H : Heap} {locs : List Loc} {Q : State → Prop}
variable {cc : ByteArray} {pc : Nat} {ls : Array Slot} {rest : List Value} {nL : Nat} {E : ww_E} {A : Nat → Prop} {H0 : Heap}
theorem t3k_laysTwo {M M' : ww_M} {x1 : Int32} {x2 : Int32} (X : ww_C p m c cc nL s args RX3 lw_all) (hsz : ls.size = nL) (hK : t3_Kn E s) (hD : t3_D E) (hR : t3_H E M H) (hS : va_S (t3_A E) H0 H locs) (hF : 15 ≤ R.frames) (hLo : 342 ≤ R.locals) (hM : t3_MetV l yX3_laysTwo cX3_laysTwo 4 14 319 E [.int x1, .int x2] M M') (hrest : (rest.map fun v => v.category).sum ≤ 8) (hdg : decode cc pc = .ok (.invokevirtual 356, 3)) (kk : ∀ (H1 : Heap) (locs1 : List Loc), t3_H E M' H1 → va_S (t3_A E) H0 H1 locs1 → W p l e R s m args below meth c H1 locs1 0 0 Q (F0 m (pc + 3) ls (rest))) : W p l e R s m args below meth c H locs 0 0 Q (F0 m pc ls (.int x2 :: .int x1 :: .ref E.1 :: rest)) :=
  t3_callV (n := 2) X hsz hK hR hS (As := [.int x1, .int x2]) hM (lw_V q2121 q2123 qs101 q135 q2124) (by decide +kernel) rfl hF hLo (Nat.zero_le _) (Nat.zero_le _) hrest hdg kk
end T3_laysTwo_k
set_option maxHeartbeats 4000000 in
set_option maxRecDepth 100000 in
theorem met3_laysTwo (l : Launch) {E : ww_E} (hD : t3_D E) (M : ww_M) (x1 : Int32) (x2 : Int32) (M' : ww_M) (hf : f3_laysTwo M x1 x2 = some M') : t3_MetV l yX3_laysTwo cX3_laysTwo 4 14 319 E [.int x1, .int x2] M M' := by
  unfold f3_laysTwo at hf
  refine t3_startV (by decide +kernel) (Nat.le_of_ble_eq_true rfl) ?_
  intro p e s m args below meth c Rm Q X hK hF hLo hend ls hl hR hS
  obtain ⟨hx, hb, hml, hown, hts⟩ := id X
  replace hl : lv_has ls 4 [(0, .ref E.1), (1, .int x1), (2, .int x2)] := hl
  refine lv_iconst (v := (0 : Int32)) hx hb dX3_laysTwo_0 (by decide) ?_
  refine lv_istore_n (lv' := [(3, .int (0 : Int32)), (0, .ref E.1), (1, .int x1), (2, .int x2)]) hx hb dX3_laysTwo_1 rfl hl (by decide) rfl (fun ls hl => ?_)
  have hL_1 : ∀ s9 : ww_M × Int32, ww_U (f3_laysTwo_b1 x1 x2) s9 = some M' → ∀ (H : Heap) (locs : List Loc) (ls : Array Slot), t3_H E s9.1 H → va_S (t3_A E) s.heap H locs → lv_has ls 4 [(0, .ref E.1), (1, .int x1), (2, .int x2), (3, .int s9.2)] → W p l e Rm s m args below meth c H locs 0 0 Q (F0 m 2 ls []) := by
    refine ww_ind _ M' ?_
    intro s9 z_1 hf hz_1 H locs ls hR hS hl
    obtain ⟨M_1, x3⟩ := s9
    replace hf : f3_laysTwo_b1c x1 x2 M_1 x3 = some z_1 := hf
    unfold f3_laysTwo_b1c at hf
    replace hR : t3_H E M_1 H := hR
    replace hl : lv_has ls 4 [(0, .ref E.1), (1, .int x1), (2, .int x2), (3, .int x3)] := hl
    refine lv_iload_n hx hb dX3_laysTwo_2 rfl (lv_at hl 3 rfl) ?_
    refine lv_sipush (v := (999 : Int32)) hx hb dX3_laysTwo_3 (by decide) ?_
    refine lv_icmp_gt (tgt := 22) hx hb dX3_laysTwo_6 (by decide) (fun c_2 => ?_) (fun c_2 => ?_)
    · replace hf := ww_ip hf c_2
      replace hf := ww_xK hf hz_1
      refine lv_aload_n hx hb dX3_laysTwo_22 rfl (lv_at hl 0 rfl) ?_
      refine lv_iload_n hx hb dX3_laysTwo_23 rfl (lv_at hl 1 rfl) ?_
      refine lv_iconst (v := (0 : Int32)) hx hb dX3_laysTwo_24 (by decide) ?_
      obtain ⟨M_3, h_3, hf⟩ := ww_bS hf
      refine t3c_laysThere X hl.1 hK hD hR hS (Nat.le_trans (Nat.le_of_ble_eq_true rfl) hF) (Nat.le_trans (Nat.le_of_ble_eq_true rfl) hLo) h_3 (Nat.le_of_ble_eq_true rfl) dX3_laysTwo_25 (fun H locs hR hS => ?_)
      refine lv_aload_n hx hb dX3_laysTwo_28 rfl (lv_at hl 0 rfl) ?_
      refine lv_iload_n hx hb dX3_laysTwo_29 rfl (lv_at hl 2 rfl) ?_
      refine lv_iconst (v := (1 : Int32)) hx hb dX3_laysTwo_30 (by decide) ?_
      obtain ⟨M_4, h_4, hf⟩ := ww_bS hf
      refine t3c_laysThere X hl.1 hK hD hR hS (Nat.le_trans (Nat.le_of_ble_eq_true rfl) hF) (Nat.le_trans (Nat.le_of_ble_eq_true rfl) hLo) h_4 (Nat.le_of_ble_eq_true rfl) dX3_laysTwo_31 (fun H locs hR hS => ?_)
      exact hend dX3_laysTwo_34 hf hR hS
    · replace hf := ww_in hf c_2
      refine lv_aload_n hx hb dX3_laysTwo_9 rfl (lv_at hl 0 rfl) ?_
      refine t3g_45 X hK hR dX3_laysTwo_10 ?_
      refine lv_iload_n hx hb dX3_laysTwo_13 rfl (lv_at hl 3 rfl) ?_
      refine lv_iconst (v := (0 : Int32)) hx hb dX3_laysTwo_14 (by decide) ?_
      obtain ⟨h_5, hf⟩ := ww_gS hf
      refine t3s_45 X hK hD hR hS h_5 dX3_laysTwo_15 (fun H locs hR hS => ?_)
      refine lv_iinc (k := 3) (v := x3 + (1 : Int32)) (lv' := [(3, .int (x3 + (1 : Int32))), (0, .ref E.1), (1, .int x1), (2, .int x2)]) hx hb dX3_laysTwo_16 hl rfl rfl (by decide) rfl (fun ls hl => ?_)
      refine lv_goto (tgt := 2) hx hb dX3_laysTwo_19 (by decide) ?_
      exact ww_lK hf hz_1 _ _ _ hR hS (lv_sub hl [1, 2, 3, 0] rfl)
  exact hL_1 (M, (0 : Int32)) hf _ _ _ hR hS (lv_sub hl [1, 2, 3, 0] rfl)
section T3_laysTwo_c
variable {p : Program} {l : Launch} {e : Env} {R : Room} {s : State} {m : MethodId} {args : Array Value} {below : List Frame} {meth : Method} {c : Code} {H : Heap} {locs : List Loc} {Q : State → Prop}
variable {cc : ByteArray} {pc : Nat} {ls : Array Slot} {rest : List Value} {nL : Nat} {E : ww_E} {A : Nat → Prop} {H0 : Heap}
theorem t3c_laysTwo {M M' : ww_M} {x1 : Int32} {x2 : Int32} (X : ww_C p m c cc nL s args RX3 lw_all) (hsz : ls.size = nL) (hK : t3_Kn E s) (hD : t3_D E) (hR : t3_H E M H) (hS : va_S (t3_A E) H0 H locs) (hF : 15 ≤ R.frames) (hLo : 342 ≤ R.locals) (hf : f3_laysTwo M x1 x2 = some M') (hrest : (rest.map fun v => v.category).sum ≤ 8) (hdg : decode cc pc = .ok (.invokevirtual 356, 3)) (kk : ∀ (H1 : Heap) (locs1 : List Loc), t3_H E M' H1 → va_S (t3_A E) H0 H1 locs1 → W p l e R s m args below meth c H1 locs1 0 0 Q (F0 m (pc + 3) ls (rest))) : W p l e R s m args below meth c H locs 0 0 Q (F0 m pc ls (.int x2 :: .int x1 :: .ref E.1 :: rest)) :=
  t3k_laysTwo X hsz hK hD hR hS hF hLo (met3_laysTwo l hD _ _ _ _ hf) hrest hdg kk
end T3_laysTwo_c
noncomputable def f3_laysOwn_b1c (rec : ww_M → Int32 → Option (ww_M)) (y1 : Int32) (M_3 : ww_M) (x2 : Int32) : Option ((ww_M × Int32) ⊕ (ww_M)) :=
  ww_g (ww_i y1 12000) (if (ww_X M_3 11 y1) ≤ x2 then ww_x (some M_3) else ww_g (ww_i y1 12000) (if (ww_X M_3 10 y1) = 0 then ww_b (f3_child M_3 y1 x2) (fun r_12 => ww_b (rec M_3 r_12) (fun M_13 => some (.inl (M_13, (x2 + (1 : Int32)))))) else ww_g (ww_i (((7 : Int32) * y1) + x2) 84000) (ww_g (ww_i (ww_F M_3 49) 60) (ww_g (ww_i (((7 : Int32) * y1) + x2) 84000) (ww_g (ww_i (ww_F (ww_sX M_3 47 (ww_F M_3 49) (ww_X M_3 15 (((7 : Int32) * y1) + x2))) 49) 60) (some (.inl ((ww_sF (ww_sX (ww_sX M_3 47 (ww_F M_3 49) (ww_X M_3 15 (((7 : Int32) * y1) + x2))) 48 (ww_F (ww_sX M_3 47 (ww_F M_3 49) (ww_X M_3 15 (((7 : Int32) * y1) + x2))) 49) (ww_X (ww_sX M_3 47 (ww_F M_3 49) (ww_X M_3 15 (((7 : Int32) * y1) + x2))) 16 (((7 : Int32) * y1) + x2))) 49 ((ww_F (ww_sX (ww_sX M_3 47 (ww_F M_3 49) (ww_X M_3 15 (((7 : Int32) * y1) + x2))) 48 (ww_F (ww_sX M_3 47 (ww_F M_3 49) (ww_X M_3 15 (((7 : Int32) * y1) + x2))) 49) (ww_X (ww_sX M_3 47 (ww_F M_3 49) (ww_X M_3 15 (((7 : Int32) * y1) + x2))) 16 (((7 : Int32) * y1) + x2))) 49) + (1 : Int32))), (x2 + (1 : Int32))))))))))
noncomputable def f3_laysOwn_b1 (rec : ww_M → Int32 → Option (ww_M)) (y1 : Int32) : (ww_M × Int32) → Option ((ww_M × Int32) ⊕ (ww_M)) := fun s9 => f3_laysOwn_b1c rec y1 s9.1 s9.2
noncomputable def f3_laysOwn_r (rec : ww_M → Int32 → Option (ww_M)) (M : ww_M) (x1 : Int32) : Option (ww_M) :=
  ww_g (ww_i x1 12000) (if (ww_X M 13 x1) = (ww_F M 22) then some M else ww_U (f3_laysOwn_b1 rec x1) (M, (0 : Int32)))
noncomputable def f3_laysOwn : Nat → ww_M → Int32 → Option (ww_M)
  | 0 => fun _ _ => none
  | d + 1 => f3_laysOwn_r (f3_laysOwn d)
section T3_laysOwn_k
variable {p : Program} {l : Launch} {e : Env} {R : Room} {s : State} {m : MethodId} {args : Array Value} {below : List Frame} {meth : Method} {c : Code} {H : Heap} {locs : List Loc} {Q : State → Prop}
variable {cc : ByteArray} {pc : Nat} {ls : Array Slot} {rest : List Value} {nL : Nat} {E : ww_E} {A : Nat → Prop} {H0 : Heap}
theorem t3k_laysOwn {M M' : ww_M} {x1 : Int32} {d : Nat} (X : ww_C p m c cc nL s args RX3 lw_all) (hsz : ls.size = nL) (hK : t3_Kn E s) (hD : t3_D E) (hR : t3_H E M H) (hS : va_S (t3_A E) H0 H locs) (hF : (d + 1) + 1 ≤ R.frames) (hLo : 8 + (3 + 11) + (22 * d + 22) ≤ R.locals) (hM : t3_MetV l yX3_laysOwn cX3_laysOwn 3 (d + 1) (22 * d + 22) E [.int x1] M M') (hrest : (rest.map fun v => v.category).sum ≤ 8) (hdg : decode cc pc = .ok (.invokevirtual 350, 3)) (kk : ∀ (H1 : Heap) (locs1 : List Loc), t3_H E M' H1 → va_S (t3_A E) H0 H1 locs1 → W p l e R s m args below meth c H1 locs1 0 0 Q (F0 m (pc + 3) ls (rest))) : W p l e R s m args below meth c H locs 0 0 Q (F0 m pc ls (.int x1 :: .ref E.1 :: rest)) :=
  t3_callV (n := 1) X hsz hK hR hS (As := [.int x1]) hM (lw_V q2129 q2131 qs103 q135 q2132) (by decide +kernel) rfl hF hLo (Nat.zero_le _) (Nat.zero_le _) hrest hdg kk
end T3_laysOwn_k
set_option maxHeartbeats 4000000 in
set_option maxRecDepth 100000 in
theorem met3_laysOwn (l : Launch) {E : ww_E} (hD : t3_D E) : ∀ (d : Nat) (M : ww_M) (x1 : Int32) (M' : ww_M), f3_laysOwn d M x1 = some M' → t3_MetV l yX3_laysOwn cX3_laysOwn 3 (d + 1) (22 * d + 22) E [.int x1] M M' := by
  intro d
  induction d with
  | zero => intro M x1 M' hf; cases hf
  | succ d ih =>
    intro M x1 M' hf
    replace hf : f3_laysOwn_r (f3_laysOwn d) M x1 = some M' := hf
    unfold f3_laysOwn_r at hf
    refine t3_startV (by decide +kernel) (Nat.le_of_ble_eq_true rfl) ?_
    intro p e s m args below meth c Rm Q X hK hF hLo hend ls hl hR hS
    obtain ⟨hx, hb, hml, hown, hts⟩ := id X
    replace hl : lv_has ls 3 [(0, .ref E.1), (1, .int x1)] := hl
    refine lv_aload_n hx hb dX3_laysOwn_0 rfl (lv_at hl 0 rfl) ?_
    refine t3g_13 X hK hR dX3_laysOwn_1 ?_
    refine lv_iload_n hx hb dX3_laysOwn_4 rfl (lv_at hl 1 rfl) ?_
    obtain ⟨h_1, hf⟩ := ww_gS hf
    refine t3l_13 X hK hR h_1 dX3_laysOwn_5 ?_
    refine lv_aload_n hx hb dX3_laysOwn_6 rfl (lv_at hl 0 rfl) ?_
    refine t3g_22 X hK hR dX3_laysOwn_7 ?_
    refine lv_icmp_ne (tgt := 14) hx hb dX3_laysOwn_10 (by decide) (fun c_2 => ?_) (fun c_2 => ?_)
    · replace hf := ww_in hf c_2
      refine lv_iconst (v := (0 : Int32)) hx hb dX3_laysOwn_14 (by decide) ?_
      refine lv_istore_n (lv' := [(2, .int (0 : Int32)), (0, .ref E.1), (1, .int x1)]) hx hb dX3_laysOwn_15 rfl hl (by decide) rfl (fun ls hl => ?_)
      have hL_1 : ∀ s9 : ww_M × Int32, ww_U (f3_laysOwn_b1 (f3_laysOwn d) x1) s9 = some M' → ∀ (H : Heap) (locs : List Loc) (ls : Array Slot), t3_H E s9.1 H → va_S (t3_A E) s.heap H locs → lv_has ls 3 [(0, .ref E.1), (1, .int x1), (2, .int s9.2)] → W p l e Rm s m args below meth c H locs 0 0 Q (F0 m 16 ls []) := by
        refine ww_ind _ M' ?_
        intro s9 z_1 hf hz_1 H locs ls hR hS hl
        obtain ⟨M_3, x2⟩ := s9
        replace hf : f3_laysOwn_b1c (f3_laysOwn d) x1 M_3 x2 = some z_1 := hf
        unfold f3_laysOwn_b1c at hf
        replace hR : t3_H E M_3 H := hR
        replace hl : lv_has ls 3 [(0, .ref E.1), (1, .int x1), (2, .int x2)] := hl
        refine lv_iload_n hx hb dX3_laysOwn_16 rfl (lv_at hl 2 rfl) ?_
        refine lv_aload_n hx hb dX3_laysOwn_17 rfl (lv_at hl 0 rfl) ?_
        refine t3g_11 X hK hR dX3_laysOwn_18 ?_
        refine lv_iload_n hx hb dX3_laysOwn_21 rfl (lv_at hl 1 rfl) ?_
        obtain ⟨h_4, hf⟩ := ww_gS hf
        refine t3l_11 X hK hR h_4 dX3_laysOwn_22 ?_
        refine lv_icmp_ge (tgt := 104) hx hb dX3_laysOwn_23 (by decide) (fun c_5 => ?_) (fun c_5 => ?_)
        · replace hf := ww_ip hf c_5
          replace hf := ww_xK hf hz_1
          exact hend dX3_laysOwn_104 hf hR hS
        · replace hf := ww_in hf c_5
          refine lv_aload_n hx hb dX3_laysOwn_26 rfl (lv_at hl 0 rfl) ?_
          refine t3g_10 X hK hR dX3_laysOwn_27 ?_
          refine lv_iload_n hx hb dX3_laysOwn_30 rfl (lv_at hl 1 rfl) ?_
          obtain ⟨h_6, hf⟩ := ww_gS hf
          refine t3l_10 X hK hR h_6 dX3_laysOwn_31 ?_
          refine lv_if_ne (tgt := 48) hx hb dX3_laysOwn_32 (by decide) (fun c_7 => ?_) (fun c_7 => ?_)
          · replace hf := ww_in hf c_7
            refine lv_aload_n hx hb dX3_laysOwn_48 rfl (lv_at hl 0 rfl) ?_
            refine t3g_47 X hK hR dX3_laysOwn_49 ?_
            refine lv_aload_n hx hb dX3_laysOwn_52 rfl (lv_at hl 0 rfl) ?_
            refine t3g_49 X hK hR dX3_laysOwn_53 ?_
            refine lv_aload_n hx hb dX3_laysOwn_56 rfl (lv_at hl 0 rfl) ?_
            refine t3g_15 X hK hR dX3_laysOwn_57 ?_
            refine lv_bipush (v := (7 : Int32)) hx hb dX3_laysOwn_60 (by decide) ?_
            refine lv_iload_n hx hb dX3_laysOwn_62 rfl (lv_at hl 1 rfl) ?_
            refine lv_imul hx hb dX3_laysOwn_63 ?_
            refine lv_iload_n hx hb dX3_laysOwn_64 rfl (lv_at hl 2 rfl) ?_
            refine lv_iadd hx hb dX3_laysOwn_65 ?_
            obtain ⟨h_8, hf⟩ := ww_gS hf
            refine t3l_15 X hK hR h_8 dX3_laysOwn_66 ?_
            obtain ⟨h_9, hf⟩ := ww_gS hf
            refine t3s_47 X hK hD hR hS h_9 dX3_laysOwn_67 (fun H locs hR hS => ?_)
            refine lv_aload_n hx hb dX3_laysOwn_68 rfl (lv_at hl 0 rfl) ?_
            refine t3g_48 X hK hR dX3_laysOwn_69 ?_
            refine lv_aload_n hx hb dX3_laysOwn_72 rfl (lv_at hl 0 rfl) ?_
            refine t3g_49 X hK hR dX3_laysOwn_73 ?_
            refine lv_aload_n hx hb dX3_laysOwn_76 rfl (lv_at hl 0 rfl) ?_
            refine t3g_16 X hK hR dX3_laysOwn_77 ?_
            refine lv_bipush (v := (7 : Int32)) hx hb dX3_laysOwn_80 (by decide) ?_
            refine lv_iload_n hx hb dX3_laysOwn_82 rfl (lv_at hl 1 rfl) ?_
            refine lv_imul hx hb dX3_laysOwn_83 ?_
            refine lv_iload_n hx hb dX3_laysOwn_84 rfl (lv_at hl 2 rfl) ?_
            refine lv_iadd hx hb dX3_laysOwn_85 ?_
            obtain ⟨h_10, hf⟩ := ww_gS hf
            refine t3l_16 X hK hR h_10 dX3_laysOwn_86 ?_
            obtain ⟨h_11, hf⟩ := ww_gS hf
            refine t3s_48 X hK hD hR hS h_11 dX3_laysOwn_87 (fun H locs hR hS => ?_)
            refine lv_aload_n hx hb dX3_laysOwn_88 rfl (lv_at hl 0 rfl) ?_
            refine lv_dup hx hb dX3_laysOwn_89 rfl ?_
            refine t3g_49 X hK hR dX3_laysOwn_90 ?_
            refine lv_iconst (v := (1 : Int32)) hx hb dX3_laysOwn_93 (by decide) ?_
            refine lv_iadd hx hb dX3_laysOwn_94 ?_
            refine t3p_49 X hK hD hR hS dX3_laysOwn_95 (fun H locs hR hS => ?_)
            refine lv_iinc (k := 2) (v := x2 + (1 : Int32)) (lv' := [(2, .int (x2 + (1 : Int32))), (0, .ref E.1), (1, .int x1)]) hx hb dX3_laysOwn_98 hl rfl rfl (by decide) rfl (fun ls hl => ?_)
            refine lv_goto (tgt := 16) hx hb dX3_laysOwn_101 (by decide) ?_
            exact ww_lK hf hz_1 _ _ _ hR hS (lv_sub hl [1, 2, 0] rfl)
          · replace hf := ww_ip hf c_7
            refine lv_aload_n hx hb dX3_laysOwn_35 rfl (lv_at hl 0 rfl) ?_
            refine lv_aload_n hx hb dX3_laysOwn_36 rfl (lv_at hl 0 rfl) ?_
            refine lv_iload_n hx hb dX3_laysOwn_37 rfl (lv_at hl 1 rfl) ?_
            refine lv_iload_n hx hb dX3_laysOwn_38 rfl (lv_at hl 2 rfl) ?_
            obtain ⟨r_12, h_12, hf⟩ := ww_bS hf
            refine t3c_child X hl.1 hK hD hR hS (by omega) (by omega) h_12 (Nat.le_of_ble_eq_true rfl) dX3_laysOwn_39 (fun H locs hR hS => ?_)
            obtain ⟨M_13, h_13, hf⟩ := ww_bS hf
            refine t3k_laysOwn X hl.1 hK hD hR hS (by omega) (by omega) (ih _ _ _ h_13) (Nat.le_of_ble_eq_true rfl) dX3_laysOwn_42 (fun H locs hR hS => ?_)
            refine lv_goto (tgt := 98) hx hb dX3_laysOwn_45 (by decide) ?_
            refine lv_iinc (k := 2) (v := x2 + (1 : Int32)) (lv' := [(2, .int (x2 + (1 : Int32))), (0, .ref E.1), (1, .int x1)]) hx hb dX3_laysOwn_98 hl rfl rfl (by decide) rfl (fun ls hl => ?_)
            refine lv_goto (tgt := 16) hx hb dX3_laysOwn_101 (by decide) ?_
            exact ww_lK hf hz_1 _ _ _ hR hS (lv_sub hl [1, 2, 0] rfl)
      exact hL_1 (M, (0 : Int32)) hf _ _ _ hR hS (lv_sub hl [1, 2, 0] rfl)
    · replace hf := ww_ip hf c_2
      exact hend dX3_laysOwn_13 hf hR hS
section T3_laysOwn_c
variable {p : Program} {l : Launch} {e : Env} {R : Room} {s : State} {m : MethodId} {args : Array Value} {below : List Frame} {meth : Method} {c : Code} {H : Heap} {locs : List Loc} {Q : State → Prop}
variable {cc : ByteArray} {pc : Nat} {ls : Array Slot} {rest : List Value} {nL : Nat} {E : ww_E} {A : Nat → Prop} {H0 : Heap}
theorem t3c_laysOwn {M M' : ww_M} {x1 : Int32} (X : ww_C p m c cc nL s args RX3 lw_all) (hsz : ls.size = nL) (hK : t3_Kn E s) (hD : t3_D E) (hR : t3_H E M H) (hS : va_S (t3_A E) H0 H locs) (hF : 12 ≤ R.frames) (hLo : 264 ≤ R.locals) (hf : f3_laysOwn 10 M x1 = some M') (hrest : (rest.map fun v => v.category).sum ≤ 8) (hdg : decode cc pc = .ok (.invokevirtual 350, 3)) (kk : ∀ (H1 : Heap) (locs1 : List Loc), t3_H E M' H1 → va_S (t3_A E) H0 H1 locs1 → W p l e R s m args below meth c H1 locs1 0 0 Q (F0 m (pc + 3) ls (rest))) : W p l e R s m args below meth c H locs 0 0 Q (F0 m pc ls (.int x1 :: .ref E.1 :: rest)) :=
  t3k_laysOwn (d := 10) X hsz hK hD hR hS hF hLo (met3_laysOwn l hD 10 _ _ _ hf) hrest hdg kk
end T3_laysOwn_c
noncomputable def f3_held (x0 : Int32) : Option (Int32) :=
  some (if (-999 : Int32) < (if x0 < (999 : Int32) then x0 else (999 : Int32)) then (if x0 < (999 : Int32) then x0 else (999 : Int32)) else (-999 : Int32))
set_option maxHeartbeats 4000000 in
set_option maxRecDepth 100000 in
theorem met3_held (l : Launch) (x0 : Int32) (r : Int32) (hf : f3_held x0 = some r) : t3_MetS l yX3_held cX3_held 1 (some Jvm.ClassFile.FieldType.int) 1 40 [.int x0] r := by
  unfold f3_held at hf
  refine t3_startS (own := RX3) (by decide +kernel) (Nat.le_of_ble_eq_true rfl) ?_
  intro p e s m args below meth c Rm Q X hF hLo hend ls hl hS; have hR : s.heap = s.heap := rfl
  obtain ⟨hx, hb, hml, hown, hts⟩ := id X
  replace hl : lv_has ls 1 [(0, .int x0)] := hl
  refine lv_sipush (v := (-999 : Int32)) hx hb dX3_held_0 (by decide) ?_
  refine lv_sipush (v := (999 : Int32)) hx hb dX3_held_3 (by decide) ?_
  refine lv_iload_n hx hb dX3_held_6 rfl (lv_at hl 0 rfl) ?_
  refine va_mmin hx hb (hml.trans hl.1.symm) hown (hts _ q2139) (hts _ q493) (hts _ q141) (hts _ q494) (Nat.le_trans (Nat.le_of_ble_eq_true rfl) hF) (Nat.le_trans (Nat.le_of_ble_eq_true rfl) hLo) (Nat.zero_le _) (Nat.zero_le _) dX3_held_7 ?_
  refine va_mmax hx hb (hml.trans hl.1.symm) hown (hts _ q2057) (hts _ q475) (hts _ q141) (hts _ q476) (Nat.le_trans (Nat.le_of_ble_eq_true rfl) hF) (Nat.le_trans (Nat.le_of_ble_eq_true rfl) hLo) (Nat.zero_le _) (Nat.zero_le _) dX3_held_10 ?_
  exact hend dX3_held_13 rfl rfl hf hR hS
section T3_held_c
variable {p : Program} {l : Launch} {e : Env} {R : Room} {s : State} {m : MethodId} {args : Array Value} {below : List Frame} {meth : Method} {c : Code} {H : Heap} {locs : List Loc} {Q : State → Prop}
variable {cc : ByteArray} {pc : Nat} {ls : Array Slot} {rest : List Value} {nL : Nat} {E : ww_E} {A : Nat → Prop} {H0 : Heap}
theorem t3c_held {x0 : Int32} {r : Int32} (X : ww_C p m c cc nL s args RX3 lw_all) (hsz : ls.size = nL) (hF : 2 ≤ R.frames) (hLo : 60 ≤ R.locals) (hf : f3_held x0 = some r) (hrest : (rest.map fun v => v.category).sum ≤ 8) (hdg : decode cc pc = .ok (.invokestatic 348, 3)) (kk : W p l e R s m args below meth c H locs 0 0 Q (F0 m (pc + 3) ls (.int r :: rest))) : W p l e R s m args below meth c H locs 0 0 Q (F0 m pc ls (.int x0 :: rest)) :=
  t3_callS (n := 1) X hsz (As := [.int x0]) (met3_held l x0 r hf) (lw_S q2136 q2137 q135 q2138) (by decide +kernel) rfl hF hLo (Nat.zero_le _) (Nat.zero_le _) hrest hdg kk
end T3_held_c
noncomputable def f3_ruled (x0 : Int32) (x1 : Int32) (x2 : Int32) : Option (Int32) :=
  if x2 = 0 then some x0 else if x2 = (1 : Int32) then some x1 else if x2 = (2 : Int32) then some (if x0 < x1 then x1 else x0) else ww_b (f3_held (x0 + x1)) (fun r_4 => some r_4)
set_option maxHeartbeats 4000000 in
set_option maxRecDepth 100000 in
theorem met3_ruled (l : Launch) (x0 : Int32) (x1 : Int32) (x2 : Int32) (r : Int32) (hf : f3_ruled x0 x1 x2 = some r) : t3_MetS l yX3_ruled cX3_ruled 3 (some Jvm.ClassFile.FieldType.int) 2 60 [.int x0, .int x1, .int x2] r := by
  unfold f3_ruled at hf
  refine t3_startS (own := RX3) (by decide +kernel) (Nat.le_of_ble_eq_true rfl) ?_
  intro p e s m args below meth c Rm Q X hF hLo hend ls hl hS; have hR : s.heap = s.heap := rfl
  obtain ⟨hx, hb, hml, hown, hts⟩ := id X
  replace hl : lv_has ls 3 [(0, .int x0), (1, .int x1), (2, .int x2)] := hl
  refine lv_iload_n hx hb dX3_ruled_0 rfl (lv_at hl 2 rfl) ?_
  refine lv_if_ne (tgt := 8) hx hb dX3_ruled_1 (by decide) (fun c_1 => ?_) (fun c_1 => ?_)
  · replace hf := ww_in hf c_1
    refine lv_iload_n hx hb dX3_ruled_8 rfl (lv_at hl 2 rfl) ?_
    refine lv_iconst (v := (1 : Int32)) hx hb dX3_ruled_9 (by decide) ?_
    refine lv_icmp_ne (tgt := 17) hx hb dX3_ruled_10 (by decide) (fun c_2 => ?_) (fun c_2 => ?_)
    · replace hf := ww_in hf c_2
      refine lv_iload_n hx hb dX3_ruled_17 rfl (lv_at hl 2 rfl) ?_
      refine lv_iconst (v := (2 : Int32)) hx hb dX3_ruled_18 (by decide) ?_
      refine lv_icmp_ne (tgt := 30) hx hb dX3_ruled_19 (by decide) (fun c_3 => ?_) (fun c_3 => ?_)
      · replace hf := ww_in hf c_3
        refine lv_iload_n hx hb dX3_ruled_30 rfl (lv_at hl 0 rfl) ?_
        refine lv_iload_n hx hb dX3_ruled_31 rfl (lv_at hl 1 rfl) ?_
        refine lv_iadd hx hb dX3_ruled_32 ?_
        obtain ⟨r_4, h_4, hf⟩ := ww_bS hf
        refine t3c_held X hl.1 (Nat.le_trans (Nat.le_of_ble_eq_true rfl) hF) (Nat.le_trans (Nat.le_of_ble_eq_true rfl) hLo) h_4 (Nat.le_of_ble_eq_true rfl) dX3_ruled_33 ?_
        exact hend dX3_ruled_36 rfl rfl hf hR hS
      · replace hf := ww_ip hf c_3
        refine lv_iload_n hx hb dX3_ruled_22 rfl (lv_at hl 0 rfl) ?_
        refine lv_iload_n hx hb dX3_ruled_23 rfl (lv_at hl 1 rfl) ?_
        refine va_mmax hx hb (hml.trans hl.1.symm) hown (hts _ q2057) (hts _ q475) (hts _ q141) (hts _ q476) (Nat.le_trans (Nat.le_of_ble_eq_true rfl) hF) (Nat.le_trans (Nat.le_of_ble_eq_true rfl) hLo) (Nat.zero_le _) (Nat.zero_le _) dX3_ruled_24 ?_
        refine lv_goto (tgt := 36) hx hb dX3_ruled_27 (by decide) ?_
        exact hend dX3_ruled_36 rfl rfl hf hR hS
    · replace hf := ww_ip hf c_2
      refine lv_iload_n hx hb dX3_ruled_13 rfl (lv_at hl 1 rfl) ?_
      refine lv_goto (tgt := 36) hx hb dX3_ruled_14 (by decide) ?_
      exact hend dX3_ruled_36 rfl rfl hf hR hS
  · replace hf := ww_ip hf c_1
    refine lv_iload_n hx hb dX3_ruled_4 rfl (lv_at hl 0 rfl) ?_
    refine lv_goto (tgt := 36) hx hb dX3_ruled_5 (by decide) ?_
    exact hend dX3_ruled_36 rfl rfl hf hR hS
section T3_ruled_c
variable {p : Program} {l : Launch} {e : Env} {R : Room} {s : State} {m : MethodId} {args : Array Value} {below : List Frame} {meth : Method} {c : Code} {H : Heap} {locs : List Loc} {Q : State → Prop}
variable {cc : ByteArray} {pc : Nat} {ls : Array Slot} {rest : List Value} {nL : Nat} {E : ww_E} {A : Nat → Prop} {H0 : Heap}
theorem t3c_ruled {x0 : Int32} {x1 : Int32} {x2 : Int32} {r : Int32} (X : ww_C p m c cc nL s args RX3 lw_all) (hsz : ls.size = nL) (hF : 3 ≤ R.frames) (hLo : 82 ≤ R.locals) (hf : f3_ruled x0 x1 x2 = some r) (hrest : (rest.map fun v => v.category).sum ≤ 8) (hdg : decode cc pc = .ok (.invokestatic 359, 3)) (kk : W p l e R s m args below meth c H locs 0 0 Q (F0 m (pc + 3) ls (.int r :: rest))) : W p l e R s m args below meth c H locs 0 0 Q (F0 m pc ls (.int x2 :: .int x1 :: .int x0 :: rest)) :=
  t3_callS (n := 3) X hsz (As := [.int x0, .int x1, .int x2]) (met3_ruled l x0 x1 x2 r hf) (lw_S q2133 q2134 q135 q2135) (by decide +kernel) rfl hF hLo (Nat.zero_le _) (Nat.zero_le _) hrest hdg kk
end T3_ruled_c
noncomputable def f3_merge_b2c (y1 : Int32) (y2 : Int32) (y3 : Int32) (y5 : Int32) (M_21 : ww_M) (x7 : Int32) (x8 : Int32) : Option ((ww_M × Int32 × Int32) ⊕ (Int32 × ww_M)) :=
  if (ww_F M_21 49) ≤ x8 then ww_x (ww_b2 (f3_newMap M_21 x7 y1 y2) (fun r_23 M_23 => some (r_23, M_23))) else ww_g (ww_i x8 60) (ww_g (ww_i (ww_X M_21 47 x8) 1000) (ww_b (f3_has (ww_X M_21 45 (ww_X M_21 47 x8)) (0 : Int32)) (fun r_26 => if r_26 = 0 then ww_g (ww_i x8 60) (ww_b2 (f3_puts M_21 x7 (ww_X M_21 47 x8) (ww_X M_21 48 x8) y5) (fun r_29 M_29 => some (.inl (M_29, r_29, (x8 + (1 : Int32)))))) else ww_g (ww_i ((3 : Int32) * (ww_X M_21 47 x8)) 3000) (ww_g (ww_i x8 60) (ww_b (f3_ruled (ww_X M_21 46 ((3 : Int32) * (ww_X M_21 47 x8))) (ww_X M_21 48 x8) y3) (fun r_32 => ww_b2 (f3_puts M_21 x7 (ww_X M_21 47 x8) r_32 y5) (fun r_33 M_33 => some (.inl (M_33, r_33, (x8 + (1 : Int32)))))))))))
noncomputable def f3_merge_b2 (y1 : Int32) (y2 : Int32) (y3 : Int32) (y5 : Int32) : (ww_M × Int32 × Int32) → Option ((ww_M × Int32 × Int32) ⊕ (Int32 × ww_M)) := fun s9 => f3_merge_b2c y1 y2 y3 y5 s9.1 s9.2.1 s9.2.2
noncomputable def f3_merge_b1c (M : ww_M) (y1 : Int32) (y2 : Int32) (y3 : Int32) (x4 : Int32) (x5 : Int32) : Option ((Int32 × Int32) ⊕ (Int32 × ww_M)) :=
  if (999 : Int32) < x5 then ww_x (if x4 ≤ (60 : Int32) then ww_b (f3_hasRoom M) (fun r_13 => if r_13 = 0 then ww_b2 (f3_refused M (4 : Int32)) (fun r_34 M_34 => some (r_34, M_34)) else ww_b2 (f3_newToken M) (fun r_15 M_15 => ww_g (ww_i y1 999) (ww_b2 (f3_marks 10 (ww_sF M_15 22 ((ww_F M_15 22) + (1 : Int32))) (ww_X (ww_sF M_15 22 ((ww_F M_15 22) + (1 : Int32))) 32 y1)) (fun r_17 M_17 => ww_g (ww_i y2 999) (ww_b (f3_laysOwn 10 (ww_sF M_17 49 (0 : Int32)) (ww_X (ww_sF M_17 49 (0 : Int32)) 32 y2)) (fun M_19 => ww_g (ww_i y1 999) (ww_U (f3_merge_b2 y1 y2 y3 r_15) (M_19, (ww_X M_19 32 y1), (0 : Int32))))))))) else ww_b2 (f3_refused M (3 : Int32)) (fun r_35 M_35 => some (r_35, M_35))) else ww_g (ww_i x5 1000) (if (ww_X M 45 x5) = 0 then some (.inl ((x4 + (0 : Int32)), (x5 + (1 : Int32)))) else some (.inl ((x4 + (1 : Int32)), (x5 + (1 : Int32)))))
noncomputable def f3_merge_b1 (M : ww_M) (y1 : Int32) (y2 : Int32) (y3 : Int32) : (Int32 × Int32) → Option ((Int32 × Int32) ⊕ (Int32 × ww_M)) := fun s9 => f3_merge_b1c M y1 y2 y3 s9.1 s9.2
noncomputable def f3_merge (M : ww_M) (x1 : Int32) (x2 : Int32) (x3 : Int32) : Option (Int32 × ww_M) :=
  ww_b (f3_isMap (ww_sF M 0 (0 : Int32)) x1) (fun r_1 => if r_1 = 0 then ww_b2 (f3_refused (ww_sF M 0 (0 : Int32)) (0 : Int32)) (fun r_3 M_3 => some (r_3, M_3)) else ww_b (f3_isMap (ww_sF M 0 (0 : Int32)) x2) (fun r_4 => if r_4 = 0 then ww_b2 (f3_refused (ww_sF M 0 (0 : Int32)) (0 : Int32)) (fun r_39 M_39 => some (r_39, M_39)) else ww_b (f3_isIn x3.toInt64 (0 : Int64) (3 : Int64)) (fun r_6 => if r_6 = 0 then ww_b2 (f3_refused (ww_sF M 0 (0 : Int32)) (1 : Int32)) (fun r_38 M_38 => some (r_38, M_38)) else ww_g (ww_i x1 999) (ww_g (ww_i x2 999) (ww_b (f3_laysTwo (ww_sF M 0 (0 : Int32)) (ww_X (ww_sF M 0 (0 : Int32)) 32 x1) (ww_X (ww_sF M 0 (0 : Int32)) 32 x2)) (fun M_10 => ww_U (f3_merge_b1 M_10 x1 x2 x3) ((0 : Int32), (0 : Int32))))))))
set_option maxHeartbeats 4000000 in
set_option maxRecDepth 100000 in
theorem met3_merge (l : Launch) {E : ww_E} (hD : t3_D E) (M : ww_M) (x1 : Int32) (x2 : Int32) (x3 : Int32) (r : Int32) (M' : ww_M) (hf : f3_merge M x1 x2 x3 = some (r, M')) : t3_Met l yX3_merge cX3_merge 10 (some Jvm.ClassFile.FieldType.int) 15 342 E [.int x1, .int x2, .int x3] M M' r := by
  unfold f3_merge at hf
  refine t3_start (by decide +kernel) (Nat.le_of_ble_eq_true rfl) ?_
  intro p e s m args below meth c Rm Q X hK hF hLo hend ls hl hR hS
  obtain ⟨hx, hb, hml, hown, hts⟩ := id X
  replace hl : lv_has ls 10 [(0, .ref E.1), (1, .int x1), (2, .int x2), (3, .int x3)] := hl
  refine lv_aload_n hx hb dX3_merge_0 rfl (lv_at hl 0 rfl) ?_
  refine lv_iconst (v := (0 : Int32)) hx hb dX3_merge_1 (by decide) ?_
  refine t3p_0 X hK hD hR hS dX3_merge_2 (fun H locs hR hS => ?_)
  refine lv_aload_n hx hb dX3_merge_5 rfl (lv_at hl 0 rfl) ?_
  refine lv_iload_n hx hb dX3_merge_6 rfl (lv_at hl 1 rfl) ?_
  obtain ⟨r_1, h_1, hf⟩ := ww_bS hf
  refine t3c_isMap X hl.1 hK hD hR hS (Nat.le_trans (Nat.le_of_ble_eq_true rfl) hF) (Nat.le_trans (Nat.le_of_ble_eq_true rfl) hLo) h_1 (Nat.le_of_ble_eq_true rfl) dX3_merge_7 (fun H locs hR hS => ?_)
  refine lv_if_eq (tgt := 21) hx hb dX3_merge_10 (by decide) (fun c_2 => ?_) (fun c_2 => ?_)
  · replace hf := ww_ip hf c_2
    refine lv_aload_n hx hb dX3_merge_21 rfl (lv_at hl 0 rfl) ?_
    refine lv_iconst (v := (0 : Int32)) hx hb dX3_merge_22 (by decide) ?_
    obtain ⟨r_3, M_3, h_3, hf⟩ := ww_b2S hf
    refine t3c_refused X hl.1 hK hD hR hS (Nat.le_trans (Nat.le_of_ble_eq_true rfl) hF) (Nat.le_trans (Nat.le_of_ble_eq_true rfl) hLo) h_3 (Nat.le_of_ble_eq_true rfl) dX3_merge_23 (fun H locs hR hS => ?_)
    exact hend dX3_merge_26 rfl rfl hf hR hS
  · replace hf := ww_in hf c_2
    refine lv_aload_n hx hb dX3_merge_13 rfl (lv_at hl 0 rfl) ?_
    refine lv_iload_n hx hb dX3_merge_14 rfl (lv_at hl 2 rfl) ?_
    obtain ⟨r_4, h_4, hf⟩ := ww_bS hf
    refine t3c_isMap X hl.1 hK hD hR hS (Nat.le_trans (Nat.le_of_ble_eq_true rfl) hF) (Nat.le_trans (Nat.le_of_ble_eq_true rfl) hLo) h_4 (Nat.le_of_ble_eq_true rfl) dX3_merge_15 (fun H locs hR hS => ?_)
    refine lv_if_ne (tgt := 27) hx hb dX3_merge_18 (by decide) (fun c_5 => ?_) (fun c_5 => ?_)
    · replace hf := ww_in hf c_5
      refine lv_iload_n hx hb dX3_merge_27 rfl (lv_at hl 3 rfl) ?_
      refine lv_i2l (v := x3.toInt64) hx hb dX3_merge_28 rfl ?_
      refine lv_lconst (v := (0 : Int64)) hx hb dX3_merge_29 (by decide) ?_
      refine lv_ldc2 (v := (3 : Int64)) hx hb hown (hts _ q2027) dX3_merge_30 ?_
      obtain ⟨r_6, h_6, hf⟩ := ww_bS hf
      refine t3c_isIn X hl.1 (Nat.le_trans (Nat.le_of_ble_eq_true rfl) hF) (Nat.le_trans (Nat.le_of_ble_eq_true rfl) hLo) h_6 (Nat.le_of_ble_eq_true rfl) dX3_merge_33 ?_
      refine lv_if_ne (tgt := 45) hx hb dX3_merge_36 (by decide) (fun c_7 => ?_) (fun c_7 => ?_)
      · replace hf := ww_in hf c_7
        refine lv_aload_n hx hb dX3_merge_45 rfl (lv_at hl 0 rfl) ?_
        refine lv_aload_n hx hb dX3_merge_46 rfl (lv_at hl 0 rfl) ?_
        refine t3g_32 X hK hR dX3_merge_47 ?_
        refine lv_iload_n hx hb dX3_merge_50 rfl (lv_at hl 1 rfl) ?_
        obtain ⟨h_8, hf⟩ := ww_gS hf
        refine t3l_32 X hK hR h_8 dX3_merge_51 ?_
        refine lv_aload_n hx hb dX3_merge_52 rfl (lv_at hl 0 rfl) ?_
        refine t3g_32 X hK hR dX3_merge_53 ?_
        refine lv_iload_n hx hb dX3_merge_56 rfl (lv_at hl 2 rfl) ?_
        obtain ⟨h_9, hf⟩ := ww_gS hf
        refine t3l_32 X hK hR h_9 dX3_merge_57 ?_
        obtain ⟨M_10, h_10, hf⟩ := ww_bS hf
        refine t3c_laysTwo X hl.1 hK hD hR hS (Nat.le_trans (Nat.le_of_ble_eq_true rfl) hF) (Nat.le_trans (Nat.le_of_ble_eq_true rfl) hLo) h_10 (Nat.le_of_ble_eq_true rfl) dX3_merge_58 (fun H locs hR hS => ?_)
        refine lv_iconst (v := (0 : Int32)) hx hb dX3_merge_61 (by decide) ?_
        refine lv_istore (lv' := [(4, .int (0 : Int32)), (0, .ref E.1), (1, .int x1), (2, .int x2), (3, .int x3)]) hx hb dX3_merge_62 hl (by decide) rfl (fun ls hl => ?_)
        refine lv_iconst (v := (0 : Int32)) hx hb dX3_merge_64 (by decide) ?_
        refine lv_istore (lv' := [(5, .int (0 : Int32)), (4, .int (0 : Int32)), (0, .ref E.1), (1, .int x1), (2, .int x2), (3, .int x3)]) hx hb dX3_merge_65 hl (by decide) rfl (fun ls hl => ?_)
        have hL_1 : ∀ s9 : Int32 × Int32, ww_U (f3_merge_b1 M_10 x1 x2 x3) s9 = some (r, M') → ∀ (H : Heap) (locs : List Loc) (ls : Array Slot), t3_H E M_10 H → va_S (t3_A E) s.heap H locs → lv_has ls 10 [(0, .ref E.1), (1, .int x1), (2, .int x2), (3, .int x3), (4, .int s9.1), (5, .int s9.2)] → W p l e Rm s m args below meth c H locs 0 0 Q (F0 m 67 ls []) := by
          refine ww_ind _ (r, M') ?_
          intro s9 z_1 hf hz_1 H locs ls hR hS hl
          obtain ⟨x4, x5⟩ := s9
          replace hf : f3_merge_b1c M_10 x1 x2 x3 x4 x5 = some z_1 := hf
          unfold f3_merge_b1c at hf
          replace hl : lv_has ls 10 [(0, .ref E.1), (1, .int x1), (2, .int x2), (3, .int x3), (4, .int x4), (5, .int x5)] := hl
          refine lv_iload hx hb dX3_merge_67 (lv_at hl 5 rfl) ?_
          refine lv_sipush (v := (999 : Int32)) hx hb dX3_merge_69 (by decide) ?_
          refine lv_icmp_gt (tgt := 101) hx hb dX3_merge_72 (by decide) (fun c_11 => ?_) (fun c_11 => ?_)
          · replace hf := ww_ip hf c_11
            replace hf := ww_xK hf hz_1
            refine lv_iload hx hb dX3_merge_101 (lv_at hl 4 rfl) ?_
            refine lv_bipush (v := (60 : Int32)) hx hb dX3_merge_103 (by decide) ?_
            refine lv_icmp_le (tgt := 114) hx hb dX3_merge_105 (by decide) (fun c_12 => ?_) (fun c_12 => ?_)
            · replace hf := ww_ip hf c_12
              refine lv_aload_n hx hb dX3_merge_114 rfl (lv_at hl 0 rfl) ?_
              obtain ⟨r_13, h_13, hf⟩ := ww_bS hf
              refine t3c_hasRoom X hl.1 hK hD hR hS (Nat.le_trans (Nat.le_of_ble_eq_true rfl) hF) (Nat.le_trans (Nat.le_of_ble_eq_true rfl) hLo) h_13 (Nat.le_of_ble_eq_true rfl) dX3_merge_115 (fun H locs hR hS => ?_)
              refine lv_if_ne (tgt := 127) hx hb dX3_merge_118 (by decide) (fun c_14 => ?_) (fun c_14 => ?_)
              · replace hf := ww_in hf c_14
                refine lv_aload_n hx hb dX3_merge_127 rfl (lv_at hl 0 rfl) ?_
                obtain ⟨r_15, M_15, h_15, hf⟩ := ww_b2S hf
                refine t3c_newToken X hl.1 hK hD hR hS (Nat.le_trans (Nat.le_of_ble_eq_true rfl) hF) (Nat.le_trans (Nat.le_of_ble_eq_true rfl) hLo) h_15 (Nat.le_of_ble_eq_true rfl) dX3_merge_128 (fun H locs hR hS => ?_)
                refine lv_istore (lv' := [(5, .int r_15), (0, .ref E.1), (1, .int x1), (2, .int x2), (3, .int x3), (4, .int x4)]) hx hb dX3_merge_131 hl (by decide) rfl (fun ls hl => ?_)
                refine lv_aload_n hx hb dX3_merge_133 rfl (lv_at hl 1 rfl) ?_
                refine lv_dup hx hb dX3_merge_134 rfl ?_
                refine t3g_22 X hK hR dX3_merge_135 ?_
                refine lv_iconst (v := (1 : Int32)) hx hb dX3_merge_138 (by decide) ?_
                refine lv_iadd hx hb dX3_merge_139 ?_
                refine t3p_22 X hK hD hR hS dX3_merge_140 (fun H locs hR hS => ?_)
                refine lv_aload_n hx hb dX3_merge_143 rfl (lv_at hl 1 rfl) ?_
                refine lv_aload_n hx hb dX3_merge_144 rfl (lv_at hl 1 rfl) ?_
                refine t3g_32 X hK hR dX3_merge_145 ?_
                refine lv_iload_n hx hb dX3_merge_148 rfl (lv_at hl 2 rfl) ?_
                obtain ⟨h_16, hf⟩ := ww_gS hf
                refine t3l_32 X hK hR h_16 dX3_merge_149 ?_
                obtain ⟨r_17, M_17, h_17, hf⟩ := ww_b2S hf
                refine t3c_marks X hl.1 hK hD hR hS (Nat.le_trans (Nat.le_of_ble_eq_true rfl) hF) (Nat.le_trans (Nat.le_of_ble_eq_true rfl) hLo) h_17 (Nat.le_of_ble_eq_true rfl) dX3_merge_150 (fun H locs hR hS => ?_)
                refine lv_istore (lv' := [(6, .int r_17), (5, .int r_15), (0, .ref E.1), (1, .int x1), (2, .int x2), (3, .int x3), (4, .int x4)]) hx hb dX3_merge_153 hl (by decide) rfl (fun ls hl => ?_)
                refine lv_aload_n hx hb dX3_merge_155 rfl (lv_at hl 2 rfl) ?_
                refine lv_iconst (v := (0 : Int32)) hx hb dX3_merge_156 (by decide) ?_
                refine t3p_49 X hK hD hR hS dX3_merge_157 (fun H locs hR hS => ?_)
                refine lv_aload_n hx hb dX3_merge_160 rfl (lv_at hl 2 rfl) ?_
                refine lv_aload_n hx hb dX3_merge_161 rfl (lv_at hl 2 rfl) ?_
                refine t3g_32 X hK hR dX3_merge_162 ?_
                refine lv_iload_n hx hb dX3_merge_165 rfl (lv_at hl 4 rfl) ?_
                obtain ⟨h_18, hf⟩ := ww_gS hf
                refine t3l_32 X hK hR h_18 dX3_merge_166 ?_
                obtain ⟨M_19, h_19, hf⟩ := ww_bS hf
                refine t3c_laysOwn X hl.1 hK hD hR hS (Nat.le_trans (Nat.le_of_ble_eq_true rfl) hF) (Nat.le_trans (Nat.le_of_ble_eq_true rfl) hLo) h_19 (Nat.le_of_ble_eq_true rfl) dX3_merge_167 (fun H locs hR hS => ?_)
                refine lv_aload_n hx hb dX3_merge_170 rfl (lv_at hl 2 rfl) ?_
                refine t3g_32 X hK hR dX3_merge_171 ?_
                refine lv_iload_n hx hb dX3_merge_174 rfl (lv_at hl 3 rfl) ?_
                obtain ⟨h_20, hf⟩ := ww_gS hf
                refine t3l_32 X hK hR h_20 dX3_merge_175 ?_
                refine lv_istore (lv' := [(7, .int (ww_X M_19 32 x1)), (6, .int r_17), (5, .int r_15), (0, .ref E.1), (1, .int x1), (2, .int x2), (3, .int x3), (4, .int x4)]) hx hb dX3_merge_176 hl (by decide) rfl (fun ls hl => ?_)
                refine lv_iconst (v := (0 : Int32)) hx hb dX3_merge_178 (by decide) ?_
                refine lv_istore (lv' := [(8, .int (0 : Int32)), (7, .int (ww_X M_19 32 x1)), (6, .int r_17), (5, .int r_15), (0, .ref E.1), (1, .int x1), (2, .int x2), (3, .int x3), (4, .int x4)]) hx hb dX3_merge_179 hl (by decide) rfl (fun ls hl => ?_)
                have hL_2 : ∀ s9 : ww_M × Int32 × Int32, ww_U (f3_merge_b2 x1 x2 x3 r_15) s9 = some (r, M') → ∀ (H : Heap) (locs : List Loc) (ls : Array Slot), t3_H E s9.1 H → va_S (t3_A E) s.heap H locs → lv_has ls 10 [(0, .ref E.1), (1, .int x1), (2, .int x2), (3, .int x3), (5, .int r_15), (7, .int s9.2.1), (8, .int s9.2.2)] → W p l e Rm s m args below meth c H locs 0 0 Q (F0 m 181 ls []) := by
                  refine ww_ind _ (r, M') ?_
                  intro s9 z_2 hf hz_2 H locs ls hR hS hl
                  obtain ⟨M_21, x7, x8⟩ := s9
                  replace hf : f3_merge_b2c x1 x2 x3 r_15 M_21 x7 x8 = some z_2 := hf
                  unfold f3_merge_b2c at hf
                  replace hR : t3_H E M_21 H := hR
                  replace hl : lv_has ls 10 [(0, .ref E.1), (1, .int x1), (2, .int x2), (3, .int x3), (5, .int r_15), (7, .int x7), (8, .int x8)] := hl
                  refine lv_iload hx hb dX3_merge_181 (lv_at hl 6 rfl) ?_
                  refine lv_aload_n hx hb dX3_merge_183 rfl (lv_at hl 0 rfl) ?_
                  refine t3g_49 X hK hR dX3_merge_184 ?_
                  refine lv_icmp_ge (tgt := 261) hx hb dX3_merge_187 (by decide) (fun c_22 => ?_) (fun c_22 => ?_)
                  · replace hf := ww_ip hf c_22
                    replace hf := ww_xK hf hz_2
                    refine lv_aload_n hx hb dX3_merge_261 rfl (lv_at hl 0 rfl) ?_
                    refine lv_iload hx hb dX3_merge_262 (lv_at hl 5 rfl) ?_
                    refine lv_iload_n hx hb dX3_merge_264 rfl (lv_at hl 1 rfl) ?_
                    refine lv_iload_n hx hb dX3_merge_265 rfl (lv_at hl 2 rfl) ?_
                    obtain ⟨r_23, M_23, h_23, hf⟩ := ww_b2S hf
                    refine t3c_newMap X hl.1 hK hD hR hS (Nat.le_trans (Nat.le_of_ble_eq_true rfl) hF) (Nat.le_trans (Nat.le_of_ble_eq_true rfl) hLo) h_23 (Nat.le_of_ble_eq_true rfl) dX3_merge_266 (fun H locs hR hS => ?_)
                    exact hend dX3_merge_269 rfl rfl hf hR hS
                  · replace hf := ww_in hf c_22
                    refine lv_aload_n hx hb dX3_merge_190 rfl (lv_at hl 0 rfl) ?_
                    refine t3g_47 X hK hR dX3_merge_191 ?_
                    refine lv_iload hx hb dX3_merge_194 (lv_at hl 6 rfl) ?_
                    obtain ⟨h_24, hf⟩ := ww_gS hf
                    refine t3l_47 X hK hR h_24 dX3_merge_196 ?_
                    refine lv_istore (lv' := [(9, .int (ww_X M_21 47 x8)), (0, .ref E.1), (1, .int x1), (2, .int x2), (3, .int x3), (5, .int r_15), (7, .int x7), (8, .int x8)]) hx hb dX3_merge_197 hl (by decide) rfl (fun ls hl => ?_)
                    refine lv_aload_n hx hb dX3_merge_199 rfl (lv_at hl 1 rfl) ?_
                    refine lv_iload hx hb dX3_merge_200 (lv_at hl 6 rfl) ?_
                    refine lv_iload hx hb dX3_merge_202 (lv_at hl 0 rfl) ?_
                    refine lv_aload_n hx hb dX3_merge_204 rfl (lv_at hl 1 rfl) ?_
                    refine t3g_45 X hK hR dX3_merge_205 ?_
                    refine lv_iload hx hb dX3_merge_208 (lv_at hl 0 rfl) ?_
                    obtain ⟨h_25, hf⟩ := ww_gS hf
                    refine t3l_45 X hK hR h_25 dX3_merge_210 ?_
                    refine lv_iconst (v := (0 : Int32)) hx hb dX3_merge_211 (by decide) ?_
                    obtain ⟨r_26, h_26, hf⟩ := ww_bS hf
                    refine t3c_has X hl.1 (Nat.le_trans (Nat.le_of_ble_eq_true rfl) hF) (Nat.le_trans (Nat.le_of_ble_eq_true rfl) hLo) h_26 (Nat.le_of_ble_eq_true rfl) dX3_merge_212 ?_
                    refine lv_if_eq (tgt := 241) hx hb dX3_merge_215 (by decide) (fun c_27 => ?_) (fun c_27 => ?_)
                    · replace hf := ww_ip hf c_27
                      refine lv_aload_n hx hb dX3_merge_241 rfl (lv_at hl 1 rfl) ?_
                      refine t3g_48 X hK hR dX3_merge_242 ?_
                      refine lv_iload hx hb dX3_merge_245 (lv_at hl 7 rfl) ?_
                      obtain ⟨h_28, hf⟩ := ww_gS hf
                      refine t3l_48 X hK hR h_28 dX3_merge_247 ?_
                      refine lv_iload hx hb dX3_merge_248 (lv_at hl 5 rfl) ?_
                      obtain ⟨r_29, M_29, h_29, hf⟩ := ww_b2S hf
                      refine t3c_puts X hl.1 hK hD hR hS (Nat.le_trans (Nat.le_of_ble_eq_true rfl) hF) (Nat.le_trans (Nat.le_of_ble_eq_true rfl) hLo) h_29 (Nat.le_of_ble_eq_true rfl) dX3_merge_250 (fun H locs hR hS => ?_)
                      refine lv_istore (lv' := [(7, .int r_29), (9, .int (ww_X M_21 47 x8)), (0, .ref E.1), (1, .int x1), (2, .int x2), (3, .int x3), (5, .int r_15), (8, .int x8)]) hx hb dX3_merge_253 hl (by decide) rfl (fun ls hl => ?_)
                      refine lv_iinc (k := 7) (v := x8 + (1 : Int32)) (lv' := [(8, .int (x8 + (1 : Int32))), (7, .int r_29), (9, .int (ww_X M_21 47 x8)), (0, .ref E.1), (1, .int x1), (2, .int x2), (3, .int x3), (5, .int r_15)]) hx hb dX3_merge_255 hl rfl rfl (by decide) rfl (fun ls hl => ?_)
                      refine lv_goto (tgt := 181) hx hb dX3_merge_258 (by decide) ?_
                      exact ww_lK hf hz_2 _ _ _ hR hS (lv_sub hl [3, 4, 5, 6, 7, 1, 0] rfl)
                    · replace hf := ww_in hf c_27
                      refine lv_aload_n hx hb dX3_merge_218 rfl (lv_at hl 1 rfl) ?_
                      refine t3g_46 X hK hR dX3_merge_219 ?_
                      refine lv_iconst (v := (3 : Int32)) hx hb dX3_merge_222 (by decide) ?_
                      refine lv_iload hx hb dX3_merge_223 (lv_at hl 0 rfl) ?_
                      refine lv_imul hx hb dX3_merge_225 ?_
                      obtain ⟨h_30, hf⟩ := ww_gS hf
                      refine t3l_46 X hK hR h_30 dX3_merge_226 ?_
                      refine lv_aload_n hx hb dX3_merge_227 rfl (lv_at hl 1 rfl) ?_
                      refine t3g_48 X hK hR dX3_merge_228 ?_
                      refine lv_iload hx hb dX3_merge_231 (lv_at hl 7 rfl) ?_
                      obtain ⟨h_31, hf⟩ := ww_gS hf
                      refine t3l_48 X hK hR h_31 dX3_merge_233 ?_
                      refine lv_iload_n hx hb dX3_merge_234 rfl (lv_at hl 4 rfl) ?_
                      obtain ⟨r_32, h_32, hf⟩ := ww_bS hf
                      refine t3c_ruled X hl.1 (Nat.le_trans (Nat.le_of_ble_eq_true rfl) hF) (Nat.le_trans (Nat.le_of_ble_eq_true rfl) hLo) h_32 (Nat.le_of_ble_eq_true rfl) dX3_merge_235 ?_
                      refine lv_goto (tgt := 248) hx hb dX3_merge_238 (by decide) ?_
                      refine lv_iload hx hb dX3_merge_248 (lv_at hl 5 rfl) ?_
                      obtain ⟨r_33, M_33, h_33, hf⟩ := ww_b2S hf
                      refine t3c_puts X hl.1 hK hD hR hS (Nat.le_trans (Nat.le_of_ble_eq_true rfl) hF) (Nat.le_trans (Nat.le_of_ble_eq_true rfl) hLo) h_33 (Nat.le_of_ble_eq_true rfl) dX3_merge_250 (fun H locs hR hS => ?_)
                      refine lv_istore (lv' := [(7, .int r_33), (9, .int (ww_X M_21 47 x8)), (0, .ref E.1), (1, .int x1), (2, .int x2), (3, .int x3), (5, .int r_15), (8, .int x8)]) hx hb dX3_merge_253 hl (by decide) rfl (fun ls hl => ?_)
                      refine lv_iinc (k := 7) (v := x8 + (1 : Int32)) (lv' := [(8, .int (x8 + (1 : Int32))), (7, .int r_33), (9, .int (ww_X M_21 47 x8)), (0, .ref E.1), (1, .int x1), (2, .int x2), (3, .int x3), (5, .int r_15)]) hx hb dX3_merge_255 hl rfl rfl (by decide) rfl (fun ls hl => ?_)
                      refine lv_goto (tgt := 181) hx hb dX3_merge_258 (by decide) ?_
                      exact ww_lK hf hz_2 _ _ _ hR hS (lv_sub hl [3, 4, 5, 6, 7, 1, 0] rfl)
                exact hL_2 (M_19, (ww_X M_19 32 x1), (0 : Int32)) hf _ _ _ hR hS (lv_sub hl [4, 5, 6, 7, 3, 1, 0] rfl)
              · replace hf := ww_ip hf c_14
                refine lv_aload_n hx hb dX3_merge_121 rfl (lv_at hl 0 rfl) ?_
                refine lv_iconst (v := (4 : Int32)) hx hb dX3_merge_122 (by decide) ?_
                obtain ⟨r_34, M_34, h_34, hf⟩ := ww_b2S hf
                refine t3c_refused X hl.1 hK hD hR hS (Nat.le_trans (Nat.le_of_ble_eq_true rfl) hF) (Nat.le_trans (Nat.le_of_ble_eq_true rfl) hLo) h_34 (Nat.le_of_ble_eq_true rfl) dX3_merge_123 (fun H locs hR hS => ?_)
                exact hend dX3_merge_126 rfl rfl hf hR hS
            · replace hf := ww_in hf c_12
              refine lv_aload_n hx hb dX3_merge_108 rfl (lv_at hl 0 rfl) ?_
              refine lv_iconst (v := (3 : Int32)) hx hb dX3_merge_109 (by decide) ?_
              obtain ⟨r_35, M_35, h_35, hf⟩ := ww_b2S hf
              refine t3c_refused X hl.1 hK hD hR hS (Nat.le_trans (Nat.le_of_ble_eq_true rfl) hF) (Nat.le_trans (Nat.le_of_ble_eq_true rfl) hLo) h_35 (Nat.le_of_ble_eq_true rfl) dX3_merge_110 (fun H locs hR hS => ?_)
              exact hend dX3_merge_113 rfl rfl hf hR hS
          · replace hf := ww_in hf c_11
            refine lv_iload hx hb dX3_merge_75 (lv_at hl 4 rfl) ?_
            refine lv_aload_n hx hb dX3_merge_77 rfl (lv_at hl 0 rfl) ?_
            refine t3g_45 X hK hR dX3_merge_78 ?_
            refine lv_iload hx hb dX3_merge_81 (lv_at hl 5 rfl) ?_
            obtain ⟨h_36, hf⟩ := ww_gS hf
            refine t3l_45 X hK hR h_36 dX3_merge_83 ?_
            refine lv_if_ne (tgt := 91) hx hb dX3_merge_84 (by decide) (fun c_37 => ?_) (fun c_37 => ?_)
            · replace hf := ww_in hf c_37
              refine lv_iconst (v := (1 : Int32)) hx hb dX3_merge_91 (by decide) ?_
              refine lv_iadd hx hb dX3_merge_92 ?_
              refine lv_istore (lv' := [(4, .int (x4 + (1 : Int32))), (0, .ref E.1), (1, .int x1), (2, .int x2), (3, .int x3), (5, .int x5)]) hx hb dX3_merge_93 hl (by decide) rfl (fun ls hl => ?_)
              refine lv_iinc (k := 5) (v := x5 + (1 : Int32)) (lv' := [(5, .int (x5 + (1 : Int32))), (4, .int (x4 + (1 : Int32))), (0, .ref E.1), (1, .int x1), (2, .int x2), (3, .int x3)]) hx hb dX3_merge_95 hl rfl rfl (by decide) rfl (fun ls hl => ?_)
              refine lv_goto (tgt := 67) hx hb dX3_merge_98 (by decide) ?_
              exact ww_lK hf hz_1 _ _ _ hR hS (lv_sub hl [2, 3, 4, 5, 1, 0] rfl)
            · replace hf := ww_ip hf c_37
              refine lv_iconst (v := (0 : Int32)) hx hb dX3_merge_87 (by decide) ?_
              refine lv_goto (tgt := 92) hx hb dX3_merge_88 (by decide) ?_
              refine lv_iadd hx hb dX3_merge_92 ?_
              refine lv_istore (lv' := [(4, .int (x4 + (0 : Int32))), (0, .ref E.1), (1, .int x1), (2, .int x2), (3, .int x3), (5, .int x5)]) hx hb dX3_merge_93 hl (by decide) rfl (fun ls hl => ?_)
              refine lv_iinc (k := 5) (v := x5 + (1 : Int32)) (lv' := [(5, .int (x5 + (1 : Int32))), (4, .int (x4 + (0 : Int32))), (0, .ref E.1), (1, .int x1), (2, .int x2), (3, .int x3)]) hx hb dX3_merge_95 hl rfl rfl (by decide) rfl (fun ls hl => ?_)
              refine lv_goto (tgt := 67) hx hb dX3_merge_98 (by decide) ?_
              exact ww_lK hf hz_1 _ _ _ hR hS (lv_sub hl [2, 3, 4, 5, 1, 0] rfl)
        exact hL_1 ((0 : Int32), (0 : Int32)) hf _ _ _ hR hS (lv_sub hl [2, 3, 4, 5, 1, 0] rfl)
      · replace hf := ww_ip hf c_7
        refine lv_aload_n hx hb dX3_merge_39 rfl (lv_at hl 0 rfl) ?_
        refine lv_iconst (v := (1 : Int32)) hx hb dX3_merge_40 (by decide) ?_
        obtain ⟨r_38, M_38, h_38, hf⟩ := ww_b2S hf
        refine t3c_refused X hl.1 hK hD hR hS (Nat.le_trans (Nat.le_of_ble_eq_true rfl) hF) (Nat.le_trans (Nat.le_of_ble_eq_true rfl) hLo) h_38 (Nat.le_of_ble_eq_true rfl) dX3_merge_41 (fun H locs hR hS => ?_)
        exact hend dX3_merge_44 rfl rfl hf hR hS
    · replace hf := ww_ip hf c_5
      refine lv_aload_n hx hb dX3_merge_21 rfl (lv_at hl 0 rfl) ?_
      refine lv_iconst (v := (0 : Int32)) hx hb dX3_merge_22 (by decide) ?_
      obtain ⟨r_39, M_39, h_39, hf⟩ := ww_b2S hf
      refine t3c_refused X hl.1 hK hD hR hS (Nat.le_trans (Nat.le_of_ble_eq_true rfl) hF) (Nat.le_trans (Nat.le_of_ble_eq_true rfl) hLo) h_39 (Nat.le_of_ble_eq_true rfl) dX3_merge_23 (fun H locs hR hS => ?_)
      exact hend dX3_merge_26 rfl rfl hf hR hS
noncomputable def f3_laysThree_b1c (y1 : Int32) (y2 : Int32) (y3 : Int32) (M_1 : ww_M) (x4 : Int32) : Option ((ww_M × Int32) ⊕ (ww_M)) :=
  if (999 : Int32) < x4 then ww_x (ww_g (ww_i y1 999) (ww_b (f3_laysThere M_1 (ww_X M_1 32 y1) (0 : Int32)) (fun M_4 => ww_g (ww_i y2 999) (ww_b (f3_laysThere M_4 (ww_X M_4 32 y2) (1 : Int32)) (fun M_6 => ww_g (ww_i y3 999) (ww_b (f3_laysThere M_6 (ww_X M_6 32 y3) (2 : Int32)) (fun M_8 => some M_8))))))) else ww_g (ww_i x4 1000) (some (.inl ((ww_sX M_1 45 x4 (0 : Int32)), (x4 + (1 : Int32)))))
noncomputable def f3_laysThree_b1 (y1 : Int32) (y2 : Int32) (y3 : Int32) : (ww_M × Int32) → Option ((ww_M × Int32) ⊕ (ww_M)) := fun s9 => f3_laysThree_b1c y1 y2 y3 s9.1 s9.2
noncomputable def f3_laysThree (M : ww_M) (x1 : Int32) (x2 : Int32) (x3 : Int32) : Option (ww_M) :=
  ww_U (f3_laysThree_b1 x1 x2 x3) (M, (0 : Int32))
section T3_laysThree_k
variable {p : Program} {l : Launch} {e : Env} {R : Room} {s : State} {m : MethodId} {args : Array Value} {below : List Frame} {meth : Method} {c : Code} {H : Heap} {locs : List Loc} {Q : State → Prop}
variable {cc : ByteArray} {pc : Nat} {ls : Array Slot} {rest : List Value} {nL : Nat} {E : ww_E} {A : Nat → Prop} {H0 : Heap}
theorem t3k_laysThree {M M' : ww_M} {x1 : Int32} {x2 : Int32} {x3 : Int32} (X : ww_C p m c cc nL s args RX3 lw_all) (hsz : ls.size = nL) (hK : t3_Kn E s) (hD : t3_D E) (hR : t3_H E M H) (hS : va_S (t3_A E) H0 H locs) (hF : 15 ≤ R.frames) (hLo : 343 ≤ R.locals) (hM : t3_MetV l yX3_laysThree cX3_laysThree 5 14 319 E [.int x1, .int x2, .int x3] M M') (hrest : (rest.map fun v => v.category).sum ≤ 8) (hdg : decode cc pc = .ok (.invokevirtual 371, 3)) (kk : ∀ (H1 : Heap) (locs1 : List Loc), t3_H E M' H1 → va_S (t3_A E) H0 H1 locs1 → W p l e R s m args below meth c H1 locs1 0 0 Q (F0 m (pc + 3) ls (rest))) : W p l e R s m args below meth c H locs 0 0 Q (F0 m pc ls (.int x3 :: .int x2 :: .int x1 :: .ref E.1 :: rest)) :=
  t3_callV (n := 3) X hsz hK hR hS (As := [.int x1, .int x2, .int x3]) hM (lw_V q2145 q2147 qs104 q135 q2148) (by decide +kernel) rfl hF hLo (Nat.zero_le _) (Nat.zero_le _) hrest hdg kk
end T3_laysThree_k
set_option maxHeartbeats 4000000 in
set_option maxRecDepth 100000 in
theorem met3_laysThree (l : Launch) {E : ww_E} (hD : t3_D E) (M : ww_M) (x1 : Int32) (x2 : Int32) (x3 : Int32) (M' : ww_M) (hf : f3_laysThree M x1 x2 x3 = some M') : t3_MetV l yX3_laysThree cX3_laysThree 5 14 319 E [.int x1, .int x2, .int x3] M M' := by
  unfold f3_laysThree at hf
  refine t3_startV (by decide +kernel) (Nat.le_of_ble_eq_true rfl) ?_
  intro p e s m args below meth c Rm Q X hK hF hLo hend ls hl hR hS
  obtain ⟨hx, hb, hml, hown, hts⟩ := id X
  replace hl : lv_has ls 5 [(0, .ref E.1), (1, .int x1), (2, .int x2), (3, .int x3)] := hl
  refine lv_iconst (v := (0 : Int32)) hx hb dX3_laysThree_0 (by decide) ?_
  refine lv_istore (lv' := [(4, .int (0 : Int32)), (0, .ref E.1), (1, .int x1), (2, .int x2), (3, .int x3)]) hx hb dX3_laysThree_1 hl (by decide) rfl (fun ls hl => ?_)
  have hL_1 : ∀ s9 : ww_M × Int32, ww_U (f3_laysThree_b1 x1 x2 x3) s9 = some M' → ∀ (H : Heap) (locs : List Loc) (ls : Array Slot), t3_H E s9.1 H → va_S (t3_A E) s.heap H locs → lv_has ls 5 [(0, .ref E.1), (1, .int x1), (2, .int x2), (3, .int x3), (4, .int s9.2)] → W p l e Rm s m args below meth c H locs 0 0 Q (F0 m 3 ls []) := by
    refine ww_ind _ M' ?_
    intro s9 z_1 hf hz_1 H locs ls hR hS hl
    obtain ⟨M_1, x4⟩ := s9
    replace hf : f3_laysThree_b1c x1 x2 x3 M_1 x4 = some z_1 := hf
    unfold f3_laysThree_b1c at hf
    replace hR : t3_H E M_1 H := hR
    replace hl : lv_has ls 5 [(0, .ref E.1), (1, .int x1), (2, .int x2), (3, .int x3), (4, .int x4)] := hl
    refine lv_iload hx hb dX3_laysThree_3 (lv_at hl 4 rfl) ?_
    refine lv_sipush (v := (999 : Int32)) hx hb dX3_laysThree_5 (by decide) ?_
    refine lv_icmp_gt (tgt := 25) hx hb dX3_laysThree_8 (by decide) (fun c_2 => ?_) (fun c_2 => ?_)
    · replace hf := ww_ip hf c_2
      replace hf := ww_xK hf hz_1
      refine lv_aload_n hx hb dX3_laysThree_25 rfl (lv_at hl 0 rfl) ?_
      refine lv_aload_n hx hb dX3_laysThree_26 rfl (lv_at hl 0 rfl) ?_
      refine t3g_32 X hK hR dX3_laysThree_27 ?_
      refine lv_iload_n hx hb dX3_laysThree_30 rfl (lv_at hl 1 rfl) ?_
      obtain ⟨h_3, hf⟩ := ww_gS hf
      refine t3l_32 X hK hR h_3 dX3_laysThree_31 ?_
      refine lv_iconst (v := (0 : Int32)) hx hb dX3_laysThree_32 (by decide) ?_
      obtain ⟨M_4, h_4, hf⟩ := ww_bS hf
      refine t3c_laysThere X hl.1 hK hD hR hS (Nat.le_trans (Nat.le_of_ble_eq_true rfl) hF) (Nat.le_trans (Nat.le_of_ble_eq_true rfl) hLo) h_4 (Nat.le_of_ble_eq_true rfl) dX3_laysThree_33 (fun H locs hR hS => ?_)
      refine lv_aload_n hx hb dX3_laysThree_36 rfl (lv_at hl 0 rfl) ?_
      refine lv_aload_n hx hb dX3_laysThree_37 rfl (lv_at hl 0 rfl) ?_
      refine t3g_32 X hK hR dX3_laysThree_38 ?_
      refine lv_iload_n hx hb dX3_laysThree_41 rfl (lv_at hl 2 rfl) ?_
      obtain ⟨h_5, hf⟩ := ww_gS hf
      refine t3l_32 X hK hR h_5 dX3_laysThree_42 ?_
      refine lv_iconst (v := (1 : Int32)) hx hb dX3_laysThree_43 (by decide) ?_
      obtain ⟨M_6, h_6, hf⟩ := ww_bS hf
      refine t3c_laysThere X hl.1 hK hD hR hS (Nat.le_trans (Nat.le_of_ble_eq_true rfl) hF) (Nat.le_trans (Nat.le_of_ble_eq_true rfl) hLo) h_6 (Nat.le_of_ble_eq_true rfl) dX3_laysThree_44 (fun H locs hR hS => ?_)
      refine lv_aload_n hx hb dX3_laysThree_47 rfl (lv_at hl 0 rfl) ?_
      refine lv_aload_n hx hb dX3_laysThree_48 rfl (lv_at hl 0 rfl) ?_
      refine t3g_32 X hK hR dX3_laysThree_49 ?_
      refine lv_iload_n hx hb dX3_laysThree_52 rfl (lv_at hl 3 rfl) ?_
      obtain ⟨h_7, hf⟩ := ww_gS hf
      refine t3l_32 X hK hR h_7 dX3_laysThree_53 ?_
      refine lv_iconst (v := (2 : Int32)) hx hb dX3_laysThree_54 (by decide) ?_
      obtain ⟨M_8, h_8, hf⟩ := ww_bS hf
      refine t3c_laysThere X hl.1 hK hD hR hS (Nat.le_trans (Nat.le_of_ble_eq_true rfl) hF) (Nat.le_trans (Nat.le_of_ble_eq_true rfl) hLo) h_8 (Nat.le_of_ble_eq_true rfl) dX3_laysThree_55 (fun H locs hR hS => ?_)
      exact hend dX3_laysThree_58 hf hR hS
    · replace hf := ww_in hf c_2
      refine lv_aload_n hx hb dX3_laysThree_11 rfl (lv_at hl 0 rfl) ?_
      refine t3g_45 X hK hR dX3_laysThree_12 ?_
      refine lv_iload hx hb dX3_laysThree_15 (lv_at hl 4 rfl) ?_
      refine lv_iconst (v := (0 : Int32)) hx hb dX3_laysThree_17 (by decide) ?_
      obtain ⟨h_9, hf⟩ := ww_gS hf
      refine t3s_45 X hK hD hR hS h_9 dX3_laysThree_18 (fun H locs hR hS => ?_)
      refine lv_iinc (k := 4) (v := x4 + (1 : Int32)) (lv' := [(4, .int (x4 + (1 : Int32))), (0, .ref E.1), (1, .int x1), (2, .int x2), (3, .int x3)]) hx hb dX3_laysThree_19 hl rfl rfl (by decide) rfl (fun ls hl => ?_)
      refine lv_goto (tgt := 3) hx hb dX3_laysThree_22 (by decide) ?_
      exact ww_lK hf hz_1 _ _ _ hR hS (lv_sub hl [1, 2, 3, 4, 0] rfl)
  exact hL_1 (M, (0 : Int32)) hf _ _ _ hR hS (lv_sub hl [1, 2, 3, 4, 0] rfl)
section T3_laysThree_c
variable {p : Program} {l : Launch} {e : Env} {R : Room} {s : State} {m : MethodId} {args : Array Value} {below : List Frame} {meth : Method} {c : Code} {H : Heap} {locs : List Loc} {Q : State → Prop}
variable {cc : ByteArray} {pc : Nat} {ls : Array Slot} {rest : List Value} {nL : Nat} {E : ww_E} {A : Nat → Prop} {H0 : Heap}
theorem t3c_laysThree {M M' : ww_M} {x1 : Int32} {x2 : Int32} {x3 : Int32} (X : ww_C p m c cc nL s args RX3 lw_all) (hsz : ls.size = nL) (hK : t3_Kn E s) (hD : t3_D E) (hR : t3_H E M H) (hS : va_S (t3_A E) H0 H locs) (hF : 15 ≤ R.frames) (hLo : 343 ≤ R.locals) (hf : f3_laysThree M x1 x2 x3 = some M') (hrest : (rest.map fun v => v.category).sum ≤ 8) (hdg : decode cc pc = .ok (.invokevirtual 371, 3)) (kk : ∀ (H1 : Heap) (locs1 : List Loc), t3_H E M' H1 → va_S (t3_A E) H0 H1 locs1 → W p l e R s m args below meth c H1 locs1 0 0 Q (F0 m (pc + 3) ls (rest))) : W p l e R s m args below meth c H locs 0 0 Q (F0 m pc ls (.int x3 :: .int x2 :: .int x1 :: .ref E.1 :: rest)) :=
  t3k_laysThree X hsz hK hD hR hS hF hLo (met3_laysThree l hD _ _ _ _ _ hf) hrest hdg kk
end T3_laysThree_c
noncomputable def f3_isUnlike (M : ww_M) (x1 : Int32) (x2 : Int32) (x3 : Int32) : Option (Int32) :=
  ww_g (ww_i x1 1000) (ww_b (f3_has (ww_X M 45 x1) x2) (fun r_2 => ww_g (ww_i x1 1000) (ww_b (f3_has (ww_X M 45 x1) x3) (fun r_4 => if r_2 = r_4 then ww_g (ww_i x1 1000) (ww_b (f3_has (ww_X M 45 x1) x2) (fun r_7 => if r_7 = 0 then some (0 : Int32) else ww_g (ww_i (((3 : Int32) * x1) + x2) 3000) (ww_g (ww_i (((3 : Int32) * x1) + x3) 3000) (if (ww_X M 46 (((3 : Int32) * x1) + x2)) = (ww_X M 46 (((3 : Int32) * x1) + x3)) then some (0 : Int32) else some (1 : Int32))))) else some (1 : Int32)))))
section T3_isUnlike_k
variable {p : Program} {l : Launch} {e : Env} {R : Room} {s : State} {m : MethodId} {args : Array Value} {below : List Frame} {meth : Method} {c : Code} {H : Heap} {locs : List Loc} {Q : State → Prop}
variable {cc : ByteArray} {pc : Nat} {ls : Array Slot} {rest : List Value} {nL : Nat} {E : ww_E} {A : Nat → Prop} {H0 : Heap}
theorem t3k_isUnlike {M : ww_M} {x1 : Int32} {x2 : Int32} {x3 : Int32} {r : Int32} (X : ww_C p m c cc nL s args RX3 lw_all) (hsz : ls.size = nL) (hK : t3_Kn E s) (hD : t3_D E) (hR : t3_H E M H) (hS : va_S (t3_A E) H0 H locs) (hF : 2 ≤ R.frames) (hLo : 44 ≤ R.locals) (hM : t3_Met l yX3_isUnlike cX3_isUnlike 4 (some Jvm.ClassFile.FieldType.boolean) 1 21 E [.int x1, .int x2, .int x3] M M r) (hrest : (rest.map fun v => v.category).sum ≤ 8) (hdg : decode cc pc = .ok (.invokevirtual 362, 3)) (kk : ∀ (H1 : Heap) (locs1 : List Loc), t3_H E M H1 → va_S (t3_A E) H0 H1 locs1 → W p l e R s m args below meth c H1 locs1 0 0 Q (F0 m (pc + 3) ls (.int r :: rest))) : W p l e R s m args below meth c H locs 0 0 Q (F0 m pc ls (.int x3 :: .int x2 :: .int x1 :: .ref E.1 :: rest)) :=
  t3_callI (n := 3) X hsz hK hR hS (As := [.int x1, .int x2, .int x3]) hM (lw_V q2153 q2155 qs106 q135 q2156) (by decide +kernel) rfl hF hLo (Nat.zero_le _) (Nat.zero_le _) hrest hdg kk
end T3_isUnlike_k
set_option maxHeartbeats 4000000 in
set_option maxRecDepth 100000 in
theorem met3_isUnlike (l : Launch) {E : ww_E} (hD : t3_D E) (M : ww_M) (x1 : Int32) (x2 : Int32) (x3 : Int32) (r : Int32) (hf : f3_isUnlike M x1 x2 x3 = some r) : t3_Met l yX3_isUnlike cX3_isUnlike 4 (some Jvm.ClassFile.FieldType.boolean) 1 21 E [.int x1, .int x2, .int x3] M M r := by
  unfold f3_isUnlike at hf
  refine t3_startP (by decide +kernel) (Nat.le_of_ble_eq_true rfl) ?_
  intro p e s m args below meth c Rm Q X hK hF hLo hend ls hl hR hS
  obtain ⟨hx, hb, hml, hown, hts⟩ := id X
  replace hl : lv_has ls 4 [(0, .ref E.1), (1, .int x1), (2, .int x2), (3, .int x3)] := hl
  refine lv_aload_n hx hb dX3_isUnlike_0 rfl (lv_at hl 0 rfl) ?_
  refine t3g_45 X hK hR dX3_isUnlike_1 ?_
  refine lv_iload_n hx hb dX3_isUnlike_4 rfl (lv_at hl 1 rfl) ?_
  obtain ⟨h_1, hf⟩ := ww_gS hf
  refine t3l_45 X hK hR h_1 dX3_isUnlike_5 ?_
  refine lv_iload_n hx hb dX3_isUnlike_6 rfl (lv_at hl 2 rfl) ?_
  obtain ⟨r_2, h_2, hf⟩ := ww_bS hf
  refine t3c_has X hl.1 (Nat.le_trans (Nat.le_of_ble_eq_true rfl) hF) (Nat.le_trans (Nat.le_of_ble_eq_true rfl) hLo) h_2 (Nat.le_of_ble_eq_true rfl) dX3_isUnlike_7 ?_
  refine lv_aload_n hx hb dX3_isUnlike_10 rfl (lv_at hl 0 rfl) ?_
  refine t3g_45 X hK hR dX3_isUnlike_11 ?_
  refine lv_iload_n hx hb dX3_isUnlike_14 rfl (lv_at hl 1 rfl) ?_
  obtain ⟨h_3, hf⟩ := ww_gS hf
  refine t3l_45 X hK hR h_3 dX3_isUnlike_15 ?_
  refine lv_iload_n hx hb dX3_isUnlike_16 rfl (lv_at hl 3 rfl) ?_
  obtain ⟨r_4, h_4, hf⟩ := ww_bS hf
  refine t3c_has X hl.1 (Nat.le_trans (Nat.le_of_ble_eq_true rfl) hF) (Nat.le_trans (Nat.le_of_ble_eq_true rfl) hLo) h_4 (Nat.le_of_ble_eq_true rfl) dX3_isUnlike_17 ?_
  refine lv_icmp_eq (tgt := 25) hx hb dX3_isUnlike_20 (by decide) (fun c_5 => ?_) (fun c_5 => ?_)
  · replace hf := ww_ip hf c_5
    refine lv_aload_n hx hb dX3_isUnlike_25 rfl (lv_at hl 0 rfl) ?_
    refine t3g_45 X hK hR dX3_isUnlike_26 ?_
    refine lv_iload_n hx hb dX3_isUnlike_29 rfl (lv_at hl 1 rfl) ?_
    obtain ⟨h_6, hf⟩ := ww_gS hf
    refine t3l_45 X hK hR h_6 dX3_isUnlike_30 ?_
    refine lv_iload_n hx hb dX3_isUnlike_31 rfl (lv_at hl 2 rfl) ?_
    obtain ⟨r_7, h_7, hf⟩ := ww_bS hf
    refine t3c_has X hl.1 (Nat.le_trans (Nat.le_of_ble_eq_true rfl) hF) (Nat.le_trans (Nat.le_of_ble_eq_true rfl) hLo) h_7 (Nat.le_of_ble_eq_true rfl) dX3_isUnlike_32 ?_
    refine lv_if_eq (tgt := 65) hx hb dX3_isUnlike_35 (by decide) (fun c_8 => ?_) (fun c_8 => ?_)
    · replace hf := ww_ip hf c_8
      refine lv_iconst (v := (0 : Int32)) hx hb dX3_isUnlike_65 (by decide) ?_
      exact hend dX3_isUnlike_66 rfl (by decide) hf hR hS
    · replace hf := ww_in hf c_8
      refine lv_aload_n hx hb dX3_isUnlike_38 rfl (lv_at hl 0 rfl) ?_
      refine t3g_46 X hK hR dX3_isUnlike_39 ?_
      refine lv_iconst (v := (3 : Int32)) hx hb dX3_isUnlike_42 (by decide) ?_
      refine lv_iload_n hx hb dX3_isUnlike_43 rfl (lv_at hl 1 rfl) ?_
      refine lv_imul hx hb dX3_isUnlike_44 ?_
      refine lv_iload_n hx hb dX3_isUnlike_45 rfl (lv_at hl 2 rfl) ?_
      refine lv_iadd hx hb dX3_isUnlike_46 ?_
      obtain ⟨h_9, hf⟩ := ww_gS hf
      refine t3l_46 X hK hR h_9 dX3_isUnlike_47 ?_
      refine lv_aload_n hx hb dX3_isUnlike_48 rfl (lv_at hl 0 rfl) ?_
      refine t3g_46 X hK hR dX3_isUnlike_49 ?_
      refine lv_iconst (v := (3 : Int32)) hx hb dX3_isUnlike_52 (by decide) ?_
      refine lv_iload_n hx hb dX3_isUnlike_53 rfl (lv_at hl 1 rfl) ?_
      refine lv_imul hx hb dX3_isUnlike_54 ?_
      refine lv_iload_n hx hb dX3_isUnlike_55 rfl (lv_at hl 3 rfl) ?_
      refine lv_iadd hx hb dX3_isUnlike_56 ?_
      obtain ⟨h_10, hf⟩ := ww_gS hf
      refine t3l_46 X hK hR h_10 dX3_isUnlike_57 ?_
      refine lv_icmp_eq (tgt := 65) hx hb dX3_isUnlike_58 (by decide) (fun c_11 => ?_) (fun c_11 => ?_)
      · replace hf := ww_ip hf c_11
        refine lv_iconst (v := (0 : Int32)) hx hb dX3_isUnlike_65 (by decide) ?_
        exact hend dX3_isUnlike_66 rfl (by decide) hf hR hS
      · replace hf := ww_in hf c_11
        refine lv_iconst (v := (1 : Int32)) hx hb dX3_isUnlike_61 (by decide) ?_
        refine lv_goto (tgt := 66) hx hb dX3_isUnlike_62 (by decide) ?_
        exact hend dX3_isUnlike_66 rfl (by decide) hf hR hS
  · replace hf := ww_in hf c_5
    refine lv_iconst (v := (1 : Int32)) hx hb dX3_isUnlike_23 (by decide) ?_
    exact hend dX3_isUnlike_24 rfl (by decide) hf hR hS
section T3_isUnlike_c
variable {p : Program} {l : Launch} {e : Env} {R : Room} {s : State} {m : MethodId} {args : Array Value} {below : List Frame} {meth : Method} {c : Code} {H : Heap} {locs : List Loc} {Q : State → Prop}
variable {cc : ByteArray} {pc : Nat} {ls : Array Slot} {rest : List Value} {nL : Nat} {E : ww_E} {A : Nat → Prop} {H0 : Heap}
theorem t3c_isUnlike {M : ww_M} {x1 : Int32} {x2 : Int32} {x3 : Int32} {r : Int32} (X : ww_C p m c cc nL s args RX3 lw_all) (hsz : ls.size = nL) (hK : t3_Kn E s) (hD : t3_D E) (hR : t3_H E M H) (hS : va_S (t3_A E) H0 H locs) (hF : 2 ≤ R.frames) (hLo : 44 ≤ R.locals) (hf : f3_isUnlike M x1 x2 x3 = some r) (hrest : (rest.map fun v => v.category).sum ≤ 8) (hdg : decode cc pc = .ok (.invokevirtual 362, 3)) (kk : ∀ (H1 : Heap) (locs1 : List Loc), t3_H E M H1 → va_S (t3_A E) H0 H1 locs1 → W p l e R s m args below meth c H1 locs1 0 0 Q (F0 m (pc + 3) ls (.int r :: rest))) : W p l e R s m args below meth c H locs 0 0 Q (F0 m pc ls (.int x3 :: .int x2 :: .int x1 :: .ref E.1 :: rest)) :=
  t3k_isUnlike X hsz hK hD hR hS hF hLo (met3_isUnlike l hD _ _ _ _ _ hf) hrest hdg kk
end T3_isUnlike_c
noncomputable def f3_isConflict (M : ww_M) (x1 : Int32) : Option (Int32) :=
  ww_b (f3_isUnlike M x1 (2 : Int32) (0 : Int32)) (fun r_1 => if r_1 = 0 then some (0 : Int32) else ww_b (f3_isUnlike M x1 (2 : Int32) (1 : Int32)) (fun r_3 => if r_3 = 0 then some (0 : Int32) else ww_b (f3_isUnlike M x1 (1 : Int32) (0 : Int32)) (fun r_5 => if r_5 = 0 then some (0 : Int32) else some (1 : Int32))))
section T3_isConflict_k
variable {p : Program} {l : Launch} {e : Env} {R : Room} {s : State} {m : MethodId} {args : Array Value} {below : List Frame} {meth : Method} {c : Code} {H : Heap} {locs : List Loc} {Q : State → Prop}
variable {cc : ByteArray} {pc : Nat} {ls : Array Slot} {rest : List Value} {nL : Nat} {E : ww_E} {A : Nat → Prop} {H0 : Heap}
theorem t3k_isConflict {M : ww_M} {x1 : Int32} {r : Int32} (X : ww_C p m c cc nL s args RX3 lw_all) (hsz : ls.size = nL) (hK : t3_Kn E s) (hD : t3_D E) (hR : t3_H E M H) (hS : va_S (t3_A E) H0 H locs) (hF : 3 ≤ R.frames) (hLo : 65 ≤ R.locals) (hM : t3_Met l yX3_isConflict cX3_isConflict 2 (some Jvm.ClassFile.FieldType.boolean) 2 44 E [.int x1] M M r) (hrest : (rest.map fun v => v.category).sum ≤ 8) (hdg : decode cc pc = .ok (.invokevirtual 366, 3)) (kk : ∀ (H1 : Heap) (locs1 : List Loc), t3_H E M H1 → va_S (t3_A E) H0 H1 locs1 → W p l e R s m args below meth c H1 locs1 0 0 Q (F0 m (pc + 3) ls (.int r :: rest))) : W p l e R s m args below meth c H locs 0 0 Q (F0 m pc ls (.int x1 :: .ref E.1 :: rest)) :=
  t3_callI (n := 1) X hsz hK hR hS (As := [.int x1]) hM (lw_V q2157 q2159 qs107 q135 q2160) (by decide +kernel) rfl hF hLo (Nat.zero_le _) (Nat.zero_le _) hrest hdg kk
end T3_isConflict_k
set_option maxHeartbeats 4000000 in
set_option maxRecDepth 100000 in
theorem met3_isConflict (l : Launch) {E : ww_E} (hD : t3_D E) (M : ww_M) (x1 : Int32) (r : Int32) (hf : f3_isConflict M x1 = some r) : t3_Met l yX3_isConflict cX3_isConflict 2 (some Jvm.ClassFile.FieldType.boolean) 2 44 E [.int x1] M M r := by
  unfold f3_isConflict at hf
  refine t3_startP (by decide +kernel) (Nat.le_of_ble_eq_true rfl) ?_
  intro p e s m args below meth c Rm Q X hK hF hLo hend ls hl hR hS
  obtain ⟨hx, hb, hml, hown, hts⟩ := id X
  replace hl : lv_has ls 2 [(0, .ref E.1), (1, .int x1)] := hl
  refine lv_aload_n hx hb dX3_isConflict_0 rfl (lv_at hl 0 rfl) ?_
  refine lv_iload_n hx hb dX3_isConflict_1 rfl (lv_at hl 1 rfl) ?_
  refine lv_iconst (v := (2 : Int32)) hx hb dX3_isConflict_2 (by decide) ?_
  refine lv_iconst (v := (0 : Int32)) hx hb dX3_isConflict_3 (by decide) ?_
  obtain ⟨r_1, h_1, hf⟩ := ww_bS hf
  refine t3c_isUnlike X hl.1 hK hD hR hS (Nat.le_trans (Nat.le_of_ble_eq_true rfl) hF) (Nat.le_trans (Nat.le_of_ble_eq_true rfl) hLo) h_1 (Nat.le_of_ble_eq_true rfl) dX3_isConflict_4 (fun H locs hR hS => ?_)
  refine lv_if_eq (tgt := 34) hx hb dX3_isConflict_7 (by decide) (fun c_2 => ?_) (fun c_2 => ?_)
  · replace hf := ww_ip hf c_2
    refine lv_iconst (v := (0 : Int32)) hx hb dX3_isConflict_34 (by decide) ?_
    exact hend dX3_isConflict_35 rfl (by decide) hf hR hS
  · replace hf := ww_in hf c_2
    refine lv_aload_n hx hb dX3_isConflict_10 rfl (lv_at hl 0 rfl) ?_
    refine lv_iload_n hx hb dX3_isConflict_11 rfl (lv_at hl 1 rfl) ?_
    refine lv_iconst (v := (2 : Int32)) hx hb dX3_isConflict_12 (by decide) ?_
    refine lv_iconst (v := (1 : Int32)) hx hb dX3_isConflict_13 (by decide) ?_
    obtain ⟨r_3, h_3, hf⟩ := ww_bS hf
    refine t3c_isUnlike X hl.1 hK hD hR hS (Nat.le_trans (Nat.le_of_ble_eq_true rfl) hF) (Nat.le_trans (Nat.le_of_ble_eq_true rfl) hLo) h_3 (Nat.le_of_ble_eq_true rfl) dX3_isConflict_14 (fun H locs hR hS => ?_)
    refine lv_if_eq (tgt := 34) hx hb dX3_isConflict_17 (by decide) (fun c_4 => ?_) (fun c_4 => ?_)
    · replace hf := ww_ip hf c_4
      refine lv_iconst (v := (0 : Int32)) hx hb dX3_isConflict_34 (by decide) ?_
      exact hend dX3_isConflict_35 rfl (by decide) hf hR hS
    · replace hf := ww_in hf c_4
      refine lv_aload_n hx hb dX3_isConflict_20 rfl (lv_at hl 0 rfl) ?_
      refine lv_iload_n hx hb dX3_isConflict_21 rfl (lv_at hl 1 rfl) ?_
      refine lv_iconst (v := (1 : Int32)) hx hb dX3_isConflict_22 (by decide) ?_
      refine lv_iconst (v := (0 : Int32)) hx hb dX3_isConflict_23 (by decide) ?_
      obtain ⟨r_5, h_5, hf⟩ := ww_bS hf
      refine t3c_isUnlike X hl.1 hK hD hR hS (Nat.le_trans (Nat.le_of_ble_eq_true rfl) hF) (Nat.le_trans (Nat.le_of_ble_eq_true rfl) hLo) h_5 (Nat.le_of_ble_eq_true rfl) dX3_isConflict_24 (fun H locs hR hS => ?_)
      refine lv_if_eq (tgt := 34) hx hb dX3_isConflict_27 (by decide) (fun c_6 => ?_) (fun c_6 => ?_)
      · replace hf := ww_ip hf c_6
        refine lv_iconst (v := (0 : Int32)) hx hb dX3_isConflict_34 (by decide) ?_
        exact hend dX3_isConflict_35 rfl (by decide) hf hR hS
      · replace hf := ww_in hf c_6
        refine lv_iconst (v := (1 : Int32)) hx hb dX3_isConflict_30 (by decide) ?_
        refine lv_goto (tgt := 35) hx hb dX3_isConflict_31 (by decide) ?_
        exact hend dX3_isConflict_35 rfl (by decide) hf hR hS
section T3_isConflict_c
variable {p : Program} {l : Launch} {e : Env} {R : Room} {s : State} {m : MethodId} {args : Array Value} {below : List Frame} {meth : Method} {c : Code} {H : Heap} {locs : List Loc} {Q : State → Prop}
variable {cc : ByteArray} {pc : Nat} {ls : Array Slot} {rest : List Value} {nL : Nat} {E : ww_E} {A : Nat → Prop} {H0 : Heap}
theorem t3c_isConflict {M : ww_M} {x1 : Int32} {r : Int32} (X : ww_C p m c cc nL s args RX3 lw_all) (hsz : ls.size = nL) (hK : t3_Kn E s) (hD : t3_D E) (hR : t3_H E M H) (hS : va_S (t3_A E) H0 H locs) (hF : 3 ≤ R.frames) (hLo : 65 ≤ R.locals) (hf : f3_isConflict M x1 = some r) (hrest : (rest.map fun v => v.category).sum ≤ 8) (hdg : decode cc pc = .ok (.invokevirtual 366, 3)) (kk : ∀ (H1 : Heap) (locs1 : List Loc), t3_H E M H1 → va_S (t3_A E) H0 H1 locs1 → W p l e R s m args below meth c H1 locs1 0 0 Q (F0 m (pc + 3) ls (.int r :: rest))) : W p l e R s m args below meth c H locs 0 0 Q (F0 m pc ls (.int x1 :: .ref E.1 :: rest)) :=
  t3k_isConflict X hsz hK hD hR hS hF hLo (met3_isConflict l hD _ _ _ hf) hrest hdg kk
end T3_isConflict_c
noncomputable def f3_asWhich (M : ww_M) (x1 : Int32) (x2 : Int32) : Option (Int32) :=
  ww_b (f3_isUnlike M x1 (2 : Int32) (0 : Int32)) (fun r_1 => if r_1 = 0 then some (1 : Int32) else ww_b (f3_isUnlike M x1 (2 : Int32) (1 : Int32)) (fun r_3 => if r_3 = 0 then some (1 : Int32) else ww_b (f3_isConflict M x1) (fun r_5 => if r_5 = 0 then some (2 : Int32) else if x2 = 0 then some (1 : Int32) else if x2 = (1 : Int32) then some (2 : Int32) else some (0 : Int32))))
section T3_asWhich_k
variable {p : Program} {l : Launch} {e : Env} {R : Room} {s : State} {m : MethodId} {args : Array Value} {below : List Frame} {meth : Method} {c : Code} {H : Heap} {locs : List Loc} {Q : State → Prop}
variable {cc : ByteArray} {pc : Nat} {ls : Array Slot} {rest : List Value} {nL : Nat} {E : ww_E} {A : Nat → Prop} {H0 : Heap}
theorem t3k_asWhich {M : ww_M} {x1 : Int32} {x2 : Int32} {r : Int32} (X : ww_C p m c cc nL s args RX3 lw_all) (hsz : ls.size = nL) (hK : t3_Kn E s) (hD : t3_D E) (hR : t3_H E M H) (hS : va_S (t3_A E) H0 H locs) (hF : 4 ≤ R.frames) (hLo : 87 ≤ R.locals) (hM : t3_Met l yX3_asWhich cX3_asWhich 3 (some Jvm.ClassFile.FieldType.int) 3 65 E [.int x1, .int x2] M M r) (hrest : (rest.map fun v => v.category).sum ≤ 8) (hdg : decode cc pc = .ok (.invokevirtual 374, 3)) (kk : ∀ (H1 : Heap) (locs1 : List Loc), t3_H E M H1 → va_S (t3_A E) H0 H1 locs1 → W p l e R s m args below meth c H1 locs1 0 0 Q (F0 m (pc + 3) ls (.int r :: rest))) : W p l e R s m args below meth c H locs 0 0 Q (F0 m pc ls (.int x2 :: .int x1 :: .ref E.1 :: rest)) :=
  t3_callI (n := 2) X hsz hK hR hS (As := [.int x1, .int x2]) hM (lw_V q2149 q2151 qs105 q135 q2152) (by decide +kernel) rfl hF hLo (Nat.zero_le _) (Nat.zero_le _) hrest hdg kk
end T3_asWhich_k
set_option maxHeartbeats 4000000 in
set_option maxRecDepth 100000 in
theorem met3_asWhich (l : Launch) {E : ww_E} (hD : t3_D E) (M : ww_M) (x1 : Int32) (x2 : Int32) (r : Int32) (hf : f3_asWhich M x1 x2 = some r) : t3_Met l yX3_asWhich cX3_asWhich 3 (some Jvm.ClassFile.FieldType.int) 3 65 E [.int x1, .int x2] M M r := by
  unfold f3_asWhich at hf
  refine t3_startP (by decide +kernel) (Nat.le_of_ble_eq_true rfl) ?_
  intro p e s m args below meth c Rm Q X hK hF hLo hend ls hl hR hS
  obtain ⟨hx, hb, hml, hown, hts⟩ := id X
  replace hl : lv_has ls 3 [(0, .ref E.1), (1, .int x1), (2, .int x2)] := hl
  refine lv_aload_n hx hb dX3_asWhich_0 rfl (lv_at hl 0 rfl) ?_
  refine lv_iload_n hx hb dX3_asWhich_1 rfl (lv_at hl 1 rfl) ?_
  refine lv_iconst (v := (2 : Int32)) hx hb dX3_asWhich_2 (by decide) ?_
  refine lv_iconst (v := (0 : Int32)) hx hb dX3_asWhich_3 (by decide) ?_
  obtain ⟨r_1, h_1, hf⟩ := ww_bS hf
  refine t3c_isUnlike X hl.1 hK hD hR hS (Nat.le_trans (Nat.le_of_ble_eq_true rfl) hF) (Nat.le_trans (Nat.le_of_ble_eq_true rfl) hLo) h_1 (Nat.le_of_ble_eq_true rfl) dX3_asWhich_4 (fun H locs hR hS => ?_)
  refine lv_if_eq (tgt := 20) hx hb dX3_asWhich_7 (by decide) (fun c_2 => ?_) (fun c_2 => ?_)
  · replace hf := ww_ip hf c_2
    refine lv_iconst (v := (1 : Int32)) hx hb dX3_asWhich_20 (by decide) ?_
    exact hend dX3_asWhich_21 rfl rfl hf hR hS
  · replace hf := ww_in hf c_2
    refine lv_aload_n hx hb dX3_asWhich_10 rfl (lv_at hl 0 rfl) ?_
    refine lv_iload_n hx hb dX3_asWhich_11 rfl (lv_at hl 1 rfl) ?_
    refine lv_iconst (v := (2 : Int32)) hx hb dX3_asWhich_12 (by decide) ?_
    refine lv_iconst (v := (1 : Int32)) hx hb dX3_asWhich_13 (by decide) ?_
    obtain ⟨r_3, h_3, hf⟩ := ww_bS hf
    refine t3c_isUnlike X hl.1 hK hD hR hS (Nat.le_trans (Nat.le_of_ble_eq_true rfl) hF) (Nat.le_trans (Nat.le_of_ble_eq_true rfl) hLo) h_3 (Nat.le_of_ble_eq_true rfl) dX3_asWhich_14 (fun H locs hR hS => ?_)
    refine lv_if_ne (tgt := 22) hx hb dX3_asWhich_17 (by decide) (fun c_4 => ?_) (fun c_4 => ?_)
    · replace hf := ww_in hf c_4
      refine lv_aload_n hx hb dX3_asWhich_22 rfl (lv_at hl 0 rfl) ?_
      refine lv_iload_n hx hb dX3_asWhich_23 rfl (lv_at hl 1 rfl) ?_
      obtain ⟨r_5, h_5, hf⟩ := ww_bS hf
      refine t3c_isConflict X hl.1 hK hD hR hS (Nat.le_trans (Nat.le_of_ble_eq_true rfl) hF) (Nat.le_trans (Nat.le_of_ble_eq_true rfl) hLo) h_5 (Nat.le_of_ble_eq_true rfl) dX3_asWhich_24 (fun H locs hR hS => ?_)
      refine lv_if_ne (tgt := 32) hx hb dX3_asWhich_27 (by decide) (fun c_6 => ?_) (fun c_6 => ?_)
      · replace hf := ww_in hf c_6
        refine lv_iload_n hx hb dX3_asWhich_32 rfl (lv_at hl 2 rfl) ?_
        refine lv_if_ne (tgt := 40) hx hb dX3_asWhich_33 (by decide) (fun c_7 => ?_) (fun c_7 => ?_)
        · replace hf := ww_in hf c_7
          refine lv_iload_n hx hb dX3_asWhich_40 rfl (lv_at hl 2 rfl) ?_
          refine lv_iconst (v := (1 : Int32)) hx hb dX3_asWhich_41 (by decide) ?_
          refine lv_icmp_ne (tgt := 49) hx hb dX3_asWhich_42 (by decide) (fun c_8 => ?_) (fun c_8 => ?_)
          · replace hf := ww_in hf c_8
            refine lv_iconst (v := (0 : Int32)) hx hb dX3_asWhich_49 (by decide) ?_
            exact hend dX3_asWhich_50 rfl rfl hf hR hS
          · replace hf := ww_ip hf c_8
            refine lv_iconst (v := (2 : Int32)) hx hb dX3_asWhich_45 (by decide) ?_
            refine lv_goto (tgt := 50) hx hb dX3_asWhich_46 (by decide) ?_
            exact hend dX3_asWhich_50 rfl rfl hf hR hS
        · replace hf := ww_ip hf c_7
          refine lv_iconst (v := (1 : Int32)) hx hb dX3_asWhich_36 (by decide) ?_
          refine lv_goto (tgt := 50) hx hb dX3_asWhich_37 (by decide) ?_
          exact hend dX3_asWhich_50 rfl rfl hf hR hS
      · replace hf := ww_ip hf c_6
        refine lv_iconst (v := (2 : Int32)) hx hb dX3_asWhich_30 (by decide) ?_
        exact hend dX3_asWhich_31 rfl rfl hf hR hS
    · replace hf := ww_ip hf c_4
      refine lv_iconst (v := (1 : Int32)) hx hb dX3_asWhich_20 (by decide) ?_
      exact hend dX3_asWhich_21 rfl rfl hf hR hS
section T3_asWhich_c
variable {p : Program} {l : Launch} {e : Env} {R : Room} {s : State} {m : MethodId} {args : Array Value} {below : List Frame} {meth : Method} {c : Code} {H : Heap} {locs : List Loc} {Q : State → Prop}
variable {cc : ByteArray} {pc : Nat} {ls : Array Slot} {rest : List Value} {nL : Nat} {E : ww_E} {A : Nat → Prop} {H0 : Heap}
theorem t3c_asWhich {M : ww_M} {x1 : Int32} {x2 : Int32} {r : Int32} (X : ww_C p m c cc nL s args RX3 lw_all) (hsz : ls.size = nL) (hK : t3_Kn E s) (hD : t3_D E) (hR : t3_H E M H) (hS : va_S (t3_A E) H0 H locs) (hF : 4 ≤ R.frames) (hLo : 87 ≤ R.locals) (hf : f3_asWhich M x1 x2 = some r) (hrest : (rest.map fun v => v.category).sum ≤ 8) (hdg : decode cc pc = .ok (.invokevirtual 374, 3)) (kk : ∀ (H1 : Heap) (locs1 : List Loc), t3_H E M H1 → va_S (t3_A E) H0 H1 locs1 → W p l e R s m args below meth c H1 locs1 0 0 Q (F0 m (pc + 3) ls (.int r :: rest))) : W p l e R s m args below meth c H locs 0 0 Q (F0 m pc ls (.int x2 :: .int x1 :: .ref E.1 :: rest)) :=
  t3k_asWhich X hsz hK hD hR hS hF hLo (met3_asWhich l hD _ _ _ _ hf) hrest hdg kk
end T3_asWhich_c
noncomputable def f3_three_b2c (y2 : Int32) (y3 : Int32) (y4 : Int32) (y6 : Int32) (M_18 : ww_M) (x7 : Int32) (x8 : Int32) : Option ((ww_M × Int32 × Int32) ⊕ (Int32 × ww_M)) :=
  if (999 : Int32) < x8 then ww_x (ww_b2 (f3_newMap M_18 x7 y2 y3) (fun r_20 M_20 => some (r_20, M_20))) else ww_b (f3_asWhich M_18 x8 y4) (fun r_21 => if r_21 = (1 : Int32) then some (.inl (M_18, x7, (x8 + (1 : Int32)))) else ww_g (ww_i x8 1000) (ww_b (f3_has (ww_X M_18 45 x8) r_21) (fun r_24 => if r_24 = 0 then ww_b2 (f3_takes M_18 x7 x8 y6) (fun r_26 M_26 => some (.inl (M_26, r_26, (x8 + (1 : Int32))))) else ww_g (ww_i (((3 : Int32) * x8) + r_21) 3000) (ww_b2 (f3_puts M_18 x7 x8 (ww_X M_18 46 (((3 : Int32) * x8) + r_21)) y6) (fun r_28 M_28 => some (.inl (M_28, r_28, (x8 + (1 : Int32)))))))))
noncomputable def f3_three_b2 (y2 : Int32) (y3 : Int32) (y4 : Int32) (y6 : Int32) : (ww_M × Int32 × Int32) → Option ((ww_M × Int32 × Int32) ⊕ (Int32 × ww_M)) := fun s9 => f3_three_b2c y2 y3 y4 y6 s9.1 s9.2.1 s9.2.2
noncomputable def f3_three_b1c (M : ww_M) (y2 : Int32) (y3 : Int32) (y4 : Int32) (x5 : Int32) (x6 : Int32) : Option ((Int32 × Int32) ⊕ (Int32 × ww_M)) :=
  if (999 : Int32) < x6 then ww_x (if x5 ≤ (60 : Int32) then ww_b (f3_hasRoom M) (fun r_14 => if r_14 = 0 then ww_b2 (f3_refused M (4 : Int32)) (fun r_29 M_29 => some (r_29, M_29)) else ww_b2 (f3_newToken M) (fun r_16 M_16 => ww_g (ww_i y2 999) (ww_U (f3_three_b2 y2 y3 y4 r_16) (M_16, (ww_X M_16 32 y2), (0 : Int32))))) else ww_b2 (f3_refused M (3 : Int32)) (fun r_30 M_30 => some (r_30, M_30))) else ww_g (ww_i x6 1000) (ww_b (f3_asWhich M x6 y4) (fun r_32 => ww_b (f3_has (ww_X M 45 x6) r_32) (fun r_33 => if r_33 = 0 then some (.inl ((x5 + (0 : Int32)), (x6 + (1 : Int32)))) else some (.inl ((x5 + (1 : Int32)), (x6 + (1 : Int32)))))))
noncomputable def f3_three_b1 (M : ww_M) (y2 : Int32) (y3 : Int32) (y4 : Int32) : (Int32 × Int32) → Option ((Int32 × Int32) ⊕ (Int32 × ww_M)) := fun s9 => f3_three_b1c M y2 y3 y4 s9.1 s9.2
noncomputable def f3_three (M : ww_M) (x1 : Int32) (x2 : Int32) (x3 : Int32) (x4 : Int32) : Option (Int32 × ww_M) :=
  ww_b (f3_isMap (ww_sF M 0 (0 : Int32)) x1) (fun r_1 => if r_1 = 0 then ww_b2 (f3_refused (ww_sF M 0 (0 : Int32)) (0 : Int32)) (fun r_3 M_3 => some (r_3, M_3)) else ww_b (f3_isMap (ww_sF M 0 (0 : Int32)) x2) (fun r_4 => if r_4 = 0 then ww_b2 (f3_refused (ww_sF M 0 (0 : Int32)) (0 : Int32)) (fun r_6 M_6 => some (r_6, M_6)) else ww_b (f3_isMap (ww_sF M 0 (0 : Int32)) x3) (fun r_7 => if r_7 = 0 then ww_b2 (f3_refused (ww_sF M 0 (0 : Int32)) (0 : Int32)) (fun r_36 M_36 => some (r_36, M_36)) else ww_b (f3_isIn x4.toInt64 (0 : Int64) (2 : Int64)) (fun r_9 => if r_9 = 0 then ww_b2 (f3_refused (ww_sF M 0 (0 : Int32)) (1 : Int32)) (fun r_35 M_35 => some (r_35, M_35)) else ww_b (f3_laysThree (ww_sF M 0 (0 : Int32)) x1 x2 x3) (fun M_11 => ww_U (f3_three_b1 M_11 x2 x3 x4) ((0 : Int32), (0 : Int32)))))))
set_option maxHeartbeats 4000000 in
set_option maxRecDepth 100000 in
theorem met3_three (l : Launch) {E : ww_E} (hD : t3_D E) (M : ww_M) (x1 : Int32) (x2 : Int32) (x3 : Int32) (x4 : Int32) (r : Int32) (M' : ww_M) (hf : f3_three M x1 x2 x3 x4 = some (r, M')) : t3_Met l yX3_three cX3_three 10 (some Jvm.ClassFile.FieldType.int) 15 343 E [.int x1, .int x2, .int x3, .int x4] M M' r := by
  unfold f3_three at hf
  refine t3_start (by decide +kernel) (Nat.le_of_ble_eq_true rfl) ?_
  intro p e s m args below meth c Rm Q X hK hF hLo hend ls hl hR hS
  obtain ⟨hx, hb, hml, hown, hts⟩ := id X
  replace hl : lv_has ls 10 [(0, .ref E.1), (1, .int x1), (2, .int x2), (3, .int x3), (4, .int x4)] := hl
  refine lv_aload_n hx hb dX3_three_0 rfl (lv_at hl 0 rfl) ?_
  refine lv_iconst (v := (0 : Int32)) hx hb dX3_three_1 (by decide) ?_
  refine t3p_0 X hK hD hR hS dX3_three_2 (fun H locs hR hS => ?_)
  refine lv_aload_n hx hb dX3_three_5 rfl (lv_at hl 0 rfl) ?_
  refine lv_iload_n hx hb dX3_three_6 rfl (lv_at hl 1 rfl) ?_
  obtain ⟨r_1, h_1, hf⟩ := ww_bS hf
  refine t3c_isMap X hl.1 hK hD hR hS (Nat.le_trans (Nat.le_of_ble_eq_true rfl) hF) (Nat.le_trans (Nat.le_of_ble_eq_true rfl) hLo) h_1 (Nat.le_of_ble_eq_true rfl) dX3_three_7 (fun H locs hR hS => ?_)
  refine lv_if_eq (tgt := 29) hx hb dX3_three_10 (by decide) (fun c_2 => ?_) (fun c_2 => ?_)
  · replace hf := ww_ip hf c_2
    refine lv_aload_n hx hb dX3_three_29 rfl (lv_at hl 0 rfl) ?_
    refine lv_iconst (v := (0 : Int32)) hx hb dX3_three_30 (by decide) ?_
    obtain ⟨r_3, M_3, h_3, hf⟩ := ww_b2S hf
    refine t3c_refused X hl.1 hK hD hR hS (Nat.le_trans (Nat.le_of_ble_eq_true rfl) hF) (Nat.le_trans (Nat.le_of_ble_eq_true rfl) hLo) h_3 (Nat.le_of_ble_eq_true rfl) dX3_three_31 (fun H locs hR hS => ?_)
    exact hend dX3_three_34 rfl rfl hf hR hS
  · replace hf := ww_in hf c_2
    refine lv_aload_n hx hb dX3_three_13 rfl (lv_at hl 0 rfl) ?_
    refine lv_iload_n hx hb dX3_three_14 rfl (lv_at hl 2 rfl) ?_
    obtain ⟨r_4, h_4, hf⟩ := ww_bS hf
    refine t3c_isMap X hl.1 hK hD hR hS (Nat.le_trans (Nat.le_of_ble_eq_true rfl) hF) (Nat.le_trans (Nat.le_of_ble_eq_true rfl) hLo) h_4 (Nat.le_of_ble_eq_true rfl) dX3_three_15 (fun H locs hR hS => ?_)
    refine lv_if_eq (tgt := 29) hx hb dX3_three_18 (by decide) (fun c_5 => ?_) (fun c_5 => ?_)
    · replace hf := ww_ip hf c_5
      refine lv_aload_n hx hb dX3_three_29 rfl (lv_at hl 0 rfl) ?_
      refine lv_iconst (v := (0 : Int32)) hx hb dX3_three_30 (by decide) ?_
      obtain ⟨r_6, M_6, h_6, hf⟩ := ww_b2S hf
      refine t3c_refused X hl.1 hK hD hR hS (Nat.le_trans (Nat.le_of_ble_eq_true rfl) hF) (Nat.le_trans (Nat.le_of_ble_eq_true rfl) hLo) h_6 (Nat.le_of_ble_eq_true rfl) dX3_three_31 (fun H locs hR hS => ?_)
      exact hend dX3_three_34 rfl rfl hf hR hS
    · replace hf := ww_in hf c_5
      refine lv_aload_n hx hb dX3_three_21 rfl (lv_at hl 0 rfl) ?_
      refine lv_iload_n hx hb dX3_three_22 rfl (lv_at hl 3 rfl) ?_
      obtain ⟨r_7, h_7, hf⟩ := ww_bS hf
      refine t3c_isMap X hl.1 hK hD hR hS (Nat.le_trans (Nat.le_of_ble_eq_true rfl) hF) (Nat.le_trans (Nat.le_of_ble_eq_true rfl) hLo) h_7 (Nat.le_of_ble_eq_true rfl) dX3_three_23 (fun H locs hR hS => ?_)
      refine lv_if_ne (tgt := 35) hx hb dX3_three_26 (by decide) (fun c_8 => ?_) (fun c_8 => ?_)
      · replace hf := ww_in hf c_8
        refine lv_iload hx hb dX3_three_35 (lv_at hl 4 rfl) ?_
        refine lv_i2l (v := x4.toInt64) hx hb dX3_three_37 rfl ?_
        refine lv_lconst (v := (0 : Int64)) hx hb dX3_three_38 (by decide) ?_
        refine lv_ldc2 (v := (2 : Int64)) hx hb hown (hts _ q2144) dX3_three_39 ?_
        obtain ⟨r_9, h_9, hf⟩ := ww_bS hf
        refine t3c_isIn X hl.1 (Nat.le_trans (Nat.le_of_ble_eq_true rfl) hF) (Nat.le_trans (Nat.le_of_ble_eq_true rfl) hLo) h_9 (Nat.le_of_ble_eq_true rfl) dX3_three_42 ?_
        refine lv_if_ne (tgt := 54) hx hb dX3_three_45 (by decide) (fun c_10 => ?_) (fun c_10 => ?_)
        · replace hf := ww_in hf c_10
          refine lv_aload_n hx hb dX3_three_54 rfl (lv_at hl 0 rfl) ?_
          refine lv_iload_n hx hb dX3_three_55 rfl (lv_at hl 1 rfl) ?_
          refine lv_iload_n hx hb dX3_three_56 rfl (lv_at hl 2 rfl) ?_
          refine lv_iload_n hx hb dX3_three_57 rfl (lv_at hl 3 rfl) ?_
          obtain ⟨M_11, h_11, hf⟩ := ww_bS hf
          refine t3c_laysThree X hl.1 hK hD hR hS (Nat.le_trans (Nat.le_of_ble_eq_true rfl) hF) (Nat.le_trans (Nat.le_of_ble_eq_true rfl) hLo) h_11 (Nat.le_of_ble_eq_true rfl) dX3_three_58 (fun H locs hR hS => ?_)
          refine lv_iconst (v := (0 : Int32)) hx hb dX3_three_61 (by decide) ?_
          refine lv_istore (lv' := [(5, .int (0 : Int32)), (0, .ref E.1), (1, .int x1), (2, .int x2), (3, .int x3), (4, .int x4)]) hx hb dX3_three_62 hl (by decide) rfl (fun ls hl => ?_)
          refine lv_iconst (v := (0 : Int32)) hx hb dX3_three_64 (by decide) ?_
          refine lv_istore (lv' := [(6, .int (0 : Int32)), (5, .int (0 : Int32)), (0, .ref E.1), (1, .int x1), (2, .int x2), (3, .int x3), (4, .int x4)]) hx hb dX3_three_65 hl (by decide) rfl (fun ls hl => ?_)
          have hL_1 : ∀ s9 : Int32 × Int32, ww_U (f3_three_b1 M_11 x2 x3 x4) s9 = some (r, M') → ∀ (H : Heap) (locs : List Loc) (ls : Array Slot), t3_H E M_11 H → va_S (t3_A E) s.heap H locs → lv_has ls 10 [(0, .ref E.1), (2, .int x2), (3, .int x3), (4, .int x4), (5, .int s9.1), (6, .int s9.2)] → W p l e Rm s m args below meth c H locs 0 0 Q (F0 m 67 ls []) := by
            refine ww_ind _ (r, M') ?_
            intro s9 z_1 hf hz_1 H locs ls hR hS hl
            obtain ⟨x5, x6⟩ := s9
            replace hf : f3_three_b1c M_11 x2 x3 x4 x5 x6 = some z_1 := hf
            unfold f3_three_b1c at hf
            replace hl : lv_has ls 10 [(0, .ref E.1), (2, .int x2), (3, .int x3), (4, .int x4), (5, .int x5), (6, .int x6)] := hl
            refine lv_iload hx hb dX3_three_67 (lv_at hl 5 rfl) ?_
            refine lv_sipush (v := (999 : Int32)) hx hb dX3_three_69 (by decide) ?_
            refine lv_icmp_gt (tgt := 112) hx hb dX3_three_72 (by decide) (fun c_12 => ?_) (fun c_12 => ?_)
            · replace hf := ww_ip hf c_12
              replace hf := ww_xK hf hz_1
              refine lv_iload hx hb dX3_three_112 (lv_at hl 4 rfl) ?_
              refine lv_bipush (v := (60 : Int32)) hx hb dX3_three_114 (by decide) ?_
              refine lv_icmp_le (tgt := 125) hx hb dX3_three_116 (by decide) (fun c_13 => ?_) (fun c_13 => ?_)
              · replace hf := ww_ip hf c_13
                refine lv_aload_n hx hb dX3_three_125 rfl (lv_at hl 0 rfl) ?_
                obtain ⟨r_14, h_14, hf⟩ := ww_bS hf
                refine t3c_hasRoom X hl.1 hK hD hR hS (Nat.le_trans (Nat.le_of_ble_eq_true rfl) hF) (Nat.le_trans (Nat.le_of_ble_eq_true rfl) hLo) h_14 (Nat.le_of_ble_eq_true rfl) dX3_three_126 (fun H locs hR hS => ?_)
                refine lv_if_ne (tgt := 138) hx hb dX3_three_129 (by decide) (fun c_15 => ?_) (fun c_15 => ?_)
                · replace hf := ww_in hf c_15
                  refine lv_aload_n hx hb dX3_three_138 rfl (lv_at hl 0 rfl) ?_
                  obtain ⟨r_16, M_16, h_16, hf⟩ := ww_b2S hf
                  refine t3c_newToken X hl.1 hK hD hR hS (Nat.le_trans (Nat.le_of_ble_eq_true rfl) hF) (Nat.le_trans (Nat.le_of_ble_eq_true rfl) hLo) h_16 (Nat.le_of_ble_eq_true rfl) dX3_three_139 (fun H locs hR hS => ?_)
                  refine lv_istore (lv' := [(6, .int r_16), (0, .ref E.1), (2, .int x2), (3, .int x3), (4, .int x4), (5, .int x5)]) hx hb dX3_three_142 hl (by decide) rfl (fun ls hl => ?_)
                  refine lv_aload_n hx hb dX3_three_144 rfl (lv_at hl 1 rfl) ?_
                  refine t3g_32 X hK hR dX3_three_145 ?_
                  refine lv_iload_n hx hb dX3_three_148 rfl (lv_at hl 2 rfl) ?_
                  obtain ⟨h_17, hf⟩ := ww_gS hf
                  refine t3l_32 X hK hR h_17 dX3_three_149 ?_
                  refine lv_istore (lv' := [(7, .int (ww_X M_16 32 x2)), (6, .int r_16), (0, .ref E.1), (2, .int x2), (3, .int x3), (4, .int x4), (5, .int x5)]) hx hb dX3_three_150 hl (by decide) rfl (fun ls hl => ?_)
                  refine lv_iconst (v := (0 : Int32)) hx hb dX3_three_152 (by decide) ?_
                  refine lv_istore (lv' := [(8, .int (0 : Int32)), (7, .int (ww_X M_16 32 x2)), (6, .int r_16), (0, .ref E.1), (2, .int x2), (3, .int x3), (4, .int x4), (5, .int x5)]) hx hb dX3_three_153 hl (by decide) rfl (fun ls hl => ?_)
                  have hL_2 : ∀ s9 : ww_M × Int32 × Int32, ww_U (f3_three_b2 x2 x3 x4 r_16) s9 = some (r, M') → ∀ (H : Heap) (locs : List Loc) (ls : Array Slot), t3_H E s9.1 H → va_S (t3_A E) s.heap H locs → lv_has ls 10 [(0, .ref E.1), (2, .int x2), (3, .int x3), (4, .int x4), (6, .int r_16), (7, .int s9.2.1), (8, .int s9.2.2)] → W p l e Rm s m args below meth c H locs 0 0 Q (F0 m 155 ls []) := by
                    refine ww_ind _ (r, M') ?_
                    intro s9 z_2 hf hz_2 H locs ls hR hS hl
                    obtain ⟨M_18, x7, x8⟩ := s9
                    replace hf : f3_three_b2c x2 x3 x4 r_16 M_18 x7 x8 = some z_2 := hf
                    unfold f3_three_b2c at hf
                    replace hR : t3_H E M_18 H := hR
                    replace hl : lv_has ls 10 [(0, .ref E.1), (2, .int x2), (3, .int x3), (4, .int x4), (6, .int r_16), (7, .int x7), (8, .int x8)] := hl
                    refine lv_iload hx hb dX3_three_155 (lv_at hl 6 rfl) ?_
                    refine lv_sipush (v := (999 : Int32)) hx hb dX3_three_157 (by decide) ?_
                    refine lv_icmp_gt (tgt := 240) hx hb dX3_three_160 (by decide) (fun c_19 => ?_) (fun c_19 => ?_)
                    · replace hf := ww_ip hf c_19
                      replace hf := ww_xK hf hz_2
                      refine lv_aload_n hx hb dX3_three_240 rfl (lv_at hl 0 rfl) ?_
                      refine lv_iload hx hb dX3_three_241 (lv_at hl 5 rfl) ?_
                      refine lv_iload_n hx hb dX3_three_243 rfl (lv_at hl 1 rfl) ?_
                      refine lv_iload_n hx hb dX3_three_244 rfl (lv_at hl 2 rfl) ?_
                      obtain ⟨r_20, M_20, h_20, hf⟩ := ww_b2S hf
                      refine t3c_newMap X hl.1 hK hD hR hS (Nat.le_trans (Nat.le_of_ble_eq_true rfl) hF) (Nat.le_trans (Nat.le_of_ble_eq_true rfl) hLo) h_20 (Nat.le_of_ble_eq_true rfl) dX3_three_245 (fun H locs hR hS => ?_)
                      exact hend dX3_three_248 rfl rfl hf hR hS
                    · replace hf := ww_in hf c_19
                      refine lv_aload_n hx hb dX3_three_163 rfl (lv_at hl 0 rfl) ?_
                      refine lv_iload hx hb dX3_three_164 (lv_at hl 6 rfl) ?_
                      refine lv_iload hx hb dX3_three_166 (lv_at hl 3 rfl) ?_
                      obtain ⟨r_21, h_21, hf⟩ := ww_bS hf
                      refine t3c_asWhich X hl.1 hK hD hR hS (Nat.le_trans (Nat.le_of_ble_eq_true rfl) hF) (Nat.le_trans (Nat.le_of_ble_eq_true rfl) hLo) h_21 (Nat.le_of_ble_eq_true rfl) dX3_three_168 (fun H locs hR hS => ?_)
                      refine lv_istore (lv' := [(9, .int r_21), (0, .ref E.1), (2, .int x2), (3, .int x3), (4, .int x4), (6, .int r_16), (7, .int x7), (8, .int x8)]) hx hb dX3_three_171 hl (by decide) rfl (fun ls hl => ?_)
                      refine lv_iload hx hb dX3_three_173 (lv_at hl 0 rfl) ?_
                      refine lv_iconst (v := (1 : Int32)) hx hb dX3_three_175 (by decide) ?_
                      refine lv_icmp_ne (tgt := 182) hx hb dX3_three_176 (by decide) (fun c_22 => ?_) (fun c_22 => ?_)
                      · replace hf := ww_in hf c_22
                        refine lv_aload_n hx hb dX3_three_182 rfl (lv_at hl 1 rfl) ?_
                        refine t3g_45 X hK hR dX3_three_183 ?_
                        refine lv_iload hx hb dX3_three_186 (lv_at hl 7 rfl) ?_
                        obtain ⟨h_23, hf⟩ := ww_gS hf
                        refine t3l_45 X hK hR h_23 dX3_three_188 ?_
                        refine lv_iload hx hb dX3_three_189 (lv_at hl 0 rfl) ?_
                        obtain ⟨r_24, h_24, hf⟩ := ww_bS hf
                        refine t3c_has X hl.1 (Nat.le_trans (Nat.le_of_ble_eq_true rfl) hF) (Nat.le_trans (Nat.le_of_ble_eq_true rfl) hLo) h_24 (Nat.le_of_ble_eq_true rfl) dX3_three_191 ?_
                        refine lv_if_eq (tgt := 222) hx hb dX3_three_194 (by decide) (fun c_25 => ?_) (fun c_25 => ?_)
                        · replace hf := ww_ip hf c_25
                          refine lv_aload_n hx hb dX3_three_222 rfl (lv_at hl 1 rfl) ?_
                          refine lv_iload hx hb dX3_three_223 (lv_at hl 6 rfl) ?_
                          refine lv_iload hx hb dX3_three_225 (lv_at hl 7 rfl) ?_
                          refine lv_iload hx hb dX3_three_227 (lv_at hl 5 rfl) ?_
                          obtain ⟨r_26, M_26, h_26, hf⟩ := ww_b2S hf
                          refine t3c_takes X hl.1 hK hD hR hS (Nat.le_trans (Nat.le_of_ble_eq_true rfl) hF) (Nat.le_trans (Nat.le_of_ble_eq_true rfl) hLo) h_26 (Nat.le_of_ble_eq_true rfl) dX3_three_229 (fun H locs hR hS => ?_)
                          refine lv_istore (lv' := [(7, .int r_26), (9, .int r_21), (0, .ref E.1), (2, .int x2), (3, .int x3), (4, .int x4), (6, .int r_16), (8, .int x8)]) hx hb dX3_three_232 hl (by decide) rfl (fun ls hl => ?_)
                          refine lv_iinc (k := 7) (v := x8 + (1 : Int32)) (lv' := [(8, .int (x8 + (1 : Int32))), (7, .int r_26), (9, .int r_21), (0, .ref E.1), (2, .int x2), (3, .int x3), (4, .int x4), (6, .int r_16)]) hx hb dX3_three_234 hl rfl rfl (by decide) rfl (fun ls hl => ?_)
                          refine lv_goto (tgt := 155) hx hb dX3_three_237 (by decide) ?_
                          exact ww_lK hf hz_2 _ _ _ hR hS (lv_sub hl [3, 4, 5, 6, 7, 1, 0] rfl)
                        · replace hf := ww_in hf c_25
                          refine lv_aload_n hx hb dX3_three_197 rfl (lv_at hl 1 rfl) ?_
                          refine lv_iload hx hb dX3_three_198 (lv_at hl 6 rfl) ?_
                          refine lv_iload hx hb dX3_three_200 (lv_at hl 7 rfl) ?_
                          refine lv_aload_n hx hb dX3_three_202 rfl (lv_at hl 1 rfl) ?_
                          refine t3g_46 X hK hR dX3_three_203 ?_
                          refine lv_iconst (v := (3 : Int32)) hx hb dX3_three_206 (by decide) ?_
                          refine lv_iload hx hb dX3_three_207 (lv_at hl 7 rfl) ?_
                          refine lv_imul hx hb dX3_three_209 ?_
                          refine lv_iload hx hb dX3_three_210 (lv_at hl 0 rfl) ?_
                          refine lv_iadd hx hb dX3_three_212 ?_
                          obtain ⟨h_27, hf⟩ := ww_gS hf
                          refine t3l_46 X hK hR h_27 dX3_three_213 ?_
                          refine lv_iload hx hb dX3_three_214 (lv_at hl 5 rfl) ?_
                          obtain ⟨r_28, M_28, h_28, hf⟩ := ww_b2S hf
                          refine t3c_puts X hl.1 hK hD hR hS (Nat.le_trans (Nat.le_of_ble_eq_true rfl) hF) (Nat.le_trans (Nat.le_of_ble_eq_true rfl) hLo) h_28 (Nat.le_of_ble_eq_true rfl) dX3_three_216 (fun H locs hR hS => ?_)
                          refine lv_goto (tgt := 232) hx hb dX3_three_219 (by decide) ?_
                          refine lv_istore (lv' := [(7, .int r_28), (9, .int r_21), (0, .ref E.1), (2, .int x2), (3, .int x3), (4, .int x4), (6, .int r_16), (8, .int x8)]) hx hb dX3_three_232 hl (by decide) rfl (fun ls hl => ?_)
                          refine lv_iinc (k := 7) (v := x8 + (1 : Int32)) (lv' := [(8, .int (x8 + (1 : Int32))), (7, .int r_28), (9, .int r_21), (0, .ref E.1), (2, .int x2), (3, .int x3), (4, .int x4), (6, .int r_16)]) hx hb dX3_three_234 hl rfl rfl (by decide) rfl (fun ls hl => ?_)
                          refine lv_goto (tgt := 155) hx hb dX3_three_237 (by decide) ?_
                          exact ww_lK hf hz_2 _ _ _ hR hS (lv_sub hl [3, 4, 5, 6, 7, 1, 0] rfl)
                      · replace hf := ww_ip hf c_22
                        refine lv_goto (tgt := 234) hx hb dX3_three_179 (by decide) ?_
                        refine lv_iinc (k := 7) (v := x8 + (1 : Int32)) (lv' := [(8, .int (x8 + (1 : Int32))), (9, .int r_21), (0, .ref E.1), (2, .int x2), (3, .int x3), (4, .int x4), (6, .int r_16), (7, .int x7)]) hx hb dX3_three_234 hl rfl rfl (by decide) rfl (fun ls hl => ?_)
                        refine lv_goto (tgt := 155) hx hb dX3_three_237 (by decide) ?_
                        exact ww_lK hf hz_2 _ _ _ hR hS (lv_sub hl [2, 3, 4, 5, 6, 7, 0] rfl)
                  exact hL_2 (M_16, (ww_X M_16 32 x2), (0 : Int32)) hf _ _ _ hR hS (lv_sub hl [3, 4, 5, 6, 2, 1, 0] rfl)
                · replace hf := ww_ip hf c_15
                  refine lv_aload_n hx hb dX3_three_132 rfl (lv_at hl 0 rfl) ?_
                  refine lv_iconst (v := (4 : Int32)) hx hb dX3_three_133 (by decide) ?_
                  obtain ⟨r_29, M_29, h_29, hf⟩ := ww_b2S hf
                  refine t3c_refused X hl.1 hK hD hR hS (Nat.le_trans (Nat.le_of_ble_eq_true rfl) hF) (Nat.le_trans (Nat.le_of_ble_eq_true rfl) hLo) h_29 (Nat.le_of_ble_eq_true rfl) dX3_three_134 (fun H locs hR hS => ?_)
                  exact hend dX3_three_137 rfl rfl hf hR hS
              · replace hf := ww_in hf c_13
                refine lv_aload_n hx hb dX3_three_119 rfl (lv_at hl 0 rfl) ?_
                refine lv_iconst (v := (3 : Int32)) hx hb dX3_three_120 (by decide) ?_
                obtain ⟨r_30, M_30, h_30, hf⟩ := ww_b2S hf
                refine t3c_refused X hl.1 hK hD hR hS (Nat.le_trans (Nat.le_of_ble_eq_true rfl) hF) (Nat.le_trans (Nat.le_of_ble_eq_true rfl) hLo) h_30 (Nat.le_of_ble_eq_true rfl) dX3_three_121 (fun H locs hR hS => ?_)
                exact hend dX3_three_124 rfl rfl hf hR hS
            · replace hf := ww_in hf c_12
              refine lv_iload hx hb dX3_three_75 (lv_at hl 4 rfl) ?_
              refine lv_aload_n hx hb dX3_three_77 rfl (lv_at hl 0 rfl) ?_
              refine t3g_45 X hK hR dX3_three_78 ?_
              refine lv_iload hx hb dX3_three_81 (lv_at hl 5 rfl) ?_
              obtain ⟨h_31, hf⟩ := ww_gS hf
              refine t3l_45 X hK hR h_31 dX3_three_83 ?_
              refine lv_aload_n hx hb dX3_three_84 rfl (lv_at hl 0 rfl) ?_
              refine lv_iload hx hb dX3_three_85 (lv_at hl 5 rfl) ?_
              refine lv_iload hx hb dX3_three_87 (lv_at hl 3 rfl) ?_
              obtain ⟨r_32, h_32, hf⟩ := ww_bS hf
              refine t3c_asWhich X hl.1 hK hD hR hS (Nat.le_trans (Nat.le_of_ble_eq_true rfl) hF) (Nat.le_trans (Nat.le_of_ble_eq_true rfl) hLo) h_32 (Nat.le_of_ble_eq_true rfl) dX3_three_89 (fun H locs hR hS => ?_)
              obtain ⟨r_33, h_33, hf⟩ := ww_bS hf
              refine t3c_has X hl.1 (Nat.le_trans (Nat.le_of_ble_eq_true rfl) hF) (Nat.le_trans (Nat.le_of_ble_eq_true rfl) hLo) h_33 (Nat.le_of_ble_eq_true rfl) dX3_three_92 ?_
              refine lv_if_eq (tgt := 102) hx hb dX3_three_95 (by decide) (fun c_34 => ?_) (fun c_34 => ?_)
              · replace hf := ww_ip hf c_34
                refine lv_iconst (v := (0 : Int32)) hx hb dX3_three_102 (by decide) ?_
                refine lv_iadd hx hb dX3_three_103 ?_
                refine lv_istore (lv' := [(5, .int (x5 + (0 : Int32))), (0, .ref E.1), (2, .int x2), (3, .int x3), (4, .int x4), (6, .int x6)]) hx hb dX3_three_104 hl (by decide) rfl (fun ls hl => ?_)
                refine lv_iinc (k := 5) (v := x6 + (1 : Int32)) (lv' := [(6, .int (x6 + (1 : Int32))), (5, .int (x5 + (0 : Int32))), (0, .ref E.1), (2, .int x2), (3, .int x3), (4, .int x4)]) hx hb dX3_three_106 hl rfl rfl (by decide) rfl (fun ls hl => ?_)
                refine lv_goto (tgt := 67) hx hb dX3_three_109 (by decide) ?_
                exact ww_lK hf hz_1 _ _ _ hR hS (lv_sub hl [2, 3, 4, 5, 1, 0] rfl)
              · replace hf := ww_in hf c_34
                refine lv_iconst (v := (1 : Int32)) hx hb dX3_three_98 (by decide) ?_
                refine lv_goto (tgt := 103) hx hb dX3_three_99 (by decide) ?_
                refine lv_iadd hx hb dX3_three_103 ?_
                refine lv_istore (lv' := [(5, .int (x5 + (1 : Int32))), (0, .ref E.1), (2, .int x2), (3, .int x3), (4, .int x4), (6, .int x6)]) hx hb dX3_three_104 hl (by decide) rfl (fun ls hl => ?_)
                refine lv_iinc (k := 5) (v := x6 + (1 : Int32)) (lv' := [(6, .int (x6 + (1 : Int32))), (5, .int (x5 + (1 : Int32))), (0, .ref E.1), (2, .int x2), (3, .int x3), (4, .int x4)]) hx hb dX3_three_106 hl rfl rfl (by decide) rfl (fun ls hl => ?_)
                refine lv_goto (tgt := 67) hx hb dX3_three_109 (by decide) ?_
                exact ww_lK hf hz_1 _ _ _ hR hS (lv_sub hl [2, 3, 4, 5, 1, 0] rfl)
          exact hL_1 ((0 : Int32), (0 : Int32)) hf _ _ _ hR hS (lv_sub hl [2, 4, 5, 6, 1, 0] rfl)
        · replace hf := ww_ip hf c_10
          refine lv_aload_n hx hb dX3_three_48 rfl (lv_at hl 0 rfl) ?_
          refine lv_iconst (v := (1 : Int32)) hx hb dX3_three_49 (by decide) ?_
          obtain ⟨r_35, M_35, h_35, hf⟩ := ww_b2S hf
          refine t3c_refused X hl.1 hK hD hR hS (Nat.le_trans (Nat.le_of_ble_eq_true rfl) hF) (Nat.le_trans (Nat.le_of_ble_eq_true rfl) hLo) h_35 (Nat.le_of_ble_eq_true rfl) dX3_three_50 (fun H locs hR hS => ?_)
          exact hend dX3_three_53 rfl rfl hf hR hS
      · replace hf := ww_ip hf c_8
        refine lv_aload_n hx hb dX3_three_29 rfl (lv_at hl 0 rfl) ?_
        refine lv_iconst (v := (0 : Int32)) hx hb dX3_three_30 (by decide) ?_
        obtain ⟨r_36, M_36, h_36, hf⟩ := ww_b2S hf
        refine t3c_refused X hl.1 hK hD hR hS (Nat.le_trans (Nat.le_of_ble_eq_true rfl) hF) (Nat.le_trans (Nat.le_of_ble_eq_true rfl) hLo) h_36 (Nat.le_of_ble_eq_true rfl) dX3_three_31 (fun H locs hR hS => ?_)
        exact hend dX3_three_34 rfl rfl hf hR hS
noncomputable def f3_conflicts_b1c (M : ww_M) (x4 : Int32) (x5 : Int32) : Option ((Int32 × Int32) ⊕ (Int32 × ww_M)) :=
  if (999 : Int32) < x5 then ww_x (some (x4, M)) else ww_b (f3_isConflict M x5) (fun r_9 => if r_9 = 0 then some (.inl ((x4 + (0 : Int32)), (x5 + (1 : Int32)))) else some (.inl ((x4 + (1 : Int32)), (x5 + (1 : Int32)))))
noncomputable def f3_conflicts_b1 (M : ww_M) : (Int32 × Int32) → Option ((Int32 × Int32) ⊕ (Int32 × ww_M)) := fun s9 => f3_conflicts_b1c M s9.1 s9.2
noncomputable def f3_conflicts (M : ww_M) (x1 : Int32) (x2 : Int32) (x3 : Int32) : Option (Int32 × ww_M) :=
  ww_b (f3_isMap (ww_sF M 0 (0 : Int32)) x1) (fun r_1 => if r_1 = 0 then some ((-1 : Int32), (ww_sF M 0 (0 : Int32))) else ww_b (f3_isMap (ww_sF M 0 (0 : Int32)) x2) (fun r_3 => if r_3 = 0 then some ((-1 : Int32), (ww_sF M 0 (0 : Int32))) else ww_b (f3_isMap (ww_sF M 0 (0 : Int32)) x3) (fun r_5 => if r_5 = 0 then some ((-1 : Int32), (ww_sF M 0 (0 : Int32))) else ww_b (f3_laysThree (ww_sF M 0 (0 : Int32)) x1 x2 x3) (fun M_7 => ww_U (f3_conflicts_b1 M_7) ((0 : Int32), (0 : Int32))))))
set_option maxHeartbeats 4000000 in
set_option maxRecDepth 100000 in
theorem met3_conflicts (l : Launch) {E : ww_E} (hD : t3_D E) (M : ww_M) (x1 : Int32) (x2 : Int32) (x3 : Int32) (r : Int32) (M' : ww_M) (hf : f3_conflicts M x1 x2 x3 = some (r, M')) : t3_Met l yX3_conflicts cX3_conflicts 6 (some Jvm.ClassFile.FieldType.int) 15 343 E [.int x1, .int x2, .int x3] M M' r := by
  unfold f3_conflicts at hf
  refine t3_start (by decide +kernel) (Nat.le_of_ble_eq_true rfl) ?_
  intro p e s m args below meth c Rm Q X hK hF hLo hend ls hl hR hS
  obtain ⟨hx, hb, hml, hown, hts⟩ := id X
  replace hl : lv_has ls 6 [(0, .ref E.1), (1, .int x1), (2, .int x2), (3, .int x3)] := hl
  refine lv_aload_n hx hb dX3_conflicts_0 rfl (lv_at hl 0 rfl) ?_
  refine lv_iconst (v := (0 : Int32)) hx hb dX3_conflicts_1 (by decide) ?_
  refine t3p_0 X hK hD hR hS dX3_conflicts_2 (fun H locs hR hS => ?_)
  refine lv_aload_n hx hb dX3_conflicts_5 rfl (lv_at hl 0 rfl) ?_
  refine lv_iload_n hx hb dX3_conflicts_6 rfl (lv_at hl 1 rfl) ?_
  obtain ⟨r_1, h_1, hf⟩ := ww_bS hf
  refine t3c_isMap X hl.1 hK hD hR hS (Nat.le_trans (Nat.le_of_ble_eq_true rfl) hF) (Nat.le_trans (Nat.le_of_ble_eq_true rfl) hLo) h_1 (Nat.le_of_ble_eq_true rfl) dX3_conflicts_7 (fun H locs hR hS => ?_)
  refine lv_if_eq (tgt := 29) hx hb dX3_conflicts_10 (by decide) (fun c_2 => ?_) (fun c_2 => ?_)
  · replace hf := ww_ip hf c_2
    refine lv_iconst (v := (-1 : Int32)) hx hb dX3_conflicts_29 (by decide) ?_
    exact hend dX3_conflicts_30 rfl rfl hf hR hS
  · replace hf := ww_in hf c_2
    refine lv_aload_n hx hb dX3_conflicts_13 rfl (lv_at hl 0 rfl) ?_
    refine lv_iload_n hx hb dX3_conflicts_14 rfl (lv_at hl 2 rfl) ?_
    obtain ⟨r_3, h_3, hf⟩ := ww_bS hf
    refine t3c_isMap X hl.1 hK hD hR hS (Nat.le_trans (Nat.le_of_ble_eq_true rfl) hF) (Nat.le_trans (Nat.le_of_ble_eq_true rfl) hLo) h_3 (Nat.le_of_ble_eq_true rfl) dX3_conflicts_15 (fun H locs hR hS => ?_)
    refine lv_if_eq (tgt := 29) hx hb dX3_conflicts_18 (by decide) (fun c_4 => ?_) (fun c_4 => ?_)
    · replace hf := ww_ip hf c_4
      refine lv_iconst (v := (-1 : Int32)) hx hb dX3_conflicts_29 (by decide) ?_
      exact hend dX3_conflicts_30 rfl rfl hf hR hS
    · replace hf := ww_in hf c_4
      refine lv_aload_n hx hb dX3_conflicts_21 rfl (lv_at hl 0 rfl) ?_
      refine lv_iload_n hx hb dX3_conflicts_22 rfl (lv_at hl 3 rfl) ?_
      obtain ⟨r_5, h_5, hf⟩ := ww_bS hf
      refine t3c_isMap X hl.1 hK hD hR hS (Nat.le_trans (Nat.le_of_ble_eq_true rfl) hF) (Nat.le_trans (Nat.le_of_ble_eq_true rfl) hLo) h_5 (Nat.le_of_ble_eq_true rfl) dX3_conflicts_23 (fun H locs hR hS => ?_)
      refine lv_if_ne (tgt := 31) hx hb dX3_conflicts_26 (by decide) (fun c_6 => ?_) (fun c_6 => ?_)
      · replace hf := ww_in hf c_6
        refine lv_aload_n hx hb dX3_conflicts_31 rfl (lv_at hl 0 rfl) ?_
        refine lv_iload_n hx hb dX3_conflicts_32 rfl (lv_at hl 1 rfl) ?_
        refine lv_iload_n hx hb dX3_conflicts_33 rfl (lv_at hl 2 rfl) ?_
        refine lv_iload_n hx hb dX3_conflicts_34 rfl (lv_at hl 3 rfl) ?_
        obtain ⟨M_7, h_7, hf⟩ := ww_bS hf
        refine t3c_laysThree X hl.1 hK hD hR hS (Nat.le_trans (Nat.le_of_ble_eq_true rfl) hF) (Nat.le_trans (Nat.le_of_ble_eq_true rfl) hLo) h_7 (Nat.le_of_ble_eq_true rfl) dX3_conflicts_35 (fun H locs hR hS => ?_)
        refine lv_iconst (v := (0 : Int32)) hx hb dX3_conflicts_38 (by decide) ?_
        refine lv_istore (lv' := [(4, .int (0 : Int32)), (0, .ref E.1), (1, .int x1), (2, .int x2), (3, .int x3)]) hx hb dX3_conflicts_39 hl (by decide) rfl (fun ls hl => ?_)
        refine lv_iconst (v := (0 : Int32)) hx hb dX3_conflicts_41 (by decide) ?_
        refine lv_istore (lv' := [(5, .int (0 : Int32)), (4, .int (0 : Int32)), (0, .ref E.1), (1, .int x1), (2, .int x2), (3, .int x3)]) hx hb dX3_conflicts_42 hl (by decide) rfl (fun ls hl => ?_)
        have hL_1 : ∀ s9 : Int32 × Int32, ww_U (f3_conflicts_b1 M_7) s9 = some (r, M') → ∀ (H : Heap) (locs : List Loc) (ls : Array Slot), t3_H E M_7 H → va_S (t3_A E) s.heap H locs → lv_has ls 6 [(0, .ref E.1), (4, .int s9.1), (5, .int s9.2)] → W p l e Rm s m args below meth c H locs 0 0 Q (F0 m 44 ls []) := by
          refine ww_ind _ (r, M') ?_
          intro s9 z_1 hf hz_1 H locs ls hR hS hl
          obtain ⟨x4, x5⟩ := s9
          replace hf : f3_conflicts_b1c M_7 x4 x5 = some z_1 := hf
          unfold f3_conflicts_b1c at hf
          replace hl : lv_has ls 6 [(0, .ref E.1), (4, .int x4), (5, .int x5)] := hl
          refine lv_iload hx hb dX3_conflicts_44 (lv_at hl 2 rfl) ?_
          refine lv_sipush (v := (999 : Int32)) hx hb dX3_conflicts_46 (by decide) ?_
          refine lv_icmp_gt (tgt := 77) hx hb dX3_conflicts_49 (by decide) (fun c_8 => ?_) (fun c_8 => ?_)
          · replace hf := ww_ip hf c_8
            replace hf := ww_xK hf hz_1
            refine lv_iload hx hb dX3_conflicts_77 (lv_at hl 1 rfl) ?_
            exact hend dX3_conflicts_79 rfl rfl hf hR hS
          · replace hf := ww_in hf c_8
            refine lv_iload hx hb dX3_conflicts_52 (lv_at hl 1 rfl) ?_
            refine lv_aload_n hx hb dX3_conflicts_54 rfl (lv_at hl 0 rfl) ?_
            refine lv_iload hx hb dX3_conflicts_55 (lv_at hl 2 rfl) ?_
            obtain ⟨r_9, h_9, hf⟩ := ww_bS hf
            refine t3c_isConflict X hl.1 hK hD hR hS (Nat.le_trans (Nat.le_of_ble_eq_true rfl) hF) (Nat.le_trans (Nat.le_of_ble_eq_true rfl) hLo) h_9 (Nat.le_of_ble_eq_true rfl) dX3_conflicts_57 (fun H locs hR hS => ?_)
            refine lv_if_eq (tgt := 67) hx hb dX3_conflicts_60 (by decide) (fun c_10 => ?_) (fun c_10 => ?_)
            · replace hf := ww_ip hf c_10
              refine lv_iconst (v := (0 : Int32)) hx hb dX3_conflicts_67 (by decide) ?_
              refine lv_iadd hx hb dX3_conflicts_68 ?_
              refine lv_istore (lv' := [(4, .int (x4 + (0 : Int32))), (0, .ref E.1), (5, .int x5)]) hx hb dX3_conflicts_69 hl (by decide) rfl (fun ls hl => ?_)
              refine lv_iinc (k := 2) (v := x5 + (1 : Int32)) (lv' := [(5, .int (x5 + (1 : Int32))), (4, .int (x4 + (0 : Int32))), (0, .ref E.1)]) hx hb dX3_conflicts_71 hl rfl rfl (by decide) rfl (fun ls hl => ?_)
              refine lv_goto (tgt := 44) hx hb dX3_conflicts_74 (by decide) ?_
              exact ww_lK hf hz_1 _ _ _ hR hS (lv_sub hl [2, 1, 0] rfl)
            · replace hf := ww_in hf c_10
              refine lv_iconst (v := (1 : Int32)) hx hb dX3_conflicts_63 (by decide) ?_
              refine lv_goto (tgt := 68) hx hb dX3_conflicts_64 (by decide) ?_
              refine lv_iadd hx hb dX3_conflicts_68 ?_
              refine lv_istore (lv' := [(4, .int (x4 + (1 : Int32))), (0, .ref E.1), (5, .int x5)]) hx hb dX3_conflicts_69 hl (by decide) rfl (fun ls hl => ?_)
              refine lv_iinc (k := 2) (v := x5 + (1 : Int32)) (lv' := [(5, .int (x5 + (1 : Int32))), (4, .int (x4 + (1 : Int32))), (0, .ref E.1)]) hx hb dX3_conflicts_71 hl rfl rfl (by decide) rfl (fun ls hl => ?_)
              refine lv_goto (tgt := 44) hx hb dX3_conflicts_74 (by decide) ?_
              exact ww_lK hf hz_1 _ _ _ hR hS (lv_sub hl [2, 1, 0] rfl)
        exact hL_1 ((0 : Int32), (0 : Int32)) hf _ _ _ hR hS (lv_sub hl [2, 1, 0] rfl)
      · replace hf := ww_ip hf c_6
        refine lv_iconst (v := (-1 : Int32)) hx hb dX3_conflicts_29 (by decide) ?_
        exact hend dX3_conflicts_30 rfl rfl hf hR hS
