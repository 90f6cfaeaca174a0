noncomputable def f3_fork_b2c (M : ww_M) (x3 : Int32) (x4 : Int32) : Option ((Int32 × Int32) ⊕ (Int32 × ww_M)) :=
  if (ww_F M 41) ≤ x4 then ww_x (some (x3, M)) else ww_g (ww_i x4 999) (if (ww_X M 55 x4) = (3 : Int32) then some (.inl (x4, (x4 + (1 : Int32)))) else some (.inl (x3, (x4 + (1 : Int32)))))
noncomputable def f3_fork_b2 (M : ww_M) : (Int32 × Int32) → Option ((Int32 × Int32) ⊕ (Int32 × ww_M)) := fun s9 => f3_fork_b2c M s9.1 s9.2
noncomputable def f3_fork_b1c (y1 : Int32) (y2 : Int32) (M_5 : ww_M) (x3 : Int32) : Option ((ww_M × Int32) ⊕ (Int32 × ww_M)) :=
  if (ww_F M_5 41) ≤ x3 then ww_x (ww_b (f3_laysSources M_5 y1 (1 : Int32)) (fun M_7 => ww_b (f3_laysSources M_7 y2 (2 : Int32)) (fun M_8 => ww_U (f3_fork_b2 M_8) ((-1 : Int32), (0 : Int32))))) else ww_g (ww_i x3 999) (some (.inl ((ww_sX M_5 55 x3 (0 : Int32)), (x3 + (1 : Int32)))))
noncomputable def f3_fork_b1 (y1 : Int32) (y2 : Int32) : (ww_M × Int32) → Option ((ww_M × Int32) ⊕ (Int32 × ww_M)) := fun s9 => f3_fork_b1c y1 y2 s9.1 s9.2
noncomputable def f3_fork (M : ww_M) (x1 : Int32) (x2 : Int32) : Option (Int32 × ww_M) :=
  ww_b (f3_isMap (ww_sF M 0 (0 : Int32)) x1) (fun r_1 => if r_1 = 0 then some ((-1 : Int32), (ww_sF M 0 (0 : Int32))) else ww_b (f3_isMap (ww_sF M 0 (0 : Int32)) x2) (fun r_3 => if r_3 = 0 then some ((-1 : Int32), (ww_sF M 0 (0 : Int32))) else ww_U (f3_fork_b1 x1 x2) ((ww_sF M 0 (0 : Int32)), (0 : Int32))))
set_option maxHeartbeats 4000000 in
set_option maxRecDepth 100000 in
theorem met3_fork (l : Launch) {E : ww_E} (hD : t3_D E) (M : ww_M) (x1 : Int32) (x2 : Int32) (r : Int32) (M' : ww_M) (hf : f3_fork M x1 x2 = some (r, M')) : t3_Met l yX3_fork cX3_fork 5 (some Jvm.ClassFile.FieldType.int) 1 23 E [.int x1, .int x2] M M' r := by
  unfold f3_fork at hf
  refine t3_start (by decide +kernel) (Nat.le_of_ble_eq_true rfl) ?_
  intro p e s m args below meth c Rm Q X hK hF hLo hend ls hl hR hS
  obtain ⟨hx, hb, hml, hown, hts⟩ := id X
  replace hl : lv_has ls 5 [(0, .ref E.1), (1, .int x1), (2, .int x2)] := hl
  refine lv_aload_n hx hb dX3_fork_0 rfl (lv_at hl 0 rfl) ?_
  refine lv_iconst (v := (0 : Int32)) hx hb dX3_fork_1 (by decide) ?_
  refine t3p_0 X hK hD hR hS dX3_fork_2 (fun H locs hR hS => ?_)
  refine lv_aload_n hx hb dX3_fork_5 rfl (lv_at hl 0 rfl) ?_
  refine lv_iload_n hx hb dX3_fork_6 rfl (lv_at hl 1 rfl) ?_
  obtain ⟨r_1, h_1, hf⟩ := ww_bS hf
  refine t3c_isMap X hl.1 hK hD hR hS (Nat.le_trans (Nat.le_of_ble_eq_true rfl) hF) (Nat.le_trans (Nat.le_of_ble_eq_true rfl) hLo) h_1 (Nat.le_of_ble_eq_true rfl) dX3_fork_7 (fun H locs hR hS => ?_)
  refine lv_if_eq (tgt := 21) hx hb dX3_fork_10 (by decide) (fun c_2 => ?_) (fun c_2 => ?_)
  · replace hf := ww_ip hf c_2
    refine lv_iconst (v := (-1 : Int32)) hx hb dX3_fork_21 (by decide) ?_
    exact hend dX3_fork_22 rfl rfl hf hR hS
  · replace hf := ww_in hf c_2
    refine lv_aload_n hx hb dX3_fork_13 rfl (lv_at hl 0 rfl) ?_
    refine lv_iload_n hx hb dX3_fork_14 rfl (lv_at hl 2 rfl) ?_
    obtain ⟨r_3, h_3, hf⟩ := ww_bS hf
    refine t3c_isMap X hl.1 hK hD hR hS (Nat.le_trans (Nat.le_of_ble_eq_true rfl) hF) (Nat.le_trans (Nat.le_of_ble_eq_true rfl) hLo) h_3 (Nat.le_of_ble_eq_true rfl) dX3_fork_15 (fun H locs hR hS => ?_)
    refine lv_if_ne (tgt := 23) hx hb dX3_fork_18 (by decide) (fun c_4 => ?_) (fun c_4 => ?_)
    · replace hf := ww_in hf c_4
      refine lv_iconst (v := (0 : Int32)) hx hb dX3_fork_23 (by decide) ?_
      refine lv_istore_n (lv' := [(3, .int (0 : Int32)), (0, .ref E.1), (1, .int x1), (2, .int x2)]) hx hb dX3_fork_24 rfl hl (by decide) rfl (fun ls hl => ?_)
      have hL_1 : ∀ s9 : ww_M × Int32, ww_U (f3_fork_b1 x1 x2) s9 = some (r, M') → ∀ (H : Heap) (locs : List Loc) (ls : Array Slot), t3_H E s9.1 H → va_S (t3_A E) s.heap H locs → lv_has ls 5 [(0, .ref E.1), (1, .int x1), (2, .int x2), (3, .int s9.2)] → W p l e Rm s m args below meth c H locs 0 0 Q (F0 m 25 ls []) := by
        refine ww_ind _ (r, M') ?_
        intro s9 z_1 hf hz_1 H locs ls hR hS hl
        obtain ⟨M_5, x3⟩ := s9
        replace hf : f3_fork_b1c x1 x2 M_5 x3 = some z_1 := hf
        unfold f3_fork_b1c at hf
        replace hR : t3_H E M_5 H := hR
        replace hl : lv_has ls 5 [(0, .ref E.1), (1, .int x1), (2, .int x2), (3, .int x3)] := hl
        refine lv_iload_n hx hb dX3_fork_25 rfl (lv_at hl 3 rfl) ?_
        refine lv_aload_n hx hb dX3_fork_26 rfl (lv_at hl 0 rfl) ?_
        refine t3g_41 X hK hR dX3_fork_27 ?_
        refine lv_icmp_ge (tgt := 46) hx hb dX3_fork_30 (by decide) (fun c_6 => ?_) (fun c_6 => ?_)
        · replace hf := ww_ip hf c_6
          replace hf := ww_xK hf hz_1
          refine lv_aload_n hx hb dX3_fork_46 rfl (lv_at hl 0 rfl) ?_
          refine lv_iload_n hx hb dX3_fork_47 rfl (lv_at hl 1 rfl) ?_
          refine lv_iconst (v := (1 : Int32)) hx hb dX3_fork_48 (by decide) ?_
          obtain ⟨M_7, h_7, hf⟩ := ww_bS hf
          refine t3c_laysSources X hl.1 hK hD hR hS (Nat.le_trans (Nat.le_of_ble_eq_true rfl) hF) (Nat.le_trans (Nat.le_of_ble_eq_true rfl) hLo) h_7 (Nat.le_of_ble_eq_true rfl) dX3_fork_49 (fun H locs hR hS => ?_)
          refine lv_aload_n hx hb dX3_fork_52 rfl (lv_at hl 0 rfl) ?_
          refine lv_iload_n hx hb dX3_fork_53 rfl (lv_at hl 2 rfl) ?_
          refine lv_iconst (v := (2 : Int32)) hx hb dX3_fork_54 (by decide) ?_
          obtain ⟨M_8, h_8, hf⟩ := ww_bS hf
          refine t3c_laysSources X hl.1 hK hD hR hS (Nat.le_trans (Nat.le_of_ble_eq_true rfl) hF) (Nat.le_trans (Nat.le_of_ble_eq_true rfl) hLo) h_8 (Nat.le_of_ble_eq_true rfl) dX3_fork_55 (fun H locs hR hS => ?_)
          refine lv_iconst (v := (-1 : Int32)) hx hb dX3_fork_58 (by decide) ?_
          refine lv_istore_n (lv' := [(3, .int (-1 : Int32)), (0, .ref E.1), (1, .int x1), (2, .int x2)]) hx hb dX3_fork_59 rfl hl (by decide) rfl (fun ls hl => ?_)
          refine lv_iconst (v := (0 : Int32)) hx hb dX3_fork_60 (by decide) ?_
          refine lv_istore (lv' := [(4, .int (0 : Int32)), (3, .int (-1 : Int32)), (0, .ref E.1), (1, .int x1), (2, .int x2)]) hx hb dX3_fork_61 hl (by decide) rfl (fun ls hl => ?_)
          have hL_2 : ∀ s9 : Int32 × Int32, ww_U (f3_fork_b2 M_8) s9 = some (r, M') → ∀ (H : Heap) (locs : List Loc) (ls : Array Slot), t3_H E M_8 H → va_S (t3_A E) s.heap H locs → lv_has ls 5 [(0, .ref E.1), (3, .int s9.1), (4, .int s9.2)] → W p l e Rm s m args below meth c H locs 0 0 Q (F0 m 63 ls []) := by
            refine ww_ind _ (r, M') ?_
            intro s9 z_2 hf hz_2 H locs ls hR hS hl
            obtain ⟨x3, x4⟩ := s9
            replace hf : f3_fork_b2c M_8 x3 x4 = some z_2 := hf
            unfold f3_fork_b2c at hf
            replace hl : lv_has ls 5 [(0, .ref E.1), (3, .int x3), (4, .int x4)] := hl
            refine lv_iload hx hb dX3_fork_63 (lv_at hl 2 rfl) ?_
            refine lv_aload_n hx hb dX3_fork_65 rfl (lv_at hl 0 rfl) ?_
            refine t3g_41 X hK hR dX3_fork_66 ?_
            refine lv_icmp_ge (tgt := 96) hx hb dX3_fork_69 (by decide) (fun c_9 => ?_) (fun c_9 => ?_)
            · replace hf := ww_ip hf c_9
              replace hf := ww_xK hf hz_2
              refine lv_iload_n hx hb dX3_fork_96 rfl (lv_at hl 1 rfl) ?_
              exact hend dX3_fork_97 rfl rfl hf hR hS
            · replace hf := ww_in hf c_9
              refine lv_aload_n hx hb dX3_fork_72 rfl (lv_at hl 0 rfl) ?_
              refine t3g_55 X hK hR dX3_fork_73 ?_
              refine lv_iload hx hb dX3_fork_76 (lv_at hl 2 rfl) ?_
              obtain ⟨h_10, hf⟩ := ww_gS hf
              refine t3l_55 X hK hR h_10 dX3_fork_78 ?_
              refine lv_iconst (v := (3 : Int32)) hx hb dX3_fork_79 (by decide) ?_
              refine lv_icmp_ne (tgt := 88) hx hb dX3_fork_80 (by decide) (fun c_11 => ?_) (fun c_11 => ?_)
              · replace hf := ww_in hf c_11
                refine lv_iload_n hx hb dX3_fork_88 rfl (lv_at hl 1 rfl) ?_
                refine lv_istore_n (lv' := [(3, .int x3), (0, .ref E.1), (4, .int x4)]) hx hb dX3_fork_89 rfl hl (by decide) rfl (fun ls hl => ?_)
                refine lv_iinc (k := 2) (v := x4 + (1 : Int32)) (lv' := [(4, .int (x4 + (1 : Int32))), (3, .int x3), (0, .ref E.1)]) hx hb dX3_fork_90 hl rfl rfl (by decide) rfl (fun ls hl => ?_)
                refine lv_goto (tgt := 63) hx hb dX3_fork_93 (by decide) ?_
                exact ww_lK hf hz_2 _ _ _ hR hS (lv_sub hl [2, 1, 0] rfl)
              · replace hf := ww_ip hf c_11
                refine lv_iload hx hb dX3_fork_83 (lv_at hl 2 rfl) ?_
                refine lv_goto (tgt := 89) hx hb dX3_fork_85 (by decide) ?_
                refine lv_istore_n (lv' := [(3, .int x4), (0, .ref E.1), (4, .int x4)]) hx hb dX3_fork_89 rfl hl (by decide) rfl (fun ls hl => ?_)
                refine lv_iinc (k := 2) (v := x4 + (1 : Int32)) (lv' := [(4, .int (x4 + (1 : Int32))), (3, .int x4), (0, .ref E.1)]) hx hb dX3_fork_90 hl rfl rfl (by decide) rfl (fun ls hl => ?_)
                refine lv_goto (tgt := 63) hx hb dX3_fork_93 (by decide) ?_
                exact ww_lK hf hz_2 _ _ _ hR hS (lv_sub hl [2, 1, 0] rfl)
          exact hL_2 ((-1 : Int32), (0 : Int32)) hf _ _ _ hR hS (lv_sub hl [2, 1, 0] rfl)
        · replace hf := ww_in hf c_6
          refine lv_aload_n hx hb dX3_fork_33 rfl (lv_at hl 0 rfl) ?_
          refine t3g_55 X hK hR dX3_fork_34 ?_
          refine lv_iload_n hx hb dX3_fork_37 rfl (lv_at hl 3 rfl) ?_
          refine lv_iconst (v := (0 : Int32)) hx hb dX3_fork_38 (by decide) ?_
          obtain ⟨h_12, hf⟩ := ww_gS hf
          refine t3s_55 X hK hD hR hS h_12 dX3_fork_39 (fun H locs hR hS => ?_)
          refine lv_iinc (k := 3) (v := x3 + (1 : Int32)) (lv' := [(3, .int (x3 + (1 : Int32))), (0, .ref E.1), (1, .int x1), (2, .int x2)]) hx hb dX3_fork_40 hl rfl rfl (by decide) rfl (fun ls hl => ?_)
          refine lv_goto (tgt := 25) hx hb dX3_fork_43 (by decide) ?_
          exact ww_lK hf hz_1 _ _ _ hR hS (lv_sub hl [1, 2, 3, 0] rfl)
      exact hL_1 ((ww_sF M 0 (0 : Int32)), (0 : Int32)) hf _ _ _ hR hS (lv_sub hl [1, 2, 3, 0] rfl)
    · replace hf := ww_ip hf c_4
      refine lv_iconst (v := (-1 : Int32)) hx hb dX3_fork_21 (by decide) ?_
      exact hend dX3_fork_22 rfl rfl hf hR hS
noncomputable def f3_comesFrom_b1c (y1 : Int32) (y2 : Int32) (M_5 : ww_M) (x3 : Int32) : Option ((ww_M × Int32) ⊕ (Int32 × ww_M)) :=
  if (ww_F M_5 41) ≤ x3 then ww_x (ww_b (f3_laysSources M_5 y1 (1 : Int32)) (fun M_7 => ww_g (ww_i y2 999) (some ((ww_X M_7 55 y2), M_7)))) else ww_g (ww_i x3 999) (some (.inl ((ww_sX M_5 55 x3 (0 : Int32)), (x3 + (1 : Int32)))))
noncomputable def f3_comesFrom_b1 (y1 : Int32) (y2 : Int32) : (ww_M × Int32) → Option ((ww_M × Int32) ⊕ (Int32 × ww_M)) := fun s9 => f3_comesFrom_b1c y1 y2 s9.1 s9.2
noncomputable def f3_comesFrom (M : ww_M) (x1 : Int32) (x2 : Int32) : Option (Int32 × ww_M) :=
  ww_b (f3_isMap (ww_sF M 0 (0 : Int32)) x1) (fun r_1 => if r_1 = 0 then some ((-1 : Int32), (ww_sF M 0 (0 : Int32))) else ww_b (f3_isIn x2.toInt64 (0 : Int64) (((ww_F (ww_sF M 0 (0 : Int32)) 41) - (1 : Int32)).toInt64)) (fun r_3 => if r_3 = 0 then some ((-1 : Int32), (ww_sF M 0 (0 : Int32))) else ww_U (f3_comesFrom_b1 x1 x2) ((ww_sF M 0 (0 : Int32)), (0 : Int32))))
set_option maxHeartbeats 4000000 in
set_option maxRecDepth 100000 in
theorem met3_comesFrom (l : Launch) {E : ww_E} (hD : t3_D E) (M : ww_M) (x1 : Int32) (x2 : Int32) (r : Int32) (M' : ww_M) (hf : f3_comesFrom M x1 x2 = some (r, M')) : t3_Met l yX3_comesFrom cX3_comesFrom 4 (some Jvm.ClassFile.FieldType.int) 1 25 E [.int x1, .int x2] M M' r := by
  unfold f3_comesFrom at hf
  refine t3_start (by decide +kernel) (Nat.le_of_ble_eq_true rfl) ?_
  intro p e s m args below meth c Rm Q X hK hF hLo hend ls hl hR hS
  obtain ⟨hx, hb, hml, hown, hts⟩ := id X
  replace hl : lv_has ls 4 [(0, .ref E.1), (1, .int x1), (2, .int x2)] := hl
  refine lv_aload_n hx hb dX3_comesFrom_0 rfl (lv_at hl 0 rfl) ?_
  refine lv_iconst (v := (0 : Int32)) hx hb dX3_comesFrom_1 (by decide) ?_
  refine t3p_0 X hK hD hR hS dX3_comesFrom_2 (fun H locs hR hS => ?_)
  refine lv_aload_n hx hb dX3_comesFrom_5 rfl (lv_at hl 0 rfl) ?_
  refine lv_iload_n hx hb dX3_comesFrom_6 rfl (lv_at hl 1 rfl) ?_
  obtain ⟨r_1, h_1, hf⟩ := ww_bS hf
  refine t3c_isMap X hl.1 hK hD hR hS (Nat.le_trans (Nat.le_of_ble_eq_true rfl) hF) (Nat.le_trans (Nat.le_of_ble_eq_true rfl) hLo) h_1 (Nat.le_of_ble_eq_true rfl) dX3_comesFrom_7 (fun H locs hR hS => ?_)
  refine lv_if_eq (tgt := 29) hx hb dX3_comesFrom_10 (by decide) (fun c_2 => ?_) (fun c_2 => ?_)
  · replace hf := ww_ip hf c_2
    refine lv_iconst (v := (-1 : Int32)) hx hb dX3_comesFrom_29 (by decide) ?_
    exact hend dX3_comesFrom_30 rfl rfl hf hR hS
  · replace hf := ww_in hf c_2
    refine lv_iload_n hx hb dX3_comesFrom_13 rfl (lv_at hl 2 rfl) ?_
    refine lv_i2l (v := x2.toInt64) hx hb dX3_comesFrom_14 rfl ?_
    refine lv_lconst (v := (0 : Int64)) hx hb dX3_comesFrom_15 (by decide) ?_
    refine lv_aload_n hx hb dX3_comesFrom_16 rfl (lv_at hl 0 rfl) ?_
    refine t3g_41 X hK hR dX3_comesFrom_17 ?_
    refine lv_iconst (v := (1 : Int32)) hx hb dX3_comesFrom_20 (by decide) ?_
    refine lv_isub hx hb dX3_comesFrom_21 ?_
    refine lv_i2l (v := ((ww_F (ww_sF M 0 (0 : Int32)) 41) - (1 : Int32)).toInt64) hx hb dX3_comesFrom_22 rfl ?_
    obtain ⟨r_3, h_3, hf⟩ := ww_bS hf
    refine t3c_isIn X hl.1 (Nat.le_trans (Nat.le_of_ble_eq_true rfl) hF) (Nat.le_trans (Nat.le_of_ble_eq_true rfl) hLo) h_3 (Nat.le_of_ble_eq_true rfl) dX3_comesFrom_23 ?_
    refine lv_if_ne (tgt := 31) hx hb dX3_comesFrom_26 (by decide) (fun c_4 => ?_) (fun c_4 => ?_)
    · replace hf := ww_in hf c_4
      refine lv_iconst (v := (0 : Int32)) hx hb dX3_comesFrom_31 (by decide) ?_
      refine lv_istore_n (lv' := [(3, .int (0 : Int32)), (0, .ref E.1), (1, .int x1), (2, .int x2)]) hx hb dX3_comesFrom_32 rfl hl (by decide) rfl (fun ls hl => ?_)
      have hL_1 : ∀ s9 : ww_M × Int32, ww_U (f3_comesFrom_b1 x1 x2) s9 = some (r, M') → ∀ (H : Heap) (locs : List Loc) (ls : Array Slot), t3_H E s9.1 H → va_S (t3_A E) s.heap H locs → lv_has ls 4 [(0, .ref E.1), (1, .int x1), (2, .int x2), (3, .int s9.2)] → W p l e Rm s m args below meth c H locs 0 0 Q (F0 m 33 ls []) := by
        refine ww_ind _ (r, M') ?_
        intro s9 z_1 hf hz_1 H locs ls hR hS hl
        obtain ⟨M_5, x3⟩ := s9
        replace hf : f3_comesFrom_b1c x1 x2 M_5 x3 = some z_1 := hf
        unfold f3_comesFrom_b1c at hf
        replace hR : t3_H E M_5 H := hR
        replace hl : lv_has ls 4 [(0, .ref E.1), (1, .int x1), (2, .int x2), (3, .int x3)] := hl
        refine lv_iload_n hx hb dX3_comesFrom_33 rfl (lv_at hl 3 rfl) ?_
        refine lv_aload_n hx hb dX3_comesFrom_34 rfl (lv_at hl 0 rfl) ?_
        refine t3g_41 X hK hR dX3_comesFrom_35 ?_
        refine lv_icmp_ge (tgt := 54) hx hb dX3_comesFrom_38 (by decide) (fun c_6 => ?_) (fun c_6 => ?_)
        · replace hf := ww_ip hf c_6
          replace hf := ww_xK hf hz_1
          refine lv_aload_n hx hb dX3_comesFrom_54 rfl (lv_at hl 0 rfl) ?_
          refine lv_iload_n hx hb dX3_comesFrom_55 rfl (lv_at hl 1 rfl) ?_
          refine lv_iconst (v := (1 : Int32)) hx hb dX3_comesFrom_56 (by decide) ?_
          obtain ⟨M_7, h_7, hf⟩ := ww_bS hf
          refine t3c_laysSources X hl.1 hK hD hR hS (Nat.le_trans (Nat.le_of_ble_eq_true rfl) hF) (Nat.le_trans (Nat.le_of_ble_eq_true rfl) hLo) h_7 (Nat.le_of_ble_eq_true rfl) dX3_comesFrom_57 (fun H locs hR hS => ?_)
          refine lv_aload_n hx hb dX3_comesFrom_60 rfl (lv_at hl 0 rfl) ?_
          refine t3g_55 X hK hR dX3_comesFrom_61 ?_
          refine lv_iload_n hx hb dX3_comesFrom_64 rfl (lv_at hl 2 rfl) ?_
          obtain ⟨h_8, hf⟩ := ww_gS hf
          refine t3l_55 X hK hR h_8 dX3_comesFrom_65 ?_
          exact hend dX3_comesFrom_66 rfl rfl hf hR hS
        · replace hf := ww_in hf c_6
          refine lv_aload_n hx hb dX3_comesFrom_41 rfl (lv_at hl 0 rfl) ?_
          refine t3g_55 X hK hR dX3_comesFrom_42 ?_
          refine lv_iload_n hx hb dX3_comesFrom_45 rfl (lv_at hl 3 rfl) ?_
          refine lv_iconst (v := (0 : Int32)) hx hb dX3_comesFrom_46 (by decide) ?_
          obtain ⟨h_9, hf⟩ := ww_gS hf
          refine t3s_55 X hK hD hR hS h_9 dX3_comesFrom_47 (fun H locs hR hS => ?_)
          refine lv_iinc (k := 3) (v := x3 + (1 : Int32)) (lv' := [(3, .int (x3 + (1 : Int32))), (0, .ref E.1), (1, .int x1), (2, .int x2)]) hx hb dX3_comesFrom_48 hl rfl rfl (by decide) rfl (fun ls hl => ?_)
          refine lv_goto (tgt := 33) hx hb dX3_comesFrom_51 (by decide) ?_
          exact ww_lK hf hz_1 _ _ _ hR hS (lv_sub hl [1, 2, 3, 0] rfl)
      exact hL_1 ((ww_sF M 0 (0 : Int32)), (0 : Int32)) hf _ _ _ hR hS (lv_sub hl [1, 2, 3, 0] rfl)
    · replace hf := ww_ip hf c_4
      refine lv_iconst (v := (-1 : Int32)) hx hb dX3_comesFrom_29 (by decide) ?_
      exact hend dX3_comesFrom_30 rfl rfl hf hR hS
noncomputable def f3_writes (M : ww_M) (x1 : Int32) : Option (ww_M) :=
  ww_g (ww_i (ww_F M 53) 1400) (some (ww_sF (ww_sX M 51 (ww_F M 53) (vp_nar .byte x1.toInt8.toInt32)) 53 ((ww_F (ww_sX M 51 (ww_F M 53) (vp_nar .byte x1.toInt8.toInt32)) 53) + (1 : Int32))))
section T3_writes_k
variable {p : Program} {l : Launch} {e : Env} {R : Room} {s : State} {m : MethodId} {args : Array Value} {below : List Frame} {meth : Method} {c : Code} {H : Heap} {locs : List Loc} {Q : State → Prop}
variable {cc : ByteArray} {pc : Nat} {ls : Array Slot} {rest : List Value} {nL : Nat} {E : ww_E} {A : Nat → Prop} {H0 : Heap}
theorem t3k_writes {M M' : ww_M} {x1 : Int32} (X : ww_C p m c cc nL s args RX3 lw_all) (hsz : ls.size = nL) (hK : t3_Kn E s) (hD : t3_D E) (hR : t3_H E M H) (hS : va_S (t3_A E) H0 H locs) (hF : 1 ≤ R.frames) (hLo : 21 ≤ R.locals) (hM : t3_MetV l yX3_writes cX3_writes 2 0 0 E [.int x1] M M') (hrest : (rest.map fun v => v.category).sum ≤ 8) (hdg : decode cc pc = .ok (.invokevirtual 438, 3)) (kk : ∀ (H1 : Heap) (locs1 : List Loc), t3_H E M' H1 → va_S (t3_A E) H0 H1 locs1 → W p l e R s m args below meth c H1 locs1 0 0 Q (F0 m (pc + 3) ls (rest))) : W p l e R s m args below meth c H locs 0 0 Q (F0 m pc ls (.int x1 :: .ref E.1 :: rest)) :=
  t3_callV (n := 1) X hsz hK hR hS (As := [.int x1]) hM (lw_V q2333 q2335 qs127 q135 q2336) (by decide +kernel) rfl hF hLo (Nat.zero_le _) (Nat.zero_le _) hrest hdg kk
end T3_writes_k
set_option maxHeartbeats 4000000 in
set_option maxRecDepth 100000 in
theorem met3_writes (l : Launch) {E : ww_E} (hD : t3_D E) (M : ww_M) (x1 : Int32) (M' : ww_M) (hf : f3_writes M x1 = some M') : t3_MetV l yX3_writes cX3_writes 2 0 0 E [.int x1] M M' := by
  unfold f3_writes at hf
  refine t3_startV (by decide +kernel) (Nat.le_of_ble_eq_true rfl) ?_
  intro p e s m args below meth c Rm Q X hK hF hLo hend ls hl hR hS
  obtain ⟨hx, hb, hml, hown, hts⟩ := id X
  replace hl : lv_has ls 2 [(0, .ref E.1), (1, .int x1)] := hl
  refine lv_aload_n hx hb dX3_writes_0 rfl (lv_at hl 0 rfl) ?_
  refine t3g_51 X hK hR dX3_writes_1 ?_
  refine lv_aload_n hx hb dX3_writes_4 rfl (lv_at hl 0 rfl) ?_
  refine t3g_53 X hK hR dX3_writes_5 ?_
  refine lv_iload_n hx hb dX3_writes_8 rfl (lv_at hl 1 rfl) ?_
  refine lv_i2b (v := x1.toInt8.toInt32) hx hb dX3_writes_9 rfl ?_
  obtain ⟨h_1, hf⟩ := ww_gS hf
  refine t3s_51 X hK hD hR hS h_1 dX3_writes_10 (fun H locs hR hS => ?_)
  refine lv_aload_n hx hb dX3_writes_11 rfl (lv_at hl 0 rfl) ?_
  refine lv_dup hx hb dX3_writes_12 rfl ?_
  refine t3g_53 X hK hR dX3_writes_13 ?_
  refine lv_iconst (v := (1 : Int32)) hx hb dX3_writes_16 (by decide) ?_
  refine lv_iadd hx hb dX3_writes_17 ?_
  refine t3p_53 X hK hD hR hS dX3_writes_18 (fun H locs hR hS => ?_)
  exact hend dX3_writes_21 hf hR hS
section T3_writes_c
variable {p : Program} {l : Launch} {e : Env} {R : Room} {s : State} {m : MethodId} {args : Array Value} {below : List Frame} {meth : Method} {c : Code} {H : Heap} {locs : List Loc} {Q : State → Prop}
variable {cc : ByteArray} {pc : Nat} {ls : Array Slot} {rest : List Value} {nL : Nat} {E : ww_E} {A : Nat → Prop} {H0 : Heap}
theorem t3c_writes {M M' : ww_M} {x1 : Int32} (X : ww_C p m c cc nL s args RX3 lw_all) (hsz : ls.size = nL) (hK : t3_Kn E s) (hD : t3_D E) (hR : t3_H E M H) (hS : va_S (t3_A E) H0 H locs) (hF : 1 ≤ R.frames) (hLo : 21 ≤ R.locals) (hf : f3_writes M x1 = some M') (hrest : (rest.map fun v => v.category).sum ≤ 8) (hdg : decode cc pc = .ok (.invokevirtual 438, 3)) (kk : ∀ (H1 : Heap) (locs1 : List Loc), t3_H E M' H1 → va_S (t3_A E) H0 H1 locs1 → W p l e R s m args below meth c H1 locs1 0 0 Q (F0 m (pc + 3) ls (rest))) : W p l e R s m args below meth c H locs 0 0 Q (F0 m pc ls (.int x1 :: .ref E.1 :: rest)) :=
  t3k_writes X hsz hK hD hR hS hF hLo (met3_writes l hD _ _ _ hf) hrest hdg kk
end T3_writes_c
noncomputable def f3_writesNumber_j2 (y2 : Int32) (M_2 : ww_M) : Option (ww_M) :=
  if y2 ≤ (9 : Int32) then ww_b (f3_writes M_2 ((48 : Int32) + (y2 - y2 / (10 : Int32) * (10 : Int32)))) (fun M_4 => some M_4) else ww_b (f3_writes M_2 ((48 : Int32) + ((y2 / (10 : Int32)) - (y2 / (10 : Int32)) / (10 : Int32) * (10 : Int32)))) (fun M_5 => ww_b (f3_writes M_5 ((48 : Int32) + (y2 - y2 / (10 : Int32) * (10 : Int32)))) (fun M_6 => some M_6))
noncomputable def f3_writesNumber_j1 (y1 : Int32) (M_1 : ww_M) : Option (ww_M) :=
  if (if 0 ≤ y1 then y1 else 0 - y1) ≤ (99 : Int32) then f3_writesNumber_j2 (if 0 ≤ y1 then y1 else 0 - y1) M_1 else ww_b (f3_writes M_1 ((48 : Int32) + ((if 0 ≤ y1 then y1 else 0 - y1) / (100 : Int32)))) (fun M_8 => f3_writesNumber_j2 (if 0 ≤ y1 then y1 else 0 - y1) M_8)
noncomputable def f3_writesNumber (M : ww_M) (x1 : Int32) : Option (ww_M) :=
  if 0 ≤ x1 then f3_writesNumber_j1 x1 M else ww_b (f3_writes M (45 : Int32)) (fun M_10 => f3_writesNumber_j1 x1 M_10)
section T3_writesNumber_k
variable {p : Program} {l : Launch} {e : Env} {R : Room} {s : State} {m : MethodId} {args : Array Value} {below : List Frame} {meth : Method} {c : Code} {H : Heap} {locs : List Loc} {Q : State → Prop}
variable {cc : ByteArray} {pc : Nat} {ls : Array Slot} {rest : List Value} {nL : Nat} {E : ww_E} {A : Nat → Prop} {H0 : Heap}
theorem t3k_writesNumber {M M' : ww_M} {x1 : Int32} (X : ww_C p m c cc nL s args RX3 lw_all) (hsz : ls.size = nL) (hK : t3_Kn E s) (hD : t3_D E) (hR : t3_H E M H) (hS : va_S (t3_A E) H0 H locs) (hF : 2 ≤ R.frames) (hLo : 62 ≤ R.locals) (hM : t3_MetV l yX3_writesNumber cX3_writesNumber 3 1 40 E [.int x1] M M') (hrest : (rest.map fun v => v.category).sum ≤ 8) (hdg : decode cc pc = .ok (.invokevirtual 447, 3)) (kk : ∀ (H1 : Heap) (locs1 : List Loc), t3_H E M' H1 → va_S (t3_A E) H0 H1 locs1 → W p l e R s m args below meth c H1 locs1 0 0 Q (F0 m (pc + 3) ls (rest))) : W p l e R s m args below meth c H locs 0 0 Q (F0 m pc ls (.int x1 :: .ref E.1 :: rest)) :=
  t3_callV (n := 1) X hsz hK hR hS (As := [.int x1]) hM (lw_V q2337 q2339 qs128 q135 q2340) (by decide +kernel) rfl hF hLo (Nat.zero_le _) (Nat.zero_le _) hrest hdg kk
end T3_writesNumber_k
set_option maxHeartbeats 4000000 in
set_option maxRecDepth 100000 in
theorem met3_writesNumber (l : Launch) {E : ww_E} (hD : t3_D E) (M : ww_M) (x1 : Int32) (M' : ww_M) (hf : f3_writesNumber M x1 = some M') : t3_MetV l yX3_writesNumber cX3_writesNumber 3 1 40 E [.int x1] M M' := by
  unfold f3_writesNumber at hf
  refine t3_startV (by decide +kernel) (Nat.le_of_ble_eq_true rfl) ?_
  intro p e s m args below meth c Rm Q X hK hF hLo hend ls hl hR hS
  obtain ⟨hx, hb, hml, hown, hts⟩ := id X
  replace hl : lv_has ls 3 [(0, .ref E.1), (1, .int x1)] := hl
  refine lv_iload_n hx hb dX3_writesNumber_0 rfl (lv_at hl 1 rfl) ?_
  have hj_1 : ∀ (M_1 : ww_M), f3_writesNumber_j1 x1 M_1 = some M' → ∀ (H : Heap) (locs : List Loc) (ls : Array Slot), t3_H E M_1 H → va_S (t3_A E) s.heap H locs → lv_has ls 3 [(0, .ref E.1), (1, .int x1)] → W p l e Rm s m args below meth c H locs 0 0 Q (F0 m 10 ls []) := by
    intro M_1 hf H locs ls hR hS hl
    unfold f3_writesNumber_j1 at hf
    refine lv_iload_n hx hb dX3_writesNumber_10 rfl (lv_at hl 1 rfl) ?_
    refine va_mabs hx hb (hml.trans hl.1.symm) hown (hts _ q2341) (hts _ q2342) (hts _ q141) (hts _ q2343) (Nat.le_trans (Nat.le_of_ble_eq_true rfl) hF) (Nat.le_trans (Nat.le_of_ble_eq_true rfl) hLo) (Nat.zero_le _) (Nat.zero_le _) dX3_writesNumber_11 ?_
    refine lv_istore_n (lv' := [(2, .int (if 0 ≤ x1 then x1 else 0 - x1)), (0, .ref E.1), (1, .int x1)]) hx hb dX3_writesNumber_14 rfl hl (by decide) rfl (fun ls hl => ?_)
    refine lv_iload_n hx hb dX3_writesNumber_15 rfl (lv_at hl 0 rfl) ?_
    refine lv_bipush (v := (99 : Int32)) hx hb dX3_writesNumber_16 (by decide) ?_
    have hj_2 : ∀ (M_2 : ww_M), f3_writesNumber_j2 (if 0 ≤ x1 then x1 else 0 - x1) M_2 = some M' → ∀ (H : Heap) (locs : List Loc) (ls : Array Slot), t3_H E M_2 H → va_S (t3_A E) s.heap H locs → lv_has ls 3 [(0, .ref E.1), (2, .int (if 0 ≤ x1 then x1 else 0 - x1))] → W p l e Rm s m args below meth c H locs 0 0 Q (F0 m 32 ls []) := by
      intro M_2 hf H locs ls hR hS hl
      unfold f3_writesNumber_j2 at hf
      refine lv_iload_n hx hb dX3_writesNumber_32 rfl (lv_at hl 1 rfl) ?_
      refine lv_bipush (v := (9 : Int32)) hx hb dX3_writesNumber_33 (by decide) ?_
      refine lv_icmp_le (tgt := 52) hx hb dX3_writesNumber_35 (by decide) (fun c_3 => ?_) (fun c_3 => ?_)
      · replace hf := ww_ip hf c_3
        refine lv_aload_n hx hb dX3_writesNumber_52 rfl (lv_at hl 0 rfl) ?_
        refine lv_bipush (v := (48 : Int32)) hx hb dX3_writesNumber_53 (by decide) ?_
        refine lv_iload_n hx hb dX3_writesNumber_55 rfl (lv_at hl 1 rfl) ?_
        refine lv_bipush (v := (10 : Int32)) hx hb dX3_writesNumber_56 (by decide) ?_
        refine lv_irem hx hb dX3_writesNumber_58 (by decide) ?_
        refine lv_iadd hx hb dX3_writesNumber_59 ?_
        obtain ⟨M_4, h_4, hf⟩ := ww_bS hf
        refine t3c_writes X hl.1 hK hD hR hS (Nat.le_trans (Nat.le_of_ble_eq_true rfl) hF) (Nat.le_trans (Nat.le_of_ble_eq_true rfl) hLo) h_4 (Nat.le_of_ble_eq_true rfl) dX3_writesNumber_60 (fun H locs hR hS => ?_)
        exact hend dX3_writesNumber_63 hf hR hS
      · replace hf := ww_in hf c_3
        refine lv_aload_n hx hb dX3_writesNumber_38 rfl (lv_at hl 0 rfl) ?_
        refine lv_bipush (v := (48 : Int32)) hx hb dX3_writesNumber_39 (by decide) ?_
        refine lv_iload_n hx hb dX3_writesNumber_41 rfl (lv_at hl 1 rfl) ?_
        refine lv_bipush (v := (10 : Int32)) hx hb dX3_writesNumber_42 (by decide) ?_
        refine lv_idiv hx hb dX3_writesNumber_44 (by decide) ?_
        refine lv_bipush (v := (10 : Int32)) hx hb dX3_writesNumber_45 (by decide) ?_
        refine lv_irem hx hb dX3_writesNumber_47 (by decide) ?_
        refine lv_iadd hx hb dX3_writesNumber_48 ?_
        obtain ⟨M_5, h_5, hf⟩ := ww_bS hf
        refine t3c_writes X hl.1 hK hD hR hS (Nat.le_trans (Nat.le_of_ble_eq_true rfl) hF) (Nat.le_trans (Nat.le_of_ble_eq_true rfl) hLo) h_5 (Nat.le_of_ble_eq_true rfl) dX3_writesNumber_49 (fun H locs hR hS => ?_)
        refine lv_aload_n hx hb dX3_writesNumber_52 rfl (lv_at hl 0 rfl) ?_
        refine lv_bipush (v := (48 : Int32)) hx hb dX3_writesNumber_53 (by decide) ?_
        refine lv_iload_n hx hb dX3_writesNumber_55 rfl (lv_at hl 1 rfl) ?_
        refine lv_bipush (v := (10 : Int32)) hx hb dX3_writesNumber_56 (by decide) ?_
        refine lv_irem hx hb dX3_writesNumber_58 (by decide) ?_
        refine lv_iadd hx hb dX3_writesNumber_59 ?_
        obtain ⟨M_6, h_6, hf⟩ := ww_bS hf
        refine t3c_writes X hl.1 hK hD hR hS (Nat.le_trans (Nat.le_of_ble_eq_true rfl) hF) (Nat.le_trans (Nat.le_of_ble_eq_true rfl) hLo) h_6 (Nat.le_of_ble_eq_true rfl) dX3_writesNumber_60 (fun H locs hR hS => ?_)
        exact hend dX3_writesNumber_63 hf hR hS
    refine lv_icmp_le (tgt := 32) hx hb dX3_writesNumber_18 (by decide) (fun c_7 => ?_) (fun c_7 => ?_)
    · replace hf := ww_ip hf c_7
      exact hj_2 M_1 hf _ _ _ hR hS (lv_sub hl [1, 0] rfl)
    · replace hf := ww_in hf c_7
      refine lv_aload_n hx hb dX3_writesNumber_21 rfl (lv_at hl 1 rfl) ?_
      refine lv_bipush (v := (48 : Int32)) hx hb dX3_writesNumber_22 (by decide) ?_
      refine lv_iload_n hx hb dX3_writesNumber_24 rfl (lv_at hl 0 rfl) ?_
      refine lv_bipush (v := (100 : Int32)) hx hb dX3_writesNumber_25 (by decide) ?_
      refine lv_idiv hx hb dX3_writesNumber_27 (by decide) ?_
      refine lv_iadd hx hb dX3_writesNumber_28 ?_
      obtain ⟨M_8, h_8, hf⟩ := ww_bS hf
      refine t3c_writes X hl.1 hK hD hR hS (Nat.le_trans (Nat.le_of_ble_eq_true rfl) hF) (Nat.le_trans (Nat.le_of_ble_eq_true rfl) hLo) h_8 (Nat.le_of_ble_eq_true rfl) dX3_writesNumber_29 (fun H locs hR hS => ?_)
      exact hj_2 M_8 hf _ _ _ hR hS (lv_sub hl [1, 0] rfl)
  refine lv_if_ge (tgt := 10) hx hb dX3_writesNumber_1 (by decide) (fun c_9 => ?_) (fun c_9 => ?_)
  · replace hf := ww_ip hf c_9
    exact hj_1 M hf _ _ _ hR hS hl
  · replace hf := ww_in hf c_9
    refine lv_aload_n hx hb dX3_writesNumber_4 rfl (lv_at hl 0 rfl) ?_
    refine lv_bipush (v := (45 : Int32)) hx hb dX3_writesNumber_5 (by decide) ?_
    obtain ⟨M_10, h_10, hf⟩ := ww_bS hf
    refine t3c_writes X hl.1 hK hD hR hS (Nat.le_trans (Nat.le_of_ble_eq_true rfl) hF) (Nat.le_trans (Nat.le_of_ble_eq_true rfl) hLo) h_10 (Nat.le_of_ble_eq_true rfl) dX3_writesNumber_7 (fun H locs hR hS => ?_)
    exact hj_1 M_10 hf _ _ _ hR hS hl
section T3_writesNumber_c
variable {p : Program} {l : Launch} {e : Env} {R : Room} {s : State} {m : MethodId} {args : Array Value} {below : List Frame} {meth : Method} {c : Code} {H : Heap} {locs : List Loc} {Q : State → Prop}
variable {cc : ByteArray} {pc : Nat} {ls : Array Slot} {rest : List Value} {nL : Nat} {E : ww_E} {A : Nat → Prop} {H0 : Heap}
theorem t3c_writesNumber {M M' : ww_M} {x1 : Int32} (X : ww_C p m c cc nL s args RX3 lw_all) (hsz : ls.size = nL) (hK : t3_Kn E s) (hD : t3_D E) (hR : t3_H E M H) (hS : va_S (t3_A E) H0 H locs) (hF : 2 ≤ R.frames) (hLo : 62 ≤ R.locals) (hf : f3_writesNumber M x1 = some M') (hrest : (rest.map fun v => v.category).sum ≤ 8) (hdg : decode cc pc = .ok (.invokevirtual 447, 3)) (kk : ∀ (H1 : Heap) (locs1 : List Loc), t3_H E M' H1 → va_S (t3_A E) H0 H1 locs1 → W p l e R s m args below meth c H1 locs1 0 0 Q (F0 m (pc + 3) ls (rest))) : W p l e R s m args below meth c H locs 0 0 Q (F0 m pc ls (.int x1 :: .ref E.1 :: rest)) :=
  t3k_writesNumber X hsz hK hD hR hS hF hLo (met3_writesNumber l hD _ _ _ hf) hrest hdg kk
end T3_writesNumber_c
noncomputable def f3_writesNode_j2 (rec : ww_M → Int32 → Option (ww_M)) (y1 : Int32) (y2 : Int32) (M_12 : ww_M) : Option ((ww_M × Int32) ⊕ (ww_M)) :=
  ww_g (ww_i (((7 : Int32) * y1) + y2) 84000) (ww_b (f3_writesNumber M_12 (ww_X M_12 15 (((7 : Int32) * y1) + y2))) (fun M_14 => ww_b (f3_writes M_14 (58 : Int32)) (fun M_15 => ww_g (ww_i (((7 : Int32) * y1) + y2) 84000) (ww_b (f3_writesNumber M_15 (ww_X M_15 16 (((7 : Int32) * y1) + y2))) (fun M_17 => some (.inl (M_17, (y2 + (1 : Int32)))))))))
noncomputable def f3_writesNode_b1c (rec : ww_M → Int32 → Option (ww_M)) (y1 : Int32) (M_3 : ww_M) (x2 : Int32) : Option ((ww_M × Int32) ⊕ (ww_M)) :=
  ww_g (ww_i y1 12000) (if (ww_X M_3 11 y1) ≤ x2 then ww_x (ww_g (ww_i y1 12000) (if (ww_X M_3 10 y1) = (1 : Int32) then ww_b (f3_writes M_3 (93 : Int32)) (fun M_9 => some M_9) else ww_b (f3_writes M_3 (41 : Int32)) (fun M_8 => some M_8))) else ww_g (ww_i y1 12000) (if (ww_X M_3 10 y1) = 0 then ww_b (f3_child M_3 y1 x2) (fun r_20 => ww_b (rec M_3 r_20) (fun M_21 => some (.inl (M_21, (x2 + (1 : Int32)))))) else if x2 ≤ 0 then f3_writesNode_j2 rec y1 x2 M_3 else ww_b (f3_writes M_3 (32 : Int32)) (fun M_19 => f3_writesNode_j2 rec y1 x2 M_19)))
noncomputable def f3_writesNode_b1 (rec : ww_M → Int32 → Option (ww_M)) (y1 : Int32) : (ww_M × Int32) → Option ((ww_M × Int32) ⊕ (ww_M)) := fun s9 => f3_writesNode_b1c rec y1 s9.1 s9.2
noncomputable def f3_writesNode_j1 (rec : ww_M → Int32 → Option (ww_M)) (M : ww_M) (y1 : Int32) (t1 : Int32) : Option (ww_M) :=
  ww_b (f3_writes M t1) (fun M_2 => ww_U (f3_writesNode_b1 rec y1) (M_2, (0 : Int32)))
noncomputable def f3_writesNode_r (rec : ww_M → Int32 → Option (ww_M)) (M : ww_M) (x1 : Int32) : Option (ww_M) :=
  ww_g (ww_i x1 12000) (if (ww_X M 10 x1) = (1 : Int32) then f3_writesNode_j1 rec M x1 (91 : Int32) else f3_writesNode_j1 rec M x1 (40 : Int32))
noncomputable def f3_writesNode : Nat → ww_M → Int32 → Option (ww_M)
  | 0 => fun _ _ => none
  | d + 1 => f3_writesNode_r (f3_writesNode d)
section T3_writesNode_k
variable {p : Program} {l : Launch} {e : Env} {R : Room} {s : State} {m : MethodId} {args : Array Value} {below : List Frame} {meth : Method} {c : Code} {H : Heap} {locs : List Loc} {Q : State → Prop}
variable {cc : ByteArray} {pc : Nat} {ls : Array Slot} {rest : List Value} {nL : Nat} {E : ww_E} {A : Nat → Prop} {H0 : Heap}
theorem t3k_writesNode {M M' : ww_M} {x1 : Int32} {d : Nat} (X : ww_C p m c cc nL s args RX3 lw_all) (hsz : ls.size = nL) (hK : t3_Kn E s) (hD : t3_D E) (hR : t3_H E M H) (hS : va_S (t3_A E) H0 H locs) (hF : (d + 2) + 1 ≤ R.frames) (hLo : 8 + (3 + 11) + (22 * d + 62) ≤ R.locals) (hM : t3_MetV l yX3_writesNode cX3_writesNode 3 (d + 2) (22 * d + 62) E [.int x1] M M') (hrest : (rest.map fun v => v.category).sum ≤ 8) (hdg : decode cc pc = .ok (.invokevirtual 444, 3)) (kk : ∀ (H1 : Heap) (locs1 : List Loc), t3_H E M' H1 → va_S (t3_A E) H0 H1 locs1 → W p l e R s m args below meth c H1 locs1 0 0 Q (F0 m (pc + 3) ls (rest))) : W p l e R s m args below meth c H locs 0 0 Q (F0 m pc ls (.int x1 :: .ref E.1 :: rest)) :=
  t3_callV (n := 1) X hsz hK hR hS (As := [.int x1]) hM (lw_V q2329 q2331 qs126 q135 q2332) (by decide +kernel) rfl hF hLo (Nat.zero_le _) (Nat.zero_le _) hrest hdg kk
end T3_writesNode_k
set_option maxHeartbeats 4000000 in
set_option maxRecDepth 100000 in
theorem met3_writesNode (l : Launch) {E : ww_E} (hD : t3_D E) : ∀ (d : Nat) (M : ww_M) (x1 : Int32) (M' : ww_M), f3_writesNode d M x1 = some M' → t3_MetV l yX3_writesNode cX3_writesNode 3 (d + 2) (22 * d + 62) E [.int x1] M M' := by
  intro d
  induction d with
  | zero => intro M x1 M' hf; cases hf
  | succ d ih =>
    intro M x1 M' hf
    replace hf : f3_writesNode_r (f3_writesNode d) M x1 = some M' := hf
    unfold f3_writesNode_r at hf
    refine t3_startV (by decide +kernel) (Nat.le_of_ble_eq_true rfl) ?_
    intro p e s m args below meth c Rm Q X hK hF hLo hend ls hl hR hS
    obtain ⟨hx, hb, hml, hown, hts⟩ := id X
    replace hl : lv_has ls 3 [(0, .ref E.1), (1, .int x1)] := hl
    refine lv_aload_n hx hb dX3_writesNode_0 rfl (lv_at hl 0 rfl) ?_
    refine lv_aload_n hx hb dX3_writesNode_1 rfl (lv_at hl 0 rfl) ?_
    refine t3g_10 X hK hR dX3_writesNode_2 ?_
    refine lv_iload_n hx hb dX3_writesNode_5 rfl (lv_at hl 1 rfl) ?_
    obtain ⟨h_1, hf⟩ := ww_gS hf
    refine t3l_10 X hK hR h_1 dX3_writesNode_6 ?_
    refine lv_iconst (v := (1 : Int32)) hx hb dX3_writesNode_7 (by decide) ?_
    have hj_1 : ∀ (t1 : Int32), f3_writesNode_j1 (f3_writesNode d) M x1 t1 = some M' → ∀ (H : Heap) (locs : List Loc) (ls : Array Slot), t3_H E M H → va_S (t3_A E) s.heap H locs → lv_has ls 3 [(0, .ref E.1), (1, .int x1)] → W p l e Rm s m args below meth c H locs 0 0 Q (F0 m 18 ls [.int t1, .ref E.1]) := by
      intro t1 hf H locs ls hR hS hl
      unfold f3_writesNode_j1 at hf
      obtain ⟨M_2, h_2, hf⟩ := ww_bS hf
      refine t3c_writes X hl.1 hK hD hR hS (by omega) (by omega) h_2 (Nat.le_of_ble_eq_true rfl) dX3_writesNode_18 (fun H locs hR hS => ?_)
      refine lv_iconst (v := (0 : Int32)) hx hb dX3_writesNode_21 (by decide) ?_
      refine lv_istore_n (lv' := [(2, .int (0 : Int32)), (0, .ref E.1), (1, .int x1)]) hx hb dX3_writesNode_22 rfl hl (by decide) rfl (fun ls hl => ?_)
      have hL_1 : ∀ s9 : ww_M × Int32, ww_U (f3_writesNode_b1 (f3_writesNode d) x1) s9 = some M' → ∀ (H : Heap) (locs : List Loc) (ls : Array Slot), t3_H E s9.1 H → va_S (t3_A E) s.heap H locs → lv_has ls 3 [(0, .ref E.1), (1, .int x1), (2, .int s9.2)] → W p l e Rm s m args below meth c H locs 0 0 Q (F0 m 23 ls []) := by
        refine ww_ind _ M' ?_
        intro s9 z_1 hf hz_1 H locs ls hR hS hl
        obtain ⟨M_3, x2⟩ := s9
        replace hf : f3_writesNode_b1c (f3_writesNode d) x1 M_3 x2 = some z_1 := hf
        unfold f3_writesNode_b1c at hf
        replace hR : t3_H E M_3 H := hR
        replace hl : lv_has ls 3 [(0, .ref E.1), (1, .int x1), (2, .int x2)] := hl
        refine lv_iload_n hx hb dX3_writesNode_23 rfl (lv_at hl 2 rfl) ?_
        refine lv_aload_n hx hb dX3_writesNode_24 rfl (lv_at hl 0 rfl) ?_
        refine t3g_11 X hK hR dX3_writesNode_25 ?_
        refine lv_iload_n hx hb dX3_writesNode_28 rfl (lv_at hl 1 rfl) ?_
        obtain ⟨h_4, hf⟩ := ww_gS hf
        refine t3l_11 X hK hR h_4 dX3_writesNode_29 ?_
        refine lv_icmp_ge (tgt := 107) hx hb dX3_writesNode_30 (by decide) (fun c_5 => ?_) (fun c_5 => ?_)
        · replace hf := ww_ip hf c_5
          replace hf := ww_xK hf hz_1
          refine lv_aload_n hx hb dX3_writesNode_107 rfl (lv_at hl 0 rfl) ?_
          refine lv_aload_n hx hb dX3_writesNode_108 rfl (lv_at hl 0 rfl) ?_
          refine t3g_10 X hK hR dX3_writesNode_109 ?_
          refine lv_iload_n hx hb dX3_writesNode_112 rfl (lv_at hl 1 rfl) ?_
          obtain ⟨h_6, hf⟩ := ww_gS hf
          refine t3l_10 X hK hR h_6 dX3_writesNode_113 ?_
          refine lv_iconst (v := (1 : Int32)) hx hb dX3_writesNode_114 (by decide) ?_
          refine lv_icmp_ne (tgt := 123) hx hb dX3_writesNode_115 (by decide) (fun c_7 => ?_) (fun c_7 => ?_)
          · replace hf := ww_in hf c_7
            refine lv_bipush (v := (41 : Int32)) hx hb dX3_writesNode_123 (by decide) ?_
            obtain ⟨M_8, h_8, hf⟩ := ww_bS hf
            refine t3c_writes X hl.1 hK hD hR hS (by omega) (by omega) h_8 (Nat.le_of_ble_eq_true rfl) dX3_writesNode_125 (fun H locs hR hS => ?_)
            exact hend dX3_writesNode_128 hf hR hS
          · replace hf := ww_ip hf c_7
            refine lv_bipush (v := (93 : Int32)) hx hb dX3_writesNode_118 (by decide) ?_
            refine lv_goto (tgt := 125) hx hb dX3_writesNode_120 (by decide) ?_
            obtain ⟨M_9, h_9, hf⟩ := ww_bS hf
            refine t3c_writes X hl.1 hK hD hR hS (by omega) (by omega) h_9 (Nat.le_of_ble_eq_true rfl) dX3_writesNode_125 (fun H locs hR hS => ?_)
            exact hend dX3_writesNode_128 hf hR hS
        · replace hf := ww_in hf c_5
          refine lv_aload_n hx hb dX3_writesNode_33 rfl (lv_at hl 0 rfl) ?_
          refine t3g_10 X hK hR dX3_writesNode_34 ?_
          refine lv_iload_n hx hb dX3_writesNode_37 rfl (lv_at hl 1 rfl) ?_
          obtain ⟨h_10, hf⟩ := ww_gS hf
          refine t3l_10 X hK hR h_10 dX3_writesNode_38 ?_
          refine lv_if_ne (tgt := 55) hx hb dX3_writesNode_39 (by decide) (fun c_11 => ?_) (fun c_11 => ?_)
          · replace hf := ww_in hf c_11
            refine lv_iload_n hx hb dX3_writesNode_55 rfl (lv_at hl 2 rfl) ?_
            have hj_2 : ∀ (M_12 : ww_M), f3_writesNode_j2 (f3_writesNode d) x1 x2 M_12 = some z_1 → ∀ (H : Heap) (locs : List Loc) (ls : Array Slot), t3_H E M_12 H → va_S (t3_A E) s.heap H locs → lv_has ls 3 [(0, .ref E.1), (1, .int x1), (2, .int x2)] → W p l e Rm s m args below meth c H locs 0 0 Q (F0 m 65 ls []) := by
              intro M_12 hf H locs ls hR hS hl
              unfold f3_writesNode_j2 at hf
              refine lv_aload_n hx hb dX3_writesNode_65 rfl (lv_at hl 0 rfl) ?_
              refine lv_aload_n hx hb dX3_writesNode_66 rfl (lv_at hl 0 rfl) ?_
              refine t3g_15 X hK hR dX3_writesNode_67 ?_
              refine lv_bipush (v := (7 : Int32)) hx hb dX3_writesNode_70 (by decide) ?_
              refine lv_iload_n hx hb dX3_writesNode_72 rfl (lv_at hl 1 rfl) ?_
              refine lv_imul hx hb dX3_writesNode_73 ?_
              refine lv_iload_n hx hb dX3_writesNode_74 rfl (lv_at hl 2 rfl) ?_
              refine lv_iadd hx hb dX3_writesNode_75 ?_
              obtain ⟨h_13, hf⟩ := ww_gS hf
              refine t3l_15 X hK hR h_13 dX3_writesNode_76 ?_
              obtain ⟨M_14, h_14, hf⟩ := ww_bS hf
              refine t3c_writesNumber X hl.1 hK hD hR hS (by omega) (by omega) h_14 (Nat.le_of_ble_eq_true rfl) dX3_writesNode_77 (fun H locs hR hS => ?_)
              refine lv_aload_n hx hb dX3_writesNode_80 rfl (lv_at hl 0 rfl) ?_
              refine lv_bipush (v := (58 : Int32)) hx hb dX3_writesNode_81 (by decide) ?_
              obtain ⟨M_15, h_15, hf⟩ := ww_bS hf
              refine t3c_writes X hl.1 hK hD hR hS (by omega) (by omega) h_15 (Nat.le_of_ble_eq_true rfl) dX3_writesNode_83 (fun H locs hR hS => ?_)
              refine lv_aload_n hx hb dX3_writesNode_86 rfl (lv_at hl 0 rfl) ?_
              refine lv_aload_n hx hb dX3_writesNode_87 rfl (lv_at hl 0 rfl) ?_
              refine t3g_16 X hK hR dX3_writesNode_88 ?_
              refine lv_bipush (v := (7 : Int32)) hx hb dX3_writesNode_91 (by decide) ?_
              refine lv_iload_n hx hb dX3_writesNode_93 rfl (lv_at hl 1 rfl) ?_
              refine lv_imul hx hb dX3_writesNode_94 ?_
              refine lv_iload_n hx hb dX3_writesNode_95 rfl (lv_at hl 2 rfl) ?_
              refine lv_iadd hx hb dX3_writesNode_96 ?_
              obtain ⟨h_16, hf⟩ := ww_gS hf
              refine t3l_16 X hK hR h_16 dX3_writesNode_97 ?_
              obtain ⟨M_17, h_17, hf⟩ := ww_bS hf
              refine t3c_writesNumber X hl.1 hK hD hR hS (by omega) (by omega) h_17 (Nat.le_of_ble_eq_true rfl) dX3_writesNode_98 (fun H locs hR hS => ?_)
              refine lv_iinc (k := 2) (v := x2 + (1 : Int32)) (lv' := [(2, .int (x2 + (1 : Int32))), (0, .ref E.1), (1, .int x1)]) hx hb dX3_writesNode_101 hl rfl rfl (by decide) rfl (fun ls hl => ?_)
              refine lv_goto (tgt := 23) hx hb dX3_writesNode_104 (by decide) ?_
              exact ww_lK hf hz_1 _ _ _ hR hS (lv_sub hl [1, 2, 0] rfl)
            refine lv_if_le (tgt := 65) hx hb dX3_writesNode_56 (by decide) (fun c_18 => ?_) (fun c_18 => ?_)
            · replace hf := ww_ip hf c_18
              exact hj_2 M_3 hf _ _ _ hR hS hl
            · replace hf := ww_in hf c_18
              refine lv_aload_n hx hb dX3_writesNode_59 rfl (lv_at hl 0 rfl) ?_
              refine lv_bipush (v := (32 : Int32)) hx hb dX3_writesNode_60 (by decide) ?_
              obtain ⟨M_19, h_19, hf⟩ := ww_bS hf
              refine t3c_writes X hl.1 hK hD hR hS (by omega) (by omega) h_19 (Nat.le_of_ble_eq_true rfl) dX3_writesNode_62 (fun H locs hR hS => ?_)
              exact hj_2 M_19 hf _ _ _ hR hS hl
          · replace hf := ww_ip hf c_11
            refine lv_aload_n hx hb dX3_writesNode_42 rfl (lv_at hl 0 rfl) ?_
            refine lv_aload_n hx hb dX3_writesNode_43 rfl (lv_at hl 0 rfl) ?_
            refine lv_iload_n hx hb dX3_writesNode_44 rfl (lv_at hl 1 rfl) ?_
            refine lv_iload_n hx hb dX3_writesNode_45 rfl (lv_at hl 2 rfl) ?_
            obtain ⟨r_20, h_20, hf⟩ := ww_bS hf
            refine t3c_child X hl.1 hK hD hR hS (by omega) (by omega) h_20 (Nat.le_of_ble_eq_true rfl) dX3_writesNode_46 (fun H locs hR hS => ?_)
            obtain ⟨M_21, h_21, hf⟩ := ww_bS hf
            refine t3k_writesNode X hl.1 hK hD hR hS (by omega) (by omega) (ih _ _ _ h_21) (Nat.le_of_ble_eq_true rfl) dX3_writesNode_49 (fun H locs hR hS => ?_)
            refine lv_goto (tgt := 101) hx hb dX3_writesNode_52 (by decide) ?_
            refine lv_iinc (k := 2) (v := x2 + (1 : Int32)) (lv' := [(2, .int (x2 + (1 : Int32))), (0, .ref E.1), (1, .int x1)]) hx hb dX3_writesNode_101 hl rfl rfl (by decide) rfl (fun ls hl => ?_)
            refine lv_goto (tgt := 23) hx hb dX3_writesNode_104 (by decide) ?_
            exact ww_lK hf hz_1 _ _ _ hR hS (lv_sub hl [1, 2, 0] rfl)
      exact hL_1 (M_2, (0 : Int32)) hf _ _ _ hR hS (lv_sub hl [1, 2, 0] rfl)
    refine lv_icmp_ne (tgt := 16) hx hb dX3_writesNode_8 (by decide) (fun c_22 => ?_) (fun c_22 => ?_)
    · replace hf := ww_in hf c_22
      refine lv_bipush (v := (40 : Int32)) hx hb dX3_writesNode_16 (by decide) ?_
      exact hj_1 (40 : Int32) hf _ _ _ hR hS hl
    · replace hf := ww_ip hf c_22
      refine lv_bipush (v := (91 : Int32)) hx hb dX3_writesNode_11 (by decide) ?_
      refine lv_goto (tgt := 18) hx hb dX3_writesNode_13 (by decide) ?_
      exact hj_1 (91 : Int32) hf _ _ _ hR hS hl
section T3_writesNode_c
variable {p : Program} {l : Launch} {e : Env} {R : Room} {s : State} {m : MethodId} {args : Array Value} {below : List Frame} {meth : Method} {c : Code} {H : Heap} {locs : List Loc} {Q : State → Prop}
variable {cc : ByteArray} {pc : Nat} {ls : Array Slot} {rest : List Value} {nL : Nat} {E : ww_E} {A : Nat → Prop} {H0 : Heap}
theorem t3c_writesNode {M M' : ww_M} {x1 : Int32} (X : ww_C p m c cc nL s args RX3 lw_all) (hsz : ls.size = nL) (hK : t3_Kn E s) (hD : t3_D E) (hR : t3_H E M H) (hS : va_S (t3_A E) H0 H locs) (hF : 13 ≤ R.frames) (hLo : 304 ≤ R.locals) (hf : f3_writesNode 10 M x1 = some M') (hrest : (rest.map fun v => v.category).sum ≤ 8) (hdg : decode cc pc = .ok (.invokevirtual 444, 3)) (kk : ∀ (H1 : Heap) (locs1 : List Loc), t3_H E M' H1 → va_S (t3_A E) H0 H1 locs1 → W p l e R s m args below meth c H1 locs1 0 0 Q (F0 m (pc + 3) ls (rest))) : W p l e R s m args below meth c H locs 0 0 Q (F0 m pc ls (.int x1 :: .ref E.1 :: rest)) :=
  t3k_writesNode (d := 10) X hsz hK hD hR hS hF hLo (met3_writesNode l hD 10 _ _ _ hf) hrest hdg kk
end T3_writesNode_c
noncomputable def f3_laysShown (M : ww_M) (x1 : Int32) : Option (ww_M) :=
  ww_g (ww_i x1 999) (ww_b (f3_writesNode 10 (ww_sF M 53 (0 : Int32)) (ww_X (ww_sF M 53 (0 : Int32)) 32 x1)) (fun M_2 => some M_2))
section T3_laysShown_k
variable {p : Program} {l : Launch} {e : Env} {R : Room} {s : State} {m : MethodId} {args : Array Value} {below : List Frame} {meth : Method} {c : Code} {H : Heap} {locs : List Loc} {Q : State → Prop}
variable {cc : ByteArray} {pc : Nat} {ls : Array Slot} {rest : List Value} {nL : Nat} {E : ww_E} {A : Nat → Prop} {H0 : Heap}
theorem t3k_laysShown {M M' : ww_M} {x1 : Int32} (X : ww_C p m c cc nL s args RX3 lw_all) (hsz : ls.size = nL) (hK : t3_Kn E s) (hD : t3_D E) (hR : t3_H E M H) (hS : va_S (t3_A E) H0 H locs) (hF : 14 ≤ R.frames) (hLo : 325 ≤ R.locals) (hM : t3_MetV l yX3_laysShown cX3_laysShown 2 13 304 E [.int x1] M M') (hrest : (rest.map fun v => v.category).sum ≤ 8) (hdg : decode cc pc = .ok (.invokevirtual 459, 3)) (kk : ∀ (H1 : Heap) (locs1 : List Loc), t3_H E M' H1 → va_S (t3_A E) H0 H1 locs1 → W p l e R s m args below meth c H1 locs1 0 0 Q (F0 m (pc + 3) ls (rest))) : W p l e R s m args below meth c H locs 0 0 Q (F0 m pc ls (.int x1 :: .ref E.1 :: rest)) :=
  t3_callV (n := 1) X hsz hK hR hS (As := [.int x1]) hM (lw_V q2325 q2327 qs125 q135 q2328) (by decide +kernel) rfl hF hLo (Nat.zero_le _) (Nat.zero_le _) hrest hdg kk
end T3_laysShown_k
set_option maxHeartbeats 4000000 in
set_option maxRecDepth 100000 in
theorem met3_laysShown (l : Launch) {E : ww_E} (hD : t3_D E) (M : ww_M) (x1 : Int32) (M' : ww_M) (hf : f3_laysShown M x1 = some M') : t3_MetV l yX3_laysShown cX3_laysShown 2 13 304 E [.int x1] M M' := by
  unfold f3_laysShown at hf
  refine t3_startV (by decide +kernel) (Nat.le_of_ble_eq_true rfl) ?_
  intro p e s m args below meth c Rm Q X hK hF hLo hend ls hl hR hS
  obtain ⟨hx, hb, hml, hown, hts⟩ := id X
  replace hl : lv_has ls 2 [(0, .ref E.1), (1, .int x1)] := hl
  refine lv_aload_n hx hb dX3_laysShown_0 rfl (lv_at hl 0 rfl) ?_
  refine lv_iconst (v := (0 : Int32)) hx hb dX3_laysShown_1 (by decide) ?_
  refine t3p_53 X hK hD hR hS dX3_laysShown_2 (fun H locs hR hS => ?_)
  refine lv_aload_n hx hb dX3_laysShown_5 rfl (lv_at hl 0 rfl) ?_
  refine lv_aload_n hx hb dX3_laysShown_6 rfl (lv_at hl 0 rfl) ?_
  refine t3g_32 X hK hR dX3_laysShown_7 ?_
  refine lv_iload_n hx hb dX3_laysShown_10 rfl (lv_at hl 1 rfl) ?_
  obtain ⟨h_1, hf⟩ := ww_gS hf
  refine t3l_32 X hK hR h_1 dX3_laysShown_11 ?_
  obtain ⟨M_2, h_2, hf⟩ := ww_bS hf
  refine t3c_writesNode X hl.1 hK hD hR hS (Nat.le_trans (Nat.le_of_ble_eq_true rfl) hF) (Nat.le_trans (Nat.le_of_ble_eq_true rfl) hLo) h_2 (Nat.le_of_ble_eq_true rfl) dX3_laysShown_12 (fun H locs hR hS => ?_)
  exact hend dX3_laysShown_15 hf hR hS
section T3_laysShown_c
variable {p : Program} {l : Launch} {e : Env} {R : Room} {s : State} {m : MethodId} {args : Array Value} {below : List Frame} {meth : Method} {c : Code} {H : Heap} {locs : List Loc} {Q : State → Prop}
variable {cc : ByteArray} {pc : Nat} {ls : Array Slot} {rest : List Value} {nL : Nat} {E : ww_E} {A : Nat → Prop} {H0 : Heap}
theorem t3c_laysShown {M M' : ww_M} {x1 : Int32} (X : ww_C p m c cc nL s args RX3 lw_all) (hsz : ls.size = nL) (hK : t3_Kn E s) (hD : t3_D E) (hR : t3_H E M H) (hS : va_S (t3_A E) H0 H locs) (hF : 14 ≤ R.frames) (hLo : 325 ≤ R.locals) (hf : f3_laysShown M x1 = some M') (hrest : (rest.map fun v => v.category).sum ≤ 8) (hdg : decode cc pc = .ok (.invokevirtual 459, 3)) (kk : ∀ (H1 : Heap) (locs1 : List Loc), t3_H E M' H1 → va_S (t3_A E) H0 H1 locs1 → W p l e R s m args below meth c H1 locs1 0 0 Q (F0 m (pc + 3) ls (rest))) : W p l e R s m args below meth c H locs 0 0 Q (F0 m pc ls (.int x1 :: .ref E.1 :: rest)) :=
  t3k_laysShown X hsz hK hD hR hS hF hLo (met3_laysShown l hD _ _ _ hf) hrest hdg kk
end T3_laysShown_c
noncomputable def f3_show_b1c (M_4 : ww_M) (x2 : Int32) : Option ((ww_M × Int32) ⊕ (Int32 × ww_M)) :=
  if (ww_F M_4 53) ≤ x2 then ww_x (some ((ww_F (ww_sF M_4 54 (ww_F M_4 53)) 54), (ww_sF M_4 54 (ww_F M_4 53)))) else ww_g (ww_i x2 1400) (ww_g (ww_i x2 1400) (some (.inl ((ww_sX M_4 52 x2 (vp_nar .byte (ww_X M_4 51 x2))), (x2 + (1 : Int32))))))
noncomputable def f3_show_b1 : (ww_M × Int32) → Option ((ww_M × Int32) ⊕ (Int32 × ww_M)) := fun s9 => f3_show_b1c s9.1 s9.2
noncomputable def f3_show (M : ww_M) (x1 : Int32) : Option (Int32 × ww_M) :=
  ww_b (f3_isMap (ww_sF M 0 (0 : Int32)) x1) (fun r_1 => if r_1 = 0 then some ((-1 : Int32), (ww_sF M 0 (0 : Int32))) else ww_b (f3_laysShown (ww_sF M 0 (0 : Int32)) x1) (fun M_3 => ww_U (f3_show_b1) (M_3, (0 : Int32))))
set_option maxHeartbeats 4000000 in
set_option maxRecDepth 100000 in
theorem met3_show (l : Launch) {E : ww_E} (hD : t3_D E) (M : ww_M) (x1 : Int32) (r : Int32) (M' : ww_M) (hf : f3_show M x1 = some (r, M')) : t3_Met l yX3_show cX3_show 3 (some Jvm.ClassFile.FieldType.int) 14 325 E [.int x1] M M' r := by
  unfold f3_show at hf
  refine t3_start (by decide +kernel) (Nat.le_of_ble_eq_true rfl) ?_
  intro p e s m args below meth c Rm Q X hK hF hLo hend ls hl hR hS
  obtain ⟨hx, hb, hml, hown, hts⟩ := id X
  replace hl : lv_has ls 3 [(0, .ref E.1), (1, .int x1)] := hl
  refine lv_aload_n hx hb dX3_show_0 rfl (lv_at hl 0 rfl) ?_
  refine lv_iconst (v := (0 : Int32)) hx hb dX3_show_1 (by decide) ?_
  refine t3p_0 X hK hD hR hS dX3_show_2 (fun H locs hR hS => ?_)
  refine lv_aload_n hx hb dX3_show_5 rfl (lv_at hl 0 rfl) ?_
  refine lv_iload_n hx hb dX3_show_6 rfl (lv_at hl 1 rfl) ?_
  obtain ⟨r_1, h_1, hf⟩ := ww_bS hf
  refine t3c_isMap X hl.1 hK hD hR hS (Nat.le_trans (Nat.le_of_ble_eq_true rfl) hF) (Nat.le_trans (Nat.le_of_ble_eq_true rfl) hLo) h_1 (Nat.le_of_ble_eq_true rfl) dX3_show_7 (fun H locs hR hS => ?_)
  refine lv_if_ne (tgt := 15) hx hb dX3_show_10 (by decide) (fun c_2 => ?_) (fun c_2 => ?_)
  · replace hf := ww_in hf c_2
    refine lv_aload_n hx hb dX3_show_15 rfl (lv_at hl 0 rfl) ?_
    refine lv_iload_n hx hb dX3_show_16 rfl (lv_at hl 1 rfl) ?_
    obtain ⟨M_3, h_3, hf⟩ := ww_bS hf
    refine t3c_laysShown X hl.1 hK hD hR hS (Nat.le_trans (Nat.le_of_ble_eq_true rfl) hF) (Nat.le_trans (Nat.le_of_ble_eq_true rfl) hLo) h_3 (Nat.le_of_ble_eq_true rfl) dX3_show_17 (fun H locs hR hS => ?_)
    refine lv_iconst (v := (0 : Int32)) hx hb dX3_show_20 (by decide) ?_
    refine lv_istore_n (lv' := [(2, .int (0 : Int32)), (0, .ref E.1), (1, .int x1)]) hx hb dX3_show_21 rfl hl (by decide) rfl (fun ls hl => ?_)
    have hL_1 : ∀ s9 : ww_M × Int32, ww_U (f3_show_b1) s9 = some (r, M') → ∀ (H : Heap) (locs : List Loc) (ls : Array Slot), t3_H E s9.1 H → va_S (t3_A E) s.heap H locs → lv_has ls 3 [(0, .ref E.1), (2, .int s9.2)] → W p l e Rm s m args below meth c H locs 0 0 Q (F0 m 22 ls []) := by
      refine ww_ind _ (r, M') ?_
      intro s9 z_1 hf hz_1 H locs ls hR hS hl
      obtain ⟨M_4, x2⟩ := s9
      replace hf : f3_show_b1c M_4 x2 = some z_1 := hf
      unfold f3_show_b1c at hf
      replace hR : t3_H E M_4 H := hR
      replace hl : lv_has ls 3 [(0, .ref E.1), (2, .int x2)] := hl
      refine lv_iload_n hx hb dX3_show_22 rfl (lv_at hl 1 rfl) ?_
      refine lv_aload_n hx hb dX3_show_23 rfl (lv_at hl 0 rfl) ?_
      refine t3g_53 X hK hR dX3_show_24 ?_
      refine lv_icmp_ge (tgt := 48) hx hb dX3_show_27 (by decide) (fun c_5 => ?_) (fun c_5 => ?_)
      · replace hf := ww_ip hf c_5
        replace hf := ww_xK hf hz_1
        refine lv_aload_n hx hb dX3_show_48 rfl (lv_at hl 0 rfl) ?_
        refine lv_aload_n hx hb dX3_show_49 rfl (lv_at hl 0 rfl) ?_
        refine t3g_53 X hK hR dX3_show_50 ?_
        refine t3p_54 X hK hD hR hS dX3_show_53 (fun H locs hR hS => ?_)
        refine lv_aload_n hx hb dX3_show_56 rfl (lv_at hl 0 rfl) ?_
        refine t3g_54 X hK hR dX3_show_57 ?_
        exact hend dX3_show_60 rfl rfl hf hR hS
      · replace hf := ww_in hf c_5
        refine lv_aload_n hx hb dX3_show_30 rfl (lv_at hl 0 rfl) ?_
        refine t3g_52 X hK hR dX3_show_31 ?_
        refine lv_iload_n hx hb dX3_show_34 rfl (lv_at hl 1 rfl) ?_
        refine lv_aload_n hx hb dX3_show_35 rfl (lv_at hl 0 rfl) ?_
        refine t3g_51 X hK hR dX3_show_36 ?_
        refine lv_iload_n hx hb dX3_show_39 rfl (lv_at hl 1 rfl) ?_
        obtain ⟨h_6, hf⟩ := ww_gS hf
        refine t3l_51 X hK hR h_6 dX3_show_40 ?_
        obtain ⟨h_7, hf⟩ := ww_gS hf
        refine t3s_52 X hK hD hR hS h_7 dX3_show_41 (fun H locs hR hS => ?_)
        refine lv_iinc (k := 1) (v := x2 + (1 : Int32)) (lv' := [(2, .int (x2 + (1 : Int32))), (0, .ref E.1)]) hx hb dX3_show_42 hl rfl rfl (by decide) rfl (fun ls hl => ?_)
        refine lv_goto (tgt := 22) hx hb dX3_show_45 (by decide) ?_
        exact ww_lK hf hz_1 _ _ _ hR hS (lv_sub hl [1, 0] rfl)
    exact hL_1 (M_3, (0 : Int32)) hf _ _ _ hR hS (lv_sub hl [1, 0] rfl)
  · replace hf := ww_ip hf c_2
    refine lv_iconst (v := (-1 : Int32)) hx hb dX3_show_13 (by decide) ?_
    exact hend dX3_show_14 rfl rfl hf hR hS
noncomputable def f3_shown (M : ww_M) (x1 : Int32) : Option (Int32 × ww_M) :=
  ww_b (f3_isIn x1.toInt64 (0 : Int64) (((ww_F (ww_sF M 0 (0 : Int32)) 54) - (1 : Int32)).toInt64)) (fun r_1 => if r_1 = 0 then some ((-1 : Int32), (ww_sF M 0 (0 : Int32))) else ww_g (ww_i x1 1400) (some ((ww_X (ww_sF M 0 (0 : Int32)) 52 x1), (ww_sF M 0 (0 : Int32)))))
set_option maxHeartbeats 4000000 in
set_option maxRecDepth 100000 in
theorem met3_shown (l : Launch) {E : ww_E} (hD : t3_D E) (M : ww_M) (x1 : Int32) (r : Int32) (M' : ww_M) (hf : f3_shown M x1 = some (r, M')) : t3_Met l yX3_shown cX3_shown 2 (some Jvm.ClassFile.FieldType.int) 1 25 E [.int x1] M M' r := by
  unfold f3_shown at hf
  refine t3_start (by decide +kernel) (Nat.le_of_ble_eq_true rfl) ?_
  intro p e s m args below meth c Rm Q X hK hF hLo hend ls hl hR hS
  obtain ⟨hx, hb, hml, hown, hts⟩ := id X
  replace hl : lv_has ls 2 [(0, .ref E.1), (1, .int x1)] := hl
  refine lv_aload_n hx hb dX3_shown_0 rfl (lv_at hl 0 rfl) ?_
  refine lv_iconst (v := (0 : Int32)) hx hb dX3_shown_1 (by decide) ?_
  refine t3p_0 X hK hD hR hS dX3_shown_2 (fun H locs hR hS => ?_)
  refine lv_iload_n hx hb dX3_shown_5 rfl (lv_at hl 1 rfl) ?_
  refine lv_i2l (v := x1.toInt64) hx hb dX3_shown_6 rfl ?_
  refine lv_lconst (v := (0 : Int64)) hx hb dX3_shown_7 (by decide) ?_
  refine lv_aload_n hx hb dX3_shown_8 rfl (lv_at hl 0 rfl) ?_
  refine t3g_54 X hK hR dX3_shown_9 ?_
  refine lv_iconst (v := (1 : Int32)) hx hb dX3_shown_12 (by decide) ?_
  refine lv_isub hx hb dX3_shown_13 ?_
  refine lv_i2l (v := ((ww_F (ww_sF M 0 (0 : Int32)) 54) - (1 : Int32)).toInt64) hx hb dX3_shown_14 rfl ?_
  obtain ⟨r_1, h_1, hf⟩ := ww_bS hf
  refine t3c_isIn X hl.1 (Nat.le_trans (Nat.le_of_ble_eq_true rfl) hF) (Nat.le_trans (Nat.le_of_ble_eq_true rfl) hLo) h_1 (Nat.le_of_ble_eq_true rfl) dX3_shown_15 ?_
  refine lv_if_eq (tgt := 30) hx hb dX3_shown_18 (by decide) (fun c_2 => ?_) (fun c_2 => ?_)
  · replace hf := ww_ip hf c_2
    refine lv_iconst (v := (-1 : Int32)) hx hb dX3_shown_30 (by decide) ?_
    exact hend dX3_shown_31 rfl rfl hf hR hS
  · replace hf := ww_in hf c_2
    refine lv_aload_n hx hb dX3_shown_21 rfl (lv_at hl 0 rfl) ?_
    refine t3g_52 X hK hR dX3_shown_22 ?_
    refine lv_iload_n hx hb dX3_shown_25 rfl (lv_at hl 1 rfl) ?_
    obtain ⟨h_3, hf⟩ := ww_gS hf
    refine t3l_52 X hK hR h_3 dX3_shown_26 ?_
    refine lv_goto (tgt := 31) hx hb dX3_shown_27 (by decide) ?_
    exact hend dX3_shown_31 rfl rfl hf hR hS
noncomputable def f3_digest_b1c (M : ww_M) (x2 : Int32) (x3 : Int32) : Option ((Int32 × Int32) ⊕ (Int32 × ww_M)) :=
  if (ww_F M 53) ≤ x3 then ww_x (some (x2, M)) else ww_g (ww_i x3 1400) (some (.inl (((((31 : Int32) * x2) + (ww_X M 51 x3)) - (((31 : Int32) * x2) + (ww_X M 51 x3)) / (1000003 : Int32) * (1000003 : Int32)), (x3 + (1 : Int32)))))
noncomputable def f3_digest_b1 (M : ww_M) : (Int32 × Int32) → Option ((Int32 × Int32) ⊕ (Int32 × ww_M)) := fun s9 => f3_digest_b1c M s9.1 s9.2
noncomputable def f3_digest (M : ww_M) (x1 : Int32) : Option (Int32 × ww_M) :=
  ww_b (f3_isMap (ww_sF M 0 (0 : Int32)) x1) (fun r_1 => if r_1 = 0 then some ((-1 : Int32), (ww_sF M 0 (0 : Int32))) else ww_b (f3_laysShown (ww_sF M 0 (0 : Int32)) x1) (fun M_3 => ww_U (f3_digest_b1 M_3) ((0 : Int32), (0 : Int32))))
set_option maxHeartbeats 4000000 in
set_option maxRecDepth 100000 in
theorem met3_digest (l : Launch) {E : ww_E} (hD : t3_D E) (M : ww_M) (x1 : Int32) (r : Int32) (M' : ww_M) (hf : f3_digest M x1 = some (r, M')) : t3_Met l yX3_digest cX3_digest 4 (some Jvm.ClassFile.FieldType.int) 14 325 E [.int x1] M M' r := by
  unfold f3_digest at hf
  refine t3_start (by decide +kernel) (Nat.le_of_ble_eq_true rfl) ?_
  intro p e s m args below meth c Rm Q X hK hF hLo hend ls hl hR hS
  obtain ⟨hx, hb, hml, hown, hts⟩ := id X
  replace hl : lv_has ls 4 [(0, .ref E.1), (1, .int x1)] := hl
  refine lv_aload_n hx hb dX3_digest_0 rfl (lv_at hl 0 rfl) ?_
  refine lv_iconst (v := (0 : Int32)) hx hb dX3_digest_1 (by decide) ?_
  refine t3p_0 X hK hD hR hS dX3_digest_2 (fun H locs hR hS => ?_)
  refine lv_aload_n hx hb dX3_digest_5 rfl (lv_at hl 0 rfl) ?_
  refine lv_iload_n hx hb dX3_digest_6 rfl (lv_at hl 1 rfl) ?_
  obtain ⟨r_1, h_1, hf⟩ := ww_bS hf
  refine t3c_isMap X hl.1 hK hD hR hS (Nat.le_trans (Nat.le_of_ble_eq_true rfl) hF) (Nat.le_trans (Nat.le_of_ble_eq_true rfl) hLo) h_1 (Nat.le_of_ble_eq_true rfl) dX3_digest_7 (fun H locs hR hS => ?_)
  refine lv_if_ne (tgt := 15) hx hb dX3_digest_10 (by decide) (fun c_2 => ?_) (fun c_2 => ?_)
  · replace hf := ww_in hf c_2
    refine lv_aload_n hx hb dX3_digest_15 rfl (lv_at hl 0 rfl) ?_
    refine lv_iload_n hx hb dX3_digest_16 rfl (lv_at hl 1 rfl) ?_
    obtain ⟨M_3, h_3, hf⟩ := ww_bS hf
    refine t3c_laysShown X hl.1 hK hD hR hS (Nat.le_trans (Nat.le_of_ble_eq_true rfl) hF) (Nat.le_trans (Nat.le_of_ble_eq_true rfl) hLo) h_3 (Nat.le_of_ble_eq_true rfl) dX3_digest_17 (fun H locs hR hS => ?_)
    refine lv_iconst (v := (0 : Int32)) hx hb dX3_digest_20 (by decide) ?_
    refine lv_istore_n (lv' := [(2, .int (0 : Int32)), (0, .ref E.1), (1, .int x1)]) hx hb dX3_digest_21 rfl hl (by decide) rfl (fun ls hl => ?_)
    refine lv_iconst (v := (0 : Int32)) hx hb dX3_digest_22 (by decide) ?_
    refine lv_istore_n (lv' := [(3, .int (0 : Int32)), (2, .int (0 : Int32)), (0, .ref E.1), (1, .int x1)]) hx hb dX3_digest_23 rfl hl (by decide) rfl (fun ls hl => ?_)
    have hL_1 : ∀ s9 : Int32 × Int32, ww_U (f3_digest_b1 M_3) s9 = some (r, M') → ∀ (H : Heap) (locs : List Loc) (ls : Array Slot), t3_H E M_3 H → va_S (t3_A E) s.heap H locs → lv_has ls 4 [(0, .ref E.1), (2, .int s9.1), (3, .int s9.2)] → W p l e Rm s m args below meth c H locs 0 0 Q (F0 m 24 ls []) := by
      refine ww_ind _ (r, M') ?_
      intro s9 z_1 hf hz_1 H locs ls hR hS hl
      obtain ⟨x2, x3⟩ := s9
      replace hf : f3_digest_b1c M_3 x2 x3 = some z_1 := hf
      unfold f3_digest_b1c at hf
      replace hl : lv_has ls 4 [(0, .ref E.1), (2, .int x2), (3, .int x3)] := hl
      refine lv_iload_n hx hb dX3_digest_24 rfl (lv_at hl 2 rfl) ?_
      refine lv_aload_n hx hb dX3_digest_25 rfl (lv_at hl 0 rfl) ?_
      refine t3g_53 X hK hR dX3_digest_26 ?_
      refine lv_icmp_ge (tgt := 54) hx hb dX3_digest_29 (by decide) (fun c_4 => ?_) (fun c_4 => ?_)
      · replace hf := ww_ip hf c_4
        replace hf := ww_xK hf hz_1
        refine lv_iload_n hx hb dX3_digest_54 rfl (lv_at hl 1 rfl) ?_
        exact hend dX3_digest_55 rfl rfl hf hR hS
      · replace hf := ww_in hf c_4
        refine lv_bipush (v := (31 : Int32)) hx hb dX3_digest_32 (by decide) ?_
        refine lv_iload_n hx hb dX3_digest_34 rfl (lv_at hl 1 rfl) ?_
        refine lv_imul hx hb dX3_digest_35 ?_
        refine lv_aload_n hx hb dX3_digest_36 rfl (lv_at hl 0 rfl) ?_
        refine t3g_51 X hK hR dX3_digest_37 ?_
        refine lv_iload_n hx hb dX3_digest_40 rfl (lv_at hl 2 rfl) ?_
        obtain ⟨h_5, hf⟩ := ww_gS hf
        refine t3l_51 X hK hR h_5 dX3_digest_41 ?_
        refine lv_iadd hx hb dX3_digest_42 ?_
        refine lv_ldcw (v := (1000003 : Int32)) hx hb hown (hts _ q2352) dX3_digest_43 ?_
        refine lv_irem hx hb dX3_digest_46 (by decide) ?_
        refine lv_istore_n (lv' := [(2, .int ((((31 : Int32) * x2) + (ww_X M_3 51 x3)) - (((31 : Int32) * x2) + (ww_X M_3 51 x3)) / (1000003 : Int32) * (1000003 : Int32))), (0, .ref E.1), (3, .int x3)]) hx hb dX3_digest_47 rfl hl (by decide) rfl (fun ls hl => ?_)
        refine lv_iinc (k := 2) (v := x3 + (1 : Int32)) (lv' := [(3, .int (x3 + (1 : Int32))), (2, .int ((((31 : Int32) * x2) + (ww_X M_3 51 x3)) - (((31 : Int32) * x2) + (ww_X M_3 51 x3)) / (1000003 : Int32) * (1000003 : Int32))), (0, .ref E.1)]) hx hb dX3_digest_48 hl rfl rfl (by decide) rfl (fun ls hl => ?_)
        refine lv_goto (tgt := 24) hx hb dX3_digest_51 (by decide) ?_
        exact ww_lK hf hz_1 _ _ _ hR hS (lv_sub hl [2, 1, 0] rfl)
    exact hL_1 ((0 : Int32), (0 : Int32)) hf _ _ _ hR hS (lv_sub hl [2, 1, 0] rfl)
  · replace hf := ww_ip hf c_2
    refine lv_iconst (v := (-1 : Int32)) hx hb dX3_digest_13 (by decide) ?_
    exact hend dX3_digest_14 rfl rfl hf hR hS
noncomputable def f3_status (M : ww_M) (x1 : Int32) : Option (Int32 × ww_M) :=
  ww_b (f3_isIn x1.toInt64 (0 : Int64) (4 : Int64)) (fun r_1 => if r_1 = 0 then some ((-1 : Int32), (ww_sF M 0 (0 : Int32))) else ww_g (ww_i x1 5) (some ((ww_X (ww_sF M 0 (0 : Int32)) 38 x1), (ww_sF M 0 (0 : Int32)))))
set_option maxHeartbeats 4000000 in
set_option maxRecDepth 100000 in
theorem met3_status (l : Launch) {E : ww_E} (hD : t3_D E) (M : ww_M) (x1 : Int32) (r : Int32) (M' : ww_M) (hf : f3_status M x1 = some (r, M')) : t3_Met l yX3_status cX3_status 2 (some Jvm.ClassFile.FieldType.int) 1 25 E [.int x1] M M' r := by
  unfold f3_status at hf
  refine t3_start (by decide +kernel) (Nat.le_of_ble_eq_true rfl) ?_
  intro p e s m args below meth c Rm Q X hK hF hLo hend ls hl hR hS
  obtain ⟨hx, hb, hml, hown, hts⟩ := id X
  replace hl : lv_has ls 2 [(0, .ref E.1), (1, .int x1)] := hl
  refine lv_aload_n hx hb dX3_status_0 rfl (lv_at hl 0 rfl) ?_
  refine lv_iconst (v := (0 : Int32)) hx hb dX3_status_1 (by decide) ?_
  refine t3p_0 X hK hD hR hS dX3_status_2 (fun H locs hR hS => ?_)
  refine lv_iload_n hx hb dX3_status_5 rfl (lv_at hl 1 rfl) ?_
  refine lv_i2l (v := x1.toInt64) hx hb dX3_status_6 rfl ?_
  refine lv_lconst (v := (0 : Int64)) hx hb dX3_status_7 (by decide) ?_
  refine lv_ldc2 (v := (4 : Int64)) hx hb hown (hts _ q2357) dX3_status_8 ?_
  obtain ⟨r_1, h_1, hf⟩ := ww_bS hf
  refine t3c_isIn X hl.1 (Nat.le_trans (Nat.le_of_ble_eq_true rfl) hF) (Nat.le_trans (Nat.le_of_ble_eq_true rfl) hLo) h_1 (Nat.le_of_ble_eq_true rfl) dX3_status_11 ?_
  refine lv_if_eq (tgt := 26) hx hb dX3_status_14 (by decide) (fun c_2 => ?_) (fun c_2 => ?_)
  · replace hf := ww_ip hf c_2
    refine lv_iconst (v := (-1 : Int32)) hx hb dX3_status_26 (by decide) ?_
    exact hend dX3_status_27 rfl rfl hf hR hS
  · replace hf := ww_in hf c_2
    refine lv_aload_n hx hb dX3_status_17 rfl (lv_at hl 0 rfl) ?_
    refine t3g_38 X hK hR dX3_status_18 ?_
    refine lv_iload_n hx hb dX3_status_21 rfl (lv_at hl 1 rfl) ?_
    obtain ⟨h_3, hf⟩ := ww_gS hf
    refine t3l_38 X hK hR h_3 dX3_status_22 ?_
    refine lv_goto (tgt := 27) hx hb dX3_status_23 (by decide) ?_
    exact hend dX3_status_27 rfl rfl hf hR hS
noncomputable def f3_image_b1c (M_1 : ww_M) (x1 : Int32) : Option ((ww_M × Int32) ⊕ (Int32 × ww_M)) :=
  if (ww_F M_1 41) ≤ x1 then ww_x (some ((ww_F (ww_sF M_1 44 (1 : Int32)) 42), (ww_sF M_1 44 (1 : Int32)))) else ww_g (ww_i x1 999) (ww_g (ww_i x1 999) (some (.inl ((ww_sX M_1 40 x1 (vp_nar .boolean (ww_X M_1 39 x1))), (x1 + (1 : Int32))))))
noncomputable def f3_image_b1 : (ww_M × Int32) → Option ((ww_M × Int32) ⊕ (Int32 × ww_M)) := fun s9 => f3_image_b1c s9.1 s9.2
noncomputable def f3_image (M : ww_M) : Option (Int32 × ww_M) :=
  ww_U (f3_image_b1) ((ww_sF M 0 (0 : Int32)), (0 : Int32))
set_option maxHeartbeats 4000000 in
set_option maxRecDepth 100000 in
theorem met3_image (l : Launch) {E : ww_E} (hD : t3_D E) (M : ww_M) (r : Int32) (M' : ww_M) (hf : f3_image M = some (r, M')) : t3_Met l yX3_image cX3_image 2 (some Jvm.ClassFile.FieldType.int) 0 0 E [] M M' r := by
  unfold f3_image at hf
  refine t3_start (by decide +kernel) (Nat.le_of_ble_eq_true rfl) ?_
  intro p e s m args below meth c Rm Q X hK hF hLo hend ls hl hR hS
  obtain ⟨hx, hb, hml, hown, hts⟩ := id X
  replace hl : lv_has ls 2 [(0, .ref E.1)] := hl
  refine lv_aload_n hx hb dX3_image_0 rfl (lv_at hl 0 rfl) ?_
  refine lv_iconst (v := (0 : Int32)) hx hb dX3_image_1 (by decide) ?_
  refine t3p_0 X hK hD hR hS dX3_image_2 (fun H locs hR hS => ?_)
  refine lv_iconst (v := (0 : Int32)) hx hb dX3_image_5 (by decide) ?_
  refine lv_istore_n (lv' := [(1, .int (0 : Int32)), (0, .ref E.1)]) hx hb dX3_image_6 rfl hl (by decide) rfl (fun ls hl => ?_)
  have hL_1 : ∀ s9 : ww_M × Int32, ww_U (f3_image_b1) s9 = some (r, M') → ∀ (H : Heap) (locs : List Loc) (ls : Array Slot), t3_H E s9.1 H → va_S (t3_A E) s.heap H locs → lv_has ls 2 [(0, .ref E.1), (1, .int s9.2)] → W p l e Rm s m args below meth c H locs 0 0 Q (F0 m 7 ls []) := by
    refine ww_ind _ (r, M') ?_
    intro s9 z_1 hf hz_1 H locs ls hR hS hl
    obtain ⟨M_1, x1⟩ := s9
    replace hf : f3_image_b1c M_1 x1 = some z_1 := hf
    unfold f3_image_b1c at hf
    replace hR : t3_H E M_1 H := hR
    replace hl : lv_has ls 2 [(0, .ref E.1), (1, .int x1)] := hl
    refine lv_iload_n hx hb dX3_image_7 rfl (lv_at hl 1 rfl) ?_
    refine lv_aload_n hx hb dX3_image_8 rfl (lv_at hl 0 rfl) ?_
    refine t3g_41 X hK hR dX3_image_9 ?_
    refine lv_icmp_ge (tgt := 33) hx hb dX3_image_12 (by decide) (fun c_2 => ?_) (fun c_2 => ?_)
    · replace hf := ww_ip hf c_2
      replace hf := ww_xK hf hz_1
      refine lv_aload_n hx hb dX3_image_33 rfl (lv_at hl 0 rfl) ?_
      refine lv_iconst (v := (1 : Int32)) hx hb dX3_image_34 (by decide) ?_
      refine t3p_44 X hK hD hR hS (by decide) dX3_image_35 (fun H locs hR hS => ?_)
      refine lv_aload_n hx hb dX3_image_38 rfl (lv_at hl 0 rfl) ?_
      refine t3g_42 X hK hR dX3_image_39 ?_
      exact hend dX3_image_42 rfl rfl hf hR hS
    · replace hf := ww_in hf c_2
      refine lv_aload_n hx hb dX3_image_15 rfl (lv_at hl 0 rfl) ?_
      refine t3g_40 X hK hR dX3_image_16 ?_
      refine lv_iload_n hx hb dX3_image_19 rfl (lv_at hl 1 rfl) ?_
      refine lv_aload_n hx hb dX3_image_20 rfl (lv_at hl 0 rfl) ?_
      refine t3g_39 X hK hR dX3_image_21 ?_
      refine lv_iload_n hx hb dX3_image_24 rfl (lv_at hl 1 rfl) ?_
      obtain ⟨h_3, hf⟩ := ww_gS hf
      refine t3l_39 X hK hR h_3 dX3_image_25 ?_
      obtain ⟨h_4, hf⟩ := ww_gS hf
      refine t3s_40 X hK hD hR hS h_4 dX3_image_26 (fun H locs hR hS => ?_)
      refine lv_iinc (k := 1) (v := x1 + (1 : Int32)) (lv' := [(1, .int (x1 + (1 : Int32))), (0, .ref E.1)]) hx hb dX3_image_27 hl rfl rfl (by decide) rfl (fun ls hl => ?_)
      refine lv_goto (tgt := 7) hx hb dX3_image_30 (by decide) ?_
      exact ww_lK hf hz_1 _ _ _ hR hS (lv_sub hl [1, 0] rfl)
  exact hL_1 ((ww_sF M 0 (0 : Int32)), (0 : Int32)) hf _ _ _ hR hS (lv_sub hl [1, 0] rfl)
noncomputable def f3_back_b1c (M_2 : ww_M) (x1 : Int32) : Option ((ww_M × Int32) ⊕ (Int32 × ww_M)) :=
  if (ww_F M_2 41) ≤ x1 then ww_x (some ((ww_F (ww_sF M_2 43 (0 : Int32)) 42), (ww_sF M_2 43 (0 : Int32)))) else ww_g (ww_i x1 999) (ww_g (ww_i x1 999) (ww_g (ww_i x1 999) (if (ww_X (ww_sX M_2 39 x1 (vp_nar .boolean (ww_X M_2 40 x1))) 39 x1) = 0 then some (.inl ((ww_sF (ww_sX M_2 39 x1 (vp_nar .boolean (ww_X M_2 40 x1))) 42 ((ww_F (ww_sX M_2 39 x1 (vp_nar .boolean (ww_X M_2 40 x1))) 42) + (0 : Int32))), (x1 + (1 : Int32)))) else some (.inl ((ww_sF (ww_sX M_2 39 x1 (vp_nar .boolean (ww_X M_2 40 x1))) 42 ((ww_F (ww_sX M_2 39 x1 (vp_nar .boolean (ww_X M_2 40 x1))) 42) + (1 : Int32))), (x1 + (1 : Int32)))))))
noncomputable def f3_back_b1 : (ww_M × Int32) → Option ((ww_M × Int32) ⊕ (Int32 × ww_M)) := fun s9 => f3_back_b1c s9.1 s9.2
noncomputable def f3_back (M : ww_M) : Option (Int32 × ww_M) :=
  if (ww_F (ww_sF M 0 (0 : Int32)) 44) = 0 then some ((-1 : Int32), (ww_sF M 0 (0 : Int32))) else ww_U (f3_back_b1) ((ww_sF (ww_sF M 0 (0 : Int32)) 42 (0 : Int32)), (0 : Int32))
set_option maxHeartbeats 4000000 in
set_option maxRecDepth 100000 in
theorem met3_back (l : Launch) {E : ww_E} (hD : t3_D E) (M : ww_M) (r : Int32) (M' : ww_M) (hf : f3_back M = some (r, M')) : t3_Met l yX3_back cX3_back 2 (some Jvm.ClassFile.FieldType.int) 0 0 E [] M M' r := by
  unfold f3_back at hf
  refine t3_start (by decide +kernel) (Nat.le_of_ble_eq_true rfl) ?_
  intro p e s m args below meth c Rm Q X hK hF hLo hend ls hl hR hS
  obtain ⟨hx, hb, hml, hown, hts⟩ := id X
  replace hl : lv_has ls 2 [(0, .ref E.1)] := hl
  refine lv_aload_n hx hb dX3_back_0 rfl (lv_at hl 0 rfl) ?_
  refine lv_iconst (v := (0 : Int32)) hx hb dX3_back_1 (by decide) ?_
  refine t3p_0 X hK hD hR hS dX3_back_2 (fun H locs hR hS => ?_)
  refine lv_aload_n hx hb dX3_back_5 rfl (lv_at hl 0 rfl) ?_
  refine t3g_44 X hK hR dX3_back_6 ?_
  refine lv_if_ne (tgt := 14) hx hb dX3_back_9 (by decide) (fun c_1 => ?_) (fun c_1 => ?_)
  · replace hf := ww_in hf c_1
    refine lv_aload_n hx hb dX3_back_14 rfl (lv_at hl 0 rfl) ?_
    refine lv_iconst (v := (0 : Int32)) hx hb dX3_back_15 (by decide) ?_
    refine t3p_42 X hK hD hR hS dX3_back_16 (fun H locs hR hS => ?_)
    refine lv_iconst (v := (0 : Int32)) hx hb dX3_back_19 (by decide) ?_
    refine lv_istore_n (lv' := [(1, .int (0 : Int32)), (0, .ref E.1)]) hx hb dX3_back_20 rfl hl (by decide) rfl (fun ls hl => ?_)
    have hL_1 : ∀ s9 : ww_M × Int32, ww_U (f3_back_b1) s9 = some (r, M') → ∀ (H : Heap) (locs : List Loc) (ls : Array Slot), t3_H E s9.1 H → va_S (t3_A E) s.heap H locs → lv_has ls 2 [(0, .ref E.1), (1, .int s9.2)] → W p l e Rm s m args below meth c H locs 0 0 Q (F0 m 21 ls []) := by
      refine ww_ind _ (r, M') ?_
      intro s9 z_1 hf hz_1 H locs ls hR hS hl
      obtain ⟨M_2, x1⟩ := s9
      replace hf : f3_back_b1c M_2 x1 = some z_1 := hf
      unfold f3_back_b1c at hf
      replace hR : t3_H E M_2 H := hR
      replace hl : lv_has ls 2 [(0, .ref E.1), (1, .int x1)] := hl
      refine lv_iload_n hx hb dX3_back_21 rfl (lv_at hl 1 rfl) ?_
      refine lv_aload_n hx hb dX3_back_22 rfl (lv_at hl 0 rfl) ?_
      refine t3g_41 X hK hR dX3_back_23 ?_
      refine lv_icmp_ge (tgt := 70) hx hb dX3_back_26 (by decide) (fun c_3 => ?_) (fun c_3 => ?_)
      · replace hf := ww_ip hf c_3
        replace hf := ww_xK hf hz_1
        refine lv_aload_n hx hb dX3_back_70 rfl (lv_at hl 0 rfl) ?_
        refine lv_iconst (v := (0 : Int32)) hx hb dX3_back_71 (by decide) ?_
        refine t3p_43 X hK hD hR hS dX3_back_72 (fun H locs hR hS => ?_)
        refine lv_aload_n hx hb dX3_back_75 rfl (lv_at hl 0 rfl) ?_
        refine t3g_42 X hK hR dX3_back_76 ?_
        exact hend dX3_back_79 rfl rfl hf hR hS
      · replace hf := ww_in hf c_3
        refine lv_aload_n hx hb dX3_back_29 rfl (lv_at hl 0 rfl) ?_
        refine t3g_39 X hK hR dX3_back_30 ?_
        refine lv_iload_n hx hb dX3_back_33 rfl (lv_at hl 1 rfl) ?_
        refine lv_aload_n hx hb dX3_back_34 rfl (lv_at hl 0 rfl) ?_
        refine t3g_40 X hK hR dX3_back_35 ?_
        refine lv_iload_n hx hb dX3_back_38 rfl (lv_at hl 1 rfl) ?_
        obtain ⟨h_4, hf⟩ := ww_gS hf
        refine t3l_40 X hK hR h_4 dX3_back_39 ?_
        obtain ⟨h_5, hf⟩ := ww_gS hf
        refine t3s_39 X hK hD hR hS h_5 dX3_back_40 (fun H locs hR hS => ?_)
        refine lv_aload_n hx hb dX3_back_41 rfl (lv_at hl 0 rfl) ?_
        refine lv_dup hx hb dX3_back_42 rfl ?_
        refine t3g_42 X hK hR dX3_back_43 ?_
        refine lv_aload_n hx hb dX3_back_46 rfl (lv_at hl 0 rfl) ?_
        refine t3g_39 X hK hR dX3_back_47 ?_
        refine lv_iload_n hx hb dX3_back_50 rfl (lv_at hl 1 rfl) ?_
        obtain ⟨h_6, hf⟩ := ww_gS hf
        refine t3l_39 X hK hR h_6 dX3_back_51 ?_
        refine lv_if_eq (tgt := 59) hx hb dX3_back_52 (by decide) (fun c_7 => ?_) (fun c_7 => ?_)
        · replace hf := ww_ip hf c_7
          refine lv_iconst (v := (0 : Int32)) hx hb dX3_back_59 (by decide) ?_
          refine lv_iadd hx hb dX3_back_60 ?_
          refine t3p_42 X hK hD hR hS dX3_back_61 (fun H locs hR hS => ?_)
          refine lv_iinc (k := 1) (v := x1 + (1 : Int32)) (lv' := [(1, .int (x1 + (1 : Int32))), (0, .ref E.1)]) hx hb dX3_back_64 hl rfl rfl (by decide) rfl (fun ls hl => ?_)
          refine lv_goto (tgt := 21) hx hb dX3_back_67 (by decide) ?_
          exact ww_lK hf hz_1 _ _ _ hR hS (lv_sub hl [1, 0] rfl)
        · replace hf := ww_in hf c_7
          refine lv_iconst (v := (1 : Int32)) hx hb dX3_back_55 (by decide) ?_
          refine lv_goto (tgt := 60) hx hb dX3_back_56 (by decide) ?_
          refine lv_iadd hx hb dX3_back_60 ?_
          refine t3p_42 X hK hD hR hS dX3_back_61 (fun H locs hR hS => ?_)
          refine lv_iinc (k := 1) (v := x1 + (1 : Int32)) (lv' := [(1, .int (x1 + (1 : Int32))), (0, .ref E.1)]) hx hb dX3_back_64 hl rfl rfl (by decide) rfl (fun ls hl => ?_)
          refine lv_goto (tgt := 21) hx hb dX3_back_67 (by decide) ?_
          exact ww_lK hf hz_1 _ _ _ hR hS (lv_sub hl [1, 0] rfl)
    exact hL_1 ((ww_sF (ww_sF M 0 (0 : Int32)) 42 (0 : Int32)), (0 : Int32)) hf _ _ _ hR hS (lv_sub hl [1, 0] rfl)
  · replace hf := ww_ip hf c_1
    refine lv_iconst (v := (-1 : Int32)) hx hb dX3_back_12 (by decide) ?_
    exact hend dX3_back_13 rfl rfl hf hR hS
noncomputable def f3_live_b2c (M_3 : ww_M) (x1_1 : Int32) (x2 : Int32) : Option ((ww_M × Int32 × Int32) ⊕ (Int32 × ww_M)) :=
  if (4 : Int32) ≤ x2 then ww_x (some (x1_1, M_3)) else ww_b (f3_has (ww_F M_3 43) x2) (fun r_5 => if r_5 = 0 then some (.inl (M_3, x1_1, (x2 + (1 : Int32)))) else ww_g (ww_i x2 4) (ww_b2 (f3_marks 10 M_3 (ww_X M_3 35 x2)) (fun r_8 M_8 => some (.inl (M_8, (x1_1 + r_8), (x2 + (1 : Int32)))))))
noncomputable def f3_live_b2 : (ww_M × Int32 × Int32) → Option ((ww_M × Int32 × Int32) ⊕ (Int32 × ww_M)) := fun s9 => f3_live_b2c s9.1 s9.2.1 s9.2.2
noncomputable def f3_live_b1c (M_1 : ww_M) (x1 : Int32) (x2 : Int32) : Option ((ww_M × Int32 × Int32) ⊕ (Int32 × ww_M)) :=
  if (ww_F M_1 41) ≤ x2 then ww_x (ww_U (f3_live_b2) (M_1, x1, (0 : Int32))) else ww_g (ww_i x2 999) (if (ww_X M_1 39 x2) = 0 then some (.inl (M_1, x1, (x2 + (1 : Int32)))) else ww_g (ww_i x2 999) (ww_b2 (f3_marks 10 M_1 (ww_X M_1 32 x2)) (fun r_12 M_12 => some (.inl (M_12, (x1 + r_12), (x2 + (1 : Int32)))))))
noncomputable def f3_live_b1 : (ww_M × Int32 × Int32) → Option ((ww_M × Int32 × Int32) ⊕ (Int32 × ww_M)) := fun s9 => f3_live_b1c s9.1 s9.2.1 s9.2.2
noncomputable def f3_live (M : ww_M) : Option (Int32 × ww_M) :=
  ww_U (f3_live_b1) ((ww_sF M 22 ((ww_F M 22) + (1 : Int32))), (0 : Int32), (0 : Int32))
section T3_live_k
variable {p : Program} {l : Launch} {e : Env} {R : Room} {s : State} {m : MethodId} {args : Array Value} {below : List Frame} {meth : Method} {c : Code} {H : Heap} {locs : List Loc} {Q : State → Prop}
variable {cc : ByteArray} {pc : Nat} {ls : Array Slot} {rest : List Value} {nL : Nat} {E : ww_E} {A : Nat → Prop} {H0 : Heap}
theorem t3k_live {M M' : ww_M} {r : Int32} (X : ww_C p m c cc nL s args RX3 lw_all) (hsz : ls.size = nL) (hK : t3_Kn E s) (hD : t3_D E) (hR : t3_H E M H) (hS : va_S (t3_A E) H0 H locs) (hF : 13 ≤ R.frames) (hLo : 297 ≤ R.locals) (hM : t3_Met l yX3_live cX3_live 3 (some Jvm.ClassFile.FieldType.int) 12 275 E [] M M' r) (hrest : (rest.map fun v => v.category).sum ≤ 8) (hdg : decode cc pc = .ok (.invokevirtual 468, 3)) (kk : ∀ (H1 : Heap) (locs1 : List Loc), t3_H E M' H1 → va_S (t3_A E) H0 H1 locs1 → W p l e R s m args below meth c H1 locs1 0 0 Q (F0 m (pc + 3) ls (.int r :: rest))) : W p l e R s m args below meth c H locs 0 0 Q (F0 m pc ls (.ref E.1 :: rest)) :=
  t3_callI (n := 0) X hsz hK hR hS (As := []) hM (lw_V q2370 q2372 qs129 q135 q2373) (by decide +kernel) rfl hF hLo (Nat.zero_le _) (Nat.zero_le _) hrest hdg kk
end T3_live_k
set_option maxHeartbeats 4000000 in
set_option maxRecDepth 100000 in
theorem met3_live (l : Launch) {E : ww_E} (hD : t3_D E) (M : ww_M) (r : Int32) (M' : ww_M) (hf : f3_live M = some (r, M')) : t3_Met l yX3_live cX3_live 3 (some Jvm.ClassFile.FieldType.int) 12 275 E [] M M' r := by
  unfold f3_live at hf
  refine t3_start (by decide +kernel) (Nat.le_of_ble_eq_true rfl) ?_
  intro p e s m args below meth c Rm Q X hK hF hLo hend ls hl hR hS
  obtain ⟨hx, hb, hml, hown, hts⟩ := id X
  replace hl : lv_has ls 3 [(0, .ref E.1)] := hl
  refine lv_aload_n hx hb dX3_live_0 rfl (lv_at hl 0 rfl) ?_
  refine lv_dup hx hb dX3_live_1 rfl ?_
  refine t3g_22 X hK hR dX3_live_2 ?_
  refine lv_iconst (v := (1 : Int32)) hx hb dX3_live_5 (by decide) ?_
  refine lv_iadd hx hb dX3_live_6 ?_
  refine t3p_22 X hK hD hR hS dX3_live_7 (fun H locs hR hS => ?_)
  refine lv_iconst (v := (0 : Int32)) hx hb dX3_live_10 (by decide) ?_
  refine lv_istore_n (lv' := [(1, .int (0 : Int32)), (0, .ref E.1)]) hx hb dX3_live_11 rfl hl (by decide) rfl (fun ls hl => ?_)
  refine lv_iconst (v := (0 : Int32)) hx hb dX3_live_12 (by decide) ?_
  refine lv_istore_n (lv' := [(2, .int (0 : Int32)), (1, .int (0 : Int32)), (0, .ref E.1)]) hx hb dX3_live_13 rfl hl (by decide) rfl (fun ls hl => ?_)
  have hL_1 : ∀ s9 : ww_M × Int32 × Int32, ww_U (f3_live_b1) s9 = some (r, M') → ∀ (H : Heap) (locs : List Loc) (ls : Array Slot), t3_H E s9.1 H → va_S (t3_A E) s.heap H locs → lv_has ls 3 [(0, .ref E.1), (1, .int s9.2.1), (2, .int s9.2.2)] → W p l e Rm s m args below meth c H locs 0 0 Q (F0 m 14 ls []) := by
    refine ww_ind _ (r, M') ?_
    intro s9 z_1 hf hz_1 H locs ls hR hS hl
    obtain ⟨M_1, x1, x2⟩ := s9
    replace hf : f3_live_b1c M_1 x1 x2 = some z_1 := hf
    unfold f3_live_b1c at hf
    replace hR : t3_H E M_1 H := hR
    replace hl : lv_has ls 3 [(0, .ref E.1), (1, .int x1), (2, .int x2)] := hl
    refine lv_iload_n hx hb dX3_live_14 rfl (lv_at hl 2 rfl) ?_
    refine lv_aload_n hx hb dX3_live_15 rfl (lv_at hl 0 rfl) ?_
    refine t3g_41 X hK hR dX3_live_16 ?_
    refine lv_icmp_ge (tgt := 50) hx hb dX3_live_19 (by decide) (fun c_2 => ?_) (fun c_2 => ?_)
    · replace hf := ww_ip hf c_2
      replace hf := ww_xK hf hz_1
      refine lv_iconst (v := (0 : Int32)) hx hb dX3_live_50 (by decide) ?_
      refine lv_istore_n (lv' := [(2, .int (0 : Int32)), (0, .ref E.1), (1, .int x1)]) hx hb dX3_live_51 rfl hl (by decide) rfl (fun ls hl => ?_)
      have hL_2 : ∀ s9 : ww_M × Int32 × Int32, ww_U (f3_live_b2) s9 = some (r, M') → ∀ (H : Heap) (locs : List Loc) (ls : Array Slot), t3_H E s9.1 H → va_S (t3_A E) s.heap H locs → lv_has ls 3 [(0, .ref E.1), (1, .int s9.2.1), (2, .int s9.2.2)] → W p l e Rm s m args below meth c H locs 0 0 Q (F0 m 52 ls []) := by
        refine ww_ind _ (r, M') ?_
        intro s9 z_2 hf hz_2 H locs ls hR hS hl
        obtain ⟨M_3, x1_1, x2⟩ := s9
        replace hf : f3_live_b2c M_3 x1_1 x2 = some z_2 := hf
        unfold f3_live_b2c at hf
        replace hR : t3_H E M_3 H := hR
        replace hl : lv_has ls 3 [(0, .ref E.1), (1, .int x1_1), (2, .int x2)] := hl
        refine lv_iload_n hx hb dX3_live_52 rfl (lv_at hl 2 rfl) ?_
        refine lv_iconst (v := (4 : Int32)) hx hb dX3_live_53 (by decide) ?_
        refine lv_icmp_ge (tgt := 87) hx hb dX3_live_54 (by decide) (fun c_4 => ?_) (fun c_4 => ?_)
        · replace hf := ww_ip hf c_4
          replace hf := ww_xK hf hz_2
          refine lv_iload_n hx hb dX3_live_87 rfl (lv_at hl 1 rfl) ?_
          exact hend dX3_live_88 rfl rfl hf hR hS
        · replace hf := ww_in hf c_4
          refine lv_aload_n hx hb dX3_live_57 rfl (lv_at hl 0 rfl) ?_
          refine t3g_43 X hK hR dX3_live_58 ?_
          refine lv_iload_n hx hb dX3_live_61 rfl (lv_at hl 2 rfl) ?_
          obtain ⟨r_5, h_5, hf⟩ := ww_bS hf
          refine t3c_has X hl.1 (Nat.le_trans (Nat.le_of_ble_eq_true rfl) hF) (Nat.le_trans (Nat.le_of_ble_eq_true rfl) hLo) h_5 (Nat.le_of_ble_eq_true rfl) dX3_live_62 ?_
          refine lv_if_eq (tgt := 81) hx hb dX3_live_65 (by decide) (fun c_6 => ?_) (fun c_6 => ?_)
          · replace hf := ww_ip hf c_6
            refine lv_iinc (k := 2) (v := x2 + (1 : Int32)) (lv' := [(2, .int (x2 + (1 : Int32))), (0, .ref E.1), (1, .int x1_1)]) hx hb dX3_live_81 hl rfl rfl (by decide) rfl (fun ls hl => ?_)
            refine lv_goto (tgt := 52) hx hb dX3_live_84 (by decide) ?_
            exact ww_lK hf hz_2 _ _ _ hR hS (lv_sub hl [1, 2, 0] rfl)
          · replace hf := ww_in hf c_6
            refine lv_iload_n hx hb dX3_live_68 rfl (lv_at hl 1 rfl) ?_
            refine lv_aload_n hx hb dX3_live_69 rfl (lv_at hl 0 rfl) ?_
            refine lv_aload_n hx hb dX3_live_70 rfl (lv_at hl 0 rfl) ?_
            refine t3g_35 X hK hR dX3_live_71 ?_
            refine lv_iload_n hx hb dX3_live_74 rfl (lv_at hl 2 rfl) ?_
            obtain ⟨h_7, hf⟩ := ww_gS hf
            refine t3l_35 X hK hR h_7 dX3_live_75 ?_
            obtain ⟨r_8, M_8, h_8, hf⟩ := ww_b2S hf
            refine t3c_marks X hl.1 hK hD hR hS (Nat.le_trans (Nat.le_of_ble_eq_true rfl) hF) (Nat.le_trans (Nat.le_of_ble_eq_true rfl) hLo) h_8 (Nat.le_of_ble_eq_true rfl) dX3_live_76 (fun H locs hR hS => ?_)
            refine lv_iadd hx hb dX3_live_79 ?_
            refine lv_istore_n (lv' := [(1, .int (x1_1 + r_8)), (0, .ref E.1), (2, .int x2)]) hx hb dX3_live_80 rfl hl (by decide) rfl (fun ls hl => ?_)
            refine lv_iinc (k := 2) (v := x2 + (1 : Int32)) (lv' := [(2, .int (x2 + (1 : Int32))), (1, .int (x1_1 + r_8)), (0, .ref E.1)]) hx hb dX3_live_81 hl rfl rfl (by decide) rfl (fun ls hl => ?_)
            refine lv_goto (tgt := 52) hx hb dX3_live_84 (by decide) ?_
            exact ww_lK hf hz_2 _ _ _ hR hS (lv_sub hl [2, 1, 0] rfl)
      exact hL_2 (M_1, x1, (0 : Int32)) hf _ _ _ hR hS (lv_sub hl [1, 2, 0] rfl)
    · replace hf := ww_in hf c_2
      refine lv_aload_n hx hb dX3_live_22 rfl (lv_at hl 0 rfl) ?_
      refine t3g_39 X hK hR dX3_live_23 ?_
      refine lv_iload_n hx hb dX3_live_26 rfl (lv_at hl 2 rfl) ?_
      obtain ⟨h_9, hf⟩ := ww_gS hf
      refine t3l_39 X hK hR h_9 dX3_live_27 ?_
      refine lv_if_eq (tgt := 44) hx hb dX3_live_28 (by decide) (fun c_10 => ?_) (fun c_10 => ?_)
      · replace hf := ww_ip hf c_10
        refine lv_iinc (k := 2) (v := x2 + (1 : Int32)) (lv' := [(2, .int (x2 + (1 : Int32))), (0, .ref E.1), (1, .int x1)]) hx hb dX3_live_44 hl rfl rfl (by decide) rfl (fun ls hl => ?_)
        refine lv_goto (tgt := 14) hx hb dX3_live_47 (by decide) ?_
        exact ww_lK hf hz_1 _ _ _ hR hS (lv_sub hl [1, 2, 0] rfl)
      · replace hf := ww_in hf c_10
        refine lv_iload_n hx hb dX3_live_31 rfl (lv_at hl 1 rfl) ?_
        refine lv_aload_n hx hb dX3_live_32 rfl (lv_at hl 0 rfl) ?_
        refine lv_aload_n hx hb dX3_live_33 rfl (lv_at hl 0 rfl) ?_
        refine t3g_32 X hK hR dX3_live_34 ?_
        refine lv_iload_n hx hb dX3_live_37 rfl (lv_at hl 2 rfl) ?_
        obtain ⟨h_11, hf⟩ := ww_gS hf
        refine t3l_32 X hK hR h_11 dX3_live_38 ?_
        obtain ⟨r_12, M_12, h_12, hf⟩ := ww_b2S hf
        refine t3c_marks X hl.1 hK hD hR hS (Nat.le_trans (Nat.le_of_ble_eq_true rfl) hF) (Nat.le_trans (Nat.le_of_ble_eq_true rfl) hLo) h_12 (Nat.le_of_ble_eq_true rfl) dX3_live_39 (fun H locs hR hS => ?_)
        refine lv_iadd hx hb dX3_live_42 ?_
        refine lv_istore_n (lv' := [(1, .int (x1 + r_12)), (0, .ref E.1), (2, .int x2)]) hx hb dX3_live_43 rfl hl (by decide) rfl (fun ls hl => ?_)
        refine lv_iinc (k := 2) (v := x2 + (1 : Int32)) (lv' := [(2, .int (x2 + (1 : Int32))), (1, .int (x1 + r_12)), (0, .ref E.1)]) hx hb dX3_live_44 hl rfl rfl (by decide) rfl (fun ls hl => ?_)
        refine lv_goto (tgt := 14) hx hb dX3_live_47 (by decide) ?_
        exact ww_lK hf hz_1 _ _ _ hR hS (lv_sub hl [2, 1, 0] rfl)
  exact hL_1 ((ww_sF M 22 ((ww_F M 22) + (1 : Int32))), (0 : Int32), (0 : Int32)) hf _ _ _ hR hS (lv_sub hl [2, 1, 0] rfl)
section T3_live_c
variable {p : Program} {l : Launch} {e : Env} {R : Room} {s : State} {m : MethodId} {args : Array Value} {below : List Frame} {meth : Method} {c : Code} {H : Heap} {locs : List Loc} {Q : State → Prop}
variable {cc : ByteArray} {pc : Nat} {ls : Array Slot} {rest : List Value} {nL : Nat} {E : ww_E} {A : Nat → Prop} {H0 : Heap}
theorem t3c_live {M M' : ww_M} {r : Int32} (X : ww_C p m c cc nL s args RX3 lw_all) (hsz : ls.size = nL) (hK : t3_Kn E s) (hD : t3_D E) (hR : t3_H E M H) (hS : va_S (t3_A E) H0 H locs) (hF : 13 ≤ R.frames) (hLo : 297 ≤ R.locals) (hf : f3_live M = some (r, M')) (hrest : (rest.map fun v => v.category).sum ≤ 8) (hdg : decode cc pc = .ok (.invokevirtual 468, 3)) (kk : ∀ (H1 : Heap) (locs1 : List Loc), t3_H E M' H1 → va_S (t3_A E) H0 H1 locs1 → W p l e R s m args below meth c H1 locs1 0 0 Q (F0 m (pc + 3) ls (.int r :: rest))) : W p l e R s m args below meth c H locs 0 0 Q (F0 m pc ls (.ref E.1 :: rest)) :=
  t3k_live X hsz hK hD hR hS hF hLo (met3_live l hD _ _ _ hf) hrest hdg kk
end T3_live_c
noncomputable def f3_count (M : ww_M) (x1 : Int32) : Option (Int32 × ww_M) :=
  if x1 = 0 then some ((ww_F (ww_sF M 0 (0 : Int32)) 19), (ww_sF M 0 (0 : Int32))) else if x1 = 1 then some ((ww_F (ww_sF M 0 (0 : Int32)) 42), (ww_sF M 0 (0 : Int32))) else if x1 = 2 then some ((ww_F (ww_sF M 0 (0 : Int32)) 41), (ww_sF M 0 (0 : Int32))) else if x1 = 3 then some ((ww_F (ww_sF M 0 (0 : Int32)) 20), (ww_sF M 0 (0 : Int32))) else if x1 = 4 then ww_b2 (f3_live (ww_sF M 0 (0 : Int32))) (fun r_6 M_6 => some (r_6, M_6)) else if x1 = 5 then some ((ww_F (ww_sF M 0 (0 : Int32)) 9), (ww_sF M 0 (0 : Int32))) else if x1 = 6 then some ((ww_F (ww_sF M 0 (0 : Int32)) 2), (ww_sF M 0 (0 : Int32))) else if x1 = 7 then some ((ww_F (ww_sF M 0 (0 : Int32)) 43), (ww_sF M 0 (0 : Int32))) else some ((-1000000 : Int32), (ww_sF M 0 (0 : Int32)))
set_option maxHeartbeats 4000000 in
set_option maxRecDepth 100000 in
theorem met3_count (l : Launch) {E : ww_E} (hD : t3_D E) (M : ww_M) (x1 : Int32) (r : Int32) (M' : ww_M) (hf : f3_count M x1 = some (r, M')) : t3_Met l yX3_count cX3_count 2 (some Jvm.ClassFile.FieldType.int) 13 297 E [.int x1] M M' r := by
  unfold f3_count at hf
  refine t3_start (by decide +kernel) (Nat.le_of_ble_eq_true rfl) ?_
  intro p e s m args below meth c Rm Q X hK hF hLo hend ls hl hR hS
  obtain ⟨hx, hb, hml, hown, hts⟩ := id X
  replace hl : lv_has ls 2 [(0, .ref E.1), (1, .int x1)] := hl
  refine lv_aload_n hx hb dX3_count_0 rfl (lv_at hl 0 rfl) ?_
  refine lv_iconst (v := (0 : Int32)) hx hb dX3_count_1 (by decide) ?_
  refine t3p_0 X hK hD hR hS dX3_count_2 (fun H locs hR hS => ?_)
  refine lv_iload_n hx hb dX3_count_5 rfl (lv_at hl 1 rfl) ?_
  refine ww_by (x1 = 0) (fun c_1 => ?_) (fun c_1 => ?_)
  · replace hf := ww_ip hf c_1
    refine ww_tin (k := 0) (off := 46) (tgt := 52) hx hb dX3_count_6 c_1 (by decide) (by decide) (by decide) (by decide) ?_
    refine lv_aload_n hx hb dX3_count_52 rfl (lv_at hl 0 rfl) ?_
    refine t3g_19 X hK hR dX3_count_53 ?_
    exact hend dX3_count_56 rfl rfl hf hR hS
  replace hf := ww_in hf c_1
  refine ww_by (x1 = 1) (fun c_2 => ?_) (fun c_2 => ?_)
  · replace hf := ww_ip hf c_2
    refine ww_tin (k := 1) (off := 51) (tgt := 57) hx hb dX3_count_6 c_2 (by decide) (by decide) (by decide) (by decide) ?_
    refine lv_aload_n hx hb dX3_count_57 rfl (lv_at hl 0 rfl) ?_
    refine t3g_42 X hK hR dX3_count_58 ?_
    exact hend dX3_count_61 rfl rfl hf hR hS
  replace hf := ww_in hf c_2
  refine ww_by (x1 = 2) (fun c_3 => ?_) (fun c_3 => ?_)
  · replace hf := ww_ip hf c_3
    refine ww_tin (k := 2) (off := 56) (tgt := 62) hx hb dX3_count_6 c_3 (by decide) (by decide) (by decide) (by decide) ?_
    refine lv_aload_n hx hb dX3_count_62 rfl (lv_at hl 0 rfl) ?_
    refine t3g_41 X hK hR dX3_count_63 ?_
    exact hend dX3_count_66 rfl rfl hf hR hS
  replace hf := ww_in hf c_3
  refine ww_by (x1 = 3) (fun c_4 => ?_) (fun c_4 => ?_)
  · replace hf := ww_ip hf c_4
    refine ww_tin (k := 3) (off := 61) (tgt := 67) hx hb dX3_count_6 c_4 (by decide) (by decide) (by decide) (by decide) ?_
    refine lv_aload_n hx hb dX3_count_67 rfl (lv_at hl 0 rfl) ?_
    refine t3g_20 X hK hR dX3_count_68 ?_
    exact hend dX3_count_71 rfl rfl hf hR hS
  replace hf := ww_in hf c_4
  refine ww_by (x1 = 4) (fun c_5 => ?_) (fun c_5 => ?_)
  · replace hf := ww_ip hf c_5
    refine ww_tin (k := 4) (off := 66) (tgt := 72) hx hb dX3_count_6 c_5 (by decide) (by decide) (by decide) (by decide) ?_
    refine lv_aload_n hx hb dX3_count_72 rfl (lv_at hl 0 rfl) ?_
    obtain ⟨r_6, M_6, h_6, hf⟩ := ww_b2S hf
    refine t3c_live X hl.1 hK hD hR hS (Nat.le_trans (Nat.le_of_ble_eq_true rfl) hF) (Nat.le_trans (Nat.le_of_ble_eq_true rfl) hLo) h_6 (Nat.le_of_ble_eq_true rfl) dX3_count_73 (fun H locs hR hS => ?_)
    exact hend dX3_count_76 rfl rfl hf hR hS
  replace hf := ww_in hf c_5
  refine ww_by (x1 = 5) (fun c_7 => ?_) (fun c_7 => ?_)
  · replace hf := ww_ip hf c_7
    refine ww_tin (k := 5) (off := 71) (tgt := 77) hx hb dX3_count_6 c_7 (by decide) (by decide) (by decide) (by decide) ?_
    refine lv_aload_n hx hb dX3_count_77 rfl (lv_at hl 0 rfl) ?_
    refine t3g_9 X hK hR dX3_count_78 ?_
    exact hend dX3_count_81 rfl rfl hf hR hS
  replace hf := ww_in hf c_7
  refine ww_by (x1 = 6) (fun c_8 => ?_) (fun c_8 => ?_)
  · replace hf := ww_ip hf c_8
    refine ww_tin (k := 6) (off := 76) (tgt := 82) hx hb dX3_count_6 c_8 (by decide) (by decide) (by decide) (by decide) ?_
    refine lv_aload_n hx hb dX3_count_82 rfl (lv_at hl 0 rfl) ?_
    refine t3g_2 X hK hR dX3_count_83 ?_
    exact hend dX3_count_86 rfl rfl hf hR hS
  replace hf := ww_in hf c_8
  refine ww_by (x1 = 7) (fun c_9 => ?_) (fun c_9 => ?_)
  · replace hf := ww_ip hf c_9
    refine ww_tin (k := 7) (off := 81) (tgt := 87) hx hb dX3_count_6 c_9 (by decide) (by decide) (by decide) (by decide) ?_
    refine lv_aload_n hx hb dX3_count_87 rfl (lv_at hl 0 rfl) ?_
    refine t3g_43 X hK hR dX3_count_88 ?_
    exact hend dX3_count_91 rfl rfl hf hR hS
  replace hf := ww_in hf c_9
  refine ww_tout (tgt := 92) [0, 1, 2, 3, 4, 5, 6, 7] hx hb dX3_count_6 ⟨c_1, c_2, c_3, c_4, c_5, c_7, c_8, c_9, trivial⟩ (by decide) (by decide) ?_
  refine lv_ldc (v := (-1000000 : Int32)) hx hb hown (hts _ q1942) dX3_count_92 ?_
  exact hend dX3_count_94 rfl rfl hf hR hS
