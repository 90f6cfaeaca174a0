noncomputable def f1_wholeProgram_j1 (D : cw_D) (cf : Nat) (kf : Nat) (y1 : Int32) (t0 : Int32) : Option ((cw_D × Nat × Nat × Int32) ⊕ (cx_Z (Unit))) :=
  if t0 = 0 then some (.inl (D, cf, kf, t0)) else some (.inl ((cw_sF D 4 ((ww_F D.1 4) + (1 : Int32))), cf, kf, t0))
noncomputable def f1_wholeProgram_b1c (y1 : Int32) (D_2 : cw_D) (c_1b : Nat) (k_1b : Nat) (x2 : Int32) : Option ((cw_D × Nat × Nat × Int32) ⊕ (cx_Z (Unit))) :=
  if x2 = 0 then ww_x (ww_b2 (f1_next D_2) (fun r_4 D_4 => if r_4 = (-1 : Int32) then ww_t (f1_must D_4 (1 : Int32)) (fun D_7 c_7 k_7 => some (.inl (D_7, (c_1b + c_7), (k_1b + k_7)))) (fun u_7 D_7 c_7 k_7 => some (.inr ((), D_7, (c_1b + c_7), (k_1b + k_7)))) else ww_t (f1_must D_4 (0 : Int32)) (fun D_6 c_6 k_6 => some (.inl (D_6, (c_1b + c_6), (k_1b + k_6)))) (fun u_6 D_6 c_6 k_6 => some (.inr ((), D_6, (c_1b + c_6), (k_1b + k_6)))))) else ww_g (ww_i y1 5) (ww_t (f1_stepRead D_2 ((4 : Int32) * (((16 : Int32) * y1) + (ww_X D_2.1 6 y1)))) (fun D_9 c_9 k_9 => ww_x (some (.inl (D_9, (c_1b + c_9), (k_1b + k_9))))) (fun u_9 D_9 c_9 k_9 => ww_g (ww_i y1 5) (ww_g (ww_i y1 5) (ww_b2 (f1_next (cw_sX D_9 6 y1 ((ww_X D_9.1 6 y1) + (1 : Int32)))) (fun r_12 D_12 => if r_12 = (59 : Int32) then ww_g (ww_i y1 5) (if (16 : Int32) ≤ (ww_X D_12.1 6 y1) then f1_wholeProgram_j1 D_12 (c_1b + c_9) (k_1b + k_9) y1 (0 : Int32) else f1_wholeProgram_j1 D_12 (c_1b + c_9) (k_1b + k_9) y1 (1 : Int32)) else f1_wholeProgram_j1 D_12 (c_1b + c_9) (k_1b + k_9) y1 (0 : Int32))))))
noncomputable def f1_wholeProgram_b1 (y1 : Int32) : (cw_D × Nat × Nat × Int32) → Option ((cw_D × Nat × Nat × Int32) ⊕ (cx_Z (Unit))) := fun s9 => f1_wholeProgram_b1c y1 s9.1 s9.2.1 s9.2.2.1 s9.2.2.2
noncomputable def f1_wholeProgram (D : cw_D) (x1 : Int32) : Option (cx_Z (Unit)) :=
  ww_g (ww_i x1 5) (ww_U (f1_wholeProgram_b1 x1) ((cw_sX (cw_sF D 4 (0 : Int32)) 6 x1 (0 : Int32)), 0, 0, (1 : Int32)))
set_option maxHeartbeats 4000000 in
set_option maxRecDepth 100000 in
theorem met1_wholeProgram (l : Launch) {E : cw_E} {A : Nat → Prop} (D : cw_D) (x1 : Int32) (z : cx_Z (Unit)) (hf : f1_wholeProgram D x1 = some z) : cx_MetV l yX1_wholeProgram cX1_wholeProgram 3 8 258 E A [.ref E.1.1, .int x1] D z := by
  unfold f1_wholeProgram at hf
  refine cx_sV (own := RX1) (by decide +kernel) [(0, .ref E.1.1), (1, .int x1)] ⟨Nat.le_of_ble_eq_true rfl, rfl⟩ ?_
  intro p e s m args below meth c Rm Q X hK hF hLo hC0 hin hend hendX ls hl hR hS
  obtain ⟨hx, hb, hml, hown, hts⟩ := id X
  obtain ⟨nc, hnc⟩ : ∃ q, q = cx_c z := ⟨_, rfl⟩
  obtain ⟨ns, hns⟩ : ∃ q, q = cx_k z := ⟨_, rfl⟩
  have hC : nc ≤ Rm.cells ∧ ns ≤ Rm.slots := by rw [hnc, hns]; exact hC0
  have hm9 : 0 ≤ nc ∧ 0 ≤ ns := ⟨Nat.zero_le _, Nat.zero_le _⟩
  refine lv_aload_n hx hb dX1_wholeProgram_0 rfl (lv_at hl 0 rfl) ?_
  refine lv_iconst (v := (0 : Int32)) hx hb dX1_wholeProgram_1 (by decide) ?_
  refine c1p_131 X hK hR hS dX1_wholeProgram_2 (fun H locs hR hS => ?_)
  refine lv_aload_n hx hb dX1_wholeProgram_5 rfl (lv_at hl 0 rfl) ?_
  refine c1g_51 X hK hR dX1_wholeProgram_6 ?_
  refine lv_iload_n hx hb dX1_wholeProgram_9 rfl (lv_at hl 1 rfl) ?_
  refine lv_iconst (v := (0 : Int32)) hx hb dX1_wholeProgram_10 (by decide) ?_
  obtain ⟨h_1, hq⟩ := ww_gS hf; replace hf := hq; clear hq
  refine c1s_6 X hK hR hS h_1 dX1_wholeProgram_11 (fun H locs hR hS => ?_)
  refine lv_iconst (v := (1 : Int32)) hx hb dX1_wholeProgram_12 (by decide) ?_
  refine lv_istore_n (lv' := [(2, .int (1 : Int32)), (0, .ref E.1.1), (1, .int x1)]) hx hb dX1_wholeProgram_13 rfl hl (by decide) rfl (fun ls hl => ?_)
  have hL_1 : ∀ s9 : cw_D × Nat × Nat × Int32, ww_U (f1_wholeProgram_b1 x1) s9 = some z → (s9.2.1 ≤ nc ∧ s9.2.2.1 ≤ ns) ∧ (∀ (H : Heap) (locs : List Loc) (ls : Array Slot), cw_H E A s9.1 H → va_S A s.heap H locs → lv_has ls 3 [(0, .ref E.1.1), (1, .int x1), (2, .int s9.2.2.2)] → W p l e Rm s m args below meth c H locs s9.2.1 s9.2.2.1 Q (F0 m 14 ls [])) := by
    clear hf
    refine ww_ind _ z ?_
    intro s9 z_1 hf hz_1
    obtain ⟨D_2, c_1b, k_1b, x2⟩ := s9
    replace hf : f1_wholeProgram_b1c x1 D_2 c_1b k_1b x2 = some z_1 := hf
    unfold f1_wholeProgram_b1c at hf
    have hm9 : c_1b ≤ nc ∧ k_1b ≤ ns := by
      show c_1b ≤ nc ∧ k_1b ≤ ns
      refine ww_by (x2 = 0) (fun c_3 => ?_) (fun c_3 => ?_)
      · replace hf := ww_ip hf c_3
        replace hf := ww_xK hf hz_1
        obtain ⟨r_4, D_4, h_4, hq⟩ := ww_b2S hf; replace hf := hq; clear hq
        refine ww_by (r_4 = (-1 : Int32)) (fun c_5 => ?_) (fun c_5 => ?_)
        · replace hf := ww_ip hf c_5
          rcases ww_tS hf with ⟨D_7, c_7, k_7, h_7, hq⟩ | ⟨u_7, D_7, c_7, k_7, h_7, hq⟩
          · replace hf := hq
            clear hq
            cases hf
            have e8 : nc = (c_1b + c_7) := hnc
            have e9 : ns = (k_1b + k_7) := hns
            omega
          replace hf := hq
          clear hq
          cases hf
          have e8 : nc = (c_1b + c_7) := hnc
          have e9 : ns = (k_1b + k_7) := hns
          omega
        · replace hf := ww_in hf c_5
          rcases ww_tS hf with ⟨D_6, c_6, k_6, h_6, hq⟩ | ⟨u_6, D_6, c_6, k_6, h_6, hq⟩
          · replace hf := hq
            clear hq
            cases hf
            have e8 : nc = (c_1b + c_6) := hnc
            have e9 : ns = (k_1b + k_6) := hns
            omega
          replace hf := hq
          clear hq
          cases hf
          have e8 : nc = (c_1b + c_6) := hnc
          have e9 : ns = (k_1b + k_6) := hns
          omega
      · replace hf := ww_in hf c_3
        obtain ⟨h_8, hq⟩ := ww_gS hf; replace hf := hq; clear hq
        rcases ww_tS hf with ⟨D_9, c_9, k_9, h_9, hq⟩ | ⟨u_9, D_9, c_9, k_9, h_9, hq⟩
        · replace hf := hq
          clear hq
          replace hf := ww_xK hf hz_1
          cases hf
          have e8 : nc = (c_1b + c_9) := hnc
          have e9 : ns = (k_1b + k_9) := hns
          omega
        replace hf := hq
        clear hq
        obtain ⟨h_10, hq⟩ := ww_gS hf; replace hf := hq; clear hq
        obtain ⟨h_11, hq⟩ := ww_gS hf; replace hf := hq; clear hq
        obtain ⟨r_12, D_12, h_12, hq⟩ := ww_b2S hf; replace hf := hq; clear hq
        have hj_1 : ∀ (t0 : Int32), f1_wholeProgram_j1 D_12 (c_1b + c_9) (k_1b + k_9) x1 t0 = some z_1 → (c_1b + c_9) ≤ nc ∧ (k_1b + k_9) ≤ ns := by
          clear hf
          intro t0 hf
          unfold f1_wholeProgram_j1 at hf
          refine ww_by (t0 = 0) (fun c_13 => ?_) (fun c_13 => ?_)
          · replace hf := ww_ip hf c_13
            have e9 := (ww_lK hf hz_1).1
            try dsimp only at e9
            omega
          · replace hf := ww_in hf c_13
            have e9 := (ww_lK hf hz_1).1
            try dsimp only at e9
            omega
        refine ww_by (r_12 = (59 : Int32)) (fun c_14 => ?_) (fun c_14 => ?_)
        · replace hf := ww_ip hf c_14
          obtain ⟨h_15, hq⟩ := ww_gS hf; replace hf := hq; clear hq
          refine ww_by ((16 : Int32) ≤ (ww_X D_12.1 6 x1)) (fun c_16 => ?_) (fun c_16 => ?_)
          · replace hf := ww_ip hf c_16
            have e9 := hj_1 (0 : Int32) hf
            omega
          · replace hf := ww_in hf c_16
            have e9 := hj_1 (1 : Int32) hf
            omega
        · replace hf := ww_in hf c_14
          have e9 := hj_1 (0 : Int32) hf
          omega
    refine ⟨hm9, ?_⟩
    try clear hl
    try clear hS
    try clear hR
    intro H locs ls hR hS hl
    replace hR : cw_H E A D_2 H := hR
    replace hl : lv_has ls 3 [(0, .ref E.1.1), (1, .int x1), (2, .int x2)] := hl
    show W p l e Rm s m args below meth c H locs c_1b k_1b Q _
    refine lv_iload_n hx hb dX1_wholeProgram_14 rfl (lv_at hl 2 rfl) ?_
    refine lv_if_eq (tgt := 88) hx hb dX1_wholeProgram_15 (by decide) (fun c_3 => ?_) (fun c_3 => ?_)
    · replace hf := ww_ip hf c_3
      replace hf := ww_xK hf hz_1
      refine lv_aload_n hx hb dX1_wholeProgram_88 rfl (lv_at hl 0 rfl) ?_
      refine lv_aload_n hx hb dX1_wholeProgram_89 rfl (lv_at hl 0 rfl) ?_
      obtain ⟨r_4, D_4, h_4, hq⟩ := ww_b2S hf; replace hf := hq; clear hq
      refine c1c_1_next X hl.1 hK hR hS (Nat.le_trans (Nat.le_of_ble_eq_true rfl) hF) (Nat.le_trans (Nat.le_of_ble_eq_true rfl) hLo) (Nat.le_trans hm9.1 hC.1) (Nat.le_trans hm9.2 hC.2) h_4 (cw_rest (Nat.le_of_ble_eq_true rfl)) dX1_wholeProgram_90 (fun H locs hR hS => ?_)
      refine lv_iconst (v := (-1 : Int32)) hx hb dX1_wholeProgram_93 (by decide) ?_
      refine lv_icmp_ne (tgt := 101) hx hb dX1_wholeProgram_94 (by decide) (fun c_5 => ?_) (fun c_5 => ?_)
      · replace hf := ww_in hf c_5
        refine lv_iconst (v := (0 : Int32)) hx hb dX1_wholeProgram_101 (by decide) ?_
        rcases ww_tS hf with ⟨D_6, c_6, k_6, h_6, hq⟩ | ⟨u_6, D_6, c_6, k_6, h_6, hq⟩
        · replace hf := hq
          clear hq
          have hm9 : (c_1b + c_6) ≤ nc ∧ (k_1b + k_6) ≤ ns := by
            cases hf
            have e8 : nc = (c_1b + c_6) := hnc
            have e9 : ns = (k_1b + k_6) := hns
            omega
          refine c1tx_1_must X hl.1 hK hR hS (Nat.le_trans (Nat.le_of_ble_eq_true rfl) hF) (Nat.le_trans (Nat.le_of_ble_eq_true rfl) hLo) (Nat.le_trans hm9.1 hC.1) (Nat.le_trans hm9.2 hC.2) h_6 (cw_rest (Nat.le_of_ble_eq_true rfl)) dX1_wholeProgram_102 (fun q9 ce9 H locs hR hS hce hcv hcl => ?_)
          exact hendX hf hR hS hce hcv hcl
        replace hf := hq
        clear hq
        have hm9 : (c_1b + c_6) ≤ nc ∧ (k_1b + k_6) ≤ ns := by
          cases hf
          have e8 : nc = (c_1b + c_6) := hnc
          have e9 : ns = (k_1b + k_6) := hns
          omega
        refine c1tn_1_must X hl.1 hK hR hS (Nat.le_trans (Nat.le_of_ble_eq_true rfl) hF) (Nat.le_trans (Nat.le_of_ble_eq_true rfl) hLo) (Nat.le_trans hm9.1 hC.1) (Nat.le_trans hm9.2 hC.2) h_6 (cw_rest (Nat.le_of_ble_eq_true rfl)) dX1_wholeProgram_102 (fun H locs hR hS => ?_)
        exact hend dX1_wholeProgram_105 hf hR hS
      · replace hf := ww_ip hf c_5
        refine lv_iconst (v := (1 : Int32)) hx hb dX1_wholeProgram_97 (by decide) ?_
        refine lv_goto (tgt := 102) hx hb dX1_wholeProgram_98 (by decide) ?_
        rcases ww_tS hf with ⟨D_7, c_7, k_7, h_7, hq⟩ | ⟨u_7, D_7, c_7, k_7, h_7, hq⟩
        · replace hf := hq
          clear hq
          have hm9 : (c_1b + c_7) ≤ nc ∧ (k_1b + k_7) ≤ ns := by
            cases hf
            have e8 : nc = (c_1b + c_7) := hnc
            have e9 : ns = (k_1b + k_7) := hns
            omega
          refine c1tx_1_must X hl.1 hK hR hS (Nat.le_trans (Nat.le_of_ble_eq_true rfl) hF) (Nat.le_trans (Nat.le_of_ble_eq_true rfl) hLo) (Nat.le_trans hm9.1 hC.1) (Nat.le_trans hm9.2 hC.2) h_7 (cw_rest (Nat.le_of_ble_eq_true rfl)) dX1_wholeProgram_102 (fun q9 ce9 H locs hR hS hce hcv hcl => ?_)
          exact hendX hf hR hS hce hcv hcl
        replace hf := hq
        clear hq
        have hm9 : (c_1b + c_7) ≤ nc ∧ (k_1b + k_7) ≤ ns := by
          cases hf
          have e8 : nc = (c_1b + c_7) := hnc
          have e9 : ns = (k_1b + k_7) := hns
          omega
        refine c1tn_1_must X hl.1 hK hR hS (Nat.le_trans (Nat.le_of_ble_eq_true rfl) hF) (Nat.le_trans (Nat.le_of_ble_eq_true rfl) hLo) (Nat.le_trans hm9.1 hC.1) (Nat.le_trans hm9.2 hC.2) h_7 (cw_rest (Nat.le_of_ble_eq_true rfl)) dX1_wholeProgram_102 (fun H locs hR hS => ?_)
        exact hend dX1_wholeProgram_105 hf hR hS
    · replace hf := ww_in hf c_3
      refine lv_aload_n hx hb dX1_wholeProgram_18 rfl (lv_at hl 0 rfl) ?_
      refine lv_iconst (v := (4 : Int32)) hx hb dX1_wholeProgram_19 (by decide) ?_
      refine lv_bipush (v := (16 : Int32)) hx hb dX1_wholeProgram_20 (by decide) ?_
      refine lv_iload_n hx hb dX1_wholeProgram_22 rfl (lv_at hl 1 rfl) ?_
      refine lv_imul hx hb dX1_wholeProgram_23 ?_
      refine lv_aload_n hx hb dX1_wholeProgram_24 rfl (lv_at hl 0 rfl) ?_
      refine c1g_51 X hK hR dX1_wholeProgram_25 ?_
      refine lv_iload_n hx hb dX1_wholeProgram_28 rfl (lv_at hl 1 rfl) ?_
      obtain ⟨h_8, hq⟩ := ww_gS hf; replace hf := hq; clear hq
      refine c1l_6 X hK hR h_8 dX1_wholeProgram_29 ?_
      refine lv_iadd hx hb dX1_wholeProgram_30 ?_
      refine lv_imul hx hb dX1_wholeProgram_31 ?_
      rcases ww_tS hf with ⟨D_9, c_9, k_9, h_9, hq⟩ | ⟨u_9, D_9, c_9, k_9, h_9, hq⟩
      · replace hf := hq
        clear hq
        have hm9 : (c_1b + c_9) ≤ nc ∧ (k_1b + k_9) ≤ ns := by
          replace hf := ww_xK hf hz_1
          cases hf
          have e8 : nc = (c_1b + c_9) := hnc
          have e9 : ns = (k_1b + k_9) := hns
          omega
        refine c1tx_1_stepRead X hl.1 hK hR hS (Nat.le_trans (Nat.le_of_ble_eq_true rfl) hF) (Nat.le_trans (Nat.le_of_ble_eq_true rfl) hLo) (Nat.le_trans hm9.1 hC.1) (Nat.le_trans hm9.2 hC.2) h_9 (cw_rest (Nat.le_of_ble_eq_true rfl)) dX1_wholeProgram_32 (fun q9 ce9 H locs hR hS hce hcv hcl => ?_)
        replace hf := ww_xK hf hz_1
        exact hendX hf hR hS hce hcv hcl
      replace hf := hq
      clear hq
      have hm9 : (c_1b + c_9) ≤ nc ∧ (k_1b + k_9) ≤ ns := by
        obtain ⟨h_10, hq⟩ := ww_gS hf; replace hf := hq; clear hq
        obtain ⟨h_11, hq⟩ := ww_gS hf; replace hf := hq; clear hq
        obtain ⟨r_12, D_12, h_12, hq⟩ := ww_b2S hf; replace hf := hq; clear hq
        have hj_1 : ∀ (t0 : Int32), f1_wholeProgram_j1 D_12 (c_1b + c_9) (k_1b + k_9) x1 t0 = some z_1 → (c_1b + c_9) ≤ nc ∧ (k_1b + k_9) ≤ ns := by
          clear hf
          intro t0 hf
          unfold f1_wholeProgram_j1 at hf
          refine ww_by (t0 = 0) (fun c_13 => ?_) (fun c_13 => ?_)
          · replace hf := ww_ip hf c_13
            have e9 := (ww_lK hf hz_1).1
            try dsimp only at e9
            omega
          · replace hf := ww_in hf c_13
            have e9 := (ww_lK hf hz_1).1
            try dsimp only at e9
            omega
        refine ww_by (r_12 = (59 : Int32)) (fun c_14 => ?_) (fun c_14 => ?_)
        · replace hf := ww_ip hf c_14
          obtain ⟨h_15, hq⟩ := ww_gS hf; replace hf := hq; clear hq
          refine ww_by ((16 : Int32) ≤ (ww_X D_12.1 6 x1)) (fun c_16 => ?_) (fun c_16 => ?_)
          · replace hf := ww_ip hf c_16
            have e9 := hj_1 (0 : Int32) hf
            omega
          · replace hf := ww_in hf c_16
            have e9 := hj_1 (1 : Int32) hf
            omega
        · replace hf := ww_in hf c_14
          have e9 := hj_1 (0 : Int32) hf
          omega
      refine c1tn_1_stepRead X hl.1 hK hR hS (Nat.le_trans (Nat.le_of_ble_eq_true rfl) hF) (Nat.le_trans (Nat.le_of_ble_eq_true rfl) hLo) (Nat.le_trans hm9.1 hC.1) (Nat.le_trans hm9.2 hC.2) h_9 (cw_rest (Nat.le_of_ble_eq_true rfl)) dX1_wholeProgram_32 (fun H locs hR hS => ?_)
      refine lv_aload_n hx hb dX1_wholeProgram_35 rfl (lv_at hl 0 rfl) ?_
      refine c1g_51 X hK hR dX1_wholeProgram_36 ?_
      refine lv_iload_n hx hb dX1_wholeProgram_39 rfl (lv_at hl 1 rfl) ?_
      refine lv_dup2_11 hx hb dX1_wholeProgram_40 rfl rfl ?_
      obtain ⟨h_10, hq⟩ := ww_gS hf; replace hf := hq; clear hq
      refine c1l_6 X hK hR h_10 dX1_wholeProgram_41 ?_
      refine lv_iconst (v := (1 : Int32)) hx hb dX1_wholeProgram_42 (by decide) ?_
      refine lv_iadd hx hb dX1_wholeProgram_43 ?_
      obtain ⟨h_11, hq⟩ := ww_gS hf; replace hf := hq; clear hq
      refine c1s_6 X hK hR hS h_11 dX1_wholeProgram_44 (fun H locs hR hS => ?_)
      refine lv_aload_n hx hb dX1_wholeProgram_45 rfl (lv_at hl 0 rfl) ?_
      obtain ⟨r_12, D_12, h_12, hq⟩ := ww_b2S hf; replace hf := hq; clear hq
      refine c1c_1_next X hl.1 hK hR hS (Nat.le_trans (Nat.le_of_ble_eq_true rfl) hF) (Nat.le_trans (Nat.le_of_ble_eq_true rfl) hLo) (Nat.le_trans hm9.1 hC.1) (Nat.le_trans hm9.2 hC.2) h_12 (cw_rest (Nat.le_of_ble_eq_true rfl)) dX1_wholeProgram_46 (fun H locs hR hS => ?_)
      refine lv_bipush (v := (59 : Int32)) hx hb dX1_wholeProgram_49 (by decide) ?_
      have hj_1 : ∀ (t0 : Int32), f1_wholeProgram_j1 D_12 (c_1b + c_9) (k_1b + k_9) x1 t0 = some z_1 → ((c_1b + c_9) ≤ nc ∧ (k_1b + k_9) ≤ ns) ∧ (∀ (H : Heap) (locs : List Loc) (ls : Array Slot), cw_H E A D_12 H → va_S A s.heap H locs → lv_has ls 3 [(0, .ref E.1.1), (1, .int x1)] → W p l e Rm s m args below meth c H locs (c_1b + c_9) (k_1b + k_9) Q (F0 m 70 ls [.int t0])) := by
        clear hf
        intro t0 hf
        unfold f1_wholeProgram_j1 at hf
        have hm9 : (c_1b + c_9) ≤ nc ∧ (k_1b + k_9) ≤ ns := by
          refine ww_by (t0 = 0) (fun c_13 => ?_) (fun c_13 => ?_)
          · replace hf := ww_ip hf c_13
            have e9 := (ww_lK hf hz_1).1
            try dsimp only at e9
            omega
          · replace hf := ww_in hf c_13
            have e9 := (ww_lK hf hz_1).1
            try dsimp only at e9
            omega
        refine ⟨hm9, ?_⟩
        try clear hl
        try clear hS
        try clear hR
        intro H locs ls hR hS hl
        refine lv_istore_n (lv' := [(2, .int t0), (0, .ref E.1.1), (1, .int x1)]) hx hb dX1_wholeProgram_70 rfl hl (by decide) rfl (fun ls hl => ?_)
        refine lv_iload_n hx hb dX1_wholeProgram_71 rfl (lv_at hl 0 rfl) ?_
        refine lv_if_eq (tgt := 14) hx hb dX1_wholeProgram_72 (by decide) (fun c_13 => ?_) (fun c_13 => ?_)
        · replace hf := ww_ip hf c_13
          exact (ww_lK hf hz_1).2 _ _ _ hR hS (lv_sub hl [1, 2, 0] rfl)
        · replace hf := ww_in hf c_13
          refine lv_aload_n hx hb dX1_wholeProgram_75 rfl (lv_at hl 1 rfl) ?_
          refine lv_dup hx hb dX1_wholeProgram_76 rfl ?_
          refine c1g_131 X hK hR dX1_wholeProgram_77 ?_
          refine lv_iconst (v := (1 : Int32)) hx hb dX1_wholeProgram_80 (by decide) ?_
          refine lv_iadd hx hb dX1_wholeProgram_81 ?_
          refine c1p_131 X hK hR hS dX1_wholeProgram_82 (fun H locs hR hS => ?_)
          refine lv_goto (tgt := 14) hx hb dX1_wholeProgram_85 (by decide) ?_
          exact (ww_lK hf hz_1).2 _ _ _ hR hS (lv_sub hl [1, 2, 0] rfl)
      refine lv_icmp_ne (tgt := 69) hx hb dX1_wholeProgram_51 (by decide) (fun c_14 => ?_) (fun c_14 => ?_)
      · replace hf := ww_in hf c_14
        refine lv_iconst (v := (0 : Int32)) hx hb dX1_wholeProgram_69 (by decide) ?_
        exact (hj_1 (0 : Int32) hf).2 _ _ _ hR hS (lv_sub hl [0, 1] rfl)
      · replace hf := ww_ip hf c_14
        refine lv_aload_n hx hb dX1_wholeProgram_54 rfl (lv_at hl 0 rfl) ?_
        refine c1g_51 X hK hR dX1_wholeProgram_55 ?_
        refine lv_iload_n hx hb dX1_wholeProgram_58 rfl (lv_at hl 1 rfl) ?_
        obtain ⟨h_15, hq⟩ := ww_gS hf; replace hf := hq; clear hq
        refine c1l_6 X hK hR h_15 dX1_wholeProgram_59 ?_
        refine lv_bipush (v := (16 : Int32)) hx hb dX1_wholeProgram_60 (by decide) ?_
        refine lv_icmp_ge (tgt := 69) hx hb dX1_wholeProgram_62 (by decide) (fun c_16 => ?_) (fun c_16 => ?_)
        · replace hf := ww_ip hf c_16
          refine lv_iconst (v := (0 : Int32)) hx hb dX1_wholeProgram_69 (by decide) ?_
          exact (hj_1 (0 : Int32) hf).2 _ _ _ hR hS (lv_sub hl [0, 1] rfl)
        · replace hf := ww_in hf c_16
          refine lv_iconst (v := (1 : Int32)) hx hb dX1_wholeProgram_65 (by decide) ?_
          refine lv_goto (tgt := 70) hx hb dX1_wholeProgram_66 (by decide) ?_
          exact (hj_1 (1 : Int32) hf).2 _ _ _ hR hS (lv_sub hl [0, 1] rfl)
  exact (hL_1 ((cw_sX (cw_sF D 4 (0 : Int32)) 6 x1 (0 : Int32)), 0, 0, (1 : Int32)) hf).2 _ _ _ hR hS (lv_sub hl [1, 2, 0] rfl)
section T_1_wholeProgram
variable {p : Program} {l : Launch} {e : Env} {R : Room} {s : State} {m : MethodId} {args : Array Value} {below : List Frame} {meth : Method} {c : Code} {H : Heap} {locs : List Loc} {cells slots : Nat} {Q : State → Prop}
variable {cc : ByteArray} {pc : Nat} {ls : Array Slot} {rest : List Value} {nL : Nat} {E : cw_E} {A : Nat → Prop} {H0 : Heap}
theorem c1tx_1_wholeProgram {D D1 : cw_D} {c1 k1 : Nat} {x1 : Int32} (X : ww_C p m c cc nL s args RX1 lw_all) (hsz : ls.size = nL) (hK : cw_K E A s) (hR : cw_H E A D H) (hS : va_S A s.heap H locs) (hF : 9 ≤ R.frames) (hLo : 280 ≤ R.locals) (hc : cells + c1 ≤ R.cells) (hs : slots + k1 ≤ R.slots) (hf : f1_wholeProgram D x1 = some (.inl (D1, c1, k1))) (hrest : (rest.map fun v => v.category).sum ≤ 8) (hdg : decode cc pc = .ok (.invokevirtual 196, 3)) (kx : ∀ (q : Nat) (ce : Cell) (H1 : Heap) (locs1 : List Loc), cw_H E A D1 H1 → va_S A s.heap H1 locs1 → H1[q]? = some ce → ce.vm = .none → s.vm.findClass RFault = some ce.cls → vx_W p l e R s m args below meth c H1 locs1 (cells + c1) (slots + k1) Q (F0 m pc ls rest) q) : W p l e R s m args below meth c H locs cells slots Q (F0 m pc ls (.int x1 :: .ref E.1.1 :: rest)) :=
  vx_callv (vx_runV (C := RX1) (As := [.int x1]) (rest := rest) (b := E.1.1) X (met1_wholeProgram l _ _ _ hf) (cwV 1 X.2.2.2.2 (lw_V q412 q414 qs10 q131 q415) rfl rfl rfl (by decide +kernel) ⟨hF, hLo⟩) (cw_pV hK hR hS (cw_rcM hK hR)) rfl rfl hsz rfl (lv_room hrest) hdg ⟨hc, hs⟩) hS (fun q _ h => h) (fun q h => h) (fun q _ h => h) (fun Ex ce q9 u t H1 locs1 ht hal hp hB hz hk hS1 hce hcv hcl => by
    have hp : (Sum.inl (D1, c1, k1) : cx_Z (Unit)) = .inl u := hp
    cases hp
    obtain ⟨hE, hB⟩ := hB
    subst hE
    rw [ht] at hB
    exact kx q9 ce H1 locs1 hB hS1 hce hcv hcl) (fun u t H1 locs1 ht hal hp hB hz hk hS1 => by
    have hp : (Sum.inl (D1, c1, k1) : cx_Z (Unit)) = .inr ((), u) := hp
    cases hp)
theorem c1tn_1_wholeProgram {D D1 : cw_D} {c1 k1 : Nat} {x1 : Int32} (X : ww_C p m c cc nL s args RX1 lw_all) (hsz : ls.size = nL) (hK : cw_K E A s) (hR : cw_H E A D H) (hS : va_S A s.heap H locs) (hF : 9 ≤ R.frames) (hLo : 280 ≤ R.locals) (hc : cells + c1 ≤ R.cells) (hs : slots + k1 ≤ R.slots) (hf : f1_wholeProgram D x1 = some (.inr ((), D1, c1, k1))) (hrest : (rest.map fun v => v.category).sum ≤ 8) (hdg : decode cc pc = .ok (.invokevirtual 196, 3)) (kk : ∀ (H1 : Heap) (locs1 : List Loc), cw_H E A D1 H1 → va_S A s.heap H1 locs1 → W p l e R s m args below meth c H1 locs1 (cells + c1) (slots + k1) Q (F0 m (pc + 3) ls (rest))) : W p l e R s m args below meth c H locs cells slots Q (F0 m pc ls (.int x1 :: .ref E.1.1 :: rest)) :=
  vx_callv (vx_runV (C := RX1) (As := [.int x1]) (rest := rest) (b := E.1.1) X (met1_wholeProgram l _ _ _ hf) (cwV 1 X.2.2.2.2 (lw_V q412 q414 qs10 q131 q415) rfl rfl rfl (by decide +kernel) ⟨hF, hLo⟩) (cw_pV hK hR hS (cw_rcM hK hR)) rfl rfl hsz rfl (lv_room hrest) hdg ⟨hc, hs⟩) hS (fun q _ h => h) (fun q h => h) (fun q _ h => h) (fun Ex ce q9 u t H1 locs1 ht hal hp hB hz hk hS1 hce hcv hcl => by
    have hp : (Sum.inr ((), D1, c1, k1) : cx_Z (Unit)) = .inl u := hp
    cases hp) (fun u t H1 locs1 ht hal hp hB hz hk hS1 => by
    have hp : (Sum.inr ((), D1, c1, k1) : cx_Z (Unit)) = .inr ((), u) := hp
    cases hp
    rw [ht] at hB
    exact kk H1 locs1 hB hS1)
end T_1_wholeProgram
noncomputable def f1_fault (D : cw_D) (x1 : Int32) : Option (Int32 × cw_D × Nat × Nat) :=
  ww_b (f1_in x1 (0 : Int32) (1 : Int32)) (fun r_1 => if r_1 = 0 then some ((-2 : Int32), D, 0, 0) else if x1 = 0 then ww_t (f1_wholeMap D) (fun D_5 c_5 k_5 => some ((ww_F D_5.1 4), D_5, (0 + c_5), (0 + k_5))) (fun u_5 D_5 c_5 k_5 => some ((-1 : Int32), D_5, (0 + c_5), (0 + k_5))) else ww_t (f1_wholeProgram D (4 : Int32)) (fun D_4 c_4 k_4 => some ((ww_F D_4.1 4), D_4, (0 + c_4), (0 + k_4))) (fun u_4 D_4 c_4 k_4 => some ((-1 : Int32), D_4, (0 + c_4), (0 + k_4))))
set_option maxHeartbeats 4000000 in
set_option maxRecDepth 100000 in
theorem met1_fault (l : Launch) {E : cw_E} {A : Nat → Prop} (D : cw_D) (x1 : Int32) (r : Int32) (D' : cw_D) (nc ns : Nat) (hf : f1_fault D x1 = some (r, D', nc, ns)) : cw_MetIW l yX1_fault cX1_fault 3 (some Jvm.ClassFile.FieldType.int) [((12 : Nat), (29 : Nat), (30 : Nat), (36 : Nat))] 9 280 E A [.ref E.1.1, .int x1] D D' r nc ns := by
  unfold f1_fault at hf
  refine cw_sIW (own := RX1) (by decide +kernel) [(0, .ref E.1.1), (1, .int x1)] ⟨Nat.le_of_ble_eq_true rfl, rfl⟩ ?_
  intro p e s m args below meth c Rm Q X hK hF hLo hC hin htab hend ls hl hR hS
  obtain ⟨hx, hb, hml, hown, hts⟩ := id X
  have hm9 : 0 ≤ nc ∧ 0 ≤ ns := ⟨Nat.zero_le _, Nat.zero_le _⟩
  refine lv_iload_n hx hb dX1_fault_0 rfl (lv_at hl 1 rfl) ?_
  refine lv_iconst (v := (0 : Int32)) hx hb dX1_fault_1 (by decide) ?_
  refine lv_iconst (v := (1 : Int32)) hx hb dX1_fault_2 (by decide) ?_
  obtain ⟨r_1, h_1, hq⟩ := ww_bS hf; replace hf := hq; clear hq
  refine c1c_1_in X hl.1 (Nat.le_trans (Nat.le_of_ble_eq_true rfl) hF) (Nat.le_trans (Nat.le_of_ble_eq_true rfl) hLo) (Nat.le_trans hm9.1 hC.1) (Nat.le_trans hm9.2 hC.2) h_1 (cw_rest (Nat.le_of_ble_eq_true rfl)) dX1_fault_3 ?_
  refine lv_if_ne (tgt := 12) hx hb dX1_fault_6 (by decide) (fun c_2 => ?_) (fun c_2 => ?_)
  · replace hf := ww_in hf c_2
    refine lv_iload_n hx hb dX1_fault_12 rfl (lv_at hl 1 rfl) ?_
    refine lv_if_ne (tgt := 23) hx hb dX1_fault_13 (by decide) (fun c_3 => ?_) (fun c_3 => ?_)
    · replace hf := ww_in hf c_3
      refine lv_aload_n hx hb dX1_fault_23 rfl (lv_at hl 0 rfl) ?_
      refine lv_iconst (v := (4 : Int32)) hx hb dX1_fault_24 (by decide) ?_
      rcases ww_tS hf with ⟨D_4, c_4, k_4, h_4, hq⟩ | ⟨u_4, D_4, c_4, k_4, h_4, hq⟩
      · replace hf := hq
        clear hq
        have hm9 : (0 + c_4) ≤ nc ∧ (0 + k_4) ≤ ns := by
          have e9 := hf
          simp only [Option.some.injEq, Prod.mk.injEq] at e9
          omega
        refine c1tx_1_wholeProgram X hl.1 hK hR hS (Nat.le_trans (Nat.le_of_ble_eq_true rfl) hF) (Nat.le_trans (Nat.le_of_ble_eq_true rfl) hLo) (Nat.le_trans hm9.1 hC.1) (Nat.le_trans hm9.2 hC.2) h_4 (cw_rest (Nat.le_of_ble_eq_true rfl)) dX1_fault_25 (fun q_4 ce9 H locs hR hS hce hcv hcl => ?_)
        refine cw_catch (hpc := 30) htab rfl X hK (by decide +kernel) (by decide) q174 hce hcv hcl rfl ?_
        refine lv_astore_n (lv' := [(2, .ref q_4), (0, .ref E.1.1), (1, .int x1)]) hx hb dX1_fault_30 rfl hl (by decide) rfl (fun ls hl => ?_)
        refine lv_aload_n hx hb dX1_fault_31 rfl (lv_at hl 1 rfl) ?_
        refine c1g_131 X hK hR dX1_fault_32 ?_
        exact hend dX1_fault_35 rfl rfl hf hR hS
      replace hf := hq
      clear hq
      have hm9 : (0 + c_4) ≤ nc ∧ (0 + k_4) ≤ ns := by
        have e9 := hf
        simp only [Option.some.injEq, Prod.mk.injEq] at e9
        omega
      refine c1tn_1_wholeProgram X hl.1 hK hR hS (Nat.le_trans (Nat.le_of_ble_eq_true rfl) hF) (Nat.le_trans (Nat.le_of_ble_eq_true rfl) hLo) (Nat.le_trans hm9.1 hC.1) (Nat.le_trans hm9.2 hC.2) h_4 (cw_rest (Nat.le_of_ble_eq_true rfl)) dX1_fault_25 (fun H locs hR hS => ?_)
      refine lv_iconst (v := (-1 : Int32)) hx hb dX1_fault_28 (by decide) ?_
      exact hend dX1_fault_29 rfl rfl hf hR hS
    · replace hf := ww_ip hf c_3
      refine lv_aload_n hx hb dX1_fault_16 rfl (lv_at hl 0 rfl) ?_
      rcases ww_tS hf with ⟨D_5, c_5, k_5, h_5, hq⟩ | ⟨u_5, D_5, c_5, k_5, h_5, hq⟩
      · replace hf := hq
        clear hq
        have hm9 : (0 + c_5) ≤ nc ∧ (0 + k_5) ≤ ns := by
          have e9 := hf
          simp only [Option.some.injEq, Prod.mk.injEq] at e9
          omega
        refine c1tx_1_wholeMap X hl.1 hK hR hS (Nat.le_trans (Nat.le_of_ble_eq_true rfl) hF) (Nat.le_trans (Nat.le_of_ble_eq_true rfl) hLo) (Nat.le_trans hm9.1 hC.1) (Nat.le_trans hm9.2 hC.2) h_5 (cw_rest (Nat.le_of_ble_eq_true rfl)) dX1_fault_17 (fun q_5 ce9 H locs hR hS hce hcv hcl => ?_)
        refine cw_catch (hpc := 30) htab rfl X hK (by decide +kernel) (by decide) q174 hce hcv hcl rfl ?_
        refine lv_astore_n (lv' := [(2, .ref q_5), (0, .ref E.1.1), (1, .int x1)]) hx hb dX1_fault_30 rfl hl (by decide) rfl (fun ls hl => ?_)
        refine lv_aload_n hx hb dX1_fault_31 rfl (lv_at hl 1 rfl) ?_
        refine c1g_131 X hK hR dX1_fault_32 ?_
        exact hend dX1_fault_35 rfl rfl hf hR hS
      replace hf := hq
      clear hq
      have hm9 : (0 + c_5) ≤ nc ∧ (0 + k_5) ≤ ns := by
        have e9 := hf
        simp only [Option.some.injEq, Prod.mk.injEq] at e9
        omega
      refine c1tn_1_wholeMap X hl.1 hK hR hS (Nat.le_trans (Nat.le_of_ble_eq_true rfl) hF) (Nat.le_trans (Nat.le_of_ble_eq_true rfl) hLo) (Nat.le_trans hm9.1 hC.1) (Nat.le_trans hm9.2 hC.2) h_5 (cw_rest (Nat.le_of_ble_eq_true rfl)) dX1_fault_17 (fun H locs hR hS => ?_)
      refine lv_goto (tgt := 28) hx hb dX1_fault_20 (by decide) ?_
      refine lv_iconst (v := (-1 : Int32)) hx hb dX1_fault_28 (by decide) ?_
      exact hend dX1_fault_29 rfl rfl hf hR hS
  · replace hf := ww_ip hf c_2
    refine lv_bipush (v := (-2 : Int32)) hx hb dX1_fault_9 (by decide) ?_
    exact hend dX1_fault_11 rfl rfl hf hR hS
section T_1_fault
variable {p : Program} {l : Launch} {e : Env} {R : Room} {s : State} {m : MethodId} {args : Array Value} {below : List Frame} {meth : Method} {c : Code} {H : Heap} {locs : List Loc} {cells slots : Nat} {Q : State → Prop}
variable {cc : ByteArray} {pc : Nat} {ls : Array Slot} {rest : List Value} {nL : Nat} {E : cw_E} {A : Nat → Prop} {H0 : Heap}
theorem c1c_1_fault {D D' : cw_D} {r : Int32} {nc ns : Nat} {x1 : Int32} (X : ww_C p m c cc nL s args RX1 lw_all) (hsz : ls.size = nL) (hK : cw_K E A s) (hR : cw_H E A D H) (hS : va_S A s.heap H locs) (hF : 10 ≤ R.frames) (hLo : 302 ≤ R.locals) (hc : cells + nc ≤ R.cells) (hs : slots + ns ≤ R.slots) (hf : f1_fault D x1 = some (r, D', nc, ns)) (hrest : (rest.map fun v => v.category).sum ≤ 8) (hdg : decode cc pc = .ok (.invokevirtual 205, 3)) (kk : ∀ (H1 : Heap) (locs1 : List Loc), cw_H E A D' H1 → va_S A s.heap H1 locs1 → W p l e R s m args below meth c H1 locs1 (cells + nc) (slots + ns) Q (F0 m (pc + 3) ls (.int r :: rest))) : W p l e R s m args below meth c H locs cells slots Q (F0 m pc ls (.int x1 :: .ref E.1.1 :: rest)) :=
  va_calli (vx_runVW (C := RX1) (As := [.int x1]) (rest := rest) (b := E.1.1) X (met1_fault l _ _ _ _ _ _ hf) (vx_cwVW 1 X.2.2.2.2 (lw_VW q808 q378 q379 q131 q380) rfl rfl rfl (by decide +kernel) ⟨hF, hLo⟩) (cw_pV hK hR hS (cw_rcM hK hR)) rfl rfl hsz rfl (lv_room hrest) hdg ⟨hc, hs⟩) hS (fun q _ h => h) (fun q h => h) (fun r' u t H1 locs1 ht hvm hw hB hz1 hk1 hS1 => by subst hw; rw [ht] at hB; exact kk H1 locs1 hB hS1)
end T_1_fault
noncomputable def f1_programRead (D : cw_D) : Option (Int32 × cw_D × Nat × Nat) :=
  if (ww_F D.1 7) = (4 : Int32) then some ((-1 : Int32), D, 0, 0) else ww_t (f1_wholeProgram D (ww_F D.1 7)) (fun D_2 c_2 k_2 => some ((-1 : Int32), D_2, (0 + c_2), (0 + k_2))) (fun u_2 D_2 c_2 k_2 => some (((ww_F (cw_sF (cw_sF D_2 3 (0 : Int32)) 7 ((ww_F (cw_sF D_2 3 (0 : Int32)).1 7) + (1 : Int32))).1 7) - (1 : Int32)), (cw_sF (cw_sF D_2 3 (0 : Int32)) 7 ((ww_F (cw_sF D_2 3 (0 : Int32)).1 7) + (1 : Int32))), (0 + c_2), (0 + k_2)))
set_option maxHeartbeats 4000000 in
set_option maxRecDepth 100000 in
theorem met1_programRead (l : Launch) {E : cw_E} {A : Nat → Prop} (D : cw_D) (r : Int32) (D' : cw_D) (nc ns : Nat) (hf : f1_programRead D = some (r, D', nc, ns)) : cw_MetIW l yX1_programRead cX1_programRead 2 (some Jvm.ClassFile.FieldType.int) [((10 : Nat), (18 : Nat), (21 : Nat), (36 : Nat))] 9 280 E A [.ref E.1.1] D D' r nc ns := by
  unfold f1_programRead at hf
  refine cw_sIW (own := RX1) (by decide +kernel) [(0, .ref E.1.1)] ⟨Nat.le_of_ble_eq_true rfl, rfl⟩ ?_
  intro p e s m args below meth c Rm Q X hK hF hLo hC hin htab hend ls hl hR hS
  obtain ⟨hx, hb, hml, hown, hts⟩ := id X
  have hm9 : 0 ≤ nc ∧ 0 ≤ ns := ⟨Nat.zero_le _, Nat.zero_le _⟩
  refine lv_aload_n hx hb dX1_programRead_0 rfl (lv_at hl 0 rfl) ?_
  refine c1g_199 X hK hR dX1_programRead_1 ?_
  refine lv_iconst (v := (4 : Int32)) hx hb dX1_programRead_4 (by decide) ?_
  refine lv_icmp_ne (tgt := 10) hx hb dX1_programRead_5 (by decide) (fun c_1 => ?_) (fun c_1 => ?_)
  · replace hf := ww_in hf c_1
    refine lv_aload_n hx hb dX1_programRead_10 rfl (lv_at hl 0 rfl) ?_
    refine lv_aload_n hx hb dX1_programRead_11 rfl (lv_at hl 0 rfl) ?_
    refine c1g_199 X hK hR dX1_programRead_12 ?_
    rcases ww_tS hf with ⟨D_2, c_2, k_2, h_2, hq⟩ | ⟨u_2, D_2, c_2, k_2, h_2, hq⟩
    · replace hf := hq
      clear hq
      have hm9 : (0 + c_2) ≤ nc ∧ (0 + k_2) ≤ ns := by
        have e9 := hf
        simp only [Option.some.injEq, Prod.mk.injEq] at e9
        omega
      refine c1tx_1_wholeProgram X hl.1 hK hR hS (Nat.le_trans (Nat.le_of_ble_eq_true rfl) hF) (Nat.le_trans (Nat.le_of_ble_eq_true rfl) hLo) (Nat.le_trans hm9.1 hC.1) (Nat.le_trans hm9.2 hC.2) h_2 (cw_rest (Nat.le_of_ble_eq_true rfl)) dX1_programRead_15 (fun q_2 ce9 H locs hR hS hce hcv hcl => ?_)
      refine cw_catch (hpc := 21) htab rfl X hK (by decide +kernel) (by decide) q174 hce hcv hcl rfl ?_
      refine lv_astore_n (lv' := [(1, .ref q_2), (0, .ref E.1.1)]) hx hb dX1_programRead_21 rfl hl (by decide) rfl (fun ls hl => ?_)
      refine lv_iconst (v := (-1 : Int32)) hx hb dX1_programRead_22 (by decide) ?_
      exact hend dX1_programRead_23 rfl rfl hf hR hS
    replace hf := hq
    clear hq
    have hm9 : (0 + c_2) ≤ nc ∧ (0 + k_2) ≤ ns := by
      have e9 := hf
      simp only [Option.some.injEq, Prod.mk.injEq] at e9
      omega
    refine c1tn_1_wholeProgram X hl.1 hK hR hS (Nat.le_trans (Nat.le_of_ble_eq_true rfl) hF) (Nat.le_trans (Nat.le_of_ble_eq_true rfl) hLo) (Nat.le_trans hm9.1 hC.1) (Nat.le_trans hm9.2 hC.2) h_2 (cw_rest (Nat.le_of_ble_eq_true rfl)) dX1_programRead_15 (fun H locs hR hS => ?_)
    refine lv_goto (tgt := 24) hx hb dX1_programRead_18 (by decide) ?_
    refine lv_aload_n hx hb dX1_programRead_24 rfl (lv_at hl 0 rfl) ?_
    refine lv_iconst (v := (0 : Int32)) hx hb dX1_programRead_25 (by decide) ?_
    refine c1p_124 X hK hR hS dX1_programRead_26 (fun H locs hR hS => ?_)
    refine lv_aload_n hx hb dX1_programRead_29 rfl (lv_at hl 0 rfl) ?_
    refine lv_dup hx hb dX1_programRead_30 rfl ?_
    refine c1g_199 X hK hR dX1_programRead_31 ?_
    refine lv_iconst (v := (1 : Int32)) hx hb dX1_programRead_34 (by decide) ?_
    refine lv_iadd hx hb dX1_programRead_35 ?_
    refine c1p_199 X hK hR hS dX1_programRead_36 (fun H locs hR hS => ?_)
    refine lv_aload_n hx hb dX1_programRead_39 rfl (lv_at hl 0 rfl) ?_
    refine c1g_199 X hK hR dX1_programRead_40 ?_
    refine lv_iconst (v := (1 : Int32)) hx hb dX1_programRead_43 (by decide) ?_
    refine lv_isub hx hb dX1_programRead_44 ?_
    exact hend dX1_programRead_45 rfl rfl hf hR hS
  · replace hf := ww_ip hf c_1
    refine lv_iconst (v := (-1 : Int32)) hx hb dX1_programRead_8 (by decide) ?_
    exact hend dX1_programRead_9 rfl rfl hf hR hS
section T_1_programRead
variable {p : Program} {l : Launch} {e : Env} {R : Room} {s : State} {m : MethodId} {args : Array Value} {below : List Frame} {meth : Method} {c : Code} {H : Heap} {locs : List Loc} {cells slots : Nat} {Q : State → Prop}
variable {cc : ByteArray} {pc : Nat} {ls : Array Slot} {rest : List Value} {nL : Nat} {E : cw_E} {A : Nat → Prop} {H0 : Heap}
theorem c1c_1_programRead {D D' : cw_D} {r : Int32} {nc ns : Nat} (X : ww_C p m c cc nL s args RX1 lw_all) (hsz : ls.size = nL) (hK : cw_K E A s) (hR : cw_H E A D H) (hS : va_S A s.heap H locs) (hF : 10 ≤ R.frames) (hLo : 301 ≤ R.locals) (hc : cells + nc ≤ R.cells) (hs : slots + ns ≤ R.slots) (hf : f1_programRead D = some (r, D', nc, ns)) (hrest : (rest.map fun v => v.category).sum ≤ 8) (hdg : decode cc pc = .ok (.invokevirtual 202, 3)) (kk : ∀ (H1 : Heap) (locs1 : List Loc), cw_H E A D' H1 → va_S A s.heap H1 locs1 → W p l e R s m args below meth c H1 locs1 (cells + nc) (slots + ns) Q (F0 m (pc + 3) ls (.int r :: rest))) : W p l e R s m args below meth c H locs cells slots Q (F0 m pc ls (.ref E.1.1 :: rest)) :=
  va_calli (vx_runVW (C := RX1) (As := []) (rest := rest) (b := E.1.1) X (met1_programRead l _ _ _ _ _ hf) (vx_cwVW 0 X.2.2.2.2 (lw_VW q804 q806 qs14 q131 q807) rfl rfl rfl (by decide +kernel) ⟨hF, hLo⟩) (cw_pV hK hR hS (cw_rcM hK hR)) rfl rfl hsz rfl (lv_room hrest) hdg ⟨hc, hs⟩) hS (fun q _ h => h) (fun q h => h) (fun r' u t H1 locs1 ht hvm hw hB hz1 hk1 hS1 => by subst hw; rw [ht] at hB; exact kk H1 locs1 hB hS1)
end T_1_programRead
noncomputable def f1_text_b1c (D_10 : cw_D) (c_1b : Nat) (k_1b : Nat) (x2 : Int32) : Option ((cw_D × Nat × Nat × Int32) ⊕ (Int32 × cw_D × Nat × Nat)) :=
  if (ww_F D_10.1 9) ≤ x2 then ww_x (ww_b (some (ww_R D_10.1 27)) (fun r_12 => ww_b2 (f1_holds D_10 r_12 (-1 : Int32) (-1 : Int32)) (fun r_13 D_13 => some (r_13, D_13, c_1b, k_1b)))) else ww_g (ww_i ((2 : Int32) * x2) 480) (ww_g (ww_i (((2 : Int32) * x2) + (1 : Int32)) 480) (ww_b3 (f1_layNow D_10 (ww_X D_10.1 8 ((2 : Int32) * x2)) (ww_X D_10.1 8 (((2 : Int32) * x2) + (1 : Int32)))) (fun D_16 c_16 k_16 => some (.inl (D_16, (c_1b + c_16), (k_1b + k_16), (x2 + (1 : Int32)))))))
noncomputable def f1_text_b1 : (cw_D × Nat × Nat × Int32) → Option ((cw_D × Nat × Nat × Int32) ⊕ (Int32 × cw_D × Nat × Nat)) := fun s9 => f1_text_b1c s9.1 s9.2.1 s9.2.2.1 s9.2.2.2
noncomputable def f1_text_j1 (D : cw_D) (cf : Nat) (kf : Nat) (t1 : Int32) : Option (Int32 × cw_D × Nat × Nat) :=
  ww_b2 (f1_isRefused D t1) (fun r_6 D_6 => if r_6 = 0 then ww_b (f4_init (cw_nO (cw_sF D_6 3 (0 : Int32)) 0) ((cw_sF D_6 3 (0 : Int32)).2.2) (ww_R (cw_nO (cw_sF D_6 3 (0 : Int32)) 0).1 99)) (fun D_8 => ww_b3 (f1_work D_8 none (some ((cw_sF D_6 3 (0 : Int32)).2.2))) (fun D_9 c_9 k_9 => ww_U (f1_text_b1) (D_9, ((cf + 1) + c_9), ((kf + 1) + k_9), (0 : Int32)))) else some ((-1 : Int32), D_6, cf, kf))
noncomputable def f1_text (D : cw_D) (x1 : Int32) : Option (Int32 × cw_D × Nat × Nat) :=
  if x1 = (1 : Int32) then ww_b4 (f1_programRead D) (fun r_18 D_18 c_18 k_18 => some (r_18, D_18, (0 + c_18), (0 + k_18))) else if x1 = 0 then ww_b4 (f1_fault D (0 : Int32)) (fun r_3 D_3 c_3 k_3 => if r_3 = (-1 : Int32) then ww_b (f1_isRoom D_3) (fun r_5 => if r_5 = 0 then f1_text_j1 D_3 (0 + c_3) (0 + k_3) (4 : Int32) else f1_text_j1 D_3 (0 + c_3) (0 + k_3) (-1 : Int32)) else some ((-1 : Int32), D_3, (0 + c_3), (0 + k_3))) else some ((-1 : Int32), D, 0, 0)
set_option maxHeartbeats 4000000 in
set_option maxRecDepth 100000 in
theorem met1_text (l : Launch) {E : cw_E} {A : Nat → Prop} (D : cw_D) (x1 : Int32) (r : Int32) (D' : cw_D) (nc ns : Nat) (hf : f1_text D x1 = some (r, D', nc, ns)) : cw_MetI l yX1_text cX1_text 3 (some Jvm.ClassFile.FieldType.int) 21 497 E A [.ref E.1.1, .int x1] D D' r nc ns := by
  unfold f1_text at hf
  refine cw_sIN (own := RX1) (by decide +kernel) [(0, .ref E.1.1), (1, .int x1)] ⟨Nat.le_of_ble_eq_true rfl, rfl⟩ ?_
  intro p e s m args below meth c Rm Q X hK hF hLo hC hin hend ls hl hR hS
  obtain ⟨hx, hb, hml, hown, hts⟩ := id X
  have hm9 : 0 ≤ nc ∧ 0 ≤ ns := ⟨Nat.zero_le _, Nat.zero_le _⟩
  refine lv_iload_n hx hb dX1_text_0 rfl (lv_at hl 1 rfl) ?_
  refine lv_iconst (v := (1 : Int32)) hx hb dX1_text_1 (by decide) ?_
  refine lv_icmp_ne (tgt := 10) hx hb dX1_text_2 (by decide) (fun c_1 => ?_) (fun c_1 => ?_)
  · replace hf := ww_in hf c_1
    refine lv_iload_n hx hb dX1_text_10 rfl (lv_at hl 1 rfl) ?_
    refine lv_if_ne (tgt := 42) hx hb dX1_text_11 (by decide) (fun c_2 => ?_) (fun c_2 => ?_)
    · replace hf := ww_in hf c_2
      refine lv_iconst (v := (-1 : Int32)) hx hb dX1_text_42 (by decide) ?_
      exact hend dX1_text_43 rfl rfl hf hR hS
    · replace hf := ww_ip hf c_2
      refine lv_aload_n hx hb dX1_text_14 rfl (lv_at hl 0 rfl) ?_
      refine lv_iconst (v := (0 : Int32)) hx hb dX1_text_15 (by decide) ?_
      obtain ⟨r_3, D_3, c_3, k_3, h_3, hq⟩ := ww_b4S hf; replace hf := hq; clear hq
      have hm9 : (0 + c_3) ≤ nc ∧ (0 + k_3) ≤ ns := by
        refine ww_by (r_3 = (-1 : Int32)) (fun c_4 => ?_) (fun c_4 => ?_)
        · replace hf := ww_ip hf c_4
          obtain ⟨r_5, h_5, hq⟩ := ww_bS hf; replace hf := hq; clear hq
          have hj_1 : ∀ (t1 : Int32), f1_text_j1 D_3 (0 + c_3) (0 + k_3) t1 = some (r, D', nc, ns) → (0 + c_3) ≤ nc ∧ (0 + k_3) ≤ ns := by
            clear hf
            intro t1 hf
            unfold f1_text_j1 at hf
            obtain ⟨r_6, D_6, h_6, hq⟩ := ww_b2S hf; replace hf := hq; clear hq
            refine ww_by (r_6 = 0) (fun c_7 => ?_) (fun c_7 => ?_)
            · replace hf := ww_ip hf c_7
              obtain ⟨D_8, h_8, hq⟩ := ww_bS hf; replace hf := hq; clear hq
              obtain ⟨D_9, c_9, k_9, h_9, hq⟩ := ww_b3S hf; replace hf := hq; clear hq
              have hL_1 : ∀ s9 : cw_D × Nat × Nat × Int32, ww_U (f1_text_b1) s9 = some (r, D', nc, ns) → s9.2.1 ≤ nc ∧ s9.2.2.1 ≤ ns := by
                clear hf
                refine ww_ind _ (r, D', nc, ns) ?_
                intro s9 z_1 hf hz_1
                obtain ⟨D_10, c_1b, k_1b, x2⟩ := s9
                replace hf : f1_text_b1c D_10 c_1b k_1b x2 = some z_1 := hf
                unfold f1_text_b1c at hf
                show c_1b ≤ nc ∧ k_1b ≤ ns
                refine ww_by ((ww_F D_10.1 9) ≤ x2) (fun c_11 => ?_) (fun c_11 => ?_)
                · replace hf := ww_ip hf c_11
                  replace hf := ww_xK hf hz_1
                  obtain ⟨r_12, h_12, hq⟩ := ww_bS hf; replace hf := hq; clear hq
                  obtain ⟨r_13, D_13, h_13, hq⟩ := ww_b2S hf; replace hf := hq; clear hq
                  have e9 := hf
                  simp only [Option.some.injEq, Prod.mk.injEq] at e9
                  omega
                · replace hf := ww_in hf c_11
                  obtain ⟨h_14, hq⟩ := ww_gS hf; replace hf := hq; clear hq
                  obtain ⟨h_15, hq⟩ := ww_gS hf; replace hf := hq; clear hq
                  obtain ⟨D_16, c_16, k_16, h_16, hq⟩ := ww_b3S hf; replace hf := hq; clear hq
                  have e9 := ww_lK hf hz_1
                  try dsimp only at e9
                  omega
              have e9 := hL_1 (D_9, (((0 + c_3) + 1) + c_9), (((0 + k_3) + 1) + k_9), (0 : Int32)) hf
              try dsimp only at e9
              omega
            · replace hf := ww_in hf c_7
              have e9 := hf
              simp only [Option.some.injEq, Prod.mk.injEq] at e9
              omega
          refine ww_by (r_5 = 0) (fun c_17 => ?_) (fun c_17 => ?_)
          · replace hf := ww_ip hf c_17
            have e9 := hj_1 (4 : Int32) hf
            omega
          · replace hf := ww_in hf c_17
            have e9 := hj_1 (-1 : Int32) hf
            omega
        · replace hf := ww_in hf c_4
          have e9 := hf
          simp only [Option.some.injEq, Prod.mk.injEq] at e9
          omega
      refine c1c_1_fault X hl.1 hK hR hS (Nat.le_trans (Nat.le_of_ble_eq_true rfl) hF) (Nat.le_trans (Nat.le_of_ble_eq_true rfl) hLo) (Nat.le_trans hm9.1 hC.1) (Nat.le_trans hm9.2 hC.2) h_3 (cw_rest (Nat.le_of_ble_eq_true rfl)) dX1_text_16 (fun H locs hR hS => ?_)
      refine lv_iconst (v := (-1 : Int32)) hx hb dX1_text_19 (by decide) ?_
      refine lv_icmp_ne (tgt := 42) hx hb dX1_text_20 (by decide) (fun c_4 => ?_) (fun c_4 => ?_)
      · replace hf := ww_in hf c_4
        refine lv_iconst (v := (-1 : Int32)) hx hb dX1_text_42 (by decide) ?_
        exact hend dX1_text_43 rfl rfl hf hR hS
      · replace hf := ww_ip hf c_4
        refine lv_aload_n hx hb dX1_text_23 rfl (lv_at hl 0 rfl) ?_
        refine lv_aload_n hx hb dX1_text_24 rfl (lv_at hl 0 rfl) ?_
        obtain ⟨r_5, h_5, hq⟩ := ww_bS hf; replace hf := hq; clear hq
        refine c1c_1_isRoom X hl.1 hK hR hS (Nat.le_trans (Nat.le_of_ble_eq_true rfl) hF) (Nat.le_trans (Nat.le_of_ble_eq_true rfl) hLo) (Nat.le_trans hm9.1 hC.1) (Nat.le_trans hm9.2 hC.2) h_5 (cw_rest (Nat.le_of_ble_eq_true rfl)) dX1_text_25 (fun H locs hR hS => ?_)
        have hj_1 : ∀ (t1 : Int32), f1_text_j1 D_3 (0 + c_3) (0 + k_3) t1 = some (r, D', nc, ns) → ((0 + c_3) ≤ nc ∧ (0 + k_3) ≤ ns) ∧ (∀ (H : Heap) (locs : List Loc) (ls : Array Slot), cw_H E A D_3 H → va_S A s.heap H locs → lv_has ls 3 [(0, .ref E.1.1)] → W p l e Rm s m args below meth c H locs (0 + c_3) (0 + k_3) Q (F0 m 36 ls [.int t1, .ref E.1.1])) := by
          clear hf
          intro t1 hf
          unfold f1_text_j1 at hf
          have hm9 : (0 + c_3) ≤ nc ∧ (0 + k_3) ≤ ns := by
            obtain ⟨r_6, D_6, h_6, hq⟩ := ww_b2S hf; replace hf := hq; clear hq
            refine ww_by (r_6 = 0) (fun c_7 => ?_) (fun c_7 => ?_)
            · replace hf := ww_ip hf c_7
              obtain ⟨D_8, h_8, hq⟩ := ww_bS hf; replace hf := hq; clear hq
              obtain ⟨D_9, c_9, k_9, h_9, hq⟩ := ww_b3S hf; replace hf := hq; clear hq
              have hL_1 : ∀ s9 : cw_D × Nat × Nat × Int32, ww_U (f1_text_b1) s9 = some (r, D', nc, ns) → s9.2.1 ≤ nc ∧ s9.2.2.1 ≤ ns := by
                clear hf
                refine ww_ind _ (r, D', nc, ns) ?_
                intro s9 z_1 hf hz_1
                obtain ⟨D_10, c_1b, k_1b, x2⟩ := s9
                replace hf : f1_text_b1c D_10 c_1b k_1b x2 = some z_1 := hf
                unfold f1_text_b1c at hf
                show c_1b ≤ nc ∧ k_1b ≤ ns
                refine ww_by ((ww_F D_10.1 9) ≤ x2) (fun c_11 => ?_) (fun c_11 => ?_)
                · replace hf := ww_ip hf c_11
                  replace hf := ww_xK hf hz_1
                  obtain ⟨r_12, h_12, hq⟩ := ww_bS hf; replace hf := hq; clear hq
                  obtain ⟨r_13, D_13, h_13, hq⟩ := ww_b2S hf; replace hf := hq; clear hq
                  have e9 := hf
                  simp only [Option.some.injEq, Prod.mk.injEq] at e9
                  omega
                · replace hf := ww_in hf c_11
                  obtain ⟨h_14, hq⟩ := ww_gS hf; replace hf := hq; clear hq
                  obtain ⟨h_15, hq⟩ := ww_gS hf; replace hf := hq; clear hq
                  obtain ⟨D_16, c_16, k_16, h_16, hq⟩ := ww_b3S hf; replace hf := hq; clear hq
                  have e9 := ww_lK hf hz_1
                  try dsimp only at e9
                  omega
              have e9 := hL_1 (D_9, (((0 + c_3) + 1) + c_9), (((0 + k_3) + 1) + k_9), (0 : Int32)) hf
              try dsimp only at e9
              omega
            · replace hf := ww_in hf c_7
              have e9 := hf
              simp only [Option.some.injEq, Prod.mk.injEq] at e9
              omega
          refine ⟨hm9, ?_⟩
          try clear hl
          try clear hS
          try clear hR
          intro H locs ls hR hS hl
          obtain ⟨r_6, D_6, h_6, hq⟩ := ww_b2S hf; replace hf := hq; clear hq
          refine c1c_1_isRefused X hl.1 hK hR hS (Nat.le_trans (Nat.le_of_ble_eq_true rfl) hF) (Nat.le_trans (Nat.le_of_ble_eq_true rfl) hLo) (Nat.le_trans hm9.1 hC.1) (Nat.le_trans hm9.2 hC.2) h_6 (cw_rest (Nat.le_of_ble_eq_true rfl)) dX1_text_36 (fun H locs hR hS => ?_)
          refine lv_if_eq (tgt := 44) hx hb dX1_text_39 (by decide) (fun c_7 => ?_) (fun c_7 => ?_)
          · replace hf := ww_ip hf c_7
            refine lv_aload_n hx hb dX1_text_44 rfl (lv_at hl 0 rfl) ?_
            refine lv_iconst (v := (0 : Int32)) hx hb dX1_text_45 (by decide) ?_
            refine c1p_124 X hK hR hS dX1_text_46 (fun H locs hR hS => ?_)
            refine lv_aload_n hx hb dX1_text_49 rfl (lv_at hl 0 rfl) ?_
            refine lv_null hx hb dX1_text_50 ?_
            have hm9 : ((0 + c_3) + 1) ≤ nc ∧ ((0 + k_3) + 1) ≤ ns := by
              obtain ⟨D_8, h_8, hq⟩ := ww_bS hf; replace hf := hq; clear hq
              obtain ⟨D_9, c_9, k_9, h_9, hq⟩ := ww_b3S hf; replace hf := hq; clear hq
              have hL_1 : ∀ s9 : cw_D × Nat × Nat × Int32, ww_U (f1_text_b1) s9 = some (r, D', nc, ns) → s9.2.1 ≤ nc ∧ s9.2.2.1 ≤ ns := by
                clear hf
                refine ww_ind _ (r, D', nc, ns) ?_
                intro s9 z_1 hf hz_1
                obtain ⟨D_10, c_1b, k_1b, x2⟩ := s9
                replace hf : f1_text_b1c D_10 c_1b k_1b x2 = some z_1 := hf
                unfold f1_text_b1c at hf
                show c_1b ≤ nc ∧ k_1b ≤ ns
                refine ww_by ((ww_F D_10.1 9) ≤ x2) (fun c_11 => ?_) (fun c_11 => ?_)
                · replace hf := ww_ip hf c_11
                  replace hf := ww_xK hf hz_1
                  obtain ⟨r_12, h_12, hq⟩ := ww_bS hf; replace hf := hq; clear hq
                  obtain ⟨r_13, D_13, h_13, hq⟩ := ww_b2S hf; replace hf := hq; clear hq
                  have e9 := hf
                  simp only [Option.some.injEq, Prod.mk.injEq] at e9
                  omega
                · replace hf := ww_in hf c_11
                  obtain ⟨h_14, hq⟩ := ww_gS hf; replace hf := hq; clear hq
                  obtain ⟨h_15, hq⟩ := ww_gS hf; replace hf := hq; clear hq
                  obtain ⟨D_16, c_16, k_16, h_16, hq⟩ := ww_b3S hf; replace hf := hq; clear hq
                  have e9 := ww_lK hf hz_1
                  try dsimp only at e9
                  omega
              have e9 := hL_1 (D_9, (((0 + c_3) + 1) + c_9), (((0 + k_3) + 1) + k_9), (0 : Int32)) hf
              try dsimp only at e9
              omega
            refine cw_onew (ci := 0) (C := RX4) (T := TX4) (N := 1) rfl (by decide) in_X4 tyX4 tyX4_ok rfl X hK hR hS q234 q817 q151 (Nat.le_trans hm9.1 hC.1) (Nat.le_trans hm9.2 hC.2) dX1_text_51 (fun H hR hS => ?_)
            refine lv_dup hx hb dX1_text_54 rfl ?_
            refine lv_aload_n hx hb dX1_text_55 rfl (lv_at hl 0 rfl) ?_
            obtain ⟨D_8, h_8, hq⟩ := ww_bS hf; replace hf := hq; clear hq
            rw [show ww_R (cw_nO (cw_sF D_6 3 (0 : Int32)) 0).1 99 = some E.1.1 from cw_this hK hR] at h_8
            refine c1c_4_init (x1 := (some E.1.1)) X hl.1 hK hR hS (Nat.le_trans (Nat.le_of_ble_eq_true rfl) hF) (Nat.le_trans (Nat.le_of_ble_eq_true rfl) hLo) (Nat.le_trans hm9.1 hC.1) (Nat.le_trans hm9.2 hC.2) h_8 (cw_rest (Nat.le_of_ble_eq_true rfl)) dX1_text_56 (fun H locs hR hS => ?_)
            obtain ⟨D_9, c_9, k_9, h_9, hq⟩ := ww_b3S hf; replace hf := hq; clear hq
            have hm9 : (((0 + c_3) + 1) + c_9) ≤ nc ∧ (((0 + k_3) + 1) + k_9) ≤ ns := by
              have hL_1 : ∀ s9 : cw_D × Nat × Nat × Int32, ww_U (f1_text_b1) s9 = some (r, D', nc, ns) → s9.2.1 ≤ nc ∧ s9.2.2.1 ≤ ns := by
                clear hf
                refine ww_ind _ (r, D', nc, ns) ?_
                intro s9 z_1 hf hz_1
                obtain ⟨D_10, c_1b, k_1b, x2⟩ := s9
                replace hf : f1_text_b1c D_10 c_1b k_1b x2 = some z_1 := hf
                unfold f1_text_b1c at hf
                show c_1b ≤ nc ∧ k_1b ≤ ns
                refine ww_by ((ww_F D_10.1 9) ≤ x2) (fun c_11 => ?_) (fun c_11 => ?_)
                · replace hf := ww_ip hf c_11
                  replace hf := ww_xK hf hz_1
                  obtain ⟨r_12, h_12, hq⟩ := ww_bS hf; replace hf := hq; clear hq
                  obtain ⟨r_13, D_13, h_13, hq⟩ := ww_b2S hf; replace hf := hq; clear hq
                  have e9 := hf
                  simp only [Option.some.injEq, Prod.mk.injEq] at e9
                  omega
                · replace hf := ww_in hf c_11
                  obtain ⟨h_14, hq⟩ := ww_gS hf; replace hf := hq; clear hq
                  obtain ⟨h_15, hq⟩ := ww_gS hf; replace hf := hq; clear hq
                  obtain ⟨D_16, c_16, k_16, h_16, hq⟩ := ww_b3S hf; replace hf := hq; clear hq
                  have e9 := ww_lK hf hz_1
                  try dsimp only at e9
                  omega
              have e9 := hL_1 (D_9, (((0 + c_3) + 1) + c_9), (((0 + k_3) + 1) + k_9), (0 : Int32)) hf
              try dsimp only at e9
              omega
            refine c1c_1_work (x1 := none) (x2 := (some ((cw_sF D_6 3 (0 : Int32)).2.2))) X hl.1 hK hR hS (Nat.le_trans (Nat.le_of_ble_eq_true rfl) hF) (Nat.le_trans (Nat.le_of_ble_eq_true rfl) hLo) (Nat.le_trans hm9.1 hC.1) (Nat.le_trans hm9.2 hC.2) h_9 (cw_rest (Nat.le_of_ble_eq_true rfl)) dX1_text_59 (fun H locs hR hS => ?_)
            refine lv_iconst (v := (0 : Int32)) hx hb dX1_text_62 (by decide) ?_
            refine lv_istore_n (lv' := [(2, .int (0 : Int32)), (0, .ref E.1.1)]) hx hb dX1_text_63 rfl hl (by decide) rfl (fun ls hl => ?_)
            have hL_1 : ∀ s9 : cw_D × Nat × Nat × Int32, ww_U (f1_text_b1) s9 = some (r, D', nc, ns) → (s9.2.1 ≤ nc ∧ s9.2.2.1 ≤ ns) ∧ (∀ (H : Heap) (locs : List Loc) (ls : Array Slot), cw_H E A s9.1 H → va_S A s.heap H locs → lv_has ls 3 [(0, .ref E.1.1), (2, .int s9.2.2.2)] → W p l e Rm s m args below meth c H locs s9.2.1 s9.2.2.1 Q (F0 m 64 ls [])) := by
              clear hf
              refine ww_ind _ (r, D', nc, ns) ?_
              intro s9 z_1 hf hz_1
              obtain ⟨D_10, c_1b, k_1b, x2⟩ := s9
              replace hf : f1_text_b1c D_10 c_1b k_1b x2 = some z_1 := hf
              unfold f1_text_b1c at hf
              have hm9 : c_1b ≤ nc ∧ k_1b ≤ ns := by
                show c_1b ≤ nc ∧ k_1b ≤ ns
                refine ww_by ((ww_F D_10.1 9) ≤ x2) (fun c_11 => ?_) (fun c_11 => ?_)
                · replace hf := ww_ip hf c_11
                  replace hf := ww_xK hf hz_1
                  obtain ⟨r_12, h_12, hq⟩ := ww_bS hf; replace hf := hq; clear hq
                  obtain ⟨r_13, D_13, h_13, hq⟩ := ww_b2S hf; replace hf := hq; clear hq
                  have e9 := hf
                  simp only [Option.some.injEq, Prod.mk.injEq] at e9
                  omega
                · replace hf := ww_in hf c_11
                  obtain ⟨h_14, hq⟩ := ww_gS hf; replace hf := hq; clear hq
                  obtain ⟨h_15, hq⟩ := ww_gS hf; replace hf := hq; clear hq
                  obtain ⟨D_16, c_16, k_16, h_16, hq⟩ := ww_b3S hf; replace hf := hq; clear hq
                  have e9 := (ww_lK hf hz_1).1
                  try dsimp only at e9
                  omega
              refine ⟨hm9, ?_⟩
              try clear hl
              try clear hS
              try clear hR
              intro H locs ls hR hS hl
              replace hR : cw_H E A D_10 H := hR
              replace hl : lv_has ls 3 [(0, .ref E.1.1), (2, .int x2)] := hl
              show W p l e Rm s m args below meth c H locs c_1b k_1b Q _
              refine lv_iload_n hx hb dX1_text_64 rfl (lv_at hl 1 rfl) ?_
              refine lv_aload_n hx hb dX1_text_65 rfl (lv_at hl 0 rfl) ?_
              refine c1g_190 X hK hR dX1_text_66 ?_
              refine lv_icmp_ge (tgt := 100) hx hb dX1_text_69 (by decide) (fun c_11 => ?_) (fun c_11 => ?_)
              · replace hf := ww_ip hf c_11
                replace hf := ww_xK hf hz_1
                refine lv_aload_n hx hb dX1_text_100 rfl (lv_at hl 0 rfl) ?_
                refine lv_aload_n hx hb dX1_text_101 rfl (lv_at hl 0 rfl) ?_
                obtain ⟨r_12, h_12, hq⟩ := ww_bS hf; replace hf := hq; clear hq
                refine c1g_226 X hK hR h_12 dX1_text_102 ?_
                refine lv_iconst (v := (-1 : Int32)) hx hb dX1_text_105 (by decide) ?_
                refine lv_iconst (v := (-1 : Int32)) hx hb dX1_text_106 (by decide) ?_
                obtain ⟨r_13, D_13, h_13, hq⟩ := ww_b2S hf; replace hf := hq; clear hq
                refine c1c_1_holds (x1 := r_12) X hl.1 hK hR hS (Nat.le_trans (Nat.le_of_ble_eq_true rfl) hF) (Nat.le_trans (Nat.le_of_ble_eq_true rfl) hLo) (Nat.le_trans hm9.1 hC.1) (Nat.le_trans hm9.2 hC.2) h_13 (cw_rest (Nat.le_of_ble_eq_true rfl)) dX1_text_107 (fun H locs hR hS => ?_)
                exact hend dX1_text_110 rfl rfl hf hR hS
              · replace hf := ww_in hf c_11
                refine lv_aload_n hx hb dX1_text_72 rfl (lv_at hl 0 rfl) ?_
                refine lv_aload_n hx hb dX1_text_73 rfl (lv_at hl 0 rfl) ?_
                refine c1g_54 X hK hR dX1_text_74 ?_
                refine lv_iconst (v := (2 : Int32)) hx hb dX1_text_77 (by decide) ?_
                refine lv_iload_n hx hb dX1_text_78 rfl (lv_at hl 1 rfl) ?_
                refine lv_imul hx hb dX1_text_79 ?_
                obtain ⟨h_14, hq⟩ := ww_gS hf; replace hf := hq; clear hq
                refine c1l_8 X hK hR h_14 dX1_text_80 ?_
                refine lv_aload_n hx hb dX1_text_81 rfl (lv_at hl 0 rfl) ?_
                refine c1g_54 X hK hR dX1_text_82 ?_
                refine lv_iconst (v := (2 : Int32)) hx hb dX1_text_85 (by decide) ?_
                refine lv_iload_n hx hb dX1_text_86 rfl (lv_at hl 1 rfl) ?_
                refine lv_imul hx hb dX1_text_87 ?_
                refine lv_iconst (v := (1 : Int32)) hx hb dX1_text_88 (by decide) ?_
                refine lv_iadd hx hb dX1_text_89 ?_
                obtain ⟨h_15, hq⟩ := ww_gS hf; replace hf := hq; clear hq
                refine c1l_8 X hK hR h_15 dX1_text_90 ?_
                obtain ⟨D_16, c_16, k_16, h_16, hq⟩ := ww_b3S hf; replace hf := hq; clear hq
                have hm9 : (c_1b + c_16) ≤ nc ∧ (k_1b + k_16) ≤ ns := by
                  have e9 := (ww_lK hf hz_1).1
                  try dsimp only at e9
                  omega
                refine c1c_1_layNow X hl.1 hK hR hS (Nat.le_trans (Nat.le_of_ble_eq_true rfl) hF) (Nat.le_trans (Nat.le_of_ble_eq_true rfl) hLo) (Nat.le_trans hm9.1 hC.1) (Nat.le_trans hm9.2 hC.2) h_16 (cw_rest (Nat.le_of_ble_eq_true rfl)) dX1_text_91 (fun H locs hR hS => ?_)
                refine lv_iinc (k := 1) (v := x2 + (1 : Int32)) (lv' := [(2, .int (x2 + (1 : Int32))), (0, .ref E.1.1)]) hx hb dX1_text_94 hl rfl rfl (by decide) rfl (fun ls hl => ?_)
                refine lv_goto (tgt := 64) hx hb dX1_text_97 (by decide) ?_
                exact (ww_lK hf hz_1).2 _ _ _ hR hS (lv_sub hl [1, 0] rfl)
            exact (hL_1 (D_9, (((0 + c_3) + 1) + c_9), (((0 + k_3) + 1) + k_9), (0 : Int32)) hf).2 _ _ _ hR hS (lv_sub hl [1, 0] rfl)
          · replace hf := ww_in hf c_7
            refine lv_iconst (v := (-1 : Int32)) hx hb dX1_text_42 (by decide) ?_
            exact hend dX1_text_43 rfl rfl hf hR hS
        refine lv_if_eq (tgt := 35) hx hb dX1_text_28 (by decide) (fun c_17 => ?_) (fun c_17 => ?_)
        · replace hf := ww_ip hf c_17
          refine lv_iconst (v := (4 : Int32)) hx hb dX1_text_35 (by decide) ?_
          exact (hj_1 (4 : Int32) hf).2 _ _ _ hR hS (lv_sub hl [0] rfl)
        · replace hf := ww_in hf c_17
          refine lv_iconst (v := (-1 : Int32)) hx hb dX1_text_31 (by decide) ?_
          refine lv_goto (tgt := 36) hx hb dX1_text_32 (by decide) ?_
          exact (hj_1 (-1 : Int32) hf).2 _ _ _ hR hS (lv_sub hl [0] rfl)
  · replace hf := ww_ip hf c_1
    refine lv_aload_n hx hb dX1_text_5 rfl (lv_at hl 0 rfl) ?_
    obtain ⟨r_18, D_18, c_18, k_18, h_18, hq⟩ := ww_b4S hf; replace hf := hq; clear hq
    have hm9 : (0 + c_18) ≤ nc ∧ (0 + k_18) ≤ ns := by
      have e9 := hf
      simp only [Option.some.injEq, Prod.mk.injEq] at e9
      omega
    refine c1c_1_programRead X hl.1 hK hR hS (Nat.le_trans (Nat.le_of_ble_eq_true rfl) hF) (Nat.le_trans (Nat.le_of_ble_eq_true rfl) hLo) (Nat.le_trans hm9.1 hC.1) (Nat.le_trans hm9.2 hC.2) h_18 (cw_rest (Nat.le_of_ble_eq_true rfl)) dX1_text_6 (fun H locs hR hS => ?_)
    exact hend dX1_text_9 rfl rfl hf hR hS
