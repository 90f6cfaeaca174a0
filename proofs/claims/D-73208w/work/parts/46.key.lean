noncomputable def f1_key (D : cw_D) (x1 : Int32) (x2 : Int32) : Option (cx_Z (Int32)) :=
  ww_b (f1_isMap D x1) (fun r_1 => if r_1 = 0 then some (.inl (D, (0 + 1), (0 + 6))) else ww_b (f1_rootOf D x1) (fun r_3 => ww_b2 (f1_flat D r_3) (fun r_4 D_4 => ww_b (f1_in x2 (0 : Int32) (r_4 - (1 : Int32))) (fun r_5 => if r_5 = 0 then some (.inl (D_4, (0 + 1), (0 + 6))) else ww_g (ww_i x2 120) (some (.inr ((ww_X D_4.1 29 x2), D_4, 0, 0)))))))
set_option maxHeartbeats 4000000 in
set_option maxRecDepth 100000 in
theorem met1_key (l : Launch) (hl9 : l.stackTraces = false) {E : cw_E} {A : Nat → Prop} (D : cw_D) (x1 : Int32) (x2 : Int32) (z : cx_Z Int32) (hf : f1_key D x1 x2 = some z) : ck_MetI l yX1_key cX1_key 3 (some Jvm.ClassFile.FieldType.int) 21 440 E A [.ref E.1.1, .int x1, .int x2] D z := by
  unfold f1_key at hf
  refine ck_sI hl9 (by decide +kernel) [(0, .ref E.1.1), (1, .int x1), (2, .int x2)] ⟨Nat.le_of_ble_eq_true rfl, rfl⟩ ?_
  intro p e s m args below meth c Rm Q X hK hF hLo hC0 hin hend hendT ls hl hR hS
  obtain ⟨hx, hb, hml, hown, hts⟩ := id X
  obtain ⟨nc, hnc⟩ : ∃ q, q = cx_c z := ⟨_, rfl⟩
  obtain ⟨ns, hns⟩ : ∃ q, q = cx_k z := ⟨_, rfl⟩
  have hC : nc ≤ Rm.cells ∧ ns ≤ Rm.slots := by rw [hnc, hns]; exact hC0
  have hm9 : 0 ≤ nc ∧ 0 ≤ ns := ⟨Nat.zero_le _, Nat.zero_le _⟩
  refine lv_aload_n hx hb dX1_key_0 rfl (lv_at hl 0 rfl) ?_
  refine lv_iload_n hx hb dX1_key_1 rfl (lv_at hl 1 rfl) ?_
  obtain ⟨r_1, h_1, hq⟩ := ww_bS hf; replace hf := hq; clear hq
  refine c1c_1_isMap X hl.1 hK hR hS (Nat.le_trans (Nat.le_of_ble_eq_true rfl) hF) (Nat.le_trans (Nat.le_of_ble_eq_true rfl) hLo) (Nat.le_trans hm9.1 hC.1) (Nat.le_trans hm9.2 hC.2) h_1 (cw_rest (Nat.le_of_ble_eq_true rfl)) dX1_key_2 (fun H locs hR hS => ?_)
  refine lv_if_eq (tgt := 27) hx hb dX1_key_5 (by decide) (fun c_2 => ?_) (fun c_2 => ?_)
  · replace hf := ww_ip hf c_2
    exact hendT dX1_key_27 dX1_key_30 dX1_key_31 dX1_key_34 hl.1 (Nat.le_trans (Nat.le_of_ble_eq_true rfl) hF) (Nat.le_trans (Nat.le_of_ble_eq_true rfl) hLo) hf hR hS
  · replace hf := ww_in hf c_2
    refine lv_iload_n hx hb dX1_key_8 rfl (lv_at hl 2 rfl) ?_
    refine lv_iconst (v := (0 : Int32)) hx hb dX1_key_9 (by decide) ?_
    refine lv_aload_n hx hb dX1_key_10 rfl (lv_at hl 0 rfl) ?_
    refine lv_aload_n hx hb dX1_key_11 rfl (lv_at hl 0 rfl) ?_
    refine lv_iload_n hx hb dX1_key_12 rfl (lv_at hl 1 rfl) ?_
    obtain ⟨r_3, h_3, hq⟩ := ww_bS hf; replace hf := hq; clear hq
    refine c1c_1_rootOf X hl.1 hK hR hS (Nat.le_trans (Nat.le_of_ble_eq_true rfl) hF) (Nat.le_trans (Nat.le_of_ble_eq_true rfl) hLo) (Nat.le_trans hm9.1 hC.1) (Nat.le_trans hm9.2 hC.2) h_3 (cw_rest (Nat.le_of_ble_eq_true rfl)) dX1_key_13 (fun H locs hR hS => ?_)
    obtain ⟨r_4, D_4, h_4, hq⟩ := ww_b2S hf; replace hf := hq; clear hq
    refine c1c_1_flat (x1 := r_3) X hl.1 hK hR hS (Nat.le_trans (Nat.le_of_ble_eq_true rfl) hF) (Nat.le_trans (Nat.le_of_ble_eq_true rfl) hLo) (Nat.le_trans hm9.1 hC.1) (Nat.le_trans hm9.2 hC.2) h_4 (cw_rest (Nat.le_of_ble_eq_true rfl)) dX1_key_16 (fun H locs hR hS => ?_)
    refine lv_iconst (v := (1 : Int32)) hx hb dX1_key_19 (by decide) ?_
    refine lv_isub hx hb dX1_key_20 ?_
    obtain ⟨r_5, h_5, hq⟩ := ww_bS hf; replace hf := hq; clear hq
    refine c1c_1_in X hl.1 (Nat.le_trans (Nat.le_of_ble_eq_true rfl) hF) (Nat.le_trans (Nat.le_of_ble_eq_true rfl) hLo) (Nat.le_trans hm9.1 hC.1) (Nat.le_trans hm9.2 hC.2) h_5 (cw_rest (Nat.le_of_ble_eq_true rfl)) dX1_key_21 ?_
    refine lv_if_ne (tgt := 35) hx hb dX1_key_24 (by decide) (fun c_6 => ?_) (fun c_6 => ?_)
    · replace hf := ww_in hf c_6
      refine lv_aload_n hx hb dX1_key_35 rfl (lv_at hl 0 rfl) ?_
      refine c1g_97 X hK hR dX1_key_36 ?_
      refine lv_iload_n hx hb dX1_key_39 rfl (lv_at hl 2 rfl) ?_
      obtain ⟨h_7, hq⟩ := ww_gS hf; replace hf := hq; clear hq
      refine c1l_29 X hK hR h_7 dX1_key_40 ?_
      exact hend dX1_key_41 rfl rfl hf hR hS
    · replace hf := ww_ip hf c_6
      exact hendT dX1_key_27 dX1_key_30 dX1_key_31 dX1_key_34 hl.1 (Nat.le_trans (Nat.le_of_ble_eq_true rfl) hF) (Nat.le_trans (Nat.le_of_ble_eq_true rfl) hLo) hf hR hS
