noncomputable def f1_word_b2c (D : cw_D) (cf : Nat) (kf : Nat) (y2 : Option Nat) (x3 : Int32) : Option ((Int32) ⊕ (cx_Z (Option Nat))) :=
  if (6 : Int32) ≤ x3 then ww_x (ww_b (some (ww_R D.1 1)) (fun r_10 => ww_b r_10 (fun a_11 => ww_g (cw_kd D [5] (some a_11)) (some (.inl (D, cf, kf)))))) else ww_g (ww_i x3 6) (ww_b (some (ww_Y D.1 0 x3)) (fun r_13 => ww_b r_13 (fun a_15 => ww_g (cw_kd D [3] (some a_15)) (ww_b (fJ4_equals D a_15 y2) (fun r_17 => if r_17 = 0 then some (.inl (x3 + (1 : Int32))) else ww_x (some (.inr (y2, D, cf, kf))))))))
noncomputable def f1_word_b2 (D : cw_D) (cf : Nat) (kf : Nat) (y2 : Option Nat) : Int32 → Option ((Int32) ⊕ (cx_Z (Option Nat))) := fun s9 => f1_word_b2c D cf kf y2 s9
noncomputable def f1_word_b1c (y1 : Nat) (D_3 : cw_D) (c_1b : Nat) (k_1b : Nat) : Option ((cw_D × Nat × Nat) ⊕ (cx_Z (Option Nat))) :=
  ww_b (f1_here D_3) (fun r_4 => ww_b (f1_in r_4 (97 : Int32) (122 : Int32)) (fun r_5 => if r_5 = 0 then ww_x (ww_g (cw_kd D_3 [4] (some y1)) (ww_b4 (fJ3_toString D_3 y1) (fun r_8 D_8 c_8 k_8 => ww_U (f1_word_b2 D_8 (c_1b + c_8) (k_1b + k_8) r_8) (0 : Int32)))) else ww_b (f1_here D_3) (fun r_19 => ww_g (cw_kd D_3 [4] (some y1)) (ww_b4 (fJ3_append D_3 y1 ((r_19.toUInt32 % 65536).toInt32)) (fun r_21 D_21 c_21 k_21 => ww_g (cw_kd D_21 [4] (some y1)) (ww_b4 (fJ3_toString D_21 y1) (fun r_23 D_23 c_23 k_23 => ww_b (f1_beginsWord D_23 r_23) (fun r_24 => ww_t (f1_must D_23 r_24) (fun D_25 c_25 k_25 => ww_x (some (.inl (D_25, (((c_1b + c_21) + c_23) + c_25), (((k_1b + k_21) + k_23) + k_25))))) (fun u_25 D_25 c_25 k_25 => some (.inl ((cw_sF D_25 4 ((ww_F D_25.1 4) + (1 : Int32))), (((c_1b + c_21) + c_23) + c_25), (((k_1b + k_21) + k_23) + k_25))))))))))))
noncomputable def f1_word_b1 (y1 : Nat) : (cw_D × Nat × Nat) → Option ((cw_D × Nat × Nat) ⊕ (cx_Z (Option Nat))) := fun s9 => f1_word_b1c y1 s9.1 s9.2.1 s9.2.2
noncomputable def f1_word (D : cw_D) : Option (cx_Z (Option Nat)) :=
  ww_b2 (f1_next D) (fun r_1 D_1 => ww_b3 (fJ3_init (cw_nO D_1 4) D_1.2.2) (fun D_2 c_2 k_2 => ww_U (f1_word_b1 D_1.2.2) (D_2, ((0 + 1) + c_2), ((0 + 4) + k_2))))
set_option maxHeartbeats 4000000 in
set_option maxRecDepth 100000 in
theorem met1_word (l : Launch) {E : cw_E} {A : Nat → Prop} (D : cw_D) (z : cx_Z (Option Nat)) (hf : f1_word D = some z) : cx_MetQ l yX1_word cX1_word 4 (some (Jvm.ClassFile.FieldType.object "java/lang/String")) 6 212 E A [.ref E.1.1] D z := by
  unfold f1_word at hf
  refine cx_sQ (own := RX1) (by decide +kernel) [(0, .ref E.1.1)] ⟨Nat.le_of_ble_eq_true rfl, rfl⟩ ?_
  intro p e s m args below meth c Rm Q X hK hF hLo hC0 hin hend hendX ls hl hR hS
  obtain ⟨hx, hb, hml, hown, hts⟩ := id X
  obtain ⟨nc, hnc⟩ : ∃ q, q = cx_c z := ⟨_, rfl⟩
  obtain ⟨ns, hns⟩ : ∃ q, q = cx_k z := ⟨_, rfl⟩
  have hC : nc ≤ Rm.cells ∧ ns ≤ Rm.slots := by rw [hnc, hns]; exact hC0
  have hm9 : 0 ≤ nc ∧ 0 ≤ ns := ⟨Nat.zero_le _, Nat.zero_le _⟩
  refine lv_aload_n hx hb dX1_word_0 rfl (lv_at hl 0 rfl) ?_
  obtain ⟨r_1, D_1, h_1, hq⟩ := ww_b2S hf; replace hf := hq; clear hq
  refine c1c_1_next X hl.1 hK hR hS (Nat.le_trans (Nat.le_of_ble_eq_true rfl) hF) (Nat.le_trans (Nat.le_of_ble_eq_true rfl) hLo) (Nat.le_trans hm9.1 hC.1) (Nat.le_trans hm9.2 hC.2) h_1 (cw_rest (Nat.le_of_ble_eq_true rfl)) dX1_word_1 (fun H locs hR hS => ?_)
  refine lv_pop hx hb dX1_word_4 rfl ?_
  have hm9 : (0 + 1) ≤ nc ∧ (0 + 4) ≤ ns := by
    obtain ⟨D_2, c_2, k_2, h_2, hq⟩ := ww_b3S hf; replace hf := hq; clear hq
    have hL_1 : ∀ s9 : cw_D × Nat × Nat, ww_U (f1_word_b1 D_1.2.2) s9 = some z → s9.2.1 ≤ nc ∧ s9.2.2 ≤ ns := by
      clear hf
      refine ww_ind _ z ?_
      intro s9 z_1 hf hz_1
      obtain ⟨D_3, c_1b, k_1b⟩ := s9
      replace hf : f1_word_b1c D_1.2.2 D_3 c_1b k_1b = some z_1 := hf
      unfold f1_word_b1c at hf
      show c_1b ≤ nc ∧ k_1b ≤ ns
      obtain ⟨r_4, h_4, hq⟩ := ww_bS hf; replace hf := hq; clear hq
      obtain ⟨r_5, h_5, hq⟩ := ww_bS hf; replace hf := hq; clear hq
      refine ww_by (r_5 = 0) (fun c_6 => ?_) (fun c_6 => ?_)
      · replace hf := ww_ip hf c_6
        replace hf := ww_xK hf hz_1
        obtain ⟨h_7, hq⟩ := ww_gS hf; replace hf := hq; clear hq
        obtain ⟨r_8, D_8, c_8, k_8, h_8, hq⟩ := ww_b4S hf; replace hf := hq; clear hq
        have hL_2 : ∀ s9 : Int32, ww_U (f1_word_b2 D_8 (c_1b + c_8) (k_1b + k_8) r_8) s9 = some z → (c_1b + c_8) ≤ nc ∧ (k_1b + k_8) ≤ ns := by
          clear hf
          refine ww_ind _ z ?_
          intro s9 z_2 hf hz_2
          obtain ⟨x3, e9⟩ : ∃ q9, q9 = s9 := ⟨_, rfl⟩; subst e9
          replace hf : f1_word_b2c D_8 (c_1b + c_8) (k_1b + k_8) r_8 x3 = some z_2 := hf
          unfold f1_word_b2c at hf
          show (c_1b + c_8) ≤ nc ∧ (k_1b + k_8) ≤ ns
          refine ww_by ((6 : Int32) ≤ x3) (fun c_9 => ?_) (fun c_9 => ?_)
          · replace hf := ww_ip hf c_9
            replace hf := ww_xK hf hz_2
            obtain ⟨r_10, h_10, hq⟩ := ww_bS hf; replace hf := hq; clear hq
            obtain ⟨a_11, e_11, hq⟩ := ww_bS hf; replace hf := hq; clear hq
            subst e_11
            obtain ⟨h_12, hq⟩ := ww_gS hf; replace hf := hq; clear hq
            cases hf
            have e8 : nc = (c_1b + c_8) := hnc
            have e9 : ns = (k_1b + k_8) := hns
            omega
          · replace hf := ww_in hf c_9
            obtain ⟨h_14, hq⟩ := ww_gS hf; replace hf := hq; clear hq
            obtain ⟨r_13, h_13, hq⟩ := ww_bS hf; replace hf := hq; clear hq
            obtain ⟨a_15, e_15, hq⟩ := ww_bS hf; replace hf := hq; clear hq
            subst e_15
            obtain ⟨h_16, hq⟩ := ww_gS hf; replace hf := hq; clear hq
            obtain ⟨r_17, h_17, hq⟩ := ww_bS hf; replace hf := hq; clear hq
            refine ww_by (r_17 = 0) (fun c_18 => ?_) (fun c_18 => ?_)
            · replace hf := ww_ip hf c_18
              have e9 := ww_lK hf hz_2
              try dsimp only at e9
              omega
            · replace hf := ww_in hf c_18
              replace hf := ww_xK hf hz_2
              cases hf
              have e8 : nc = (c_1b + c_8) := hnc
              have e9 : ns = (k_1b + k_8) := hns
              omega
        have e9 := hL_2 (0 : Int32) hf
        try dsimp only at e9
        omega
      · replace hf := ww_in hf c_6
        obtain ⟨r_19, h_19, hq⟩ := ww_bS hf; replace hf := hq; clear hq
        obtain ⟨h_20, hq⟩ := ww_gS hf; replace hf := hq; clear hq
        obtain ⟨r_21, D_21, c_21, k_21, h_21, hq⟩ := ww_b4S hf; replace hf := hq; clear hq
        obtain ⟨h_22, hq⟩ := ww_gS hf; replace hf := hq; clear hq
        obtain ⟨r_23, D_23, c_23, k_23, h_23, hq⟩ := ww_b4S hf; replace hf := hq; clear hq
        obtain ⟨r_24, h_24, hq⟩ := ww_bS hf; replace hf := hq; clear hq
        rcases ww_tS hf with ⟨D_25, c_25, k_25, h_25, hq⟩ | ⟨u_25, D_25, c_25, k_25, h_25, hq⟩
        · replace hf := hq
          clear hq
          replace hf := ww_xK hf hz_1
          cases hf
          have e8 : nc = (((c_1b + c_21) + c_23) + c_25) := hnc
          have e9 : ns = (((k_1b + k_21) + k_23) + k_25) := hns
          omega
        replace hf := hq
        clear hq
        have e9 := ww_lK hf hz_1
        try dsimp only at e9
        omega
    have e9 := hL_1 (D_2, ((0 + 1) + c_2), ((0 + 4) + k_2)) hf
    try dsimp only at e9
    omega
  refine cw_onew (ci := 4) (C := RJ3) (T := TJ3) (N := 4) rfl (by decide) in_J3 tyJ3 tyJ3_ok rfl X hK hR hS q425 q426 q137 (Nat.le_trans hm9.1 hC.1) (Nat.le_trans hm9.2 hC.2) dX1_word_5 (fun H hR hS => ?_)
  refine lv_dup hx hb dX1_word_8 rfl ?_
  obtain ⟨D_2, c_2, k_2, h_2, hq⟩ := ww_b3S hf; replace hf := hq; clear hq
  have hm9 : ((0 + 1) + c_2) ≤ nc ∧ ((0 + 4) + k_2) ≤ ns := by
    have hL_1 : ∀ s9 : cw_D × Nat × Nat, ww_U (f1_word_b1 D_1.2.2) s9 = some z → s9.2.1 ≤ nc ∧ s9.2.2 ≤ ns := by
      clear hf
      refine ww_ind _ z ?_
      intro s9 z_1 hf hz_1
      obtain ⟨D_3, c_1b, k_1b⟩ := s9
      replace hf : f1_word_b1c D_1.2.2 D_3 c_1b k_1b = some z_1 := hf
      unfold f1_word_b1c at hf
      show c_1b ≤ nc ∧ k_1b ≤ ns
      obtain ⟨r_4, h_4, hq⟩ := ww_bS hf; replace hf := hq; clear hq
      obtain ⟨r_5, h_5, hq⟩ := ww_bS hf; replace hf := hq; clear hq
      refine ww_by (r_5 = 0) (fun c_6 => ?_) (fun c_6 => ?_)
      · replace hf := ww_ip hf c_6
        replace hf := ww_xK hf hz_1
        obtain ⟨h_7, hq⟩ := ww_gS hf; replace hf := hq; clear hq
        obtain ⟨r_8, D_8, c_8, k_8, h_8, hq⟩ := ww_b4S hf; replace hf := hq; clear hq
        have hL_2 : ∀ s9 : Int32, ww_U (f1_word_b2 D_8 (c_1b + c_8) (k_1b + k_8) r_8) s9 = some z → (c_1b + c_8) ≤ nc ∧ (k_1b + k_8) ≤ ns := by
          clear hf
          refine ww_ind _ z ?_
          intro s9 z_2 hf hz_2
          obtain ⟨x3, e9⟩ : ∃ q9, q9 = s9 := ⟨_, rfl⟩; subst e9
          replace hf : f1_word_b2c D_8 (c_1b + c_8) (k_1b + k_8) r_8 x3 = some z_2 := hf
          unfold f1_word_b2c at hf
          show (c_1b + c_8) ≤ nc ∧ (k_1b + k_8) ≤ ns
          refine ww_by ((6 : Int32) ≤ x3) (fun c_9 => ?_) (fun c_9 => ?_)
          · replace hf := ww_ip hf c_9
            replace hf := ww_xK hf hz_2
            obtain ⟨r_10, h_10, hq⟩ := ww_bS hf; replace hf := hq; clear hq
            obtain ⟨a_11, e_11, hq⟩ := ww_bS hf; replace hf := hq; clear hq
            subst e_11
            obtain ⟨h_12, hq⟩ := ww_gS hf; replace hf := hq; clear hq
            cases hf
            have e8 : nc = (c_1b + c_8) := hnc
            have e9 : ns = (k_1b + k_8) := hns
            omega
          · replace hf := ww_in hf c_9
            obtain ⟨h_14, hq⟩ := ww_gS hf; replace hf := hq; clear hq
            obtain ⟨r_13, h_13, hq⟩ := ww_bS hf; replace hf := hq; clear hq
            obtain ⟨a_15, e_15, hq⟩ := ww_bS hf; replace hf := hq; clear hq
            subst e_15
            obtain ⟨h_16, hq⟩ := ww_gS hf; replace hf := hq; clear hq
            obtain ⟨r_17, h_17, hq⟩ := ww_bS hf; replace hf := hq; clear hq
            refine ww_by (r_17 = 0) (fun c_18 => ?_) (fun c_18 => ?_)
            · replace hf := ww_ip hf c_18
              have e9 := ww_lK hf hz_2
              try dsimp only at e9
              omega
            · replace hf := ww_in hf c_18
              replace hf := ww_xK hf hz_2
              cases hf
              have e8 : nc = (c_1b + c_8) := hnc
              have e9 : ns = (k_1b + k_8) := hns
              omega
        have e9 := hL_2 (0 : Int32) hf
        try dsimp only at e9
        omega
      · replace hf := ww_in hf c_6
        obtain ⟨r_19, h_19, hq⟩ := ww_bS hf; replace hf := hq; clear hq
        obtain ⟨h_20, hq⟩ := ww_gS hf; replace hf := hq; clear hq
        obtain ⟨r_21, D_21, c_21, k_21, h_21, hq⟩ := ww_b4S hf; replace hf := hq; clear hq
        obtain ⟨h_22, hq⟩ := ww_gS hf; replace hf := hq; clear hq
        obtain ⟨r_23, D_23, c_23, k_23, h_23, hq⟩ := ww_b4S hf; replace hf := hq; clear hq
        obtain ⟨r_24, h_24, hq⟩ := ww_bS hf; replace hf := hq; clear hq
        rcases ww_tS hf with ⟨D_25, c_25, k_25, h_25, hq⟩ | ⟨u_25, D_25, c_25, k_25, h_25, hq⟩
        · replace hf := hq
          clear hq
          replace hf := ww_xK hf hz_1
          cases hf
          have e8 : nc = (((c_1b + c_21) + c_23) + c_25) := hnc
          have e9 : ns = (((k_1b + k_21) + k_23) + k_25) := hns
          omega
        replace hf := hq
        clear hq
        have e9 := ww_lK hf hz_1
        try dsimp only at e9
        omega
    have e9 := hL_1 (D_2, ((0 + 1) + c_2), ((0 + 4) + k_2)) hf
    try dsimp only at e9
    omega
  refine c1c_J3_init X hl.1 hK hR hS (Nat.le_trans (Nat.le_of_ble_eq_true rfl) hF) (Nat.le_trans (Nat.le_of_ble_eq_true rfl) hLo) (Nat.le_trans hm9.1 hC.1) (Nat.le_trans hm9.2 hC.2) h_2 (cw_rest (Nat.le_of_ble_eq_true rfl)) dX1_word_9 (fun H locs hR hS => ?_)
  refine lv_astore_n (lv' := [(1, .ref D_1.2.2), (0, .ref E.1.1)]) hx hb dX1_word_12 rfl hl (by decide) rfl (fun ls hl => ?_)
  have hL_1 : ∀ s9 : cw_D × Nat × Nat, ww_U (f1_word_b1 D_1.2.2) s9 = some z → (s9.2.1 ≤ nc ∧ s9.2.2 ≤ ns) ∧ (∀ (H : Heap) (locs : List Loc) (ls : Array Slot), cw_H E A s9.1 H → va_S A s.heap H locs → lv_has ls 4 [(0, .ref E.1.1), (1, .ref D_1.2.2)] → W p l e Rm s m args below meth c H locs s9.2.1 s9.2.2 Q (F0 m 13 ls [])) := by
    clear hf
    refine ww_ind _ z ?_
    intro s9 z_1 hf hz_1
    obtain ⟨D_3, c_1b, k_1b⟩ := s9
    replace hf : f1_word_b1c D_1.2.2 D_3 c_1b k_1b = some z_1 := hf
    unfold f1_word_b1c at hf
    have hm9 : c_1b ≤ nc ∧ k_1b ≤ ns := by
      show c_1b ≤ nc ∧ k_1b ≤ ns
      obtain ⟨r_4, h_4, hq⟩ := ww_bS hf; replace hf := hq; clear hq
      obtain ⟨r_5, h_5, hq⟩ := ww_bS hf; replace hf := hq; clear hq
      refine ww_by (r_5 = 0) (fun c_6 => ?_) (fun c_6 => ?_)
      · replace hf := ww_ip hf c_6
        replace hf := ww_xK hf hz_1
        obtain ⟨h_7, hq⟩ := ww_gS hf; replace hf := hq; clear hq
        obtain ⟨r_8, D_8, c_8, k_8, h_8, hq⟩ := ww_b4S hf; replace hf := hq; clear hq
        have hL_2 : ∀ s9 : Int32, ww_U (f1_word_b2 D_8 (c_1b + c_8) (k_1b + k_8) r_8) s9 = some z → (c_1b + c_8) ≤ nc ∧ (k_1b + k_8) ≤ ns := by
          clear hf
          refine ww_ind _ z ?_
          intro s9 z_2 hf hz_2
          obtain ⟨x3, e9⟩ : ∃ q9, q9 = s9 := ⟨_, rfl⟩; subst e9
          replace hf : f1_word_b2c D_8 (c_1b + c_8) (k_1b + k_8) r_8 x3 = some z_2 := hf
          unfold f1_word_b2c at hf
          show (c_1b + c_8) ≤ nc ∧ (k_1b + k_8) ≤ ns
          refine ww_by ((6 : Int32) ≤ x3) (fun c_9 => ?_) (fun c_9 => ?_)
          · replace hf := ww_ip hf c_9
            replace hf := ww_xK hf hz_2
            obtain ⟨r_10, h_10, hq⟩ := ww_bS hf; replace hf := hq; clear hq
            obtain ⟨a_11, e_11, hq⟩ := ww_bS hf; replace hf := hq; clear hq
            subst e_11
            obtain ⟨h_12, hq⟩ := ww_gS hf; replace hf := hq; clear hq
            cases hf
            have e8 : nc = (c_1b + c_8) := hnc
            have e9 : ns = (k_1b + k_8) := hns
            omega
          · replace hf := ww_in hf c_9
            obtain ⟨h_14, hq⟩ := ww_gS hf; replace hf := hq; clear hq
            obtain ⟨r_13, h_13, hq⟩ := ww_bS hf; replace hf := hq; clear hq
            obtain ⟨a_15, e_15, hq⟩ := ww_bS hf; replace hf := hq; clear hq
            subst e_15
            obtain ⟨h_16, hq⟩ := ww_gS hf; replace hf := hq; clear hq
            obtain ⟨r_17, h_17, hq⟩ := ww_bS hf; replace hf := hq; clear hq
            refine ww_by (r_17 = 0) (fun c_18 => ?_) (fun c_18 => ?_)
            · replace hf := ww_ip hf c_18
              have e9 := ww_lK hf hz_2
              try dsimp only at e9
              omega
            · replace hf := ww_in hf c_18
              replace hf := ww_xK hf hz_2
              cases hf
              have e8 : nc = (c_1b + c_8) := hnc
              have e9 : ns = (k_1b + k_8) := hns
              omega
        have e9 := hL_2 (0 : Int32) hf
        try dsimp only at e9
        omega
      · replace hf := ww_in hf c_6
        obtain ⟨r_19, h_19, hq⟩ := ww_bS hf; replace hf := hq; clear hq
        obtain ⟨h_20, hq⟩ := ww_gS hf; replace hf := hq; clear hq
        obtain ⟨r_21, D_21, c_21, k_21, h_21, hq⟩ := ww_b4S hf; replace hf := hq; clear hq
        obtain ⟨h_22, hq⟩ := ww_gS hf; replace hf := hq; clear hq
        obtain ⟨r_23, D_23, c_23, k_23, h_23, hq⟩ := ww_b4S hf; replace hf := hq; clear hq
        obtain ⟨r_24, h_24, hq⟩ := ww_bS hf; replace hf := hq; clear hq
        rcases ww_tS hf with ⟨D_25, c_25, k_25, h_25, hq⟩ | ⟨u_25, D_25, c_25, k_25, h_25, hq⟩
        · replace hf := hq
          clear hq
          replace hf := ww_xK hf hz_1
          cases hf
          have e8 : nc = (((c_1b + c_21) + c_23) + c_25) := hnc
          have e9 : ns = (((k_1b + k_21) + k_23) + k_25) := hns
          omega
        replace hf := hq
        clear hq
        have e9 := (ww_lK hf hz_1).1
        try dsimp only at e9
        omega
    refine ⟨hm9, ?_⟩
    try clear hl
    try clear hS
    try clear hR
    intro H locs ls hR hS hl
    replace hR : cw_H E A D_3 H := hR
    replace hl : lv_has ls 4 [(0, .ref E.1.1), (1, .ref D_1.2.2)] := hl
    show W p l e Rm s m args below meth c H locs c_1b k_1b Q _
    refine lv_aload_n hx hb dX1_word_13 rfl (lv_at hl 0 rfl) ?_
    obtain ⟨r_4, h_4, hq⟩ := ww_bS hf; replace hf := hq; clear hq
    refine c1c_1_here X hl.1 hK hR hS (Nat.le_trans (Nat.le_of_ble_eq_true rfl) hF) (Nat.le_trans (Nat.le_of_ble_eq_true rfl) hLo) (Nat.le_trans hm9.1 hC.1) (Nat.le_trans hm9.2 hC.2) h_4 (cw_rest (Nat.le_of_ble_eq_true rfl)) dX1_word_14 (fun H locs hR hS => ?_)
    refine lv_bipush (v := (97 : Int32)) hx hb dX1_word_17 (by decide) ?_
    refine lv_bipush (v := (122 : Int32)) hx hb dX1_word_19 (by decide) ?_
    obtain ⟨r_5, h_5, hq⟩ := ww_bS hf; replace hf := hq; clear hq
    refine c1c_1_in X hl.1 (Nat.le_trans (Nat.le_of_ble_eq_true rfl) hF) (Nat.le_trans (Nat.le_of_ble_eq_true rfl) hLo) (Nat.le_trans hm9.1 hC.1) (Nat.le_trans hm9.2 hC.2) h_5 (cw_rest (Nat.le_of_ble_eq_true rfl)) dX1_word_21 ?_
    refine lv_if_eq (tgt := 62) hx hb dX1_word_24 (by decide) (fun c_6 => ?_) (fun c_6 => ?_)
    · replace hf := ww_ip hf c_6
      replace hf := ww_xK hf hz_1
      refine lv_aload_n hx hb dX1_word_62 rfl (lv_at hl 1 rfl) ?_
      obtain ⟨h_7, hq⟩ := ww_gS hf; replace hf := hq; clear hq
      obtain ⟨r_8, D_8, c_8, k_8, h_8, hq⟩ := ww_b4S hf; replace hf := hq; clear hq
      have hm9 : (c_1b + c_8) ≤ nc ∧ (k_1b + k_8) ≤ ns := by
        have hL_2 : ∀ s9 : Int32, ww_U (f1_word_b2 D_8 (c_1b + c_8) (k_1b + k_8) r_8) s9 = some z → (c_1b + c_8) ≤ nc ∧ (k_1b + k_8) ≤ ns := by
          clear hf
          refine ww_ind _ z ?_
          intro s9 z_2 hf hz_2
          obtain ⟨x3, e9⟩ : ∃ q9, q9 = s9 := ⟨_, rfl⟩; subst e9
          replace hf : f1_word_b2c D_8 (c_1b + c_8) (k_1b + k_8) r_8 x3 = some z_2 := hf
          unfold f1_word_b2c at hf
          show (c_1b + c_8) ≤ nc ∧ (k_1b + k_8) ≤ ns
          refine ww_by ((6 : Int32) ≤ x3) (fun c_9 => ?_) (fun c_9 => ?_)
          · replace hf := ww_ip hf c_9
            replace hf := ww_xK hf hz_2
            obtain ⟨r_10, h_10, hq⟩ := ww_bS hf; replace hf := hq; clear hq
            obtain ⟨a_11, e_11, hq⟩ := ww_bS hf; replace hf := hq; clear hq
            subst e_11
            obtain ⟨h_12, hq⟩ := ww_gS hf; replace hf := hq; clear hq
            cases hf
            have e8 : nc = (c_1b + c_8) := hnc
            have e9 : ns = (k_1b + k_8) := hns
            omega
          · replace hf := ww_in hf c_9
            obtain ⟨h_14, hq⟩ := ww_gS hf; replace hf := hq; clear hq
            obtain ⟨r_13, h_13, hq⟩ := ww_bS hf; replace hf := hq; clear hq
            obtain ⟨a_15, e_15, hq⟩ := ww_bS hf; replace hf := hq; clear hq
            subst e_15
            obtain ⟨h_16, hq⟩ := ww_gS hf; replace hf := hq; clear hq
            obtain ⟨r_17, h_17, hq⟩ := ww_bS hf; replace hf := hq; clear hq
            refine ww_by (r_17 = 0) (fun c_18 => ?_) (fun c_18 => ?_)
            · replace hf := ww_ip hf c_18
              have e9 := ww_lK hf hz_2
              try dsimp only at e9
              omega
            · replace hf := ww_in hf c_18
              replace hf := ww_xK hf hz_2
              cases hf
              have e8 : nc = (c_1b + c_8) := hnc
              have e9 : ns = (k_1b + k_8) := hns
              omega
        have e9 := hL_2 (0 : Int32) hf
        try dsimp only at e9
        omega
      refine c1c_J3_toString X hl.1 hK hR hS (Nat.le_trans (Nat.le_of_ble_eq_true rfl) hF) (Nat.le_trans (Nat.le_of_ble_eq_true rfl) hLo) (Nat.le_trans hm9.1 hC.1) (Nat.le_trans hm9.2 hC.2) h_7 h_8 (cw_rest (Nat.le_of_ble_eq_true rfl)) dX1_word_63 (fun H locs hR hS => ?_)
      refine cw_astore_n (x := r_8) (lv' := [(2, va_rf r_8), (0, .ref E.1.1), (1, .ref D_1.2.2)]) hx hb dX1_word_66 rfl hl (by decide) rfl (fun ls hl => ?_)
      refine lv_iconst (v := (0 : Int32)) hx hb dX1_word_67 (by decide) ?_
      refine lv_istore_n (lv' := [(3, .int (0 : Int32)), (2, va_rf r_8), (0, .ref E.1.1), (1, .ref D_1.2.2)]) hx hb dX1_word_68 rfl hl (by decide) (by cases r_8 <;> rfl) (fun ls hl => ?_)
      have hL_2 : ∀ s9 : Int32, ww_U (f1_word_b2 D_8 (c_1b + c_8) (k_1b + k_8) r_8) s9 = some z → ((c_1b + c_8) ≤ nc ∧ (k_1b + k_8) ≤ ns) ∧ (∀ (H : Heap) (locs : List Loc) (ls : Array Slot), cw_H E A D_8 H → va_S A s.heap H locs → lv_has ls 4 [(0, .ref E.1.1), (2, va_rf r_8), (3, .int s9)] → W p l e Rm s m args below meth c H locs (c_1b + c_8) (k_1b + k_8) Q (F0 m 69 ls [])) := by
        clear hf
        refine ww_ind _ z ?_
        intro s9 z_2 hf hz_2
        obtain ⟨x3, e9⟩ : ∃ q9, q9 = s9 := ⟨_, rfl⟩; subst e9
        replace hf : f1_word_b2c D_8 (c_1b + c_8) (k_1b + k_8) r_8 x3 = some z_2 := hf
        unfold f1_word_b2c at hf
        have hm9 : (c_1b + c_8) ≤ nc ∧ (k_1b + k_8) ≤ ns := by
          show (c_1b + c_8) ≤ nc ∧ (k_1b + k_8) ≤ ns
          refine ww_by ((6 : Int32) ≤ x3) (fun c_9 => ?_) (fun c_9 => ?_)
          · replace hf := ww_ip hf c_9
            replace hf := ww_xK hf hz_2
            obtain ⟨r_10, h_10, hq⟩ := ww_bS hf; replace hf := hq; clear hq
            obtain ⟨a_11, e_11, hq⟩ := ww_bS hf; replace hf := hq; clear hq
            subst e_11
            obtain ⟨h_12, hq⟩ := ww_gS hf; replace hf := hq; clear hq
            cases hf
            have e8 : nc = (c_1b + c_8) := hnc
            have e9 : ns = (k_1b + k_8) := hns
            omega
          · replace hf := ww_in hf c_9
            obtain ⟨h_14, hq⟩ := ww_gS hf; replace hf := hq; clear hq
            obtain ⟨r_13, h_13, hq⟩ := ww_bS hf; replace hf := hq; clear hq
            obtain ⟨a_15, e_15, hq⟩ := ww_bS hf; replace hf := hq; clear hq
            subst e_15
            obtain ⟨h_16, hq⟩ := ww_gS hf; replace hf := hq; clear hq
            obtain ⟨r_17, h_17, hq⟩ := ww_bS hf; replace hf := hq; clear hq
            refine ww_by (r_17 = 0) (fun c_18 => ?_) (fun c_18 => ?_)
            · replace hf := ww_ip hf c_18
              have e9 := (ww_lK hf hz_2).1
              try dsimp only at e9
              omega
            · replace hf := ww_in hf c_18
              replace hf := ww_xK hf hz_2
              cases hf
              have e8 : nc = (c_1b + c_8) := hnc
              have e9 : ns = (k_1b + k_8) := hns
              omega
        refine ⟨hm9, ?_⟩
        try clear hl
        try clear hS
        try clear hR
        intro H locs ls hR hS hl
        replace hl : lv_has ls 4 [(0, .ref E.1.1), (2, va_rf r_8), (3, .int x3)] := hl
        refine lv_iload_n hx hb dX1_word_69 rfl (lv_at hl 2 rfl) ?_
        refine lv_aload_n hx hb dX1_word_70 rfl (lv_at hl 0 rfl) ?_
        refine c1g_32 X hK hR dX1_word_71 ?_
        refine cw_marl X hK hR 0 (by decide) rfl (v := (6 : Int32)) (by decide +kernel) dX1_word_74 ?_
        refine lv_icmp_ge (tgt := 99) hx hb dX1_word_75 (by decide) (fun c_9 => ?_) (fun c_9 => ?_)
        · replace hf := ww_ip hf c_9
          replace hf := ww_xK hf hz_2
          refine lv_aload_n hx hb dX1_word_99 rfl (lv_at hl 0 rfl) ?_
          obtain ⟨r_10, h_10, hq⟩ := ww_bS hf; replace hf := hq; clear hq
          refine c1g_39 X hK hR h_10 dX1_word_100 ?_
          obtain ⟨a_11, e_11, hq⟩ := ww_bS hf; replace hf := hq; clear hq
          subst e_11
          obtain ⟨h_12, hq⟩ := ww_gS hf; replace hf := hq; clear hq
          obtain ⟨ce9, hce, hcv, hcl⟩ := cw_flt hK hR h_12
          refine vx_athrow hx hb dX1_word_103 ?_
          exact hendX hf hR hS hce hcv hcl
        · replace hf := ww_in hf c_9
          refine lv_aload_n hx hb dX1_word_78 rfl (lv_at hl 0 rfl) ?_
          refine c1g_32 X hK hR dX1_word_79 ?_
          refine lv_iload_n hx hb dX1_word_82 rfl (lv_at hl 2 rfl) ?_
          obtain ⟨h_14, hq⟩ := ww_gS hf; replace hf := hq; clear hq
          obtain ⟨r_13, h_13, hq⟩ := ww_bS hf; replace hf := hq; clear hq
          refine c1l_0 X hK hR h_14 h_13 dX1_word_83 ?_
          refine cw_aload_n (x := r_8) hx hb dX1_word_84 rfl (lv_at hl 1 rfl) ?_
          obtain ⟨a_15, e_15, hq⟩ := ww_bS hf; replace hf := hq; clear hq
          subst e_15
          obtain ⟨h_16, hq⟩ := ww_gS hf; replace hf := hq; clear hq
          obtain ⟨r_17, h_17, hq⟩ := ww_bS hf; replace hf := hq; clear hq
          refine c1c_J4_equals (x1 := r_8) X hl.1 hK hR hS (Nat.le_trans (Nat.le_of_ble_eq_true rfl) hF) (Nat.le_trans (Nat.le_of_ble_eq_true rfl) hLo) (Nat.le_trans hm9.1 hC.1) (Nat.le_trans hm9.2 hC.2) h_16 h_17 (cw_rest (Nat.le_of_ble_eq_true rfl)) dX1_word_85 (fun H locs hR hS => ?_)
          refine lv_if_eq (tgt := 93) hx hb dX1_word_88 (by decide) (fun c_18 => ?_) (fun c_18 => ?_)
          · replace hf := ww_ip hf c_18
            refine lv_iinc (k := 2) (v := x3 + (1 : Int32)) (lv' := [(3, .int (x3 + (1 : Int32))), (0, .ref E.1.1), (2, va_rf r_8)]) hx hb dX1_word_93 hl rfl rfl (by decide) (by cases r_8 <;> rfl) (fun ls hl => ?_)
            refine lv_goto (tgt := 69) hx hb dX1_word_96 (by decide) ?_
            exact (ww_lK hf hz_2).2 _ _ _ hR hS (lv_sub hl [1, 2, 0] rfl)
          · replace hf := ww_in hf c_18
            replace hf := ww_xK hf hz_2
            refine cw_aload_n (x := r_8) hx hb dX1_word_91 rfl (lv_at hl 1 rfl) ?_
            exact hend (v := r_8) dX1_word_92 rfl (Or.inl ⟨_, rfl⟩) hf hR hS
      exact (hL_2 (0 : Int32) hf).2 _ _ _ hR hS (lv_sub hl [2, 1, 0] rfl)
    · replace hf := ww_in hf c_6
      refine lv_aload_n hx hb dX1_word_27 rfl (lv_at hl 1 rfl) ?_
      refine lv_aload_n hx hb dX1_word_28 rfl (lv_at hl 0 rfl) ?_
      obtain ⟨r_19, h_19, hq⟩ := ww_bS hf; replace hf := hq; clear hq
      refine c1c_1_here X hl.1 hK hR hS (Nat.le_trans (Nat.le_of_ble_eq_true rfl) hF) (Nat.le_trans (Nat.le_of_ble_eq_true rfl) hLo) (Nat.le_trans hm9.1 hC.1) (Nat.le_trans hm9.2 hC.2) h_19 (cw_rest (Nat.le_of_ble_eq_true rfl)) dX1_word_29 (fun H locs hR hS => ?_)
      refine lv_i2c (v := (r_19.toUInt32 % 65536).toInt32) hx hb dX1_word_32 rfl ?_
      obtain ⟨h_20, hq⟩ := ww_gS hf; replace hf := hq; clear hq
      obtain ⟨r_21, D_21, c_21, k_21, h_21, hq⟩ := ww_b4S hf; replace hf := hq; clear hq
      have hm9 : (c_1b + c_21) ≤ nc ∧ (k_1b + k_21) ≤ ns := by
        obtain ⟨h_22, hq⟩ := ww_gS hf; replace hf := hq; clear hq
        obtain ⟨r_23, D_23, c_23, k_23, h_23, hq⟩ := ww_b4S hf; replace hf := hq; clear hq
        obtain ⟨r_24, h_24, hq⟩ := ww_bS hf; replace hf := hq; clear hq
        rcases ww_tS hf with ⟨D_25, c_25, k_25, h_25, hq⟩ | ⟨u_25, D_25, c_25, k_25, h_25, hq⟩
        · replace hf := hq
          clear hq
          replace hf := ww_xK hf hz_1
          cases hf
          have e8 : nc = (((c_1b + c_21) + c_23) + c_25) := hnc
          have e9 : ns = (((k_1b + k_21) + k_23) + k_25) := hns
          omega
        replace hf := hq
        clear hq
        have e9 := (ww_lK hf hz_1).1
        try dsimp only at e9
        omega
      refine c1c_J3_append X hl.1 hK hR hS (Nat.le_trans (Nat.le_of_ble_eq_true rfl) hF) (Nat.le_trans (Nat.le_of_ble_eq_true rfl) hLo) (Nat.le_trans hm9.1 hC.1) (Nat.le_trans hm9.2 hC.2) h_20 h_21 (cw_rest (Nat.le_of_ble_eq_true rfl)) dX1_word_33 (fun H locs hR hS => ?_)
      refine lv_pop hx hb dX1_word_36 (cw_cat _) ?_
      refine lv_aload_n hx hb dX1_word_37 rfl (lv_at hl 0 rfl) ?_
      refine lv_aload_n hx hb dX1_word_38 rfl (lv_at hl 0 rfl) ?_
      refine lv_aload_n hx hb dX1_word_39 rfl (lv_at hl 1 rfl) ?_
      obtain ⟨h_22, hq⟩ := ww_gS hf; replace hf := hq; clear hq
      obtain ⟨r_23, D_23, c_23, k_23, h_23, hq⟩ := ww_b4S hf; replace hf := hq; clear hq
      have hm9 : ((c_1b + c_21) + c_23) ≤ nc ∧ ((k_1b + k_21) + k_23) ≤ ns := by
        obtain ⟨r_24, h_24, hq⟩ := ww_bS hf; replace hf := hq; clear hq
        rcases ww_tS hf with ⟨D_25, c_25, k_25, h_25, hq⟩ | ⟨u_25, D_25, c_25, k_25, h_25, hq⟩
        · replace hf := hq
          clear hq
          replace hf := ww_xK hf hz_1
          cases hf
          have e8 : nc = (((c_1b + c_21) + c_23) + c_25) := hnc
          have e9 : ns = (((k_1b + k_21) + k_23) + k_25) := hns
          omega
        replace hf := hq
        clear hq
        have e9 := (ww_lK hf hz_1).1
        try dsimp only at e9
        omega
      refine c1c_J3_toString X hl.1 hK hR hS (Nat.le_trans (Nat.le_of_ble_eq_true rfl) hF) (Nat.le_trans (Nat.le_of_ble_eq_true rfl) hLo) (Nat.le_trans hm9.1 hC.1) (Nat.le_trans hm9.2 hC.2) h_22 h_23 (cw_rest (Nat.le_of_ble_eq_true rfl)) dX1_word_40 (fun H locs hR hS => ?_)
      obtain ⟨r_24, h_24, hq⟩ := ww_bS hf; replace hf := hq; clear hq
      refine c1c_1_beginsWord (x1 := r_23) X hl.1 hK hR hS (Nat.le_trans (Nat.le_of_ble_eq_true rfl) hF) (Nat.le_trans (Nat.le_of_ble_eq_true rfl) hLo) (Nat.le_trans hm9.1 hC.1) (Nat.le_trans hm9.2 hC.2) h_24 (cw_rest (Nat.le_of_ble_eq_true rfl)) dX1_word_43 (fun H locs hR hS => ?_)
      rcases ww_tS hf with ⟨D_25, c_25, k_25, h_25, hq⟩ | ⟨u_25, D_25, c_25, k_25, h_25, hq⟩
      · replace hf := hq
        clear hq
        have hm9 : (((c_1b + c_21) + c_23) + c_25) ≤ nc ∧ (((k_1b + k_21) + k_23) + k_25) ≤ ns := by
          replace hf := ww_xK hf hz_1
          cases hf
          have e8 : nc = (((c_1b + c_21) + c_23) + c_25) := hnc
          have e9 : ns = (((k_1b + k_21) + k_23) + k_25) := hns
          omega
        refine c1tx_1_must X hl.1 hK hR hS (Nat.le_trans (Nat.le_of_ble_eq_true rfl) hF) (Nat.le_trans (Nat.le_of_ble_eq_true rfl) hLo) (Nat.le_trans hm9.1 hC.1) (Nat.le_trans hm9.2 hC.2) h_25 (cw_rest (Nat.le_of_ble_eq_true rfl)) dX1_word_46 (fun q9 ce9 H locs hR hS hce hcv hcl => ?_)
        replace hf := ww_xK hf hz_1
        exact hendX hf hR hS hce hcv hcl
      replace hf := hq
      clear hq
      have hm9 : (((c_1b + c_21) + c_23) + c_25) ≤ nc ∧ (((k_1b + k_21) + k_23) + k_25) ≤ ns := by
        have e9 := (ww_lK hf hz_1).1
        try dsimp only at e9
        omega
      refine c1tn_1_must X hl.1 hK hR hS (Nat.le_trans (Nat.le_of_ble_eq_true rfl) hF) (Nat.le_trans (Nat.le_of_ble_eq_true rfl) hLo) (Nat.le_trans hm9.1 hC.1) (Nat.le_trans hm9.2 hC.2) h_25 (cw_rest (Nat.le_of_ble_eq_true rfl)) dX1_word_46 (fun H locs hR hS => ?_)
      refine lv_aload_n hx hb dX1_word_49 rfl (lv_at hl 0 rfl) ?_
      refine lv_dup hx hb dX1_word_50 rfl ?_
      refine c1g_131 X hK hR dX1_word_51 ?_
      refine lv_iconst (v := (1 : Int32)) hx hb dX1_word_54 (by decide) ?_
      refine lv_iadd hx hb dX1_word_55 ?_
      refine c1p_131 X hK hR hS dX1_word_56 (fun H locs hR hS => ?_)
      refine lv_goto (tgt := 13) hx hb dX1_word_59 (by decide) ?_
      exact (ww_lK hf hz_1).2 _ _ _ hR hS hl
  exact (hL_1 (D_2, ((0 + 1) + c_2), ((0 + 4) + k_2)) hf).2 _ _ _ hR hS (lv_sub hl [1, 0] rfl)
section T_1_word
variable {p : Program} {l : Launch} {e : Env} {R : Room} {s : State} {m : MethodId} {args : Array Value} {below : List Frame} {meth : Method} {c : Code} {H : Heap} {locs : List Loc} {cells slots : Nat} {Q : State → Prop}
variable {cc : ByteArray} {pc : Nat} {ls : Array Slot} {rest : List Value} {nL : Nat} {E : cw_E} {A : Nat → Prop} {H0 : Heap}
theorem c1tx_1_word {D D1 : cw_D} {c1 k1 : Nat} (X : ww_C p m c cc nL s args RX1 lw_all) (hsz : ls.size = nL) (hK : cw_K E A s) (hR : cw_H E A D H) (hS : va_S A s.heap H locs) (hF : 7 ≤ R.frames) (hLo : 235 ≤ R.locals) (hc : cells + c1 ≤ R.cells) (hs : slots + k1 ≤ R.slots) (hf : f1_word D = some (.inl (D1, c1, k1))) (hrest : (rest.map fun v => v.category).sum ≤ 8) (hdg : decode cc pc = .ok (.invokevirtual 175, 3)) (kx : ∀ (q : Nat) (ce : Cell) (H1 : Heap) (locs1 : List Loc), cw_H E A D1 H1 → va_S A s.heap H1 locs1 → H1[q]? = some ce → ce.vm = .none → s.vm.findClass RFault = some ce.cls → vx_W p l e R s m args below meth c H1 locs1 (cells + c1) (slots + k1) Q (F0 m pc ls rest) q) : W p l e R s m args below meth c H locs cells slots Q (F0 m pc ls (.ref E.1.1 :: rest)) :=
  vx_callq (vx_runV (C := RX1) (As := []) (rest := rest) (b := E.1.1) X (met1_word l _ _ hf) (cwV 0 X.2.2.2.2 (lw_V q421 q423 qs12 q131 q424) rfl rfl rfl (by decide +kernel) ⟨hF, hLo⟩) (cw_pV hK hR hS (cw_rcM hK hR)) rfl rfl hsz rfl (lv_room hrest) hdg ⟨hc, hs⟩) hS (fun q _ h => h) (fun q h => h) (fun q _ h => h) (fun Ex ce q9 u t H1 locs1 ht hal hp hB hz hk hS1 hce hcv hcl => by
    have hp : (Sum.inl (D1, c1, k1) : cx_Z (Option Nat)) = .inl u := hp
    cases hp
    obtain ⟨hE, hB⟩ := hB
    subst hE
    rw [ht] at hB
    exact kx q9 ce H1 locs1 hB hS1 hce hcv hcl) (fun r9 u t H1 locs1 ht hal hp hB hz hk hS1 => by
    have hp : (Sum.inl (D1, c1, k1) : cx_Z (Option Nat)) = .inr (r9, u) := hp
    cases hp)
theorem c1tn_1_word {r : Option Nat} {D D1 : cw_D} {c1 k1 : Nat} (X : ww_C p m c cc nL s args RX1 lw_all) (hsz : ls.size = nL) (hK : cw_K E A s) (hR : cw_H E A D H) (hS : va_S A s.heap H locs) (hF : 7 ≤ R.frames) (hLo : 235 ≤ R.locals) (hc : cells + c1 ≤ R.cells) (hs : slots + k1 ≤ R.slots) (hf : f1_word D = some (.inr (r, D1, c1, k1))) (hrest : (rest.map fun v => v.category).sum ≤ 8) (hdg : decode cc pc = .ok (.invokevirtual 175, 3)) (kk : ∀ (H1 : Heap) (locs1 : List Loc), cw_H E A D1 H1 → va_S A s.heap H1 locs1 → W p l e R s m args below meth c H1 locs1 (cells + c1) (slots + k1) Q (F0 m (pc + 3) ls (va_rf r :: rest))) : W p l e R s m args below meth c H locs cells slots Q (F0 m pc ls (.ref E.1.1 :: rest)) :=
  vx_callq (vx_runV (C := RX1) (As := []) (rest := rest) (b := E.1.1) X (met1_word l _ _ hf) (cwV 0 X.2.2.2.2 (lw_V q421 q423 qs12 q131 q424) rfl rfl rfl (by decide +kernel) ⟨hF, hLo⟩) (cw_pV hK hR hS (cw_rcM hK hR)) rfl rfl hsz rfl (lv_room hrest) hdg ⟨hc, hs⟩) hS (fun q _ h => h) (fun q h => h) (fun q _ h => h) (fun Ex ce q9 u t H1 locs1 ht hal hp hB hz hk hS1 hce hcv hcl => by
    have hp : (Sum.inr (r, D1, c1, k1) : cx_Z (Option Nat)) = .inl u := hp
    cases hp) (fun r9 u t H1 locs1 ht hal hp hB hz hk hS1 => by
    have hp : (Sum.inr (r, D1, c1, k1) : cx_Z (Option Nat)) = .inr (r9, u) := hp
    cases hp
    rw [ht] at hB
    exact kk H1 locs1 hB hS1)
end T_1_word
noncomputable def f1_stepRead_j2 (D : cw_D) (cf : Nat) (kf : Nat) (y1 : Int32) (t1 : Int32) (t2 : Int32) : Option (cx_Z (Unit)) :=
  ww_g (ww_i t1 320) (ww_t (f1_keyRead (cw_sX D 5 t1 t2)) (fun D_10 c_10 k_10 => some (.inl (D_10, (cf + c_10), (kf + k_10)))) (fun r_10 D_10 c_10 k_10 => ww_g (ww_i (y1 + (1 : Int32)) 320) (ww_t (f1_valueRead (cw_sX D_10 5 (y1 + (1 : Int32)) r_10)) (fun D_12 c_12 k_12 => some (.inl (D_12, ((cf + c_10) + c_12), ((kf + k_10) + k_12)))) (fun r_12 D_12 c_12 k_12 => ww_g (ww_i (y1 + (2 : Int32)) 320) (some (.inr ((), (cw_sX D_12 5 (y1 + (2 : Int32)) r_12), ((cf + c_10) + c_12), ((kf + k_10) + k_12))))))))
noncomputable def f1_stepRead_j3 (D : cw_D) (cf : Nat) (kf : Nat) (y1 : Int32) (t1 : Int32) (t2 : Int32) : Option (cx_Z (Unit)) :=
  ww_g (ww_i t1 320) (ww_t (f1_keyRead (cw_sX D 5 t1 t2)) (fun D_18 c_18 k_18 => some (.inl (D_18, (cf + c_18), (kf + k_18)))) (fun r_18 D_18 c_18 k_18 => ww_g (ww_i (y1 + (1 : Int32)) 320) (ww_t (f1_valueRead (cw_sX D_18 5 (y1 + (1 : Int32)) r_18)) (fun D_20 c_20 k_20 => some (.inl (D_20, ((cf + c_18) + c_20), ((kf + k_18) + k_20)))) (fun r_20 D_20 c_20 k_20 => ww_g (ww_i (y1 + (2 : Int32)) 320) (some (.inr ((), (cw_sX D_20 5 (y1 + (2 : Int32)) r_20), ((cf + c_18) + c_20), ((kf + k_18) + k_20))))))))
noncomputable def f1_stepRead_j1 (D : cw_D) (cf : Nat) (kf : Nat) (y1 : Int32) (x3 : Int32) : Option (cx_Z (Unit)) :=
  if x3 = 0 then ww_g (ww_i ((ww_F D.1 4) - (1 : Int32)) 240) (if (ww_X D.1 2 ((ww_F D.1 4) - (1 : Int32))) = (116 : Int32) then f1_stepRead_j2 D cf kf y1 y1 (0 : Int32) else f1_stepRead_j2 D cf kf y1 y1 (2 : Int32)) else if x3 = 1 then ww_g (ww_i ((ww_F D.1 4) - (1 : Int32)) 240) (if (ww_X D.1 2 ((ww_F D.1 4) - (1 : Int32))) = (116 : Int32) then f1_stepRead_j3 D cf kf y1 y1 (0 : Int32) else f1_stepRead_j3 D cf kf y1 y1 (2 : Int32)) else if x3 = 2 then ww_g (ww_i y1 320) (ww_t (f1_keyRead (cw_sX D 5 y1 (1 : Int32))) (fun D_25 c_25 k_25 => some (.inl (D_25, (cf + c_25), (kf + k_25)))) (fun r_25 D_25 c_25 k_25 => ww_g (ww_i (y1 + (1 : Int32)) 320) (some (.inr ((), (cw_sX D_25 5 (y1 + (1 : Int32)) r_25), (cf + c_25), (kf + k_25)))))) else if x3 = 3 then ww_g (ww_i y1 320) (ww_t (f1_keyRead (cw_sX D 5 y1 (3 : Int32))) (fun D_29 c_29 k_29 => some (.inl (D_29, (cf + c_29), (kf + k_29)))) (fun r_29 D_29 c_29 k_29 => ww_g (ww_i (y1 + (1 : Int32)) 320) (ww_t (f1_keyRead (cw_sX D_29 5 (y1 + (1 : Int32)) r_29)) (fun D_31 c_31 k_31 => some (.inl (D_31, ((cf + c_29) + c_31), ((kf + k_29) + k_31)))) (fun r_31 D_31 c_31 k_31 => ww_g (ww_i (y1 + (2 : Int32)) 320) (some (.inr ((), (cw_sX D_31 5 (y1 + (2 : Int32)) r_31), ((cf + c_29) + c_31), ((kf + k_29) + k_31)))))))) else if x3 = 4 then ww_g (ww_i y1 320) (ww_t (f1_keyRead (cw_sX D 5 y1 (4 : Int32))) (fun D_35 c_35 k_35 => some (.inl (D_35, (cf + c_35), (kf + k_35)))) (fun r_35 D_35 c_35 k_35 => ww_g (ww_i (y1 + (1 : Int32)) 320) (ww_t (f1_keyRead (cw_sX D_35 5 (y1 + (1 : Int32)) r_35)) (fun D_37 c_37 k_37 => some (.inl (D_37, ((cf + c_35) + c_37), ((kf + k_35) + k_37)))) (fun r_37 D_37 c_37 k_37 => ww_g (ww_i (y1 + (2 : Int32)) 320) (ww_t (f1_valueRead (cw_sX D_37 5 (y1 + (2 : Int32)) r_37)) (fun D_39 c_39 k_39 => some (.inl (D_39, (((cf + c_35) + c_37) + c_39), (((kf + k_35) + k_37) + k_39)))) (fun r_39 D_39 c_39 k_39 => ww_g (ww_i (y1 + (3 : Int32)) 320) (some (.inr ((), (cw_sX D_39 5 (y1 + (3 : Int32)) r_39), (((cf + c_35) + c_37) + c_39), (((kf + k_35) + k_37) + k_39)))))))))) else ww_g (ww_i y1 320) (some (.inr ((), (cw_sX D 5 y1 (5 : Int32)), cf, kf)))
noncomputable def f1_stepRead_b1c (cf : Nat) (kf : Nat) (y1 : Int32) (D_1 : cw_D) (x2 : Int32) : Option ((cw_D × Int32) ⊕ (cx_Z (Unit))) :=
  if (4 : Int32) ≤ x2 then ww_x (ww_t (f1_word D_1) (fun D_3 c_3 k_3 => some (.inl (D_3, (cf + c_3), (kf + k_3)))) (fun r_3 D_3 c_3 k_3 => ww_b r_3 (fun a_4 => ww_g (cw_kd D_3 [3] (some a_4)) (ww_b2 (fJ4_hashCode D_3 a_4) (fun r_6 D_6 => if r_6 = 96417 then ww_b (some (ww_R D_6.1 102)) (fun r_43 => ww_g (cw_kd D_6 [3] (some a_4)) (ww_b (fJ4_equals D_6 a_4 r_43) (fun r_45 => if r_45 = 0 then f1_stepRead_j1 D_6 (cf + c_3) (kf + k_3) y1 (-1 : Int32) else f1_stepRead_j1 D_6 (cf + c_3) (kf + k_3) y1 (1 : Int32)))) else if r_6 = 98882 then ww_b (some (ww_R D_6.1 103)) (fun r_48 => ww_g (cw_kd D_6 [3] (some a_4)) (ww_b (fJ4_equals D_6 a_4 r_48) (fun r_50 => if r_50 = 0 then f1_stepRead_j1 D_6 (cf + c_3) (kf + k_3) y1 (-1 : Int32) else f1_stepRead_j1 D_6 (cf + c_3) (kf + k_3) y1 (3 : Int32)))) else if r_6 = 99339 then ww_b (some (ww_R D_6.1 101)) (fun r_53 => ww_g (cw_kd D_6 [3] (some a_4)) (ww_b (fJ4_equals D_6 a_4 r_53) (fun r_55 => if r_55 = 0 then f1_stepRead_j1 D_6 (cf + c_3) (kf + k_3) y1 (-1 : Int32) else f1_stepRead_j1 D_6 (cf + c_3) (kf + k_3) y1 (2 : Int32)))) else if r_6 = 104414 then ww_b (some (ww_R D_6.1 104)) (fun r_58 => ww_g (cw_kd D_6 [3] (some a_4)) (ww_b (fJ4_equals D_6 a_4 r_58) (fun r_60 => if r_60 = 0 then f1_stepRead_j1 D_6 (cf + c_3) (kf + k_3) y1 (-1 : Int32) else f1_stepRead_j1 D_6 (cf + c_3) (kf + k_3) y1 (4 : Int32)))) else if r_6 = 111375 then ww_b (some (ww_R D_6.1 100)) (fun r_63 => ww_g (cw_kd D_6 [3] (some a_4)) (ww_b (fJ4_equals D_6 a_4 r_63) (fun r_65 => if r_65 = 0 then f1_stepRead_j1 D_6 (cf + c_3) (kf + k_3) y1 (-1 : Int32) else f1_stepRead_j1 D_6 (cf + c_3) (kf + k_3) y1 (0 : Int32)))) else f1_stepRead_j1 D_6 (cf + c_3) (kf + k_3) y1 (-1 : Int32)))))) else ww_g (ww_i (y1 + x2) 320) (some (.inl ((cw_sX D_1 5 (y1 + x2) (-1000000 : Int32)), (x2 + (1 : Int32)))))
noncomputable def f1_stepRead_b1 (cf : Nat) (kf : Nat) (y1 : Int32) : (cw_D × Int32) → Option ((cw_D × Int32) ⊕ (cx_Z (Unit))) := fun s9 => f1_stepRead_b1c cf kf y1 s9.1 s9.2
noncomputable def f1_stepRead (D : cw_D) (x1 : Int32) : Option (cx_Z (Unit)) :=
  ww_U (f1_stepRead_b1 0 0 x1) (D, (1 : Int32))
set_option maxHeartbeats 4000000 in
set_option maxRecDepth 100000 in
theorem met1_stepRead (l : Launch) {E : cw_E} {A : Nat → Prop} (D : cw_D) (x1 : Int32) (z : cx_Z (Unit)) (hf : f1_stepRead D x1 = some z) : cx_MetV l yX1_stepRead cX1_stepRead 4 7 235 E A [.ref E.1.1, .int x1] D z := by
  unfold f1_stepRead at hf
  refine cx_sV (own := RX1) (by decide +kernel) [(0, .ref E.1.1), (1, .int x1)] ⟨Nat.le_of_ble_eq_true rfl, rfl⟩ ?_
  intro p e s m args below meth c Rm Q X hK hF hLo hC0 hin hend hendX ls hl hR hS
  obtain ⟨hx, hb, hml, hown, hts⟩ := id X
  obtain ⟨nc, hnc⟩ : ∃ q, q = cx_c z := ⟨_, rfl⟩
  obtain ⟨ns, hns⟩ : ∃ q, q = cx_k z := ⟨_, rfl⟩
  have hC : nc ≤ Rm.cells ∧ ns ≤ Rm.slots := by rw [hnc, hns]; exact hC0
  have hm9 : 0 ≤ nc ∧ 0 ≤ ns := ⟨Nat.zero_le _, Nat.zero_le _⟩
  refine lv_iconst (v := (1 : Int32)) hx hb dX1_stepRead_0 (by decide) ?_
  refine lv_istore_n (lv' := [(2, .int (1 : Int32)), (0, .ref E.1.1), (1, .int x1)]) hx hb dX1_stepRead_1 rfl hl (by decide) rfl (fun ls hl => ?_)
  have hL_1 : ∀ s9 : cw_D × Int32, ww_U (f1_stepRead_b1 0 0 x1) s9 = some z → (0 ≤ nc ∧ 0 ≤ ns) ∧ (∀ (H : Heap) (locs : List Loc) (ls : Array Slot), cw_H E A s9.1 H → va_S A s.heap H locs → lv_has ls 4 [(0, .ref E.1.1), (1, .int x1), (2, .int s9.2)] → W p l e Rm s m args below meth c H locs 0 0 Q (F0 m 2 ls [])) := by
    clear hf
    refine ww_ind _ z ?_
    intro s9 z_1 hf hz_1
    obtain ⟨D_1, x2⟩ := s9
    replace hf : f1_stepRead_b1c 0 0 x1 D_1 x2 = some z_1 := hf
    unfold f1_stepRead_b1c at hf
    have hm9 : 0 ≤ nc ∧ 0 ≤ ns := by
      show 0 ≤ nc ∧ 0 ≤ ns
      refine ww_by ((4 : Int32) ≤ x2) (fun c_2 => ?_) (fun c_2 => ?_)
      · replace hf := ww_ip hf c_2
        replace hf := ww_xK hf hz_1
        rcases ww_tS hf with ⟨D_3, c_3, k_3, h_3, hq⟩ | ⟨r_3, D_3, c_3, k_3, h_3, hq⟩
        · replace hf := hq
          clear hq
          cases hf
          have e8 : nc = (0 + c_3) := hnc
          have e9 : ns = (0 + k_3) := hns
          omega
        replace hf := hq
        clear hq
        obtain ⟨a_4, e_4, hq⟩ := ww_bS hf; replace hf := hq; clear hq
        subst e_4
        obtain ⟨h_5, hq⟩ := ww_gS hf; replace hf := hq; clear hq
        obtain ⟨r_6, D_6, h_6, hq⟩ := ww_b2S hf; replace hf := hq; clear hq
        have hj_1 : ∀ (x3 : Int32), f1_stepRead_j1 D_6 (0 + c_3) (0 + k_3) x1 x3 = some z → (0 + c_3) ≤ nc ∧ (0 + k_3) ≤ ns := by
          clear hf
          intro x3 hf
          unfold f1_stepRead_j1 at hf
          refine ww_by (x3 = 0) (fun c_7 => ?_) (fun c_7 => ?_)
          · replace hf := ww_ip hf c_7
            obtain ⟨h_8, hq⟩ := ww_gS hf; replace hf := hq; clear hq
            have hj_2 : ∀ (t1 : Int32) (t2 : Int32), f1_stepRead_j2 D_6 (0 + c_3) (0 + k_3) x1 t1 t2 = some z → (0 + c_3) ≤ nc ∧ (0 + k_3) ≤ ns := by
              clear hf
              intro t1 t2 hf
              unfold f1_stepRead_j2 at hf
              obtain ⟨h_9, hq⟩ := ww_gS hf; replace hf := hq; clear hq
              rcases ww_tS hf with ⟨D_10, c_10, k_10, h_10, hq⟩ | ⟨r_10, D_10, c_10, k_10, h_10, hq⟩
              · replace hf := hq
                clear hq
                cases hf
                have e8 : nc = ((0 + c_3) + c_10) := hnc
                have e9 : ns = ((0 + k_3) + k_10) := hns
                omega
              replace hf := hq
              clear hq
              obtain ⟨h_11, hq⟩ := ww_gS hf; replace hf := hq; clear hq
              rcases ww_tS hf with ⟨D_12, c_12, k_12, h_12, hq⟩ | ⟨r_12, D_12, c_12, k_12, h_12, hq⟩
              · replace hf := hq
                clear hq
                cases hf
                have e8 : nc = (((0 + c_3) + c_10) + c_12) := hnc
                have e9 : ns = (((0 + k_3) + k_10) + k_12) := hns
                omega
              replace hf := hq
              clear hq
              obtain ⟨h_13, hq⟩ := ww_gS hf; replace hf := hq; clear hq
              cases hf
              have e8 : nc = (((0 + c_3) + c_10) + c_12) := hnc
              have e9 : ns = (((0 + k_3) + k_10) + k_12) := hns
              omega
            refine ww_by ((ww_X D_6.1 2 ((ww_F D_6.1 4) - (1 : Int32))) = (116 : Int32)) (fun c_14 => ?_) (fun c_14 => ?_)
            · replace hf := ww_ip hf c_14
              have e9 := hj_2 x1 (0 : Int32) hf
              omega
            · replace hf := ww_in hf c_14
              have e9 := hj_2 x1 (2 : Int32) hf
              omega
          replace hf := ww_in hf c_7
          refine ww_by (x3 = 1) (fun c_15 => ?_) (fun c_15 => ?_)
          · replace hf := ww_ip hf c_15
            obtain ⟨h_16, hq⟩ := ww_gS hf; replace hf := hq; clear hq
            have hj_3 : ∀ (t1 : Int32) (t2 : Int32), f1_stepRead_j3 D_6 (0 + c_3) (0 + k_3) x1 t1 t2 = some z → (0 + c_3) ≤ nc ∧ (0 + k_3) ≤ ns := by
              clear hf
              intro t1 t2 hf
              unfold f1_stepRead_j3 at hf
              obtain ⟨h_17, hq⟩ := ww_gS hf; replace hf := hq; clear hq
              rcases ww_tS hf with ⟨D_18, c_18, k_18, h_18, hq⟩ | ⟨r_18, D_18, c_18, k_18, h_18, hq⟩
              · replace hf := hq
                clear hq
                cases hf
                have e8 : nc = ((0 + c_3) + c_18) := hnc
                have e9 : ns = ((0 + k_3) + k_18) := hns
                omega
              replace hf := hq
              clear hq
              obtain ⟨h_19, hq⟩ := ww_gS hf; replace hf := hq; clear hq
              rcases ww_tS hf with ⟨D_20, c_20, k_20, h_20, hq⟩ | ⟨r_20, D_20, c_20, k_20, h_20, hq⟩
              · replace hf := hq
                clear hq
                cases hf
                have e8 : nc = (((0 + c_3) + c_18) + c_20) := hnc
                have e9 : ns = (((0 + k_3) + k_18) + k_20) := hns
                omega
              replace hf := hq
              clear hq
              obtain ⟨h_21, hq⟩ := ww_gS hf; replace hf := hq; clear hq
              cases hf
              have e8 : nc = (((0 + c_3) + c_18) + c_20) := hnc
              have e9 : ns = (((0 + k_3) + k_18) + k_20) := hns
              omega
            refine ww_by ((ww_X D_6.1 2 ((ww_F D_6.1 4) - (1 : Int32))) = (116 : Int32)) (fun c_22 => ?_) (fun c_22 => ?_)
            · replace hf := ww_ip hf c_22
              have e9 := hj_3 x1 (0 : Int32) hf
              omega
            · replace hf := ww_in hf c_22
              have e9 := hj_3 x1 (2 : Int32) hf
              omega
          replace hf := ww_in hf c_15
          refine ww_by (x3 = 2) (fun c_23 => ?_) (fun c_23 => ?_)
          · replace hf := ww_ip hf c_23
            obtain ⟨h_24, hq⟩ := ww_gS hf; replace hf := hq; clear hq
            rcases ww_tS hf with ⟨D_25, c_25, k_25, h_25, hq⟩ | ⟨r_25, D_25, c_25, k_25, h_25, hq⟩
            · replace hf := hq
              clear hq
              cases hf
              have e8 : nc = ((0 + c_3) + c_25) := hnc
              have e9 : ns = ((0 + k_3) + k_25) := hns
              omega
            replace hf := hq
            clear hq
            obtain ⟨h_26, hq⟩ := ww_gS hf; replace hf := hq; clear hq
            cases hf
            have e8 : nc = ((0 + c_3) + c_25) := hnc
            have e9 : ns = ((0 + k_3) + k_25) := hns
            omega
          replace hf := ww_in hf c_23
          refine ww_by (x3 = 3) (fun c_27 => ?_) (fun c_27 => ?_)
          · replace hf := ww_ip hf c_27
            obtain ⟨h_28, hq⟩ := ww_gS hf; replace hf := hq; clear hq
            rcases ww_tS hf with ⟨D_29, c_29, k_29, h_29, hq⟩ | ⟨r_29, D_29, c_29, k_29, h_29, hq⟩
            · replace hf := hq
              clear hq
              cases hf
              have e8 : nc = ((0 + c_3) + c_29) := hnc
              have e9 : ns = ((0 + k_3) + k_29) := hns
              omega
            replace hf := hq
            clear hq
            obtain ⟨h_30, hq⟩ := ww_gS hf; replace hf := hq; clear hq
            rcases ww_tS hf with ⟨D_31, c_31, k_31, h_31, hq⟩ | ⟨r_31, D_31, c_31, k_31, h_31, hq⟩
            · replace hf := hq
              clear hq
              cases hf
              have e8 : nc = (((0 + c_3) + c_29) + c_31) := hnc
              have e9 : ns = (((0 + k_3) + k_29) + k_31) := hns
              omega
            replace hf := hq
            clear hq
            obtain ⟨h_32, hq⟩ := ww_gS hf; replace hf := hq; clear hq
            cases hf
            have e8 : nc = (((0 + c_3) + c_29) + c_31) := hnc
            have e9 : ns = (((0 + k_3) + k_29) + k_31) := hns
            omega
          replace hf := ww_in hf c_27
          refine ww_by (x3 = 4) (fun c_33 => ?_) (fun c_33 => ?_)
          · replace hf := ww_ip hf c_33
            obtain ⟨h_34, hq⟩ := ww_gS hf; replace hf := hq; clear hq
            rcases ww_tS hf with ⟨D_35, c_35, k_35, h_35, hq⟩ | ⟨r_35, D_35, c_35, k_35, h_35, hq⟩
            · replace hf := hq
              clear hq
              cases hf
              have e8 : nc = ((0 + c_3) + c_35) := hnc
              have e9 : ns = ((0 + k_3) + k_35) := hns
              omega
            replace hf := hq
            clear hq
            obtain ⟨h_36, hq⟩ := ww_gS hf; replace hf := hq; clear hq
            rcases ww_tS hf with ⟨D_37, c_37, k_37, h_37, hq⟩ | ⟨r_37, D_37, c_37, k_37, h_37, hq⟩
            · replace hf := hq
              clear hq
              cases hf
              have e8 : nc = (((0 + c_3) + c_35) + c_37) := hnc
              have e9 : ns = (((0 + k_3) + k_35) + k_37) := hns
              omega
            replace hf := hq
            clear hq
            obtain ⟨h_38, hq⟩ := ww_gS hf; replace hf := hq; clear hq
            rcases ww_tS hf with ⟨D_39, c_39, k_39, h_39, hq⟩ | ⟨r_39, D_39, c_39, k_39, h_39, hq⟩
            · replace hf := hq
              clear hq
              cases hf
              have e8 : nc = ((((0 + c_3) + c_35) + c_37) + c_39) := hnc
              have e9 : ns = ((((0 + k_3) + k_35) + k_37) + k_39) := hns
              omega
            replace hf := hq
            clear hq
            obtain ⟨h_40, hq⟩ := ww_gS hf; replace hf := hq; clear hq
            cases hf
            have e8 : nc = ((((0 + c_3) + c_35) + c_37) + c_39) := hnc
            have e9 : ns = ((((0 + k_3) + k_35) + k_37) + k_39) := hns
            omega
          replace hf := ww_in hf c_33
          obtain ⟨h_41, hq⟩ := ww_gS hf; replace hf := hq; clear hq
          cases hf
          have e8 : nc = (0 + c_3) := hnc
          have e9 : ns = (0 + k_3) := hns
          omega
        refine ww_by (r_6 = 96417) (fun c_42 => ?_) (fun c_42 => ?_)
        · replace hf := ww_ip hf c_42
          obtain ⟨r_43, h_43, hq⟩ := ww_bS hf; replace hf := hq; clear hq
          obtain ⟨h_44, hq⟩ := ww_gS hf; replace hf := hq; clear hq
          obtain ⟨r_45, h_45, hq⟩ := ww_bS hf; replace hf := hq; clear hq
          refine ww_by (r_45 = 0) (fun c_46 => ?_) (fun c_46 => ?_)
          · replace hf := ww_ip hf c_46
            have e9 := hj_1 (-1 : Int32) hf
            omega
          · replace hf := ww_in hf c_46
            have e9 := hj_1 (1 : Int32) hf
            omega
        replace hf := ww_in hf c_42
        refine ww_by (r_6 = 98882) (fun c_47 => ?_) (fun c_47 => ?_)
        · replace hf := ww_ip hf c_47
          obtain ⟨r_48, h_48, hq⟩ := ww_bS hf; replace hf := hq; clear hq
          obtain ⟨h_49, hq⟩ := ww_gS hf; replace hf := hq; clear hq
          obtain ⟨r_50, h_50, hq⟩ := ww_bS hf; replace hf := hq; clear hq
          refine ww_by (r_50 = 0) (fun c_51 => ?_) (fun c_51 => ?_)
          · replace hf := ww_ip hf c_51
            have e9 := hj_1 (-1 : Int32) hf
            omega
          · replace hf := ww_in hf c_51
            have e9 := hj_1 (3 : Int32) hf
            omega
        replace hf := ww_in hf c_47
        refine ww_by (r_6 = 99339) (fun c_52 => ?_) (fun c_52 => ?_)
        · replace hf := ww_ip hf c_52
          obtain ⟨r_53, h_53, hq⟩ := ww_bS hf; replace hf := hq; clear hq
          obtain ⟨h_54, hq⟩ := ww_gS hf; replace hf := hq; clear hq
          obtain ⟨r_55, h_55, hq⟩ := ww_bS hf; replace hf := hq; clear hq
          refine ww_by (r_55 = 0) (fun c_56 => ?_) (fun c_56 => ?_)
          · replace hf := ww_ip hf c_56
            have e9 := hj_1 (-1 : Int32) hf
            omega
          · replace hf := ww_in hf c_56
            have e9 := hj_1 (2 : Int32) hf
            omega
        replace hf := ww_in hf c_52
        refine ww_by (r_6 = 104414) (fun c_57 => ?_) (fun c_57 => ?_)
        · replace hf := ww_ip hf c_57
          obtain ⟨r_58, h_58, hq⟩ := ww_bS hf; replace hf := hq; clear hq
          obtain ⟨h_59, hq⟩ := ww_gS hf; replace hf := hq; clear hq
          obtain ⟨r_60, h_60, hq⟩ := ww_bS hf; replace hf := hq; clear hq
          refine ww_by (r_60 = 0) (fun c_61 => ?_) (fun c_61 => ?_)
          · replace hf := ww_ip hf c_61
            have e9 := hj_1 (-1 : Int32) hf
            omega
          · replace hf := ww_in hf c_61
            have e9 := hj_1 (4 : Int32) hf
            omega
        replace hf := ww_in hf c_57
        refine ww_by (r_6 = 111375) (fun c_62 => ?_) (fun c_62 => ?_)
        · replace hf := ww_ip hf c_62
          obtain ⟨r_63, h_63, hq⟩ := ww_bS hf; replace hf := hq; clear hq
          obtain ⟨h_64, hq⟩ := ww_gS hf; replace hf := hq; clear hq
          obtain ⟨r_65, h_65, hq⟩ := ww_bS hf; replace hf := hq; clear hq
          refine ww_by (r_65 = 0) (fun c_66 => ?_) (fun c_66 => ?_)
          · replace hf := ww_ip hf c_66
            have e9 := hj_1 (-1 : Int32) hf
            omega
          · replace hf := ww_in hf c_66
            have e9 := hj_1 (0 : Int32) hf
            omega
        replace hf := ww_in hf c_62
        have e9 := hj_1 (-1 : Int32) hf
        omega
      · replace hf := ww_in hf c_2
        obtain ⟨h_67, hq⟩ := ww_gS hf; replace hf := hq; clear hq
        have e9 := (ww_lK hf hz_1).1
        try dsimp only at e9
        omega
    refine ⟨hm9, ?_⟩
    try clear hl
    try clear hS
    try clear hR
    intro H locs ls hR hS hl
    replace hR : cw_H E A D_1 H := hR
    replace hl : lv_has ls 4 [(0, .ref E.1.1), (1, .int x1), (2, .int x2)] := hl
    refine lv_iload_n hx hb dX1_stepRead_2 rfl (lv_at hl 2 rfl) ?_
    refine lv_iconst (v := (4 : Int32)) hx hb dX1_stepRead_3 (by decide) ?_
    refine lv_icmp_ge (tgt := 23) hx hb dX1_stepRead_4 (by decide) (fun c_2 => ?_) (fun c_2 => ?_)
    · replace hf := ww_ip hf c_2
      replace hf := ww_xK hf hz_1
      refine lv_aload_n hx hb dX1_stepRead_23 rfl (lv_at hl 0 rfl) ?_
      rcases ww_tS hf with ⟨D_3, c_3, k_3, h_3, hq⟩ | ⟨r_3, D_3, c_3, k_3, h_3, hq⟩
      · replace hf := hq
        clear hq
        have hm9 : (0 + c_3) ≤ nc ∧ (0 + k_3) ≤ ns := by
          cases hf
          have e8 : nc = (0 + c_3) := hnc
          have e9 : ns = (0 + k_3) := hns
          omega
        refine c1tx_1_word X hl.1 hK hR hS (Nat.le_trans (Nat.le_of_ble_eq_true rfl) hF) (Nat.le_trans (Nat.le_of_ble_eq_true rfl) hLo) (Nat.le_trans hm9.1 hC.1) (Nat.le_trans hm9.2 hC.2) h_3 (cw_rest (Nat.le_of_ble_eq_true rfl)) dX1_stepRead_24 (fun q9 ce9 H locs hR hS hce hcv hcl => ?_)
        exact hendX hf hR hS hce hcv hcl
      replace hf := hq
      clear hq
      have hm9 : (0 + c_3) ≤ nc ∧ (0 + k_3) ≤ ns := by
        obtain ⟨a_4, e_4, hq⟩ := ww_bS hf; replace hf := hq; clear hq
        subst e_4
        obtain ⟨h_5, hq⟩ := ww_gS hf; replace hf := hq; clear hq
        obtain ⟨r_6, D_6, h_6, hq⟩ := ww_b2S hf; replace hf := hq; clear hq
        have hj_1 : ∀ (x3 : Int32), f1_stepRead_j1 D_6 (0 + c_3) (0 + k_3) x1 x3 = some z → (0 + c_3) ≤ nc ∧ (0 + k_3) ≤ ns := by
          clear hf
          intro x3 hf
          unfold f1_stepRead_j1 at hf
          refine ww_by (x3 = 0) (fun c_7 => ?_) (fun c_7 => ?_)
          · replace hf := ww_ip hf c_7
            obtain ⟨h_8, hq⟩ := ww_gS hf; replace hf := hq; clear hq
            have hj_2 : ∀ (t1 : Int32) (t2 : Int32), f1_stepRead_j2 D_6 (0 + c_3) (0 + k_3) x1 t1 t2 = some z → (0 + c_3) ≤ nc ∧ (0 + k_3) ≤ ns := by
              clear hf
              intro t1 t2 hf
              unfold f1_stepRead_j2 at hf
              obtain ⟨h_9, hq⟩ := ww_gS hf; replace hf := hq; clear hq
              rcases ww_tS hf with ⟨D_10, c_10, k_10, h_10, hq⟩ | ⟨r_10, D_10, c_10, k_10, h_10, hq⟩
              · replace hf := hq
                clear hq
                cases hf
                have e8 : nc = ((0 + c_3) + c_10) := hnc
                have e9 : ns = ((0 + k_3) + k_10) := hns
                omega
              replace hf := hq
              clear hq
              obtain ⟨h_11, hq⟩ := ww_gS hf; replace hf := hq; clear hq
              rcases ww_tS hf with ⟨D_12, c_12, k_12, h_12, hq⟩ | ⟨r_12, D_12, c_12, k_12, h_12, hq⟩
              · replace hf := hq
                clear hq
                cases hf
                have e8 : nc = (((0 + c_3) + c_10) + c_12) := hnc
                have e9 : ns = (((0 + k_3) + k_10) + k_12) := hns
                omega
              replace hf := hq
              clear hq
              obtain ⟨h_13, hq⟩ := ww_gS hf; replace hf := hq; clear hq
              cases hf
              have e8 : nc = (((0 + c_3) + c_10) + c_12) := hnc
              have e9 : ns = (((0 + k_3) + k_10) + k_12) := hns
              omega
            refine ww_by ((ww_X D_6.1 2 ((ww_F D_6.1 4) - (1 : Int32))) = (116 : Int32)) (fun c_14 => ?_) (fun c_14 => ?_)
            · replace hf := ww_ip hf c_14
              have e9 := hj_2 x1 (0 : Int32) hf
              omega
            · replace hf := ww_in hf c_14
              have e9 := hj_2 x1 (2 : Int32) hf
              omega
          replace hf := ww_in hf c_7
          refine ww_by (x3 = 1) (fun c_15 => ?_) (fun c_15 => ?_)
          · replace hf := ww_ip hf c_15
            obtain ⟨h_16, hq⟩ := ww_gS hf; replace hf := hq; clear hq
            have hj_3 : ∀ (t1 : Int32) (t2 : Int32), f1_stepRead_j3 D_6 (0 + c_3) (0 + k_3) x1 t1 t2 = some z → (0 + c_3) ≤ nc ∧ (0 + k_3) ≤ ns := by
              clear hf
              intro t1 t2 hf
              unfold f1_stepRead_j3 at hf
              obtain ⟨h_17, hq⟩ := ww_gS hf; replace hf := hq; clear hq
              rcases ww_tS hf with ⟨D_18, c_18, k_18, h_18, hq⟩ | ⟨r_18, D_18, c_18, k_18, h_18, hq⟩
              · replace hf := hq
                clear hq
                cases hf
                have e8 : nc = ((0 + c_3) + c_18) := hnc
                have e9 : ns = ((0 + k_3) + k_18) := hns
                omega
              replace hf := hq
              clear hq
              obtain ⟨h_19, hq⟩ := ww_gS hf; replace hf := hq; clear hq
              rcases ww_tS hf with ⟨D_20, c_20, k_20, h_20, hq⟩ | ⟨r_20, D_20, c_20, k_20, h_20, hq⟩
              · replace hf := hq
                clear hq
                cases hf
                have e8 : nc = (((0 + c_3) + c_18) + c_20) := hnc
                have e9 : ns = (((0 + k_3) + k_18) + k_20) := hns
                omega
              replace hf := hq
              clear hq
              obtain ⟨h_21, hq⟩ := ww_gS hf; replace hf := hq; clear hq
              cases hf
              have e8 : nc = (((0 + c_3) + c_18) + c_20) := hnc
              have e9 : ns = (((0 + k_3) + k_18) + k_20) := hns
              omega
            refine ww_by ((ww_X D_6.1 2 ((ww_F D_6.1 4) - (1 : Int32))) = (116 : Int32)) (fun c_22 => ?_) (fun c_22 => ?_)
            · replace hf := ww_ip hf c_22
              have e9 := hj_3 x1 (0 : Int32) hf
              omega
            · replace hf := ww_in hf c_22
              have e9 := hj_3 x1 (2 : Int32) hf
              omega
          replace hf := ww_in hf c_15
          refine ww_by (x3 = 2) (fun c_23 => ?_) (fun c_23 => ?_)
          · replace hf := ww_ip hf c_23
            obtain ⟨h_24, hq⟩ := ww_gS hf; replace hf := hq; clear hq
            rcases ww_tS hf with ⟨D_25, c_25, k_25, h_25, hq⟩ | ⟨r_25, D_25, c_25, k_25, h_25, hq⟩
            · replace hf := hq
              clear hq
              cases hf
              have e8 : nc = ((0 + c_3) + c_25) := hnc
              have e9 : ns = ((0 + k_3) + k_25) := hns
              omega
            replace hf := hq
            clear hq
            obtain ⟨h_26, hq⟩ := ww_gS hf; replace hf := hq; clear hq
            cases hf
            have e8 : nc = ((0 + c_3) + c_25) := hnc
            have e9 : ns = ((0 + k_3) + k_25) := hns
            omega
          replace hf := ww_in hf c_23
          refine ww_by (x3 = 3) (fun c_27 => ?_) (fun c_27 => ?_)
          · replace hf := ww_ip hf c_27
            obtain ⟨h_28, hq⟩ := ww_gS hf; replace hf := hq; clear hq
            rcases ww_tS hf with ⟨D_29, c_29, k_29, h_29, hq⟩ | ⟨r_29, D_29, c_29, k_29, h_29, hq⟩
            · replace hf := hq
              clear hq
              cases hf
              have e8 : nc = ((0 + c_3) + c_29) := hnc
              have e9 : ns = ((0 + k_3) + k_29) := hns
              omega
            replace hf := hq
            clear hq
            obtain ⟨h_30, hq⟩ := ww_gS hf; replace hf := hq; clear hq
            rcases ww_tS hf with ⟨D_31, c_31, k_31, h_31, hq⟩ | ⟨r_31, D_31, c_31, k_31, h_31, hq⟩
            · replace hf := hq
              clear hq
              cases hf
              have e8 : nc = (((0 + c_3) + c_29) + c_31) := hnc
              have e9 : ns = (((0 + k_3) + k_29) + k_31) := hns
              omega
            replace hf := hq
            clear hq
            obtain ⟨h_32, hq⟩ := ww_gS hf; replace hf := hq; clear hq
            cases hf
            have e8 : nc = (((0 + c_3) + c_29) + c_31) := hnc
            have e9 : ns = (((0 + k_3) + k_29) + k_31) := hns
            omega
          replace hf := ww_in hf c_27
          refine ww_by (x3 = 4) (fun c_33 => ?_) (fun c_33 => ?_)
          · replace hf := ww_ip hf c_33
            obtain ⟨h_34, hq⟩ := ww_gS hf; replace hf := hq; clear hq
            rcases ww_tS hf with ⟨D_35, c_35, k_35, h_35, hq⟩ | ⟨r_35, D_35, c_35, k_35, h_35, hq⟩
            · replace hf := hq
              clear hq
              cases hf
              have e8 : nc = ((0 + c_3) + c_35) := hnc
              have e9 : ns = ((0 + k_3) + k_35) := hns
              omega
            replace hf := hq
            clear hq
            obtain ⟨h_36, hq⟩ := ww_gS hf; replace hf := hq; clear hq
            rcases ww_tS hf with ⟨D_37, c_37, k_37, h_37, hq⟩ | ⟨r_37, D_37, c_37, k_37, h_37, hq⟩
            · replace hf := hq
              clear hq
              cases hf
              have e8 : nc = (((0 + c_3) + c_35) + c_37) := hnc
              have e9 : ns = (((0 + k_3) + k_35) + k_37) := hns
              omega
            replace hf := hq
            clear hq
            obtain ⟨h_38, hq⟩ := ww_gS hf; replace hf := hq; clear hq
            rcases ww_tS hf with ⟨D_39, c_39, k_39, h_39, hq⟩ | ⟨r_39, D_39, c_39, k_39, h_39, hq⟩
            · replace hf := hq
              clear hq
              cases hf
              have e8 : nc = ((((0 + c_3) + c_35) + c_37) + c_39) := hnc
              have e9 : ns = ((((0 + k_3) + k_35) + k_37) + k_39) := hns
              omega
            replace hf := hq
            clear hq
            obtain ⟨h_40, hq⟩ := ww_gS hf; replace hf := hq; clear hq
            cases hf
            have e8 : nc = ((((0 + c_3) + c_35) + c_37) + c_39) := hnc
            have e9 : ns = ((((0 + k_3) + k_35) + k_37) + k_39) := hns
            omega
          replace hf := ww_in hf c_33
          obtain ⟨h_41, hq⟩ := ww_gS hf; replace hf := hq; clear hq
          cases hf
          have e8 : nc = (0 + c_3) := hnc
          have e9 : ns = (0 + k_3) := hns
          omega
        refine ww_by (r_6 = 96417) (fun c_42 => ?_) (fun c_42 => ?_)
        · replace hf := ww_ip hf c_42
          obtain ⟨r_43, h_43, hq⟩ := ww_bS hf; replace hf := hq; clear hq
          obtain ⟨h_44, hq⟩ := ww_gS hf; replace hf := hq; clear hq
          obtain ⟨r_45, h_45, hq⟩ := ww_bS hf; replace hf := hq; clear hq
          refine ww_by (r_45 = 0) (fun c_46 => ?_) (fun c_46 => ?_)
          · replace hf := ww_ip hf c_46
            have e9 := hj_1 (-1 : Int32) hf
            omega
          · replace hf := ww_in hf c_46
            have e9 := hj_1 (1 : Int32) hf
            omega
        replace hf := ww_in hf c_42
        refine ww_by (r_6 = 98882) (fun c_47 => ?_) (fun c_47 => ?_)
        · replace hf := ww_ip hf c_47
          obtain ⟨r_48, h_48, hq⟩ := ww_bS hf; replace hf := hq; clear hq
          obtain ⟨h_49, hq⟩ := ww_gS hf; replace hf := hq; clear hq
          obtain ⟨r_50, h_50, hq⟩ := ww_bS hf; replace hf := hq; clear hq
          refine ww_by (r_50 = 0) (fun c_51 => ?_) (fun c_51 => ?_)
          · replace hf := ww_ip hf c_51
            have e9 := hj_1 (-1 : Int32) hf
            omega
          · replace hf := ww_in hf c_51
            have e9 := hj_1 (3 : Int32) hf
            omega
        replace hf := ww_in hf c_47
        refine ww_by (r_6 = 99339) (fun c_52 => ?_) (fun c_52 => ?_)
        · replace hf := ww_ip hf c_52
          obtain ⟨r_53, h_53, hq⟩ := ww_bS hf; replace hf := hq; clear hq
          obtain ⟨h_54, hq⟩ := ww_gS hf; replace hf := hq; clear hq
          obtain ⟨r_55, h_55, hq⟩ := ww_bS hf; replace hf := hq; clear hq
          refine ww_by (r_55 = 0) (fun c_56 => ?_) (fun c_56 => ?_)
          · replace hf := ww_ip hf c_56
            have e9 := hj_1 (-1 : Int32) hf
            omega
          · replace hf := ww_in hf c_56
            have e9 := hj_1 (2 : Int32) hf
            omega
        replace hf := ww_in hf c_52
        refine ww_by (r_6 = 104414) (fun c_57 => ?_) (fun c_57 => ?_)
        · replace hf := ww_ip hf c_57
          obtain ⟨r_58, h_58, hq⟩ := ww_bS hf; replace hf := hq; clear hq
          obtain ⟨h_59, hq⟩ := ww_gS hf; replace hf := hq; clear hq
          obtain ⟨r_60, h_60, hq⟩ := ww_bS hf; replace hf := hq; clear hq
          refine ww_by (r_60 = 0) (fun c_61 => ?_) (fun c_61 => ?_)
          · replace hf := ww_ip hf c_61
            have e9 := hj_1 (-1 : Int32) hf
            omega
          · replace hf := ww_in hf c_61
            have e9 := hj_1 (4 : Int32) hf
            omega
        replace hf := ww_in hf c_57
        refine ww_by (r_6 = 111375) (fun c_62 => ?_) (fun c_62 => ?_)
        · replace hf := ww_ip hf c_62
          obtain ⟨r_63, h_63, hq⟩ := ww_bS hf; replace hf := hq; clear hq
          obtain ⟨h_64, hq⟩ := ww_gS hf; replace hf := hq; clear hq
          obtain ⟨r_65, h_65, hq⟩ := ww_bS hf; replace hf := hq; clear hq
          refine ww_by (r_65 = 0) (fun c_66 => ?_) (fun c_66 => ?_)
          · replace hf := ww_ip hf c_66
            have e9 := hj_1 (-1 : Int32) hf
            omega
          · replace hf := ww_in hf c_66
            have e9 := hj_1 (0 : Int32) hf
            omega
        replace hf := ww_in hf c_62
        have e9 := hj_1 (-1 : Int32) hf
        omega
      refine c1tn_1_word X hl.1 hK hR hS (Nat.le_trans (Nat.le_of_ble_eq_true rfl) hF) (Nat.le_trans (Nat.le_of_ble_eq_true rfl) hLo) (Nat.le_trans hm9.1 hC.1) (Nat.le_trans hm9.2 hC.2) h_3 (cw_rest (Nat.le_of_ble_eq_true rfl)) dX1_stepRead_24 (fun H locs hR hS => ?_)
      refine cw_astore_n (x := r_3) (lv' := [(2, va_rf r_3), (0, .ref E.1.1), (1, .int x1)]) hx hb dX1_stepRead_27 rfl hl (by decide) rfl (fun ls hl => ?_)
      refine lv_iconst (v := (-1 : Int32)) hx hb dX1_stepRead_28 (by decide) ?_
      refine lv_istore_n (lv' := [(3, .int (-1 : Int32)), (2, va_rf r_3), (0, .ref E.1.1), (1, .int x1)]) hx hb dX1_stepRead_29 rfl hl (by decide) (by cases r_3 <;> rfl) (fun ls hl => ?_)
      refine cw_aload_n (x := r_3) hx hb dX1_stepRead_30 rfl (lv_at hl 1 rfl) ?_
      obtain ⟨a_4, e_4, hq⟩ := ww_bS hf; replace hf := hq; clear hq
      subst e_4
      obtain ⟨h_5, hq⟩ := ww_gS hf; replace hf := hq; clear hq
      obtain ⟨r_6, D_6, h_6, hq⟩ := ww_b2S hf; replace hf := hq; clear hq
      refine c1c_J4_hashCode X hl.1 hK hR hS (Nat.le_trans (Nat.le_of_ble_eq_true rfl) hF) (Nat.le_trans (Nat.le_of_ble_eq_true rfl) hLo) (Nat.le_trans hm9.1 hC.1) (Nat.le_trans hm9.2 hC.2) h_5 h_6 (cw_rest (Nat.le_of_ble_eq_true rfl)) dX1_stepRead_31 (fun H locs hR hS => ?_)
      have hj_1 : ∀ (x3 : Int32), f1_stepRead_j1 D_6 (0 + c_3) (0 + k_3) x1 x3 = some z → ((0 + c_3) ≤ nc ∧ (0 + k_3) ≤ ns) ∧ (∀ (H : Heap) (locs : List Loc) (ls : Array Slot), cw_H E A D_6 H → va_S A s.heap H locs → lv_has ls 4 [(0, .ref E.1.1), (1, .int x1), (3, .int x3)] → W p l e Rm s m args below meth c H locs (0 + c_3) (0 + k_3) Q (F0 m 151 ls [])) := by
        clear hf
        intro x3 hf
        unfold f1_stepRead_j1 at hf
        have hm9 : (0 + c_3) ≤ nc ∧ (0 + k_3) ≤ ns := by
          refine ww_by (x3 = 0) (fun c_7 => ?_) (fun c_7 => ?_)
          · replace hf := ww_ip hf c_7
            obtain ⟨h_8, hq⟩ := ww_gS hf; replace hf := hq; clear hq
            have hj_2 : ∀ (t1 : Int32) (t2 : Int32), f1_stepRead_j2 D_6 (0 + c_3) (0 + k_3) x1 t1 t2 = some z → (0 + c_3) ≤ nc ∧ (0 + k_3) ≤ ns := by
              clear hf
              intro t1 t2 hf
              unfold f1_stepRead_j2 at hf
              obtain ⟨h_9, hq⟩ := ww_gS hf; replace hf := hq; clear hq
              rcases ww_tS hf with ⟨D_10, c_10, k_10, h_10, hq⟩ | ⟨r_10, D_10, c_10, k_10, h_10, hq⟩
              · replace hf := hq
                clear hq
                cases hf
                have e8 : nc = ((0 + c_3) + c_10) := hnc
                have e9 : ns = ((0 + k_3) + k_10) := hns
                omega
              replace hf := hq
              clear hq
              obtain ⟨h_11, hq⟩ := ww_gS hf; replace hf := hq; clear hq
              rcases ww_tS hf with ⟨D_12, c_12, k_12, h_12, hq⟩ | ⟨r_12, D_12, c_12, k_12, h_12, hq⟩
              · replace hf := hq
                clear hq
                cases hf
                have e8 : nc = (((0 + c_3) + c_10) + c_12) := hnc
                have e9 : ns = (((0 + k_3) + k_10) + k_12) := hns
                omega
              replace hf := hq
              clear hq
              obtain ⟨h_13, hq⟩ := ww_gS hf; replace hf := hq; clear hq
              cases hf
              have e8 : nc = (((0 + c_3) + c_10) + c_12) := hnc
              have e9 : ns = (((0 + k_3) + k_10) + k_12) := hns
              omega
            refine ww_by ((ww_X D_6.1 2 ((ww_F D_6.1 4) - (1 : Int32))) = (116 : Int32)) (fun c_14 => ?_) (fun c_14 => ?_)
            · replace hf := ww_ip hf c_14
              have e9 := hj_2 x1 (0 : Int32) hf
              omega
            · replace hf := ww_in hf c_14
              have e9 := hj_2 x1 (2 : Int32) hf
              omega
          replace hf := ww_in hf c_7
          refine ww_by (x3 = 1) (fun c_15 => ?_) (fun c_15 => ?_)
          · replace hf := ww_ip hf c_15
            obtain ⟨h_16, hq⟩ := ww_gS hf; replace hf := hq; clear hq
            have hj_3 : ∀ (t1 : Int32) (t2 : Int32), f1_stepRead_j3 D_6 (0 + c_3) (0 + k_3) x1 t1 t2 = some z → (0 + c_3) ≤ nc ∧ (0 + k_3) ≤ ns := by
              clear hf
              intro t1 t2 hf
              unfold f1_stepRead_j3 at hf
              obtain ⟨h_17, hq⟩ := ww_gS hf; replace hf := hq; clear hq
              rcases ww_tS hf with ⟨D_18, c_18, k_18, h_18, hq⟩ | ⟨r_18, D_18, c_18, k_18, h_18, hq⟩
              · replace hf := hq
                clear hq
                cases hf
                have e8 : nc = ((0 + c_3) + c_18) := hnc
                have e9 : ns = ((0 + k_3) + k_18) := hns
                omega
              replace hf := hq
              clear hq
              obtain ⟨h_19, hq⟩ := ww_gS hf; replace hf := hq; clear hq
              rcases ww_tS hf with ⟨D_20, c_20, k_20, h_20, hq⟩ | ⟨r_20, D_20, c_20, k_20, h_20, hq⟩
              · replace hf := hq
                clear hq
                cases hf
                have e8 : nc = (((0 + c_3) + c_18) + c_20) := hnc
                have e9 : ns = (((0 + k_3) + k_18) + k_20) := hns
                omega
              replace hf := hq
              clear hq
              obtain ⟨h_21, hq⟩ := ww_gS hf; replace hf := hq; clear hq
              cases hf
              have e8 : nc = (((0 + c_3) + c_18) + c_20) := hnc
              have e9 : ns = (((0 + k_3) + k_18) + k_20) := hns
              omega
            refine ww_by ((ww_X D_6.1 2 ((ww_F D_6.1 4) - (1 : Int32))) = (116 : Int32)) (fun c_22 => ?_) (fun c_22 => ?_)
            · replace hf := ww_ip hf c_22
              have e9 := hj_3 x1 (0 : Int32) hf
              omega
            · replace hf := ww_in hf c_22
              have e9 := hj_3 x1 (2 : Int32) hf
              omega
          replace hf := ww_in hf c_15
          refine ww_by (x3 = 2) (fun c_23 => ?_) (fun c_23 => ?_)
          · replace hf := ww_ip hf c_23
            obtain ⟨h_24, hq⟩ := ww_gS hf; replace hf := hq; clear hq
            rcases ww_tS hf with ⟨D_25, c_25, k_25, h_25, hq⟩ | ⟨r_25, D_25, c_25, k_25, h_25, hq⟩
            · replace hf := hq
              clear hq
              cases hf
              have e8 : nc = ((0 + c_3) + c_25) := hnc
              have e9 : ns = ((0 + k_3) + k_25) := hns
              omega
            replace hf := hq
            clear hq
            obtain ⟨h_26, hq⟩ := ww_gS hf; replace hf := hq; clear hq
            cases hf
            have e8 : nc = ((0 + c_3) + c_25) := hnc
            have e9 : ns = ((0 + k_3) + k_25) := hns
            omega
          replace hf := ww_in hf c_23
          refine ww_by (x3 = 3) (fun c_27 => ?_) (fun c_27 => ?_)
          · replace hf := ww_ip hf c_27
            obtain ⟨h_28, hq⟩ := ww_gS hf; replace hf := hq; clear hq
            rcases ww_tS hf with ⟨D_29, c_29, k_29, h_29, hq⟩ | ⟨r_29, D_29, c_29, k_29, h_29, hq⟩
            · replace hf := hq
              clear hq
              cases hf
              have e8 : nc = ((0 + c_3) + c_29) := hnc
              have e9 : ns = ((0 + k_3) + k_29) := hns
              omega
            replace hf := hq
            clear hq
            obtain ⟨h_30, hq⟩ := ww_gS hf; replace hf := hq; clear hq
            rcases ww_tS hf with ⟨D_31, c_31, k_31, h_31, hq⟩ | ⟨r_31, D_31, c_31, k_31, h_31, hq⟩
            · replace hf := hq
              clear hq
              cases hf
              have e8 : nc = (((0 + c_3) + c_29) + c_31) := hnc
              have e9 : ns = (((0 + k_3) + k_29) + k_31) := hns
              omega
            replace hf := hq
            clear hq
            obtain ⟨h_32, hq⟩ := ww_gS hf; replace hf := hq; clear hq
            cases hf
            have e8 : nc = (((0 + c_3) + c_29) + c_31) := hnc
            have e9 : ns = (((0 + k_3) + k_29) + k_31) := hns
            omega
          replace hf := ww_in hf c_27
          refine ww_by (x3 = 4) (fun c_33 => ?_) (fun c_33 => ?_)
          · replace hf := ww_ip hf c_33
            obtain ⟨h_34, hq⟩ := ww_gS hf; replace hf := hq; clear hq
            rcases ww_tS hf with ⟨D_35, c_35, k_35, h_35, hq⟩ | ⟨r_35, D_35, c_35, k_35, h_35, hq⟩
            · replace hf := hq
              clear hq
              cases hf
              have e8 : nc = ((0 + c_3) + c_35) := hnc
              have e9 : ns = ((0 + k_3) + k_35) := hns
              omega
            replace hf := hq
            clear hq
            obtain ⟨h_36, hq⟩ := ww_gS hf; replace hf := hq; clear hq
            rcases ww_tS hf with ⟨D_37, c_37, k_37, h_37, hq⟩ | ⟨r_37, D_37, c_37, k_37, h_37, hq⟩
            · replace hf := hq
              clear hq
              cases hf
              have e8 : nc = (((0 + c_3) + c_35) + c_37) := hnc
              have e9 : ns = (((0 + k_3) + k_35) + k_37) := hns
              omega
            replace hf := hq
            clear hq
            obtain ⟨h_38, hq⟩ := ww_gS hf; replace hf := hq; clear hq
            rcases ww_tS hf with ⟨D_39, c_39, k_39, h_39, hq⟩ | ⟨r_39, D_39, c_39, k_39, h_39, hq⟩
            · replace hf := hq
              clear hq
              cases hf
              have e8 : nc = ((((0 + c_3) + c_35) + c_37) + c_39) := hnc
              have e9 : ns = ((((0 + k_3) + k_35) + k_37) + k_39) := hns
              omega
            replace hf := hq
            clear hq
            obtain ⟨h_40, hq⟩ := ww_gS hf; replace hf := hq; clear hq
            cases hf
            have e8 : nc = ((((0 + c_3) + c_35) + c_37) + c_39) := hnc
            have e9 : ns = ((((0 + k_3) + k_35) + k_37) + k_39) := hns
            omega
          replace hf := ww_in hf c_33
          obtain ⟨h_41, hq⟩ := ww_gS hf; replace hf := hq; clear hq
          cases hf
          have e8 : nc = (0 + c_3) := hnc
          have e9 : ns = (0 + k_3) := hns
          omega
        refine ⟨hm9, ?_⟩
        try clear hl
        try clear hS
        try clear hR
        intro H locs ls hR hS hl
        refine lv_iload_n hx hb dX1_stepRead_151 rfl (lv_at hl 2 rfl) ?_
        refine ww_by (x3 = 0) (fun c_7 => ?_) (fun c_7 => ?_)
        · replace hf := ww_ip hf c_7
          refine ww_tin (k := 0) (off := 36) (tgt := 188) hx hb dX1_stepRead_152 c_7 (by decide) (by decide) (by decide) (by decide) ?_
          refine lv_aload_n hx hb dX1_stepRead_188 rfl (lv_at hl 0 rfl) ?_
          refine c1g_47 X hK hR dX1_stepRead_189 ?_
          refine lv_iload_n hx hb dX1_stepRead_192 rfl (lv_at hl 1 rfl) ?_
          refine lv_aload_n hx hb dX1_stepRead_193 rfl (lv_at hl 0 rfl) ?_
          refine c1g_43 X hK hR dX1_stepRead_194 ?_
          refine lv_aload_n hx hb dX1_stepRead_197 rfl (lv_at hl 0 rfl) ?_
          refine c1g_131 X hK hR dX1_stepRead_198 ?_
          refine lv_iconst (v := (1 : Int32)) hx hb dX1_stepRead_201 (by decide) ?_
          refine lv_isub hx hb dX1_stepRead_202 ?_
          obtain ⟨h_8, hq⟩ := ww_gS hf; replace hf := hq; clear hq
          refine c1l_2 X hK hR h_8 dX1_stepRead_203 ?_
          refine lv_bipush (v := (116 : Int32)) hx hb dX1_stepRead_204 (by decide) ?_
          have hj_2 : ∀ (t1 : Int32) (t2 : Int32), f1_stepRead_j2 D_6 (0 + c_3) (0 + k_3) x1 t1 t2 = some z → ((0 + c_3) ≤ nc ∧ (0 + k_3) ≤ ns) ∧ (∀ (H : Heap) (locs : List Loc) (ls : Array Slot), cw_H E A D_6 H → va_S A s.heap H locs → lv_has ls 4 [(0, .ref E.1.1), (1, .int x1)] → W p l e Rm s m args below meth c H locs (0 + c_3) (0 + k_3) Q (F0 m 214 ls [.int t2, .int t1, .ref (E.1.2.1 5)])) := by
            clear hf
            intro t1 t2 hf
            unfold f1_stepRead_j2 at hf
            have hm9 : (0 + c_3) ≤ nc ∧ (0 + k_3) ≤ ns := by
              obtain ⟨h_9, hq⟩ := ww_gS hf; replace hf := hq; clear hq
              rcases ww_tS hf with ⟨D_10, c_10, k_10, h_10, hq⟩ | ⟨r_10, D_10, c_10, k_10, h_10, hq⟩
              · replace hf := hq
                clear hq
                cases hf
                have e8 : nc = ((0 + c_3) + c_10) := hnc
                have e9 : ns = ((0 + k_3) + k_10) := hns
                omega
              replace hf := hq
              clear hq
              obtain ⟨h_11, hq⟩ := ww_gS hf; replace hf := hq; clear hq
              rcases ww_tS hf with ⟨D_12, c_12, k_12, h_12, hq⟩ | ⟨r_12, D_12, c_12, k_12, h_12, hq⟩
              · replace hf := hq
                clear hq
                cases hf
                have e8 : nc = (((0 + c_3) + c_10) + c_12) := hnc
                have e9 : ns = (((0 + k_3) + k_10) + k_12) := hns
                omega
              replace hf := hq
              clear hq
              obtain ⟨h_13, hq⟩ := ww_gS hf; replace hf := hq; clear hq
              cases hf
              have e8 : nc = (((0 + c_3) + c_10) + c_12) := hnc
              have e9 : ns = (((0 + k_3) + k_10) + k_12) := hns
              omega
            refine ⟨hm9, ?_⟩
            try clear hl
            try clear hS
            try clear hR
            intro H locs ls hR hS hl
            obtain ⟨h_9, hq⟩ := ww_gS hf; replace hf := hq; clear hq
            refine c1s_5 X hK hR hS h_9 dX1_stepRead_214 (fun H locs hR hS => ?_)
            refine lv_aload_n hx hb dX1_stepRead_215 rfl (lv_at hl 0 rfl) ?_
            refine c1g_47 X hK hR dX1_stepRead_216 ?_
            refine lv_iload_n hx hb dX1_stepRead_219 rfl (lv_at hl 1 rfl) ?_
            refine lv_iconst (v := (1 : Int32)) hx hb dX1_stepRead_220 (by decide) ?_
            refine lv_iadd hx hb dX1_stepRead_221 ?_
            refine lv_aload_n hx hb dX1_stepRead_222 rfl (lv_at hl 0 rfl) ?_
            rcases ww_tS hf with ⟨D_10, c_10, k_10, h_10, hq⟩ | ⟨r_10, D_10, c_10, k_10, h_10, hq⟩
            · replace hf := hq
              clear hq
              have hm9 : ((0 + c_3) + c_10) ≤ nc ∧ ((0 + k_3) + k_10) ≤ ns := by
                cases hf
                have e8 : nc = ((0 + c_3) + c_10) := hnc
                have e9 : ns = ((0 + k_3) + k_10) := hns
                omega
              refine c1tx_1_keyRead X hl.1 hK hR hS (Nat.le_trans (Nat.le_of_ble_eq_true rfl) hF) (Nat.le_trans (Nat.le_of_ble_eq_true rfl) hLo) (Nat.le_trans hm9.1 hC.1) (Nat.le_trans hm9.2 hC.2) h_10 (cw_rest (Nat.le_of_ble_eq_true rfl)) dX1_stepRead_223 (fun q9 ce9 H locs hR hS hce hcv hcl => ?_)
              exact hendX hf hR hS hce hcv hcl
            replace hf := hq
            clear hq
            have hm9 : ((0 + c_3) + c_10) ≤ nc ∧ ((0 + k_3) + k_10) ≤ ns := by
              obtain ⟨h_11, hq⟩ := ww_gS hf; replace hf := hq; clear hq
              rcases ww_tS hf with ⟨D_12, c_12, k_12, h_12, hq⟩ | ⟨r_12, D_12, c_12, k_12, h_12, hq⟩
              · replace hf := hq
                clear hq
                cases hf
                have e8 : nc = (((0 + c_3) + c_10) + c_12) := hnc
                have e9 : ns = (((0 + k_3) + k_10) + k_12) := hns
                omega
              replace hf := hq
              clear hq
              obtain ⟨h_13, hq⟩ := ww_gS hf; replace hf := hq; clear hq
              cases hf
              have e8 : nc = (((0 + c_3) + c_10) + c_12) := hnc
              have e9 : ns = (((0 + k_3) + k_10) + k_12) := hns
              omega
            refine c1tn_1_keyRead X hl.1 hK hR hS (Nat.le_trans (Nat.le_of_ble_eq_true rfl) hF) (Nat.le_trans (Nat.le_of_ble_eq_true rfl) hLo) (Nat.le_trans hm9.1 hC.1) (Nat.le_trans hm9.2 hC.2) h_10 (cw_rest (Nat.le_of_ble_eq_true rfl)) dX1_stepRead_223 (fun H locs hR hS => ?_)
            obtain ⟨h_11, hq⟩ := ww_gS hf; replace hf := hq; clear hq
            refine c1s_5 X hK hR hS h_11 dX1_stepRead_226 (fun H locs hR hS => ?_)
            refine lv_aload_n hx hb dX1_stepRead_227 rfl (lv_at hl 0 rfl) ?_
            refine c1g_47 X hK hR dX1_stepRead_228 ?_
            refine lv_iload_n hx hb dX1_stepRead_231 rfl (lv_at hl 1 rfl) ?_
            refine lv_iconst (v := (2 : Int32)) hx hb dX1_stepRead_232 (by decide) ?_
            refine lv_iadd hx hb dX1_stepRead_233 ?_
            refine lv_aload_n hx hb dX1_stepRead_234 rfl (lv_at hl 0 rfl) ?_
            rcases ww_tS hf with ⟨D_12, c_12, k_12, h_12, hq⟩ | ⟨r_12, D_12, c_12, k_12, h_12, hq⟩
            · replace hf := hq
              clear hq
              have hm9 : (((0 + c_3) + c_10) + c_12) ≤ nc ∧ (((0 + k_3) + k_10) + k_12) ≤ ns := by
                cases hf
                have e8 : nc = (((0 + c_3) + c_10) + c_12) := hnc
                have e9 : ns = (((0 + k_3) + k_10) + k_12) := hns
                omega
              refine c1tx_1_valueRead X hl.1 hK hR hS (Nat.le_trans (Nat.le_of_ble_eq_true rfl) hF) (Nat.le_trans (Nat.le_of_ble_eq_true rfl) hLo) (Nat.le_trans hm9.1 hC.1) (Nat.le_trans hm9.2 hC.2) h_12 (cw_rest (Nat.le_of_ble_eq_true rfl)) dX1_stepRead_235 (fun q9 ce9 H locs hR hS hce hcv hcl => ?_)
              exact hendX hf hR hS hce hcv hcl
            replace hf := hq
            clear hq
            have hm9 : (((0 + c_3) + c_10) + c_12) ≤ nc ∧ (((0 + k_3) + k_10) + k_12) ≤ ns := by
              obtain ⟨h_13, hq⟩ := ww_gS hf; replace hf := hq; clear hq
              cases hf
              have e8 : nc = (((0 + c_3) + c_10) + c_12) := hnc
              have e9 : ns = (((0 + k_3) + k_10) + k_12) := hns
              omega
            refine c1tn_1_valueRead X hl.1 hK hR hS (Nat.le_trans (Nat.le_of_ble_eq_true rfl) hF) (Nat.le_trans (Nat.le_of_ble_eq_true rfl) hLo) (Nat.le_trans hm9.1 hC.1) (Nat.le_trans hm9.2 hC.2) h_12 (cw_rest (Nat.le_of_ble_eq_true rfl)) dX1_stepRead_235 (fun H locs hR hS => ?_)
            obtain ⟨h_13, hq⟩ := ww_gS hf; replace hf := hq; clear hq
            refine c1s_5 X hK hR hS h_13 dX1_stepRead_238 (fun H locs hR hS => ?_)
            refine lv_goto (tgt := 351) hx hb dX1_stepRead_239 (by decide) ?_
            exact hend dX1_stepRead_351 hf hR hS
          refine lv_icmp_ne (tgt := 213) hx hb dX1_stepRead_206 (by decide) (fun c_14 => ?_) (fun c_14 => ?_)
          · replace hf := ww_in hf c_14
            refine lv_iconst (v := (2 : Int32)) hx hb dX1_stepRead_213 (by decide) ?_
            exact (hj_2 x1 (2 : Int32) hf).2 _ _ _ hR hS (lv_sub hl [0, 1] rfl)
          · replace hf := ww_ip hf c_14
            refine lv_iconst (v := (0 : Int32)) hx hb dX1_stepRead_209 (by decide) ?_
            refine lv_goto (tgt := 214) hx hb dX1_stepRead_210 (by decide) ?_
            exact (hj_2 x1 (0 : Int32) hf).2 _ _ _ hR hS (lv_sub hl [0, 1] rfl)
        replace hf := ww_in hf c_7
        refine ww_by (x3 = 1) (fun c_15 => ?_) (fun c_15 => ?_)
        · replace hf := ww_ip hf c_15
          refine ww_tin (k := 1) (off := 36) (tgt := 188) hx hb dX1_stepRead_152 c_15 (by decide) (by decide) (by decide) (by decide) ?_
          refine lv_aload_n hx hb dX1_stepRead_188 rfl (lv_at hl 0 rfl) ?_
          refine c1g_47 X hK hR dX1_stepRead_189 ?_
          refine lv_iload_n hx hb dX1_stepRead_192 rfl (lv_at hl 1 rfl) ?_
          refine lv_aload_n hx hb dX1_stepRead_193 rfl (lv_at hl 0 rfl) ?_
          refine c1g_43 X hK hR dX1_stepRead_194 ?_
          refine lv_aload_n hx hb dX1_stepRead_197 rfl (lv_at hl 0 rfl) ?_
          refine c1g_131 X hK hR dX1_stepRead_198 ?_
          refine lv_iconst (v := (1 : Int32)) hx hb dX1_stepRead_201 (by decide) ?_
          refine lv_isub hx hb dX1_stepRead_202 ?_
          obtain ⟨h_16, hq⟩ := ww_gS hf; replace hf := hq; clear hq
          refine c1l_2 X hK hR h_16 dX1_stepRead_203 ?_
          refine lv_bipush (v := (116 : Int32)) hx hb dX1_stepRead_204 (by decide) ?_
          have hj_3 : ∀ (t1 : Int32) (t2 : Int32), f1_stepRead_j3 D_6 (0 + c_3) (0 + k_3) x1 t1 t2 = some z → ((0 + c_3) ≤ nc ∧ (0 + k_3) ≤ ns) ∧ (∀ (H : Heap) (locs : List Loc) (ls : Array Slot), cw_H E A D_6 H → va_S A s.heap H locs → lv_has ls 4 [(0, .ref E.1.1), (1, .int x1)] → W p l e Rm s m args below meth c H locs (0 + c_3) (0 + k_3) Q (F0 m 214 ls [.int t2, .int t1, .ref (E.1.2.1 5)])) := by
            clear hf
            intro t1 t2 hf
            unfold f1_stepRead_j3 at hf
            have hm9 : (0 + c_3) ≤ nc ∧ (0 + k_3) ≤ ns := by
              obtain ⟨h_17, hq⟩ := ww_gS hf; replace hf := hq; clear hq
              rcases ww_tS hf with ⟨D_18, c_18, k_18, h_18, hq⟩ | ⟨r_18, D_18, c_18, k_18, h_18, hq⟩
              · replace hf := hq
                clear hq
                cases hf
                have e8 : nc = ((0 + c_3) + c_18) := hnc
                have e9 : ns = ((0 + k_3) + k_18) := hns
                omega
              replace hf := hq
              clear hq
              obtain ⟨h_19, hq⟩ := ww_gS hf; replace hf := hq; clear hq
              rcases ww_tS hf with ⟨D_20, c_20, k_20, h_20, hq⟩ | ⟨r_20, D_20, c_20, k_20, h_20, hq⟩
              · replace hf := hq
                clear hq
                cases hf
                have e8 : nc = (((0 + c_3) + c_18) + c_20) := hnc
                have e9 : ns = (((0 + k_3) + k_18) + k_20) := hns
                omega
              replace hf := hq
              clear hq
              obtain ⟨h_21, hq⟩ := ww_gS hf; replace hf := hq; clear hq
              cases hf
              have e8 : nc = (((0 + c_3) + c_18) + c_20) := hnc
              have e9 : ns = (((0 + k_3) + k_18) + k_20) := hns
              omega
            refine ⟨hm9, ?_⟩
            try clear hl
            try clear hS
            try clear hR
            intro H locs ls hR hS hl
            obtain ⟨h_17, hq⟩ := ww_gS hf; replace hf := hq; clear hq
            refine c1s_5 X hK hR hS h_17 dX1_stepRead_214 (fun H locs hR hS => ?_)
            refine lv_aload_n hx hb dX1_stepRead_215 rfl (lv_at hl 0 rfl) ?_
            refine c1g_47 X hK hR dX1_stepRead_216 ?_
            refine lv_iload_n hx hb dX1_stepRead_219 rfl (lv_at hl 1 rfl) ?_
            refine lv_iconst (v := (1 : Int32)) hx hb dX1_stepRead_220 (by decide) ?_
            refine lv_iadd hx hb dX1_stepRead_221 ?_
            refine lv_aload_n hx hb dX1_stepRead_222 rfl (lv_at hl 0 rfl) ?_
            rcases ww_tS hf with ⟨D_18, c_18, k_18, h_18, hq⟩ | ⟨r_18, D_18, c_18, k_18, h_18, hq⟩
            · replace hf := hq
              clear hq
              have hm9 : ((0 + c_3) + c_18) ≤ nc ∧ ((0 + k_3) + k_18) ≤ ns := by
                cases hf
                have e8 : nc = ((0 + c_3) + c_18) := hnc
                have e9 : ns = ((0 + k_3) + k_18) := hns
                omega
              refine c1tx_1_keyRead X hl.1 hK hR hS (Nat.le_trans (Nat.le_of_ble_eq_true rfl) hF) (Nat.le_trans (Nat.le_of_ble_eq_true rfl) hLo) (Nat.le_trans hm9.1 hC.1) (Nat.le_trans hm9.2 hC.2) h_18 (cw_rest (Nat.le_of_ble_eq_true rfl)) dX1_stepRead_223 (fun q9 ce9 H locs hR hS hce hcv hcl => ?_)
              exact hendX hf hR hS hce hcv hcl
            replace hf := hq
            clear hq
            have hm9 : ((0 + c_3) + c_18) ≤ nc ∧ ((0 + k_3) + k_18) ≤ ns := by
              obtain ⟨h_19, hq⟩ := ww_gS hf; replace hf := hq; clear hq
              rcases ww_tS hf with ⟨D_20, c_20, k_20, h_20, hq⟩ | ⟨r_20, D_20, c_20, k_20, h_20, hq⟩
              · replace hf := hq
                clear hq
                cases hf
                have e8 : nc = (((0 + c_3) + c_18) + c_20) := hnc
                have e9 : ns = (((0 + k_3) + k_18) + k_20) := hns
                omega
              replace hf := hq
              clear hq
              obtain ⟨h_21, hq⟩ := ww_gS hf; replace hf := hq; clear hq
              cases hf
              have e8 : nc = (((0 + c_3) + c_18) + c_20) := hnc
              have e9 : ns = (((0 + k_3) + k_18) + k_20) := hns
              omega
            refine c1tn_1_keyRead X hl.1 hK hR hS (Nat.le_trans (Nat.le_of_ble_eq_true rfl) hF) (Nat.le_trans (Nat.le_of_ble_eq_true rfl) hLo) (Nat.le_trans hm9.1 hC.1) (Nat.le_trans hm9.2 hC.2) h_18 (cw_rest (Nat.le_of_ble_eq_true rfl)) dX1_stepRead_223 (fun H locs hR hS => ?_)
            obtain ⟨h_19, hq⟩ := ww_gS hf; replace hf := hq; clear hq
            refine c1s_5 X hK hR hS h_19 dX1_stepRead_226 (fun H locs hR hS => ?_)
            refine lv_aload_n hx hb dX1_stepRead_227 rfl (lv_at hl 0 rfl) ?_
            refine c1g_47 X hK hR dX1_stepRead_228 ?_
            refine lv_iload_n hx hb dX1_stepRead_231 rfl (lv_at hl 1 rfl) ?_
            refine lv_iconst (v := (2 : Int32)) hx hb dX1_stepRead_232 (by decide) ?_
            refine lv_iadd hx hb dX1_stepRead_233 ?_
            refine lv_aload_n hx hb dX1_stepRead_234 rfl (lv_at hl 0 rfl) ?_
            rcases ww_tS hf with ⟨D_20, c_20, k_20, h_20, hq⟩ | ⟨r_20, D_20, c_20, k_20, h_20, hq⟩
            · replace hf := hq
              clear hq
              have hm9 : (((0 + c_3) + c_18) + c_20) ≤ nc ∧ (((0 + k_3) + k_18) + k_20) ≤ ns := by
                cases hf
                have e8 : nc = (((0 + c_3) + c_18) + c_20) := hnc
                have e9 : ns = (((0 + k_3) + k_18) + k_20) := hns
                omega
              refine c1tx_1_valueRead X hl.1 hK hR hS (Nat.le_trans (Nat.le_of_ble_eq_true rfl) hF) (Nat.le_trans (Nat.le_of_ble_eq_true rfl) hLo) (Nat.le_trans hm9.1 hC.1) (Nat.le_trans hm9.2 hC.2) h_20 (cw_rest (Nat.le_of_ble_eq_true rfl)) dX1_stepRead_235 (fun q9 ce9 H locs hR hS hce hcv hcl => ?_)
              exact hendX hf hR hS hce hcv hcl
            replace hf := hq
            clear hq
            have hm9 : (((0 + c_3) + c_18) + c_20) ≤ nc ∧ (((0 + k_3) + k_18) + k_20) ≤ ns := by
              obtain ⟨h_21, hq⟩ := ww_gS hf; replace hf := hq; clear hq
              cases hf
              have e8 : nc = (((0 + c_3) + c_18) + c_20) := hnc
              have e9 : ns = (((0 + k_3) + k_18) + k_20) := hns
              omega
            refine c1tn_1_valueRead X hl.1 hK hR hS (Nat.le_trans (Nat.le_of_ble_eq_true rfl) hF) (Nat.le_trans (Nat.le_of_ble_eq_true rfl) hLo) (Nat.le_trans hm9.1 hC.1) (Nat.le_trans hm9.2 hC.2) h_20 (cw_rest (Nat.le_of_ble_eq_true rfl)) dX1_stepRead_235 (fun H locs hR hS => ?_)
            obtain ⟨h_21, hq⟩ := ww_gS hf; replace hf := hq; clear hq
            refine c1s_5 X hK hR hS h_21 dX1_stepRead_238 (fun H locs hR hS => ?_)
            refine lv_goto (tgt := 351) hx hb dX1_stepRead_239 (by decide) ?_
            exact hend dX1_stepRead_351 hf hR hS
          refine lv_icmp_ne (tgt := 213) hx hb dX1_stepRead_206 (by decide) (fun c_22 => ?_) (fun c_22 => ?_)
          · replace hf := ww_in hf c_22
            refine lv_iconst (v := (2 : Int32)) hx hb dX1_stepRead_213 (by decide) ?_
            exact (hj_3 x1 (2 : Int32) hf).2 _ _ _ hR hS (lv_sub hl [0, 1] rfl)
          · replace hf := ww_ip hf c_22
            refine lv_iconst (v := (0 : Int32)) hx hb dX1_stepRead_209 (by decide) ?_
            refine lv_goto (tgt := 214) hx hb dX1_stepRead_210 (by decide) ?_
            exact (hj_3 x1 (0 : Int32) hf).2 _ _ _ hR hS (lv_sub hl [0, 1] rfl)
        replace hf := ww_in hf c_15
        refine ww_by (x3 = 2) (fun c_23 => ?_) (fun c_23 => ?_)
        · replace hf := ww_ip hf c_23
          refine ww_tin (k := 2) (off := 90) (tgt := 242) hx hb dX1_stepRead_152 c_23 (by decide) (by decide) (by decide) (by decide) ?_
          refine lv_aload_n hx hb dX1_stepRead_242 rfl (lv_at hl 0 rfl) ?_
          refine c1g_47 X hK hR dX1_stepRead_243 ?_
          refine lv_iload_n hx hb dX1_stepRead_246 rfl (lv_at hl 1 rfl) ?_
          refine lv_iconst (v := (1 : Int32)) hx hb dX1_stepRead_247 (by decide) ?_
          obtain ⟨h_24, hq⟩ := ww_gS hf; replace hf := hq; clear hq
          refine c1s_5 X hK hR hS h_24 dX1_stepRead_248 (fun H locs hR hS => ?_)
          refine lv_aload_n hx hb dX1_stepRead_249 rfl (lv_at hl 0 rfl) ?_
          refine c1g_47 X hK hR dX1_stepRead_250 ?_
          refine lv_iload_n hx hb dX1_stepRead_253 rfl (lv_at hl 1 rfl) ?_
          refine lv_iconst (v := (1 : Int32)) hx hb dX1_stepRead_254 (by decide) ?_
          refine lv_iadd hx hb dX1_stepRead_255 ?_
          refine lv_aload_n hx hb dX1_stepRead_256 rfl (lv_at hl 0 rfl) ?_
          rcases ww_tS hf with ⟨D_25, c_25, k_25, h_25, hq⟩ | ⟨r_25, D_25, c_25, k_25, h_25, hq⟩
          · replace hf := hq
            clear hq
            have hm9 : ((0 + c_3) + c_25) ≤ nc ∧ ((0 + k_3) + k_25) ≤ ns := by
              cases hf
              have e8 : nc = ((0 + c_3) + c_25) := hnc
              have e9 : ns = ((0 + k_3) + k_25) := hns
              omega
            refine c1tx_1_keyRead X hl.1 hK hR hS (Nat.le_trans (Nat.le_of_ble_eq_true rfl) hF) (Nat.le_trans (Nat.le_of_ble_eq_true rfl) hLo) (Nat.le_trans hm9.1 hC.1) (Nat.le_trans hm9.2 hC.2) h_25 (cw_rest (Nat.le_of_ble_eq_true rfl)) dX1_stepRead_257 (fun q9 ce9 H locs hR hS hce hcv hcl => ?_)
            exact hendX hf hR hS hce hcv hcl
          replace hf := hq
          clear hq
          have hm9 : ((0 + c_3) + c_25) ≤ nc ∧ ((0 + k_3) + k_25) ≤ ns := by
            obtain ⟨h_26, hq⟩ := ww_gS hf; replace hf := hq; clear hq
            cases hf
            have e8 : nc = ((0 + c_3) + c_25) := hnc
            have e9 : ns = ((0 + k_3) + k_25) := hns
            omega
          refine c1tn_1_keyRead X hl.1 hK hR hS (Nat.le_trans (Nat.le_of_ble_eq_true rfl) hF) (Nat.le_trans (Nat.le_of_ble_eq_true rfl) hLo) (Nat.le_trans hm9.1 hC.1) (Nat.le_trans hm9.2 hC.2) h_25 (cw_rest (Nat.le_of_ble_eq_true rfl)) dX1_stepRead_257 (fun H locs hR hS => ?_)
          obtain ⟨h_26, hq⟩ := ww_gS hf; replace hf := hq; clear hq
          refine c1s_5 X hK hR hS h_26 dX1_stepRead_260 (fun H locs hR hS => ?_)
          refine lv_goto (tgt := 351) hx hb dX1_stepRead_261 (by decide) ?_
          exact hend dX1_stepRead_351 hf hR hS
        replace hf := ww_in hf c_23
        refine ww_by (x3 = 3) (fun c_27 => ?_) (fun c_27 => ?_)
        · replace hf := ww_ip hf c_27
          refine ww_tin (k := 3) (off := 112) (tgt := 264) hx hb dX1_stepRead_152 c_27 (by decide) (by decide) (by decide) (by decide) ?_
          refine lv_aload_n hx hb dX1_stepRead_264 rfl (lv_at hl 0 rfl) ?_
          refine c1g_47 X hK hR dX1_stepRead_265 ?_
          refine lv_iload_n hx hb dX1_stepRead_268 rfl (lv_at hl 1 rfl) ?_
          refine lv_iconst (v := (3 : Int32)) hx hb dX1_stepRead_269 (by decide) ?_
          obtain ⟨h_28, hq⟩ := ww_gS hf; replace hf := hq; clear hq
          refine c1s_5 X hK hR hS h_28 dX1_stepRead_270 (fun H locs hR hS => ?_)
          refine lv_aload_n hx hb dX1_stepRead_271 rfl (lv_at hl 0 rfl) ?_
          refine c1g_47 X hK hR dX1_stepRead_272 ?_
          refine lv_iload_n hx hb dX1_stepRead_275 rfl (lv_at hl 1 rfl) ?_
          refine lv_iconst (v := (1 : Int32)) hx hb dX1_stepRead_276 (by decide) ?_
          refine lv_iadd hx hb dX1_stepRead_277 ?_
          refine lv_aload_n hx hb dX1_stepRead_278 rfl (lv_at hl 0 rfl) ?_
          rcases ww_tS hf with ⟨D_29, c_29, k_29, h_29, hq⟩ | ⟨r_29, D_29, c_29, k_29, h_29, hq⟩
          · replace hf := hq
            clear hq
            have hm9 : ((0 + c_3) + c_29) ≤ nc ∧ ((0 + k_3) + k_29) ≤ ns := by
              cases hf
              have e8 : nc = ((0 + c_3) + c_29) := hnc
              have e9 : ns = ((0 + k_3) + k_29) := hns
              omega
            refine c1tx_1_keyRead X hl.1 hK hR hS (Nat.le_trans (Nat.le_of_ble_eq_true rfl) hF) (Nat.le_trans (Nat.le_of_ble_eq_true rfl) hLo) (Nat.le_trans hm9.1 hC.1) (Nat.le_trans hm9.2 hC.2) h_29 (cw_rest (Nat.le_of_ble_eq_true rfl)) dX1_stepRead_279 (fun q9 ce9 H locs hR hS hce hcv hcl => ?_)
            exact hendX hf hR hS hce hcv hcl
          replace hf := hq
          clear hq
          have hm9 : ((0 + c_3) + c_29) ≤ nc ∧ ((0 + k_3) + k_29) ≤ ns := by
            obtain ⟨h_30, hq⟩ := ww_gS hf; replace hf := hq; clear hq
            rcases ww_tS hf with ⟨D_31, c_31, k_31, h_31, hq⟩ | ⟨r_31, D_31, c_31, k_31, h_31, hq⟩
            · replace hf := hq
              clear hq
              cases hf
              have e8 : nc = (((0 + c_3) + c_29) + c_31) := hnc
              have e9 : ns = (((0 + k_3) + k_29) + k_31) := hns
              omega
            replace hf := hq
            clear hq
            obtain ⟨h_32, hq⟩ := ww_gS hf; replace hf := hq; clear hq
            cases hf
            have e8 : nc = (((0 + c_3) + c_29) + c_31) := hnc
            have e9 : ns = (((0 + k_3) + k_29) + k_31) := hns
            omega
          refine c1tn_1_keyRead X hl.1 hK hR hS (Nat.le_trans (Nat.le_of_ble_eq_true rfl) hF) (Nat.le_trans (Nat.le_of_ble_eq_true rfl) hLo) (Nat.le_trans hm9.1 hC.1) (Nat.le_trans hm9.2 hC.2) h_29 (cw_rest (Nat.le_of_ble_eq_true rfl)) dX1_stepRead_279 (fun H locs hR hS => ?_)
          obtain ⟨h_30, hq⟩ := ww_gS hf; replace hf := hq; clear hq
          refine c1s_5 X hK hR hS h_30 dX1_stepRead_282 (fun H locs hR hS => ?_)
          refine lv_aload_n hx hb dX1_stepRead_283 rfl (lv_at hl 0 rfl) ?_
          refine c1g_47 X hK hR dX1_stepRead_284 ?_
          refine lv_iload_n hx hb dX1_stepRead_287 rfl (lv_at hl 1 rfl) ?_
          refine lv_iconst (v := (2 : Int32)) hx hb dX1_stepRead_288 (by decide) ?_
          refine lv_iadd hx hb dX1_stepRead_289 ?_
          refine lv_aload_n hx hb dX1_stepRead_290 rfl (lv_at hl 0 rfl) ?_
          rcases ww_tS hf with ⟨D_31, c_31, k_31, h_31, hq⟩ | ⟨r_31, D_31, c_31, k_31, h_31, hq⟩
          · replace hf := hq
            clear hq
            have hm9 : (((0 + c_3) + c_29) + c_31) ≤ nc ∧ (((0 + k_3) + k_29) + k_31) ≤ ns := by
              cases hf
              have e8 : nc = (((0 + c_3) + c_29) + c_31) := hnc
              have e9 : ns = (((0 + k_3) + k_29) + k_31) := hns
              omega
            refine c1tx_1_keyRead X hl.1 hK hR hS (Nat.le_trans (Nat.le_of_ble_eq_true rfl) hF) (Nat.le_trans (Nat.le_of_ble_eq_true rfl) hLo) (Nat.le_trans hm9.1 hC.1) (Nat.le_trans hm9.2 hC.2) h_31 (cw_rest (Nat.le_of_ble_eq_true rfl)) dX1_stepRead_291 (fun q9 ce9 H locs hR hS hce hcv hcl => ?_)
            exact hendX hf hR hS hce hcv hcl
          replace hf := hq
          clear hq
          have hm9 : (((0 + c_3) + c_29) + c_31) ≤ nc ∧ (((0 + k_3) + k_29) + k_31) ≤ ns := by
            obtain ⟨h_32, hq⟩ := ww_gS hf; replace hf := hq; clear hq
            cases hf
            have e8 : nc = (((0 + c_3) + c_29) + c_31) := hnc
            have e9 : ns = (((0 + k_3) + k_29) + k_31) := hns
            omega
          refine c1tn_1_keyRead X hl.1 hK hR hS (Nat.le_trans (Nat.le_of_ble_eq_true rfl) hF) (Nat.le_trans (Nat.le_of_ble_eq_true rfl) hLo) (Nat.le_trans hm9.1 hC.1) (Nat.le_trans hm9.2 hC.2) h_31 (cw_rest (Nat.le_of_ble_eq_true rfl)) dX1_stepRead_291 (fun H locs hR hS => ?_)
          obtain ⟨h_32, hq⟩ := ww_gS hf; replace hf := hq; clear hq
          refine c1s_5 X hK hR hS h_32 dX1_stepRead_294 (fun H locs hR hS => ?_)
          refine lv_goto (tgt := 351) hx hb dX1_stepRead_295 (by decide) ?_
          exact hend dX1_stepRead_351 hf hR hS
        replace hf := ww_in hf c_27
        refine ww_by (x3 = 4) (fun c_33 => ?_) (fun c_33 => ?_)
        · replace hf := ww_ip hf c_33
          refine ww_tin (k := 4) (off := 146) (tgt := 298) hx hb dX1_stepRead_152 c_33 (by decide) (by decide) (by decide) (by decide) ?_
          refine lv_aload_n hx hb dX1_stepRead_298 rfl (lv_at hl 0 rfl) ?_
          refine c1g_47 X hK hR dX1_stepRead_299 ?_
          refine lv_iload_n hx hb dX1_stepRead_302 rfl (lv_at hl 1 rfl) ?_
          refine lv_iconst (v := (4 : Int32)) hx hb dX1_stepRead_303 (by decide) ?_
          obtain ⟨h_34, hq⟩ := ww_gS hf; replace hf := hq; clear hq
          refine c1s_5 X hK hR hS h_34 dX1_stepRead_304 (fun H locs hR hS => ?_)
          refine lv_aload_n hx hb dX1_stepRead_305 rfl (lv_at hl 0 rfl) ?_
          refine c1g_47 X hK hR dX1_stepRead_306 ?_
          refine lv_iload_n hx hb dX1_stepRead_309 rfl (lv_at hl 1 rfl) ?_
          refine lv_iconst (v := (1 : Int32)) hx hb dX1_stepRead_310 (by decide) ?_
          refine lv_iadd hx hb dX1_stepRead_311 ?_
          refine lv_aload_n hx hb dX1_stepRead_312 rfl (lv_at hl 0 rfl) ?_
          rcases ww_tS hf with ⟨D_35, c_35, k_35, h_35, hq⟩ | ⟨r_35, D_35, c_35, k_35, h_35, hq⟩
          · replace hf := hq
            clear hq
            have hm9 : ((0 + c_3) + c_35) ≤ nc ∧ ((0 + k_3) + k_35) ≤ ns := by
              cases hf
              have e8 : nc = ((0 + c_3) + c_35) := hnc
              have e9 : ns = ((0 + k_3) + k_35) := hns
              omega
            refine c1tx_1_keyRead X hl.1 hK hR hS (Nat.le_trans (Nat.le_of_ble_eq_true rfl) hF) (Nat.le_trans (Nat.le_of_ble_eq_true rfl) hLo) (Nat.le_trans hm9.1 hC.1) (Nat.le_trans hm9.2 hC.2) h_35 (cw_rest (Nat.le_of_ble_eq_true rfl)) dX1_stepRead_313 (fun q9 ce9 H locs hR hS hce hcv hcl => ?_)
            exact hendX hf hR hS hce hcv hcl
          replace hf := hq
          clear hq
          have hm9 : ((0 + c_3) + c_35) ≤ nc ∧ ((0 + k_3) + k_35) ≤ ns := by
            obtain ⟨h_36, hq⟩ := ww_gS hf; replace hf := hq; clear hq
            rcases ww_tS hf with ⟨D_37, c_37, k_37, h_37, hq⟩ | ⟨r_37, D_37, c_37, k_37, h_37, hq⟩
            · replace hf := hq
              clear hq
              cases hf
              have e8 : nc = (((0 + c_3) + c_35) + c_37) := hnc
              have e9 : ns = (((0 + k_3) + k_35) + k_37) := hns
              omega
            replace hf := hq
            clear hq
            obtain ⟨h_38, hq⟩ := ww_gS hf; replace hf := hq; clear hq
            rcases ww_tS hf with ⟨D_39, c_39, k_39, h_39, hq⟩ | ⟨r_39, D_39, c_39, k_39, h_39, hq⟩
            · replace hf := hq
              clear hq
              cases hf
              have e8 : nc = ((((0 + c_3) + c_35) + c_37) + c_39) := hnc
              have e9 : ns = ((((0 + k_3) + k_35) + k_37) + k_39) := hns
              omega
            replace hf := hq
            clear hq
            obtain ⟨h_40, hq⟩ := ww_gS hf; replace hf := hq; clear hq
            cases hf
            have e8 : nc = ((((0 + c_3) + c_35) + c_37) + c_39) := hnc
            have e9 : ns = ((((0 + k_3) + k_35) + k_37) + k_39) := hns
            omega
          refine c1tn_1_keyRead X hl.1 hK hR hS (Nat.le_trans (Nat.le_of_ble_eq_true rfl) hF) (Nat.le_trans (Nat.le_of_ble_eq_true rfl) hLo) (Nat.le_trans hm9.1 hC.1) (Nat.le_trans hm9.2 hC.2) h_35 (cw_rest (Nat.le_of_ble_eq_true rfl)) dX1_stepRead_313 (fun H locs hR hS => ?_)
          obtain ⟨h_36, hq⟩ := ww_gS hf; replace hf := hq; clear hq
          refine c1s_5 X hK hR hS h_36 dX1_stepRead_316 (fun H locs hR hS => ?_)
          refine lv_aload_n hx hb dX1_stepRead_317 rfl (lv_at hl 0 rfl) ?_
          refine c1g_47 X hK hR dX1_stepRead_318 ?_
          refine lv_iload_n hx hb dX1_stepRead_321 rfl (lv_at hl 1 rfl) ?_
          refine lv_iconst (v := (2 : Int32)) hx hb dX1_stepRead_322 (by decide) ?_
          refine lv_iadd hx hb dX1_stepRead_323 ?_
          refine lv_aload_n hx hb dX1_stepRead_324 rfl (lv_at hl 0 rfl) ?_
          rcases ww_tS hf with ⟨D_37, c_37, k_37, h_37, hq⟩ | ⟨r_37, D_37, c_37, k_37, h_37, hq⟩
          · replace hf := hq
            clear hq
            have hm9 : (((0 + c_3) + c_35) + c_37) ≤ nc ∧ (((0 + k_3) + k_35) + k_37) ≤ ns := by
              cases hf
              have e8 : nc = (((0 + c_3) + c_35) + c_37) := hnc
              have e9 : ns = (((0 + k_3) + k_35) + k_37) := hns
              omega
            refine c1tx_1_keyRead X hl.1 hK hR hS (Nat.le_trans (Nat.le_of_ble_eq_true rfl) hF) (Nat.le_trans (Nat.le_of_ble_eq_true rfl) hLo) (Nat.le_trans hm9.1 hC.1) (Nat.le_trans hm9.2 hC.2) h_37 (cw_rest (Nat.le_of_ble_eq_true rfl)) dX1_stepRead_325 (fun q9 ce9 H locs hR hS hce hcv hcl => ?_)
            exact hendX hf hR hS hce hcv hcl
          replace hf := hq
          clear hq
          have hm9 : (((0 + c_3) + c_35) + c_37) ≤ nc ∧ (((0 + k_3) + k_35) + k_37) ≤ ns := by
            obtain ⟨h_38, hq⟩ := ww_gS hf; replace hf := hq; clear hq
            rcases ww_tS hf with ⟨D_39, c_39, k_39, h_39, hq⟩ | ⟨r_39, D_39, c_39, k_39, h_39, hq⟩
            · replace hf := hq
              clear hq
              cases hf
              have e8 : nc = ((((0 + c_3) + c_35) + c_37) + c_39) := hnc
              have e9 : ns = ((((0 + k_3) + k_35) + k_37) + k_39) := hns
              omega
            replace hf := hq
            clear hq
            obtain ⟨h_40, hq⟩ := ww_gS hf; replace hf := hq; clear hq
            cases hf
            have e8 : nc = ((((0 + c_3) + c_35) + c_37) + c_39) := hnc
            have e9 : ns = ((((0 + k_3) + k_35) + k_37) + k_39) := hns
            omega
          refine c1tn_1_keyRead X hl.1 hK hR hS (Nat.le_trans (Nat.le_of_ble_eq_true rfl) hF) (Nat.le_trans (Nat.le_of_ble_eq_true rfl) hLo) (Nat.le_trans hm9.1 hC.1) (Nat.le_trans hm9.2 hC.2) h_37 (cw_rest (Nat.le_of_ble_eq_true rfl)) dX1_stepRead_325 (fun H locs hR hS => ?_)
          obtain ⟨h_38, hq⟩ := ww_gS hf; replace hf := hq; clear hq
          refine c1s_5 X hK hR hS h_38 dX1_stepRead_328 (fun H locs hR hS => ?_)
          refine lv_aload_n hx hb dX1_stepRead_329 rfl (lv_at hl 0 rfl) ?_
          refine c1g_47 X hK hR dX1_stepRead_330 ?_
          refine lv_iload_n hx hb dX1_stepRead_333 rfl (lv_at hl 1 rfl) ?_
          refine lv_iconst (v := (3 : Int32)) hx hb dX1_stepRead_334 (by decide) ?_
          refine lv_iadd hx hb dX1_stepRead_335 ?_
          refine lv_aload_n hx hb dX1_stepRead_336 rfl (lv_at hl 0 rfl) ?_
          rcases ww_tS hf with ⟨D_39, c_39, k_39, h_39, hq⟩ | ⟨r_39, D_39, c_39, k_39, h_39, hq⟩
          · replace hf := hq
            clear hq
            have hm9 : ((((0 + c_3) + c_35) + c_37) + c_39) ≤ nc ∧ ((((0 + k_3) + k_35) + k_37) + k_39) ≤ ns := by
              cases hf
              have e8 : nc = ((((0 + c_3) + c_35) + c_37) + c_39) := hnc
              have e9 : ns = ((((0 + k_3) + k_35) + k_37) + k_39) := hns
              omega
            refine c1tx_1_valueRead X hl.1 hK hR hS (Nat.le_trans (Nat.le_of_ble_eq_true rfl) hF) (Nat.le_trans (Nat.le_of_ble_eq_true rfl) hLo) (Nat.le_trans hm9.1 hC.1) (Nat.le_trans hm9.2 hC.2) h_39 (cw_rest (Nat.le_of_ble_eq_true rfl)) dX1_stepRead_337 (fun q9 ce9 H locs hR hS hce hcv hcl => ?_)
            exact hendX hf hR hS hce hcv hcl
          replace hf := hq
          clear hq
          have hm9 : ((((0 + c_3) + c_35) + c_37) + c_39) ≤ nc ∧ ((((0 + k_3) + k_35) + k_37) + k_39) ≤ ns := by
            obtain ⟨h_40, hq⟩ := ww_gS hf; replace hf := hq; clear hq
            cases hf
            have e8 : nc = ((((0 + c_3) + c_35) + c_37) + c_39) := hnc
            have e9 : ns = ((((0 + k_3) + k_35) + k_37) + k_39) := hns
            omega
          refine c1tn_1_valueRead X hl.1 hK hR hS (Nat.le_trans (Nat.le_of_ble_eq_true rfl) hF) (Nat.le_trans (Nat.le_of_ble_eq_true rfl) hLo) (Nat.le_trans hm9.1 hC.1) (Nat.le_trans hm9.2 hC.2) h_39 (cw_rest (Nat.le_of_ble_eq_true rfl)) dX1_stepRead_337 (fun H locs hR hS => ?_)
          obtain ⟨h_40, hq⟩ := ww_gS hf; replace hf := hq; clear hq
          refine c1s_5 X hK hR hS h_40 dX1_stepRead_340 (fun H locs hR hS => ?_)
          refine lv_goto (tgt := 351) hx hb dX1_stepRead_341 (by decide) ?_
          exact hend dX1_stepRead_351 hf hR hS
        replace hf := ww_in hf c_33
        refine ww_tout (tgt := 344) [0, 1, 2, 3, 4] hx hb dX1_stepRead_152 ⟨c_7, c_15, c_23, c_27, c_33, trivial⟩ (by decide) (by decide) ?_
        refine lv_aload_n hx hb dX1_stepRead_344 rfl (lv_at hl 0 rfl) ?_
        refine c1g_47 X hK hR dX1_stepRead_345 ?_
        refine lv_iload_n hx hb dX1_stepRead_348 rfl (lv_at hl 1 rfl) ?_
        refine lv_iconst (v := (5 : Int32)) hx hb dX1_stepRead_349 (by decide) ?_
        obtain ⟨h_41, hq⟩ := ww_gS hf; replace hf := hq; clear hq
        refine c1s_5 X hK hR hS h_41 dX1_stepRead_350 (fun H locs hR hS => ?_)
        exact hend dX1_stepRead_351 hf hR hS
      refine ww_by (r_6 = 96417) (fun c_42 => ?_) (fun c_42 => ?_)
      · replace hf := ww_ip hf c_42
        refine ww_lin (k := 96417) (off := 64) (tgt := 98) hx hb dX1_stepRead_34 c_42 (by decide) (by decide) (by decide) ?_
        refine lv_aload_n hx hb dX1_stepRead_98 rfl (lv_at hl 1 rfl) ?_
        obtain ⟨r_43, h_43, hq⟩ := ww_bS hf; replace hf := hq; clear hq
        refine cw_ldcS (j := 102) (tx := "add") X hK hR (by decide +kernel) (by decide) h_43 dX1_stepRead_99 ?_
        obtain ⟨h_44, hq⟩ := ww_gS hf; replace hf := hq; clear hq
        obtain ⟨r_45, h_45, hq⟩ := ww_bS hf; replace hf := hq; clear hq
        refine c1c_J4_equals (x1 := r_43) X hl.1 hK hR hS (Nat.le_trans (Nat.le_of_ble_eq_true rfl) hF) (Nat.le_trans (Nat.le_of_ble_eq_true rfl) hLo) (Nat.le_trans hm9.1 hC.1) (Nat.le_trans hm9.2 hC.2) h_44 h_45 (cw_rest (Nat.le_of_ble_eq_true rfl)) dX1_stepRead_101 (fun H locs hR hS => ?_)
        refine lv_if_eq (tgt := 151) hx hb dX1_stepRead_104 (by decide) (fun c_46 => ?_) (fun c_46 => ?_)
        · replace hf := ww_ip hf c_46
          exact (hj_1 (-1 : Int32) hf).2 _ _ _ hR hS (lv_sub hl [2, 3, 0] rfl)
        · replace hf := ww_in hf c_46
          refine lv_iconst (v := (1 : Int32)) hx hb dX1_stepRead_107 (by decide) ?_
          refine lv_istore_n (lv' := [(3, .int (1 : Int32)), (2, .ref a_4), (0, .ref E.1.1), (1, .int x1)]) hx hb dX1_stepRead_108 rfl hl (by decide) rfl (fun ls hl => ?_)
          refine lv_goto (tgt := 151) hx hb dX1_stepRead_109 (by decide) ?_
          exact (hj_1 (1 : Int32) hf).2 _ _ _ hR hS (lv_sub hl [2, 3, 0] rfl)
      replace hf := ww_in hf c_42
      refine ww_by (r_6 = 98882) (fun c_47 => ?_) (fun c_47 => ?_)
      · replace hf := ww_ip hf c_47
        refine ww_lin (k := 98882) (off := 92) (tgt := 126) hx hb dX1_stepRead_34 c_47 (by decide) (by decide) (by decide) ?_
        refine lv_aload_n hx hb dX1_stepRead_126 rfl (lv_at hl 1 rfl) ?_
        obtain ⟨r_48, h_48, hq⟩ := ww_bS hf; replace hf := hq; clear hq
        refine cw_ldcS (j := 103) (tx := "cut") X hK hR (by decide +kernel) (by decide) h_48 dX1_stepRead_127 ?_
        obtain ⟨h_49, hq⟩ := ww_gS hf; replace hf := hq; clear hq
        obtain ⟨r_50, h_50, hq⟩ := ww_bS hf; replace hf := hq; clear hq
        refine c1c_J4_equals (x1 := r_48) X hl.1 hK hR hS (Nat.le_trans (Nat.le_of_ble_eq_true rfl) hF) (Nat.le_trans (Nat.le_of_ble_eq_true rfl) hLo) (Nat.le_trans hm9.1 hC.1) (Nat.le_trans hm9.2 hC.2) h_49 h_50 (cw_rest (Nat.le_of_ble_eq_true rfl)) dX1_stepRead_129 (fun H locs hR hS => ?_)
        refine lv_if_eq (tgt := 151) hx hb dX1_stepRead_132 (by decide) (fun c_51 => ?_) (fun c_51 => ?_)
        · replace hf := ww_ip hf c_51
          exact (hj_1 (-1 : Int32) hf).2 _ _ _ hR hS (lv_sub hl [2, 3, 0] rfl)
        · replace hf := ww_in hf c_51
          refine lv_iconst (v := (3 : Int32)) hx hb dX1_stepRead_135 (by decide) ?_
          refine lv_istore_n (lv' := [(3, .int (3 : Int32)), (2, .ref a_4), (0, .ref E.1.1), (1, .int x1)]) hx hb dX1_stepRead_136 rfl hl (by decide) rfl (fun ls hl => ?_)
          refine lv_goto (tgt := 151) hx hb dX1_stepRead_137 (by decide) ?_
          exact (hj_1 (3 : Int32) hf).2 _ _ _ hR hS (lv_sub hl [2, 3, 0] rfl)
      replace hf := ww_in hf c_47
      refine ww_by (r_6 = 99339) (fun c_52 => ?_) (fun c_52 => ?_)
      · replace hf := ww_ip hf c_52
        refine ww_lin (k := 99339) (off := 78) (tgt := 112) hx hb dX1_stepRead_34 c_52 (by decide) (by decide) (by decide) ?_
        refine lv_aload_n hx hb dX1_stepRead_112 rfl (lv_at hl 1 rfl) ?_
        obtain ⟨r_53, h_53, hq⟩ := ww_bS hf; replace hf := hq; clear hq
        refine cw_ldcS (j := 101) (tx := "del") X hK hR (by decide +kernel) (by decide) h_53 dX1_stepRead_113 ?_
        obtain ⟨h_54, hq⟩ := ww_gS hf; replace hf := hq; clear hq
        obtain ⟨r_55, h_55, hq⟩ := ww_bS hf; replace hf := hq; clear hq
        refine c1c_J4_equals (x1 := r_53) X hl.1 hK hR hS (Nat.le_trans (Nat.le_of_ble_eq_true rfl) hF) (Nat.le_trans (Nat.le_of_ble_eq_true rfl) hLo) (Nat.le_trans hm9.1 hC.1) (Nat.le_trans hm9.2 hC.2) h_54 h_55 (cw_rest (Nat.le_of_ble_eq_true rfl)) dX1_stepRead_115 (fun H locs hR hS => ?_)
        refine lv_if_eq (tgt := 151) hx hb dX1_stepRead_118 (by decide) (fun c_56 => ?_) (fun c_56 => ?_)
        · replace hf := ww_ip hf c_56
          exact (hj_1 (-1 : Int32) hf).2 _ _ _ hR hS (lv_sub hl [2, 3, 0] rfl)
        · replace hf := ww_in hf c_56
          refine lv_iconst (v := (2 : Int32)) hx hb dX1_stepRead_121 (by decide) ?_
          refine lv_istore_n (lv' := [(3, .int (2 : Int32)), (2, .ref a_4), (0, .ref E.1.1), (1, .int x1)]) hx hb dX1_stepRead_122 rfl hl (by decide) rfl (fun ls hl => ?_)
          refine lv_goto (tgt := 151) hx hb dX1_stepRead_123 (by decide) ?_
          exact (hj_1 (2 : Int32) hf).2 _ _ _ hR hS (lv_sub hl [2, 3, 0] rfl)
      replace hf := ww_in hf c_52
      refine ww_by (r_6 = 104414) (fun c_57 => ?_) (fun c_57 => ?_)
      · replace hf := ww_ip hf c_57
        refine ww_lin (k := 104414) (off := 106) (tgt := 140) hx hb dX1_stepRead_34 c_57 (by decide) (by decide) (by decide) ?_
        refine lv_aload_n hx hb dX1_stepRead_140 rfl (lv_at hl 1 rfl) ?_
        obtain ⟨r_58, h_58, hq⟩ := ww_bS hf; replace hf := hq; clear hq
        refine cw_ldcS (j := 104) (tx := "inc") X hK hR (by decide +kernel) (by decide) h_58 dX1_stepRead_141 ?_
        obtain ⟨h_59, hq⟩ := ww_gS hf; replace hf := hq; clear hq
        obtain ⟨r_60, h_60, hq⟩ := ww_bS hf; replace hf := hq; clear hq
        refine c1c_J4_equals (x1 := r_58) X hl.1 hK hR hS (Nat.le_trans (Nat.le_of_ble_eq_true rfl) hF) (Nat.le_trans (Nat.le_of_ble_eq_true rfl) hLo) (Nat.le_trans hm9.1 hC.1) (Nat.le_trans hm9.2 hC.2) h_59 h_60 (cw_rest (Nat.le_of_ble_eq_true rfl)) dX1_stepRead_143 (fun H locs hR hS => ?_)
        refine lv_if_eq (tgt := 151) hx hb dX1_stepRead_146 (by decide) (fun c_61 => ?_) (fun c_61 => ?_)
        · replace hf := ww_ip hf c_61
          exact (hj_1 (-1 : Int32) hf).2 _ _ _ hR hS (lv_sub hl [2, 3, 0] rfl)
        · replace hf := ww_in hf c_61
          refine lv_iconst (v := (4 : Int32)) hx hb dX1_stepRead_149 (by decide) ?_
          refine lv_istore_n (lv' := [(3, .int (4 : Int32)), (2, .ref a_4), (0, .ref E.1.1), (1, .int x1)]) hx hb dX1_stepRead_150 rfl hl (by decide) rfl (fun ls hl => ?_)
          exact (hj_1 (4 : Int32) hf).2 _ _ _ hR hS (lv_sub hl [2, 3, 0] rfl)
      replace hf := ww_in hf c_57
      refine ww_by (r_6 = 111375) (fun c_62 => ?_) (fun c_62 => ?_)
      · replace hf := ww_ip hf c_62
        refine ww_lin (k := 111375) (off := 50) (tgt := 84) hx hb dX1_stepRead_34 c_62 (by decide) (by decide) (by decide) ?_
        refine lv_aload_n hx hb dX1_stepRead_84 rfl (lv_at hl 1 rfl) ?_
        obtain ⟨r_63, h_63, hq⟩ := ww_bS hf; replace hf := hq; clear hq
        refine cw_ldcS (j := 100) (tx := "put") X hK hR (by decide +kernel) (by decide) h_63 dX1_stepRead_85 ?_
        obtain ⟨h_64, hq⟩ := ww_gS hf; replace hf := hq; clear hq
        obtain ⟨r_65, h_65, hq⟩ := ww_bS hf; replace hf := hq; clear hq
        refine c1c_J4_equals (x1 := r_63) X hl.1 hK hR hS (Nat.le_trans (Nat.le_of_ble_eq_true rfl) hF) (Nat.le_trans (Nat.le_of_ble_eq_true rfl) hLo) (Nat.le_trans hm9.1 hC.1) (Nat.le_trans hm9.2 hC.2) h_64 h_65 (cw_rest (Nat.le_of_ble_eq_true rfl)) dX1_stepRead_87 (fun H locs hR hS => ?_)
        refine lv_if_eq (tgt := 151) hx hb dX1_stepRead_90 (by decide) (fun c_66 => ?_) (fun c_66 => ?_)
        · replace hf := ww_ip hf c_66
          exact (hj_1 (-1 : Int32) hf).2 _ _ _ hR hS (lv_sub hl [2, 3, 0] rfl)
        · replace hf := ww_in hf c_66
          refine lv_iconst (v := (0 : Int32)) hx hb dX1_stepRead_93 (by decide) ?_
          refine lv_istore_n (lv' := [(3, .int (0 : Int32)), (2, .ref a_4), (0, .ref E.1.1), (1, .int x1)]) hx hb dX1_stepRead_94 rfl hl (by decide) rfl (fun ls hl => ?_)
          refine lv_goto (tgt := 151) hx hb dX1_stepRead_95 (by decide) ?_
          exact (hj_1 (0 : Int32) hf).2 _ _ _ hR hS (lv_sub hl [2, 3, 0] rfl)
      replace hf := ww_in hf c_62
      refine ww_lout (tgt := 151) [96417, 98882, 99339, 104414, 111375] hx hb dX1_stepRead_34 ⟨c_42, c_47, c_52, c_57, c_62, trivial⟩ (by decide) (by decide) (by decide) ?_
      exact (hj_1 (-1 : Int32) hf).2 _ _ _ hR hS (lv_sub hl [2, 3, 0] rfl)
    · replace hf := ww_in hf c_2
      refine lv_aload_n hx hb dX1_stepRead_7 rfl (lv_at hl 0 rfl) ?_
      refine c1g_47 X hK hR dX1_stepRead_8 ?_
      refine lv_iload_n hx hb dX1_stepRead_11 rfl (lv_at hl 1 rfl) ?_
      refine lv_iload_n hx hb dX1_stepRead_12 rfl (lv_at hl 2 rfl) ?_
      refine lv_iadd hx hb dX1_stepRead_13 ?_
      refine lv_ldc (v := (-1000000 : Int32)) hx hb hown (hts _ q420) dX1_stepRead_14 ?_
      obtain ⟨h_67, hq⟩ := ww_gS hf; replace hf := hq; clear hq
      refine c1s_5 X hK hR hS h_67 dX1_stepRead_16 (fun H locs hR hS => ?_)
      refine lv_iinc (k := 2) (v := x2 + (1 : Int32)) (lv' := [(2, .int (x2 + (1 : Int32))), (0, .ref E.1.1), (1, .int x1)]) hx hb dX1_stepRead_17 hl rfl rfl (by decide) rfl (fun ls hl => ?_)
      refine lv_goto (tgt := 2) hx hb dX1_stepRead_20 (by decide) ?_
      exact (ww_lK hf hz_1).2 _ _ _ hR hS (lv_sub hl [1, 2, 0] rfl)
  exact (hL_1 (D, (1 : Int32)) hf).2 _ _ _ hR hS (lv_sub hl [1, 2, 0] rfl)
section T_1_stepRead
variable {p : Program} {l : Launch} {e : Env} {R : Room} {s : State} {m : MethodId} {args : Array Value} {below : List Frame} {meth : Method} {c : Code} {H : Heap} {locs : List Loc} {cells slots : Nat} {Q : State → Prop}
variable {cc : ByteArray} {pc : Nat} {ls : Array Slot} {rest : List Value} {nL : Nat} {E : cw_E} {A : Nat → Prop} {H0 : Heap}
theorem c1tx_1_stepRead {D D1 : cw_D} {c1 k1 : Nat} {x1 : Int32} (X : ww_C p m c cc nL s args RX1 lw_all) (hsz : ls.size = nL) (hK : cw_K E A s) (hR : cw_H E A D H) (hS : va_S A s.heap H locs) (hF : 8 ≤ R.frames) (hLo : 258 ≤ R.locals) (hc : cells + c1 ≤ R.cells) (hs : slots + k1 ≤ R.slots) (hf : f1_stepRead D x1 = some (.inl (D1, c1, k1))) (hrest : (rest.map fun v => v.category).sum ≤ 8) (hdg : decode cc pc = .ok (.invokevirtual 187, 3)) (kx : ∀ (q : Nat) (ce : Cell) (H1 : Heap) (locs1 : List Loc), cw_H E A D1 H1 → va_S A s.heap H1 locs1 → H1[q]? = some ce → ce.vm = .none → s.vm.findClass RFault = some ce.cls → vx_W p l e R s m args below meth c H1 locs1 (cells + c1) (slots + k1) Q (F0 m pc ls rest) q) : W p l e R s m args below meth c H locs cells slots Q (F0 m pc ls (.int x1 :: .ref E.1.1 :: rest)) :=
  vx_callv (vx_runV (C := RX1) (As := [.int x1]) (rest := rest) (b := E.1.1) X (met1_stepRead l _ _ _ hf) (cwV 1 X.2.2.2.2 (lw_V q416 q418 qs11 q131 q419) rfl rfl rfl (by decide +kernel) ⟨hF, hLo⟩) (cw_pV hK hR hS (cw_rcM hK hR)) rfl rfl hsz rfl (lv_room hrest) hdg ⟨hc, hs⟩) hS (fun q _ h => h) (fun q h => h) (fun q _ h => h) (fun Ex ce q9 u t H1 locs1 ht hal hp hB hz hk hS1 hce hcv hcl => by
    have hp : (Sum.inl (D1, c1, k1) : cx_Z (Unit)) = .inl u := hp
    cases hp
    obtain ⟨hE, hB⟩ := hB
    subst hE
    rw [ht] at hB
    exact kx q9 ce H1 locs1 hB hS1 hce hcv hcl) (fun u t H1 locs1 ht hal hp hB hz hk hS1 => by
    have hp : (Sum.inl (D1, c1, k1) : cx_Z (Unit)) = .inr ((), u) := hp
    cases hp)
theorem c1tn_1_stepRead {D D1 : cw_D} {c1 k1 : Nat} {x1 : Int32} (X : ww_C p m c cc nL s args RX1 lw_all) (hsz : ls.size = nL) (hK : cw_K E A s) (hR : cw_H E A D H) (hS : va_S A s.heap H locs) (hF : 8 ≤ R.frames) (hLo : 258 ≤ R.locals) (hc : cells + c1 ≤ R.cells) (hs : slots + k1 ≤ R.slots) (hf : f1_stepRead D x1 = some (.inr ((), D1, c1, k1))) (hrest : (rest.map fun v => v.category).sum ≤ 8) (hdg : decode cc pc = .ok (.invokevirtual 187, 3)) (kk : ∀ (H1 : Heap) (locs1 : List Loc), cw_H E A D1 H1 → va_S A s.heap H1 locs1 → W p l e R s m args below meth c H1 locs1 (cells + c1) (slots + k1) Q (F0 m (pc + 3) ls (rest))) : W p l e R s m args below meth c H locs cells slots Q (F0 m pc ls (.int x1 :: .ref E.1.1 :: rest)) :=
  vx_callv (vx_runV (C := RX1) (As := [.int x1]) (rest := rest) (b := E.1.1) X (met1_stepRead l _ _ _ hf) (cwV 1 X.2.2.2.2 (lw_V q416 q418 qs11 q131 q419) rfl rfl rfl (by decide +kernel) ⟨hF, hLo⟩) (cw_pV hK hR hS (cw_rcM hK hR)) rfl rfl hsz rfl (lv_room hrest) hdg ⟨hc, hs⟩) hS (fun q _ h => h) (fun q h => h) (fun q _ h => h) (fun Ex ce q9 u t H1 locs1 ht hal hp hB hz hk hS1 hce hcv hcl => by
    have hp : (Sum.inr ((), D1, c1, k1) : cx_Z (Unit)) = .inl u := hp
    cases hp) (fun u t H1 locs1 ht hal hp hB hz hk hS1 => by
    have hp : (Sum.inr ((), D1, c1, k1) : cx_Z (Unit)) = .inr ((), u) := hp
    cases hp
    rw [ht] at hB
    exact kk H1 locs1 hB hS1)
end T_1_stepRead
