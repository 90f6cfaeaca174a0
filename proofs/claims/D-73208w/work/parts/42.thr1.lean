noncomputable def f1_must (D : cw_D) (x1 : Int32) : Option (cx_Z (Unit)) :=
  if x1 = 0 then ww_b (some (ww_R D.1 1)) (fun r_2 => ww_b r_2 (fun a_3 => ww_g (cw_kd D [5] (some a_3)) (some (.inl (D, 0, 0))))) else some (.inr ((), D, 0, 0))
set_option maxHeartbeats 4000000 in
set_option maxRecDepth 100000 in
theorem met1_must (l : Launch) {E : cw_E} {A : Nat → Prop} (D : cw_D) (x1 : Int32) (z : cx_Z (Unit)) (hf : f1_must D x1 = some z) : cx_MetV l yX1_must cX1_must 2 0 0 E A [.ref E.1.1, .int x1] D z := by
  unfold f1_must at hf
  refine cx_sV (own := RX1) (by decide +kernel) [(0, .ref E.1.1), (1, .int x1)] ⟨Nat.le_of_ble_eq_true rfl, rfl⟩ ?_
  intro p e s m args below meth c Rm Q X hK hF hLo hC0 hin hend hendX ls hl hR hS
  obtain ⟨hx, hb, hml, hown, hts⟩ := id X
  obtain ⟨nc, hnc⟩ : ∃ q, q = cx_c z := ⟨_, rfl⟩
  obtain ⟨ns, hns⟩ : ∃ q, q = cx_k z := ⟨_, rfl⟩
  have hC : nc ≤ Rm.cells ∧ ns ≤ Rm.slots := by rw [hnc, hns]; exact hC0
  have hm9 : 0 ≤ nc ∧ 0 ≤ ns := ⟨Nat.zero_le _, Nat.zero_le _⟩
  refine lv_iload_n hx hb dX1_must_0 rfl (lv_at hl 1 rfl) ?_
  refine lv_if_ne (tgt := 9) hx hb dX1_must_1 (by decide) (fun c_1 => ?_) (fun c_1 => ?_)
  · replace hf := ww_in hf c_1
    exact hend dX1_must_9 hf hR hS
  · replace hf := ww_ip hf c_1
    refine lv_aload_n hx hb dX1_must_4 rfl (lv_at hl 0 rfl) ?_
    obtain ⟨r_2, h_2, hq⟩ := ww_bS hf; replace hf := hq; clear hq
    refine c1g_39 X hK hR h_2 dX1_must_5 ?_
    obtain ⟨a_3, e_3, hq⟩ := ww_bS hf; replace hf := hq; clear hq
    subst e_3
    obtain ⟨h_4, hq⟩ := ww_gS hf; replace hf := hq; clear hq
    obtain ⟨ce9, hce, hcv, hcl⟩ := cw_flt hK hR h_4
    refine vx_athrow hx hb dX1_must_8 ?_
    exact hendX hf hR hS hce hcv hcl
section T_1_must
variable {p : Program} {l : Launch} {e : Env} {R : Room} {s : State} {m : MethodId} {args : Array Value} {below : List Frame} {meth : Method} {c : Code} {H : Heap} {locs : List Loc} {cells slots : Nat} {Q : State → Prop}
variable {cc : ByteArray} {pc : Nat} {ls : Array Slot} {rest : List Value} {nL : Nat} {E : cw_E} {A : Nat → Prop} {H0 : Heap}
theorem c1tx_1_must {D D1 : cw_D} {c1 k1 : Nat} {x1 : Int32} (X : ww_C p m c cc nL s args RX1 lw_all) (hsz : ls.size = nL) (hK : cw_K E A s) (hR : cw_H E A D H) (hS : va_S A s.heap H locs) (hF : 1 ≤ R.frames) (hLo : 21 ≤ R.locals) (hc : cells + c1 ≤ R.cells) (hs : slots + k1 ≤ R.slots) (hf : f1_must D x1 = some (.inl (D1, c1, k1))) (hrest : (rest.map fun v => v.category).sum ≤ 8) (hdg : decode cc pc = .ok (.invokevirtual 142, 3)) (kx : ∀ (q : Nat) (ce : Cell) (H1 : Heap) (locs1 : List Loc), cw_H E A D1 H1 → va_S A s.heap H1 locs1 → H1[q]? = some ce → ce.vm = .none → s.vm.findClass RFault = some ce.cls → vx_W p l e R s m args below meth c H1 locs1 (cells + c1) (slots + k1) Q (F0 m pc ls rest) q) : W p l e R s m args below meth c H locs cells slots Q (F0 m pc ls (.int x1 :: .ref E.1.1 :: rest)) :=
  vx_callv (vx_runV (C := RX1) (As := [.int x1]) (rest := rest) (b := E.1.1) X (met1_must l _ _ _ hf) (cwV 1 X.2.2.2.2 (lw_V q404 q406 qs8 q131 q407) rfl rfl rfl (by decide +kernel) ⟨hF, hLo⟩) (cw_pV hK hR hS (cw_rcM hK hR)) rfl rfl hsz rfl (lv_room hrest) hdg ⟨hc, hs⟩) hS (fun q _ h => h) (fun q h => h) (fun q _ h => h) (fun Ex ce q9 u t H1 locs1 ht hal hp hB hz hk hS1 hce hcv hcl => by
    have hp : (Sum.inl (D1, c1, k1) : cx_Z (Unit)) = .inl u := hp
    cases hp
    obtain ⟨hE, hB⟩ := hB
    subst hE
    rw [ht] at hB
    exact kx q9 ce H1 locs1 hB hS1 hce hcv hcl) (fun u t H1 locs1 ht hal hp hB hz hk hS1 => by
    have hp : (Sum.inl (D1, c1, k1) : cx_Z (Unit)) = .inr ((), u) := hp
    cases hp)
theorem c1tn_1_must {D D1 : cw_D} {c1 k1 : Nat} {x1 : Int32} (X : ww_C p m c cc nL s args RX1 lw_all) (hsz : ls.size = nL) (hK : cw_K E A s) (hR : cw_H E A D H) (hS : va_S A s.heap H locs) (hF : 1 ≤ R.frames) (hLo : 21 ≤ R.locals) (hc : cells + c1 ≤ R.cells) (hs : slots + k1 ≤ R.slots) (hf : f1_must D x1 = some (.inr ((), D1, c1, k1))) (hrest : (rest.map fun v => v.category).sum ≤ 8) (hdg : decode cc pc = .ok (.invokevirtual 142, 3)) (kk : ∀ (H1 : Heap) (locs1 : List Loc), cw_H E A D1 H1 → va_S A s.heap H1 locs1 → W p l e R s m args below meth c H1 locs1 (cells + c1) (slots + k1) Q (F0 m (pc + 3) ls (rest))) : W p l e R s m args below meth c H locs cells slots Q (F0 m pc ls (.int x1 :: .ref E.1.1 :: rest)) :=
  vx_callv (vx_runV (C := RX1) (As := [.int x1]) (rest := rest) (b := E.1.1) X (met1_must l _ _ _ hf) (cwV 1 X.2.2.2.2 (lw_V q404 q406 qs8 q131 q407) rfl rfl rfl (by decide +kernel) ⟨hF, hLo⟩) (cw_pV hK hR hS (cw_rcM hK hR)) rfl rfl hsz rfl (lv_room hrest) hdg ⟨hc, hs⟩) hS (fun q _ h => h) (fun q h => h) (fun q _ h => h) (fun Ex ce q9 u t H1 locs1 ht hal hp hB hz hk hS1 hce hcv hcl => by
    have hp : (Sum.inr ((), D1, c1, k1) : cx_Z (Unit)) = .inl u := hp
    cases hp) (fun u t H1 locs1 ht hal hp hB hz hk hS1 => by
    have hp : (Sum.inr ((), D1, c1, k1) : cx_Z (Unit)) = .inr ((), u) := hp
    cases hp
    rw [ht] at hB
    exact kk H1 locs1 hB hS1)
end T_1_must
noncomputable def f1_digits_j1 (D : cw_D) (cf : Nat) (kf : Nat) (y1 : Int32) (y2 : Int32) (t1 : Int32) : Option ((cw_D × Nat × Nat × Int32 × Int32) ⊕ (cx_Z (Int32))) :=
  ww_t (f1_must D t1) (fun D_8 c_8 k_8 => ww_x (some (.inl (D_8, (cf + c_8), (kf + k_8))))) (fun u_8 D_8 c_8 k_8 => ww_b (f1_here D_8) (fun r_9 => some (.inl ((cw_sF D_8 4 ((ww_F D_8.1 4) + (1 : Int32))), (cf + c_8), (kf + k_8), ((((10 : Int32) * y1) + r_9) - (48 : Int32)), (y2 + (1 : Int32))))))
noncomputable def f1_digits_b1c (D_4 : cw_D) (c_1b : Nat) (k_1b : Nat) (x1 : Int32) (x2 : Int32) : Option ((cw_D × Nat × Nat × Int32 × Int32) ⊕ (cx_Z (Int32))) :=
  ww_b (f1_here D_4) (fun r_5 => ww_b (f1_isDigit r_5) (fun r_6 => if r_6 = 0 then ww_x (some (.inr (x1, D_4, c_1b, k_1b))) else if (3 : Int32) ≤ x2 then f1_digits_j1 D_4 c_1b k_1b x1 x2 (0 : Int32) else f1_digits_j1 D_4 c_1b k_1b x1 x2 (1 : Int32)))
noncomputable def f1_digits_b1 : (cw_D × Nat × Nat × Int32 × Int32) → Option ((cw_D × Nat × Nat × Int32 × Int32) ⊕ (cx_Z (Int32))) := fun s9 => f1_digits_b1c s9.1 s9.2.1 s9.2.2.1 s9.2.2.2.1 s9.2.2.2.2
noncomputable def f1_digits (D : cw_D) : Option (cx_Z (Int32)) :=
  ww_b (f1_here D) (fun r_1 => ww_b (f1_isDigit r_1) (fun r_2 => ww_t (f1_must D r_2) (fun D_3 c_3 k_3 => some (.inl (D_3, (0 + c_3), (0 + k_3)))) (fun u_3 D_3 c_3 k_3 => ww_U (f1_digits_b1) (D_3, (0 + c_3), (0 + k_3), (0 : Int32), (0 : Int32)))))
set_option maxHeartbeats 4000000 in
set_option maxRecDepth 100000 in
theorem met1_digits (l : Launch) {E : cw_E} {A : Nat → Prop} (D : cw_D) (z : cx_Z (Int32)) (hf : f1_digits D = some z) : cx_MetI l yX1_digits cX1_digits 3 (some Jvm.ClassFile.FieldType.int) 2 42 E A [.ref E.1.1] D z := by
  unfold f1_digits at hf
  refine cx_sI (own := RX1) (by decide +kernel) [(0, .ref E.1.1)] ⟨Nat.le_of_ble_eq_true rfl, rfl⟩ ?_
  intro p e s m args below meth c Rm Q X hK hF hLo hC0 hin hend hendX ls hl hR hS
  obtain ⟨hx, hb, hml, hown, hts⟩ := id X
  obtain ⟨nc, hnc⟩ : ∃ q, q = cx_c z := ⟨_, rfl⟩
  obtain ⟨ns, hns⟩ : ∃ q, q = cx_k z := ⟨_, rfl⟩
  have hC : nc ≤ Rm.cells ∧ ns ≤ Rm.slots := by rw [hnc, hns]; exact hC0
  have hm9 : 0 ≤ nc ∧ 0 ≤ ns := ⟨Nat.zero_le _, Nat.zero_le _⟩
  refine lv_aload_n hx hb dX1_digits_0 rfl (lv_at hl 0 rfl) ?_
  refine lv_aload_n hx hb dX1_digits_1 rfl (lv_at hl 0 rfl) ?_
  obtain ⟨r_1, h_1, hq⟩ := ww_bS hf; replace hf := hq; clear hq
  refine c1c_1_here X hl.1 hK hR hS (Nat.le_trans (Nat.le_of_ble_eq_true rfl) hF) (Nat.le_trans (Nat.le_of_ble_eq_true rfl) hLo) (Nat.le_trans hm9.1 hC.1) (Nat.le_trans hm9.2 hC.2) h_1 (cw_rest (Nat.le_of_ble_eq_true rfl)) dX1_digits_2 (fun H locs hR hS => ?_)
  obtain ⟨r_2, h_2, hq⟩ := ww_bS hf; replace hf := hq; clear hq
  refine c1c_1_isDigit X hl.1 (Nat.le_trans (Nat.le_of_ble_eq_true rfl) hF) (Nat.le_trans (Nat.le_of_ble_eq_true rfl) hLo) (Nat.le_trans hm9.1 hC.1) (Nat.le_trans hm9.2 hC.2) h_2 (cw_rest (Nat.le_of_ble_eq_true rfl)) dX1_digits_5 ?_
  rcases ww_tS hf with ⟨D_3, c_3, k_3, h_3, hq⟩ | ⟨u_3, D_3, c_3, k_3, h_3, hq⟩
  · replace hf := hq
    clear hq
    have hm9 : (0 + c_3) ≤ nc ∧ (0 + k_3) ≤ ns := by
      cases hf
      have e8 : nc = (0 + c_3) := hnc
      have e9 : ns = (0 + k_3) := hns
      omega
    refine c1tx_1_must X hl.1 hK hR hS (Nat.le_trans (Nat.le_of_ble_eq_true rfl) hF) (Nat.le_trans (Nat.le_of_ble_eq_true rfl) hLo) (Nat.le_trans hm9.1 hC.1) (Nat.le_trans hm9.2 hC.2) h_3 (cw_rest (Nat.le_of_ble_eq_true rfl)) dX1_digits_8 (fun q9 ce9 H locs hR hS hce hcv hcl => ?_)
    exact hendX hf hR hS hce hcv hcl
  replace hf := hq
  clear hq
  have hm9 : (0 + c_3) ≤ nc ∧ (0 + k_3) ≤ ns := by
    have hL_1 : ∀ s9 : cw_D × Nat × Nat × Int32 × Int32, ww_U (f1_digits_b1) s9 = some z → s9.2.1 ≤ nc ∧ s9.2.2.1 ≤ ns := by
      clear hf
      refine ww_ind _ z ?_
      intro s9 z_1 hf hz_1
      obtain ⟨D_4, c_1b, k_1b, x1, x2⟩ := s9
      replace hf : f1_digits_b1c D_4 c_1b k_1b x1 x2 = some z_1 := hf
      unfold f1_digits_b1c at hf
      show c_1b ≤ nc ∧ k_1b ≤ ns
      obtain ⟨r_5, h_5, hq⟩ := ww_bS hf; replace hf := hq; clear hq
      obtain ⟨r_6, h_6, hq⟩ := ww_bS hf; replace hf := hq; clear hq
      refine ww_by (r_6 = 0) (fun c_7 => ?_) (fun c_7 => ?_)
      · replace hf := ww_ip hf c_7
        replace hf := ww_xK hf hz_1
        cases hf
        have e8 : nc = c_1b := hnc
        have e9 : ns = k_1b := hns
        omega
      · replace hf := ww_in hf c_7
        have hj_1 : ∀ (t1 : Int32), f1_digits_j1 D_4 c_1b k_1b x1 x2 t1 = some z_1 → c_1b ≤ nc ∧ k_1b ≤ ns := by
          clear hf
          intro t1 hf
          unfold f1_digits_j1 at hf
          rcases ww_tS hf with ⟨D_8, c_8, k_8, h_8, hq⟩ | ⟨u_8, D_8, c_8, k_8, h_8, hq⟩
          · replace hf := hq
            clear hq
            replace hf := ww_xK hf hz_1
            cases hf
            have e8 : nc = (c_1b + c_8) := hnc
            have e9 : ns = (k_1b + k_8) := hns
            omega
          replace hf := hq
          clear hq
          obtain ⟨r_9, h_9, hq⟩ := ww_bS hf; replace hf := hq; clear hq
          have e9 := ww_lK hf hz_1
          try dsimp only at e9
          omega
        refine ww_by ((3 : Int32) ≤ x2) (fun c_10 => ?_) (fun c_10 => ?_)
        · replace hf := ww_ip hf c_10
          have e9 := hj_1 (0 : Int32) hf
          omega
        · replace hf := ww_in hf c_10
          have e9 := hj_1 (1 : Int32) hf
          omega
    have e9 := hL_1 (D_3, (0 + c_3), (0 + k_3), (0 : Int32), (0 : Int32)) hf
    try dsimp only at e9
    omega
  refine c1tn_1_must X hl.1 hK hR hS (Nat.le_trans (Nat.le_of_ble_eq_true rfl) hF) (Nat.le_trans (Nat.le_of_ble_eq_true rfl) hLo) (Nat.le_trans hm9.1 hC.1) (Nat.le_trans hm9.2 hC.2) h_3 (cw_rest (Nat.le_of_ble_eq_true rfl)) dX1_digits_8 (fun H locs hR hS => ?_)
  refine lv_iconst (v := (0 : Int32)) hx hb dX1_digits_11 (by decide) ?_
  refine lv_istore_n (lv' := [(1, .int (0 : Int32)), (0, .ref E.1.1)]) hx hb dX1_digits_12 rfl hl (by decide) rfl (fun ls hl => ?_)
  refine lv_iconst (v := (0 : Int32)) hx hb dX1_digits_13 (by decide) ?_
  refine lv_istore_n (lv' := [(2, .int (0 : Int32)), (1, .int (0 : Int32)), (0, .ref E.1.1)]) hx hb dX1_digits_14 rfl hl (by decide) rfl (fun ls hl => ?_)
  have hL_1 : ∀ s9 : cw_D × Nat × Nat × Int32 × Int32, ww_U (f1_digits_b1) s9 = some z → (s9.2.1 ≤ nc ∧ s9.2.2.1 ≤ ns) ∧ (∀ (H : Heap) (locs : List Loc) (ls : Array Slot), cw_H E A s9.1 H → va_S A s.heap H locs → lv_has ls 3 [(0, .ref E.1.1), (1, .int s9.2.2.2.1), (2, .int s9.2.2.2.2)] → W p l e Rm s m args below meth c H locs s9.2.1 s9.2.2.1 Q (F0 m 15 ls [])) := by
    clear hf
    refine ww_ind _ z ?_
    intro s9 z_1 hf hz_1
    obtain ⟨D_4, c_1b, k_1b, x1, x2⟩ := s9
    replace hf : f1_digits_b1c D_4 c_1b k_1b x1 x2 = some z_1 := hf
    unfold f1_digits_b1c at hf
    have hm9 : c_1b ≤ nc ∧ k_1b ≤ ns := by
      show c_1b ≤ nc ∧ k_1b ≤ ns
      obtain ⟨r_5, h_5, hq⟩ := ww_bS hf; replace hf := hq; clear hq
      obtain ⟨r_6, h_6, hq⟩ := ww_bS hf; replace hf := hq; clear hq
      refine ww_by (r_6 = 0) (fun c_7 => ?_) (fun c_7 => ?_)
      · replace hf := ww_ip hf c_7
        replace hf := ww_xK hf hz_1
        cases hf
        have e8 : nc = c_1b := hnc
        have e9 : ns = k_1b := hns
        omega
      · replace hf := ww_in hf c_7
        have hj_1 : ∀ (t1 : Int32), f1_digits_j1 D_4 c_1b k_1b x1 x2 t1 = some z_1 → c_1b ≤ nc ∧ k_1b ≤ ns := by
          clear hf
          intro t1 hf
          unfold f1_digits_j1 at hf
          rcases ww_tS hf with ⟨D_8, c_8, k_8, h_8, hq⟩ | ⟨u_8, D_8, c_8, k_8, h_8, hq⟩
          · replace hf := hq
            clear hq
            replace hf := ww_xK hf hz_1
            cases hf
            have e8 : nc = (c_1b + c_8) := hnc
            have e9 : ns = (k_1b + k_8) := hns
            omega
          replace hf := hq
          clear hq
          obtain ⟨r_9, h_9, hq⟩ := ww_bS hf; replace hf := hq; clear hq
          have e9 := (ww_lK hf hz_1).1
          try dsimp only at e9
          omega
        refine ww_by ((3 : Int32) ≤ x2) (fun c_10 => ?_) (fun c_10 => ?_)
        · replace hf := ww_ip hf c_10
          have e9 := hj_1 (0 : Int32) hf
          omega
        · replace hf := ww_in hf c_10
          have e9 := hj_1 (1 : Int32) hf
          omega
    refine ⟨hm9, ?_⟩
    try clear hl
    try clear hS
    try clear hR
    intro H locs ls hR hS hl
    replace hR : cw_H E A D_4 H := hR
    replace hl : lv_has ls 3 [(0, .ref E.1.1), (1, .int x1), (2, .int x2)] := hl
    show W p l e Rm s m args below meth c H locs c_1b k_1b Q _
    refine lv_aload_n hx hb dX1_digits_15 rfl (lv_at hl 0 rfl) ?_
    obtain ⟨r_5, h_5, hq⟩ := ww_bS hf; replace hf := hq; clear hq
    refine c1c_1_here X hl.1 hK hR hS (Nat.le_trans (Nat.le_of_ble_eq_true rfl) hF) (Nat.le_trans (Nat.le_of_ble_eq_true rfl) hLo) (Nat.le_trans hm9.1 hC.1) (Nat.le_trans hm9.2 hC.2) h_5 (cw_rest (Nat.le_of_ble_eq_true rfl)) dX1_digits_16 (fun H locs hR hS => ?_)
    obtain ⟨r_6, h_6, hq⟩ := ww_bS hf; replace hf := hq; clear hq
    refine c1c_1_isDigit X hl.1 (Nat.le_trans (Nat.le_of_ble_eq_true rfl) hF) (Nat.le_trans (Nat.le_of_ble_eq_true rfl) hLo) (Nat.le_trans hm9.1 hC.1) (Nat.le_trans hm9.2 hC.2) h_6 (cw_rest (Nat.le_of_ble_eq_true rfl)) dX1_digits_19 ?_
    refine lv_if_eq (tgt := 68) hx hb dX1_digits_22 (by decide) (fun c_7 => ?_) (fun c_7 => ?_)
    · replace hf := ww_ip hf c_7
      replace hf := ww_xK hf hz_1
      refine lv_iload_n hx hb dX1_digits_68 rfl (lv_at hl 1 rfl) ?_
      exact hend dX1_digits_69 rfl rfl hf hR hS
    · replace hf := ww_in hf c_7
      refine lv_aload_n hx hb dX1_digits_25 rfl (lv_at hl 0 rfl) ?_
      refine lv_iload_n hx hb dX1_digits_26 rfl (lv_at hl 2 rfl) ?_
      refine lv_iconst (v := (3 : Int32)) hx hb dX1_digits_27 (by decide) ?_
      have hj_1 : ∀ (t1 : Int32), f1_digits_j1 D_4 c_1b k_1b x1 x2 t1 = some z_1 → (c_1b ≤ nc ∧ k_1b ≤ ns) ∧ (∀ (H : Heap) (locs : List Loc) (ls : Array Slot), cw_H E A D_4 H → va_S A s.heap H locs → lv_has ls 3 [(0, .ref E.1.1), (1, .int x1), (2, .int x2)] → W p l e Rm s m args below meth c H locs c_1b k_1b Q (F0 m 36 ls [.int t1, .ref E.1.1])) := by
        clear hf
        intro t1 hf
        unfold f1_digits_j1 at hf
        have hm9 : c_1b ≤ nc ∧ k_1b ≤ ns := by
          rcases ww_tS hf with ⟨D_8, c_8, k_8, h_8, hq⟩ | ⟨u_8, D_8, c_8, k_8, h_8, hq⟩
          · replace hf := hq
            clear hq
            replace hf := ww_xK hf hz_1
            cases hf
            have e8 : nc = (c_1b + c_8) := hnc
            have e9 : ns = (k_1b + k_8) := hns
            omega
          replace hf := hq
          clear hq
          obtain ⟨r_9, h_9, hq⟩ := ww_bS hf; replace hf := hq; clear hq
          have e9 := (ww_lK hf hz_1).1
          try dsimp only at e9
          omega
        refine ⟨hm9, ?_⟩
        try clear hl
        try clear hS
        try clear hR
        intro H locs ls hR hS hl
        rcases ww_tS hf with ⟨D_8, c_8, k_8, h_8, hq⟩ | ⟨u_8, D_8, c_8, k_8, h_8, hq⟩
        · replace hf := hq
          clear hq
          have hm9 : (c_1b + c_8) ≤ nc ∧ (k_1b + k_8) ≤ ns := by
            replace hf := ww_xK hf hz_1
            cases hf
            have e8 : nc = (c_1b + c_8) := hnc
            have e9 : ns = (k_1b + k_8) := hns
            omega
          refine c1tx_1_must X hl.1 hK hR hS (Nat.le_trans (Nat.le_of_ble_eq_true rfl) hF) (Nat.le_trans (Nat.le_of_ble_eq_true rfl) hLo) (Nat.le_trans hm9.1 hC.1) (Nat.le_trans hm9.2 hC.2) h_8 (cw_rest (Nat.le_of_ble_eq_true rfl)) dX1_digits_36 (fun q9 ce9 H locs hR hS hce hcv hcl => ?_)
          replace hf := ww_xK hf hz_1
          exact hendX hf hR hS hce hcv hcl
        replace hf := hq
        clear hq
        have hm9 : (c_1b + c_8) ≤ nc ∧ (k_1b + k_8) ≤ ns := by
          obtain ⟨r_9, h_9, hq⟩ := ww_bS hf; replace hf := hq; clear hq
          have e9 := (ww_lK hf hz_1).1
          try dsimp only at e9
          omega
        refine c1tn_1_must X hl.1 hK hR hS (Nat.le_trans (Nat.le_of_ble_eq_true rfl) hF) (Nat.le_trans (Nat.le_of_ble_eq_true rfl) hLo) (Nat.le_trans hm9.1 hC.1) (Nat.le_trans hm9.2 hC.2) h_8 (cw_rest (Nat.le_of_ble_eq_true rfl)) dX1_digits_36 (fun H locs hR hS => ?_)
        refine lv_bipush (v := (10 : Int32)) hx hb dX1_digits_39 (by decide) ?_
        refine lv_iload_n hx hb dX1_digits_41 rfl (lv_at hl 1 rfl) ?_
        refine lv_imul hx hb dX1_digits_42 ?_
        refine lv_aload_n hx hb dX1_digits_43 rfl (lv_at hl 0 rfl) ?_
        obtain ⟨r_9, h_9, hq⟩ := ww_bS hf; replace hf := hq; clear hq
        refine c1c_1_here X hl.1 hK hR hS (Nat.le_trans (Nat.le_of_ble_eq_true rfl) hF) (Nat.le_trans (Nat.le_of_ble_eq_true rfl) hLo) (Nat.le_trans hm9.1 hC.1) (Nat.le_trans hm9.2 hC.2) h_9 (cw_rest (Nat.le_of_ble_eq_true rfl)) dX1_digits_44 (fun H locs hR hS => ?_)
        refine lv_iadd hx hb dX1_digits_47 ?_
        refine lv_bipush (v := (48 : Int32)) hx hb dX1_digits_48 (by decide) ?_
        refine lv_isub hx hb dX1_digits_50 ?_
        refine lv_istore_n (lv' := [(1, .int ((((10 : Int32) * x1) + r_9) - (48 : Int32))), (0, .ref E.1.1), (2, .int x2)]) hx hb dX1_digits_51 rfl hl (by decide) rfl (fun ls hl => ?_)
        refine lv_aload_n hx hb dX1_digits_52 rfl (lv_at hl 1 rfl) ?_
        refine lv_dup hx hb dX1_digits_53 rfl ?_
        refine c1g_131 X hK hR dX1_digits_54 ?_
        refine lv_iconst (v := (1 : Int32)) hx hb dX1_digits_57 (by decide) ?_
        refine lv_iadd hx hb dX1_digits_58 ?_
        refine c1p_131 X hK hR hS dX1_digits_59 (fun H locs hR hS => ?_)
        refine lv_iinc (k := 2) (v := x2 + (1 : Int32)) (lv' := [(2, .int (x2 + (1 : Int32))), (1, .int ((((10 : Int32) * x1) + r_9) - (48 : Int32))), (0, .ref E.1.1)]) hx hb dX1_digits_62 hl rfl rfl (by decide) rfl (fun ls hl => ?_)
        refine lv_goto (tgt := 15) hx hb dX1_digits_65 (by decide) ?_
        exact (ww_lK hf hz_1).2 _ _ _ hR hS (lv_sub hl [2, 1, 0] rfl)
      refine lv_icmp_ge (tgt := 35) hx hb dX1_digits_28 (by decide) (fun c_10 => ?_) (fun c_10 => ?_)
      · replace hf := ww_ip hf c_10
        refine lv_iconst (v := (0 : Int32)) hx hb dX1_digits_35 (by decide) ?_
        exact (hj_1 (0 : Int32) hf).2 _ _ _ hR hS hl
      · replace hf := ww_in hf c_10
        refine lv_iconst (v := (1 : Int32)) hx hb dX1_digits_31 (by decide) ?_
        refine lv_goto (tgt := 36) hx hb dX1_digits_32 (by decide) ?_
        exact (hj_1 (1 : Int32) hf).2 _ _ _ hR hS hl
  exact (hL_1 (D_3, (0 + c_3), (0 + k_3), (0 : Int32), (0 : Int32)) hf).2 _ _ _ hR hS (lv_sub hl [2, 1, 0] rfl)
section T_1_digits
variable {p : Program} {l : Launch} {e : Env} {R : Room} {s : State} {m : MethodId} {args : Array Value} {below : List Frame} {meth : Method} {c : Code} {H : Heap} {locs : List Loc} {cells slots : Nat} {Q : State → Prop}
variable {cc : ByteArray} {pc : Nat} {ls : Array Slot} {rest : List Value} {nL : Nat} {E : cw_E} {A : Nat → Prop} {H0 : Heap}
theorem c1tx_1_digits {D D1 : cw_D} {c1 k1 : Nat} (X : ww_C p m c cc nL s args RX1 lw_all) (hsz : ls.size = nL) (hK : cw_K E A s) (hR : cw_H E A D H) (hS : va_S A s.heap H locs) (hF : 3 ≤ R.frames) (hLo : 64 ≤ R.locals) (hc : cells + c1 ≤ R.cells) (hs : slots + k1 ≤ R.slots) (hf : f1_digits D = some (.inl (D1, c1, k1))) (hrest : (rest.map fun v => v.category).sum ≤ 8) (hdg : decode cc pc = .ok (.invokevirtual 149, 3)) (kx : ∀ (q : Nat) (ce : Cell) (H1 : Heap) (locs1 : List Loc), cw_H E A D1 H1 → va_S A s.heap H1 locs1 → H1[q]? = some ce → ce.vm = .none → s.vm.findClass RFault = some ce.cls → vx_W p l e R s m args below meth c H1 locs1 (cells + c1) (slots + k1) Q (F0 m pc ls rest) q) : W p l e R s m args below meth c H locs cells slots Q (F0 m pc ls (.ref E.1.1 :: rest)) :=
  vx_calli (vx_runV (C := RX1) (As := []) (rest := rest) (b := E.1.1) X (met1_digits l _ _ hf) (cwV 0 X.2.2.2.2 (lw_V q397 q399 qs7 q131 q400) rfl rfl rfl (by decide +kernel) ⟨hF, hLo⟩) (cw_pV hK hR hS (cw_rcM hK hR)) rfl rfl hsz rfl (lv_room hrest) hdg ⟨hc, hs⟩) hS (fun q _ h => h) (fun q h => h) (fun q _ h => h) (fun Ex ce q9 u t H1 locs1 ht hal hp hB hz hk hS1 hce hcv hcl => by
    have hp : (Sum.inl (D1, c1, k1) : cx_Z (Int32)) = .inl u := hp
    cases hp
    obtain ⟨hE, hB⟩ := hB
    subst hE
    rw [ht] at hB
    exact kx q9 ce H1 locs1 hB hS1 hce hcv hcl) (fun r9 u t H1 locs1 ht hal hp hB hz hk hS1 => by
    have hp : (Sum.inl (D1, c1, k1) : cx_Z (Int32)) = .inr (r9, u) := hp
    cases hp)
theorem c1tn_1_digits {r : Int32} {D D1 : cw_D} {c1 k1 : Nat} (X : ww_C p m c cc nL s args RX1 lw_all) (hsz : ls.size = nL) (hK : cw_K E A s) (hR : cw_H E A D H) (hS : va_S A s.heap H locs) (hF : 3 ≤ R.frames) (hLo : 64 ≤ R.locals) (hc : cells + c1 ≤ R.cells) (hs : slots + k1 ≤ R.slots) (hf : f1_digits D = some (.inr (r, D1, c1, k1))) (hrest : (rest.map fun v => v.category).sum ≤ 8) (hdg : decode cc pc = .ok (.invokevirtual 149, 3)) (kk : ∀ (H1 : Heap) (locs1 : List Loc), cw_H E A D1 H1 → va_S A s.heap H1 locs1 → W p l e R s m args below meth c H1 locs1 (cells + c1) (slots + k1) Q (F0 m (pc + 3) ls (.int r :: rest))) : W p l e R s m args below meth c H locs cells slots Q (F0 m pc ls (.ref E.1.1 :: rest)) :=
  vx_calli (vx_runV (C := RX1) (As := []) (rest := rest) (b := E.1.1) X (met1_digits l _ _ hf) (cwV 0 X.2.2.2.2 (lw_V q397 q399 qs7 q131 q400) rfl rfl rfl (by decide +kernel) ⟨hF, hLo⟩) (cw_pV hK hR hS (cw_rcM hK hR)) rfl rfl hsz rfl (lv_room hrest) hdg ⟨hc, hs⟩) hS (fun q _ h => h) (fun q h => h) (fun q _ h => h) (fun Ex ce q9 u t H1 locs1 ht hal hp hB hz hk hS1 hce hcv hcl => by
    have hp : (Sum.inr (r, D1, c1, k1) : cx_Z (Int32)) = .inl u := hp
    cases hp) (fun r9 u t H1 locs1 ht hal hp hB hz hk hS1 => by
    have hp : (Sum.inr (r, D1, c1, k1) : cx_Z (Int32)) = .inr (r9, u) := hp
    cases hp
    rw [ht] at hB
    exact kk H1 locs1 hB hS1)
end T_1_digits
noncomputable def f1_keyRead (D : cw_D) : Option (cx_Z (Int32)) :=
  ww_b2 (f1_next D) (fun r_1 D_1 => ww_t (f1_digits D_1) (fun D_2 c_2 k_2 => some (.inl (D_2, (0 + c_2), (0 + k_2)))) (fun r_2 D_2 c_2 k_2 => some (.inr (r_2, D_2, (0 + c_2), (0 + k_2)))))
set_option maxHeartbeats 4000000 in
set_option maxRecDepth 100000 in
theorem met1_keyRead (l : Launch) {E : cw_E} {A : Nat → Prop} (D : cw_D) (z : cx_Z (Int32)) (hf : f1_keyRead D = some z) : cx_MetI l yX1_keyRead cX1_keyRead 1 (some Jvm.ClassFile.FieldType.int) 3 64 E A [.ref E.1.1] D z := by
  unfold f1_keyRead at hf
  refine cx_sI (own := RX1) (by decide +kernel) [(0, .ref E.1.1)] ⟨Nat.le_of_ble_eq_true rfl, rfl⟩ ?_
  intro p e s m args below meth c Rm Q X hK hF hLo hC0 hin hend hendX ls hl hR hS
  obtain ⟨hx, hb, hml, hown, hts⟩ := id X
  obtain ⟨nc, hnc⟩ : ∃ q, q = cx_c z := ⟨_, rfl⟩
  obtain ⟨ns, hns⟩ : ∃ q, q = cx_k z := ⟨_, rfl⟩
  have hC : nc ≤ Rm.cells ∧ ns ≤ Rm.slots := by rw [hnc, hns]; exact hC0
  have hm9 : 0 ≤ nc ∧ 0 ≤ ns := ⟨Nat.zero_le _, Nat.zero_le _⟩
  refine lv_aload_n hx hb dX1_keyRead_0 rfl (lv_at hl 0 rfl) ?_
  obtain ⟨r_1, D_1, h_1, hq⟩ := ww_b2S hf; replace hf := hq; clear hq
  refine c1c_1_next X hl.1 hK hR hS (Nat.le_trans (Nat.le_of_ble_eq_true rfl) hF) (Nat.le_trans (Nat.le_of_ble_eq_true rfl) hLo) (Nat.le_trans hm9.1 hC.1) (Nat.le_trans hm9.2 hC.2) h_1 (cw_rest (Nat.le_of_ble_eq_true rfl)) dX1_keyRead_1 (fun H locs hR hS => ?_)
  refine lv_pop hx hb dX1_keyRead_4 rfl ?_
  refine lv_aload_n hx hb dX1_keyRead_5 rfl (lv_at hl 0 rfl) ?_
  rcases ww_tS hf with ⟨D_2, c_2, k_2, h_2, hq⟩ | ⟨r_2, D_2, c_2, k_2, h_2, hq⟩
  · replace hf := hq
    clear hq
    have hm9 : (0 + c_2) ≤ nc ∧ (0 + k_2) ≤ ns := by
      cases hf
      have e8 : nc = (0 + c_2) := hnc
      have e9 : ns = (0 + k_2) := hns
      omega
    refine c1tx_1_digits X hl.1 hK hR hS (Nat.le_trans (Nat.le_of_ble_eq_true rfl) hF) (Nat.le_trans (Nat.le_of_ble_eq_true rfl) hLo) (Nat.le_trans hm9.1 hC.1) (Nat.le_trans hm9.2 hC.2) h_2 (cw_rest (Nat.le_of_ble_eq_true rfl)) dX1_keyRead_6 (fun q9 ce9 H locs hR hS hce hcv hcl => ?_)
    exact hendX hf hR hS hce hcv hcl
  replace hf := hq
  clear hq
  have hm9 : (0 + c_2) ≤ nc ∧ (0 + k_2) ≤ ns := by
    cases hf
    have e8 : nc = (0 + c_2) := hnc
    have e9 : ns = (0 + k_2) := hns
    omega
  refine c1tn_1_digits X hl.1 hK hR hS (Nat.le_trans (Nat.le_of_ble_eq_true rfl) hF) (Nat.le_trans (Nat.le_of_ble_eq_true rfl) hLo) (Nat.le_trans hm9.1 hC.1) (Nat.le_trans hm9.2 hC.2) h_2 (cw_rest (Nat.le_of_ble_eq_true rfl)) dX1_keyRead_6 (fun H locs hR hS => ?_)
  exact hend dX1_keyRead_9 rfl rfl hf hR hS
section T_1_keyRead
variable {p : Program} {l : Launch} {e : Env} {R : Room} {s : State} {m : MethodId} {args : Array Value} {below : List Frame} {meth : Method} {c : Code} {H : Heap} {locs : List Loc} {cells slots : Nat} {Q : State → Prop}
variable {cc : ByteArray} {pc : Nat} {ls : Array Slot} {rest : List Value} {nL : Nat} {E : cw_E} {A : Nat → Prop} {H0 : Heap}
theorem c1tx_1_keyRead {D D1 : cw_D} {c1 k1 : Nat} (X : ww_C p m c cc nL s args RX1 lw_all) (hsz : ls.size = nL) (hK : cw_K E A s) (hR : cw_H E A D H) (hS : va_S A s.heap H locs) (hF : 4 ≤ R.frames) (hLo : 84 ≤ R.locals) (hc : cells + c1 ≤ R.cells) (hs : slots + k1 ≤ R.slots) (hf : f1_keyRead D = some (.inl (D1, c1, k1))) (hrest : (rest.map fun v => v.category).sum ≤ 8) (hdg : decode cc pc = .ok (.invokevirtual 181, 3)) (kx : ∀ (q : Nat) (ce : Cell) (H1 : Heap) (locs1 : List Loc), cw_H E A D1 H1 → va_S A s.heap H1 locs1 → H1[q]? = some ce → ce.vm = .none → s.vm.findClass RFault = some ce.cls → vx_W p l e R s m args below meth c H1 locs1 (cells + c1) (slots + k1) Q (F0 m pc ls rest) q) : W p l e R s m args below meth c H locs cells slots Q (F0 m pc ls (.ref E.1.1 :: rest)) :=
  vx_calli (vx_runV (C := RX1) (As := []) (rest := rest) (b := E.1.1) X (met1_keyRead l _ _ hf) (cwV 0 X.2.2.2.2 (lw_V q393 q395 qs6 q131 q396) rfl rfl rfl (by decide +kernel) ⟨hF, hLo⟩) (cw_pV hK hR hS (cw_rcM hK hR)) rfl rfl hsz rfl (lv_room hrest) hdg ⟨hc, hs⟩) hS (fun q _ h => h) (fun q h => h) (fun q _ h => h) (fun Ex ce q9 u t H1 locs1 ht hal hp hB hz hk hS1 hce hcv hcl => by
    have hp : (Sum.inl (D1, c1, k1) : cx_Z (Int32)) = .inl u := hp
    cases hp
    obtain ⟨hE, hB⟩ := hB
    subst hE
    rw [ht] at hB
    exact kx q9 ce H1 locs1 hB hS1 hce hcv hcl) (fun r9 u t H1 locs1 ht hal hp hB hz hk hS1 => by
    have hp : (Sum.inl (D1, c1, k1) : cx_Z (Int32)) = .inr (r9, u) := hp
    cases hp)
theorem c1tn_1_keyRead {r : Int32} {D D1 : cw_D} {c1 k1 : Nat} (X : ww_C p m c cc nL s args RX1 lw_all) (hsz : ls.size = nL) (hK : cw_K E A s) (hR : cw_H E A D H) (hS : va_S A s.heap H locs) (hF : 4 ≤ R.frames) (hLo : 84 ≤ R.locals) (hc : cells + c1 ≤ R.cells) (hs : slots + k1 ≤ R.slots) (hf : f1_keyRead D = some (.inr (r, D1, c1, k1))) (hrest : (rest.map fun v => v.category).sum ≤ 8) (hdg : decode cc pc = .ok (.invokevirtual 181, 3)) (kk : ∀ (H1 : Heap) (locs1 : List Loc), cw_H E A D1 H1 → va_S A s.heap H1 locs1 → W p l e R s m args below meth c H1 locs1 (cells + c1) (slots + k1) Q (F0 m (pc + 3) ls (.int r :: rest))) : W p l e R s m args below meth c H locs cells slots Q (F0 m pc ls (.ref E.1.1 :: rest)) :=
  vx_calli (vx_runV (C := RX1) (As := []) (rest := rest) (b := E.1.1) X (met1_keyRead l _ _ hf) (cwV 0 X.2.2.2.2 (lw_V q393 q395 qs6 q131 q396) rfl rfl rfl (by decide +kernel) ⟨hF, hLo⟩) (cw_pV hK hR hS (cw_rcM hK hR)) rfl rfl hsz rfl (lv_room hrest) hdg ⟨hc, hs⟩) hS (fun q _ h => h) (fun q h => h) (fun q _ h => h) (fun Ex ce q9 u t H1 locs1 ht hal hp hB hz hk hS1 hce hcv hcl => by
    have hp : (Sum.inr (r, D1, c1, k1) : cx_Z (Int32)) = .inl u := hp
    cases hp) (fun r9 u t H1 locs1 ht hal hp hB hz hk hS1 => by
    have hp : (Sum.inr (r, D1, c1, k1) : cx_Z (Int32)) = .inr (r9, u) := hp
    cases hp
    rw [ht] at hB
    exact kk H1 locs1 hB hS1)
end T_1_keyRead
noncomputable def f1_valueRead (D : cw_D) : Option (cx_Z (Int32)) :=
  ww_b2 (f1_next D) (fun r_1 D_1 => if r_1 = (45 : Int32) then ww_t (f1_digits (cw_sF D_1 4 ((ww_F D_1.1 4) + (1 : Int32)))) (fun D_3 c_3 k_3 => some (.inl (D_3, (0 + c_3), (0 + k_3)))) (fun r_3 D_3 c_3 k_3 => some (.inr ((-r_3), D_3, (0 + c_3), (0 + k_3)))) else ww_t (f1_digits D_1) (fun D_4 c_4 k_4 => some (.inl (D_4, (0 + c_4), (0 + k_4)))) (fun r_4 D_4 c_4 k_4 => some (.inr (r_4, D_4, (0 + c_4), (0 + k_4)))))
set_option maxHeartbeats 4000000 in
set_option maxRecDepth 100000 in
theorem met1_valueRead (l : Launch) {E : cw_E} {A : Nat → Prop} (D : cw_D) (z : cx_Z (Int32)) (hf : f1_valueRead D = some z) : cx_MetI l yX1_valueRead cX1_valueRead 1 (some Jvm.ClassFile.FieldType.int) 3 64 E A [.ref E.1.1] D z := by
  unfold f1_valueRead at hf
  refine cx_sI (own := RX1) (by decide +kernel) [(0, .ref E.1.1)] ⟨Nat.le_of_ble_eq_true rfl, rfl⟩ ?_
  intro p e s m args below meth c Rm Q X hK hF hLo hC0 hin hend hendX ls hl hR hS
  obtain ⟨hx, hb, hml, hown, hts⟩ := id X
  obtain ⟨nc, hnc⟩ : ∃ q, q = cx_c z := ⟨_, rfl⟩
  obtain ⟨ns, hns⟩ : ∃ q, q = cx_k z := ⟨_, rfl⟩
  have hC : nc ≤ Rm.cells ∧ ns ≤ Rm.slots := by rw [hnc, hns]; exact hC0
  have hm9 : 0 ≤ nc ∧ 0 ≤ ns := ⟨Nat.zero_le _, Nat.zero_le _⟩
  refine lv_aload_n hx hb dX1_valueRead_0 rfl (lv_at hl 0 rfl) ?_
  obtain ⟨r_1, D_1, h_1, hq⟩ := ww_b2S hf; replace hf := hq; clear hq
  refine c1c_1_next X hl.1 hK hR hS (Nat.le_trans (Nat.le_of_ble_eq_true rfl) hF) (Nat.le_trans (Nat.le_of_ble_eq_true rfl) hLo) (Nat.le_trans hm9.1 hC.1) (Nat.le_trans hm9.2 hC.2) h_1 (cw_rest (Nat.le_of_ble_eq_true rfl)) dX1_valueRead_1 (fun H locs hR hS => ?_)
  refine lv_bipush (v := (45 : Int32)) hx hb dX1_valueRead_4 (by decide) ?_
  refine lv_icmp_eq (tgt := 14) hx hb dX1_valueRead_6 (by decide) (fun c_2 => ?_) (fun c_2 => ?_)
  · replace hf := ww_ip hf c_2
    refine lv_aload_n hx hb dX1_valueRead_14 rfl (lv_at hl 0 rfl) ?_
    refine lv_dup hx hb dX1_valueRead_15 rfl ?_
    refine c1g_131 X hK hR dX1_valueRead_16 ?_
    refine lv_iconst (v := (1 : Int32)) hx hb dX1_valueRead_19 (by decide) ?_
    refine lv_iadd hx hb dX1_valueRead_20 ?_
    refine c1p_131 X hK hR hS dX1_valueRead_21 (fun H locs hR hS => ?_)
    refine lv_aload_n hx hb dX1_valueRead_24 rfl (lv_at hl 0 rfl) ?_
    rcases ww_tS hf with ⟨D_3, c_3, k_3, h_3, hq⟩ | ⟨r_3, D_3, c_3, k_3, h_3, hq⟩
    · replace hf := hq
      clear hq
      have hm9 : (0 + c_3) ≤ nc ∧ (0 + k_3) ≤ ns := by
        cases hf
        have e8 : nc = (0 + c_3) := hnc
        have e9 : ns = (0 + k_3) := hns
        omega
      refine c1tx_1_digits X hl.1 hK hR hS (Nat.le_trans (Nat.le_of_ble_eq_true rfl) hF) (Nat.le_trans (Nat.le_of_ble_eq_true rfl) hLo) (Nat.le_trans hm9.1 hC.1) (Nat.le_trans hm9.2 hC.2) h_3 (cw_rest (Nat.le_of_ble_eq_true rfl)) dX1_valueRead_25 (fun q9 ce9 H locs hR hS hce hcv hcl => ?_)
      exact hendX hf hR hS hce hcv hcl
    replace hf := hq
    clear hq
    have hm9 : (0 + c_3) ≤ nc ∧ (0 + k_3) ≤ ns := by
      cases hf
      have e8 : nc = (0 + c_3) := hnc
      have e9 : ns = (0 + k_3) := hns
      omega
    refine c1tn_1_digits X hl.1 hK hR hS (Nat.le_trans (Nat.le_of_ble_eq_true rfl) hF) (Nat.le_trans (Nat.le_of_ble_eq_true rfl) hLo) (Nat.le_trans hm9.1 hC.1) (Nat.le_trans hm9.2 hC.2) h_3 (cw_rest (Nat.le_of_ble_eq_true rfl)) dX1_valueRead_25 (fun H locs hR hS => ?_)
    refine lv_ineg hx hb dX1_valueRead_28 ?_
    exact hend dX1_valueRead_29 rfl rfl hf hR hS
  · replace hf := ww_in hf c_2
    refine lv_aload_n hx hb dX1_valueRead_9 rfl (lv_at hl 0 rfl) ?_
    rcases ww_tS hf with ⟨D_4, c_4, k_4, h_4, hq⟩ | ⟨r_4, D_4, c_4, k_4, h_4, hq⟩
    · replace hf := hq
      clear hq
      have hm9 : (0 + c_4) ≤ nc ∧ (0 + k_4) ≤ ns := by
        cases hf
        have e8 : nc = (0 + c_4) := hnc
        have e9 : ns = (0 + k_4) := hns
        omega
      refine c1tx_1_digits X hl.1 hK hR hS (Nat.le_trans (Nat.le_of_ble_eq_true rfl) hF) (Nat.le_trans (Nat.le_of_ble_eq_true rfl) hLo) (Nat.le_trans hm9.1 hC.1) (Nat.le_trans hm9.2 hC.2) h_4 (cw_rest (Nat.le_of_ble_eq_true rfl)) dX1_valueRead_10 (fun q9 ce9 H locs hR hS hce hcv hcl => ?_)
      exact hendX hf hR hS hce hcv hcl
    replace hf := hq
    clear hq
    have hm9 : (0 + c_4) ≤ nc ∧ (0 + k_4) ≤ ns := by
      cases hf
      have e8 : nc = (0 + c_4) := hnc
      have e9 : ns = (0 + k_4) := hns
      omega
    refine c1tn_1_digits X hl.1 hK hR hS (Nat.le_trans (Nat.le_of_ble_eq_true rfl) hF) (Nat.le_trans (Nat.le_of_ble_eq_true rfl) hLo) (Nat.le_trans hm9.1 hC.1) (Nat.le_trans hm9.2 hC.2) h_4 (cw_rest (Nat.le_of_ble_eq_true rfl)) dX1_valueRead_10 (fun H locs hR hS => ?_)
    exact hend dX1_valueRead_13 rfl rfl hf hR hS
section T_1_valueRead
variable {p : Program} {l : Launch} {e : Env} {R : Room} {s : State} {m : MethodId} {args : Array Value} {below : List Frame} {meth : Method} {c : Code} {H : Heap} {locs : List Loc} {cells slots : Nat} {Q : State → Prop}
variable {cc : ByteArray} {pc : Nat} {ls : Array Slot} {rest : List Value} {nL : Nat} {E : cw_E} {A : Nat → Prop} {H0 : Heap}
theorem c1tx_1_valueRead {D D1 : cw_D} {c1 k1 : Nat} (X : ww_C p m c cc nL s args RX1 lw_all) (hsz : ls.size = nL) (hK : cw_K E A s) (hR : cw_H E A D H) (hS : va_S A s.heap H locs) (hF : 4 ≤ R.frames) (hLo : 84 ≤ R.locals) (hc : cells + c1 ≤ R.cells) (hs : slots + k1 ≤ R.slots) (hf : f1_valueRead D = some (.inl (D1, c1, k1))) (hrest : (rest.map fun v => v.category).sum ≤ 8) (hdg : decode cc pc = .ok (.invokevirtual 184, 3)) (kx : ∀ (q : Nat) (ce : Cell) (H1 : Heap) (locs1 : List Loc), cw_H E A D1 H1 → va_S A s.heap H1 locs1 → H1[q]? = some ce → ce.vm = .none → s.vm.findClass RFault = some ce.cls → vx_W p l e R s m args below meth c H1 locs1 (cells + c1) (slots + k1) Q (F0 m pc ls rest) q) : W p l e R s m args below meth c H locs cells slots Q (F0 m pc ls (.ref E.1.1 :: rest)) :=
  vx_calli (vx_runV (C := RX1) (As := []) (rest := rest) (b := E.1.1) X (met1_valueRead l _ _ hf) (cwV 0 X.2.2.2.2 (lw_V q408 q410 qs9 q131 q411) rfl rfl rfl (by decide +kernel) ⟨hF, hLo⟩) (cw_pV hK hR hS (cw_rcM hK hR)) rfl rfl hsz rfl (lv_room hrest) hdg ⟨hc, hs⟩) hS (fun q _ h => h) (fun q h => h) (fun q _ h => h) (fun Ex ce q9 u t H1 locs1 ht hal hp hB hz hk hS1 hce hcv hcl => by
    have hp : (Sum.inl (D1, c1, k1) : cx_Z (Int32)) = .inl u := hp
    cases hp
    obtain ⟨hE, hB⟩ := hB
    subst hE
    rw [ht] at hB
    exact kx q9 ce H1 locs1 hB hS1 hce hcv hcl) (fun r9 u t H1 locs1 ht hal hp hB hz hk hS1 => by
    have hp : (Sum.inl (D1, c1, k1) : cx_Z (Int32)) = .inr (r9, u) := hp
    cases hp)
theorem c1tn_1_valueRead {r : Int32} {D D1 : cw_D} {c1 k1 : Nat} (X : ww_C p m c cc nL s args RX1 lw_all) (hsz : ls.size = nL) (hK : cw_K E A s) (hR : cw_H E A D H) (hS : va_S A s.heap H locs) (hF : 4 ≤ R.frames) (hLo : 84 ≤ R.locals) (hc : cells + c1 ≤ R.cells) (hs : slots + k1 ≤ R.slots) (hf : f1_valueRead D = some (.inr (r, D1, c1, k1))) (hrest : (rest.map fun v => v.category).sum ≤ 8) (hdg : decode cc pc = .ok (.invokevirtual 184, 3)) (kk : ∀ (H1 : Heap) (locs1 : List Loc), cw_H E A D1 H1 → va_S A s.heap H1 locs1 → W p l e R s m args below meth c H1 locs1 (cells + c1) (slots + k1) Q (F0 m (pc + 3) ls (.int r :: rest))) : W p l e R s m args below meth c H locs cells slots Q (F0 m pc ls (.ref E.1.1 :: rest)) :=
  vx_calli (vx_runV (C := RX1) (As := []) (rest := rest) (b := E.1.1) X (met1_valueRead l _ _ hf) (cwV 0 X.2.2.2.2 (lw_V q408 q410 qs9 q131 q411) rfl rfl rfl (by decide +kernel) ⟨hF, hLo⟩) (cw_pV hK hR hS (cw_rcM hK hR)) rfl rfl hsz rfl (lv_room hrest) hdg ⟨hc, hs⟩) hS (fun q _ h => h) (fun q h => h) (fun q _ h => h) (fun Ex ce q9 u t H1 locs1 ht hal hp hB hz hk hS1 hce hcv hcl => by
    have hp : (Sum.inr (r, D1, c1, k1) : cx_Z (Int32)) = .inl u := hp
    cases hp) (fun r9 u t H1 locs1 ht hal hp hB hz hk hS1 => by
    have hp : (Sum.inr (r, D1, c1, k1) : cx_Z (Int32)) = .inr (r9, u) := hp
    cases hp
    rw [ht] at hB
    exact kk H1 locs1 hB hS1)
end T_1_valueRead
noncomputable def f1_wholeMap_j2 (D : cw_D) (cf : Nat) (kf : Nat) (t0 : Int32) : Option ((cw_D × Nat × Nat × Int32) ⊕ (cx_Z (Unit))) :=
  if t0 = 0 then some (.inl (D, cf, kf, t0)) else some (.inl ((cw_sF D 4 ((ww_F D.1 4) + (1 : Int32))), cf, kf, t0))
noncomputable def f1_wholeMap_j1 (D : cw_D) (cf : Nat) (kf : Nat) (t1 : Int32) : Option ((cw_D × Nat × Nat × Int32) ⊕ (cx_Z (Unit))) :=
  ww_t (f1_must D t1) (fun D_12 c_12 k_12 => ww_x (some (.inl (D_12, (cf + c_12), (kf + k_12))))) (fun u_12 D_12 c_12 k_12 => ww_t (f1_valueRead (cw_sF D_12 4 ((ww_F D_12.1 4) + (1 : Int32)))) (fun D_13 c_13 k_13 => ww_x (some (.inl (D_13, ((cf + c_12) + c_13), ((kf + k_12) + k_13))))) (fun r_13 D_13 c_13 k_13 => ww_g (ww_i (((2 : Int32) * (ww_F (cw_sF D_12 4 ((ww_F D_12.1 4) + (1 : Int32))).1 9)) + (1 : Int32)) 480) (ww_b2 (f1_next (cw_sF (cw_sX D_13 8 (((2 : Int32) * (ww_F (cw_sF D_12 4 ((ww_F D_12.1 4) + (1 : Int32))).1 9)) + (1 : Int32)) r_13) 9 ((ww_F (cw_sX D_13 8 (((2 : Int32) * (ww_F (cw_sF D_12 4 ((ww_F D_12.1 4) + (1 : Int32))).1 9)) + (1 : Int32)) r_13).1 9) + (1 : Int32)))) (fun r_15 D_15 => if r_15 = (44 : Int32) then f1_wholeMap_j2 D_15 ((cf + c_12) + c_13) ((kf + k_12) + k_13) (1 : Int32) else f1_wholeMap_j2 D_15 ((cf + c_12) + c_13) ((kf + k_12) + k_13) (0 : Int32)))))
noncomputable def f1_wholeMap_b1c (D_3 : cw_D) (c_1b : Nat) (k_1b : Nat) (x1 : Int32) : Option ((cw_D × Nat × Nat × Int32) ⊕ (cx_Z (Unit))) :=
  if x1 = 0 then ww_x (ww_b2 (f1_next D_3) (fun r_5 D_5 => if r_5 = (-1 : Int32) then ww_t (f1_must D_5 (1 : Int32)) (fun D_8 c_8 k_8 => some (.inl (D_8, (c_1b + c_8), (k_1b + k_8)))) (fun u_8 D_8 c_8 k_8 => some (.inr ((), D_8, (c_1b + c_8), (k_1b + k_8)))) else ww_t (f1_must D_5 (0 : Int32)) (fun D_7 c_7 k_7 => some (.inl (D_7, (c_1b + c_7), (k_1b + k_7)))) (fun u_7 D_7 c_7 k_7 => some (.inr ((), D_7, (c_1b + c_7), (k_1b + k_7)))))) else ww_t (f1_keyRead D_3) (fun D_9 c_9 k_9 => ww_x (some (.inl (D_9, (c_1b + c_9), (k_1b + k_9))))) (fun r_9 D_9 c_9 k_9 => ww_g (ww_i ((2 : Int32) * (ww_F D_3.1 9)) 480) (ww_b2 (f1_next (cw_sX D_9 8 ((2 : Int32) * (ww_F D_3.1 9)) r_9)) (fun r_11 D_11 => if r_11 = (58 : Int32) then f1_wholeMap_j1 D_11 (c_1b + c_9) (k_1b + k_9) (1 : Int32) else f1_wholeMap_j1 D_11 (c_1b + c_9) (k_1b + k_9) (0 : Int32))))
noncomputable def f1_wholeMap_b1 : (cw_D × Nat × Nat × Int32) → Option ((cw_D × Nat × Nat × Int32) ⊕ (cx_Z (Unit))) := fun s9 => f1_wholeMap_b1c s9.1 s9.2.1 s9.2.2.1 s9.2.2.2
noncomputable def f1_wholeMap (D : cw_D) : Option (cx_Z (Unit)) :=
  ww_b2 (f1_next (cw_sF (cw_sF D 4 (0 : Int32)) 9 (0 : Int32))) (fun r_1 D_1 => if r_1 = (-1 : Int32) then some (.inr ((), D_1, 0, 0)) else ww_U (f1_wholeMap_b1) (D_1, 0, 0, (1 : Int32)))
set_option maxHeartbeats 4000000 in
set_option maxRecDepth 100000 in
theorem met1_wholeMap (l : Launch) {E : cw_E} {A : Nat → Prop} (D : cw_D) (z : cx_Z (Unit)) (hf : f1_wholeMap D = some z) : cx_MetV l yX1_wholeMap cX1_wholeMap 2 4 84 E A [.ref E.1.1] D z := by
  unfold f1_wholeMap at hf
  refine cx_sV (own := RX1) (by decide +kernel) [(0, .ref E.1.1)] ⟨Nat.le_of_ble_eq_true rfl, rfl⟩ ?_
  intro p e s m args below meth c Rm Q X hK hF hLo hC0 hin hend hendX ls hl hR hS
  obtain ⟨hx, hb, hml, hown, hts⟩ := id X
  obtain ⟨nc, hnc⟩ : ∃ q, q = cx_c z := ⟨_, rfl⟩
  obtain ⟨ns, hns⟩ : ∃ q, q = cx_k z := ⟨_, rfl⟩
  have hC : nc ≤ Rm.cells ∧ ns ≤ Rm.slots := by rw [hnc, hns]; exact hC0
  have hm9 : 0 ≤ nc ∧ 0 ≤ ns := ⟨Nat.zero_le _, Nat.zero_le _⟩
  refine lv_aload_n hx hb dX1_wholeMap_0 rfl (lv_at hl 0 rfl) ?_
  refine lv_iconst (v := (0 : Int32)) hx hb dX1_wholeMap_1 (by decide) ?_
  refine c1p_131 X hK hR hS dX1_wholeMap_2 (fun H locs hR hS => ?_)
  refine lv_aload_n hx hb dX1_wholeMap_5 rfl (lv_at hl 0 rfl) ?_
  refine lv_iconst (v := (0 : Int32)) hx hb dX1_wholeMap_6 (by decide) ?_
  refine c1p_190 X hK hR hS dX1_wholeMap_7 (fun H locs hR hS => ?_)
  refine lv_aload_n hx hb dX1_wholeMap_10 rfl (lv_at hl 0 rfl) ?_
  obtain ⟨r_1, D_1, h_1, hq⟩ := ww_b2S hf; replace hf := hq; clear hq
  refine c1c_1_next X hl.1 hK hR hS (Nat.le_trans (Nat.le_of_ble_eq_true rfl) hF) (Nat.le_trans (Nat.le_of_ble_eq_true rfl) hLo) (Nat.le_trans hm9.1 hC.1) (Nat.le_trans hm9.2 hC.2) h_1 (cw_rest (Nat.le_of_ble_eq_true rfl)) dX1_wholeMap_11 (fun H locs hR hS => ?_)
  refine lv_iconst (v := (-1 : Int32)) hx hb dX1_wholeMap_14 (by decide) ?_
  refine lv_icmp_ne (tgt := 19) hx hb dX1_wholeMap_15 (by decide) (fun c_2 => ?_) (fun c_2 => ?_)
  · replace hf := ww_in hf c_2
    refine lv_iconst (v := (1 : Int32)) hx hb dX1_wholeMap_19 (by decide) ?_
    refine lv_istore_n (lv' := [(1, .int (1 : Int32)), (0, .ref E.1.1)]) hx hb dX1_wholeMap_20 rfl hl (by decide) rfl (fun ls hl => ?_)
    have hL_1 : ∀ s9 : cw_D × Nat × Nat × Int32, ww_U (f1_wholeMap_b1) s9 = some z → (s9.2.1 ≤ nc ∧ s9.2.2.1 ≤ ns) ∧ (∀ (H : Heap) (locs : List Loc) (ls : Array Slot), cw_H E A s9.1 H → va_S A s.heap H locs → lv_has ls 2 [(0, .ref E.1.1), (1, .int s9.2.2.2)] → W p l e Rm s m args below meth c H locs s9.2.1 s9.2.2.1 Q (F0 m 21 ls [])) := by
      clear hf
      refine ww_ind _ z ?_
      intro s9 z_1 hf hz_1
      obtain ⟨D_3, c_1b, k_1b, x1⟩ := s9
      replace hf : f1_wholeMap_b1c D_3 c_1b k_1b x1 = some z_1 := hf
      unfold f1_wholeMap_b1c at hf
      have hm9 : c_1b ≤ nc ∧ k_1b ≤ ns := by
        show c_1b ≤ nc ∧ k_1b ≤ ns
        refine ww_by (x1 = 0) (fun c_4 => ?_) (fun c_4 => ?_)
        · replace hf := ww_ip hf c_4
          replace hf := ww_xK hf hz_1
          obtain ⟨r_5, D_5, h_5, hq⟩ := ww_b2S hf; replace hf := hq; clear hq
          refine ww_by (r_5 = (-1 : Int32)) (fun c_6 => ?_) (fun c_6 => ?_)
          · replace hf := ww_ip hf c_6
            rcases ww_tS hf with ⟨D_8, c_8, k_8, h_8, hq⟩ | ⟨u_8, D_8, c_8, k_8, h_8, hq⟩
            · replace hf := hq
              clear hq
              cases hf
              have e8 : nc = (c_1b + c_8) := hnc
              have e9 : ns = (k_1b + k_8) := hns
              omega
            replace hf := hq
            clear hq
            cases hf
            have e8 : nc = (c_1b + c_8) := hnc
            have e9 : ns = (k_1b + k_8) := hns
            omega
          · replace hf := ww_in hf c_6
            rcases ww_tS hf with ⟨D_7, c_7, k_7, h_7, hq⟩ | ⟨u_7, D_7, c_7, k_7, h_7, hq⟩
            · replace hf := hq
              clear hq
              cases hf
              have e8 : nc = (c_1b + c_7) := hnc
              have e9 : ns = (k_1b + k_7) := hns
              omega
            replace hf := hq
            clear hq
            cases hf
            have e8 : nc = (c_1b + c_7) := hnc
            have e9 : ns = (k_1b + k_7) := hns
            omega
        · replace hf := ww_in hf c_4
          rcases ww_tS hf with ⟨D_9, c_9, k_9, h_9, hq⟩ | ⟨r_9, D_9, c_9, k_9, h_9, hq⟩
          · replace hf := hq
            clear hq
            replace hf := ww_xK hf hz_1
            cases hf
            have e8 : nc = (c_1b + c_9) := hnc
            have e9 : ns = (k_1b + k_9) := hns
            omega
          replace hf := hq
          clear hq
          obtain ⟨h_10, hq⟩ := ww_gS hf; replace hf := hq; clear hq
          obtain ⟨r_11, D_11, h_11, hq⟩ := ww_b2S hf; replace hf := hq; clear hq
          have hj_1 : ∀ (t1 : Int32), f1_wholeMap_j1 D_11 (c_1b + c_9) (k_1b + k_9) t1 = some z_1 → (c_1b + c_9) ≤ nc ∧ (k_1b + k_9) ≤ ns := by
            clear hf
            intro t1 hf
            unfold f1_wholeMap_j1 at hf
            rcases ww_tS hf with ⟨D_12, c_12, k_12, h_12, hq⟩ | ⟨u_12, D_12, c_12, k_12, h_12, hq⟩
            · replace hf := hq
              clear hq
              replace hf := ww_xK hf hz_1
              cases hf
              have e8 : nc = ((c_1b + c_9) + c_12) := hnc
              have e9 : ns = ((k_1b + k_9) + k_12) := hns
              omega
            replace hf := hq
            clear hq
            rcases ww_tS hf with ⟨D_13, c_13, k_13, h_13, hq⟩ | ⟨r_13, D_13, c_13, k_13, h_13, hq⟩
            · replace hf := hq
              clear hq
              replace hf := ww_xK hf hz_1
              cases hf
              have e8 : nc = (((c_1b + c_9) + c_12) + c_13) := hnc
              have e9 : ns = (((k_1b + k_9) + k_12) + k_13) := hns
              omega
            replace hf := hq
            clear hq
            obtain ⟨h_14, hq⟩ := ww_gS hf; replace hf := hq; clear hq
            obtain ⟨r_15, D_15, h_15, hq⟩ := ww_b2S hf; replace hf := hq; clear hq
            have hj_2 : ∀ (t0 : Int32), f1_wholeMap_j2 D_15 (((c_1b + c_9) + c_12) + c_13) (((k_1b + k_9) + k_12) + k_13) t0 = some z_1 → (((c_1b + c_9) + c_12) + c_13) ≤ nc ∧ (((k_1b + k_9) + k_12) + k_13) ≤ ns := by
              clear hf
              intro t0 hf
              unfold f1_wholeMap_j2 at hf
              refine ww_by (t0 = 0) (fun c_16 => ?_) (fun c_16 => ?_)
              · replace hf := ww_ip hf c_16
                have e9 := (ww_lK hf hz_1).1
                try dsimp only at e9
                omega
              · replace hf := ww_in hf c_16
                have e9 := (ww_lK hf hz_1).1
                try dsimp only at e9
                omega
            refine ww_by (r_15 = (44 : Int32)) (fun c_17 => ?_) (fun c_17 => ?_)
            · replace hf := ww_ip hf c_17
              have e9 := hj_2 (1 : Int32) hf
              omega
            · replace hf := ww_in hf c_17
              have e9 := hj_2 (0 : Int32) hf
              omega
          refine ww_by (r_11 = (58 : Int32)) (fun c_18 => ?_) (fun c_18 => ?_)
          · replace hf := ww_ip hf c_18
            have e9 := hj_1 (1 : Int32) hf
            omega
          · replace hf := ww_in hf c_18
            have e9 := hj_1 (0 : Int32) hf
            omega
      refine ⟨hm9, ?_⟩
      try clear hl
      try clear hS
      try clear hR
      intro H locs ls hR hS hl
      replace hR : cw_H E A D_3 H := hR
      replace hl : lv_has ls 2 [(0, .ref E.1.1), (1, .int x1)] := hl
      show W p l e Rm s m args below meth c H locs c_1b k_1b Q _
      refine lv_iload_n hx hb dX1_wholeMap_21 rfl (lv_at hl 1 rfl) ?_
      refine lv_if_eq (tgt := 127) hx hb dX1_wholeMap_22 (by decide) (fun c_4 => ?_) (fun c_4 => ?_)
      · replace hf := ww_ip hf c_4
        replace hf := ww_xK hf hz_1
        refine lv_aload_n hx hb dX1_wholeMap_127 rfl (lv_at hl 0 rfl) ?_
        refine lv_aload_n hx hb dX1_wholeMap_128 rfl (lv_at hl 0 rfl) ?_
        obtain ⟨r_5, D_5, h_5, hq⟩ := ww_b2S hf; replace hf := hq; clear hq
        refine c1c_1_next X hl.1 hK hR hS (Nat.le_trans (Nat.le_of_ble_eq_true rfl) hF) (Nat.le_trans (Nat.le_of_ble_eq_true rfl) hLo) (Nat.le_trans hm9.1 hC.1) (Nat.le_trans hm9.2 hC.2) h_5 (cw_rest (Nat.le_of_ble_eq_true rfl)) dX1_wholeMap_129 (fun H locs hR hS => ?_)
        refine lv_iconst (v := (-1 : Int32)) hx hb dX1_wholeMap_132 (by decide) ?_
        refine lv_icmp_ne (tgt := 140) hx hb dX1_wholeMap_133 (by decide) (fun c_6 => ?_) (fun c_6 => ?_)
        · replace hf := ww_in hf c_6
          refine lv_iconst (v := (0 : Int32)) hx hb dX1_wholeMap_140 (by decide) ?_
          rcases ww_tS hf with ⟨D_7, c_7, k_7, h_7, hq⟩ | ⟨u_7, D_7, c_7, k_7, h_7, hq⟩
          · replace hf := hq
            clear hq
            have hm9 : (c_1b + c_7) ≤ nc ∧ (k_1b + k_7) ≤ ns := by
              cases hf
              have e8 : nc = (c_1b + c_7) := hnc
              have e9 : ns = (k_1b + k_7) := hns
              omega
            refine c1tx_1_must X hl.1 hK hR hS (Nat.le_trans (Nat.le_of_ble_eq_true rfl) hF) (Nat.le_trans (Nat.le_of_ble_eq_true rfl) hLo) (Nat.le_trans hm9.1 hC.1) (Nat.le_trans hm9.2 hC.2) h_7 (cw_rest (Nat.le_of_ble_eq_true rfl)) dX1_wholeMap_141 (fun q9 ce9 H locs hR hS hce hcv hcl => ?_)
            exact hendX hf hR hS hce hcv hcl
          replace hf := hq
          clear hq
          have hm9 : (c_1b + c_7) ≤ nc ∧ (k_1b + k_7) ≤ ns := by
            cases hf
            have e8 : nc = (c_1b + c_7) := hnc
            have e9 : ns = (k_1b + k_7) := hns
            omega
          refine c1tn_1_must X hl.1 hK hR hS (Nat.le_trans (Nat.le_of_ble_eq_true rfl) hF) (Nat.le_trans (Nat.le_of_ble_eq_true rfl) hLo) (Nat.le_trans hm9.1 hC.1) (Nat.le_trans hm9.2 hC.2) h_7 (cw_rest (Nat.le_of_ble_eq_true rfl)) dX1_wholeMap_141 (fun H locs hR hS => ?_)
          exact hend dX1_wholeMap_144 hf hR hS
        · replace hf := ww_ip hf c_6
          refine lv_iconst (v := (1 : Int32)) hx hb dX1_wholeMap_136 (by decide) ?_
          refine lv_goto (tgt := 141) hx hb dX1_wholeMap_137 (by decide) ?_
          rcases ww_tS hf with ⟨D_8, c_8, k_8, h_8, hq⟩ | ⟨u_8, D_8, c_8, k_8, h_8, hq⟩
          · replace hf := hq
            clear hq
            have hm9 : (c_1b + c_8) ≤ nc ∧ (k_1b + k_8) ≤ ns := by
              cases hf
              have e8 : nc = (c_1b + c_8) := hnc
              have e9 : ns = (k_1b + k_8) := hns
              omega
            refine c1tx_1_must X hl.1 hK hR hS (Nat.le_trans (Nat.le_of_ble_eq_true rfl) hF) (Nat.le_trans (Nat.le_of_ble_eq_true rfl) hLo) (Nat.le_trans hm9.1 hC.1) (Nat.le_trans hm9.2 hC.2) h_8 (cw_rest (Nat.le_of_ble_eq_true rfl)) dX1_wholeMap_141 (fun q9 ce9 H locs hR hS hce hcv hcl => ?_)
            exact hendX hf hR hS hce hcv hcl
          replace hf := hq
          clear hq
          have hm9 : (c_1b + c_8) ≤ nc ∧ (k_1b + k_8) ≤ ns := by
            cases hf
            have e8 : nc = (c_1b + c_8) := hnc
            have e9 : ns = (k_1b + k_8) := hns
            omega
          refine c1tn_1_must X hl.1 hK hR hS (Nat.le_trans (Nat.le_of_ble_eq_true rfl) hF) (Nat.le_trans (Nat.le_of_ble_eq_true rfl) hLo) (Nat.le_trans hm9.1 hC.1) (Nat.le_trans hm9.2 hC.2) h_8 (cw_rest (Nat.le_of_ble_eq_true rfl)) dX1_wholeMap_141 (fun H locs hR hS => ?_)
          exact hend dX1_wholeMap_144 hf hR hS
      · replace hf := ww_in hf c_4
        refine lv_aload_n hx hb dX1_wholeMap_25 rfl (lv_at hl 0 rfl) ?_
        refine c1g_54 X hK hR dX1_wholeMap_26 ?_
        refine lv_iconst (v := (2 : Int32)) hx hb dX1_wholeMap_29 (by decide) ?_
        refine lv_aload_n hx hb dX1_wholeMap_30 rfl (lv_at hl 0 rfl) ?_
        refine c1g_190 X hK hR dX1_wholeMap_31 ?_
        refine lv_imul hx hb dX1_wholeMap_34 ?_
        refine lv_aload_n hx hb dX1_wholeMap_35 rfl (lv_at hl 0 rfl) ?_
        rcases ww_tS hf with ⟨D_9, c_9, k_9, h_9, hq⟩ | ⟨r_9, D_9, c_9, k_9, h_9, hq⟩
        · replace hf := hq
          clear hq
          have hm9 : (c_1b + c_9) ≤ nc ∧ (k_1b + k_9) ≤ ns := by
            replace hf := ww_xK hf hz_1
            cases hf
            have e8 : nc = (c_1b + c_9) := hnc
            have e9 : ns = (k_1b + k_9) := hns
            omega
          refine c1tx_1_keyRead X hl.1 hK hR hS (Nat.le_trans (Nat.le_of_ble_eq_true rfl) hF) (Nat.le_trans (Nat.le_of_ble_eq_true rfl) hLo) (Nat.le_trans hm9.1 hC.1) (Nat.le_trans hm9.2 hC.2) h_9 (cw_rest (Nat.le_of_ble_eq_true rfl)) dX1_wholeMap_36 (fun q9 ce9 H locs hR hS hce hcv hcl => ?_)
          replace hf := ww_xK hf hz_1
          exact hendX hf hR hS hce hcv hcl
        replace hf := hq
        clear hq
        have hm9 : (c_1b + c_9) ≤ nc ∧ (k_1b + k_9) ≤ ns := by
          obtain ⟨h_10, hq⟩ := ww_gS hf; replace hf := hq; clear hq
          obtain ⟨r_11, D_11, h_11, hq⟩ := ww_b2S hf; replace hf := hq; clear hq
          have hj_1 : ∀ (t1 : Int32), f1_wholeMap_j1 D_11 (c_1b + c_9) (k_1b + k_9) t1 = some z_1 → (c_1b + c_9) ≤ nc ∧ (k_1b + k_9) ≤ ns := by
            clear hf
            intro t1 hf
            unfold f1_wholeMap_j1 at hf
            rcases ww_tS hf with ⟨D_12, c_12, k_12, h_12, hq⟩ | ⟨u_12, D_12, c_12, k_12, h_12, hq⟩
            · replace hf := hq
              clear hq
              replace hf := ww_xK hf hz_1
              cases hf
              have e8 : nc = ((c_1b + c_9) + c_12) := hnc
              have e9 : ns = ((k_1b + k_9) + k_12) := hns
              omega
            replace hf := hq
            clear hq
            rcases ww_tS hf with ⟨D_13, c_13, k_13, h_13, hq⟩ | ⟨r_13, D_13, c_13, k_13, h_13, hq⟩
            · replace hf := hq
              clear hq
              replace hf := ww_xK hf hz_1
              cases hf
              have e8 : nc = (((c_1b + c_9) + c_12) + c_13) := hnc
              have e9 : ns = (((k_1b + k_9) + k_12) + k_13) := hns
              omega
            replace hf := hq
            clear hq
            obtain ⟨h_14, hq⟩ := ww_gS hf; replace hf := hq; clear hq
            obtain ⟨r_15, D_15, h_15, hq⟩ := ww_b2S hf; replace hf := hq; clear hq
            have hj_2 : ∀ (t0 : Int32), f1_wholeMap_j2 D_15 (((c_1b + c_9) + c_12) + c_13) (((k_1b + k_9) + k_12) + k_13) t0 = some z_1 → (((c_1b + c_9) + c_12) + c_13) ≤ nc ∧ (((k_1b + k_9) + k_12) + k_13) ≤ ns := by
              clear hf
              intro t0 hf
              unfold f1_wholeMap_j2 at hf
              refine ww_by (t0 = 0) (fun c_16 => ?_) (fun c_16 => ?_)
              · replace hf := ww_ip hf c_16
                have e9 := (ww_lK hf hz_1).1
                try dsimp only at e9
                omega
              · replace hf := ww_in hf c_16
                have e9 := (ww_lK hf hz_1).1
                try dsimp only at e9
                omega
            refine ww_by (r_15 = (44 : Int32)) (fun c_17 => ?_) (fun c_17 => ?_)
            · replace hf := ww_ip hf c_17
              have e9 := hj_2 (1 : Int32) hf
              omega
            · replace hf := ww_in hf c_17
              have e9 := hj_2 (0 : Int32) hf
              omega
          refine ww_by (r_11 = (58 : Int32)) (fun c_18 => ?_) (fun c_18 => ?_)
          · replace hf := ww_ip hf c_18
            have e9 := hj_1 (1 : Int32) hf
            omega
          · replace hf := ww_in hf c_18
            have e9 := hj_1 (0 : Int32) hf
            omega
        refine c1tn_1_keyRead X hl.1 hK hR hS (Nat.le_trans (Nat.le_of_ble_eq_true rfl) hF) (Nat.le_trans (Nat.le_of_ble_eq_true rfl) hLo) (Nat.le_trans hm9.1 hC.1) (Nat.le_trans hm9.2 hC.2) h_9 (cw_rest (Nat.le_of_ble_eq_true rfl)) dX1_wholeMap_36 (fun H locs hR hS => ?_)
        obtain ⟨h_10, hq⟩ := ww_gS hf; replace hf := hq; clear hq
        refine c1s_8 X hK hR hS h_10 dX1_wholeMap_39 (fun H locs hR hS => ?_)
        refine lv_aload_n hx hb dX1_wholeMap_40 rfl (lv_at hl 0 rfl) ?_
        refine lv_aload_n hx hb dX1_wholeMap_41 rfl (lv_at hl 0 rfl) ?_
        obtain ⟨r_11, D_11, h_11, hq⟩ := ww_b2S hf; replace hf := hq; clear hq
        refine c1c_1_next X hl.1 hK hR hS (Nat.le_trans (Nat.le_of_ble_eq_true rfl) hF) (Nat.le_trans (Nat.le_of_ble_eq_true rfl) hLo) (Nat.le_trans hm9.1 hC.1) (Nat.le_trans hm9.2 hC.2) h_11 (cw_rest (Nat.le_of_ble_eq_true rfl)) dX1_wholeMap_42 (fun H locs hR hS => ?_)
        refine lv_bipush (v := (58 : Int32)) hx hb dX1_wholeMap_45 (by decide) ?_
        have hj_1 : ∀ (t1 : Int32), f1_wholeMap_j1 D_11 (c_1b + c_9) (k_1b + k_9) t1 = some z_1 → ((c_1b + c_9) ≤ nc ∧ (k_1b + k_9) ≤ ns) ∧ (∀ (H : Heap) (locs : List Loc) (ls : Array Slot), cw_H E A D_11 H → va_S A s.heap H locs → lv_has ls 2 [(0, .ref E.1.1)] → W p l e Rm s m args below meth c H locs (c_1b + c_9) (k_1b + k_9) Q (F0 m 55 ls [.int t1, .ref E.1.1])) := by
          clear hf
          intro t1 hf
          unfold f1_wholeMap_j1 at hf
          have hm9 : (c_1b + c_9) ≤ nc ∧ (k_1b + k_9) ≤ ns := by
            rcases ww_tS hf with ⟨D_12, c_12, k_12, h_12, hq⟩ | ⟨u_12, D_12, c_12, k_12, h_12, hq⟩
            · replace hf := hq
              clear hq
              replace hf := ww_xK hf hz_1
              cases hf
              have e8 : nc = ((c_1b + c_9) + c_12) := hnc
              have e9 : ns = ((k_1b + k_9) + k_12) := hns
              omega
            replace hf := hq
            clear hq
            rcases ww_tS hf with ⟨D_13, c_13, k_13, h_13, hq⟩ | ⟨r_13, D_13, c_13, k_13, h_13, hq⟩
            · replace hf := hq
              clear hq
              replace hf := ww_xK hf hz_1
              cases hf
              have e8 : nc = (((c_1b + c_9) + c_12) + c_13) := hnc
              have e9 : ns = (((k_1b + k_9) + k_12) + k_13) := hns
              omega
            replace hf := hq
            clear hq
            obtain ⟨h_14, hq⟩ := ww_gS hf; replace hf := hq; clear hq
            obtain ⟨r_15, D_15, h_15, hq⟩ := ww_b2S hf; replace hf := hq; clear hq
            have hj_2 : ∀ (t0 : Int32), f1_wholeMap_j2 D_15 (((c_1b + c_9) + c_12) + c_13) (((k_1b + k_9) + k_12) + k_13) t0 = some z_1 → (((c_1b + c_9) + c_12) + c_13) ≤ nc ∧ (((k_1b + k_9) + k_12) + k_13) ≤ ns := by
              clear hf
              intro t0 hf
              unfold f1_wholeMap_j2 at hf
              refine ww_by (t0 = 0) (fun c_16 => ?_) (fun c_16 => ?_)
              · replace hf := ww_ip hf c_16
                have e9 := (ww_lK hf hz_1).1
                try dsimp only at e9
                omega
              · replace hf := ww_in hf c_16
                have e9 := (ww_lK hf hz_1).1
                try dsimp only at e9
                omega
            refine ww_by (r_15 = (44 : Int32)) (fun c_17 => ?_) (fun c_17 => ?_)
            · replace hf := ww_ip hf c_17
              have e9 := hj_2 (1 : Int32) hf
              omega
            · replace hf := ww_in hf c_17
              have e9 := hj_2 (0 : Int32) hf
              omega
          refine ⟨hm9, ?_⟩
          try clear hl
          try clear hS
          try clear hR
          intro H locs ls hR hS hl
          rcases ww_tS hf with ⟨D_12, c_12, k_12, h_12, hq⟩ | ⟨u_12, D_12, c_12, k_12, h_12, hq⟩
          · replace hf := hq
            clear hq
            have hm9 : ((c_1b + c_9) + c_12) ≤ nc ∧ ((k_1b + k_9) + k_12) ≤ ns := by
              replace hf := ww_xK hf hz_1
              cases hf
              have e8 : nc = ((c_1b + c_9) + c_12) := hnc
              have e9 : ns = ((k_1b + k_9) + k_12) := hns
              omega
            refine c1tx_1_must X hl.1 hK hR hS (Nat.le_trans (Nat.le_of_ble_eq_true rfl) hF) (Nat.le_trans (Nat.le_of_ble_eq_true rfl) hLo) (Nat.le_trans hm9.1 hC.1) (Nat.le_trans hm9.2 hC.2) h_12 (cw_rest (Nat.le_of_ble_eq_true rfl)) dX1_wholeMap_55 (fun q9 ce9 H locs hR hS hce hcv hcl => ?_)
            replace hf := ww_xK hf hz_1
            exact hendX hf hR hS hce hcv hcl
          replace hf := hq
          clear hq
          have hm9 : ((c_1b + c_9) + c_12) ≤ nc ∧ ((k_1b + k_9) + k_12) ≤ ns := by
            rcases ww_tS hf with ⟨D_13, c_13, k_13, h_13, hq⟩ | ⟨r_13, D_13, c_13, k_13, h_13, hq⟩
            · replace hf := hq
              clear hq
              replace hf := ww_xK hf hz_1
              cases hf
              have e8 : nc = (((c_1b + c_9) + c_12) + c_13) := hnc
              have e9 : ns = (((k_1b + k_9) + k_12) + k_13) := hns
              omega
            replace hf := hq
            clear hq
            obtain ⟨h_14, hq⟩ := ww_gS hf; replace hf := hq; clear hq
            obtain ⟨r_15, D_15, h_15, hq⟩ := ww_b2S hf; replace hf := hq; clear hq
            have hj_2 : ∀ (t0 : Int32), f1_wholeMap_j2 D_15 (((c_1b + c_9) + c_12) + c_13) (((k_1b + k_9) + k_12) + k_13) t0 = some z_1 → (((c_1b + c_9) + c_12) + c_13) ≤ nc ∧ (((k_1b + k_9) + k_12) + k_13) ≤ ns := by
              clear hf
              intro t0 hf
              unfold f1_wholeMap_j2 at hf
              refine ww_by (t0 = 0) (fun c_16 => ?_) (fun c_16 => ?_)
              · replace hf := ww_ip hf c_16
                have e9 := (ww_lK hf hz_1).1
                try dsimp only at e9
                omega
              · replace hf := ww_in hf c_16
                have e9 := (ww_lK hf hz_1).1
                try dsimp only at e9
                omega
            refine ww_by (r_15 = (44 : Int32)) (fun c_17 => ?_) (fun c_17 => ?_)
            · replace hf := ww_ip hf c_17
              have e9 := hj_2 (1 : Int32) hf
              omega
            · replace hf := ww_in hf c_17
              have e9 := hj_2 (0 : Int32) hf
              omega
          refine c1tn_1_must X hl.1 hK hR hS (Nat.le_trans (Nat.le_of_ble_eq_true rfl) hF) (Nat.le_trans (Nat.le_of_ble_eq_true rfl) hLo) (Nat.le_trans hm9.1 hC.1) (Nat.le_trans hm9.2 hC.2) h_12 (cw_rest (Nat.le_of_ble_eq_true rfl)) dX1_wholeMap_55 (fun H locs hR hS => ?_)
          refine lv_aload_n hx hb dX1_wholeMap_58 rfl (lv_at hl 0 rfl) ?_
          refine lv_dup hx hb dX1_wholeMap_59 rfl ?_
          refine c1g_131 X hK hR dX1_wholeMap_60 ?_
          refine lv_iconst (v := (1 : Int32)) hx hb dX1_wholeMap_63 (by decide) ?_
          refine lv_iadd hx hb dX1_wholeMap_64 ?_
          refine c1p_131 X hK hR hS dX1_wholeMap_65 (fun H locs hR hS => ?_)
          refine lv_aload_n hx hb dX1_wholeMap_68 rfl (lv_at hl 0 rfl) ?_
          refine c1g_54 X hK hR dX1_wholeMap_69 ?_
          refine lv_iconst (v := (2 : Int32)) hx hb dX1_wholeMap_72 (by decide) ?_
          refine lv_aload_n hx hb dX1_wholeMap_73 rfl (lv_at hl 0 rfl) ?_
          refine c1g_190 X hK hR dX1_wholeMap_74 ?_
          refine lv_imul hx hb dX1_wholeMap_77 ?_
          refine lv_iconst (v := (1 : Int32)) hx hb dX1_wholeMap_78 (by decide) ?_
          refine lv_iadd hx hb dX1_wholeMap_79 ?_
          refine lv_aload_n hx hb dX1_wholeMap_80 rfl (lv_at hl 0 rfl) ?_
          rcases ww_tS hf with ⟨D_13, c_13, k_13, h_13, hq⟩ | ⟨r_13, D_13, c_13, k_13, h_13, hq⟩
          · replace hf := hq
            clear hq
            have hm9 : (((c_1b + c_9) + c_12) + c_13) ≤ nc ∧ (((k_1b + k_9) + k_12) + k_13) ≤ ns := by
              replace hf := ww_xK hf hz_1
              cases hf
              have e8 : nc = (((c_1b + c_9) + c_12) + c_13) := hnc
              have e9 : ns = (((k_1b + k_9) + k_12) + k_13) := hns
              omega
            refine c1tx_1_valueRead X hl.1 hK hR hS (Nat.le_trans (Nat.le_of_ble_eq_true rfl) hF) (Nat.le_trans (Nat.le_of_ble_eq_true rfl) hLo) (Nat.le_trans hm9.1 hC.1) (Nat.le_trans hm9.2 hC.2) h_13 (cw_rest (Nat.le_of_ble_eq_true rfl)) dX1_wholeMap_81 (fun q9 ce9 H locs hR hS hce hcv hcl => ?_)
            replace hf := ww_xK hf hz_1
            exact hendX hf hR hS hce hcv hcl
          replace hf := hq
          clear hq
          have hm9 : (((c_1b + c_9) + c_12) + c_13) ≤ nc ∧ (((k_1b + k_9) + k_12) + k_13) ≤ ns := by
            obtain ⟨h_14, hq⟩ := ww_gS hf; replace hf := hq; clear hq
            obtain ⟨r_15, D_15, h_15, hq⟩ := ww_b2S hf; replace hf := hq; clear hq
            have hj_2 : ∀ (t0 : Int32), f1_wholeMap_j2 D_15 (((c_1b + c_9) + c_12) + c_13) (((k_1b + k_9) + k_12) + k_13) t0 = some z_1 → (((c_1b + c_9) + c_12) + c_13) ≤ nc ∧ (((k_1b + k_9) + k_12) + k_13) ≤ ns := by
              clear hf
              intro t0 hf
              unfold f1_wholeMap_j2 at hf
              refine ww_by (t0 = 0) (fun c_16 => ?_) (fun c_16 => ?_)
              · replace hf := ww_ip hf c_16
                have e9 := (ww_lK hf hz_1).1
                try dsimp only at e9
                omega
              · replace hf := ww_in hf c_16
                have e9 := (ww_lK hf hz_1).1
                try dsimp only at e9
                omega
            refine ww_by (r_15 = (44 : Int32)) (fun c_17 => ?_) (fun c_17 => ?_)
            · replace hf := ww_ip hf c_17
              have e9 := hj_2 (1 : Int32) hf
              omega
            · replace hf := ww_in hf c_17
              have e9 := hj_2 (0 : Int32) hf
              omega
          refine c1tn_1_valueRead X hl.1 hK hR hS (Nat.le_trans (Nat.le_of_ble_eq_true rfl) hF) (Nat.le_trans (Nat.le_of_ble_eq_true rfl) hLo) (Nat.le_trans hm9.1 hC.1) (Nat.le_trans hm9.2 hC.2) h_13 (cw_rest (Nat.le_of_ble_eq_true rfl)) dX1_wholeMap_81 (fun H locs hR hS => ?_)
          obtain ⟨h_14, hq⟩ := ww_gS hf; replace hf := hq; clear hq
          refine c1s_8 X hK hR hS h_14 dX1_wholeMap_84 (fun H locs hR hS => ?_)
          refine lv_aload_n hx hb dX1_wholeMap_85 rfl (lv_at hl 0 rfl) ?_
          refine lv_dup hx hb dX1_wholeMap_86 rfl ?_
          refine c1g_190 X hK hR dX1_wholeMap_87 ?_
          refine lv_iconst (v := (1 : Int32)) hx hb dX1_wholeMap_90 (by decide) ?_
          refine lv_iadd hx hb dX1_wholeMap_91 ?_
          refine c1p_190 X hK hR hS dX1_wholeMap_92 (fun H locs hR hS => ?_)
          refine lv_aload_n hx hb dX1_wholeMap_95 rfl (lv_at hl 0 rfl) ?_
          obtain ⟨r_15, D_15, h_15, hq⟩ := ww_b2S hf; replace hf := hq; clear hq
          refine c1c_1_next X hl.1 hK hR hS (Nat.le_trans (Nat.le_of_ble_eq_true rfl) hF) (Nat.le_trans (Nat.le_of_ble_eq_true rfl) hLo) (Nat.le_trans hm9.1 hC.1) (Nat.le_trans hm9.2 hC.2) h_15 (cw_rest (Nat.le_of_ble_eq_true rfl)) dX1_wholeMap_96 (fun H locs hR hS => ?_)
          refine lv_bipush (v := (44 : Int32)) hx hb dX1_wholeMap_99 (by decide) ?_
          have hj_2 : ∀ (t0 : Int32), f1_wholeMap_j2 D_15 (((c_1b + c_9) + c_12) + c_13) (((k_1b + k_9) + k_12) + k_13) t0 = some z_1 → ((((c_1b + c_9) + c_12) + c_13) ≤ nc ∧ (((k_1b + k_9) + k_12) + k_13) ≤ ns) ∧ (∀ (H : Heap) (locs : List Loc) (ls : Array Slot), cw_H E A D_15 H → va_S A s.heap H locs → lv_has ls 2 [(0, .ref E.1.1)] → W p l e Rm s m args below meth c H locs (((c_1b + c_9) + c_12) + c_13) (((k_1b + k_9) + k_12) + k_13) Q (F0 m 109 ls [.int t0])) := by
            clear hf
            intro t0 hf
            unfold f1_wholeMap_j2 at hf
            have hm9 : (((c_1b + c_9) + c_12) + c_13) ≤ nc ∧ (((k_1b + k_9) + k_12) + k_13) ≤ ns := by
              refine ww_by (t0 = 0) (fun c_16 => ?_) (fun c_16 => ?_)
              · replace hf := ww_ip hf c_16
                have e9 := (ww_lK hf hz_1).1
                try dsimp only at e9
                omega
              · replace hf := ww_in hf c_16
                have e9 := (ww_lK hf hz_1).1
                try dsimp only at e9
                omega
            refine ⟨hm9, ?_⟩
            try clear hl
            try clear hS
            try clear hR
            intro H locs ls hR hS hl
            refine lv_istore_n (lv' := [(1, .int t0), (0, .ref E.1.1)]) hx hb dX1_wholeMap_109 rfl hl (by decide) rfl (fun ls hl => ?_)
            refine lv_iload_n hx hb dX1_wholeMap_110 rfl (lv_at hl 0 rfl) ?_
            refine lv_if_eq (tgt := 21) hx hb dX1_wholeMap_111 (by decide) (fun c_16 => ?_) (fun c_16 => ?_)
            · replace hf := ww_ip hf c_16
              exact (ww_lK hf hz_1).2 _ _ _ hR hS (lv_sub hl [1, 0] rfl)
            · replace hf := ww_in hf c_16
              refine lv_aload_n hx hb dX1_wholeMap_114 rfl (lv_at hl 1 rfl) ?_
              refine lv_dup hx hb dX1_wholeMap_115 rfl ?_
              refine c1g_131 X hK hR dX1_wholeMap_116 ?_
              refine lv_iconst (v := (1 : Int32)) hx hb dX1_wholeMap_119 (by decide) ?_
              refine lv_iadd hx hb dX1_wholeMap_120 ?_
              refine c1p_131 X hK hR hS dX1_wholeMap_121 (fun H locs hR hS => ?_)
              refine lv_goto (tgt := 21) hx hb dX1_wholeMap_124 (by decide) ?_
              exact (ww_lK hf hz_1).2 _ _ _ hR hS (lv_sub hl [1, 0] rfl)
          refine lv_icmp_ne (tgt := 108) hx hb dX1_wholeMap_101 (by decide) (fun c_17 => ?_) (fun c_17 => ?_)
          · replace hf := ww_in hf c_17
            refine lv_iconst (v := (0 : Int32)) hx hb dX1_wholeMap_108 (by decide) ?_
            exact (hj_2 (0 : Int32) hf).2 _ _ _ hR hS hl
          · replace hf := ww_ip hf c_17
            refine lv_iconst (v := (1 : Int32)) hx hb dX1_wholeMap_104 (by decide) ?_
            refine lv_goto (tgt := 109) hx hb dX1_wholeMap_105 (by decide) ?_
            exact (hj_2 (1 : Int32) hf).2 _ _ _ hR hS hl
        refine lv_icmp_ne (tgt := 54) hx hb dX1_wholeMap_47 (by decide) (fun c_18 => ?_) (fun c_18 => ?_)
        · replace hf := ww_in hf c_18
          refine lv_iconst (v := (0 : Int32)) hx hb dX1_wholeMap_54 (by decide) ?_
          exact (hj_1 (0 : Int32) hf).2 _ _ _ hR hS (lv_sub hl [0] rfl)
        · replace hf := ww_ip hf c_18
          refine lv_iconst (v := (1 : Int32)) hx hb dX1_wholeMap_50 (by decide) ?_
          refine lv_goto (tgt := 55) hx hb dX1_wholeMap_51 (by decide) ?_
          exact (hj_1 (1 : Int32) hf).2 _ _ _ hR hS (lv_sub hl [0] rfl)
    exact (hL_1 (D_1, 0, 0, (1 : Int32)) hf).2 _ _ _ hR hS (lv_sub hl [1, 0] rfl)
  · replace hf := ww_ip hf c_2
    exact hend dX1_wholeMap_18 hf hR hS
section T_1_wholeMap
variable {p : Program} {l : Launch} {e : Env} {R : Room} {s : State} {m : MethodId} {args : Array Value} {below : List Frame} {meth : Method} {c : Code} {H : Heap} {locs : List Loc} {cells slots : Nat} {Q : State → Prop}
variable {cc : ByteArray} {pc : Nat} {ls : Array Slot} {rest : List Value} {nL : Nat} {E : cw_E} {A : Nat → Prop} {H0 : Heap}
theorem c1tx_1_wholeMap {D D1 : cw_D} {c1 k1 : Nat} (X : ww_C p m c cc nL s args RX1 lw_all) (hsz : ls.size = nL) (hK : cw_K E A s) (hR : cw_H E A D H) (hS : va_S A s.heap H locs) (hF : 5 ≤ R.frames) (hLo : 105 ≤ R.locals) (hc : cells + c1 ≤ R.cells) (hs : slots + k1 ≤ R.slots) (hf : f1_wholeMap D = some (.inl (D1, c1, k1))) (hrest : (rest.map fun v => v.category).sum ≤ 8) (hdg : decode cc pc = .ok (.invokevirtual 193, 3)) (kx : ∀ (q : Nat) (ce : Cell) (H1 : Heap) (locs1 : List Loc), cw_H E A D1 H1 → va_S A s.heap H1 locs1 → H1[q]? = some ce → ce.vm = .none → s.vm.findClass RFault = some ce.cls → vx_W p l e R s m args below meth c H1 locs1 (cells + c1) (slots + k1) Q (F0 m pc ls rest) q) : W p l e R s m args below meth c H locs cells slots Q (F0 m pc ls (.ref E.1.1 :: rest)) :=
  vx_callv (vx_runV (C := RX1) (As := []) (rest := rest) (b := E.1.1) X (met1_wholeMap l _ _ hf) (cwV 0 X.2.2.2.2 (lw_V q381 q383 qs3 q131 q384) rfl rfl rfl (by decide +kernel) ⟨hF, hLo⟩) (cw_pV hK hR hS (cw_rcM hK hR)) rfl rfl hsz rfl (lv_room hrest) hdg ⟨hc, hs⟩) hS (fun q _ h => h) (fun q h => h) (fun q _ h => h) (fun Ex ce q9 u t H1 locs1 ht hal hp hB hz hk hS1 hce hcv hcl => by
    have hp : (Sum.inl (D1, c1, k1) : cx_Z (Unit)) = .inl u := hp
    cases hp
    obtain ⟨hE, hB⟩ := hB
    subst hE
    rw [ht] at hB
    exact kx q9 ce H1 locs1 hB hS1 hce hcv hcl) (fun u t H1 locs1 ht hal hp hB hz hk hS1 => by
    have hp : (Sum.inl (D1, c1, k1) : cx_Z (Unit)) = .inr ((), u) := hp
    cases hp)
theorem c1tn_1_wholeMap {D D1 : cw_D} {c1 k1 : Nat} (X : ww_C p m c cc nL s args RX1 lw_all) (hsz : ls.size = nL) (hK : cw_K E A s) (hR : cw_H E A D H) (hS : va_S A s.heap H locs) (hF : 5 ≤ R.frames) (hLo : 105 ≤ R.locals) (hc : cells + c1 ≤ R.cells) (hs : slots + k1 ≤ R.slots) (hf : f1_wholeMap D = some (.inr ((), D1, c1, k1))) (hrest : (rest.map fun v => v.category).sum ≤ 8) (hdg : decode cc pc = .ok (.invokevirtual 193, 3)) (kk : ∀ (H1 : Heap) (locs1 : List Loc), cw_H E A D1 H1 → va_S A s.heap H1 locs1 → W p l e R s m args below meth c H1 locs1 (cells + c1) (slots + k1) Q (F0 m (pc + 3) ls (rest))) : W p l e R s m args below meth c H locs cells slots Q (F0 m pc ls (.ref E.1.1 :: rest)) :=
  vx_callv (vx_runV (C := RX1) (As := []) (rest := rest) (b := E.1.1) X (met1_wholeMap l _ _ hf) (cwV 0 X.2.2.2.2 (lw_V q381 q383 qs3 q131 q384) rfl rfl rfl (by decide +kernel) ⟨hF, hLo⟩) (cw_pV hK hR hS (cw_rcM hK hR)) rfl rfl hsz rfl (lv_room hrest) hdg ⟨hc, hs⟩) hS (fun q _ h => h) (fun q h => h) (fun q _ h => h) (fun Ex ce q9 u t H1 locs1 ht hal hp hB hz hk hS1 hce hcv hcl => by
    have hp : (Sum.inr ((), D1, c1, k1) : cx_Z (Unit)) = .inl u := hp
    cases hp) (fun u t H1 locs1 ht hal hp hB hz hk hS1 => by
    have hp : (Sum.inr ((), D1, c1, k1) : cx_Z (Unit)) = .inr ((), u) := hp
    cases hp
    rw [ht] at hB
    exact kk H1 locs1 hB hS1)
end T_1_wholeMap
