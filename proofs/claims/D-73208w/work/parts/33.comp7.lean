noncomputable def f1_run_b1c (y1 : Int32) (y2 : Int32) (D_4 : cw_D) (c_1b : Nat) (k_1b : Nat) (x3 : Int32) : Option ((cw_D × Nat × Nat × Int32) ⊕ (Int32 × cw_D × Nat × Nat)) :=
  ww_g (ww_i y1 5) (if (ww_X D_4.1 6 y1) ≤ x3 then ww_x (some (x3, D_4, c_1b, k_1b)) else ww_b4 (f1_doStep D_4 y2 ((4 : Int32) * (((16 : Int32) * y1) + x3))) (fun r_7 D_7 c_7 k_7 => if r_7 = 0 then ww_x (some (x3, D_7, (c_1b + c_7), (k_1b + k_7))) else some (.inl (D_7, (c_1b + c_7), (k_1b + k_7), (x3 + (1 : Int32))))))
noncomputable def f1_run_b1 (y1 : Int32) (y2 : Int32) : (cw_D × Nat × Nat × Int32) → Option ((cw_D × Nat × Nat × Int32) ⊕ (Int32 × cw_D × Nat × Nat)) := fun s9 => f1_run_b1c y1 y2 s9.1 s9.2.1 s9.2.2.1 s9.2.2.2
noncomputable def f1_run_j1 (D : cw_D) (cf : Nat) (kf : Nat) (y1 : Int32) (y2 : Int32) (t1 : Int32) : Option (Int32 × cw_D × Nat × Nat) :=
  ww_b2 (f1_isRefused D t1) (fun r_2 D_2 => if r_2 = 0 then ww_U (f1_run_b1 y1 y2) (D_2, cf, kf, (0 : Int32)) else some ((-1 : Int32), D_2, cf, kf))
noncomputable def f1_run (D : cw_D) (x1 : Int32) (x2 : Int32) : Option (Int32 × cw_D × Nat × Nat) :=
  ww_b (f1_in x1 (0 : Int32) ((ww_F D.1 7) - (1 : Int32))) (fun r_1 => if r_1 = 0 then f1_run_j1 D 0 0 x1 x2 (0 : Int32) else ww_b (f1_whyNot D x2 (1 : Int32)) (fun r_10 => f1_run_j1 D 0 0 x1 x2 r_10))
set_option maxHeartbeats 4000000 in
set_option maxRecDepth 100000 in
theorem met1_run (l : Launch) {E : cw_E} {A : Nat → Prop} (D : cw_D) (x1 : Int32) (x2 : Int32) (r : Int32) (D' : cw_D) (nc ns : Nat) (hf : f1_run D x1 x2 = some (r, D', nc, ns)) : cw_MetI l yX1_run cX1_run 4 (some Jvm.ClassFile.FieldType.int) 25 571 E A [.ref E.1.1, .int x1, .int x2] D D' r nc ns := by
  unfold f1_run at hf
  refine cw_sIN (own := RX1) (by decide +kernel) [(0, .ref E.1.1), (1, .int x1), (2, .int x2)] ⟨Nat.le_of_ble_eq_true rfl, rfl⟩ ?_
  intro p e s m args below meth c Rm Q X hK hF hLo hC hin hend ls hl hR hS
  obtain ⟨hx, hb, hml, hown, hts⟩ := id X
  have hm9 : 0 ≤ nc ∧ 0 ≤ ns := ⟨Nat.zero_le _, Nat.zero_le _⟩
  refine lv_aload_n hx hb dX1_run_0 rfl (lv_at hl 0 rfl) ?_
  refine lv_iload_n hx hb dX1_run_1 rfl (lv_at hl 1 rfl) ?_
  refine lv_iconst (v := (0 : Int32)) hx hb dX1_run_2 (by decide) ?_
  refine lv_aload_n hx hb dX1_run_3 rfl (lv_at hl 0 rfl) ?_
  refine c1g_199 X hK hR dX1_run_4 ?_
  refine lv_iconst (v := (1 : Int32)) hx hb dX1_run_7 (by decide) ?_
  refine lv_isub hx hb dX1_run_8 ?_
  obtain ⟨r_1, h_1, hq⟩ := ww_bS hf; replace hf := hq; clear hq
  refine c1c_1_in X hl.1 (Nat.le_trans (Nat.le_of_ble_eq_true rfl) hF) (Nat.le_trans (Nat.le_of_ble_eq_true rfl) hLo) (Nat.le_trans hm9.1 hC.1) (Nat.le_trans hm9.2 hC.2) h_1 (cw_rest (Nat.le_of_ble_eq_true rfl)) dX1_run_9 ?_
  have hj_1 : ∀ (t1 : Int32), f1_run_j1 D 0 0 x1 x2 t1 = some (r, D', nc, ns) → (0 ≤ nc ∧ 0 ≤ ns) ∧ (∀ (H : Heap) (locs : List Loc) (ls : Array Slot), cw_H E A D H → va_S A s.heap H locs → lv_has ls 4 [(0, .ref E.1.1), (1, .int x1), (2, .int x2)] → W p l e Rm s m args below meth c H locs 0 0 Q (F0 m 25 ls [.int t1, .ref E.1.1])) := by
    clear hf
    intro t1 hf
    unfold f1_run_j1 at hf
    have hm9 : 0 ≤ nc ∧ 0 ≤ ns := by
      obtain ⟨r_2, D_2, h_2, hq⟩ := ww_b2S hf; replace hf := hq; clear hq
      refine ww_by (r_2 = 0) (fun c_3 => ?_) (fun c_3 => ?_)
      · replace hf := ww_ip hf c_3
        have hL_1 : ∀ s9 : cw_D × Nat × Nat × Int32, ww_U (f1_run_b1 x1 x2) s9 = some (r, D', nc, ns) → s9.2.1 ≤ nc ∧ s9.2.2.1 ≤ ns := by
          clear hf
          refine ww_ind _ (r, D', nc, ns) ?_
          intro s9 z_1 hf hz_1
          obtain ⟨D_4, c_1b, k_1b, x3⟩ := s9
          replace hf : f1_run_b1c x1 x2 D_4 c_1b k_1b x3 = some z_1 := hf
          unfold f1_run_b1c at hf
          show c_1b ≤ nc ∧ k_1b ≤ ns
          obtain ⟨h_5, hq⟩ := ww_gS hf; replace hf := hq; clear hq
          refine ww_by ((ww_X D_4.1 6 x1) ≤ x3) (fun c_6 => ?_) (fun c_6 => ?_)
          · replace hf := ww_ip hf c_6
            replace hf := ww_xK hf hz_1
            have e9 := hf
            simp only [Option.some.injEq, Prod.mk.injEq] at e9
            omega
          · replace hf := ww_in hf c_6
            obtain ⟨r_7, D_7, c_7, k_7, h_7, hq⟩ := ww_b4S hf; replace hf := hq; clear hq
            refine ww_by (r_7 = 0) (fun c_8 => ?_) (fun c_8 => ?_)
            · replace hf := ww_ip hf c_8
              replace hf := ww_xK hf hz_1
              have e9 := hf
              simp only [Option.some.injEq, Prod.mk.injEq] at e9
              omega
            · replace hf := ww_in hf c_8
              have e9 := ww_lK hf hz_1
              try dsimp only at e9
              omega
        have e9 := hL_1 (D_2, 0, 0, (0 : Int32)) hf
        try dsimp only at e9
        omega
      · replace hf := ww_in hf c_3
        have e9 := hf
        simp only [Option.some.injEq, Prod.mk.injEq] at e9
        omega
    refine ⟨hm9, ?_⟩
    try clear hl
    try clear hS
    try clear hR
    intro H locs ls hR hS hl
    obtain ⟨r_2, D_2, h_2, hq⟩ := ww_b2S hf; replace hf := hq; clear hq
    refine c1c_1_isRefused X hl.1 hK hR hS (Nat.le_trans (Nat.le_of_ble_eq_true rfl) hF) (Nat.le_trans (Nat.le_of_ble_eq_true rfl) hLo) (Nat.le_trans hm9.1 hC.1) (Nat.le_trans hm9.2 hC.2) h_2 (cw_rest (Nat.le_of_ble_eq_true rfl)) dX1_run_25 (fun H locs hR hS => ?_)
    refine lv_if_eq (tgt := 33) hx hb dX1_run_28 (by decide) (fun c_3 => ?_) (fun c_3 => ?_)
    · replace hf := ww_ip hf c_3
      refine lv_iconst (v := (0 : Int32)) hx hb dX1_run_33 (by decide) ?_
      refine lv_istore_n (lv' := [(3, .int (0 : Int32)), (0, .ref E.1.1), (1, .int x1), (2, .int x2)]) hx hb dX1_run_34 rfl hl (by decide) rfl (fun ls hl => ?_)
      have hL_1 : ∀ s9 : cw_D × Nat × Nat × Int32, ww_U (f1_run_b1 x1 x2) s9 = some (r, D', nc, ns) → (s9.2.1 ≤ nc ∧ s9.2.2.1 ≤ ns) ∧ (∀ (H : Heap) (locs : List Loc) (ls : Array Slot), cw_H E A s9.1 H → va_S A s.heap H locs → lv_has ls 4 [(0, .ref E.1.1), (1, .int x1), (2, .int x2), (3, .int s9.2.2.2)] → W p l e Rm s m args below meth c H locs s9.2.1 s9.2.2.1 Q (F0 m 35 ls [])) := by
        clear hf
        refine ww_ind _ (r, D', nc, ns) ?_
        intro s9 z_1 hf hz_1
        obtain ⟨D_4, c_1b, k_1b, x3⟩ := s9
        replace hf : f1_run_b1c x1 x2 D_4 c_1b k_1b x3 = some z_1 := hf
        unfold f1_run_b1c at hf
        have hm9 : c_1b ≤ nc ∧ k_1b ≤ ns := by
          show c_1b ≤ nc ∧ k_1b ≤ ns
          obtain ⟨h_5, hq⟩ := ww_gS hf; replace hf := hq; clear hq
          refine ww_by ((ww_X D_4.1 6 x1) ≤ x3) (fun c_6 => ?_) (fun c_6 => ?_)
          · replace hf := ww_ip hf c_6
            replace hf := ww_xK hf hz_1
            have e9 := hf
            simp only [Option.some.injEq, Prod.mk.injEq] at e9
            omega
          · replace hf := ww_in hf c_6
            obtain ⟨r_7, D_7, c_7, k_7, h_7, hq⟩ := ww_b4S hf; replace hf := hq; clear hq
            refine ww_by (r_7 = 0) (fun c_8 => ?_) (fun c_8 => ?_)
            · replace hf := ww_ip hf c_8
              replace hf := ww_xK hf hz_1
              have e9 := hf
              simp only [Option.some.injEq, Prod.mk.injEq] at e9
              omega
            · replace hf := ww_in hf c_8
              have e9 := (ww_lK hf hz_1).1
              try dsimp only at e9
              omega
        refine ⟨hm9, ?_⟩
        try clear hl
        try clear hS
        try clear hR
        intro H locs ls hR hS hl
        replace hR : cw_H E A D_4 H := hR
        replace hl : lv_has ls 4 [(0, .ref E.1.1), (1, .int x1), (2, .int x2), (3, .int x3)] := hl
        show W p l e Rm s m args below meth c H locs c_1b k_1b Q _
        refine lv_iload_n hx hb dX1_run_35 rfl (lv_at hl 3 rfl) ?_
        refine lv_aload_n hx hb dX1_run_36 rfl (lv_at hl 0 rfl) ?_
        refine c1g_51 X hK hR dX1_run_37 ?_
        refine lv_iload_n hx hb dX1_run_40 rfl (lv_at hl 1 rfl) ?_
        obtain ⟨h_5, hq⟩ := ww_gS hf; replace hf := hq; clear hq
        refine c1l_6 X hK hR h_5 dX1_run_41 ?_
        refine lv_icmp_ge (tgt := 67) hx hb dX1_run_42 (by decide) (fun c_6 => ?_) (fun c_6 => ?_)
        · replace hf := ww_ip hf c_6
          replace hf := ww_xK hf hz_1
          refine lv_iload_n hx hb dX1_run_67 rfl (lv_at hl 3 rfl) ?_
          exact hend dX1_run_68 rfl rfl hf hR hS
        · replace hf := ww_in hf c_6
          refine lv_aload_n hx hb dX1_run_45 rfl (lv_at hl 0 rfl) ?_
          refine lv_iload_n hx hb dX1_run_46 rfl (lv_at hl 2 rfl) ?_
          refine lv_iconst (v := (4 : Int32)) hx hb dX1_run_47 (by decide) ?_
          refine lv_bipush (v := (16 : Int32)) hx hb dX1_run_48 (by decide) ?_
          refine lv_iload_n hx hb dX1_run_50 rfl (lv_at hl 1 rfl) ?_
          refine lv_imul hx hb dX1_run_51 ?_
          refine lv_iload_n hx hb dX1_run_52 rfl (lv_at hl 3 rfl) ?_
          refine lv_iadd hx hb dX1_run_53 ?_
          refine lv_imul hx hb dX1_run_54 ?_
          obtain ⟨r_7, D_7, c_7, k_7, h_7, hq⟩ := ww_b4S hf; replace hf := hq; clear hq
          have hm9 : (c_1b + c_7) ≤ nc ∧ (k_1b + k_7) ≤ ns := by
            refine ww_by (r_7 = 0) (fun c_8 => ?_) (fun c_8 => ?_)
            · replace hf := ww_ip hf c_8
              replace hf := ww_xK hf hz_1
              have e9 := hf
              simp only [Option.some.injEq, Prod.mk.injEq] at e9
              omega
            · replace hf := ww_in hf c_8
              have e9 := (ww_lK hf hz_1).1
              try dsimp only at e9
              omega
          refine c1c_1_doStep X hl.1 hK hR hS (Nat.le_trans (Nat.le_of_ble_eq_true rfl) hF) (Nat.le_trans (Nat.le_of_ble_eq_true rfl) hLo) (Nat.le_trans hm9.1 hC.1) (Nat.le_trans hm9.2 hC.2) h_7 (cw_rest (Nat.le_of_ble_eq_true rfl)) dX1_run_55 (fun H locs hR hS => ?_)
          refine lv_if_eq (tgt := 67) hx hb dX1_run_58 (by decide) (fun c_8 => ?_) (fun c_8 => ?_)
          · replace hf := ww_ip hf c_8
            replace hf := ww_xK hf hz_1
            refine lv_iload_n hx hb dX1_run_67 rfl (lv_at hl 3 rfl) ?_
            exact hend dX1_run_68 rfl rfl hf hR hS
          · replace hf := ww_in hf c_8
            refine lv_iinc (k := 3) (v := x3 + (1 : Int32)) (lv' := [(3, .int (x3 + (1 : Int32))), (0, .ref E.1.1), (1, .int x1), (2, .int x2)]) hx hb dX1_run_61 hl rfl rfl (by decide) rfl (fun ls hl => ?_)
            refine lv_goto (tgt := 35) hx hb dX1_run_64 (by decide) ?_
            exact (ww_lK hf hz_1).2 _ _ _ hR hS (lv_sub hl [1, 2, 3, 0] rfl)
      exact (hL_1 (D_2, 0, 0, (0 : Int32)) hf).2 _ _ _ hR hS (lv_sub hl [1, 2, 3, 0] rfl)
    · replace hf := ww_in hf c_3
      refine lv_iconst (v := (-1 : Int32)) hx hb dX1_run_31 (by decide) ?_
      exact hend dX1_run_32 rfl rfl hf hR hS
  refine lv_if_ne (tgt := 19) hx hb dX1_run_12 (by decide) (fun c_9 => ?_) (fun c_9 => ?_)
  · replace hf := ww_in hf c_9
    refine lv_aload_n hx hb dX1_run_19 rfl (lv_at hl 0 rfl) ?_
    refine lv_iload_n hx hb dX1_run_20 rfl (lv_at hl 2 rfl) ?_
    refine lv_iconst (v := (1 : Int32)) hx hb dX1_run_21 (by decide) ?_
    obtain ⟨r_10, h_10, hq⟩ := ww_bS hf; replace hf := hq; clear hq
    refine c1c_1_whyNot X hl.1 hK hR hS (Nat.le_trans (Nat.le_of_ble_eq_true rfl) hF) (Nat.le_trans (Nat.le_of_ble_eq_true rfl) hLo) (Nat.le_trans hm9.1 hC.1) (Nat.le_trans hm9.2 hC.2) h_10 (cw_rest (Nat.le_of_ble_eq_true rfl)) dX1_run_22 (fun H locs hR hS => ?_)
    exact (hj_1 r_10 hf).2 _ _ _ hR hS hl
  · replace hf := ww_ip hf c_9
    refine lv_iconst (v := (0 : Int32)) hx hb dX1_run_15 (by decide) ?_
    refine lv_goto (tgt := 25) hx hb dX1_run_16 (by decide) ?_
    exact (hj_1 (0 : Int32) hf).2 _ _ _ hR hS hl
noncomputable def f1_areMaps (D : cw_D) (x1 : Int32) (x2 : Int32) : Option (Int32) :=
  ww_b (f1_isMap D x1) (fun r_1 => if r_1 = 0 then some (0 : Int32) else ww_b (f1_isMap D x2) (fun r_3 => if r_3 = 0 then some (0 : Int32) else some (1 : Int32)))
section C_1_areMaps_k
variable {p : Program} {l : Launch} {e : Env} {R : Room} {s : State} {m : MethodId} {args : Array Value} {below : List Frame} {meth : Method} {c : Code} {H : Heap} {locs : List Loc} {cells slots : Nat} {Q : State → Prop}
variable {cc : ByteArray} {pc : Nat} {ls : Array Slot} {rest : List Value} {nL : Nat} {E : cw_E} {A : Nat → Prop} {H0 : Heap}
theorem c1k_1_areMaps {D : cw_D} {x1 : Int32} {x2 : Int32} {r : Int32} (X : ww_C p m c cc nL s args RX1 lw_all) (hsz : ls.size = nL) (hK : cw_K E A s) (hR : cw_H E A D H) (hS : va_S A s.heap H locs) (hF : 3 ≤ R.frames) (hLo : 65 ≤ R.locals) (hc : cells ≤ R.cells) (hs : slots ≤ R.slots) (hM : cw_MetI l yX1_areMaps cX1_areMaps 3 (some Jvm.ClassFile.FieldType.boolean) 2 43 E A [.ref E.1.1, .int x1, .int x2] D D r 0 0) (hrest : (rest.map fun v => v.category).sum ≤ 8) (hdg : decode cc pc = .ok (.invokevirtual 462, 3)) (kk : ∀ (H1 : Heap) (locs1 : List Loc), cw_H E A D H1 → va_S A s.heap H1 locs1 → W p l e R s m args below meth c H1 locs1 cells slots Q (F0 m (pc + 3) ls (.int r :: rest))) : W p l e R s m args below meth c H locs cells slots Q (F0 m pc ls (.int x2 :: .int x1 :: .ref E.1.1 :: rest)) :=
  va_calli (va_runV (C := RX1) (As := [.int x1, .int x2]) (rest := rest) (b := E.1.1) X hM (cwV 2 X.2.2.2.2 (lw_V q1471 q1473 qs55 q131 q1474) rfl rfl rfl (by decide +kernel) ⟨hF, hLo⟩) (cw_pV hK hR hS (cw_rcM hK hR)) rfl rfl hsz rfl (lv_room hrest) hdg ⟨hc, hs⟩) hS (fun q _ h => h) (fun q h => h) (fun r' u t H1 locs1 ht hvm hw hB hz1 hk1 hS1 => by subst hw; rw [ht] at hB; exact kk H1 locs1 hB hS1)
end C_1_areMaps_k
set_option maxHeartbeats 4000000 in
set_option maxRecDepth 100000 in
theorem met1_areMaps (l : Launch) {E : cw_E} {A : Nat → Prop} (D : cw_D) (x1 : Int32) (x2 : Int32) (r : Int32) (hf : f1_areMaps D x1 x2 = some r) : cw_MetI l yX1_areMaps cX1_areMaps 3 (some Jvm.ClassFile.FieldType.boolean) 2 43 E A [.ref E.1.1, .int x1, .int x2] D D r 0 0 := by
  unfold f1_areMaps at hf
  refine cw_sIP (own := RX1) (by decide +kernel) [(0, .ref E.1.1), (1, .int x1), (2, .int x2)] ⟨Nat.le_of_ble_eq_true rfl, rfl⟩ ?_
  intro p e s m args below meth c Rm Q X hK hF hLo hin hend ls hl hR hS
  obtain ⟨hx, hb, hml, hown, hts⟩ := id X
  refine lv_aload_n hx hb dX1_areMaps_0 rfl (lv_at hl 0 rfl) ?_
  refine lv_iload_n hx hb dX1_areMaps_1 rfl (lv_at hl 1 rfl) ?_
  obtain ⟨r_1, h_1, hq⟩ := ww_bS hf; replace hf := hq; clear hq
  refine c1c_1_isMap X hl.1 hK hR hS (Nat.le_trans (Nat.le_of_ble_eq_true rfl) hF) (Nat.le_trans (Nat.le_of_ble_eq_true rfl) hLo) (Nat.zero_le _) (Nat.zero_le _) h_1 (cw_rest (Nat.le_of_ble_eq_true rfl)) dX1_areMaps_2 (fun H locs hR hS => ?_)
  refine lv_if_eq (tgt := 20) hx hb dX1_areMaps_5 (by decide) (fun c_2 => ?_) (fun c_2 => ?_)
  · replace hf := ww_ip hf c_2
    refine lv_iconst (v := (0 : Int32)) hx hb dX1_areMaps_20 (by decide) ?_
    exact hend dX1_areMaps_21 rfl (by decide) hf hR hS
  · replace hf := ww_in hf c_2
    refine lv_aload_n hx hb dX1_areMaps_8 rfl (lv_at hl 0 rfl) ?_
    refine lv_iload_n hx hb dX1_areMaps_9 rfl (lv_at hl 2 rfl) ?_
    obtain ⟨r_3, h_3, hq⟩ := ww_bS hf; replace hf := hq; clear hq
    refine c1c_1_isMap X hl.1 hK hR hS (Nat.le_trans (Nat.le_of_ble_eq_true rfl) hF) (Nat.le_trans (Nat.le_of_ble_eq_true rfl) hLo) (Nat.zero_le _) (Nat.zero_le _) h_3 (cw_rest (Nat.le_of_ble_eq_true rfl)) dX1_areMaps_10 (fun H locs hR hS => ?_)
    refine lv_if_eq (tgt := 20) hx hb dX1_areMaps_13 (by decide) (fun c_4 => ?_) (fun c_4 => ?_)
    · replace hf := ww_ip hf c_4
      refine lv_iconst (v := (0 : Int32)) hx hb dX1_areMaps_20 (by decide) ?_
      exact hend dX1_areMaps_21 rfl (by decide) hf hR hS
    · replace hf := ww_in hf c_4
      refine lv_iconst (v := (1 : Int32)) hx hb dX1_areMaps_16 (by decide) ?_
      refine lv_goto (tgt := 21) hx hb dX1_areMaps_17 (by decide) ?_
      exact hend dX1_areMaps_21 rfl (by decide) hf hR hS
section C_1_areMaps_c
variable {p : Program} {l : Launch} {e : Env} {R : Room} {s : State} {m : MethodId} {args : Array Value} {below : List Frame} {meth : Method} {c : Code} {H : Heap} {locs : List Loc} {cells slots : Nat} {Q : State → Prop}
variable {cc : ByteArray} {pc : Nat} {ls : Array Slot} {rest : List Value} {nL : Nat} {E : cw_E} {A : Nat → Prop} {H0 : Heap}
theorem c1c_1_areMaps {D : cw_D} {x1 : Int32} {x2 : Int32} {r : Int32} (X : ww_C p m c cc nL s args RX1 lw_all) (hsz : ls.size = nL) (hK : cw_K E A s) (hR : cw_H E A D H) (hS : va_S A s.heap H locs) (hF : 3 ≤ R.frames) (hLo : 65 ≤ R.locals) (hc : cells ≤ R.cells) (hs : slots ≤ R.slots) (hf : f1_areMaps D x1 x2 = some r) (hrest : (rest.map fun v => v.category).sum ≤ 8) (hdg : decode cc pc = .ok (.invokevirtual 462, 3)) (kk : ∀ (H1 : Heap) (locs1 : List Loc), cw_H E A D H1 → va_S A s.heap H1 locs1 → W p l e R s m args below meth c H1 locs1 cells slots Q (F0 m (pc + 3) ls (.int r :: rest))) : W p l e R s m args below meth c H locs cells slots Q (F0 m pc ls (.int x2 :: .int x1 :: .ref E.1.1 :: rest)) :=
  c1k_1_areMaps X hsz hK hR hS hF hLo hc hs (met1_areMaps l _ _ _ _ hf) hrest hdg kk
end C_1_areMaps_c
noncomputable def f1_sharedOf (D : cw_D) (x1 : Option Nat) (x2 : Option Nat) : Option (Int32 × cw_D) :=
  ww_b x1 (fun a_1 => ww_g (cw_kd (cw_sF D 20 ((ww_F D.1 20) + (1 : Int32))) [1, 2] (some a_1)) (ww_b2 (f5_counts 8 (cw_sF D 20 ((ww_F D.1 20) + (1 : Int32))) a_1 (3 : Int32) (ww_F (cw_sF D 20 ((ww_F D.1 20) + (1 : Int32))).1 20) none) (fun r_3 D_3 => ww_b x2 (fun a_4 => ww_g (cw_kd D_3 [1, 2] (some a_4)) (ww_b2 (f5_counts 8 D_3 a_4 (2 : Int32) (ww_F D_3.1 20) none) (fun r_6 D_6 => some (r_6, D_6)))))))
section C_1_sharedOf_k
variable {p : Program} {l : Launch} {e : Env} {R : Room} {s : State} {m : MethodId} {args : Array Value} {below : List Frame} {meth : Method} {c : Code} {H : Heap} {locs : List Loc} {cells slots : Nat} {Q : State → Prop}
variable {cc : ByteArray} {pc : Nat} {ls : Array Slot} {rest : List Value} {nL : Nat} {E : cw_E} {A : Nat → Prop} {H0 : Heap}
theorem c1k_1_sharedOf {D : cw_D} {x1 : Option Nat} {x2 : Option Nat} {r : Int32} {D' : cw_D} (X : ww_C p m c cc nL s args RX1 lw_all) (hsz : ls.size = nL) (hK : cw_K E A s) (hR : cw_H E A D H) (hS : va_S A s.heap H locs) (hF : 12 ≤ R.frames) (hLo : 288 ≤ R.locals) (hc : cells ≤ R.cells) (hs : slots ≤ R.slots) (hM : cw_MetI l yX1_sharedOf cX1_sharedOf 3 (some Jvm.ClassFile.FieldType.int) 11 266 E A [.ref E.1.1, va_rf x1, va_rf x2] D D' r 0 0) (hrest : (rest.map fun v => v.category).sum ≤ 8) (hdg : decode cc pc = .ok (.invokevirtual 465, 3)) (kk : ∀ (H1 : Heap) (locs1 : List Loc), cw_H E A D' H1 → va_S A s.heap H1 locs1 → W p l e R s m args below meth c H1 locs1 cells slots Q (F0 m (pc + 3) ls (.int r :: rest))) : W p l e R s m args below meth c H locs cells slots Q (F0 m pc ls (va_rf x2 :: va_rf x1 :: .ref E.1.1 :: rest)) :=
  va_calli (va_runV (C := RX1) (As := [va_rf x1, va_rf x2]) (rest := rest) (b := E.1.1) X hM (cwV 2 X.2.2.2.2 (lw_V q1475 q1477 qs56 q131 q1478) rfl rfl rfl (by decide +kernel) ⟨hF, hLo⟩) (cw_pV hK hR hS (cw_rcM hK hR)) rfl rfl hsz rfl (lv_room hrest) hdg ⟨hc, hs⟩) hS (fun q _ h => h) (fun q h => h) (fun r' u t H1 locs1 ht hvm hw hB hz1 hk1 hS1 => by subst hw; rw [ht] at hB; exact kk H1 locs1 hB hS1)
end C_1_sharedOf_k
set_option maxHeartbeats 4000000 in
set_option maxRecDepth 100000 in
theorem met1_sharedOf (l : Launch) {E : cw_E} {A : Nat → Prop} (D : cw_D) (x1 : Option Nat) (x2 : Option Nat) (r : Int32) (D' : cw_D) (hf : f1_sharedOf D x1 x2 = some (r, D')) : cw_MetI l yX1_sharedOf cX1_sharedOf 3 (some Jvm.ClassFile.FieldType.int) 11 266 E A [.ref E.1.1, va_rf x1, va_rf x2] D D' r 0 0 := by
  unfold f1_sharedOf at hf
  refine cw_sID (own := RX1) (by decide +kernel) [(0, .ref E.1.1), (1, va_rf x1), (2, va_rf x2)] ⟨by cases x1 <;> cases x2 <;> exact Nat.le_of_ble_eq_true rfl, by cases x1 <;> cases x2 <;> rfl⟩ ?_
  intro p e s m args below meth c Rm Q X hK hF hLo hin hend ls hl hR hS
  obtain ⟨hx, hb, hml, hown, hts⟩ := id X
  refine lv_aload_n hx hb dX1_sharedOf_0 rfl (lv_at hl 0 rfl) ?_
  refine lv_dup hx hb dX1_sharedOf_1 rfl ?_
  refine c1g_392 X hK hR dX1_sharedOf_2 ?_
  refine lv_iconst (v := (1 : Int32)) hx hb dX1_sharedOf_5 (by decide) ?_
  refine lv_iadd hx hb dX1_sharedOf_6 ?_
  refine c1p_392 X hK hR hS dX1_sharedOf_7 (fun H locs hR hS => ?_)
  refine cw_aload_n (x := x1) hx hb dX1_sharedOf_10 rfl (lv_at hl 1 rfl) ?_
  refine lv_iconst (v := (3 : Int32)) hx hb dX1_sharedOf_11 (by decide) ?_
  refine lv_aload_n hx hb dX1_sharedOf_12 rfl (lv_at hl 0 rfl) ?_
  refine c1g_392 X hK hR dX1_sharedOf_13 ?_
  refine lv_null hx hb dX1_sharedOf_16 ?_
  obtain ⟨a_1, e_1, hq⟩ := ww_bS hf; replace hf := hq; clear hq
  subst e_1
  obtain ⟨h_2, hq⟩ := ww_gS hf; replace hf := hq; clear hq
  obtain ⟨r_3, D_3, h_3, hq⟩ := ww_b2S hf; replace hf := hq; clear hq
  refine c1i_counts (x3 := none) X hl.1 hK hR hS (Nat.le_trans (Nat.le_of_ble_eq_true rfl) hF) (Nat.le_trans (Nat.le_of_ble_eq_true rfl) hLo) (Nat.zero_le _) (Nat.zero_le _) h_2 h_3 (cw_rest (Nat.le_of_ble_eq_true rfl)) dX1_sharedOf_17 (fun H locs hR hS => ?_)
  refine lv_pop hx hb dX1_sharedOf_22 rfl ?_
  refine cw_aload_n (x := x2) hx hb dX1_sharedOf_23 rfl (lv_at hl 2 rfl) ?_
  refine lv_iconst (v := (2 : Int32)) hx hb dX1_sharedOf_24 (by decide) ?_
  refine lv_aload_n hx hb dX1_sharedOf_25 rfl (lv_at hl 0 rfl) ?_
  refine c1g_392 X hK hR dX1_sharedOf_26 ?_
  refine lv_null hx hb dX1_sharedOf_29 ?_
  obtain ⟨a_4, e_4, hq⟩ := ww_bS hf; replace hf := hq; clear hq
  subst e_4
  obtain ⟨h_5, hq⟩ := ww_gS hf; replace hf := hq; clear hq
  obtain ⟨r_6, D_6, h_6, hq⟩ := ww_b2S hf; replace hf := hq; clear hq
  refine c1i_counts (x3 := none) X hl.1 hK hR hS (Nat.le_trans (Nat.le_of_ble_eq_true rfl) hF) (Nat.le_trans (Nat.le_of_ble_eq_true rfl) hLo) (Nat.zero_le _) (Nat.zero_le _) h_5 h_6 (cw_rest (Nat.le_of_ble_eq_true rfl)) dX1_sharedOf_30 (fun H locs hR hS => ?_)
  exact hend dX1_sharedOf_35 rfl rfl hf hR hS
section C_1_sharedOf_c
variable {p : Program} {l : Launch} {e : Env} {R : Room} {s : State} {m : MethodId} {args : Array Value} {below : List Frame} {meth : Method} {c : Code} {H : Heap} {locs : List Loc} {cells slots : Nat} {Q : State → Prop}
variable {cc : ByteArray} {pc : Nat} {ls : Array Slot} {rest : List Value} {nL : Nat} {E : cw_E} {A : Nat → Prop} {H0 : Heap}
theorem c1c_1_sharedOf {D : cw_D} {x1 : Option Nat} {x2 : Option Nat} {r : Int32} {D' : cw_D} (X : ww_C p m c cc nL s args RX1 lw_all) (hsz : ls.size = nL) (hK : cw_K E A s) (hR : cw_H E A D H) (hS : va_S A s.heap H locs) (hF : 12 ≤ R.frames) (hLo : 288 ≤ R.locals) (hc : cells ≤ R.cells) (hs : slots ≤ R.slots) (hf : f1_sharedOf D x1 x2 = some (r, D')) (hrest : (rest.map fun v => v.category).sum ≤ 8) (hdg : decode cc pc = .ok (.invokevirtual 465, 3)) (kk : ∀ (H1 : Heap) (locs1 : List Loc), cw_H E A D' H1 → va_S A s.heap H1 locs1 → W p l e R s m args below meth c H1 locs1 cells slots Q (F0 m (pc + 3) ls (.int r :: rest))) : W p l e R s m args below meth c H locs cells slots Q (F0 m pc ls (va_rf x2 :: va_rf x1 :: .ref E.1.1 :: rest)) :=
  c1k_1_sharedOf X hsz hK hR hS hF hLo hc hs (met1_sharedOf l _ _ _ _ _ hf) hrest hdg kk
end C_1_sharedOf_c
noncomputable def f1_shared (D : cw_D) (x1 : Int32) (x2 : Int32) : Option (Int32 × cw_D) :=
  ww_b (f1_areMaps D x1 x2) (fun r_1 => if r_1 = 0 then some ((-1 : Int32), D) else ww_b (f1_rootOf D x1) (fun r_3 => ww_b (f1_rootOf D x2) (fun r_4 => ww_b2 (f1_sharedOf D r_3 r_4) (fun r_5 D_5 => some (r_5, D_5)))))
set_option maxHeartbeats 4000000 in
set_option maxRecDepth 100000 in
theorem met1_shared (l : Launch) {E : cw_E} {A : Nat → Prop} (D : cw_D) (x1 : Int32) (x2 : Int32) (r : Int32) (D' : cw_D) (hf : f1_shared D x1 x2 = some (r, D')) : cw_MetI l yX1_shared cX1_shared 3 (some Jvm.ClassFile.FieldType.int) 12 288 E A [.ref E.1.1, .int x1, .int x2] D D' r 0 0 := by
  unfold f1_shared at hf
  refine cw_sID (own := RX1) (by decide +kernel) [(0, .ref E.1.1), (1, .int x1), (2, .int x2)] ⟨Nat.le_of_ble_eq_true rfl, rfl⟩ ?_
  intro p e s m args below meth c Rm Q X hK hF hLo hin hend ls hl hR hS
  obtain ⟨hx, hb, hml, hown, hts⟩ := id X
  refine lv_aload_n hx hb dX1_shared_0 rfl (lv_at hl 0 rfl) ?_
  refine lv_iload_n hx hb dX1_shared_1 rfl (lv_at hl 1 rfl) ?_
  refine lv_iload_n hx hb dX1_shared_2 rfl (lv_at hl 2 rfl) ?_
  obtain ⟨r_1, h_1, hq⟩ := ww_bS hf; replace hf := hq; clear hq
  refine c1c_1_areMaps X hl.1 hK hR hS (Nat.le_trans (Nat.le_of_ble_eq_true rfl) hF) (Nat.le_trans (Nat.le_of_ble_eq_true rfl) hLo) (Nat.zero_le _) (Nat.zero_le _) h_1 (cw_rest (Nat.le_of_ble_eq_true rfl)) dX1_shared_3 (fun H locs hR hS => ?_)
  refine lv_if_eq (tgt := 26) hx hb dX1_shared_6 (by decide) (fun c_2 => ?_) (fun c_2 => ?_)
  · replace hf := ww_ip hf c_2
    refine lv_iconst (v := (-1 : Int32)) hx hb dX1_shared_26 (by decide) ?_
    exact hend dX1_shared_27 rfl rfl hf hR hS
  · replace hf := ww_in hf c_2
    refine lv_aload_n hx hb dX1_shared_9 rfl (lv_at hl 0 rfl) ?_
    refine lv_aload_n hx hb dX1_shared_10 rfl (lv_at hl 0 rfl) ?_
    refine lv_iload_n hx hb dX1_shared_11 rfl (lv_at hl 1 rfl) ?_
    obtain ⟨r_3, h_3, hq⟩ := ww_bS hf; replace hf := hq; clear hq
    refine c1c_1_rootOf X hl.1 hK hR hS (Nat.le_trans (Nat.le_of_ble_eq_true rfl) hF) (Nat.le_trans (Nat.le_of_ble_eq_true rfl) hLo) (Nat.zero_le _) (Nat.zero_le _) h_3 (cw_rest (Nat.le_of_ble_eq_true rfl)) dX1_shared_12 (fun H locs hR hS => ?_)
    refine lv_aload_n hx hb dX1_shared_15 rfl (lv_at hl 0 rfl) ?_
    refine lv_iload_n hx hb dX1_shared_16 rfl (lv_at hl 2 rfl) ?_
    obtain ⟨r_4, h_4, hq⟩ := ww_bS hf; replace hf := hq; clear hq
    refine c1c_1_rootOf X hl.1 hK hR hS (Nat.le_trans (Nat.le_of_ble_eq_true rfl) hF) (Nat.le_trans (Nat.le_of_ble_eq_true rfl) hLo) (Nat.zero_le _) (Nat.zero_le _) h_4 (cw_rest (Nat.le_of_ble_eq_true rfl)) dX1_shared_17 (fun H locs hR hS => ?_)
    obtain ⟨r_5, D_5, h_5, hq⟩ := ww_b2S hf; replace hf := hq; clear hq
    refine c1c_1_sharedOf (x1 := r_3) (x2 := r_4) X hl.1 hK hR hS (Nat.le_trans (Nat.le_of_ble_eq_true rfl) hF) (Nat.le_trans (Nat.le_of_ble_eq_true rfl) hLo) (Nat.zero_le _) (Nat.zero_le _) h_5 (cw_rest (Nat.le_of_ble_eq_true rfl)) dX1_shared_20 (fun H locs hR hS => ?_)
    refine lv_goto (tgt := 27) hx hb dX1_shared_23 (by decide) ?_
    exact hend dX1_shared_27 rfl rfl hf hR hS
noncomputable def f1_looked (D : cw_D) (x1 : Int32) (x2 : Int32) : Option (Int32 × cw_D) :=
  ww_b (f1_areMaps D x1 x2) (fun r_1 => if r_1 = 0 then some ((-1 : Int32), D) else ww_b (f1_rootOf D x1) (fun r_3 => ww_b r_3 (fun a_4 => ww_g (cw_kd D [1, 2] (some a_4)) (ww_b2 (f5_counts 8 D a_4 (0 : Int32) (0 : Int32) none) (fun r_6 D_6 => ww_b (f1_rootOf D_6 x2) (fun r_7 => ww_b r_7 (fun a_8 => ww_g (cw_kd D_6 [1, 2] (some a_8)) (ww_b2 (f5_counts 8 D_6 a_8 (0 : Int32) (0 : Int32) none) (fun r_10 D_10 => ww_b (f1_rootOf D_10 x1) (fun r_11 => ww_b (f1_rootOf D_10 x2) (fun r_12 => ww_b2 (f1_sharedOf D_10 r_11 r_12) (fun r_13 D_13 => some (((r_6 + r_10) - ((2 : Int32) * r_13)), D_13)))))))))))))
set_option maxHeartbeats 4000000 in
set_option maxRecDepth 100000 in
theorem met1_looked (l : Launch) {E : cw_E} {A : Nat → Prop} (D : cw_D) (x1 : Int32) (x2 : Int32) (r : Int32) (D' : cw_D) (hf : f1_looked D x1 x2 = some (r, D')) : cw_MetI l yX1_looked cX1_looked 3 (some Jvm.ClassFile.FieldType.int) 12 288 E A [.ref E.1.1, .int x1, .int x2] D D' r 0 0 := by
  unfold f1_looked at hf
  refine cw_sID (own := RX1) (by decide +kernel) [(0, .ref E.1.1), (1, .int x1), (2, .int x2)] ⟨Nat.le_of_ble_eq_true rfl, rfl⟩ ?_
  intro p e s m args below meth c Rm Q X hK hF hLo hin hend ls hl hR hS
  obtain ⟨hx, hb, hml, hown, hts⟩ := id X
  refine lv_aload_n hx hb dX1_looked_0 rfl (lv_at hl 0 rfl) ?_
  refine lv_iload_n hx hb dX1_looked_1 rfl (lv_at hl 1 rfl) ?_
  refine lv_iload_n hx hb dX1_looked_2 rfl (lv_at hl 2 rfl) ?_
  obtain ⟨r_1, h_1, hq⟩ := ww_bS hf; replace hf := hq; clear hq
  refine c1c_1_areMaps X hl.1 hK hR hS (Nat.le_trans (Nat.le_of_ble_eq_true rfl) hF) (Nat.le_trans (Nat.le_of_ble_eq_true rfl) hLo) (Nat.zero_le _) (Nat.zero_le _) h_1 (cw_rest (Nat.le_of_ble_eq_true rfl)) dX1_looked_3 (fun H locs hR hS => ?_)
  refine lv_if_ne (tgt := 11) hx hb dX1_looked_6 (by decide) (fun c_2 => ?_) (fun c_2 => ?_)
  · replace hf := ww_in hf c_2
    refine lv_aload_n hx hb dX1_looked_11 rfl (lv_at hl 0 rfl) ?_
    refine lv_iload_n hx hb dX1_looked_12 rfl (lv_at hl 1 rfl) ?_
    obtain ⟨r_3, h_3, hq⟩ := ww_bS hf; replace hf := hq; clear hq
    refine c1c_1_rootOf X hl.1 hK hR hS (Nat.le_trans (Nat.le_of_ble_eq_true rfl) hF) (Nat.le_trans (Nat.le_of_ble_eq_true rfl) hLo) (Nat.zero_le _) (Nat.zero_le _) h_3 (cw_rest (Nat.le_of_ble_eq_true rfl)) dX1_looked_13 (fun H locs hR hS => ?_)
    refine lv_iconst (v := (0 : Int32)) hx hb dX1_looked_16 (by decide) ?_
    refine lv_iconst (v := (0 : Int32)) hx hb dX1_looked_17 (by decide) ?_
    refine lv_null hx hb dX1_looked_18 ?_
    obtain ⟨a_4, e_4, hq⟩ := ww_bS hf; replace hf := hq; clear hq
    subst e_4
    obtain ⟨h_5, hq⟩ := ww_gS hf; replace hf := hq; clear hq
    obtain ⟨r_6, D_6, h_6, hq⟩ := ww_b2S hf; replace hf := hq; clear hq
    refine c1i_counts (x3 := none) X hl.1 hK hR hS (Nat.le_trans (Nat.le_of_ble_eq_true rfl) hF) (Nat.le_trans (Nat.le_of_ble_eq_true rfl) hLo) (Nat.zero_le _) (Nat.zero_le _) h_5 h_6 (cw_rest (Nat.le_of_ble_eq_true rfl)) dX1_looked_19 (fun H locs hR hS => ?_)
    refine lv_aload_n hx hb dX1_looked_24 rfl (lv_at hl 0 rfl) ?_
    refine lv_iload_n hx hb dX1_looked_25 rfl (lv_at hl 2 rfl) ?_
    obtain ⟨r_7, h_7, hq⟩ := ww_bS hf; replace hf := hq; clear hq
    refine c1c_1_rootOf X hl.1 hK hR hS (Nat.le_trans (Nat.le_of_ble_eq_true rfl) hF) (Nat.le_trans (Nat.le_of_ble_eq_true rfl) hLo) (Nat.zero_le _) (Nat.zero_le _) h_7 (cw_rest (Nat.le_of_ble_eq_true rfl)) dX1_looked_26 (fun H locs hR hS => ?_)
    refine lv_iconst (v := (0 : Int32)) hx hb dX1_looked_29 (by decide) ?_
    refine lv_iconst (v := (0 : Int32)) hx hb dX1_looked_30 (by decide) ?_
    refine lv_null hx hb dX1_looked_31 ?_
    obtain ⟨a_8, e_8, hq⟩ := ww_bS hf; replace hf := hq; clear hq
    subst e_8
    obtain ⟨h_9, hq⟩ := ww_gS hf; replace hf := hq; clear hq
    obtain ⟨r_10, D_10, h_10, hq⟩ := ww_b2S hf; replace hf := hq; clear hq
    refine c1i_counts (x3 := none) X hl.1 hK hR hS (Nat.le_trans (Nat.le_of_ble_eq_true rfl) hF) (Nat.le_trans (Nat.le_of_ble_eq_true rfl) hLo) (Nat.zero_le _) (Nat.zero_le _) h_9 h_10 (cw_rest (Nat.le_of_ble_eq_true rfl)) dX1_looked_32 (fun H locs hR hS => ?_)
    refine lv_iadd hx hb dX1_looked_37 ?_
    refine lv_iconst (v := (2 : Int32)) hx hb dX1_looked_38 (by decide) ?_
    refine lv_aload_n hx hb dX1_looked_39 rfl (lv_at hl 0 rfl) ?_
    refine lv_aload_n hx hb dX1_looked_40 rfl (lv_at hl 0 rfl) ?_
    refine lv_iload_n hx hb dX1_looked_41 rfl (lv_at hl 1 rfl) ?_
    obtain ⟨r_11, h_11, hq⟩ := ww_bS hf; replace hf := hq; clear hq
    refine c1c_1_rootOf X hl.1 hK hR hS (Nat.le_trans (Nat.le_of_ble_eq_true rfl) hF) (Nat.le_trans (Nat.le_of_ble_eq_true rfl) hLo) (Nat.zero_le _) (Nat.zero_le _) h_11 (cw_rest (Nat.le_of_ble_eq_true rfl)) dX1_looked_42 (fun H locs hR hS => ?_)
    refine lv_aload_n hx hb dX1_looked_45 rfl (lv_at hl 0 rfl) ?_
    refine lv_iload_n hx hb dX1_looked_46 rfl (lv_at hl 2 rfl) ?_
    obtain ⟨r_12, h_12, hq⟩ := ww_bS hf; replace hf := hq; clear hq
    refine c1c_1_rootOf X hl.1 hK hR hS (Nat.le_trans (Nat.le_of_ble_eq_true rfl) hF) (Nat.le_trans (Nat.le_of_ble_eq_true rfl) hLo) (Nat.zero_le _) (Nat.zero_le _) h_12 (cw_rest (Nat.le_of_ble_eq_true rfl)) dX1_looked_47 (fun H locs hR hS => ?_)
    obtain ⟨r_13, D_13, h_13, hq⟩ := ww_b2S hf; replace hf := hq; clear hq
    refine c1c_1_sharedOf (x1 := r_11) (x2 := r_12) X hl.1 hK hR hS (Nat.le_trans (Nat.le_of_ble_eq_true rfl) hF) (Nat.le_trans (Nat.le_of_ble_eq_true rfl) hLo) (Nat.zero_le _) (Nat.zero_le _) h_13 (cw_rest (Nat.le_of_ble_eq_true rfl)) dX1_looked_50 (fun H locs hR hS => ?_)
    refine lv_imul hx hb dX1_looked_53 ?_
    refine lv_isub hx hb dX1_looked_54 ?_
    exact hend dX1_looked_55 rfl rfl hf hR hS
  · replace hf := ww_ip hf c_2
    refine lv_iconst (v := (-1 : Int32)) hx hb dX1_looked_9 (by decide) ?_
    exact hend dX1_looked_10 rfl rfl hf hR hS
noncomputable def f1_difference_b1c (D : cw_D) (y3 : Int32) (y4 : Int32) (y5 : Option Nat) (y6 : Option Nat) (x7 : Int32) (x8 : Int32) : Option ((Int32 × Int32) ⊕ (Int32)) :=
  if (999 : Int32) < x8 then ww_x (if y3 = (-1 : Int32) then some x7 else some (-1000000 : Int32)) else ww_b (f1_valueIn D y5 x8) (fun r_8 => ww_b (f1_valueIn D y6 x8) (fun r_9 => if r_8 = r_9 then some (.inl (x7, (x8 + (1 : Int32)))) else if x7 = y3 then ww_x (if y4 = 0 then some x8 else if y4 = (1 : Int32) then some r_8 else some r_9) else some (.inl ((x7 + (1 : Int32)), (x8 + (1 : Int32))))))
noncomputable def f1_difference_b1 (D : cw_D) (y3 : Int32) (y4 : Int32) (y5 : Option Nat) (y6 : Option Nat) : (Int32 × Int32) → Option ((Int32 × Int32) ⊕ (Int32)) := fun s9 => f1_difference_b1c D y3 y4 y5 y6 s9.1 s9.2
noncomputable def f1_difference_j1 (D : cw_D) (y1 : Int32) (y2 : Int32) (y3 : Int32) (y4 : Int32) : Option (Int32) :=
  ww_b (f1_rootOf D y1) (fun r_4 => ww_b (f1_rootOf D y2) (fun r_5 => ww_U (f1_difference_b1 D y3 y4 r_4 r_5) ((0 : Int32), (0 : Int32))))
noncomputable def f1_difference (D : cw_D) (x1 : Int32) (x2 : Int32) (x3 : Int32) (x4 : Int32) : Option (Int32) :=
  ww_b (f1_areMaps D x1 x2) (fun r_1 => if r_1 = 0 then some (-1000000 : Int32) else if x3 < (-1 : Int32) then some (-1000000 : Int32) else if x3 = (-1 : Int32) then f1_difference_j1 D x1 x2 x3 x4 else ww_b (f1_in x4 (0 : Int32) (2 : Int32)) (fun r_15 => if r_15 = 0 then some (-1000000 : Int32) else f1_difference_j1 D x1 x2 x3 x4))
section C_1_difference_k
variable {p : Program} {l : Launch} {e : Env} {R : Room} {s : State} {m : MethodId} {args : Array Value} {below : List Frame} {meth : Method} {c : Code} {H : Heap} {locs : List Loc} {cells slots : Nat} {Q : State → Prop}
variable {cc : ByteArray} {pc : Nat} {ls : Array Slot} {rest : List Value} {nL : Nat} {E : cw_E} {A : Nat → Prop} {H0 : Heap}
theorem c1k_1_difference {D : cw_D} {x1 : Int32} {x2 : Int32} {x3 : Int32} {x4 : Int32} {r : Int32} (X : ww_C p m c cc nL s args RX1 lw_all) (hsz : ls.size = nL) (hK : cw_K E A s) (hR : cw_H E A D H) (hS : va_S A s.heap H locs) (hF : 14 ≤ R.frames) (hLo : 297 ≤ R.locals) (hc : cells ≤ R.cells) (hs : slots ≤ R.slots) (hM : cw_MetI l yX1_difference cX1_difference 11 (some Jvm.ClassFile.FieldType.int) 13 267 E A [.ref E.1.1, .int x1, .int x2, .int x3, .int x4] D D r 0 0) (hrest : (rest.map fun v => v.category).sum ≤ 8) (hdg : decode cc pc = .ok (.invokevirtual 472, 3)) (kk : ∀ (H1 : Heap) (locs1 : List Loc), cw_H E A D H1 → va_S A s.heap H1 locs1 → W p l e R s m args below meth c H1 locs1 cells slots Q (F0 m (pc + 3) ls (.int r :: rest))) : W p l e R s m args below meth c H locs cells slots Q (F0 m pc ls (.int x4 :: .int x3 :: .int x2 :: .int x1 :: .ref E.1.1 :: rest)) :=
  va_calli (va_runV (C := RX1) (As := [.int x1, .int x2, .int x3, .int x4]) (rest := rest) (b := E.1.1) X hM (cwV 4 X.2.2.2.2 (lw_V q1491 q1484 q1485 q131 q1486) rfl rfl rfl (by decide +kernel) ⟨hF, hLo⟩) (cw_pV hK hR hS (cw_rcM hK hR)) rfl rfl hsz rfl (lv_room hrest) hdg ⟨hc, hs⟩) hS (fun q _ h => h) (fun q h => h) (fun r' u t H1 locs1 ht hvm hw hB hz1 hk1 hS1 => by subst hw; rw [ht] at hB; exact kk H1 locs1 hB hS1)
end C_1_difference_k
set_option maxHeartbeats 4000000 in
set_option maxRecDepth 100000 in
theorem met1_difference (l : Launch) {E : cw_E} {A : Nat → Prop} (D : cw_D) (x1 : Int32) (x2 : Int32) (x3 : Int32) (x4 : Int32) (r : Int32) (hf : f1_difference D x1 x2 x3 x4 = some r) : cw_MetI l yX1_difference cX1_difference 11 (some Jvm.ClassFile.FieldType.int) 13 267 E A [.ref E.1.1, .int x1, .int x2, .int x3, .int x4] D D r 0 0 := by
  unfold f1_difference at hf
  refine cw_sIP (own := RX1) (by decide +kernel) [(0, .ref E.1.1), (1, .int x1), (2, .int x2), (3, .int x3), (4, .int x4)] ⟨Nat.le_of_ble_eq_true rfl, rfl⟩ ?_
  intro p e s m args below meth c Rm Q X hK hF hLo hin hend ls hl hR hS
  obtain ⟨hx, hb, hml, hown, hts⟩ := id X
  refine lv_aload_n hx hb dX1_difference_0 rfl (lv_at hl 0 rfl) ?_
  refine lv_iload_n hx hb dX1_difference_1 rfl (lv_at hl 1 rfl) ?_
  refine lv_iload_n hx hb dX1_difference_2 rfl (lv_at hl 2 rfl) ?_
  obtain ⟨r_1, h_1, hq⟩ := ww_bS hf; replace hf := hq; clear hq
  refine c1c_1_areMaps X hl.1 hK hR hS (Nat.le_trans (Nat.le_of_ble_eq_true rfl) hF) (Nat.le_trans (Nat.le_of_ble_eq_true rfl) hLo) (Nat.zero_le _) (Nat.zero_le _) h_1 (cw_rest (Nat.le_of_ble_eq_true rfl)) dX1_difference_3 (fun H locs hR hS => ?_)
  refine lv_if_eq (tgt := 29) hx hb dX1_difference_6 (by decide) (fun c_2 => ?_) (fun c_2 => ?_)
  · replace hf := ww_ip hf c_2
    refine lv_ldc (v := (-1000000 : Int32)) hx hb hown (hts _ q420) dX1_difference_29 ?_
    exact hend dX1_difference_31 rfl rfl hf hR hS
  · replace hf := ww_in hf c_2
    refine lv_iload_n hx hb dX1_difference_9 rfl (lv_at hl 3 rfl) ?_
    refine lv_iconst (v := (-1 : Int32)) hx hb dX1_difference_10 (by decide) ?_
    refine lv_icmp_lt (tgt := 29) hx hb dX1_difference_11 (by decide) (fun c_3 => ?_) (fun c_3 => ?_)
    · replace hf := ww_ip hf c_3
      refine lv_ldc (v := (-1000000 : Int32)) hx hb hown (hts _ q420) dX1_difference_29 ?_
      exact hend dX1_difference_31 rfl rfl hf hR hS
    · replace hf := ww_in hf c_3
      refine lv_iload_n hx hb dX1_difference_14 rfl (lv_at hl 3 rfl) ?_
      refine lv_iconst (v := (-1 : Int32)) hx hb dX1_difference_15 (by decide) ?_
      have hj_1 : f1_difference_j1 D x1 x2 x3 x4 = some r → ∀ (H : Heap) (locs : List Loc) (ls : Array Slot), cw_H E A D H → va_S A s.heap H locs → lv_has ls 11 [(0, .ref E.1.1), (1, .int x1), (2, .int x2), (3, .int x3), (4, .int x4)] → W p l e Rm s m args below meth c H locs 0 0 Q (F0 m 32 ls []) := by
        clear hf
        intro  hf
        unfold f1_difference_j1 at hf
        try clear hl
        try clear hS
        try clear hR
        intro H locs ls hR hS hl
        refine lv_aload_n hx hb dX1_difference_32 rfl (lv_at hl 0 rfl) ?_
        refine lv_iload_n hx hb dX1_difference_33 rfl (lv_at hl 1 rfl) ?_
        obtain ⟨r_4, h_4, hq⟩ := ww_bS hf; replace hf := hq; clear hq
        refine c1c_1_rootOf X hl.1 hK hR hS (Nat.le_trans (Nat.le_of_ble_eq_true rfl) hF) (Nat.le_trans (Nat.le_of_ble_eq_true rfl) hLo) (Nat.zero_le _) (Nat.zero_le _) h_4 (cw_rest (Nat.le_of_ble_eq_true rfl)) dX1_difference_34 (fun H locs hR hS => ?_)
        refine cw_astore (x := r_4) (lv' := [(5, va_rf r_4), (0, .ref E.1.1), (1, .int x1), (2, .int x2), (3, .int x3), (4, .int x4)]) hx hb dX1_difference_37 hl (by decide) rfl (fun ls hl => ?_)
        refine lv_aload_n hx hb dX1_difference_39 rfl (lv_at hl 1 rfl) ?_
        refine lv_iload_n hx hb dX1_difference_40 rfl (lv_at hl 3 rfl) ?_
        obtain ⟨r_5, h_5, hq⟩ := ww_bS hf; replace hf := hq; clear hq
        refine c1c_1_rootOf X hl.1 hK hR hS (Nat.le_trans (Nat.le_of_ble_eq_true rfl) hF) (Nat.le_trans (Nat.le_of_ble_eq_true rfl) hLo) (Nat.zero_le _) (Nat.zero_le _) h_5 (cw_rest (Nat.le_of_ble_eq_true rfl)) dX1_difference_41 (fun H locs hR hS => ?_)
        refine cw_astore (x := r_5) (lv' := [(6, va_rf r_5), (5, va_rf r_4), (0, .ref E.1.1), (1, .int x1), (2, .int x2), (3, .int x3), (4, .int x4)]) hx hb dX1_difference_44 hl (by decide) (by cases r_4 <;> rfl) (fun ls hl => ?_)
        refine lv_iconst (v := (0 : Int32)) hx hb dX1_difference_46 (by decide) ?_
        refine lv_istore (lv' := [(7, .int (0 : Int32)), (6, va_rf r_5), (5, va_rf r_4), (0, .ref E.1.1), (1, .int x1), (2, .int x2), (3, .int x3), (4, .int x4)]) hx hb dX1_difference_47 hl (by decide) (by cases r_5 <;> rfl) (fun ls hl => ?_)
        refine lv_iconst (v := (0 : Int32)) hx hb dX1_difference_49 (by decide) ?_
        refine lv_istore (lv' := [(8, .int (0 : Int32)), (7, .int (0 : Int32)), (6, va_rf r_5), (5, va_rf r_4), (0, .ref E.1.1), (1, .int x1), (2, .int x2), (3, .int x3), (4, .int x4)]) hx hb dX1_difference_50 hl (by decide) rfl (fun ls hl => ?_)
        have hL_1 : ∀ s9 : Int32 × Int32, ww_U (f1_difference_b1 D x3 x4 r_4 r_5) s9 = some r → ∀ (H : Heap) (locs : List Loc) (ls : Array Slot), cw_H E A D H → va_S A s.heap H locs → lv_has ls 11 [(3, .int x3), (4, .int x4), (5, va_rf r_4), (6, va_rf r_5), (7, .int s9.1), (8, .int s9.2)] → W p l e Rm s m args below meth c H locs 0 0 Q (F0 m 52 ls []) := by
          clear hf
          refine ww_ind _ r ?_
          intro s9 z_1 hf hz_1
          obtain ⟨x7, x8⟩ := s9
          replace hf : f1_difference_b1c D x3 x4 r_4 r_5 x7 x8 = some z_1 := hf
          unfold f1_difference_b1c at hf
          try clear hl
          try clear hS
          try clear hR
          intro H locs ls hR hS hl
          replace hl : lv_has ls 11 [(3, .int x3), (4, .int x4), (5, va_rf r_4), (6, va_rf r_5), (7, .int x7), (8, .int x8)] := hl
          refine lv_iload hx hb dX1_difference_52 (lv_at hl 5 rfl) ?_
          refine lv_sipush (v := (999 : Int32)) hx hb dX1_difference_54 (by decide) ?_
          refine lv_icmp_gt (tgt := 127) hx hb dX1_difference_57 (by decide) (fun c_6 => ?_) (fun c_6 => ?_)
          · replace hf := ww_ip hf c_6
            replace hf := ww_xK hf hz_1
            refine lv_iload_n hx hb dX1_difference_127 rfl (lv_at hl 0 rfl) ?_
            refine lv_iconst (v := (-1 : Int32)) hx hb dX1_difference_128 (by decide) ?_
            refine lv_icmp_ne (tgt := 137) hx hb dX1_difference_129 (by decide) (fun c_7 => ?_) (fun c_7 => ?_)
            · replace hf := ww_in hf c_7
              refine lv_ldc (v := (-1000000 : Int32)) hx hb hown (hts _ q420) dX1_difference_137 ?_
              exact hend dX1_difference_139 rfl rfl hf hR hS
            · replace hf := ww_ip hf c_7
              refine lv_iload hx hb dX1_difference_132 (lv_at hl 4 rfl) ?_
              refine lv_goto (tgt := 139) hx hb dX1_difference_134 (by decide) ?_
              exact hend dX1_difference_139 rfl rfl hf hR hS
          · replace hf := ww_in hf c_6
            refine cw_aload (x := r_4) hx hb dX1_difference_60 (lv_at hl 2 rfl) ?_
            refine lv_iload hx hb dX1_difference_62 (lv_at hl 5 rfl) ?_
            obtain ⟨r_8, h_8, hq⟩ := ww_bS hf; replace hf := hq; clear hq
            refine c1c_1_valueIn (x0 := r_4) X hl.1 hK hR hS (Nat.le_trans (Nat.le_of_ble_eq_true rfl) hF) (Nat.le_trans (Nat.le_of_ble_eq_true rfl) hLo) (Nat.zero_le _) (Nat.zero_le _) h_8 (cw_rest (Nat.le_of_ble_eq_true rfl)) dX1_difference_64 (fun H locs hR hS => ?_)
            refine lv_istore (lv' := [(9, .int r_8), (3, .int x3), (4, .int x4), (5, va_rf r_4), (6, va_rf r_5), (7, .int x7), (8, .int x8)]) hx hb dX1_difference_67 hl (by decide) rfl (fun ls hl => ?_)
            refine cw_aload (x := r_5) hx hb dX1_difference_69 (lv_at hl 4 rfl) ?_
            refine lv_iload hx hb dX1_difference_71 (lv_at hl 6 rfl) ?_
            obtain ⟨r_9, h_9, hq⟩ := ww_bS hf; replace hf := hq; clear hq
            refine c1c_1_valueIn (x0 := r_5) X hl.1 hK hR hS (Nat.le_trans (Nat.le_of_ble_eq_true rfl) hF) (Nat.le_trans (Nat.le_of_ble_eq_true rfl) hLo) (Nat.zero_le _) (Nat.zero_le _) h_9 (cw_rest (Nat.le_of_ble_eq_true rfl)) dX1_difference_73 (fun H locs hR hS => ?_)
            refine lv_istore (lv' := [(10, .int r_9), (9, .int r_8), (3, .int x3), (4, .int x4), (5, va_rf r_4), (6, va_rf r_5), (7, .int x7), (8, .int x8)]) hx hb dX1_difference_76 hl (by decide) rfl (fun ls hl => ?_)
            refine lv_iload hx hb dX1_difference_78 (lv_at hl 1 rfl) ?_
            refine lv_iload hx hb dX1_difference_80 (lv_at hl 0 rfl) ?_
            refine lv_icmp_ne (tgt := 88) hx hb dX1_difference_82 (by decide) (fun c_10 => ?_) (fun c_10 => ?_)
            · replace hf := ww_in hf c_10
              refine lv_iload hx hb dX1_difference_88 (lv_at hl 6 rfl) ?_
              refine lv_iload_n hx hb dX1_difference_90 rfl (lv_at hl 2 rfl) ?_
              refine lv_icmp_ne (tgt := 118) hx hb dX1_difference_91 (by decide) (fun c_11 => ?_) (fun c_11 => ?_)
              · replace hf := ww_in hf c_11
                refine lv_iinc (k := 6) (v := x7 + (1 : Int32)) (lv' := [(7, .int (x7 + (1 : Int32))), (10, .int r_9), (9, .int r_8), (3, .int x3), (4, .int x4), (5, va_rf r_4), (6, va_rf r_5), (8, .int x8)]) hx hb dX1_difference_118 hl rfl rfl (by decide) (by cases r_5 <;> rfl) (fun ls hl => ?_)
                refine lv_iinc (k := 7) (v := x8 + (1 : Int32)) (lv' := [(8, .int (x8 + (1 : Int32))), (7, .int (x7 + (1 : Int32))), (10, .int r_9), (9, .int r_8), (3, .int x3), (4, .int x4), (5, va_rf r_4), (6, va_rf r_5)]) hx hb dX1_difference_121 hl rfl rfl (by decide) rfl (fun ls hl => ?_)
                refine lv_goto (tgt := 52) hx hb dX1_difference_124 (by decide) ?_
                exact ww_lK hf hz_1 _ _ _ hR hS (lv_sub hl [4, 5, 6, 7, 1, 0] rfl)
              · replace hf := ww_ip hf c_11
                replace hf := ww_xK hf hz_1
                refine lv_iload hx hb dX1_difference_94 (lv_at hl 3 rfl) ?_
                refine lv_if_ne (tgt := 104) hx hb dX1_difference_96 (by decide) (fun c_12 => ?_) (fun c_12 => ?_)
                · replace hf := ww_in hf c_12
                  refine lv_iload hx hb dX1_difference_104 (lv_at hl 3 rfl) ?_
                  refine lv_iconst (v := (1 : Int32)) hx hb dX1_difference_106 (by decide) ?_
                  refine lv_icmp_ne (tgt := 115) hx hb dX1_difference_107 (by decide) (fun c_13 => ?_) (fun c_13 => ?_)
                  · replace hf := ww_in hf c_13
                    refine lv_iload hx hb dX1_difference_115 (lv_at hl 0 rfl) ?_
                    exact hend dX1_difference_117 rfl rfl hf hR hS
                  · replace hf := ww_ip hf c_13
                    refine lv_iload hx hb dX1_difference_110 (lv_at hl 1 rfl) ?_
                    refine lv_goto (tgt := 117) hx hb dX1_difference_112 (by decide) ?_
                    exact hend dX1_difference_117 rfl rfl hf hR hS
                · replace hf := ww_ip hf c_12
                  refine lv_iload hx hb dX1_difference_99 (lv_at hl 7 rfl) ?_
                  refine lv_goto (tgt := 117) hx hb dX1_difference_101 (by decide) ?_
                  exact hend dX1_difference_117 rfl rfl hf hR hS
            · replace hf := ww_ip hf c_10
              refine lv_goto (tgt := 121) hx hb dX1_difference_85 (by decide) ?_
              refine lv_iinc (k := 7) (v := x8 + (1 : Int32)) (lv' := [(8, .int (x8 + (1 : Int32))), (10, .int r_9), (9, .int r_8), (3, .int x3), (4, .int x4), (5, va_rf r_4), (6, va_rf r_5), (7, .int x7)]) hx hb dX1_difference_121 hl rfl rfl (by decide) rfl (fun ls hl => ?_)
              refine lv_goto (tgt := 52) hx hb dX1_difference_124 (by decide) ?_
              exact ww_lK hf hz_1 _ _ _ hR hS (lv_sub hl [3, 4, 5, 6, 7, 0] rfl)
        exact hL_1 ((0 : Int32), (0 : Int32)) hf _ _ _ hR hS (lv_sub hl [7, 8, 3, 2, 1, 0] rfl)
      refine lv_icmp_eq (tgt := 32) hx hb dX1_difference_16 (by decide) (fun c_14 => ?_) (fun c_14 => ?_)
      · replace hf := ww_ip hf c_14
        exact hj_1 hf _ _ _ hR hS hl
      · replace hf := ww_in hf c_14
        refine lv_iload hx hb dX1_difference_19 (lv_at hl 4 rfl) ?_
        refine lv_iconst (v := (0 : Int32)) hx hb dX1_difference_21 (by decide) ?_
        refine lv_iconst (v := (2 : Int32)) hx hb dX1_difference_22 (by decide) ?_
        obtain ⟨r_15, h_15, hq⟩ := ww_bS hf; replace hf := hq; clear hq
        refine c1c_1_in X hl.1 (Nat.le_trans (Nat.le_of_ble_eq_true rfl) hF) (Nat.le_trans (Nat.le_of_ble_eq_true rfl) hLo) (Nat.zero_le _) (Nat.zero_le _) h_15 (cw_rest (Nat.le_of_ble_eq_true rfl)) dX1_difference_23 ?_
        refine lv_if_ne (tgt := 32) hx hb dX1_difference_26 (by decide) (fun c_16 => ?_) (fun c_16 => ?_)
        · replace hf := ww_in hf c_16
          exact hj_1 hf _ _ _ hR hS hl
        · replace hf := ww_ip hf c_16
          refine lv_ldc (v := (-1000000 : Int32)) hx hb hown (hts _ q420) dX1_difference_29 ?_
          exact hend dX1_difference_31 rfl rfl hf hR hS
section C_1_difference_c
variable {p : Program} {l : Launch} {e : Env} {R : Room} {s : State} {m : MethodId} {args : Array Value} {below : List Frame} {meth : Method} {c : Code} {H : Heap} {locs : List Loc} {cells slots : Nat} {Q : State → Prop}
variable {cc : ByteArray} {pc : Nat} {ls : Array Slot} {rest : List Value} {nL : Nat} {E : cw_E} {A : Nat → Prop} {H0 : Heap}
theorem c1c_1_difference {D : cw_D} {x1 : Int32} {x2 : Int32} {x3 : Int32} {x4 : Int32} {r : Int32} (X : ww_C p m c cc nL s args RX1 lw_all) (hsz : ls.size = nL) (hK : cw_K E A s) (hR : cw_H E A D H) (hS : va_S A s.heap H locs) (hF : 14 ≤ R.frames) (hLo : 297 ≤ R.locals) (hc : cells ≤ R.cells) (hs : slots ≤ R.slots) (hf : f1_difference D x1 x2 x3 x4 = some r) (hrest : (rest.map fun v => v.category).sum ≤ 8) (hdg : decode cc pc = .ok (.invokevirtual 472, 3)) (kk : ∀ (H1 : Heap) (locs1 : List Loc), cw_H E A D H1 → va_S A s.heap H1 locs1 → W p l e R s m args below meth c H1 locs1 cells slots Q (F0 m (pc + 3) ls (.int r :: rest))) : W p l e R s m args below meth c H locs cells slots Q (F0 m pc ls (.int x4 :: .int x3 :: .int x2 :: .int x1 :: .ref E.1.1 :: rest)) :=
  c1k_1_difference X hsz hK hR hS hF hLo hc hs (met1_difference l _ _ _ _ _ _ hf) hrest hdg kk
end C_1_difference_c
noncomputable def f1_layLine_j1 (y2 : Nat) (y3 : Int32) (D_9 : cw_D) : Option ((cw_D × Int32) ⊕ (cw_D)) :=
  ww_g (ww_i y3 999) (if (ww_X D_9.1 22 y3) = (-1 : Int32) then some (.inl (D_9, (y3 + (-1 : Int32)))) else ww_g (ww_i y3 999) (ww_g (decide (y2 = 35 ∨ y2 = 36)) (ww_g (ww_i (ww_X D_9.1 22 y3) 999) (some (.inl ((cw_sX D_9 y2 (ww_X D_9.1 22 y3) (vp_nar .boolean (1 : Int32))), (y3 + (-1 : Int32))))))))
noncomputable def f1_layLine_b2c (y2 : Nat) (D_3 : cw_D) (x3 : Int32) : Option ((cw_D × Int32) ⊕ (cw_D)) :=
  if x3 < 0 then ww_x (some D_3) else ww_g (decide (y2 = 35 ∨ y2 = 36)) (ww_g (ww_i x3 999) (if (ww_X D_3.1 y2 x3) = 0 then some (.inl (D_3, (x3 + (-1 : Int32)))) else ww_g (ww_i x3 999) (if (ww_X D_3.1 21 x3) = (-1 : Int32) then f1_layLine_j1 y2 x3 D_3 else ww_g (ww_i x3 999) (ww_g (decide (y2 = 35 ∨ y2 = 36)) (ww_g (ww_i (ww_X D_3.1 21 x3) 999) (f1_layLine_j1 y2 x3 (cw_sX D_3 y2 (ww_X D_3.1 21 x3) (vp_nar .boolean (1 : Int32)))))))))
noncomputable def f1_layLine_b2 (y2 : Nat) : (cw_D × Int32) → Option ((cw_D × Int32) ⊕ (cw_D)) := fun s9 => f1_layLine_b2c y2 s9.1 s9.2
noncomputable def f1_layLine_b1c (y1 : Int32) (y2 : Nat) (D_1 : cw_D) (x3 : Int32) : Option ((cw_D × Int32) ⊕ (cw_D)) :=
  if (999 : Int32) ≤ x3 then ww_x (ww_U (f1_layLine_b2 y2) (D_1, y1)) else if x3 = y1 then ww_g (decide (y2 = 35 ∨ y2 = 36)) (ww_g (ww_i x3 999) (some (.inl ((cw_sX D_1 y2 x3 (vp_nar .boolean (1 : Int32))), (x3 + (1 : Int32)))))) else ww_g (decide (y2 = 35 ∨ y2 = 36)) (ww_g (ww_i x3 999) (some (.inl ((cw_sX D_1 y2 x3 (vp_nar .boolean (0 : Int32))), (x3 + (1 : Int32))))))
noncomputable def f1_layLine_b1 (y1 : Int32) (y2 : Nat) : (cw_D × Int32) → Option ((cw_D × Int32) ⊕ (cw_D)) := fun s9 => f1_layLine_b1c y1 y2 s9.1 s9.2
noncomputable def f1_layLine (D : cw_D) (x1 : Int32) (x2 : Nat) : Option (cw_D) :=
  ww_U (f1_layLine_b1 x1 x2) (D, (0 : Int32))
section C_1_layLine_k
variable {p : Program} {l : Launch} {e : Env} {R : Room} {s : State} {m : MethodId} {args : Array Value} {below : List Frame} {meth : Method} {c : Code} {H : Heap} {locs : List Loc} {cells slots : Nat} {Q : State → Prop}
variable {cc : ByteArray} {pc : Nat} {ls : Array Slot} {rest : List Value} {nL : Nat} {E : cw_E} {A : Nat → Prop} {H0 : Heap}
theorem c1k_1_layLine {D : cw_D} {x1 : Int32} {x2 : Nat} {D' : cw_D} (X : ww_C p m c cc nL s args RX1 lw_all) (hsz : ls.size = nL) (hK : cw_K E A s) (hR : cw_H E A D H) (hS : va_S A s.heap H locs) (hF : 1 ≤ R.frames) (hLo : 23 ≤ R.locals) (hc : cells ≤ R.cells) (hs : slots ≤ R.slots) (hM : cw_MetV l yX1_layLine cX1_layLine 4 0 0 E A [.ref E.1.1, .int x1, .ref (E.1.2.1 x2)] D D' 0 0) (hrest : (rest.map fun v => v.category).sum ≤ 8) (hdg : decode cc pc = .ok (.invokevirtual 479, 3)) (kk : ∀ (H1 : Heap) (locs1 : List Loc), cw_H E A D' H1 → va_S A s.heap H1 locs1 → W p l e R s m args below meth c H1 locs1 cells slots Q (F0 m (pc + 3) ls (rest))) : W p l e R s m args below meth c H locs cells slots Q (F0 m pc ls (.ref (E.1.2.1 x2) :: .int x1 :: .ref E.1.1 :: rest)) :=
  va_callv (va_runV (C := RX1) (As := [.int x1, .ref (E.1.2.1 x2)]) (rest := rest) (b := E.1.1) X hM (cwV 2 X.2.2.2.2 (lw_V q1583 q1585 qs57 q131 q1586) rfl rfl rfl (by decide +kernel) ⟨hF, hLo⟩) (cw_pV hK hR hS (cw_rcM hK hR)) rfl rfl hsz rfl (lv_room hrest) hdg ⟨hc, hs⟩) hS (fun q _ h => h) (fun q h => h) (fun u t H1 locs1 ht hvm hw hB hz1 hk1 hS1 => by rw [ht] at hB; exact kk H1 locs1 hB hS1)
end C_1_layLine_k
set_option maxHeartbeats 4000000 in
set_option maxRecDepth 100000 in
theorem met1_layLine (l : Launch) {E : cw_E} {A : Nat → Prop} (D : cw_D) (x1 : Int32) (x2 : Nat) (D' : cw_D) (hf : f1_layLine D x1 x2 = some D') : cw_MetV l yX1_layLine cX1_layLine 4 0 0 E A [.ref E.1.1, .int x1, .ref (E.1.2.1 x2)] D D' 0 0 := by
  unfold f1_layLine at hf
  refine cw_sVD (own := RX1) (by decide +kernel) [(0, .ref E.1.1), (1, .int x1), (2, .ref (E.1.2.1 x2))] ⟨Nat.le_of_ble_eq_true rfl, rfl⟩ ?_
  intro p e s m args below meth c Rm Q X hK hF hLo hin hend ls hl hR hS
  obtain ⟨hx, hb, hml, hown, hts⟩ := id X
  refine lv_iconst (v := (0 : Int32)) hx hb dX1_layLine_0 (by decide) ?_
  refine lv_istore_n (lv' := [(3, .int (0 : Int32)), (0, .ref E.1.1), (1, .int x1), (2, .ref (E.1.2.1 x2))]) hx hb dX1_layLine_1 rfl hl (by decide) rfl (fun ls hl => ?_)
  have hL_1 : ∀ s9 : cw_D × Int32, ww_U (f1_layLine_b1 x1 x2) s9 = some D' → ∀ (H : Heap) (locs : List Loc) (ls : Array Slot), cw_H E A s9.1 H → va_S A s.heap H locs → lv_has ls 4 [(0, .ref E.1.1), (1, .int x1), (2, .ref (E.1.2.1 x2)), (3, .int s9.2)] → W p l e Rm s m args below meth c H locs 0 0 Q (F0 m 2 ls []) := by
    clear hf
    refine ww_ind _ D' ?_
    intro s9 z_1 hf hz_1
    obtain ⟨D_1, x3⟩ := s9
    replace hf : f1_layLine_b1c x1 x2 D_1 x3 = some z_1 := hf
    unfold f1_layLine_b1c at hf
    try clear hl
    try clear hS
    try clear hR
    intro H locs ls hR hS hl
    replace hR : cw_H E A D_1 H := hR
    replace hl : lv_has ls 4 [(0, .ref E.1.1), (1, .int x1), (2, .ref (E.1.2.1 x2)), (3, .int x3)] := hl
    refine lv_iload_n hx hb dX1_layLine_2 rfl (lv_at hl 3 rfl) ?_
    refine lv_sipush (v := (999 : Int32)) hx hb dX1_layLine_3 (by decide) ?_
    refine lv_icmp_ge (tgt := 28) hx hb dX1_layLine_6 (by decide) (fun c_2 => ?_) (fun c_2 => ?_)
    · replace hf := ww_ip hf c_2
      replace hf := ww_xK hf hz_1
      refine lv_iload_n hx hb dX1_layLine_28 rfl (lv_at hl 1 rfl) ?_
      refine lv_istore_n (lv' := [(3, .int x1), (0, .ref E.1.1), (1, .int x1), (2, .ref (E.1.2.1 x2))]) hx hb dX1_layLine_29 rfl hl (by decide) rfl (fun ls hl => ?_)
      have hL_2 : ∀ s9 : cw_D × Int32, ww_U (f1_layLine_b2 x2) s9 = some D' → ∀ (H : Heap) (locs : List Loc) (ls : Array Slot), cw_H E A s9.1 H → va_S A s.heap H locs → lv_has ls 4 [(0, .ref E.1.1), (2, .ref (E.1.2.1 x2)), (3, .int s9.2)] → W p l e Rm s m args below meth c H locs 0 0 Q (F0 m 30 ls []) := by
        clear hf
        refine ww_ind _ D' ?_
        intro s9 z_2 hf hz_2
        obtain ⟨D_3, x3⟩ := s9
        replace hf : f1_layLine_b2c x2 D_3 x3 = some z_2 := hf
        unfold f1_layLine_b2c at hf
        try clear hl
        try clear hS
        try clear hR
        intro H locs ls hR hS hl
        replace hR : cw_H E A D_3 H := hR
        replace hl : lv_has ls 4 [(0, .ref E.1.1), (2, .ref (E.1.2.1 x2)), (3, .int x3)] := hl
        refine lv_iload_n hx hb dX1_layLine_30 rfl (lv_at hl 2 rfl) ?_
        refine lv_if_lt (tgt := 87) hx hb dX1_layLine_31 (by decide) (fun c_4 => ?_) (fun c_4 => ?_)
        · replace hf := ww_ip hf c_4
          replace hf := ww_xK hf hz_2
          exact hend dX1_layLine_87 hf hR hS
        · replace hf := ww_in hf c_4
          refine lv_aload_n hx hb dX1_layLine_34 rfl (lv_at hl 1 rfl) ?_
          refine lv_iload_n hx hb dX1_layLine_35 rfl (lv_at hl 2 rfl) ?_
          obtain ⟨h_5, hq⟩ := ww_gS hf; replace hf := hq; clear hq
          obtain ⟨h_6, hq⟩ := ww_gS hf; replace hf := hq; clear hq
          refine c1l_j (of_decide_eq_true h_5) X hK hR h_6 dX1_layLine_36 ?_
          refine lv_if_ne (tgt := 43) hx hb dX1_layLine_37 (by decide) (fun c_7 => ?_) (fun c_7 => ?_)
          · replace hf := ww_in hf c_7
            refine lv_aload_n hx hb dX1_layLine_43 rfl (lv_at hl 0 rfl) ?_
            refine c1g_76 X hK hR dX1_layLine_44 ?_
            refine lv_iload_n hx hb dX1_layLine_47 rfl (lv_at hl 2 rfl) ?_
            obtain ⟨h_8, hq⟩ := ww_gS hf; replace hf := hq; clear hq
            refine c1l_21 X hK hR h_8 dX1_layLine_48 ?_
            refine lv_iconst (v := (-1 : Int32)) hx hb dX1_layLine_49 (by decide) ?_
            have hj_1 : ∀ (D_9 : cw_D), f1_layLine_j1 x2 x3 D_9 = some z_2 → ∀ (H : Heap) (locs : List Loc) (ls : Array Slot), cw_H E A D_9 H → va_S A s.heap H locs → lv_has ls 4 [(0, .ref E.1.1), (2, .ref (E.1.2.1 x2)), (3, .int x3)] → W p l e Rm s m args below meth c H locs 0 0 Q (F0 m 62 ls []) := by
              clear hf
              intro D_9 hf
              unfold f1_layLine_j1 at hf
              try clear hl
              try clear hS
              try clear hR
              intro H locs ls hR hS hl
              refine lv_aload_n hx hb dX1_layLine_62 rfl (lv_at hl 0 rfl) ?_
              refine c1g_79 X hK hR dX1_layLine_63 ?_
              refine lv_iload_n hx hb dX1_layLine_66 rfl (lv_at hl 2 rfl) ?_
              obtain ⟨h_10, hq⟩ := ww_gS hf; replace hf := hq; clear hq
              refine c1l_22 X hK hR h_10 dX1_layLine_67 ?_
              refine lv_iconst (v := (-1 : Int32)) hx hb dX1_layLine_68 (by decide) ?_
              refine lv_icmp_eq (tgt := 81) hx hb dX1_layLine_69 (by decide) (fun c_11 => ?_) (fun c_11 => ?_)
              · replace hf := ww_ip hf c_11
                refine lv_iinc (k := 2) (v := x3 + (-1 : Int32)) (lv' := [(3, .int (x3 + (-1 : Int32))), (0, .ref E.1.1), (2, .ref (E.1.2.1 x2))]) hx hb dX1_layLine_81 hl rfl rfl (by decide) rfl (fun ls hl => ?_)
                refine lv_goto (tgt := 30) hx hb dX1_layLine_84 (by decide) ?_
                exact ww_lK hf hz_2 _ _ _ hR hS (lv_sub hl [1, 2, 0] rfl)
              · replace hf := ww_in hf c_11
                refine lv_aload_n hx hb dX1_layLine_72 rfl (lv_at hl 1 rfl) ?_
                refine lv_aload_n hx hb dX1_layLine_73 rfl (lv_at hl 0 rfl) ?_
                refine c1g_79 X hK hR dX1_layLine_74 ?_
                refine lv_iload_n hx hb dX1_layLine_77 rfl (lv_at hl 2 rfl) ?_
                obtain ⟨h_12, hq⟩ := ww_gS hf; replace hf := hq; clear hq
                refine c1l_22 X hK hR h_12 dX1_layLine_78 ?_
                refine lv_iconst (v := (1 : Int32)) hx hb dX1_layLine_79 (by decide) ?_
                obtain ⟨h_13, hq⟩ := ww_gS hf; replace hf := hq; clear hq
                obtain ⟨h_14, hq⟩ := ww_gS hf; replace hf := hq; clear hq
                refine c1s_j (of_decide_eq_true h_13) X hK hR hS h_14 dX1_layLine_80 (fun H locs hR hS => ?_)
                refine lv_iinc (k := 2) (v := x3 + (-1 : Int32)) (lv' := [(3, .int (x3 + (-1 : Int32))), (0, .ref E.1.1), (2, .ref (E.1.2.1 x2))]) hx hb dX1_layLine_81 hl rfl rfl (by decide) rfl (fun ls hl => ?_)
                refine lv_goto (tgt := 30) hx hb dX1_layLine_84 (by decide) ?_
                exact ww_lK hf hz_2 _ _ _ hR hS (lv_sub hl [1, 2, 0] rfl)
            refine lv_icmp_eq (tgt := 62) hx hb dX1_layLine_50 (by decide) (fun c_15 => ?_) (fun c_15 => ?_)
            · replace hf := ww_ip hf c_15
              exact hj_1 D_3 hf _ _ _ hR hS hl
            · replace hf := ww_in hf c_15
              refine lv_aload_n hx hb dX1_layLine_53 rfl (lv_at hl 1 rfl) ?_
              refine lv_aload_n hx hb dX1_layLine_54 rfl (lv_at hl 0 rfl) ?_
              refine c1g_76 X hK hR dX1_layLine_55 ?_
              refine lv_iload_n hx hb dX1_layLine_58 rfl (lv_at hl 2 rfl) ?_
              obtain ⟨h_16, hq⟩ := ww_gS hf; replace hf := hq; clear hq
              refine c1l_21 X hK hR h_16 dX1_layLine_59 ?_
              refine lv_iconst (v := (1 : Int32)) hx hb dX1_layLine_60 (by decide) ?_
              obtain ⟨h_17, hq⟩ := ww_gS hf; replace hf := hq; clear hq
              obtain ⟨h_18, hq⟩ := ww_gS hf; replace hf := hq; clear hq
              refine c1s_j (of_decide_eq_true h_17) X hK hR hS h_18 dX1_layLine_61 (fun H locs hR hS => ?_)
              exact hj_1 (cw_sX D_3 x2 (ww_X D_3.1 21 x3) (vp_nar .boolean (1 : Int32))) hf _ _ _ hR hS hl
          · replace hf := ww_ip hf c_7
            refine lv_goto (tgt := 81) hx hb dX1_layLine_40 (by decide) ?_
            refine lv_iinc (k := 2) (v := x3 + (-1 : Int32)) (lv' := [(3, .int (x3 + (-1 : Int32))), (0, .ref E.1.1), (2, .ref (E.1.2.1 x2))]) hx hb dX1_layLine_81 hl rfl rfl (by decide) rfl (fun ls hl => ?_)
            refine lv_goto (tgt := 30) hx hb dX1_layLine_84 (by decide) ?_
            exact ww_lK hf hz_2 _ _ _ hR hS (lv_sub hl [1, 2, 0] rfl)
      exact hL_2 (D_1, x1) hf _ _ _ hR hS (lv_sub hl [1, 3, 0] rfl)
    · replace hf := ww_in hf c_2
      refine lv_aload_n hx hb dX1_layLine_9 rfl (lv_at hl 2 rfl) ?_
      refine lv_iload_n hx hb dX1_layLine_10 rfl (lv_at hl 3 rfl) ?_
      refine lv_iload_n hx hb dX1_layLine_11 rfl (lv_at hl 3 rfl) ?_
      refine lv_iload_n hx hb dX1_layLine_12 rfl (lv_at hl 1 rfl) ?_
      refine lv_icmp_ne (tgt := 20) hx hb dX1_layLine_13 (by decide) (fun c_19 => ?_) (fun c_19 => ?_)
      · replace hf := ww_in hf c_19
        refine lv_iconst (v := (0 : Int32)) hx hb dX1_layLine_20 (by decide) ?_
        obtain ⟨h_20, hq⟩ := ww_gS hf; replace hf := hq; clear hq
        obtain ⟨h_21, hq⟩ := ww_gS hf; replace hf := hq; clear hq
        refine c1s_j (of_decide_eq_true h_20) X hK hR hS h_21 dX1_layLine_21 (fun H locs hR hS => ?_)
        refine lv_iinc (k := 3) (v := x3 + (1 : Int32)) (lv' := [(3, .int (x3 + (1 : Int32))), (0, .ref E.1.1), (1, .int x1), (2, .ref (E.1.2.1 x2))]) hx hb dX1_layLine_22 hl rfl rfl (by decide) rfl (fun ls hl => ?_)
        refine lv_goto (tgt := 2) hx hb dX1_layLine_25 (by decide) ?_
        exact ww_lK hf hz_1 _ _ _ hR hS (lv_sub hl [1, 2, 3, 0] rfl)
      · replace hf := ww_ip hf c_19
        refine lv_iconst (v := (1 : Int32)) hx hb dX1_layLine_16 (by decide) ?_
        refine lv_goto (tgt := 21) hx hb dX1_layLine_17 (by decide) ?_
        obtain ⟨h_22, hq⟩ := ww_gS hf; replace hf := hq; clear hq
        obtain ⟨h_23, hq⟩ := ww_gS hf; replace hf := hq; clear hq
        refine c1s_j (of_decide_eq_true h_22) X hK hR hS h_23 dX1_layLine_21 (fun H locs hR hS => ?_)
        refine lv_iinc (k := 3) (v := x3 + (1 : Int32)) (lv' := [(3, .int (x3 + (1 : Int32))), (0, .ref E.1.1), (1, .int x1), (2, .ref (E.1.2.1 x2))]) hx hb dX1_layLine_22 hl rfl rfl (by decide) rfl (fun ls hl => ?_)
        refine lv_goto (tgt := 2) hx hb dX1_layLine_25 (by decide) ?_
        exact ww_lK hf hz_1 _ _ _ hR hS (lv_sub hl [1, 2, 3, 0] rfl)
  exact hL_1 (D, (0 : Int32)) hf _ _ _ hR hS (lv_sub hl [1, 2, 3, 0] rfl)
section C_1_layLine_c
variable {p : Program} {l : Launch} {e : Env} {R : Room} {s : State} {m : MethodId} {args : Array Value} {below : List Frame} {meth : Method} {c : Code} {H : Heap} {locs : List Loc} {cells slots : Nat} {Q : State → Prop}
variable {cc : ByteArray} {pc : Nat} {ls : Array Slot} {rest : List Value} {nL : Nat} {E : cw_E} {A : Nat → Prop} {H0 : Heap}
theorem c1c_1_layLine {D : cw_D} {x1 : Int32} {x2 : Nat} {D' : cw_D} (X : ww_C p m c cc nL s args RX1 lw_all) (hsz : ls.size = nL) (hK : cw_K E A s) (hR : cw_H E A D H) (hS : va_S A s.heap H locs) (hF : 1 ≤ R.frames) (hLo : 23 ≤ R.locals) (hc : cells ≤ R.cells) (hs : slots ≤ R.slots) (hf : f1_layLine D x1 x2 = some D') (hrest : (rest.map fun v => v.category).sum ≤ 8) (hdg : decode cc pc = .ok (.invokevirtual 479, 3)) (kk : ∀ (H1 : Heap) (locs1 : List Loc), cw_H E A D' H1 → va_S A s.heap H1 locs1 → W p l e R s m args below meth c H1 locs1 cells slots Q (F0 m (pc + 3) ls (rest))) : W p l e R s m args below meth c H locs cells slots Q (F0 m pc ls (.ref (E.1.2.1 x2) :: .int x1 :: .ref E.1.1 :: rest)) :=
  c1k_1_layLine X hsz hK hR hS hF hLo hc hs (met1_layLine l _ _ _ _ hf) hrest hdg kk
end C_1_layLine_c
noncomputable def f1_fork_b1c (D : cw_D) (x3 : Int32) : Option ((Int32) ⊕ (Int32 × cw_D)) :=
  if x3 < 0 then ww_x (some (x3, D)) else ww_g (ww_i x3 999) (if (ww_X D.1 35 x3) = 0 then some (.inl (x3 + (-1 : Int32))) else ww_g (ww_i x3 999) (if (ww_X D.1 36 x3) = 0 then some (.inl (x3 + (-1 : Int32))) else ww_x (some (x3, D))))
noncomputable def f1_fork_b1 (D : cw_D) : Int32 → Option ((Int32) ⊕ (Int32 × cw_D)) := fun s9 => f1_fork_b1c D s9
noncomputable def f1_fork (D : cw_D) (x1 : Int32) (x2 : Int32) : Option (Int32 × cw_D) :=
  ww_b (f1_areMaps D x1 x2) (fun r_1 => if r_1 = 0 then some ((-1 : Int32), D) else ww_b (f1_layLine D x1 35) (fun D_3 => ww_b (f1_layLine D_3 x2 36) (fun D_4 => ww_U (f1_fork_b1 D_4) ((ww_F D_4.1 15) - (1 : Int32)))))
set_option maxHeartbeats 4000000 in
set_option maxRecDepth 100000 in
theorem met1_fork (l : Launch) {E : cw_E} {A : Nat → Prop} (D : cw_D) (x1 : Int32) (x2 : Int32) (r : Int32) (D' : cw_D) (hf : f1_fork D x1 x2 = some (r, D')) : cw_MetI l yX1_fork cX1_fork 4 (some Jvm.ClassFile.FieldType.int) 3 65 E A [.ref E.1.1, .int x1, .int x2] D D' r 0 0 := by
  unfold f1_fork at hf
  refine cw_sID (own := RX1) (by decide +kernel) [(0, .ref E.1.1), (1, .int x1), (2, .int x2)] ⟨Nat.le_of_ble_eq_true rfl, rfl⟩ ?_
  intro p e s m args below meth c Rm Q X hK hF hLo hin hend ls hl hR hS
  obtain ⟨hx, hb, hml, hown, hts⟩ := id X
  refine lv_aload_n hx hb dX1_fork_0 rfl (lv_at hl 0 rfl) ?_
  refine lv_iload_n hx hb dX1_fork_1 rfl (lv_at hl 1 rfl) ?_
  refine lv_iload_n hx hb dX1_fork_2 rfl (lv_at hl 2 rfl) ?_
  obtain ⟨r_1, h_1, hq⟩ := ww_bS hf; replace hf := hq; clear hq
  refine c1c_1_areMaps X hl.1 hK hR hS (Nat.le_trans (Nat.le_of_ble_eq_true rfl) hF) (Nat.le_trans (Nat.le_of_ble_eq_true rfl) hLo) (Nat.zero_le _) (Nat.zero_le _) h_1 (cw_rest (Nat.le_of_ble_eq_true rfl)) dX1_fork_3 (fun H locs hR hS => ?_)
  refine lv_if_ne (tgt := 11) hx hb dX1_fork_6 (by decide) (fun c_2 => ?_) (fun c_2 => ?_)
  · replace hf := ww_in hf c_2
    refine lv_aload_n hx hb dX1_fork_11 rfl (lv_at hl 0 rfl) ?_
    refine lv_iload_n hx hb dX1_fork_12 rfl (lv_at hl 1 rfl) ?_
    refine lv_aload_n hx hb dX1_fork_13 rfl (lv_at hl 0 rfl) ?_
    refine c1g_103 X hK hR dX1_fork_14 ?_
    obtain ⟨D_3, h_3, hq⟩ := ww_bS hf; replace hf := hq; clear hq
    refine c1c_1_layLine (x2 := 35) X hl.1 hK hR hS (Nat.le_trans (Nat.le_of_ble_eq_true rfl) hF) (Nat.le_trans (Nat.le_of_ble_eq_true rfl) hLo) (Nat.zero_le _) (Nat.zero_le _) h_3 (cw_rest (Nat.le_of_ble_eq_true rfl)) dX1_fork_17 (fun H locs hR hS => ?_)
    refine lv_aload_n hx hb dX1_fork_20 rfl (lv_at hl 0 rfl) ?_
    refine lv_iload_n hx hb dX1_fork_21 rfl (lv_at hl 2 rfl) ?_
    refine lv_aload_n hx hb dX1_fork_22 rfl (lv_at hl 0 rfl) ?_
    refine c1g_107 X hK hR dX1_fork_23 ?_
    obtain ⟨D_4, h_4, hq⟩ := ww_bS hf; replace hf := hq; clear hq
    refine c1c_1_layLine (x2 := 36) X hl.1 hK hR hS (Nat.le_trans (Nat.le_of_ble_eq_true rfl) hF) (Nat.le_trans (Nat.le_of_ble_eq_true rfl) hLo) (Nat.zero_le _) (Nat.zero_le _) h_4 (cw_rest (Nat.le_of_ble_eq_true rfl)) dX1_fork_26 (fun H locs hR hS => ?_)
    refine lv_aload_n hx hb dX1_fork_29 rfl (lv_at hl 0 rfl) ?_
    refine c1g_243 X hK hR dX1_fork_30 ?_
    refine lv_iconst (v := (1 : Int32)) hx hb dX1_fork_33 (by decide) ?_
    refine lv_isub hx hb dX1_fork_34 ?_
    refine lv_istore_n (lv' := [(3, .int ((ww_F D_4.1 15) - (1 : Int32))), (0, .ref E.1.1), (1, .int x1), (2, .int x2)]) hx hb dX1_fork_35 rfl hl (by decide) rfl (fun ls hl => ?_)
    have hL_1 : ∀ s9 : Int32, ww_U (f1_fork_b1 D_4) s9 = some (r, D') → ∀ (H : Heap) (locs : List Loc) (ls : Array Slot), cw_H E A D_4 H → va_S A s.heap H locs → lv_has ls 4 [(0, .ref E.1.1), (3, .int s9)] → W p l e Rm s m args below meth c H locs 0 0 Q (F0 m 36 ls []) := by
      clear hf
      refine ww_ind _ (r, D') ?_
      intro s9 z_1 hf hz_1
      obtain ⟨x3, e9⟩ : ∃ q9, q9 = s9 := ⟨_, rfl⟩; subst e9
      replace hf : f1_fork_b1c D_4 x3 = some z_1 := hf
      unfold f1_fork_b1c at hf
      try clear hl
      try clear hS
      try clear hR
      intro H locs ls hR hS hl
      replace hl : lv_has ls 4 [(0, .ref E.1.1), (3, .int x3)] := hl
      refine lv_iload_n hx hb dX1_fork_36 rfl (lv_at hl 1 rfl) ?_
      refine lv_if_lt (tgt := 64) hx hb dX1_fork_37 (by decide) (fun c_5 => ?_) (fun c_5 => ?_)
      · replace hf := ww_ip hf c_5
        replace hf := ww_xK hf hz_1
        refine lv_iload_n hx hb dX1_fork_64 rfl (lv_at hl 1 rfl) ?_
        exact hend dX1_fork_65 rfl rfl hf hR hS
      · replace hf := ww_in hf c_5
        refine lv_aload_n hx hb dX1_fork_40 rfl (lv_at hl 0 rfl) ?_
        refine c1g_103 X hK hR dX1_fork_41 ?_
        refine lv_iload_n hx hb dX1_fork_44 rfl (lv_at hl 1 rfl) ?_
        obtain ⟨h_6, hq⟩ := ww_gS hf; replace hf := hq; clear hq
        refine c1l_35 X hK hR h_6 dX1_fork_45 ?_
        refine lv_if_eq (tgt := 58) hx hb dX1_fork_46 (by decide) (fun c_7 => ?_) (fun c_7 => ?_)
        · replace hf := ww_ip hf c_7
          refine lv_iinc (k := 1) (v := x3 + (-1 : Int32)) (lv' := [(3, .int (x3 + (-1 : Int32))), (0, .ref E.1.1)]) hx hb dX1_fork_58 hl rfl rfl (by decide) rfl (fun ls hl => ?_)
          refine lv_goto (tgt := 36) hx hb dX1_fork_61 (by decide) ?_
          exact ww_lK hf hz_1 _ _ _ hR hS (lv_sub hl [1, 0] rfl)
        · replace hf := ww_in hf c_7
          refine lv_aload_n hx hb dX1_fork_49 rfl (lv_at hl 0 rfl) ?_
          refine c1g_107 X hK hR dX1_fork_50 ?_
          refine lv_iload_n hx hb dX1_fork_53 rfl (lv_at hl 1 rfl) ?_
          obtain ⟨h_8, hq⟩ := ww_gS hf; replace hf := hq; clear hq
          refine c1l_36 X hK hR h_8 dX1_fork_54 ?_
          refine lv_if_ne (tgt := 64) hx hb dX1_fork_55 (by decide) (fun c_9 => ?_) (fun c_9 => ?_)
          · replace hf := ww_in hf c_9
            replace hf := ww_xK hf hz_1
            refine lv_iload_n hx hb dX1_fork_64 rfl (lv_at hl 1 rfl) ?_
            exact hend dX1_fork_65 rfl rfl hf hR hS
          · replace hf := ww_ip hf c_9
            refine lv_iinc (k := 1) (v := x3 + (-1 : Int32)) (lv' := [(3, .int (x3 + (-1 : Int32))), (0, .ref E.1.1)]) hx hb dX1_fork_58 hl rfl rfl (by decide) rfl (fun ls hl => ?_)
            refine lv_goto (tgt := 36) hx hb dX1_fork_61 (by decide) ?_
            exact ww_lK hf hz_1 _ _ _ hR hS (lv_sub hl [1, 0] rfl)
    exact hL_1 ((ww_F D_4.1 15) - (1 : Int32)) hf _ _ _ hR hS (lv_sub hl [1, 0] rfl)
  · replace hf := ww_ip hf c_2
    refine lv_iconst (v := (-1 : Int32)) hx hb dX1_fork_9 (by decide) ?_
    exact hend dX1_fork_10 rfl rfl hf hR hS
noncomputable def f1_comesFrom (D : cw_D) (x1 : Int32) (x2 : Int32) : Option (Int32 × cw_D) :=
  ww_b (f1_isMap D x1) (fun r_1 => if r_1 = 0 then some ((-1 : Int32), D) else ww_b (f1_in x2 (0 : Int32) ((ww_F D.1 15) - (1 : Int32))) (fun r_3 => if r_3 = 0 then some ((-1 : Int32), D) else ww_b (f1_layLine D x1 35) (fun D_5 => ww_g (ww_i x2 999) (if (ww_X D_5.1 35 x2) = 0 then some ((0 : Int32), D_5) else some ((1 : Int32), D_5)))))
set_option maxHeartbeats 4000000 in
set_option maxRecDepth 100000 in
theorem met1_comesFrom (l : Launch) {E : cw_E} {A : Nat → Prop} (D : cw_D) (x1 : Int32) (x2 : Int32) (r : Int32) (D' : cw_D) (hf : f1_comesFrom D x1 x2 = some (r, D')) : cw_MetI l yX1_comesFrom cX1_comesFrom 3 (some Jvm.ClassFile.FieldType.int) 2 43 E A [.ref E.1.1, .int x1, .int x2] D D' r 0 0 := by
  unfold f1_comesFrom at hf
  refine cw_sID (own := RX1) (by decide +kernel) [(0, .ref E.1.1), (1, .int x1), (2, .int x2)] ⟨Nat.le_of_ble_eq_true rfl, rfl⟩ ?_
  intro p e s m args below meth c Rm Q X hK hF hLo hin hend ls hl hR hS
  obtain ⟨hx, hb, hml, hown, hts⟩ := id X
  refine lv_aload_n hx hb dX1_comesFrom_0 rfl (lv_at hl 0 rfl) ?_
  refine lv_iload_n hx hb dX1_comesFrom_1 rfl (lv_at hl 1 rfl) ?_
  obtain ⟨r_1, h_1, hq⟩ := ww_bS hf; replace hf := hq; clear hq
  refine c1c_1_isMap X hl.1 hK hR hS (Nat.le_trans (Nat.le_of_ble_eq_true rfl) hF) (Nat.le_trans (Nat.le_of_ble_eq_true rfl) hLo) (Nat.zero_le _) (Nat.zero_le _) h_1 (cw_rest (Nat.le_of_ble_eq_true rfl)) dX1_comesFrom_2 (fun H locs hR hS => ?_)
  refine lv_if_eq (tgt := 22) hx hb dX1_comesFrom_5 (by decide) (fun c_2 => ?_) (fun c_2 => ?_)
  · replace hf := ww_ip hf c_2
    refine lv_iconst (v := (-1 : Int32)) hx hb dX1_comesFrom_22 (by decide) ?_
    exact hend dX1_comesFrom_23 rfl rfl hf hR hS
  · replace hf := ww_in hf c_2
    refine lv_iload_n hx hb dX1_comesFrom_8 rfl (lv_at hl 2 rfl) ?_
    refine lv_iconst (v := (0 : Int32)) hx hb dX1_comesFrom_9 (by decide) ?_
    refine lv_aload_n hx hb dX1_comesFrom_10 rfl (lv_at hl 0 rfl) ?_
    refine c1g_243 X hK hR dX1_comesFrom_11 ?_
    refine lv_iconst (v := (1 : Int32)) hx hb dX1_comesFrom_14 (by decide) ?_
    refine lv_isub hx hb dX1_comesFrom_15 ?_
    obtain ⟨r_3, h_3, hq⟩ := ww_bS hf; replace hf := hq; clear hq
    refine c1c_1_in X hl.1 (Nat.le_trans (Nat.le_of_ble_eq_true rfl) hF) (Nat.le_trans (Nat.le_of_ble_eq_true rfl) hLo) (Nat.zero_le _) (Nat.zero_le _) h_3 (cw_rest (Nat.le_of_ble_eq_true rfl)) dX1_comesFrom_16 ?_
    refine lv_if_ne (tgt := 24) hx hb dX1_comesFrom_19 (by decide) (fun c_4 => ?_) (fun c_4 => ?_)
    · replace hf := ww_in hf c_4
      refine lv_aload_n hx hb dX1_comesFrom_24 rfl (lv_at hl 0 rfl) ?_
      refine lv_iload_n hx hb dX1_comesFrom_25 rfl (lv_at hl 1 rfl) ?_
      refine lv_aload_n hx hb dX1_comesFrom_26 rfl (lv_at hl 0 rfl) ?_
      refine c1g_103 X hK hR dX1_comesFrom_27 ?_
      obtain ⟨D_5, h_5, hq⟩ := ww_bS hf; replace hf := hq; clear hq
      refine c1c_1_layLine (x2 := 35) X hl.1 hK hR hS (Nat.le_trans (Nat.le_of_ble_eq_true rfl) hF) (Nat.le_trans (Nat.le_of_ble_eq_true rfl) hLo) (Nat.zero_le _) (Nat.zero_le _) h_5 (cw_rest (Nat.le_of_ble_eq_true rfl)) dX1_comesFrom_30 (fun H locs hR hS => ?_)
      refine lv_aload_n hx hb dX1_comesFrom_33 rfl (lv_at hl 0 rfl) ?_
      refine c1g_103 X hK hR dX1_comesFrom_34 ?_
      refine lv_iload_n hx hb dX1_comesFrom_37 rfl (lv_at hl 2 rfl) ?_
      obtain ⟨h_6, hq⟩ := ww_gS hf; replace hf := hq; clear hq
      refine c1l_35 X hK hR h_6 dX1_comesFrom_38 ?_
      refine lv_if_eq (tgt := 46) hx hb dX1_comesFrom_39 (by decide) (fun c_7 => ?_) (fun c_7 => ?_)
      · replace hf := ww_ip hf c_7
        refine lv_iconst (v := (0 : Int32)) hx hb dX1_comesFrom_46 (by decide) ?_
        exact hend dX1_comesFrom_47 rfl rfl hf hR hS
      · replace hf := ww_in hf c_7
        refine lv_iconst (v := (1 : Int32)) hx hb dX1_comesFrom_42 (by decide) ?_
        refine lv_goto (tgt := 47) hx hb dX1_comesFrom_43 (by decide) ?_
        exact hend dX1_comesFrom_47 rfl rfl hf hR hS
    · replace hf := ww_ip hf c_4
      refine lv_iconst (v := (-1 : Int32)) hx hb dX1_comesFrom_22 (by decide) ?_
      exact hend dX1_comesFrom_23 rfl rfl hf hR hS
noncomputable def f1_status (D : cw_D) (x1 : Int32) : Option (Int32) :=
  ww_b (f1_in x1 (0 : Int32) (4 : Int32)) (fun r_1 => if r_1 = 0 then some (-1 : Int32) else ww_g (ww_i x1 5) (some (ww_X D.1 23 x1)))
set_option maxHeartbeats 4000000 in
set_option maxRecDepth 100000 in
theorem met1_status (l : Launch) {E : cw_E} {A : Nat → Prop} (D : cw_D) (x1 : Int32) (r : Int32) (hf : f1_status D x1 = some r) : cw_MetI l yX1_status cX1_status 2 (some Jvm.ClassFile.FieldType.int) 1 22 E A [.ref E.1.1, .int x1] D D r 0 0 := by
  unfold f1_status at hf
  refine cw_sIP (own := RX1) (by decide +kernel) [(0, .ref E.1.1), (1, .int x1)] ⟨Nat.le_of_ble_eq_true rfl, rfl⟩ ?_
  intro p e s m args below meth c Rm Q X hK hF hLo hin hend ls hl hR hS
  obtain ⟨hx, hb, hml, hown, hts⟩ := id X
  refine lv_iload_n hx hb dX1_status_0 rfl (lv_at hl 1 rfl) ?_
  refine lv_iconst (v := (0 : Int32)) hx hb dX1_status_1 (by decide) ?_
  refine lv_iconst (v := (4 : Int32)) hx hb dX1_status_2 (by decide) ?_
  obtain ⟨r_1, h_1, hq⟩ := ww_bS hf; replace hf := hq; clear hq
  refine c1c_1_in X hl.1 (Nat.le_trans (Nat.le_of_ble_eq_true rfl) hF) (Nat.le_trans (Nat.le_of_ble_eq_true rfl) hLo) (Nat.zero_le _) (Nat.zero_le _) h_1 (cw_rest (Nat.le_of_ble_eq_true rfl)) dX1_status_3 ?_
  refine lv_if_eq (tgt := 18) hx hb dX1_status_6 (by decide) (fun c_2 => ?_) (fun c_2 => ?_)
  · replace hf := ww_ip hf c_2
    refine lv_iconst (v := (-1 : Int32)) hx hb dX1_status_18 (by decide) ?_
    exact hend dX1_status_19 rfl rfl hf hR hS
  · replace hf := ww_in hf c_2
    refine lv_aload_n hx hb dX1_status_9 rfl (lv_at hl 0 rfl) ?_
    refine c1g_82 X hK hR dX1_status_10 ?_
    refine lv_iload_n hx hb dX1_status_13 rfl (lv_at hl 1 rfl) ?_
    obtain ⟨h_3, hq⟩ := ww_gS hf; replace hf := hq; clear hq
    refine c1l_23 X hK hR h_3 dX1_status_14 ?_
    refine lv_goto (tgt := 19) hx hb dX1_status_15 (by decide) ?_
    exact hend dX1_status_19 rfl rfl hf hR hS
noncomputable def f1_image_b2c (D_3 : cw_D) (x1 : Int32) : Option ((cw_D × Int32) ⊕ (Int32 × cw_D)) :=
  if (16 : Int32) ≤ x1 then ww_x (some ((ww_F (cw_sF D_3 19 (ww_F D_3.1 14)).1 14), (cw_sF D_3 19 (ww_F D_3.1 14)))) else ww_g (ww_i x1 16) (ww_g (cw_kd D_3 [1, 2] none) (some (.inl ((cw_sY D_3 13 x1 none), (x1 + (1 : Int32))))))
noncomputable def f1_image_b2 : (cw_D × Int32) → Option ((cw_D × Int32) ⊕ (Int32 × cw_D)) := fun s9 => f1_image_b2c s9.1 s9.2
noncomputable def f1_image_b1c (D_1 : cw_D) (x1 : Int32) : Option ((cw_D × Int32) ⊕ (Int32 × cw_D)) :=
  if (ww_F D_1.1 14) ≤ x1 then ww_x (ww_U (f1_image_b2) (D_1, (ww_F D_1.1 14))) else ww_g (ww_i x1 16) (ww_g (ww_i x1 16) (ww_g (ww_i x1 16) (ww_b (some (ww_Y (cw_sX D_1 11 x1 (ww_X D_1.1 10 x1)).1 12 x1)) (fun r_9 => ww_g (ww_i x1 16) (ww_g (cw_kd (cw_sX D_1 11 x1 (ww_X D_1.1 10 x1)) [1, 2] r_9) (some (.inl ((cw_sY (cw_sX D_1 11 x1 (ww_X D_1.1 10 x1)) 13 x1 r_9), (x1 + (1 : Int32))))))))))
noncomputable def f1_image_b1 : (cw_D × Int32) → Option ((cw_D × Int32) ⊕ (Int32 × cw_D)) := fun s9 => f1_image_b1c s9.1 s9.2
noncomputable def f1_image (D : cw_D) : Option (Int32 × cw_D) :=
  ww_U (f1_image_b1) (D, (0 : Int32))
set_option maxHeartbeats 4000000 in
set_option maxRecDepth 100000 in
theorem met1_image (l : Launch) {E : cw_E} {A : Nat → Prop} (D : cw_D) (r : Int32) (D' : cw_D) (hf : f1_image D = some (r, D')) : cw_MetI l yX1_image cX1_image 2 (some Jvm.ClassFile.FieldType.int) 0 0 E A [.ref E.1.1] D D' r 0 0 := by
  unfold f1_image at hf
  refine cw_sID (own := RX1) (by decide +kernel) [(0, .ref E.1.1)] ⟨Nat.le_of_ble_eq_true rfl, rfl⟩ ?_
  intro p e s m args below meth c Rm Q X hK hF hLo hin hend ls hl hR hS
  obtain ⟨hx, hb, hml, hown, hts⟩ := id X
  refine lv_iconst (v := (0 : Int32)) hx hb dX1_image_0 (by decide) ?_
  refine lv_istore_n (lv' := [(1, .int (0 : Int32)), (0, .ref E.1.1)]) hx hb dX1_image_1 rfl hl (by decide) rfl (fun ls hl => ?_)
  have hL_1 : ∀ s9 : cw_D × Int32, ww_U (f1_image_b1) s9 = some (r, D') → ∀ (H : Heap) (locs : List Loc) (ls : Array Slot), cw_H E A s9.1 H → va_S A s.heap H locs → lv_has ls 2 [(0, .ref E.1.1), (1, .int s9.2)] → W p l e Rm s m args below meth c H locs 0 0 Q (F0 m 2 ls []) := by
    clear hf
    refine ww_ind _ (r, D') ?_
    intro s9 z_1 hf hz_1
    obtain ⟨D_1, x1⟩ := s9
    replace hf : f1_image_b1c D_1 x1 = some z_1 := hf
    unfold f1_image_b1c at hf
    try clear hl
    try clear hS
    try clear hR
    intro H locs ls hR hS hl
    replace hR : cw_H E A D_1 H := hR
    replace hl : lv_has ls 2 [(0, .ref E.1.1), (1, .int x1)] := hl
    refine lv_iload_n hx hb dX1_image_2 rfl (lv_at hl 1 rfl) ?_
    refine lv_aload_n hx hb dX1_image_3 rfl (lv_at hl 0 rfl) ?_
    refine c1g_240 X hK hR dX1_image_4 ?_
    refine lv_icmp_ge (tgt := 40) hx hb dX1_image_7 (by decide) (fun c_2 => ?_) (fun c_2 => ?_)
    · replace hf := ww_ip hf c_2
      replace hf := ww_xK hf hz_1
      refine lv_aload_n hx hb dX1_image_40 rfl (lv_at hl 0 rfl) ?_
      refine c1g_240 X hK hR dX1_image_41 ?_
      refine lv_istore_n (lv' := [(1, .int (ww_F D_1.1 14)), (0, .ref E.1.1)]) hx hb dX1_image_44 rfl hl (by decide) rfl (fun ls hl => ?_)
      have hL_2 : ∀ s9 : cw_D × Int32, ww_U (f1_image_b2) s9 = some (r, D') → ∀ (H : Heap) (locs : List Loc) (ls : Array Slot), cw_H E A s9.1 H → va_S A s.heap H locs → lv_has ls 2 [(0, .ref E.1.1), (1, .int s9.2)] → W p l e Rm s m args below meth c H locs 0 0 Q (F0 m 45 ls []) := by
        clear hf
        refine ww_ind _ (r, D') ?_
        intro s9 z_2 hf hz_2
        obtain ⟨D_3, x1⟩ := s9
        replace hf : f1_image_b2c D_3 x1 = some z_2 := hf
        unfold f1_image_b2c at hf
        try clear hl
        try clear hS
        try clear hR
        intro H locs ls hR hS hl
        replace hR : cw_H E A D_3 H := hR
        replace hl : lv_has ls 2 [(0, .ref E.1.1), (1, .int x1)] := hl
        refine lv_iload_n hx hb dX1_image_45 rfl (lv_at hl 1 rfl) ?_
        refine lv_bipush (v := (16 : Int32)) hx hb dX1_image_46 (by decide) ?_
        refine lv_icmp_ge (tgt := 64) hx hb dX1_image_48 (by decide) (fun c_4 => ?_) (fun c_4 => ?_)
        · replace hf := ww_ip hf c_4
          replace hf := ww_xK hf hz_2
          refine lv_aload_n hx hb dX1_image_64 rfl (lv_at hl 0 rfl) ?_
          refine lv_aload_n hx hb dX1_image_65 rfl (lv_at hl 0 rfl) ?_
          refine c1g_240 X hK hR dX1_image_66 ?_
          refine c1p_72 X hK hR hS dX1_image_69 (fun H locs hR hS => ?_)
          refine lv_aload_n hx hb dX1_image_72 rfl (lv_at hl 0 rfl) ?_
          refine c1g_240 X hK hR dX1_image_73 ?_
          exact hend dX1_image_76 rfl rfl hf hR hS
        · replace hf := ww_in hf c_4
          refine lv_aload_n hx hb dX1_image_51 rfl (lv_at hl 0 rfl) ?_
          refine c1g_69 X hK hR dX1_image_52 ?_
          refine lv_iload_n hx hb dX1_image_55 rfl (lv_at hl 1 rfl) ?_
          refine lv_null hx hb dX1_image_56 ?_
          obtain ⟨h_5, hq⟩ := ww_gS hf; replace hf := hq; clear hq
          obtain ⟨h_6, hq⟩ := ww_gS hf; replace hf := hq; clear hq
          refine c1s_13 (x := none) X hK hR hS h_5 h_6 dX1_image_57 (fun H locs hR hS => ?_)
          refine lv_iinc (k := 1) (v := x1 + (1 : Int32)) (lv' := [(1, .int (x1 + (1 : Int32))), (0, .ref E.1.1)]) hx hb dX1_image_58 hl rfl rfl (by decide) rfl (fun ls hl => ?_)
          refine lv_goto (tgt := 45) hx hb dX1_image_61 (by decide) ?_
          exact ww_lK hf hz_2 _ _ _ hR hS (lv_sub hl [1, 0] rfl)
      exact hL_2 (D_1, (ww_F D_1.1 14)) hf _ _ _ hR hS (lv_sub hl [1, 0] rfl)
    · replace hf := ww_in hf c_2
      refine lv_aload_n hx hb dX1_image_10 rfl (lv_at hl 0 rfl) ?_
      refine c1g_60 X hK hR dX1_image_11 ?_
      refine lv_iload_n hx hb dX1_image_14 rfl (lv_at hl 1 rfl) ?_
      refine lv_aload_n hx hb dX1_image_15 rfl (lv_at hl 0 rfl) ?_
      refine c1g_57 X hK hR dX1_image_16 ?_
      refine lv_iload_n hx hb dX1_image_19 rfl (lv_at hl 1 rfl) ?_
      obtain ⟨h_7, hq⟩ := ww_gS hf; replace hf := hq; clear hq
      refine c1l_10 X hK hR h_7 dX1_image_20 ?_
      obtain ⟨h_8, hq⟩ := ww_gS hf; replace hf := hq; clear hq
      refine c1s_11 X hK hR hS h_8 dX1_image_21 (fun H locs hR hS => ?_)
      refine lv_aload_n hx hb dX1_image_22 rfl (lv_at hl 0 rfl) ?_
      refine c1g_69 X hK hR dX1_image_23 ?_
      refine lv_iload_n hx hb dX1_image_26 rfl (lv_at hl 1 rfl) ?_
      refine lv_aload_n hx hb dX1_image_27 rfl (lv_at hl 0 rfl) ?_
      refine c1g_65 X hK hR dX1_image_28 ?_
      refine lv_iload_n hx hb dX1_image_31 rfl (lv_at hl 1 rfl) ?_
      obtain ⟨h_10, hq⟩ := ww_gS hf; replace hf := hq; clear hq
      obtain ⟨r_9, h_9, hq⟩ := ww_bS hf; replace hf := hq; clear hq
      refine c1l_12 X hK hR h_10 h_9 dX1_image_32 ?_
      obtain ⟨h_11, hq⟩ := ww_gS hf; replace hf := hq; clear hq
      obtain ⟨h_12, hq⟩ := ww_gS hf; replace hf := hq; clear hq
      refine c1s_13 (x := r_9) X hK hR hS h_11 h_12 dX1_image_33 (fun H locs hR hS => ?_)
      refine lv_iinc (k := 1) (v := x1 + (1 : Int32)) (lv' := [(1, .int (x1 + (1 : Int32))), (0, .ref E.1.1)]) hx hb dX1_image_34 hl rfl rfl (by decide) rfl (fun ls hl => ?_)
      refine lv_goto (tgt := 2) hx hb dX1_image_37 (by decide) ?_
      exact ww_lK hf hz_1 _ _ _ hR hS (lv_sub hl [1, 0] rfl)
  exact hL_1 (D, (0 : Int32)) hf _ _ _ hR hS (lv_sub hl [1, 0] rfl)
noncomputable def f1_back_b2c (D_4 : cw_D) (x1 : Int32) : Option ((cw_D × Int32) ⊕ (Int32 × cw_D)) :=
  if (4 : Int32) ≤ x1 then ww_x (some ((ww_F D_4.1 14), D_4)) else ww_b (f1_stales D_4 x1) (fun D_6 => some (.inl (D_6, (x1 + (1 : Int32)))))
noncomputable def f1_back_b2 : (cw_D × Int32) → Option ((cw_D × Int32) ⊕ (Int32 × cw_D)) := fun s9 => f1_back_b2c s9.1 s9.2
noncomputable def f1_back_b1c (D_2 : cw_D) (x1 : Int32) : Option ((cw_D × Int32) ⊕ (Int32 × cw_D)) :=
  if (16 : Int32) ≤ x1 then ww_x (ww_U (f1_back_b2) (D_2, (0 : Int32))) else ww_g (ww_i x1 16) (ww_g (ww_i x1 16) (ww_g (ww_i x1 16) (ww_b (some (ww_Y (cw_sX D_2 10 x1 (ww_X D_2.1 11 x1)).1 13 x1)) (fun r_9 => ww_g (ww_i x1 16) (ww_g (cw_kd (cw_sX D_2 10 x1 (ww_X D_2.1 11 x1)) [1, 2] r_9) (some (.inl ((cw_sY (cw_sX D_2 10 x1 (ww_X D_2.1 11 x1)) 12 x1 r_9), (x1 + (1 : Int32))))))))))
noncomputable def f1_back_b1 : (cw_D × Int32) → Option ((cw_D × Int32) ⊕ (Int32 × cw_D)) := fun s9 => f1_back_b1c s9.1 s9.2
noncomputable def f1_back (D : cw_D) : Option (Int32 × cw_D) :=
  if (ww_F D.1 19) = (-1 : Int32) then some ((-1 : Int32), D) else ww_U (f1_back_b1) ((cw_sF D 14 (ww_F D.1 19)), (0 : Int32))
set_option maxHeartbeats 4000000 in
set_option maxRecDepth 100000 in
theorem met1_back (l : Launch) {E : cw_E} {A : Nat → Prop} (D : cw_D) (r : Int32) (D' : cw_D) (hf : f1_back D = some (r, D')) : cw_MetI l yX1_back cX1_back 2 (some Jvm.ClassFile.FieldType.int) 1 21 E A [.ref E.1.1] D D' r 0 0 := by
  unfold f1_back at hf
  refine cw_sID (own := RX1) (by decide +kernel) [(0, .ref E.1.1)] ⟨Nat.le_of_ble_eq_true rfl, rfl⟩ ?_
  intro p e s m args below meth c Rm Q X hK hF hLo hin hend ls hl hR hS
  obtain ⟨hx, hb, hml, hown, hts⟩ := id X
  refine lv_aload_n hx hb dX1_back_0 rfl (lv_at hl 0 rfl) ?_
  refine c1g_72 X hK hR dX1_back_1 ?_
  refine lv_iconst (v := (-1 : Int32)) hx hb dX1_back_4 (by decide) ?_
  refine lv_icmp_ne (tgt := 10) hx hb dX1_back_5 (by decide) (fun c_1 => ?_) (fun c_1 => ?_)
  · replace hf := ww_in hf c_1
    refine lv_aload_n hx hb dX1_back_10 rfl (lv_at hl 0 rfl) ?_
    refine lv_aload_n hx hb dX1_back_11 rfl (lv_at hl 0 rfl) ?_
    refine c1g_72 X hK hR dX1_back_12 ?_
    refine c1p_240 X hK hR hS dX1_back_15 (fun H locs hR hS => ?_)
    refine lv_iconst (v := (0 : Int32)) hx hb dX1_back_18 (by decide) ?_
    refine lv_istore_n (lv' := [(1, .int (0 : Int32)), (0, .ref E.1.1)]) hx hb dX1_back_19 rfl hl (by decide) rfl (fun ls hl => ?_)
    have hL_1 : ∀ s9 : cw_D × Int32, ww_U (f1_back_b1) s9 = some (r, D') → ∀ (H : Heap) (locs : List Loc) (ls : Array Slot), cw_H E A s9.1 H → va_S A s.heap H locs → lv_has ls 2 [(0, .ref E.1.1), (1, .int s9.2)] → W p l e Rm s m args below meth c H locs 0 0 Q (F0 m 20 ls []) := by
      clear hf
      refine ww_ind _ (r, D') ?_
      intro s9 z_1 hf hz_1
      obtain ⟨D_2, x1⟩ := s9
      replace hf : f1_back_b1c D_2 x1 = some z_1 := hf
      unfold f1_back_b1c at hf
      try clear hl
      try clear hS
      try clear hR
      intro H locs ls hR hS hl
      replace hR : cw_H E A D_2 H := hR
      replace hl : lv_has ls 2 [(0, .ref E.1.1), (1, .int x1)] := hl
      refine lv_iload_n hx hb dX1_back_20 rfl (lv_at hl 1 rfl) ?_
      refine lv_bipush (v := (16 : Int32)) hx hb dX1_back_21 (by decide) ?_
      refine lv_icmp_ge (tgt := 56) hx hb dX1_back_23 (by decide) (fun c_3 => ?_) (fun c_3 => ?_)
      · replace hf := ww_ip hf c_3
        replace hf := ww_xK hf hz_1
        refine lv_iconst (v := (0 : Int32)) hx hb dX1_back_56 (by decide) ?_
        refine lv_istore_n (lv' := [(1, .int (0 : Int32)), (0, .ref E.1.1)]) hx hb dX1_back_57 rfl hl (by decide) rfl (fun ls hl => ?_)
        have hL_2 : ∀ s9 : cw_D × Int32, ww_U (f1_back_b2) s9 = some (r, D') → ∀ (H : Heap) (locs : List Loc) (ls : Array Slot), cw_H E A s9.1 H → va_S A s.heap H locs → lv_has ls 2 [(0, .ref E.1.1), (1, .int s9.2)] → W p l e Rm s m args below meth c H locs 0 0 Q (F0 m 58 ls []) := by
          clear hf
          refine ww_ind _ (r, D') ?_
          intro s9 z_2 hf hz_2
          obtain ⟨D_4, x1⟩ := s9
          replace hf : f1_back_b2c D_4 x1 = some z_2 := hf
          unfold f1_back_b2c at hf
          try clear hl
          try clear hS
          try clear hR
          intro H locs ls hR hS hl
          replace hR : cw_H E A D_4 H := hR
          replace hl : lv_has ls 2 [(0, .ref E.1.1), (1, .int x1)] := hl
          refine lv_iload_n hx hb dX1_back_58 rfl (lv_at hl 1 rfl) ?_
          refine lv_iconst (v := (4 : Int32)) hx hb dX1_back_59 (by decide) ?_
          refine lv_icmp_ge (tgt := 74) hx hb dX1_back_60 (by decide) (fun c_5 => ?_) (fun c_5 => ?_)
          · replace hf := ww_ip hf c_5
            replace hf := ww_xK hf hz_2
            refine lv_aload_n hx hb dX1_back_74 rfl (lv_at hl 0 rfl) ?_
            refine c1g_240 X hK hR dX1_back_75 ?_
            exact hend dX1_back_78 rfl rfl hf hR hS
          · replace hf := ww_in hf c_5
            refine lv_aload_n hx hb dX1_back_63 rfl (lv_at hl 0 rfl) ?_
            refine lv_iload_n hx hb dX1_back_64 rfl (lv_at hl 1 rfl) ?_
            obtain ⟨D_6, h_6, hq⟩ := ww_bS hf; replace hf := hq; clear hq
            refine c1c_1_stales X hl.1 hK hR hS (Nat.le_trans (Nat.le_of_ble_eq_true rfl) hF) (Nat.le_trans (Nat.le_of_ble_eq_true rfl) hLo) (Nat.zero_le _) (Nat.zero_le _) h_6 (cw_rest (Nat.le_of_ble_eq_true rfl)) dX1_back_65 (fun H locs hR hS => ?_)
            refine lv_iinc (k := 1) (v := x1 + (1 : Int32)) (lv' := [(1, .int (x1 + (1 : Int32))), (0, .ref E.1.1)]) hx hb dX1_back_68 hl rfl rfl (by decide) rfl (fun ls hl => ?_)
            refine lv_goto (tgt := 58) hx hb dX1_back_71 (by decide) ?_
            exact ww_lK hf hz_2 _ _ _ hR hS (lv_sub hl [1, 0] rfl)
        exact hL_2 (D_2, (0 : Int32)) hf _ _ _ hR hS (lv_sub hl [1, 0] rfl)
      · replace hf := ww_in hf c_3
        refine lv_aload_n hx hb dX1_back_26 rfl (lv_at hl 0 rfl) ?_
        refine c1g_57 X hK hR dX1_back_27 ?_
        refine lv_iload_n hx hb dX1_back_30 rfl (lv_at hl 1 rfl) ?_
        refine lv_aload_n hx hb dX1_back_31 rfl (lv_at hl 0 rfl) ?_
        refine c1g_60 X hK hR dX1_back_32 ?_
        refine lv_iload_n hx hb dX1_back_35 rfl (lv_at hl 1 rfl) ?_
        obtain ⟨h_7, hq⟩ := ww_gS hf; replace hf := hq; clear hq
        refine c1l_11 X hK hR h_7 dX1_back_36 ?_
        obtain ⟨h_8, hq⟩ := ww_gS hf; replace hf := hq; clear hq
        refine c1s_10 X hK hR hS h_8 dX1_back_37 (fun H locs hR hS => ?_)
        refine lv_aload_n hx hb dX1_back_38 rfl (lv_at hl 0 rfl) ?_
        refine c1g_65 X hK hR dX1_back_39 ?_
        refine lv_iload_n hx hb dX1_back_42 rfl (lv_at hl 1 rfl) ?_
        refine lv_aload_n hx hb dX1_back_43 rfl (lv_at hl 0 rfl) ?_
        refine c1g_69 X hK hR dX1_back_44 ?_
        refine lv_iload_n hx hb dX1_back_47 rfl (lv_at hl 1 rfl) ?_
        obtain ⟨h_10, hq⟩ := ww_gS hf; replace hf := hq; clear hq
        obtain ⟨r_9, h_9, hq⟩ := ww_bS hf; replace hf := hq; clear hq
        refine c1l_13 X hK hR h_10 h_9 dX1_back_48 ?_
        obtain ⟨h_11, hq⟩ := ww_gS hf; replace hf := hq; clear hq
        obtain ⟨h_12, hq⟩ := ww_gS hf; replace hf := hq; clear hq
        refine c1s_12 (x := r_9) X hK hR hS h_11 h_12 dX1_back_49 (fun H locs hR hS => ?_)
        refine lv_iinc (k := 1) (v := x1 + (1 : Int32)) (lv' := [(1, .int (x1 + (1 : Int32))), (0, .ref E.1.1)]) hx hb dX1_back_50 hl rfl rfl (by decide) rfl (fun ls hl => ?_)
        refine lv_goto (tgt := 20) hx hb dX1_back_53 (by decide) ?_
        exact ww_lK hf hz_1 _ _ _ hR hS (lv_sub hl [1, 0] rfl)
    exact hL_1 ((cw_sF D 14 (ww_F D.1 19)), (0 : Int32)) hf _ _ _ hR hS (lv_sub hl [1, 0] rfl)
  · replace hf := ww_ip hf c_1
    refine lv_iconst (v := (-1 : Int32)) hx hb dX1_back_8 (by decide) ?_
    exact hend dX1_back_9 rfl rfl hf hR hS
noncomputable def f1_live_b2c (D_3 : cw_D) (x1_1 : Int32) (x2 : Int32) : Option ((cw_D × Int32 × Int32) ⊕ (Int32 × cw_D)) :=
  if (4 : Int32) ≤ x2 then ww_x (some (x1_1, D_3)) else ww_b (f1_isStale D_3 x2) (fun r_5 => if r_5 = 0 then ww_g (ww_i x2 4) (ww_b (some (ww_Y D_3.1 24 x2)) (fun r_7 => ww_b r_7 (fun a_9 => ww_g (cw_kd D_3 [1, 2] (some a_9)) (ww_b2 (f5_counts 8 D_3 a_9 (3 : Int32) (ww_F D_3.1 20) none) (fun r_11 D_11 => some (.inl (D_11, (x1_1 + r_11), (x2 + (1 : Int32))))))))) else some (.inl (D_3, x1_1, (x2 + (1 : Int32)))))
noncomputable def f1_live_b2 : (cw_D × Int32 × Int32) → Option ((cw_D × Int32 × Int32) ⊕ (Int32 × cw_D)) := fun s9 => f1_live_b2c s9.1 s9.2.1 s9.2.2
noncomputable def f1_live_b1c (D_1 : cw_D) (x1 : Int32) (x2 : Int32) : Option ((cw_D × Int32 × Int32) ⊕ (Int32 × cw_D)) :=
  if (ww_F D_1.1 14) ≤ x2 then ww_x (ww_U (f1_live_b2) (D_1, x1, (0 : Int32))) else ww_g (ww_i x2 16) (ww_b (some (ww_Y D_1.1 12 x2)) (fun r_12 => ww_b r_12 (fun a_14 => ww_g (cw_kd D_1 [1, 2] (some a_14)) (ww_b2 (f5_counts 8 D_1 a_14 (3 : Int32) (ww_F D_1.1 20) none) (fun r_16 D_16 => some (.inl (D_16, (x1 + r_16), (x2 + (1 : Int32)))))))))
noncomputable def f1_live_b1 : (cw_D × Int32 × Int32) → Option ((cw_D × Int32 × Int32) ⊕ (Int32 × cw_D)) := fun s9 => f1_live_b1c s9.1 s9.2.1 s9.2.2
noncomputable def f1_live (D : cw_D) : Option (Int32 × cw_D) :=
  ww_U (f1_live_b1) ((cw_sF D 20 ((ww_F D.1 20) + (1 : Int32))), (0 : Int32), (0 : Int32))
section C_1_live_k
variable {p : Program} {l : Launch} {e : Env} {R : Room} {s : State} {m : MethodId} {args : Array Value} {below : List Frame} {meth : Method} {c : Code} {H : Heap} {locs : List Loc} {cells slots : Nat} {Q : State → Prop}
variable {cc : ByteArray} {pc : Nat} {ls : Array Slot} {rest : List Value} {nL : Nat} {E : cw_E} {A : Nat → Prop} {H0 : Heap}
theorem c1k_1_live {D : cw_D} {r : Int32} {D' : cw_D} (X : ww_C p m c cc nL s args RX1 lw_all) (hsz : ls.size = nL) (hK : cw_K E A s) (hR : cw_H E A D H) (hS : va_S A s.heap H locs) (hF : 12 ≤ R.frames) (hLo : 288 ≤ R.locals) (hc : cells ≤ R.cells) (hs : slots ≤ R.slots) (hM : cw_MetI l yX1_live cX1_live 3 (some Jvm.ClassFile.FieldType.int) 11 266 E A [.ref E.1.1] D D' r 0 0) (hrest : (rest.map fun v => v.category).sum ≤ 8) (hdg : decode cc pc = .ok (.invokevirtual 497, 3)) (kk : ∀ (H1 : Heap) (locs1 : List Loc), cw_H E A D' H1 → va_S A s.heap H1 locs1 → W p l e R s m args below meth c H1 locs1 cells slots Q (F0 m (pc + 3) ls (.int r :: rest))) : W p l e R s m args below meth c H locs cells slots Q (F0 m pc ls (.ref E.1.1 :: rest)) :=
  va_calli (va_runV (C := RX1) (As := []) (rest := rest) (b := E.1.1) X hM (cwV 0 X.2.2.2.2 (lw_V q1662 q1664 qs58 q131 q1665) rfl rfl rfl (by decide +kernel) ⟨hF, hLo⟩) (cw_pV hK hR hS (cw_rcM hK hR)) rfl rfl hsz rfl (lv_room hrest) hdg ⟨hc, hs⟩) hS (fun q _ h => h) (fun q h => h) (fun r' u t H1 locs1 ht hvm hw hB hz1 hk1 hS1 => by subst hw; rw [ht] at hB; exact kk H1 locs1 hB hS1)
end C_1_live_k
set_option maxHeartbeats 4000000 in
set_option maxRecDepth 100000 in
theorem met1_live (l : Launch) {E : cw_E} {A : Nat → Prop} (D : cw_D) (r : Int32) (D' : cw_D) (hf : f1_live D = some (r, D')) : cw_MetI l yX1_live cX1_live 3 (some Jvm.ClassFile.FieldType.int) 11 266 E A [.ref E.1.1] D D' r 0 0 := by
  unfold f1_live at hf
  refine cw_sID (own := RX1) (by decide +kernel) [(0, .ref E.1.1)] ⟨Nat.le_of_ble_eq_true rfl, rfl⟩ ?_
  intro p e s m args below meth c Rm Q X hK hF hLo hin hend ls hl hR hS
  obtain ⟨hx, hb, hml, hown, hts⟩ := id X
  refine lv_aload_n hx hb dX1_live_0 rfl (lv_at hl 0 rfl) ?_
  refine lv_dup hx hb dX1_live_1 rfl ?_
  refine c1g_392 X hK hR dX1_live_2 ?_
  refine lv_iconst (v := (1 : Int32)) hx hb dX1_live_5 (by decide) ?_
  refine lv_iadd hx hb dX1_live_6 ?_
  refine c1p_392 X hK hR hS dX1_live_7 (fun H locs hR hS => ?_)
  refine lv_iconst (v := (0 : Int32)) hx hb dX1_live_10 (by decide) ?_
  refine lv_istore_n (lv' := [(1, .int (0 : Int32)), (0, .ref E.1.1)]) hx hb dX1_live_11 rfl hl (by decide) rfl (fun ls hl => ?_)
  refine lv_iconst (v := (0 : Int32)) hx hb dX1_live_12 (by decide) ?_
  refine lv_istore_n (lv' := [(2, .int (0 : Int32)), (1, .int (0 : Int32)), (0, .ref E.1.1)]) hx hb dX1_live_13 rfl hl (by decide) rfl (fun ls hl => ?_)
  have hL_1 : ∀ s9 : cw_D × Int32 × Int32, ww_U (f1_live_b1) s9 = some (r, D') → ∀ (H : Heap) (locs : List Loc) (ls : Array Slot), cw_H E A s9.1 H → va_S A s.heap H locs → lv_has ls 3 [(0, .ref E.1.1), (1, .int s9.2.1), (2, .int s9.2.2)] → W p l e Rm s m args below meth c H locs 0 0 Q (F0 m 14 ls []) := by
    clear hf
    refine ww_ind _ (r, D') ?_
    intro s9 z_1 hf hz_1
    obtain ⟨D_1, x1, x2⟩ := s9
    replace hf : f1_live_b1c D_1 x1 x2 = some z_1 := hf
    unfold f1_live_b1c at hf
    try clear hl
    try clear hS
    try clear hR
    intro H locs ls hR hS hl
    replace hR : cw_H E A D_1 H := hR
    replace hl : lv_has ls 3 [(0, .ref E.1.1), (1, .int x1), (2, .int x2)] := hl
    refine lv_iload_n hx hb dX1_live_14 rfl (lv_at hl 2 rfl) ?_
    refine lv_aload_n hx hb dX1_live_15 rfl (lv_at hl 0 rfl) ?_
    refine c1g_240 X hK hR dX1_live_16 ?_
    refine lv_icmp_ge (tgt := 48) hx hb dX1_live_19 (by decide) (fun c_2 => ?_) (fun c_2 => ?_)
    · replace hf := ww_ip hf c_2
      replace hf := ww_xK hf hz_1
      refine lv_iconst (v := (0 : Int32)) hx hb dX1_live_48 (by decide) ?_
      refine lv_istore_n (lv' := [(2, .int (0 : Int32)), (0, .ref E.1.1), (1, .int x1)]) hx hb dX1_live_49 rfl hl (by decide) rfl (fun ls hl => ?_)
      have hL_2 : ∀ s9 : cw_D × Int32 × Int32, ww_U (f1_live_b2) s9 = some (r, D') → ∀ (H : Heap) (locs : List Loc) (ls : Array Slot), cw_H E A s9.1 H → va_S A s.heap H locs → lv_has ls 3 [(0, .ref E.1.1), (1, .int s9.2.1), (2, .int s9.2.2)] → W p l e Rm s m args below meth c H locs 0 0 Q (F0 m 50 ls []) := by
        clear hf
        refine ww_ind _ (r, D') ?_
        intro s9 z_2 hf hz_2
        obtain ⟨D_3, x1_1, x2⟩ := s9
        replace hf : f1_live_b2c D_3 x1_1 x2 = some z_2 := hf
        unfold f1_live_b2c at hf
        try clear hl
        try clear hS
        try clear hR
        intro H locs ls hR hS hl
        replace hR : cw_H E A D_3 H := hR
        replace hl : lv_has ls 3 [(0, .ref E.1.1), (1, .int x1_1), (2, .int x2)] := hl
        refine lv_iload_n hx hb dX1_live_50 rfl (lv_at hl 2 rfl) ?_
        refine lv_iconst (v := (4 : Int32)) hx hb dX1_live_51 (by decide) ?_
        refine lv_icmp_ge (tgt := 89) hx hb dX1_live_52 (by decide) (fun c_4 => ?_) (fun c_4 => ?_)
        · replace hf := ww_ip hf c_4
          replace hf := ww_xK hf hz_2
          refine lv_iload_n hx hb dX1_live_89 rfl (lv_at hl 1 rfl) ?_
          exact hend dX1_live_90 rfl rfl hf hR hS
        · replace hf := ww_in hf c_4
          refine lv_aload_n hx hb dX1_live_55 rfl (lv_at hl 0 rfl) ?_
          refine lv_iload_n hx hb dX1_live_56 rfl (lv_at hl 2 rfl) ?_
          obtain ⟨r_5, h_5, hq⟩ := ww_bS hf; replace hf := hq; clear hq
          refine c1c_1_isStale X hl.1 hK hR hS (Nat.le_trans (Nat.le_of_ble_eq_true rfl) hF) (Nat.le_trans (Nat.le_of_ble_eq_true rfl) hLo) (Nat.zero_le _) (Nat.zero_le _) h_5 (cw_rest (Nat.le_of_ble_eq_true rfl)) dX1_live_57 (fun H locs hR hS => ?_)
          refine lv_if_ne (tgt := 83) hx hb dX1_live_60 (by decide) (fun c_6 => ?_) (fun c_6 => ?_)
          · replace hf := ww_in hf c_6
            refine lv_iinc (k := 2) (v := x2 + (1 : Int32)) (lv' := [(2, .int (x2 + (1 : Int32))), (0, .ref E.1.1), (1, .int x1_1)]) hx hb dX1_live_83 hl rfl rfl (by decide) rfl (fun ls hl => ?_)
            refine lv_goto (tgt := 50) hx hb dX1_live_86 (by decide) ?_
            exact ww_lK hf hz_2 _ _ _ hR hS (lv_sub hl [1, 2, 0] rfl)
          · replace hf := ww_ip hf c_6
            refine lv_iload_n hx hb dX1_live_63 rfl (lv_at hl 1 rfl) ?_
            refine lv_aload_n hx hb dX1_live_64 rfl (lv_at hl 0 rfl) ?_
            refine c1g_85 X hK hR dX1_live_65 ?_
            refine lv_iload_n hx hb dX1_live_68 rfl (lv_at hl 2 rfl) ?_
            obtain ⟨h_8, hq⟩ := ww_gS hf; replace hf := hq; clear hq
            obtain ⟨r_7, h_7, hq⟩ := ww_bS hf; replace hf := hq; clear hq
            refine c1l_24 X hK hR h_8 h_7 dX1_live_69 ?_
            refine lv_iconst (v := (3 : Int32)) hx hb dX1_live_70 (by decide) ?_
            refine lv_aload_n hx hb dX1_live_71 rfl (lv_at hl 0 rfl) ?_
            refine c1g_392 X hK hR dX1_live_72 ?_
            refine lv_null hx hb dX1_live_75 ?_
            obtain ⟨a_9, e_9, hq⟩ := ww_bS hf; replace hf := hq; clear hq
            subst e_9
            obtain ⟨h_10, hq⟩ := ww_gS hf; replace hf := hq; clear hq
            obtain ⟨r_11, D_11, h_11, hq⟩ := ww_b2S hf; replace hf := hq; clear hq
            refine c1i_counts (x3 := none) X hl.1 hK hR hS (Nat.le_trans (Nat.le_of_ble_eq_true rfl) hF) (Nat.le_trans (Nat.le_of_ble_eq_true rfl) hLo) (Nat.zero_le _) (Nat.zero_le _) h_10 h_11 (cw_rest (Nat.le_of_ble_eq_true rfl)) dX1_live_76 (fun H locs hR hS => ?_)
            refine lv_iadd hx hb dX1_live_81 ?_
            refine lv_istore_n (lv' := [(1, .int (x1_1 + r_11)), (0, .ref E.1.1), (2, .int x2)]) hx hb dX1_live_82 rfl hl (by decide) rfl (fun ls hl => ?_)
            refine lv_iinc (k := 2) (v := x2 + (1 : Int32)) (lv' := [(2, .int (x2 + (1 : Int32))), (1, .int (x1_1 + r_11)), (0, .ref E.1.1)]) hx hb dX1_live_83 hl rfl rfl (by decide) rfl (fun ls hl => ?_)
            refine lv_goto (tgt := 50) hx hb dX1_live_86 (by decide) ?_
            exact ww_lK hf hz_2 _ _ _ hR hS (lv_sub hl [2, 1, 0] rfl)
      exact hL_2 (D_1, x1, (0 : Int32)) hf _ _ _ hR hS (lv_sub hl [1, 2, 0] rfl)
    · replace hf := ww_in hf c_2
      refine lv_iload_n hx hb dX1_live_22 rfl (lv_at hl 1 rfl) ?_
      refine lv_aload_n hx hb dX1_live_23 rfl (lv_at hl 0 rfl) ?_
      refine c1g_65 X hK hR dX1_live_24 ?_
      refine lv_iload_n hx hb dX1_live_27 rfl (lv_at hl 2 rfl) ?_
      obtain ⟨h_13, hq⟩ := ww_gS hf; replace hf := hq; clear hq
      obtain ⟨r_12, h_12, hq⟩ := ww_bS hf; replace hf := hq; clear hq
      refine c1l_12 X hK hR h_13 h_12 dX1_live_28 ?_
      refine lv_iconst (v := (3 : Int32)) hx hb dX1_live_29 (by decide) ?_
      refine lv_aload_n hx hb dX1_live_30 rfl (lv_at hl 0 rfl) ?_
      refine c1g_392 X hK hR dX1_live_31 ?_
      refine lv_null hx hb dX1_live_34 ?_
      obtain ⟨a_14, e_14, hq⟩ := ww_bS hf; replace hf := hq; clear hq
      subst e_14
      obtain ⟨h_15, hq⟩ := ww_gS hf; replace hf := hq; clear hq
      obtain ⟨r_16, D_16, h_16, hq⟩ := ww_b2S hf; replace hf := hq; clear hq
      refine c1i_counts (x3 := none) X hl.1 hK hR hS (Nat.le_trans (Nat.le_of_ble_eq_true rfl) hF) (Nat.le_trans (Nat.le_of_ble_eq_true rfl) hLo) (Nat.zero_le _) (Nat.zero_le _) h_15 h_16 (cw_rest (Nat.le_of_ble_eq_true rfl)) dX1_live_35 (fun H locs hR hS => ?_)
      refine lv_iadd hx hb dX1_live_40 ?_
      refine lv_istore_n (lv' := [(1, .int (x1 + r_16)), (0, .ref E.1.1), (2, .int x2)]) hx hb dX1_live_41 rfl hl (by decide) rfl (fun ls hl => ?_)
      refine lv_iinc (k := 2) (v := x2 + (1 : Int32)) (lv' := [(2, .int (x2 + (1 : Int32))), (1, .int (x1 + r_16)), (0, .ref E.1.1)]) hx hb dX1_live_42 hl rfl rfl (by decide) rfl (fun ls hl => ?_)
      refine lv_goto (tgt := 14) hx hb dX1_live_45 (by decide) ?_
      exact ww_lK hf hz_1 _ _ _ hR hS (lv_sub hl [2, 1, 0] rfl)
  exact hL_1 ((cw_sF D 20 ((ww_F D.1 20) + (1 : Int32))), (0 : Int32), (0 : Int32)) hf _ _ _ hR hS (lv_sub hl [2, 1, 0] rfl)
section C_1_live_c
variable {p : Program} {l : Launch} {e : Env} {R : Room} {s : State} {m : MethodId} {args : Array Value} {below : List Frame} {meth : Method} {c : Code} {H : Heap} {locs : List Loc} {cells slots : Nat} {Q : State → Prop}
variable {cc : ByteArray} {pc : Nat} {ls : Array Slot} {rest : List Value} {nL : Nat} {E : cw_E} {A : Nat → Prop} {H0 : Heap}
theorem c1c_1_live {D : cw_D} {r : Int32} {D' : cw_D} (X : ww_C p m c cc nL s args RX1 lw_all) (hsz : ls.size = nL) (hK : cw_K E A s) (hR : cw_H E A D H) (hS : va_S A s.heap H locs) (hF : 12 ≤ R.frames) (hLo : 288 ≤ R.locals) (hc : cells ≤ R.cells) (hs : slots ≤ R.slots) (hf : f1_live D = some (r, D')) (hrest : (rest.map fun v => v.category).sum ≤ 8) (hdg : decode cc pc = .ok (.invokevirtual 497, 3)) (kk : ∀ (H1 : Heap) (locs1 : List Loc), cw_H E A D' H1 → va_S A s.heap H1 locs1 → W p l e R s m args below meth c H1 locs1 cells slots Q (F0 m (pc + 3) ls (.int r :: rest))) : W p l e R s m args below meth c H locs cells slots Q (F0 m pc ls (.ref E.1.1 :: rest)) :=
  c1k_1_live X hsz hK hR hS hF hLo hc hs (met1_live l _ _ _ hf) hrest hdg kk
end C_1_live_c
noncomputable def f1_fresh_b1c (D : cw_D) (x1 : Int32) (x2 : Int32) : Option ((Int32 × Int32) ⊕ (Int32)) :=
  if (4 : Int32) ≤ x2 then ww_x (some x1) else ww_b (f1_isStale D x2) (fun r_2 => if r_2 = 0 then some (.inl ((x1 ||| ((1 : Int32) <<< (x2 &&& 31))), (x2 + (1 : Int32)))) else some (.inl (x1, (x2 + (1 : Int32)))))
noncomputable def f1_fresh_b1 (D : cw_D) : (Int32 × Int32) → Option ((Int32 × Int32) ⊕ (Int32)) := fun s9 => f1_fresh_b1c D s9.1 s9.2
noncomputable def f1_fresh (D : cw_D) : Option (Int32) :=
  ww_U (f1_fresh_b1 D) ((0 : Int32), (0 : Int32))
section C_1_fresh_k
variable {p : Program} {l : Launch} {e : Env} {R : Room} {s : State} {m : MethodId} {args : Array Value} {below : List Frame} {meth : Method} {c : Code} {H : Heap} {locs : List Loc} {cells slots : Nat} {Q : State → Prop}
variable {cc : ByteArray} {pc : Nat} {ls : Array Slot} {rest : List Value} {nL : Nat} {E : cw_E} {A : Nat → Prop} {H0 : Heap}
theorem c1k_1_fresh {D : cw_D} {r : Int32} (X : ww_C p m c cc nL s args RX1 lw_all) (hsz : ls.size = nL) (hK : cw_K E A s) (hR : cw_H E A D H) (hS : va_S A s.heap H locs) (hF : 2 ≤ R.frames) (hLo : 43 ≤ R.locals) (hc : cells ≤ R.cells) (hs : slots ≤ R.slots) (hM : cw_MetI l yX1_fresh cX1_fresh 3 (some Jvm.ClassFile.FieldType.int) 1 21 E A [.ref E.1.1] D D r 0 0) (hrest : (rest.map fun v => v.category).sum ≤ 8) (hdg : decode cc pc = .ok (.invokevirtual 500, 3)) (kk : ∀ (H1 : Heap) (locs1 : List Loc), cw_H E A D H1 → va_S A s.heap H1 locs1 → W p l e R s m args below meth c H1 locs1 cells slots Q (F0 m (pc + 3) ls (.int r :: rest))) : W p l e R s m args below meth c H locs cells slots Q (F0 m pc ls (.ref E.1.1 :: rest)) :=
  va_calli (va_runV (C := RX1) (As := []) (rest := rest) (b := E.1.1) X hM (cwV 0 X.2.2.2.2 (lw_V q1666 q1668 qs59 q131 q1669) rfl rfl rfl (by decide +kernel) ⟨hF, hLo⟩) (cw_pV hK hR hS (cw_rcM hK hR)) rfl rfl hsz rfl (lv_room hrest) hdg ⟨hc, hs⟩) hS (fun q _ h => h) (fun q h => h) (fun r' u t H1 locs1 ht hvm hw hB hz1 hk1 hS1 => by subst hw; rw [ht] at hB; exact kk H1 locs1 hB hS1)
end C_1_fresh_k
set_option maxHeartbeats 4000000 in
set_option maxRecDepth 100000 in
theorem met1_fresh (l : Launch) {E : cw_E} {A : Nat → Prop} (D : cw_D) (r : Int32) (hf : f1_fresh D = some r) : cw_MetI l yX1_fresh cX1_fresh 3 (some Jvm.ClassFile.FieldType.int) 1 21 E A [.ref E.1.1] D D r 0 0 := by
  unfold f1_fresh at hf
  refine cw_sIP (own := RX1) (by decide +kernel) [(0, .ref E.1.1)] ⟨Nat.le_of_ble_eq_true rfl, rfl⟩ ?_
  intro p e s m args below meth c Rm Q X hK hF hLo hin hend ls hl hR hS
  obtain ⟨hx, hb, hml, hown, hts⟩ := id X
  refine lv_iconst (v := (0 : Int32)) hx hb dX1_fresh_0 (by decide) ?_
  refine lv_istore_n (lv' := [(1, .int (0 : Int32)), (0, .ref E.1.1)]) hx hb dX1_fresh_1 rfl hl (by decide) rfl (fun ls hl => ?_)
  refine lv_iconst (v := (0 : Int32)) hx hb dX1_fresh_2 (by decide) ?_
  refine lv_istore_n (lv' := [(2, .int (0 : Int32)), (1, .int (0 : Int32)), (0, .ref E.1.1)]) hx hb dX1_fresh_3 rfl hl (by decide) rfl (fun ls hl => ?_)
  have hL_1 : ∀ s9 : Int32 × Int32, ww_U (f1_fresh_b1 D) s9 = some r → ∀ (H : Heap) (locs : List Loc) (ls : Array Slot), cw_H E A D H → va_S A s.heap H locs → lv_has ls 3 [(0, .ref E.1.1), (1, .int s9.1), (2, .int s9.2)] → W p l e Rm s m args below meth c H locs 0 0 Q (F0 m 4 ls []) := by
    clear hf
    refine ww_ind _ r ?_
    intro s9 z_1 hf hz_1
    obtain ⟨x1, x2⟩ := s9
    replace hf : f1_fresh_b1c D x1 x2 = some z_1 := hf
    unfold f1_fresh_b1c at hf
    try clear hl
    try clear hS
    try clear hR
    intro H locs ls hR hS hl
    replace hl : lv_has ls 3 [(0, .ref E.1.1), (1, .int x1), (2, .int x2)] := hl
    refine lv_iload_n hx hb dX1_fresh_4 rfl (lv_at hl 2 rfl) ?_
    refine lv_iconst (v := (4 : Int32)) hx hb dX1_fresh_5 (by decide) ?_
    refine lv_icmp_ge (tgt := 29) hx hb dX1_fresh_6 (by decide) (fun c_1 => ?_) (fun c_1 => ?_)
    · replace hf := ww_ip hf c_1
      replace hf := ww_xK hf hz_1
      refine lv_iload_n hx hb dX1_fresh_29 rfl (lv_at hl 1 rfl) ?_
      exact hend dX1_fresh_30 rfl rfl hf hR hS
    · replace hf := ww_in hf c_1
      refine lv_aload_n hx hb dX1_fresh_9 rfl (lv_at hl 0 rfl) ?_
      refine lv_iload_n hx hb dX1_fresh_10 rfl (lv_at hl 2 rfl) ?_
      obtain ⟨r_2, h_2, hq⟩ := ww_bS hf; replace hf := hq; clear hq
      refine c1c_1_isStale X hl.1 hK hR hS (Nat.le_trans (Nat.le_of_ble_eq_true rfl) hF) (Nat.le_trans (Nat.le_of_ble_eq_true rfl) hLo) (Nat.zero_le _) (Nat.zero_le _) h_2 (cw_rest (Nat.le_of_ble_eq_true rfl)) dX1_fresh_11 (fun H locs hR hS => ?_)
      refine lv_if_ne (tgt := 23) hx hb dX1_fresh_14 (by decide) (fun c_3 => ?_) (fun c_3 => ?_)
      · replace hf := ww_in hf c_3
        refine lv_iinc (k := 2) (v := x2 + (1 : Int32)) (lv' := [(2, .int (x2 + (1 : Int32))), (0, .ref E.1.1), (1, .int x1)]) hx hb dX1_fresh_23 hl rfl rfl (by decide) rfl (fun ls hl => ?_)
        refine lv_goto (tgt := 4) hx hb dX1_fresh_26 (by decide) ?_
        exact ww_lK hf hz_1 _ _ _ hR hS (lv_sub hl [1, 2, 0] rfl)
      · replace hf := ww_ip hf c_3
        refine lv_iload_n hx hb dX1_fresh_17 rfl (lv_at hl 1 rfl) ?_
        refine lv_iconst (v := (1 : Int32)) hx hb dX1_fresh_18 (by decide) ?_
        refine lv_iload_n hx hb dX1_fresh_19 rfl (lv_at hl 2 rfl) ?_
        refine lv_ishl hx hb dX1_fresh_20 ?_
        refine lv_ior hx hb dX1_fresh_21 ?_
        refine lv_istore_n (lv' := [(1, .int (x1 ||| ((1 : Int32) <<< (x2 &&& 31)))), (0, .ref E.1.1), (2, .int x2)]) hx hb dX1_fresh_22 rfl hl (by decide) rfl (fun ls hl => ?_)
        refine lv_iinc (k := 2) (v := x2 + (1 : Int32)) (lv' := [(2, .int (x2 + (1 : Int32))), (1, .int (x1 ||| ((1 : Int32) <<< (x2 &&& 31)))), (0, .ref E.1.1)]) hx hb dX1_fresh_23 hl rfl rfl (by decide) rfl (fun ls hl => ?_)
        refine lv_goto (tgt := 4) hx hb dX1_fresh_26 (by decide) ?_
        exact ww_lK hf hz_1 _ _ _ hR hS (lv_sub hl [2, 1, 0] rfl)
  exact hL_1 ((0 : Int32), (0 : Int32)) hf _ _ _ hR hS (lv_sub hl [2, 1, 0] rfl)
section C_1_fresh_c
variable {p : Program} {l : Launch} {e : Env} {R : Room} {s : State} {m : MethodId} {args : Array Value} {below : List Frame} {meth : Method} {c : Code} {H : Heap} {locs : List Loc} {cells slots : Nat} {Q : State → Prop}
variable {cc : ByteArray} {pc : Nat} {ls : Array Slot} {rest : List Value} {nL : Nat} {E : cw_E} {A : Nat → Prop} {H0 : Heap}
theorem c1c_1_fresh {D : cw_D} {r : Int32} (X : ww_C p m c cc nL s args RX1 lw_all) (hsz : ls.size = nL) (hK : cw_K E A s) (hR : cw_H E A D H) (hS : va_S A s.heap H locs) (hF : 2 ≤ R.frames) (hLo : 43 ≤ R.locals) (hc : cells ≤ R.cells) (hs : slots ≤ R.slots) (hf : f1_fresh D = some r) (hrest : (rest.map fun v => v.category).sum ≤ 8) (hdg : decode cc pc = .ok (.invokevirtual 500, 3)) (kk : ∀ (H1 : Heap) (locs1 : List Loc), cw_H E A D H1 → va_S A s.heap H1 locs1 → W p l e R s m args below meth c H1 locs1 cells slots Q (F0 m (pc + 3) ls (.int r :: rest))) : W p l e R s m args below meth c H locs cells slots Q (F0 m pc ls (.ref E.1.1 :: rest)) :=
  c1k_1_fresh X hsz hK hR hS hF hLo hc hs (met1_fresh l _ _ hf) hrest hdg kk
end C_1_fresh_c
noncomputable def f1_count (D : cw_D) (x1 : Int32) : Option (Int32 × cw_D) :=
  if x1 = 0 then some ((ww_F D.1 17), D) else if x1 = 1 then some ((ww_F D.1 14), D) else if x1 = 2 then some ((ww_F D.1 15), D) else if x1 = 3 then some ((ww_F D.1 16), D) else if x1 = 4 then ww_b2 (f1_live D) (fun r_6 D_6 => some (r_6, D_6)) else if x1 = 5 then some ((ww_F D.1 7), D) else if x1 = 6 then some ((ww_F D.1 3), D) else if x1 = 7 then ww_b (f1_fresh D) (fun r_10 => some (r_10, D)) else some ((-1000000 : Int32), D)
set_option maxHeartbeats 4000000 in
set_option maxRecDepth 100000 in
theorem met1_count (l : Launch) {E : cw_E} {A : Nat → Prop} (D : cw_D) (x1 : Int32) (r : Int32) (D' : cw_D) (hf : f1_count D x1 = some (r, D')) : cw_MetI l yX1_count cX1_count 2 (some Jvm.ClassFile.FieldType.int) 12 288 E A [.ref E.1.1, .int x1] D D' r 0 0 := by
  unfold f1_count at hf
  refine cw_sID (own := RX1) (by decide +kernel) [(0, .ref E.1.1), (1, .int x1)] ⟨Nat.le_of_ble_eq_true rfl, rfl⟩ ?_
  intro p e s m args below meth c Rm Q X hK hF hLo hin hend ls hl hR hS
  obtain ⟨hx, hb, hml, hown, hts⟩ := id X
  refine lv_iload_n hx hb dX1_count_0 rfl (lv_at hl 1 rfl) ?_
  refine ww_by (x1 = 0) (fun c_1 => ?_) (fun c_1 => ?_)
  · replace hf := ww_ip hf c_1
    refine ww_tin (k := 0) (off := 47) (tgt := 48) hx hb dX1_count_1 c_1 (by decide) (by decide) (by decide) (by decide) ?_
    refine lv_aload_n hx hb dX1_count_48 rfl (lv_at hl 0 rfl) ?_
    refine c1g_234 X hK hR dX1_count_49 ?_
    refine lv_goto (tgt := 106) hx hb dX1_count_52 (by decide) ?_
    exact hend dX1_count_106 rfl rfl hf hR hS
  replace hf := ww_in hf c_1
  refine ww_by (x1 = 1) (fun c_2 => ?_) (fun c_2 => ?_)
  · replace hf := ww_ip hf c_2
    refine ww_tin (k := 1) (off := 54) (tgt := 55) hx hb dX1_count_1 c_2 (by decide) (by decide) (by decide) (by decide) ?_
    refine lv_aload_n hx hb dX1_count_55 rfl (lv_at hl 0 rfl) ?_
    refine c1g_240 X hK hR dX1_count_56 ?_
    refine lv_goto (tgt := 106) hx hb dX1_count_59 (by decide) ?_
    exact hend dX1_count_106 rfl rfl hf hR hS
  replace hf := ww_in hf c_2
  refine ww_by (x1 = 2) (fun c_3 => ?_) (fun c_3 => ?_)
  · replace hf := ww_ip hf c_3
    refine ww_tin (k := 2) (off := 61) (tgt := 62) hx hb dX1_count_1 c_3 (by decide) (by decide) (by decide) (by decide) ?_
    refine lv_aload_n hx hb dX1_count_62 rfl (lv_at hl 0 rfl) ?_
    refine c1g_243 X hK hR dX1_count_63 ?_
    refine lv_goto (tgt := 106) hx hb dX1_count_66 (by decide) ?_
    exact hend dX1_count_106 rfl rfl hf hR hS
  replace hf := ww_in hf c_3
  refine ww_by (x1 = 3) (fun c_4 => ?_) (fun c_4 => ?_)
  · replace hf := ww_ip hf c_4
    refine ww_tin (k := 3) (off := 68) (tgt := 69) hx hb dX1_count_1 c_4 (by decide) (by decide) (by decide) (by decide) ?_
    refine lv_aload_n hx hb dX1_count_69 rfl (lv_at hl 0 rfl) ?_
    refine c1g_246 X hK hR dX1_count_70 ?_
    refine lv_goto (tgt := 106) hx hb dX1_count_73 (by decide) ?_
    exact hend dX1_count_106 rfl rfl hf hR hS
  replace hf := ww_in hf c_4
  refine ww_by (x1 = 4) (fun c_5 => ?_) (fun c_5 => ?_)
  · replace hf := ww_ip hf c_5
    refine ww_tin (k := 4) (off := 75) (tgt := 76) hx hb dX1_count_1 c_5 (by decide) (by decide) (by decide) (by decide) ?_
    refine lv_aload_n hx hb dX1_count_76 rfl (lv_at hl 0 rfl) ?_
    obtain ⟨r_6, D_6, h_6, hq⟩ := ww_b2S hf; replace hf := hq; clear hq
    refine c1c_1_live X hl.1 hK hR hS (Nat.le_trans (Nat.le_of_ble_eq_true rfl) hF) (Nat.le_trans (Nat.le_of_ble_eq_true rfl) hLo) (Nat.zero_le _) (Nat.zero_le _) h_6 (cw_rest (Nat.le_of_ble_eq_true rfl)) dX1_count_77 (fun H locs hR hS => ?_)
    refine lv_goto (tgt := 106) hx hb dX1_count_80 (by decide) ?_
    exact hend dX1_count_106 rfl rfl hf hR hS
  replace hf := ww_in hf c_5
  refine ww_by (x1 = 5) (fun c_7 => ?_) (fun c_7 => ?_)
  · replace hf := ww_ip hf c_7
    refine ww_tin (k := 5) (off := 82) (tgt := 83) hx hb dX1_count_1 c_7 (by decide) (by decide) (by decide) (by decide) ?_
    refine lv_aload_n hx hb dX1_count_83 rfl (lv_at hl 0 rfl) ?_
    refine c1g_199 X hK hR dX1_count_84 ?_
    refine lv_goto (tgt := 106) hx hb dX1_count_87 (by decide) ?_
    exact hend dX1_count_106 rfl rfl hf hR hS
  replace hf := ww_in hf c_7
  refine ww_by (x1 = 6) (fun c_8 => ?_) (fun c_8 => ?_)
  · replace hf := ww_ip hf c_8
    refine ww_tin (k := 6) (off := 89) (tgt := 90) hx hb dX1_count_1 c_8 (by decide) (by decide) (by decide) (by decide) ?_
    refine lv_aload_n hx hb dX1_count_90 rfl (lv_at hl 0 rfl) ?_
    refine c1g_124 X hK hR dX1_count_91 ?_
    refine lv_goto (tgt := 106) hx hb dX1_count_94 (by decide) ?_
    exact hend dX1_count_106 rfl rfl hf hR hS
  replace hf := ww_in hf c_8
  refine ww_by (x1 = 7) (fun c_9 => ?_) (fun c_9 => ?_)
  · replace hf := ww_ip hf c_9
    refine ww_tin (k := 7) (off := 96) (tgt := 97) hx hb dX1_count_1 c_9 (by decide) (by decide) (by decide) (by decide) ?_
    refine lv_aload_n hx hb dX1_count_97 rfl (lv_at hl 0 rfl) ?_
    obtain ⟨r_10, h_10, hq⟩ := ww_bS hf; replace hf := hq; clear hq
    refine c1c_1_fresh X hl.1 hK hR hS (Nat.le_trans (Nat.le_of_ble_eq_true rfl) hF) (Nat.le_trans (Nat.le_of_ble_eq_true rfl) hLo) (Nat.zero_le _) (Nat.zero_le _) h_10 (cw_rest (Nat.le_of_ble_eq_true rfl)) dX1_count_98 (fun H locs hR hS => ?_)
    refine lv_goto (tgt := 106) hx hb dX1_count_101 (by decide) ?_
    exact hend dX1_count_106 rfl rfl hf hR hS
  replace hf := ww_in hf c_9
  refine ww_tout (tgt := 104) [0, 1, 2, 3, 4, 5, 6, 7] hx hb dX1_count_1 ⟨c_1, c_2, c_3, c_4, c_5, c_7, c_8, c_9, trivial⟩ (by decide) (by decide) ?_
  refine lv_ldc (v := (-1000000 : Int32)) hx hb hown (hts _ q420) dX1_count_104 ?_
  exact hend dX1_count_106 rfl rfl hf hR hS
