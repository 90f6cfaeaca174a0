noncomputable def f3_word_j1 (M : ww_M) (y2 : Int32) (y3 : Int32) (t0 : Int32) (t1 : Int32) : Option ((ww_M × Int32) ⊕ (Int32 × ww_M)) :=
  if t1 ≤ t0 then ww_x (some (y2, M)) else ww_b (f3_here M) (fun r_8 => ww_b (sk_ch (((3 : Int32) * y2) + y3)) (fun r_9 => if r_8 = r_9 then some (.inl ((ww_sF M 3 ((ww_F M 3) + (1 : Int32))), (y3 + (1 : Int32)))) else ww_x (ww_b (f3_fails M) (fun M_11 => some ((-1 : Int32), M_11)))))
noncomputable def f3_word_b2c (y2 : Int32) (M_6 : ww_M) (x3 : Int32) : Option ((ww_M × Int32) ⊕ (Int32 × ww_M)) :=
  if y2 = (5 : Int32) then f3_word_j1 M_6 y2 x3 x3 (4 : Int32) else f3_word_j1 M_6 y2 x3 x3 (3 : Int32)
noncomputable def f3_word_b2 (y2 : Int32) : (ww_M × Int32) → Option ((ww_M × Int32) ⊕ (Int32 × ww_M)) := fun s9 => f3_word_b2c y2 s9.1 s9.2
noncomputable def f3_word_b1c (M : ww_M) (y1 : Int32) (x2 : Int32) : Option ((Int32) ⊕ (Int32 × ww_M)) :=
  if (6 : Int32) ≤ x2 then ww_x (ww_b (f3_fails M) (fun M_3 => some ((-1 : Int32), M_3))) else ww_b (sk_ch ((3 : Int32) * x2)) (fun r_4 => if r_4 = y1 then ww_x (ww_U (f3_word_b2 x2) (M, (0 : Int32))) else some (.inl (x2 + (1 : Int32))))
noncomputable def f3_word_b1 (M : ww_M) (y1 : Int32) : Int32 → Option ((Int32) ⊕ (Int32 × ww_M)) := fun s9 => f3_word_b1c M y1 s9
noncomputable def f3_word (M : ww_M) : Option (Int32 × ww_M) :=
  ww_b2 (f3_look M) (fun r_1 M_1 => ww_U (f3_word_b1 M_1 r_1) (0 : Int32))
section T3_word_k
variable {p : Program} {l : Launch} {e : Env} {R : Room} {s : State} {m : MethodId} {args : Array Value} {below : List Frame} {meth : Method} {c : Code} {H : Heap} {locs : List Loc} {Q : State → Prop}
variable {cc : ByteArray} {pc : Nat} {ls : Array Slot} {rest : List Value} {nL : Nat} {E : ww_E} {A : Nat → Prop} {H0 : Heap}
theorem t3k_word {M M' : ww_M} {r : Int32} (X : ww_C p m c cc nL s args RX3 lw_all) (hsz : ls.size = nL) (hK : tw_Kn E s) (hD : t3_D E) (hR : t3_H E M H) (hS : va_S (t3_A E) s.heap H locs) (hF : 5 ≤ R.frames) (hLo : 108 ≤ R.locals) (hM : t4_Met l yX3_word cX3_word 4 (some Jvm.ClassFile.FieldType.int) 4 85 E [] M M' r) (hrest : (rest.map fun v => v.category).sum ≤ 8) (hdg : decode cc pc = .ok (.invokevirtual 167, 3)) (kk : ∀ (H1 : Heap) (locs1 : List Loc), t3_H E M' H1 → va_S (t3_A E) s.heap H1 locs1 → W p l e R s m args below meth c H1 locs1 0 0 Q (F0 m (pc + 3) ls (.int r :: rest))) : W p l e R s m args below meth c H locs 0 0 Q (F0 m pc ls (.ref E.1 :: rest)) :=
  t4_callI (n := 0) X hsz hK hR hS (As := []) hM (lw_V q1936 q1938 qs70 q135 q1939) (by decide +kernel) rfl hF hLo (Nat.zero_le _) (Nat.zero_le _) hrest hdg kk
end T3_word_k
set_option maxHeartbeats 4000000 in
set_option maxRecDepth 100000 in
theorem met3_word (l : Launch) {E : ww_E} (hD : t3_D E) (M : ww_M) (r : Int32) (M' : ww_M) (hf : f3_word M = some (r, M')) : t4_Met l yX3_word cX3_word 4 (some Jvm.ClassFile.FieldType.int) 4 85 E [] M M' r := by
  unfold f3_word at hf
  refine t4_start (by decide +kernel) (Nat.le_of_ble_eq_true rfl) ?_
  intro p e s m args below meth c Rm Q X hK hF hLo hend ls hl hR hS
  obtain ⟨hK, hC⟩ := hK
  obtain ⟨q9, b9, v9, hC9, hV9⟩ := id hC
  obtain ⟨hx, hb, hml, hown, hts⟩ := id X
  replace hl : lv_has ls 4 [(0, .ref E.1)] := hl
  refine lv_aload_n hx hb dX3_word_0 rfl (lv_at hl 0 rfl) ?_
  obtain ⟨r_1, M_1, h_1, hf⟩ := ww_b2S hf
  refine t3c_look X hl.1 hK hD hR hS (Nat.le_trans (Nat.le_of_ble_eq_true rfl) hF) (Nat.le_trans (Nat.le_of_ble_eq_true rfl) hLo) h_1 (Nat.le_of_ble_eq_true rfl) dX3_word_1 (fun H locs hR hS => ?_)
  refine lv_istore_n (lv' := [(1, .int r_1), (0, .ref E.1)]) hx hb dX3_word_4 rfl hl (by decide) rfl (fun ls hl => ?_)
  refine lv_iconst (v := (0 : Int32)) hx hb dX3_word_5 (by decide) ?_
  refine lv_istore_n (lv' := [(2, .int (0 : Int32)), (1, .int r_1), (0, .ref E.1)]) hx hb dX3_word_6 rfl hl (by decide) rfl (fun ls hl => ?_)
  have hL_1 : ∀ s9 : Int32, ww_U (f3_word_b1 M_1 r_1) s9 = some (r, M') → ∀ (H : Heap) (locs : List Loc) (ls : Array Slot), t3_H E M_1 H → va_S (t3_A E) s.heap H locs → lv_has ls 4 [(0, .ref E.1), (1, .int r_1), (2, .int s9)] → W p l e Rm s m args below meth c H locs 0 0 Q (F0 m 7 ls []) := by
    refine ww_ind _ (r, M') ?_
    intro s9 z_1 hf hz_1 H locs ls hR hS hl
    obtain ⟨x2, e9⟩ : ∃ q9, q9 = s9 := ⟨_, rfl⟩; subst e9
    replace hf : f3_word_b1c M_1 r_1 x2 = some z_1 := hf
    unfold f3_word_b1c at hf
    replace hl : lv_has ls 4 [(0, .ref E.1), (1, .int r_1), (2, .int x2)] := hl
    refine lv_iload_n hx hb dX3_word_7 rfl (lv_at hl 2 rfl) ?_
    refine lv_bipush (v := (6 : Int32)) hx hb dX3_word_8 (by decide) ?_
    refine lv_icmp_ge (tgt := 91) hx hb dX3_word_10 (by decide) (fun c_2 => ?_) (fun c_2 => ?_)
    · replace hf := ww_ip hf c_2
      replace hf := ww_xK hf hz_1
      refine lv_aload_n hx hb dX3_word_91 rfl (lv_at hl 0 rfl) ?_
      obtain ⟨M_3, h_3, hf⟩ := ww_bS hf
      refine t3c_fails X hl.1 hK hD hR hS (Nat.le_trans (Nat.le_of_ble_eq_true rfl) hF) (Nat.le_trans (Nat.le_of_ble_eq_true rfl) hLo) h_3 (Nat.le_of_ble_eq_true rfl) dX3_word_92 (fun H locs hR hS => ?_)
      refine lv_iconst (v := (-1 : Int32)) hx hb dX3_word_95 (by decide) ?_
      exact hend dX3_word_96 rfl rfl hf hR hS
    · replace hf := ww_in hf c_2
      refine va_ldcS hx hb hown hV9 dX3_word_13 ?_
      refine lv_iconst (v := (3 : Int32)) hx hb dX3_word_15 (by decide) ?_
      refine lv_iload_n hx hb dX3_word_16 rfl (lv_at hl 2 rfl) ?_
      refine lv_imul hx hb dX3_word_17 ?_
      obtain ⟨r_4, h_4, hf⟩ := ww_bS hf
      refine t4_chr X hl.1 hC9 hR hS (Nat.le_trans (Nat.le_of_ble_eq_true rfl) hF) (Nat.le_trans (Nat.le_of_ble_eq_true rfl) hLo) h_4 (Nat.le_of_ble_eq_true rfl) dX3_word_18 (fun H locs hR hS => ?_)
      refine lv_iload_n hx hb dX3_word_21 rfl (lv_at hl 1 rfl) ?_
      refine lv_icmp_eq (tgt := 28) hx hb dX3_word_22 (by decide) (fun c_5 => ?_) (fun c_5 => ?_)
      · replace hf := ww_ip hf c_5
        replace hf := ww_xK hf hz_1
        refine lv_iconst (v := (0 : Int32)) hx hb dX3_word_28 (by decide) ?_
        refine lv_istore_n (lv' := [(3, .int (0 : Int32)), (0, .ref E.1), (1, .int r_1), (2, .int x2)]) hx hb dX3_word_29 rfl hl (by decide) rfl (fun ls hl => ?_)
        have hL_2 : ∀ s9 : ww_M × Int32, ww_U (f3_word_b2 x2) s9 = some (r, M') → ∀ (H : Heap) (locs : List Loc) (ls : Array Slot), t3_H E s9.1 H → va_S (t3_A E) s.heap H locs → lv_has ls 4 [(0, .ref E.1), (2, .int x2), (3, .int s9.2)] → W p l e Rm s m args below meth c H locs 0 0 Q (F0 m 30 ls []) := by
          refine ww_ind _ (r, M') ?_
          intro s9 z_2 hf hz_2 H locs ls hR hS hl
          obtain ⟨M_6, x3⟩ := s9
          replace hf : f3_word_b2c x2 M_6 x3 = some z_2 := hf
          unfold f3_word_b2c at hf
          replace hR : t3_H E M_6 H := hR
          replace hl : lv_has ls 4 [(0, .ref E.1), (2, .int x2), (3, .int x3)] := hl
          refine lv_iload_n hx hb dX3_word_30 rfl (lv_at hl 2 rfl) ?_
          refine lv_iload_n hx hb dX3_word_31 rfl (lv_at hl 1 rfl) ?_
          refine lv_iconst (v := (5 : Int32)) hx hb dX3_word_32 (by decide) ?_
          have hj_1 : ∀ (t0 : Int32) (t1 : Int32), f3_word_j1 M_6 x2 x3 t0 t1 = some z_2 → ∀ (H : Heap) (locs : List Loc) (ls : Array Slot), t3_H E M_6 H → va_S (t3_A E) s.heap H locs → lv_has ls 4 [(0, .ref E.1), (2, .int x2), (3, .int x3)] → W p l e Rm s m args below meth c H locs 0 0 Q (F0 m 41 ls [.int t1, .int t0]) := by
            intro t0 t1 hf H locs ls hR hS hl
            unfold f3_word_j1 at hf
            refine lv_icmp_ge (tgt := 83) hx hb dX3_word_41 (by decide) (fun c_7 => ?_) (fun c_7 => ?_)
            · replace hf := ww_ip hf c_7
              replace hf := ww_xK hf hz_2
              refine lv_iload_n hx hb dX3_word_83 rfl (lv_at hl 1 rfl) ?_
              exact hend dX3_word_84 rfl rfl hf hR hS
            · replace hf := ww_in hf c_7
              refine lv_aload_n hx hb dX3_word_44 rfl (lv_at hl 0 rfl) ?_
              obtain ⟨r_8, h_8, hf⟩ := ww_bS hf
              refine t3c_here X hl.1 hK hD hR hS (Nat.le_trans (Nat.le_of_ble_eq_true rfl) hF) (Nat.le_trans (Nat.le_of_ble_eq_true rfl) hLo) h_8 (Nat.le_of_ble_eq_true rfl) dX3_word_45 (fun H locs hR hS => ?_)
              refine va_ldcS hx hb hown hV9 dX3_word_48 ?_
              refine lv_iconst (v := (3 : Int32)) hx hb dX3_word_50 (by decide) ?_
              refine lv_iload_n hx hb dX3_word_51 rfl (lv_at hl 1 rfl) ?_
              refine lv_imul hx hb dX3_word_52 ?_
              refine lv_iload_n hx hb dX3_word_53 rfl (lv_at hl 2 rfl) ?_
              refine lv_iadd hx hb dX3_word_54 ?_
              obtain ⟨r_9, h_9, hf⟩ := ww_bS hf
              refine t4_chr X hl.1 hC9 hR hS (Nat.le_trans (Nat.le_of_ble_eq_true rfl) hF) (Nat.le_trans (Nat.le_of_ble_eq_true rfl) hLo) h_9 (Nat.le_of_ble_eq_true rfl) dX3_word_55 (fun H locs hR hS => ?_)
              refine lv_icmp_eq (tgt := 67) hx hb dX3_word_58 (by decide) (fun c_10 => ?_) (fun c_10 => ?_)
              · replace hf := ww_ip hf c_10
                refine lv_aload_n hx hb dX3_word_67 rfl (lv_at hl 0 rfl) ?_
                refine lv_dup hx hb dX3_word_68 rfl ?_
                refine t3g_3 X hK hR dX3_word_69 ?_
                refine lv_iconst (v := (1 : Int32)) hx hb dX3_word_72 (by decide) ?_
                refine lv_iadd hx hb dX3_word_73 ?_
                refine t3p_3 X hK hD hR hS dX3_word_74 (fun H locs hR hS => ?_)
                refine lv_iinc (k := 2) (v := x3 + (1 : Int32)) (lv' := [(3, .int (x3 + (1 : Int32))), (0, .ref E.1), (2, .int x2)]) hx hb dX3_word_77 hl rfl rfl (by decide) rfl (fun ls hl => ?_)
                refine lv_goto (tgt := 30) hx hb dX3_word_80 (by decide) ?_
                exact ww_lK hf hz_2 _ _ _ hR hS (lv_sub hl [1, 2, 0] rfl)
              · replace hf := ww_in hf c_10
                replace hf := ww_xK hf hz_2
                refine lv_aload_n hx hb dX3_word_61 rfl (lv_at hl 0 rfl) ?_
                obtain ⟨M_11, h_11, hf⟩ := ww_bS hf
                refine t3c_fails X hl.1 hK hD hR hS (Nat.le_trans (Nat.le_of_ble_eq_true rfl) hF) (Nat.le_trans (Nat.le_of_ble_eq_true rfl) hLo) h_11 (Nat.le_of_ble_eq_true rfl) dX3_word_62 (fun H locs hR hS => ?_)
                refine lv_iconst (v := (-1 : Int32)) hx hb dX3_word_65 (by decide) ?_
                exact hend dX3_word_66 rfl rfl hf hR hS
          refine lv_icmp_ne (tgt := 40) hx hb dX3_word_33 (by decide) (fun c_12 => ?_) (fun c_12 => ?_)
          · replace hf := ww_in hf c_12
            refine lv_iconst (v := (3 : Int32)) hx hb dX3_word_40 (by decide) ?_
            exact hj_1 x3 (3 : Int32) hf _ _ _ hR hS hl
          · replace hf := ww_ip hf c_12
            refine lv_iconst (v := (4 : Int32)) hx hb dX3_word_36 (by decide) ?_
            refine lv_goto (tgt := 41) hx hb dX3_word_37 (by decide) ?_
            exact hj_1 x3 (4 : Int32) hf _ _ _ hR hS hl
        exact hL_2 (M_1, (0 : Int32)) hf _ _ _ hR hS (lv_sub hl [1, 3, 0] rfl)
      · replace hf := ww_in hf c_5
        refine lv_goto (tgt := 85) hx hb dX3_word_25 (by decide) ?_
        refine lv_iinc (k := 2) (v := x2 + (1 : Int32)) (lv' := [(2, .int (x2 + (1 : Int32))), (0, .ref E.1), (1, .int r_1)]) hx hb dX3_word_85 hl rfl rfl (by decide) rfl (fun ls hl => ?_)
        refine lv_goto (tgt := 7) hx hb dX3_word_88 (by decide) ?_
        exact ww_lK hf hz_1 _ _ _ hR hS (lv_sub hl [1, 2, 0] rfl)
  exact hL_1 (0 : Int32) hf _ _ _ hR hS (lv_sub hl [2, 1, 0] rfl)
section T3_word_c
variable {p : Program} {l : Launch} {e : Env} {R : Room} {s : State} {m : MethodId} {args : Array Value} {below : List Frame} {meth : Method} {c : Code} {H : Heap} {locs : List Loc} {Q : State → Prop}
variable {cc : ByteArray} {pc : Nat} {ls : Array Slot} {rest : List Value} {nL : Nat} {E : ww_E} {A : Nat → Prop} {H0 : Heap}
theorem t3c_word {M M' : ww_M} {r : Int32} (X : ww_C p m c cc nL s args RX3 lw_all) (hsz : ls.size = nL) (hK : tw_Kn E s) (hD : t3_D E) (hR : t3_H E M H) (hS : va_S (t3_A E) s.heap H locs) (hF : 5 ≤ R.frames) (hLo : 108 ≤ R.locals) (hf : f3_word M = some (r, M')) (hrest : (rest.map fun v => v.category).sum ≤ 8) (hdg : decode cc pc = .ok (.invokevirtual 167, 3)) (kk : ∀ (H1 : Heap) (locs1 : List Loc), t3_H E M' H1 → va_S (t3_A E) s.heap H1 locs1 → W p l e R s m args below meth c H1 locs1 0 0 Q (F0 m (pc + 3) ls (.int r :: rest))) : W p l e R s m args below meth c H locs 0 0 Q (F0 m pc ls (.ref E.1 :: rest)) :=
  t3k_word X hsz hK hD hR hS hF hLo (met3_word l hD _ _ _ hf) hrest hdg kk
end T3_word_c
noncomputable def f3_readStep_j1 (y1 : Int32) (y2 : Int32) (M_11 : ww_M) (t1 : Int32) (t2 : Int32) : Option (ww_M) :=
  ww_g (ww_i t1 320) (if (ww_F (ww_sX M_11 6 t1 t2) 4) = (-1 : Int32) then if y2 = (4 : Int32) then ww_b2 (f3_value (ww_sX M_11 6 t1 t2)) (fun r_15 M_15 => ww_g (ww_i (y1 + (3 : Int32)) 320) (some (ww_sX M_15 6 (y1 + (3 : Int32)) r_15))) else some (ww_sX M_11 6 t1 t2) else some (ww_sX M_11 6 t1 t2))
noncomputable def f3_readStep_b1c (y1 : Int32) (y2 : Int32) (M_4 : ww_M) (x3 : Int32) : Option ((ww_M × Int32) ⊕ (ww_M)) :=
  if (4 : Int32) ≤ x3 then ww_x (if y2 = (5 : Int32) then some M_4 else ww_b2 (f3_number M_4) (fun r_7 M_7 => ww_g (ww_i (y1 + (1 : Int32)) 320) (if (ww_F (ww_sX M_7 6 (y1 + (1 : Int32)) r_7) 4) = (-1 : Int32) then if y2 = (1 : Int32) then some (ww_sX M_7 6 (y1 + (1 : Int32)) r_7) else if y2 = (3 : Int32) then ww_b2 (f3_number (ww_sX M_7 6 (y1 + (1 : Int32)) r_7)) (fun r_18 M_18 => f3_readStep_j1 y1 y2 M_18 (y1 + (2 : Int32)) r_18) else if y2 = (4 : Int32) then ww_b2 (f3_number (ww_sX M_7 6 (y1 + (1 : Int32)) r_7)) (fun r_21 M_21 => f3_readStep_j1 y1 y2 M_21 (y1 + (2 : Int32)) r_21) else ww_b2 (f3_value (ww_sX M_7 6 (y1 + (1 : Int32)) r_7)) (fun r_20 M_20 => f3_readStep_j1 y1 y2 M_20 (y1 + (2 : Int32)) r_20) else some (ww_sX M_7 6 (y1 + (1 : Int32)) r_7)))) else ww_g (ww_i (y1 + x3) 320) (some (.inl ((ww_sX M_4 6 (y1 + x3) (-1000000 : Int32)), (x3 + (1 : Int32)))))
noncomputable def f3_readStep_b1 (y1 : Int32) (y2 : Int32) : (ww_M × Int32) → Option ((ww_M × Int32) ⊕ (ww_M)) := fun s9 => f3_readStep_b1c y1 y2 s9.1 s9.2
noncomputable def f3_readStep (M : ww_M) (x1 : Int32) : Option (ww_M) :=
  ww_b2 (f3_word M) (fun r_1 M_1 => if (ww_F M_1 4) = (-1 : Int32) then ww_g (ww_i x1 320) (ww_U (f3_readStep_b1 x1 r_1) ((ww_sX M_1 6 x1 r_1), (1 : Int32))) else some M_1)
section T3_readStep_k
variable {p : Program} {l : Launch} {e : Env} {R : Room} {s : State} {m : MethodId} {args : Array Value} {below : List Frame} {meth : Method} {c : Code} {H : Heap} {locs : List Loc} {Q : State → Prop}
variable {cc : ByteArray} {pc : Nat} {ls : Array Slot} {rest : List Value} {nL : Nat} {E : ww_E} {A : Nat → Prop} {H0 : Heap}
theorem t3k_readStep {M M' : ww_M} {x1 : Int32} (X : ww_C p m c cc nL s args RX3 lw_all) (hsz : ls.size = nL) (hK : tw_Kn E s) (hD : t3_D E) (hR : t3_H E M H) (hS : va_S (t3_A E) s.heap H locs) (hF : 6 ≤ R.frames) (hLo : 131 ≤ R.locals) (hM : t4_MetV l yX3_readStep cX3_readStep 4 5 108 E [.int x1] M M') (hrest : (rest.map fun v => v.category).sum ≤ 8) (hdg : decode cc pc = .ok (.invokevirtual 171, 3)) (kk : ∀ (H1 : Heap) (locs1 : List Loc), t3_H E M' H1 → va_S (t3_A E) s.heap H1 locs1 → W p l e R s m args below meth c H1 locs1 0 0 Q (F0 m (pc + 3) ls (rest))) : W p l e R s m args below meth c H locs 0 0 Q (F0 m pc ls (.int x1 :: .ref E.1 :: rest)) :=
  t4_callV (n := 1) X hsz hK hR hS (As := [.int x1]) hM (lw_V q1932 q1934 qs69 q135 q1935) (by decide +kernel) rfl hF hLo (Nat.zero_le _) (Nat.zero_le _) hrest hdg kk
end T3_readStep_k
set_option maxHeartbeats 4000000 in
set_option maxRecDepth 100000 in
theorem met3_readStep (l : Launch) {E : ww_E} (hD : t3_D E) (M : ww_M) (x1 : Int32) (M' : ww_M) (hf : f3_readStep M x1 = some M') : t4_MetV l yX3_readStep cX3_readStep 4 5 108 E [.int x1] M M' := by
  unfold f3_readStep at hf
  refine t4_startV (by decide +kernel) (Nat.le_of_ble_eq_true rfl) ?_
  intro p e s m args below meth c Rm Q X hK hF hLo hend ls hl hR hS
  obtain ⟨hK, hC⟩ := hK
  obtain ⟨q9, b9, v9, hC9, hV9⟩ := id hC
  obtain ⟨hx, hb, hml, hown, hts⟩ := id X
  replace hl : lv_has ls 4 [(0, .ref E.1), (1, .int x1)] := hl
  refine lv_aload_n hx hb dX3_readStep_0 rfl (lv_at hl 0 rfl) ?_
  obtain ⟨r_1, M_1, h_1, hf⟩ := ww_b2S hf
  refine t3c_word X hl.1 ⟨hK, hC⟩ hD hR hS (Nat.le_trans (Nat.le_of_ble_eq_true rfl) hF) (Nat.le_trans (Nat.le_of_ble_eq_true rfl) hLo) h_1 (Nat.le_of_ble_eq_true rfl) dX3_readStep_1 (fun H locs hR hS => ?_)
  refine lv_istore_n (lv' := [(2, .int r_1), (0, .ref E.1), (1, .int x1)]) hx hb dX3_readStep_4 rfl hl (by decide) rfl (fun ls hl => ?_)
  refine lv_aload_n hx hb dX3_readStep_5 rfl (lv_at hl 1 rfl) ?_
  refine t3g_4 X hK hR dX3_readStep_6 ?_
  refine lv_iconst (v := (-1 : Int32)) hx hb dX3_readStep_9 (by decide) ?_
  refine lv_icmp_eq (tgt := 14) hx hb dX3_readStep_10 (by decide) (fun c_2 => ?_) (fun c_2 => ?_)
  · replace hf := ww_ip hf c_2
    refine lv_aload_n hx hb dX3_readStep_14 rfl (lv_at hl 1 rfl) ?_
    refine t3g_6 X hK hR dX3_readStep_15 ?_
    refine lv_iload_n hx hb dX3_readStep_18 rfl (lv_at hl 2 rfl) ?_
    refine lv_iload_n hx hb dX3_readStep_19 rfl (lv_at hl 0 rfl) ?_
    obtain ⟨h_3, hf⟩ := ww_gS hf
    refine t3s_6 X hK hD hR hS h_3 dX3_readStep_20 (fun H locs hR hS => ?_)
    refine lv_iconst (v := (1 : Int32)) hx hb dX3_readStep_21 (by decide) ?_
    refine lv_istore_n (lv' := [(3, .int (1 : Int32)), (2, .int r_1), (0, .ref E.1), (1, .int x1)]) hx hb dX3_readStep_22 rfl hl (by decide) rfl (fun ls hl => ?_)
    have hL_1 : ∀ s9 : ww_M × Int32, ww_U (f3_readStep_b1 x1 r_1) s9 = some M' → ∀ (H : Heap) (locs : List Loc) (ls : Array Slot), t3_H E s9.1 H → va_S (t3_A E) s.heap H locs → lv_has ls 4 [(0, .ref E.1), (1, .int x1), (2, .int r_1), (3, .int s9.2)] → W p l e Rm s m args below meth c H locs 0 0 Q (F0 m 23 ls []) := by
      refine ww_ind _ M' ?_
      intro s9 z_1 hf hz_1 H locs ls hR hS hl
      obtain ⟨M_4, x3⟩ := s9
      replace hf : f3_readStep_b1c x1 r_1 M_4 x3 = some z_1 := hf
      unfold f3_readStep_b1c at hf
      replace hR : t3_H E M_4 H := hR
      replace hl : lv_has ls 4 [(0, .ref E.1), (1, .int x1), (2, .int r_1), (3, .int x3)] := hl
      refine lv_iload_n hx hb dX3_readStep_23 rfl (lv_at hl 3 rfl) ?_
      refine lv_iconst (v := (4 : Int32)) hx hb dX3_readStep_24 (by decide) ?_
      refine lv_icmp_ge (tgt := 44) hx hb dX3_readStep_25 (by decide) (fun c_5 => ?_) (fun c_5 => ?_)
      · replace hf := ww_ip hf c_5
        replace hf := ww_xK hf hz_1
        refine lv_iload_n hx hb dX3_readStep_44 rfl (lv_at hl 2 rfl) ?_
        refine lv_iconst (v := (5 : Int32)) hx hb dX3_readStep_45 (by decide) ?_
        refine lv_icmp_ne (tgt := 50) hx hb dX3_readStep_46 (by decide) (fun c_6 => ?_) (fun c_6 => ?_)
        · replace hf := ww_in hf c_6
          refine lv_aload_n hx hb dX3_readStep_50 rfl (lv_at hl 0 rfl) ?_
          refine t3g_6 X hK hR dX3_readStep_51 ?_
          refine lv_iload_n hx hb dX3_readStep_54 rfl (lv_at hl 1 rfl) ?_
          refine lv_iconst (v := (1 : Int32)) hx hb dX3_readStep_55 (by decide) ?_
          refine lv_iadd hx hb dX3_readStep_56 ?_
          refine lv_aload_n hx hb dX3_readStep_57 rfl (lv_at hl 0 rfl) ?_
          obtain ⟨r_7, M_7, h_7, hf⟩ := ww_b2S hf
          refine t3c_number X hl.1 hK hD hR hS (Nat.le_trans (Nat.le_of_ble_eq_true rfl) hF) (Nat.le_trans (Nat.le_of_ble_eq_true rfl) hLo) h_7 (Nat.le_of_ble_eq_true rfl) dX3_readStep_58 (fun H locs hR hS => ?_)
          obtain ⟨h_8, hf⟩ := ww_gS hf
          refine t3s_6 X hK hD hR hS h_8 dX3_readStep_61 (fun H locs hR hS => ?_)
          refine lv_aload_n hx hb dX3_readStep_62 rfl (lv_at hl 0 rfl) ?_
          refine t3g_4 X hK hR dX3_readStep_63 ?_
          refine lv_iconst (v := (-1 : Int32)) hx hb dX3_readStep_66 (by decide) ?_
          refine lv_icmp_ne (tgt := 75) hx hb dX3_readStep_67 (by decide) (fun c_9 => ?_) (fun c_9 => ?_)
          · replace hf := ww_in hf c_9
            exact hend dX3_readStep_75 hf hR hS
          · replace hf := ww_ip hf c_9
            refine lv_iload_n hx hb dX3_readStep_70 rfl (lv_at hl 2 rfl) ?_
            refine lv_iconst (v := (1 : Int32)) hx hb dX3_readStep_71 (by decide) ?_
            refine lv_icmp_ne (tgt := 76) hx hb dX3_readStep_72 (by decide) (fun c_10 => ?_) (fun c_10 => ?_)
            · replace hf := ww_in hf c_10
              refine lv_aload_n hx hb dX3_readStep_76 rfl (lv_at hl 0 rfl) ?_
              refine t3g_6 X hK hR dX3_readStep_77 ?_
              refine lv_iload_n hx hb dX3_readStep_80 rfl (lv_at hl 1 rfl) ?_
              refine lv_iconst (v := (2 : Int32)) hx hb dX3_readStep_81 (by decide) ?_
              refine lv_iadd hx hb dX3_readStep_82 ?_
              refine lv_iload_n hx hb dX3_readStep_83 rfl (lv_at hl 2 rfl) ?_
              refine lv_iconst (v := (3 : Int32)) hx hb dX3_readStep_84 (by decide) ?_
              have hj_1 : ∀ (M_11 : ww_M) (t1 : Int32) (t2 : Int32), f3_readStep_j1 x1 r_1 M_11 t1 t2 = some M' → ∀ (H : Heap) (locs : List Loc) (ls : Array Slot), t3_H E M_11 H → va_S (t3_A E) s.heap H locs → lv_has ls 4 [(0, .ref E.1), (1, .int x1), (2, .int r_1)] → W p l e Rm s m args below meth c H locs 0 0 Q (F0 m 104 ls [.int t2, .int t1, .ref (E.2.1 6)]) := by
                intro M_11 t1 t2 hf H locs ls hR hS hl
                unfold f3_readStep_j1 at hf
                obtain ⟨h_12, hf⟩ := ww_gS hf
                refine t3s_6 X hK hD hR hS h_12 dX3_readStep_104 (fun H locs hR hS => ?_)
                refine lv_aload_n hx hb dX3_readStep_105 rfl (lv_at hl 0 rfl) ?_
                refine t3g_4 X hK hR dX3_readStep_106 ?_
                refine lv_iconst (v := (-1 : Int32)) hx hb dX3_readStep_109 (by decide) ?_
                refine lv_icmp_ne (tgt := 130) hx hb dX3_readStep_110 (by decide) (fun c_13 => ?_) (fun c_13 => ?_)
                · replace hf := ww_in hf c_13
                  exact hend dX3_readStep_130 hf hR hS
                · replace hf := ww_ip hf c_13
                  refine lv_iload_n hx hb dX3_readStep_113 rfl (lv_at hl 2 rfl) ?_
                  refine lv_iconst (v := (4 : Int32)) hx hb dX3_readStep_114 (by decide) ?_
                  refine lv_icmp_ne (tgt := 130) hx hb dX3_readStep_115 (by decide) (fun c_14 => ?_) (fun c_14 => ?_)
                  · replace hf := ww_in hf c_14
                    exact hend dX3_readStep_130 hf hR hS
                  · replace hf := ww_ip hf c_14
                    refine lv_aload_n hx hb dX3_readStep_118 rfl (lv_at hl 0 rfl) ?_
                    refine t3g_6 X hK hR dX3_readStep_119 ?_
                    refine lv_iload_n hx hb dX3_readStep_122 rfl (lv_at hl 1 rfl) ?_
                    refine lv_iconst (v := (3 : Int32)) hx hb dX3_readStep_123 (by decide) ?_
                    refine lv_iadd hx hb dX3_readStep_124 ?_
                    refine lv_aload_n hx hb dX3_readStep_125 rfl (lv_at hl 0 rfl) ?_
                    obtain ⟨r_15, M_15, h_15, hf⟩ := ww_b2S hf
                    refine t3c_value X hl.1 hK hD hR hS (Nat.le_trans (Nat.le_of_ble_eq_true rfl) hF) (Nat.le_trans (Nat.le_of_ble_eq_true rfl) hLo) h_15 (Nat.le_of_ble_eq_true rfl) dX3_readStep_126 (fun H locs hR hS => ?_)
                    obtain ⟨h_16, hf⟩ := ww_gS hf
                    refine t3s_6 X hK hD hR hS h_16 dX3_readStep_129 (fun H locs hR hS => ?_)
                    exact hend dX3_readStep_130 hf hR hS
              refine lv_icmp_eq (tgt := 93) hx hb dX3_readStep_85 (by decide) (fun c_17 => ?_) (fun c_17 => ?_)
              · replace hf := ww_ip hf c_17
                refine lv_aload_n hx hb dX3_readStep_93 rfl (lv_at hl 0 rfl) ?_
                obtain ⟨r_18, M_18, h_18, hf⟩ := ww_b2S hf
                refine t3c_number X hl.1 hK hD hR hS (Nat.le_trans (Nat.le_of_ble_eq_true rfl) hF) (Nat.le_trans (Nat.le_of_ble_eq_true rfl) hLo) h_18 (Nat.le_of_ble_eq_true rfl) dX3_readStep_94 (fun H locs hR hS => ?_)
                refine lv_goto (tgt := 104) hx hb dX3_readStep_97 (by decide) ?_
                exact hj_1 M_18 (x1 + (2 : Int32)) r_18 hf _ _ _ hR hS (lv_sub hl [0, 1, 2] rfl)
              · replace hf := ww_in hf c_17
                refine lv_iload_n hx hb dX3_readStep_88 rfl (lv_at hl 2 rfl) ?_
                refine lv_iconst (v := (4 : Int32)) hx hb dX3_readStep_89 (by decide) ?_
                refine lv_icmp_ne (tgt := 100) hx hb dX3_readStep_90 (by decide) (fun c_19 => ?_) (fun c_19 => ?_)
                · replace hf := ww_in hf c_19
                  refine lv_aload_n hx hb dX3_readStep_100 rfl (lv_at hl 0 rfl) ?_
                  obtain ⟨r_20, M_20, h_20, hf⟩ := ww_b2S hf
                  refine t3c_value X hl.1 hK hD hR hS (Nat.le_trans (Nat.le_of_ble_eq_true rfl) hF) (Nat.le_trans (Nat.le_of_ble_eq_true rfl) hLo) h_20 (Nat.le_of_ble_eq_true rfl) dX3_readStep_101 (fun H locs hR hS => ?_)
                  exact hj_1 M_20 (x1 + (2 : Int32)) r_20 hf _ _ _ hR hS (lv_sub hl [0, 1, 2] rfl)
                · replace hf := ww_ip hf c_19
                  refine lv_aload_n hx hb dX3_readStep_93 rfl (lv_at hl 0 rfl) ?_
                  obtain ⟨r_21, M_21, h_21, hf⟩ := ww_b2S hf
                  refine t3c_number X hl.1 hK hD hR hS (Nat.le_trans (Nat.le_of_ble_eq_true rfl) hF) (Nat.le_trans (Nat.le_of_ble_eq_true rfl) hLo) h_21 (Nat.le_of_ble_eq_true rfl) dX3_readStep_94 (fun H locs hR hS => ?_)
                  refine lv_goto (tgt := 104) hx hb dX3_readStep_97 (by decide) ?_
                  exact hj_1 M_21 (x1 + (2 : Int32)) r_21 hf _ _ _ hR hS (lv_sub hl [0, 1, 2] rfl)
            · replace hf := ww_ip hf c_10
              exact hend dX3_readStep_75 hf hR hS
        · replace hf := ww_ip hf c_6
          exact hend dX3_readStep_49 hf hR hS
      · replace hf := ww_in hf c_5
        refine lv_aload_n hx hb dX3_readStep_28 rfl (lv_at hl 0 rfl) ?_
        refine t3g_6 X hK hR dX3_readStep_29 ?_
        refine lv_iload_n hx hb dX3_readStep_32 rfl (lv_at hl 1 rfl) ?_
        refine lv_iload_n hx hb dX3_readStep_33 rfl (lv_at hl 3 rfl) ?_
        refine lv_iadd hx hb dX3_readStep_34 ?_
        refine lv_ldc (v := (-1000000 : Int32)) hx hb hown (hts _ q1942) dX3_readStep_35 ?_
        obtain ⟨h_22, hf⟩ := ww_gS hf
        refine t3s_6 X hK hD hR hS h_22 dX3_readStep_37 (fun H locs hR hS => ?_)
        refine lv_iinc (k := 3) (v := x3 + (1 : Int32)) (lv' := [(3, .int (x3 + (1 : Int32))), (0, .ref E.1), (1, .int x1), (2, .int r_1)]) hx hb dX3_readStep_38 hl rfl rfl (by decide) rfl (fun ls hl => ?_)
        refine lv_goto (tgt := 23) hx hb dX3_readStep_41 (by decide) ?_
        exact ww_lK hf hz_1 _ _ _ hR hS (lv_sub hl [1, 2, 3, 0] rfl)
    exact hL_1 ((ww_sX M_1 6 x1 r_1), (1 : Int32)) hf _ _ _ hR hS (lv_sub hl [2, 3, 1, 0] rfl)
  · replace hf := ww_in hf c_2
    exact hend dX3_readStep_13 hf hR hS
section T3_readStep_c
variable {p : Program} {l : Launch} {e : Env} {R : Room} {s : State} {m : MethodId} {args : Array Value} {below : List Frame} {meth : Method} {c : Code} {H : Heap} {locs : List Loc} {Q : State → Prop}
variable {cc : ByteArray} {pc : Nat} {ls : Array Slot} {rest : List Value} {nL : Nat} {E : ww_E} {A : Nat → Prop} {H0 : Heap}
theorem t3c_readStep {M M' : ww_M} {x1 : Int32} (X : ww_C p m c cc nL s args RX3 lw_all) (hsz : ls.size = nL) (hK : tw_Kn E s) (hD : t3_D E) (hR : t3_H E M H) (hS : va_S (t3_A E) s.heap H locs) (hF : 6 ≤ R.frames) (hLo : 131 ≤ R.locals) (hf : f3_readStep M x1 = some M') (hrest : (rest.map fun v => v.category).sum ≤ 8) (hdg : decode cc pc = .ok (.invokevirtual 171, 3)) (kk : ∀ (H1 : Heap) (locs1 : List Loc), t3_H E M' H1 → va_S (t3_A E) s.heap H1 locs1 → W p l e R s m args below meth c H1 locs1 0 0 Q (F0 m (pc + 3) ls (rest))) : W p l e R s m args below meth c H locs 0 0 Q (F0 m pc ls (.int x1 :: .ref E.1 :: rest)) :=
  t3k_readStep X hsz hK hD hR hS hF hLo (met3_readStep l hD _ _ _ hf) hrest hdg kk
end T3_readStep_c
noncomputable def f3_readPlan_j2 (M : ww_M) (y1 : Int32) (y2 : Int32) : Option ((ww_M × Int32 × Int32) ⊕ (ww_M)) :=
  if y2 = 0 then some (.inl (M, y1, y2)) else some (.inl ((ww_sF M 3 ((ww_F M 3) + (1 : Int32))), y1, y2))
noncomputable def f3_readPlan_j1 (M : ww_M) (y1 : Int32) (t0 : Int32) : Option ((ww_M × Int32 × Int32) ⊕ (ww_M)) :=
  if t0 = 0 then f3_readPlan_j2 M y1 t0 else if y1 = (16 : Int32) then ww_x (ww_b (f3_fails M) (fun M_13 => some M_13)) else f3_readPlan_j2 M y1 t0
noncomputable def f3_readPlan_b1c (M_1 : ww_M) (x1 : Int32) (x2 : Int32) : Option ((ww_M × Int32 × Int32) ⊕ (ww_M)) :=
  if x2 = 0 then ww_x (ww_g (ww_i (4 : Int32) 5) (ww_b2 (f3_look (ww_sX M_1 7 (4 : Int32) x1)) (fun r_4 M_4 => if r_4 = (-1 : Int32) then some M_4 else ww_b (f3_fails M_4) (fun M_6 => some M_6)))) else ww_b (f3_readStep M_1 ((4 : Int32) * ((64 : Int32) + x1))) (fun M_7 => if (ww_F M_7 4) = (-1 : Int32) then ww_b2 (f3_look M_7) (fun r_9 M_9 => if r_9 = (59 : Int32) then f3_readPlan_j1 M_9 (x1 + (1 : Int32)) (1 : Int32) else f3_readPlan_j1 M_9 (x1 + (1 : Int32)) (0 : Int32)) else ww_x (some M_7))
noncomputable def f3_readPlan_b1 : (ww_M × Int32 × Int32) → Option ((ww_M × Int32 × Int32) ⊕ (ww_M)) := fun s9 => f3_readPlan_b1c s9.1 s9.2.1 s9.2.2
noncomputable def f3_readPlan (M : ww_M) : Option (ww_M) :=
  ww_U (f3_readPlan_b1) (M, (0 : Int32), (1 : Int32))
section T3_readPlan_k
variable {p : Program} {l : Launch} {e : Env} {R : Room} {s : State} {m : MethodId} {args : Array Value} {below : List Frame} {meth : Method} {c : Code} {H : Heap} {locs : List Loc} {Q : State → Prop}
variable {cc : ByteArray} {pc : Nat} {ls : Array Slot} {rest : List Value} {nL : Nat} {E : ww_E} {A : Nat → Prop} {H0 : Heap}
theorem t3k_readPlan {M M' : ww_M} (X : ww_C p m c cc nL s args RX3 lw_all) (hsz : ls.size = nL) (hK : tw_Kn E s) (hD : t3_D E) (hR : t3_H E M H) (hS : va_S (t3_A E) s.heap H locs) (hF : 7 ≤ R.frames) (hLo : 153 ≤ R.locals) (hM : t4_MetV l yX3_readPlan cX3_readPlan 3 6 131 E [] M M') (hrest : (rest.map fun v => v.category).sum ≤ 8) (hdg : decode cc pc = .ok (.invokevirtual 181, 3)) (kk : ∀ (H1 : Heap) (locs1 : List Loc), t3_H E M' H1 → va_S (t3_A E) s.heap H1 locs1 → W p l e R s m args below meth c H1 locs1 0 0 Q (F0 m (pc + 3) ls (rest))) : W p l e R s m args below meth c H locs 0 0 Q (F0 m pc ls (.ref E.1 :: rest)) :=
  t4_callV (n := 0) X hsz hK hR hS (As := []) hM (lw_V q1928 q1930 qs68 q135 q1931) (by decide +kernel) rfl hF hLo (Nat.zero_le _) (Nat.zero_le _) hrest hdg kk
end T3_readPlan_k
set_option maxHeartbeats 4000000 in
set_option maxRecDepth 100000 in
theorem met3_readPlan (l : Launch) {E : ww_E} (hD : t3_D E) (M : ww_M) (M' : ww_M) (hf : f3_readPlan M = some M') : t4_MetV l yX3_readPlan cX3_readPlan 3 6 131 E [] M M' := by
  unfold f3_readPlan at hf
  refine t4_startV (by decide +kernel) (Nat.le_of_ble_eq_true rfl) ?_
  intro p e s m args below meth c Rm Q X hK hF hLo hend ls hl hR hS
  obtain ⟨hK, hC⟩ := hK
  obtain ⟨q9, b9, v9, hC9, hV9⟩ := id hC
  obtain ⟨hx, hb, hml, hown, hts⟩ := id X
  replace hl : lv_has ls 3 [(0, .ref E.1)] := hl
  refine lv_iconst (v := (0 : Int32)) hx hb dX3_readPlan_0 (by decide) ?_
  refine lv_istore_n (lv' := [(1, .int (0 : Int32)), (0, .ref E.1)]) hx hb dX3_readPlan_1 rfl hl (by decide) rfl (fun ls hl => ?_)
  refine lv_iconst (v := (1 : Int32)) hx hb dX3_readPlan_2 (by decide) ?_
  refine lv_istore_n (lv' := [(2, .int (1 : Int32)), (1, .int (0 : Int32)), (0, .ref E.1)]) hx hb dX3_readPlan_3 rfl hl (by decide) rfl (fun ls hl => ?_)
  have hL_1 : ∀ s9 : ww_M × Int32 × Int32, ww_U (f3_readPlan_b1) s9 = some M' → ∀ (H : Heap) (locs : List Loc) (ls : Array Slot), t3_H E s9.1 H → va_S (t3_A E) s.heap H locs → lv_has ls 3 [(0, .ref E.1), (1, .int s9.2.1), (2, .int s9.2.2)] → W p l e Rm s m args below meth c H locs 0 0 Q (F0 m 4 ls []) := by
    refine ww_ind _ M' ?_
    intro s9 z_1 hf hz_1 H locs ls hR hS hl
    obtain ⟨M_1, x1, x2⟩ := s9
    replace hf : f3_readPlan_b1c M_1 x1 x2 = some z_1 := hf
    unfold f3_readPlan_b1c at hf
    replace hR : t3_H E M_1 H := hR
    replace hl : lv_has ls 3 [(0, .ref E.1), (1, .int x1), (2, .int x2)] := hl
    refine lv_iload_n hx hb dX3_readPlan_4 rfl (lv_at hl 2 rfl) ?_
    refine lv_if_eq (tgt := 77) hx hb dX3_readPlan_5 (by decide) (fun c_2 => ?_) (fun c_2 => ?_)
    · replace hf := ww_ip hf c_2
      replace hf := ww_xK hf hz_1
      refine lv_aload_n hx hb dX3_readPlan_77 rfl (lv_at hl 0 rfl) ?_
      refine t3g_7 X hK hR dX3_readPlan_78 ?_
      refine lv_iconst (v := (4 : Int32)) hx hb dX3_readPlan_81 (by decide) ?_
      refine lv_iload_n hx hb dX3_readPlan_82 rfl (lv_at hl 1 rfl) ?_
      obtain ⟨h_3, hf⟩ := ww_gS hf
      refine t3s_7 X hK hD hR hS h_3 dX3_readPlan_83 (fun H locs hR hS => ?_)
      refine lv_aload_n hx hb dX3_readPlan_84 rfl (lv_at hl 0 rfl) ?_
      obtain ⟨r_4, M_4, h_4, hf⟩ := ww_b2S hf
      refine t3c_look X hl.1 hK hD hR hS (Nat.le_trans (Nat.le_of_ble_eq_true rfl) hF) (Nat.le_trans (Nat.le_of_ble_eq_true rfl) hLo) h_4 (Nat.le_of_ble_eq_true rfl) dX3_readPlan_85 (fun H locs hR hS => ?_)
      refine lv_iconst (v := (-1 : Int32)) hx hb dX3_readPlan_88 (by decide) ?_
      refine lv_icmp_eq (tgt := 96) hx hb dX3_readPlan_89 (by decide) (fun c_5 => ?_) (fun c_5 => ?_)
      · replace hf := ww_ip hf c_5
        exact hend dX3_readPlan_96 hf hR hS
      · replace hf := ww_in hf c_5
        refine lv_aload_n hx hb dX3_readPlan_92 rfl (lv_at hl 0 rfl) ?_
        obtain ⟨M_6, h_6, hf⟩ := ww_bS hf
        refine t3c_fails X hl.1 hK hD hR hS (Nat.le_trans (Nat.le_of_ble_eq_true rfl) hF) (Nat.le_trans (Nat.le_of_ble_eq_true rfl) hLo) h_6 (Nat.le_of_ble_eq_true rfl) dX3_readPlan_93 (fun H locs hR hS => ?_)
        exact hend dX3_readPlan_96 hf hR hS
    · replace hf := ww_in hf c_2
      refine lv_aload_n hx hb dX3_readPlan_8 rfl (lv_at hl 0 rfl) ?_
      refine lv_iconst (v := (4 : Int32)) hx hb dX3_readPlan_9 (by decide) ?_
      refine lv_bipush (v := (64 : Int32)) hx hb dX3_readPlan_10 (by decide) ?_
      refine lv_iload_n hx hb dX3_readPlan_12 rfl (lv_at hl 1 rfl) ?_
      refine lv_iadd hx hb dX3_readPlan_13 ?_
      refine lv_imul hx hb dX3_readPlan_14 ?_
      obtain ⟨M_7, h_7, hf⟩ := ww_bS hf
      refine t3c_readStep X hl.1 ⟨hK, hC⟩ hD hR hS (Nat.le_trans (Nat.le_of_ble_eq_true rfl) hF) (Nat.le_trans (Nat.le_of_ble_eq_true rfl) hLo) h_7 (Nat.le_of_ble_eq_true rfl) dX3_readPlan_15 (fun H locs hR hS => ?_)
      refine lv_aload_n hx hb dX3_readPlan_18 rfl (lv_at hl 0 rfl) ?_
      refine t3g_4 X hK hR dX3_readPlan_19 ?_
      refine lv_iconst (v := (-1 : Int32)) hx hb dX3_readPlan_22 (by decide) ?_
      refine lv_icmp_eq (tgt := 27) hx hb dX3_readPlan_23 (by decide) (fun c_8 => ?_) (fun c_8 => ?_)
      · replace hf := ww_ip hf c_8
        refine lv_iinc (k := 1) (v := x1 + (1 : Int32)) (lv' := [(1, .int (x1 + (1 : Int32))), (0, .ref E.1), (2, .int x2)]) hx hb dX3_readPlan_27 hl rfl rfl (by decide) rfl (fun ls hl => ?_)
        refine lv_aload_n hx hb dX3_readPlan_30 rfl (lv_at hl 1 rfl) ?_
        obtain ⟨r_9, M_9, h_9, hf⟩ := ww_b2S hf
        refine t3c_look X hl.1 hK hD hR hS (Nat.le_trans (Nat.le_of_ble_eq_true rfl) hF) (Nat.le_trans (Nat.le_of_ble_eq_true rfl) hLo) h_9 (Nat.le_of_ble_eq_true rfl) dX3_readPlan_31 (fun H locs hR hS => ?_)
        refine lv_bipush (v := (59 : Int32)) hx hb dX3_readPlan_34 (by decide) ?_
        have hj_1 : ∀ (t0 : Int32), f3_readPlan_j1 M_9 (x1 + (1 : Int32)) t0 = some z_1 → ∀ (H : Heap) (locs : List Loc) (ls : Array Slot), t3_H E M_9 H → va_S (t3_A E) s.heap H locs → lv_has ls 3 [(0, .ref E.1), (1, .int (x1 + (1 : Int32)))] → W p l e Rm s m args below meth c H locs 0 0 Q (F0 m 44 ls [.int t0]) := by
          intro t0 hf H locs ls hR hS hl
          unfold f3_readPlan_j1 at hf
          refine lv_istore_n (lv' := [(2, .int t0), (0, .ref E.1), (1, .int (x1 + (1 : Int32)))]) hx hb dX3_readPlan_44 rfl hl (by decide) rfl (fun ls hl => ?_)
          refine lv_iload_n hx hb dX3_readPlan_45 rfl (lv_at hl 0 rfl) ?_
          have hj_2 : f3_readPlan_j2 M_9 (x1 + (1 : Int32)) t0 = some z_1 → ∀ (H : Heap) (locs : List Loc) (ls : Array Slot), t3_H E M_9 H → va_S (t3_A E) s.heap H locs → lv_has ls 3 [(0, .ref E.1), (1, .int (x1 + (1 : Int32))), (2, .int t0)] → W p l e Rm s m args below meth c H locs 0 0 Q (F0 m 60 ls []) := by
            intro  hf H locs ls hR hS hl
            unfold f3_readPlan_j2 at hf
            refine lv_iload_n hx hb dX3_readPlan_60 rfl (lv_at hl 2 rfl) ?_
            refine lv_if_eq (tgt := 4) hx hb dX3_readPlan_61 (by decide) (fun c_10 => ?_) (fun c_10 => ?_)
            · replace hf := ww_ip hf c_10
              exact ww_lK hf hz_1 _ _ _ hR hS hl
            · replace hf := ww_in hf c_10
              refine lv_aload_n hx hb dX3_readPlan_64 rfl (lv_at hl 0 rfl) ?_
              refine lv_dup hx hb dX3_readPlan_65 rfl ?_
              refine t3g_3 X hK hR dX3_readPlan_66 ?_
              refine lv_iconst (v := (1 : Int32)) hx hb dX3_readPlan_69 (by decide) ?_
              refine lv_iadd hx hb dX3_readPlan_70 ?_
              refine t3p_3 X hK hD hR hS dX3_readPlan_71 (fun H locs hR hS => ?_)
              refine lv_goto (tgt := 4) hx hb dX3_readPlan_74 (by decide) ?_
              exact ww_lK hf hz_1 _ _ _ hR hS hl
          refine lv_if_eq (tgt := 60) hx hb dX3_readPlan_46 (by decide) (fun c_11 => ?_) (fun c_11 => ?_)
          · replace hf := ww_ip hf c_11
            exact hj_2 hf _ _ _ hR hS (lv_sub hl [1, 2, 0] rfl)
          · replace hf := ww_in hf c_11
            refine lv_iload_n hx hb dX3_readPlan_49 rfl (lv_at hl 2 rfl) ?_
            refine lv_bipush (v := (16 : Int32)) hx hb dX3_readPlan_50 (by decide) ?_
            refine lv_icmp_ne (tgt := 60) hx hb dX3_readPlan_52 (by decide) (fun c_12 => ?_) (fun c_12 => ?_)
            · replace hf := ww_in hf c_12
              exact hj_2 hf _ _ _ hR hS (lv_sub hl [1, 2, 0] rfl)
            · replace hf := ww_ip hf c_12
              replace hf := ww_xK hf hz_1
              refine lv_aload_n hx hb dX3_readPlan_55 rfl (lv_at hl 1 rfl) ?_
              obtain ⟨M_13, h_13, hf⟩ := ww_bS hf
              refine t3c_fails X hl.1 hK hD hR hS (Nat.le_trans (Nat.le_of_ble_eq_true rfl) hF) (Nat.le_trans (Nat.le_of_ble_eq_true rfl) hLo) h_13 (Nat.le_of_ble_eq_true rfl) dX3_readPlan_56 (fun H locs hR hS => ?_)
              exact hend dX3_readPlan_59 hf hR hS
        refine lv_icmp_ne (tgt := 43) hx hb dX3_readPlan_36 (by decide) (fun c_14 => ?_) (fun c_14 => ?_)
        · replace hf := ww_in hf c_14
          refine lv_iconst (v := (0 : Int32)) hx hb dX3_readPlan_43 (by decide) ?_
          exact hj_1 (0 : Int32) hf _ _ _ hR hS (lv_sub hl [1, 0] rfl)
        · replace hf := ww_ip hf c_14
          refine lv_iconst (v := (1 : Int32)) hx hb dX3_readPlan_39 (by decide) ?_
          refine lv_goto (tgt := 44) hx hb dX3_readPlan_40 (by decide) ?_
          exact hj_1 (1 : Int32) hf _ _ _ hR hS (lv_sub hl [1, 0] rfl)
      · replace hf := ww_in hf c_8
        replace hf := ww_xK hf hz_1
        exact hend dX3_readPlan_26 hf hR hS
  exact hL_1 (M, (0 : Int32), (1 : Int32)) hf _ _ _ hR hS (lv_sub hl [2, 1, 0] rfl)
section T3_readPlan_c
variable {p : Program} {l : Launch} {e : Env} {R : Room} {s : State} {m : MethodId} {args : Array Value} {below : List Frame} {meth : Method} {c : Code} {H : Heap} {locs : List Loc} {Q : State → Prop}
variable {cc : ByteArray} {pc : Nat} {ls : Array Slot} {rest : List Value} {nL : Nat} {E : ww_E} {A : Nat → Prop} {H0 : Heap}
theorem t3c_readPlan {M M' : ww_M} (X : ww_C p m c cc nL s args RX3 lw_all) (hsz : ls.size = nL) (hK : tw_Kn E s) (hD : t3_D E) (hR : t3_H E M H) (hS : va_S (t3_A E) s.heap H locs) (hF : 7 ≤ R.frames) (hLo : 153 ≤ R.locals) (hf : f3_readPlan M = some M') (hrest : (rest.map fun v => v.category).sum ≤ 8) (hdg : decode cc pc = .ok (.invokevirtual 181, 3)) (kk : ∀ (H1 : Heap) (locs1 : List Loc), t3_H E M' H1 → va_S (t3_A E) s.heap H1 locs1 → W p l e R s m args below meth c H1 locs1 0 0 Q (F0 m (pc + 3) ls (rest))) : W p l e R s m args below meth c H locs 0 0 Q (F0 m pc ls (.ref E.1 :: rest)) :=
  t3k_readPlan X hsz hK hD hR hS hF hLo (met3_readPlan l hD _ _ hf) hrest hdg kk
end T3_readPlan_c
noncomputable def f3_fault (M : ww_M) (x1 : Int32) : Option (Int32 × ww_M) :=
  ww_b (f3_isIn x1.toInt64 (0 : Int64) (1 : Int64)) (fun r_1 => if r_1 = 0 then some ((-2 : Int32), (ww_sF M 0 (0 : Int32))) else if x1 = 0 then ww_b (f3_readEntries (ww_sF (ww_sF (ww_sF M 0 (0 : Int32)) 3 (0 : Int32)) 4 (-1 : Int32))) (fun M_5 => some ((ww_F M_5 4), M_5)) else ww_b (f3_readPlan (ww_sF (ww_sF (ww_sF M 0 (0 : Int32)) 3 (0 : Int32)) 4 (-1 : Int32))) (fun M_4 => some ((ww_F M_4 4), M_4)))
section T3_fault_k
variable {p : Program} {l : Launch} {e : Env} {R : Room} {s : State} {m : MethodId} {args : Array Value} {below : List Frame} {meth : Method} {c : Code} {H : Heap} {locs : List Loc} {Q : State → Prop}
variable {cc : ByteArray} {pc : Nat} {ls : Array Slot} {rest : List Value} {nL : Nat} {E : ww_E} {A : Nat → Prop} {H0 : Heap}
theorem t3k_fault {M M' : ww_M} {x1 : Int32} {r : Int32} (X : ww_C p m c cc nL s args RX3 lw_all) (hsz : ls.size = nL) (hK : tw_Kn E s) (hD : t3_D E) (hR : t3_H E M H) (hS : va_S (t3_A E) s.heap H locs) (hF : 8 ≤ R.frames) (hLo : 174 ≤ R.locals) (hM : t4_Met l yX3_fault cX3_fault 2 (some Jvm.ClassFile.FieldType.int) 7 153 E [.int x1] M M' r) (hrest : (rest.map fun v => v.category).sum ≤ 8) (hdg : decode cc pc = .ok (.invokevirtual 284, 3)) (kk : ∀ (H1 : Heap) (locs1 : List Loc), t3_H E M' H1 → va_S (t3_A E) s.heap H1 locs1 → W p l e R s m args below meth c H1 locs1 0 0 Q (F0 m (pc + 3) ls (.int r :: rest))) : W p l e R s m args below meth c H locs 0 0 Q (F0 m pc ls (.int x1 :: .ref E.1 :: rest)) :=
  t4_callI (n := 1) X hsz hK hR hS (As := [.int x1]) hM (lw_V q1947 q1894 q1895 q135 q1896) (by decide +kernel) rfl hF hLo (Nat.zero_le _) (Nat.zero_le _) hrest hdg kk
end T3_fault_k
set_option maxHeartbeats 4000000 in
set_option maxRecDepth 100000 in
theorem met3_fault (l : Launch) {E : ww_E} (hD : t3_D E) (M : ww_M) (x1 : Int32) (r : Int32) (M' : ww_M) (hf : f3_fault M x1 = some (r, M')) : t4_Met l yX3_fault cX3_fault 2 (some Jvm.ClassFile.FieldType.int) 7 153 E [.int x1] M M' r := by
  unfold f3_fault at hf
  refine t4_start (by decide +kernel) (Nat.le_of_ble_eq_true rfl) ?_
  intro p e s m args below meth c Rm Q X hK hF hLo hend ls hl hR hS
  obtain ⟨hK, hC⟩ := hK
  obtain ⟨q9, b9, v9, hC9, hV9⟩ := id hC
  obtain ⟨hx, hb, hml, hown, hts⟩ := id X
  replace hl : lv_has ls 2 [(0, .ref E.1), (1, .int x1)] := hl
  refine lv_aload_n hx hb dX3_fault_0 rfl (lv_at hl 0 rfl) ?_
  refine lv_iconst (v := (0 : Int32)) hx hb dX3_fault_1 (by decide) ?_
  refine t3p_0 X hK hD hR hS dX3_fault_2 (fun H locs hR hS => ?_)
  refine lv_iload_n hx hb dX3_fault_5 rfl (lv_at hl 1 rfl) ?_
  refine lv_i2l (v := x1.toInt64) hx hb dX3_fault_6 rfl ?_
  refine lv_lconst (v := (0 : Int64)) hx hb dX3_fault_7 (by decide) ?_
  refine lv_lconst (v := (1 : Int64)) hx hb dX3_fault_8 (by decide) ?_
  obtain ⟨r_1, h_1, hf⟩ := ww_bS hf
  refine t3c_isIn X hl.1 (Nat.le_trans (Nat.le_of_ble_eq_true rfl) hF) (Nat.le_trans (Nat.le_of_ble_eq_true rfl) hLo) h_1 (Nat.le_of_ble_eq_true rfl) dX3_fault_9 ?_
  refine lv_if_ne (tgt := 18) hx hb dX3_fault_12 (by decide) (fun c_2 => ?_) (fun c_2 => ?_)
  · replace hf := ww_in hf c_2
    refine lv_aload_n hx hb dX3_fault_18 rfl (lv_at hl 0 rfl) ?_
    refine lv_iconst (v := (0 : Int32)) hx hb dX3_fault_19 (by decide) ?_
    refine t3p_3 X hK hD hR hS dX3_fault_20 (fun H locs hR hS => ?_)
    refine lv_aload_n hx hb dX3_fault_23 rfl (lv_at hl 0 rfl) ?_
    refine lv_iconst (v := (-1 : Int32)) hx hb dX3_fault_24 (by decide) ?_
    refine t3p_4 X hK hD hR hS dX3_fault_25 (fun H locs hR hS => ?_)
    refine lv_iload_n hx hb dX3_fault_28 rfl (lv_at hl 1 rfl) ?_
    refine lv_if_ne (tgt := 39) hx hb dX3_fault_29 (by decide) (fun c_3 => ?_) (fun c_3 => ?_)
    · replace hf := ww_in hf c_3
      refine lv_aload_n hx hb dX3_fault_39 rfl (lv_at hl 0 rfl) ?_
      obtain ⟨M_4, h_4, hf⟩ := ww_bS hf
      refine t3c_readPlan X hl.1 ⟨hK, hC⟩ hD hR hS (Nat.le_trans (Nat.le_of_ble_eq_true rfl) hF) (Nat.le_trans (Nat.le_of_ble_eq_true rfl) hLo) h_4 (Nat.le_of_ble_eq_true rfl) dX3_fault_40 (fun H locs hR hS => ?_)
      refine lv_aload_n hx hb dX3_fault_43 rfl (lv_at hl 0 rfl) ?_
      refine t3g_4 X hK hR dX3_fault_44 ?_
      exact hend dX3_fault_47 rfl rfl hf hR hS
    · replace hf := ww_ip hf c_3
      refine lv_aload_n hx hb dX3_fault_32 rfl (lv_at hl 0 rfl) ?_
      obtain ⟨M_5, h_5, hf⟩ := ww_bS hf
      refine t3c_readEntries X hl.1 hK hD hR hS (Nat.le_trans (Nat.le_of_ble_eq_true rfl) hF) (Nat.le_trans (Nat.le_of_ble_eq_true rfl) hLo) h_5 (Nat.le_of_ble_eq_true rfl) dX3_fault_33 (fun H locs hR hS => ?_)
      refine lv_goto (tgt := 43) hx hb dX3_fault_36 (by decide) ?_
      refine lv_aload_n hx hb dX3_fault_43 rfl (lv_at hl 0 rfl) ?_
      refine t3g_4 X hK hR dX3_fault_44 ?_
      exact hend dX3_fault_47 rfl rfl hf hR hS
  · replace hf := ww_ip hf c_2
    refine lv_bipush (v := (-2 : Int32)) hx hb dX3_fault_15 (by decide) ?_
    exact hend dX3_fault_17 rfl rfl hf hR hS
section T3_fault_c
variable {p : Program} {l : Launch} {e : Env} {R : Room} {s : State} {m : MethodId} {args : Array Value} {below : List Frame} {meth : Method} {c : Code} {H : Heap} {locs : List Loc} {Q : State → Prop}
variable {cc : ByteArray} {pc : Nat} {ls : Array Slot} {rest : List Value} {nL : Nat} {E : ww_E} {A : Nat → Prop} {H0 : Heap}
theorem t3c_fault {M M' : ww_M} {x1 : Int32} {r : Int32} (X : ww_C p m c cc nL s args RX3 lw_all) (hsz : ls.size = nL) (hK : tw_Kn E s) (hD : t3_D E) (hR : t3_H E M H) (hS : va_S (t3_A E) s.heap H locs) (hF : 8 ≤ R.frames) (hLo : 174 ≤ R.locals) (hf : f3_fault M x1 = some (r, M')) (hrest : (rest.map fun v => v.category).sum ≤ 8) (hdg : decode cc pc = .ok (.invokevirtual 284, 3)) (kk : ∀ (H1 : Heap) (locs1 : List Loc), t3_H E M' H1 → va_S (t3_A E) s.heap H1 locs1 → W p l e R s m args below meth c H1 locs1 0 0 Q (F0 m (pc + 3) ls (.int r :: rest))) : W p l e R s m args below meth c H locs 0 0 Q (F0 m pc ls (.int x1 :: .ref E.1 :: rest)) :=
  t3k_fault X hsz hK hD hR hS hF hLo (met3_fault l hD _ _ _ _ hf) hrest hdg kk
end T3_fault_c
noncomputable def f3_text_b1c (y2 : Int32) (M_8 : ww_M) (x3 : Int32) (x4 : Int32) : Option ((ww_M × Int32 × Int32) ⊕ (Int32 × ww_M)) :=
  if (ww_F M_8 8) ≤ x4 then ww_x (ww_b2 (f3_newMap M_8 x3 (-1 : Int32) (-1 : Int32)) (fun r_10 M_10 => some (r_10, M_10))) else ww_g (ww_i ((2 : Int32) * x4) 480) (ww_g (ww_i (((2 : Int32) * x4) + (1 : Int32)) 480) (ww_b2 (f3_puts M_8 x3 (ww_X M_8 5 ((2 : Int32) * x4)) (ww_X M_8 5 (((2 : Int32) * x4) + (1 : Int32))) y2) (fun r_13 M_13 => some (.inl (M_13, r_13, (x4 + (1 : Int32)))))))
noncomputable def f3_text_b1 (y2 : Int32) : (ww_M × Int32 × Int32) → Option ((ww_M × Int32 × Int32) ⊕ (Int32 × ww_M)) := fun s9 => f3_text_b1c y2 s9.1 s9.2.1 s9.2.2
noncomputable def f3_text_b2c (M_16 : ww_M) (x2 : Int32) : Option ((ww_M × Int32) ⊕ (Int32 × ww_M)) :=
  if (64 : Int32) ≤ x2 then ww_x (ww_g (ww_i (4 : Int32) 5) (ww_g (ww_i (ww_F M_16 9) 5) (some (((ww_F (ww_sF (ww_sX M_16 7 (ww_F M_16 9) (ww_X M_16 7 (4 : Int32))) 9 ((ww_F (ww_sX M_16 7 (ww_F M_16 9) (ww_X M_16 7 (4 : Int32))) 9) + (1 : Int32))) 9) - (1 : Int32)), (ww_sF (ww_sX M_16 7 (ww_F M_16 9) (ww_X M_16 7 (4 : Int32))) 9 ((ww_F (ww_sX M_16 7 (ww_F M_16 9) (ww_X M_16 7 (4 : Int32))) 9) + (1 : Int32))))))) else ww_g (ww_i ((256 : Int32) + x2) 320) (ww_g (ww_i (((64 : Int32) * (ww_F M_16 9)) + x2) 320) (some (.inl ((ww_sX M_16 6 (((64 : Int32) * (ww_F M_16 9)) + x2) (ww_X M_16 6 ((256 : Int32) + x2))), (x2 + (1 : Int32))))))
noncomputable def f3_text_b2 : (ww_M × Int32) → Option ((ww_M × Int32) ⊕ (Int32 × ww_M)) := fun s9 => f3_text_b2c s9.1 s9.2
noncomputable def f3_text (M : ww_M) (x1 : Int32) : Option (Int32 × ww_M) :=
  ww_b2 (f3_fault M x1) (fun r_1 M_1 => if r_1 = (-1 : Int32) then if x1 = (1 : Int32) then if (ww_F M_1 9) = (4 : Int32) then some ((-1 : Int32), M_1) else ww_U (f3_text_b2) ((ww_sF M_1 2 (0 : Int32)), (0 : Int32)) else ww_b (f3_hasRoom M_1) (fun r_4 => if r_4 = 0 then ww_b2 (f3_refused M_1 (4 : Int32)) (fun r_14 M_14 => some (r_14, M_14)) else ww_b2 (f3_newToken (ww_sF M_1 2 (0 : Int32))) (fun r_6 M_6 => ww_b2 (f3_fresh M_6 (1 : Int32) r_6) (fun r_7 M_7 => ww_U (f3_text_b1 r_6) (M_7, r_7, (0 : Int32))))) else some ((-1 : Int32), M_1))
set_option maxHeartbeats 4000000 in
set_option maxRecDepth 100000 in
theorem met3_text (l : Launch) {E : ww_E} (hD : t3_D E) (M : ww_M) (x1 : Int32) (r : Int32) (M' : ww_M) (hf : f3_text M x1 = some (r, M')) : t4_Met l yX3_text cX3_text 5 (some Jvm.ClassFile.FieldType.int) 14 317 E [.int x1] M M' r := by
  unfold f3_text at hf
  refine t4_start (by decide +kernel) (Nat.le_of_ble_eq_true rfl) ?_
  intro p e s m args below meth c Rm Q X hK hF hLo hend ls hl hR hS
  obtain ⟨hK, hC⟩ := hK
  obtain ⟨q9, b9, v9, hC9, hV9⟩ := id hC
  obtain ⟨hx, hb, hml, hown, hts⟩ := id X
  replace hl : lv_has ls 5 [(0, .ref E.1), (1, .int x1)] := hl
  refine lv_aload_n hx hb dX3_text_0 rfl (lv_at hl 0 rfl) ?_
  refine lv_iload_n hx hb dX3_text_1 rfl (lv_at hl 1 rfl) ?_
  obtain ⟨r_1, M_1, h_1, hf⟩ := ww_b2S hf
  refine t3c_fault X hl.1 ⟨hK, hC⟩ hD hR hS (Nat.le_trans (Nat.le_of_ble_eq_true rfl) hF) (Nat.le_trans (Nat.le_of_ble_eq_true rfl) hLo) h_1 (Nat.le_of_ble_eq_true rfl) dX3_text_2 (fun H locs hR hS => ?_)
  refine lv_iconst (v := (-1 : Int32)) hx hb dX3_text_5 (by decide) ?_
  refine lv_icmp_eq (tgt := 11) hx hb dX3_text_6 (by decide) (fun c_2 => ?_) (fun c_2 => ?_)
  · replace hf := ww_ip hf c_2
    refine lv_iload_n hx hb dX3_text_11 rfl (lv_at hl 1 rfl) ?_
    refine lv_iconst (v := (1 : Int32)) hx hb dX3_text_12 (by decide) ?_
    refine lv_icmp_ne (tgt := 101) hx hb dX3_text_13 (by decide) (fun c_3 => ?_) (fun c_3 => ?_)
    · replace hf := ww_in hf c_3
      refine lv_aload_n hx hb dX3_text_101 rfl (lv_at hl 0 rfl) ?_
      obtain ⟨r_4, h_4, hf⟩ := ww_bS hf
      refine t3c_hasRoom X hl.1 hK hD hR hS (Nat.le_trans (Nat.le_of_ble_eq_true rfl) hF) (Nat.le_trans (Nat.le_of_ble_eq_true rfl) hLo) h_4 (Nat.le_of_ble_eq_true rfl) dX3_text_102 (fun H locs hR hS => ?_)
      refine lv_if_ne (tgt := 114) hx hb dX3_text_105 (by decide) (fun c_5 => ?_) (fun c_5 => ?_)
      · replace hf := ww_in hf c_5
        refine lv_aload_n hx hb dX3_text_114 rfl (lv_at hl 0 rfl) ?_
        refine lv_iconst (v := (0 : Int32)) hx hb dX3_text_115 (by decide) ?_
        refine t3p_2 X hK hD hR hS dX3_text_116 (fun H locs hR hS => ?_)
        refine lv_aload_n hx hb dX3_text_119 rfl (lv_at hl 0 rfl) ?_
        obtain ⟨r_6, M_6, h_6, hf⟩ := ww_b2S hf
        refine t3c_newToken X hl.1 hK hD hR hS (Nat.le_trans (Nat.le_of_ble_eq_true rfl) hF) (Nat.le_trans (Nat.le_of_ble_eq_true rfl) hLo) h_6 (Nat.le_of_ble_eq_true rfl) dX3_text_120 (fun H locs hR hS => ?_)
        refine lv_istore_n (lv' := [(2, .int r_6), (0, .ref E.1), (1, .int x1)]) hx hb dX3_text_123 rfl hl (by decide) rfl (fun ls hl => ?_)
        refine lv_aload_n hx hb dX3_text_124 rfl (lv_at hl 1 rfl) ?_
        refine lv_iconst (v := (1 : Int32)) hx hb dX3_text_125 (by decide) ?_
        refine lv_iload_n hx hb dX3_text_126 rfl (lv_at hl 0 rfl) ?_
        obtain ⟨r_7, M_7, h_7, hf⟩ := ww_b2S hf
        refine t3c_fresh X hl.1 hK hD hR hS (Nat.le_trans (Nat.le_of_ble_eq_true rfl) hF) (Nat.le_trans (Nat.le_of_ble_eq_true rfl) hLo) h_7 (Nat.le_of_ble_eq_true rfl) dX3_text_127 (fun H locs hR hS => ?_)
        refine lv_istore_n (lv' := [(3, .int r_7), (2, .int r_6), (0, .ref E.1), (1, .int x1)]) hx hb dX3_text_130 rfl hl (by decide) rfl (fun ls hl => ?_)
        refine lv_iconst (v := (0 : Int32)) hx hb dX3_text_131 (by decide) ?_
        refine lv_istore (lv' := [(4, .int (0 : Int32)), (3, .int r_7), (2, .int r_6), (0, .ref E.1), (1, .int x1)]) hx hb dX3_text_132 hl (by decide) rfl (fun ls hl => ?_)
        have hL_1 : ∀ s9 : ww_M × Int32 × Int32, ww_U (f3_text_b1 r_6) s9 = some (r, M') → ∀ (H : Heap) (locs : List Loc) (ls : Array Slot), t3_H E s9.1 H → va_S (t3_A E) s.heap H locs → lv_has ls 5 [(0, .ref E.1), (2, .int r_6), (3, .int s9.2.1), (4, .int s9.2.2)] → W p l e Rm s m args below meth c H locs 0 0 Q (F0 m 134 ls []) := by
          refine ww_ind _ (r, M') ?_
          intro s9 z_1 hf hz_1 H locs ls hR hS hl
          obtain ⟨M_8, x3, x4⟩ := s9
          replace hf : f3_text_b1c r_6 M_8 x3 x4 = some z_1 := hf
          unfold f3_text_b1c at hf
          replace hR : t3_H E M_8 H := hR
          replace hl : lv_has ls 5 [(0, .ref E.1), (2, .int r_6), (3, .int x3), (4, .int x4)] := hl
          refine lv_iload hx hb dX3_text_134 (lv_at hl 3 rfl) ?_
          refine lv_aload_n hx hb dX3_text_136 rfl (lv_at hl 0 rfl) ?_
          refine t3g_8 X hK hR dX3_text_137 ?_
          refine lv_icmp_ge (tgt := 176) hx hb dX3_text_140 (by decide) (fun c_9 => ?_) (fun c_9 => ?_)
          · replace hf := ww_ip hf c_9
            replace hf := ww_xK hf hz_1
            refine lv_aload_n hx hb dX3_text_176 rfl (lv_at hl 0 rfl) ?_
            refine lv_iload_n hx hb dX3_text_177 rfl (lv_at hl 2 rfl) ?_
            refine lv_iconst (v := (-1 : Int32)) hx hb dX3_text_178 (by decide) ?_
            refine lv_iconst (v := (-1 : Int32)) hx hb dX3_text_179 (by decide) ?_
            obtain ⟨r_10, M_10, h_10, hf⟩ := ww_b2S hf
            refine t3c_newMap X hl.1 hK hD hR hS (Nat.le_trans (Nat.le_of_ble_eq_true rfl) hF) (Nat.le_trans (Nat.le_of_ble_eq_true rfl) hLo) h_10 (Nat.le_of_ble_eq_true rfl) dX3_text_180 (fun H locs hR hS => ?_)
            exact hend dX3_text_183 rfl rfl hf hR hS
          · replace hf := ww_in hf c_9
            refine lv_aload_n hx hb dX3_text_143 rfl (lv_at hl 0 rfl) ?_
            refine lv_iload_n hx hb dX3_text_144 rfl (lv_at hl 2 rfl) ?_
            refine lv_aload_n hx hb dX3_text_145 rfl (lv_at hl 0 rfl) ?_
            refine t3g_5 X hK hR dX3_text_146 ?_
            refine lv_iconst (v := (2 : Int32)) hx hb dX3_text_149 (by decide) ?_
            refine lv_iload hx hb dX3_text_150 (lv_at hl 3 rfl) ?_
            refine lv_imul hx hb dX3_text_152 ?_
            obtain ⟨h_11, hf⟩ := ww_gS hf
            refine t3l_5 X hK hR h_11 dX3_text_153 ?_
            refine lv_aload_n hx hb dX3_text_154 rfl (lv_at hl 0 rfl) ?_
            refine t3g_5 X hK hR dX3_text_155 ?_
            refine lv_iconst (v := (2 : Int32)) hx hb dX3_text_158 (by decide) ?_
            refine lv_iload hx hb dX3_text_159 (lv_at hl 3 rfl) ?_
            refine lv_imul hx hb dX3_text_161 ?_
            refine lv_iconst (v := (1 : Int32)) hx hb dX3_text_162 (by decide) ?_
            refine lv_iadd hx hb dX3_text_163 ?_
            obtain ⟨h_12, hf⟩ := ww_gS hf
            refine t3l_5 X hK hR h_12 dX3_text_164 ?_
            refine lv_iload_n hx hb dX3_text_165 rfl (lv_at hl 1 rfl) ?_
            obtain ⟨r_13, M_13, h_13, hf⟩ := ww_b2S hf
            refine t3c_puts X hl.1 hK hD hR hS (Nat.le_trans (Nat.le_of_ble_eq_true rfl) hF) (Nat.le_trans (Nat.le_of_ble_eq_true rfl) hLo) h_13 (Nat.le_of_ble_eq_true rfl) dX3_text_166 (fun H locs hR hS => ?_)
            refine lv_istore_n (lv' := [(3, .int r_13), (0, .ref E.1), (2, .int r_6), (4, .int x4)]) hx hb dX3_text_169 rfl hl (by decide) rfl (fun ls hl => ?_)
            refine lv_iinc (k := 3) (v := x4 + (1 : Int32)) (lv' := [(4, .int (x4 + (1 : Int32))), (3, .int r_13), (0, .ref E.1), (2, .int r_6)]) hx hb dX3_text_170 hl rfl rfl (by decide) rfl (fun ls hl => ?_)
            refine lv_goto (tgt := 134) hx hb dX3_text_173 (by decide) ?_
            exact ww_lK hf hz_1 _ _ _ hR hS (lv_sub hl [2, 3, 1, 0] rfl)
        exact hL_1 (M_7, r_7, (0 : Int32)) hf _ _ _ hR hS (lv_sub hl [3, 2, 1, 0] rfl)
      · replace hf := ww_ip hf c_5
        refine lv_aload_n hx hb dX3_text_108 rfl (lv_at hl 0 rfl) ?_
        refine lv_iconst (v := (4 : Int32)) hx hb dX3_text_109 (by decide) ?_
        obtain ⟨r_14, M_14, h_14, hf⟩ := ww_b2S hf
        refine t3c_refused X hl.1 hK hD hR hS (Nat.le_trans (Nat.le_of_ble_eq_true rfl) hF) (Nat.le_trans (Nat.le_of_ble_eq_true rfl) hLo) h_14 (Nat.le_of_ble_eq_true rfl) dX3_text_110 (fun H locs hR hS => ?_)
        exact hend dX3_text_113 rfl rfl hf hR hS
    · replace hf := ww_ip hf c_3
      refine lv_aload_n hx hb dX3_text_16 rfl (lv_at hl 0 rfl) ?_
      refine t3g_9 X hK hR dX3_text_17 ?_
      refine lv_iconst (v := (4 : Int32)) hx hb dX3_text_20 (by decide) ?_
      refine lv_icmp_ne (tgt := 26) hx hb dX3_text_21 (by decide) (fun c_15 => ?_) (fun c_15 => ?_)
      · replace hf := ww_in hf c_15
        refine lv_aload_n hx hb dX3_text_26 rfl (lv_at hl 0 rfl) ?_
        refine lv_iconst (v := (0 : Int32)) hx hb dX3_text_27 (by decide) ?_
        refine t3p_2 X hK hD hR hS dX3_text_28 (fun H locs hR hS => ?_)
        refine lv_iconst (v := (0 : Int32)) hx hb dX3_text_31 (by decide) ?_
        refine lv_istore_n (lv' := [(2, .int (0 : Int32)), (0, .ref E.1), (1, .int x1)]) hx hb dX3_text_32 rfl hl (by decide) rfl (fun ls hl => ?_)
        have hL_2 : ∀ s9 : ww_M × Int32, ww_U (f3_text_b2) s9 = some (r, M') → ∀ (H : Heap) (locs : List Loc) (ls : Array Slot), t3_H E s9.1 H → va_S (t3_A E) s.heap H locs → lv_has ls 5 [(0, .ref E.1), (2, .int s9.2)] → W p l e Rm s m args below meth c H locs 0 0 Q (F0 m 33 ls []) := by
          refine ww_ind _ (r, M') ?_
          intro s9 z_2 hf hz_2 H locs ls hR hS hl
          obtain ⟨M_16, x2⟩ := s9
          replace hf : f3_text_b2c M_16 x2 = some z_2 := hf
          unfold f3_text_b2c at hf
          replace hR : t3_H E M_16 H := hR
          replace hl : lv_has ls 5 [(0, .ref E.1), (2, .int x2)] := hl
          refine lv_iload_n hx hb dX3_text_33 rfl (lv_at hl 1 rfl) ?_
          refine lv_bipush (v := (64 : Int32)) hx hb dX3_text_34 (by decide) ?_
          refine lv_icmp_ge (tgt := 69) hx hb dX3_text_36 (by decide) (fun c_17 => ?_) (fun c_17 => ?_)
          · replace hf := ww_ip hf c_17
            replace hf := ww_xK hf hz_2
            refine lv_aload_n hx hb dX3_text_69 rfl (lv_at hl 0 rfl) ?_
            refine t3g_7 X hK hR dX3_text_70 ?_
            refine lv_aload_n hx hb dX3_text_73 rfl (lv_at hl 0 rfl) ?_
            refine t3g_9 X hK hR dX3_text_74 ?_
            refine lv_aload_n hx hb dX3_text_77 rfl (lv_at hl 0 rfl) ?_
            refine t3g_7 X hK hR dX3_text_78 ?_
            refine lv_iconst (v := (4 : Int32)) hx hb dX3_text_81 (by decide) ?_
            obtain ⟨h_18, hf⟩ := ww_gS hf
            refine t3l_7 X hK hR h_18 dX3_text_82 ?_
            obtain ⟨h_19, hf⟩ := ww_gS hf
            refine t3s_7 X hK hD hR hS h_19 dX3_text_83 (fun H locs hR hS => ?_)
            refine lv_aload_n hx hb dX3_text_84 rfl (lv_at hl 0 rfl) ?_
            refine lv_dup hx hb dX3_text_85 rfl ?_
            refine t3g_9 X hK hR dX3_text_86 ?_
            refine lv_iconst (v := (1 : Int32)) hx hb dX3_text_89 (by decide) ?_
            refine lv_iadd hx hb dX3_text_90 ?_
            refine t3p_9 X hK hD hR hS dX3_text_91 (fun H locs hR hS => ?_)
            refine lv_aload_n hx hb dX3_text_94 rfl (lv_at hl 0 rfl) ?_
            refine t3g_9 X hK hR dX3_text_95 ?_
            refine lv_iconst (v := (1 : Int32)) hx hb dX3_text_98 (by decide) ?_
            refine lv_isub hx hb dX3_text_99 ?_
            exact hend dX3_text_100 rfl rfl hf hR hS
          · replace hf := ww_in hf c_17
            refine lv_aload_n hx hb dX3_text_39 rfl (lv_at hl 0 rfl) ?_
            refine t3g_6 X hK hR dX3_text_40 ?_
            refine lv_bipush (v := (64 : Int32)) hx hb dX3_text_43 (by decide) ?_
            refine lv_aload_n hx hb dX3_text_45 rfl (lv_at hl 0 rfl) ?_
            refine t3g_9 X hK hR dX3_text_46 ?_
            refine lv_imul hx hb dX3_text_49 ?_
            refine lv_iload_n hx hb dX3_text_50 rfl (lv_at hl 1 rfl) ?_
            refine lv_iadd hx hb dX3_text_51 ?_
            refine lv_aload_n hx hb dX3_text_52 rfl (lv_at hl 0 rfl) ?_
            refine t3g_6 X hK hR dX3_text_53 ?_
            refine lv_sipush (v := (256 : Int32)) hx hb dX3_text_56 (by decide) ?_
            refine lv_iload_n hx hb dX3_text_59 rfl (lv_at hl 1 rfl) ?_
            refine lv_iadd hx hb dX3_text_60 ?_
            obtain ⟨h_20, hf⟩ := ww_gS hf
            refine t3l_6 X hK hR h_20 dX3_text_61 ?_
            obtain ⟨h_21, hf⟩ := ww_gS hf
            refine t3s_6 X hK hD hR hS h_21 dX3_text_62 (fun H locs hR hS => ?_)
            refine lv_iinc (k := 1) (v := x2 + (1 : Int32)) (lv' := [(2, .int (x2 + (1 : Int32))), (0, .ref E.1)]) hx hb dX3_text_63 hl rfl rfl (by decide) rfl (fun ls hl => ?_)
            refine lv_goto (tgt := 33) hx hb dX3_text_66 (by decide) ?_
            exact ww_lK hf hz_2 _ _ _ hR hS (lv_sub hl [1, 0] rfl)
        exact hL_2 ((ww_sF M_1 2 (0 : Int32)), (0 : Int32)) hf _ _ _ hR hS (lv_sub hl [1, 0] rfl)
      · replace hf := ww_ip hf c_15
        refine lv_iconst (v := (-1 : Int32)) hx hb dX3_text_24 (by decide) ?_
        exact hend dX3_text_25 rfl rfl hf hR hS
  · replace hf := ww_in hf c_2
    refine lv_iconst (v := (-1 : Int32)) hx hb dX3_text_9 (by decide) ?_
    exact hend dX3_text_10 rfl rfl hf hR hS
