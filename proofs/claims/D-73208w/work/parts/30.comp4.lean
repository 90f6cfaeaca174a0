noncomputable def f1_near_j2 (D : cw_D) (y2 : Int32) (y3 : Int32) (y4 : Int32) (y6 : Int32) (y7 : Int32) (y8 : Int32) (x5 : Int32) : Option ((Int32 × Int32 × Int32) ⊕ (Int32 × cw_D)) :=
  if y6 = (-1 : Int32) then ww_g (ww_i y7 120) (if y2 < (ww_X D.1 29 y7) then ww_g (ww_i y7 120) (some (.inl (x5, (ww_X D.1 29 y7), (y7 + (1 : Int32))))) else if y8 = 0 then some (.inl (x5, y6, (y7 + (1 : Int32)))) else if y3 = (1 : Int32) then ww_g (ww_i y7 120) (some (.inl (x5, (ww_X D.1 29 y7), (y7 + (1 : Int32))))) else some (.inl (x5, y6, (y7 + (1 : Int32))))) else some (.inl (x5, y6, (y7 + (1 : Int32))))
noncomputable def f1_near_j1 (D : cw_D) (y2 : Int32) (y3 : Int32) (y4 : Int32) (y5 : Int32) (y6 : Int32) (y7 : Int32) (t0 : Int32) : Option ((Int32 × Int32 × Int32) ⊕ (Int32 × cw_D)) :=
  ww_g (ww_i y7 120) (if (ww_X D.1 29 y7) < y2 then ww_g (ww_i y7 120) (f1_near_j2 D y2 y3 y4 y6 y7 t0 (ww_X D.1 29 y7)) else if t0 = 0 then f1_near_j2 D y2 y3 y4 y6 y7 t0 y5 else if y3 = 0 then ww_g (ww_i y7 120) (f1_near_j2 D y2 y3 y4 y6 y7 t0 (ww_X D.1 29 y7)) else f1_near_j2 D y2 y3 y4 y6 y7 t0 y5)
noncomputable def f1_near_b1c (D : cw_D) (y2 : Int32) (y3 : Int32) (y4 : Int32) (x5 : Int32) (x6 : Int32) (x7 : Int32) : Option ((Int32 × Int32 × Int32) ⊕ (Int32 × cw_D)) :=
  if y4 ≤ x7 then ww_x (if (y3 - y3 / (2 : Int32) * (2 : Int32)) = 0 then some (x5, D) else some (x6, D)) else ww_g (ww_i x7 120) (if (ww_X D.1 29 x7) = y2 then f1_near_j1 D y2 y3 y4 x5 x6 x7 (1 : Int32) else f1_near_j1 D y2 y3 y4 x5 x6 x7 (0 : Int32))
noncomputable def f1_near_b1 (D : cw_D) (y2 : Int32) (y3 : Int32) (y4 : Int32) : (Int32 × Int32 × Int32) → Option ((Int32 × Int32 × Int32) ⊕ (Int32 × cw_D)) := fun s9 => f1_near_b1c D y2 y3 y4 s9.1 s9.2.1 s9.2.2
noncomputable def f1_near (D : cw_D) (x1 : Int32) (x2 : Int32) (x3 : Int32) : Option (Int32 × cw_D) :=
  ww_b (f1_isMap D x1) (fun r_1 => if r_1 = 0 then some ((-1 : Int32), D) else ww_b (f1_in x3 (0 : Int32) (3 : Int32)) (fun r_3 => if r_3 = 0 then some ((-1 : Int32), D) else ww_b (f1_rootOf D x1) (fun r_5 => ww_b2 (f1_flat D r_5) (fun r_6 D_6 => ww_U (f1_near_b1 D_6 x2 x3 r_6) ((-1 : Int32), (-1 : Int32), (0 : Int32))))))
set_option maxHeartbeats 4000000 in
set_option maxRecDepth 100000 in
theorem met1_near (l : Launch) {E : cw_E} {A : Nat → Prop} (D : cw_D) (x1 : Int32) (x2 : Int32) (x3 : Int32) (r : Int32) (D' : cw_D) (hf : f1_near D x1 x2 x3 = some (r, D')) : cw_MetI l yX1_near cX1_near 9 (some Jvm.ClassFile.FieldType.int) 21 440 E A [.ref E.1.1, .int x1, .int x2, .int x3] D D' r 0 0 := by
  unfold f1_near at hf
  refine cw_sID (own := RX1) (by decide +kernel) [(0, .ref E.1.1), (1, .int x1), (2, .int x2), (3, .int x3)] ⟨Nat.le_of_ble_eq_true rfl, rfl⟩ ?_
  intro p e s m args below meth c Rm Q X hK hF hLo hin hend ls hl hR hS
  obtain ⟨hx, hb, hml, hown, hts⟩ := id X
  refine lv_aload_n hx hb dX1_near_0 rfl (lv_at hl 0 rfl) ?_
  refine lv_iload_n hx hb dX1_near_1 rfl (lv_at hl 1 rfl) ?_
  obtain ⟨r_1, h_1, hq⟩ := ww_bS hf; replace hf := hq; clear hq
  refine c1c_1_isMap X hl.1 hK hR hS (Nat.le_trans (Nat.le_of_ble_eq_true rfl) hF) (Nat.le_trans (Nat.le_of_ble_eq_true rfl) hLo) (Nat.zero_le _) (Nat.zero_le _) h_1 (cw_rest (Nat.le_of_ble_eq_true rfl)) dX1_near_2 (fun H locs hR hS => ?_)
  refine lv_if_eq (tgt := 17) hx hb dX1_near_5 (by decide) (fun c_2 => ?_) (fun c_2 => ?_)
  · replace hf := ww_ip hf c_2
    refine lv_iconst (v := (-1 : Int32)) hx hb dX1_near_17 (by decide) ?_
    exact hend dX1_near_18 rfl rfl hf hR hS
  · replace hf := ww_in hf c_2
    refine lv_iload_n hx hb dX1_near_8 rfl (lv_at hl 3 rfl) ?_
    refine lv_iconst (v := (0 : Int32)) hx hb dX1_near_9 (by decide) ?_
    refine lv_iconst (v := (3 : Int32)) hx hb dX1_near_10 (by decide) ?_
    obtain ⟨r_3, h_3, hq⟩ := ww_bS hf; replace hf := hq; clear hq
    refine c1c_1_in X hl.1 (Nat.le_trans (Nat.le_of_ble_eq_true rfl) hF) (Nat.le_trans (Nat.le_of_ble_eq_true rfl) hLo) (Nat.zero_le _) (Nat.zero_le _) h_3 (cw_rest (Nat.le_of_ble_eq_true rfl)) dX1_near_11 ?_
    refine lv_if_ne (tgt := 19) hx hb dX1_near_14 (by decide) (fun c_4 => ?_) (fun c_4 => ?_)
    · replace hf := ww_in hf c_4
      refine lv_aload_n hx hb dX1_near_19 rfl (lv_at hl 0 rfl) ?_
      refine lv_aload_n hx hb dX1_near_20 rfl (lv_at hl 0 rfl) ?_
      refine lv_iload_n hx hb dX1_near_21 rfl (lv_at hl 1 rfl) ?_
      obtain ⟨r_5, h_5, hq⟩ := ww_bS hf; replace hf := hq; clear hq
      refine c1c_1_rootOf X hl.1 hK hR hS (Nat.le_trans (Nat.le_of_ble_eq_true rfl) hF) (Nat.le_trans (Nat.le_of_ble_eq_true rfl) hLo) (Nat.zero_le _) (Nat.zero_le _) h_5 (cw_rest (Nat.le_of_ble_eq_true rfl)) dX1_near_22 (fun H locs hR hS => ?_)
      obtain ⟨r_6, D_6, h_6, hq⟩ := ww_b2S hf; replace hf := hq; clear hq
      refine c1c_1_flat (x1 := r_5) X hl.1 hK hR hS (Nat.le_trans (Nat.le_of_ble_eq_true rfl) hF) (Nat.le_trans (Nat.le_of_ble_eq_true rfl) hLo) (Nat.zero_le _) (Nat.zero_le _) h_6 (cw_rest (Nat.le_of_ble_eq_true rfl)) dX1_near_25 (fun H locs hR hS => ?_)
      refine lv_istore (lv' := [(4, .int r_6), (0, .ref E.1.1), (1, .int x1), (2, .int x2), (3, .int x3)]) hx hb dX1_near_28 hl (by decide) rfl (fun ls hl => ?_)
      refine lv_iconst (v := (-1 : Int32)) hx hb dX1_near_30 (by decide) ?_
      refine lv_istore (lv' := [(5, .int (-1 : Int32)), (4, .int r_6), (0, .ref E.1.1), (1, .int x1), (2, .int x2), (3, .int x3)]) hx hb dX1_near_31 hl (by decide) rfl (fun ls hl => ?_)
      refine lv_iconst (v := (-1 : Int32)) hx hb dX1_near_33 (by decide) ?_
      refine lv_istore (lv' := [(6, .int (-1 : Int32)), (5, .int (-1 : Int32)), (4, .int r_6), (0, .ref E.1.1), (1, .int x1), (2, .int x2), (3, .int x3)]) hx hb dX1_near_34 hl (by decide) rfl (fun ls hl => ?_)
      refine lv_iconst (v := (0 : Int32)) hx hb dX1_near_36 (by decide) ?_
      refine lv_istore (lv' := [(7, .int (0 : Int32)), (6, .int (-1 : Int32)), (5, .int (-1 : Int32)), (4, .int r_6), (0, .ref E.1.1), (1, .int x1), (2, .int x2), (3, .int x3)]) hx hb dX1_near_37 hl (by decide) rfl (fun ls hl => ?_)
      have hL_1 : ∀ s9 : Int32 × Int32 × Int32, ww_U (f1_near_b1 D_6 x2 x3 r_6) s9 = some (r, D') → ∀ (H : Heap) (locs : List Loc) (ls : Array Slot), cw_H E A D_6 H → va_S A s.heap H locs → lv_has ls 9 [(0, .ref E.1.1), (2, .int x2), (3, .int x3), (4, .int r_6), (5, .int s9.1), (6, .int s9.2.1), (7, .int s9.2.2)] → W p l e Rm s m args below meth c H locs 0 0 Q (F0 m 39 ls []) := by
        clear hf
        refine ww_ind _ (r, D') ?_
        intro s9 z_1 hf hz_1
        obtain ⟨x5, x6, x7⟩ := s9
        replace hf : f1_near_b1c D_6 x2 x3 r_6 x5 x6 x7 = some z_1 := hf
        unfold f1_near_b1c at hf
        try clear hl
        try clear hS
        try clear hR
        intro H locs ls hR hS hl
        replace hl : lv_has ls 9 [(0, .ref E.1.1), (2, .int x2), (3, .int x3), (4, .int r_6), (5, .int x5), (6, .int x6), (7, .int x7)] := hl
        refine lv_iload hx hb dX1_near_39 (lv_at hl 6 rfl) ?_
        refine lv_iload hx hb dX1_near_41 (lv_at hl 3 rfl) ?_
        refine lv_icmp_ge (tgt := 135) hx hb dX1_near_43 (by decide) (fun c_7 => ?_) (fun c_7 => ?_)
        · replace hf := ww_ip hf c_7
          replace hf := ww_xK hf hz_1
          refine lv_iload_n hx hb dX1_near_135 rfl (lv_at hl 2 rfl) ?_
          refine lv_iconst (v := (2 : Int32)) hx hb dX1_near_136 (by decide) ?_
          refine lv_irem hx hb dX1_near_137 (by decide) ?_
          refine lv_if_ne (tgt := 146) hx hb dX1_near_138 (by decide) (fun c_8 => ?_) (fun c_8 => ?_)
          · replace hf := ww_in hf c_8
            refine lv_iload hx hb dX1_near_146 (lv_at hl 5 rfl) ?_
            exact hend dX1_near_148 rfl rfl hf hR hS
          · replace hf := ww_ip hf c_8
            refine lv_iload hx hb dX1_near_141 (lv_at hl 4 rfl) ?_
            refine lv_goto (tgt := 148) hx hb dX1_near_143 (by decide) ?_
            exact hend dX1_near_148 rfl rfl hf hR hS
        · replace hf := ww_in hf c_7
          refine lv_aload_n hx hb dX1_near_46 rfl (lv_at hl 0 rfl) ?_
          refine c1g_97 X hK hR dX1_near_47 ?_
          refine lv_iload hx hb dX1_near_50 (lv_at hl 6 rfl) ?_
          obtain ⟨h_9, hq⟩ := ww_gS hf; replace hf := hq; clear hq
          refine c1l_29 X hK hR h_9 dX1_near_52 ?_
          refine lv_iload_n hx hb dX1_near_53 rfl (lv_at hl 1 rfl) ?_
          have hj_1 : ∀ (t0 : Int32), f1_near_j1 D_6 x2 x3 r_6 x5 x6 x7 t0 = some z_1 → ∀ (H : Heap) (locs : List Loc) (ls : Array Slot), cw_H E A D_6 H → va_S A s.heap H locs → lv_has ls 9 [(0, .ref E.1.1), (2, .int x2), (3, .int x3), (4, .int r_6), (5, .int x5), (6, .int x6), (7, .int x7)] → W p l e Rm s m args below meth c H locs 0 0 Q (F0 m 62 ls [.int t0]) := by
            clear hf
            intro t0 hf
            unfold f1_near_j1 at hf
            try clear hl
            try clear hS
            try clear hR
            intro H locs ls hR hS hl
            refine lv_istore (lv' := [(8, .int t0), (0, .ref E.1.1), (2, .int x2), (3, .int x3), (4, .int r_6), (5, .int x5), (6, .int x6), (7, .int x7)]) hx hb dX1_near_62 hl (by decide) rfl (fun ls hl => ?_)
            refine lv_aload_n hx hb dX1_near_64 rfl (lv_at hl 1 rfl) ?_
            refine c1g_97 X hK hR dX1_near_65 ?_
            refine lv_iload hx hb dX1_near_68 (lv_at hl 7 rfl) ?_
            obtain ⟨h_10, hq⟩ := ww_gS hf; replace hf := hq; clear hq
            refine c1l_29 X hK hR h_10 dX1_near_70 ?_
            refine lv_iload_n hx hb dX1_near_71 rfl (lv_at hl 2 rfl) ?_
            have hj_2 : ∀ (x5_1 : Int32), f1_near_j2 D_6 x2 x3 r_6 x6 x7 t0 x5_1 = some z_1 → ∀ (H : Heap) (locs : List Loc) (ls : Array Slot), cw_H E A D_6 H → va_S A s.heap H locs → lv_has ls 9 [(0, .ref E.1.1), (2, .int x2), (3, .int x3), (4, .int r_6), (5, .int x5_1), (6, .int x6), (7, .int x7), (8, .int t0)] → W p l e Rm s m args below meth c H locs 0 0 Q (F0 m 93 ls []) := by
              clear hf
              intro x5_1 hf
              unfold f1_near_j2 at hf
              try clear hl
              try clear hS
              try clear hR
              intro H locs ls hR hS hl
              refine lv_iload hx hb dX1_near_93 (lv_at hl 5 rfl) ?_
              refine lv_iconst (v := (-1 : Int32)) hx hb dX1_near_95 (by decide) ?_
              refine lv_icmp_ne (tgt := 129) hx hb dX1_near_96 (by decide) (fun c_11 => ?_) (fun c_11 => ?_)
              · replace hf := ww_in hf c_11
                refine lv_iinc (k := 6) (v := x7 + (1 : Int32)) (lv' := [(7, .int (x7 + (1 : Int32))), (0, .ref E.1.1), (2, .int x2), (3, .int x3), (4, .int r_6), (5, .int x5_1), (6, .int x6), (8, .int t0)]) hx hb dX1_near_129 hl rfl rfl (by decide) rfl (fun ls hl => ?_)
                refine lv_goto (tgt := 39) hx hb dX1_near_132 (by decide) ?_
                exact ww_lK hf hz_1 _ _ _ hR hS (lv_sub hl [1, 2, 3, 4, 5, 6, 0] rfl)
              · replace hf := ww_ip hf c_11
                refine lv_aload_n hx hb dX1_near_99 rfl (lv_at hl 0 rfl) ?_
                refine c1g_97 X hK hR dX1_near_100 ?_
                refine lv_iload hx hb dX1_near_103 (lv_at hl 6 rfl) ?_
                obtain ⟨h_12, hq⟩ := ww_gS hf; replace hf := hq; clear hq
                refine c1l_29 X hK hR h_12 dX1_near_105 ?_
                refine lv_iload_n hx hb dX1_near_106 rfl (lv_at hl 1 rfl) ?_
                refine lv_icmp_gt (tgt := 120) hx hb dX1_near_107 (by decide) (fun c_13 => ?_) (fun c_13 => ?_)
                · replace hf := ww_ip hf c_13
                  refine lv_aload_n hx hb dX1_near_120 rfl (lv_at hl 0 rfl) ?_
                  refine c1g_97 X hK hR dX1_near_121 ?_
                  refine lv_iload hx hb dX1_near_124 (lv_at hl 6 rfl) ?_
                  obtain ⟨h_14, hq⟩ := ww_gS hf; replace hf := hq; clear hq
                  refine c1l_29 X hK hR h_14 dX1_near_126 ?_
                  refine lv_istore (lv' := [(6, .int (ww_X D_6.1 29 x7)), (0, .ref E.1.1), (2, .int x2), (3, .int x3), (4, .int r_6), (5, .int x5_1), (7, .int x7), (8, .int t0)]) hx hb dX1_near_127 hl (by decide) rfl (fun ls hl => ?_)
                  refine lv_iinc (k := 6) (v := x7 + (1 : Int32)) (lv' := [(7, .int (x7 + (1 : Int32))), (6, .int (ww_X D_6.1 29 x7)), (0, .ref E.1.1), (2, .int x2), (3, .int x3), (4, .int r_6), (5, .int x5_1), (8, .int t0)]) hx hb dX1_near_129 hl rfl rfl (by decide) rfl (fun ls hl => ?_)
                  refine lv_goto (tgt := 39) hx hb dX1_near_132 (by decide) ?_
                  exact ww_lK hf hz_1 _ _ _ hR hS (lv_sub hl [2, 3, 4, 5, 6, 1, 0] rfl)
                · replace hf := ww_in hf c_13
                  refine lv_iload hx hb dX1_near_110 (lv_at hl 7 rfl) ?_
                  refine lv_if_eq (tgt := 129) hx hb dX1_near_112 (by decide) (fun c_15 => ?_) (fun c_15 => ?_)
                  · replace hf := ww_ip hf c_15
                    refine lv_iinc (k := 6) (v := x7 + (1 : Int32)) (lv' := [(7, .int (x7 + (1 : Int32))), (0, .ref E.1.1), (2, .int x2), (3, .int x3), (4, .int r_6), (5, .int x5_1), (6, .int x6), (8, .int t0)]) hx hb dX1_near_129 hl rfl rfl (by decide) rfl (fun ls hl => ?_)
                    refine lv_goto (tgt := 39) hx hb dX1_near_132 (by decide) ?_
                    exact ww_lK hf hz_1 _ _ _ hR hS (lv_sub hl [1, 2, 3, 4, 5, 6, 0] rfl)
                  · replace hf := ww_in hf c_15
                    refine lv_iload_n hx hb dX1_near_115 rfl (lv_at hl 2 rfl) ?_
                    refine lv_iconst (v := (1 : Int32)) hx hb dX1_near_116 (by decide) ?_
                    refine lv_icmp_ne (tgt := 129) hx hb dX1_near_117 (by decide) (fun c_16 => ?_) (fun c_16 => ?_)
                    · replace hf := ww_in hf c_16
                      refine lv_iinc (k := 6) (v := x7 + (1 : Int32)) (lv' := [(7, .int (x7 + (1 : Int32))), (0, .ref E.1.1), (2, .int x2), (3, .int x3), (4, .int r_6), (5, .int x5_1), (6, .int x6), (8, .int t0)]) hx hb dX1_near_129 hl rfl rfl (by decide) rfl (fun ls hl => ?_)
                      refine lv_goto (tgt := 39) hx hb dX1_near_132 (by decide) ?_
                      exact ww_lK hf hz_1 _ _ _ hR hS (lv_sub hl [1, 2, 3, 4, 5, 6, 0] rfl)
                    · replace hf := ww_ip hf c_16
                      refine lv_aload_n hx hb dX1_near_120 rfl (lv_at hl 0 rfl) ?_
                      refine c1g_97 X hK hR dX1_near_121 ?_
                      refine lv_iload hx hb dX1_near_124 (lv_at hl 6 rfl) ?_
                      obtain ⟨h_17, hq⟩ := ww_gS hf; replace hf := hq; clear hq
                      refine c1l_29 X hK hR h_17 dX1_near_126 ?_
                      refine lv_istore (lv' := [(6, .int (ww_X D_6.1 29 x7)), (0, .ref E.1.1), (2, .int x2), (3, .int x3), (4, .int r_6), (5, .int x5_1), (7, .int x7), (8, .int t0)]) hx hb dX1_near_127 hl (by decide) rfl (fun ls hl => ?_)
                      refine lv_iinc (k := 6) (v := x7 + (1 : Int32)) (lv' := [(7, .int (x7 + (1 : Int32))), (6, .int (ww_X D_6.1 29 x7)), (0, .ref E.1.1), (2, .int x2), (3, .int x3), (4, .int r_6), (5, .int x5_1), (8, .int t0)]) hx hb dX1_near_129 hl rfl rfl (by decide) rfl (fun ls hl => ?_)
                      refine lv_goto (tgt := 39) hx hb dX1_near_132 (by decide) ?_
                      exact ww_lK hf hz_1 _ _ _ hR hS (lv_sub hl [2, 3, 4, 5, 6, 1, 0] rfl)
            refine lv_icmp_lt (tgt := 84) hx hb dX1_near_72 (by decide) (fun c_18 => ?_) (fun c_18 => ?_)
            · replace hf := ww_ip hf c_18
              refine lv_aload_n hx hb dX1_near_84 rfl (lv_at hl 1 rfl) ?_
              refine c1g_97 X hK hR dX1_near_85 ?_
              refine lv_iload hx hb dX1_near_88 (lv_at hl 7 rfl) ?_
              obtain ⟨h_19, hq⟩ := ww_gS hf; replace hf := hq; clear hq
              refine c1l_29 X hK hR h_19 dX1_near_90 ?_
              refine lv_istore (lv' := [(5, .int (ww_X D_6.1 29 x7)), (8, .int t0), (0, .ref E.1.1), (2, .int x2), (3, .int x3), (4, .int r_6), (6, .int x6), (7, .int x7)]) hx hb dX1_near_91 hl (by decide) rfl (fun ls hl => ?_)
              exact hj_2 (ww_X D_6.1 29 x7) hf _ _ _ hR hS (lv_sub hl [2, 3, 4, 5, 0, 6, 7, 1] rfl)
            · replace hf := ww_in hf c_18
              refine lv_iload hx hb dX1_near_75 (lv_at hl 0 rfl) ?_
              refine lv_if_eq (tgt := 93) hx hb dX1_near_77 (by decide) (fun c_20 => ?_) (fun c_20 => ?_)
              · replace hf := ww_ip hf c_20
                exact hj_2 x5 hf _ _ _ hR hS (lv_sub hl [1, 2, 3, 4, 5, 6, 7, 0] rfl)
              · replace hf := ww_in hf c_20
                refine lv_iload_n hx hb dX1_near_80 rfl (lv_at hl 3 rfl) ?_
                refine lv_if_ne (tgt := 93) hx hb dX1_near_81 (by decide) (fun c_21 => ?_) (fun c_21 => ?_)
                · replace hf := ww_in hf c_21
                  exact hj_2 x5 hf _ _ _ hR hS (lv_sub hl [1, 2, 3, 4, 5, 6, 7, 0] rfl)
                · replace hf := ww_ip hf c_21
                  refine lv_aload_n hx hb dX1_near_84 rfl (lv_at hl 1 rfl) ?_
                  refine c1g_97 X hK hR dX1_near_85 ?_
                  refine lv_iload hx hb dX1_near_88 (lv_at hl 7 rfl) ?_
                  obtain ⟨h_22, hq⟩ := ww_gS hf; replace hf := hq; clear hq
                  refine c1l_29 X hK hR h_22 dX1_near_90 ?_
                  refine lv_istore (lv' := [(5, .int (ww_X D_6.1 29 x7)), (8, .int t0), (0, .ref E.1.1), (2, .int x2), (3, .int x3), (4, .int r_6), (6, .int x6), (7, .int x7)]) hx hb dX1_near_91 hl (by decide) rfl (fun ls hl => ?_)
                  exact hj_2 (ww_X D_6.1 29 x7) hf _ _ _ hR hS (lv_sub hl [2, 3, 4, 5, 0, 6, 7, 1] rfl)
          refine lv_icmp_ne (tgt := 61) hx hb dX1_near_54 (by decide) (fun c_23 => ?_) (fun c_23 => ?_)
          · replace hf := ww_in hf c_23
            refine lv_iconst (v := (0 : Int32)) hx hb dX1_near_61 (by decide) ?_
            exact hj_1 (0 : Int32) hf _ _ _ hR hS hl
          · replace hf := ww_ip hf c_23
            refine lv_iconst (v := (1 : Int32)) hx hb dX1_near_57 (by decide) ?_
            refine lv_goto (tgt := 62) hx hb dX1_near_58 (by decide) ?_
            exact hj_1 (1 : Int32) hf _ _ _ hR hS hl
      exact hL_1 ((-1 : Int32), (-1 : Int32), (0 : Int32)) hf _ _ _ hR hS (lv_sub hl [4, 6, 7, 3, 2, 1, 0] rfl)
    · replace hf := ww_ip hf c_4
      refine lv_iconst (v := (-1 : Int32)) hx hb dX1_near_17 (by decide) ?_
      exact hend dX1_near_18 rfl rfl hf hR hS
noncomputable def f1_total (D : cw_D) (x1 : Int32) (x2 : Int32) (x3 : Int32) : Option (Int32 × cw_D) :=
  ww_b (f1_isMap D x1) (fun r_1 => if r_1 = 0 then some ((-1000000 : Int32), D) else ww_b (f1_rootOf D x1) (fun r_3 => ww_b2 (f1_totalOf D r_3 x2 x3) (fun r_4 D_4 => some (r_4, D_4))))
set_option maxHeartbeats 4000000 in
set_option maxRecDepth 100000 in
theorem met1_total (l : Launch) {E : cw_E} {A : Nat → Prop} (D : cw_D) (x1 : Int32) (x2 : Int32) (x3 : Int32) (r : Int32) (D' : cw_D) (hf : f1_total D x1 x2 x3 = some (r, D')) : cw_MetI l yX1_total cX1_total 4 (some Jvm.ClassFile.FieldType.int) 22 466 E A [.ref E.1.1, .int x1, .int x2, .int x3] D D' r 0 0 := by
  unfold f1_total at hf
  refine cw_sID (own := RX1) (by decide +kernel) [(0, .ref E.1.1), (1, .int x1), (2, .int x2), (3, .int x3)] ⟨Nat.le_of_ble_eq_true rfl, rfl⟩ ?_
  intro p e s m args below meth c Rm Q X hK hF hLo hin hend ls hl hR hS
  obtain ⟨hx, hb, hml, hown, hts⟩ := id X
  refine lv_aload_n hx hb dX1_total_0 rfl (lv_at hl 0 rfl) ?_
  refine lv_iload_n hx hb dX1_total_1 rfl (lv_at hl 1 rfl) ?_
  obtain ⟨r_1, h_1, hq⟩ := ww_bS hf; replace hf := hq; clear hq
  refine c1c_1_isMap X hl.1 hK hR hS (Nat.le_trans (Nat.le_of_ble_eq_true rfl) hF) (Nat.le_trans (Nat.le_of_ble_eq_true rfl) hLo) (Nat.zero_le _) (Nat.zero_le _) h_1 (cw_rest (Nat.le_of_ble_eq_true rfl)) dX1_total_2 (fun H locs hR hS => ?_)
  refine lv_if_eq (tgt := 22) hx hb dX1_total_5 (by decide) (fun c_2 => ?_) (fun c_2 => ?_)
  · replace hf := ww_ip hf c_2
    refine lv_ldc (v := (-1000000 : Int32)) hx hb hown (hts _ q420) dX1_total_22 ?_
    exact hend dX1_total_24 rfl rfl hf hR hS
  · replace hf := ww_in hf c_2
    refine lv_aload_n hx hb dX1_total_8 rfl (lv_at hl 0 rfl) ?_
    refine lv_aload_n hx hb dX1_total_9 rfl (lv_at hl 0 rfl) ?_
    refine lv_iload_n hx hb dX1_total_10 rfl (lv_at hl 1 rfl) ?_
    obtain ⟨r_3, h_3, hq⟩ := ww_bS hf; replace hf := hq; clear hq
    refine c1c_1_rootOf X hl.1 hK hR hS (Nat.le_trans (Nat.le_of_ble_eq_true rfl) hF) (Nat.le_trans (Nat.le_of_ble_eq_true rfl) hLo) (Nat.zero_le _) (Nat.zero_le _) h_3 (cw_rest (Nat.le_of_ble_eq_true rfl)) dX1_total_11 (fun H locs hR hS => ?_)
    refine lv_iload_n hx hb dX1_total_14 rfl (lv_at hl 2 rfl) ?_
    refine lv_iload_n hx hb dX1_total_15 rfl (lv_at hl 3 rfl) ?_
    obtain ⟨r_4, D_4, h_4, hq⟩ := ww_b2S hf; replace hf := hq; clear hq
    refine c1c_1_totalOf (x1 := r_3) X hl.1 hK hR hS (Nat.le_trans (Nat.le_of_ble_eq_true rfl) hF) (Nat.le_trans (Nat.le_of_ble_eq_true rfl) hLo) (Nat.zero_le _) (Nat.zero_le _) h_4 (cw_rest (Nat.le_of_ble_eq_true rfl)) dX1_total_16 (fun H locs hR hS => ?_)
    refine lv_goto (tgt := 24) hx hb dX1_total_19 (by decide) ?_
    exact hend dX1_total_24 rfl rfl hf hR hS
noncomputable def f1_seek_b1c (rec : cw_D → Option Nat → Int32 → Option (Option Nat × cw_D)) (y1 : Option Nat) (y2 : Int32) (D_2 : cw_D) (x3 : Int32) : Option ((cw_D × Int32) ⊕ (Option Nat × cw_D)) :=
  ww_b y1 (fun a_3 => ww_g (cw_kd D_2 [1, 2] (some a_3)) (ww_b (f6_many D_2 a_3) (fun r_5 => if r_5 ≤ x3 then ww_x (some (none, D_2)) else ww_b (f5r_isLeaf f8_isLeaf D_2 a_3) (fun r_7 => if r_7 = 0 then ww_b (f5r_kid f8_kid D_2 a_3 x3) (fun r_9 => ww_b2 (rec D_2 r_9 (y2 + (1 : Int32))) (fun r_10 D_10 => ww_o r_10 (some (.inl (D_10, (x3 + (1 : Int32))))) (fun a_11 => ww_x (some ((some a_11), D_10))))) else ww_x (some (none, D_2))))))
noncomputable def f1_seek_b1 (rec : cw_D → Option Nat → Int32 → Option (Option Nat × cw_D)) (y1 : Option Nat) (y2 : Int32) : (cw_D × Int32) → Option ((cw_D × Int32) ⊕ (Option Nat × cw_D)) := fun s9 => f1_seek_b1c rec y1 y2 s9.1 s9.2
noncomputable def f1_seek_r (rec : cw_D → Option Nat → Int32 → Option (Option Nat × cw_D)) (D : cw_D) (x1 : Option Nat) (x2 : Int32) : Option (Option Nat × cw_D) :=
  if (ww_F D.1 32) = 0 then some (x1, (cw_sF D 33 x2)) else ww_U (f1_seek_b1 rec x1 x2) ((cw_sF D 32 ((ww_F D.1 32) - (1 : Int32))), (0 : Int32))
noncomputable def f1_seek : Nat → cw_D → Option Nat → Int32 → Option (Option Nat × cw_D)
  | 0 => fun _ _ _ => none
  | d + 1 => f1_seek_r (f1_seek d)
section C_1_seek_k
variable {p : Program} {l : Launch} {e : Env} {R : Room} {s : State} {m : MethodId} {args : Array Value} {below : List Frame} {meth : Method} {c : Code} {H : Heap} {locs : List Loc} {cells slots : Nat} {Q : State → Prop}
variable {cc : ByteArray} {pc : Nat} {ls : Array Slot} {rest : List Value} {nL : Nat} {E : cw_E} {A : Nat → Prop} {H0 : Heap}
theorem c1k_1_seek {D : cw_D} {x1 : Option Nat} {x2 : Int32} {r : Option Nat} {D' : cw_D} {d : Nat} (X : ww_C p m c cc nL s args RX1 lw_all) (hsz : ls.size = nL) (hK : cw_K E A s) (hR : cw_H E A D H) (hS : va_S A s.heap H locs) (hF : (d + 1) + 1 ≤ R.frames) (hLo : 8 + (5 + 11) + (24 * d + 21) ≤ R.locals) (hc : cells ≤ R.cells) (hs : slots ≤ R.slots) (hM : cw_MetQ l yX1_seek cX1_seek 5 (some (Jvm.ClassFile.FieldType.object "WideMap$Node")) (d + 1) (24 * d + 21) E A [.ref E.1.1, va_rf x1, .int x2] D D' r 0 0) (hrest : (rest.map fun v => v.category).sum ≤ 8) (hdg : decode cc pc = .ok (.invokevirtual 354, 3)) (kk : ∀ (H1 : Heap) (locs1 : List Loc), cw_H E A D' H1 → va_S A s.heap H1 locs1 → W p l e R s m args below meth c H1 locs1 cells slots Q (F0 m (pc + 3) ls (va_rf r :: rest))) : W p l e R s m args below meth c H locs cells slots Q (F0 m pc ls (.int x2 :: va_rf x1 :: .ref E.1.1 :: rest)) :=
  va_callq (va_runV (C := RX1) (As := [va_rf x1, .int x2]) (rest := rest) (b := E.1.1) X hM (cwV 2 X.2.2.2.2 (lw_V q1181 q1183 qs30 q131 q1184) rfl rfl rfl (by decide +kernel) ⟨hF, hLo⟩) (cw_pV hK hR hS (cw_rcM hK hR)) rfl rfl hsz rfl (lv_room hrest) hdg ⟨hc, hs⟩) hS (fun q _ h => h) (fun q h => h) (fun r' u t H1 locs1 ht hvm hw hB hz1 hk1 hS1 => by subst hw; rw [ht] at hB; exact kk H1 locs1 hB hS1)
end C_1_seek_k
set_option maxHeartbeats 4000000 in
set_option maxRecDepth 100000 in
theorem met1_seek (l : Launch) {E : cw_E} {A : Nat → Prop} : ∀ (d : Nat) (D : cw_D) (x1 : Option Nat) (x2 : Int32) (r : Option Nat) (D' : cw_D), f1_seek d D x1 x2 = some (r, D') → cw_MetQ l yX1_seek cX1_seek 5 (some (Jvm.ClassFile.FieldType.object "WideMap$Node")) (d + 1) (24 * d + 21) E A [.ref E.1.1, va_rf x1, .int x2] D D' r 0 0 := by
  intro d
  induction d with
  | zero => intro D x1 x2 r D' hf; cases hf
  | succ d ih =>
    intro D x1 x2 r D' hf
    replace hf : f1_seek_r (f1_seek d) D x1 x2 = some (r, D') := hf
    unfold f1_seek_r at hf
    refine cw_sQD (own := RX1) (by decide +kernel) [(0, .ref E.1.1), (1, va_rf x1), (2, .int x2)] ⟨by cases x1 <;> exact Nat.le_of_ble_eq_true rfl, by cases x1 <;> rfl⟩ ?_
    intro p e s m args below meth c Rm Q X hK hF hLo hin hend ls hl hR hS
    obtain ⟨hx, hb, hml, hown, hts⟩ := id X
    refine lv_aload_n hx hb dX1_seek_0 rfl (lv_at hl 0 rfl) ?_
    refine c1g_348 X hK hR dX1_seek_1 ?_
    refine lv_if_ne (tgt := 14) hx hb dX1_seek_4 (by decide) (fun c_1 => ?_) (fun c_1 => ?_)
    · replace hf := ww_in hf c_1
      refine lv_aload_n hx hb dX1_seek_14 rfl (lv_at hl 0 rfl) ?_
      refine lv_dup hx hb dX1_seek_15 rfl ?_
      refine c1g_348 X hK hR dX1_seek_16 ?_
      refine lv_iconst (v := (1 : Int32)) hx hb dX1_seek_19 (by decide) ?_
      refine lv_isub hx hb dX1_seek_20 ?_
      refine c1p_348 X hK hR hS dX1_seek_21 (fun H locs hR hS => ?_)
      refine lv_iconst (v := (0 : Int32)) hx hb dX1_seek_24 (by decide) ?_
      refine lv_istore_n (lv' := [(3, .int (0 : Int32)), (0, .ref E.1.1), (1, va_rf x1), (2, .int x2)]) hx hb dX1_seek_25 rfl hl (by decide) rfl (fun ls hl => ?_)
      have hL_1 : ∀ s9 : cw_D × Int32, ww_U (f1_seek_b1 (f1_seek d) x1 x2) s9 = some (r, D') → ∀ (H : Heap) (locs : List Loc) (ls : Array Slot), cw_H E A s9.1 H → va_S A s.heap H locs → lv_has ls 5 [(0, .ref E.1.1), (1, va_rf x1), (2, .int x2), (3, .int s9.2)] → W p l e Rm s m args below meth c H locs 0 0 Q (F0 m 26 ls []) := by
        clear hf
        refine ww_ind _ (r, D') ?_
        intro s9 z_1 hf hz_1
        obtain ⟨D_2, x3⟩ := s9
        replace hf : f1_seek_b1c (f1_seek d) x1 x2 D_2 x3 = some z_1 := hf
        unfold f1_seek_b1c at hf
        try clear hl
        try clear hS
        try clear hR
        intro H locs ls hR hS hl
        replace hR : cw_H E A D_2 H := hR
        replace hl : lv_has ls 5 [(0, .ref E.1.1), (1, va_rf x1), (2, .int x2), (3, .int x3)] := hl
        refine lv_iload_n hx hb dX1_seek_26 rfl (lv_at hl 3 rfl) ?_
        refine cw_aload_n (x := x1) hx hb dX1_seek_27 rfl (lv_at hl 1 rfl) ?_
        obtain ⟨a_3, e_3, hq⟩ := ww_bS hf; replace hf := hq; clear hq
        subst e_3
        obtain ⟨h_4, hq⟩ := ww_gS hf; replace hf := hq; clear hq
        obtain ⟨r_5, h_5, hq⟩ := ww_bS hf; replace hf := hq; clear hq
        refine c1i_many X hl.1 hK hR hS (by omega) (by omega) (Nat.zero_le _) (Nat.zero_le _) h_4 h_5 (cw_rest (Nat.le_of_ble_eq_true rfl)) dX1_seek_28 (fun H locs hR hS => ?_)
        refine lv_icmp_ge (tgt := 75) hx hb dX1_seek_33 (by decide) (fun c_6 => ?_) (fun c_6 => ?_)
        · replace hf := ww_ip hf c_6
          replace hf := ww_xK hf hz_1
          refine lv_null hx hb dX1_seek_75 ?_
          exact hend (v := none) dX1_seek_76 rfl (Or.inl ⟨_, rfl⟩) hf hR hS
        · replace hf := ww_in hf c_6
          refine lv_aload_n hx hb dX1_seek_36 rfl (lv_at hl 1 rfl) ?_
          obtain ⟨r_7, h_7, hq⟩ := ww_bS hf; replace hf := hq; clear hq
          refine c1i_isLeaf X hl.1 hK hR hS (by omega) (by omega) (Nat.zero_le _) (Nat.zero_le _) h_7 (cw_rest (Nat.le_of_ble_eq_true rfl)) dX1_seek_37 (fun H locs hR hS => ?_)
          refine lv_if_ne (tgt := 75) hx hb dX1_seek_42 (by decide) (fun c_8 => ?_) (fun c_8 => ?_)
          · replace hf := ww_in hf c_8
            replace hf := ww_xK hf hz_1
            refine lv_null hx hb dX1_seek_75 ?_
            exact hend (v := none) dX1_seek_76 rfl (Or.inl ⟨_, rfl⟩) hf hR hS
          · replace hf := ww_ip hf c_8
            refine lv_aload_n hx hb dX1_seek_45 rfl (lv_at hl 0 rfl) ?_
            refine lv_aload_n hx hb dX1_seek_46 rfl (lv_at hl 1 rfl) ?_
            refine lv_iload_n hx hb dX1_seek_47 rfl (lv_at hl 3 rfl) ?_
            obtain ⟨r_9, h_9, hq⟩ := ww_bS hf; replace hf := hq; clear hq
            refine c1i_kid X hl.1 hK hR hS (by omega) (by omega) (Nat.zero_le _) (Nat.zero_le _) h_9 (cw_rest (Nat.le_of_ble_eq_true rfl)) dX1_seek_48 (fun H locs hR hS => ?_)
            refine lv_iload_n hx hb dX1_seek_53 rfl (lv_at hl 2 rfl) ?_
            refine lv_iconst (v := (1 : Int32)) hx hb dX1_seek_54 (by decide) ?_
            refine lv_iadd hx hb dX1_seek_55 ?_
            obtain ⟨r_10, D_10, h_10, hq⟩ := ww_b2S hf; replace hf := hq; clear hq
            refine c1k_1_seek (x1 := r_9) X hl.1 hK hR hS (by omega) (by omega) (Nat.zero_le _) (Nat.zero_le _) (ih _ _ _ _ _ h_10) (cw_rest (Nat.le_of_ble_eq_true rfl)) dX1_seek_56 (fun H locs hR hS => ?_)
            refine cw_astore (x := r_10) (lv' := [(4, va_rf r_10), (0, .ref E.1.1), (1, .ref a_3), (2, .int x2), (3, .int x3)]) hx hb dX1_seek_59 hl (by decide) rfl (fun ls hl => ?_)
            refine cw_aload (x := r_10) hx hb dX1_seek_61 (lv_at hl 0 rfl) ?_
            rcases r_10 with _ | a_11
            · replace hf := ww_oN hf
              refine lv_ifnullN (tgt := 69) hx hb dX1_seek_63 (by decide) ?_
              refine lv_iinc (k := 4) (v := x3 + (1 : Int32)) (lv' := [(3, .int (x3 + (1 : Int32))), (4, .null), (0, .ref E.1.1), (1, .ref a_3), (2, .int x2)]) hx hb dX1_seek_69 hl rfl rfl (by decide) rfl (fun ls hl => ?_)
              refine lv_goto (tgt := 26) hx hb dX1_seek_72 (by decide) ?_
              exact ww_lK hf hz_1 _ _ _ hR hS (lv_sub hl [2, 3, 4, 0] rfl)
            · replace hf := ww_oS hf
              refine lv_ifnull hx hb dX1_seek_63 ?_
              replace hf := ww_xK hf hz_1
              refine lv_aload hx hb dX1_seek_66 (lv_at hl 0 rfl) ?_
              exact hend (v := (some a_11)) dX1_seek_68 rfl (Or.inl ⟨_, rfl⟩) hf hR hS
      exact hL_1 ((cw_sF D 32 ((ww_F D.1 32) - (1 : Int32))), (0 : Int32)) hf _ _ _ hR hS (lv_sub hl [1, 2, 3, 0] rfl)
    · replace hf := ww_ip hf c_1
      refine lv_aload_n hx hb dX1_seek_7 rfl (lv_at hl 0 rfl) ?_
      refine lv_iload_n hx hb dX1_seek_8 rfl (lv_at hl 2 rfl) ?_
      refine c1p_351 X hK hR hS dX1_seek_9 (fun H locs hR hS => ?_)
      refine cw_aload_n (x := x1) hx hb dX1_seek_12 rfl (lv_at hl 1 rfl) ?_
      exact hend (v := x1) dX1_seek_13 rfl (Or.inl ⟨_, rfl⟩) hf hR hS
section C_1_seek_c
variable {p : Program} {l : Launch} {e : Env} {R : Room} {s : State} {m : MethodId} {args : Array Value} {below : List Frame} {meth : Method} {c : Code} {H : Heap} {locs : List Loc} {cells slots : Nat} {Q : State → Prop}
variable {cc : ByteArray} {pc : Nat} {ls : Array Slot} {rest : List Value} {nL : Nat} {E : cw_E} {A : Nat → Prop} {H0 : Heap}
theorem c1c_1_seek {D : cw_D} {x1 : Option Nat} {x2 : Int32} {r : Option Nat} {D' : cw_D} (X : ww_C p m c cc nL s args RX1 lw_all) (hsz : ls.size = nL) (hK : cw_K E A s) (hR : cw_H E A D H) (hS : va_S A s.heap H locs) (hF : 10 ≤ R.frames) (hLo : 237 ≤ R.locals) (hc : cells ≤ R.cells) (hs : slots ≤ R.slots) (hf : f1_seek 8 D x1 x2 = some (r, D')) (hrest : (rest.map fun v => v.category).sum ≤ 8) (hdg : decode cc pc = .ok (.invokevirtual 354, 3)) (kk : ∀ (H1 : Heap) (locs1 : List Loc), cw_H E A D' H1 → va_S A s.heap H1 locs1 → W p l e R s m args below meth c H1 locs1 cells slots Q (F0 m (pc + 3) ls (va_rf r :: rest))) : W p l e R s m args below meth c H locs cells slots Q (F0 m pc ls (.int x2 :: va_rf x1 :: .ref E.1.1 :: rest)) :=
  c1k_1_seek (d := 8) X hsz hK hR hS hF hLo hc hs (met1_seek l 8 _ _ _ _ _ hf) hrest hdg kk
end C_1_seek_c
noncomputable def f1_inHowMany_b1c (D : cw_D) (y1 : Option Nat) (x2 : Int32) (x3 : Int32) : Option ((Int32 × Int32) ⊕ (Int32)) :=
  if (ww_F D.1 14) ≤ x3 then ww_x (some x2) else ww_g (ww_i x3 16) (ww_b (some (ww_Y D.1 12 x3)) (fun r_2 => ww_b r_2 (fun a_4 => ww_g (cw_kd D [1, 2] (some a_4)) (ww_b (f5_hasIn 8 D a_4 y1) (fun r_6 => if r_6 = 0 then some (.inl (x2, (x3 + (1 : Int32)))) else some (.inl ((x2 + (1 : Int32)), (x3 + (1 : Int32)))))))))
noncomputable def f1_inHowMany_b1 (D : cw_D) (y1 : Option Nat) : (Int32 × Int32) → Option ((Int32 × Int32) ⊕ (Int32)) := fun s9 => f1_inHowMany_b1c D y1 s9.1 s9.2
noncomputable def f1_inHowMany (D : cw_D) (x1 : Option Nat) : Option (Int32) :=
  ww_U (f1_inHowMany_b1 D x1) ((0 : Int32), (0 : Int32))
section C_1_inHowMany_k
variable {p : Program} {l : Launch} {e : Env} {R : Room} {s : State} {m : MethodId} {args : Array Value} {below : List Frame} {meth : Method} {c : Code} {H : Heap} {locs : List Loc} {cells slots : Nat} {Q : State → Prop}
variable {cc : ByteArray} {pc : Nat} {ls : Array Slot} {rest : List Value} {nL : Nat} {E : cw_E} {A : Nat → Prop} {H0 : Heap}
theorem c1k_1_inHowMany {D : cw_D} {x1 : Option Nat} {r : Int32} (X : ww_C p m c cc nL s args RX1 lw_all) (hsz : ls.size = nL) (hK : cw_K E A s) (hR : cw_H E A D H) (hS : va_S A s.heap H locs) (hF : 11 ≤ R.frames) (hLo : 242 ≤ R.locals) (hc : cells ≤ R.cells) (hs : slots ≤ R.slots) (hM : cw_MetI l yX1_inHowMany cX1_inHowMany 4 (some Jvm.ClassFile.FieldType.int) 10 219 E A [.ref E.1.1, va_rf x1] D D r 0 0) (hrest : (rest.map fun v => v.category).sum ≤ 8) (hdg : decode cc pc = .ok (.invokevirtual 364, 3)) (kk : ∀ (H1 : Heap) (locs1 : List Loc), cw_H E A D H1 → va_S A s.heap H1 locs1 → W p l e R s m args below meth c H1 locs1 cells slots Q (F0 m (pc + 3) ls (.int r :: rest))) : W p l e R s m args below meth c H locs cells slots Q (F0 m pc ls (va_rf x1 :: .ref E.1.1 :: rest)) :=
  va_calli (va_runV (C := RX1) (As := [va_rf x1]) (rest := rest) (b := E.1.1) X hM (cwV 1 X.2.2.2.2 (lw_V q1187 q1189 qs31 q131 q1190) rfl rfl rfl (by decide +kernel) ⟨hF, hLo⟩) (cw_pV hK hR hS (cw_rcM hK hR)) rfl rfl hsz rfl (lv_room hrest) hdg ⟨hc, hs⟩) hS (fun q _ h => h) (fun q h => h) (fun r' u t H1 locs1 ht hvm hw hB hz1 hk1 hS1 => by subst hw; rw [ht] at hB; exact kk H1 locs1 hB hS1)
end C_1_inHowMany_k
set_option maxHeartbeats 4000000 in
set_option maxRecDepth 100000 in
theorem met1_inHowMany (l : Launch) {E : cw_E} {A : Nat → Prop} (D : cw_D) (x1 : Option Nat) (r : Int32) (hf : f1_inHowMany D x1 = some r) : cw_MetI l yX1_inHowMany cX1_inHowMany 4 (some Jvm.ClassFile.FieldType.int) 10 219 E A [.ref E.1.1, va_rf x1] D D r 0 0 := by
  unfold f1_inHowMany at hf
  refine cw_sIP (own := RX1) (by decide +kernel) [(0, .ref E.1.1), (1, va_rf x1)] ⟨by cases x1 <;> exact Nat.le_of_ble_eq_true rfl, by cases x1 <;> rfl⟩ ?_
  intro p e s m args below meth c Rm Q X hK hF hLo hin hend ls hl hR hS
  obtain ⟨hx, hb, hml, hown, hts⟩ := id X
  refine lv_iconst (v := (0 : Int32)) hx hb dX1_inHowMany_0 (by decide) ?_
  refine lv_istore_n (lv' := [(2, .int (0 : Int32)), (0, .ref E.1.1), (1, va_rf x1)]) hx hb dX1_inHowMany_1 rfl hl (by decide) (by cases x1 <;> rfl) (fun ls hl => ?_)
  refine lv_iconst (v := (0 : Int32)) hx hb dX1_inHowMany_2 (by decide) ?_
  refine lv_istore_n (lv' := [(3, .int (0 : Int32)), (2, .int (0 : Int32)), (0, .ref E.1.1), (1, va_rf x1)]) hx hb dX1_inHowMany_3 rfl hl (by decide) rfl (fun ls hl => ?_)
  have hL_1 : ∀ s9 : Int32 × Int32, ww_U (f1_inHowMany_b1 D x1) s9 = some r → ∀ (H : Heap) (locs : List Loc) (ls : Array Slot), cw_H E A D H → va_S A s.heap H locs → lv_has ls 4 [(0, .ref E.1.1), (1, va_rf x1), (2, .int s9.1), (3, .int s9.2)] → W p l e Rm s m args below meth c H locs 0 0 Q (F0 m 4 ls []) := by
    clear hf
    refine ww_ind _ r ?_
    intro s9 z_1 hf hz_1
    obtain ⟨x2, x3⟩ := s9
    replace hf : f1_inHowMany_b1c D x1 x2 x3 = some z_1 := hf
    unfold f1_inHowMany_b1c at hf
    try clear hl
    try clear hS
    try clear hR
    intro H locs ls hR hS hl
    replace hl : lv_has ls 4 [(0, .ref E.1.1), (1, va_rf x1), (2, .int x2), (3, .int x3)] := hl
    refine lv_iload_n hx hb dX1_inHowMany_4 rfl (lv_at hl 3 rfl) ?_
    refine lv_aload_n hx hb dX1_inHowMany_5 rfl (lv_at hl 0 rfl) ?_
    refine c1g_240 X hK hR dX1_inHowMany_6 ?_
    refine lv_icmp_ge (tgt := 36) hx hb dX1_inHowMany_9 (by decide) (fun c_1 => ?_) (fun c_1 => ?_)
    · replace hf := ww_ip hf c_1
      replace hf := ww_xK hf hz_1
      refine lv_iload_n hx hb dX1_inHowMany_36 rfl (lv_at hl 2 rfl) ?_
      exact hend dX1_inHowMany_37 rfl rfl hf hR hS
    · replace hf := ww_in hf c_1
      refine lv_aload_n hx hb dX1_inHowMany_12 rfl (lv_at hl 0 rfl) ?_
      refine c1g_65 X hK hR dX1_inHowMany_13 ?_
      refine lv_iload_n hx hb dX1_inHowMany_16 rfl (lv_at hl 3 rfl) ?_
      obtain ⟨h_3, hq⟩ := ww_gS hf; replace hf := hq; clear hq
      obtain ⟨r_2, h_2, hq⟩ := ww_bS hf; replace hf := hq; clear hq
      refine c1l_12 X hK hR h_3 h_2 dX1_inHowMany_17 ?_
      refine cw_aload_n (x := x1) hx hb dX1_inHowMany_18 rfl (lv_at hl 1 rfl) ?_
      obtain ⟨a_4, e_4, hq⟩ := ww_bS hf; replace hf := hq; clear hq
      subst e_4
      obtain ⟨h_5, hq⟩ := ww_gS hf; replace hf := hq; clear hq
      obtain ⟨r_6, h_6, hq⟩ := ww_bS hf; replace hf := hq; clear hq
      refine c1i_hasIn (x1 := x1) X hl.1 hK hR hS (Nat.le_trans (Nat.le_of_ble_eq_true rfl) hF) (Nat.le_trans (Nat.le_of_ble_eq_true rfl) hLo) (Nat.zero_le _) (Nat.zero_le _) h_5 h_6 (cw_rest (Nat.le_of_ble_eq_true rfl)) dX1_inHowMany_19 (fun H locs hR hS => ?_)
      refine lv_if_eq (tgt := 30) hx hb dX1_inHowMany_24 (by decide) (fun c_7 => ?_) (fun c_7 => ?_)
      · replace hf := ww_ip hf c_7
        refine lv_iinc (k := 3) (v := x3 + (1 : Int32)) (lv' := [(3, .int (x3 + (1 : Int32))), (0, .ref E.1.1), (1, va_rf x1), (2, .int x2)]) hx hb dX1_inHowMany_30 hl rfl rfl (by decide) rfl (fun ls hl => ?_)
        refine lv_goto (tgt := 4) hx hb dX1_inHowMany_33 (by decide) ?_
        exact ww_lK hf hz_1 _ _ _ hR hS (lv_sub hl [1, 2, 3, 0] rfl)
      · replace hf := ww_in hf c_7
        refine lv_iinc (k := 2) (v := x2 + (1 : Int32)) (lv' := [(2, .int (x2 + (1 : Int32))), (0, .ref E.1.1), (1, va_rf x1), (3, .int x3)]) hx hb dX1_inHowMany_27 hl rfl rfl (by decide) (by cases x1 <;> rfl) (fun ls hl => ?_)
        refine lv_iinc (k := 3) (v := x3 + (1 : Int32)) (lv' := [(3, .int (x3 + (1 : Int32))), (2, .int (x2 + (1 : Int32))), (0, .ref E.1.1), (1, va_rf x1)]) hx hb dX1_inHowMany_30 hl rfl rfl (by decide) rfl (fun ls hl => ?_)
        refine lv_goto (tgt := 4) hx hb dX1_inHowMany_33 (by decide) ?_
        exact ww_lK hf hz_1 _ _ _ hR hS (lv_sub hl [2, 3, 1, 0] rfl)
  exact hL_1 ((0 : Int32), (0 : Int32)) hf _ _ _ hR hS (lv_sub hl [2, 3, 1, 0] rfl)
section C_1_inHowMany_c
variable {p : Program} {l : Launch} {e : Env} {R : Room} {s : State} {m : MethodId} {args : Array Value} {below : List Frame} {meth : Method} {c : Code} {H : Heap} {locs : List Loc} {cells slots : Nat} {Q : State → Prop}
variable {cc : ByteArray} {pc : Nat} {ls : Array Slot} {rest : List Value} {nL : Nat} {E : cw_E} {A : Nat → Prop} {H0 : Heap}
theorem c1c_1_inHowMany {D : cw_D} {x1 : Option Nat} {r : Int32} (X : ww_C p m c cc nL s args RX1 lw_all) (hsz : ls.size = nL) (hK : cw_K E A s) (hR : cw_H E A D H) (hS : va_S A s.heap H locs) (hF : 11 ≤ R.frames) (hLo : 242 ≤ R.locals) (hc : cells ≤ R.cells) (hs : slots ≤ R.slots) (hf : f1_inHowMany D x1 = some r) (hrest : (rest.map fun v => v.category).sum ≤ 8) (hdg : decode cc pc = .ok (.invokevirtual 364, 3)) (kk : ∀ (H1 : Heap) (locs1 : List Loc), cw_H E A D H1 → va_S A s.heap H1 locs1 → W p l e R s m args below meth c H1 locs1 cells slots Q (F0 m (pc + 3) ls (.int r :: rest))) : W p l e R s m args below meth c H locs cells slots Q (F0 m pc ls (va_rf x1 :: .ref E.1.1 :: rest)) :=
  c1k_1_inHowMany X hsz hK hR hS hF hLo hc hs (met1_inHowMany l _ _ _ hf) hrest hdg kk
end C_1_inHowMany_c
noncomputable def f1_node (D : cw_D) (x1 : Int32) (x2 : Int32) (x3 : Int32) : Option (Int32 × cw_D) :=
  ww_b (f1_isMap D x1) (fun r_1 => if r_1 = 0 then some ((-1000000 : Int32), D) else if x2 < 0 then some ((-1000000 : Int32), D) else ww_b (f1_in x3 (0 : Int32) (5 : Int32)) (fun r_4 => if r_4 = 0 then some ((-1000000 : Int32), D) else ww_b (f1_rootOf (cw_sF D 32 x2) x1) (fun r_6 => ww_b2 (f1_seek 8 (cw_sF D 32 x2) r_6 (0 : Int32)) (fun r_7 D_7 => ww_o r_7 (some ((-1000000 : Int32), D_7)) (fun a_8 => if x3 = 0 then ww_b (f5r_isLeaf f8_isLeaf D_7 a_8) (fun r_10 => if r_10 = 0 then some ((0 : Int32), D_7) else some ((1 : Int32), D_7)) else if x3 = 1 then ww_g (cw_kd D_7 [1, 2] (some a_8)) (ww_b (f6_many D_7 a_8) (fun r_14 => some (r_14, D_7))) else if x3 = 2 then ww_b (f5r_low (f8_low 8) D_7 a_8) (fun r_16 => some (r_16, D_7)) else if x3 = 3 then some ((ww_F D_7.1 33), D_7) else if x3 = 4 then ww_b (f1_inHowMany D_7 (some a_8)) (fun r_19 => some (r_19, D_7)) else ww_b2 (f1_sizeOf D_7 (some a_8)) (fun r_20 D_20 => some (r_20, D_20)))))))
set_option maxHeartbeats 4000000 in
set_option maxRecDepth 100000 in
theorem met1_node (l : Launch) {E : cw_E} {A : Nat → Prop} (D : cw_D) (x1 : Int32) (x2 : Int32) (x3 : Int32) (r : Int32) (D' : cw_D) (hf : f1_node D x1 x2 x3 = some (r, D')) : cw_MetI l yX1_node cX1_node 5 (some Jvm.ClassFile.FieldType.int) 12 286 E A [.ref E.1.1, .int x1, .int x2, .int x3] D D' r 0 0 := by
  unfold f1_node at hf
  refine cw_sID (own := RX1) (by decide +kernel) [(0, .ref E.1.1), (1, .int x1), (2, .int x2), (3, .int x3)] ⟨Nat.le_of_ble_eq_true rfl, rfl⟩ ?_
  intro p e s m args below meth c Rm Q X hK hF hLo hin hend ls hl hR hS
  obtain ⟨hx, hb, hml, hown, hts⟩ := id X
  refine lv_aload_n hx hb dX1_node_0 rfl (lv_at hl 0 rfl) ?_
  refine lv_iload_n hx hb dX1_node_1 rfl (lv_at hl 1 rfl) ?_
  obtain ⟨r_1, h_1, hq⟩ := ww_bS hf; replace hf := hq; clear hq
  refine c1c_1_isMap X hl.1 hK hR hS (Nat.le_trans (Nat.le_of_ble_eq_true rfl) hF) (Nat.le_trans (Nat.le_of_ble_eq_true rfl) hLo) (Nat.zero_le _) (Nat.zero_le _) h_1 (cw_rest (Nat.le_of_ble_eq_true rfl)) dX1_node_2 (fun H locs hR hS => ?_)
  refine lv_if_eq (tgt := 21) hx hb dX1_node_5 (by decide) (fun c_2 => ?_) (fun c_2 => ?_)
  · replace hf := ww_ip hf c_2
    refine lv_ldc (v := (-1000000 : Int32)) hx hb hown (hts _ q420) dX1_node_21 ?_
    exact hend dX1_node_23 rfl rfl hf hR hS
  · replace hf := ww_in hf c_2
    refine lv_iload_n hx hb dX1_node_8 rfl (lv_at hl 2 rfl) ?_
    refine lv_if_lt (tgt := 21) hx hb dX1_node_9 (by decide) (fun c_3 => ?_) (fun c_3 => ?_)
    · replace hf := ww_ip hf c_3
      refine lv_ldc (v := (-1000000 : Int32)) hx hb hown (hts _ q420) dX1_node_21 ?_
      exact hend dX1_node_23 rfl rfl hf hR hS
    · replace hf := ww_in hf c_3
      refine lv_iload_n hx hb dX1_node_12 rfl (lv_at hl 3 rfl) ?_
      refine lv_iconst (v := (0 : Int32)) hx hb dX1_node_13 (by decide) ?_
      refine lv_iconst (v := (5 : Int32)) hx hb dX1_node_14 (by decide) ?_
      obtain ⟨r_4, h_4, hq⟩ := ww_bS hf; replace hf := hq; clear hq
      refine c1c_1_in X hl.1 (Nat.le_trans (Nat.le_of_ble_eq_true rfl) hF) (Nat.le_trans (Nat.le_of_ble_eq_true rfl) hLo) (Nat.zero_le _) (Nat.zero_le _) h_4 (cw_rest (Nat.le_of_ble_eq_true rfl)) dX1_node_15 ?_
      refine lv_if_ne (tgt := 24) hx hb dX1_node_18 (by decide) (fun c_5 => ?_) (fun c_5 => ?_)
      · replace hf := ww_in hf c_5
        refine lv_aload_n hx hb dX1_node_24 rfl (lv_at hl 0 rfl) ?_
        refine lv_iload_n hx hb dX1_node_25 rfl (lv_at hl 2 rfl) ?_
        refine c1p_348 X hK hR hS dX1_node_26 (fun H locs hR hS => ?_)
        refine lv_aload_n hx hb dX1_node_29 rfl (lv_at hl 0 rfl) ?_
        refine lv_aload_n hx hb dX1_node_30 rfl (lv_at hl 0 rfl) ?_
        refine lv_iload_n hx hb dX1_node_31 rfl (lv_at hl 1 rfl) ?_
        obtain ⟨r_6, h_6, hq⟩ := ww_bS hf; replace hf := hq; clear hq
        refine c1c_1_rootOf X hl.1 hK hR hS (Nat.le_trans (Nat.le_of_ble_eq_true rfl) hF) (Nat.le_trans (Nat.le_of_ble_eq_true rfl) hLo) (Nat.zero_le _) (Nat.zero_le _) h_6 (cw_rest (Nat.le_of_ble_eq_true rfl)) dX1_node_32 (fun H locs hR hS => ?_)
        refine lv_iconst (v := (0 : Int32)) hx hb dX1_node_35 (by decide) ?_
        obtain ⟨r_7, D_7, h_7, hq⟩ := ww_b2S hf; replace hf := hq; clear hq
        refine c1c_1_seek (x1 := r_6) X hl.1 hK hR hS (Nat.le_trans (Nat.le_of_ble_eq_true rfl) hF) (Nat.le_trans (Nat.le_of_ble_eq_true rfl) hLo) (Nat.zero_le _) (Nat.zero_le _) h_7 (cw_rest (Nat.le_of_ble_eq_true rfl)) dX1_node_36 (fun H locs hR hS => ?_)
        refine cw_astore (x := r_7) (lv' := [(4, va_rf r_7), (0, .ref E.1.1), (1, .int x1), (2, .int x2), (3, .int x3)]) hx hb dX1_node_39 hl (by decide) rfl (fun ls hl => ?_)
        refine cw_aload (x := r_7) hx hb dX1_node_41 (lv_at hl 0 rfl) ?_
        rcases r_7 with _ | a_8
        · replace hf := ww_oN hf
          refine lv_ifnonnullN hx hb dX1_node_43 ?_
          refine lv_ldc (v := (-1000000 : Int32)) hx hb hown (hts _ q420) dX1_node_46 ?_
          exact hend dX1_node_48 rfl rfl hf hR hS
        · replace hf := ww_oS hf
          refine lv_ifnonnull (tgt := 49) hx hb dX1_node_43 (by decide) ?_
          refine lv_iload_n hx hb dX1_node_49 rfl (lv_at hl 4 rfl) ?_
          refine ww_by (x3 = 0) (fun c_9 => ?_) (fun c_9 => ?_)
          · replace hf := ww_ip hf c_9
            refine ww_tin (k := 0) (off := 34) (tgt := 84) hx hb dX1_node_50 c_9 (by decide) (by decide) (by decide) (by decide) ?_
            refine lv_aload hx hb dX1_node_84 (lv_at hl 0 rfl) ?_
            obtain ⟨r_10, h_10, hq⟩ := ww_bS hf; replace hf := hq; clear hq
            refine c1i_isLeaf X hl.1 hK hR hS (Nat.le_trans (Nat.le_of_ble_eq_true rfl) hF) (Nat.le_trans (Nat.le_of_ble_eq_true rfl) hLo) (Nat.zero_le _) (Nat.zero_le _) h_10 (cw_rest (Nat.le_of_ble_eq_true rfl)) dX1_node_86 (fun H locs hR hS => ?_)
            refine lv_if_eq (tgt := 98) hx hb dX1_node_91 (by decide) (fun c_11 => ?_) (fun c_11 => ?_)
            · replace hf := ww_ip hf c_11
              refine lv_iconst (v := (0 : Int32)) hx hb dX1_node_98 (by decide) ?_
              refine lv_goto (tgt := 143) hx hb dX1_node_99 (by decide) ?_
              exact hend dX1_node_143 rfl rfl hf hR hS
            · replace hf := ww_in hf c_11
              refine lv_iconst (v := (1 : Int32)) hx hb dX1_node_94 (by decide) ?_
              refine lv_goto (tgt := 143) hx hb dX1_node_95 (by decide) ?_
              exact hend dX1_node_143 rfl rfl hf hR hS
          replace hf := ww_in hf c_9
          refine ww_by (x3 = 1) (fun c_12 => ?_) (fun c_12 => ?_)
          · replace hf := ww_ip hf c_12
            refine ww_tin (k := 1) (off := 52) (tgt := 102) hx hb dX1_node_50 c_12 (by decide) (by decide) (by decide) (by decide) ?_
            refine lv_aload hx hb dX1_node_102 (lv_at hl 0 rfl) ?_
            obtain ⟨h_13, hq⟩ := ww_gS hf; replace hf := hq; clear hq
            obtain ⟨r_14, h_14, hq⟩ := ww_bS hf; replace hf := hq; clear hq
            refine c1i_many X hl.1 hK hR hS (Nat.le_trans (Nat.le_of_ble_eq_true rfl) hF) (Nat.le_trans (Nat.le_of_ble_eq_true rfl) hLo) (Nat.zero_le _) (Nat.zero_le _) h_13 h_14 (cw_rest (Nat.le_of_ble_eq_true rfl)) dX1_node_104 (fun H locs hR hS => ?_)
            refine lv_goto (tgt := 143) hx hb dX1_node_109 (by decide) ?_
            exact hend dX1_node_143 rfl rfl hf hR hS
          replace hf := ww_in hf c_12
          refine ww_by (x3 = 2) (fun c_15 => ?_) (fun c_15 => ?_)
          · replace hf := ww_ip hf c_15
            refine ww_tin (k := 2) (off := 62) (tgt := 112) hx hb dX1_node_50 c_15 (by decide) (by decide) (by decide) (by decide) ?_
            refine lv_aload hx hb dX1_node_112 (lv_at hl 0 rfl) ?_
            obtain ⟨r_16, h_16, hq⟩ := ww_bS hf; replace hf := hq; clear hq
            refine c1i_low X hl.1 hK hR hS (Nat.le_trans (Nat.le_of_ble_eq_true rfl) hF) (Nat.le_trans (Nat.le_of_ble_eq_true rfl) hLo) (Nat.zero_le _) (Nat.zero_le _) h_16 (cw_rest (Nat.le_of_ble_eq_true rfl)) dX1_node_114 (fun H locs hR hS => ?_)
            refine lv_goto (tgt := 143) hx hb dX1_node_119 (by decide) ?_
            exact hend dX1_node_143 rfl rfl hf hR hS
          replace hf := ww_in hf c_15
          refine ww_by (x3 = 3) (fun c_17 => ?_) (fun c_17 => ?_)
          · replace hf := ww_ip hf c_17
            refine ww_tin (k := 3) (off := 72) (tgt := 122) hx hb dX1_node_50 c_17 (by decide) (by decide) (by decide) (by decide) ?_
            refine lv_aload_n hx hb dX1_node_122 rfl (lv_at hl 1 rfl) ?_
            refine c1g_351 X hK hR dX1_node_123 ?_
            refine lv_goto (tgt := 143) hx hb dX1_node_126 (by decide) ?_
            exact hend dX1_node_143 rfl rfl hf hR hS
          replace hf := ww_in hf c_17
          refine ww_by (x3 = 4) (fun c_18 => ?_) (fun c_18 => ?_)
          · replace hf := ww_ip hf c_18
            refine ww_tin (k := 4) (off := 79) (tgt := 129) hx hb dX1_node_50 c_18 (by decide) (by decide) (by decide) (by decide) ?_
            refine lv_aload_n hx hb dX1_node_129 rfl (lv_at hl 1 rfl) ?_
            refine lv_aload hx hb dX1_node_130 (lv_at hl 0 rfl) ?_
            obtain ⟨r_19, h_19, hq⟩ := ww_bS hf; replace hf := hq; clear hq
            refine c1c_1_inHowMany (x1 := (some a_8)) X hl.1 hK hR hS (Nat.le_trans (Nat.le_of_ble_eq_true rfl) hF) (Nat.le_trans (Nat.le_of_ble_eq_true rfl) hLo) (Nat.zero_le _) (Nat.zero_le _) h_19 (cw_rest (Nat.le_of_ble_eq_true rfl)) dX1_node_132 (fun H locs hR hS => ?_)
            refine lv_goto (tgt := 143) hx hb dX1_node_135 (by decide) ?_
            exact hend dX1_node_143 rfl rfl hf hR hS
          replace hf := ww_in hf c_18
          refine ww_tout (tgt := 138) [0, 1, 2, 3, 4] hx hb dX1_node_50 ⟨c_9, c_12, c_15, c_17, c_18, trivial⟩ (by decide) (by decide) ?_
          refine lv_aload hx hb dX1_node_138 (lv_at hl 0 rfl) ?_
          obtain ⟨r_20, D_20, h_20, hq⟩ := ww_b2S hf; replace hf := hq; clear hq
          refine c1c_1_sizeOf (x0 := (some a_8)) X hl.1 hK hR hS (Nat.le_trans (Nat.le_of_ble_eq_true rfl) hF) (Nat.le_trans (Nat.le_of_ble_eq_true rfl) hLo) (Nat.zero_le _) (Nat.zero_le _) h_20 (cw_rest (Nat.le_of_ble_eq_true rfl)) dX1_node_140 (fun H locs hR hS => ?_)
          exact hend dX1_node_143 rfl rfl hf hR hS
      · replace hf := ww_ip hf c_5
        refine lv_ldc (v := (-1000000 : Int32)) hx hb hown (hts _ q420) dX1_node_21 ?_
        exact hend dX1_node_23 rfl rfl hf hR hS
noncomputable def f1_isKey (x0 : Int32) : Option (Int32) :=
  ww_b (f1_in x0 (0 : Int32) (999 : Int32)) (fun r_1 => ww_g (ww_z r_1) (some r_1))
set_option maxHeartbeats 4000000 in
set_option maxRecDepth 100000 in
theorem met1_isKey (l : Launch) (x0 : Int32) (r : Int32) (hf : f1_isKey x0 = some r) : t3_MetS l yX1_isKey cX1_isKey 1 (some Jvm.ClassFile.FieldType.boolean) 1 22 [.int x0] r := by
  unfold f1_isKey at hf
  refine t3_startS (own := RX1) (by decide +kernel) (Nat.le_of_ble_eq_true rfl) ?_
  intro p e s m args below meth c Rm Q X hF hLo hend ls hl hS; have hR : s.heap = s.heap := rfl
  obtain ⟨hx, hb, hml, hown, hts⟩ := id X
  replace hl : lv_has ls 1 [(0, .int x0)] := hl
  refine lv_iload_n hx hb dX1_isKey_0 rfl (lv_at hl 0 rfl) ?_
  refine lv_iconst (v := (0 : Int32)) hx hb dX1_isKey_1 (by decide) ?_
  refine lv_sipush (v := (999 : Int32)) hx hb dX1_isKey_2 (by decide) ?_
  obtain ⟨r_1, h_1, hq⟩ := ww_bS hf; replace hf := hq; clear hq
  refine c1c_1_in X hl.1 (Nat.le_trans (Nat.le_of_ble_eq_true rfl) hF) (Nat.le_trans (Nat.le_of_ble_eq_true rfl) hLo) (Nat.zero_le _) (Nat.zero_le _) h_1 (cw_rest (Nat.le_of_ble_eq_true rfl)) dX1_isKey_5 ?_
  obtain ⟨h_2, hq⟩ := ww_gS hf; replace hf := hq; clear hq
  exact hend dX1_isKey_8 rfl (ww_zn h_2) hf hR hS
section C_1_isKey_c
variable {p : Program} {l : Launch} {e : Env} {R : Room} {s : State} {m : MethodId} {args : Array Value} {below : List Frame} {meth : Method} {c : Code} {H : Heap} {locs : List Loc} {cells slots : Nat} {Q : State → Prop}
variable {cc : ByteArray} {pc : Nat} {ls : Array Slot} {rest : List Value} {nL : Nat} {E : cw_E} {A : Nat → Prop} {H0 : Heap}
theorem c1c_1_isKey {x0 : Int32} {r : Int32} (X : ww_C p m c cc nL s args RX1 lw_all) (hsz : ls.size = nL) (hF : 2 ≤ R.frames) (hLo : 42 ≤ R.locals) (hc : cells ≤ R.cells) (hs : slots ≤ R.slots) (hf : f1_isKey x0 = some r) (hrest : (rest.map fun v => v.category).sum ≤ 8) (hdg : decode cc pc = .ok (.invokestatic 367, 3)) (kk : W p l e R s m args below meth c H locs cells slots Q (F0 m (pc + 3) ls (.int r :: rest))) : W p l e R s m args below meth c H locs cells slots Q (F0 m pc ls (.int x0 :: rest)) :=
  t3_callS (n := 1) X hsz (As := [.int x0]) (met1_isKey l x0 r hf) (lw_S q1206 q1207 q131 q1208) (by decide +kernel) rfl hF hLo hc hs hrest hdg kk
end C_1_isKey_c
noncomputable def f1_isValue (x0 : Int32) : Option (Int32) :=
  ww_b (f1_in x0 (-999 : Int32) (999 : Int32)) (fun r_1 => ww_g (ww_z r_1) (some r_1))
set_option maxHeartbeats 4000000 in
set_option maxRecDepth 100000 in
theorem met1_isValue (l : Launch) (x0 : Int32) (r : Int32) (hf : f1_isValue x0 = some r) : t3_MetS l yX1_isValue cX1_isValue 1 (some Jvm.ClassFile.FieldType.boolean) 1 22 [.int x0] r := by
  unfold f1_isValue at hf
  refine t3_startS (own := RX1) (by decide +kernel) (Nat.le_of_ble_eq_true rfl) ?_
  intro p e s m args below meth c Rm Q X hF hLo hend ls hl hS; have hR : s.heap = s.heap := rfl
  obtain ⟨hx, hb, hml, hown, hts⟩ := id X
  replace hl : lv_has ls 1 [(0, .int x0)] := hl
  refine lv_iload_n hx hb dX1_isValue_0 rfl (lv_at hl 0 rfl) ?_
  refine lv_sipush (v := (-999 : Int32)) hx hb dX1_isValue_1 (by decide) ?_
  refine lv_sipush (v := (999 : Int32)) hx hb dX1_isValue_4 (by decide) ?_
  obtain ⟨r_1, h_1, hq⟩ := ww_bS hf; replace hf := hq; clear hq
  refine c1c_1_in X hl.1 (Nat.le_trans (Nat.le_of_ble_eq_true rfl) hF) (Nat.le_trans (Nat.le_of_ble_eq_true rfl) hLo) (Nat.zero_le _) (Nat.zero_le _) h_1 (cw_rest (Nat.le_of_ble_eq_true rfl)) dX1_isValue_7 ?_
  obtain ⟨h_2, hq⟩ := ww_gS hf; replace hf := hq; clear hq
  exact hend dX1_isValue_10 rfl (ww_zn h_2) hf hR hS
section C_1_isValue_c
variable {p : Program} {l : Launch} {e : Env} {R : Room} {s : State} {m : MethodId} {args : Array Value} {below : List Frame} {meth : Method} {c : Code} {H : Heap} {locs : List Loc} {cells slots : Nat} {Q : State → Prop}
variable {cc : ByteArray} {pc : Nat} {ls : Array Slot} {rest : List Value} {nL : Nat} {E : cw_E} {A : Nat → Prop} {H0 : Heap}
theorem c1c_1_isValue {x0 : Int32} {r : Int32} (X : ww_C p m c cc nL s args RX1 lw_all) (hsz : ls.size = nL) (hF : 2 ≤ R.frames) (hLo : 42 ≤ R.locals) (hc : cells ≤ R.cells) (hs : slots ≤ R.slots) (hf : f1_isValue x0 = some r) (hrest : (rest.map fun v => v.category).sum ≤ 8) (hdg : decode cc pc = .ok (.invokestatic 370, 3)) (kk : W p l e R s m args below meth c H locs cells slots Q (F0 m (pc + 3) ls (.int r :: rest))) : W p l e R s m args below meth c H locs cells slots Q (F0 m pc ls (.int x0 :: rest)) :=
  t3_callS (n := 1) X hsz (As := [.int x0]) (met1_isValue l x0 r hf) (lw_S q1209 q1210 q131 q1211) (by decide +kernel) rfl hF hLo hc hs hrest hdg kk
end C_1_isValue_c
noncomputable def f1_canLay (D : cw_D) (x1 : Option Nat) (x2 : Int32) : Option (Int32 × cw_D) :=
  ww_b (f1_valueIn D x1 x2) (fun r_1 => if r_1 = (-1000000 : Int32) then ww_b2 (f1_sizeOf D x1) (fun r_3 D_3 => if (60 : Int32) ≤ r_3 then some ((0 : Int32), D_3) else some ((1 : Int32), D_3)) else some ((1 : Int32), D))
section C_1_canLay_k
variable {p : Program} {l : Launch} {e : Env} {R : Room} {s : State} {m : MethodId} {args : Array Value} {below : List Frame} {meth : Method} {c : Code} {H : Heap} {locs : List Loc} {cells slots : Nat} {Q : State → Prop}
variable {cc : ByteArray} {pc : Nat} {ls : Array Slot} {rest : List Value} {nL : Nat} {E : cw_E} {A : Nat → Prop} {H0 : Heap}
theorem c1k_1_canLay {D : cw_D} {x1 : Option Nat} {x2 : Int32} {r : Int32} {D' : cw_D} (X : ww_C p m c cc nL s args RX1 lw_all) (hsz : ls.size = nL) (hK : cw_K E A s) (hR : cw_H E A D H) (hS : va_S A s.heap H locs) (hF : 14 ≤ R.frames) (hLo : 308 ≤ R.locals) (hc : cells ≤ R.cells) (hs : slots ≤ R.slots) (hM : cw_MetI l yX1_canLay cX1_canLay 3 (some Jvm.ClassFile.FieldType.boolean) 13 286 E A [.ref E.1.1, va_rf x1, .int x2] D D' r 0 0) (hrest : (rest.map fun v => v.category).sum ≤ 8) (hdg : decode cc pc = .ok (.invokevirtual 373, 3)) (kk : ∀ (H1 : Heap) (locs1 : List Loc), cw_H E A D' H1 → va_S A s.heap H1 locs1 → W p l e R s m args below meth c H1 locs1 cells slots Q (F0 m (pc + 3) ls (.int r :: rest))) : W p l e R s m args below meth c H locs cells slots Q (F0 m pc ls (.int x2 :: va_rf x1 :: .ref E.1.1 :: rest)) :=
  va_calli (va_runV (C := RX1) (As := [va_rf x1, .int x2]) (rest := rest) (b := E.1.1) X hM (cwV 2 X.2.2.2.2 (lw_V q1212 q1214 qs32 q131 q1215) rfl rfl rfl (by decide +kernel) ⟨hF, hLo⟩) (cw_pV hK hR hS (cw_rcM hK hR)) rfl rfl hsz rfl (lv_room hrest) hdg ⟨hc, hs⟩) hS (fun q _ h => h) (fun q h => h) (fun r' u t H1 locs1 ht hvm hw hB hz1 hk1 hS1 => by subst hw; rw [ht] at hB; exact kk H1 locs1 hB hS1)
end C_1_canLay_k
set_option maxHeartbeats 4000000 in
set_option maxRecDepth 100000 in
theorem met1_canLay (l : Launch) {E : cw_E} {A : Nat → Prop} (D : cw_D) (x1 : Option Nat) (x2 : Int32) (r : Int32) (D' : cw_D) (hf : f1_canLay D x1 x2 = some (r, D')) : cw_MetI l yX1_canLay cX1_canLay 3 (some Jvm.ClassFile.FieldType.boolean) 13 286 E A [.ref E.1.1, va_rf x1, .int x2] D D' r 0 0 := by
  unfold f1_canLay at hf
  refine cw_sID (own := RX1) (by decide +kernel) [(0, .ref E.1.1), (1, va_rf x1), (2, .int x2)] ⟨by cases x1 <;> exact Nat.le_of_ble_eq_true rfl, by cases x1 <;> rfl⟩ ?_
  intro p e s m args below meth c Rm Q X hK hF hLo hin hend ls hl hR hS
  obtain ⟨hx, hb, hml, hown, hts⟩ := id X
  refine cw_aload_n (x := x1) hx hb dX1_canLay_0 rfl (lv_at hl 1 rfl) ?_
  refine lv_iload_n hx hb dX1_canLay_1 rfl (lv_at hl 2 rfl) ?_
  obtain ⟨r_1, h_1, hq⟩ := ww_bS hf; replace hf := hq; clear hq
  refine c1c_1_valueIn (x0 := x1) X hl.1 hK hR hS (Nat.le_trans (Nat.le_of_ble_eq_true rfl) hF) (Nat.le_trans (Nat.le_of_ble_eq_true rfl) hLo) (Nat.zero_le _) (Nat.zero_le _) h_1 (cw_rest (Nat.le_of_ble_eq_true rfl)) dX1_canLay_2 (fun H locs hR hS => ?_)
  refine lv_ldc (v := (-1000000 : Int32)) hx hb hown (hts _ q420) dX1_canLay_5 ?_
  refine lv_icmp_ne (tgt := 19) hx hb dX1_canLay_7 (by decide) (fun c_2 => ?_) (fun c_2 => ?_)
  · replace hf := ww_in hf c_2
    refine lv_iconst (v := (1 : Int32)) hx hb dX1_canLay_19 (by decide) ?_
    refine lv_goto (tgt := 24) hx hb dX1_canLay_20 (by decide) ?_
    exact hend dX1_canLay_24 rfl (by decide) hf hR hS
  · replace hf := ww_ip hf c_2
    refine cw_aload_n (x := x1) hx hb dX1_canLay_10 rfl (lv_at hl 1 rfl) ?_
    obtain ⟨r_3, D_3, h_3, hq⟩ := ww_b2S hf; replace hf := hq; clear hq
    refine c1c_1_sizeOf (x0 := x1) X hl.1 hK hR hS (Nat.le_trans (Nat.le_of_ble_eq_true rfl) hF) (Nat.le_trans (Nat.le_of_ble_eq_true rfl) hLo) (Nat.zero_le _) (Nat.zero_le _) h_3 (cw_rest (Nat.le_of_ble_eq_true rfl)) dX1_canLay_11 (fun H locs hR hS => ?_)
    refine lv_bipush (v := (60 : Int32)) hx hb dX1_canLay_14 (by decide) ?_
    refine lv_icmp_ge (tgt := 23) hx hb dX1_canLay_16 (by decide) (fun c_4 => ?_) (fun c_4 => ?_)
    · replace hf := ww_ip hf c_4
      refine lv_iconst (v := (0 : Int32)) hx hb dX1_canLay_23 (by decide) ?_
      exact hend dX1_canLay_24 rfl (by decide) hf hR hS
    · replace hf := ww_in hf c_4
      refine lv_iconst (v := (1 : Int32)) hx hb dX1_canLay_19 (by decide) ?_
      refine lv_goto (tgt := 24) hx hb dX1_canLay_20 (by decide) ?_
      exact hend dX1_canLay_24 rfl (by decide) hf hR hS
section C_1_canLay_c
variable {p : Program} {l : Launch} {e : Env} {R : Room} {s : State} {m : MethodId} {args : Array Value} {below : List Frame} {meth : Method} {c : Code} {H : Heap} {locs : List Loc} {cells slots : Nat} {Q : State → Prop}
variable {cc : ByteArray} {pc : Nat} {ls : Array Slot} {rest : List Value} {nL : Nat} {E : cw_E} {A : Nat → Prop} {H0 : Heap}
theorem c1c_1_canLay {D : cw_D} {x1 : Option Nat} {x2 : Int32} {r : Int32} {D' : cw_D} (X : ww_C p m c cc nL s args RX1 lw_all) (hsz : ls.size = nL) (hK : cw_K E A s) (hR : cw_H E A D H) (hS : va_S A s.heap H locs) (hF : 14 ≤ R.frames) (hLo : 308 ≤ R.locals) (hc : cells ≤ R.cells) (hs : slots ≤ R.slots) (hf : f1_canLay D x1 x2 = some (r, D')) (hrest : (rest.map fun v => v.category).sum ≤ 8) (hdg : decode cc pc = .ok (.invokevirtual 373, 3)) (kk : ∀ (H1 : Heap) (locs1 : List Loc), cw_H E A D' H1 → va_S A s.heap H1 locs1 → W p l e R s m args below meth c H1 locs1 cells slots Q (F0 m (pc + 3) ls (.int r :: rest))) : W p l e R s m args below meth c H locs cells slots Q (F0 m pc ls (.int x2 :: va_rf x1 :: .ref E.1.1 :: rest)) :=
  c1k_1_canLay X hsz hK hR hS hF hLo hc hs (met1_canLay l _ _ _ _ _ hf) hrest hdg kk
end C_1_canLay_c
noncomputable def f1_having_j1 (cf : Nat) (kf : Nat) (y1 : Int32) (y2 : Int32) (y3 : Int32) (D_2 : cw_D) (t1 : Int32) : Option (Int32 × cw_D × Nat × Nat) :=
  ww_b2 (f1_isRefused D_2 t1) (fun r_3 D_3 => if r_3 = 0 then ww_b (f1_rootOf D_3 y1) (fun r_5 => ww_b (f4_init (cw_nO D_3 0) D_3.2.2 (ww_R (cw_nO D_3 0).1 99)) (fun D_6 => ww_b3 (f1_work D_6 r_5 (some D_3.2.2)) (fun D_7 c_7 k_7 => ww_b3 (f1_layNow D_7 y2 y3) (fun D_8 c_8 k_8 => ww_b (some (ww_R D_8.1 27)) (fun r_9 => ww_b2 (f1_holds D_8 r_9 y1 (-1 : Int32)) (fun r_10 D_10 => some (r_10, D_10, (((cf + 1) + c_7) + c_8), (((kf + 1) + k_7) + k_8)))))))) else some ((-1 : Int32), D_3, cf, kf))
noncomputable def f1_having (D : cw_D) (x1 : Int32) (x2 : Int32) (x3 : Int32) : Option (Int32 × cw_D × Nat × Nat) :=
  ww_b (f1_isMap D x1) (fun r_1 => if r_1 = 0 then f1_having_j1 0 0 x1 x2 x3 D (0 : Int32) else ww_b (f1_isKey x2) (fun r_12 => if r_12 = 0 then f1_having_j1 0 0 x1 x2 x3 D (1 : Int32) else ww_b (f1_isValue x3) (fun r_14 => if r_14 = 0 then f1_having_j1 0 0 x1 x2 x3 D (1 : Int32) else ww_b (f1_rootOf D x1) (fun r_16 => ww_b2 (f1_canLay D r_16 x2) (fun r_17 D_17 => if r_17 = 0 then f1_having_j1 0 0 x1 x2 x3 D_17 (3 : Int32) else ww_b (f1_isRoom D_17) (fun r_19 => if r_19 = 0 then f1_having_j1 0 0 x1 x2 x3 D_17 (4 : Int32) else f1_having_j1 0 0 x1 x2 x3 D_17 (-1 : Int32)))))))
set_option maxHeartbeats 4000000 in
set_option maxRecDepth 100000 in
theorem met1_having (l : Launch) {E : cw_E} {A : Nat → Prop} (D : cw_D) (x1 : Int32) (x2 : Int32) (x3 : Int32) (r : Int32) (D' : cw_D) (nc ns : Nat) (hf : f1_having D x1 x2 x3 = some (r, D', nc, ns)) : cw_MetI l yX1_having cX1_having 4 (some Jvm.ClassFile.FieldType.int) 21 497 E A [.ref E.1.1, .int x1, .int x2, .int x3] D D' r nc ns := by
  unfold f1_having at hf
  refine cw_sIN (own := RX1) (by decide +kernel) [(0, .ref E.1.1), (1, .int x1), (2, .int x2), (3, .int x3)] ⟨Nat.le_of_ble_eq_true rfl, rfl⟩ ?_
  intro p e s m args below meth c Rm Q X hK hF hLo hC hin hend ls hl hR hS
  obtain ⟨hx, hb, hml, hown, hts⟩ := id X
  have hm9 : 0 ≤ nc ∧ 0 ≤ ns := ⟨Nat.zero_le _, Nat.zero_le _⟩
  refine lv_aload_n hx hb dX1_having_0 rfl (lv_at hl 0 rfl) ?_
  refine lv_aload_n hx hb dX1_having_1 rfl (lv_at hl 0 rfl) ?_
  refine lv_iload_n hx hb dX1_having_2 rfl (lv_at hl 1 rfl) ?_
  obtain ⟨r_1, h_1, hq⟩ := ww_bS hf; replace hf := hq; clear hq
  refine c1c_1_isMap X hl.1 hK hR hS (Nat.le_trans (Nat.le_of_ble_eq_true rfl) hF) (Nat.le_trans (Nat.le_of_ble_eq_true rfl) hLo) (Nat.le_trans hm9.1 hC.1) (Nat.le_trans hm9.2 hC.2) h_1 (cw_rest (Nat.le_of_ble_eq_true rfl)) dX1_having_3 (fun H locs hR hS => ?_)
  have hj_1 : ∀ (D_2 : cw_D) (t1 : Int32), f1_having_j1 0 0 x1 x2 x3 D_2 t1 = some (r, D', nc, ns) → (0 ≤ nc ∧ 0 ≤ ns) ∧ (∀ (H : Heap) (locs : List Loc) (ls : Array Slot), cw_H E A D_2 H → va_S A s.heap H locs → lv_has ls 4 [(0, .ref E.1.1), (1, .int x1), (2, .int x2), (3, .int x3)] → W p l e Rm s m args below meth c H locs 0 0 Q (F0 m 60 ls [.int t1, .ref E.1.1])) := by
    clear hf
    intro D_2 t1 hf
    unfold f1_having_j1 at hf
    have hm9 : 0 ≤ nc ∧ 0 ≤ ns := by
      obtain ⟨r_3, D_3, h_3, hq⟩ := ww_b2S hf; replace hf := hq; clear hq
      refine ww_by (r_3 = 0) (fun c_4 => ?_) (fun c_4 => ?_)
      · replace hf := ww_ip hf c_4
        obtain ⟨r_5, h_5, hq⟩ := ww_bS hf; replace hf := hq; clear hq
        obtain ⟨D_6, h_6, hq⟩ := ww_bS hf; replace hf := hq; clear hq
        obtain ⟨D_7, c_7, k_7, h_7, hq⟩ := ww_b3S hf; replace hf := hq; clear hq
        obtain ⟨D_8, c_8, k_8, h_8, hq⟩ := ww_b3S hf; replace hf := hq; clear hq
        obtain ⟨r_9, h_9, hq⟩ := ww_bS hf; replace hf := hq; clear hq
        obtain ⟨r_10, D_10, h_10, hq⟩ := ww_b2S hf; replace hf := hq; clear hq
        have e9 := hf
        simp only [Option.some.injEq, Prod.mk.injEq] at e9
        omega
      · replace hf := ww_in hf c_4
        have e9 := hf
        simp only [Option.some.injEq, Prod.mk.injEq] at e9
        omega
    refine ⟨hm9, ?_⟩
    try clear hl
    try clear hS
    try clear hR
    intro H locs ls hR hS hl
    obtain ⟨r_3, D_3, h_3, hq⟩ := ww_b2S hf; replace hf := hq; clear hq
    refine c1c_1_isRefused X hl.1 hK hR hS (Nat.le_trans (Nat.le_of_ble_eq_true rfl) hF) (Nat.le_trans (Nat.le_of_ble_eq_true rfl) hLo) (Nat.le_trans hm9.1 hC.1) (Nat.le_trans hm9.2 hC.2) h_3 (cw_rest (Nat.le_of_ble_eq_true rfl)) dX1_having_60 (fun H locs hR hS => ?_)
    refine lv_if_eq (tgt := 68) hx hb dX1_having_63 (by decide) (fun c_4 => ?_) (fun c_4 => ?_)
    · replace hf := ww_ip hf c_4
      refine lv_aload_n hx hb dX1_having_68 rfl (lv_at hl 0 rfl) ?_
      refine lv_aload_n hx hb dX1_having_69 rfl (lv_at hl 0 rfl) ?_
      refine lv_iload_n hx hb dX1_having_70 rfl (lv_at hl 1 rfl) ?_
      obtain ⟨r_5, h_5, hq⟩ := ww_bS hf; replace hf := hq; clear hq
      refine c1c_1_rootOf X hl.1 hK hR hS (Nat.le_trans (Nat.le_of_ble_eq_true rfl) hF) (Nat.le_trans (Nat.le_of_ble_eq_true rfl) hLo) (Nat.le_trans hm9.1 hC.1) (Nat.le_trans hm9.2 hC.2) h_5 (cw_rest (Nat.le_of_ble_eq_true rfl)) dX1_having_71 (fun H locs hR hS => ?_)
      have hm9 : (0 + 1) ≤ nc ∧ (0 + 1) ≤ ns := by
        obtain ⟨D_6, h_6, hq⟩ := ww_bS hf; replace hf := hq; clear hq
        obtain ⟨D_7, c_7, k_7, h_7, hq⟩ := ww_b3S hf; replace hf := hq; clear hq
        obtain ⟨D_8, c_8, k_8, h_8, hq⟩ := ww_b3S hf; replace hf := hq; clear hq
        obtain ⟨r_9, h_9, hq⟩ := ww_bS hf; replace hf := hq; clear hq
        obtain ⟨r_10, D_10, h_10, hq⟩ := ww_b2S hf; replace hf := hq; clear hq
        have e9 := hf
        simp only [Option.some.injEq, Prod.mk.injEq] at e9
        omega
      refine cw_onew (ci := 0) (C := RX4) (T := TX4) (N := 1) rfl (by decide) in_X4 tyX4 tyX4_ok rfl X hK hR hS q234 q817 q151 (Nat.le_trans hm9.1 hC.1) (Nat.le_trans hm9.2 hC.2) dX1_having_74 (fun H hR hS => ?_)
      refine lv_dup hx hb dX1_having_77 rfl ?_
      refine lv_aload_n hx hb dX1_having_78 rfl (lv_at hl 0 rfl) ?_
      obtain ⟨D_6, h_6, hq⟩ := ww_bS hf; replace hf := hq; clear hq
      rw [show ww_R (cw_nO D_3 0).1 99 = some E.1.1 from cw_this hK hR] at h_6
      refine c1c_4_init (x1 := (some E.1.1)) X hl.1 hK hR hS (Nat.le_trans (Nat.le_of_ble_eq_true rfl) hF) (Nat.le_trans (Nat.le_of_ble_eq_true rfl) hLo) (Nat.le_trans hm9.1 hC.1) (Nat.le_trans hm9.2 hC.2) h_6 (cw_rest (Nat.le_of_ble_eq_true rfl)) dX1_having_79 (fun H locs hR hS => ?_)
      obtain ⟨D_7, c_7, k_7, h_7, hq⟩ := ww_b3S hf; replace hf := hq; clear hq
      have hm9 : ((0 + 1) + c_7) ≤ nc ∧ ((0 + 1) + k_7) ≤ ns := by
        obtain ⟨D_8, c_8, k_8, h_8, hq⟩ := ww_b3S hf; replace hf := hq; clear hq
        obtain ⟨r_9, h_9, hq⟩ := ww_bS hf; replace hf := hq; clear hq
        obtain ⟨r_10, D_10, h_10, hq⟩ := ww_b2S hf; replace hf := hq; clear hq
        have e9 := hf
        simp only [Option.some.injEq, Prod.mk.injEq] at e9
        omega
      refine c1c_1_work (x1 := r_5) (x2 := (some D_3.2.2)) X hl.1 hK hR hS (Nat.le_trans (Nat.le_of_ble_eq_true rfl) hF) (Nat.le_trans (Nat.le_of_ble_eq_true rfl) hLo) (Nat.le_trans hm9.1 hC.1) (Nat.le_trans hm9.2 hC.2) h_7 (cw_rest (Nat.le_of_ble_eq_true rfl)) dX1_having_82 (fun H locs hR hS => ?_)
      refine lv_aload_n hx hb dX1_having_85 rfl (lv_at hl 0 rfl) ?_
      refine lv_iload_n hx hb dX1_having_86 rfl (lv_at hl 2 rfl) ?_
      refine lv_iload_n hx hb dX1_having_87 rfl (lv_at hl 3 rfl) ?_
      obtain ⟨D_8, c_8, k_8, h_8, hq⟩ := ww_b3S hf; replace hf := hq; clear hq
      have hm9 : (((0 + 1) + c_7) + c_8) ≤ nc ∧ (((0 + 1) + k_7) + k_8) ≤ ns := by
        obtain ⟨r_9, h_9, hq⟩ := ww_bS hf; replace hf := hq; clear hq
        obtain ⟨r_10, D_10, h_10, hq⟩ := ww_b2S hf; replace hf := hq; clear hq
        have e9 := hf
        simp only [Option.some.injEq, Prod.mk.injEq] at e9
        omega
      refine c1c_1_layNow X hl.1 hK hR hS (Nat.le_trans (Nat.le_of_ble_eq_true rfl) hF) (Nat.le_trans (Nat.le_of_ble_eq_true rfl) hLo) (Nat.le_trans hm9.1 hC.1) (Nat.le_trans hm9.2 hC.2) h_8 (cw_rest (Nat.le_of_ble_eq_true rfl)) dX1_having_88 (fun H locs hR hS => ?_)
      refine lv_aload_n hx hb dX1_having_91 rfl (lv_at hl 0 rfl) ?_
      refine lv_aload_n hx hb dX1_having_92 rfl (lv_at hl 0 rfl) ?_
      obtain ⟨r_9, h_9, hq⟩ := ww_bS hf; replace hf := hq; clear hq
      refine c1g_226 X hK hR h_9 dX1_having_93 ?_
      refine lv_iload_n hx hb dX1_having_96 rfl (lv_at hl 1 rfl) ?_
      refine lv_iconst (v := (-1 : Int32)) hx hb dX1_having_97 (by decide) ?_
      obtain ⟨r_10, D_10, h_10, hq⟩ := ww_b2S hf; replace hf := hq; clear hq
      refine c1c_1_holds (x1 := r_9) X hl.1 hK hR hS (Nat.le_trans (Nat.le_of_ble_eq_true rfl) hF) (Nat.le_trans (Nat.le_of_ble_eq_true rfl) hLo) (Nat.le_trans hm9.1 hC.1) (Nat.le_trans hm9.2 hC.2) h_10 (cw_rest (Nat.le_of_ble_eq_true rfl)) dX1_having_98 (fun H locs hR hS => ?_)
      exact hend dX1_having_101 rfl rfl hf hR hS
    · replace hf := ww_in hf c_4
      refine lv_iconst (v := (-1 : Int32)) hx hb dX1_having_66 (by decide) ?_
      exact hend dX1_having_67 rfl rfl hf hR hS
  refine lv_if_ne (tgt := 13) hx hb dX1_having_6 (by decide) (fun c_11 => ?_) (fun c_11 => ?_)
  · replace hf := ww_in hf c_11
    refine lv_iload_n hx hb dX1_having_13 rfl (lv_at hl 2 rfl) ?_
    obtain ⟨r_12, h_12, hq⟩ := ww_bS hf; replace hf := hq; clear hq
    refine c1c_1_isKey X hl.1 (Nat.le_trans (Nat.le_of_ble_eq_true rfl) hF) (Nat.le_trans (Nat.le_of_ble_eq_true rfl) hLo) (Nat.le_trans hm9.1 hC.1) (Nat.le_trans hm9.2 hC.2) h_12 (cw_rest (Nat.le_of_ble_eq_true rfl)) dX1_having_14 ?_
    refine lv_if_eq (tgt := 27) hx hb dX1_having_17 (by decide) (fun c_13 => ?_) (fun c_13 => ?_)
    · replace hf := ww_ip hf c_13
      refine lv_iconst (v := (1 : Int32)) hx hb dX1_having_27 (by decide) ?_
      refine lv_goto (tgt := 60) hx hb dX1_having_28 (by decide) ?_
      exact (hj_1 D (1 : Int32) hf).2 _ _ _ hR hS hl
    · replace hf := ww_in hf c_13
      refine lv_iload_n hx hb dX1_having_20 rfl (lv_at hl 3 rfl) ?_
      obtain ⟨r_14, h_14, hq⟩ := ww_bS hf; replace hf := hq; clear hq
      refine c1c_1_isValue X hl.1 (Nat.le_trans (Nat.le_of_ble_eq_true rfl) hF) (Nat.le_trans (Nat.le_of_ble_eq_true rfl) hLo) (Nat.le_trans hm9.1 hC.1) (Nat.le_trans hm9.2 hC.2) h_14 (cw_rest (Nat.le_of_ble_eq_true rfl)) dX1_having_21 ?_
      refine lv_if_ne (tgt := 31) hx hb dX1_having_24 (by decide) (fun c_15 => ?_) (fun c_15 => ?_)
      · replace hf := ww_in hf c_15
        refine lv_aload_n hx hb dX1_having_31 rfl (lv_at hl 0 rfl) ?_
        refine lv_aload_n hx hb dX1_having_32 rfl (lv_at hl 0 rfl) ?_
        refine lv_iload_n hx hb dX1_having_33 rfl (lv_at hl 1 rfl) ?_
        obtain ⟨r_16, h_16, hq⟩ := ww_bS hf; replace hf := hq; clear hq
        refine c1c_1_rootOf X hl.1 hK hR hS (Nat.le_trans (Nat.le_of_ble_eq_true rfl) hF) (Nat.le_trans (Nat.le_of_ble_eq_true rfl) hLo) (Nat.le_trans hm9.1 hC.1) (Nat.le_trans hm9.2 hC.2) h_16 (cw_rest (Nat.le_of_ble_eq_true rfl)) dX1_having_34 (fun H locs hR hS => ?_)
        refine lv_iload_n hx hb dX1_having_37 rfl (lv_at hl 2 rfl) ?_
        obtain ⟨r_17, D_17, h_17, hq⟩ := ww_b2S hf; replace hf := hq; clear hq
        refine c1c_1_canLay (x1 := r_16) X hl.1 hK hR hS (Nat.le_trans (Nat.le_of_ble_eq_true rfl) hF) (Nat.le_trans (Nat.le_of_ble_eq_true rfl) hLo) (Nat.le_trans hm9.1 hC.1) (Nat.le_trans hm9.2 hC.2) h_17 (cw_rest (Nat.le_of_ble_eq_true rfl)) dX1_having_38 (fun H locs hR hS => ?_)
        refine lv_if_ne (tgt := 48) hx hb dX1_having_41 (by decide) (fun c_18 => ?_) (fun c_18 => ?_)
        · replace hf := ww_in hf c_18
          refine lv_aload_n hx hb dX1_having_48 rfl (lv_at hl 0 rfl) ?_
          obtain ⟨r_19, h_19, hq⟩ := ww_bS hf; replace hf := hq; clear hq
          refine c1c_1_isRoom X hl.1 hK hR hS (Nat.le_trans (Nat.le_of_ble_eq_true rfl) hF) (Nat.le_trans (Nat.le_of_ble_eq_true rfl) hLo) (Nat.le_trans hm9.1 hC.1) (Nat.le_trans hm9.2 hC.2) h_19 (cw_rest (Nat.le_of_ble_eq_true rfl)) dX1_having_49 (fun H locs hR hS => ?_)
          refine lv_if_ne (tgt := 59) hx hb dX1_having_52 (by decide) (fun c_20 => ?_) (fun c_20 => ?_)
          · replace hf := ww_in hf c_20
            refine lv_iconst (v := (-1 : Int32)) hx hb dX1_having_59 (by decide) ?_
            exact (hj_1 D_17 (-1 : Int32) hf).2 _ _ _ hR hS hl
          · replace hf := ww_ip hf c_20
            refine lv_iconst (v := (4 : Int32)) hx hb dX1_having_55 (by decide) ?_
            refine lv_goto (tgt := 60) hx hb dX1_having_56 (by decide) ?_
            exact (hj_1 D_17 (4 : Int32) hf).2 _ _ _ hR hS hl
        · replace hf := ww_ip hf c_18
          refine lv_iconst (v := (3 : Int32)) hx hb dX1_having_44 (by decide) ?_
          refine lv_goto (tgt := 60) hx hb dX1_having_45 (by decide) ?_
          exact (hj_1 D_17 (3 : Int32) hf).2 _ _ _ hR hS hl
      · replace hf := ww_ip hf c_15
        refine lv_iconst (v := (1 : Int32)) hx hb dX1_having_27 (by decide) ?_
        refine lv_goto (tgt := 60) hx hb dX1_having_28 (by decide) ?_
        exact (hj_1 D (1 : Int32) hf).2 _ _ _ hR hS hl
  · replace hf := ww_ip hf c_11
    refine lv_iconst (v := (0 : Int32)) hx hb dX1_having_9 (by decide) ?_
    refine lv_goto (tgt := 60) hx hb dX1_having_10 (by decide) ?_
    exact (hj_1 D (0 : Int32) hf).2 _ _ _ hR hS hl
noncomputable def f1_takeNow_b1c (cf : Nat) (kf : Nat) (D_13 : cw_D) : Option ((cw_D) ⊕ (cw_D × Nat × Nat)) :=
  ww_b (some (ww_R D_13.1 27)) (fun r_14 => ww_b r_14 (fun a_15 => ww_b (f5r_isLeaf f8_isLeaf D_13 a_15) (fun r_16 => if r_16 = 0 then ww_b (some (ww_R D_13.1 27)) (fun r_18 => ww_b r_18 (fun a_19 => ww_g (cw_kd D_13 [1, 2] (some a_19)) (ww_b (f6_many D_13 a_19) (fun r_21 => if r_21 = (1 : Int32) then ww_b (some (ww_R D_13.1 27)) (fun r_23 => ww_b r_23 (fun a_24 => ww_b (f5r_kid f8_kid D_13 a_24 (0 : Int32)) (fun r_25 => some (.inl (cw_sR D_13 27 r_25))))) else ww_x (some (D_13, cf, kf)))))) else ww_x (some (D_13, cf, kf)))))
noncomputable def f1_takeNow_b1 (cf : Nat) (kf : Nat) : cw_D → Option ((cw_D) ⊕ (cw_D × Nat × Nat)) := fun s9 => f1_takeNow_b1c cf kf s9
noncomputable def f1_takeNow (D : cw_D) (x1 : Int32) : Option (cw_D × Nat × Nat) :=
  ww_b (some (ww_R D.1 27)) (fun r_1 => ww_b (f1_valueIn D r_1 x1) (fun r_2 => if r_2 = (-1000000 : Int32) then some (D, 0, 0) else ww_b (some (ww_R D.1 27)) (fun r_4 => ww_b (some (ww_R D.1 28)) (fun r_5 => ww_b r_4 (fun a_6 => ww_g (cw_kd D [1, 2] (some a_6)) (ww_b4 (f5_edited D a_6 r_5) (fun r_8 D_8 c_8 k_8 => ww_b (some (ww_R (cw_sR D_8 27 r_8).1 27)) (fun r_9 => ww_b (some (ww_R (cw_sR D_8 27 r_8).1 28)) (fun r_10 => ww_b r_9 (fun a_11 => ww_b3 (f5r_takes (f8_takes 8) (cw_sR D_8 27 r_8) a_11 r_10 x1 (ww_F (cw_sR D_8 27 r_8).1 18)) (fun D_12 c_12 k_12 => ww_U (f1_takeNow_b1 ((0 + c_8) + c_12) ((0 + k_8) + k_12)) D_12)))))))))))
section C_1_takeNow_k
variable {p : Program} {l : Launch} {e : Env} {R : Room} {s : State} {m : MethodId} {args : Array Value} {below : List Frame} {meth : Method} {c : Code} {H : Heap} {locs : List Loc} {cells slots : Nat} {Q : State → Prop}
variable {cc : ByteArray} {pc : Nat} {ls : Array Slot} {rest : List Value} {nL : Nat} {E : cw_E} {A : Nat → Prop} {H0 : Heap}
theorem c1k_1_takeNow {D : cw_D} {x1 : Int32} {D' : cw_D} {nc ns : Nat} (X : ww_C p m c cc nL s args RX1 lw_all) (hsz : ls.size = nL) (hK : cw_K E A s) (hR : cw_H E A D H) (hS : va_S A s.heap H locs) (hF : 23 ≤ R.frames) (hLo : 503 ≤ R.locals) (hc : cells + nc ≤ R.cells) (hs : slots + ns ≤ R.slots) (hM : cw_MetV l yX1_takeNow cX1_takeNow 2 22 482 E A [.ref E.1.1, .int x1] D D' nc ns) (hrest : (rest.map fun v => v.category).sum ≤ 8) (hdg : decode cc pc = .ok (.invokevirtual 327, 3)) (kk : ∀ (H1 : Heap) (locs1 : List Loc), cw_H E A D' H1 → va_S A s.heap H1 locs1 → W p l e R s m args below meth c H1 locs1 (cells + nc) (slots + ns) Q (F0 m (pc + 3) ls (rest))) : W p l e R s m args below meth c H locs cells slots Q (F0 m pc ls (.int x1 :: .ref E.1.1 :: rest)) :=
  va_callv (va_runV (C := RX1) (As := [.int x1]) (rest := rest) (b := E.1.1) X hM (cwV 1 X.2.2.2.2 (lw_V q1220 q1222 qs33 q131 q1223) rfl rfl rfl (by decide +kernel) ⟨hF, hLo⟩) (cw_pV hK hR hS (cw_rcM hK hR)) rfl rfl hsz rfl (lv_room hrest) hdg ⟨hc, hs⟩) hS (fun q _ h => h) (fun q h => h) (fun u t H1 locs1 ht hvm hw hB hz1 hk1 hS1 => by rw [ht] at hB; exact kk H1 locs1 hB hS1)
end C_1_takeNow_k
set_option maxHeartbeats 4000000 in
set_option maxRecDepth 100000 in
theorem met1_takeNow (l : Launch) {E : cw_E} {A : Nat → Prop} (D : cw_D) (x1 : Int32) (D' : cw_D) (nc ns : Nat) (hf : f1_takeNow D x1 = some (D', nc, ns)) : cw_MetV l yX1_takeNow cX1_takeNow 2 22 482 E A [.ref E.1.1, .int x1] D D' nc ns := by
  unfold f1_takeNow at hf
  refine cw_sVN (own := RX1) (by decide +kernel) [(0, .ref E.1.1), (1, .int x1)] ⟨Nat.le_of_ble_eq_true rfl, rfl⟩ ?_
  intro p e s m args below meth c Rm Q X hK hF hLo hC hin hend ls hl hR hS
  obtain ⟨hx, hb, hml, hown, hts⟩ := id X
  have hm9 : 0 ≤ nc ∧ 0 ≤ ns := ⟨Nat.zero_le _, Nat.zero_le _⟩
  refine lv_aload_n hx hb dX1_takeNow_0 rfl (lv_at hl 0 rfl) ?_
  obtain ⟨r_1, h_1, hq⟩ := ww_bS hf; replace hf := hq; clear hq
  refine c1g_226 X hK hR h_1 dX1_takeNow_1 ?_
  refine lv_iload_n hx hb dX1_takeNow_4 rfl (lv_at hl 1 rfl) ?_
  obtain ⟨r_2, h_2, hq⟩ := ww_bS hf; replace hf := hq; clear hq
  refine c1c_1_valueIn (x0 := r_1) X hl.1 hK hR hS (Nat.le_trans (Nat.le_of_ble_eq_true rfl) hF) (Nat.le_trans (Nat.le_of_ble_eq_true rfl) hLo) (Nat.le_trans hm9.1 hC.1) (Nat.le_trans hm9.2 hC.2) h_2 (cw_rest (Nat.le_of_ble_eq_true rfl)) dX1_takeNow_5 (fun H locs hR hS => ?_)
  refine lv_ldc (v := (-1000000 : Int32)) hx hb hown (hts _ q420) dX1_takeNow_8 ?_
  refine lv_icmp_ne (tgt := 14) hx hb dX1_takeNow_10 (by decide) (fun c_3 => ?_) (fun c_3 => ?_)
  · replace hf := ww_in hf c_3
    refine lv_aload_n hx hb dX1_takeNow_14 rfl (lv_at hl 0 rfl) ?_
    refine lv_aload_n hx hb dX1_takeNow_15 rfl (lv_at hl 0 rfl) ?_
    obtain ⟨r_4, h_4, hq⟩ := ww_bS hf; replace hf := hq; clear hq
    refine c1g_226 X hK hR h_4 dX1_takeNow_16 ?_
    refine lv_aload_n hx hb dX1_takeNow_19 rfl (lv_at hl 0 rfl) ?_
    obtain ⟨r_5, h_5, hq⟩ := ww_bS hf; replace hf := hq; clear hq
    refine c1g_255 X hK hR h_5 dX1_takeNow_20 ?_
    obtain ⟨a_6, e_6, hq⟩ := ww_bS hf; replace hf := hq; clear hq
    subst e_6
    obtain ⟨h_7, hq⟩ := ww_gS hf; replace hf := hq; clear hq
    obtain ⟨r_8, D_8, c_8, k_8, h_8, hq⟩ := ww_b4S hf; replace hf := hq; clear hq
    have hm9 : (0 + c_8) ≤ nc ∧ (0 + k_8) ≤ ns := by
      obtain ⟨r_9, h_9, hq⟩ := ww_bS hf; replace hf := hq; clear hq
      obtain ⟨r_10, h_10, hq⟩ := ww_bS hf; replace hf := hq; clear hq
      obtain ⟨a_11, e_11, hq⟩ := ww_bS hf; replace hf := hq; clear hq
      subst e_11
      obtain ⟨D_12, c_12, k_12, h_12, hq⟩ := ww_b3S hf; replace hf := hq; clear hq
      have hL_1 : ∀ s9 : cw_D, ww_U (f1_takeNow_b1 ((0 + c_8) + c_12) ((0 + k_8) + k_12)) s9 = some (D', nc, ns) → ((0 + c_8) + c_12) ≤ nc ∧ ((0 + k_8) + k_12) ≤ ns := by
        clear hf
        refine ww_ind _ (D', nc, ns) ?_
        intro s9 z_1 hf hz_1
        obtain ⟨D_13, e9⟩ : ∃ q9, q9 = s9 := ⟨_, rfl⟩; subst e9
        replace hf : f1_takeNow_b1c ((0 + c_8) + c_12) ((0 + k_8) + k_12) D_13 = some z_1 := hf
        unfold f1_takeNow_b1c at hf
        show ((0 + c_8) + c_12) ≤ nc ∧ ((0 + k_8) + k_12) ≤ ns
        obtain ⟨r_14, h_14, hq⟩ := ww_bS hf; replace hf := hq; clear hq
        obtain ⟨a_15, e_15, hq⟩ := ww_bS hf; replace hf := hq; clear hq
        subst e_15
        obtain ⟨r_16, h_16, hq⟩ := ww_bS hf; replace hf := hq; clear hq
        refine ww_by (r_16 = 0) (fun c_17 => ?_) (fun c_17 => ?_)
        · replace hf := ww_ip hf c_17
          obtain ⟨r_18, h_18, hq⟩ := ww_bS hf; replace hf := hq; clear hq
          obtain ⟨a_19, e_19, hq⟩ := ww_bS hf; replace hf := hq; clear hq
          subst e_19
          obtain ⟨h_20, hq⟩ := ww_gS hf; replace hf := hq; clear hq
          obtain ⟨r_21, h_21, hq⟩ := ww_bS hf; replace hf := hq; clear hq
          refine ww_by (r_21 = (1 : Int32)) (fun c_22 => ?_) (fun c_22 => ?_)
          · replace hf := ww_ip hf c_22
            obtain ⟨r_23, h_23, hq⟩ := ww_bS hf; replace hf := hq; clear hq
            obtain ⟨a_24, e_24, hq⟩ := ww_bS hf; replace hf := hq; clear hq
            subst e_24
            obtain ⟨r_25, h_25, hq⟩ := ww_bS hf; replace hf := hq; clear hq
            have e9 := ww_lK hf hz_1
            try dsimp only at e9
            omega
          · replace hf := ww_in hf c_22
            replace hf := ww_xK hf hz_1
            have e9 := hf
            simp only [Option.some.injEq, Prod.mk.injEq] at e9
            omega
        · replace hf := ww_in hf c_17
          replace hf := ww_xK hf hz_1
          have e9 := hf
          simp only [Option.some.injEq, Prod.mk.injEq] at e9
          omega
      have e9 := hL_1 D_12 hf
      try dsimp only at e9
      omega
    refine c1i_edited (x1 := r_5) X hl.1 hK hR hS (Nat.le_trans (Nat.le_of_ble_eq_true rfl) hF) (Nat.le_trans (Nat.le_of_ble_eq_true rfl) hLo) (Nat.le_trans hm9.1 hC.1) (Nat.le_trans hm9.2 hC.2) h_7 h_8 (cw_rest (Nat.le_of_ble_eq_true rfl)) dX1_takeNow_23 (fun H locs hR hS => ?_)
    refine c1p_226 (v := r_8) X hK hR hS dX1_takeNow_28 (fun H locs hR hS => ?_)
    refine lv_aload_n hx hb dX1_takeNow_31 rfl (lv_at hl 0 rfl) ?_
    obtain ⟨r_9, h_9, hq⟩ := ww_bS hf; replace hf := hq; clear hq
    refine c1g_226 X hK hR h_9 dX1_takeNow_32 ?_
    refine lv_aload_n hx hb dX1_takeNow_35 rfl (lv_at hl 0 rfl) ?_
    obtain ⟨r_10, h_10, hq⟩ := ww_bS hf; replace hf := hq; clear hq
    refine c1g_255 X hK hR h_10 dX1_takeNow_36 ?_
    refine lv_iload_n hx hb dX1_takeNow_39 rfl (lv_at hl 1 rfl) ?_
    refine lv_aload_n hx hb dX1_takeNow_40 rfl (lv_at hl 0 rfl) ?_
    refine c1g_237 X hK hR dX1_takeNow_41 ?_
    obtain ⟨a_11, e_11, hq⟩ := ww_bS hf; replace hf := hq; clear hq
    subst e_11
    obtain ⟨D_12, c_12, k_12, h_12, hq⟩ := ww_b3S hf; replace hf := hq; clear hq
    have hm9 : ((0 + c_8) + c_12) ≤ nc ∧ ((0 + k_8) + k_12) ≤ ns := by
      have hL_1 : ∀ s9 : cw_D, ww_U (f1_takeNow_b1 ((0 + c_8) + c_12) ((0 + k_8) + k_12)) s9 = some (D', nc, ns) → ((0 + c_8) + c_12) ≤ nc ∧ ((0 + k_8) + k_12) ≤ ns := by
        clear hf
        refine ww_ind _ (D', nc, ns) ?_
        intro s9 z_1 hf hz_1
        obtain ⟨D_13, e9⟩ : ∃ q9, q9 = s9 := ⟨_, rfl⟩; subst e9
        replace hf : f1_takeNow_b1c ((0 + c_8) + c_12) ((0 + k_8) + k_12) D_13 = some z_1 := hf
        unfold f1_takeNow_b1c at hf
        show ((0 + c_8) + c_12) ≤ nc ∧ ((0 + k_8) + k_12) ≤ ns
        obtain ⟨r_14, h_14, hq⟩ := ww_bS hf; replace hf := hq; clear hq
        obtain ⟨a_15, e_15, hq⟩ := ww_bS hf; replace hf := hq; clear hq
        subst e_15
        obtain ⟨r_16, h_16, hq⟩ := ww_bS hf; replace hf := hq; clear hq
        refine ww_by (r_16 = 0) (fun c_17 => ?_) (fun c_17 => ?_)
        · replace hf := ww_ip hf c_17
          obtain ⟨r_18, h_18, hq⟩ := ww_bS hf; replace hf := hq; clear hq
          obtain ⟨a_19, e_19, hq⟩ := ww_bS hf; replace hf := hq; clear hq
          subst e_19
          obtain ⟨h_20, hq⟩ := ww_gS hf; replace hf := hq; clear hq
          obtain ⟨r_21, h_21, hq⟩ := ww_bS hf; replace hf := hq; clear hq
          refine ww_by (r_21 = (1 : Int32)) (fun c_22 => ?_) (fun c_22 => ?_)
          · replace hf := ww_ip hf c_22
            obtain ⟨r_23, h_23, hq⟩ := ww_bS hf; replace hf := hq; clear hq
            obtain ⟨a_24, e_24, hq⟩ := ww_bS hf; replace hf := hq; clear hq
            subst e_24
            obtain ⟨r_25, h_25, hq⟩ := ww_bS hf; replace hf := hq; clear hq
            have e9 := ww_lK hf hz_1
            try dsimp only at e9
            omega
          · replace hf := ww_in hf c_22
            replace hf := ww_xK hf hz_1
            have e9 := hf
            simp only [Option.some.injEq, Prod.mk.injEq] at e9
            omega
        · replace hf := ww_in hf c_17
          replace hf := ww_xK hf hz_1
          have e9 := hf
          simp only [Option.some.injEq, Prod.mk.injEq] at e9
          omega
      have e9 := hL_1 D_12 hf
      try dsimp only at e9
      omega
    refine c1i_takes (x1 := r_10) X hl.1 hK hR hS (Nat.le_trans (Nat.le_of_ble_eq_true rfl) hF) (Nat.le_trans (Nat.le_of_ble_eq_true rfl) hLo) (Nat.le_trans hm9.1 hC.1) (Nat.le_trans hm9.2 hC.2) h_12 (cw_rest (Nat.le_of_ble_eq_true rfl)) dX1_takeNow_44 (fun H locs hR hS => ?_)
    have hL_1 : ∀ s9 : cw_D, ww_U (f1_takeNow_b1 ((0 + c_8) + c_12) ((0 + k_8) + k_12)) s9 = some (D', nc, ns) → (((0 + c_8) + c_12) ≤ nc ∧ ((0 + k_8) + k_12) ≤ ns) ∧ (∀ (H : Heap) (locs : List Loc) (ls : Array Slot), cw_H E A s9 H → va_S A s.heap H locs → lv_has ls 2 [(0, .ref E.1.1)] → W p l e Rm s m args below meth c H locs ((0 + c_8) + c_12) ((0 + k_8) + k_12) Q (F0 m 49 ls [])) := by
      clear hf
      refine ww_ind _ (D', nc, ns) ?_
      intro s9 z_1 hf hz_1
      obtain ⟨D_13, e9⟩ : ∃ q9, q9 = s9 := ⟨_, rfl⟩; subst e9
      replace hf : f1_takeNow_b1c ((0 + c_8) + c_12) ((0 + k_8) + k_12) D_13 = some z_1 := hf
      unfold f1_takeNow_b1c at hf
      have hm9 : ((0 + c_8) + c_12) ≤ nc ∧ ((0 + k_8) + k_12) ≤ ns := by
        show ((0 + c_8) + c_12) ≤ nc ∧ ((0 + k_8) + k_12) ≤ ns
        obtain ⟨r_14, h_14, hq⟩ := ww_bS hf; replace hf := hq; clear hq
        obtain ⟨a_15, e_15, hq⟩ := ww_bS hf; replace hf := hq; clear hq
        subst e_15
        obtain ⟨r_16, h_16, hq⟩ := ww_bS hf; replace hf := hq; clear hq
        refine ww_by (r_16 = 0) (fun c_17 => ?_) (fun c_17 => ?_)
        · replace hf := ww_ip hf c_17
          obtain ⟨r_18, h_18, hq⟩ := ww_bS hf; replace hf := hq; clear hq
          obtain ⟨a_19, e_19, hq⟩ := ww_bS hf; replace hf := hq; clear hq
          subst e_19
          obtain ⟨h_20, hq⟩ := ww_gS hf; replace hf := hq; clear hq
          obtain ⟨r_21, h_21, hq⟩ := ww_bS hf; replace hf := hq; clear hq
          refine ww_by (r_21 = (1 : Int32)) (fun c_22 => ?_) (fun c_22 => ?_)
          · replace hf := ww_ip hf c_22
            obtain ⟨r_23, h_23, hq⟩ := ww_bS hf; replace hf := hq; clear hq
            obtain ⟨a_24, e_24, hq⟩ := ww_bS hf; replace hf := hq; clear hq
            subst e_24
            obtain ⟨r_25, h_25, hq⟩ := ww_bS hf; replace hf := hq; clear hq
            have e9 := (ww_lK hf hz_1).1
            try dsimp only at e9
            omega
          · replace hf := ww_in hf c_22
            replace hf := ww_xK hf hz_1
            have e9 := hf
            simp only [Option.some.injEq, Prod.mk.injEq] at e9
            omega
        · replace hf := ww_in hf c_17
          replace hf := ww_xK hf hz_1
          have e9 := hf
          simp only [Option.some.injEq, Prod.mk.injEq] at e9
          omega
      refine ⟨hm9, ?_⟩
      try clear hl
      try clear hS
      try clear hR
      intro H locs ls hR hS hl
      replace hR : cw_H E A D_13 H := hR
      replace hl : lv_has ls 2 [(0, .ref E.1.1)] := hl
      refine lv_aload_n hx hb dX1_takeNow_49 rfl (lv_at hl 0 rfl) ?_
      obtain ⟨r_14, h_14, hq⟩ := ww_bS hf; replace hf := hq; clear hq
      refine c1g_226 X hK hR h_14 dX1_takeNow_50 ?_
      obtain ⟨a_15, e_15, hq⟩ := ww_bS hf; replace hf := hq; clear hq
      subst e_15
      obtain ⟨r_16, h_16, hq⟩ := ww_bS hf; replace hf := hq; clear hq
      refine c1i_isLeaf X hl.1 hK hR hS (Nat.le_trans (Nat.le_of_ble_eq_true rfl) hF) (Nat.le_trans (Nat.le_of_ble_eq_true rfl) hLo) (Nat.le_trans hm9.1 hC.1) (Nat.le_trans hm9.2 hC.2) h_16 (cw_rest (Nat.le_of_ble_eq_true rfl)) dX1_takeNow_53 (fun H locs hR hS => ?_)
      refine lv_if_ne (tgt := 91) hx hb dX1_takeNow_58 (by decide) (fun c_17 => ?_) (fun c_17 => ?_)
      · replace hf := ww_in hf c_17
        replace hf := ww_xK hf hz_1
        exact hend dX1_takeNow_91 hf hR hS
      · replace hf := ww_ip hf c_17
        refine lv_aload_n hx hb dX1_takeNow_61 rfl (lv_at hl 0 rfl) ?_
        obtain ⟨r_18, h_18, hq⟩ := ww_bS hf; replace hf := hq; clear hq
        refine c1g_226 X hK hR h_18 dX1_takeNow_62 ?_
        obtain ⟨a_19, e_19, hq⟩ := ww_bS hf; replace hf := hq; clear hq
        subst e_19
        obtain ⟨h_20, hq⟩ := ww_gS hf; replace hf := hq; clear hq
        obtain ⟨r_21, h_21, hq⟩ := ww_bS hf; replace hf := hq; clear hq
        refine c1i_many X hl.1 hK hR hS (Nat.le_trans (Nat.le_of_ble_eq_true rfl) hF) (Nat.le_trans (Nat.le_of_ble_eq_true rfl) hLo) (Nat.le_trans hm9.1 hC.1) (Nat.le_trans hm9.2 hC.2) h_20 h_21 (cw_rest (Nat.le_of_ble_eq_true rfl)) dX1_takeNow_65 (fun H locs hR hS => ?_)
        refine lv_iconst (v := (1 : Int32)) hx hb dX1_takeNow_70 (by decide) ?_
        refine lv_icmp_ne (tgt := 91) hx hb dX1_takeNow_71 (by decide) (fun c_22 => ?_) (fun c_22 => ?_)
        · replace hf := ww_in hf c_22
          replace hf := ww_xK hf hz_1
          exact hend dX1_takeNow_91 hf hR hS
        · replace hf := ww_ip hf c_22
          refine lv_aload_n hx hb dX1_takeNow_74 rfl (lv_at hl 0 rfl) ?_
          refine lv_aload_n hx hb dX1_takeNow_75 rfl (lv_at hl 0 rfl) ?_
          obtain ⟨r_23, h_23, hq⟩ := ww_bS hf; replace hf := hq; clear hq
          refine c1g_226 X hK hR h_23 dX1_takeNow_76 ?_
          refine lv_iconst (v := (0 : Int32)) hx hb dX1_takeNow_79 (by decide) ?_
          obtain ⟨a_24, e_24, hq⟩ := ww_bS hf; replace hf := hq; clear hq
          subst e_24
          obtain ⟨r_25, h_25, hq⟩ := ww_bS hf; replace hf := hq; clear hq
          refine c1i_kid X hl.1 hK hR hS (Nat.le_trans (Nat.le_of_ble_eq_true rfl) hF) (Nat.le_trans (Nat.le_of_ble_eq_true rfl) hLo) (Nat.le_trans hm9.1 hC.1) (Nat.le_trans hm9.2 hC.2) h_25 (cw_rest (Nat.le_of_ble_eq_true rfl)) dX1_takeNow_80 (fun H locs hR hS => ?_)
          refine c1p_226 (v := r_25) X hK hR hS dX1_takeNow_85 (fun H locs hR hS => ?_)
          refine lv_goto (tgt := 49) hx hb dX1_takeNow_88 (by decide) ?_
          exact (ww_lK hf hz_1).2 _ _ _ hR hS hl
    exact (hL_1 D_12 hf).2 _ _ _ hR hS (lv_sub hl [0] rfl)
  · replace hf := ww_ip hf c_3
    exact hend dX1_takeNow_13 hf hR hS
section C_1_takeNow_c
variable {p : Program} {l : Launch} {e : Env} {R : Room} {s : State} {m : MethodId} {args : Array Value} {below : List Frame} {meth : Method} {c : Code} {H : Heap} {locs : List Loc} {cells slots : Nat} {Q : State → Prop}
variable {cc : ByteArray} {pc : Nat} {ls : Array Slot} {rest : List Value} {nL : Nat} {E : cw_E} {A : Nat → Prop} {H0 : Heap}
theorem c1c_1_takeNow {D : cw_D} {x1 : Int32} {D' : cw_D} {nc ns : Nat} (X : ww_C p m c cc nL s args RX1 lw_all) (hsz : ls.size = nL) (hK : cw_K E A s) (hR : cw_H E A D H) (hS : va_S A s.heap H locs) (hF : 23 ≤ R.frames) (hLo : 503 ≤ R.locals) (hc : cells + nc ≤ R.cells) (hs : slots + ns ≤ R.slots) (hf : f1_takeNow D x1 = some (D', nc, ns)) (hrest : (rest.map fun v => v.category).sum ≤ 8) (hdg : decode cc pc = .ok (.invokevirtual 327, 3)) (kk : ∀ (H1 : Heap) (locs1 : List Loc), cw_H E A D' H1 → va_S A s.heap H1 locs1 → W p l e R s m args below meth c H1 locs1 (cells + nc) (slots + ns) Q (F0 m (pc + 3) ls (rest))) : W p l e R s m args below meth c H locs cells slots Q (F0 m pc ls (.int x1 :: .ref E.1.1 :: rest)) :=
  c1k_1_takeNow X hsz hK hR hS hF hLo hc hs (met1_takeNow l _ _ _ _ _ hf) hrest hdg kk
end C_1_takeNow_c
noncomputable def f1_lacking_j1 (D : cw_D) (cf : Nat) (kf : Nat) (y1 : Int32) (y2 : Int32) (t1 : Int32) : Option (Int32 × cw_D × Nat × Nat) :=
  ww_b2 (f1_isRefused D t1) (fun r_2 D_2 => if r_2 = 0 then ww_b (f1_rootOf D_2 y1) (fun r_4 => ww_b (f4_init (cw_nO D_2 0) D_2.2.2 (ww_R (cw_nO D_2 0).1 99)) (fun D_5 => ww_b3 (f1_work D_5 r_4 (some D_2.2.2)) (fun D_6 c_6 k_6 => ww_b3 (f1_takeNow D_6 y2) (fun D_7 c_7 k_7 => ww_b (some (ww_R D_7.1 27)) (fun r_8 => ww_b2 (f1_holds D_7 r_8 y1 (-1 : Int32)) (fun r_9 D_9 => some (r_9, D_9, (((cf + 1) + c_6) + c_7), (((kf + 1) + k_6) + k_7)))))))) else some ((-1 : Int32), D_2, cf, kf))
noncomputable def f1_lacking (D : cw_D) (x1 : Int32) (x2 : Int32) : Option (Int32 × cw_D × Nat × Nat) :=
  ww_b (f1_isMap D x1) (fun r_1 => if r_1 = 0 then f1_lacking_j1 D 0 0 x1 x2 (0 : Int32) else ww_b (f1_isKey x2) (fun r_11 => if r_11 = 0 then f1_lacking_j1 D 0 0 x1 x2 (1 : Int32) else ww_b (f1_isRoom D) (fun r_13 => if r_13 = 0 then f1_lacking_j1 D 0 0 x1 x2 (4 : Int32) else f1_lacking_j1 D 0 0 x1 x2 (-1 : Int32))))
set_option maxHeartbeats 4000000 in
set_option maxRecDepth 100000 in
theorem met1_lacking (l : Launch) {E : cw_E} {A : Nat → Prop} (D : cw_D) (x1 : Int32) (x2 : Int32) (r : Int32) (D' : cw_D) (nc ns : Nat) (hf : f1_lacking D x1 x2 = some (r, D', nc, ns)) : cw_MetI l yX1_lacking cX1_lacking 3 (some Jvm.ClassFile.FieldType.int) 23 503 E A [.ref E.1.1, .int x1, .int x2] D D' r nc ns := by
  unfold f1_lacking at hf
  refine cw_sIN (own := RX1) (by decide +kernel) [(0, .ref E.1.1), (1, .int x1), (2, .int x2)] ⟨Nat.le_of_ble_eq_true rfl, rfl⟩ ?_
  intro p e s m args below meth c Rm Q X hK hF hLo hC hin hend ls hl hR hS
  obtain ⟨hx, hb, hml, hown, hts⟩ := id X
  have hm9 : 0 ≤ nc ∧ 0 ≤ ns := ⟨Nat.zero_le _, Nat.zero_le _⟩
  refine lv_aload_n hx hb dX1_lacking_0 rfl (lv_at hl 0 rfl) ?_
  refine lv_aload_n hx hb dX1_lacking_1 rfl (lv_at hl 0 rfl) ?_
  refine lv_iload_n hx hb dX1_lacking_2 rfl (lv_at hl 1 rfl) ?_
  obtain ⟨r_1, h_1, hq⟩ := ww_bS hf; replace hf := hq; clear hq
  refine c1c_1_isMap X hl.1 hK hR hS (Nat.le_trans (Nat.le_of_ble_eq_true rfl) hF) (Nat.le_trans (Nat.le_of_ble_eq_true rfl) hLo) (Nat.le_trans hm9.1 hC.1) (Nat.le_trans hm9.2 hC.2) h_1 (cw_rest (Nat.le_of_ble_eq_true rfl)) dX1_lacking_3 (fun H locs hR hS => ?_)
  have hj_1 : ∀ (t1 : Int32), f1_lacking_j1 D 0 0 x1 x2 t1 = some (r, D', nc, ns) → (0 ≤ nc ∧ 0 ≤ ns) ∧ (∀ (H : Heap) (locs : List Loc) (ls : Array Slot), cw_H E A D H → va_S A s.heap H locs → lv_has ls 3 [(0, .ref E.1.1), (1, .int x1), (2, .int x2)] → W p l e Rm s m args below meth c H locs 0 0 Q (F0 m 36 ls [.int t1, .ref E.1.1])) := by
    clear hf
    intro t1 hf
    unfold f1_lacking_j1 at hf
    have hm9 : 0 ≤ nc ∧ 0 ≤ ns := by
      obtain ⟨r_2, D_2, h_2, hq⟩ := ww_b2S hf; replace hf := hq; clear hq
      refine ww_by (r_2 = 0) (fun c_3 => ?_) (fun c_3 => ?_)
      · replace hf := ww_ip hf c_3
        obtain ⟨r_4, h_4, hq⟩ := ww_bS hf; replace hf := hq; clear hq
        obtain ⟨D_5, h_5, hq⟩ := ww_bS hf; replace hf := hq; clear hq
        obtain ⟨D_6, c_6, k_6, h_6, hq⟩ := ww_b3S hf; replace hf := hq; clear hq
        obtain ⟨D_7, c_7, k_7, h_7, hq⟩ := ww_b3S hf; replace hf := hq; clear hq
        obtain ⟨r_8, h_8, hq⟩ := ww_bS hf; replace hf := hq; clear hq
        obtain ⟨r_9, D_9, h_9, hq⟩ := ww_b2S hf; replace hf := hq; clear hq
        have e9 := hf
        simp only [Option.some.injEq, Prod.mk.injEq] at e9
        omega
      · replace hf := ww_in hf c_3
        have e9 := hf
        simp only [Option.some.injEq, Prod.mk.injEq] at e9
        omega
    refine ⟨hm9, ?_⟩
    try clear hl
    try clear hS
    try clear hR
    intro H locs ls hR hS hl
    obtain ⟨r_2, D_2, h_2, hq⟩ := ww_b2S hf; replace hf := hq; clear hq
    refine c1c_1_isRefused X hl.1 hK hR hS (Nat.le_trans (Nat.le_of_ble_eq_true rfl) hF) (Nat.le_trans (Nat.le_of_ble_eq_true rfl) hLo) (Nat.le_trans hm9.1 hC.1) (Nat.le_trans hm9.2 hC.2) h_2 (cw_rest (Nat.le_of_ble_eq_true rfl)) dX1_lacking_36 (fun H locs hR hS => ?_)
    refine lv_if_eq (tgt := 44) hx hb dX1_lacking_39 (by decide) (fun c_3 => ?_) (fun c_3 => ?_)
    · replace hf := ww_ip hf c_3
      refine lv_aload_n hx hb dX1_lacking_44 rfl (lv_at hl 0 rfl) ?_
      refine lv_aload_n hx hb dX1_lacking_45 rfl (lv_at hl 0 rfl) ?_
      refine lv_iload_n hx hb dX1_lacking_46 rfl (lv_at hl 1 rfl) ?_
      obtain ⟨r_4, h_4, hq⟩ := ww_bS hf; replace hf := hq; clear hq
      refine c1c_1_rootOf X hl.1 hK hR hS (Nat.le_trans (Nat.le_of_ble_eq_true rfl) hF) (Nat.le_trans (Nat.le_of_ble_eq_true rfl) hLo) (Nat.le_trans hm9.1 hC.1) (Nat.le_trans hm9.2 hC.2) h_4 (cw_rest (Nat.le_of_ble_eq_true rfl)) dX1_lacking_47 (fun H locs hR hS => ?_)
      have hm9 : (0 + 1) ≤ nc ∧ (0 + 1) ≤ ns := by
        obtain ⟨D_5, h_5, hq⟩ := ww_bS hf; replace hf := hq; clear hq
        obtain ⟨D_6, c_6, k_6, h_6, hq⟩ := ww_b3S hf; replace hf := hq; clear hq
        obtain ⟨D_7, c_7, k_7, h_7, hq⟩ := ww_b3S hf; replace hf := hq; clear hq
        obtain ⟨r_8, h_8, hq⟩ := ww_bS hf; replace hf := hq; clear hq
        obtain ⟨r_9, D_9, h_9, hq⟩ := ww_b2S hf; replace hf := hq; clear hq
        have e9 := hf
        simp only [Option.some.injEq, Prod.mk.injEq] at e9
        omega
      refine cw_onew (ci := 0) (C := RX4) (T := TX4) (N := 1) rfl (by decide) in_X4 tyX4 tyX4_ok rfl X hK hR hS q234 q817 q151 (Nat.le_trans hm9.1 hC.1) (Nat.le_trans hm9.2 hC.2) dX1_lacking_50 (fun H hR hS => ?_)
      refine lv_dup hx hb dX1_lacking_53 rfl ?_
      refine lv_aload_n hx hb dX1_lacking_54 rfl (lv_at hl 0 rfl) ?_
      obtain ⟨D_5, h_5, hq⟩ := ww_bS hf; replace hf := hq; clear hq
      rw [show ww_R (cw_nO D_2 0).1 99 = some E.1.1 from cw_this hK hR] at h_5
      refine c1c_4_init (x1 := (some E.1.1)) X hl.1 hK hR hS (Nat.le_trans (Nat.le_of_ble_eq_true rfl) hF) (Nat.le_trans (Nat.le_of_ble_eq_true rfl) hLo) (Nat.le_trans hm9.1 hC.1) (Nat.le_trans hm9.2 hC.2) h_5 (cw_rest (Nat.le_of_ble_eq_true rfl)) dX1_lacking_55 (fun H locs hR hS => ?_)
      obtain ⟨D_6, c_6, k_6, h_6, hq⟩ := ww_b3S hf; replace hf := hq; clear hq
      have hm9 : ((0 + 1) + c_6) ≤ nc ∧ ((0 + 1) + k_6) ≤ ns := by
        obtain ⟨D_7, c_7, k_7, h_7, hq⟩ := ww_b3S hf; replace hf := hq; clear hq
        obtain ⟨r_8, h_8, hq⟩ := ww_bS hf; replace hf := hq; clear hq
        obtain ⟨r_9, D_9, h_9, hq⟩ := ww_b2S hf; replace hf := hq; clear hq
        have e9 := hf
        simp only [Option.some.injEq, Prod.mk.injEq] at e9
        omega
      refine c1c_1_work (x1 := r_4) (x2 := (some D_2.2.2)) X hl.1 hK hR hS (Nat.le_trans (Nat.le_of_ble_eq_true rfl) hF) (Nat.le_trans (Nat.le_of_ble_eq_true rfl) hLo) (Nat.le_trans hm9.1 hC.1) (Nat.le_trans hm9.2 hC.2) h_6 (cw_rest (Nat.le_of_ble_eq_true rfl)) dX1_lacking_58 (fun H locs hR hS => ?_)
      refine lv_aload_n hx hb dX1_lacking_61 rfl (lv_at hl 0 rfl) ?_
      refine lv_iload_n hx hb dX1_lacking_62 rfl (lv_at hl 2 rfl) ?_
      obtain ⟨D_7, c_7, k_7, h_7, hq⟩ := ww_b3S hf; replace hf := hq; clear hq
      have hm9 : (((0 + 1) + c_6) + c_7) ≤ nc ∧ (((0 + 1) + k_6) + k_7) ≤ ns := by
        obtain ⟨r_8, h_8, hq⟩ := ww_bS hf; replace hf := hq; clear hq
        obtain ⟨r_9, D_9, h_9, hq⟩ := ww_b2S hf; replace hf := hq; clear hq
        have e9 := hf
        simp only [Option.some.injEq, Prod.mk.injEq] at e9
        omega
      refine c1c_1_takeNow X hl.1 hK hR hS (Nat.le_trans (Nat.le_of_ble_eq_true rfl) hF) (Nat.le_trans (Nat.le_of_ble_eq_true rfl) hLo) (Nat.le_trans hm9.1 hC.1) (Nat.le_trans hm9.2 hC.2) h_7 (cw_rest (Nat.le_of_ble_eq_true rfl)) dX1_lacking_63 (fun H locs hR hS => ?_)
      refine lv_aload_n hx hb dX1_lacking_66 rfl (lv_at hl 0 rfl) ?_
      refine lv_aload_n hx hb dX1_lacking_67 rfl (lv_at hl 0 rfl) ?_
      obtain ⟨r_8, h_8, hq⟩ := ww_bS hf; replace hf := hq; clear hq
      refine c1g_226 X hK hR h_8 dX1_lacking_68 ?_
      refine lv_iload_n hx hb dX1_lacking_71 rfl (lv_at hl 1 rfl) ?_
      refine lv_iconst (v := (-1 : Int32)) hx hb dX1_lacking_72 (by decide) ?_
      obtain ⟨r_9, D_9, h_9, hq⟩ := ww_b2S hf; replace hf := hq; clear hq
      refine c1c_1_holds (x1 := r_8) X hl.1 hK hR hS (Nat.le_trans (Nat.le_of_ble_eq_true rfl) hF) (Nat.le_trans (Nat.le_of_ble_eq_true rfl) hLo) (Nat.le_trans hm9.1 hC.1) (Nat.le_trans hm9.2 hC.2) h_9 (cw_rest (Nat.le_of_ble_eq_true rfl)) dX1_lacking_73 (fun H locs hR hS => ?_)
      exact hend dX1_lacking_76 rfl rfl hf hR hS
    · replace hf := ww_in hf c_3
      refine lv_iconst (v := (-1 : Int32)) hx hb dX1_lacking_42 (by decide) ?_
      exact hend dX1_lacking_43 rfl rfl hf hR hS
  refine lv_if_ne (tgt := 13) hx hb dX1_lacking_6 (by decide) (fun c_10 => ?_) (fun c_10 => ?_)
  · replace hf := ww_in hf c_10
    refine lv_iload_n hx hb dX1_lacking_13 rfl (lv_at hl 2 rfl) ?_
    obtain ⟨r_11, h_11, hq⟩ := ww_bS hf; replace hf := hq; clear hq
    refine c1c_1_isKey X hl.1 (Nat.le_trans (Nat.le_of_ble_eq_true rfl) hF) (Nat.le_trans (Nat.le_of_ble_eq_true rfl) hLo) (Nat.le_trans hm9.1 hC.1) (Nat.le_trans hm9.2 hC.2) h_11 (cw_rest (Nat.le_of_ble_eq_true rfl)) dX1_lacking_14 ?_
    refine lv_if_ne (tgt := 24) hx hb dX1_lacking_17 (by decide) (fun c_12 => ?_) (fun c_12 => ?_)
    · replace hf := ww_in hf c_12
      refine lv_aload_n hx hb dX1_lacking_24 rfl (lv_at hl 0 rfl) ?_
      obtain ⟨r_13, h_13, hq⟩ := ww_bS hf; replace hf := hq; clear hq
      refine c1c_1_isRoom X hl.1 hK hR hS (Nat.le_trans (Nat.le_of_ble_eq_true rfl) hF) (Nat.le_trans (Nat.le_of_ble_eq_true rfl) hLo) (Nat.le_trans hm9.1 hC.1) (Nat.le_trans hm9.2 hC.2) h_13 (cw_rest (Nat.le_of_ble_eq_true rfl)) dX1_lacking_25 (fun H locs hR hS => ?_)
      refine lv_if_ne (tgt := 35) hx hb dX1_lacking_28 (by decide) (fun c_14 => ?_) (fun c_14 => ?_)
      · replace hf := ww_in hf c_14
        refine lv_iconst (v := (-1 : Int32)) hx hb dX1_lacking_35 (by decide) ?_
        exact (hj_1 (-1 : Int32) hf).2 _ _ _ hR hS hl
      · replace hf := ww_ip hf c_14
        refine lv_iconst (v := (4 : Int32)) hx hb dX1_lacking_31 (by decide) ?_
        refine lv_goto (tgt := 36) hx hb dX1_lacking_32 (by decide) ?_
        exact (hj_1 (4 : Int32) hf).2 _ _ _ hR hS hl
    · replace hf := ww_ip hf c_12
      refine lv_iconst (v := (1 : Int32)) hx hb dX1_lacking_20 (by decide) ?_
      refine lv_goto (tgt := 36) hx hb dX1_lacking_21 (by decide) ?_
      exact (hj_1 (1 : Int32) hf).2 _ _ _ hR hS hl
  · replace hf := ww_ip hf c_10
    refine lv_iconst (v := (0 : Int32)) hx hb dX1_lacking_9 (by decide) ?_
    refine lv_goto (tgt := 36) hx hb dX1_lacking_10 (by decide) ?_
    exact (hj_1 (0 : Int32) hf).2 _ _ _ hR hS hl
noncomputable def f1_unionOf_b1c (D : cw_D) (y1 : Option Nat) (y3 : Int32) (x4 : Int32) (x5 : Int32) : Option ((Int32 × Int32) ⊕ (Int32 × cw_D)) :=
  if y3 ≤ x5 then ww_x (some (x4, D)) else ww_g (ww_i x5 120) (ww_b (f1_valueIn D y1 (ww_X D.1 29 x5)) (fun r_5 => if r_5 = (-1000000 : Int32) then some (.inl ((x4 + (1 : Int32)), (x5 + (1 : Int32)))) else some (.inl (x4, (x5 + (1 : Int32))))))
noncomputable def f1_unionOf_b1 (D : cw_D) (y1 : Option Nat) (y3 : Int32) : (Int32 × Int32) → Option ((Int32 × Int32) ⊕ (Int32 × cw_D)) := fun s9 => f1_unionOf_b1c D y1 y3 s9.1 s9.2
noncomputable def f1_unionOf (D : cw_D) (x1 : Option Nat) (x2 : Option Nat) : Option (Int32 × cw_D) :=
  ww_b2 (f1_flat D x2) (fun r_1 D_1 => ww_b2 (f1_sizeOf D_1 x1) (fun r_2 D_2 => ww_U (f1_unionOf_b1 D_2 x1 r_1) (r_2, (0 : Int32))))
section C_1_unionOf_k
variable {p : Program} {l : Launch} {e : Env} {R : Room} {s : State} {m : MethodId} {args : Array Value} {below : List Frame} {meth : Method} {c : Code} {H : Heap} {locs : List Loc} {cells slots : Nat} {Q : State → Prop}
variable {cc : ByteArray} {pc : Nat} {ls : Array Slot} {rest : List Value} {nL : Nat} {E : cw_E} {A : Nat → Prop} {H0 : Heap}
theorem c1k_1_unionOf {D : cw_D} {x1 : Option Nat} {x2 : Option Nat} {r : Int32} {D' : cw_D} (X : ww_C p m c cc nL s args RX1 lw_all) (hsz : ls.size = nL) (hK : cw_K E A s) (hR : cw_H E A D H) (hS : va_S A s.heap H locs) (hF : 22 ≤ R.frames) (hLo : 465 ≤ R.locals) (hc : cells ≤ R.cells) (hs : slots ≤ R.slots) (hM : cw_MetI l yX1_unionOf cX1_unionOf 6 (some Jvm.ClassFile.FieldType.int) 21 440 E A [.ref E.1.1, va_rf x1, va_rf x2] D D' r 0 0) (hrest : (rest.map fun v => v.category).sum ≤ 8) (hdg : decode cc pc = .ok (.invokevirtual 388, 3)) (kk : ∀ (H1 : Heap) (locs1 : List Loc), cw_H E A D' H1 → va_S A s.heap H1 locs1 → W p l e R s m args below meth c H1 locs1 cells slots Q (F0 m (pc + 3) ls (.int r :: rest))) : W p l e R s m args below meth c H locs cells slots Q (F0 m pc ls (va_rf x2 :: va_rf x1 :: .ref E.1.1 :: rest)) :=
  va_calli (va_runV (C := RX1) (As := [va_rf x1, va_rf x2]) (rest := rest) (b := E.1.1) X hM (cwV 2 X.2.2.2.2 (lw_V q1308 q1310 qs37 q131 q1311) rfl rfl rfl (by decide +kernel) ⟨hF, hLo⟩) (cw_pV hK hR hS (cw_rcM hK hR)) rfl rfl hsz rfl (lv_room hrest) hdg ⟨hc, hs⟩) hS (fun q _ h => h) (fun q h => h) (fun r' u t H1 locs1 ht hvm hw hB hz1 hk1 hS1 => by subst hw; rw [ht] at hB; exact kk H1 locs1 hB hS1)
end C_1_unionOf_k
set_option maxHeartbeats 4000000 in
set_option maxRecDepth 100000 in
theorem met1_unionOf (l : Launch) {E : cw_E} {A : Nat → Prop} (D : cw_D) (x1 : Option Nat) (x2 : Option Nat) (r : Int32) (D' : cw_D) (hf : f1_unionOf D x1 x2 = some (r, D')) : cw_MetI l yX1_unionOf cX1_unionOf 6 (some Jvm.ClassFile.FieldType.int) 21 440 E A [.ref E.1.1, va_rf x1, va_rf x2] D D' r 0 0 := by
  unfold f1_unionOf at hf
  refine cw_sID (own := RX1) (by decide +kernel) [(0, .ref E.1.1), (1, va_rf x1), (2, va_rf x2)] ⟨by cases x1 <;> cases x2 <;> exact Nat.le_of_ble_eq_true rfl, by cases x1 <;> cases x2 <;> rfl⟩ ?_
  intro p e s m args below meth c Rm Q X hK hF hLo hin hend ls hl hR hS
  obtain ⟨hx, hb, hml, hown, hts⟩ := id X
  refine lv_aload_n hx hb dX1_unionOf_0 rfl (lv_at hl 0 rfl) ?_
  refine cw_aload_n (x := x2) hx hb dX1_unionOf_1 rfl (lv_at hl 2 rfl) ?_
  obtain ⟨r_1, D_1, h_1, hq⟩ := ww_b2S hf; replace hf := hq; clear hq
  refine c1c_1_flat (x1 := x2) X hl.1 hK hR hS (Nat.le_trans (Nat.le_of_ble_eq_true rfl) hF) (Nat.le_trans (Nat.le_of_ble_eq_true rfl) hLo) (Nat.zero_le _) (Nat.zero_le _) h_1 (cw_rest (Nat.le_of_ble_eq_true rfl)) dX1_unionOf_2 (fun H locs hR hS => ?_)
  refine lv_istore_n (lv' := [(3, .int r_1), (0, .ref E.1.1), (1, va_rf x1), (2, va_rf x2)]) hx hb dX1_unionOf_5 rfl hl (by decide) (by cases x2 <;> rfl) (fun ls hl => ?_)
  refine cw_aload_n (x := x1) hx hb dX1_unionOf_6 rfl (lv_at hl 2 rfl) ?_
  obtain ⟨r_2, D_2, h_2, hq⟩ := ww_b2S hf; replace hf := hq; clear hq
  refine c1c_1_sizeOf (x0 := x1) X hl.1 hK hR hS (Nat.le_trans (Nat.le_of_ble_eq_true rfl) hF) (Nat.le_trans (Nat.le_of_ble_eq_true rfl) hLo) (Nat.zero_le _) (Nat.zero_le _) h_2 (cw_rest (Nat.le_of_ble_eq_true rfl)) dX1_unionOf_7 (fun H locs hR hS => ?_)
  refine lv_istore (lv' := [(4, .int r_2), (3, .int r_1), (0, .ref E.1.1), (1, va_rf x1), (2, va_rf x2)]) hx hb dX1_unionOf_10 hl (by decide) rfl (fun ls hl => ?_)
  refine lv_iconst (v := (0 : Int32)) hx hb dX1_unionOf_12 (by decide) ?_
  refine lv_istore (lv' := [(5, .int (0 : Int32)), (4, .int r_2), (3, .int r_1), (0, .ref E.1.1), (1, va_rf x1), (2, va_rf x2)]) hx hb dX1_unionOf_13 hl (by decide) rfl (fun ls hl => ?_)
  have hL_1 : ∀ s9 : Int32 × Int32, ww_U (f1_unionOf_b1 D_2 x1 r_1) s9 = some (r, D') → ∀ (H : Heap) (locs : List Loc) (ls : Array Slot), cw_H E A D_2 H → va_S A s.heap H locs → lv_has ls 6 [(0, .ref E.1.1), (1, va_rf x1), (3, .int r_1), (4, .int s9.1), (5, .int s9.2)] → W p l e Rm s m args below meth c H locs 0 0 Q (F0 m 15 ls []) := by
    clear hf
    refine ww_ind _ (r, D') ?_
    intro s9 z_1 hf hz_1
    obtain ⟨x4, x5⟩ := s9
    replace hf : f1_unionOf_b1c D_2 x1 r_1 x4 x5 = some z_1 := hf
    unfold f1_unionOf_b1c at hf
    try clear hl
    try clear hS
    try clear hR
    intro H locs ls hR hS hl
    replace hl : lv_has ls 6 [(0, .ref E.1.1), (1, va_rf x1), (3, .int r_1), (4, .int x4), (5, .int x5)] := hl
    refine lv_iload hx hb dX1_unionOf_15 (lv_at hl 4 rfl) ?_
    refine lv_iload_n hx hb dX1_unionOf_17 rfl (lv_at hl 2 rfl) ?_
    refine lv_icmp_ge (tgt := 46) hx hb dX1_unionOf_18 (by decide) (fun c_3 => ?_) (fun c_3 => ?_)
    · replace hf := ww_ip hf c_3
      replace hf := ww_xK hf hz_1
      refine lv_iload hx hb dX1_unionOf_46 (lv_at hl 3 rfl) ?_
      exact hend dX1_unionOf_48 rfl rfl hf hR hS
    · replace hf := ww_in hf c_3
      refine cw_aload_n (x := x1) hx hb dX1_unionOf_21 rfl (lv_at hl 1 rfl) ?_
      refine lv_aload_n hx hb dX1_unionOf_22 rfl (lv_at hl 0 rfl) ?_
      refine c1g_97 X hK hR dX1_unionOf_23 ?_
      refine lv_iload hx hb dX1_unionOf_26 (lv_at hl 4 rfl) ?_
      obtain ⟨h_4, hq⟩ := ww_gS hf; replace hf := hq; clear hq
      refine c1l_29 X hK hR h_4 dX1_unionOf_28 ?_
      obtain ⟨r_5, h_5, hq⟩ := ww_bS hf; replace hf := hq; clear hq
      refine c1c_1_valueIn (x0 := x1) X hl.1 hK hR hS (Nat.le_trans (Nat.le_of_ble_eq_true rfl) hF) (Nat.le_trans (Nat.le_of_ble_eq_true rfl) hLo) (Nat.zero_le _) (Nat.zero_le _) h_5 (cw_rest (Nat.le_of_ble_eq_true rfl)) dX1_unionOf_29 (fun H locs hR hS => ?_)
      refine lv_ldc (v := (-1000000 : Int32)) hx hb hown (hts _ q420) dX1_unionOf_32 ?_
      refine lv_icmp_ne (tgt := 40) hx hb dX1_unionOf_34 (by decide) (fun c_6 => ?_) (fun c_6 => ?_)
      · replace hf := ww_in hf c_6
        refine lv_iinc (k := 4) (v := x5 + (1 : Int32)) (lv' := [(5, .int (x5 + (1 : Int32))), (0, .ref E.1.1), (1, va_rf x1), (3, .int r_1), (4, .int x4)]) hx hb dX1_unionOf_40 hl rfl rfl (by decide) rfl (fun ls hl => ?_)
        refine lv_goto (tgt := 15) hx hb dX1_unionOf_43 (by decide) ?_
        exact ww_lK hf hz_1 _ _ _ hR hS (lv_sub hl [1, 2, 3, 4, 0] rfl)
      · replace hf := ww_ip hf c_6
        refine lv_iinc (k := 3) (v := x4 + (1 : Int32)) (lv' := [(4, .int (x4 + (1 : Int32))), (0, .ref E.1.1), (1, va_rf x1), (3, .int r_1), (5, .int x5)]) hx hb dX1_unionOf_37 hl rfl rfl (by decide) rfl (fun ls hl => ?_)
        refine lv_iinc (k := 4) (v := x5 + (1 : Int32)) (lv' := [(5, .int (x5 + (1 : Int32))), (4, .int (x4 + (1 : Int32))), (0, .ref E.1.1), (1, va_rf x1), (3, .int r_1)]) hx hb dX1_unionOf_40 hl rfl rfl (by decide) rfl (fun ls hl => ?_)
        refine lv_goto (tgt := 15) hx hb dX1_unionOf_43 (by decide) ?_
        exact ww_lK hf hz_1 _ _ _ hR hS (lv_sub hl [2, 3, 4, 1, 0] rfl)
  exact hL_1 (r_2, (0 : Int32)) hf _ _ _ hR hS (lv_sub hl [3, 4, 2, 1, 0] rfl)
section C_1_unionOf_c
variable {p : Program} {l : Launch} {e : Env} {R : Room} {s : State} {m : MethodId} {args : Array Value} {below : List Frame} {meth : Method} {c : Code} {H : Heap} {locs : List Loc} {cells slots : Nat} {Q : State → Prop}
variable {cc : ByteArray} {pc : Nat} {ls : Array Slot} {rest : List Value} {nL : Nat} {E : cw_E} {A : Nat → Prop} {H0 : Heap}
theorem c1c_1_unionOf {D : cw_D} {x1 : Option Nat} {x2 : Option Nat} {r : Int32} {D' : cw_D} (X : ww_C p m c cc nL s args RX1 lw_all) (hsz : ls.size = nL) (hK : cw_K E A s) (hR : cw_H E A D H) (hS : va_S A s.heap H locs) (hF : 22 ≤ R.frames) (hLo : 465 ≤ R.locals) (hc : cells ≤ R.cells) (hs : slots ≤ R.slots) (hf : f1_unionOf D x1 x2 = some (r, D')) (hrest : (rest.map fun v => v.category).sum ≤ 8) (hdg : decode cc pc = .ok (.invokevirtual 388, 3)) (kk : ∀ (H1 : Heap) (locs1 : List Loc), cw_H E A D' H1 → va_S A s.heap H1 locs1 → W p l e R s m args below meth c H1 locs1 cells slots Q (F0 m (pc + 3) ls (.int r :: rest))) : W p l e R s m args below meth c H locs cells slots Q (F0 m pc ls (va_rf x2 :: va_rf x1 :: .ref E.1.1 :: rest)) :=
  c1k_1_unionOf X hsz hK hR hS hF hLo hc hs (met1_unionOf l _ _ _ _ _ hf) hrest hdg kk
end C_1_unionOf_c
noncomputable def f1_held (x0 : Int32) : Option (Int32) :=
  some (if (-999 : Int32) < (if x0 < (999 : Int32) then x0 else (999 : Int32)) then (if x0 < (999 : Int32) then x0 else (999 : Int32)) else (-999 : Int32))
set_option maxHeartbeats 4000000 in
set_option maxRecDepth 100000 in
theorem met1_held (l : Launch) (x0 : Int32) (r : Int32) (hf : f1_held x0 = some r) : t3_MetS l yX1_held cX1_held 1 (some Jvm.ClassFile.FieldType.int) 1 40 [.int x0] r := by
  unfold f1_held at hf
  refine t3_startS (own := RX1) (by decide +kernel) (Nat.le_of_ble_eq_true rfl) ?_
  intro p e s m args below meth c Rm Q X hF hLo hend ls hl hS; have hR : s.heap = s.heap := rfl
  obtain ⟨hx, hb, hml, hown, hts⟩ := id X
  replace hl : lv_has ls 1 [(0, .int x0)] := hl
  refine lv_sipush (v := (-999 : Int32)) hx hb dX1_held_0 (by decide) ?_
  refine lv_sipush (v := (999 : Int32)) hx hb dX1_held_3 (by decide) ?_
  refine lv_iload_n hx hb dX1_held_6 rfl (lv_at hl 0 rfl) ?_
  refine va_mmin hx hb (hml.trans hl.1.symm) hown (hts _ q1325) (hts _ q493) (hts _ q141) (hts _ q494) (Nat.le_trans (Nat.le_of_ble_eq_true rfl) hF) (Nat.le_trans (Nat.le_of_ble_eq_true rfl) hLo) (Nat.zero_le _) (Nat.zero_le _) dX1_held_7 ?_
  refine va_mmax hx hb (hml.trans hl.1.symm) hown (hts _ q1321) (hts _ q475) (hts _ q141) (hts _ q476) (Nat.le_trans (Nat.le_of_ble_eq_true rfl) hF) (Nat.le_trans (Nat.le_of_ble_eq_true rfl) hLo) (Nat.zero_le _) (Nat.zero_le _) dX1_held_10 ?_
  exact hend dX1_held_13 rfl rfl hf hR hS
section C_1_held_c
variable {p : Program} {l : Launch} {e : Env} {R : Room} {s : State} {m : MethodId} {args : Array Value} {below : List Frame} {meth : Method} {c : Code} {H : Heap} {locs : List Loc} {cells slots : Nat} {Q : State → Prop}
variable {cc : ByteArray} {pc : Nat} {ls : Array Slot} {rest : List Value} {nL : Nat} {E : cw_E} {A : Nat → Prop} {H0 : Heap}
theorem c1c_1_held {x0 : Int32} {r : Int32} (X : ww_C p m c cc nL s args RX1 lw_all) (hsz : ls.size = nL) (hF : 2 ≤ R.frames) (hLo : 60 ≤ R.locals) (hc : cells ≤ R.cells) (hs : slots ≤ R.slots) (hf : f1_held x0 = some r) (hrest : (rest.map fun v => v.category).sum ≤ 8) (hdg : decode cc pc = .ok (.invokestatic 314, 3)) (kk : W p l e R s m args below meth c H locs cells slots Q (F0 m (pc + 3) ls (.int r :: rest))) : W p l e R s m args below meth c H locs cells slots Q (F0 m pc ls (.int x0 :: rest)) :=
  t3_callS (n := 1) X hsz (As := [.int x0]) (met1_held l x0 r hf) (lw_S q1322 q1323 q131 q1324) (by decide +kernel) rfl hF hLo hc hs hrest hdg kk
end C_1_held_c
noncomputable def f1_ruled (x0 : Int32) (x1 : Int32) (x2 : Int32) : Option (Int32) :=
  if x0 = 0 then some x1 else if x0 = 1 then some x2 else if x0 = 2 then some (if x1 < x2 then x2 else x1) else ww_b (f1_held (x1 + x2)) (fun r_4 => some r_4)
set_option maxHeartbeats 4000000 in
set_option maxRecDepth 100000 in
theorem met1_ruled (l : Launch) (x0 : Int32) (x1 : Int32) (x2 : Int32) (r : Int32) (hf : f1_ruled x0 x1 x2 = some r) : t3_MetS l yX1_ruled cX1_ruled 3 (some Jvm.ClassFile.FieldType.int) 2 60 [.int x0, .int x1, .int x2] r := by
  unfold f1_ruled at hf
  refine t3_startS (own := RX1) (by decide +kernel) (Nat.le_of_ble_eq_true rfl) ?_
  intro p e s m args below meth c Rm Q X hF hLo hend ls hl hS; have hR : s.heap = s.heap := rfl
  obtain ⟨hx, hb, hml, hown, hts⟩ := id X
  replace hl : lv_has ls 3 [(0, .int x0), (1, .int x1), (2, .int x2)] := hl
  refine lv_iload_n hx hb dX1_ruled_0 rfl (lv_at hl 0 rfl) ?_
  refine ww_by (x0 = 0) (fun c_1 => ?_) (fun c_1 => ?_)
  · replace hf := ww_ip hf c_1
    refine ww_tin (k := 0) (off := 27) (tgt := 28) hx hb dX1_ruled_1 c_1 (by decide) (by decide) (by decide) (by decide) ?_
    refine lv_iload_n hx hb dX1_ruled_28 rfl (lv_at hl 1 rfl) ?_
    refine lv_goto (tgt := 50) hx hb dX1_ruled_29 (by decide) ?_
    exact hend dX1_ruled_50 rfl rfl hf hR hS
  replace hf := ww_in hf c_1
  refine ww_by (x0 = 1) (fun c_2 => ?_) (fun c_2 => ?_)
  · replace hf := ww_ip hf c_2
    refine ww_tin (k := 1) (off := 31) (tgt := 32) hx hb dX1_ruled_1 c_2 (by decide) (by decide) (by decide) (by decide) ?_
    refine lv_iload_n hx hb dX1_ruled_32 rfl (lv_at hl 2 rfl) ?_
    refine lv_goto (tgt := 50) hx hb dX1_ruled_33 (by decide) ?_
    exact hend dX1_ruled_50 rfl rfl hf hR hS
  replace hf := ww_in hf c_2
  refine ww_by (x0 = 2) (fun c_3 => ?_) (fun c_3 => ?_)
  · replace hf := ww_ip hf c_3
    refine ww_tin (k := 2) (off := 35) (tgt := 36) hx hb dX1_ruled_1 c_3 (by decide) (by decide) (by decide) (by decide) ?_
    refine lv_iload_n hx hb dX1_ruled_36 rfl (lv_at hl 1 rfl) ?_
    refine lv_iload_n hx hb dX1_ruled_37 rfl (lv_at hl 2 rfl) ?_
    refine va_mmax hx hb (hml.trans hl.1.symm) hown (hts _ q1321) (hts _ q475) (hts _ q141) (hts _ q476) (Nat.le_trans (Nat.le_of_ble_eq_true rfl) hF) (Nat.le_trans (Nat.le_of_ble_eq_true rfl) hLo) (Nat.zero_le _) (Nat.zero_le _) dX1_ruled_38 ?_
    refine lv_goto (tgt := 50) hx hb dX1_ruled_41 (by decide) ?_
    exact hend dX1_ruled_50 rfl rfl hf hR hS
  replace hf := ww_in hf c_3
  refine ww_tout (tgt := 44) [0, 1, 2] hx hb dX1_ruled_1 ⟨c_1, c_2, c_3, trivial⟩ (by decide) (by decide) ?_
  refine lv_iload_n hx hb dX1_ruled_44 rfl (lv_at hl 1 rfl) ?_
  refine lv_iload_n hx hb dX1_ruled_45 rfl (lv_at hl 2 rfl) ?_
  refine lv_iadd hx hb dX1_ruled_46 ?_
  obtain ⟨r_4, h_4, hq⟩ := ww_bS hf; replace hf := hq; clear hq
  refine c1c_1_held X hl.1 (Nat.le_trans (Nat.le_of_ble_eq_true rfl) hF) (Nat.le_trans (Nat.le_of_ble_eq_true rfl) hLo) (Nat.zero_le _) (Nat.zero_le _) h_4 (cw_rest (Nat.le_of_ble_eq_true rfl)) dX1_ruled_47 ?_
  exact hend dX1_ruled_50 rfl rfl hf hR hS
section C_1_ruled_c
variable {p : Program} {l : Launch} {e : Env} {R : Room} {s : State} {m : MethodId} {args : Array Value} {below : List Frame} {meth : Method} {c : Code} {H : Heap} {locs : List Loc} {cells slots : Nat} {Q : State → Prop}
variable {cc : ByteArray} {pc : Nat} {ls : Array Slot} {rest : List Value} {nL : Nat} {E : cw_E} {A : Nat → Prop} {H0 : Heap}
theorem c1c_1_ruled {x0 : Int32} {x1 : Int32} {x2 : Int32} {r : Int32} (X : ww_C p m c cc nL s args RX1 lw_all) (hsz : ls.size = nL) (hF : 3 ≤ R.frames) (hLo : 82 ≤ R.locals) (hc : cells ≤ R.cells) (hs : slots ≤ R.slots) (hf : f1_ruled x0 x1 x2 = some r) (hrest : (rest.map fun v => v.category).sum ≤ 8) (hdg : decode cc pc = .ok (.invokestatic 384, 3)) (kk : W p l e R s m args below meth c H locs cells slots Q (F0 m (pc + 3) ls (.int r :: rest))) : W p l e R s m args below meth c H locs cells slots Q (F0 m pc ls (.int x2 :: .int x1 :: .int x0 :: rest)) :=
  t3_callS (n := 3) X hsz (As := [.int x0, .int x1, .int x2]) (met1_ruled l x0 x1 x2 r hf) (lw_S q1318 q1319 q131 q1320) (by decide +kernel) rfl hF hLo hc hs hrest hdg kk
end C_1_ruled_c
noncomputable def f1_mergeNow_b1c (rec : cw_D → Option Nat → Option Nat → Int32 → Int32 → Option (cw_D × Nat × Nat)) (y1 : Option Nat) (y2 : Nat) (y3 : Int32) (y4 : Int32) (D_5 : cw_D) (c_1b : Nat) (k_1b : Nat) (x5 : Int32) : Option ((cw_D × Nat × Nat × Int32) ⊕ (cw_D × Nat × Nat)) :=
  ww_g (cw_kd D_5 [1, 2] (some y2)) (ww_b (f6_many D_5 y2) (fun r_7 => if r_7 ≤ x5 then ww_x (some (D_5, c_1b, k_1b)) else ww_b (f5r_isLeaf f8_isLeaf D_5 y2) (fun r_9 => if r_9 = 0 then ww_b (f5r_kid f8_kid D_5 y2 x5) (fun r_20 => ww_b3 (rec D_5 y1 r_20 y3 y4) (fun D_21 c_21 k_21 => some (.inl (D_21, (c_1b + c_21), (k_1b + k_21), (x5 + (1 : Int32)))))) else ww_b (f5r_keyAt f8_keyAt D_5 y2 x5) (fun r_11 => ww_b (f1_valueIn D_5 y1 r_11) (fun r_12 => ww_b (f5r_keyAt f8_keyAt D_5 y2 x5) (fun r_13 => if r_12 = (-1000000 : Int32) then ww_b (f5r_valueAt f8_valueAt D_5 y2 x5) (fun r_18 => ww_b3 (f1_layNow D_5 r_13 r_18) (fun D_19 c_19 k_19 => some (.inl (D_19, (c_1b + c_19), (k_1b + k_19), (x5 + (1 : Int32)))))) else ww_b (f5r_valueAt f8_valueAt D_5 y2 x5) (fun r_15 => ww_b (f1_ruled y3 r_12 r_15) (fun r_16 => ww_b3 (f1_layNow D_5 r_13 r_16) (fun D_17 c_17 k_17 => some (.inl (D_17, (c_1b + c_17), (k_1b + k_17), (x5 + (1 : Int32)))))))))))))
noncomputable def f1_mergeNow_b1 (rec : cw_D → Option Nat → Option Nat → Int32 → Int32 → Option (cw_D × Nat × Nat)) (y1 : Option Nat) (y2 : Nat) (y3 : Int32) (y4 : Int32) : (cw_D × Nat × Nat × Int32) → Option ((cw_D × Nat × Nat × Int32) ⊕ (cw_D × Nat × Nat)) := fun s9 => f1_mergeNow_b1c rec y1 y2 y3 y4 s9.1 s9.2.1 s9.2.2.1 s9.2.2.2
noncomputable def f1_mergeNow_r (rec : cw_D → Option Nat → Option Nat → Int32 → Int32 → Option (cw_D × Nat × Nat)) (D : cw_D) (x1 : Option Nat) (x2 : Option Nat) (x3 : Int32) (x4 : Int32) : Option (cw_D × Nat × Nat) :=
  ww_b x2 (fun a_1 => ww_g (cw_kd D [1, 2] (some a_1)) (ww_b (f6_isStamped D a_1 x4) (fun r_3 => if r_3 = 0 then ww_U (f1_mergeNow_b1 rec x1 a_1 x3 x4) (D, 0, 0, (0 : Int32)) else some (D, 0, 0))))
noncomputable def f1_mergeNow : Nat → cw_D → Option Nat → Option Nat → Int32 → Int32 → Option (cw_D × Nat × Nat)
  | 0 => fun _ _ _ _ _ => none
  | d + 1 => f1_mergeNow_r (f1_mergeNow d)
section C_1_mergeNow_k
variable {p : Program} {l : Launch} {e : Env} {R : Room} {s : State} {m : MethodId} {args : Array Value} {below : List Frame} {meth : Method} {c : Code} {H : Heap} {locs : List Loc} {cells slots : Nat} {Q : State → Prop}
variable {cc : ByteArray} {pc : Nat} {ls : Array Slot} {rest : List Value} {nL : Nat} {E : cw_E} {A : Nat → Prop} {H0 : Heap}
theorem c1k_1_mergeNow {D : cw_D} {x1 : Option Nat} {x2 : Option Nat} {x3 : Int32} {x4 : Int32} {D' : cw_D} {nc ns : Nat} {d : Nat} (X : ww_C p m c cc nL s args RX1 lw_all) (hsz : ls.size = nL) (hK : cw_K E A s) (hR : cw_H E A D H) (hS : va_S A s.heap H locs) (hF : (d + 21) + 1 ≤ R.frames) (hLo : 8 + (7 + 11) + (26 * d + 497) ≤ R.locals) (hc : cells + nc ≤ R.cells) (hs : slots + ns ≤ R.slots) (hM : cw_MetV l yX1_mergeNow cX1_mergeNow 7 (d + 21) (26 * d + 497) E A [.ref E.1.1, va_rf x1, va_rf x2, .int x3, .int x4] D D' nc ns) (hrest : (rest.map fun v => v.category).sum ≤ 8) (hdg : decode cc pc = .ok (.invokevirtual 380, 3)) (kk : ∀ (H1 : Heap) (locs1 : List Loc), cw_H E A D' H1 → va_S A s.heap H1 locs1 → W p l e R s m args below meth c H1 locs1 (cells + nc) (slots + ns) Q (F0 m (pc + 3) ls (rest))) : W p l e R s m args below meth c H locs cells slots Q (F0 m pc ls (.int x4 :: .int x3 :: va_rf x2 :: va_rf x1 :: .ref E.1.1 :: rest)) :=
  va_callv (va_runV (C := RX1) (As := [va_rf x1, va_rf x2, .int x3, .int x4]) (rest := rest) (b := E.1.1) X hM (cwV 4 X.2.2.2.2 (lw_V q1312 q1314 qs38 q131 q1315) rfl rfl rfl (by decide +kernel) ⟨hF, hLo⟩) (cw_pV hK hR hS (cw_rcM hK hR)) rfl rfl hsz rfl (lv_room hrest) hdg ⟨hc, hs⟩) hS (fun q _ h => h) (fun q h => h) (fun u t H1 locs1 ht hvm hw hB hz1 hk1 hS1 => by rw [ht] at hB; exact kk H1 locs1 hB hS1)
end C_1_mergeNow_k
set_option maxHeartbeats 4000000 in
set_option maxRecDepth 100000 in
theorem met1_mergeNow (l : Launch) {E : cw_E} {A : Nat → Prop} : ∀ (d : Nat) (D : cw_D) (x1 : Option Nat) (x2 : Option Nat) (x3 : Int32) (x4 : Int32) (D' : cw_D) (nc ns : Nat), f1_mergeNow d D x1 x2 x3 x4 = some (D', nc, ns) → cw_MetV l yX1_mergeNow cX1_mergeNow 7 (d + 21) (26 * d + 497) E A [.ref E.1.1, va_rf x1, va_rf x2, .int x3, .int x4] D D' nc ns := by
  intro d
  induction d with
  | zero => intro D x1 x2 x3 x4 D' nc ns hf; cases hf
  | succ d ih =>
    intro D x1 x2 x3 x4 D' nc ns hf
    replace hf : f1_mergeNow_r (f1_mergeNow d) D x1 x2 x3 x4 = some (D', nc, ns) := hf
    unfold f1_mergeNow_r at hf
    refine cw_sVN (own := RX1) (by decide +kernel) [(0, .ref E.1.1), (1, va_rf x1), (2, va_rf x2), (3, .int x3), (4, .int x4)] ⟨by cases x1 <;> cases x2 <;> exact Nat.le_of_ble_eq_true rfl, by cases x1 <;> cases x2 <;> rfl⟩ ?_
    intro p e s m args below meth c Rm Q X hK hF hLo hC hin hend ls hl hR hS
    obtain ⟨hx, hb, hml, hown, hts⟩ := id X
    have hm9 : 0 ≤ nc ∧ 0 ≤ ns := ⟨Nat.zero_le _, Nat.zero_le _⟩
    refine cw_aload_n (x := x2) hx hb dX1_mergeNow_0 rfl (lv_at hl 2 rfl) ?_
    refine lv_iload hx hb dX1_mergeNow_1 (lv_at hl 4 rfl) ?_
    obtain ⟨a_1, e_1, hq⟩ := ww_bS hf; replace hf := hq; clear hq
    subst e_1
    obtain ⟨h_2, hq⟩ := ww_gS hf; replace hf := hq; clear hq
    obtain ⟨r_3, h_3, hq⟩ := ww_bS hf; replace hf := hq; clear hq
    refine c1i_isStamped X hl.1 hK hR hS (by omega) (by omega) (Nat.le_trans hm9.1 hC.1) (Nat.le_trans hm9.2 hC.2) h_2 h_3 (cw_rest (Nat.le_of_ble_eq_true rfl)) dX1_mergeNow_3 (fun H locs hR hS => ?_)
    refine lv_if_eq (tgt := 12) hx hb dX1_mergeNow_8 (by decide) (fun c_4 => ?_) (fun c_4 => ?_)
    · replace hf := ww_ip hf c_4
      refine lv_iconst (v := (0 : Int32)) hx hb dX1_mergeNow_12 (by decide) ?_
      refine lv_istore (lv' := [(5, .int (0 : Int32)), (0, .ref E.1.1), (1, va_rf x1), (2, .ref a_1), (3, .int x3), (4, .int x4)]) hx hb dX1_mergeNow_13 hl (by decide) rfl (fun ls hl => ?_)
      have hL_1 : ∀ s9 : cw_D × Nat × Nat × Int32, ww_U (f1_mergeNow_b1 (f1_mergeNow d) x1 a_1 x3 x4) s9 = some (D', nc, ns) → (s9.2.1 ≤ nc ∧ s9.2.2.1 ≤ ns) ∧ (∀ (H : Heap) (locs : List Loc) (ls : Array Slot), cw_H E A s9.1 H → va_S A s.heap H locs → lv_has ls 7 [(0, .ref E.1.1), (1, va_rf x1), (2, .ref a_1), (3, .int x3), (4, .int x4), (5, .int s9.2.2.2)] → W p l e Rm s m args below meth c H locs s9.2.1 s9.2.2.1 Q (F0 m 15 ls [])) := by
        clear hf
        refine ww_ind _ (D', nc, ns) ?_
        intro s9 z_1 hf hz_1
        obtain ⟨D_5, c_1b, k_1b, x5⟩ := s9
        replace hf : f1_mergeNow_b1c (f1_mergeNow d) x1 a_1 x3 x4 D_5 c_1b k_1b x5 = some z_1 := hf
        unfold f1_mergeNow_b1c at hf
        have hm9 : c_1b ≤ nc ∧ k_1b ≤ ns := by
          show c_1b ≤ nc ∧ k_1b ≤ ns
          obtain ⟨h_6, hq⟩ := ww_gS hf; replace hf := hq; clear hq
          obtain ⟨r_7, h_7, hq⟩ := ww_bS hf; replace hf := hq; clear hq
          refine ww_by (r_7 ≤ x5) (fun c_8 => ?_) (fun c_8 => ?_)
          · replace hf := ww_ip hf c_8
            replace hf := ww_xK hf hz_1
            have e9 := hf
            simp only [Option.some.injEq, Prod.mk.injEq] at e9
            omega
          · replace hf := ww_in hf c_8
            obtain ⟨r_9, h_9, hq⟩ := ww_bS hf; replace hf := hq; clear hq
            refine ww_by (r_9 = 0) (fun c_10 => ?_) (fun c_10 => ?_)
            · replace hf := ww_ip hf c_10
              obtain ⟨r_20, h_20, hq⟩ := ww_bS hf; replace hf := hq; clear hq
              obtain ⟨D_21, c_21, k_21, h_21, hq⟩ := ww_b3S hf; replace hf := hq; clear hq
              have e9 := (ww_lK hf hz_1).1
              try dsimp only at e9
              omega
            · replace hf := ww_in hf c_10
              obtain ⟨r_11, h_11, hq⟩ := ww_bS hf; replace hf := hq; clear hq
              obtain ⟨r_12, h_12, hq⟩ := ww_bS hf; replace hf := hq; clear hq
              obtain ⟨r_13, h_13, hq⟩ := ww_bS hf; replace hf := hq; clear hq
              refine ww_by (r_12 = (-1000000 : Int32)) (fun c_14 => ?_) (fun c_14 => ?_)
              · replace hf := ww_ip hf c_14
                obtain ⟨r_18, h_18, hq⟩ := ww_bS hf; replace hf := hq; clear hq
                obtain ⟨D_19, c_19, k_19, h_19, hq⟩ := ww_b3S hf; replace hf := hq; clear hq
                have e9 := (ww_lK hf hz_1).1
                try dsimp only at e9
                omega
              · replace hf := ww_in hf c_14
                obtain ⟨r_15, h_15, hq⟩ := ww_bS hf; replace hf := hq; clear hq
                obtain ⟨r_16, h_16, hq⟩ := ww_bS hf; replace hf := hq; clear hq
                obtain ⟨D_17, c_17, k_17, h_17, hq⟩ := ww_b3S hf; replace hf := hq; clear hq
                have e9 := (ww_lK hf hz_1).1
                try dsimp only at e9
                omega
        refine ⟨hm9, ?_⟩
        try clear hl
        try clear hS
        try clear hR
        intro H locs ls hR hS hl
        replace hR : cw_H E A D_5 H := hR
        replace hl : lv_has ls 7 [(0, .ref E.1.1), (1, va_rf x1), (2, .ref a_1), (3, .int x3), (4, .int x4), (5, .int x5)] := hl
        show W p l e Rm s m args below meth c H locs c_1b k_1b Q _
        refine lv_iload hx hb dX1_mergeNow_15 (lv_at hl 5 rfl) ?_
        refine lv_aload_n hx hb dX1_mergeNow_17 rfl (lv_at hl 2 rfl) ?_
        obtain ⟨h_6, hq⟩ := ww_gS hf; replace hf := hq; clear hq
        obtain ⟨r_7, h_7, hq⟩ := ww_bS hf; replace hf := hq; clear hq
        refine c1i_many X hl.1 hK hR hS (by omega) (by omega) (Nat.le_trans hm9.1 hC.1) (Nat.le_trans hm9.2 hC.2) h_6 h_7 (cw_rest (Nat.le_of_ble_eq_true rfl)) dX1_mergeNow_18 (fun H locs hR hS => ?_)
        refine lv_icmp_ge (tgt := 118) hx hb dX1_mergeNow_23 (by decide) (fun c_8 => ?_) (fun c_8 => ?_)
        · replace hf := ww_ip hf c_8
          replace hf := ww_xK hf hz_1
          exact hend dX1_mergeNow_118 hf hR hS
        · replace hf := ww_in hf c_8
          refine lv_aload_n hx hb dX1_mergeNow_26 rfl (lv_at hl 2 rfl) ?_
          obtain ⟨r_9, h_9, hq⟩ := ww_bS hf; replace hf := hq; clear hq
          refine c1i_isLeaf X hl.1 hK hR hS (by omega) (by omega) (Nat.le_trans hm9.1 hC.1) (Nat.le_trans hm9.2 hC.2) h_9 (cw_rest (Nat.le_of_ble_eq_true rfl)) dX1_mergeNow_27 (fun H locs hR hS => ?_)
          refine lv_if_ne (tgt := 54) hx hb dX1_mergeNow_32 (by decide) (fun c_10 => ?_) (fun c_10 => ?_)
          · replace hf := ww_in hf c_10
            refine cw_aload_n (x := x1) hx hb dX1_mergeNow_54 rfl (lv_at hl 1 rfl) ?_
            refine lv_aload_n hx hb dX1_mergeNow_55 rfl (lv_at hl 2 rfl) ?_
            refine lv_iload hx hb dX1_mergeNow_56 (lv_at hl 5 rfl) ?_
            obtain ⟨r_11, h_11, hq⟩ := ww_bS hf; replace hf := hq; clear hq
            refine c1i_keyAt X hl.1 hK hR hS (by omega) (by omega) (Nat.le_trans hm9.1 hC.1) (Nat.le_trans hm9.2 hC.2) h_11 (cw_rest (Nat.le_of_ble_eq_true rfl)) dX1_mergeNow_58 (fun H locs hR hS => ?_)
            obtain ⟨r_12, h_12, hq⟩ := ww_bS hf; replace hf := hq; clear hq
            refine c1c_1_valueIn (x0 := x1) X hl.1 hK hR hS (by omega) (by omega) (Nat.le_trans hm9.1 hC.1) (Nat.le_trans hm9.2 hC.2) h_12 (cw_rest (Nat.le_of_ble_eq_true rfl)) dX1_mergeNow_63 (fun H locs hR hS => ?_)
            refine lv_istore (lv' := [(6, .int r_12), (0, .ref E.1.1), (1, va_rf x1), (2, .ref a_1), (3, .int x3), (4, .int x4), (5, .int x5)]) hx hb dX1_mergeNow_66 hl (by decide) rfl (fun ls hl => ?_)
            refine lv_aload_n hx hb dX1_mergeNow_68 rfl (lv_at hl 1 rfl) ?_
            refine lv_aload_n hx hb dX1_mergeNow_69 rfl (lv_at hl 3 rfl) ?_
            refine lv_iload hx hb dX1_mergeNow_70 (lv_at hl 6 rfl) ?_
            obtain ⟨r_13, h_13, hq⟩ := ww_bS hf; replace hf := hq; clear hq
            refine c1i_keyAt X hl.1 hK hR hS (by omega) (by omega) (Nat.le_trans hm9.1 hC.1) (Nat.le_trans hm9.2 hC.2) h_13 (cw_rest (Nat.le_of_ble_eq_true rfl)) dX1_mergeNow_72 (fun H locs hR hS => ?_)
            refine lv_iload hx hb dX1_mergeNow_77 (lv_at hl 0 rfl) ?_
            refine lv_ldc (v := (-1000000 : Int32)) hx hb hown (hts _ q420) dX1_mergeNow_79 ?_
            refine lv_icmp_ne (tgt := 95) hx hb dX1_mergeNow_81 (by decide) (fun c_14 => ?_) (fun c_14 => ?_)
            · replace hf := ww_in hf c_14
              refine lv_iload_n hx hb dX1_mergeNow_95 rfl (lv_at hl 4 rfl) ?_
              refine lv_iload hx hb dX1_mergeNow_96 (lv_at hl 0 rfl) ?_
              refine lv_aload_n hx hb dX1_mergeNow_98 rfl (lv_at hl 3 rfl) ?_
              refine lv_iload hx hb dX1_mergeNow_99 (lv_at hl 6 rfl) ?_
              obtain ⟨r_15, h_15, hq⟩ := ww_bS hf; replace hf := hq; clear hq
              refine c1i_valueAt X hl.1 hK hR hS (by omega) (by omega) (Nat.le_trans hm9.1 hC.1) (Nat.le_trans hm9.2 hC.2) h_15 (cw_rest (Nat.le_of_ble_eq_true rfl)) dX1_mergeNow_101 (fun H locs hR hS => ?_)
              obtain ⟨r_16, h_16, hq⟩ := ww_bS hf; replace hf := hq; clear hq
              refine c1c_1_ruled X hl.1 (by omega) (by omega) (Nat.le_trans hm9.1 hC.1) (Nat.le_trans hm9.2 hC.2) h_16 (cw_rest (Nat.le_of_ble_eq_true rfl)) dX1_mergeNow_106 ?_
              obtain ⟨D_17, c_17, k_17, h_17, hq⟩ := ww_b3S hf; replace hf := hq; clear hq
              have hm9 : (c_1b + c_17) ≤ nc ∧ (k_1b + k_17) ≤ ns := by
                have e9 := (ww_lK hf hz_1).1
                try dsimp only at e9
                omega
              refine c1c_1_layNow X hl.1 hK hR hS (by omega) (by omega) (Nat.le_trans hm9.1 hC.1) (Nat.le_trans hm9.2 hC.2) h_17 (cw_rest (Nat.le_of_ble_eq_true rfl)) dX1_mergeNow_109 (fun H locs hR hS => ?_)
              refine lv_iinc (k := 6) (v := x5 + (1 : Int32)) (lv' := [(5, .int (x5 + (1 : Int32))), (6, .int r_12), (0, .ref E.1.1), (1, va_rf x1), (2, .ref a_1), (3, .int x3), (4, .int x4)]) hx hb dX1_mergeNow_112 hl rfl rfl (by decide) rfl (fun ls hl => ?_)
              refine lv_goto (tgt := 15) hx hb dX1_mergeNow_115 (by decide) ?_
              exact (ww_lK hf hz_1).2 _ _ _ hR hS (lv_sub hl [2, 3, 4, 5, 6, 0] rfl)
            · replace hf := ww_ip hf c_14
              refine lv_aload_n hx hb dX1_mergeNow_84 rfl (lv_at hl 3 rfl) ?_
              refine lv_iload hx hb dX1_mergeNow_85 (lv_at hl 6 rfl) ?_
              obtain ⟨r_18, h_18, hq⟩ := ww_bS hf; replace hf := hq; clear hq
              refine c1i_valueAt X hl.1 hK hR hS (by omega) (by omega) (Nat.le_trans hm9.1 hC.1) (Nat.le_trans hm9.2 hC.2) h_18 (cw_rest (Nat.le_of_ble_eq_true rfl)) dX1_mergeNow_87 (fun H locs hR hS => ?_)
              refine lv_goto (tgt := 109) hx hb dX1_mergeNow_92 (by decide) ?_
              obtain ⟨D_19, c_19, k_19, h_19, hq⟩ := ww_b3S hf; replace hf := hq; clear hq
              have hm9 : (c_1b + c_19) ≤ nc ∧ (k_1b + k_19) ≤ ns := by
                have e9 := (ww_lK hf hz_1).1
                try dsimp only at e9
                omega
              refine c1c_1_layNow X hl.1 hK hR hS (by omega) (by omega) (Nat.le_trans hm9.1 hC.1) (Nat.le_trans hm9.2 hC.2) h_19 (cw_rest (Nat.le_of_ble_eq_true rfl)) dX1_mergeNow_109 (fun H locs hR hS => ?_)
              refine lv_iinc (k := 6) (v := x5 + (1 : Int32)) (lv' := [(5, .int (x5 + (1 : Int32))), (6, .int r_12), (0, .ref E.1.1), (1, va_rf x1), (2, .ref a_1), (3, .int x3), (4, .int x4)]) hx hb dX1_mergeNow_112 hl rfl rfl (by decide) rfl (fun ls hl => ?_)
              refine lv_goto (tgt := 15) hx hb dX1_mergeNow_115 (by decide) ?_
              exact (ww_lK hf hz_1).2 _ _ _ hR hS (lv_sub hl [2, 3, 4, 5, 6, 0] rfl)
          · replace hf := ww_ip hf c_10
            refine lv_aload_n hx hb dX1_mergeNow_35 rfl (lv_at hl 0 rfl) ?_
            refine cw_aload_n (x := x1) hx hb dX1_mergeNow_36 rfl (lv_at hl 1 rfl) ?_
            refine lv_aload_n hx hb dX1_mergeNow_37 rfl (lv_at hl 2 rfl) ?_
            refine lv_iload hx hb dX1_mergeNow_38 (lv_at hl 5 rfl) ?_
            obtain ⟨r_20, h_20, hq⟩ := ww_bS hf; replace hf := hq; clear hq
            refine c1i_kid X hl.1 hK hR hS (by omega) (by omega) (Nat.le_trans hm9.1 hC.1) (Nat.le_trans hm9.2 hC.2) h_20 (cw_rest (Nat.le_of_ble_eq_true rfl)) dX1_mergeNow_40 (fun H locs hR hS => ?_)
            refine lv_iload_n hx hb dX1_mergeNow_45 rfl (lv_at hl 3 rfl) ?_
            refine lv_iload hx hb dX1_mergeNow_46 (lv_at hl 4 rfl) ?_
            obtain ⟨D_21, c_21, k_21, h_21, hq⟩ := ww_b3S hf; replace hf := hq; clear hq
            have hm9 : (c_1b + c_21) ≤ nc ∧ (k_1b + k_21) ≤ ns := by
              have e9 := (ww_lK hf hz_1).1
              try dsimp only at e9
              omega
            refine c1k_1_mergeNow (x1 := x1) (x2 := r_20) X hl.1 hK hR hS (by omega) (by omega) (Nat.le_trans hm9.1 hC.1) (Nat.le_trans hm9.2 hC.2) (ih _ _ _ _ _ _ _ _ h_21) (cw_rest (Nat.le_of_ble_eq_true rfl)) dX1_mergeNow_48 (fun H locs hR hS => ?_)
            refine lv_goto (tgt := 112) hx hb dX1_mergeNow_51 (by decide) ?_
            refine lv_iinc (k := 5) (v := x5 + (1 : Int32)) (lv' := [(5, .int (x5 + (1 : Int32))), (0, .ref E.1.1), (1, va_rf x1), (2, .ref a_1), (3, .int x3), (4, .int x4)]) hx hb dX1_mergeNow_112 hl rfl rfl (by decide) rfl (fun ls hl => ?_)
            refine lv_goto (tgt := 15) hx hb dX1_mergeNow_115 (by decide) ?_
            exact (ww_lK hf hz_1).2 _ _ _ hR hS (lv_sub hl [1, 2, 3, 4, 5, 0] rfl)
      exact (hL_1 (D, 0, 0, (0 : Int32)) hf).2 _ _ _ hR hS (lv_sub hl [1, 2, 3, 4, 5, 0] rfl)
    · replace hf := ww_in hf c_4
      exact hend dX1_mergeNow_11 hf hR hS
section C_1_mergeNow_c
variable {p : Program} {l : Launch} {e : Env} {R : Room} {s : State} {m : MethodId} {args : Array Value} {below : List Frame} {meth : Method} {c : Code} {H : Heap} {locs : List Loc} {cells slots : Nat} {Q : State → Prop}
variable {cc : ByteArray} {pc : Nat} {ls : Array Slot} {rest : List Value} {nL : Nat} {E : cw_E} {A : Nat → Prop} {H0 : Heap}
theorem c1c_1_mergeNow {D : cw_D} {x1 : Option Nat} {x2 : Option Nat} {x3 : Int32} {x4 : Int32} {D' : cw_D} {nc ns : Nat} (X : ww_C p m c cc nL s args RX1 lw_all) (hsz : ls.size = nL) (hK : cw_K E A s) (hR : cw_H E A D H) (hS : va_S A s.heap H locs) (hF : 30 ≤ R.frames) (hLo : 731 ≤ R.locals) (hc : cells + nc ≤ R.cells) (hs : slots + ns ≤ R.slots) (hf : f1_mergeNow 8 D x1 x2 x3 x4 = some (D', nc, ns)) (hrest : (rest.map fun v => v.category).sum ≤ 8) (hdg : decode cc pc = .ok (.invokevirtual 380, 3)) (kk : ∀ (H1 : Heap) (locs1 : List Loc), cw_H E A D' H1 → va_S A s.heap H1 locs1 → W p l e R s m args below meth c H1 locs1 (cells + nc) (slots + ns) Q (F0 m (pc + 3) ls (rest))) : W p l e R s m args below meth c H locs cells slots Q (F0 m pc ls (.int x4 :: .int x3 :: va_rf x2 :: va_rf x1 :: .ref E.1.1 :: rest)) :=
  c1k_1_mergeNow (d := 8) X hsz hK hR hS hF hLo hc hs (met1_mergeNow l 8 _ _ _ _ _ _ _ _ hf) hrest hdg kk
end C_1_mergeNow_c
noncomputable def f1_merge_j1 (cf : Nat) (kf : Nat) (y1 : Int32) (y2 : Int32) (y3 : Int32) (D_2 : cw_D) (t1 : Int32) : Option (Int32 × cw_D × Nat × Nat) :=
  ww_b2 (f1_isRefused D_2 t1) (fun r_3 D_3 => if r_3 = 0 then ww_b (f1_rootOf (cw_sF D_3 20 ((ww_F D_3.1 20) + (1 : Int32))) y1) (fun r_5 => ww_b r_5 (fun a_6 => ww_g (cw_kd (cw_sF D_3 20 ((ww_F D_3.1 20) + (1 : Int32))) [1, 2] (some a_6)) (ww_b2 (f5_counts 8 (cw_sF D_3 20 ((ww_F D_3.1 20) + (1 : Int32))) a_6 (3 : Int32) (ww_F (cw_sF D_3 20 ((ww_F D_3.1 20) + (1 : Int32))).1 20) none) (fun r_8 D_8 => ww_b (f1_rootOf D_8 y1) (fun r_9 => ww_b (f4_init (cw_nO D_8 0) D_8.2.2 (ww_R (cw_nO D_8 0).1 99)) (fun D_10 => ww_b3 (f1_work D_10 r_9 (some D_8.2.2)) (fun D_11 c_11 k_11 => ww_b (f1_rootOf D_11 y1) (fun r_12 => ww_b (f1_rootOf D_11 y2) (fun r_13 => ww_b3 (f1_mergeNow 8 D_11 r_12 r_13 y3 (ww_F D_11.1 20)) (fun D_14 c_14 k_14 => ww_b (some (ww_R D_14.1 27)) (fun r_15 => ww_b2 (f1_holds D_14 r_15 y1 y2) (fun r_16 D_16 => some (r_16, D_16, (((cf + 1) + c_11) + c_14), (((kf + 1) + k_11) + k_14)))))))))))))) else some ((-1 : Int32), D_3, cf, kf))
noncomputable def f1_merge (D : cw_D) (x1 : Int32) (x2 : Int32) (x3 : Int32) : Option (Int32 × cw_D × Nat × Nat) :=
  ww_b (f1_isMap D x1) (fun r_1 => if r_1 = 0 then f1_merge_j1 0 0 x1 x2 x3 D (0 : Int32) else ww_b (f1_isMap D x2) (fun r_18 => if r_18 = 0 then f1_merge_j1 0 0 x1 x2 x3 D (0 : Int32) else ww_b (f1_in x3 (0 : Int32) (3 : Int32)) (fun r_20 => if r_20 = 0 then f1_merge_j1 0 0 x1 x2 x3 D (1 : Int32) else ww_b (f1_rootOf D x1) (fun r_22 => ww_b (f1_rootOf D x2) (fun r_23 => ww_b2 (f1_unionOf D r_22 r_23) (fun r_24 D_24 => if r_24 ≤ (60 : Int32) then ww_b (f1_isRoom D_24) (fun r_26 => if r_26 = 0 then f1_merge_j1 0 0 x1 x2 x3 D_24 (4 : Int32) else f1_merge_j1 0 0 x1 x2 x3 D_24 (-1 : Int32)) else f1_merge_j1 0 0 x1 x2 x3 D_24 (3 : Int32)))))))
set_option maxHeartbeats 4000000 in
set_option maxRecDepth 100000 in
theorem met1_merge (l : Launch) {E : cw_E} {A : Nat → Prop} (D : cw_D) (x1 : Int32) (x2 : Int32) (x3 : Int32) (r : Int32) (D' : cw_D) (nc ns : Nat) (hf : f1_merge D x1 x2 x3 = some (r, D', nc, ns)) : cw_MetI l yX1_merge cX1_merge 4 (some Jvm.ClassFile.FieldType.int) 30 731 E A [.ref E.1.1, .int x1, .int x2, .int x3] D D' r nc ns := by
  unfold f1_merge at hf
  refine cw_sIN (own := RX1) (by decide +kernel) [(0, .ref E.1.1), (1, .int x1), (2, .int x2), (3, .int x3)] ⟨Nat.le_of_ble_eq_true rfl, rfl⟩ ?_
  intro p e s m args below meth c Rm Q X hK hF hLo hC hin hend ls hl hR hS
  obtain ⟨hx, hb, hml, hown, hts⟩ := id X
  have hm9 : 0 ≤ nc ∧ 0 ≤ ns := ⟨Nat.zero_le _, Nat.zero_le _⟩
  refine lv_aload_n hx hb dX1_merge_0 rfl (lv_at hl 0 rfl) ?_
  refine lv_aload_n hx hb dX1_merge_1 rfl (lv_at hl 0 rfl) ?_
  refine lv_iload_n hx hb dX1_merge_2 rfl (lv_at hl 1 rfl) ?_
  obtain ⟨r_1, h_1, hq⟩ := ww_bS hf; replace hf := hq; clear hq
  refine c1c_1_isMap X hl.1 hK hR hS (Nat.le_trans (Nat.le_of_ble_eq_true rfl) hF) (Nat.le_trans (Nat.le_of_ble_eq_true rfl) hLo) (Nat.le_trans hm9.1 hC.1) (Nat.le_trans hm9.2 hC.2) h_1 (cw_rest (Nat.le_of_ble_eq_true rfl)) dX1_merge_3 (fun H locs hR hS => ?_)
  have hj_1 : ∀ (D_2 : cw_D) (t1 : Int32), f1_merge_j1 0 0 x1 x2 x3 D_2 t1 = some (r, D', nc, ns) → (0 ≤ nc ∧ 0 ≤ ns) ∧ (∀ (H : Heap) (locs : List Loc) (ls : Array Slot), cw_H E A D_2 H → va_S A s.heap H locs → lv_has ls 4 [(0, .ref E.1.1), (1, .int x1), (2, .int x2), (3, .int x3)] → W p l e Rm s m args below meth c H locs 0 0 Q (F0 m 69 ls [.int t1, .ref E.1.1])) := by
    clear hf
    intro D_2 t1 hf
    unfold f1_merge_j1 at hf
    have hm9 : 0 ≤ nc ∧ 0 ≤ ns := by
      obtain ⟨r_3, D_3, h_3, hq⟩ := ww_b2S hf; replace hf := hq; clear hq
      refine ww_by (r_3 = 0) (fun c_4 => ?_) (fun c_4 => ?_)
      · replace hf := ww_ip hf c_4
        obtain ⟨r_5, h_5, hq⟩ := ww_bS hf; replace hf := hq; clear hq
        obtain ⟨a_6, e_6, hq⟩ := ww_bS hf; replace hf := hq; clear hq
        subst e_6
        obtain ⟨h_7, hq⟩ := ww_gS hf; replace hf := hq; clear hq
        obtain ⟨r_8, D_8, h_8, hq⟩ := ww_b2S hf; replace hf := hq; clear hq
        obtain ⟨r_9, h_9, hq⟩ := ww_bS hf; replace hf := hq; clear hq
        obtain ⟨D_10, h_10, hq⟩ := ww_bS hf; replace hf := hq; clear hq
        obtain ⟨D_11, c_11, k_11, h_11, hq⟩ := ww_b3S hf; replace hf := hq; clear hq
        obtain ⟨r_12, h_12, hq⟩ := ww_bS hf; replace hf := hq; clear hq
        obtain ⟨r_13, h_13, hq⟩ := ww_bS hf; replace hf := hq; clear hq
        obtain ⟨D_14, c_14, k_14, h_14, hq⟩ := ww_b3S hf; replace hf := hq; clear hq
        obtain ⟨r_15, h_15, hq⟩ := ww_bS hf; replace hf := hq; clear hq
        obtain ⟨r_16, D_16, h_16, hq⟩ := ww_b2S hf; replace hf := hq; clear hq
        have e9 := hf
        simp only [Option.some.injEq, Prod.mk.injEq] at e9
        omega
      · replace hf := ww_in hf c_4
        have e9 := hf
        simp only [Option.some.injEq, Prod.mk.injEq] at e9
        omega
    refine ⟨hm9, ?_⟩
    try clear hl
    try clear hS
    try clear hR
    intro H locs ls hR hS hl
    obtain ⟨r_3, D_3, h_3, hq⟩ := ww_b2S hf; replace hf := hq; clear hq
    refine c1c_1_isRefused X hl.1 hK hR hS (Nat.le_trans (Nat.le_of_ble_eq_true rfl) hF) (Nat.le_trans (Nat.le_of_ble_eq_true rfl) hLo) (Nat.le_trans hm9.1 hC.1) (Nat.le_trans hm9.2 hC.2) h_3 (cw_rest (Nat.le_of_ble_eq_true rfl)) dX1_merge_69 (fun H locs hR hS => ?_)
    refine lv_if_eq (tgt := 77) hx hb dX1_merge_72 (by decide) (fun c_4 => ?_) (fun c_4 => ?_)
    · replace hf := ww_ip hf c_4
      refine lv_aload_n hx hb dX1_merge_77 rfl (lv_at hl 0 rfl) ?_
      refine lv_dup hx hb dX1_merge_78 rfl ?_
      refine c1g_392 X hK hR dX1_merge_79 ?_
      refine lv_iconst (v := (1 : Int32)) hx hb dX1_merge_82 (by decide) ?_
      refine lv_iadd hx hb dX1_merge_83 ?_
      refine c1p_392 X hK hR hS dX1_merge_84 (fun H locs hR hS => ?_)
      refine lv_aload_n hx hb dX1_merge_87 rfl (lv_at hl 0 rfl) ?_
      refine lv_iload_n hx hb dX1_merge_88 rfl (lv_at hl 1 rfl) ?_
      obtain ⟨r_5, h_5, hq⟩ := ww_bS hf; replace hf := hq; clear hq
      refine c1c_1_rootOf X hl.1 hK hR hS (Nat.le_trans (Nat.le_of_ble_eq_true rfl) hF) (Nat.le_trans (Nat.le_of_ble_eq_true rfl) hLo) (Nat.le_trans hm9.1 hC.1) (Nat.le_trans hm9.2 hC.2) h_5 (cw_rest (Nat.le_of_ble_eq_true rfl)) dX1_merge_89 (fun H locs hR hS => ?_)
      refine lv_iconst (v := (3 : Int32)) hx hb dX1_merge_92 (by decide) ?_
      refine lv_aload_n hx hb dX1_merge_93 rfl (lv_at hl 0 rfl) ?_
      refine c1g_392 X hK hR dX1_merge_94 ?_
      refine lv_null hx hb dX1_merge_97 ?_
      obtain ⟨a_6, e_6, hq⟩ := ww_bS hf; replace hf := hq; clear hq
      subst e_6
      obtain ⟨h_7, hq⟩ := ww_gS hf; replace hf := hq; clear hq
      obtain ⟨r_8, D_8, h_8, hq⟩ := ww_b2S hf; replace hf := hq; clear hq
      refine c1i_counts (x3 := none) X hl.1 hK hR hS (Nat.le_trans (Nat.le_of_ble_eq_true rfl) hF) (Nat.le_trans (Nat.le_of_ble_eq_true rfl) hLo) (Nat.le_trans hm9.1 hC.1) (Nat.le_trans hm9.2 hC.2) h_7 h_8 (cw_rest (Nat.le_of_ble_eq_true rfl)) dX1_merge_98 (fun H locs hR hS => ?_)
      refine lv_pop hx hb dX1_merge_103 rfl ?_
      refine lv_aload_n hx hb dX1_merge_104 rfl (lv_at hl 0 rfl) ?_
      refine lv_aload_n hx hb dX1_merge_105 rfl (lv_at hl 0 rfl) ?_
      refine lv_iload_n hx hb dX1_merge_106 rfl (lv_at hl 1 rfl) ?_
      obtain ⟨r_9, h_9, hq⟩ := ww_bS hf; replace hf := hq; clear hq
      refine c1c_1_rootOf X hl.1 hK hR hS (Nat.le_trans (Nat.le_of_ble_eq_true rfl) hF) (Nat.le_trans (Nat.le_of_ble_eq_true rfl) hLo) (Nat.le_trans hm9.1 hC.1) (Nat.le_trans hm9.2 hC.2) h_9 (cw_rest (Nat.le_of_ble_eq_true rfl)) dX1_merge_107 (fun H locs hR hS => ?_)
      have hm9 : (0 + 1) ≤ nc ∧ (0 + 1) ≤ ns := by
        obtain ⟨D_10, h_10, hq⟩ := ww_bS hf; replace hf := hq; clear hq
        obtain ⟨D_11, c_11, k_11, h_11, hq⟩ := ww_b3S hf; replace hf := hq; clear hq
        obtain ⟨r_12, h_12, hq⟩ := ww_bS hf; replace hf := hq; clear hq
        obtain ⟨r_13, h_13, hq⟩ := ww_bS hf; replace hf := hq; clear hq
        obtain ⟨D_14, c_14, k_14, h_14, hq⟩ := ww_b3S hf; replace hf := hq; clear hq
        obtain ⟨r_15, h_15, hq⟩ := ww_bS hf; replace hf := hq; clear hq
        obtain ⟨r_16, D_16, h_16, hq⟩ := ww_b2S hf; replace hf := hq; clear hq
        have e9 := hf
        simp only [Option.some.injEq, Prod.mk.injEq] at e9
        omega
      refine cw_onew (ci := 0) (C := RX4) (T := TX4) (N := 1) rfl (by decide) in_X4 tyX4 tyX4_ok rfl X hK hR hS q234 q817 q151 (Nat.le_trans hm9.1 hC.1) (Nat.le_trans hm9.2 hC.2) dX1_merge_110 (fun H hR hS => ?_)
      refine lv_dup hx hb dX1_merge_113 rfl ?_
      refine lv_aload_n hx hb dX1_merge_114 rfl (lv_at hl 0 rfl) ?_
      obtain ⟨D_10, h_10, hq⟩ := ww_bS hf; replace hf := hq; clear hq
      rw [show ww_R (cw_nO D_8 0).1 99 = some E.1.1 from cw_this hK hR] at h_10
      refine c1c_4_init (x1 := (some E.1.1)) X hl.1 hK hR hS (Nat.le_trans (Nat.le_of_ble_eq_true rfl) hF) (Nat.le_trans (Nat.le_of_ble_eq_true rfl) hLo) (Nat.le_trans hm9.1 hC.1) (Nat.le_trans hm9.2 hC.2) h_10 (cw_rest (Nat.le_of_ble_eq_true rfl)) dX1_merge_115 (fun H locs hR hS => ?_)
      obtain ⟨D_11, c_11, k_11, h_11, hq⟩ := ww_b3S hf; replace hf := hq; clear hq
      have hm9 : ((0 + 1) + c_11) ≤ nc ∧ ((0 + 1) + k_11) ≤ ns := by
        obtain ⟨r_12, h_12, hq⟩ := ww_bS hf; replace hf := hq; clear hq
        obtain ⟨r_13, h_13, hq⟩ := ww_bS hf; replace hf := hq; clear hq
        obtain ⟨D_14, c_14, k_14, h_14, hq⟩ := ww_b3S hf; replace hf := hq; clear hq
        obtain ⟨r_15, h_15, hq⟩ := ww_bS hf; replace hf := hq; clear hq
        obtain ⟨r_16, D_16, h_16, hq⟩ := ww_b2S hf; replace hf := hq; clear hq
        have e9 := hf
        simp only [Option.some.injEq, Prod.mk.injEq] at e9
        omega
      refine c1c_1_work (x1 := r_9) (x2 := (some D_8.2.2)) X hl.1 hK hR hS (Nat.le_trans (Nat.le_of_ble_eq_true rfl) hF) (Nat.le_trans (Nat.le_of_ble_eq_true rfl) hLo) (Nat.le_trans hm9.1 hC.1) (Nat.le_trans hm9.2 hC.2) h_11 (cw_rest (Nat.le_of_ble_eq_true rfl)) dX1_merge_118 (fun H locs hR hS => ?_)
      refine lv_aload_n hx hb dX1_merge_121 rfl (lv_at hl 0 rfl) ?_
      refine lv_aload_n hx hb dX1_merge_122 rfl (lv_at hl 0 rfl) ?_
      refine lv_iload_n hx hb dX1_merge_123 rfl (lv_at hl 1 rfl) ?_
      obtain ⟨r_12, h_12, hq⟩ := ww_bS hf; replace hf := hq; clear hq
      refine c1c_1_rootOf X hl.1 hK hR hS (Nat.le_trans (Nat.le_of_ble_eq_true rfl) hF) (Nat.le_trans (Nat.le_of_ble_eq_true rfl) hLo) (Nat.le_trans hm9.1 hC.1) (Nat.le_trans hm9.2 hC.2) h_12 (cw_rest (Nat.le_of_ble_eq_true rfl)) dX1_merge_124 (fun H locs hR hS => ?_)
      refine lv_aload_n hx hb dX1_merge_127 rfl (lv_at hl 0 rfl) ?_
      refine lv_iload_n hx hb dX1_merge_128 rfl (lv_at hl 2 rfl) ?_
      obtain ⟨r_13, h_13, hq⟩ := ww_bS hf; replace hf := hq; clear hq
      refine c1c_1_rootOf X hl.1 hK hR hS (Nat.le_trans (Nat.le_of_ble_eq_true rfl) hF) (Nat.le_trans (Nat.le_of_ble_eq_true rfl) hLo) (Nat.le_trans hm9.1 hC.1) (Nat.le_trans hm9.2 hC.2) h_13 (cw_rest (Nat.le_of_ble_eq_true rfl)) dX1_merge_129 (fun H locs hR hS => ?_)
      refine lv_iload_n hx hb dX1_merge_132 rfl (lv_at hl 3 rfl) ?_
      refine lv_aload_n hx hb dX1_merge_133 rfl (lv_at hl 0 rfl) ?_
      refine c1g_392 X hK hR dX1_merge_134 ?_
      obtain ⟨D_14, c_14, k_14, h_14, hq⟩ := ww_b3S hf; replace hf := hq; clear hq
      have hm9 : (((0 + 1) + c_11) + c_14) ≤ nc ∧ (((0 + 1) + k_11) + k_14) ≤ ns := by
        obtain ⟨r_15, h_15, hq⟩ := ww_bS hf; replace hf := hq; clear hq
        obtain ⟨r_16, D_16, h_16, hq⟩ := ww_b2S hf; replace hf := hq; clear hq
        have e9 := hf
        simp only [Option.some.injEq, Prod.mk.injEq] at e9
        omega
      refine c1c_1_mergeNow (x1 := r_12) (x2 := r_13) X hl.1 hK hR hS (Nat.le_trans (Nat.le_of_ble_eq_true rfl) hF) (Nat.le_trans (Nat.le_of_ble_eq_true rfl) hLo) (Nat.le_trans hm9.1 hC.1) (Nat.le_trans hm9.2 hC.2) h_14 (cw_rest (Nat.le_of_ble_eq_true rfl)) dX1_merge_137 (fun H locs hR hS => ?_)
      refine lv_aload_n hx hb dX1_merge_140 rfl (lv_at hl 0 rfl) ?_
      refine lv_aload_n hx hb dX1_merge_141 rfl (lv_at hl 0 rfl) ?_
      obtain ⟨r_15, h_15, hq⟩ := ww_bS hf; replace hf := hq; clear hq
      refine c1g_226 X hK hR h_15 dX1_merge_142 ?_
      refine lv_iload_n hx hb dX1_merge_145 rfl (lv_at hl 1 rfl) ?_
      refine lv_iload_n hx hb dX1_merge_146 rfl (lv_at hl 2 rfl) ?_
      obtain ⟨r_16, D_16, h_16, hq⟩ := ww_b2S hf; replace hf := hq; clear hq
      refine c1c_1_holds (x1 := r_15) X hl.1 hK hR hS (Nat.le_trans (Nat.le_of_ble_eq_true rfl) hF) (Nat.le_trans (Nat.le_of_ble_eq_true rfl) hLo) (Nat.le_trans hm9.1 hC.1) (Nat.le_trans hm9.2 hC.2) h_16 (cw_rest (Nat.le_of_ble_eq_true rfl)) dX1_merge_147 (fun H locs hR hS => ?_)
      exact hend dX1_merge_150 rfl rfl hf hR hS
    · replace hf := ww_in hf c_4
      refine lv_iconst (v := (-1 : Int32)) hx hb dX1_merge_75 (by decide) ?_
      exact hend dX1_merge_76 rfl rfl hf hR hS
  refine lv_if_eq (tgt := 17) hx hb dX1_merge_6 (by decide) (fun c_17 => ?_) (fun c_17 => ?_)
  · replace hf := ww_ip hf c_17
    refine lv_iconst (v := (0 : Int32)) hx hb dX1_merge_17 (by decide) ?_
    refine lv_goto (tgt := 69) hx hb dX1_merge_18 (by decide) ?_
    exact (hj_1 D (0 : Int32) hf).2 _ _ _ hR hS hl
  · replace hf := ww_in hf c_17
    refine lv_aload_n hx hb dX1_merge_9 rfl (lv_at hl 0 rfl) ?_
    refine lv_iload_n hx hb dX1_merge_10 rfl (lv_at hl 2 rfl) ?_
    obtain ⟨r_18, h_18, hq⟩ := ww_bS hf; replace hf := hq; clear hq
    refine c1c_1_isMap X hl.1 hK hR hS (Nat.le_trans (Nat.le_of_ble_eq_true rfl) hF) (Nat.le_trans (Nat.le_of_ble_eq_true rfl) hLo) (Nat.le_trans hm9.1 hC.1) (Nat.le_trans hm9.2 hC.2) h_18 (cw_rest (Nat.le_of_ble_eq_true rfl)) dX1_merge_11 (fun H locs hR hS => ?_)
    refine lv_if_ne (tgt := 21) hx hb dX1_merge_14 (by decide) (fun c_19 => ?_) (fun c_19 => ?_)
    · replace hf := ww_in hf c_19
      refine lv_iload_n hx hb dX1_merge_21 rfl (lv_at hl 3 rfl) ?_
      refine lv_iconst (v := (0 : Int32)) hx hb dX1_merge_22 (by decide) ?_
      refine lv_iconst (v := (3 : Int32)) hx hb dX1_merge_23 (by decide) ?_
      obtain ⟨r_20, h_20, hq⟩ := ww_bS hf; replace hf := hq; clear hq
      refine c1c_1_in X hl.1 (Nat.le_trans (Nat.le_of_ble_eq_true rfl) hF) (Nat.le_trans (Nat.le_of_ble_eq_true rfl) hLo) (Nat.le_trans hm9.1 hC.1) (Nat.le_trans hm9.2 hC.2) h_20 (cw_rest (Nat.le_of_ble_eq_true rfl)) dX1_merge_24 ?_
      refine lv_if_ne (tgt := 34) hx hb dX1_merge_27 (by decide) (fun c_21 => ?_) (fun c_21 => ?_)
      · replace hf := ww_in hf c_21
        refine lv_aload_n hx hb dX1_merge_34 rfl (lv_at hl 0 rfl) ?_
        refine lv_aload_n hx hb dX1_merge_35 rfl (lv_at hl 0 rfl) ?_
        refine lv_iload_n hx hb dX1_merge_36 rfl (lv_at hl 1 rfl) ?_
        obtain ⟨r_22, h_22, hq⟩ := ww_bS hf; replace hf := hq; clear hq
        refine c1c_1_rootOf X hl.1 hK hR hS (Nat.le_trans (Nat.le_of_ble_eq_true rfl) hF) (Nat.le_trans (Nat.le_of_ble_eq_true rfl) hLo) (Nat.le_trans hm9.1 hC.1) (Nat.le_trans hm9.2 hC.2) h_22 (cw_rest (Nat.le_of_ble_eq_true rfl)) dX1_merge_37 (fun H locs hR hS => ?_)
        refine lv_aload_n hx hb dX1_merge_40 rfl (lv_at hl 0 rfl) ?_
        refine lv_iload_n hx hb dX1_merge_41 rfl (lv_at hl 2 rfl) ?_
        obtain ⟨r_23, h_23, hq⟩ := ww_bS hf; replace hf := hq; clear hq
        refine c1c_1_rootOf X hl.1 hK hR hS (Nat.le_trans (Nat.le_of_ble_eq_true rfl) hF) (Nat.le_trans (Nat.le_of_ble_eq_true rfl) hLo) (Nat.le_trans hm9.1 hC.1) (Nat.le_trans hm9.2 hC.2) h_23 (cw_rest (Nat.le_of_ble_eq_true rfl)) dX1_merge_42 (fun H locs hR hS => ?_)
        obtain ⟨r_24, D_24, h_24, hq⟩ := ww_b2S hf; replace hf := hq; clear hq
        refine c1c_1_unionOf (x1 := r_22) (x2 := r_23) X hl.1 hK hR hS (Nat.le_trans (Nat.le_of_ble_eq_true rfl) hF) (Nat.le_trans (Nat.le_of_ble_eq_true rfl) hLo) (Nat.le_trans hm9.1 hC.1) (Nat.le_trans hm9.2 hC.2) h_24 (cw_rest (Nat.le_of_ble_eq_true rfl)) dX1_merge_45 (fun H locs hR hS => ?_)
        refine lv_bipush (v := (60 : Int32)) hx hb dX1_merge_48 (by decide) ?_
        refine lv_icmp_le (tgt := 57) hx hb dX1_merge_50 (by decide) (fun c_25 => ?_) (fun c_25 => ?_)
        · replace hf := ww_ip hf c_25
          refine lv_aload_n hx hb dX1_merge_57 rfl (lv_at hl 0 rfl) ?_
          obtain ⟨r_26, h_26, hq⟩ := ww_bS hf; replace hf := hq; clear hq
          refine c1c_1_isRoom X hl.1 hK hR hS (Nat.le_trans (Nat.le_of_ble_eq_true rfl) hF) (Nat.le_trans (Nat.le_of_ble_eq_true rfl) hLo) (Nat.le_trans hm9.1 hC.1) (Nat.le_trans hm9.2 hC.2) h_26 (cw_rest (Nat.le_of_ble_eq_true rfl)) dX1_merge_58 (fun H locs hR hS => ?_)
          refine lv_if_ne (tgt := 68) hx hb dX1_merge_61 (by decide) (fun c_27 => ?_) (fun c_27 => ?_)
          · replace hf := ww_in hf c_27
            refine lv_iconst (v := (-1 : Int32)) hx hb dX1_merge_68 (by decide) ?_
            exact (hj_1 D_24 (-1 : Int32) hf).2 _ _ _ hR hS hl
          · replace hf := ww_ip hf c_27
            refine lv_iconst (v := (4 : Int32)) hx hb dX1_merge_64 (by decide) ?_
            refine lv_goto (tgt := 69) hx hb dX1_merge_65 (by decide) ?_
            exact (hj_1 D_24 (4 : Int32) hf).2 _ _ _ hR hS hl
        · replace hf := ww_in hf c_25
          refine lv_iconst (v := (3 : Int32)) hx hb dX1_merge_53 (by decide) ?_
          refine lv_goto (tgt := 69) hx hb dX1_merge_54 (by decide) ?_
          exact (hj_1 D_24 (3 : Int32) hf).2 _ _ _ hR hS hl
      · replace hf := ww_ip hf c_21
        refine lv_iconst (v := (1 : Int32)) hx hb dX1_merge_30 (by decide) ?_
        refine lv_goto (tgt := 69) hx hb dX1_merge_31 (by decide) ?_
        exact (hj_1 D (1 : Int32) hf).2 _ _ _ hR hS hl
    · replace hf := ww_ip hf c_19
      refine lv_iconst (v := (0 : Int32)) hx hb dX1_merge_17 (by decide) ?_
      refine lv_goto (tgt := 69) hx hb dX1_merge_18 (by decide) ?_
      exact (hj_1 D (0 : Int32) hf).2 _ _ _ hR hS hl
