noncomputable def fJ3_append_3 (D : cw_D) (a0 : Nat) (x1 : Int32) : Option (Option Nat × cw_D × Nat × Nat) :=
  ww_g (cw_kd D [4] (some a0)) (ww_b4 (fJ2_append_3 D a0 x1) (fun r_2 D_2 c_2 k_2 => some ((some a0), D_2, (0 + c_2), (0 + k_2))))
section C_J3_append_3_k
variable {p : Program} {l : Launch} {e : Env} {R : Room} {s : State} {m : MethodId} {args : Array Value} {below : List Frame} {meth : Method} {c : Code} {H : Heap} {locs : List Loc} {cells slots : Nat} {Q : State → Prop}
variable {cc : ByteArray} {pc : Nat} {ls : Array Slot} {rest : List Value} {nL : Nat} {E : cw_E} {A : Nat → Prop} {H0 : Heap}
theorem c7k_J3_append_3 {D : cw_D} {a0 : Nat} {x1 : Int32} {r : Option Nat} {D' : cw_D} {nc ns : Nat} (X : ww_C p m c cc nL s args RX7 lw_all) (hsz : ls.size = nL) (hK : cw_K E A s) (hR : cw_H E A D H) (hS : va_S A s.heap H locs) (hF : 6 ≤ R.frames) (hLo : 214 ≤ R.locals) (hc : cells + nc ≤ R.cells) (hs : slots + ns ≤ R.slots) (hkd : cw_kd D [4] (some a0) = true) (hM : cw_MetQ l yJ3_append_3 cJ3_append_3 2 (some (Jvm.ClassFile.FieldType.object "java/lang/StringBuilder")) 5 193 E A [.ref a0, .int x1] D D' r nc ns) (hrest : (rest.map fun v => v.category).sum ≤ 8) (hdg : decode cc pc = .ok (.invokevirtual 71, 3)) (kk : ∀ (H1 : Heap) (locs1 : List Loc), cw_H E A D' H1 → va_S A s.heap H1 locs1 → W p l e R s m args below meth c H1 locs1 (cells + nc) (slots + ns) Q (F0 m (pc + 3) ls (va_rf r :: rest))) : W p l e R s m args below meth c H locs cells slots Q (F0 m pc ls (.int x1 :: .ref a0 :: rest)) :=
  va_callq (va_runV (C := RJ3) (As := [.int x1]) (rest := rest) (b := a0) X hM (cwV 1 X.2.2.2.2 (lw_V q1554 q1555 q1556 q137 q1557) rfl rfl rfl (by decide +kernel) ⟨hF, hLo⟩) (cw_pV hK hR hS (cw_rc (k := 4) (C := RJ3) (T := TJ3) (N := 4) rfl (by decide) hK hR hkd)) rfl rfl hsz rfl (lv_room hrest) hdg ⟨hc, hs⟩) hS (fun q _ h => h) (fun q h => h) (fun r' u t H1 locs1 ht hvm hw hB hz1 hk1 hS1 => by subst hw; rw [ht] at hB; exact kk H1 locs1 hB hS1)
end C_J3_append_3_k
set_option maxHeartbeats 4000000 in
set_option maxRecDepth 100000 in
theorem metJ3_append_3 (l : Launch) {E : cw_E} {A : Nat → Prop} (D : cw_D) (a0 : Nat) (x1 : Int32) (r : Option Nat) (D' : cw_D) (nc ns : Nat) (hf : fJ3_append_3 D a0 x1 = some (r, D', nc, ns)) : cw_MetQ l yJ3_append_3 cJ3_append_3 2 (some (Jvm.ClassFile.FieldType.object "java/lang/StringBuilder")) 5 193 E A [.ref a0, .int x1] D D' r nc ns := by
  unfold fJ3_append_3 at hf
  refine cw_sQN (own := RJ3) (by decide +kernel) [(0, .ref a0), (1, .int x1)] ⟨Nat.le_of_ble_eq_true rfl, rfl⟩ ?_
  intro p e s m args below meth c Rm Q X hK hF hLo hC hin hend ls hl hR hS
  obtain ⟨hx, hb, hml, hown, hts⟩ := id X
  have hm9 : 0 ≤ nc ∧ 0 ≤ ns := ⟨Nat.zero_le _, Nat.zero_le _⟩
  refine lv_aload_n hx hb dJ3_append_3_0 rfl (lv_at hl 0 rfl) ?_
  refine lv_iload_n hx hb dJ3_append_3_1 rfl (lv_at hl 1 rfl) ?_
  obtain ⟨h_1, hq⟩ := ww_gS hf; replace hf := hq; clear hq
  obtain ⟨r_2, D_2, c_2, k_2, h_2, hq⟩ := ww_b4S hf; replace hf := hq; clear hq
  have hm9 : (0 + c_2) ≤ nc ∧ (0 + k_2) ≤ ns := by
    have e9 := hf
    simp only [Option.some.injEq, Prod.mk.injEq] at e9
    omega
  refine cJ3c_J2_append_3 X hl.1 hK hR hS (Nat.le_trans (Nat.le_of_ble_eq_true rfl) hF) (Nat.le_trans (Nat.le_of_ble_eq_true rfl) hLo) (Nat.le_trans hm9.1 hC.1) (Nat.le_trans hm9.2 hC.2) h_1 h_2 (cw_rest (Nat.le_of_ble_eq_true rfl)) dJ3_append_3_2 (fun H locs hR hS => ?_)
  refine lv_pop hx hb dJ3_append_3_5 (cw_cat _) ?_
  refine lv_aload_n hx hb dJ3_append_3_6 rfl (lv_at hl 0 rfl) ?_
  exact hend (v := (some a0)) dJ3_append_3_7 rfl (Or.inl ⟨_, rfl⟩) hf hR hS
section C_J3_append_3_c
variable {p : Program} {l : Launch} {e : Env} {R : Room} {s : State} {m : MethodId} {args : Array Value} {below : List Frame} {meth : Method} {c : Code} {H : Heap} {locs : List Loc} {cells slots : Nat} {Q : State → Prop}
variable {cc : ByteArray} {pc : Nat} {ls : Array Slot} {rest : List Value} {nL : Nat} {E : cw_E} {A : Nat → Prop} {H0 : Heap}
theorem c7c_J3_append_3 {D : cw_D} {a0 : Nat} {x1 : Int32} {r : Option Nat} {D' : cw_D} {nc ns : Nat} (X : ww_C p m c cc nL s args RX7 lw_all) (hsz : ls.size = nL) (hK : cw_K E A s) (hR : cw_H E A D H) (hS : va_S A s.heap H locs) (hF : 6 ≤ R.frames) (hLo : 214 ≤ R.locals) (hc : cells + nc ≤ R.cells) (hs : slots + ns ≤ R.slots) (hkd : cw_kd D [4] (some a0) = true) (hf : fJ3_append_3 D a0 x1 = some (r, D', nc, ns)) (hrest : (rest.map fun v => v.category).sum ≤ 8) (hdg : decode cc pc = .ok (.invokevirtual 71, 3)) (kk : ∀ (H1 : Heap) (locs1 : List Loc), cw_H E A D' H1 → va_S A s.heap H1 locs1 → W p l e R s m args below meth c H1 locs1 (cells + nc) (slots + ns) Q (F0 m (pc + 3) ls (va_rf r :: rest))) : W p l e R s m args below meth c H locs cells slots Q (F0 m pc ls (.int x1 :: .ref a0 :: rest)) :=
  c7k_J3_append_3 X hsz hK hR hS hF hLo hc hs hkd (metJ3_append_3 l _ _ _ _ _ _ _ hf) hrest hdg kk
end C_J3_append_3_c
noncomputable def f1_beginsWord_b1c (D : cw_D) (y1 : Option Nat) (x2 : Int32) : Option ((Int32) ⊕ (Int32)) :=
  if (6 : Int32) ≤ x2 then ww_x (some (0 : Int32)) else ww_g (ww_i x2 6) (ww_b (some (ww_Y D.1 0 x2)) (fun r_2 => ww_b r_2 (fun a_4 => ww_g (cw_kd D [3] (some a_4)) (ww_b (fJ4_startsWith D a_4 y1) (fun r_6 => if r_6 = 0 then some (.inl (x2 + (1 : Int32))) else ww_x (some (1 : Int32)))))))
noncomputable def f1_beginsWord_b1 (D : cw_D) (y1 : Option Nat) : Int32 → Option ((Int32) ⊕ (Int32)) := fun s9 => f1_beginsWord_b1c D y1 s9
noncomputable def f1_beginsWord (D : cw_D) (x1 : Option Nat) : Option (Int32) :=
  ww_U (f1_beginsWord_b1 D x1) (0 : Int32)
section C_1_beginsWord_k
variable {p : Program} {l : Launch} {e : Env} {R : Room} {s : State} {m : MethodId} {args : Array Value} {below : List Frame} {meth : Method} {c : Code} {H : Heap} {locs : List Loc} {cells slots : Nat} {Q : State → Prop}
variable {cc : ByteArray} {pc : Nat} {ls : Array Slot} {rest : List Value} {nL : Nat} {E : cw_E} {A : Nat → Prop} {H0 : Heap}
theorem c1k_1_beginsWord {D : cw_D} {x1 : Option Nat} {r : Int32} (X : ww_C p m c cc nL s args RX1 lw_all) (hsz : ls.size = nL) (hK : cw_K E A s) (hR : cw_H E A D H) (hS : va_S A s.heap H locs) (hF : 5 ≤ R.frames) (hLo : 110 ≤ R.locals) (hc : cells ≤ R.cells) (hs : slots ≤ R.slots) (hM : cw_MetI l yX1_beginsWord cX1_beginsWord 3 (some Jvm.ClassFile.FieldType.boolean) 4 88 E A [.ref E.1.1, va_rf x1] D D r 0 0) (hrest : (rest.map fun v => v.category).sum ≤ 8) (hdg : decode cc pc = .ok (.invokevirtual 167, 3)) (kk : ∀ (H1 : Heap) (locs1 : List Loc), cw_H E A D H1 → va_S A s.heap H1 locs1 → W p l e R s m args below meth c H1 locs1 cells slots Q (F0 m (pc + 3) ls (.int r :: rest))) : W p l e R s m args below meth c H locs cells slots Q (F0 m pc ls (va_rf x1 :: .ref E.1.1 :: rest)) :=
  va_calli (va_runV (C := RX1) (As := [va_rf x1]) (rest := rest) (b := E.1.1) X hM (cwV 1 X.2.2.2.2 (lw_V q614 q616 qs13 q131 q617) rfl rfl rfl (by decide +kernel) ⟨hF, hLo⟩) (cw_pV hK hR hS (cw_rcM hK hR)) rfl rfl hsz rfl (lv_room hrest) hdg ⟨hc, hs⟩) hS (fun q _ h => h) (fun q h => h) (fun r' u t H1 locs1 ht hvm hw hB hz1 hk1 hS1 => by subst hw; rw [ht] at hB; exact kk H1 locs1 hB hS1)
end C_1_beginsWord_k
set_option maxHeartbeats 4000000 in
set_option maxRecDepth 100000 in
theorem met1_beginsWord (l : Launch) {E : cw_E} {A : Nat → Prop} (D : cw_D) (x1 : Option Nat) (r : Int32) (hf : f1_beginsWord D x1 = some r) : cw_MetI l yX1_beginsWord cX1_beginsWord 3 (some Jvm.ClassFile.FieldType.boolean) 4 88 E A [.ref E.1.1, va_rf x1] D D r 0 0 := by
  unfold f1_beginsWord at hf
  refine cw_sIP (own := RX1) (by decide +kernel) [(0, .ref E.1.1), (1, va_rf x1)] ⟨by cases x1 <;> exact Nat.le_of_ble_eq_true rfl, by cases x1 <;> rfl⟩ ?_
  intro p e s m args below meth c Rm Q X hK hF hLo hin hend ls hl hR hS
  obtain ⟨hx, hb, hml, hown, hts⟩ := id X
  refine lv_iconst (v := (0 : Int32)) hx hb dX1_beginsWord_0 (by decide) ?_
  refine lv_istore_n (lv' := [(2, .int (0 : Int32)), (0, .ref E.1.1), (1, va_rf x1)]) hx hb dX1_beginsWord_1 rfl hl (by decide) (by cases x1 <;> rfl) (fun ls hl => ?_)
  have hL_1 : ∀ s9 : Int32, ww_U (f1_beginsWord_b1 D x1) s9 = some r → ∀ (H : Heap) (locs : List Loc) (ls : Array Slot), cw_H E A D H → va_S A s.heap H locs → lv_has ls 3 [(0, .ref E.1.1), (1, va_rf x1), (2, .int s9)] → W p l e Rm s m args below meth c H locs 0 0 Q (F0 m 2 ls []) := by
    clear hf
    refine ww_ind _ r ?_
    intro s9 z_1 hf hz_1
    obtain ⟨x2, e9⟩ : ∃ q9, q9 = s9 := ⟨_, rfl⟩; subst e9
    replace hf : f1_beginsWord_b1c D x1 x2 = some z_1 := hf
    unfold f1_beginsWord_b1c at hf
    try clear hl
    try clear hS
    try clear hR
    intro H locs ls hR hS hl
    replace hl : lv_has ls 3 [(0, .ref E.1.1), (1, va_rf x1), (2, .int x2)] := hl
    refine lv_iload_n hx hb dX1_beginsWord_2 rfl (lv_at hl 2 rfl) ?_
    refine lv_aload_n hx hb dX1_beginsWord_3 rfl (lv_at hl 0 rfl) ?_
    refine c1g_32 X hK hR dX1_beginsWord_4 ?_
    refine cw_marl X hK hR 0 (by decide) rfl (v := (6 : Int32)) (by decide +kernel) dX1_beginsWord_7 ?_
    refine lv_icmp_ge (tgt := 32) hx hb dX1_beginsWord_8 (by decide) (fun c_1 => ?_) (fun c_1 => ?_)
    · replace hf := ww_ip hf c_1
      replace hf := ww_xK hf hz_1
      refine lv_iconst (v := (0 : Int32)) hx hb dX1_beginsWord_32 (by decide) ?_
      exact hend dX1_beginsWord_33 rfl (by decide) hf hR hS
    · replace hf := ww_in hf c_1
      refine lv_aload_n hx hb dX1_beginsWord_11 rfl (lv_at hl 0 rfl) ?_
      refine c1g_32 X hK hR dX1_beginsWord_12 ?_
      refine lv_iload_n hx hb dX1_beginsWord_15 rfl (lv_at hl 2 rfl) ?_
      obtain ⟨h_3, hq⟩ := ww_gS hf; replace hf := hq; clear hq
      obtain ⟨r_2, h_2, hq⟩ := ww_bS hf; replace hf := hq; clear hq
      refine c1l_0 X hK hR h_3 h_2 dX1_beginsWord_16 ?_
      refine cw_aload_n (x := x1) hx hb dX1_beginsWord_17 rfl (lv_at hl 1 rfl) ?_
      obtain ⟨a_4, e_4, hq⟩ := ww_bS hf; replace hf := hq; clear hq
      subst e_4
      obtain ⟨h_5, hq⟩ := ww_gS hf; replace hf := hq; clear hq
      obtain ⟨r_6, h_6, hq⟩ := ww_bS hf; replace hf := hq; clear hq
      refine c1c_J4_startsWith (x1 := x1) X hl.1 hK hR hS (Nat.le_trans (Nat.le_of_ble_eq_true rfl) hF) (Nat.le_trans (Nat.le_of_ble_eq_true rfl) hLo) (Nat.zero_le _) (Nat.zero_le _) h_5 h_6 (cw_rest (Nat.le_of_ble_eq_true rfl)) dX1_beginsWord_18 (fun H locs hR hS => ?_)
      refine lv_if_eq (tgt := 26) hx hb dX1_beginsWord_21 (by decide) (fun c_7 => ?_) (fun c_7 => ?_)
      · replace hf := ww_ip hf c_7
        refine lv_iinc (k := 2) (v := x2 + (1 : Int32)) (lv' := [(2, .int (x2 + (1 : Int32))), (0, .ref E.1.1), (1, va_rf x1)]) hx hb dX1_beginsWord_26 hl rfl rfl (by decide) (by cases x1 <;> rfl) (fun ls hl => ?_)
        refine lv_goto (tgt := 2) hx hb dX1_beginsWord_29 (by decide) ?_
        exact ww_lK hf hz_1 _ _ _ hR hS (lv_sub hl [1, 2, 0] rfl)
      · replace hf := ww_in hf c_7
        replace hf := ww_xK hf hz_1
        refine lv_iconst (v := (1 : Int32)) hx hb dX1_beginsWord_24 (by decide) ?_
        exact hend dX1_beginsWord_25 rfl (by decide) hf hR hS
  exact hL_1 (0 : Int32) hf _ _ _ hR hS (lv_sub hl [1, 2, 0] rfl)
section C_1_beginsWord_c
variable {p : Program} {l : Launch} {e : Env} {R : Room} {s : State} {m : MethodId} {args : Array Value} {below : List Frame} {meth : Method} {c : Code} {H : Heap} {locs : List Loc} {cells slots : Nat} {Q : State → Prop}
variable {cc : ByteArray} {pc : Nat} {ls : Array Slot} {rest : List Value} {nL : Nat} {E : cw_E} {A : Nat → Prop} {H0 : Heap}
theorem c1c_1_beginsWord {D : cw_D} {x1 : Option Nat} {r : Int32} (X : ww_C p m c cc nL s args RX1 lw_all) (hsz : ls.size = nL) (hK : cw_K E A s) (hR : cw_H E A D H) (hS : va_S A s.heap H locs) (hF : 5 ≤ R.frames) (hLo : 110 ≤ R.locals) (hc : cells ≤ R.cells) (hs : slots ≤ R.slots) (hf : f1_beginsWord D x1 = some r) (hrest : (rest.map fun v => v.category).sum ≤ 8) (hdg : decode cc pc = .ok (.invokevirtual 167, 3)) (kk : ∀ (H1 : Heap) (locs1 : List Loc), cw_H E A D H1 → va_S A s.heap H1 locs1 → W p l e R s m args below meth c H1 locs1 cells slots Q (F0 m (pc + 3) ls (.int r :: rest))) : W p l e R s m args below meth c H locs cells slots Q (F0 m pc ls (va_rf x1 :: .ref E.1.1 :: rest)) :=
  c1k_1_beginsWord X hsz hK hR hS hF hLo hc hs (met1_beginsWord l _ _ _ hf) hrest hdg kk
end C_1_beginsWord_c
noncomputable def f7_shows_j1 (D : cw_D) (cf : Nat) (kf : Nat) (y0 : Nat) (y1 : Nat) (y2 : Int32) (t0 : Option Nat) (t1 : Option Nat) : Option ((cw_D × Nat × Nat × Int32) ⊕ (cw_D × Nat × Nat)) :=
  ww_b t0 (fun a_9 => ww_g (cw_kd D [4] (some a_9)) (ww_b4 (fJ3_append_2 D a_9 t1) (fun r_11 D_11 c_11 k_11 => ww_b (cw_gR D_11 [1] y0 3) (fun r_12 => ww_b r_12 (fun a_13 => ww_b (cw_xI D_11 20 a_13 y2) (fun r_14 => ww_b r_11 (fun a_15 => ww_g (cw_kd D_11 [4] (some a_15)) (ww_b4 (fJ3_append_3 D_11 a_15 r_14) (fun r_17 D_17 c_17 k_17 => ww_b r_17 (fun a_18 => ww_g (cw_kd D_17 [4] (some a_18)) (ww_b4 (fJ3_append D_17 a_18 (58 : Int32)) (fun r_20 D_20 c_20 k_20 => ww_b (cw_gR D_20 [1] y0 4) (fun r_21 => ww_b r_21 (fun a_22 => ww_b (cw_xI D_20 20 a_22 y2) (fun r_23 => ww_b r_20 (fun a_24 => ww_g (cw_kd D_20 [4] (some a_24)) (ww_b4 (fJ3_append_3 D_20 a_24 r_23) (fun r_26 D_26 c_26 k_26 => some (.inl (D_26, ((((cf + c_11) + c_17) + c_20) + c_26), ((((kf + k_11) + k_17) + k_20) + k_26), (y2 + (1 : Int32))))))))))))))))))))))
noncomputable def f7_shows_b1c (y0 : Nat) (y1 : Nat) (D_4 : cw_D) (c_1b : Nat) (k_1b : Nat) (x2 : Int32) : Option ((cw_D × Nat × Nat × Int32) ⊕ (cw_D × Nat × Nat)) :=
  ww_b (cw_gI D_4 [1] y0 1) (fun r_5 => if r_5 ≤ x2 then ww_x (ww_g (cw_kd D_4 [4] (some y1)) (ww_b4 (fJ3_append D_4 y1 (93 : Int32)) (fun r_8 D_8 c_8 k_8 => some (D_8, (c_1b + c_8), (k_1b + k_8))))) else if x2 = 0 then ww_b (some (ww_R D_4.1 107)) (fun r_29 => f7_shows_j1 D_4 c_1b k_1b y0 y1 x2 (some y1) r_29) else ww_b (some (ww_R D_4.1 108)) (fun r_28 => f7_shows_j1 D_4 c_1b k_1b y0 y1 x2 (some y1) r_28))
noncomputable def f7_shows_b1 (y0 : Nat) (y1 : Nat) : (cw_D × Nat × Nat × Int32) → Option ((cw_D × Nat × Nat × Int32) ⊕ (cw_D × Nat × Nat)) := fun s9 => f7_shows_b1c y0 y1 s9.1 s9.2.1 s9.2.2.1 s9.2.2.2
noncomputable def f7_shows (D : cw_D) (a0 : Nat) (x1 : Option Nat) : Option (cw_D × Nat × Nat) :=
  ww_b x1 (fun a_1 => ww_g (cw_kd D [4] (some a_1)) (ww_b4 (fJ3_append D a_1 (91 : Int32)) (fun r_3 D_3 c_3 k_3 => ww_U (f7_shows_b1 a0 a_1) (D_3, (0 + c_3), (0 + k_3), (0 : Int32)))))
set_option maxHeartbeats 4000000 in
set_option maxRecDepth 100000 in
theorem met7_shows (l : Launch) {E : cw_E} {A : Nat → Prop} (D : cw_D) (a0 : Nat) (x1 : Option Nat) (D' : cw_D) (nc ns : Nat) (hf : f7_shows D a0 x1 = some (D', nc, ns)) : cw_MetV l yX7_shows cX7_shows 3 6 214 E A [.ref a0, va_rf x1] D D' nc ns := by
  unfold f7_shows at hf
  refine cw_sVN (own := RX7) (by decide +kernel) [(0, .ref a0), (1, va_rf x1)] ⟨by cases x1 <;> exact Nat.le_of_ble_eq_true rfl, by cases x1 <;> rfl⟩ ?_
  intro p e s m args below meth c Rm Q X hK hF hLo hC hin hend ls hl hR hS
  obtain ⟨hx, hb, hml, hown, hts⟩ := id X
  have hm9 : 0 ≤ nc ∧ 0 ≤ ns := ⟨Nat.zero_le _, Nat.zero_le _⟩
  refine cw_aload_n (x := x1) hx hb dX7_shows_0 rfl (lv_at hl 1 rfl) ?_
  refine lv_bipush (v := (91 : Int32)) hx hb dX7_shows_1 (by decide) ?_
  obtain ⟨a_1, e_1, hq⟩ := ww_bS hf; replace hf := hq; clear hq
  subst e_1
  obtain ⟨h_2, hq⟩ := ww_gS hf; replace hf := hq; clear hq
  obtain ⟨r_3, D_3, c_3, k_3, h_3, hq⟩ := ww_b4S hf; replace hf := hq; clear hq
  have hm9 : (0 + c_3) ≤ nc ∧ (0 + k_3) ≤ ns := by
    have hL_1 : ∀ s9 : cw_D × Nat × Nat × Int32, ww_U (f7_shows_b1 a0 a_1) s9 = some (D', nc, ns) → s9.2.1 ≤ nc ∧ s9.2.2.1 ≤ ns := by
      clear hf
      refine ww_ind _ (D', nc, ns) ?_
      intro s9 z_1 hf hz_1
      obtain ⟨D_4, c_1b, k_1b, x2⟩ := s9
      replace hf : f7_shows_b1c a0 a_1 D_4 c_1b k_1b x2 = some z_1 := hf
      unfold f7_shows_b1c at hf
      show c_1b ≤ nc ∧ k_1b ≤ ns
      obtain ⟨r_5, h_5, hq⟩ := ww_bS hf; replace hf := hq; clear hq
      refine ww_by (r_5 ≤ x2) (fun c_6 => ?_) (fun c_6 => ?_)
      · replace hf := ww_ip hf c_6
        replace hf := ww_xK hf hz_1
        obtain ⟨h_7, hq⟩ := ww_gS hf; replace hf := hq; clear hq
        obtain ⟨r_8, D_8, c_8, k_8, h_8, hq⟩ := ww_b4S hf; replace hf := hq; clear hq
        have e9 := hf
        simp only [Option.some.injEq, Prod.mk.injEq] at e9
        omega
      · replace hf := ww_in hf c_6
        have hj_1 : ∀ (t0 : Option Nat) (t1 : Option Nat), f7_shows_j1 D_4 c_1b k_1b a0 a_1 x2 t0 t1 = some z_1 → c_1b ≤ nc ∧ k_1b ≤ ns := by
          clear hf
          intro t0 t1 hf
          unfold f7_shows_j1 at hf
          obtain ⟨a_9, e_9, hq⟩ := ww_bS hf; replace hf := hq; clear hq
          subst e_9
          obtain ⟨h_10, hq⟩ := ww_gS hf; replace hf := hq; clear hq
          obtain ⟨r_11, D_11, c_11, k_11, h_11, hq⟩ := ww_b4S hf; replace hf := hq; clear hq
          obtain ⟨r_12, h_12, hq⟩ := ww_bS hf; replace hf := hq; clear hq
          obtain ⟨a_13, e_13, hq⟩ := ww_bS hf; replace hf := hq; clear hq
          subst e_13
          obtain ⟨r_14, h_14, hq⟩ := ww_bS hf; replace hf := hq; clear hq
          obtain ⟨a_15, e_15, hq⟩ := ww_bS hf; replace hf := hq; clear hq
          subst e_15
          obtain ⟨h_16, hq⟩ := ww_gS hf; replace hf := hq; clear hq
          obtain ⟨r_17, D_17, c_17, k_17, h_17, hq⟩ := ww_b4S hf; replace hf := hq; clear hq
          obtain ⟨a_18, e_18, hq⟩ := ww_bS hf; replace hf := hq; clear hq
          subst e_18
          obtain ⟨h_19, hq⟩ := ww_gS hf; replace hf := hq; clear hq
          obtain ⟨r_20, D_20, c_20, k_20, h_20, hq⟩ := ww_b4S hf; replace hf := hq; clear hq
          obtain ⟨r_21, h_21, hq⟩ := ww_bS hf; replace hf := hq; clear hq
          obtain ⟨a_22, e_22, hq⟩ := ww_bS hf; replace hf := hq; clear hq
          subst e_22
          obtain ⟨r_23, h_23, hq⟩ := ww_bS hf; replace hf := hq; clear hq
          obtain ⟨a_24, e_24, hq⟩ := ww_bS hf; replace hf := hq; clear hq
          subst e_24
          obtain ⟨h_25, hq⟩ := ww_gS hf; replace hf := hq; clear hq
          obtain ⟨r_26, D_26, c_26, k_26, h_26, hq⟩ := ww_b4S hf; replace hf := hq; clear hq
          have e9 := ww_lK hf hz_1
          try dsimp only at e9
          omega
        refine ww_by (x2 = 0) (fun c_27 => ?_) (fun c_27 => ?_)
        · replace hf := ww_ip hf c_27
          obtain ⟨r_29, h_29, hq⟩ := ww_bS hf; replace hf := hq; clear hq
          have e9 := hj_1 (some a_1) r_29 hf
          omega
        · replace hf := ww_in hf c_27
          obtain ⟨r_28, h_28, hq⟩ := ww_bS hf; replace hf := hq; clear hq
          have e9 := hj_1 (some a_1) r_28 hf
          omega
    have e9 := hL_1 (D_3, (0 + c_3), (0 + k_3), (0 : Int32)) hf
    try dsimp only at e9
    omega
  refine c7c_J3_append X hl.1 hK hR hS (Nat.le_trans (Nat.le_of_ble_eq_true rfl) hF) (Nat.le_trans (Nat.le_of_ble_eq_true rfl) hLo) (Nat.le_trans hm9.1 hC.1) (Nat.le_trans hm9.2 hC.2) h_2 h_3 (cw_rest (Nat.le_of_ble_eq_true rfl)) dX7_shows_3 (fun H locs hR hS => ?_)
  refine lv_pop hx hb dX7_shows_6 (cw_cat _) ?_
  refine lv_iconst (v := (0 : Int32)) hx hb dX7_shows_7 (by decide) ?_
  refine lv_istore_n (lv' := [(2, .int (0 : Int32)), (0, .ref a0), (1, .ref a_1)]) hx hb dX7_shows_8 rfl hl (by decide) rfl (fun ls hl => ?_)
  have hL_1 : ∀ s9 : cw_D × Nat × Nat × Int32, ww_U (f7_shows_b1 a0 a_1) s9 = some (D', nc, ns) → (s9.2.1 ≤ nc ∧ s9.2.2.1 ≤ ns) ∧ (∀ (H : Heap) (locs : List Loc) (ls : Array Slot), cw_H E A s9.1 H → va_S A s.heap H locs → lv_has ls 3 [(0, .ref a0), (1, .ref a_1), (2, .int s9.2.2.2)] → W p l e Rm s m args below meth c H locs s9.2.1 s9.2.2.1 Q (F0 m 9 ls [])) := by
    clear hf
    refine ww_ind _ (D', nc, ns) ?_
    intro s9 z_1 hf hz_1
    obtain ⟨D_4, c_1b, k_1b, x2⟩ := s9
    replace hf : f7_shows_b1c a0 a_1 D_4 c_1b k_1b x2 = some z_1 := hf
    unfold f7_shows_b1c at hf
    have hm9 : c_1b ≤ nc ∧ k_1b ≤ ns := by
      show c_1b ≤ nc ∧ k_1b ≤ ns
      obtain ⟨r_5, h_5, hq⟩ := ww_bS hf; replace hf := hq; clear hq
      refine ww_by (r_5 ≤ x2) (fun c_6 => ?_) (fun c_6 => ?_)
      · replace hf := ww_ip hf c_6
        replace hf := ww_xK hf hz_1
        obtain ⟨h_7, hq⟩ := ww_gS hf; replace hf := hq; clear hq
        obtain ⟨r_8, D_8, c_8, k_8, h_8, hq⟩ := ww_b4S hf; replace hf := hq; clear hq
        have e9 := hf
        simp only [Option.some.injEq, Prod.mk.injEq] at e9
        omega
      · replace hf := ww_in hf c_6
        have hj_1 : ∀ (t0 : Option Nat) (t1 : Option Nat), f7_shows_j1 D_4 c_1b k_1b a0 a_1 x2 t0 t1 = some z_1 → c_1b ≤ nc ∧ k_1b ≤ ns := by
          clear hf
          intro t0 t1 hf
          unfold f7_shows_j1 at hf
          obtain ⟨a_9, e_9, hq⟩ := ww_bS hf; replace hf := hq; clear hq
          subst e_9
          obtain ⟨h_10, hq⟩ := ww_gS hf; replace hf := hq; clear hq
          obtain ⟨r_11, D_11, c_11, k_11, h_11, hq⟩ := ww_b4S hf; replace hf := hq; clear hq
          obtain ⟨r_12, h_12, hq⟩ := ww_bS hf; replace hf := hq; clear hq
          obtain ⟨a_13, e_13, hq⟩ := ww_bS hf; replace hf := hq; clear hq
          subst e_13
          obtain ⟨r_14, h_14, hq⟩ := ww_bS hf; replace hf := hq; clear hq
          obtain ⟨a_15, e_15, hq⟩ := ww_bS hf; replace hf := hq; clear hq
          subst e_15
          obtain ⟨h_16, hq⟩ := ww_gS hf; replace hf := hq; clear hq
          obtain ⟨r_17, D_17, c_17, k_17, h_17, hq⟩ := ww_b4S hf; replace hf := hq; clear hq
          obtain ⟨a_18, e_18, hq⟩ := ww_bS hf; replace hf := hq; clear hq
          subst e_18
          obtain ⟨h_19, hq⟩ := ww_gS hf; replace hf := hq; clear hq
          obtain ⟨r_20, D_20, c_20, k_20, h_20, hq⟩ := ww_b4S hf; replace hf := hq; clear hq
          obtain ⟨r_21, h_21, hq⟩ := ww_bS hf; replace hf := hq; clear hq
          obtain ⟨a_22, e_22, hq⟩ := ww_bS hf; replace hf := hq; clear hq
          subst e_22
          obtain ⟨r_23, h_23, hq⟩ := ww_bS hf; replace hf := hq; clear hq
          obtain ⟨a_24, e_24, hq⟩ := ww_bS hf; replace hf := hq; clear hq
          subst e_24
          obtain ⟨h_25, hq⟩ := ww_gS hf; replace hf := hq; clear hq
          obtain ⟨r_26, D_26, c_26, k_26, h_26, hq⟩ := ww_b4S hf; replace hf := hq; clear hq
          have e9 := (ww_lK hf hz_1).1
          try dsimp only at e9
          omega
        refine ww_by (x2 = 0) (fun c_27 => ?_) (fun c_27 => ?_)
        · replace hf := ww_ip hf c_27
          obtain ⟨r_29, h_29, hq⟩ := ww_bS hf; replace hf := hq; clear hq
          have e9 := hj_1 (some a_1) r_29 hf
          omega
        · replace hf := ww_in hf c_27
          obtain ⟨r_28, h_28, hq⟩ := ww_bS hf; replace hf := hq; clear hq
          have e9 := hj_1 (some a_1) r_28 hf
          omega
    refine ⟨hm9, ?_⟩
    try clear hl
    try clear hS
    try clear hR
    intro H locs ls hR hS hl
    replace hR : cw_H E A D_4 H := hR
    replace hl : lv_has ls 3 [(0, .ref a0), (1, .ref a_1), (2, .int x2)] := hl
    show W p l e Rm s m args below meth c H locs c_1b k_1b Q _
    refine lv_iload_n hx hb dX7_shows_9 rfl (lv_at hl 2 rfl) ?_
    refine lv_aload_n hx hb dX7_shows_10 rfl (lv_at hl 0 rfl) ?_
    obtain ⟨r_5, h_5, hq⟩ := ww_bS hf; replace hf := hq; clear hq
    refine c7g_18 X hK hR h_5 dX7_shows_11 ?_
    refine lv_icmp_ge (tgt := 62) hx hb dX7_shows_14 (by decide) (fun c_6 => ?_) (fun c_6 => ?_)
    · replace hf := ww_ip hf c_6
      replace hf := ww_xK hf hz_1
      refine lv_aload_n hx hb dX7_shows_62 rfl (lv_at hl 1 rfl) ?_
      refine lv_bipush (v := (93 : Int32)) hx hb dX7_shows_63 (by decide) ?_
      obtain ⟨h_7, hq⟩ := ww_gS hf; replace hf := hq; clear hq
      obtain ⟨r_8, D_8, c_8, k_8, h_8, hq⟩ := ww_b4S hf; replace hf := hq; clear hq
      have hm9 : (c_1b + c_8) ≤ nc ∧ (k_1b + k_8) ≤ ns := by
        have e9 := hf
        simp only [Option.some.injEq, Prod.mk.injEq] at e9
        omega
      refine c7c_J3_append X hl.1 hK hR hS (Nat.le_trans (Nat.le_of_ble_eq_true rfl) hF) (Nat.le_trans (Nat.le_of_ble_eq_true rfl) hLo) (Nat.le_trans hm9.1 hC.1) (Nat.le_trans hm9.2 hC.2) h_7 h_8 (cw_rest (Nat.le_of_ble_eq_true rfl)) dX7_shows_65 (fun H locs hR hS => ?_)
      refine lv_pop hx hb dX7_shows_68 (cw_cat _) ?_
      exact hend dX7_shows_69 hf hR hS
    · replace hf := ww_in hf c_6
      refine lv_aload_n hx hb dX7_shows_17 rfl (lv_at hl 1 rfl) ?_
      refine lv_iload_n hx hb dX7_shows_18 rfl (lv_at hl 2 rfl) ?_
      have hj_1 : ∀ (t0 : Option Nat) (t1 : Option Nat), f7_shows_j1 D_4 c_1b k_1b a0 a_1 x2 t0 t1 = some z_1 → (c_1b ≤ nc ∧ k_1b ≤ ns) ∧ (∀ (H : Heap) (locs : List Loc) (ls : Array Slot), cw_H E A D_4 H → va_S A s.heap H locs → lv_has ls 3 [(0, .ref a0), (1, .ref a_1), (2, .int x2)] → W p l e Rm s m args below meth c H locs c_1b k_1b Q (F0 m 29 ls [va_rf t1, va_rf t0])) := by
        clear hf
        intro t0 t1 hf
        unfold f7_shows_j1 at hf
        have hm9 : c_1b ≤ nc ∧ k_1b ≤ ns := by
          obtain ⟨a_9, e_9, hq⟩ := ww_bS hf; replace hf := hq; clear hq
          subst e_9
          obtain ⟨h_10, hq⟩ := ww_gS hf; replace hf := hq; clear hq
          obtain ⟨r_11, D_11, c_11, k_11, h_11, hq⟩ := ww_b4S hf; replace hf := hq; clear hq
          obtain ⟨r_12, h_12, hq⟩ := ww_bS hf; replace hf := hq; clear hq
          obtain ⟨a_13, e_13, hq⟩ := ww_bS hf; replace hf := hq; clear hq
          subst e_13
          obtain ⟨r_14, h_14, hq⟩ := ww_bS hf; replace hf := hq; clear hq
          obtain ⟨a_15, e_15, hq⟩ := ww_bS hf; replace hf := hq; clear hq
          subst e_15
          obtain ⟨h_16, hq⟩ := ww_gS hf; replace hf := hq; clear hq
          obtain ⟨r_17, D_17, c_17, k_17, h_17, hq⟩ := ww_b4S hf; replace hf := hq; clear hq
          obtain ⟨a_18, e_18, hq⟩ := ww_bS hf; replace hf := hq; clear hq
          subst e_18
          obtain ⟨h_19, hq⟩ := ww_gS hf; replace hf := hq; clear hq
          obtain ⟨r_20, D_20, c_20, k_20, h_20, hq⟩ := ww_b4S hf; replace hf := hq; clear hq
          obtain ⟨r_21, h_21, hq⟩ := ww_bS hf; replace hf := hq; clear hq
          obtain ⟨a_22, e_22, hq⟩ := ww_bS hf; replace hf := hq; clear hq
          subst e_22
          obtain ⟨r_23, h_23, hq⟩ := ww_bS hf; replace hf := hq; clear hq
          obtain ⟨a_24, e_24, hq⟩ := ww_bS hf; replace hf := hq; clear hq
          subst e_24
          obtain ⟨h_25, hq⟩ := ww_gS hf; replace hf := hq; clear hq
          obtain ⟨r_26, D_26, c_26, k_26, h_26, hq⟩ := ww_b4S hf; replace hf := hq; clear hq
          have e9 := (ww_lK hf hz_1).1
          try dsimp only at e9
          omega
        refine ⟨hm9, ?_⟩
        try clear hl
        try clear hS
        try clear hR
        intro H locs ls hR hS hl
        obtain ⟨a_9, e_9, hq⟩ := ww_bS hf; replace hf := hq; clear hq
        subst e_9
        obtain ⟨h_10, hq⟩ := ww_gS hf; replace hf := hq; clear hq
        obtain ⟨r_11, D_11, c_11, k_11, h_11, hq⟩ := ww_b4S hf; replace hf := hq; clear hq
        have hm9 : (c_1b + c_11) ≤ nc ∧ (k_1b + k_11) ≤ ns := by
          obtain ⟨r_12, h_12, hq⟩ := ww_bS hf; replace hf := hq; clear hq
          obtain ⟨a_13, e_13, hq⟩ := ww_bS hf; replace hf := hq; clear hq
          subst e_13
          obtain ⟨r_14, h_14, hq⟩ := ww_bS hf; replace hf := hq; clear hq
          obtain ⟨a_15, e_15, hq⟩ := ww_bS hf; replace hf := hq; clear hq
          subst e_15
          obtain ⟨h_16, hq⟩ := ww_gS hf; replace hf := hq; clear hq
          obtain ⟨r_17, D_17, c_17, k_17, h_17, hq⟩ := ww_b4S hf; replace hf := hq; clear hq
          obtain ⟨a_18, e_18, hq⟩ := ww_bS hf; replace hf := hq; clear hq
          subst e_18
          obtain ⟨h_19, hq⟩ := ww_gS hf; replace hf := hq; clear hq
          obtain ⟨r_20, D_20, c_20, k_20, h_20, hq⟩ := ww_b4S hf; replace hf := hq; clear hq
          obtain ⟨r_21, h_21, hq⟩ := ww_bS hf; replace hf := hq; clear hq
          obtain ⟨a_22, e_22, hq⟩ := ww_bS hf; replace hf := hq; clear hq
          subst e_22
          obtain ⟨r_23, h_23, hq⟩ := ww_bS hf; replace hf := hq; clear hq
          obtain ⟨a_24, e_24, hq⟩ := ww_bS hf; replace hf := hq; clear hq
          subst e_24
          obtain ⟨h_25, hq⟩ := ww_gS hf; replace hf := hq; clear hq
          obtain ⟨r_26, D_26, c_26, k_26, h_26, hq⟩ := ww_b4S hf; replace hf := hq; clear hq
          have e9 := (ww_lK hf hz_1).1
          try dsimp only at e9
          omega
        refine c7c_J3_append_2 (x1 := t1) X hl.1 hK hR hS (Nat.le_trans (Nat.le_of_ble_eq_true rfl) hF) (Nat.le_trans (Nat.le_of_ble_eq_true rfl) hLo) (Nat.le_trans hm9.1 hC.1) (Nat.le_trans hm9.2 hC.2) h_10 h_11 (cw_rest (Nat.le_of_ble_eq_true rfl)) dX7_shows_29 (fun H locs hR hS => ?_)
        refine lv_aload_n hx hb dX7_shows_32 rfl (lv_at hl 0 rfl) ?_
        obtain ⟨r_12, h_12, hq⟩ := ww_bS hf; replace hf := hq; clear hq
        refine c7g_9 X hK hR h_12 dX7_shows_33 ?_
        refine lv_iload_n hx hb dX7_shows_36 rfl (lv_at hl 2 rfl) ?_
        obtain ⟨a_13, e_13, hq⟩ := ww_bS hf; replace hf := hq; clear hq
        subst e_13
        obtain ⟨r_14, h_14, hq⟩ := ww_bS hf; replace hf := hq; clear hq
        refine cw_oxI (kd := 20) (x := some a_13) X hK hR (by decide) rfl h_14 dX7_shows_37 ?_
        obtain ⟨a_15, e_15, hq⟩ := ww_bS hf; replace hf := hq; clear hq
        subst e_15
        obtain ⟨h_16, hq⟩ := ww_gS hf; replace hf := hq; clear hq
        obtain ⟨r_17, D_17, c_17, k_17, h_17, hq⟩ := ww_b4S hf; replace hf := hq; clear hq
        have hm9 : ((c_1b + c_11) + c_17) ≤ nc ∧ ((k_1b + k_11) + k_17) ≤ ns := by
          obtain ⟨a_18, e_18, hq⟩ := ww_bS hf; replace hf := hq; clear hq
          subst e_18
          obtain ⟨h_19, hq⟩ := ww_gS hf; replace hf := hq; clear hq
          obtain ⟨r_20, D_20, c_20, k_20, h_20, hq⟩ := ww_b4S hf; replace hf := hq; clear hq
          obtain ⟨r_21, h_21, hq⟩ := ww_bS hf; replace hf := hq; clear hq
          obtain ⟨a_22, e_22, hq⟩ := ww_bS hf; replace hf := hq; clear hq
          subst e_22
          obtain ⟨r_23, h_23, hq⟩ := ww_bS hf; replace hf := hq; clear hq
          obtain ⟨a_24, e_24, hq⟩ := ww_bS hf; replace hf := hq; clear hq
          subst e_24
          obtain ⟨h_25, hq⟩ := ww_gS hf; replace hf := hq; clear hq
          obtain ⟨r_26, D_26, c_26, k_26, h_26, hq⟩ := ww_b4S hf; replace hf := hq; clear hq
          have e9 := (ww_lK hf hz_1).1
          try dsimp only at e9
          omega
        refine c7c_J3_append_3 X hl.1 hK hR hS (Nat.le_trans (Nat.le_of_ble_eq_true rfl) hF) (Nat.le_trans (Nat.le_of_ble_eq_true rfl) hLo) (Nat.le_trans hm9.1 hC.1) (Nat.le_trans hm9.2 hC.2) h_16 h_17 (cw_rest (Nat.le_of_ble_eq_true rfl)) dX7_shows_38 (fun H locs hR hS => ?_)
        refine lv_bipush (v := (58 : Int32)) hx hb dX7_shows_41 (by decide) ?_
        obtain ⟨a_18, e_18, hq⟩ := ww_bS hf; replace hf := hq; clear hq
        subst e_18
        obtain ⟨h_19, hq⟩ := ww_gS hf; replace hf := hq; clear hq
        obtain ⟨r_20, D_20, c_20, k_20, h_20, hq⟩ := ww_b4S hf; replace hf := hq; clear hq
        have hm9 : (((c_1b + c_11) + c_17) + c_20) ≤ nc ∧ (((k_1b + k_11) + k_17) + k_20) ≤ ns := by
          obtain ⟨r_21, h_21, hq⟩ := ww_bS hf; replace hf := hq; clear hq
          obtain ⟨a_22, e_22, hq⟩ := ww_bS hf; replace hf := hq; clear hq
          subst e_22
          obtain ⟨r_23, h_23, hq⟩ := ww_bS hf; replace hf := hq; clear hq
          obtain ⟨a_24, e_24, hq⟩ := ww_bS hf; replace hf := hq; clear hq
          subst e_24
          obtain ⟨h_25, hq⟩ := ww_gS hf; replace hf := hq; clear hq
          obtain ⟨r_26, D_26, c_26, k_26, h_26, hq⟩ := ww_b4S hf; replace hf := hq; clear hq
          have e9 := (ww_lK hf hz_1).1
          try dsimp only at e9
          omega
        refine c7c_J3_append X hl.1 hK hR hS (Nat.le_trans (Nat.le_of_ble_eq_true rfl) hF) (Nat.le_trans (Nat.le_of_ble_eq_true rfl) hLo) (Nat.le_trans hm9.1 hC.1) (Nat.le_trans hm9.2 hC.2) h_19 h_20 (cw_rest (Nat.le_of_ble_eq_true rfl)) dX7_shows_43 (fun H locs hR hS => ?_)
        refine lv_aload_n hx hb dX7_shows_46 rfl (lv_at hl 0 rfl) ?_
        obtain ⟨r_21, h_21, hq⟩ := ww_bS hf; replace hf := hq; clear hq
        refine c7g_15 X hK hR h_21 dX7_shows_47 ?_
        refine lv_iload_n hx hb dX7_shows_50 rfl (lv_at hl 2 rfl) ?_
        obtain ⟨a_22, e_22, hq⟩ := ww_bS hf; replace hf := hq; clear hq
        subst e_22
        obtain ⟨r_23, h_23, hq⟩ := ww_bS hf; replace hf := hq; clear hq
        refine cw_oxI (kd := 20) (x := some a_22) X hK hR (by decide) rfl h_23 dX7_shows_51 ?_
        obtain ⟨a_24, e_24, hq⟩ := ww_bS hf; replace hf := hq; clear hq
        subst e_24
        obtain ⟨h_25, hq⟩ := ww_gS hf; replace hf := hq; clear hq
        obtain ⟨r_26, D_26, c_26, k_26, h_26, hq⟩ := ww_b4S hf; replace hf := hq; clear hq
        have hm9 : ((((c_1b + c_11) + c_17) + c_20) + c_26) ≤ nc ∧ ((((k_1b + k_11) + k_17) + k_20) + k_26) ≤ ns := by
          have e9 := (ww_lK hf hz_1).1
          try dsimp only at e9
          omega
        refine c7c_J3_append_3 X hl.1 hK hR hS (Nat.le_trans (Nat.le_of_ble_eq_true rfl) hF) (Nat.le_trans (Nat.le_of_ble_eq_true rfl) hLo) (Nat.le_trans hm9.1 hC.1) (Nat.le_trans hm9.2 hC.2) h_25 h_26 (cw_rest (Nat.le_of_ble_eq_true rfl)) dX7_shows_52 (fun H locs hR hS => ?_)
        refine lv_pop hx hb dX7_shows_55 (cw_cat _) ?_
        refine lv_iinc (k := 2) (v := x2 + (1 : Int32)) (lv' := [(2, .int (x2 + (1 : Int32))), (0, .ref a0), (1, .ref a_1)]) hx hb dX7_shows_56 hl rfl rfl (by decide) rfl (fun ls hl => ?_)
        refine lv_goto (tgt := 9) hx hb dX7_shows_59 (by decide) ?_
        exact (ww_lK hf hz_1).2 _ _ _ hR hS (lv_sub hl [1, 2, 0] rfl)
      refine lv_if_ne (tgt := 27) hx hb dX7_shows_19 (by decide) (fun c_27 => ?_) (fun c_27 => ?_)
      · replace hf := ww_in hf c_27
        obtain ⟨r_28, h_28, hq⟩ := ww_bS hf; replace hf := hq; clear hq
        refine cw_ldcS (j := 108) (tx := " ") X hK hR (by decide +kernel) (by decide) h_28 dX7_shows_27 ?_
        exact (hj_1 (some a_1) r_28 hf).2 _ _ _ hR hS hl
      · replace hf := ww_ip hf c_27
        obtain ⟨r_29, h_29, hq⟩ := ww_bS hf; replace hf := hq; clear hq
        refine cw_ldcS (j := 107) (tx := "") X hK hR (by decide +kernel) (by decide) h_29 dX7_shows_22 ?_
        refine lv_goto (tgt := 29) hx hb dX7_shows_24 (by decide) ?_
        exact (hj_1 (some a_1) r_29 hf).2 _ _ _ hR hS hl
  exact (hL_1 (D_3, (0 + c_3), (0 + k_3), (0 : Int32)) hf).2 _ _ _ hR hS (lv_sub hl [1, 2, 0] rfl)
noncomputable def f5r_shows (r8 : cw_D → Nat → Option Nat → Option (cw_D × Nat × Nat)) : cw_D → Nat → Option Nat → Option (cw_D × Nat × Nat) := fun D a x1 =>
  if cw_kd D [1] (some a) = true then f7_shows D a x1 else if cw_kd D [2] (some a) = true then r8 D a x1 else none
noncomputable def f8_shows_b1c (rec : cw_D → Nat → Option Nat → Option (cw_D × Nat × Nat)) (y0 : Nat) (y1 : Nat) (D_4 : cw_D) (c_1b : Nat) (k_1b : Nat) (x2 : Int32) : Option ((cw_D × Nat × Nat × Int32) ⊕ (cw_D × Nat × Nat)) :=
  ww_b (cw_gI D_4 [2] y0 1) (fun r_5 => if r_5 ≤ x2 then ww_x (ww_g (cw_kd D_4 [4] (some y1)) (ww_b4 (fJ3_append D_4 y1 (41 : Int32)) (fun r_8 D_8 c_8 k_8 => some (D_8, (c_1b + c_8), (k_1b + k_8))))) else ww_b (cw_gR D_4 [2] y0 3) (fun r_9 => ww_b r_9 (fun a_11 => ww_b (cw_xR D_4 a_11 x2) (fun r_10 => ww_b r_10 (fun a_12 => ww_b3 (f5r_shows rec D_4 a_12 (some y1)) (fun D_13 c_13 k_13 => some (.inl (D_13, (c_1b + c_13), (k_1b + k_13), (x2 + (1 : Int32))))))))))
noncomputable def f8_shows_b1 (rec : cw_D → Nat → Option Nat → Option (cw_D × Nat × Nat)) (y0 : Nat) (y1 : Nat) : (cw_D × Nat × Nat × Int32) → Option ((cw_D × Nat × Nat × Int32) ⊕ (cw_D × Nat × Nat)) := fun s9 => f8_shows_b1c rec y0 y1 s9.1 s9.2.1 s9.2.2.1 s9.2.2.2
noncomputable def f8_shows_r (rec : cw_D → Nat → Option Nat → Option (cw_D × Nat × Nat)) (D : cw_D) (a0 : Nat) (x1 : Option Nat) : Option (cw_D × Nat × Nat) :=
  ww_b x1 (fun a_1 => ww_g (cw_kd D [4] (some a_1)) (ww_b4 (fJ3_append D a_1 (40 : Int32)) (fun r_3 D_3 c_3 k_3 => ww_U (f8_shows_b1 rec a0 a_1) (D_3, (0 + c_3), (0 + k_3), (0 : Int32)))))
noncomputable def f8_shows : Nat → cw_D → Nat → Option Nat → Option (cw_D × Nat × Nat)
  | 0 => fun _ _ _ => none
  | d + 1 => f8_shows_r (f8_shows d)
section C_8_shows_j
variable {p : Program} {l : Launch} {e : Env} {R : Room} {s : State} {m : MethodId} {args : Array Value} {below : List Frame} {meth : Method} {c : Code} {H : Heap} {locs : List Loc} {cells slots : Nat} {Q : State → Prop}
variable {cc : ByteArray} {pc : Nat} {ls : Array Slot} {rest : List Value} {nL : Nat} {E : cw_E} {A : Nat → Prop} {H0 : Heap}
theorem c1j_shows {D : cw_D} {a0 : Nat} {x1 : Option Nat} {D' : cw_D} {nc ns : Nat} {d : Nat} (X : ww_C p m c cc nL s args RX1 lw_all) (hsz : ls.size = nL) (hK : cw_K E A s) (hR : cw_H E A D H) (hS : va_S A s.heap H locs) (hF : d + 7 + 1 ≤ R.frames) (hLo : 8 + (3 + 11) + (22 * d + 236) ≤ R.locals) (hc : cells + nc ≤ R.cells) (hs : slots + ns ≤ R.slots) (ih : f8_shows d D a0 x1 = some (D', nc, ns) → cw_MetV l yX8_shows cX8_shows 3 (d + 7) (22 * d + 236) E A [.ref a0, va_rf x1] D D' nc ns) (hf : f5r_shows (f8_shows d) D a0 x1 = some (D', nc, ns)) (hrest : (rest.map fun v => v.category).sum ≤ 8) {count : Nat} (hdg : decode cc pc = .ok (.invokeinterface 468 count, 5)) (kk : ∀ (H1 : Heap) (locs1 : List Loc), cw_H E A D' H1 → va_S A s.heap H1 locs1 → W p l e R s m args below meth c H1 locs1 (cells + nc) (slots + ns) Q (F0 m (pc + 5) ls (rest))) : W p l e R s m args below meth c H locs cells slots Q (F0 m pc ls (va_rf x1 :: .ref a0 :: rest)) := by
  unfold f5r_shows at hf
  by_cases hkd : cw_kd D [1] (some a0) = true
  · rw [if_pos hkd] at hf
    exact va_callFv (va_runF (C := RX7) (x := ⟨"WideMap$Node", "shows", "(Ljava/lang/StringBuilder;)V"⟩) (As := [va_rf x1]) (rest := rest) (b := a0) (cw_cls (k := 1) (C := RX7) (T := TX7) (N := 5) rfl hK) X (met7_shows l _ _ _ _ _ _ hf) (va_cwF 1 X.2.2.2.2 (cw_F q1496 q1507 q1509 q154 q1511) rfl rfl rfl (hK.2.2.2.1 ("WideMap$Leaf", ⟨"WideMap$Node", "shows", "(Ljava/lang/StringBuilder;)V"⟩, ⟨"WideMap$Leaf", "shows", "(Ljava/lang/StringBuilder;)V"⟩) (by decide +kernel)) (by decide +kernel) ⟨(show 7 ≤ R.frames by omega), (show 236 ≤ R.locals by omega)⟩) (cw_pV hK hR hS (cw_rc (k := 1) (C := RX7) (T := TX7) (N := 5) rfl (by decide) hK hR hkd)) rfl rfl hsz rfl (lv_room hrest) hdg ⟨hc, hs⟩) hS (fun q _ h => h) (fun q h => h) (fun u t H1 locs1 ht hvm hw hB hz1 hk1 hS1 => by rw [ht] at hB; exact kk H1 locs1 hB hS1)
  · rw [if_neg hkd] at hf
    by_cases hkd : cw_kd D [2] (some a0) = true
    · rw [if_pos hkd] at hf
      exact va_callFv (va_runF (C := RX8) (x := ⟨"WideMap$Node", "shows", "(Ljava/lang/StringBuilder;)V"⟩) (As := [va_rf x1]) (rest := rest) (b := a0) (cw_cls (k := 2) (C := RX8) (T := TX8) (N := 4) rfl hK) X (ih hf) (va_cwF 1 X.2.2.2.2 (cw_F q1496 q1499 q1501 q155 q1503) rfl rfl rfl (hK.2.2.2.1 ("WideMap$Inner", ⟨"WideMap$Node", "shows", "(Ljava/lang/StringBuilder;)V"⟩, ⟨"WideMap$Inner", "shows", "(Ljava/lang/StringBuilder;)V"⟩) (by decide +kernel)) (by decide +kernel) ⟨(show d + 7 + 1 ≤ R.frames by omega), (show 8 + (3 + 11) + (22 * d + 236) ≤ R.locals by omega)⟩) (cw_pV hK hR hS (cw_rc (k := 2) (C := RX8) (T := TX8) (N := 4) rfl (by decide) hK hR hkd)) rfl rfl hsz rfl (lv_room hrest) hdg ⟨hc, hs⟩) hS (fun q _ h => h) (fun q h => h) (fun u t H1 locs1 ht hvm hw hB hz1 hk1 hS1 => by rw [ht] at hB; exact kk H1 locs1 hB hS1)
    · rw [if_neg hkd] at hf
      cases hf
theorem c8j_shows {D : cw_D} {a0 : Nat} {x1 : Option Nat} {D' : cw_D} {nc ns : Nat} {d : Nat} (X : ww_C p m c cc nL s args RX8 lw_all) (hsz : ls.size = nL) (hK : cw_K E A s) (hR : cw_H E A D H) (hS : va_S A s.heap H locs) (hF : d + 7 + 1 ≤ R.frames) (hLo : 8 + (3 + 11) + (22 * d + 236) ≤ R.locals) (hc : cells + nc ≤ R.cells) (hs : slots + ns ≤ R.slots) (ih : f8_shows d D a0 x1 = some (D', nc, ns) → cw_MetV l yX8_shows cX8_shows 3 (d + 7) (22 * d + 236) E A [.ref a0, va_rf x1] D D' nc ns) (hf : f5r_shows (f8_shows d) D a0 x1 = some (D', nc, ns)) (hrest : (rest.map fun v => v.category).sum ≤ 8) {count : Nat} (hdg : decode cc pc = .ok (.invokeinterface 81 count, 5)) (kk : ∀ (H1 : Heap) (locs1 : List Loc), cw_H E A D' H1 → va_S A s.heap H1 locs1 → W p l e R s m args below meth c H1 locs1 (cells + nc) (slots + ns) Q (F0 m (pc + 5) ls (rest))) : W p l e R s m args below meth c H locs cells slots Q (F0 m pc ls (va_rf x1 :: .ref a0 :: rest)) := by
  unfold f5r_shows at hf
  by_cases hkd : cw_kd D [1] (some a0) = true
  · rw [if_pos hkd] at hf
    exact va_callFv (va_runF (C := RX7) (x := ⟨"WideMap$Node", "shows", "(Ljava/lang/StringBuilder;)V"⟩) (As := [va_rf x1]) (rest := rest) (b := a0) (cw_cls (k := 1) (C := RX7) (T := TX7) (N := 5) rfl hK) X (met7_shows l _ _ _ _ _ _ hf) (va_cwF 1 X.2.2.2.2 (cw_F q1506 q1507 q1509 q154 q1511) rfl rfl rfl (hK.2.2.2.1 ("WideMap$Leaf", ⟨"WideMap$Node", "shows", "(Ljava/lang/StringBuilder;)V"⟩, ⟨"WideMap$Leaf", "shows", "(Ljava/lang/StringBuilder;)V"⟩) (by decide +kernel)) (by decide +kernel) ⟨(show 7 ≤ R.frames by omega), (show 236 ≤ R.locals by omega)⟩) (cw_pV hK hR hS (cw_rc (k := 1) (C := RX7) (T := TX7) (N := 5) rfl (by decide) hK hR hkd)) rfl rfl hsz rfl (lv_room hrest) hdg ⟨hc, hs⟩) hS (fun q _ h => h) (fun q h => h) (fun u t H1 locs1 ht hvm hw hB hz1 hk1 hS1 => by rw [ht] at hB; exact kk H1 locs1 hB hS1)
  · rw [if_neg hkd] at hf
    by_cases hkd : cw_kd D [2] (some a0) = true
    · rw [if_pos hkd] at hf
      exact va_callFv (va_runF (C := RX8) (x := ⟨"WideMap$Node", "shows", "(Ljava/lang/StringBuilder;)V"⟩) (As := [va_rf x1]) (rest := rest) (b := a0) (cw_cls (k := 2) (C := RX8) (T := TX8) (N := 4) rfl hK) X (ih hf) (va_cwF 1 X.2.2.2.2 (cw_F q1506 q1499 q1501 q155 q1503) rfl rfl rfl (hK.2.2.2.1 ("WideMap$Inner", ⟨"WideMap$Node", "shows", "(Ljava/lang/StringBuilder;)V"⟩, ⟨"WideMap$Inner", "shows", "(Ljava/lang/StringBuilder;)V"⟩) (by decide +kernel)) (by decide +kernel) ⟨(show d + 7 + 1 ≤ R.frames by omega), (show 8 + (3 + 11) + (22 * d + 236) ≤ R.locals by omega)⟩) (cw_pV hK hR hS (cw_rc (k := 2) (C := RX8) (T := TX8) (N := 4) rfl (by decide) hK hR hkd)) rfl rfl hsz rfl (lv_room hrest) hdg ⟨hc, hs⟩) hS (fun q _ h => h) (fun q h => h) (fun u t H1 locs1 ht hvm hw hB hz1 hk1 hS1 => by rw [ht] at hB; exact kk H1 locs1 hB hS1)
    · rw [if_neg hkd] at hf
      cases hf
end C_8_shows_j
set_option maxHeartbeats 4000000 in
set_option maxRecDepth 100000 in
theorem met8_shows (l : Launch) {E : cw_E} {A : Nat → Prop} : ∀ (d : Nat) (D : cw_D) (a0 : Nat) (x1 : Option Nat) (D' : cw_D) (nc ns : Nat), f8_shows d D a0 x1 = some (D', nc, ns) → cw_MetV l yX8_shows cX8_shows 3 (d + 7) (22 * d + 236) E A [.ref a0, va_rf x1] D D' nc ns := by
  intro d
  induction d with
  | zero => intro D a0 x1 D' nc ns hf; cases hf
  | succ d ih =>
    intro D a0 x1 D' nc ns hf
    replace hf : f8_shows_r (f8_shows d) D a0 x1 = some (D', nc, ns) := hf
    unfold f8_shows_r at hf
    refine cw_sVN (own := RX8) (by decide +kernel) [(0, .ref a0), (1, va_rf x1)] ⟨by cases x1 <;> exact Nat.le_of_ble_eq_true rfl, by cases x1 <;> rfl⟩ ?_
    intro p e s m args below meth c Rm Q X hK hF hLo hC hin hend ls hl hR hS
    obtain ⟨hx, hb, hml, hown, hts⟩ := id X
    have hm9 : 0 ≤ nc ∧ 0 ≤ ns := ⟨Nat.zero_le _, Nat.zero_le _⟩
    refine cw_aload_n (x := x1) hx hb dX8_shows_0 rfl (lv_at hl 1 rfl) ?_
    refine lv_bipush (v := (40 : Int32)) hx hb dX8_shows_1 (by decide) ?_
    obtain ⟨a_1, e_1, hq⟩ := ww_bS hf; replace hf := hq; clear hq
    subst e_1
    obtain ⟨h_2, hq⟩ := ww_gS hf; replace hf := hq; clear hq
    obtain ⟨r_3, D_3, c_3, k_3, h_3, hq⟩ := ww_b4S hf; replace hf := hq; clear hq
    have hm9 : (0 + c_3) ≤ nc ∧ (0 + k_3) ≤ ns := by
      have hL_1 : ∀ s9 : cw_D × Nat × Nat × Int32, ww_U (f8_shows_b1 (f8_shows d) a0 a_1) s9 = some (D', nc, ns) → s9.2.1 ≤ nc ∧ s9.2.2.1 ≤ ns := by
        clear hf
        refine ww_ind _ (D', nc, ns) ?_
        intro s9 z_1 hf hz_1
        obtain ⟨D_4, c_1b, k_1b, x2⟩ := s9
        replace hf : f8_shows_b1c (f8_shows d) a0 a_1 D_4 c_1b k_1b x2 = some z_1 := hf
        unfold f8_shows_b1c at hf
        show c_1b ≤ nc ∧ k_1b ≤ ns
        obtain ⟨r_5, h_5, hq⟩ := ww_bS hf; replace hf := hq; clear hq
        refine ww_by (r_5 ≤ x2) (fun c_6 => ?_) (fun c_6 => ?_)
        · replace hf := ww_ip hf c_6
          replace hf := ww_xK hf hz_1
          obtain ⟨h_7, hq⟩ := ww_gS hf; replace hf := hq; clear hq
          obtain ⟨r_8, D_8, c_8, k_8, h_8, hq⟩ := ww_b4S hf; replace hf := hq; clear hq
          have e9 := hf
          simp only [Option.some.injEq, Prod.mk.injEq] at e9
          omega
        · replace hf := ww_in hf c_6
          obtain ⟨r_9, h_9, hq⟩ := ww_bS hf; replace hf := hq; clear hq
          obtain ⟨a_11, e_11, hq⟩ := ww_bS hf; replace hf := hq; clear hq
          subst e_11
          obtain ⟨r_10, h_10, hq⟩ := ww_bS hf; replace hf := hq; clear hq
          obtain ⟨a_12, e_12, hq⟩ := ww_bS hf; replace hf := hq; clear hq
          subst e_12
          obtain ⟨D_13, c_13, k_13, h_13, hq⟩ := ww_b3S hf; replace hf := hq; clear hq
          have e9 := ww_lK hf hz_1
          try dsimp only at e9
          omega
      have e9 := hL_1 (D_3, (0 + c_3), (0 + k_3), (0 : Int32)) hf
      try dsimp only at e9
      omega
    refine c8c_J3_append X hl.1 hK hR hS (by omega) (by omega) (Nat.le_trans hm9.1 hC.1) (Nat.le_trans hm9.2 hC.2) h_2 h_3 (cw_rest (Nat.le_of_ble_eq_true rfl)) dX8_shows_3 (fun H locs hR hS => ?_)
    refine lv_pop hx hb dX8_shows_6 (cw_cat _) ?_
    refine lv_iconst (v := (0 : Int32)) hx hb dX8_shows_7 (by decide) ?_
    refine lv_istore_n (lv' := [(2, .int (0 : Int32)), (0, .ref a0), (1, .ref a_1)]) hx hb dX8_shows_8 rfl hl (by decide) rfl (fun ls hl => ?_)
    have hL_1 : ∀ s9 : cw_D × Nat × Nat × Int32, ww_U (f8_shows_b1 (f8_shows d) a0 a_1) s9 = some (D', nc, ns) → (s9.2.1 ≤ nc ∧ s9.2.2.1 ≤ ns) ∧ (∀ (H : Heap) (locs : List Loc) (ls : Array Slot), cw_H E A s9.1 H → va_S A s.heap H locs → lv_has ls 3 [(0, .ref a0), (1, .ref a_1), (2, .int s9.2.2.2)] → W p l e Rm s m args below meth c H locs s9.2.1 s9.2.2.1 Q (F0 m 9 ls [])) := by
      clear hf
      refine ww_ind _ (D', nc, ns) ?_
      intro s9 z_1 hf hz_1
      obtain ⟨D_4, c_1b, k_1b, x2⟩ := s9
      replace hf : f8_shows_b1c (f8_shows d) a0 a_1 D_4 c_1b k_1b x2 = some z_1 := hf
      unfold f8_shows_b1c at hf
      have hm9 : c_1b ≤ nc ∧ k_1b ≤ ns := by
        show c_1b ≤ nc ∧ k_1b ≤ ns
        obtain ⟨r_5, h_5, hq⟩ := ww_bS hf; replace hf := hq; clear hq
        refine ww_by (r_5 ≤ x2) (fun c_6 => ?_) (fun c_6 => ?_)
        · replace hf := ww_ip hf c_6
          replace hf := ww_xK hf hz_1
          obtain ⟨h_7, hq⟩ := ww_gS hf; replace hf := hq; clear hq
          obtain ⟨r_8, D_8, c_8, k_8, h_8, hq⟩ := ww_b4S hf; replace hf := hq; clear hq
          have e9 := hf
          simp only [Option.some.injEq, Prod.mk.injEq] at e9
          omega
        · replace hf := ww_in hf c_6
          obtain ⟨r_9, h_9, hq⟩ := ww_bS hf; replace hf := hq; clear hq
          obtain ⟨a_11, e_11, hq⟩ := ww_bS hf; replace hf := hq; clear hq
          subst e_11
          obtain ⟨r_10, h_10, hq⟩ := ww_bS hf; replace hf := hq; clear hq
          obtain ⟨a_12, e_12, hq⟩ := ww_bS hf; replace hf := hq; clear hq
          subst e_12
          obtain ⟨D_13, c_13, k_13, h_13, hq⟩ := ww_b3S hf; replace hf := hq; clear hq
          have e9 := (ww_lK hf hz_1).1
          try dsimp only at e9
          omega
      refine ⟨hm9, ?_⟩
      try clear hl
      try clear hS
      try clear hR
      intro H locs ls hR hS hl
      replace hR : cw_H E A D_4 H := hR
      replace hl : lv_has ls 3 [(0, .ref a0), (1, .ref a_1), (2, .int x2)] := hl
      show W p l e Rm s m args below meth c H locs c_1b k_1b Q _
      refine lv_iload_n hx hb dX8_shows_9 rfl (lv_at hl 2 rfl) ?_
      refine lv_aload_n hx hb dX8_shows_10 rfl (lv_at hl 0 rfl) ?_
      obtain ⟨r_5, h_5, hq⟩ := ww_bS hf; replace hf := hq; clear hq
      refine c8g_22 X hK hR h_5 dX8_shows_11 ?_
      refine lv_icmp_ge (tgt := 35) hx hb dX8_shows_14 (by decide) (fun c_6 => ?_) (fun c_6 => ?_)
      · replace hf := ww_ip hf c_6
        replace hf := ww_xK hf hz_1
        refine lv_aload_n hx hb dX8_shows_35 rfl (lv_at hl 1 rfl) ?_
        refine lv_bipush (v := (41 : Int32)) hx hb dX8_shows_36 (by decide) ?_
        obtain ⟨h_7, hq⟩ := ww_gS hf; replace hf := hq; clear hq
        obtain ⟨r_8, D_8, c_8, k_8, h_8, hq⟩ := ww_b4S hf; replace hf := hq; clear hq
        have hm9 : (c_1b + c_8) ≤ nc ∧ (k_1b + k_8) ≤ ns := by
          have e9 := hf
          simp only [Option.some.injEq, Prod.mk.injEq] at e9
          omega
        refine c8c_J3_append X hl.1 hK hR hS (by omega) (by omega) (Nat.le_trans hm9.1 hC.1) (Nat.le_trans hm9.2 hC.2) h_7 h_8 (cw_rest (Nat.le_of_ble_eq_true rfl)) dX8_shows_38 (fun H locs hR hS => ?_)
        refine lv_pop hx hb dX8_shows_41 (cw_cat _) ?_
        exact hend dX8_shows_42 hf hR hS
      · replace hf := ww_in hf c_6
        refine lv_aload_n hx hb dX8_shows_17 rfl (lv_at hl 0 rfl) ?_
        obtain ⟨r_9, h_9, hq⟩ := ww_bS hf; replace hf := hq; clear hq
        refine c8g_9 X hK hR h_9 dX8_shows_18 ?_
        refine lv_iload_n hx hb dX8_shows_21 rfl (lv_at hl 2 rfl) ?_
        obtain ⟨a_11, e_11, hq⟩ := ww_bS hf; replace hf := hq; clear hq
        subst e_11
        obtain ⟨r_10, h_10, hq⟩ := ww_bS hf; replace hf := hq; clear hq
        refine cw_oxR (x := some a_11) X hK hR rfl h_10 dX8_shows_22 ?_
        refine lv_aload_n hx hb dX8_shows_23 rfl (lv_at hl 1 rfl) ?_
        obtain ⟨a_12, e_12, hq⟩ := ww_bS hf; replace hf := hq; clear hq
        subst e_12
        obtain ⟨D_13, c_13, k_13, h_13, hq⟩ := ww_b3S hf; replace hf := hq; clear hq
        have hm9 : (c_1b + c_13) ≤ nc ∧ (k_1b + k_13) ≤ ns := by
          have e9 := (ww_lK hf hz_1).1
          try dsimp only at e9
          omega
        refine c8j_shows (x1 := (some a_1)) X hl.1 hK hR hS (by omega) (by omega) (Nat.le_trans hm9.1 hC.1) (Nat.le_trans hm9.2 hC.2) (fun q9 => ih _ _ _ _ _ _ q9) h_13 (cw_rest (Nat.le_of_ble_eq_true rfl)) dX8_shows_24 (fun H locs hR hS => ?_)
        refine lv_iinc (k := 2) (v := x2 + (1 : Int32)) (lv' := [(2, .int (x2 + (1 : Int32))), (0, .ref a0), (1, .ref a_1)]) hx hb dX8_shows_29 hl rfl rfl (by decide) rfl (fun ls hl => ?_)
        refine lv_goto (tgt := 9) hx hb dX8_shows_32 (by decide) ?_
        exact (ww_lK hf hz_1).2 _ _ _ hR hS (lv_sub hl [1, 2, 0] rfl)
    exact (hL_1 (D_3, (0 + c_3), (0 + k_3), (0 : Int32)) hf).2 _ _ _ hR hS (lv_sub hl [1, 2, 0] rfl)
section C_8_shows_i
variable {p : Program} {l : Launch} {e : Env} {R : Room} {s : State} {m : MethodId} {args : Array Value} {below : List Frame} {meth : Method} {c : Code} {H : Heap} {locs : List Loc} {cells slots : Nat} {Q : State → Prop}
variable {cc : ByteArray} {pc : Nat} {ls : Array Slot} {rest : List Value} {nL : Nat} {E : cw_E} {A : Nat → Prop} {H0 : Heap}
theorem c1i_shows {D : cw_D} {a0 : Nat} {x1 : Option Nat} {D' : cw_D} {nc ns : Nat} (X : ww_C p m c cc nL s args RX1 lw_all) (hsz : ls.size = nL) (hK : cw_K E A s) (hR : cw_H E A D H) (hS : va_S A s.heap H locs) (hF : 16 ≤ R.frames) (hLo : 434 ≤ R.locals) (hc : cells + nc ≤ R.cells) (hs : slots + ns ≤ R.slots) (hf : f5r_shows (f8_shows 8) D a0 x1 = some (D', nc, ns)) (hrest : (rest.map fun v => v.category).sum ≤ 8) {count : Nat} (hdg : decode cc pc = .ok (.invokeinterface 468 count, 5)) (kk : ∀ (H1 : Heap) (locs1 : List Loc), cw_H E A D' H1 → va_S A s.heap H1 locs1 → W p l e R s m args below meth c H1 locs1 (cells + nc) (slots + ns) Q (F0 m (pc + 5) ls (rest))) : W p l e R s m args below meth c H locs cells slots Q (F0 m pc ls (va_rf x1 :: .ref a0 :: rest)) := by
  unfold f5r_shows at hf
  by_cases hkd : cw_kd D [1] (some a0) = true
  · rw [if_pos hkd] at hf
    exact va_callFv (va_runF (C := RX7) (x := ⟨"WideMap$Node", "shows", "(Ljava/lang/StringBuilder;)V"⟩) (As := [va_rf x1]) (rest := rest) (b := a0) (cw_cls (k := 1) (C := RX7) (T := TX7) (N := 5) rfl hK) X (met7_shows l _ _ _ _ _ _ hf) (va_cwF 1 X.2.2.2.2 (cw_F q1496 q1507 q1509 q154 q1511) rfl rfl rfl (hK.2.2.2.1 ("WideMap$Leaf", ⟨"WideMap$Node", "shows", "(Ljava/lang/StringBuilder;)V"⟩, ⟨"WideMap$Leaf", "shows", "(Ljava/lang/StringBuilder;)V"⟩) (by decide +kernel)) (by decide +kernel) ⟨(show 7 ≤ R.frames by omega), (show 236 ≤ R.locals by omega)⟩) (cw_pV hK hR hS (cw_rc (k := 1) (C := RX7) (T := TX7) (N := 5) rfl (by decide) hK hR hkd)) rfl rfl hsz rfl (lv_room hrest) hdg ⟨hc, hs⟩) hS (fun q _ h => h) (fun q h => h) (fun u t H1 locs1 ht hvm hw hB hz1 hk1 hS1 => by rw [ht] at hB; exact kk H1 locs1 hB hS1)
  · rw [if_neg hkd] at hf
    by_cases hkd : cw_kd D [2] (some a0) = true
    · rw [if_pos hkd] at hf
      exact va_callFv (va_runF (C := RX8) (x := ⟨"WideMap$Node", "shows", "(Ljava/lang/StringBuilder;)V"⟩) (As := [va_rf x1]) (rest := rest) (b := a0) (cw_cls (k := 2) (C := RX8) (T := TX8) (N := 4) rfl hK) X (met8_shows l 8 _ _ _ _ _ _ hf) (va_cwF 1 X.2.2.2.2 (cw_F q1496 q1499 q1501 q155 q1503) rfl rfl rfl (hK.2.2.2.1 ("WideMap$Inner", ⟨"WideMap$Node", "shows", "(Ljava/lang/StringBuilder;)V"⟩, ⟨"WideMap$Inner", "shows", "(Ljava/lang/StringBuilder;)V"⟩) (by decide +kernel)) (by decide +kernel) ⟨(show 16 ≤ R.frames by omega), (show 434 ≤ R.locals by omega)⟩) (cw_pV hK hR hS (cw_rc (k := 2) (C := RX8) (T := TX8) (N := 4) rfl (by decide) hK hR hkd)) rfl rfl hsz rfl (lv_room hrest) hdg ⟨hc, hs⟩) hS (fun q _ h => h) (fun q h => h) (fun u t H1 locs1 ht hvm hw hB hz1 hk1 hS1 => by rw [ht] at hB; exact kk H1 locs1 hB hS1)
    · rw [if_neg hkd] at hf
      cases hf
theorem c8i_shows {D : cw_D} {a0 : Nat} {x1 : Option Nat} {D' : cw_D} {nc ns : Nat} (X : ww_C p m c cc nL s args RX8 lw_all) (hsz : ls.size = nL) (hK : cw_K E A s) (hR : cw_H E A D H) (hS : va_S A s.heap H locs) (hF : 16 ≤ R.frames) (hLo : 434 ≤ R.locals) (hc : cells + nc ≤ R.cells) (hs : slots + ns ≤ R.slots) (hf : f5r_shows (f8_shows 8) D a0 x1 = some (D', nc, ns)) (hrest : (rest.map fun v => v.category).sum ≤ 8) {count : Nat} (hdg : decode cc pc = .ok (.invokeinterface 81 count, 5)) (kk : ∀ (H1 : Heap) (locs1 : List Loc), cw_H E A D' H1 → va_S A s.heap H1 locs1 → W p l e R s m args below meth c H1 locs1 (cells + nc) (slots + ns) Q (F0 m (pc + 5) ls (rest))) : W p l e R s m args below meth c H locs cells slots Q (F0 m pc ls (va_rf x1 :: .ref a0 :: rest)) := by
  unfold f5r_shows at hf
  by_cases hkd : cw_kd D [1] (some a0) = true
  · rw [if_pos hkd] at hf
    exact va_callFv (va_runF (C := RX7) (x := ⟨"WideMap$Node", "shows", "(Ljava/lang/StringBuilder;)V"⟩) (As := [va_rf x1]) (rest := rest) (b := a0) (cw_cls (k := 1) (C := RX7) (T := TX7) (N := 5) rfl hK) X (met7_shows l _ _ _ _ _ _ hf) (va_cwF 1 X.2.2.2.2 (cw_F q1506 q1507 q1509 q154 q1511) rfl rfl rfl (hK.2.2.2.1 ("WideMap$Leaf", ⟨"WideMap$Node", "shows", "(Ljava/lang/StringBuilder;)V"⟩, ⟨"WideMap$Leaf", "shows", "(Ljava/lang/StringBuilder;)V"⟩) (by decide +kernel)) (by decide +kernel) ⟨(show 7 ≤ R.frames by omega), (show 236 ≤ R.locals by omega)⟩) (cw_pV hK hR hS (cw_rc (k := 1) (C := RX7) (T := TX7) (N := 5) rfl (by decide) hK hR hkd)) rfl rfl hsz rfl (lv_room hrest) hdg ⟨hc, hs⟩) hS (fun q _ h => h) (fun q h => h) (fun u t H1 locs1 ht hvm hw hB hz1 hk1 hS1 => by rw [ht] at hB; exact kk H1 locs1 hB hS1)
  · rw [if_neg hkd] at hf
    by_cases hkd : cw_kd D [2] (some a0) = true
    · rw [if_pos hkd] at hf
      exact va_callFv (va_runF (C := RX8) (x := ⟨"WideMap$Node", "shows", "(Ljava/lang/StringBuilder;)V"⟩) (As := [va_rf x1]) (rest := rest) (b := a0) (cw_cls (k := 2) (C := RX8) (T := TX8) (N := 4) rfl hK) X (met8_shows l 8 _ _ _ _ _ _ hf) (va_cwF 1 X.2.2.2.2 (cw_F q1506 q1499 q1501 q155 q1503) rfl rfl rfl (hK.2.2.2.1 ("WideMap$Inner", ⟨"WideMap$Node", "shows", "(Ljava/lang/StringBuilder;)V"⟩, ⟨"WideMap$Inner", "shows", "(Ljava/lang/StringBuilder;)V"⟩) (by decide +kernel)) (by decide +kernel) ⟨(show 16 ≤ R.frames by omega), (show 434 ≤ R.locals by omega)⟩) (cw_pV hK hR hS (cw_rc (k := 2) (C := RX8) (T := TX8) (N := 4) rfl (by decide) hK hR hkd)) rfl rfl hsz rfl (lv_room hrest) hdg ⟨hc, hs⟩) hS (fun q _ h => h) (fun q h => h) (fun u t H1 locs1 ht hvm hw hB hz1 hk1 hS1 => by rw [ht] at hB; exact kk H1 locs1 hB hS1)
    · rw [if_neg hkd] at hf
      cases hf
end C_8_shows_i
noncomputable def f1_shownOf (D : cw_D) (x0 : Option Nat) : Option (Option Nat × cw_D × Nat × Nat) :=
  ww_b3 (fJ3_init (cw_nO D 4) D.2.2) (fun D_1 c_1 k_1 => ww_b x0 (fun a_2 => ww_b3 (f5r_shows (f8_shows 8) D_1 a_2 (some D.2.2)) (fun D_3 c_3 k_3 => ww_g (cw_kd D_3 [4] (some D.2.2)) (ww_b4 (fJ3_toString D_3 D.2.2) (fun r_5 D_5 c_5 k_5 => some (r_5, D_5, ((((0 + 1) + c_1) + c_3) + c_5), ((((0 + 4) + k_1) + k_3) + k_5)))))))
section C_1_shownOf_k
variable {p : Program} {l : Launch} {e : Env} {R : Room} {s : State} {m : MethodId} {args : Array Value} {below : List Frame} {meth : Method} {c : Code} {H : Heap} {locs : List Loc} {cells slots : Nat} {Q : State → Prop}
variable {cc : ByteArray} {pc : Nat} {ls : Array Slot} {rest : List Value} {nL : Nat} {E : cw_E} {A : Nat → Prop} {H0 : Heap}
theorem c1k_1_shownOf {D : cw_D} {x0 : Option Nat} {r : Option Nat} {D' : cw_D} {nc ns : Nat} (X : ww_C p m c cc nL s args RX1 lw_all) (hsz : ls.size = nL) (hK : cw_K E A s) (hR : cw_H E A D H) (hS : va_S A s.heap H locs) (hF : 17 ≤ R.frames) (hLo : 455 ≤ R.locals) (hc : cells + nc ≤ R.cells) (hs : slots + ns ≤ R.slots) (hM : cw_MetQ l yX1_shownOf cX1_shownOf 2 (some (Jvm.ClassFile.FieldType.object "java/lang/String")) 16 434 E A [va_rf x0] D D' r nc ns) (hrest : (rest.map fun v => v.category).sum ≤ 8) (hdg : decode cc pc = .ok (.invokestatic 475, 3)) (kk : ∀ (H1 : Heap) (locs1 : List Loc), cw_H E A D' H1 → va_S A s.heap H1 locs1 → W p l e R s m args below meth c H1 locs1 (cells + nc) (slots + ns) Q (F0 m (pc + 3) ls (va_rf r :: rest))) : W p l e R s m args below meth c H locs cells slots Q (F0 m pc ls (va_rf x0 :: rest)) :=
  va_callq (va_runS (As := [va_rf x0]) (rest := rest) X hM (va_cwS 1 X.2.2.2.2 (lw_S q1492 q1493 q131 q1494) rfl rfl rfl (by decide +kernel) ⟨hF, hLo⟩) (cw_pS hK hR hS) rfl rfl hsz rfl (lv_room hrest) hdg ⟨hc, hs⟩) hS (fun q _ h => h) (fun q h => h) (fun r' u t H1 locs1 ht hvm hw hB hz1 hk1 hS1 => by subst hw; rw [ht] at hB; exact kk H1 locs1 hB hS1)
end C_1_shownOf_k
set_option maxHeartbeats 4000000 in
set_option maxRecDepth 100000 in
theorem met1_shownOf (l : Launch) {E : cw_E} {A : Nat → Prop} (D : cw_D) (x0 : Option Nat) (r : Option Nat) (D' : cw_D) (nc ns : Nat) (hf : f1_shownOf D x0 = some (r, D', nc, ns)) : cw_MetQ l yX1_shownOf cX1_shownOf 2 (some (Jvm.ClassFile.FieldType.object "java/lang/String")) 16 434 E A [va_rf x0] D D' r nc ns := by
  unfold f1_shownOf at hf
  refine cw_sQN (own := RX1) (by decide +kernel) [(0, va_rf x0)] ⟨by cases x0 <;> exact Nat.le_of_ble_eq_true rfl, by cases x0 <;> rfl⟩ ?_
  intro p e s m args below meth c Rm Q X hK hF hLo hC hin hend ls hl hR hS
  obtain ⟨hx, hb, hml, hown, hts⟩ := id X
  have hm9 : 0 ≤ nc ∧ 0 ≤ ns := ⟨Nat.zero_le _, Nat.zero_le _⟩
  have hm9 : (0 + 1) ≤ nc ∧ (0 + 4) ≤ ns := by
    obtain ⟨D_1, c_1, k_1, h_1, hq⟩ := ww_b3S hf; replace hf := hq; clear hq
    obtain ⟨a_2, e_2, hq⟩ := ww_bS hf; replace hf := hq; clear hq
    subst e_2
    obtain ⟨D_3, c_3, k_3, h_3, hq⟩ := ww_b3S hf; replace hf := hq; clear hq
    obtain ⟨h_4, hq⟩ := ww_gS hf; replace hf := hq; clear hq
    obtain ⟨r_5, D_5, c_5, k_5, h_5, hq⟩ := ww_b4S hf; replace hf := hq; clear hq
    have e9 := hf
    simp only [Option.some.injEq, Prod.mk.injEq] at e9
    omega
  refine cw_onew (ci := 4) (C := RJ3) (T := TJ3) (N := 4) rfl (by decide) in_J3 tyJ3 tyJ3_ok rfl X hK hR hS q425 q426 q137 (Nat.le_trans hm9.1 hC.1) (Nat.le_trans hm9.2 hC.2) dX1_shownOf_0 (fun H hR hS => ?_)
  refine lv_dup hx hb dX1_shownOf_3 rfl ?_
  obtain ⟨D_1, c_1, k_1, h_1, hq⟩ := ww_b3S hf; replace hf := hq; clear hq
  have hm9 : ((0 + 1) + c_1) ≤ nc ∧ ((0 + 4) + k_1) ≤ ns := by
    obtain ⟨a_2, e_2, hq⟩ := ww_bS hf; replace hf := hq; clear hq
    subst e_2
    obtain ⟨D_3, c_3, k_3, h_3, hq⟩ := ww_b3S hf; replace hf := hq; clear hq
    obtain ⟨h_4, hq⟩ := ww_gS hf; replace hf := hq; clear hq
    obtain ⟨r_5, D_5, c_5, k_5, h_5, hq⟩ := ww_b4S hf; replace hf := hq; clear hq
    have e9 := hf
    simp only [Option.some.injEq, Prod.mk.injEq] at e9
    omega
  refine c1c_J3_init X hl.1 hK hR hS (Nat.le_trans (Nat.le_of_ble_eq_true rfl) hF) (Nat.le_trans (Nat.le_of_ble_eq_true rfl) hLo) (Nat.le_trans hm9.1 hC.1) (Nat.le_trans hm9.2 hC.2) h_1 (cw_rest (Nat.le_of_ble_eq_true rfl)) dX1_shownOf_4 (fun H locs hR hS => ?_)
  refine lv_astore_n (lv' := [(1, .ref D.2.2), (0, va_rf x0)]) hx hb dX1_shownOf_7 rfl hl (by decide) (by cases x0 <;> rfl) (fun ls hl => ?_)
  refine cw_aload_n (x := x0) hx hb dX1_shownOf_8 rfl (lv_at hl 1 rfl) ?_
  refine lv_aload_n hx hb dX1_shownOf_9 rfl (lv_at hl 0 rfl) ?_
  obtain ⟨a_2, e_2, hq⟩ := ww_bS hf; replace hf := hq; clear hq
  subst e_2
  obtain ⟨D_3, c_3, k_3, h_3, hq⟩ := ww_b3S hf; replace hf := hq; clear hq
  have hm9 : (((0 + 1) + c_1) + c_3) ≤ nc ∧ (((0 + 4) + k_1) + k_3) ≤ ns := by
    obtain ⟨h_4, hq⟩ := ww_gS hf; replace hf := hq; clear hq
    obtain ⟨r_5, D_5, c_5, k_5, h_5, hq⟩ := ww_b4S hf; replace hf := hq; clear hq
    have e9 := hf
    simp only [Option.some.injEq, Prod.mk.injEq] at e9
    omega
  refine c1i_shows (x1 := (some D.2.2)) X hl.1 hK hR hS (Nat.le_trans (Nat.le_of_ble_eq_true rfl) hF) (Nat.le_trans (Nat.le_of_ble_eq_true rfl) hLo) (Nat.le_trans hm9.1 hC.1) (Nat.le_trans hm9.2 hC.2) h_3 (cw_rest (Nat.le_of_ble_eq_true rfl)) dX1_shownOf_10 (fun H locs hR hS => ?_)
  refine lv_aload_n hx hb dX1_shownOf_15 rfl (lv_at hl 0 rfl) ?_
  obtain ⟨h_4, hq⟩ := ww_gS hf; replace hf := hq; clear hq
  obtain ⟨r_5, D_5, c_5, k_5, h_5, hq⟩ := ww_b4S hf; replace hf := hq; clear hq
  have hm9 : ((((0 + 1) + c_1) + c_3) + c_5) ≤ nc ∧ ((((0 + 4) + k_1) + k_3) + k_5) ≤ ns := by
    have e9 := hf
    simp only [Option.some.injEq, Prod.mk.injEq] at e9
    omega
  refine c1c_J3_toString X hl.1 hK hR hS (Nat.le_trans (Nat.le_of_ble_eq_true rfl) hF) (Nat.le_trans (Nat.le_of_ble_eq_true rfl) hLo) (Nat.le_trans hm9.1 hC.1) (Nat.le_trans hm9.2 hC.2) h_4 h_5 (cw_rest (Nat.le_of_ble_eq_true rfl)) dX1_shownOf_16 (fun H locs hR hS => ?_)
  exact hend (v := r_5) dX1_shownOf_19 rfl (Or.inl ⟨_, rfl⟩) hf hR hS
section C_1_shownOf_c
variable {p : Program} {l : Launch} {e : Env} {R : Room} {s : State} {m : MethodId} {args : Array Value} {below : List Frame} {meth : Method} {c : Code} {H : Heap} {locs : List Loc} {cells slots : Nat} {Q : State → Prop}
variable {cc : ByteArray} {pc : Nat} {ls : Array Slot} {rest : List Value} {nL : Nat} {E : cw_E} {A : Nat → Prop} {H0 : Heap}
theorem c1c_1_shownOf {D : cw_D} {x0 : Option Nat} {r : Option Nat} {D' : cw_D} {nc ns : Nat} (X : ww_C p m c cc nL s args RX1 lw_all) (hsz : ls.size = nL) (hK : cw_K E A s) (hR : cw_H E A D H) (hS : va_S A s.heap H locs) (hF : 17 ≤ R.frames) (hLo : 455 ≤ R.locals) (hc : cells + nc ≤ R.cells) (hs : slots + ns ≤ R.slots) (hf : f1_shownOf D x0 = some (r, D', nc, ns)) (hrest : (rest.map fun v => v.category).sum ≤ 8) (hdg : decode cc pc = .ok (.invokestatic 475, 3)) (kk : ∀ (H1 : Heap) (locs1 : List Loc), cw_H E A D' H1 → va_S A s.heap H1 locs1 → W p l e R s m args below meth c H1 locs1 (cells + nc) (slots + ns) Q (F0 m (pc + 3) ls (va_rf r :: rest))) : W p l e R s m args below meth c H locs cells slots Q (F0 m pc ls (va_rf x0 :: rest)) :=
  c1k_1_shownOf X hsz hK hR hS hF hLo hc hs (met1_shownOf l _ _ _ _ _ _ hf) hrest hdg kk
end C_1_shownOf_c
noncomputable def f1_alike (D : cw_D) (x1 : Int32) (x2 : Int32) (x3 : Int32) : Option (Int32 × cw_D × Nat × Nat) :=
  ww_b (f1_areMaps D x1 x2) (fun r_1 => if r_1 = 0 then some ((-1 : Int32), D, 0, 0) else ww_b (f1_in x3 (0 : Int32) (1 : Int32)) (fun r_3 => if r_3 = 0 then some ((-1 : Int32), D, 0, 0) else if x3 = 0 then ww_b (f1_difference D x1 x2 (-1 : Int32) (0 : Int32)) (fun r_14 => if r_14 = 0 then if (1 : Int32) = 0 then some ((0 : Int32), D, 0, 0) else some ((1 : Int32), D, 0, 0) else if (0 : Int32) = 0 then some ((0 : Int32), D, 0, 0) else some ((1 : Int32), D, 0, 0)) else ww_b (f1_rootOf D x1) (fun r_6 => ww_b4 (f1_shownOf D r_6) (fun r_7 D_7 c_7 k_7 => ww_b (f1_rootOf D_7 x2) (fun r_8 => ww_b4 (f1_shownOf D_7 r_8) (fun r_9 D_9 c_9 k_9 => ww_b r_7 (fun a_10 => ww_g (cw_kd D_9 [3] (some a_10)) (ww_b (fJ4_equals D_9 a_10 r_9) (fun r_12 => if r_12 = 0 then some ((0 : Int32), D_9, ((0 + c_7) + c_9), ((0 + k_7) + k_9)) else some ((1 : Int32), D_9, ((0 + c_7) + c_9), ((0 + k_7) + k_9)))))))))))
set_option maxHeartbeats 4000000 in
set_option maxRecDepth 100000 in
theorem met1_alike (l : Launch) {E : cw_E} {A : Nat → Prop} (D : cw_D) (x1 : Int32) (x2 : Int32) (x3 : Int32) (r : Int32) (D' : cw_D) (nc ns : Nat) (hf : f1_alike D x1 x2 x3 = some (r, D', nc, ns)) : cw_MetI l yX1_alike cX1_alike 5 (some Jvm.ClassFile.FieldType.int) 17 455 E A [.ref E.1.1, .int x1, .int x2, .int x3] D D' r nc ns := by
  unfold f1_alike at hf
  refine cw_sIN (own := RX1) (by decide +kernel) [(0, .ref E.1.1), (1, .int x1), (2, .int x2), (3, .int x3)] ⟨Nat.le_of_ble_eq_true rfl, rfl⟩ ?_
  intro p e s m args below meth c Rm Q X hK hF hLo hC hin hend ls hl hR hS
  obtain ⟨hx, hb, hml, hown, hts⟩ := id X
  have hm9 : 0 ≤ nc ∧ 0 ≤ ns := ⟨Nat.zero_le _, Nat.zero_le _⟩
  refine lv_aload_n hx hb dX1_alike_0 rfl (lv_at hl 0 rfl) ?_
  refine lv_iload_n hx hb dX1_alike_1 rfl (lv_at hl 1 rfl) ?_
  refine lv_iload_n hx hb dX1_alike_2 rfl (lv_at hl 2 rfl) ?_
  obtain ⟨r_1, h_1, hq⟩ := ww_bS hf; replace hf := hq; clear hq
  refine c1c_1_areMaps X hl.1 hK hR hS (Nat.le_trans (Nat.le_of_ble_eq_true rfl) hF) (Nat.le_trans (Nat.le_of_ble_eq_true rfl) hLo) (Nat.le_trans hm9.1 hC.1) (Nat.le_trans hm9.2 hC.2) h_1 (cw_rest (Nat.le_of_ble_eq_true rfl)) dX1_alike_3 (fun H locs hR hS => ?_)
  refine lv_if_eq (tgt := 18) hx hb dX1_alike_6 (by decide) (fun c_2 => ?_) (fun c_2 => ?_)
  · replace hf := ww_ip hf c_2
    refine lv_iconst (v := (-1 : Int32)) hx hb dX1_alike_18 (by decide) ?_
    exact hend dX1_alike_19 rfl rfl hf hR hS
  · replace hf := ww_in hf c_2
    refine lv_iload_n hx hb dX1_alike_9 rfl (lv_at hl 3 rfl) ?_
    refine lv_iconst (v := (0 : Int32)) hx hb dX1_alike_10 (by decide) ?_
    refine lv_iconst (v := (1 : Int32)) hx hb dX1_alike_11 (by decide) ?_
    obtain ⟨r_3, h_3, hq⟩ := ww_bS hf; replace hf := hq; clear hq
    refine c1c_1_in X hl.1 (Nat.le_trans (Nat.le_of_ble_eq_true rfl) hF) (Nat.le_trans (Nat.le_of_ble_eq_true rfl) hLo) (Nat.le_trans hm9.1 hC.1) (Nat.le_trans hm9.2 hC.2) h_3 (cw_rest (Nat.le_of_ble_eq_true rfl)) dX1_alike_12 ?_
    refine lv_if_ne (tgt := 20) hx hb dX1_alike_15 (by decide) (fun c_4 => ?_) (fun c_4 => ?_)
    · replace hf := ww_in hf c_4
      refine lv_iload_n hx hb dX1_alike_20 rfl (lv_at hl 3 rfl) ?_
      refine lv_if_ne (tgt := 43) hx hb dX1_alike_21 (by decide) (fun c_5 => ?_) (fun c_5 => ?_)
      · replace hf := ww_in hf c_5
        refine lv_aload_n hx hb dX1_alike_43 rfl (lv_at hl 0 rfl) ?_
        refine lv_iload_n hx hb dX1_alike_44 rfl (lv_at hl 1 rfl) ?_
        obtain ⟨r_6, h_6, hq⟩ := ww_bS hf; replace hf := hq; clear hq
        refine c1c_1_rootOf X hl.1 hK hR hS (Nat.le_trans (Nat.le_of_ble_eq_true rfl) hF) (Nat.le_trans (Nat.le_of_ble_eq_true rfl) hLo) (Nat.le_trans hm9.1 hC.1) (Nat.le_trans hm9.2 hC.2) h_6 (cw_rest (Nat.le_of_ble_eq_true rfl)) dX1_alike_45 (fun H locs hR hS => ?_)
        obtain ⟨r_7, D_7, c_7, k_7, h_7, hq⟩ := ww_b4S hf; replace hf := hq; clear hq
        have hm9 : (0 + c_7) ≤ nc ∧ (0 + k_7) ≤ ns := by
          obtain ⟨r_8, h_8, hq⟩ := ww_bS hf; replace hf := hq; clear hq
          obtain ⟨r_9, D_9, c_9, k_9, h_9, hq⟩ := ww_b4S hf; replace hf := hq; clear hq
          obtain ⟨a_10, e_10, hq⟩ := ww_bS hf; replace hf := hq; clear hq
          subst e_10
          obtain ⟨h_11, hq⟩ := ww_gS hf; replace hf := hq; clear hq
          obtain ⟨r_12, h_12, hq⟩ := ww_bS hf; replace hf := hq; clear hq
          refine ww_by (r_12 = 0) (fun c_13 => ?_) (fun c_13 => ?_)
          · replace hf := ww_ip hf c_13
            have e9 := hf
            simp only [Option.some.injEq, Prod.mk.injEq] at e9
            omega
          · replace hf := ww_in hf c_13
            have e9 := hf
            simp only [Option.some.injEq, Prod.mk.injEq] at e9
            omega
        refine c1c_1_shownOf (x0 := r_6) X hl.1 hK hR hS (Nat.le_trans (Nat.le_of_ble_eq_true rfl) hF) (Nat.le_trans (Nat.le_of_ble_eq_true rfl) hLo) (Nat.le_trans hm9.1 hC.1) (Nat.le_trans hm9.2 hC.2) h_7 (cw_rest (Nat.le_of_ble_eq_true rfl)) dX1_alike_48 (fun H locs hR hS => ?_)
        refine lv_aload_n hx hb dX1_alike_51 rfl (lv_at hl 0 rfl) ?_
        refine lv_iload_n hx hb dX1_alike_52 rfl (lv_at hl 2 rfl) ?_
        obtain ⟨r_8, h_8, hq⟩ := ww_bS hf; replace hf := hq; clear hq
        refine c1c_1_rootOf X hl.1 hK hR hS (Nat.le_trans (Nat.le_of_ble_eq_true rfl) hF) (Nat.le_trans (Nat.le_of_ble_eq_true rfl) hLo) (Nat.le_trans hm9.1 hC.1) (Nat.le_trans hm9.2 hC.2) h_8 (cw_rest (Nat.le_of_ble_eq_true rfl)) dX1_alike_53 (fun H locs hR hS => ?_)
        obtain ⟨r_9, D_9, c_9, k_9, h_9, hq⟩ := ww_b4S hf; replace hf := hq; clear hq
        have hm9 : ((0 + c_7) + c_9) ≤ nc ∧ ((0 + k_7) + k_9) ≤ ns := by
          obtain ⟨a_10, e_10, hq⟩ := ww_bS hf; replace hf := hq; clear hq
          subst e_10
          obtain ⟨h_11, hq⟩ := ww_gS hf; replace hf := hq; clear hq
          obtain ⟨r_12, h_12, hq⟩ := ww_bS hf; replace hf := hq; clear hq
          refine ww_by (r_12 = 0) (fun c_13 => ?_) (fun c_13 => ?_)
          · replace hf := ww_ip hf c_13
            have e9 := hf
            simp only [Option.some.injEq, Prod.mk.injEq] at e9
            omega
          · replace hf := ww_in hf c_13
            have e9 := hf
            simp only [Option.some.injEq, Prod.mk.injEq] at e9
            omega
        refine c1c_1_shownOf (x0 := r_8) X hl.1 hK hR hS (Nat.le_trans (Nat.le_of_ble_eq_true rfl) hF) (Nat.le_trans (Nat.le_of_ble_eq_true rfl) hLo) (Nat.le_trans hm9.1 hC.1) (Nat.le_trans hm9.2 hC.2) h_9 (cw_rest (Nat.le_of_ble_eq_true rfl)) dX1_alike_56 (fun H locs hR hS => ?_)
        obtain ⟨a_10, e_10, hq⟩ := ww_bS hf; replace hf := hq; clear hq
        subst e_10
        obtain ⟨h_11, hq⟩ := ww_gS hf; replace hf := hq; clear hq
        obtain ⟨r_12, h_12, hq⟩ := ww_bS hf; replace hf := hq; clear hq
        refine c1c_J4_equals (x1 := r_9) X hl.1 hK hR hS (Nat.le_trans (Nat.le_of_ble_eq_true rfl) hF) (Nat.le_trans (Nat.le_of_ble_eq_true rfl) hLo) (Nat.le_trans hm9.1 hC.1) (Nat.le_trans hm9.2 hC.2) h_11 h_12 (cw_rest (Nat.le_of_ble_eq_true rfl)) dX1_alike_59 (fun H locs hR hS => ?_)
        refine lv_istore (lv' := [(4, .int r_12), (0, .ref E.1.1), (1, .int x1), (2, .int x2), (3, .int x3)]) hx hb dX1_alike_62 hl (by decide) rfl (fun ls hl => ?_)
        refine lv_iload hx hb dX1_alike_64 (lv_at hl 0 rfl) ?_
        refine lv_if_eq (tgt := 73) hx hb dX1_alike_66 (by decide) (fun c_13 => ?_) (fun c_13 => ?_)
        · replace hf := ww_ip hf c_13
          refine lv_iconst (v := (0 : Int32)) hx hb dX1_alike_73 (by decide) ?_
          exact hend dX1_alike_74 rfl rfl hf hR hS
        · replace hf := ww_in hf c_13
          refine lv_iconst (v := (1 : Int32)) hx hb dX1_alike_69 (by decide) ?_
          refine lv_goto (tgt := 74) hx hb dX1_alike_70 (by decide) ?_
          exact hend dX1_alike_74 rfl rfl hf hR hS
      · replace hf := ww_ip hf c_5
        refine lv_aload_n hx hb dX1_alike_24 rfl (lv_at hl 0 rfl) ?_
        refine lv_iload_n hx hb dX1_alike_25 rfl (lv_at hl 1 rfl) ?_
        refine lv_iload_n hx hb dX1_alike_26 rfl (lv_at hl 2 rfl) ?_
        refine lv_iconst (v := (-1 : Int32)) hx hb dX1_alike_27 (by decide) ?_
        refine lv_iconst (v := (0 : Int32)) hx hb dX1_alike_28 (by decide) ?_
        obtain ⟨r_14, h_14, hq⟩ := ww_bS hf; replace hf := hq; clear hq
        refine c1c_1_difference X hl.1 hK hR hS (Nat.le_trans (Nat.le_of_ble_eq_true rfl) hF) (Nat.le_trans (Nat.le_of_ble_eq_true rfl) hLo) (Nat.le_trans hm9.1 hC.1) (Nat.le_trans hm9.2 hC.2) h_14 (cw_rest (Nat.le_of_ble_eq_true rfl)) dX1_alike_29 (fun H locs hR hS => ?_)
        refine lv_if_ne (tgt := 39) hx hb dX1_alike_32 (by decide) (fun c_15 => ?_) (fun c_15 => ?_)
        · replace hf := ww_in hf c_15
          refine lv_iconst (v := (0 : Int32)) hx hb dX1_alike_39 (by decide) ?_
          refine lv_goto (tgt := 62) hx hb dX1_alike_40 (by decide) ?_
          refine lv_istore (lv' := [(4, .int (0 : Int32)), (0, .ref E.1.1), (1, .int x1), (2, .int x2), (3, .int x3)]) hx hb dX1_alike_62 hl (by decide) rfl (fun ls hl => ?_)
          refine lv_iload hx hb dX1_alike_64 (lv_at hl 0 rfl) ?_
          refine lv_if_eq (tgt := 73) hx hb dX1_alike_66 (by decide) (fun c_16 => ?_) (fun c_16 => ?_)
          · replace hf := ww_ip hf c_16
            refine lv_iconst (v := (0 : Int32)) hx hb dX1_alike_73 (by decide) ?_
            exact hend dX1_alike_74 rfl rfl hf hR hS
          · replace hf := ww_in hf c_16
            refine lv_iconst (v := (1 : Int32)) hx hb dX1_alike_69 (by decide) ?_
            refine lv_goto (tgt := 74) hx hb dX1_alike_70 (by decide) ?_
            exact hend dX1_alike_74 rfl rfl hf hR hS
        · replace hf := ww_ip hf c_15
          refine lv_iconst (v := (1 : Int32)) hx hb dX1_alike_35 (by decide) ?_
          refine lv_goto (tgt := 62) hx hb dX1_alike_36 (by decide) ?_
          refine lv_istore (lv' := [(4, .int (1 : Int32)), (0, .ref E.1.1), (1, .int x1), (2, .int x2), (3, .int x3)]) hx hb dX1_alike_62 hl (by decide) rfl (fun ls hl => ?_)
          refine lv_iload hx hb dX1_alike_64 (lv_at hl 0 rfl) ?_
          refine lv_if_eq (tgt := 73) hx hb dX1_alike_66 (by decide) (fun c_17 => ?_) (fun c_17 => ?_)
          · replace hf := ww_ip hf c_17
            refine lv_iconst (v := (0 : Int32)) hx hb dX1_alike_73 (by decide) ?_
            exact hend dX1_alike_74 rfl rfl hf hR hS
          · replace hf := ww_in hf c_17
            refine lv_iconst (v := (1 : Int32)) hx hb dX1_alike_69 (by decide) ?_
            refine lv_goto (tgt := 74) hx hb dX1_alike_70 (by decide) ?_
            exact hend dX1_alike_74 rfl rfl hf hR hS
    · replace hf := ww_ip hf c_4
      refine lv_iconst (v := (-1 : Int32)) hx hb dX1_alike_18 (by decide) ?_
      exact hend dX1_alike_19 rfl rfl hf hR hS
noncomputable def f1_show (D : cw_D) (x1 : Int32) : Option (Int32 × cw_D × Nat × Nat) :=
  ww_b (f1_isMap D x1) (fun r_1 => if r_1 = 0 then some ((-1 : Int32), D, 0, 0) else ww_b (f1_rootOf D x1) (fun r_3 => ww_b4 (f1_shownOf D r_3) (fun r_4 D_4 c_4 k_4 => ww_b (some (ww_R (cw_sR D_4 37 r_4).1 37)) (fun r_5 => ww_b r_5 (fun a_6 => ww_g (cw_kd (cw_sR D_4 37 r_4) [3] (some a_6)) (ww_b (fJ4_length (cw_sR D_4 37 r_4) a_6) (fun r_8 => some (r_8, (cw_sR D_4 37 r_4), (0 + c_4), (0 + k_4)))))))))
set_option maxHeartbeats 4000000 in
set_option maxRecDepth 100000 in
theorem met1_show (l : Launch) {E : cw_E} {A : Nat → Prop} (D : cw_D) (x1 : Int32) (r : Int32) (D' : cw_D) (nc ns : Nat) (hf : f1_show D x1 = some (r, D', nc, ns)) : cw_MetI l yX1_show cX1_show 2 (some Jvm.ClassFile.FieldType.int) 17 455 E A [.ref E.1.1, .int x1] D D' r nc ns := by
  unfold f1_show at hf
  refine cw_sIN (own := RX1) (by decide +kernel) [(0, .ref E.1.1), (1, .int x1)] ⟨Nat.le_of_ble_eq_true rfl, rfl⟩ ?_
  intro p e s m args below meth c Rm Q X hK hF hLo hC hin hend ls hl hR hS
  obtain ⟨hx, hb, hml, hown, hts⟩ := id X
  have hm9 : 0 ≤ nc ∧ 0 ≤ ns := ⟨Nat.zero_le _, Nat.zero_le _⟩
  refine lv_aload_n hx hb dX1_show_0 rfl (lv_at hl 0 rfl) ?_
  refine lv_iload_n hx hb dX1_show_1 rfl (lv_at hl 1 rfl) ?_
  obtain ⟨r_1, h_1, hq⟩ := ww_bS hf; replace hf := hq; clear hq
  refine c1c_1_isMap X hl.1 hK hR hS (Nat.le_trans (Nat.le_of_ble_eq_true rfl) hF) (Nat.le_trans (Nat.le_of_ble_eq_true rfl) hLo) (Nat.le_trans hm9.1 hC.1) (Nat.le_trans hm9.2 hC.2) h_1 (cw_rest (Nat.le_of_ble_eq_true rfl)) dX1_show_2 (fun H locs hR hS => ?_)
  refine lv_if_ne (tgt := 10) hx hb dX1_show_5 (by decide) (fun c_2 => ?_) (fun c_2 => ?_)
  · replace hf := ww_in hf c_2
    refine lv_aload_n hx hb dX1_show_10 rfl (lv_at hl 0 rfl) ?_
    refine lv_aload_n hx hb dX1_show_11 rfl (lv_at hl 0 rfl) ?_
    refine lv_iload_n hx hb dX1_show_12 rfl (lv_at hl 1 rfl) ?_
    obtain ⟨r_3, h_3, hq⟩ := ww_bS hf; replace hf := hq; clear hq
    refine c1c_1_rootOf X hl.1 hK hR hS (Nat.le_trans (Nat.le_of_ble_eq_true rfl) hF) (Nat.le_trans (Nat.le_of_ble_eq_true rfl) hLo) (Nat.le_trans hm9.1 hC.1) (Nat.le_trans hm9.2 hC.2) h_3 (cw_rest (Nat.le_of_ble_eq_true rfl)) dX1_show_13 (fun H locs hR hS => ?_)
    obtain ⟨r_4, D_4, c_4, k_4, h_4, hq⟩ := ww_b4S hf; replace hf := hq; clear hq
    have hm9 : (0 + c_4) ≤ nc ∧ (0 + k_4) ≤ ns := by
      obtain ⟨r_5, h_5, hq⟩ := ww_bS hf; replace hf := hq; clear hq
      obtain ⟨a_6, e_6, hq⟩ := ww_bS hf; replace hf := hq; clear hq
      subst e_6
      obtain ⟨h_7, hq⟩ := ww_gS hf; replace hf := hq; clear hq
      obtain ⟨r_8, h_8, hq⟩ := ww_bS hf; replace hf := hq; clear hq
      have e9 := hf
      simp only [Option.some.injEq, Prod.mk.injEq] at e9
      omega
    refine c1c_1_shownOf (x0 := r_3) X hl.1 hK hR hS (Nat.le_trans (Nat.le_of_ble_eq_true rfl) hF) (Nat.le_trans (Nat.le_of_ble_eq_true rfl) hLo) (Nat.le_trans hm9.1 hC.1) (Nat.le_trans hm9.2 hC.2) h_4 (cw_rest (Nat.le_of_ble_eq_true rfl)) dX1_show_16 (fun H locs hR hS => ?_)
    refine c1p_112 (v := r_4) X hK hR hS dX1_show_19 (fun H locs hR hS => ?_)
    refine lv_aload_n hx hb dX1_show_22 rfl (lv_at hl 0 rfl) ?_
    obtain ⟨r_5, h_5, hq⟩ := ww_bS hf; replace hf := hq; clear hq
    refine c1g_112 X hK hR h_5 dX1_show_23 ?_
    obtain ⟨a_6, e_6, hq⟩ := ww_bS hf; replace hf := hq; clear hq
    subst e_6
    obtain ⟨h_7, hq⟩ := ww_gS hf; replace hf := hq; clear hq
    obtain ⟨r_8, h_8, hq⟩ := ww_bS hf; replace hf := hq; clear hq
    refine c1f_J4_length X hl.1 hK hR hS (Nat.le_trans (Nat.le_of_ble_eq_true rfl) hF) (Nat.le_trans (Nat.le_of_ble_eq_true rfl) hLo) (Nat.le_trans hm9.1 hC.1) (Nat.le_trans hm9.2 hC.2) h_7 h_8 (cw_rest (Nat.le_of_ble_eq_true rfl)) dX1_show_26 (fun H locs hR hS => ?_)
    exact hend dX1_show_31 rfl rfl hf hR hS
  · replace hf := ww_ip hf c_2
    refine lv_iconst (v := (-1 : Int32)) hx hb dX1_show_8 (by decide) ?_
    exact hend dX1_show_9 rfl rfl hf hR hS
noncomputable def f1_shown (D : cw_D) (x1 : Int32) : Option (Int32 × cw_D) :=
  ww_b (some (ww_R D.1 37)) (fun r_1 => ww_b r_1 (fun a_2 => ww_g (cw_kd D [3] (some a_2)) (ww_b (fJ4_length D a_2) (fun r_4 => ww_b (f1_in x1 (0 : Int32) (r_4 - (1 : Int32))) (fun r_5 => if r_5 = 0 then some ((-1 : Int32), D) else ww_b (some (ww_R D.1 37)) (fun r_7 => ww_b r_7 (fun a_8 => ww_g (cw_kd D [3] (some a_8)) (ww_b2 (fJ4_charAt D a_8 x1) (fun r_10 D_10 => some (r_10, D_10))))))))))
set_option maxHeartbeats 4000000 in
set_option maxRecDepth 100000 in
theorem met1_shown (l : Launch) {E : cw_E} {A : Nat → Prop} (D : cw_D) (x1 : Int32) (r : Int32) (D' : cw_D) (hf : f1_shown D x1 = some (r, D')) : cw_MetI l yX1_shown cX1_shown 2 (some Jvm.ClassFile.FieldType.int) 4 85 E A [.ref E.1.1, .int x1] D D' r 0 0 := by
  unfold f1_shown at hf
  refine cw_sID (own := RX1) (by decide +kernel) [(0, .ref E.1.1), (1, .int x1)] ⟨Nat.le_of_ble_eq_true rfl, rfl⟩ ?_
  intro p e s m args below meth c Rm Q X hK hF hLo hin hend ls hl hR hS
  obtain ⟨hx, hb, hml, hown, hts⟩ := id X
  refine lv_iload_n hx hb dX1_shown_0 rfl (lv_at hl 1 rfl) ?_
  refine lv_iconst (v := (0 : Int32)) hx hb dX1_shown_1 (by decide) ?_
  refine lv_aload_n hx hb dX1_shown_2 rfl (lv_at hl 0 rfl) ?_
  obtain ⟨r_1, h_1, hq⟩ := ww_bS hf; replace hf := hq; clear hq
  refine c1g_112 X hK hR h_1 dX1_shown_3 ?_
  obtain ⟨a_2, e_2, hq⟩ := ww_bS hf; replace hf := hq; clear hq
  subst e_2
  obtain ⟨h_3, hq⟩ := ww_gS hf; replace hf := hq; clear hq
  obtain ⟨r_4, h_4, hq⟩ := ww_bS hf; replace hf := hq; clear hq
  refine c1f_J4_length X hl.1 hK hR hS (Nat.le_trans (Nat.le_of_ble_eq_true rfl) hF) (Nat.le_trans (Nat.le_of_ble_eq_true rfl) hLo) (Nat.zero_le _) (Nat.zero_le _) h_3 h_4 (cw_rest (Nat.le_of_ble_eq_true rfl)) dX1_shown_6 (fun H locs hR hS => ?_)
  refine lv_iconst (v := (1 : Int32)) hx hb dX1_shown_11 (by decide) ?_
  refine lv_isub hx hb dX1_shown_12 ?_
  obtain ⟨r_5, h_5, hq⟩ := ww_bS hf; replace hf := hq; clear hq
  refine c1c_1_in X hl.1 (Nat.le_trans (Nat.le_of_ble_eq_true rfl) hF) (Nat.le_trans (Nat.le_of_ble_eq_true rfl) hLo) (Nat.zero_le _) (Nat.zero_le _) h_5 (cw_rest (Nat.le_of_ble_eq_true rfl)) dX1_shown_13 ?_
  refine lv_if_eq (tgt := 32) hx hb dX1_shown_16 (by decide) (fun c_6 => ?_) (fun c_6 => ?_)
  · replace hf := ww_ip hf c_6
    refine lv_iconst (v := (-1 : Int32)) hx hb dX1_shown_32 (by decide) ?_
    exact hend dX1_shown_33 rfl rfl hf hR hS
  · replace hf := ww_in hf c_6
    refine lv_aload_n hx hb dX1_shown_19 rfl (lv_at hl 0 rfl) ?_
    obtain ⟨r_7, h_7, hq⟩ := ww_bS hf; replace hf := hq; clear hq
    refine c1g_112 X hK hR h_7 dX1_shown_20 ?_
    refine lv_iload_n hx hb dX1_shown_23 rfl (lv_at hl 1 rfl) ?_
    obtain ⟨a_8, e_8, hq⟩ := ww_bS hf; replace hf := hq; clear hq
    subst e_8
    obtain ⟨h_9, hq⟩ := ww_gS hf; replace hf := hq; clear hq
    obtain ⟨r_10, D_10, h_10, hq⟩ := ww_b2S hf; replace hf := hq; clear hq
    refine c1f_J4_charAt X hl.1 hK hR hS (Nat.le_trans (Nat.le_of_ble_eq_true rfl) hF) (Nat.le_trans (Nat.le_of_ble_eq_true rfl) hLo) (Nat.zero_le _) (Nat.zero_le _) h_9 h_10 (cw_rest (Nat.le_of_ble_eq_true rfl)) dX1_shown_24 (fun H locs hR hS => ?_)
    refine lv_goto (tgt := 33) hx hb dX1_shown_29 (by decide) ?_
    exact hend dX1_shown_33 rfl rfl hf hR hS
noncomputable def f1_digestOf_b1c (y0 : Option Nat) (D_1 : cw_D) (x1 : Int32) (x2 : Int32) : Option ((cw_D × Int32 × Int32) ⊕ (Int32 × cw_D)) :=
  ww_b y0 (fun a_2 => ww_g (cw_kd D_1 [3] (some a_2)) (ww_b (fJ4_length D_1 a_2) (fun r_4 => if r_4 ≤ x2 then ww_x (some (x1, D_1)) else ww_g (cw_kd D_1 [3] (some a_2)) (ww_b2 (fJ4_charAt D_1 a_2 x2) (fun r_7 D_7 => some (.inl (D_7, ((((31 : Int32) * x1) + r_7) - (((31 : Int32) * x1) + r_7) / (1000003 : Int32) * (1000003 : Int32)), (x2 + (1 : Int32)))))))))
noncomputable def f1_digestOf_b1 (y0 : Option Nat) : (cw_D × Int32 × Int32) → Option ((cw_D × Int32 × Int32) ⊕ (Int32 × cw_D)) := fun s9 => f1_digestOf_b1c y0 s9.1 s9.2.1 s9.2.2
noncomputable def f1_digestOf (D : cw_D) (x0 : Option Nat) : Option (Int32 × cw_D) :=
  ww_U (f1_digestOf_b1 x0) (D, (0 : Int32), (0 : Int32))
section C_1_digestOf_k
variable {p : Program} {l : Launch} {e : Env} {R : Room} {s : State} {m : MethodId} {args : Array Value} {below : List Frame} {meth : Method} {c : Code} {H : Heap} {locs : List Loc} {cells slots : Nat} {Q : State → Prop}
variable {cc : ByteArray} {pc : Nat} {ls : Array Slot} {rest : List Value} {nL : Nat} {E : cw_E} {A : Nat → Prop} {H0 : Heap}
theorem c1k_1_digestOf {D : cw_D} {x0 : Option Nat} {r : Int32} {D' : cw_D} (X : ww_C p m c cc nL s args RX1 lw_all) (hsz : ls.size = nL) (hK : cw_K E A s) (hR : cw_H E A D H) (hS : va_S A s.heap H locs) (hF : 5 ≤ R.frames) (hLo : 107 ≤ R.locals) (hc : cells ≤ R.cells) (hs : slots ≤ R.slots) (hM : cw_MetI l yX1_digestOf cX1_digestOf 3 (some Jvm.ClassFile.FieldType.int) 4 85 E A [va_rf x0] D D' r 0 0) (hrest : (rest.map fun v => v.category).sum ≤ 8) (hdg : decode cc pc = .ok (.invokestatic 493, 3)) (kk : ∀ (H1 : Heap) (locs1 : List Loc), cw_H E A D' H1 → va_S A s.heap H1 locs1 → W p l e R s m args below meth c H1 locs1 cells slots Q (F0 m (pc + 3) ls (.int r :: rest))) : W p l e R s m args below meth c H locs cells slots Q (F0 m pc ls (va_rf x0 :: rest)) :=
  va_calli (va_runS (As := [va_rf x0]) (rest := rest) X hM (va_cwS 1 X.2.2.2.2 (lw_S q1642 q1643 q131 q1644) rfl rfl rfl (by decide +kernel) ⟨hF, hLo⟩) (cw_pS hK hR hS) rfl rfl hsz rfl (lv_room hrest) hdg ⟨hc, hs⟩) hS (fun q _ h => h) (fun q h => h) (fun r' u t H1 locs1 ht hvm hw hB hz1 hk1 hS1 => by subst hw; rw [ht] at hB; exact kk H1 locs1 hB hS1)
end C_1_digestOf_k
set_option maxHeartbeats 4000000 in
set_option maxRecDepth 100000 in
theorem met1_digestOf (l : Launch) {E : cw_E} {A : Nat → Prop} (D : cw_D) (x0 : Option Nat) (r : Int32) (D' : cw_D) (hf : f1_digestOf D x0 = some (r, D')) : cw_MetI l yX1_digestOf cX1_digestOf 3 (some Jvm.ClassFile.FieldType.int) 4 85 E A [va_rf x0] D D' r 0 0 := by
  unfold f1_digestOf at hf
  refine cw_sID (own := RX1) (by decide +kernel) [(0, va_rf x0)] ⟨by cases x0 <;> exact Nat.le_of_ble_eq_true rfl, by cases x0 <;> rfl⟩ ?_
  intro p e s m args below meth c Rm Q X hK hF hLo hin hend ls hl hR hS
  obtain ⟨hx, hb, hml, hown, hts⟩ := id X
  refine lv_iconst (v := (0 : Int32)) hx hb dX1_digestOf_0 (by decide) ?_
  refine lv_istore_n (lv' := [(1, .int (0 : Int32)), (0, va_rf x0)]) hx hb dX1_digestOf_1 rfl hl (by decide) (by cases x0 <;> rfl) (fun ls hl => ?_)
  refine lv_iconst (v := (0 : Int32)) hx hb dX1_digestOf_2 (by decide) ?_
  refine lv_istore_n (lv' := [(2, .int (0 : Int32)), (1, .int (0 : Int32)), (0, va_rf x0)]) hx hb dX1_digestOf_3 rfl hl (by decide) rfl (fun ls hl => ?_)
  have hL_1 : ∀ s9 : cw_D × Int32 × Int32, ww_U (f1_digestOf_b1 x0) s9 = some (r, D') → ∀ (H : Heap) (locs : List Loc) (ls : Array Slot), cw_H E A s9.1 H → va_S A s.heap H locs → lv_has ls 3 [(0, va_rf x0), (1, .int s9.2.1), (2, .int s9.2.2)] → W p l e Rm s m args below meth c H locs 0 0 Q (F0 m 4 ls []) := by
    clear hf
    refine ww_ind _ (r, D') ?_
    intro s9 z_1 hf hz_1
    obtain ⟨D_1, x1, x2⟩ := s9
    replace hf : f1_digestOf_b1c x0 D_1 x1 x2 = some z_1 := hf
    unfold f1_digestOf_b1c at hf
    try clear hl
    try clear hS
    try clear hR
    intro H locs ls hR hS hl
    replace hR : cw_H E A D_1 H := hR
    replace hl : lv_has ls 3 [(0, va_rf x0), (1, .int x1), (2, .int x2)] := hl
    refine lv_iload_n hx hb dX1_digestOf_4 rfl (lv_at hl 2 rfl) ?_
    refine cw_aload_n (x := x0) hx hb dX1_digestOf_5 rfl (lv_at hl 0 rfl) ?_
    obtain ⟨a_2, e_2, hq⟩ := ww_bS hf; replace hf := hq; clear hq
    subst e_2
    obtain ⟨h_3, hq⟩ := ww_gS hf; replace hf := hq; clear hq
    obtain ⟨r_4, h_4, hq⟩ := ww_bS hf; replace hf := hq; clear hq
    refine c1f_J4_length X hl.1 hK hR hS (Nat.le_trans (Nat.le_of_ble_eq_true rfl) hF) (Nat.le_trans (Nat.le_of_ble_eq_true rfl) hLo) (Nat.zero_le _) (Nat.zero_le _) h_3 h_4 (cw_rest (Nat.le_of_ble_eq_true rfl)) dX1_digestOf_6 (fun H locs hR hS => ?_)
    refine lv_icmp_ge (tgt := 37) hx hb dX1_digestOf_11 (by decide) (fun c_5 => ?_) (fun c_5 => ?_)
    · replace hf := ww_ip hf c_5
      replace hf := ww_xK hf hz_1
      refine lv_iload_n hx hb dX1_digestOf_37 rfl (lv_at hl 1 rfl) ?_
      exact hend dX1_digestOf_38 rfl rfl hf hR hS
    · replace hf := ww_in hf c_5
      refine lv_bipush (v := (31 : Int32)) hx hb dX1_digestOf_14 (by decide) ?_
      refine lv_iload_n hx hb dX1_digestOf_16 rfl (lv_at hl 1 rfl) ?_
      refine lv_imul hx hb dX1_digestOf_17 ?_
      refine lv_aload_n hx hb dX1_digestOf_18 rfl (lv_at hl 0 rfl) ?_
      refine lv_iload_n hx hb dX1_digestOf_19 rfl (lv_at hl 2 rfl) ?_
      obtain ⟨h_6, hq⟩ := ww_gS hf; replace hf := hq; clear hq
      obtain ⟨r_7, D_7, h_7, hq⟩ := ww_b2S hf; replace hf := hq; clear hq
      refine c1f_J4_charAt X hl.1 hK hR hS (Nat.le_trans (Nat.le_of_ble_eq_true rfl) hF) (Nat.le_trans (Nat.le_of_ble_eq_true rfl) hLo) (Nat.zero_le _) (Nat.zero_le _) h_6 h_7 (cw_rest (Nat.le_of_ble_eq_true rfl)) dX1_digestOf_20 (fun H locs hR hS => ?_)
      refine lv_iadd hx hb dX1_digestOf_25 ?_
      refine lv_ldcw (v := (1000003 : Int32)) hx hb hown (hts _ q1645) dX1_digestOf_26 ?_
      refine lv_irem hx hb dX1_digestOf_29 (by decide) ?_
      refine lv_istore_n (lv' := [(1, .int ((((31 : Int32) * x1) + r_7) - (((31 : Int32) * x1) + r_7) / (1000003 : Int32) * (1000003 : Int32))), (0, .ref a_2), (2, .int x2)]) hx hb dX1_digestOf_30 rfl hl (by decide) rfl (fun ls hl => ?_)
      refine lv_iinc (k := 2) (v := x2 + (1 : Int32)) (lv' := [(2, .int (x2 + (1 : Int32))), (1, .int ((((31 : Int32) * x1) + r_7) - (((31 : Int32) * x1) + r_7) / (1000003 : Int32) * (1000003 : Int32))), (0, .ref a_2)]) hx hb dX1_digestOf_31 hl rfl rfl (by decide) rfl (fun ls hl => ?_)
      refine lv_goto (tgt := 4) hx hb dX1_digestOf_34 (by decide) ?_
      exact ww_lK hf hz_1 _ _ _ hR hS (lv_sub hl [2, 1, 0] rfl)
  exact hL_1 (D, (0 : Int32), (0 : Int32)) hf _ _ _ hR hS (lv_sub hl [2, 1, 0] rfl)
section C_1_digestOf_c
variable {p : Program} {l : Launch} {e : Env} {R : Room} {s : State} {m : MethodId} {args : Array Value} {below : List Frame} {meth : Method} {c : Code} {H : Heap} {locs : List Loc} {cells slots : Nat} {Q : State → Prop}
variable {cc : ByteArray} {pc : Nat} {ls : Array Slot} {rest : List Value} {nL : Nat} {E : cw_E} {A : Nat → Prop} {H0 : Heap}
theorem c1c_1_digestOf {D : cw_D} {x0 : Option Nat} {r : Int32} {D' : cw_D} (X : ww_C p m c cc nL s args RX1 lw_all) (hsz : ls.size = nL) (hK : cw_K E A s) (hR : cw_H E A D H) (hS : va_S A s.heap H locs) (hF : 5 ≤ R.frames) (hLo : 107 ≤ R.locals) (hc : cells ≤ R.cells) (hs : slots ≤ R.slots) (hf : f1_digestOf D x0 = some (r, D')) (hrest : (rest.map fun v => v.category).sum ≤ 8) (hdg : decode cc pc = .ok (.invokestatic 493, 3)) (kk : ∀ (H1 : Heap) (locs1 : List Loc), cw_H E A D' H1 → va_S A s.heap H1 locs1 → W p l e R s m args below meth c H1 locs1 cells slots Q (F0 m (pc + 3) ls (.int r :: rest))) : W p l e R s m args below meth c H locs cells slots Q (F0 m pc ls (va_rf x0 :: rest)) :=
  c1k_1_digestOf X hsz hK hR hS hF hLo hc hs (met1_digestOf l _ _ _ _ hf) hrest hdg kk
end C_1_digestOf_c
noncomputable def f1_digest (D : cw_D) (x1 : Int32) : Option (Int32 × cw_D × Nat × Nat) :=
  ww_b (f1_isMap D x1) (fun r_1 => if r_1 = 0 then some ((-1 : Int32), D, 0, 0) else ww_b (f1_rootOf D x1) (fun r_3 => ww_b4 (f1_shownOf D r_3) (fun r_4 D_4 c_4 k_4 => ww_b2 (f1_digestOf D_4 r_4) (fun r_5 D_5 => some (r_5, D_5, (0 + c_4), (0 + k_4))))))
set_option maxHeartbeats 4000000 in
set_option maxRecDepth 100000 in
theorem met1_digest (l : Launch) {E : cw_E} {A : Nat → Prop} (D : cw_D) (x1 : Int32) (r : Int32) (D' : cw_D) (nc ns : Nat) (hf : f1_digest D x1 = some (r, D', nc, ns)) : cw_MetI l yX1_digest cX1_digest 2 (some Jvm.ClassFile.FieldType.int) 17 455 E A [.ref E.1.1, .int x1] D D' r nc ns := by
  unfold f1_digest at hf
  refine cw_sIN (own := RX1) (by decide +kernel) [(0, .ref E.1.1), (1, .int x1)] ⟨Nat.le_of_ble_eq_true rfl, rfl⟩ ?_
  intro p e s m args below meth c Rm Q X hK hF hLo hC hin hend ls hl hR hS
  obtain ⟨hx, hb, hml, hown, hts⟩ := id X
  have hm9 : 0 ≤ nc ∧ 0 ≤ ns := ⟨Nat.zero_le _, Nat.zero_le _⟩
  refine lv_aload_n hx hb dX1_digest_0 rfl (lv_at hl 0 rfl) ?_
  refine lv_iload_n hx hb dX1_digest_1 rfl (lv_at hl 1 rfl) ?_
  obtain ⟨r_1, h_1, hq⟩ := ww_bS hf; replace hf := hq; clear hq
  refine c1c_1_isMap X hl.1 hK hR hS (Nat.le_trans (Nat.le_of_ble_eq_true rfl) hF) (Nat.le_trans (Nat.le_of_ble_eq_true rfl) hLo) (Nat.le_trans hm9.1 hC.1) (Nat.le_trans hm9.2 hC.2) h_1 (cw_rest (Nat.le_of_ble_eq_true rfl)) dX1_digest_2 (fun H locs hR hS => ?_)
  refine lv_if_eq (tgt := 22) hx hb dX1_digest_5 (by decide) (fun c_2 => ?_) (fun c_2 => ?_)
  · replace hf := ww_ip hf c_2
    refine lv_iconst (v := (-1 : Int32)) hx hb dX1_digest_22 (by decide) ?_
    exact hend dX1_digest_23 rfl rfl hf hR hS
  · replace hf := ww_in hf c_2
    refine lv_aload_n hx hb dX1_digest_8 rfl (lv_at hl 0 rfl) ?_
    refine lv_iload_n hx hb dX1_digest_9 rfl (lv_at hl 1 rfl) ?_
    obtain ⟨r_3, h_3, hq⟩ := ww_bS hf; replace hf := hq; clear hq
    refine c1c_1_rootOf X hl.1 hK hR hS (Nat.le_trans (Nat.le_of_ble_eq_true rfl) hF) (Nat.le_trans (Nat.le_of_ble_eq_true rfl) hLo) (Nat.le_trans hm9.1 hC.1) (Nat.le_trans hm9.2 hC.2) h_3 (cw_rest (Nat.le_of_ble_eq_true rfl)) dX1_digest_10 (fun H locs hR hS => ?_)
    obtain ⟨r_4, D_4, c_4, k_4, h_4, hq⟩ := ww_b4S hf; replace hf := hq; clear hq
    have hm9 : (0 + c_4) ≤ nc ∧ (0 + k_4) ≤ ns := by
      obtain ⟨r_5, D_5, h_5, hq⟩ := ww_b2S hf; replace hf := hq; clear hq
      have e9 := hf
      simp only [Option.some.injEq, Prod.mk.injEq] at e9
      omega
    refine c1c_1_shownOf (x0 := r_3) X hl.1 hK hR hS (Nat.le_trans (Nat.le_of_ble_eq_true rfl) hF) (Nat.le_trans (Nat.le_of_ble_eq_true rfl) hLo) (Nat.le_trans hm9.1 hC.1) (Nat.le_trans hm9.2 hC.2) h_4 (cw_rest (Nat.le_of_ble_eq_true rfl)) dX1_digest_13 (fun H locs hR hS => ?_)
    obtain ⟨r_5, D_5, h_5, hq⟩ := ww_b2S hf; replace hf := hq; clear hq
    refine c1c_1_digestOf (x0 := r_4) X hl.1 hK hR hS (Nat.le_trans (Nat.le_of_ble_eq_true rfl) hF) (Nat.le_trans (Nat.le_of_ble_eq_true rfl) hLo) (Nat.le_trans hm9.1 hC.1) (Nat.le_trans hm9.2 hC.2) h_5 (cw_rest (Nat.le_of_ble_eq_true rfl)) dX1_digest_16 (fun H locs hR hS => ?_)
    refine lv_goto (tgt := 23) hx hb dX1_digest_19 (by decide) ?_
    exact hend dX1_digest_23 rfl rfl hf hR hS
