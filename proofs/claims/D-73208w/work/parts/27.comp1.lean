noncomputable def f4_init (D : cw_D) (a0 : Nat) (x1 : Option Nat) : Option (cw_D) :=
  ww_b (cw_p D [0] a0 0 (va_rf x1)) (fun D_1 => some D_1)
section C_4_init_k
variable {p : Program} {l : Launch} {e : Env} {R : Room} {s : State} {m : MethodId} {args : Array Value} {below : List Frame} {meth : Method} {c : Code} {H : Heap} {locs : List Loc} {cells slots : Nat} {Q : State → Prop}
variable {cc : ByteArray} {pc : Nat} {ls : Array Slot} {rest : List Value} {nL : Nat} {E : cw_E} {A : Nat → Prop} {H0 : Heap}
theorem c1k_4_init {D : cw_D} {a0 : Nat} {x1 : Option Nat} {D' : cw_D} (X : ww_C p m c cc nL s args RX1 lw_all) (hsz : ls.size = nL) (hK : cw_K E A s) (hR : cw_H E A D H) (hS : va_S A s.heap H locs) (hF : 2 ≤ R.frames) (hLo : 61 ≤ R.locals) (hc : cells ≤ R.cells) (hs : slots ≤ R.slots) (hM : cw_MetV l yX4_init cX4_init 2 1 40 E A [.ref a0, va_rf x1] D D' 0 0) (hrest : (rest.map fun v => v.category).sum ≤ 8) (hdg : decode cc pc = .ok (.invokespecial 215, 3)) (kk : ∀ (H1 : Heap) (locs1 : List Loc), cw_H E A D' H1 → va_S A s.heap H1 locs1 → W p l e R s m args below meth c H1 locs1 cells slots Q (F0 m (pc + 3) ls (rest))) : W p l e R s m args below meth c H locs cells slots Q (F0 m pc ls (va_rf x1 :: .ref a0 :: rest)) :=
  va_callv (va_runIN (host := "WideMap") (As := [va_rf x1]) (rest := rest) (b := a0) X hM ⟨va_cnB 1 X.2.2.2.2 (lw_meth q820) rfl rfl rfl hK.2.2.2.2.2.1.2.2.2 (X.2.2.2.2 _ q151) (by decide +kernel) ⟨hF, hLo⟩, rfl, X.2.2.2.2 _ q819⟩ (cw_pS hK hR hS) rfl rfl hsz rfl (lv_room hrest) hdg ⟨hc, hs⟩) hS (fun q _ h => h) (fun q h => h) (fun u t H1 locs1 ht hvm hw hB hz1 hk1 hS1 => by rw [ht] at hB; exact kk H1 locs1 hB hS1)
end C_4_init_k
set_option maxHeartbeats 4000000 in
set_option maxRecDepth 100000 in
theorem met4_init (l : Launch) {E : cw_E} {A : Nat → Prop} (D : cw_D) (a0 : Nat) (x1 : Option Nat) (D' : cw_D) (hf : f4_init D a0 x1 = some D') : cw_MetV l yX4_init cX4_init 2 1 40 E A [.ref a0, va_rf x1] D D' 0 0 := by
  unfold f4_init at hf
  refine cw_sVD (own := RX4) (by decide +kernel) [(0, .ref a0), (1, va_rf x1)] ⟨by cases x1 <;> exact Nat.le_of_ble_eq_true rfl, by cases x1 <;> rfl⟩ ?_
  intro p e s m args below meth c Rm Q X hK hF hLo hin hend ls hl hR hS
  obtain ⟨hx, hb, hml, hown, hts⟩ := id X
  refine lv_aload_n hx hb dX4_init_0 rfl (lv_at hl 0 rfl) ?_
  refine cw_aload_n (x := x1) hx hb dX4_init_1 rfl (lv_at hl 1 rfl) ?_
  obtain ⟨D_1, h_1, hq⟩ := ww_bS hf; replace hf := hq; clear hq
  refine c4p_1 (v := x1) X hK hR hS h_1 dX4_init_2 hin (fun H locs hR hS => ?_)
  refine lv_aload_n hx hb dX4_init_5 rfl (lv_at hl 0 rfl) ?_
  refine W.objInit hx hb hown (hts _ q821) (hts _ q164) (hts _ q165) rfl (by rw [hml]; exact hl.1) rfl dX4_init_6 (Nat.le_trans (Nat.le_of_ble_eq_true rfl) hF) (Nat.le_trans (Nat.le_of_ble_eq_true rfl) hLo) ?_
  refine W.eq (g2 := F0 m 9 ls []) rfl ?_
  exact hend dX4_init_9 hf hR hS
section C_4_init_c
variable {p : Program} {l : Launch} {e : Env} {R : Room} {s : State} {m : MethodId} {args : Array Value} {below : List Frame} {meth : Method} {c : Code} {H : Heap} {locs : List Loc} {cells slots : Nat} {Q : State → Prop}
variable {cc : ByteArray} {pc : Nat} {ls : Array Slot} {rest : List Value} {nL : Nat} {E : cw_E} {A : Nat → Prop} {H0 : Heap}
theorem c1c_4_init {D : cw_D} {a0 : Nat} {x1 : Option Nat} {D' : cw_D} (X : ww_C p m c cc nL s args RX1 lw_all) (hsz : ls.size = nL) (hK : cw_K E A s) (hR : cw_H E A D H) (hS : va_S A s.heap H locs) (hF : 2 ≤ R.frames) (hLo : 61 ≤ R.locals) (hc : cells ≤ R.cells) (hs : slots ≤ R.slots) (hf : f4_init D a0 x1 = some D') (hrest : (rest.map fun v => v.category).sum ≤ 8) (hdg : decode cc pc = .ok (.invokespecial 215, 3)) (kk : ∀ (H1 : Heap) (locs1 : List Loc), cw_H E A D' H1 → va_S A s.heap H1 locs1 → W p l e R s m args below meth c H1 locs1 cells slots Q (F0 m (pc + 3) ls (rest))) : W p l e R s m args below meth c H locs cells slots Q (F0 m pc ls (va_rf x1 :: .ref a0 :: rest)) :=
  c1k_4_init X hsz hK hR hS hF hLo hc hs (met4_init l _ _ _ _ hf) hrest hdg kk
end C_4_init_c
noncomputable def f4_makes (D : cw_D) (a0 : Nat) : Option (cw_D) :=
  ww_b (cw_gR D [0] a0 0) (fun r_1 => ww_g (decide (r_1 = ww_R D.1 99)) (some (cw_sF D 16 ((ww_F D.1 16) + (1 : Int32)))))
section C_4_makes_k
variable {p : Program} {l : Launch} {e : Env} {R : Room} {s : State} {m : MethodId} {args : Array Value} {below : List Frame} {meth : Method} {c : Code} {H : Heap} {locs : List Loc} {cells slots : Nat} {Q : State → Prop}
variable {cc : ByteArray} {pc : Nat} {ls : Array Slot} {rest : List Value} {nL : Nat} {E : cw_E} {A : Nat → Prop} {H0 : Heap}
theorem c5k_4_makes {D : cw_D} {a0 : Nat} {D' : cw_D} (X : ww_C p m c cc nL s args RX5 lw_all) (hsz : ls.size = nL) (hK : cw_K E A s) (hR : cw_H E A D H) (hS : va_S A s.heap H locs) (hF : 1 ≤ R.frames) (hLo : 20 ≤ R.locals) (hc : cells ≤ R.cells) (hs : slots ≤ R.slots) (hkd : cw_kd D [0] (some a0) = true) (hM : cw_MetV l yX4_makes cX4_makes 1 0 0 E A [.ref a0] D D' 0 0) (hrest : (rest.map fun v => v.category).sum ≤ 8) (hdg : decode cc pc = .ok (.invokevirtual 1, 3)) (kk : ∀ (H1 : Heap) (locs1 : List Loc), cw_H E A D' H1 → va_S A s.heap H1 locs1 → W p l e R s m args below meth c H1 locs1 cells slots Q (F0 m (pc + 3) ls (rest))) : W p l e R s m args below meth c H locs cells slots Q (F0 m pc ls (.ref a0 :: rest)) :=
  va_callv (va_runV (C := RX4) (As := []) (rest := rest) (b := a0) X hM (cwV 0 X.2.2.2.2 (lw_V q833 q834 q835 q151 q836) rfl rfl rfl (by decide +kernel) ⟨hF, hLo⟩) (cw_pV hK hR hS (cw_rc (k := 0) (C := RX4) (T := TX4) (N := 1) rfl (by decide) hK hR hkd)) rfl rfl hsz rfl (lv_room hrest) hdg ⟨hc, hs⟩) hS (fun q _ h => h) (fun q h => h) (fun u t H1 locs1 ht hvm hw hB hz1 hk1 hS1 => by rw [ht] at hB; exact kk H1 locs1 hB hS1)
theorem c7k_4_makes {D : cw_D} {a0 : Nat} {D' : cw_D} (X : ww_C p m c cc nL s args RX7 lw_all) (hsz : ls.size = nL) (hK : cw_K E A s) (hR : cw_H E A D H) (hS : va_S A s.heap H locs) (hF : 1 ≤ R.frames) (hLo : 20 ≤ R.locals) (hc : cells ≤ R.cells) (hs : slots ≤ R.slots) (hkd : cw_kd D [0] (some a0) = true) (hM : cw_MetV l yX4_makes cX4_makes 1 0 0 E A [.ref a0] D D' 0 0) (hrest : (rest.map fun v => v.category).sum ≤ 8) (hdg : decode cc pc = .ok (.invokevirtual 37, 3)) (kk : ∀ (H1 : Heap) (locs1 : List Loc), cw_H E A D' H1 → va_S A s.heap H1 locs1 → W p l e R s m args below meth c H1 locs1 cells slots Q (F0 m (pc + 3) ls (rest))) : W p l e R s m args below meth c H locs cells slots Q (F0 m pc ls (.ref a0 :: rest)) :=
  va_callv (va_runV (C := RX4) (As := []) (rest := rest) (b := a0) X hM (cwV 0 X.2.2.2.2 (lw_V q1065 q834 q835 q151 q836) rfl rfl rfl (by decide +kernel) ⟨hF, hLo⟩) (cw_pV hK hR hS (cw_rc (k := 0) (C := RX4) (T := TX4) (N := 1) rfl (by decide) hK hR hkd)) rfl rfl hsz rfl (lv_room hrest) hdg ⟨hc, hs⟩) hS (fun q _ h => h) (fun q h => h) (fun u t H1 locs1 ht hvm hw hB hz1 hk1 hS1 => by rw [ht] at hB; exact kk H1 locs1 hB hS1)
theorem c8k_4_makes {D : cw_D} {a0 : Nat} {D' : cw_D} (X : ww_C p m c cc nL s args RX8 lw_all) (hsz : ls.size = nL) (hK : cw_K E A s) (hR : cw_H E A D H) (hS : va_S A s.heap H locs) (hF : 1 ≤ R.frames) (hLo : 20 ≤ R.locals) (hc : cells ≤ R.cells) (hs : slots ≤ R.slots) (hkd : cw_kd D [0] (some a0) = true) (hM : cw_MetV l yX4_makes cX4_makes 1 0 0 E A [.ref a0] D D' 0 0) (hrest : (rest.map fun v => v.category).sum ≤ 8) (hdg : decode cc pc = .ok (.invokevirtual 42, 3)) (kk : ∀ (H1 : Heap) (locs1 : List Loc), cw_H E A D' H1 → va_S A s.heap H1 locs1 → W p l e R s m args below meth c H1 locs1 cells slots Q (F0 m (pc + 3) ls (rest))) : W p l e R s m args below meth c H locs cells slots Q (F0 m pc ls (.ref a0 :: rest)) :=
  va_callv (va_runV (C := RX4) (As := []) (rest := rest) (b := a0) X hM (cwV 0 X.2.2.2.2 (lw_V q1070 q834 q835 q151 q836) rfl rfl rfl (by decide +kernel) ⟨hF, hLo⟩) (cw_pV hK hR hS (cw_rc (k := 0) (C := RX4) (T := TX4) (N := 1) rfl (by decide) hK hR hkd)) rfl rfl hsz rfl (lv_room hrest) hdg ⟨hc, hs⟩) hS (fun q _ h => h) (fun q h => h) (fun u t H1 locs1 ht hvm hw hB hz1 hk1 hS1 => by rw [ht] at hB; exact kk H1 locs1 hB hS1)
end C_4_makes_k
set_option maxHeartbeats 4000000 in
set_option maxRecDepth 100000 in
theorem met4_makes (l : Launch) {E : cw_E} {A : Nat → Prop} (D : cw_D) (a0 : Nat) (D' : cw_D) (hf : f4_makes D a0 = some D') : cw_MetV l yX4_makes cX4_makes 1 0 0 E A [.ref a0] D D' 0 0 := by
  unfold f4_makes at hf
  refine cw_sVD (own := RX4) (by decide +kernel) [(0, .ref a0)] ⟨Nat.le_of_ble_eq_true rfl, rfl⟩ ?_
  intro p e s m args below meth c Rm Q X hK hF hLo hin hend ls hl hR hS
  obtain ⟨hx, hb, hml, hown, hts⟩ := id X
  refine lv_aload_n hx hb dX4_makes_0 rfl (lv_at hl 0 rfl) ?_
  obtain ⟨r_1, h_1, hq⟩ := ww_bS hf; replace hf := hq; clear hq
  refine c4g_1 X hK hR h_1 dX4_makes_1 ?_
  refine lv_dup hx hb dX4_makes_4 (cw_cat _) ?_
  obtain ⟨h_2, hq⟩ := ww_gS hf; replace hf := hq; clear hq
  have e_2 : r_1 = some E.1.1 := (of_decide_eq_true h_2).trans (cw_this hK hR)
  subst e_2
  refine c4g_13 X hK hR dX4_makes_5 ?_
  refine lv_iconst (v := (1 : Int32)) hx hb dX4_makes_8 (by decide) ?_
  refine lv_iadd hx hb dX4_makes_9 ?_
  refine c4p_13 X hK hR hS dX4_makes_10 (fun H locs hR hS => ?_)
  exact hend dX4_makes_13 hf hR hS
section C_4_makes_c
variable {p : Program} {l : Launch} {e : Env} {R : Room} {s : State} {m : MethodId} {args : Array Value} {below : List Frame} {meth : Method} {c : Code} {H : Heap} {locs : List Loc} {cells slots : Nat} {Q : State → Prop}
variable {cc : ByteArray} {pc : Nat} {ls : Array Slot} {rest : List Value} {nL : Nat} {E : cw_E} {A : Nat → Prop} {H0 : Heap}
theorem c5c_4_makes {D : cw_D} {a0 : Nat} {D' : cw_D} (X : ww_C p m c cc nL s args RX5 lw_all) (hsz : ls.size = nL) (hK : cw_K E A s) (hR : cw_H E A D H) (hS : va_S A s.heap H locs) (hF : 1 ≤ R.frames) (hLo : 20 ≤ R.locals) (hc : cells ≤ R.cells) (hs : slots ≤ R.slots) (hkd : cw_kd D [0] (some a0) = true) (hf : f4_makes D a0 = some D') (hrest : (rest.map fun v => v.category).sum ≤ 8) (hdg : decode cc pc = .ok (.invokevirtual 1, 3)) (kk : ∀ (H1 : Heap) (locs1 : List Loc), cw_H E A D' H1 → va_S A s.heap H1 locs1 → W p l e R s m args below meth c H1 locs1 cells slots Q (F0 m (pc + 3) ls (rest))) : W p l e R s m args below meth c H locs cells slots Q (F0 m pc ls (.ref a0 :: rest)) :=
  c5k_4_makes X hsz hK hR hS hF hLo hc hs hkd (met4_makes l _ _ _ hf) hrest hdg kk
theorem c7c_4_makes {D : cw_D} {a0 : Nat} {D' : cw_D} (X : ww_C p m c cc nL s args RX7 lw_all) (hsz : ls.size = nL) (hK : cw_K E A s) (hR : cw_H E A D H) (hS : va_S A s.heap H locs) (hF : 1 ≤ R.frames) (hLo : 20 ≤ R.locals) (hc : cells ≤ R.cells) (hs : slots ≤ R.slots) (hkd : cw_kd D [0] (some a0) = true) (hf : f4_makes D a0 = some D') (hrest : (rest.map fun v => v.category).sum ≤ 8) (hdg : decode cc pc = .ok (.invokevirtual 37, 3)) (kk : ∀ (H1 : Heap) (locs1 : List Loc), cw_H E A D' H1 → va_S A s.heap H1 locs1 → W p l e R s m args below meth c H1 locs1 cells slots Q (F0 m (pc + 3) ls (rest))) : W p l e R s m args below meth c H locs cells slots Q (F0 m pc ls (.ref a0 :: rest)) :=
  c7k_4_makes X hsz hK hR hS hF hLo hc hs hkd (met4_makes l _ _ _ hf) hrest hdg kk
theorem c8c_4_makes {D : cw_D} {a0 : Nat} {D' : cw_D} (X : ww_C p m c cc nL s args RX8 lw_all) (hsz : ls.size = nL) (hK : cw_K E A s) (hR : cw_H E A D H) (hS : va_S A s.heap H locs) (hF : 1 ≤ R.frames) (hLo : 20 ≤ R.locals) (hc : cells ≤ R.cells) (hs : slots ≤ R.slots) (hkd : cw_kd D [0] (some a0) = true) (hf : f4_makes D a0 = some D') (hrest : (rest.map fun v => v.category).sum ≤ 8) (hdg : decode cc pc = .ok (.invokevirtual 42, 3)) (kk : ∀ (H1 : Heap) (locs1 : List Loc), cw_H E A D' H1 → va_S A s.heap H1 locs1 → W p l e R s m args below meth c H1 locs1 cells slots Q (F0 m (pc + 3) ls (rest))) : W p l e R s m args below meth c H locs cells slots Q (F0 m pc ls (.ref a0 :: rest)) :=
  c8k_4_makes X hsz hK hR hS hF hLo hc hs hkd (met4_makes l _ _ _ hf) hrest hdg kk
end C_4_makes_c
noncomputable def f6_init (D : cw_D) (a0 : Nat) (x1 : Option Nat) : Option (cw_D) :=
  ww_b (cw_p D [1, 2] a0 0 (va_rf x1)) (fun D_1 => some D_1)
section C_6_init_k
variable {p : Program} {l : Launch} {e : Env} {R : Room} {s : State} {m : MethodId} {args : Array Value} {below : List Frame} {meth : Method} {c : Code} {H : Heap} {locs : List Loc} {cells slots : Nat} {Q : State → Prop}
variable {cc : ByteArray} {pc : Nat} {ls : Array Slot} {rest : List Value} {nL : Nat} {E : cw_E} {A : Nat → Prop} {H0 : Heap}
theorem c7k_6_init {D : cw_D} {a0 : Nat} {x1 : Option Nat} {D' : cw_D} (X : ww_C p m c cc nL s args RX7 lw_all) (hsz : ls.size = nL) (hK : cw_K E A s) (hR : cw_H E A D H) (hS : va_S A s.heap H locs) (hF : 2 ≤ R.frames) (hLo : 61 ≤ R.locals) (hc : cells ≤ R.cells) (hs : slots ≤ R.slots) (hM : cw_MetV l yX6_init cX6_init 2 1 40 E A [.ref a0, va_rf x1] D D' 0 0) (hrest : (rest.map fun v => v.category).sum ≤ 8) (hdg : decode cc pc = .ok (.invokespecial 3, 3)) (kk : ∀ (H1 : Heap) (locs1 : List Loc), cw_H E A D' H1 → va_S A s.heap H1 locs1 → W p l e R s m args below meth c H1 locs1 cells slots Q (F0 m (pc + 3) ls (rest))) : W p l e R s m args below meth c H locs cells slots Q (F0 m pc ls (va_rf x1 :: .ref a0 :: rest)) :=
  va_callv (va_runI (As := [va_rf x1]) (rest := rest) (b := a0) X hM (cwI 1 X.2.2.2.2 (lw_meth q844) rfl rfl rfl (X.2.2.2.2 _ q153) (X.2.2.2.2 _ q842) (X.2.2.2.2 _ q843) rfl (by decide +kernel) ⟨hF, hLo⟩) (cw_pS hK hR hS) rfl rfl hsz rfl (lv_room hrest) hdg ⟨hc, hs⟩) hS (fun q _ h => h) (fun q h => h) (fun u t H1 locs1 ht hvm hw hB hz1 hk1 hS1 => by rw [ht] at hB; exact kk H1 locs1 hB hS1)
theorem c8k_6_init {D : cw_D} {a0 : Nat} {x1 : Option Nat} {D' : cw_D} (X : ww_C p m c cc nL s args RX8 lw_all) (hsz : ls.size = nL) (hK : cw_K E A s) (hR : cw_H E A D H) (hS : va_S A s.heap H locs) (hF : 2 ≤ R.frames) (hLo : 61 ≤ R.locals) (hc : cells ≤ R.cells) (hs : slots ≤ R.slots) (hM : cw_MetV l yX6_init cX6_init 2 1 40 E A [.ref a0, va_rf x1] D D' 0 0) (hrest : (rest.map fun v => v.category).sum ≤ 8) (hdg : decode cc pc = .ok (.invokespecial 1, 3)) (kk : ∀ (H1 : Heap) (locs1 : List Loc), cw_H E A D' H1 → va_S A s.heap H1 locs1 → W p l e R s m args below meth c H1 locs1 cells slots Q (F0 m (pc + 3) ls (rest))) : W p l e R s m args below meth c H locs cells slots Q (F0 m pc ls (va_rf x1 :: .ref a0 :: rest)) :=
  va_callv (va_runI (As := [va_rf x1]) (rest := rest) (b := a0) X hM (cwI 1 X.2.2.2.2 (lw_meth q844) rfl rfl rfl (X.2.2.2.2 _ q153) (X.2.2.2.2 _ q1017) (X.2.2.2.2 _ q843) rfl (by decide +kernel) ⟨hF, hLo⟩) (cw_pS hK hR hS) rfl rfl hsz rfl (lv_room hrest) hdg ⟨hc, hs⟩) hS (fun q _ h => h) (fun q h => h) (fun u t H1 locs1 ht hvm hw hB hz1 hk1 hS1 => by rw [ht] at hB; exact kk H1 locs1 hB hS1)
end C_6_init_k
set_option maxHeartbeats 4000000 in
set_option maxRecDepth 100000 in
theorem met6_init (l : Launch) {E : cw_E} {A : Nat → Prop} (D : cw_D) (a0 : Nat) (x1 : Option Nat) (D' : cw_D) (hf : f6_init D a0 x1 = some D') : cw_MetV l yX6_init cX6_init 2 1 40 E A [.ref a0, va_rf x1] D D' 0 0 := by
  unfold f6_init at hf
  refine cw_sVD (own := RX6) (by decide +kernel) [(0, .ref a0), (1, va_rf x1)] ⟨by cases x1 <;> exact Nat.le_of_ble_eq_true rfl, by cases x1 <;> rfl⟩ ?_
  intro p e s m args below meth c Rm Q X hK hF hLo hin hend ls hl hR hS
  obtain ⟨hx, hb, hml, hown, hts⟩ := id X
  refine lv_aload_n hx hb dX6_init_0 rfl (lv_at hl 0 rfl) ?_
  refine W.objInit hx hb hown (hts _ q845) (hts _ q164) (hts _ q165) rfl (by rw [hml]; exact hl.1) rfl dX6_init_1 (Nat.le_trans (Nat.le_of_ble_eq_true rfl) hF) (Nat.le_trans (Nat.le_of_ble_eq_true rfl) hLo) ?_
  refine W.eq (g2 := F0 m 4 ls []) rfl ?_
  refine lv_aload_n hx hb dX6_init_4 rfl (lv_at hl 0 rfl) ?_
  refine cw_aload_n (x := x1) hx hb dX6_init_5 rfl (lv_at hl 1 rfl) ?_
  obtain ⟨D_1, h_1, hq⟩ := ww_bS hf; replace hf := hq; clear hq
  refine c6p_7 (v := x1) X hK hR hS h_1 dX6_init_6 hin (fun H locs hR hS => ?_)
  exact hend dX6_init_9 hf hR hS
section C_6_init_c
variable {p : Program} {l : Launch} {e : Env} {R : Room} {s : State} {m : MethodId} {args : Array Value} {below : List Frame} {meth : Method} {c : Code} {H : Heap} {locs : List Loc} {cells slots : Nat} {Q : State → Prop}
variable {cc : ByteArray} {pc : Nat} {ls : Array Slot} {rest : List Value} {nL : Nat} {E : cw_E} {A : Nat → Prop} {H0 : Heap}
theorem c7c_6_init {D : cw_D} {a0 : Nat} {x1 : Option Nat} {D' : cw_D} (X : ww_C p m c cc nL s args RX7 lw_all) (hsz : ls.size = nL) (hK : cw_K E A s) (hR : cw_H E A D H) (hS : va_S A s.heap H locs) (hF : 2 ≤ R.frames) (hLo : 61 ≤ R.locals) (hc : cells ≤ R.cells) (hs : slots ≤ R.slots) (hf : f6_init D a0 x1 = some D') (hrest : (rest.map fun v => v.category).sum ≤ 8) (hdg : decode cc pc = .ok (.invokespecial 3, 3)) (kk : ∀ (H1 : Heap) (locs1 : List Loc), cw_H E A D' H1 → va_S A s.heap H1 locs1 → W p l e R s m args below meth c H1 locs1 cells slots Q (F0 m (pc + 3) ls (rest))) : W p l e R s m args below meth c H locs cells slots Q (F0 m pc ls (va_rf x1 :: .ref a0 :: rest)) :=
  c7k_6_init X hsz hK hR hS hF hLo hc hs (met6_init l _ _ _ _ hf) hrest hdg kk
theorem c8c_6_init {D : cw_D} {a0 : Nat} {x1 : Option Nat} {D' : cw_D} (X : ww_C p m c cc nL s args RX8 lw_all) (hsz : ls.size = nL) (hK : cw_K E A s) (hR : cw_H E A D H) (hS : va_S A s.heap H locs) (hF : 2 ≤ R.frames) (hLo : 61 ≤ R.locals) (hc : cells ≤ R.cells) (hs : slots ≤ R.slots) (hf : f6_init D a0 x1 = some D') (hrest : (rest.map fun v => v.category).sum ≤ 8) (hdg : decode cc pc = .ok (.invokespecial 1, 3)) (kk : ∀ (H1 : Heap) (locs1 : List Loc), cw_H E A D' H1 → va_S A s.heap H1 locs1 → W p l e R s m args below meth c H1 locs1 cells slots Q (F0 m (pc + 3) ls (rest))) : W p l e R s m args below meth c H locs cells slots Q (F0 m pc ls (va_rf x1 :: .ref a0 :: rest)) :=
  c8k_6_init X hsz hK hR hS hF hLo hc hs (met6_init l _ _ _ _ hf) hrest hdg kk
end C_6_init_c
noncomputable def f6_many (D : cw_D) (a0 : Nat) : Option (Int32) :=
  ww_b (cw_gI D [1, 2] a0 1) (fun r_1 => some r_1)
set_option maxHeartbeats 4000000 in
set_option maxRecDepth 100000 in
theorem met6_many (l : Launch) {E : cw_E} {A : Nat → Prop} (D : cw_D) (a0 : Nat) (r : Int32) (hf : f6_many D a0 = some r) : cw_MetI l yX6_many cX6_many 1 (some Jvm.ClassFile.FieldType.int) 0 0 E A [.ref a0] D D r 0 0 := by
  unfold f6_many at hf
  refine cw_sIP (own := RX6) (by decide +kernel) [(0, .ref a0)] ⟨Nat.le_of_ble_eq_true rfl, rfl⟩ ?_
  intro p e s m args below meth c Rm Q X hK hF hLo hin hend ls hl hR hS
  obtain ⟨hx, hb, hml, hown, hts⟩ := id X
  refine lv_aload_n hx hb dX6_many_0 rfl (lv_at hl 0 rfl) ?_
  obtain ⟨r_1, h_1, hq⟩ := ww_bS hf; replace hf := hq; clear hq
  refine c6g_13 X hK hR h_1 dX6_many_1 ?_
  exact hend dX6_many_4 rfl rfl hf hR hS
section C_6_many_i
variable {p : Program} {l : Launch} {e : Env} {R : Room} {s : State} {m : MethodId} {args : Array Value} {below : List Frame} {meth : Method} {c : Code} {H : Heap} {locs : List Loc} {cells slots : Nat} {Q : State → Prop}
variable {cc : ByteArray} {pc : Nat} {ls : Array Slot} {rest : List Value} {nL : Nat} {E : cw_E} {A : Nat → Prop} {H0 : Heap}
theorem c1i_many {D : cw_D} {a0 : Nat} {r : Int32} (X : ww_C p m c cc nL s args RX1 lw_all) (hsz : ls.size = nL) (hK : cw_K E A s) (hR : cw_H E A D H) (hS : va_S A s.heap H locs) (hF : 1 ≤ R.frames) (hLo : 20 ≤ R.locals) (hc : cells ≤ R.cells) (hs : slots ≤ R.slots) (hkd2 : cw_kd D [1, 2] (some a0) = true) (hf : f6_many D a0 = some r) (hrest : (rest.map fun v => v.category).sum ≤ 8) {count : Nat} (hdg : decode cc pc = .ok (.invokeinterface 281 count, 5)) (kk : ∀ (H1 : Heap) (locs1 : List Loc), cw_H E A D H1 → va_S A s.heap H1 locs1 → W p l e R s m args below meth c H1 locs1 cells slots Q (F0 m (pc + 5) ls (.int r :: rest))) : W p l e R s m args below meth c H locs cells slots Q (F0 m pc ls (.ref a0 :: rest)) := by
  rcases cw_kd2 hkd2 with hkd | hkd
  · exact va_callFi (va_runF (C := RX7) (x := ⟨"WideMap$Node", "many", "()I"⟩) (As := []) (rest := rest) (b := a0) (cw_cls (k := 1) (C := RX7) (T := TX7) (N := 5) rfl hK) X (met6_many l _ _ _ hf) (va_cwF 0 X.2.2.2.2 (cw_F q946 q910 q907 q153 q909) rfl rfl rfl (hK.2.2.2.1 ("WideMap$Leaf", ⟨"WideMap$Node", "many", "()I"⟩, ⟨"WideMap$Marked", "many", "()I"⟩) (by decide +kernel)) (by decide +kernel) ⟨hF, hLo⟩) (cw_pV hK hR hS (cw_rc (k := 1) (C := RX7) (T := TX7) (N := 5) rfl (by decide) hK hR hkd)) rfl rfl hsz rfl (lv_room hrest) hdg ⟨hc, hs⟩) hS (fun q _ h => h) (fun q h => h) (fun r' u t H1 locs1 ht hvm hw hB hz1 hk1 hS1 => by subst hw; rw [ht] at hB; exact kk H1 locs1 hB hS1)
  · exact va_callFi (va_runF (C := RX8) (x := ⟨"WideMap$Node", "many", "()I"⟩) (As := []) (rest := rest) (b := a0) (cw_cls (k := 2) (C := RX8) (T := TX8) (N := 4) rfl hK) X (met6_many l _ _ _ hf) (va_cwF 0 X.2.2.2.2 (cw_F q946 q905 q907 q153 q909) rfl rfl rfl (hK.2.2.2.1 ("WideMap$Inner", ⟨"WideMap$Node", "many", "()I"⟩, ⟨"WideMap$Marked", "many", "()I"⟩) (by decide +kernel)) (by decide +kernel) ⟨hF, hLo⟩) (cw_pV hK hR hS (cw_rc (k := 2) (C := RX8) (T := TX8) (N := 4) rfl (by decide) hK hR hkd)) rfl rfl hsz rfl (lv_room hrest) hdg ⟨hc, hs⟩) hS (fun q _ h => h) (fun q h => h) (fun r' u t H1 locs1 ht hvm hw hB hz1 hk1 hS1 => by subst hw; rw [ht] at hB; exact kk H1 locs1 hB hS1)
theorem c5i_many {D : cw_D} {a0 : Nat} {r : Int32} (X : ww_C p m c cc nL s args RX5 lw_all) (hsz : ls.size = nL) (hK : cw_K E A s) (hR : cw_H E A D H) (hS : va_S A s.heap H locs) (hF : 1 ≤ R.frames) (hLo : 20 ≤ R.locals) (hc : cells ≤ R.cells) (hs : slots ≤ R.slots) (hkd2 : cw_kd D [1, 2] (some a0) = true) (hf : f6_many D a0 = some r) (hrest : (rest.map fun v => v.category).sum ≤ 8) {count : Nat} (hdg : decode cc pc = .ok (.invokeinterface 38 count, 5)) (kk : ∀ (H1 : Heap) (locs1 : List Loc), cw_H E A D H1 → va_S A s.heap H1 locs1 → W p l e R s m args below meth c H1 locs1 cells slots Q (F0 m (pc + 5) ls (.int r :: rest))) : W p l e R s m args below meth c H locs cells slots Q (F0 m pc ls (.ref a0 :: rest)) := by
  rcases cw_kd2 hkd2 with hkd | hkd
  · exact va_callFi (va_runF (C := RX7) (x := ⟨"WideMap$Node", "many", "()I"⟩) (As := []) (rest := rest) (b := a0) (cw_cls (k := 1) (C := RX7) (T := TX7) (N := 5) rfl hK) X (met6_many l _ _ _ hf) (va_cwF 0 X.2.2.2.2 (cw_F q902 q910 q907 q153 q909) rfl rfl rfl (hK.2.2.2.1 ("WideMap$Leaf", ⟨"WideMap$Node", "many", "()I"⟩, ⟨"WideMap$Marked", "many", "()I"⟩) (by decide +kernel)) (by decide +kernel) ⟨hF, hLo⟩) (cw_pV hK hR hS (cw_rc (k := 1) (C := RX7) (T := TX7) (N := 5) rfl (by decide) hK hR hkd)) rfl rfl hsz rfl (lv_room hrest) hdg ⟨hc, hs⟩) hS (fun q _ h => h) (fun q h => h) (fun r' u t H1 locs1 ht hvm hw hB hz1 hk1 hS1 => by subst hw; rw [ht] at hB; exact kk H1 locs1 hB hS1)
  · exact va_callFi (va_runF (C := RX8) (x := ⟨"WideMap$Node", "many", "()I"⟩) (As := []) (rest := rest) (b := a0) (cw_cls (k := 2) (C := RX8) (T := TX8) (N := 4) rfl hK) X (met6_many l _ _ _ hf) (va_cwF 0 X.2.2.2.2 (cw_F q902 q905 q907 q153 q909) rfl rfl rfl (hK.2.2.2.1 ("WideMap$Inner", ⟨"WideMap$Node", "many", "()I"⟩, ⟨"WideMap$Marked", "many", "()I"⟩) (by decide +kernel)) (by decide +kernel) ⟨hF, hLo⟩) (cw_pV hK hR hS (cw_rc (k := 2) (C := RX8) (T := TX8) (N := 4) rfl (by decide) hK hR hkd)) rfl rfl hsz rfl (lv_room hrest) hdg ⟨hc, hs⟩) hS (fun q _ h => h) (fun q h => h) (fun r' u t H1 locs1 ht hvm hw hB hz1 hk1 hS1 => by subst hw; rw [ht] at hB; exact kk H1 locs1 hB hS1)
theorem c7i_many {D : cw_D} {a0 : Nat} {r : Int32} (X : ww_C p m c cc nL s args RX7 lw_all) (hsz : ls.size = nL) (hK : cw_K E A s) (hR : cw_H E A D H) (hS : va_S A s.heap H locs) (hF : 1 ≤ R.frames) (hLo : 20 ≤ R.locals) (hc : cells ≤ R.cells) (hs : slots ≤ R.slots) (hkd2 : cw_kd D [1, 2] (some a0) = true) (hf : f6_many D a0 = some r) (hrest : (rest.map fun v => v.category).sum ≤ 8) {count : Nat} (hdg : decode cc pc = .ok (.invokeinterface 46 count, 5)) (kk : ∀ (H1 : Heap) (locs1 : List Loc), cw_H E A D H1 → va_S A s.heap H1 locs1 → W p l e R s m args below meth c H1 locs1 cells slots Q (F0 m (pc + 5) ls (.int r :: rest))) : W p l e R s m args below meth c H locs cells slots Q (F0 m pc ls (.ref a0 :: rest)) := by
  rcases cw_kd2 hkd2 with hkd | hkd
  · exact va_callFi (va_runF (C := RX7) (x := ⟨"WideMap$Node", "many", "()I"⟩) (As := []) (rest := rest) (b := a0) (cw_cls (k := 1) (C := RX7) (T := TX7) (N := 5) rfl hK) X (met6_many l _ _ _ hf) (va_cwF 0 X.2.2.2.2 (cw_F q1299 q910 q907 q153 q909) rfl rfl rfl (hK.2.2.2.1 ("WideMap$Leaf", ⟨"WideMap$Node", "many", "()I"⟩, ⟨"WideMap$Marked", "many", "()I"⟩) (by decide +kernel)) (by decide +kernel) ⟨hF, hLo⟩) (cw_pV hK hR hS (cw_rc (k := 1) (C := RX7) (T := TX7) (N := 5) rfl (by decide) hK hR hkd)) rfl rfl hsz rfl (lv_room hrest) hdg ⟨hc, hs⟩) hS (fun q _ h => h) (fun q h => h) (fun r' u t H1 locs1 ht hvm hw hB hz1 hk1 hS1 => by subst hw; rw [ht] at hB; exact kk H1 locs1 hB hS1)
  · exact va_callFi (va_runF (C := RX8) (x := ⟨"WideMap$Node", "many", "()I"⟩) (As := []) (rest := rest) (b := a0) (cw_cls (k := 2) (C := RX8) (T := TX8) (N := 4) rfl hK) X (met6_many l _ _ _ hf) (va_cwF 0 X.2.2.2.2 (cw_F q1299 q905 q907 q153 q909) rfl rfl rfl (hK.2.2.2.1 ("WideMap$Inner", ⟨"WideMap$Node", "many", "()I"⟩, ⟨"WideMap$Marked", "many", "()I"⟩) (by decide +kernel)) (by decide +kernel) ⟨hF, hLo⟩) (cw_pV hK hR hS (cw_rc (k := 2) (C := RX8) (T := TX8) (N := 4) rfl (by decide) hK hR hkd)) rfl rfl hsz rfl (lv_room hrest) hdg ⟨hc, hs⟩) hS (fun q _ h => h) (fun q h => h) (fun r' u t H1 locs1 ht hvm hw hB hz1 hk1 hS1 => by subst hw; rw [ht] at hB; exact kk H1 locs1 hB hS1)
theorem c8i_many {D : cw_D} {a0 : Nat} {r : Int32} (X : ww_C p m c cc nL s args RX8 lw_all) (hsz : ls.size = nL) (hK : cw_K E A s) (hR : cw_H E A D H) (hS : va_S A s.heap H locs) (hF : 1 ≤ R.frames) (hLo : 20 ≤ R.locals) (hc : cells ≤ R.cells) (hs : slots ≤ R.slots) (hkd2 : cw_kd D [1, 2] (some a0) = true) (hf : f6_many D a0 = some r) (hrest : (rest.map fun v => v.category).sum ≤ 8) {count : Nat} (hdg : decode cc pc = .ok (.invokeinterface 52 count, 5)) (kk : ∀ (H1 : Heap) (locs1 : List Loc), cw_H E A D H1 → va_S A s.heap H1 locs1 → W p l e R s m args below meth c H1 locs1 cells slots Q (F0 m (pc + 5) ls (.int r :: rest))) : W p l e R s m args below meth c H locs cells slots Q (F0 m pc ls (.ref a0 :: rest)) := by
  rcases cw_kd2 hkd2 with hkd | hkd
  · exact va_callFi (va_runF (C := RX7) (x := ⟨"WideMap$Node", "many", "()I"⟩) (As := []) (rest := rest) (b := a0) (cw_cls (k := 1) (C := RX7) (T := TX7) (N := 5) rfl hK) X (met6_many l _ _ _ hf) (va_cwF 0 X.2.2.2.2 (cw_F q1245 q910 q907 q153 q909) rfl rfl rfl (hK.2.2.2.1 ("WideMap$Leaf", ⟨"WideMap$Node", "many", "()I"⟩, ⟨"WideMap$Marked", "many", "()I"⟩) (by decide +kernel)) (by decide +kernel) ⟨hF, hLo⟩) (cw_pV hK hR hS (cw_rc (k := 1) (C := RX7) (T := TX7) (N := 5) rfl (by decide) hK hR hkd)) rfl rfl hsz rfl (lv_room hrest) hdg ⟨hc, hs⟩) hS (fun q _ h => h) (fun q h => h) (fun r' u t H1 locs1 ht hvm hw hB hz1 hk1 hS1 => by subst hw; rw [ht] at hB; exact kk H1 locs1 hB hS1)
  · exact va_callFi (va_runF (C := RX8) (x := ⟨"WideMap$Node", "many", "()I"⟩) (As := []) (rest := rest) (b := a0) (cw_cls (k := 2) (C := RX8) (T := TX8) (N := 4) rfl hK) X (met6_many l _ _ _ hf) (va_cwF 0 X.2.2.2.2 (cw_F q1245 q905 q907 q153 q909) rfl rfl rfl (hK.2.2.2.1 ("WideMap$Inner", ⟨"WideMap$Node", "many", "()I"⟩, ⟨"WideMap$Marked", "many", "()I"⟩) (by decide +kernel)) (by decide +kernel) ⟨hF, hLo⟩) (cw_pV hK hR hS (cw_rc (k := 2) (C := RX8) (T := TX8) (N := 4) rfl (by decide) hK hR hkd)) rfl rfl hsz rfl (lv_room hrest) hdg ⟨hc, hs⟩) hS (fun q _ h => h) (fun q h => h) (fun r' u t H1 locs1 ht hvm hw hB hz1 hk1 hS1 => by subst hw; rw [ht] at hB; exact kk H1 locs1 hB hS1)
end C_6_many_i
noncomputable def f6_token (D : cw_D) (a0 : Nat) : Option (Option Nat) :=
  ww_b (cw_gR D [1, 2] a0 0) (fun r_1 => some r_1)
set_option maxHeartbeats 4000000 in
set_option maxRecDepth 100000 in
theorem met6_token (l : Launch) {E : cw_E} {A : Nat → Prop} (D : cw_D) (a0 : Nat) (r : Option Nat) (hf : f6_token D a0 = some r) : cw_MetQ l yX6_token cX6_token 1 (some (Jvm.ClassFile.FieldType.object "WideMap$Token")) 0 0 E A [.ref a0] D D r 0 0 := by
  unfold f6_token at hf
  refine cw_sQP (own := RX6) (by decide +kernel) [(0, .ref a0)] ⟨Nat.le_of_ble_eq_true rfl, rfl⟩ ?_
  intro p e s m args below meth c Rm Q X hK hF hLo hin hend ls hl hR hS
  obtain ⟨hx, hb, hml, hown, hts⟩ := id X
  refine lv_aload_n hx hb dX6_token_0 rfl (lv_at hl 0 rfl) ?_
  obtain ⟨r_1, h_1, hq⟩ := ww_bS hf; replace hf := hq; clear hq
  refine c6g_7 X hK hR h_1 dX6_token_1 ?_
  exact hend (v := r_1) dX6_token_4 rfl (Or.inl ⟨_, rfl⟩) hf hR hS
section C_6_token_i
variable {p : Program} {l : Launch} {e : Env} {R : Room} {s : State} {m : MethodId} {args : Array Value} {below : List Frame} {meth : Method} {c : Code} {H : Heap} {locs : List Loc} {cells slots : Nat} {Q : State → Prop}
variable {cc : ByteArray} {pc : Nat} {ls : Array Slot} {rest : List Value} {nL : Nat} {E : cw_E} {A : Nat → Prop} {H0 : Heap}
theorem c5i_token {D : cw_D} {a0 : Nat} {r : Option Nat} (X : ww_C p m c cc nL s args RX5 lw_all) (hsz : ls.size = nL) (hK : cw_K E A s) (hR : cw_H E A D H) (hS : va_S A s.heap H locs) (hF : 1 ≤ R.frames) (hLo : 20 ≤ R.locals) (hc : cells ≤ R.cells) (hs : slots ≤ R.slots) (hkd2 : cw_kd D [1, 2] (some a0) = true) (hf : f6_token D a0 = some r) (hrest : (rest.map fun v => v.category).sum ≤ 8) {count : Nat} (hdg : decode cc pc = .ok (.invokeinterface 24 count, 5)) (kk : ∀ (H1 : Heap) (locs1 : List Loc), cw_H E A D H1 → va_S A s.heap H1 locs1 → W p l e R s m args below meth c H1 locs1 cells slots Q (F0 m (pc + 5) ls (va_rf r :: rest))) : W p l e R s m args below meth c H locs cells slots Q (F0 m pc ls (.ref a0 :: rest)) := by
  rcases cw_kd2 hkd2 with hkd | hkd
  · exact va_callFq (va_runF (C := RX7) (x := ⟨"WideMap$Node", "token", "()LWideMap$Token;"⟩) (As := []) (rest := rest) (b := a0) (cw_cls (k := 1) (C := RX7) (T := TX7) (N := 5) rfl hK) X (met6_token l _ _ _ hf) (va_cwF 0 X.2.2.2.2 (cw_F q992 q1000 q997 q153 q999) rfl rfl rfl (hK.2.2.2.1 ("WideMap$Leaf", ⟨"WideMap$Node", "token", "()LWideMap$Token;"⟩, ⟨"WideMap$Marked", "token", "()LWideMap$Token;"⟩) (by decide +kernel)) (by decide +kernel) ⟨hF, hLo⟩) (cw_pV hK hR hS (cw_rc (k := 1) (C := RX7) (T := TX7) (N := 5) rfl (by decide) hK hR hkd)) rfl rfl hsz rfl (lv_room hrest) hdg ⟨hc, hs⟩) hS (fun q _ h => h) (fun q h => h) (fun r' u t H1 locs1 ht hvm hw hB hz1 hk1 hS1 => by subst hw; rw [ht] at hB; exact kk H1 locs1 hB hS1)
  · exact va_callFq (va_runF (C := RX8) (x := ⟨"WideMap$Node", "token", "()LWideMap$Token;"⟩) (As := []) (rest := rest) (b := a0) (cw_cls (k := 2) (C := RX8) (T := TX8) (N := 4) rfl hK) X (met6_token l _ _ _ hf) (va_cwF 0 X.2.2.2.2 (cw_F q992 q995 q997 q153 q999) rfl rfl rfl (hK.2.2.2.1 ("WideMap$Inner", ⟨"WideMap$Node", "token", "()LWideMap$Token;"⟩, ⟨"WideMap$Marked", "token", "()LWideMap$Token;"⟩) (by decide +kernel)) (by decide +kernel) ⟨hF, hLo⟩) (cw_pV hK hR hS (cw_rc (k := 2) (C := RX8) (T := TX8) (N := 4) rfl (by decide) hK hR hkd)) rfl rfl hsz rfl (lv_room hrest) hdg ⟨hc, hs⟩) hS (fun q _ h => h) (fun q h => h) (fun r' u t H1 locs1 ht hvm hw hB hz1 hk1 hS1 => by subst hw; rw [ht] at hB; exact kk H1 locs1 hB hS1)
end C_6_token_i
noncomputable def f6_isStamped (D : cw_D) (a0 : Nat) (x1 : Int32) : Option (Int32) :=
  ww_b (cw_gI D [1, 2] a0 2) (fun r_1 => if r_1 = x1 then some (1 : Int32) else some (0 : Int32))
set_option maxHeartbeats 4000000 in
set_option maxRecDepth 100000 in
theorem met6_isStamped (l : Launch) {E : cw_E} {A : Nat → Prop} (D : cw_D) (a0 : Nat) (x1 : Int32) (r : Int32) (hf : f6_isStamped D a0 x1 = some r) : cw_MetI l yX6_isStamped cX6_isStamped 2 (some Jvm.ClassFile.FieldType.boolean) 0 0 E A [.ref a0, .int x1] D D r 0 0 := by
  unfold f6_isStamped at hf
  refine cw_sIP (own := RX6) (by decide +kernel) [(0, .ref a0), (1, .int x1)] ⟨Nat.le_of_ble_eq_true rfl, rfl⟩ ?_
  intro p e s m args below meth c Rm Q X hK hF hLo hin hend ls hl hR hS
  obtain ⟨hx, hb, hml, hown, hts⟩ := id X
  refine lv_aload_n hx hb dX6_isStamped_0 rfl (lv_at hl 0 rfl) ?_
  obtain ⟨r_1, h_1, hq⟩ := ww_bS hf; replace hf := hq; clear hq
  refine c6g_17 X hK hR h_1 dX6_isStamped_1 ?_
  refine lv_iload_n hx hb dX6_isStamped_4 rfl (lv_at hl 1 rfl) ?_
  refine lv_icmp_ne (tgt := 12) hx hb dX6_isStamped_5 (by decide) (fun c_2 => ?_) (fun c_2 => ?_)
  · replace hf := ww_in hf c_2
    refine lv_iconst (v := (0 : Int32)) hx hb dX6_isStamped_12 (by decide) ?_
    exact hend dX6_isStamped_13 rfl (by decide) hf hR hS
  · replace hf := ww_ip hf c_2
    refine lv_iconst (v := (1 : Int32)) hx hb dX6_isStamped_8 (by decide) ?_
    refine lv_goto (tgt := 13) hx hb dX6_isStamped_9 (by decide) ?_
    exact hend dX6_isStamped_13 rfl (by decide) hf hR hS
section C_6_isStamped_i
variable {p : Program} {l : Launch} {e : Env} {R : Room} {s : State} {m : MethodId} {args : Array Value} {below : List Frame} {meth : Method} {c : Code} {H : Heap} {locs : List Loc} {cells slots : Nat} {Q : State → Prop}
variable {cc : ByteArray} {pc : Nat} {ls : Array Slot} {rest : List Value} {nL : Nat} {E : cw_E} {A : Nat → Prop} {H0 : Heap}
theorem c1i_isStamped {D : cw_D} {a0 : Nat} {x1 : Int32} {r : Int32} (X : ww_C p m c cc nL s args RX1 lw_all) (hsz : ls.size = nL) (hK : cw_K E A s) (hR : cw_H E A D H) (hS : va_S A s.heap H locs) (hF : 1 ≤ R.frames) (hLo : 21 ≤ R.locals) (hc : cells ≤ R.cells) (hs : slots ≤ R.slots) (hkd2 : cw_kd D [1, 2] (some a0) = true) (hf : f6_isStamped D a0 x1 = some r) (hrest : (rest.map fun v => v.category).sum ≤ 8) {count : Nat} (hdg : decode cc pc = .ok (.invokeinterface 377 count, 5)) (kk : ∀ (H1 : Heap) (locs1 : List Loc), cw_H E A D H1 → va_S A s.heap H1 locs1 → W p l e R s m args below meth c H1 locs1 cells slots Q (F0 m (pc + 5) ls (.int r :: rest))) : W p l e R s m args below meth c H locs cells slots Q (F0 m pc ls (.int x1 :: .ref a0 :: rest)) := by
  rcases cw_kd2 hkd2 with hkd | hkd
  · exact va_callFi (va_runF (C := RX7) (x := ⟨"WideMap$Node", "isStamped", "(I)Z"⟩) (As := [.int x1]) (rest := rest) (b := a0) (cw_cls (k := 1) (C := RX7) (T := TX7) (N := 5) rfl hK) X (met6_isStamped l _ _ _ _ hf) (va_cwF 1 X.2.2.2.2 (cw_F q1317 q1126 q1123 q153 q1125) rfl rfl rfl (hK.2.2.2.1 ("WideMap$Leaf", ⟨"WideMap$Node", "isStamped", "(I)Z"⟩, ⟨"WideMap$Marked", "isStamped", "(I)Z"⟩) (by decide +kernel)) (by decide +kernel) ⟨hF, hLo⟩) (cw_pV hK hR hS (cw_rc (k := 1) (C := RX7) (T := TX7) (N := 5) rfl (by decide) hK hR hkd)) rfl rfl hsz rfl (lv_room hrest) hdg ⟨hc, hs⟩) hS (fun q _ h => h) (fun q h => h) (fun r' u t H1 locs1 ht hvm hw hB hz1 hk1 hS1 => by subst hw; rw [ht] at hB; exact kk H1 locs1 hB hS1)
  · exact va_callFi (va_runF (C := RX8) (x := ⟨"WideMap$Node", "isStamped", "(I)Z"⟩) (As := [.int x1]) (rest := rest) (b := a0) (cw_cls (k := 2) (C := RX8) (T := TX8) (N := 4) rfl hK) X (met6_isStamped l _ _ _ _ hf) (va_cwF 1 X.2.2.2.2 (cw_F q1317 q1121 q1123 q153 q1125) rfl rfl rfl (hK.2.2.2.1 ("WideMap$Inner", ⟨"WideMap$Node", "isStamped", "(I)Z"⟩, ⟨"WideMap$Marked", "isStamped", "(I)Z"⟩) (by decide +kernel)) (by decide +kernel) ⟨hF, hLo⟩) (cw_pV hK hR hS (cw_rc (k := 2) (C := RX8) (T := TX8) (N := 4) rfl (by decide) hK hR hkd)) rfl rfl hsz rfl (lv_room hrest) hdg ⟨hc, hs⟩) hS (fun q _ h => h) (fun q h => h) (fun r' u t H1 locs1 ht hvm hw hB hz1 hk1 hS1 => by subst hw; rw [ht] at hB; exact kk H1 locs1 hB hS1)
theorem c5i_isStamped {D : cw_D} {a0 : Nat} {x1 : Int32} {r : Int32} (X : ww_C p m c cc nL s args RX5 lw_all) (hsz : ls.size = nL) (hK : cw_K E A s) (hR : cw_H E A D H) (hS : va_S A s.heap H locs) (hF : 1 ≤ R.frames) (hLo : 21 ≤ R.locals) (hc : cells ≤ R.cells) (hs : slots ≤ R.slots) (hkd2 : cw_kd D [1, 2] (some a0) = true) (hf : f6_isStamped D a0 x1 = some r) (hrest : (rest.map fun v => v.category).sum ≤ 8) {count : Nat} (hdg : decode cc pc = .ok (.invokeinterface 53 count, 5)) (kk : ∀ (H1 : Heap) (locs1 : List Loc), cw_H E A D H1 → va_S A s.heap H1 locs1 → W p l e R s m args below meth c H1 locs1 cells slots Q (F0 m (pc + 5) ls (.int r :: rest))) : W p l e R s m args below meth c H locs cells slots Q (F0 m pc ls (.int x1 :: .ref a0 :: rest)) := by
  rcases cw_kd2 hkd2 with hkd | hkd
  · exact va_callFi (va_runF (C := RX7) (x := ⟨"WideMap$Node", "isStamped", "(I)Z"⟩) (As := [.int x1]) (rest := rest) (b := a0) (cw_cls (k := 1) (C := RX7) (T := TX7) (N := 5) rfl hK) X (met6_isStamped l _ _ _ _ hf) (va_cwF 1 X.2.2.2.2 (cw_F q1118 q1126 q1123 q153 q1125) rfl rfl rfl (hK.2.2.2.1 ("WideMap$Leaf", ⟨"WideMap$Node", "isStamped", "(I)Z"⟩, ⟨"WideMap$Marked", "isStamped", "(I)Z"⟩) (by decide +kernel)) (by decide +kernel) ⟨hF, hLo⟩) (cw_pV hK hR hS (cw_rc (k := 1) (C := RX7) (T := TX7) (N := 5) rfl (by decide) hK hR hkd)) rfl rfl hsz rfl (lv_room hrest) hdg ⟨hc, hs⟩) hS (fun q _ h => h) (fun q h => h) (fun r' u t H1 locs1 ht hvm hw hB hz1 hk1 hS1 => by subst hw; rw [ht] at hB; exact kk H1 locs1 hB hS1)
  · exact va_callFi (va_runF (C := RX8) (x := ⟨"WideMap$Node", "isStamped", "(I)Z"⟩) (As := [.int x1]) (rest := rest) (b := a0) (cw_cls (k := 2) (C := RX8) (T := TX8) (N := 4) rfl hK) X (met6_isStamped l _ _ _ _ hf) (va_cwF 1 X.2.2.2.2 (cw_F q1118 q1121 q1123 q153 q1125) rfl rfl rfl (hK.2.2.2.1 ("WideMap$Inner", ⟨"WideMap$Node", "isStamped", "(I)Z"⟩, ⟨"WideMap$Marked", "isStamped", "(I)Z"⟩) (by decide +kernel)) (by decide +kernel) ⟨hF, hLo⟩) (cw_pV hK hR hS (cw_rc (k := 2) (C := RX8) (T := TX8) (N := 4) rfl (by decide) hK hR hkd)) rfl rfl hsz rfl (lv_room hrest) hdg ⟨hc, hs⟩) hS (fun q _ h => h) (fun q h => h) (fun r' u t H1 locs1 ht hvm hw hB hz1 hk1 hS1 => by subst hw; rw [ht] at hB; exact kk H1 locs1 hB hS1)
end C_6_isStamped_i
noncomputable def f6_stamp (D : cw_D) (a0 : Nat) (x1 : Int32) : Option (cw_D) :=
  ww_b (cw_p D [1, 2] a0 2 (.int x1)) (fun D_1 => some D_1)
set_option maxHeartbeats 4000000 in
set_option maxRecDepth 100000 in
theorem met6_stamp (l : Launch) {E : cw_E} {A : Nat → Prop} (D : cw_D) (a0 : Nat) (x1 : Int32) (D' : cw_D) (hf : f6_stamp D a0 x1 = some D') : cw_MetV l yX6_stamp cX6_stamp 2 0 0 E A [.ref a0, .int x1] D D' 0 0 := by
  unfold f6_stamp at hf
  refine cw_sVD (own := RX6) (by decide +kernel) [(0, .ref a0), (1, .int x1)] ⟨Nat.le_of_ble_eq_true rfl, rfl⟩ ?_
  intro p e s m args below meth c Rm Q X hK hF hLo hin hend ls hl hR hS
  obtain ⟨hx, hb, hml, hown, hts⟩ := id X
  refine lv_aload_n hx hb dX6_stamp_0 rfl (lv_at hl 0 rfl) ?_
  refine lv_iload_n hx hb dX6_stamp_1 rfl (lv_at hl 1 rfl) ?_
  obtain ⟨D_1, h_1, hq⟩ := ww_bS hf; replace hf := hq; clear hq
  refine c6p_17 X hK hR hS h_1 dX6_stamp_2 (fun H locs hR hS => ?_)
  exact hend dX6_stamp_5 hf hR hS
section C_6_stamp_i
variable {p : Program} {l : Launch} {e : Env} {R : Room} {s : State} {m : MethodId} {args : Array Value} {below : List Frame} {meth : Method} {c : Code} {H : Heap} {locs : List Loc} {cells slots : Nat} {Q : State → Prop}
variable {cc : ByteArray} {pc : Nat} {ls : Array Slot} {rest : List Value} {nL : Nat} {E : cw_E} {A : Nat → Prop} {H0 : Heap}
theorem c5i_stamp {D : cw_D} {a0 : Nat} {x1 : Int32} {D' : cw_D} (X : ww_C p m c cc nL s args RX5 lw_all) (hsz : ls.size = nL) (hK : cw_K E A s) (hR : cw_H E A D H) (hS : va_S A s.heap H locs) (hF : 1 ≤ R.frames) (hLo : 21 ≤ R.locals) (hc : cells ≤ R.cells) (hs : slots ≤ R.slots) (hkd2 : cw_kd D [1, 2] (some a0) = true) (hf : f6_stamp D a0 x1 = some D') (hrest : (rest.map fun v => v.category).sum ≤ 8) {count : Nat} (hdg : decode cc pc = .ok (.invokeinterface 57 count, 5)) (kk : ∀ (H1 : Heap) (locs1 : List Loc), cw_H E A D' H1 → va_S A s.heap H1 locs1 → W p l e R s m args below meth c H1 locs1 cells slots Q (F0 m (pc + 5) ls (rest))) : W p l e R s m args below meth c H locs cells slots Q (F0 m pc ls (.int x1 :: .ref a0 :: rest)) := by
  rcases cw_kd2 hkd2 with hkd | hkd
  · exact va_callFv (va_runF (C := RX7) (x := ⟨"WideMap$Node", "stamp", "(I)V"⟩) (As := [.int x1]) (rest := rest) (b := a0) (cw_cls (k := 1) (C := RX7) (T := TX7) (N := 5) rfl hK) X (met6_stamp l _ _ _ _ hf) (va_cwF 1 X.2.2.2.2 (cw_F q1129 q1137 q1134 q153 q1136) rfl rfl rfl (hK.2.2.2.1 ("WideMap$Leaf", ⟨"WideMap$Node", "stamp", "(I)V"⟩, ⟨"WideMap$Marked", "stamp", "(I)V"⟩) (by decide +kernel)) (by decide +kernel) ⟨hF, hLo⟩) (cw_pV hK hR hS (cw_rc (k := 1) (C := RX7) (T := TX7) (N := 5) rfl (by decide) hK hR hkd)) rfl rfl hsz rfl (lv_room hrest) hdg ⟨hc, hs⟩) hS (fun q _ h => h) (fun q h => h) (fun u t H1 locs1 ht hvm hw hB hz1 hk1 hS1 => by rw [ht] at hB; exact kk H1 locs1 hB hS1)
  · exact va_callFv (va_runF (C := RX8) (x := ⟨"WideMap$Node", "stamp", "(I)V"⟩) (As := [.int x1]) (rest := rest) (b := a0) (cw_cls (k := 2) (C := RX8) (T := TX8) (N := 4) rfl hK) X (met6_stamp l _ _ _ _ hf) (va_cwF 1 X.2.2.2.2 (cw_F q1129 q1132 q1134 q153 q1136) rfl rfl rfl (hK.2.2.2.1 ("WideMap$Inner", ⟨"WideMap$Node", "stamp", "(I)V"⟩, ⟨"WideMap$Marked", "stamp", "(I)V"⟩) (by decide +kernel)) (by decide +kernel) ⟨hF, hLo⟩) (cw_pV hK hR hS (cw_rc (k := 2) (C := RX8) (T := TX8) (N := 4) rfl (by decide) hK hR hkd)) rfl rfl hsz rfl (lv_room hrest) hdg ⟨hc, hs⟩) hS (fun q _ h => h) (fun q h => h) (fun u t H1 locs1 ht hvm hw hB hz1 hk1 hS1 => by rw [ht] at hB; exact kk H1 locs1 hB hS1)
end C_6_stamp_i
noncomputable def f7_init (D : cw_D) (a0 : Nat) (x1 : Option Nat) (x2 : Int32) : Option (cw_D × Nat × Nat) :=
  ww_b (f6_init D a0 x1) (fun D_1 => ww_g (ww_i (x2 + (1 : Int32)) 100000000) (ww_b (cw_p (cw_nA D_1 20 (x2 + (1 : Int32)).toNatClampNeg) [1] a0 3 (va_rf (some D_1.2.2))) (fun D_3 => ww_g (ww_i (x2 + (1 : Int32)) 100000000) (ww_b (cw_p (cw_nA D_3 20 (x2 + (1 : Int32)).toNatClampNeg) [1] a0 4 (va_rf (some D_3.2.2))) (fun D_5 => some (D_5, ((0 + 1) + 1), ((0 + (x2 + (1 : Int32)).toNatClampNeg) + (x2 + (1 : Int32)).toNatClampNeg)))))))
section C_7_init_k
variable {p : Program} {l : Launch} {e : Env} {R : Room} {s : State} {m : MethodId} {args : Array Value} {below : List Frame} {meth : Method} {c : Code} {H : Heap} {locs : List Loc} {cells slots : Nat} {Q : State → Prop}
variable {cc : ByteArray} {pc : Nat} {ls : Array Slot} {rest : List Value} {nL : Nat} {E : cw_E} {A : Nat → Prop} {H0 : Heap}
theorem c5k_7_init {D : cw_D} {a0 : Nat} {x1 : Option Nat} {x2 : Int32} {D' : cw_D} {nc ns : Nat} (X : ww_C p m c cc nL s args RX5 lw_all) (hsz : ls.size = nL) (hK : cw_K E A s) (hR : cw_H E A D H) (hS : va_S A s.heap H locs) (hF : 3 ≤ R.frames) (hLo : 83 ≤ R.locals) (hc : cells + nc ≤ R.cells) (hs : slots + ns ≤ R.slots) (hM : cw_MetV l yX7_init cX7_init 3 2 61 E A [.ref a0, va_rf x1, .int x2] D D' nc ns) (hrest : (rest.map fun v => v.category).sum ≤ 8) (hdg : decode cc pc = .ok (.invokespecial 9, 3)) (kk : ∀ (H1 : Heap) (locs1 : List Loc), cw_H E A D' H1 → va_S A s.heap H1 locs1 → W p l e R s m args below meth c H1 locs1 (cells + nc) (slots + ns) Q (F0 m (pc + 3) ls (rest))) : W p l e R s m args below meth c H locs cells slots Q (F0 m pc ls (.int x2 :: va_rf x1 :: .ref a0 :: rest)) :=
  va_callv (va_runI (As := [va_rf x1, .int x2]) (rest := rest) (b := a0) X hM (cwI 2 X.2.2.2.2 (lw_meth q841) rfl rfl rfl (X.2.2.2.2 _ q154) (X.2.2.2.2 _ q839) (X.2.2.2.2 _ q840) rfl (by decide +kernel) ⟨hF, hLo⟩) (cw_pS hK hR hS) rfl rfl hsz rfl (lv_room hrest) hdg ⟨hc, hs⟩) hS (fun q _ h => h) (fun q h => h) (fun u t H1 locs1 ht hvm hw hB hz1 hk1 hS1 => by rw [ht] at hB; exact kk H1 locs1 hB hS1)
theorem c7k_7_init {D : cw_D} {a0 : Nat} {x1 : Option Nat} {x2 : Int32} {D' : cw_D} {nc ns : Nat} (X : ww_C p m c cc nL s args RX7 lw_all) (hsz : ls.size = nL) (hK : cw_K E A s) (hR : cw_H E A D H) (hS : va_S A s.heap H locs) (hF : 3 ≤ R.frames) (hLo : 83 ≤ R.locals) (hc : cells + nc ≤ R.cells) (hs : slots + ns ≤ R.slots) (hM : cw_MetV l yX7_init cX7_init 3 2 61 E A [.ref a0, va_rf x1, .int x2] D D' nc ns) (hrest : (rest.map fun v => v.category).sum ≤ 8) (hdg : decode cc pc = .ok (.invokespecial 22, 3)) (kk : ∀ (H1 : Heap) (locs1 : List Loc), cw_H E A D' H1 → va_S A s.heap H1 locs1 → W p l e R s m args below meth c H1 locs1 (cells + nc) (slots + ns) Q (F0 m (pc + 3) ls (rest))) : W p l e R s m args below meth c H locs cells slots Q (F0 m pc ls (.int x2 :: va_rf x1 :: .ref a0 :: rest)) :=
  va_callv (va_runI (As := [va_rf x1, .int x2]) (rest := rest) (b := a0) X hM (cwI 2 X.2.2.2.2 (lw_meth q841) rfl rfl rfl (X.2.2.2.2 _ q154) (X.2.2.2.2 _ q1033) (X.2.2.2.2 _ q840) rfl (by decide +kernel) ⟨hF, hLo⟩) (cw_pS hK hR hS) rfl rfl hsz rfl (lv_room hrest) hdg ⟨hc, hs⟩) hS (fun q _ h => h) (fun q h => h) (fun u t H1 locs1 ht hvm hw hB hz1 hk1 hS1 => by rw [ht] at hB; exact kk H1 locs1 hB hS1)
end C_7_init_k
set_option maxHeartbeats 4000000 in
set_option maxRecDepth 100000 in
theorem met7_init (l : Launch) {E : cw_E} {A : Nat → Prop} (D : cw_D) (a0 : Nat) (x1 : Option Nat) (x2 : Int32) (D' : cw_D) (nc ns : Nat) (hf : f7_init D a0 x1 x2 = some (D', nc, ns)) : cw_MetV l yX7_init cX7_init 3 2 61 E A [.ref a0, va_rf x1, .int x2] D D' nc ns := by
  unfold f7_init at hf
  refine cw_sVN (own := RX7) (by decide +kernel) [(0, .ref a0), (1, va_rf x1), (2, .int x2)] ⟨by cases x1 <;> exact Nat.le_of_ble_eq_true rfl, by cases x1 <;> rfl⟩ ?_
  intro p e s m args below meth c Rm Q X hK hF hLo hC hin hend ls hl hR hS
  obtain ⟨hx, hb, hml, hown, hts⟩ := id X
  have hm9 : 0 ≤ nc ∧ 0 ≤ ns := ⟨Nat.zero_le _, Nat.zero_le _⟩
  refine lv_aload_n hx hb dX7_init_0 rfl (lv_at hl 0 rfl) ?_
  refine cw_aload_n (x := x1) hx hb dX7_init_1 rfl (lv_at hl 1 rfl) ?_
  obtain ⟨D_1, h_1, hq⟩ := ww_bS hf; replace hf := hq; clear hq
  refine c7c_6_init (x1 := x1) X hl.1 hK hR hS (Nat.le_trans (Nat.le_of_ble_eq_true rfl) hF) (Nat.le_trans (Nat.le_of_ble_eq_true rfl) hLo) (Nat.le_trans hm9.1 hC.1) (Nat.le_trans hm9.2 hC.2) h_1 (cw_rest (Nat.le_of_ble_eq_true rfl)) dX7_init_2 (fun H locs hR hS => ?_)
  refine lv_aload_n hx hb dX7_init_5 rfl (lv_at hl 0 rfl) ?_
  refine lv_iload_n hx hb dX7_init_6 rfl (lv_at hl 2 rfl) ?_
  refine lv_iconst (v := (1 : Int32)) hx hb dX7_init_7 (by decide) ?_
  refine lv_iadd hx hb dX7_init_8 ?_
  obtain ⟨h_2, hq⟩ := ww_gS hf; replace hf := hq; clear hq
  have hm9 : (0 + 1) ≤ nc ∧ (0 + (x2 + (1 : Int32)).toNatClampNeg) ≤ ns := by
    obtain ⟨D_3, h_3, hq⟩ := ww_bS hf; replace hf := hq; clear hq
    obtain ⟨h_4, hq⟩ := ww_gS hf; replace hf := hq; clear hq
    obtain ⟨D_5, h_5, hq⟩ := ww_bS hf; replace hf := hq; clear hq
    have e9 := hf
    simp only [Option.some.injEq, Prod.mk.injEq] at e9
    omega
  refine cw_onewa (kd := 20) X hK hR hS (by decide) h_2 rfl (Nat.le_trans hm9.1 hC.1) (Nat.le_trans hm9.2 hC.2) dX7_init_9 q361 (fun H hR hS => ?_)
  obtain ⟨D_3, h_3, hq⟩ := ww_bS hf; replace hf := hq; clear hq
  refine c7p_9 (v := (some D_1.2.2)) X hK hR hS h_3 dX7_init_11 hin (fun H locs hR hS => ?_)
  refine lv_aload_n hx hb dX7_init_14 rfl (lv_at hl 0 rfl) ?_
  refine lv_iload_n hx hb dX7_init_15 rfl (lv_at hl 2 rfl) ?_
  refine lv_iconst (v := (1 : Int32)) hx hb dX7_init_16 (by decide) ?_
  refine lv_iadd hx hb dX7_init_17 ?_
  obtain ⟨h_4, hq⟩ := ww_gS hf; replace hf := hq; clear hq
  have hm9 : ((0 + 1) + 1) ≤ nc ∧ ((0 + (x2 + (1 : Int32)).toNatClampNeg) + (x2 + (1 : Int32)).toNatClampNeg) ≤ ns := by
    obtain ⟨D_5, h_5, hq⟩ := ww_bS hf; replace hf := hq; clear hq
    have e9 := hf
    simp only [Option.some.injEq, Prod.mk.injEq] at e9
    omega
  refine cw_onewa (kd := 20) X hK hR hS (by decide) h_4 rfl (Nat.le_trans hm9.1 hC.1) (Nat.le_trans hm9.2 hC.2) dX7_init_18 q361 (fun H hR hS => ?_)
  obtain ⟨D_5, h_5, hq⟩ := ww_bS hf; replace hf := hq; clear hq
  refine c7p_15 (v := (some D_3.2.2)) X hK hR hS h_5 dX7_init_20 hin (fun H locs hR hS => ?_)
  exact hend dX7_init_23 hf hR hS
section C_7_init_c
variable {p : Program} {l : Launch} {e : Env} {R : Room} {s : State} {m : MethodId} {args : Array Value} {below : List Frame} {meth : Method} {c : Code} {H : Heap} {locs : List Loc} {cells slots : Nat} {Q : State → Prop}
variable {cc : ByteArray} {pc : Nat} {ls : Array Slot} {rest : List Value} {nL : Nat} {E : cw_E} {A : Nat → Prop} {H0 : Heap}
theorem c5c_7_init {D : cw_D} {a0 : Nat} {x1 : Option Nat} {x2 : Int32} {D' : cw_D} {nc ns : Nat} (X : ww_C p m c cc nL s args RX5 lw_all) (hsz : ls.size = nL) (hK : cw_K E A s) (hR : cw_H E A D H) (hS : va_S A s.heap H locs) (hF : 3 ≤ R.frames) (hLo : 83 ≤ R.locals) (hc : cells + nc ≤ R.cells) (hs : slots + ns ≤ R.slots) (hf : f7_init D a0 x1 x2 = some (D', nc, ns)) (hrest : (rest.map fun v => v.category).sum ≤ 8) (hdg : decode cc pc = .ok (.invokespecial 9, 3)) (kk : ∀ (H1 : Heap) (locs1 : List Loc), cw_H E A D' H1 → va_S A s.heap H1 locs1 → W p l e R s m args below meth c H1 locs1 (cells + nc) (slots + ns) Q (F0 m (pc + 3) ls (rest))) : W p l e R s m args below meth c H locs cells slots Q (F0 m pc ls (.int x2 :: va_rf x1 :: .ref a0 :: rest)) :=
  c5k_7_init X hsz hK hR hS hF hLo hc hs (met7_init l _ _ _ _ _ _ _ hf) hrest hdg kk
theorem c7c_7_init {D : cw_D} {a0 : Nat} {x1 : Option Nat} {x2 : Int32} {D' : cw_D} {nc ns : Nat} (X : ww_C p m c cc nL s args RX7 lw_all) (hsz : ls.size = nL) (hK : cw_K E A s) (hR : cw_H E A D H) (hS : va_S A s.heap H locs) (hF : 3 ≤ R.frames) (hLo : 83 ≤ R.locals) (hc : cells + nc ≤ R.cells) (hs : slots + ns ≤ R.slots) (hf : f7_init D a0 x1 x2 = some (D', nc, ns)) (hrest : (rest.map fun v => v.category).sum ≤ 8) (hdg : decode cc pc = .ok (.invokespecial 22, 3)) (kk : ∀ (H1 : Heap) (locs1 : List Loc), cw_H E A D' H1 → va_S A s.heap H1 locs1 → W p l e R s m args below meth c H1 locs1 (cells + nc) (slots + ns) Q (F0 m (pc + 3) ls (rest))) : W p l e R s m args below meth c H locs cells slots Q (F0 m pc ls (.int x2 :: va_rf x1 :: .ref a0 :: rest)) :=
  c7k_7_init X hsz hK hR hS hF hLo hc hs (met7_init l _ _ _ _ _ _ _ hf) hrest hdg kk
end C_7_init_c
noncomputable def f7_isLeaf (D : cw_D) (a0 : Nat) : Option (Int32) :=
  some (1 : Int32)
set_option maxHeartbeats 4000000 in
set_option maxRecDepth 100000 in
theorem met7_isLeaf (l : Launch) {E : cw_E} {A : Nat → Prop} (D : cw_D) (a0 : Nat) (r : Int32) (hf : f7_isLeaf D a0 = some r) : cw_MetI l yX7_isLeaf cX7_isLeaf 1 (some Jvm.ClassFile.FieldType.boolean) 0 0 E A [.ref a0] D D r 0 0 := by
  unfold f7_isLeaf at hf
  refine cw_sIP (own := RX7) (by decide +kernel) [(0, .ref a0)] ⟨Nat.le_of_ble_eq_true rfl, rfl⟩ ?_
  intro p e s m args below meth c Rm Q X hK hF hLo hin hend ls hl hR hS
  obtain ⟨hx, hb, hml, hown, hts⟩ := id X
  refine lv_iconst (v := (1 : Int32)) hx hb dX7_isLeaf_0 (by decide) ?_
  exact hend dX7_isLeaf_1 rfl (by decide) hf hR hS
noncomputable def f7_kid (D : cw_D) (a0 : Nat) (x1 : Int32) : Option (Option Nat) :=
  some none
set_option maxHeartbeats 4000000 in
set_option maxRecDepth 100000 in
theorem met7_kid (l : Launch) {E : cw_E} {A : Nat → Prop} (D : cw_D) (a0 : Nat) (x1 : Int32) (r : Option Nat) (hf : f7_kid D a0 x1 = some r) : cw_MetQ l yX7_kid cX7_kid 2 (some (Jvm.ClassFile.FieldType.object "WideMap$Node")) 0 0 E A [.ref a0, .int x1] D D r 0 0 := by
  unfold f7_kid at hf
  refine cw_sQP (own := RX7) (by decide +kernel) [(0, .ref a0), (1, .int x1)] ⟨Nat.le_of_ble_eq_true rfl, rfl⟩ ?_
  intro p e s m args below meth c Rm Q X hK hF hLo hin hend ls hl hR hS
  obtain ⟨hx, hb, hml, hown, hts⟩ := id X
  refine lv_null hx hb dX7_kid_0 ?_
  exact hend (v := none) dX7_kid_1 rfl (Or.inl ⟨_, rfl⟩) hf hR hS
noncomputable def f7_low (D : cw_D) (a0 : Nat) : Option (Int32) :=
  ww_b (cw_gI D [1] a0 1) (fun r_1 => if r_1 = 0 then some (-1 : Int32) else ww_b (cw_gR D [1] a0 3) (fun r_3 => ww_b r_3 (fun a_4 => ww_b (cw_xI D 20 a_4 (0 : Int32)) (fun r_5 => some r_5))))
set_option maxHeartbeats 4000000 in
set_option maxRecDepth 100000 in
theorem met7_low (l : Launch) {E : cw_E} {A : Nat → Prop} (D : cw_D) (a0 : Nat) (r : Int32) (hf : f7_low D a0 = some r) : cw_MetI l yX7_low cX7_low 1 (some Jvm.ClassFile.FieldType.int) 0 0 E A [.ref a0] D D r 0 0 := by
  unfold f7_low at hf
  refine cw_sIP (own := RX7) (by decide +kernel) [(0, .ref a0)] ⟨Nat.le_of_ble_eq_true rfl, rfl⟩ ?_
  intro p e s m args below meth c Rm Q X hK hF hLo hin hend ls hl hR hS
  obtain ⟨hx, hb, hml, hown, hts⟩ := id X
  refine lv_aload_n hx hb dX7_low_0 rfl (lv_at hl 0 rfl) ?_
  obtain ⟨r_1, h_1, hq⟩ := ww_bS hf; replace hf := hq; clear hq
  refine c7g_18 X hK hR h_1 dX7_low_1 ?_
  refine lv_if_ne (tgt := 11) hx hb dX7_low_4 (by decide) (fun c_2 => ?_) (fun c_2 => ?_)
  · replace hf := ww_in hf c_2
    refine lv_aload_n hx hb dX7_low_11 rfl (lv_at hl 0 rfl) ?_
    obtain ⟨r_3, h_3, hq⟩ := ww_bS hf; replace hf := hq; clear hq
    refine c7g_9 X hK hR h_3 dX7_low_12 ?_
    refine lv_iconst (v := (0 : Int32)) hx hb dX7_low_15 (by decide) ?_
    obtain ⟨a_4, e_4, hq⟩ := ww_bS hf; replace hf := hq; clear hq
    subst e_4
    obtain ⟨r_5, h_5, hq⟩ := ww_bS hf; replace hf := hq; clear hq
    refine cw_oxI (kd := 20) (x := some a_4) X hK hR (by decide) rfl h_5 dX7_low_16 ?_
    exact hend dX7_low_17 rfl rfl hf hR hS
  · replace hf := ww_ip hf c_2
    refine lv_iconst (v := (-1 : Int32)) hx hb dX7_low_7 (by decide) ?_
    refine lv_goto (tgt := 17) hx hb dX7_low_8 (by decide) ?_
    exact hend dX7_low_17 rfl rfl hf hR hS
noncomputable def f5r_low (r8 : cw_D → Nat → Option (Int32)) : cw_D → Nat → Option (Int32) := fun D a =>
  if cw_kd D [1] (some a) = true then f7_low D a else if cw_kd D [2] (some a) = true then r8 D a else none
noncomputable def f7_keyAt (D : cw_D) (a0 : Nat) (x1 : Int32) : Option (Int32) :=
  ww_b (cw_gR D [1] a0 3) (fun r_1 => ww_b r_1 (fun a_2 => ww_b (cw_xI D 20 a_2 x1) (fun r_3 => some r_3)))
set_option maxHeartbeats 4000000 in
set_option maxRecDepth 100000 in
theorem met7_keyAt (l : Launch) {E : cw_E} {A : Nat → Prop} (D : cw_D) (a0 : Nat) (x1 : Int32) (r : Int32) (hf : f7_keyAt D a0 x1 = some r) : cw_MetI l yX7_keyAt cX7_keyAt 2 (some Jvm.ClassFile.FieldType.int) 0 0 E A [.ref a0, .int x1] D D r 0 0 := by
  unfold f7_keyAt at hf
  refine cw_sIP (own := RX7) (by decide +kernel) [(0, .ref a0), (1, .int x1)] ⟨Nat.le_of_ble_eq_true rfl, rfl⟩ ?_
  intro p e s m args below meth c Rm Q X hK hF hLo hin hend ls hl hR hS
  obtain ⟨hx, hb, hml, hown, hts⟩ := id X
  refine lv_aload_n hx hb dX7_keyAt_0 rfl (lv_at hl 0 rfl) ?_
  obtain ⟨r_1, h_1, hq⟩ := ww_bS hf; replace hf := hq; clear hq
  refine c7g_9 X hK hR h_1 dX7_keyAt_1 ?_
  refine lv_iload_n hx hb dX7_keyAt_4 rfl (lv_at hl 1 rfl) ?_
  obtain ⟨a_2, e_2, hq⟩ := ww_bS hf; replace hf := hq; clear hq
  subst e_2
  obtain ⟨r_3, h_3, hq⟩ := ww_bS hf; replace hf := hq; clear hq
  refine cw_oxI (kd := 20) (x := some a_2) X hK hR (by decide) rfl h_3 dX7_keyAt_5 ?_
  exact hend dX7_keyAt_6 rfl rfl hf hR hS
noncomputable def f7_valueAt (D : cw_D) (a0 : Nat) (x1 : Int32) : Option (Int32) :=
  ww_b (cw_gR D [1] a0 4) (fun r_1 => ww_b r_1 (fun a_2 => ww_b (cw_xI D 20 a_2 x1) (fun r_3 => some r_3)))
set_option maxHeartbeats 4000000 in
set_option maxRecDepth 100000 in
theorem met7_valueAt (l : Launch) {E : cw_E} {A : Nat → Prop} (D : cw_D) (a0 : Nat) (x1 : Int32) (r : Int32) (hf : f7_valueAt D a0 x1 = some r) : cw_MetI l yX7_valueAt cX7_valueAt 2 (some Jvm.ClassFile.FieldType.int) 0 0 E A [.ref a0, .int x1] D D r 0 0 := by
  unfold f7_valueAt at hf
  refine cw_sIP (own := RX7) (by decide +kernel) [(0, .ref a0), (1, .int x1)] ⟨Nat.le_of_ble_eq_true rfl, rfl⟩ ?_
  intro p e s m args below meth c Rm Q X hK hF hLo hin hend ls hl hR hS
  obtain ⟨hx, hb, hml, hown, hts⟩ := id X
  refine lv_aload_n hx hb dX7_valueAt_0 rfl (lv_at hl 0 rfl) ?_
  obtain ⟨r_1, h_1, hq⟩ := ww_bS hf; replace hf := hq; clear hq
  refine c7g_15 X hK hR h_1 dX7_valueAt_1 ?_
  refine lv_iload_n hx hb dX7_valueAt_4 rfl (lv_at hl 1 rfl) ?_
  obtain ⟨a_2, e_2, hq⟩ := ww_bS hf; replace hf := hq; clear hq
  subst e_2
  obtain ⟨r_3, h_3, hq⟩ := ww_bS hf; replace hf := hq; clear hq
  refine cw_oxI (kd := 20) (x := some a_2) X hK hR (by decide) rfl h_3 dX7_valueAt_5 ?_
  exact hend dX7_valueAt_6 rfl rfl hf hR hS
noncomputable def f7_put (D : cw_D) (a0 : Nat) (x1 : Int32) (x2 : Int32) (x3 : Int32) : Option (cw_D) :=
  ww_b (cw_gR D [1] a0 3) (fun r_1 => ww_b r_1 (fun a_2 => ww_b (cw_sI D 20 a_2 x1 x2) (fun D_3 => ww_b (cw_gR D_3 [1] a0 4) (fun r_4 => ww_b r_4 (fun a_5 => ww_b (cw_sI D_3 20 a_5 x1 x3) (fun D_6 => some D_6))))))
section C_7_put_k
variable {p : Program} {l : Launch} {e : Env} {R : Room} {s : State} {m : MethodId} {args : Array Value} {below : List Frame} {meth : Method} {c : Code} {H : Heap} {locs : List Loc} {cells slots : Nat} {Q : State → Prop}
variable {cc : ByteArray} {pc : Nat} {ls : Array Slot} {rest : List Value} {nL : Nat} {E : cw_E} {A : Nat → Prop} {H0 : Heap}
theorem c7k_7_put {D : cw_D} {a0 : Nat} {x1 : Int32} {x2 : Int32} {x3 : Int32} {D' : cw_D} (X : ww_C p m c cc nL s args RX7 lw_all) (hsz : ls.size = nL) (hK : cw_K E A s) (hR : cw_H E A D H) (hS : va_S A s.heap H locs) (hF : 1 ≤ R.frames) (hLo : 23 ≤ R.locals) (hc : cells ≤ R.cells) (hs : slots ≤ R.slots) (hkd : cw_kd D [1] (some a0) = true) (hM : cw_MetV l yX7_put cX7_put 4 0 0 E A [.ref a0, .int x1, .int x2, .int x3] D D' 0 0) (hrest : (rest.map fun v => v.category).sum ≤ 8) (hdg : decode cc pc = .ok (.invokevirtual 25, 3)) (kk : ∀ (H1 : Heap) (locs1 : List Loc), cw_H E A D' H1 → va_S A s.heap H1 locs1 → W p l e R s m args below meth c H1 locs1 cells slots Q (F0 m (pc + 3) ls (rest))) : W p l e R s m args below meth c H locs cells slots Q (F0 m pc ls (.int x3 :: .int x2 :: .int x1 :: .ref a0 :: rest)) :=
  va_callv (va_runV (C := RX7) (As := [.int x1, .int x2, .int x3]) (rest := rest) (b := a0) X hM (cwV 3 X.2.2.2.2 (lw_V q1034 q1036 qs19 q154 q1037) rfl rfl rfl (by decide +kernel) ⟨hF, hLo⟩) (cw_pV hK hR hS (cw_rc (k := 1) (C := RX7) (T := TX7) (N := 5) rfl (by decide) hK hR hkd)) rfl rfl hsz rfl (lv_room hrest) hdg ⟨hc, hs⟩) hS (fun q _ h => h) (fun q h => h) (fun u t H1 locs1 ht hvm hw hB hz1 hk1 hS1 => by rw [ht] at hB; exact kk H1 locs1 hB hS1)
end C_7_put_k
set_option maxHeartbeats 4000000 in
set_option maxRecDepth 100000 in
theorem met7_put (l : Launch) {E : cw_E} {A : Nat → Prop} (D : cw_D) (a0 : Nat) (x1 : Int32) (x2 : Int32) (x3 : Int32) (D' : cw_D) (hf : f7_put D a0 x1 x2 x3 = some D') : cw_MetV l yX7_put cX7_put 4 0 0 E A [.ref a0, .int x1, .int x2, .int x3] D D' 0 0 := by
  unfold f7_put at hf
  refine cw_sVD (own := RX7) (by decide +kernel) [(0, .ref a0), (1, .int x1), (2, .int x2), (3, .int x3)] ⟨Nat.le_of_ble_eq_true rfl, rfl⟩ ?_
  intro p e s m args below meth c Rm Q X hK hF hLo hin hend ls hl hR hS
  obtain ⟨hx, hb, hml, hown, hts⟩ := id X
  refine lv_aload_n hx hb dX7_put_0 rfl (lv_at hl 0 rfl) ?_
  obtain ⟨r_1, h_1, hq⟩ := ww_bS hf; replace hf := hq; clear hq
  refine c7g_9 X hK hR h_1 dX7_put_1 ?_
  refine lv_iload_n hx hb dX7_put_4 rfl (lv_at hl 1 rfl) ?_
  refine lv_iload_n hx hb dX7_put_5 rfl (lv_at hl 2 rfl) ?_
  obtain ⟨a_2, e_2, hq⟩ := ww_bS hf; replace hf := hq; clear hq
  subst e_2
  obtain ⟨D_3, h_3, hq⟩ := ww_bS hf; replace hf := hq; clear hq
  refine cw_osI (kd := 20) (x' := some a_2) X hK hR hS (Or.inl ⟨rfl, rfl, rfl⟩) rfl h_3 dX7_put_6 (fun H locs hR hS => ?_)
  refine lv_aload_n hx hb dX7_put_7 rfl (lv_at hl 0 rfl) ?_
  obtain ⟨r_4, h_4, hq⟩ := ww_bS hf; replace hf := hq; clear hq
  refine c7g_15 X hK hR h_4 dX7_put_8 ?_
  refine lv_iload_n hx hb dX7_put_11 rfl (lv_at hl 1 rfl) ?_
  refine lv_iload_n hx hb dX7_put_12 rfl (lv_at hl 3 rfl) ?_
  obtain ⟨a_5, e_5, hq⟩ := ww_bS hf; replace hf := hq; clear hq
  subst e_5
  obtain ⟨D_6, h_6, hq⟩ := ww_bS hf; replace hf := hq; clear hq
  refine cw_osI (kd := 20) (x' := some a_5) X hK hR hS (Or.inl ⟨rfl, rfl, rfl⟩) rfl h_6 dX7_put_13 (fun H locs hR hS => ?_)
  exact hend dX7_put_14 hf hR hS
section C_7_put_c
variable {p : Program} {l : Launch} {e : Env} {R : Room} {s : State} {m : MethodId} {args : Array Value} {below : List Frame} {meth : Method} {c : Code} {H : Heap} {locs : List Loc} {cells slots : Nat} {Q : State → Prop}
variable {cc : ByteArray} {pc : Nat} {ls : Array Slot} {rest : List Value} {nL : Nat} {E : cw_E} {A : Nat → Prop} {H0 : Heap}
theorem c7c_7_put {D : cw_D} {a0 : Nat} {x1 : Int32} {x2 : Int32} {x3 : Int32} {D' : cw_D} (X : ww_C p m c cc nL s args RX7 lw_all) (hsz : ls.size = nL) (hK : cw_K E A s) (hR : cw_H E A D H) (hS : va_S A s.heap H locs) (hF : 1 ≤ R.frames) (hLo : 23 ≤ R.locals) (hc : cells ≤ R.cells) (hs : slots ≤ R.slots) (hkd : cw_kd D [1] (some a0) = true) (hf : f7_put D a0 x1 x2 x3 = some D') (hrest : (rest.map fun v => v.category).sum ≤ 8) (hdg : decode cc pc = .ok (.invokevirtual 25, 3)) (kk : ∀ (H1 : Heap) (locs1 : List Loc), cw_H E A D' H1 → va_S A s.heap H1 locs1 → W p l e R s m args below meth c H1 locs1 cells slots Q (F0 m (pc + 3) ls (rest))) : W p l e R s m args below meth c H locs cells slots Q (F0 m pc ls (.int x3 :: .int x2 :: .int x1 :: .ref a0 :: rest)) :=
  c7k_7_put X hsz hK hR hS hF hLo hc hs hkd (met7_put l _ _ _ _ _ _ hf) hrest hdg kk
end C_7_put_c
noncomputable def f7_copied_b1c (cf : Nat) (kf : Nat) (y0 : Nat) (y2 : Nat) (D_5 : cw_D) (x3 : Int32) : Option ((cw_D × Int32) ⊕ (Option Nat × cw_D × Nat × Nat)) :=
  ww_b (cw_gI D_5 [1] y0 1) (fun r_6 => if r_6 ≤ x3 then ww_x (ww_b (cw_gI D_5 [1] y0 1) (fun r_8 => ww_b (cw_p D_5 [1] y2 1 (.int r_8)) (fun D_9 => some ((some y2), D_9, cf, kf)))) else ww_b (cw_gR D_5 [1] y0 3) (fun r_10 => ww_b r_10 (fun a_11 => ww_b (cw_xI D_5 20 a_11 x3) (fun r_12 => ww_b (cw_gR D_5 [1] y0 4) (fun r_13 => ww_b r_13 (fun a_14 => ww_b (cw_xI D_5 20 a_14 x3) (fun r_15 => ww_g (cw_kd D_5 [1] (some y2)) (ww_b (f7_put D_5 y2 x3 r_12 r_15) (fun D_17 => some (.inl (D_17, (x3 + (1 : Int32)))))))))))))
noncomputable def f7_copied_b1 (cf : Nat) (kf : Nat) (y0 : Nat) (y2 : Nat) : (cw_D × Int32) → Option ((cw_D × Int32) ⊕ (Option Nat × cw_D × Nat × Nat)) := fun s9 => f7_copied_b1c cf kf y0 y2 s9.1 s9.2
noncomputable def f7_copied (D : cw_D) (a0 : Nat) (x1 : Option Nat) : Option (Option Nat × cw_D × Nat × Nat) :=
  ww_b (cw_gR (cw_nO D 1) [1] a0 3) (fun r_1 => ww_b r_1 (fun a_2 => ww_b (cw_ln (cw_nO D 1) a_2) (fun r_3 => ww_b3 (f7_init (cw_nO D 1) D.2.2 x1 (r_3 - (1 : Int32))) (fun D_4 c_4 k_4 => ww_U (f7_copied_b1 ((0 + 1) + c_4) ((0 + 5) + k_4) a0 D.2.2) (D_4, (0 : Int32))))))
set_option maxHeartbeats 4000000 in
set_option maxRecDepth 100000 in
theorem met7_copied (l : Launch) {E : cw_E} {A : Nat → Prop} (D : cw_D) (a0 : Nat) (x1 : Option Nat) (r : Option Nat) (D' : cw_D) (nc ns : Nat) (hf : f7_copied D a0 x1 = some (r, D', nc, ns)) : cw_MetQ l yX7_copied cX7_copied 4 (some (Jvm.ClassFile.FieldType.object "WideMap$Node")) 3 83 E A [.ref a0, va_rf x1] D D' r nc ns := by
  unfold f7_copied at hf
  refine cw_sQN (own := RX7) (by decide +kernel) [(0, .ref a0), (1, va_rf x1)] ⟨by cases x1 <;> exact Nat.le_of_ble_eq_true rfl, by cases x1 <;> rfl⟩ ?_
  intro p e s m args below meth c Rm Q X hK hF hLo hC hin hend ls hl hR hS
  obtain ⟨hx, hb, hml, hown, hts⟩ := id X
  have hm9 : 0 ≤ nc ∧ 0 ≤ ns := ⟨Nat.zero_le _, Nat.zero_le _⟩
  have hm9 : (0 + 1) ≤ nc ∧ (0 + 5) ≤ ns := by
    obtain ⟨r_1, h_1, hq⟩ := ww_bS hf; replace hf := hq; clear hq
    obtain ⟨a_2, e_2, hq⟩ := ww_bS hf; replace hf := hq; clear hq
    subst e_2
    obtain ⟨r_3, h_3, hq⟩ := ww_bS hf; replace hf := hq; clear hq
    obtain ⟨D_4, c_4, k_4, h_4, hq⟩ := ww_b3S hf; replace hf := hq; clear hq
    have hL_1 : ∀ s9 : cw_D × Int32, ww_U (f7_copied_b1 ((0 + 1) + c_4) ((0 + 5) + k_4) a0 D.2.2) s9 = some (r, D', nc, ns) → ((0 + 1) + c_4) ≤ nc ∧ ((0 + 5) + k_4) ≤ ns := by
      clear hf
      refine ww_ind _ (r, D', nc, ns) ?_
      intro s9 z_1 hf hz_1
      obtain ⟨D_5, x3⟩ := s9
      replace hf : f7_copied_b1c ((0 + 1) + c_4) ((0 + 5) + k_4) a0 D.2.2 D_5 x3 = some z_1 := hf
      unfold f7_copied_b1c at hf
      show ((0 + 1) + c_4) ≤ nc ∧ ((0 + 5) + k_4) ≤ ns
      obtain ⟨r_6, h_6, hq⟩ := ww_bS hf; replace hf := hq; clear hq
      refine ww_by (r_6 ≤ x3) (fun c_7 => ?_) (fun c_7 => ?_)
      · replace hf := ww_ip hf c_7
        replace hf := ww_xK hf hz_1
        obtain ⟨r_8, h_8, hq⟩ := ww_bS hf; replace hf := hq; clear hq
        obtain ⟨D_9, h_9, hq⟩ := ww_bS hf; replace hf := hq; clear hq
        have e9 := hf
        simp only [Option.some.injEq, Prod.mk.injEq] at e9
        omega
      · replace hf := ww_in hf c_7
        obtain ⟨r_10, h_10, hq⟩ := ww_bS hf; replace hf := hq; clear hq
        obtain ⟨a_11, e_11, hq⟩ := ww_bS hf; replace hf := hq; clear hq
        subst e_11
        obtain ⟨r_12, h_12, hq⟩ := ww_bS hf; replace hf := hq; clear hq
        obtain ⟨r_13, h_13, hq⟩ := ww_bS hf; replace hf := hq; clear hq
        obtain ⟨a_14, e_14, hq⟩ := ww_bS hf; replace hf := hq; clear hq
        subst e_14
        obtain ⟨r_15, h_15, hq⟩ := ww_bS hf; replace hf := hq; clear hq
        obtain ⟨h_16, hq⟩ := ww_gS hf; replace hf := hq; clear hq
        obtain ⟨D_17, h_17, hq⟩ := ww_bS hf; replace hf := hq; clear hq
        have e9 := ww_lK hf hz_1
        try dsimp only at e9
        omega
    have e9 := hL_1 (D_4, (0 : Int32)) hf
    try dsimp only at e9
    omega
  refine cw_onew (ci := 1) (C := RX7) (T := TX7) (N := 5) rfl (by decide) in_X7 tyX7 tyX7_ok rfl X hK hR hS q1032 q838 q154 (Nat.le_trans hm9.1 hC.1) (Nat.le_trans hm9.2 hC.2) dX7_copied_0 (fun H hR hS => ?_)
  refine lv_dup hx hb dX7_copied_3 rfl ?_
  refine cw_aload_n (x := x1) hx hb dX7_copied_4 rfl (lv_at hl 1 rfl) ?_
  refine lv_aload_n hx hb dX7_copied_5 rfl (lv_at hl 0 rfl) ?_
  obtain ⟨r_1, h_1, hq⟩ := ww_bS hf; replace hf := hq; clear hq
  refine c7g_9 X hK hR h_1 dX7_copied_6 ?_
  obtain ⟨a_2, e_2, hq⟩ := ww_bS hf; replace hf := hq; clear hq
  subst e_2
  obtain ⟨r_3, h_3, hq⟩ := ww_bS hf; replace hf := hq; clear hq
  refine cw_oln (x := some a_2) X hK hR rfl h_3 dX7_copied_9 ?_
  refine lv_iconst (v := (1 : Int32)) hx hb dX7_copied_10 (by decide) ?_
  refine lv_isub hx hb dX7_copied_11 ?_
  obtain ⟨D_4, c_4, k_4, h_4, hq⟩ := ww_b3S hf; replace hf := hq; clear hq
  have hm9 : ((0 + 1) + c_4) ≤ nc ∧ ((0 + 5) + k_4) ≤ ns := by
    have hL_1 : ∀ s9 : cw_D × Int32, ww_U (f7_copied_b1 ((0 + 1) + c_4) ((0 + 5) + k_4) a0 D.2.2) s9 = some (r, D', nc, ns) → ((0 + 1) + c_4) ≤ nc ∧ ((0 + 5) + k_4) ≤ ns := by
      clear hf
      refine ww_ind _ (r, D', nc, ns) ?_
      intro s9 z_1 hf hz_1
      obtain ⟨D_5, x3⟩ := s9
      replace hf : f7_copied_b1c ((0 + 1) + c_4) ((0 + 5) + k_4) a0 D.2.2 D_5 x3 = some z_1 := hf
      unfold f7_copied_b1c at hf
      show ((0 + 1) + c_4) ≤ nc ∧ ((0 + 5) + k_4) ≤ ns
      obtain ⟨r_6, h_6, hq⟩ := ww_bS hf; replace hf := hq; clear hq
      refine ww_by (r_6 ≤ x3) (fun c_7 => ?_) (fun c_7 => ?_)
      · replace hf := ww_ip hf c_7
        replace hf := ww_xK hf hz_1
        obtain ⟨r_8, h_8, hq⟩ := ww_bS hf; replace hf := hq; clear hq
        obtain ⟨D_9, h_9, hq⟩ := ww_bS hf; replace hf := hq; clear hq
        have e9 := hf
        simp only [Option.some.injEq, Prod.mk.injEq] at e9
        omega
      · replace hf := ww_in hf c_7
        obtain ⟨r_10, h_10, hq⟩ := ww_bS hf; replace hf := hq; clear hq
        obtain ⟨a_11, e_11, hq⟩ := ww_bS hf; replace hf := hq; clear hq
        subst e_11
        obtain ⟨r_12, h_12, hq⟩ := ww_bS hf; replace hf := hq; clear hq
        obtain ⟨r_13, h_13, hq⟩ := ww_bS hf; replace hf := hq; clear hq
        obtain ⟨a_14, e_14, hq⟩ := ww_bS hf; replace hf := hq; clear hq
        subst e_14
        obtain ⟨r_15, h_15, hq⟩ := ww_bS hf; replace hf := hq; clear hq
        obtain ⟨h_16, hq⟩ := ww_gS hf; replace hf := hq; clear hq
        obtain ⟨D_17, h_17, hq⟩ := ww_bS hf; replace hf := hq; clear hq
        have e9 := ww_lK hf hz_1
        try dsimp only at e9
        omega
    have e9 := hL_1 (D_4, (0 : Int32)) hf
    try dsimp only at e9
    omega
  refine c7c_7_init (x1 := x1) X hl.1 hK hR hS (Nat.le_trans (Nat.le_of_ble_eq_true rfl) hF) (Nat.le_trans (Nat.le_of_ble_eq_true rfl) hLo) (Nat.le_trans hm9.1 hC.1) (Nat.le_trans hm9.2 hC.2) h_4 (cw_rest (Nat.le_of_ble_eq_true rfl)) dX7_copied_12 (fun H locs hR hS => ?_)
  refine lv_astore_n (lv' := [(2, .ref D.2.2), (0, .ref a0), (1, va_rf x1)]) hx hb dX7_copied_15 rfl hl (by decide) (by cases x1 <;> rfl) (fun ls hl => ?_)
  refine lv_iconst (v := (0 : Int32)) hx hb dX7_copied_16 (by decide) ?_
  refine lv_istore_n (lv' := [(3, .int (0 : Int32)), (2, .ref D.2.2), (0, .ref a0), (1, va_rf x1)]) hx hb dX7_copied_17 rfl hl (by decide) rfl (fun ls hl => ?_)
  have hL_1 : ∀ s9 : cw_D × Int32, ww_U (f7_copied_b1 ((0 + 1) + c_4) ((0 + 5) + k_4) a0 D.2.2) s9 = some (r, D', nc, ns) → (((0 + 1) + c_4) ≤ nc ∧ ((0 + 5) + k_4) ≤ ns) ∧ (∀ (H : Heap) (locs : List Loc) (ls : Array Slot), cw_H E A s9.1 H → va_S A s.heap H locs → lv_has ls 4 [(0, .ref a0), (2, .ref D.2.2), (3, .int s9.2)] → W p l e Rm s m args below meth c H locs ((0 + 1) + c_4) ((0 + 5) + k_4) Q (F0 m 18 ls [])) := by
    clear hf
    refine ww_ind _ (r, D', nc, ns) ?_
    intro s9 z_1 hf hz_1
    obtain ⟨D_5, x3⟩ := s9
    replace hf : f7_copied_b1c ((0 + 1) + c_4) ((0 + 5) + k_4) a0 D.2.2 D_5 x3 = some z_1 := hf
    unfold f7_copied_b1c at hf
    have hm9 : ((0 + 1) + c_4) ≤ nc ∧ ((0 + 5) + k_4) ≤ ns := by
      show ((0 + 1) + c_4) ≤ nc ∧ ((0 + 5) + k_4) ≤ ns
      obtain ⟨r_6, h_6, hq⟩ := ww_bS hf; replace hf := hq; clear hq
      refine ww_by (r_6 ≤ x3) (fun c_7 => ?_) (fun c_7 => ?_)
      · replace hf := ww_ip hf c_7
        replace hf := ww_xK hf hz_1
        obtain ⟨r_8, h_8, hq⟩ := ww_bS hf; replace hf := hq; clear hq
        obtain ⟨D_9, h_9, hq⟩ := ww_bS hf; replace hf := hq; clear hq
        have e9 := hf
        simp only [Option.some.injEq, Prod.mk.injEq] at e9
        omega
      · replace hf := ww_in hf c_7
        obtain ⟨r_10, h_10, hq⟩ := ww_bS hf; replace hf := hq; clear hq
        obtain ⟨a_11, e_11, hq⟩ := ww_bS hf; replace hf := hq; clear hq
        subst e_11
        obtain ⟨r_12, h_12, hq⟩ := ww_bS hf; replace hf := hq; clear hq
        obtain ⟨r_13, h_13, hq⟩ := ww_bS hf; replace hf := hq; clear hq
        obtain ⟨a_14, e_14, hq⟩ := ww_bS hf; replace hf := hq; clear hq
        subst e_14
        obtain ⟨r_15, h_15, hq⟩ := ww_bS hf; replace hf := hq; clear hq
        obtain ⟨h_16, hq⟩ := ww_gS hf; replace hf := hq; clear hq
        obtain ⟨D_17, h_17, hq⟩ := ww_bS hf; replace hf := hq; clear hq
        have e9 := (ww_lK hf hz_1).1
        try dsimp only at e9
        omega
    refine ⟨hm9, ?_⟩
    try clear hl
    try clear hS
    try clear hR
    intro H locs ls hR hS hl
    replace hR : cw_H E A D_5 H := hR
    replace hl : lv_has ls 4 [(0, .ref a0), (2, .ref D.2.2), (3, .int x3)] := hl
    refine lv_iload_n hx hb dX7_copied_18 rfl (lv_at hl 2 rfl) ?_
    refine lv_aload_n hx hb dX7_copied_19 rfl (lv_at hl 0 rfl) ?_
    obtain ⟨r_6, h_6, hq⟩ := ww_bS hf; replace hf := hq; clear hq
    refine c7g_18 X hK hR h_6 dX7_copied_20 ?_
    refine lv_icmp_ge (tgt := 49) hx hb dX7_copied_23 (by decide) (fun c_7 => ?_) (fun c_7 => ?_)
    · replace hf := ww_ip hf c_7
      replace hf := ww_xK hf hz_1
      refine lv_aload_n hx hb dX7_copied_49 rfl (lv_at hl 1 rfl) ?_
      refine lv_aload_n hx hb dX7_copied_50 rfl (lv_at hl 0 rfl) ?_
      obtain ⟨r_8, h_8, hq⟩ := ww_bS hf; replace hf := hq; clear hq
      refine c7g_18 X hK hR h_8 dX7_copied_51 ?_
      obtain ⟨D_9, h_9, hq⟩ := ww_bS hf; replace hf := hq; clear hq
      refine c7p_18 X hK hR hS h_9 dX7_copied_54 (fun H locs hR hS => ?_)
      refine lv_aload_n hx hb dX7_copied_57 rfl (lv_at hl 1 rfl) ?_
      exact hend (v := (some D.2.2)) dX7_copied_58 rfl (Or.inl ⟨_, rfl⟩) hf hR hS
    · replace hf := ww_in hf c_7
      refine lv_aload_n hx hb dX7_copied_26 rfl (lv_at hl 1 rfl) ?_
      refine lv_iload_n hx hb dX7_copied_27 rfl (lv_at hl 2 rfl) ?_
      refine lv_aload_n hx hb dX7_copied_28 rfl (lv_at hl 0 rfl) ?_
      obtain ⟨r_10, h_10, hq⟩ := ww_bS hf; replace hf := hq; clear hq
      refine c7g_9 X hK hR h_10 dX7_copied_29 ?_
      refine lv_iload_n hx hb dX7_copied_32 rfl (lv_at hl 2 rfl) ?_
      obtain ⟨a_11, e_11, hq⟩ := ww_bS hf; replace hf := hq; clear hq
      subst e_11
      obtain ⟨r_12, h_12, hq⟩ := ww_bS hf; replace hf := hq; clear hq
      refine cw_oxI (kd := 20) (x := some a_11) X hK hR (by decide) rfl h_12 dX7_copied_33 ?_
      refine lv_aload_n hx hb dX7_copied_34 rfl (lv_at hl 0 rfl) ?_
      obtain ⟨r_13, h_13, hq⟩ := ww_bS hf; replace hf := hq; clear hq
      refine c7g_15 X hK hR h_13 dX7_copied_35 ?_
      refine lv_iload_n hx hb dX7_copied_38 rfl (lv_at hl 2 rfl) ?_
      obtain ⟨a_14, e_14, hq⟩ := ww_bS hf; replace hf := hq; clear hq
      subst e_14
      obtain ⟨r_15, h_15, hq⟩ := ww_bS hf; replace hf := hq; clear hq
      refine cw_oxI (kd := 20) (x := some a_14) X hK hR (by decide) rfl h_15 dX7_copied_39 ?_
      obtain ⟨h_16, hq⟩ := ww_gS hf; replace hf := hq; clear hq
      obtain ⟨D_17, h_17, hq⟩ := ww_bS hf; replace hf := hq; clear hq
      refine c7c_7_put X hl.1 hK hR hS (Nat.le_trans (Nat.le_of_ble_eq_true rfl) hF) (Nat.le_trans (Nat.le_of_ble_eq_true rfl) hLo) (Nat.le_trans hm9.1 hC.1) (Nat.le_trans hm9.2 hC.2) h_16 h_17 (cw_rest (Nat.le_of_ble_eq_true rfl)) dX7_copied_40 (fun H locs hR hS => ?_)
      refine lv_iinc (k := 2) (v := x3 + (1 : Int32)) (lv' := [(3, .int (x3 + (1 : Int32))), (0, .ref a0), (2, .ref D.2.2)]) hx hb dX7_copied_43 hl rfl rfl (by decide) rfl (fun ls hl => ?_)
      refine lv_goto (tgt := 18) hx hb dX7_copied_46 (by decide) ?_
      exact (ww_lK hf hz_1).2 _ _ _ hR hS (lv_sub hl [1, 2, 0] rfl)
  exact (hL_1 (D_4, (0 : Int32)) hf).2 _ _ _ hR hS (lv_sub hl [2, 1, 0] rfl)
noncomputable def f7_placeOf_b1c (D : cw_D) (y0 : Nat) (y1 : Int32) (x2 : Int32) : Option ((Int32) ⊕ (Int32)) :=
  ww_b (cw_gI D [1] y0 1) (fun r_1 => if r_1 ≤ x2 then ww_x (some x2) else ww_b (cw_gR D [1] y0 3) (fun r_3 => ww_b r_3 (fun a_4 => ww_b (cw_xI D 20 a_4 x2) (fun r_5 => if y1 ≤ r_5 then ww_x (some x2) else some (.inl (x2 + (1 : Int32)))))))
noncomputable def f7_placeOf_b1 (D : cw_D) (y0 : Nat) (y1 : Int32) : Int32 → Option ((Int32) ⊕ (Int32)) := fun s9 => f7_placeOf_b1c D y0 y1 s9
noncomputable def f7_placeOf (D : cw_D) (a0 : Nat) (x1 : Int32) : Option (Int32) :=
  ww_U (f7_placeOf_b1 D a0 x1) (0 : Int32)
section C_7_placeOf_k
variable {p : Program} {l : Launch} {e : Env} {R : Room} {s : State} {m : MethodId} {args : Array Value} {below : List Frame} {meth : Method} {c : Code} {H : Heap} {locs : List Loc} {cells slots : Nat} {Q : State → Prop}
variable {cc : ByteArray} {pc : Nat} {ls : Array Slot} {rest : List Value} {nL : Nat} {E : cw_E} {A : Nat → Prop} {H0 : Heap}
theorem c7k_7_placeOf {D : cw_D} {a0 : Nat} {x1 : Int32} {r : Int32} (X : ww_C p m c cc nL s args RX7 lw_all) (hsz : ls.size = nL) (hK : cw_K E A s) (hR : cw_H E A D H) (hS : va_S A s.heap H locs) (hF : 1 ≤ R.frames) (hLo : 22 ≤ R.locals) (hc : cells ≤ R.cells) (hs : slots ≤ R.slots) (hkd : cw_kd D [1] (some a0) = true) (hM : cw_MetI l yX7_placeOf cX7_placeOf 3 (some Jvm.ClassFile.FieldType.int) 0 0 E A [.ref a0, .int x1] D D r 0 0) (hrest : (rest.map fun v => v.category).sum ≤ 8) (hdg : decode cc pc = .ok (.invokevirtual 29, 3)) (kk : ∀ (H1 : Heap) (locs1 : List Loc), cw_H E A D H1 → va_S A s.heap H1 locs1 → W p l e R s m args below meth c H1 locs1 cells slots Q (F0 m (pc + 3) ls (.int r :: rest))) : W p l e R s m args below meth c H locs cells slots Q (F0 m pc ls (.int x1 :: .ref a0 :: rest)) :=
  va_calli (va_runV (C := RX7) (As := [.int x1]) (rest := rest) (b := a0) X hM (cwV 1 X.2.2.2.2 (lw_V q1057 q1059 qs20 q154 q1060) rfl rfl rfl (by decide +kernel) ⟨hF, hLo⟩) (cw_pV hK hR hS (cw_rc (k := 1) (C := RX7) (T := TX7) (N := 5) rfl (by decide) hK hR hkd)) rfl rfl hsz rfl (lv_room hrest) hdg ⟨hc, hs⟩) hS (fun q _ h => h) (fun q h => h) (fun r' u t H1 locs1 ht hvm hw hB hz1 hk1 hS1 => by subst hw; rw [ht] at hB; exact kk H1 locs1 hB hS1)
end C_7_placeOf_k
set_option maxHeartbeats 4000000 in
set_option maxRecDepth 100000 in
theorem met7_placeOf (l : Launch) {E : cw_E} {A : Nat → Prop} (D : cw_D) (a0 : Nat) (x1 : Int32) (r : Int32) (hf : f7_placeOf D a0 x1 = some r) : cw_MetI l yX7_placeOf cX7_placeOf 3 (some Jvm.ClassFile.FieldType.int) 0 0 E A [.ref a0, .int x1] D D r 0 0 := by
  unfold f7_placeOf at hf
  refine cw_sIP (own := RX7) (by decide +kernel) [(0, .ref a0), (1, .int x1)] ⟨Nat.le_of_ble_eq_true rfl, rfl⟩ ?_
  intro p e s m args below meth c Rm Q X hK hF hLo hin hend ls hl hR hS
  obtain ⟨hx, hb, hml, hown, hts⟩ := id X
  refine lv_iconst (v := (0 : Int32)) hx hb dX7_placeOf_0 (by decide) ?_
  refine lv_istore_n (lv' := [(2, .int (0 : Int32)), (0, .ref a0), (1, .int x1)]) hx hb dX7_placeOf_1 rfl hl (by decide) rfl (fun ls hl => ?_)
  have hL_1 : ∀ s9 : Int32, ww_U (f7_placeOf_b1 D a0 x1) s9 = some r → ∀ (H : Heap) (locs : List Loc) (ls : Array Slot), cw_H E A D H → va_S A s.heap H locs → lv_has ls 3 [(0, .ref a0), (1, .int x1), (2, .int s9)] → W p l e Rm s m args below meth c H locs 0 0 Q (F0 m 2 ls []) := by
    clear hf
    refine ww_ind _ r ?_
    intro s9 z_1 hf hz_1
    obtain ⟨x2, e9⟩ : ∃ q9, q9 = s9 := ⟨_, rfl⟩; subst e9
    replace hf : f7_placeOf_b1c D a0 x1 x2 = some z_1 := hf
    unfold f7_placeOf_b1c at hf
    try clear hl
    try clear hS
    try clear hR
    intro H locs ls hR hS hl
    replace hl : lv_has ls 3 [(0, .ref a0), (1, .int x1), (2, .int x2)] := hl
    refine lv_iload_n hx hb dX7_placeOf_2 rfl (lv_at hl 2 rfl) ?_
    refine lv_aload_n hx hb dX7_placeOf_3 rfl (lv_at hl 0 rfl) ?_
    obtain ⟨r_1, h_1, hq⟩ := ww_bS hf; replace hf := hq; clear hq
    refine c7g_18 X hK hR h_1 dX7_placeOf_4 ?_
    refine lv_icmp_ge (tgt := 26) hx hb dX7_placeOf_7 (by decide) (fun c_2 => ?_) (fun c_2 => ?_)
    · replace hf := ww_ip hf c_2
      replace hf := ww_xK hf hz_1
      refine lv_iload_n hx hb dX7_placeOf_26 rfl (lv_at hl 2 rfl) ?_
      exact hend dX7_placeOf_27 rfl rfl hf hR hS
    · replace hf := ww_in hf c_2
      refine lv_aload_n hx hb dX7_placeOf_10 rfl (lv_at hl 0 rfl) ?_
      obtain ⟨r_3, h_3, hq⟩ := ww_bS hf; replace hf := hq; clear hq
      refine c7g_9 X hK hR h_3 dX7_placeOf_11 ?_
      refine lv_iload_n hx hb dX7_placeOf_14 rfl (lv_at hl 2 rfl) ?_
      obtain ⟨a_4, e_4, hq⟩ := ww_bS hf; replace hf := hq; clear hq
      subst e_4
      obtain ⟨r_5, h_5, hq⟩ := ww_bS hf; replace hf := hq; clear hq
      refine cw_oxI (kd := 20) (x := some a_4) X hK hR (by decide) rfl h_5 dX7_placeOf_15 ?_
      refine lv_iload_n hx hb dX7_placeOf_16 rfl (lv_at hl 1 rfl) ?_
      refine lv_icmp_ge (tgt := 26) hx hb dX7_placeOf_17 (by decide) (fun c_6 => ?_) (fun c_6 => ?_)
      · replace hf := ww_ip hf c_6
        replace hf := ww_xK hf hz_1
        refine lv_iload_n hx hb dX7_placeOf_26 rfl (lv_at hl 2 rfl) ?_
        exact hend dX7_placeOf_27 rfl rfl hf hR hS
      · replace hf := ww_in hf c_6
        refine lv_iinc (k := 2) (v := x2 + (1 : Int32)) (lv' := [(2, .int (x2 + (1 : Int32))), (0, .ref a0), (1, .int x1)]) hx hb dX7_placeOf_20 hl rfl rfl (by decide) rfl (fun ls hl => ?_)
        refine lv_goto (tgt := 2) hx hb dX7_placeOf_23 (by decide) ?_
        exact ww_lK hf hz_1 _ _ _ hR hS (lv_sub hl [1, 2, 0] rfl)
  exact hL_1 (0 : Int32) hf _ _ _ hR hS (lv_sub hl [1, 2, 0] rfl)
section C_7_placeOf_c
variable {p : Program} {l : Launch} {e : Env} {R : Room} {s : State} {m : MethodId} {args : Array Value} {below : List Frame} {meth : Method} {c : Code} {H : Heap} {locs : List Loc} {cells slots : Nat} {Q : State → Prop}
variable {cc : ByteArray} {pc : Nat} {ls : Array Slot} {rest : List Value} {nL : Nat} {E : cw_E} {A : Nat → Prop} {H0 : Heap}
theorem c7c_7_placeOf {D : cw_D} {a0 : Nat} {x1 : Int32} {r : Int32} (X : ww_C p m c cc nL s args RX7 lw_all) (hsz : ls.size = nL) (hK : cw_K E A s) (hR : cw_H E A D H) (hS : va_S A s.heap H locs) (hF : 1 ≤ R.frames) (hLo : 22 ≤ R.locals) (hc : cells ≤ R.cells) (hs : slots ≤ R.slots) (hkd : cw_kd D [1] (some a0) = true) (hf : f7_placeOf D a0 x1 = some r) (hrest : (rest.map fun v => v.category).sum ≤ 8) (hdg : decode cc pc = .ok (.invokevirtual 29, 3)) (kk : ∀ (H1 : Heap) (locs1 : List Loc), cw_H E A D H1 → va_S A s.heap H1 locs1 → W p l e R s m args below meth c H1 locs1 cells slots Q (F0 m (pc + 3) ls (.int r :: rest))) : W p l e R s m args below meth c H locs cells slots Q (F0 m pc ls (.int x1 :: .ref a0 :: rest)) :=
  c7k_7_placeOf X hsz hK hR hS hF hLo hc hs hkd (met7_placeOf l _ _ _ _ hf) hrest hdg kk
end C_7_placeOf_c
noncomputable def f7_makeRoom_b1c (y0 : Nat) (y1 : Int32) (D_2 : cw_D) (x2 : Int32) : Option ((cw_D × Int32) ⊕ (cw_D)) :=
  if x2 ≤ y1 then ww_x (ww_b (cw_gI D_2 [1] y0 1) (fun r_4 => ww_b (cw_p D_2 [1] y0 1 (.int (r_4 + (1 : Int32)))) (fun D_5 => some D_5))) else ww_b (cw_gR D_2 [1] y0 3) (fun r_6 => ww_b r_6 (fun a_7 => ww_b (cw_xI D_2 20 a_7 (x2 - (1 : Int32))) (fun r_8 => ww_b (cw_gR D_2 [1] y0 4) (fun r_9 => ww_b r_9 (fun a_10 => ww_b (cw_xI D_2 20 a_10 (x2 - (1 : Int32))) (fun r_11 => ww_g (cw_kd D_2 [1] (some y0)) (ww_b (f7_put D_2 y0 x2 r_8 r_11) (fun D_13 => some (.inl (D_13, (x2 + (-1 : Int32))))))))))))
noncomputable def f7_makeRoom_b1 (y0 : Nat) (y1 : Int32) : (cw_D × Int32) → Option ((cw_D × Int32) ⊕ (cw_D)) := fun s9 => f7_makeRoom_b1c y0 y1 s9.1 s9.2
noncomputable def f7_makeRoom (D : cw_D) (a0 : Nat) (x1 : Int32) : Option (cw_D) :=
  ww_b (cw_gI D [1] a0 1) (fun r_1 => ww_U (f7_makeRoom_b1 a0 x1) (D, r_1))
section C_7_makeRoom_k
variable {p : Program} {l : Launch} {e : Env} {R : Room} {s : State} {m : MethodId} {args : Array Value} {below : List Frame} {meth : Method} {c : Code} {H : Heap} {locs : List Loc} {cells slots : Nat} {Q : State → Prop}
variable {cc : ByteArray} {pc : Nat} {ls : Array Slot} {rest : List Value} {nL : Nat} {E : cw_E} {A : Nat → Prop} {H0 : Heap}
theorem c7k_7_makeRoom {D : cw_D} {a0 : Nat} {x1 : Int32} {D' : cw_D} (X : ww_C p m c cc nL s args RX7 lw_all) (hsz : ls.size = nL) (hK : cw_K E A s) (hR : cw_H E A D H) (hS : va_S A s.heap H locs) (hF : 2 ≤ R.frames) (hLo : 45 ≤ R.locals) (hc : cells ≤ R.cells) (hs : slots ≤ R.slots) (hkd : cw_kd D [1] (some a0) = true) (hM : cw_MetV l yX7_makeRoom cX7_makeRoom 3 1 23 E A [.ref a0, .int x1] D D' 0 0) (hrest : (rest.map fun v => v.category).sum ≤ 8) (hdg : decode cc pc = .ok (.invokevirtual 33, 3)) (kk : ∀ (H1 : Heap) (locs1 : List Loc), cw_H E A D' H1 → va_S A s.heap H1 locs1 → W p l e R s m args below meth c H1 locs1 cells slots Q (F0 m (pc + 3) ls (rest))) : W p l e R s m args below meth c H locs cells slots Q (F0 m pc ls (.int x1 :: .ref a0 :: rest)) :=
  va_callv (va_runV (C := RX7) (As := [.int x1]) (rest := rest) (b := a0) X hM (cwV 1 X.2.2.2.2 (lw_V q1061 q1063 qs21 q154 q1064) rfl rfl rfl (by decide +kernel) ⟨hF, hLo⟩) (cw_pV hK hR hS (cw_rc (k := 1) (C := RX7) (T := TX7) (N := 5) rfl (by decide) hK hR hkd)) rfl rfl hsz rfl (lv_room hrest) hdg ⟨hc, hs⟩) hS (fun q _ h => h) (fun q h => h) (fun u t H1 locs1 ht hvm hw hB hz1 hk1 hS1 => by rw [ht] at hB; exact kk H1 locs1 hB hS1)
end C_7_makeRoom_k
set_option maxHeartbeats 4000000 in
set_option maxRecDepth 100000 in
theorem met7_makeRoom (l : Launch) {E : cw_E} {A : Nat → Prop} (D : cw_D) (a0 : Nat) (x1 : Int32) (D' : cw_D) (hf : f7_makeRoom D a0 x1 = some D') : cw_MetV l yX7_makeRoom cX7_makeRoom 3 1 23 E A [.ref a0, .int x1] D D' 0 0 := by
  unfold f7_makeRoom at hf
  refine cw_sVD (own := RX7) (by decide +kernel) [(0, .ref a0), (1, .int x1)] ⟨Nat.le_of_ble_eq_true rfl, rfl⟩ ?_
  intro p e s m args below meth c Rm Q X hK hF hLo hin hend ls hl hR hS
  obtain ⟨hx, hb, hml, hown, hts⟩ := id X
  refine lv_aload_n hx hb dX7_makeRoom_0 rfl (lv_at hl 0 rfl) ?_
  obtain ⟨r_1, h_1, hq⟩ := ww_bS hf; replace hf := hq; clear hq
  refine c7g_18 X hK hR h_1 dX7_makeRoom_1 ?_
  refine lv_istore_n (lv' := [(2, .int r_1), (0, .ref a0), (1, .int x1)]) hx hb dX7_makeRoom_4 rfl hl (by decide) rfl (fun ls hl => ?_)
  have hL_1 : ∀ s9 : cw_D × Int32, ww_U (f7_makeRoom_b1 a0 x1) s9 = some D' → ∀ (H : Heap) (locs : List Loc) (ls : Array Slot), cw_H E A s9.1 H → va_S A s.heap H locs → lv_has ls 3 [(0, .ref a0), (1, .int x1), (2, .int s9.2)] → W p l e Rm s m args below meth c H locs 0 0 Q (F0 m 5 ls []) := by
    clear hf
    refine ww_ind _ D' ?_
    intro s9 z_1 hf hz_1
    obtain ⟨D_2, x2⟩ := s9
    replace hf : f7_makeRoom_b1c a0 x1 D_2 x2 = some z_1 := hf
    unfold f7_makeRoom_b1c at hf
    try clear hl
    try clear hS
    try clear hR
    intro H locs ls hR hS hl
    replace hR : cw_H E A D_2 H := hR
    replace hl : lv_has ls 3 [(0, .ref a0), (1, .int x1), (2, .int x2)] := hl
    refine lv_iload_n hx hb dX7_makeRoom_5 rfl (lv_at hl 2 rfl) ?_
    refine lv_iload_n hx hb dX7_makeRoom_6 rfl (lv_at hl 1 rfl) ?_
    refine lv_icmp_le (tgt := 37) hx hb dX7_makeRoom_7 (by decide) (fun c_3 => ?_) (fun c_3 => ?_)
    · replace hf := ww_ip hf c_3
      replace hf := ww_xK hf hz_1
      refine lv_aload_n hx hb dX7_makeRoom_37 rfl (lv_at hl 0 rfl) ?_
      refine lv_dup hx hb dX7_makeRoom_38 rfl ?_
      obtain ⟨r_4, h_4, hq⟩ := ww_bS hf; replace hf := hq; clear hq
      refine c7g_18 X hK hR h_4 dX7_makeRoom_39 ?_
      refine lv_iconst (v := (1 : Int32)) hx hb dX7_makeRoom_42 (by decide) ?_
      refine lv_iadd hx hb dX7_makeRoom_43 ?_
      obtain ⟨D_5, h_5, hq⟩ := ww_bS hf; replace hf := hq; clear hq
      refine c7p_18 X hK hR hS h_5 dX7_makeRoom_44 (fun H locs hR hS => ?_)
      exact hend dX7_makeRoom_47 hf hR hS
    · replace hf := ww_in hf c_3
      refine lv_aload_n hx hb dX7_makeRoom_10 rfl (lv_at hl 0 rfl) ?_
      refine lv_iload_n hx hb dX7_makeRoom_11 rfl (lv_at hl 2 rfl) ?_
      refine lv_aload_n hx hb dX7_makeRoom_12 rfl (lv_at hl 0 rfl) ?_
      obtain ⟨r_6, h_6, hq⟩ := ww_bS hf; replace hf := hq; clear hq
      refine c7g_9 X hK hR h_6 dX7_makeRoom_13 ?_
      refine lv_iload_n hx hb dX7_makeRoom_16 rfl (lv_at hl 2 rfl) ?_
      refine lv_iconst (v := (1 : Int32)) hx hb dX7_makeRoom_17 (by decide) ?_
      refine lv_isub hx hb dX7_makeRoom_18 ?_
      obtain ⟨a_7, e_7, hq⟩ := ww_bS hf; replace hf := hq; clear hq
      subst e_7
      obtain ⟨r_8, h_8, hq⟩ := ww_bS hf; replace hf := hq; clear hq
      refine cw_oxI (kd := 20) (x := some a_7) X hK hR (by decide) rfl h_8 dX7_makeRoom_19 ?_
      refine lv_aload_n hx hb dX7_makeRoom_20 rfl (lv_at hl 0 rfl) ?_
      obtain ⟨r_9, h_9, hq⟩ := ww_bS hf; replace hf := hq; clear hq
      refine c7g_15 X hK hR h_9 dX7_makeRoom_21 ?_
      refine lv_iload_n hx hb dX7_makeRoom_24 rfl (lv_at hl 2 rfl) ?_
      refine lv_iconst (v := (1 : Int32)) hx hb dX7_makeRoom_25 (by decide) ?_
      refine lv_isub hx hb dX7_makeRoom_26 ?_
      obtain ⟨a_10, e_10, hq⟩ := ww_bS hf; replace hf := hq; clear hq
      subst e_10
      obtain ⟨r_11, h_11, hq⟩ := ww_bS hf; replace hf := hq; clear hq
      refine cw_oxI (kd := 20) (x := some a_10) X hK hR (by decide) rfl h_11 dX7_makeRoom_27 ?_
      obtain ⟨h_12, hq⟩ := ww_gS hf; replace hf := hq; clear hq
      obtain ⟨D_13, h_13, hq⟩ := ww_bS hf; replace hf := hq; clear hq
      refine c7c_7_put X hl.1 hK hR hS (Nat.le_trans (Nat.le_of_ble_eq_true rfl) hF) (Nat.le_trans (Nat.le_of_ble_eq_true rfl) hLo) (Nat.zero_le _) (Nat.zero_le _) h_12 h_13 (cw_rest (Nat.le_of_ble_eq_true rfl)) dX7_makeRoom_28 (fun H locs hR hS => ?_)
      refine lv_iinc (k := 2) (v := x2 + (-1 : Int32)) (lv' := [(2, .int (x2 + (-1 : Int32))), (0, .ref a0), (1, .int x1)]) hx hb dX7_makeRoom_31 hl rfl rfl (by decide) rfl (fun ls hl => ?_)
      refine lv_goto (tgt := 5) hx hb dX7_makeRoom_34 (by decide) ?_
      exact ww_lK hf hz_1 _ _ _ hR hS (lv_sub hl [1, 2, 0] rfl)
  exact hL_1 (D, r_1) hf _ _ _ hR hS (lv_sub hl [1, 2, 0] rfl)
section C_7_makeRoom_c
variable {p : Program} {l : Launch} {e : Env} {R : Room} {s : State} {m : MethodId} {args : Array Value} {below : List Frame} {meth : Method} {c : Code} {H : Heap} {locs : List Loc} {cells slots : Nat} {Q : State → Prop}
variable {cc : ByteArray} {pc : Nat} {ls : Array Slot} {rest : List Value} {nL : Nat} {E : cw_E} {A : Nat → Prop} {H0 : Heap}
theorem c7c_7_makeRoom {D : cw_D} {a0 : Nat} {x1 : Int32} {D' : cw_D} (X : ww_C p m c cc nL s args RX7 lw_all) (hsz : ls.size = nL) (hK : cw_K E A s) (hR : cw_H E A D H) (hS : va_S A s.heap H locs) (hF : 2 ≤ R.frames) (hLo : 45 ≤ R.locals) (hc : cells ≤ R.cells) (hs : slots ≤ R.slots) (hkd : cw_kd D [1] (some a0) = true) (hf : f7_makeRoom D a0 x1 = some D') (hrest : (rest.map fun v => v.category).sum ≤ 8) (hdg : decode cc pc = .ok (.invokevirtual 33, 3)) (kk : ∀ (H1 : Heap) (locs1 : List Loc), cw_H E A D' H1 → va_S A s.heap H1 locs1 → W p l e R s m args below meth c H1 locs1 cells slots Q (F0 m (pc + 3) ls (rest))) : W p l e R s m args below meth c H locs cells slots Q (F0 m pc ls (.int x1 :: .ref a0 :: rest)) :=
  c7k_7_makeRoom X hsz hK hR hS hF hLo hc hs hkd (met7_makeRoom l _ _ _ _ hf) hrest hdg kk
end C_7_makeRoom_c
noncomputable def f7_lays_b1c (cf : Nat) (kf : Nat) (y0 : Nat) (y6 : Nat) (D_17 : cw_D) (x7 : Int32) : Option ((cw_D × Int32) ⊕ (Option Nat × cw_D × Nat × Nat)) :=
  ww_b (cw_gI D_17 [1] y6 1) (fun r_18 => if r_18 ≤ x7 then ww_x (some ((some y6), D_17, cf, kf)) else ww_b (cw_gR D_17 [1] y0 3) (fun r_20 => ww_b (cw_gI D_17 [1] y0 1) (fun r_21 => ww_b r_20 (fun a_22 => ww_b (cw_xI D_17 20 a_22 (r_21 + x7)) (fun r_23 => ww_b (cw_gR D_17 [1] y0 4) (fun r_24 => ww_b (cw_gI D_17 [1] y0 1) (fun r_25 => ww_b r_24 (fun a_26 => ww_b (cw_xI D_17 20 a_26 (r_25 + x7)) (fun r_27 => ww_g (cw_kd D_17 [1] (some y6)) (ww_b (f7_put D_17 y6 x7 r_23 r_27) (fun D_29 => some (.inl (D_29, (x7 + (1 : Int32)))))))))))))))
noncomputable def f7_lays_b1 (cf : Nat) (kf : Nat) (y0 : Nat) (y6 : Nat) : (cw_D × Int32) → Option ((cw_D × Int32) ⊕ (Option Nat × cw_D × Nat × Nat)) := fun s9 => f7_lays_b1c cf kf y0 y6 s9.1 s9.2
noncomputable def f7_lays_j1 (cf : Nat) (kf : Nat) (y0 : Nat) (y1 : Option Nat) (y2 : Int32) (y3 : Int32) (y4 : Int32) (y5 : Int32) (D_4 : cw_D) : Option (Option Nat × cw_D × Nat × Nat) :=
  ww_g (cw_kd D_4 [1] (some y0)) (ww_b (f7_put D_4 y0 y5 y2 y3) (fun D_6 => ww_b (cw_gI D_6 [1] y0 1) (fun r_7 => if y4 < r_7 then ww_b y1 (fun a_9 => ww_g (cw_kd D_6 [0] (some a_9)) (ww_b (f4_makes D_6 a_9) (fun D_11 => ww_b3 (f7_init (cw_nO D_11 1) D_11.2.2 (some a_9) y4) (fun D_12 c_12 k_12 => ww_b (cw_p D_12 [1] D_11.2.2 1 (.int ((y4 + (1 : Int32)) / (2 : Int32)))) (fun D_13 => ww_b (cw_gI D_13 [1] y0 1) (fun r_14 => ww_b (cw_gI D_13 [1] D_11.2.2 1) (fun r_15 => ww_b (cw_p D_13 [1] y0 1 (.int (r_14 - r_15))) (fun D_16 => ww_U (f7_lays_b1 ((cf + 1) + c_12) ((kf + 5) + k_12) y0 D_11.2.2) (D_16, (0 : Int32)))))))))) else some (none, D_6, cf, kf))))
noncomputable def f7_lays (D : cw_D) (a0 : Nat) (x1 : Option Nat) (x2 : Int32) (x3 : Int32) (x4 : Int32) : Option (Option Nat × cw_D × Nat × Nat) :=
  ww_g (cw_kd D [1] (some a0)) (ww_b (f7_placeOf D a0 x2) (fun r_2 => ww_b (cw_gI D [1] a0 1) (fun r_3 => if r_2 = r_3 then ww_g (cw_kd D [1] (some a0)) (ww_b (f7_makeRoom D a0 r_2) (fun D_32 => f7_lays_j1 0 0 a0 x1 x2 x3 x4 r_2 D_32)) else ww_b (cw_gR D [1] a0 3) (fun r_33 => ww_b r_33 (fun a_34 => ww_b (cw_xI D 20 a_34 r_2) (fun r_35 => if r_35 = x2 then f7_lays_j1 0 0 a0 x1 x2 x3 x4 r_2 D else ww_g (cw_kd D [1] (some a0)) (ww_b (f7_makeRoom D a0 r_2) (fun D_38 => f7_lays_j1 0 0 a0 x1 x2 x3 x4 r_2 D_38))))))))
set_option maxHeartbeats 4000000 in
set_option maxRecDepth 100000 in
theorem met7_lays (l : Launch) {E : cw_E} {A : Nat → Prop} (D : cw_D) (a0 : Nat) (x1 : Option Nat) (x2 : Int32) (x3 : Int32) (x4 : Int32) (r : Option Nat) (D' : cw_D) (nc ns : Nat) (hf : f7_lays D a0 x1 x2 x3 x4 = some (r, D', nc, ns)) : cw_MetQ l yX7_lays cX7_lays 8 (some (Jvm.ClassFile.FieldType.object "WideMap$Node")) 3 83 E A [.ref a0, va_rf x1, .int x2, .int x3, .int x4] D D' r nc ns := by
  unfold f7_lays at hf
  refine cw_sQN (own := RX7) (by decide +kernel) [(0, .ref a0), (1, va_rf x1), (2, .int x2), (3, .int x3), (4, .int x4)] ⟨by cases x1 <;> exact Nat.le_of_ble_eq_true rfl, by cases x1 <;> rfl⟩ ?_
  intro p e s m args below meth c Rm Q X hK hF hLo hC hin hend ls hl hR hS
  obtain ⟨hx, hb, hml, hown, hts⟩ := id X
  have hm9 : 0 ≤ nc ∧ 0 ≤ ns := ⟨Nat.zero_le _, Nat.zero_le _⟩
  refine lv_aload_n hx hb dX7_lays_0 rfl (lv_at hl 0 rfl) ?_
  refine lv_iload_n hx hb dX7_lays_1 rfl (lv_at hl 2 rfl) ?_
  obtain ⟨h_1, hq⟩ := ww_gS hf; replace hf := hq; clear hq
  obtain ⟨r_2, h_2, hq⟩ := ww_bS hf; replace hf := hq; clear hq
  refine c7c_7_placeOf X hl.1 hK hR hS (Nat.le_trans (Nat.le_of_ble_eq_true rfl) hF) (Nat.le_trans (Nat.le_of_ble_eq_true rfl) hLo) (Nat.le_trans hm9.1 hC.1) (Nat.le_trans hm9.2 hC.2) h_1 h_2 (cw_rest (Nat.le_of_ble_eq_true rfl)) dX7_lays_2 (fun H locs hR hS => ?_)
  refine lv_istore (lv' := [(5, .int r_2), (0, .ref a0), (1, va_rf x1), (2, .int x2), (3, .int x3), (4, .int x4)]) hx hb dX7_lays_5 hl (by decide) rfl (fun ls hl => ?_)
  refine lv_iload hx hb dX7_lays_7 (lv_at hl 0 rfl) ?_
  refine lv_aload_n hx hb dX7_lays_9 rfl (lv_at hl 1 rfl) ?_
  obtain ⟨r_3, h_3, hq⟩ := ww_bS hf; replace hf := hq; clear hq
  refine c7g_18 X hK hR h_3 dX7_lays_10 ?_
  have hj_1 : ∀ (D_4 : cw_D), f7_lays_j1 0 0 a0 x1 x2 x3 x4 r_2 D_4 = some (r, D', nc, ns) → (0 ≤ nc ∧ 0 ≤ ns) ∧ (∀ (H : Heap) (locs : List Loc) (ls : Array Slot), cw_H E A D_4 H → va_S A s.heap H locs → lv_has ls 8 [(0, .ref a0), (1, va_rf x1), (2, .int x2), (3, .int x3), (4, .int x4), (5, .int r_2)] → W p l e Rm s m args below meth c H locs 0 0 Q (F0 m 33 ls [])) := by
    clear hf
    intro D_4 hf
    unfold f7_lays_j1 at hf
    have hm9 : 0 ≤ nc ∧ 0 ≤ ns := by
      obtain ⟨h_5, hq⟩ := ww_gS hf; replace hf := hq; clear hq
      obtain ⟨D_6, h_6, hq⟩ := ww_bS hf; replace hf := hq; clear hq
      obtain ⟨r_7, h_7, hq⟩ := ww_bS hf; replace hf := hq; clear hq
      refine ww_by (x4 < r_7) (fun c_8 => ?_) (fun c_8 => ?_)
      · replace hf := ww_ip hf c_8
        obtain ⟨a_9, e_9, hq⟩ := ww_bS hf; replace hf := hq; clear hq
        subst e_9
        obtain ⟨h_10, hq⟩ := ww_gS hf; replace hf := hq; clear hq
        obtain ⟨D_11, h_11, hq⟩ := ww_bS hf; replace hf := hq; clear hq
        obtain ⟨D_12, c_12, k_12, h_12, hq⟩ := ww_b3S hf; replace hf := hq; clear hq
        obtain ⟨D_13, h_13, hq⟩ := ww_bS hf; replace hf := hq; clear hq
        obtain ⟨r_14, h_14, hq⟩ := ww_bS hf; replace hf := hq; clear hq
        obtain ⟨r_15, h_15, hq⟩ := ww_bS hf; replace hf := hq; clear hq
        obtain ⟨D_16, h_16, hq⟩ := ww_bS hf; replace hf := hq; clear hq
        have hL_1 : ∀ s9 : cw_D × Int32, ww_U (f7_lays_b1 ((0 + 1) + c_12) ((0 + 5) + k_12) a0 D_11.2.2) s9 = some (r, D', nc, ns) → ((0 + 1) + c_12) ≤ nc ∧ ((0 + 5) + k_12) ≤ ns := by
          clear hf
          refine ww_ind _ (r, D', nc, ns) ?_
          intro s9 z_1 hf hz_1
          obtain ⟨D_17, x7⟩ := s9
          replace hf : f7_lays_b1c ((0 + 1) + c_12) ((0 + 5) + k_12) a0 D_11.2.2 D_17 x7 = some z_1 := hf
          unfold f7_lays_b1c at hf
          show ((0 + 1) + c_12) ≤ nc ∧ ((0 + 5) + k_12) ≤ ns
          obtain ⟨r_18, h_18, hq⟩ := ww_bS hf; replace hf := hq; clear hq
          refine ww_by (r_18 ≤ x7) (fun c_19 => ?_) (fun c_19 => ?_)
          · replace hf := ww_ip hf c_19
            replace hf := ww_xK hf hz_1
            have e9 := hf
            simp only [Option.some.injEq, Prod.mk.injEq] at e9
            omega
          · replace hf := ww_in hf c_19
            obtain ⟨r_20, h_20, hq⟩ := ww_bS hf; replace hf := hq; clear hq
            obtain ⟨r_21, h_21, hq⟩ := ww_bS hf; replace hf := hq; clear hq
            obtain ⟨a_22, e_22, hq⟩ := ww_bS hf; replace hf := hq; clear hq
            subst e_22
            obtain ⟨r_23, h_23, hq⟩ := ww_bS hf; replace hf := hq; clear hq
            obtain ⟨r_24, h_24, hq⟩ := ww_bS hf; replace hf := hq; clear hq
            obtain ⟨r_25, h_25, hq⟩ := ww_bS hf; replace hf := hq; clear hq
            obtain ⟨a_26, e_26, hq⟩ := ww_bS hf; replace hf := hq; clear hq
            subst e_26
            obtain ⟨r_27, h_27, hq⟩ := ww_bS hf; replace hf := hq; clear hq
            obtain ⟨h_28, hq⟩ := ww_gS hf; replace hf := hq; clear hq
            obtain ⟨D_29, h_29, hq⟩ := ww_bS hf; replace hf := hq; clear hq
            have e9 := ww_lK hf hz_1
            try dsimp only at e9
            omega
        have e9 := hL_1 (D_16, (0 : Int32)) hf
        try dsimp only at e9
        omega
      · replace hf := ww_in hf c_8
        have e9 := hf
        simp only [Option.some.injEq, Prod.mk.injEq] at e9
        omega
    refine ⟨hm9, ?_⟩
    try clear hl
    try clear hS
    try clear hR
    intro H locs ls hR hS hl
    refine lv_aload_n hx hb dX7_lays_33 rfl (lv_at hl 0 rfl) ?_
    refine lv_iload hx hb dX7_lays_34 (lv_at hl 5 rfl) ?_
    refine lv_iload_n hx hb dX7_lays_36 rfl (lv_at hl 2 rfl) ?_
    refine lv_iload_n hx hb dX7_lays_37 rfl (lv_at hl 3 rfl) ?_
    obtain ⟨h_5, hq⟩ := ww_gS hf; replace hf := hq; clear hq
    obtain ⟨D_6, h_6, hq⟩ := ww_bS hf; replace hf := hq; clear hq
    refine c7c_7_put X hl.1 hK hR hS (Nat.le_trans (Nat.le_of_ble_eq_true rfl) hF) (Nat.le_trans (Nat.le_of_ble_eq_true rfl) hLo) (Nat.le_trans hm9.1 hC.1) (Nat.le_trans hm9.2 hC.2) h_5 h_6 (cw_rest (Nat.le_of_ble_eq_true rfl)) dX7_lays_38 (fun H locs hR hS => ?_)
    refine lv_aload_n hx hb dX7_lays_41 rfl (lv_at hl 0 rfl) ?_
    obtain ⟨r_7, h_7, hq⟩ := ww_bS hf; replace hf := hq; clear hq
    refine c7g_18 X hK hR h_7 dX7_lays_42 ?_
    refine lv_iload hx hb dX7_lays_45 (lv_at hl 4 rfl) ?_
    refine lv_icmp_gt (tgt := 52) hx hb dX7_lays_47 (by decide) (fun c_8 => ?_) (fun c_8 => ?_)
    · replace hf := ww_ip hf c_8
      refine cw_aload_n (x := x1) hx hb dX7_lays_52 rfl (lv_at hl 1 rfl) ?_
      obtain ⟨a_9, e_9, hq⟩ := ww_bS hf; replace hf := hq; clear hq
      subst e_9
      obtain ⟨h_10, hq⟩ := ww_gS hf; replace hf := hq; clear hq
      obtain ⟨D_11, h_11, hq⟩ := ww_bS hf; replace hf := hq; clear hq
      refine c7c_4_makes X hl.1 hK hR hS (Nat.le_trans (Nat.le_of_ble_eq_true rfl) hF) (Nat.le_trans (Nat.le_of_ble_eq_true rfl) hLo) (Nat.le_trans hm9.1 hC.1) (Nat.le_trans hm9.2 hC.2) h_10 h_11 (cw_rest (Nat.le_of_ble_eq_true rfl)) dX7_lays_53 (fun H locs hR hS => ?_)
      have hm9 : (0 + 1) ≤ nc ∧ (0 + 5) ≤ ns := by
        obtain ⟨D_12, c_12, k_12, h_12, hq⟩ := ww_b3S hf; replace hf := hq; clear hq
        obtain ⟨D_13, h_13, hq⟩ := ww_bS hf; replace hf := hq; clear hq
        obtain ⟨r_14, h_14, hq⟩ := ww_bS hf; replace hf := hq; clear hq
        obtain ⟨r_15, h_15, hq⟩ := ww_bS hf; replace hf := hq; clear hq
        obtain ⟨D_16, h_16, hq⟩ := ww_bS hf; replace hf := hq; clear hq
        have hL_1 : ∀ s9 : cw_D × Int32, ww_U (f7_lays_b1 ((0 + 1) + c_12) ((0 + 5) + k_12) a0 D_11.2.2) s9 = some (r, D', nc, ns) → ((0 + 1) + c_12) ≤ nc ∧ ((0 + 5) + k_12) ≤ ns := by
          clear hf
          refine ww_ind _ (r, D', nc, ns) ?_
          intro s9 z_1 hf hz_1
          obtain ⟨D_17, x7⟩ := s9
          replace hf : f7_lays_b1c ((0 + 1) + c_12) ((0 + 5) + k_12) a0 D_11.2.2 D_17 x7 = some z_1 := hf
          unfold f7_lays_b1c at hf
          show ((0 + 1) + c_12) ≤ nc ∧ ((0 + 5) + k_12) ≤ ns
          obtain ⟨r_18, h_18, hq⟩ := ww_bS hf; replace hf := hq; clear hq
          refine ww_by (r_18 ≤ x7) (fun c_19 => ?_) (fun c_19 => ?_)
          · replace hf := ww_ip hf c_19
            replace hf := ww_xK hf hz_1
            have e9 := hf
            simp only [Option.some.injEq, Prod.mk.injEq] at e9
            omega
          · replace hf := ww_in hf c_19
            obtain ⟨r_20, h_20, hq⟩ := ww_bS hf; replace hf := hq; clear hq
            obtain ⟨r_21, h_21, hq⟩ := ww_bS hf; replace hf := hq; clear hq
            obtain ⟨a_22, e_22, hq⟩ := ww_bS hf; replace hf := hq; clear hq
            subst e_22
            obtain ⟨r_23, h_23, hq⟩ := ww_bS hf; replace hf := hq; clear hq
            obtain ⟨r_24, h_24, hq⟩ := ww_bS hf; replace hf := hq; clear hq
            obtain ⟨r_25, h_25, hq⟩ := ww_bS hf; replace hf := hq; clear hq
            obtain ⟨a_26, e_26, hq⟩ := ww_bS hf; replace hf := hq; clear hq
            subst e_26
            obtain ⟨r_27, h_27, hq⟩ := ww_bS hf; replace hf := hq; clear hq
            obtain ⟨h_28, hq⟩ := ww_gS hf; replace hf := hq; clear hq
            obtain ⟨D_29, h_29, hq⟩ := ww_bS hf; replace hf := hq; clear hq
            have e9 := ww_lK hf hz_1
            try dsimp only at e9
            omega
        have e9 := hL_1 (D_16, (0 : Int32)) hf
        try dsimp only at e9
        omega
      refine cw_onew (ci := 1) (C := RX7) (T := TX7) (N := 5) rfl (by decide) in_X7 tyX7 tyX7_ok rfl X hK hR hS q1032 q838 q154 (Nat.le_trans hm9.1 hC.1) (Nat.le_trans hm9.2 hC.2) dX7_lays_56 (fun H hR hS => ?_)
      refine lv_dup hx hb dX7_lays_59 rfl ?_
      refine lv_aload_n hx hb dX7_lays_60 rfl (lv_at hl 1 rfl) ?_
      refine lv_iload hx hb dX7_lays_61 (lv_at hl 4 rfl) ?_
      obtain ⟨D_12, c_12, k_12, h_12, hq⟩ := ww_b3S hf; replace hf := hq; clear hq
      have hm9 : ((0 + 1) + c_12) ≤ nc ∧ ((0 + 5) + k_12) ≤ ns := by
        obtain ⟨D_13, h_13, hq⟩ := ww_bS hf; replace hf := hq; clear hq
        obtain ⟨r_14, h_14, hq⟩ := ww_bS hf; replace hf := hq; clear hq
        obtain ⟨r_15, h_15, hq⟩ := ww_bS hf; replace hf := hq; clear hq
        obtain ⟨D_16, h_16, hq⟩ := ww_bS hf; replace hf := hq; clear hq
        have hL_1 : ∀ s9 : cw_D × Int32, ww_U (f7_lays_b1 ((0 + 1) + c_12) ((0 + 5) + k_12) a0 D_11.2.2) s9 = some (r, D', nc, ns) → ((0 + 1) + c_12) ≤ nc ∧ ((0 + 5) + k_12) ≤ ns := by
          clear hf
          refine ww_ind _ (r, D', nc, ns) ?_
          intro s9 z_1 hf hz_1
          obtain ⟨D_17, x7⟩ := s9
          replace hf : f7_lays_b1c ((0 + 1) + c_12) ((0 + 5) + k_12) a0 D_11.2.2 D_17 x7 = some z_1 := hf
          unfold f7_lays_b1c at hf
          show ((0 + 1) + c_12) ≤ nc ∧ ((0 + 5) + k_12) ≤ ns
          obtain ⟨r_18, h_18, hq⟩ := ww_bS hf; replace hf := hq; clear hq
          refine ww_by (r_18 ≤ x7) (fun c_19 => ?_) (fun c_19 => ?_)
          · replace hf := ww_ip hf c_19
            replace hf := ww_xK hf hz_1
            have e9 := hf
            simp only [Option.some.injEq, Prod.mk.injEq] at e9
            omega
          · replace hf := ww_in hf c_19
            obtain ⟨r_20, h_20, hq⟩ := ww_bS hf; replace hf := hq; clear hq
            obtain ⟨r_21, h_21, hq⟩ := ww_bS hf; replace hf := hq; clear hq
            obtain ⟨a_22, e_22, hq⟩ := ww_bS hf; replace hf := hq; clear hq
            subst e_22
            obtain ⟨r_23, h_23, hq⟩ := ww_bS hf; replace hf := hq; clear hq
            obtain ⟨r_24, h_24, hq⟩ := ww_bS hf; replace hf := hq; clear hq
            obtain ⟨r_25, h_25, hq⟩ := ww_bS hf; replace hf := hq; clear hq
            obtain ⟨a_26, e_26, hq⟩ := ww_bS hf; replace hf := hq; clear hq
            subst e_26
            obtain ⟨r_27, h_27, hq⟩ := ww_bS hf; replace hf := hq; clear hq
            obtain ⟨h_28, hq⟩ := ww_gS hf; replace hf := hq; clear hq
            obtain ⟨D_29, h_29, hq⟩ := ww_bS hf; replace hf := hq; clear hq
            have e9 := ww_lK hf hz_1
            try dsimp only at e9
            omega
        have e9 := hL_1 (D_16, (0 : Int32)) hf
        try dsimp only at e9
        omega
      refine c7c_7_init (x1 := (some a_9)) X hl.1 hK hR hS (Nat.le_trans (Nat.le_of_ble_eq_true rfl) hF) (Nat.le_trans (Nat.le_of_ble_eq_true rfl) hLo) (Nat.le_trans hm9.1 hC.1) (Nat.le_trans hm9.2 hC.2) h_12 (cw_rest (Nat.le_of_ble_eq_true rfl)) dX7_lays_63 (fun H locs hR hS => ?_)
      refine lv_astore (lv' := [(6, .ref D_11.2.2), (0, .ref a0), (1, .ref a_9), (2, .int x2), (3, .int x3), (4, .int x4), (5, .int r_2)]) hx hb dX7_lays_66 hl (by decide) rfl (fun ls hl => ?_)
      refine lv_aload hx hb dX7_lays_68 (lv_at hl 0 rfl) ?_
      refine lv_iload hx hb dX7_lays_70 (lv_at hl 5 rfl) ?_
      refine lv_iconst (v := (1 : Int32)) hx hb dX7_lays_72 (by decide) ?_
      refine lv_iadd hx hb dX7_lays_73 ?_
      refine lv_iconst (v := (2 : Int32)) hx hb dX7_lays_74 (by decide) ?_
      refine lv_idiv hx hb dX7_lays_75 (by decide) ?_
      obtain ⟨D_13, h_13, hq⟩ := ww_bS hf; replace hf := hq; clear hq
      refine c7p_18 X hK hR hS h_13 dX7_lays_76 (fun H locs hR hS => ?_)
      refine lv_aload_n hx hb dX7_lays_79 rfl (lv_at hl 1 rfl) ?_
      refine lv_dup hx hb dX7_lays_80 rfl ?_
      obtain ⟨r_14, h_14, hq⟩ := ww_bS hf; replace hf := hq; clear hq
      refine c7g_18 X hK hR h_14 dX7_lays_81 ?_
      refine lv_aload hx hb dX7_lays_84 (lv_at hl 0 rfl) ?_
      obtain ⟨r_15, h_15, hq⟩ := ww_bS hf; replace hf := hq; clear hq
      refine c7g_18 X hK hR h_15 dX7_lays_86 ?_
      refine lv_isub hx hb dX7_lays_89 ?_
      obtain ⟨D_16, h_16, hq⟩ := ww_bS hf; replace hf := hq; clear hq
      refine c7p_18 X hK hR hS h_16 dX7_lays_90 (fun H locs hR hS => ?_)
      refine lv_iconst (v := (0 : Int32)) hx hb dX7_lays_93 (by decide) ?_
      refine lv_istore (lv' := [(7, .int (0 : Int32)), (6, .ref D_11.2.2), (0, .ref a0), (1, .ref a_9), (2, .int x2), (3, .int x3), (4, .int x4), (5, .int r_2)]) hx hb dX7_lays_94 hl (by decide) rfl (fun ls hl => ?_)
      have hL_1 : ∀ s9 : cw_D × Int32, ww_U (f7_lays_b1 ((0 + 1) + c_12) ((0 + 5) + k_12) a0 D_11.2.2) s9 = some (r, D', nc, ns) → (((0 + 1) + c_12) ≤ nc ∧ ((0 + 5) + k_12) ≤ ns) ∧ (∀ (H : Heap) (locs : List Loc) (ls : Array Slot), cw_H E A s9.1 H → va_S A s.heap H locs → lv_has ls 8 [(0, .ref a0), (6, .ref D_11.2.2), (7, .int s9.2)] → W p l e Rm s m args below meth c H locs ((0 + 1) + c_12) ((0 + 5) + k_12) Q (F0 m 96 ls [])) := by
        clear hf
        refine ww_ind _ (r, D', nc, ns) ?_
        intro s9 z_1 hf hz_1
        obtain ⟨D_17, x7⟩ := s9
        replace hf : f7_lays_b1c ((0 + 1) + c_12) ((0 + 5) + k_12) a0 D_11.2.2 D_17 x7 = some z_1 := hf
        unfold f7_lays_b1c at hf
        have hm9 : ((0 + 1) + c_12) ≤ nc ∧ ((0 + 5) + k_12) ≤ ns := by
          show ((0 + 1) + c_12) ≤ nc ∧ ((0 + 5) + k_12) ≤ ns
          obtain ⟨r_18, h_18, hq⟩ := ww_bS hf; replace hf := hq; clear hq
          refine ww_by (r_18 ≤ x7) (fun c_19 => ?_) (fun c_19 => ?_)
          · replace hf := ww_ip hf c_19
            replace hf := ww_xK hf hz_1
            have e9 := hf
            simp only [Option.some.injEq, Prod.mk.injEq] at e9
            omega
          · replace hf := ww_in hf c_19
            obtain ⟨r_20, h_20, hq⟩ := ww_bS hf; replace hf := hq; clear hq
            obtain ⟨r_21, h_21, hq⟩ := ww_bS hf; replace hf := hq; clear hq
            obtain ⟨a_22, e_22, hq⟩ := ww_bS hf; replace hf := hq; clear hq
            subst e_22
            obtain ⟨r_23, h_23, hq⟩ := ww_bS hf; replace hf := hq; clear hq
            obtain ⟨r_24, h_24, hq⟩ := ww_bS hf; replace hf := hq; clear hq
            obtain ⟨r_25, h_25, hq⟩ := ww_bS hf; replace hf := hq; clear hq
            obtain ⟨a_26, e_26, hq⟩ := ww_bS hf; replace hf := hq; clear hq
            subst e_26
            obtain ⟨r_27, h_27, hq⟩ := ww_bS hf; replace hf := hq; clear hq
            obtain ⟨h_28, hq⟩ := ww_gS hf; replace hf := hq; clear hq
            obtain ⟨D_29, h_29, hq⟩ := ww_bS hf; replace hf := hq; clear hq
            have e9 := (ww_lK hf hz_1).1
            try dsimp only at e9
            omega
        refine ⟨hm9, ?_⟩
        try clear hl
        try clear hS
        try clear hR
        intro H locs ls hR hS hl
        replace hR : cw_H E A D_17 H := hR
        replace hl : lv_has ls 8 [(0, .ref a0), (6, .ref D_11.2.2), (7, .int x7)] := hl
        refine lv_iload hx hb dX7_lays_96 (lv_at hl 2 rfl) ?_
        refine lv_aload hx hb dX7_lays_98 (lv_at hl 1 rfl) ?_
        obtain ⟨r_18, h_18, hq⟩ := ww_bS hf; replace hf := hq; clear hq
        refine c7g_18 X hK hR h_18 dX7_lays_100 ?_
        refine lv_icmp_ge (tgt := 143) hx hb dX7_lays_103 (by decide) (fun c_19 => ?_) (fun c_19 => ?_)
        · replace hf := ww_ip hf c_19
          replace hf := ww_xK hf hz_1
          refine lv_aload hx hb dX7_lays_143 (lv_at hl 1 rfl) ?_
          exact hend (v := (some D_11.2.2)) dX7_lays_145 rfl (Or.inl ⟨_, rfl⟩) hf hR hS
        · replace hf := ww_in hf c_19
          refine lv_aload hx hb dX7_lays_106 (lv_at hl 1 rfl) ?_
          refine lv_iload hx hb dX7_lays_108 (lv_at hl 2 rfl) ?_
          refine lv_aload_n hx hb dX7_lays_110 rfl (lv_at hl 0 rfl) ?_
          obtain ⟨r_20, h_20, hq⟩ := ww_bS hf; replace hf := hq; clear hq
          refine c7g_9 X hK hR h_20 dX7_lays_111 ?_
          refine lv_aload_n hx hb dX7_lays_114 rfl (lv_at hl 0 rfl) ?_
          obtain ⟨r_21, h_21, hq⟩ := ww_bS hf; replace hf := hq; clear hq
          refine c7g_18 X hK hR h_21 dX7_lays_115 ?_
          refine lv_iload hx hb dX7_lays_118 (lv_at hl 2 rfl) ?_
          refine lv_iadd hx hb dX7_lays_120 ?_
          obtain ⟨a_22, e_22, hq⟩ := ww_bS hf; replace hf := hq; clear hq
          subst e_22
          obtain ⟨r_23, h_23, hq⟩ := ww_bS hf; replace hf := hq; clear hq
          refine cw_oxI (kd := 20) (x := some a_22) X hK hR (by decide) rfl h_23 dX7_lays_121 ?_
          refine lv_aload_n hx hb dX7_lays_122 rfl (lv_at hl 0 rfl) ?_
          obtain ⟨r_24, h_24, hq⟩ := ww_bS hf; replace hf := hq; clear hq
          refine c7g_15 X hK hR h_24 dX7_lays_123 ?_
          refine lv_aload_n hx hb dX7_lays_126 rfl (lv_at hl 0 rfl) ?_
          obtain ⟨r_25, h_25, hq⟩ := ww_bS hf; replace hf := hq; clear hq
          refine c7g_18 X hK hR h_25 dX7_lays_127 ?_
          refine lv_iload hx hb dX7_lays_130 (lv_at hl 2 rfl) ?_
          refine lv_iadd hx hb dX7_lays_132 ?_
          obtain ⟨a_26, e_26, hq⟩ := ww_bS hf; replace hf := hq; clear hq
          subst e_26
          obtain ⟨r_27, h_27, hq⟩ := ww_bS hf; replace hf := hq; clear hq
          refine cw_oxI (kd := 20) (x := some a_26) X hK hR (by decide) rfl h_27 dX7_lays_133 ?_
          obtain ⟨h_28, hq⟩ := ww_gS hf; replace hf := hq; clear hq
          obtain ⟨D_29, h_29, hq⟩ := ww_bS hf; replace hf := hq; clear hq
          refine c7c_7_put X hl.1 hK hR hS (Nat.le_trans (Nat.le_of_ble_eq_true rfl) hF) (Nat.le_trans (Nat.le_of_ble_eq_true rfl) hLo) (Nat.le_trans hm9.1 hC.1) (Nat.le_trans hm9.2 hC.2) h_28 h_29 (cw_rest (Nat.le_of_ble_eq_true rfl)) dX7_lays_134 (fun H locs hR hS => ?_)
          refine lv_iinc (k := 2) (v := x7 + (1 : Int32)) (lv' := [(7, .int (x7 + (1 : Int32))), (0, .ref a0), (6, .ref D_11.2.2)]) hx hb dX7_lays_137 hl rfl rfl (by decide) rfl (fun ls hl => ?_)
          refine lv_goto (tgt := 96) hx hb dX7_lays_140 (by decide) ?_
          exact (ww_lK hf hz_1).2 _ _ _ hR hS (lv_sub hl [1, 2, 0] rfl)
      exact (hL_1 (D_16, (0 : Int32)) hf).2 _ _ _ hR hS (lv_sub hl [2, 1, 0] rfl)
    · replace hf := ww_in hf c_8
      refine lv_null hx hb dX7_lays_50 ?_
      exact hend (v := none) dX7_lays_51 rfl (Or.inl ⟨_, rfl⟩) hf hR hS
  refine lv_icmp_eq (tgt := 27) hx hb dX7_lays_13 (by decide) (fun c_30 => ?_) (fun c_30 => ?_)
  · replace hf := ww_ip hf c_30
    refine lv_aload_n hx hb dX7_lays_27 rfl (lv_at hl 1 rfl) ?_
    refine lv_iload hx hb dX7_lays_28 (lv_at hl 0 rfl) ?_
    obtain ⟨h_31, hq⟩ := ww_gS hf; replace hf := hq; clear hq
    obtain ⟨D_32, h_32, hq⟩ := ww_bS hf; replace hf := hq; clear hq
    refine c7c_7_makeRoom X hl.1 hK hR hS (Nat.le_trans (Nat.le_of_ble_eq_true rfl) hF) (Nat.le_trans (Nat.le_of_ble_eq_true rfl) hLo) (Nat.le_trans hm9.1 hC.1) (Nat.le_trans hm9.2 hC.2) h_31 h_32 (cw_rest (Nat.le_of_ble_eq_true rfl)) dX7_lays_30 (fun H locs hR hS => ?_)
    exact (hj_1 D_32 hf).2 _ _ _ hR hS (lv_sub hl [1, 2, 3, 4, 5, 0] rfl)
  · replace hf := ww_in hf c_30
    refine lv_aload_n hx hb dX7_lays_16 rfl (lv_at hl 1 rfl) ?_
    obtain ⟨r_33, h_33, hq⟩ := ww_bS hf; replace hf := hq; clear hq
    refine c7g_9 X hK hR h_33 dX7_lays_17 ?_
    refine lv_iload hx hb dX7_lays_20 (lv_at hl 0 rfl) ?_
    obtain ⟨a_34, e_34, hq⟩ := ww_bS hf; replace hf := hq; clear hq
    subst e_34
    obtain ⟨r_35, h_35, hq⟩ := ww_bS hf; replace hf := hq; clear hq
    refine cw_oxI (kd := 20) (x := some a_34) X hK hR (by decide) rfl h_35 dX7_lays_22 ?_
    refine lv_iload_n hx hb dX7_lays_23 rfl (lv_at hl 3 rfl) ?_
    refine lv_icmp_eq (tgt := 33) hx hb dX7_lays_24 (by decide) (fun c_36 => ?_) (fun c_36 => ?_)
    · replace hf := ww_ip hf c_36
      exact (hj_1 D hf).2 _ _ _ hR hS (lv_sub hl [1, 2, 3, 4, 5, 0] rfl)
    · replace hf := ww_in hf c_36
      refine lv_aload_n hx hb dX7_lays_27 rfl (lv_at hl 1 rfl) ?_
      refine lv_iload hx hb dX7_lays_28 (lv_at hl 0 rfl) ?_
      obtain ⟨h_37, hq⟩ := ww_gS hf; replace hf := hq; clear hq
      obtain ⟨D_38, h_38, hq⟩ := ww_bS hf; replace hf := hq; clear hq
      refine c7c_7_makeRoom X hl.1 hK hR hS (Nat.le_trans (Nat.le_of_ble_eq_true rfl) hF) (Nat.le_trans (Nat.le_of_ble_eq_true rfl) hLo) (Nat.le_trans hm9.1 hC.1) (Nat.le_trans hm9.2 hC.2) h_37 h_38 (cw_rest (Nat.le_of_ble_eq_true rfl)) dX7_lays_30 (fun H locs hR hS => ?_)
      exact (hj_1 D_38 hf).2 _ _ _ hR hS (lv_sub hl [1, 2, 3, 4, 5, 0] rfl)
noncomputable def f5r_lays (r8 : cw_D → Nat → Option Nat → Int32 → Int32 → Int32 → Option (Option Nat × cw_D × Nat × Nat)) : cw_D → Nat → Option Nat → Int32 → Int32 → Int32 → Option (Option Nat × cw_D × Nat × Nat) := fun D a x1 x2 x3 x4 =>
  if cw_kd D [1] (some a) = true then f7_lays D a x1 x2 x3 x4 else if cw_kd D [2] (some a) = true then r8 D a x1 x2 x3 x4 else none
noncomputable def f7_close_b1c (y0 : Nat) (D_1 : cw_D) (x2 : Int32) : Option ((cw_D × Int32) ⊕ (cw_D)) :=
  ww_b (cw_gI D_1 [1] y0 1) (fun r_2 => if (r_2 - (1 : Int32)) ≤ x2 then ww_x (ww_b (cw_gI D_1 [1] y0 1) (fun r_4 => ww_b (cw_p D_1 [1] y0 1 (.int (r_4 - (1 : Int32)))) (fun D_5 => some D_5))) else ww_b (cw_gR D_1 [1] y0 3) (fun r_6 => ww_b r_6 (fun a_7 => ww_b (cw_xI D_1 20 a_7 (x2 + (1 : Int32))) (fun r_8 => ww_b (cw_gR D_1 [1] y0 4) (fun r_9 => ww_b r_9 (fun a_10 => ww_b (cw_xI D_1 20 a_10 (x2 + (1 : Int32))) (fun r_11 => ww_g (cw_kd D_1 [1] (some y0)) (ww_b (f7_put D_1 y0 x2 r_8 r_11) (fun D_13 => some (.inl (D_13, (x2 + (1 : Int32)))))))))))))
noncomputable def f7_close_b1 (y0 : Nat) : (cw_D × Int32) → Option ((cw_D × Int32) ⊕ (cw_D)) := fun s9 => f7_close_b1c y0 s9.1 s9.2
noncomputable def f7_close (D : cw_D) (a0 : Nat) (x1 : Int32) : Option (cw_D) :=
  ww_U (f7_close_b1 a0) (D, x1)
section C_7_close_k
variable {p : Program} {l : Launch} {e : Env} {R : Room} {s : State} {m : MethodId} {args : Array Value} {below : List Frame} {meth : Method} {c : Code} {H : Heap} {locs : List Loc} {cells slots : Nat} {Q : State → Prop}
variable {cc : ByteArray} {pc : Nat} {ls : Array Slot} {rest : List Value} {nL : Nat} {E : cw_E} {A : Nat → Prop} {H0 : Heap}
theorem c7k_7_close {D : cw_D} {a0 : Nat} {x1 : Int32} {D' : cw_D} (X : ww_C p m c cc nL s args RX7 lw_all) (hsz : ls.size = nL) (hK : cw_K E A s) (hR : cw_H E A D H) (hS : va_S A s.heap H locs) (hF : 2 ≤ R.frames) (hLo : 45 ≤ R.locals) (hc : cells ≤ R.cells) (hs : slots ≤ R.slots) (hkd : cw_kd D [1] (some a0) = true) (hM : cw_MetV l yX7_close cX7_close 3 1 23 E A [.ref a0, .int x1] D D' 0 0) (hrest : (rest.map fun v => v.category).sum ≤ 8) (hdg : decode cc pc = .ok (.invokevirtual 43, 3)) (kk : ∀ (H1 : Heap) (locs1 : List Loc), cw_H E A D' H1 → va_S A s.heap H1 locs1 → W p l e R s m args below meth c H1 locs1 cells slots Q (F0 m (pc + 3) ls (rest))) : W p l e R s m args below meth c H locs cells slots Q (F0 m pc ls (.int x1 :: .ref a0 :: rest)) :=
  va_callv (va_runV (C := RX7) (As := [.int x1]) (rest := rest) (b := a0) X hM (cwV 1 X.2.2.2.2 (lw_V q1240 q1242 qs34 q154 q1243) rfl rfl rfl (by decide +kernel) ⟨hF, hLo⟩) (cw_pV hK hR hS (cw_rc (k := 1) (C := RX7) (T := TX7) (N := 5) rfl (by decide) hK hR hkd)) rfl rfl hsz rfl (lv_room hrest) hdg ⟨hc, hs⟩) hS (fun q _ h => h) (fun q h => h) (fun u t H1 locs1 ht hvm hw hB hz1 hk1 hS1 => by rw [ht] at hB; exact kk H1 locs1 hB hS1)
end C_7_close_k
set_option maxHeartbeats 4000000 in
set_option maxRecDepth 100000 in
theorem met7_close (l : Launch) {E : cw_E} {A : Nat → Prop} (D : cw_D) (a0 : Nat) (x1 : Int32) (D' : cw_D) (hf : f7_close D a0 x1 = some D') : cw_MetV l yX7_close cX7_close 3 1 23 E A [.ref a0, .int x1] D D' 0 0 := by
  unfold f7_close at hf
  refine cw_sVD (own := RX7) (by decide +kernel) [(0, .ref a0), (1, .int x1)] ⟨Nat.le_of_ble_eq_true rfl, rfl⟩ ?_
  intro p e s m args below meth c Rm Q X hK hF hLo hin hend ls hl hR hS
  obtain ⟨hx, hb, hml, hown, hts⟩ := id X
  refine lv_iload_n hx hb dX7_close_0 rfl (lv_at hl 1 rfl) ?_
  refine lv_istore_n (lv' := [(2, .int x1), (0, .ref a0), (1, .int x1)]) hx hb dX7_close_1 rfl hl (by decide) rfl (fun ls hl => ?_)
  have hL_1 : ∀ s9 : cw_D × Int32, ww_U (f7_close_b1 a0) s9 = some D' → ∀ (H : Heap) (locs : List Loc) (ls : Array Slot), cw_H E A s9.1 H → va_S A s.heap H locs → lv_has ls 3 [(0, .ref a0), (2, .int s9.2)] → W p l e Rm s m args below meth c H locs 0 0 Q (F0 m 2 ls []) := by
    clear hf
    refine ww_ind _ D' ?_
    intro s9 z_1 hf hz_1
    obtain ⟨D_1, x2⟩ := s9
    replace hf : f7_close_b1c a0 D_1 x2 = some z_1 := hf
    unfold f7_close_b1c at hf
    try clear hl
    try clear hS
    try clear hR
    intro H locs ls hR hS hl
    replace hR : cw_H E A D_1 H := hR
    replace hl : lv_has ls 3 [(0, .ref a0), (2, .int x2)] := hl
    refine lv_iload_n hx hb dX7_close_2 rfl (lv_at hl 1 rfl) ?_
    refine lv_aload_n hx hb dX7_close_3 rfl (lv_at hl 0 rfl) ?_
    obtain ⟨r_2, h_2, hq⟩ := ww_bS hf; replace hf := hq; clear hq
    refine c7g_18 X hK hR h_2 dX7_close_4 ?_
    refine lv_iconst (v := (1 : Int32)) hx hb dX7_close_7 (by decide) ?_
    refine lv_isub hx hb dX7_close_8 ?_
    refine lv_icmp_ge (tgt := 39) hx hb dX7_close_9 (by decide) (fun c_3 => ?_) (fun c_3 => ?_)
    · replace hf := ww_ip hf c_3
      replace hf := ww_xK hf hz_1
      refine lv_aload_n hx hb dX7_close_39 rfl (lv_at hl 0 rfl) ?_
      refine lv_dup hx hb dX7_close_40 rfl ?_
      obtain ⟨r_4, h_4, hq⟩ := ww_bS hf; replace hf := hq; clear hq
      refine c7g_18 X hK hR h_4 dX7_close_41 ?_
      refine lv_iconst (v := (1 : Int32)) hx hb dX7_close_44 (by decide) ?_
      refine lv_isub hx hb dX7_close_45 ?_
      obtain ⟨D_5, h_5, hq⟩ := ww_bS hf; replace hf := hq; clear hq
      refine c7p_18 X hK hR hS h_5 dX7_close_46 (fun H locs hR hS => ?_)
      exact hend dX7_close_49 hf hR hS
    · replace hf := ww_in hf c_3
      refine lv_aload_n hx hb dX7_close_12 rfl (lv_at hl 0 rfl) ?_
      refine lv_iload_n hx hb dX7_close_13 rfl (lv_at hl 1 rfl) ?_
      refine lv_aload_n hx hb dX7_close_14 rfl (lv_at hl 0 rfl) ?_
      obtain ⟨r_6, h_6, hq⟩ := ww_bS hf; replace hf := hq; clear hq
      refine c7g_9 X hK hR h_6 dX7_close_15 ?_
      refine lv_iload_n hx hb dX7_close_18 rfl (lv_at hl 1 rfl) ?_
      refine lv_iconst (v := (1 : Int32)) hx hb dX7_close_19 (by decide) ?_
      refine lv_iadd hx hb dX7_close_20 ?_
      obtain ⟨a_7, e_7, hq⟩ := ww_bS hf; replace hf := hq; clear hq
      subst e_7
      obtain ⟨r_8, h_8, hq⟩ := ww_bS hf; replace hf := hq; clear hq
      refine cw_oxI (kd := 20) (x := some a_7) X hK hR (by decide) rfl h_8 dX7_close_21 ?_
      refine lv_aload_n hx hb dX7_close_22 rfl (lv_at hl 0 rfl) ?_
      obtain ⟨r_9, h_9, hq⟩ := ww_bS hf; replace hf := hq; clear hq
      refine c7g_15 X hK hR h_9 dX7_close_23 ?_
      refine lv_iload_n hx hb dX7_close_26 rfl (lv_at hl 1 rfl) ?_
      refine lv_iconst (v := (1 : Int32)) hx hb dX7_close_27 (by decide) ?_
      refine lv_iadd hx hb dX7_close_28 ?_
      obtain ⟨a_10, e_10, hq⟩ := ww_bS hf; replace hf := hq; clear hq
      subst e_10
      obtain ⟨r_11, h_11, hq⟩ := ww_bS hf; replace hf := hq; clear hq
      refine cw_oxI (kd := 20) (x := some a_10) X hK hR (by decide) rfl h_11 dX7_close_29 ?_
      obtain ⟨h_12, hq⟩ := ww_gS hf; replace hf := hq; clear hq
      obtain ⟨D_13, h_13, hq⟩ := ww_bS hf; replace hf := hq; clear hq
      refine c7c_7_put X hl.1 hK hR hS (Nat.le_trans (Nat.le_of_ble_eq_true rfl) hF) (Nat.le_trans (Nat.le_of_ble_eq_true rfl) hLo) (Nat.zero_le _) (Nat.zero_le _) h_12 h_13 (cw_rest (Nat.le_of_ble_eq_true rfl)) dX7_close_30 (fun H locs hR hS => ?_)
      refine lv_iinc (k := 1) (v := x2 + (1 : Int32)) (lv' := [(2, .int (x2 + (1 : Int32))), (0, .ref a0)]) hx hb dX7_close_33 hl rfl rfl (by decide) rfl (fun ls hl => ?_)
      refine lv_goto (tgt := 2) hx hb dX7_close_36 (by decide) ?_
      exact ww_lK hf hz_1 _ _ _ hR hS (lv_sub hl [1, 0] rfl)
  exact hL_1 (D, x1) hf _ _ _ hR hS (lv_sub hl [1, 0] rfl)
section C_7_close_c
variable {p : Program} {l : Launch} {e : Env} {R : Room} {s : State} {m : MethodId} {args : Array Value} {below : List Frame} {meth : Method} {c : Code} {H : Heap} {locs : List Loc} {cells slots : Nat} {Q : State → Prop}
variable {cc : ByteArray} {pc : Nat} {ls : Array Slot} {rest : List Value} {nL : Nat} {E : cw_E} {A : Nat → Prop} {H0 : Heap}
theorem c7c_7_close {D : cw_D} {a0 : Nat} {x1 : Int32} {D' : cw_D} (X : ww_C p m c cc nL s args RX7 lw_all) (hsz : ls.size = nL) (hK : cw_K E A s) (hR : cw_H E A D H) (hS : va_S A s.heap H locs) (hF : 2 ≤ R.frames) (hLo : 45 ≤ R.locals) (hc : cells ≤ R.cells) (hs : slots ≤ R.slots) (hkd : cw_kd D [1] (some a0) = true) (hf : f7_close D a0 x1 = some D') (hrest : (rest.map fun v => v.category).sum ≤ 8) (hdg : decode cc pc = .ok (.invokevirtual 43, 3)) (kk : ∀ (H1 : Heap) (locs1 : List Loc), cw_H E A D' H1 → va_S A s.heap H1 locs1 → W p l e R s m args below meth c H1 locs1 cells slots Q (F0 m (pc + 3) ls (rest))) : W p l e R s m args below meth c H locs cells slots Q (F0 m pc ls (.int x1 :: .ref a0 :: rest)) :=
  c7k_7_close X hsz hK hR hS hF hLo hc hs hkd (met7_close l _ _ _ _ hf) hrest hdg kk
end C_7_close_c
noncomputable def f7_takes (D : cw_D) (a0 : Nat) (x1 : Option Nat) (x2 : Int32) (x3 : Int32) : Option (cw_D × Nat × Nat) :=
  ww_g (cw_kd D [1] (some a0)) (ww_b (f7_placeOf D a0 x2) (fun r_2 => ww_g (cw_kd D [1] (some a0)) (ww_b (f7_close D a0 r_2) (fun D_4 => some (D_4, 0, 0)))))
set_option maxHeartbeats 4000000 in
set_option maxRecDepth 100000 in
theorem met7_takes (l : Launch) {E : cw_E} {A : Nat → Prop} (D : cw_D) (a0 : Nat) (x1 : Option Nat) (x2 : Int32) (x3 : Int32) (D' : cw_D) (nc ns : Nat) (hf : f7_takes D a0 x1 x2 x3 = some (D', nc, ns)) : cw_MetV l yX7_takes cX7_takes 4 2 45 E A [.ref a0, va_rf x1, .int x2, .int x3] D D' nc ns := by
  unfold f7_takes at hf
  refine cw_sVN (own := RX7) (by decide +kernel) [(0, .ref a0), (1, va_rf x1), (2, .int x2), (3, .int x3)] ⟨by cases x1 <;> exact Nat.le_of_ble_eq_true rfl, by cases x1 <;> rfl⟩ ?_
  intro p e s m args below meth c Rm Q X hK hF hLo hC hin hend ls hl hR hS
  obtain ⟨hx, hb, hml, hown, hts⟩ := id X
  have hm9 : 0 ≤ nc ∧ 0 ≤ ns := ⟨Nat.zero_le _, Nat.zero_le _⟩
  refine lv_aload_n hx hb dX7_takes_0 rfl (lv_at hl 0 rfl) ?_
  refine lv_aload_n hx hb dX7_takes_1 rfl (lv_at hl 0 rfl) ?_
  refine lv_iload_n hx hb dX7_takes_2 rfl (lv_at hl 2 rfl) ?_
  obtain ⟨h_1, hq⟩ := ww_gS hf; replace hf := hq; clear hq
  obtain ⟨r_2, h_2, hq⟩ := ww_bS hf; replace hf := hq; clear hq
  refine c7c_7_placeOf X hl.1 hK hR hS (Nat.le_trans (Nat.le_of_ble_eq_true rfl) hF) (Nat.le_trans (Nat.le_of_ble_eq_true rfl) hLo) (Nat.le_trans hm9.1 hC.1) (Nat.le_trans hm9.2 hC.2) h_1 h_2 (cw_rest (Nat.le_of_ble_eq_true rfl)) dX7_takes_3 (fun H locs hR hS => ?_)
  obtain ⟨h_3, hq⟩ := ww_gS hf; replace hf := hq; clear hq
  obtain ⟨D_4, h_4, hq⟩ := ww_bS hf; replace hf := hq; clear hq
  refine c7c_7_close X hl.1 hK hR hS (Nat.le_trans (Nat.le_of_ble_eq_true rfl) hF) (Nat.le_trans (Nat.le_of_ble_eq_true rfl) hLo) (Nat.le_trans hm9.1 hC.1) (Nat.le_trans hm9.2 hC.2) h_3 h_4 (cw_rest (Nat.le_of_ble_eq_true rfl)) dX7_takes_6 (fun H locs hR hS => ?_)
  exact hend dX7_takes_9 hf hR hS
noncomputable def f5r_takes (r8 : cw_D → Nat → Option Nat → Int32 → Int32 → Option (cw_D × Nat × Nat)) : cw_D → Nat → Option Nat → Int32 → Int32 → Option (cw_D × Nat × Nat) := fun D a x1 x2 x3 =>
  if cw_kd D [1] (some a) = true then f7_takes D a x1 x2 x3 else if cw_kd D [2] (some a) = true then r8 D a x1 x2 x3 else none
noncomputable def f7_lastOf (D : cw_D) (a0 : Nat) (x1 : Option Nat) : Option (cw_D) :=
  ww_b x1 (fun a_1 => ww_g (cw_kd D [1] (some a_1)) (ww_g (cw_kd D [1] (some a0)) (ww_b (f7_makeRoom D a0 (0 : Int32)) (fun D_4 => ww_b (cw_gI D_4 [1] a_1 1) (fun r_5 => ww_b (cw_p D_4 [1] a_1 1 (.int (r_5 - (1 : Int32)))) (fun D_6 => ww_b (cw_gR D_6 [1] a_1 3) (fun r_7 => ww_b (cw_gI D_6 [1] a_1 1) (fun r_8 => ww_b r_7 (fun a_9 => ww_b (cw_xI D_6 20 a_9 r_8) (fun r_10 => ww_b (cw_gR D_6 [1] a_1 4) (fun r_11 => ww_b (cw_gI D_6 [1] a_1 1) (fun r_12 => ww_b r_11 (fun a_13 => ww_b (cw_xI D_6 20 a_13 r_12) (fun r_14 => ww_g (cw_kd D_6 [1] (some a0)) (ww_b (f7_put D_6 a0 (0 : Int32) r_10 r_14) (fun D_16 => some D_16))))))))))))))))
set_option maxHeartbeats 4000000 in
set_option maxRecDepth 100000 in
theorem met7_lastOf (l : Launch) {E : cw_E} {A : Nat → Prop} (D : cw_D) (a0 : Nat) (x1 : Option Nat) (D' : cw_D) (hf : f7_lastOf D a0 x1 = some D') : cw_MetV l yX7_lastOf cX7_lastOf 3 2 45 E A [.ref a0, va_rf x1] D D' 0 0 := by
  unfold f7_lastOf at hf
  refine cw_sVD (own := RX7) (by decide +kernel) [(0, .ref a0), (1, va_rf x1)] ⟨by cases x1 <;> exact Nat.le_of_ble_eq_true rfl, by cases x1 <;> rfl⟩ ?_
  intro p e s m args below meth c Rm Q X hK hF hLo hin hend ls hl hR hS
  obtain ⟨hx, hb, hml, hown, hts⟩ := id X
  refine cw_aload_n (x := x1) hx hb dX7_lastOf_0 rfl (lv_at hl 1 rfl) ?_
  obtain ⟨a_1, e_1, hq⟩ := ww_bS hf; replace hf := hq; clear hq
  subst e_1
  obtain ⟨h_2, hq⟩ := ww_gS hf; replace hf := hq; clear hq
  refine va_castS hx hb hown (hts _ q1032) (cw_cls (k := 1) (T := TX7) (N := 5) rfl hK) (cw_rc (k := 1) (C := RX7) (T := TX7) (N := 5) rfl (by decide) hK hR h_2) dX7_lastOf_1 ?_
  refine lv_astore_n (lv' := [(2, .ref a_1), (0, .ref a0), (1, .ref a_1)]) hx hb dX7_lastOf_4 rfl hl (by decide) rfl (fun ls hl => ?_)
  refine lv_aload_n hx hb dX7_lastOf_5 rfl (lv_at hl 1 rfl) ?_
  refine lv_iconst (v := (0 : Int32)) hx hb dX7_lastOf_6 (by decide) ?_
  obtain ⟨h_3, hq⟩ := ww_gS hf; replace hf := hq; clear hq
  obtain ⟨D_4, h_4, hq⟩ := ww_bS hf; replace hf := hq; clear hq
  refine c7c_7_makeRoom X hl.1 hK hR hS (Nat.le_trans (Nat.le_of_ble_eq_true rfl) hF) (Nat.le_trans (Nat.le_of_ble_eq_true rfl) hLo) (Nat.zero_le _) (Nat.zero_le _) h_3 h_4 (cw_rest (Nat.le_of_ble_eq_true rfl)) dX7_lastOf_7 (fun H locs hR hS => ?_)
  refine lv_aload_n hx hb dX7_lastOf_10 rfl (lv_at hl 0 rfl) ?_
  refine lv_dup hx hb dX7_lastOf_11 rfl ?_
  obtain ⟨r_5, h_5, hq⟩ := ww_bS hf; replace hf := hq; clear hq
  refine c7g_18 X hK hR h_5 dX7_lastOf_12 ?_
  refine lv_iconst (v := (1 : Int32)) hx hb dX7_lastOf_15 (by decide) ?_
  refine lv_isub hx hb dX7_lastOf_16 ?_
  obtain ⟨D_6, h_6, hq⟩ := ww_bS hf; replace hf := hq; clear hq
  refine c7p_18 X hK hR hS h_6 dX7_lastOf_17 (fun H locs hR hS => ?_)
  refine lv_aload_n hx hb dX7_lastOf_20 rfl (lv_at hl 1 rfl) ?_
  refine lv_iconst (v := (0 : Int32)) hx hb dX7_lastOf_21 (by decide) ?_
  refine lv_aload_n hx hb dX7_lastOf_22 rfl (lv_at hl 0 rfl) ?_
  obtain ⟨r_7, h_7, hq⟩ := ww_bS hf; replace hf := hq; clear hq
  refine c7g_9 X hK hR h_7 dX7_lastOf_23 ?_
  refine lv_aload_n hx hb dX7_lastOf_26 rfl (lv_at hl 0 rfl) ?_
  obtain ⟨r_8, h_8, hq⟩ := ww_bS hf; replace hf := hq; clear hq
  refine c7g_18 X hK hR h_8 dX7_lastOf_27 ?_
  obtain ⟨a_9, e_9, hq⟩ := ww_bS hf; replace hf := hq; clear hq
  subst e_9
  obtain ⟨r_10, h_10, hq⟩ := ww_bS hf; replace hf := hq; clear hq
  refine cw_oxI (kd := 20) (x := some a_9) X hK hR (by decide) rfl h_10 dX7_lastOf_30 ?_
  refine lv_aload_n hx hb dX7_lastOf_31 rfl (lv_at hl 0 rfl) ?_
  obtain ⟨r_11, h_11, hq⟩ := ww_bS hf; replace hf := hq; clear hq
  refine c7g_15 X hK hR h_11 dX7_lastOf_32 ?_
  refine lv_aload_n hx hb dX7_lastOf_35 rfl (lv_at hl 0 rfl) ?_
  obtain ⟨r_12, h_12, hq⟩ := ww_bS hf; replace hf := hq; clear hq
  refine c7g_18 X hK hR h_12 dX7_lastOf_36 ?_
  obtain ⟨a_13, e_13, hq⟩ := ww_bS hf; replace hf := hq; clear hq
  subst e_13
  obtain ⟨r_14, h_14, hq⟩ := ww_bS hf; replace hf := hq; clear hq
  refine cw_oxI (kd := 20) (x := some a_13) X hK hR (by decide) rfl h_14 dX7_lastOf_39 ?_
  obtain ⟨h_15, hq⟩ := ww_gS hf; replace hf := hq; clear hq
  obtain ⟨D_16, h_16, hq⟩ := ww_bS hf; replace hf := hq; clear hq
  refine c7c_7_put X hl.1 hK hR hS (Nat.le_trans (Nat.le_of_ble_eq_true rfl) hF) (Nat.le_trans (Nat.le_of_ble_eq_true rfl) hLo) (Nat.zero_le _) (Nat.zero_le _) h_15 h_16 (cw_rest (Nat.le_of_ble_eq_true rfl)) dX7_lastOf_40 (fun H locs hR hS => ?_)
  exact hend dX7_lastOf_43 hf hR hS
noncomputable def f7_firstOf (D : cw_D) (a0 : Nat) (x1 : Option Nat) : Option (cw_D) :=
  ww_b x1 (fun a_1 => ww_g (cw_kd D [1] (some a_1)) (ww_b (cw_gI D [1] a0 1) (fun r_3 => ww_b (cw_gR D [1] a_1 3) (fun r_4 => ww_b r_4 (fun a_5 => ww_b (cw_xI D 20 a_5 (0 : Int32)) (fun r_6 => ww_b (cw_gR D [1] a_1 4) (fun r_7 => ww_b r_7 (fun a_8 => ww_b (cw_xI D 20 a_8 (0 : Int32)) (fun r_9 => ww_g (cw_kd D [1] (some a0)) (ww_b (f7_put D a0 r_3 r_6 r_9) (fun D_11 => ww_b (cw_gI D_11 [1] a0 1) (fun r_12 => ww_b (cw_p D_11 [1] a0 1 (.int (r_12 + (1 : Int32)))) (fun D_13 => ww_g (cw_kd D_13 [1] (some a_1)) (ww_b (f7_close D_13 a_1 (0 : Int32)) (fun D_15 => some D_15)))))))))))))))
set_option maxHeartbeats 4000000 in
set_option maxRecDepth 100000 in
theorem met7_firstOf (l : Launch) {E : cw_E} {A : Nat → Prop} (D : cw_D) (a0 : Nat) (x1 : Option Nat) (D' : cw_D) (hf : f7_firstOf D a0 x1 = some D') : cw_MetV l yX7_firstOf cX7_firstOf 3 2 45 E A [.ref a0, va_rf x1] D D' 0 0 := by
  unfold f7_firstOf at hf
  refine cw_sVD (own := RX7) (by decide +kernel) [(0, .ref a0), (1, va_rf x1)] ⟨by cases x1 <;> exact Nat.le_of_ble_eq_true rfl, by cases x1 <;> rfl⟩ ?_
  intro p e s m args below meth c Rm Q X hK hF hLo hin hend ls hl hR hS
  obtain ⟨hx, hb, hml, hown, hts⟩ := id X
  refine cw_aload_n (x := x1) hx hb dX7_firstOf_0 rfl (lv_at hl 1 rfl) ?_
  obtain ⟨a_1, e_1, hq⟩ := ww_bS hf; replace hf := hq; clear hq
  subst e_1
  obtain ⟨h_2, hq⟩ := ww_gS hf; replace hf := hq; clear hq
  refine va_castS hx hb hown (hts _ q1032) (cw_cls (k := 1) (T := TX7) (N := 5) rfl hK) (cw_rc (k := 1) (C := RX7) (T := TX7) (N := 5) rfl (by decide) hK hR h_2) dX7_firstOf_1 ?_
  refine lv_astore_n (lv' := [(2, .ref a_1), (0, .ref a0), (1, .ref a_1)]) hx hb dX7_firstOf_4 rfl hl (by decide) rfl (fun ls hl => ?_)
  refine lv_aload_n hx hb dX7_firstOf_5 rfl (lv_at hl 1 rfl) ?_
  refine lv_aload_n hx hb dX7_firstOf_6 rfl (lv_at hl 1 rfl) ?_
  obtain ⟨r_3, h_3, hq⟩ := ww_bS hf; replace hf := hq; clear hq
  refine c7g_18 X hK hR h_3 dX7_firstOf_7 ?_
  refine lv_aload_n hx hb dX7_firstOf_10 rfl (lv_at hl 0 rfl) ?_
  obtain ⟨r_4, h_4, hq⟩ := ww_bS hf; replace hf := hq; clear hq
  refine c7g_9 X hK hR h_4 dX7_firstOf_11 ?_
  refine lv_iconst (v := (0 : Int32)) hx hb dX7_firstOf_14 (by decide) ?_
  obtain ⟨a_5, e_5, hq⟩ := ww_bS hf; replace hf := hq; clear hq
  subst e_5
  obtain ⟨r_6, h_6, hq⟩ := ww_bS hf; replace hf := hq; clear hq
  refine cw_oxI (kd := 20) (x := some a_5) X hK hR (by decide) rfl h_6 dX7_firstOf_15 ?_
  refine lv_aload_n hx hb dX7_firstOf_16 rfl (lv_at hl 0 rfl) ?_
  obtain ⟨r_7, h_7, hq⟩ := ww_bS hf; replace hf := hq; clear hq
  refine c7g_15 X hK hR h_7 dX7_firstOf_17 ?_
  refine lv_iconst (v := (0 : Int32)) hx hb dX7_firstOf_20 (by decide) ?_
  obtain ⟨a_8, e_8, hq⟩ := ww_bS hf; replace hf := hq; clear hq
  subst e_8
  obtain ⟨r_9, h_9, hq⟩ := ww_bS hf; replace hf := hq; clear hq
  refine cw_oxI (kd := 20) (x := some a_8) X hK hR (by decide) rfl h_9 dX7_firstOf_21 ?_
  obtain ⟨h_10, hq⟩ := ww_gS hf; replace hf := hq; clear hq
  obtain ⟨D_11, h_11, hq⟩ := ww_bS hf; replace hf := hq; clear hq
  refine c7c_7_put X hl.1 hK hR hS (Nat.le_trans (Nat.le_of_ble_eq_true rfl) hF) (Nat.le_trans (Nat.le_of_ble_eq_true rfl) hLo) (Nat.zero_le _) (Nat.zero_le _) h_10 h_11 (cw_rest (Nat.le_of_ble_eq_true rfl)) dX7_firstOf_22 (fun H locs hR hS => ?_)
  refine lv_aload_n hx hb dX7_firstOf_25 rfl (lv_at hl 1 rfl) ?_
  refine lv_dup hx hb dX7_firstOf_26 rfl ?_
  obtain ⟨r_12, h_12, hq⟩ := ww_bS hf; replace hf := hq; clear hq
  refine c7g_18 X hK hR h_12 dX7_firstOf_27 ?_
  refine lv_iconst (v := (1 : Int32)) hx hb dX7_firstOf_30 (by decide) ?_
  refine lv_iadd hx hb dX7_firstOf_31 ?_
  obtain ⟨D_13, h_13, hq⟩ := ww_bS hf; replace hf := hq; clear hq
  refine c7p_18 X hK hR hS h_13 dX7_firstOf_32 (fun H locs hR hS => ?_)
  refine lv_aload_n hx hb dX7_firstOf_35 rfl (lv_at hl 0 rfl) ?_
  refine lv_iconst (v := (0 : Int32)) hx hb dX7_firstOf_36 (by decide) ?_
  obtain ⟨h_14, hq⟩ := ww_gS hf; replace hf := hq; clear hq
  obtain ⟨D_15, h_15, hq⟩ := ww_bS hf; replace hf := hq; clear hq
  refine c7c_7_close X hl.1 hK hR hS (Nat.le_trans (Nat.le_of_ble_eq_true rfl) hF) (Nat.le_trans (Nat.le_of_ble_eq_true rfl) hLo) (Nat.zero_le _) (Nat.zero_le _) h_14 h_15 (cw_rest (Nat.le_of_ble_eq_true rfl)) dX7_firstOf_37 (fun H locs hR hS => ?_)
  exact hend dX7_firstOf_40 hf hR hS
noncomputable def f8_low_r (rec : cw_D → Nat → Option (Int32)) (D : cw_D) (a0 : Nat) : Option (Int32) :=
  ww_b (cw_gR D [2] a0 3) (fun r_1 => ww_b r_1 (fun a_3 => ww_b (cw_xR D a_3 (0 : Int32)) (fun r_2 => ww_b r_2 (fun a_4 => ww_b (f5r_low rec D a_4) (fun r_5 => some r_5)))))
noncomputable def f8_low : Nat → cw_D → Nat → Option (Int32)
  | 0 => fun _ _ => none
  | d + 1 => f8_low_r (f8_low d)
section C_8_low_j
variable {p : Program} {l : Launch} {e : Env} {R : Room} {s : State} {m : MethodId} {args : Array Value} {below : List Frame} {meth : Method} {c : Code} {H : Heap} {locs : List Loc} {cells slots : Nat} {Q : State → Prop}
variable {cc : ByteArray} {pc : Nat} {ls : Array Slot} {rest : List Value} {nL : Nat} {E : cw_E} {A : Nat → Prop} {H0 : Heap}
theorem c1j_low {D : cw_D} {a0 : Nat} {r : Int32} {d : Nat} (X : ww_C p m c cc nL s args RX1 lw_all) (hsz : ls.size = nL) (hK : cw_K E A s) (hR : cw_H E A D H) (hS : va_S A s.heap H locs) (hF : d + 1 + 1 ≤ R.frames) (hLo : 8 + (1 + 11) + (20 * d + 20) ≤ R.locals) (hc : cells ≤ R.cells) (hs : slots ≤ R.slots) (ih : f8_low d D a0 = some r → cw_MetI l yX8_low cX8_low 1 (some Jvm.ClassFile.FieldType.int) (d + 1) (20 * d + 20) E A [.ref a0] D D r 0 0) (hf : f5r_low (f8_low d) D a0 = some r) (hrest : (rest.map fun v => v.category).sum ≤ 8) {count : Nat} (hdg : decode cc pc = .ok (.invokeinterface 361 count, 5)) (kk : ∀ (H1 : Heap) (locs1 : List Loc), cw_H E A D H1 → va_S A s.heap H1 locs1 → W p l e R s m args below meth c H1 locs1 cells slots Q (F0 m (pc + 5) ls (.int r :: rest))) : W p l e R s m args below meth c H locs cells slots Q (F0 m pc ls (.ref a0 :: rest)) := by
  unfold f5r_low at hf
  by_cases hkd : cw_kd D [1] (some a0) = true
  · rw [if_pos hkd] at hf
    exact va_callFi (va_runF (C := RX7) (x := ⟨"WideMap$Node", "low", "()I"⟩) (As := []) (rest := rest) (b := a0) (cw_cls (k := 1) (C := RX7) (T := TX7) (N := 5) rfl hK) X (met7_low l _ _ _ hf) (va_cwF 0 X.2.2.2.2 (cw_F q1186 q937 q939 q154 q941) rfl rfl rfl (hK.2.2.2.1 ("WideMap$Leaf", ⟨"WideMap$Node", "low", "()I"⟩, ⟨"WideMap$Leaf", "low", "()I"⟩) (by decide +kernel)) (by decide +kernel) ⟨(show 1 ≤ R.frames by omega), (show 20 ≤ R.locals by omega)⟩) (cw_pV hK hR hS (cw_rc (k := 1) (C := RX7) (T := TX7) (N := 5) rfl (by decide) hK hR hkd)) rfl rfl hsz rfl (lv_room hrest) hdg ⟨hc, hs⟩) hS (fun q _ h => h) (fun q h => h) (fun r' u t H1 locs1 ht hvm hw hB hz1 hk1 hS1 => by subst hw; rw [ht] at hB; exact kk H1 locs1 hB hS1)
  · rw [if_neg hkd] at hf
    by_cases hkd : cw_kd D [2] (some a0) = true
    · rw [if_pos hkd] at hf
      exact va_callFi (va_runF (C := RX8) (x := ⟨"WideMap$Node", "low", "()I"⟩) (As := []) (rest := rest) (b := a0) (cw_cls (k := 2) (C := RX8) (T := TX8) (N := 4) rfl hK) X (ih hf) (va_cwF 0 X.2.2.2.2 (cw_F q1186 q930 q932 q155 q934) rfl rfl rfl (hK.2.2.2.1 ("WideMap$Inner", ⟨"WideMap$Node", "low", "()I"⟩, ⟨"WideMap$Inner", "low", "()I"⟩) (by decide +kernel)) (by decide +kernel) ⟨(show d + 1 + 1 ≤ R.frames by omega), (show 8 + (1 + 11) + (20 * d + 20) ≤ R.locals by omega)⟩) (cw_pV hK hR hS (cw_rc (k := 2) (C := RX8) (T := TX8) (N := 4) rfl (by decide) hK hR hkd)) rfl rfl hsz rfl (lv_room hrest) hdg ⟨hc, hs⟩) hS (fun q _ h => h) (fun q h => h) (fun r' u t H1 locs1 ht hvm hw hB hz1 hk1 hS1 => by subst hw; rw [ht] at hB; exact kk H1 locs1 hB hS1)
    · rw [if_neg hkd] at hf
      cases hf
theorem c5j_low {D : cw_D} {a0 : Nat} {r : Int32} {d : Nat} (X : ww_C p m c cc nL s args RX5 lw_all) (hsz : ls.size = nL) (hK : cw_K E A s) (hR : cw_H E A D H) (hS : va_S A s.heap H locs) (hF : d + 1 + 1 ≤ R.frames) (hLo : 8 + (1 + 11) + (20 * d + 20) ≤ R.locals) (hc : cells ≤ R.cells) (hs : slots ≤ R.slots) (ih : f8_low d D a0 = some r → cw_MetI l yX8_low cX8_low 1 (some Jvm.ClassFile.FieldType.int) (d + 1) (20 * d + 20) E A [.ref a0] D D r 0 0) (hf : f5r_low (f8_low d) D a0 = some r) (hrest : (rest.map fun v => v.category).sum ≤ 8) {count : Nat} (hdg : decode cc pc = .ok (.invokeinterface 46 count, 5)) (kk : ∀ (H1 : Heap) (locs1 : List Loc), cw_H E A D H1 → va_S A s.heap H1 locs1 → W p l e R s m args below meth c H1 locs1 cells slots Q (F0 m (pc + 5) ls (.int r :: rest))) : W p l e R s m args below meth c H locs cells slots Q (F0 m pc ls (.ref a0 :: rest)) := by
  unfold f5r_low at hf
  by_cases hkd : cw_kd D [1] (some a0) = true
  · rw [if_pos hkd] at hf
    exact va_callFi (va_runF (C := RX7) (x := ⟨"WideMap$Node", "low", "()I"⟩) (As := []) (rest := rest) (b := a0) (cw_cls (k := 1) (C := RX7) (T := TX7) (N := 5) rfl hK) X (met7_low l _ _ _ hf) (va_cwF 0 X.2.2.2.2 (cw_F q927 q937 q939 q154 q941) rfl rfl rfl (hK.2.2.2.1 ("WideMap$Leaf", ⟨"WideMap$Node", "low", "()I"⟩, ⟨"WideMap$Leaf", "low", "()I"⟩) (by decide +kernel)) (by decide +kernel) ⟨(show 1 ≤ R.frames by omega), (show 20 ≤ R.locals by omega)⟩) (cw_pV hK hR hS (cw_rc (k := 1) (C := RX7) (T := TX7) (N := 5) rfl (by decide) hK hR hkd)) rfl rfl hsz rfl (lv_room hrest) hdg ⟨hc, hs⟩) hS (fun q _ h => h) (fun q h => h) (fun r' u t H1 locs1 ht hvm hw hB hz1 hk1 hS1 => by subst hw; rw [ht] at hB; exact kk H1 locs1 hB hS1)
  · rw [if_neg hkd] at hf
    by_cases hkd : cw_kd D [2] (some a0) = true
    · rw [if_pos hkd] at hf
      exact va_callFi (va_runF (C := RX8) (x := ⟨"WideMap$Node", "low", "()I"⟩) (As := []) (rest := rest) (b := a0) (cw_cls (k := 2) (C := RX8) (T := TX8) (N := 4) rfl hK) X (ih hf) (va_cwF 0 X.2.2.2.2 (cw_F q927 q930 q932 q155 q934) rfl rfl rfl (hK.2.2.2.1 ("WideMap$Inner", ⟨"WideMap$Node", "low", "()I"⟩, ⟨"WideMap$Inner", "low", "()I"⟩) (by decide +kernel)) (by decide +kernel) ⟨(show d + 1 + 1 ≤ R.frames by omega), (show 8 + (1 + 11) + (20 * d + 20) ≤ R.locals by omega)⟩) (cw_pV hK hR hS (cw_rc (k := 2) (C := RX8) (T := TX8) (N := 4) rfl (by decide) hK hR hkd)) rfl rfl hsz rfl (lv_room hrest) hdg ⟨hc, hs⟩) hS (fun q _ h => h) (fun q h => h) (fun r' u t H1 locs1 ht hvm hw hB hz1 hk1 hS1 => by subst hw; rw [ht] at hB; exact kk H1 locs1 hB hS1)
    · rw [if_neg hkd] at hf
      cases hf
theorem c8j_low {D : cw_D} {a0 : Nat} {r : Int32} {d : Nat} (X : ww_C p m c cc nL s args RX8 lw_all) (hsz : ls.size = nL) (hK : cw_K E A s) (hR : cw_H E A D H) (hS : va_S A s.heap H locs) (hF : d + 1 + 1 ≤ R.frames) (hLo : 8 + (1 + 11) + (20 * d + 20) ≤ R.locals) (hc : cells ≤ R.cells) (hs : slots ≤ R.slots) (ih : f8_low d D a0 = some r → cw_MetI l yX8_low cX8_low 1 (some Jvm.ClassFile.FieldType.int) (d + 1) (20 * d + 20) E A [.ref a0] D D r 0 0) (hf : f5r_low (f8_low d) D a0 = some r) (hrest : (rest.map fun v => v.category).sum ≤ 8) {count : Nat} (hdg : decode cc pc = .ok (.invokeinterface 15 count, 5)) (kk : ∀ (H1 : Heap) (locs1 : List Loc), cw_H E A D H1 → va_S A s.heap H1 locs1 → W p l e R s m args below meth c H1 locs1 cells slots Q (F0 m (pc + 5) ls (.int r :: rest))) : W p l e R s m args below meth c H locs cells slots Q (F0 m pc ls (.ref a0 :: rest)) := by
  unfold f5r_low at hf
  by_cases hkd : cw_kd D [1] (some a0) = true
  · rw [if_pos hkd] at hf
    exact va_callFi (va_runF (C := RX7) (x := ⟨"WideMap$Node", "low", "()I"⟩) (As := []) (rest := rest) (b := a0) (cw_cls (k := 1) (C := RX7) (T := TX7) (N := 5) rfl hK) X (met7_low l _ _ _ hf) (va_cwF 0 X.2.2.2.2 (cw_F q936 q937 q939 q154 q941) rfl rfl rfl (hK.2.2.2.1 ("WideMap$Leaf", ⟨"WideMap$Node", "low", "()I"⟩, ⟨"WideMap$Leaf", "low", "()I"⟩) (by decide +kernel)) (by decide +kernel) ⟨(show 1 ≤ R.frames by omega), (show 20 ≤ R.locals by omega)⟩) (cw_pV hK hR hS (cw_rc (k := 1) (C := RX7) (T := TX7) (N := 5) rfl (by decide) hK hR hkd)) rfl rfl hsz rfl (lv_room hrest) hdg ⟨hc, hs⟩) hS (fun q _ h => h) (fun q h => h) (fun r' u t H1 locs1 ht hvm hw hB hz1 hk1 hS1 => by subst hw; rw [ht] at hB; exact kk H1 locs1 hB hS1)
  · rw [if_neg hkd] at hf
    by_cases hkd : cw_kd D [2] (some a0) = true
    · rw [if_pos hkd] at hf
      exact va_callFi (va_runF (C := RX8) (x := ⟨"WideMap$Node", "low", "()I"⟩) (As := []) (rest := rest) (b := a0) (cw_cls (k := 2) (C := RX8) (T := TX8) (N := 4) rfl hK) X (ih hf) (va_cwF 0 X.2.2.2.2 (cw_F q936 q930 q932 q155 q934) rfl rfl rfl (hK.2.2.2.1 ("WideMap$Inner", ⟨"WideMap$Node", "low", "()I"⟩, ⟨"WideMap$Inner", "low", "()I"⟩) (by decide +kernel)) (by decide +kernel) ⟨(show d + 1 + 1 ≤ R.frames by omega), (show 8 + (1 + 11) + (20 * d + 20) ≤ R.locals by omega)⟩) (cw_pV hK hR hS (cw_rc (k := 2) (C := RX8) (T := TX8) (N := 4) rfl (by decide) hK hR hkd)) rfl rfl hsz rfl (lv_room hrest) hdg ⟨hc, hs⟩) hS (fun q _ h => h) (fun q h => h) (fun r' u t H1 locs1 ht hvm hw hB hz1 hk1 hS1 => by subst hw; rw [ht] at hB; exact kk H1 locs1 hB hS1)
    · rw [if_neg hkd] at hf
      cases hf
end C_8_low_j
set_option maxHeartbeats 4000000 in
set_option maxRecDepth 100000 in
theorem met8_low (l : Launch) {E : cw_E} {A : Nat → Prop} : ∀ (d : Nat) (D : cw_D) (a0 : Nat) (r : Int32), f8_low d D a0 = some r → cw_MetI l yX8_low cX8_low 1 (some Jvm.ClassFile.FieldType.int) (d + 1) (20 * d + 20) E A [.ref a0] D D r 0 0 := by
  intro d
  induction d with
  | zero => intro D a0 r hf; cases hf
  | succ d ih =>
    intro D a0 r hf
    replace hf : f8_low_r (f8_low d) D a0 = some r := hf
    unfold f8_low_r at hf
    refine cw_sIP (own := RX8) (by decide +kernel) [(0, .ref a0)] ⟨Nat.le_of_ble_eq_true rfl, rfl⟩ ?_
    intro p e s m args below meth c Rm Q X hK hF hLo hin hend ls hl hR hS
    obtain ⟨hx, hb, hml, hown, hts⟩ := id X
    refine lv_aload_n hx hb dX8_low_0 rfl (lv_at hl 0 rfl) ?_
    obtain ⟨r_1, h_1, hq⟩ := ww_bS hf; replace hf := hq; clear hq
    refine c8g_9 X hK hR h_1 dX8_low_1 ?_
    refine lv_iconst (v := (0 : Int32)) hx hb dX8_low_4 (by decide) ?_
    obtain ⟨a_3, e_3, hq⟩ := ww_bS hf; replace hf := hq; clear hq
    subst e_3
    obtain ⟨r_2, h_2, hq⟩ := ww_bS hf; replace hf := hq; clear hq
    refine cw_oxR (x := some a_3) X hK hR rfl h_2 dX8_low_5 ?_
    obtain ⟨a_4, e_4, hq⟩ := ww_bS hf; replace hf := hq; clear hq
    subst e_4
    obtain ⟨r_5, h_5, hq⟩ := ww_bS hf; replace hf := hq; clear hq
    refine c8j_low X hl.1 hK hR hS (by omega) (by omega) (Nat.zero_le _) (Nat.zero_le _) (fun q9 => ih _ _ _ q9) h_5 (cw_rest (Nat.le_of_ble_eq_true rfl)) dX8_low_6 (fun H locs hR hS => ?_)
    exact hend dX8_low_11 rfl rfl hf hR hS
section C_8_low_i
variable {p : Program} {l : Launch} {e : Env} {R : Room} {s : State} {m : MethodId} {args : Array Value} {below : List Frame} {meth : Method} {c : Code} {H : Heap} {locs : List Loc} {cells slots : Nat} {Q : State → Prop}
variable {cc : ByteArray} {pc : Nat} {ls : Array Slot} {rest : List Value} {nL : Nat} {E : cw_E} {A : Nat → Prop} {H0 : Heap}
theorem c1i_low {D : cw_D} {a0 : Nat} {r : Int32} (X : ww_C p m c cc nL s args RX1 lw_all) (hsz : ls.size = nL) (hK : cw_K E A s) (hR : cw_H E A D H) (hS : va_S A s.heap H locs) (hF : 10 ≤ R.frames) (hLo : 200 ≤ R.locals) (hc : cells ≤ R.cells) (hs : slots ≤ R.slots) (hf : f5r_low (f8_low 8) D a0 = some r) (hrest : (rest.map fun v => v.category).sum ≤ 8) {count : Nat} (hdg : decode cc pc = .ok (.invokeinterface 361 count, 5)) (kk : ∀ (H1 : Heap) (locs1 : List Loc), cw_H E A D H1 → va_S A s.heap H1 locs1 → W p l e R s m args below meth c H1 locs1 cells slots Q (F0 m (pc + 5) ls (.int r :: rest))) : W p l e R s m args below meth c H locs cells slots Q (F0 m pc ls (.ref a0 :: rest)) := by
  unfold f5r_low at hf
  by_cases hkd : cw_kd D [1] (some a0) = true
  · rw [if_pos hkd] at hf
    exact va_callFi (va_runF (C := RX7) (x := ⟨"WideMap$Node", "low", "()I"⟩) (As := []) (rest := rest) (b := a0) (cw_cls (k := 1) (C := RX7) (T := TX7) (N := 5) rfl hK) X (met7_low l _ _ _ hf) (va_cwF 0 X.2.2.2.2 (cw_F q1186 q937 q939 q154 q941) rfl rfl rfl (hK.2.2.2.1 ("WideMap$Leaf", ⟨"WideMap$Node", "low", "()I"⟩, ⟨"WideMap$Leaf", "low", "()I"⟩) (by decide +kernel)) (by decide +kernel) ⟨(show 1 ≤ R.frames by omega), (show 20 ≤ R.locals by omega)⟩) (cw_pV hK hR hS (cw_rc (k := 1) (C := RX7) (T := TX7) (N := 5) rfl (by decide) hK hR hkd)) rfl rfl hsz rfl (lv_room hrest) hdg ⟨hc, hs⟩) hS (fun q _ h => h) (fun q h => h) (fun r' u t H1 locs1 ht hvm hw hB hz1 hk1 hS1 => by subst hw; rw [ht] at hB; exact kk H1 locs1 hB hS1)
  · rw [if_neg hkd] at hf
    by_cases hkd : cw_kd D [2] (some a0) = true
    · rw [if_pos hkd] at hf
      exact va_callFi (va_runF (C := RX8) (x := ⟨"WideMap$Node", "low", "()I"⟩) (As := []) (rest := rest) (b := a0) (cw_cls (k := 2) (C := RX8) (T := TX8) (N := 4) rfl hK) X (met8_low l 8 _ _ _ hf) (va_cwF 0 X.2.2.2.2 (cw_F q1186 q930 q932 q155 q934) rfl rfl rfl (hK.2.2.2.1 ("WideMap$Inner", ⟨"WideMap$Node", "low", "()I"⟩, ⟨"WideMap$Inner", "low", "()I"⟩) (by decide +kernel)) (by decide +kernel) ⟨(show 10 ≤ R.frames by omega), (show 200 ≤ R.locals by omega)⟩) (cw_pV hK hR hS (cw_rc (k := 2) (C := RX8) (T := TX8) (N := 4) rfl (by decide) hK hR hkd)) rfl rfl hsz rfl (lv_room hrest) hdg ⟨hc, hs⟩) hS (fun q _ h => h) (fun q h => h) (fun r' u t H1 locs1 ht hvm hw hB hz1 hk1 hS1 => by subst hw; rw [ht] at hB; exact kk H1 locs1 hB hS1)
    · rw [if_neg hkd] at hf
      cases hf
theorem c5i_low {D : cw_D} {a0 : Nat} {r : Int32} (X : ww_C p m c cc nL s args RX5 lw_all) (hsz : ls.size = nL) (hK : cw_K E A s) (hR : cw_H E A D H) (hS : va_S A s.heap H locs) (hF : 10 ≤ R.frames) (hLo : 200 ≤ R.locals) (hc : cells ≤ R.cells) (hs : slots ≤ R.slots) (hf : f5r_low (f8_low 8) D a0 = some r) (hrest : (rest.map fun v => v.category).sum ≤ 8) {count : Nat} (hdg : decode cc pc = .ok (.invokeinterface 46 count, 5)) (kk : ∀ (H1 : Heap) (locs1 : List Loc), cw_H E A D H1 → va_S A s.heap H1 locs1 → W p l e R s m args below meth c H1 locs1 cells slots Q (F0 m (pc + 5) ls (.int r :: rest))) : W p l e R s m args below meth c H locs cells slots Q (F0 m pc ls (.ref a0 :: rest)) := by
  unfold f5r_low at hf
  by_cases hkd : cw_kd D [1] (some a0) = true
  · rw [if_pos hkd] at hf
    exact va_callFi (va_runF (C := RX7) (x := ⟨"WideMap$Node", "low", "()I"⟩) (As := []) (rest := rest) (b := a0) (cw_cls (k := 1) (C := RX7) (T := TX7) (N := 5) rfl hK) X (met7_low l _ _ _ hf) (va_cwF 0 X.2.2.2.2 (cw_F q927 q937 q939 q154 q941) rfl rfl rfl (hK.2.2.2.1 ("WideMap$Leaf", ⟨"WideMap$Node", "low", "()I"⟩, ⟨"WideMap$Leaf", "low", "()I"⟩) (by decide +kernel)) (by decide +kernel) ⟨(show 1 ≤ R.frames by omega), (show 20 ≤ R.locals by omega)⟩) (cw_pV hK hR hS (cw_rc (k := 1) (C := RX7) (T := TX7) (N := 5) rfl (by decide) hK hR hkd)) rfl rfl hsz rfl (lv_room hrest) hdg ⟨hc, hs⟩) hS (fun q _ h => h) (fun q h => h) (fun r' u t H1 locs1 ht hvm hw hB hz1 hk1 hS1 => by subst hw; rw [ht] at hB; exact kk H1 locs1 hB hS1)
  · rw [if_neg hkd] at hf
    by_cases hkd : cw_kd D [2] (some a0) = true
    · rw [if_pos hkd] at hf
      exact va_callFi (va_runF (C := RX8) (x := ⟨"WideMap$Node", "low", "()I"⟩) (As := []) (rest := rest) (b := a0) (cw_cls (k := 2) (C := RX8) (T := TX8) (N := 4) rfl hK) X (met8_low l 8 _ _ _ hf) (va_cwF 0 X.2.2.2.2 (cw_F q927 q930 q932 q155 q934) rfl rfl rfl (hK.2.2.2.1 ("WideMap$Inner", ⟨"WideMap$Node", "low", "()I"⟩, ⟨"WideMap$Inner", "low", "()I"⟩) (by decide +kernel)) (by decide +kernel) ⟨(show 10 ≤ R.frames by omega), (show 200 ≤ R.locals by omega)⟩) (cw_pV hK hR hS (cw_rc (k := 2) (C := RX8) (T := TX8) (N := 4) rfl (by decide) hK hR hkd)) rfl rfl hsz rfl (lv_room hrest) hdg ⟨hc, hs⟩) hS (fun q _ h => h) (fun q h => h) (fun r' u t H1 locs1 ht hvm hw hB hz1 hk1 hS1 => by subst hw; rw [ht] at hB; exact kk H1 locs1 hB hS1)
    · rw [if_neg hkd] at hf
      cases hf
theorem c8i_low {D : cw_D} {a0 : Nat} {r : Int32} (X : ww_C p m c cc nL s args RX8 lw_all) (hsz : ls.size = nL) (hK : cw_K E A s) (hR : cw_H E A D H) (hS : va_S A s.heap H locs) (hF : 10 ≤ R.frames) (hLo : 200 ≤ R.locals) (hc : cells ≤ R.cells) (hs : slots ≤ R.slots) (hf : f5r_low (f8_low 8) D a0 = some r) (hrest : (rest.map fun v => v.category).sum ≤ 8) {count : Nat} (hdg : decode cc pc = .ok (.invokeinterface 15 count, 5)) (kk : ∀ (H1 : Heap) (locs1 : List Loc), cw_H E A D H1 → va_S A s.heap H1 locs1 → W p l e R s m args below meth c H1 locs1 cells slots Q (F0 m (pc + 5) ls (.int r :: rest))) : W p l e R s m args below meth c H locs cells slots Q (F0 m pc ls (.ref a0 :: rest)) := by
  unfold f5r_low at hf
  by_cases hkd : cw_kd D [1] (some a0) = true
  · rw [if_pos hkd] at hf
    exact va_callFi (va_runF (C := RX7) (x := ⟨"WideMap$Node", "low", "()I"⟩) (As := []) (rest := rest) (b := a0) (cw_cls (k := 1) (C := RX7) (T := TX7) (N := 5) rfl hK) X (met7_low l _ _ _ hf) (va_cwF 0 X.2.2.2.2 (cw_F q936 q937 q939 q154 q941) rfl rfl rfl (hK.2.2.2.1 ("WideMap$Leaf", ⟨"WideMap$Node", "low", "()I"⟩, ⟨"WideMap$Leaf", "low", "()I"⟩) (by decide +kernel)) (by decide +kernel) ⟨(show 1 ≤ R.frames by omega), (show 20 ≤ R.locals by omega)⟩) (cw_pV hK hR hS (cw_rc (k := 1) (C := RX7) (T := TX7) (N := 5) rfl (by decide) hK hR hkd)) rfl rfl hsz rfl (lv_room hrest) hdg ⟨hc, hs⟩) hS (fun q _ h => h) (fun q h => h) (fun r' u t H1 locs1 ht hvm hw hB hz1 hk1 hS1 => by subst hw; rw [ht] at hB; exact kk H1 locs1 hB hS1)
  · rw [if_neg hkd] at hf
    by_cases hkd : cw_kd D [2] (some a0) = true
    · rw [if_pos hkd] at hf
      exact va_callFi (va_runF (C := RX8) (x := ⟨"WideMap$Node", "low", "()I"⟩) (As := []) (rest := rest) (b := a0) (cw_cls (k := 2) (C := RX8) (T := TX8) (N := 4) rfl hK) X (met8_low l 8 _ _ _ hf) (va_cwF 0 X.2.2.2.2 (cw_F q936 q930 q932 q155 q934) rfl rfl rfl (hK.2.2.2.1 ("WideMap$Inner", ⟨"WideMap$Node", "low", "()I"⟩, ⟨"WideMap$Inner", "low", "()I"⟩) (by decide +kernel)) (by decide +kernel) ⟨(show 10 ≤ R.frames by omega), (show 200 ≤ R.locals by omega)⟩) (cw_pV hK hR hS (cw_rc (k := 2) (C := RX8) (T := TX8) (N := 4) rfl (by decide) hK hR hkd)) rfl rfl hsz rfl (lv_room hrest) hdg ⟨hc, hs⟩) hS (fun q _ h => h) (fun q h => h) (fun r' u t H1 locs1 ht hvm hw hB hz1 hk1 hS1 => by subst hw; rw [ht] at hB; exact kk H1 locs1 hB hS1)
    · rw [if_neg hkd] at hf
      cases hf
end C_8_low_i
noncomputable def f8_keyAt (D : cw_D) (a0 : Nat) (x1 : Int32) : Option (Int32) :=
  ww_b (cw_gR D [2] a0 3) (fun r_1 => ww_b r_1 (fun a_3 => ww_b (cw_xR D a_3 x1) (fun r_2 => ww_b r_2 (fun a_4 => ww_b (f5r_low (f8_low 8) D a_4) (fun r_5 => some r_5)))))
set_option maxHeartbeats 4000000 in
set_option maxRecDepth 100000 in
theorem met8_keyAt (l : Launch) {E : cw_E} {A : Nat → Prop} (D : cw_D) (a0 : Nat) (x1 : Int32) (r : Int32) (hf : f8_keyAt D a0 x1 = some r) : cw_MetI l yX8_keyAt cX8_keyAt 2 (some Jvm.ClassFile.FieldType.int) 10 200 E A [.ref a0, .int x1] D D r 0 0 := by
  unfold f8_keyAt at hf
  refine cw_sIP (own := RX8) (by decide +kernel) [(0, .ref a0), (1, .int x1)] ⟨Nat.le_of_ble_eq_true rfl, rfl⟩ ?_
  intro p e s m args below meth c Rm Q X hK hF hLo hin hend ls hl hR hS
  obtain ⟨hx, hb, hml, hown, hts⟩ := id X
  refine lv_aload_n hx hb dX8_keyAt_0 rfl (lv_at hl 0 rfl) ?_
  obtain ⟨r_1, h_1, hq⟩ := ww_bS hf; replace hf := hq; clear hq
  refine c8g_9 X hK hR h_1 dX8_keyAt_1 ?_
  refine lv_iload_n hx hb dX8_keyAt_4 rfl (lv_at hl 1 rfl) ?_
  obtain ⟨a_3, e_3, hq⟩ := ww_bS hf; replace hf := hq; clear hq
  subst e_3
  obtain ⟨r_2, h_2, hq⟩ := ww_bS hf; replace hf := hq; clear hq
  refine cw_oxR (x := some a_3) X hK hR rfl h_2 dX8_keyAt_5 ?_
  obtain ⟨a_4, e_4, hq⟩ := ww_bS hf; replace hf := hq; clear hq
  subst e_4
  obtain ⟨r_5, h_5, hq⟩ := ww_bS hf; replace hf := hq; clear hq
  refine c8i_low X hl.1 hK hR hS (Nat.le_trans (Nat.le_of_ble_eq_true rfl) hF) (Nat.le_trans (Nat.le_of_ble_eq_true rfl) hLo) (Nat.zero_le _) (Nat.zero_le _) h_5 (cw_rest (Nat.le_of_ble_eq_true rfl)) dX8_keyAt_6 (fun H locs hR hS => ?_)
  exact hend dX8_keyAt_11 rfl rfl hf hR hS
noncomputable def f5r_keyAt (r8 : cw_D → Nat → Int32 → Option (Int32)) : cw_D → Nat → Int32 → Option (Int32) := fun D a x1 =>
  if cw_kd D [1] (some a) = true then f7_keyAt D a x1 else if cw_kd D [2] (some a) = true then r8 D a x1 else none
section C_8_keyAt_i
variable {p : Program} {l : Launch} {e : Env} {R : Room} {s : State} {m : MethodId} {args : Array Value} {below : List Frame} {meth : Method} {c : Code} {H : Heap} {locs : List Loc} {cells slots : Nat} {Q : State → Prop}
variable {cc : ByteArray} {pc : Nat} {ls : Array Slot} {rest : List Value} {nL : Nat} {E : cw_E} {A : Nat → Prop} {H0 : Heap}
theorem c1i_keyAt {D : cw_D} {a0 : Nat} {x1 : Int32} {r : Int32} (X : ww_C p m c cc nL s args RX1 lw_all) (hsz : ls.size = nL) (hK : cw_K E A s) (hR : cw_H E A D H) (hS : va_S A s.heap H locs) (hF : 11 ≤ R.frames) (hLo : 221 ≤ R.locals) (hc : cells ≤ R.cells) (hs : slots ≤ R.slots) (hf : f5r_keyAt f8_keyAt D a0 x1 = some r) (hrest : (rest.map fun v => v.category).sum ≤ 8) {count : Nat} (hdg : decode cc pc = .ok (.invokeinterface 284 count, 5)) (kk : ∀ (H1 : Heap) (locs1 : List Loc), cw_H E A D H1 → va_S A s.heap H1 locs1 → W p l e R s m args below meth c H1 locs1 cells slots Q (F0 m (pc + 5) ls (.int r :: rest))) : W p l e R s m args below meth c H locs cells slots Q (F0 m pc ls (.int x1 :: .ref a0 :: rest)) := by
  unfold f5r_keyAt at hf
  by_cases hkd : cw_kd D [1] (some a0) = true
  · rw [if_pos hkd] at hf
    exact va_callFi (va_runF (C := RX7) (x := ⟨"WideMap$Node", "keyAt", "(I)I"⟩) (As := [.int x1]) (rest := rest) (b := a0) (cw_cls (k := 1) (C := RX7) (T := TX7) (N := 5) rfl hK) X (met7_keyAt l _ _ _ _ hf) (va_cwF 1 X.2.2.2.2 (cw_F q948 q956 q958 q154 q960) rfl rfl rfl (hK.2.2.2.1 ("WideMap$Leaf", ⟨"WideMap$Node", "keyAt", "(I)I"⟩, ⟨"WideMap$Leaf", "keyAt", "(I)I"⟩) (by decide +kernel)) (by decide +kernel) ⟨(show 1 ≤ R.frames by omega), (show 21 ≤ R.locals by omega)⟩) (cw_pV hK hR hS (cw_rc (k := 1) (C := RX7) (T := TX7) (N := 5) rfl (by decide) hK hR hkd)) rfl rfl hsz rfl (lv_room hrest) hdg ⟨hc, hs⟩) hS (fun q _ h => h) (fun q h => h) (fun r' u t H1 locs1 ht hvm hw hB hz1 hk1 hS1 => by subst hw; rw [ht] at hB; exact kk H1 locs1 hB hS1)
  · rw [if_neg hkd] at hf
    by_cases hkd : cw_kd D [2] (some a0) = true
    · rw [if_pos hkd] at hf
      exact va_callFi (va_runF (C := RX8) (x := ⟨"WideMap$Node", "keyAt", "(I)I"⟩) (As := [.int x1]) (rest := rest) (b := a0) (cw_cls (k := 2) (C := RX8) (T := TX8) (N := 4) rfl hK) X (met8_keyAt l _ _ _ _ hf) (va_cwF 1 X.2.2.2.2 (cw_F q948 q951 q953 q155 q955) rfl rfl rfl (hK.2.2.2.1 ("WideMap$Inner", ⟨"WideMap$Node", "keyAt", "(I)I"⟩, ⟨"WideMap$Inner", "keyAt", "(I)I"⟩) (by decide +kernel)) (by decide +kernel) ⟨(show 11 ≤ R.frames by omega), (show 221 ≤ R.locals by omega)⟩) (cw_pV hK hR hS (cw_rc (k := 2) (C := RX8) (T := TX8) (N := 4) rfl (by decide) hK hR hkd)) rfl rfl hsz rfl (lv_room hrest) hdg ⟨hc, hs⟩) hS (fun q _ h => h) (fun q h => h) (fun r' u t H1 locs1 ht hvm hw hB hz1 hk1 hS1 => by subst hw; rw [ht] at hB; exact kk H1 locs1 hB hS1)
    · rw [if_neg hkd] at hf
      cases hf
theorem c7i_keyAt {D : cw_D} {a0 : Nat} {x1 : Int32} {r : Int32} (X : ww_C p m c cc nL s args RX7 lw_all) (hsz : ls.size = nL) (hK : cw_K E A s) (hR : cw_H E A D H) (hS : va_S A s.heap H locs) (hF : 11 ≤ R.frames) (hLo : 221 ≤ R.locals) (hc : cells ≤ R.cells) (hs : slots ≤ R.slots) (hf : f5r_keyAt f8_keyAt D a0 x1 = some r) (hrest : (rest.map fun v => v.category).sum ≤ 8) {count : Nat} (hdg : decode cc pc = .ok (.invokeinterface 52 count, 5)) (kk : ∀ (H1 : Heap) (locs1 : List Loc), cw_H E A D H1 → va_S A s.heap H1 locs1 → W p l e R s m args below meth c H1 locs1 cells slots Q (F0 m (pc + 5) ls (.int r :: rest))) : W p l e R s m args below meth c H locs cells slots Q (F0 m pc ls (.int x1 :: .ref a0 :: rest)) := by
  unfold f5r_keyAt at hf
  by_cases hkd : cw_kd D [1] (some a0) = true
  · rw [if_pos hkd] at hf
    exact va_callFi (va_runF (C := RX7) (x := ⟨"WideMap$Node", "keyAt", "(I)I"⟩) (As := [.int x1]) (rest := rest) (b := a0) (cw_cls (k := 1) (C := RX7) (T := TX7) (N := 5) rfl hK) X (met7_keyAt l _ _ _ _ hf) (va_cwF 1 X.2.2.2.2 (cw_F q1301 q956 q958 q154 q960) rfl rfl rfl (hK.2.2.2.1 ("WideMap$Leaf", ⟨"WideMap$Node", "keyAt", "(I)I"⟩, ⟨"WideMap$Leaf", "keyAt", "(I)I"⟩) (by decide +kernel)) (by decide +kernel) ⟨(show 1 ≤ R.frames by omega), (show 21 ≤ R.locals by omega)⟩) (cw_pV hK hR hS (cw_rc (k := 1) (C := RX7) (T := TX7) (N := 5) rfl (by decide) hK hR hkd)) rfl rfl hsz rfl (lv_room hrest) hdg ⟨hc, hs⟩) hS (fun q _ h => h) (fun q h => h) (fun r' u t H1 locs1 ht hvm hw hB hz1 hk1 hS1 => by subst hw; rw [ht] at hB; exact kk H1 locs1 hB hS1)
  · rw [if_neg hkd] at hf
    by_cases hkd : cw_kd D [2] (some a0) = true
    · rw [if_pos hkd] at hf
      exact va_callFi (va_runF (C := RX8) (x := ⟨"WideMap$Node", "keyAt", "(I)I"⟩) (As := [.int x1]) (rest := rest) (b := a0) (cw_cls (k := 2) (C := RX8) (T := TX8) (N := 4) rfl hK) X (met8_keyAt l _ _ _ _ hf) (va_cwF 1 X.2.2.2.2 (cw_F q1301 q951 q953 q155 q955) rfl rfl rfl (hK.2.2.2.1 ("WideMap$Inner", ⟨"WideMap$Node", "keyAt", "(I)I"⟩, ⟨"WideMap$Inner", "keyAt", "(I)I"⟩) (by decide +kernel)) (by decide +kernel) ⟨(show 11 ≤ R.frames by omega), (show 221 ≤ R.locals by omega)⟩) (cw_pV hK hR hS (cw_rc (k := 2) (C := RX8) (T := TX8) (N := 4) rfl (by decide) hK hR hkd)) rfl rfl hsz rfl (lv_room hrest) hdg ⟨hc, hs⟩) hS (fun q _ h => h) (fun q h => h) (fun r' u t H1 locs1 ht hvm hw hB hz1 hk1 hS1 => by subst hw; rw [ht] at hB; exact kk H1 locs1 hB hS1)
    · rw [if_neg hkd] at hf
      cases hf
end C_8_keyAt_i
noncomputable def f8_valueAt (D : cw_D) (a0 : Nat) (x1 : Int32) : Option (Int32) :=
  some (0 : Int32)
set_option maxHeartbeats 4000000 in
set_option maxRecDepth 100000 in
theorem met8_valueAt (l : Launch) {E : cw_E} {A : Nat → Prop} (D : cw_D) (a0 : Nat) (x1 : Int32) (r : Int32) (hf : f8_valueAt D a0 x1 = some r) : cw_MetI l yX8_valueAt cX8_valueAt 2 (some Jvm.ClassFile.FieldType.int) 0 0 E A [.ref a0, .int x1] D D r 0 0 := by
  unfold f8_valueAt at hf
  refine cw_sIP (own := RX8) (by decide +kernel) [(0, .ref a0), (1, .int x1)] ⟨Nat.le_of_ble_eq_true rfl, rfl⟩ ?_
  intro p e s m args below meth c Rm Q X hK hF hLo hin hend ls hl hR hS
  obtain ⟨hx, hb, hml, hown, hts⟩ := id X
  refine lv_iconst (v := (0 : Int32)) hx hb dX8_valueAt_0 (by decide) ?_
  exact hend dX8_valueAt_1 rfl rfl hf hR hS
noncomputable def f5r_valueAt (r8 : cw_D → Nat → Int32 → Option (Int32)) : cw_D → Nat → Int32 → Option (Int32) := fun D a x1 =>
  if cw_kd D [1] (some a) = true then f7_valueAt D a x1 else if cw_kd D [2] (some a) = true then r8 D a x1 else none
section C_8_valueAt_i
variable {p : Program} {l : Launch} {e : Env} {R : Room} {s : State} {m : MethodId} {args : Array Value} {below : List Frame} {meth : Method} {c : Code} {H : Heap} {locs : List Loc} {cells slots : Nat} {Q : State → Prop}
variable {cc : ByteArray} {pc : Nat} {ls : Array Slot} {rest : List Value} {nL : Nat} {E : cw_E} {A : Nat → Prop} {H0 : Heap}
theorem c1i_valueAt {D : cw_D} {a0 : Nat} {x1 : Int32} {r : Int32} (X : ww_C p m c cc nL s args RX1 lw_all) (hsz : ls.size = nL) (hK : cw_K E A s) (hR : cw_H E A D H) (hS : va_S A s.heap H locs) (hF : 1 ≤ R.frames) (hLo : 21 ≤ R.locals) (hc : cells ≤ R.cells) (hs : slots ≤ R.slots) (hf : f5r_valueAt f8_valueAt D a0 x1 = some r) (hrest : (rest.map fun v => v.category).sum ≤ 8) {count : Nat} (hdg : decode cc pc = .ok (.invokeinterface 287 count, 5)) (kk : ∀ (H1 : Heap) (locs1 : List Loc), cw_H E A D H1 → va_S A s.heap H1 locs1 → W p l e R s m args below meth c H1 locs1 cells slots Q (F0 m (pc + 5) ls (.int r :: rest))) : W p l e R s m args below meth c H locs cells slots Q (F0 m pc ls (.int x1 :: .ref a0 :: rest)) := by
  unfold f5r_valueAt at hf
  by_cases hkd : cw_kd D [1] (some a0) = true
  · rw [if_pos hkd] at hf
    exact va_callFi (va_runF (C := RX7) (x := ⟨"WideMap$Node", "valueAt", "(I)I"⟩) (As := [.int x1]) (rest := rest) (b := a0) (cw_cls (k := 1) (C := RX7) (T := TX7) (N := 5) rfl hK) X (met7_valueAt l _ _ _ _ hf) (va_cwF 1 X.2.2.2.2 (cw_F q962 q970 q972 q154 q974) rfl rfl rfl (hK.2.2.2.1 ("WideMap$Leaf", ⟨"WideMap$Node", "valueAt", "(I)I"⟩, ⟨"WideMap$Leaf", "valueAt", "(I)I"⟩) (by decide +kernel)) (by decide +kernel) ⟨(show 1 ≤ R.frames by omega), (show 21 ≤ R.locals by omega)⟩) (cw_pV hK hR hS (cw_rc (k := 1) (C := RX7) (T := TX7) (N := 5) rfl (by decide) hK hR hkd)) rfl rfl hsz rfl (lv_room hrest) hdg ⟨hc, hs⟩) hS (fun q _ h => h) (fun q h => h) (fun r' u t H1 locs1 ht hvm hw hB hz1 hk1 hS1 => by subst hw; rw [ht] at hB; exact kk H1 locs1 hB hS1)
  · rw [if_neg hkd] at hf
    by_cases hkd : cw_kd D [2] (some a0) = true
    · rw [if_pos hkd] at hf
      exact va_callFi (va_runF (C := RX8) (x := ⟨"WideMap$Node", "valueAt", "(I)I"⟩) (As := [.int x1]) (rest := rest) (b := a0) (cw_cls (k := 2) (C := RX8) (T := TX8) (N := 4) rfl hK) X (met8_valueAt l _ _ _ _ hf) (va_cwF 1 X.2.2.2.2 (cw_F q962 q965 q967 q155 q969) rfl rfl rfl (hK.2.2.2.1 ("WideMap$Inner", ⟨"WideMap$Node", "valueAt", "(I)I"⟩, ⟨"WideMap$Inner", "valueAt", "(I)I"⟩) (by decide +kernel)) (by decide +kernel) ⟨(show 1 ≤ R.frames by omega), (show 21 ≤ R.locals by omega)⟩) (cw_pV hK hR hS (cw_rc (k := 2) (C := RX8) (T := TX8) (N := 4) rfl (by decide) hK hR hkd)) rfl rfl hsz rfl (lv_room hrest) hdg ⟨hc, hs⟩) hS (fun q _ h => h) (fun q h => h) (fun r' u t H1 locs1 ht hvm hw hB hz1 hk1 hS1 => by subst hw; rw [ht] at hB; exact kk H1 locs1 hB hS1)
    · rw [if_neg hkd] at hf
      cases hf
theorem c7i_valueAt {D : cw_D} {a0 : Nat} {x1 : Int32} {r : Int32} (X : ww_C p m c cc nL s args RX7 lw_all) (hsz : ls.size = nL) (hK : cw_K E A s) (hR : cw_H E A D H) (hS : va_S A s.heap H locs) (hF : 1 ≤ R.frames) (hLo : 21 ≤ R.locals) (hc : cells ≤ R.cells) (hs : slots ≤ R.slots) (hf : f5r_valueAt f8_valueAt D a0 x1 = some r) (hrest : (rest.map fun v => v.category).sum ≤ 8) {count : Nat} (hdg : decode cc pc = .ok (.invokeinterface 55 count, 5)) (kk : ∀ (H1 : Heap) (locs1 : List Loc), cw_H E A D H1 → va_S A s.heap H1 locs1 → W p l e R s m args below meth c H1 locs1 cells slots Q (F0 m (pc + 5) ls (.int r :: rest))) : W p l e R s m args below meth c H locs cells slots Q (F0 m pc ls (.int x1 :: .ref a0 :: rest)) := by
  unfold f5r_valueAt at hf
  by_cases hkd : cw_kd D [1] (some a0) = true
  · rw [if_pos hkd] at hf
    exact va_callFi (va_runF (C := RX7) (x := ⟨"WideMap$Node", "valueAt", "(I)I"⟩) (As := [.int x1]) (rest := rest) (b := a0) (cw_cls (k := 1) (C := RX7) (T := TX7) (N := 5) rfl hK) X (met7_valueAt l _ _ _ _ hf) (va_cwF 1 X.2.2.2.2 (cw_F q1303 q970 q972 q154 q974) rfl rfl rfl (hK.2.2.2.1 ("WideMap$Leaf", ⟨"WideMap$Node", "valueAt", "(I)I"⟩, ⟨"WideMap$Leaf", "valueAt", "(I)I"⟩) (by decide +kernel)) (by decide +kernel) ⟨(show 1 ≤ R.frames by omega), (show 21 ≤ R.locals by omega)⟩) (cw_pV hK hR hS (cw_rc (k := 1) (C := RX7) (T := TX7) (N := 5) rfl (by decide) hK hR hkd)) rfl rfl hsz rfl (lv_room hrest) hdg ⟨hc, hs⟩) hS (fun q _ h => h) (fun q h => h) (fun r' u t H1 locs1 ht hvm hw hB hz1 hk1 hS1 => by subst hw; rw [ht] at hB; exact kk H1 locs1 hB hS1)
  · rw [if_neg hkd] at hf
    by_cases hkd : cw_kd D [2] (some a0) = true
    · rw [if_pos hkd] at hf
      exact va_callFi (va_runF (C := RX8) (x := ⟨"WideMap$Node", "valueAt", "(I)I"⟩) (As := [.int x1]) (rest := rest) (b := a0) (cw_cls (k := 2) (C := RX8) (T := TX8) (N := 4) rfl hK) X (met8_valueAt l _ _ _ _ hf) (va_cwF 1 X.2.2.2.2 (cw_F q1303 q965 q967 q155 q969) rfl rfl rfl (hK.2.2.2.1 ("WideMap$Inner", ⟨"WideMap$Node", "valueAt", "(I)I"⟩, ⟨"WideMap$Inner", "valueAt", "(I)I"⟩) (by decide +kernel)) (by decide +kernel) ⟨(show 1 ≤ R.frames by omega), (show 21 ≤ R.locals by omega)⟩) (cw_pV hK hR hS (cw_rc (k := 2) (C := RX8) (T := TX8) (N := 4) rfl (by decide) hK hR hkd)) rfl rfl hsz rfl (lv_room hrest) hdg ⟨hc, hs⟩) hS (fun q _ h => h) (fun q h => h) (fun r' u t H1 locs1 ht hvm hw hB hz1 hk1 hS1 => by subst hw; rw [ht] at hB; exact kk H1 locs1 hB hS1)
    · rw [if_neg hkd] at hf
      cases hf
end C_8_valueAt_i
noncomputable def f7_allOf_b1c (y0 : Nat) (y1 : Option Nat) (D_1 : cw_D) (x2 : Int32) : Option ((cw_D × Int32) ⊕ (cw_D)) :=
  ww_b y1 (fun a_2 => ww_g (cw_kd D_1 [1, 2] (some a_2)) (ww_b (f6_many D_1 a_2) (fun r_4 => if r_4 ≤ x2 then ww_x (ww_b (cw_gI D_1 [1] y0 1) (fun r_6 => ww_g (cw_kd D_1 [1, 2] (some a_2)) (ww_b (f6_many D_1 a_2) (fun r_8 => ww_b (cw_p D_1 [1] y0 1 (.int (r_6 + r_8))) (fun D_9 => some D_9))))) else ww_b (cw_gI D_1 [1] y0 1) (fun r_10 => ww_b (f5r_keyAt f8_keyAt D_1 a_2 x2) (fun r_11 => ww_b (f5r_valueAt f8_valueAt D_1 a_2 x2) (fun r_12 => ww_g (cw_kd D_1 [1] (some y0)) (ww_b (f7_put D_1 y0 (r_10 + x2) r_11 r_12) (fun D_14 => some (.inl (D_14, (x2 + (1 : Int32))))))))))))
noncomputable def f7_allOf_b1 (y0 : Nat) (y1 : Option Nat) : (cw_D × Int32) → Option ((cw_D × Int32) ⊕ (cw_D)) := fun s9 => f7_allOf_b1c y0 y1 s9.1 s9.2
noncomputable def f7_allOf (D : cw_D) (a0 : Nat) (x1 : Option Nat) : Option (cw_D) :=
  ww_U (f7_allOf_b1 a0 x1) (D, (0 : Int32))
set_option maxHeartbeats 4000000 in
set_option maxRecDepth 100000 in
theorem met7_allOf (l : Launch) {E : cw_E} {A : Nat → Prop} (D : cw_D) (a0 : Nat) (x1 : Option Nat) (D' : cw_D) (hf : f7_allOf D a0 x1 = some D') : cw_MetV l yX7_allOf cX7_allOf 3 11 221 E A [.ref a0, va_rf x1] D D' 0 0 := by
  unfold f7_allOf at hf
  refine cw_sVD (own := RX7) (by decide +kernel) [(0, .ref a0), (1, va_rf x1)] ⟨by cases x1 <;> exact Nat.le_of_ble_eq_true rfl, by cases x1 <;> rfl⟩ ?_
  intro p e s m args below meth c Rm Q X hK hF hLo hin hend ls hl hR hS
  obtain ⟨hx, hb, hml, hown, hts⟩ := id X
  refine lv_iconst (v := (0 : Int32)) hx hb dX7_allOf_0 (by decide) ?_
  refine lv_istore_n (lv' := [(2, .int (0 : Int32)), (0, .ref a0), (1, va_rf x1)]) hx hb dX7_allOf_1 rfl hl (by decide) (by cases x1 <;> rfl) (fun ls hl => ?_)
  have hL_1 : ∀ s9 : cw_D × Int32, ww_U (f7_allOf_b1 a0 x1) s9 = some D' → ∀ (H : Heap) (locs : List Loc) (ls : Array Slot), cw_H E A s9.1 H → va_S A s.heap H locs → lv_has ls 3 [(0, .ref a0), (1, va_rf x1), (2, .int s9.2)] → W p l e Rm s m args below meth c H locs 0 0 Q (F0 m 2 ls []) := by
    clear hf
    refine ww_ind _ D' ?_
    intro s9 z_1 hf hz_1
    obtain ⟨D_1, x2⟩ := s9
    replace hf : f7_allOf_b1c a0 x1 D_1 x2 = some z_1 := hf
    unfold f7_allOf_b1c at hf
    try clear hl
    try clear hS
    try clear hR
    intro H locs ls hR hS hl
    replace hR : cw_H E A D_1 H := hR
    replace hl : lv_has ls 3 [(0, .ref a0), (1, va_rf x1), (2, .int x2)] := hl
    refine lv_iload_n hx hb dX7_allOf_2 rfl (lv_at hl 2 rfl) ?_
    refine cw_aload_n (x := x1) hx hb dX7_allOf_3 rfl (lv_at hl 1 rfl) ?_
    obtain ⟨a_2, e_2, hq⟩ := ww_bS hf; replace hf := hq; clear hq
    subst e_2
    obtain ⟨h_3, hq⟩ := ww_gS hf; replace hf := hq; clear hq
    obtain ⟨r_4, h_4, hq⟩ := ww_bS hf; replace hf := hq; clear hq
    refine c7i_many X hl.1 hK hR hS (Nat.le_trans (Nat.le_of_ble_eq_true rfl) hF) (Nat.le_trans (Nat.le_of_ble_eq_true rfl) hLo) (Nat.zero_le _) (Nat.zero_le _) h_3 h_4 (cw_rest (Nat.le_of_ble_eq_true rfl)) dX7_allOf_4 (fun H locs hR hS => ?_)
    refine lv_icmp_ge (tgt := 42) hx hb dX7_allOf_9 (by decide) (fun c_5 => ?_) (fun c_5 => ?_)
    · replace hf := ww_ip hf c_5
      replace hf := ww_xK hf hz_1
      refine lv_aload_n hx hb dX7_allOf_42 rfl (lv_at hl 0 rfl) ?_
      refine lv_dup hx hb dX7_allOf_43 rfl ?_
      obtain ⟨r_6, h_6, hq⟩ := ww_bS hf; replace hf := hq; clear hq
      refine c7g_18 X hK hR h_6 dX7_allOf_44 ?_
      refine lv_aload_n hx hb dX7_allOf_47 rfl (lv_at hl 1 rfl) ?_
      obtain ⟨h_7, hq⟩ := ww_gS hf; replace hf := hq; clear hq
      obtain ⟨r_8, h_8, hq⟩ := ww_bS hf; replace hf := hq; clear hq
      refine c7i_many X hl.1 hK hR hS (Nat.le_trans (Nat.le_of_ble_eq_true rfl) hF) (Nat.le_trans (Nat.le_of_ble_eq_true rfl) hLo) (Nat.zero_le _) (Nat.zero_le _) h_7 h_8 (cw_rest (Nat.le_of_ble_eq_true rfl)) dX7_allOf_48 (fun H locs hR hS => ?_)
      refine lv_iadd hx hb dX7_allOf_53 ?_
      obtain ⟨D_9, h_9, hq⟩ := ww_bS hf; replace hf := hq; clear hq
      refine c7p_18 X hK hR hS h_9 dX7_allOf_54 (fun H locs hR hS => ?_)
      exact hend dX7_allOf_57 hf hR hS
    · replace hf := ww_in hf c_5
      refine lv_aload_n hx hb dX7_allOf_12 rfl (lv_at hl 0 rfl) ?_
      refine lv_aload_n hx hb dX7_allOf_13 rfl (lv_at hl 0 rfl) ?_
      obtain ⟨r_10, h_10, hq⟩ := ww_bS hf; replace hf := hq; clear hq
      refine c7g_18 X hK hR h_10 dX7_allOf_14 ?_
      refine lv_iload_n hx hb dX7_allOf_17 rfl (lv_at hl 2 rfl) ?_
      refine lv_iadd hx hb dX7_allOf_18 ?_
      refine lv_aload_n hx hb dX7_allOf_19 rfl (lv_at hl 1 rfl) ?_
      refine lv_iload_n hx hb dX7_allOf_20 rfl (lv_at hl 2 rfl) ?_
      obtain ⟨r_11, h_11, hq⟩ := ww_bS hf; replace hf := hq; clear hq
      refine c7i_keyAt X hl.1 hK hR hS (Nat.le_trans (Nat.le_of_ble_eq_true rfl) hF) (Nat.le_trans (Nat.le_of_ble_eq_true rfl) hLo) (Nat.zero_le _) (Nat.zero_le _) h_11 (cw_rest (Nat.le_of_ble_eq_true rfl)) dX7_allOf_21 (fun H locs hR hS => ?_)
      refine lv_aload_n hx hb dX7_allOf_26 rfl (lv_at hl 1 rfl) ?_
      refine lv_iload_n hx hb dX7_allOf_27 rfl (lv_at hl 2 rfl) ?_
      obtain ⟨r_12, h_12, hq⟩ := ww_bS hf; replace hf := hq; clear hq
      refine c7i_valueAt X hl.1 hK hR hS (Nat.le_trans (Nat.le_of_ble_eq_true rfl) hF) (Nat.le_trans (Nat.le_of_ble_eq_true rfl) hLo) (Nat.zero_le _) (Nat.zero_le _) h_12 (cw_rest (Nat.le_of_ble_eq_true rfl)) dX7_allOf_28 (fun H locs hR hS => ?_)
      obtain ⟨h_13, hq⟩ := ww_gS hf; replace hf := hq; clear hq
      obtain ⟨D_14, h_14, hq⟩ := ww_bS hf; replace hf := hq; clear hq
      refine c7c_7_put X hl.1 hK hR hS (Nat.le_trans (Nat.le_of_ble_eq_true rfl) hF) (Nat.le_trans (Nat.le_of_ble_eq_true rfl) hLo) (Nat.zero_le _) (Nat.zero_le _) h_13 h_14 (cw_rest (Nat.le_of_ble_eq_true rfl)) dX7_allOf_33 (fun H locs hR hS => ?_)
      refine lv_iinc (k := 2) (v := x2 + (1 : Int32)) (lv' := [(2, .int (x2 + (1 : Int32))), (0, .ref a0), (1, .ref a_2)]) hx hb dX7_allOf_36 hl rfl rfl (by decide) rfl (fun ls hl => ?_)
      refine lv_goto (tgt := 2) hx hb dX7_allOf_39 (by decide) ?_
      exact ww_lK hf hz_1 _ _ _ hR hS (lv_sub hl [1, 2, 0] rfl)
  exact hL_1 (D, (0 : Int32)) hf _ _ _ hR hS (lv_sub hl [1, 2, 0] rfl)
noncomputable def f8_isLeaf (D : cw_D) (a0 : Nat) : Option (Int32) :=
  some (0 : Int32)
set_option maxHeartbeats 4000000 in
set_option maxRecDepth 100000 in
theorem met8_isLeaf (l : Launch) {E : cw_E} {A : Nat → Prop} (D : cw_D) (a0 : Nat) (r : Int32) (hf : f8_isLeaf D a0 = some r) : cw_MetI l yX8_isLeaf cX8_isLeaf 1 (some Jvm.ClassFile.FieldType.boolean) 0 0 E A [.ref a0] D D r 0 0 := by
  unfold f8_isLeaf at hf
  refine cw_sIP (own := RX8) (by decide +kernel) [(0, .ref a0)] ⟨Nat.le_of_ble_eq_true rfl, rfl⟩ ?_
  intro p e s m args below meth c Rm Q X hK hF hLo hin hend ls hl hR hS
  obtain ⟨hx, hb, hml, hown, hts⟩ := id X
  refine lv_iconst (v := (0 : Int32)) hx hb dX8_isLeaf_0 (by decide) ?_
  exact hend dX8_isLeaf_1 rfl (by decide) hf hR hS
noncomputable def f5r_isLeaf (r8 : cw_D → Nat → Option (Int32)) : cw_D → Nat → Option (Int32) := fun D a =>
  if cw_kd D [1] (some a) = true then f7_isLeaf D a else if cw_kd D [2] (some a) = true then r8 D a else none
section C_8_isLeaf_i
variable {p : Program} {l : Launch} {e : Env} {R : Room} {s : State} {m : MethodId} {args : Array Value} {below : List Frame} {meth : Method} {c : Code} {H : Heap} {locs : List Loc} {cells slots : Nat} {Q : State → Prop}
variable {cc : ByteArray} {pc : Nat} {ls : Array Slot} {rest : List Value} {nL : Nat} {E : cw_E} {A : Nat → Prop} {H0 : Heap}
theorem c1i_isLeaf {D : cw_D} {a0 : Nat} {r : Int32} (X : ww_C p m c cc nL s args RX1 lw_all) (hsz : ls.size = nL) (hK : cw_K E A s) (hR : cw_H E A D H) (hS : va_S A s.heap H locs) (hF : 1 ≤ R.frames) (hLo : 20 ≤ R.locals) (hc : cells ≤ R.cells) (hs : slots ≤ R.slots) (hf : f5r_isLeaf f8_isLeaf D a0 = some r) (hrest : (rest.map fun v => v.category).sum ≤ 8) {count : Nat} (hdg : decode cc pc = .ok (.invokeinterface 267 count, 5)) (kk : ∀ (H1 : Heap) (locs1 : List Loc), cw_H E A D H1 → va_S A s.heap H1 locs1 → W p l e R s m args below meth c H1 locs1 cells slots Q (F0 m (pc + 5) ls (.int r :: rest))) : W p l e R s m args below meth c H locs cells slots Q (F0 m pc ls (.ref a0 :: rest)) := by
  unfold f5r_isLeaf at hf
  by_cases hkd : cw_kd D [1] (some a0) = true
  · rw [if_pos hkd] at hf
    exact va_callFi (va_runF (C := RX7) (x := ⟨"WideMap$Node", "isLeaf", "()Z"⟩) (As := []) (rest := rest) (b := a0) (cw_cls (k := 1) (C := RX7) (T := TX7) (N := 5) rfl hK) X (met7_isLeaf l _ _ _ hf) (va_cwF 0 X.2.2.2.2 (cw_F q878 q888 q890 q154 q892) rfl rfl rfl (hK.2.2.2.1 ("WideMap$Leaf", ⟨"WideMap$Node", "isLeaf", "()Z"⟩, ⟨"WideMap$Leaf", "isLeaf", "()Z"⟩) (by decide +kernel)) (by decide +kernel) ⟨(show 1 ≤ R.frames by omega), (show 20 ≤ R.locals by omega)⟩) (cw_pV hK hR hS (cw_rc (k := 1) (C := RX7) (T := TX7) (N := 5) rfl (by decide) hK hR hkd)) rfl rfl hsz rfl (lv_room hrest) hdg ⟨hc, hs⟩) hS (fun q _ h => h) (fun q h => h) (fun r' u t H1 locs1 ht hvm hw hB hz1 hk1 hS1 => by subst hw; rw [ht] at hB; exact kk H1 locs1 hB hS1)
  · rw [if_neg hkd] at hf
    by_cases hkd : cw_kd D [2] (some a0) = true
    · rw [if_pos hkd] at hf
      exact va_callFi (va_runF (C := RX8) (x := ⟨"WideMap$Node", "isLeaf", "()Z"⟩) (As := []) (rest := rest) (b := a0) (cw_cls (k := 2) (C := RX8) (T := TX8) (N := 4) rfl hK) X (met8_isLeaf l _ _ _ hf) (va_cwF 0 X.2.2.2.2 (cw_F q878 q882 q884 q155 q886) rfl rfl rfl (hK.2.2.2.1 ("WideMap$Inner", ⟨"WideMap$Node", "isLeaf", "()Z"⟩, ⟨"WideMap$Inner", "isLeaf", "()Z"⟩) (by decide +kernel)) (by decide +kernel) ⟨(show 1 ≤ R.frames by omega), (show 20 ≤ R.locals by omega)⟩) (cw_pV hK hR hS (cw_rc (k := 2) (C := RX8) (T := TX8) (N := 4) rfl (by decide) hK hR hkd)) rfl rfl hsz rfl (lv_room hrest) hdg ⟨hc, hs⟩) hS (fun q _ h => h) (fun q h => h) (fun r' u t H1 locs1 ht hvm hw hB hz1 hk1 hS1 => by subst hw; rw [ht] at hB; exact kk H1 locs1 hB hS1)
    · rw [if_neg hkd] at hf
      cases hf
theorem c5i_isLeaf {D : cw_D} {a0 : Nat} {r : Int32} (X : ww_C p m c cc nL s args RX5 lw_all) (hsz : ls.size = nL) (hK : cw_K E A s) (hR : cw_H E A D H) (hS : va_S A s.heap H locs) (hF : 1 ≤ R.frames) (hLo : 20 ≤ R.locals) (hc : cells ≤ R.cells) (hs : slots ≤ R.slots) (hf : f5r_isLeaf f8_isLeaf D a0 = some r) (hrest : (rest.map fun v => v.category).sum ≤ 8) {count : Nat} (hdg : decode cc pc = .ok (.invokeinterface 49 count, 5)) (kk : ∀ (H1 : Heap) (locs1 : List Loc), cw_H E A D H1 → va_S A s.heap H1 locs1 → W p l e R s m args below meth c H1 locs1 cells slots Q (F0 m (pc + 5) ls (.int r :: rest))) : W p l e R s m args below meth c H locs cells slots Q (F0 m pc ls (.ref a0 :: rest)) := by
  unfold f5r_isLeaf at hf
  by_cases hkd : cw_kd D [1] (some a0) = true
  · rw [if_pos hkd] at hf
    exact va_callFi (va_runF (C := RX7) (x := ⟨"WideMap$Node", "isLeaf", "()Z"⟩) (As := []) (rest := rest) (b := a0) (cw_cls (k := 1) (C := RX7) (T := TX7) (N := 5) rfl hK) X (met7_isLeaf l _ _ _ hf) (va_cwF 0 X.2.2.2.2 (cw_F q1116 q888 q890 q154 q892) rfl rfl rfl (hK.2.2.2.1 ("WideMap$Leaf", ⟨"WideMap$Node", "isLeaf", "()Z"⟩, ⟨"WideMap$Leaf", "isLeaf", "()Z"⟩) (by decide +kernel)) (by decide +kernel) ⟨(show 1 ≤ R.frames by omega), (show 20 ≤ R.locals by omega)⟩) (cw_pV hK hR hS (cw_rc (k := 1) (C := RX7) (T := TX7) (N := 5) rfl (by decide) hK hR hkd)) rfl rfl hsz rfl (lv_room hrest) hdg ⟨hc, hs⟩) hS (fun q _ h => h) (fun q h => h) (fun r' u t H1 locs1 ht hvm hw hB hz1 hk1 hS1 => by subst hw; rw [ht] at hB; exact kk H1 locs1 hB hS1)
  · rw [if_neg hkd] at hf
    by_cases hkd : cw_kd D [2] (some a0) = true
    · rw [if_pos hkd] at hf
      exact va_callFi (va_runF (C := RX8) (x := ⟨"WideMap$Node", "isLeaf", "()Z"⟩) (As := []) (rest := rest) (b := a0) (cw_cls (k := 2) (C := RX8) (T := TX8) (N := 4) rfl hK) X (met8_isLeaf l _ _ _ hf) (va_cwF 0 X.2.2.2.2 (cw_F q1116 q882 q884 q155 q886) rfl rfl rfl (hK.2.2.2.1 ("WideMap$Inner", ⟨"WideMap$Node", "isLeaf", "()Z"⟩, ⟨"WideMap$Inner", "isLeaf", "()Z"⟩) (by decide +kernel)) (by decide +kernel) ⟨(show 1 ≤ R.frames by omega), (show 20 ≤ R.locals by omega)⟩) (cw_pV hK hR hS (cw_rc (k := 2) (C := RX8) (T := TX8) (N := 4) rfl (by decide) hK hR hkd)) rfl rfl hsz rfl (lv_room hrest) hdg ⟨hc, hs⟩) hS (fun q _ h => h) (fun q h => h) (fun r' u t H1 locs1 ht hvm hw hB hz1 hk1 hS1 => by subst hw; rw [ht] at hB; exact kk H1 locs1 hB hS1)
    · rw [if_neg hkd] at hf
      cases hf
end C_8_isLeaf_i
noncomputable def f8_kid (D : cw_D) (a0 : Nat) (x1 : Int32) : Option (Option Nat) :=
  ww_b (cw_gR D [2] a0 3) (fun r_1 => ww_b r_1 (fun a_3 => ww_b (cw_xR D a_3 x1) (fun r_2 => some r_2)))
set_option maxHeartbeats 4000000 in
set_option maxRecDepth 100000 in
theorem met8_kid (l : Launch) {E : cw_E} {A : Nat → Prop} (D : cw_D) (a0 : Nat) (x1 : Int32) (r : Option Nat) (hf : f8_kid D a0 x1 = some r) : cw_MetQ l yX8_kid cX8_kid 2 (some (Jvm.ClassFile.FieldType.object "WideMap$Node")) 0 0 E A [.ref a0, .int x1] D D r 0 0 := by
  unfold f8_kid at hf
  refine cw_sQP (own := RX8) (by decide +kernel) [(0, .ref a0), (1, .int x1)] ⟨Nat.le_of_ble_eq_true rfl, rfl⟩ ?_
  intro p e s m args below meth c Rm Q X hK hF hLo hin hend ls hl hR hS
  obtain ⟨hx, hb, hml, hown, hts⟩ := id X
  refine lv_aload_n hx hb dX8_kid_0 rfl (lv_at hl 0 rfl) ?_
  obtain ⟨r_1, h_1, hq⟩ := ww_bS hf; replace hf := hq; clear hq
  refine c8g_9 X hK hR h_1 dX8_kid_1 ?_
  refine lv_iload_n hx hb dX8_kid_4 rfl (lv_at hl 1 rfl) ?_
  obtain ⟨a_3, e_3, hq⟩ := ww_bS hf; replace hf := hq; clear hq
  subst e_3
  obtain ⟨r_2, h_2, hq⟩ := ww_bS hf; replace hf := hq; clear hq
  refine cw_oxR (x := some a_3) X hK hR rfl h_2 dX8_kid_5 ?_
  exact hend (v := r_2) dX8_kid_6 rfl (Or.inl ⟨_, rfl⟩) hf hR hS
noncomputable def f5r_kid (r8 : cw_D → Nat → Int32 → Option (Option Nat)) : cw_D → Nat → Int32 → Option (Option Nat) := fun D a x1 =>
  if cw_kd D [1] (some a) = true then f7_kid D a x1 else if cw_kd D [2] (some a) = true then r8 D a x1 else none
section C_8_kid_i
variable {p : Program} {l : Launch} {e : Env} {R : Room} {s : State} {m : MethodId} {args : Array Value} {below : List Frame} {meth : Method} {c : Code} {H : Heap} {locs : List Loc} {cells slots : Nat} {Q : State → Prop}
variable {cc : ByteArray} {pc : Nat} {ls : Array Slot} {rest : List Value} {nL : Nat} {E : cw_E} {A : Nat → Prop} {H0 : Heap}
theorem c1i_kid {D : cw_D} {a0 : Nat} {x1 : Int32} {r : Option Nat} (X : ww_C p m c cc nL s args RX1 lw_all) (hsz : ls.size = nL) (hK : cw_K E A s) (hR : cw_H E A D H) (hS : va_S A s.heap H locs) (hF : 1 ≤ R.frames) (hLo : 21 ≤ R.locals) (hc : cells ≤ R.cells) (hs : slots ≤ R.slots) (hf : f5r_kid f8_kid D a0 x1 = some r) (hrest : (rest.map fun v => v.category).sum ≤ 8) {count : Nat} (hdg : decode cc pc = .ok (.invokeinterface 273 count, 5)) (kk : ∀ (H1 : Heap) (locs1 : List Loc), cw_H E A D H1 → va_S A s.heap H1 locs1 → W p l e R s m args below meth c H1 locs1 cells slots Q (F0 m (pc + 5) ls (va_rf r :: rest))) : W p l e R s m args below meth c H locs cells slots Q (F0 m pc ls (.int x1 :: .ref a0 :: rest)) := by
  unfold f5r_kid at hf
  by_cases hkd : cw_kd D [1] (some a0) = true
  · rw [if_pos hkd] at hf
    exact va_callFq (va_runF (C := RX7) (x := ⟨"WideMap$Node", "kid", "(I)LWideMap$Node;"⟩) (As := [.int x1]) (rest := rest) (b := a0) (cw_cls (k := 1) (C := RX7) (T := TX7) (N := 5) rfl hK) X (met7_kid l _ _ _ _ hf) (va_cwF 1 X.2.2.2.2 (cw_F q944 q921 q923 q154 q925) rfl rfl rfl (hK.2.2.2.1 ("WideMap$Leaf", ⟨"WideMap$Node", "kid", "(I)LWideMap$Node;"⟩, ⟨"WideMap$Leaf", "kid", "(I)LWideMap$Node;"⟩) (by decide +kernel)) (by decide +kernel) ⟨(show 1 ≤ R.frames by omega), (show 21 ≤ R.locals by omega)⟩) (cw_pV hK hR hS (cw_rc (k := 1) (C := RX7) (T := TX7) (N := 5) rfl (by decide) hK hR hkd)) rfl rfl hsz rfl (lv_room hrest) hdg ⟨hc, hs⟩) hS (fun q _ h => h) (fun q h => h) (fun r' u t H1 locs1 ht hvm hw hB hz1 hk1 hS1 => by subst hw; rw [ht] at hB; exact kk H1 locs1 hB hS1)
  · rw [if_neg hkd] at hf
    by_cases hkd : cw_kd D [2] (some a0) = true
    · rw [if_pos hkd] at hf
      exact va_callFq (va_runF (C := RX8) (x := ⟨"WideMap$Node", "kid", "(I)LWideMap$Node;"⟩) (As := [.int x1]) (rest := rest) (b := a0) (cw_cls (k := 2) (C := RX8) (T := TX8) (N := 4) rfl hK) X (met8_kid l _ _ _ _ hf) (va_cwF 1 X.2.2.2.2 (cw_F q944 q916 q918 q155 q920) rfl rfl rfl (hK.2.2.2.1 ("WideMap$Inner", ⟨"WideMap$Node", "kid", "(I)LWideMap$Node;"⟩, ⟨"WideMap$Inner", "kid", "(I)LWideMap$Node;"⟩) (by decide +kernel)) (by decide +kernel) ⟨(show 1 ≤ R.frames by omega), (show 21 ≤ R.locals by omega)⟩) (cw_pV hK hR hS (cw_rc (k := 2) (C := RX8) (T := TX8) (N := 4) rfl (by decide) hK hR hkd)) rfl rfl hsz rfl (lv_room hrest) hdg ⟨hc, hs⟩) hS (fun q _ h => h) (fun q h => h) (fun r' u t H1 locs1 ht hvm hw hB hz1 hk1 hS1 => by subst hw; rw [ht] at hB; exact kk H1 locs1 hB hS1)
    · rw [if_neg hkd] at hf
      cases hf
theorem c5i_kid {D : cw_D} {a0 : Nat} {x1 : Int32} {r : Option Nat} (X : ww_C p m c cc nL s args RX5 lw_all) (hsz : ls.size = nL) (hK : cw_K E A s) (hR : cw_H E A D H) (hS : va_S A s.heap H locs) (hF : 1 ≤ R.frames) (hLo : 21 ≤ R.locals) (hc : cells ≤ R.cells) (hs : slots ≤ R.slots) (hf : f5r_kid f8_kid D a0 x1 = some r) (hrest : (rest.map fun v => v.category).sum ≤ 8) {count : Nat} (hdg : decode cc pc = .ok (.invokeinterface 42 count, 5)) (kk : ∀ (H1 : Heap) (locs1 : List Loc), cw_H E A D H1 → va_S A s.heap H1 locs1 → W p l e R s m args below meth c H1 locs1 cells slots Q (F0 m (pc + 5) ls (va_rf r :: rest))) : W p l e R s m args below meth c H locs cells slots Q (F0 m pc ls (.int x1 :: .ref a0 :: rest)) := by
  unfold f5r_kid at hf
  by_cases hkd : cw_kd D [1] (some a0) = true
  · rw [if_pos hkd] at hf
    exact va_callFq (va_runF (C := RX7) (x := ⟨"WideMap$Node", "kid", "(I)LWideMap$Node;"⟩) (As := [.int x1]) (rest := rest) (b := a0) (cw_cls (k := 1) (C := RX7) (T := TX7) (N := 5) rfl hK) X (met7_kid l _ _ _ _ hf) (va_cwF 1 X.2.2.2.2 (cw_F q913 q921 q923 q154 q925) rfl rfl rfl (hK.2.2.2.1 ("WideMap$Leaf", ⟨"WideMap$Node", "kid", "(I)LWideMap$Node;"⟩, ⟨"WideMap$Leaf", "kid", "(I)LWideMap$Node;"⟩) (by decide +kernel)) (by decide +kernel) ⟨(show 1 ≤ R.frames by omega), (show 21 ≤ R.locals by omega)⟩) (cw_pV hK hR hS (cw_rc (k := 1) (C := RX7) (T := TX7) (N := 5) rfl (by decide) hK hR hkd)) rfl rfl hsz rfl (lv_room hrest) hdg ⟨hc, hs⟩) hS (fun q _ h => h) (fun q h => h) (fun r' u t H1 locs1 ht hvm hw hB hz1 hk1 hS1 => by subst hw; rw [ht] at hB; exact kk H1 locs1 hB hS1)
  · rw [if_neg hkd] at hf
    by_cases hkd : cw_kd D [2] (some a0) = true
    · rw [if_pos hkd] at hf
      exact va_callFq (va_runF (C := RX8) (x := ⟨"WideMap$Node", "kid", "(I)LWideMap$Node;"⟩) (As := [.int x1]) (rest := rest) (b := a0) (cw_cls (k := 2) (C := RX8) (T := TX8) (N := 4) rfl hK) X (met8_kid l _ _ _ _ hf) (va_cwF 1 X.2.2.2.2 (cw_F q913 q916 q918 q155 q920) rfl rfl rfl (hK.2.2.2.1 ("WideMap$Inner", ⟨"WideMap$Node", "kid", "(I)LWideMap$Node;"⟩, ⟨"WideMap$Inner", "kid", "(I)LWideMap$Node;"⟩) (by decide +kernel)) (by decide +kernel) ⟨(show 1 ≤ R.frames by omega), (show 21 ≤ R.locals by omega)⟩) (cw_pV hK hR hS (cw_rc (k := 2) (C := RX8) (T := TX8) (N := 4) rfl (by decide) hK hR hkd)) rfl rfl hsz rfl (lv_room hrest) hdg ⟨hc, hs⟩) hS (fun q _ h => h) (fun q h => h) (fun r' u t H1 locs1 ht hvm hw hB hz1 hk1 hS1 => by subst hw; rw [ht] at hB; exact kk H1 locs1 hB hS1)
    · rw [if_neg hkd] at hf
      cases hf
theorem c8i_kid {D : cw_D} {a0 : Nat} {x1 : Int32} {r : Option Nat} (X : ww_C p m c cc nL s args RX8 lw_all) (hsz : ls.size = nL) (hK : cw_K E A s) (hR : cw_H E A D H) (hS : va_S A s.heap H locs) (hF : 1 ≤ R.frames) (hLo : 21 ≤ R.locals) (hc : cells ≤ R.cells) (hs : slots ≤ R.slots) (hf : f5r_kid f8_kid D a0 x1 = some r) (hrest : (rest.map fun v => v.category).sum ≤ 8) {count : Nat} (hdg : decode cc pc = .ok (.invokeinterface 71 count, 5)) (kk : ∀ (H1 : Heap) (locs1 : List Loc), cw_H E A D H1 → va_S A s.heap H1 locs1 → W p l e R s m args below meth c H1 locs1 cells slots Q (F0 m (pc + 5) ls (va_rf r :: rest))) : W p l e R s m args below meth c H locs cells slots Q (F0 m pc ls (.int x1 :: .ref a0 :: rest)) := by
  unfold f5r_kid at hf
  by_cases hkd : cw_kd D [1] (some a0) = true
  · rw [if_pos hkd] at hf
    exact va_callFq (va_runF (C := RX7) (x := ⟨"WideMap$Node", "kid", "(I)LWideMap$Node;"⟩) (As := [.int x1]) (rest := rest) (b := a0) (cw_cls (k := 1) (C := RX7) (T := TX7) (N := 5) rfl hK) X (met7_kid l _ _ _ _ hf) (va_cwF 1 X.2.2.2.2 (cw_F q1292 q921 q923 q154 q925) rfl rfl rfl (hK.2.2.2.1 ("WideMap$Leaf", ⟨"WideMap$Node", "kid", "(I)LWideMap$Node;"⟩, ⟨"WideMap$Leaf", "kid", "(I)LWideMap$Node;"⟩) (by decide +kernel)) (by decide +kernel) ⟨(show 1 ≤ R.frames by omega), (show 21 ≤ R.locals by omega)⟩) (cw_pV hK hR hS (cw_rc (k := 1) (C := RX7) (T := TX7) (N := 5) rfl (by decide) hK hR hkd)) rfl rfl hsz rfl (lv_room hrest) hdg ⟨hc, hs⟩) hS (fun q _ h => h) (fun q h => h) (fun r' u t H1 locs1 ht hvm hw hB hz1 hk1 hS1 => by subst hw; rw [ht] at hB; exact kk H1 locs1 hB hS1)
  · rw [if_neg hkd] at hf
    by_cases hkd : cw_kd D [2] (some a0) = true
    · rw [if_pos hkd] at hf
      exact va_callFq (va_runF (C := RX8) (x := ⟨"WideMap$Node", "kid", "(I)LWideMap$Node;"⟩) (As := [.int x1]) (rest := rest) (b := a0) (cw_cls (k := 2) (C := RX8) (T := TX8) (N := 4) rfl hK) X (met8_kid l _ _ _ _ hf) (va_cwF 1 X.2.2.2.2 (cw_F q1292 q916 q918 q155 q920) rfl rfl rfl (hK.2.2.2.1 ("WideMap$Inner", ⟨"WideMap$Node", "kid", "(I)LWideMap$Node;"⟩, ⟨"WideMap$Inner", "kid", "(I)LWideMap$Node;"⟩) (by decide +kernel)) (by decide +kernel) ⟨(show 1 ≤ R.frames by omega), (show 21 ≤ R.locals by omega)⟩) (cw_pV hK hR hS (cw_rc (k := 2) (C := RX8) (T := TX8) (N := 4) rfl (by decide) hK hR hkd)) rfl rfl hsz rfl (lv_room hrest) hdg ⟨hc, hs⟩) hS (fun q _ h => h) (fun q h => h) (fun r' u t H1 locs1 ht hvm hw hB hz1 hk1 hS1 => by subst hw; rw [ht] at hB; exact kk H1 locs1 hB hS1)
    · rw [if_neg hkd] at hf
      cases hf
end C_8_kid_i
noncomputable def f8_init (D : cw_D) (a0 : Nat) (x1 : Option Nat) (x2 : Int32) : Option (cw_D × Nat × Nat) :=
  ww_b (f6_init D a0 x1) (fun D_1 => ww_g (ww_i (x2 + (1 : Int32)) 100000000) (ww_b (cw_p (cw_nA D_1 22 (x2 + (1 : Int32)).toNatClampNeg) [2] a0 3 (va_rf (some D_1.2.2))) (fun D_3 => some (D_3, (0 + 1), (0 + (x2 + (1 : Int32)).toNatClampNeg)))))
section C_8_init_k
variable {p : Program} {l : Launch} {e : Env} {R : Room} {s : State} {m : MethodId} {args : Array Value} {below : List Frame} {meth : Method} {c : Code} {H : Heap} {locs : List Loc} {cells slots : Nat} {Q : State → Prop}
variable {cc : ByteArray} {pc : Nat} {ls : Array Slot} {rest : List Value} {nL : Nat} {E : cw_E} {A : Nat → Prop} {H0 : Heap}
theorem c5k_8_init {D : cw_D} {a0 : Nat} {x1 : Option Nat} {x2 : Int32} {D' : cw_D} {nc ns : Nat} (X : ww_C p m c cc nL s args RX5 lw_all) (hsz : ls.size = nL) (hK : cw_K E A s) (hR : cw_H E A D H) (hS : va_S A s.heap H locs) (hF : 3 ≤ R.frames) (hLo : 83 ≤ R.locals) (hc : cells + nc ≤ R.cells) (hs : slots + ns ≤ R.slots) (hM : cw_MetV l yX8_init cX8_init 3 2 61 E A [.ref a0, va_rf x1, .int x2] D D' nc ns) (hrest : (rest.map fun v => v.category).sum ≤ 8) (hdg : decode cc pc = .ok (.invokespecial 15, 3)) (kk : ∀ (H1 : Heap) (locs1 : List Loc), cw_H E A D' H1 → va_S A s.heap H1 locs1 → W p l e R s m args below meth c H1 locs1 (cells + nc) (slots + ns) Q (F0 m (pc + 3) ls (rest))) : W p l e R s m args below meth c H locs cells slots Q (F0 m pc ls (.int x2 :: va_rf x1 :: .ref a0 :: rest)) :=
  va_callv (va_runI (As := [va_rf x1, .int x2]) (rest := rest) (b := a0) X hM (cwI 2 X.2.2.2.2 (lw_meth q1016) rfl rfl rfl (X.2.2.2.2 _ q155) (X.2.2.2.2 _ q1075) (X.2.2.2.2 _ q1015) rfl (by decide +kernel) ⟨hF, hLo⟩) (cw_pS hK hR hS) rfl rfl hsz rfl (lv_room hrest) hdg ⟨hc, hs⟩) hS (fun q _ h => h) (fun q h => h) (fun u t H1 locs1 ht hvm hw hB hz1 hk1 hS1 => by rw [ht] at hB; exact kk H1 locs1 hB hS1)
theorem c8k_8_init {D : cw_D} {a0 : Nat} {x1 : Option Nat} {x2 : Int32} {D' : cw_D} {nc ns : Nat} (X : ww_C p m c cc nL s args RX8 lw_all) (hsz : ls.size = nL) (hK : cw_K E A s) (hR : cw_H E A D H) (hS : va_S A s.heap H locs) (hF : 3 ≤ R.frames) (hLo : 83 ≤ R.locals) (hc : cells + nc ≤ R.cells) (hs : slots + ns ≤ R.slots) (hM : cw_MetV l yX8_init cX8_init 3 2 61 E A [.ref a0, va_rf x1, .int x2] D D' nc ns) (hrest : (rest.map fun v => v.category).sum ≤ 8) (hdg : decode cc pc = .ok (.invokespecial 19, 3)) (kk : ∀ (H1 : Heap) (locs1 : List Loc), cw_H E A D' H1 → va_S A s.heap H1 locs1 → W p l e R s m args below meth c H1 locs1 (cells + nc) (slots + ns) Q (F0 m (pc + 3) ls (rest))) : W p l e R s m args below meth c H locs cells slots Q (F0 m pc ls (.int x2 :: va_rf x1 :: .ref a0 :: rest)) :=
  va_callv (va_runI (As := [va_rf x1, .int x2]) (rest := rest) (b := a0) X hM (cwI 2 X.2.2.2.2 (lw_meth q1016) rfl rfl rfl (X.2.2.2.2 _ q155) (X.2.2.2.2 _ q1014) (X.2.2.2.2 _ q1015) rfl (by decide +kernel) ⟨hF, hLo⟩) (cw_pS hK hR hS) rfl rfl hsz rfl (lv_room hrest) hdg ⟨hc, hs⟩) hS (fun q _ h => h) (fun q h => h) (fun u t H1 locs1 ht hvm hw hB hz1 hk1 hS1 => by rw [ht] at hB; exact kk H1 locs1 hB hS1)
end C_8_init_k
set_option maxHeartbeats 4000000 in
set_option maxRecDepth 100000 in
theorem met8_init (l : Launch) {E : cw_E} {A : Nat → Prop} (D : cw_D) (a0 : Nat) (x1 : Option Nat) (x2 : Int32) (D' : cw_D) (nc ns : Nat) (hf : f8_init D a0 x1 x2 = some (D', nc, ns)) : cw_MetV l yX8_init cX8_init 3 2 61 E A [.ref a0, va_rf x1, .int x2] D D' nc ns := by
  unfold f8_init at hf
  refine cw_sVN (own := RX8) (by decide +kernel) [(0, .ref a0), (1, va_rf x1), (2, .int x2)] ⟨by cases x1 <;> exact Nat.le_of_ble_eq_true rfl, by cases x1 <;> rfl⟩ ?_
  intro p e s m args below meth c Rm Q X hK hF hLo hC hin hend ls hl hR hS
  obtain ⟨hx, hb, hml, hown, hts⟩ := id X
  have hm9 : 0 ≤ nc ∧ 0 ≤ ns := ⟨Nat.zero_le _, Nat.zero_le _⟩
  refine lv_aload_n hx hb dX8_init_0 rfl (lv_at hl 0 rfl) ?_
  refine cw_aload_n (x := x1) hx hb dX8_init_1 rfl (lv_at hl 1 rfl) ?_
  obtain ⟨D_1, h_1, hq⟩ := ww_bS hf; replace hf := hq; clear hq
  refine c8c_6_init (x1 := x1) X hl.1 hK hR hS (Nat.le_trans (Nat.le_of_ble_eq_true rfl) hF) (Nat.le_trans (Nat.le_of_ble_eq_true rfl) hLo) (Nat.le_trans hm9.1 hC.1) (Nat.le_trans hm9.2 hC.2) h_1 (cw_rest (Nat.le_of_ble_eq_true rfl)) dX8_init_2 (fun H locs hR hS => ?_)
  refine lv_aload_n hx hb dX8_init_5 rfl (lv_at hl 0 rfl) ?_
  refine lv_iload_n hx hb dX8_init_6 rfl (lv_at hl 2 rfl) ?_
  refine lv_iconst (v := (1 : Int32)) hx hb dX8_init_7 (by decide) ?_
  refine lv_iadd hx hb dX8_init_8 ?_
  obtain ⟨h_2, hq⟩ := ww_gS hf; replace hf := hq; clear hq
  have hm9 : (0 + 1) ≤ nc ∧ (0 + (x2 + (1 : Int32)).toNatClampNeg) ≤ ns := by
    obtain ⟨D_3, h_3, hq⟩ := ww_bS hf; replace hf := hq; clear hq
    have e9 := hf
    simp only [Option.some.injEq, Prod.mk.injEq] at e9
    omega
  refine cw_onewq X hK hR hS q1018 h_2 rfl (Nat.le_trans hm9.1 hC.1) (Nat.le_trans hm9.2 hC.2) dX8_init_9 (fun H hR hS => ?_)
  obtain ⟨D_3, h_3, hq⟩ := ww_bS hf; replace hf := hq; clear hq
  refine c8p_9 (v := (some D_1.2.2)) X hK hR hS h_3 dX8_init_12 hin (fun H locs hR hS => ?_)
  exact hend dX8_init_15 hf hR hS
section C_8_init_c
variable {p : Program} {l : Launch} {e : Env} {R : Room} {s : State} {m : MethodId} {args : Array Value} {below : List Frame} {meth : Method} {c : Code} {H : Heap} {locs : List Loc} {cells slots : Nat} {Q : State → Prop}
variable {cc : ByteArray} {pc : Nat} {ls : Array Slot} {rest : List Value} {nL : Nat} {E : cw_E} {A : Nat → Prop} {H0 : Heap}
theorem c5c_8_init {D : cw_D} {a0 : Nat} {x1 : Option Nat} {x2 : Int32} {D' : cw_D} {nc ns : Nat} (X : ww_C p m c cc nL s args RX5 lw_all) (hsz : ls.size = nL) (hK : cw_K E A s) (hR : cw_H E A D H) (hS : va_S A s.heap H locs) (hF : 3 ≤ R.frames) (hLo : 83 ≤ R.locals) (hc : cells + nc ≤ R.cells) (hs : slots + ns ≤ R.slots) (hf : f8_init D a0 x1 x2 = some (D', nc, ns)) (hrest : (rest.map fun v => v.category).sum ≤ 8) (hdg : decode cc pc = .ok (.invokespecial 15, 3)) (kk : ∀ (H1 : Heap) (locs1 : List Loc), cw_H E A D' H1 → va_S A s.heap H1 locs1 → W p l e R s m args below meth c H1 locs1 (cells + nc) (slots + ns) Q (F0 m (pc + 3) ls (rest))) : W p l e R s m args below meth c H locs cells slots Q (F0 m pc ls (.int x2 :: va_rf x1 :: .ref a0 :: rest)) :=
  c5k_8_init X hsz hK hR hS hF hLo hc hs (met8_init l _ _ _ _ _ _ _ hf) hrest hdg kk
theorem c8c_8_init {D : cw_D} {a0 : Nat} {x1 : Option Nat} {x2 : Int32} {D' : cw_D} {nc ns : Nat} (X : ww_C p m c cc nL s args RX8 lw_all) (hsz : ls.size = nL) (hK : cw_K E A s) (hR : cw_H E A D H) (hS : va_S A s.heap H locs) (hF : 3 ≤ R.frames) (hLo : 83 ≤ R.locals) (hc : cells + nc ≤ R.cells) (hs : slots + ns ≤ R.slots) (hf : f8_init D a0 x1 x2 = some (D', nc, ns)) (hrest : (rest.map fun v => v.category).sum ≤ 8) (hdg : decode cc pc = .ok (.invokespecial 19, 3)) (kk : ∀ (H1 : Heap) (locs1 : List Loc), cw_H E A D' H1 → va_S A s.heap H1 locs1 → W p l e R s m args below meth c H1 locs1 (cells + nc) (slots + ns) Q (F0 m (pc + 3) ls (rest))) : W p l e R s m args below meth c H locs cells slots Q (F0 m pc ls (.int x2 :: va_rf x1 :: .ref a0 :: rest)) :=
  c8k_8_init X hsz hK hR hS hF hLo hc hs (met8_init l _ _ _ _ _ _ _ hf) hrest hdg kk
end C_8_init_c
noncomputable def f8_copied_b1c (cf : Nat) (kf : Nat) (y0 : Nat) (y2 : Nat) (D_5 : cw_D) (x3 : Int32) : Option ((cw_D × Int32) ⊕ (Option Nat × cw_D × Nat × Nat)) :=
  ww_b (cw_gI D_5 [2] y0 1) (fun r_6 => if r_6 ≤ x3 then ww_x (ww_b (cw_gI D_5 [2] y0 1) (fun r_8 => ww_b (cw_p D_5 [2] y2 1 (.int r_8)) (fun D_9 => some ((some y2), D_9, cf, kf)))) else ww_b (cw_gR D_5 [2] y2 3) (fun r_10 => ww_b (cw_gR D_5 [2] y0 3) (fun r_11 => ww_b r_11 (fun a_13 => ww_b (cw_xR D_5 a_13 x3) (fun r_12 => ww_b r_10 (fun a_14 => ww_b (cw_tR D_5 a_14 x3 r_12) (fun D_15 => some (.inl (D_15, (x3 + (1 : Int32)))))))))))
noncomputable def f8_copied_b1 (cf : Nat) (kf : Nat) (y0 : Nat) (y2 : Nat) : (cw_D × Int32) → Option ((cw_D × Int32) ⊕ (Option Nat × cw_D × Nat × Nat)) := fun s9 => f8_copied_b1c cf kf y0 y2 s9.1 s9.2
noncomputable def f8_copied (D : cw_D) (a0 : Nat) (x1 : Option Nat) : Option (Option Nat × cw_D × Nat × Nat) :=
  ww_b (cw_gR (cw_nO D 2) [2] a0 3) (fun r_1 => ww_b r_1 (fun a_2 => ww_b (cw_ln (cw_nO D 2) a_2) (fun r_3 => ww_b3 (f8_init (cw_nO D 2) D.2.2 x1 (r_3 - (1 : Int32))) (fun D_4 c_4 k_4 => ww_U (f8_copied_b1 ((0 + 1) + c_4) ((0 + 4) + k_4) a0 D.2.2) (D_4, (0 : Int32))))))
set_option maxHeartbeats 4000000 in
set_option maxRecDepth 100000 in
theorem met8_copied (l : Launch) {E : cw_E} {A : Nat → Prop} (D : cw_D) (a0 : Nat) (x1 : Option Nat) (r : Option Nat) (D' : cw_D) (nc ns : Nat) (hf : f8_copied D a0 x1 = some (r, D', nc, ns)) : cw_MetQ l yX8_copied cX8_copied 4 (some (Jvm.ClassFile.FieldType.object "WideMap$Node")) 3 83 E A [.ref a0, va_rf x1] D D' r nc ns := by
  unfold f8_copied at hf
  refine cw_sQN (own := RX8) (by decide +kernel) [(0, .ref a0), (1, va_rf x1)] ⟨by cases x1 <;> exact Nat.le_of_ble_eq_true rfl, by cases x1 <;> rfl⟩ ?_
  intro p e s m args below meth c Rm Q X hK hF hLo hC hin hend ls hl hR hS
  obtain ⟨hx, hb, hml, hown, hts⟩ := id X
  have hm9 : 0 ≤ nc ∧ 0 ≤ ns := ⟨Nat.zero_le _, Nat.zero_le _⟩
  have hm9 : (0 + 1) ≤ nc ∧ (0 + 4) ≤ ns := by
    obtain ⟨r_1, h_1, hq⟩ := ww_bS hf; replace hf := hq; clear hq
    obtain ⟨a_2, e_2, hq⟩ := ww_bS hf; replace hf := hq; clear hq
    subst e_2
    obtain ⟨r_3, h_3, hq⟩ := ww_bS hf; replace hf := hq; clear hq
    obtain ⟨D_4, c_4, k_4, h_4, hq⟩ := ww_b3S hf; replace hf := hq; clear hq
    have hL_1 : ∀ s9 : cw_D × Int32, ww_U (f8_copied_b1 ((0 + 1) + c_4) ((0 + 4) + k_4) a0 D.2.2) s9 = some (r, D', nc, ns) → ((0 + 1) + c_4) ≤ nc ∧ ((0 + 4) + k_4) ≤ ns := by
      clear hf
      refine ww_ind _ (r, D', nc, ns) ?_
      intro s9 z_1 hf hz_1
      obtain ⟨D_5, x3⟩ := s9
      replace hf : f8_copied_b1c ((0 + 1) + c_4) ((0 + 4) + k_4) a0 D.2.2 D_5 x3 = some z_1 := hf
      unfold f8_copied_b1c at hf
      show ((0 + 1) + c_4) ≤ nc ∧ ((0 + 4) + k_4) ≤ ns
      obtain ⟨r_6, h_6, hq⟩ := ww_bS hf; replace hf := hq; clear hq
      refine ww_by (r_6 ≤ x3) (fun c_7 => ?_) (fun c_7 => ?_)
      · replace hf := ww_ip hf c_7
        replace hf := ww_xK hf hz_1
        obtain ⟨r_8, h_8, hq⟩ := ww_bS hf; replace hf := hq; clear hq
        obtain ⟨D_9, h_9, hq⟩ := ww_bS hf; replace hf := hq; clear hq
        have e9 := hf
        simp only [Option.some.injEq, Prod.mk.injEq] at e9
        omega
      · replace hf := ww_in hf c_7
        obtain ⟨r_10, h_10, hq⟩ := ww_bS hf; replace hf := hq; clear hq
        obtain ⟨r_11, h_11, hq⟩ := ww_bS hf; replace hf := hq; clear hq
        obtain ⟨a_13, e_13, hq⟩ := ww_bS hf; replace hf := hq; clear hq
        subst e_13
        obtain ⟨r_12, h_12, hq⟩ := ww_bS hf; replace hf := hq; clear hq
        obtain ⟨a_14, e_14, hq⟩ := ww_bS hf; replace hf := hq; clear hq
        subst e_14
        obtain ⟨D_15, h_15, hq⟩ := ww_bS hf; replace hf := hq; clear hq
        have e9 := ww_lK hf hz_1
        try dsimp only at e9
        omega
    have e9 := hL_1 (D_4, (0 : Int32)) hf
    try dsimp only at e9
    omega
  refine cw_onew (ci := 2) (C := RX8) (T := TX8) (N := 4) rfl (by decide) in_X8 tyX8 tyX8_ok rfl X hK hR hS q1012 q1013 q155 (Nat.le_trans hm9.1 hC.1) (Nat.le_trans hm9.2 hC.2) dX8_copied_0 (fun H hR hS => ?_)
  refine lv_dup hx hb dX8_copied_3 rfl ?_
  refine cw_aload_n (x := x1) hx hb dX8_copied_4 rfl (lv_at hl 1 rfl) ?_
  refine lv_aload_n hx hb dX8_copied_5 rfl (lv_at hl 0 rfl) ?_
  obtain ⟨r_1, h_1, hq⟩ := ww_bS hf; replace hf := hq; clear hq
  refine c8g_9 X hK hR h_1 dX8_copied_6 ?_
  obtain ⟨a_2, e_2, hq⟩ := ww_bS hf; replace hf := hq; clear hq
  subst e_2
  obtain ⟨r_3, h_3, hq⟩ := ww_bS hf; replace hf := hq; clear hq
  refine cw_oln (x := some a_2) X hK hR rfl h_3 dX8_copied_9 ?_
  refine lv_iconst (v := (1 : Int32)) hx hb dX8_copied_10 (by decide) ?_
  refine lv_isub hx hb dX8_copied_11 ?_
  obtain ⟨D_4, c_4, k_4, h_4, hq⟩ := ww_b3S hf; replace hf := hq; clear hq
  have hm9 : ((0 + 1) + c_4) ≤ nc ∧ ((0 + 4) + k_4) ≤ ns := by
    have hL_1 : ∀ s9 : cw_D × Int32, ww_U (f8_copied_b1 ((0 + 1) + c_4) ((0 + 4) + k_4) a0 D.2.2) s9 = some (r, D', nc, ns) → ((0 + 1) + c_4) ≤ nc ∧ ((0 + 4) + k_4) ≤ ns := by
      clear hf
      refine ww_ind _ (r, D', nc, ns) ?_
      intro s9 z_1 hf hz_1
      obtain ⟨D_5, x3⟩ := s9
      replace hf : f8_copied_b1c ((0 + 1) + c_4) ((0 + 4) + k_4) a0 D.2.2 D_5 x3 = some z_1 := hf
      unfold f8_copied_b1c at hf
      show ((0 + 1) + c_4) ≤ nc ∧ ((0 + 4) + k_4) ≤ ns
      obtain ⟨r_6, h_6, hq⟩ := ww_bS hf; replace hf := hq; clear hq
      refine ww_by (r_6 ≤ x3) (fun c_7 => ?_) (fun c_7 => ?_)
      · replace hf := ww_ip hf c_7
        replace hf := ww_xK hf hz_1
        obtain ⟨r_8, h_8, hq⟩ := ww_bS hf; replace hf := hq; clear hq
        obtain ⟨D_9, h_9, hq⟩ := ww_bS hf; replace hf := hq; clear hq
        have e9 := hf
        simp only [Option.some.injEq, Prod.mk.injEq] at e9
        omega
      · replace hf := ww_in hf c_7
        obtain ⟨r_10, h_10, hq⟩ := ww_bS hf; replace hf := hq; clear hq
        obtain ⟨r_11, h_11, hq⟩ := ww_bS hf; replace hf := hq; clear hq
        obtain ⟨a_13, e_13, hq⟩ := ww_bS hf; replace hf := hq; clear hq
        subst e_13
        obtain ⟨r_12, h_12, hq⟩ := ww_bS hf; replace hf := hq; clear hq
        obtain ⟨a_14, e_14, hq⟩ := ww_bS hf; replace hf := hq; clear hq
        subst e_14
        obtain ⟨D_15, h_15, hq⟩ := ww_bS hf; replace hf := hq; clear hq
        have e9 := ww_lK hf hz_1
        try dsimp only at e9
        omega
    have e9 := hL_1 (D_4, (0 : Int32)) hf
    try dsimp only at e9
    omega
  refine c8c_8_init (x1 := x1) X hl.1 hK hR hS (Nat.le_trans (Nat.le_of_ble_eq_true rfl) hF) (Nat.le_trans (Nat.le_of_ble_eq_true rfl) hLo) (Nat.le_trans hm9.1 hC.1) (Nat.le_trans hm9.2 hC.2) h_4 (cw_rest (Nat.le_of_ble_eq_true rfl)) dX8_copied_12 (fun H locs hR hS => ?_)
  refine lv_astore_n (lv' := [(2, .ref D.2.2), (0, .ref a0), (1, va_rf x1)]) hx hb dX8_copied_15 rfl hl (by decide) (by cases x1 <;> rfl) (fun ls hl => ?_)
  refine lv_iconst (v := (0 : Int32)) hx hb dX8_copied_16 (by decide) ?_
  refine lv_istore_n (lv' := [(3, .int (0 : Int32)), (2, .ref D.2.2), (0, .ref a0), (1, va_rf x1)]) hx hb dX8_copied_17 rfl hl (by decide) rfl (fun ls hl => ?_)
  have hL_1 : ∀ s9 : cw_D × Int32, ww_U (f8_copied_b1 ((0 + 1) + c_4) ((0 + 4) + k_4) a0 D.2.2) s9 = some (r, D', nc, ns) → (((0 + 1) + c_4) ≤ nc ∧ ((0 + 4) + k_4) ≤ ns) ∧ (∀ (H : Heap) (locs : List Loc) (ls : Array Slot), cw_H E A s9.1 H → va_S A s.heap H locs → lv_has ls 4 [(0, .ref a0), (2, .ref D.2.2), (3, .int s9.2)] → W p l e Rm s m args below meth c H locs ((0 + 1) + c_4) ((0 + 4) + k_4) Q (F0 m 18 ls [])) := by
    clear hf
    refine ww_ind _ (r, D', nc, ns) ?_
    intro s9 z_1 hf hz_1
    obtain ⟨D_5, x3⟩ := s9
    replace hf : f8_copied_b1c ((0 + 1) + c_4) ((0 + 4) + k_4) a0 D.2.2 D_5 x3 = some z_1 := hf
    unfold f8_copied_b1c at hf
    have hm9 : ((0 + 1) + c_4) ≤ nc ∧ ((0 + 4) + k_4) ≤ ns := by
      show ((0 + 1) + c_4) ≤ nc ∧ ((0 + 4) + k_4) ≤ ns
      obtain ⟨r_6, h_6, hq⟩ := ww_bS hf; replace hf := hq; clear hq
      refine ww_by (r_6 ≤ x3) (fun c_7 => ?_) (fun c_7 => ?_)
      · replace hf := ww_ip hf c_7
        replace hf := ww_xK hf hz_1
        obtain ⟨r_8, h_8, hq⟩ := ww_bS hf; replace hf := hq; clear hq
        obtain ⟨D_9, h_9, hq⟩ := ww_bS hf; replace hf := hq; clear hq
        have e9 := hf
        simp only [Option.some.injEq, Prod.mk.injEq] at e9
        omega
      · replace hf := ww_in hf c_7
        obtain ⟨r_10, h_10, hq⟩ := ww_bS hf; replace hf := hq; clear hq
        obtain ⟨r_11, h_11, hq⟩ := ww_bS hf; replace hf := hq; clear hq
        obtain ⟨a_13, e_13, hq⟩ := ww_bS hf; replace hf := hq; clear hq
        subst e_13
        obtain ⟨r_12, h_12, hq⟩ := ww_bS hf; replace hf := hq; clear hq
        obtain ⟨a_14, e_14, hq⟩ := ww_bS hf; replace hf := hq; clear hq
        subst e_14
        obtain ⟨D_15, h_15, hq⟩ := ww_bS hf; replace hf := hq; clear hq
        have e9 := (ww_lK hf hz_1).1
        try dsimp only at e9
        omega
    refine ⟨hm9, ?_⟩
    try clear hl
    try clear hS
    try clear hR
    intro H locs ls hR hS hl
    replace hR : cw_H E A D_5 H := hR
    replace hl : lv_has ls 4 [(0, .ref a0), (2, .ref D.2.2), (3, .int x3)] := hl
    refine lv_iload_n hx hb dX8_copied_18 rfl (lv_at hl 2 rfl) ?_
    refine lv_aload_n hx hb dX8_copied_19 rfl (lv_at hl 0 rfl) ?_
    obtain ⟨r_6, h_6, hq⟩ := ww_bS hf; replace hf := hq; clear hq
    refine c8g_22 X hK hR h_6 dX8_copied_20 ?_
    refine lv_icmp_ge (tgt := 44) hx hb dX8_copied_23 (by decide) (fun c_7 => ?_) (fun c_7 => ?_)
    · replace hf := ww_ip hf c_7
      replace hf := ww_xK hf hz_1
      refine lv_aload_n hx hb dX8_copied_44 rfl (lv_at hl 1 rfl) ?_
      refine lv_aload_n hx hb dX8_copied_45 rfl (lv_at hl 0 rfl) ?_
      obtain ⟨r_8, h_8, hq⟩ := ww_bS hf; replace hf := hq; clear hq
      refine c8g_22 X hK hR h_8 dX8_copied_46 ?_
      obtain ⟨D_9, h_9, hq⟩ := ww_bS hf; replace hf := hq; clear hq
      refine c8p_22 X hK hR hS h_9 dX8_copied_49 (fun H locs hR hS => ?_)
      refine lv_aload_n hx hb dX8_copied_52 rfl (lv_at hl 1 rfl) ?_
      exact hend (v := (some D.2.2)) dX8_copied_53 rfl (Or.inl ⟨_, rfl⟩) hf hR hS
    · replace hf := ww_in hf c_7
      refine lv_aload_n hx hb dX8_copied_26 rfl (lv_at hl 1 rfl) ?_
      obtain ⟨r_10, h_10, hq⟩ := ww_bS hf; replace hf := hq; clear hq
      refine c8g_9 X hK hR h_10 dX8_copied_27 ?_
      refine lv_iload_n hx hb dX8_copied_30 rfl (lv_at hl 2 rfl) ?_
      refine lv_aload_n hx hb dX8_copied_31 rfl (lv_at hl 0 rfl) ?_
      obtain ⟨r_11, h_11, hq⟩ := ww_bS hf; replace hf := hq; clear hq
      refine c8g_9 X hK hR h_11 dX8_copied_32 ?_
      refine lv_iload_n hx hb dX8_copied_35 rfl (lv_at hl 2 rfl) ?_
      obtain ⟨a_13, e_13, hq⟩ := ww_bS hf; replace hf := hq; clear hq
      subst e_13
      obtain ⟨r_12, h_12, hq⟩ := ww_bS hf; replace hf := hq; clear hq
      refine cw_oxR (x := some a_13) X hK hR rfl h_12 dX8_copied_36 ?_
      obtain ⟨a_14, e_14, hq⟩ := ww_bS hf; replace hf := hq; clear hq
      subst e_14
      obtain ⟨D_15, h_15, hq⟩ := ww_bS hf; replace hf := hq; clear hq
      refine cw_otR (x' := some a_14) (v := r_12) X hK hR hS rfl h_15 dX8_copied_37 (fun H locs hR hS => ?_)
      refine lv_iinc (k := 2) (v := x3 + (1 : Int32)) (lv' := [(3, .int (x3 + (1 : Int32))), (0, .ref a0), (2, .ref D.2.2)]) hx hb dX8_copied_38 hl rfl rfl (by decide) rfl (fun ls hl => ?_)
      refine lv_goto (tgt := 18) hx hb dX8_copied_41 (by decide) ?_
      exact (ww_lK hf hz_1).2 _ _ _ hR hS (lv_sub hl [1, 2, 0] rfl)
  exact (hL_1 (D_4, (0 : Int32)) hf).2 _ _ _ hR hS (lv_sub hl [2, 1, 0] rfl)
noncomputable def f5r_copied (r8 : cw_D → Nat → Option Nat → Option (Option Nat × cw_D × Nat × Nat)) : cw_D → Nat → Option Nat → Option (Option Nat × cw_D × Nat × Nat) := fun D a x1 =>
  if cw_kd D [1] (some a) = true then f7_copied D a x1 else if cw_kd D [2] (some a) = true then r8 D a x1 else none
section C_8_copied_i
variable {p : Program} {l : Launch} {e : Env} {R : Room} {s : State} {m : MethodId} {args : Array Value} {below : List Frame} {meth : Method} {c : Code} {H : Heap} {locs : List Loc} {cells slots : Nat} {Q : State → Prop}
variable {cc : ByteArray} {pc : Nat} {ls : Array Slot} {rest : List Value} {nL : Nat} {E : cw_E} {A : Nat → Prop} {H0 : Heap}
theorem c5i_copied {D : cw_D} {a0 : Nat} {x1 : Option Nat} {r : Option Nat} {D' : cw_D} {nc ns : Nat} (X : ww_C p m c cc nL s args RX5 lw_all) (hsz : ls.size = nL) (hK : cw_K E A s) (hR : cw_H E A D H) (hS : va_S A s.heap H locs) (hF : 4 ≤ R.frames) (hLo : 106 ≤ R.locals) (hc : cells + nc ≤ R.cells) (hs : slots + ns ≤ R.slots) (hf : f5r_copied f8_copied D a0 x1 = some (r, D', nc, ns)) (hrest : (rest.map fun v => v.category).sum ≤ 8) {count : Nat} (hdg : decode cc pc = .ok (.invokeinterface 34 count, 5)) (kk : ∀ (H1 : Heap) (locs1 : List Loc), cw_H E A D' H1 → va_S A s.heap H1 locs1 → W p l e R s m args below meth c H1 locs1 (cells + nc) (slots + ns) Q (F0 m (pc + 5) ls (va_rf r :: rest))) : W p l e R s m args below meth c H locs cells slots Q (F0 m pc ls (va_rf x1 :: .ref a0 :: rest)) := by
  unfold f5r_copied at hf
  by_cases hkd : cw_kd D [1] (some a0) = true
  · rw [if_pos hkd] at hf
    exact va_callFq (va_runF (C := RX7) (x := ⟨"WideMap$Node", "copied", "(LWideMap$Token;)LWideMap$Node;"⟩) (As := [va_rf x1]) (rest := rest) (b := a0) (cw_cls (k := 1) (C := RX7) (T := TX7) (N := 5) rfl hK) X (met7_copied l _ _ _ _ _ _ _ hf) (va_cwF 1 X.2.2.2.2 (cw_F q1004 q1027 q1029 q154 q1031) rfl rfl rfl (hK.2.2.2.1 ("WideMap$Leaf", ⟨"WideMap$Node", "copied", "(LWideMap$Token;)LWideMap$Node;"⟩, ⟨"WideMap$Leaf", "copied", "(LWideMap$Token;)LWideMap$Node;"⟩) (by decide +kernel)) (by decide +kernel) ⟨(show 4 ≤ R.frames by omega), (show 106 ≤ R.locals by omega)⟩) (cw_pV hK hR hS (cw_rc (k := 1) (C := RX7) (T := TX7) (N := 5) rfl (by decide) hK hR hkd)) rfl rfl hsz rfl (lv_room hrest) hdg ⟨hc, hs⟩) hS (fun q _ h => h) (fun q h => h) (fun r' u t H1 locs1 ht hvm hw hB hz1 hk1 hS1 => by subst hw; rw [ht] at hB; exact kk H1 locs1 hB hS1)
  · rw [if_neg hkd] at hf
    by_cases hkd : cw_kd D [2] (some a0) = true
    · rw [if_pos hkd] at hf
      exact va_callFq (va_runF (C := RX8) (x := ⟨"WideMap$Node", "copied", "(LWideMap$Token;)LWideMap$Node;"⟩) (As := [va_rf x1]) (rest := rest) (b := a0) (cw_cls (k := 2) (C := RX8) (T := TX8) (N := 4) rfl hK) X (met8_copied l _ _ _ _ _ _ _ hf) (va_cwF 1 X.2.2.2.2 (cw_F q1004 q1007 q1009 q155 q1011) rfl rfl rfl (hK.2.2.2.1 ("WideMap$Inner", ⟨"WideMap$Node", "copied", "(LWideMap$Token;)LWideMap$Node;"⟩, ⟨"WideMap$Inner", "copied", "(LWideMap$Token;)LWideMap$Node;"⟩) (by decide +kernel)) (by decide +kernel) ⟨(show 4 ≤ R.frames by omega), (show 106 ≤ R.locals by omega)⟩) (cw_pV hK hR hS (cw_rc (k := 2) (C := RX8) (T := TX8) (N := 4) rfl (by decide) hK hR hkd)) rfl rfl hsz rfl (lv_room hrest) hdg ⟨hc, hs⟩) hS (fun q _ h => h) (fun q h => h) (fun r' u t H1 locs1 ht hvm hw hB hz1 hk1 hS1 => by subst hw; rw [ht] at hB; exact kk H1 locs1 hB hS1)
    · rw [if_neg hkd] at hf
      cases hf
end C_8_copied_i
noncomputable def f5_kidFor_b1c (D : cw_D) (y0 : Nat) (y1 : Int32) (x2 : Int32) : Option ((Int32) ⊕ (Int32)) :=
  if x2 ≤ 0 then ww_x (some x2) else ww_b (f5r_kid f8_kid D y0 x2) (fun r_4 => ww_b r_4 (fun a_5 => ww_b (f5r_low (f8_low 8) D a_5) (fun r_6 => if r_6 ≤ y1 then ww_x (some x2) else some (.inl (x2 + (-1 : Int32))))))
noncomputable def f5_kidFor_b1 (D : cw_D) (y0 : Nat) (y1 : Int32) : Int32 → Option ((Int32) ⊕ (Int32)) := fun s9 => f5_kidFor_b1c D y0 y1 s9
noncomputable def f5_kidFor (D : cw_D) (a0 : Nat) (x1 : Int32) : Option (Int32) :=
  ww_g (cw_kd D [1, 2] (some a0)) (ww_b (f6_many D a0) (fun r_2 => ww_U (f5_kidFor_b1 D a0 x1) (r_2 - (1 : Int32))))
set_option maxHeartbeats 4000000 in
set_option maxRecDepth 100000 in
theorem met5_kidFor (l : Launch) {E : cw_E} {A : Nat → Prop} (D : cw_D) (a0 : Nat) (x1 : Int32) (r : Int32) (hf : f5_kidFor D a0 x1 = some r) : cw_MetI l yX5_kidFor cX5_kidFor 3 (some Jvm.ClassFile.FieldType.int) 10 200 E A [.ref a0, .int x1] D D r 0 0 := by
  unfold f5_kidFor at hf
  refine cw_sIP (own := RX5) (by decide +kernel) [(0, .ref a0), (1, .int x1)] ⟨Nat.le_of_ble_eq_true rfl, rfl⟩ ?_
  intro p e s m args below meth c Rm Q X hK hF hLo hin hend ls hl hR hS
  obtain ⟨hx, hb, hml, hown, hts⟩ := id X
  refine lv_aload_n hx hb dX5_kidFor_0 rfl (lv_at hl 0 rfl) ?_
  obtain ⟨h_1, hq⟩ := ww_gS hf; replace hf := hq; clear hq
  obtain ⟨r_2, h_2, hq⟩ := ww_bS hf; replace hf := hq; clear hq
  refine c5i_many X hl.1 hK hR hS (Nat.le_trans (Nat.le_of_ble_eq_true rfl) hF) (Nat.le_trans (Nat.le_of_ble_eq_true rfl) hLo) (Nat.zero_le _) (Nat.zero_le _) h_1 h_2 (cw_rest (Nat.le_of_ble_eq_true rfl)) dX5_kidFor_1 (fun H locs hR hS => ?_)
  refine lv_iconst (v := (1 : Int32)) hx hb dX5_kidFor_6 (by decide) ?_
  refine lv_isub hx hb dX5_kidFor_7 ?_
  refine lv_istore_n (lv' := [(2, .int (r_2 - (1 : Int32))), (0, .ref a0), (1, .int x1)]) hx hb dX5_kidFor_8 rfl hl (by decide) rfl (fun ls hl => ?_)
  have hL_1 : ∀ s9 : Int32, ww_U (f5_kidFor_b1 D a0 x1) s9 = some r → ∀ (H : Heap) (locs : List Loc) (ls : Array Slot), cw_H E A D H → va_S A s.heap H locs → lv_has ls 3 [(0, .ref a0), (1, .int x1), (2, .int s9)] → W p l e Rm s m args below meth c H locs 0 0 Q (F0 m 9 ls []) := by
    clear hf
    refine ww_ind _ r ?_
    intro s9 z_1 hf hz_1
    obtain ⟨x2, e9⟩ : ∃ q9, q9 = s9 := ⟨_, rfl⟩; subst e9
    replace hf : f5_kidFor_b1c D a0 x1 x2 = some z_1 := hf
    unfold f5_kidFor_b1c at hf
    try clear hl
    try clear hS
    try clear hR
    intro H locs ls hR hS hl
    replace hl : lv_has ls 3 [(0, .ref a0), (1, .int x1), (2, .int x2)] := hl
    refine lv_iload_n hx hb dX5_kidFor_9 rfl (lv_at hl 2 rfl) ?_
    refine lv_if_le (tgt := 35) hx hb dX5_kidFor_10 (by decide) (fun c_3 => ?_) (fun c_3 => ?_)
    · replace hf := ww_ip hf c_3
      replace hf := ww_xK hf hz_1
      refine lv_iload_n hx hb dX5_kidFor_35 rfl (lv_at hl 2 rfl) ?_
      exact hend dX5_kidFor_36 rfl rfl hf hR hS
    · replace hf := ww_in hf c_3
      refine lv_aload_n hx hb dX5_kidFor_13 rfl (lv_at hl 0 rfl) ?_
      refine lv_iload_n hx hb dX5_kidFor_14 rfl (lv_at hl 2 rfl) ?_
      obtain ⟨r_4, h_4, hq⟩ := ww_bS hf; replace hf := hq; clear hq
      refine c5i_kid X hl.1 hK hR hS (Nat.le_trans (Nat.le_of_ble_eq_true rfl) hF) (Nat.le_trans (Nat.le_of_ble_eq_true rfl) hLo) (Nat.zero_le _) (Nat.zero_le _) h_4 (cw_rest (Nat.le_of_ble_eq_true rfl)) dX5_kidFor_15 (fun H locs hR hS => ?_)
      obtain ⟨a_5, e_5, hq⟩ := ww_bS hf; replace hf := hq; clear hq
      subst e_5
      obtain ⟨r_6, h_6, hq⟩ := ww_bS hf; replace hf := hq; clear hq
      refine c5i_low X hl.1 hK hR hS (Nat.le_trans (Nat.le_of_ble_eq_true rfl) hF) (Nat.le_trans (Nat.le_of_ble_eq_true rfl) hLo) (Nat.zero_le _) (Nat.zero_le _) h_6 (cw_rest (Nat.le_of_ble_eq_true rfl)) dX5_kidFor_20 (fun H locs hR hS => ?_)
      refine lv_iload_n hx hb dX5_kidFor_25 rfl (lv_at hl 1 rfl) ?_
      refine lv_icmp_le (tgt := 35) hx hb dX5_kidFor_26 (by decide) (fun c_7 => ?_) (fun c_7 => ?_)
      · replace hf := ww_ip hf c_7
        replace hf := ww_xK hf hz_1
        refine lv_iload_n hx hb dX5_kidFor_35 rfl (lv_at hl 2 rfl) ?_
        exact hend dX5_kidFor_36 rfl rfl hf hR hS
      · replace hf := ww_in hf c_7
        refine lv_iinc (k := 2) (v := x2 + (-1 : Int32)) (lv' := [(2, .int (x2 + (-1 : Int32))), (0, .ref a0), (1, .int x1)]) hx hb dX5_kidFor_29 hl rfl rfl (by decide) rfl (fun ls hl => ?_)
        refine lv_goto (tgt := 9) hx hb dX5_kidFor_32 (by decide) ?_
        exact ww_lK hf hz_1 _ _ _ hR hS (lv_sub hl [1, 2, 0] rfl)
  exact hL_1 (r_2 - (1 : Int32)) hf _ _ _ hR hS (lv_sub hl [1, 2, 0] rfl)
section C_5_kidFor_i
variable {p : Program} {l : Launch} {e : Env} {R : Room} {s : State} {m : MethodId} {args : Array Value} {below : List Frame} {meth : Method} {c : Code} {H : Heap} {locs : List Loc} {cells slots : Nat} {Q : State → Prop}
variable {cc : ByteArray} {pc : Nat} {ls : Array Slot} {rest : List Value} {nL : Nat} {E : cw_E} {A : Nat → Prop} {H0 : Heap}
theorem c1i_kidFor {D : cw_D} {a0 : Nat} {x1 : Int32} {r : Int32} (X : ww_C p m c cc nL s args RX1 lw_all) (hsz : ls.size = nL) (hK : cw_K E A s) (hR : cw_H E A D H) (hS : va_S A s.heap H locs) (hF : 11 ≤ R.frames) (hLo : 222 ≤ R.locals) (hc : cells ≤ R.cells) (hs : slots ≤ R.slots) (hkd2 : cw_kd D [1, 2] (some a0) = true) (hf : f5_kidFor D a0 x1 = some r) (hrest : (rest.map fun v => v.category).sum ≤ 8) {count : Nat} (hdg : decode cc pc = .ok (.invokeinterface 270 count, 5)) (kk : ∀ (H1 : Heap) (locs1 : List Loc), cw_H E A D H1 → va_S A s.heap H1 locs1 → W p l e R s m args below meth c H1 locs1 cells slots Q (F0 m (pc + 5) ls (.int r :: rest))) : W p l e R s m args below meth c H locs cells slots Q (F0 m pc ls (.int x1 :: .ref a0 :: rest)) := by
  rcases cw_kd2 hkd2 with hkd | hkd
  · exact va_callFi (cw_runFD (n := 1) (C := RX7) (x := ⟨"WideMap$Node", "kidFor", "(I)I"⟩) (As := [.int x1]) (rest := rest) (a := a0) (cw_cls (k := 1) (C := RX7) (T := TX7) (N := 5) rfl hK) X (met5_kidFor l _ _ _ _ hf) q894 (hK.2.2.2.2.1 ("WideMap$Leaf", ⟨"WideMap$Node", "kidFor", "(I)I"⟩, ⟨"WideMap$Node", "kidFor", "(I)I"⟩) (by decide +kernel)) q898 q152 (lw_meth q900) rfl rfl rfl ⟨hF, hLo⟩ (by decide +kernel) (cw_pV hK hR hS (cw_rc (k := 1) (C := RX7) (T := TX7) (N := 5) rfl (by decide) hK hR hkd)) rfl rfl hsz rfl (lv_room hrest) hdg ⟨hc, hs⟩) hS (fun q _ h => h) (fun q h => h) (fun r' u t H1 locs1 ht hvm hw hB hz1 hk1 hS1 => by subst hw; rw [ht] at hB; exact kk H1 locs1 hB hS1)
  · exact va_callFi (cw_runFD (n := 1) (C := RX8) (x := ⟨"WideMap$Node", "kidFor", "(I)I"⟩) (As := [.int x1]) (rest := rest) (a := a0) (cw_cls (k := 2) (C := RX8) (T := TX8) (N := 4) rfl hK) X (met5_kidFor l _ _ _ _ hf) q894 (hK.2.2.2.2.1 ("WideMap$Inner", ⟨"WideMap$Node", "kidFor", "(I)I"⟩, ⟨"WideMap$Node", "kidFor", "(I)I"⟩) (by decide +kernel)) q898 q152 (lw_meth q900) rfl rfl rfl ⟨hF, hLo⟩ (by decide +kernel) (cw_pV hK hR hS (cw_rc (k := 2) (C := RX8) (T := TX8) (N := 4) rfl (by decide) hK hR hkd)) rfl rfl hsz rfl (lv_room hrest) hdg ⟨hc, hs⟩) hS (fun q _ h => h) (fun q h => h) (fun r' u t H1 locs1 ht hvm hw hB hz1 hk1 hS1 => by subst hw; rw [ht] at hB; exact kk H1 locs1 hB hS1)
end C_5_kidFor_i
section C_5_kidFor_u
variable {p : Program} {l : Launch} {e : Env} {R : Room} {s : State} {m : MethodId} {args : Array Value} {below : List Frame} {meth : Method} {c : Code} {H : Heap} {locs : List Loc} {cells slots : Nat} {Q : State → Prop}
variable {cc : ByteArray} {pc : Nat} {ls : Array Slot} {rest : List Value} {nL : Nat} {E : cw_E} {A : Nat → Prop} {H0 : Heap}
theorem c8c_5_kidFor {D : cw_D} {a0 : Nat} {x1 r : Int32} (X : ww_C p m c cc nL s args RX8 lw_all) (hsz : ls.size = nL) (hK : cw_K E A s) (hR : cw_H E A D H) (hS : va_S A s.heap H locs) (hF : 11 ≤ R.frames) (hLo : 222 ≤ R.locals) (hc : cells ≤ R.cells) (hs : slots ≤ R.slots) (hkd : cw_kd D [2] (some a0) = true) (hf : f5_kidFor D a0 x1 = some r) (hrest : (rest.map fun v => v.category).sum ≤ 8) (hdg : decode cc pc = .ok (.invokevirtual 26, 3)) (kk : ∀ (H1 : Heap) (locs1 : List Loc), cw_H E A D H1 → va_S A s.heap H1 locs1 → W p l e R s m args below meth c H1 locs1 cells slots Q (F0 m (pc + 3) ls (.int r :: rest))) : W p l e R s m args below meth c H locs cells slots Q (F0 m pc ls (.int x1 :: .ref a0 :: rest)) := by
  have hd := (hK.2.2.2.2.1 ("WideMap$Inner", ⟨"WideMap$Node", "kidFor", "(I)I"⟩, ⟨"WideMap$Node", "kidFor", "(I)I"⟩) (by decide +kernel)).1
  exact va_calli (cw_runUD (n := 1) (C := RX8) (x := ⟨"WideMap$Inner", "kidFor", "(I)I"⟩) (owner := "WideMap$Node") (As := [.int x1]) (rest := rest) (a := a0) (cw_cls (k := 2) (C := RX8) (T := TX8) (N := 4) rfl hK) X (met5_kidFor l _ _ _ _ hf) (va_any rfl hK.2.2.2.2.2.2.1.2.2.1) (va_any rfl hK.2.2.2.2.2.2.1.2.2.2.1) (va_any rfl hd) (by decide +kernel) (show (Cond.landsInDefault "WideMap$Inner" ⟨"WideMap$Inner", "kidFor", "(I)I"⟩ ⟨"WideMap$Node", "kidFor", "(I)I"⟩).before args s = true from hK.2.2.2.2.2.2.1.2.2.2.2) q898 q152 (lw_meth q900) rfl rfl rfl ⟨hF, hLo⟩ (by decide +kernel) (cw_pV hK hR hS (cw_rc (k := 2) (C := RX8) (T := TX8) (N := 4) rfl (by decide) hK hR hkd)) rfl rfl hsz rfl (lv_room hrest) hdg ⟨hc, hs⟩) hS (fun q _ h => h) (fun q h => h) (fun r' u t H1 locs1 ht hvm hw hB hz1 hk1 hS1 => by subst hw; rw [ht] at hB; exact kk H1 locs1 hB hS1)
end C_5_kidFor_u
noncomputable def f5_isOf (D : cw_D) (a0 : Nat) (x1 : Option Nat) : Option (Int32) :=
  ww_g (cw_kd D [1, 2] (some a0)) (ww_b (f6_token D a0) (fun r_2 => if r_2 = x1 then some (1 : Int32) else some (0 : Int32)))
set_option maxHeartbeats 4000000 in
set_option maxRecDepth 100000 in
theorem met5_isOf (l : Launch) {E : cw_E} {A : Nat → Prop} (D : cw_D) (a0 : Nat) (x1 : Option Nat) (r : Int32) (hf : f5_isOf D a0 x1 = some r) : cw_MetI l yX5_isOf cX5_isOf 2 (some Jvm.ClassFile.FieldType.boolean) 1 20 E A [.ref a0, va_rf x1] D D r 0 0 := by
  unfold f5_isOf at hf
  refine cw_sIP (own := RX5) (by decide +kernel) [(0, .ref a0), (1, va_rf x1)] ⟨by cases x1 <;> exact Nat.le_of_ble_eq_true rfl, by cases x1 <;> rfl⟩ ?_
  intro p e s m args below meth c Rm Q X hK hF hLo hin hend ls hl hR hS
  obtain ⟨hx, hb, hml, hown, hts⟩ := id X
  refine lv_aload_n hx hb dX5_isOf_0 rfl (lv_at hl 0 rfl) ?_
  obtain ⟨h_1, hq⟩ := ww_gS hf; replace hf := hq; clear hq
  obtain ⟨r_2, h_2, hq⟩ := ww_bS hf; replace hf := hq; clear hq
  refine c5i_token X hl.1 hK hR hS (Nat.le_trans (Nat.le_of_ble_eq_true rfl) hF) (Nat.le_trans (Nat.le_of_ble_eq_true rfl) hLo) (Nat.zero_le _) (Nat.zero_le _) h_1 h_2 (cw_rest (Nat.le_of_ble_eq_true rfl)) dX5_isOf_1 (fun H locs hR hS => ?_)
  refine cw_aload_n (x := x1) hx hb dX5_isOf_6 rfl (lv_at hl 1 rfl) ?_
  refine lv_acmp_ne (rx := r_2) (ry := x1) (tgt := 14) hx hb dX5_isOf_7 (by decide) (fun c_3 => ?_) (fun c_3 => ?_)
  · replace hf := ww_in hf c_3
    refine lv_iconst (v := (0 : Int32)) hx hb dX5_isOf_14 (by decide) ?_
    exact hend dX5_isOf_15 rfl (by decide) hf hR hS
  · replace hf := ww_ip hf c_3
    refine lv_iconst (v := (1 : Int32)) hx hb dX5_isOf_10 (by decide) ?_
    refine lv_goto (tgt := 15) hx hb dX5_isOf_11 (by decide) ?_
    exact hend dX5_isOf_15 rfl (by decide) hf hR hS
section C_5_isOf_i
variable {p : Program} {l : Launch} {e : Env} {R : Room} {s : State} {m : MethodId} {args : Array Value} {below : List Frame} {meth : Method} {c : Code} {H : Heap} {locs : List Loc} {cells slots : Nat} {Q : State → Prop}
variable {cc : ByteArray} {pc : Nat} {ls : Array Slot} {rest : List Value} {nL : Nat} {E : cw_E} {A : Nat → Prop} {H0 : Heap}
theorem c5i_isOf {D : cw_D} {a0 : Nat} {x1 : Option Nat} {r : Int32} (X : ww_C p m c cc nL s args RX5 lw_all) (hsz : ls.size = nL) (hK : cw_K E A s) (hR : cw_H E A D H) (hS : va_S A s.heap H locs) (hF : 2 ≤ R.frames) (hLo : 41 ≤ R.locals) (hc : cells ≤ R.cells) (hs : slots ≤ R.slots) (hkd2 : cw_kd D [1, 2] (some a0) = true) (hf : f5_isOf D a0 x1 = some r) (hrest : (rest.map fun v => v.category).sum ≤ 8) {count : Nat} (hdg : decode cc pc = .ok (.invokeinterface 30 count, 5)) (kk : ∀ (H1 : Heap) (locs1 : List Loc), cw_H E A D H1 → va_S A s.heap H1 locs1 → W p l e R s m args below meth c H1 locs1 cells slots Q (F0 m (pc + 5) ls (.int r :: rest))) : W p l e R s m args below meth c H locs cells slots Q (F0 m pc ls (va_rf x1 :: .ref a0 :: rest)) := by
  rcases cw_kd2 hkd2 with hkd | hkd
  · exact va_callFi (cw_runFD (n := 1) (C := RX7) (x := ⟨"WideMap$Node", "isOf", "(LWideMap$Token;)Z"⟩) (As := [va_rf x1]) (rest := rest) (a := a0) (cw_cls (k := 1) (C := RX7) (T := TX7) (N := 5) rfl hK) X (met5_isOf l _ _ _ _ hf) q984 (hK.2.2.2.2.1 ("WideMap$Leaf", ⟨"WideMap$Node", "isOf", "(LWideMap$Token;)Z"⟩, ⟨"WideMap$Node", "isOf", "(LWideMap$Token;)Z"⟩) (by decide +kernel)) q988 q152 (lw_meth q990) rfl rfl rfl ⟨hF, hLo⟩ (by decide +kernel) (cw_pV hK hR hS (cw_rc (k := 1) (C := RX7) (T := TX7) (N := 5) rfl (by decide) hK hR hkd)) rfl rfl hsz rfl (lv_room hrest) hdg ⟨hc, hs⟩) hS (fun q _ h => h) (fun q h => h) (fun r' u t H1 locs1 ht hvm hw hB hz1 hk1 hS1 => by subst hw; rw [ht] at hB; exact kk H1 locs1 hB hS1)
  · exact va_callFi (cw_runFD (n := 1) (C := RX8) (x := ⟨"WideMap$Node", "isOf", "(LWideMap$Token;)Z"⟩) (As := [va_rf x1]) (rest := rest) (a := a0) (cw_cls (k := 2) (C := RX8) (T := TX8) (N := 4) rfl hK) X (met5_isOf l _ _ _ _ hf) q984 (hK.2.2.2.2.1 ("WideMap$Inner", ⟨"WideMap$Node", "isOf", "(LWideMap$Token;)Z"⟩, ⟨"WideMap$Node", "isOf", "(LWideMap$Token;)Z"⟩) (by decide +kernel)) q988 q152 (lw_meth q990) rfl rfl rfl ⟨hF, hLo⟩ (by decide +kernel) (cw_pV hK hR hS (cw_rc (k := 2) (C := RX8) (T := TX8) (N := 4) rfl (by decide) hK hR hkd)) rfl rfl hsz rfl (lv_room hrest) hdg ⟨hc, hs⟩) hS (fun q _ h => h) (fun q h => h) (fun r' u t H1 locs1 ht hvm hw hB hz1 hk1 hS1 => by subst hw; rw [ht] at hB; exact kk H1 locs1 hB hS1)
end C_5_isOf_i
noncomputable def f5_edited (D : cw_D) (a0 : Nat) (x1 : Option Nat) : Option (Option Nat × cw_D × Nat × Nat) :=
  ww_g (cw_kd D [1, 2] (some a0)) (ww_b (f5_isOf D a0 x1) (fun r_2 => if r_2 = 0 then ww_b x1 (fun a_4 => ww_g (cw_kd D [0] (some a_4)) (ww_b (f4_makes D a_4) (fun D_6 => ww_b4 (f5r_copied f8_copied D_6 a0 (some a_4)) (fun r_7 D_7 c_7 k_7 => some (r_7, D_7, (0 + c_7), (0 + k_7)))))) else some ((some a0), D, 0, 0)))
set_option maxHeartbeats 4000000 in
set_option maxRecDepth 100000 in
theorem met5_edited (l : Launch) {E : cw_E} {A : Nat → Prop} (D : cw_D) (a0 : Nat) (x1 : Option Nat) (r : Option Nat) (D' : cw_D) (nc ns : Nat) (hf : f5_edited D a0 x1 = some (r, D', nc, ns)) : cw_MetQ l yX5_edited cX5_edited 2 (some (Jvm.ClassFile.FieldType.object "WideMap$Node")) 4 106 E A [.ref a0, va_rf x1] D D' r nc ns := by
  unfold f5_edited at hf
  refine cw_sQN (own := RX5) (by decide +kernel) [(0, .ref a0), (1, va_rf x1)] ⟨by cases x1 <;> exact Nat.le_of_ble_eq_true rfl, by cases x1 <;> rfl⟩ ?_
  intro p e s m args below meth c Rm Q X hK hF hLo hC hin hend ls hl hR hS
  obtain ⟨hx, hb, hml, hown, hts⟩ := id X
  have hm9 : 0 ≤ nc ∧ 0 ≤ ns := ⟨Nat.zero_le _, Nat.zero_le _⟩
  refine lv_aload_n hx hb dX5_edited_0 rfl (lv_at hl 0 rfl) ?_
  refine cw_aload_n (x := x1) hx hb dX5_edited_1 rfl (lv_at hl 1 rfl) ?_
  obtain ⟨h_1, hq⟩ := ww_gS hf; replace hf := hq; clear hq
  obtain ⟨r_2, h_2, hq⟩ := ww_bS hf; replace hf := hq; clear hq
  refine c5i_isOf (x1 := x1) X hl.1 hK hR hS (Nat.le_trans (Nat.le_of_ble_eq_true rfl) hF) (Nat.le_trans (Nat.le_of_ble_eq_true rfl) hLo) (Nat.le_trans hm9.1 hC.1) (Nat.le_trans hm9.2 hC.2) h_1 h_2 (cw_rest (Nat.le_of_ble_eq_true rfl)) dX5_edited_2 (fun H locs hR hS => ?_)
  refine lv_if_eq (tgt := 12) hx hb dX5_edited_7 (by decide) (fun c_3 => ?_) (fun c_3 => ?_)
  · replace hf := ww_ip hf c_3
    refine cw_aload_n (x := x1) hx hb dX5_edited_12 rfl (lv_at hl 1 rfl) ?_
    obtain ⟨a_4, e_4, hq⟩ := ww_bS hf; replace hf := hq; clear hq
    subst e_4
    obtain ⟨h_5, hq⟩ := ww_gS hf; replace hf := hq; clear hq
    obtain ⟨D_6, h_6, hq⟩ := ww_bS hf; replace hf := hq; clear hq
    refine c5c_4_makes X hl.1 hK hR hS (Nat.le_trans (Nat.le_of_ble_eq_true rfl) hF) (Nat.le_trans (Nat.le_of_ble_eq_true rfl) hLo) (Nat.le_trans hm9.1 hC.1) (Nat.le_trans hm9.2 hC.2) h_5 h_6 (cw_rest (Nat.le_of_ble_eq_true rfl)) dX5_edited_13 (fun H locs hR hS => ?_)
    refine lv_aload_n hx hb dX5_edited_16 rfl (lv_at hl 0 rfl) ?_
    refine lv_aload_n hx hb dX5_edited_17 rfl (lv_at hl 1 rfl) ?_
    obtain ⟨r_7, D_7, c_7, k_7, h_7, hq⟩ := ww_b4S hf; replace hf := hq; clear hq
    have hm9 : (0 + c_7) ≤ nc ∧ (0 + k_7) ≤ ns := by
      have e9 := hf
      simp only [Option.some.injEq, Prod.mk.injEq] at e9
      omega
    refine c5i_copied (x1 := (some a_4)) X hl.1 hK hR hS (Nat.le_trans (Nat.le_of_ble_eq_true rfl) hF) (Nat.le_trans (Nat.le_of_ble_eq_true rfl) hLo) (Nat.le_trans hm9.1 hC.1) (Nat.le_trans hm9.2 hC.2) h_7 (cw_rest (Nat.le_of_ble_eq_true rfl)) dX5_edited_18 (fun H locs hR hS => ?_)
    exact hend (v := r_7) dX5_edited_23 rfl (Or.inl ⟨_, rfl⟩) hf hR hS
  · replace hf := ww_in hf c_3
    refine lv_aload_n hx hb dX5_edited_10 rfl (lv_at hl 0 rfl) ?_
    exact hend (v := (some a0)) dX5_edited_11 rfl (Or.inl ⟨_, rfl⟩) hf hR hS
section C_5_edited_i
variable {p : Program} {l : Launch} {e : Env} {R : Room} {s : State} {m : MethodId} {args : Array Value} {below : List Frame} {meth : Method} {c : Code} {H : Heap} {locs : List Loc} {cells slots : Nat} {Q : State → Prop}
variable {cc : ByteArray} {pc : Nat} {ls : Array Slot} {rest : List Value} {nL : Nat} {E : cw_E} {A : Nat → Prop} {H0 : Heap}
theorem c1i_edited {D : cw_D} {a0 : Nat} {x1 : Option Nat} {r : Option Nat} {D' : cw_D} {nc ns : Nat} (X : ww_C p m c cc nL s args RX1 lw_all) (hsz : ls.size = nL) (hK : cw_K E A s) (hR : cw_H E A D H) (hS : va_S A s.heap H locs) (hF : 5 ≤ R.frames) (hLo : 127 ≤ R.locals) (hc : cells + nc ≤ R.cells) (hs : slots + ns ≤ R.slots) (hkd2 : cw_kd D [1, 2] (some a0) = true) (hf : f5_edited D a0 x1 = some (r, D', nc, ns)) (hrest : (rest.map fun v => v.category).sum ≤ 8) {count : Nat} (hdg : decode cc pc = .ok (.invokeinterface 294 count, 5)) (kk : ∀ (H1 : Heap) (locs1 : List Loc), cw_H E A D' H1 → va_S A s.heap H1 locs1 → W p l e R s m args below meth c H1 locs1 (cells + nc) (slots + ns) Q (F0 m (pc + 5) ls (va_rf r :: rest))) : W p l e R s m args below meth c H locs cells slots Q (F0 m pc ls (va_rf x1 :: .ref a0 :: rest)) := by
  rcases cw_kd2 hkd2 with hkd | hkd
  · exact va_callFq (cw_runFD (n := 1) (C := RX7) (x := ⟨"WideMap$Node", "edited", "(LWideMap$Token;)LWideMap$Node;"⟩) (As := [va_rf x1]) (rest := rest) (a := a0) (cw_cls (k := 1) (C := RX7) (T := TX7) (N := 5) rfl hK) X (met5_edited l _ _ _ _ _ _ _ hf) q976 (hK.2.2.2.2.1 ("WideMap$Leaf", ⟨"WideMap$Node", "edited", "(LWideMap$Token;)LWideMap$Node;"⟩, ⟨"WideMap$Node", "edited", "(LWideMap$Token;)LWideMap$Node;"⟩) (by decide +kernel)) q980 q152 (lw_meth q982) rfl rfl rfl ⟨hF, hLo⟩ (by decide +kernel) (cw_pV hK hR hS (cw_rc (k := 1) (C := RX7) (T := TX7) (N := 5) rfl (by decide) hK hR hkd)) rfl rfl hsz rfl (lv_room hrest) hdg ⟨hc, hs⟩) hS (fun q _ h => h) (fun q h => h) (fun r' u t H1 locs1 ht hvm hw hB hz1 hk1 hS1 => by subst hw; rw [ht] at hB; exact kk H1 locs1 hB hS1)
  · exact va_callFq (cw_runFD (n := 1) (C := RX8) (x := ⟨"WideMap$Node", "edited", "(LWideMap$Token;)LWideMap$Node;"⟩) (As := [va_rf x1]) (rest := rest) (a := a0) (cw_cls (k := 2) (C := RX8) (T := TX8) (N := 4) rfl hK) X (met5_edited l _ _ _ _ _ _ _ hf) q976 (hK.2.2.2.2.1 ("WideMap$Inner", ⟨"WideMap$Node", "edited", "(LWideMap$Token;)LWideMap$Node;"⟩, ⟨"WideMap$Node", "edited", "(LWideMap$Token;)LWideMap$Node;"⟩) (by decide +kernel)) q980 q152 (lw_meth q982) rfl rfl rfl ⟨hF, hLo⟩ (by decide +kernel) (cw_pV hK hR hS (cw_rc (k := 2) (C := RX8) (T := TX8) (N := 4) rfl (by decide) hK hR hkd)) rfl rfl hsz rfl (lv_room hrest) hdg ⟨hc, hs⟩) hS (fun q _ h => h) (fun q h => h) (fun r' u t H1 locs1 ht hvm hw hB hz1 hk1 hS1 => by subst hw; rw [ht] at hB; exact kk H1 locs1 hB hS1)
theorem c8i_edited {D : cw_D} {a0 : Nat} {x1 : Option Nat} {r : Option Nat} {D' : cw_D} {nc ns : Nat} (X : ww_C p m c cc nL s args RX8 lw_all) (hsz : ls.size = nL) (hK : cw_K E A s) (hR : cw_H E A D H) (hS : va_S A s.heap H locs) (hF : 5 ≤ R.frames) (hLo : 127 ≤ R.locals) (hc : cells + nc ≤ R.cells) (hs : slots + ns ≤ R.slots) (hkd2 : cw_kd D [1, 2] (some a0) = true) (hf : f5_edited D a0 x1 = some (r, D', nc, ns)) (hrest : (rest.map fun v => v.category).sum ≤ 8) {count : Nat} (hdg : decode cc pc = .ok (.invokeinterface 30 count, 5)) (kk : ∀ (H1 : Heap) (locs1 : List Loc), cw_H E A D' H1 → va_S A s.heap H1 locs1 → W p l e R s m args below meth c H1 locs1 (cells + nc) (slots + ns) Q (F0 m (pc + 5) ls (va_rf r :: rest))) : W p l e R s m args below meth c H locs cells slots Q (F0 m pc ls (va_rf x1 :: .ref a0 :: rest)) := by
  rcases cw_kd2 hkd2 with hkd | hkd
  · exact va_callFq (cw_runFD (n := 1) (C := RX7) (x := ⟨"WideMap$Node", "edited", "(LWideMap$Token;)LWideMap$Node;"⟩) (As := [va_rf x1]) (rest := rest) (a := a0) (cw_cls (k := 1) (C := RX7) (T := TX7) (N := 5) rfl hK) X (met5_edited l _ _ _ _ _ _ _ hf) q1049 (hK.2.2.2.2.1 ("WideMap$Leaf", ⟨"WideMap$Node", "edited", "(LWideMap$Token;)LWideMap$Node;"⟩, ⟨"WideMap$Node", "edited", "(LWideMap$Token;)LWideMap$Node;"⟩) (by decide +kernel)) q980 q152 (lw_meth q982) rfl rfl rfl ⟨hF, hLo⟩ (by decide +kernel) (cw_pV hK hR hS (cw_rc (k := 1) (C := RX7) (T := TX7) (N := 5) rfl (by decide) hK hR hkd)) rfl rfl hsz rfl (lv_room hrest) hdg ⟨hc, hs⟩) hS (fun q _ h => h) (fun q h => h) (fun r' u t H1 locs1 ht hvm hw hB hz1 hk1 hS1 => by subst hw; rw [ht] at hB; exact kk H1 locs1 hB hS1)
  · exact va_callFq (cw_runFD (n := 1) (C := RX8) (x := ⟨"WideMap$Node", "edited", "(LWideMap$Token;)LWideMap$Node;"⟩) (As := [va_rf x1]) (rest := rest) (a := a0) (cw_cls (k := 2) (C := RX8) (T := TX8) (N := 4) rfl hK) X (met5_edited l _ _ _ _ _ _ _ hf) q1049 (hK.2.2.2.2.1 ("WideMap$Inner", ⟨"WideMap$Node", "edited", "(LWideMap$Token;)LWideMap$Node;"⟩, ⟨"WideMap$Node", "edited", "(LWideMap$Token;)LWideMap$Node;"⟩) (by decide +kernel)) q980 q152 (lw_meth q982) rfl rfl rfl ⟨hF, hLo⟩ (by decide +kernel) (cw_pV hK hR hS (cw_rc (k := 2) (C := RX8) (T := TX8) (N := 4) rfl (by decide) hK hR hkd)) rfl rfl hsz rfl (lv_room hrest) hdg ⟨hc, hs⟩) hS (fun q _ h => h) (fun q h => h) (fun r' u t H1 locs1 ht hvm hw hB hz1 hk1 hS1 => by subst hw; rw [ht] at hB; exact kk H1 locs1 hB hS1)
end C_5_edited_i
noncomputable def f8_makeRoom_b1c (y0 : Nat) (y1 : Int32) (D_2 : cw_D) (x2 : Int32) : Option ((cw_D × Int32) ⊕ (cw_D)) :=
  if x2 ≤ y1 then ww_x (ww_b (cw_gI D_2 [2] y0 1) (fun r_4 => ww_b (cw_p D_2 [2] y0 1 (.int (r_4 + (1 : Int32)))) (fun D_5 => some D_5))) else ww_b (cw_gR D_2 [2] y0 3) (fun r_6 => ww_b (cw_gR D_2 [2] y0 3) (fun r_7 => ww_b r_7 (fun a_9 => ww_b (cw_xR D_2 a_9 (x2 - (1 : Int32))) (fun r_8 => ww_b r_6 (fun a_10 => ww_b (cw_tR D_2 a_10 x2 r_8) (fun D_11 => some (.inl (D_11, (x2 + (-1 : Int32))))))))))
noncomputable def f8_makeRoom_b1 (y0 : Nat) (y1 : Int32) : (cw_D × Int32) → Option ((cw_D × Int32) ⊕ (cw_D)) := fun s9 => f8_makeRoom_b1c y0 y1 s9.1 s9.2
noncomputable def f8_makeRoom (D : cw_D) (a0 : Nat) (x1 : Int32) : Option (cw_D) :=
  ww_b (cw_gI D [2] a0 1) (fun r_1 => ww_U (f8_makeRoom_b1 a0 x1) (D, r_1))
section C_8_makeRoom_k
variable {p : Program} {l : Launch} {e : Env} {R : Room} {s : State} {m : MethodId} {args : Array Value} {below : List Frame} {meth : Method} {c : Code} {H : Heap} {locs : List Loc} {cells slots : Nat} {Q : State → Prop}
variable {cc : ByteArray} {pc : Nat} {ls : Array Slot} {rest : List Value} {nL : Nat} {E : cw_E} {A : Nat → Prop} {H0 : Heap}
theorem c8k_8_makeRoom {D : cw_D} {a0 : Nat} {x1 : Int32} {D' : cw_D} (X : ww_C p m c cc nL s args RX8 lw_all) (hsz : ls.size = nL) (hK : cw_K E A s) (hR : cw_H E A D H) (hS : va_S A s.heap H locs) (hF : 1 ≤ R.frames) (hLo : 22 ≤ R.locals) (hc : cells ≤ R.cells) (hs : slots ≤ R.slots) (hkd : cw_kd D [2] (some a0) = true) (hM : cw_MetV l yX8_makeRoom cX8_makeRoom 3 0 0 E A [.ref a0, .int x1] D D' 0 0) (hrest : (rest.map fun v => v.category).sum ≤ 8) (hdg : decode cc pc = .ok (.invokevirtual 38, 3)) (kk : ∀ (H1 : Heap) (locs1 : List Loc), cw_H E A D' H1 → va_S A s.heap H1 locs1 → W p l e R s m args below meth c H1 locs1 cells slots Q (F0 m (pc + 3) ls (rest))) : W p l e R s m args below meth c H locs cells slots Q (F0 m pc ls (.int x1 :: .ref a0 :: rest)) :=
  va_callv (va_runV (C := RX8) (As := [.int x1]) (rest := rest) (b := a0) X hM (cwV 1 X.2.2.2.2 (lw_V q1066 q1068 qs22 q155 q1069) rfl rfl rfl (by decide +kernel) ⟨hF, hLo⟩) (cw_pV hK hR hS (cw_rc (k := 2) (C := RX8) (T := TX8) (N := 4) rfl (by decide) hK hR hkd)) rfl rfl hsz rfl (lv_room hrest) hdg ⟨hc, hs⟩) hS (fun q _ h => h) (fun q h => h) (fun u t H1 locs1 ht hvm hw hB hz1 hk1 hS1 => by rw [ht] at hB; exact kk H1 locs1 hB hS1)
end C_8_makeRoom_k
set_option maxHeartbeats 4000000 in
set_option maxRecDepth 100000 in
theorem met8_makeRoom (l : Launch) {E : cw_E} {A : Nat → Prop} (D : cw_D) (a0 : Nat) (x1 : Int32) (D' : cw_D) (hf : f8_makeRoom D a0 x1 = some D') : cw_MetV l yX8_makeRoom cX8_makeRoom 3 0 0 E A [.ref a0, .int x1] D D' 0 0 := by
  unfold f8_makeRoom at hf
  refine cw_sVD (own := RX8) (by decide +kernel) [(0, .ref a0), (1, .int x1)] ⟨Nat.le_of_ble_eq_true rfl, rfl⟩ ?_
  intro p e s m args below meth c Rm Q X hK hF hLo hin hend ls hl hR hS
  obtain ⟨hx, hb, hml, hown, hts⟩ := id X
  refine lv_aload_n hx hb dX8_makeRoom_0 rfl (lv_at hl 0 rfl) ?_
  obtain ⟨r_1, h_1, hq⟩ := ww_bS hf; replace hf := hq; clear hq
  refine c8g_22 X hK hR h_1 dX8_makeRoom_1 ?_
  refine lv_istore_n (lv' := [(2, .int r_1), (0, .ref a0), (1, .int x1)]) hx hb dX8_makeRoom_4 rfl hl (by decide) rfl (fun ls hl => ?_)
  have hL_1 : ∀ s9 : cw_D × Int32, ww_U (f8_makeRoom_b1 a0 x1) s9 = some D' → ∀ (H : Heap) (locs : List Loc) (ls : Array Slot), cw_H E A s9.1 H → va_S A s.heap H locs → lv_has ls 3 [(0, .ref a0), (1, .int x1), (2, .int s9.2)] → W p l e Rm s m args below meth c H locs 0 0 Q (F0 m 5 ls []) := by
    clear hf
    refine ww_ind _ D' ?_
    intro s9 z_1 hf hz_1
    obtain ⟨D_2, x2⟩ := s9
    replace hf : f8_makeRoom_b1c a0 x1 D_2 x2 = some z_1 := hf
    unfold f8_makeRoom_b1c at hf
    try clear hl
    try clear hS
    try clear hR
    intro H locs ls hR hS hl
    replace hR : cw_H E A D_2 H := hR
    replace hl : lv_has ls 3 [(0, .ref a0), (1, .int x1), (2, .int x2)] := hl
    refine lv_iload_n hx hb dX8_makeRoom_5 rfl (lv_at hl 2 rfl) ?_
    refine lv_iload_n hx hb dX8_makeRoom_6 rfl (lv_at hl 1 rfl) ?_
    refine lv_icmp_le (tgt := 30) hx hb dX8_makeRoom_7 (by decide) (fun c_3 => ?_) (fun c_3 => ?_)
    · replace hf := ww_ip hf c_3
      replace hf := ww_xK hf hz_1
      refine lv_aload_n hx hb dX8_makeRoom_30 rfl (lv_at hl 0 rfl) ?_
      refine lv_dup hx hb dX8_makeRoom_31 rfl ?_
      obtain ⟨r_4, h_4, hq⟩ := ww_bS hf; replace hf := hq; clear hq
      refine c8g_22 X hK hR h_4 dX8_makeRoom_32 ?_
      refine lv_iconst (v := (1 : Int32)) hx hb dX8_makeRoom_35 (by decide) ?_
      refine lv_iadd hx hb dX8_makeRoom_36 ?_
      obtain ⟨D_5, h_5, hq⟩ := ww_bS hf; replace hf := hq; clear hq
      refine c8p_22 X hK hR hS h_5 dX8_makeRoom_37 (fun H locs hR hS => ?_)
      exact hend dX8_makeRoom_40 hf hR hS
    · replace hf := ww_in hf c_3
      refine lv_aload_n hx hb dX8_makeRoom_10 rfl (lv_at hl 0 rfl) ?_
      obtain ⟨r_6, h_6, hq⟩ := ww_bS hf; replace hf := hq; clear hq
      refine c8g_9 X hK hR h_6 dX8_makeRoom_11 ?_
      refine lv_iload_n hx hb dX8_makeRoom_14 rfl (lv_at hl 2 rfl) ?_
      refine lv_aload_n hx hb dX8_makeRoom_15 rfl (lv_at hl 0 rfl) ?_
      obtain ⟨r_7, h_7, hq⟩ := ww_bS hf; replace hf := hq; clear hq
      refine c8g_9 X hK hR h_7 dX8_makeRoom_16 ?_
      refine lv_iload_n hx hb dX8_makeRoom_19 rfl (lv_at hl 2 rfl) ?_
      refine lv_iconst (v := (1 : Int32)) hx hb dX8_makeRoom_20 (by decide) ?_
      refine lv_isub hx hb dX8_makeRoom_21 ?_
      obtain ⟨a_9, e_9, hq⟩ := ww_bS hf; replace hf := hq; clear hq
      subst e_9
      obtain ⟨r_8, h_8, hq⟩ := ww_bS hf; replace hf := hq; clear hq
      refine cw_oxR (x := some a_9) X hK hR rfl h_8 dX8_makeRoom_22 ?_
      obtain ⟨a_10, e_10, hq⟩ := ww_bS hf; replace hf := hq; clear hq
      subst e_10
      obtain ⟨D_11, h_11, hq⟩ := ww_bS hf; replace hf := hq; clear hq
      refine cw_otR (x' := some a_10) (v := r_8) X hK hR hS rfl h_11 dX8_makeRoom_23 (fun H locs hR hS => ?_)
      refine lv_iinc (k := 2) (v := x2 + (-1 : Int32)) (lv' := [(2, .int (x2 + (-1 : Int32))), (0, .ref a0), (1, .int x1)]) hx hb dX8_makeRoom_24 hl rfl rfl (by decide) rfl (fun ls hl => ?_)
      refine lv_goto (tgt := 5) hx hb dX8_makeRoom_27 (by decide) ?_
      exact ww_lK hf hz_1 _ _ _ hR hS (lv_sub hl [1, 2, 0] rfl)
  exact hL_1 (D, r_1) hf _ _ _ hR hS (lv_sub hl [1, 2, 0] rfl)
section C_8_makeRoom_c
variable {p : Program} {l : Launch} {e : Env} {R : Room} {s : State} {m : MethodId} {args : Array Value} {below : List Frame} {meth : Method} {c : Code} {H : Heap} {locs : List Loc} {cells slots : Nat} {Q : State → Prop}
variable {cc : ByteArray} {pc : Nat} {ls : Array Slot} {rest : List Value} {nL : Nat} {E : cw_E} {A : Nat → Prop} {H0 : Heap}
theorem c8c_8_makeRoom {D : cw_D} {a0 : Nat} {x1 : Int32} {D' : cw_D} (X : ww_C p m c cc nL s args RX8 lw_all) (hsz : ls.size = nL) (hK : cw_K E A s) (hR : cw_H E A D H) (hS : va_S A s.heap H locs) (hF : 1 ≤ R.frames) (hLo : 22 ≤ R.locals) (hc : cells ≤ R.cells) (hs : slots ≤ R.slots) (hkd : cw_kd D [2] (some a0) = true) (hf : f8_makeRoom D a0 x1 = some D') (hrest : (rest.map fun v => v.category).sum ≤ 8) (hdg : decode cc pc = .ok (.invokevirtual 38, 3)) (kk : ∀ (H1 : Heap) (locs1 : List Loc), cw_H E A D' H1 → va_S A s.heap H1 locs1 → W p l e R s m args below meth c H1 locs1 cells slots Q (F0 m (pc + 3) ls (rest))) : W p l e R s m args below meth c H locs cells slots Q (F0 m pc ls (.int x1 :: .ref a0 :: rest)) :=
  c8k_8_makeRoom X hsz hK hR hS hF hLo hc hs hkd (met8_makeRoom l _ _ _ _ hf) hrest hdg kk
end C_8_makeRoom_c
noncomputable def f8_lays_b1c (rec : cw_D → Nat → Option Nat → Int32 → Int32 → Int32 → Option (Option Nat × cw_D × Nat × Nat)) (cf : Nat) (kf : Nat) (y0 : Nat) (y7 : Nat) (D_33 : cw_D) (x8 : Int32) : Option ((cw_D × Int32) ⊕ (Option Nat × cw_D × Nat × Nat)) :=
  ww_b (cw_gI D_33 [2] y7 1) (fun r_34 => if r_34 ≤ x8 then ww_x (some ((some y7), D_33, cf, kf)) else ww_b (cw_gR D_33 [2] y7 3) (fun r_36 => ww_b (cw_gR D_33 [2] y0 3) (fun r_37 => ww_b (cw_gI D_33 [2] y0 1) (fun r_38 => ww_b r_37 (fun a_40 => ww_b (cw_xR D_33 a_40 (r_38 + x8)) (fun r_39 => ww_b r_36 (fun a_41 => ww_b (cw_tR D_33 a_41 x8 r_39) (fun D_42 => ww_b (cw_gR D_42 [2] y0 3) (fun r_43 => ww_b (cw_gI D_42 [2] y0 1) (fun r_44 => ww_b r_43 (fun a_45 => ww_b (cw_tR D_42 a_45 (r_44 + x8) none) (fun D_46 => some (.inl (D_46, (x8 + (1 : Int32))))))))))))))))
noncomputable def f8_lays_b1 (rec : cw_D → Nat → Option Nat → Int32 → Int32 → Int32 → Option (Option Nat × cw_D × Nat × Nat)) (cf : Nat) (kf : Nat) (y0 : Nat) (y7 : Nat) : (cw_D × Int32) → Option ((cw_D × Int32) ⊕ (Option Nat × cw_D × Nat × Nat)) := fun s9 => f8_lays_b1c rec cf kf y0 y7 s9.1 s9.2
noncomputable def f8_lays_r (rec : cw_D → Nat → Option Nat → Int32 → Int32 → Int32 → Option (Option Nat × cw_D × Nat × Nat)) (D : cw_D) (a0 : Nat) (x1 : Option Nat) (x2 : Int32) (x3 : Int32) (x4 : Int32) : Option (Option Nat × cw_D × Nat × Nat) :=
  ww_g (cw_kd D [2] (some a0)) (ww_b (f5_kidFor D a0 x2) (fun r_2 => ww_b (cw_gR D [2] a0 3) (fun r_3 => ww_b (cw_gR D [2] a0 3) (fun r_4 => ww_b r_4 (fun a_6 => ww_b (cw_xR D a_6 r_2) (fun r_5 => ww_b r_5 (fun a_7 => ww_g (cw_kd D [1, 2] (some a_7)) (ww_b4 (f5_edited D a_7 x1) (fun r_9 D_9 c_9 k_9 => ww_b r_3 (fun a_10 => ww_b (cw_tR D_9 a_10 r_2 r_9) (fun D_11 => ww_b (cw_gR D_11 [2] a0 3) (fun r_12 => ww_b r_12 (fun a_14 => ww_b (cw_xR D_11 a_14 r_2) (fun r_13 => ww_b r_13 (fun a_15 => ww_b4 (f5r_lays rec D_11 a_15 x1 x2 x3 x4) (fun r_16 D_16 c_16 k_16 => ww_o r_16 (some (none, D_16, ((0 + c_9) + c_16), ((0 + k_9) + k_16))) (fun a_17 => ww_g (cw_kd D_16 [2] (some a0)) (ww_b (f8_makeRoom D_16 a0 (r_2 + (1 : Int32))) (fun D_19 => ww_b (cw_gR D_19 [2] a0 3) (fun r_20 => ww_b r_20 (fun a_21 => ww_b (cw_tR D_19 a_21 (r_2 + (1 : Int32)) (some a_17)) (fun D_22 => ww_b (cw_gI D_22 [2] a0 1) (fun r_23 => if x4 < r_23 then ww_b x1 (fun a_25 => ww_g (cw_kd D_22 [0] (some a_25)) (ww_b (f4_makes D_22 a_25) (fun D_27 => ww_b3 (f8_init (cw_nO D_27 2) D_27.2.2 (some a_25) x4) (fun D_28 c_28 k_28 => ww_b (cw_p D_28 [2] D_27.2.2 1 (.int ((x4 + (1 : Int32)) / (2 : Int32)))) (fun D_29 => ww_b (cw_gI D_29 [2] a0 1) (fun r_30 => ww_b (cw_gI D_29 [2] D_27.2.2 1) (fun r_31 => ww_b (cw_p D_29 [2] a0 1 (.int (r_30 - r_31))) (fun D_32 => ww_U (f8_lays_b1 rec ((((0 + c_9) + c_16) + 1) + c_28) ((((0 + k_9) + k_16) + 4) + k_28) a0 D_27.2.2) (D_32, (0 : Int32)))))))))) else some (none, D_22, ((0 + c_9) + c_16), ((0 + k_9) + k_16)))))))))))))))))))))))))
noncomputable def f8_lays : Nat → cw_D → Nat → Option Nat → Int32 → Int32 → Int32 → Option (Option Nat × cw_D × Nat × Nat)
  | 0 => fun _ _ _ _ _ _ => none
  | d + 1 => f8_lays_r (f8_lays d)
section C_8_lays_j
variable {p : Program} {l : Launch} {e : Env} {R : Room} {s : State} {m : MethodId} {args : Array Value} {below : List Frame} {meth : Method} {c : Code} {H : Heap} {locs : List Loc} {cells slots : Nat} {Q : State → Prop}
variable {cc : ByteArray} {pc : Nat} {ls : Array Slot} {rest : List Value} {nL : Nat} {E : cw_E} {A : Nat → Prop} {H0 : Heap}
theorem c1j_lays {D : cw_D} {a0 : Nat} {x1 : Option Nat} {x2 : Int32} {x3 : Int32} {x4 : Int32} {r : Option Nat} {D' : cw_D} {nc ns : Nat} {d : Nat} (X : ww_C p m c cc nL s args RX1 lw_all) (hsz : ls.size = nL) (hK : cw_K E A s) (hR : cw_H E A D H) (hS : va_S A s.heap H locs) (hF : d + 11 + 1 ≤ R.frames) (hLo : 8 + (9 + 11) + (28 * d + 222) ≤ R.locals) (hc : cells + nc ≤ R.cells) (hs : slots + ns ≤ R.slots) (ih : f8_lays d D a0 x1 x2 x3 x4 = some (r, D', nc, ns) → cw_MetQ l yX8_lays cX8_lays 9 (some (Jvm.ClassFile.FieldType.object "WideMap$Node")) (d + 11) (28 * d + 222) E A [.ref a0, va_rf x1, .int x2, .int x3, .int x4] D D' r nc ns) (hf : f5r_lays (f8_lays d) D a0 x1 x2 x3 x4 = some (r, D', nc, ns)) (hrest : (rest.map fun v => v.category).sum ≤ 8) {count : Nat} (hdg : decode cc pc = .ok (.invokeinterface 298 count, 5)) (kk : ∀ (H1 : Heap) (locs1 : List Loc), cw_H E A D' H1 → va_S A s.heap H1 locs1 → W p l e R s m args below meth c H1 locs1 (cells + nc) (slots + ns) Q (F0 m (pc + 5) ls (va_rf r :: rest))) : W p l e R s m args below meth c H locs cells slots Q (F0 m pc ls (.int x4 :: .int x3 :: .int x2 :: va_rf x1 :: .ref a0 :: rest)) := by
  unfold f5r_lays at hf
  by_cases hkd : cw_kd D [1] (some a0) = true
  · rw [if_pos hkd] at hf
    exact va_callFq (va_runF (C := RX7) (x := ⟨"WideMap$Node", "lays", "(LWideMap$Token;III)LWideMap$Node;"⟩) (As := [va_rf x1, .int x2, .int x3, .int x4]) (rest := rest) (b := a0) (cw_cls (k := 1) (C := RX7) (T := TX7) (N := 5) rfl hK) X (met7_lays l _ _ _ _ _ _ _ _ _ _ hf) (va_cwF 4 X.2.2.2.2 (cw_F q1040 q1052 q1054 q154 q1056) rfl rfl rfl (hK.2.2.2.1 ("WideMap$Leaf", ⟨"WideMap$Node", "lays", "(LWideMap$Token;III)LWideMap$Node;"⟩, ⟨"WideMap$Leaf", "lays", "(LWideMap$Token;III)LWideMap$Node;"⟩) (by decide +kernel)) (by decide +kernel) ⟨(show 4 ≤ R.frames by omega), (show 110 ≤ R.locals by omega)⟩) (cw_pV hK hR hS (cw_rc (k := 1) (C := RX7) (T := TX7) (N := 5) rfl (by decide) hK hR hkd)) rfl rfl hsz rfl (lv_room hrest) hdg ⟨hc, hs⟩) hS (fun q _ h => h) (fun q h => h) (fun r' u t H1 locs1 ht hvm hw hB hz1 hk1 hS1 => by subst hw; rw [ht] at hB; exact kk H1 locs1 hB hS1)
  · rw [if_neg hkd] at hf
    by_cases hkd : cw_kd D [2] (some a0) = true
    · rw [if_pos hkd] at hf
      exact va_callFq (va_runF (C := RX8) (x := ⟨"WideMap$Node", "lays", "(LWideMap$Token;III)LWideMap$Node;"⟩) (As := [va_rf x1, .int x2, .int x3, .int x4]) (rest := rest) (b := a0) (cw_cls (k := 2) (C := RX8) (T := TX8) (N := 4) rfl hK) X (ih hf) (va_cwF 4 X.2.2.2.2 (cw_F q1040 q1043 q1045 q155 q1047) rfl rfl rfl (hK.2.2.2.1 ("WideMap$Inner", ⟨"WideMap$Node", "lays", "(LWideMap$Token;III)LWideMap$Node;"⟩, ⟨"WideMap$Inner", "lays", "(LWideMap$Token;III)LWideMap$Node;"⟩) (by decide +kernel)) (by decide +kernel) ⟨(show d + 11 + 1 ≤ R.frames by omega), (show 8 + (9 + 11) + (28 * d + 222) ≤ R.locals by omega)⟩) (cw_pV hK hR hS (cw_rc (k := 2) (C := RX8) (T := TX8) (N := 4) rfl (by decide) hK hR hkd)) rfl rfl hsz rfl (lv_room hrest) hdg ⟨hc, hs⟩) hS (fun q _ h => h) (fun q h => h) (fun r' u t H1 locs1 ht hvm hw hB hz1 hk1 hS1 => by subst hw; rw [ht] at hB; exact kk H1 locs1 hB hS1)
    · rw [if_neg hkd] at hf
      cases hf
theorem c8j_lays {D : cw_D} {a0 : Nat} {x1 : Option Nat} {x2 : Int32} {x3 : Int32} {x4 : Int32} {r : Option Nat} {D' : cw_D} {nc ns : Nat} {d : Nat} (X : ww_C p m c cc nL s args RX8 lw_all) (hsz : ls.size = nL) (hK : cw_K E A s) (hR : cw_H E A D H) (hS : va_S A s.heap H locs) (hF : d + 11 + 1 ≤ R.frames) (hLo : 8 + (9 + 11) + (28 * d + 222) ≤ R.locals) (hc : cells + nc ≤ R.cells) (hs : slots + ns ≤ R.slots) (ih : f8_lays d D a0 x1 x2 x3 x4 = some (r, D', nc, ns) → cw_MetQ l yX8_lays cX8_lays 9 (some (Jvm.ClassFile.FieldType.object "WideMap$Node")) (d + 11) (28 * d + 222) E A [.ref a0, va_rf x1, .int x2, .int x3, .int x4] D D' r nc ns) (hf : f5r_lays (f8_lays d) D a0 x1 x2 x3 x4 = some (r, D', nc, ns)) (hrest : (rest.map fun v => v.category).sum ≤ 8) {count : Nat} (hdg : decode cc pc = .ok (.invokeinterface 34 count, 5)) (kk : ∀ (H1 : Heap) (locs1 : List Loc), cw_H E A D' H1 → va_S A s.heap H1 locs1 → W p l e R s m args below meth c H1 locs1 (cells + nc) (slots + ns) Q (F0 m (pc + 5) ls (va_rf r :: rest))) : W p l e R s m args below meth c H locs cells slots Q (F0 m pc ls (.int x4 :: .int x3 :: .int x2 :: va_rf x1 :: .ref a0 :: rest)) := by
  unfold f5r_lays at hf
  by_cases hkd : cw_kd D [1] (some a0) = true
  · rw [if_pos hkd] at hf
    exact va_callFq (va_runF (C := RX7) (x := ⟨"WideMap$Node", "lays", "(LWideMap$Token;III)LWideMap$Node;"⟩) (As := [va_rf x1, .int x2, .int x3, .int x4]) (rest := rest) (b := a0) (cw_cls (k := 1) (C := RX7) (T := TX7) (N := 5) rfl hK) X (met7_lays l _ _ _ _ _ _ _ _ _ _ hf) (va_cwF 4 X.2.2.2.2 (cw_F q1051 q1052 q1054 q154 q1056) rfl rfl rfl (hK.2.2.2.1 ("WideMap$Leaf", ⟨"WideMap$Node", "lays", "(LWideMap$Token;III)LWideMap$Node;"⟩, ⟨"WideMap$Leaf", "lays", "(LWideMap$Token;III)LWideMap$Node;"⟩) (by decide +kernel)) (by decide +kernel) ⟨(show 4 ≤ R.frames by omega), (show 110 ≤ R.locals by omega)⟩) (cw_pV hK hR hS (cw_rc (k := 1) (C := RX7) (T := TX7) (N := 5) rfl (by decide) hK hR hkd)) rfl rfl hsz rfl (lv_room hrest) hdg ⟨hc, hs⟩) hS (fun q _ h => h) (fun q h => h) (fun r' u t H1 locs1 ht hvm hw hB hz1 hk1 hS1 => by subst hw; rw [ht] at hB; exact kk H1 locs1 hB hS1)
  · rw [if_neg hkd] at hf
    by_cases hkd : cw_kd D [2] (some a0) = true
    · rw [if_pos hkd] at hf
      exact va_callFq (va_runF (C := RX8) (x := ⟨"WideMap$Node", "lays", "(LWideMap$Token;III)LWideMap$Node;"⟩) (As := [va_rf x1, .int x2, .int x3, .int x4]) (rest := rest) (b := a0) (cw_cls (k := 2) (C := RX8) (T := TX8) (N := 4) rfl hK) X (ih hf) (va_cwF 4 X.2.2.2.2 (cw_F q1051 q1043 q1045 q155 q1047) rfl rfl rfl (hK.2.2.2.1 ("WideMap$Inner", ⟨"WideMap$Node", "lays", "(LWideMap$Token;III)LWideMap$Node;"⟩, ⟨"WideMap$Inner", "lays", "(LWideMap$Token;III)LWideMap$Node;"⟩) (by decide +kernel)) (by decide +kernel) ⟨(show d + 11 + 1 ≤ R.frames by omega), (show 8 + (9 + 11) + (28 * d + 222) ≤ R.locals by omega)⟩) (cw_pV hK hR hS (cw_rc (k := 2) (C := RX8) (T := TX8) (N := 4) rfl (by decide) hK hR hkd)) rfl rfl hsz rfl (lv_room hrest) hdg ⟨hc, hs⟩) hS (fun q _ h => h) (fun q h => h) (fun r' u t H1 locs1 ht hvm hw hB hz1 hk1 hS1 => by subst hw; rw [ht] at hB; exact kk H1 locs1 hB hS1)
    · rw [if_neg hkd] at hf
      cases hf
end C_8_lays_j
set_option maxHeartbeats 4000000 in
set_option maxRecDepth 100000 in
theorem met8_lays (l : Launch) {E : cw_E} {A : Nat → Prop} : ∀ (d : Nat) (D : cw_D) (a0 : Nat) (x1 : Option Nat) (x2 : Int32) (x3 : Int32) (x4 : Int32) (r : Option Nat) (D' : cw_D) (nc ns : Nat), f8_lays d D a0 x1 x2 x3 x4 = some (r, D', nc, ns) → cw_MetQ l yX8_lays cX8_lays 9 (some (Jvm.ClassFile.FieldType.object "WideMap$Node")) (d + 11) (28 * d + 222) E A [.ref a0, va_rf x1, .int x2, .int x3, .int x4] D D' r nc ns := by
  intro d
  induction d with
  | zero => intro D a0 x1 x2 x3 x4 r D' nc ns hf; cases hf
  | succ d ih =>
    intro D a0 x1 x2 x3 x4 r D' nc ns hf
    replace hf : f8_lays_r (f8_lays d) D a0 x1 x2 x3 x4 = some (r, D', nc, ns) := hf
    unfold f8_lays_r at hf
    refine cw_sQN (own := RX8) (by decide +kernel) [(0, .ref a0), (1, va_rf x1), (2, .int x2), (3, .int x3), (4, .int x4)] ⟨by cases x1 <;> exact Nat.le_of_ble_eq_true rfl, by cases x1 <;> rfl⟩ ?_
    intro p e s m args below meth c Rm Q X hK hF hLo hC hin hend ls hl hR hS
    obtain ⟨hx, hb, hml, hown, hts⟩ := id X
    have hm9 : 0 ≤ nc ∧ 0 ≤ ns := ⟨Nat.zero_le _, Nat.zero_le _⟩
    refine lv_aload_n hx hb dX8_lays_0 rfl (lv_at hl 0 rfl) ?_
    refine lv_iload_n hx hb dX8_lays_1 rfl (lv_at hl 2 rfl) ?_
    obtain ⟨h_1, hq⟩ := ww_gS hf; replace hf := hq; clear hq
    obtain ⟨r_2, h_2, hq⟩ := ww_bS hf; replace hf := hq; clear hq
    refine c8c_5_kidFor X hl.1 hK hR hS (by omega) (by omega) (Nat.le_trans hm9.1 hC.1) (Nat.le_trans hm9.2 hC.2) h_1 h_2 (cw_rest (Nat.le_of_ble_eq_true rfl)) dX8_lays_2 (fun H locs hR hS => ?_)
    refine lv_istore (lv' := [(5, .int r_2), (0, .ref a0), (1, va_rf x1), (2, .int x2), (3, .int x3), (4, .int x4)]) hx hb dX8_lays_5 hl (by decide) rfl (fun ls hl => ?_)
    refine lv_aload_n hx hb dX8_lays_7 rfl (lv_at hl 1 rfl) ?_
    obtain ⟨r_3, h_3, hq⟩ := ww_bS hf; replace hf := hq; clear hq
    refine c8g_9 X hK hR h_3 dX8_lays_8 ?_
    refine lv_iload hx hb dX8_lays_11 (lv_at hl 0 rfl) ?_
    refine lv_aload_n hx hb dX8_lays_13 rfl (lv_at hl 1 rfl) ?_
    obtain ⟨r_4, h_4, hq⟩ := ww_bS hf; replace hf := hq; clear hq
    refine c8g_9 X hK hR h_4 dX8_lays_14 ?_
    refine lv_iload hx hb dX8_lays_17 (lv_at hl 0 rfl) ?_
    obtain ⟨a_6, e_6, hq⟩ := ww_bS hf; replace hf := hq; clear hq
    subst e_6
    obtain ⟨r_5, h_5, hq⟩ := ww_bS hf; replace hf := hq; clear hq
    refine cw_oxR (x := some a_6) X hK hR rfl h_5 dX8_lays_19 ?_
    refine cw_aload_n (x := x1) hx hb dX8_lays_20 rfl (lv_at hl 2 rfl) ?_
    obtain ⟨a_7, e_7, hq⟩ := ww_bS hf; replace hf := hq; clear hq
    subst e_7
    obtain ⟨h_8, hq⟩ := ww_gS hf; replace hf := hq; clear hq
    obtain ⟨r_9, D_9, c_9, k_9, h_9, hq⟩ := ww_b4S hf; replace hf := hq; clear hq
    have hm9 : (0 + c_9) ≤ nc ∧ (0 + k_9) ≤ ns := by
      obtain ⟨a_10, e_10, hq⟩ := ww_bS hf; replace hf := hq; clear hq
      subst e_10
      obtain ⟨D_11, h_11, hq⟩ := ww_bS hf; replace hf := hq; clear hq
      obtain ⟨r_12, h_12, hq⟩ := ww_bS hf; replace hf := hq; clear hq
      obtain ⟨a_14, e_14, hq⟩ := ww_bS hf; replace hf := hq; clear hq
      subst e_14
      obtain ⟨r_13, h_13, hq⟩ := ww_bS hf; replace hf := hq; clear hq
      obtain ⟨a_15, e_15, hq⟩ := ww_bS hf; replace hf := hq; clear hq
      subst e_15
      obtain ⟨r_16, D_16, c_16, k_16, h_16, hq⟩ := ww_b4S hf; replace hf := hq; clear hq
      rcases r_16 with _ | a_17
      · replace hf := ww_oN hf
        have e9 := hf
        simp only [Option.some.injEq, Prod.mk.injEq] at e9
        omega
      · replace hf := ww_oS hf
        obtain ⟨h_18, hq⟩ := ww_gS hf; replace hf := hq; clear hq
        obtain ⟨D_19, h_19, hq⟩ := ww_bS hf; replace hf := hq; clear hq
        obtain ⟨r_20, h_20, hq⟩ := ww_bS hf; replace hf := hq; clear hq
        obtain ⟨a_21, e_21, hq⟩ := ww_bS hf; replace hf := hq; clear hq
        subst e_21
        obtain ⟨D_22, h_22, hq⟩ := ww_bS hf; replace hf := hq; clear hq
        obtain ⟨r_23, h_23, hq⟩ := ww_bS hf; replace hf := hq; clear hq
        refine ww_by (x4 < r_23) (fun c_24 => ?_) (fun c_24 => ?_)
        · replace hf := ww_ip hf c_24
          obtain ⟨a_25, e_25, hq⟩ := ww_bS hf; replace hf := hq; clear hq
          subst e_25
          obtain ⟨h_26, hq⟩ := ww_gS hf; replace hf := hq; clear hq
          obtain ⟨D_27, h_27, hq⟩ := ww_bS hf; replace hf := hq; clear hq
          obtain ⟨D_28, c_28, k_28, h_28, hq⟩ := ww_b3S hf; replace hf := hq; clear hq
          obtain ⟨D_29, h_29, hq⟩ := ww_bS hf; replace hf := hq; clear hq
          obtain ⟨r_30, h_30, hq⟩ := ww_bS hf; replace hf := hq; clear hq
          obtain ⟨r_31, h_31, hq⟩ := ww_bS hf; replace hf := hq; clear hq
          obtain ⟨D_32, h_32, hq⟩ := ww_bS hf; replace hf := hq; clear hq
          have hL_1 : ∀ s9 : cw_D × Int32, ww_U (f8_lays_b1 (f8_lays d) ((((0 + c_9) + c_16) + 1) + c_28) ((((0 + k_9) + k_16) + 4) + k_28) a0 D_27.2.2) s9 = some (r, D', nc, ns) → ((((0 + c_9) + c_16) + 1) + c_28) ≤ nc ∧ ((((0 + k_9) + k_16) + 4) + k_28) ≤ ns := by
            clear hf
            refine ww_ind _ (r, D', nc, ns) ?_
            intro s9 z_1 hf hz_1
            obtain ⟨D_33, x8⟩ := s9
            replace hf : f8_lays_b1c (f8_lays d) ((((0 + c_9) + c_16) + 1) + c_28) ((((0 + k_9) + k_16) + 4) + k_28) a0 D_27.2.2 D_33 x8 = some z_1 := hf
            unfold f8_lays_b1c at hf
            show ((((0 + c_9) + c_16) + 1) + c_28) ≤ nc ∧ ((((0 + k_9) + k_16) + 4) + k_28) ≤ ns
            obtain ⟨r_34, h_34, hq⟩ := ww_bS hf; replace hf := hq; clear hq
            refine ww_by (r_34 ≤ x8) (fun c_35 => ?_) (fun c_35 => ?_)
            · replace hf := ww_ip hf c_35
              replace hf := ww_xK hf hz_1
              have e9 := hf
              simp only [Option.some.injEq, Prod.mk.injEq] at e9
              omega
            · replace hf := ww_in hf c_35
              obtain ⟨r_36, h_36, hq⟩ := ww_bS hf; replace hf := hq; clear hq
              obtain ⟨r_37, h_37, hq⟩ := ww_bS hf; replace hf := hq; clear hq
              obtain ⟨r_38, h_38, hq⟩ := ww_bS hf; replace hf := hq; clear hq
              obtain ⟨a_40, e_40, hq⟩ := ww_bS hf; replace hf := hq; clear hq
              subst e_40
              obtain ⟨r_39, h_39, hq⟩ := ww_bS hf; replace hf := hq; clear hq
              obtain ⟨a_41, e_41, hq⟩ := ww_bS hf; replace hf := hq; clear hq
              subst e_41
              obtain ⟨D_42, h_42, hq⟩ := ww_bS hf; replace hf := hq; clear hq
              obtain ⟨r_43, h_43, hq⟩ := ww_bS hf; replace hf := hq; clear hq
              obtain ⟨r_44, h_44, hq⟩ := ww_bS hf; replace hf := hq; clear hq
              obtain ⟨a_45, e_45, hq⟩ := ww_bS hf; replace hf := hq; clear hq
              subst e_45
              obtain ⟨D_46, h_46, hq⟩ := ww_bS hf; replace hf := hq; clear hq
              have e9 := ww_lK hf hz_1
              try dsimp only at e9
              omega
          have e9 := hL_1 (D_32, (0 : Int32)) hf
          try dsimp only at e9
          omega
        · replace hf := ww_in hf c_24
          have e9 := hf
          simp only [Option.some.injEq, Prod.mk.injEq] at e9
          omega
    refine c8i_edited (x1 := x1) X hl.1 hK hR hS (by omega) (by omega) (Nat.le_trans hm9.1 hC.1) (Nat.le_trans hm9.2 hC.2) h_8 h_9 (cw_rest (Nat.le_of_ble_eq_true rfl)) dX8_lays_21 (fun H locs hR hS => ?_)
    obtain ⟨a_10, e_10, hq⟩ := ww_bS hf; replace hf := hq; clear hq
    subst e_10
    obtain ⟨D_11, h_11, hq⟩ := ww_bS hf; replace hf := hq; clear hq
    refine cw_otR (x' := some a_10) (v := r_9) X hK hR hS rfl h_11 dX8_lays_26 (fun H locs hR hS => ?_)
    refine lv_aload_n hx hb dX8_lays_27 rfl (lv_at hl 1 rfl) ?_
    obtain ⟨r_12, h_12, hq⟩ := ww_bS hf; replace hf := hq; clear hq
    refine c8g_9 X hK hR h_12 dX8_lays_28 ?_
    refine lv_iload hx hb dX8_lays_31 (lv_at hl 0 rfl) ?_
    obtain ⟨a_14, e_14, hq⟩ := ww_bS hf; replace hf := hq; clear hq
    subst e_14
    obtain ⟨r_13, h_13, hq⟩ := ww_bS hf; replace hf := hq; clear hq
    refine cw_oxR (x := some a_14) X hK hR rfl h_13 dX8_lays_33 ?_
    refine cw_aload_n (x := x1) hx hb dX8_lays_34 rfl (lv_at hl 2 rfl) ?_
    refine lv_iload_n hx hb dX8_lays_35 rfl (lv_at hl 3 rfl) ?_
    refine lv_iload_n hx hb dX8_lays_36 rfl (lv_at hl 4 rfl) ?_
    refine lv_iload hx hb dX8_lays_37 (lv_at hl 5 rfl) ?_
    obtain ⟨a_15, e_15, hq⟩ := ww_bS hf; replace hf := hq; clear hq
    subst e_15
    obtain ⟨r_16, D_16, c_16, k_16, h_16, hq⟩ := ww_b4S hf; replace hf := hq; clear hq
    have hm9 : ((0 + c_9) + c_16) ≤ nc ∧ ((0 + k_9) + k_16) ≤ ns := by
      rcases r_16 with _ | a_17
      · replace hf := ww_oN hf
        have e9 := hf
        simp only [Option.some.injEq, Prod.mk.injEq] at e9
        omega
      · replace hf := ww_oS hf
        obtain ⟨h_18, hq⟩ := ww_gS hf; replace hf := hq; clear hq
        obtain ⟨D_19, h_19, hq⟩ := ww_bS hf; replace hf := hq; clear hq
        obtain ⟨r_20, h_20, hq⟩ := ww_bS hf; replace hf := hq; clear hq
        obtain ⟨a_21, e_21, hq⟩ := ww_bS hf; replace hf := hq; clear hq
        subst e_21
        obtain ⟨D_22, h_22, hq⟩ := ww_bS hf; replace hf := hq; clear hq
        obtain ⟨r_23, h_23, hq⟩ := ww_bS hf; replace hf := hq; clear hq
        refine ww_by (x4 < r_23) (fun c_24 => ?_) (fun c_24 => ?_)
        · replace hf := ww_ip hf c_24
          obtain ⟨a_25, e_25, hq⟩ := ww_bS hf; replace hf := hq; clear hq
          subst e_25
          obtain ⟨h_26, hq⟩ := ww_gS hf; replace hf := hq; clear hq
          obtain ⟨D_27, h_27, hq⟩ := ww_bS hf; replace hf := hq; clear hq
          obtain ⟨D_28, c_28, k_28, h_28, hq⟩ := ww_b3S hf; replace hf := hq; clear hq
          obtain ⟨D_29, h_29, hq⟩ := ww_bS hf; replace hf := hq; clear hq
          obtain ⟨r_30, h_30, hq⟩ := ww_bS hf; replace hf := hq; clear hq
          obtain ⟨r_31, h_31, hq⟩ := ww_bS hf; replace hf := hq; clear hq
          obtain ⟨D_32, h_32, hq⟩ := ww_bS hf; replace hf := hq; clear hq
          have hL_1 : ∀ s9 : cw_D × Int32, ww_U (f8_lays_b1 (f8_lays d) ((((0 + c_9) + c_16) + 1) + c_28) ((((0 + k_9) + k_16) + 4) + k_28) a0 D_27.2.2) s9 = some (r, D', nc, ns) → ((((0 + c_9) + c_16) + 1) + c_28) ≤ nc ∧ ((((0 + k_9) + k_16) + 4) + k_28) ≤ ns := by
            clear hf
            refine ww_ind _ (r, D', nc, ns) ?_
            intro s9 z_1 hf hz_1
            obtain ⟨D_33, x8⟩ := s9
            replace hf : f8_lays_b1c (f8_lays d) ((((0 + c_9) + c_16) + 1) + c_28) ((((0 + k_9) + k_16) + 4) + k_28) a0 D_27.2.2 D_33 x8 = some z_1 := hf
            unfold f8_lays_b1c at hf
            show ((((0 + c_9) + c_16) + 1) + c_28) ≤ nc ∧ ((((0 + k_9) + k_16) + 4) + k_28) ≤ ns
            obtain ⟨r_34, h_34, hq⟩ := ww_bS hf; replace hf := hq; clear hq
            refine ww_by (r_34 ≤ x8) (fun c_35 => ?_) (fun c_35 => ?_)
            · replace hf := ww_ip hf c_35
              replace hf := ww_xK hf hz_1
              have e9 := hf
              simp only [Option.some.injEq, Prod.mk.injEq] at e9
              omega
            · replace hf := ww_in hf c_35
              obtain ⟨r_36, h_36, hq⟩ := ww_bS hf; replace hf := hq; clear hq
              obtain ⟨r_37, h_37, hq⟩ := ww_bS hf; replace hf := hq; clear hq
              obtain ⟨r_38, h_38, hq⟩ := ww_bS hf; replace hf := hq; clear hq
              obtain ⟨a_40, e_40, hq⟩ := ww_bS hf; replace hf := hq; clear hq
              subst e_40
              obtain ⟨r_39, h_39, hq⟩ := ww_bS hf; replace hf := hq; clear hq
              obtain ⟨a_41, e_41, hq⟩ := ww_bS hf; replace hf := hq; clear hq
              subst e_41
              obtain ⟨D_42, h_42, hq⟩ := ww_bS hf; replace hf := hq; clear hq
              obtain ⟨r_43, h_43, hq⟩ := ww_bS hf; replace hf := hq; clear hq
              obtain ⟨r_44, h_44, hq⟩ := ww_bS hf; replace hf := hq; clear hq
              obtain ⟨a_45, e_45, hq⟩ := ww_bS hf; replace hf := hq; clear hq
              subst e_45
              obtain ⟨D_46, h_46, hq⟩ := ww_bS hf; replace hf := hq; clear hq
              have e9 := ww_lK hf hz_1
              try dsimp only at e9
              omega
          have e9 := hL_1 (D_32, (0 : Int32)) hf
          try dsimp only at e9
          omega
        · replace hf := ww_in hf c_24
          have e9 := hf
          simp only [Option.some.injEq, Prod.mk.injEq] at e9
          omega
    refine c8j_lays (x1 := x1) X hl.1 hK hR hS (by omega) (by omega) (Nat.le_trans hm9.1 hC.1) (Nat.le_trans hm9.2 hC.2) (fun q9 => ih _ _ _ _ _ _ _ _ _ _ q9) h_16 (cw_rest (Nat.le_of_ble_eq_true rfl)) dX8_lays_39 (fun H locs hR hS => ?_)
    refine cw_astore (x := r_16) (lv' := [(6, va_rf r_16), (5, .int r_2), (0, .ref a0), (1, va_rf x1), (2, .int x2), (3, .int x3), (4, .int x4)]) hx hb dX8_lays_44 hl (by decide) rfl (fun ls hl => ?_)
    refine cw_aload (x := r_16) hx hb dX8_lays_46 (lv_at hl 0 rfl) ?_
    rcases r_16 with _ | a_17
    · replace hf := ww_oN hf
      refine lv_ifnonnullN hx hb dX8_lays_48 ?_
      refine lv_null hx hb dX8_lays_51 ?_
      exact hend (v := none) dX8_lays_52 rfl (Or.inl ⟨_, rfl⟩) hf hR hS
    · replace hf := ww_oS hf
      refine lv_ifnonnull (tgt := 53) hx hb dX8_lays_48 (by decide) ?_
      refine lv_aload_n hx hb dX8_lays_53 rfl (lv_at hl 2 rfl) ?_
      refine lv_iload hx hb dX8_lays_54 (lv_at hl 1 rfl) ?_
      refine lv_iconst (v := (1 : Int32)) hx hb dX8_lays_56 (by decide) ?_
      refine lv_iadd hx hb dX8_lays_57 ?_
      obtain ⟨h_18, hq⟩ := ww_gS hf; replace hf := hq; clear hq
      obtain ⟨D_19, h_19, hq⟩ := ww_bS hf; replace hf := hq; clear hq
      refine c8c_8_makeRoom X hl.1 hK hR hS (by omega) (by omega) (Nat.le_trans hm9.1 hC.1) (Nat.le_trans hm9.2 hC.2) h_18 h_19 (cw_rest (Nat.le_of_ble_eq_true rfl)) dX8_lays_58 (fun H locs hR hS => ?_)
      refine lv_aload_n hx hb dX8_lays_61 rfl (lv_at hl 2 rfl) ?_
      obtain ⟨r_20, h_20, hq⟩ := ww_bS hf; replace hf := hq; clear hq
      refine c8g_9 X hK hR h_20 dX8_lays_62 ?_
      refine lv_iload hx hb dX8_lays_65 (lv_at hl 1 rfl) ?_
      refine lv_iconst (v := (1 : Int32)) hx hb dX8_lays_67 (by decide) ?_
      refine lv_iadd hx hb dX8_lays_68 ?_
      refine lv_aload hx hb dX8_lays_69 (lv_at hl 0 rfl) ?_
      obtain ⟨a_21, e_21, hq⟩ := ww_bS hf; replace hf := hq; clear hq
      subst e_21
      obtain ⟨D_22, h_22, hq⟩ := ww_bS hf; replace hf := hq; clear hq
      refine cw_otR (x' := some a_21) (v := (some a_17)) X hK hR hS rfl h_22 dX8_lays_71 (fun H locs hR hS => ?_)
      refine lv_aload_n hx hb dX8_lays_72 rfl (lv_at hl 2 rfl) ?_
      obtain ⟨r_23, h_23, hq⟩ := ww_bS hf; replace hf := hq; clear hq
      refine c8g_22 X hK hR h_23 dX8_lays_73 ?_
      refine lv_iload hx hb dX8_lays_76 (lv_at hl 6 rfl) ?_
      refine lv_icmp_gt (tgt := 83) hx hb dX8_lays_78 (by decide) (fun c_24 => ?_) (fun c_24 => ?_)
      · replace hf := ww_ip hf c_24
        refine cw_aload_n (x := x1) hx hb dX8_lays_83 rfl (lv_at hl 3 rfl) ?_
        obtain ⟨a_25, e_25, hq⟩ := ww_bS hf; replace hf := hq; clear hq
        subst e_25
        obtain ⟨h_26, hq⟩ := ww_gS hf; replace hf := hq; clear hq
        obtain ⟨D_27, h_27, hq⟩ := ww_bS hf; replace hf := hq; clear hq
        refine c8c_4_makes X hl.1 hK hR hS (by omega) (by omega) (Nat.le_trans hm9.1 hC.1) (Nat.le_trans hm9.2 hC.2) h_26 h_27 (cw_rest (Nat.le_of_ble_eq_true rfl)) dX8_lays_84 (fun H locs hR hS => ?_)
        have hm9 : (((0 + c_9) + c_16) + 1) ≤ nc ∧ (((0 + k_9) + k_16) + 4) ≤ ns := by
          obtain ⟨D_28, c_28, k_28, h_28, hq⟩ := ww_b3S hf; replace hf := hq; clear hq
          obtain ⟨D_29, h_29, hq⟩ := ww_bS hf; replace hf := hq; clear hq
          obtain ⟨r_30, h_30, hq⟩ := ww_bS hf; replace hf := hq; clear hq
          obtain ⟨r_31, h_31, hq⟩ := ww_bS hf; replace hf := hq; clear hq
          obtain ⟨D_32, h_32, hq⟩ := ww_bS hf; replace hf := hq; clear hq
          have hL_1 : ∀ s9 : cw_D × Int32, ww_U (f8_lays_b1 (f8_lays d) ((((0 + c_9) + c_16) + 1) + c_28) ((((0 + k_9) + k_16) + 4) + k_28) a0 D_27.2.2) s9 = some (r, D', nc, ns) → ((((0 + c_9) + c_16) + 1) + c_28) ≤ nc ∧ ((((0 + k_9) + k_16) + 4) + k_28) ≤ ns := by
            clear hf
            refine ww_ind _ (r, D', nc, ns) ?_
            intro s9 z_1 hf hz_1
            obtain ⟨D_33, x8⟩ := s9
            replace hf : f8_lays_b1c (f8_lays d) ((((0 + c_9) + c_16) + 1) + c_28) ((((0 + k_9) + k_16) + 4) + k_28) a0 D_27.2.2 D_33 x8 = some z_1 := hf
            unfold f8_lays_b1c at hf
            show ((((0 + c_9) + c_16) + 1) + c_28) ≤ nc ∧ ((((0 + k_9) + k_16) + 4) + k_28) ≤ ns
            obtain ⟨r_34, h_34, hq⟩ := ww_bS hf; replace hf := hq; clear hq
            refine ww_by (r_34 ≤ x8) (fun c_35 => ?_) (fun c_35 => ?_)
            · replace hf := ww_ip hf c_35
              replace hf := ww_xK hf hz_1
              have e9 := hf
              simp only [Option.some.injEq, Prod.mk.injEq] at e9
              omega
            · replace hf := ww_in hf c_35
              obtain ⟨r_36, h_36, hq⟩ := ww_bS hf; replace hf := hq; clear hq
              obtain ⟨r_37, h_37, hq⟩ := ww_bS hf; replace hf := hq; clear hq
              obtain ⟨r_38, h_38, hq⟩ := ww_bS hf; replace hf := hq; clear hq
              obtain ⟨a_40, e_40, hq⟩ := ww_bS hf; replace hf := hq; clear hq
              subst e_40
              obtain ⟨r_39, h_39, hq⟩ := ww_bS hf; replace hf := hq; clear hq
              obtain ⟨a_41, e_41, hq⟩ := ww_bS hf; replace hf := hq; clear hq
              subst e_41
              obtain ⟨D_42, h_42, hq⟩ := ww_bS hf; replace hf := hq; clear hq
              obtain ⟨r_43, h_43, hq⟩ := ww_bS hf; replace hf := hq; clear hq
              obtain ⟨r_44, h_44, hq⟩ := ww_bS hf; replace hf := hq; clear hq
              obtain ⟨a_45, e_45, hq⟩ := ww_bS hf; replace hf := hq; clear hq
              subst e_45
              obtain ⟨D_46, h_46, hq⟩ := ww_bS hf; replace hf := hq; clear hq
              have e9 := ww_lK hf hz_1
              try dsimp only at e9
              omega
          have e9 := hL_1 (D_32, (0 : Int32)) hf
          try dsimp only at e9
          omega
        refine cw_onew (ci := 2) (C := RX8) (T := TX8) (N := 4) rfl (by decide) in_X8 tyX8 tyX8_ok rfl X hK hR hS q1012 q1013 q155 (Nat.le_trans hm9.1 hC.1) (Nat.le_trans hm9.2 hC.2) dX8_lays_87 (fun H hR hS => ?_)
        refine lv_dup hx hb dX8_lays_90 rfl ?_
        refine lv_aload_n hx hb dX8_lays_91 rfl (lv_at hl 3 rfl) ?_
        refine lv_iload hx hb dX8_lays_92 (lv_at hl 6 rfl) ?_
        obtain ⟨D_28, c_28, k_28, h_28, hq⟩ := ww_b3S hf; replace hf := hq; clear hq
        have hm9 : ((((0 + c_9) + c_16) + 1) + c_28) ≤ nc ∧ ((((0 + k_9) + k_16) + 4) + k_28) ≤ ns := by
          obtain ⟨D_29, h_29, hq⟩ := ww_bS hf; replace hf := hq; clear hq
          obtain ⟨r_30, h_30, hq⟩ := ww_bS hf; replace hf := hq; clear hq
          obtain ⟨r_31, h_31, hq⟩ := ww_bS hf; replace hf := hq; clear hq
          obtain ⟨D_32, h_32, hq⟩ := ww_bS hf; replace hf := hq; clear hq
          have hL_1 : ∀ s9 : cw_D × Int32, ww_U (f8_lays_b1 (f8_lays d) ((((0 + c_9) + c_16) + 1) + c_28) ((((0 + k_9) + k_16) + 4) + k_28) a0 D_27.2.2) s9 = some (r, D', nc, ns) → ((((0 + c_9) + c_16) + 1) + c_28) ≤ nc ∧ ((((0 + k_9) + k_16) + 4) + k_28) ≤ ns := by
            clear hf
            refine ww_ind _ (r, D', nc, ns) ?_
            intro s9 z_1 hf hz_1
            obtain ⟨D_33, x8⟩ := s9
            replace hf : f8_lays_b1c (f8_lays d) ((((0 + c_9) + c_16) + 1) + c_28) ((((0 + k_9) + k_16) + 4) + k_28) a0 D_27.2.2 D_33 x8 = some z_1 := hf
            unfold f8_lays_b1c at hf
            show ((((0 + c_9) + c_16) + 1) + c_28) ≤ nc ∧ ((((0 + k_9) + k_16) + 4) + k_28) ≤ ns
            obtain ⟨r_34, h_34, hq⟩ := ww_bS hf; replace hf := hq; clear hq
            refine ww_by (r_34 ≤ x8) (fun c_35 => ?_) (fun c_35 => ?_)
            · replace hf := ww_ip hf c_35
              replace hf := ww_xK hf hz_1
              have e9 := hf
              simp only [Option.some.injEq, Prod.mk.injEq] at e9
              omega
            · replace hf := ww_in hf c_35
              obtain ⟨r_36, h_36, hq⟩ := ww_bS hf; replace hf := hq; clear hq
              obtain ⟨r_37, h_37, hq⟩ := ww_bS hf; replace hf := hq; clear hq
              obtain ⟨r_38, h_38, hq⟩ := ww_bS hf; replace hf := hq; clear hq
              obtain ⟨a_40, e_40, hq⟩ := ww_bS hf; replace hf := hq; clear hq
              subst e_40
              obtain ⟨r_39, h_39, hq⟩ := ww_bS hf; replace hf := hq; clear hq
              obtain ⟨a_41, e_41, hq⟩ := ww_bS hf; replace hf := hq; clear hq
              subst e_41
              obtain ⟨D_42, h_42, hq⟩ := ww_bS hf; replace hf := hq; clear hq
              obtain ⟨r_43, h_43, hq⟩ := ww_bS hf; replace hf := hq; clear hq
              obtain ⟨r_44, h_44, hq⟩ := ww_bS hf; replace hf := hq; clear hq
              obtain ⟨a_45, e_45, hq⟩ := ww_bS hf; replace hf := hq; clear hq
              subst e_45
              obtain ⟨D_46, h_46, hq⟩ := ww_bS hf; replace hf := hq; clear hq
              have e9 := ww_lK hf hz_1
              try dsimp only at e9
              omega
          have e9 := hL_1 (D_32, (0 : Int32)) hf
          try dsimp only at e9
          omega
        refine c8c_8_init (x1 := (some a_25)) X hl.1 hK hR hS (by omega) (by omega) (Nat.le_trans hm9.1 hC.1) (Nat.le_trans hm9.2 hC.2) h_28 (cw_rest (Nat.le_of_ble_eq_true rfl)) dX8_lays_94 (fun H locs hR hS => ?_)
        refine lv_astore (lv' := [(7, .ref D_27.2.2), (6, .ref a_17), (5, .int r_2), (0, .ref a0), (1, .ref a_25), (2, .int x2), (3, .int x3), (4, .int x4)]) hx hb dX8_lays_97 hl (by decide) rfl (fun ls hl => ?_)
        refine lv_aload hx hb dX8_lays_99 (lv_at hl 0 rfl) ?_
        refine lv_iload hx hb dX8_lays_101 (lv_at hl 7 rfl) ?_
        refine lv_iconst (v := (1 : Int32)) hx hb dX8_lays_103 (by decide) ?_
        refine lv_iadd hx hb dX8_lays_104 ?_
        refine lv_iconst (v := (2 : Int32)) hx hb dX8_lays_105 (by decide) ?_
        refine lv_idiv hx hb dX8_lays_106 (by decide) ?_
        obtain ⟨D_29, h_29, hq⟩ := ww_bS hf; replace hf := hq; clear hq
        refine c8p_22 X hK hR hS h_29 dX8_lays_107 (fun H locs hR hS => ?_)
        refine lv_aload_n hx hb dX8_lays_110 rfl (lv_at hl 3 rfl) ?_
        refine lv_dup hx hb dX8_lays_111 rfl ?_
        obtain ⟨r_30, h_30, hq⟩ := ww_bS hf; replace hf := hq; clear hq
        refine c8g_22 X hK hR h_30 dX8_lays_112 ?_
        refine lv_aload hx hb dX8_lays_115 (lv_at hl 0 rfl) ?_
        obtain ⟨r_31, h_31, hq⟩ := ww_bS hf; replace hf := hq; clear hq
        refine c8g_22 X hK hR h_31 dX8_lays_117 ?_
        refine lv_isub hx hb dX8_lays_120 ?_
        obtain ⟨D_32, h_32, hq⟩ := ww_bS hf; replace hf := hq; clear hq
        refine c8p_22 X hK hR hS h_32 dX8_lays_121 (fun H locs hR hS => ?_)
        refine lv_iconst (v := (0 : Int32)) hx hb dX8_lays_124 (by decide) ?_
        refine lv_istore (lv' := [(8, .int (0 : Int32)), (7, .ref D_27.2.2), (6, .ref a_17), (5, .int r_2), (0, .ref a0), (1, .ref a_25), (2, .int x2), (3, .int x3), (4, .int x4)]) hx hb dX8_lays_125 hl (by decide) rfl (fun ls hl => ?_)
        have hL_1 : ∀ s9 : cw_D × Int32, ww_U (f8_lays_b1 (f8_lays d) ((((0 + c_9) + c_16) + 1) + c_28) ((((0 + k_9) + k_16) + 4) + k_28) a0 D_27.2.2) s9 = some (r, D', nc, ns) → (((((0 + c_9) + c_16) + 1) + c_28) ≤ nc ∧ ((((0 + k_9) + k_16) + 4) + k_28) ≤ ns) ∧ (∀ (H : Heap) (locs : List Loc) (ls : Array Slot), cw_H E A s9.1 H → va_S A s.heap H locs → lv_has ls 9 [(0, .ref a0), (7, .ref D_27.2.2), (8, .int s9.2)] → W p l e Rm s m args below meth c H locs ((((0 + c_9) + c_16) + 1) + c_28) ((((0 + k_9) + k_16) + 4) + k_28) Q (F0 m 127 ls [])) := by
          clear hf
          refine ww_ind _ (r, D', nc, ns) ?_
          intro s9 z_1 hf hz_1
          obtain ⟨D_33, x8⟩ := s9
          replace hf : f8_lays_b1c (f8_lays d) ((((0 + c_9) + c_16) + 1) + c_28) ((((0 + k_9) + k_16) + 4) + k_28) a0 D_27.2.2 D_33 x8 = some z_1 := hf
          unfold f8_lays_b1c at hf
          have hm9 : ((((0 + c_9) + c_16) + 1) + c_28) ≤ nc ∧ ((((0 + k_9) + k_16) + 4) + k_28) ≤ ns := by
            show ((((0 + c_9) + c_16) + 1) + c_28) ≤ nc ∧ ((((0 + k_9) + k_16) + 4) + k_28) ≤ ns
            obtain ⟨r_34, h_34, hq⟩ := ww_bS hf; replace hf := hq; clear hq
            refine ww_by (r_34 ≤ x8) (fun c_35 => ?_) (fun c_35 => ?_)
            · replace hf := ww_ip hf c_35
              replace hf := ww_xK hf hz_1
              have e9 := hf
              simp only [Option.some.injEq, Prod.mk.injEq] at e9
              omega
            · replace hf := ww_in hf c_35
              obtain ⟨r_36, h_36, hq⟩ := ww_bS hf; replace hf := hq; clear hq
              obtain ⟨r_37, h_37, hq⟩ := ww_bS hf; replace hf := hq; clear hq
              obtain ⟨r_38, h_38, hq⟩ := ww_bS hf; replace hf := hq; clear hq
              obtain ⟨a_40, e_40, hq⟩ := ww_bS hf; replace hf := hq; clear hq
              subst e_40
              obtain ⟨r_39, h_39, hq⟩ := ww_bS hf; replace hf := hq; clear hq
              obtain ⟨a_41, e_41, hq⟩ := ww_bS hf; replace hf := hq; clear hq
              subst e_41
              obtain ⟨D_42, h_42, hq⟩ := ww_bS hf; replace hf := hq; clear hq
              obtain ⟨r_43, h_43, hq⟩ := ww_bS hf; replace hf := hq; clear hq
              obtain ⟨r_44, h_44, hq⟩ := ww_bS hf; replace hf := hq; clear hq
              obtain ⟨a_45, e_45, hq⟩ := ww_bS hf; replace hf := hq; clear hq
              subst e_45
              obtain ⟨D_46, h_46, hq⟩ := ww_bS hf; replace hf := hq; clear hq
              have e9 := (ww_lK hf hz_1).1
              try dsimp only at e9
              omega
          refine ⟨hm9, ?_⟩
          try clear hl
          try clear hS
          try clear hR
          intro H locs ls hR hS hl
          replace hR : cw_H E A D_33 H := hR
          replace hl : lv_has ls 9 [(0, .ref a0), (7, .ref D_27.2.2), (8, .int x8)] := hl
          refine lv_iload hx hb dX8_lays_127 (lv_at hl 2 rfl) ?_
          refine lv_aload hx hb dX8_lays_129 (lv_at hl 1 rfl) ?_
          obtain ⟨r_34, h_34, hq⟩ := ww_bS hf; replace hf := hq; clear hq
          refine c8g_22 X hK hR h_34 dX8_lays_131 ?_
          refine lv_icmp_ge (tgt := 176) hx hb dX8_lays_134 (by decide) (fun c_35 => ?_) (fun c_35 => ?_)
          · replace hf := ww_ip hf c_35
            replace hf := ww_xK hf hz_1
            refine lv_aload hx hb dX8_lays_176 (lv_at hl 1 rfl) ?_
            exact hend (v := (some D_27.2.2)) dX8_lays_178 rfl (Or.inl ⟨_, rfl⟩) hf hR hS
          · replace hf := ww_in hf c_35
            refine lv_aload hx hb dX8_lays_137 (lv_at hl 1 rfl) ?_
            obtain ⟨r_36, h_36, hq⟩ := ww_bS hf; replace hf := hq; clear hq
            refine c8g_9 X hK hR h_36 dX8_lays_139 ?_
            refine lv_iload hx hb dX8_lays_142 (lv_at hl 2 rfl) ?_
            refine lv_aload_n hx hb dX8_lays_144 rfl (lv_at hl 0 rfl) ?_
            obtain ⟨r_37, h_37, hq⟩ := ww_bS hf; replace hf := hq; clear hq
            refine c8g_9 X hK hR h_37 dX8_lays_145 ?_
            refine lv_aload_n hx hb dX8_lays_148 rfl (lv_at hl 0 rfl) ?_
            obtain ⟨r_38, h_38, hq⟩ := ww_bS hf; replace hf := hq; clear hq
            refine c8g_22 X hK hR h_38 dX8_lays_149 ?_
            refine lv_iload hx hb dX8_lays_152 (lv_at hl 2 rfl) ?_
            refine lv_iadd hx hb dX8_lays_154 ?_
            obtain ⟨a_40, e_40, hq⟩ := ww_bS hf; replace hf := hq; clear hq
            subst e_40
            obtain ⟨r_39, h_39, hq⟩ := ww_bS hf; replace hf := hq; clear hq
            refine cw_oxR (x := some a_40) X hK hR rfl h_39 dX8_lays_155 ?_
            obtain ⟨a_41, e_41, hq⟩ := ww_bS hf; replace hf := hq; clear hq
            subst e_41
            obtain ⟨D_42, h_42, hq⟩ := ww_bS hf; replace hf := hq; clear hq
            refine cw_otR (x' := some a_41) (v := r_39) X hK hR hS rfl h_42 dX8_lays_156 (fun H locs hR hS => ?_)
            refine lv_aload_n hx hb dX8_lays_157 rfl (lv_at hl 0 rfl) ?_
            obtain ⟨r_43, h_43, hq⟩ := ww_bS hf; replace hf := hq; clear hq
            refine c8g_9 X hK hR h_43 dX8_lays_158 ?_
            refine lv_aload_n hx hb dX8_lays_161 rfl (lv_at hl 0 rfl) ?_
            obtain ⟨r_44, h_44, hq⟩ := ww_bS hf; replace hf := hq; clear hq
            refine c8g_22 X hK hR h_44 dX8_lays_162 ?_
            refine lv_iload hx hb dX8_lays_165 (lv_at hl 2 rfl) ?_
            refine lv_iadd hx hb dX8_lays_167 ?_
            refine lv_null hx hb dX8_lays_168 ?_
            obtain ⟨a_45, e_45, hq⟩ := ww_bS hf; replace hf := hq; clear hq
            subst e_45
            obtain ⟨D_46, h_46, hq⟩ := ww_bS hf; replace hf := hq; clear hq
            refine cw_otR (x' := some a_45) (v := none) X hK hR hS rfl h_46 dX8_lays_169 (fun H locs hR hS => ?_)
            refine lv_iinc (k := 2) (v := x8 + (1 : Int32)) (lv' := [(8, .int (x8 + (1 : Int32))), (0, .ref a0), (7, .ref D_27.2.2)]) hx hb dX8_lays_170 hl rfl rfl (by decide) rfl (fun ls hl => ?_)
            refine lv_goto (tgt := 127) hx hb dX8_lays_173 (by decide) ?_
            exact (ww_lK hf hz_1).2 _ _ _ hR hS (lv_sub hl [1, 2, 0] rfl)
        exact (hL_1 (D_32, (0 : Int32)) hf).2 _ _ _ hR hS (lv_sub hl [4, 1, 0] rfl)
      · replace hf := ww_in hf c_24
        refine lv_null hx hb dX8_lays_81 ?_
        exact hend (v := none) dX8_lays_82 rfl (Or.inl ⟨_, rfl⟩) hf hR hS
section C_8_lays_i
variable {p : Program} {l : Launch} {e : Env} {R : Room} {s : State} {m : MethodId} {args : Array Value} {below : List Frame} {meth : Method} {c : Code} {H : Heap} {locs : List Loc} {cells slots : Nat} {Q : State → Prop}
variable {cc : ByteArray} {pc : Nat} {ls : Array Slot} {rest : List Value} {nL : Nat} {E : cw_E} {A : Nat → Prop} {H0 : Heap}
theorem c1i_lays {D : cw_D} {a0 : Nat} {x1 : Option Nat} {x2 : Int32} {x3 : Int32} {x4 : Int32} {r : Option Nat} {D' : cw_D} {nc ns : Nat} (X : ww_C p m c cc nL s args RX1 lw_all) (hsz : ls.size = nL) (hK : cw_K E A s) (hR : cw_H E A D H) (hS : va_S A s.heap H locs) (hF : 20 ≤ R.frames) (hLo : 474 ≤ R.locals) (hc : cells + nc ≤ R.cells) (hs : slots + ns ≤ R.slots) (hf : f5r_lays (f8_lays 8) D a0 x1 x2 x3 x4 = some (r, D', nc, ns)) (hrest : (rest.map fun v => v.category).sum ≤ 8) {count : Nat} (hdg : decode cc pc = .ok (.invokeinterface 298 count, 5)) (kk : ∀ (H1 : Heap) (locs1 : List Loc), cw_H E A D' H1 → va_S A s.heap H1 locs1 → W p l e R s m args below meth c H1 locs1 (cells + nc) (slots + ns) Q (F0 m (pc + 5) ls (va_rf r :: rest))) : W p l e R s m args below meth c H locs cells slots Q (F0 m pc ls (.int x4 :: .int x3 :: .int x2 :: va_rf x1 :: .ref a0 :: rest)) := by
  unfold f5r_lays at hf
  by_cases hkd : cw_kd D [1] (some a0) = true
  · rw [if_pos hkd] at hf
    exact va_callFq (va_runF (C := RX7) (x := ⟨"WideMap$Node", "lays", "(LWideMap$Token;III)LWideMap$Node;"⟩) (As := [va_rf x1, .int x2, .int x3, .int x4]) (rest := rest) (b := a0) (cw_cls (k := 1) (C := RX7) (T := TX7) (N := 5) rfl hK) X (met7_lays l _ _ _ _ _ _ _ _ _ _ hf) (va_cwF 4 X.2.2.2.2 (cw_F q1040 q1052 q1054 q154 q1056) rfl rfl rfl (hK.2.2.2.1 ("WideMap$Leaf", ⟨"WideMap$Node", "lays", "(LWideMap$Token;III)LWideMap$Node;"⟩, ⟨"WideMap$Leaf", "lays", "(LWideMap$Token;III)LWideMap$Node;"⟩) (by decide +kernel)) (by decide +kernel) ⟨(show 4 ≤ R.frames by omega), (show 110 ≤ R.locals by omega)⟩) (cw_pV hK hR hS (cw_rc (k := 1) (C := RX7) (T := TX7) (N := 5) rfl (by decide) hK hR hkd)) rfl rfl hsz rfl (lv_room hrest) hdg ⟨hc, hs⟩) hS (fun q _ h => h) (fun q h => h) (fun r' u t H1 locs1 ht hvm hw hB hz1 hk1 hS1 => by subst hw; rw [ht] at hB; exact kk H1 locs1 hB hS1)
  · rw [if_neg hkd] at hf
    by_cases hkd : cw_kd D [2] (some a0) = true
    · rw [if_pos hkd] at hf
      exact va_callFq (va_runF (C := RX8) (x := ⟨"WideMap$Node", "lays", "(LWideMap$Token;III)LWideMap$Node;"⟩) (As := [va_rf x1, .int x2, .int x3, .int x4]) (rest := rest) (b := a0) (cw_cls (k := 2) (C := RX8) (T := TX8) (N := 4) rfl hK) X (met8_lays l 8 _ _ _ _ _ _ _ _ _ _ hf) (va_cwF 4 X.2.2.2.2 (cw_F q1040 q1043 q1045 q155 q1047) rfl rfl rfl (hK.2.2.2.1 ("WideMap$Inner", ⟨"WideMap$Node", "lays", "(LWideMap$Token;III)LWideMap$Node;"⟩, ⟨"WideMap$Inner", "lays", "(LWideMap$Token;III)LWideMap$Node;"⟩) (by decide +kernel)) (by decide +kernel) ⟨(show 20 ≤ R.frames by omega), (show 474 ≤ R.locals by omega)⟩) (cw_pV hK hR hS (cw_rc (k := 2) (C := RX8) (T := TX8) (N := 4) rfl (by decide) hK hR hkd)) rfl rfl hsz rfl (lv_room hrest) hdg ⟨hc, hs⟩) hS (fun q _ h => h) (fun q h => h) (fun r' u t H1 locs1 ht hvm hw hB hz1 hk1 hS1 => by subst hw; rw [ht] at hB; exact kk H1 locs1 hB hS1)
    · rw [if_neg hkd] at hf
      cases hf
theorem c8i_lays {D : cw_D} {a0 : Nat} {x1 : Option Nat} {x2 : Int32} {x3 : Int32} {x4 : Int32} {r : Option Nat} {D' : cw_D} {nc ns : Nat} (X : ww_C p m c cc nL s args RX8 lw_all) (hsz : ls.size = nL) (hK : cw_K E A s) (hR : cw_H E A D H) (hS : va_S A s.heap H locs) (hF : 20 ≤ R.frames) (hLo : 474 ≤ R.locals) (hc : cells + nc ≤ R.cells) (hs : slots + ns ≤ R.slots) (hf : f5r_lays (f8_lays 8) D a0 x1 x2 x3 x4 = some (r, D', nc, ns)) (hrest : (rest.map fun v => v.category).sum ≤ 8) {count : Nat} (hdg : decode cc pc = .ok (.invokeinterface 34 count, 5)) (kk : ∀ (H1 : Heap) (locs1 : List Loc), cw_H E A D' H1 → va_S A s.heap H1 locs1 → W p l e R s m args below meth c H1 locs1 (cells + nc) (slots + ns) Q (F0 m (pc + 5) ls (va_rf r :: rest))) : W p l e R s m args below meth c H locs cells slots Q (F0 m pc ls (.int x4 :: .int x3 :: .int x2 :: va_rf x1 :: .ref a0 :: rest)) := by
  unfold f5r_lays at hf
  by_cases hkd : cw_kd D [1] (some a0) = true
  · rw [if_pos hkd] at hf
    exact va_callFq (va_runF (C := RX7) (x := ⟨"WideMap$Node", "lays", "(LWideMap$Token;III)LWideMap$Node;"⟩) (As := [va_rf x1, .int x2, .int x3, .int x4]) (rest := rest) (b := a0) (cw_cls (k := 1) (C := RX7) (T := TX7) (N := 5) rfl hK) X (met7_lays l _ _ _ _ _ _ _ _ _ _ hf) (va_cwF 4 X.2.2.2.2 (cw_F q1051 q1052 q1054 q154 q1056) rfl rfl rfl (hK.2.2.2.1 ("WideMap$Leaf", ⟨"WideMap$Node", "lays", "(LWideMap$Token;III)LWideMap$Node;"⟩, ⟨"WideMap$Leaf", "lays", "(LWideMap$Token;III)LWideMap$Node;"⟩) (by decide +kernel)) (by decide +kernel) ⟨(show 4 ≤ R.frames by omega), (show 110 ≤ R.locals by omega)⟩) (cw_pV hK hR hS (cw_rc (k := 1) (C := RX7) (T := TX7) (N := 5) rfl (by decide) hK hR hkd)) rfl rfl hsz rfl (lv_room hrest) hdg ⟨hc, hs⟩) hS (fun q _ h => h) (fun q h => h) (fun r' u t H1 locs1 ht hvm hw hB hz1 hk1 hS1 => by subst hw; rw [ht] at hB; exact kk H1 locs1 hB hS1)
  · rw [if_neg hkd] at hf
    by_cases hkd : cw_kd D [2] (some a0) = true
    · rw [if_pos hkd] at hf
      exact va_callFq (va_runF (C := RX8) (x := ⟨"WideMap$Node", "lays", "(LWideMap$Token;III)LWideMap$Node;"⟩) (As := [va_rf x1, .int x2, .int x3, .int x4]) (rest := rest) (b := a0) (cw_cls (k := 2) (C := RX8) (T := TX8) (N := 4) rfl hK) X (met8_lays l 8 _ _ _ _ _ _ _ _ _ _ hf) (va_cwF 4 X.2.2.2.2 (cw_F q1051 q1043 q1045 q155 q1047) rfl rfl rfl (hK.2.2.2.1 ("WideMap$Inner", ⟨"WideMap$Node", "lays", "(LWideMap$Token;III)LWideMap$Node;"⟩, ⟨"WideMap$Inner", "lays", "(LWideMap$Token;III)LWideMap$Node;"⟩) (by decide +kernel)) (by decide +kernel) ⟨(show 20 ≤ R.frames by omega), (show 474 ≤ R.locals by omega)⟩) (cw_pV hK hR hS (cw_rc (k := 2) (C := RX8) (T := TX8) (N := 4) rfl (by decide) hK hR hkd)) rfl rfl hsz rfl (lv_room hrest) hdg ⟨hc, hs⟩) hS (fun q _ h => h) (fun q h => h) (fun r' u t H1 locs1 ht hvm hw hB hz1 hk1 hS1 => by subst hw; rw [ht] at hB; exact kk H1 locs1 hB hS1)
    · rw [if_neg hkd] at hf
      cases hf
end C_8_lays_i
