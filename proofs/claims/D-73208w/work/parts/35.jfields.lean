section JFR
variable {p : Program} {l : Launch} {e : Env} {R : Room} {s : State} {m : MethodId} {args : Array Value} {below : List Frame} {meth : Method} {c : Code} {H : Heap} {locs : List Loc} {cells slots : Nat} {Q : State → Prop}
variable {cc : ByteArray} {pc : Nat} {ls : Array Slot} {rest : List Value} {nL : Nat} {E : cw_E} {A : Nat → Prop} {H0 : Heap}
variable {D D' : cw_D} {a0 : Nat}
theorem cJ2g_15 (X : ww_C p m c cc nL s args RJ2 lw_all) (hK : cw_K E A s) (hR : cw_H E A D H) {v : Option Nat} (h : cw_gR D [4] a0 0 = some v) (hdg : decode cc pc = .ok (.getfield 15, 3)) (kk : W p l e R s m args below meth c H locs cells slots Q (F0 m (pc + 3) ls (va_rf v :: rest))) : W p l e R s m args below meth c H locs cells slots Q (F0 m pc ls (.ref a0 :: rest)) := by
  obtain ⟨o, ho, hm, hv⟩ := cw_gR_o h
  have hm : o.1 = 4 := by simpa using hm
  exact cw_oget (ci := 4) (C := RJ3) (T := TJ3) (N := 4) (x := some a0) rfl in_J3 X hK hR 0 (by decide) (Or.inl (X.2.2.2.2 _ q443)) (fun _ h9 => h9) rfl ho hm (by decide) hv hdg kk
theorem cJ2p_15 (X : ww_C p m c cc nL s args RJ2 lw_all) (hK : cw_K E A s) (hR : cw_H E A D H) (hS : va_S A H0 H locs) {v : Option Nat} (h : cw_p D [4] a0 0 (va_rf v) = some D') (hdg : decode cc pc = .ok (.putfield 15, 3)) (kk : ∀ (H1 : Heap) (locs1 : List Loc), cw_H E A D' H1 → va_S A H0 H1 locs1 → W p l e R s m args below meth c H1 locs1 cells slots Q (F0 m (pc + 3) ls (rest))) : W p l e R s m args below meth c H locs cells slots Q (F0 m pc ls (va_rf v :: .ref a0 :: rest)) := by
  obtain ⟨o, ho, hm, hw, rfl⟩ := cw_p_o h
  have hm : o.1 = 4 := by simpa using hm
  exact cw_oput (ci := 4) (C := RJ3) (T := TJ3) (N := 4) (x := some a0) rfl in_J3 tyJ3 tyJ3_ok nmJ3 X hK hR hS 0 (by decide) q443 (fun _ h9 => h9) (Or.inl rfl) rfl ho hm (by decide) hw rfl (by cases v <;> rfl) (by cases v <;> rfl) hdg kk
theorem cJ2g_22 (X : ww_C p m c cc nL s args RJ2 lw_all) (hK : cw_K E A s) (hR : cw_H E A D H) {v : Int32} (h : cw_gI D [4] a0 1 = some v) (hdg : decode cc pc = .ok (.getfield 22, 3)) (kk : W p l e R s m args below meth c H locs cells slots Q (F0 m (pc + 3) ls (.int v :: rest))) : W p l e R s m args below meth c H locs cells slots Q (F0 m pc ls (.ref a0 :: rest)) := by
  obtain ⟨o, ho, hm, hv⟩ := cw_gI_o h
  have hm : o.1 = 4 := by simpa using hm
  exact cw_oget (ci := 4) (C := RJ3) (T := TJ3) (N := 4) (x := some a0) rfl in_J3 X hK hR 1 (by decide) (Or.inl (X.2.2.2.2 _ q444)) (fun _ h9 => h9) rfl ho hm (by decide) hv hdg kk
theorem cJ2p_22 (X : ww_C p m c cc nL s args RJ2 lw_all) (hK : cw_K E A s) (hR : cw_H E A D H) (hS : va_S A H0 H locs) (h : cw_p D [4] a0 1 (.int (0 : Int32)) = some D') (hdg : decode cc pc = .ok (.putfield 22, 3)) (kk : ∀ (H1 : Heap) (locs1 : List Loc), cw_H E A D' H1 → va_S A H0 H1 locs1 → W p l e R s m args below meth c H1 locs1 cells slots Q (F0 m (pc + 3) ls (rest))) : W p l e R s m args below meth c H locs cells slots Q (F0 m pc ls (.int (0 : Int32) :: .ref a0 :: rest)) := by
  obtain ⟨o, ho, hm, hw, rfl⟩ := cw_p_o h
  have hm : o.1 = 4 := by simpa using hm
  exact cw_oput (ci := 4) (C := RJ3) (T := TJ3) (N := 4) (x := some a0) rfl in_J3 tyJ3 tyJ3_ok nmJ3 X hK hR hS 1 (by decide) q444 (fun _ h9 => h9) (Or.inl rfl) rfl ho hm (by decide) hw rfl (by decide) (by decide) hdg kk
theorem cJ2g_79 (X : ww_C p m c cc nL s args RJ2 lw_all) (hK : cw_K E A s) (hR : cw_H E A D H) {v : Int32} (h : cw_gI D [4] a0 3 = some v) (hdg : decode cc pc = .ok (.getfield 79, 3)) (kk : W p l e R s m args below meth c H locs cells slots Q (F0 m (pc + 3) ls (.int v :: rest))) : W p l e R s m args below meth c H locs cells slots Q (F0 m pc ls (.ref a0 :: rest)) := by
  obtain ⟨o, ho, hm, hv⟩ := cw_gI_o h
  have hm : o.1 = 4 := by simpa using hm
  exact cw_oget (ci := 4) (C := RJ3) (T := TJ3) (N := 4) (x := some a0) rfl in_J3 X hK hR 3 (by decide) (Or.inl (X.2.2.2.2 _ q446)) (fun _ h9 => h9) rfl ho hm (by decide) hv hdg kk
theorem cJ2p_79 (X : ww_C p m c cc nL s args RJ2 lw_all) (hK : cw_K E A s) (hR : cw_H E A D H) (hS : va_S A H0 H locs) {v : Int32} (h : cw_p D [4] a0 3 (.int v) = some D') (hdg : decode cc pc = .ok (.putfield 79, 3)) (kk : ∀ (H1 : Heap) (locs1 : List Loc), cw_H E A D' H1 → va_S A H0 H1 locs1 → W p l e R s m args below meth c H1 locs1 cells slots Q (F0 m (pc + 3) ls (rest))) : W p l e R s m args below meth c H locs cells slots Q (F0 m pc ls (.int v :: .ref a0 :: rest)) := by
  obtain ⟨o, ho, hm, hw, rfl⟩ := cw_p_o h
  have hm : o.1 = 4 := by simpa using hm
  exact cw_oput (ci := 4) (C := RJ3) (T := TJ3) (N := 4) (x := some a0) rfl in_J3 tyJ3 tyJ3_ok nmJ3 X hK hR hS 3 (by decide) q446 (fun _ h9 => h9) (Or.inl rfl) rfl ho hm (by decide) hw rfl rfl rfl hdg kk
theorem cJ4g_9 (X : ww_C p m c cc nL s args RJ4 lw_all) (hK : cw_K E A s) (hR : cw_H E A D H) {v : Option Nat} (h : cw_gR D [3] a0 0 = some v) (hdg : decode cc pc = .ok (.getfield 9, 3)) (kk : W p l e R s m args below meth c H locs cells slots Q (F0 m (pc + 3) ls (va_rf v :: rest))) : W p l e R s m args below meth c H locs cells slots Q (F0 m pc ls (.ref a0 :: rest)) := by
  obtain ⟨o, ho, hm, hv⟩ := cw_gR_o h
  have hm : o.1 = 3 := by simpa using hm
  exact cw_oget (ci := 3) (C := RJ4) (T := TJ4) (N := 4) (x := some a0) rfl in_J4 X hK hR 0 (by decide) (Or.inl (X.2.2.2.2 _ q601)) (fun _ h9 => h9) rfl ho hm (by decide) hv hdg kk
theorem cJ4p_9 (X : ww_C p m c cc nL s args RJ4 lw_all) (hK : cw_K E A s) (hR : cw_H E A D H) (hS : va_S A H0 H locs) {v : Option Nat} (h : cw_p D [3] a0 0 (va_rf v) = some D') (hdg : decode cc pc = .ok (.putfield 9, 3)) (hin : meth.name = "<init>") (kk : ∀ (H1 : Heap) (locs1 : List Loc), cw_H E A D' H1 → va_S A H0 H1 locs1 → W p l e R s m args below meth c H1 locs1 cells slots Q (F0 m (pc + 3) ls (rest))) : W p l e R s m args below meth c H locs cells slots Q (F0 m pc ls (va_rf v :: .ref a0 :: rest)) := by
  obtain ⟨o, ho, hm, hw, rfl⟩ := cw_p_o h
  have hm : o.1 = 3 := by simpa using hm
  exact cw_oput (ci := 3) (C := RJ4) (T := TJ4) (N := 4) (x := some a0) rfl in_J4 tyJ4 tyJ4_ok nmJ4 X hK hR hS 0 (by decide) q601 (fun _ h9 => h9) (Or.inr ⟨rfl, hin, rfl⟩) rfl ho hm (by decide) hw rfl (by cases v <;> rfl) (by cases v <;> rfl) hdg kk
theorem cJ4g_15 (X : ww_C p m c cc nL s args RJ4 lw_all) (hK : cw_K E A s) (hR : cw_H E A D H) {v : Int32} (h : cw_gI D [3] a0 1 = some v) (hdg : decode cc pc = .ok (.getfield 15, 3)) (kk : W p l e R s m args below meth c H locs cells slots Q (F0 m (pc + 3) ls (.int v :: rest))) : W p l e R s m args below meth c H locs cells slots Q (F0 m pc ls (.ref a0 :: rest)) := by
  obtain ⟨o, ho, hm, hv⟩ := cw_gI_o h
  have hm : o.1 = 3 := by simpa using hm
  exact cw_oget (ci := 3) (C := RJ4) (T := TJ4) (N := 4) (x := some a0) rfl in_J4 X hK hR 1 (by decide) (Or.inl (X.2.2.2.2 _ q602)) (fun _ h9 => h9) rfl ho hm (by decide) hv hdg kk
theorem cJ4p_15 (X : ww_C p m c cc nL s args RJ4 lw_all) (hK : cw_K E A s) (hR : cw_H E A D H) (hS : va_S A H0 H locs) (h : cw_p D [3] a0 1 (.int (0 : Int32)) = some D') (hdg : decode cc pc = .ok (.putfield 15, 3)) (hin : meth.name = "<init>") (kk : ∀ (H1 : Heap) (locs1 : List Loc), cw_H E A D' H1 → va_S A H0 H1 locs1 → W p l e R s m args below meth c H1 locs1 cells slots Q (F0 m (pc + 3) ls (rest))) : W p l e R s m args below meth c H locs cells slots Q (F0 m pc ls (.int (0 : Int32) :: .ref a0 :: rest)) := by
  obtain ⟨o, ho, hm, hw, rfl⟩ := cw_p_o h
  have hm : o.1 = 3 := by simpa using hm
  exact cw_oput (ci := 3) (C := RJ4) (T := TJ4) (N := 4) (x := some a0) rfl in_J4 tyJ4 tyJ4_ok nmJ4 X hK hR hS 1 (by decide) q602 (fun _ h9 => h9) (Or.inr ⟨rfl, hin, rfl⟩) rfl ho hm (by decide) hw rfl (by decide) (by decide) hdg kk
theorem cJ4g_19 (X : ww_C p m c cc nL s args RJ4 lw_all) (hK : cw_K E A s) (hR : cw_H E A D H) {v : Int32} (h : cw_gI D [3] a0 2 = some v) (hdg : decode cc pc = .ok (.getfield 19, 3)) (kk : W p l e R s m args below meth c H locs cells slots Q (F0 m (pc + 3) ls (.int v :: rest))) : W p l e R s m args below meth c H locs cells slots Q (F0 m pc ls (.ref a0 :: rest)) := by
  obtain ⟨o, ho, hm, hv⟩ := cw_gI_o h
  have hm : o.1 = 3 := by simpa using hm
  exact cw_oget (ci := 3) (C := RJ4) (T := TJ4) (N := 4) (x := some a0) rfl in_J4 X hK hR 2 (by decide) (Or.inl (X.2.2.2.2 _ q603)) (fun _ h9 => h9) rfl ho hm (by decide) hv hdg kk
theorem cJ4p_19 (X : ww_C p m c cc nL s args RJ4 lw_all) (hK : cw_K E A s) (hR : cw_H E A D H) (hS : va_S A H0 H locs) {v : Int32} (h : cw_p D [3] a0 2 (.int v) = some D') (hdg : decode cc pc = .ok (.putfield 19, 3)) (kk : ∀ (H1 : Heap) (locs1 : List Loc), cw_H E A D' H1 → va_S A H0 H1 locs1 → W p l e R s m args below meth c H1 locs1 cells slots Q (F0 m (pc + 3) ls (rest))) : W p l e R s m args below meth c H locs cells slots Q (F0 m pc ls (.int v :: .ref a0 :: rest)) := by
  obtain ⟨o, ho, hm, hw, rfl⟩ := cw_p_o h
  have hm : o.1 = 3 := by simpa using hm
  exact cw_oput (ci := 3) (C := RJ4) (T := TJ4) (N := 4) (x := some a0) rfl in_J4 tyJ4 tyJ4_ok nmJ4 X hK hR hS 2 (by decide) q603 (fun _ h9 => h9) (Or.inl rfl) rfl ho hm (by decide) hw rfl rfl rfl hdg kk
theorem cJ4g_23 (X : ww_C p m c cc nL s args RJ4 lw_all) (hK : cw_K E A s) (hR : cw_H E A D H) {v : Int32} (h : cw_gI D [3] a0 3 = some v) (hdg : decode cc pc = .ok (.getfield 23, 3)) (kk : W p l e R s m args below meth c H locs cells slots Q (F0 m (pc + 3) ls (.int v :: rest))) : W p l e R s m args below meth c H locs cells slots Q (F0 m pc ls (.ref a0 :: rest)) := by
  obtain ⟨o, ho, hm, hv⟩ := cw_gI_o h
  have hm : o.1 = 3 := by simpa using hm
  exact cw_oget (ci := 3) (C := RJ4) (T := TJ4) (N := 4) (x := some a0) rfl in_J4 X hK hR 3 (by decide) (Or.inl (X.2.2.2.2 _ q604)) (fun _ h9 => h9) rfl ho hm (by decide) hv hdg kk
theorem cJ4p_23 (X : ww_C p m c cc nL s args RJ4 lw_all) (hK : cw_K E A s) (hR : cw_H E A D H) (hS : va_S A H0 H locs) (h : cw_p D [3] a0 3 (.int (1 : Int32)) = some D') (hdg : decode cc pc = .ok (.putfield 23, 3)) (kk : ∀ (H1 : Heap) (locs1 : List Loc), cw_H E A D' H1 → va_S A H0 H1 locs1 → W p l e R s m args below meth c H1 locs1 cells slots Q (F0 m (pc + 3) ls (rest))) : W p l e R s m args below meth c H locs cells slots Q (F0 m pc ls (.int (1 : Int32) :: .ref a0 :: rest)) := by
  obtain ⟨o, ho, hm, hw, rfl⟩ := cw_p_o h
  have hm : o.1 = 3 := by simpa using hm
  exact cw_oput (ci := 3) (C := RJ4) (T := TJ4) (N := 4) (x := some a0) rfl in_J4 tyJ4 tyJ4_ok nmJ4 X hK hR hS 3 (by decide) q604 (fun _ h9 => h9) (Or.inl rfl) rfl ho hm (by decide) hw rfl (by decide) (by decide) hdg kk
end JFR
