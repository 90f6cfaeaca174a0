section CFR
variable {p : Program} {l : Launch} {e : Env} {R : Room} {s : State} {m : MethodId} {args : Array Value} {below : List Frame} {meth : Method} {c : Code} {H : Heap} {locs : List Loc} {cells slots : Nat} {Q : State → Prop}
variable {cc : ByteArray} {pc : Nat} {ls : Array Slot} {rest : List Value} {nL : Nat} {E : cw_E} {A : Nat → Prop} {H0 : Heap}
variable {D D' : cw_D} {a0 : Nat}
theorem c1g_32 (X : ww_C p m c cc nL s args RX1 lw_all) (hK : cw_K E A s) (hR : cw_H E A D H) (hdg : decode cc pc = .ok (.getfield 32, 3)) (kk : W p l e R s m args below meth c H locs cells slots Q (F0 m (pc + 3) ls (.ref (E.1.2.1 0) :: rest))) : W p l e R s m args below meth c H locs cells slots Q (F0 m pc ls (.ref E.1.1 :: rest)) :=
  cw_mget X hK hR 0 (by decide) q245 (fun _ h9 => h9) rfl hdg kk
theorem c1g_39 (X : ww_C p m c cc nL s args RX1 lw_all) (hK : cw_K E A s) (hR : cw_H E A D H) {r : Option Nat} (he : some (ww_R D.1 1) = some r) (hdg : decode cc pc = .ok (.getfield 39, 3)) (kk : W p l e R s m args below meth c H locs cells slots Q (F0 m (pc + 3) ls (va_rf r :: rest))) : W p l e R s m args below meth c H locs cells slots Q (F0 m pc ls (.ref E.1.1 :: rest)) :=
  cw_mget X hK hR 1 (by decide) q246 (fun _ h9 => h9) (by have he := Option.some.inj he; subst he; rfl) hdg kk
theorem c1g_43 (X : ww_C p m c cc nL s args RX1 lw_all) (hK : cw_K E A s) (hR : cw_H E A D H) (hdg : decode cc pc = .ok (.getfield 43, 3)) (kk : W p l e R s m args below meth c H locs cells slots Q (F0 m (pc + 3) ls (.ref (E.1.2.1 2) :: rest))) : W p l e R s m args below meth c H locs cells slots Q (F0 m pc ls (.ref E.1.1 :: rest)) :=
  cw_mget X hK hR 2 (by decide) q247 (fun _ h9 => h9) rfl hdg kk
theorem c1g_124 (X : ww_C p m c cc nL s args RX1 lw_all) (hK : cw_K E A s) (hR : cw_H E A D H) (hdg : decode cc pc = .ok (.getfield 124, 3)) (kk : W p l e R s m args below meth c H locs cells slots Q (F0 m (pc + 3) ls (.int (ww_F D.1 3) :: rest))) : W p l e R s m args below meth c H locs cells slots Q (F0 m pc ls (.ref E.1.1 :: rest)) :=
  cw_mget X hK hR 3 (by decide) q248 (fun _ h9 => h9) rfl hdg kk
theorem c1p_124 (X : ww_C p m c cc nL s args RX1 lw_all) (hK : cw_K E A s) (hR : cw_H E A D H) (hS0 : va_S A H0 H locs) {v : Int32} (hdg : decode cc pc = .ok (.putfield 124, 3)) (kk : ∀ (H1 : Heap) (locs1 : List Loc), cw_H E A (cw_sF D 3 v) H1 → va_S A H0 H1 locs1 → W p l e R s m args below meth c H1 locs1 cells slots Q (F0 m (pc + 3) ls (rest))) : W p l e R s m args below meth c H locs cells slots Q (F0 m pc ls (.int v :: .ref E.1.1 :: rest)) :=
  cw_mputI X hK hR hS0 3 (by decide) q248 (fun _ h9 => h9) rfl rfl hdg kk
theorem c1g_131 (X : ww_C p m c cc nL s args RX1 lw_all) (hK : cw_K E A s) (hR : cw_H E A D H) (hdg : decode cc pc = .ok (.getfield 131, 3)) (kk : W p l e R s m args below meth c H locs cells slots Q (F0 m (pc + 3) ls (.int (ww_F D.1 4) :: rest))) : W p l e R s m args below meth c H locs cells slots Q (F0 m pc ls (.ref E.1.1 :: rest)) :=
  cw_mget X hK hR 4 (by decide) q249 (fun _ h9 => h9) rfl hdg kk
theorem c1p_131 (X : ww_C p m c cc nL s args RX1 lw_all) (hK : cw_K E A s) (hR : cw_H E A D H) (hS0 : va_S A H0 H locs) {v : Int32} (hdg : decode cc pc = .ok (.putfield 131, 3)) (kk : ∀ (H1 : Heap) (locs1 : List Loc), cw_H E A (cw_sF D 4 v) H1 → va_S A H0 H1 locs1 → W p l e R s m args below meth c H1 locs1 cells slots Q (F0 m (pc + 3) ls (rest))) : W p l e R s m args below meth c H locs cells slots Q (F0 m pc ls (.int v :: .ref E.1.1 :: rest)) :=
  cw_mputI X hK hR hS0 4 (by decide) q249 (fun _ h9 => h9) rfl rfl hdg kk
theorem c1g_47 (X : ww_C p m c cc nL s args RX1 lw_all) (hK : cw_K E A s) (hR : cw_H E A D H) (hdg : decode cc pc = .ok (.getfield 47, 3)) (kk : W p l e R s m args below meth c H locs cells slots Q (F0 m (pc + 3) ls (.ref (E.1.2.1 5) :: rest))) : W p l e R s m args below meth c H locs cells slots Q (F0 m pc ls (.ref E.1.1 :: rest)) :=
  cw_mget X hK hR 5 (by decide) q250 (fun _ h9 => h9) rfl hdg kk
theorem c1g_51 (X : ww_C p m c cc nL s args RX1 lw_all) (hK : cw_K E A s) (hR : cw_H E A D H) (hdg : decode cc pc = .ok (.getfield 51, 3)) (kk : W p l e R s m args below meth c H locs cells slots Q (F0 m (pc + 3) ls (.ref (E.1.2.1 6) :: rest))) : W p l e R s m args below meth c H locs cells slots Q (F0 m pc ls (.ref E.1.1 :: rest)) :=
  cw_mget X hK hR 6 (by decide) q251 (fun _ h9 => h9) rfl hdg kk
theorem c1g_199 (X : ww_C p m c cc nL s args RX1 lw_all) (hK : cw_K E A s) (hR : cw_H E A D H) (hdg : decode cc pc = .ok (.getfield 199, 3)) (kk : W p l e R s m args below meth c H locs cells slots Q (F0 m (pc + 3) ls (.int (ww_F D.1 7) :: rest))) : W p l e R s m args below meth c H locs cells slots Q (F0 m pc ls (.ref E.1.1 :: rest)) :=
  cw_mget X hK hR 7 (by decide) q252 (fun _ h9 => h9) rfl hdg kk
theorem c1p_199 (X : ww_C p m c cc nL s args RX1 lw_all) (hK : cw_K E A s) (hR : cw_H E A D H) (hS0 : va_S A H0 H locs) {v : Int32} (hdg : decode cc pc = .ok (.putfield 199, 3)) (kk : ∀ (H1 : Heap) (locs1 : List Loc), cw_H E A (cw_sF D 7 v) H1 → va_S A H0 H1 locs1 → W p l e R s m args below meth c H1 locs1 cells slots Q (F0 m (pc + 3) ls (rest))) : W p l e R s m args below meth c H locs cells slots Q (F0 m pc ls (.int v :: .ref E.1.1 :: rest)) :=
  cw_mputI X hK hR hS0 7 (by decide) q252 (fun _ h9 => h9) rfl rfl hdg kk
theorem c1g_54 (X : ww_C p m c cc nL s args RX1 lw_all) (hK : cw_K E A s) (hR : cw_H E A D H) (hdg : decode cc pc = .ok (.getfield 54, 3)) (kk : W p l e R s m args below meth c H locs cells slots Q (F0 m (pc + 3) ls (.ref (E.1.2.1 8) :: rest))) : W p l e R s m args below meth c H locs cells slots Q (F0 m pc ls (.ref E.1.1 :: rest)) :=
  cw_mget X hK hR 8 (by decide) q253 (fun _ h9 => h9) rfl hdg kk
theorem c1g_190 (X : ww_C p m c cc nL s args RX1 lw_all) (hK : cw_K E A s) (hR : cw_H E A D H) (hdg : decode cc pc = .ok (.getfield 190, 3)) (kk : W p l e R s m args below meth c H locs cells slots Q (F0 m (pc + 3) ls (.int (ww_F D.1 9) :: rest))) : W p l e R s m args below meth c H locs cells slots Q (F0 m pc ls (.ref E.1.1 :: rest)) :=
  cw_mget X hK hR 9 (by decide) q254 (fun _ h9 => h9) rfl hdg kk
theorem c1p_190 (X : ww_C p m c cc nL s args RX1 lw_all) (hK : cw_K E A s) (hR : cw_H E A D H) (hS0 : va_S A H0 H locs) {v : Int32} (hdg : decode cc pc = .ok (.putfield 190, 3)) (kk : ∀ (H1 : Heap) (locs1 : List Loc), cw_H E A (cw_sF D 9 v) H1 → va_S A H0 H1 locs1 → W p l e R s m args below meth c H1 locs1 cells slots Q (F0 m (pc + 3) ls (rest))) : W p l e R s m args below meth c H locs cells slots Q (F0 m pc ls (.int v :: .ref E.1.1 :: rest)) :=
  cw_mputI X hK hR hS0 9 (by decide) q254 (fun _ h9 => h9) rfl rfl hdg kk
theorem c1g_57 (X : ww_C p m c cc nL s args RX1 lw_all) (hK : cw_K E A s) (hR : cw_H E A D H) (hdg : decode cc pc = .ok (.getfield 57, 3)) (kk : W p l e R s m args below meth c H locs cells slots Q (F0 m (pc + 3) ls (.ref (E.1.2.1 10) :: rest))) : W p l e R s m args below meth c H locs cells slots Q (F0 m pc ls (.ref E.1.1 :: rest)) :=
  cw_mget X hK hR 10 (by decide) q255 (fun _ h9 => h9) rfl hdg kk
theorem c1g_60 (X : ww_C p m c cc nL s args RX1 lw_all) (hK : cw_K E A s) (hR : cw_H E A D H) (hdg : decode cc pc = .ok (.getfield 60, 3)) (kk : W p l e R s m args below meth c H locs cells slots Q (F0 m (pc + 3) ls (.ref (E.1.2.1 11) :: rest))) : W p l e R s m args below meth c H locs cells slots Q (F0 m pc ls (.ref E.1.1 :: rest)) :=
  cw_mget X hK hR 11 (by decide) q256 (fun _ h9 => h9) rfl hdg kk
theorem c1g_65 (X : ww_C p m c cc nL s args RX1 lw_all) (hK : cw_K E A s) (hR : cw_H E A D H) (hdg : decode cc pc = .ok (.getfield 65, 3)) (kk : W p l e R s m args below meth c H locs cells slots Q (F0 m (pc + 3) ls (.ref (E.1.2.1 12) :: rest))) : W p l e R s m args below meth c H locs cells slots Q (F0 m pc ls (.ref E.1.1 :: rest)) :=
  cw_mget X hK hR 12 (by decide) q257 (fun _ h9 => h9) rfl hdg kk
theorem c1g_69 (X : ww_C p m c cc nL s args RX1 lw_all) (hK : cw_K E A s) (hR : cw_H E A D H) (hdg : decode cc pc = .ok (.getfield 69, 3)) (kk : W p l e R s m args below meth c H locs cells slots Q (F0 m (pc + 3) ls (.ref (E.1.2.1 13) :: rest))) : W p l e R s m args below meth c H locs cells slots Q (F0 m pc ls (.ref E.1.1 :: rest)) :=
  cw_mget X hK hR 13 (by decide) q258 (fun _ h9 => h9) rfl hdg kk
theorem c1g_240 (X : ww_C p m c cc nL s args RX1 lw_all) (hK : cw_K E A s) (hR : cw_H E A D H) (hdg : decode cc pc = .ok (.getfield 240, 3)) (kk : W p l e R s m args below meth c H locs cells slots Q (F0 m (pc + 3) ls (.int (ww_F D.1 14) :: rest))) : W p l e R s m args below meth c H locs cells slots Q (F0 m pc ls (.ref E.1.1 :: rest)) :=
  cw_mget X hK hR 14 (by decide) q259 (fun _ h9 => h9) rfl hdg kk
theorem c1p_240 (X : ww_C p m c cc nL s args RX1 lw_all) (hK : cw_K E A s) (hR : cw_H E A D H) (hS0 : va_S A H0 H locs) {v : Int32} (hdg : decode cc pc = .ok (.putfield 240, 3)) (kk : ∀ (H1 : Heap) (locs1 : List Loc), cw_H E A (cw_sF D 14 v) H1 → va_S A H0 H1 locs1 → W p l e R s m args below meth c H1 locs1 cells slots Q (F0 m (pc + 3) ls (rest))) : W p l e R s m args below meth c H locs cells slots Q (F0 m pc ls (.int v :: .ref E.1.1 :: rest)) :=
  cw_mputI X hK hR hS0 14 (by decide) q259 (fun _ h9 => h9) rfl rfl hdg kk
theorem c1g_243 (X : ww_C p m c cc nL s args RX1 lw_all) (hK : cw_K E A s) (hR : cw_H E A D H) (hdg : decode cc pc = .ok (.getfield 243, 3)) (kk : W p l e R s m args below meth c H locs cells slots Q (F0 m (pc + 3) ls (.int (ww_F D.1 15) :: rest))) : W p l e R s m args below meth c H locs cells slots Q (F0 m pc ls (.ref E.1.1 :: rest)) :=
  cw_mget X hK hR 15 (by decide) q260 (fun _ h9 => h9) rfl hdg kk
theorem c1p_243 (X : ww_C p m c cc nL s args RX1 lw_all) (hK : cw_K E A s) (hR : cw_H E A D H) (hS0 : va_S A H0 H locs) {v : Int32} (hdg : decode cc pc = .ok (.putfield 243, 3)) (kk : ∀ (H1 : Heap) (locs1 : List Loc), cw_H E A (cw_sF D 15 v) H1 → va_S A H0 H1 locs1 → W p l e R s m args below meth c H1 locs1 cells slots Q (F0 m (pc + 3) ls (rest))) : W p l e R s m args below meth c H locs cells slots Q (F0 m pc ls (.int v :: .ref E.1.1 :: rest)) :=
  cw_mputI X hK hR hS0 15 (by decide) q260 (fun _ h9 => h9) rfl rfl hdg kk
theorem c1g_246 (X : ww_C p m c cc nL s args RX1 lw_all) (hK : cw_K E A s) (hR : cw_H E A D H) (hdg : decode cc pc = .ok (.getfield 246, 3)) (kk : W p l e R s m args below meth c H locs cells slots Q (F0 m (pc + 3) ls (.int (ww_F D.1 16) :: rest))) : W p l e R s m args below meth c H locs cells slots Q (F0 m pc ls (.ref E.1.1 :: rest)) :=
  cw_mget X hK hR 16 (by decide) q262 (fun _ h9 => h9) rfl hdg kk
theorem c1p_246 (X : ww_C p m c cc nL s args RX1 lw_all) (hK : cw_K E A s) (hR : cw_H E A D H) (hS0 : va_S A H0 H locs) {v : Int32} (hdg : decode cc pc = .ok (.putfield 246, 3)) (kk : ∀ (H1 : Heap) (locs1 : List Loc), cw_H E A (cw_sF D 16 v) H1 → va_S A H0 H1 locs1 → W p l e R s m args below meth c H1 locs1 cells slots Q (F0 m (pc + 3) ls (rest))) : W p l e R s m args below meth c H locs cells slots Q (F0 m pc ls (.int v :: .ref E.1.1 :: rest)) :=
  cw_mputI X hK hR hS0 16 (by decide) q262 (fun _ h9 => h9) rfl rfl hdg kk
theorem c1g_234 (X : ww_C p m c cc nL s args RX1 lw_all) (hK : cw_K E A s) (hR : cw_H E A D H) (hdg : decode cc pc = .ok (.getfield 234, 3)) (kk : W p l e R s m args below meth c H locs cells slots Q (F0 m (pc + 3) ls (.int (ww_F D.1 17) :: rest))) : W p l e R s m args below meth c H locs cells slots Q (F0 m pc ls (.ref E.1.1 :: rest)) :=
  cw_mget X hK hR 17 (by decide) q263 (fun _ h9 => h9) rfl hdg kk
theorem c1p_234 (X : ww_C p m c cc nL s args RX1 lw_all) (hK : cw_K E A s) (hR : cw_H E A D H) (hS0 : va_S A H0 H locs) {v : Int32} (hdg : decode cc pc = .ok (.putfield 234, 3)) (kk : ∀ (H1 : Heap) (locs1 : List Loc), cw_H E A (cw_sF D 17 v) H1 → va_S A H0 H1 locs1 → W p l e R s m args below meth c H1 locs1 cells slots Q (F0 m (pc + 3) ls (rest))) : W p l e R s m args below meth c H locs cells slots Q (F0 m pc ls (.int v :: .ref E.1.1 :: rest)) :=
  cw_mputI X hK hR hS0 17 (by decide) q263 (fun _ h9 => h9) rfl rfl hdg kk
theorem c1g_237 (X : ww_C p m c cc nL s args RX1 lw_all) (hK : cw_K E A s) (hR : cw_H E A D H) (hdg : decode cc pc = .ok (.getfield 237, 3)) (kk : W p l e R s m args below meth c H locs cells slots Q (F0 m (pc + 3) ls (.int (ww_F D.1 18) :: rest))) : W p l e R s m args below meth c H locs cells slots Q (F0 m pc ls (.ref E.1.1 :: rest)) :=
  cw_mget X hK hR 18 (by decide) q264 (fun _ h9 => h9) rfl hdg kk
theorem c1p_237 (X : ww_C p m c cc nL s args RX1 lw_all) (hK : cw_K E A s) (hR : cw_H E A D H) (hS0 : va_S A H0 H locs) {v : Int32} (hdg : decode cc pc = .ok (.putfield 237, 3)) (kk : ∀ (H1 : Heap) (locs1 : List Loc), cw_H E A (cw_sF D 18 v) H1 → va_S A H0 H1 locs1 → W p l e R s m args below meth c H1 locs1 cells slots Q (F0 m (pc + 3) ls (rest))) : W p l e R s m args below meth c H locs cells slots Q (F0 m pc ls (.int v :: .ref E.1.1 :: rest)) :=
  cw_mputI X hK hR hS0 18 (by decide) q264 (fun _ h9 => h9) rfl rfl hdg kk
theorem c1g_72 (X : ww_C p m c cc nL s args RX1 lw_all) (hK : cw_K E A s) (hR : cw_H E A D H) (hdg : decode cc pc = .ok (.getfield 72, 3)) (kk : W p l e R s m args below meth c H locs cells slots Q (F0 m (pc + 3) ls (.int (ww_F D.1 19) :: rest))) : W p l e R s m args below meth c H locs cells slots Q (F0 m pc ls (.ref E.1.1 :: rest)) :=
  cw_mget X hK hR 19 (by decide) q265 (fun _ h9 => h9) rfl hdg kk
theorem c1p_72 (X : ww_C p m c cc nL s args RX1 lw_all) (hK : cw_K E A s) (hR : cw_H E A D H) (hS0 : va_S A H0 H locs) {v : Int32} (hdg : decode cc pc = .ok (.putfield 72, 3)) (kk : ∀ (H1 : Heap) (locs1 : List Loc), cw_H E A (cw_sF D 19 v) H1 → va_S A H0 H1 locs1 → W p l e R s m args below meth c H1 locs1 cells slots Q (F0 m (pc + 3) ls (rest))) : W p l e R s m args below meth c H locs cells slots Q (F0 m pc ls (.int v :: .ref E.1.1 :: rest)) :=
  cw_mputI X hK hR hS0 19 (by decide) q265 (fun _ h9 => h9) rfl rfl hdg kk
theorem c1g_392 (X : ww_C p m c cc nL s args RX1 lw_all) (hK : cw_K E A s) (hR : cw_H E A D H) (hdg : decode cc pc = .ok (.getfield 392, 3)) (kk : W p l e R s m args below meth c H locs cells slots Q (F0 m (pc + 3) ls (.int (ww_F D.1 20) :: rest))) : W p l e R s m args below meth c H locs cells slots Q (F0 m pc ls (.ref E.1.1 :: rest)) :=
  cw_mget X hK hR 20 (by decide) q266 (fun _ h9 => h9) rfl hdg kk
theorem c1p_392 (X : ww_C p m c cc nL s args RX1 lw_all) (hK : cw_K E A s) (hR : cw_H E A D H) (hS0 : va_S A H0 H locs) {v : Int32} (hdg : decode cc pc = .ok (.putfield 392, 3)) (kk : ∀ (H1 : Heap) (locs1 : List Loc), cw_H E A (cw_sF D 20 v) H1 → va_S A H0 H1 locs1 → W p l e R s m args below meth c H1 locs1 cells slots Q (F0 m (pc + 3) ls (rest))) : W p l e R s m args below meth c H locs cells slots Q (F0 m pc ls (.int v :: .ref E.1.1 :: rest)) :=
  cw_mputI X hK hR hS0 20 (by decide) q266 (fun _ h9 => h9) rfl rfl hdg kk
theorem c1g_76 (X : ww_C p m c cc nL s args RX1 lw_all) (hK : cw_K E A s) (hR : cw_H E A D H) (hdg : decode cc pc = .ok (.getfield 76, 3)) (kk : W p l e R s m args below meth c H locs cells slots Q (F0 m (pc + 3) ls (.ref (E.1.2.1 21) :: rest))) : W p l e R s m args below meth c H locs cells slots Q (F0 m pc ls (.ref E.1.1 :: rest)) :=
  cw_mget X hK hR 21 (by decide) q267 (fun _ h9 => h9) rfl hdg kk
theorem c1g_79 (X : ww_C p m c cc nL s args RX1 lw_all) (hK : cw_K E A s) (hR : cw_H E A D H) (hdg : decode cc pc = .ok (.getfield 79, 3)) (kk : W p l e R s m args below meth c H locs cells slots Q (F0 m (pc + 3) ls (.ref (E.1.2.1 22) :: rest))) : W p l e R s m args below meth c H locs cells slots Q (F0 m pc ls (.ref E.1.1 :: rest)) :=
  cw_mget X hK hR 22 (by decide) q268 (fun _ h9 => h9) rfl hdg kk
theorem c1g_82 (X : ww_C p m c cc nL s args RX1 lw_all) (hK : cw_K E A s) (hR : cw_H E A D H) (hdg : decode cc pc = .ok (.getfield 82, 3)) (kk : W p l e R s m args below meth c H locs cells slots Q (F0 m (pc + 3) ls (.ref (E.1.2.1 23) :: rest))) : W p l e R s m args below meth c H locs cells slots Q (F0 m pc ls (.ref E.1.1 :: rest)) :=
  cw_mget X hK hR 23 (by decide) q269 (fun _ h9 => h9) rfl hdg kk
theorem c1g_85 (X : ww_C p m c cc nL s args RX1 lw_all) (hK : cw_K E A s) (hR : cw_H E A D H) (hdg : decode cc pc = .ok (.getfield 85, 3)) (kk : W p l e R s m args below meth c H locs cells slots Q (F0 m (pc + 3) ls (.ref (E.1.2.1 24) :: rest))) : W p l e R s m args below meth c H locs cells slots Q (F0 m pc ls (.ref E.1.1 :: rest)) :=
  cw_mget X hK hR 24 (by decide) q270 (fun _ h9 => h9) rfl hdg kk
theorem c1g_90 (X : ww_C p m c cc nL s args RX1 lw_all) (hK : cw_K E A s) (hR : cw_H E A D H) (hdg : decode cc pc = .ok (.getfield 90, 3)) (kk : W p l e R s m args below meth c H locs cells slots Q (F0 m (pc + 3) ls (.ref (E.1.2.1 25) :: rest))) : W p l e R s m args below meth c H locs cells slots Q (F0 m pc ls (.ref E.1.1 :: rest)) :=
  cw_mget X hK hR 25 (by decide) q271 (fun _ h9 => h9) rfl hdg kk
theorem c1g_94 (X : ww_C p m c cc nL s args RX1 lw_all) (hK : cw_K E A s) (hR : cw_H E A D H) (hdg : decode cc pc = .ok (.getfield 94, 3)) (kk : W p l e R s m args below meth c H locs cells slots Q (F0 m (pc + 3) ls (.ref (E.1.2.1 26) :: rest))) : W p l e R s m args below meth c H locs cells slots Q (F0 m pc ls (.ref E.1.1 :: rest)) :=
  cw_mget X hK hR 26 (by decide) q272 (fun _ h9 => h9) rfl hdg kk
theorem c1g_226 (X : ww_C p m c cc nL s args RX1 lw_all) (hK : cw_K E A s) (hR : cw_H E A D H) {r : Option Nat} (he : some (ww_R D.1 27) = some r) (hdg : decode cc pc = .ok (.getfield 226, 3)) (kk : W p l e R s m args below meth c H locs cells slots Q (F0 m (pc + 3) ls (va_rf r :: rest))) : W p l e R s m args below meth c H locs cells slots Q (F0 m pc ls (.ref E.1.1 :: rest)) :=
  cw_mget X hK hR 27 (by decide) q273 (fun _ h9 => h9) (by have he := Option.some.inj he; subst he; rfl) hdg kk
theorem c1p_226 (X : ww_C p m c cc nL s args RX1 lw_all) (hK : cw_K E A s) (hR : cw_H E A D H) (hS0 : va_S A H0 H locs) {v : Option Nat} (hdg : decode cc pc = .ok (.putfield 226, 3)) (kk : ∀ (H1 : Heap) (locs1 : List Loc), cw_H E A (cw_sR D 27 v) H1 → va_S A H0 H1 locs1 → W p l e R s m args below meth c H1 locs1 cells slots Q (F0 m (pc + 3) ls (rest))) : W p l e R s m args below meth c H locs cells slots Q (F0 m pc ls (va_rf v :: .ref E.1.1 :: rest)) :=
  cw_mputR X hK hR hS0 27 (by decide) q273 (fun _ h9 => h9) rfl rfl hdg kk
theorem c1g_255 (X : ww_C p m c cc nL s args RX1 lw_all) (hK : cw_K E A s) (hR : cw_H E A D H) {r : Option Nat} (he : some (ww_R D.1 28) = some r) (hdg : decode cc pc = .ok (.getfield 255, 3)) (kk : W p l e R s m args below meth c H locs cells slots Q (F0 m (pc + 3) ls (va_rf r :: rest))) : W p l e R s m args below meth c H locs cells slots Q (F0 m pc ls (.ref E.1.1 :: rest)) :=
  cw_mget X hK hR 28 (by decide) q274 (fun _ h9 => h9) (by have he := Option.some.inj he; subst he; rfl) hdg kk
theorem c1p_255 (X : ww_C p m c cc nL s args RX1 lw_all) (hK : cw_K E A s) (hR : cw_H E A D H) (hS0 : va_S A H0 H locs) {v : Option Nat} (hdg : decode cc pc = .ok (.putfield 255, 3)) (kk : ∀ (H1 : Heap) (locs1 : List Loc), cw_H E A (cw_sR D 28 v) H1 → va_S A H0 H1 locs1 → W p l e R s m args below meth c H1 locs1 cells slots Q (F0 m (pc + 3) ls (rest))) : W p l e R s m args below meth c H locs cells slots Q (F0 m pc ls (va_rf v :: .ref E.1.1 :: rest)) :=
  cw_mputR X hK hR hS0 28 (by decide) q274 (fun _ h9 => h9) rfl rfl hdg kk
theorem c1g_97 (X : ww_C p m c cc nL s args RX1 lw_all) (hK : cw_K E A s) (hR : cw_H E A D H) (hdg : decode cc pc = .ok (.getfield 97, 3)) (kk : W p l e R s m args below meth c H locs cells slots Q (F0 m (pc + 3) ls (.ref (E.1.2.1 29) :: rest))) : W p l e R s m args below meth c H locs cells slots Q (F0 m pc ls (.ref E.1.1 :: rest)) :=
  cw_mget X hK hR 29 (by decide) q275 (fun _ h9 => h9) rfl hdg kk
theorem c1g_100 (X : ww_C p m c cc nL s args RX1 lw_all) (hK : cw_K E A s) (hR : cw_H E A D H) (hdg : decode cc pc = .ok (.getfield 100, 3)) (kk : W p l e R s m args below meth c H locs cells slots Q (F0 m (pc + 3) ls (.ref (E.1.2.1 30) :: rest))) : W p l e R s m args below meth c H locs cells slots Q (F0 m pc ls (.ref E.1.1 :: rest)) :=
  cw_mget X hK hR 30 (by decide) q276 (fun _ h9 => h9) rfl hdg kk
theorem c1g_317 (X : ww_C p m c cc nL s args RX1 lw_all) (hK : cw_K E A s) (hR : cw_H E A D H) (hdg : decode cc pc = .ok (.getfield 317, 3)) (kk : W p l e R s m args below meth c H locs cells slots Q (F0 m (pc + 3) ls (.int (ww_F D.1 31) :: rest))) : W p l e R s m args below meth c H locs cells slots Q (F0 m pc ls (.ref E.1.1 :: rest)) :=
  cw_mget X hK hR 31 (by decide) q277 (fun _ h9 => h9) rfl hdg kk
theorem c1p_317 (X : ww_C p m c cc nL s args RX1 lw_all) (hK : cw_K E A s) (hR : cw_H E A D H) (hS0 : va_S A H0 H locs) {v : Int32} (hdg : decode cc pc = .ok (.putfield 317, 3)) (kk : ∀ (H1 : Heap) (locs1 : List Loc), cw_H E A (cw_sF D 31 v) H1 → va_S A H0 H1 locs1 → W p l e R s m args below meth c H1 locs1 cells slots Q (F0 m (pc + 3) ls (rest))) : W p l e R s m args below meth c H locs cells slots Q (F0 m pc ls (.int v :: .ref E.1.1 :: rest)) :=
  cw_mputI X hK hR hS0 31 (by decide) q277 (fun _ h9 => h9) rfl rfl hdg kk
theorem c1g_348 (X : ww_C p m c cc nL s args RX1 lw_all) (hK : cw_K E A s) (hR : cw_H E A D H) (hdg : decode cc pc = .ok (.getfield 348, 3)) (kk : W p l e R s m args below meth c H locs cells slots Q (F0 m (pc + 3) ls (.int (ww_F D.1 32) :: rest))) : W p l e R s m args below meth c H locs cells slots Q (F0 m pc ls (.ref E.1.1 :: rest)) :=
  cw_mget X hK hR 32 (by decide) q278 (fun _ h9 => h9) rfl hdg kk
theorem c1p_348 (X : ww_C p m c cc nL s args RX1 lw_all) (hK : cw_K E A s) (hR : cw_H E A D H) (hS0 : va_S A H0 H locs) {v : Int32} (hdg : decode cc pc = .ok (.putfield 348, 3)) (kk : ∀ (H1 : Heap) (locs1 : List Loc), cw_H E A (cw_sF D 32 v) H1 → va_S A H0 H1 locs1 → W p l e R s m args below meth c H1 locs1 cells slots Q (F0 m (pc + 3) ls (rest))) : W p l e R s m args below meth c H locs cells slots Q (F0 m pc ls (.int v :: .ref E.1.1 :: rest)) :=
  cw_mputI X hK hR hS0 32 (by decide) q278 (fun _ h9 => h9) rfl rfl hdg kk
theorem c1g_351 (X : ww_C p m c cc nL s args RX1 lw_all) (hK : cw_K E A s) (hR : cw_H E A D H) (hdg : decode cc pc = .ok (.getfield 351, 3)) (kk : W p l e R s m args below meth c H locs cells slots Q (F0 m (pc + 3) ls (.int (ww_F D.1 33) :: rest))) : W p l e R s m args below meth c H locs cells slots Q (F0 m pc ls (.ref E.1.1 :: rest)) :=
  cw_mget X hK hR 33 (by decide) q279 (fun _ h9 => h9) rfl hdg kk
theorem c1p_351 (X : ww_C p m c cc nL s args RX1 lw_all) (hK : cw_K E A s) (hR : cw_H E A D H) (hS0 : va_S A H0 H locs) {v : Int32} (hdg : decode cc pc = .ok (.putfield 351, 3)) (kk : ∀ (H1 : Heap) (locs1 : List Loc), cw_H E A (cw_sF D 33 v) H1 → va_S A H0 H1 locs1 → W p l e R s m args below meth c H1 locs1 cells slots Q (F0 m (pc + 3) ls (rest))) : W p l e R s m args below meth c H locs cells slots Q (F0 m pc ls (.int v :: .ref E.1.1 :: rest)) :=
  cw_mputI X hK hR hS0 33 (by decide) q279 (fun _ h9 => h9) rfl rfl hdg kk
theorem c1g_444 (X : ww_C p m c cc nL s args RX1 lw_all) (hK : cw_K E A s) (hR : cw_H E A D H) (hdg : decode cc pc = .ok (.getfield 444, 3)) (kk : W p l e R s m args below meth c H locs cells slots Q (F0 m (pc + 3) ls (.long (ww_L D.1) :: rest))) : W p l e R s m args below meth c H locs cells slots Q (F0 m pc ls (.ref E.1.1 :: rest)) :=
  cw_mget X hK hR 34 (by decide) q280 (fun _ h9 => h9) rfl hdg kk
theorem c1p_444 (X : ww_C p m c cc nL s args RX1 lw_all) (hK : cw_K E A s) (hR : cw_H E A D H) (hS0 : va_S A H0 H locs) {v : Int64} (hdg : decode cc pc = .ok (.putfield 444, 3)) (kk : ∀ (H1 : Heap) (locs1 : List Loc), cw_H E A (cw_sL D v) H1 → va_S A H0 H1 locs1 → W p l e R s m args below meth c H1 locs1 cells slots Q (F0 m (pc + 3) ls (rest))) : W p l e R s m args below meth c H locs cells slots Q (F0 m pc ls (.long v :: .ref E.1.1 :: rest)) :=
  cw_mputL X hK hR hS0 34 (by decide) q280 (fun _ h9 => h9) rfl (by decide +kernel) hdg kk
theorem c1g_103 (X : ww_C p m c cc nL s args RX1 lw_all) (hK : cw_K E A s) (hR : cw_H E A D H) (hdg : decode cc pc = .ok (.getfield 103, 3)) (kk : W p l e R s m args below meth c H locs cells slots Q (F0 m (pc + 3) ls (.ref (E.1.2.1 35) :: rest))) : W p l e R s m args below meth c H locs cells slots Q (F0 m pc ls (.ref E.1.1 :: rest)) :=
  cw_mget X hK hR 35 (by decide) q281 (fun _ h9 => h9) rfl hdg kk
theorem c1g_107 (X : ww_C p m c cc nL s args RX1 lw_all) (hK : cw_K E A s) (hR : cw_H E A D H) (hdg : decode cc pc = .ok (.getfield 107, 3)) (kk : W p l e R s m args below meth c H locs cells slots Q (F0 m (pc + 3) ls (.ref (E.1.2.1 36) :: rest))) : W p l e R s m args below meth c H locs cells slots Q (F0 m pc ls (.ref E.1.1 :: rest)) :=
  cw_mget X hK hR 36 (by decide) q282 (fun _ h9 => h9) rfl hdg kk
theorem c1g_112 (X : ww_C p m c cc nL s args RX1 lw_all) (hK : cw_K E A s) (hR : cw_H E A D H) {r : Option Nat} (he : some (ww_R D.1 37) = some r) (hdg : decode cc pc = .ok (.getfield 112, 3)) (kk : W p l e R s m args below meth c H locs cells slots Q (F0 m (pc + 3) ls (va_rf r :: rest))) : W p l e R s m args below meth c H locs cells slots Q (F0 m pc ls (.ref E.1.1 :: rest)) :=
  cw_mget X hK hR 37 (by decide) q283 (fun _ h9 => h9) (by have he := Option.some.inj he; subst he; rfl) hdg kk
theorem c1p_112 (X : ww_C p m c cc nL s args RX1 lw_all) (hK : cw_K E A s) (hR : cw_H E A D H) (hS0 : va_S A H0 H locs) {v : Option Nat} (hdg : decode cc pc = .ok (.putfield 112, 3)) (kk : ∀ (H1 : Heap) (locs1 : List Loc), cw_H E A (cw_sR D 37 v) H1 → va_S A H0 H1 locs1 → W p l e R s m args below meth c H1 locs1 cells slots Q (F0 m (pc + 3) ls (rest))) : W p l e R s m args below meth c H locs cells slots Q (F0 m pc ls (va_rf v :: .ref E.1.1 :: rest)) :=
  cw_mputR X hK hR hS0 37 (by decide) q283 (fun _ h9 => h9) rfl rfl hdg kk
theorem c4g_13 (X : ww_C p m c cc nL s args RX4 lw_all) (hK : cw_K E A s) (hR : cw_H E A D H) (hdg : decode cc pc = .ok (.getfield 13, 3)) (kk : W p l e R s m args below meth c H locs cells slots Q (F0 m (pc + 3) ls (.int (ww_F D.1 16) :: rest))) : W p l e R s m args below meth c H locs cells slots Q (F0 m pc ls (.ref E.1.1 :: rest)) := by
  obtain ⟨hx, hb, -, hown, hts⟩ := X
  obtain ⟨cell, q1, q2, q3, q4⟩ := hR.1.1
  obtain ⟨hS9, hfc, kC, hkC, hkind⟩ := hK.1.1
  obtain ⟨cf, kf, fi, f, hi, hsl⟩ := hS9 16 (by decide)
  refine va_Wgetf hx hb hown (va_Nw.use rfl hK.2.2.2.2.2.1.1) hi (u_facts hfc hkC (u_lays hts in_X1 (by decide)) hi).1 q1 (by rw [q3]; exact fun h => by cases h) (v := .int (ww_F D.1 16)) ?_ rfl rfl hdg kk
  rw [hsl, q4 16 (by decide)]
  rfl
theorem c4p_13 (X : ww_C p m c cc nL s args RX4 lw_all) (hK : cw_K E A s) (hR : cw_H E A D H) (hS0 : va_S A H0 H locs) {v : Int32} (hdg : decode cc pc = .ok (.putfield 13, 3)) (kk : ∀ (H1 : Heap) (locs1 : List Loc), cw_H E A (cw_sF D 16 v) H1 → va_S A H0 H1 locs1 → W p l e R s m args below meth c H1 locs1 cells slots Q (F0 m (pc + 3) ls (rest))) : W p l e R s m args below meth c H locs cells slots Q (F0 m pc ls (.int v :: .ref E.1.1 :: rest)) := by
  obtain ⟨hx, hb, -, hown, hts⟩ := X
  have hap := ww_apart hts in_X1 tyX1 tyX1_ok nmX1 hK.1
  obtain ⟨cell, q1, q2, q3, q4⟩ := hR.1.1
  obtain ⟨hS, hfc, kC, hkC, hkind⟩ := hK.1.1
  have hk : 16 < 38 := by decide
  obtain ⟨cf, kf, fi, f, hi, hsl⟩ := hS 16 hk
  have hlay := hts _ (in_X1 _ (u_in_lay hk))
  unfold u_lay at hlay
  rw [if_neg (by decide)] at hlay
  have hst := (u_facts hfc hkC (u_lays hts in_X1 hk) hi).1
  have h6 := u_store (v := .int v) hfc hkC hkind hlay hi (tyX1_ok 16 hk) rfl rfl
  refine va_WputK hx hb (f := f) hown (va_Nw.use rfl hK.2.2.2.2.2.1.1) hi hst (by rw [q2]; exact h6) q1 q3 (by rw [hsl]; exact k2_hasslot (q4 16 hk)) rfl rfl hdg fun H' e1 e2 e3 => ?_
  rw [hsl] at e1 ⊢
  refine kk H' _ (hR.setMain ⟨t_OB.to (V := updV (ww_v tyX1 E.1.2.1 D.1) 16 (.int v)) ⟨_, e1, q2, q3, t_set q4 hap hk (.int v)⟩ (fun j hj => ?_), fun j hj el he => ?_⟩ (fun _ _ => rfl) e2 (fun q hq => e3 q (fun h => hq (Or.inl h)))) (hS0.put e2 e3 (hK.main _ (Or.inl rfl)))
  · by_cases h : j = 16
    · subst h
      simp [ww_v, updV, ww_sF, tyX1]
    · simp only [ww_v, updV, ww_sF, if_neg h]
  · rw [e3 _ (hK.apart.1 j hj el he)]
    have h9 := hR.1.2 j hj el he
    cases el <;> exact h9
theorem c4g_1 (X : ww_C p m c cc nL s args RX4 lw_all) (hK : cw_K E A s) (hR : cw_H E A D H) {v : Option Nat} (h : cw_gR D [0] a0 0 = some v) (hdg : decode cc pc = .ok (.getfield 1, 3)) (kk : W p l e R s m args below meth c H locs cells slots Q (F0 m (pc + 3) ls (va_rf v :: rest))) : W p l e R s m args below meth c H locs cells slots Q (F0 m pc ls (.ref a0 :: rest)) := by
  obtain ⟨o, ho, hm, hv⟩ := cw_gR_o h
  have hm : o.1 = 0 := by simpa using hm
  exact cw_oget (ci := 0) (C := RX4) (T := TX4) (N := 1) (x := some a0) rfl in_X4 X hK hR 0 (by decide) (Or.inl (X.2.2.2.2 _ q822)) (fun _ h9 => h9) rfl ho hm (by decide) hv hdg kk
theorem c4p_1 (X : ww_C p m c cc nL s args RX4 lw_all) (hK : cw_K E A s) (hR : cw_H E A D H) (hS : va_S A H0 H locs) {v : Option Nat} (h : cw_p D [0] a0 0 (va_rf v) = some D') (hdg : decode cc pc = .ok (.putfield 1, 3)) (hin : meth.name = "<init>") (kk : ∀ (H1 : Heap) (locs1 : List Loc), cw_H E A D' H1 → va_S A H0 H1 locs1 → W p l e R s m args below meth c H1 locs1 cells slots Q (F0 m (pc + 3) ls (rest))) : W p l e R s m args below meth c H locs cells slots Q (F0 m pc ls (va_rf v :: .ref a0 :: rest)) := by
  obtain ⟨o, ho, hm, hw, rfl⟩ := cw_p_o h
  have hm : o.1 = 0 := by simpa using hm
  exact cw_oput (ci := 0) (C := RX4) (T := TX4) (N := 1) (x := some a0) rfl in_X4 tyX4 tyX4_ok nmX4 X hK hR hS 0 (by decide) q822 (fun _ h9 => h9) (Or.inr ⟨rfl, hin, rfl⟩) rfl ho hm (by decide) hw rfl (by cases v <;> rfl) (by cases v <;> rfl) hdg kk
theorem c5g_20 (X : ww_C p m c cc nL s args RX5 lw_all) (hK : cw_K E A s) (hR : cw_H E A D H) {v : Int32} (h : cw_gI D [2] a0 1 = some v) (hdg : decode cc pc = .ok (.getfield 20, 3)) (kk : W p l e R s m args below meth c H locs cells slots Q (F0 m (pc + 3) ls (.int v :: rest))) : W p l e R s m args below meth c H locs cells slots Q (F0 m pc ls (.ref a0 :: rest)) := by
  obtain ⟨o, ho, hm, hv⟩ := cw_gI_o h
  have hm : o.1 = 2 := by simpa using hm
  exact cw_oget (ci := 2) (C := RX8) (T := TX8) (N := 4) (x := some a0) rfl in_X8 X hK hR 1 (by decide) (Or.inl (X.2.2.2.2 _ q854)) (fun x9 h9 => u_same (X.2.2.2.2 _ q853) x9 h9) rfl ho hm (by decide) hv hdg kk
theorem c5p_20 (X : ww_C p m c cc nL s args RX5 lw_all) (hK : cw_K E A s) (hR : cw_H E A D H) (hS : va_S A H0 H locs) {v : Int32} (h : cw_p D [2] a0 1 (.int v) = some D') (hdg : decode cc pc = .ok (.putfield 20, 3)) (kk : ∀ (H1 : Heap) (locs1 : List Loc), cw_H E A D' H1 → va_S A H0 H1 locs1 → W p l e R s m args below meth c H1 locs1 cells slots Q (F0 m (pc + 3) ls (rest))) : W p l e R s m args below meth c H locs cells slots Q (F0 m pc ls (.int v :: .ref a0 :: rest)) := by
  obtain ⟨o, ho, hm, hw, rfl⟩ := cw_p_o h
  have hm : o.1 = 2 := by simpa using hm
  exact cw_oput (ci := 2) (C := RX8) (T := TX8) (N := 4) (x := some a0) rfl in_X8 tyX8 tyX8_ok nmX8 X hK hR hS 1 (by decide) q854 (fun x9 h9 => u_same (X.2.2.2.2 _ q853) x9 h9) (Or.inl rfl) rfl ho hm (by decide) hw rfl rfl rfl hdg kk
theorem c5g_16 (X : ww_C p m c cc nL s args RX5 lw_all) (hK : cw_K E A s) (hR : cw_H E A D H) {v : Option Nat} (h : cw_gR D [2] a0 3 = some v) (hdg : decode cc pc = .ok (.getfield 16, 3)) (kk : W p l e R s m args below meth c H locs cells slots Q (F0 m (pc + 3) ls (va_rf v :: rest))) : W p l e R s m args below meth c H locs cells slots Q (F0 m pc ls (.ref a0 :: rest)) := by
  obtain ⟨o, ho, hm, hv⟩ := cw_gR_o h
  have hm : o.1 = 2 := by simpa using hm
  exact cw_oget (ci := 2) (C := RX8) (T := TX8) (N := 4) (x := some a0) rfl in_X8 X hK hR 3 (by decide) (Or.inr ⟨_, va_Nw.use rfl hK.2.2.2.2.2.1.2.1⟩) (fun _ h9 => h9) rfl ho hm (by decide) hv hdg kk
theorem c6g_7 (X : ww_C p m c cc nL s args RX6 lw_all) (hK : cw_K E A s) (hR : cw_H E A D H) {v : Option Nat} (h : cw_gR D [1, 2] a0 0 = some v) (hdg : decode cc pc = .ok (.getfield 7, 3)) (kk : W p l e R s m args below meth c H locs cells slots Q (F0 m (pc + 3) ls (va_rf v :: rest))) : W p l e R s m args below meth c H locs cells slots Q (F0 m pc ls (.ref a0 :: rest)) := by
  obtain ⟨o, ho, hm, hv⟩ := cw_gR_o h
  have hm : o.1 = 1 ∨ o.1 = 2 := by simpa using hm
  rcases hm with hm | hm
  · exact cw_oget (ci := 1) (C := RX7) (T := TX7) (N := 5) (x := some a0) rfl in_X7 X hK hR 0 (by decide) (Or.inl (X.2.2.2.2 _ q848)) (fun _ h9 => h9) rfl ho hm (by decide) hv hdg kk
  · exact cw_oget (ci := 2) (C := RX8) (T := TX8) (N := 4) (x := some a0) rfl in_X8 X hK hR 0 (by decide) (Or.inl (X.2.2.2.2 _ q848)) (fun _ h9 => h9) rfl ho hm (by decide) hv hdg kk
theorem c6p_7 (X : ww_C p m c cc nL s args RX6 lw_all) (hK : cw_K E A s) (hR : cw_H E A D H) (hS : va_S A H0 H locs) {v : Option Nat} (h : cw_p D [1, 2] a0 0 (va_rf v) = some D') (hdg : decode cc pc = .ok (.putfield 7, 3)) (hin : meth.name = "<init>") (kk : ∀ (H1 : Heap) (locs1 : List Loc), cw_H E A D' H1 → va_S A H0 H1 locs1 → W p l e R s m args below meth c H1 locs1 cells slots Q (F0 m (pc + 3) ls (rest))) : W p l e R s m args below meth c H locs cells slots Q (F0 m pc ls (va_rf v :: .ref a0 :: rest)) := by
  obtain ⟨o, ho, hm, hw, rfl⟩ := cw_p_o h
  have hm : o.1 = 1 ∨ o.1 = 2 := by simpa using hm
  rcases hm with hm | hm
  · exact cw_oput (ci := 1) (C := RX7) (T := TX7) (N := 5) (x := some a0) rfl in_X7 tyX7 tyX7_ok nmX7 X hK hR hS 0 (by decide) q848 (fun _ h9 => h9) (Or.inr ⟨rfl, hin, rfl⟩) rfl ho hm (by decide) hw rfl (by cases v <;> rfl) (by cases v <;> rfl) hdg kk
  · exact cw_oput (ci := 2) (C := RX8) (T := TX8) (N := 4) (x := some a0) rfl in_X8 tyX8 tyX8_ok nmX8 X hK hR hS 0 (by decide) q848 (fun _ h9 => h9) (Or.inr ⟨rfl, hin, rfl⟩) rfl ho hm (by decide) hw rfl (by cases v <;> rfl) (by cases v <;> rfl) hdg kk
theorem c6g_13 (X : ww_C p m c cc nL s args RX6 lw_all) (hK : cw_K E A s) (hR : cw_H E A D H) {v : Int32} (h : cw_gI D [1, 2] a0 1 = some v) (hdg : decode cc pc = .ok (.getfield 13, 3)) (kk : W p l e R s m args below meth c H locs cells slots Q (F0 m (pc + 3) ls (.int v :: rest))) : W p l e R s m args below meth c H locs cells slots Q (F0 m pc ls (.ref a0 :: rest)) := by
  obtain ⟨o, ho, hm, hv⟩ := cw_gI_o h
  have hm : o.1 = 1 ∨ o.1 = 2 := by simpa using hm
  rcases hm with hm | hm
  · exact cw_oget (ci := 1) (C := RX7) (T := TX7) (N := 5) (x := some a0) rfl in_X7 X hK hR 1 (by decide) (Or.inl (X.2.2.2.2 _ q849)) (fun _ h9 => h9) rfl ho hm (by decide) hv hdg kk
  · exact cw_oget (ci := 2) (C := RX8) (T := TX8) (N := 4) (x := some a0) rfl in_X8 X hK hR 1 (by decide) (Or.inl (X.2.2.2.2 _ q849)) (fun _ h9 => h9) rfl ho hm (by decide) hv hdg kk
theorem c6p_13 (X : ww_C p m c cc nL s args RX6 lw_all) (hK : cw_K E A s) (hR : cw_H E A D H) (hS : va_S A H0 H locs) {v : Int32} (h : cw_p D [1, 2] a0 1 (.int v) = some D') (hdg : decode cc pc = .ok (.putfield 13, 3)) (kk : ∀ (H1 : Heap) (locs1 : List Loc), cw_H E A D' H1 → va_S A H0 H1 locs1 → W p l e R s m args below meth c H1 locs1 cells slots Q (F0 m (pc + 3) ls (rest))) : W p l e R s m args below meth c H locs cells slots Q (F0 m pc ls (.int v :: .ref a0 :: rest)) := by
  obtain ⟨o, ho, hm, hw, rfl⟩ := cw_p_o h
  have hm : o.1 = 1 ∨ o.1 = 2 := by simpa using hm
  rcases hm with hm | hm
  · exact cw_oput (ci := 1) (C := RX7) (T := TX7) (N := 5) (x := some a0) rfl in_X7 tyX7 tyX7_ok nmX7 X hK hR hS 1 (by decide) q849 (fun _ h9 => h9) (Or.inl rfl) rfl ho hm (by decide) hw rfl rfl rfl hdg kk
  · exact cw_oput (ci := 2) (C := RX8) (T := TX8) (N := 4) (x := some a0) rfl in_X8 tyX8 tyX8_ok nmX8 X hK hR hS 1 (by decide) q849 (fun _ h9 => h9) (Or.inl rfl) rfl ho hm (by decide) hw rfl rfl rfl hdg kk
theorem c6g_17 (X : ww_C p m c cc nL s args RX6 lw_all) (hK : cw_K E A s) (hR : cw_H E A D H) {v : Int32} (h : cw_gI D [1, 2] a0 2 = some v) (hdg : decode cc pc = .ok (.getfield 17, 3)) (kk : W p l e R s m args below meth c H locs cells slots Q (F0 m (pc + 3) ls (.int v :: rest))) : W p l e R s m args below meth c H locs cells slots Q (F0 m pc ls (.ref a0 :: rest)) := by
  obtain ⟨o, ho, hm, hv⟩ := cw_gI_o h
  have hm : o.1 = 1 ∨ o.1 = 2 := by simpa using hm
  rcases hm with hm | hm
  · exact cw_oget (ci := 1) (C := RX7) (T := TX7) (N := 5) (x := some a0) rfl in_X7 X hK hR 2 (by decide) (Or.inl (X.2.2.2.2 _ q855)) (fun _ h9 => h9) rfl ho hm (by decide) hv hdg kk
  · exact cw_oget (ci := 2) (C := RX8) (T := TX8) (N := 4) (x := some a0) rfl in_X8 X hK hR 2 (by decide) (Or.inl (X.2.2.2.2 _ q855)) (fun _ h9 => h9) rfl ho hm (by decide) hv hdg kk
theorem c6p_17 (X : ww_C p m c cc nL s args RX6 lw_all) (hK : cw_K E A s) (hR : cw_H E A D H) (hS : va_S A H0 H locs) {v : Int32} (h : cw_p D [1, 2] a0 2 (.int v) = some D') (hdg : decode cc pc = .ok (.putfield 17, 3)) (kk : ∀ (H1 : Heap) (locs1 : List Loc), cw_H E A D' H1 → va_S A H0 H1 locs1 → W p l e R s m args below meth c H1 locs1 cells slots Q (F0 m (pc + 3) ls (rest))) : W p l e R s m args below meth c H locs cells slots Q (F0 m pc ls (.int v :: .ref a0 :: rest)) := by
  obtain ⟨o, ho, hm, hw, rfl⟩ := cw_p_o h
  have hm : o.1 = 1 ∨ o.1 = 2 := by simpa using hm
  rcases hm with hm | hm
  · exact cw_oput (ci := 1) (C := RX7) (T := TX7) (N := 5) (x := some a0) rfl in_X7 tyX7 tyX7_ok nmX7 X hK hR hS 2 (by decide) q855 (fun _ h9 => h9) (Or.inl rfl) rfl ho hm (by decide) hw rfl rfl rfl hdg kk
  · exact cw_oput (ci := 2) (C := RX8) (T := TX8) (N := 4) (x := some a0) rfl in_X8 tyX8 tyX8_ok nmX8 X hK hR hS 2 (by decide) q855 (fun _ h9 => h9) (Or.inl rfl) rfl ho hm (by decide) hw rfl rfl rfl hdg kk
theorem c7g_9 (X : ww_C p m c cc nL s args RX7 lw_all) (hK : cw_K E A s) (hR : cw_H E A D H) {v : Option Nat} (h : cw_gR D [1] a0 3 = some v) (hdg : decode cc pc = .ok (.getfield 9, 3)) (kk : W p l e R s m args below meth c H locs cells slots Q (F0 m (pc + 3) ls (va_rf v :: rest))) : W p l e R s m args below meth c H locs cells slots Q (F0 m pc ls (.ref a0 :: rest)) := by
  obtain ⟨o, ho, hm, hv⟩ := cw_gR_o h
  have hm : o.1 = 1 := by simpa using hm
  exact cw_oget (ci := 1) (C := RX7) (T := TX7) (N := 5) (x := some a0) rfl in_X7 X hK hR 3 (by decide) (Or.inl (X.2.2.2.2 _ q846)) (fun _ h9 => h9) rfl ho hm (by decide) hv hdg kk
theorem c7p_9 (X : ww_C p m c cc nL s args RX7 lw_all) (hK : cw_K E A s) (hR : cw_H E A D H) (hS : va_S A H0 H locs) {v : Option Nat} (h : cw_p D [1] a0 3 (va_rf v) = some D') (hdg : decode cc pc = .ok (.putfield 9, 3)) (hin : meth.name = "<init>") (kk : ∀ (H1 : Heap) (locs1 : List Loc), cw_H E A D' H1 → va_S A H0 H1 locs1 → W p l e R s m args below meth c H1 locs1 cells slots Q (F0 m (pc + 3) ls (rest))) : W p l e R s m args below meth c H locs cells slots Q (F0 m pc ls (va_rf v :: .ref a0 :: rest)) := by
  obtain ⟨o, ho, hm, hw, rfl⟩ := cw_p_o h
  have hm : o.1 = 1 := by simpa using hm
  exact cw_oput (ci := 1) (C := RX7) (T := TX7) (N := 5) (x := some a0) rfl in_X7 tyX7 tyX7_ok nmX7 X hK hR hS 3 (by decide) q846 (fun _ h9 => h9) (Or.inr ⟨rfl, hin, rfl⟩) rfl ho hm (by decide) hw rfl (by cases v <;> rfl) (by cases v <;> rfl) hdg kk
theorem c7g_15 (X : ww_C p m c cc nL s args RX7 lw_all) (hK : cw_K E A s) (hR : cw_H E A D H) {v : Option Nat} (h : cw_gR D [1] a0 4 = some v) (hdg : decode cc pc = .ok (.getfield 15, 3)) (kk : W p l e R s m args below meth c H locs cells slots Q (F0 m (pc + 3) ls (va_rf v :: rest))) : W p l e R s m args below meth c H locs cells slots Q (F0 m pc ls (.ref a0 :: rest)) := by
  obtain ⟨o, ho, hm, hv⟩ := cw_gR_o h
  have hm : o.1 = 1 := by simpa using hm
  exact cw_oget (ci := 1) (C := RX7) (T := TX7) (N := 5) (x := some a0) rfl in_X7 X hK hR 4 (by decide) (Or.inl (X.2.2.2.2 _ q847)) (fun _ h9 => h9) rfl ho hm (by decide) hv hdg kk
theorem c7p_15 (X : ww_C p m c cc nL s args RX7 lw_all) (hK : cw_K E A s) (hR : cw_H E A D H) (hS : va_S A H0 H locs) {v : Option Nat} (h : cw_p D [1] a0 4 (va_rf v) = some D') (hdg : decode cc pc = .ok (.putfield 15, 3)) (hin : meth.name = "<init>") (kk : ∀ (H1 : Heap) (locs1 : List Loc), cw_H E A D' H1 → va_S A H0 H1 locs1 → W p l e R s m args below meth c H1 locs1 cells slots Q (F0 m (pc + 3) ls (rest))) : W p l e R s m args below meth c H locs cells slots Q (F0 m pc ls (va_rf v :: .ref a0 :: rest)) := by
  obtain ⟨o, ho, hm, hw, rfl⟩ := cw_p_o h
  have hm : o.1 = 1 := by simpa using hm
  exact cw_oput (ci := 1) (C := RX7) (T := TX7) (N := 5) (x := some a0) rfl in_X7 tyX7 tyX7_ok nmX7 X hK hR hS 4 (by decide) q847 (fun _ h9 => h9) (Or.inr ⟨rfl, hin, rfl⟩) rfl ho hm (by decide) hw rfl (by cases v <;> rfl) (by cases v <;> rfl) hdg kk
theorem c7g_18 (X : ww_C p m c cc nL s args RX7 lw_all) (hK : cw_K E A s) (hR : cw_H E A D H) {v : Int32} (h : cw_gI D [1] a0 1 = some v) (hdg : decode cc pc = .ok (.getfield 18, 3)) (kk : W p l e R s m args below meth c H locs cells slots Q (F0 m (pc + 3) ls (.int v :: rest))) : W p l e R s m args below meth c H locs cells slots Q (F0 m pc ls (.ref a0 :: rest)) := by
  obtain ⟨o, ho, hm, hv⟩ := cw_gI_o h
  have hm : o.1 = 1 := by simpa using hm
  exact cw_oget (ci := 1) (C := RX7) (T := TX7) (N := 5) (x := some a0) rfl in_X7 X hK hR 1 (by decide) (Or.inl (X.2.2.2.2 _ q850)) (fun x9 h9 => u_same (X.2.2.2.2 _ q851) x9 h9) rfl ho hm (by decide) hv hdg kk
theorem c7p_18 (X : ww_C p m c cc nL s args RX7 lw_all) (hK : cw_K E A s) (hR : cw_H E A D H) (hS : va_S A H0 H locs) {v : Int32} (h : cw_p D [1] a0 1 (.int v) = some D') (hdg : decode cc pc = .ok (.putfield 18, 3)) (kk : ∀ (H1 : Heap) (locs1 : List Loc), cw_H E A D' H1 → va_S A H0 H1 locs1 → W p l e R s m args below meth c H1 locs1 cells slots Q (F0 m (pc + 3) ls (rest))) : W p l e R s m args below meth c H locs cells slots Q (F0 m pc ls (.int v :: .ref a0 :: rest)) := by
  obtain ⟨o, ho, hm, hw, rfl⟩ := cw_p_o h
  have hm : o.1 = 1 := by simpa using hm
  exact cw_oput (ci := 1) (C := RX7) (T := TX7) (N := 5) (x := some a0) rfl in_X7 tyX7 tyX7_ok nmX7 X hK hR hS 1 (by decide) q850 (fun x9 h9 => u_same (X.2.2.2.2 _ q851) x9 h9) (Or.inl rfl) rfl ho hm (by decide) hw rfl rfl rfl hdg kk
theorem c8g_22 (X : ww_C p m c cc nL s args RX8 lw_all) (hK : cw_K E A s) (hR : cw_H E A D H) {v : Int32} (h : cw_gI D [2] a0 1 = some v) (hdg : decode cc pc = .ok (.getfield 22, 3)) (kk : W p l e R s m args below meth c H locs cells slots Q (F0 m (pc + 3) ls (.int v :: rest))) : W p l e R s m args below meth c H locs cells slots Q (F0 m pc ls (.ref a0 :: rest)) := by
  obtain ⟨o, ho, hm, hv⟩ := cw_gI_o h
  have hm : o.1 = 2 := by simpa using hm
  exact cw_oget (ci := 2) (C := RX8) (T := TX8) (N := 4) (x := some a0) rfl in_X8 X hK hR 1 (by decide) (Or.inl (X.2.2.2.2 _ q852)) (fun x9 h9 => u_same (X.2.2.2.2 _ q853) x9 h9) rfl ho hm (by decide) hv hdg kk
theorem c8p_22 (X : ww_C p m c cc nL s args RX8 lw_all) (hK : cw_K E A s) (hR : cw_H E A D H) (hS : va_S A H0 H locs) {v : Int32} (h : cw_p D [2] a0 1 (.int v) = some D') (hdg : decode cc pc = .ok (.putfield 22, 3)) (kk : ∀ (H1 : Heap) (locs1 : List Loc), cw_H E A D' H1 → va_S A H0 H1 locs1 → W p l e R s m args below meth c H1 locs1 cells slots Q (F0 m (pc + 3) ls (rest))) : W p l e R s m args below meth c H locs cells slots Q (F0 m pc ls (.int v :: .ref a0 :: rest)) := by
  obtain ⟨o, ho, hm, hw, rfl⟩ := cw_p_o h
  have hm : o.1 = 2 := by simpa using hm
  exact cw_oput (ci := 2) (C := RX8) (T := TX8) (N := 4) (x := some a0) rfl in_X8 tyX8 tyX8_ok nmX8 X hK hR hS 1 (by decide) q852 (fun x9 h9 => u_same (X.2.2.2.2 _ q853) x9 h9) (Or.inl rfl) rfl ho hm (by decide) hw rfl rfl rfl hdg kk
theorem c8g_9 (X : ww_C p m c cc nL s args RX8 lw_all) (hK : cw_K E A s) (hR : cw_H E A D H) {v : Option Nat} (h : cw_gR D [2] a0 3 = some v) (hdg : decode cc pc = .ok (.getfield 9, 3)) (kk : W p l e R s m args below meth c H locs cells slots Q (F0 m (pc + 3) ls (va_rf v :: rest))) : W p l e R s m args below meth c H locs cells slots Q (F0 m pc ls (.ref a0 :: rest)) := by
  obtain ⟨o, ho, hm, hv⟩ := cw_gR_o h
  have hm : o.1 = 2 := by simpa using hm
  exact cw_oget (ci := 2) (C := RX8) (T := TX8) (N := 4) (x := some a0) rfl in_X8 X hK hR 3 (by decide) (Or.inl (X.2.2.2.2 _ q1019)) (fun _ h9 => h9) rfl ho hm (by decide) hv hdg kk
theorem c8p_9 (X : ww_C p m c cc nL s args RX8 lw_all) (hK : cw_K E A s) (hR : cw_H E A D H) (hS : va_S A H0 H locs) {v : Option Nat} (h : cw_p D [2] a0 3 (va_rf v) = some D') (hdg : decode cc pc = .ok (.putfield 9, 3)) (hin : meth.name = "<init>") (kk : ∀ (H1 : Heap) (locs1 : List Loc), cw_H E A D' H1 → va_S A H0 H1 locs1 → W p l e R s m args below meth c H1 locs1 cells slots Q (F0 m (pc + 3) ls (rest))) : W p l e R s m args below meth c H locs cells slots Q (F0 m pc ls (va_rf v :: .ref a0 :: rest)) := by
  obtain ⟨o, ho, hm, hw, rfl⟩ := cw_p_o h
  have hm : o.1 = 2 := by simpa using hm
  exact cw_oput (ci := 2) (C := RX8) (T := TX8) (N := 4) (x := some a0) rfl in_X8 tyX8 tyX8_ok nmX8 X hK hR hS 3 (by decide) q1019 (fun _ h9 => h9) (Or.inr ⟨rfl, hin, rfl⟩) rfl ho hm (by decide) hw rfl (by cases v <;> rfl) (by cases v <;> rfl) hdg kk
theorem c1l_0 (X : ww_C p m c cc nL s args RX1 lw_all) (hK : cw_K E A s) (hR : cw_H E A D H) {i : Int32} (hi : ww_i i 6 = true) {r : Option Nat} (he : some (ww_Y D.1 0 i) = some r) (hdg : decode cc pc = .ok (.aaload, 1)) (kk : W p l e R s m args below meth c H locs cells slots Q (F0 m (pc + 1) ls (va_rf r :: rest))) : W p l e R s m args below meth c H locs cells slots Q (F0 m pc ls (.int i :: .ref (E.1.2.1 0) :: rest)) :=
  cw_maald X hK hR 0 (by decide) rfl rfl hi he hdg kk
theorem c1s_0 (X : ww_C p m c cc nL s args RX1 lw_all) (hK : cw_K E A s) (hR : cw_H E A D H) (hS : va_S A H0 H locs) {i : Int32} {x : Option Nat} (hi : ww_i i 6 = true) (hx : cw_kd D [3] x = true) (hdg : decode cc pc = .ok (.aastore, 1)) (kk : ∀ (H1 : Heap) (locs1 : List Loc), cw_H E A (cw_sY D 0 i x) H1 → va_S A H0 H1 locs1 → W p l e R s m args below meth c H1 locs1 cells slots Q (F0 m (pc + 1) ls (rest))) : W p l e R s m args below meth c H locs cells slots Q (F0 m pc ls (va_rf x :: .int i :: .ref (E.1.2.1 0) :: rest)) :=
  cw_maast X hK hR hS 0 (by decide) rfl rfl hi (cw_isC (k := 3) (C := RJ4) (T := TJ4) (N := 4) hK hR rfl (by decide) hx) hdg kk
theorem c1l_2 (X : ww_C p m c cc nL s args RX1 lw_all) (hK : cw_K E A s) (hR : cw_H E A D H) {i : Int32} (hi : ww_i i 240 = true) (hdg : decode cc pc = .ok (.baload, 1)) (kk : W p l e R s m args below meth c H locs cells slots Q (F0 m (pc + 1) ls (.int (ww_X D.1 2 i) :: rest))) : W p l e R s m args below meth c H locs cells slots Q (F0 m pc ls (.int i :: .ref (E.1.2.1 2) :: rest)) :=
  cw_mbald X hK hR 2 (by decide) rfl rfl hi hdg kk
theorem c1s_2 (X : ww_C p m c cc nL s args RX1 lw_all) (hK : cw_K E A s) (hR : cw_H E A D H) (hS : va_S A H0 H locs) {i x : Int32} (hi : ww_i i 240 = true) (hdg : decode cc pc = .ok (.bastore, 1)) (kk : ∀ (H1 : Heap) (locs1 : List Loc), cw_H E A (cw_sX D 2 i (vp_nar .byte x)) H1 → va_S A H0 H1 locs1 → W p l e R s m args below meth c H1 locs1 cells slots Q (F0 m (pc + 1) ls (rest))) : W p l e R s m args below meth c H locs cells slots Q (F0 m pc ls (.int x :: .int i :: .ref (E.1.2.1 2) :: rest)) :=
  cw_mbast X hK hR hS 2 (by decide) rfl rfl hi hdg kk
theorem c1l_5 (X : ww_C p m c cc nL s args RX1 lw_all) (hK : cw_K E A s) (hR : cw_H E A D H) {i : Int32} (hi : ww_i i 320 = true) (hdg : decode cc pc = .ok (.iaload, 1)) (kk : W p l e R s m args below meth c H locs cells slots Q (F0 m (pc + 1) ls (.int (ww_X D.1 5 i) :: rest))) : W p l e R s m args below meth c H locs cells slots Q (F0 m pc ls (.int i :: .ref (E.1.2.1 5) :: rest)) :=
  cw_miald X hK hR 5 (by decide) rfl rfl hi hdg kk
theorem c1s_5 (X : ww_C p m c cc nL s args RX1 lw_all) (hK : cw_K E A s) (hR : cw_H E A D H) (hS : va_S A H0 H locs) {i x : Int32} (hi : ww_i i 320 = true) (hdg : decode cc pc = .ok (.iastore, 1)) (kk : ∀ (H1 : Heap) (locs1 : List Loc), cw_H E A (cw_sX D 5 i x) H1 → va_S A H0 H1 locs1 → W p l e R s m args below meth c H1 locs1 cells slots Q (F0 m (pc + 1) ls (rest))) : W p l e R s m args below meth c H locs cells slots Q (F0 m pc ls (.int x :: .int i :: .ref (E.1.2.1 5) :: rest)) :=
  cw_miast X hK hR hS 5 (by decide) rfl rfl hi hdg kk
theorem c1l_6 (X : ww_C p m c cc nL s args RX1 lw_all) (hK : cw_K E A s) (hR : cw_H E A D H) {i : Int32} (hi : ww_i i 5 = true) (hdg : decode cc pc = .ok (.iaload, 1)) (kk : W p l e R s m args below meth c H locs cells slots Q (F0 m (pc + 1) ls (.int (ww_X D.1 6 i) :: rest))) : W p l e R s m args below meth c H locs cells slots Q (F0 m pc ls (.int i :: .ref (E.1.2.1 6) :: rest)) :=
  cw_miald X hK hR 6 (by decide) rfl rfl hi hdg kk
theorem c1s_6 (X : ww_C p m c cc nL s args RX1 lw_all) (hK : cw_K E A s) (hR : cw_H E A D H) (hS : va_S A H0 H locs) {i x : Int32} (hi : ww_i i 5 = true) (hdg : decode cc pc = .ok (.iastore, 1)) (kk : ∀ (H1 : Heap) (locs1 : List Loc), cw_H E A (cw_sX D 6 i x) H1 → va_S A H0 H1 locs1 → W p l e R s m args below meth c H1 locs1 cells slots Q (F0 m (pc + 1) ls (rest))) : W p l e R s m args below meth c H locs cells slots Q (F0 m pc ls (.int x :: .int i :: .ref (E.1.2.1 6) :: rest)) :=
  cw_miast X hK hR hS 6 (by decide) rfl rfl hi hdg kk
theorem c1l_8 (X : ww_C p m c cc nL s args RX1 lw_all) (hK : cw_K E A s) (hR : cw_H E A D H) {i : Int32} (hi : ww_i i 480 = true) (hdg : decode cc pc = .ok (.iaload, 1)) (kk : W p l e R s m args below meth c H locs cells slots Q (F0 m (pc + 1) ls (.int (ww_X D.1 8 i) :: rest))) : W p l e R s m args below meth c H locs cells slots Q (F0 m pc ls (.int i :: .ref (E.1.2.1 8) :: rest)) :=
  cw_miald X hK hR 8 (by decide) rfl rfl hi hdg kk
theorem c1s_8 (X : ww_C p m c cc nL s args RX1 lw_all) (hK : cw_K E A s) (hR : cw_H E A D H) (hS : va_S A H0 H locs) {i x : Int32} (hi : ww_i i 480 = true) (hdg : decode cc pc = .ok (.iastore, 1)) (kk : ∀ (H1 : Heap) (locs1 : List Loc), cw_H E A (cw_sX D 8 i x) H1 → va_S A H0 H1 locs1 → W p l e R s m args below meth c H1 locs1 cells slots Q (F0 m (pc + 1) ls (rest))) : W p l e R s m args below meth c H locs cells slots Q (F0 m pc ls (.int x :: .int i :: .ref (E.1.2.1 8) :: rest)) :=
  cw_miast X hK hR hS 8 (by decide) rfl rfl hi hdg kk
theorem c1l_10 (X : ww_C p m c cc nL s args RX1 lw_all) (hK : cw_K E A s) (hR : cw_H E A D H) {i : Int32} (hi : ww_i i 16 = true) (hdg : decode cc pc = .ok (.iaload, 1)) (kk : W p l e R s m args below meth c H locs cells slots Q (F0 m (pc + 1) ls (.int (ww_X D.1 10 i) :: rest))) : W p l e R s m args below meth c H locs cells slots Q (F0 m pc ls (.int i :: .ref (E.1.2.1 10) :: rest)) :=
  cw_miald X hK hR 10 (by decide) rfl rfl hi hdg kk
theorem c1s_10 (X : ww_C p m c cc nL s args RX1 lw_all) (hK : cw_K E A s) (hR : cw_H E A D H) (hS : va_S A H0 H locs) {i x : Int32} (hi : ww_i i 16 = true) (hdg : decode cc pc = .ok (.iastore, 1)) (kk : ∀ (H1 : Heap) (locs1 : List Loc), cw_H E A (cw_sX D 10 i x) H1 → va_S A H0 H1 locs1 → W p l e R s m args below meth c H1 locs1 cells slots Q (F0 m (pc + 1) ls (rest))) : W p l e R s m args below meth c H locs cells slots Q (F0 m pc ls (.int x :: .int i :: .ref (E.1.2.1 10) :: rest)) :=
  cw_miast X hK hR hS 10 (by decide) rfl rfl hi hdg kk
theorem c1l_11 (X : ww_C p m c cc nL s args RX1 lw_all) (hK : cw_K E A s) (hR : cw_H E A D H) {i : Int32} (hi : ww_i i 16 = true) (hdg : decode cc pc = .ok (.iaload, 1)) (kk : W p l e R s m args below meth c H locs cells slots Q (F0 m (pc + 1) ls (.int (ww_X D.1 11 i) :: rest))) : W p l e R s m args below meth c H locs cells slots Q (F0 m pc ls (.int i :: .ref (E.1.2.1 11) :: rest)) :=
  cw_miald X hK hR 11 (by decide) rfl rfl hi hdg kk
theorem c1s_11 (X : ww_C p m c cc nL s args RX1 lw_all) (hK : cw_K E A s) (hR : cw_H E A D H) (hS : va_S A H0 H locs) {i x : Int32} (hi : ww_i i 16 = true) (hdg : decode cc pc = .ok (.iastore, 1)) (kk : ∀ (H1 : Heap) (locs1 : List Loc), cw_H E A (cw_sX D 11 i x) H1 → va_S A H0 H1 locs1 → W p l e R s m args below meth c H1 locs1 cells slots Q (F0 m (pc + 1) ls (rest))) : W p l e R s m args below meth c H locs cells slots Q (F0 m pc ls (.int x :: .int i :: .ref (E.1.2.1 11) :: rest)) :=
  cw_miast X hK hR hS 11 (by decide) rfl rfl hi hdg kk
theorem c1l_12 (X : ww_C p m c cc nL s args RX1 lw_all) (hK : cw_K E A s) (hR : cw_H E A D H) {i : Int32} (hi : ww_i i 16 = true) {r : Option Nat} (he : some (ww_Y D.1 12 i) = some r) (hdg : decode cc pc = .ok (.aaload, 1)) (kk : W p l e R s m args below meth c H locs cells slots Q (F0 m (pc + 1) ls (va_rf r :: rest))) : W p l e R s m args below meth c H locs cells slots Q (F0 m pc ls (.int i :: .ref (E.1.2.1 12) :: rest)) :=
  cw_maald X hK hR 12 (by decide) rfl rfl hi he hdg kk
theorem c1s_12 (X : ww_C p m c cc nL s args RX1 lw_all) (hK : cw_K E A s) (hR : cw_H E A D H) (hS : va_S A H0 H locs) {i : Int32} {x : Option Nat} (hi : ww_i i 16 = true) (hx : cw_kd D [1, 2] x = true) (hdg : decode cc pc = .ok (.aastore, 1)) (kk : ∀ (H1 : Heap) (locs1 : List Loc), cw_H E A (cw_sY D 12 i x) H1 → va_S A H0 H1 locs1 → W p l e R s m args below meth c H1 locs1 cells slots Q (F0 m (pc + 1) ls (rest))) : W p l e R s m args below meth c H locs cells slots Q (F0 m pc ls (va_rf x :: .int i :: .ref (E.1.2.1 12) :: rest)) :=
  cw_maast X hK hR hS 12 (by decide) rfl rfl hi (cw_isN hK hR hx) hdg kk
theorem c1l_13 (X : ww_C p m c cc nL s args RX1 lw_all) (hK : cw_K E A s) (hR : cw_H E A D H) {i : Int32} (hi : ww_i i 16 = true) {r : Option Nat} (he : some (ww_Y D.1 13 i) = some r) (hdg : decode cc pc = .ok (.aaload, 1)) (kk : W p l e R s m args below meth c H locs cells slots Q (F0 m (pc + 1) ls (va_rf r :: rest))) : W p l e R s m args below meth c H locs cells slots Q (F0 m pc ls (.int i :: .ref (E.1.2.1 13) :: rest)) :=
  cw_maald X hK hR 13 (by decide) rfl rfl hi he hdg kk
theorem c1s_13 (X : ww_C p m c cc nL s args RX1 lw_all) (hK : cw_K E A s) (hR : cw_H E A D H) (hS : va_S A H0 H locs) {i : Int32} {x : Option Nat} (hi : ww_i i 16 = true) (hx : cw_kd D [1, 2] x = true) (hdg : decode cc pc = .ok (.aastore, 1)) (kk : ∀ (H1 : Heap) (locs1 : List Loc), cw_H E A (cw_sY D 13 i x) H1 → va_S A H0 H1 locs1 → W p l e R s m args below meth c H1 locs1 cells slots Q (F0 m (pc + 1) ls (rest))) : W p l e R s m args below meth c H locs cells slots Q (F0 m pc ls (va_rf x :: .int i :: .ref (E.1.2.1 13) :: rest)) :=
  cw_maast X hK hR hS 13 (by decide) rfl rfl hi (cw_isN hK hR hx) hdg kk
theorem c1l_21 (X : ww_C p m c cc nL s args RX1 lw_all) (hK : cw_K E A s) (hR : cw_H E A D H) {i : Int32} (hi : ww_i i 999 = true) (hdg : decode cc pc = .ok (.iaload, 1)) (kk : W p l e R s m args below meth c H locs cells slots Q (F0 m (pc + 1) ls (.int (ww_X D.1 21 i) :: rest))) : W p l e R s m args below meth c H locs cells slots Q (F0 m pc ls (.int i :: .ref (E.1.2.1 21) :: rest)) :=
  cw_miald X hK hR 21 (by decide) rfl rfl hi hdg kk
theorem c1s_21 (X : ww_C p m c cc nL s args RX1 lw_all) (hK : cw_K E A s) (hR : cw_H E A D H) (hS : va_S A H0 H locs) {i x : Int32} (hi : ww_i i 999 = true) (hdg : decode cc pc = .ok (.iastore, 1)) (kk : ∀ (H1 : Heap) (locs1 : List Loc), cw_H E A (cw_sX D 21 i x) H1 → va_S A H0 H1 locs1 → W p l e R s m args below meth c H1 locs1 cells slots Q (F0 m (pc + 1) ls (rest))) : W p l e R s m args below meth c H locs cells slots Q (F0 m pc ls (.int x :: .int i :: .ref (E.1.2.1 21) :: rest)) :=
  cw_miast X hK hR hS 21 (by decide) rfl rfl hi hdg kk
theorem c1l_22 (X : ww_C p m c cc nL s args RX1 lw_all) (hK : cw_K E A s) (hR : cw_H E A D H) {i : Int32} (hi : ww_i i 999 = true) (hdg : decode cc pc = .ok (.iaload, 1)) (kk : W p l e R s m args below meth c H locs cells slots Q (F0 m (pc + 1) ls (.int (ww_X D.1 22 i) :: rest))) : W p l e R s m args below meth c H locs cells slots Q (F0 m pc ls (.int i :: .ref (E.1.2.1 22) :: rest)) :=
  cw_miald X hK hR 22 (by decide) rfl rfl hi hdg kk
theorem c1s_22 (X : ww_C p m c cc nL s args RX1 lw_all) (hK : cw_K E A s) (hR : cw_H E A D H) (hS : va_S A H0 H locs) {i x : Int32} (hi : ww_i i 999 = true) (hdg : decode cc pc = .ok (.iastore, 1)) (kk : ∀ (H1 : Heap) (locs1 : List Loc), cw_H E A (cw_sX D 22 i x) H1 → va_S A H0 H1 locs1 → W p l e R s m args below meth c H1 locs1 cells slots Q (F0 m (pc + 1) ls (rest))) : W p l e R s m args below meth c H locs cells slots Q (F0 m pc ls (.int x :: .int i :: .ref (E.1.2.1 22) :: rest)) :=
  cw_miast X hK hR hS 22 (by decide) rfl rfl hi hdg kk
theorem c1l_23 (X : ww_C p m c cc nL s args RX1 lw_all) (hK : cw_K E A s) (hR : cw_H E A D H) {i : Int32} (hi : ww_i i 5 = true) (hdg : decode cc pc = .ok (.iaload, 1)) (kk : W p l e R s m args below meth c H locs cells slots Q (F0 m (pc + 1) ls (.int (ww_X D.1 23 i) :: rest))) : W p l e R s m args below meth c H locs cells slots Q (F0 m pc ls (.int i :: .ref (E.1.2.1 23) :: rest)) :=
  cw_miald X hK hR 23 (by decide) rfl rfl hi hdg kk
theorem c1s_23 (X : ww_C p m c cc nL s args RX1 lw_all) (hK : cw_K E A s) (hR : cw_H E A D H) (hS : va_S A H0 H locs) {i x : Int32} (hi : ww_i i 5 = true) (hdg : decode cc pc = .ok (.iastore, 1)) (kk : ∀ (H1 : Heap) (locs1 : List Loc), cw_H E A (cw_sX D 23 i x) H1 → va_S A H0 H1 locs1 → W p l e R s m args below meth c H1 locs1 cells slots Q (F0 m (pc + 1) ls (rest))) : W p l e R s m args below meth c H locs cells slots Q (F0 m pc ls (.int x :: .int i :: .ref (E.1.2.1 23) :: rest)) :=
  cw_miast X hK hR hS 23 (by decide) rfl rfl hi hdg kk
theorem c1l_24 (X : ww_C p m c cc nL s args RX1 lw_all) (hK : cw_K E A s) (hR : cw_H E A D H) {i : Int32} (hi : ww_i i 4 = true) {r : Option Nat} (he : some (ww_Y D.1 24 i) = some r) (hdg : decode cc pc = .ok (.aaload, 1)) (kk : W p l e R s m args below meth c H locs cells slots Q (F0 m (pc + 1) ls (va_rf r :: rest))) : W p l e R s m args below meth c H locs cells slots Q (F0 m pc ls (.int i :: .ref (E.1.2.1 24) :: rest)) :=
  cw_maald X hK hR 24 (by decide) rfl rfl hi he hdg kk
theorem c1s_24 (X : ww_C p m c cc nL s args RX1 lw_all) (hK : cw_K E A s) (hR : cw_H E A D H) (hS : va_S A H0 H locs) {i : Int32} {x : Option Nat} (hi : ww_i i 4 = true) (hx : cw_kd D [1, 2] x = true) (hdg : decode cc pc = .ok (.aastore, 1)) (kk : ∀ (H1 : Heap) (locs1 : List Loc), cw_H E A (cw_sY D 24 i x) H1 → va_S A H0 H1 locs1 → W p l e R s m args below meth c H1 locs1 cells slots Q (F0 m (pc + 1) ls (rest))) : W p l e R s m args below meth c H locs cells slots Q (F0 m pc ls (va_rf x :: .int i :: .ref (E.1.2.1 24) :: rest)) :=
  cw_maast X hK hR hS 24 (by decide) rfl rfl hi (cw_isN hK hR hx) hdg kk
theorem c1l_25 (X : ww_C p m c cc nL s args RX1 lw_all) (hK : cw_K E A s) (hR : cw_H E A D H) {i : Int32} (hi : ww_i i 4 = true) {r : Option Nat} (he : some (ww_Y D.1 25 i) = some r) (hdg : decode cc pc = .ok (.aaload, 1)) (kk : W p l e R s m args below meth c H locs cells slots Q (F0 m (pc + 1) ls (va_rf r :: rest))) : W p l e R s m args below meth c H locs cells slots Q (F0 m pc ls (.int i :: .ref (E.1.2.1 25) :: rest)) :=
  cw_maald X hK hR 25 (by decide) rfl rfl hi he hdg kk
theorem c1s_25 (X : ww_C p m c cc nL s args RX1 lw_all) (hK : cw_K E A s) (hR : cw_H E A D H) (hS : va_S A H0 H locs) {i : Int32} {x : Option Nat} (hi : ww_i i 4 = true) (hx : cw_kd D [0] x = true) (hdg : decode cc pc = .ok (.aastore, 1)) (kk : ∀ (H1 : Heap) (locs1 : List Loc), cw_H E A (cw_sY D 25 i x) H1 → va_S A H0 H1 locs1 → W p l e R s m args below meth c H1 locs1 cells slots Q (F0 m (pc + 1) ls (rest))) : W p l e R s m args below meth c H locs cells slots Q (F0 m pc ls (va_rf x :: .int i :: .ref (E.1.2.1 25) :: rest)) :=
  cw_maast X hK hR hS 25 (by decide) rfl rfl hi (cw_isC (k := 0) (C := RX4) (T := TX4) (N := 1) hK hR rfl (by decide) hx) hdg kk
theorem c1l_26 (X : ww_C p m c cc nL s args RX1 lw_all) (hK : cw_K E A s) (hR : cw_H E A D H) {i : Int32} (hi : ww_i i 4 = true) (hdg : decode cc pc = .ok (.iaload, 1)) (kk : W p l e R s m args below meth c H locs cells slots Q (F0 m (pc + 1) ls (.int (ww_X D.1 26 i) :: rest))) : W p l e R s m args below meth c H locs cells slots Q (F0 m pc ls (.int i :: .ref (E.1.2.1 26) :: rest)) :=
  cw_miald X hK hR 26 (by decide) rfl rfl hi hdg kk
theorem c1s_26 (X : ww_C p m c cc nL s args RX1 lw_all) (hK : cw_K E A s) (hR : cw_H E A D H) (hS : va_S A H0 H locs) {i x : Int32} (hi : ww_i i 4 = true) (hdg : decode cc pc = .ok (.iastore, 1)) (kk : ∀ (H1 : Heap) (locs1 : List Loc), cw_H E A (cw_sX D 26 i x) H1 → va_S A H0 H1 locs1 → W p l e R s m args below meth c H1 locs1 cells slots Q (F0 m (pc + 1) ls (rest))) : W p l e R s m args below meth c H locs cells slots Q (F0 m pc ls (.int x :: .int i :: .ref (E.1.2.1 26) :: rest)) :=
  cw_miast X hK hR hS 26 (by decide) rfl rfl hi hdg kk
theorem c1l_29 (X : ww_C p m c cc nL s args RX1 lw_all) (hK : cw_K E A s) (hR : cw_H E A D H) {i : Int32} (hi : ww_i i 120 = true) (hdg : decode cc pc = .ok (.iaload, 1)) (kk : W p l e R s m args below meth c H locs cells slots Q (F0 m (pc + 1) ls (.int (ww_X D.1 29 i) :: rest))) : W p l e R s m args below meth c H locs cells slots Q (F0 m pc ls (.int i :: .ref (E.1.2.1 29) :: rest)) :=
  cw_miald X hK hR 29 (by decide) rfl rfl hi hdg kk
theorem c1s_29 (X : ww_C p m c cc nL s args RX1 lw_all) (hK : cw_K E A s) (hR : cw_H E A D H) (hS : va_S A H0 H locs) {i x : Int32} (hi : ww_i i 120 = true) (hdg : decode cc pc = .ok (.iastore, 1)) (kk : ∀ (H1 : Heap) (locs1 : List Loc), cw_H E A (cw_sX D 29 i x) H1 → va_S A H0 H1 locs1 → W p l e R s m args below meth c H1 locs1 cells slots Q (F0 m (pc + 1) ls (rest))) : W p l e R s m args below meth c H locs cells slots Q (F0 m pc ls (.int x :: .int i :: .ref (E.1.2.1 29) :: rest)) :=
  cw_miast X hK hR hS 29 (by decide) rfl rfl hi hdg kk
theorem c1l_30 (X : ww_C p m c cc nL s args RX1 lw_all) (hK : cw_K E A s) (hR : cw_H E A D H) {i : Int32} (hi : ww_i i 120 = true) (hdg : decode cc pc = .ok (.iaload, 1)) (kk : W p l e R s m args below meth c H locs cells slots Q (F0 m (pc + 1) ls (.int (ww_X D.1 30 i) :: rest))) : W p l e R s m args below meth c H locs cells slots Q (F0 m pc ls (.int i :: .ref (E.1.2.1 30) :: rest)) :=
  cw_miald X hK hR 30 (by decide) rfl rfl hi hdg kk
theorem c1s_30 (X : ww_C p m c cc nL s args RX1 lw_all) (hK : cw_K E A s) (hR : cw_H E A D H) (hS : va_S A H0 H locs) {i x : Int32} (hi : ww_i i 120 = true) (hdg : decode cc pc = .ok (.iastore, 1)) (kk : ∀ (H1 : Heap) (locs1 : List Loc), cw_H E A (cw_sX D 30 i x) H1 → va_S A H0 H1 locs1 → W p l e R s m args below meth c H1 locs1 cells slots Q (F0 m (pc + 1) ls (rest))) : W p l e R s m args below meth c H locs cells slots Q (F0 m pc ls (.int x :: .int i :: .ref (E.1.2.1 30) :: rest)) :=
  cw_miast X hK hR hS 30 (by decide) rfl rfl hi hdg kk
theorem c1l_35 (X : ww_C p m c cc nL s args RX1 lw_all) (hK : cw_K E A s) (hR : cw_H E A D H) {i : Int32} (hi : ww_i i 999 = true) (hdg : decode cc pc = .ok (.baload, 1)) (kk : W p l e R s m args below meth c H locs cells slots Q (F0 m (pc + 1) ls (.int (ww_X D.1 35 i) :: rest))) : W p l e R s m args below meth c H locs cells slots Q (F0 m pc ls (.int i :: .ref (E.1.2.1 35) :: rest)) :=
  cw_mzald X hK hR 35 (by decide) rfl rfl hi hdg kk
theorem c1s_35 (X : ww_C p m c cc nL s args RX1 lw_all) (hK : cw_K E A s) (hR : cw_H E A D H) (hS : va_S A H0 H locs) {i x : Int32} (hi : ww_i i 999 = true) (hdg : decode cc pc = .ok (.bastore, 1)) (kk : ∀ (H1 : Heap) (locs1 : List Loc), cw_H E A (cw_sX D 35 i (vp_nar .boolean x)) H1 → va_S A H0 H1 locs1 → W p l e R s m args below meth c H1 locs1 cells slots Q (F0 m (pc + 1) ls (rest))) : W p l e R s m args below meth c H locs cells slots Q (F0 m pc ls (.int x :: .int i :: .ref (E.1.2.1 35) :: rest)) :=
  cw_mzast X hK hR hS 35 (by decide) rfl rfl hi hdg kk
theorem c1l_36 (X : ww_C p m c cc nL s args RX1 lw_all) (hK : cw_K E A s) (hR : cw_H E A D H) {i : Int32} (hi : ww_i i 999 = true) (hdg : decode cc pc = .ok (.baload, 1)) (kk : W p l e R s m args below meth c H locs cells slots Q (F0 m (pc + 1) ls (.int (ww_X D.1 36 i) :: rest))) : W p l e R s m args below meth c H locs cells slots Q (F0 m pc ls (.int i :: .ref (E.1.2.1 36) :: rest)) :=
  cw_mzald X hK hR 36 (by decide) rfl rfl hi hdg kk
theorem c1s_36 (X : ww_C p m c cc nL s args RX1 lw_all) (hK : cw_K E A s) (hR : cw_H E A D H) (hS : va_S A H0 H locs) {i x : Int32} (hi : ww_i i 999 = true) (hdg : decode cc pc = .ok (.bastore, 1)) (kk : ∀ (H1 : Heap) (locs1 : List Loc), cw_H E A (cw_sX D 36 i (vp_nar .boolean x)) H1 → va_S A H0 H1 locs1 → W p l e R s m args below meth c H1 locs1 cells slots Q (F0 m (pc + 1) ls (rest))) : W p l e R s m args below meth c H locs cells slots Q (F0 m pc ls (.int x :: .int i :: .ref (E.1.2.1 36) :: rest)) :=
  cw_mzast X hK hR hS 36 (by decide) rfl rfl hi hdg kk
theorem c1l_j {j : Nat} (hj : j = 35 ∨ j = 36) (X : ww_C p m c cc nL s args RX1 lw_all) (hK : cw_K E A s) (hR : cw_H E A D H) {i : Int32} (hi : ww_i i 999 = true) (hdg : decode cc pc = .ok (.baload, 1)) (kk : W p l e R s m args below meth c H locs cells slots Q (F0 m (pc + 1) ls (.int (ww_X D.1 j i) :: rest))) : W p l e R s m args below meth c H locs cells slots Q (F0 m pc ls (.int i :: .ref (E.1.2.1 j) :: rest)) := by
  rcases hj with rfl | rfl
  · exact c1l_35 X hK hR hi hdg kk
  · exact c1l_36 X hK hR hi hdg kk
theorem c1s_j {j : Nat} (hj : j = 35 ∨ j = 36) (X : ww_C p m c cc nL s args RX1 lw_all) (hK : cw_K E A s) (hR : cw_H E A D H) (hS : va_S A H0 H locs) {i x : Int32} (hi : ww_i i 999 = true) (hdg : decode cc pc = .ok (.bastore, 1)) (kk : ∀ (H1 : Heap) (locs1 : List Loc), cw_H E A (cw_sX D j i (vp_nar .boolean x)) H1 → va_S A H0 H1 locs1 → W p l e R s m args below meth c H1 locs1 cells slots Q (F0 m (pc + 1) ls (rest))) : W p l e R s m args below meth c H locs cells slots Q (F0 m pc ls (.int x :: .int i :: .ref (E.1.2.1 j) :: rest)) := by
  rcases hj with rfl | rfl
  · exact c1s_35 X hK hR hS hi hdg kk
  · exact c1s_36 X hK hR hS hi hdg kk
end CFR
