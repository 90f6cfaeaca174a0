/-! WideMapLaw.law: its cases -/
def lc_Nx (p : Program) (l : Launch) (e : Env) (s : State) (m : MethodId) (below : List Frame) (meth : Method) (c : Code) (Q : State → Prop) (E : cw_E) (A : Nat → Prop) (E3 : ww_E) (ol : Nat) (cL : ClassId) (J : Nat → cw_D → ww_M → Prop) (b k : Nat) : Prop :=
  ∀ (D : cw_D) (M : ww_M) (g : Nat → Int64) (H : Heap) (ls : Array Slot), J (k + 1) D M → lc_W s E A E3 ol cL D M g H → lv_has ls 7 [(4, .int (nI (6 * k))), (3, .ref ol), (2, .ref E3.1), (1, .ref E.1.1), (0, .ref b)] → W p l e room_1 s m #[.ref b] below meth c H [] (24048 + 49000 * (k + 1)) (293818 + 217000 * (k + 1)) Q (F0 m 2036 ls [])
section LCC
variable {p : Program} {l : Launch} {e : Env} {s : State} {m : MethodId} {below : List Frame} {meth : Method} {c : Code} {H : Heap} {Q : State → Prop} {ls : Array Slot} {E : cw_E} {A : Nat → Prop} {E3 : ww_E} {ol : Nat} {cL : ClassId} {D : cw_D} {M : ww_M} {g : Nat → Int64} {J : Nat → cw_D → ww_M → Prop} {b L k : Nat} {xs : Nat → Int32}
set_option maxHeartbeats 1000000 in
theorem law_c0 (hJ : pl_J J) (hK : lc_K l s E A E3 ol cL) (X : ww_C p m c cL_law 7 s #[.ref b] RX0 lw_all) (hX : va_X b L xs s s.heap) (hb : b < s.heap.size) (hL : L ≤ 144) (hk : 6 * k + 5 < L) (hJk : J k D M) (hW : lc_W s E A E3 ol cL D M g H) (hl : lv_has ls 7 [(4, .int (nI (6 * k))), (3, .ref ol), (2, .ref E3.1), (1, .ref E.1.1), (0, .ref b)]) (nx9 : lc_Nx p l e s m below meth c Q E A E3 ol cL J b k) : W p l e room_1 s m #[.ref b] below meth c H [] (24048 + 49000 * k) (293818 + 217000 * k) Q (F0 m 236 ls []) := by
  have hk24 : k < 24 := by omega
  obtain ⟨r, D', M', h1, h3, hJ'⟩ : lj_D (J (k + 1)) (f1_feed D (xs (6 * k + 1)) (xs (6 * k + 2)) (xs (6 * k + 3)) (xs (6 * k + 4)) (xs (6 * k + 5))) (f3_feed M (xs (6 * k + 1)) (xs (6 * k + 2)) (xs (6 * k + 3)) (xs (6 * k + 4)) (xs (6 * k + 5))) := hJ.2.2 k D M 0 (fun j => xs (6 * k + j)) hk24 hJk
  refine lv_aload_n X.1 X.2.1 dL_law_236 rfl (lv_at hl 3 rfl) ?_
  refine lc_arg X hW hl hX hb (j := 1) (by omega) hL rfl dL_law_237 dL_law_238 dL_law_241 dL_law_242 (fun h => lv_iconst (v := (1 : Int32)) X.1 X.2.1 dL_law_240 (by decide) h) ?_
  refine lc_arg X hW hl hX hb (j := 2) (by omega) hL rfl dL_law_243 dL_law_244 dL_law_247 dL_law_248 (fun h => lv_iconst (v := (2 : Int32)) X.1 X.2.1 dL_law_246 (by decide) h) ?_
  refine lc_arg X hW hl hX hb (j := 3) (by omega) hL rfl dL_law_249 dL_law_250 dL_law_253 dL_law_254 (fun h => lv_iconst (v := (3 : Int32)) X.1 X.2.1 dL_law_252 (by decide) h) ?_
  refine lc_arg X hW hl hX hb (j := 4) (by omega) hL rfl dL_law_255 dL_law_256 dL_law_259 dL_law_260 (fun h => lv_iconst (v := (4 : Int32)) X.1 X.2.1 dL_law_258 (by decide) h) ?_
  refine lc_arg X hW hl hX hb (j := 5) (by omega) hL rfl dL_law_261 dL_law_262 dL_law_265 dL_law_266 (fun h => lv_iconst (v := (5 : Int32)) X.1 X.2.1 dL_law_264 (by decide) h) ?_
  refine lc_c1 (As := [.int (xs (6 * k + 1)), .int (xs (6 * k + 2)), .int (xs (6 * k + 3)), .int (xs (6 * k + 4)), .int (xs (6 * k + 5))]) (n := 5) X hl.1 hK hW (met1_feed l _ _ _ _ _ _ _ _ h1) (lw_V q363 q364 q365 q131 q366) (by decide +kernel) rfl (Nat.le_of_ble_eq_true rfl) (Nat.le_of_ble_eq_true rfl) (by show _ ≤ 1200048; omega) (by show _ ≤ 5501818; omega) (cw_rest (Nat.le_of_ble_eq_true rfl)) dL_law_267 (fun H hW => ?_)
  refine lv_aload_n X.1 X.2.1 dL_law_270 rfl (lv_at hl 2 rfl) ?_
  refine lc_arg X hW hl hX hb (j := 1) (by omega) hL rfl dL_law_271 dL_law_272 dL_law_275 dL_law_276 (fun h => lv_iconst (v := (1 : Int32)) X.1 X.2.1 dL_law_274 (by decide) h) ?_
  refine lc_arg X hW hl hX hb (j := 2) (by omega) hL rfl dL_law_277 dL_law_278 dL_law_281 dL_law_282 (fun h => lv_iconst (v := (2 : Int32)) X.1 X.2.1 dL_law_280 (by decide) h) ?_
  refine lc_arg X hW hl hX hb (j := 3) (by omega) hL rfl dL_law_283 dL_law_284 dL_law_287 dL_law_288 (fun h => lv_iconst (v := (3 : Int32)) X.1 X.2.1 dL_law_286 (by decide) h) ?_
  refine lc_arg X hW hl hX hb (j := 4) (by omega) hL rfl dL_law_289 dL_law_290 dL_law_293 dL_law_294 (fun h => lv_iconst (v := (4 : Int32)) X.1 X.2.1 dL_law_292 (by decide) h) ?_
  refine lc_arg X hW hl hX hb (j := 5) (by omega) hL rfl dL_law_295 dL_law_296 dL_law_299 dL_law_300 (fun h => lv_iconst (v := (5 : Int32)) X.1 X.2.1 dL_law_298 (by decide) h) ?_
  refine lc_c3 (As := [.int (xs (6 * k + 1)), .int (xs (6 * k + 2)), .int (xs (6 * k + 3)), .int (xs (6 * k + 4)), .int (xs (6 * k + 5))]) (n := 5) X hl.1 hK hW (met3_feed l hK.2.2.1 _ _ _ _ _ _ _ _ h3) (lw_V q1878 q1879 q1880 q135 q1881) (by decide +kernel) rfl (Nat.le_of_ble_eq_true rfl) (Nat.le_of_ble_eq_true rfl) (by show _ ≤ 1200048; omega) (by show _ ≤ 5501818; omega) (cw_rest (Nat.le_of_ble_eq_true rfl)) dL_law_301 (fun H nx hn hW => ?_)
  refine lv_icmp_eq (tgt := 2036) X.1 X.2.1 dL_law_304 (by decide) (fun _ => ?_) (fun z => absurd rfl z)
  refine W.widen (k := 24048 + 49000 * (k + 1)) (n := 293818 + 217000 * (k + 1)) (by omega) (by omega) ?_
  exact nx9 _ _ _ _ ls (hJ.2.1 _ _ _ _ hJ' hn) hW hl
set_option maxHeartbeats 1000000 in
theorem law_c1 (hJ : pl_J J) (hK : lc_K l s E A E3 ol cL) (X : ww_C p m c cL_law 7 s #[.ref b] RX0 lw_all) (hX : va_X b L xs s s.heap) (hb : b < s.heap.size) (hL : L ≤ 144) (hk : 6 * k + 5 < L) (hJk : J k D M) (hW : lc_W s E A E3 ol cL D M g H) (hl : lv_has ls 7 [(4, .int (nI (6 * k))), (3, .ref ol), (2, .ref E3.1), (1, .ref E.1.1), (0, .ref b)]) (nx9 : lc_Nx p l e s m below meth c Q E A E3 ol cL J b k) : W p l e room_1 s m #[.ref b] below meth c H [] (24048 + 49000 * k) (293818 + 217000 * k) Q (F0 m 309 ls []) := by
  have hk24 : k < 24 := by omega
  obtain ⟨r, D', M', h1, h3, hJ'⟩ : lj_D (J (k + 1)) (f1_end D (xs (6 * k + 1))) (f3_end M (xs (6 * k + 1))) := hJ.2.2 k D M 1 (fun j => xs (6 * k + j)) hk24 hJk
  refine lv_aload_n X.1 X.2.1 dL_law_309 rfl (lv_at hl 3 rfl) ?_
  refine lc_arg X hW hl hX hb (j := 1) (by omega) hL rfl dL_law_310 dL_law_311 dL_law_314 dL_law_315 (fun h => lv_iconst (v := (1 : Int32)) X.1 X.2.1 dL_law_313 (by decide) h) ?_
  refine lc_c1 (As := [.int (xs (6 * k + 1))]) (n := 1) X hl.1 hK hW (met1_end l _ _ _ _ h1) (lw_V q370 q371 q372 q131 q373) (by decide +kernel) rfl (Nat.le_of_ble_eq_true rfl) (Nat.le_of_ble_eq_true rfl) (by show _ ≤ 1200048; omega) (by show _ ≤ 5501818; omega) (cw_rest (Nat.le_of_ble_eq_true rfl)) dL_law_316 (fun H hW => ?_)
  refine lv_aload_n X.1 X.2.1 dL_law_319 rfl (lv_at hl 2 rfl) ?_
  refine lc_arg X hW hl hX hb (j := 1) (by omega) hL rfl dL_law_320 dL_law_321 dL_law_324 dL_law_325 (fun h => lv_iconst (v := (1 : Int32)) X.1 X.2.1 dL_law_323 (by decide) h) ?_
  refine lc_c3 (As := [.int (xs (6 * k + 1))]) (n := 1) X hl.1 hK hW (met3_end l hK.2.2.1 _ _ _ _ h3) (lw_V q1889 q1890 q1891 q135 q1892) (by decide +kernel) rfl (Nat.le_of_ble_eq_true rfl) (Nat.le_of_ble_eq_true rfl) (by show _ ≤ 1200048; omega) (by show _ ≤ 5501818; omega) (cw_rest (Nat.le_of_ble_eq_true rfl)) dL_law_326 (fun H nx hn hW => ?_)
  refine lv_icmp_eq (tgt := 2036) X.1 X.2.1 dL_law_329 (by decide) (fun _ => ?_) (fun z => absurd rfl z)
  refine W.widen (k := 24048 + 49000 * (k + 1)) (n := 293818 + 217000 * (k + 1)) (by omega) (by omega) ?_
  exact nx9 _ _ _ _ ls (hJ.2.1 _ _ _ _ hJ' hn) hW hl
set_option maxHeartbeats 1000000 in
theorem law_c2 (hJ : pl_J J) (hK : lc_K l s E A E3 ol cL) (X : ww_C p m c cL_law 7 s #[.ref b] RX0 lw_all) (hX : va_X b L xs s s.heap) (hb : b < s.heap.size) (hL : L ≤ 144) (hk : 6 * k + 5 < L) (hJk : J k D M) (hW : lc_W s E A E3 ol cL D M g H) (hl : lv_has ls 7 [(4, .int (nI (6 * k))), (3, .ref ol), (2, .ref E3.1), (1, .ref E.1.1), (0, .ref b)]) (nx9 : lc_Nx p l e s m below meth c Q E A E3 ol cL J b k) : W p l e room_1 s m #[.ref b] below meth c H [] (24048 + 49000 * k) (293818 + 217000 * k) Q (F0 m 334 ls []) := by
  have hk24 : k < 24 := by omega
  obtain ⟨r, D', nc, ns, M', h1, h3, hJ', hnc, hns⟩ : lj_N (J (k + 1)) (f1_fault D (xs (6 * k + 1))) (f3_fault M (xs (6 * k + 1))) := hJ.2.2 k D M 2 (fun j => xs (6 * k + j)) hk24 hJk
  refine lv_aload_n X.1 X.2.1 dL_law_334 rfl (lv_at hl 3 rfl) ?_
  refine lc_arg X hW hl hX hb (j := 1) (by omega) hL rfl dL_law_335 dL_law_336 dL_law_339 dL_law_340 (fun h => lv_iconst (v := (1 : Int32)) X.1 X.2.1 dL_law_338 (by decide) h) ?_
  refine lc_c1W (As := [.int (xs (6 * k + 1))]) (n := 1) X hl.1 hK hW (met1_fault l _ _ _ _ _ _ h1) (lw_VW q377 q378 q379 q131 q380) (by decide +kernel) rfl (Nat.le_of_ble_eq_true rfl) (Nat.le_of_ble_eq_true rfl) (by show _ ≤ 1200048; omega) (by show _ ≤ 5501818; omega) (cw_rest (Nat.le_of_ble_eq_true rfl)) dL_law_341 (fun H hW => ?_)
  refine lv_aload_n X.1 X.2.1 dL_law_344 rfl (lv_at hl 2 rfl) ?_
  refine lc_arg X hW hl hX hb (j := 1) (by omega) hL rfl dL_law_345 dL_law_346 dL_law_349 dL_law_350 (fun h => lv_iconst (v := (1 : Int32)) X.1 X.2.1 dL_law_348 (by decide) h) ?_
  refine lc_c4 (As := [.int (xs (6 * k + 1))]) (n := 1) X hl.1 hK hW (met3_fault l hK.2.2.1 _ _ _ _ h3) (lw_V q1893 q1894 q1895 q135 q1896) (by decide +kernel) rfl (Nat.le_of_ble_eq_true rfl) (Nat.le_of_ble_eq_true rfl) (by show _ ≤ 1200048; omega) (by show _ ≤ 5501818; omega) (cw_rest (Nat.le_of_ble_eq_true rfl)) dL_law_351 (fun H nx hn hW => ?_)
  refine lv_icmp_eq (tgt := 2036) X.1 X.2.1 dL_law_354 (by decide) (fun _ => ?_) (fun z => absurd rfl z)
  refine W.widen (k := 24048 + 49000 * (k + 1)) (n := 293818 + 217000 * (k + 1)) (by omega) (by omega) ?_
  exact nx9 _ _ _ _ ls (hJ.2.1 _ _ _ _ hJ' hn) hW hl
set_option maxHeartbeats 1000000 in
theorem law_c3 (hJ : pl_J J) (hK : lc_K l s E A E3 ol cL) (X : ww_C p m c cL_law 7 s #[.ref b] RX0 lw_all) (hX : va_X b L xs s s.heap) (hb : b < s.heap.size) (hL : L ≤ 144) (hk : 6 * k + 5 < L) (hJk : J k D M) (hW : lc_W s E A E3 ol cL D M g H) (hl : lv_has ls 7 [(4, .int (nI (6 * k))), (3, .ref ol), (2, .ref E3.1), (1, .ref E.1.1), (0, .ref b)]) (nx9 : lc_Nx p l e s m below meth c Q E A E3 ol cL J b k) : W p l e room_1 s m #[.ref b] below meth c H [] (24048 + 49000 * k) (293818 + 217000 * k) Q (F0 m 359 ls []) := by
  have hk24 : k < 24 := by omega
  obtain ⟨r, D', nc, ns, M', h1, h3, hJ', hnc, hns⟩ : lj_N (J (k + 1)) (f1_text D (xs (6 * k + 1))) (f3_text M (xs (6 * k + 1))) := hJ.2.2 k D M 3 (fun j => xs (6 * k + j)) hk24 hJk
  refine lv_aload_n X.1 X.2.1 dL_law_359 rfl (lv_at hl 3 rfl) ?_
  refine lc_arg X hW hl hX hb (j := 1) (by omega) hL rfl dL_law_360 dL_law_361 dL_law_364 dL_law_365 (fun h => lv_iconst (v := (1 : Int32)) X.1 X.2.1 dL_law_363 (by decide) h) ?_
  refine lc_c1 (As := [.int (xs (6 * k + 1))]) (n := 1) X hl.1 hK hW (met1_text l _ _ _ _ _ _ h1) (lw_V q800 q801 q802 q131 q803) (by decide +kernel) rfl (Nat.le_of_ble_eq_true rfl) (Nat.le_of_ble_eq_true rfl) (by show _ ≤ 1200048; omega) (by show _ ≤ 5501818; omega) (cw_rest (Nat.le_of_ble_eq_true rfl)) dL_law_366 (fun H hW => ?_)
  refine lv_aload_n X.1 X.2.1 dL_law_369 rfl (lv_at hl 2 rfl) ?_
  refine lc_arg X hW hl hX hb (j := 1) (by omega) hL rfl dL_law_370 dL_law_371 dL_law_374 dL_law_375 (fun h => lv_iconst (v := (1 : Int32)) X.1 X.2.1 dL_law_373 (by decide) h) ?_
  refine lc_c4 (As := [.int (xs (6 * k + 1))]) (n := 1) X hl.1 hK hW (met3_text l hK.2.2.1 _ _ _ _ h3) (lw_V q1943 q1944 q1945 q135 q1946) (by decide +kernel) rfl (Nat.le_of_ble_eq_true rfl) (Nat.le_of_ble_eq_true rfl) (by show _ ≤ 1200048; omega) (by show _ ≤ 5501818; omega) (cw_rest (Nat.le_of_ble_eq_true rfl)) dL_law_376 (fun H nx hn hW => ?_)
  refine lv_icmp_eq (tgt := 2036) X.1 X.2.1 dL_law_379 (by decide) (fun _ => ?_) (fun z => absurd rfl z)
  refine W.widen (k := 24048 + 49000 * (k + 1)) (n := 293818 + 217000 * (k + 1)) (by omega) (by omega) ?_
  exact nx9 _ _ _ _ ls (hJ.2.1 _ _ _ _ hJ' hn) hW hl
set_option maxHeartbeats 1000000 in
theorem law_c4 (hJ : pl_J J) (hK : lc_K l s E A E3 ol cL) (X : ww_C p m c cL_law 7 s #[.ref b] RX0 lw_all) (hX : va_X b L xs s s.heap) (hb : b < s.heap.size) (hL : L ≤ 144) (hk : 6 * k + 5 < L) (hJk : J k D M) (hW : lc_W s E A E3 ol cL D M g H) (hl : lv_has ls 7 [(4, .int (nI (6 * k))), (3, .ref ol), (2, .ref E3.1), (1, .ref E.1.1), (0, .ref b)]) (nx9 : lc_Nx p l e s m below meth c Q E A E3 ol cL J b k) : W p l e room_1 s m #[.ref b] below meth c H [] (24048 + 49000 * k) (293818 + 217000 * k) Q (F0 m 384 ls []) := by
  have hk24 : k < 24 := by omega
  obtain ⟨r, D', M', h1, h3, hJ'⟩ : lj_D (J (k + 1)) (f1_wide D (xs (6 * k + 1))) (f3_wide M (xs (6 * k + 1))) := hJ.2.2 k D M 4 (fun j => xs (6 * k + j)) hk24 hJk
  refine lv_aload_n X.1 X.2.1 dL_law_384 rfl (lv_at hl 3 rfl) ?_
  refine lc_arg X hW hl hX hb (j := 1) (by omega) hL rfl dL_law_385 dL_law_386 dL_law_389 dL_law_390 (fun h => lv_iconst (v := (1 : Int32)) X.1 X.2.1 dL_law_388 (by decide) h) ?_
  refine lc_c1 (As := [.int (xs (6 * k + 1))]) (n := 1) X hl.1 hK hW (met1_wide l _ _ _ _ h1) (lw_V q1080 q1081 q1082 q131 q1083) (by decide +kernel) rfl (Nat.le_of_ble_eq_true rfl) (Nat.le_of_ble_eq_true rfl) (by show _ ≤ 1200048; omega) (by show _ ≤ 5501818; omega) (cw_rest (Nat.le_of_ble_eq_true rfl)) dL_law_391 (fun H hW => ?_)
  refine lv_aload_n X.1 X.2.1 dL_law_394 rfl (lv_at hl 2 rfl) ?_
  refine lc_arg X hW hl hX hb (j := 1) (by omega) hL rfl dL_law_395 dL_law_396 dL_law_399 dL_law_400 (fun h => lv_iconst (v := (1 : Int32)) X.1 X.2.1 dL_law_398 (by decide) h) ?_
  refine lc_c3 (As := [.int (xs (6 * k + 1))]) (n := 1) X hl.1 hK hW (met3_wide l hK.2.2.1 _ _ _ _ h3) (lw_V q2023 q2024 q2025 q135 q2026) (by decide +kernel) rfl (Nat.le_of_ble_eq_true rfl) (Nat.le_of_ble_eq_true rfl) (by show _ ≤ 1200048; omega) (by show _ ≤ 5501818; omega) (cw_rest (Nat.le_of_ble_eq_true rfl)) dL_law_401 (fun H nx hn hW => ?_)
  refine lv_icmp_eq (tgt := 2036) X.1 X.2.1 dL_law_404 (by decide) (fun _ => ?_) (fun z => absurd rfl z)
  refine W.widen (k := 24048 + 49000 * (k + 1)) (n := 293818 + 217000 * (k + 1)) (by omega) (by omega) ?_
  exact nx9 _ _ _ _ ls (hJ.2.1 _ _ _ _ hJ' hn) hW hl
set_option maxHeartbeats 1000000 in
theorem law_c5 (hJ : pl_J J) (hK : lc_K l s E A E3 ol cL) (X : ww_C p m c cL_law 7 s #[.ref b] RX0 lw_all) (hX : va_X b L xs s s.heap) (hb : b < s.heap.size) (hL : L ≤ 144) (hk : 6 * k + 5 < L) (hJk : J k D M) (hW : lc_W s E A E3 ol cL D M g H) (hl : lv_has ls 7 [(4, .int (nI (6 * k))), (3, .ref ol), (2, .ref E3.1), (1, .ref E.1.1), (0, .ref b)]) (nx9 : lc_Nx p l e s m below meth c Q E A E3 ol cL J b k) : W p l e room_1 s m #[.ref b] below meth c H [] (24048 + 49000 * k) (293818 + 217000 * k) Q (F0 m 409 ls []) := by
  have hk24 : k < 24 := by omega
  obtain ⟨r, M', h1, h3, hJ'⟩ : lj_P (J (k + 1)) D (f1_find D (xs (6 * k + 1)) (xs (6 * k + 2))) (f3_find M (xs (6 * k + 1)) (xs (6 * k + 2))) := hJ.2.2 k D M 5 (fun j => xs (6 * k + j)) hk24 hJk
  refine lv_aload_n X.1 X.2.1 dL_law_409 rfl (lv_at hl 3 rfl) ?_
  refine lc_arg X hW hl hX hb (j := 1) (by omega) hL rfl dL_law_410 dL_law_411 dL_law_414 dL_law_415 (fun h => lv_iconst (v := (1 : Int32)) X.1 X.2.1 dL_law_413 (by decide) h) ?_
  refine lc_arg X hW hl hX hb (j := 2) (by omega) hL rfl dL_law_416 dL_law_417 dL_law_420 dL_law_421 (fun h => lv_iconst (v := (2 : Int32)) X.1 X.2.1 dL_law_419 (by decide) h) ?_
  refine lc_c1 (As := [.int (xs (6 * k + 1)), .int (xs (6 * k + 2))]) (n := 2) X hl.1 hK hW (met1_find l _ _ _ _ h1) (lw_V q1084 q1085 q1086 q131 q1087) (by decide +kernel) rfl (Nat.le_of_ble_eq_true rfl) (Nat.le_of_ble_eq_true rfl) (by show _ ≤ 1200048; omega) (by show _ ≤ 5501818; omega) (cw_rest (Nat.le_of_ble_eq_true rfl)) dL_law_422 (fun H hW => ?_)
  refine lv_aload_n X.1 X.2.1 dL_law_425 rfl (lv_at hl 2 rfl) ?_
  refine lc_arg X hW hl hX hb (j := 1) (by omega) hL rfl dL_law_426 dL_law_427 dL_law_430 dL_law_431 (fun h => lv_iconst (v := (1 : Int32)) X.1 X.2.1 dL_law_429 (by decide) h) ?_
  refine lc_arg X hW hl hX hb (j := 2) (by omega) hL rfl dL_law_432 dL_law_433 dL_law_436 dL_law_437 (fun h => lv_iconst (v := (2 : Int32)) X.1 X.2.1 dL_law_435 (by decide) h) ?_
  refine lc_c3 (As := [.int (xs (6 * k + 1)), .int (xs (6 * k + 2))]) (n := 2) X hl.1 hK hW (met3_find l hK.2.2.1 _ _ _ _ _ h3) (lw_V q2029 q2030 q2031 q135 q2032) (by decide +kernel) rfl (Nat.le_of_ble_eq_true rfl) (Nat.le_of_ble_eq_true rfl) (by show _ ≤ 1200048; omega) (by show _ ≤ 5501818; omega) (cw_rest (Nat.le_of_ble_eq_true rfl)) dL_law_438 (fun H nx hn hW => ?_)
  refine lv_icmp_eq (tgt := 2036) X.1 X.2.1 dL_law_441 (by decide) (fun _ => ?_) (fun z => absurd rfl z)
  refine W.widen (k := 24048 + 49000 * (k + 1)) (n := 293818 + 217000 * (k + 1)) (by omega) (by omega) ?_
  exact nx9 _ _ _ _ ls (hJ.2.1 _ _ _ _ hJ' hn) hW hl
set_option maxHeartbeats 1000000 in
theorem law_c6 (hJ : pl_J J) (hK : lc_K l s E A E3 ol cL) (X : ww_C p m c cL_law 7 s #[.ref b] RX0 lw_all) (hX : va_X b L xs s s.heap) (hb : b < s.heap.size) (hL : L ≤ 144) (hk : 6 * k + 5 < L) (hJk : J k D M) (hW : lc_W s E A E3 ol cL D M g H) (hl : lv_has ls 7 [(4, .int (nI (6 * k))), (3, .ref ol), (2, .ref E3.1), (1, .ref E.1.1), (0, .ref b)]) (nx9 : lc_Nx p l e s m below meth c Q E A E3 ol cL J b k) : W p l e room_1 s m #[.ref b] below meth c H [] (24048 + 49000 * k) (293818 + 217000 * k) Q (F0 m 446 ls []) := by
  have hk24 : k < 24 := by omega
  obtain ⟨z, r, M', h1, h3, hcz, hkz, hJ'⟩ : lj_K (J (k + 1)) (f1_key D (xs (6 * k + 1)) (xs (6 * k + 2))) (f3_key M (xs (6 * k + 1)) (xs (6 * k + 2))) := hJ.2.2 k D M 6 (fun j => xs (6 * k + j)) hk24 hJk
  rcases z with ⟨D', zc⟩ | ⟨v, D', zc⟩
  · have hth := hJ'.1
    refine lv_aload_n X.1 X.2.1 dL_law_446 rfl (lv_at hl 3 rfl) ?_
    refine lc_arg X hW hl hX hb (j := 1) (by omega) hL rfl dL_law_447 dL_law_448 dL_law_451 dL_law_452 (fun h => lv_iconst (v := (1 : Int32)) X.1 X.2.1 dL_law_450 (by decide) h) ?_
    refine lc_arg X hW hl hX hb (j := 2) (by omega) hL rfl dL_law_453 dL_law_454 dL_law_457 dL_law_458 (fun h => lv_iconst (v := (2 : Int32)) X.1 X.2.1 dL_law_456 (by decide) h) ?_
    refine lv_aload_n X.1 X.2.1 dL_law_459 rfl (lv_at hl 1 rfl) ?_
    refine lc_key X hl.1 hK hW (lk_key l hK.2.2.2.2.2.2.2 (fun z => (hK.2.2.2.2.1 ol z).2.1 rfl) D _ _ _ h1) (lw_SW q1670 q1671 q130 q1672) (Nat.le_of_ble_eq_true rfl) (Nat.le_of_ble_eq_true rfl) (by show _ ≤ 1200048; omega) (by show _ ≤ 5501818; omega) (cw_rest (Nat.le_of_ble_eq_true rfl)) dL_law_460 (fun H rk q hz hW => ?_)
    obtain ⟨hrk, hqg, n9, hn9, hq9⟩ := hz
    subst hrk
    have hq1 : q = ((D'.1, D'.2.1, n9), g) := Prod.ext hq9 hqg
    subst hq1
    refine lv_istore (lv' := (5, .int (1 : Int32)) :: [(4, .int (nI (6 * k))), (3, .ref ol), (2, .ref E3.1), (1, .ref E.1.1), (0, .ref b)]) X.1 X.2.1 dL_law_463 hl (by decide) rfl (fun ls hl5 => ?_)
    have hl : lv_has ls 7 [(4, .int (nI (6 * k))), (3, .ref ol), (2, .ref E3.1), (1, .ref E.1.1), (0, .ref b)] := lv_sub hl5 [1, 2, 3, 4, 5] rfl
    refine lv_aload_n X.1 X.2.1 dL_law_465 rfl (lv_at hl 2 rfl) ?_
    refine lc_arg X hW hl hX hb (j := 1) (by omega) hL rfl dL_law_466 dL_law_467 dL_law_470 dL_law_471 (fun h => lv_iconst (v := (1 : Int32)) X.1 X.2.1 dL_law_469 (by decide) h) ?_
    refine lc_arg X hW hl hX hb (j := 2) (by omega) hL rfl dL_law_472 dL_law_473 dL_law_476 dL_law_477 (fun h => lv_iconst (v := (2 : Int32)) X.1 X.2.1 dL_law_475 (by decide) h) ?_
    refine lc_c3 (As := [.int (xs (6 * k + 1)), .int (xs (6 * k + 2))]) (n := 2) X hl.1 hK hW (met3_key l hK.2.2.1 _ _ _ _ _ h3) (lw_V q2037 q2038 q2039 q135 q2040) (by decide +kernel) rfl (Nat.le_of_ble_eq_true rfl) (Nat.le_of_ble_eq_true rfl) (by show _ ≤ 1200048; omega) (by show _ ≤ 5501818; omega) (cw_rest (Nat.le_of_ble_eq_true rfl)) dL_law_478 (fun H nx hn hW => ?_)
    refine lv_istore (lv' := (6, .int r) :: (5, .int (1 : Int32)) :: [(4, .int (nI (6 * k))), (3, .ref ol), (2, .ref E3.1), (1, .ref E.1.1), (0, .ref b)]) X.1 X.2.1 dL_law_481 hl5 (by decide) rfl (fun ls hl6 => ?_)
    have hl : lv_has ls 7 [(4, .int (nI (6 * k))), (3, .ref ol), (2, .ref E3.1), (1, .ref E.1.1), (0, .ref b)] := lv_sub hl6 [2, 3, 4, 5, 6] rfl
    refine lv_aload_n X.1 X.2.1 dL_law_483 rfl (lv_at hl 2 rfl) ?_
    refine lc_c3 (As := []) (n := 0) X hl.1 hK hW (met3_thrown l hK.2.2.1 _ _ hth) (lw_V q1874 q1875 q1876 q135 q1877) (by decide +kernel) rfl (Nat.le_of_ble_eq_true rfl) (Nat.le_of_ble_eq_true rfl) (by show _ ≤ 1200048; omega) (by show _ ≤ 5501818; omega) (cw_rest (Nat.le_of_ble_eq_true rfl)) dL_law_484 (fun H nx2 hn2 hW => ?_)
    have hJf := hJ.2.1 _ _ _ nx2 (hJ.2.1 _ _ _ nx (hJ.2.1 _ _ _ n9 hJ'.2 hn9) hn) hn2
    have hrk : (1 : Int32) = 1 := rfl
    have hne : ¬ (1 : Int32) = 0 := by decide
    refine lv_iload X.1 X.2.1 dL_law_487 (lv_at hl6 1 rfl) ?_
    refine lv_icmp_eq (tgt := 494) X.1 X.2.1 dL_law_489 (by decide) (fun _ => ?_) (fun z => absurd hrk z)
    refine lv_iload X.1 X.2.1 dL_law_494 (lv_at hl6 1 rfl) ?_
    refine lv_if_ne (tgt := 511) X.1 X.2.1 dL_law_496 (by decide) (fun _ => ?_) (fun z => absurd z hne)
    refine lv_goto (tgt := 2036) X.1 X.2.1 dL_law_511 (by decide) ?_
    refine W.widen (k := 24048 + 49000 * (k + 1)) (n := 293818 + 217000 * (k + 1)) (by omega) (by omega) ?_
    exact nx9 _ _ _ _ ls hJf hW hl
  · have hth := hJ'.1
    refine lv_aload_n X.1 X.2.1 dL_law_446 rfl (lv_at hl 3 rfl) ?_
    refine lc_arg X hW hl hX hb (j := 1) (by omega) hL rfl dL_law_447 dL_law_448 dL_law_451 dL_law_452 (fun h => lv_iconst (v := (1 : Int32)) X.1 X.2.1 dL_law_450 (by decide) h) ?_
    refine lc_arg X hW hl hX hb (j := 2) (by omega) hL rfl dL_law_453 dL_law_454 dL_law_457 dL_law_458 (fun h => lv_iconst (v := (2 : Int32)) X.1 X.2.1 dL_law_456 (by decide) h) ?_
    refine lv_aload_n X.1 X.2.1 dL_law_459 rfl (lv_at hl 1 rfl) ?_
    refine lc_key X hl.1 hK hW (lk_key l hK.2.2.2.2.2.2.2 (fun z => (hK.2.2.2.2.1 ol z).2.1 rfl) D _ _ _ h1) (lw_SW q1670 q1671 q130 q1672) (Nat.le_of_ble_eq_true rfl) (Nat.le_of_ble_eq_true rfl) (by show _ ≤ 1200048; omega) (by show _ ≤ 5501818; omega) (cw_rest (Nat.le_of_ble_eq_true rfl)) dL_law_460 (fun H rk q hz hW => ?_)
    obtain ⟨hrk, hq1⟩ := hz
    subst hrk
    subst hq1
    refine lv_istore (lv' := (5, .int (0 : Int32)) :: [(4, .int (nI (6 * k))), (3, .ref ol), (2, .ref E3.1), (1, .ref E.1.1), (0, .ref b)]) X.1 X.2.1 dL_law_463 hl (by decide) rfl (fun ls hl5 => ?_)
    have hl : lv_has ls 7 [(4, .int (nI (6 * k))), (3, .ref ol), (2, .ref E3.1), (1, .ref E.1.1), (0, .ref b)] := lv_sub hl5 [1, 2, 3, 4, 5] rfl
    refine lv_aload_n X.1 X.2.1 dL_law_465 rfl (lv_at hl 2 rfl) ?_
    refine lc_arg X hW hl hX hb (j := 1) (by omega) hL rfl dL_law_466 dL_law_467 dL_law_470 dL_law_471 (fun h => lv_iconst (v := (1 : Int32)) X.1 X.2.1 dL_law_469 (by decide) h) ?_
    refine lc_arg X hW hl hX hb (j := 2) (by omega) hL rfl dL_law_472 dL_law_473 dL_law_476 dL_law_477 (fun h => lv_iconst (v := (2 : Int32)) X.1 X.2.1 dL_law_475 (by decide) h) ?_
    refine lc_c3 (As := [.int (xs (6 * k + 1)), .int (xs (6 * k + 2))]) (n := 2) X hl.1 hK hW (met3_key l hK.2.2.1 _ _ _ _ _ h3) (lw_V q2037 q2038 q2039 q135 q2040) (by decide +kernel) rfl (Nat.le_of_ble_eq_true rfl) (Nat.le_of_ble_eq_true rfl) (by show _ ≤ 1200048; omega) (by show _ ≤ 5501818; omega) (cw_rest (Nat.le_of_ble_eq_true rfl)) dL_law_478 (fun H nx hn hW => ?_)
    refine lv_istore (lv' := (6, .int r) :: (5, .int (0 : Int32)) :: [(4, .int (nI (6 * k))), (3, .ref ol), (2, .ref E3.1), (1, .ref E.1.1), (0, .ref b)]) X.1 X.2.1 dL_law_481 hl5 (by decide) rfl (fun ls hl6 => ?_)
    have hl : lv_has ls 7 [(4, .int (nI (6 * k))), (3, .ref ol), (2, .ref E3.1), (1, .ref E.1.1), (0, .ref b)] := lv_sub hl6 [2, 3, 4, 5, 6] rfl
    refine lv_aload_n X.1 X.2.1 dL_law_483 rfl (lv_at hl 2 rfl) ?_
    refine lc_c3 (As := []) (n := 0) X hl.1 hK hW (met3_thrown l hK.2.2.1 _ _ hth) (lw_V q1874 q1875 q1876 q135 q1877) (by decide +kernel) rfl (Nat.le_of_ble_eq_true rfl) (Nat.le_of_ble_eq_true rfl) (by show _ ≤ 1200048; omega) (by show _ ≤ 5501818; omega) (cw_rest (Nat.le_of_ble_eq_true rfl)) dL_law_484 (fun H nx2 hn2 hW => ?_)
    have hJf := hJ.2.1 _ _ _ nx2 (hJ.2.1 _ _ _ nx hJ'.2.2 hn) hn2
    have hrk : (0 : Int32) = 0 := rfl
    have heq : ¬ ¬ (0 : Int32) = 0 := fun z => z rfl
    have hcmp : lg_cmp (if (0 : Nat) = 0 then v.toInt64 else g 0) r.toInt64 = 0 := by rw [if_pos rfl, hJ'.2.1]; exact lc_cmp r.toInt64
    refine lv_iload X.1 X.2.1 dL_law_487 (lv_at hl6 1 rfl) ?_
    refine lv_icmp_eq (tgt := 494) X.1 X.2.1 dL_law_489 (by decide) (fun _ => ?_) (fun z => absurd hrk z)
    refine lv_iload X.1 X.2.1 dL_law_494 (lv_at hl6 1 rfl) ?_
    refine lv_if_ne (tgt := 511) X.1 X.2.1 dL_law_496 (by decide) (fun z => absurd rfl z) (fun _ => ?_)
    refine lv_aload_n X.1 X.2.1 dL_law_499 rfl (lv_at hl 1 rfl) ?_
    refine lv_iconst (v := (0 : Int32)) X.1 X.2.1 dL_law_500 (by decide) ?_
    refine lc_lald X hK hW dL_law_501 ?_
    refine lv_iload X.1 X.2.1 dL_law_502 (lv_at hl6 0 rfl) ?_
    refine lv_i2l (v := r.toInt64) X.1 X.2.1 dL_law_504 rfl ?_
    refine W.lcmp X.1 X.2.1 dL_law_505 ?_
    refine lv_if_eq (tgt := 511) X.1 X.2.1 dL_law_506 (by decide) (fun _ => ?_) (fun z => absurd hcmp z)
    refine lv_goto (tgt := 2036) X.1 X.2.1 dL_law_511 (by decide) ?_
    refine W.widen (k := 24048 + 49000 * (k + 1)) (n := 293818 + 217000 * (k + 1)) (by omega) (by omega) ?_
    exact nx9 _ _ _ _ ls hJf hW hl
set_option maxHeartbeats 1000000 in
theorem law_c7 (hJ : pl_J J) (hK : lc_K l s E A E3 ol cL) (X : ww_C p m c cL_law 7 s #[.ref b] RX0 lw_all) (hX : va_X b L xs s s.heap) (hb : b < s.heap.size) (hL : L ≤ 144) (hk : 6 * k + 5 < L) (hJk : J k D M) (hW : lc_W s E A E3 ol cL D M g H) (hl : lv_has ls 7 [(4, .int (nI (6 * k))), (3, .ref ol), (2, .ref E3.1), (1, .ref E.1.1), (0, .ref b)]) (nx9 : lc_Nx p l e s m below meth c Q E A E3 ol cL J b k) : W p l e room_1 s m #[.ref b] below meth c H [] (24048 + 49000 * k) (293818 + 217000 * k) Q (F0 m 514 ls []) := by
  have hk24 : k < 24 := by omega
  obtain ⟨r, D', M', h1, h3, hJ'⟩ : lj_D (J (k + 1)) (f1_about D (xs (6 * k + 1)) (xs (6 * k + 2))) (f3_about M (xs (6 * k + 1)) (xs (6 * k + 2))) := hJ.2.2 k D M 7 (fun j => xs (6 * k + j)) hk24 hJk
  refine lv_aload_n X.1 X.2.1 dL_law_514 rfl (lv_at hl 3 rfl) ?_
  refine lc_arg X hW hl hX hb (j := 1) (by omega) hL rfl dL_law_515 dL_law_516 dL_law_519 dL_law_520 (fun h => lv_iconst (v := (1 : Int32)) X.1 X.2.1 dL_law_518 (by decide) h) ?_
  refine lc_arg X hW hl hX hb (j := 2) (by omega) hL rfl dL_law_521 dL_law_522 dL_law_525 dL_law_526 (fun h => lv_iconst (v := (2 : Int32)) X.1 X.2.1 dL_law_524 (by decide) h) ?_
  refine lc_c1 (As := [.int (xs (6 * k + 1)), .int (xs (6 * k + 2))]) (n := 2) X hl.1 hK hW (met1_about l _ _ _ _ _ h1) (lw_V q1100 q1101 q1102 q131 q1103) (by decide +kernel) rfl (Nat.le_of_ble_eq_true rfl) (Nat.le_of_ble_eq_true rfl) (by show _ ≤ 1200048; omega) (by show _ ≤ 5501818; omega) (cw_rest (Nat.le_of_ble_eq_true rfl)) dL_law_527 (fun H hW => ?_)
  refine lv_aload_n X.1 X.2.1 dL_law_530 rfl (lv_at hl 2 rfl) ?_
  refine lc_arg X hW hl hX hb (j := 1) (by omega) hL rfl dL_law_531 dL_law_532 dL_law_535 dL_law_536 (fun h => lv_iconst (v := (1 : Int32)) X.1 X.2.1 dL_law_534 (by decide) h) ?_
  refine lc_arg X hW hl hX hb (j := 2) (by omega) hL rfl dL_law_537 dL_law_538 dL_law_541 dL_law_542 (fun h => lv_iconst (v := (2 : Int32)) X.1 X.2.1 dL_law_540 (by decide) h) ?_
  refine lc_c3 (As := [.int (xs (6 * k + 1)), .int (xs (6 * k + 2))]) (n := 2) X hl.1 hK hW (met3_about l hK.2.2.1 _ _ _ _ _ h3) (lw_V q2049 q2050 q2051 q135 q2052) (by decide +kernel) rfl (Nat.le_of_ble_eq_true rfl) (Nat.le_of_ble_eq_true rfl) (by show _ ≤ 1200048; omega) (by show _ ≤ 5501818; omega) (cw_rest (Nat.le_of_ble_eq_true rfl)) dL_law_543 (fun H nx hn hW => ?_)
  refine lv_icmp_eq (tgt := 2036) X.1 X.2.1 dL_law_546 (by decide) (fun _ => ?_) (fun z => absurd rfl z)
  refine W.widen (k := 24048 + 49000 * (k + 1)) (n := 293818 + 217000 * (k + 1)) (by omega) (by omega) ?_
  exact nx9 _ _ _ _ ls (hJ.2.1 _ _ _ _ hJ' hn) hW hl
set_option maxHeartbeats 1000000 in
theorem law_c8 (hJ : pl_J J) (hK : lc_K l s E A E3 ol cL) (X : ww_C p m c cL_law 7 s #[.ref b] RX0 lw_all) (hX : va_X b L xs s s.heap) (hb : b < s.heap.size) (hL : L ≤ 144) (hk : 6 * k + 5 < L) (hJk : J k D M) (hW : lc_W s E A E3 ol cL D M g H) (hl : lv_has ls 7 [(4, .int (nI (6 * k))), (3, .ref ol), (2, .ref E3.1), (1, .ref E.1.1), (0, .ref b)]) (nx9 : lc_Nx p l e s m below meth c Q E A E3 ol cL J b k) : W p l e room_1 s m #[.ref b] below meth c H [] (24048 + 49000 * k) (293818 + 217000 * k) Q (F0 m 551 ls []) := by
  have hk24 : k < 24 := by omega
  obtain ⟨r, D', M', h1, h3, hJ'⟩ : lj_D (J (k + 1)) (f1_below D (xs (6 * k + 1)) (xs (6 * k + 2))) (f3_below M (xs (6 * k + 1)) (xs (6 * k + 2))) := hJ.2.2 k D M 8 (fun j => xs (6 * k + j)) hk24 hJk
  refine lv_aload_n X.1 X.2.1 dL_law_551 rfl (lv_at hl 3 rfl) ?_
  refine lc_arg X hW hl hX hb (j := 1) (by omega) hL rfl dL_law_552 dL_law_553 dL_law_556 dL_law_557 (fun h => lv_iconst (v := (1 : Int32)) X.1 X.2.1 dL_law_555 (by decide) h) ?_
  refine lc_arg X hW hl hX hb (j := 2) (by omega) hL rfl dL_law_558 dL_law_559 dL_law_562 dL_law_563 (fun h => lv_iconst (v := (2 : Int32)) X.1 X.2.1 dL_law_561 (by decide) h) ?_
  refine lc_c1 (As := [.int (xs (6 * k + 1)), .int (xs (6 * k + 2))]) (n := 2) X hl.1 hK hW (met1_below l _ _ _ _ _ h1) (lw_V q1165 q1166 q1167 q131 q1168) (by decide +kernel) rfl (Nat.le_of_ble_eq_true rfl) (Nat.le_of_ble_eq_true rfl) (by show _ ≤ 1200048; omega) (by show _ ≤ 5501818; omega) (cw_rest (Nat.le_of_ble_eq_true rfl)) dL_law_564 (fun H hW => ?_)
  refine lv_aload_n X.1 X.2.1 dL_law_567 rfl (lv_at hl 2 rfl) ?_
  refine lc_arg X hW hl hX hb (j := 1) (by omega) hL rfl dL_law_568 dL_law_569 dL_law_572 dL_law_573 (fun h => lv_iconst (v := (1 : Int32)) X.1 X.2.1 dL_law_571 (by decide) h) ?_
  refine lc_arg X hW hl hX hb (j := 2) (by omega) hL rfl dL_law_574 dL_law_575 dL_law_578 dL_law_579 (fun h => lv_iconst (v := (2 : Int32)) X.1 X.2.1 dL_law_577 (by decide) h) ?_
  refine lc_c3 (As := [.int (xs (6 * k + 1)), .int (xs (6 * k + 2))]) (n := 2) X hl.1 hK hW (met3_below l hK.2.2.1 _ _ _ _ _ h3) (lw_V q2066 q2067 q2068 q135 q2069) (by decide +kernel) rfl (Nat.le_of_ble_eq_true rfl) (Nat.le_of_ble_eq_true rfl) (by show _ ≤ 1200048; omega) (by show _ ≤ 5501818; omega) (cw_rest (Nat.le_of_ble_eq_true rfl)) dL_law_580 (fun H nx hn hW => ?_)
  refine lv_icmp_eq (tgt := 2036) X.1 X.2.1 dL_law_583 (by decide) (fun _ => ?_) (fun z => absurd rfl z)
  refine W.widen (k := 24048 + 49000 * (k + 1)) (n := 293818 + 217000 * (k + 1)) (by omega) (by omega) ?_
  exact nx9 _ _ _ _ ls (hJ.2.1 _ _ _ _ hJ' hn) hW hl
set_option maxHeartbeats 1000000 in
theorem law_c9 (hJ : pl_J J) (hK : lc_K l s E A E3 ol cL) (X : ww_C p m c cL_law 7 s #[.ref b] RX0 lw_all) (hX : va_X b L xs s s.heap) (hb : b < s.heap.size) (hL : L ≤ 144) (hk : 6 * k + 5 < L) (hJk : J k D M) (hW : lc_W s E A E3 ol cL D M g H) (hl : lv_has ls 7 [(4, .int (nI (6 * k))), (3, .ref ol), (2, .ref E3.1), (1, .ref E.1.1), (0, .ref b)]) (nx9 : lc_Nx p l e s m below meth c Q E A E3 ol cL J b k) : W p l e room_1 s m #[.ref b] below meth c H [] (24048 + 49000 * k) (293818 + 217000 * k) Q (F0 m 588 ls []) := by
  have hk24 : k < 24 := by omega
  obtain ⟨r, D', M', h1, h3, hJ'⟩ : lj_D (J (k + 1)) (f1_near D (xs (6 * k + 1)) (xs (6 * k + 2)) (xs (6 * k + 3))) (f3_near M (xs (6 * k + 1)) (xs (6 * k + 2)) (xs (6 * k + 3))) := hJ.2.2 k D M 9 (fun j => xs (6 * k + j)) hk24 hJk
  refine lv_aload_n X.1 X.2.1 dL_law_588 rfl (lv_at hl 3 rfl) ?_
  refine lc_arg X hW hl hX hb (j := 1) (by omega) hL rfl dL_law_589 dL_law_590 dL_law_593 dL_law_594 (fun h => lv_iconst (v := (1 : Int32)) X.1 X.2.1 dL_law_592 (by decide) h) ?_
  refine lc_arg X hW hl hX hb (j := 2) (by omega) hL rfl dL_law_595 dL_law_596 dL_law_599 dL_law_600 (fun h => lv_iconst (v := (2 : Int32)) X.1 X.2.1 dL_law_598 (by decide) h) ?_
  refine lc_arg X hW hl hX hb (j := 3) (by omega) hL rfl dL_law_601 dL_law_602 dL_law_605 dL_law_606 (fun h => lv_iconst (v := (3 : Int32)) X.1 X.2.1 dL_law_604 (by decide) h) ?_
  refine lc_c1 (As := [.int (xs (6 * k + 1)), .int (xs (6 * k + 2)), .int (xs (6 * k + 3))]) (n := 3) X hl.1 hK hW (met1_near l _ _ _ _ _ _ h1) (lw_V q1169 q1170 q1171 q131 q1172) (by decide +kernel) rfl (Nat.le_of_ble_eq_true rfl) (Nat.le_of_ble_eq_true rfl) (by show _ ≤ 1200048; omega) (by show _ ≤ 5501818; omega) (cw_rest (Nat.le_of_ble_eq_true rfl)) dL_law_607 (fun H hW => ?_)
  refine lv_aload_n X.1 X.2.1 dL_law_610 rfl (lv_at hl 2 rfl) ?_
  refine lc_arg X hW hl hX hb (j := 1) (by omega) hL rfl dL_law_611 dL_law_612 dL_law_615 dL_law_616 (fun h => lv_iconst (v := (1 : Int32)) X.1 X.2.1 dL_law_614 (by decide) h) ?_
  refine lc_arg X hW hl hX hb (j := 2) (by omega) hL rfl dL_law_617 dL_law_618 dL_law_621 dL_law_622 (fun h => lv_iconst (v := (2 : Int32)) X.1 X.2.1 dL_law_620 (by decide) h) ?_
  refine lc_arg X hW hl hX hb (j := 3) (by omega) hL rfl dL_law_623 dL_law_624 dL_law_627 dL_law_628 (fun h => lv_iconst (v := (3 : Int32)) X.1 X.2.1 dL_law_626 (by decide) h) ?_
  refine lc_c3 (As := [.int (xs (6 * k + 1)), .int (xs (6 * k + 2)), .int (xs (6 * k + 3))]) (n := 3) X hl.1 hK hW (met3_near l hK.2.2.1 _ _ _ _ _ _ h3) (lw_V q2070 q2071 q2072 q135 q2073) (by decide +kernel) rfl (Nat.le_of_ble_eq_true rfl) (Nat.le_of_ble_eq_true rfl) (by show _ ≤ 1200048; omega) (by show _ ≤ 5501818; omega) (cw_rest (Nat.le_of_ble_eq_true rfl)) dL_law_629 (fun H nx hn hW => ?_)
  refine lv_icmp_eq (tgt := 2036) X.1 X.2.1 dL_law_632 (by decide) (fun _ => ?_) (fun z => absurd rfl z)
  refine W.widen (k := 24048 + 49000 * (k + 1)) (n := 293818 + 217000 * (k + 1)) (by omega) (by omega) ?_
  exact nx9 _ _ _ _ ls (hJ.2.1 _ _ _ _ hJ' hn) hW hl
set_option maxHeartbeats 1000000 in
theorem law_c10 (hJ : pl_J J) (hK : lc_K l s E A E3 ol cL) (X : ww_C p m c cL_law 7 s #[.ref b] RX0 lw_all) (hX : va_X b L xs s s.heap) (hb : b < s.heap.size) (hL : L ≤ 144) (hk : 6 * k + 5 < L) (hJk : J k D M) (hW : lc_W s E A E3 ol cL D M g H) (hl : lv_has ls 7 [(4, .int (nI (6 * k))), (3, .ref ol), (2, .ref E3.1), (1, .ref E.1.1), (0, .ref b)]) (nx9 : lc_Nx p l e s m below meth c Q E A E3 ol cL J b k) : W p l e room_1 s m #[.ref b] below meth c H [] (24048 + 49000 * k) (293818 + 217000 * k) Q (F0 m 637 ls []) := by
  have hk24 : k < 24 := by omega
  obtain ⟨r, D', M', h1, h3, hJ'⟩ : lj_D (J (k + 1)) (f1_total D (xs (6 * k + 1)) (xs (6 * k + 2)) (xs (6 * k + 3))) (f3_total M (xs (6 * k + 1)) (xs (6 * k + 2)) (xs (6 * k + 3))) := hJ.2.2 k D M 10 (fun j => xs (6 * k + j)) hk24 hJk
  refine lv_aload_n X.1 X.2.1 dL_law_637 rfl (lv_at hl 3 rfl) ?_
  refine lc_arg X hW hl hX hb (j := 1) (by omega) hL rfl dL_law_638 dL_law_639 dL_law_642 dL_law_643 (fun h => lv_iconst (v := (1 : Int32)) X.1 X.2.1 dL_law_641 (by decide) h) ?_
  refine lc_arg X hW hl hX hb (j := 2) (by omega) hL rfl dL_law_644 dL_law_645 dL_law_648 dL_law_649 (fun h => lv_iconst (v := (2 : Int32)) X.1 X.2.1 dL_law_647 (by decide) h) ?_
  refine lc_arg X hW hl hX hb (j := 3) (by omega) hL rfl dL_law_650 dL_law_651 dL_law_654 dL_law_655 (fun h => lv_iconst (v := (3 : Int32)) X.1 X.2.1 dL_law_653 (by decide) h) ?_
  refine lc_c1 (As := [.int (xs (6 * k + 1)), .int (xs (6 * k + 2)), .int (xs (6 * k + 3))]) (n := 3) X hl.1 hK hW (met1_total l _ _ _ _ _ _ h1) (lw_V q1173 q1174 q1175 q131 q1176) (by decide +kernel) rfl (Nat.le_of_ble_eq_true rfl) (Nat.le_of_ble_eq_true rfl) (by show _ ≤ 1200048; omega) (by show _ ≤ 5501818; omega) (cw_rest (Nat.le_of_ble_eq_true rfl)) dL_law_656 (fun H hW => ?_)
  refine lv_aload_n X.1 X.2.1 dL_law_659 rfl (lv_at hl 2 rfl) ?_
  refine lc_arg X hW hl hX hb (j := 1) (by omega) hL rfl dL_law_660 dL_law_661 dL_law_664 dL_law_665 (fun h => lv_iconst (v := (1 : Int32)) X.1 X.2.1 dL_law_663 (by decide) h) ?_
  refine lc_arg X hW hl hX hb (j := 2) (by omega) hL rfl dL_law_666 dL_law_667 dL_law_670 dL_law_671 (fun h => lv_iconst (v := (2 : Int32)) X.1 X.2.1 dL_law_669 (by decide) h) ?_
  refine lc_arg X hW hl hX hb (j := 3) (by omega) hL rfl dL_law_672 dL_law_673 dL_law_676 dL_law_677 (fun h => lv_iconst (v := (3 : Int32)) X.1 X.2.1 dL_law_675 (by decide) h) ?_
  refine lc_c3 (As := [.int (xs (6 * k + 1)), .int (xs (6 * k + 2)), .int (xs (6 * k + 3))]) (n := 3) X hl.1 hK hW (met3_total l hK.2.2.1 _ _ _ _ _ _ h3) (lw_V q2074 q2075 q2076 q135 q2077) (by decide +kernel) rfl (Nat.le_of_ble_eq_true rfl) (Nat.le_of_ble_eq_true rfl) (by show _ ≤ 1200048; omega) (by show _ ≤ 5501818; omega) (cw_rest (Nat.le_of_ble_eq_true rfl)) dL_law_678 (fun H nx hn hW => ?_)
  refine lv_icmp_eq (tgt := 2036) X.1 X.2.1 dL_law_681 (by decide) (fun _ => ?_) (fun z => absurd rfl z)
  refine W.widen (k := 24048 + 49000 * (k + 1)) (n := 293818 + 217000 * (k + 1)) (by omega) (by omega) ?_
  exact nx9 _ _ _ _ ls (hJ.2.1 _ _ _ _ hJ' hn) hW hl
set_option maxHeartbeats 1000000 in
theorem law_c11 (hJ : pl_J J) (hK : lc_K l s E A E3 ol cL) (X : ww_C p m c cL_law 7 s #[.ref b] RX0 lw_all) (hX : va_X b L xs s s.heap) (hb : b < s.heap.size) (hL : L ≤ 144) (hk : 6 * k + 5 < L) (hJk : J k D M) (hW : lc_W s E A E3 ol cL D M g H) (hl : lv_has ls 7 [(4, .int (nI (6 * k))), (3, .ref ol), (2, .ref E3.1), (1, .ref E.1.1), (0, .ref b)]) (nx9 : lc_Nx p l e s m below meth c Q E A E3 ol cL J b k) : W p l e room_1 s m #[.ref b] below meth c H [] (24048 + 49000 * k) (293818 + 217000 * k) Q (F0 m 686 ls []) := by
  have hk24 : k < 24 := by omega
  obtain ⟨r, D', M', h1, h3, hJ'⟩ : lj_D (J (k + 1)) (f1_node D (xs (6 * k + 1)) (xs (6 * k + 2)) (xs (6 * k + 3))) (f3_node M (xs (6 * k + 1)) (xs (6 * k + 2)) (xs (6 * k + 3))) := hJ.2.2 k D M 11 (fun j => xs (6 * k + j)) hk24 hJk
  refine lv_aload_n X.1 X.2.1 dL_law_686 rfl (lv_at hl 3 rfl) ?_
  refine lc_arg X hW hl hX hb (j := 1) (by omega) hL rfl dL_law_687 dL_law_688 dL_law_691 dL_law_692 (fun h => lv_iconst (v := (1 : Int32)) X.1 X.2.1 dL_law_690 (by decide) h) ?_
  refine lc_arg X hW hl hX hb (j := 2) (by omega) hL rfl dL_law_693 dL_law_694 dL_law_697 dL_law_698 (fun h => lv_iconst (v := (2 : Int32)) X.1 X.2.1 dL_law_696 (by decide) h) ?_
  refine lc_arg X hW hl hX hb (j := 3) (by omega) hL rfl dL_law_699 dL_law_700 dL_law_703 dL_law_704 (fun h => lv_iconst (v := (3 : Int32)) X.1 X.2.1 dL_law_702 (by decide) h) ?_
  refine lc_c1 (As := [.int (xs (6 * k + 1)), .int (xs (6 * k + 2)), .int (xs (6 * k + 3))]) (n := 3) X hl.1 hK hW (met1_node l _ _ _ _ _ _ h1) (lw_V q1177 q1178 q1179 q131 q1180) (by decide +kernel) rfl (Nat.le_of_ble_eq_true rfl) (Nat.le_of_ble_eq_true rfl) (by show _ ≤ 1200048; omega) (by show _ ≤ 5501818; omega) (cw_rest (Nat.le_of_ble_eq_true rfl)) dL_law_705 (fun H hW => ?_)
  refine lv_aload_n X.1 X.2.1 dL_law_708 rfl (lv_at hl 2 rfl) ?_
  refine lc_arg X hW hl hX hb (j := 1) (by omega) hL rfl dL_law_709 dL_law_710 dL_law_713 dL_law_714 (fun h => lv_iconst (v := (1 : Int32)) X.1 X.2.1 dL_law_712 (by decide) h) ?_
  refine lc_arg X hW hl hX hb (j := 2) (by omega) hL rfl dL_law_715 dL_law_716 dL_law_719 dL_law_720 (fun h => lv_iconst (v := (2 : Int32)) X.1 X.2.1 dL_law_718 (by decide) h) ?_
  refine lc_arg X hW hl hX hb (j := 3) (by omega) hL rfl dL_law_721 dL_law_722 dL_law_725 dL_law_726 (fun h => lv_iconst (v := (3 : Int32)) X.1 X.2.1 dL_law_724 (by decide) h) ?_
  refine lc_c3 (As := [.int (xs (6 * k + 1)), .int (xs (6 * k + 2)), .int (xs (6 * k + 3))]) (n := 3) X hl.1 hK hW (met3_node l hK.2.2.1 _ _ _ _ _ _ h3) (lw_V q2078 q2079 q2080 q135 q2081) (by decide +kernel) rfl (Nat.le_of_ble_eq_true rfl) (Nat.le_of_ble_eq_true rfl) (by show _ ≤ 1200048; omega) (by show _ ≤ 5501818; omega) (cw_rest (Nat.le_of_ble_eq_true rfl)) dL_law_727 (fun H nx hn hW => ?_)
  refine lv_icmp_eq (tgt := 2036) X.1 X.2.1 dL_law_730 (by decide) (fun _ => ?_) (fun z => absurd rfl z)
  refine W.widen (k := 24048 + 49000 * (k + 1)) (n := 293818 + 217000 * (k + 1)) (by omega) (by omega) ?_
  exact nx9 _ _ _ _ ls (hJ.2.1 _ _ _ _ hJ' hn) hW hl
set_option maxHeartbeats 1000000 in
theorem law_c12 (hJ : pl_J J) (hK : lc_K l s E A E3 ol cL) (X : ww_C p m c cL_law 7 s #[.ref b] RX0 lw_all) (hX : va_X b L xs s s.heap) (hb : b < s.heap.size) (hL : L ≤ 144) (hk : 6 * k + 5 < L) (hJk : J k D M) (hW : lc_W s E A E3 ol cL D M g H) (hl : lv_has ls 7 [(4, .int (nI (6 * k))), (3, .ref ol), (2, .ref E3.1), (1, .ref E.1.1), (0, .ref b)]) (nx9 : lc_Nx p l e s m below meth c Q E A E3 ol cL J b k) : W p l e room_1 s m #[.ref b] below meth c H [] (24048 + 49000 * k) (293818 + 217000 * k) Q (F0 m 735 ls []) := by
  have hk24 : k < 24 := by omega
  obtain ⟨r, D', nc, ns, M', h1, h3, hJ', hnc, hns⟩ : lj_N (J (k + 1)) (f1_having D (xs (6 * k + 1)) (xs (6 * k + 2)) (xs (6 * k + 3))) (f3_having M (xs (6 * k + 1)) (xs (6 * k + 2)) (xs (6 * k + 3))) := hJ.2.2 k D M 12 (fun j => xs (6 * k + j)) hk24 hJk
  refine lv_aload_n X.1 X.2.1 dL_law_735 rfl (lv_at hl 3 rfl) ?_
  refine lc_arg X hW hl hX hb (j := 1) (by omega) hL rfl dL_law_736 dL_law_737 dL_law_740 dL_law_741 (fun h => lv_iconst (v := (1 : Int32)) X.1 X.2.1 dL_law_739 (by decide) h) ?_
  refine lc_arg X hW hl hX hb (j := 2) (by omega) hL rfl dL_law_742 dL_law_743 dL_law_746 dL_law_747 (fun h => lv_iconst (v := (2 : Int32)) X.1 X.2.1 dL_law_745 (by decide) h) ?_
  refine lc_arg X hW hl hX hb (j := 3) (by omega) hL rfl dL_law_748 dL_law_749 dL_law_752 dL_law_753 (fun h => lv_iconst (v := (3 : Int32)) X.1 X.2.1 dL_law_751 (by decide) h) ?_
  refine lc_c1 (As := [.int (xs (6 * k + 1)), .int (xs (6 * k + 2)), .int (xs (6 * k + 3))]) (n := 3) X hl.1 hK hW (met1_having l _ _ _ _ _ _ _ _ h1) (lw_V q1202 q1203 q1204 q131 q1205) (by decide +kernel) rfl (Nat.le_of_ble_eq_true rfl) (Nat.le_of_ble_eq_true rfl) (by show _ ≤ 1200048; omega) (by show _ ≤ 5501818; omega) (cw_rest (Nat.le_of_ble_eq_true rfl)) dL_law_754 (fun H hW => ?_)
  refine lv_aload_n X.1 X.2.1 dL_law_757 rfl (lv_at hl 2 rfl) ?_
  refine lc_arg X hW hl hX hb (j := 1) (by omega) hL rfl dL_law_758 dL_law_759 dL_law_762 dL_law_763 (fun h => lv_iconst (v := (1 : Int32)) X.1 X.2.1 dL_law_761 (by decide) h) ?_
  refine lc_arg X hW hl hX hb (j := 2) (by omega) hL rfl dL_law_764 dL_law_765 dL_law_768 dL_law_769 (fun h => lv_iconst (v := (2 : Int32)) X.1 X.2.1 dL_law_767 (by decide) h) ?_
  refine lc_arg X hW hl hX hb (j := 3) (by omega) hL rfl dL_law_770 dL_law_771 dL_law_774 dL_law_775 (fun h => lv_iconst (v := (3 : Int32)) X.1 X.2.1 dL_law_773 (by decide) h) ?_
  refine lc_c3 (As := [.int (xs (6 * k + 1)), .int (xs (6 * k + 2)), .int (xs (6 * k + 3))]) (n := 3) X hl.1 hK hW (met3_having l hK.2.2.1 _ _ _ _ _ _ h3) (lw_V q2091 q2092 q2093 q135 q2094) (by decide +kernel) rfl (Nat.le_of_ble_eq_true rfl) (Nat.le_of_ble_eq_true rfl) (by show _ ≤ 1200048; omega) (by show _ ≤ 5501818; omega) (cw_rest (Nat.le_of_ble_eq_true rfl)) dL_law_776 (fun H nx hn hW => ?_)
  refine lv_icmp_eq (tgt := 2036) X.1 X.2.1 dL_law_779 (by decide) (fun _ => ?_) (fun z => absurd rfl z)
  refine W.widen (k := 24048 + 49000 * (k + 1)) (n := 293818 + 217000 * (k + 1)) (by omega) (by omega) ?_
  exact nx9 _ _ _ _ ls (hJ.2.1 _ _ _ _ hJ' hn) hW hl
set_option maxHeartbeats 1000000 in
theorem law_c13 (hJ : pl_J J) (hK : lc_K l s E A E3 ol cL) (X : ww_C p m c cL_law 7 s #[.ref b] RX0 lw_all) (hX : va_X b L xs s s.heap) (hb : b < s.heap.size) (hL : L ≤ 144) (hk : 6 * k + 5 < L) (hJk : J k D M) (hW : lc_W s E A E3 ol cL D M g H) (hl : lv_has ls 7 [(4, .int (nI (6 * k))), (3, .ref ol), (2, .ref E3.1), (1, .ref E.1.1), (0, .ref b)]) (nx9 : lc_Nx p l e s m below meth c Q E A E3 ol cL J b k) : W p l e room_1 s m #[.ref b] below meth c H [] (24048 + 49000 * k) (293818 + 217000 * k) Q (F0 m 784 ls []) := by
  have hk24 : k < 24 := by omega
  obtain ⟨r, D', nc, ns, M', h1, h3, hJ', hnc, hns⟩ : lj_N (J (k + 1)) (f1_lacking D (xs (6 * k + 1)) (xs (6 * k + 2))) (f3_lacking M (xs (6 * k + 1)) (xs (6 * k + 2))) := hJ.2.2 k D M 13 (fun j => xs (6 * k + j)) hk24 hJk
  refine lv_aload_n X.1 X.2.1 dL_law_784 rfl (lv_at hl 3 rfl) ?_
  refine lc_arg X hW hl hX hb (j := 1) (by omega) hL rfl dL_law_785 dL_law_786 dL_law_789 dL_law_790 (fun h => lv_iconst (v := (1 : Int32)) X.1 X.2.1 dL_law_788 (by decide) h) ?_
  refine lc_arg X hW hl hX hb (j := 2) (by omega) hL rfl dL_law_791 dL_law_792 dL_law_795 dL_law_796 (fun h => lv_iconst (v := (2 : Int32)) X.1 X.2.1 dL_law_794 (by decide) h) ?_
  refine lc_c1 (As := [.int (xs (6 * k + 1)), .int (xs (6 * k + 2))]) (n := 2) X hl.1 hK hW (met1_lacking l _ _ _ _ _ _ _ h1) (lw_V q1216 q1217 q1218 q131 q1219) (by decide +kernel) rfl (Nat.le_of_ble_eq_true rfl) (Nat.le_of_ble_eq_true rfl) (by show _ ≤ 1200048; omega) (by show _ ≤ 5501818; omega) (cw_rest (Nat.le_of_ble_eq_true rfl)) dL_law_797 (fun H hW => ?_)
  refine lv_aload_n X.1 X.2.1 dL_law_800 rfl (lv_at hl 2 rfl) ?_
  refine lc_arg X hW hl hX hb (j := 1) (by omega) hL rfl dL_law_801 dL_law_802 dL_law_805 dL_law_806 (fun h => lv_iconst (v := (1 : Int32)) X.1 X.2.1 dL_law_804 (by decide) h) ?_
  refine lc_arg X hW hl hX hb (j := 2) (by omega) hL rfl dL_law_807 dL_law_808 dL_law_811 dL_law_812 (fun h => lv_iconst (v := (2 : Int32)) X.1 X.2.1 dL_law_810 (by decide) h) ?_
  refine lc_c3 (As := [.int (xs (6 * k + 1)), .int (xs (6 * k + 2))]) (n := 2) X hl.1 hK hW (met3_lacking l hK.2.2.1 _ _ _ _ _ h3) (lw_V q2097 q2098 q2099 q135 q2100) (by decide +kernel) rfl (Nat.le_of_ble_eq_true rfl) (Nat.le_of_ble_eq_true rfl) (by show _ ≤ 1200048; omega) (by show _ ≤ 5501818; omega) (cw_rest (Nat.le_of_ble_eq_true rfl)) dL_law_813 (fun H nx hn hW => ?_)
  refine lv_icmp_eq (tgt := 2036) X.1 X.2.1 dL_law_816 (by decide) (fun _ => ?_) (fun z => absurd rfl z)
  refine W.widen (k := 24048 + 49000 * (k + 1)) (n := 293818 + 217000 * (k + 1)) (by omega) (by omega) ?_
  exact nx9 _ _ _ _ ls (hJ.2.1 _ _ _ _ hJ' hn) hW hl
set_option maxHeartbeats 1000000 in
theorem law_c14 (hJ : pl_J J) (hK : lc_K l s E A E3 ol cL) (X : ww_C p m c cL_law 7 s #[.ref b] RX0 lw_all) (hX : va_X b L xs s s.heap) (hb : b < s.heap.size) (hL : L ≤ 144) (hk : 6 * k + 5 < L) (hJk : J k D M) (hW : lc_W s E A E3 ol cL D M g H) (hl : lv_has ls 7 [(4, .int (nI (6 * k))), (3, .ref ol), (2, .ref E3.1), (1, .ref E.1.1), (0, .ref b)]) (nx9 : lc_Nx p l e s m below meth c Q E A E3 ol cL J b k) : W p l e room_1 s m #[.ref b] below meth c H [] (24048 + 49000 * k) (293818 + 217000 * k) Q (F0 m 821 ls []) := by
  have hk24 : k < 24 := by omega
  obtain ⟨r, D', nc, ns, M', h1, h3, hJ', hnc, hns⟩ : lj_N (J (k + 1)) (f1_merge D (xs (6 * k + 1)) (xs (6 * k + 2)) (xs (6 * k + 3))) (f3_merge M (xs (6 * k + 1)) (xs (6 * k + 2)) (xs (6 * k + 3))) := hJ.2.2 k D M 14 (fun j => xs (6 * k + j)) hk24 hJk
  refine lv_aload_n X.1 X.2.1 dL_law_821 rfl (lv_at hl 3 rfl) ?_
  refine lc_arg X hW hl hX hb (j := 1) (by omega) hL rfl dL_law_822 dL_law_823 dL_law_826 dL_law_827 (fun h => lv_iconst (v := (1 : Int32)) X.1 X.2.1 dL_law_825 (by decide) h) ?_
  refine lc_arg X hW hl hX hb (j := 2) (by omega) hL rfl dL_law_828 dL_law_829 dL_law_832 dL_law_833 (fun h => lv_iconst (v := (2 : Int32)) X.1 X.2.1 dL_law_831 (by decide) h) ?_
  refine lc_arg X hW hl hX hb (j := 3) (by omega) hL rfl dL_law_834 dL_law_835 dL_law_838 dL_law_839 (fun h => lv_iconst (v := (3 : Int32)) X.1 X.2.1 dL_law_837 (by decide) h) ?_
  refine lc_c1 (As := [.int (xs (6 * k + 1)), .int (xs (6 * k + 2)), .int (xs (6 * k + 3))]) (n := 3) X hl.1 hK hW (met1_merge l _ _ _ _ _ _ _ _ h1) (lw_V q1304 q1305 q1306 q131 q1307) (by decide +kernel) rfl (Nat.le_of_ble_eq_true rfl) (Nat.le_of_ble_eq_true rfl) (by show _ ≤ 1200048; omega) (by show _ ≤ 5501818; omega) (cw_rest (Nat.le_of_ble_eq_true rfl)) dL_law_840 (fun H hW => ?_)
  refine lv_aload_n X.1 X.2.1 dL_law_843 rfl (lv_at hl 2 rfl) ?_
  refine lc_arg X hW hl hX hb (j := 1) (by omega) hL rfl dL_law_844 dL_law_845 dL_law_848 dL_law_849 (fun h => lv_iconst (v := (1 : Int32)) X.1 X.2.1 dL_law_847 (by decide) h) ?_
  refine lc_arg X hW hl hX hb (j := 2) (by omega) hL rfl dL_law_850 dL_law_851 dL_law_854 dL_law_855 (fun h => lv_iconst (v := (2 : Int32)) X.1 X.2.1 dL_law_853 (by decide) h) ?_
  refine lc_arg X hW hl hX hb (j := 3) (by omega) hL rfl dL_law_856 dL_law_857 dL_law_860 dL_law_861 (fun h => lv_iconst (v := (3 : Int32)) X.1 X.2.1 dL_law_859 (by decide) h) ?_
  refine lc_c3 (As := [.int (xs (6 * k + 1)), .int (xs (6 * k + 2)), .int (xs (6 * k + 3))]) (n := 3) X hl.1 hK hW (met3_merge l hK.2.2.1 _ _ _ _ _ _ h3) (lw_V q2117 q2118 q2119 q135 q2120) (by decide +kernel) rfl (Nat.le_of_ble_eq_true rfl) (Nat.le_of_ble_eq_true rfl) (by show _ ≤ 1200048; omega) (by show _ ≤ 5501818; omega) (cw_rest (Nat.le_of_ble_eq_true rfl)) dL_law_862 (fun H nx hn hW => ?_)
  refine lv_icmp_eq (tgt := 2036) X.1 X.2.1 dL_law_865 (by decide) (fun _ => ?_) (fun z => absurd rfl z)
  refine W.widen (k := 24048 + 49000 * (k + 1)) (n := 293818 + 217000 * (k + 1)) (by omega) (by omega) ?_
  exact nx9 _ _ _ _ ls (hJ.2.1 _ _ _ _ hJ' hn) hW hl
set_option maxHeartbeats 1000000 in
theorem law_c15 (hJ : pl_J J) (hK : lc_K l s E A E3 ol cL) (X : ww_C p m c cL_law 7 s #[.ref b] RX0 lw_all) (hX : va_X b L xs s s.heap) (hb : b < s.heap.size) (hL : L ≤ 144) (hk : 6 * k + 5 < L) (hJk : J k D M) (hW : lc_W s E A E3 ol cL D M g H) (hl : lv_has ls 7 [(4, .int (nI (6 * k))), (3, .ref ol), (2, .ref E3.1), (1, .ref E.1.1), (0, .ref b)]) (nx9 : lc_Nx p l e s m below meth c Q E A E3 ol cL J b k) : W p l e room_1 s m #[.ref b] below meth c H [] (24048 + 49000 * k) (293818 + 217000 * k) Q (F0 m 870 ls []) := by
  have hk24 : k < 24 := by omega
  obtain ⟨r, D', nc, ns, M', h1, h3, hJ', hnc, hns⟩ : lj_N (J (k + 1)) (f1_three D (xs (6 * k + 1)) (xs (6 * k + 2)) (xs (6 * k + 3)) (xs (6 * k + 4))) (f3_three M (xs (6 * k + 1)) (xs (6 * k + 2)) (xs (6 * k + 3)) (xs (6 * k + 4))) := hJ.2.2 k D M 15 (fun j => xs (6 * k + j)) hk24 hJk
  refine lv_aload_n X.1 X.2.1 dL_law_870 rfl (lv_at hl 3 rfl) ?_
  refine lc_arg X hW hl hX hb (j := 1) (by omega) hL rfl dL_law_871 dL_law_872 dL_law_875 dL_law_876 (fun h => lv_iconst (v := (1 : Int32)) X.1 X.2.1 dL_law_874 (by decide) h) ?_
  refine lc_arg X hW hl hX hb (j := 2) (by omega) hL rfl dL_law_877 dL_law_878 dL_law_881 dL_law_882 (fun h => lv_iconst (v := (2 : Int32)) X.1 X.2.1 dL_law_880 (by decide) h) ?_
  refine lc_arg X hW hl hX hb (j := 3) (by omega) hL rfl dL_law_883 dL_law_884 dL_law_887 dL_law_888 (fun h => lv_iconst (v := (3 : Int32)) X.1 X.2.1 dL_law_886 (by decide) h) ?_
  refine lc_arg X hW hl hX hb (j := 4) (by omega) hL rfl dL_law_889 dL_law_890 dL_law_893 dL_law_894 (fun h => lv_iconst (v := (4 : Int32)) X.1 X.2.1 dL_law_892 (by decide) h) ?_
  refine lc_c1 (As := [.int (xs (6 * k + 1)), .int (xs (6 * k + 2)), .int (xs (6 * k + 3)), .int (xs (6 * k + 4))]) (n := 4) X hl.1 hK hW (met1_three l _ _ _ _ _ _ _ _ _ h1) (lw_V q1326 q1327 q1328 q131 q1329) (by decide +kernel) rfl (Nat.le_of_ble_eq_true rfl) (Nat.le_of_ble_eq_true rfl) (by show _ ≤ 1200048; omega) (by show _ ≤ 5501818; omega) (cw_rest (Nat.le_of_ble_eq_true rfl)) dL_law_895 (fun H hW => ?_)
  refine lv_aload_n X.1 X.2.1 dL_law_898 rfl (lv_at hl 2 rfl) ?_
  refine lc_arg X hW hl hX hb (j := 1) (by omega) hL rfl dL_law_899 dL_law_900 dL_law_903 dL_law_904 (fun h => lv_iconst (v := (1 : Int32)) X.1 X.2.1 dL_law_902 (by decide) h) ?_
  refine lc_arg X hW hl hX hb (j := 2) (by omega) hL rfl dL_law_905 dL_law_906 dL_law_909 dL_law_910 (fun h => lv_iconst (v := (2 : Int32)) X.1 X.2.1 dL_law_908 (by decide) h) ?_
  refine lc_arg X hW hl hX hb (j := 3) (by omega) hL rfl dL_law_911 dL_law_912 dL_law_915 dL_law_916 (fun h => lv_iconst (v := (3 : Int32)) X.1 X.2.1 dL_law_914 (by decide) h) ?_
  refine lc_arg X hW hl hX hb (j := 4) (by omega) hL rfl dL_law_917 dL_law_918 dL_law_921 dL_law_922 (fun h => lv_iconst (v := (4 : Int32)) X.1 X.2.1 dL_law_920 (by decide) h) ?_
  refine lc_c3 (As := [.int (xs (6 * k + 1)), .int (xs (6 * k + 2)), .int (xs (6 * k + 3)), .int (xs (6 * k + 4))]) (n := 4) X hl.1 hK hW (met3_three l hK.2.2.1 _ _ _ _ _ _ _ h3) (lw_V q2140 q2141 q2142 q135 q2143) (by decide +kernel) rfl (Nat.le_of_ble_eq_true rfl) (Nat.le_of_ble_eq_true rfl) (by show _ ≤ 1200048; omega) (by show _ ≤ 5501818; omega) (cw_rest (Nat.le_of_ble_eq_true rfl)) dL_law_923 (fun H nx hn hW => ?_)
  refine lv_icmp_eq (tgt := 2036) X.1 X.2.1 dL_law_926 (by decide) (fun _ => ?_) (fun z => absurd rfl z)
  refine W.widen (k := 24048 + 49000 * (k + 1)) (n := 293818 + 217000 * (k + 1)) (by omega) (by omega) ?_
  exact nx9 _ _ _ _ ls (hJ.2.1 _ _ _ _ hJ' hn) hW hl
set_option maxHeartbeats 1000000 in
theorem law_c16 (hJ : pl_J J) (hK : lc_K l s E A E3 ol cL) (X : ww_C p m c cL_law 7 s #[.ref b] RX0 lw_all) (hX : va_X b L xs s s.heap) (hb : b < s.heap.size) (hL : L ≤ 144) (hk : 6 * k + 5 < L) (hJk : J k D M) (hW : lc_W s E A E3 ol cL D M g H) (hl : lv_has ls 7 [(4, .int (nI (6 * k))), (3, .ref ol), (2, .ref E3.1), (1, .ref E.1.1), (0, .ref b)]) (nx9 : lc_Nx p l e s m below meth c Q E A E3 ol cL J b k) : W p l e room_1 s m #[.ref b] below meth c H [] (24048 + 49000 * k) (293818 + 217000 * k) Q (F0 m 931 ls []) := by
  have hk24 : k < 24 := by omega
  obtain ⟨r, M', h1, h3, hJ'⟩ : lj_P (J (k + 1)) D (f1_conflicts D (xs (6 * k + 1)) (xs (6 * k + 2)) (xs (6 * k + 3))) (f3_conflicts M (xs (6 * k + 1)) (xs (6 * k + 2)) (xs (6 * k + 3))) := hJ.2.2 k D M 16 (fun j => xs (6 * k + j)) hk24 hJk
  refine lv_aload_n X.1 X.2.1 dL_law_931 rfl (lv_at hl 3 rfl) ?_
  refine lc_arg X hW hl hX hb (j := 1) (by omega) hL rfl dL_law_932 dL_law_933 dL_law_936 dL_law_937 (fun h => lv_iconst (v := (1 : Int32)) X.1 X.2.1 dL_law_935 (by decide) h) ?_
  refine lc_arg X hW hl hX hb (j := 2) (by omega) hL rfl dL_law_938 dL_law_939 dL_law_942 dL_law_943 (fun h => lv_iconst (v := (2 : Int32)) X.1 X.2.1 dL_law_941 (by decide) h) ?_
  refine lc_arg X hW hl hX hb (j := 3) (by omega) hL rfl dL_law_944 dL_law_945 dL_law_948 dL_law_949 (fun h => lv_iconst (v := (3 : Int32)) X.1 X.2.1 dL_law_947 (by decide) h) ?_
  refine lc_c1 (As := [.int (xs (6 * k + 1)), .int (xs (6 * k + 2)), .int (xs (6 * k + 3))]) (n := 3) X hl.1 hK hW (met1_conflicts l _ _ _ _ _ h1) (lw_V q1348 q1349 q1350 q131 q1351) (by decide +kernel) rfl (Nat.le_of_ble_eq_true rfl) (Nat.le_of_ble_eq_true rfl) (by show _ ≤ 1200048; omega) (by show _ ≤ 5501818; omega) (cw_rest (Nat.le_of_ble_eq_true rfl)) dL_law_950 (fun H hW => ?_)
  refine lv_aload_n X.1 X.2.1 dL_law_953 rfl (lv_at hl 2 rfl) ?_
  refine lc_arg X hW hl hX hb (j := 1) (by omega) hL rfl dL_law_954 dL_law_955 dL_law_958 dL_law_959 (fun h => lv_iconst (v := (1 : Int32)) X.1 X.2.1 dL_law_957 (by decide) h) ?_
  refine lc_arg X hW hl hX hb (j := 2) (by omega) hL rfl dL_law_960 dL_law_961 dL_law_964 dL_law_965 (fun h => lv_iconst (v := (2 : Int32)) X.1 X.2.1 dL_law_963 (by decide) h) ?_
  refine lc_arg X hW hl hX hb (j := 3) (by omega) hL rfl dL_law_966 dL_law_967 dL_law_970 dL_law_971 (fun h => lv_iconst (v := (3 : Int32)) X.1 X.2.1 dL_law_969 (by decide) h) ?_
  refine lc_c3 (As := [.int (xs (6 * k + 1)), .int (xs (6 * k + 2)), .int (xs (6 * k + 3))]) (n := 3) X hl.1 hK hW (met3_conflicts l hK.2.2.1 _ _ _ _ _ _ h3) (lw_V q2161 q2162 q2163 q135 q2164) (by decide +kernel) rfl (Nat.le_of_ble_eq_true rfl) (Nat.le_of_ble_eq_true rfl) (by show _ ≤ 1200048; omega) (by show _ ≤ 5501818; omega) (cw_rest (Nat.le_of_ble_eq_true rfl)) dL_law_972 (fun H nx hn hW => ?_)
  refine lv_icmp_eq (tgt := 2036) X.1 X.2.1 dL_law_975 (by decide) (fun _ => ?_) (fun z => absurd rfl z)
  refine W.widen (k := 24048 + 49000 * (k + 1)) (n := 293818 + 217000 * (k + 1)) (by omega) (by omega) ?_
  exact nx9 _ _ _ _ ls (hJ.2.1 _ _ _ _ hJ' hn) hW hl
set_option maxHeartbeats 1000000 in
theorem law_c17 (hJ : pl_J J) (hK : lc_K l s E A E3 ol cL) (X : ww_C p m c cL_law 7 s #[.ref b] RX0 lw_all) (hX : va_X b L xs s s.heap) (hb : b < s.heap.size) (hL : L ≤ 144) (hk : 6 * k + 5 < L) (hJk : J k D M) (hW : lc_W s E A E3 ol cL D M g H) (hl : lv_has ls 7 [(4, .int (nI (6 * k))), (3, .ref ol), (2, .ref E3.1), (1, .ref E.1.1), (0, .ref b)]) (nx9 : lc_Nx p l e s m below meth c Q E A E3 ol cL J b k) : W p l e room_1 s m #[.ref b] below meth c H [] (24048 + 49000 * k) (293818 + 217000 * k) Q (F0 m 980 ls []) := by
  have hk24 : k < 24 := by omega
  obtain ⟨r, D', nc, ns, M', h1, h3, hJ', hnc, hns⟩ : lj_N (J (k + 1)) (f1_slice D (xs (6 * k + 1)) (xs (6 * k + 2)) (xs (6 * k + 3))) (f3_slice M (xs (6 * k + 1)) (xs (6 * k + 2)) (xs (6 * k + 3))) := hJ.2.2 k D M 17 (fun j => xs (6 * k + j)) hk24 hJk
  refine lv_aload_n X.1 X.2.1 dL_law_980 rfl (lv_at hl 3 rfl) ?_
  refine lc_arg X hW hl hX hb (j := 1) (by omega) hL rfl dL_law_981 dL_law_982 dL_law_985 dL_law_986 (fun h => lv_iconst (v := (1 : Int32)) X.1 X.2.1 dL_law_984 (by decide) h) ?_
  refine lc_arg X hW hl hX hb (j := 2) (by omega) hL rfl dL_law_987 dL_law_988 dL_law_991 dL_law_992 (fun h => lv_iconst (v := (2 : Int32)) X.1 X.2.1 dL_law_990 (by decide) h) ?_
  refine lc_arg X hW hl hX hb (j := 3) (by omega) hL rfl dL_law_993 dL_law_994 dL_law_997 dL_law_998 (fun h => lv_iconst (v := (3 : Int32)) X.1 X.2.1 dL_law_996 (by decide) h) ?_
  refine lc_c1 (As := [.int (xs (6 * k + 1)), .int (xs (6 * k + 2)), .int (xs (6 * k + 3))]) (n := 3) X hl.1 hK hW (met1_slice l _ _ _ _ _ _ _ _ h1) (lw_V q1352 q1353 q1354 q131 q1355) (by decide +kernel) rfl (Nat.le_of_ble_eq_true rfl) (Nat.le_of_ble_eq_true rfl) (by show _ ≤ 1200048; omega) (by show _ ≤ 5501818; omega) (cw_rest (Nat.le_of_ble_eq_true rfl)) dL_law_999 (fun H hW => ?_)
  refine lv_aload_n X.1 X.2.1 dL_law_1002 rfl (lv_at hl 2 rfl) ?_
  refine lc_arg X hW hl hX hb (j := 1) (by omega) hL rfl dL_law_1003 dL_law_1004 dL_law_1007 dL_law_1008 (fun h => lv_iconst (v := (1 : Int32)) X.1 X.2.1 dL_law_1006 (by decide) h) ?_
  refine lc_arg X hW hl hX hb (j := 2) (by omega) hL rfl dL_law_1009 dL_law_1010 dL_law_1013 dL_law_1014 (fun h => lv_iconst (v := (2 : Int32)) X.1 X.2.1 dL_law_1012 (by decide) h) ?_
  refine lc_arg X hW hl hX hb (j := 3) (by omega) hL rfl dL_law_1015 dL_law_1016 dL_law_1019 dL_law_1020 (fun h => lv_iconst (v := (3 : Int32)) X.1 X.2.1 dL_law_1018 (by decide) h) ?_
  refine lc_c3 (As := [.int (xs (6 * k + 1)), .int (xs (6 * k + 2)), .int (xs (6 * k + 3))]) (n := 3) X hl.1 hK hW (met3_slice l hK.2.2.1 _ _ _ _ _ _ h3) (lw_V q2165 q2166 q2167 q135 q2168) (by decide +kernel) rfl (Nat.le_of_ble_eq_true rfl) (Nat.le_of_ble_eq_true rfl) (by show _ ≤ 1200048; omega) (by show _ ≤ 5501818; omega) (cw_rest (Nat.le_of_ble_eq_true rfl)) dL_law_1021 (fun H nx hn hW => ?_)
  refine lv_icmp_eq (tgt := 2036) X.1 X.2.1 dL_law_1024 (by decide) (fun _ => ?_) (fun z => absurd rfl z)
  refine W.widen (k := 24048 + 49000 * (k + 1)) (n := 293818 + 217000 * (k + 1)) (by omega) (by omega) ?_
  exact nx9 _ _ _ _ ls (hJ.2.1 _ _ _ _ hJ' hn) hW hl
set_option maxHeartbeats 1000000 in
theorem law_c18 (hJ : pl_J J) (hK : lc_K l s E A E3 ol cL) (X : ww_C p m c cL_law 7 s #[.ref b] RX0 lw_all) (hX : va_X b L xs s s.heap) (hb : b < s.heap.size) (hL : L ≤ 144) (hk : 6 * k + 5 < L) (hJk : J k D M) (hW : lc_W s E A E3 ol cL D M g H) (hl : lv_has ls 7 [(4, .int (nI (6 * k))), (3, .ref ol), (2, .ref E3.1), (1, .ref E.1.1), (0, .ref b)]) (nx9 : lc_Nx p l e s m below meth c Q E A E3 ol cL J b k) : W p l e room_1 s m #[.ref b] below meth c H [] (24048 + 49000 * k) (293818 + 217000 * k) Q (F0 m 1029 ls []) := by
  have hk24 : k < 24 := by omega
  obtain ⟨r, D', M', h1, h3, hJ'⟩ : lj_D (J (k + 1)) (f1_drop D (xs (6 * k + 1))) (f3_drop M (xs (6 * k + 1))) := hJ.2.2 k D M 18 (fun j => xs (6 * k + j)) hk24 hJk
  refine lv_aload_n X.1 X.2.1 dL_law_1029 rfl (lv_at hl 3 rfl) ?_
  refine lc_arg X hW hl hX hb (j := 1) (by omega) hL rfl dL_law_1030 dL_law_1031 dL_law_1034 dL_law_1035 (fun h => lv_iconst (v := (1 : Int32)) X.1 X.2.1 dL_law_1033 (by decide) h) ?_
  refine lc_c1 (As := [.int (xs (6 * k + 1))]) (n := 1) X hl.1 hK hW (met1_drop l _ _ _ _ h1) (lw_V q1360 q1361 q1362 q131 q1363) (by decide +kernel) rfl (Nat.le_of_ble_eq_true rfl) (Nat.le_of_ble_eq_true rfl) (by show _ ≤ 1200048; omega) (by show _ ≤ 5501818; omega) (cw_rest (Nat.le_of_ble_eq_true rfl)) dL_law_1036 (fun H hW => ?_)
  refine lv_aload_n X.1 X.2.1 dL_law_1039 rfl (lv_at hl 2 rfl) ?_
  refine lc_arg X hW hl hX hb (j := 1) (by omega) hL rfl dL_law_1040 dL_law_1041 dL_law_1044 dL_law_1045 (fun h => lv_iconst (v := (1 : Int32)) X.1 X.2.1 dL_law_1043 (by decide) h) ?_
  refine lc_c3 (As := [.int (xs (6 * k + 1))]) (n := 1) X hl.1 hK hW (met3_drop l hK.2.2.1 _ _ _ _ h3) (lw_V q2173 q2174 q2175 q135 q2176) (by decide +kernel) rfl (Nat.le_of_ble_eq_true rfl) (Nat.le_of_ble_eq_true rfl) (by show _ ≤ 1200048; omega) (by show _ ≤ 5501818; omega) (cw_rest (Nat.le_of_ble_eq_true rfl)) dL_law_1046 (fun H nx hn hW => ?_)
  refine lv_icmp_eq (tgt := 2036) X.1 X.2.1 dL_law_1049 (by decide) (fun _ => ?_) (fun z => absurd rfl z)
  refine W.widen (k := 24048 + 49000 * (k + 1)) (n := 293818 + 217000 * (k + 1)) (by omega) (by omega) ?_
  exact nx9 _ _ _ _ ls (hJ.2.1 _ _ _ _ hJ' hn) hW hl
set_option maxHeartbeats 1000000 in
theorem law_c19 (hJ : pl_J J) (hK : lc_K l s E A E3 ol cL) (X : ww_C p m c cL_law 7 s #[.ref b] RX0 lw_all) (hX : va_X b L xs s s.heap) (hb : b < s.heap.size) (hL : L ≤ 144) (hk : 6 * k + 5 < L) (hJk : J k D M) (hW : lc_W s E A E3 ol cL D M g H) (hl : lv_has ls 7 [(4, .int (nI (6 * k))), (3, .ref ol), (2, .ref E3.1), (1, .ref E.1.1), (0, .ref b)]) (nx9 : lc_Nx p l e s m below meth c Q E A E3 ol cL J b k) : W p l e room_1 s m #[.ref b] below meth c H [] (24048 + 49000 * k) (293818 + 217000 * k) Q (F0 m 1054 ls []) := by
  have hk24 : k < 24 := by omega
  obtain ⟨r, D', nc, ns, M', h1, h3, hJ', hnc, hns⟩ : lj_N (J (k + 1)) (f1_build D (xs (6 * k + 1)) (xs (6 * k + 2))) (f3_build M (xs (6 * k + 1)) (xs (6 * k + 2))) := hJ.2.2 k D M 19 (fun j => xs (6 * k + j)) hk24 hJk
  refine lv_aload_n X.1 X.2.1 dL_law_1054 rfl (lv_at hl 3 rfl) ?_
  refine lc_arg X hW hl hX hb (j := 1) (by omega) hL rfl dL_law_1055 dL_law_1056 dL_law_1059 dL_law_1060 (fun h => lv_iconst (v := (1 : Int32)) X.1 X.2.1 dL_law_1058 (by decide) h) ?_
  refine lc_arg X hW hl hX hb (j := 2) (by omega) hL rfl dL_law_1061 dL_law_1062 dL_law_1065 dL_law_1066 (fun h => lv_iconst (v := (2 : Int32)) X.1 X.2.1 dL_law_1064 (by decide) h) ?_
  refine lc_c1 (As := [.int (xs (6 * k + 1)), .int (xs (6 * k + 2))]) (n := 2) X hl.1 hK hW (met1_build l _ _ _ _ _ _ _ h1) (lw_V q1364 q1365 q1366 q131 q1367) (by decide +kernel) rfl (Nat.le_of_ble_eq_true rfl) (Nat.le_of_ble_eq_true rfl) (by show _ ≤ 1200048; omega) (by show _ ≤ 5501818; omega) (cw_rest (Nat.le_of_ble_eq_true rfl)) dL_law_1067 (fun H hW => ?_)
  refine lv_aload_n X.1 X.2.1 dL_law_1070 rfl (lv_at hl 2 rfl) ?_
  refine lc_arg X hW hl hX hb (j := 1) (by omega) hL rfl dL_law_1071 dL_law_1072 dL_law_1075 dL_law_1076 (fun h => lv_iconst (v := (1 : Int32)) X.1 X.2.1 dL_law_1074 (by decide) h) ?_
  refine lc_arg X hW hl hX hb (j := 2) (by omega) hL rfl dL_law_1077 dL_law_1078 dL_law_1081 dL_law_1082 (fun h => lv_iconst (v := (2 : Int32)) X.1 X.2.1 dL_law_1080 (by decide) h) ?_
  refine lc_c3 (As := [.int (xs (6 * k + 1)), .int (xs (6 * k + 2))]) (n := 2) X hl.1 hK hW (met3_build l hK.2.2.1 _ _ _ _ _ h3) (lw_V q2177 q2178 q2179 q135 q2180) (by decide +kernel) rfl (Nat.le_of_ble_eq_true rfl) (Nat.le_of_ble_eq_true rfl) (by show _ ≤ 1200048; omega) (by show _ ≤ 5501818; omega) (cw_rest (Nat.le_of_ble_eq_true rfl)) dL_law_1083 (fun H nx hn hW => ?_)
  refine lv_icmp_eq (tgt := 2036) X.1 X.2.1 dL_law_1086 (by decide) (fun _ => ?_) (fun z => absurd rfl z)
  refine W.widen (k := 24048 + 49000 * (k + 1)) (n := 293818 + 217000 * (k + 1)) (by omega) (by omega) ?_
  exact nx9 _ _ _ _ ls (hJ.2.1 _ _ _ _ hJ' hn) hW hl
set_option maxHeartbeats 1000000 in
theorem law_c20 (hJ : pl_J J) (hK : lc_K l s E A E3 ol cL) (X : ww_C p m c cL_law 7 s #[.ref b] RX0 lw_all) (hX : va_X b L xs s s.heap) (hb : b < s.heap.size) (hL : L ≤ 144) (hk : 6 * k + 5 < L) (hJk : J k D M) (hW : lc_W s E A E3 ol cL D M g H) (hl : lv_has ls 7 [(4, .int (nI (6 * k))), (3, .ref ol), (2, .ref E3.1), (1, .ref E.1.1), (0, .ref b)]) (nx9 : lc_Nx p l e s m below meth c Q E A E3 ol cL J b k) : W p l e room_1 s m #[.ref b] below meth c H [] (24048 + 49000 * k) (293818 + 217000 * k) Q (F0 m 1091 ls []) := by
  have hk24 : k < 24 := by omega
  obtain ⟨r, D', nc, ns, M', h1, h3, hJ', hnc, hns⟩ : lj_N (J (k + 1)) (f1_lay D (xs (6 * k + 1)) (xs (6 * k + 2)) (xs (6 * k + 3))) (f3_lay M (xs (6 * k + 1)) (xs (6 * k + 2)) (xs (6 * k + 3))) := hJ.2.2 k D M 20 (fun j => xs (6 * k + j)) hk24 hJk
  refine lv_aload_n X.1 X.2.1 dL_law_1091 rfl (lv_at hl 3 rfl) ?_
  refine lc_arg X hW hl hX hb (j := 1) (by omega) hL rfl dL_law_1092 dL_law_1093 dL_law_1096 dL_law_1097 (fun h => lv_iconst (v := (1 : Int32)) X.1 X.2.1 dL_law_1095 (by decide) h) ?_
  refine lc_arg X hW hl hX hb (j := 2) (by omega) hL rfl dL_law_1098 dL_law_1099 dL_law_1102 dL_law_1103 (fun h => lv_iconst (v := (2 : Int32)) X.1 X.2.1 dL_law_1101 (by decide) h) ?_
  refine lc_arg X hW hl hX hb (j := 3) (by omega) hL rfl dL_law_1104 dL_law_1105 dL_law_1108 dL_law_1109 (fun h => lv_iconst (v := (3 : Int32)) X.1 X.2.1 dL_law_1107 (by decide) h) ?_
  refine lc_c1 (As := [.int (xs (6 * k + 1)), .int (xs (6 * k + 2)), .int (xs (6 * k + 3))]) (n := 3) X hl.1 hK hW (met1_lay l _ _ _ _ _ _ _ _ h1) (lw_V q1372 q1373 q1374 q131 q1375) (by decide +kernel) rfl (Nat.le_of_ble_eq_true rfl) (Nat.le_of_ble_eq_true rfl) (by show _ ≤ 1200048; omega) (by show _ ≤ 5501818; omega) (cw_rest (Nat.le_of_ble_eq_true rfl)) dL_law_1110 (fun H hW => ?_)
  refine lv_aload_n X.1 X.2.1 dL_law_1113 rfl (lv_at hl 2 rfl) ?_
  refine lc_arg X hW hl hX hb (j := 1) (by omega) hL rfl dL_law_1114 dL_law_1115 dL_law_1118 dL_law_1119 (fun h => lv_iconst (v := (1 : Int32)) X.1 X.2.1 dL_law_1117 (by decide) h) ?_
  refine lc_arg X hW hl hX hb (j := 2) (by omega) hL rfl dL_law_1120 dL_law_1121 dL_law_1124 dL_law_1125 (fun h => lv_iconst (v := (2 : Int32)) X.1 X.2.1 dL_law_1123 (by decide) h) ?_
  refine lc_arg X hW hl hX hb (j := 3) (by omega) hL rfl dL_law_1126 dL_law_1127 dL_law_1130 dL_law_1131 (fun h => lv_iconst (v := (3 : Int32)) X.1 X.2.1 dL_law_1129 (by decide) h) ?_
  refine lc_c3 (As := [.int (xs (6 * k + 1)), .int (xs (6 * k + 2)), .int (xs (6 * k + 3))]) (n := 3) X hl.1 hK hW (met3_lay l hK.2.2.1 _ _ _ _ _ _ h3) (lw_V q2185 q2186 q2187 q135 q2188) (by decide +kernel) rfl (Nat.le_of_ble_eq_true rfl) (Nat.le_of_ble_eq_true rfl) (by show _ ≤ 1200048; omega) (by show _ ≤ 5501818; omega) (cw_rest (Nat.le_of_ble_eq_true rfl)) dL_law_1132 (fun H nx hn hW => ?_)
  refine lv_icmp_eq (tgt := 2036) X.1 X.2.1 dL_law_1135 (by decide) (fun _ => ?_) (fun z => absurd rfl z)
  refine W.widen (k := 24048 + 49000 * (k + 1)) (n := 293818 + 217000 * (k + 1)) (by omega) (by omega) ?_
  exact nx9 _ _ _ _ ls (hJ.2.1 _ _ _ _ hJ' hn) hW hl
set_option maxHeartbeats 1000000 in
theorem law_c21 (hJ : pl_J J) (hK : lc_K l s E A E3 ol cL) (X : ww_C p m c cL_law 7 s #[.ref b] RX0 lw_all) (hX : va_X b L xs s s.heap) (hb : b < s.heap.size) (hL : L ≤ 144) (hk : 6 * k + 5 < L) (hJk : J k D M) (hW : lc_W s E A E3 ol cL D M g H) (hl : lv_has ls 7 [(4, .int (nI (6 * k))), (3, .ref ol), (2, .ref E3.1), (1, .ref E.1.1), (0, .ref b)]) (nx9 : lc_Nx p l e s m below meth c Q E A E3 ol cL J b k) : W p l e room_1 s m #[.ref b] below meth c H [] (24048 + 49000 * k) (293818 + 217000 * k) Q (F0 m 1140 ls []) := by
  have hk24 : k < 24 := by omega
  obtain ⟨r, D', nc, ns, M', h1, h3, hJ', hnc, hns⟩ : lj_N (J (k + 1)) (f1_take D (xs (6 * k + 1)) (xs (6 * k + 2))) (f3_take M (xs (6 * k + 1)) (xs (6 * k + 2))) := hJ.2.2 k D M 21 (fun j => xs (6 * k + j)) hk24 hJk
  refine lv_aload_n X.1 X.2.1 dL_law_1140 rfl (lv_at hl 3 rfl) ?_
  refine lc_arg X hW hl hX hb (j := 1) (by omega) hL rfl dL_law_1141 dL_law_1142 dL_law_1145 dL_law_1146 (fun h => lv_iconst (v := (1 : Int32)) X.1 X.2.1 dL_law_1144 (by decide) h) ?_
  refine lc_arg X hW hl hX hb (j := 2) (by omega) hL rfl dL_law_1147 dL_law_1148 dL_law_1151 dL_law_1152 (fun h => lv_iconst (v := (2 : Int32)) X.1 X.2.1 dL_law_1150 (by decide) h) ?_
  refine lc_c1 (As := [.int (xs (6 * k + 1)), .int (xs (6 * k + 2))]) (n := 2) X hl.1 hK hW (met1_take l _ _ _ _ _ _ _ h1) (lw_V q1396 q1397 q1398 q131 q1399) (by decide +kernel) rfl (Nat.le_of_ble_eq_true rfl) (Nat.le_of_ble_eq_true rfl) (by show _ ≤ 1200048; omega) (by show _ ≤ 5501818; omega) (cw_rest (Nat.le_of_ble_eq_true rfl)) dL_law_1153 (fun H hW => ?_)
  refine lv_aload_n X.1 X.2.1 dL_law_1156 rfl (lv_at hl 2 rfl) ?_
  refine lc_arg X hW hl hX hb (j := 1) (by omega) hL rfl dL_law_1157 dL_law_1158 dL_law_1161 dL_law_1162 (fun h => lv_iconst (v := (1 : Int32)) X.1 X.2.1 dL_law_1160 (by decide) h) ?_
  refine lc_arg X hW hl hX hb (j := 2) (by omega) hL rfl dL_law_1163 dL_law_1164 dL_law_1167 dL_law_1168 (fun h => lv_iconst (v := (2 : Int32)) X.1 X.2.1 dL_law_1166 (by decide) h) ?_
  refine lc_c3 (As := [.int (xs (6 * k + 1)), .int (xs (6 * k + 2))]) (n := 2) X hl.1 hK hW (met3_take l hK.2.2.1 _ _ _ _ _ h3) (lw_V q2217 q2218 q2219 q135 q2220) (by decide +kernel) rfl (Nat.le_of_ble_eq_true rfl) (Nat.le_of_ble_eq_true rfl) (by show _ ≤ 1200048; omega) (by show _ ≤ 5501818; omega) (cw_rest (Nat.le_of_ble_eq_true rfl)) dL_law_1169 (fun H nx hn hW => ?_)
  refine lv_icmp_eq (tgt := 2036) X.1 X.2.1 dL_law_1172 (by decide) (fun _ => ?_) (fun z => absurd rfl z)
  refine W.widen (k := 24048 + 49000 * (k + 1)) (n := 293818 + 217000 * (k + 1)) (by omega) (by omega) ?_
  exact nx9 _ _ _ _ ls (hJ.2.1 _ _ _ _ hJ' hn) hW hl
set_option maxHeartbeats 1000000 in
theorem law_c22 (hJ : pl_J J) (hK : lc_K l s E A E3 ol cL) (X : ww_C p m c cL_law 7 s #[.ref b] RX0 lw_all) (hX : va_X b L xs s s.heap) (hb : b < s.heap.size) (hL : L ≤ 144) (hk : 6 * k + 5 < L) (hJk : J k D M) (hW : lc_W s E A E3 ol cL D M g H) (hl : lv_has ls 7 [(4, .int (nI (6 * k))), (3, .ref ol), (2, .ref E3.1), (1, .ref E.1.1), (0, .ref b)]) (nx9 : lc_Nx p l e s m below meth c Q E A E3 ol cL J b k) : W p l e room_1 s m #[.ref b] below meth c H [] (24048 + 49000 * k) (293818 + 217000 * k) Q (F0 m 1177 ls []) := by
  have hk24 : k < 24 := by omega
  obtain ⟨r, D', nc, ns, M', h1, h3, hJ', hnc, hns⟩ : lj_N (J (k + 1)) (f1_add D (xs (6 * k + 1)) (xs (6 * k + 2)) (xs (6 * k + 3))) (f3_add M (xs (6 * k + 1)) (xs (6 * k + 2)) (xs (6 * k + 3))) := hJ.2.2 k D M 22 (fun j => xs (6 * k + j)) hk24 hJk
  refine lv_aload_n X.1 X.2.1 dL_law_1177 rfl (lv_at hl 3 rfl) ?_
  refine lc_arg X hW hl hX hb (j := 1) (by omega) hL rfl dL_law_1178 dL_law_1179 dL_law_1182 dL_law_1183 (fun h => lv_iconst (v := (1 : Int32)) X.1 X.2.1 dL_law_1181 (by decide) h) ?_
  refine lc_arg X hW hl hX hb (j := 2) (by omega) hL rfl dL_law_1184 dL_law_1185 dL_law_1188 dL_law_1189 (fun h => lv_iconst (v := (2 : Int32)) X.1 X.2.1 dL_law_1187 (by decide) h) ?_
  refine lc_arg X hW hl hX hb (j := 3) (by omega) hL rfl dL_law_1190 dL_law_1191 dL_law_1194 dL_law_1195 (fun h => lv_iconst (v := (3 : Int32)) X.1 X.2.1 dL_law_1193 (by decide) h) ?_
  refine lc_c1 (As := [.int (xs (6 * k + 1)), .int (xs (6 * k + 2)), .int (xs (6 * k + 3))]) (n := 3) X hl.1 hK hW (met1_add l _ _ _ _ _ _ _ _ h1) (lw_V q1400 q1401 q1402 q131 q1403) (by decide +kernel) rfl (Nat.le_of_ble_eq_true rfl) (Nat.le_of_ble_eq_true rfl) (by show _ ≤ 1200048; omega) (by show _ ≤ 5501818; omega) (cw_rest (Nat.le_of_ble_eq_true rfl)) dL_law_1196 (fun H hW => ?_)
  refine lv_aload_n X.1 X.2.1 dL_law_1199 rfl (lv_at hl 2 rfl) ?_
  refine lc_arg X hW hl hX hb (j := 1) (by omega) hL rfl dL_law_1200 dL_law_1201 dL_law_1204 dL_law_1205 (fun h => lv_iconst (v := (1 : Int32)) X.1 X.2.1 dL_law_1203 (by decide) h) ?_
  refine lc_arg X hW hl hX hb (j := 2) (by omega) hL rfl dL_law_1206 dL_law_1207 dL_law_1210 dL_law_1211 (fun h => lv_iconst (v := (2 : Int32)) X.1 X.2.1 dL_law_1209 (by decide) h) ?_
  refine lc_arg X hW hl hX hb (j := 3) (by omega) hL rfl dL_law_1212 dL_law_1213 dL_law_1216 dL_law_1217 (fun h => lv_iconst (v := (3 : Int32)) X.1 X.2.1 dL_law_1215 (by decide) h) ?_
  refine lc_c3 (As := [.int (xs (6 * k + 1)), .int (xs (6 * k + 2)), .int (xs (6 * k + 3))]) (n := 3) X hl.1 hK hW (met3_add l hK.2.2.1 _ _ _ _ _ _ h3) (lw_V q2213 q2214 q2215 q135 q2216) (by decide +kernel) rfl (Nat.le_of_ble_eq_true rfl) (Nat.le_of_ble_eq_true rfl) (by show _ ≤ 1200048; omega) (by show _ ≤ 5501818; omega) (cw_rest (Nat.le_of_ble_eq_true rfl)) dL_law_1218 (fun H nx hn hW => ?_)
  refine lv_icmp_eq (tgt := 2036) X.1 X.2.1 dL_law_1221 (by decide) (fun _ => ?_) (fun z => absurd rfl z)
  refine W.widen (k := 24048 + 49000 * (k + 1)) (n := 293818 + 217000 * (k + 1)) (by omega) (by omega) ?_
  exact nx9 _ _ _ _ ls (hJ.2.1 _ _ _ _ hJ' hn) hW hl
set_option maxHeartbeats 1000000 in
theorem law_c23 (hJ : pl_J J) (hK : lc_K l s E A E3 ol cL) (X : ww_C p m c cL_law 7 s #[.ref b] RX0 lw_all) (hX : va_X b L xs s s.heap) (hb : b < s.heap.size) (hL : L ≤ 144) (hk : 6 * k + 5 < L) (hJk : J k D M) (hW : lc_W s E A E3 ol cL D M g H) (hl : lv_has ls 7 [(4, .int (nI (6 * k))), (3, .ref ol), (2, .ref E3.1), (1, .ref E.1.1), (0, .ref b)]) (nx9 : lc_Nx p l e s m below meth c Q E A E3 ol cL J b k) : W p l e room_1 s m #[.ref b] below meth c H [] (24048 + 49000 * k) (293818 + 217000 * k) Q (F0 m 1226 ls []) := by
  have hk24 : k < 24 := by omega
  obtain ⟨r, D', nc, ns, M', h1, h3, hJ', hnc, hns⟩ : lj_N (J (k + 1)) (f1_cut D (xs (6 * k + 1)) (xs (6 * k + 2)) (xs (6 * k + 3))) (f3_cut M (xs (6 * k + 1)) (xs (6 * k + 2)) (xs (6 * k + 3))) := hJ.2.2 k D M 23 (fun j => xs (6 * k + j)) hk24 hJk
  refine lv_aload_n X.1 X.2.1 dL_law_1226 rfl (lv_at hl 3 rfl) ?_
  refine lc_arg X hW hl hX hb (j := 1) (by omega) hL rfl dL_law_1227 dL_law_1228 dL_law_1231 dL_law_1232 (fun h => lv_iconst (v := (1 : Int32)) X.1 X.2.1 dL_law_1230 (by decide) h) ?_
  refine lc_arg X hW hl hX hb (j := 2) (by omega) hL rfl dL_law_1233 dL_law_1234 dL_law_1237 dL_law_1238 (fun h => lv_iconst (v := (2 : Int32)) X.1 X.2.1 dL_law_1236 (by decide) h) ?_
  refine lc_arg X hW hl hX hb (j := 3) (by omega) hL rfl dL_law_1239 dL_law_1240 dL_law_1243 dL_law_1244 (fun h => lv_iconst (v := (3 : Int32)) X.1 X.2.1 dL_law_1242 (by decide) h) ?_
  refine lc_c1 (As := [.int (xs (6 * k + 1)), .int (xs (6 * k + 2)), .int (xs (6 * k + 3))]) (n := 3) X hl.1 hK hW (met1_cut l _ _ _ _ _ _ _ _ h1) (lw_V q1408 q1409 q1410 q131 q1411) (by decide +kernel) rfl (Nat.le_of_ble_eq_true rfl) (Nat.le_of_ble_eq_true rfl) (by show _ ≤ 1200048; omega) (by show _ ≤ 5501818; omega) (cw_rest (Nat.le_of_ble_eq_true rfl)) dL_law_1245 (fun H hW => ?_)
  refine lv_aload_n X.1 X.2.1 dL_law_1248 rfl (lv_at hl 2 rfl) ?_
  refine lc_arg X hW hl hX hb (j := 1) (by omega) hL rfl dL_law_1249 dL_law_1250 dL_law_1253 dL_law_1254 (fun h => lv_iconst (v := (1 : Int32)) X.1 X.2.1 dL_law_1252 (by decide) h) ?_
  refine lc_arg X hW hl hX hb (j := 2) (by omega) hL rfl dL_law_1255 dL_law_1256 dL_law_1259 dL_law_1260 (fun h => lv_iconst (v := (2 : Int32)) X.1 X.2.1 dL_law_1258 (by decide) h) ?_
  refine lc_arg X hW hl hX hb (j := 3) (by omega) hL rfl dL_law_1261 dL_law_1262 dL_law_1265 dL_law_1266 (fun h => lv_iconst (v := (3 : Int32)) X.1 X.2.1 dL_law_1264 (by decide) h) ?_
  refine lc_c3 (As := [.int (xs (6 * k + 1)), .int (xs (6 * k + 2)), .int (xs (6 * k + 3))]) (n := 3) X hl.1 hK hW (met3_cut l hK.2.2.1 _ _ _ _ _ _ h3) (lw_V q2221 q2222 q2223 q135 q2224) (by decide +kernel) rfl (Nat.le_of_ble_eq_true rfl) (Nat.le_of_ble_eq_true rfl) (by show _ ≤ 1200048; omega) (by show _ ≤ 5501818; omega) (cw_rest (Nat.le_of_ble_eq_true rfl)) dL_law_1267 (fun H nx hn hW => ?_)
  refine lv_icmp_eq (tgt := 2036) X.1 X.2.1 dL_law_1270 (by decide) (fun _ => ?_) (fun z => absurd rfl z)
  refine W.widen (k := 24048 + 49000 * (k + 1)) (n := 293818 + 217000 * (k + 1)) (by omega) (by omega) ?_
  exact nx9 _ _ _ _ ls (hJ.2.1 _ _ _ _ hJ' hn) hW hl
set_option maxHeartbeats 1000000 in
theorem law_c24 (hJ : pl_J J) (hK : lc_K l s E A E3 ol cL) (X : ww_C p m c cL_law 7 s #[.ref b] RX0 lw_all) (hX : va_X b L xs s s.heap) (hb : b < s.heap.size) (hL : L ≤ 144) (hk : 6 * k + 5 < L) (hJk : J k D M) (hW : lc_W s E A E3 ol cL D M g H) (hl : lv_has ls 7 [(4, .int (nI (6 * k))), (3, .ref ol), (2, .ref E3.1), (1, .ref E.1.1), (0, .ref b)]) (nx9 : lc_Nx p l e s m below meth c Q E A E3 ol cL J b k) : W p l e room_1 s m #[.ref b] below meth c H [] (24048 + 49000 * k) (293818 + 217000 * k) Q (F0 m 1275 ls []) := by
  have hk24 : k < 24 := by omega
  obtain ⟨r, D', nc, ns, M', h1, h3, hJ', hnc, hns⟩ : lj_N (J (k + 1)) (f1_inc D (xs (6 * k + 1)) (xs (6 * k + 2)) (xs (6 * k + 3)) (xs (6 * k + 4))) (f3_inc M (xs (6 * k + 1)) (xs (6 * k + 2)) (xs (6 * k + 3)) (xs (6 * k + 4))) := hJ.2.2 k D M 24 (fun j => xs (6 * k + j)) hk24 hJk
  refine lv_aload_n X.1 X.2.1 dL_law_1275 rfl (lv_at hl 3 rfl) ?_
  refine lc_arg X hW hl hX hb (j := 1) (by omega) hL rfl dL_law_1276 dL_law_1277 dL_law_1280 dL_law_1281 (fun h => lv_iconst (v := (1 : Int32)) X.1 X.2.1 dL_law_1279 (by decide) h) ?_
  refine lc_arg X hW hl hX hb (j := 2) (by omega) hL rfl dL_law_1282 dL_law_1283 dL_law_1286 dL_law_1287 (fun h => lv_iconst (v := (2 : Int32)) X.1 X.2.1 dL_law_1285 (by decide) h) ?_
  refine lc_arg X hW hl hX hb (j := 3) (by omega) hL rfl dL_law_1288 dL_law_1289 dL_law_1292 dL_law_1293 (fun h => lv_iconst (v := (3 : Int32)) X.1 X.2.1 dL_law_1291 (by decide) h) ?_
  refine lc_arg X hW hl hX hb (j := 4) (by omega) hL rfl dL_law_1294 dL_law_1295 dL_law_1298 dL_law_1299 (fun h => lv_iconst (v := (4 : Int32)) X.1 X.2.1 dL_law_1297 (by decide) h) ?_
  refine lc_c1 (As := [.int (xs (6 * k + 1)), .int (xs (6 * k + 2)), .int (xs (6 * k + 3)), .int (xs (6 * k + 4))]) (n := 4) X hl.1 hK hW (met1_inc l _ _ _ _ _ _ _ _ _ h1) (lw_V q1412 q1413 q1414 q131 q1415) (by decide +kernel) rfl (Nat.le_of_ble_eq_true rfl) (Nat.le_of_ble_eq_true rfl) (by show _ ≤ 1200048; omega) (by show _ ≤ 5501818; omega) (cw_rest (Nat.le_of_ble_eq_true rfl)) dL_law_1300 (fun H hW => ?_)
  refine lv_aload_n X.1 X.2.1 dL_law_1303 rfl (lv_at hl 2 rfl) ?_
  refine lc_arg X hW hl hX hb (j := 1) (by omega) hL rfl dL_law_1304 dL_law_1305 dL_law_1308 dL_law_1309 (fun h => lv_iconst (v := (1 : Int32)) X.1 X.2.1 dL_law_1307 (by decide) h) ?_
  refine lc_arg X hW hl hX hb (j := 2) (by omega) hL rfl dL_law_1310 dL_law_1311 dL_law_1314 dL_law_1315 (fun h => lv_iconst (v := (2 : Int32)) X.1 X.2.1 dL_law_1313 (by decide) h) ?_
  refine lc_arg X hW hl hX hb (j := 3) (by omega) hL rfl dL_law_1316 dL_law_1317 dL_law_1320 dL_law_1321 (fun h => lv_iconst (v := (3 : Int32)) X.1 X.2.1 dL_law_1319 (by decide) h) ?_
  refine lc_arg X hW hl hX hb (j := 4) (by omega) hL rfl dL_law_1322 dL_law_1323 dL_law_1326 dL_law_1327 (fun h => lv_iconst (v := (4 : Int32)) X.1 X.2.1 dL_law_1325 (by decide) h) ?_
  refine lc_c3 (As := [.int (xs (6 * k + 1)), .int (xs (6 * k + 2)), .int (xs (6 * k + 3)), .int (xs (6 * k + 4))]) (n := 4) X hl.1 hK hW (met3_inc l hK.2.2.1 _ _ _ _ _ _ _ h3) (lw_V q2225 q2226 q2227 q135 q2228) (by decide +kernel) rfl (Nat.le_of_ble_eq_true rfl) (Nat.le_of_ble_eq_true rfl) (by show _ ≤ 1200048; omega) (by show _ ≤ 5501818; omega) (cw_rest (Nat.le_of_ble_eq_true rfl)) dL_law_1328 (fun H nx hn hW => ?_)
  refine lv_icmp_eq (tgt := 2036) X.1 X.2.1 dL_law_1331 (by decide) (fun _ => ?_) (fun z => absurd rfl z)
  refine W.widen (k := 24048 + 49000 * (k + 1)) (n := 293818 + 217000 * (k + 1)) (by omega) (by omega) ?_
  exact nx9 _ _ _ _ ls (hJ.2.1 _ _ _ _ hJ' hn) hW hl
set_option maxHeartbeats 1000000 in
theorem law_c25 (hJ : pl_J J) (hK : lc_K l s E A E3 ol cL) (X : ww_C p m c cL_law 7 s #[.ref b] RX0 lw_all) (hX : va_X b L xs s s.heap) (hb : b < s.heap.size) (hL : L ≤ 144) (hk : 6 * k + 5 < L) (hJk : J k D M) (hW : lc_W s E A E3 ol cL D M g H) (hl : lv_has ls 7 [(4, .int (nI (6 * k))), (3, .ref ol), (2, .ref E3.1), (1, .ref E.1.1), (0, .ref b)]) (nx9 : lc_Nx p l e s m below meth c Q E A E3 ol cL J b k) : W p l e room_1 s m #[.ref b] below meth c H [] (24048 + 49000 * k) (293818 + 217000 * k) Q (F0 m 1336 ls []) := by
  have hk24 : k < 24 := by omega
  obtain ⟨r, D', nc, ns, M', h1, h3, hJ', hnc, hns⟩ : lj_N (J (k + 1)) (f1_snap D (xs (6 * k + 1))) (f3_snap M (xs (6 * k + 1))) := hJ.2.2 k D M 25 (fun j => xs (6 * k + j)) hk24 hJk
  refine lv_aload_n X.1 X.2.1 dL_law_1336 rfl (lv_at hl 3 rfl) ?_
  refine lc_arg X hW hl hX hb (j := 1) (by omega) hL rfl dL_law_1337 dL_law_1338 dL_law_1341 dL_law_1342 (fun h => lv_iconst (v := (1 : Int32)) X.1 X.2.1 dL_law_1340 (by decide) h) ?_
  refine lc_c1 (As := [.int (xs (6 * k + 1))]) (n := 1) X hl.1 hK hW (met1_snap l _ _ _ _ _ _ h1) (lw_V q1420 q1421 q1422 q131 q1423) (by decide +kernel) rfl (Nat.le_of_ble_eq_true rfl) (Nat.le_of_ble_eq_true rfl) (by show _ ≤ 1200048; omega) (by show _ ≤ 5501818; omega) (cw_rest (Nat.le_of_ble_eq_true rfl)) dL_law_1343 (fun H hW => ?_)
  refine lv_aload_n X.1 X.2.1 dL_law_1346 rfl (lv_at hl 2 rfl) ?_
  refine lc_arg X hW hl hX hb (j := 1) (by omega) hL rfl dL_law_1347 dL_law_1348 dL_law_1351 dL_law_1352 (fun h => lv_iconst (v := (1 : Int32)) X.1 X.2.1 dL_law_1350 (by decide) h) ?_
  refine lc_c3 (As := [.int (xs (6 * k + 1))]) (n := 1) X hl.1 hK hW (met3_snap l hK.2.2.1 _ _ _ _ h3) (lw_V q2233 q2234 q2235 q135 q2236) (by decide +kernel) rfl (Nat.le_of_ble_eq_true rfl) (Nat.le_of_ble_eq_true rfl) (by show _ ≤ 1200048; omega) (by show _ ≤ 5501818; omega) (cw_rest (Nat.le_of_ble_eq_true rfl)) dL_law_1353 (fun H nx hn hW => ?_)
  refine lv_icmp_eq (tgt := 2036) X.1 X.2.1 dL_law_1356 (by decide) (fun _ => ?_) (fun z => absurd rfl z)
  refine W.widen (k := 24048 + 49000 * (k + 1)) (n := 293818 + 217000 * (k + 1)) (by omega) (by omega) ?_
  exact nx9 _ _ _ _ ls (hJ.2.1 _ _ _ _ hJ' hn) hW hl
set_option maxHeartbeats 1000000 in
theorem law_c26 (hJ : pl_J J) (hK : lc_K l s E A E3 ol cL) (X : ww_C p m c cL_law 7 s #[.ref b] RX0 lw_all) (hX : va_X b L xs s s.heap) (hb : b < s.heap.size) (hL : L ≤ 144) (hk : 6 * k + 5 < L) (hJk : J k D M) (hW : lc_W s E A E3 ol cL D M g H) (hl : lv_has ls 7 [(4, .int (nI (6 * k))), (3, .ref ol), (2, .ref E3.1), (1, .ref E.1.1), (0, .ref b)]) (nx9 : lc_Nx p l e s m below meth c Q E A E3 ol cL J b k) : W p l e room_1 s m #[.ref b] below meth c H [] (24048 + 49000 * k) (293818 + 217000 * k) Q (F0 m 1361 ls []) := by
  have hk24 : k < 24 := by omega
  obtain ⟨r, D', nc, ns, M', h1, h3, hJ', hnc, hns⟩ : lj_N (J (k + 1)) (f1_freeze D (xs (6 * k + 1))) (f3_freeze M (xs (6 * k + 1))) := hJ.2.2 k D M 26 (fun j => xs (6 * k + j)) hk24 hJk
  refine lv_aload_n X.1 X.2.1 dL_law_1361 rfl (lv_at hl 3 rfl) ?_
  refine lc_arg X hW hl hX hb (j := 1) (by omega) hL rfl dL_law_1362 dL_law_1363 dL_law_1366 dL_law_1367 (fun h => lv_iconst (v := (1 : Int32)) X.1 X.2.1 dL_law_1365 (by decide) h) ?_
  refine lc_c1 (As := [.int (xs (6 * k + 1))]) (n := 1) X hl.1 hK hW (met1_freeze l _ _ _ _ _ _ h1) (lw_V q1428 q1429 q1430 q131 q1431) (by decide +kernel) rfl (Nat.le_of_ble_eq_true rfl) (Nat.le_of_ble_eq_true rfl) (by show _ ≤ 1200048; omega) (by show _ ≤ 5501818; omega) (cw_rest (Nat.le_of_ble_eq_true rfl)) dL_law_1368 (fun H hW => ?_)
  refine lv_aload_n X.1 X.2.1 dL_law_1371 rfl (lv_at hl 2 rfl) ?_
  refine lc_arg X hW hl hX hb (j := 1) (by omega) hL rfl dL_law_1372 dL_law_1373 dL_law_1376 dL_law_1377 (fun h => lv_iconst (v := (1 : Int32)) X.1 X.2.1 dL_law_1375 (by decide) h) ?_
  refine lc_c3 (As := [.int (xs (6 * k + 1))]) (n := 1) X hl.1 hK hW (met3_freeze l hK.2.2.1 _ _ _ _ h3) (lw_V q2241 q2242 q2243 q135 q2244) (by decide +kernel) rfl (Nat.le_of_ble_eq_true rfl) (Nat.le_of_ble_eq_true rfl) (by show _ ≤ 1200048; omega) (by show _ ≤ 5501818; omega) (cw_rest (Nat.le_of_ble_eq_true rfl)) dL_law_1378 (fun H nx hn hW => ?_)
  refine lv_icmp_eq (tgt := 2036) X.1 X.2.1 dL_law_1381 (by decide) (fun _ => ?_) (fun z => absurd rfl z)
  refine W.widen (k := 24048 + 49000 * (k + 1)) (n := 293818 + 217000 * (k + 1)) (by omega) (by omega) ?_
  exact nx9 _ _ _ _ ls (hJ.2.1 _ _ _ _ hJ' hn) hW hl
set_option maxHeartbeats 1000000 in
theorem law_c27 (hJ : pl_J J) (hK : lc_K l s E A E3 ol cL) (X : ww_C p m c cL_law 7 s #[.ref b] RX0 lw_all) (hX : va_X b L xs s s.heap) (hb : b < s.heap.size) (hL : L ≤ 144) (hk : 6 * k + 5 < L) (hJk : J k D M) (hW : lc_W s E A E3 ol cL D M g H) (hl : lv_has ls 7 [(4, .int (nI (6 * k))), (3, .ref ol), (2, .ref E3.1), (1, .ref E.1.1), (0, .ref b)]) (nx9 : lc_Nx p l e s m below meth c Q E A E3 ol cL J b k) : W p l e room_1 s m #[.ref b] below meth c H [] (24048 + 49000 * k) (293818 + 217000 * k) Q (F0 m 1386 ls []) := by
  have hk24 : k < 24 := by omega
  obtain ⟨r, M', h1, h3, hJ'⟩ : lj_P (J (k + 1)) D (f1_peek D (xs (6 * k + 1)) (xs (6 * k + 2))) (f3_peek M (xs (6 * k + 1)) (xs (6 * k + 2))) := hJ.2.2 k D M 27 (fun j => xs (6 * k + j)) hk24 hJk
  refine lv_aload_n X.1 X.2.1 dL_law_1386 rfl (lv_at hl 3 rfl) ?_
  refine lc_arg X hW hl hX hb (j := 1) (by omega) hL rfl dL_law_1387 dL_law_1388 dL_law_1391 dL_law_1392 (fun h => lv_iconst (v := (1 : Int32)) X.1 X.2.1 dL_law_1390 (by decide) h) ?_
  refine lc_arg X hW hl hX hb (j := 2) (by omega) hL rfl dL_law_1393 dL_law_1394 dL_law_1397 dL_law_1398 (fun h => lv_iconst (v := (2 : Int32)) X.1 X.2.1 dL_law_1396 (by decide) h) ?_
  refine lc_c1 (As := [.int (xs (6 * k + 1)), .int (xs (6 * k + 2))]) (n := 2) X hl.1 hK hW (met1_peek l _ _ _ _ h1) (lw_V q1433 q1434 q1435 q131 q1436) (by decide +kernel) rfl (Nat.le_of_ble_eq_true rfl) (Nat.le_of_ble_eq_true rfl) (by show _ ≤ 1200048; omega) (by show _ ≤ 5501818; omega) (cw_rest (Nat.le_of_ble_eq_true rfl)) dL_law_1399 (fun H hW => ?_)
  refine lv_aload_n X.1 X.2.1 dL_law_1402 rfl (lv_at hl 2 rfl) ?_
  refine lc_arg X hW hl hX hb (j := 1) (by omega) hL rfl dL_law_1403 dL_law_1404 dL_law_1407 dL_law_1408 (fun h => lv_iconst (v := (1 : Int32)) X.1 X.2.1 dL_law_1406 (by decide) h) ?_
  refine lc_arg X hW hl hX hb (j := 2) (by omega) hL rfl dL_law_1409 dL_law_1410 dL_law_1413 dL_law_1414 (fun h => lv_iconst (v := (2 : Int32)) X.1 X.2.1 dL_law_1412 (by decide) h) ?_
  refine lc_c3 (As := [.int (xs (6 * k + 1)), .int (xs (6 * k + 2))]) (n := 2) X hl.1 hK hW (met3_peek l hK.2.2.1 _ _ _ _ _ h3) (lw_V q2246 q2247 q2248 q135 q2249) (by decide +kernel) rfl (Nat.le_of_ble_eq_true rfl) (Nat.le_of_ble_eq_true rfl) (by show _ ≤ 1200048; omega) (by show _ ≤ 5501818; omega) (cw_rest (Nat.le_of_ble_eq_true rfl)) dL_law_1415 (fun H nx hn hW => ?_)
  refine lv_icmp_eq (tgt := 2036) X.1 X.2.1 dL_law_1418 (by decide) (fun _ => ?_) (fun z => absurd rfl z)
  refine W.widen (k := 24048 + 49000 * (k + 1)) (n := 293818 + 217000 * (k + 1)) (by omega) (by omega) ?_
  exact nx9 _ _ _ _ ls (hJ.2.1 _ _ _ _ hJ' hn) hW hl
set_option maxHeartbeats 1000000 in
theorem law_c28 (hJ : pl_J J) (hK : lc_K l s E A E3 ol cL) (X : ww_C p m c cL_law 7 s #[.ref b] RX0 lw_all) (hX : va_X b L xs s s.heap) (hb : b < s.heap.size) (hL : L ≤ 144) (hk : 6 * k + 5 < L) (hJk : J k D M) (hW : lc_W s E A E3 ol cL D M g H) (hl : lv_has ls 7 [(4, .int (nI (6 * k))), (3, .ref ol), (2, .ref E3.1), (1, .ref E.1.1), (0, .ref b)]) (nx9 : lc_Nx p l e s m below meth c Q E A E3 ol cL J b k) : W p l e room_1 s m #[.ref b] below meth c H [] (24048 + 49000 * k) (293818 + 217000 * k) Q (F0 m 1423 ls []) := by
  have hk24 : k < 24 := by omega
  obtain ⟨r, D', M', h1, h3, hJ'⟩ : lj_D (J (k + 1)) (f1_builder D (xs (6 * k + 1)) (xs (6 * k + 2))) (f3_builder M (xs (6 * k + 1)) (xs (6 * k + 2))) := hJ.2.2 k D M 28 (fun j => xs (6 * k + j)) hk24 hJk
  refine lv_aload_n X.1 X.2.1 dL_law_1423 rfl (lv_at hl 3 rfl) ?_
  refine lc_arg X hW hl hX hb (j := 1) (by omega) hL rfl dL_law_1424 dL_law_1425 dL_law_1428 dL_law_1429 (fun h => lv_iconst (v := (1 : Int32)) X.1 X.2.1 dL_law_1427 (by decide) h) ?_
  refine lc_arg X hW hl hX hb (j := 2) (by omega) hL rfl dL_law_1430 dL_law_1431 dL_law_1434 dL_law_1435 (fun h => lv_iconst (v := (2 : Int32)) X.1 X.2.1 dL_law_1433 (by decide) h) ?_
  refine lc_c1 (As := [.int (xs (6 * k + 1)), .int (xs (6 * k + 2))]) (n := 2) X hl.1 hK hW (met1_builder l _ _ _ _ _ h1) (lw_V q1437 q1438 q1439 q131 q1440) (by decide +kernel) rfl (Nat.le_of_ble_eq_true rfl) (Nat.le_of_ble_eq_true rfl) (by show _ ≤ 1200048; omega) (by show _ ≤ 5501818; omega) (cw_rest (Nat.le_of_ble_eq_true rfl)) dL_law_1436 (fun H hW => ?_)
  refine lv_aload_n X.1 X.2.1 dL_law_1439 rfl (lv_at hl 2 rfl) ?_
  refine lc_arg X hW hl hX hb (j := 1) (by omega) hL rfl dL_law_1440 dL_law_1441 dL_law_1444 dL_law_1445 (fun h => lv_iconst (v := (1 : Int32)) X.1 X.2.1 dL_law_1443 (by decide) h) ?_
  refine lc_arg X hW hl hX hb (j := 2) (by omega) hL rfl dL_law_1446 dL_law_1447 dL_law_1450 dL_law_1451 (fun h => lv_iconst (v := (2 : Int32)) X.1 X.2.1 dL_law_1449 (by decide) h) ?_
  refine lc_c3 (As := [.int (xs (6 * k + 1)), .int (xs (6 * k + 2))]) (n := 2) X hl.1 hK hW (met3_builder l hK.2.2.1 _ _ _ _ _ h3) (lw_V q2250 q2251 q2252 q135 q2253) (by decide +kernel) rfl (Nat.le_of_ble_eq_true rfl) (Nat.le_of_ble_eq_true rfl) (by show _ ≤ 1200048; omega) (by show _ ≤ 5501818; omega) (cw_rest (Nat.le_of_ble_eq_true rfl)) dL_law_1452 (fun H nx hn hW => ?_)
  refine lv_icmp_eq (tgt := 2036) X.1 X.2.1 dL_law_1455 (by decide) (fun _ => ?_) (fun z => absurd rfl z)
  refine W.widen (k := 24048 + 49000 * (k + 1)) (n := 293818 + 217000 * (k + 1)) (by omega) (by omega) ?_
  exact nx9 _ _ _ _ ls (hJ.2.1 _ _ _ _ hJ' hn) hW hl
set_option maxHeartbeats 1000000 in
theorem law_c29 (hJ : pl_J J) (hK : lc_K l s E A E3 ol cL) (X : ww_C p m c cL_law 7 s #[.ref b] RX0 lw_all) (hX : va_X b L xs s s.heap) (hb : b < s.heap.size) (hL : L ≤ 144) (hk : 6 * k + 5 < L) (hJk : J k D M) (hW : lc_W s E A E3 ol cL D M g H) (hl : lv_has ls 7 [(4, .int (nI (6 * k))), (3, .ref ol), (2, .ref E3.1), (1, .ref E.1.1), (0, .ref b)]) (nx9 : lc_Nx p l e s m below meth c Q E A E3 ol cL J b k) : W p l e room_1 s m #[.ref b] below meth c H [] (24048 + 49000 * k) (293818 + 217000 * k) Q (F0 m 1460 ls []) := by
  have hk24 : k < 24 := by omega
  obtain ⟨r, D', nc, ns, M', h1, h3, hJ', hnc, hns⟩ : lj_N (J (k + 1)) (f1_draws D (xs (6 * k + 1)) (xs (6 * k + 2)) (((xs (6 * k + 3)).toInt64 <<< ((32 : Int32).toInt64 &&& 63)) ||| ((xs (6 * k + 4)).toInt64 &&& (4294967295 : Int64)))) (f3_draws M (xs (6 * k + 1)) (xs (6 * k + 2)) (((xs (6 * k + 3)).toInt64 <<< ((32 : Int32).toInt64 &&& 63)) ||| ((xs (6 * k + 4)).toInt64 &&& (4294967295 : Int64)))) := (hJ.2.2 k D M 29 (fun j => xs (6 * k + j)) hk24 hJk : ∀ sd : Int64, lj_N (J (k + 1)) (f1_draws D (xs (6 * k + 1)) (xs (6 * k + 2)) sd) (f3_draws M (xs (6 * k + 1)) (xs (6 * k + 2)) sd)) _
  refine lv_aload_n X.1 X.2.1 dL_law_1460 rfl (lv_at hl 3 rfl) ?_
  refine lc_arg X hW hl hX hb (j := 1) (by omega) hL rfl dL_law_1461 dL_law_1462 dL_law_1465 dL_law_1466 (fun h => lv_iconst (v := (1 : Int32)) X.1 X.2.1 dL_law_1464 (by decide) h) ?_
  refine lc_arg X hW hl hX hb (j := 2) (by omega) hL rfl dL_law_1467 dL_law_1468 dL_law_1471 dL_law_1472 (fun h => lv_iconst (v := (2 : Int32)) X.1 X.2.1 dL_law_1470 (by decide) h) ?_
  refine lc_arg X hW hl hX hb (j := 3) (by omega) hL rfl dL_law_1473 dL_law_1474 dL_law_1477 dL_law_1478 (fun h => lv_iconst (v := (3 : Int32)) X.1 X.2.1 dL_law_1476 (by decide) h) ?_
  refine lv_i2l (v := (xs (6 * k + 3)).toInt64) X.1 X.2.1 dL_law_1479 rfl ?_
  refine lv_bipush (v := (32 : Int32)) X.1 X.2.1 dL_law_1480 (by decide) ?_
  refine lv_lshl (v := ((xs (6 * k + 3)).toInt64 <<< ((32 : Int32).toInt64 &&& 63))) X.1 X.2.1 dL_law_1482 rfl ?_
  refine lc_arg X hW hl hX hb (j := 4) (by omega) hL rfl dL_law_1483 dL_law_1484 dL_law_1487 dL_law_1488 (fun h => lv_iconst (v := (4 : Int32)) X.1 X.2.1 dL_law_1486 (by decide) h) ?_
  refine lv_i2l (v := (xs (6 * k + 4)).toInt64) X.1 X.2.1 dL_law_1489 rfl ?_
  refine lv_ldc2 (v := (4294967295 : Int64)) X.1 X.2.1 X.2.2.2.1 (X.2.2.2.2 _ q2374) dL_law_1490 ?_
  refine lv_land X.1 X.2.1 dL_law_1493 ?_
  refine lv_lor X.1 X.2.1 dL_law_1494 ?_
  refine lc_c1 (As := [.int (xs (6 * k + 1)), .int (xs (6 * k + 2)), .long (((xs (6 * k + 3)).toInt64 <<< ((32 : Int32).toInt64 &&& 63)) ||| ((xs (6 * k + 4)).toInt64 &&& (4294967295 : Int64)))]) (n := 3) X hl.1 hK hW (met1_draws l _ _ _ _ _ _ _ _ h1) (lw_V q1441 q1442 q1443 q131 q1444) (by decide +kernel) rfl (Nat.le_of_ble_eq_true rfl) (Nat.le_of_ble_eq_true rfl) (by show _ ≤ 1200048; omega) (by show _ ≤ 5501818; omega) (cw_rest (Nat.le_of_ble_eq_true rfl)) dL_law_1495 (fun H hW => ?_)
  refine lv_aload_n X.1 X.2.1 dL_law_1498 rfl (lv_at hl 2 rfl) ?_
  refine lc_arg X hW hl hX hb (j := 1) (by omega) hL rfl dL_law_1499 dL_law_1500 dL_law_1503 dL_law_1504 (fun h => lv_iconst (v := (1 : Int32)) X.1 X.2.1 dL_law_1502 (by decide) h) ?_
  refine lc_arg X hW hl hX hb (j := 2) (by omega) hL rfl dL_law_1505 dL_law_1506 dL_law_1509 dL_law_1510 (fun h => lv_iconst (v := (2 : Int32)) X.1 X.2.1 dL_law_1508 (by decide) h) ?_
  refine lc_arg X hW hl hX hb (j := 3) (by omega) hL rfl dL_law_1511 dL_law_1512 dL_law_1515 dL_law_1516 (fun h => lv_iconst (v := (3 : Int32)) X.1 X.2.1 dL_law_1514 (by decide) h) ?_
  refine lv_i2l (v := (xs (6 * k + 3)).toInt64) X.1 X.2.1 dL_law_1517 rfl ?_
  refine lv_bipush (v := (32 : Int32)) X.1 X.2.1 dL_law_1518 (by decide) ?_
  refine lv_lshl (v := ((xs (6 * k + 3)).toInt64 <<< ((32 : Int32).toInt64 &&& 63))) X.1 X.2.1 dL_law_1520 rfl ?_
  refine lc_arg X hW hl hX hb (j := 4) (by omega) hL rfl dL_law_1521 dL_law_1522 dL_law_1525 dL_law_1526 (fun h => lv_iconst (v := (4 : Int32)) X.1 X.2.1 dL_law_1524 (by decide) h) ?_
  refine lv_i2l (v := (xs (6 * k + 4)).toInt64) X.1 X.2.1 dL_law_1527 rfl ?_
  refine lv_ldc2 (v := (4294967295 : Int64)) X.1 X.2.1 X.2.2.2.1 (X.2.2.2.2 _ q2374) dL_law_1528 ?_
  refine lv_land X.1 X.2.1 dL_law_1531 ?_
  refine lv_lor X.1 X.2.1 dL_law_1532 ?_
  refine lc_c3 (As := [.int (xs (6 * k + 1)), .int (xs (6 * k + 2)), .long (((xs (6 * k + 3)).toInt64 <<< ((32 : Int32).toInt64 &&& 63)) ||| ((xs (6 * k + 4)).toInt64 &&& (4294967295 : Int64)))]) (n := 3) X hl.1 hK hW (met3_draws l hK.2.2.1 _ _ _ _ _ _ h3) (lw_V q2258 q2259 q2260 q135 q2261) (by decide +kernel) rfl (Nat.le_of_ble_eq_true rfl) (Nat.le_of_ble_eq_true rfl) (by show _ ≤ 1200048; omega) (by show _ ≤ 5501818; omega) (cw_rest (Nat.le_of_ble_eq_true rfl)) dL_law_1533 (fun H nx hn hW => ?_)
  refine lv_icmp_eq (tgt := 2036) X.1 X.2.1 dL_law_1536 (by decide) (fun _ => ?_) (fun z => absurd rfl z)
  refine W.widen (k := 24048 + 49000 * (k + 1)) (n := 293818 + 217000 * (k + 1)) (by omega) (by omega) ?_
  exact nx9 _ _ _ _ ls (hJ.2.1 _ _ _ _ hJ' hn) hW hl
set_option maxHeartbeats 1000000 in
theorem law_c30 (hJ : pl_J J) (hK : lc_K l s E A E3 ol cL) (X : ww_C p m c cL_law 7 s #[.ref b] RX0 lw_all) (hX : va_X b L xs s s.heap) (hb : b < s.heap.size) (hL : L ≤ 144) (hk : 6 * k + 5 < L) (hJk : J k D M) (hW : lc_W s E A E3 ol cL D M g H) (hl : lv_has ls 7 [(4, .int (nI (6 * k))), (3, .ref ol), (2, .ref E3.1), (1, .ref E.1.1), (0, .ref b)]) (nx9 : lc_Nx p l e s m below meth c Q E A E3 ol cL J b k) : W p l e room_1 s m #[.ref b] below meth c H [] (24048 + 49000 * k) (293818 + 217000 * k) Q (F0 m 1541 ls []) := by
  have hk24 : k < 24 := by omega
  obtain ⟨r, M', h1, h3, hJ'⟩ : lj_P (J (k + 1)) D (f1_step D (xs (6 * k + 1)) (xs (6 * k + 2)) (xs (6 * k + 3))) (f3_step M (xs (6 * k + 1)) (xs (6 * k + 2)) (xs (6 * k + 3))) := hJ.2.2 k D M 30 (fun j => xs (6 * k + j)) hk24 hJk
  refine lv_aload_n X.1 X.2.1 dL_law_1541 rfl (lv_at hl 3 rfl) ?_
  refine lc_arg X hW hl hX hb (j := 1) (by omega) hL rfl dL_law_1542 dL_law_1543 dL_law_1546 dL_law_1547 (fun h => lv_iconst (v := (1 : Int32)) X.1 X.2.1 dL_law_1545 (by decide) h) ?_
  refine lc_arg X hW hl hX hb (j := 2) (by omega) hL rfl dL_law_1548 dL_law_1549 dL_law_1552 dL_law_1553 (fun h => lv_iconst (v := (2 : Int32)) X.1 X.2.1 dL_law_1551 (by decide) h) ?_
  refine lc_arg X hW hl hX hb (j := 3) (by omega) hL rfl dL_law_1554 dL_law_1555 dL_law_1558 dL_law_1559 (fun h => lv_iconst (v := (3 : Int32)) X.1 X.2.1 dL_law_1557 (by decide) h) ?_
  refine lc_c1 (As := [.int (xs (6 * k + 1)), .int (xs (6 * k + 2)), .int (xs (6 * k + 3))]) (n := 3) X hl.1 hK hW (met1_step l _ _ _ _ _ h1) (lw_V q1455 q1456 q1457 q131 q1458) (by decide +kernel) rfl (Nat.le_of_ble_eq_true rfl) (Nat.le_of_ble_eq_true rfl) (by show _ ≤ 1200048; omega) (by show _ ≤ 5501818; omega) (cw_rest (Nat.le_of_ble_eq_true rfl)) dL_law_1560 (fun H hW => ?_)
  refine lv_aload_n X.1 X.2.1 dL_law_1563 rfl (lv_at hl 2 rfl) ?_
  refine lc_arg X hW hl hX hb (j := 1) (by omega) hL rfl dL_law_1564 dL_law_1565 dL_law_1568 dL_law_1569 (fun h => lv_iconst (v := (1 : Int32)) X.1 X.2.1 dL_law_1567 (by decide) h) ?_
  refine lc_arg X hW hl hX hb (j := 2) (by omega) hL rfl dL_law_1570 dL_law_1571 dL_law_1574 dL_law_1575 (fun h => lv_iconst (v := (2 : Int32)) X.1 X.2.1 dL_law_1573 (by decide) h) ?_
  refine lc_arg X hW hl hX hb (j := 3) (by omega) hL rfl dL_law_1576 dL_law_1577 dL_law_1580 dL_law_1581 (fun h => lv_iconst (v := (3 : Int32)) X.1 X.2.1 dL_law_1579 (by decide) h) ?_
  refine lc_c3 (As := [.int (xs (6 * k + 1)), .int (xs (6 * k + 2)), .int (xs (6 * k + 3))]) (n := 3) X hl.1 hK hW (met3_step l hK.2.2.1 _ _ _ _ _ _ h3) (lw_V q2269 q2270 q2271 q135 q2272) (by decide +kernel) rfl (Nat.le_of_ble_eq_true rfl) (Nat.le_of_ble_eq_true rfl) (by show _ ≤ 1200048; omega) (by show _ ≤ 5501818; omega) (cw_rest (Nat.le_of_ble_eq_true rfl)) dL_law_1582 (fun H nx hn hW => ?_)
  refine lv_icmp_eq (tgt := 2036) X.1 X.2.1 dL_law_1585 (by decide) (fun _ => ?_) (fun z => absurd rfl z)
  refine W.widen (k := 24048 + 49000 * (k + 1)) (n := 293818 + 217000 * (k + 1)) (by omega) (by omega) ?_
  exact nx9 _ _ _ _ ls (hJ.2.1 _ _ _ _ hJ' hn) hW hl
set_option maxHeartbeats 1000000 in
theorem law_c31 (hJ : pl_J J) (hK : lc_K l s E A E3 ol cL) (X : ww_C p m c cL_law 7 s #[.ref b] RX0 lw_all) (hX : va_X b L xs s s.heap) (hb : b < s.heap.size) (hL : L ≤ 144) (hk : 6 * k + 5 < L) (hJk : J k D M) (hW : lc_W s E A E3 ol cL D M g H) (hl : lv_has ls 7 [(4, .int (nI (6 * k))), (3, .ref ol), (2, .ref E3.1), (1, .ref E.1.1), (0, .ref b)]) (nx9 : lc_Nx p l e s m below meth c Q E A E3 ol cL J b k) : W p l e room_1 s m #[.ref b] below meth c H [] (24048 + 49000 * k) (293818 + 217000 * k) Q (F0 m 1590 ls []) := by
  have hk24 : k < 24 := by omega
  obtain ⟨r, D', nc, ns, M', h1, h3, hJ', hnc, hns⟩ : lj_N (J (k + 1)) (f1_run D (xs (6 * k + 1)) (xs (6 * k + 2))) (f3_run M (xs (6 * k + 1)) (xs (6 * k + 2))) := hJ.2.2 k D M 31 (fun j => xs (6 * k + j)) hk24 hJk
  refine lv_aload_n X.1 X.2.1 dL_law_1590 rfl (lv_at hl 3 rfl) ?_
  refine lc_arg X hW hl hX hb (j := 1) (by omega) hL rfl dL_law_1591 dL_law_1592 dL_law_1595 dL_law_1596 (fun h => lv_iconst (v := (1 : Int32)) X.1 X.2.1 dL_law_1594 (by decide) h) ?_
  refine lc_arg X hW hl hX hb (j := 2) (by omega) hL rfl dL_law_1597 dL_law_1598 dL_law_1601 dL_law_1602 (fun h => lv_iconst (v := (2 : Int32)) X.1 X.2.1 dL_law_1600 (by decide) h) ?_
  refine lc_c1 (As := [.int (xs (6 * k + 1)), .int (xs (6 * k + 2))]) (n := 2) X hl.1 hK hW (met1_run l _ _ _ _ _ _ _ h1) (lw_V q1459 q1460 q1461 q131 q1462) (by decide +kernel) rfl (Nat.le_of_ble_eq_true rfl) (Nat.le_of_ble_eq_true rfl) (by show _ ≤ 1200048; omega) (by show _ ≤ 5501818; omega) (cw_rest (Nat.le_of_ble_eq_true rfl)) dL_law_1603 (fun H hW => ?_)
  refine lv_aload_n X.1 X.2.1 dL_law_1606 rfl (lv_at hl 2 rfl) ?_
  refine lc_arg X hW hl hX hb (j := 1) (by omega) hL rfl dL_law_1607 dL_law_1608 dL_law_1611 dL_law_1612 (fun h => lv_iconst (v := (1 : Int32)) X.1 X.2.1 dL_law_1610 (by decide) h) ?_
  refine lc_arg X hW hl hX hb (j := 2) (by omega) hL rfl dL_law_1613 dL_law_1614 dL_law_1617 dL_law_1618 (fun h => lv_iconst (v := (2 : Int32)) X.1 X.2.1 dL_law_1616 (by decide) h) ?_
  refine lc_c3 (As := [.int (xs (6 * k + 1)), .int (xs (6 * k + 2))]) (n := 2) X hl.1 hK hW (met3_run l hK.2.2.1 _ _ _ _ _ h3) (lw_V q2273 q2274 q2275 q135 q2276) (by decide +kernel) rfl (Nat.le_of_ble_eq_true rfl) (Nat.le_of_ble_eq_true rfl) (by show _ ≤ 1200048; omega) (by show _ ≤ 5501818; omega) (cw_rest (Nat.le_of_ble_eq_true rfl)) dL_law_1619 (fun H nx hn hW => ?_)
  refine lv_icmp_eq (tgt := 2036) X.1 X.2.1 dL_law_1622 (by decide) (fun _ => ?_) (fun z => absurd rfl z)
  refine W.widen (k := 24048 + 49000 * (k + 1)) (n := 293818 + 217000 * (k + 1)) (by omega) (by omega) ?_
  exact nx9 _ _ _ _ ls (hJ.2.1 _ _ _ _ hJ' hn) hW hl
set_option maxHeartbeats 1000000 in
theorem law_c32 (hJ : pl_J J) (hK : lc_K l s E A E3 ol cL) (X : ww_C p m c cL_law 7 s #[.ref b] RX0 lw_all) (hX : va_X b L xs s s.heap) (hb : b < s.heap.size) (hL : L ≤ 144) (hk : 6 * k + 5 < L) (hJk : J k D M) (hW : lc_W s E A E3 ol cL D M g H) (hl : lv_has ls 7 [(4, .int (nI (6 * k))), (3, .ref ol), (2, .ref E3.1), (1, .ref E.1.1), (0, .ref b)]) (nx9 : lc_Nx p l e s m below meth c Q E A E3 ol cL J b k) : W p l e room_1 s m #[.ref b] below meth c H [] (24048 + 49000 * k) (293818 + 217000 * k) Q (F0 m 1627 ls []) := by
  have hk24 : k < 24 := by omega
  obtain ⟨r, D', M', h1, h3, hJ'⟩ : lj_D (J (k + 1)) (f1_shared D (xs (6 * k + 1)) (xs (6 * k + 2))) (f3_shared M (xs (6 * k + 1)) (xs (6 * k + 2))) := hJ.2.2 k D M 32 (fun j => xs (6 * k + j)) hk24 hJk
  refine lv_aload_n X.1 X.2.1 dL_law_1627 rfl (lv_at hl 3 rfl) ?_
  refine lc_arg X hW hl hX hb (j := 1) (by omega) hL rfl dL_law_1628 dL_law_1629 dL_law_1632 dL_law_1633 (fun h => lv_iconst (v := (1 : Int32)) X.1 X.2.1 dL_law_1631 (by decide) h) ?_
  refine lc_arg X hW hl hX hb (j := 2) (by omega) hL rfl dL_law_1634 dL_law_1635 dL_law_1638 dL_law_1639 (fun h => lv_iconst (v := (2 : Int32)) X.1 X.2.1 dL_law_1637 (by decide) h) ?_
  refine lc_c1 (As := [.int (xs (6 * k + 1)), .int (xs (6 * k + 2))]) (n := 2) X hl.1 hK hW (met1_shared l _ _ _ _ _ h1) (lw_V q1467 q1468 q1469 q131 q1470) (by decide +kernel) rfl (Nat.le_of_ble_eq_true rfl) (Nat.le_of_ble_eq_true rfl) (by show _ ≤ 1200048; omega) (by show _ ≤ 5501818; omega) (cw_rest (Nat.le_of_ble_eq_true rfl)) dL_law_1640 (fun H hW => ?_)
  refine lv_aload_n X.1 X.2.1 dL_law_1643 rfl (lv_at hl 2 rfl) ?_
  refine lc_arg X hW hl hX hb (j := 1) (by omega) hL rfl dL_law_1644 dL_law_1645 dL_law_1648 dL_law_1649 (fun h => lv_iconst (v := (1 : Int32)) X.1 X.2.1 dL_law_1647 (by decide) h) ?_
  refine lc_arg X hW hl hX hb (j := 2) (by omega) hL rfl dL_law_1650 dL_law_1651 dL_law_1654 dL_law_1655 (fun h => lv_iconst (v := (2 : Int32)) X.1 X.2.1 dL_law_1653 (by decide) h) ?_
  refine lc_c3 (As := [.int (xs (6 * k + 1)), .int (xs (6 * k + 2))]) (n := 2) X hl.1 hK hW (met3_shared l hK.2.2.1 _ _ _ _ _ h3) (lw_V q2281 q2282 q2283 q135 q2284) (by decide +kernel) rfl (Nat.le_of_ble_eq_true rfl) (Nat.le_of_ble_eq_true rfl) (by show _ ≤ 1200048; omega) (by show _ ≤ 5501818; omega) (cw_rest (Nat.le_of_ble_eq_true rfl)) dL_law_1656 (fun H nx hn hW => ?_)
  refine lv_icmp_eq (tgt := 2036) X.1 X.2.1 dL_law_1659 (by decide) (fun _ => ?_) (fun z => absurd rfl z)
  refine W.widen (k := 24048 + 49000 * (k + 1)) (n := 293818 + 217000 * (k + 1)) (by omega) (by omega) ?_
  exact nx9 _ _ _ _ ls (hJ.2.1 _ _ _ _ hJ' hn) hW hl
set_option maxHeartbeats 1000000 in
theorem law_c33 (hJ : pl_J J) (hK : lc_K l s E A E3 ol cL) (X : ww_C p m c cL_law 7 s #[.ref b] RX0 lw_all) (hX : va_X b L xs s s.heap) (hb : b < s.heap.size) (hL : L ≤ 144) (hk : 6 * k + 5 < L) (hJk : J k D M) (hW : lc_W s E A E3 ol cL D M g H) (hl : lv_has ls 7 [(4, .int (nI (6 * k))), (3, .ref ol), (2, .ref E3.1), (1, .ref E.1.1), (0, .ref b)]) (nx9 : lc_Nx p l e s m below meth c Q E A E3 ol cL J b k) : W p l e room_1 s m #[.ref b] below meth c H [] (24048 + 49000 * k) (293818 + 217000 * k) Q (F0 m 1664 ls []) := by
  have hk24 : k < 24 := by omega
  obtain ⟨r, D', M', h1, h3, hJ'⟩ : lj_D (J (k + 1)) (f1_looked D (xs (6 * k + 1)) (xs (6 * k + 2))) (f3_looked M (xs (6 * k + 1)) (xs (6 * k + 2))) := hJ.2.2 k D M 33 (fun j => xs (6 * k + j)) hk24 hJk
  refine lv_aload_n X.1 X.2.1 dL_law_1664 rfl (lv_at hl 3 rfl) ?_
  refine lc_arg X hW hl hX hb (j := 1) (by omega) hL rfl dL_law_1665 dL_law_1666 dL_law_1669 dL_law_1670 (fun h => lv_iconst (v := (1 : Int32)) X.1 X.2.1 dL_law_1668 (by decide) h) ?_
  refine lc_arg X hW hl hX hb (j := 2) (by omega) hL rfl dL_law_1671 dL_law_1672 dL_law_1675 dL_law_1676 (fun h => lv_iconst (v := (2 : Int32)) X.1 X.2.1 dL_law_1674 (by decide) h) ?_
  refine lc_c1 (As := [.int (xs (6 * k + 1)), .int (xs (6 * k + 2))]) (n := 2) X hl.1 hK hW (met1_looked l _ _ _ _ _ h1) (lw_V q1479 q1480 q1481 q131 q1482) (by decide +kernel) rfl (Nat.le_of_ble_eq_true rfl) (Nat.le_of_ble_eq_true rfl) (by show _ ≤ 1200048; omega) (by show _ ≤ 5501818; omega) (cw_rest (Nat.le_of_ble_eq_true rfl)) dL_law_1677 (fun H hW => ?_)
  refine lv_aload_n X.1 X.2.1 dL_law_1680 rfl (lv_at hl 2 rfl) ?_
  refine lc_arg X hW hl hX hb (j := 1) (by omega) hL rfl dL_law_1681 dL_law_1682 dL_law_1685 dL_law_1686 (fun h => lv_iconst (v := (1 : Int32)) X.1 X.2.1 dL_law_1684 (by decide) h) ?_
  refine lc_arg X hW hl hX hb (j := 2) (by omega) hL rfl dL_law_1687 dL_law_1688 dL_law_1691 dL_law_1692 (fun h => lv_iconst (v := (2 : Int32)) X.1 X.2.1 dL_law_1690 (by decide) h) ?_
  refine lc_c3 (As := [.int (xs (6 * k + 1)), .int (xs (6 * k + 2))]) (n := 2) X hl.1 hK hW (met3_looked l hK.2.2.1 _ _ _ _ _ h3) (lw_V q2289 q2290 q2291 q135 q2292) (by decide +kernel) rfl (Nat.le_of_ble_eq_true rfl) (Nat.le_of_ble_eq_true rfl) (by show _ ≤ 1200048; omega) (by show _ ≤ 5501818; omega) (cw_rest (Nat.le_of_ble_eq_true rfl)) dL_law_1693 (fun H nx hn hW => ?_)
  refine lv_icmp_eq (tgt := 2036) X.1 X.2.1 dL_law_1696 (by decide) (fun _ => ?_) (fun z => absurd rfl z)
  refine W.widen (k := 24048 + 49000 * (k + 1)) (n := 293818 + 217000 * (k + 1)) (by omega) (by omega) ?_
  exact nx9 _ _ _ _ ls (hJ.2.1 _ _ _ _ hJ' hn) hW hl
set_option maxHeartbeats 1000000 in
theorem law_c34 (hJ : pl_J J) (hK : lc_K l s E A E3 ol cL) (X : ww_C p m c cL_law 7 s #[.ref b] RX0 lw_all) (hX : va_X b L xs s s.heap) (hb : b < s.heap.size) (hL : L ≤ 144) (hk : 6 * k + 5 < L) (hJk : J k D M) (hW : lc_W s E A E3 ol cL D M g H) (hl : lv_has ls 7 [(4, .int (nI (6 * k))), (3, .ref ol), (2, .ref E3.1), (1, .ref E.1.1), (0, .ref b)]) (nx9 : lc_Nx p l e s m below meth c Q E A E3 ol cL J b k) : W p l e room_1 s m #[.ref b] below meth c H [] (24048 + 49000 * k) (293818 + 217000 * k) Q (F0 m 1701 ls []) := by
  have hk24 : k < 24 := by omega
  obtain ⟨r, M', h1, h3, hJ'⟩ : lj_P (J (k + 1)) D (f1_difference D (xs (6 * k + 1)) (xs (6 * k + 2)) (xs (6 * k + 3)) (xs (6 * k + 4))) (f3_difference M (xs (6 * k + 1)) (xs (6 * k + 2)) (xs (6 * k + 3)) (xs (6 * k + 4))) := hJ.2.2 k D M 34 (fun j => xs (6 * k + j)) hk24 hJk
  refine lv_aload_n X.1 X.2.1 dL_law_1701 rfl (lv_at hl 3 rfl) ?_
  refine lc_arg X hW hl hX hb (j := 1) (by omega) hL rfl dL_law_1702 dL_law_1703 dL_law_1706 dL_law_1707 (fun h => lv_iconst (v := (1 : Int32)) X.1 X.2.1 dL_law_1705 (by decide) h) ?_
  refine lc_arg X hW hl hX hb (j := 2) (by omega) hL rfl dL_law_1708 dL_law_1709 dL_law_1712 dL_law_1713 (fun h => lv_iconst (v := (2 : Int32)) X.1 X.2.1 dL_law_1711 (by decide) h) ?_
  refine lc_arg X hW hl hX hb (j := 3) (by omega) hL rfl dL_law_1714 dL_law_1715 dL_law_1718 dL_law_1719 (fun h => lv_iconst (v := (3 : Int32)) X.1 X.2.1 dL_law_1717 (by decide) h) ?_
  refine lc_arg X hW hl hX hb (j := 4) (by omega) hL rfl dL_law_1720 dL_law_1721 dL_law_1724 dL_law_1725 (fun h => lv_iconst (v := (4 : Int32)) X.1 X.2.1 dL_law_1723 (by decide) h) ?_
  refine lc_c1 (As := [.int (xs (6 * k + 1)), .int (xs (6 * k + 2)), .int (xs (6 * k + 3)), .int (xs (6 * k + 4))]) (n := 4) X hl.1 hK hW (met1_difference l _ _ _ _ _ _ h1) (lw_V q1483 q1484 q1485 q131 q1486) (by decide +kernel) rfl (Nat.le_of_ble_eq_true rfl) (Nat.le_of_ble_eq_true rfl) (by show _ ≤ 1200048; omega) (by show _ ≤ 5501818; omega) (cw_rest (Nat.le_of_ble_eq_true rfl)) dL_law_1726 (fun H hW => ?_)
  refine lv_aload_n X.1 X.2.1 dL_law_1729 rfl (lv_at hl 2 rfl) ?_
  refine lc_arg X hW hl hX hb (j := 1) (by omega) hL rfl dL_law_1730 dL_law_1731 dL_law_1734 dL_law_1735 (fun h => lv_iconst (v := (1 : Int32)) X.1 X.2.1 dL_law_1733 (by decide) h) ?_
  refine lc_arg X hW hl hX hb (j := 2) (by omega) hL rfl dL_law_1736 dL_law_1737 dL_law_1740 dL_law_1741 (fun h => lv_iconst (v := (2 : Int32)) X.1 X.2.1 dL_law_1739 (by decide) h) ?_
  refine lc_arg X hW hl hX hb (j := 3) (by omega) hL rfl dL_law_1742 dL_law_1743 dL_law_1746 dL_law_1747 (fun h => lv_iconst (v := (3 : Int32)) X.1 X.2.1 dL_law_1745 (by decide) h) ?_
  refine lc_arg X hW hl hX hb (j := 4) (by omega) hL rfl dL_law_1748 dL_law_1749 dL_law_1752 dL_law_1753 (fun h => lv_iconst (v := (4 : Int32)) X.1 X.2.1 dL_law_1751 (by decide) h) ?_
  refine lc_c3 (As := [.int (xs (6 * k + 1)), .int (xs (6 * k + 2)), .int (xs (6 * k + 3)), .int (xs (6 * k + 4))]) (n := 4) X hl.1 hK hW (met3_difference l hK.2.2.1 _ _ _ _ _ _ _ h3) (lw_V q2293 q2294 q2295 q135 q2296) (by decide +kernel) rfl (Nat.le_of_ble_eq_true rfl) (Nat.le_of_ble_eq_true rfl) (by show _ ≤ 1200048; omega) (by show _ ≤ 5501818; omega) (cw_rest (Nat.le_of_ble_eq_true rfl)) dL_law_1754 (fun H nx hn hW => ?_)
  refine lv_icmp_eq (tgt := 2036) X.1 X.2.1 dL_law_1757 (by decide) (fun _ => ?_) (fun z => absurd rfl z)
  refine W.widen (k := 24048 + 49000 * (k + 1)) (n := 293818 + 217000 * (k + 1)) (by omega) (by omega) ?_
  exact nx9 _ _ _ _ ls (hJ.2.1 _ _ _ _ hJ' hn) hW hl
set_option maxHeartbeats 1000000 in
theorem law_c35 (hJ : pl_J J) (hK : lc_K l s E A E3 ol cL) (X : ww_C p m c cL_law 7 s #[.ref b] RX0 lw_all) (hX : va_X b L xs s s.heap) (hb : b < s.heap.size) (hL : L ≤ 144) (hk : 6 * k + 5 < L) (hJk : J k D M) (hW : lc_W s E A E3 ol cL D M g H) (hl : lv_has ls 7 [(4, .int (nI (6 * k))), (3, .ref ol), (2, .ref E3.1), (1, .ref E.1.1), (0, .ref b)]) (nx9 : lc_Nx p l e s m below meth c Q E A E3 ol cL J b k) : W p l e room_1 s m #[.ref b] below meth c H [] (24048 + 49000 * k) (293818 + 217000 * k) Q (F0 m 1762 ls []) := by
  have hk24 : k < 24 := by omega
  obtain ⟨r, D', nc, ns, M', h1, h3, hJ', hnc, hns⟩ : lj_N (J (k + 1)) (f1_alike D (xs (6 * k + 1)) (xs (6 * k + 2)) (xs (6 * k + 3))) (f3_alike M (xs (6 * k + 1)) (xs (6 * k + 2)) (xs (6 * k + 3))) := hJ.2.2 k D M 35 (fun j => xs (6 * k + j)) hk24 hJk
  refine lv_aload_n X.1 X.2.1 dL_law_1762 rfl (lv_at hl 3 rfl) ?_
  refine lc_arg X hW hl hX hb (j := 1) (by omega) hL rfl dL_law_1763 dL_law_1764 dL_law_1767 dL_law_1768 (fun h => lv_iconst (v := (1 : Int32)) X.1 X.2.1 dL_law_1766 (by decide) h) ?_
  refine lc_arg X hW hl hX hb (j := 2) (by omega) hL rfl dL_law_1769 dL_law_1770 dL_law_1773 dL_law_1774 (fun h => lv_iconst (v := (2 : Int32)) X.1 X.2.1 dL_law_1772 (by decide) h) ?_
  refine lc_arg X hW hl hX hb (j := 3) (by omega) hL rfl dL_law_1775 dL_law_1776 dL_law_1779 dL_law_1780 (fun h => lv_iconst (v := (3 : Int32)) X.1 X.2.1 dL_law_1778 (by decide) h) ?_
  refine lc_c1 (As := [.int (xs (6 * k + 1)), .int (xs (6 * k + 2)), .int (xs (6 * k + 3))]) (n := 3) X hl.1 hK hW (met1_alike l _ _ _ _ _ _ _ _ h1) (lw_V q1487 q1488 q1489 q131 q1490) (by decide +kernel) rfl (Nat.le_of_ble_eq_true rfl) (Nat.le_of_ble_eq_true rfl) (by show _ ≤ 1200048; omega) (by show _ ≤ 5501818; omega) (cw_rest (Nat.le_of_ble_eq_true rfl)) dL_law_1781 (fun H hW => ?_)
  refine lv_aload_n X.1 X.2.1 dL_law_1784 rfl (lv_at hl 2 rfl) ?_
  refine lc_arg X hW hl hX hb (j := 1) (by omega) hL rfl dL_law_1785 dL_law_1786 dL_law_1789 dL_law_1790 (fun h => lv_iconst (v := (1 : Int32)) X.1 X.2.1 dL_law_1788 (by decide) h) ?_
  refine lc_arg X hW hl hX hb (j := 2) (by omega) hL rfl dL_law_1791 dL_law_1792 dL_law_1795 dL_law_1796 (fun h => lv_iconst (v := (2 : Int32)) X.1 X.2.1 dL_law_1794 (by decide) h) ?_
  refine lc_arg X hW hl hX hb (j := 3) (by omega) hL rfl dL_law_1797 dL_law_1798 dL_law_1801 dL_law_1802 (fun h => lv_iconst (v := (3 : Int32)) X.1 X.2.1 dL_law_1800 (by decide) h) ?_
  refine lc_c3 (As := [.int (xs (6 * k + 1)), .int (xs (6 * k + 2)), .int (xs (6 * k + 3))]) (n := 3) X hl.1 hK hW (met3_alike l hK.2.2.1 _ _ _ _ _ _ h3) (lw_V q2297 q2298 q2299 q135 q2300) (by decide +kernel) rfl (Nat.le_of_ble_eq_true rfl) (Nat.le_of_ble_eq_true rfl) (by show _ ≤ 1200048; omega) (by show _ ≤ 5501818; omega) (cw_rest (Nat.le_of_ble_eq_true rfl)) dL_law_1803 (fun H nx hn hW => ?_)
  refine lv_icmp_eq (tgt := 2036) X.1 X.2.1 dL_law_1806 (by decide) (fun _ => ?_) (fun z => absurd rfl z)
  refine W.widen (k := 24048 + 49000 * (k + 1)) (n := 293818 + 217000 * (k + 1)) (by omega) (by omega) ?_
  exact nx9 _ _ _ _ ls (hJ.2.1 _ _ _ _ hJ' hn) hW hl
set_option maxHeartbeats 1000000 in
theorem law_c36 (hJ : pl_J J) (hK : lc_K l s E A E3 ol cL) (X : ww_C p m c cL_law 7 s #[.ref b] RX0 lw_all) (hX : va_X b L xs s s.heap) (hb : b < s.heap.size) (hL : L ≤ 144) (hk : 6 * k + 5 < L) (hJk : J k D M) (hW : lc_W s E A E3 ol cL D M g H) (hl : lv_has ls 7 [(4, .int (nI (6 * k))), (3, .ref ol), (2, .ref E3.1), (1, .ref E.1.1), (0, .ref b)]) (nx9 : lc_Nx p l e s m below meth c Q E A E3 ol cL J b k) : W p l e room_1 s m #[.ref b] below meth c H [] (24048 + 49000 * k) (293818 + 217000 * k) Q (F0 m 1811 ls []) := by
  have hk24 : k < 24 := by omega
  obtain ⟨r, D', M', h1, h3, hJ'⟩ : lj_D (J (k + 1)) (f1_fork D (xs (6 * k + 1)) (xs (6 * k + 2))) (f3_fork M (xs (6 * k + 1)) (xs (6 * k + 2))) := hJ.2.2 k D M 36 (fun j => xs (6 * k + j)) hk24 hJk
  refine lv_aload_n X.1 X.2.1 dL_law_1811 rfl (lv_at hl 3 rfl) ?_
  refine lc_arg X hW hl hX hb (j := 1) (by omega) hL rfl dL_law_1812 dL_law_1813 dL_law_1816 dL_law_1817 (fun h => lv_iconst (v := (1 : Int32)) X.1 X.2.1 dL_law_1815 (by decide) h) ?_
  refine lc_arg X hW hl hX hb (j := 2) (by omega) hL rfl dL_law_1818 dL_law_1819 dL_law_1822 dL_law_1823 (fun h => lv_iconst (v := (2 : Int32)) X.1 X.2.1 dL_law_1821 (by decide) h) ?_
  refine lc_c1 (As := [.int (xs (6 * k + 1)), .int (xs (6 * k + 2))]) (n := 2) X hl.1 hK hW (met1_fork l _ _ _ _ _ h1) (lw_V q1579 q1580 q1581 q131 q1582) (by decide +kernel) rfl (Nat.le_of_ble_eq_true rfl) (Nat.le_of_ble_eq_true rfl) (by show _ ≤ 1200048; omega) (by show _ ≤ 5501818; omega) (cw_rest (Nat.le_of_ble_eq_true rfl)) dL_law_1824 (fun H hW => ?_)
  refine lv_aload_n X.1 X.2.1 dL_law_1827 rfl (lv_at hl 2 rfl) ?_
  refine lc_arg X hW hl hX hb (j := 1) (by omega) hL rfl dL_law_1828 dL_law_1829 dL_law_1832 dL_law_1833 (fun h => lv_iconst (v := (1 : Int32)) X.1 X.2.1 dL_law_1831 (by decide) h) ?_
  refine lc_arg X hW hl hX hb (j := 2) (by omega) hL rfl dL_law_1834 dL_law_1835 dL_law_1838 dL_law_1839 (fun h => lv_iconst (v := (2 : Int32)) X.1 X.2.1 dL_law_1837 (by decide) h) ?_
  refine lc_c3 (As := [.int (xs (6 * k + 1)), .int (xs (6 * k + 2))]) (n := 2) X hl.1 hK hW (met3_fork l hK.2.2.1 _ _ _ _ _ h3) (lw_V q2309 q2310 q2311 q135 q2312) (by decide +kernel) rfl (Nat.le_of_ble_eq_true rfl) (Nat.le_of_ble_eq_true rfl) (by show _ ≤ 1200048; omega) (by show _ ≤ 5501818; omega) (cw_rest (Nat.le_of_ble_eq_true rfl)) dL_law_1840 (fun H nx hn hW => ?_)
  refine lv_icmp_eq (tgt := 2036) X.1 X.2.1 dL_law_1843 (by decide) (fun _ => ?_) (fun z => absurd rfl z)
  refine W.widen (k := 24048 + 49000 * (k + 1)) (n := 293818 + 217000 * (k + 1)) (by omega) (by omega) ?_
  exact nx9 _ _ _ _ ls (hJ.2.1 _ _ _ _ hJ' hn) hW hl
set_option maxHeartbeats 1000000 in
theorem law_c37 (hJ : pl_J J) (hK : lc_K l s E A E3 ol cL) (X : ww_C p m c cL_law 7 s #[.ref b] RX0 lw_all) (hX : va_X b L xs s s.heap) (hb : b < s.heap.size) (hL : L ≤ 144) (hk : 6 * k + 5 < L) (hJk : J k D M) (hW : lc_W s E A E3 ol cL D M g H) (hl : lv_has ls 7 [(4, .int (nI (6 * k))), (3, .ref ol), (2, .ref E3.1), (1, .ref E.1.1), (0, .ref b)]) (nx9 : lc_Nx p l e s m below meth c Q E A E3 ol cL J b k) : W p l e room_1 s m #[.ref b] below meth c H [] (24048 + 49000 * k) (293818 + 217000 * k) Q (F0 m 1848 ls []) := by
  have hk24 : k < 24 := by omega
  obtain ⟨r, D', M', h1, h3, hJ'⟩ : lj_D (J (k + 1)) (f1_comesFrom D (xs (6 * k + 1)) (xs (6 * k + 2))) (f3_comesFrom M (xs (6 * k + 1)) (xs (6 * k + 2))) := hJ.2.2 k D M 37 (fun j => xs (6 * k + j)) hk24 hJk
  refine lv_aload_n X.1 X.2.1 dL_law_1848 rfl (lv_at hl 3 rfl) ?_
  refine lc_arg X hW hl hX hb (j := 1) (by omega) hL rfl dL_law_1849 dL_law_1850 dL_law_1853 dL_law_1854 (fun h => lv_iconst (v := (1 : Int32)) X.1 X.2.1 dL_law_1852 (by decide) h) ?_
  refine lc_arg X hW hl hX hb (j := 2) (by omega) hL rfl dL_law_1855 dL_law_1856 dL_law_1859 dL_law_1860 (fun h => lv_iconst (v := (2 : Int32)) X.1 X.2.1 dL_law_1858 (by decide) h) ?_
  refine lc_c1 (As := [.int (xs (6 * k + 1)), .int (xs (6 * k + 2))]) (n := 2) X hl.1 hK hW (met1_comesFrom l _ _ _ _ _ h1) (lw_V q1587 q1588 q1589 q131 q1590) (by decide +kernel) rfl (Nat.le_of_ble_eq_true rfl) (Nat.le_of_ble_eq_true rfl) (by show _ ≤ 1200048; omega) (by show _ ≤ 5501818; omega) (cw_rest (Nat.le_of_ble_eq_true rfl)) dL_law_1861 (fun H hW => ?_)
  refine lv_aload_n X.1 X.2.1 dL_law_1864 rfl (lv_at hl 2 rfl) ?_
  refine lc_arg X hW hl hX hb (j := 1) (by omega) hL rfl dL_law_1865 dL_law_1866 dL_law_1869 dL_law_1870 (fun h => lv_iconst (v := (1 : Int32)) X.1 X.2.1 dL_law_1868 (by decide) h) ?_
  refine lc_arg X hW hl hX hb (j := 2) (by omega) hL rfl dL_law_1871 dL_law_1872 dL_law_1875 dL_law_1876 (fun h => lv_iconst (v := (2 : Int32)) X.1 X.2.1 dL_law_1874 (by decide) h) ?_
  refine lc_c3 (As := [.int (xs (6 * k + 1)), .int (xs (6 * k + 2))]) (n := 2) X hl.1 hK hW (met3_comesFrom l hK.2.2.1 _ _ _ _ _ h3) (lw_V q2317 q2318 q2319 q135 q2320) (by decide +kernel) rfl (Nat.le_of_ble_eq_true rfl) (Nat.le_of_ble_eq_true rfl) (by show _ ≤ 1200048; omega) (by show _ ≤ 5501818; omega) (cw_rest (Nat.le_of_ble_eq_true rfl)) dL_law_1877 (fun H nx hn hW => ?_)
  refine lv_icmp_eq (tgt := 2036) X.1 X.2.1 dL_law_1880 (by decide) (fun _ => ?_) (fun z => absurd rfl z)
  refine W.widen (k := 24048 + 49000 * (k + 1)) (n := 293818 + 217000 * (k + 1)) (by omega) (by omega) ?_
  exact nx9 _ _ _ _ ls (hJ.2.1 _ _ _ _ hJ' hn) hW hl
set_option maxHeartbeats 1000000 in
theorem law_c38 (hJ : pl_J J) (hK : lc_K l s E A E3 ol cL) (X : ww_C p m c cL_law 7 s #[.ref b] RX0 lw_all) (hX : va_X b L xs s s.heap) (hb : b < s.heap.size) (hL : L ≤ 144) (hk : 6 * k + 5 < L) (hJk : J k D M) (hW : lc_W s E A E3 ol cL D M g H) (hl : lv_has ls 7 [(4, .int (nI (6 * k))), (3, .ref ol), (2, .ref E3.1), (1, .ref E.1.1), (0, .ref b)]) (nx9 : lc_Nx p l e s m below meth c Q E A E3 ol cL J b k) : W p l e room_1 s m #[.ref b] below meth c H [] (24048 + 49000 * k) (293818 + 217000 * k) Q (F0 m 1885 ls []) := by
  have hk24 : k < 24 := by omega
  obtain ⟨r, D', nc, ns, M', h1, h3, hJ', hnc, hns⟩ : lj_N (J (k + 1)) (f1_show D (xs (6 * k + 1))) (f3_show M (xs (6 * k + 1))) := hJ.2.2 k D M 38 (fun j => xs (6 * k + j)) hk24 hJk
  refine lv_aload_n X.1 X.2.1 dL_law_1885 rfl (lv_at hl 3 rfl) ?_
  refine lc_arg X hW hl hX hb (j := 1) (by omega) hL rfl dL_law_1886 dL_law_1887 dL_law_1890 dL_law_1891 (fun h => lv_iconst (v := (1 : Int32)) X.1 X.2.1 dL_law_1889 (by decide) h) ?_
  refine lc_c1 (As := [.int (xs (6 * k + 1))]) (n := 1) X hl.1 hK hW (met1_show l _ _ _ _ _ _ h1) (lw_V q1591 q1592 q1593 q131 q1594) (by decide +kernel) rfl (Nat.le_of_ble_eq_true rfl) (Nat.le_of_ble_eq_true rfl) (by show _ ≤ 1200048; omega) (by show _ ≤ 5501818; omega) (cw_rest (Nat.le_of_ble_eq_true rfl)) dL_law_1892 (fun H hW => ?_)
  refine lv_aload_n X.1 X.2.1 dL_law_1895 rfl (lv_at hl 2 rfl) ?_
  refine lc_arg X hW hl hX hb (j := 1) (by omega) hL rfl dL_law_1896 dL_law_1897 dL_law_1900 dL_law_1901 (fun h => lv_iconst (v := (1 : Int32)) X.1 X.2.1 dL_law_1899 (by decide) h) ?_
  refine lc_c3 (As := [.int (xs (6 * k + 1))]) (n := 1) X hl.1 hK hW (met3_show l hK.2.2.1 _ _ _ _ h3) (lw_V q2321 q2322 q2323 q135 q2324) (by decide +kernel) rfl (Nat.le_of_ble_eq_true rfl) (Nat.le_of_ble_eq_true rfl) (by show _ ≤ 1200048; omega) (by show _ ≤ 5501818; omega) (cw_rest (Nat.le_of_ble_eq_true rfl)) dL_law_1902 (fun H nx hn hW => ?_)
  refine lv_icmp_eq (tgt := 2036) X.1 X.2.1 dL_law_1905 (by decide) (fun _ => ?_) (fun z => absurd rfl z)
  refine W.widen (k := 24048 + 49000 * (k + 1)) (n := 293818 + 217000 * (k + 1)) (by omega) (by omega) ?_
  exact nx9 _ _ _ _ ls (hJ.2.1 _ _ _ _ hJ' hn) hW hl
set_option maxHeartbeats 1000000 in
theorem law_c39 (hJ : pl_J J) (hK : lc_K l s E A E3 ol cL) (X : ww_C p m c cL_law 7 s #[.ref b] RX0 lw_all) (hX : va_X b L xs s s.heap) (hb : b < s.heap.size) (hL : L ≤ 144) (hk : 6 * k + 5 < L) (hJk : J k D M) (hW : lc_W s E A E3 ol cL D M g H) (hl : lv_has ls 7 [(4, .int (nI (6 * k))), (3, .ref ol), (2, .ref E3.1), (1, .ref E.1.1), (0, .ref b)]) (nx9 : lc_Nx p l e s m below meth c Q E A E3 ol cL J b k) : W p l e room_1 s m #[.ref b] below meth c H [] (24048 + 49000 * k) (293818 + 217000 * k) Q (F0 m 1910 ls []) := by
  have hk24 : k < 24 := by omega
  obtain ⟨r, D', M', h1, h3, hJ'⟩ : lj_D (J (k + 1)) (f1_shown D (xs (6 * k + 1))) (f3_shown M (xs (6 * k + 1))) := hJ.2.2 k D M 39 (fun j => xs (6 * k + j)) hk24 hJk
  refine lv_aload_n X.1 X.2.1 dL_law_1910 rfl (lv_at hl 3 rfl) ?_
  refine lc_arg X hW hl hX hb (j := 1) (by omega) hL rfl dL_law_1911 dL_law_1912 dL_law_1915 dL_law_1916 (fun h => lv_iconst (v := (1 : Int32)) X.1 X.2.1 dL_law_1914 (by decide) h) ?_
  refine lc_c1 (As := [.int (xs (6 * k + 1))]) (n := 1) X hl.1 hK hW (met1_shown l _ _ _ _ h1) (lw_V q1607 q1608 q1609 q131 q1610) (by decide +kernel) rfl (Nat.le_of_ble_eq_true rfl) (Nat.le_of_ble_eq_true rfl) (by show _ ≤ 1200048; omega) (by show _ ≤ 5501818; omega) (cw_rest (Nat.le_of_ble_eq_true rfl)) dL_law_1917 (fun H hW => ?_)
  refine lv_aload_n X.1 X.2.1 dL_law_1920 rfl (lv_at hl 2 rfl) ?_
  refine lc_arg X hW hl hX hb (j := 1) (by omega) hL rfl dL_law_1921 dL_law_1922 dL_law_1925 dL_law_1926 (fun h => lv_iconst (v := (1 : Int32)) X.1 X.2.1 dL_law_1924 (by decide) h) ?_
  refine lc_c3 (As := [.int (xs (6 * k + 1))]) (n := 1) X hl.1 hK hW (met3_shown l hK.2.2.1 _ _ _ _ h3) (lw_V q2344 q2345 q2346 q135 q2347) (by decide +kernel) rfl (Nat.le_of_ble_eq_true rfl) (Nat.le_of_ble_eq_true rfl) (by show _ ≤ 1200048; omega) (by show _ ≤ 5501818; omega) (cw_rest (Nat.le_of_ble_eq_true rfl)) dL_law_1927 (fun H nx hn hW => ?_)
  refine lv_icmp_eq (tgt := 2036) X.1 X.2.1 dL_law_1930 (by decide) (fun _ => ?_) (fun z => absurd rfl z)
  refine W.widen (k := 24048 + 49000 * (k + 1)) (n := 293818 + 217000 * (k + 1)) (by omega) (by omega) ?_
  exact nx9 _ _ _ _ ls (hJ.2.1 _ _ _ _ hJ' hn) hW hl
set_option maxHeartbeats 1000000 in
theorem law_c40 (hJ : pl_J J) (hK : lc_K l s E A E3 ol cL) (X : ww_C p m c cL_law 7 s #[.ref b] RX0 lw_all) (hX : va_X b L xs s s.heap) (hb : b < s.heap.size) (hL : L ≤ 144) (hk : 6 * k + 5 < L) (hJk : J k D M) (hW : lc_W s E A E3 ol cL D M g H) (hl : lv_has ls 7 [(4, .int (nI (6 * k))), (3, .ref ol), (2, .ref E3.1), (1, .ref E.1.1), (0, .ref b)]) (nx9 : lc_Nx p l e s m below meth c Q E A E3 ol cL J b k) : W p l e room_1 s m #[.ref b] below meth c H [] (24048 + 49000 * k) (293818 + 217000 * k) Q (F0 m 1935 ls []) := by
  have hk24 : k < 24 := by omega
  obtain ⟨r, D', nc, ns, M', h1, h3, hJ', hnc, hns⟩ : lj_N (J (k + 1)) (f1_digest D (xs (6 * k + 1))) (f3_digest M (xs (6 * k + 1))) := hJ.2.2 k D M 40 (fun j => xs (6 * k + j)) hk24 hJk
  refine lv_aload_n X.1 X.2.1 dL_law_1935 rfl (lv_at hl 3 rfl) ?_
  refine lc_arg X hW hl hX hb (j := 1) (by omega) hL rfl dL_law_1936 dL_law_1937 dL_law_1940 dL_law_1941 (fun h => lv_iconst (v := (1 : Int32)) X.1 X.2.1 dL_law_1939 (by decide) h) ?_
  refine lc_c1 (As := [.int (xs (6 * k + 1))]) (n := 1) X hl.1 hK hW (met1_digest l _ _ _ _ _ _ h1) (lw_V q1638 q1639 q1640 q131 q1641) (by decide +kernel) rfl (Nat.le_of_ble_eq_true rfl) (Nat.le_of_ble_eq_true rfl) (by show _ ≤ 1200048; omega) (by show _ ≤ 5501818; omega) (cw_rest (Nat.le_of_ble_eq_true rfl)) dL_law_1942 (fun H hW => ?_)
  refine lv_aload_n X.1 X.2.1 dL_law_1945 rfl (lv_at hl 2 rfl) ?_
  refine lc_arg X hW hl hX hb (j := 1) (by omega) hL rfl dL_law_1946 dL_law_1947 dL_law_1950 dL_law_1951 (fun h => lv_iconst (v := (1 : Int32)) X.1 X.2.1 dL_law_1949 (by decide) h) ?_
  refine lc_c3 (As := [.int (xs (6 * k + 1))]) (n := 1) X hl.1 hK hW (met3_digest l hK.2.2.1 _ _ _ _ h3) (lw_V q2348 q2349 q2350 q135 q2351) (by decide +kernel) rfl (Nat.le_of_ble_eq_true rfl) (Nat.le_of_ble_eq_true rfl) (by show _ ≤ 1200048; omega) (by show _ ≤ 5501818; omega) (cw_rest (Nat.le_of_ble_eq_true rfl)) dL_law_1952 (fun H nx hn hW => ?_)
  refine lv_icmp_eq (tgt := 2036) X.1 X.2.1 dL_law_1955 (by decide) (fun _ => ?_) (fun z => absurd rfl z)
  refine W.widen (k := 24048 + 49000 * (k + 1)) (n := 293818 + 217000 * (k + 1)) (by omega) (by omega) ?_
  exact nx9 _ _ _ _ ls (hJ.2.1 _ _ _ _ hJ' hn) hW hl
set_option maxHeartbeats 1000000 in
theorem law_c41 (hJ : pl_J J) (hK : lc_K l s E A E3 ol cL) (X : ww_C p m c cL_law 7 s #[.ref b] RX0 lw_all) (hX : va_X b L xs s s.heap) (hb : b < s.heap.size) (hL : L ≤ 144) (hk : 6 * k + 5 < L) (hJk : J k D M) (hW : lc_W s E A E3 ol cL D M g H) (hl : lv_has ls 7 [(4, .int (nI (6 * k))), (3, .ref ol), (2, .ref E3.1), (1, .ref E.1.1), (0, .ref b)]) (nx9 : lc_Nx p l e s m below meth c Q E A E3 ol cL J b k) : W p l e room_1 s m #[.ref b] below meth c H [] (24048 + 49000 * k) (293818 + 217000 * k) Q (F0 m 1960 ls []) := by
  have hk24 : k < 24 := by omega
  obtain ⟨r, M', h1, h3, hJ'⟩ : lj_P (J (k + 1)) D (f1_status D (xs (6 * k + 1))) (f3_status M (xs (6 * k + 1))) := hJ.2.2 k D M 41 (fun j => xs (6 * k + j)) hk24 hJk
  refine lv_aload_n X.1 X.2.1 dL_law_1960 rfl (lv_at hl 3 rfl) ?_
  refine lc_arg X hW hl hX hb (j := 1) (by omega) hL rfl dL_law_1961 dL_law_1962 dL_law_1965 dL_law_1966 (fun h => lv_iconst (v := (1 : Int32)) X.1 X.2.1 dL_law_1964 (by decide) h) ?_
  refine lc_c1 (As := [.int (xs (6 * k + 1))]) (n := 1) X hl.1 hK hW (met1_status l _ _ _ h1) (lw_V q1646 q1647 q1648 q131 q1649) (by decide +kernel) rfl (Nat.le_of_ble_eq_true rfl) (Nat.le_of_ble_eq_true rfl) (by show _ ≤ 1200048; omega) (by show _ ≤ 5501818; omega) (cw_rest (Nat.le_of_ble_eq_true rfl)) dL_law_1967 (fun H hW => ?_)
  refine lv_aload_n X.1 X.2.1 dL_law_1970 rfl (lv_at hl 2 rfl) ?_
  refine lc_arg X hW hl hX hb (j := 1) (by omega) hL rfl dL_law_1971 dL_law_1972 dL_law_1975 dL_law_1976 (fun h => lv_iconst (v := (1 : Int32)) X.1 X.2.1 dL_law_1974 (by decide) h) ?_
  refine lc_c3 (As := [.int (xs (6 * k + 1))]) (n := 1) X hl.1 hK hW (met3_status l hK.2.2.1 _ _ _ _ h3) (lw_V q2353 q2354 q2355 q135 q2356) (by decide +kernel) rfl (Nat.le_of_ble_eq_true rfl) (Nat.le_of_ble_eq_true rfl) (by show _ ≤ 1200048; omega) (by show _ ≤ 5501818; omega) (cw_rest (Nat.le_of_ble_eq_true rfl)) dL_law_1977 (fun H nx hn hW => ?_)
  refine lv_icmp_eq (tgt := 2036) X.1 X.2.1 dL_law_1980 (by decide) (fun _ => ?_) (fun z => absurd rfl z)
  refine W.widen (k := 24048 + 49000 * (k + 1)) (n := 293818 + 217000 * (k + 1)) (by omega) (by omega) ?_
  exact nx9 _ _ _ _ ls (hJ.2.1 _ _ _ _ hJ' hn) hW hl
set_option maxHeartbeats 1000000 in
theorem law_c42 (hJ : pl_J J) (hK : lc_K l s E A E3 ol cL) (X : ww_C p m c cL_law 7 s #[.ref b] RX0 lw_all) (hX : va_X b L xs s s.heap) (hb : b < s.heap.size) (hL : L ≤ 144) (hk : 6 * k + 5 < L) (hJk : J k D M) (hW : lc_W s E A E3 ol cL D M g H) (hl : lv_has ls 7 [(4, .int (nI (6 * k))), (3, .ref ol), (2, .ref E3.1), (1, .ref E.1.1), (0, .ref b)]) (nx9 : lc_Nx p l e s m below meth c Q E A E3 ol cL J b k) : W p l e room_1 s m #[.ref b] below meth c H [] (24048 + 49000 * k) (293818 + 217000 * k) Q (F0 m 1985 ls []) := by
  have hk24 : k < 24 := by omega
  obtain ⟨r, D', M', h1, h3, hJ'⟩ : lj_D (J (k + 1)) (f1_image D) (f3_image M) := hJ.2.2 k D M 42 (fun j => xs (6 * k + j)) hk24 hJk
  refine lv_aload_n X.1 X.2.1 dL_law_1985 rfl (lv_at hl 3 rfl) ?_
  refine lc_c1 (As := []) (n := 0) X hl.1 hK hW (met1_image l _ _ _ h1) (lw_V q1650 q1651 q1652 q131 q1653) (by decide +kernel) rfl (Nat.le_of_ble_eq_true rfl) (Nat.le_of_ble_eq_true rfl) (by show _ ≤ 1200048; omega) (by show _ ≤ 5501818; omega) (cw_rest (Nat.le_of_ble_eq_true rfl)) dL_law_1986 (fun H hW => ?_)
  refine lv_aload_n X.1 X.2.1 dL_law_1989 rfl (lv_at hl 2 rfl) ?_
  refine lc_c3 (As := []) (n := 0) X hl.1 hK hW (met3_image l hK.2.2.1 _ _ _ h3) (lw_V q2358 q2359 q2360 q135 q2361) (by decide +kernel) rfl (Nat.le_of_ble_eq_true rfl) (Nat.le_of_ble_eq_true rfl) (by show _ ≤ 1200048; omega) (by show _ ≤ 5501818; omega) (cw_rest (Nat.le_of_ble_eq_true rfl)) dL_law_1990 (fun H nx hn hW => ?_)
  refine lv_icmp_eq (tgt := 2036) X.1 X.2.1 dL_law_1993 (by decide) (fun _ => ?_) (fun z => absurd rfl z)
  refine W.widen (k := 24048 + 49000 * (k + 1)) (n := 293818 + 217000 * (k + 1)) (by omega) (by omega) ?_
  exact nx9 _ _ _ _ ls (hJ.2.1 _ _ _ _ hJ' hn) hW hl
set_option maxHeartbeats 1000000 in
theorem law_c43 (hJ : pl_J J) (hK : lc_K l s E A E3 ol cL) (X : ww_C p m c cL_law 7 s #[.ref b] RX0 lw_all) (hX : va_X b L xs s s.heap) (hb : b < s.heap.size) (hL : L ≤ 144) (hk : 6 * k + 5 < L) (hJk : J k D M) (hW : lc_W s E A E3 ol cL D M g H) (hl : lv_has ls 7 [(4, .int (nI (6 * k))), (3, .ref ol), (2, .ref E3.1), (1, .ref E.1.1), (0, .ref b)]) (nx9 : lc_Nx p l e s m below meth c Q E A E3 ol cL J b k) : W p l e room_1 s m #[.ref b] below meth c H [] (24048 + 49000 * k) (293818 + 217000 * k) Q (F0 m 1998 ls []) := by
  have hk24 : k < 24 := by omega
  obtain ⟨r, D', M', h1, h3, hJ'⟩ : lj_D (J (k + 1)) (f1_back D) (f3_back M) := hJ.2.2 k D M 43 (fun j => xs (6 * k + j)) hk24 hJk
  refine lv_aload_n X.1 X.2.1 dL_law_1998 rfl (lv_at hl 3 rfl) ?_
  refine lc_c1 (As := []) (n := 0) X hl.1 hK hW (met1_back l _ _ _ h1) (lw_V q1654 q1655 q1656 q131 q1657) (by decide +kernel) rfl (Nat.le_of_ble_eq_true rfl) (Nat.le_of_ble_eq_true rfl) (by show _ ≤ 1200048; omega) (by show _ ≤ 5501818; omega) (cw_rest (Nat.le_of_ble_eq_true rfl)) dL_law_1999 (fun H hW => ?_)
  refine lv_aload_n X.1 X.2.1 dL_law_2002 rfl (lv_at hl 2 rfl) ?_
  refine lc_c3 (As := []) (n := 0) X hl.1 hK hW (met3_back l hK.2.2.1 _ _ _ h3) (lw_V q2362 q2363 q2364 q135 q2365) (by decide +kernel) rfl (Nat.le_of_ble_eq_true rfl) (Nat.le_of_ble_eq_true rfl) (by show _ ≤ 1200048; omega) (by show _ ≤ 5501818; omega) (cw_rest (Nat.le_of_ble_eq_true rfl)) dL_law_2003 (fun H nx hn hW => ?_)
  refine lv_icmp_eq (tgt := 2036) X.1 X.2.1 dL_law_2006 (by decide) (fun _ => ?_) (fun z => absurd rfl z)
  refine W.widen (k := 24048 + 49000 * (k + 1)) (n := 293818 + 217000 * (k + 1)) (by omega) (by omega) ?_
  exact nx9 _ _ _ _ ls (hJ.2.1 _ _ _ _ hJ' hn) hW hl
set_option maxHeartbeats 1000000 in
theorem law_c44 (hJ : pl_J J) (hK : lc_K l s E A E3 ol cL) (X : ww_C p m c cL_law 7 s #[.ref b] RX0 lw_all) (hX : va_X b L xs s s.heap) (hb : b < s.heap.size) (hL : L ≤ 144) (hk : 6 * k + 5 < L) (hJk : J k D M) (hW : lc_W s E A E3 ol cL D M g H) (hl : lv_has ls 7 [(4, .int (nI (6 * k))), (3, .ref ol), (2, .ref E3.1), (1, .ref E.1.1), (0, .ref b)]) (nx9 : lc_Nx p l e s m below meth c Q E A E3 ol cL J b k) : W p l e room_1 s m #[.ref b] below meth c H [] (24048 + 49000 * k) (293818 + 217000 * k) Q (F0 m 2011 ls []) := by
  have hk24 : k < 24 := by omega
  obtain ⟨r, D', M', h1, h3, hJ'⟩ : lj_D (J (k + 1)) (f1_count D (xs (6 * k + 1))) (f3_count M (xs (6 * k + 1))) := hJ.2.2 k D M 44 (fun j => xs (6 * k + j)) hk24 hJk
  refine lv_aload_n X.1 X.2.1 dL_law_2011 rfl (lv_at hl 3 rfl) ?_
  refine lc_arg X hW hl hX hb (j := 1) (by omega) hL rfl dL_law_2012 dL_law_2013 dL_law_2016 dL_law_2017 (fun h => lv_iconst (v := (1 : Int32)) X.1 X.2.1 dL_law_2015 (by decide) h) ?_
  refine lc_c1 (As := [.int (xs (6 * k + 1))]) (n := 1) X hl.1 hK hW (met1_count l _ _ _ _ h1) (lw_V q1658 q1659 q1660 q131 q1661) (by decide +kernel) rfl (Nat.le_of_ble_eq_true rfl) (Nat.le_of_ble_eq_true rfl) (by show _ ≤ 1200048; omega) (by show _ ≤ 5501818; omega) (cw_rest (Nat.le_of_ble_eq_true rfl)) dL_law_2018 (fun H hW => ?_)
  refine lv_aload_n X.1 X.2.1 dL_law_2021 rfl (lv_at hl 2 rfl) ?_
  refine lc_arg X hW hl hX hb (j := 1) (by omega) hL rfl dL_law_2022 dL_law_2023 dL_law_2026 dL_law_2027 (fun h => lv_iconst (v := (1 : Int32)) X.1 X.2.1 dL_law_2025 (by decide) h) ?_
  refine lc_c3 (As := [.int (xs (6 * k + 1))]) (n := 1) X hl.1 hK hW (met3_count l hK.2.2.1 _ _ _ _ h3) (lw_V q2366 q2367 q2368 q135 q2369) (by decide +kernel) rfl (Nat.le_of_ble_eq_true rfl) (Nat.le_of_ble_eq_true rfl) (by show _ ≤ 1200048; omega) (by show _ ≤ 5501818; omega) (cw_rest (Nat.le_of_ble_eq_true rfl)) dL_law_2028 (fun H nx hn hW => ?_)
  refine lv_icmp_eq (tgt := 2036) X.1 X.2.1 dL_law_2031 (by decide) (fun _ => ?_) (fun z => absurd rfl z)
  refine W.widen (k := 24048 + 49000 * (k + 1)) (n := 293818 + 217000 * (k + 1)) (by omega) (by omega) ?_
  exact nx9 _ _ _ _ ls (hJ.2.1 _ _ _ _ hJ' hn) hW hl
end LCC
