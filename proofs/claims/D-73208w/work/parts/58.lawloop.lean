/-! WideMapLaw.law: its loop -/
section LCL
variable {p : Program} {l : Launch} {e : Env} {s : State} {m : MethodId} {below : List Frame} {meth : Method} {c : Code} {H : Heap} {Q : State → Prop} {ls : Array Slot} {E : cw_E} {A : Nat → Prop} {E3 : ww_E} {ol : Nat} {cL : ClassId} {D : cw_D} {M : ww_M} {g : Nat → Int64} {J : Nat → cw_D → ww_M → Prop} {b L k : Nat} {xs : Nat → Int32}
set_option maxHeartbeats 4000000 in
set_option maxRecDepth 100000 in
theorem law_turn (hJ : pl_J J) (hK : lc_K l s E A E3 ol cL) (X : ww_C p m c cL_law 7 s #[.ref b] RX0 lw_all) (hX : va_X b L xs s s.heap) (hb : b < s.heap.size) (hL : L ≤ 144) (hk : 6 * k + 5 < L) (hJk : J k D M) (hW : lc_W s E A E3 ol cL D M g H) (hl : lv_has ls 7 [(4, .int (nI (6 * k))), (3, .ref ol), (2, .ref E3.1), (1, .ref E.1.1), (0, .ref b)]) (nx9 : lc_Nx p l e s m below meth c Q E A E3 ol cL J b k) : W p l e room_1 s m #[.ref b] below meth c H [] (24048 + 49000 * k) (293818 + 217000 * k) Q (F0 m 33 ls []) := by
  have hk24 : k < 24 := by omega
  refine lv_aload_n X.1 X.2.1 dL_law_33 rfl (lv_at hl 4 rfl) ?_
  refine lv_iload X.1 X.2.1 dL_law_34 (lv_at hl 0 rfl) ?_
  refine va_sld (i := nI (6 * k)) X.1 X.2.1 hX hb (A := fun q => s.heap.size ≤ q) (Nat.not_le_of_lt hb) hW.2.2.2 (vp_in_nI (by omega) (by omega)) dL_law_36 ?_
  refine lv_bipush (v := (63 : Int32)) X.1 X.2.1 dL_law_37 (by decide) ?_
  refine lv_iand X.1 X.2.1 dL_law_39 ?_
  generalize (xs (nI (6 * k)).toNatClampNeg &&& (63 : Int32)) = x
  refine ww_by (x = 0) (fun c_0 => ww_tin (k := 0) (off := 196) (tgt := 236) X.1 X.2.1 dL_law_40 c_0 (by decide) (by decide) (by decide) (by decide) (law_c0 hJ hK X hX hb hL hk hJk hW hl nx9)) (fun c_0 => ?_)
  refine ww_by (x = 1) (fun c_1 => ww_tin (k := 1) (off := 269) (tgt := 309) X.1 X.2.1 dL_law_40 c_1 (by decide) (by decide) (by decide) (by decide) (law_c1 hJ hK X hX hb hL hk hJk hW hl nx9)) (fun c_1 => ?_)
  refine ww_by (x = 2) (fun c_2 => ww_tin (k := 2) (off := 294) (tgt := 334) X.1 X.2.1 dL_law_40 c_2 (by decide) (by decide) (by decide) (by decide) (law_c2 hJ hK X hX hb hL hk hJk hW hl nx9)) (fun c_2 => ?_)
  refine ww_by (x = 3) (fun c_3 => ww_tin (k := 3) (off := 319) (tgt := 359) X.1 X.2.1 dL_law_40 c_3 (by decide) (by decide) (by decide) (by decide) (law_c3 hJ hK X hX hb hL hk hJk hW hl nx9)) (fun c_3 => ?_)
  refine ww_by (x = 4) (fun c_4 => ww_tin (k := 4) (off := 344) (tgt := 384) X.1 X.2.1 dL_law_40 c_4 (by decide) (by decide) (by decide) (by decide) (law_c4 hJ hK X hX hb hL hk hJk hW hl nx9)) (fun c_4 => ?_)
  refine ww_by (x = 5) (fun c_5 => ww_tin (k := 5) (off := 369) (tgt := 409) X.1 X.2.1 dL_law_40 c_5 (by decide) (by decide) (by decide) (by decide) (law_c5 hJ hK X hX hb hL hk hJk hW hl nx9)) (fun c_5 => ?_)
  refine ww_by (x = 6) (fun c_6 => ww_tin (k := 6) (off := 406) (tgt := 446) X.1 X.2.1 dL_law_40 c_6 (by decide) (by decide) (by decide) (by decide) (law_c6 hJ hK X hX hb hL hk hJk hW hl nx9)) (fun c_6 => ?_)
  refine ww_by (x = 7) (fun c_7 => ww_tin (k := 7) (off := 474) (tgt := 514) X.1 X.2.1 dL_law_40 c_7 (by decide) (by decide) (by decide) (by decide) (law_c7 hJ hK X hX hb hL hk hJk hW hl nx9)) (fun c_7 => ?_)
  refine ww_by (x = 8) (fun c_8 => ww_tin (k := 8) (off := 511) (tgt := 551) X.1 X.2.1 dL_law_40 c_8 (by decide) (by decide) (by decide) (by decide) (law_c8 hJ hK X hX hb hL hk hJk hW hl nx9)) (fun c_8 => ?_)
  refine ww_by (x = 9) (fun c_9 => ww_tin (k := 9) (off := 548) (tgt := 588) X.1 X.2.1 dL_law_40 c_9 (by decide) (by decide) (by decide) (by decide) (law_c9 hJ hK X hX hb hL hk hJk hW hl nx9)) (fun c_9 => ?_)
  refine ww_by (x = 10) (fun c_10 => ww_tin (k := 10) (off := 597) (tgt := 637) X.1 X.2.1 dL_law_40 c_10 (by decide) (by decide) (by decide) (by decide) (law_c10 hJ hK X hX hb hL hk hJk hW hl nx9)) (fun c_10 => ?_)
  refine ww_by (x = 11) (fun c_11 => ww_tin (k := 11) (off := 646) (tgt := 686) X.1 X.2.1 dL_law_40 c_11 (by decide) (by decide) (by decide) (by decide) (law_c11 hJ hK X hX hb hL hk hJk hW hl nx9)) (fun c_11 => ?_)
  refine ww_by (x = 12) (fun c_12 => ww_tin (k := 12) (off := 695) (tgt := 735) X.1 X.2.1 dL_law_40 c_12 (by decide) (by decide) (by decide) (by decide) (law_c12 hJ hK X hX hb hL hk hJk hW hl nx9)) (fun c_12 => ?_)
  refine ww_by (x = 13) (fun c_13 => ww_tin (k := 13) (off := 744) (tgt := 784) X.1 X.2.1 dL_law_40 c_13 (by decide) (by decide) (by decide) (by decide) (law_c13 hJ hK X hX hb hL hk hJk hW hl nx9)) (fun c_13 => ?_)
  refine ww_by (x = 14) (fun c_14 => ww_tin (k := 14) (off := 781) (tgt := 821) X.1 X.2.1 dL_law_40 c_14 (by decide) (by decide) (by decide) (by decide) (law_c14 hJ hK X hX hb hL hk hJk hW hl nx9)) (fun c_14 => ?_)
  refine ww_by (x = 15) (fun c_15 => ww_tin (k := 15) (off := 830) (tgt := 870) X.1 X.2.1 dL_law_40 c_15 (by decide) (by decide) (by decide) (by decide) (law_c15 hJ hK X hX hb hL hk hJk hW hl nx9)) (fun c_15 => ?_)
  refine ww_by (x = 16) (fun c_16 => ww_tin (k := 16) (off := 891) (tgt := 931) X.1 X.2.1 dL_law_40 c_16 (by decide) (by decide) (by decide) (by decide) (law_c16 hJ hK X hX hb hL hk hJk hW hl nx9)) (fun c_16 => ?_)
  refine ww_by (x = 17) (fun c_17 => ww_tin (k := 17) (off := 940) (tgt := 980) X.1 X.2.1 dL_law_40 c_17 (by decide) (by decide) (by decide) (by decide) (law_c17 hJ hK X hX hb hL hk hJk hW hl nx9)) (fun c_17 => ?_)
  refine ww_by (x = 18) (fun c_18 => ww_tin (k := 18) (off := 989) (tgt := 1029) X.1 X.2.1 dL_law_40 c_18 (by decide) (by decide) (by decide) (by decide) (law_c18 hJ hK X hX hb hL hk hJk hW hl nx9)) (fun c_18 => ?_)
  refine ww_by (x = 19) (fun c_19 => ww_tin (k := 19) (off := 1014) (tgt := 1054) X.1 X.2.1 dL_law_40 c_19 (by decide) (by decide) (by decide) (by decide) (law_c19 hJ hK X hX hb hL hk hJk hW hl nx9)) (fun c_19 => ?_)
  refine ww_by (x = 20) (fun c_20 => ww_tin (k := 20) (off := 1051) (tgt := 1091) X.1 X.2.1 dL_law_40 c_20 (by decide) (by decide) (by decide) (by decide) (law_c20 hJ hK X hX hb hL hk hJk hW hl nx9)) (fun c_20 => ?_)
  refine ww_by (x = 21) (fun c_21 => ww_tin (k := 21) (off := 1100) (tgt := 1140) X.1 X.2.1 dL_law_40 c_21 (by decide) (by decide) (by decide) (by decide) (law_c21 hJ hK X hX hb hL hk hJk hW hl nx9)) (fun c_21 => ?_)
  refine ww_by (x = 22) (fun c_22 => ww_tin (k := 22) (off := 1137) (tgt := 1177) X.1 X.2.1 dL_law_40 c_22 (by decide) (by decide) (by decide) (by decide) (law_c22 hJ hK X hX hb hL hk hJk hW hl nx9)) (fun c_22 => ?_)
  refine ww_by (x = 23) (fun c_23 => ww_tin (k := 23) (off := 1186) (tgt := 1226) X.1 X.2.1 dL_law_40 c_23 (by decide) (by decide) (by decide) (by decide) (law_c23 hJ hK X hX hb hL hk hJk hW hl nx9)) (fun c_23 => ?_)
  refine ww_by (x = 24) (fun c_24 => ww_tin (k := 24) (off := 1235) (tgt := 1275) X.1 X.2.1 dL_law_40 c_24 (by decide) (by decide) (by decide) (by decide) (law_c24 hJ hK X hX hb hL hk hJk hW hl nx9)) (fun c_24 => ?_)
  refine ww_by (x = 25) (fun c_25 => ww_tin (k := 25) (off := 1296) (tgt := 1336) X.1 X.2.1 dL_law_40 c_25 (by decide) (by decide) (by decide) (by decide) (law_c25 hJ hK X hX hb hL hk hJk hW hl nx9)) (fun c_25 => ?_)
  refine ww_by (x = 26) (fun c_26 => ww_tin (k := 26) (off := 1321) (tgt := 1361) X.1 X.2.1 dL_law_40 c_26 (by decide) (by decide) (by decide) (by decide) (law_c26 hJ hK X hX hb hL hk hJk hW hl nx9)) (fun c_26 => ?_)
  refine ww_by (x = 27) (fun c_27 => ww_tin (k := 27) (off := 1346) (tgt := 1386) X.1 X.2.1 dL_law_40 c_27 (by decide) (by decide) (by decide) (by decide) (law_c27 hJ hK X hX hb hL hk hJk hW hl nx9)) (fun c_27 => ?_)
  refine ww_by (x = 28) (fun c_28 => ww_tin (k := 28) (off := 1383) (tgt := 1423) X.1 X.2.1 dL_law_40 c_28 (by decide) (by decide) (by decide) (by decide) (law_c28 hJ hK X hX hb hL hk hJk hW hl nx9)) (fun c_28 => ?_)
  refine ww_by (x = 29) (fun c_29 => ww_tin (k := 29) (off := 1420) (tgt := 1460) X.1 X.2.1 dL_law_40 c_29 (by decide) (by decide) (by decide) (by decide) (law_c29 hJ hK X hX hb hL hk hJk hW hl nx9)) (fun c_29 => ?_)
  refine ww_by (x = 30) (fun c_30 => ww_tin (k := 30) (off := 1501) (tgt := 1541) X.1 X.2.1 dL_law_40 c_30 (by decide) (by decide) (by decide) (by decide) (law_c30 hJ hK X hX hb hL hk hJk hW hl nx9)) (fun c_30 => ?_)
  refine ww_by (x = 31) (fun c_31 => ww_tin (k := 31) (off := 1550) (tgt := 1590) X.1 X.2.1 dL_law_40 c_31 (by decide) (by decide) (by decide) (by decide) (law_c31 hJ hK X hX hb hL hk hJk hW hl nx9)) (fun c_31 => ?_)
  refine ww_by (x = 32) (fun c_32 => ww_tin (k := 32) (off := 1587) (tgt := 1627) X.1 X.2.1 dL_law_40 c_32 (by decide) (by decide) (by decide) (by decide) (law_c32 hJ hK X hX hb hL hk hJk hW hl nx9)) (fun c_32 => ?_)
  refine ww_by (x = 33) (fun c_33 => ww_tin (k := 33) (off := 1624) (tgt := 1664) X.1 X.2.1 dL_law_40 c_33 (by decide) (by decide) (by decide) (by decide) (law_c33 hJ hK X hX hb hL hk hJk hW hl nx9)) (fun c_33 => ?_)
  refine ww_by (x = 34) (fun c_34 => ww_tin (k := 34) (off := 1661) (tgt := 1701) X.1 X.2.1 dL_law_40 c_34 (by decide) (by decide) (by decide) (by decide) (law_c34 hJ hK X hX hb hL hk hJk hW hl nx9)) (fun c_34 => ?_)
  refine ww_by (x = 35) (fun c_35 => ww_tin (k := 35) (off := 1722) (tgt := 1762) X.1 X.2.1 dL_law_40 c_35 (by decide) (by decide) (by decide) (by decide) (law_c35 hJ hK X hX hb hL hk hJk hW hl nx9)) (fun c_35 => ?_)
  refine ww_by (x = 36) (fun c_36 => ww_tin (k := 36) (off := 1771) (tgt := 1811) X.1 X.2.1 dL_law_40 c_36 (by decide) (by decide) (by decide) (by decide) (law_c36 hJ hK X hX hb hL hk hJk hW hl nx9)) (fun c_36 => ?_)
  refine ww_by (x = 37) (fun c_37 => ww_tin (k := 37) (off := 1808) (tgt := 1848) X.1 X.2.1 dL_law_40 c_37 (by decide) (by decide) (by decide) (by decide) (law_c37 hJ hK X hX hb hL hk hJk hW hl nx9)) (fun c_37 => ?_)
  refine ww_by (x = 38) (fun c_38 => ww_tin (k := 38) (off := 1845) (tgt := 1885) X.1 X.2.1 dL_law_40 c_38 (by decide) (by decide) (by decide) (by decide) (law_c38 hJ hK X hX hb hL hk hJk hW hl nx9)) (fun c_38 => ?_)
  refine ww_by (x = 39) (fun c_39 => ww_tin (k := 39) (off := 1870) (tgt := 1910) X.1 X.2.1 dL_law_40 c_39 (by decide) (by decide) (by decide) (by decide) (law_c39 hJ hK X hX hb hL hk hJk hW hl nx9)) (fun c_39 => ?_)
  refine ww_by (x = 40) (fun c_40 => ww_tin (k := 40) (off := 1895) (tgt := 1935) X.1 X.2.1 dL_law_40 c_40 (by decide) (by decide) (by decide) (by decide) (law_c40 hJ hK X hX hb hL hk hJk hW hl nx9)) (fun c_40 => ?_)
  refine ww_by (x = 41) (fun c_41 => ww_tin (k := 41) (off := 1920) (tgt := 1960) X.1 X.2.1 dL_law_40 c_41 (by decide) (by decide) (by decide) (by decide) (law_c41 hJ hK X hX hb hL hk hJk hW hl nx9)) (fun c_41 => ?_)
  refine ww_by (x = 42) (fun c_42 => ww_tin (k := 42) (off := 1945) (tgt := 1985) X.1 X.2.1 dL_law_40 c_42 (by decide) (by decide) (by decide) (by decide) (law_c42 hJ hK X hX hb hL hk hJk hW hl nx9)) (fun c_42 => ?_)
  refine ww_by (x = 43) (fun c_43 => ww_tin (k := 43) (off := 1958) (tgt := 1998) X.1 X.2.1 dL_law_40 c_43 (by decide) (by decide) (by decide) (by decide) (law_c43 hJ hK X hX hb hL hk hJk hW hl nx9)) (fun c_43 => ?_)
  refine ww_by (x = 44) (fun c_44 => ww_tin (k := 44) (off := 1971) (tgt := 2011) X.1 X.2.1 dL_law_40 c_44 (by decide) (by decide) (by decide) (by decide) (law_c44 hJ hK X hX hb hL hk hJk hW hl nx9)) (fun c_44 => ?_)
  refine ww_tout (tgt := 2036) [0, 1, 2, 3, 4, 5, 6, 7, 8, 9, 10, 11, 12, 13, 14, 15, 16, 17, 18, 19, 20, 21, 22, 23, 24, 25, 26, 27, 28, 29, 30, 31, 32, 33, 34, 35, 36, 37, 38, 39, 40, 41, 42, 43, 44] X.1 X.2.1 dL_law_40 ⟨c_0, c_1, c_2, c_3, c_4, c_5, c_6, c_7, c_8, c_9, c_10, c_11, c_12, c_13, c_14, c_15, c_16, c_17, c_18, c_19, c_20, c_21, c_22, c_23, c_24, c_25, c_26, c_27, c_28, c_29, c_30, c_31, c_32, c_33, c_34, c_35, c_36, c_37, c_38, c_39, c_40, c_41, c_42, c_43, c_44, trivial⟩ (by decide) (by decide) ?_
  refine W.widen (k := 24048 + 49000 * (k + 1)) (n := 293818 + 217000 * (k + 1)) (by omega) (by omega) ?_
  exact nx9 _ _ _ _ ls (hJ.1 _ _ _ hJk) hW hl
theorem law_loop (hJ : pl_J J) (hK : lc_K l s E A E3 ol cL) (X : ww_C p m c cL_law 7 s #[.ref b] RX0 lw_all) (hX : va_X b L xs s s.heap) (hb : b < s.heap.size) (hL : L ≤ 144) (hend : ∀ (H : Heap) (ls : Array Slot), W p l e room_1 s m #[.ref b] below meth c H [] 1200048 5501818 Q (F0 m 2043 ls [.int 1])) : ∀ (n k : Nat), k + n = 24 → ∀ (D : cw_D) (M : ww_M) (g : Nat → Int64) (H : Heap) (ls : Array Slot), J k D M → lc_W s E A E3 ol cL D M g H → lv_has ls 7 [(4, .int (nI (6 * k))), (3, .ref ol), (2, .ref E3.1), (1, .ref E.1.1), (0, .ref b)] → W p l e room_1 s m #[.ref b] below meth c H [] (24048 + 49000 * k) (293818 + 217000 * k) Q (F0 m 23 ls []) := by
  intro n
  induction n with
  | zero =>
    intro k hkn D M g H ls hJk hW hl
    refine lv_iload X.1 X.2.1 dL_law_23 (lv_at hl 0 rfl) ?_
    refine lv_aload_n X.1 X.2.1 dL_law_25 rfl (lv_at hl 4 rfl) ?_
    refine va_slen X.1 X.2.1 hX hb (A := fun q => s.heap.size ≤ q) (Nat.not_le_of_lt hb) hW.2.2.2 dL_law_26 ?_
    refine lv_bipush (v := (6 : Int32)) X.1 X.2.1 dL_law_27 (by decide) ?_
    refine lv_isub X.1 X.2.1 dL_law_29 ?_
    refine lv_icmp_gt (tgt := 2042) X.1 X.2.1 dL_law_30 (by decide) (fun _ => ?_) (fun h => ?_)
    · refine lv_iconst (v := (1 : Int32)) X.1 X.2.1 dL_law_2042 (by decide) ?_
      refine W.widen (k := 1200048) (n := 5501818) (by omega) (by omega) ?_
      exact hend H ls
    · exact absurd (lc_last (L := L) (i := 6 * k) (by omega) (by omega) h) (by omega)
  | succ n ih =>
    intro k hkn D M g H ls hJk hW hl
    refine lv_iload X.1 X.2.1 dL_law_23 (lv_at hl 0 rfl) ?_
    refine lv_aload_n X.1 X.2.1 dL_law_25 rfl (lv_at hl 4 rfl) ?_
    refine va_slen X.1 X.2.1 hX hb (A := fun q => s.heap.size ≤ q) (Nat.not_le_of_lt hb) hW.2.2.2 dL_law_26 ?_
    refine lv_bipush (v := (6 : Int32)) X.1 X.2.1 dL_law_27 (by decide) ?_
    refine lv_isub X.1 X.2.1 dL_law_29 ?_
    refine lv_icmp_gt (tgt := 2042) X.1 X.2.1 dL_law_30 (by decide) (fun _ => ?_) (fun h => ?_)
    · refine lv_iconst (v := (1 : Int32)) X.1 X.2.1 dL_law_2042 (by decide) ?_
      refine W.widen (k := 1200048) (n := 5501818) (by omega) (by omega) ?_
      exact hend H ls
    · have hk : 6 * k + 5 < L := by have := lc_last (L := L) (i := 6 * k) (by omega) (by omega) h; omega
      refine law_turn hJ hK X hX hb hL hk hJk hW hl ?_
      intro D M g H ls hJk hW hl
      refine lv_iinc (k := 0) (v := nI (6 * (k + 1))) (lv' := [(4, .int (nI (6 * (k + 1)))), (3, .ref ol), (2, .ref E3.1), (1, .ref E.1.1), (0, .ref b)]) X.1 X.2.1 dL_law_2036 hl rfl ?_ (by decide) rfl (fun ls hl => ?_)
      · exact (Int32.ofNat_add (6 * k) 6).symm
      refine lv_goto (tgt := 23) X.1 X.2.1 dL_law_2039 (by decide) ?_
      exact ih (k + 1) (by omega) D M g H ls hJk hW hl
end LCL
