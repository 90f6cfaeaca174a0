/-! WideMap.<init> -/
set_option maxHeartbeats 4000000 in
set_option maxRecDepth 100000 in
theorem ci_iniW {p : Program} {l : Launch} {e : Env} {R : Room} {s : State} {m : MethodId} {args : Array Value} {below : List Frame} {meth : Method} {c : Code} {Q : State → Prop} {ls : Array Slot} {o base : Nat} {G : ci_G} {cl : Nat → ClassId} {sl : Nat → Nat → Nat} {cst : Nat → Option Nat} {S0 : Nat → Option cw_O} (hl9 : l.stackTraces = false) (ho : o < base) (hop : ∀ fa nx, ∃ D1, f1_opens (ci_D0 fa nx cst S0) 4 = some D1) (X : ww_C p m c cX1_init 1 s args RX1 lw_all) (hnm9 : meth.name = "<init>") (hKK : ci_K o G cl sl base cst s) (hOB : t_OB o G.1 38 G.2.1 s.heap (fun k => defaultValue (tyX1 k))) (hbs : base ≤ s.heap.size) (hS0 : ci_S o G cl sl base cst S0 s.heap) (hC : 20 ≤ R.cells ∧ 5374 ≤ R.slots) (hF : 6 ≤ R.frames ∧ 90 ≤ R.locals) (hl : lv_has ls 1 (lv_args 0 [.ref o]))
    (kk : ∀ (ad : Nat → Nat) (fa nx : Nat) (D1 : cw_D) (H : Heap) (locs : List Loc) (pc : Nat) (ls : Array Slot), decode cX1_init pc = .ok (.return_, 1) → f1_opens (ci_D0 fa nx cst S0) 4 = some D1 → cw_H (ci_E o G cl sl base cst ad) (ci_A o base) D1 H → ww_D 38 tyX1 (o, ad, G) → (∀ k, k < 38 → ∀ el, tyX1 k = .array el → base ≤ ad k) → base ≤ fa → base ≤ nx → va_S (ci_A o base) s.heap H locs → W p l e R s m args below meth c H locs 20 5374 Q (F0 m pc ls [])) : W p l e R s m args below meth c s.heap [] 0 0 Q (F0 m 0 ls []) := by
  obtain ⟨hx, hb, hml, hown, hts⟩ := id X
  have hKs := hKK.some ho
  have hK : ww_Kn RX1 TX1 38 tyX1 (o, fun _ => 0, G) s := hKs.1
  have hT9 := hKs.ct.2.2.2.2.2.2
  have hNest : (Cond.methodLinkNest RX1 38 (Bundle.init0 RX2) RX1).before args s = true := va_Nw.use rfl hKs.2.2.2.2.2.1.2.2.1
  have hT : ∀ (j : Nat) {q : Nat × String × Nat × String}, cwStr[j]? = some q → ∀ a, cst q.1 = some a → vk_R q.2.1 q.2.2.1 q.2.2.2 a s := by
    intro j q hq a ha
    obtain ⟨a', h1, h2⟩ := hKs.ct.2.2.2.2.2.1 q (List.mem_of_getElem? hq)
    have h1 : cst q.1 = some a' := h1
    cases ha.symm.trans h1
    exact h2
  have hA : ∀ q, q = o ∨ base ≤ q → ci_A o base q := fun q h => h
  have hS : va_S (ci_A o base) s.heap s.heap [] := va_S.rf
  have h : cb_H 38 tyX1 c1_len (o, fun _ => 0, G) base (ci_M 0 cst) 0 s.heap := cb_H.start hOB hbs
  replace hl : lv_has ls 1 [(0, .ref o)] := hl
  refine lv_aload_n hx hb dX1_init_0 rfl (lv_at hl 0 rfl) ?_
  refine W.objInit hx hb hown (hts _ q163) (hts _ q164) (hts _ q165) rfl (by rw [hml]; exact hl.1) rfl dX1_init_1 (Nat.le_trans (Nat.le_of_ble_eq_true rfl) hF.1) (Nat.le_trans (Nat.le_of_ble_eq_true rfl) hF.2) ?_
  refine W.eq (g2 := F0 m 4 ls []) rfl ?_
  refine lv_aload_n hx hb dX1_init_4 rfl (lv_at hl 0 rfl) ?_
  refine lv_bipush (v := (6 : Int32)) hx hb dX1_init_5 (by decide) ?_
  refine ci_anew X (hK.2 0 (by decide) _ rfl) q166 hKK.2 (by decide) rfl hS (Nat.le_trans (Nat.le_of_ble_eq_true rfl) hC.1) (Nat.le_trans (Nat.le_of_ble_eq_true rfl) hC.2) dX1_init_7 (fun H1 hc hS z1 o1 => ?_)
  replace h := h.kept (by omega) o1
  have hzb : base ≤ s.heap.size := hbs
  refine lv_dup hx hb dX1_init_10 rfl ?_
  refine lv_iconst (v := (0 : Int32)) hx hb dX1_init_11 (by decide) ?_
  obtain ⟨a0, t0, x0⟩ := ci_text hKs hS0 hS (k := 100) (by decide)
  have v0 := hT 0 (q := (100, RX1, 20, "put")) rfl a0 t0
  refine va_ldcS hx hb hown v0 dX1_init_12 ?_
  refine ci_wst X (hK.2 0 (by decide) _ rfl) hc (by decide) x0 (Or.inr hzb) hS dX1_init_14 (fun H1 locs hc hS z2 o2 => ?_)
  replace h := h.kept2 (by omega) (Nat.ne_of_gt (Nat.lt_of_lt_of_le ho hzb)) o2
  refine lv_dup hx hb dX1_init_15 rfl ?_
  refine lv_iconst (v := (1 : Int32)) hx hb dX1_init_16 (by decide) ?_
  obtain ⟨a1, t1, x1⟩ := ci_text hKs hS0 hS (k := 101) (by decide)
  have v1 := hT 1 (q := (101, RX1, 22, "del")) rfl a1 t1
  refine va_ldcS hx hb hown v1 dX1_init_17 ?_
  refine ci_wst X (hK.2 0 (by decide) _ rfl) hc (by decide) x1 (Or.inr hzb) hS dX1_init_19 (fun H1 locs hc hS z2 o2 => ?_)
  replace h := h.kept2 (by omega) (Nat.ne_of_gt (Nat.lt_of_lt_of_le ho hzb)) o2
  refine lv_dup hx hb dX1_init_20 rfl ?_
  refine lv_iconst (v := (2 : Int32)) hx hb dX1_init_21 (by decide) ?_
  obtain ⟨a2, t2, x2⟩ := ci_text hKs hS0 hS (k := 102) (by decide)
  have v2 := hT 2 (q := (102, RX1, 24, "add")) rfl a2 t2
  refine va_ldcS hx hb hown v2 dX1_init_22 ?_
  refine ci_wst X (hK.2 0 (by decide) _ rfl) hc (by decide) x2 (Or.inr hzb) hS dX1_init_24 (fun H1 locs hc hS z2 o2 => ?_)
  replace h := h.kept2 (by omega) (Nat.ne_of_gt (Nat.lt_of_lt_of_le ho hzb)) o2
  refine lv_dup hx hb dX1_init_25 rfl ?_
  refine lv_iconst (v := (3 : Int32)) hx hb dX1_init_26 (by decide) ?_
  obtain ⟨a3, t3, x3⟩ := ci_text hKs hS0 hS (k := 103) (by decide)
  have v3 := hT 3 (q := (103, RX1, 26, "cut")) rfl a3 t3
  refine va_ldcS hx hb hown v3 dX1_init_27 ?_
  refine ci_wst X (hK.2 0 (by decide) _ rfl) hc (by decide) x3 (Or.inr hzb) hS dX1_init_29 (fun H1 locs hc hS z2 o2 => ?_)
  replace h := h.kept2 (by omega) (Nat.ne_of_gt (Nat.lt_of_lt_of_le ho hzb)) o2
  refine lv_dup hx hb dX1_init_30 rfl ?_
  refine lv_iconst (v := (4 : Int32)) hx hb dX1_init_31 (by decide) ?_
  obtain ⟨a4, t4, x4⟩ := ci_text hKs hS0 hS (k := 104) (by decide)
  have v4 := hT 4 (q := (104, RX1, 28, "inc")) rfl a4 t4
  refine va_ldcS hx hb hown v4 dX1_init_32 ?_
  refine ci_wst X (hK.2 0 (by decide) _ rfl) hc (by decide) x4 (Or.inr hzb) hS dX1_init_34 (fun H1 locs hc hS z2 o2 => ?_)
  replace h := h.kept2 (by omega) (Nat.ne_of_gt (Nat.lt_of_lt_of_le ho hzb)) o2
  refine lv_dup hx hb dX1_init_35 rfl ?_
  refine lv_iconst (v := (5 : Int32)) hx hb dX1_init_36 (by decide) ?_
  obtain ⟨a5, t5, x5⟩ := ci_text hKs hS0 hS (k := 105) (by decide)
  have v5 := hT 5 (q := (105, RX1, 30, "snap")) rfl a5 t5
  refine va_ldcS hx hb hown v5 dX1_init_37 ?_
  refine ci_wst X (hK.2 0 (by decide) _ rfl) hc (by decide) x5 (Or.inr hzb) hS dX1_init_39 (fun H1 locs hc hS z2 o2 => ?_)
  replace h := h.kept2 (by omega) (Nat.ne_of_gt (Nat.lt_of_lt_of_le ho hzb)) o2
  refine cb_arr (E := (o, fun _ => 0, G)) X in_X1 tyX1_ok nmX1 hK ho hA hS 0 (by decide) h q245 rfl (fun _ => hnm9) rfl hzb (fun k hk => absurd hk (Nat.not_lt_zero k)) (hc.trans (congrArg some (congrArg (fun z => vp_cell _ (6, z)) (ci_words (fa := 0) t0 t1 t2 t3 t4 t5).symm))) dX1_init_40 (fun ad H locs h hS hq _ => ?_)
  refine lv_aload_n hx hb dX1_init_43 rfl (lv_at hl 0 rfl) ?_
  refine nx_make0 (own := RX1) (cls := RX2) (host := RX1) (names := ["java/lang/Exception"]) (A := ci_A o base) hx hb hl9 hown (by decide +kernel) (by decide +kernel) (hts _ q174) (hts _ q134) hNest (ci_hat hts hKs) ci_good hT9.2.2.2.1 hT9.2.2.2.2 hS (hl.1.trans hml.symm) dX1_init_44 dX1_init_47 dX1_init_48 (fun q hq => Or.inr (Nat.le_trans hbs hq)) (show 1 + 3 < R.frames by have := hF.1; omega) (show (1 + 0) + (13 * (1 + 1) + 42) ≤ R.locals by have := hF.2; omega) (Nat.le_trans (Nat.le_of_ble_eq_true rfl) hC.1) (Nat.le_trans (Nat.le_of_ble_eq_true rfl) hC.2) (fun H1 ce hfa hfv hfc hfz o1 hS => ?_)
  have hfb := h.2.1
  have hfo := Nat.ne_of_gt h.o
  replace h := h.kept (Nat.le_of_lt hfz) o1
  obtain ⟨fa, hfe⟩ : ∃ z, z = H.size := ⟨_, rfl⟩
  rw [← hfe] at hfa hfb hfo ⊢
  replace h : cb_H 38 tyX1 c1_len (o, ad, G) base (ci_M fa cst) 1 H1 := h.toM (fun k hk => by cases (show k = 0 by omega); rfl) (fun k hk el he => by cases (show k = 0 by omega); cases el <;> rfl)
  refine cb_put (E := (o, ad, G)) (ad := ad) X in_X1 tyX1_ok nmX1 hK ho hA hS 1 (by decide) h q246 rfl (fun _ => hnm9) rfl rfl rfl (fun _ _ => rfl) (fun el e => nomatch (show FieldType.object "WideMap$Fault" = FieldType.array el from e)) dX1_init_51 (fun H locs h hS _ hq => ?_)
  replace hfa := (hq _ hfo).trans hfa
  refine lv_aload_n hx hb dX1_init_54 rfl (lv_at hl 0 rfl) ?_
  refine lv_sipush (v := (240 : Int32)) hx hb dX1_init_55 (by decide) ?_
  refine cb_newa (E := (o, ad, G)) (atype := .byte) (L := 240) X in_X1 tyX1_ok nmX1 hK ho hA hS 2 (by decide) h q247 rfl (fun _ => hnm9) rfl q231 rfl rfl (by decide) (fun cA => vp_cell_i cA _ (fun _ => 0)) (Nat.le_trans (Nat.le_of_ble_eq_true rfl) hC.1) (Nat.le_trans (Nat.le_of_ble_eq_true rfl) hC.2) dX1_init_58 dX1_init_60 (fun ad H locs h hS hq _ => ?_)
  replace hfa := (hq _ (Array.getElem?_eq_some_iff.mp hfa).1 hfo).trans hfa
  refine lv_aload_n hx hb dX1_init_63 rfl (lv_at hl 0 rfl) ?_
  refine lv_sipush (v := (320 : Int32)) hx hb dX1_init_64 (by decide) ?_
  replace h := h.skip (fun el e => nomatch (show FieldType.int = FieldType.array el from e)) rfl
  replace h := h.skip (fun el e => nomatch (show FieldType.int = FieldType.array el from e)) rfl
  refine cb_newa (E := (o, ad, G)) (atype := .int) (L := 320) X in_X1 tyX1_ok nmX1 hK ho hA hS 5 (by decide) h q250 rfl (fun _ => hnm9) rfl q361 rfl rfl (by decide) (fun cA => vp_cell_i cA _ (fun _ => 0)) (Nat.le_trans (Nat.le_of_ble_eq_true rfl) hC.1) (Nat.le_trans (Nat.le_of_ble_eq_true rfl) hC.2) dX1_init_67 dX1_init_69 (fun ad H locs h hS hq _ => ?_)
  replace hfa := (hq _ (Array.getElem?_eq_some_iff.mp hfa).1 hfo).trans hfa
  refine lv_aload_n hx hb dX1_init_72 rfl (lv_at hl 0 rfl) ?_
  refine lv_iconst (v := (5 : Int32)) hx hb dX1_init_73 (by decide) ?_
  refine cb_newa (E := (o, ad, G)) (atype := .int) (L := 5) X in_X1 tyX1_ok nmX1 hK ho hA hS 6 (by decide) h q251 rfl (fun _ => hnm9) rfl q361 rfl rfl (by decide) (fun cA => vp_cell_i cA _ (fun _ => 0)) (Nat.le_trans (Nat.le_of_ble_eq_true rfl) hC.1) (Nat.le_trans (Nat.le_of_ble_eq_true rfl) hC.2) dX1_init_74 dX1_init_76 (fun ad H locs h hS hq _ => ?_)
  replace hfa := (hq _ (Array.getElem?_eq_some_iff.mp hfa).1 hfo).trans hfa
  refine lv_aload_n hx hb dX1_init_79 rfl (lv_at hl 0 rfl) ?_
  refine lv_sipush (v := (480 : Int32)) hx hb dX1_init_80 (by decide) ?_
  replace h := h.skip (fun el e => nomatch (show FieldType.int = FieldType.array el from e)) rfl
  refine cb_newa (E := (o, ad, G)) (atype := .int) (L := 480) X in_X1 tyX1_ok nmX1 hK ho hA hS 8 (by decide) h q253 rfl (fun _ => hnm9) rfl q361 rfl rfl (by decide) (fun cA => vp_cell_i cA _ (fun _ => 0)) (Nat.le_trans (Nat.le_of_ble_eq_true rfl) hC.1) (Nat.le_trans (Nat.le_of_ble_eq_true rfl) hC.2) dX1_init_83 dX1_init_85 (fun ad H locs h hS hq _ => ?_)
  replace hfa := (hq _ (Array.getElem?_eq_some_iff.mp hfa).1 hfo).trans hfa
  refine lv_aload_n hx hb dX1_init_88 rfl (lv_at hl 0 rfl) ?_
  refine lv_bipush (v := (16 : Int32)) hx hb dX1_init_89 (by decide) ?_
  replace h := h.skip (fun el e => nomatch (show FieldType.int = FieldType.array el from e)) rfl
  refine cb_newa (E := (o, ad, G)) (atype := .int) (L := 16) X in_X1 tyX1_ok nmX1 hK ho hA hS 10 (by decide) h q255 rfl (fun _ => hnm9) rfl q361 rfl rfl (by decide) (fun cA => vp_cell_i cA _ (fun _ => 0)) (Nat.le_trans (Nat.le_of_ble_eq_true rfl) hC.1) (Nat.le_trans (Nat.le_of_ble_eq_true rfl) hC.2) dX1_init_91 dX1_init_93 (fun ad H locs h hS hq _ => ?_)
  replace hfa := (hq _ (Array.getElem?_eq_some_iff.mp hfa).1 hfo).trans hfa
  refine lv_aload_n hx hb dX1_init_96 rfl (lv_at hl 0 rfl) ?_
  refine lv_bipush (v := (16 : Int32)) hx hb dX1_init_97 (by decide) ?_
  refine cb_newa (E := (o, ad, G)) (atype := .int) (L := 16) X in_X1 tyX1_ok nmX1 hK ho hA hS 11 (by decide) h q256 rfl (fun _ => hnm9) rfl q361 rfl rfl (by decide) (fun cA => vp_cell_i cA _ (fun _ => 0)) (Nat.le_trans (Nat.le_of_ble_eq_true rfl) hC.1) (Nat.le_trans (Nat.le_of_ble_eq_true rfl) hC.2) dX1_init_99 dX1_init_101 (fun ad H locs h hS hq _ => ?_)
  replace hfa := (hq _ (Array.getElem?_eq_some_iff.mp hfa).1 hfo).trans hfa
  refine lv_aload_n hx hb dX1_init_104 rfl (lv_at hl 0 rfl) ?_
  refine lv_bipush (v := (16 : Int32)) hx hb dX1_init_105 (by decide) ?_
  refine cb_anew (E := (o, ad, G)) (L := 16) X in_X1 tyX1_ok nmX1 hK ho hA hS 12 (by decide) h q257 rfl (fun _ => hnm9) rfl q232 hKs.2.2.2.2.2.2.1.1 rfl rfl (by decide) (by funext i; rfl) (Nat.le_trans (Nat.le_of_ble_eq_true rfl) hC.1) (Nat.le_trans (Nat.le_of_ble_eq_true rfl) hC.2) dX1_init_107 dX1_init_110 (fun ad H locs h hS hq _ => ?_)
  replace hfa := (hq _ (Array.getElem?_eq_some_iff.mp hfa).1 hfo).trans hfa
  refine lv_aload_n hx hb dX1_init_113 rfl (lv_at hl 0 rfl) ?_
  refine lv_bipush (v := (16 : Int32)) hx hb dX1_init_114 (by decide) ?_
  refine cb_anew (E := (o, ad, G)) (L := 16) X in_X1 tyX1_ok nmX1 hK ho hA hS 13 (by decide) h q258 rfl (fun _ => hnm9) rfl q232 hKs.2.2.2.2.2.2.1.1 rfl rfl (by decide) (by funext i; rfl) (Nat.le_trans (Nat.le_of_ble_eq_true rfl) hC.1) (Nat.le_trans (Nat.le_of_ble_eq_true rfl) hC.2) dX1_init_116 dX1_init_119 (fun ad H locs h hS hq _ => ?_)
  replace hfa := (hq _ (Array.getElem?_eq_some_iff.mp hfa).1 hfo).trans hfa
  refine lv_aload_n hx hb dX1_init_122 rfl (lv_at hl 0 rfl) ?_
  refine lv_iconst (v := (-1 : Int32)) hx hb dX1_init_123 (by decide) ?_
  replace h := h.skip (fun el e => nomatch (show FieldType.int = FieldType.array el from e)) rfl
  replace h := h.skip (fun el e => nomatch (show FieldType.int = FieldType.array el from e)) rfl
  replace h := h.skip (fun el e => nomatch (show FieldType.int = FieldType.array el from e)) rfl
  replace h := h.skip (fun el e => nomatch (show FieldType.int = FieldType.array el from e)) rfl
  replace h := h.skip (fun el e => nomatch (show FieldType.int = FieldType.array el from e)) rfl
  refine cb_put (E := (o, ad, G)) (ad := ad) X in_X1 tyX1_ok nmX1 hK ho hA hS 19 (by decide) h q265 rfl (fun _ => hnm9) rfl rfl rfl (fun _ _ => rfl) (fun el e => nomatch (show FieldType.int = FieldType.array el from e)) dX1_init_124 (fun H locs h hS _ hq => ?_)
  replace hfa := (hq _ hfo).trans hfa
  refine lv_aload_n hx hb dX1_init_127 rfl (lv_at hl 0 rfl) ?_
  refine lv_sipush (v := (999 : Int32)) hx hb dX1_init_128 (by decide) ?_
  replace h := h.skip (fun el e => nomatch (show FieldType.int = FieldType.array el from e)) rfl
  refine cb_newa (E := (o, ad, G)) (atype := .int) (L := 999) X in_X1 tyX1_ok nmX1 hK ho hA hS 21 (by decide) h q267 rfl (fun _ => hnm9) rfl q361 rfl rfl (by decide) (fun cA => vp_cell_i cA _ (fun _ => 0)) (Nat.le_trans (Nat.le_of_ble_eq_true rfl) hC.1) (Nat.le_trans (Nat.le_of_ble_eq_true rfl) hC.2) dX1_init_131 dX1_init_133 (fun ad H locs h hS hq _ => ?_)
  replace hfa := (hq _ (Array.getElem?_eq_some_iff.mp hfa).1 hfo).trans hfa
  refine lv_aload_n hx hb dX1_init_136 rfl (lv_at hl 0 rfl) ?_
  refine lv_sipush (v := (999 : Int32)) hx hb dX1_init_137 (by decide) ?_
  refine cb_newa (E := (o, ad, G)) (atype := .int) (L := 999) X in_X1 tyX1_ok nmX1 hK ho hA hS 22 (by decide) h q268 rfl (fun _ => hnm9) rfl q361 rfl rfl (by decide) (fun cA => vp_cell_i cA _ (fun _ => 0)) (Nat.le_trans (Nat.le_of_ble_eq_true rfl) hC.1) (Nat.le_trans (Nat.le_of_ble_eq_true rfl) hC.2) dX1_init_140 dX1_init_142 (fun ad H locs h hS hq _ => ?_)
  replace hfa := (hq _ (Array.getElem?_eq_some_iff.mp hfa).1 hfo).trans hfa
  refine lv_aload_n hx hb dX1_init_145 rfl (lv_at hl 0 rfl) ?_
  refine lv_iconst (v := (5 : Int32)) hx hb dX1_init_146 (by decide) ?_
  refine cb_newa (E := (o, ad, G)) (atype := .int) (L := 5) X in_X1 tyX1_ok nmX1 hK ho hA hS 23 (by decide) h q269 rfl (fun _ => hnm9) rfl q361 rfl rfl (by decide) (fun cA => vp_cell_i cA _ (fun _ => 0)) (Nat.le_trans (Nat.le_of_ble_eq_true rfl) hC.1) (Nat.le_trans (Nat.le_of_ble_eq_true rfl) hC.2) dX1_init_147 dX1_init_149 (fun ad H locs h hS hq _ => ?_)
  replace hfa := (hq _ (Array.getElem?_eq_some_iff.mp hfa).1 hfo).trans hfa
  refine lv_aload_n hx hb dX1_init_152 rfl (lv_at hl 0 rfl) ?_
  refine lv_iconst (v := (4 : Int32)) hx hb dX1_init_153 (by decide) ?_
  refine cb_anew (E := (o, ad, G)) (L := 4) X in_X1 tyX1_ok nmX1 hK ho hA hS 24 (by decide) h q270 rfl (fun _ => hnm9) rfl q232 hKs.2.2.2.2.2.2.1.1 rfl rfl (by decide) (by funext i; rfl) (Nat.le_trans (Nat.le_of_ble_eq_true rfl) hC.1) (Nat.le_trans (Nat.le_of_ble_eq_true rfl) hC.2) dX1_init_154 dX1_init_157 (fun ad H locs h hS hq _ => ?_)
  replace hfa := (hq _ (Array.getElem?_eq_some_iff.mp hfa).1 hfo).trans hfa
  refine lv_aload_n hx hb dX1_init_160 rfl (lv_at hl 0 rfl) ?_
  refine lv_iconst (v := (4 : Int32)) hx hb dX1_init_161 (by decide) ?_
  refine cb_anew (E := (o, ad, G)) (L := 4) X in_X1 tyX1_ok nmX1 hK ho hA hS 25 (by decide) h q271 rfl (fun _ => hnm9) rfl q234 hKs.2.2.2.2.2.2.1.2.1 rfl rfl (by decide) (by funext i; rfl) (Nat.le_trans (Nat.le_of_ble_eq_true rfl) hC.1) (Nat.le_trans (Nat.le_of_ble_eq_true rfl) hC.2) dX1_init_162 dX1_init_165 (fun ad H locs h hS hq _ => ?_)
  replace hfa := (hq _ (Array.getElem?_eq_some_iff.mp hfa).1 hfo).trans hfa
  refine lv_aload_n hx hb dX1_init_168 rfl (lv_at hl 0 rfl) ?_
  refine lv_iconst (v := (4 : Int32)) hx hb dX1_init_169 (by decide) ?_
  refine cb_newa (E := (o, ad, G)) (atype := .int) (L := 4) X in_X1 tyX1_ok nmX1 hK ho hA hS 26 (by decide) h q272 rfl (fun _ => hnm9) rfl q361 rfl rfl (by decide) (fun cA => vp_cell_i cA _ (fun _ => 0)) (Nat.le_trans (Nat.le_of_ble_eq_true rfl) hC.1) (Nat.le_trans (Nat.le_of_ble_eq_true rfl) hC.2) dX1_init_170 dX1_init_172 (fun ad H locs h hS hq _ => ?_)
  replace hfa := (hq _ (Array.getElem?_eq_some_iff.mp hfa).1 hfo).trans hfa
  refine lv_aload_n hx hb dX1_init_175 rfl (lv_at hl 0 rfl) ?_
  refine lv_bipush (v := (120 : Int32)) hx hb dX1_init_176 (by decide) ?_
  replace h := h.skip (fun el e => nomatch (show FieldType.object "WideMap$Node" = FieldType.array el from e)) rfl
  replace h := h.skip (fun el e => nomatch (show FieldType.object "WideMap$Token" = FieldType.array el from e)) rfl
  refine cb_newa (E := (o, ad, G)) (atype := .int) (L := 120) X in_X1 tyX1_ok nmX1 hK ho hA hS 29 (by decide) h q275 rfl (fun _ => hnm9) rfl q361 rfl rfl (by decide) (fun cA => vp_cell_i cA _ (fun _ => 0)) (Nat.le_trans (Nat.le_of_ble_eq_true rfl) hC.1) (Nat.le_trans (Nat.le_of_ble_eq_true rfl) hC.2) dX1_init_178 dX1_init_180 (fun ad H locs h hS hq _ => ?_)
  replace hfa := (hq _ (Array.getElem?_eq_some_iff.mp hfa).1 hfo).trans hfa
  refine lv_aload_n hx hb dX1_init_183 rfl (lv_at hl 0 rfl) ?_
  refine lv_bipush (v := (120 : Int32)) hx hb dX1_init_184 (by decide) ?_
  refine cb_newa (E := (o, ad, G)) (atype := .int) (L := 120) X in_X1 tyX1_ok nmX1 hK ho hA hS 30 (by decide) h q276 rfl (fun _ => hnm9) rfl q361 rfl rfl (by decide) (fun cA => vp_cell_i cA _ (fun _ => 0)) (Nat.le_trans (Nat.le_of_ble_eq_true rfl) hC.1) (Nat.le_trans (Nat.le_of_ble_eq_true rfl) hC.2) dX1_init_186 dX1_init_188 (fun ad H locs h hS hq _ => ?_)
  replace hfa := (hq _ (Array.getElem?_eq_some_iff.mp hfa).1 hfo).trans hfa
  refine lv_aload_n hx hb dX1_init_191 rfl (lv_at hl 0 rfl) ?_
  refine lv_sipush (v := (999 : Int32)) hx hb dX1_init_192 (by decide) ?_
  replace h := h.skip (fun el e => nomatch (show FieldType.int = FieldType.array el from e)) rfl
  replace h := h.skip (fun el e => nomatch (show FieldType.int = FieldType.array el from e)) rfl
  replace h := h.skip (fun el e => nomatch (show FieldType.int = FieldType.array el from e)) rfl
  replace h := h.skip (fun el e => nomatch (show FieldType.long = FieldType.array el from e)) rfl
  refine cb_newa (E := (o, ad, G)) (atype := .boolean) (L := 999) X in_X1 tyX1_ok nmX1 hK ho hA hS 35 (by decide) h q281 rfl (fun _ => hnm9) rfl q362 rfl rfl (by decide) (fun cA => vp_cell_i cA _ (fun _ => 0)) (Nat.le_trans (Nat.le_of_ble_eq_true rfl) hC.1) (Nat.le_trans (Nat.le_of_ble_eq_true rfl) hC.2) dX1_init_195 dX1_init_197 (fun ad H locs h hS hq _ => ?_)
  replace hfa := (hq _ (Array.getElem?_eq_some_iff.mp hfa).1 hfo).trans hfa
  refine lv_aload_n hx hb dX1_init_200 rfl (lv_at hl 0 rfl) ?_
  refine lv_sipush (v := (999 : Int32)) hx hb dX1_init_201 (by decide) ?_
  refine cb_newa (E := (o, ad, G)) (atype := .boolean) (L := 999) X in_X1 tyX1_ok nmX1 hK ho hA hS 36 (by decide) h q282 rfl (fun _ => hnm9) rfl q362 rfl rfl (by decide) (fun cA => vp_cell_i cA _ (fun _ => 0)) (Nat.le_trans (Nat.le_of_ble_eq_true rfl) hC.1) (Nat.le_trans (Nat.le_of_ble_eq_true rfl) hC.2) dX1_init_204 dX1_init_206 (fun ad H locs h hS hq _ => ?_)
  replace hfa := (hq _ (Array.getElem?_eq_some_iff.mp hfa).1 hfo).trans hfa
  refine lv_aload_n hx hb dX1_init_209 rfl (lv_at hl 0 rfl) ?_
  obtain ⟨a6, t6, x6⟩ := ci_text hKs hS0 hS (k := 106) (by decide)
  have v6 := hT 6 (q := (106, RX1, 110, "")) rfl a6 t6
  refine va_ldcS hx hb hown v6 dX1_init_210 ?_
  refine cb_put (E := (o, ad, G)) (ad := ad) X in_X1 tyX1_ok nmX1 hK ho hA hS 37 (by decide) h q283 rfl (fun _ => hnm9) rfl rfl (by show va_rf (cst 106) = _; rw [t6]; rfl) (fun _ _ => rfl) (fun el e => nomatch (show FieldType.object "java/lang/CharSequence" = FieldType.array el from e)) dX1_init_212 (fun H locs h hS _ hq => ?_)
  replace hfa := (hq _ hfo).trans hfa
  refine lv_aload_n hx hb dX1_init_215 rfl (lv_at hl 0 rfl) ?_
  refine lv_iconst (v := (4 : Int32)) hx hb dX1_init_216 (by decide) ?_
  obtain ⟨hKf, hRf, hDf, hBf⟩ := ci_fin ho hKK hS0 hS h hfa hfv hfc hfb
  obtain ⟨D1, hD1⟩ := hop fa H.size
  refine c1c_1_opens X hl.1 hKf hRf hS (Nat.le_trans (Nat.le_of_ble_eq_true rfl) hF.1) (Nat.le_trans (Nat.le_of_ble_eq_true rfl) hF.2) (Nat.le_trans (Nat.le_of_ble_eq_true rfl) hC.1) (Nat.le_trans (Nat.le_of_ble_eq_true rfl) hC.2) hD1 (cw_rest (Nat.le_of_ble_eq_true rfl)) dX1_init_217 (fun H9 locs hR9 hS9 => ?_)
  exact kk ad fa H.size D1 H9 locs _ ls dX1_init_220 hD1 hR9 hDf hBf hfb h.2.1 hS9
theorem met1_init {l : Launch} {o base : Nat} {G : ci_G} {cl : Nat → ClassId} {sl : Nat → Nat → Nat} {cst : Nat → Option Nat} {S0 : Nat → Option cw_O} (hl9 : l.stackTraces = false) (ho : o < base) (hop : ∀ fa nx, ∃ D1, f1_opens (ci_D0 fa nx cst S0) 4 = some D1) : ci_Ini l o G cl sl base cst S0 20 5374 := by
  refine Met.ofW (cc := cX1_init) (maxL := 1) (ret := none) (by decide +kernel) rfl ?_
  intro p e s m args below meth c s₁ B hml hv
  obtain ⟨rfl, hK, hOB, hbs, hS0⟩ := hv
  have hts := atoms_spec (ws := ws_ yX1_init cX1_init 1 none) B.pre
  have hts : ∀ w ∈ lw_all, w.before _ s = true := fun w h => hts w (List.mem_cons_of_mem _ h)
  have hown : s.vm.findClass RX1 = some m.cls := findClass_of_methodNamed B.named
  have hlocks := B.notSynchronized
  have hrr := B.returns
  have hnm9 := (name_of_methodNamed B.named B.method).1
  have hl := lv_entry [Value.ref o] (n := 1) (Nat.le_of_ble_eq_true rfl)
  rw [lg_entry_eq]
  refine ci_iniW hl9 ho hop ⟨B.exec, B.bytes, hml, hown, hts⟩ hnm9 hK hOB hbs hS0 ⟨Nat.le_refl _, Nat.le_refl _⟩ ⟨Nat.le_refl _, Nat.le_refl _⟩ hl ?_
  intro ad fa nx D1 H locs pc ls hdg h1 h2 h3 h4 h5 h6 hS
  exact W.vret B.exec B.bytes hrr (fun t ht hW => ⟨⟨(), rfl, trivial, ad, fa, nx, D1, h1, by subst ht; exact h2, h3, h4, h5, h6⟩, hS.F ht⟩) hS.2.2 hdg hlocks
