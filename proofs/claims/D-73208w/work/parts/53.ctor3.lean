/-! WideMapModel.<init> -/
def t3_M0 : ww_M := (fun k => if k = 19 then 4 else 0, fun _ _ => 0, 0, fun _ => none, fun _ _ => none)
set_option maxHeartbeats 4000000 in
set_option maxRecDepth 100000 in
theorem t3_iniW {p : Program} {l : Launch} {e : Env} {R : Room} {s : State} {m : MethodId} {args : Array Value} {below : List Frame} {meth : Method} {c : Code} {Q : State → Prop} {ls : Array Slot} {o base : Nat} {G : ClassId × (Nat → Nat) × (FieldType → ClassId)} (ho : o < base) (X : ww_C p m c cX3_init 1 s args RX3 lw_all) (hnm9 : meth.name = "<init>") (hK : t3_Kn (o, fun _ => 0, G) s) (hOB : t_OB o G.1 56 G.2.1 s.heap (fun k => defaultValue (tyX3 k))) (hbs : base ≤ s.heap.size) (hC : 33 ≤ R.cells ∧ 242756 ≤ R.slots) (hF : 1 ≤ R.frames ∧ 40 ≤ R.locals) (hl : lv_has ls 1 (lv_args 0 [.ref o]))
    (kk : ∀ (ad : Nat → Nat) (H : Heap) (locs : List Loc) (pc : Nat) (ls : Array Slot), decode cX3_init pc = .ok (.return_, 1) → cb_H 56 tyX3 t3_len (o, ad, G) base t3_M0 56 H → va_S (fun q => q = o ∨ base ≤ q) s.heap H locs → W p l e R s m args below meth c H locs 33 242756 Q (F0 m pc ls [])) : W p l e R s m args below meth c s.heap [] 0 0 Q (F0 m 0 ls []) := by
  obtain ⟨hx, hb, hml, hown, hts⟩ := id X
  have hA : ∀ q, q = o ∨ base ≤ q → (fun q => q = o ∨ base ≤ q) q := fun q h => h
  have hS : va_S (fun q => q = o ∨ base ≤ q) s.heap s.heap [] := va_S.rf
  have h : cb_H 56 tyX3 t3_len (o, fun _ => 0, G) base t3_M0 0 s.heap := cb_H.start hOB hbs
  replace hl : lv_has ls 1 [(0, .ref o)] := hl
  refine lv_aload_n hx hb dX3_init_0 rfl (lv_at hl 0 rfl) ?_
  refine W.objInit hx hb hown (hts _ q1703) (hts _ q164) (hts _ q165) rfl (by rw [hml]; exact hl.1) rfl dX3_init_1 hF.1 (Nat.le_trans (Nat.le_of_ble_eq_true rfl) hF.2) ?_
  refine W.eq (g2 := F0 m 4 ls []) rfl ?_
  refine lv_aload_n hx hb dX3_init_4 rfl (lv_at hl 0 rfl) ?_
  refine lv_sipush (v := (240 : Int32)) hx hb dX3_init_5 (by decide) ?_
  replace h := h.skip (fun el e => nomatch (show FieldType.int = FieldType.array el from e)) rfl
  refine cb_newa (E := (o, fun _ => 0, G)) (atype := .byte) (L := 240) X in_X3 tyX3_ok nmX3 hK ho hA hS 1 (by decide) h q1706 rfl (fun _ => hnm9) rfl q231 rfl rfl (by decide) (fun cA => vp_cell_i cA _ (fun _ => 0)) (Nat.le_trans (Nat.le_of_ble_eq_true rfl) hC.1) (Nat.le_trans (Nat.le_of_ble_eq_true rfl) hC.2) dX3_init_8 dX3_init_10 (fun ad H locs h hS _ _ => ?_)
  refine lv_aload_n hx hb dX3_init_13 rfl (lv_at hl 0 rfl) ?_
  refine lv_sipush (v := (480 : Int32)) hx hb dX3_init_14 (by decide) ?_
  replace h := h.skip (fun el e => nomatch (show FieldType.int = FieldType.array el from e)) rfl
  replace h := h.skip (fun el e => nomatch (show FieldType.int = FieldType.array el from e)) rfl
  replace h := h.skip (fun el e => nomatch (show FieldType.int = FieldType.array el from e)) rfl
  refine cb_newa (E := (o, ad, G)) (atype := .int) (L := 480) X in_X3 tyX3_ok nmX3 hK ho hA hS 5 (by decide) h q1710 rfl (fun _ => hnm9) rfl q361 rfl rfl (by decide) (fun cA => vp_cell_i cA _ (fun _ => 0)) (Nat.le_trans (Nat.le_of_ble_eq_true rfl) hC.1) (Nat.le_trans (Nat.le_of_ble_eq_true rfl) hC.2) dX3_init_17 dX3_init_19 (fun ad H locs h hS _ _ => ?_)
  refine lv_aload_n hx hb dX3_init_22 rfl (lv_at hl 0 rfl) ?_
  refine lv_sipush (v := (320 : Int32)) hx hb dX3_init_23 (by decide) ?_
  refine cb_newa (E := (o, ad, G)) (atype := .int) (L := 320) X in_X3 tyX3_ok nmX3 hK ho hA hS 6 (by decide) h q1711 rfl (fun _ => hnm9) rfl q361 rfl rfl (by decide) (fun cA => vp_cell_i cA _ (fun _ => 0)) (Nat.le_trans (Nat.le_of_ble_eq_true rfl) hC.1) (Nat.le_trans (Nat.le_of_ble_eq_true rfl) hC.2) dX3_init_26 dX3_init_28 (fun ad H locs h hS _ _ => ?_)
  refine lv_aload_n hx hb dX3_init_31 rfl (lv_at hl 0 rfl) ?_
  refine lv_iconst (v := (5 : Int32)) hx hb dX3_init_32 (by decide) ?_
  refine cb_newa (E := (o, ad, G)) (atype := .int) (L := 5) X in_X3 tyX3_ok nmX3 hK ho hA hS 7 (by decide) h q1712 rfl (fun _ => hnm9) rfl q361 rfl rfl (by decide) (fun cA => vp_cell_i cA _ (fun _ => 0)) (Nat.le_trans (Nat.le_of_ble_eq_true rfl) hC.1) (Nat.le_trans (Nat.le_of_ble_eq_true rfl) hC.2) dX3_init_33 dX3_init_35 (fun ad H locs h hS _ _ => ?_)
  refine lv_aload_n hx hb dX3_init_38 rfl (lv_at hl 0 rfl) ?_
  refine lv_sipush (v := (12000 : Int32)) hx hb dX3_init_39 (by decide) ?_
  replace h := h.skip (fun el e => nomatch (show FieldType.int = FieldType.array el from e)) rfl
  replace h := h.skip (fun el e => nomatch (show FieldType.int = FieldType.array el from e)) rfl
  refine cb_newa (E := (o, ad, G)) (atype := .int) (L := 12000) X in_X3 tyX3_ok nmX3 hK ho hA hS 10 (by decide) h q1715 rfl (fun _ => hnm9) rfl q361 rfl rfl (by decide) (fun cA => vp_cell_i cA _ (fun _ => 0)) (Nat.le_trans (Nat.le_of_ble_eq_true rfl) hC.1) (Nat.le_trans (Nat.le_of_ble_eq_true rfl) hC.2) dX3_init_42 dX3_init_44 (fun ad H locs h hS _ _ => ?_)
  refine lv_aload_n hx hb dX3_init_47 rfl (lv_at hl 0 rfl) ?_
  refine lv_sipush (v := (12000 : Int32)) hx hb dX3_init_48 (by decide) ?_
  refine cb_newa (E := (o, ad, G)) (atype := .int) (L := 12000) X in_X3 tyX3_ok nmX3 hK ho hA hS 11 (by decide) h q1716 rfl (fun _ => hnm9) rfl q361 rfl rfl (by decide) (fun cA => vp_cell_i cA _ (fun _ => 0)) (Nat.le_trans (Nat.le_of_ble_eq_true rfl) hC.1) (Nat.le_trans (Nat.le_of_ble_eq_true rfl) hC.2) dX3_init_51 dX3_init_53 (fun ad H locs h hS _ _ => ?_)
  refine lv_aload_n hx hb dX3_init_56 rfl (lv_at hl 0 rfl) ?_
  refine lv_sipush (v := (12000 : Int32)) hx hb dX3_init_57 (by decide) ?_
  refine cb_newa (E := (o, ad, G)) (atype := .int) (L := 12000) X in_X3 tyX3_ok nmX3 hK ho hA hS 12 (by decide) h q1717 rfl (fun _ => hnm9) rfl q361 rfl rfl (by decide) (fun cA => vp_cell_i cA _ (fun _ => 0)) (Nat.le_trans (Nat.le_of_ble_eq_true rfl) hC.1) (Nat.le_trans (Nat.le_of_ble_eq_true rfl) hC.2) dX3_init_60 dX3_init_62 (fun ad H locs h hS _ _ => ?_)
  refine lv_aload_n hx hb dX3_init_65 rfl (lv_at hl 0 rfl) ?_
  refine lv_sipush (v := (12000 : Int32)) hx hb dX3_init_66 (by decide) ?_
  refine cb_newa (E := (o, ad, G)) (atype := .int) (L := 12000) X in_X3 tyX3_ok nmX3 hK ho hA hS 13 (by decide) h q1718 rfl (fun _ => hnm9) rfl q361 rfl rfl (by decide) (fun cA => vp_cell_i cA _ (fun _ => 0)) (Nat.le_trans (Nat.le_of_ble_eq_true rfl) hC.1) (Nat.le_trans (Nat.le_of_ble_eq_true rfl) hC.2) dX3_init_69 dX3_init_71 (fun ad H locs h hS _ _ => ?_)
  refine lv_aload_n hx hb dX3_init_74 rfl (lv_at hl 0 rfl) ?_
  refine lv_sipush (v := (12000 : Int32)) hx hb dX3_init_75 (by decide) ?_
  refine cb_newa (E := (o, ad, G)) (atype := .int) (L := 12000) X in_X3 tyX3_ok nmX3 hK ho hA hS 14 (by decide) h q1719 rfl (fun _ => hnm9) rfl q361 rfl rfl (by decide) (fun cA => vp_cell_i cA _ (fun _ => 0)) (Nat.le_trans (Nat.le_of_ble_eq_true rfl) hC.1) (Nat.le_trans (Nat.le_of_ble_eq_true rfl) hC.2) dX3_init_78 dX3_init_80 (fun ad H locs h hS _ _ => ?_)
  refine lv_aload_n hx hb dX3_init_83 rfl (lv_at hl 0 rfl) ?_
  refine lv_ldc (v := (84000 : Int32)) hx hb hown (hts _ q1704) dX3_init_84 ?_
  refine cb_newa (E := (o, ad, G)) (atype := .int) (L := 84000) X in_X3 tyX3_ok nmX3 hK ho hA hS 15 (by decide) h q1720 rfl (fun _ => hnm9) rfl q361 rfl rfl (by decide) (fun cA => vp_cell_i cA _ (fun _ => 0)) (Nat.le_trans (Nat.le_of_ble_eq_true rfl) hC.1) (Nat.le_trans (Nat.le_of_ble_eq_true rfl) hC.2) dX3_init_86 dX3_init_88 (fun ad H locs h hS _ _ => ?_)
  refine lv_aload_n hx hb dX3_init_91 rfl (lv_at hl 0 rfl) ?_
  refine lv_ldc (v := (84000 : Int32)) hx hb hown (hts _ q1704) dX3_init_92 ?_
  refine cb_newa (E := (o, ad, G)) (atype := .int) (L := 84000) X in_X3 tyX3_ok nmX3 hK ho hA hS 16 (by decide) h q1721 rfl (fun _ => hnm9) rfl q361 rfl rfl (by decide) (fun cA => vp_cell_i cA _ (fun _ => 0)) (Nat.le_trans (Nat.le_of_ble_eq_true rfl) hC.1) (Nat.le_trans (Nat.le_of_ble_eq_true rfl) hC.2) dX3_init_94 dX3_init_96 (fun ad H locs h hS _ _ => ?_)
  refine lv_aload_n hx hb dX3_init_99 rfl (lv_at hl 0 rfl) ?_
  refine lv_iconst (v := (4 : Int32)) hx hb dX3_init_100 (by decide) ?_
  replace h := h.skip (fun el e => nomatch (show FieldType.int = FieldType.array el from e)) rfl
  replace h := h.skip (fun el e => nomatch (show FieldType.int = FieldType.array el from e)) rfl
  refine cb_put (E := (o, ad, G)) (ad := ad) X in_X3 tyX3_ok nmX3 hK ho hA hS 19 (by decide) h q1724 rfl (fun _ => hnm9) rfl rfl rfl (fun _ _ => rfl) (fun el e => nomatch (show FieldType.int = FieldType.array el from e)) dX3_init_101 (fun H locs h hS _ _ => ?_)
  refine lv_aload_n hx hb dX3_init_104 rfl (lv_at hl 0 rfl) ?_
  refine lv_bipush (v := (10 : Int32)) hx hb dX3_init_105 (by decide) ?_
  replace h := h.skip (fun el e => nomatch (show FieldType.int = FieldType.array el from e)) rfl
  replace h := h.skip (fun el e => nomatch (show FieldType.int = FieldType.array el from e)) rfl
  replace h := h.skip (fun el e => nomatch (show FieldType.int = FieldType.array el from e)) rfl
  refine cb_newa (E := (o, ad, G)) (atype := .int) (L := 10) X in_X3 tyX3_ok nmX3 hK ho hA hS 23 (by decide) h q1728 rfl (fun _ => hnm9) rfl q361 rfl rfl (by decide) (fun cA => vp_cell_i cA _ (fun _ => 0)) (Nat.le_trans (Nat.le_of_ble_eq_true rfl) hC.1) (Nat.le_trans (Nat.le_of_ble_eq_true rfl) hC.2) dX3_init_107 dX3_init_109 (fun ad H locs h hS _ _ => ?_)
  refine lv_aload_n hx hb dX3_init_112 rfl (lv_at hl 0 rfl) ?_
  refine lv_bipush (v := (10 : Int32)) hx hb dX3_init_113 (by decide) ?_
  refine cb_newa (E := (o, ad, G)) (atype := .int) (L := 10) X in_X3 tyX3_ok nmX3 hK ho hA hS 24 (by decide) h q1729 rfl (fun _ => hnm9) rfl q361 rfl rfl (by decide) (fun cA => vp_cell_i cA _ (fun _ => 0)) (Nat.le_trans (Nat.le_of_ble_eq_true rfl) hC.1) (Nat.le_trans (Nat.le_of_ble_eq_true rfl) hC.2) dX3_init_115 dX3_init_117 (fun ad H locs h hS _ _ => ?_)
  refine lv_aload_n hx hb dX3_init_120 rfl (lv_at hl 0 rfl) ?_
  refine lv_sipush (v := (140 : Int32)) hx hb dX3_init_121 (by decide) ?_
  replace h := h.skip (fun el e => nomatch (show FieldType.int = FieldType.array el from e)) rfl
  refine cb_newa (E := (o, ad, G)) (atype := .int) (L := 140) X in_X3 tyX3_ok nmX3 hK ho hA hS 26 (by decide) h q1731 rfl (fun _ => hnm9) rfl q361 rfl rfl (by decide) (fun cA => vp_cell_i cA _ (fun _ => 0)) (Nat.le_trans (Nat.le_of_ble_eq_true rfl) hC.1) (Nat.le_trans (Nat.le_of_ble_eq_true rfl) hC.2) dX3_init_124 dX3_init_126 (fun ad H locs h hS _ _ => ?_)
  refine lv_aload_n hx hb dX3_init_129 rfl (lv_at hl 0 rfl) ?_
  refine lv_sipush (v := (140 : Int32)) hx hb dX3_init_130 (by decide) ?_
  refine cb_newa (E := (o, ad, G)) (atype := .int) (L := 140) X in_X3 tyX3_ok nmX3 hK ho hA hS 27 (by decide) h q1732 rfl (fun _ => hnm9) rfl q361 rfl rfl (by decide) (fun cA => vp_cell_i cA _ (fun _ => 0)) (Nat.le_trans (Nat.le_of_ble_eq_true rfl) hC.1) (Nat.le_trans (Nat.le_of_ble_eq_true rfl) hC.2) dX3_init_133 dX3_init_135 (fun ad H locs h hS _ _ => ?_)
  refine lv_aload_n hx hb dX3_init_138 rfl (lv_at hl 0 rfl) ?_
  refine lv_sipush (v := (240 : Int32)) hx hb dX3_init_139 (by decide) ?_
  refine cb_newa (E := (o, ad, G)) (atype := .int) (L := 240) X in_X3 tyX3_ok nmX3 hK ho hA hS 28 (by decide) h q1733 rfl (fun _ => hnm9) rfl q361 rfl rfl (by decide) (fun cA => vp_cell_i cA _ (fun _ => 0)) (Nat.le_trans (Nat.le_of_ble_eq_true rfl) hC.1) (Nat.le_trans (Nat.le_of_ble_eq_true rfl) hC.2) dX3_init_142 dX3_init_144 (fun ad H locs h hS _ _ => ?_)
  refine lv_aload_n hx hb dX3_init_147 rfl (lv_at hl 0 rfl) ?_
  refine lv_sipush (v := (240 : Int32)) hx hb dX3_init_148 (by decide) ?_
  refine cb_newa (E := (o, ad, G)) (atype := .int) (L := 240) X in_X3 tyX3_ok nmX3 hK ho hA hS 29 (by decide) h q1734 rfl (fun _ => hnm9) rfl q361 rfl rfl (by decide) (fun cA => vp_cell_i cA _ (fun _ => 0)) (Nat.le_trans (Nat.le_of_ble_eq_true rfl) hC.1) (Nat.le_trans (Nat.le_of_ble_eq_true rfl) hC.2) dX3_init_151 dX3_init_153 (fun ad H locs h hS _ _ => ?_)
  refine lv_aload_n hx hb dX3_init_156 rfl (lv_at hl 0 rfl) ?_
  refine lv_sipush (v := (999 : Int32)) hx hb dX3_init_157 (by decide) ?_
  replace h := h.skip (fun el e => nomatch (show FieldType.int = FieldType.array el from e)) rfl
  replace h := h.skip (fun el e => nomatch (show FieldType.int = FieldType.array el from e)) rfl
  refine cb_newa (E := (o, ad, G)) (atype := .int) (L := 999) X in_X3 tyX3_ok nmX3 hK ho hA hS 32 (by decide) h q1737 rfl (fun _ => hnm9) rfl q361 rfl rfl (by decide) (fun cA => vp_cell_i cA _ (fun _ => 0)) (Nat.le_trans (Nat.le_of_ble_eq_true rfl) hC.1) (Nat.le_trans (Nat.le_of_ble_eq_true rfl) hC.2) dX3_init_160 dX3_init_162 (fun ad H locs h hS _ _ => ?_)
  refine lv_aload_n hx hb dX3_init_165 rfl (lv_at hl 0 rfl) ?_
  refine lv_sipush (v := (999 : Int32)) hx hb dX3_init_166 (by decide) ?_
  refine cb_newa (E := (o, ad, G)) (atype := .int) (L := 999) X in_X3 tyX3_ok nmX3 hK ho hA hS 33 (by decide) h q1738 rfl (fun _ => hnm9) rfl q361 rfl rfl (by decide) (fun cA => vp_cell_i cA _ (fun _ => 0)) (Nat.le_trans (Nat.le_of_ble_eq_true rfl) hC.1) (Nat.le_trans (Nat.le_of_ble_eq_true rfl) hC.2) dX3_init_169 dX3_init_171 (fun ad H locs h hS _ _ => ?_)
  refine lv_aload_n hx hb dX3_init_174 rfl (lv_at hl 0 rfl) ?_
  refine lv_sipush (v := (999 : Int32)) hx hb dX3_init_175 (by decide) ?_
  refine cb_newa (E := (o, ad, G)) (atype := .int) (L := 999) X in_X3 tyX3_ok nmX3 hK ho hA hS 34 (by decide) h q1739 rfl (fun _ => hnm9) rfl q361 rfl rfl (by decide) (fun cA => vp_cell_i cA _ (fun _ => 0)) (Nat.le_trans (Nat.le_of_ble_eq_true rfl) hC.1) (Nat.le_trans (Nat.le_of_ble_eq_true rfl) hC.2) dX3_init_178 dX3_init_180 (fun ad H locs h hS _ _ => ?_)
  refine lv_aload_n hx hb dX3_init_183 rfl (lv_at hl 0 rfl) ?_
  refine lv_iconst (v := (4 : Int32)) hx hb dX3_init_184 (by decide) ?_
  refine cb_newa (E := (o, ad, G)) (atype := .int) (L := 4) X in_X3 tyX3_ok nmX3 hK ho hA hS 35 (by decide) h q1740 rfl (fun _ => hnm9) rfl q361 rfl rfl (by decide) (fun cA => vp_cell_i cA _ (fun _ => 0)) (Nat.le_trans (Nat.le_of_ble_eq_true rfl) hC.1) (Nat.le_trans (Nat.le_of_ble_eq_true rfl) hC.2) dX3_init_185 dX3_init_187 (fun ad H locs h hS _ _ => ?_)
  refine lv_aload_n hx hb dX3_init_190 rfl (lv_at hl 0 rfl) ?_
  refine lv_iconst (v := (4 : Int32)) hx hb dX3_init_191 (by decide) ?_
  refine cb_newa (E := (o, ad, G)) (atype := .int) (L := 4) X in_X3 tyX3_ok nmX3 hK ho hA hS 36 (by decide) h q1741 rfl (fun _ => hnm9) rfl q361 rfl rfl (by decide) (fun cA => vp_cell_i cA _ (fun _ => 0)) (Nat.le_trans (Nat.le_of_ble_eq_true rfl) hC.1) (Nat.le_trans (Nat.le_of_ble_eq_true rfl) hC.2) dX3_init_192 dX3_init_194 (fun ad H locs h hS _ _ => ?_)
  refine lv_aload_n hx hb dX3_init_197 rfl (lv_at hl 0 rfl) ?_
  refine lv_iconst (v := (4 : Int32)) hx hb dX3_init_198 (by decide) ?_
  refine cb_newa (E := (o, ad, G)) (atype := .int) (L := 4) X in_X3 tyX3_ok nmX3 hK ho hA hS 37 (by decide) h q1742 rfl (fun _ => hnm9) rfl q361 rfl rfl (by decide) (fun cA => vp_cell_i cA _ (fun _ => 0)) (Nat.le_trans (Nat.le_of_ble_eq_true rfl) hC.1) (Nat.le_trans (Nat.le_of_ble_eq_true rfl) hC.2) dX3_init_199 dX3_init_201 (fun ad H locs h hS _ _ => ?_)
  refine lv_aload_n hx hb dX3_init_204 rfl (lv_at hl 0 rfl) ?_
  refine lv_iconst (v := (5 : Int32)) hx hb dX3_init_205 (by decide) ?_
  refine cb_newa (E := (o, ad, G)) (atype := .int) (L := 5) X in_X3 tyX3_ok nmX3 hK ho hA hS 38 (by decide) h q1743 rfl (fun _ => hnm9) rfl q361 rfl rfl (by decide) (fun cA => vp_cell_i cA _ (fun _ => 0)) (Nat.le_trans (Nat.le_of_ble_eq_true rfl) hC.1) (Nat.le_trans (Nat.le_of_ble_eq_true rfl) hC.2) dX3_init_206 dX3_init_208 (fun ad H locs h hS _ _ => ?_)
  refine lv_aload_n hx hb dX3_init_211 rfl (lv_at hl 0 rfl) ?_
  refine lv_sipush (v := (999 : Int32)) hx hb dX3_init_212 (by decide) ?_
  refine cb_newa (E := (o, ad, G)) (atype := .boolean) (L := 999) X in_X3 tyX3_ok nmX3 hK ho hA hS 39 (by decide) h q1744 rfl (fun _ => hnm9) rfl q362 rfl rfl (by decide) (fun cA => vp_cell_i cA _ (fun _ => 0)) (Nat.le_trans (Nat.le_of_ble_eq_true rfl) hC.1) (Nat.le_trans (Nat.le_of_ble_eq_true rfl) hC.2) dX3_init_215 dX3_init_217 (fun ad H locs h hS _ _ => ?_)
  refine lv_aload_n hx hb dX3_init_220 rfl (lv_at hl 0 rfl) ?_
  refine lv_sipush (v := (999 : Int32)) hx hb dX3_init_221 (by decide) ?_
  refine cb_newa (E := (o, ad, G)) (atype := .boolean) (L := 999) X in_X3 tyX3_ok nmX3 hK ho hA hS 40 (by decide) h q1745 rfl (fun _ => hnm9) rfl q362 rfl rfl (by decide) (fun cA => vp_cell_i cA _ (fun _ => 0)) (Nat.le_trans (Nat.le_of_ble_eq_true rfl) hC.1) (Nat.le_trans (Nat.le_of_ble_eq_true rfl) hC.2) dX3_init_224 dX3_init_226 (fun ad H locs h hS _ _ => ?_)
  refine lv_aload_n hx hb dX3_init_229 rfl (lv_at hl 0 rfl) ?_
  refine lv_sipush (v := (1000 : Int32)) hx hb dX3_init_230 (by decide) ?_
  replace h := h.skip (fun el e => nomatch (show FieldType.int = FieldType.array el from e)) rfl
  replace h := h.skip (fun el e => nomatch (show FieldType.int = FieldType.array el from e)) rfl
  replace h := h.skip (fun el e => nomatch (show FieldType.int = FieldType.array el from e)) rfl
  replace h := h.skip (fun el e => nomatch (show FieldType.boolean = FieldType.array el from e)) rfl
  refine cb_newa (E := (o, ad, G)) (atype := .int) (L := 1000) X in_X3 tyX3_ok nmX3 hK ho hA hS 45 (by decide) h q1750 rfl (fun _ => hnm9) rfl q361 rfl rfl (by decide) (fun cA => vp_cell_i cA _ (fun _ => 0)) (Nat.le_trans (Nat.le_of_ble_eq_true rfl) hC.1) (Nat.le_trans (Nat.le_of_ble_eq_true rfl) hC.2) dX3_init_233 dX3_init_235 (fun ad H locs h hS _ _ => ?_)
  refine lv_aload_n hx hb dX3_init_238 rfl (lv_at hl 0 rfl) ?_
  refine lv_sipush (v := (3000 : Int32)) hx hb dX3_init_239 (by decide) ?_
  refine cb_newa (E := (o, ad, G)) (atype := .int) (L := 3000) X in_X3 tyX3_ok nmX3 hK ho hA hS 46 (by decide) h q1751 rfl (fun _ => hnm9) rfl q361 rfl rfl (by decide) (fun cA => vp_cell_i cA _ (fun _ => 0)) (Nat.le_trans (Nat.le_of_ble_eq_true rfl) hC.1) (Nat.le_trans (Nat.le_of_ble_eq_true rfl) hC.2) dX3_init_242 dX3_init_244 (fun ad H locs h hS _ _ => ?_)
  refine lv_aload_n hx hb dX3_init_247 rfl (lv_at hl 0 rfl) ?_
  refine lv_bipush (v := (60 : Int32)) hx hb dX3_init_248 (by decide) ?_
  refine cb_newa (E := (o, ad, G)) (atype := .int) (L := 60) X in_X3 tyX3_ok nmX3 hK ho hA hS 47 (by decide) h q1752 rfl (fun _ => hnm9) rfl q361 rfl rfl (by decide) (fun cA => vp_cell_i cA _ (fun _ => 0)) (Nat.le_trans (Nat.le_of_ble_eq_true rfl) hC.1) (Nat.le_trans (Nat.le_of_ble_eq_true rfl) hC.2) dX3_init_250 dX3_init_252 (fun ad H locs h hS _ _ => ?_)
  refine lv_aload_n hx hb dX3_init_255 rfl (lv_at hl 0 rfl) ?_
  refine lv_bipush (v := (60 : Int32)) hx hb dX3_init_256 (by decide) ?_
  refine cb_newa (E := (o, ad, G)) (atype := .int) (L := 60) X in_X3 tyX3_ok nmX3 hK ho hA hS 48 (by decide) h q1753 rfl (fun _ => hnm9) rfl q361 rfl rfl (by decide) (fun cA => vp_cell_i cA _ (fun _ => 0)) (Nat.le_trans (Nat.le_of_ble_eq_true rfl) hC.1) (Nat.le_trans (Nat.le_of_ble_eq_true rfl) hC.2) dX3_init_258 dX3_init_260 (fun ad H locs h hS _ _ => ?_)
  refine lv_aload_n hx hb dX3_init_263 rfl (lv_at hl 0 rfl) ?_
  refine lv_sipush (v := (1400 : Int32)) hx hb dX3_init_264 (by decide) ?_
  replace h := h.skip (fun el e => nomatch (show FieldType.int = FieldType.array el from e)) rfl
  replace h := h.skip (fun el e => nomatch (show FieldType.long = FieldType.array el from e)) rfl
  refine cb_newa (E := (o, ad, G)) (atype := .byte) (L := 1400) X in_X3 tyX3_ok nmX3 hK ho hA hS 51 (by decide) h q1756 rfl (fun _ => hnm9) rfl q231 rfl rfl (by decide) (fun cA => vp_cell_i cA _ (fun _ => 0)) (Nat.le_trans (Nat.le_of_ble_eq_true rfl) hC.1) (Nat.le_trans (Nat.le_of_ble_eq_true rfl) hC.2) dX3_init_267 dX3_init_269 (fun ad H locs h hS _ _ => ?_)
  refine lv_aload_n hx hb dX3_init_272 rfl (lv_at hl 0 rfl) ?_
  refine lv_sipush (v := (1400 : Int32)) hx hb dX3_init_273 (by decide) ?_
  refine cb_newa (E := (o, ad, G)) (atype := .byte) (L := 1400) X in_X3 tyX3_ok nmX3 hK ho hA hS 52 (by decide) h q1757 rfl (fun _ => hnm9) rfl q231 rfl rfl (by decide) (fun cA => vp_cell_i cA _ (fun _ => 0)) (Nat.le_trans (Nat.le_of_ble_eq_true rfl) hC.1) (Nat.le_trans (Nat.le_of_ble_eq_true rfl) hC.2) dX3_init_276 dX3_init_278 (fun ad H locs h hS _ _ => ?_)
  refine lv_aload_n hx hb dX3_init_281 rfl (lv_at hl 0 rfl) ?_
  refine lv_sipush (v := (999 : Int32)) hx hb dX3_init_282 (by decide) ?_
  replace h := h.skip (fun el e => nomatch (show FieldType.int = FieldType.array el from e)) rfl
  replace h := h.skip (fun el e => nomatch (show FieldType.int = FieldType.array el from e)) rfl
  refine cb_newa (E := (o, ad, G)) (atype := .int) (L := 999) X in_X3 tyX3_ok nmX3 hK ho hA hS 55 (by decide) h q1760 rfl (fun _ => hnm9) rfl q361 rfl rfl (by decide) (fun cA => vp_cell_i cA _ (fun _ => 0)) (Nat.le_trans (Nat.le_of_ble_eq_true rfl) hC.1) (Nat.le_trans (Nat.le_of_ble_eq_true rfl) hC.2) dX3_init_285 dX3_init_287 (fun ad H locs h hS _ _ => ?_)
  exact kk ad H locs _ ls dX3_init_290 h hS
def t3_Ini (l : Launch) (o : Nat) (G : ClassId × (Nat → Nat) × (FieldType → ClassId)) (base : Nat) : Prop :=
  Met l yX3_init (ws_ yX3_init cX3_init 1 none) { frames := 1, cells := 33, slots := 242756, locals := 40 } (va_Pc [.ref o] (fun U => t3_Kn (o, fun _ => 0, G) U ∧ t_OB o G.1 56 G.2.1 U.heap (fun k => defaultValue (tyX3 k)) ∧ base ≤ U.heap.size)) (va_Qv (fun _ : Unit => True) (fun s t => ∃ ad : Nat → Nat, t3_H (o, ad, G) t3_M0 t.heap ∧ t3_D (o, ad, G) ∧ ∀ k, k < 56 → ∀ el, tyX3 k = .array el → base ≤ ad k) (fun q => q = o ∨ base ≤ q)) 33 242756 (fun q => q = o ∨ base ≤ q)
set_option maxHeartbeats 4000000 in
set_option maxRecDepth 100000 in
theorem met3_init (l : Launch) (o : Nat) (G : ClassId × (Nat → Nat) × (FieldType → ClassId)) (base : Nat) (ho : o < base) : t3_Ini l o G base := by
  refine Met.ofW (cc := cX3_init) (maxL := 1) (ret := none) (by decide +kernel) rfl ?_
  intro p e s m args below meth c s₁ B hml hv
  obtain ⟨rfl, hK, hOB, hbs⟩ := hv
  have hts := atoms_spec (ws := ws_ yX3_init cX3_init 1 none) B.pre
  have hts : ∀ w ∈ lw_all, w.before _ s = true := fun w h => hts w (List.mem_cons_of_mem _ h)
  have hown : s.vm.findClass RX3 = some m.cls := findClass_of_methodNamed B.named
  have hlocks := B.notSynchronized
  have hrr := B.returns
  have hnm9 := (name_of_methodNamed B.named B.method).1
  have hl := lv_entry [Value.ref o] (n := 1) (Nat.le_of_ble_eq_true rfl)
  rw [lg_entry_eq]
  refine t3_iniW ho ⟨B.exec, B.bytes, hml, hown, hts⟩ hnm9 hK hOB hbs ⟨Nat.le_refl _, Nat.le_refl _⟩ ⟨Nat.le_refl _, Nat.le_refl _⟩ hl ?_
  intro ad H locs pc ls hdg h hS
  obtain ⟨h1, h2, h3⟩ := h.done ho
  exact W.vret B.exec B.bytes hrr (fun t ht hW => ⟨⟨(), rfl, trivial, ad, by subst ht; exact h1, h2, h3⟩, hS.F ht⟩) hS.2.2 hdg hlocks
