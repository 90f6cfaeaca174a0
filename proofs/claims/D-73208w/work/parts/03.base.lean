/-! BASE: loops as unfoldings, guards, binds; and the rows of a world with ONE main object (its whole numbers, its fixed arrays) -/
def ww_N {σ ρ : Type} (b : σ → Option (σ ⊕ ρ)) : Nat → σ → Option ρ
  | 0, _ => none
  | n + 1, s => match b s with
    | none => none
    | some (.inl s') => ww_N b n s'
    | some (.inr r) => some r
theorem ww_N_up {σ ρ : Type} (b : σ → Option (σ ⊕ ρ)) : ∀ (n : Nat) (s : σ) (r : ρ), ww_N b n s = some r → ww_N b (n + 1) s = some r := by
  intro n
  induction n with
  | zero => intro s r h; cases h
  | succ n ih =>
    intro s r h
    rw [ww_N] at h ⊢
    cases hb : b s with
    | none => rw [hb] at h; cases h
    | some z =>
      cases z with
      | inl s' => rw [hb] at h; exact ih s' r h
      | inr r' => rw [hb] at h; exact h
theorem ww_N_le {σ ρ : Type} (b : σ → Option (σ ⊕ ρ)) (n k : Nat) (s : σ) (r : ρ) (h : ww_N b n s = some r) : ww_N b (n + k) s = some r := by
  induction k with
  | zero => exact h
  | succ k ih => exact ww_N_up b (n + k) s r ih
theorem ww_N_det {σ ρ : Type} (b : σ → Option (σ ⊕ ρ)) {n k : Nat} {s : σ} {r q : ρ} (h : ww_N b n s = some r) (g : ww_N b k s = some q) : r = q := by
  have h1 := ww_N_le b n k s r h
  have g1 := ww_N_le b k n s q g
  rw [Nat.add_comm] at g1
  exact Option.some.inj (h1.symm.trans g1)
/-- the loop: what its body comes to, if it comes to an end at all -/
noncomputable def ww_U {σ ρ : Type} (b : σ → Option (σ ⊕ ρ)) (s : σ) : Option ρ :=
  @dite (Option ρ) (∃ (r : ρ) (n : Nat), ww_N b n s = some r) (Classical.propDecidable _) (fun h => some (Classical.choose h)) (fun _ => none)
theorem ww_U_iff {σ ρ : Type} {b : σ → Option (σ ⊕ ρ)} {s : σ} {r : ρ} : ww_U b s = some r ↔ ∃ n, ww_N b n s = some r := by
  unfold ww_U
  constructor
  · intro h
    by_cases hq : ∃ (r : ρ) (n : Nat), ww_N b n s = some r
    · rw [dif_pos hq] at h
      cases h
      exact Classical.choose_spec hq
    · rw [dif_neg hq] at h
      cases h
  · intro ⟨n, h⟩
    have hq : ∃ (r : ρ) (n : Nat), ww_N b n s = some r := ⟨r, n, h⟩
    rw [dif_pos hq]
    obtain ⟨k, hk⟩ := Classical.choose_spec hq
    exact congrArg some (ww_N_det b hk h)
def ww_K {σ ρ : Type} (P : σ → Prop) (r : ρ) (z : σ ⊕ ρ) : Prop := match z with
  | .inl s => P s
  | .inr q => q = r
theorem ww_Kl {σ ρ : Type} {P : σ → Prop} {r : ρ} {s : σ} (h : ww_K P r (.inl s)) : P s := h
theorem ww_Kr {σ ρ : Type} {P : σ → Prop} {r q : ρ} (h : ww_K P r (.inr q)) : q = r := h
theorem ww_ind {σ ρ : Type} {b : σ → Option (σ ⊕ ρ)} (P : σ → Prop) (r : ρ) (h : ∀ (s : σ) (z : σ ⊕ ρ), b s = some z → ww_K P r z → P s) (s : σ) (hs : ww_U b s = some r) : P s := by
  obtain ⟨n, hn⟩ := ww_U_iff.mp hs
  clear hs
  induction n generalizing s with
  | zero => cases hn
  | succ n ih =>
    rw [ww_N] at hn
    cases hb : b s with
    | none => rw [hb] at hn; cases hn
    | some z =>
      cases z with
      | inl s' => rw [hb] at hn; exact h s _ hb (ih s' hn)
      | inr q => rw [hb] at hn; exact h s _ hb (Option.some.inj hn)
theorem ww_U_next {σ ρ : Type} {b : σ → Option (σ ⊕ ρ)} {s s' : σ} (h : b s = some (.inl s')) : ww_U b s = ww_U b s' := by
  apply Option.ext
  intro r
  show ww_U b s = some r ↔ ww_U b s' = some r
  rw [ww_U_iff, ww_U_iff]
  constructor
  · intro ⟨n, hn⟩
    cases n with
    | zero => cases hn
    | succ n => rw [ww_N, h] at hn; exact ⟨n, hn⟩
  · intro ⟨n, hn⟩
    exact ⟨n + 1, by rw [ww_N, h]; exact hn⟩
theorem ww_U_done {σ ρ : Type} {b : σ → Option (σ ⊕ ρ)} {s : σ} {r : ρ} (h : b s = some (.inr r)) : ww_U b s = some r := ww_U_iff.mpr ⟨1, by rw [ww_N, h]⟩
theorem ww_U_iter {σ ρ : Type} {b : σ → Option (σ ⊕ ρ)} (I : Nat → σ) (n : Nat) (h : ∀ i, i < n → b (I i) = some (.inl (I (i + 1)))) : ww_U b (I 0) = ww_U b (I n) := by
  induction n with
  | zero => rfl
  | succ n ih => rw [ih (fun i hi => h i (by omega)), ww_U_next (h n (by omega))]
theorem ww_U_to {σ ρ : Type} {b : σ → Option (σ ⊕ ρ)} (I : Nat → σ) (k n : Nat) (hk : k ≤ n) (h : ∀ i, k ≤ i → i < n → b (I i) = some (.inl (I (i + 1)))) : ww_U b (I k) = ww_U b (I n) := by
  obtain ⟨d, rfl⟩ : ∃ d, n = k + d := ⟨n - k, by omega⟩
  clear hk
  induction d with
  | zero => rfl
  | succ d ih => rw [ih (fun i h1 h2 => h i h1 (by omega)), ww_U_next (h (k + d) (by omega) (by omega))]; rfl
/-! guards and binds -/
def ww_g {α : Type} (b : Bool) (x : Option α) : Option α := match b with
  | true => x
  | false => none
theorem ww_gS {α : Type} {b : Bool} {x : Option α} {z : α} (h : ww_g b x = some z) : b = true ∧ x = some z := by
  cases b with
  | true => exact ⟨rfl, h⟩
  | false => cases h
theorem ww_gt {α : Type} {b : Bool} {x : Option α} (h : b = true) : ww_g b x = x := by rw [h]; rfl
def ww_b {α β : Type} (x : Option α) (f : α → Option β) : Option β := match x with
  | some a => f a
  | none => none
theorem ww_bS {α β : Type} {x : Option α} {f : α → Option β} {z : β} (h : ww_b x f = some z) : ∃ a, x = some a ∧ f a = some z := by
  cases x with
  | some a => exact ⟨a, rfl, h⟩
  | none => cases h
theorem ww_bt {α β : Type} {x : Option α} {f : α → Option β} {a : α} (h : x = some a) : ww_b x f = f a := by rw [h]; rfl
def ww_b2 {α β γ : Type} (x : Option (α × β)) (f : α → β → Option γ) : Option γ := match x with
  | some (a, b) => f a b
  | none => none
theorem ww_b2S {α β γ : Type} {x : Option (α × β)} {f : α → β → Option γ} {z : γ} (h : ww_b2 x f = some z) : ∃ a b, x = some (a, b) ∧ f a b = some z := by
  cases x with
  | some q => exact ⟨q.1, q.2, rfl, h⟩
  | none => cases h
theorem ww_b2t {α β γ : Type} {x : Option (α × β)} {f : α → β → Option γ} {a : α} {b : β} (h : x = some (a, b)) : ww_b2 x f = f a b := by rw [h]; rfl
theorem ww_ip {α : Type} {c : Prop} [Decidable c] {a b : Option α} {z : α} (h : (if c then a else b) = some z) (hc : c) : a = some z := by rw [if_pos hc] at h; exact h
theorem ww_in {α : Type} {c : Prop} [Decidable c] {a b : Option α} {z : α} (h : (if c then a else b) = some z) (hc : ¬ c) : b = some z := by rw [if_neg hc] at h; exact h
/-- a place of an array -/
def ww_i (i : Int32) (n : Nat) : Bool := !(decide (i < 0) || decide (n ≤ i.toNatClampNeg))
theorem ww_iv {i : Int32} {n : Nat} (h : ww_i i n = true) : vp_in i n := by
  intro q
  unfold ww_i at h
  rcases q with q | q
  · simp [q] at h
  · simp [q] at h
theorem ww_iI {i : Int32} {n : Nat} (h : vp_in i n) : ww_i i n = true := by
  unfold ww_i
  unfold vp_in at h
  have h1 : ¬ i < 0 := fun q => h (Or.inl q)
  have h2 : ¬ n ≤ i.toNatClampNeg := fun q => h (Or.inr q)
  simp [h1, h2]
theorem ww_in_nI {n N : Nat} (h : n < N) (hN : N < 2 ^ 31) : ww_i (nI n) N = true := ww_iI (vp_in_nI h hN)
/-! the world of one main object: its ints (by the fields' numbers), its arrays of numbers, its long, its references, its arrays of references -/
abbrev ww_M : Type := (Nat → Int32) × (Nat → Nat → Int32) × Int64 × (Nat → Option Nat) × (Nat → Nat → Option Nat)
/-- where it lies: the object, its arrays; its class, its fields' slots; the arrays' classes by their element's type -/
abbrev ww_E : Type := Nat × (Nat → Nat) × ClassId × (Nat → Nat) × (FieldType → ClassId)
def ww_v (ty : Nat → FieldType) (ad : Nat → Nat) (M : ww_M) (k : Nat) : Value := match ty k with
  | .array _ => .ref (ad k)
  | .object _ => va_rf (M.2.2.2.1 k)
  | .long => .long M.2.2.1
  | _ => .int (M.1 k)
def ww_c (el : FieldType) (M : ww_M) (k : Nat) : (Nat → Int32) ⊕ (Nat → Int64) ⊕ (Nat → UInt32) ⊕ (Nat → UInt64) ⊕ (Nat → Option Nat) := match el with
  | .object _ => .inr (.inr (.inr (.inr (M.2.2.2.2 k))))
  | _ => .inl (M.2.1 k)
def ww_H (N : Nat) (ty : Nat → FieldType) (len : Nat → Nat) (E : ww_E) (M : ww_M) (H : Heap) : Prop :=
  t_OB E.1 E.2.2.1 N E.2.2.2.1 H (ww_v ty E.2.1 M) ∧ ∀ k, k < N → ∀ el, ty k = .array el → H[E.2.1 k]? = some (vp_cell (E.2.2.2.2 el) (len k, ww_c el M k))
def ww_D (N : Nat) (ty : Nat → FieldType) (E : ww_E) : Prop :=
  (∀ k, k < N → ∀ el, ty k = .array el → E.2.1 k ≠ E.1) ∧ ∀ j k, j < N → k < N → (∃ el, ty j = .array el) → (∃ el, ty k = .array el) → E.2.1 j = E.2.1 k → j = k
def ww_Kn (C : String) (T : u_T) (N : Nat) (ty : Nat → FieldType) (E : ww_E) (U : State) : Prop :=
  u_Kn U C T N E.2.2.1 E.2.2.2.1 ∧ ∀ k, k < N → ∀ el, ty k = .array el → ArrOfT U (E.2.2.2.2 el) el ∧ va_RA U (E.2.2.2.2 el) el
def ww_A (N : Nat) (ty : Nat → FieldType) (E : ww_E) : Nat → Prop := fun q => q = E.1 ∨ ∃ k, k < N ∧ (∃ el, ty k = .array el) ∧ q = E.2.1 k
theorem ww_Kn.moved {C : String} {T : u_T} {N : Nat} {ty : Nat → FieldType} {E : ww_E} {u U : State} (hvm : u.vm.Alike U.vm) (h : ww_Kn C T N ty E u) : ww_Kn C T N ty E U :=
  ⟨u_Kn_moved hvm h.1, fun k hk el he => ⟨arrOfT_moved hvm (h.2 k hk el he).1, (h.2 k hk el he).2.moved hvm⟩⟩
theorem ww_H.kept {N : Nat} {ty : Nat → FieldType} {len : Nat → Nat} {E : ww_E} {M : ww_M} {H H1 : Heap} (h : ww_H N ty len E M H) (hq : ∀ q : Nat, ww_A N ty E q → H1[q]? = H[q]?) : ww_H N ty len E M H1 :=
  ⟨h.1.kept (hq _ (Or.inl rfl)), fun k hk el he => (hq _ (Or.inr ⟨k, hk, ⟨el, he⟩, rfl⟩)).trans (h.2 k hk el he)⟩
theorem ww_H.lt {N : Nat} {ty : Nat → FieldType} {len : Nat → Nat} {E : ww_E} {M : ww_M} {H : Heap} (h : ww_H N ty len E M H) {q : Nat} (hq : ww_A N ty E q) : q < H.size := by
  rcases hq with rfl | ⟨k, hk, ⟨el, he⟩, rfl⟩
  · obtain ⟨cell, h1, -⟩ := h.1
    exact (Array.getElem?_eq_some_iff.mp h1).1
  · exact (Array.getElem?_eq_some_iff.mp (h.2 k hk el he)).1
def ww_F (M : ww_M) (k : Nat) : Int32 := M.1 k
def ww_X (M : ww_M) (k : Nat) (i : Int32) : Int32 := M.2.1 k i.toNatClampNeg
def ww_L (M : ww_M) : Int64 := M.2.2.1
def ww_R (M : ww_M) (k : Nat) : Option Nat := M.2.2.2.1 k
def ww_Y (M : ww_M) (k : Nat) (i : Int32) : Option Nat := M.2.2.2.2 k i.toNatClampNeg
def ww_sF (M : ww_M) (k : Nat) (v : Int32) : ww_M := (fun j => if j = k then v else M.1 j, M.2)
def ww_sX (M : ww_M) (k : Nat) (i v : Int32) : ww_M := (M.1, fun j => if j = k then upd (M.2.1 j) i.toNatClampNeg v else M.2.1 j, M.2.2)
def ww_sL (M : ww_M) (v : Int64) : ww_M := (M.1, M.2.1, v, M.2.2.2)
def ww_sR (M : ww_M) (k : Nat) (r : Option Nat) : ww_M := (M.1, M.2.1, M.2.2.1, (fun j => if j = k then r else M.2.2.2.1 j), M.2.2.2.2)
def ww_sY (M : ww_M) (k : Nat) (i : Int32) (r : Option Nat) : ww_M := (M.1, M.2.1, M.2.2.1, M.2.2.2.1, fun j => if j = k then (fun q => if q = i.toNatClampNeg then r else M.2.2.2.2 j q) else M.2.2.2.2 j)
section WWR
variable {p : Program} {l : Launch} {e : Env} {R : Room} {s : State} {m : MethodId} {args : Array Value} {below : List Frame} {meth : Method} {c : Code} {H : Heap} {locs : List Loc} {cells slots : Nat} {Q : State → Prop}
variable {cc : ByteArray} {pc : Nat} {ls : Array Slot} {rest : List Value} {nL : Nat} {own C : String} {T : u_T} {N : Nat} {ty : Nat → FieldType} {len : Nat → Nat} {E : ww_E} {M : ww_M} {A : Nat → Prop} {H0 : Heap} {a : Nat}
/-- what a method's body has at hand: the machine, its code, its class, the tables' words -/
abbrev ww_C (p : Program) (m : MethodId) (c : Code) (cc : ByteArray) (nL : Nat) (s : State) (args : Array Value) (own : String) (Ts : List Cond) : Prop :=
  CallFix p m c cc nL s args Ts own
theorem ww_get {Ts : List Cond} (X : ww_C p m c cc nL s args own Ts) (hin : ∀ w ∈ u_ws C T N, w ∈ Ts) (hK : ww_Kn C T N ty E s) (hR : ww_H N ty len E M H) {ref : String} {index : Nat} (k : Nat) (hk : k < N) (hlink : Cond.fieldLink own index ref (T k).2.1 (T k).2.2.1 ∈ Ts) (hsame : ∀ x, s.fieldFound? (T k).1 (T k).2.1 (T k).2.2.1 = some x → s.fieldFound? ref (T k).2.1 (T k).2.2.1 = some x) {v : Value} (hv : ww_v ty E.2.1 M k = v) (hdg : decode cc pc = .ok (.getfield index, 3))
    (kk : W p l e R s m args below meth c H locs cells slots Q (F0 m (pc + 3) ls (v :: rest))) : W p l e R s m args below meth c H locs cells slots Q (F0 m pc ls (.ref E.1 :: rest)) := by
  obtain ⟨hx, hb, -, hown, hts⟩ := X
  obtain ⟨cell, q1, q2, q3, q4⟩ := hR.1
  obtain ⟨hS, hfc, kC, hkC, hkind⟩ := hK.1
  obtain ⟨cf, kf, fi, f, hi, hsl⟩ := hS k hk
  refine W.getf hx hb hown (hts _ hlink) (hsame _ hi) (u_facts hfc hkC (u_lays hts hin hk) hi).1 q1 (by rw [q3]; exact fun h => by cases h) (v := v) ?_ rfl rfl hdg kk
  rw [hsl, q4 k hk, hv]
theorem ww_apart {Ts : List Cond} (hts : ∀ w ∈ Ts, w.before args s = true) (hin : ∀ w ∈ u_ws C T N, w ∈ Ts) (ty0 : Nat → FieldType) (hty : ∀ k, k < N → parseFieldDescriptor (T k).2.2.1 = some (ty0 k)) (hnm : ∀ a, a < N → ∀ b, b < N → a ≠ b → (T a).2.1 ≠ (T b).2.1) (hK : ww_Kn C T N ty E s) : ∀ x y, x < N → y < N → x ≠ y → E.2.2.2.1 x ≠ E.2.2.2.1 y := by
  intro x y hx hy hne
  obtain ⟨hS, -⟩ := hK.1
  obtain ⟨_, _, _, fa, hia, ea⟩ := hS x hx
  obtain ⟨_, _, _, fb, hib, eb⟩ := hS y hy
  rw [← ea, ← eb]
  refine u_apart (u_lays hts hin hx) (u_lays hts hin hy) hia hib ?_
  rw [(State.fieldFound?_type hia (hty x hx)).1, (State.fieldFound?_type hib (hty y hy)).1]
  exact hnm x hx y hy hne
theorem ww_put {Ts : List Cond} (X : ww_C p m c cc nL s args own Ts) (hin : ∀ w ∈ u_ws C T N, w ∈ Ts) (hty : ∀ k, k < N → parseFieldDescriptor (T k).2.2.1 = some (ty k)) (hnm : ∀ a, a < N → ∀ b, b < N → a ≠ b → (T a).2.1 ≠ (T b).2.1) (hK : ww_Kn C T N ty E s) (hD : ww_D N ty E) (hR : ww_H N ty len E M H) (hA : ∀ q, ww_A N ty E q → A q) (hS0 : va_S A H0 H locs) {ref : String} {index : Nat} (k : Nat) (hk : k < N) (hlink : Cond.fieldLink own index ref (T k).2.1 (T k).2.2.1 ∈ Ts) (hsame : ∀ x, s.fieldFound? (T k).1 (T k).2.1 (T k).2.2.1 = some x → s.fieldFound? ref (T k).2.1 (T k).2.2.1 = some x) (hfin : (T k).2.2.2 = false) {t : FieldType} (ht : ty k = t) {v : Value} (hn : narrow t v = v) (hfit : fits t v = true) {M' : ww_M} (hM : ∀ j, j < N → ww_v ty E.2.1 M' j = updV (ww_v ty E.2.1 M) k v j) (hM2 : ∀ j el, ww_c el M' j = ww_c el M j) (hdg : decode cc pc = .ok (.putfield index, 3))
    (kk : ∀ (H1 : Heap) (locs1 : List Loc), ww_H N ty len E M' H1 → va_S A H0 H1 locs1 → W p l e R s m args below meth c H1 locs1 cells slots Q (F0 m (pc + 3) ls rest)) : W p l e R s m args below meth c H locs cells slots Q (F0 m pc ls (v :: .ref E.1 :: rest)) := by
  obtain ⟨hx, hb, -, hown, hts⟩ := X
  have hap := ww_apart hts hin ty hty hnm hK
  obtain ⟨cell, q1, q2, q3, q4⟩ := hR.1
  obtain ⟨hS, hfc, kC, hkC, hkind⟩ := hK.1
  obtain ⟨cf, kf, fi, f, hi, hsl⟩ := hS k hk
  have hlay := hts _ (hin _ (u_in_lay hk))
  unfold u_lay at hlay
  rw [if_neg (by rw [hfin]; decide)] at hlay
  have hst := (u_facts hfc hkC (u_lays hts hin hk) hi).1
  have h6 := u_store hfc hkC hkind hlay hi ((hty k hk).trans (congrArg some ht)) hn hfit
  refine W.putK hx hb (f := f) ⟨hown, hts _ hlink, ⟨_, _, _, hsame _ hi⟩, hst⟩ (by rw [q2]; exact h6) q1 q3 (by rw [hsl]; exact k2_hasslot (q4 k hk)) rfl rfl hdg fun H' e1 e2 e3 => ?_
  rw [hsl] at e1 ⊢
  refine kk H' _ ⟨t_OB.to (V := updV (ww_v ty E.2.1 M) k v) ⟨_, e1, q2, q3, t_set q4 hap hk v⟩ (fun j hj => (hM j hj).symm), fun j hj el he => ?_⟩ (hS0.put e2 e3 (hA _ (Or.inl rfl)))
  rw [e3 _ (hD.1 j hj el he), hM2]
  exact hR.2 j hj el he
theorem ww_putI {Ts : List Cond} (X : ww_C p m c cc nL s args own Ts) (hin : ∀ w ∈ u_ws C T N, w ∈ Ts) (hty : ∀ k, k < N → parseFieldDescriptor (T k).2.2.1 = some (ty k)) (hnm : ∀ a, a < N → ∀ b, b < N → a ≠ b → (T a).2.1 ≠ (T b).2.1) (hK : ww_Kn C T N ty E s) (hD : ww_D N ty E) (hR : ww_H N ty len E M H) (hA : ∀ q, ww_A N ty E q → A q) (hS0 : va_S A H0 H locs) {ref : String} {index : Nat} (k : Nat) (hk : k < N) (hlink : Cond.fieldLink own index ref (T k).2.1 (T k).2.2.1 ∈ Ts) (hsame : ∀ x, s.fieldFound? (T k).1 (T k).2.1 (T k).2.2.1 = some x → s.fieldFound? ref (T k).2.1 (T k).2.2.1 = some x) (hfin : (T k).2.2.2 = false) (ht : ty k = .int) {v : Int32} (hdg : decode cc pc = .ok (.putfield index, 3))
    (kk : ∀ (H1 : Heap) (locs1 : List Loc), ww_H N ty len E (ww_sF M k v) H1 → va_S A H0 H1 locs1 → W p l e R s m args below meth c H1 locs1 cells slots Q (F0 m (pc + 3) ls rest)) : W p l e R s m args below meth c H locs cells slots Q (F0 m pc ls (.int v :: .ref E.1 :: rest)) := by
  refine ww_put X hin hty hnm hK hD hR hA hS0 k hk hlink hsame hfin ht rfl rfl (fun j _ => ?_) (fun j el => ?_) hdg kk
  · by_cases h : j = k
    · subst h
      simp [ww_v, updV, ww_sF, ht]
    · simp only [ww_v, updV, ww_sF, if_neg h]
  · cases el <;> rfl
theorem ww_putZ {Ts : List Cond} (X : ww_C p m c cc nL s args own Ts) (hin : ∀ w ∈ u_ws C T N, w ∈ Ts) (hty : ∀ k, k < N → parseFieldDescriptor (T k).2.2.1 = some (ty k)) (hnm : ∀ a, a < N → ∀ b, b < N → a ≠ b → (T a).2.1 ≠ (T b).2.1) (hK : ww_Kn C T N ty E s) (hD : ww_D N ty E) (hR : ww_H N ty len E M H) (hA : ∀ q, ww_A N ty E q → A q) (hS0 : va_S A H0 H locs) {ref : String} {index : Nat} (k : Nat) (hk : k < N) (hlink : Cond.fieldLink own index ref (T k).2.1 (T k).2.2.1 ∈ Ts) (hsame : ∀ x, s.fieldFound? (T k).1 (T k).2.1 (T k).2.2.1 = some x → s.fieldFound? ref (T k).2.1 (T k).2.2.1 = some x) (hfin : (T k).2.2.2 = false) (ht : ty k = .boolean) {v : Int32} (hv : v = 0 ∨ v = 1) (hdg : decode cc pc = .ok (.putfield index, 3))
    (kk : ∀ (H1 : Heap) (locs1 : List Loc), ww_H N ty len E (ww_sF M k v) H1 → va_S A H0 H1 locs1 → W p l e R s m args below meth c H1 locs1 cells slots Q (F0 m (pc + 3) ls rest)) : W p l e R s m args below meth c H locs cells slots Q (F0 m pc ls (.int v :: .ref E.1 :: rest)) := by
  refine ww_put X hin hty hnm hK hD hR hA hS0 k hk hlink hsame hfin ht (by rcases hv with h | h <;> subst h <;> decide) (by rcases hv with h | h <;> subst h <;> decide) (fun j _ => ?_) (fun j el => ?_) hdg kk
  · by_cases h : j = k
    · subst h
      simp [ww_v, updV, ww_sF, ht]
    · simp only [ww_v, updV, ww_sF, if_neg h]
  · cases el <;> rfl
theorem ww_putL {Ts : List Cond} (X : ww_C p m c cc nL s args own Ts) (hin : ∀ w ∈ u_ws C T N, w ∈ Ts) (hty : ∀ k, k < N → parseFieldDescriptor (T k).2.2.1 = some (ty k)) (hnm : ∀ a, a < N → ∀ b, b < N → a ≠ b → (T a).2.1 ≠ (T b).2.1) (hK : ww_Kn C T N ty E s) (hD : ww_D N ty E) (hR : ww_H N ty len E M H) (hA : ∀ q, ww_A N ty E q → A q) (hS0 : va_S A H0 H locs) {ref : String} {index : Nat} (k : Nat) (hk : k < N) (hlink : Cond.fieldLink own index ref (T k).2.1 (T k).2.2.1 ∈ Ts) (hsame : ∀ x, s.fieldFound? (T k).1 (T k).2.1 (T k).2.2.1 = some x → s.fieldFound? ref (T k).2.1 (T k).2.2.1 = some x) (hfin : (T k).2.2.2 = false) (ht : ∀ j, j < N → (ty j = .long ↔ j = k)) {v : Int64} (hdg : decode cc pc = .ok (.putfield index, 3))
    (kk : ∀ (H1 : Heap) (locs1 : List Loc), ww_H N ty len E (ww_sL M v) H1 → va_S A H0 H1 locs1 → W p l e R s m args below meth c H1 locs1 cells slots Q (F0 m (pc + 3) ls rest)) : W p l e R s m args below meth c H locs cells slots Q (F0 m pc ls (.long v :: .ref E.1 :: rest)) := by
  refine ww_put X hin hty hnm hK hD hR hA hS0 k hk hlink hsame hfin ((ht k hk).mpr rfl) rfl rfl (fun j hj => ?_) (fun j el => ?_) hdg kk
  · by_cases h : j = k
    · subst h
      simp [ww_v, updV, ww_sL, (ht j hj).mpr rfl]
    · have h1 : ty j ≠ .long := fun q => h ((ht j hj).mp q)
      simp only [ww_v, updV, ww_sL, if_neg h]
      split <;> first | rfl | (rename_i q; exact absurd q h1)
  · cases el <;> rfl
/-- a read of one of the main object's arrays -/
theorem ww_iald {Ts : List Cond} (X : ww_C p m c cc nL s args own Ts) (hK : ww_Kn C T N ty E s) (hR : ww_H N ty len E M H) (k : Nat) (hk : k < N) (ht : ty k = .array .int) {n : Nat} (hn : len k = n) {i : Int32} (hi : ww_i i n = true) (hdg : decode cc pc = .ok (.iaload, 1))
    (kk : W p l e R s m args below meth c H locs cells slots Q (F0 m (pc + 1) ls (.int (ww_X M k i) :: rest))) : W p l e R s m args below meth c H locs cells slots Q (F0 m pc ls (.int i :: .ref (E.2.1 k) :: rest)) := by
  subst hn
  refine va_iald (D := (fun _ => E.2.2.1, fun _ => E.2.2.2.1)) (cl := [(C, T, N)]) (tys := [(E.2.2.2.2 .int, .int)]) (ws := [(E.2.1 k, .inl (E.2.2.2.2 .int, len k, .inl (M.2.1 k)))]) X.1 X.2.1 ⟨?_, ?_⟩ ?_ 0 0 rfl rfl (ww_iv hi) hdg kk
  · intro j q hq
    match j, hq with
    | 0, hq => cases hq; exact hK.1
    | j + 1, hq => simp at hq
  · intro j q hq
    match j, hq with
    | 0, hq => cases hq; exact hK.2 k hk _ ht
    | j + 1, hq => simp at hq
  · intro j q hq
    match j, hq with
    | 0, hq => cases hq; exact hR.2 k hk _ ht
    | j + 1, hq => simp at hq
theorem ww_bald {Ts : List Cond} (X : ww_C p m c cc nL s args own Ts) (hK : ww_Kn C T N ty E s) (hR : ww_H N ty len E M H) (k : Nat) (hk : k < N) (ht : ty k = .array .byte) {n : Nat} (hn : len k = n) {i : Int32} (hi : ww_i i n = true) (hdg : decode cc pc = .ok (.baload, 1))
    (kk : W p l e R s m args below meth c H locs cells slots Q (F0 m (pc + 1) ls (.int (ww_X M k i) :: rest))) : W p l e R s m args below meth c H locs cells slots Q (F0 m pc ls (.int i :: .ref (E.2.1 k) :: rest)) := by
  subst hn
  refine va_bald (D := (fun _ => E.2.2.1, fun _ => E.2.2.2.1)) (cl := [(C, T, N)]) (tys := [(E.2.2.2.2 .byte, .byte)]) (ws := [(E.2.1 k, .inl (E.2.2.2.2 .byte, len k, .inl (M.2.1 k)))]) X.1 X.2.1 ⟨?_, ?_⟩ ?_ 0 0 rfl rfl (ww_iv hi) hdg kk
  · intro j q hq
    match j, hq with
    | 0, hq => cases hq; exact hK.1
    | j + 1, hq => simp at hq
  · intro j q hq
    match j, hq with
    | 0, hq => cases hq; exact hK.2 k hk _ ht
    | j + 1, hq => simp at hq
  · intro j q hq
    match j, hq with
    | 0, hq => cases hq; exact hR.2 k hk _ ht
    | j + 1, hq => simp at hq
theorem ww_zald {Ts : List Cond} (X : ww_C p m c cc nL s args own Ts) (hK : ww_Kn C T N ty E s) (hR : ww_H N ty len E M H) (k : Nat) (hk : k < N) (ht : ty k = .array .boolean) {n : Nat} (hn : len k = n) {i : Int32} (hi : ww_i i n = true) (hdg : decode cc pc = .ok (.baload, 1))
    (kk : W p l e R s m args below meth c H locs cells slots Q (F0 m (pc + 1) ls (.int (ww_X M k i) :: rest))) : W p l e R s m args below meth c H locs cells slots Q (F0 m pc ls (.int i :: .ref (E.2.1 k) :: rest)) := by
  subst hn
  refine va_zald (D := (fun _ => E.2.2.1, fun _ => E.2.2.2.1)) (cl := [(C, T, N)]) (tys := [(E.2.2.2.2 .boolean, .boolean)]) (ws := [(E.2.1 k, .inl (E.2.2.2.2 .boolean, len k, .inl (M.2.1 k)))]) X.1 X.2.1 ⟨?_, ?_⟩ ?_ 0 0 rfl rfl (ww_iv hi) hdg kk
  · intro j q hq
    match j, hq with
    | 0, hq => cases hq; exact hK.1
    | j + 1, hq => simp at hq
  · intro j q hq
    match j, hq with
    | 0, hq => cases hq; exact hK.2 k hk _ ht
    | j + 1, hq => simp at hq
  · intro j q hq
    match j, hq with
    | 0, hq => cases hq; exact hR.2 k hk _ ht
    | j + 1, hq => simp at hq
theorem ww_upd0 {f : Nat → Int32} {k : Nat} {x : Int32} : updV (fun j => Value.int (f j)) k (.int x) = fun j => Value.int (upd f k x j) := by
  funext q
  by_cases hq : q = k
  · subst hq
    simp [updV, upd]
  · simp [updV, upd, hq]
/-- behind a write to an array of numbers -/
theorem ww_sto {el : FieldType} (hel : ∀ C, el ≠ .object C) (hD : ww_D N ty E) (hR : ww_H N ty len E M H) (k : Nat) (hk : k < N) (ht : ty k = .array el) {i x : Int32} {H1 : Heap} (e1 : H1[E.2.1 k]? = some ((vp_cell (E.2.2.2.2 el) (len k, .inl (M.2.1 k))).setSlot i.toNatClampNeg (.int x))) (oq : ∀ q : Nat, q ≠ E.2.1 k → H1[q]? = H[q]?) : ww_H N ty len E (ww_sX M k i x) H1 := by
  refine ⟨?_, fun j hj el' he => ?_⟩
  · refine (hR.1.kept (oq _ (fun q => hD.1 k hk _ ht q.symm))).to (fun j _ => ?_)
    unfold ww_v
    cases ty j <;> rfl
  · by_cases hjk : j = k
    · subst hjk
      cases (show FieldType.array el' = .array el from he.symm.trans ht)
      rw [e1, vp_cell_i, arrV_store, ww_upd0]
      have : ww_c el (ww_sX M j i x) j = .inl (upd (M.2.1 j) i.toNatClampNeg x) := by
        unfold ww_c ww_sX
        cases el <;> first | exact absurd rfl (hel _) | simp
      rw [this]
      rfl
    · rw [oq _ (fun q => hjk (hD.2 j k hj hk ⟨_, he⟩ ⟨_, ht⟩ q)), hR.2 j hj _ he]
      have : ww_c el' (ww_sX M k i x) j = ww_c el' M j := by
        unfold ww_c ww_sX
        cases el' <;> simp [hjk]
      rw [this]
theorem ww_cnum {el : FieldType} (hel : ∀ C, el ≠ .object C) (M : ww_M) (k : Nat) : ww_c el M k = .inl (M.2.1 k) := by
  unfold ww_c
  cases el <;> first | exact absurd rfl (hel _) | rfl
theorem ww_iast {Ts : List Cond} (X : ww_C p m c cc nL s args own Ts) (hK : ww_Kn C T N ty E s) (hD : ww_D N ty E) (hR : ww_H N ty len E M H) (hA : ∀ q, ww_A N ty E q → A q) (hS : va_S A H0 H locs) (k : Nat) (hk : k < N) (ht : ty k = .array .int) {n : Nat} (hn : len k = n) {i x : Int32} (hi : ww_i i n = true) (hdg : decode cc pc = .ok (.iastore, 1))
    (kk : ∀ (H1 : Heap) (locs1 : List Loc), ww_H N ty len E (ww_sX M k i x) H1 → va_S A H0 H1 locs1 → W p l e R s m args below meth c H1 locs1 cells slots Q (F0 m (pc + 1) ls rest)) : W p l e R s m args below meth c H locs cells slots Q (F0 m pc ls (.int x :: .int i :: .ref (E.2.1 k) :: rest)) := by
  subst hn
  refine W.iast X.1 X.2.1 (hR.2 k hk _ ht) ((hK.2 k hk _ ht).1 _ (fun j => .int (M.2.1 k j))) (fun q => by cases q) (by show ¬ (i < 0 ∨ (arrV _ _ _).slots.size ≤ _); rw [arrV_size]; exact ww_iv hi) rfl rfl hdg fun H1 e1 z oq => ?_
  exact kk H1 _ (ww_sto (fun _ h => by cases h) hD hR k hk ht e1 oq) (hS.put z oq (hA _ (Or.inr ⟨k, hk, ⟨_, ht⟩, rfl⟩)))
theorem ww_bast {Ts : List Cond} (X : ww_C p m c cc nL s args own Ts) (hK : ww_Kn C T N ty E s) (hD : ww_D N ty E) (hR : ww_H N ty len E M H) (hA : ∀ q, ww_A N ty E q → A q) (hS : va_S A H0 H locs) (k : Nat) (hk : k < N) (ht : ty k = .array .byte) {n : Nat} (hn : len k = n) {i x : Int32} (hi : ww_i i n = true) (hdg : decode cc pc = .ok (.bastore, 1))
    (kk : ∀ (H1 : Heap) (locs1 : List Loc), ww_H N ty len E (ww_sX M k i (vp_nar .byte x)) H1 → va_S A H0 H1 locs1 → W p l e R s m args below meth c H1 locs1 cells slots Q (F0 m (pc + 1) ls rest)) : W p l e R s m args below meth c H locs cells slots Q (F0 m pc ls (.int x :: .int i :: .ref (E.2.1 k) :: rest)) := by
  subst hn
  refine W.bast X.1 X.2.1 (hR.2 k hk _ ht) ((hK.2 k hk _ ht).1 _ (fun j => .int (M.2.1 k j))) (fun q => by cases q) (by show ¬ (i < 0 ∨ (arrV _ _ _).slots.size ≤ _); rw [arrV_size]; exact ww_iv hi) rfl rfl hdg fun H1 e1 z oq => ?_
  exact kk H1 _ (ww_sto (fun _ h => by cases h) hD hR k hk ht e1 oq) (hS.put z oq (hA _ (Or.inr ⟨k, hk, ⟨_, ht⟩, rfl⟩)))
theorem ww_zast {Ts : List Cond} (X : ww_C p m c cc nL s args own Ts) (hK : ww_Kn C T N ty E s) (hD : ww_D N ty E) (hR : ww_H N ty len E M H) (hA : ∀ q, ww_A N ty E q → A q) (hS : va_S A H0 H locs) (k : Nat) (hk : k < N) (ht : ty k = .array .boolean) {n : Nat} (hn : len k = n) {i x : Int32} (hi : ww_i i n = true) (hdg : decode cc pc = .ok (.bastore, 1))
    (kk : ∀ (H1 : Heap) (locs1 : List Loc), ww_H N ty len E (ww_sX M k i (vp_nar .boolean x)) H1 → va_S A H0 H1 locs1 → W p l e R s m args below meth c H1 locs1 cells slots Q (F0 m (pc + 1) ls rest)) : W p l e R s m args below meth c H locs cells slots Q (F0 m pc ls (.int x :: .int i :: .ref (E.2.1 k) :: rest)) := by
  subst hn
  refine W.zast X.1 X.2.1 (hR.2 k hk _ ht) ((hK.2 k hk _ ht).1 _ (fun j => .int (M.2.1 k j))) (fun q => by cases q) (by show ¬ (i < 0 ∨ (arrV _ _ _).slots.size ≤ _); rw [arrV_size]; exact ww_iv hi) rfl rfl hdg fun H1 e1 z oq => ?_
  exact kk H1 _ (ww_sto (fun _ h => by cases h) hD hR k hk ht e1 oq) (hS.put z oq (hA _ (Or.inr ⟨k, hk, ⟨_, ht⟩, rfl⟩)))
end WWR
/-! leaving a loop, going on with it; cases; switches -/
def ww_x {σ ρ : Type} (x : Option ρ) : Option (σ ⊕ ρ) := match x with
  | some r => some (.inr r)
  | none => none
theorem ww_xK {σ ρ : Type} {P : σ → Prop} {r : ρ} {x : Option ρ} {z : σ ⊕ ρ} (h : (ww_x x : Option (σ ⊕ ρ)) = some z) (k : ww_K P r z) : x = some r := by
  cases x with
  | none => cases h
  | some q =>
    cases h
    exact congrArg some k
theorem ww_xt {σ ρ : Type} {x : Option ρ} {r : ρ} (h : x = some r) : (ww_x x : Option (σ ⊕ ρ)) = some (.inr r) := by rw [h]; rfl
theorem ww_lK {σ ρ : Type} {P : σ → Prop} {r : ρ} {s : σ} {z : σ ⊕ ρ} (h : some (Sum.inl s) = some z) (k : ww_K P r z) : P s := by
  cases h
  exact k
theorem ww_by (c : Prop) {g : Prop} (h1 : c → g) (h2 : ¬ c → g) : g := (Classical.em c).elim h1 h2
def ww_z (x : Int32) : Bool := decide (x = 0) || decide (x = 1)
theorem ww_zn {x : Int32} (h : ww_z x = true) : narrow .boolean (.int x) = .int x := by
  unfold ww_z at h
  rw [Bool.or_eq_true, decide_eq_true_eq, decide_eq_true_eq] at h
  rcases h with h | h <;> subst h <;> decide
section WWS
variable {p : Program} {l : Launch} {e : Env} {R : Room} {s : State} {m : MethodId} {args : Array Value} {below : List Frame} {meth : Method} {c : Code} {H : Heap} {locs : List Loc} {cells slots : Nat} {Q : State → Prop}
variable {cc : ByteArray} {pc : Nat} {ls : Array Slot} {rest : List Value}
theorem ww_tin (hexec : p.tables.exec = Jvm.exec) (hb : c.code = cc) {k : Int32} {dflt lo hi : Int} {offs : Array Int} {len : Nat} {x : Int32} {off : Int} {tgt : Nat} (hdg : decode cc pc = .ok (.tableswitch dflt lo hi offs, len)) (hx : x = k) (h1 : ¬ k.toInt < lo) (h2 : ¬ hi < k.toInt) (ho : offs[(k.toInt - lo).toNat]? = some off) (ht : (pc : Int) + off = (tgt : Int))
    (kk : W p l e R s m args below meth c H locs cells slots Q (F0 m tgt ls rest)) : W p l e R s m args below meth c H locs cells slots Q (F0 m pc ls (.int x :: rest)) := by
  subst hx
  exact lv_tableIn hexec hb hdg h1 h2 ho ht kk
def ww_ne (x : Int32) : List Int32 → Prop
  | [] => True
  | k :: ks => ¬ x = k ∧ ww_ne x ks
theorem ww_ne_mem {x : Int32} : ∀ {ks : List Int32}, ww_ne x ks → ∀ k ∈ ks, ¬ x = k := by
  intro ks
  induction ks with
  | nil => intro _ k h; cases h
  | cons a ks ih =>
    intro h k hk
    rcases List.mem_cons.mp hk with e | e
    · rw [e]; exact h.1
    · exact ih h.2 k e
theorem ww_tout (ks : List Int32) (hexec : p.tables.exec = Jvm.exec) (hb : c.code = cc) {dflt lo hi : Int} {offs : Array Int} {len : Nat} {x : Int32} {tgt : Nat} (hdg : decode cc pc = .ok (.tableswitch dflt lo hi offs, len)) (hx : ww_ne x ks) (hk : ((List.range (hi - lo + 1).toNat).all fun i => ks.any fun k => decide (k.toInt = lo + i)) = true) (ht : (pc : Int) + dflt = (tgt : Int))
    (kk : W p l e R s m args below meth c H locs cells slots Q (F0 m tgt ls rest)) : W p l e R s m args below meth c H locs cells slots Q (F0 m pc ls (.int x :: rest)) := by
  refine lv_tableOut hexec hb hdg ?_ ht kk
  rcases Int.lt_or_le x.toInt lo with h | h
  · exact Or.inl h
  rcases Int.lt_or_le hi x.toInt with h' | h'
  · exact Or.inr h'
  exfalso
  have h1 := List.all_eq_true.mp hk (x.toInt - lo).toNat (List.mem_range.mpr (by omega))
  obtain ⟨k, hk1, hk2⟩ := List.any_eq_true.mp h1
  have h2 : k.toInt = lo + ((x.toInt - lo).toNat : Int) := of_decide_eq_true hk2
  exact ww_ne_mem hx k hk1 (Int32.toInt_inj.mp (by omega))
end WWS
