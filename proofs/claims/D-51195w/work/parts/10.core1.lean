/-! THE PURE HEAP: types of addresses, ints, references, longs by address and place; the size; the statics' references; the base of what may be written -/
abbrev ZTy : Type := Nat ⊕ (Nat × Nat)
abbrev PH : Type := (Nat → Option ZTy) × (Nat → Nat → Int32) × (Nat → Nat → Option Nat) × (Nat → Nat → Int64) × Nat × (Nat → Option Nat) × Nat
def zT (h : PH) : Nat → Option ZTy := h.1
def zI (h : PH) : Nat → Nat → Int32 := h.2.1
def zP (h : PH) : Nat → Nat → Option Nat := h.2.2.1
def zL (h : PH) : Nat → Nat → Int64 := h.2.2.2.1
def zN (h : PH) : Nat := h.2.2.2.2.1
def zS (h : PH) : Nat → Option Nat := h.2.2.2.2.2.1
def zB (h : PH) : Nat := h.2.2.2.2.2.2
def up2 {α : Type} (f : Nat → Nat → α) (a k : Nat) (x : α) : Nat → Nat → α := fun b j => if b = a ∧ j = k then x else f b j
def up1 {α : Type} (f : Nat → Nat → α) (a : Nat) (x : Nat → α) : Nat → Nat → α := fun b => if b = a then x else f b
def up0 {α : Type} (f : Nat → α) (a : Nat) (x : α) : Nat → α := fun b => if b = a then x else f b
def zwI (h : PH) (a k : Nat) (x : Int32) : PH := (zT h, up2 (zI h) a k x, zP h, zL h, zN h, zS h, zB h)
def zwP (h : PH) (a k : Nat) (x : Option Nat) : PH := (zT h, zI h, up2 (zP h) a k x, zL h, zN h, zS h, zB h)
def zwL (h : PH) (a k : Nat) (x : Int64) : PH := (zT h, zI h, zP h, up2 (zL h) a k x, zN h, zS h, zB h)
/-- a new cell of type t at the heap's end, all zero -/
def znw (h : PH) (t : ZTy) : PH := (up0 (zT h) (zN h) (some t), up1 (zI h) (zN h) (fun _ => 0), up1 (zP h) (zN h) (fun _ => none), up1 (zL h) (zN h) (fun _ => 0), zN h + 1, zS h, zB h)
/-- a new cell of which nothing is said -/
def znx (h : PH) : PH := (zT h, zI h, zP h, zL h, zN h + 1, zS h, zB h)
theorem zT_wI (h : PH) (a k : Nat) (x : Int32) : zT (zwI h a k x) = zT h := rfl
theorem zI_wI (h : PH) (a k : Nat) (x : Int32) : zI (zwI h a k x) = up2 (zI h) a k x := rfl
theorem zP_wI (h : PH) (a k : Nat) (x : Int32) : zP (zwI h a k x) = zP h := rfl
theorem zL_wI (h : PH) (a k : Nat) (x : Int32) : zL (zwI h a k x) = zL h := rfl
theorem zN_wI (h : PH) (a k : Nat) (x : Int32) : zN (zwI h a k x) = zN h := rfl
theorem zS_wI (h : PH) (a k : Nat) (x : Int32) : zS (zwI h a k x) = zS h := rfl
theorem zB_wI (h : PH) (a k : Nat) (x : Int32) : zB (zwI h a k x) = zB h := rfl
theorem zT_wP (h : PH) (a k : Nat) (x : Option Nat) : zT (zwP h a k x) = zT h := rfl
theorem zI_wP (h : PH) (a k : Nat) (x : Option Nat) : zI (zwP h a k x) = zI h := rfl
theorem zP_wP (h : PH) (a k : Nat) (x : Option Nat) : zP (zwP h a k x) = up2 (zP h) a k x := rfl
theorem zL_wP (h : PH) (a k : Nat) (x : Option Nat) : zL (zwP h a k x) = zL h := rfl
theorem zN_wP (h : PH) (a k : Nat) (x : Option Nat) : zN (zwP h a k x) = zN h := rfl
theorem zS_wP (h : PH) (a k : Nat) (x : Option Nat) : zS (zwP h a k x) = zS h := rfl
theorem zB_wP (h : PH) (a k : Nat) (x : Option Nat) : zB (zwP h a k x) = zB h := rfl
theorem zT_wL (h : PH) (a k : Nat) (x : Int64) : zT (zwL h a k x) = zT h := rfl
theorem zI_wL (h : PH) (a k : Nat) (x : Int64) : zI (zwL h a k x) = zI h := rfl
theorem zP_wL (h : PH) (a k : Nat) (x : Int64) : zP (zwL h a k x) = zP h := rfl
theorem zL_wL (h : PH) (a k : Nat) (x : Int64) : zL (zwL h a k x) = up2 (zL h) a k x := rfl
theorem zN_wL (h : PH) (a k : Nat) (x : Int64) : zN (zwL h a k x) = zN h := rfl
theorem zS_wL (h : PH) (a k : Nat) (x : Int64) : zS (zwL h a k x) = zS h := rfl
theorem zB_wL (h : PH) (a k : Nat) (x : Int64) : zB (zwL h a k x) = zB h := rfl
theorem zT_nw (h : PH) (t : ZTy) : zT (znw h t) = up0 (zT h) (zN h) (some t) := rfl
theorem zI_nw (h : PH) (t : ZTy) : zI (znw h t) = up1 (zI h) (zN h) (fun _ => 0) := rfl
theorem zP_nw (h : PH) (t : ZTy) : zP (znw h t) = up1 (zP h) (zN h) (fun _ => none) := rfl
theorem zL_nw (h : PH) (t : ZTy) : zL (znw h t) = up1 (zL h) (zN h) (fun _ => 0) := rfl
theorem zN_nw (h : PH) (t : ZTy) : zN (znw h t) = zN h + 1 := rfl
theorem zS_nw (h : PH) (t : ZTy) : zS (znw h t) = zS h := rfl
theorem zB_nw (h : PH) (t : ZTy) : zB (znw h t) = zB h := rfl
theorem zT_nx (h : PH) : zT (znx h) = zT h := rfl
theorem zI_nx (h : PH) : zI (znx h) = zI h := rfl
theorem zP_nx (h : PH) : zP (znx h) = zP h := rfl
theorem zL_nx (h : PH) : zL (znx h) = zL h := rfl
theorem zN_nx (h : PH) : zN (znx h) = zN h + 1 := rfl
theorem zS_nx (h : PH) : zS (znx h) = zS h := rfl
theorem zB_nx (h : PH) : zB (znx h) = zB h := rfl
theorem up2_s {α : Type} (f : Nat → Nat → α) (a k : Nat) (x : α) : up2 f a k x a k = x := if_pos ⟨rfl, rfl⟩
theorem up2_n {α : Type} (f : Nat → Nat → α) {a k b j : Nat} (x : α) (h : ¬ (b = a ∧ j = k)) : up2 f a k x b j = f b j := if_neg h
theorem up2_na {α : Type} (f : Nat → Nat → α) {a k b : Nat} (x : α) (h : b ≠ a) (j : Nat) : up2 f a k x b j = f b j := if_neg (fun q => h q.1)
theorem up2_nk {α : Type} (f : Nat → Nat → α) {a k j : Nat} (x : α) (h : j ≠ k) (b : Nat) : up2 f a k x b j = f b j := if_neg (fun q => h q.2)
theorem up1_s {α : Type} (f : Nat → Nat → α) (a : Nat) (x : Nat → α) : up1 f a x a = x := if_pos rfl
theorem up1_n {α : Type} (f : Nat → Nat → α) {a b : Nat} (x : Nat → α) (h : b ≠ a) : up1 f a x b = f b := if_neg h
theorem up0_s {α : Type} (f : Nat → α) (a : Nat) (x : α) : up0 f a x a = x := if_pos rfl
theorem up0_n {α : Type} (f : Nat → α) {a b : Nat} (x : α) (h : b ≠ a) : up0 f a x b = f b := if_neg h
/-! RUNS: an answer, the heap behind, the cells and slots that were made; none: stuck -/
abbrev ZR (α : Type) : Type := Option (α × PH × Nat × Nat)
abbrev ZX (α : Type) : Type := α ⊕ (Nat × Nat)
def zret {α : Type} (r : α) (h : PH) : ZR α := some (r, h, 0, 0)
def zadd {α : Type} (c s : Nat) (x : ZR α) : ZR α := x.map fun z => (z.1, z.2.1, c + z.2.2.1, s + z.2.2.2)
def zgd {α : Type} (p : Prop) [Decidable p] (x : ZR α) : ZR α := if p then x else none
def znn {α : Type} (o : Option Nat) (k : Nat → ZR α) : ZR α := match o with
  | some a => k a
  | none => none
def znul {α : Type} (o : Option Nat) (x : ZR α) (k : Nat → ZR α) : ZR α := match o with
  | some a => k a
  | none => x
def znm {α β : Type} (x : β) (k : β → ZR α) : ZR α := k x
def zgI {α : Type} (h : PH) (a ci k : Nat) (K : Int32 → ZR α) : ZR α := if zT h a = some (.inl ci) then K (zI h a k) else none
def zgP {α : Type} (h : PH) (a ci k : Nat) (K : Option Nat → ZR α) : ZR α := if zT h a = some (.inl ci) then K (zP h a k) else none
def zgL {α : Type} (h : PH) (a ci k : Nat) (K : Int64 → ZR α) : ZR α := if zT h a = some (.inl ci) then K (zL h a k) else none
def zpI {α : Type} (h : PH) (a ci k : Nat) (x : Int32) (K : PH → ZR α) : ZR α := if zT h a = some (.inl ci) ∧ zB h ≤ a then K (zwI h a k x) else none
def zpP {α : Type} (h : PH) (a ci k : Nat) (x : Option Nat) (K : PH → ZR α) : ZR α := if zT h a = some (.inl ci) ∧ zB h ≤ a then K (zwP h a k x) else none
def zpL {α : Type} (h : PH) (a ci k : Nat) (x : Int64) (K : PH → ZR α) : ZR α := if zT h a = some (.inl ci) ∧ zB h ≤ a then K (zwL h a k x) else none
/-- the length of an array of the kind ai at a -/
def zln (h : PH) (a ai : Nat) : Option Nat := match zT h a with
  | some (.inr (aj, n)) => if aj = ai then some n else none
  | _ => none
def zix (i : Int32) : Nat := i.toNatClampNeg
def zlen {α : Type} (h : PH) (a ai : Nat) (K : Int32 → ZR α) : ZR α := match zln h a ai with
  | some n => K (nI n)
  | none => none
def zin (i : Int32) (o : Option Nat) : Bool := match o with
  | some n => decide (0 ≤ i) && decide (i.toNatClampNeg < n)
  | none => false
def zaI {α : Type} (h : PH) (a ai : Nat) (i : Int32) (K : Int32 → ZR α) : ZR α := if zin i (zln h a ai) = true then K (zI h a (zix i)) else none
def zsI {α : Type} (h : PH) (a ai : Nat) (i : Int32) (x : Int32) (K : PH → ZR α) : ZR α := if zin i (zln h a ai) = true ∧ zB h ≤ a then K (zwI h a (zix i) x) else none
def zaP {α : Type} (h : PH) (a ai : Nat) (i : Int32) (K : Option Nat → ZR α) : ZR α := if zin i (zln h a ai) = true then K (zP h a (zix i)) else none
def zsP {α : Type} (h : PH) (a ai : Nat) (i : Int32) (x : Option Nat) (K : PH → ZR α) : ZR α := if zin i (zln h a ai) = true ∧ zB h ≤ a then K (zwP h a (zix i) x) else none
def zaL {α : Type} (h : PH) (a ai : Nat) (i : Int32) (K : Int64 → ZR α) : ZR α := if zin i (zln h a ai) = true then K (zL h a (zix i)) else none
def zsL {α : Type} (h : PH) (a ai : Nat) (i : Int32) (x : Int64) (K : PH → ZR α) : ZR α := if zin i (zln h a ai) = true ∧ zB h ≤ a then K (zwL h a (zix i) x) else none
/-- elements of byte, boolean and double arrays -/
def zsY {α : Type} (h : PH) (a : Nat) (i : Int32) (x : Int32) (K : PH → ZR α) : ZR α := zsI h a 2 i (vp_nar .byte x) K
def zsZ {α : Type} (h : PH) (a : Nat) (i : Int32) (x : Int32) (K : PH → ZR α) : ZR α := zsI h a 1 i (vp_nar .boolean x) K
def zaD {α : Type} (h : PH) (a : Nat) (i : Int32) (K : UInt64 → ZR α) : ZR α := zaL h a 4 i (fun x => K x.toUInt64)
def zsD {α : Type} (h : PH) (a : Nat) (i : Int32) (x : UInt64) (K : PH → ZR α) : ZR α := zsL h a 4 i x.toInt64 K
/-- new objects and arrays; the address is the heap's size -/
def zno {α : Type} (h : PH) (ci N : Nat) (K : Nat → PH → ZR α) : ZR α := zadd 1 N (K (zN h) (znw h (.inl ci)))
def zna {α : Type} (h : PH) (ai : Nat) (n : Int32) (K : Nat → PH → ZR α) : ZR α := if 0 ≤ n ∧ n.toNatClampNeg ≤ 1000000 then zadd 1 (zix n) (K (zN h) (znw h (.inr (ai, zix n)))) else none
/-- calls: of what returns; of what may throw, passed on; of what may throw, caught -/
def zcl {α β : Type} (x : ZR β) (k : β → PH → ZR α) : ZR α := match x with
  | some (r, h, c, s) => zadd c s (k r h)
  | none => none
def zcx {α β : Type} (x : ZR (ZX β)) (k : β → PH → ZR (ZX α)) : ZR (ZX α) := match x with
  | some (.inl r, h, c, s) => zadd c s (k r h)
  | some (.inr e, h, c, s) => some (.inr e, h, c, s)
  | none => none
def zch {α β : Type} (x : ZR (ZX β)) (k : β → PH → ZR α) (kx : Nat → Nat → PH → ZR α) : ZR α := match x with
  | some (.inl r, h, c, s) => zadd c s (k r h)
  | some (.inr e, h, c, s) => zadd c s (kx e.1 e.2 h)
  | none => none
/-- throw new E() of the JDK's, E by its number -/
def zth {α : Type} (e : Nat) (h : PH) : ZR (ZX α) := some (.inr (e, zN h), znx h, 1, 6)
def zFU : Nat := 1000000
theorem zadd_i {α : Type} {c s C S : Nat} {x : ZR α} {r : α} {h : PH} (q : zadd c s x = some (r, h, C, S)) : ∃ C1 S1, x = some (r, h, C1, S1) ∧ C = c + C1 ∧ S = s + S1 := by
  cases x with
  | none => cases q
  | some z =>
    obtain ⟨r1, h1, C1, S1⟩ := z
    cases q
    exact ⟨C1, S1, rfl, rfl, rfl⟩
theorem zcl_i {α β : Type} {x : ZR β} {k : β → PH → ZR α} {C S : Nat} {r : α} {h : PH} (q : zcl x k = some (r, h, C, S)) : ∃ r1 h1 c s C1 S1, x = some (r1, h1, c, s) ∧ k r1 h1 = some (r, h, C1, S1) ∧ C = c + C1 ∧ S = s + S1 := by
  cases x with
  | none => cases q
  | some z =>
    obtain ⟨r1, h1, c, s⟩ := z
    obtain ⟨C1, S1, q1, q2, q3⟩ := zadd_i q
    exact ⟨r1, h1, c, s, C1, S1, rfl, q1, q2, q3⟩
theorem zgd_i {α : Type} {p : Prop} [Decidable p] {x : ZR α} {z : α × PH × Nat × Nat} (q : zgd p x = some z) : p ∧ x = some z := by
  unfold zgd at q
  split at q
  · exact ⟨by assumption, q⟩
  · cases q
theorem znn_i {α : Type} {o : Option Nat} {k : Nat → ZR α} {z : α × PH × Nat × Nat} (q : znn o k = some z) : ∃ a, o = some a ∧ k a = some z := by
  cases o with
  | none => cases q
  | some a => exact ⟨a, rfl, q⟩
theorem zif_t {α : Type} {p : Prop} [Decidable p] {x y : ZR α} {z : α × PH × Nat × Nat} (c : p) (q : (if p then x else y) = some z) : x = some z := by rwa [if_pos c] at q
theorem zif_f {α : Type} {p : Prop} [Decidable p] {x y : ZR α} {z : α × PH × Nat × Nat} (c : ¬ p) (q : (if p then x else y) = some z) : y = some z := by rwa [if_neg c] at q
theorem zret_i {α : Type} {r r1 : α} {h h1 : PH} {C S : Nat} (q : zret r h = some (r1, h1, C, S)) : r = r1 ∧ h = h1 ∧ C = 0 ∧ S = 0 := by
  cases q
  exact ⟨rfl, rfl, rfl, rfl⟩
theorem zin_vp {i : Int32} {o : Option Nat} (q : zin i o = true) : ∃ n, o = some n ∧ vp_in i n := by
  cases o with
  | none => cases q
  | some n =>
    refine ⟨n, rfl, ?_⟩
    simp only [zin, Bool.and_eq_true, decide_eq_true_eq] at q
    intro h
    rcases h with h | h
    · exact absurd q.1 (Int32.not_le.mpr h)
    · omega
theorem zln_i {h : PH} {a ai n : Nat} (q : zln h a ai = some n) : zT h a = some (.inr (ai, n)) := by
  unfold zln at q
  split at q
  · rename_i aj m hm
    split at q
    · rename_i e
      cases q
      rw [hm, e]
    · cases q
  · cases q
theorem zln_of {h : PH} {a ai n : Nat} (q : zT h a = some (.inr (ai, n))) : zln h a ai = some n := by
  unfold zln
  rw [q]
  exact if_pos rfl
