/-! SMALL ROWS: named numbers, booleans, references in fields, zero fields -/
set_option maxRecDepth 100000
theorem zcat_i (x : Int32) : (Value.int x).category = 1 := rfl
theorem zcat_l (x : Int64) : (Value.long x).category = 2 := rfl
theorem zcat_d (x : UInt64) : (Value.double x).category = 2 := rfl
theorem zcat_r (x : Nat) : (Value.ref x).category = 1 := rfl
theorem zcat_n : Value.null.category = 1 := rfl
def zn64 (r : UInt64) : Bool := decide (r &&& 0x7fffffffffffffff ≤ 0x7ff0000000000000)
theorem zn64_i {r : UInt64} (h : zn64 r = true) : vf_n64 r := by
  unfold zn64 at h
  unfold vf_n64
  exact of_decide_eq_true h
def zb01 (x : Int32) : Bool := decide (x = 0) || decide (x = 1)
theorem zb01_c {x : Int32} (h : zb01 x = true) : x = 0 ∨ x = 1 := by
  unfold zb01 at h
  simpa using h
theorem zb01_n {x : Int32} (h : zb01 x = true) : narrow .boolean (.int x) = .int x := by
  rcases zb01_c h with e | e <;> subst e <;> decide
theorem zb01_f {x : Int32} (h : zb01 x = true) : fits .boolean (.int x) = true := by
  rcases zb01_c h with e | e <;> subst e <;> decide
theorem znm_i {α β : Type} {x : β} {k : β → ZR α} {z : α × PH × Nat × Nat} (q : znm x k = some z) : ∃ y, y = x ∧ k y = some z := ⟨x, rfl, q⟩
theorem zn_rf {ty : FieldType} (x : Option Nat) (h : ty.isReference = true) : narrow ty (va_rf x) = va_rf x := by
  cases x <;> cases ty <;> first | rfl | cases h
theorem zf_rf {ty : FieldType} (x : Option Nat) (h : ty.isReference = true) : fits ty (va_rf x) = true := by
  cases x <;> cases ty <;> first | rfl | cases h
theorem zV_def {ty : FieldType} (hty : ty ≠ .float) {h : PH} {a k : Nat} (h1 : zI h a k = 0) (h2 : zP h a k = none) (h3 : zL h a k = 0) : zV ty h a k = defaultValue ty := by
  cases ty with
  | float => exact absurd rfl hty
  | long => show Value.long _ = _; rw [h3]; rfl
  | double => show Value.double _ = _; rw [h3]; rfl
  | object _ => show va_rf _ = _; rw [h2]; rfl
  | array _ => show va_rf _ = _; rw [h2]; rfl
  | _ => show Value.int _ = _; rw [h1]; rfl
theorem zd_X1 : ∀ k, k < 7 → ∀ h : PH, ∀ a : Nat, zI h a k = 0 → zP h a k = none → zL h a k = 0 → zV (zFt 0 k) h a k = defaultValue (zFt 0 k) := fun k hk h a h1 h2 h3 => zV_def ((show ∀ k, k < 7 → zFt 0 k ≠ .float by decide) k hk) h1 h2 h3
theorem zd_X2 : ∀ k, k < 4 → ∀ h : PH, ∀ a : Nat, zI h a k = 0 → zP h a k = none → zL h a k = 0 → zV (zFt 1 k) h a k = defaultValue (zFt 1 k) := fun k hk h a h1 h2 h3 => zV_def ((show ∀ k, k < 4 → zFt 1 k ≠ .float by decide) k hk) h1 h2 h3
theorem zd_X3 : ∀ k, k < 1 → ∀ h : PH, ∀ a : Nat, zI h a k = 0 → zP h a k = none → zL h a k = 0 → zV (zFt 2 k) h a k = defaultValue (zFt 2 k) := fun k hk h a h1 h2 h3 => zV_def ((show ∀ k, k < 1 → zFt 2 k ≠ .float by decide) k hk) h1 h2 h3
theorem zd_X4 : ∀ k, k < 31 → ∀ h : PH, ∀ a : Nat, zI h a k = 0 → zP h a k = none → zL h a k = 0 → zV (zFt 3 k) h a k = defaultValue (zFt 3 k) := fun k hk h a h1 h2 h3 => zV_def ((show ∀ k, k < 31 → zFt 3 k ≠ .float by decide) k hk) h1 h2 h3
theorem zd_X5 : ∀ k, k < 8 → ∀ h : PH, ∀ a : Nat, zI h a k = 0 → zP h a k = none → zL h a k = 0 → zV (zFt 4 k) h a k = defaultValue (zFt 4 k) := fun k hk h a h1 h2 h3 => zV_def ((show ∀ k, k < 8 → zFt 4 k ≠ .float by decide) k hk) h1 h2 h3
theorem zd_X6 : ∀ k, k < 8 → ∀ h : PH, ∀ a : Nat, zI h a k = 0 → zP h a k = none → zL h a k = 0 → zV (zFt 5 k) h a k = defaultValue (zFt 5 k) := fun k hk h a h1 h2 h3 => zV_def ((show ∀ k, k < 8 → zFt 5 k ≠ .float by decide) k hk) h1 h2 h3
theorem zd_X7 : ∀ k, k < 4 → ∀ h : PH, ∀ a : Nat, zI h a k = 0 → zP h a k = none → zL h a k = 0 → zV (zFt 6 k) h a k = defaultValue (zFt 6 k) := fun k hk h a h1 h2 h3 => zV_def ((show ∀ k, k < 4 → zFt 6 k ≠ .float by decide) k hk) h1 h2 h3
theorem zd_X8 : ∀ k, k < 6 → ∀ h : PH, ∀ a : Nat, zI h a k = 0 → zP h a k = none → zL h a k = 0 → zV (zFt 7 k) h a k = defaultValue (zFt 7 k) := fun k hk h a h1 h2 h3 => zV_def ((show ∀ k, k < 6 → zFt 7 k ≠ .float by decide) k hk) h1 h2 h3
theorem zd_X9 : ∀ k, k < 5 → ∀ h : PH, ∀ a : Nat, zI h a k = 0 → zP h a k = none → zL h a k = 0 → zV (zFt 8 k) h a k = defaultValue (zFt 8 k) := fun k hk h a h1 h2 h3 => zV_def ((show ∀ k, k < 5 → zFt 8 k ≠ .float by decide) k hk) h1 h2 h3
theorem zd_X11 : ∀ k, k < 3 → ∀ h : PH, ∀ a : Nat, zI h a k = 0 → zP h a k = none → zL h a k = 0 → zV (zFt 9 k) h a k = defaultValue (zFt 9 k) := fun k hk h a h1 h2 h3 => zV_def ((show ∀ k, k < 3 → zFt 9 k ≠ .float by decide) k hk) h1 h2 h3
theorem zd_X12 : ∀ k, k < 5 → ∀ h : PH, ∀ a : Nat, zI h a k = 0 → zP h a k = none → zL h a k = 0 → zV (zFt 10 k) h a k = defaultValue (zFt 10 k) := fun k hk h a h1 h2 h3 => zV_def ((show ∀ k, k < 5 → zFt 10 k ≠ .float by decide) k hk) h1 h2 h3
theorem zd_X13 : ∀ k, k < 2 → ∀ h : PH, ∀ a : Nat, zI h a k = 0 → zP h a k = none → zL h a k = 0 → zV (zFt 11 k) h a k = defaultValue (zFt 11 k) := fun k hk h a h1 h2 h3 => zV_def ((show ∀ k, k < 2 → zFt 11 k ≠ .float by decide) k hk) h1 h2 h3
theorem zd_J2 : ∀ k, k < 3 → ∀ h : PH, ∀ a : Nat, zI h a k = 0 → zP h a k = none → zL h a k = 0 → zV (zFt 12 k) h a k = defaultValue (zFt 12 k) := fun k hk h a h1 h2 h3 => zV_def ((show ∀ k, k < 3 → zFt 12 k ≠ .float by decide) k hk) h1 h2 h3
theorem zd_J3 : ∀ k, k < 3 → ∀ h : PH, ∀ a : Nat, zI h a k = 0 → zP h a k = none → zL h a k = 0 → zV (zFt 13 k) h a k = defaultValue (zFt 13 k) := fun k hk h a h1 h2 h3 => zV_def ((show ∀ k, k < 3 → zFt 13 k ≠ .float by decide) k hk) h1 h2 h3
theorem in_J10s : ∀ w ∈ u_ws RJ10 TJ10 2, w ∈ lw_all := lw_in (u_ws RJ10 TJ10 2) [387, 389] (by decide +kernel) (by decide +kernel)
theorem tyJ10s_ok : ∀ k, k < 2 → parseFieldDescriptor (TJ10 k).2.2.1 = some (tyJ10 k) := by decide +kernel
theorem nmJ10s : ∀ a, a < 2 → ∀ b, b < 2 → a ≠ b → (TJ10 a).2.1 ≠ (TJ10 b).2.1 := by decide +kernel
theorem zd_J10 : ∀ k, k < 2 → ∀ h : PH, ∀ a : Nat, zI h a k = 0 → zP h a k = none → zL h a k = 0 → zV (zFt 14 k) h a k = defaultValue (zFt 14 k) := fun k hk h a h1 h2 h3 => zV_def ((show ∀ k, k < 2 → zFt 14 k ≠ .float by decide) k hk) h1 h2 h3
theorem zd_J13 : ∀ k, k < 4 → ∀ h : PH, ∀ a : Nat, zI h a k = 0 → zP h a k = none → zL h a k = 0 → zV (zFt 15 k) h a k = defaultValue (zFt 15 k) := fun k hk h a h1 h2 h3 => zV_def ((show ∀ k, k < 4 → zFt 15 k ≠ .float by decide) k hk) h1 h2 h3
theorem zd_J24 : ∀ k, k < 1 → ∀ h : PH, ∀ a : Nat, zI h a k = 0 → zP h a k = none → zL h a k = 0 → zV (zFt 16 k) h a k = defaultValue (zFt 16 k) := fun k hk h a h1 h2 h3 => zV_def ((show ∀ k, k < 1 → zFt 16 k ≠ .float by decide) k hk) h1 h2 h3
theorem zd_J27 : ∀ k, k < 4 → ∀ h : PH, ∀ a : Nat, zI h a k = 0 → zP h a k = none → zL h a k = 0 → zV (zFt 17 k) h a k = defaultValue (zFt 17 k) := fun k hk h a h1 h2 h3 => zV_def ((show ∀ k, k < 4 → zFt 17 k ≠ .float by decide) k hk) h1 h2 h3
section ZROW3
variable {p : Program} {l : Launch} {e : Env} {R : Room} {s : State} {m : MethodId} {args : Array Value} {below : List Frame} {meth : Method} {c : Code} {H : Heap} {locs : List Loc} {cells slots : Nat} {Q : State → Prop}
variable {pc : Nat} {ls : Array Slot} {rest : List Value}
theorem zr_nmI {α : Type} {x : Int32} {K : Int32 → ZR α} {z : α × PH × Nat × Nat} (hf : znm x K = some z) (kk : ∀ y : Int32, K y = some z → W p l e R s m args below meth c H locs cells slots Q (F0 m pc ls (.int y :: rest))) : W p l e R s m args below meth c H locs cells slots Q (F0 m pc ls (.int x :: rest)) := kk x hf
theorem zr_nmL {α : Type} {x : Int64} {K : Int64 → ZR α} {z : α × PH × Nat × Nat} (hf : znm x K = some z) (kk : ∀ y : Int64, K y = some z → W p l e R s m args below meth c H locs cells slots Q (F0 m pc ls (.long y :: rest))) : W p l e R s m args below meth c H locs cells slots Q (F0 m pc ls (.long x :: rest)) := kk x hf
theorem zr_nmD {α : Type} {x : UInt64} {K : UInt64 → ZR α} {z : α × PH × Nat × Nat} (hf : znm x K = some z) (kk : ∀ y : UInt64, K y = some z → W p l e R s m args below meth c H locs cells slots Q (F0 m pc ls (.double y :: rest))) : W p l e R s m args below meth c H locs cells slots Q (F0 m pc ls (.double x :: rest)) := kk x hf
theorem zroomL {st : List Value} {lo : Nat} (h : st.length ≤ 4) (hl : 20 ≤ lo) : 2 * (F0 m pc ls rest).monitorRoom + (st.map fun v => v.category).sum + 12 ≤ lo := by
  have h1 := zroom h
  show 2 * 0 + _ + 12 ≤ lo
  omega
end ZROW3
