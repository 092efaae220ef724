/-! 23.modelC (written by gen/mods.py) -/
set_option maxRecDepth 100000
theorem hd_X4_rowSize : yX4_rowSize.cls ≠ "java/lang/invoke/MethodHandle" ∧ yX4_rowSize.cls ≠ "java/lang/invoke/VarHandle" ∧ (parseMethodDescriptor yX4_rowSize.desc).map (fun d => d.parameters.length) = some 2 := by decide +kernel
def f_X4_rowSize (h : PH) (a0 : Nat) (v1 : Int32) (v2 : Int32) : ZR Int32 :=
  zrc h a0 3 <| zcl (f_X4_isList h a0 v1) fun x101 h102 =>
  if x101 = 0 then
    (zpI h102 a0 3 0 (1 : Int32) fun h111 =>
    zgI h111 a0 3 0 fun x112 =>
    if x112 ≤ 0 then
      (zrc h111 a0 3 <| zcl (f_X4_inRow h111 a0 v1 v2) fun x113 h114 =>
      zret x113 h114)
    else
      (zret (0 : Int32) h111))
  else
    (if (1 : Int32) ≤ v2 then
      (zpI h102 a0 3 0 (0 : Int32) fun h103 =>
      zgI h103 a0 3 0 fun x104 =>
      if x104 ≤ 0 then
        (zrc h103 a0 3 <| zcl (f_X4_inRow h103 a0 v1 v2) fun x105 h106 =>
        zret x105 h106)
      else
        (zret (0 : Int32) h103))
    else
      (zpI h102 a0 3 0 (2 : Int32) fun h107 =>
      zgI h107 a0 3 0 fun x108 =>
      if x108 ≤ 0 then
        (zrc h107 a0 3 <| zcl (f_X4_inRow h107 a0 v1 v2) fun x109 h110 =>
        zret x109 h110)
      else
        (zret (0 : Int32) h107)))
set_option maxHeartbeats 4000000 in
set_option maxRecDepth 100000 in
theorem m_X4_rowSize (l : Launch) (D : va_G) (dA : Nat → ClassId) (b0 : Nat) (gs : Nat → Option Nat) (h : PH) (a0 : Nat) (v1 : Int32) (v2 : Int32) {r : Int32} {hh : PH} {mc ms : Nat} (hf : f_X4_rowSize h a0 v1 v2 = some (r, hh, mc, ms)) : zMt l D dA b0 gs yX4_rowSize cX4_rowSize 3 (some .int) 3 106 [.ref a0, .int v1, .int v2] h (evI r) hh mc ms := by
  unfold f_X4_rowSize at hf
  refine zMt.of (by decide) (Nat.le_of_ble_eq_true rfl) ?_
  intro p e s m args below meth c hc hr hin hn ls hl
  have hl : lv_has ls 3 [(0, .ref a0), (1, .int v1), (2, .int v2)] := hl
  have hq : 0 + mc = mc ∧ 0 + ms = ms := ⟨Nat.zero_add _, Nat.zero_add _⟩
  have hx := hc.x
  have hb := hc.b
  refine lv_aload_n (x := a0) hx hb dX4_rowSize_0 rfl (lv_at hl 0 rfl) ?_
  refine lv_aload_n (x := a0) hx hb dX4_rowSize_1 rfl (lv_at hl 0 rfl) ?_
  refine lv_iload_n hx hb dX4_rowSize_2 rfl (lv_at hl 1 rfl) ?_
  refine zr_cVI (As := [.int v1]) (rest := [.ref a0]) hc hn hq (ci := 3) rfl ⟨rfl, hd_X4_isList⟩ (lw_V q2343 q2345 qs57 q91 q2346) (Nat.le_of_ble_eq_true rfl) (Nat.le_of_ble_eq_true rfl) (fun _ _ _ _ q => m_X4_isList l D dA b0 gs h a0 v1 q) hf dX4_rowSize_3 hl.1 rfl rfl (zroom (Nat.le_of_ble_eq_true rfl)) (fun x101 h102 H locs cells slots C9 S9 hf hq hn => ?_)
  refine lv_if_ne (tgt := 13) hx hb dX4_rowSize_6 (by decide) (fun c9 => ?_) (fun c9 => ?_)
  · have hf := zif_f c9 hf
    refine lv_iload_n hx hb dX4_rowSize_13 rfl (lv_at hl 2 rfl) ?_
    refine lv_iconst (v := (1 : Int32)) hx hb dX4_rowSize_14 (by decide) ?_
    refine lv_icmp_ge (tgt := 22) hx hb dX4_rowSize_15 (by decide) (fun c9 => ?_) (fun c9 => ?_)
    · have hf := zif_t c9 hf
      refine lv_iconst (v := (0 : Int32)) hx hb dX4_rowSize_22 (by decide) ?_
      refine zr_pI (x := (0 : Int32)) hc hn (ci := 3) rfl rfl in_X4 0 (by decide) tyX4 tyX4_ok nmX4 q2099 (fun _ h => h) (Or.inl rfl) (fun _ _ _ => rfl) rfl rfl hf dX4_rowSize_23 (fun h103 H locs hf hn => ?_)
      refine lv_aload_n (x := a0) hx hb dX4_rowSize_26 rfl (lv_at hl 0 rfl) ?_
      refine zr_gI hc hn (ci := 3) rfl rfl in_X4 0 (by decide) q2099 (fun _ h => h) (fun _ _ _ => rfl) hf dX4_rowSize_27 (fun x104 hf => ?_)
      refine lv_if_le (tgt := 37) hx hb dX4_rowSize_30 (by decide) (fun c9 => ?_) (fun c9 => ?_)
      · have hf := zif_t c9 hf
        refine lv_aload_n (x := a0) hx hb dX4_rowSize_37 rfl (lv_at hl 0 rfl) ?_
        refine lv_iload_n hx hb dX4_rowSize_38 rfl (lv_at hl 1 rfl) ?_
        refine lv_iload_n hx hb dX4_rowSize_39 rfl (lv_at hl 2 rfl) ?_
        refine zr_cVI (As := [.int v1, .int v2]) (rest := []) hc hn hq (ci := 3) rfl ⟨rfl, hd_X4_inRow⟩ (lw_V q2417 q2419 qs63 q91 q2420) (Nat.le_of_ble_eq_true rfl) (Nat.le_of_ble_eq_true rfl) (fun _ _ _ _ q => m_X4_inRow l D dA b0 gs h103 a0 v1 v2 q) hf dX4_rowSize_40 hl.1 rfl rfl (zroom (Nat.le_of_ble_eq_true rfl)) (fun x105 h106 H locs cells slots C9 S9 hf hq hn => ?_)
        obtain ⟨rfl, rfl, rfl, rfl⟩ := zret_i hf
        exact zr_iret hc hn hr hq (fun _ _ _ _ q => q) dX4_rowSize_43
      · have hf := zif_f c9 hf
        refine lv_iconst (v := (0 : Int32)) hx hb dX4_rowSize_33 (by decide) ?_
        refine lv_goto (tgt := 43) hx hb dX4_rowSize_34 (by decide) ?_
        obtain ⟨rfl, rfl, rfl, rfl⟩ := zret_i hf
        exact zr_iret hc hn hr hq (fun _ _ _ _ q => q) dX4_rowSize_43
    · have hf := zif_f c9 hf
      refine lv_iconst (v := (2 : Int32)) hx hb dX4_rowSize_18 (by decide) ?_
      refine lv_goto (tgt := 23) hx hb dX4_rowSize_19 (by decide) ?_
      refine zr_pI (x := (2 : Int32)) hc hn (ci := 3) rfl rfl in_X4 0 (by decide) tyX4 tyX4_ok nmX4 q2099 (fun _ h => h) (Or.inl rfl) (fun _ _ _ => rfl) rfl rfl hf dX4_rowSize_23 (fun h107 H locs hf hn => ?_)
      refine lv_aload_n (x := a0) hx hb dX4_rowSize_26 rfl (lv_at hl 0 rfl) ?_
      refine zr_gI hc hn (ci := 3) rfl rfl in_X4 0 (by decide) q2099 (fun _ h => h) (fun _ _ _ => rfl) hf dX4_rowSize_27 (fun x108 hf => ?_)
      refine lv_if_le (tgt := 37) hx hb dX4_rowSize_30 (by decide) (fun c9 => ?_) (fun c9 => ?_)
      · have hf := zif_t c9 hf
        refine lv_aload_n (x := a0) hx hb dX4_rowSize_37 rfl (lv_at hl 0 rfl) ?_
        refine lv_iload_n hx hb dX4_rowSize_38 rfl (lv_at hl 1 rfl) ?_
        refine lv_iload_n hx hb dX4_rowSize_39 rfl (lv_at hl 2 rfl) ?_
        refine zr_cVI (As := [.int v1, .int v2]) (rest := []) hc hn hq (ci := 3) rfl ⟨rfl, hd_X4_inRow⟩ (lw_V q2417 q2419 qs63 q91 q2420) (Nat.le_of_ble_eq_true rfl) (Nat.le_of_ble_eq_true rfl) (fun _ _ _ _ q => m_X4_inRow l D dA b0 gs h107 a0 v1 v2 q) hf dX4_rowSize_40 hl.1 rfl rfl (zroom (Nat.le_of_ble_eq_true rfl)) (fun x109 h110 H locs cells slots C9 S9 hf hq hn => ?_)
        obtain ⟨rfl, rfl, rfl, rfl⟩ := zret_i hf
        exact zr_iret hc hn hr hq (fun _ _ _ _ q => q) dX4_rowSize_43
      · have hf := zif_f c9 hf
        refine lv_iconst (v := (0 : Int32)) hx hb dX4_rowSize_33 (by decide) ?_
        refine lv_goto (tgt := 43) hx hb dX4_rowSize_34 (by decide) ?_
        obtain ⟨rfl, rfl, rfl, rfl⟩ := zret_i hf
        exact zr_iret hc hn hr hq (fun _ _ _ _ q => q) dX4_rowSize_43
  · have hf := zif_t c9 hf
    refine lv_iconst (v := (1 : Int32)) hx hb dX4_rowSize_9 (by decide) ?_
    refine lv_goto (tgt := 23) hx hb dX4_rowSize_10 (by decide) ?_
    refine zr_pI (x := (1 : Int32)) hc hn (ci := 3) rfl rfl in_X4 0 (by decide) tyX4 tyX4_ok nmX4 q2099 (fun _ h => h) (Or.inl rfl) (fun _ _ _ => rfl) rfl rfl hf dX4_rowSize_23 (fun h111 H locs hf hn => ?_)
    refine lv_aload_n (x := a0) hx hb dX4_rowSize_26 rfl (lv_at hl 0 rfl) ?_
    refine zr_gI hc hn (ci := 3) rfl rfl in_X4 0 (by decide) q2099 (fun _ h => h) (fun _ _ _ => rfl) hf dX4_rowSize_27 (fun x112 hf => ?_)
    refine lv_if_le (tgt := 37) hx hb dX4_rowSize_30 (by decide) (fun c9 => ?_) (fun c9 => ?_)
    · have hf := zif_t c9 hf
      refine lv_aload_n (x := a0) hx hb dX4_rowSize_37 rfl (lv_at hl 0 rfl) ?_
      refine lv_iload_n hx hb dX4_rowSize_38 rfl (lv_at hl 1 rfl) ?_
      refine lv_iload_n hx hb dX4_rowSize_39 rfl (lv_at hl 2 rfl) ?_
      refine zr_cVI (As := [.int v1, .int v2]) (rest := []) hc hn hq (ci := 3) rfl ⟨rfl, hd_X4_inRow⟩ (lw_V q2417 q2419 qs63 q91 q2420) (Nat.le_of_ble_eq_true rfl) (Nat.le_of_ble_eq_true rfl) (fun _ _ _ _ q => m_X4_inRow l D dA b0 gs h111 a0 v1 v2 q) hf dX4_rowSize_40 hl.1 rfl rfl (zroom (Nat.le_of_ble_eq_true rfl)) (fun x113 h114 H locs cells slots C9 S9 hf hq hn => ?_)
      obtain ⟨rfl, rfl, rfl, rfl⟩ := zret_i hf
      exact zr_iret hc hn hr hq (fun _ _ _ _ q => q) dX4_rowSize_43
    · have hf := zif_f c9 hf
      refine lv_iconst (v := (0 : Int32)) hx hb dX4_rowSize_33 (by decide) ?_
      refine lv_goto (tgt := 43) hx hb dX4_rowSize_34 (by decide) ?_
      obtain ⟨rfl, rfl, rfl, rfl⟩ := zret_i hf
      exact zr_iret hc hn hr hq (fun _ _ _ _ q => q) dX4_rowSize_43
theorem hd_X4_isLevel : yX4_isLevel.cls ≠ "java/lang/invoke/MethodHandle" ∧ yX4_isLevel.cls ≠ "java/lang/invoke/VarHandle" ∧ (parseMethodDescriptor yX4_isLevel.desc).map (fun d => d.parameters.length) = some 2 := by decide +kernel
def f_X4_isLevel (h : PH) (a0 : Nat) (v1 : Int32) (v2 : Int32) : ZR Int32 :=
  zrc h a0 3 <| zcl (f_X4_isList h a0 v1) fun x101 h102 =>
  if x101 = 0 then
    (zret (0 : Int32) h102)
  else
    (znm v2.toInt64 fun x103 =>
    zrc h102 a0 3 <| zcl (f_X4_heightOf h102 a0 v1) fun x104 h105 =>
    znm x104.toInt64 fun x106 =>
    zcl (f_X4_in h105 x103 (1 : Int64) x106) fun x107 h108 =>
    if x107 = 0 then
      (zret (0 : Int32) h108)
    else
      (zret (1 : Int32) h108))
set_option maxHeartbeats 4000000 in
set_option maxRecDepth 100000 in
theorem m_X4_isLevel (l : Launch) (D : va_G) (dA : Nat → ClassId) (b0 : Nat) (gs : Nat → Option Nat) (h : PH) (a0 : Nat) (v1 : Int32) (v2 : Int32) {r : Int32} {hh : PH} {mc ms : Nat} (hf : f_X4_isLevel h a0 v1 v2 = some (r, hh, mc, ms)) : zMt l D dA b0 gs yX4_isLevel cX4_isLevel 3 (some .boolean) 3 106 [.ref a0, .int v1, .int v2] h (evI r) hh mc ms := by
  unfold f_X4_isLevel at hf
  refine zMt.of (by decide) (Nat.le_of_ble_eq_true rfl) ?_
  intro p e s m args below meth c hc hr hin hn ls hl
  have hl : lv_has ls 3 [(0, .ref a0), (1, .int v1), (2, .int v2)] := hl
  have hq : 0 + mc = mc ∧ 0 + ms = ms := ⟨Nat.zero_add _, Nat.zero_add _⟩
  have hx := hc.x
  have hb := hc.b
  refine lv_aload_n (x := a0) hx hb dX4_isLevel_0 rfl (lv_at hl 0 rfl) ?_
  refine lv_iload_n hx hb dX4_isLevel_1 rfl (lv_at hl 1 rfl) ?_
  refine zr_cVI (As := [.int v1]) (rest := []) hc hn hq (ci := 3) rfl ⟨rfl, hd_X4_isList⟩ (lw_V q2343 q2345 qs57 q91 q2346) (Nat.le_of_ble_eq_true rfl) (Nat.le_of_ble_eq_true rfl) (fun _ _ _ _ q => m_X4_isList l D dA b0 gs h a0 v1 q) hf dX4_isLevel_2 hl.1 rfl rfl (zroom (Nat.le_of_ble_eq_true rfl)) (fun x101 h102 H locs cells slots C9 S9 hf hq hn => ?_)
  refine lv_if_eq (tgt := 27) hx hb dX4_isLevel_5 (by decide) (fun c9 => ?_) (fun c9 => ?_)
  · have hf := zif_t c9 hf
    refine lv_iconst (v := (0 : Int32)) hx hb dX4_isLevel_27 (by decide) ?_
    obtain ⟨rfl, rfl, rfl, rfl⟩ := zret_i hf
    exact zr_zret hc hn hr (by decide) hq (fun _ _ _ _ q => q) dX4_isLevel_28
  · have hf := zif_f c9 hf
    refine lv_iload_n hx hb dX4_isLevel_8 rfl (lv_at hl 2 rfl) ?_
    refine lv_i2l (v := v2.toInt64) hx hb dX4_isLevel_9 rfl ?_
    refine zr_nmL hf (fun x103 hf => ?_)
    refine lv_lconst (v := (1 : Int64)) hx hb dX4_isLevel_10 (by decide) ?_
    refine lv_aload_n (x := a0) hx hb dX4_isLevel_11 rfl (lv_at hl 0 rfl) ?_
    refine lv_iload_n hx hb dX4_isLevel_12 rfl (lv_at hl 1 rfl) ?_
    refine zr_cVI (As := [.int v1]) (rest := [.long (1 : Int64), .long x103]) hc hn hq (ci := 3) rfl ⟨rfl, hd_X4_heightOf⟩ (lw_V q2299 q2301 qs50 q91 q2302) (Nat.le_of_ble_eq_true rfl) (Nat.le_of_ble_eq_true rfl) (fun _ _ _ _ q => m_X4_heightOf l D dA b0 gs h102 a0 v1 q) hf dX4_isLevel_13 hl.1 rfl rfl (zroom (Nat.le_of_ble_eq_true rfl)) (fun x104 h105 H locs cells slots C9 S9 hf hq hn => ?_)
    refine lv_i2l (v := x104.toInt64) hx hb dX4_isLevel_16 rfl ?_
    refine zr_nmL hf (fun x106 hf => ?_)
    refine zr_cSI (As := [.long x103, .long (1 : Int64), .long x106]) (rest := []) hc hn hq hd_X4_in (lw_S q2211 q2212 q91 q2213) (Nat.le_of_ble_eq_true rfl) (Nat.le_of_ble_eq_true rfl) (fun _ _ _ _ q => m_X4_in l D dA b0 gs h105 x103 (1 : Int64) x106 q) hf dX4_isLevel_17 hl.1 rfl rfl (zroom (Nat.le_of_ble_eq_true rfl)) (fun x107 h108 H locs cells slots C9 S9 hf hq hn => ?_)
    refine lv_if_eq (tgt := 27) hx hb dX4_isLevel_20 (by decide) (fun c9 => ?_) (fun c9 => ?_)
    · have hf := zif_t c9 hf
      refine lv_iconst (v := (0 : Int32)) hx hb dX4_isLevel_27 (by decide) ?_
      obtain ⟨rfl, rfl, rfl, rfl⟩ := zret_i hf
      exact zr_zret hc hn hr (by decide) hq (fun _ _ _ _ q => q) dX4_isLevel_28
    · have hf := zif_f c9 hf
      refine lv_iconst (v := (1 : Int32)) hx hb dX4_isLevel_23 (by decide) ?_
      refine lv_goto (tgt := 28) hx hb dX4_isLevel_24 (by decide) ?_
      obtain ⟨rfl, rfl, rfl, rfl⟩ := zret_i hf
      exact zr_zret hc hn hr (by decide) hq (fun _ _ _ _ q => q) dX4_isLevel_28
theorem hd_X4_beginOf : yX4_beginOf.cls ≠ "java/lang/invoke/MethodHandle" ∧ yX4_beginOf.cls ≠ "java/lang/invoke/VarHandle" ∧ (parseMethodDescriptor yX4_beginOf.desc).map (fun d => d.parameters.length) = some 3 := by decide +kernel
def f_X4_beginOf_b25 : Nat → PH → Nat → Int32 → Int32 → Int32 → Int32 → Int32 → ZR Int32
  | 0 => fun _ _ _ _ _ _ _ => none
  | n + 1 => fun h a0 v1 v2 v3 v4 v5 =>
    if v3 ≤ v5 then
      (zret v4 h)
    else
      (zrc h a0 3 <| zcl (f_X4_after h a0 v1 v2 v4) fun x101 h102 =>
      znm (v5 + (1 : Int32)) fun x103 =>
      f_X4_beginOf_b25 n h102 a0 v1 v2 v3 x101 x103)
def f_X4_beginOf (h : PH) (a0 : Nat) (v1 : Int32) (v2 : Int32) (v3 : Int32) : ZR Int32 :=
  znm v3.toInt64 fun x101 =>
  zrc h a0 3 <| zcl (f_X4_inRow h a0 v1 v2) fun x102 h103 =>
  znm x102.toInt64 fun x104 =>
  zcl (f_X4_in h103 x101 (0 : Int64) x104) fun x105 h106 =>
  if x105 = 0 then
    (zret (-2 : Int32) h106)
  else
    (f_X4_beginOf_b25 zFU h106 a0 v1 v2 v3 (-1 : Int32) (0 : Int32))
set_option maxHeartbeats 4000000 in
set_option maxRecDepth 100000 in
theorem m_X4_beginOf_b25 {p : Program} {l : Launch} {e : Env} {s : State} {m : MethodId} {args : Array Value} {below : List Frame} {meth : Method} {c : Code} {D : va_G} {dA : Nat → ClassId} {b0 : Nat} {gs : Nat → Option Nat} (hc : zC D dA b0 gs yX4_beginOf.cls cX4_beginOf 6 p c s m args meth) (hr : meth.sig.returnType = (some .int)) (hin : meth.name = yX4_beginOf.name) {r : Int32} {hh : PH} {mc ms : Nat} : ∀ (n : Nat) (h : PH) (a0 : Nat) (v1 : Int32) (v2 : Int32) (v3 : Int32) (v4 : Int32) (v5 : Int32) (C9 S9 : Nat) (H : Heap) (locs : List Loc) (cells slots : Nat), f_X4_beginOf_b25 n h a0 v1 v2 v3 v4 v5 = some (r, hh, C9, S9) → cells + C9 = mc ∧ slots + S9 = ms → zM D dA b0 gs s h H locs → ∀ ls : Array Slot, lv_has ls 6 [(0, .ref a0), (1, .int v1), (2, .int v2), (3, .int v3), (4, .int v4), (5, .int v5)] → W p l e ({ frames := 3, cells := mc, slots := ms, locals := 105 } : Room) s m args below meth c H locs cells slots (MQ below (zQ D dA b0 gs (evI r) hh) args s mc ms (zA b0)) (F0 m 25 ls []) := by
  have hx := hc.x
  have hb := hc.b
  intro n
  induction n with
  | zero =>
    intro h a0 v1 v2 v3 v4 v5 C9 S9 H locs cells slots hf hq hn ls hl
    cases hf
  | succ n ih =>
    intro h a0 v1 v2 v3 v4 v5 C9 S9 H locs cells slots hf hq hn ls hl
    unfold f_X4_beginOf_b25 at hf
    refine lv_iload hx hb dX4_beginOf_25 (lv_at hl 5 rfl) ?_
    refine lv_iload_n hx hb dX4_beginOf_27 rfl (lv_at hl 3 rfl) ?_
    refine lv_icmp_ge (tgt := 47) hx hb dX4_beginOf_28 (by decide) (fun c9 => ?_) (fun c9 => ?_)
    · have hf := zif_t c9 hf
      refine lv_iload hx hb dX4_beginOf_47 (lv_at hl 4 rfl) ?_
      obtain ⟨rfl, rfl, rfl, rfl⟩ := zret_i hf
      exact zr_iret hc hn hr hq (fun _ _ _ _ q => q) dX4_beginOf_49
    · have hf := zif_f c9 hf
      refine lv_aload_n (x := a0) hx hb dX4_beginOf_31 rfl (lv_at hl 0 rfl) ?_
      refine lv_iload_n hx hb dX4_beginOf_32 rfl (lv_at hl 1 rfl) ?_
      refine lv_iload_n hx hb dX4_beginOf_33 rfl (lv_at hl 2 rfl) ?_
      refine lv_iload hx hb dX4_beginOf_34 (lv_at hl 4 rfl) ?_
      refine zr_cVI (As := [.int v1, .int v2, .int v4]) (rest := []) hc hn hq (ci := 3) rfl ⟨rfl, hd_X4_after⟩ (lw_V q2303 q2305 qs51 q91 q2306) (Nat.le_of_ble_eq_true rfl) (Nat.le_of_ble_eq_true rfl) (fun _ _ _ _ q => m_X4_after l D dA b0 gs h a0 v1 v2 v4 q) hf dX4_beginOf_36 hl.1 rfl rfl (zroom (Nat.le_of_ble_eq_true rfl)) (fun x101 h102 H locs cells slots C9 S9 hf hq hn => ?_)
      refine lv_istore (lv' := [(4, .int x101), (0, .ref a0), (1, .int v1), (2, .int v2), (3, .int v3), (5, .int v5)]) hx hb dX4_beginOf_39 hl (by decide) rfl (fun ls hl => ?_)
      obtain ⟨x103, ex103, hf⟩ := znm_i hf
      refine lv_iinc (v := x103) (lv' := [(5, .int x103), (4, .int x101), (0, .ref a0), (1, .int v1), (2, .int v2), (3, .int v3)]) hx hb dX4_beginOf_41 hl (k := 5) rfl (by rw [ex103]; rfl) (by decide) rfl (fun ls hl => ?_)
      refine lv_goto (tgt := 25) hx hb dX4_beginOf_44 (by decide) ?_
      exact ih h102 a0 v1 v2 v3 x101 x103 _ _ _ _ _ _ hf hq hn _ (lv_sub hl [2, 3, 4, 5, 1, 0] rfl)
set_option maxHeartbeats 4000000 in
set_option maxRecDepth 100000 in
theorem m_X4_beginOf (l : Launch) (D : va_G) (dA : Nat → ClassId) (b0 : Nat) (gs : Nat → Option Nat) (h : PH) (a0 : Nat) (v1 : Int32) (v2 : Int32) (v3 : Int32) {r : Int32} {hh : PH} {mc ms : Nat} (hf : f_X4_beginOf h a0 v1 v2 v3 = some (r, hh, mc, ms)) : zMt l D dA b0 gs yX4_beginOf cX4_beginOf 6 (some .int) 3 105 [.ref a0, .int v1, .int v2, .int v3] h (evI r) hh mc ms := by
  unfold f_X4_beginOf at hf
  refine zMt.of (by decide) (Nat.le_of_ble_eq_true rfl) ?_
  intro p e s m args below meth c hc hr hin hn ls hl
  have hl : lv_has ls 6 [(0, .ref a0), (1, .int v1), (2, .int v2), (3, .int v3)] := hl
  have hq : 0 + mc = mc ∧ 0 + ms = ms := ⟨Nat.zero_add _, Nat.zero_add _⟩
  have hx := hc.x
  have hb := hc.b
  refine lv_iload_n hx hb dX4_beginOf_0 rfl (lv_at hl 3 rfl) ?_
  refine lv_i2l (v := v3.toInt64) hx hb dX4_beginOf_1 rfl ?_
  refine zr_nmL hf (fun x101 hf => ?_)
  refine lv_lconst (v := (0 : Int64)) hx hb dX4_beginOf_2 (by decide) ?_
  refine lv_aload_n (x := a0) hx hb dX4_beginOf_3 rfl (lv_at hl 0 rfl) ?_
  refine lv_iload_n hx hb dX4_beginOf_4 rfl (lv_at hl 1 rfl) ?_
  refine lv_iload_n hx hb dX4_beginOf_5 rfl (lv_at hl 2 rfl) ?_
  refine zr_cVI (As := [.int v1, .int v2]) (rest := [.long (0 : Int64), .long x101]) hc hn hq (ci := 3) rfl ⟨rfl, hd_X4_inRow⟩ (lw_V q2417 q2419 qs63 q91 q2420) (Nat.le_of_ble_eq_true rfl) (Nat.le_of_ble_eq_true rfl) (fun _ _ _ _ q => m_X4_inRow l D dA b0 gs h a0 v1 v2 q) hf dX4_beginOf_6 hl.1 rfl rfl (zroom (Nat.le_of_ble_eq_true rfl)) (fun x102 h103 H locs cells slots C9 S9 hf hq hn => ?_)
  refine lv_i2l (v := x102.toInt64) hx hb dX4_beginOf_9 rfl ?_
  refine zr_nmL hf (fun x104 hf => ?_)
  refine zr_cSI (As := [.long x101, .long (0 : Int64), .long x104]) (rest := []) hc hn hq hd_X4_in (lw_S q2211 q2212 q91 q2213) (Nat.le_of_ble_eq_true rfl) (Nat.le_of_ble_eq_true rfl) (fun _ _ _ _ q => m_X4_in l D dA b0 gs h103 x101 (0 : Int64) x104 q) hf dX4_beginOf_10 hl.1 rfl rfl (zroom (Nat.le_of_ble_eq_true rfl)) (fun x105 h106 H locs cells slots C9 S9 hf hq hn => ?_)
  refine lv_if_ne (tgt := 19) hx hb dX4_beginOf_13 (by decide) (fun c9 => ?_) (fun c9 => ?_)
  · have hf := zif_f c9 hf
    refine lv_iconst (v := (-1 : Int32)) hx hb dX4_beginOf_19 (by decide) ?_
    refine lv_istore (lv' := [(4, .int (-1 : Int32)), (0, .ref a0), (1, .int v1), (2, .int v2), (3, .int v3)]) hx hb dX4_beginOf_20 hl (by decide) rfl (fun ls hl => ?_)
    refine lv_iconst (v := (0 : Int32)) hx hb dX4_beginOf_22 (by decide) ?_
    refine lv_istore (lv' := [(5, .int (0 : Int32)), (4, .int (-1 : Int32)), (0, .ref a0), (1, .int v1), (2, .int v2), (3, .int v3)]) hx hb dX4_beginOf_23 hl (by decide) rfl (fun ls hl => ?_)
    exact m_X4_beginOf_b25 hc hr hin zFU h106 a0 v1 v2 v3 (-1 : Int32) (0 : Int32) _ _ _ _ _ _ hf hq hn _ (lv_sub hl [2, 3, 4, 5, 1, 0] rfl)
  · have hf := zif_t c9 hf
    refine lv_bipush (v := (-2 : Int32)) hx hb dX4_beginOf_16 (by decide) ?_
    obtain ⟨rfl, rfl, rfl, rfl⟩ := zret_i hf
    exact zr_iret hc hn hr hq (fun _ _ _ _ q => q) dX4_beginOf_18
theorem hd_X4_linkWidth : yX4_linkWidth.cls ≠ "java/lang/invoke/MethodHandle" ∧ yX4_linkWidth.cls ≠ "java/lang/invoke/VarHandle" ∧ (parseMethodDescriptor yX4_linkWidth.desc).map (fun d => d.parameters.length) = some 3 := by decide +kernel
def f_X4_linkWidth_b36 (h : PH) (a0 : Nat) (v1 : Int32) (v2 : Int32) (v4 : Int32) (s0 : Nat) (s1 : Int32) : ZR Int32 :=
  zpI h s0 3 0 s1 fun h101 =>
  zgI h101 a0 3 0 fun x102 =>
  if x102 ≤ 0 then
    (zrc h101 a0 3 <| zcl (f_X4_after h101 a0 v1 v2 v4) fun x103 h104 =>
    znm (x103 - v4) fun x105 =>
    zret x105 h104)
  else
    (zret (0 : Int32) h101)
def f_X4_linkWidth_b21 (h : PH) (a0 : Nat) (v1 : Int32) (v2 : Int32) (s0 : Int32) : ZR Int32 :=
  if s0 = (-2 : Int32) then
    (f_X4_linkWidth_b36 h a0 v1 v2 s0 a0 (1 : Int32))
  else
    (f_X4_linkWidth_b36 h a0 v1 v2 s0 a0 (0 : Int32))
def f_X4_linkWidth (h : PH) (a0 : Nat) (v1 : Int32) (v2 : Int32) (v3 : Int32) : ZR Int32 :=
  zrc h a0 3 <| zcl (f_X4_isLevel h a0 v1 v2) fun x101 h102 =>
  if x101 = 0 then
    (f_X4_linkWidth_b21 h102 a0 v1 v2 (-2 : Int32))
  else
    (zrc h102 a0 3 <| zcl (f_X4_beginOf h102 a0 v1 v2 v3) fun x103 h104 =>
    f_X4_linkWidth_b21 h104 a0 v1 v2 x103)
set_option maxHeartbeats 4000000 in
set_option maxRecDepth 100000 in
theorem m_X4_linkWidth_b36 {p : Program} {l : Launch} {e : Env} {s : State} {m : MethodId} {args : Array Value} {below : List Frame} {meth : Method} {c : Code} {D : va_G} {dA : Nat → ClassId} {b0 : Nat} {gs : Nat → Option Nat} (hc : zC D dA b0 gs yX4_linkWidth.cls cX4_linkWidth 5 p c s m args meth) (hr : meth.sig.returnType = (some .int)) (hin : meth.name = yX4_linkWidth.name) {r : Int32} {hh : PH} {mc ms : Nat} : ∀ (h : PH) (a0 : Nat) (v1 : Int32) (v2 : Int32) (v4 : Int32) (s0 : Nat) (s1 : Int32) (C9 S9 : Nat) (H : Heap) (locs : List Loc) (cells slots : Nat), f_X4_linkWidth_b36 h a0 v1 v2 v4 s0 s1 = some (r, hh, C9, S9) → cells + C9 = mc ∧ slots + S9 = ms → zM D dA b0 gs s h H locs → ∀ ls : Array Slot, lv_has ls 5 [(0, .ref a0), (1, .int v1), (2, .int v2), (4, .int v4)] → W p l e ({ frames := 4, cells := mc, slots := ms, locals := 130 } : Room) s m args below meth c H locs cells slots (MQ below (zQ D dA b0 gs (evI r) hh) args s mc ms (zA b0)) (F0 m 36 ls [.int s1, .ref s0]) := by
  have hx := hc.x
  have hb := hc.b
  intro h a0 v1 v2 v4 s0 s1 C9 S9 H locs cells slots hf hq hn ls hl
  unfold f_X4_linkWidth_b36 at hf
  refine zr_pI (x := s1) hc hn (ci := 3) rfl rfl in_X4 0 (by decide) tyX4 tyX4_ok nmX4 q2099 (fun _ h => h) (Or.inl rfl) (fun _ _ _ => rfl) rfl rfl hf dX4_linkWidth_36 (fun h101 H locs hf hn => ?_)
  refine lv_aload_n (x := a0) hx hb dX4_linkWidth_39 rfl (lv_at hl 0 rfl) ?_
  refine zr_gI hc hn (ci := 3) rfl rfl in_X4 0 (by decide) q2099 (fun _ h => h) (fun _ _ _ => rfl) hf dX4_linkWidth_40 (fun x102 hf => ?_)
  refine lv_if_le (tgt := 50) hx hb dX4_linkWidth_43 (by decide) (fun c9 => ?_) (fun c9 => ?_)
  · have hf := zif_t c9 hf
    refine lv_aload_n (x := a0) hx hb dX4_linkWidth_50 rfl (lv_at hl 0 rfl) ?_
    refine lv_iload_n hx hb dX4_linkWidth_51 rfl (lv_at hl 1 rfl) ?_
    refine lv_iload_n hx hb dX4_linkWidth_52 rfl (lv_at hl 2 rfl) ?_
    refine lv_iload hx hb dX4_linkWidth_53 (lv_at hl 3 rfl) ?_
    refine zr_cVI (As := [.int v1, .int v2, .int v4]) (rest := []) hc hn hq (ci := 3) rfl ⟨rfl, hd_X4_after⟩ (lw_V q2303 q2305 qs51 q91 q2306) (Nat.le_of_ble_eq_true rfl) (Nat.le_of_ble_eq_true rfl) (fun _ _ _ _ q => m_X4_after l D dA b0 gs h101 a0 v1 v2 v4 q) hf dX4_linkWidth_55 hl.1 rfl rfl (zroom (Nat.le_of_ble_eq_true rfl)) (fun x103 h104 H locs cells slots C9 S9 hf hq hn => ?_)
    refine lv_iload hx hb dX4_linkWidth_58 (lv_at hl 3 rfl) ?_
    refine lv_isub hx hb dX4_linkWidth_60 ?_
    refine zr_nmI hf (fun x105 hf => ?_)
    obtain ⟨rfl, rfl, rfl, rfl⟩ := zret_i hf
    exact zr_iret hc hn hr hq (fun _ _ _ _ q => q) dX4_linkWidth_61
  · have hf := zif_f c9 hf
    refine lv_iconst (v := (0 : Int32)) hx hb dX4_linkWidth_46 (by decide) ?_
    refine lv_goto (tgt := 61) hx hb dX4_linkWidth_47 (by decide) ?_
    obtain ⟨rfl, rfl, rfl, rfl⟩ := zret_i hf
    exact zr_iret hc hn hr hq (fun _ _ _ _ q => q) dX4_linkWidth_61
set_option maxHeartbeats 4000000 in
set_option maxRecDepth 100000 in
theorem m_X4_linkWidth_b21 {p : Program} {l : Launch} {e : Env} {s : State} {m : MethodId} {args : Array Value} {below : List Frame} {meth : Method} {c : Code} {D : va_G} {dA : Nat → ClassId} {b0 : Nat} {gs : Nat → Option Nat} (hc : zC D dA b0 gs yX4_linkWidth.cls cX4_linkWidth 5 p c s m args meth) (hr : meth.sig.returnType = (some .int)) (hin : meth.name = yX4_linkWidth.name) {r : Int32} {hh : PH} {mc ms : Nat} : ∀ (h : PH) (a0 : Nat) (v1 : Int32) (v2 : Int32) (s0 : Int32) (C9 S9 : Nat) (H : Heap) (locs : List Loc) (cells slots : Nat), f_X4_linkWidth_b21 h a0 v1 v2 s0 = some (r, hh, C9, S9) → cells + C9 = mc ∧ slots + S9 = ms → zM D dA b0 gs s h H locs → ∀ ls : Array Slot, lv_has ls 5 [(0, .ref a0), (1, .int v1), (2, .int v2)] → W p l e ({ frames := 4, cells := mc, slots := ms, locals := 130 } : Room) s m args below meth c H locs cells slots (MQ below (zQ D dA b0 gs (evI r) hh) args s mc ms (zA b0)) (F0 m 21 ls [.int s0]) := by
  have hx := hc.x
  have hb := hc.b
  intro h a0 v1 v2 s0 C9 S9 H locs cells slots hf hq hn ls hl
  unfold f_X4_linkWidth_b21 at hf
  refine lv_istore (lv' := [(4, .int s0), (0, .ref a0), (1, .int v1), (2, .int v2)]) hx hb dX4_linkWidth_21 hl (by decide) rfl (fun ls hl => ?_)
  refine lv_aload_n (x := a0) hx hb dX4_linkWidth_23 rfl (lv_at hl 1 rfl) ?_
  refine lv_iload hx hb dX4_linkWidth_24 (lv_at hl 0 rfl) ?_
  refine lv_bipush (v := (-2 : Int32)) hx hb dX4_linkWidth_26 (by decide) ?_
  refine lv_icmp_ne (tgt := 35) hx hb dX4_linkWidth_28 (by decide) (fun c9 => ?_) (fun c9 => ?_)
  · have hf := zif_f c9 hf
    refine lv_iconst (v := (0 : Int32)) hx hb dX4_linkWidth_35 (by decide) ?_
    exact m_X4_linkWidth_b36 hc hr hin h a0 v1 v2 s0 a0 (0 : Int32) _ _ _ _ _ _ hf hq hn _ (lv_sub hl [1, 2, 3, 0] rfl)
  · have hf := zif_t c9 hf
    refine lv_iconst (v := (1 : Int32)) hx hb dX4_linkWidth_31 (by decide) ?_
    refine lv_goto (tgt := 36) hx hb dX4_linkWidth_32 (by decide) ?_
    exact m_X4_linkWidth_b36 hc hr hin h a0 v1 v2 s0 a0 (1 : Int32) _ _ _ _ _ _ hf hq hn _ (lv_sub hl [1, 2, 3, 0] rfl)
set_option maxHeartbeats 4000000 in
set_option maxRecDepth 100000 in
theorem m_X4_linkWidth (l : Launch) (D : va_G) (dA : Nat → ClassId) (b0 : Nat) (gs : Nat → Option Nat) (h : PH) (a0 : Nat) (v1 : Int32) (v2 : Int32) (v3 : Int32) {r : Int32} {hh : PH} {mc ms : Nat} (hf : f_X4_linkWidth h a0 v1 v2 v3 = some (r, hh, mc, ms)) : zMt l D dA b0 gs yX4_linkWidth cX4_linkWidth 5 (some .int) 4 130 [.ref a0, .int v1, .int v2, .int v3] h (evI r) hh mc ms := by
  unfold f_X4_linkWidth at hf
  refine zMt.of (by decide) (Nat.le_of_ble_eq_true rfl) ?_
  intro p e s m args below meth c hc hr hin hn ls hl
  have hl : lv_has ls 5 [(0, .ref a0), (1, .int v1), (2, .int v2), (3, .int v3)] := hl
  have hq : 0 + mc = mc ∧ 0 + ms = ms := ⟨Nat.zero_add _, Nat.zero_add _⟩
  have hx := hc.x
  have hb := hc.b
  refine lv_aload_n (x := a0) hx hb dX4_linkWidth_0 rfl (lv_at hl 0 rfl) ?_
  refine lv_iload_n hx hb dX4_linkWidth_1 rfl (lv_at hl 1 rfl) ?_
  refine lv_iload_n hx hb dX4_linkWidth_2 rfl (lv_at hl 2 rfl) ?_
  refine zr_cVI (As := [.int v1, .int v2]) (rest := []) hc hn hq (ci := 3) rfl ⟨rfl, hd_X4_isLevel⟩ (lw_V q2425 q2427 qs64 q91 q2428) (Nat.le_of_ble_eq_true rfl) (Nat.le_of_ble_eq_true rfl) (fun _ _ _ _ q => m_X4_isLevel l D dA b0 gs h a0 v1 v2 q) hf dX4_linkWidth_3 hl.1 rfl rfl (zroom (Nat.le_of_ble_eq_true rfl)) (fun x101 h102 H locs cells slots C9 S9 hf hq hn => ?_)
  refine lv_if_eq (tgt := 19) hx hb dX4_linkWidth_6 (by decide) (fun c9 => ?_) (fun c9 => ?_)
  · have hf := zif_t c9 hf
    refine lv_bipush (v := (-2 : Int32)) hx hb dX4_linkWidth_19 (by decide) ?_
    exact m_X4_linkWidth_b21 hc hr hin h102 a0 v1 v2 (-2 : Int32) _ _ _ _ _ _ hf hq hn _ (lv_sub hl [0, 1, 2] rfl)
  · have hf := zif_f c9 hf
    refine lv_aload_n (x := a0) hx hb dX4_linkWidth_9 rfl (lv_at hl 0 rfl) ?_
    refine lv_iload_n hx hb dX4_linkWidth_10 rfl (lv_at hl 1 rfl) ?_
    refine lv_iload_n hx hb dX4_linkWidth_11 rfl (lv_at hl 2 rfl) ?_
    refine lv_iload_n hx hb dX4_linkWidth_12 rfl (lv_at hl 3 rfl) ?_
    refine zr_cVI (As := [.int v1, .int v2, .int v3]) (rest := []) hc hn hq (ci := 3) rfl ⟨rfl, hd_X4_beginOf⟩ (lw_V q2429 q2431 qs65 q91 q2432) (Nat.le_of_ble_eq_true rfl) (Nat.le_of_ble_eq_true rfl) (fun _ _ _ _ q => m_X4_beginOf l D dA b0 gs h102 a0 v1 v2 v3 q) hf dX4_linkWidth_13 hl.1 rfl rfl (zroom (Nat.le_of_ble_eq_true rfl)) (fun x103 h104 H locs cells slots C9 S9 hf hq hn => ?_)
    refine lv_goto (tgt := 21) hx hb dX4_linkWidth_16 (by decide) ?_
    exact m_X4_linkWidth_b21 hc hr hin h104 a0 v1 v2 x103 _ _ _ _ _ _ hf hq hn _ (lv_sub hl [0, 1, 2] rfl)
theorem hd_X4_linkSum : yX4_linkSum.cls ≠ "java/lang/invoke/MethodHandle" ∧ yX4_linkSum.cls ≠ "java/lang/invoke/VarHandle" ∧ (parseMethodDescriptor yX4_linkSum.desc).map (fun d => d.parameters.length) = some 3 := by decide +kernel
def f_X4_linkSum_b67 : Nat → PH → Nat → Int32 → Int32 → Int32 → Int32 → ZR Int32
  | 0 => fun _ _ _ _ _ _ => none
  | n + 1 => fun h a0 v1 v5 v6 v7 =>
    if v5 < v7 then
      (zret v6 h)
    else
      (zgP h a0 3 1 fun x101 =>
      zcl (f_X4_base h v1) fun x102 h103 =>
      znm (x102 + (1 : Int32)) fun x104 =>
      znn x101 fun a105 =>
      zaI h103 a105 0 x104 fun x106 =>
      if x106 ≤ v7 then
        (zret v6 h103)
      else
        (zgP h103 a0 3 1 fun x107 =>
        zcl (f_X4_base h103 v1) fun x108 h109 =>
        znm (x108 + (62 : Int32)) fun x110 =>
        znm (x110 + v7) fun x111 =>
        znn x107 fun a112 =>
        zaI h109 a112 0 x111 fun x113 =>
        znm (v6 + x113) fun x114 =>
        znm (v7 + (1 : Int32)) fun x115 =>
        f_X4_linkSum_b67 n h109 a0 v1 v5 x114 x115))
def f_X4_linkSum_b36 (h : PH) (a0 : Nat) (v1 : Int32) (v2 : Int32) (v4 : Int32) (s0 : Nat) (s1 : Int32) : ZR Int32 :=
  zpI h s0 3 0 s1 fun h101 =>
  zgI h101 a0 3 0 fun x102 =>
  if x102 ≤ 0 then
    (zrc h101 a0 3 <| zcl (f_X4_after h101 a0 v1 v2 v4) fun x103 h104 =>
    znm (v4 + (1 : Int32)) fun x105 =>
    f_X4_linkSum_b67 zFU h104 a0 v1 x103 (0 : Int32) x105)
  else
    (zret (0 : Int32) h101)
def f_X4_linkSum_b21 (h : PH) (a0 : Nat) (v1 : Int32) (v2 : Int32) (s0 : Int32) : ZR Int32 :=
  if s0 = (-2 : Int32) then
    (f_X4_linkSum_b36 h a0 v1 v2 s0 a0 (1 : Int32))
  else
    (f_X4_linkSum_b36 h a0 v1 v2 s0 a0 (0 : Int32))
def f_X4_linkSum (h : PH) (a0 : Nat) (v1 : Int32) (v2 : Int32) (v3 : Int32) : ZR Int32 :=
  zrc h a0 3 <| zcl (f_X4_isLevel h a0 v1 v2) fun x101 h102 =>
  if x101 = 0 then
    (f_X4_linkSum_b21 h102 a0 v1 v2 (-2 : Int32))
  else
    (zrc h102 a0 3 <| zcl (f_X4_beginOf h102 a0 v1 v2 v3) fun x103 h104 =>
    f_X4_linkSum_b21 h104 a0 v1 v2 x103)
set_option maxHeartbeats 4000000 in
set_option maxRecDepth 100000 in
theorem m_X4_linkSum_b67 {p : Program} {l : Launch} {e : Env} {s : State} {m : MethodId} {args : Array Value} {below : List Frame} {meth : Method} {c : Code} {D : va_G} {dA : Nat → ClassId} {b0 : Nat} {gs : Nat → Option Nat} (hc : zC D dA b0 gs yX4_linkSum.cls cX4_linkSum 8 p c s m args meth) (hr : meth.sig.returnType = (some .int)) (hin : meth.name = yX4_linkSum.name) {r : Int32} {hh : PH} {mc ms : Nat} : ∀ (n : Nat) (h : PH) (a0 : Nat) (v1 : Int32) (v5 : Int32) (v6 : Int32) (v7 : Int32) (C9 S9 : Nat) (H : Heap) (locs : List Loc) (cells slots : Nat), f_X4_linkSum_b67 n h a0 v1 v5 v6 v7 = some (r, hh, C9, S9) → cells + C9 = mc ∧ slots + S9 = ms → zM D dA b0 gs s h H locs → ∀ ls : Array Slot, lv_has ls 8 [(0, .ref a0), (1, .int v1), (5, .int v5), (6, .int v6), (7, .int v7)] → W p l e ({ frames := 4, cells := mc, slots := ms, locals := 130 } : Room) s m args below meth c H locs cells slots (MQ below (zQ D dA b0 gs (evI r) hh) args s mc ms (zA b0)) (F0 m 67 ls []) := by
  have hx := hc.x
  have hb := hc.b
  intro n
  induction n with
  | zero =>
    intro h a0 v1 v5 v6 v7 C9 S9 H locs cells slots hf hq hn ls hl
    cases hf
  | succ n ih =>
    intro h a0 v1 v5 v6 v7 C9 S9 H locs cells slots hf hq hn ls hl
    unfold f_X4_linkSum_b67 at hf
    refine lv_iload hx hb dX4_linkSum_67 (lv_at hl 4 rfl) ?_
    refine lv_iload hx hb dX4_linkSum_69 (lv_at hl 2 rfl) ?_
    refine lv_icmp_gt (tgt := 116) hx hb dX4_linkSum_71 (by decide) (fun c9 => ?_) (fun c9 => ?_)
    · have hf := zif_t c9 hf
      refine lv_iload hx hb dX4_linkSum_116 (lv_at hl 3 rfl) ?_
      obtain ⟨rfl, rfl, rfl, rfl⟩ := zret_i hf
      exact zr_iret hc hn hr hq (fun _ _ _ _ q => q) dX4_linkSum_118
    · have hf := zif_f c9 hf
      refine lv_iload hx hb dX4_linkSum_74 (lv_at hl 4 rfl) ?_
      refine lv_aload_n (x := a0) hx hb dX4_linkSum_76 rfl (lv_at hl 0 rfl) ?_
      refine zr_gP hc hn (ci := 3) rfl rfl in_X4 1 (by decide) q2100 (fun _ h => h) (fun _ _ _ => rfl) hf dX4_linkSum_77 (fun x101 hf => ?_)
      refine lv_iload_n hx hb dX4_linkSum_80 rfl (lv_at hl 1 rfl) ?_
      refine zr_cSI (As := [.int v1]) (rest := [va_rf x101, .int v7]) hc hn hq hd_X4_base (lw_S q2284 q2285 q91 q2286) (Nat.le_of_ble_eq_true rfl) (Nat.le_of_ble_eq_true rfl) (fun _ _ _ _ q => m_X4_base l D dA b0 gs h v1 q) hf dX4_linkSum_81 hl.1 rfl rfl (zroom (Nat.le_of_ble_eq_true rfl)) (fun x102 h103 H locs cells slots C9 S9 hf hq hn => ?_)
      refine lv_iconst (v := (1 : Int32)) hx hb dX4_linkSum_84 (by decide) ?_
      refine lv_iadd hx hb dX4_linkSum_85 ?_
      refine zr_nmI hf (fun x104 hf => ?_)
      obtain ⟨a105, e9, hf9⟩ := znn_i hf
      subst e9
      have hf := hf9
      clear hf9
      refine zr_aI0 hc hn hf dX4_linkSum_86 (fun x106 hf => ?_)
      refine lv_icmp_ge (tgt := 116) hx hb dX4_linkSum_87 (by decide) (fun c9 => ?_) (fun c9 => ?_)
      · have hf := zif_t c9 hf
        refine lv_iload hx hb dX4_linkSum_116 (lv_at hl 3 rfl) ?_
        obtain ⟨rfl, rfl, rfl, rfl⟩ := zret_i hf
        exact zr_iret hc hn hr hq (fun _ _ _ _ q => q) dX4_linkSum_118
      · have hf := zif_f c9 hf
        refine lv_iload hx hb dX4_linkSum_90 (lv_at hl 3 rfl) ?_
        refine lv_aload_n (x := a0) hx hb dX4_linkSum_92 rfl (lv_at hl 0 rfl) ?_
        refine zr_gP hc hn (ci := 3) rfl rfl in_X4 1 (by decide) q2100 (fun _ h => h) (fun _ _ _ => rfl) hf dX4_linkSum_93 (fun x107 hf => ?_)
        refine lv_iload_n hx hb dX4_linkSum_96 rfl (lv_at hl 1 rfl) ?_
        refine zr_cSI (As := [.int v1]) (rest := [va_rf x107, .int v6]) hc hn hq hd_X4_base (lw_S q2284 q2285 q91 q2286) (Nat.le_of_ble_eq_true rfl) (Nat.le_of_ble_eq_true rfl) (fun _ _ _ _ q => m_X4_base l D dA b0 gs h103 v1 q) hf dX4_linkSum_97 hl.1 rfl rfl (zroom (Nat.le_of_ble_eq_true rfl)) (fun x108 h109 H locs cells slots C9 S9 hf hq hn => ?_)
        refine lv_bipush (v := (62 : Int32)) hx hb dX4_linkSum_100 (by decide) ?_
        refine lv_iadd hx hb dX4_linkSum_102 ?_
        refine zr_nmI hf (fun x110 hf => ?_)
        refine lv_iload hx hb dX4_linkSum_103 (lv_at hl 4 rfl) ?_
        refine lv_iadd hx hb dX4_linkSum_105 ?_
        refine zr_nmI hf (fun x111 hf => ?_)
        obtain ⟨a112, e9, hf9⟩ := znn_i hf
        subst e9
        have hf := hf9
        clear hf9
        refine zr_aI0 hc hn hf dX4_linkSum_106 (fun x113 hf => ?_)
        refine lv_iadd hx hb dX4_linkSum_107 ?_
        refine zr_nmI hf (fun x114 hf => ?_)
        refine lv_istore (lv' := [(6, .int x114), (0, .ref a0), (1, .int v1), (5, .int v5), (7, .int v7)]) hx hb dX4_linkSum_108 hl (by decide) rfl (fun ls hl => ?_)
        obtain ⟨x115, ex115, hf⟩ := znm_i hf
        refine lv_iinc (v := x115) (lv' := [(7, .int x115), (6, .int x114), (0, .ref a0), (1, .int v1), (5, .int v5)]) hx hb dX4_linkSum_110 hl (k := 4) rfl (by rw [ex115]; rfl) (by decide) rfl (fun ls hl => ?_)
        refine lv_goto (tgt := 67) hx hb dX4_linkSum_113 (by decide) ?_
        exact ih h109 a0 v1 v5 x114 x115 _ _ _ _ _ _ hf hq hn _ (lv_sub hl [2, 3, 4, 1, 0] rfl)
set_option maxHeartbeats 4000000 in
set_option maxRecDepth 100000 in
theorem m_X4_linkSum_b36 {p : Program} {l : Launch} {e : Env} {s : State} {m : MethodId} {args : Array Value} {below : List Frame} {meth : Method} {c : Code} {D : va_G} {dA : Nat → ClassId} {b0 : Nat} {gs : Nat → Option Nat} (hc : zC D dA b0 gs yX4_linkSum.cls cX4_linkSum 8 p c s m args meth) (hr : meth.sig.returnType = (some .int)) (hin : meth.name = yX4_linkSum.name) {r : Int32} {hh : PH} {mc ms : Nat} : ∀ (h : PH) (a0 : Nat) (v1 : Int32) (v2 : Int32) (v4 : Int32) (s0 : Nat) (s1 : Int32) (C9 S9 : Nat) (H : Heap) (locs : List Loc) (cells slots : Nat), f_X4_linkSum_b36 h a0 v1 v2 v4 s0 s1 = some (r, hh, C9, S9) → cells + C9 = mc ∧ slots + S9 = ms → zM D dA b0 gs s h H locs → ∀ ls : Array Slot, lv_has ls 8 [(0, .ref a0), (1, .int v1), (2, .int v2), (4, .int v4)] → W p l e ({ frames := 4, cells := mc, slots := ms, locals := 130 } : Room) s m args below meth c H locs cells slots (MQ below (zQ D dA b0 gs (evI r) hh) args s mc ms (zA b0)) (F0 m 36 ls [.int s1, .ref s0]) := by
  have hx := hc.x
  have hb := hc.b
  intro h a0 v1 v2 v4 s0 s1 C9 S9 H locs cells slots hf hq hn ls hl
  unfold f_X4_linkSum_b36 at hf
  refine zr_pI (x := s1) hc hn (ci := 3) rfl rfl in_X4 0 (by decide) tyX4 tyX4_ok nmX4 q2099 (fun _ h => h) (Or.inl rfl) (fun _ _ _ => rfl) rfl rfl hf dX4_linkSum_36 (fun h101 H locs hf hn => ?_)
  refine lv_aload_n (x := a0) hx hb dX4_linkSum_39 rfl (lv_at hl 0 rfl) ?_
  refine zr_gI hc hn (ci := 3) rfl rfl in_X4 0 (by decide) q2099 (fun _ h => h) (fun _ _ _ => rfl) hf dX4_linkSum_40 (fun x102 hf => ?_)
  refine lv_if_le (tgt := 48) hx hb dX4_linkSum_43 (by decide) (fun c9 => ?_) (fun c9 => ?_)
  · have hf := zif_t c9 hf
    refine lv_aload_n (x := a0) hx hb dX4_linkSum_48 rfl (lv_at hl 0 rfl) ?_
    refine lv_iload_n hx hb dX4_linkSum_49 rfl (lv_at hl 1 rfl) ?_
    refine lv_iload_n hx hb dX4_linkSum_50 rfl (lv_at hl 2 rfl) ?_
    refine lv_iload hx hb dX4_linkSum_51 (lv_at hl 3 rfl) ?_
    refine zr_cVI (As := [.int v1, .int v2, .int v4]) (rest := []) hc hn hq (ci := 3) rfl ⟨rfl, hd_X4_after⟩ (lw_V q2303 q2305 qs51 q91 q2306) (Nat.le_of_ble_eq_true rfl) (Nat.le_of_ble_eq_true rfl) (fun _ _ _ _ q => m_X4_after l D dA b0 gs h101 a0 v1 v2 v4 q) hf dX4_linkSum_53 hl.1 rfl rfl (zroom (Nat.le_of_ble_eq_true rfl)) (fun x103 h104 H locs cells slots C9 S9 hf hq hn => ?_)
    refine lv_istore (lv' := [(5, .int x103), (0, .ref a0), (1, .int v1), (2, .int v2), (4, .int v4)]) hx hb dX4_linkSum_56 hl (by decide) rfl (fun ls hl => ?_)
    refine lv_iconst (v := (0 : Int32)) hx hb dX4_linkSum_58 (by decide) ?_
    refine lv_istore (lv' := [(6, .int (0 : Int32)), (5, .int x103), (0, .ref a0), (1, .int v1), (2, .int v2), (4, .int v4)]) hx hb dX4_linkSum_59 hl (by decide) rfl (fun ls hl => ?_)
    refine lv_iload hx hb dX4_linkSum_61 (lv_at hl 5 rfl) ?_
    refine lv_iconst (v := (1 : Int32)) hx hb dX4_linkSum_63 (by decide) ?_
    refine lv_iadd hx hb dX4_linkSum_64 ?_
    refine zr_nmI hf (fun x105 hf => ?_)
    refine lv_istore (lv' := [(7, .int x105), (6, .int (0 : Int32)), (5, .int x103), (0, .ref a0), (1, .int v1), (2, .int v2), (4, .int v4)]) hx hb dX4_linkSum_65 hl (by decide) rfl (fun ls hl => ?_)
    exact m_X4_linkSum_b67 hc hr hin zFU h104 a0 v1 x103 (0 : Int32) x105 _ _ _ _ _ _ hf hq hn _ (lv_sub hl [3, 4, 2, 1, 0] rfl)
  · have hf := zif_f c9 hf
    refine lv_iconst (v := (0 : Int32)) hx hb dX4_linkSum_46 (by decide) ?_
    obtain ⟨rfl, rfl, rfl, rfl⟩ := zret_i hf
    exact zr_iret hc hn hr hq (fun _ _ _ _ q => q) dX4_linkSum_47
set_option maxHeartbeats 4000000 in
set_option maxRecDepth 100000 in
theorem m_X4_linkSum_b21 {p : Program} {l : Launch} {e : Env} {s : State} {m : MethodId} {args : Array Value} {below : List Frame} {meth : Method} {c : Code} {D : va_G} {dA : Nat → ClassId} {b0 : Nat} {gs : Nat → Option Nat} (hc : zC D dA b0 gs yX4_linkSum.cls cX4_linkSum 8 p c s m args meth) (hr : meth.sig.returnType = (some .int)) (hin : meth.name = yX4_linkSum.name) {r : Int32} {hh : PH} {mc ms : Nat} : ∀ (h : PH) (a0 : Nat) (v1 : Int32) (v2 : Int32) (s0 : Int32) (C9 S9 : Nat) (H : Heap) (locs : List Loc) (cells slots : Nat), f_X4_linkSum_b21 h a0 v1 v2 s0 = some (r, hh, C9, S9) → cells + C9 = mc ∧ slots + S9 = ms → zM D dA b0 gs s h H locs → ∀ ls : Array Slot, lv_has ls 8 [(0, .ref a0), (1, .int v1), (2, .int v2)] → W p l e ({ frames := 4, cells := mc, slots := ms, locals := 130 } : Room) s m args below meth c H locs cells slots (MQ below (zQ D dA b0 gs (evI r) hh) args s mc ms (zA b0)) (F0 m 21 ls [.int s0]) := by
  have hx := hc.x
  have hb := hc.b
  intro h a0 v1 v2 s0 C9 S9 H locs cells slots hf hq hn ls hl
  unfold f_X4_linkSum_b21 at hf
  refine lv_istore (lv' := [(4, .int s0), (0, .ref a0), (1, .int v1), (2, .int v2)]) hx hb dX4_linkSum_21 hl (by decide) rfl (fun ls hl => ?_)
  refine lv_aload_n (x := a0) hx hb dX4_linkSum_23 rfl (lv_at hl 1 rfl) ?_
  refine lv_iload hx hb dX4_linkSum_24 (lv_at hl 0 rfl) ?_
  refine lv_bipush (v := (-2 : Int32)) hx hb dX4_linkSum_26 (by decide) ?_
  refine lv_icmp_ne (tgt := 35) hx hb dX4_linkSum_28 (by decide) (fun c9 => ?_) (fun c9 => ?_)
  · have hf := zif_f c9 hf
    refine lv_iconst (v := (0 : Int32)) hx hb dX4_linkSum_35 (by decide) ?_
    exact m_X4_linkSum_b36 hc hr hin h a0 v1 v2 s0 a0 (0 : Int32) _ _ _ _ _ _ hf hq hn _ (lv_sub hl [1, 2, 3, 0] rfl)
  · have hf := zif_t c9 hf
    refine lv_iconst (v := (1 : Int32)) hx hb dX4_linkSum_31 (by decide) ?_
    refine lv_goto (tgt := 36) hx hb dX4_linkSum_32 (by decide) ?_
    exact m_X4_linkSum_b36 hc hr hin h a0 v1 v2 s0 a0 (1 : Int32) _ _ _ _ _ _ hf hq hn _ (lv_sub hl [1, 2, 3, 0] rfl)
set_option maxHeartbeats 4000000 in
set_option maxRecDepth 100000 in
theorem m_X4_linkSum (l : Launch) (D : va_G) (dA : Nat → ClassId) (b0 : Nat) (gs : Nat → Option Nat) (h : PH) (a0 : Nat) (v1 : Int32) (v2 : Int32) (v3 : Int32) {r : Int32} {hh : PH} {mc ms : Nat} (hf : f_X4_linkSum h a0 v1 v2 v3 = some (r, hh, mc, ms)) : zMt l D dA b0 gs yX4_linkSum cX4_linkSum 8 (some .int) 4 130 [.ref a0, .int v1, .int v2, .int v3] h (evI r) hh mc ms := by
  unfold f_X4_linkSum at hf
  refine zMt.of (by decide) (Nat.le_of_ble_eq_true rfl) ?_
  intro p e s m args below meth c hc hr hin hn ls hl
  have hl : lv_has ls 8 [(0, .ref a0), (1, .int v1), (2, .int v2), (3, .int v3)] := hl
  have hq : 0 + mc = mc ∧ 0 + ms = ms := ⟨Nat.zero_add _, Nat.zero_add _⟩
  have hx := hc.x
  have hb := hc.b
  refine lv_aload_n (x := a0) hx hb dX4_linkSum_0 rfl (lv_at hl 0 rfl) ?_
  refine lv_iload_n hx hb dX4_linkSum_1 rfl (lv_at hl 1 rfl) ?_
  refine lv_iload_n hx hb dX4_linkSum_2 rfl (lv_at hl 2 rfl) ?_
  refine zr_cVI (As := [.int v1, .int v2]) (rest := []) hc hn hq (ci := 3) rfl ⟨rfl, hd_X4_isLevel⟩ (lw_V q2425 q2427 qs64 q91 q2428) (Nat.le_of_ble_eq_true rfl) (Nat.le_of_ble_eq_true rfl) (fun _ _ _ _ q => m_X4_isLevel l D dA b0 gs h a0 v1 v2 q) hf dX4_linkSum_3 hl.1 rfl rfl (zroom (Nat.le_of_ble_eq_true rfl)) (fun x101 h102 H locs cells slots C9 S9 hf hq hn => ?_)
  refine lv_if_eq (tgt := 19) hx hb dX4_linkSum_6 (by decide) (fun c9 => ?_) (fun c9 => ?_)
  · have hf := zif_t c9 hf
    refine lv_bipush (v := (-2 : Int32)) hx hb dX4_linkSum_19 (by decide) ?_
    exact m_X4_linkSum_b21 hc hr hin h102 a0 v1 v2 (-2 : Int32) _ _ _ _ _ _ hf hq hn _ (lv_sub hl [0, 1, 2] rfl)
  · have hf := zif_f c9 hf
    refine lv_aload_n (x := a0) hx hb dX4_linkSum_9 rfl (lv_at hl 0 rfl) ?_
    refine lv_iload_n hx hb dX4_linkSum_10 rfl (lv_at hl 1 rfl) ?_
    refine lv_iload_n hx hb dX4_linkSum_11 rfl (lv_at hl 2 rfl) ?_
    refine lv_iload_n hx hb dX4_linkSum_12 rfl (lv_at hl 3 rfl) ?_
    refine zr_cVI (As := [.int v1, .int v2, .int v3]) (rest := []) hc hn hq (ci := 3) rfl ⟨rfl, hd_X4_beginOf⟩ (lw_V q2429 q2431 qs65 q91 q2432) (Nat.le_of_ble_eq_true rfl) (Nat.le_of_ble_eq_true rfl) (fun _ _ _ _ q => m_X4_beginOf l D dA b0 gs h102 a0 v1 v2 v3 q) hf dX4_linkSum_13 hl.1 rfl rfl (zroom (Nat.le_of_ble_eq_true rfl)) (fun x103 h104 H locs cells slots C9 S9 hf hq hn => ?_)
    refine lv_goto (tgt := 21) hx hb dX4_linkSum_16 (by decide) ?_
    exact m_X4_linkSum_b21 hc hr hin h104 a0 v1 v2 x103 _ _ _ _ _ _ hf hq hn _ (lv_sub hl [0, 1, 2] rfl)
theorem hd_X4_gapSize : yX4_gapSize.cls ≠ "java/lang/invoke/MethodHandle" ∧ yX4_gapSize.cls ≠ "java/lang/invoke/VarHandle" ∧ (parseMethodDescriptor yX4_gapSize.desc).map (fun d => d.parameters.length) = some 3 := by decide +kernel
def f_X4_gapSize_b38 (h : PH) (a0 : Nat) (v1 : Int32) (v2 : Int32) (v4 : Int32) (s0 : Nat) (s1 : Int32) : ZR Int32 :=
  zpI h s0 3 0 s1 fun h101 =>
  zgI h101 a0 3 0 fun x102 =>
  if x102 ≤ 0 then
    (znm (v2 + (1 : Int32)) fun x103 =>
    zrc h101 a0 3 <| zcl (f_X4_after h101 a0 v1 x103 v4) fun x104 h105 =>
    zrc h105 a0 3 <| zcl (f_X4_between h105 a0 v1 v2 v4 x104) fun x106 h107 =>
    zret x106 h107)
  else
    (zret (0 : Int32) h101)
def f_X4_gapSize_b23 (h : PH) (a0 : Nat) (v1 : Int32) (v2 : Int32) (s0 : Int32) : ZR Int32 :=
  if s0 = (-2 : Int32) then
    (f_X4_gapSize_b38 h a0 v1 v2 s0 a0 (1 : Int32))
  else
    (f_X4_gapSize_b38 h a0 v1 v2 s0 a0 (0 : Int32))
def f_X4_gapSize (h : PH) (a0 : Nat) (v1 : Int32) (v2 : Int32) (v3 : Int32) : ZR Int32 :=
  zrc h a0 3 <| zcl (f_X4_isLevel h a0 v1 v2) fun x101 h102 =>
  if x101 = 0 then
    (f_X4_gapSize_b23 h102 a0 v1 v2 (-2 : Int32))
  else
    (znm (v2 + (1 : Int32)) fun x103 =>
    zrc h102 a0 3 <| zcl (f_X4_beginOf h102 a0 v1 x103 v3) fun x104 h105 =>
    f_X4_gapSize_b23 h105 a0 v1 v2 x104)
set_option maxHeartbeats 4000000 in
set_option maxRecDepth 100000 in
theorem m_X4_gapSize_b38 {p : Program} {l : Launch} {e : Env} {s : State} {m : MethodId} {args : Array Value} {below : List Frame} {meth : Method} {c : Code} {D : va_G} {dA : Nat → ClassId} {b0 : Nat} {gs : Nat → Option Nat} (hc : zC D dA b0 gs yX4_gapSize.cls cX4_gapSize 5 p c s m args meth) (hr : meth.sig.returnType = (some .int)) (hin : meth.name = yX4_gapSize.name) {r : Int32} {hh : PH} {mc ms : Nat} : ∀ (h : PH) (a0 : Nat) (v1 : Int32) (v2 : Int32) (v4 : Int32) (s0 : Nat) (s1 : Int32) (C9 S9 : Nat) (H : Heap) (locs : List Loc) (cells slots : Nat), f_X4_gapSize_b38 h a0 v1 v2 v4 s0 s1 = some (r, hh, C9, S9) → cells + C9 = mc ∧ slots + S9 = ms → zM D dA b0 gs s h H locs → ∀ ls : Array Slot, lv_has ls 5 [(0, .ref a0), (1, .int v1), (2, .int v2), (4, .int v4)] → W p l e ({ frames := 4, cells := mc, slots := ms, locals := 130 } : Room) s m args below meth c H locs cells slots (MQ below (zQ D dA b0 gs (evI r) hh) args s mc ms (zA b0)) (F0 m 38 ls [.int s1, .ref s0]) := by
  have hx := hc.x
  have hb := hc.b
  intro h a0 v1 v2 v4 s0 s1 C9 S9 H locs cells slots hf hq hn ls hl
  unfold f_X4_gapSize_b38 at hf
  refine zr_pI (x := s1) hc hn (ci := 3) rfl rfl in_X4 0 (by decide) tyX4 tyX4_ok nmX4 q2099 (fun _ h => h) (Or.inl rfl) (fun _ _ _ => rfl) rfl rfl hf dX4_gapSize_38 (fun h101 H locs hf hn => ?_)
  refine lv_aload_n (x := a0) hx hb dX4_gapSize_41 rfl (lv_at hl 0 rfl) ?_
  refine zr_gI hc hn (ci := 3) rfl rfl in_X4 0 (by decide) q2099 (fun _ h => h) (fun _ _ _ => rfl) hf dX4_gapSize_42 (fun x102 hf => ?_)
  refine lv_if_le (tgt := 52) hx hb dX4_gapSize_45 (by decide) (fun c9 => ?_) (fun c9 => ?_)
  · have hf := zif_t c9 hf
    refine lv_aload_n (x := a0) hx hb dX4_gapSize_52 rfl (lv_at hl 0 rfl) ?_
    refine lv_iload_n hx hb dX4_gapSize_53 rfl (lv_at hl 1 rfl) ?_
    refine lv_iload_n hx hb dX4_gapSize_54 rfl (lv_at hl 2 rfl) ?_
    refine lv_iload hx hb dX4_gapSize_55 (lv_at hl 3 rfl) ?_
    refine lv_aload_n (x := a0) hx hb dX4_gapSize_57 rfl (lv_at hl 0 rfl) ?_
    refine lv_iload_n hx hb dX4_gapSize_58 rfl (lv_at hl 1 rfl) ?_
    refine lv_iload_n hx hb dX4_gapSize_59 rfl (lv_at hl 2 rfl) ?_
    refine lv_iconst (v := (1 : Int32)) hx hb dX4_gapSize_60 (by decide) ?_
    refine lv_iadd hx hb dX4_gapSize_61 ?_
    refine zr_nmI hf (fun x103 hf => ?_)
    refine lv_iload hx hb dX4_gapSize_62 (lv_at hl 3 rfl) ?_
    refine zr_cVI (As := [.int v1, .int x103, .int v4]) (rest := [.int v4, .int v2, .int v1, .ref a0]) hc hn hq (ci := 3) rfl ⟨rfl, hd_X4_after⟩ (lw_V q2303 q2305 qs51 q91 q2306) (Nat.le_of_ble_eq_true rfl) (Nat.le_of_ble_eq_true rfl) (fun _ _ _ _ q => m_X4_after l D dA b0 gs h101 a0 v1 x103 v4 q) hf dX4_gapSize_64 hl.1 rfl rfl (zroom (Nat.le_of_ble_eq_true rfl)) (fun x104 h105 H locs cells slots C9 S9 hf hq hn => ?_)
    refine zr_cVI (As := [.int v1, .int v2, .int v4, .int x104]) (rest := []) hc hn hq (ci := 3) rfl ⟨rfl, hd_X4_between⟩ (lw_V q2307 q2309 qs52 q91 q2310) (Nat.le_of_ble_eq_true rfl) (Nat.le_of_ble_eq_true rfl) (fun _ _ _ _ q => m_X4_between l D dA b0 gs h105 a0 v1 v2 v4 x104 q) hf dX4_gapSize_67 hl.1 rfl rfl (zroom (Nat.le_of_ble_eq_true rfl)) (fun x106 h107 H locs cells slots C9 S9 hf hq hn => ?_)
    obtain ⟨rfl, rfl, rfl, rfl⟩ := zret_i hf
    exact zr_iret hc hn hr hq (fun _ _ _ _ q => q) dX4_gapSize_70
  · have hf := zif_f c9 hf
    refine lv_iconst (v := (0 : Int32)) hx hb dX4_gapSize_48 (by decide) ?_
    refine lv_goto (tgt := 70) hx hb dX4_gapSize_49 (by decide) ?_
    obtain ⟨rfl, rfl, rfl, rfl⟩ := zret_i hf
    exact zr_iret hc hn hr hq (fun _ _ _ _ q => q) dX4_gapSize_70
set_option maxHeartbeats 4000000 in
set_option maxRecDepth 100000 in
theorem m_X4_gapSize_b23 {p : Program} {l : Launch} {e : Env} {s : State} {m : MethodId} {args : Array Value} {below : List Frame} {meth : Method} {c : Code} {D : va_G} {dA : Nat → ClassId} {b0 : Nat} {gs : Nat → Option Nat} (hc : zC D dA b0 gs yX4_gapSize.cls cX4_gapSize 5 p c s m args meth) (hr : meth.sig.returnType = (some .int)) (hin : meth.name = yX4_gapSize.name) {r : Int32} {hh : PH} {mc ms : Nat} : ∀ (h : PH) (a0 : Nat) (v1 : Int32) (v2 : Int32) (s0 : Int32) (C9 S9 : Nat) (H : Heap) (locs : List Loc) (cells slots : Nat), f_X4_gapSize_b23 h a0 v1 v2 s0 = some (r, hh, C9, S9) → cells + C9 = mc ∧ slots + S9 = ms → zM D dA b0 gs s h H locs → ∀ ls : Array Slot, lv_has ls 5 [(0, .ref a0), (1, .int v1), (2, .int v2)] → W p l e ({ frames := 4, cells := mc, slots := ms, locals := 130 } : Room) s m args below meth c H locs cells slots (MQ below (zQ D dA b0 gs (evI r) hh) args s mc ms (zA b0)) (F0 m 23 ls [.int s0]) := by
  have hx := hc.x
  have hb := hc.b
  intro h a0 v1 v2 s0 C9 S9 H locs cells slots hf hq hn ls hl
  unfold f_X4_gapSize_b23 at hf
  refine lv_istore (lv' := [(4, .int s0), (0, .ref a0), (1, .int v1), (2, .int v2)]) hx hb dX4_gapSize_23 hl (by decide) rfl (fun ls hl => ?_)
  refine lv_aload_n (x := a0) hx hb dX4_gapSize_25 rfl (lv_at hl 1 rfl) ?_
  refine lv_iload hx hb dX4_gapSize_26 (lv_at hl 0 rfl) ?_
  refine lv_bipush (v := (-2 : Int32)) hx hb dX4_gapSize_28 (by decide) ?_
  refine lv_icmp_ne (tgt := 37) hx hb dX4_gapSize_30 (by decide) (fun c9 => ?_) (fun c9 => ?_)
  · have hf := zif_f c9 hf
    refine lv_iconst (v := (0 : Int32)) hx hb dX4_gapSize_37 (by decide) ?_
    exact m_X4_gapSize_b38 hc hr hin h a0 v1 v2 s0 a0 (0 : Int32) _ _ _ _ _ _ hf hq hn _ (lv_sub hl [1, 2, 3, 0] rfl)
  · have hf := zif_t c9 hf
    refine lv_iconst (v := (1 : Int32)) hx hb dX4_gapSize_33 (by decide) ?_
    refine lv_goto (tgt := 38) hx hb dX4_gapSize_34 (by decide) ?_
    exact m_X4_gapSize_b38 hc hr hin h a0 v1 v2 s0 a0 (1 : Int32) _ _ _ _ _ _ hf hq hn _ (lv_sub hl [1, 2, 3, 0] rfl)
set_option maxHeartbeats 4000000 in
set_option maxRecDepth 100000 in
theorem m_X4_gapSize (l : Launch) (D : va_G) (dA : Nat → ClassId) (b0 : Nat) (gs : Nat → Option Nat) (h : PH) (a0 : Nat) (v1 : Int32) (v2 : Int32) (v3 : Int32) {r : Int32} {hh : PH} {mc ms : Nat} (hf : f_X4_gapSize h a0 v1 v2 v3 = some (r, hh, mc, ms)) : zMt l D dA b0 gs yX4_gapSize cX4_gapSize 5 (some .int) 4 130 [.ref a0, .int v1, .int v2, .int v3] h (evI r) hh mc ms := by
  unfold f_X4_gapSize at hf
  refine zMt.of (by decide) (Nat.le_of_ble_eq_true rfl) ?_
  intro p e s m args below meth c hc hr hin hn ls hl
  have hl : lv_has ls 5 [(0, .ref a0), (1, .int v1), (2, .int v2), (3, .int v3)] := hl
  have hq : 0 + mc = mc ∧ 0 + ms = ms := ⟨Nat.zero_add _, Nat.zero_add _⟩
  have hx := hc.x
  have hb := hc.b
  refine lv_aload_n (x := a0) hx hb dX4_gapSize_0 rfl (lv_at hl 0 rfl) ?_
  refine lv_iload_n hx hb dX4_gapSize_1 rfl (lv_at hl 1 rfl) ?_
  refine lv_iload_n hx hb dX4_gapSize_2 rfl (lv_at hl 2 rfl) ?_
  refine zr_cVI (As := [.int v1, .int v2]) (rest := []) hc hn hq (ci := 3) rfl ⟨rfl, hd_X4_isLevel⟩ (lw_V q2425 q2427 qs64 q91 q2428) (Nat.le_of_ble_eq_true rfl) (Nat.le_of_ble_eq_true rfl) (fun _ _ _ _ q => m_X4_isLevel l D dA b0 gs h a0 v1 v2 q) hf dX4_gapSize_3 hl.1 rfl rfl (zroom (Nat.le_of_ble_eq_true rfl)) (fun x101 h102 H locs cells slots C9 S9 hf hq hn => ?_)
  refine lv_if_eq (tgt := 21) hx hb dX4_gapSize_6 (by decide) (fun c9 => ?_) (fun c9 => ?_)
  · have hf := zif_t c9 hf
    refine lv_bipush (v := (-2 : Int32)) hx hb dX4_gapSize_21 (by decide) ?_
    exact m_X4_gapSize_b23 hc hr hin h102 a0 v1 v2 (-2 : Int32) _ _ _ _ _ _ hf hq hn _ (lv_sub hl [0, 1, 2] rfl)
  · have hf := zif_f c9 hf
    refine lv_aload_n (x := a0) hx hb dX4_gapSize_9 rfl (lv_at hl 0 rfl) ?_
    refine lv_iload_n hx hb dX4_gapSize_10 rfl (lv_at hl 1 rfl) ?_
    refine lv_iload_n hx hb dX4_gapSize_11 rfl (lv_at hl 2 rfl) ?_
    refine lv_iconst (v := (1 : Int32)) hx hb dX4_gapSize_12 (by decide) ?_
    refine lv_iadd hx hb dX4_gapSize_13 ?_
    refine zr_nmI hf (fun x103 hf => ?_)
    refine lv_iload_n hx hb dX4_gapSize_14 rfl (lv_at hl 3 rfl) ?_
    refine zr_cVI (As := [.int v1, .int x103, .int v3]) (rest := []) hc hn hq (ci := 3) rfl ⟨rfl, hd_X4_beginOf⟩ (lw_V q2429 q2431 qs65 q91 q2432) (Nat.le_of_ble_eq_true rfl) (Nat.le_of_ble_eq_true rfl) (fun _ _ _ _ q => m_X4_beginOf l D dA b0 gs h102 a0 v1 x103 v3 q) hf dX4_gapSize_15 hl.1 rfl rfl (zroom (Nat.le_of_ble_eq_true rfl)) (fun x104 h105 H locs cells slots C9 S9 hf hq hn => ?_)
    refine lv_goto (tgt := 23) hx hb dX4_gapSize_18 (by decide) ?_
    exact m_X4_gapSize_b23 hc hr hin h105 a0 v1 v2 x104 _ _ _ _ _ _ hf hq hn _ (lv_sub hl [0, 1, 2] rfl)
theorem hd_X4_links : yX4_links.cls ≠ "java/lang/invoke/MethodHandle" ∧ yX4_links.cls ≠ "java/lang/invoke/VarHandle" ∧ (parseMethodDescriptor yX4_links.desc).map (fun d => d.parameters.length) = some 1 := by decide +kernel
def f_X4_links_b21 : Nat → PH → Nat → Int32 → Int32 → Int32 → ZR Int32
  | 0 => fun _ _ _ _ _ => none
  | n + 1 => fun h a0 v1 v2 v3 =>
    zgI h a0 3 0 fun x101 =>
    if x101 = 0 then
      (zrc h a0 3 <| zcl (f_X4_heightOf h a0 v1) fun x102 h103 =>
      if x102 < v3 then
        (zret v2 h103)
      else
        (zrc h103 a0 3 <| zcl (f_X4_inRow h103 a0 v1 v3) fun x104 h105 =>
        znm (x104 + (1 : Int32)) fun x106 =>
        znm (v2 + x106) fun x107 =>
        znm (v3 + (1 : Int32)) fun x108 =>
        f_X4_links_b21 n h105 a0 v1 x107 x108))
    else
      (zret v2 h)
def f_X4_links_b14 (h : PH) (a0 : Nat) (v1 : Int32) (s0 : Nat) (s1 : Int32) : ZR Int32 :=
  zpI h s0 3 0 s1 fun h101 =>
  f_X4_links_b21 zFU h101 a0 v1 (0 : Int32) (1 : Int32)
def f_X4_links (h : PH) (a0 : Nat) (v1 : Int32) : ZR Int32 :=
  zrc h a0 3 <| zcl (f_X4_isList h a0 v1) fun x101 h102 =>
  if x101 = 0 then
    (f_X4_links_b14 h102 a0 v1 a0 (1 : Int32))
  else
    (f_X4_links_b14 h102 a0 v1 a0 (0 : Int32))
set_option maxHeartbeats 4000000 in
set_option maxRecDepth 100000 in
theorem m_X4_links_b21 {p : Program} {l : Launch} {e : Env} {s : State} {m : MethodId} {args : Array Value} {below : List Frame} {meth : Method} {c : Code} {D : va_G} {dA : Nat → ClassId} {b0 : Nat} {gs : Nat → Option Nat} (hc : zC D dA b0 gs yX4_links.cls cX4_links 4 p c s m args meth) (hr : meth.sig.returnType = (some .int)) (hin : meth.name = yX4_links.name) {r : Int32} {hh : PH} {mc ms : Nat} : ∀ (n : Nat) (h : PH) (a0 : Nat) (v1 : Int32) (v2 : Int32) (v3 : Int32) (C9 S9 : Nat) (H : Heap) (locs : List Loc) (cells slots : Nat), f_X4_links_b21 n h a0 v1 v2 v3 = some (r, hh, C9, S9) → cells + C9 = mc ∧ slots + S9 = ms → zM D dA b0 gs s h H locs → ∀ ls : Array Slot, lv_has ls 4 [(0, .ref a0), (1, .int v1), (2, .int v2), (3, .int v3)] → W p l e ({ frames := 3, cells := mc, slots := ms, locals := 106 } : Room) s m args below meth c H locs cells slots (MQ below (zQ D dA b0 gs (evI r) hh) args s mc ms (zA b0)) (F0 m 21 ls []) := by
  have hx := hc.x
  have hb := hc.b
  intro n
  induction n with
  | zero =>
    intro h a0 v1 v2 v3 C9 S9 H locs cells slots hf hq hn ls hl
    cases hf
  | succ n ih =>
    intro h a0 v1 v2 v3 C9 S9 H locs cells slots hf hq hn ls hl
    unfold f_X4_links_b21 at hf
    refine lv_aload_n (x := a0) hx hb dX4_links_21 rfl (lv_at hl 0 rfl) ?_
    refine zr_gI hc hn (ci := 3) rfl rfl in_X4 0 (by decide) q2099 (fun _ h => h) (fun _ _ _ => rfl) hf dX4_links_22 (fun x101 hf => ?_)
    refine lv_if_ne (tgt := 54) hx hb dX4_links_25 (by decide) (fun c9 => ?_) (fun c9 => ?_)
    · have hf := zif_f c9 hf
      refine lv_iload_n hx hb dX4_links_54 rfl (lv_at hl 2 rfl) ?_
      obtain ⟨rfl, rfl, rfl, rfl⟩ := zret_i hf
      exact zr_iret hc hn hr hq (fun _ _ _ _ q => q) dX4_links_55
    · have hf := zif_t c9 hf
      refine lv_iload_n hx hb dX4_links_28 rfl (lv_at hl 3 rfl) ?_
      refine lv_aload_n (x := a0) hx hb dX4_links_29 rfl (lv_at hl 0 rfl) ?_
      refine lv_iload_n hx hb dX4_links_30 rfl (lv_at hl 1 rfl) ?_
      refine zr_cVI (As := [.int v1]) (rest := [.int v3]) hc hn hq (ci := 3) rfl ⟨rfl, hd_X4_heightOf⟩ (lw_V q2299 q2301 qs50 q91 q2302) (Nat.le_of_ble_eq_true rfl) (Nat.le_of_ble_eq_true rfl) (fun _ _ _ _ q => m_X4_heightOf l D dA b0 gs h a0 v1 q) hf dX4_links_31 hl.1 rfl rfl (zroom (Nat.le_of_ble_eq_true rfl)) (fun x102 h103 H locs cells slots C9 S9 hf hq hn => ?_)
      refine lv_icmp_gt (tgt := 54) hx hb dX4_links_34 (by decide) (fun c9 => ?_) (fun c9 => ?_)
      · have hf := zif_t c9 hf
        refine lv_iload_n hx hb dX4_links_54 rfl (lv_at hl 2 rfl) ?_
        obtain ⟨rfl, rfl, rfl, rfl⟩ := zret_i hf
        exact zr_iret hc hn hr hq (fun _ _ _ _ q => q) dX4_links_55
      · have hf := zif_f c9 hf
        refine lv_iload_n hx hb dX4_links_37 rfl (lv_at hl 2 rfl) ?_
        refine lv_aload_n (x := a0) hx hb dX4_links_38 rfl (lv_at hl 0 rfl) ?_
        refine lv_iload_n hx hb dX4_links_39 rfl (lv_at hl 1 rfl) ?_
        refine lv_iload_n hx hb dX4_links_40 rfl (lv_at hl 3 rfl) ?_
        refine zr_cVI (As := [.int v1, .int v3]) (rest := [.int v2]) hc hn hq (ci := 3) rfl ⟨rfl, hd_X4_inRow⟩ (lw_V q2417 q2419 qs63 q91 q2420) (Nat.le_of_ble_eq_true rfl) (Nat.le_of_ble_eq_true rfl) (fun _ _ _ _ q => m_X4_inRow l D dA b0 gs h103 a0 v1 v3 q) hf dX4_links_41 hl.1 rfl rfl (zroom (Nat.le_of_ble_eq_true rfl)) (fun x104 h105 H locs cells slots C9 S9 hf hq hn => ?_)
        refine lv_iconst (v := (1 : Int32)) hx hb dX4_links_44 (by decide) ?_
        refine lv_iadd hx hb dX4_links_45 ?_
        refine zr_nmI hf (fun x106 hf => ?_)
        refine lv_iadd hx hb dX4_links_46 ?_
        refine zr_nmI hf (fun x107 hf => ?_)
        refine lv_istore_n (i := 2) (lv' := [(2, .int x107), (0, .ref a0), (1, .int v1), (3, .int v3)]) hx hb dX4_links_47 rfl hl (by decide) rfl (fun ls hl => ?_)
        obtain ⟨x108, ex108, hf⟩ := znm_i hf
        refine lv_iinc (v := x108) (lv' := [(3, .int x108), (2, .int x107), (0, .ref a0), (1, .int v1)]) hx hb dX4_links_48 hl (k := 3) rfl (by rw [ex108]; rfl) (by decide) rfl (fun ls hl => ?_)
        refine lv_goto (tgt := 21) hx hb dX4_links_51 (by decide) ?_
        exact ih h105 a0 v1 x107 x108 _ _ _ _ _ _ hf hq hn _ (lv_sub hl [2, 3, 1, 0] rfl)
set_option maxHeartbeats 4000000 in
set_option maxRecDepth 100000 in
theorem m_X4_links_b14 {p : Program} {l : Launch} {e : Env} {s : State} {m : MethodId} {args : Array Value} {below : List Frame} {meth : Method} {c : Code} {D : va_G} {dA : Nat → ClassId} {b0 : Nat} {gs : Nat → Option Nat} (hc : zC D dA b0 gs yX4_links.cls cX4_links 4 p c s m args meth) (hr : meth.sig.returnType = (some .int)) (hin : meth.name = yX4_links.name) {r : Int32} {hh : PH} {mc ms : Nat} : ∀ (h : PH) (a0 : Nat) (v1 : Int32) (s0 : Nat) (s1 : Int32) (C9 S9 : Nat) (H : Heap) (locs : List Loc) (cells slots : Nat), f_X4_links_b14 h a0 v1 s0 s1 = some (r, hh, C9, S9) → cells + C9 = mc ∧ slots + S9 = ms → zM D dA b0 gs s h H locs → ∀ ls : Array Slot, lv_has ls 4 [(0, .ref a0), (1, .int v1)] → W p l e ({ frames := 3, cells := mc, slots := ms, locals := 106 } : Room) s m args below meth c H locs cells slots (MQ below (zQ D dA b0 gs (evI r) hh) args s mc ms (zA b0)) (F0 m 14 ls [.int s1, .ref s0]) := by
  have hx := hc.x
  have hb := hc.b
  intro h a0 v1 s0 s1 C9 S9 H locs cells slots hf hq hn ls hl
  unfold f_X4_links_b14 at hf
  refine zr_pI (x := s1) hc hn (ci := 3) rfl rfl in_X4 0 (by decide) tyX4 tyX4_ok nmX4 q2099 (fun _ h => h) (Or.inl rfl) (fun _ _ _ => rfl) rfl rfl hf dX4_links_14 (fun h101 H locs hf hn => ?_)
  refine lv_iconst (v := (0 : Int32)) hx hb dX4_links_17 (by decide) ?_
  refine lv_istore_n (i := 2) (lv' := [(2, .int (0 : Int32)), (0, .ref a0), (1, .int v1)]) hx hb dX4_links_18 rfl hl (by decide) rfl (fun ls hl => ?_)
  refine lv_iconst (v := (1 : Int32)) hx hb dX4_links_19 (by decide) ?_
  refine lv_istore_n (i := 3) (lv' := [(3, .int (1 : Int32)), (2, .int (0 : Int32)), (0, .ref a0), (1, .int v1)]) hx hb dX4_links_20 rfl hl (by decide) rfl (fun ls hl => ?_)
  exact m_X4_links_b21 hc hr hin zFU h101 a0 v1 (0 : Int32) (1 : Int32) _ _ _ _ _ _ hf hq hn _ (lv_sub hl [2, 3, 1, 0] rfl)
set_option maxHeartbeats 4000000 in
set_option maxRecDepth 100000 in
theorem m_X4_links (l : Launch) (D : va_G) (dA : Nat → ClassId) (b0 : Nat) (gs : Nat → Option Nat) (h : PH) (a0 : Nat) (v1 : Int32) {r : Int32} {hh : PH} {mc ms : Nat} (hf : f_X4_links h a0 v1 = some (r, hh, mc, ms)) : zMt l D dA b0 gs yX4_links cX4_links 4 (some .int) 3 106 [.ref a0, .int v1] h (evI r) hh mc ms := by
  unfold f_X4_links at hf
  refine zMt.of (by decide) (Nat.le_of_ble_eq_true rfl) ?_
  intro p e s m args below meth c hc hr hin hn ls hl
  have hl : lv_has ls 4 [(0, .ref a0), (1, .int v1)] := hl
  have hq : 0 + mc = mc ∧ 0 + ms = ms := ⟨Nat.zero_add _, Nat.zero_add _⟩
  have hx := hc.x
  have hb := hc.b
  refine lv_aload_n (x := a0) hx hb dX4_links_0 rfl (lv_at hl 0 rfl) ?_
  refine lv_aload_n (x := a0) hx hb dX4_links_1 rfl (lv_at hl 0 rfl) ?_
  refine lv_iload_n hx hb dX4_links_2 rfl (lv_at hl 1 rfl) ?_
  refine zr_cVI (As := [.int v1]) (rest := [.ref a0]) hc hn hq (ci := 3) rfl ⟨rfl, hd_X4_isList⟩ (lw_V q2343 q2345 qs57 q91 q2346) (Nat.le_of_ble_eq_true rfl) (Nat.le_of_ble_eq_true rfl) (fun _ _ _ _ q => m_X4_isList l D dA b0 gs h a0 v1 q) hf dX4_links_3 hl.1 rfl rfl (zroom (Nat.le_of_ble_eq_true rfl)) (fun x101 h102 H locs cells slots C9 S9 hf hq hn => ?_)
  refine lv_if_eq (tgt := 13) hx hb dX4_links_6 (by decide) (fun c9 => ?_) (fun c9 => ?_)
  · have hf := zif_t c9 hf
    refine lv_iconst (v := (1 : Int32)) hx hb dX4_links_13 (by decide) ?_
    exact m_X4_links_b14 hc hr hin h102 a0 v1 a0 (1 : Int32) _ _ _ _ _ _ hf hq hn _ (lv_sub hl [0, 1] rfl)
  · have hf := zif_f c9 hf
    refine lv_iconst (v := (0 : Int32)) hx hb dX4_links_9 (by decide) ?_
    refine lv_goto (tgt := 14) hx hb dX4_links_10 (by decide) ?_
    exact m_X4_links_b14 hc hr hin h102 a0 v1 a0 (0 : Int32) _ _ _ _ _ _ hf hq hn _ (lv_sub hl [0, 1] rfl)
theorem hd_X4_seeks : yX4_seeks.cls ≠ "java/lang/invoke/MethodHandle" ∧ yX4_seeks.cls ≠ "java/lang/invoke/VarHandle" ∧ (parseMethodDescriptor yX4_seeks.desc).map (fun d => d.parameters.length) = some 3 := by decide +kernel
def f_X4_seeks_b139 (k31 : PH → Nat → Int32 → Int32 → Int32 → Int32 → Int32 → Int32 → ZR Unit) (h : PH) (a0 : Nat) (v1 : Int32) (v2 : Int32) (v3 : Int32) (v4 : Int32) (v5 : Int32) (v6 : Int32) : ZR Unit :=
  znm (v6 + (-1 : Int32)) fun x101 =>
  k31 h a0 v1 v2 v3 v4 v5 x101
def f_X4_seeks_b115 (k31 : PH → Nat → Int32 → Int32 → Int32 → Int32 → Int32 → Int32 → ZR Unit) (k48 : PH → Nat → Int32 → Int32 → Int32 → Int32 → Int32 → Int32 → Int32 → ZR Unit) (h : PH) (a0 : Nat) (v1 : Int32) (v2 : Int32) (v3 : Int32) (v4 : Int32) (v5 : Int32) (v6 : Int32) : ZR Unit :=
  zgI h a0 3 28 fun x101 =>
  znm (x101 + (1 : Int32)) fun x102 =>
  zpI h a0 3 28 x102 fun h103 =>
  zrc h103 a0 3 <| zcl (f_X4_after h103 a0 v1 v6 v5) fun x104 h105 =>
  k48 h105 a0 v1 v2 v3 v4 v5 v6 x104
def f_X4_seeks_b48 (k31 : PH → Nat → Int32 → Int32 → Int32 → Int32 → Int32 → Int32 → ZR Unit) : Nat → PH → Nat → Int32 → Int32 → Int32 → Int32 → Int32 → Int32 → Int32 → ZR Unit
  | 0 => fun _ _ _ _ _ _ _ _ _ => none
  | n + 1 => fun h a0 v1 v2 v3 v4 v5 v6 v7 =>
    zgP h a0 3 1 fun x101 =>
    znm (v4 + (1 : Int32)) fun x102 =>
    znn x101 fun a103 =>
    zaI h a103 0 x102 fun x104 =>
    if x104 ≤ v7 then
      (f_X4_seeks_b139 k31 h a0 v1 v2 v3 v4 v5 v6)
    else
      (zgI h a0 3 27 fun x105 =>
      znm (x105 + (1 : Int32)) fun x106 =>
      zpI h a0 3 27 x106 fun h107 =>
      zgP h107 a0 3 1 fun x108 =>
      znm (v4 + (2 : Int32)) fun x109 =>
      znm (x109 + v7) fun x110 =>
      znn x108 fun a111 =>
      zaI h107 a111 0 x110 fun x112 =>
      if x112 < v2 then
        (zgI h107 a0 3 28 fun x113 =>
        if x113 = v3 then
          (zpI h107 a0 3 29 v7 fun h114 =>
          zpI h114 a0 3 30 v6 fun h115 =>
          f_X4_seeks_b115 k31 (f_X4_seeks_b48 k31 n) h115 a0 v1 v2 v3 v4 v7 v6)
        else
          (f_X4_seeks_b115 k31 (f_X4_seeks_b48 k31 n) h107 a0 v1 v2 v3 v4 v7 v6))
      else
        (f_X4_seeks_b139 k31 h107 a0 v1 v2 v3 v4 v5 v6))
def f_X4_seeks_b31 : Nat → PH → Nat → Int32 → Int32 → Int32 → Int32 → Int32 → Int32 → ZR Unit
  | 0 => fun _ _ _ _ _ _ _ _ => none
  | n + 1 => fun h a0 v1 v2 v3 v4 v5 v6 =>
    if v6 < (1 : Int32) then
      (zret () h)
    else
      (zrc h a0 3 <| zcl (f_X4_after h a0 v1 v6 v5) fun x101 h102 =>
      f_X4_seeks_b48 (f_X4_seeks_b31 n) zFU h102 a0 v1 v2 v3 v4 v5 v6 x101)
def f_X4_seeks (h : PH) (a0 : Nat) (v1 : Int32) (v2 : Int32) (v3 : Int32) : ZR Unit :=
  zcl (f_X4_base h v1) fun x101 h102 =>
  zpI h102 a0 3 27 (0 : Int32) fun h103 =>
  zpI h103 a0 3 28 (0 : Int32) fun h104 =>
  zpI h104 a0 3 29 (-1 : Int32) fun h105 =>
  zrc h105 a0 3 <| zcl (f_X4_heightOf h105 a0 v1) fun x106 h107 =>
  f_X4_seeks_b31 zFU h107 a0 v1 v2 v3 x101 (-1 : Int32) x106
set_option maxHeartbeats 4000000 in
set_option maxRecDepth 100000 in
theorem m_X4_seeks_b139 {p : Program} {l : Launch} {e : Env} {s : State} {m : MethodId} {args : Array Value} {below : List Frame} {meth : Method} {c : Code} {D : va_G} {dA : Nat → ClassId} {b0 : Nat} {gs : Nat → Option Nat} (hc : zC D dA b0 gs yX4_seeks.cls cX4_seeks 8 p c s m args meth) (hr : meth.sig.returnType = none) (hin : meth.name = yX4_seeks.name) {r : Unit} {hh : PH} {mc ms : Nat} (k31 : PH → Nat → Int32 → Int32 → Int32 → Int32 → Int32 → Int32 → ZR Unit) (hk31 : ∀ (h : PH) (a0 : Nat) (v1 : Int32) (v2 : Int32) (v3 : Int32) (v4 : Int32) (v5 : Int32) (v6 : Int32) (C9 S9 : Nat) (H : Heap) (locs : List Loc) (cells slots : Nat), k31 h a0 v1 v2 v3 v4 v5 v6 = some (r, hh, C9, S9) → cells + C9 = mc ∧ slots + S9 = ms → zM D dA b0 gs s h H locs → ∀ ls : Array Slot, lv_has ls 8 [(0, .ref a0), (1, .int v1), (2, .int v2), (3, .int v3), (4, .int v4), (5, .int v5), (6, .int v6)] → W p l e ({ frames := 3, cells := mc, slots := ms, locals := 105 } : Room) s m args below meth c H locs cells slots (MQ below (zQ D dA b0 gs (evU r) hh) args s mc ms (zA b0)) (F0 m 31 ls [])) : ∀ (h : PH) (a0 : Nat) (v1 : Int32) (v2 : Int32) (v3 : Int32) (v4 : Int32) (v5 : Int32) (v6 : Int32) (C9 S9 : Nat) (H : Heap) (locs : List Loc) (cells slots : Nat), f_X4_seeks_b139 k31 h a0 v1 v2 v3 v4 v5 v6 = some (r, hh, C9, S9) → cells + C9 = mc ∧ slots + S9 = ms → zM D dA b0 gs s h H locs → ∀ ls : Array Slot, lv_has ls 8 [(0, .ref a0), (1, .int v1), (2, .int v2), (3, .int v3), (4, .int v4), (5, .int v5), (6, .int v6)] → W p l e ({ frames := 3, cells := mc, slots := ms, locals := 105 } : Room) s m args below meth c H locs cells slots (MQ below (zQ D dA b0 gs (evU r) hh) args s mc ms (zA b0)) (F0 m 139 ls []) := by
  have hx := hc.x
  have hb := hc.b
  intro h a0 v1 v2 v3 v4 v5 v6 C9 S9 H locs cells slots hf hq hn ls hl
  unfold f_X4_seeks_b139 at hf
  obtain ⟨x101, ex101, hf⟩ := znm_i hf
  refine lv_iinc (v := x101) (lv' := [(6, .int x101), (0, .ref a0), (1, .int v1), (2, .int v2), (3, .int v3), (4, .int v4), (5, .int v5)]) hx hb dX4_seeks_139 hl (k := 6) rfl (by rw [ex101]; rfl) (by decide) rfl (fun ls hl => ?_)
  refine lv_goto (tgt := 31) hx hb dX4_seeks_142 (by decide) ?_
  exact hk31 h a0 v1 v2 v3 v4 v5 x101 _ _ _ _ _ _ hf hq hn _ (lv_sub hl [1, 2, 3, 4, 5, 6, 0] rfl)
set_option maxHeartbeats 4000000 in
set_option maxRecDepth 100000 in
theorem m_X4_seeks_b115 {p : Program} {l : Launch} {e : Env} {s : State} {m : MethodId} {args : Array Value} {below : List Frame} {meth : Method} {c : Code} {D : va_G} {dA : Nat → ClassId} {b0 : Nat} {gs : Nat → Option Nat} (hc : zC D dA b0 gs yX4_seeks.cls cX4_seeks 8 p c s m args meth) (hr : meth.sig.returnType = none) (hin : meth.name = yX4_seeks.name) {r : Unit} {hh : PH} {mc ms : Nat} (k31 : PH → Nat → Int32 → Int32 → Int32 → Int32 → Int32 → Int32 → ZR Unit) (hk31 : ∀ (h : PH) (a0 : Nat) (v1 : Int32) (v2 : Int32) (v3 : Int32) (v4 : Int32) (v5 : Int32) (v6 : Int32) (C9 S9 : Nat) (H : Heap) (locs : List Loc) (cells slots : Nat), k31 h a0 v1 v2 v3 v4 v5 v6 = some (r, hh, C9, S9) → cells + C9 = mc ∧ slots + S9 = ms → zM D dA b0 gs s h H locs → ∀ ls : Array Slot, lv_has ls 8 [(0, .ref a0), (1, .int v1), (2, .int v2), (3, .int v3), (4, .int v4), (5, .int v5), (6, .int v6)] → W p l e ({ frames := 3, cells := mc, slots := ms, locals := 105 } : Room) s m args below meth c H locs cells slots (MQ below (zQ D dA b0 gs (evU r) hh) args s mc ms (zA b0)) (F0 m 31 ls [])) (k48 : PH → Nat → Int32 → Int32 → Int32 → Int32 → Int32 → Int32 → Int32 → ZR Unit) (hk48 : ∀ (h : PH) (a0 : Nat) (v1 : Int32) (v2 : Int32) (v3 : Int32) (v4 : Int32) (v5 : Int32) (v6 : Int32) (v7 : Int32) (C9 S9 : Nat) (H : Heap) (locs : List Loc) (cells slots : Nat), k48 h a0 v1 v2 v3 v4 v5 v6 v7 = some (r, hh, C9, S9) → cells + C9 = mc ∧ slots + S9 = ms → zM D dA b0 gs s h H locs → ∀ ls : Array Slot, lv_has ls 8 [(0, .ref a0), (1, .int v1), (2, .int v2), (3, .int v3), (4, .int v4), (5, .int v5), (6, .int v6), (7, .int v7)] → W p l e ({ frames := 3, cells := mc, slots := ms, locals := 105 } : Room) s m args below meth c H locs cells slots (MQ below (zQ D dA b0 gs (evU r) hh) args s mc ms (zA b0)) (F0 m 48 ls [])) : ∀ (h : PH) (a0 : Nat) (v1 : Int32) (v2 : Int32) (v3 : Int32) (v4 : Int32) (v5 : Int32) (v6 : Int32) (C9 S9 : Nat) (H : Heap) (locs : List Loc) (cells slots : Nat), f_X4_seeks_b115 k31 k48 h a0 v1 v2 v3 v4 v5 v6 = some (r, hh, C9, S9) → cells + C9 = mc ∧ slots + S9 = ms → zM D dA b0 gs s h H locs → ∀ ls : Array Slot, lv_has ls 8 [(0, .ref a0), (1, .int v1), (2, .int v2), (3, .int v3), (4, .int v4), (5, .int v5), (6, .int v6)] → W p l e ({ frames := 3, cells := mc, slots := ms, locals := 105 } : Room) s m args below meth c H locs cells slots (MQ below (zQ D dA b0 gs (evU r) hh) args s mc ms (zA b0)) (F0 m 115 ls []) := by
  have hx := hc.x
  have hb := hc.b
  intro h a0 v1 v2 v3 v4 v5 v6 C9 S9 H locs cells slots hf hq hn ls hl
  unfold f_X4_seeks_b115 at hf
  refine lv_aload_n (x := a0) hx hb dX4_seeks_115 rfl (lv_at hl 0 rfl) ?_
  refine lv_dup hx hb dX4_seeks_116 rfl ?_
  refine zr_gI hc hn (ci := 3) rfl rfl in_X4 28 (by decide) q2127 (fun _ h => h) (fun _ _ _ => rfl) hf dX4_seeks_117 (fun x101 hf => ?_)
  refine lv_iconst (v := (1 : Int32)) hx hb dX4_seeks_120 (by decide) ?_
  refine lv_iadd hx hb dX4_seeks_121 ?_
  refine zr_nmI hf (fun x102 hf => ?_)
  refine zr_pI (x := x102) hc hn (ci := 3) rfl rfl in_X4 28 (by decide) tyX4 tyX4_ok nmX4 q2127 (fun _ h => h) (Or.inl rfl) (fun _ _ _ => rfl) rfl rfl hf dX4_seeks_122 (fun h103 H locs hf hn => ?_)
  refine lv_aload_n (x := a0) hx hb dX4_seeks_125 rfl (lv_at hl 0 rfl) ?_
  refine lv_iload_n hx hb dX4_seeks_126 rfl (lv_at hl 1 rfl) ?_
  refine lv_iload hx hb dX4_seeks_127 (lv_at hl 6 rfl) ?_
  refine lv_iload hx hb dX4_seeks_129 (lv_at hl 5 rfl) ?_
  refine zr_cVI (As := [.int v1, .int v6, .int v5]) (rest := []) hc hn hq (ci := 3) rfl ⟨rfl, hd_X4_after⟩ (lw_V q2303 q2305 qs51 q91 q2306) (Nat.le_of_ble_eq_true rfl) (Nat.le_of_ble_eq_true rfl) (fun _ _ _ _ q => m_X4_after l D dA b0 gs h103 a0 v1 v6 v5 q) hf dX4_seeks_131 hl.1 rfl rfl (zroom (Nat.le_of_ble_eq_true rfl)) (fun x104 h105 H locs cells slots C9 S9 hf hq hn => ?_)
  refine lv_istore (lv' := [(7, .int x104), (0, .ref a0), (1, .int v1), (2, .int v2), (3, .int v3), (4, .int v4), (5, .int v5), (6, .int v6)]) hx hb dX4_seeks_134 hl (by decide) rfl (fun ls hl => ?_)
  refine lv_goto (tgt := 48) hx hb dX4_seeks_136 (by decide) ?_
  exact hk48 h105 a0 v1 v2 v3 v4 v5 v6 x104 _ _ _ _ _ _ hf hq hn _ (lv_sub hl [1, 2, 3, 4, 5, 6, 7, 0] rfl)
set_option maxHeartbeats 4000000 in
set_option maxRecDepth 100000 in
theorem m_X4_seeks_b48 {p : Program} {l : Launch} {e : Env} {s : State} {m : MethodId} {args : Array Value} {below : List Frame} {meth : Method} {c : Code} {D : va_G} {dA : Nat → ClassId} {b0 : Nat} {gs : Nat → Option Nat} (hc : zC D dA b0 gs yX4_seeks.cls cX4_seeks 8 p c s m args meth) (hr : meth.sig.returnType = none) (hin : meth.name = yX4_seeks.name) {r : Unit} {hh : PH} {mc ms : Nat} (k31 : PH → Nat → Int32 → Int32 → Int32 → Int32 → Int32 → Int32 → ZR Unit) (hk31 : ∀ (h : PH) (a0 : Nat) (v1 : Int32) (v2 : Int32) (v3 : Int32) (v4 : Int32) (v5 : Int32) (v6 : Int32) (C9 S9 : Nat) (H : Heap) (locs : List Loc) (cells slots : Nat), k31 h a0 v1 v2 v3 v4 v5 v6 = some (r, hh, C9, S9) → cells + C9 = mc ∧ slots + S9 = ms → zM D dA b0 gs s h H locs → ∀ ls : Array Slot, lv_has ls 8 [(0, .ref a0), (1, .int v1), (2, .int v2), (3, .int v3), (4, .int v4), (5, .int v5), (6, .int v6)] → W p l e ({ frames := 3, cells := mc, slots := ms, locals := 105 } : Room) s m args below meth c H locs cells slots (MQ below (zQ D dA b0 gs (evU r) hh) args s mc ms (zA b0)) (F0 m 31 ls [])) : ∀ (n : Nat) (h : PH) (a0 : Nat) (v1 : Int32) (v2 : Int32) (v3 : Int32) (v4 : Int32) (v5 : Int32) (v6 : Int32) (v7 : Int32) (C9 S9 : Nat) (H : Heap) (locs : List Loc) (cells slots : Nat), f_X4_seeks_b48 k31 n h a0 v1 v2 v3 v4 v5 v6 v7 = some (r, hh, C9, S9) → cells + C9 = mc ∧ slots + S9 = ms → zM D dA b0 gs s h H locs → ∀ ls : Array Slot, lv_has ls 8 [(0, .ref a0), (1, .int v1), (2, .int v2), (3, .int v3), (4, .int v4), (5, .int v5), (6, .int v6), (7, .int v7)] → W p l e ({ frames := 3, cells := mc, slots := ms, locals := 105 } : Room) s m args below meth c H locs cells slots (MQ below (zQ D dA b0 gs (evU r) hh) args s mc ms (zA b0)) (F0 m 48 ls []) := by
  have hx := hc.x
  have hb := hc.b
  intro n
  induction n with
  | zero =>
    intro h a0 v1 v2 v3 v4 v5 v6 v7 C9 S9 H locs cells slots hf hq hn ls hl
    cases hf
  | succ n ih =>
    intro h a0 v1 v2 v3 v4 v5 v6 v7 C9 S9 H locs cells slots hf hq hn ls hl
    unfold f_X4_seeks_b48 at hf
    refine lv_iload hx hb dX4_seeks_48 (lv_at hl 7 rfl) ?_
    refine lv_aload_n (x := a0) hx hb dX4_seeks_50 rfl (lv_at hl 0 rfl) ?_
    refine zr_gP hc hn (ci := 3) rfl rfl in_X4 1 (by decide) q2100 (fun _ h => h) (fun _ _ _ => rfl) hf dX4_seeks_51 (fun x101 hf => ?_)
    refine lv_iload hx hb dX4_seeks_54 (lv_at hl 4 rfl) ?_
    refine lv_iconst (v := (1 : Int32)) hx hb dX4_seeks_56 (by decide) ?_
    refine lv_iadd hx hb dX4_seeks_57 ?_
    refine zr_nmI hf (fun x102 hf => ?_)
    obtain ⟨a103, e9, hf9⟩ := znn_i hf
    subst e9
    have hf := hf9
    clear hf9
    refine zr_aI0 hc hn hf dX4_seeks_58 (fun x104 hf => ?_)
    refine lv_icmp_ge (tgt := 139) hx hb dX4_seeks_59 (by decide) (fun c9 => ?_) (fun c9 => ?_)
    · have hf := zif_t c9 hf
      exact m_X4_seeks_b139 hc hr hin k31 hk31 h a0 v1 v2 v3 v4 v5 v6 _ _ _ _ _ _ hf hq hn _ (lv_sub hl [0, 1, 2, 3, 4, 5, 6] rfl)
    · have hf := zif_f c9 hf
      refine lv_aload_n (x := a0) hx hb dX4_seeks_62 rfl (lv_at hl 0 rfl) ?_
      refine lv_dup hx hb dX4_seeks_63 rfl ?_
      refine zr_gI hc hn (ci := 3) rfl rfl in_X4 27 (by decide) q2126 (fun _ h => h) (fun _ _ _ => rfl) hf dX4_seeks_64 (fun x105 hf => ?_)
      refine lv_iconst (v := (1 : Int32)) hx hb dX4_seeks_67 (by decide) ?_
      refine lv_iadd hx hb dX4_seeks_68 ?_
      refine zr_nmI hf (fun x106 hf => ?_)
      refine zr_pI (x := x106) hc hn (ci := 3) rfl rfl in_X4 27 (by decide) tyX4 tyX4_ok nmX4 q2126 (fun _ h => h) (Or.inl rfl) (fun _ _ _ => rfl) rfl rfl hf dX4_seeks_69 (fun h107 H locs hf hn => ?_)
      refine lv_aload_n (x := a0) hx hb dX4_seeks_72 rfl (lv_at hl 0 rfl) ?_
      refine zr_gP hc hn (ci := 3) rfl rfl in_X4 1 (by decide) q2100 (fun _ h => h) (fun _ _ _ => rfl) hf dX4_seeks_73 (fun x108 hf => ?_)
      refine lv_iload hx hb dX4_seeks_76 (lv_at hl 4 rfl) ?_
      refine lv_iconst (v := (2 : Int32)) hx hb dX4_seeks_78 (by decide) ?_
      refine lv_iadd hx hb dX4_seeks_79 ?_
      refine zr_nmI hf (fun x109 hf => ?_)
      refine lv_iload hx hb dX4_seeks_80 (lv_at hl 7 rfl) ?_
      refine lv_iadd hx hb dX4_seeks_82 ?_
      refine zr_nmI hf (fun x110 hf => ?_)
      obtain ⟨a111, e9, hf9⟩ := znn_i hf
      subst e9
      have hf := hf9
      clear hf9
      refine zr_aI0 hc hn hf dX4_seeks_83 (fun x112 hf => ?_)
      refine lv_iload_n hx hb dX4_seeks_84 rfl (lv_at hl 2 rfl) ?_
      refine lv_icmp_lt (tgt := 91) hx hb dX4_seeks_85 (by decide) (fun c9 => ?_) (fun c9 => ?_)
      · have hf := zif_t c9 hf
        refine lv_iload hx hb dX4_seeks_91 (lv_at hl 7 rfl) ?_
        refine lv_istore (lv' := [(5, .int v7), (0, .ref a0), (1, .int v1), (2, .int v2), (3, .int v3), (4, .int v4), (6, .int v6), (7, .int v7)]) hx hb dX4_seeks_93 hl (by decide) rfl (fun ls hl => ?_)
        refine lv_aload_n (x := a0) hx hb dX4_seeks_95 rfl (lv_at hl 1 rfl) ?_
        refine zr_gI hc hn (ci := 3) rfl rfl in_X4 28 (by decide) q2127 (fun _ h => h) (fun _ _ _ => rfl) hf dX4_seeks_96 (fun x113 hf => ?_)
        refine lv_iload_n hx hb dX4_seeks_99 rfl (lv_at hl 4 rfl) ?_
        refine lv_icmp_ne (tgt := 115) hx hb dX4_seeks_100 (by decide) (fun c9 => ?_) (fun c9 => ?_)
        · have hf := zif_f c9 hf
          exact m_X4_seeks_b115 hc hr hin k31 hk31 (f_X4_seeks_b48 k31 n) ih h107 a0 v1 v2 v3 v4 v7 v6 _ _ _ _ _ _ hf hq hn _ (lv_sub hl [1, 2, 3, 4, 5, 0, 6] rfl)
        · have hf := zif_t c9 hf
          refine lv_aload_n (x := a0) hx hb dX4_seeks_103 rfl (lv_at hl 1 rfl) ?_
          refine lv_iload hx hb dX4_seeks_104 (lv_at hl 0 rfl) ?_
          refine zr_pI (x := v7) hc hn (ci := 3) rfl rfl in_X4 29 (by decide) tyX4 tyX4_ok nmX4 q2128 (fun _ h => h) (Or.inl rfl) (fun _ _ _ => rfl) rfl rfl hf dX4_seeks_106 (fun h114 H locs hf hn => ?_)
          refine lv_aload_n (x := a0) hx hb dX4_seeks_109 rfl (lv_at hl 1 rfl) ?_
          refine lv_iload hx hb dX4_seeks_110 (lv_at hl 6 rfl) ?_
          refine zr_pI (x := v6) hc hn (ci := 3) rfl rfl in_X4 30 (by decide) tyX4 tyX4_ok nmX4 q2129 (fun _ h => h) (Or.inl rfl) (fun _ _ _ => rfl) rfl rfl hf dX4_seeks_112 (fun h115 H locs hf hn => ?_)
          exact m_X4_seeks_b115 hc hr hin k31 hk31 (f_X4_seeks_b48 k31 n) ih h115 a0 v1 v2 v3 v4 v7 v6 _ _ _ _ _ _ hf hq hn _ (lv_sub hl [1, 2, 3, 4, 5, 0, 6] rfl)
      · have hf := zif_f c9 hf
        refine lv_goto (tgt := 139) hx hb dX4_seeks_88 (by decide) ?_
        exact m_X4_seeks_b139 hc hr hin k31 hk31 h107 a0 v1 v2 v3 v4 v5 v6 _ _ _ _ _ _ hf hq hn _ (lv_sub hl [0, 1, 2, 3, 4, 5, 6] rfl)
set_option maxHeartbeats 4000000 in
set_option maxRecDepth 100000 in
theorem m_X4_seeks_b31 {p : Program} {l : Launch} {e : Env} {s : State} {m : MethodId} {args : Array Value} {below : List Frame} {meth : Method} {c : Code} {D : va_G} {dA : Nat → ClassId} {b0 : Nat} {gs : Nat → Option Nat} (hc : zC D dA b0 gs yX4_seeks.cls cX4_seeks 8 p c s m args meth) (hr : meth.sig.returnType = none) (hin : meth.name = yX4_seeks.name) {r : Unit} {hh : PH} {mc ms : Nat} : ∀ (n : Nat) (h : PH) (a0 : Nat) (v1 : Int32) (v2 : Int32) (v3 : Int32) (v4 : Int32) (v5 : Int32) (v6 : Int32) (C9 S9 : Nat) (H : Heap) (locs : List Loc) (cells slots : Nat), f_X4_seeks_b31 n h a0 v1 v2 v3 v4 v5 v6 = some (r, hh, C9, S9) → cells + C9 = mc ∧ slots + S9 = ms → zM D dA b0 gs s h H locs → ∀ ls : Array Slot, lv_has ls 8 [(0, .ref a0), (1, .int v1), (2, .int v2), (3, .int v3), (4, .int v4), (5, .int v5), (6, .int v6)] → W p l e ({ frames := 3, cells := mc, slots := ms, locals := 105 } : Room) s m args below meth c H locs cells slots (MQ below (zQ D dA b0 gs (evU r) hh) args s mc ms (zA b0)) (F0 m 31 ls []) := by
  have hx := hc.x
  have hb := hc.b
  intro n
  induction n with
  | zero =>
    intro h a0 v1 v2 v3 v4 v5 v6 C9 S9 H locs cells slots hf hq hn ls hl
    cases hf
  | succ n ih =>
    intro h a0 v1 v2 v3 v4 v5 v6 C9 S9 H locs cells slots hf hq hn ls hl
    unfold f_X4_seeks_b31 at hf
    refine lv_iload hx hb dX4_seeks_31 (lv_at hl 6 rfl) ?_
    refine lv_iconst (v := (1 : Int32)) hx hb dX4_seeks_33 (by decide) ?_
    refine lv_icmp_lt (tgt := 145) hx hb dX4_seeks_34 (by decide) (fun c9 => ?_) (fun c9 => ?_)
    · have hf := zif_t c9 hf
      obtain ⟨rfl, rfl, rfl, rfl⟩ := zret_i hf
      exact zr_vret hc hn hr hq (fun _ _ _ _ q => q) dX4_seeks_145
    · have hf := zif_f c9 hf
      refine lv_aload_n (x := a0) hx hb dX4_seeks_37 rfl (lv_at hl 0 rfl) ?_
      refine lv_iload_n hx hb dX4_seeks_38 rfl (lv_at hl 1 rfl) ?_
      refine lv_iload hx hb dX4_seeks_39 (lv_at hl 6 rfl) ?_
      refine lv_iload hx hb dX4_seeks_41 (lv_at hl 5 rfl) ?_
      refine zr_cVI (As := [.int v1, .int v6, .int v5]) (rest := []) hc hn hq (ci := 3) rfl ⟨rfl, hd_X4_after⟩ (lw_V q2303 q2305 qs51 q91 q2306) (Nat.le_of_ble_eq_true rfl) (Nat.le_of_ble_eq_true rfl) (fun _ _ _ _ q => m_X4_after l D dA b0 gs h a0 v1 v6 v5 q) hf dX4_seeks_43 hl.1 rfl rfl (zroom (Nat.le_of_ble_eq_true rfl)) (fun x101 h102 H locs cells slots C9 S9 hf hq hn => ?_)
      refine lv_istore (lv' := [(7, .int x101), (0, .ref a0), (1, .int v1), (2, .int v2), (3, .int v3), (4, .int v4), (5, .int v5), (6, .int v6)]) hx hb dX4_seeks_46 hl (by decide) rfl (fun ls hl => ?_)
      exact m_X4_seeks_b48 hc hr hin (f_X4_seeks_b31 n) ih zFU h102 a0 v1 v2 v3 v4 v5 v6 x101 _ _ _ _ _ _ hf hq hn _ (lv_sub hl [1, 2, 3, 4, 5, 6, 7, 0] rfl)
set_option maxHeartbeats 4000000 in
set_option maxRecDepth 100000 in
theorem m_X4_seeks (l : Launch) (D : va_G) (dA : Nat → ClassId) (b0 : Nat) (gs : Nat → Option Nat) (h : PH) (a0 : Nat) (v1 : Int32) (v2 : Int32) (v3 : Int32) {r : Unit} {hh : PH} {mc ms : Nat} (hf : f_X4_seeks h a0 v1 v2 v3 = some (r, hh, mc, ms)) : zMt l D dA b0 gs yX4_seeks cX4_seeks 8 none 3 105 [.ref a0, .int v1, .int v2, .int v3] h (evU r) hh mc ms := by
  unfold f_X4_seeks at hf
  refine zMt.of (by decide) (Nat.le_of_ble_eq_true rfl) ?_
  intro p e s m args below meth c hc hr hin hn ls hl
  have hl : lv_has ls 8 [(0, .ref a0), (1, .int v1), (2, .int v2), (3, .int v3)] := hl
  have hq : 0 + mc = mc ∧ 0 + ms = ms := ⟨Nat.zero_add _, Nat.zero_add _⟩
  have hx := hc.x
  have hb := hc.b
  refine lv_iload_n hx hb dX4_seeks_0 rfl (lv_at hl 1 rfl) ?_
  refine zr_cSI (As := [.int v1]) (rest := []) hc hn hq hd_X4_base (lw_S q2284 q2285 q91 q2286) (Nat.le_of_ble_eq_true rfl) (Nat.le_of_ble_eq_true rfl) (fun _ _ _ _ q => m_X4_base l D dA b0 gs h v1 q) hf dX4_seeks_1 hl.1 rfl rfl (zroom (Nat.le_of_ble_eq_true rfl)) (fun x101 h102 H locs cells slots C9 S9 hf hq hn => ?_)
  refine lv_istore (lv' := [(4, .int x101), (0, .ref a0), (1, .int v1), (2, .int v2), (3, .int v3)]) hx hb dX4_seeks_4 hl (by decide) rfl (fun ls hl => ?_)
  refine lv_aload_n (x := a0) hx hb dX4_seeks_6 rfl (lv_at hl 1 rfl) ?_
  refine lv_iconst (v := (0 : Int32)) hx hb dX4_seeks_7 (by decide) ?_
  refine zr_pI (x := (0 : Int32)) hc hn (ci := 3) rfl rfl in_X4 27 (by decide) tyX4 tyX4_ok nmX4 q2126 (fun _ h => h) (Or.inl rfl) (fun _ _ _ => rfl) rfl rfl hf dX4_seeks_8 (fun h103 H locs hf hn => ?_)
  refine lv_aload_n (x := a0) hx hb dX4_seeks_11 rfl (lv_at hl 1 rfl) ?_
  refine lv_iconst (v := (0 : Int32)) hx hb dX4_seeks_12 (by decide) ?_
  refine zr_pI (x := (0 : Int32)) hc hn (ci := 3) rfl rfl in_X4 28 (by decide) tyX4 tyX4_ok nmX4 q2127 (fun _ h => h) (Or.inl rfl) (fun _ _ _ => rfl) rfl rfl hf dX4_seeks_13 (fun h104 H locs hf hn => ?_)
  refine lv_aload_n (x := a0) hx hb dX4_seeks_16 rfl (lv_at hl 1 rfl) ?_
  refine lv_iconst (v := (-1 : Int32)) hx hb dX4_seeks_17 (by decide) ?_
  refine zr_pI (x := (-1 : Int32)) hc hn (ci := 3) rfl rfl in_X4 29 (by decide) tyX4 tyX4_ok nmX4 q2128 (fun _ h => h) (Or.inl rfl) (fun _ _ _ => rfl) rfl rfl hf dX4_seeks_18 (fun h105 H locs hf hn => ?_)
  refine lv_iconst (v := (-1 : Int32)) hx hb dX4_seeks_21 (by decide) ?_
  refine lv_istore (lv' := [(5, .int (-1 : Int32)), (4, .int x101), (0, .ref a0), (1, .int v1), (2, .int v2), (3, .int v3)]) hx hb dX4_seeks_22 hl (by decide) rfl (fun ls hl => ?_)
  refine lv_aload_n (x := a0) hx hb dX4_seeks_24 rfl (lv_at hl 2 rfl) ?_
  refine lv_iload_n hx hb dX4_seeks_25 rfl (lv_at hl 3 rfl) ?_
  refine zr_cVI (As := [.int v1]) (rest := []) hc hn hq (ci := 3) rfl ⟨rfl, hd_X4_heightOf⟩ (lw_V q2299 q2301 qs50 q91 q2302) (Nat.le_of_ble_eq_true rfl) (Nat.le_of_ble_eq_true rfl) (fun _ _ _ _ q => m_X4_heightOf l D dA b0 gs h105 a0 v1 q) hf dX4_seeks_26 hl.1 rfl rfl (zroom (Nat.le_of_ble_eq_true rfl)) (fun x106 h107 H locs cells slots C9 S9 hf hq hn => ?_)
  refine lv_istore (lv' := [(6, .int x106), (5, .int (-1 : Int32)), (4, .int x101), (0, .ref a0), (1, .int v1), (2, .int v2), (3, .int v3)]) hx hb dX4_seeks_29 hl (by decide) rfl (fun ls hl => ?_)
  exact m_X4_seeks_b31 hc hr hin zFU h107 a0 v1 v2 v3 x101 (-1 : Int32) x106 _ _ _ _ _ _ hf hq hn _ (lv_sub hl [3, 4, 5, 6, 2, 1, 0] rfl)
theorem hd_X4_steps : yX4_steps.cls ≠ "java/lang/invoke/MethodHandle" ∧ yX4_steps.cls ≠ "java/lang/invoke/VarHandle" ∧ (parseMethodDescriptor yX4_steps.desc).map (fun d => d.parameters.length) = some 2 := by decide +kernel
def f_X4_steps (h : PH) (a0 : Nat) (v1 : Int32) (v2 : Int32) : ZR Int32 :=
  zrc h a0 3 <| zcl (f_X4_canSeek h a0 v1 v2) fun x101 h102 =>
  if x101 = 0 then
    (zret (0 : Int32) h102)
  else
    (zrc h102 a0 3 <| zcl (f_X4_seeks h102 a0 v1 v2 (-1 : Int32)) fun _ h104 =>
    zgI h104 a0 3 28 fun x105 =>
    zret x105 h104)
set_option maxHeartbeats 4000000 in
set_option maxRecDepth 100000 in
theorem m_X4_steps (l : Launch) (D : va_G) (dA : Nat → ClassId) (b0 : Nat) (gs : Nat → Option Nat) (h : PH) (a0 : Nat) (v1 : Int32) (v2 : Int32) {r : Int32} {hh : PH} {mc ms : Nat} (hf : f_X4_steps h a0 v1 v2 = some (r, hh, mc, ms)) : zMt l D dA b0 gs yX4_steps cX4_steps 3 (some .int) 4 132 [.ref a0, .int v1, .int v2] h (evI r) hh mc ms := by
  unfold f_X4_steps at hf
  refine zMt.of (by decide) (Nat.le_of_ble_eq_true rfl) ?_
  intro p e s m args below meth c hc hr hin hn ls hl
  have hl : lv_has ls 3 [(0, .ref a0), (1, .int v1), (2, .int v2)] := hl
  have hq : 0 + mc = mc ∧ 0 + ms = ms := ⟨Nat.zero_add _, Nat.zero_add _⟩
  have hx := hc.x
  have hb := hc.b
  refine lv_aload_n (x := a0) hx hb dX4_steps_0 rfl (lv_at hl 0 rfl) ?_
  refine lv_iload_n hx hb dX4_steps_1 rfl (lv_at hl 1 rfl) ?_
  refine lv_iload_n hx hb dX4_steps_2 rfl (lv_at hl 2 rfl) ?_
  refine zr_cVI (As := [.int v1, .int v2]) (rest := []) hc hn hq (ci := 3) rfl ⟨rfl, hd_X4_canSeek⟩ (lw_V q2401 q2403 qs62 q91 q2404) (Nat.le_of_ble_eq_true rfl) (Nat.le_of_ble_eq_true rfl) (fun _ _ _ _ q => m_X4_canSeek l D dA b0 gs h a0 v1 v2 q) hf dX4_steps_3 hl.1 rfl rfl (zroom (Nat.le_of_ble_eq_true rfl)) (fun x101 h102 H locs cells slots C9 S9 hf hq hn => ?_)
  refine lv_if_ne (tgt := 11) hx hb dX4_steps_6 (by decide) (fun c9 => ?_) (fun c9 => ?_)
  · have hf := zif_f c9 hf
    refine lv_aload_n (x := a0) hx hb dX4_steps_11 rfl (lv_at hl 0 rfl) ?_
    refine lv_iload_n hx hb dX4_steps_12 rfl (lv_at hl 1 rfl) ?_
    refine lv_iload_n hx hb dX4_steps_13 rfl (lv_at hl 2 rfl) ?_
    refine lv_iconst (v := (-1 : Int32)) hx hb dX4_steps_14 (by decide) ?_
    refine zr_cVU (As := [.int v1, .int v2, .int (-1 : Int32)]) (rest := []) hc hn hq (ci := 3) rfl ⟨rfl, hd_X4_seeks⟩ (lw_V q2449 q2451 qs66 q91 q2452) (Nat.le_of_ble_eq_true rfl) (Nat.le_of_ble_eq_true rfl) (fun _ _ _ _ q => m_X4_seeks l D dA b0 gs h102 a0 v1 v2 (-1 : Int32) q) hf dX4_steps_15 hl.1 rfl rfl (zroom (Nat.le_of_ble_eq_true rfl)) (fun x103 h104 H locs cells slots C9 S9 hf hq hn => ?_)
    refine lv_aload_n (x := a0) hx hb dX4_steps_18 rfl (lv_at hl 0 rfl) ?_
    refine zr_gI hc hn (ci := 3) rfl rfl in_X4 28 (by decide) q2127 (fun _ h => h) (fun _ _ _ => rfl) hf dX4_steps_19 (fun x105 hf => ?_)
    obtain ⟨rfl, rfl, rfl, rfl⟩ := zret_i hf
    exact zr_iret hc hn hr hq (fun _ _ _ _ q => q) dX4_steps_22
  · have hf := zif_t c9 hf
    refine lv_iconst (v := (0 : Int32)) hx hb dX4_steps_9 (by decide) ?_
    obtain ⟨rfl, rfl, rfl, rfl⟩ := zret_i hf
    exact zr_iret hc hn hr hq (fun _ _ _ _ q => q) dX4_steps_10
theorem hd_X4_looks : yX4_looks.cls ≠ "java/lang/invoke/MethodHandle" ∧ yX4_looks.cls ≠ "java/lang/invoke/VarHandle" ∧ (parseMethodDescriptor yX4_looks.desc).map (fun d => d.parameters.length) = some 2 := by decide +kernel
def f_X4_looks (h : PH) (a0 : Nat) (v1 : Int32) (v2 : Int32) : ZR Int32 :=
  zrc h a0 3 <| zcl (f_X4_canSeek h a0 v1 v2) fun x101 h102 =>
  if x101 = 0 then
    (zret (0 : Int32) h102)
  else
    (zrc h102 a0 3 <| zcl (f_X4_seeks h102 a0 v1 v2 (-1 : Int32)) fun _ h104 =>
    zgI h104 a0 3 27 fun x105 =>
    zret x105 h104)
set_option maxHeartbeats 4000000 in
set_option maxRecDepth 100000 in
theorem m_X4_looks (l : Launch) (D : va_G) (dA : Nat → ClassId) (b0 : Nat) (gs : Nat → Option Nat) (h : PH) (a0 : Nat) (v1 : Int32) (v2 : Int32) {r : Int32} {hh : PH} {mc ms : Nat} (hf : f_X4_looks h a0 v1 v2 = some (r, hh, mc, ms)) : zMt l D dA b0 gs yX4_looks cX4_looks 3 (some .int) 4 132 [.ref a0, .int v1, .int v2] h (evI r) hh mc ms := by
  unfold f_X4_looks at hf
  refine zMt.of (by decide) (Nat.le_of_ble_eq_true rfl) ?_
  intro p e s m args below meth c hc hr hin hn ls hl
  have hl : lv_has ls 3 [(0, .ref a0), (1, .int v1), (2, .int v2)] := hl
  have hq : 0 + mc = mc ∧ 0 + ms = ms := ⟨Nat.zero_add _, Nat.zero_add _⟩
  have hx := hc.x
  have hb := hc.b
  refine lv_aload_n (x := a0) hx hb dX4_looks_0 rfl (lv_at hl 0 rfl) ?_
  refine lv_iload_n hx hb dX4_looks_1 rfl (lv_at hl 1 rfl) ?_
  refine lv_iload_n hx hb dX4_looks_2 rfl (lv_at hl 2 rfl) ?_
  refine zr_cVI (As := [.int v1, .int v2]) (rest := []) hc hn hq (ci := 3) rfl ⟨rfl, hd_X4_canSeek⟩ (lw_V q2401 q2403 qs62 q91 q2404) (Nat.le_of_ble_eq_true rfl) (Nat.le_of_ble_eq_true rfl) (fun _ _ _ _ q => m_X4_canSeek l D dA b0 gs h a0 v1 v2 q) hf dX4_looks_3 hl.1 rfl rfl (zroom (Nat.le_of_ble_eq_true rfl)) (fun x101 h102 H locs cells slots C9 S9 hf hq hn => ?_)
  refine lv_if_ne (tgt := 11) hx hb dX4_looks_6 (by decide) (fun c9 => ?_) (fun c9 => ?_)
  · have hf := zif_f c9 hf
    refine lv_aload_n (x := a0) hx hb dX4_looks_11 rfl (lv_at hl 0 rfl) ?_
    refine lv_iload_n hx hb dX4_looks_12 rfl (lv_at hl 1 rfl) ?_
    refine lv_iload_n hx hb dX4_looks_13 rfl (lv_at hl 2 rfl) ?_
    refine lv_iconst (v := (-1 : Int32)) hx hb dX4_looks_14 (by decide) ?_
    refine zr_cVU (As := [.int v1, .int v2, .int (-1 : Int32)]) (rest := []) hc hn hq (ci := 3) rfl ⟨rfl, hd_X4_seeks⟩ (lw_V q2449 q2451 qs66 q91 q2452) (Nat.le_of_ble_eq_true rfl) (Nat.le_of_ble_eq_true rfl) (fun _ _ _ _ q => m_X4_seeks l D dA b0 gs h102 a0 v1 v2 (-1 : Int32) q) hf dX4_looks_15 hl.1 rfl rfl (zroom (Nat.le_of_ble_eq_true rfl)) (fun x103 h104 H locs cells slots C9 S9 hf hq hn => ?_)
    refine lv_aload_n (x := a0) hx hb dX4_looks_18 rfl (lv_at hl 0 rfl) ?_
    refine zr_gI hc hn (ci := 3) rfl rfl in_X4 27 (by decide) q2126 (fun _ h => h) (fun _ _ _ => rfl) hf dX4_looks_19 (fun x105 hf => ?_)
    obtain ⟨rfl, rfl, rfl, rfl⟩ := zret_i hf
    exact zr_iret hc hn hr hq (fun _ _ _ _ q => q) dX4_looks_22
  · have hf := zif_t c9 hf
    refine lv_iconst (v := (0 : Int32)) hx hb dX4_looks_9 (by decide) ?_
    obtain ⟨rfl, rfl, rfl, rfl⟩ := zret_i hf
    exact zr_iret hc hn hr hq (fun _ _ _ _ q => q) dX4_looks_10
theorem hd_X4_isStep : yX4_isStep.cls ≠ "java/lang/invoke/MethodHandle" ∧ yX4_isStep.cls ≠ "java/lang/invoke/VarHandle" ∧ (parseMethodDescriptor yX4_isStep.desc).map (fun d => d.parameters.length) = some 3 := by decide +kernel
def f_X4_isStep_b23 (h : PH) (a0 : Nat) (v3 : Int32) (s0 : Nat) (s1 : Int32) (s2 : Int32) (s3 : Int32) : ZR Int32 :=
  zrc h s0 3 <| zcl (f_X4_seeks h s0 s1 s2 s3) fun _ h102 =>
  if v3 < 0 then
    (zpI h102 a0 3 0 (3 : Int32) fun h103 =>
    zgI h103 a0 3 0 fun x104 =>
    if x104 = 0 then
      (zret (1 : Int32) h103)
    else
      (zret (0 : Int32) h103))
  else
    (zgI h102 a0 3 29 fun x105 =>
    if 0 ≤ x105 then
      (zpI h102 a0 3 0 (0 : Int32) fun h106 =>
      zgI h106 a0 3 0 fun x107 =>
      if x107 = 0 then
        (zret (1 : Int32) h106)
      else
        (zret (0 : Int32) h106))
    else
      (zpI h102 a0 3 0 (3 : Int32) fun h108 =>
      zgI h108 a0 3 0 fun x109 =>
      if x109 = 0 then
        (zret (1 : Int32) h108)
      else
        (zret (0 : Int32) h108)))
def f_X4_isStep (h : PH) (a0 : Nat) (v1 : Int32) (v2 : Int32) (v3 : Int32) : ZR Int32 :=
  zrc h a0 3 <| zcl (f_X4_canSeek h a0 v1 v2) fun x101 h102 =>
  if x101 = 0 then
    (zret (0 : Int32) h102)
  else
    (if 0 ≤ v3 then
      (f_X4_isStep_b23 h102 a0 v3 a0 v1 v2 v3)
    else
      (f_X4_isStep_b23 h102 a0 v3 a0 v1 v2 (-1 : Int32)))
set_option maxHeartbeats 4000000 in
set_option maxRecDepth 100000 in
theorem m_X4_isStep_b23 {p : Program} {l : Launch} {e : Env} {s : State} {m : MethodId} {args : Array Value} {below : List Frame} {meth : Method} {c : Code} {D : va_G} {dA : Nat → ClassId} {b0 : Nat} {gs : Nat → Option Nat} (hc : zC D dA b0 gs yX4_isStep.cls cX4_isStep 4 p c s m args meth) (hr : meth.sig.returnType = (some .boolean)) (hin : meth.name = yX4_isStep.name) {r : Int32} {hh : PH} {mc ms : Nat} : ∀ (h : PH) (a0 : Nat) (v3 : Int32) (s0 : Nat) (s1 : Int32) (s2 : Int32) (s3 : Int32) (C9 S9 : Nat) (H : Heap) (locs : List Loc) (cells slots : Nat), f_X4_isStep_b23 h a0 v3 s0 s1 s2 s3 = some (r, hh, C9, S9) → cells + C9 = mc ∧ slots + S9 = ms → zM D dA b0 gs s h H locs → ∀ ls : Array Slot, lv_has ls 4 [(0, .ref a0), (3, .int v3)] → W p l e ({ frames := 4, cells := mc, slots := ms, locals := 132 } : Room) s m args below meth c H locs cells slots (MQ below (zQ D dA b0 gs (evI r) hh) args s mc ms (zA b0)) (F0 m 23 ls [.int s3, .int s2, .int s1, .ref s0]) := by
  have hx := hc.x
  have hb := hc.b
  intro h a0 v3 s0 s1 s2 s3 C9 S9 H locs cells slots hf hq hn ls hl
  unfold f_X4_isStep_b23 at hf
  refine zr_cVU (As := [.int s1, .int s2, .int s3]) (rest := []) hc hn hq (ci := 3) rfl ⟨rfl, hd_X4_seeks⟩ (lw_V q2449 q2451 qs66 q91 q2452) (Nat.le_of_ble_eq_true rfl) (Nat.le_of_ble_eq_true rfl) (fun _ _ _ _ q => m_X4_seeks l D dA b0 gs h s0 s1 s2 s3 q) hf dX4_isStep_23 hl.1 rfl rfl (zroom (Nat.le_of_ble_eq_true rfl)) (fun x101 h102 H locs cells slots C9 S9 hf hq hn => ?_)
  refine lv_aload_n (x := a0) hx hb dX4_isStep_26 rfl (lv_at hl 0 rfl) ?_
  refine lv_iload_n hx hb dX4_isStep_27 rfl (lv_at hl 1 rfl) ?_
  refine lv_if_lt (tgt := 38) hx hb dX4_isStep_28 (by decide) (fun c9 => ?_) (fun c9 => ?_)
  · have hf := zif_t c9 hf
    refine lv_iconst (v := (3 : Int32)) hx hb dX4_isStep_38 (by decide) ?_
    refine lv_goto (tgt := 43) hx hb dX4_isStep_39 (by decide) ?_
    refine zr_pI (x := (3 : Int32)) hc hn (ci := 3) rfl rfl in_X4 0 (by decide) tyX4 tyX4_ok nmX4 q2099 (fun _ h => h) (Or.inl rfl) (fun _ _ _ => rfl) rfl rfl hf dX4_isStep_43 (fun h103 H locs hf hn => ?_)
    refine lv_aload_n (x := a0) hx hb dX4_isStep_46 rfl (lv_at hl 0 rfl) ?_
    refine zr_gI hc hn (ci := 3) rfl rfl in_X4 0 (by decide) q2099 (fun _ h => h) (fun _ _ _ => rfl) hf dX4_isStep_47 (fun x104 hf => ?_)
    refine lv_if_ne (tgt := 57) hx hb dX4_isStep_50 (by decide) (fun c9 => ?_) (fun c9 => ?_)
    · have hf := zif_f c9 hf
      refine lv_iconst (v := (0 : Int32)) hx hb dX4_isStep_57 (by decide) ?_
      obtain ⟨rfl, rfl, rfl, rfl⟩ := zret_i hf
      exact zr_zret hc hn hr (by decide) hq (fun _ _ _ _ q => q) dX4_isStep_58
    · have hf := zif_t c9 hf
      refine lv_iconst (v := (1 : Int32)) hx hb dX4_isStep_53 (by decide) ?_
      refine lv_goto (tgt := 58) hx hb dX4_isStep_54 (by decide) ?_
      obtain ⟨rfl, rfl, rfl, rfl⟩ := zret_i hf
      exact zr_zret hc hn hr (by decide) hq (fun _ _ _ _ q => q) dX4_isStep_58
  · have hf := zif_f c9 hf
    refine lv_aload_n (x := a0) hx hb dX4_isStep_31 rfl (lv_at hl 0 rfl) ?_
    refine zr_gI hc hn (ci := 3) rfl rfl in_X4 29 (by decide) q2128 (fun _ h => h) (fun _ _ _ => rfl) hf dX4_isStep_32 (fun x105 hf => ?_)
    refine lv_if_ge (tgt := 42) hx hb dX4_isStep_35 (by decide) (fun c9 => ?_) (fun c9 => ?_)
    · have hf := zif_t c9 hf
      refine lv_iconst (v := (0 : Int32)) hx hb dX4_isStep_42 (by decide) ?_
      refine zr_pI (x := (0 : Int32)) hc hn (ci := 3) rfl rfl in_X4 0 (by decide) tyX4 tyX4_ok nmX4 q2099 (fun _ h => h) (Or.inl rfl) (fun _ _ _ => rfl) rfl rfl hf dX4_isStep_43 (fun h106 H locs hf hn => ?_)
      refine lv_aload_n (x := a0) hx hb dX4_isStep_46 rfl (lv_at hl 0 rfl) ?_
      refine zr_gI hc hn (ci := 3) rfl rfl in_X4 0 (by decide) q2099 (fun _ h => h) (fun _ _ _ => rfl) hf dX4_isStep_47 (fun x107 hf => ?_)
      refine lv_if_ne (tgt := 57) hx hb dX4_isStep_50 (by decide) (fun c9 => ?_) (fun c9 => ?_)
      · have hf := zif_f c9 hf
        refine lv_iconst (v := (0 : Int32)) hx hb dX4_isStep_57 (by decide) ?_
        obtain ⟨rfl, rfl, rfl, rfl⟩ := zret_i hf
        exact zr_zret hc hn hr (by decide) hq (fun _ _ _ _ q => q) dX4_isStep_58
      · have hf := zif_t c9 hf
        refine lv_iconst (v := (1 : Int32)) hx hb dX4_isStep_53 (by decide) ?_
        refine lv_goto (tgt := 58) hx hb dX4_isStep_54 (by decide) ?_
        obtain ⟨rfl, rfl, rfl, rfl⟩ := zret_i hf
        exact zr_zret hc hn hr (by decide) hq (fun _ _ _ _ q => q) dX4_isStep_58
    · have hf := zif_f c9 hf
      refine lv_iconst (v := (3 : Int32)) hx hb dX4_isStep_38 (by decide) ?_
      refine lv_goto (tgt := 43) hx hb dX4_isStep_39 (by decide) ?_
      refine zr_pI (x := (3 : Int32)) hc hn (ci := 3) rfl rfl in_X4 0 (by decide) tyX4 tyX4_ok nmX4 q2099 (fun _ h => h) (Or.inl rfl) (fun _ _ _ => rfl) rfl rfl hf dX4_isStep_43 (fun h108 H locs hf hn => ?_)
      refine lv_aload_n (x := a0) hx hb dX4_isStep_46 rfl (lv_at hl 0 rfl) ?_
      refine zr_gI hc hn (ci := 3) rfl rfl in_X4 0 (by decide) q2099 (fun _ h => h) (fun _ _ _ => rfl) hf dX4_isStep_47 (fun x109 hf => ?_)
      refine lv_if_ne (tgt := 57) hx hb dX4_isStep_50 (by decide) (fun c9 => ?_) (fun c9 => ?_)
      · have hf := zif_f c9 hf
        refine lv_iconst (v := (0 : Int32)) hx hb dX4_isStep_57 (by decide) ?_
        obtain ⟨rfl, rfl, rfl, rfl⟩ := zret_i hf
        exact zr_zret hc hn hr (by decide) hq (fun _ _ _ _ q => q) dX4_isStep_58
      · have hf := zif_t c9 hf
        refine lv_iconst (v := (1 : Int32)) hx hb dX4_isStep_53 (by decide) ?_
        refine lv_goto (tgt := 58) hx hb dX4_isStep_54 (by decide) ?_
        obtain ⟨rfl, rfl, rfl, rfl⟩ := zret_i hf
        exact zr_zret hc hn hr (by decide) hq (fun _ _ _ _ q => q) dX4_isStep_58
set_option maxHeartbeats 4000000 in
set_option maxRecDepth 100000 in
theorem m_X4_isStep (l : Launch) (D : va_G) (dA : Nat → ClassId) (b0 : Nat) (gs : Nat → Option Nat) (h : PH) (a0 : Nat) (v1 : Int32) (v2 : Int32) (v3 : Int32) {r : Int32} {hh : PH} {mc ms : Nat} (hf : f_X4_isStep h a0 v1 v2 v3 = some (r, hh, mc, ms)) : zMt l D dA b0 gs yX4_isStep cX4_isStep 4 (some .boolean) 4 132 [.ref a0, .int v1, .int v2, .int v3] h (evI r) hh mc ms := by
  unfold f_X4_isStep at hf
  refine zMt.of (by decide) (Nat.le_of_ble_eq_true rfl) ?_
  intro p e s m args below meth c hc hr hin hn ls hl
  have hl : lv_has ls 4 [(0, .ref a0), (1, .int v1), (2, .int v2), (3, .int v3)] := hl
  have hq : 0 + mc = mc ∧ 0 + ms = ms := ⟨Nat.zero_add _, Nat.zero_add _⟩
  have hx := hc.x
  have hb := hc.b
  refine lv_aload_n (x := a0) hx hb dX4_isStep_0 rfl (lv_at hl 0 rfl) ?_
  refine lv_iload_n hx hb dX4_isStep_1 rfl (lv_at hl 1 rfl) ?_
  refine lv_iload_n hx hb dX4_isStep_2 rfl (lv_at hl 2 rfl) ?_
  refine zr_cVI (As := [.int v1, .int v2]) (rest := []) hc hn hq (ci := 3) rfl ⟨rfl, hd_X4_canSeek⟩ (lw_V q2401 q2403 qs62 q91 q2404) (Nat.le_of_ble_eq_true rfl) (Nat.le_of_ble_eq_true rfl) (fun _ _ _ _ q => m_X4_canSeek l D dA b0 gs h a0 v1 v2 q) hf dX4_isStep_3 hl.1 rfl rfl (zroom (Nat.le_of_ble_eq_true rfl)) (fun x101 h102 H locs cells slots C9 S9 hf hq hn => ?_)
  refine lv_if_ne (tgt := 11) hx hb dX4_isStep_6 (by decide) (fun c9 => ?_) (fun c9 => ?_)
  · have hf := zif_f c9 hf
    refine lv_aload_n (x := a0) hx hb dX4_isStep_11 rfl (lv_at hl 0 rfl) ?_
    refine lv_iload_n hx hb dX4_isStep_12 rfl (lv_at hl 1 rfl) ?_
    refine lv_iload_n hx hb dX4_isStep_13 rfl (lv_at hl 2 rfl) ?_
    refine lv_iload_n hx hb dX4_isStep_14 rfl (lv_at hl 3 rfl) ?_
    refine lv_if_ge (tgt := 22) hx hb dX4_isStep_15 (by decide) (fun c9 => ?_) (fun c9 => ?_)
    · have hf := zif_t c9 hf
      refine lv_iload_n hx hb dX4_isStep_22 rfl (lv_at hl 3 rfl) ?_
      exact m_X4_isStep_b23 hc hr hin h102 a0 v3 a0 v1 v2 v3 _ _ _ _ _ _ hf hq hn _ (lv_sub hl [0, 3] rfl)
    · have hf := zif_f c9 hf
      refine lv_iconst (v := (-1 : Int32)) hx hb dX4_isStep_18 (by decide) ?_
      refine lv_goto (tgt := 23) hx hb dX4_isStep_19 (by decide) ?_
      exact m_X4_isStep_b23 hc hr hin h102 a0 v3 a0 v1 v2 (-1 : Int32) _ _ _ _ _ _ hf hq hn _ (lv_sub hl [0, 3] rfl)
  · have hf := zif_t c9 hf
    refine lv_iconst (v := (0 : Int32)) hx hb dX4_isStep_9 (by decide) ?_
    obtain ⟨rfl, rfl, rfl, rfl⟩ := zret_i hf
    exact zr_zret hc hn hr (by decide) hq (fun _ _ _ _ q => q) dX4_isStep_10
theorem hd_X4_stepKey : yX4_stepKey.cls ≠ "java/lang/invoke/MethodHandle" ∧ yX4_stepKey.cls ≠ "java/lang/invoke/VarHandle" ∧ (parseMethodDescriptor yX4_stepKey.desc).map (fun d => d.parameters.length) = some 3 := by decide +kernel
def f_X4_stepKey (h : PH) (a0 : Nat) (v1 : Int32) (v2 : Int32) (v3 : Int32) : ZR Int32 :=
  zrc h a0 3 <| zcl (f_X4_isStep h a0 v1 v2 v3) fun x101 h102 =>
  if x101 = 0 then
    (zret (0 : Int32) h102)
  else
    (zgP h102 a0 3 1 fun x103 =>
    zcl (f_X4_base h102 v1) fun x104 h105 =>
    znm (x104 + (2 : Int32)) fun x106 =>
    zgI h105 a0 3 29 fun x107 =>
    znm (x106 + x107) fun x108 =>
    znn x103 fun a109 =>
    zaI h105 a109 0 x108 fun x110 =>
    zret x110 h105)
set_option maxHeartbeats 4000000 in
set_option maxRecDepth 100000 in
theorem m_X4_stepKey (l : Launch) (D : va_G) (dA : Nat → ClassId) (b0 : Nat) (gs : Nat → Option Nat) (h : PH) (a0 : Nat) (v1 : Int32) (v2 : Int32) (v3 : Int32) {r : Int32} {hh : PH} {mc ms : Nat} (hf : f_X4_stepKey h a0 v1 v2 v3 = some (r, hh, mc, ms)) : zMt l D dA b0 gs yX4_stepKey cX4_stepKey 4 (some .int) 5 155 [.ref a0, .int v1, .int v2, .int v3] h (evI r) hh mc ms := by
  unfold f_X4_stepKey at hf
  refine zMt.of (by decide) (Nat.le_of_ble_eq_true rfl) ?_
  intro p e s m args below meth c hc hr hin hn ls hl
  have hl : lv_has ls 4 [(0, .ref a0), (1, .int v1), (2, .int v2), (3, .int v3)] := hl
  have hq : 0 + mc = mc ∧ 0 + ms = ms := ⟨Nat.zero_add _, Nat.zero_add _⟩
  have hx := hc.x
  have hb := hc.b
  refine lv_aload_n (x := a0) hx hb dX4_stepKey_0 rfl (lv_at hl 0 rfl) ?_
  refine lv_iload_n hx hb dX4_stepKey_1 rfl (lv_at hl 1 rfl) ?_
  refine lv_iload_n hx hb dX4_stepKey_2 rfl (lv_at hl 2 rfl) ?_
  refine lv_iload_n hx hb dX4_stepKey_3 rfl (lv_at hl 3 rfl) ?_
  refine zr_cVI (As := [.int v1, .int v2, .int v3]) (rest := []) hc hn hq (ci := 3) rfl ⟨rfl, hd_X4_isStep⟩ (lw_V q2461 q2463 qs67 q91 q2464) (Nat.le_of_ble_eq_true rfl) (Nat.le_of_ble_eq_true rfl) (fun _ _ _ _ q => m_X4_isStep l D dA b0 gs h a0 v1 v2 v3 q) hf dX4_stepKey_4 hl.1 rfl rfl (zroom (Nat.le_of_ble_eq_true rfl)) (fun x101 h102 H locs cells slots C9 S9 hf hq hn => ?_)
  refine lv_if_eq (tgt := 29) hx hb dX4_stepKey_7 (by decide) (fun c9 => ?_) (fun c9 => ?_)
  · have hf := zif_t c9 hf
    refine lv_iconst (v := (0 : Int32)) hx hb dX4_stepKey_29 (by decide) ?_
    obtain ⟨rfl, rfl, rfl, rfl⟩ := zret_i hf
    exact zr_iret hc hn hr hq (fun _ _ _ _ q => q) dX4_stepKey_30
  · have hf := zif_f c9 hf
    refine lv_aload_n (x := a0) hx hb dX4_stepKey_10 rfl (lv_at hl 0 rfl) ?_
    refine zr_gP hc hn (ci := 3) rfl rfl in_X4 1 (by decide) q2100 (fun _ h => h) (fun _ _ _ => rfl) hf dX4_stepKey_11 (fun x103 hf => ?_)
    refine lv_iload_n hx hb dX4_stepKey_14 rfl (lv_at hl 1 rfl) ?_
    refine zr_cSI (As := [.int v1]) (rest := [va_rf x103]) hc hn hq hd_X4_base (lw_S q2284 q2285 q91 q2286) (Nat.le_of_ble_eq_true rfl) (Nat.le_of_ble_eq_true rfl) (fun _ _ _ _ q => m_X4_base l D dA b0 gs h102 v1 q) hf dX4_stepKey_15 hl.1 rfl rfl (zroom (Nat.le_of_ble_eq_true rfl)) (fun x104 h105 H locs cells slots C9 S9 hf hq hn => ?_)
    refine lv_iconst (v := (2 : Int32)) hx hb dX4_stepKey_18 (by decide) ?_
    refine lv_iadd hx hb dX4_stepKey_19 ?_
    refine zr_nmI hf (fun x106 hf => ?_)
    refine lv_aload_n (x := a0) hx hb dX4_stepKey_20 rfl (lv_at hl 0 rfl) ?_
    refine zr_gI hc hn (ci := 3) rfl rfl in_X4 29 (by decide) q2128 (fun _ h => h) (fun _ _ _ => rfl) hf dX4_stepKey_21 (fun x107 hf => ?_)
    refine lv_iadd hx hb dX4_stepKey_24 ?_
    refine zr_nmI hf (fun x108 hf => ?_)
    obtain ⟨a109, e9, hf9⟩ := znn_i hf
    subst e9
    have hf := hf9
    clear hf9
    refine zr_aI0 hc hn hf dX4_stepKey_25 (fun x110 hf => ?_)
    refine lv_goto (tgt := 30) hx hb dX4_stepKey_26 (by decide) ?_
    obtain ⟨rfl, rfl, rfl, rfl⟩ := zret_i hf
    exact zr_iret hc hn hr hq (fun _ _ _ _ q => q) dX4_stepKey_30
theorem hd_X4_stepLevel : yX4_stepLevel.cls ≠ "java/lang/invoke/MethodHandle" ∧ yX4_stepLevel.cls ≠ "java/lang/invoke/VarHandle" ∧ (parseMethodDescriptor yX4_stepLevel.desc).map (fun d => d.parameters.length) = some 3 := by decide +kernel
def f_X4_stepLevel (h : PH) (a0 : Nat) (v1 : Int32) (v2 : Int32) (v3 : Int32) : ZR Int32 :=
  zrc h a0 3 <| zcl (f_X4_isStep h a0 v1 v2 v3) fun x101 h102 =>
  if x101 = 0 then
    (zret (0 : Int32) h102)
  else
    (zgI h102 a0 3 30 fun x103 =>
    zret x103 h102)
set_option maxHeartbeats 4000000 in
set_option maxRecDepth 100000 in
theorem m_X4_stepLevel (l : Launch) (D : va_G) (dA : Nat → ClassId) (b0 : Nat) (gs : Nat → Option Nat) (h : PH) (a0 : Nat) (v1 : Int32) (v2 : Int32) (v3 : Int32) {r : Int32} {hh : PH} {mc ms : Nat} (hf : f_X4_stepLevel h a0 v1 v2 v3 = some (r, hh, mc, ms)) : zMt l D dA b0 gs yX4_stepLevel cX4_stepLevel 4 (some .int) 5 155 [.ref a0, .int v1, .int v2, .int v3] h (evI r) hh mc ms := by
  unfold f_X4_stepLevel at hf
  refine zMt.of (by decide) (Nat.le_of_ble_eq_true rfl) ?_
  intro p e s m args below meth c hc hr hin hn ls hl
  have hl : lv_has ls 4 [(0, .ref a0), (1, .int v1), (2, .int v2), (3, .int v3)] := hl
  have hq : 0 + mc = mc ∧ 0 + ms = ms := ⟨Nat.zero_add _, Nat.zero_add _⟩
  have hx := hc.x
  have hb := hc.b
  refine lv_aload_n (x := a0) hx hb dX4_stepLevel_0 rfl (lv_at hl 0 rfl) ?_
  refine lv_iload_n hx hb dX4_stepLevel_1 rfl (lv_at hl 1 rfl) ?_
  refine lv_iload_n hx hb dX4_stepLevel_2 rfl (lv_at hl 2 rfl) ?_
  refine lv_iload_n hx hb dX4_stepLevel_3 rfl (lv_at hl 3 rfl) ?_
  refine zr_cVI (As := [.int v1, .int v2, .int v3]) (rest := []) hc hn hq (ci := 3) rfl ⟨rfl, hd_X4_isStep⟩ (lw_V q2461 q2463 qs67 q91 q2464) (Nat.le_of_ble_eq_true rfl) (Nat.le_of_ble_eq_true rfl) (fun _ _ _ _ q => m_X4_isStep l D dA b0 gs h a0 v1 v2 v3 q) hf dX4_stepLevel_4 hl.1 rfl rfl (zroom (Nat.le_of_ble_eq_true rfl)) (fun x101 h102 H locs cells slots C9 S9 hf hq hn => ?_)
  refine lv_if_eq (tgt := 17) hx hb dX4_stepLevel_7 (by decide) (fun c9 => ?_) (fun c9 => ?_)
  · have hf := zif_t c9 hf
    refine lv_iconst (v := (0 : Int32)) hx hb dX4_stepLevel_17 (by decide) ?_
    obtain ⟨rfl, rfl, rfl, rfl⟩ := zret_i hf
    exact zr_iret hc hn hr hq (fun _ _ _ _ q => q) dX4_stepLevel_18
  · have hf := zif_f c9 hf
    refine lv_aload_n (x := a0) hx hb dX4_stepLevel_10 rfl (lv_at hl 0 rfl) ?_
    refine zr_gI hc hn (ci := 3) rfl rfl in_X4 30 (by decide) q2129 (fun _ h => h) (fun _ _ _ => rfl) hf dX4_stepLevel_11 (fun x103 hf => ?_)
    refine lv_goto (tgt := 18) hx hb dX4_stepLevel_14 (by decide) ?_
    obtain ⟨rfl, rfl, rfl, rfl⟩ := zret_i hf
    exact zr_iret hc hn hr hq (fun _ _ _ _ q => q) dX4_stepLevel_18
theorem hd_X4_stepsTo : yX4_stepsTo.cls ≠ "java/lang/invoke/MethodHandle" ∧ yX4_stepsTo.cls ≠ "java/lang/invoke/VarHandle" ∧ (parseMethodDescriptor yX4_stepsTo.desc).map (fun d => d.parameters.length) = some 2 := by decide +kernel
def f_X4_stepsTo_b58 (k41 : PH → Nat → Int32 → Int32 → Int32 → Int32 → Int32 → ZR Int32) : Nat → PH → Nat → Int32 → Int32 → Int32 → Int32 → Int32 → Int32 → ZR Int32
  | 0 => fun _ _ _ _ _ _ _ _ => none
  | n + 1 => fun h a0 v1 v2 v3 v4 v5 v6 =>
    if v2 < v6 then
      (znm (v5 + (-1 : Int32)) fun x101 =>
      k41 h a0 v1 v2 v3 v4 x101)
    else
      (znm (v3 + (1 : Int32)) fun x102 =>
      zrc h a0 3 <| zcl (f_X4_after h a0 v1 v5 v6) fun x103 h104 =>
      f_X4_stepsTo_b58 k41 n h104 a0 v1 v2 x102 v6 v5 x103)
def f_X4_stepsTo_b41 : Nat → PH → Nat → Int32 → Int32 → Int32 → Int32 → Int32 → ZR Int32
  | 0 => fun _ _ _ _ _ _ _ => none
  | n + 1 => fun h a0 v1 v2 v3 v4 v5 =>
    if v5 < (1 : Int32) then
      (zret v3 h)
    else
      (zrc h a0 3 <| zcl (f_X4_after h a0 v1 v5 v4) fun x101 h102 =>
      f_X4_stepsTo_b58 (f_X4_stepsTo_b41 n) zFU h102 a0 v1 v2 v3 v4 v5 x101)
def f_X4_stepsTo_b39 (h : PH) (a0 : Nat) (v1 : Int32) (v2 : Int32) (v3 : Int32) (v4 : Int32) (s0 : Int32) : ZR Int32 :=
  f_X4_stepsTo_b41 zFU h a0 v1 v2 v3 v4 s0
def f_X4_stepsTo_b15 (h : PH) (a0 : Nat) (v1 : Int32) (v2 : Int32) (s0 : Nat) (s1 : Int32) : ZR Int32 :=
  zpI h s0 3 0 s1 fun h101 =>
  zgI h101 a0 3 0 fun x102 =>
  if x102 ≤ 0 then
    (zrc h101 a0 3 <| zcl (f_X4_heightOf h101 a0 v1) fun x103 h104 =>
    f_X4_stepsTo_b39 h104 a0 v1 v2 (0 : Int32) (-1 : Int32) x103)
  else
    (f_X4_stepsTo_b39 h101 a0 v1 v2 (0 : Int32) (-1 : Int32) (0 : Int32))
def f_X4_stepsTo (h : PH) (a0 : Nat) (v1 : Int32) (v2 : Int32) : ZR Int32 :=
  zrc h a0 3 <| zcl (f_X4_isPlace h a0 v1 v2) fun x101 h102 =>
  if x101 = 0 then
    (f_X4_stepsTo_b15 h102 a0 v1 v2 a0 (1 : Int32))
  else
    (f_X4_stepsTo_b15 h102 a0 v1 v2 a0 (0 : Int32))
set_option maxHeartbeats 4000000 in
set_option maxRecDepth 100000 in
theorem m_X4_stepsTo_b58 {p : Program} {l : Launch} {e : Env} {s : State} {m : MethodId} {args : Array Value} {below : List Frame} {meth : Method} {c : Code} {D : va_G} {dA : Nat → ClassId} {b0 : Nat} {gs : Nat → Option Nat} (hc : zC D dA b0 gs yX4_stepsTo.cls cX4_stepsTo 7 p c s m args meth) (hr : meth.sig.returnType = (some .int)) (hin : meth.name = yX4_stepsTo.name) {r : Int32} {hh : PH} {mc ms : Nat} (k41 : PH → Nat → Int32 → Int32 → Int32 → Int32 → Int32 → ZR Int32) (hk41 : ∀ (h : PH) (a0 : Nat) (v1 : Int32) (v2 : Int32) (v3 : Int32) (v4 : Int32) (v5 : Int32) (C9 S9 : Nat) (H : Heap) (locs : List Loc) (cells slots : Nat), k41 h a0 v1 v2 v3 v4 v5 = some (r, hh, C9, S9) → cells + C9 = mc ∧ slots + S9 = ms → zM D dA b0 gs s h H locs → ∀ ls : Array Slot, lv_has ls 7 [(0, .ref a0), (1, .int v1), (2, .int v2), (3, .int v3), (4, .int v4), (5, .int v5)] → W p l e ({ frames := 4, cells := mc, slots := ms, locals := 128 } : Room) s m args below meth c H locs cells slots (MQ below (zQ D dA b0 gs (evI r) hh) args s mc ms (zA b0)) (F0 m 41 ls [])) : ∀ (n : Nat) (h : PH) (a0 : Nat) (v1 : Int32) (v2 : Int32) (v3 : Int32) (v4 : Int32) (v5 : Int32) (v6 : Int32) (C9 S9 : Nat) (H : Heap) (locs : List Loc) (cells slots : Nat), f_X4_stepsTo_b58 k41 n h a0 v1 v2 v3 v4 v5 v6 = some (r, hh, C9, S9) → cells + C9 = mc ∧ slots + S9 = ms → zM D dA b0 gs s h H locs → ∀ ls : Array Slot, lv_has ls 7 [(0, .ref a0), (1, .int v1), (2, .int v2), (3, .int v3), (4, .int v4), (5, .int v5), (6, .int v6)] → W p l e ({ frames := 4, cells := mc, slots := ms, locals := 128 } : Room) s m args below meth c H locs cells slots (MQ below (zQ D dA b0 gs (evI r) hh) args s mc ms (zA b0)) (F0 m 58 ls []) := by
  have hx := hc.x
  have hb := hc.b
  intro n
  induction n with
  | zero =>
    intro h a0 v1 v2 v3 v4 v5 v6 C9 S9 H locs cells slots hf hq hn ls hl
    cases hf
  | succ n ih =>
    intro h a0 v1 v2 v3 v4 v5 v6 C9 S9 H locs cells slots hf hq hn ls hl
    unfold f_X4_stepsTo_b58 at hf
    refine lv_iload hx hb dX4_stepsTo_58 (lv_at hl 6 rfl) ?_
    refine lv_iload_n hx hb dX4_stepsTo_60 rfl (lv_at hl 2 rfl) ?_
    refine lv_icmp_gt (tgt := 85) hx hb dX4_stepsTo_61 (by decide) (fun c9 => ?_) (fun c9 => ?_)
    · have hf := zif_t c9 hf
      obtain ⟨x101, ex101, hf⟩ := znm_i hf
      refine lv_iinc (v := x101) (lv' := [(5, .int x101), (0, .ref a0), (1, .int v1), (2, .int v2), (3, .int v3), (4, .int v4), (6, .int v6)]) hx hb dX4_stepsTo_85 hl (k := 5) rfl (by rw [ex101]; rfl) (by decide) rfl (fun ls hl => ?_)
      refine lv_goto (tgt := 41) hx hb dX4_stepsTo_88 (by decide) ?_
      exact hk41 h a0 v1 v2 v3 v4 x101 _ _ _ _ _ _ hf hq hn _ (lv_sub hl [1, 2, 3, 4, 5, 0] rfl)
    · have hf := zif_f c9 hf
      refine lv_iload hx hb dX4_stepsTo_64 (lv_at hl 6 rfl) ?_
      refine lv_istore (lv' := [(4, .int v6), (0, .ref a0), (1, .int v1), (2, .int v2), (3, .int v3), (5, .int v5), (6, .int v6)]) hx hb dX4_stepsTo_66 hl (by decide) rfl (fun ls hl => ?_)
      obtain ⟨x102, ex102, hf⟩ := znm_i hf
      refine lv_iinc (v := x102) (lv' := [(3, .int x102), (4, .int v6), (0, .ref a0), (1, .int v1), (2, .int v2), (5, .int v5), (6, .int v6)]) hx hb dX4_stepsTo_68 hl (k := 4) rfl (by rw [ex102]; rfl) (by decide) rfl (fun ls hl => ?_)
      refine lv_aload_n (x := a0) hx hb dX4_stepsTo_71 rfl (lv_at hl 2 rfl) ?_
      refine lv_iload_n hx hb dX4_stepsTo_72 rfl (lv_at hl 3 rfl) ?_
      refine lv_iload hx hb dX4_stepsTo_73 (lv_at hl 5 rfl) ?_
      refine lv_iload hx hb dX4_stepsTo_75 (lv_at hl 1 rfl) ?_
      refine zr_cVI (As := [.int v1, .int v5, .int v6]) (rest := []) hc hn hq (ci := 3) rfl ⟨rfl, hd_X4_after⟩ (lw_V q2303 q2305 qs51 q91 q2306) (Nat.le_of_ble_eq_true rfl) (Nat.le_of_ble_eq_true rfl) (fun _ _ _ _ q => m_X4_after l D dA b0 gs h a0 v1 v5 v6 q) hf dX4_stepsTo_77 hl.1 rfl rfl (zroom (Nat.le_of_ble_eq_true rfl)) (fun x103 h104 H locs cells slots C9 S9 hf hq hn => ?_)
      refine lv_istore (lv' := [(6, .int x103), (3, .int x102), (4, .int v6), (0, .ref a0), (1, .int v1), (2, .int v2), (5, .int v5)]) hx hb dX4_stepsTo_80 hl (by decide) rfl (fun ls hl => ?_)
      refine lv_goto (tgt := 58) hx hb dX4_stepsTo_82 (by decide) ?_
      exact ih h104 a0 v1 v2 x102 v6 v5 x103 _ _ _ _ _ _ hf hq hn _ (lv_sub hl [3, 4, 5, 1, 2, 6, 0] rfl)
set_option maxHeartbeats 4000000 in
set_option maxRecDepth 100000 in
theorem m_X4_stepsTo_b41 {p : Program} {l : Launch} {e : Env} {s : State} {m : MethodId} {args : Array Value} {below : List Frame} {meth : Method} {c : Code} {D : va_G} {dA : Nat → ClassId} {b0 : Nat} {gs : Nat → Option Nat} (hc : zC D dA b0 gs yX4_stepsTo.cls cX4_stepsTo 7 p c s m args meth) (hr : meth.sig.returnType = (some .int)) (hin : meth.name = yX4_stepsTo.name) {r : Int32} {hh : PH} {mc ms : Nat} : ∀ (n : Nat) (h : PH) (a0 : Nat) (v1 : Int32) (v2 : Int32) (v3 : Int32) (v4 : Int32) (v5 : Int32) (C9 S9 : Nat) (H : Heap) (locs : List Loc) (cells slots : Nat), f_X4_stepsTo_b41 n h a0 v1 v2 v3 v4 v5 = some (r, hh, C9, S9) → cells + C9 = mc ∧ slots + S9 = ms → zM D dA b0 gs s h H locs → ∀ ls : Array Slot, lv_has ls 7 [(0, .ref a0), (1, .int v1), (2, .int v2), (3, .int v3), (4, .int v4), (5, .int v5)] → W p l e ({ frames := 4, cells := mc, slots := ms, locals := 128 } : Room) s m args below meth c H locs cells slots (MQ below (zQ D dA b0 gs (evI r) hh) args s mc ms (zA b0)) (F0 m 41 ls []) := by
  have hx := hc.x
  have hb := hc.b
  intro n
  induction n with
  | zero =>
    intro h a0 v1 v2 v3 v4 v5 C9 S9 H locs cells slots hf hq hn ls hl
    cases hf
  | succ n ih =>
    intro h a0 v1 v2 v3 v4 v5 C9 S9 H locs cells slots hf hq hn ls hl
    unfold f_X4_stepsTo_b41 at hf
    refine lv_iload hx hb dX4_stepsTo_41 (lv_at hl 5 rfl) ?_
    refine lv_iconst (v := (1 : Int32)) hx hb dX4_stepsTo_43 (by decide) ?_
    refine lv_icmp_lt (tgt := 91) hx hb dX4_stepsTo_44 (by decide) (fun c9 => ?_) (fun c9 => ?_)
    · have hf := zif_t c9 hf
      refine lv_iload_n hx hb dX4_stepsTo_91 rfl (lv_at hl 3 rfl) ?_
      obtain ⟨rfl, rfl, rfl, rfl⟩ := zret_i hf
      exact zr_iret hc hn hr hq (fun _ _ _ _ q => q) dX4_stepsTo_92
    · have hf := zif_f c9 hf
      refine lv_aload_n (x := a0) hx hb dX4_stepsTo_47 rfl (lv_at hl 0 rfl) ?_
      refine lv_iload_n hx hb dX4_stepsTo_48 rfl (lv_at hl 1 rfl) ?_
      refine lv_iload hx hb dX4_stepsTo_49 (lv_at hl 5 rfl) ?_
      refine lv_iload hx hb dX4_stepsTo_51 (lv_at hl 4 rfl) ?_
      refine zr_cVI (As := [.int v1, .int v5, .int v4]) (rest := []) hc hn hq (ci := 3) rfl ⟨rfl, hd_X4_after⟩ (lw_V q2303 q2305 qs51 q91 q2306) (Nat.le_of_ble_eq_true rfl) (Nat.le_of_ble_eq_true rfl) (fun _ _ _ _ q => m_X4_after l D dA b0 gs h a0 v1 v5 v4 q) hf dX4_stepsTo_53 hl.1 rfl rfl (zroom (Nat.le_of_ble_eq_true rfl)) (fun x101 h102 H locs cells slots C9 S9 hf hq hn => ?_)
      refine lv_istore (lv' := [(6, .int x101), (0, .ref a0), (1, .int v1), (2, .int v2), (3, .int v3), (4, .int v4), (5, .int v5)]) hx hb dX4_stepsTo_56 hl (by decide) rfl (fun ls hl => ?_)
      exact m_X4_stepsTo_b58 hc hr hin (f_X4_stepsTo_b41 n) ih zFU h102 a0 v1 v2 v3 v4 v5 x101 _ _ _ _ _ _ hf hq hn _ (lv_sub hl [1, 2, 3, 4, 5, 6, 0] rfl)
set_option maxHeartbeats 4000000 in
set_option maxRecDepth 100000 in
theorem m_X4_stepsTo_b39 {p : Program} {l : Launch} {e : Env} {s : State} {m : MethodId} {args : Array Value} {below : List Frame} {meth : Method} {c : Code} {D : va_G} {dA : Nat → ClassId} {b0 : Nat} {gs : Nat → Option Nat} (hc : zC D dA b0 gs yX4_stepsTo.cls cX4_stepsTo 7 p c s m args meth) (hr : meth.sig.returnType = (some .int)) (hin : meth.name = yX4_stepsTo.name) {r : Int32} {hh : PH} {mc ms : Nat} : ∀ (h : PH) (a0 : Nat) (v1 : Int32) (v2 : Int32) (v3 : Int32) (v4 : Int32) (s0 : Int32) (C9 S9 : Nat) (H : Heap) (locs : List Loc) (cells slots : Nat), f_X4_stepsTo_b39 h a0 v1 v2 v3 v4 s0 = some (r, hh, C9, S9) → cells + C9 = mc ∧ slots + S9 = ms → zM D dA b0 gs s h H locs → ∀ ls : Array Slot, lv_has ls 7 [(0, .ref a0), (1, .int v1), (2, .int v2), (3, .int v3), (4, .int v4)] → W p l e ({ frames := 4, cells := mc, slots := ms, locals := 128 } : Room) s m args below meth c H locs cells slots (MQ below (zQ D dA b0 gs (evI r) hh) args s mc ms (zA b0)) (F0 m 39 ls [.int s0]) := by
  have hx := hc.x
  have hb := hc.b
  intro h a0 v1 v2 v3 v4 s0 C9 S9 H locs cells slots hf hq hn ls hl
  unfold f_X4_stepsTo_b39 at hf
  refine lv_istore (lv' := [(5, .int s0), (0, .ref a0), (1, .int v1), (2, .int v2), (3, .int v3), (4, .int v4)]) hx hb dX4_stepsTo_39 hl (by decide) rfl (fun ls hl => ?_)
  exact m_X4_stepsTo_b41 hc hr hin zFU h a0 v1 v2 v3 v4 s0 _ _ _ _ _ _ hf hq hn _ (lv_sub hl [1, 2, 3, 4, 5, 0] rfl)
set_option maxHeartbeats 4000000 in
set_option maxRecDepth 100000 in
theorem m_X4_stepsTo_b15 {p : Program} {l : Launch} {e : Env} {s : State} {m : MethodId} {args : Array Value} {below : List Frame} {meth : Method} {c : Code} {D : va_G} {dA : Nat → ClassId} {b0 : Nat} {gs : Nat → Option Nat} (hc : zC D dA b0 gs yX4_stepsTo.cls cX4_stepsTo 7 p c s m args meth) (hr : meth.sig.returnType = (some .int)) (hin : meth.name = yX4_stepsTo.name) {r : Int32} {hh : PH} {mc ms : Nat} : ∀ (h : PH) (a0 : Nat) (v1 : Int32) (v2 : Int32) (s0 : Nat) (s1 : Int32) (C9 S9 : Nat) (H : Heap) (locs : List Loc) (cells slots : Nat), f_X4_stepsTo_b15 h a0 v1 v2 s0 s1 = some (r, hh, C9, S9) → cells + C9 = mc ∧ slots + S9 = ms → zM D dA b0 gs s h H locs → ∀ ls : Array Slot, lv_has ls 7 [(0, .ref a0), (1, .int v1), (2, .int v2)] → W p l e ({ frames := 4, cells := mc, slots := ms, locals := 128 } : Room) s m args below meth c H locs cells slots (MQ below (zQ D dA b0 gs (evI r) hh) args s mc ms (zA b0)) (F0 m 15 ls [.int s1, .ref s0]) := by
  have hx := hc.x
  have hb := hc.b
  intro h a0 v1 v2 s0 s1 C9 S9 H locs cells slots hf hq hn ls hl
  unfold f_X4_stepsTo_b15 at hf
  refine zr_pI (x := s1) hc hn (ci := 3) rfl rfl in_X4 0 (by decide) tyX4 tyX4_ok nmX4 q2099 (fun _ h => h) (Or.inl rfl) (fun _ _ _ => rfl) rfl rfl hf dX4_stepsTo_15 (fun h101 H locs hf hn => ?_)
  refine lv_iconst (v := (0 : Int32)) hx hb dX4_stepsTo_18 (by decide) ?_
  refine lv_istore_n (i := 3) (lv' := [(3, .int (0 : Int32)), (0, .ref a0), (1, .int v1), (2, .int v2)]) hx hb dX4_stepsTo_19 rfl hl (by decide) rfl (fun ls hl => ?_)
  refine lv_iconst (v := (-1 : Int32)) hx hb dX4_stepsTo_20 (by decide) ?_
  refine lv_istore (lv' := [(4, .int (-1 : Int32)), (3, .int (0 : Int32)), (0, .ref a0), (1, .int v1), (2, .int v2)]) hx hb dX4_stepsTo_21 hl (by decide) rfl (fun ls hl => ?_)
  refine lv_aload_n (x := a0) hx hb dX4_stepsTo_23 rfl (lv_at hl 2 rfl) ?_
  refine zr_gI hc hn (ci := 3) rfl rfl in_X4 0 (by decide) q2099 (fun _ h => h) (fun _ _ _ => rfl) hf dX4_stepsTo_24 (fun x102 hf => ?_)
  refine lv_if_le (tgt := 34) hx hb dX4_stepsTo_27 (by decide) (fun c9 => ?_) (fun c9 => ?_)
  · have hf := zif_t c9 hf
    refine lv_aload_n (x := a0) hx hb dX4_stepsTo_34 rfl (lv_at hl 2 rfl) ?_
    refine lv_iload_n hx hb dX4_stepsTo_35 rfl (lv_at hl 3 rfl) ?_
    refine zr_cVI (As := [.int v1]) (rest := []) hc hn hq (ci := 3) rfl ⟨rfl, hd_X4_heightOf⟩ (lw_V q2299 q2301 qs50 q91 q2302) (Nat.le_of_ble_eq_true rfl) (Nat.le_of_ble_eq_true rfl) (fun _ _ _ _ q => m_X4_heightOf l D dA b0 gs h101 a0 v1 q) hf dX4_stepsTo_36 hl.1 rfl rfl (zroom (Nat.le_of_ble_eq_true rfl)) (fun x103 h104 H locs cells slots C9 S9 hf hq hn => ?_)
    exact m_X4_stepsTo_b39 hc hr hin h104 a0 v1 v2 (0 : Int32) (-1 : Int32) x103 _ _ _ _ _ _ hf hq hn _ (lv_sub hl [2, 3, 4, 1, 0] rfl)
  · have hf := zif_f c9 hf
    refine lv_iconst (v := (0 : Int32)) hx hb dX4_stepsTo_30 (by decide) ?_
    refine lv_goto (tgt := 39) hx hb dX4_stepsTo_31 (by decide) ?_
    exact m_X4_stepsTo_b39 hc hr hin h101 a0 v1 v2 (0 : Int32) (-1 : Int32) (0 : Int32) _ _ _ _ _ _ hf hq hn _ (lv_sub hl [2, 3, 4, 1, 0] rfl)
set_option maxHeartbeats 4000000 in
set_option maxRecDepth 100000 in
theorem m_X4_stepsTo (l : Launch) (D : va_G) (dA : Nat → ClassId) (b0 : Nat) (gs : Nat → Option Nat) (h : PH) (a0 : Nat) (v1 : Int32) (v2 : Int32) {r : Int32} {hh : PH} {mc ms : Nat} (hf : f_X4_stepsTo h a0 v1 v2 = some (r, hh, mc, ms)) : zMt l D dA b0 gs yX4_stepsTo cX4_stepsTo 7 (some .int) 4 128 [.ref a0, .int v1, .int v2] h (evI r) hh mc ms := by
  unfold f_X4_stepsTo at hf
  refine zMt.of (by decide) (Nat.le_of_ble_eq_true rfl) ?_
  intro p e s m args below meth c hc hr hin hn ls hl
  have hl : lv_has ls 7 [(0, .ref a0), (1, .int v1), (2, .int v2)] := hl
  have hq : 0 + mc = mc ∧ 0 + ms = ms := ⟨Nat.zero_add _, Nat.zero_add _⟩
  have hx := hc.x
  have hb := hc.b
  refine lv_aload_n (x := a0) hx hb dX4_stepsTo_0 rfl (lv_at hl 0 rfl) ?_
  refine lv_aload_n (x := a0) hx hb dX4_stepsTo_1 rfl (lv_at hl 0 rfl) ?_
  refine lv_iload_n hx hb dX4_stepsTo_2 rfl (lv_at hl 1 rfl) ?_
  refine lv_iload_n hx hb dX4_stepsTo_3 rfl (lv_at hl 2 rfl) ?_
  refine zr_cVI (As := [.int v1, .int v2]) (rest := [.ref a0]) hc hn hq (ci := 3) rfl ⟨rfl, hd_X4_isPlace⟩ (lw_V q2368 q2370 qs59 q91 q2371) (Nat.le_of_ble_eq_true rfl) (Nat.le_of_ble_eq_true rfl) (fun _ _ _ _ q => m_X4_isPlace l D dA b0 gs h a0 v1 v2 q) hf dX4_stepsTo_4 hl.1 rfl rfl (zroom (Nat.le_of_ble_eq_true rfl)) (fun x101 h102 H locs cells slots C9 S9 hf hq hn => ?_)
  refine lv_if_eq (tgt := 14) hx hb dX4_stepsTo_7 (by decide) (fun c9 => ?_) (fun c9 => ?_)
  · have hf := zif_t c9 hf
    refine lv_iconst (v := (1 : Int32)) hx hb dX4_stepsTo_14 (by decide) ?_
    exact m_X4_stepsTo_b15 hc hr hin h102 a0 v1 v2 a0 (1 : Int32) _ _ _ _ _ _ hf hq hn _ (lv_sub hl [0, 1, 2] rfl)
  · have hf := zif_f c9 hf
    refine lv_iconst (v := (0 : Int32)) hx hb dX4_stepsTo_10 (by decide) ?_
    refine lv_goto (tgt := 15) hx hb dX4_stepsTo_11 (by decide) ?_
    exact m_X4_stepsTo_b15 hc hr hin h102 a0 v1 v2 a0 (0 : Int32) _ _ _ _ _ _ hf hq hn _ (lv_sub hl [0, 1, 2] rfl)
theorem hd_X4_farthest : yX4_farthest.cls ≠ "java/lang/invoke/MethodHandle" ∧ yX4_farthest.cls ≠ "java/lang/invoke/VarHandle" ∧ (parseMethodDescriptor yX4_farthest.desc).map (fun d => d.parameters.length) = some 1 := by decide +kernel
def f_X4_farthest_b113 (k42 : PH → Nat → Int32 → Int32 → Int32 → Int32 → ZR Int32) (h : PH) (a0 : Nat) (v1 : Int32) (v2 : Int32) (v3 : Int32) (v4 : Int32) : ZR Int32 :=
  znm (v4 + (1 : Int32)) fun x101 =>
  k42 h a0 v1 v2 v3 x101
def f_X4_farthest_b42 : Nat → PH → Nat → Int32 → Int32 → Int32 → Int32 → ZR Int32
  | 0 => fun _ _ _ _ _ _ => none
  | n + 1 => fun h a0 v1 v2 v3 v4 =>
    zgI h a0 3 0 fun x101 =>
    if x101 = 0 then
      (zgP h a0 3 1 fun x102 =>
      zcl (f_X4_base h v1) fun x103 h104 =>
      znm (x103 + (1 : Int32)) fun x105 =>
      znn x102 fun a106 =>
      zaI h104 a106 0 x105 fun x107 =>
      if x107 ≤ v4 then
        (zret v3 h104)
      else
        (zgP h104 a0 3 1 fun x108 =>
        zcl (f_X4_base h104 v1) fun x109 h110 =>
        znm (x109 + (2 : Int32)) fun x111 =>
        znm (x111 + v4) fun x112 =>
        znn x108 fun a113 =>
        zaI h110 a113 0 x112 fun x114 =>
        zrc h110 a0 3 <| zcl (f_X4_seeks h110 a0 v1 x114 (-1 : Int32)) fun _ h116 =>
        zgI h116 a0 3 28 fun x117 =>
        if x117 ≤ v2 then
          (f_X4_farthest_b113 (f_X4_farthest_b42 n) h116 a0 v1 v2 v3 v4)
        else
          (zgI h116 a0 3 28 fun x118 =>
          zgP h116 a0 3 1 fun x119 =>
          zcl (f_X4_base h116 v1) fun x120 h121 =>
          znm (x120 + (2 : Int32)) fun x122 =>
          znm (x122 + v4) fun x123 =>
          znn x119 fun a124 =>
          zaI h121 a124 0 x123 fun x125 =>
          f_X4_farthest_b113 (f_X4_farthest_b42 n) h121 a0 v1 x118 x125 v4)))
    else
      (zret v3 h)
def f_X4_farthest_b32 (h : PH) (a0 : Nat) (v1 : Int32) (s0 : Nat) (s1 : Int32) : ZR Int32 :=
  zpI h s0 3 0 s1 fun h101 =>
  f_X4_farthest_b42 zFU h101 a0 v1 (-1 : Int32) (0 : Int32) (0 : Int32)
def f_X4_farthest (h : PH) (a0 : Nat) (v1 : Int32) : ZR Int32 :=
  zrc h a0 3 <| zcl (f_X4_isList h a0 v1) fun x101 h102 =>
  if x101 = 0 then
    (f_X4_farthest_b32 h102 a0 v1 a0 (1 : Int32))
  else
    (zgP h102 a0 3 1 fun x103 =>
    zcl (f_X4_base h102 v1) fun x104 h105 =>
    znm (x104 + (1 : Int32)) fun x106 =>
    znn x103 fun a107 =>
    zaI h105 a107 0 x106 fun x108 =>
    if x108 = 0 then
      (f_X4_farthest_b32 h105 a0 v1 a0 (2 : Int32))
    else
      (f_X4_farthest_b32 h105 a0 v1 a0 (0 : Int32)))
set_option maxHeartbeats 4000000 in
set_option maxRecDepth 100000 in
theorem m_X4_farthest_b113 {p : Program} {l : Launch} {e : Env} {s : State} {m : MethodId} {args : Array Value} {below : List Frame} {meth : Method} {c : Code} {D : va_G} {dA : Nat → ClassId} {b0 : Nat} {gs : Nat → Option Nat} (hc : zC D dA b0 gs yX4_farthest.cls cX4_farthest 5 p c s m args meth) (hr : meth.sig.returnType = (some .int)) (hin : meth.name = yX4_farthest.name) {r : Int32} {hh : PH} {mc ms : Nat} (k42 : PH → Nat → Int32 → Int32 → Int32 → Int32 → ZR Int32) (hk42 : ∀ (h : PH) (a0 : Nat) (v1 : Int32) (v2 : Int32) (v3 : Int32) (v4 : Int32) (C9 S9 : Nat) (H : Heap) (locs : List Loc) (cells slots : Nat), k42 h a0 v1 v2 v3 v4 = some (r, hh, C9, S9) → cells + C9 = mc ∧ slots + S9 = ms → zM D dA b0 gs s h H locs → ∀ ls : Array Slot, lv_has ls 5 [(0, .ref a0), (1, .int v1), (2, .int v2), (3, .int v3), (4, .int v4)] → W p l e ({ frames := 4, cells := mc, slots := ms, locals := 132 } : Room) s m args below meth c H locs cells slots (MQ below (zQ D dA b0 gs (evI r) hh) args s mc ms (zA b0)) (F0 m 42 ls [])) : ∀ (h : PH) (a0 : Nat) (v1 : Int32) (v2 : Int32) (v3 : Int32) (v4 : Int32) (C9 S9 : Nat) (H : Heap) (locs : List Loc) (cells slots : Nat), f_X4_farthest_b113 k42 h a0 v1 v2 v3 v4 = some (r, hh, C9, S9) → cells + C9 = mc ∧ slots + S9 = ms → zM D dA b0 gs s h H locs → ∀ ls : Array Slot, lv_has ls 5 [(0, .ref a0), (1, .int v1), (2, .int v2), (3, .int v3), (4, .int v4)] → W p l e ({ frames := 4, cells := mc, slots := ms, locals := 132 } : Room) s m args below meth c H locs cells slots (MQ below (zQ D dA b0 gs (evI r) hh) args s mc ms (zA b0)) (F0 m 113 ls []) := by
  have hx := hc.x
  have hb := hc.b
  intro h a0 v1 v2 v3 v4 C9 S9 H locs cells slots hf hq hn ls hl
  unfold f_X4_farthest_b113 at hf
  obtain ⟨x101, ex101, hf⟩ := znm_i hf
  refine lv_iinc (v := x101) (lv' := [(4, .int x101), (0, .ref a0), (1, .int v1), (2, .int v2), (3, .int v3)]) hx hb dX4_farthest_113 hl (k := 4) rfl (by rw [ex101]; rfl) (by decide) rfl (fun ls hl => ?_)
  refine lv_goto (tgt := 42) hx hb dX4_farthest_116 (by decide) ?_
  exact hk42 h a0 v1 v2 v3 x101 _ _ _ _ _ _ hf hq hn _ (lv_sub hl [1, 2, 3, 4, 0] rfl)
set_option maxHeartbeats 4000000 in
set_option maxRecDepth 100000 in
theorem m_X4_farthest_b42 {p : Program} {l : Launch} {e : Env} {s : State} {m : MethodId} {args : Array Value} {below : List Frame} {meth : Method} {c : Code} {D : va_G} {dA : Nat → ClassId} {b0 : Nat} {gs : Nat → Option Nat} (hc : zC D dA b0 gs yX4_farthest.cls cX4_farthest 5 p c s m args meth) (hr : meth.sig.returnType = (some .int)) (hin : meth.name = yX4_farthest.name) {r : Int32} {hh : PH} {mc ms : Nat} : ∀ (n : Nat) (h : PH) (a0 : Nat) (v1 : Int32) (v2 : Int32) (v3 : Int32) (v4 : Int32) (C9 S9 : Nat) (H : Heap) (locs : List Loc) (cells slots : Nat), f_X4_farthest_b42 n h a0 v1 v2 v3 v4 = some (r, hh, C9, S9) → cells + C9 = mc ∧ slots + S9 = ms → zM D dA b0 gs s h H locs → ∀ ls : Array Slot, lv_has ls 5 [(0, .ref a0), (1, .int v1), (2, .int v2), (3, .int v3), (4, .int v4)] → W p l e ({ frames := 4, cells := mc, slots := ms, locals := 132 } : Room) s m args below meth c H locs cells slots (MQ below (zQ D dA b0 gs (evI r) hh) args s mc ms (zA b0)) (F0 m 42 ls []) := by
  have hx := hc.x
  have hb := hc.b
  intro n
  induction n with
  | zero =>
    intro h a0 v1 v2 v3 v4 C9 S9 H locs cells slots hf hq hn ls hl
    cases hf
  | succ n ih =>
    intro h a0 v1 v2 v3 v4 C9 S9 H locs cells slots hf hq hn ls hl
    unfold f_X4_farthest_b42 at hf
    refine lv_aload_n (x := a0) hx hb dX4_farthest_42 rfl (lv_at hl 0 rfl) ?_
    refine zr_gI hc hn (ci := 3) rfl rfl in_X4 0 (by decide) q2099 (fun _ h => h) (fun _ _ _ => rfl) hf dX4_farthest_43 (fun x101 hf => ?_)
    refine lv_if_ne (tgt := 119) hx hb dX4_farthest_46 (by decide) (fun c9 => ?_) (fun c9 => ?_)
    · have hf := zif_f c9 hf
      refine lv_iload_n hx hb dX4_farthest_119 rfl (lv_at hl 3 rfl) ?_
      obtain ⟨rfl, rfl, rfl, rfl⟩ := zret_i hf
      exact zr_iret hc hn hr hq (fun _ _ _ _ q => q) dX4_farthest_120
    · have hf := zif_t c9 hf
      refine lv_iload hx hb dX4_farthest_49 (lv_at hl 4 rfl) ?_
      refine lv_aload_n (x := a0) hx hb dX4_farthest_51 rfl (lv_at hl 0 rfl) ?_
      refine zr_gP hc hn (ci := 3) rfl rfl in_X4 1 (by decide) q2100 (fun _ h => h) (fun _ _ _ => rfl) hf dX4_farthest_52 (fun x102 hf => ?_)
      refine lv_iload_n hx hb dX4_farthest_55 rfl (lv_at hl 1 rfl) ?_
      refine zr_cSI (As := [.int v1]) (rest := [va_rf x102, .int v4]) hc hn hq hd_X4_base (lw_S q2284 q2285 q91 q2286) (Nat.le_of_ble_eq_true rfl) (Nat.le_of_ble_eq_true rfl) (fun _ _ _ _ q => m_X4_base l D dA b0 gs h v1 q) hf dX4_farthest_56 hl.1 rfl rfl (zroom (Nat.le_of_ble_eq_true rfl)) (fun x103 h104 H locs cells slots C9 S9 hf hq hn => ?_)
      refine lv_iconst (v := (1 : Int32)) hx hb dX4_farthest_59 (by decide) ?_
      refine lv_iadd hx hb dX4_farthest_60 ?_
      refine zr_nmI hf (fun x105 hf => ?_)
      obtain ⟨a106, e9, hf9⟩ := znn_i hf
      subst e9
      have hf := hf9
      clear hf9
      refine zr_aI0 hc hn hf dX4_farthest_61 (fun x107 hf => ?_)
      refine lv_icmp_ge (tgt := 119) hx hb dX4_farthest_62 (by decide) (fun c9 => ?_) (fun c9 => ?_)
      · have hf := zif_t c9 hf
        refine lv_iload_n hx hb dX4_farthest_119 rfl (lv_at hl 3 rfl) ?_
        obtain ⟨rfl, rfl, rfl, rfl⟩ := zret_i hf
        exact zr_iret hc hn hr hq (fun _ _ _ _ q => q) dX4_farthest_120
      · have hf := zif_f c9 hf
        refine lv_aload_n (x := a0) hx hb dX4_farthest_65 rfl (lv_at hl 0 rfl) ?_
        refine lv_iload_n hx hb dX4_farthest_66 rfl (lv_at hl 1 rfl) ?_
        refine lv_aload_n (x := a0) hx hb dX4_farthest_67 rfl (lv_at hl 0 rfl) ?_
        refine zr_gP hc hn (ci := 3) rfl rfl in_X4 1 (by decide) q2100 (fun _ h => h) (fun _ _ _ => rfl) hf dX4_farthest_68 (fun x108 hf => ?_)
        refine lv_iload_n hx hb dX4_farthest_71 rfl (lv_at hl 1 rfl) ?_
        refine zr_cSI (As := [.int v1]) (rest := [va_rf x108, .int v1, .ref a0]) hc hn hq hd_X4_base (lw_S q2284 q2285 q91 q2286) (Nat.le_of_ble_eq_true rfl) (Nat.le_of_ble_eq_true rfl) (fun _ _ _ _ q => m_X4_base l D dA b0 gs h104 v1 q) hf dX4_farthest_72 hl.1 rfl rfl (zroom (Nat.le_of_ble_eq_true rfl)) (fun x109 h110 H locs cells slots C9 S9 hf hq hn => ?_)
        refine lv_iconst (v := (2 : Int32)) hx hb dX4_farthest_75 (by decide) ?_
        refine lv_iadd hx hb dX4_farthest_76 ?_
        refine zr_nmI hf (fun x111 hf => ?_)
        refine lv_iload hx hb dX4_farthest_77 (lv_at hl 4 rfl) ?_
        refine lv_iadd hx hb dX4_farthest_79 ?_
        refine zr_nmI hf (fun x112 hf => ?_)
        obtain ⟨a113, e9, hf9⟩ := znn_i hf
        subst e9
        have hf := hf9
        clear hf9
        refine zr_aI0 hc hn hf dX4_farthest_80 (fun x114 hf => ?_)
        refine lv_iconst (v := (-1 : Int32)) hx hb dX4_farthest_81 (by decide) ?_
        refine zr_cVU (As := [.int v1, .int x114, .int (-1 : Int32)]) (rest := []) hc hn hq (ci := 3) rfl ⟨rfl, hd_X4_seeks⟩ (lw_V q2449 q2451 qs66 q91 q2452) (Nat.le_of_ble_eq_true rfl) (Nat.le_of_ble_eq_true rfl) (fun _ _ _ _ q => m_X4_seeks l D dA b0 gs h110 a0 v1 x114 (-1 : Int32) q) hf dX4_farthest_82 hl.1 rfl rfl (zroom (Nat.le_of_ble_eq_true rfl)) (fun x115 h116 H locs cells slots C9 S9 hf hq hn => ?_)
        refine lv_aload_n (x := a0) hx hb dX4_farthest_85 rfl (lv_at hl 0 rfl) ?_
        refine zr_gI hc hn (ci := 3) rfl rfl in_X4 28 (by decide) q2127 (fun _ h => h) (fun _ _ _ => rfl) hf dX4_farthest_86 (fun x117 hf => ?_)
        refine lv_iload_n hx hb dX4_farthest_89 rfl (lv_at hl 2 rfl) ?_
        refine lv_icmp_le (tgt := 113) hx hb dX4_farthest_90 (by decide) (fun c9 => ?_) (fun c9 => ?_)
        · have hf := zif_t c9 hf
          exact m_X4_farthest_b113 hc hr hin (f_X4_farthest_b42 n) ih h116 a0 v1 v2 v3 v4 _ _ _ _ _ _ hf hq hn _ (lv_sub hl [0, 1, 2, 3, 4] rfl)
        · have hf := zif_f c9 hf
          refine lv_aload_n (x := a0) hx hb dX4_farthest_93 rfl (lv_at hl 0 rfl) ?_
          refine zr_gI hc hn (ci := 3) rfl rfl in_X4 28 (by decide) q2127 (fun _ h => h) (fun _ _ _ => rfl) hf dX4_farthest_94 (fun x118 hf => ?_)
          refine lv_istore_n (i := 2) (lv' := [(2, .int x118), (0, .ref a0), (1, .int v1), (3, .int v3), (4, .int v4)]) hx hb dX4_farthest_97 rfl hl (by decide) rfl (fun ls hl => ?_)
          refine lv_aload_n (x := a0) hx hb dX4_farthest_98 rfl (lv_at hl 1 rfl) ?_
          refine zr_gP hc hn (ci := 3) rfl rfl in_X4 1 (by decide) q2100 (fun _ h => h) (fun _ _ _ => rfl) hf dX4_farthest_99 (fun x119 hf => ?_)
          refine lv_iload_n hx hb dX4_farthest_102 rfl (lv_at hl 2 rfl) ?_
          refine zr_cSI (As := [.int v1]) (rest := [va_rf x119]) hc hn hq hd_X4_base (lw_S q2284 q2285 q91 q2286) (Nat.le_of_ble_eq_true rfl) (Nat.le_of_ble_eq_true rfl) (fun _ _ _ _ q => m_X4_base l D dA b0 gs h116 v1 q) hf dX4_farthest_103 hl.1 rfl rfl (zroom (Nat.le_of_ble_eq_true rfl)) (fun x120 h121 H locs cells slots C9 S9 hf hq hn => ?_)
          refine lv_iconst (v := (2 : Int32)) hx hb dX4_farthest_106 (by decide) ?_
          refine lv_iadd hx hb dX4_farthest_107 ?_
          refine zr_nmI hf (fun x122 hf => ?_)
          refine lv_iload hx hb dX4_farthest_108 (lv_at hl 4 rfl) ?_
          refine lv_iadd hx hb dX4_farthest_110 ?_
          refine zr_nmI hf (fun x123 hf => ?_)
          obtain ⟨a124, e9, hf9⟩ := znn_i hf
          subst e9
          have hf := hf9
          clear hf9
          refine zr_aI0 hc hn hf dX4_farthest_111 (fun x125 hf => ?_)
          refine lv_istore_n (i := 3) (lv' := [(3, .int x125), (2, .int x118), (0, .ref a0), (1, .int v1), (4, .int v4)]) hx hb dX4_farthest_112 rfl hl (by decide) rfl (fun ls hl => ?_)
          exact m_X4_farthest_b113 hc hr hin (f_X4_farthest_b42 n) ih h121 a0 v1 x118 x125 v4 _ _ _ _ _ _ hf hq hn _ (lv_sub hl [2, 3, 1, 0, 4] rfl)
set_option maxHeartbeats 4000000 in
set_option maxRecDepth 100000 in
theorem m_X4_farthest_b32 {p : Program} {l : Launch} {e : Env} {s : State} {m : MethodId} {args : Array Value} {below : List Frame} {meth : Method} {c : Code} {D : va_G} {dA : Nat → ClassId} {b0 : Nat} {gs : Nat → Option Nat} (hc : zC D dA b0 gs yX4_farthest.cls cX4_farthest 5 p c s m args meth) (hr : meth.sig.returnType = (some .int)) (hin : meth.name = yX4_farthest.name) {r : Int32} {hh : PH} {mc ms : Nat} : ∀ (h : PH) (a0 : Nat) (v1 : Int32) (s0 : Nat) (s1 : Int32) (C9 S9 : Nat) (H : Heap) (locs : List Loc) (cells slots : Nat), f_X4_farthest_b32 h a0 v1 s0 s1 = some (r, hh, C9, S9) → cells + C9 = mc ∧ slots + S9 = ms → zM D dA b0 gs s h H locs → ∀ ls : Array Slot, lv_has ls 5 [(0, .ref a0), (1, .int v1)] → W p l e ({ frames := 4, cells := mc, slots := ms, locals := 132 } : Room) s m args below meth c H locs cells slots (MQ below (zQ D dA b0 gs (evI r) hh) args s mc ms (zA b0)) (F0 m 32 ls [.int s1, .ref s0]) := by
  have hx := hc.x
  have hb := hc.b
  intro h a0 v1 s0 s1 C9 S9 H locs cells slots hf hq hn ls hl
  unfold f_X4_farthest_b32 at hf
  refine zr_pI (x := s1) hc hn (ci := 3) rfl rfl in_X4 0 (by decide) tyX4 tyX4_ok nmX4 q2099 (fun _ h => h) (Or.inl rfl) (fun _ _ _ => rfl) rfl rfl hf dX4_farthest_32 (fun h101 H locs hf hn => ?_)
  refine lv_iconst (v := (-1 : Int32)) hx hb dX4_farthest_35 (by decide) ?_
  refine lv_istore_n (i := 2) (lv' := [(2, .int (-1 : Int32)), (0, .ref a0), (1, .int v1)]) hx hb dX4_farthest_36 rfl hl (by decide) rfl (fun ls hl => ?_)
  refine lv_iconst (v := (0 : Int32)) hx hb dX4_farthest_37 (by decide) ?_
  refine lv_istore_n (i := 3) (lv' := [(3, .int (0 : Int32)), (2, .int (-1 : Int32)), (0, .ref a0), (1, .int v1)]) hx hb dX4_farthest_38 rfl hl (by decide) rfl (fun ls hl => ?_)
  refine lv_iconst (v := (0 : Int32)) hx hb dX4_farthest_39 (by decide) ?_
  refine lv_istore (lv' := [(4, .int (0 : Int32)), (3, .int (0 : Int32)), (2, .int (-1 : Int32)), (0, .ref a0), (1, .int v1)]) hx hb dX4_farthest_40 hl (by decide) rfl (fun ls hl => ?_)
  exact m_X4_farthest_b42 hc hr hin zFU h101 a0 v1 (-1 : Int32) (0 : Int32) (0 : Int32) _ _ _ _ _ _ hf hq hn _ (lv_sub hl [3, 4, 2, 1, 0] rfl)
set_option maxHeartbeats 4000000 in
set_option maxRecDepth 100000 in
theorem m_X4_farthest (l : Launch) (D : va_G) (dA : Nat → ClassId) (b0 : Nat) (gs : Nat → Option Nat) (h : PH) (a0 : Nat) (v1 : Int32) {r : Int32} {hh : PH} {mc ms : Nat} (hf : f_X4_farthest h a0 v1 = some (r, hh, mc, ms)) : zMt l D dA b0 gs yX4_farthest cX4_farthest 5 (some .int) 4 132 [.ref a0, .int v1] h (evI r) hh mc ms := by
  unfold f_X4_farthest at hf
  refine zMt.of (by decide) (Nat.le_of_ble_eq_true rfl) ?_
  intro p e s m args below meth c hc hr hin hn ls hl
  have hl : lv_has ls 5 [(0, .ref a0), (1, .int v1)] := hl
  have hq : 0 + mc = mc ∧ 0 + ms = ms := ⟨Nat.zero_add _, Nat.zero_add _⟩
  have hx := hc.x
  have hb := hc.b
  refine lv_aload_n (x := a0) hx hb dX4_farthest_0 rfl (lv_at hl 0 rfl) ?_
  refine lv_aload_n (x := a0) hx hb dX4_farthest_1 rfl (lv_at hl 0 rfl) ?_
  refine lv_iload_n hx hb dX4_farthest_2 rfl (lv_at hl 1 rfl) ?_
  refine zr_cVI (As := [.int v1]) (rest := [.ref a0]) hc hn hq (ci := 3) rfl ⟨rfl, hd_X4_isList⟩ (lw_V q2343 q2345 qs57 q91 q2346) (Nat.le_of_ble_eq_true rfl) (Nat.le_of_ble_eq_true rfl) (fun _ _ _ _ q => m_X4_isList l D dA b0 gs h a0 v1 q) hf dX4_farthest_3 hl.1 rfl rfl (zroom (Nat.le_of_ble_eq_true rfl)) (fun x101 h102 H locs cells slots C9 S9 hf hq hn => ?_)
  refine lv_if_ne (tgt := 13) hx hb dX4_farthest_6 (by decide) (fun c9 => ?_) (fun c9 => ?_)
  · have hf := zif_f c9 hf
    refine lv_aload_n (x := a0) hx hb dX4_farthest_13 rfl (lv_at hl 0 rfl) ?_
    refine zr_gP hc hn (ci := 3) rfl rfl in_X4 1 (by decide) q2100 (fun _ h => h) (fun _ _ _ => rfl) hf dX4_farthest_14 (fun x103 hf => ?_)
    refine lv_iload_n hx hb dX4_farthest_17 rfl (lv_at hl 1 rfl) ?_
    refine zr_cSI (As := [.int v1]) (rest := [va_rf x103, .ref a0]) hc hn hq hd_X4_base (lw_S q2284 q2285 q91 q2286) (Nat.le_of_ble_eq_true rfl) (Nat.le_of_ble_eq_true rfl) (fun _ _ _ _ q => m_X4_base l D dA b0 gs h102 v1 q) hf dX4_farthest_18 hl.1 rfl rfl (zroom (Nat.le_of_ble_eq_true rfl)) (fun x104 h105 H locs cells slots C9 S9 hf hq hn => ?_)
    refine lv_iconst (v := (1 : Int32)) hx hb dX4_farthest_21 (by decide) ?_
    refine lv_iadd hx hb dX4_farthest_22 ?_
    refine zr_nmI hf (fun x106 hf => ?_)
    obtain ⟨a107, e9, hf9⟩ := znn_i hf
    subst e9
    have hf := hf9
    clear hf9
    refine zr_aI0 hc hn hf dX4_farthest_23 (fun x108 hf => ?_)
    refine lv_if_ne (tgt := 31) hx hb dX4_farthest_24 (by decide) (fun c9 => ?_) (fun c9 => ?_)
    · have hf := zif_f c9 hf
      refine lv_iconst (v := (0 : Int32)) hx hb dX4_farthest_31 (by decide) ?_
      exact m_X4_farthest_b32 hc hr hin h105 a0 v1 a0 (0 : Int32) _ _ _ _ _ _ hf hq hn _ (lv_sub hl [0, 1] rfl)
    · have hf := zif_t c9 hf
      refine lv_iconst (v := (2 : Int32)) hx hb dX4_farthest_27 (by decide) ?_
      refine lv_goto (tgt := 32) hx hb dX4_farthest_28 (by decide) ?_
      exact m_X4_farthest_b32 hc hr hin h105 a0 v1 a0 (2 : Int32) _ _ _ _ _ _ hf hq hn _ (lv_sub hl [0, 1] rfl)
  · have hf := zif_t c9 hf
    refine lv_iconst (v := (1 : Int32)) hx hb dX4_farthest_9 (by decide) ?_
    refine lv_goto (tgt := 32) hx hb dX4_farthest_10 (by decide) ?_
    exact m_X4_farthest_b32 hc hr hin h102 a0 v1 a0 (1 : Int32) _ _ _ _ _ _ hf hq hn _ (lv_sub hl [0, 1] rfl)
theorem hd_X4_meanLooks : yX4_meanLooks.cls ≠ "java/lang/invoke/MethodHandle" ∧ yX4_meanLooks.cls ≠ "java/lang/invoke/VarHandle" ∧ (parseMethodDescriptor yX4_meanLooks.desc).map (fun d => d.parameters.length) = some 1 := by decide +kernel
def f_X4_meanLooks_b61 : Nat → PH → Nat → Int32 → Int32 → Int32 → Int32 → ZR UInt64
  | 0 => fun _ _ _ _ _ _ => none
  | n + 1 => fun h a0 v1 v2 v3 v4 =>
    if v3 ≤ v4 then
      (znm (FP.i2d v2) fun x101 =>
      znm (FP.i2d v3) fun x102 =>
      zgd (zn64 (FP.ddiv x101 x102) = true) <|
      znm (FP.ddiv x101 x102) fun x103 =>
      zret x103 h)
    else
      (zgP h a0 3 1 fun x104 =>
      zcl (f_X4_base h v1) fun x105 h106 =>
      znm (x105 + (2 : Int32)) fun x107 =>
      znm (x107 + v4) fun x108 =>
      znn x104 fun a109 =>
      zaI h106 a109 0 x108 fun x110 =>
      zrc h106 a0 3 <| zcl (f_X4_seeks h106 a0 v1 x110 (-1 : Int32)) fun _ h112 =>
      zgI h112 a0 3 27 fun x113 =>
      znm (v2 + x113) fun x114 =>
      znm (v4 + (1 : Int32)) fun x115 =>
      f_X4_meanLooks_b61 n h112 a0 v1 x114 v3 x115)
def f_X4_meanLooks_b32 (h : PH) (a0 : Nat) (v1 : Int32) (s0 : Nat) (s1 : Int32) : ZR UInt64 :=
  zpI h s0 3 0 s1 fun h101 =>
  zgI h101 a0 3 0 fun x102 =>
  if x102 ≤ 0 then
    (zgP h101 a0 3 1 fun x103 =>
    zcl (f_X4_base h101 v1) fun x104 h105 =>
    znm (x104 + (1 : Int32)) fun x106 =>
    znn x103 fun a107 =>
    zaI h105 a107 0 x106 fun x108 =>
    f_X4_meanLooks_b61 zFU h105 a0 v1 (0 : Int32) x108 (0 : Int32))
  else
    (zret FP.dconst0 h101)
def f_X4_meanLooks (h : PH) (a0 : Nat) (v1 : Int32) : ZR UInt64 :=
  zrc h a0 3 <| zcl (f_X4_isList h a0 v1) fun x101 h102 =>
  if x101 = 0 then
    (f_X4_meanLooks_b32 h102 a0 v1 a0 (1 : Int32))
  else
    (zgP h102 a0 3 1 fun x103 =>
    zcl (f_X4_base h102 v1) fun x104 h105 =>
    znm (x104 + (1 : Int32)) fun x106 =>
    znn x103 fun a107 =>
    zaI h105 a107 0 x106 fun x108 =>
    if x108 = 0 then
      (f_X4_meanLooks_b32 h105 a0 v1 a0 (2 : Int32))
    else
      (f_X4_meanLooks_b32 h105 a0 v1 a0 (0 : Int32)))
set_option maxHeartbeats 4000000 in
set_option maxRecDepth 100000 in
theorem m_X4_meanLooks_b61 {p : Program} {l : Launch} {e : Env} {s : State} {m : MethodId} {args : Array Value} {below : List Frame} {meth : Method} {c : Code} {D : va_G} {dA : Nat → ClassId} {b0 : Nat} {gs : Nat → Option Nat} (hc : zC D dA b0 gs yX4_meanLooks.cls cX4_meanLooks 5 p c s m args meth) (hr : meth.sig.returnType = (some .double)) (hin : meth.name = yX4_meanLooks.name) {r : UInt64} {hh : PH} {mc ms : Nat} : ∀ (n : Nat) (h : PH) (a0 : Nat) (v1 : Int32) (v2 : Int32) (v3 : Int32) (v4 : Int32) (C9 S9 : Nat) (H : Heap) (locs : List Loc) (cells slots : Nat), f_X4_meanLooks_b61 n h a0 v1 v2 v3 v4 = some (r, hh, C9, S9) → cells + C9 = mc ∧ slots + S9 = ms → zM D dA b0 gs s h H locs → ∀ ls : Array Slot, lv_has ls 5 [(0, .ref a0), (1, .int v1), (2, .int v2), (3, .int v3), (4, .int v4)] → W p l e ({ frames := 4, cells := mc, slots := ms, locals := 132 } : Room) s m args below meth c H locs cells slots (MQ below (zQ D dA b0 gs (evD r) hh) args s mc ms (zA b0)) (F0 m 61 ls []) := by
  have hx := hc.x
  have hb := hc.b
  intro n
  induction n with
  | zero =>
    intro h a0 v1 v2 v3 v4 C9 S9 H locs cells slots hf hq hn ls hl
    cases hf
  | succ n ih =>
    intro h a0 v1 v2 v3 v4 C9 S9 H locs cells slots hf hq hn ls hl
    unfold f_X4_meanLooks_b61 at hf
    refine lv_iload hx hb dX4_meanLooks_61 (lv_at hl 4 rfl) ?_
    refine lv_iload_n hx hb dX4_meanLooks_63 rfl (lv_at hl 3 rfl) ?_
    refine lv_icmp_ge (tgt := 100) hx hb dX4_meanLooks_64 (by decide) (fun c9 => ?_) (fun c9 => ?_)
    · have hf := zif_t c9 hf
      refine lv_iload_n hx hb dX4_meanLooks_100 rfl (lv_at hl 2 rfl) ?_
      refine lv_i2d hx hb dX4_meanLooks_101 ?_
      refine zr_nmD hf (fun x101 hf => ?_)
      refine lv_iload_n hx hb dX4_meanLooks_102 rfl (lv_at hl 3 rfl) ?_
      refine lv_i2d hx hb dX4_meanLooks_103 ?_
      refine zr_nmD hf (fun x102 hf => ?_)
      obtain ⟨hne, hf⟩ := zgd_i hf
      refine lv_ddiv hx hb dX4_meanLooks_104 (zn64_i hne) ?_
      refine zr_nmD hf (fun x103 hf => ?_)
      obtain ⟨rfl, rfl, rfl, rfl⟩ := zret_i hf
      exact zr_dret hc hn hr hq (fun _ _ _ _ q => q) dX4_meanLooks_105
    · have hf := zif_f c9 hf
      refine lv_aload_n (x := a0) hx hb dX4_meanLooks_67 rfl (lv_at hl 0 rfl) ?_
      refine lv_iload_n hx hb dX4_meanLooks_68 rfl (lv_at hl 1 rfl) ?_
      refine lv_aload_n (x := a0) hx hb dX4_meanLooks_69 rfl (lv_at hl 0 rfl) ?_
      refine zr_gP hc hn (ci := 3) rfl rfl in_X4 1 (by decide) q2100 (fun _ h => h) (fun _ _ _ => rfl) hf dX4_meanLooks_70 (fun x104 hf => ?_)
      refine lv_iload_n hx hb dX4_meanLooks_73 rfl (lv_at hl 1 rfl) ?_
      refine zr_cSI (As := [.int v1]) (rest := [va_rf x104, .int v1, .ref a0]) hc hn hq hd_X4_base (lw_S q2284 q2285 q91 q2286) (Nat.le_of_ble_eq_true rfl) (Nat.le_of_ble_eq_true rfl) (fun _ _ _ _ q => m_X4_base l D dA b0 gs h v1 q) hf dX4_meanLooks_74 hl.1 rfl rfl (zroom (Nat.le_of_ble_eq_true rfl)) (fun x105 h106 H locs cells slots C9 S9 hf hq hn => ?_)
      refine lv_iconst (v := (2 : Int32)) hx hb dX4_meanLooks_77 (by decide) ?_
      refine lv_iadd hx hb dX4_meanLooks_78 ?_
      refine zr_nmI hf (fun x107 hf => ?_)
      refine lv_iload hx hb dX4_meanLooks_79 (lv_at hl 4 rfl) ?_
      refine lv_iadd hx hb dX4_meanLooks_81 ?_
      refine zr_nmI hf (fun x108 hf => ?_)
      obtain ⟨a109, e9, hf9⟩ := znn_i hf
      subst e9
      have hf := hf9
      clear hf9
      refine zr_aI0 hc hn hf dX4_meanLooks_82 (fun x110 hf => ?_)
      refine lv_iconst (v := (-1 : Int32)) hx hb dX4_meanLooks_83 (by decide) ?_
      refine zr_cVU (As := [.int v1, .int x110, .int (-1 : Int32)]) (rest := []) hc hn hq (ci := 3) rfl ⟨rfl, hd_X4_seeks⟩ (lw_V q2449 q2451 qs66 q91 q2452) (Nat.le_of_ble_eq_true rfl) (Nat.le_of_ble_eq_true rfl) (fun _ _ _ _ q => m_X4_seeks l D dA b0 gs h106 a0 v1 x110 (-1 : Int32) q) hf dX4_meanLooks_84 hl.1 rfl rfl (zroom (Nat.le_of_ble_eq_true rfl)) (fun x111 h112 H locs cells slots C9 S9 hf hq hn => ?_)
      refine lv_iload_n hx hb dX4_meanLooks_87 rfl (lv_at hl 2 rfl) ?_
      refine lv_aload_n (x := a0) hx hb dX4_meanLooks_88 rfl (lv_at hl 0 rfl) ?_
      refine zr_gI hc hn (ci := 3) rfl rfl in_X4 27 (by decide) q2126 (fun _ h => h) (fun _ _ _ => rfl) hf dX4_meanLooks_89 (fun x113 hf => ?_)
      refine lv_iadd hx hb dX4_meanLooks_92 ?_
      refine zr_nmI hf (fun x114 hf => ?_)
      refine lv_istore_n (i := 2) (lv' := [(2, .int x114), (0, .ref a0), (1, .int v1), (3, .int v3), (4, .int v4)]) hx hb dX4_meanLooks_93 rfl hl (by decide) rfl (fun ls hl => ?_)
      obtain ⟨x115, ex115, hf⟩ := znm_i hf
      refine lv_iinc (v := x115) (lv' := [(4, .int x115), (2, .int x114), (0, .ref a0), (1, .int v1), (3, .int v3)]) hx hb dX4_meanLooks_94 hl (k := 4) rfl (by rw [ex115]; rfl) (by decide) rfl (fun ls hl => ?_)
      refine lv_goto (tgt := 61) hx hb dX4_meanLooks_97 (by decide) ?_
      exact ih h112 a0 v1 x114 v3 x115 _ _ _ _ _ _ hf hq hn _ (lv_sub hl [2, 3, 1, 4, 0] rfl)
set_option maxHeartbeats 4000000 in
set_option maxRecDepth 100000 in
theorem m_X4_meanLooks_b32 {p : Program} {l : Launch} {e : Env} {s : State} {m : MethodId} {args : Array Value} {below : List Frame} {meth : Method} {c : Code} {D : va_G} {dA : Nat → ClassId} {b0 : Nat} {gs : Nat → Option Nat} (hc : zC D dA b0 gs yX4_meanLooks.cls cX4_meanLooks 5 p c s m args meth) (hr : meth.sig.returnType = (some .double)) (hin : meth.name = yX4_meanLooks.name) {r : UInt64} {hh : PH} {mc ms : Nat} : ∀ (h : PH) (a0 : Nat) (v1 : Int32) (s0 : Nat) (s1 : Int32) (C9 S9 : Nat) (H : Heap) (locs : List Loc) (cells slots : Nat), f_X4_meanLooks_b32 h a0 v1 s0 s1 = some (r, hh, C9, S9) → cells + C9 = mc ∧ slots + S9 = ms → zM D dA b0 gs s h H locs → ∀ ls : Array Slot, lv_has ls 5 [(0, .ref a0), (1, .int v1)] → W p l e ({ frames := 4, cells := mc, slots := ms, locals := 132 } : Room) s m args below meth c H locs cells slots (MQ below (zQ D dA b0 gs (evD r) hh) args s mc ms (zA b0)) (F0 m 32 ls [.int s1, .ref s0]) := by
  have hx := hc.x
  have hb := hc.b
  intro h a0 v1 s0 s1 C9 S9 H locs cells slots hf hq hn ls hl
  unfold f_X4_meanLooks_b32 at hf
  refine zr_pI (x := s1) hc hn (ci := 3) rfl rfl in_X4 0 (by decide) tyX4 tyX4_ok nmX4 q2099 (fun _ h => h) (Or.inl rfl) (fun _ _ _ => rfl) rfl rfl hf dX4_meanLooks_32 (fun h101 H locs hf hn => ?_)
  refine lv_aload_n (x := a0) hx hb dX4_meanLooks_35 rfl (lv_at hl 0 rfl) ?_
  refine zr_gI hc hn (ci := 3) rfl rfl in_X4 0 (by decide) q2099 (fun _ h => h) (fun _ _ _ => rfl) hf dX4_meanLooks_36 (fun x102 hf => ?_)
  refine lv_if_le (tgt := 44) hx hb dX4_meanLooks_39 (by decide) (fun c9 => ?_) (fun c9 => ?_)
  · have hf := zif_t c9 hf
    refine lv_iconst (v := (0 : Int32)) hx hb dX4_meanLooks_44 (by decide) ?_
    refine lv_istore_n (i := 2) (lv' := [(2, .int (0 : Int32)), (0, .ref a0), (1, .int v1)]) hx hb dX4_meanLooks_45 rfl hl (by decide) rfl (fun ls hl => ?_)
    refine lv_aload_n (x := a0) hx hb dX4_meanLooks_46 rfl (lv_at hl 1 rfl) ?_
    refine zr_gP hc hn (ci := 3) rfl rfl in_X4 1 (by decide) q2100 (fun _ h => h) (fun _ _ _ => rfl) hf dX4_meanLooks_47 (fun x103 hf => ?_)
    refine lv_iload_n hx hb dX4_meanLooks_50 rfl (lv_at hl 2 rfl) ?_
    refine zr_cSI (As := [.int v1]) (rest := [va_rf x103]) hc hn hq hd_X4_base (lw_S q2284 q2285 q91 q2286) (Nat.le_of_ble_eq_true rfl) (Nat.le_of_ble_eq_true rfl) (fun _ _ _ _ q => m_X4_base l D dA b0 gs h101 v1 q) hf dX4_meanLooks_51 hl.1 rfl rfl (zroom (Nat.le_of_ble_eq_true rfl)) (fun x104 h105 H locs cells slots C9 S9 hf hq hn => ?_)
    refine lv_iconst (v := (1 : Int32)) hx hb dX4_meanLooks_54 (by decide) ?_
    refine lv_iadd hx hb dX4_meanLooks_55 ?_
    refine zr_nmI hf (fun x106 hf => ?_)
    obtain ⟨a107, e9, hf9⟩ := znn_i hf
    subst e9
    have hf := hf9
    clear hf9
    refine zr_aI0 hc hn hf dX4_meanLooks_56 (fun x108 hf => ?_)
    refine lv_istore_n (i := 3) (lv' := [(3, .int x108), (2, .int (0 : Int32)), (0, .ref a0), (1, .int v1)]) hx hb dX4_meanLooks_57 rfl hl (by decide) rfl (fun ls hl => ?_)
    refine lv_iconst (v := (0 : Int32)) hx hb dX4_meanLooks_58 (by decide) ?_
    refine lv_istore (lv' := [(4, .int (0 : Int32)), (3, .int x108), (2, .int (0 : Int32)), (0, .ref a0), (1, .int v1)]) hx hb dX4_meanLooks_59 hl (by decide) rfl (fun ls hl => ?_)
    exact m_X4_meanLooks_b61 hc hr hin zFU h105 a0 v1 (0 : Int32) x108 (0 : Int32) _ _ _ _ _ _ hf hq hn _ (lv_sub hl [3, 4, 2, 1, 0] rfl)
  · have hf := zif_f c9 hf
    refine lv_dconst0 hx hb dX4_meanLooks_42 ?_
    obtain ⟨rfl, rfl, rfl, rfl⟩ := zret_i hf
    exact zr_dret hc hn hr hq (fun _ _ _ _ q => q) dX4_meanLooks_43
set_option maxHeartbeats 4000000 in
set_option maxRecDepth 100000 in
theorem m_X4_meanLooks (l : Launch) (D : va_G) (dA : Nat → ClassId) (b0 : Nat) (gs : Nat → Option Nat) (h : PH) (a0 : Nat) (v1 : Int32) {r : UInt64} {hh : PH} {mc ms : Nat} (hf : f_X4_meanLooks h a0 v1 = some (r, hh, mc, ms)) : zMt l D dA b0 gs yX4_meanLooks cX4_meanLooks 5 (some .double) 4 132 [.ref a0, .int v1] h (evD r) hh mc ms := by
  unfold f_X4_meanLooks at hf
  refine zMt.of (by decide) (Nat.le_of_ble_eq_true rfl) ?_
  intro p e s m args below meth c hc hr hin hn ls hl
  have hl : lv_has ls 5 [(0, .ref a0), (1, .int v1)] := hl
  have hq : 0 + mc = mc ∧ 0 + ms = ms := ⟨Nat.zero_add _, Nat.zero_add _⟩
  have hx := hc.x
  have hb := hc.b
  refine lv_aload_n (x := a0) hx hb dX4_meanLooks_0 rfl (lv_at hl 0 rfl) ?_
  refine lv_aload_n (x := a0) hx hb dX4_meanLooks_1 rfl (lv_at hl 0 rfl) ?_
  refine lv_iload_n hx hb dX4_meanLooks_2 rfl (lv_at hl 1 rfl) ?_
  refine zr_cVI (As := [.int v1]) (rest := [.ref a0]) hc hn hq (ci := 3) rfl ⟨rfl, hd_X4_isList⟩ (lw_V q2343 q2345 qs57 q91 q2346) (Nat.le_of_ble_eq_true rfl) (Nat.le_of_ble_eq_true rfl) (fun _ _ _ _ q => m_X4_isList l D dA b0 gs h a0 v1 q) hf dX4_meanLooks_3 hl.1 rfl rfl (zroom (Nat.le_of_ble_eq_true rfl)) (fun x101 h102 H locs cells slots C9 S9 hf hq hn => ?_)
  refine lv_if_ne (tgt := 13) hx hb dX4_meanLooks_6 (by decide) (fun c9 => ?_) (fun c9 => ?_)
  · have hf := zif_f c9 hf
    refine lv_aload_n (x := a0) hx hb dX4_meanLooks_13 rfl (lv_at hl 0 rfl) ?_
    refine zr_gP hc hn (ci := 3) rfl rfl in_X4 1 (by decide) q2100 (fun _ h => h) (fun _ _ _ => rfl) hf dX4_meanLooks_14 (fun x103 hf => ?_)
    refine lv_iload_n hx hb dX4_meanLooks_17 rfl (lv_at hl 1 rfl) ?_
    refine zr_cSI (As := [.int v1]) (rest := [va_rf x103, .ref a0]) hc hn hq hd_X4_base (lw_S q2284 q2285 q91 q2286) (Nat.le_of_ble_eq_true rfl) (Nat.le_of_ble_eq_true rfl) (fun _ _ _ _ q => m_X4_base l D dA b0 gs h102 v1 q) hf dX4_meanLooks_18 hl.1 rfl rfl (zroom (Nat.le_of_ble_eq_true rfl)) (fun x104 h105 H locs cells slots C9 S9 hf hq hn => ?_)
    refine lv_iconst (v := (1 : Int32)) hx hb dX4_meanLooks_21 (by decide) ?_
    refine lv_iadd hx hb dX4_meanLooks_22 ?_
    refine zr_nmI hf (fun x106 hf => ?_)
    obtain ⟨a107, e9, hf9⟩ := znn_i hf
    subst e9
    have hf := hf9
    clear hf9
    refine zr_aI0 hc hn hf dX4_meanLooks_23 (fun x108 hf => ?_)
    refine lv_if_ne (tgt := 31) hx hb dX4_meanLooks_24 (by decide) (fun c9 => ?_) (fun c9 => ?_)
    · have hf := zif_f c9 hf
      refine lv_iconst (v := (0 : Int32)) hx hb dX4_meanLooks_31 (by decide) ?_
      exact m_X4_meanLooks_b32 hc hr hin h105 a0 v1 a0 (0 : Int32) _ _ _ _ _ _ hf hq hn _ (lv_sub hl [0, 1] rfl)
    · have hf := zif_t c9 hf
      refine lv_iconst (v := (2 : Int32)) hx hb dX4_meanLooks_27 (by decide) ?_
      refine lv_goto (tgt := 32) hx hb dX4_meanLooks_28 (by decide) ?_
      exact m_X4_meanLooks_b32 hc hr hin h105 a0 v1 a0 (2 : Int32) _ _ _ _ _ _ hf hq hn _ (lv_sub hl [0, 1] rfl)
  · have hf := zif_t c9 hf
    refine lv_iconst (v := (1 : Int32)) hx hb dX4_meanLooks_9 (by decide) ?_
    refine lv_goto (tgt := 32) hx hb dX4_meanLooks_10 (by decide) ?_
    exact m_X4_meanLooks_b32 hc hr hin h102 a0 v1 a0 (1 : Int32) _ _ _ _ _ _ hf hq hn _ (lv_sub hl [0, 1] rfl)
theorem hd_X4_lays : yX4_lays.cls ≠ "java/lang/invoke/MethodHandle" ∧ yX4_lays.cls ≠ "java/lang/invoke/VarHandle" ∧ (parseMethodDescriptor yX4_lays.desc).map (fun d => d.parameters.length) = some 0 := by decide +kernel
def f_X4_lays_b29 : Nat → PH → Nat → Int32 → ZR Unit
  | 0 => fun _ _ _ => none
  | n + 1 => fun h a0 v1 =>
    if (6 : Int32) ≤ v1 then
      (zgP h a0 3 1 fun x101 =>
      znn x101 fun a102 =>
      zsI h a102 0 (7 : Int32) (0 : Int32) fun h103 =>
      zret () h103)
    else
      (zgP h a0 3 8 fun x104 =>
      zgP h a0 3 2 fun x105 =>
      znn x105 fun a106 =>
      zaL h a106 3 v1 fun x107 =>
      znn x104 fun a108 =>
      zsL h a108 3 v1 x107 fun h109 =>
      znm (v1 + (1 : Int32)) fun x110 =>
      f_X4_lays_b29 n h109 a0 x110)
def f_X4_lays_b2 : Nat → PH → Nat → Int32 → ZR Unit
  | 0 => fun _ _ _ => none
  | n + 1 => fun h a0 v1 =>
    if (4100 : Int32) ≤ v1 then
      (f_X4_lays_b29 zFU h a0 (0 : Int32))
    else
      (zgP h a0 3 7 fun x101 =>
      zgP h a0 3 1 fun x102 =>
      znn x102 fun a103 =>
      zaI h a103 0 v1 fun x104 =>
      znn x101 fun a105 =>
      zsI h a105 0 v1 x104 fun h106 =>
      znm (v1 + (1 : Int32)) fun x107 =>
      f_X4_lays_b2 n h106 a0 x107)
def f_X4_lays (h : PH) (a0 : Nat) : ZR Unit :=
  f_X4_lays_b2 zFU h a0 (0 : Int32)
set_option maxHeartbeats 4000000 in
set_option maxRecDepth 100000 in
theorem m_X4_lays_b29 {p : Program} {l : Launch} {e : Env} {s : State} {m : MethodId} {args : Array Value} {below : List Frame} {meth : Method} {c : Code} {D : va_G} {dA : Nat → ClassId} {b0 : Nat} {gs : Nat → Option Nat} (hc : zC D dA b0 gs yX4_lays.cls cX4_lays 2 p c s m args meth) (hr : meth.sig.returnType = none) (hin : meth.name = yX4_lays.name) {r : Unit} {hh : PH} {mc ms : Nat} : ∀ (n : Nat) (h : PH) (a0 : Nat) (v1 : Int32) (C9 S9 : Nat) (H : Heap) (locs : List Loc) (cells slots : Nat), f_X4_lays_b29 n h a0 v1 = some (r, hh, C9, S9) → cells + C9 = mc ∧ slots + S9 = ms → zM D dA b0 gs s h H locs → ∀ ls : Array Slot, lv_has ls 2 [(0, .ref a0), (1, .int v1)] → W p l e ({ frames := 1, cells := mc, slots := ms, locals := 60 } : Room) s m args below meth c H locs cells slots (MQ below (zQ D dA b0 gs (evU r) hh) args s mc ms (zA b0)) (F0 m 29 ls []) := by
  have hx := hc.x
  have hb := hc.b
  intro n
  induction n with
  | zero =>
    intro h a0 v1 C9 S9 H locs cells slots hf hq hn ls hl
    cases hf
  | succ n ih =>
    intro h a0 v1 C9 S9 H locs cells slots hf hq hn ls hl
    unfold f_X4_lays_b29 at hf
    refine lv_iload_n hx hb dX4_lays_29 rfl (lv_at hl 1 rfl) ?_
    refine lv_bipush (v := (6 : Int32)) hx hb dX4_lays_30 (by decide) ?_
    refine lv_icmp_ge (tgt := 53) hx hb dX4_lays_32 (by decide) (fun c9 => ?_) (fun c9 => ?_)
    · have hf := zif_t c9 hf
      refine lv_aload_n (x := a0) hx hb dX4_lays_53 rfl (lv_at hl 0 rfl) ?_
      refine zr_gP hc hn (ci := 3) rfl rfl in_X4 1 (by decide) q2100 (fun _ h => h) (fun _ _ _ => rfl) hf dX4_lays_54 (fun x101 hf => ?_)
      refine lv_bipush (v := (7 : Int32)) hx hb dX4_lays_57 (by decide) ?_
      refine lv_iconst (v := (0 : Int32)) hx hb dX4_lays_59 (by decide) ?_
      obtain ⟨a102, e9, hf9⟩ := znn_i hf
      subst e9
      have hf := hf9
      clear hf9
      refine zr_sI hc hn hf dX4_lays_60 (fun h103 H locs hf hn => ?_)
      obtain ⟨rfl, rfl, rfl, rfl⟩ := zret_i hf
      exact zr_vret hc hn hr hq (fun _ _ _ _ q => q) dX4_lays_61
    · have hf := zif_f c9 hf
      refine lv_aload_n (x := a0) hx hb dX4_lays_35 rfl (lv_at hl 0 rfl) ?_
      refine zr_gP hc hn (ci := 3) rfl rfl in_X4 8 (by decide) q2107 (fun _ h => h) (fun _ _ _ => rfl) hf dX4_lays_36 (fun x104 hf => ?_)
      refine lv_iload_n hx hb dX4_lays_39 rfl (lv_at hl 1 rfl) ?_
      refine lv_aload_n (x := a0) hx hb dX4_lays_40 rfl (lv_at hl 0 rfl) ?_
      refine zr_gP hc hn (ci := 3) rfl rfl in_X4 2 (by decide) q2101 (fun _ h => h) (fun _ _ _ => rfl) hf dX4_lays_41 (fun x105 hf => ?_)
      refine lv_iload_n hx hb dX4_lays_44 rfl (lv_at hl 1 rfl) ?_
      obtain ⟨a106, e9, hf9⟩ := znn_i hf
      subst e9
      have hf := hf9
      clear hf9
      refine zr_aL hc hn hf dX4_lays_45 (fun x107 hf => ?_)
      obtain ⟨a108, e9, hf9⟩ := znn_i hf
      subst e9
      have hf := hf9
      clear hf9
      refine zr_sL hc hn hf dX4_lays_46 (fun h109 H locs hf hn => ?_)
      obtain ⟨x110, ex110, hf⟩ := znm_i hf
      refine lv_iinc (v := x110) (lv' := [(1, .int x110), (0, .ref a0)]) hx hb dX4_lays_47 hl (k := 1) rfl (by rw [ex110]; rfl) (by decide) rfl (fun ls hl => ?_)
      refine lv_goto (tgt := 29) hx hb dX4_lays_50 (by decide) ?_
      exact ih h109 a0 x110 _ _ _ _ _ _ hf hq hn _ (lv_sub hl [1, 0] rfl)
set_option maxHeartbeats 4000000 in
set_option maxRecDepth 100000 in
theorem m_X4_lays_b2 {p : Program} {l : Launch} {e : Env} {s : State} {m : MethodId} {args : Array Value} {below : List Frame} {meth : Method} {c : Code} {D : va_G} {dA : Nat → ClassId} {b0 : Nat} {gs : Nat → Option Nat} (hc : zC D dA b0 gs yX4_lays.cls cX4_lays 2 p c s m args meth) (hr : meth.sig.returnType = none) (hin : meth.name = yX4_lays.name) {r : Unit} {hh : PH} {mc ms : Nat} : ∀ (n : Nat) (h : PH) (a0 : Nat) (v1 : Int32) (C9 S9 : Nat) (H : Heap) (locs : List Loc) (cells slots : Nat), f_X4_lays_b2 n h a0 v1 = some (r, hh, C9, S9) → cells + C9 = mc ∧ slots + S9 = ms → zM D dA b0 gs s h H locs → ∀ ls : Array Slot, lv_has ls 2 [(0, .ref a0), (1, .int v1)] → W p l e ({ frames := 1, cells := mc, slots := ms, locals := 60 } : Room) s m args below meth c H locs cells slots (MQ below (zQ D dA b0 gs (evU r) hh) args s mc ms (zA b0)) (F0 m 2 ls []) := by
  have hx := hc.x
  have hb := hc.b
  intro n
  induction n with
  | zero =>
    intro h a0 v1 C9 S9 H locs cells slots hf hq hn ls hl
    cases hf
  | succ n ih =>
    intro h a0 v1 C9 S9 H locs cells slots hf hq hn ls hl
    unfold f_X4_lays_b2 at hf
    refine lv_iload_n hx hb dX4_lays_2 rfl (lv_at hl 1 rfl) ?_
    refine lv_sipush (v := (4100 : Int32)) hx hb dX4_lays_3 (by decide) ?_
    refine lv_icmp_ge (tgt := 27) hx hb dX4_lays_6 (by decide) (fun c9 => ?_) (fun c9 => ?_)
    · have hf := zif_t c9 hf
      refine lv_iconst (v := (0 : Int32)) hx hb dX4_lays_27 (by decide) ?_
      refine lv_istore_n (i := 1) (lv' := [(1, .int (0 : Int32)), (0, .ref a0)]) hx hb dX4_lays_28 rfl hl (by decide) rfl (fun ls hl => ?_)
      exact m_X4_lays_b29 hc hr hin zFU h a0 (0 : Int32) _ _ _ _ _ _ hf hq hn _ (lv_sub hl [1, 0] rfl)
    · have hf := zif_f c9 hf
      refine lv_aload_n (x := a0) hx hb dX4_lays_9 rfl (lv_at hl 0 rfl) ?_
      refine zr_gP hc hn (ci := 3) rfl rfl in_X4 7 (by decide) q2106 (fun _ h => h) (fun _ _ _ => rfl) hf dX4_lays_10 (fun x101 hf => ?_)
      refine lv_iload_n hx hb dX4_lays_13 rfl (lv_at hl 1 rfl) ?_
      refine lv_aload_n (x := a0) hx hb dX4_lays_14 rfl (lv_at hl 0 rfl) ?_
      refine zr_gP hc hn (ci := 3) rfl rfl in_X4 1 (by decide) q2100 (fun _ h => h) (fun _ _ _ => rfl) hf dX4_lays_15 (fun x102 hf => ?_)
      refine lv_iload_n hx hb dX4_lays_18 rfl (lv_at hl 1 rfl) ?_
      obtain ⟨a103, e9, hf9⟩ := znn_i hf
      subst e9
      have hf := hf9
      clear hf9
      refine zr_aI0 hc hn hf dX4_lays_19 (fun x104 hf => ?_)
      obtain ⟨a105, e9, hf9⟩ := znn_i hf
      subst e9
      have hf := hf9
      clear hf9
      refine zr_sI hc hn hf dX4_lays_20 (fun h106 H locs hf hn => ?_)
      obtain ⟨x107, ex107, hf⟩ := znm_i hf
      refine lv_iinc (v := x107) (lv' := [(1, .int x107), (0, .ref a0)]) hx hb dX4_lays_21 hl (k := 1) rfl (by rw [ex107]; rfl) (by decide) rfl (fun ls hl => ?_)
      refine lv_goto (tgt := 2) hx hb dX4_lays_24 (by decide) ?_
      exact ih h106 a0 x107 _ _ _ _ _ _ hf hq hn _ (lv_sub hl [1, 0] rfl)
set_option maxHeartbeats 4000000 in
set_option maxRecDepth 100000 in
theorem m_X4_lays (l : Launch) (D : va_G) (dA : Nat → ClassId) (b0 : Nat) (gs : Nat → Option Nat) (h : PH) (a0 : Nat) {r : Unit} {hh : PH} {mc ms : Nat} (hf : f_X4_lays h a0 = some (r, hh, mc, ms)) : zMt l D dA b0 gs yX4_lays cX4_lays 2 none 1 60 [.ref a0] h (evU r) hh mc ms := by
  unfold f_X4_lays at hf
  refine zMt.of (by decide) (Nat.le_of_ble_eq_true rfl) ?_
  intro p e s m args below meth c hc hr hin hn ls hl
  have hl : lv_has ls 2 [(0, .ref a0)] := hl
  have hq : 0 + mc = mc ∧ 0 + ms = ms := ⟨Nat.zero_add _, Nat.zero_add _⟩
  have hx := hc.x
  have hb := hc.b
  refine lv_iconst (v := (0 : Int32)) hx hb dX4_lays_0 (by decide) ?_
  refine lv_istore_n (i := 1) (lv' := [(1, .int (0 : Int32)), (0, .ref a0)]) hx hb dX4_lays_1 rfl hl (by decide) rfl (fun ls hl => ?_)
  exact m_X4_lays_b2 hc hr hin zFU h a0 (0 : Int32) _ _ _ _ _ _ hf hq hn _ (lv_sub hl [1, 0] rfl)
theorem hd_X4_puts : yX4_puts.cls ≠ "java/lang/invoke/MethodHandle" ∧ yX4_puts.cls ≠ "java/lang/invoke/VarHandle" ∧ (parseMethodDescriptor yX4_puts.desc).map (fun d => d.parameters.length) = some 3 := by decide +kernel
def f_X4_puts_b25 : Nat → PH → Nat → Int32 → Int32 → Int32 → Int32 → Int32 → Int32 → ZR Int32
  | 0 => fun _ _ _ _ _ _ _ _ => none
  | n + 1 => fun h a0 v1 v2 v3 v4 v5 v6 =>
    if v6 ≤ v5 then
      (zgP h a0 3 1 fun x101 =>
      znm (v4 + (2 : Int32)) fun x102 =>
      znm (x102 + v5) fun x103 =>
      znn x101 fun a104 =>
      zsI h a104 0 x103 v2 fun h105 =>
      zgP h105 a0 3 1 fun x106 =>
      znm (v4 + (62 : Int32)) fun x107 =>
      znm (x107 + v5) fun x108 =>
      znn x106 fun a109 =>
      zsI h105 a109 0 x108 v3 fun h110 =>
      zgP h110 a0 3 1 fun x111 =>
      znm (v4 + (122 : Int32)) fun x112 =>
      znm (x112 + v5) fun x113 =>
      znn x111 fun a114 =>
      zsI h110 a114 0 x113 (1 : Int32) fun h115 =>
      zgP h115 a0 3 1 fun x116 =>
      znm (v4 + (1 : Int32)) fun x117 =>
      znn x116 fun a118 =>
      zaI h115 a118 0 x117 fun x119 =>
      znm (x119 + (1 : Int32)) fun x120 =>
      zsI h115 a118 0 x117 x120 fun h121 =>
      zrc h121 a0 3 <| zcl (f_X4_repairs h121 a0 v1) fun _ h123 =>
      zret v5 h123)
    else
      (zgP h a0 3 1 fun x124 =>
      znm (v4 + (2 : Int32)) fun x125 =>
      znm (x125 + v6) fun x126 =>
      zgP h a0 3 1 fun x127 =>
      znm (v4 + (2 : Int32)) fun x128 =>
      znm (x128 + v6) fun x129 =>
      znm (x129 - (1 : Int32)) fun x130 =>
      znn x127 fun a131 =>
      zaI h a131 0 x130 fun x132 =>
      znn x124 fun a133 =>
      zsI h a133 0 x126 x132 fun h134 =>
      zgP h134 a0 3 1 fun x135 =>
      znm (v4 + (62 : Int32)) fun x136 =>
      znm (x136 + v6) fun x137 =>
      zgP h134 a0 3 1 fun x138 =>
      znm (v4 + (62 : Int32)) fun x139 =>
      znm (x139 + v6) fun x140 =>
      znm (x140 - (1 : Int32)) fun x141 =>
      znn x138 fun a142 =>
      zaI h134 a142 0 x141 fun x143 =>
      znn x135 fun a144 =>
      zsI h134 a144 0 x137 x143 fun h145 =>
      zgP h145 a0 3 1 fun x146 =>
      znm (v4 + (122 : Int32)) fun x147 =>
      znm (x147 + v6) fun x148 =>
      zgP h145 a0 3 1 fun x149 =>
      znm (v4 + (122 : Int32)) fun x150 =>
      znm (x150 + v6) fun x151 =>
      znm (x151 - (1 : Int32)) fun x152 =>
      znn x149 fun a153 =>
      zaI h145 a153 0 x152 fun x154 =>
      znn x146 fun a155 =>
      zsI h145 a155 0 x148 x154 fun h156 =>
      znm (v6 + (-1 : Int32)) fun x157 =>
      f_X4_puts_b25 n h156 a0 v1 v2 v3 v4 v5 x157)
def f_X4_puts (h : PH) (a0 : Nat) (v1 : Int32) (v2 : Int32) (v3 : Int32) : ZR Int32 :=
  zcl (f_X4_base h v1) fun x101 h102 =>
  zrc h102 a0 3 <| zcl (f_X4_below h102 a0 v1 v2) fun x103 h104 =>
  zgP h104 a0 3 1 fun x105 =>
  znm (x101 + (1 : Int32)) fun x106 =>
  znn x105 fun a107 =>
  zaI h104 a107 0 x106 fun x108 =>
  f_X4_puts_b25 zFU h104 a0 v1 v2 v3 x101 x103 x108
set_option maxHeartbeats 4000000 in
set_option maxRecDepth 100000 in
theorem m_X4_puts_b25 {p : Program} {l : Launch} {e : Env} {s : State} {m : MethodId} {args : Array Value} {below : List Frame} {meth : Method} {c : Code} {D : va_G} {dA : Nat → ClassId} {b0 : Nat} {gs : Nat → Option Nat} (hc : zC D dA b0 gs yX4_puts.cls cX4_puts 7 p c s m args meth) (hr : meth.sig.returnType = (some .int)) (hin : meth.name = yX4_puts.name) {r : Int32} {hh : PH} {mc ms : Nat} : ∀ (n : Nat) (h : PH) (a0 : Nat) (v1 : Int32) (v2 : Int32) (v3 : Int32) (v4 : Int32) (v5 : Int32) (v6 : Int32) (C9 S9 : Nat) (H : Heap) (locs : List Loc) (cells slots : Nat), f_X4_puts_b25 n h a0 v1 v2 v3 v4 v5 v6 = some (r, hh, C9, S9) → cells + C9 = mc ∧ slots + S9 = ms → zM D dA b0 gs s h H locs → ∀ ls : Array Slot, lv_has ls 7 [(0, .ref a0), (1, .int v1), (2, .int v2), (3, .int v3), (4, .int v4), (5, .int v5), (6, .int v6)] → W p l e ({ frames := 6, cells := mc, slots := ms, locals := 185 } : Room) s m args below meth c H locs cells slots (MQ below (zQ D dA b0 gs (evI r) hh) args s mc ms (zA b0)) (F0 m 25 ls []) := by
  have hx := hc.x
  have hb := hc.b
  intro n
  induction n with
  | zero =>
    intro h a0 v1 v2 v3 v4 v5 v6 C9 S9 H locs cells slots hf hq hn ls hl
    cases hf
  | succ n ih =>
    intro h a0 v1 v2 v3 v4 v5 v6 C9 S9 H locs cells slots hf hq hn ls hl
    unfold f_X4_puts_b25 at hf
    refine lv_iload hx hb dX4_puts_25 (lv_at hl 6 rfl) ?_
    refine lv_iload hx hb dX4_puts_27 (lv_at hl 5 rfl) ?_
    refine lv_icmp_le (tgt := 120) hx hb dX4_puts_29 (by decide) (fun c9 => ?_) (fun c9 => ?_)
    · have hf := zif_t c9 hf
      refine lv_aload_n (x := a0) hx hb dX4_puts_120 rfl (lv_at hl 0 rfl) ?_
      refine zr_gP hc hn (ci := 3) rfl rfl in_X4 1 (by decide) q2100 (fun _ h => h) (fun _ _ _ => rfl) hf dX4_puts_121 (fun x101 hf => ?_)
      refine lv_iload hx hb dX4_puts_124 (lv_at hl 4 rfl) ?_
      refine lv_iconst (v := (2 : Int32)) hx hb dX4_puts_126 (by decide) ?_
      refine lv_iadd hx hb dX4_puts_127 ?_
      refine zr_nmI hf (fun x102 hf => ?_)
      refine lv_iload hx hb dX4_puts_128 (lv_at hl 5 rfl) ?_
      refine lv_iadd hx hb dX4_puts_130 ?_
      refine zr_nmI hf (fun x103 hf => ?_)
      refine lv_iload_n hx hb dX4_puts_131 rfl (lv_at hl 2 rfl) ?_
      obtain ⟨a104, e9, hf9⟩ := znn_i hf
      subst e9
      have hf := hf9
      clear hf9
      refine zr_sI hc hn hf dX4_puts_132 (fun h105 H locs hf hn => ?_)
      refine lv_aload_n (x := a0) hx hb dX4_puts_133 rfl (lv_at hl 0 rfl) ?_
      refine zr_gP hc hn (ci := 3) rfl rfl in_X4 1 (by decide) q2100 (fun _ h => h) (fun _ _ _ => rfl) hf dX4_puts_134 (fun x106 hf => ?_)
      refine lv_iload hx hb dX4_puts_137 (lv_at hl 4 rfl) ?_
      refine lv_bipush (v := (62 : Int32)) hx hb dX4_puts_139 (by decide) ?_
      refine lv_iadd hx hb dX4_puts_141 ?_
      refine zr_nmI hf (fun x107 hf => ?_)
      refine lv_iload hx hb dX4_puts_142 (lv_at hl 5 rfl) ?_
      refine lv_iadd hx hb dX4_puts_144 ?_
      refine zr_nmI hf (fun x108 hf => ?_)
      refine lv_iload_n hx hb dX4_puts_145 rfl (lv_at hl 3 rfl) ?_
      obtain ⟨a109, e9, hf9⟩ := znn_i hf
      subst e9
      have hf := hf9
      clear hf9
      refine zr_sI hc hn hf dX4_puts_146 (fun h110 H locs hf hn => ?_)
      refine lv_aload_n (x := a0) hx hb dX4_puts_147 rfl (lv_at hl 0 rfl) ?_
      refine zr_gP hc hn (ci := 3) rfl rfl in_X4 1 (by decide) q2100 (fun _ h => h) (fun _ _ _ => rfl) hf dX4_puts_148 (fun x111 hf => ?_)
      refine lv_iload hx hb dX4_puts_151 (lv_at hl 4 rfl) ?_
      refine lv_bipush (v := (122 : Int32)) hx hb dX4_puts_153 (by decide) ?_
      refine lv_iadd hx hb dX4_puts_155 ?_
      refine zr_nmI hf (fun x112 hf => ?_)
      refine lv_iload hx hb dX4_puts_156 (lv_at hl 5 rfl) ?_
      refine lv_iadd hx hb dX4_puts_158 ?_
      refine zr_nmI hf (fun x113 hf => ?_)
      refine lv_iconst (v := (1 : Int32)) hx hb dX4_puts_159 (by decide) ?_
      obtain ⟨a114, e9, hf9⟩ := znn_i hf
      subst e9
      have hf := hf9
      clear hf9
      refine zr_sI hc hn hf dX4_puts_160 (fun h115 H locs hf hn => ?_)
      refine lv_aload_n (x := a0) hx hb dX4_puts_161 rfl (lv_at hl 0 rfl) ?_
      refine zr_gP hc hn (ci := 3) rfl rfl in_X4 1 (by decide) q2100 (fun _ h => h) (fun _ _ _ => rfl) hf dX4_puts_162 (fun x116 hf => ?_)
      refine lv_iload hx hb dX4_puts_165 (lv_at hl 4 rfl) ?_
      refine lv_iconst (v := (1 : Int32)) hx hb dX4_puts_167 (by decide) ?_
      refine lv_iadd hx hb dX4_puts_168 ?_
      refine zr_nmI hf (fun x117 hf => ?_)
      refine lv_dup2_11 hx hb dX4_puts_169 rfl (zcat_rf _) ?_
      obtain ⟨a118, e9, hf9⟩ := znn_i hf
      subst e9
      have hf := hf9
      clear hf9
      refine zr_aI0 hc hn hf dX4_puts_170 (fun x119 hf => ?_)
      refine lv_iconst (v := (1 : Int32)) hx hb dX4_puts_171 (by decide) ?_
      refine lv_iadd hx hb dX4_puts_172 ?_
      refine zr_nmI hf (fun x120 hf => ?_)
      refine zr_sI hc hn hf dX4_puts_173 (fun h121 H locs hf hn => ?_)
      refine lv_aload_n (x := a0) hx hb dX4_puts_174 rfl (lv_at hl 0 rfl) ?_
      refine lv_iload_n hx hb dX4_puts_175 rfl (lv_at hl 1 rfl) ?_
      refine zr_cVU (As := [.int v1]) (rest := []) hc hn hq (ci := 3) rfl ⟨rfl, hd_X4_repairs⟩ (lw_V q2291 q2293 qs48 q91 q2294) (Nat.le_of_ble_eq_true rfl) (Nat.le_of_ble_eq_true rfl) (fun _ _ _ _ q => m_X4_repairs l D dA b0 gs h121 a0 v1 q) hf dX4_puts_176 hl.1 rfl rfl (zroom (Nat.le_of_ble_eq_true rfl)) (fun x122 h123 H locs cells slots C9 S9 hf hq hn => ?_)
      refine lv_iload hx hb dX4_puts_179 (lv_at hl 5 rfl) ?_
      obtain ⟨rfl, rfl, rfl, rfl⟩ := zret_i hf
      exact zr_iret hc hn hr hq (fun _ _ _ _ q => q) dX4_puts_181
    · have hf := zif_f c9 hf
      refine lv_aload_n (x := a0) hx hb dX4_puts_32 rfl (lv_at hl 0 rfl) ?_
      refine zr_gP hc hn (ci := 3) rfl rfl in_X4 1 (by decide) q2100 (fun _ h => h) (fun _ _ _ => rfl) hf dX4_puts_33 (fun x124 hf => ?_)
      refine lv_iload hx hb dX4_puts_36 (lv_at hl 4 rfl) ?_
      refine lv_iconst (v := (2 : Int32)) hx hb dX4_puts_38 (by decide) ?_
      refine lv_iadd hx hb dX4_puts_39 ?_
      refine zr_nmI hf (fun x125 hf => ?_)
      refine lv_iload hx hb dX4_puts_40 (lv_at hl 6 rfl) ?_
      refine lv_iadd hx hb dX4_puts_42 ?_
      refine zr_nmI hf (fun x126 hf => ?_)
      refine lv_aload_n (x := a0) hx hb dX4_puts_43 rfl (lv_at hl 0 rfl) ?_
      refine zr_gP hc hn (ci := 3) rfl rfl in_X4 1 (by decide) q2100 (fun _ h => h) (fun _ _ _ => rfl) hf dX4_puts_44 (fun x127 hf => ?_)
      refine lv_iload hx hb dX4_puts_47 (lv_at hl 4 rfl) ?_
      refine lv_iconst (v := (2 : Int32)) hx hb dX4_puts_49 (by decide) ?_
      refine lv_iadd hx hb dX4_puts_50 ?_
      refine zr_nmI hf (fun x128 hf => ?_)
      refine lv_iload hx hb dX4_puts_51 (lv_at hl 6 rfl) ?_
      refine lv_iadd hx hb dX4_puts_53 ?_
      refine zr_nmI hf (fun x129 hf => ?_)
      refine lv_iconst (v := (1 : Int32)) hx hb dX4_puts_54 (by decide) ?_
      refine lv_isub hx hb dX4_puts_55 ?_
      refine zr_nmI hf (fun x130 hf => ?_)
      obtain ⟨a131, e9, hf9⟩ := znn_i hf
      subst e9
      have hf := hf9
      clear hf9
      refine zr_aI0 hc hn hf dX4_puts_56 (fun x132 hf => ?_)
      obtain ⟨a133, e9, hf9⟩ := znn_i hf
      subst e9
      have hf := hf9
      clear hf9
      refine zr_sI hc hn hf dX4_puts_57 (fun h134 H locs hf hn => ?_)
      refine lv_aload_n (x := a0) hx hb dX4_puts_58 rfl (lv_at hl 0 rfl) ?_
      refine zr_gP hc hn (ci := 3) rfl rfl in_X4 1 (by decide) q2100 (fun _ h => h) (fun _ _ _ => rfl) hf dX4_puts_59 (fun x135 hf => ?_)
      refine lv_iload hx hb dX4_puts_62 (lv_at hl 4 rfl) ?_
      refine lv_bipush (v := (62 : Int32)) hx hb dX4_puts_64 (by decide) ?_
      refine lv_iadd hx hb dX4_puts_66 ?_
      refine zr_nmI hf (fun x136 hf => ?_)
      refine lv_iload hx hb dX4_puts_67 (lv_at hl 6 rfl) ?_
      refine lv_iadd hx hb dX4_puts_69 ?_
      refine zr_nmI hf (fun x137 hf => ?_)
      refine lv_aload_n (x := a0) hx hb dX4_puts_70 rfl (lv_at hl 0 rfl) ?_
      refine zr_gP hc hn (ci := 3) rfl rfl in_X4 1 (by decide) q2100 (fun _ h => h) (fun _ _ _ => rfl) hf dX4_puts_71 (fun x138 hf => ?_)
      refine lv_iload hx hb dX4_puts_74 (lv_at hl 4 rfl) ?_
      refine lv_bipush (v := (62 : Int32)) hx hb dX4_puts_76 (by decide) ?_
      refine lv_iadd hx hb dX4_puts_78 ?_
      refine zr_nmI hf (fun x139 hf => ?_)
      refine lv_iload hx hb dX4_puts_79 (lv_at hl 6 rfl) ?_
      refine lv_iadd hx hb dX4_puts_81 ?_
      refine zr_nmI hf (fun x140 hf => ?_)
      refine lv_iconst (v := (1 : Int32)) hx hb dX4_puts_82 (by decide) ?_
      refine lv_isub hx hb dX4_puts_83 ?_
      refine zr_nmI hf (fun x141 hf => ?_)
      obtain ⟨a142, e9, hf9⟩ := znn_i hf
      subst e9
      have hf := hf9
      clear hf9
      refine zr_aI0 hc hn hf dX4_puts_84 (fun x143 hf => ?_)
      obtain ⟨a144, e9, hf9⟩ := znn_i hf
      subst e9
      have hf := hf9
      clear hf9
      refine zr_sI hc hn hf dX4_puts_85 (fun h145 H locs hf hn => ?_)
      refine lv_aload_n (x := a0) hx hb dX4_puts_86 rfl (lv_at hl 0 rfl) ?_
      refine zr_gP hc hn (ci := 3) rfl rfl in_X4 1 (by decide) q2100 (fun _ h => h) (fun _ _ _ => rfl) hf dX4_puts_87 (fun x146 hf => ?_)
      refine lv_iload hx hb dX4_puts_90 (lv_at hl 4 rfl) ?_
      refine lv_bipush (v := (122 : Int32)) hx hb dX4_puts_92 (by decide) ?_
      refine lv_iadd hx hb dX4_puts_94 ?_
      refine zr_nmI hf (fun x147 hf => ?_)
      refine lv_iload hx hb dX4_puts_95 (lv_at hl 6 rfl) ?_
      refine lv_iadd hx hb dX4_puts_97 ?_
      refine zr_nmI hf (fun x148 hf => ?_)
      refine lv_aload_n (x := a0) hx hb dX4_puts_98 rfl (lv_at hl 0 rfl) ?_
      refine zr_gP hc hn (ci := 3) rfl rfl in_X4 1 (by decide) q2100 (fun _ h => h) (fun _ _ _ => rfl) hf dX4_puts_99 (fun x149 hf => ?_)
      refine lv_iload hx hb dX4_puts_102 (lv_at hl 4 rfl) ?_
      refine lv_bipush (v := (122 : Int32)) hx hb dX4_puts_104 (by decide) ?_
      refine lv_iadd hx hb dX4_puts_106 ?_
      refine zr_nmI hf (fun x150 hf => ?_)
      refine lv_iload hx hb dX4_puts_107 (lv_at hl 6 rfl) ?_
      refine lv_iadd hx hb dX4_puts_109 ?_
      refine zr_nmI hf (fun x151 hf => ?_)
      refine lv_iconst (v := (1 : Int32)) hx hb dX4_puts_110 (by decide) ?_
      refine lv_isub hx hb dX4_puts_111 ?_
      refine zr_nmI hf (fun x152 hf => ?_)
      obtain ⟨a153, e9, hf9⟩ := znn_i hf
      subst e9
      have hf := hf9
      clear hf9
      refine zr_aI0 hc hn hf dX4_puts_112 (fun x154 hf => ?_)
      obtain ⟨a155, e9, hf9⟩ := znn_i hf
      subst e9
      have hf := hf9
      clear hf9
      refine zr_sI hc hn hf dX4_puts_113 (fun h156 H locs hf hn => ?_)
      obtain ⟨x157, ex157, hf⟩ := znm_i hf
      refine lv_iinc (v := x157) (lv' := [(6, .int x157), (0, .ref a0), (1, .int v1), (2, .int v2), (3, .int v3), (4, .int v4), (5, .int v5)]) hx hb dX4_puts_114 hl (k := 6) rfl (by rw [ex157]; rfl) (by decide) rfl (fun ls hl => ?_)
      refine lv_goto (tgt := 25) hx hb dX4_puts_117 (by decide) ?_
      exact ih h156 a0 v1 v2 v3 v4 v5 x157 _ _ _ _ _ _ hf hq hn _ (lv_sub hl [1, 2, 3, 4, 5, 6, 0] rfl)
set_option maxHeartbeats 4000000 in
set_option maxRecDepth 100000 in
theorem m_X4_puts (l : Launch) (D : va_G) (dA : Nat → ClassId) (b0 : Nat) (gs : Nat → Option Nat) (h : PH) (a0 : Nat) (v1 : Int32) (v2 : Int32) (v3 : Int32) {r : Int32} {hh : PH} {mc ms : Nat} (hf : f_X4_puts h a0 v1 v2 v3 = some (r, hh, mc, ms)) : zMt l D dA b0 gs yX4_puts cX4_puts 7 (some .int) 6 185 [.ref a0, .int v1, .int v2, .int v3] h (evI r) hh mc ms := by
  unfold f_X4_puts at hf
  refine zMt.of (by decide) (Nat.le_of_ble_eq_true rfl) ?_
  intro p e s m args below meth c hc hr hin hn ls hl
  have hl : lv_has ls 7 [(0, .ref a0), (1, .int v1), (2, .int v2), (3, .int v3)] := hl
  have hq : 0 + mc = mc ∧ 0 + ms = ms := ⟨Nat.zero_add _, Nat.zero_add _⟩
  have hx := hc.x
  have hb := hc.b
  refine lv_iload_n hx hb dX4_puts_0 rfl (lv_at hl 1 rfl) ?_
  refine zr_cSI (As := [.int v1]) (rest := []) hc hn hq hd_X4_base (lw_S q2284 q2285 q91 q2286) (Nat.le_of_ble_eq_true rfl) (Nat.le_of_ble_eq_true rfl) (fun _ _ _ _ q => m_X4_base l D dA b0 gs h v1 q) hf dX4_puts_1 hl.1 rfl rfl (zroom (Nat.le_of_ble_eq_true rfl)) (fun x101 h102 H locs cells slots C9 S9 hf hq hn => ?_)
  refine lv_istore (lv' := [(4, .int x101), (0, .ref a0), (1, .int v1), (2, .int v2), (3, .int v3)]) hx hb dX4_puts_4 hl (by decide) rfl (fun ls hl => ?_)
  refine lv_aload_n (x := a0) hx hb dX4_puts_6 rfl (lv_at hl 1 rfl) ?_
  refine lv_iload_n hx hb dX4_puts_7 rfl (lv_at hl 2 rfl) ?_
  refine lv_iload_n hx hb dX4_puts_8 rfl (lv_at hl 3 rfl) ?_
  refine zr_cVI (As := [.int v1, .int v2]) (rest := []) hc hn hq (ci := 3) rfl ⟨rfl, hd_X4_below⟩ (lw_V q2393 q2395 qs61 q91 q2396) (Nat.le_of_ble_eq_true rfl) (Nat.le_of_ble_eq_true rfl) (fun _ _ _ _ q => m_X4_below l D dA b0 gs h102 a0 v1 v2 q) hf dX4_puts_9 hl.1 rfl rfl (zroom (Nat.le_of_ble_eq_true rfl)) (fun x103 h104 H locs cells slots C9 S9 hf hq hn => ?_)
  refine lv_istore (lv' := [(5, .int x103), (4, .int x101), (0, .ref a0), (1, .int v1), (2, .int v2), (3, .int v3)]) hx hb dX4_puts_12 hl (by decide) rfl (fun ls hl => ?_)
  refine lv_aload_n (x := a0) hx hb dX4_puts_14 rfl (lv_at hl 2 rfl) ?_
  refine zr_gP hc hn (ci := 3) rfl rfl in_X4 1 (by decide) q2100 (fun _ h => h) (fun _ _ _ => rfl) hf dX4_puts_15 (fun x105 hf => ?_)
  refine lv_iload hx hb dX4_puts_18 (lv_at hl 1 rfl) ?_
  refine lv_iconst (v := (1 : Int32)) hx hb dX4_puts_20 (by decide) ?_
  refine lv_iadd hx hb dX4_puts_21 ?_
  refine zr_nmI hf (fun x106 hf => ?_)
  obtain ⟨a107, e9, hf9⟩ := znn_i hf
  subst e9
  have hf := hf9
  clear hf9
  refine zr_aI0 hc hn hf dX4_puts_22 (fun x108 hf => ?_)
  refine lv_istore (lv' := [(6, .int x108), (5, .int x103), (4, .int x101), (0, .ref a0), (1, .int v1), (2, .int v2), (3, .int v3)]) hx hb dX4_puts_23 hl (by decide) rfl (fun ls hl => ?_)
  exact m_X4_puts_b25 hc hr hin zFU h104 a0 v1 v2 v3 x101 x103 x108 _ _ _ _ _ _ hf hq hn _ (lv_sub hl [3, 4, 5, 6, 2, 1, 0] rfl)
theorem hd_X4_takesBack : yX4_takesBack.cls ≠ "java/lang/invoke/MethodHandle" ∧ yX4_takesBack.cls ≠ "java/lang/invoke/VarHandle" ∧ (parseMethodDescriptor yX4_takesBack.desc).map (fun d => d.parameters.length) = some 0 := by decide +kernel
def f_X4_takesBack_b29 : Nat → PH → Nat → Int32 → ZR Unit
  | 0 => fun _ _ _ => none
  | n + 1 => fun h a0 v1 =>
    if (6 : Int32) ≤ v1 then
      (zret () h)
    else
      (zgP h a0 3 2 fun x101 =>
      zgP h a0 3 8 fun x102 =>
      znn x102 fun a103 =>
      zaL h a103 3 v1 fun x104 =>
      znn x101 fun a105 =>
      zsL h a105 3 v1 x104 fun h106 =>
      znm (v1 + (1 : Int32)) fun x107 =>
      f_X4_takesBack_b29 n h106 a0 x107)
def f_X4_takesBack_b2 : Nat → PH → Nat → Int32 → ZR Unit
  | 0 => fun _ _ _ => none
  | n + 1 => fun h a0 v1 =>
    if (4100 : Int32) ≤ v1 then
      (f_X4_takesBack_b29 zFU h a0 (0 : Int32))
    else
      (zgP h a0 3 1 fun x101 =>
      zgP h a0 3 7 fun x102 =>
      znn x102 fun a103 =>
      zaI h a103 0 v1 fun x104 =>
      znn x101 fun a105 =>
      zsI h a105 0 v1 x104 fun h106 =>
      znm (v1 + (1 : Int32)) fun x107 =>
      f_X4_takesBack_b2 n h106 a0 x107)
def f_X4_takesBack (h : PH) (a0 : Nat) : ZR Unit :=
  f_X4_takesBack_b2 zFU h a0 (0 : Int32)
set_option maxHeartbeats 4000000 in
set_option maxRecDepth 100000 in
theorem m_X4_takesBack_b29 {p : Program} {l : Launch} {e : Env} {s : State} {m : MethodId} {args : Array Value} {below : List Frame} {meth : Method} {c : Code} {D : va_G} {dA : Nat → ClassId} {b0 : Nat} {gs : Nat → Option Nat} (hc : zC D dA b0 gs yX4_takesBack.cls cX4_takesBack 2 p c s m args meth) (hr : meth.sig.returnType = none) (hin : meth.name = yX4_takesBack.name) {r : Unit} {hh : PH} {mc ms : Nat} : ∀ (n : Nat) (h : PH) (a0 : Nat) (v1 : Int32) (C9 S9 : Nat) (H : Heap) (locs : List Loc) (cells slots : Nat), f_X4_takesBack_b29 n h a0 v1 = some (r, hh, C9, S9) → cells + C9 = mc ∧ slots + S9 = ms → zM D dA b0 gs s h H locs → ∀ ls : Array Slot, lv_has ls 2 [(0, .ref a0), (1, .int v1)] → W p l e ({ frames := 1, cells := mc, slots := ms, locals := 60 } : Room) s m args below meth c H locs cells slots (MQ below (zQ D dA b0 gs (evU r) hh) args s mc ms (zA b0)) (F0 m 29 ls []) := by
  have hx := hc.x
  have hb := hc.b
  intro n
  induction n with
  | zero =>
    intro h a0 v1 C9 S9 H locs cells slots hf hq hn ls hl
    cases hf
  | succ n ih =>
    intro h a0 v1 C9 S9 H locs cells slots hf hq hn ls hl
    unfold f_X4_takesBack_b29 at hf
    refine lv_iload_n hx hb dX4_takesBack_29 rfl (lv_at hl 1 rfl) ?_
    refine lv_bipush (v := (6 : Int32)) hx hb dX4_takesBack_30 (by decide) ?_
    refine lv_icmp_ge (tgt := 53) hx hb dX4_takesBack_32 (by decide) (fun c9 => ?_) (fun c9 => ?_)
    · have hf := zif_t c9 hf
      obtain ⟨rfl, rfl, rfl, rfl⟩ := zret_i hf
      exact zr_vret hc hn hr hq (fun _ _ _ _ q => q) dX4_takesBack_53
    · have hf := zif_f c9 hf
      refine lv_aload_n (x := a0) hx hb dX4_takesBack_35 rfl (lv_at hl 0 rfl) ?_
      refine zr_gP hc hn (ci := 3) rfl rfl in_X4 2 (by decide) q2101 (fun _ h => h) (fun _ _ _ => rfl) hf dX4_takesBack_36 (fun x101 hf => ?_)
      refine lv_iload_n hx hb dX4_takesBack_39 rfl (lv_at hl 1 rfl) ?_
      refine lv_aload_n (x := a0) hx hb dX4_takesBack_40 rfl (lv_at hl 0 rfl) ?_
      refine zr_gP hc hn (ci := 3) rfl rfl in_X4 8 (by decide) q2107 (fun _ h => h) (fun _ _ _ => rfl) hf dX4_takesBack_41 (fun x102 hf => ?_)
      refine lv_iload_n hx hb dX4_takesBack_44 rfl (lv_at hl 1 rfl) ?_
      obtain ⟨a103, e9, hf9⟩ := znn_i hf
      subst e9
      have hf := hf9
      clear hf9
      refine zr_aL hc hn hf dX4_takesBack_45 (fun x104 hf => ?_)
      obtain ⟨a105, e9, hf9⟩ := znn_i hf
      subst e9
      have hf := hf9
      clear hf9
      refine zr_sL hc hn hf dX4_takesBack_46 (fun h106 H locs hf hn => ?_)
      obtain ⟨x107, ex107, hf⟩ := znm_i hf
      refine lv_iinc (v := x107) (lv' := [(1, .int x107), (0, .ref a0)]) hx hb dX4_takesBack_47 hl (k := 1) rfl (by rw [ex107]; rfl) (by decide) rfl (fun ls hl => ?_)
      refine lv_goto (tgt := 29) hx hb dX4_takesBack_50 (by decide) ?_
      exact ih h106 a0 x107 _ _ _ _ _ _ hf hq hn _ (lv_sub hl [1, 0] rfl)
set_option maxHeartbeats 4000000 in
set_option maxRecDepth 100000 in
theorem m_X4_takesBack_b2 {p : Program} {l : Launch} {e : Env} {s : State} {m : MethodId} {args : Array Value} {below : List Frame} {meth : Method} {c : Code} {D : va_G} {dA : Nat → ClassId} {b0 : Nat} {gs : Nat → Option Nat} (hc : zC D dA b0 gs yX4_takesBack.cls cX4_takesBack 2 p c s m args meth) (hr : meth.sig.returnType = none) (hin : meth.name = yX4_takesBack.name) {r : Unit} {hh : PH} {mc ms : Nat} : ∀ (n : Nat) (h : PH) (a0 : Nat) (v1 : Int32) (C9 S9 : Nat) (H : Heap) (locs : List Loc) (cells slots : Nat), f_X4_takesBack_b2 n h a0 v1 = some (r, hh, C9, S9) → cells + C9 = mc ∧ slots + S9 = ms → zM D dA b0 gs s h H locs → ∀ ls : Array Slot, lv_has ls 2 [(0, .ref a0), (1, .int v1)] → W p l e ({ frames := 1, cells := mc, slots := ms, locals := 60 } : Room) s m args below meth c H locs cells slots (MQ below (zQ D dA b0 gs (evU r) hh) args s mc ms (zA b0)) (F0 m 2 ls []) := by
  have hx := hc.x
  have hb := hc.b
  intro n
  induction n with
  | zero =>
    intro h a0 v1 C9 S9 H locs cells slots hf hq hn ls hl
    cases hf
  | succ n ih =>
    intro h a0 v1 C9 S9 H locs cells slots hf hq hn ls hl
    unfold f_X4_takesBack_b2 at hf
    refine lv_iload_n hx hb dX4_takesBack_2 rfl (lv_at hl 1 rfl) ?_
    refine lv_sipush (v := (4100 : Int32)) hx hb dX4_takesBack_3 (by decide) ?_
    refine lv_icmp_ge (tgt := 27) hx hb dX4_takesBack_6 (by decide) (fun c9 => ?_) (fun c9 => ?_)
    · have hf := zif_t c9 hf
      refine lv_iconst (v := (0 : Int32)) hx hb dX4_takesBack_27 (by decide) ?_
      refine lv_istore_n (i := 1) (lv' := [(1, .int (0 : Int32)), (0, .ref a0)]) hx hb dX4_takesBack_28 rfl hl (by decide) rfl (fun ls hl => ?_)
      exact m_X4_takesBack_b29 hc hr hin zFU h a0 (0 : Int32) _ _ _ _ _ _ hf hq hn _ (lv_sub hl [1, 0] rfl)
    · have hf := zif_f c9 hf
      refine lv_aload_n (x := a0) hx hb dX4_takesBack_9 rfl (lv_at hl 0 rfl) ?_
      refine zr_gP hc hn (ci := 3) rfl rfl in_X4 1 (by decide) q2100 (fun _ h => h) (fun _ _ _ => rfl) hf dX4_takesBack_10 (fun x101 hf => ?_)
      refine lv_iload_n hx hb dX4_takesBack_13 rfl (lv_at hl 1 rfl) ?_
      refine lv_aload_n (x := a0) hx hb dX4_takesBack_14 rfl (lv_at hl 0 rfl) ?_
      refine zr_gP hc hn (ci := 3) rfl rfl in_X4 7 (by decide) q2106 (fun _ h => h) (fun _ _ _ => rfl) hf dX4_takesBack_15 (fun x102 hf => ?_)
      refine lv_iload_n hx hb dX4_takesBack_18 rfl (lv_at hl 1 rfl) ?_
      obtain ⟨a103, e9, hf9⟩ := znn_i hf
      subst e9
      have hf := hf9
      clear hf9
      refine zr_aI0 hc hn hf dX4_takesBack_19 (fun x104 hf => ?_)
      obtain ⟨a105, e9, hf9⟩ := znn_i hf
      subst e9
      have hf := hf9
      clear hf9
      refine zr_sI hc hn hf dX4_takesBack_20 (fun h106 H locs hf hn => ?_)
      obtain ⟨x107, ex107, hf⟩ := znm_i hf
      refine lv_iinc (v := x107) (lv' := [(1, .int x107), (0, .ref a0)]) hx hb dX4_takesBack_21 hl (k := 1) rfl (by rw [ex107]; rfl) (by decide) rfl (fun ls hl => ?_)
      refine lv_goto (tgt := 2) hx hb dX4_takesBack_24 (by decide) ?_
      exact ih h106 a0 x107 _ _ _ _ _ _ hf hq hn _ (lv_sub hl [1, 0] rfl)
set_option maxHeartbeats 4000000 in
set_option maxRecDepth 100000 in
theorem m_X4_takesBack (l : Launch) (D : va_G) (dA : Nat → ClassId) (b0 : Nat) (gs : Nat → Option Nat) (h : PH) (a0 : Nat) {r : Unit} {hh : PH} {mc ms : Nat} (hf : f_X4_takesBack h a0 = some (r, hh, mc, ms)) : zMt l D dA b0 gs yX4_takesBack cX4_takesBack 2 none 1 60 [.ref a0] h (evU r) hh mc ms := by
  unfold f_X4_takesBack at hf
  refine zMt.of (by decide) (Nat.le_of_ble_eq_true rfl) ?_
  intro p e s m args below meth c hc hr hin hn ls hl
  have hl : lv_has ls 2 [(0, .ref a0)] := hl
  have hq : 0 + mc = mc ∧ 0 + ms = ms := ⟨Nat.zero_add _, Nat.zero_add _⟩
  have hx := hc.x
  have hb := hc.b
  refine lv_iconst (v := (0 : Int32)) hx hb dX4_takesBack_0 (by decide) ?_
  refine lv_istore_n (i := 1) (lv' := [(1, .int (0 : Int32)), (0, .ref a0)]) hx hb dX4_takesBack_1 rfl hl (by decide) rfl (fun ls hl => ?_)
  exact m_X4_takesBack_b2 hc hr hin zFU h a0 (0 : Int32) _ _ _ _ _ _ hf hq hn _ (lv_sub hl [1, 0] rfl)
theorem hd_X4_heightIfInserted : yX4_heightIfInserted.cls ≠ "java/lang/invoke/MethodHandle" ∧ yX4_heightIfInserted.cls ≠ "java/lang/invoke/VarHandle" ∧ (parseMethodDescriptor yX4_heightIfInserted.desc).map (fun d => d.parameters.length) = some 2 := by decide +kernel
def f_X4_heightIfInserted_b54 (h : PH) (a0 : Nat) (v1 : Int32) (v2 : Int32) (s0 : Nat) (s1 : Int32) : ZR Int32 :=
  zpI h s0 3 0 s1 fun h101 =>
  zgI h101 a0 3 0 fun x102 =>
  if x102 ≤ 0 then
    (zrc h101 a0 3 <| zcl (f_X4_lays h101 a0) fun _ h104 =>
    zrc h104 a0 3 <| zcl (f_X4_puts h104 a0 v1 v2 (0 : Int32)) fun x105 h106 =>
    if 0 ≤ x105 then
      (zrc h106 a0 3 <| zcl (f_X4_heightOf h106 a0 v1) fun x107 h108 =>
      zrc h108 a0 3 <| zcl (f_X4_takesBack h108 a0) fun _ h110 =>
      zret x107 h110)
    else
      (zrc h106 a0 3 <| zcl (f_X4_takesBack h106 a0) fun _ h112 =>
      zret (0 : Int32) h112))
  else
    (zret (0 : Int32) h101)
def f_X4_heightIfInserted_b49 (h : PH) (a0 : Nat) (v1 : Int32) (v2 : Int32) (s0 : Nat) : ZR Int32 :=
  f_X4_heightIfInserted_b54 h a0 v1 v2 s0 (3 : Int32)
def f_X4_heightIfInserted (h : PH) (a0 : Nat) (v1 : Int32) (v2 : Int32) : ZR Int32 :=
  zrc h a0 3 <| zcl (f_X4_isList h a0 v1) fun x101 h102 =>
  if x101 = 0 then
    (f_X4_heightIfInserted_b54 h102 a0 v1 v2 a0 (1 : Int32))
  else
    (zcl (f_X4_isKey h102 v2) fun x103 h104 =>
    if x103 = 0 then
      (f_X4_heightIfInserted_b54 h104 a0 v1 v2 a0 (2 : Int32))
    else
      (zgP h104 a0 3 1 fun x105 =>
      zcl (f_X4_base h104 v1) fun x106 h107 =>
      znm (x106 + (1 : Int32)) fun x108 =>
      znn x105 fun a109 =>
      zaI h107 a109 0 x108 fun x110 =>
      if x110 = (60 : Int32) then
        (f_X4_heightIfInserted_b49 h107 a0 v1 v2 a0)
      else
        (zrc h107 a0 3 <| zcl (f_X4_placeOf h107 a0 v1 v2) fun x111 h112 =>
        if x111 < 0 then
          (f_X4_heightIfInserted_b54 h112 a0 v1 v2 a0 (0 : Int32))
        else
          (f_X4_heightIfInserted_b49 h112 a0 v1 v2 a0))))
set_option maxHeartbeats 4000000 in
set_option maxRecDepth 100000 in
theorem m_X4_heightIfInserted_b54 {p : Program} {l : Launch} {e : Env} {s : State} {m : MethodId} {args : Array Value} {below : List Frame} {meth : Method} {c : Code} {D : va_G} {dA : Nat → ClassId} {b0 : Nat} {gs : Nat → Option Nat} (hc : zC D dA b0 gs yX4_heightIfInserted.cls cX4_heightIfInserted 5 p c s m args meth) (hr : meth.sig.returnType = (some .int)) (hin : meth.name = yX4_heightIfInserted.name) {r : Int32} {hh : PH} {mc ms : Nat} : ∀ (h : PH) (a0 : Nat) (v1 : Int32) (v2 : Int32) (s0 : Nat) (s1 : Int32) (C9 S9 : Nat) (H : Heap) (locs : List Loc) (cells slots : Nat), f_X4_heightIfInserted_b54 h a0 v1 v2 s0 s1 = some (r, hh, C9, S9) → cells + C9 = mc ∧ slots + S9 = ms → zM D dA b0 gs s h H locs → ∀ ls : Array Slot, lv_has ls 5 [(0, .ref a0), (1, .int v1), (2, .int v2)] → W p l e ({ frames := 7, cells := mc, slots := ms, locals := 211 } : Room) s m args below meth c H locs cells slots (MQ below (zQ D dA b0 gs (evI r) hh) args s mc ms (zA b0)) (F0 m 54 ls [.int s1, .ref s0]) := by
  have hx := hc.x
  have hb := hc.b
  intro h a0 v1 v2 s0 s1 C9 S9 H locs cells slots hf hq hn ls hl
  unfold f_X4_heightIfInserted_b54 at hf
  refine zr_pI (x := s1) hc hn (ci := 3) rfl rfl in_X4 0 (by decide) tyX4 tyX4_ok nmX4 q2099 (fun _ h => h) (Or.inl rfl) (fun _ _ _ => rfl) rfl rfl hf dX4_heightIfInserted_54 (fun h101 H locs hf hn => ?_)
  refine lv_aload_n (x := a0) hx hb dX4_heightIfInserted_57 rfl (lv_at hl 0 rfl) ?_
  refine zr_gI hc hn (ci := 3) rfl rfl in_X4 0 (by decide) q2099 (fun _ h => h) (fun _ _ _ => rfl) hf dX4_heightIfInserted_58 (fun x102 hf => ?_)
  refine lv_if_le (tgt := 66) hx hb dX4_heightIfInserted_61 (by decide) (fun c9 => ?_) (fun c9 => ?_)
  · have hf := zif_t c9 hf
    refine lv_aload_n (x := a0) hx hb dX4_heightIfInserted_66 rfl (lv_at hl 0 rfl) ?_
    refine zr_cVU (As := []) (rest := []) hc hn hq (ci := 3) rfl ⟨rfl, hd_X4_lays⟩ (lw_V q2485 q2487 qs68 q91 q2488) (Nat.le_of_ble_eq_true rfl) (Nat.le_of_ble_eq_true rfl) (fun _ _ _ _ q => m_X4_lays l D dA b0 gs h101 a0 q) hf dX4_heightIfInserted_67 hl.1 rfl rfl (zroom (Nat.le_of_ble_eq_true rfl)) (fun x103 h104 H locs cells slots C9 S9 hf hq hn => ?_)
    refine lv_aload_n (x := a0) hx hb dX4_heightIfInserted_70 rfl (lv_at hl 0 rfl) ?_
    refine lv_iload_n hx hb dX4_heightIfInserted_71 rfl (lv_at hl 1 rfl) ?_
    refine lv_iload_n hx hb dX4_heightIfInserted_72 rfl (lv_at hl 2 rfl) ?_
    refine lv_iconst (v := (0 : Int32)) hx hb dX4_heightIfInserted_73 (by decide) ?_
    refine zr_cVI (As := [.int v1, .int v2, .int (0 : Int32)]) (rest := []) hc hn hq (ci := 3) rfl ⟨rfl, hd_X4_puts⟩ (lw_V q2489 q2491 qs69 q91 q2492) (Nat.le_of_ble_eq_true rfl) (Nat.le_of_ble_eq_true rfl) (fun _ _ _ _ q => m_X4_puts l D dA b0 gs h104 a0 v1 v2 (0 : Int32) q) hf dX4_heightIfInserted_74 hl.1 rfl rfl (zroom (Nat.le_of_ble_eq_true rfl)) (fun x105 h106 H locs cells slots C9 S9 hf hq hn => ?_)
    refine lv_istore_n (i := 3) (lv' := [(3, .int x105), (0, .ref a0), (1, .int v1), (2, .int v2)]) hx hb dX4_heightIfInserted_77 rfl hl (by decide) rfl (fun ls hl => ?_)
    refine lv_iload_n hx hb dX4_heightIfInserted_78 rfl (lv_at hl 0 rfl) ?_
    refine lv_if_ge (tgt := 86) hx hb dX4_heightIfInserted_79 (by decide) (fun c9 => ?_) (fun c9 => ?_)
    · have hf := zif_t c9 hf
      refine lv_aload_n (x := a0) hx hb dX4_heightIfInserted_86 rfl (lv_at hl 1 rfl) ?_
      refine lv_iload_n hx hb dX4_heightIfInserted_87 rfl (lv_at hl 2 rfl) ?_
      refine zr_cVI (As := [.int v1]) (rest := []) hc hn hq (ci := 3) rfl ⟨rfl, hd_X4_heightOf⟩ (lw_V q2299 q2301 qs50 q91 q2302) (Nat.le_of_ble_eq_true rfl) (Nat.le_of_ble_eq_true rfl) (fun _ _ _ _ q => m_X4_heightOf l D dA b0 gs h106 a0 v1 q) hf dX4_heightIfInserted_88 hl.1 rfl rfl (zroom (Nat.le_of_ble_eq_true rfl)) (fun x107 h108 H locs cells slots C9 S9 hf hq hn => ?_)
      refine lv_istore (lv' := [(4, .int x107), (3, .int x105), (0, .ref a0), (1, .int v1), (2, .int v2)]) hx hb dX4_heightIfInserted_91 hl (by decide) rfl (fun ls hl => ?_)
      refine lv_aload_n (x := a0) hx hb dX4_heightIfInserted_93 rfl (lv_at hl 2 rfl) ?_
      refine zr_cVU (As := []) (rest := []) hc hn hq (ci := 3) rfl ⟨rfl, hd_X4_takesBack⟩ (lw_V q2493 q2495 qs70 q91 q2496) (Nat.le_of_ble_eq_true rfl) (Nat.le_of_ble_eq_true rfl) (fun _ _ _ _ q => m_X4_takesBack l D dA b0 gs h108 a0 q) hf dX4_heightIfInserted_94 hl.1 rfl rfl (zroom (Nat.le_of_ble_eq_true rfl)) (fun x109 h110 H locs cells slots C9 S9 hf hq hn => ?_)
      refine lv_iload hx hb dX4_heightIfInserted_97 (lv_at hl 0 rfl) ?_
      obtain ⟨rfl, rfl, rfl, rfl⟩ := zret_i hf
      exact zr_iret hc hn hr hq (fun _ _ _ _ q => q) dX4_heightIfInserted_99
    · have hf := zif_f c9 hf
      refine lv_iconst (v := (0 : Int32)) hx hb dX4_heightIfInserted_82 (by decide) ?_
      refine lv_goto (tgt := 91) hx hb dX4_heightIfInserted_83 (by decide) ?_
      refine lv_istore (lv' := [(4, .int (0 : Int32)), (3, .int x105), (0, .ref a0), (1, .int v1), (2, .int v2)]) hx hb dX4_heightIfInserted_91 hl (by decide) rfl (fun ls hl => ?_)
      refine lv_aload_n (x := a0) hx hb dX4_heightIfInserted_93 rfl (lv_at hl 2 rfl) ?_
      refine zr_cVU (As := []) (rest := []) hc hn hq (ci := 3) rfl ⟨rfl, hd_X4_takesBack⟩ (lw_V q2493 q2495 qs70 q91 q2496) (Nat.le_of_ble_eq_true rfl) (Nat.le_of_ble_eq_true rfl) (fun _ _ _ _ q => m_X4_takesBack l D dA b0 gs h106 a0 q) hf dX4_heightIfInserted_94 hl.1 rfl rfl (zroom (Nat.le_of_ble_eq_true rfl)) (fun x111 h112 H locs cells slots C9 S9 hf hq hn => ?_)
      refine lv_iload hx hb dX4_heightIfInserted_97 (lv_at hl 0 rfl) ?_
      obtain ⟨rfl, rfl, rfl, rfl⟩ := zret_i hf
      exact zr_iret hc hn hr hq (fun _ _ _ _ q => q) dX4_heightIfInserted_99
  · have hf := zif_f c9 hf
    refine lv_iconst (v := (0 : Int32)) hx hb dX4_heightIfInserted_64 (by decide) ?_
    obtain ⟨rfl, rfl, rfl, rfl⟩ := zret_i hf
    exact zr_iret hc hn hr hq (fun _ _ _ _ q => q) dX4_heightIfInserted_65
set_option maxHeartbeats 4000000 in
set_option maxRecDepth 100000 in
theorem m_X4_heightIfInserted_b49 {p : Program} {l : Launch} {e : Env} {s : State} {m : MethodId} {args : Array Value} {below : List Frame} {meth : Method} {c : Code} {D : va_G} {dA : Nat → ClassId} {b0 : Nat} {gs : Nat → Option Nat} (hc : zC D dA b0 gs yX4_heightIfInserted.cls cX4_heightIfInserted 5 p c s m args meth) (hr : meth.sig.returnType = (some .int)) (hin : meth.name = yX4_heightIfInserted.name) {r : Int32} {hh : PH} {mc ms : Nat} : ∀ (h : PH) (a0 : Nat) (v1 : Int32) (v2 : Int32) (s0 : Nat) (C9 S9 : Nat) (H : Heap) (locs : List Loc) (cells slots : Nat), f_X4_heightIfInserted_b49 h a0 v1 v2 s0 = some (r, hh, C9, S9) → cells + C9 = mc ∧ slots + S9 = ms → zM D dA b0 gs s h H locs → ∀ ls : Array Slot, lv_has ls 5 [(0, .ref a0), (1, .int v1), (2, .int v2)] → W p l e ({ frames := 7, cells := mc, slots := ms, locals := 211 } : Room) s m args below meth c H locs cells slots (MQ below (zQ D dA b0 gs (evI r) hh) args s mc ms (zA b0)) (F0 m 49 ls [.ref s0]) := by
  have hx := hc.x
  have hb := hc.b
  intro h a0 v1 v2 s0 C9 S9 H locs cells slots hf hq hn ls hl
  unfold f_X4_heightIfInserted_b49 at hf
  refine lv_iconst (v := (3 : Int32)) hx hb dX4_heightIfInserted_49 (by decide) ?_
  refine lv_goto (tgt := 54) hx hb dX4_heightIfInserted_50 (by decide) ?_
  exact m_X4_heightIfInserted_b54 hc hr hin h a0 v1 v2 s0 (3 : Int32) _ _ _ _ _ _ hf hq hn _ (lv_sub hl [0, 1, 2] rfl)
set_option maxHeartbeats 4000000 in
set_option maxRecDepth 100000 in
theorem m_X4_heightIfInserted (l : Launch) (D : va_G) (dA : Nat → ClassId) (b0 : Nat) (gs : Nat → Option Nat) (h : PH) (a0 : Nat) (v1 : Int32) (v2 : Int32) {r : Int32} {hh : PH} {mc ms : Nat} (hf : f_X4_heightIfInserted h a0 v1 v2 = some (r, hh, mc, ms)) : zMt l D dA b0 gs yX4_heightIfInserted cX4_heightIfInserted 5 (some .int) 7 211 [.ref a0, .int v1, .int v2] h (evI r) hh mc ms := by
  unfold f_X4_heightIfInserted at hf
  refine zMt.of (by decide) (Nat.le_of_ble_eq_true rfl) ?_
  intro p e s m args below meth c hc hr hin hn ls hl
  have hl : lv_has ls 5 [(0, .ref a0), (1, .int v1), (2, .int v2)] := hl
  have hq : 0 + mc = mc ∧ 0 + ms = ms := ⟨Nat.zero_add _, Nat.zero_add _⟩
  have hx := hc.x
  have hb := hc.b
  refine lv_aload_n (x := a0) hx hb dX4_heightIfInserted_0 rfl (lv_at hl 0 rfl) ?_
  refine lv_aload_n (x := a0) hx hb dX4_heightIfInserted_1 rfl (lv_at hl 0 rfl) ?_
  refine lv_iload_n hx hb dX4_heightIfInserted_2 rfl (lv_at hl 1 rfl) ?_
  refine zr_cVI (As := [.int v1]) (rest := [.ref a0]) hc hn hq (ci := 3) rfl ⟨rfl, hd_X4_isList⟩ (lw_V q2343 q2345 qs57 q91 q2346) (Nat.le_of_ble_eq_true rfl) (Nat.le_of_ble_eq_true rfl) (fun _ _ _ _ q => m_X4_isList l D dA b0 gs h a0 v1 q) hf dX4_heightIfInserted_3 hl.1 rfl rfl (zroom (Nat.le_of_ble_eq_true rfl)) (fun x101 h102 H locs cells slots C9 S9 hf hq hn => ?_)
  refine lv_if_ne (tgt := 13) hx hb dX4_heightIfInserted_6 (by decide) (fun c9 => ?_) (fun c9 => ?_)
  · have hf := zif_f c9 hf
    refine lv_iload_n hx hb dX4_heightIfInserted_13 rfl (lv_at hl 2 rfl) ?_
    refine zr_cSI (As := [.int v2]) (rest := [.ref a0]) hc hn hq hd_X4_isKey (lw_S q2384 q2385 q91 q2386) (Nat.le_of_ble_eq_true rfl) (Nat.le_of_ble_eq_true rfl) (fun _ _ _ _ q => m_X4_isKey l D dA b0 gs h102 v2 q) hf dX4_heightIfInserted_14 hl.1 rfl rfl (zroom (Nat.le_of_ble_eq_true rfl)) (fun x103 h104 H locs cells slots C9 S9 hf hq hn => ?_)
    refine lv_if_ne (tgt := 24) hx hb dX4_heightIfInserted_17 (by decide) (fun c9 => ?_) (fun c9 => ?_)
    · have hf := zif_f c9 hf
      refine lv_aload_n (x := a0) hx hb dX4_heightIfInserted_24 rfl (lv_at hl 0 rfl) ?_
      refine zr_gP hc hn (ci := 3) rfl rfl in_X4 1 (by decide) q2100 (fun _ h => h) (fun _ _ _ => rfl) hf dX4_heightIfInserted_25 (fun x105 hf => ?_)
      refine lv_iload_n hx hb dX4_heightIfInserted_28 rfl (lv_at hl 1 rfl) ?_
      refine zr_cSI (As := [.int v1]) (rest := [va_rf x105, .ref a0]) hc hn hq hd_X4_base (lw_S q2284 q2285 q91 q2286) (Nat.le_of_ble_eq_true rfl) (Nat.le_of_ble_eq_true rfl) (fun _ _ _ _ q => m_X4_base l D dA b0 gs h104 v1 q) hf dX4_heightIfInserted_29 hl.1 rfl rfl (zroom (Nat.le_of_ble_eq_true rfl)) (fun x106 h107 H locs cells slots C9 S9 hf hq hn => ?_)
      refine lv_iconst (v := (1 : Int32)) hx hb dX4_heightIfInserted_32 (by decide) ?_
      refine lv_iadd hx hb dX4_heightIfInserted_33 ?_
      refine zr_nmI hf (fun x108 hf => ?_)
      obtain ⟨a109, e9, hf9⟩ := znn_i hf
      subst e9
      have hf := hf9
      clear hf9
      refine zr_aI0 hc hn hf dX4_heightIfInserted_34 (fun x110 hf => ?_)
      refine lv_bipush (v := (60 : Int32)) hx hb dX4_heightIfInserted_35 (by decide) ?_
      refine lv_icmp_eq (tgt := 49) hx hb dX4_heightIfInserted_37 (by decide) (fun c9 => ?_) (fun c9 => ?_)
      · have hf := zif_t c9 hf
        exact m_X4_heightIfInserted_b49 hc hr hin h107 a0 v1 v2 a0 _ _ _ _ _ _ hf hq hn _ (lv_sub hl [0, 1, 2] rfl)
      · have hf := zif_f c9 hf
        refine lv_aload_n (x := a0) hx hb dX4_heightIfInserted_40 rfl (lv_at hl 0 rfl) ?_
        refine lv_iload_n hx hb dX4_heightIfInserted_41 rfl (lv_at hl 1 rfl) ?_
        refine lv_iload_n hx hb dX4_heightIfInserted_42 rfl (lv_at hl 2 rfl) ?_
        refine zr_cVI (As := [.int v1, .int v2]) (rest := [.ref a0]) hc hn hq (ci := 3) rfl ⟨rfl, hd_X4_placeOf⟩ (lw_V q2389 q2391 qs60 q91 q2392) (Nat.le_of_ble_eq_true rfl) (Nat.le_of_ble_eq_true rfl) (fun _ _ _ _ q => m_X4_placeOf l D dA b0 gs h107 a0 v1 v2 q) hf dX4_heightIfInserted_43 hl.1 rfl rfl (zroom (Nat.le_of_ble_eq_true rfl)) (fun x111 h112 H locs cells slots C9 S9 hf hq hn => ?_)
        refine lv_if_lt (tgt := 53) hx hb dX4_heightIfInserted_46 (by decide) (fun c9 => ?_) (fun c9 => ?_)
        · have hf := zif_t c9 hf
          refine lv_iconst (v := (0 : Int32)) hx hb dX4_heightIfInserted_53 (by decide) ?_
          exact m_X4_heightIfInserted_b54 hc hr hin h112 a0 v1 v2 a0 (0 : Int32) _ _ _ _ _ _ hf hq hn _ (lv_sub hl [0, 1, 2] rfl)
        · have hf := zif_f c9 hf
          exact m_X4_heightIfInserted_b49 hc hr hin h112 a0 v1 v2 a0 _ _ _ _ _ _ hf hq hn _ (lv_sub hl [0, 1, 2] rfl)
    · have hf := zif_t c9 hf
      refine lv_iconst (v := (2 : Int32)) hx hb dX4_heightIfInserted_20 (by decide) ?_
      refine lv_goto (tgt := 54) hx hb dX4_heightIfInserted_21 (by decide) ?_
      exact m_X4_heightIfInserted_b54 hc hr hin h104 a0 v1 v2 a0 (2 : Int32) _ _ _ _ _ _ hf hq hn _ (lv_sub hl [0, 1, 2] rfl)
  · have hf := zif_t c9 hf
    refine lv_iconst (v := (1 : Int32)) hx hb dX4_heightIfInserted_9 (by decide) ?_
    refine lv_goto (tgt := 54) hx hb dX4_heightIfInserted_10 (by decide) ?_
    exact m_X4_heightIfInserted_b54 hc hr hin h102 a0 v1 v2 a0 (1 : Int32) _ _ _ _ _ _ hf hq hn _ (lv_sub hl [0, 1, 2] rfl)
theorem hd_X4_takes : yX4_takes.cls ≠ "java/lang/invoke/MethodHandle" ∧ yX4_takes.cls ≠ "java/lang/invoke/VarHandle" ∧ (parseMethodDescriptor yX4_takes.desc).map (fun d => d.parameters.length) = some 2 := by decide +kernel
def f_X4_takes_b63 : Nat → PH → Nat → Int32 → Int32 → Int32 → ZR Unit
  | 0 => fun _ _ _ _ _ => none
  | n + 1 => fun h a0 v1 v3 v4 =>
    zgP h a0 3 1 fun x101 =>
    znm (v3 + (1 : Int32)) fun x102 =>
    znn x101 fun a103 =>
    zaI h a103 0 x102 fun x104 =>
    if x104 ≤ v4 then
      (zrc h a0 3 <| zcl (f_X4_repairs h a0 v1) fun _ h106 =>
      zret () h106)
    else
      (zgP h a0 3 1 fun x107 =>
      znm (v3 + (2 : Int32)) fun x108 =>
      znm (x108 + v4) fun x109 =>
      zgP h a0 3 1 fun x110 =>
      znm (v3 + (2 : Int32)) fun x111 =>
      znm (x111 + v4) fun x112 =>
      znm (x112 + (1 : Int32)) fun x113 =>
      znn x110 fun a114 =>
      zaI h a114 0 x113 fun x115 =>
      znn x107 fun a116 =>
      zsI h a116 0 x109 x115 fun h117 =>
      zgP h117 a0 3 1 fun x118 =>
      znm (v3 + (62 : Int32)) fun x119 =>
      znm (x119 + v4) fun x120 =>
      zgP h117 a0 3 1 fun x121 =>
      znm (v3 + (62 : Int32)) fun x122 =>
      znm (x122 + v4) fun x123 =>
      znm (x123 + (1 : Int32)) fun x124 =>
      znn x121 fun a125 =>
      zaI h117 a125 0 x124 fun x126 =>
      znn x118 fun a127 =>
      zsI h117 a127 0 x120 x126 fun h128 =>
      zgP h128 a0 3 1 fun x129 =>
      znm (v3 + (122 : Int32)) fun x130 =>
      znm (x130 + v4) fun x131 =>
      zgP h128 a0 3 1 fun x132 =>
      znm (v3 + (122 : Int32)) fun x133 =>
      znm (x133 + v4) fun x134 =>
      znm (x134 + (1 : Int32)) fun x135 =>
      znn x132 fun a136 =>
      zaI h128 a136 0 x135 fun x137 =>
      znn x129 fun a138 =>
      zsI h128 a138 0 x131 x137 fun h139 =>
      znm (v4 + (1 : Int32)) fun x140 =>
      f_X4_takes_b63 n h139 a0 v1 v3 x140)
def f_X4_takes_b48 (h : PH) (a0 : Nat) (v1 : Int32) (v2 : Int32) (v3 : Int32) : ZR Unit :=
  zgP h a0 3 1 fun x101 =>
  znm (v3 + (1 : Int32)) fun x102 =>
  znn x101 fun a103 =>
  zaI h a103 0 x102 fun x104 =>
  znm (x104 - (1 : Int32)) fun x105 =>
  zsI h a103 0 x102 x105 fun h106 =>
  f_X4_takes_b63 zFU h106 a0 v1 v3 v2
def f_X4_takes (h : PH) (a0 : Nat) (v1 : Int32) (v2 : Int32) : ZR Unit :=
  zcl (f_X4_base h v1) fun x101 h102 =>
  zgP h102 a0 3 1 fun x103 =>
  znm (x101 + (122 : Int32)) fun x104 =>
  znm (x104 + v2) fun x105 =>
  znn x103 fun a106 =>
  zaI h102 a106 0 x105 fun x107 =>
  if x107 ≤ (1 : Int32) then
    (f_X4_takes_b48 h102 a0 v1 v2 x101)
  else
    (if v2 ≤ 0 then
      (f_X4_takes_b48 h102 a0 v1 v2 x101)
    else
      (zgP h102 a0 3 1 fun x108 =>
      znm (x101 + (122 : Int32)) fun x109 =>
      znm (x109 + v2) fun x110 =>
      znm (x110 - (1 : Int32)) fun x111 =>
      zgP h102 a0 3 1 fun x112 =>
      znm (x101 + (122 : Int32)) fun x113 =>
      znm (x113 + v2) fun x114 =>
      znn x112 fun a115 =>
      zaI h102 a115 0 x114 fun x116 =>
      znn x108 fun a117 =>
      zsI h102 a117 0 x111 x116 fun h118 =>
      f_X4_takes_b48 h118 a0 v1 v2 x101))
set_option maxHeartbeats 4000000 in
set_option maxRecDepth 100000 in
theorem m_X4_takes_b63 {p : Program} {l : Launch} {e : Env} {s : State} {m : MethodId} {args : Array Value} {below : List Frame} {meth : Method} {c : Code} {D : va_G} {dA : Nat → ClassId} {b0 : Nat} {gs : Nat → Option Nat} (hc : zC D dA b0 gs yX4_takes.cls cX4_takes 5 p c s m args meth) (hr : meth.sig.returnType = none) (hin : meth.name = yX4_takes.name) {r : Unit} {hh : PH} {mc ms : Nat} : ∀ (n : Nat) (h : PH) (a0 : Nat) (v1 : Int32) (v3 : Int32) (v4 : Int32) (C9 S9 : Nat) (H : Heap) (locs : List Loc) (cells slots : Nat), f_X4_takes_b63 n h a0 v1 v3 v4 = some (r, hh, C9, S9) → cells + C9 = mc ∧ slots + S9 = ms → zM D dA b0 gs s h H locs → ∀ ls : Array Slot, lv_has ls 5 [(0, .ref a0), (1, .int v1), (3, .int v3), (4, .int v4)] → W p l e ({ frames := 6, cells := mc, slots := ms, locals := 185 } : Room) s m args below meth c H locs cells slots (MQ below (zQ D dA b0 gs (evU r) hh) args s mc ms (zA b0)) (F0 m 63 ls []) := by
  have hx := hc.x
  have hb := hc.b
  intro n
  induction n with
  | zero =>
    intro h a0 v1 v3 v4 C9 S9 H locs cells slots hf hq hn ls hl
    cases hf
  | succ n ih =>
    intro h a0 v1 v3 v4 C9 S9 H locs cells slots hf hq hn ls hl
    unfold f_X4_takes_b63 at hf
    refine lv_iload hx hb dX4_takes_63 (lv_at hl 3 rfl) ?_
    refine lv_aload_n (x := a0) hx hb dX4_takes_65 rfl (lv_at hl 0 rfl) ?_
    refine zr_gP hc hn (ci := 3) rfl rfl in_X4 1 (by decide) q2100 (fun _ h => h) (fun _ _ _ => rfl) hf dX4_takes_66 (fun x101 hf => ?_)
    refine lv_iload_n hx hb dX4_takes_69 rfl (lv_at hl 2 rfl) ?_
    refine lv_iconst (v := (1 : Int32)) hx hb dX4_takes_70 (by decide) ?_
    refine lv_iadd hx hb dX4_takes_71 ?_
    refine zr_nmI hf (fun x102 hf => ?_)
    obtain ⟨a103, e9, hf9⟩ := znn_i hf
    subst e9
    have hf := hf9
    clear hf9
    refine zr_aI0 hc hn hf dX4_takes_72 (fun x104 hf => ?_)
    refine lv_icmp_ge (tgt := 158) hx hb dX4_takes_73 (by decide) (fun c9 => ?_) (fun c9 => ?_)
    · have hf := zif_t c9 hf
      refine lv_aload_n (x := a0) hx hb dX4_takes_158 rfl (lv_at hl 0 rfl) ?_
      refine lv_iload_n hx hb dX4_takes_159 rfl (lv_at hl 1 rfl) ?_
      refine zr_cVU (As := [.int v1]) (rest := []) hc hn hq (ci := 3) rfl ⟨rfl, hd_X4_repairs⟩ (lw_V q2291 q2293 qs48 q91 q2294) (Nat.le_of_ble_eq_true rfl) (Nat.le_of_ble_eq_true rfl) (fun _ _ _ _ q => m_X4_repairs l D dA b0 gs h a0 v1 q) hf dX4_takes_160 hl.1 rfl rfl (zroom (Nat.le_of_ble_eq_true rfl)) (fun x105 h106 H locs cells slots C9 S9 hf hq hn => ?_)
      obtain ⟨rfl, rfl, rfl, rfl⟩ := zret_i hf
      exact zr_vret hc hn hr hq (fun _ _ _ _ q => q) dX4_takes_163
    · have hf := zif_f c9 hf
      refine lv_aload_n (x := a0) hx hb dX4_takes_76 rfl (lv_at hl 0 rfl) ?_
      refine zr_gP hc hn (ci := 3) rfl rfl in_X4 1 (by decide) q2100 (fun _ h => h) (fun _ _ _ => rfl) hf dX4_takes_77 (fun x107 hf => ?_)
      refine lv_iload_n hx hb dX4_takes_80 rfl (lv_at hl 2 rfl) ?_
      refine lv_iconst (v := (2 : Int32)) hx hb dX4_takes_81 (by decide) ?_
      refine lv_iadd hx hb dX4_takes_82 ?_
      refine zr_nmI hf (fun x108 hf => ?_)
      refine lv_iload hx hb dX4_takes_83 (lv_at hl 3 rfl) ?_
      refine lv_iadd hx hb dX4_takes_85 ?_
      refine zr_nmI hf (fun x109 hf => ?_)
      refine lv_aload_n (x := a0) hx hb dX4_takes_86 rfl (lv_at hl 0 rfl) ?_
      refine zr_gP hc hn (ci := 3) rfl rfl in_X4 1 (by decide) q2100 (fun _ h => h) (fun _ _ _ => rfl) hf dX4_takes_87 (fun x110 hf => ?_)
      refine lv_iload_n hx hb dX4_takes_90 rfl (lv_at hl 2 rfl) ?_
      refine lv_iconst (v := (2 : Int32)) hx hb dX4_takes_91 (by decide) ?_
      refine lv_iadd hx hb dX4_takes_92 ?_
      refine zr_nmI hf (fun x111 hf => ?_)
      refine lv_iload hx hb dX4_takes_93 (lv_at hl 3 rfl) ?_
      refine lv_iadd hx hb dX4_takes_95 ?_
      refine zr_nmI hf (fun x112 hf => ?_)
      refine lv_iconst (v := (1 : Int32)) hx hb dX4_takes_96 (by decide) ?_
      refine lv_iadd hx hb dX4_takes_97 ?_
      refine zr_nmI hf (fun x113 hf => ?_)
      obtain ⟨a114, e9, hf9⟩ := znn_i hf
      subst e9
      have hf := hf9
      clear hf9
      refine zr_aI0 hc hn hf dX4_takes_98 (fun x115 hf => ?_)
      obtain ⟨a116, e9, hf9⟩ := znn_i hf
      subst e9
      have hf := hf9
      clear hf9
      refine zr_sI hc hn hf dX4_takes_99 (fun h117 H locs hf hn => ?_)
      refine lv_aload_n (x := a0) hx hb dX4_takes_100 rfl (lv_at hl 0 rfl) ?_
      refine zr_gP hc hn (ci := 3) rfl rfl in_X4 1 (by decide) q2100 (fun _ h => h) (fun _ _ _ => rfl) hf dX4_takes_101 (fun x118 hf => ?_)
      refine lv_iload_n hx hb dX4_takes_104 rfl (lv_at hl 2 rfl) ?_
      refine lv_bipush (v := (62 : Int32)) hx hb dX4_takes_105 (by decide) ?_
      refine lv_iadd hx hb dX4_takes_107 ?_
      refine zr_nmI hf (fun x119 hf => ?_)
      refine lv_iload hx hb dX4_takes_108 (lv_at hl 3 rfl) ?_
      refine lv_iadd hx hb dX4_takes_110 ?_
      refine zr_nmI hf (fun x120 hf => ?_)
      refine lv_aload_n (x := a0) hx hb dX4_takes_111 rfl (lv_at hl 0 rfl) ?_
      refine zr_gP hc hn (ci := 3) rfl rfl in_X4 1 (by decide) q2100 (fun _ h => h) (fun _ _ _ => rfl) hf dX4_takes_112 (fun x121 hf => ?_)
      refine lv_iload_n hx hb dX4_takes_115 rfl (lv_at hl 2 rfl) ?_
      refine lv_bipush (v := (62 : Int32)) hx hb dX4_takes_116 (by decide) ?_
      refine lv_iadd hx hb dX4_takes_118 ?_
      refine zr_nmI hf (fun x122 hf => ?_)
      refine lv_iload hx hb dX4_takes_119 (lv_at hl 3 rfl) ?_
      refine lv_iadd hx hb dX4_takes_121 ?_
      refine zr_nmI hf (fun x123 hf => ?_)
      refine lv_iconst (v := (1 : Int32)) hx hb dX4_takes_122 (by decide) ?_
      refine lv_iadd hx hb dX4_takes_123 ?_
      refine zr_nmI hf (fun x124 hf => ?_)
      obtain ⟨a125, e9, hf9⟩ := znn_i hf
      subst e9
      have hf := hf9
      clear hf9
      refine zr_aI0 hc hn hf dX4_takes_124 (fun x126 hf => ?_)
      obtain ⟨a127, e9, hf9⟩ := znn_i hf
      subst e9
      have hf := hf9
      clear hf9
      refine zr_sI hc hn hf dX4_takes_125 (fun h128 H locs hf hn => ?_)
      refine lv_aload_n (x := a0) hx hb dX4_takes_126 rfl (lv_at hl 0 rfl) ?_
      refine zr_gP hc hn (ci := 3) rfl rfl in_X4 1 (by decide) q2100 (fun _ h => h) (fun _ _ _ => rfl) hf dX4_takes_127 (fun x129 hf => ?_)
      refine lv_iload_n hx hb dX4_takes_130 rfl (lv_at hl 2 rfl) ?_
      refine lv_bipush (v := (122 : Int32)) hx hb dX4_takes_131 (by decide) ?_
      refine lv_iadd hx hb dX4_takes_133 ?_
      refine zr_nmI hf (fun x130 hf => ?_)
      refine lv_iload hx hb dX4_takes_134 (lv_at hl 3 rfl) ?_
      refine lv_iadd hx hb dX4_takes_136 ?_
      refine zr_nmI hf (fun x131 hf => ?_)
      refine lv_aload_n (x := a0) hx hb dX4_takes_137 rfl (lv_at hl 0 rfl) ?_
      refine zr_gP hc hn (ci := 3) rfl rfl in_X4 1 (by decide) q2100 (fun _ h => h) (fun _ _ _ => rfl) hf dX4_takes_138 (fun x132 hf => ?_)
      refine lv_iload_n hx hb dX4_takes_141 rfl (lv_at hl 2 rfl) ?_
      refine lv_bipush (v := (122 : Int32)) hx hb dX4_takes_142 (by decide) ?_
      refine lv_iadd hx hb dX4_takes_144 ?_
      refine zr_nmI hf (fun x133 hf => ?_)
      refine lv_iload hx hb dX4_takes_145 (lv_at hl 3 rfl) ?_
      refine lv_iadd hx hb dX4_takes_147 ?_
      refine zr_nmI hf (fun x134 hf => ?_)
      refine lv_iconst (v := (1 : Int32)) hx hb dX4_takes_148 (by decide) ?_
      refine lv_iadd hx hb dX4_takes_149 ?_
      refine zr_nmI hf (fun x135 hf => ?_)
      obtain ⟨a136, e9, hf9⟩ := znn_i hf
      subst e9
      have hf := hf9
      clear hf9
      refine zr_aI0 hc hn hf dX4_takes_150 (fun x137 hf => ?_)
      obtain ⟨a138, e9, hf9⟩ := znn_i hf
      subst e9
      have hf := hf9
      clear hf9
      refine zr_sI hc hn hf dX4_takes_151 (fun h139 H locs hf hn => ?_)
      obtain ⟨x140, ex140, hf⟩ := znm_i hf
      refine lv_iinc (v := x140) (lv' := [(4, .int x140), (0, .ref a0), (1, .int v1), (3, .int v3)]) hx hb dX4_takes_152 hl (k := 3) rfl (by rw [ex140]; rfl) (by decide) rfl (fun ls hl => ?_)
      refine lv_goto (tgt := 63) hx hb dX4_takes_155 (by decide) ?_
      exact ih h139 a0 v1 v3 x140 _ _ _ _ _ _ hf hq hn _ (lv_sub hl [1, 2, 3, 0] rfl)
set_option maxHeartbeats 4000000 in
set_option maxRecDepth 100000 in
theorem m_X4_takes_b48 {p : Program} {l : Launch} {e : Env} {s : State} {m : MethodId} {args : Array Value} {below : List Frame} {meth : Method} {c : Code} {D : va_G} {dA : Nat → ClassId} {b0 : Nat} {gs : Nat → Option Nat} (hc : zC D dA b0 gs yX4_takes.cls cX4_takes 5 p c s m args meth) (hr : meth.sig.returnType = none) (hin : meth.name = yX4_takes.name) {r : Unit} {hh : PH} {mc ms : Nat} : ∀ (h : PH) (a0 : Nat) (v1 : Int32) (v2 : Int32) (v3 : Int32) (C9 S9 : Nat) (H : Heap) (locs : List Loc) (cells slots : Nat), f_X4_takes_b48 h a0 v1 v2 v3 = some (r, hh, C9, S9) → cells + C9 = mc ∧ slots + S9 = ms → zM D dA b0 gs s h H locs → ∀ ls : Array Slot, lv_has ls 5 [(0, .ref a0), (1, .int v1), (2, .int v2), (3, .int v3)] → W p l e ({ frames := 6, cells := mc, slots := ms, locals := 185 } : Room) s m args below meth c H locs cells slots (MQ below (zQ D dA b0 gs (evU r) hh) args s mc ms (zA b0)) (F0 m 48 ls []) := by
  have hx := hc.x
  have hb := hc.b
  intro h a0 v1 v2 v3 C9 S9 H locs cells slots hf hq hn ls hl
  unfold f_X4_takes_b48 at hf
  refine lv_aload_n (x := a0) hx hb dX4_takes_48 rfl (lv_at hl 0 rfl) ?_
  refine zr_gP hc hn (ci := 3) rfl rfl in_X4 1 (by decide) q2100 (fun _ h => h) (fun _ _ _ => rfl) hf dX4_takes_49 (fun x101 hf => ?_)
  refine lv_iload_n hx hb dX4_takes_52 rfl (lv_at hl 3 rfl) ?_
  refine lv_iconst (v := (1 : Int32)) hx hb dX4_takes_53 (by decide) ?_
  refine lv_iadd hx hb dX4_takes_54 ?_
  refine zr_nmI hf (fun x102 hf => ?_)
  refine lv_dup2_11 hx hb dX4_takes_55 rfl (zcat_rf _) ?_
  obtain ⟨a103, e9, hf9⟩ := znn_i hf
  subst e9
  have hf := hf9
  clear hf9
  refine zr_aI0 hc hn hf dX4_takes_56 (fun x104 hf => ?_)
  refine lv_iconst (v := (1 : Int32)) hx hb dX4_takes_57 (by decide) ?_
  refine lv_isub hx hb dX4_takes_58 ?_
  refine zr_nmI hf (fun x105 hf => ?_)
  refine zr_sI hc hn hf dX4_takes_59 (fun h106 H locs hf hn => ?_)
  refine lv_iload_n hx hb dX4_takes_60 rfl (lv_at hl 2 rfl) ?_
  refine lv_istore (lv' := [(4, .int v2), (0, .ref a0), (1, .int v1), (2, .int v2), (3, .int v3)]) hx hb dX4_takes_61 hl (by decide) rfl (fun ls hl => ?_)
  exact m_X4_takes_b63 hc hr hin zFU h106 a0 v1 v3 v2 _ _ _ _ _ _ hf hq hn _ (lv_sub hl [1, 2, 4, 0] rfl)
set_option maxHeartbeats 4000000 in
set_option maxRecDepth 100000 in
theorem m_X4_takes (l : Launch) (D : va_G) (dA : Nat → ClassId) (b0 : Nat) (gs : Nat → Option Nat) (h : PH) (a0 : Nat) (v1 : Int32) (v2 : Int32) {r : Unit} {hh : PH} {mc ms : Nat} (hf : f_X4_takes h a0 v1 v2 = some (r, hh, mc, ms)) : zMt l D dA b0 gs yX4_takes cX4_takes 5 none 6 185 [.ref a0, .int v1, .int v2] h (evU r) hh mc ms := by
  unfold f_X4_takes at hf
  refine zMt.of (by decide) (Nat.le_of_ble_eq_true rfl) ?_
  intro p e s m args below meth c hc hr hin hn ls hl
  have hl : lv_has ls 5 [(0, .ref a0), (1, .int v1), (2, .int v2)] := hl
  have hq : 0 + mc = mc ∧ 0 + ms = ms := ⟨Nat.zero_add _, Nat.zero_add _⟩
  have hx := hc.x
  have hb := hc.b
  refine lv_iload_n hx hb dX4_takes_0 rfl (lv_at hl 1 rfl) ?_
  refine zr_cSI (As := [.int v1]) (rest := []) hc hn hq hd_X4_base (lw_S q2284 q2285 q91 q2286) (Nat.le_of_ble_eq_true rfl) (Nat.le_of_ble_eq_true rfl) (fun _ _ _ _ q => m_X4_base l D dA b0 gs h v1 q) hf dX4_takes_1 hl.1 rfl rfl (zroom (Nat.le_of_ble_eq_true rfl)) (fun x101 h102 H locs cells slots C9 S9 hf hq hn => ?_)
  refine lv_istore_n (i := 3) (lv' := [(3, .int x101), (0, .ref a0), (1, .int v1), (2, .int v2)]) hx hb dX4_takes_4 rfl hl (by decide) rfl (fun ls hl => ?_)
  refine lv_aload_n (x := a0) hx hb dX4_takes_5 rfl (lv_at hl 1 rfl) ?_
  refine zr_gP hc hn (ci := 3) rfl rfl in_X4 1 (by decide) q2100 (fun _ h => h) (fun _ _ _ => rfl) hf dX4_takes_6 (fun x103 hf => ?_)
  refine lv_iload_n hx hb dX4_takes_9 rfl (lv_at hl 0 rfl) ?_
  refine lv_bipush (v := (122 : Int32)) hx hb dX4_takes_10 (by decide) ?_
  refine lv_iadd hx hb dX4_takes_12 ?_
  refine zr_nmI hf (fun x104 hf => ?_)
  refine lv_iload_n hx hb dX4_takes_13 rfl (lv_at hl 3 rfl) ?_
  refine lv_iadd hx hb dX4_takes_14 ?_
  refine zr_nmI hf (fun x105 hf => ?_)
  obtain ⟨a106, e9, hf9⟩ := znn_i hf
  subst e9
  have hf := hf9
  clear hf9
  refine zr_aI0 hc hn hf dX4_takes_15 (fun x107 hf => ?_)
  refine lv_iconst (v := (1 : Int32)) hx hb dX4_takes_16 (by decide) ?_
  refine lv_icmp_le (tgt := 48) hx hb dX4_takes_17 (by decide) (fun c9 => ?_) (fun c9 => ?_)
  · have hf := zif_t c9 hf
    exact m_X4_takes_b48 hc hr hin h102 a0 v1 v2 x101 _ _ _ _ _ _ hf hq hn _ (lv_sub hl [1, 2, 3, 0] rfl)
  · have hf := zif_f c9 hf
    refine lv_iload_n hx hb dX4_takes_20 rfl (lv_at hl 3 rfl) ?_
    refine lv_if_le (tgt := 48) hx hb dX4_takes_21 (by decide) (fun c9 => ?_) (fun c9 => ?_)
    · have hf := zif_t c9 hf
      exact m_X4_takes_b48 hc hr hin h102 a0 v1 v2 x101 _ _ _ _ _ _ hf hq hn _ (lv_sub hl [1, 2, 3, 0] rfl)
    · have hf := zif_f c9 hf
      refine lv_aload_n (x := a0) hx hb dX4_takes_24 rfl (lv_at hl 1 rfl) ?_
      refine zr_gP hc hn (ci := 3) rfl rfl in_X4 1 (by decide) q2100 (fun _ h => h) (fun _ _ _ => rfl) hf dX4_takes_25 (fun x108 hf => ?_)
      refine lv_iload_n hx hb dX4_takes_28 rfl (lv_at hl 0 rfl) ?_
      refine lv_bipush (v := (122 : Int32)) hx hb dX4_takes_29 (by decide) ?_
      refine lv_iadd hx hb dX4_takes_31 ?_
      refine zr_nmI hf (fun x109 hf => ?_)
      refine lv_iload_n hx hb dX4_takes_32 rfl (lv_at hl 3 rfl) ?_
      refine lv_iadd hx hb dX4_takes_33 ?_
      refine zr_nmI hf (fun x110 hf => ?_)
      refine lv_iconst (v := (1 : Int32)) hx hb dX4_takes_34 (by decide) ?_
      refine lv_isub hx hb dX4_takes_35 ?_
      refine zr_nmI hf (fun x111 hf => ?_)
      refine lv_aload_n (x := a0) hx hb dX4_takes_36 rfl (lv_at hl 1 rfl) ?_
      refine zr_gP hc hn (ci := 3) rfl rfl in_X4 1 (by decide) q2100 (fun _ h => h) (fun _ _ _ => rfl) hf dX4_takes_37 (fun x112 hf => ?_)
      refine lv_iload_n hx hb dX4_takes_40 rfl (lv_at hl 0 rfl) ?_
      refine lv_bipush (v := (122 : Int32)) hx hb dX4_takes_41 (by decide) ?_
      refine lv_iadd hx hb dX4_takes_43 ?_
      refine zr_nmI hf (fun x113 hf => ?_)
      refine lv_iload_n hx hb dX4_takes_44 rfl (lv_at hl 3 rfl) ?_
      refine lv_iadd hx hb dX4_takes_45 ?_
      refine zr_nmI hf (fun x114 hf => ?_)
      obtain ⟨a115, e9, hf9⟩ := znn_i hf
      subst e9
      have hf := hf9
      clear hf9
      refine zr_aI0 hc hn hf dX4_takes_46 (fun x116 hf => ?_)
      obtain ⟨a117, e9, hf9⟩ := znn_i hf
      subst e9
      have hf := hf9
      clear hf9
      refine zr_sI hc hn hf dX4_takes_47 (fun h118 H locs hf hn => ?_)
      exact m_X4_takes_b48 hc hr hin h118 a0 v1 v2 x101 _ _ _ _ _ _ hf hq hn _ (lv_sub hl [1, 2, 3, 0] rfl)
theorem hd_X4_repairsIfRemoved : yX4_repairsIfRemoved.cls ≠ "java/lang/invoke/MethodHandle" ∧ yX4_repairsIfRemoved.cls ≠ "java/lang/invoke/VarHandle" ∧ (parseMethodDescriptor yX4_repairsIfRemoved.desc).map (fun d => d.parameters.length) = some 2 := by decide +kernel
def f_X4_repairsIfRemoved_b38 (h : PH) (a0 : Nat) (v1 : Int32) (v2 : Int32) (s0 : Nat) (s1 : Int32) : ZR Int32 :=
  zpI h s0 3 0 s1 fun h101 =>
  zgI h101 a0 3 0 fun x102 =>
  if x102 ≤ 0 then
    (zrc h101 a0 3 <| zcl (f_X4_lays h101 a0) fun _ h104 =>
    zrc h104 a0 3 <| zcl (f_X4_placeOf h104 a0 v1 v2) fun x105 h106 =>
    zrc h106 a0 3 <| zcl (f_X4_takes h106 a0 v1 x105) fun _ h108 =>
    zgP h108 a0 3 1 fun x109 =>
    znn x109 fun a110 =>
    zaI h108 a110 0 (7 : Int32) fun x111 =>
    zrc h108 a0 3 <| zcl (f_X4_takesBack h108 a0) fun _ h113 =>
    zret x111 h113)
  else
    (zret (0 : Int32) h101)
def f_X4_repairsIfRemoved (h : PH) (a0 : Nat) (v1 : Int32) (v2 : Int32) : ZR Int32 :=
  zrc h a0 3 <| zcl (f_X4_isList h a0 v1) fun x101 h102 =>
  if x101 = 0 then
    (f_X4_repairsIfRemoved_b38 h102 a0 v1 v2 a0 (1 : Int32))
  else
    (zcl (f_X4_isKey h102 v2) fun x103 h104 =>
    if x103 = 0 then
      (f_X4_repairsIfRemoved_b38 h104 a0 v1 v2 a0 (2 : Int32))
    else
      (zrc h104 a0 3 <| zcl (f_X4_placeOf h104 a0 v1 v2) fun x105 h106 =>
      if 0 ≤ x105 then
        (f_X4_repairsIfRemoved_b38 h106 a0 v1 v2 a0 (0 : Int32))
      else
        (f_X4_repairsIfRemoved_b38 h106 a0 v1 v2 a0 (3 : Int32))))
set_option maxHeartbeats 4000000 in
set_option maxRecDepth 100000 in
theorem m_X4_repairsIfRemoved_b38 {p : Program} {l : Launch} {e : Env} {s : State} {m : MethodId} {args : Array Value} {below : List Frame} {meth : Method} {c : Code} {D : va_G} {dA : Nat → ClassId} {b0 : Nat} {gs : Nat → Option Nat} (hc : zC D dA b0 gs yX4_repairsIfRemoved.cls cX4_repairsIfRemoved 4 p c s m args meth) (hr : meth.sig.returnType = (some .int)) (hin : meth.name = yX4_repairsIfRemoved.name) {r : Int32} {hh : PH} {mc ms : Nat} : ∀ (h : PH) (a0 : Nat) (v1 : Int32) (v2 : Int32) (s0 : Nat) (s1 : Int32) (C9 S9 : Nat) (H : Heap) (locs : List Loc) (cells slots : Nat), f_X4_repairsIfRemoved_b38 h a0 v1 v2 s0 s1 = some (r, hh, C9, S9) → cells + C9 = mc ∧ slots + S9 = ms → zM D dA b0 gs s h H locs → ∀ ls : Array Slot, lv_has ls 4 [(0, .ref a0), (1, .int v1), (2, .int v2)] → W p l e ({ frames := 7, cells := mc, slots := ms, locals := 209 } : Room) s m args below meth c H locs cells slots (MQ below (zQ D dA b0 gs (evI r) hh) args s mc ms (zA b0)) (F0 m 38 ls [.int s1, .ref s0]) := by
  have hx := hc.x
  have hb := hc.b
  intro h a0 v1 v2 s0 s1 C9 S9 H locs cells slots hf hq hn ls hl
  unfold f_X4_repairsIfRemoved_b38 at hf
  refine zr_pI (x := s1) hc hn (ci := 3) rfl rfl in_X4 0 (by decide) tyX4 tyX4_ok nmX4 q2099 (fun _ h => h) (Or.inl rfl) (fun _ _ _ => rfl) rfl rfl hf dX4_repairsIfRemoved_38 (fun h101 H locs hf hn => ?_)
  refine lv_aload_n (x := a0) hx hb dX4_repairsIfRemoved_41 rfl (lv_at hl 0 rfl) ?_
  refine zr_gI hc hn (ci := 3) rfl rfl in_X4 0 (by decide) q2099 (fun _ h => h) (fun _ _ _ => rfl) hf dX4_repairsIfRemoved_42 (fun x102 hf => ?_)
  refine lv_if_le (tgt := 50) hx hb dX4_repairsIfRemoved_45 (by decide) (fun c9 => ?_) (fun c9 => ?_)
  · have hf := zif_t c9 hf
    refine lv_aload_n (x := a0) hx hb dX4_repairsIfRemoved_50 rfl (lv_at hl 0 rfl) ?_
    refine zr_cVU (As := []) (rest := []) hc hn hq (ci := 3) rfl ⟨rfl, hd_X4_lays⟩ (lw_V q2485 q2487 qs68 q91 q2488) (Nat.le_of_ble_eq_true rfl) (Nat.le_of_ble_eq_true rfl) (fun _ _ _ _ q => m_X4_lays l D dA b0 gs h101 a0 q) hf dX4_repairsIfRemoved_51 hl.1 rfl rfl (zroom (Nat.le_of_ble_eq_true rfl)) (fun x103 h104 H locs cells slots C9 S9 hf hq hn => ?_)
    refine lv_aload_n (x := a0) hx hb dX4_repairsIfRemoved_54 rfl (lv_at hl 0 rfl) ?_
    refine lv_iload_n hx hb dX4_repairsIfRemoved_55 rfl (lv_at hl 1 rfl) ?_
    refine lv_aload_n (x := a0) hx hb dX4_repairsIfRemoved_56 rfl (lv_at hl 0 rfl) ?_
    refine lv_iload_n hx hb dX4_repairsIfRemoved_57 rfl (lv_at hl 1 rfl) ?_
    refine lv_iload_n hx hb dX4_repairsIfRemoved_58 rfl (lv_at hl 2 rfl) ?_
    refine zr_cVI (As := [.int v1, .int v2]) (rest := [.int v1, .ref a0]) hc hn hq (ci := 3) rfl ⟨rfl, hd_X4_placeOf⟩ (lw_V q2389 q2391 qs60 q91 q2392) (Nat.le_of_ble_eq_true rfl) (Nat.le_of_ble_eq_true rfl) (fun _ _ _ _ q => m_X4_placeOf l D dA b0 gs h104 a0 v1 v2 q) hf dX4_repairsIfRemoved_59 hl.1 rfl rfl (zroom (Nat.le_of_ble_eq_true rfl)) (fun x105 h106 H locs cells slots C9 S9 hf hq hn => ?_)
    refine zr_cVU (As := [.int v1, .int x105]) (rest := []) hc hn hq (ci := 3) rfl ⟨rfl, hd_X4_takes⟩ (lw_V q2501 q2503 qs71 q91 q2504) (Nat.le_of_ble_eq_true rfl) (Nat.le_of_ble_eq_true rfl) (fun _ _ _ _ q => m_X4_takes l D dA b0 gs h106 a0 v1 x105 q) hf dX4_repairsIfRemoved_62 hl.1 rfl rfl (zroom (Nat.le_of_ble_eq_true rfl)) (fun x107 h108 H locs cells slots C9 S9 hf hq hn => ?_)
    refine lv_aload_n (x := a0) hx hb dX4_repairsIfRemoved_65 rfl (lv_at hl 0 rfl) ?_
    refine zr_gP hc hn (ci := 3) rfl rfl in_X4 1 (by decide) q2100 (fun _ h => h) (fun _ _ _ => rfl) hf dX4_repairsIfRemoved_66 (fun x109 hf => ?_)
    refine lv_bipush (v := (7 : Int32)) hx hb dX4_repairsIfRemoved_69 (by decide) ?_
    obtain ⟨a110, e9, hf9⟩ := znn_i hf
    subst e9
    have hf := hf9
    clear hf9
    refine zr_aI0 hc hn hf dX4_repairsIfRemoved_71 (fun x111 hf => ?_)
    refine lv_istore_n (i := 3) (lv' := [(3, .int x111), (0, .ref a0), (1, .int v1), (2, .int v2)]) hx hb dX4_repairsIfRemoved_72 rfl hl (by decide) rfl (fun ls hl => ?_)
    refine lv_aload_n (x := a0) hx hb dX4_repairsIfRemoved_73 rfl (lv_at hl 1 rfl) ?_
    refine zr_cVU (As := []) (rest := []) hc hn hq (ci := 3) rfl ⟨rfl, hd_X4_takesBack⟩ (lw_V q2493 q2495 qs70 q91 q2496) (Nat.le_of_ble_eq_true rfl) (Nat.le_of_ble_eq_true rfl) (fun _ _ _ _ q => m_X4_takesBack l D dA b0 gs h108 a0 q) hf dX4_repairsIfRemoved_74 hl.1 rfl rfl (zroom (Nat.le_of_ble_eq_true rfl)) (fun x112 h113 H locs cells slots C9 S9 hf hq hn => ?_)
    refine lv_iload_n hx hb dX4_repairsIfRemoved_77 rfl (lv_at hl 0 rfl) ?_
    obtain ⟨rfl, rfl, rfl, rfl⟩ := zret_i hf
    exact zr_iret hc hn hr hq (fun _ _ _ _ q => q) dX4_repairsIfRemoved_78
  · have hf := zif_f c9 hf
    refine lv_iconst (v := (0 : Int32)) hx hb dX4_repairsIfRemoved_48 (by decide) ?_
    obtain ⟨rfl, rfl, rfl, rfl⟩ := zret_i hf
    exact zr_iret hc hn hr hq (fun _ _ _ _ q => q) dX4_repairsIfRemoved_49
set_option maxHeartbeats 4000000 in
set_option maxRecDepth 100000 in
theorem m_X4_repairsIfRemoved (l : Launch) (D : va_G) (dA : Nat → ClassId) (b0 : Nat) (gs : Nat → Option Nat) (h : PH) (a0 : Nat) (v1 : Int32) (v2 : Int32) {r : Int32} {hh : PH} {mc ms : Nat} (hf : f_X4_repairsIfRemoved h a0 v1 v2 = some (r, hh, mc, ms)) : zMt l D dA b0 gs yX4_repairsIfRemoved cX4_repairsIfRemoved 4 (some .int) 7 209 [.ref a0, .int v1, .int v2] h (evI r) hh mc ms := by
  unfold f_X4_repairsIfRemoved at hf
  refine zMt.of (by decide) (Nat.le_of_ble_eq_true rfl) ?_
  intro p e s m args below meth c hc hr hin hn ls hl
  have hl : lv_has ls 4 [(0, .ref a0), (1, .int v1), (2, .int v2)] := hl
  have hq : 0 + mc = mc ∧ 0 + ms = ms := ⟨Nat.zero_add _, Nat.zero_add _⟩
  have hx := hc.x
  have hb := hc.b
  refine lv_aload_n (x := a0) hx hb dX4_repairsIfRemoved_0 rfl (lv_at hl 0 rfl) ?_
  refine lv_aload_n (x := a0) hx hb dX4_repairsIfRemoved_1 rfl (lv_at hl 0 rfl) ?_
  refine lv_iload_n hx hb dX4_repairsIfRemoved_2 rfl (lv_at hl 1 rfl) ?_
  refine zr_cVI (As := [.int v1]) (rest := [.ref a0]) hc hn hq (ci := 3) rfl ⟨rfl, hd_X4_isList⟩ (lw_V q2343 q2345 qs57 q91 q2346) (Nat.le_of_ble_eq_true rfl) (Nat.le_of_ble_eq_true rfl) (fun _ _ _ _ q => m_X4_isList l D dA b0 gs h a0 v1 q) hf dX4_repairsIfRemoved_3 hl.1 rfl rfl (zroom (Nat.le_of_ble_eq_true rfl)) (fun x101 h102 H locs cells slots C9 S9 hf hq hn => ?_)
  refine lv_if_ne (tgt := 13) hx hb dX4_repairsIfRemoved_6 (by decide) (fun c9 => ?_) (fun c9 => ?_)
  · have hf := zif_f c9 hf
    refine lv_iload_n hx hb dX4_repairsIfRemoved_13 rfl (lv_at hl 2 rfl) ?_
    refine zr_cSI (As := [.int v2]) (rest := [.ref a0]) hc hn hq hd_X4_isKey (lw_S q2384 q2385 q91 q2386) (Nat.le_of_ble_eq_true rfl) (Nat.le_of_ble_eq_true rfl) (fun _ _ _ _ q => m_X4_isKey l D dA b0 gs h102 v2 q) hf dX4_repairsIfRemoved_14 hl.1 rfl rfl (zroom (Nat.le_of_ble_eq_true rfl)) (fun x103 h104 H locs cells slots C9 S9 hf hq hn => ?_)
    refine lv_if_ne (tgt := 24) hx hb dX4_repairsIfRemoved_17 (by decide) (fun c9 => ?_) (fun c9 => ?_)
    · have hf := zif_f c9 hf
      refine lv_aload_n (x := a0) hx hb dX4_repairsIfRemoved_24 rfl (lv_at hl 0 rfl) ?_
      refine lv_iload_n hx hb dX4_repairsIfRemoved_25 rfl (lv_at hl 1 rfl) ?_
      refine lv_iload_n hx hb dX4_repairsIfRemoved_26 rfl (lv_at hl 2 rfl) ?_
      refine zr_cVI (As := [.int v1, .int v2]) (rest := [.ref a0]) hc hn hq (ci := 3) rfl ⟨rfl, hd_X4_placeOf⟩ (lw_V q2389 q2391 qs60 q91 q2392) (Nat.le_of_ble_eq_true rfl) (Nat.le_of_ble_eq_true rfl) (fun _ _ _ _ q => m_X4_placeOf l D dA b0 gs h104 a0 v1 v2 q) hf dX4_repairsIfRemoved_27 hl.1 rfl rfl (zroom (Nat.le_of_ble_eq_true rfl)) (fun x105 h106 H locs cells slots C9 S9 hf hq hn => ?_)
      refine lv_if_ge (tgt := 37) hx hb dX4_repairsIfRemoved_30 (by decide) (fun c9 => ?_) (fun c9 => ?_)
      · have hf := zif_t c9 hf
        refine lv_iconst (v := (0 : Int32)) hx hb dX4_repairsIfRemoved_37 (by decide) ?_
        exact m_X4_repairsIfRemoved_b38 hc hr hin h106 a0 v1 v2 a0 (0 : Int32) _ _ _ _ _ _ hf hq hn _ (lv_sub hl [0, 1, 2] rfl)
      · have hf := zif_f c9 hf
        refine lv_iconst (v := (3 : Int32)) hx hb dX4_repairsIfRemoved_33 (by decide) ?_
        refine lv_goto (tgt := 38) hx hb dX4_repairsIfRemoved_34 (by decide) ?_
        exact m_X4_repairsIfRemoved_b38 hc hr hin h106 a0 v1 v2 a0 (3 : Int32) _ _ _ _ _ _ hf hq hn _ (lv_sub hl [0, 1, 2] rfl)
    · have hf := zif_t c9 hf
      refine lv_iconst (v := (2 : Int32)) hx hb dX4_repairsIfRemoved_20 (by decide) ?_
      refine lv_goto (tgt := 38) hx hb dX4_repairsIfRemoved_21 (by decide) ?_
      exact m_X4_repairsIfRemoved_b38 hc hr hin h104 a0 v1 v2 a0 (2 : Int32) _ _ _ _ _ _ hf hq hn _ (lv_sub hl [0, 1, 2] rfl)
  · have hf := zif_t c9 hf
    refine lv_iconst (v := (1 : Int32)) hx hb dX4_repairsIfRemoved_9 (by decide) ?_
    refine lv_goto (tgt := 38) hx hb dX4_repairsIfRemoved_10 (by decide) ?_
    exact m_X4_repairsIfRemoved_b38 hc hr hin h102 a0 v1 v2 a0 (1 : Int32) _ _ _ _ _ _ hf hq hn _ (lv_sub hl [0, 1, 2] rfl)
theorem hd_X4_limits : yX4_limits.cls ≠ "java/lang/invoke/MethodHandle" ∧ yX4_limits.cls ≠ "java/lang/invoke/VarHandle" ∧ (parseMethodDescriptor yX4_limits.desc).map (fun d => d.parameters.length) = some 1 := by decide +kernel
def f_X4_limits_b28 (k9 : PH → Nat → Int32 → ZR Unit) (h : PH) (a0 : Nat) (v2 : Int32) : ZR Unit :=
  znm (v2 + (1 : Int32)) fun x101 =>
  k9 h a0 x101
def f_X4_limits_b9 : Nat → PH → Nat → Int32 → ZR Unit
  | 0 => fun _ _ _ => none
  | n + 1 => fun h a0 v2 =>
    if (6 : Int32) ≤ v2 then
      (zret () h)
    else
      (zrc h a0 3 <| zcl (f_X4_isList h a0 v2) fun x101 h102 =>
      if x101 = 0 then
        (f_X4_limits_b28 (f_X4_limits_b9 n) h102 a0 v2)
      else
        (zrc h102 a0 3 <| zcl (f_X4_repairs h102 a0 v2) fun _ h104 =>
        f_X4_limits_b28 (f_X4_limits_b9 n) h104 a0 v2))
def f_X4_limits (h : PH) (a0 : Nat) (v1 : Int32) : ZR Unit :=
  zgP h a0 3 1 fun x101 =>
  znn x101 fun a102 =>
  zsI h a102 0 (0 : Int32) v1 fun h103 =>
  f_X4_limits_b9 zFU h103 a0 (0 : Int32)
set_option maxHeartbeats 4000000 in
set_option maxRecDepth 100000 in
theorem m_X4_limits_b28 {p : Program} {l : Launch} {e : Env} {s : State} {m : MethodId} {args : Array Value} {below : List Frame} {meth : Method} {c : Code} {D : va_G} {dA : Nat → ClassId} {b0 : Nat} {gs : Nat → Option Nat} (hc : zC D dA b0 gs yX4_limits.cls cX4_limits 3 p c s m args meth) (hr : meth.sig.returnType = none) (hin : meth.name = yX4_limits.name) {r : Unit} {hh : PH} {mc ms : Nat} (k9 : PH → Nat → Int32 → ZR Unit) (hk9 : ∀ (h : PH) (a0 : Nat) (v2 : Int32) (C9 S9 : Nat) (H : Heap) (locs : List Loc) (cells slots : Nat), k9 h a0 v2 = some (r, hh, C9, S9) → cells + C9 = mc ∧ slots + S9 = ms → zM D dA b0 gs s h H locs → ∀ ls : Array Slot, lv_has ls 3 [(0, .ref a0), (2, .int v2)] → W p l e ({ frames := 6, cells := mc, slots := ms, locals := 185 } : Room) s m args below meth c H locs cells slots (MQ below (zQ D dA b0 gs (evU r) hh) args s mc ms (zA b0)) (F0 m 9 ls [])) : ∀ (h : PH) (a0 : Nat) (v2 : Int32) (C9 S9 : Nat) (H : Heap) (locs : List Loc) (cells slots : Nat), f_X4_limits_b28 k9 h a0 v2 = some (r, hh, C9, S9) → cells + C9 = mc ∧ slots + S9 = ms → zM D dA b0 gs s h H locs → ∀ ls : Array Slot, lv_has ls 3 [(0, .ref a0), (2, .int v2)] → W p l e ({ frames := 6, cells := mc, slots := ms, locals := 185 } : Room) s m args below meth c H locs cells slots (MQ below (zQ D dA b0 gs (evU r) hh) args s mc ms (zA b0)) (F0 m 28 ls []) := by
  have hx := hc.x
  have hb := hc.b
  intro h a0 v2 C9 S9 H locs cells slots hf hq hn ls hl
  unfold f_X4_limits_b28 at hf
  obtain ⟨x101, ex101, hf⟩ := znm_i hf
  refine lv_iinc (v := x101) (lv' := [(2, .int x101), (0, .ref a0)]) hx hb dX4_limits_28 hl (k := 1) rfl (by rw [ex101]; rfl) (by decide) rfl (fun ls hl => ?_)
  refine lv_goto (tgt := 9) hx hb dX4_limits_31 (by decide) ?_
  exact hk9 h a0 x101 _ _ _ _ _ _ hf hq hn _ (lv_sub hl [1, 0] rfl)
set_option maxHeartbeats 4000000 in
set_option maxRecDepth 100000 in
theorem m_X4_limits_b9 {p : Program} {l : Launch} {e : Env} {s : State} {m : MethodId} {args : Array Value} {below : List Frame} {meth : Method} {c : Code} {D : va_G} {dA : Nat → ClassId} {b0 : Nat} {gs : Nat → Option Nat} (hc : zC D dA b0 gs yX4_limits.cls cX4_limits 3 p c s m args meth) (hr : meth.sig.returnType = none) (hin : meth.name = yX4_limits.name) {r : Unit} {hh : PH} {mc ms : Nat} : ∀ (n : Nat) (h : PH) (a0 : Nat) (v2 : Int32) (C9 S9 : Nat) (H : Heap) (locs : List Loc) (cells slots : Nat), f_X4_limits_b9 n h a0 v2 = some (r, hh, C9, S9) → cells + C9 = mc ∧ slots + S9 = ms → zM D dA b0 gs s h H locs → ∀ ls : Array Slot, lv_has ls 3 [(0, .ref a0), (2, .int v2)] → W p l e ({ frames := 6, cells := mc, slots := ms, locals := 185 } : Room) s m args below meth c H locs cells slots (MQ below (zQ D dA b0 gs (evU r) hh) args s mc ms (zA b0)) (F0 m 9 ls []) := by
  have hx := hc.x
  have hb := hc.b
  intro n
  induction n with
  | zero =>
    intro h a0 v2 C9 S9 H locs cells slots hf hq hn ls hl
    cases hf
  | succ n ih =>
    intro h a0 v2 C9 S9 H locs cells slots hf hq hn ls hl
    unfold f_X4_limits_b9 at hf
    refine lv_iload_n hx hb dX4_limits_9 rfl (lv_at hl 1 rfl) ?_
    refine lv_bipush (v := (6 : Int32)) hx hb dX4_limits_10 (by decide) ?_
    refine lv_icmp_ge (tgt := 34) hx hb dX4_limits_12 (by decide) (fun c9 => ?_) (fun c9 => ?_)
    · have hf := zif_t c9 hf
      obtain ⟨rfl, rfl, rfl, rfl⟩ := zret_i hf
      exact zr_vret hc hn hr hq (fun _ _ _ _ q => q) dX4_limits_34
    · have hf := zif_f c9 hf
      refine lv_aload_n (x := a0) hx hb dX4_limits_15 rfl (lv_at hl 0 rfl) ?_
      refine lv_iload_n hx hb dX4_limits_16 rfl (lv_at hl 1 rfl) ?_
      refine zr_cVI (As := [.int v2]) (rest := []) hc hn hq (ci := 3) rfl ⟨rfl, hd_X4_isList⟩ (lw_V q2343 q2345 qs57 q91 q2346) (Nat.le_of_ble_eq_true rfl) (Nat.le_of_ble_eq_true rfl) (fun _ _ _ _ q => m_X4_isList l D dA b0 gs h a0 v2 q) hf dX4_limits_17 hl.1 rfl rfl (zroom (Nat.le_of_ble_eq_true rfl)) (fun x101 h102 H locs cells slots C9 S9 hf hq hn => ?_)
      refine lv_if_eq (tgt := 28) hx hb dX4_limits_20 (by decide) (fun c9 => ?_) (fun c9 => ?_)
      · have hf := zif_t c9 hf
        exact m_X4_limits_b28 hc hr hin (f_X4_limits_b9 n) ih h102 a0 v2 _ _ _ _ _ _ hf hq hn _ (lv_sub hl [0, 1] rfl)
      · have hf := zif_f c9 hf
        refine lv_aload_n (x := a0) hx hb dX4_limits_23 rfl (lv_at hl 0 rfl) ?_
        refine lv_iload_n hx hb dX4_limits_24 rfl (lv_at hl 1 rfl) ?_
        refine zr_cVU (As := [.int v2]) (rest := []) hc hn hq (ci := 3) rfl ⟨rfl, hd_X4_repairs⟩ (lw_V q2291 q2293 qs48 q91 q2294) (Nat.le_of_ble_eq_true rfl) (Nat.le_of_ble_eq_true rfl) (fun _ _ _ _ q => m_X4_repairs l D dA b0 gs h102 a0 v2 q) hf dX4_limits_25 hl.1 rfl rfl (zroom (Nat.le_of_ble_eq_true rfl)) (fun x103 h104 H locs cells slots C9 S9 hf hq hn => ?_)
        exact m_X4_limits_b28 hc hr hin (f_X4_limits_b9 n) ih h104 a0 v2 _ _ _ _ _ _ hf hq hn _ (lv_sub hl [0, 1] rfl)
set_option maxHeartbeats 4000000 in
set_option maxRecDepth 100000 in
theorem m_X4_limits (l : Launch) (D : va_G) (dA : Nat → ClassId) (b0 : Nat) (gs : Nat → Option Nat) (h : PH) (a0 : Nat) (v1 : Int32) {r : Unit} {hh : PH} {mc ms : Nat} (hf : f_X4_limits h a0 v1 = some (r, hh, mc, ms)) : zMt l D dA b0 gs yX4_limits cX4_limits 3 none 6 185 [.ref a0, .int v1] h (evU r) hh mc ms := by
  unfold f_X4_limits at hf
  refine zMt.of (by decide) (Nat.le_of_ble_eq_true rfl) ?_
  intro p e s m args below meth c hc hr hin hn ls hl
  have hl : lv_has ls 3 [(0, .ref a0), (1, .int v1)] := hl
  have hq : 0 + mc = mc ∧ 0 + ms = ms := ⟨Nat.zero_add _, Nat.zero_add _⟩
  have hx := hc.x
  have hb := hc.b
  refine lv_aload_n (x := a0) hx hb dX4_limits_0 rfl (lv_at hl 0 rfl) ?_
  refine zr_gP hc hn (ci := 3) rfl rfl in_X4 1 (by decide) q2100 (fun _ h => h) (fun _ _ _ => rfl) hf dX4_limits_1 (fun x101 hf => ?_)
  refine lv_iconst (v := (0 : Int32)) hx hb dX4_limits_4 (by decide) ?_
  refine lv_iload_n hx hb dX4_limits_5 rfl (lv_at hl 1 rfl) ?_
  obtain ⟨a102, e9, hf9⟩ := znn_i hf
  subst e9
  have hf := hf9
  clear hf9
  refine zr_sI hc hn hf dX4_limits_6 (fun h103 H locs hf hn => ?_)
  refine lv_iconst (v := (0 : Int32)) hx hb dX4_limits_7 (by decide) ?_
  refine lv_istore_n (i := 2) (lv' := [(2, .int (0 : Int32)), (0, .ref a0), (1, .int v1)]) hx hb dX4_limits_8 rfl hl (by decide) rfl (fun ls hl => ?_)
  exact m_X4_limits_b9 hc hr hin zFU h103 a0 (0 : Int32) _ _ _ _ _ _ hf hq hn _ (lv_sub hl [1, 0] rfl)
theorem hd_X4_repairsIfLimit : yX4_repairsIfLimit.cls ≠ "java/lang/invoke/MethodHandle" ∧ yX4_repairsIfLimit.cls ≠ "java/lang/invoke/VarHandle" ∧ (parseMethodDescriptor yX4_repairsIfLimit.desc).map (fun d => d.parameters.length) = some 1 := by decide +kernel
def f_X4_repairsIfLimit_b20 (h : PH) (a0 : Nat) (v1 : Int32) (s0 : Nat) (s1 : Int32) : ZR Int32 :=
  zpI h s0 3 0 s1 fun h101 =>
  zgI h101 a0 3 0 fun x102 =>
  if x102 ≤ 0 then
    (zrc h101 a0 3 <| zcl (f_X4_lays h101 a0) fun _ h104 =>
    zrc h104 a0 3 <| zcl (f_X4_limits h104 a0 v1) fun _ h106 =>
    zgP h106 a0 3 1 fun x107 =>
    znn x107 fun a108 =>
    zaI h106 a108 0 (7 : Int32) fun x109 =>
    zrc h106 a0 3 <| zcl (f_X4_takesBack h106 a0) fun _ h111 =>
    zret x109 h111)
  else
    (zret (0 : Int32) h101)
def f_X4_repairsIfLimit (h : PH) (a0 : Nat) (v1 : Int32) : ZR Int32 :=
  znm v1.toInt64 fun x101 =>
  zcl (f_X4_in h x101 (2 : Int64) (7 : Int64)) fun x102 h103 =>
  if x102 = 0 then
    (f_X4_repairsIfLimit_b20 h103 a0 v1 a0 (1 : Int32))
  else
    (f_X4_repairsIfLimit_b20 h103 a0 v1 a0 (0 : Int32))
set_option maxHeartbeats 4000000 in
set_option maxRecDepth 100000 in
theorem m_X4_repairsIfLimit_b20 {p : Program} {l : Launch} {e : Env} {s : State} {m : MethodId} {args : Array Value} {below : List Frame} {meth : Method} {c : Code} {D : va_G} {dA : Nat → ClassId} {b0 : Nat} {gs : Nat → Option Nat} (hc : zC D dA b0 gs yX4_repairsIfLimit.cls cX4_repairsIfLimit 3 p c s m args meth) (hr : meth.sig.returnType = (some .int)) (hin : meth.name = yX4_repairsIfLimit.name) {r : Int32} {hh : PH} {mc ms : Nat} : ∀ (h : PH) (a0 : Nat) (v1 : Int32) (s0 : Nat) (s1 : Int32) (C9 S9 : Nat) (H : Heap) (locs : List Loc) (cells slots : Nat), f_X4_repairsIfLimit_b20 h a0 v1 s0 s1 = some (r, hh, C9, S9) → cells + C9 = mc ∧ slots + S9 = ms → zM D dA b0 gs s h H locs → ∀ ls : Array Slot, lv_has ls 3 [(0, .ref a0), (1, .int v1)] → W p l e ({ frames := 7, cells := mc, slots := ms, locals := 207 } : Room) s m args below meth c H locs cells slots (MQ below (zQ D dA b0 gs (evI r) hh) args s mc ms (zA b0)) (F0 m 20 ls [.int s1, .ref s0]) := by
  have hx := hc.x
  have hb := hc.b
  intro h a0 v1 s0 s1 C9 S9 H locs cells slots hf hq hn ls hl
  unfold f_X4_repairsIfLimit_b20 at hf
  refine zr_pI (x := s1) hc hn (ci := 3) rfl rfl in_X4 0 (by decide) tyX4 tyX4_ok nmX4 q2099 (fun _ h => h) (Or.inl rfl) (fun _ _ _ => rfl) rfl rfl hf dX4_repairsIfLimit_20 (fun h101 H locs hf hn => ?_)
  refine lv_aload_n (x := a0) hx hb dX4_repairsIfLimit_23 rfl (lv_at hl 0 rfl) ?_
  refine zr_gI hc hn (ci := 3) rfl rfl in_X4 0 (by decide) q2099 (fun _ h => h) (fun _ _ _ => rfl) hf dX4_repairsIfLimit_24 (fun x102 hf => ?_)
  refine lv_if_le (tgt := 32) hx hb dX4_repairsIfLimit_27 (by decide) (fun c9 => ?_) (fun c9 => ?_)
  · have hf := zif_t c9 hf
    refine lv_aload_n (x := a0) hx hb dX4_repairsIfLimit_32 rfl (lv_at hl 0 rfl) ?_
    refine zr_cVU (As := []) (rest := []) hc hn hq (ci := 3) rfl ⟨rfl, hd_X4_lays⟩ (lw_V q2485 q2487 qs68 q91 q2488) (Nat.le_of_ble_eq_true rfl) (Nat.le_of_ble_eq_true rfl) (fun _ _ _ _ q => m_X4_lays l D dA b0 gs h101 a0 q) hf dX4_repairsIfLimit_33 hl.1 rfl rfl (zroom (Nat.le_of_ble_eq_true rfl)) (fun x103 h104 H locs cells slots C9 S9 hf hq hn => ?_)
    refine lv_aload_n (x := a0) hx hb dX4_repairsIfLimit_36 rfl (lv_at hl 0 rfl) ?_
    refine lv_iload_n hx hb dX4_repairsIfLimit_37 rfl (lv_at hl 1 rfl) ?_
    refine zr_cVU (As := [.int v1]) (rest := []) hc hn hq (ci := 3) rfl ⟨rfl, hd_X4_limits⟩ (lw_V q2509 q2511 qs72 q91 q2512) (Nat.le_of_ble_eq_true rfl) (Nat.le_of_ble_eq_true rfl) (fun _ _ _ _ q => m_X4_limits l D dA b0 gs h104 a0 v1 q) hf dX4_repairsIfLimit_38 hl.1 rfl rfl (zroom (Nat.le_of_ble_eq_true rfl)) (fun x105 h106 H locs cells slots C9 S9 hf hq hn => ?_)
    refine lv_aload_n (x := a0) hx hb dX4_repairsIfLimit_41 rfl (lv_at hl 0 rfl) ?_
    refine zr_gP hc hn (ci := 3) rfl rfl in_X4 1 (by decide) q2100 (fun _ h => h) (fun _ _ _ => rfl) hf dX4_repairsIfLimit_42 (fun x107 hf => ?_)
    refine lv_bipush (v := (7 : Int32)) hx hb dX4_repairsIfLimit_45 (by decide) ?_
    obtain ⟨a108, e9, hf9⟩ := znn_i hf
    subst e9
    have hf := hf9
    clear hf9
    refine zr_aI0 hc hn hf dX4_repairsIfLimit_47 (fun x109 hf => ?_)
    refine lv_istore_n (i := 2) (lv' := [(2, .int x109), (0, .ref a0), (1, .int v1)]) hx hb dX4_repairsIfLimit_48 rfl hl (by decide) rfl (fun ls hl => ?_)
    refine lv_aload_n (x := a0) hx hb dX4_repairsIfLimit_49 rfl (lv_at hl 1 rfl) ?_
    refine zr_cVU (As := []) (rest := []) hc hn hq (ci := 3) rfl ⟨rfl, hd_X4_takesBack⟩ (lw_V q2493 q2495 qs70 q91 q2496) (Nat.le_of_ble_eq_true rfl) (Nat.le_of_ble_eq_true rfl) (fun _ _ _ _ q => m_X4_takesBack l D dA b0 gs h106 a0 q) hf dX4_repairsIfLimit_50 hl.1 rfl rfl (zroom (Nat.le_of_ble_eq_true rfl)) (fun x110 h111 H locs cells slots C9 S9 hf hq hn => ?_)
    refine lv_iload_n hx hb dX4_repairsIfLimit_53 rfl (lv_at hl 0 rfl) ?_
    obtain ⟨rfl, rfl, rfl, rfl⟩ := zret_i hf
    exact zr_iret hc hn hr hq (fun _ _ _ _ q => q) dX4_repairsIfLimit_54
  · have hf := zif_f c9 hf
    refine lv_iconst (v := (0 : Int32)) hx hb dX4_repairsIfLimit_30 (by decide) ?_
    obtain ⟨rfl, rfl, rfl, rfl⟩ := zret_i hf
    exact zr_iret hc hn hr hq (fun _ _ _ _ q => q) dX4_repairsIfLimit_31
set_option maxHeartbeats 4000000 in
set_option maxRecDepth 100000 in
theorem m_X4_repairsIfLimit (l : Launch) (D : va_G) (dA : Nat → ClassId) (b0 : Nat) (gs : Nat → Option Nat) (h : PH) (a0 : Nat) (v1 : Int32) {r : Int32} {hh : PH} {mc ms : Nat} (hf : f_X4_repairsIfLimit h a0 v1 = some (r, hh, mc, ms)) : zMt l D dA b0 gs yX4_repairsIfLimit cX4_repairsIfLimit 3 (some .int) 7 207 [.ref a0, .int v1] h (evI r) hh mc ms := by
  unfold f_X4_repairsIfLimit at hf
  refine zMt.of (by decide) (Nat.le_of_ble_eq_true rfl) ?_
  intro p e s m args below meth c hc hr hin hn ls hl
  have hl : lv_has ls 3 [(0, .ref a0), (1, .int v1)] := hl
  have hq : 0 + mc = mc ∧ 0 + ms = ms := ⟨Nat.zero_add _, Nat.zero_add _⟩
  have hx := hc.x
  have hb := hc.b
  refine lv_aload_n (x := a0) hx hb dX4_repairsIfLimit_0 rfl (lv_at hl 0 rfl) ?_
  refine lv_iload_n hx hb dX4_repairsIfLimit_1 rfl (lv_at hl 1 rfl) ?_
  refine lv_i2l (v := v1.toInt64) hx hb dX4_repairsIfLimit_2 rfl ?_
  refine zr_nmL hf (fun x101 hf => ?_)
  refine lv_ldc2 (v := (2 : Int64)) hx hb hc.ow (hc.ts _ q2257) dX4_repairsIfLimit_3 ?_
  refine lv_ldc2 (v := (7 : Int64)) hx hb hc.ow (hc.ts _ q2258) dX4_repairsIfLimit_6 ?_
  refine zr_cSI (As := [.long x101, .long (2 : Int64), .long (7 : Int64)]) (rest := [.ref a0]) hc hn hq hd_X4_in (lw_S q2211 q2212 q91 q2213) (Nat.le_of_ble_eq_true rfl) (Nat.le_of_ble_eq_true rfl) (fun _ _ _ _ q => m_X4_in l D dA b0 gs h x101 (2 : Int64) (7 : Int64) q) hf dX4_repairsIfLimit_9 hl.1 rfl rfl (zroom (Nat.le_of_ble_eq_true rfl)) (fun x102 h103 H locs cells slots C9 S9 hf hq hn => ?_)
  refine lv_if_eq (tgt := 19) hx hb dX4_repairsIfLimit_12 (by decide) (fun c9 => ?_) (fun c9 => ?_)
  · have hf := zif_t c9 hf
    refine lv_iconst (v := (1 : Int32)) hx hb dX4_repairsIfLimit_19 (by decide) ?_
    exact m_X4_repairsIfLimit_b20 hc hr hin h103 a0 v1 a0 (1 : Int32) _ _ _ _ _ _ hf hq hn _ (lv_sub hl [0, 1] rfl)
  · have hf := zif_f c9 hf
    refine lv_iconst (v := (0 : Int32)) hx hb dX4_repairsIfLimit_15 (by decide) ?_
    refine lv_goto (tgt := 20) hx hb dX4_repairsIfLimit_16 (by decide) ?_
    exact m_X4_repairsIfLimit_b20 hc hr hin h103 a0 v1 a0 (0 : Int32) _ _ _ _ _ _ hf hq hn _ (lv_sub hl [0, 1] rfl)
theorem hd_X4_areBoth : yX4_areBoth.cls ≠ "java/lang/invoke/MethodHandle" ∧ yX4_areBoth.cls ≠ "java/lang/invoke/VarHandle" ∧ (parseMethodDescriptor yX4_areBoth.desc).map (fun d => d.parameters.length) = some 2 := by decide +kernel
def f_X4_areBoth (h : PH) (a0 : Nat) (v1 : Int32) (v2 : Int32) : ZR Int32 :=
  zrc h a0 3 <| zcl (f_X4_isList h a0 v1) fun x101 h102 =>
  if x101 = 0 then
    (zret (0 : Int32) h102)
  else
    (zrc h102 a0 3 <| zcl (f_X4_isList h102 a0 v2) fun x103 h104 =>
    if x103 = 0 then
      (zret (0 : Int32) h104)
    else
      (zret (1 : Int32) h104))
set_option maxHeartbeats 4000000 in
set_option maxRecDepth 100000 in
theorem m_X4_areBoth (l : Launch) (D : va_G) (dA : Nat → ClassId) (b0 : Nat) (gs : Nat → Option Nat) (h : PH) (a0 : Nat) (v1 : Int32) (v2 : Int32) {r : Int32} {hh : PH} {mc ms : Nat} (hf : f_X4_areBoth h a0 v1 v2 = some (r, hh, mc, ms)) : zMt l D dA b0 gs yX4_areBoth cX4_areBoth 3 (some .boolean) 3 106 [.ref a0, .int v1, .int v2] h (evI r) hh mc ms := by
  unfold f_X4_areBoth at hf
  refine zMt.of (by decide) (Nat.le_of_ble_eq_true rfl) ?_
  intro p e s m args below meth c hc hr hin hn ls hl
  have hl : lv_has ls 3 [(0, .ref a0), (1, .int v1), (2, .int v2)] := hl
  have hq : 0 + mc = mc ∧ 0 + ms = ms := ⟨Nat.zero_add _, Nat.zero_add _⟩
  have hx := hc.x
  have hb := hc.b
  refine lv_aload_n (x := a0) hx hb dX4_areBoth_0 rfl (lv_at hl 0 rfl) ?_
  refine lv_iload_n hx hb dX4_areBoth_1 rfl (lv_at hl 1 rfl) ?_
  refine zr_cVI (As := [.int v1]) (rest := []) hc hn hq (ci := 3) rfl ⟨rfl, hd_X4_isList⟩ (lw_V q2343 q2345 qs57 q91 q2346) (Nat.le_of_ble_eq_true rfl) (Nat.le_of_ble_eq_true rfl) (fun _ _ _ _ q => m_X4_isList l D dA b0 gs h a0 v1 q) hf dX4_areBoth_2 hl.1 rfl rfl (zroom (Nat.le_of_ble_eq_true rfl)) (fun x101 h102 H locs cells slots C9 S9 hf hq hn => ?_)
  refine lv_if_eq (tgt := 20) hx hb dX4_areBoth_5 (by decide) (fun c9 => ?_) (fun c9 => ?_)
  · have hf := zif_t c9 hf
    refine lv_iconst (v := (0 : Int32)) hx hb dX4_areBoth_20 (by decide) ?_
    obtain ⟨rfl, rfl, rfl, rfl⟩ := zret_i hf
    exact zr_zret hc hn hr (by decide) hq (fun _ _ _ _ q => q) dX4_areBoth_21
  · have hf := zif_f c9 hf
    refine lv_aload_n (x := a0) hx hb dX4_areBoth_8 rfl (lv_at hl 0 rfl) ?_
    refine lv_iload_n hx hb dX4_areBoth_9 rfl (lv_at hl 2 rfl) ?_
    refine zr_cVI (As := [.int v2]) (rest := []) hc hn hq (ci := 3) rfl ⟨rfl, hd_X4_isList⟩ (lw_V q2343 q2345 qs57 q91 q2346) (Nat.le_of_ble_eq_true rfl) (Nat.le_of_ble_eq_true rfl) (fun _ _ _ _ q => m_X4_isList l D dA b0 gs h102 a0 v2 q) hf dX4_areBoth_10 hl.1 rfl rfl (zroom (Nat.le_of_ble_eq_true rfl)) (fun x103 h104 H locs cells slots C9 S9 hf hq hn => ?_)
    refine lv_if_eq (tgt := 20) hx hb dX4_areBoth_13 (by decide) (fun c9 => ?_) (fun c9 => ?_)
    · have hf := zif_t c9 hf
      refine lv_iconst (v := (0 : Int32)) hx hb dX4_areBoth_20 (by decide) ?_
      obtain ⟨rfl, rfl, rfl, rfl⟩ := zret_i hf
      exact zr_zret hc hn hr (by decide) hq (fun _ _ _ _ q => q) dX4_areBoth_21
    · have hf := zif_f c9 hf
      refine lv_iconst (v := (1 : Int32)) hx hb dX4_areBoth_16 (by decide) ?_
      refine lv_goto (tgt := 21) hx hb dX4_areBoth_17 (by decide) ?_
      obtain ⟨rfl, rfl, rfl, rfl⟩ := zret_i hf
      exact zr_zret hc hn hr (by decide) hq (fun _ _ _ _ q => q) dX4_areBoth_21
theorem hd_X4_againstJoin : yX4_againstJoin.cls ≠ "java/lang/invoke/MethodHandle" ∧ yX4_againstJoin.cls ≠ "java/lang/invoke/VarHandle" ∧ (parseMethodDescriptor yX4_againstJoin.desc).map (fun d => d.parameters.length) = some 2 := by decide +kernel
def f_X4_againstJoin (h : PH) (a0 : Nat) (v1 : Int32) (v2 : Int32) : ZR Int32 :=
  zgP h a0 3 1 fun x101 =>
  zcl (f_X4_base h v1) fun x102 h103 =>
  znm (x102 + (1 : Int32)) fun x104 =>
  znn x101 fun a105 =>
  zaI h103 a105 0 x104 fun x106 =>
  zgP h103 a0 3 1 fun x107 =>
  zcl (f_X4_base h103 v2) fun x108 h109 =>
  znm (x108 + (1 : Int32)) fun x110 =>
  znn x107 fun a111 =>
  zaI h109 a111 0 x110 fun x112 =>
  if v1 = v2 then
    (zret (1 : Int32) h109)
  else
    (znm (x106 + x112) fun x113 =>
    if x113 ≤ (60 : Int32) then
      (if x106 ≤ 0 then
        (zret (0 : Int32) h109)
      else
        (if x112 ≤ 0 then
          (zret (0 : Int32) h109)
        else
          (zgP h109 a0 3 1 fun x114 =>
          zcl (f_X4_base h109 v1) fun x115 h116 =>
          znm (x115 + (2 : Int32)) fun x117 =>
          znm (x117 + x106) fun x118 =>
          znm (x118 - (1 : Int32)) fun x119 =>
          znn x114 fun a120 =>
          zaI h116 a120 0 x119 fun x121 =>
          zgP h116 a0 3 1 fun x122 =>
          zcl (f_X4_base h116 v2) fun x123 h124 =>
          znm (x123 + (2 : Int32)) fun x125 =>
          znn x122 fun a126 =>
          zaI h124 a126 0 x125 fun x127 =>
          if x121 < x127 then
            (zret (0 : Int32) h124)
          else
            (zret (3 : Int32) h124))))
    else
      (zret (2 : Int32) h109))
set_option maxHeartbeats 4000000 in
set_option maxRecDepth 100000 in
theorem m_X4_againstJoin (l : Launch) (D : va_G) (dA : Nat → ClassId) (b0 : Nat) (gs : Nat → Option Nat) (h : PH) (a0 : Nat) (v1 : Int32) (v2 : Int32) {r : Int32} {hh : PH} {mc ms : Nat} (hf : f_X4_againstJoin h a0 v1 v2 = some (r, hh, mc, ms)) : zMt l D dA b0 gs yX4_againstJoin cX4_againstJoin 5 (some .int) 2 80 [.ref a0, .int v1, .int v2] h (evI r) hh mc ms := by
  unfold f_X4_againstJoin at hf
  refine zMt.of (by decide) (Nat.le_of_ble_eq_true rfl) ?_
  intro p e s m args below meth c hc hr hin hn ls hl
  have hl : lv_has ls 5 [(0, .ref a0), (1, .int v1), (2, .int v2)] := hl
  have hq : 0 + mc = mc ∧ 0 + ms = ms := ⟨Nat.zero_add _, Nat.zero_add _⟩
  have hx := hc.x
  have hb := hc.b
  refine lv_aload_n (x := a0) hx hb dX4_againstJoin_0 rfl (lv_at hl 0 rfl) ?_
  refine zr_gP hc hn (ci := 3) rfl rfl in_X4 1 (by decide) q2100 (fun _ h => h) (fun _ _ _ => rfl) hf dX4_againstJoin_1 (fun x101 hf => ?_)
  refine lv_iload_n hx hb dX4_againstJoin_4 rfl (lv_at hl 1 rfl) ?_
  refine zr_cSI (As := [.int v1]) (rest := [va_rf x101]) hc hn hq hd_X4_base (lw_S q2284 q2285 q91 q2286) (Nat.le_of_ble_eq_true rfl) (Nat.le_of_ble_eq_true rfl) (fun _ _ _ _ q => m_X4_base l D dA b0 gs h v1 q) hf dX4_againstJoin_5 hl.1 rfl rfl (zroom (Nat.le_of_ble_eq_true rfl)) (fun x102 h103 H locs cells slots C9 S9 hf hq hn => ?_)
  refine lv_iconst (v := (1 : Int32)) hx hb dX4_againstJoin_8 (by decide) ?_
  refine lv_iadd hx hb dX4_againstJoin_9 ?_
  refine zr_nmI hf (fun x104 hf => ?_)
  obtain ⟨a105, e9, hf9⟩ := znn_i hf
  subst e9
  have hf := hf9
  clear hf9
  refine zr_aI0 hc hn hf dX4_againstJoin_10 (fun x106 hf => ?_)
  refine lv_istore_n (i := 3) (lv' := [(3, .int x106), (0, .ref a0), (1, .int v1), (2, .int v2)]) hx hb dX4_againstJoin_11 rfl hl (by decide) rfl (fun ls hl => ?_)
  refine lv_aload_n (x := a0) hx hb dX4_againstJoin_12 rfl (lv_at hl 1 rfl) ?_
  refine zr_gP hc hn (ci := 3) rfl rfl in_X4 1 (by decide) q2100 (fun _ h => h) (fun _ _ _ => rfl) hf dX4_againstJoin_13 (fun x107 hf => ?_)
  refine lv_iload_n hx hb dX4_againstJoin_16 rfl (lv_at hl 3 rfl) ?_
  refine zr_cSI (As := [.int v2]) (rest := [va_rf x107]) hc hn hq hd_X4_base (lw_S q2284 q2285 q91 q2286) (Nat.le_of_ble_eq_true rfl) (Nat.le_of_ble_eq_true rfl) (fun _ _ _ _ q => m_X4_base l D dA b0 gs h103 v2 q) hf dX4_againstJoin_17 hl.1 rfl rfl (zroom (Nat.le_of_ble_eq_true rfl)) (fun x108 h109 H locs cells slots C9 S9 hf hq hn => ?_)
  refine lv_iconst (v := (1 : Int32)) hx hb dX4_againstJoin_20 (by decide) ?_
  refine lv_iadd hx hb dX4_againstJoin_21 ?_
  refine zr_nmI hf (fun x110 hf => ?_)
  obtain ⟨a111, e9, hf9⟩ := znn_i hf
  subst e9
  have hf := hf9
  clear hf9
  refine zr_aI0 hc hn hf dX4_againstJoin_22 (fun x112 hf => ?_)
  refine lv_istore (lv' := [(4, .int x112), (3, .int x106), (0, .ref a0), (1, .int v1), (2, .int v2)]) hx hb dX4_againstJoin_23 hl (by decide) rfl (fun ls hl => ?_)
  refine lv_iload_n hx hb dX4_againstJoin_25 rfl (lv_at hl 3 rfl) ?_
  refine lv_iload_n hx hb dX4_againstJoin_26 rfl (lv_at hl 4 rfl) ?_
  refine lv_icmp_ne (tgt := 32) hx hb dX4_againstJoin_27 (by decide) (fun c9 => ?_) (fun c9 => ?_)
  · have hf := zif_f c9 hf
    refine lv_iload_n hx hb dX4_againstJoin_32 rfl (lv_at hl 1 rfl) ?_
    refine lv_iload hx hb dX4_againstJoin_33 (lv_at hl 0 rfl) ?_
    refine lv_iadd hx hb dX4_againstJoin_35 ?_
    refine zr_nmI hf (fun x113 hf => ?_)
    refine lv_bipush (v := (60 : Int32)) hx hb dX4_againstJoin_36 (by decide) ?_
    refine lv_icmp_le (tgt := 43) hx hb dX4_againstJoin_38 (by decide) (fun c9 => ?_) (fun c9 => ?_)
    · have hf := zif_t c9 hf
      refine lv_iload_n hx hb dX4_againstJoin_43 rfl (lv_at hl 1 rfl) ?_
      refine lv_if_le (tgt := 85) hx hb dX4_againstJoin_44 (by decide) (fun c9 => ?_) (fun c9 => ?_)
      · have hf := zif_t c9 hf
        refine lv_iconst (v := (0 : Int32)) hx hb dX4_againstJoin_85 (by decide) ?_
        obtain ⟨rfl, rfl, rfl, rfl⟩ := zret_i hf
        exact zr_iret hc hn hr hq (fun _ _ _ _ q => q) dX4_againstJoin_86
      · have hf := zif_f c9 hf
        refine lv_iload hx hb dX4_againstJoin_47 (lv_at hl 0 rfl) ?_
        refine lv_if_le (tgt := 85) hx hb dX4_againstJoin_49 (by decide) (fun c9 => ?_) (fun c9 => ?_)
        · have hf := zif_t c9 hf
          refine lv_iconst (v := (0 : Int32)) hx hb dX4_againstJoin_85 (by decide) ?_
          obtain ⟨rfl, rfl, rfl, rfl⟩ := zret_i hf
          exact zr_iret hc hn hr hq (fun _ _ _ _ q => q) dX4_againstJoin_86
        · have hf := zif_f c9 hf
          refine lv_aload_n (x := a0) hx hb dX4_againstJoin_52 rfl (lv_at hl 2 rfl) ?_
          refine zr_gP hc hn (ci := 3) rfl rfl in_X4 1 (by decide) q2100 (fun _ h => h) (fun _ _ _ => rfl) hf dX4_againstJoin_53 (fun x114 hf => ?_)
          refine lv_iload_n hx hb dX4_againstJoin_56 rfl (lv_at hl 3 rfl) ?_
          refine zr_cSI (As := [.int v1]) (rest := [va_rf x114]) hc hn hq hd_X4_base (lw_S q2284 q2285 q91 q2286) (Nat.le_of_ble_eq_true rfl) (Nat.le_of_ble_eq_true rfl) (fun _ _ _ _ q => m_X4_base l D dA b0 gs h109 v1 q) hf dX4_againstJoin_57 hl.1 rfl rfl (zroom (Nat.le_of_ble_eq_true rfl)) (fun x115 h116 H locs cells slots C9 S9 hf hq hn => ?_)
          refine lv_iconst (v := (2 : Int32)) hx hb dX4_againstJoin_60 (by decide) ?_
          refine lv_iadd hx hb dX4_againstJoin_61 ?_
          refine zr_nmI hf (fun x117 hf => ?_)
          refine lv_iload_n hx hb dX4_againstJoin_62 rfl (lv_at hl 1 rfl) ?_
          refine lv_iadd hx hb dX4_againstJoin_63 ?_
          refine zr_nmI hf (fun x118 hf => ?_)
          refine lv_iconst (v := (1 : Int32)) hx hb dX4_againstJoin_64 (by decide) ?_
          refine lv_isub hx hb dX4_againstJoin_65 ?_
          refine zr_nmI hf (fun x119 hf => ?_)
          obtain ⟨a120, e9, hf9⟩ := znn_i hf
          subst e9
          have hf := hf9
          clear hf9
          refine zr_aI0 hc hn hf dX4_againstJoin_66 (fun x121 hf => ?_)
          refine lv_aload_n (x := a0) hx hb dX4_againstJoin_67 rfl (lv_at hl 2 rfl) ?_
          refine zr_gP hc hn (ci := 3) rfl rfl in_X4 1 (by decide) q2100 (fun _ h => h) (fun _ _ _ => rfl) hf dX4_againstJoin_68 (fun x122 hf => ?_)
          refine lv_iload_n hx hb dX4_againstJoin_71 rfl (lv_at hl 4 rfl) ?_
          refine zr_cSI (As := [.int v2]) (rest := [va_rf x122, .int x121]) hc hn hq hd_X4_base (lw_S q2284 q2285 q91 q2286) (Nat.le_of_ble_eq_true rfl) (Nat.le_of_ble_eq_true rfl) (fun _ _ _ _ q => m_X4_base l D dA b0 gs h116 v2 q) hf dX4_againstJoin_72 hl.1 rfl rfl (zroom (Nat.le_of_ble_eq_true rfl)) (fun x123 h124 H locs cells slots C9 S9 hf hq hn => ?_)
          refine lv_iconst (v := (2 : Int32)) hx hb dX4_againstJoin_75 (by decide) ?_
          refine lv_iadd hx hb dX4_againstJoin_76 ?_
          refine zr_nmI hf (fun x125 hf => ?_)
          obtain ⟨a126, e9, hf9⟩ := znn_i hf
          subst e9
          have hf := hf9
          clear hf9
          refine zr_aI0 hc hn hf dX4_againstJoin_77 (fun x127 hf => ?_)
          refine lv_icmp_lt (tgt := 85) hx hb dX4_againstJoin_78 (by decide) (fun c9 => ?_) (fun c9 => ?_)
          · have hf := zif_t c9 hf
            refine lv_iconst (v := (0 : Int32)) hx hb dX4_againstJoin_85 (by decide) ?_
            obtain ⟨rfl, rfl, rfl, rfl⟩ := zret_i hf
            exact zr_iret hc hn hr hq (fun _ _ _ _ q => q) dX4_againstJoin_86
          · have hf := zif_f c9 hf
            refine lv_iconst (v := (3 : Int32)) hx hb dX4_againstJoin_81 (by decide) ?_
            refine lv_goto (tgt := 86) hx hb dX4_againstJoin_82 (by decide) ?_
            obtain ⟨rfl, rfl, rfl, rfl⟩ := zret_i hf
            exact zr_iret hc hn hr hq (fun _ _ _ _ q => q) dX4_againstJoin_86
    · have hf := zif_f c9 hf
      refine lv_iconst (v := (2 : Int32)) hx hb dX4_againstJoin_41 (by decide) ?_
      obtain ⟨rfl, rfl, rfl, rfl⟩ := zret_i hf
      exact zr_iret hc hn hr hq (fun _ _ _ _ q => q) dX4_againstJoin_42
  · have hf := zif_t c9 hf
    refine lv_iconst (v := (1 : Int32)) hx hb dX4_againstJoin_30 (by decide) ?_
    obtain ⟨rfl, rfl, rfl, rfl⟩ := zret_i hf
    exact zr_iret hc hn hr hq (fun _ _ _ _ q => q) dX4_againstJoin_31
theorem hd_X4_whyNotJoin : yX4_whyNotJoin.cls ≠ "java/lang/invoke/MethodHandle" ∧ yX4_whyNotJoin.cls ≠ "java/lang/invoke/VarHandle" ∧ (parseMethodDescriptor yX4_whyNotJoin.desc).map (fun d => d.parameters.length) = some 2 := by decide +kernel
def f_X4_whyNotJoin (h : PH) (a0 : Nat) (v1 : Int32) (v2 : Int32) : ZR Int32 :=
  zrc h a0 3 <| zcl (f_X4_areBoth h a0 v1 v2) fun x101 h102 =>
  if x101 = 0 then
    (zpI h102 a0 3 0 (1 : Int32) fun h103 =>
    zgI h103 a0 3 0 fun x104 =>
    if x104 ≤ 0 then
      (zrc h103 a0 3 <| zcl (f_X4_againstJoin h103 a0 v1 v2) fun x105 h106 =>
      zret x105 h106)
    else
      (zret (0 : Int32) h103))
  else
    (zpI h102 a0 3 0 (0 : Int32) fun h107 =>
    zgI h107 a0 3 0 fun x108 =>
    if x108 ≤ 0 then
      (zrc h107 a0 3 <| zcl (f_X4_againstJoin h107 a0 v1 v2) fun x109 h110 =>
      zret x109 h110)
    else
      (zret (0 : Int32) h107))
set_option maxHeartbeats 4000000 in
set_option maxRecDepth 100000 in
theorem m_X4_whyNotJoin (l : Launch) (D : va_G) (dA : Nat → ClassId) (b0 : Nat) (gs : Nat → Option Nat) (h : PH) (a0 : Nat) (v1 : Int32) (v2 : Int32) {r : Int32} {hh : PH} {mc ms : Nat} (hf : f_X4_whyNotJoin h a0 v1 v2 = some (r, hh, mc, ms)) : zMt l D dA b0 gs yX4_whyNotJoin cX4_whyNotJoin 3 (some .int) 4 128 [.ref a0, .int v1, .int v2] h (evI r) hh mc ms := by
  unfold f_X4_whyNotJoin at hf
  refine zMt.of (by decide) (Nat.le_of_ble_eq_true rfl) ?_
  intro p e s m args below meth c hc hr hin hn ls hl
  have hl : lv_has ls 3 [(0, .ref a0), (1, .int v1), (2, .int v2)] := hl
  have hq : 0 + mc = mc ∧ 0 + ms = ms := ⟨Nat.zero_add _, Nat.zero_add _⟩
  have hx := hc.x
  have hb := hc.b
  refine lv_aload_n (x := a0) hx hb dX4_whyNotJoin_0 rfl (lv_at hl 0 rfl) ?_
  refine lv_aload_n (x := a0) hx hb dX4_whyNotJoin_1 rfl (lv_at hl 0 rfl) ?_
  refine lv_iload_n hx hb dX4_whyNotJoin_2 rfl (lv_at hl 1 rfl) ?_
  refine lv_iload_n hx hb dX4_whyNotJoin_3 rfl (lv_at hl 2 rfl) ?_
  refine zr_cVI (As := [.int v1, .int v2]) (rest := [.ref a0]) hc hn hq (ci := 3) rfl ⟨rfl, hd_X4_areBoth⟩ (lw_V q2517 q2519 qs73 q91 q2520) (Nat.le_of_ble_eq_true rfl) (Nat.le_of_ble_eq_true rfl) (fun _ _ _ _ q => m_X4_areBoth l D dA b0 gs h a0 v1 v2 q) hf dX4_whyNotJoin_4 hl.1 rfl rfl (zroom (Nat.le_of_ble_eq_true rfl)) (fun x101 h102 H locs cells slots C9 S9 hf hq hn => ?_)
  refine lv_if_eq (tgt := 14) hx hb dX4_whyNotJoin_7 (by decide) (fun c9 => ?_) (fun c9 => ?_)
  · have hf := zif_t c9 hf
    refine lv_iconst (v := (1 : Int32)) hx hb dX4_whyNotJoin_14 (by decide) ?_
    refine zr_pI (x := (1 : Int32)) hc hn (ci := 3) rfl rfl in_X4 0 (by decide) tyX4 tyX4_ok nmX4 q2099 (fun _ h => h) (Or.inl rfl) (fun _ _ _ => rfl) rfl rfl hf dX4_whyNotJoin_15 (fun h103 H locs hf hn => ?_)
    refine lv_aload_n (x := a0) hx hb dX4_whyNotJoin_18 rfl (lv_at hl 0 rfl) ?_
    refine zr_gI hc hn (ci := 3) rfl rfl in_X4 0 (by decide) q2099 (fun _ h => h) (fun _ _ _ => rfl) hf dX4_whyNotJoin_19 (fun x104 hf => ?_)
    refine lv_if_le (tgt := 29) hx hb dX4_whyNotJoin_22 (by decide) (fun c9 => ?_) (fun c9 => ?_)
    · have hf := zif_t c9 hf
      refine lv_aload_n (x := a0) hx hb dX4_whyNotJoin_29 rfl (lv_at hl 0 rfl) ?_
      refine lv_iload_n hx hb dX4_whyNotJoin_30 rfl (lv_at hl 1 rfl) ?_
      refine lv_iload_n hx hb dX4_whyNotJoin_31 rfl (lv_at hl 2 rfl) ?_
      refine zr_cVI (As := [.int v1, .int v2]) (rest := []) hc hn hq (ci := 3) rfl ⟨rfl, hd_X4_againstJoin⟩ (lw_V q2521 q2523 qs74 q91 q2524) (Nat.le_of_ble_eq_true rfl) (Nat.le_of_ble_eq_true rfl) (fun _ _ _ _ q => m_X4_againstJoin l D dA b0 gs h103 a0 v1 v2 q) hf dX4_whyNotJoin_32 hl.1 rfl rfl (zroom (Nat.le_of_ble_eq_true rfl)) (fun x105 h106 H locs cells slots C9 S9 hf hq hn => ?_)
      obtain ⟨rfl, rfl, rfl, rfl⟩ := zret_i hf
      exact zr_iret hc hn hr hq (fun _ _ _ _ q => q) dX4_whyNotJoin_35
    · have hf := zif_f c9 hf
      refine lv_iconst (v := (0 : Int32)) hx hb dX4_whyNotJoin_25 (by decide) ?_
      refine lv_goto (tgt := 35) hx hb dX4_whyNotJoin_26 (by decide) ?_
      obtain ⟨rfl, rfl, rfl, rfl⟩ := zret_i hf
      exact zr_iret hc hn hr hq (fun _ _ _ _ q => q) dX4_whyNotJoin_35
  · have hf := zif_f c9 hf
    refine lv_iconst (v := (0 : Int32)) hx hb dX4_whyNotJoin_10 (by decide) ?_
    refine lv_goto (tgt := 15) hx hb dX4_whyNotJoin_11 (by decide) ?_
    refine zr_pI (x := (0 : Int32)) hc hn (ci := 3) rfl rfl in_X4 0 (by decide) tyX4 tyX4_ok nmX4 q2099 (fun _ h => h) (Or.inl rfl) (fun _ _ _ => rfl) rfl rfl hf dX4_whyNotJoin_15 (fun h107 H locs hf hn => ?_)
    refine lv_aload_n (x := a0) hx hb dX4_whyNotJoin_18 rfl (lv_at hl 0 rfl) ?_
    refine zr_gI hc hn (ci := 3) rfl rfl in_X4 0 (by decide) q2099 (fun _ h => h) (fun _ _ _ => rfl) hf dX4_whyNotJoin_19 (fun x108 hf => ?_)
    refine lv_if_le (tgt := 29) hx hb dX4_whyNotJoin_22 (by decide) (fun c9 => ?_) (fun c9 => ?_)
    · have hf := zif_t c9 hf
      refine lv_aload_n (x := a0) hx hb dX4_whyNotJoin_29 rfl (lv_at hl 0 rfl) ?_
      refine lv_iload_n hx hb dX4_whyNotJoin_30 rfl (lv_at hl 1 rfl) ?_
      refine lv_iload_n hx hb dX4_whyNotJoin_31 rfl (lv_at hl 2 rfl) ?_
      refine zr_cVI (As := [.int v1, .int v2]) (rest := []) hc hn hq (ci := 3) rfl ⟨rfl, hd_X4_againstJoin⟩ (lw_V q2521 q2523 qs74 q91 q2524) (Nat.le_of_ble_eq_true rfl) (Nat.le_of_ble_eq_true rfl) (fun _ _ _ _ q => m_X4_againstJoin l D dA b0 gs h107 a0 v1 v2 q) hf dX4_whyNotJoin_32 hl.1 rfl rfl (zroom (Nat.le_of_ble_eq_true rfl)) (fun x109 h110 H locs cells slots C9 S9 hf hq hn => ?_)
      obtain ⟨rfl, rfl, rfl, rfl⟩ := zret_i hf
      exact zr_iret hc hn hr hq (fun _ _ _ _ q => q) dX4_whyNotJoin_35
    · have hf := zif_f c9 hf
      refine lv_iconst (v := (0 : Int32)) hx hb dX4_whyNotJoin_25 (by decide) ?_
      refine lv_goto (tgt := 35) hx hb dX4_whyNotJoin_26 (by decide) ?_
      obtain ⟨rfl, rfl, rfl, rfl⟩ := zret_i hf
      exact zr_iret hc hn hr hq (fun _ _ _ _ q => q) dX4_whyNotJoin_35
