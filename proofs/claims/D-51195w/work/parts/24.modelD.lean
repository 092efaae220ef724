/-! 24.modelD (written by gen/mods.py) -/
set_option maxRecDepth 100000
theorem hd_X4_againstAbsorb : yX4_againstAbsorb.cls ≠ "java/lang/invoke/MethodHandle" ∧ yX4_againstAbsorb.cls ≠ "java/lang/invoke/VarHandle" ∧ (parseMethodDescriptor yX4_againstAbsorb.desc).map (fun d => d.parameters.length) = some 2 := by decide +kernel
def f_X4_againstAbsorb_b42 : Nat → PH → Nat → Int32 → Int32 → Int32 → Int32 → ZR Int32
  | 0 => fun _ _ _ _ _ _ => none
  | n + 1 => fun h a0 v1 v2 v3 v4 =>
    if v3 ≤ v4 then
      (zret (0 : Int32) h)
    else
      (zgP h a0 3 1 fun x101 =>
      zcl (f_X4_base h v2) fun x102 h103 =>
      znm (x102 + (2 : Int32)) fun x104 =>
      znm (x104 + v4) fun x105 =>
      znn x101 fun a106 =>
      zaI h103 a106 0 x105 fun x107 =>
      zrc h103 a0 3 <| zcl (f_X4_placeOf h103 a0 v1 x107) fun x108 h109 =>
      if x108 < 0 then
        (znm (v4 + (1 : Int32)) fun x110 =>
        f_X4_againstAbsorb_b42 n h109 a0 v1 v2 v3 x110)
      else
        (zret (3 : Int32) h109))
def f_X4_againstAbsorb (h : PH) (a0 : Nat) (v1 : Int32) (v2 : Int32) : ZR Int32 :=
  zgP h a0 3 1 fun x101 =>
  zcl (f_X4_base h v2) fun x102 h103 =>
  znm (x102 + (1 : Int32)) fun x104 =>
  znn x101 fun a105 =>
  zaI h103 a105 0 x104 fun x106 =>
  if v1 = v2 then
    (zret (1 : Int32) h103)
  else
    (zgP h103 a0 3 1 fun x107 =>
    zcl (f_X4_base h103 v1) fun x108 h109 =>
    znm (x108 + (1 : Int32)) fun x110 =>
    znn x107 fun a111 =>
    zaI h109 a111 0 x110 fun x112 =>
    znm (x112 + x106) fun x113 =>
    if x113 ≤ (60 : Int32) then
      (f_X4_againstAbsorb_b42 zFU h109 a0 v1 v2 x106 (0 : Int32))
    else
      (zret (2 : Int32) h109))
set_option maxHeartbeats 4000000 in
set_option maxRecDepth 100000 in
theorem m_X4_againstAbsorb_b42 {p : Program} {l : Launch} {e : Env} {s : State} {m : MethodId} {args : Array Value} {below : List Frame} {meth : Method} {c : Code} {D : va_G} {dA : Nat → ClassId} {b0 : Nat} {gs : Nat → Option Nat} (hc : zC D dA b0 gs yX4_againstAbsorb.cls cX4_againstAbsorb 5 p c s m args meth) (hr : meth.sig.returnType = (some .int)) (hin : meth.name = yX4_againstAbsorb.name) {r : Int32} {hh : PH} {mc ms : Nat} : ∀ (n : Nat) (h : PH) (a0 : Nat) (v1 : Int32) (v2 : Int32) (v3 : Int32) (v4 : Int32) (C9 S9 : Nat) (H : Heap) (locs : List Loc) (cells slots : Nat), f_X4_againstAbsorb_b42 n h a0 v1 v2 v3 v4 = some (r, hh, C9, S9) → cells + C9 = mc ∧ slots + S9 = ms → zM D dA b0 gs s h H locs → ∀ ls : Array Slot, lv_has ls 5 [(0, .ref a0), (1, .int v1), (2, .int v2), (3, .int v3), (4, .int v4)] → W p l e ({ frames := 4, cells := mc, slots := ms, locals := 127 } : Room) s m args below meth c H locs cells slots (MQ below (zQ D dA b0 gs (evI r) hh) args s mc ms (zA b0)) (F0 m 42 ls []) := by
  have hx := hc.x
  have hb := hc.b
  intro n
  induction n with
  | zero =>
    intro h a0 v1 v2 v3 v4 C9 S9 H locs cells slots hf hq hn ls hl
    cases hf
  | succ n ih =>
    intro h a0 v1 v2 v3 v4 C9 S9 H locs cells slots hf hq hn ls hl
    unfold f_X4_againstAbsorb_b42 at hf
    refine lv_iload hx hb dX4_againstAbsorb_42 (lv_at hl 4 rfl) ?_
    refine lv_iload_n hx hb dX4_againstAbsorb_44 rfl (lv_at hl 3 rfl) ?_
    refine lv_icmp_ge (tgt := 78) hx hb dX4_againstAbsorb_45 (by decide) (fun c9 => ?_) (fun c9 => ?_)
    · have hf := zif_t c9 hf
      refine lv_iconst (v := (0 : Int32)) hx hb dX4_againstAbsorb_78 (by decide) ?_
      obtain ⟨rfl, rfl, rfl, rfl⟩ := zret_i hf
      exact zr_iret hc hn hr hq (fun _ _ _ _ q => q) dX4_againstAbsorb_79
    · have hf := zif_f c9 hf
      refine lv_aload_n (x := a0) hx hb dX4_againstAbsorb_48 rfl (lv_at hl 0 rfl) ?_
      refine lv_iload_n hx hb dX4_againstAbsorb_49 rfl (lv_at hl 1 rfl) ?_
      refine lv_aload_n (x := a0) hx hb dX4_againstAbsorb_50 rfl (lv_at hl 0 rfl) ?_
      refine zr_gP hc hn (ci := 3) rfl rfl in_X4 1 (by decide) q2100 (fun _ h => h) (fun _ _ _ => rfl) hf dX4_againstAbsorb_51 (fun x101 hf => ?_)
      refine lv_iload_n hx hb dX4_againstAbsorb_54 rfl (lv_at hl 2 rfl) ?_
      refine zr_cSI (As := [.int v2]) (rest := [va_rf x101, .int v1, .ref a0]) hc hn hq hd_X4_base (lw_S q2284 q2285 q91 q2286) (Nat.le_of_ble_eq_true rfl) (Nat.le_of_ble_eq_true rfl) (fun _ _ _ _ q => m_X4_base l D dA b0 gs h v2 q) hf dX4_againstAbsorb_55 hl.1 rfl rfl (zroom (Nat.le_of_ble_eq_true rfl)) (fun x102 h103 H locs cells slots C9 S9 hf hq hn => ?_)
      refine lv_iconst (v := (2 : Int32)) hx hb dX4_againstAbsorb_58 (by decide) ?_
      refine lv_iadd hx hb dX4_againstAbsorb_59 ?_
      refine zr_nmI hf (fun x104 hf => ?_)
      refine lv_iload hx hb dX4_againstAbsorb_60 (lv_at hl 4 rfl) ?_
      refine lv_iadd hx hb dX4_againstAbsorb_62 ?_
      refine zr_nmI hf (fun x105 hf => ?_)
      obtain ⟨a106, e9, hf9⟩ := znn_i hf
      subst e9
      have hf := hf9
      clear hf9
      refine zr_aI0 hc hn hf dX4_againstAbsorb_63 (fun x107 hf => ?_)
      refine zr_cVI (As := [.int v1, .int x107]) (rest := []) hc hn hq (ci := 3) rfl ⟨rfl, hd_X4_placeOf⟩ (lw_V q2389 q2391 qs60 q91 q2392) (Nat.le_of_ble_eq_true rfl) (Nat.le_of_ble_eq_true rfl) (fun _ _ _ _ q => m_X4_placeOf l D dA b0 gs h103 a0 v1 x107 q) hf dX4_againstAbsorb_64 hl.1 rfl rfl (zroom (Nat.le_of_ble_eq_true rfl)) (fun x108 h109 H locs cells slots C9 S9 hf hq hn => ?_)
      refine lv_if_lt (tgt := 72) hx hb dX4_againstAbsorb_67 (by decide) (fun c9 => ?_) (fun c9 => ?_)
      · have hf := zif_t c9 hf
        obtain ⟨x110, ex110, hf⟩ := znm_i hf
        refine lv_iinc (v := x110) (lv' := [(4, .int x110), (0, .ref a0), (1, .int v1), (2, .int v2), (3, .int v3)]) hx hb dX4_againstAbsorb_72 hl (k := 4) rfl (by rw [ex110]; rfl) (by decide) rfl (fun ls hl => ?_)
        refine lv_goto (tgt := 42) hx hb dX4_againstAbsorb_75 (by decide) ?_
        exact ih h109 a0 v1 v2 v3 x110 _ _ _ _ _ _ hf hq hn _ (lv_sub hl [1, 2, 3, 4, 0] rfl)
      · have hf := zif_f c9 hf
        refine lv_iconst (v := (3 : Int32)) hx hb dX4_againstAbsorb_70 (by decide) ?_
        obtain ⟨rfl, rfl, rfl, rfl⟩ := zret_i hf
        exact zr_iret hc hn hr hq (fun _ _ _ _ q => q) dX4_againstAbsorb_71
set_option maxHeartbeats 4000000 in
set_option maxRecDepth 100000 in
theorem m_X4_againstAbsorb (l : Launch) (D : va_G) (dA : Nat → ClassId) (b0 : Nat) (gs : Nat → Option Nat) (h : PH) (a0 : Nat) (v1 : Int32) (v2 : Int32) {r : Int32} {hh : PH} {mc ms : Nat} (hf : f_X4_againstAbsorb h a0 v1 v2 = some (r, hh, mc, ms)) : zMt l D dA b0 gs yX4_againstAbsorb cX4_againstAbsorb 5 (some .int) 4 127 [.ref a0, .int v1, .int v2] h (evI r) hh mc ms := by
  unfold f_X4_againstAbsorb at hf
  refine zMt.of (by decide) (Nat.le_of_ble_eq_true rfl) ?_
  intro p e s m args below meth c hc hr hin hn ls hl
  have hl : lv_has ls 5 [(0, .ref a0), (1, .int v1), (2, .int v2)] := hl
  have hq : 0 + mc = mc ∧ 0 + ms = ms := ⟨Nat.zero_add _, Nat.zero_add _⟩
  have hx := hc.x
  have hb := hc.b
  refine lv_aload_n (x := a0) hx hb dX4_againstAbsorb_0 rfl (lv_at hl 0 rfl) ?_
  refine zr_gP hc hn (ci := 3) rfl rfl in_X4 1 (by decide) q2100 (fun _ h => h) (fun _ _ _ => rfl) hf dX4_againstAbsorb_1 (fun x101 hf => ?_)
  refine lv_iload_n hx hb dX4_againstAbsorb_4 rfl (lv_at hl 2 rfl) ?_
  refine zr_cSI (As := [.int v2]) (rest := [va_rf x101]) hc hn hq hd_X4_base (lw_S q2284 q2285 q91 q2286) (Nat.le_of_ble_eq_true rfl) (Nat.le_of_ble_eq_true rfl) (fun _ _ _ _ q => m_X4_base l D dA b0 gs h v2 q) hf dX4_againstAbsorb_5 hl.1 rfl rfl (zroom (Nat.le_of_ble_eq_true rfl)) (fun x102 h103 H locs cells slots C9 S9 hf hq hn => ?_)
  refine lv_iconst (v := (1 : Int32)) hx hb dX4_againstAbsorb_8 (by decide) ?_
  refine lv_iadd hx hb dX4_againstAbsorb_9 ?_
  refine zr_nmI hf (fun x104 hf => ?_)
  obtain ⟨a105, e9, hf9⟩ := znn_i hf
  subst e9
  have hf := hf9
  clear hf9
  refine zr_aI0 hc hn hf dX4_againstAbsorb_10 (fun x106 hf => ?_)
  refine lv_istore_n (i := 3) (lv' := [(3, .int x106), (0, .ref a0), (1, .int v1), (2, .int v2)]) hx hb dX4_againstAbsorb_11 rfl hl (by decide) rfl (fun ls hl => ?_)
  refine lv_iload_n hx hb dX4_againstAbsorb_12 rfl (lv_at hl 2 rfl) ?_
  refine lv_iload_n hx hb dX4_againstAbsorb_13 rfl (lv_at hl 3 rfl) ?_
  refine lv_icmp_ne (tgt := 19) hx hb dX4_againstAbsorb_14 (by decide) (fun c9 => ?_) (fun c9 => ?_)
  · have hf := zif_f c9 hf
    refine lv_aload_n (x := a0) hx hb dX4_againstAbsorb_19 rfl (lv_at hl 1 rfl) ?_
    refine zr_gP hc hn (ci := 3) rfl rfl in_X4 1 (by decide) q2100 (fun _ h => h) (fun _ _ _ => rfl) hf dX4_againstAbsorb_20 (fun x107 hf => ?_)
    refine lv_iload_n hx hb dX4_againstAbsorb_23 rfl (lv_at hl 2 rfl) ?_
    refine zr_cSI (As := [.int v1]) (rest := [va_rf x107]) hc hn hq hd_X4_base (lw_S q2284 q2285 q91 q2286) (Nat.le_of_ble_eq_true rfl) (Nat.le_of_ble_eq_true rfl) (fun _ _ _ _ q => m_X4_base l D dA b0 gs h103 v1 q) hf dX4_againstAbsorb_24 hl.1 rfl rfl (zroom (Nat.le_of_ble_eq_true rfl)) (fun x108 h109 H locs cells slots C9 S9 hf hq hn => ?_)
    refine lv_iconst (v := (1 : Int32)) hx hb dX4_againstAbsorb_27 (by decide) ?_
    refine lv_iadd hx hb dX4_againstAbsorb_28 ?_
    refine zr_nmI hf (fun x110 hf => ?_)
    obtain ⟨a111, e9, hf9⟩ := znn_i hf
    subst e9
    have hf := hf9
    clear hf9
    refine zr_aI0 hc hn hf dX4_againstAbsorb_29 (fun x112 hf => ?_)
    refine lv_iload_n hx hb dX4_againstAbsorb_30 rfl (lv_at hl 0 rfl) ?_
    refine lv_iadd hx hb dX4_againstAbsorb_31 ?_
    refine zr_nmI hf (fun x113 hf => ?_)
    refine lv_bipush (v := (60 : Int32)) hx hb dX4_againstAbsorb_32 (by decide) ?_
    refine lv_icmp_le (tgt := 39) hx hb dX4_againstAbsorb_34 (by decide) (fun c9 => ?_) (fun c9 => ?_)
    · have hf := zif_t c9 hf
      refine lv_iconst (v := (0 : Int32)) hx hb dX4_againstAbsorb_39 (by decide) ?_
      refine lv_istore (lv' := [(4, .int (0 : Int32)), (3, .int x106), (0, .ref a0), (1, .int v1), (2, .int v2)]) hx hb dX4_againstAbsorb_40 hl (by decide) rfl (fun ls hl => ?_)
      exact m_X4_againstAbsorb_b42 hc hr hin zFU h109 a0 v1 v2 x106 (0 : Int32) _ _ _ _ _ _ hf hq hn _ (lv_sub hl [2, 3, 4, 1, 0] rfl)
    · have hf := zif_f c9 hf
      refine lv_iconst (v := (2 : Int32)) hx hb dX4_againstAbsorb_37 (by decide) ?_
      obtain ⟨rfl, rfl, rfl, rfl⟩ := zret_i hf
      exact zr_iret hc hn hr hq (fun _ _ _ _ q => q) dX4_againstAbsorb_38
  · have hf := zif_t c9 hf
    refine lv_iconst (v := (1 : Int32)) hx hb dX4_againstAbsorb_17 (by decide) ?_
    obtain ⟨rfl, rfl, rfl, rfl⟩ := zret_i hf
    exact zr_iret hc hn hr hq (fun _ _ _ _ q => q) dX4_againstAbsorb_18
theorem hd_X4_whyNotAbsorb : yX4_whyNotAbsorb.cls ≠ "java/lang/invoke/MethodHandle" ∧ yX4_whyNotAbsorb.cls ≠ "java/lang/invoke/VarHandle" ∧ (parseMethodDescriptor yX4_whyNotAbsorb.desc).map (fun d => d.parameters.length) = some 2 := by decide +kernel
def f_X4_whyNotAbsorb (h : PH) (a0 : Nat) (v1 : Int32) (v2 : Int32) : ZR Int32 :=
  zrc h a0 3 <| zcl (f_X4_areBoth h a0 v1 v2) fun x101 h102 =>
  if x101 = 0 then
    (zpI h102 a0 3 0 (1 : Int32) fun h103 =>
    zgI h103 a0 3 0 fun x104 =>
    if x104 ≤ 0 then
      (zrc h103 a0 3 <| zcl (f_X4_againstAbsorb h103 a0 v1 v2) fun x105 h106 =>
      zret x105 h106)
    else
      (zret (0 : Int32) h103))
  else
    (zpI h102 a0 3 0 (0 : Int32) fun h107 =>
    zgI h107 a0 3 0 fun x108 =>
    if x108 ≤ 0 then
      (zrc h107 a0 3 <| zcl (f_X4_againstAbsorb h107 a0 v1 v2) fun x109 h110 =>
      zret x109 h110)
    else
      (zret (0 : Int32) h107))
set_option maxHeartbeats 4000000 in
set_option maxRecDepth 100000 in
theorem m_X4_whyNotAbsorb (l : Launch) (D : va_G) (dA : Nat → ClassId) (b0 : Nat) (gs : Nat → Option Nat) (h : PH) (a0 : Nat) (v1 : Int32) (v2 : Int32) {r : Int32} {hh : PH} {mc ms : Nat} (hf : f_X4_whyNotAbsorb h a0 v1 v2 = some (r, hh, mc, ms)) : zMt l D dA b0 gs yX4_whyNotAbsorb cX4_whyNotAbsorb 3 (some .int) 5 151 [.ref a0, .int v1, .int v2] h (evI r) hh mc ms := by
  unfold f_X4_whyNotAbsorb at hf
  refine zMt.of (by decide) (Nat.le_of_ble_eq_true rfl) ?_
  intro p e s m args below meth c hc hr hin hn ls hl
  have hl : lv_has ls 3 [(0, .ref a0), (1, .int v1), (2, .int v2)] := hl
  have hq : 0 + mc = mc ∧ 0 + ms = ms := ⟨Nat.zero_add _, Nat.zero_add _⟩
  have hx := hc.x
  have hb := hc.b
  refine lv_aload_n (x := a0) hx hb dX4_whyNotAbsorb_0 rfl (lv_at hl 0 rfl) ?_
  refine lv_aload_n (x := a0) hx hb dX4_whyNotAbsorb_1 rfl (lv_at hl 0 rfl) ?_
  refine lv_iload_n hx hb dX4_whyNotAbsorb_2 rfl (lv_at hl 1 rfl) ?_
  refine lv_iload_n hx hb dX4_whyNotAbsorb_3 rfl (lv_at hl 2 rfl) ?_
  refine zr_cVI (As := [.int v1, .int v2]) (rest := [.ref a0]) hc hn hq (ci := 3) rfl ⟨rfl, hd_X4_areBoth⟩ (lw_V q2517 q2519 qs73 q91 q2520) (Nat.le_of_ble_eq_true rfl) (Nat.le_of_ble_eq_true rfl) (fun _ _ _ _ q => m_X4_areBoth l D dA b0 gs h a0 v1 v2 q) hf dX4_whyNotAbsorb_4 hl.1 rfl rfl (zroom (Nat.le_of_ble_eq_true rfl)) (fun x101 h102 H locs cells slots C9 S9 hf hq hn => ?_)
  refine lv_if_eq (tgt := 14) hx hb dX4_whyNotAbsorb_7 (by decide) (fun c9 => ?_) (fun c9 => ?_)
  · have hf := zif_t c9 hf
    refine lv_iconst (v := (1 : Int32)) hx hb dX4_whyNotAbsorb_14 (by decide) ?_
    refine zr_pI (x := (1 : Int32)) hc hn (ci := 3) rfl rfl in_X4 0 (by decide) tyX4 tyX4_ok nmX4 q2099 (fun _ h => h) (Or.inl rfl) (fun _ _ _ => rfl) rfl rfl hf dX4_whyNotAbsorb_15 (fun h103 H locs hf hn => ?_)
    refine lv_aload_n (x := a0) hx hb dX4_whyNotAbsorb_18 rfl (lv_at hl 0 rfl) ?_
    refine zr_gI hc hn (ci := 3) rfl rfl in_X4 0 (by decide) q2099 (fun _ h => h) (fun _ _ _ => rfl) hf dX4_whyNotAbsorb_19 (fun x104 hf => ?_)
    refine lv_if_le (tgt := 29) hx hb dX4_whyNotAbsorb_22 (by decide) (fun c9 => ?_) (fun c9 => ?_)
    · have hf := zif_t c9 hf
      refine lv_aload_n (x := a0) hx hb dX4_whyNotAbsorb_29 rfl (lv_at hl 0 rfl) ?_
      refine lv_iload_n hx hb dX4_whyNotAbsorb_30 rfl (lv_at hl 1 rfl) ?_
      refine lv_iload_n hx hb dX4_whyNotAbsorb_31 rfl (lv_at hl 2 rfl) ?_
      refine zr_cVI (As := [.int v1, .int v2]) (rest := []) hc hn hq (ci := 3) rfl ⟨rfl, hd_X4_againstAbsorb⟩ (lw_V q2529 q2531 qs75 q91 q2532) (Nat.le_of_ble_eq_true rfl) (Nat.le_of_ble_eq_true rfl) (fun _ _ _ _ q => m_X4_againstAbsorb l D dA b0 gs h103 a0 v1 v2 q) hf dX4_whyNotAbsorb_32 hl.1 rfl rfl (zroom (Nat.le_of_ble_eq_true rfl)) (fun x105 h106 H locs cells slots C9 S9 hf hq hn => ?_)
      obtain ⟨rfl, rfl, rfl, rfl⟩ := zret_i hf
      exact zr_iret hc hn hr hq (fun _ _ _ _ q => q) dX4_whyNotAbsorb_35
    · have hf := zif_f c9 hf
      refine lv_iconst (v := (0 : Int32)) hx hb dX4_whyNotAbsorb_25 (by decide) ?_
      refine lv_goto (tgt := 35) hx hb dX4_whyNotAbsorb_26 (by decide) ?_
      obtain ⟨rfl, rfl, rfl, rfl⟩ := zret_i hf
      exact zr_iret hc hn hr hq (fun _ _ _ _ q => q) dX4_whyNotAbsorb_35
  · have hf := zif_f c9 hf
    refine lv_iconst (v := (0 : Int32)) hx hb dX4_whyNotAbsorb_10 (by decide) ?_
    refine lv_goto (tgt := 15) hx hb dX4_whyNotAbsorb_11 (by decide) ?_
    refine zr_pI (x := (0 : Int32)) hc hn (ci := 3) rfl rfl in_X4 0 (by decide) tyX4 tyX4_ok nmX4 q2099 (fun _ h => h) (Or.inl rfl) (fun _ _ _ => rfl) rfl rfl hf dX4_whyNotAbsorb_15 (fun h107 H locs hf hn => ?_)
    refine lv_aload_n (x := a0) hx hb dX4_whyNotAbsorb_18 rfl (lv_at hl 0 rfl) ?_
    refine zr_gI hc hn (ci := 3) rfl rfl in_X4 0 (by decide) q2099 (fun _ h => h) (fun _ _ _ => rfl) hf dX4_whyNotAbsorb_19 (fun x108 hf => ?_)
    refine lv_if_le (tgt := 29) hx hb dX4_whyNotAbsorb_22 (by decide) (fun c9 => ?_) (fun c9 => ?_)
    · have hf := zif_t c9 hf
      refine lv_aload_n (x := a0) hx hb dX4_whyNotAbsorb_29 rfl (lv_at hl 0 rfl) ?_
      refine lv_iload_n hx hb dX4_whyNotAbsorb_30 rfl (lv_at hl 1 rfl) ?_
      refine lv_iload_n hx hb dX4_whyNotAbsorb_31 rfl (lv_at hl 2 rfl) ?_
      refine zr_cVI (As := [.int v1, .int v2]) (rest := []) hc hn hq (ci := 3) rfl ⟨rfl, hd_X4_againstAbsorb⟩ (lw_V q2529 q2531 qs75 q91 q2532) (Nat.le_of_ble_eq_true rfl) (Nat.le_of_ble_eq_true rfl) (fun _ _ _ _ q => m_X4_againstAbsorb l D dA b0 gs h107 a0 v1 v2 q) hf dX4_whyNotAbsorb_32 hl.1 rfl rfl (zroom (Nat.le_of_ble_eq_true rfl)) (fun x109 h110 H locs cells slots C9 S9 hf hq hn => ?_)
      obtain ⟨rfl, rfl, rfl, rfl⟩ := zret_i hf
      exact zr_iret hc hn hr hq (fun _ _ _ _ q => q) dX4_whyNotAbsorb_35
    · have hf := zif_f c9 hf
      refine lv_iconst (v := (0 : Int32)) hx hb dX4_whyNotAbsorb_25 (by decide) ?_
      refine lv_goto (tgt := 35) hx hb dX4_whyNotAbsorb_26 (by decide) ?_
      obtain ⟨rfl, rfl, rfl, rfl⟩ := zret_i hf
      exact zr_iret hc hn hr hq (fun _ _ _ _ q => q) dX4_whyNotAbsorb_35
theorem hd_X4_logSize : yX4_logSize.cls ≠ "java/lang/invoke/MethodHandle" ∧ yX4_logSize.cls ≠ "java/lang/invoke/VarHandle" ∧ (parseMethodDescriptor yX4_logSize.desc).map (fun d => d.parameters.length) = some 0 := by decide +kernel
def f_X4_logSize (h : PH) (a0 : Nat) : ZR Int32 :=
  zpI h a0 3 0 (0 : Int32) fun h101 =>
  zgP h101 a0 3 1 fun x102 =>
  znn x102 fun a103 =>
  zaI h101 a103 0 (7 : Int32) fun x104 =>
  zret x104 h101
set_option maxHeartbeats 4000000 in
set_option maxRecDepth 100000 in
theorem m_X4_logSize (l : Launch) (D : va_G) (dA : Nat → ClassId) (b0 : Nat) (gs : Nat → Option Nat) (h : PH) (a0 : Nat) {r : Int32} {hh : PH} {mc ms : Nat} (hf : f_X4_logSize h a0 = some (r, hh, mc, ms)) : zMt l D dA b0 gs yX4_logSize cX4_logSize 1 (some .int) 1 60 [.ref a0] h (evI r) hh mc ms := by
  unfold f_X4_logSize at hf
  refine zMt.of (by decide) (Nat.le_of_ble_eq_true rfl) ?_
  intro p e s m args below meth c hc hr hin hn ls hl
  have hl : lv_has ls 1 [(0, .ref a0)] := hl
  have hq : 0 + mc = mc ∧ 0 + ms = ms := ⟨Nat.zero_add _, Nat.zero_add _⟩
  have hx := hc.x
  have hb := hc.b
  refine lv_aload_n (x := a0) hx hb dX4_logSize_0 rfl (lv_at hl 0 rfl) ?_
  refine lv_iconst (v := (0 : Int32)) hx hb dX4_logSize_1 (by decide) ?_
  refine zr_pI (x := (0 : Int32)) hc hn (ci := 3) rfl rfl in_X4 0 (by decide) tyX4 tyX4_ok nmX4 q2099 (fun _ h => h) (Or.inl rfl) (fun _ _ _ => rfl) rfl rfl hf dX4_logSize_2 (fun h101 H locs hf hn => ?_)
  refine lv_aload_n (x := a0) hx hb dX4_logSize_5 rfl (lv_at hl 0 rfl) ?_
  refine zr_gP hc hn (ci := 3) rfl rfl in_X4 1 (by decide) q2100 (fun _ h => h) (fun _ _ _ => rfl) hf dX4_logSize_6 (fun x102 hf => ?_)
  refine lv_bipush (v := (7 : Int32)) hx hb dX4_logSize_9 (by decide) ?_
  obtain ⟨a103, e9, hf9⟩ := znn_i hf
  subst e9
  have hf := hf9
  clear hf9
  refine zr_aI0 hc hn hf dX4_logSize_11 (fun x104 hf => ?_)
  obtain ⟨rfl, rfl, rfl, rfl⟩ := zret_i hf
  exact zr_iret hc hn hr hq (fun _ _ _ _ q => q) dX4_logSize_12
theorem hd_X4_entryAt : yX4_entryAt.cls ≠ "java/lang/invoke/MethodHandle" ∧ yX4_entryAt.cls ≠ "java/lang/invoke/VarHandle" ∧ (parseMethodDescriptor yX4_entryAt.desc).map (fun d => d.parameters.length) = some 2 := by decide +kernel
def f_X4_entryAt_b25 (h : PH) (a0 : Nat) (v1 : Int32) (v2 : Int32) (s0 : Nat) (s1 : Int32) : ZR Int32 :=
  zpI h s0 3 0 s1 fun h101 =>
  zgI h101 a0 3 0 fun x102 =>
  if x102 ≤ 0 then
    (zgP h101 a0 3 1 fun x103 =>
    znm ((3 : Int32) * v1) fun x104 =>
    znm ((1100 : Int32) + x104) fun x105 =>
    znm (x105 + v2) fun x106 =>
    znn x103 fun a107 =>
    zaI h101 a107 0 x106 fun x108 =>
    zret x108 h101)
  else
    (zret (0 : Int32) h101)
def f_X4_entryAt (h : PH) (a0 : Nat) (v1 : Int32) (v2 : Int32) : ZR Int32 :=
  znm v1.toInt64 fun x101 =>
  zgP h a0 3 1 fun x102 =>
  znn x102 fun a103 =>
  zaI h a103 0 (7 : Int32) fun x104 =>
  znm (x104 - (1 : Int32)) fun x105 =>
  znm x105.toInt64 fun x106 =>
  zcl (f_X4_in h x101 (0 : Int64) x106) fun x107 h108 =>
  if x107 = 0 then
    (f_X4_entryAt_b25 h108 a0 v1 v2 a0 (1 : Int32))
  else
    (f_X4_entryAt_b25 h108 a0 v1 v2 a0 (0 : Int32))
set_option maxHeartbeats 4000000 in
set_option maxRecDepth 100000 in
theorem m_X4_entryAt_b25 {p : Program} {l : Launch} {e : Env} {s : State} {m : MethodId} {args : Array Value} {below : List Frame} {meth : Method} {c : Code} {D : va_G} {dA : Nat → ClassId} {b0 : Nat} {gs : Nat → Option Nat} (hc : zC D dA b0 gs yX4_entryAt.cls cX4_entryAt 3 p c s m args meth) (hr : meth.sig.returnType = (some .int)) (hin : meth.name = yX4_entryAt.name) {r : Int32} {hh : PH} {mc ms : Nat} : ∀ (h : PH) (a0 : Nat) (v1 : Int32) (v2 : Int32) (s0 : Nat) (s1 : Int32) (C9 S9 : Nat) (H : Heap) (locs : List Loc) (cells slots : Nat), f_X4_entryAt_b25 h a0 v1 v2 s0 s1 = some (r, hh, C9, S9) → cells + C9 = mc ∧ slots + S9 = ms → zM D dA b0 gs s h H locs → ∀ ls : Array Slot, lv_has ls 3 [(0, .ref a0), (1, .int v1), (2, .int v2)] → W p l e ({ frames := 2, cells := mc, slots := ms, locals := 85 } : Room) s m args below meth c H locs cells slots (MQ below (zQ D dA b0 gs (evI r) hh) args s mc ms (zA b0)) (F0 m 25 ls [.int s1, .ref s0]) := by
  have hx := hc.x
  have hb := hc.b
  intro h a0 v1 v2 s0 s1 C9 S9 H locs cells slots hf hq hn ls hl
  unfold f_X4_entryAt_b25 at hf
  refine zr_pI (x := s1) hc hn (ci := 3) rfl rfl in_X4 0 (by decide) tyX4 tyX4_ok nmX4 q2099 (fun _ h => h) (Or.inl rfl) (fun _ _ _ => rfl) rfl rfl hf dX4_entryAt_25 (fun h101 H locs hf hn => ?_)
  refine lv_aload_n (x := a0) hx hb dX4_entryAt_28 rfl (lv_at hl 0 rfl) ?_
  refine zr_gI hc hn (ci := 3) rfl rfl in_X4 0 (by decide) q2099 (fun _ h => h) (fun _ _ _ => rfl) hf dX4_entryAt_29 (fun x102 hf => ?_)
  refine lv_if_le (tgt := 39) hx hb dX4_entryAt_32 (by decide) (fun c9 => ?_) (fun c9 => ?_)
  · have hf := zif_t c9 hf
    refine lv_aload_n (x := a0) hx hb dX4_entryAt_39 rfl (lv_at hl 0 rfl) ?_
    refine zr_gP hc hn (ci := 3) rfl rfl in_X4 1 (by decide) q2100 (fun _ h => h) (fun _ _ _ => rfl) hf dX4_entryAt_40 (fun x103 hf => ?_)
    refine lv_sipush (v := (1100 : Int32)) hx hb dX4_entryAt_43 (by decide) ?_
    refine lv_iconst (v := (3 : Int32)) hx hb dX4_entryAt_46 (by decide) ?_
    refine lv_iload_n hx hb dX4_entryAt_47 rfl (lv_at hl 1 rfl) ?_
    refine lv_imul hx hb dX4_entryAt_48 ?_
    refine zr_nmI hf (fun x104 hf => ?_)
    refine lv_iadd hx hb dX4_entryAt_49 ?_
    refine zr_nmI hf (fun x105 hf => ?_)
    refine lv_iload_n hx hb dX4_entryAt_50 rfl (lv_at hl 2 rfl) ?_
    refine lv_iadd hx hb dX4_entryAt_51 ?_
    refine zr_nmI hf (fun x106 hf => ?_)
    obtain ⟨a107, e9, hf9⟩ := znn_i hf
    subst e9
    have hf := hf9
    clear hf9
    refine zr_aI0 hc hn hf dX4_entryAt_52 (fun x108 hf => ?_)
    obtain ⟨rfl, rfl, rfl, rfl⟩ := zret_i hf
    exact zr_iret hc hn hr hq (fun _ _ _ _ q => q) dX4_entryAt_53
  · have hf := zif_f c9 hf
    refine lv_iconst (v := (0 : Int32)) hx hb dX4_entryAt_35 (by decide) ?_
    refine lv_goto (tgt := 53) hx hb dX4_entryAt_36 (by decide) ?_
    obtain ⟨rfl, rfl, rfl, rfl⟩ := zret_i hf
    exact zr_iret hc hn hr hq (fun _ _ _ _ q => q) dX4_entryAt_53
set_option maxHeartbeats 4000000 in
set_option maxRecDepth 100000 in
theorem m_X4_entryAt (l : Launch) (D : va_G) (dA : Nat → ClassId) (b0 : Nat) (gs : Nat → Option Nat) (h : PH) (a0 : Nat) (v1 : Int32) (v2 : Int32) {r : Int32} {hh : PH} {mc ms : Nat} (hf : f_X4_entryAt h a0 v1 v2 = some (r, hh, mc, ms)) : zMt l D dA b0 gs yX4_entryAt cX4_entryAt 3 (some .int) 2 85 [.ref a0, .int v1, .int v2] h (evI r) hh mc ms := by
  unfold f_X4_entryAt at hf
  refine zMt.of (by decide) (Nat.le_of_ble_eq_true rfl) ?_
  intro p e s m args below meth c hc hr hin hn ls hl
  have hl : lv_has ls 3 [(0, .ref a0), (1, .int v1), (2, .int v2)] := hl
  have hq : 0 + mc = mc ∧ 0 + ms = ms := ⟨Nat.zero_add _, Nat.zero_add _⟩
  have hx := hc.x
  have hb := hc.b
  refine lv_aload_n (x := a0) hx hb dX4_entryAt_0 rfl (lv_at hl 0 rfl) ?_
  refine lv_iload_n hx hb dX4_entryAt_1 rfl (lv_at hl 1 rfl) ?_
  refine lv_i2l (v := v1.toInt64) hx hb dX4_entryAt_2 rfl ?_
  refine zr_nmL hf (fun x101 hf => ?_)
  refine lv_lconst (v := (0 : Int64)) hx hb dX4_entryAt_3 (by decide) ?_
  refine lv_aload_n (x := a0) hx hb dX4_entryAt_4 rfl (lv_at hl 0 rfl) ?_
  refine zr_gP hc hn (ci := 3) rfl rfl in_X4 1 (by decide) q2100 (fun _ h => h) (fun _ _ _ => rfl) hf dX4_entryAt_5 (fun x102 hf => ?_)
  refine lv_bipush (v := (7 : Int32)) hx hb dX4_entryAt_8 (by decide) ?_
  obtain ⟨a103, e9, hf9⟩ := znn_i hf
  subst e9
  have hf := hf9
  clear hf9
  refine zr_aI0 hc hn hf dX4_entryAt_10 (fun x104 hf => ?_)
  refine lv_iconst (v := (1 : Int32)) hx hb dX4_entryAt_11 (by decide) ?_
  refine lv_isub hx hb dX4_entryAt_12 ?_
  refine zr_nmI hf (fun x105 hf => ?_)
  refine lv_i2l (v := x105.toInt64) hx hb dX4_entryAt_13 rfl ?_
  refine zr_nmL hf (fun x106 hf => ?_)
  refine zr_cSI (As := [.long x101, .long (0 : Int64), .long x106]) (rest := [.ref a0]) hc hn hq hd_X4_in (lw_S q2211 q2212 q91 q2213) (Nat.le_of_ble_eq_true rfl) (Nat.le_of_ble_eq_true rfl) (fun _ _ _ _ q => m_X4_in l D dA b0 gs h x101 (0 : Int64) x106 q) hf dX4_entryAt_14 hl.1 rfl rfl (zroom (Nat.le_of_ble_eq_true rfl)) (fun x107 h108 H locs cells slots C9 S9 hf hq hn => ?_)
  refine lv_if_eq (tgt := 24) hx hb dX4_entryAt_17 (by decide) (fun c9 => ?_) (fun c9 => ?_)
  · have hf := zif_t c9 hf
    refine lv_iconst (v := (1 : Int32)) hx hb dX4_entryAt_24 (by decide) ?_
    exact m_X4_entryAt_b25 hc hr hin h108 a0 v1 v2 a0 (1 : Int32) _ _ _ _ _ _ hf hq hn _ (lv_sub hl [0, 1, 2] rfl)
  · have hf := zif_f c9 hf
    refine lv_iconst (v := (0 : Int32)) hx hb dX4_entryAt_20 (by decide) ?_
    refine lv_goto (tgt := 25) hx hb dX4_entryAt_21 (by decide) ?_
    exact m_X4_entryAt_b25 hc hr hin h108 a0 v1 v2 a0 (0 : Int32) _ _ _ _ _ _ hf hq hn _ (lv_sub hl [0, 1, 2] rfl)
theorem hd_X4_logKind : yX4_logKind.cls ≠ "java/lang/invoke/MethodHandle" ∧ yX4_logKind.cls ≠ "java/lang/invoke/VarHandle" ∧ (parseMethodDescriptor yX4_logKind.desc).map (fun d => d.parameters.length) = some 1 := by decide +kernel
def f_X4_logKind (h : PH) (a0 : Nat) (v1 : Int32) : ZR Int32 :=
  zrc h a0 3 <| zcl (f_X4_entryAt h a0 v1 (0 : Int32)) fun x101 h102 =>
  zret x101 h102
set_option maxHeartbeats 4000000 in
set_option maxRecDepth 100000 in
theorem m_X4_logKind (l : Launch) (D : va_G) (dA : Nat → ClassId) (b0 : Nat) (gs : Nat → Option Nat) (h : PH) (a0 : Nat) (v1 : Int32) {r : Int32} {hh : PH} {mc ms : Nat} (hf : f_X4_logKind h a0 v1 = some (r, hh, mc, ms)) : zMt l D dA b0 gs yX4_logKind cX4_logKind 2 (some .int) 3 107 [.ref a0, .int v1] h (evI r) hh mc ms := by
  unfold f_X4_logKind at hf
  refine zMt.of (by decide) (Nat.le_of_ble_eq_true rfl) ?_
  intro p e s m args below meth c hc hr hin hn ls hl
  have hl : lv_has ls 2 [(0, .ref a0), (1, .int v1)] := hl
  have hq : 0 + mc = mc ∧ 0 + ms = ms := ⟨Nat.zero_add _, Nat.zero_add _⟩
  have hx := hc.x
  have hb := hc.b
  refine lv_aload_n (x := a0) hx hb dX4_logKind_0 rfl (lv_at hl 0 rfl) ?_
  refine lv_iload_n hx hb dX4_logKind_1 rfl (lv_at hl 1 rfl) ?_
  refine lv_iconst (v := (0 : Int32)) hx hb dX4_logKind_2 (by decide) ?_
  refine zr_cVI (As := [.int v1, .int (0 : Int32)]) (rest := []) hc hn hq (ci := 3) rfl ⟨rfl, hd_X4_entryAt⟩ (lw_V q2541 q2543 qs76 q91 q2544) (Nat.le_of_ble_eq_true rfl) (Nat.le_of_ble_eq_true rfl) (fun _ _ _ _ q => m_X4_entryAt l D dA b0 gs h a0 v1 (0 : Int32) q) hf dX4_logKind_3 hl.1 rfl rfl (zroom (Nat.le_of_ble_eq_true rfl)) (fun x101 h102 H locs cells slots C9 S9 hf hq hn => ?_)
  obtain ⟨rfl, rfl, rfl, rfl⟩ := zret_i hf
  exact zr_iret hc hn hr hq (fun _ _ _ _ q => q) dX4_logKind_6
theorem hd_X4_logLevel : yX4_logLevel.cls ≠ "java/lang/invoke/MethodHandle" ∧ yX4_logLevel.cls ≠ "java/lang/invoke/VarHandle" ∧ (parseMethodDescriptor yX4_logLevel.desc).map (fun d => d.parameters.length) = some 1 := by decide +kernel
def f_X4_logLevel (h : PH) (a0 : Nat) (v1 : Int32) : ZR Int32 :=
  zrc h a0 3 <| zcl (f_X4_entryAt h a0 v1 (1 : Int32)) fun x101 h102 =>
  zret x101 h102
set_option maxHeartbeats 4000000 in
set_option maxRecDepth 100000 in
theorem m_X4_logLevel (l : Launch) (D : va_G) (dA : Nat → ClassId) (b0 : Nat) (gs : Nat → Option Nat) (h : PH) (a0 : Nat) (v1 : Int32) {r : Int32} {hh : PH} {mc ms : Nat} (hf : f_X4_logLevel h a0 v1 = some (r, hh, mc, ms)) : zMt l D dA b0 gs yX4_logLevel cX4_logLevel 2 (some .int) 3 107 [.ref a0, .int v1] h (evI r) hh mc ms := by
  unfold f_X4_logLevel at hf
  refine zMt.of (by decide) (Nat.le_of_ble_eq_true rfl) ?_
  intro p e s m args below meth c hc hr hin hn ls hl
  have hl : lv_has ls 2 [(0, .ref a0), (1, .int v1)] := hl
  have hq : 0 + mc = mc ∧ 0 + ms = ms := ⟨Nat.zero_add _, Nat.zero_add _⟩
  have hx := hc.x
  have hb := hc.b
  refine lv_aload_n (x := a0) hx hb dX4_logLevel_0 rfl (lv_at hl 0 rfl) ?_
  refine lv_iload_n hx hb dX4_logLevel_1 rfl (lv_at hl 1 rfl) ?_
  refine lv_iconst (v := (1 : Int32)) hx hb dX4_logLevel_2 (by decide) ?_
  refine zr_cVI (As := [.int v1, .int (1 : Int32)]) (rest := []) hc hn hq (ci := 3) rfl ⟨rfl, hd_X4_entryAt⟩ (lw_V q2541 q2543 qs76 q91 q2544) (Nat.le_of_ble_eq_true rfl) (Nat.le_of_ble_eq_true rfl) (fun _ _ _ _ q => m_X4_entryAt l D dA b0 gs h a0 v1 (1 : Int32) q) hf dX4_logLevel_3 hl.1 rfl rfl (zroom (Nat.le_of_ble_eq_true rfl)) (fun x101 h102 H locs cells slots C9 S9 hf hq hn => ?_)
  obtain ⟨rfl, rfl, rfl, rfl⟩ := zret_i hf
  exact zr_iret hc hn hr hq (fun _ _ _ _ q => q) dX4_logLevel_6
theorem hd_X4_logKey : yX4_logKey.cls ≠ "java/lang/invoke/MethodHandle" ∧ yX4_logKey.cls ≠ "java/lang/invoke/VarHandle" ∧ (parseMethodDescriptor yX4_logKey.desc).map (fun d => d.parameters.length) = some 1 := by decide +kernel
def f_X4_logKey (h : PH) (a0 : Nat) (v1 : Int32) : ZR Int32 :=
  zrc h a0 3 <| zcl (f_X4_entryAt h a0 v1 (2 : Int32)) fun x101 h102 =>
  zret x101 h102
set_option maxHeartbeats 4000000 in
set_option maxRecDepth 100000 in
theorem m_X4_logKey (l : Launch) (D : va_G) (dA : Nat → ClassId) (b0 : Nat) (gs : Nat → Option Nat) (h : PH) (a0 : Nat) (v1 : Int32) {r : Int32} {hh : PH} {mc ms : Nat} (hf : f_X4_logKey h a0 v1 = some (r, hh, mc, ms)) : zMt l D dA b0 gs yX4_logKey cX4_logKey 2 (some .int) 3 107 [.ref a0, .int v1] h (evI r) hh mc ms := by
  unfold f_X4_logKey at hf
  refine zMt.of (by decide) (Nat.le_of_ble_eq_true rfl) ?_
  intro p e s m args below meth c hc hr hin hn ls hl
  have hl : lv_has ls 2 [(0, .ref a0), (1, .int v1)] := hl
  have hq : 0 + mc = mc ∧ 0 + ms = ms := ⟨Nat.zero_add _, Nat.zero_add _⟩
  have hx := hc.x
  have hb := hc.b
  refine lv_aload_n (x := a0) hx hb dX4_logKey_0 rfl (lv_at hl 0 rfl) ?_
  refine lv_iload_n hx hb dX4_logKey_1 rfl (lv_at hl 1 rfl) ?_
  refine lv_iconst (v := (2 : Int32)) hx hb dX4_logKey_2 (by decide) ?_
  refine zr_cVI (As := [.int v1, .int (2 : Int32)]) (rest := []) hc hn hq (ci := 3) rfl ⟨rfl, hd_X4_entryAt⟩ (lw_V q2541 q2543 qs76 q91 q2544) (Nat.le_of_ble_eq_true rfl) (Nat.le_of_ble_eq_true rfl) (fun _ _ _ _ q => m_X4_entryAt l D dA b0 gs h a0 v1 (2 : Int32) q) hf dX4_logKey_3 hl.1 rfl rfl (zroom (Nat.le_of_ble_eq_true rfl)) (fun x101 h102 H locs cells slots C9 S9 hf hq hn => ?_)
  obtain ⟨rfl, rfl, rfl, rfl⟩ := zret_i hf
  exact zr_iret hc hn hr hq (fun _ _ _ _ q => q) dX4_logKey_6
theorem hd_X4_counter : yX4_counter.cls ≠ "java/lang/invoke/MethodHandle" ∧ yX4_counter.cls ≠ "java/lang/invoke/VarHandle" ∧ (parseMethodDescriptor yX4_counter.desc).map (fun d => d.parameters.length) = some 1 := by decide +kernel
def f_X4_counter (h : PH) (a0 : Nat) (v1 : Int32) : ZR Int32 :=
  znm v1.toInt64 fun x101 =>
  zcl (f_X4_in h x101 (0 : Int64) (5 : Int64)) fun x102 h103 =>
  if x102 = 0 then
    (zpI h103 a0 3 0 (1 : Int32) fun h104 =>
    zgI h104 a0 3 0 fun x105 =>
    if x105 ≤ 0 then
      (zgP h104 a0 3 1 fun x106 =>
      znm ((1 : Int32) + v1) fun x107 =>
      znn x106 fun a108 =>
      zaI h104 a108 0 x107 fun x109 =>
      zret x109 h104)
    else
      (zret (0 : Int32) h104))
  else
    (zpI h103 a0 3 0 (0 : Int32) fun h110 =>
    zgI h110 a0 3 0 fun x111 =>
    if x111 ≤ 0 then
      (zgP h110 a0 3 1 fun x112 =>
      znm ((1 : Int32) + v1) fun x113 =>
      znn x112 fun a114 =>
      zaI h110 a114 0 x113 fun x115 =>
      zret x115 h110)
    else
      (zret (0 : Int32) h110))
set_option maxHeartbeats 4000000 in
set_option maxRecDepth 100000 in
theorem m_X4_counter (l : Launch) (D : va_G) (dA : Nat → ClassId) (b0 : Nat) (gs : Nat → Option Nat) (h : PH) (a0 : Nat) (v1 : Int32) {r : Int32} {hh : PH} {mc ms : Nat} (hf : f_X4_counter h a0 v1 = some (r, hh, mc, ms)) : zMt l D dA b0 gs yX4_counter cX4_counter 2 (some .int) 2 85 [.ref a0, .int v1] h (evI r) hh mc ms := by
  unfold f_X4_counter at hf
  refine zMt.of (by decide) (Nat.le_of_ble_eq_true rfl) ?_
  intro p e s m args below meth c hc hr hin hn ls hl
  have hl : lv_has ls 2 [(0, .ref a0), (1, .int v1)] := hl
  have hq : 0 + mc = mc ∧ 0 + ms = ms := ⟨Nat.zero_add _, Nat.zero_add _⟩
  have hx := hc.x
  have hb := hc.b
  refine lv_aload_n (x := a0) hx hb dX4_counter_0 rfl (lv_at hl 0 rfl) ?_
  refine lv_iload_n hx hb dX4_counter_1 rfl (lv_at hl 1 rfl) ?_
  refine lv_i2l (v := v1.toInt64) hx hb dX4_counter_2 rfl ?_
  refine zr_nmL hf (fun x101 hf => ?_)
  refine lv_lconst (v := (0 : Int64)) hx hb dX4_counter_3 (by decide) ?_
  refine lv_ldc2 (v := (5 : Int64)) hx hb hc.ow (hc.ts _ q2347) dX4_counter_4 ?_
  refine zr_cSI (As := [.long x101, .long (0 : Int64), .long (5 : Int64)]) (rest := [.ref a0]) hc hn hq hd_X4_in (lw_S q2211 q2212 q91 q2213) (Nat.le_of_ble_eq_true rfl) (Nat.le_of_ble_eq_true rfl) (fun _ _ _ _ q => m_X4_in l D dA b0 gs h x101 (0 : Int64) (5 : Int64) q) hf dX4_counter_7 hl.1 rfl rfl (zroom (Nat.le_of_ble_eq_true rfl)) (fun x102 h103 H locs cells slots C9 S9 hf hq hn => ?_)
  refine lv_if_eq (tgt := 17) hx hb dX4_counter_10 (by decide) (fun c9 => ?_) (fun c9 => ?_)
  · have hf := zif_t c9 hf
    refine lv_iconst (v := (1 : Int32)) hx hb dX4_counter_17 (by decide) ?_
    refine zr_pI (x := (1 : Int32)) hc hn (ci := 3) rfl rfl in_X4 0 (by decide) tyX4 tyX4_ok nmX4 q2099 (fun _ h => h) (Or.inl rfl) (fun _ _ _ => rfl) rfl rfl hf dX4_counter_18 (fun h104 H locs hf hn => ?_)
    refine lv_aload_n (x := a0) hx hb dX4_counter_21 rfl (lv_at hl 0 rfl) ?_
    refine zr_gI hc hn (ci := 3) rfl rfl in_X4 0 (by decide) q2099 (fun _ h => h) (fun _ _ _ => rfl) hf dX4_counter_22 (fun x105 hf => ?_)
    refine lv_if_le (tgt := 32) hx hb dX4_counter_25 (by decide) (fun c9 => ?_) (fun c9 => ?_)
    · have hf := zif_t c9 hf
      refine lv_aload_n (x := a0) hx hb dX4_counter_32 rfl (lv_at hl 0 rfl) ?_
      refine zr_gP hc hn (ci := 3) rfl rfl in_X4 1 (by decide) q2100 (fun _ h => h) (fun _ _ _ => rfl) hf dX4_counter_33 (fun x106 hf => ?_)
      refine lv_iconst (v := (1 : Int32)) hx hb dX4_counter_36 (by decide) ?_
      refine lv_iload_n hx hb dX4_counter_37 rfl (lv_at hl 1 rfl) ?_
      refine lv_iadd hx hb dX4_counter_38 ?_
      refine zr_nmI hf (fun x107 hf => ?_)
      obtain ⟨a108, e9, hf9⟩ := znn_i hf
      subst e9
      have hf := hf9
      clear hf9
      refine zr_aI0 hc hn hf dX4_counter_39 (fun x109 hf => ?_)
      obtain ⟨rfl, rfl, rfl, rfl⟩ := zret_i hf
      exact zr_iret hc hn hr hq (fun _ _ _ _ q => q) dX4_counter_40
    · have hf := zif_f c9 hf
      refine lv_iconst (v := (0 : Int32)) hx hb dX4_counter_28 (by decide) ?_
      refine lv_goto (tgt := 40) hx hb dX4_counter_29 (by decide) ?_
      obtain ⟨rfl, rfl, rfl, rfl⟩ := zret_i hf
      exact zr_iret hc hn hr hq (fun _ _ _ _ q => q) dX4_counter_40
  · have hf := zif_f c9 hf
    refine lv_iconst (v := (0 : Int32)) hx hb dX4_counter_13 (by decide) ?_
    refine lv_goto (tgt := 18) hx hb dX4_counter_14 (by decide) ?_
    refine zr_pI (x := (0 : Int32)) hc hn (ci := 3) rfl rfl in_X4 0 (by decide) tyX4 tyX4_ok nmX4 q2099 (fun _ h => h) (Or.inl rfl) (fun _ _ _ => rfl) rfl rfl hf dX4_counter_18 (fun h110 H locs hf hn => ?_)
    refine lv_aload_n (x := a0) hx hb dX4_counter_21 rfl (lv_at hl 0 rfl) ?_
    refine zr_gI hc hn (ci := 3) rfl rfl in_X4 0 (by decide) q2099 (fun _ h => h) (fun _ _ _ => rfl) hf dX4_counter_22 (fun x111 hf => ?_)
    refine lv_if_le (tgt := 32) hx hb dX4_counter_25 (by decide) (fun c9 => ?_) (fun c9 => ?_)
    · have hf := zif_t c9 hf
      refine lv_aload_n (x := a0) hx hb dX4_counter_32 rfl (lv_at hl 0 rfl) ?_
      refine zr_gP hc hn (ci := 3) rfl rfl in_X4 1 (by decide) q2100 (fun _ h => h) (fun _ _ _ => rfl) hf dX4_counter_33 (fun x112 hf => ?_)
      refine lv_iconst (v := (1 : Int32)) hx hb dX4_counter_36 (by decide) ?_
      refine lv_iload_n hx hb dX4_counter_37 rfl (lv_at hl 1 rfl) ?_
      refine lv_iadd hx hb dX4_counter_38 ?_
      refine zr_nmI hf (fun x113 hf => ?_)
      obtain ⟨a114, e9, hf9⟩ := znn_i hf
      subst e9
      have hf := hf9
      clear hf9
      refine zr_aI0 hc hn hf dX4_counter_39 (fun x115 hf => ?_)
      obtain ⟨rfl, rfl, rfl, rfl⟩ := zret_i hf
      exact zr_iret hc hn hr hq (fun _ _ _ _ q => q) dX4_counter_40
    · have hf := zif_f c9 hf
      refine lv_iconst (v := (0 : Int32)) hx hb dX4_counter_28 (by decide) ?_
      refine lv_goto (tgt := 40) hx hb dX4_counter_29 (by decide) ?_
      obtain ⟨rfl, rfl, rfl, rfl⟩ := zret_i hf
      exact zr_iret hc hn hr hq (fun _ _ _ _ q => q) dX4_counter_40
theorem hd_X4_spare : yX4_spare.cls ≠ "java/lang/invoke/MethodHandle" ∧ yX4_spare.cls ≠ "java/lang/invoke/VarHandle" ∧ (parseMethodDescriptor yX4_spare.desc).map (fun d => d.parameters.length) = some 0 := by decide +kernel
def f_X4_spare_b2 : Nat → PH → Nat → Int32 → ZR Int32
  | 0 => fun _ _ _ => none
  | n + 1 => fun h a0 v1 =>
    if (6 : Int32) ≤ v1 then
      (zret (-1 : Int32) h)
    else
      (zgP h a0 3 1 fun x101 =>
      zcl (f_X4_base h v1) fun x102 h103 =>
      znm (x102 + (0 : Int32)) fun x104 =>
      znn x101 fun a105 =>
      zaI h103 a105 0 x104 fun x106 =>
      if x106 = 0 then
        (zret v1 h103)
      else
        (znm (v1 + (1 : Int32)) fun x107 =>
        f_X4_spare_b2 n h103 a0 x107))
def f_X4_spare (h : PH) (a0 : Nat) : ZR Int32 :=
  f_X4_spare_b2 zFU h a0 (0 : Int32)
set_option maxHeartbeats 4000000 in
set_option maxRecDepth 100000 in
theorem m_X4_spare_b2 {p : Program} {l : Launch} {e : Env} {s : State} {m : MethodId} {args : Array Value} {below : List Frame} {meth : Method} {c : Code} {D : va_G} {dA : Nat → ClassId} {b0 : Nat} {gs : Nat → Option Nat} (hc : zC D dA b0 gs yX4_spare.cls cX4_spare 2 p c s m args meth) (hr : meth.sig.returnType = (some .int)) (hin : meth.name = yX4_spare.name) {r : Int32} {hh : PH} {mc ms : Nat} : ∀ (n : Nat) (h : PH) (a0 : Nat) (v1 : Int32) (C9 S9 : Nat) (H : Heap) (locs : List Loc) (cells slots : Nat), f_X4_spare_b2 n h a0 v1 = some (r, hh, C9, S9) → cells + C9 = mc ∧ slots + S9 = ms → zM D dA b0 gs s h H locs → ∀ ls : Array Slot, lv_has ls 2 [(0, .ref a0), (1, .int v1)] → W p l e ({ frames := 2, cells := mc, slots := ms, locals := 80 } : Room) s m args below meth c H locs cells slots (MQ below (zQ D dA b0 gs (evI r) hh) args s mc ms (zA b0)) (F0 m 2 ls []) := by
  have hx := hc.x
  have hb := hc.b
  intro n
  induction n with
  | zero =>
    intro h a0 v1 C9 S9 H locs cells slots hf hq hn ls hl
    cases hf
  | succ n ih =>
    intro h a0 v1 C9 S9 H locs cells slots hf hq hn ls hl
    unfold f_X4_spare_b2 at hf
    refine lv_iload_n hx hb dX4_spare_2 rfl (lv_at hl 1 rfl) ?_
    refine lv_bipush (v := (6 : Int32)) hx hb dX4_spare_3 (by decide) ?_
    refine lv_icmp_ge (tgt := 30) hx hb dX4_spare_5 (by decide) (fun c9 => ?_) (fun c9 => ?_)
    · have hf := zif_t c9 hf
      refine lv_iconst (v := (-1 : Int32)) hx hb dX4_spare_30 (by decide) ?_
      obtain ⟨rfl, rfl, rfl, rfl⟩ := zret_i hf
      exact zr_iret hc hn hr hq (fun _ _ _ _ q => q) dX4_spare_31
    · have hf := zif_f c9 hf
      refine lv_aload_n (x := a0) hx hb dX4_spare_8 rfl (lv_at hl 0 rfl) ?_
      refine zr_gP hc hn (ci := 3) rfl rfl in_X4 1 (by decide) q2100 (fun _ h => h) (fun _ _ _ => rfl) hf dX4_spare_9 (fun x101 hf => ?_)
      refine lv_iload_n hx hb dX4_spare_12 rfl (lv_at hl 1 rfl) ?_
      refine zr_cSI (As := [.int v1]) (rest := [va_rf x101]) hc hn hq hd_X4_base (lw_S q2284 q2285 q91 q2286) (Nat.le_of_ble_eq_true rfl) (Nat.le_of_ble_eq_true rfl) (fun _ _ _ _ q => m_X4_base l D dA b0 gs h v1 q) hf dX4_spare_13 hl.1 rfl rfl (zroom (Nat.le_of_ble_eq_true rfl)) (fun x102 h103 H locs cells slots C9 S9 hf hq hn => ?_)
      refine lv_iconst (v := (0 : Int32)) hx hb dX4_spare_16 (by decide) ?_
      refine lv_iadd hx hb dX4_spare_17 ?_
      refine zr_nmI hf (fun x104 hf => ?_)
      obtain ⟨a105, e9, hf9⟩ := znn_i hf
      subst e9
      have hf := hf9
      clear hf9
      refine zr_aI0 hc hn hf dX4_spare_18 (fun x106 hf => ?_)
      refine lv_if_ne (tgt := 24) hx hb dX4_spare_19 (by decide) (fun c9 => ?_) (fun c9 => ?_)
      · have hf := zif_f c9 hf
        obtain ⟨x107, ex107, hf⟩ := znm_i hf
        refine lv_iinc (v := x107) (lv' := [(1, .int x107), (0, .ref a0)]) hx hb dX4_spare_24 hl (k := 1) rfl (by rw [ex107]; rfl) (by decide) rfl (fun ls hl => ?_)
        refine lv_goto (tgt := 2) hx hb dX4_spare_27 (by decide) ?_
        exact ih h103 a0 x107 _ _ _ _ _ _ hf hq hn _ (lv_sub hl [1, 0] rfl)
      · have hf := zif_t c9 hf
        refine lv_iload_n hx hb dX4_spare_22 rfl (lv_at hl 1 rfl) ?_
        obtain ⟨rfl, rfl, rfl, rfl⟩ := zret_i hf
        exact zr_iret hc hn hr hq (fun _ _ _ _ q => q) dX4_spare_23
set_option maxHeartbeats 4000000 in
set_option maxRecDepth 100000 in
theorem m_X4_spare (l : Launch) (D : va_G) (dA : Nat → ClassId) (b0 : Nat) (gs : Nat → Option Nat) (h : PH) (a0 : Nat) {r : Int32} {hh : PH} {mc ms : Nat} (hf : f_X4_spare h a0 = some (r, hh, mc, ms)) : zMt l D dA b0 gs yX4_spare cX4_spare 2 (some .int) 2 80 [.ref a0] h (evI r) hh mc ms := by
  unfold f_X4_spare at hf
  refine zMt.of (by decide) (Nat.le_of_ble_eq_true rfl) ?_
  intro p e s m args below meth c hc hr hin hn ls hl
  have hl : lv_has ls 2 [(0, .ref a0)] := hl
  have hq : 0 + mc = mc ∧ 0 + ms = ms := ⟨Nat.zero_add _, Nat.zero_add _⟩
  have hx := hc.x
  have hb := hc.b
  refine lv_iconst (v := (0 : Int32)) hx hb dX4_spare_0 (by decide) ?_
  refine lv_istore_n (i := 1) (lv' := [(1, .int (0 : Int32)), (0, .ref a0)]) hx hb dX4_spare_1 rfl hl (by decide) rfl (fun ls hl => ?_)
  exact m_X4_spare_b2 hc hr hin zFU h a0 (0 : Int32) _ _ _ _ _ _ hf hq hn _ (lv_sub hl [1, 0] rfl)
theorem hd_X4_keeps : yX4_keeps.cls ≠ "java/lang/invoke/MethodHandle" ∧ yX4_keeps.cls ≠ "java/lang/invoke/VarHandle" ∧ (parseMethodDescriptor yX4_keeps.desc).map (fun d => d.parameters.length) = some 0 := by decide +kernel
def f_X4_keeps_b119 : Nat → PH → Nat → Int32 → ZR Unit
  | 0 => fun _ _ _ => none
  | n + 1 => fun h a0 v1 =>
    if (6 : Int32) ≤ v1 then
      (zgI h a0 3 10 fun x101 =>
      znm (x101 + (1 : Int32)) fun x102 =>
      zpI h a0 3 10 x102 fun h103 =>
      zgP h103 a0 3 1 fun x104 =>
      znn x104 fun a105 =>
      zsI h103 a105 0 (7 : Int32) (0 : Int32) fun h106 =>
      zgP h106 a0 3 1 fun x107 =>
      znn x107 fun a108 =>
      zaI h106 a108 0 (6 : Int32) fun x109 =>
      znm (x109 + (1 : Int32)) fun x110 =>
      zsI h106 a108 0 (6 : Int32) x110 fun h111 =>
      zret () h111)
    else
      (zgP h a0 3 4 fun x112 =>
      zgI h a0 3 10 fun x113 =>
      znm ((6 : Int32) * x113) fun x114 =>
      znm (x114 + v1) fun x115 =>
      zgP h a0 3 2 fun x116 =>
      znn x116 fun a117 =>
      zaL h a117 3 v1 fun x118 =>
      znn x112 fun a119 =>
      zsL h a119 3 x115 x118 fun h120 =>
      znm (v1 + (1 : Int32)) fun x121 =>
      f_X4_keeps_b119 n h120 a0 x121)
def f_X4_keeps_b83 : Nat → PH → Nat → Int32 → ZR Unit
  | 0 => fun _ _ _ => none
  | n + 1 => fun h a0 v1 =>
    if (4100 : Int32) ≤ v1 then
      (f_X4_keeps_b119 zFU h a0 (0 : Int32))
    else
      (zgP h a0 3 3 fun x101 =>
      zgI h a0 3 10 fun x102 =>
      znm ((4100 : Int32) * x102) fun x103 =>
      znm (x103 + v1) fun x104 =>
      zgP h a0 3 1 fun x105 =>
      znn x105 fun a106 =>
      zaI h a106 0 v1 fun x107 =>
      znn x101 fun a108 =>
      zsI h a108 0 x104 x107 fun h109 =>
      znm (v1 + (1 : Int32)) fun x110 =>
      f_X4_keeps_b83 n h109 a0 x110)
def f_X4_keeps_b81 (h : PH) (a0 : Nat) : ZR Unit :=
  f_X4_keeps_b83 zFU h a0 (0 : Int32)
def f_X4_keeps_b44 : Nat → PH → Nat → Int32 → ZR Unit
  | 0 => fun _ _ _ => none
  | n + 1 => fun h a0 v1 =>
    if (60 : Int32) ≤ v1 then
      (zgI h a0 3 10 fun x101 =>
      znm (x101 - (1 : Int32)) fun x102 =>
      zpI h a0 3 10 x102 fun h103 =>
      f_X4_keeps_b81 h103 a0)
    else
      (zgP h a0 3 4 fun x104 =>
      znm (v1 - (6 : Int32)) fun x105 =>
      zgP h a0 3 4 fun x106 =>
      znn x106 fun a107 =>
      zaL h a107 3 v1 fun x108 =>
      znn x104 fun a109 =>
      zsL h a109 3 x105 x108 fun h110 =>
      znm (v1 + (1 : Int32)) fun x111 =>
      f_X4_keeps_b44 n h110 a0 x111)
def f_X4_keeps_b13 : Nat → PH → Nat → Int32 → ZR Unit
  | 0 => fun _ _ _ => none
  | n + 1 => fun h a0 v1 =>
    if (41000 : Int32) ≤ v1 then
      (f_X4_keeps_b44 zFU h a0 (6 : Int32))
    else
      (zgP h a0 3 3 fun x101 =>
      znm (v1 - (4100 : Int32)) fun x102 =>
      zgP h a0 3 3 fun x103 =>
      znn x103 fun a104 =>
      zaI h a104 0 v1 fun x105 =>
      znn x101 fun a106 =>
      zsI h a106 0 x102 x105 fun h107 =>
      znm (v1 + (1 : Int32)) fun x108 =>
      f_X4_keeps_b13 n h107 a0 x108)
def f_X4_keeps (h : PH) (a0 : Nat) : ZR Unit :=
  zgI h a0 3 10 fun x101 =>
  if x101 = (10 : Int32) then
    (f_X4_keeps_b13 zFU h a0 (4100 : Int32))
  else
    (f_X4_keeps_b81 h a0)
set_option maxHeartbeats 4000000 in
set_option maxRecDepth 100000 in
theorem m_X4_keeps_b119 {p : Program} {l : Launch} {e : Env} {s : State} {m : MethodId} {args : Array Value} {below : List Frame} {meth : Method} {c : Code} {D : va_G} {dA : Nat → ClassId} {b0 : Nat} {gs : Nat → Option Nat} (hc : zC D dA b0 gs yX4_keeps.cls cX4_keeps 2 p c s m args meth) (hr : meth.sig.returnType = none) (hin : meth.name = yX4_keeps.name) {r : Unit} {hh : PH} {mc ms : Nat} : ∀ (n : Nat) (h : PH) (a0 : Nat) (v1 : Int32) (C9 S9 : Nat) (H : Heap) (locs : List Loc) (cells slots : Nat), f_X4_keeps_b119 n h a0 v1 = some (r, hh, C9, S9) → cells + C9 = mc ∧ slots + S9 = ms → zM D dA b0 gs s h H locs → ∀ ls : Array Slot, lv_has ls 2 [(0, .ref a0), (1, .int v1)] → W p l e ({ frames := 1, cells := mc, slots := ms, locals := 60 } : Room) s m args below meth c H locs cells slots (MQ below (zQ D dA b0 gs (evU r) hh) args s mc ms (zA b0)) (F0 m 119 ls []) := by
  have hx := hc.x
  have hb := hc.b
  intro n
  induction n with
  | zero =>
    intro h a0 v1 C9 S9 H locs cells slots hf hq hn ls hl
    cases hf
  | succ n ih =>
    intro h a0 v1 C9 S9 H locs cells slots hf hq hn ls hl
    unfold f_X4_keeps_b119 at hf
    refine lv_iload_n hx hb dX4_keeps_119 rfl (lv_at hl 1 rfl) ?_
    refine lv_bipush (v := (6 : Int32)) hx hb dX4_keeps_120 (by decide) ?_
    refine lv_icmp_ge (tgt := 151) hx hb dX4_keeps_122 (by decide) (fun c9 => ?_) (fun c9 => ?_)
    · have hf := zif_t c9 hf
      refine lv_aload_n (x := a0) hx hb dX4_keeps_151 rfl (lv_at hl 0 rfl) ?_
      refine lv_dup hx hb dX4_keeps_152 rfl ?_
      refine zr_gI hc hn (ci := 3) rfl rfl in_X4 10 (by decide) q2109 (fun _ h => h) (fun _ _ _ => rfl) hf dX4_keeps_153 (fun x101 hf => ?_)
      refine lv_iconst (v := (1 : Int32)) hx hb dX4_keeps_156 (by decide) ?_
      refine lv_iadd hx hb dX4_keeps_157 ?_
      refine zr_nmI hf (fun x102 hf => ?_)
      refine zr_pI (x := x102) hc hn (ci := 3) rfl rfl in_X4 10 (by decide) tyX4 tyX4_ok nmX4 q2109 (fun _ h => h) (Or.inl rfl) (fun _ _ _ => rfl) rfl rfl hf dX4_keeps_158 (fun h103 H locs hf hn => ?_)
      refine lv_aload_n (x := a0) hx hb dX4_keeps_161 rfl (lv_at hl 0 rfl) ?_
      refine zr_gP hc hn (ci := 3) rfl rfl in_X4 1 (by decide) q2100 (fun _ h => h) (fun _ _ _ => rfl) hf dX4_keeps_162 (fun x104 hf => ?_)
      refine lv_bipush (v := (7 : Int32)) hx hb dX4_keeps_165 (by decide) ?_
      refine lv_iconst (v := (0 : Int32)) hx hb dX4_keeps_167 (by decide) ?_
      obtain ⟨a105, e9, hf9⟩ := znn_i hf
      subst e9
      have hf := hf9
      clear hf9
      refine zr_sI hc hn hf dX4_keeps_168 (fun h106 H locs hf hn => ?_)
      refine lv_aload_n (x := a0) hx hb dX4_keeps_169 rfl (lv_at hl 0 rfl) ?_
      refine zr_gP hc hn (ci := 3) rfl rfl in_X4 1 (by decide) q2100 (fun _ h => h) (fun _ _ _ => rfl) hf dX4_keeps_170 (fun x107 hf => ?_)
      refine lv_bipush (v := (6 : Int32)) hx hb dX4_keeps_173 (by decide) ?_
      refine lv_dup2_11 hx hb dX4_keeps_175 rfl (zcat_rf _) ?_
      obtain ⟨a108, e9, hf9⟩ := znn_i hf
      subst e9
      have hf := hf9
      clear hf9
      refine zr_aI0 hc hn hf dX4_keeps_176 (fun x109 hf => ?_)
      refine lv_iconst (v := (1 : Int32)) hx hb dX4_keeps_177 (by decide) ?_
      refine lv_iadd hx hb dX4_keeps_178 ?_
      refine zr_nmI hf (fun x110 hf => ?_)
      refine zr_sI hc hn hf dX4_keeps_179 (fun h111 H locs hf hn => ?_)
      obtain ⟨rfl, rfl, rfl, rfl⟩ := zret_i hf
      exact zr_vret hc hn hr hq (fun _ _ _ _ q => q) dX4_keeps_180
    · have hf := zif_f c9 hf
      refine lv_aload_n (x := a0) hx hb dX4_keeps_125 rfl (lv_at hl 0 rfl) ?_
      refine zr_gP hc hn (ci := 3) rfl rfl in_X4 4 (by decide) q2103 (fun _ h => h) (fun _ _ _ => rfl) hf dX4_keeps_126 (fun x112 hf => ?_)
      refine lv_bipush (v := (6 : Int32)) hx hb dX4_keeps_129 (by decide) ?_
      refine lv_aload_n (x := a0) hx hb dX4_keeps_131 rfl (lv_at hl 0 rfl) ?_
      refine zr_gI hc hn (ci := 3) rfl rfl in_X4 10 (by decide) q2109 (fun _ h => h) (fun _ _ _ => rfl) hf dX4_keeps_132 (fun x113 hf => ?_)
      refine lv_imul hx hb dX4_keeps_135 ?_
      refine zr_nmI hf (fun x114 hf => ?_)
      refine lv_iload_n hx hb dX4_keeps_136 rfl (lv_at hl 1 rfl) ?_
      refine lv_iadd hx hb dX4_keeps_137 ?_
      refine zr_nmI hf (fun x115 hf => ?_)
      refine lv_aload_n (x := a0) hx hb dX4_keeps_138 rfl (lv_at hl 0 rfl) ?_
      refine zr_gP hc hn (ci := 3) rfl rfl in_X4 2 (by decide) q2101 (fun _ h => h) (fun _ _ _ => rfl) hf dX4_keeps_139 (fun x116 hf => ?_)
      refine lv_iload_n hx hb dX4_keeps_142 rfl (lv_at hl 1 rfl) ?_
      obtain ⟨a117, e9, hf9⟩ := znn_i hf
      subst e9
      have hf := hf9
      clear hf9
      refine zr_aL hc hn hf dX4_keeps_143 (fun x118 hf => ?_)
      obtain ⟨a119, e9, hf9⟩ := znn_i hf
      subst e9
      have hf := hf9
      clear hf9
      refine zr_sL hc hn hf dX4_keeps_144 (fun h120 H locs hf hn => ?_)
      obtain ⟨x121, ex121, hf⟩ := znm_i hf
      refine lv_iinc (v := x121) (lv' := [(1, .int x121), (0, .ref a0)]) hx hb dX4_keeps_145 hl (k := 1) rfl (by rw [ex121]; rfl) (by decide) rfl (fun ls hl => ?_)
      refine lv_goto (tgt := 119) hx hb dX4_keeps_148 (by decide) ?_
      exact ih h120 a0 x121 _ _ _ _ _ _ hf hq hn _ (lv_sub hl [1, 0] rfl)
set_option maxHeartbeats 4000000 in
set_option maxRecDepth 100000 in
theorem m_X4_keeps_b83 {p : Program} {l : Launch} {e : Env} {s : State} {m : MethodId} {args : Array Value} {below : List Frame} {meth : Method} {c : Code} {D : va_G} {dA : Nat → ClassId} {b0 : Nat} {gs : Nat → Option Nat} (hc : zC D dA b0 gs yX4_keeps.cls cX4_keeps 2 p c s m args meth) (hr : meth.sig.returnType = none) (hin : meth.name = yX4_keeps.name) {r : Unit} {hh : PH} {mc ms : Nat} : ∀ (n : Nat) (h : PH) (a0 : Nat) (v1 : Int32) (C9 S9 : Nat) (H : Heap) (locs : List Loc) (cells slots : Nat), f_X4_keeps_b83 n h a0 v1 = some (r, hh, C9, S9) → cells + C9 = mc ∧ slots + S9 = ms → zM D dA b0 gs s h H locs → ∀ ls : Array Slot, lv_has ls 2 [(0, .ref a0), (1, .int v1)] → W p l e ({ frames := 1, cells := mc, slots := ms, locals := 60 } : Room) s m args below meth c H locs cells slots (MQ below (zQ D dA b0 gs (evU r) hh) args s mc ms (zA b0)) (F0 m 83 ls []) := by
  have hx := hc.x
  have hb := hc.b
  intro n
  induction n with
  | zero =>
    intro h a0 v1 C9 S9 H locs cells slots hf hq hn ls hl
    cases hf
  | succ n ih =>
    intro h a0 v1 C9 S9 H locs cells slots hf hq hn ls hl
    unfold f_X4_keeps_b83 at hf
    refine lv_iload_n hx hb dX4_keeps_83 rfl (lv_at hl 1 rfl) ?_
    refine lv_sipush (v := (4100 : Int32)) hx hb dX4_keeps_84 (by decide) ?_
    refine lv_icmp_ge (tgt := 117) hx hb dX4_keeps_87 (by decide) (fun c9 => ?_) (fun c9 => ?_)
    · have hf := zif_t c9 hf
      refine lv_iconst (v := (0 : Int32)) hx hb dX4_keeps_117 (by decide) ?_
      refine lv_istore_n (i := 1) (lv' := [(1, .int (0 : Int32)), (0, .ref a0)]) hx hb dX4_keeps_118 rfl hl (by decide) rfl (fun ls hl => ?_)
      exact m_X4_keeps_b119 hc hr hin zFU h a0 (0 : Int32) _ _ _ _ _ _ hf hq hn _ (lv_sub hl [1, 0] rfl)
    · have hf := zif_f c9 hf
      refine lv_aload_n (x := a0) hx hb dX4_keeps_90 rfl (lv_at hl 0 rfl) ?_
      refine zr_gP hc hn (ci := 3) rfl rfl in_X4 3 (by decide) q2102 (fun _ h => h) (fun _ _ _ => rfl) hf dX4_keeps_91 (fun x101 hf => ?_)
      refine lv_sipush (v := (4100 : Int32)) hx hb dX4_keeps_94 (by decide) ?_
      refine lv_aload_n (x := a0) hx hb dX4_keeps_97 rfl (lv_at hl 0 rfl) ?_
      refine zr_gI hc hn (ci := 3) rfl rfl in_X4 10 (by decide) q2109 (fun _ h => h) (fun _ _ _ => rfl) hf dX4_keeps_98 (fun x102 hf => ?_)
      refine lv_imul hx hb dX4_keeps_101 ?_
      refine zr_nmI hf (fun x103 hf => ?_)
      refine lv_iload_n hx hb dX4_keeps_102 rfl (lv_at hl 1 rfl) ?_
      refine lv_iadd hx hb dX4_keeps_103 ?_
      refine zr_nmI hf (fun x104 hf => ?_)
      refine lv_aload_n (x := a0) hx hb dX4_keeps_104 rfl (lv_at hl 0 rfl) ?_
      refine zr_gP hc hn (ci := 3) rfl rfl in_X4 1 (by decide) q2100 (fun _ h => h) (fun _ _ _ => rfl) hf dX4_keeps_105 (fun x105 hf => ?_)
      refine lv_iload_n hx hb dX4_keeps_108 rfl (lv_at hl 1 rfl) ?_
      obtain ⟨a106, e9, hf9⟩ := znn_i hf
      subst e9
      have hf := hf9
      clear hf9
      refine zr_aI0 hc hn hf dX4_keeps_109 (fun x107 hf => ?_)
      obtain ⟨a108, e9, hf9⟩ := znn_i hf
      subst e9
      have hf := hf9
      clear hf9
      refine zr_sI hc hn hf dX4_keeps_110 (fun h109 H locs hf hn => ?_)
      obtain ⟨x110, ex110, hf⟩ := znm_i hf
      refine lv_iinc (v := x110) (lv' := [(1, .int x110), (0, .ref a0)]) hx hb dX4_keeps_111 hl (k := 1) rfl (by rw [ex110]; rfl) (by decide) rfl (fun ls hl => ?_)
      refine lv_goto (tgt := 83) hx hb dX4_keeps_114 (by decide) ?_
      exact ih h109 a0 x110 _ _ _ _ _ _ hf hq hn _ (lv_sub hl [1, 0] rfl)
set_option maxHeartbeats 4000000 in
set_option maxRecDepth 100000 in
theorem m_X4_keeps_b81 {p : Program} {l : Launch} {e : Env} {s : State} {m : MethodId} {args : Array Value} {below : List Frame} {meth : Method} {c : Code} {D : va_G} {dA : Nat → ClassId} {b0 : Nat} {gs : Nat → Option Nat} (hc : zC D dA b0 gs yX4_keeps.cls cX4_keeps 2 p c s m args meth) (hr : meth.sig.returnType = none) (hin : meth.name = yX4_keeps.name) {r : Unit} {hh : PH} {mc ms : Nat} : ∀ (h : PH) (a0 : Nat) (C9 S9 : Nat) (H : Heap) (locs : List Loc) (cells slots : Nat), f_X4_keeps_b81 h a0 = some (r, hh, C9, S9) → cells + C9 = mc ∧ slots + S9 = ms → zM D dA b0 gs s h H locs → ∀ ls : Array Slot, lv_has ls 2 [(0, .ref a0)] → W p l e ({ frames := 1, cells := mc, slots := ms, locals := 60 } : Room) s m args below meth c H locs cells slots (MQ below (zQ D dA b0 gs (evU r) hh) args s mc ms (zA b0)) (F0 m 81 ls []) := by
  have hx := hc.x
  have hb := hc.b
  intro h a0 C9 S9 H locs cells slots hf hq hn ls hl
  unfold f_X4_keeps_b81 at hf
  refine lv_iconst (v := (0 : Int32)) hx hb dX4_keeps_81 (by decide) ?_
  refine lv_istore_n (i := 1) (lv' := [(1, .int (0 : Int32)), (0, .ref a0)]) hx hb dX4_keeps_82 rfl hl (by decide) rfl (fun ls hl => ?_)
  exact m_X4_keeps_b83 hc hr hin zFU h a0 (0 : Int32) _ _ _ _ _ _ hf hq hn _ (lv_sub hl [1, 0] rfl)
set_option maxHeartbeats 4000000 in
set_option maxRecDepth 100000 in
theorem m_X4_keeps_b44 {p : Program} {l : Launch} {e : Env} {s : State} {m : MethodId} {args : Array Value} {below : List Frame} {meth : Method} {c : Code} {D : va_G} {dA : Nat → ClassId} {b0 : Nat} {gs : Nat → Option Nat} (hc : zC D dA b0 gs yX4_keeps.cls cX4_keeps 2 p c s m args meth) (hr : meth.sig.returnType = none) (hin : meth.name = yX4_keeps.name) {r : Unit} {hh : PH} {mc ms : Nat} : ∀ (n : Nat) (h : PH) (a0 : Nat) (v1 : Int32) (C9 S9 : Nat) (H : Heap) (locs : List Loc) (cells slots : Nat), f_X4_keeps_b44 n h a0 v1 = some (r, hh, C9, S9) → cells + C9 = mc ∧ slots + S9 = ms → zM D dA b0 gs s h H locs → ∀ ls : Array Slot, lv_has ls 2 [(0, .ref a0), (1, .int v1)] → W p l e ({ frames := 1, cells := mc, slots := ms, locals := 60 } : Room) s m args below meth c H locs cells slots (MQ below (zQ D dA b0 gs (evU r) hh) args s mc ms (zA b0)) (F0 m 44 ls []) := by
  have hx := hc.x
  have hb := hc.b
  intro n
  induction n with
  | zero =>
    intro h a0 v1 C9 S9 H locs cells slots hf hq hn ls hl
    cases hf
  | succ n ih =>
    intro h a0 v1 C9 S9 H locs cells slots hf hq hn ls hl
    unfold f_X4_keeps_b44 at hf
    refine lv_iload_n hx hb dX4_keeps_44 rfl (lv_at hl 1 rfl) ?_
    refine lv_bipush (v := (60 : Int32)) hx hb dX4_keeps_45 (by decide) ?_
    refine lv_icmp_ge (tgt := 71) hx hb dX4_keeps_47 (by decide) (fun c9 => ?_) (fun c9 => ?_)
    · have hf := zif_t c9 hf
      refine lv_aload_n (x := a0) hx hb dX4_keeps_71 rfl (lv_at hl 0 rfl) ?_
      refine lv_dup hx hb dX4_keeps_72 rfl ?_
      refine zr_gI hc hn (ci := 3) rfl rfl in_X4 10 (by decide) q2109 (fun _ h => h) (fun _ _ _ => rfl) hf dX4_keeps_73 (fun x101 hf => ?_)
      refine lv_iconst (v := (1 : Int32)) hx hb dX4_keeps_76 (by decide) ?_
      refine lv_isub hx hb dX4_keeps_77 ?_
      refine zr_nmI hf (fun x102 hf => ?_)
      refine zr_pI (x := x102) hc hn (ci := 3) rfl rfl in_X4 10 (by decide) tyX4 tyX4_ok nmX4 q2109 (fun _ h => h) (Or.inl rfl) (fun _ _ _ => rfl) rfl rfl hf dX4_keeps_78 (fun h103 H locs hf hn => ?_)
      exact m_X4_keeps_b81 hc hr hin h103 a0 _ _ _ _ _ _ hf hq hn _ (lv_sub hl [0] rfl)
    · have hf := zif_f c9 hf
      refine lv_aload_n (x := a0) hx hb dX4_keeps_50 rfl (lv_at hl 0 rfl) ?_
      refine zr_gP hc hn (ci := 3) rfl rfl in_X4 4 (by decide) q2103 (fun _ h => h) (fun _ _ _ => rfl) hf dX4_keeps_51 (fun x104 hf => ?_)
      refine lv_iload_n hx hb dX4_keeps_54 rfl (lv_at hl 1 rfl) ?_
      refine lv_bipush (v := (6 : Int32)) hx hb dX4_keeps_55 (by decide) ?_
      refine lv_isub hx hb dX4_keeps_57 ?_
      refine zr_nmI hf (fun x105 hf => ?_)
      refine lv_aload_n (x := a0) hx hb dX4_keeps_58 rfl (lv_at hl 0 rfl) ?_
      refine zr_gP hc hn (ci := 3) rfl rfl in_X4 4 (by decide) q2103 (fun _ h => h) (fun _ _ _ => rfl) hf dX4_keeps_59 (fun x106 hf => ?_)
      refine lv_iload_n hx hb dX4_keeps_62 rfl (lv_at hl 1 rfl) ?_
      obtain ⟨a107, e9, hf9⟩ := znn_i hf
      subst e9
      have hf := hf9
      clear hf9
      refine zr_aL hc hn hf dX4_keeps_63 (fun x108 hf => ?_)
      obtain ⟨a109, e9, hf9⟩ := znn_i hf
      subst e9
      have hf := hf9
      clear hf9
      refine zr_sL hc hn hf dX4_keeps_64 (fun h110 H locs hf hn => ?_)
      obtain ⟨x111, ex111, hf⟩ := znm_i hf
      refine lv_iinc (v := x111) (lv' := [(1, .int x111), (0, .ref a0)]) hx hb dX4_keeps_65 hl (k := 1) rfl (by rw [ex111]; rfl) (by decide) rfl (fun ls hl => ?_)
      refine lv_goto (tgt := 44) hx hb dX4_keeps_68 (by decide) ?_
      exact ih h110 a0 x111 _ _ _ _ _ _ hf hq hn _ (lv_sub hl [1, 0] rfl)
set_option maxHeartbeats 4000000 in
set_option maxRecDepth 100000 in
theorem m_X4_keeps_b13 {p : Program} {l : Launch} {e : Env} {s : State} {m : MethodId} {args : Array Value} {below : List Frame} {meth : Method} {c : Code} {D : va_G} {dA : Nat → ClassId} {b0 : Nat} {gs : Nat → Option Nat} (hc : zC D dA b0 gs yX4_keeps.cls cX4_keeps 2 p c s m args meth) (hr : meth.sig.returnType = none) (hin : meth.name = yX4_keeps.name) {r : Unit} {hh : PH} {mc ms : Nat} : ∀ (n : Nat) (h : PH) (a0 : Nat) (v1 : Int32) (C9 S9 : Nat) (H : Heap) (locs : List Loc) (cells slots : Nat), f_X4_keeps_b13 n h a0 v1 = some (r, hh, C9, S9) → cells + C9 = mc ∧ slots + S9 = ms → zM D dA b0 gs s h H locs → ∀ ls : Array Slot, lv_has ls 2 [(0, .ref a0), (1, .int v1)] → W p l e ({ frames := 1, cells := mc, slots := ms, locals := 60 } : Room) s m args below meth c H locs cells slots (MQ below (zQ D dA b0 gs (evU r) hh) args s mc ms (zA b0)) (F0 m 13 ls []) := by
  have hx := hc.x
  have hb := hc.b
  intro n
  induction n with
  | zero =>
    intro h a0 v1 C9 S9 H locs cells slots hf hq hn ls hl
    cases hf
  | succ n ih =>
    intro h a0 v1 C9 S9 H locs cells slots hf hq hn ls hl
    unfold f_X4_keeps_b13 at hf
    refine lv_iload_n hx hb dX4_keeps_13 rfl (lv_at hl 1 rfl) ?_
    refine lv_ldc (v := (41000 : Int32)) hx hb hc.ow (hc.ts _ q2098) dX4_keeps_14 ?_
    refine lv_icmp_ge (tgt := 41) hx hb dX4_keeps_16 (by decide) (fun c9 => ?_) (fun c9 => ?_)
    · have hf := zif_t c9 hf
      refine lv_bipush (v := (6 : Int32)) hx hb dX4_keeps_41 (by decide) ?_
      refine lv_istore_n (i := 1) (lv' := [(1, .int (6 : Int32)), (0, .ref a0)]) hx hb dX4_keeps_43 rfl hl (by decide) rfl (fun ls hl => ?_)
      exact m_X4_keeps_b44 hc hr hin zFU h a0 (6 : Int32) _ _ _ _ _ _ hf hq hn _ (lv_sub hl [1, 0] rfl)
    · have hf := zif_f c9 hf
      refine lv_aload_n (x := a0) hx hb dX4_keeps_19 rfl (lv_at hl 0 rfl) ?_
      refine zr_gP hc hn (ci := 3) rfl rfl in_X4 3 (by decide) q2102 (fun _ h => h) (fun _ _ _ => rfl) hf dX4_keeps_20 (fun x101 hf => ?_)
      refine lv_iload_n hx hb dX4_keeps_23 rfl (lv_at hl 1 rfl) ?_
      refine lv_sipush (v := (4100 : Int32)) hx hb dX4_keeps_24 (by decide) ?_
      refine lv_isub hx hb dX4_keeps_27 ?_
      refine zr_nmI hf (fun x102 hf => ?_)
      refine lv_aload_n (x := a0) hx hb dX4_keeps_28 rfl (lv_at hl 0 rfl) ?_
      refine zr_gP hc hn (ci := 3) rfl rfl in_X4 3 (by decide) q2102 (fun _ h => h) (fun _ _ _ => rfl) hf dX4_keeps_29 (fun x103 hf => ?_)
      refine lv_iload_n hx hb dX4_keeps_32 rfl (lv_at hl 1 rfl) ?_
      obtain ⟨a104, e9, hf9⟩ := znn_i hf
      subst e9
      have hf := hf9
      clear hf9
      refine zr_aI0 hc hn hf dX4_keeps_33 (fun x105 hf => ?_)
      obtain ⟨a106, e9, hf9⟩ := znn_i hf
      subst e9
      have hf := hf9
      clear hf9
      refine zr_sI hc hn hf dX4_keeps_34 (fun h107 H locs hf hn => ?_)
      obtain ⟨x108, ex108, hf⟩ := znm_i hf
      refine lv_iinc (v := x108) (lv' := [(1, .int x108), (0, .ref a0)]) hx hb dX4_keeps_35 hl (k := 1) rfl (by rw [ex108]; rfl) (by decide) rfl (fun ls hl => ?_)
      refine lv_goto (tgt := 13) hx hb dX4_keeps_38 (by decide) ?_
      exact ih h107 a0 x108 _ _ _ _ _ _ hf hq hn _ (lv_sub hl [1, 0] rfl)
set_option maxHeartbeats 4000000 in
set_option maxRecDepth 100000 in
theorem m_X4_keeps (l : Launch) (D : va_G) (dA : Nat → ClassId) (b0 : Nat) (gs : Nat → Option Nat) (h : PH) (a0 : Nat) {r : Unit} {hh : PH} {mc ms : Nat} (hf : f_X4_keeps h a0 = some (r, hh, mc, ms)) : zMt l D dA b0 gs yX4_keeps cX4_keeps 2 none 1 60 [.ref a0] h (evU r) hh mc ms := by
  unfold f_X4_keeps at hf
  refine zMt.of (by decide) (Nat.le_of_ble_eq_true rfl) ?_
  intro p e s m args below meth c hc hr hin hn ls hl
  have hl : lv_has ls 2 [(0, .ref a0)] := hl
  have hq : 0 + mc = mc ∧ 0 + ms = ms := ⟨Nat.zero_add _, Nat.zero_add _⟩
  have hx := hc.x
  have hb := hc.b
  refine lv_aload_n (x := a0) hx hb dX4_keeps_0 rfl (lv_at hl 0 rfl) ?_
  refine zr_gI hc hn (ci := 3) rfl rfl in_X4 10 (by decide) q2109 (fun _ h => h) (fun _ _ _ => rfl) hf dX4_keeps_1 (fun x101 hf => ?_)
  refine lv_bipush (v := (10 : Int32)) hx hb dX4_keeps_4 (by decide) ?_
  refine lv_icmp_ne (tgt := 81) hx hb dX4_keeps_6 (by decide) (fun c9 => ?_) (fun c9 => ?_)
  · have hf := zif_f c9 hf
    exact m_X4_keeps_b81 hc hr hin h a0 _ _ _ _ _ _ hf hq hn _ (lv_sub hl [0] rfl)
  · have hf := zif_t c9 hf
    refine lv_sipush (v := (4100 : Int32)) hx hb dX4_keeps_9 (by decide) ?_
    refine lv_istore_n (i := 1) (lv' := [(1, .int (4100 : Int32)), (0, .ref a0)]) hx hb dX4_keeps_12 rfl hl (by decide) rfl (fun ls hl => ?_)
    exact m_X4_keeps_b13 hc hr hin zFU h a0 (4100 : Int32) _ _ _ _ _ _ hf hq hn _ (lv_sub hl [1, 0] rfl)
theorem hd_X4_begins : yX4_begins.cls ≠ "java/lang/invoke/MethodHandle" ∧ yX4_begins.cls ≠ "java/lang/invoke/VarHandle" ∧ (parseMethodDescriptor yX4_begins.desc).map (fun d => d.parameters.length) = some 1 := by decide +kernel
def f_X4_begins_b7 : Nat → PH → Nat → Int32 → Int32 → Int32 → ZR Unit
  | 0 => fun _ _ _ _ _ => none
  | n + 1 => fun h a0 v1 v2 v3 =>
    if (182 : Int32) ≤ v3 then
      (zgP h a0 3 1 fun x101 =>
      znm (v2 + (0 : Int32)) fun x102 =>
      znn x101 fun a103 =>
      zsI h a103 0 x102 (1 : Int32) fun h104 =>
      zgP h104 a0 3 2 fun x105 =>
      znn x105 fun a106 =>
      zsL h104 a106 3 v1 (0 : Int64) fun h107 =>
      zret () h107)
    else
      (zgP h a0 3 1 fun x108 =>
      znm (v2 + v3) fun x109 =>
      znn x108 fun a110 =>
      zsI h a110 0 x109 (0 : Int32) fun h111 =>
      znm (v3 + (1 : Int32)) fun x112 =>
      f_X4_begins_b7 n h111 a0 v1 v2 x112)
def f_X4_begins (h : PH) (a0 : Nat) (v1 : Int32) : ZR Unit :=
  zcl (f_X4_base h v1) fun x101 h102 =>
  f_X4_begins_b7 zFU h102 a0 v1 x101 (0 : Int32)
set_option maxHeartbeats 4000000 in
set_option maxRecDepth 100000 in
theorem m_X4_begins_b7 {p : Program} {l : Launch} {e : Env} {s : State} {m : MethodId} {args : Array Value} {below : List Frame} {meth : Method} {c : Code} {D : va_G} {dA : Nat → ClassId} {b0 : Nat} {gs : Nat → Option Nat} (hc : zC D dA b0 gs yX4_begins.cls cX4_begins 4 p c s m args meth) (hr : meth.sig.returnType = none) (hin : meth.name = yX4_begins.name) {r : Unit} {hh : PH} {mc ms : Nat} : ∀ (n : Nat) (h : PH) (a0 : Nat) (v1 : Int32) (v2 : Int32) (v3 : Int32) (C9 S9 : Nat) (H : Heap) (locs : List Loc) (cells slots : Nat), f_X4_begins_b7 n h a0 v1 v2 v3 = some (r, hh, C9, S9) → cells + C9 = mc ∧ slots + S9 = ms → zM D dA b0 gs s h H locs → ∀ ls : Array Slot, lv_has ls 4 [(0, .ref a0), (1, .int v1), (2, .int v2), (3, .int v3)] → W p l e ({ frames := 2, cells := mc, slots := ms, locals := 80 } : Room) s m args below meth c H locs cells slots (MQ below (zQ D dA b0 gs (evU r) hh) args s mc ms (zA b0)) (F0 m 7 ls []) := by
  have hx := hc.x
  have hb := hc.b
  intro n
  induction n with
  | zero =>
    intro h a0 v1 v2 v3 C9 S9 H locs cells slots hf hq hn ls hl
    cases hf
  | succ n ih =>
    intro h a0 v1 v2 v3 C9 S9 H locs cells slots hf hq hn ls hl
    unfold f_X4_begins_b7 at hf
    refine lv_iload_n hx hb dX4_begins_7 rfl (lv_at hl 3 rfl) ?_
    refine lv_sipush (v := (182 : Int32)) hx hb dX4_begins_8 (by decide) ?_
    refine lv_icmp_ge (tgt := 29) hx hb dX4_begins_11 (by decide) (fun c9 => ?_) (fun c9 => ?_)
    · have hf := zif_t c9 hf
      refine lv_aload_n (x := a0) hx hb dX4_begins_29 rfl (lv_at hl 0 rfl) ?_
      refine zr_gP hc hn (ci := 3) rfl rfl in_X4 1 (by decide) q2100 (fun _ h => h) (fun _ _ _ => rfl) hf dX4_begins_30 (fun x101 hf => ?_)
      refine lv_iload_n hx hb dX4_begins_33 rfl (lv_at hl 2 rfl) ?_
      refine lv_iconst (v := (0 : Int32)) hx hb dX4_begins_34 (by decide) ?_
      refine lv_iadd hx hb dX4_begins_35 ?_
      refine zr_nmI hf (fun x102 hf => ?_)
      refine lv_iconst (v := (1 : Int32)) hx hb dX4_begins_36 (by decide) ?_
      obtain ⟨a103, e9, hf9⟩ := znn_i hf
      subst e9
      have hf := hf9
      clear hf9
      refine zr_sI hc hn hf dX4_begins_37 (fun h104 H locs hf hn => ?_)
      refine lv_aload_n (x := a0) hx hb dX4_begins_38 rfl (lv_at hl 0 rfl) ?_
      refine zr_gP hc hn (ci := 3) rfl rfl in_X4 2 (by decide) q2101 (fun _ h => h) (fun _ _ _ => rfl) hf dX4_begins_39 (fun x105 hf => ?_)
      refine lv_iload_n hx hb dX4_begins_42 rfl (lv_at hl 1 rfl) ?_
      refine lv_lconst (v := (0 : Int64)) hx hb dX4_begins_43 (by decide) ?_
      obtain ⟨a106, e9, hf9⟩ := znn_i hf
      subst e9
      have hf := hf9
      clear hf9
      refine zr_sL hc hn hf dX4_begins_44 (fun h107 H locs hf hn => ?_)
      obtain ⟨rfl, rfl, rfl, rfl⟩ := zret_i hf
      exact zr_vret hc hn hr hq (fun _ _ _ _ q => q) dX4_begins_45
    · have hf := zif_f c9 hf
      refine lv_aload_n (x := a0) hx hb dX4_begins_14 rfl (lv_at hl 0 rfl) ?_
      refine zr_gP hc hn (ci := 3) rfl rfl in_X4 1 (by decide) q2100 (fun _ h => h) (fun _ _ _ => rfl) hf dX4_begins_15 (fun x108 hf => ?_)
      refine lv_iload_n hx hb dX4_begins_18 rfl (lv_at hl 2 rfl) ?_
      refine lv_iload_n hx hb dX4_begins_19 rfl (lv_at hl 3 rfl) ?_
      refine lv_iadd hx hb dX4_begins_20 ?_
      refine zr_nmI hf (fun x109 hf => ?_)
      refine lv_iconst (v := (0 : Int32)) hx hb dX4_begins_21 (by decide) ?_
      obtain ⟨a110, e9, hf9⟩ := znn_i hf
      subst e9
      have hf := hf9
      clear hf9
      refine zr_sI hc hn hf dX4_begins_22 (fun h111 H locs hf hn => ?_)
      obtain ⟨x112, ex112, hf⟩ := znm_i hf
      refine lv_iinc (v := x112) (lv' := [(3, .int x112), (0, .ref a0), (1, .int v1), (2, .int v2)]) hx hb dX4_begins_23 hl (k := 3) rfl (by rw [ex112]; rfl) (by decide) rfl (fun ls hl => ?_)
      refine lv_goto (tgt := 7) hx hb dX4_begins_26 (by decide) ?_
      exact ih h111 a0 v1 v2 x112 _ _ _ _ _ _ hf hq hn _ (lv_sub hl [1, 2, 3, 0] rfl)
set_option maxHeartbeats 4000000 in
set_option maxRecDepth 100000 in
theorem m_X4_begins (l : Launch) (D : va_G) (dA : Nat → ClassId) (b0 : Nat) (gs : Nat → Option Nat) (h : PH) (a0 : Nat) (v1 : Int32) {r : Unit} {hh : PH} {mc ms : Nat} (hf : f_X4_begins h a0 v1 = some (r, hh, mc, ms)) : zMt l D dA b0 gs yX4_begins cX4_begins 4 none 2 80 [.ref a0, .int v1] h (evU r) hh mc ms := by
  unfold f_X4_begins at hf
  refine zMt.of (by decide) (Nat.le_of_ble_eq_true rfl) ?_
  intro p e s m args below meth c hc hr hin hn ls hl
  have hl : lv_has ls 4 [(0, .ref a0), (1, .int v1)] := hl
  have hq : 0 + mc = mc ∧ 0 + ms = ms := ⟨Nat.zero_add _, Nat.zero_add _⟩
  have hx := hc.x
  have hb := hc.b
  refine lv_iload_n hx hb dX4_begins_0 rfl (lv_at hl 1 rfl) ?_
  refine zr_cSI (As := [.int v1]) (rest := []) hc hn hq hd_X4_base (lw_S q2284 q2285 q91 q2286) (Nat.le_of_ble_eq_true rfl) (Nat.le_of_ble_eq_true rfl) (fun _ _ _ _ q => m_X4_base l D dA b0 gs h v1 q) hf dX4_begins_1 hl.1 rfl rfl (zroom (Nat.le_of_ble_eq_true rfl)) (fun x101 h102 H locs cells slots C9 S9 hf hq hn => ?_)
  refine lv_istore_n (i := 2) (lv' := [(2, .int x101), (0, .ref a0), (1, .int v1)]) hx hb dX4_begins_4 rfl hl (by decide) rfl (fun ls hl => ?_)
  refine lv_iconst (v := (0 : Int32)) hx hb dX4_begins_5 (by decide) ?_
  refine lv_istore_n (i := 3) (lv' := [(3, .int (0 : Int32)), (2, .int x101), (0, .ref a0), (1, .int v1)]) hx hb dX4_begins_6 rfl hl (by decide) rfl (fun ls hl => ?_)
  exact m_X4_begins_b7 hc hr hin zFU h102 a0 v1 x101 (0 : Int32) _ _ _ _ _ _ hf hq hn _ (lv_sub hl [2, 3, 1, 0] rfl)
theorem hd_X4_create : yX4_create.cls ≠ "java/lang/invoke/MethodHandle" ∧ yX4_create.cls ≠ "java/lang/invoke/VarHandle" ∧ (parseMethodDescriptor yX4_create.desc).map (fun d => d.parameters.length) = some 0 := by decide +kernel
def f_X4_create (h : PH) (a0 : Nat) : ZR Int32 :=
  zrc h a0 3 <| zcl (f_X4_spare h a0) fun x101 h102 =>
  if 0 ≤ x101 then
    (zpI h102 a0 3 0 (0 : Int32) fun h103 =>
    zgI h103 a0 3 0 fun x104 =>
    if x104 ≤ 0 then
      (zrc h103 a0 3 <| zcl (f_X4_keeps h103 a0) fun _ h106 =>
      zrc h106 a0 3 <| zcl (f_X4_begins h106 a0 x101) fun _ h108 =>
      zret x101 h108)
    else
      (zret (0 : Int32) h103))
  else
    (zpI h102 a0 3 0 (1 : Int32) fun h109 =>
    zgI h109 a0 3 0 fun x110 =>
    if x110 ≤ 0 then
      (zrc h109 a0 3 <| zcl (f_X4_keeps h109 a0) fun _ h112 =>
      zrc h112 a0 3 <| zcl (f_X4_begins h112 a0 x101) fun _ h114 =>
      zret x101 h114)
    else
      (zret (0 : Int32) h109))
set_option maxHeartbeats 4000000 in
set_option maxRecDepth 100000 in
theorem m_X4_create (l : Launch) (D : va_G) (dA : Nat → ClassId) (b0 : Nat) (gs : Nat → Option Nat) (h : PH) (a0 : Nat) {r : Int32} {hh : PH} {mc ms : Nat} (hf : f_X4_create h a0 = some (r, hh, mc, ms)) : zMt l D dA b0 gs yX4_create cX4_create 2 (some .int) 3 103 [.ref a0] h (evI r) hh mc ms := by
  unfold f_X4_create at hf
  refine zMt.of (by decide) (Nat.le_of_ble_eq_true rfl) ?_
  intro p e s m args below meth c hc hr hin hn ls hl
  have hl : lv_has ls 2 [(0, .ref a0)] := hl
  have hq : 0 + mc = mc ∧ 0 + ms = ms := ⟨Nat.zero_add _, Nat.zero_add _⟩
  have hx := hc.x
  have hb := hc.b
  refine lv_aload_n (x := a0) hx hb dX4_create_0 rfl (lv_at hl 0 rfl) ?_
  refine zr_cVI (As := []) (rest := []) hc hn hq (ci := 3) rfl ⟨rfl, hd_X4_spare⟩ (lw_V q2561 q2563 qs77 q91 q2564) (Nat.le_of_ble_eq_true rfl) (Nat.le_of_ble_eq_true rfl) (fun _ _ _ _ q => m_X4_spare l D dA b0 gs h a0 q) hf dX4_create_1 hl.1 rfl rfl (zroom (Nat.le_of_ble_eq_true rfl)) (fun x101 h102 H locs cells slots C9 S9 hf hq hn => ?_)
  refine lv_istore_n (i := 1) (lv' := [(1, .int x101), (0, .ref a0)]) hx hb dX4_create_4 rfl hl (by decide) rfl (fun ls hl => ?_)
  refine lv_aload_n (x := a0) hx hb dX4_create_5 rfl (lv_at hl 1 rfl) ?_
  refine lv_iload_n hx hb dX4_create_6 rfl (lv_at hl 0 rfl) ?_
  refine lv_if_ge (tgt := 14) hx hb dX4_create_7 (by decide) (fun c9 => ?_) (fun c9 => ?_)
  · have hf := zif_t c9 hf
    refine lv_iconst (v := (0 : Int32)) hx hb dX4_create_14 (by decide) ?_
    refine zr_pI (x := (0 : Int32)) hc hn (ci := 3) rfl rfl in_X4 0 (by decide) tyX4 tyX4_ok nmX4 q2099 (fun _ h => h) (Or.inl rfl) (fun _ _ _ => rfl) rfl rfl hf dX4_create_15 (fun h103 H locs hf hn => ?_)
    refine lv_aload_n (x := a0) hx hb dX4_create_18 rfl (lv_at hl 1 rfl) ?_
    refine zr_gI hc hn (ci := 3) rfl rfl in_X4 0 (by decide) q2099 (fun _ h => h) (fun _ _ _ => rfl) hf dX4_create_19 (fun x104 hf => ?_)
    refine lv_if_le (tgt := 27) hx hb dX4_create_22 (by decide) (fun c9 => ?_) (fun c9 => ?_)
    · have hf := zif_t c9 hf
      refine lv_aload_n (x := a0) hx hb dX4_create_27 rfl (lv_at hl 1 rfl) ?_
      refine zr_cVU (As := []) (rest := []) hc hn hq (ci := 3) rfl ⟨rfl, hd_X4_keeps⟩ (lw_V q2565 q2567 qs78 q91 q2568) (Nat.le_of_ble_eq_true rfl) (Nat.le_of_ble_eq_true rfl) (fun _ _ _ _ q => m_X4_keeps l D dA b0 gs h103 a0 q) hf dX4_create_28 hl.1 rfl rfl (zroom (Nat.le_of_ble_eq_true rfl)) (fun x105 h106 H locs cells slots C9 S9 hf hq hn => ?_)
      refine lv_aload_n (x := a0) hx hb dX4_create_31 rfl (lv_at hl 1 rfl) ?_
      refine lv_iload_n hx hb dX4_create_32 rfl (lv_at hl 0 rfl) ?_
      refine zr_cVU (As := [.int x101]) (rest := []) hc hn hq (ci := 3) rfl ⟨rfl, hd_X4_begins⟩ (lw_V q2569 q2571 qs79 q91 q2572) (Nat.le_of_ble_eq_true rfl) (Nat.le_of_ble_eq_true rfl) (fun _ _ _ _ q => m_X4_begins l D dA b0 gs h106 a0 x101 q) hf dX4_create_33 hl.1 rfl rfl (zroom (Nat.le_of_ble_eq_true rfl)) (fun x107 h108 H locs cells slots C9 S9 hf hq hn => ?_)
      refine lv_iload_n hx hb dX4_create_36 rfl (lv_at hl 0 rfl) ?_
      obtain ⟨rfl, rfl, rfl, rfl⟩ := zret_i hf
      exact zr_iret hc hn hr hq (fun _ _ _ _ q => q) dX4_create_37
    · have hf := zif_f c9 hf
      refine lv_iconst (v := (0 : Int32)) hx hb dX4_create_25 (by decide) ?_
      obtain ⟨rfl, rfl, rfl, rfl⟩ := zret_i hf
      exact zr_iret hc hn hr hq (fun _ _ _ _ q => q) dX4_create_26
  · have hf := zif_f c9 hf
    refine lv_iconst (v := (1 : Int32)) hx hb dX4_create_10 (by decide) ?_
    refine lv_goto (tgt := 15) hx hb dX4_create_11 (by decide) ?_
    refine zr_pI (x := (1 : Int32)) hc hn (ci := 3) rfl rfl in_X4 0 (by decide) tyX4 tyX4_ok nmX4 q2099 (fun _ h => h) (Or.inl rfl) (fun _ _ _ => rfl) rfl rfl hf dX4_create_15 (fun h109 H locs hf hn => ?_)
    refine lv_aload_n (x := a0) hx hb dX4_create_18 rfl (lv_at hl 1 rfl) ?_
    refine zr_gI hc hn (ci := 3) rfl rfl in_X4 0 (by decide) q2099 (fun _ h => h) (fun _ _ _ => rfl) hf dX4_create_19 (fun x110 hf => ?_)
    refine lv_if_le (tgt := 27) hx hb dX4_create_22 (by decide) (fun c9 => ?_) (fun c9 => ?_)
    · have hf := zif_t c9 hf
      refine lv_aload_n (x := a0) hx hb dX4_create_27 rfl (lv_at hl 1 rfl) ?_
      refine zr_cVU (As := []) (rest := []) hc hn hq (ci := 3) rfl ⟨rfl, hd_X4_keeps⟩ (lw_V q2565 q2567 qs78 q91 q2568) (Nat.le_of_ble_eq_true rfl) (Nat.le_of_ble_eq_true rfl) (fun _ _ _ _ q => m_X4_keeps l D dA b0 gs h109 a0 q) hf dX4_create_28 hl.1 rfl rfl (zroom (Nat.le_of_ble_eq_true rfl)) (fun x111 h112 H locs cells slots C9 S9 hf hq hn => ?_)
      refine lv_aload_n (x := a0) hx hb dX4_create_31 rfl (lv_at hl 1 rfl) ?_
      refine lv_iload_n hx hb dX4_create_32 rfl (lv_at hl 0 rfl) ?_
      refine zr_cVU (As := [.int x101]) (rest := []) hc hn hq (ci := 3) rfl ⟨rfl, hd_X4_begins⟩ (lw_V q2569 q2571 qs79 q91 q2572) (Nat.le_of_ble_eq_true rfl) (Nat.le_of_ble_eq_true rfl) (fun _ _ _ _ q => m_X4_begins l D dA b0 gs h112 a0 x101 q) hf dX4_create_33 hl.1 rfl rfl (zroom (Nat.le_of_ble_eq_true rfl)) (fun x113 h114 H locs cells slots C9 S9 hf hq hn => ?_)
      refine lv_iload_n hx hb dX4_create_36 rfl (lv_at hl 0 rfl) ?_
      obtain ⟨rfl, rfl, rfl, rfl⟩ := zret_i hf
      exact zr_iret hc hn hr hq (fun _ _ _ _ q => q) dX4_create_37
    · have hf := zif_f c9 hf
      refine lv_iconst (v := (0 : Int32)) hx hb dX4_create_25 (by decide) ?_
      obtain ⟨rfl, rfl, rfl, rfl⟩ := zret_i hf
      exact zr_iret hc hn hr hq (fun _ _ _ _ q => q) dX4_create_26
theorem hd_X4_ends : yX4_ends.cls ≠ "java/lang/invoke/MethodHandle" ∧ yX4_ends.cls ≠ "java/lang/invoke/VarHandle" ∧ (parseMethodDescriptor yX4_ends.desc).map (fun d => d.parameters.length) = some 1 := by decide +kernel
def f_X4_ends (h : PH) (a0 : Nat) (v1 : Int32) : ZR Unit :=
  zgP h a0 3 1 fun x101 =>
  zcl (f_X4_base h v1) fun x102 h103 =>
  znm (x102 + (0 : Int32)) fun x104 =>
  znn x101 fun a105 =>
  zsI h103 a105 0 x104 (0 : Int32) fun h106 =>
  zgP h106 a0 3 1 fun x107 =>
  zcl (f_X4_base h106 v1) fun x108 h109 =>
  znm (x108 + (1 : Int32)) fun x110 =>
  znn x107 fun a111 =>
  zsI h109 a111 0 x110 (0 : Int32) fun h112 =>
  zgP h112 a0 3 2 fun x113 =>
  znn x113 fun a114 =>
  zsL h112 a114 3 v1 (0 : Int64) fun h115 =>
  zret () h115
set_option maxHeartbeats 4000000 in
set_option maxRecDepth 100000 in
theorem m_X4_ends (l : Launch) (D : va_G) (dA : Nat → ClassId) (b0 : Nat) (gs : Nat → Option Nat) (h : PH) (a0 : Nat) (v1 : Int32) {r : Unit} {hh : PH} {mc ms : Nat} (hf : f_X4_ends h a0 v1 = some (r, hh, mc, ms)) : zMt l D dA b0 gs yX4_ends cX4_ends 2 none 2 80 [.ref a0, .int v1] h (evU r) hh mc ms := by
  unfold f_X4_ends at hf
  refine zMt.of (by decide) (Nat.le_of_ble_eq_true rfl) ?_
  intro p e s m args below meth c hc hr hin hn ls hl
  have hl : lv_has ls 2 [(0, .ref a0), (1, .int v1)] := hl
  have hq : 0 + mc = mc ∧ 0 + ms = ms := ⟨Nat.zero_add _, Nat.zero_add _⟩
  have hx := hc.x
  have hb := hc.b
  refine lv_aload_n (x := a0) hx hb dX4_ends_0 rfl (lv_at hl 0 rfl) ?_
  refine zr_gP hc hn (ci := 3) rfl rfl in_X4 1 (by decide) q2100 (fun _ h => h) (fun _ _ _ => rfl) hf dX4_ends_1 (fun x101 hf => ?_)
  refine lv_iload_n hx hb dX4_ends_4 rfl (lv_at hl 1 rfl) ?_
  refine zr_cSI (As := [.int v1]) (rest := [va_rf x101]) hc hn hq hd_X4_base (lw_S q2284 q2285 q91 q2286) (Nat.le_of_ble_eq_true rfl) (Nat.le_of_ble_eq_true rfl) (fun _ _ _ _ q => m_X4_base l D dA b0 gs h v1 q) hf dX4_ends_5 hl.1 rfl rfl (zroom (Nat.le_of_ble_eq_true rfl)) (fun x102 h103 H locs cells slots C9 S9 hf hq hn => ?_)
  refine lv_iconst (v := (0 : Int32)) hx hb dX4_ends_8 (by decide) ?_
  refine lv_iadd hx hb dX4_ends_9 ?_
  refine zr_nmI hf (fun x104 hf => ?_)
  refine lv_iconst (v := (0 : Int32)) hx hb dX4_ends_10 (by decide) ?_
  obtain ⟨a105, e9, hf9⟩ := znn_i hf
  subst e9
  have hf := hf9
  clear hf9
  refine zr_sI hc hn hf dX4_ends_11 (fun h106 H locs hf hn => ?_)
  refine lv_aload_n (x := a0) hx hb dX4_ends_12 rfl (lv_at hl 0 rfl) ?_
  refine zr_gP hc hn (ci := 3) rfl rfl in_X4 1 (by decide) q2100 (fun _ h => h) (fun _ _ _ => rfl) hf dX4_ends_13 (fun x107 hf => ?_)
  refine lv_iload_n hx hb dX4_ends_16 rfl (lv_at hl 1 rfl) ?_
  refine zr_cSI (As := [.int v1]) (rest := [va_rf x107]) hc hn hq hd_X4_base (lw_S q2284 q2285 q91 q2286) (Nat.le_of_ble_eq_true rfl) (Nat.le_of_ble_eq_true rfl) (fun _ _ _ _ q => m_X4_base l D dA b0 gs h106 v1 q) hf dX4_ends_17 hl.1 rfl rfl (zroom (Nat.le_of_ble_eq_true rfl)) (fun x108 h109 H locs cells slots C9 S9 hf hq hn => ?_)
  refine lv_iconst (v := (1 : Int32)) hx hb dX4_ends_20 (by decide) ?_
  refine lv_iadd hx hb dX4_ends_21 ?_
  refine zr_nmI hf (fun x110 hf => ?_)
  refine lv_iconst (v := (0 : Int32)) hx hb dX4_ends_22 (by decide) ?_
  obtain ⟨a111, e9, hf9⟩ := znn_i hf
  subst e9
  have hf := hf9
  clear hf9
  refine zr_sI hc hn hf dX4_ends_23 (fun h112 H locs hf hn => ?_)
  refine lv_aload_n (x := a0) hx hb dX4_ends_24 rfl (lv_at hl 0 rfl) ?_
  refine zr_gP hc hn (ci := 3) rfl rfl in_X4 2 (by decide) q2101 (fun _ h => h) (fun _ _ _ => rfl) hf dX4_ends_25 (fun x113 hf => ?_)
  refine lv_iload_n hx hb dX4_ends_28 rfl (lv_at hl 1 rfl) ?_
  refine lv_lconst (v := (0 : Int64)) hx hb dX4_ends_29 (by decide) ?_
  obtain ⟨a114, e9, hf9⟩ := znn_i hf
  subst e9
  have hf := hf9
  clear hf9
  refine zr_sL hc hn hf dX4_ends_30 (fun h115 H locs hf hn => ?_)
  obtain ⟨rfl, rfl, rfl, rfl⟩ := zret_i hf
  exact zr_vret hc hn hr hq (fun _ _ _ _ q => q) dX4_ends_31
theorem hd_X4_drop : yX4_drop.cls ≠ "java/lang/invoke/MethodHandle" ∧ yX4_drop.cls ≠ "java/lang/invoke/VarHandle" ∧ (parseMethodDescriptor yX4_drop.desc).map (fun d => d.parameters.length) = some 1 := by decide +kernel
def f_X4_drop_b14 (h : PH) (a0 : Nat) (v1 : Int32) (s0 : Nat) (s1 : Int32) : ZR Int32 :=
  zpI h s0 3 0 s1 fun h101 =>
  zgI h101 a0 3 0 fun x102 =>
  if x102 ≤ 0 then
    (zrc h101 a0 3 <| zcl (f_X4_keeps h101 a0) fun _ h104 =>
    zgP h104 a0 3 1 fun x105 =>
    zcl (f_X4_base h104 v1) fun x106 h107 =>
    znm (x106 + (1 : Int32)) fun x108 =>
    znn x105 fun a109 =>
    zaI h107 a109 0 x108 fun x110 =>
    zrc h107 a0 3 <| zcl (f_X4_ends h107 a0 v1) fun _ h112 =>
    zret x110 h112)
  else
    (zret (0 : Int32) h101)
def f_X4_drop (h : PH) (a0 : Nat) (v1 : Int32) : ZR Int32 :=
  zrc h a0 3 <| zcl (f_X4_isList h a0 v1) fun x101 h102 =>
  if x101 = 0 then
    (f_X4_drop_b14 h102 a0 v1 a0 (1 : Int32))
  else
    (f_X4_drop_b14 h102 a0 v1 a0 (0 : Int32))
set_option maxHeartbeats 4000000 in
set_option maxRecDepth 100000 in
theorem m_X4_drop_b14 {p : Program} {l : Launch} {e : Env} {s : State} {m : MethodId} {args : Array Value} {below : List Frame} {meth : Method} {c : Code} {D : va_G} {dA : Nat → ClassId} {b0 : Nat} {gs : Nat → Option Nat} (hc : zC D dA b0 gs yX4_drop.cls cX4_drop 3 p c s m args meth) (hr : meth.sig.returnType = (some .int)) (hin : meth.name = yX4_drop.name) {r : Int32} {hh : PH} {mc ms : Nat} : ∀ (h : PH) (a0 : Nat) (v1 : Int32) (s0 : Nat) (s1 : Int32) (C9 S9 : Nat) (H : Heap) (locs : List Loc) (cells slots : Nat), f_X4_drop_b14 h a0 v1 s0 s1 = some (r, hh, C9, S9) → cells + C9 = mc ∧ slots + S9 = ms → zM D dA b0 gs s h H locs → ∀ ls : Array Slot, lv_has ls 3 [(0, .ref a0), (1, .int v1)] → W p l e ({ frames := 3, cells := mc, slots := ms, locals := 106 } : Room) s m args below meth c H locs cells slots (MQ below (zQ D dA b0 gs (evI r) hh) args s mc ms (zA b0)) (F0 m 14 ls [.int s1, .ref s0]) := by
  have hx := hc.x
  have hb := hc.b
  intro h a0 v1 s0 s1 C9 S9 H locs cells slots hf hq hn ls hl
  unfold f_X4_drop_b14 at hf
  refine zr_pI (x := s1) hc hn (ci := 3) rfl rfl in_X4 0 (by decide) tyX4 tyX4_ok nmX4 q2099 (fun _ h => h) (Or.inl rfl) (fun _ _ _ => rfl) rfl rfl hf dX4_drop_14 (fun h101 H locs hf hn => ?_)
  refine lv_aload_n (x := a0) hx hb dX4_drop_17 rfl (lv_at hl 0 rfl) ?_
  refine zr_gI hc hn (ci := 3) rfl rfl in_X4 0 (by decide) q2099 (fun _ h => h) (fun _ _ _ => rfl) hf dX4_drop_18 (fun x102 hf => ?_)
  refine lv_if_le (tgt := 26) hx hb dX4_drop_21 (by decide) (fun c9 => ?_) (fun c9 => ?_)
  · have hf := zif_t c9 hf
    refine lv_aload_n (x := a0) hx hb dX4_drop_26 rfl (lv_at hl 0 rfl) ?_
    refine zr_cVU (As := []) (rest := []) hc hn hq (ci := 3) rfl ⟨rfl, hd_X4_keeps⟩ (lw_V q2565 q2567 qs78 q91 q2568) (Nat.le_of_ble_eq_true rfl) (Nat.le_of_ble_eq_true rfl) (fun _ _ _ _ q => m_X4_keeps l D dA b0 gs h101 a0 q) hf dX4_drop_27 hl.1 rfl rfl (zroom (Nat.le_of_ble_eq_true rfl)) (fun x103 h104 H locs cells slots C9 S9 hf hq hn => ?_)
    refine lv_aload_n (x := a0) hx hb dX4_drop_30 rfl (lv_at hl 0 rfl) ?_
    refine zr_gP hc hn (ci := 3) rfl rfl in_X4 1 (by decide) q2100 (fun _ h => h) (fun _ _ _ => rfl) hf dX4_drop_31 (fun x105 hf => ?_)
    refine lv_iload_n hx hb dX4_drop_34 rfl (lv_at hl 1 rfl) ?_
    refine zr_cSI (As := [.int v1]) (rest := [va_rf x105]) hc hn hq hd_X4_base (lw_S q2284 q2285 q91 q2286) (Nat.le_of_ble_eq_true rfl) (Nat.le_of_ble_eq_true rfl) (fun _ _ _ _ q => m_X4_base l D dA b0 gs h104 v1 q) hf dX4_drop_35 hl.1 rfl rfl (zroom (Nat.le_of_ble_eq_true rfl)) (fun x106 h107 H locs cells slots C9 S9 hf hq hn => ?_)
    refine lv_iconst (v := (1 : Int32)) hx hb dX4_drop_38 (by decide) ?_
    refine lv_iadd hx hb dX4_drop_39 ?_
    refine zr_nmI hf (fun x108 hf => ?_)
    obtain ⟨a109, e9, hf9⟩ := znn_i hf
    subst e9
    have hf := hf9
    clear hf9
    refine zr_aI0 hc hn hf dX4_drop_40 (fun x110 hf => ?_)
    refine lv_istore_n (i := 2) (lv' := [(2, .int x110), (0, .ref a0), (1, .int v1)]) hx hb dX4_drop_41 rfl hl (by decide) rfl (fun ls hl => ?_)
    refine lv_aload_n (x := a0) hx hb dX4_drop_42 rfl (lv_at hl 1 rfl) ?_
    refine lv_iload_n hx hb dX4_drop_43 rfl (lv_at hl 2 rfl) ?_
    refine zr_cVU (As := [.int v1]) (rest := []) hc hn hq (ci := 3) rfl ⟨rfl, hd_X4_ends⟩ (lw_V q2577 q2579 qs80 q91 q2580) (Nat.le_of_ble_eq_true rfl) (Nat.le_of_ble_eq_true rfl) (fun _ _ _ _ q => m_X4_ends l D dA b0 gs h107 a0 v1 q) hf dX4_drop_44 hl.1 rfl rfl (zroom (Nat.le_of_ble_eq_true rfl)) (fun x111 h112 H locs cells slots C9 S9 hf hq hn => ?_)
    refine lv_iload_n hx hb dX4_drop_47 rfl (lv_at hl 0 rfl) ?_
    obtain ⟨rfl, rfl, rfl, rfl⟩ := zret_i hf
    exact zr_iret hc hn hr hq (fun _ _ _ _ q => q) dX4_drop_48
  · have hf := zif_f c9 hf
    refine lv_iconst (v := (0 : Int32)) hx hb dX4_drop_24 (by decide) ?_
    obtain ⟨rfl, rfl, rfl, rfl⟩ := zret_i hf
    exact zr_iret hc hn hr hq (fun _ _ _ _ q => q) dX4_drop_25
set_option maxHeartbeats 4000000 in
set_option maxRecDepth 100000 in
theorem m_X4_drop (l : Launch) (D : va_G) (dA : Nat → ClassId) (b0 : Nat) (gs : Nat → Option Nat) (h : PH) (a0 : Nat) (v1 : Int32) {r : Int32} {hh : PH} {mc ms : Nat} (hf : f_X4_drop h a0 v1 = some (r, hh, mc, ms)) : zMt l D dA b0 gs yX4_drop cX4_drop 3 (some .int) 3 106 [.ref a0, .int v1] h (evI r) hh mc ms := by
  unfold f_X4_drop at hf
  refine zMt.of (by decide) (Nat.le_of_ble_eq_true rfl) ?_
  intro p e s m args below meth c hc hr hin hn ls hl
  have hl : lv_has ls 3 [(0, .ref a0), (1, .int v1)] := hl
  have hq : 0 + mc = mc ∧ 0 + ms = ms := ⟨Nat.zero_add _, Nat.zero_add _⟩
  have hx := hc.x
  have hb := hc.b
  refine lv_aload_n (x := a0) hx hb dX4_drop_0 rfl (lv_at hl 0 rfl) ?_
  refine lv_aload_n (x := a0) hx hb dX4_drop_1 rfl (lv_at hl 0 rfl) ?_
  refine lv_iload_n hx hb dX4_drop_2 rfl (lv_at hl 1 rfl) ?_
  refine zr_cVI (As := [.int v1]) (rest := [.ref a0]) hc hn hq (ci := 3) rfl ⟨rfl, hd_X4_isList⟩ (lw_V q2343 q2345 qs57 q91 q2346) (Nat.le_of_ble_eq_true rfl) (Nat.le_of_ble_eq_true rfl) (fun _ _ _ _ q => m_X4_isList l D dA b0 gs h a0 v1 q) hf dX4_drop_3 hl.1 rfl rfl (zroom (Nat.le_of_ble_eq_true rfl)) (fun x101 h102 H locs cells slots C9 S9 hf hq hn => ?_)
  refine lv_if_eq (tgt := 13) hx hb dX4_drop_6 (by decide) (fun c9 => ?_) (fun c9 => ?_)
  · have hf := zif_t c9 hf
    refine lv_iconst (v := (1 : Int32)) hx hb dX4_drop_13 (by decide) ?_
    exact m_X4_drop_b14 hc hr hin h102 a0 v1 a0 (1 : Int32) _ _ _ _ _ _ hf hq hn _ (lv_sub hl [0, 1] rfl)
  · have hf := zif_f c9 hf
    refine lv_iconst (v := (0 : Int32)) hx hb dX4_drop_9 (by decide) ?_
    refine lv_goto (tgt := 14) hx hb dX4_drop_10 (by decide) ?_
    exact m_X4_drop_b14 hc hr hin h102 a0 v1 a0 (0 : Int32) _ _ _ _ _ _ hf hq hn _ (lv_sub hl [0, 1] rfl)
theorem hd_X4_insert : yX4_insert.cls ≠ "java/lang/invoke/MethodHandle" ∧ yX4_insert.cls ≠ "java/lang/invoke/VarHandle" ∧ (parseMethodDescriptor yX4_insert.desc).map (fun d => d.parameters.length) = some 3 := by decide +kernel
def f_X4_insert_b61 (h : PH) (a0 : Nat) (v1 : Int32) (v2 : Int32) (v3 : Int32) (s0 : Nat) (s1 : Int32) : ZR Int32 :=
  zpI h s0 3 0 s1 fun h101 =>
  zgI h101 a0 3 0 fun x102 =>
  if x102 ≤ 0 then
    (zrc h101 a0 3 <| zcl (f_X4_keeps h101 a0) fun _ h104 =>
    zgP h104 a0 3 1 fun x105 =>
    znn x105 fun a106 =>
    zaI h104 a106 0 (1 : Int32) fun x107 =>
    znm (x107 + (1 : Int32)) fun x108 =>
    zsI h104 a106 0 (1 : Int32) x108 fun h109 =>
    zrc h109 a0 3 <| zcl (f_X4_puts h109 a0 v1 v2 v3) fun x110 h111 =>
    zret x110 h111)
  else
    (zret (0 : Int32) h101)
def f_X4_insert_b27 (h : PH) (a0 : Nat) (v1 : Int32) (v2 : Int32) (v3 : Int32) (s0 : Nat) : ZR Int32 :=
  f_X4_insert_b61 h a0 v1 v2 v3 s0 (2 : Int32)
def f_X4_insert_b56 (h : PH) (a0 : Nat) (v1 : Int32) (v2 : Int32) (v3 : Int32) (s0 : Nat) : ZR Int32 :=
  f_X4_insert_b61 h a0 v1 v2 v3 s0 (3 : Int32)
def f_X4_insert (h : PH) (a0 : Nat) (v1 : Int32) (v2 : Int32) (v3 : Int32) : ZR Int32 :=
  zrc h a0 3 <| zcl (f_X4_isList h a0 v1) fun x101 h102 =>
  if x101 = 0 then
    (f_X4_insert_b61 h102 a0 v1 v2 v3 a0 (1 : Int32))
  else
    (zcl (f_X4_isKey h102 v2) fun x103 h104 =>
    if x103 = 0 then
      (f_X4_insert_b27 h104 a0 v1 v2 v3 a0)
    else
      (zcl (f_X4_isKey h104 v3) fun x105 h106 =>
      if x105 = 0 then
        (f_X4_insert_b27 h106 a0 v1 v2 v3 a0)
      else
        (zgP h106 a0 3 1 fun x107 =>
        zcl (f_X4_base h106 v1) fun x108 h109 =>
        znm (x108 + (1 : Int32)) fun x110 =>
        znn x107 fun a111 =>
        zaI h109 a111 0 x110 fun x112 =>
        if x112 = (60 : Int32) then
          (f_X4_insert_b56 h109 a0 v1 v2 v3 a0)
        else
          (zrc h109 a0 3 <| zcl (f_X4_placeOf h109 a0 v1 v2) fun x113 h114 =>
          if x113 < 0 then
            (f_X4_insert_b61 h114 a0 v1 v2 v3 a0 (0 : Int32))
          else
            (f_X4_insert_b56 h114 a0 v1 v2 v3 a0)))))
set_option maxHeartbeats 4000000 in
set_option maxRecDepth 100000 in
theorem m_X4_insert_b61 {p : Program} {l : Launch} {e : Env} {s : State} {m : MethodId} {args : Array Value} {below : List Frame} {meth : Method} {c : Code} {D : va_G} {dA : Nat → ClassId} {b0 : Nat} {gs : Nat → Option Nat} (hc : zC D dA b0 gs yX4_insert.cls cX4_insert 4 p c s m args meth) (hr : meth.sig.returnType = (some .int)) (hin : meth.name = yX4_insert.name) {r : Int32} {hh : PH} {mc ms : Nat} : ∀ (h : PH) (a0 : Nat) (v1 : Int32) (v2 : Int32) (v3 : Int32) (s0 : Nat) (s1 : Int32) (C9 S9 : Nat) (H : Heap) (locs : List Loc) (cells slots : Nat), f_X4_insert_b61 h a0 v1 v2 v3 s0 s1 = some (r, hh, C9, S9) → cells + C9 = mc ∧ slots + S9 = ms → zM D dA b0 gs s h H locs → ∀ ls : Array Slot, lv_has ls 4 [(0, .ref a0), (1, .int v1), (2, .int v2), (3, .int v3)] → W p l e ({ frames := 7, cells := mc, slots := ms, locals := 211 } : Room) s m args below meth c H locs cells slots (MQ below (zQ D dA b0 gs (evI r) hh) args s mc ms (zA b0)) (F0 m 61 ls [.int s1, .ref s0]) := by
  have hx := hc.x
  have hb := hc.b
  intro h a0 v1 v2 v3 s0 s1 C9 S9 H locs cells slots hf hq hn ls hl
  unfold f_X4_insert_b61 at hf
  refine zr_pI (x := s1) hc hn (ci := 3) rfl rfl in_X4 0 (by decide) tyX4 tyX4_ok nmX4 q2099 (fun _ h => h) (Or.inl rfl) (fun _ _ _ => rfl) rfl rfl hf dX4_insert_61 (fun h101 H locs hf hn => ?_)
  refine lv_aload_n (x := a0) hx hb dX4_insert_64 rfl (lv_at hl 0 rfl) ?_
  refine zr_gI hc hn (ci := 3) rfl rfl in_X4 0 (by decide) q2099 (fun _ h => h) (fun _ _ _ => rfl) hf dX4_insert_65 (fun x102 hf => ?_)
  refine lv_if_le (tgt := 73) hx hb dX4_insert_68 (by decide) (fun c9 => ?_) (fun c9 => ?_)
  · have hf := zif_t c9 hf
    refine lv_aload_n (x := a0) hx hb dX4_insert_73 rfl (lv_at hl 0 rfl) ?_
    refine zr_cVU (As := []) (rest := []) hc hn hq (ci := 3) rfl ⟨rfl, hd_X4_keeps⟩ (lw_V q2565 q2567 qs78 q91 q2568) (Nat.le_of_ble_eq_true rfl) (Nat.le_of_ble_eq_true rfl) (fun _ _ _ _ q => m_X4_keeps l D dA b0 gs h101 a0 q) hf dX4_insert_74 hl.1 rfl rfl (zroom (Nat.le_of_ble_eq_true rfl)) (fun x103 h104 H locs cells slots C9 S9 hf hq hn => ?_)
    refine lv_aload_n (x := a0) hx hb dX4_insert_77 rfl (lv_at hl 0 rfl) ?_
    refine zr_gP hc hn (ci := 3) rfl rfl in_X4 1 (by decide) q2100 (fun _ h => h) (fun _ _ _ => rfl) hf dX4_insert_78 (fun x105 hf => ?_)
    refine lv_iconst (v := (1 : Int32)) hx hb dX4_insert_81 (by decide) ?_
    refine lv_dup2_11 hx hb dX4_insert_82 rfl (zcat_rf _) ?_
    obtain ⟨a106, e9, hf9⟩ := znn_i hf
    subst e9
    have hf := hf9
    clear hf9
    refine zr_aI0 hc hn hf dX4_insert_83 (fun x107 hf => ?_)
    refine lv_iconst (v := (1 : Int32)) hx hb dX4_insert_84 (by decide) ?_
    refine lv_iadd hx hb dX4_insert_85 ?_
    refine zr_nmI hf (fun x108 hf => ?_)
    refine zr_sI hc hn hf dX4_insert_86 (fun h109 H locs hf hn => ?_)
    refine lv_aload_n (x := a0) hx hb dX4_insert_87 rfl (lv_at hl 0 rfl) ?_
    refine lv_iload_n hx hb dX4_insert_88 rfl (lv_at hl 1 rfl) ?_
    refine lv_iload_n hx hb dX4_insert_89 rfl (lv_at hl 2 rfl) ?_
    refine lv_iload_n hx hb dX4_insert_90 rfl (lv_at hl 3 rfl) ?_
    refine zr_cVI (As := [.int v1, .int v2, .int v3]) (rest := []) hc hn hq (ci := 3) rfl ⟨rfl, hd_X4_puts⟩ (lw_V q2489 q2491 qs69 q91 q2492) (Nat.le_of_ble_eq_true rfl) (Nat.le_of_ble_eq_true rfl) (fun _ _ _ _ q => m_X4_puts l D dA b0 gs h109 a0 v1 v2 v3 q) hf dX4_insert_91 hl.1 rfl rfl (zroom (Nat.le_of_ble_eq_true rfl)) (fun x110 h111 H locs cells slots C9 S9 hf hq hn => ?_)
    obtain ⟨rfl, rfl, rfl, rfl⟩ := zret_i hf
    exact zr_iret hc hn hr hq (fun _ _ _ _ q => q) dX4_insert_94
  · have hf := zif_f c9 hf
    refine lv_iconst (v := (0 : Int32)) hx hb dX4_insert_71 (by decide) ?_
    obtain ⟨rfl, rfl, rfl, rfl⟩ := zret_i hf
    exact zr_iret hc hn hr hq (fun _ _ _ _ q => q) dX4_insert_72
set_option maxHeartbeats 4000000 in
set_option maxRecDepth 100000 in
theorem m_X4_insert_b27 {p : Program} {l : Launch} {e : Env} {s : State} {m : MethodId} {args : Array Value} {below : List Frame} {meth : Method} {c : Code} {D : va_G} {dA : Nat → ClassId} {b0 : Nat} {gs : Nat → Option Nat} (hc : zC D dA b0 gs yX4_insert.cls cX4_insert 4 p c s m args meth) (hr : meth.sig.returnType = (some .int)) (hin : meth.name = yX4_insert.name) {r : Int32} {hh : PH} {mc ms : Nat} : ∀ (h : PH) (a0 : Nat) (v1 : Int32) (v2 : Int32) (v3 : Int32) (s0 : Nat) (C9 S9 : Nat) (H : Heap) (locs : List Loc) (cells slots : Nat), f_X4_insert_b27 h a0 v1 v2 v3 s0 = some (r, hh, C9, S9) → cells + C9 = mc ∧ slots + S9 = ms → zM D dA b0 gs s h H locs → ∀ ls : Array Slot, lv_has ls 4 [(0, .ref a0), (1, .int v1), (2, .int v2), (3, .int v3)] → W p l e ({ frames := 7, cells := mc, slots := ms, locals := 211 } : Room) s m args below meth c H locs cells slots (MQ below (zQ D dA b0 gs (evI r) hh) args s mc ms (zA b0)) (F0 m 27 ls [.ref s0]) := by
  have hx := hc.x
  have hb := hc.b
  intro h a0 v1 v2 v3 s0 C9 S9 H locs cells slots hf hq hn ls hl
  unfold f_X4_insert_b27 at hf
  refine lv_iconst (v := (2 : Int32)) hx hb dX4_insert_27 (by decide) ?_
  refine lv_goto (tgt := 61) hx hb dX4_insert_28 (by decide) ?_
  exact m_X4_insert_b61 hc hr hin h a0 v1 v2 v3 s0 (2 : Int32) _ _ _ _ _ _ hf hq hn _ (lv_sub hl [0, 1, 2, 3] rfl)
set_option maxHeartbeats 4000000 in
set_option maxRecDepth 100000 in
theorem m_X4_insert_b56 {p : Program} {l : Launch} {e : Env} {s : State} {m : MethodId} {args : Array Value} {below : List Frame} {meth : Method} {c : Code} {D : va_G} {dA : Nat → ClassId} {b0 : Nat} {gs : Nat → Option Nat} (hc : zC D dA b0 gs yX4_insert.cls cX4_insert 4 p c s m args meth) (hr : meth.sig.returnType = (some .int)) (hin : meth.name = yX4_insert.name) {r : Int32} {hh : PH} {mc ms : Nat} : ∀ (h : PH) (a0 : Nat) (v1 : Int32) (v2 : Int32) (v3 : Int32) (s0 : Nat) (C9 S9 : Nat) (H : Heap) (locs : List Loc) (cells slots : Nat), f_X4_insert_b56 h a0 v1 v2 v3 s0 = some (r, hh, C9, S9) → cells + C9 = mc ∧ slots + S9 = ms → zM D dA b0 gs s h H locs → ∀ ls : Array Slot, lv_has ls 4 [(0, .ref a0), (1, .int v1), (2, .int v2), (3, .int v3)] → W p l e ({ frames := 7, cells := mc, slots := ms, locals := 211 } : Room) s m args below meth c H locs cells slots (MQ below (zQ D dA b0 gs (evI r) hh) args s mc ms (zA b0)) (F0 m 56 ls [.ref s0]) := by
  have hx := hc.x
  have hb := hc.b
  intro h a0 v1 v2 v3 s0 C9 S9 H locs cells slots hf hq hn ls hl
  unfold f_X4_insert_b56 at hf
  refine lv_iconst (v := (3 : Int32)) hx hb dX4_insert_56 (by decide) ?_
  refine lv_goto (tgt := 61) hx hb dX4_insert_57 (by decide) ?_
  exact m_X4_insert_b61 hc hr hin h a0 v1 v2 v3 s0 (3 : Int32) _ _ _ _ _ _ hf hq hn _ (lv_sub hl [0, 1, 2, 3] rfl)
set_option maxHeartbeats 4000000 in
set_option maxRecDepth 100000 in
theorem m_X4_insert (l : Launch) (D : va_G) (dA : Nat → ClassId) (b0 : Nat) (gs : Nat → Option Nat) (h : PH) (a0 : Nat) (v1 : Int32) (v2 : Int32) (v3 : Int32) {r : Int32} {hh : PH} {mc ms : Nat} (hf : f_X4_insert h a0 v1 v2 v3 = some (r, hh, mc, ms)) : zMt l D dA b0 gs yX4_insert cX4_insert 4 (some .int) 7 211 [.ref a0, .int v1, .int v2, .int v3] h (evI r) hh mc ms := by
  unfold f_X4_insert at hf
  refine zMt.of (by decide) (Nat.le_of_ble_eq_true rfl) ?_
  intro p e s m args below meth c hc hr hin hn ls hl
  have hl : lv_has ls 4 [(0, .ref a0), (1, .int v1), (2, .int v2), (3, .int v3)] := hl
  have hq : 0 + mc = mc ∧ 0 + ms = ms := ⟨Nat.zero_add _, Nat.zero_add _⟩
  have hx := hc.x
  have hb := hc.b
  refine lv_aload_n (x := a0) hx hb dX4_insert_0 rfl (lv_at hl 0 rfl) ?_
  refine lv_aload_n (x := a0) hx hb dX4_insert_1 rfl (lv_at hl 0 rfl) ?_
  refine lv_iload_n hx hb dX4_insert_2 rfl (lv_at hl 1 rfl) ?_
  refine zr_cVI (As := [.int v1]) (rest := [.ref a0]) hc hn hq (ci := 3) rfl ⟨rfl, hd_X4_isList⟩ (lw_V q2343 q2345 qs57 q91 q2346) (Nat.le_of_ble_eq_true rfl) (Nat.le_of_ble_eq_true rfl) (fun _ _ _ _ q => m_X4_isList l D dA b0 gs h a0 v1 q) hf dX4_insert_3 hl.1 rfl rfl (zroom (Nat.le_of_ble_eq_true rfl)) (fun x101 h102 H locs cells slots C9 S9 hf hq hn => ?_)
  refine lv_if_ne (tgt := 13) hx hb dX4_insert_6 (by decide) (fun c9 => ?_) (fun c9 => ?_)
  · have hf := zif_f c9 hf
    refine lv_iload_n hx hb dX4_insert_13 rfl (lv_at hl 2 rfl) ?_
    refine zr_cSI (As := [.int v2]) (rest := [.ref a0]) hc hn hq hd_X4_isKey (lw_S q2384 q2385 q91 q2386) (Nat.le_of_ble_eq_true rfl) (Nat.le_of_ble_eq_true rfl) (fun _ _ _ _ q => m_X4_isKey l D dA b0 gs h102 v2 q) hf dX4_insert_14 hl.1 rfl rfl (zroom (Nat.le_of_ble_eq_true rfl)) (fun x103 h104 H locs cells slots C9 S9 hf hq hn => ?_)
    refine lv_if_eq (tgt := 27) hx hb dX4_insert_17 (by decide) (fun c9 => ?_) (fun c9 => ?_)
    · have hf := zif_t c9 hf
      exact m_X4_insert_b27 hc hr hin h104 a0 v1 v2 v3 a0 _ _ _ _ _ _ hf hq hn _ (lv_sub hl [0, 1, 2, 3] rfl)
    · have hf := zif_f c9 hf
      refine lv_iload_n hx hb dX4_insert_20 rfl (lv_at hl 3 rfl) ?_
      refine zr_cSI (As := [.int v3]) (rest := [.ref a0]) hc hn hq hd_X4_isKey (lw_S q2384 q2385 q91 q2386) (Nat.le_of_ble_eq_true rfl) (Nat.le_of_ble_eq_true rfl) (fun _ _ _ _ q => m_X4_isKey l D dA b0 gs h104 v3 q) hf dX4_insert_21 hl.1 rfl rfl (zroom (Nat.le_of_ble_eq_true rfl)) (fun x105 h106 H locs cells slots C9 S9 hf hq hn => ?_)
      refine lv_if_ne (tgt := 31) hx hb dX4_insert_24 (by decide) (fun c9 => ?_) (fun c9 => ?_)
      · have hf := zif_f c9 hf
        refine lv_aload_n (x := a0) hx hb dX4_insert_31 rfl (lv_at hl 0 rfl) ?_
        refine zr_gP hc hn (ci := 3) rfl rfl in_X4 1 (by decide) q2100 (fun _ h => h) (fun _ _ _ => rfl) hf dX4_insert_32 (fun x107 hf => ?_)
        refine lv_iload_n hx hb dX4_insert_35 rfl (lv_at hl 1 rfl) ?_
        refine zr_cSI (As := [.int v1]) (rest := [va_rf x107, .ref a0]) hc hn hq hd_X4_base (lw_S q2284 q2285 q91 q2286) (Nat.le_of_ble_eq_true rfl) (Nat.le_of_ble_eq_true rfl) (fun _ _ _ _ q => m_X4_base l D dA b0 gs h106 v1 q) hf dX4_insert_36 hl.1 rfl rfl (zroom (Nat.le_of_ble_eq_true rfl)) (fun x108 h109 H locs cells slots C9 S9 hf hq hn => ?_)
        refine lv_iconst (v := (1 : Int32)) hx hb dX4_insert_39 (by decide) ?_
        refine lv_iadd hx hb dX4_insert_40 ?_
        refine zr_nmI hf (fun x110 hf => ?_)
        obtain ⟨a111, e9, hf9⟩ := znn_i hf
        subst e9
        have hf := hf9
        clear hf9
        refine zr_aI0 hc hn hf dX4_insert_41 (fun x112 hf => ?_)
        refine lv_bipush (v := (60 : Int32)) hx hb dX4_insert_42 (by decide) ?_
        refine lv_icmp_eq (tgt := 56) hx hb dX4_insert_44 (by decide) (fun c9 => ?_) (fun c9 => ?_)
        · have hf := zif_t c9 hf
          exact m_X4_insert_b56 hc hr hin h109 a0 v1 v2 v3 a0 _ _ _ _ _ _ hf hq hn _ (lv_sub hl [0, 1, 2, 3] rfl)
        · have hf := zif_f c9 hf
          refine lv_aload_n (x := a0) hx hb dX4_insert_47 rfl (lv_at hl 0 rfl) ?_
          refine lv_iload_n hx hb dX4_insert_48 rfl (lv_at hl 1 rfl) ?_
          refine lv_iload_n hx hb dX4_insert_49 rfl (lv_at hl 2 rfl) ?_
          refine zr_cVI (As := [.int v1, .int v2]) (rest := [.ref a0]) hc hn hq (ci := 3) rfl ⟨rfl, hd_X4_placeOf⟩ (lw_V q2389 q2391 qs60 q91 q2392) (Nat.le_of_ble_eq_true rfl) (Nat.le_of_ble_eq_true rfl) (fun _ _ _ _ q => m_X4_placeOf l D dA b0 gs h109 a0 v1 v2 q) hf dX4_insert_50 hl.1 rfl rfl (zroom (Nat.le_of_ble_eq_true rfl)) (fun x113 h114 H locs cells slots C9 S9 hf hq hn => ?_)
          refine lv_if_lt (tgt := 60) hx hb dX4_insert_53 (by decide) (fun c9 => ?_) (fun c9 => ?_)
          · have hf := zif_t c9 hf
            refine lv_iconst (v := (0 : Int32)) hx hb dX4_insert_60 (by decide) ?_
            exact m_X4_insert_b61 hc hr hin h114 a0 v1 v2 v3 a0 (0 : Int32) _ _ _ _ _ _ hf hq hn _ (lv_sub hl [0, 1, 2, 3] rfl)
          · have hf := zif_f c9 hf
            exact m_X4_insert_b56 hc hr hin h114 a0 v1 v2 v3 a0 _ _ _ _ _ _ hf hq hn _ (lv_sub hl [0, 1, 2, 3] rfl)
      · have hf := zif_t c9 hf
        exact m_X4_insert_b27 hc hr hin h106 a0 v1 v2 v3 a0 _ _ _ _ _ _ hf hq hn _ (lv_sub hl [0, 1, 2, 3] rfl)
  · have hf := zif_t c9 hf
    refine lv_iconst (v := (1 : Int32)) hx hb dX4_insert_9 (by decide) ?_
    refine lv_goto (tgt := 61) hx hb dX4_insert_10 (by decide) ?_
    exact m_X4_insert_b61 hc hr hin h102 a0 v1 v2 v3 a0 (1 : Int32) _ _ _ _ _ _ hf hq hn _ (lv_sub hl [0, 1, 2, 3] rfl)
theorem hd_X4_remove : yX4_remove.cls ≠ "java/lang/invoke/MethodHandle" ∧ yX4_remove.cls ≠ "java/lang/invoke/VarHandle" ∧ (parseMethodDescriptor yX4_remove.desc).map (fun d => d.parameters.length) = some 2 := by decide +kernel
def f_X4_remove_b38 (h : PH) (a0 : Nat) (v1 : Int32) (v2 : Int32) (s0 : Nat) (s1 : Int32) : ZR Int32 :=
  zpI h s0 3 0 s1 fun h101 =>
  zgI h101 a0 3 0 fun x102 =>
  if x102 ≤ 0 then
    (zrc h101 a0 3 <| zcl (f_X4_keeps h101 a0) fun _ h104 =>
    zgP h104 a0 3 1 fun x105 =>
    znn x105 fun a106 =>
    zaI h104 a106 0 (2 : Int32) fun x107 =>
    znm (x107 + (1 : Int32)) fun x108 =>
    zsI h104 a106 0 (2 : Int32) x108 fun h109 =>
    zrc h109 a0 3 <| zcl (f_X4_placeOf h109 a0 v1 v2) fun x110 h111 =>
    zgP h111 a0 3 1 fun x112 =>
    zcl (f_X4_base h111 v1) fun x113 h114 =>
    znm (x113 + (62 : Int32)) fun x115 =>
    znm (x115 + x110) fun x116 =>
    znn x112 fun a117 =>
    zaI h114 a117 0 x116 fun x118 =>
    zrc h114 a0 3 <| zcl (f_X4_takes h114 a0 v1 x110) fun _ h120 =>
    zret x118 h120)
  else
    (zret (0 : Int32) h101)
def f_X4_remove (h : PH) (a0 : Nat) (v1 : Int32) (v2 : Int32) : ZR Int32 :=
  zrc h a0 3 <| zcl (f_X4_isList h a0 v1) fun x101 h102 =>
  if x101 = 0 then
    (f_X4_remove_b38 h102 a0 v1 v2 a0 (1 : Int32))
  else
    (zcl (f_X4_isKey h102 v2) fun x103 h104 =>
    if x103 = 0 then
      (f_X4_remove_b38 h104 a0 v1 v2 a0 (2 : Int32))
    else
      (zrc h104 a0 3 <| zcl (f_X4_placeOf h104 a0 v1 v2) fun x105 h106 =>
      if 0 ≤ x105 then
        (f_X4_remove_b38 h106 a0 v1 v2 a0 (0 : Int32))
      else
        (f_X4_remove_b38 h106 a0 v1 v2 a0 (3 : Int32))))
set_option maxHeartbeats 4000000 in
set_option maxRecDepth 100000 in
theorem m_X4_remove_b38 {p : Program} {l : Launch} {e : Env} {s : State} {m : MethodId} {args : Array Value} {below : List Frame} {meth : Method} {c : Code} {D : va_G} {dA : Nat → ClassId} {b0 : Nat} {gs : Nat → Option Nat} (hc : zC D dA b0 gs yX4_remove.cls cX4_remove 5 p c s m args meth) (hr : meth.sig.returnType = (some .int)) (hin : meth.name = yX4_remove.name) {r : Int32} {hh : PH} {mc ms : Nat} : ∀ (h : PH) (a0 : Nat) (v1 : Int32) (v2 : Int32) (s0 : Nat) (s1 : Int32) (C9 S9 : Nat) (H : Heap) (locs : List Loc) (cells slots : Nat), f_X4_remove_b38 h a0 v1 v2 s0 s1 = some (r, hh, C9, S9) → cells + C9 = mc ∧ slots + S9 = ms → zM D dA b0 gs s h H locs → ∀ ls : Array Slot, lv_has ls 5 [(0, .ref a0), (1, .int v1), (2, .int v2)] → W p l e ({ frames := 7, cells := mc, slots := ms, locals := 209 } : Room) s m args below meth c H locs cells slots (MQ below (zQ D dA b0 gs (evI r) hh) args s mc ms (zA b0)) (F0 m 38 ls [.int s1, .ref s0]) := by
  have hx := hc.x
  have hb := hc.b
  intro h a0 v1 v2 s0 s1 C9 S9 H locs cells slots hf hq hn ls hl
  unfold f_X4_remove_b38 at hf
  refine zr_pI (x := s1) hc hn (ci := 3) rfl rfl in_X4 0 (by decide) tyX4 tyX4_ok nmX4 q2099 (fun _ h => h) (Or.inl rfl) (fun _ _ _ => rfl) rfl rfl hf dX4_remove_38 (fun h101 H locs hf hn => ?_)
  refine lv_aload_n (x := a0) hx hb dX4_remove_41 rfl (lv_at hl 0 rfl) ?_
  refine zr_gI hc hn (ci := 3) rfl rfl in_X4 0 (by decide) q2099 (fun _ h => h) (fun _ _ _ => rfl) hf dX4_remove_42 (fun x102 hf => ?_)
  refine lv_if_le (tgt := 50) hx hb dX4_remove_45 (by decide) (fun c9 => ?_) (fun c9 => ?_)
  · have hf := zif_t c9 hf
    refine lv_aload_n (x := a0) hx hb dX4_remove_50 rfl (lv_at hl 0 rfl) ?_
    refine zr_cVU (As := []) (rest := []) hc hn hq (ci := 3) rfl ⟨rfl, hd_X4_keeps⟩ (lw_V q2565 q2567 qs78 q91 q2568) (Nat.le_of_ble_eq_true rfl) (Nat.le_of_ble_eq_true rfl) (fun _ _ _ _ q => m_X4_keeps l D dA b0 gs h101 a0 q) hf dX4_remove_51 hl.1 rfl rfl (zroom (Nat.le_of_ble_eq_true rfl)) (fun x103 h104 H locs cells slots C9 S9 hf hq hn => ?_)
    refine lv_aload_n (x := a0) hx hb dX4_remove_54 rfl (lv_at hl 0 rfl) ?_
    refine zr_gP hc hn (ci := 3) rfl rfl in_X4 1 (by decide) q2100 (fun _ h => h) (fun _ _ _ => rfl) hf dX4_remove_55 (fun x105 hf => ?_)
    refine lv_iconst (v := (2 : Int32)) hx hb dX4_remove_58 (by decide) ?_
    refine lv_dup2_11 hx hb dX4_remove_59 rfl (zcat_rf _) ?_
    obtain ⟨a106, e9, hf9⟩ := znn_i hf
    subst e9
    have hf := hf9
    clear hf9
    refine zr_aI0 hc hn hf dX4_remove_60 (fun x107 hf => ?_)
    refine lv_iconst (v := (1 : Int32)) hx hb dX4_remove_61 (by decide) ?_
    refine lv_iadd hx hb dX4_remove_62 ?_
    refine zr_nmI hf (fun x108 hf => ?_)
    refine zr_sI hc hn hf dX4_remove_63 (fun h109 H locs hf hn => ?_)
    refine lv_aload_n (x := a0) hx hb dX4_remove_64 rfl (lv_at hl 0 rfl) ?_
    refine lv_iload_n hx hb dX4_remove_65 rfl (lv_at hl 1 rfl) ?_
    refine lv_iload_n hx hb dX4_remove_66 rfl (lv_at hl 2 rfl) ?_
    refine zr_cVI (As := [.int v1, .int v2]) (rest := []) hc hn hq (ci := 3) rfl ⟨rfl, hd_X4_placeOf⟩ (lw_V q2389 q2391 qs60 q91 q2392) (Nat.le_of_ble_eq_true rfl) (Nat.le_of_ble_eq_true rfl) (fun _ _ _ _ q => m_X4_placeOf l D dA b0 gs h109 a0 v1 v2 q) hf dX4_remove_67 hl.1 rfl rfl (zroom (Nat.le_of_ble_eq_true rfl)) (fun x110 h111 H locs cells slots C9 S9 hf hq hn => ?_)
    refine lv_istore_n (i := 3) (lv' := [(3, .int x110), (0, .ref a0), (1, .int v1), (2, .int v2)]) hx hb dX4_remove_70 rfl hl (by decide) rfl (fun ls hl => ?_)
    refine lv_aload_n (x := a0) hx hb dX4_remove_71 rfl (lv_at hl 1 rfl) ?_
    refine zr_gP hc hn (ci := 3) rfl rfl in_X4 1 (by decide) q2100 (fun _ h => h) (fun _ _ _ => rfl) hf dX4_remove_72 (fun x112 hf => ?_)
    refine lv_iload_n hx hb dX4_remove_75 rfl (lv_at hl 2 rfl) ?_
    refine zr_cSI (As := [.int v1]) (rest := [va_rf x112]) hc hn hq hd_X4_base (lw_S q2284 q2285 q91 q2286) (Nat.le_of_ble_eq_true rfl) (Nat.le_of_ble_eq_true rfl) (fun _ _ _ _ q => m_X4_base l D dA b0 gs h111 v1 q) hf dX4_remove_76 hl.1 rfl rfl (zroom (Nat.le_of_ble_eq_true rfl)) (fun x113 h114 H locs cells slots C9 S9 hf hq hn => ?_)
    refine lv_bipush (v := (62 : Int32)) hx hb dX4_remove_79 (by decide) ?_
    refine lv_iadd hx hb dX4_remove_81 ?_
    refine zr_nmI hf (fun x115 hf => ?_)
    refine lv_iload_n hx hb dX4_remove_82 rfl (lv_at hl 0 rfl) ?_
    refine lv_iadd hx hb dX4_remove_83 ?_
    refine zr_nmI hf (fun x116 hf => ?_)
    obtain ⟨a117, e9, hf9⟩ := znn_i hf
    subst e9
    have hf := hf9
    clear hf9
    refine zr_aI0 hc hn hf dX4_remove_84 (fun x118 hf => ?_)
    refine lv_istore (lv' := [(4, .int x118), (3, .int x110), (0, .ref a0), (1, .int v1), (2, .int v2)]) hx hb dX4_remove_85 hl (by decide) rfl (fun ls hl => ?_)
    refine lv_aload_n (x := a0) hx hb dX4_remove_87 rfl (lv_at hl 2 rfl) ?_
    refine lv_iload_n hx hb dX4_remove_88 rfl (lv_at hl 3 rfl) ?_
    refine lv_iload_n hx hb dX4_remove_89 rfl (lv_at hl 1 rfl) ?_
    refine zr_cVU (As := [.int v1, .int x110]) (rest := []) hc hn hq (ci := 3) rfl ⟨rfl, hd_X4_takes⟩ (lw_V q2501 q2503 qs71 q91 q2504) (Nat.le_of_ble_eq_true rfl) (Nat.le_of_ble_eq_true rfl) (fun _ _ _ _ q => m_X4_takes l D dA b0 gs h114 a0 v1 x110 q) hf dX4_remove_90 hl.1 rfl rfl (zroom (Nat.le_of_ble_eq_true rfl)) (fun x119 h120 H locs cells slots C9 S9 hf hq hn => ?_)
    refine lv_iload hx hb dX4_remove_93 (lv_at hl 0 rfl) ?_
    obtain ⟨rfl, rfl, rfl, rfl⟩ := zret_i hf
    exact zr_iret hc hn hr hq (fun _ _ _ _ q => q) dX4_remove_95
  · have hf := zif_f c9 hf
    refine lv_iconst (v := (0 : Int32)) hx hb dX4_remove_48 (by decide) ?_
    obtain ⟨rfl, rfl, rfl, rfl⟩ := zret_i hf
    exact zr_iret hc hn hr hq (fun _ _ _ _ q => q) dX4_remove_49
set_option maxHeartbeats 4000000 in
set_option maxRecDepth 100000 in
theorem m_X4_remove (l : Launch) (D : va_G) (dA : Nat → ClassId) (b0 : Nat) (gs : Nat → Option Nat) (h : PH) (a0 : Nat) (v1 : Int32) (v2 : Int32) {r : Int32} {hh : PH} {mc ms : Nat} (hf : f_X4_remove h a0 v1 v2 = some (r, hh, mc, ms)) : zMt l D dA b0 gs yX4_remove cX4_remove 5 (some .int) 7 209 [.ref a0, .int v1, .int v2] h (evI r) hh mc ms := by
  unfold f_X4_remove at hf
  refine zMt.of (by decide) (Nat.le_of_ble_eq_true rfl) ?_
  intro p e s m args below meth c hc hr hin hn ls hl
  have hl : lv_has ls 5 [(0, .ref a0), (1, .int v1), (2, .int v2)] := hl
  have hq : 0 + mc = mc ∧ 0 + ms = ms := ⟨Nat.zero_add _, Nat.zero_add _⟩
  have hx := hc.x
  have hb := hc.b
  refine lv_aload_n (x := a0) hx hb dX4_remove_0 rfl (lv_at hl 0 rfl) ?_
  refine lv_aload_n (x := a0) hx hb dX4_remove_1 rfl (lv_at hl 0 rfl) ?_
  refine lv_iload_n hx hb dX4_remove_2 rfl (lv_at hl 1 rfl) ?_
  refine zr_cVI (As := [.int v1]) (rest := [.ref a0]) hc hn hq (ci := 3) rfl ⟨rfl, hd_X4_isList⟩ (lw_V q2343 q2345 qs57 q91 q2346) (Nat.le_of_ble_eq_true rfl) (Nat.le_of_ble_eq_true rfl) (fun _ _ _ _ q => m_X4_isList l D dA b0 gs h a0 v1 q) hf dX4_remove_3 hl.1 rfl rfl (zroom (Nat.le_of_ble_eq_true rfl)) (fun x101 h102 H locs cells slots C9 S9 hf hq hn => ?_)
  refine lv_if_ne (tgt := 13) hx hb dX4_remove_6 (by decide) (fun c9 => ?_) (fun c9 => ?_)
  · have hf := zif_f c9 hf
    refine lv_iload_n hx hb dX4_remove_13 rfl (lv_at hl 2 rfl) ?_
    refine zr_cSI (As := [.int v2]) (rest := [.ref a0]) hc hn hq hd_X4_isKey (lw_S q2384 q2385 q91 q2386) (Nat.le_of_ble_eq_true rfl) (Nat.le_of_ble_eq_true rfl) (fun _ _ _ _ q => m_X4_isKey l D dA b0 gs h102 v2 q) hf dX4_remove_14 hl.1 rfl rfl (zroom (Nat.le_of_ble_eq_true rfl)) (fun x103 h104 H locs cells slots C9 S9 hf hq hn => ?_)
    refine lv_if_ne (tgt := 24) hx hb dX4_remove_17 (by decide) (fun c9 => ?_) (fun c9 => ?_)
    · have hf := zif_f c9 hf
      refine lv_aload_n (x := a0) hx hb dX4_remove_24 rfl (lv_at hl 0 rfl) ?_
      refine lv_iload_n hx hb dX4_remove_25 rfl (lv_at hl 1 rfl) ?_
      refine lv_iload_n hx hb dX4_remove_26 rfl (lv_at hl 2 rfl) ?_
      refine zr_cVI (As := [.int v1, .int v2]) (rest := [.ref a0]) hc hn hq (ci := 3) rfl ⟨rfl, hd_X4_placeOf⟩ (lw_V q2389 q2391 qs60 q91 q2392) (Nat.le_of_ble_eq_true rfl) (Nat.le_of_ble_eq_true rfl) (fun _ _ _ _ q => m_X4_placeOf l D dA b0 gs h104 a0 v1 v2 q) hf dX4_remove_27 hl.1 rfl rfl (zroom (Nat.le_of_ble_eq_true rfl)) (fun x105 h106 H locs cells slots C9 S9 hf hq hn => ?_)
      refine lv_if_ge (tgt := 37) hx hb dX4_remove_30 (by decide) (fun c9 => ?_) (fun c9 => ?_)
      · have hf := zif_t c9 hf
        refine lv_iconst (v := (0 : Int32)) hx hb dX4_remove_37 (by decide) ?_
        exact m_X4_remove_b38 hc hr hin h106 a0 v1 v2 a0 (0 : Int32) _ _ _ _ _ _ hf hq hn _ (lv_sub hl [0, 1, 2] rfl)
      · have hf := zif_f c9 hf
        refine lv_iconst (v := (3 : Int32)) hx hb dX4_remove_33 (by decide) ?_
        refine lv_goto (tgt := 38) hx hb dX4_remove_34 (by decide) ?_
        exact m_X4_remove_b38 hc hr hin h106 a0 v1 v2 a0 (3 : Int32) _ _ _ _ _ _ hf hq hn _ (lv_sub hl [0, 1, 2] rfl)
    · have hf := zif_t c9 hf
      refine lv_iconst (v := (2 : Int32)) hx hb dX4_remove_20 (by decide) ?_
      refine lv_goto (tgt := 38) hx hb dX4_remove_21 (by decide) ?_
      exact m_X4_remove_b38 hc hr hin h104 a0 v1 v2 a0 (2 : Int32) _ _ _ _ _ _ hf hq hn _ (lv_sub hl [0, 1, 2] rfl)
  · have hf := zif_t c9 hf
    refine lv_iconst (v := (1 : Int32)) hx hb dX4_remove_9 (by decide) ?_
    refine lv_goto (tgt := 38) hx hb dX4_remove_10 (by decide) ?_
    exact m_X4_remove_b38 hc hr hin h102 a0 v1 v2 a0 (1 : Int32) _ _ _ _ _ _ hf hq hn _ (lv_sub hl [0, 1, 2] rfl)
theorem hd_X4_setValue : yX4_setValue.cls ≠ "java/lang/invoke/MethodHandle" ∧ yX4_setValue.cls ≠ "java/lang/invoke/VarHandle" ∧ (parseMethodDescriptor yX4_setValue.desc).map (fun d => d.parameters.length) = some 3 := by decide +kernel
def f_X4_setValue_b45 (h : PH) (a0 : Nat) (v1 : Int32) (v2 : Int32) (v3 : Int32) (s0 : Nat) (s1 : Int32) : ZR Int32 :=
  zpI h s0 3 0 s1 fun h101 =>
  zgI h101 a0 3 0 fun x102 =>
  if x102 ≤ 0 then
    (zrc h101 a0 3 <| zcl (f_X4_keeps h101 a0) fun _ h104 =>
    zcl (f_X4_base h104 v1) fun x105 h106 =>
    znm (x105 + (62 : Int32)) fun x107 =>
    zrc h106 a0 3 <| zcl (f_X4_placeOf h106 a0 v1 v2) fun x108 h109 =>
    znm (x107 + x108) fun x110 =>
    zgP h109 a0 3 1 fun x111 =>
    znn x111 fun a112 =>
    zaI h109 a112 0 x110 fun x113 =>
    zgP h109 a0 3 1 fun x114 =>
    znn x114 fun a115 =>
    zsI h109 a115 0 x110 v3 fun h116 =>
    zret x113 h116)
  else
    (zret (0 : Int32) h101)
def f_X4_setValue_b27 (h : PH) (a0 : Nat) (v1 : Int32) (v2 : Int32) (v3 : Int32) (s0 : Nat) : ZR Int32 :=
  f_X4_setValue_b45 h a0 v1 v2 v3 s0 (2 : Int32)
def f_X4_setValue (h : PH) (a0 : Nat) (v1 : Int32) (v2 : Int32) (v3 : Int32) : ZR Int32 :=
  zrc h a0 3 <| zcl (f_X4_isList h a0 v1) fun x101 h102 =>
  if x101 = 0 then
    (f_X4_setValue_b45 h102 a0 v1 v2 v3 a0 (1 : Int32))
  else
    (zcl (f_X4_isKey h102 v2) fun x103 h104 =>
    if x103 = 0 then
      (f_X4_setValue_b27 h104 a0 v1 v2 v3 a0)
    else
      (zcl (f_X4_isKey h104 v3) fun x105 h106 =>
      if x105 = 0 then
        (f_X4_setValue_b27 h106 a0 v1 v2 v3 a0)
      else
        (zrc h106 a0 3 <| zcl (f_X4_placeOf h106 a0 v1 v2) fun x107 h108 =>
        if 0 ≤ x107 then
          (f_X4_setValue_b45 h108 a0 v1 v2 v3 a0 (0 : Int32))
        else
          (f_X4_setValue_b45 h108 a0 v1 v2 v3 a0 (3 : Int32)))))
set_option maxHeartbeats 4000000 in
set_option maxRecDepth 100000 in
theorem m_X4_setValue_b45 {p : Program} {l : Launch} {e : Env} {s : State} {m : MethodId} {args : Array Value} {below : List Frame} {meth : Method} {c : Code} {D : va_G} {dA : Nat → ClassId} {b0 : Nat} {gs : Nat → Option Nat} (hc : zC D dA b0 gs yX4_setValue.cls cX4_setValue 6 p c s m args meth) (hr : meth.sig.returnType = (some .int)) (hin : meth.name = yX4_setValue.name) {r : Int32} {hh : PH} {mc ms : Nat} : ∀ (h : PH) (a0 : Nat) (v1 : Int32) (v2 : Int32) (v3 : Int32) (s0 : Nat) (s1 : Int32) (C9 S9 : Nat) (H : Heap) (locs : List Loc) (cells slots : Nat), f_X4_setValue_b45 h a0 v1 v2 v3 s0 s1 = some (r, hh, C9, S9) → cells + C9 = mc ∧ slots + S9 = ms → zM D dA b0 gs s h H locs → ∀ ls : Array Slot, lv_has ls 6 [(0, .ref a0), (1, .int v1), (2, .int v2), (3, .int v3)] → W p l e ({ frames := 4, cells := mc, slots := ms, locals := 127 } : Room) s m args below meth c H locs cells slots (MQ below (zQ D dA b0 gs (evI r) hh) args s mc ms (zA b0)) (F0 m 45 ls [.int s1, .ref s0]) := by
  have hx := hc.x
  have hb := hc.b
  intro h a0 v1 v2 v3 s0 s1 C9 S9 H locs cells slots hf hq hn ls hl
  unfold f_X4_setValue_b45 at hf
  refine zr_pI (x := s1) hc hn (ci := 3) rfl rfl in_X4 0 (by decide) tyX4 tyX4_ok nmX4 q2099 (fun _ h => h) (Or.inl rfl) (fun _ _ _ => rfl) rfl rfl hf dX4_setValue_45 (fun h101 H locs hf hn => ?_)
  refine lv_aload_n (x := a0) hx hb dX4_setValue_48 rfl (lv_at hl 0 rfl) ?_
  refine zr_gI hc hn (ci := 3) rfl rfl in_X4 0 (by decide) q2099 (fun _ h => h) (fun _ _ _ => rfl) hf dX4_setValue_49 (fun x102 hf => ?_)
  refine lv_if_le (tgt := 57) hx hb dX4_setValue_52 (by decide) (fun c9 => ?_) (fun c9 => ?_)
  · have hf := zif_t c9 hf
    refine lv_aload_n (x := a0) hx hb dX4_setValue_57 rfl (lv_at hl 0 rfl) ?_
    refine zr_cVU (As := []) (rest := []) hc hn hq (ci := 3) rfl ⟨rfl, hd_X4_keeps⟩ (lw_V q2565 q2567 qs78 q91 q2568) (Nat.le_of_ble_eq_true rfl) (Nat.le_of_ble_eq_true rfl) (fun _ _ _ _ q => m_X4_keeps l D dA b0 gs h101 a0 q) hf dX4_setValue_58 hl.1 rfl rfl (zroom (Nat.le_of_ble_eq_true rfl)) (fun x103 h104 H locs cells slots C9 S9 hf hq hn => ?_)
    refine lv_iload_n hx hb dX4_setValue_61 rfl (lv_at hl 1 rfl) ?_
    refine zr_cSI (As := [.int v1]) (rest := []) hc hn hq hd_X4_base (lw_S q2284 q2285 q91 q2286) (Nat.le_of_ble_eq_true rfl) (Nat.le_of_ble_eq_true rfl) (fun _ _ _ _ q => m_X4_base l D dA b0 gs h104 v1 q) hf dX4_setValue_62 hl.1 rfl rfl (zroom (Nat.le_of_ble_eq_true rfl)) (fun x105 h106 H locs cells slots C9 S9 hf hq hn => ?_)
    refine lv_bipush (v := (62 : Int32)) hx hb dX4_setValue_65 (by decide) ?_
    refine lv_iadd hx hb dX4_setValue_67 ?_
    refine zr_nmI hf (fun x107 hf => ?_)
    refine lv_aload_n (x := a0) hx hb dX4_setValue_68 rfl (lv_at hl 0 rfl) ?_
    refine lv_iload_n hx hb dX4_setValue_69 rfl (lv_at hl 1 rfl) ?_
    refine lv_iload_n hx hb dX4_setValue_70 rfl (lv_at hl 2 rfl) ?_
    refine zr_cVI (As := [.int v1, .int v2]) (rest := [.int x107]) hc hn hq (ci := 3) rfl ⟨rfl, hd_X4_placeOf⟩ (lw_V q2389 q2391 qs60 q91 q2392) (Nat.le_of_ble_eq_true rfl) (Nat.le_of_ble_eq_true rfl) (fun _ _ _ _ q => m_X4_placeOf l D dA b0 gs h106 a0 v1 v2 q) hf dX4_setValue_71 hl.1 rfl rfl (zroom (Nat.le_of_ble_eq_true rfl)) (fun x108 h109 H locs cells slots C9 S9 hf hq hn => ?_)
    refine lv_iadd hx hb dX4_setValue_74 ?_
    refine zr_nmI hf (fun x110 hf => ?_)
    refine lv_istore (lv' := [(4, .int x110), (0, .ref a0), (1, .int v1), (2, .int v2), (3, .int v3)]) hx hb dX4_setValue_75 hl (by decide) rfl (fun ls hl => ?_)
    refine lv_aload_n (x := a0) hx hb dX4_setValue_77 rfl (lv_at hl 1 rfl) ?_
    refine zr_gP hc hn (ci := 3) rfl rfl in_X4 1 (by decide) q2100 (fun _ h => h) (fun _ _ _ => rfl) hf dX4_setValue_78 (fun x111 hf => ?_)
    refine lv_iload hx hb dX4_setValue_81 (lv_at hl 0 rfl) ?_
    obtain ⟨a112, e9, hf9⟩ := znn_i hf
    subst e9
    have hf := hf9
    clear hf9
    refine zr_aI0 hc hn hf dX4_setValue_83 (fun x113 hf => ?_)
    refine lv_istore (lv' := [(5, .int x113), (4, .int x110), (0, .ref a0), (1, .int v1), (2, .int v2), (3, .int v3)]) hx hb dX4_setValue_84 hl (by decide) rfl (fun ls hl => ?_)
    refine lv_aload_n (x := a0) hx hb dX4_setValue_86 rfl (lv_at hl 2 rfl) ?_
    refine zr_gP hc hn (ci := 3) rfl rfl in_X4 1 (by decide) q2100 (fun _ h => h) (fun _ _ _ => rfl) hf dX4_setValue_87 (fun x114 hf => ?_)
    refine lv_iload hx hb dX4_setValue_90 (lv_at hl 1 rfl) ?_
    refine lv_iload_n hx hb dX4_setValue_92 rfl (lv_at hl 5 rfl) ?_
    obtain ⟨a115, e9, hf9⟩ := znn_i hf
    subst e9
    have hf := hf9
    clear hf9
    refine zr_sI hc hn hf dX4_setValue_93 (fun h116 H locs hf hn => ?_)
    refine lv_iload hx hb dX4_setValue_94 (lv_at hl 0 rfl) ?_
    obtain ⟨rfl, rfl, rfl, rfl⟩ := zret_i hf
    exact zr_iret hc hn hr hq (fun _ _ _ _ q => q) dX4_setValue_96
  · have hf := zif_f c9 hf
    refine lv_iconst (v := (0 : Int32)) hx hb dX4_setValue_55 (by decide) ?_
    obtain ⟨rfl, rfl, rfl, rfl⟩ := zret_i hf
    exact zr_iret hc hn hr hq (fun _ _ _ _ q => q) dX4_setValue_56
set_option maxHeartbeats 4000000 in
set_option maxRecDepth 100000 in
theorem m_X4_setValue_b27 {p : Program} {l : Launch} {e : Env} {s : State} {m : MethodId} {args : Array Value} {below : List Frame} {meth : Method} {c : Code} {D : va_G} {dA : Nat → ClassId} {b0 : Nat} {gs : Nat → Option Nat} (hc : zC D dA b0 gs yX4_setValue.cls cX4_setValue 6 p c s m args meth) (hr : meth.sig.returnType = (some .int)) (hin : meth.name = yX4_setValue.name) {r : Int32} {hh : PH} {mc ms : Nat} : ∀ (h : PH) (a0 : Nat) (v1 : Int32) (v2 : Int32) (v3 : Int32) (s0 : Nat) (C9 S9 : Nat) (H : Heap) (locs : List Loc) (cells slots : Nat), f_X4_setValue_b27 h a0 v1 v2 v3 s0 = some (r, hh, C9, S9) → cells + C9 = mc ∧ slots + S9 = ms → zM D dA b0 gs s h H locs → ∀ ls : Array Slot, lv_has ls 6 [(0, .ref a0), (1, .int v1), (2, .int v2), (3, .int v3)] → W p l e ({ frames := 4, cells := mc, slots := ms, locals := 127 } : Room) s m args below meth c H locs cells slots (MQ below (zQ D dA b0 gs (evI r) hh) args s mc ms (zA b0)) (F0 m 27 ls [.ref s0]) := by
  have hx := hc.x
  have hb := hc.b
  intro h a0 v1 v2 v3 s0 C9 S9 H locs cells slots hf hq hn ls hl
  unfold f_X4_setValue_b27 at hf
  refine lv_iconst (v := (2 : Int32)) hx hb dX4_setValue_27 (by decide) ?_
  refine lv_goto (tgt := 45) hx hb dX4_setValue_28 (by decide) ?_
  exact m_X4_setValue_b45 hc hr hin h a0 v1 v2 v3 s0 (2 : Int32) _ _ _ _ _ _ hf hq hn _ (lv_sub hl [0, 1, 2, 3] rfl)
set_option maxHeartbeats 4000000 in
set_option maxRecDepth 100000 in
theorem m_X4_setValue (l : Launch) (D : va_G) (dA : Nat → ClassId) (b0 : Nat) (gs : Nat → Option Nat) (h : PH) (a0 : Nat) (v1 : Int32) (v2 : Int32) (v3 : Int32) {r : Int32} {hh : PH} {mc ms : Nat} (hf : f_X4_setValue h a0 v1 v2 v3 = some (r, hh, mc, ms)) : zMt l D dA b0 gs yX4_setValue cX4_setValue 6 (some .int) 4 127 [.ref a0, .int v1, .int v2, .int v3] h (evI r) hh mc ms := by
  unfold f_X4_setValue at hf
  refine zMt.of (by decide) (Nat.le_of_ble_eq_true rfl) ?_
  intro p e s m args below meth c hc hr hin hn ls hl
  have hl : lv_has ls 6 [(0, .ref a0), (1, .int v1), (2, .int v2), (3, .int v3)] := hl
  have hq : 0 + mc = mc ∧ 0 + ms = ms := ⟨Nat.zero_add _, Nat.zero_add _⟩
  have hx := hc.x
  have hb := hc.b
  refine lv_aload_n (x := a0) hx hb dX4_setValue_0 rfl (lv_at hl 0 rfl) ?_
  refine lv_aload_n (x := a0) hx hb dX4_setValue_1 rfl (lv_at hl 0 rfl) ?_
  refine lv_iload_n hx hb dX4_setValue_2 rfl (lv_at hl 1 rfl) ?_
  refine zr_cVI (As := [.int v1]) (rest := [.ref a0]) hc hn hq (ci := 3) rfl ⟨rfl, hd_X4_isList⟩ (lw_V q2343 q2345 qs57 q91 q2346) (Nat.le_of_ble_eq_true rfl) (Nat.le_of_ble_eq_true rfl) (fun _ _ _ _ q => m_X4_isList l D dA b0 gs h a0 v1 q) hf dX4_setValue_3 hl.1 rfl rfl (zroom (Nat.le_of_ble_eq_true rfl)) (fun x101 h102 H locs cells slots C9 S9 hf hq hn => ?_)
  refine lv_if_ne (tgt := 13) hx hb dX4_setValue_6 (by decide) (fun c9 => ?_) (fun c9 => ?_)
  · have hf := zif_f c9 hf
    refine lv_iload_n hx hb dX4_setValue_13 rfl (lv_at hl 2 rfl) ?_
    refine zr_cSI (As := [.int v2]) (rest := [.ref a0]) hc hn hq hd_X4_isKey (lw_S q2384 q2385 q91 q2386) (Nat.le_of_ble_eq_true rfl) (Nat.le_of_ble_eq_true rfl) (fun _ _ _ _ q => m_X4_isKey l D dA b0 gs h102 v2 q) hf dX4_setValue_14 hl.1 rfl rfl (zroom (Nat.le_of_ble_eq_true rfl)) (fun x103 h104 H locs cells slots C9 S9 hf hq hn => ?_)
    refine lv_if_eq (tgt := 27) hx hb dX4_setValue_17 (by decide) (fun c9 => ?_) (fun c9 => ?_)
    · have hf := zif_t c9 hf
      exact m_X4_setValue_b27 hc hr hin h104 a0 v1 v2 v3 a0 _ _ _ _ _ _ hf hq hn _ (lv_sub hl [0, 1, 2, 3] rfl)
    · have hf := zif_f c9 hf
      refine lv_iload_n hx hb dX4_setValue_20 rfl (lv_at hl 3 rfl) ?_
      refine zr_cSI (As := [.int v3]) (rest := [.ref a0]) hc hn hq hd_X4_isKey (lw_S q2384 q2385 q91 q2386) (Nat.le_of_ble_eq_true rfl) (Nat.le_of_ble_eq_true rfl) (fun _ _ _ _ q => m_X4_isKey l D dA b0 gs h104 v3 q) hf dX4_setValue_21 hl.1 rfl rfl (zroom (Nat.le_of_ble_eq_true rfl)) (fun x105 h106 H locs cells slots C9 S9 hf hq hn => ?_)
      refine lv_if_ne (tgt := 31) hx hb dX4_setValue_24 (by decide) (fun c9 => ?_) (fun c9 => ?_)
      · have hf := zif_f c9 hf
        refine lv_aload_n (x := a0) hx hb dX4_setValue_31 rfl (lv_at hl 0 rfl) ?_
        refine lv_iload_n hx hb dX4_setValue_32 rfl (lv_at hl 1 rfl) ?_
        refine lv_iload_n hx hb dX4_setValue_33 rfl (lv_at hl 2 rfl) ?_
        refine zr_cVI (As := [.int v1, .int v2]) (rest := [.ref a0]) hc hn hq (ci := 3) rfl ⟨rfl, hd_X4_placeOf⟩ (lw_V q2389 q2391 qs60 q91 q2392) (Nat.le_of_ble_eq_true rfl) (Nat.le_of_ble_eq_true rfl) (fun _ _ _ _ q => m_X4_placeOf l D dA b0 gs h106 a0 v1 v2 q) hf dX4_setValue_34 hl.1 rfl rfl (zroom (Nat.le_of_ble_eq_true rfl)) (fun x107 h108 H locs cells slots C9 S9 hf hq hn => ?_)
        refine lv_if_ge (tgt := 44) hx hb dX4_setValue_37 (by decide) (fun c9 => ?_) (fun c9 => ?_)
        · have hf := zif_t c9 hf
          refine lv_iconst (v := (0 : Int32)) hx hb dX4_setValue_44 (by decide) ?_
          exact m_X4_setValue_b45 hc hr hin h108 a0 v1 v2 v3 a0 (0 : Int32) _ _ _ _ _ _ hf hq hn _ (lv_sub hl [0, 1, 2, 3] rfl)
        · have hf := zif_f c9 hf
          refine lv_iconst (v := (3 : Int32)) hx hb dX4_setValue_40 (by decide) ?_
          refine lv_goto (tgt := 45) hx hb dX4_setValue_41 (by decide) ?_
          exact m_X4_setValue_b45 hc hr hin h108 a0 v1 v2 v3 a0 (3 : Int32) _ _ _ _ _ _ hf hq hn _ (lv_sub hl [0, 1, 2, 3] rfl)
      · have hf := zif_t c9 hf
        exact m_X4_setValue_b27 hc hr hin h106 a0 v1 v2 v3 a0 _ _ _ _ _ _ hf hq hn _ (lv_sub hl [0, 1, 2, 3] rfl)
  · have hf := zif_t c9 hf
    refine lv_iconst (v := (1 : Int32)) hx hb dX4_setValue_9 (by decide) ?_
    refine lv_goto (tgt := 45) hx hb dX4_setValue_10 (by decide) ?_
    exact m_X4_setValue_b45 hc hr hin h102 a0 v1 v2 v3 a0 (1 : Int32) _ _ _ _ _ _ hf hq hn _ (lv_sub hl [0, 1, 2, 3] rfl)
theorem hd_X4_moves : yX4_moves.cls ≠ "java/lang/invoke/MethodHandle" ∧ yX4_moves.cls ≠ "java/lang/invoke/VarHandle" ∧ (parseMethodDescriptor yX4_moves.desc).map (fun d => d.parameters.length) = some 3 := by decide +kernel
def f_X4_moves_b28 : Nat → PH → Nat → Int32 → Int32 → Int32 → Int32 → Int32 → ZR Unit
  | 0 => fun _ _ _ _ _ _ _ => none
  | n + 1 => fun h a0 v2 v4 v5 v6 v7 =>
    if v6 ≤ v7 then
      (zgP h a0 3 1 fun x101 =>
      znm (v5 + (1 : Int32)) fun x102 =>
      znn x101 fun a103 =>
      zsI h a103 0 x102 v6 fun h104 =>
      zgP h104 a0 3 1 fun x105 =>
      znm (v4 + (1 : Int32)) fun x106 =>
      znn x105 fun a107 =>
      zsI h104 a107 0 x106 v2 fun h108 =>
      zret () h108)
    else
      (zgP h a0 3 1 fun x109 =>
      znm (v5 + (2 : Int32)) fun x110 =>
      znm (x110 + v7) fun x111 =>
      zgP h a0 3 1 fun x112 =>
      znm (v4 + (2 : Int32)) fun x113 =>
      znm (x113 + v2) fun x114 =>
      znm (x114 + v7) fun x115 =>
      znn x112 fun a116 =>
      zaI h a116 0 x115 fun x117 =>
      znn x109 fun a118 =>
      zsI h a118 0 x111 x117 fun h119 =>
      zgP h119 a0 3 1 fun x120 =>
      znm (v5 + (62 : Int32)) fun x121 =>
      znm (x121 + v7) fun x122 =>
      zgP h119 a0 3 1 fun x123 =>
      znm (v4 + (62 : Int32)) fun x124 =>
      znm (x124 + v2) fun x125 =>
      znm (x125 + v7) fun x126 =>
      znn x123 fun a127 =>
      zaI h119 a127 0 x126 fun x128 =>
      znn x120 fun a129 =>
      zsI h119 a129 0 x122 x128 fun h130 =>
      zgP h130 a0 3 1 fun x131 =>
      znm (v5 + (122 : Int32)) fun x132 =>
      znm (x132 + v7) fun x133 =>
      zgP h130 a0 3 1 fun x134 =>
      znm (v4 + (122 : Int32)) fun x135 =>
      znm (x135 + v2) fun x136 =>
      znm (x136 + v7) fun x137 =>
      znn x134 fun a138 =>
      zaI h130 a138 0 x137 fun x139 =>
      znn x131 fun a140 =>
      zsI h130 a140 0 x133 x139 fun h141 =>
      znm (v7 + (1 : Int32)) fun x142 =>
      f_X4_moves_b28 n h141 a0 v2 v4 v5 v6 x142)
def f_X4_moves (h : PH) (a0 : Nat) (v1 : Int32) (v2 : Int32) (v3 : Int32) : ZR Unit :=
  zcl (f_X4_base h v1) fun x101 h102 =>
  zcl (f_X4_base h102 v3) fun x103 h104 =>
  zgP h104 a0 3 1 fun x105 =>
  znm (x101 + (1 : Int32)) fun x106 =>
  znn x105 fun a107 =>
  zaI h104 a107 0 x106 fun x108 =>
  znm (x108 - v2) fun x109 =>
  f_X4_moves_b28 zFU h104 a0 v2 x101 x103 x109 (0 : Int32)
set_option maxHeartbeats 4000000 in
set_option maxRecDepth 100000 in
theorem m_X4_moves_b28 {p : Program} {l : Launch} {e : Env} {s : State} {m : MethodId} {args : Array Value} {below : List Frame} {meth : Method} {c : Code} {D : va_G} {dA : Nat → ClassId} {b0 : Nat} {gs : Nat → Option Nat} (hc : zC D dA b0 gs yX4_moves.cls cX4_moves 8 p c s m args meth) (hr : meth.sig.returnType = none) (hin : meth.name = yX4_moves.name) {r : Unit} {hh : PH} {mc ms : Nat} : ∀ (n : Nat) (h : PH) (a0 : Nat) (v2 : Int32) (v4 : Int32) (v5 : Int32) (v6 : Int32) (v7 : Int32) (C9 S9 : Nat) (H : Heap) (locs : List Loc) (cells slots : Nat), f_X4_moves_b28 n h a0 v2 v4 v5 v6 v7 = some (r, hh, C9, S9) → cells + C9 = mc ∧ slots + S9 = ms → zM D dA b0 gs s h H locs → ∀ ls : Array Slot, lv_has ls 8 [(0, .ref a0), (2, .int v2), (4, .int v4), (5, .int v5), (6, .int v6), (7, .int v7)] → W p l e ({ frames := 2, cells := mc, slots := ms, locals := 80 } : Room) s m args below meth c H locs cells slots (MQ below (zQ D dA b0 gs (evU r) hh) args s mc ms (zA b0)) (F0 m 28 ls []) := by
  have hx := hc.x
  have hb := hc.b
  intro n
  induction n with
  | zero =>
    intro h a0 v2 v4 v5 v6 v7 C9 S9 H locs cells slots hf hq hn ls hl
    cases hf
  | succ n ih =>
    intro h a0 v2 v4 v5 v6 v7 C9 S9 H locs cells slots hf hq hn ls hl
    unfold f_X4_moves_b28 at hf
    refine lv_iload hx hb dX4_moves_28 (lv_at hl 5 rfl) ?_
    refine lv_iload hx hb dX4_moves_30 (lv_at hl 4 rfl) ?_
    refine lv_icmp_ge (tgt := 123) hx hb dX4_moves_32 (by decide) (fun c9 => ?_) (fun c9 => ?_)
    · have hf := zif_t c9 hf
      refine lv_aload_n (x := a0) hx hb dX4_moves_123 rfl (lv_at hl 0 rfl) ?_
      refine zr_gP hc hn (ci := 3) rfl rfl in_X4 1 (by decide) q2100 (fun _ h => h) (fun _ _ _ => rfl) hf dX4_moves_124 (fun x101 hf => ?_)
      refine lv_iload hx hb dX4_moves_127 (lv_at hl 3 rfl) ?_
      refine lv_iconst (v := (1 : Int32)) hx hb dX4_moves_129 (by decide) ?_
      refine lv_iadd hx hb dX4_moves_130 ?_
      refine zr_nmI hf (fun x102 hf => ?_)
      refine lv_iload hx hb dX4_moves_131 (lv_at hl 4 rfl) ?_
      obtain ⟨a103, e9, hf9⟩ := znn_i hf
      subst e9
      have hf := hf9
      clear hf9
      refine zr_sI hc hn hf dX4_moves_133 (fun h104 H locs hf hn => ?_)
      refine lv_aload_n (x := a0) hx hb dX4_moves_134 rfl (lv_at hl 0 rfl) ?_
      refine zr_gP hc hn (ci := 3) rfl rfl in_X4 1 (by decide) q2100 (fun _ h => h) (fun _ _ _ => rfl) hf dX4_moves_135 (fun x105 hf => ?_)
      refine lv_iload hx hb dX4_moves_138 (lv_at hl 2 rfl) ?_
      refine lv_iconst (v := (1 : Int32)) hx hb dX4_moves_140 (by decide) ?_
      refine lv_iadd hx hb dX4_moves_141 ?_
      refine zr_nmI hf (fun x106 hf => ?_)
      refine lv_iload_n hx hb dX4_moves_142 rfl (lv_at hl 1 rfl) ?_
      obtain ⟨a107, e9, hf9⟩ := znn_i hf
      subst e9
      have hf := hf9
      clear hf9
      refine zr_sI hc hn hf dX4_moves_143 (fun h108 H locs hf hn => ?_)
      obtain ⟨rfl, rfl, rfl, rfl⟩ := zret_i hf
      exact zr_vret hc hn hr hq (fun _ _ _ _ q => q) dX4_moves_144
    · have hf := zif_f c9 hf
      refine lv_aload_n (x := a0) hx hb dX4_moves_35 rfl (lv_at hl 0 rfl) ?_
      refine zr_gP hc hn (ci := 3) rfl rfl in_X4 1 (by decide) q2100 (fun _ h => h) (fun _ _ _ => rfl) hf dX4_moves_36 (fun x109 hf => ?_)
      refine lv_iload hx hb dX4_moves_39 (lv_at hl 3 rfl) ?_
      refine lv_iconst (v := (2 : Int32)) hx hb dX4_moves_41 (by decide) ?_
      refine lv_iadd hx hb dX4_moves_42 ?_
      refine zr_nmI hf (fun x110 hf => ?_)
      refine lv_iload hx hb dX4_moves_43 (lv_at hl 5 rfl) ?_
      refine lv_iadd hx hb dX4_moves_45 ?_
      refine zr_nmI hf (fun x111 hf => ?_)
      refine lv_aload_n (x := a0) hx hb dX4_moves_46 rfl (lv_at hl 0 rfl) ?_
      refine zr_gP hc hn (ci := 3) rfl rfl in_X4 1 (by decide) q2100 (fun _ h => h) (fun _ _ _ => rfl) hf dX4_moves_47 (fun x112 hf => ?_)
      refine lv_iload hx hb dX4_moves_50 (lv_at hl 2 rfl) ?_
      refine lv_iconst (v := (2 : Int32)) hx hb dX4_moves_52 (by decide) ?_
      refine lv_iadd hx hb dX4_moves_53 ?_
      refine zr_nmI hf (fun x113 hf => ?_)
      refine lv_iload_n hx hb dX4_moves_54 rfl (lv_at hl 1 rfl) ?_
      refine lv_iadd hx hb dX4_moves_55 ?_
      refine zr_nmI hf (fun x114 hf => ?_)
      refine lv_iload hx hb dX4_moves_56 (lv_at hl 5 rfl) ?_
      refine lv_iadd hx hb dX4_moves_58 ?_
      refine zr_nmI hf (fun x115 hf => ?_)
      obtain ⟨a116, e9, hf9⟩ := znn_i hf
      subst e9
      have hf := hf9
      clear hf9
      refine zr_aI0 hc hn hf dX4_moves_59 (fun x117 hf => ?_)
      obtain ⟨a118, e9, hf9⟩ := znn_i hf
      subst e9
      have hf := hf9
      clear hf9
      refine zr_sI hc hn hf dX4_moves_60 (fun h119 H locs hf hn => ?_)
      refine lv_aload_n (x := a0) hx hb dX4_moves_61 rfl (lv_at hl 0 rfl) ?_
      refine zr_gP hc hn (ci := 3) rfl rfl in_X4 1 (by decide) q2100 (fun _ h => h) (fun _ _ _ => rfl) hf dX4_moves_62 (fun x120 hf => ?_)
      refine lv_iload hx hb dX4_moves_65 (lv_at hl 3 rfl) ?_
      refine lv_bipush (v := (62 : Int32)) hx hb dX4_moves_67 (by decide) ?_
      refine lv_iadd hx hb dX4_moves_69 ?_
      refine zr_nmI hf (fun x121 hf => ?_)
      refine lv_iload hx hb dX4_moves_70 (lv_at hl 5 rfl) ?_
      refine lv_iadd hx hb dX4_moves_72 ?_
      refine zr_nmI hf (fun x122 hf => ?_)
      refine lv_aload_n (x := a0) hx hb dX4_moves_73 rfl (lv_at hl 0 rfl) ?_
      refine zr_gP hc hn (ci := 3) rfl rfl in_X4 1 (by decide) q2100 (fun _ h => h) (fun _ _ _ => rfl) hf dX4_moves_74 (fun x123 hf => ?_)
      refine lv_iload hx hb dX4_moves_77 (lv_at hl 2 rfl) ?_
      refine lv_bipush (v := (62 : Int32)) hx hb dX4_moves_79 (by decide) ?_
      refine lv_iadd hx hb dX4_moves_81 ?_
      refine zr_nmI hf (fun x124 hf => ?_)
      refine lv_iload_n hx hb dX4_moves_82 rfl (lv_at hl 1 rfl) ?_
      refine lv_iadd hx hb dX4_moves_83 ?_
      refine zr_nmI hf (fun x125 hf => ?_)
      refine lv_iload hx hb dX4_moves_84 (lv_at hl 5 rfl) ?_
      refine lv_iadd hx hb dX4_moves_86 ?_
      refine zr_nmI hf (fun x126 hf => ?_)
      obtain ⟨a127, e9, hf9⟩ := znn_i hf
      subst e9
      have hf := hf9
      clear hf9
      refine zr_aI0 hc hn hf dX4_moves_87 (fun x128 hf => ?_)
      obtain ⟨a129, e9, hf9⟩ := znn_i hf
      subst e9
      have hf := hf9
      clear hf9
      refine zr_sI hc hn hf dX4_moves_88 (fun h130 H locs hf hn => ?_)
      refine lv_aload_n (x := a0) hx hb dX4_moves_89 rfl (lv_at hl 0 rfl) ?_
      refine zr_gP hc hn (ci := 3) rfl rfl in_X4 1 (by decide) q2100 (fun _ h => h) (fun _ _ _ => rfl) hf dX4_moves_90 (fun x131 hf => ?_)
      refine lv_iload hx hb dX4_moves_93 (lv_at hl 3 rfl) ?_
      refine lv_bipush (v := (122 : Int32)) hx hb dX4_moves_95 (by decide) ?_
      refine lv_iadd hx hb dX4_moves_97 ?_
      refine zr_nmI hf (fun x132 hf => ?_)
      refine lv_iload hx hb dX4_moves_98 (lv_at hl 5 rfl) ?_
      refine lv_iadd hx hb dX4_moves_100 ?_
      refine zr_nmI hf (fun x133 hf => ?_)
      refine lv_aload_n (x := a0) hx hb dX4_moves_101 rfl (lv_at hl 0 rfl) ?_
      refine zr_gP hc hn (ci := 3) rfl rfl in_X4 1 (by decide) q2100 (fun _ h => h) (fun _ _ _ => rfl) hf dX4_moves_102 (fun x134 hf => ?_)
      refine lv_iload hx hb dX4_moves_105 (lv_at hl 2 rfl) ?_
      refine lv_bipush (v := (122 : Int32)) hx hb dX4_moves_107 (by decide) ?_
      refine lv_iadd hx hb dX4_moves_109 ?_
      refine zr_nmI hf (fun x135 hf => ?_)
      refine lv_iload_n hx hb dX4_moves_110 rfl (lv_at hl 1 rfl) ?_
      refine lv_iadd hx hb dX4_moves_111 ?_
      refine zr_nmI hf (fun x136 hf => ?_)
      refine lv_iload hx hb dX4_moves_112 (lv_at hl 5 rfl) ?_
      refine lv_iadd hx hb dX4_moves_114 ?_
      refine zr_nmI hf (fun x137 hf => ?_)
      obtain ⟨a138, e9, hf9⟩ := znn_i hf
      subst e9
      have hf := hf9
      clear hf9
      refine zr_aI0 hc hn hf dX4_moves_115 (fun x139 hf => ?_)
      obtain ⟨a140, e9, hf9⟩ := znn_i hf
      subst e9
      have hf := hf9
      clear hf9
      refine zr_sI hc hn hf dX4_moves_116 (fun h141 H locs hf hn => ?_)
      obtain ⟨x142, ex142, hf⟩ := znm_i hf
      refine lv_iinc (v := x142) (lv' := [(7, .int x142), (0, .ref a0), (2, .int v2), (4, .int v4), (5, .int v5), (6, .int v6)]) hx hb dX4_moves_117 hl (k := 5) rfl (by rw [ex142]; rfl) (by decide) rfl (fun ls hl => ?_)
      refine lv_goto (tgt := 28) hx hb dX4_moves_120 (by decide) ?_
      exact ih h141 a0 v2 v4 v5 v6 x142 _ _ _ _ _ _ hf hq hn _ (lv_sub hl [1, 2, 3, 4, 5, 0] rfl)
set_option maxHeartbeats 4000000 in
set_option maxRecDepth 100000 in
theorem m_X4_moves (l : Launch) (D : va_G) (dA : Nat → ClassId) (b0 : Nat) (gs : Nat → Option Nat) (h : PH) (a0 : Nat) (v1 : Int32) (v2 : Int32) (v3 : Int32) {r : Unit} {hh : PH} {mc ms : Nat} (hf : f_X4_moves h a0 v1 v2 v3 = some (r, hh, mc, ms)) : zMt l D dA b0 gs yX4_moves cX4_moves 8 none 2 80 [.ref a0, .int v1, .int v2, .int v3] h (evU r) hh mc ms := by
  unfold f_X4_moves at hf
  refine zMt.of (by decide) (Nat.le_of_ble_eq_true rfl) ?_
  intro p e s m args below meth c hc hr hin hn ls hl
  have hl : lv_has ls 8 [(0, .ref a0), (1, .int v1), (2, .int v2), (3, .int v3)] := hl
  have hq : 0 + mc = mc ∧ 0 + ms = ms := ⟨Nat.zero_add _, Nat.zero_add _⟩
  have hx := hc.x
  have hb := hc.b
  refine lv_iload_n hx hb dX4_moves_0 rfl (lv_at hl 1 rfl) ?_
  refine zr_cSI (As := [.int v1]) (rest := []) hc hn hq hd_X4_base (lw_S q2284 q2285 q91 q2286) (Nat.le_of_ble_eq_true rfl) (Nat.le_of_ble_eq_true rfl) (fun _ _ _ _ q => m_X4_base l D dA b0 gs h v1 q) hf dX4_moves_1 hl.1 rfl rfl (zroom (Nat.le_of_ble_eq_true rfl)) (fun x101 h102 H locs cells slots C9 S9 hf hq hn => ?_)
  refine lv_istore (lv' := [(4, .int x101), (0, .ref a0), (1, .int v1), (2, .int v2), (3, .int v3)]) hx hb dX4_moves_4 hl (by decide) rfl (fun ls hl => ?_)
  refine lv_iload_n hx hb dX4_moves_6 rfl (lv_at hl 4 rfl) ?_
  refine zr_cSI (As := [.int v3]) (rest := []) hc hn hq hd_X4_base (lw_S q2284 q2285 q91 q2286) (Nat.le_of_ble_eq_true rfl) (Nat.le_of_ble_eq_true rfl) (fun _ _ _ _ q => m_X4_base l D dA b0 gs h102 v3 q) hf dX4_moves_7 hl.1 rfl rfl (zroom (Nat.le_of_ble_eq_true rfl)) (fun x103 h104 H locs cells slots C9 S9 hf hq hn => ?_)
  refine lv_istore (lv' := [(5, .int x103), (4, .int x101), (0, .ref a0), (1, .int v1), (2, .int v2), (3, .int v3)]) hx hb dX4_moves_10 hl (by decide) rfl (fun ls hl => ?_)
  refine lv_aload_n (x := a0) hx hb dX4_moves_12 rfl (lv_at hl 2 rfl) ?_
  refine zr_gP hc hn (ci := 3) rfl rfl in_X4 1 (by decide) q2100 (fun _ h => h) (fun _ _ _ => rfl) hf dX4_moves_13 (fun x105 hf => ?_)
  refine lv_iload hx hb dX4_moves_16 (lv_at hl 1 rfl) ?_
  refine lv_iconst (v := (1 : Int32)) hx hb dX4_moves_18 (by decide) ?_
  refine lv_iadd hx hb dX4_moves_19 ?_
  refine zr_nmI hf (fun x106 hf => ?_)
  obtain ⟨a107, e9, hf9⟩ := znn_i hf
  subst e9
  have hf := hf9
  clear hf9
  refine zr_aI0 hc hn hf dX4_moves_20 (fun x108 hf => ?_)
  refine lv_iload_n hx hb dX4_moves_21 rfl (lv_at hl 4 rfl) ?_
  refine lv_isub hx hb dX4_moves_22 ?_
  refine zr_nmI hf (fun x109 hf => ?_)
  refine lv_istore (lv' := [(6, .int x109), (5, .int x103), (4, .int x101), (0, .ref a0), (1, .int v1), (2, .int v2), (3, .int v3)]) hx hb dX4_moves_23 hl (by decide) rfl (fun ls hl => ?_)
  refine lv_iconst (v := (0 : Int32)) hx hb dX4_moves_25 (by decide) ?_
  refine lv_istore (lv' := [(7, .int (0 : Int32)), (6, .int x109), (5, .int x103), (4, .int x101), (0, .ref a0), (1, .int v1), (2, .int v2), (3, .int v3)]) hx hb dX4_moves_26 hl (by decide) rfl (fun ls hl => ?_)
  exact m_X4_moves_b28 hc hr hin zFU h104 a0 v2 x101 x103 x109 (0 : Int32) _ _ _ _ _ _ hf hq hn _ (lv_sub hl [4, 6, 3, 2, 1, 0] rfl)
theorem hd_X4_split : yX4_split.cls ≠ "java/lang/invoke/MethodHandle" ∧ yX4_split.cls ≠ "java/lang/invoke/VarHandle" ∧ (parseMethodDescriptor yX4_split.desc).map (fun d => d.parameters.length) = some 2 := by decide +kernel
def f_X4_split_b36 (h : PH) (a0 : Nat) (v1 : Int32) (v2 : Int32) (s0 : Nat) (s1 : Int32) : ZR Int32 :=
  zpI h s0 3 0 s1 fun h101 =>
  zgI h101 a0 3 0 fun x102 =>
  if x102 ≤ 0 then
    (zrc h101 a0 3 <| zcl (f_X4_keeps h101 a0) fun _ h104 =>
    zrc h104 a0 3 <| zcl (f_X4_spare h104 a0) fun x105 h106 =>
    zrc h106 a0 3 <| zcl (f_X4_begins h106 a0 x105) fun _ h108 =>
    zrc h108 a0 3 <| zcl (f_X4_below h108 a0 v1 v2) fun x109 h110 =>
    zrc h110 a0 3 <| zcl (f_X4_moves h110 a0 v1 x109 x105) fun _ h112 =>
    zrc h112 a0 3 <| zcl (f_X4_repairs h112 a0 v1) fun _ h114 =>
    zrc h114 a0 3 <| zcl (f_X4_repairs h114 a0 x105) fun _ h116 =>
    zret x105 h116)
  else
    (zret (0 : Int32) h101)
def f_X4_split (h : PH) (a0 : Nat) (v1 : Int32) (v2 : Int32) : ZR Int32 :=
  zrc h a0 3 <| zcl (f_X4_isList h a0 v1) fun x101 h102 =>
  if x101 = 0 then
    (f_X4_split_b36 h102 a0 v1 v2 a0 (1 : Int32))
  else
    (zcl (f_X4_isKey h102 v2) fun x103 h104 =>
    if x103 = 0 then
      (f_X4_split_b36 h104 a0 v1 v2 a0 (2 : Int32))
    else
      (zrc h104 a0 3 <| zcl (f_X4_spare h104 a0) fun x105 h106 =>
      if 0 ≤ x105 then
        (f_X4_split_b36 h106 a0 v1 v2 a0 (0 : Int32))
      else
        (f_X4_split_b36 h106 a0 v1 v2 a0 (3 : Int32))))
set_option maxHeartbeats 4000000 in
set_option maxRecDepth 100000 in
theorem m_X4_split_b36 {p : Program} {l : Launch} {e : Env} {s : State} {m : MethodId} {args : Array Value} {below : List Frame} {meth : Method} {c : Code} {D : va_G} {dA : Nat → ClassId} {b0 : Nat} {gs : Nat → Option Nat} (hc : zC D dA b0 gs yX4_split.cls cX4_split 4 p c s m args meth) (hr : meth.sig.returnType = (some .int)) (hin : meth.name = yX4_split.name) {r : Int32} {hh : PH} {mc ms : Nat} : ∀ (h : PH) (a0 : Nat) (v1 : Int32) (v2 : Int32) (s0 : Nat) (s1 : Int32) (C9 S9 : Nat) (H : Heap) (locs : List Loc) (cells slots : Nat), f_X4_split_b36 h a0 v1 v2 s0 s1 = some (r, hh, C9, S9) → cells + C9 = mc ∧ slots + S9 = ms → zM D dA b0 gs s h H locs → ∀ ls : Array Slot, lv_has ls 4 [(0, .ref a0), (1, .int v1), (2, .int v2)] → W p l e ({ frames := 6, cells := mc, slots := ms, locals := 185 } : Room) s m args below meth c H locs cells slots (MQ below (zQ D dA b0 gs (evI r) hh) args s mc ms (zA b0)) (F0 m 36 ls [.int s1, .ref s0]) := by
  have hx := hc.x
  have hb := hc.b
  intro h a0 v1 v2 s0 s1 C9 S9 H locs cells slots hf hq hn ls hl
  unfold f_X4_split_b36 at hf
  refine zr_pI (x := s1) hc hn (ci := 3) rfl rfl in_X4 0 (by decide) tyX4 tyX4_ok nmX4 q2099 (fun _ h => h) (Or.inl rfl) (fun _ _ _ => rfl) rfl rfl hf dX4_split_36 (fun h101 H locs hf hn => ?_)
  refine lv_aload_n (x := a0) hx hb dX4_split_39 rfl (lv_at hl 0 rfl) ?_
  refine zr_gI hc hn (ci := 3) rfl rfl in_X4 0 (by decide) q2099 (fun _ h => h) (fun _ _ _ => rfl) hf dX4_split_40 (fun x102 hf => ?_)
  refine lv_if_le (tgt := 48) hx hb dX4_split_43 (by decide) (fun c9 => ?_) (fun c9 => ?_)
  · have hf := zif_t c9 hf
    refine lv_aload_n (x := a0) hx hb dX4_split_48 rfl (lv_at hl 0 rfl) ?_
    refine zr_cVU (As := []) (rest := []) hc hn hq (ci := 3) rfl ⟨rfl, hd_X4_keeps⟩ (lw_V q2565 q2567 qs78 q91 q2568) (Nat.le_of_ble_eq_true rfl) (Nat.le_of_ble_eq_true rfl) (fun _ _ _ _ q => m_X4_keeps l D dA b0 gs h101 a0 q) hf dX4_split_49 hl.1 rfl rfl (zroom (Nat.le_of_ble_eq_true rfl)) (fun x103 h104 H locs cells slots C9 S9 hf hq hn => ?_)
    refine lv_aload_n (x := a0) hx hb dX4_split_52 rfl (lv_at hl 0 rfl) ?_
    refine zr_cVI (As := []) (rest := []) hc hn hq (ci := 3) rfl ⟨rfl, hd_X4_spare⟩ (lw_V q2561 q2563 qs77 q91 q2564) (Nat.le_of_ble_eq_true rfl) (Nat.le_of_ble_eq_true rfl) (fun _ _ _ _ q => m_X4_spare l D dA b0 gs h104 a0 q) hf dX4_split_53 hl.1 rfl rfl (zroom (Nat.le_of_ble_eq_true rfl)) (fun x105 h106 H locs cells slots C9 S9 hf hq hn => ?_)
    refine lv_istore_n (i := 3) (lv' := [(3, .int x105), (0, .ref a0), (1, .int v1), (2, .int v2)]) hx hb dX4_split_56 rfl hl (by decide) rfl (fun ls hl => ?_)
    refine lv_aload_n (x := a0) hx hb dX4_split_57 rfl (lv_at hl 1 rfl) ?_
    refine lv_iload_n hx hb dX4_split_58 rfl (lv_at hl 0 rfl) ?_
    refine zr_cVU (As := [.int x105]) (rest := []) hc hn hq (ci := 3) rfl ⟨rfl, hd_X4_begins⟩ (lw_V q2569 q2571 qs79 q91 q2572) (Nat.le_of_ble_eq_true rfl) (Nat.le_of_ble_eq_true rfl) (fun _ _ _ _ q => m_X4_begins l D dA b0 gs h106 a0 x105 q) hf dX4_split_59 hl.1 rfl rfl (zroom (Nat.le_of_ble_eq_true rfl)) (fun x107 h108 H locs cells slots C9 S9 hf hq hn => ?_)
    refine lv_aload_n (x := a0) hx hb dX4_split_62 rfl (lv_at hl 1 rfl) ?_
    refine lv_iload_n hx hb dX4_split_63 rfl (lv_at hl 2 rfl) ?_
    refine lv_aload_n (x := a0) hx hb dX4_split_64 rfl (lv_at hl 1 rfl) ?_
    refine lv_iload_n hx hb dX4_split_65 rfl (lv_at hl 2 rfl) ?_
    refine lv_iload_n hx hb dX4_split_66 rfl (lv_at hl 3 rfl) ?_
    refine zr_cVI (As := [.int v1, .int v2]) (rest := [.int v1, .ref a0]) hc hn hq (ci := 3) rfl ⟨rfl, hd_X4_below⟩ (lw_V q2393 q2395 qs61 q91 q2396) (Nat.le_of_ble_eq_true rfl) (Nat.le_of_ble_eq_true rfl) (fun _ _ _ _ q => m_X4_below l D dA b0 gs h108 a0 v1 v2 q) hf dX4_split_67 hl.1 rfl rfl (zroom (Nat.le_of_ble_eq_true rfl)) (fun x109 h110 H locs cells slots C9 S9 hf hq hn => ?_)
    refine lv_iload_n hx hb dX4_split_70 rfl (lv_at hl 0 rfl) ?_
    refine zr_cVU (As := [.int v1, .int x109, .int x105]) (rest := []) hc hn hq (ci := 3) rfl ⟨rfl, hd_X4_moves⟩ (lw_V q2597 q2599 qs81 q91 q2600) (Nat.le_of_ble_eq_true rfl) (Nat.le_of_ble_eq_true rfl) (fun _ _ _ _ q => m_X4_moves l D dA b0 gs h110 a0 v1 x109 x105 q) hf dX4_split_71 hl.1 rfl rfl (zroom (Nat.le_of_ble_eq_true rfl)) (fun x111 h112 H locs cells slots C9 S9 hf hq hn => ?_)
    refine lv_aload_n (x := a0) hx hb dX4_split_74 rfl (lv_at hl 1 rfl) ?_
    refine lv_iload_n hx hb dX4_split_75 rfl (lv_at hl 2 rfl) ?_
    refine zr_cVU (As := [.int v1]) (rest := []) hc hn hq (ci := 3) rfl ⟨rfl, hd_X4_repairs⟩ (lw_V q2291 q2293 qs48 q91 q2294) (Nat.le_of_ble_eq_true rfl) (Nat.le_of_ble_eq_true rfl) (fun _ _ _ _ q => m_X4_repairs l D dA b0 gs h112 a0 v1 q) hf dX4_split_76 hl.1 rfl rfl (zroom (Nat.le_of_ble_eq_true rfl)) (fun x113 h114 H locs cells slots C9 S9 hf hq hn => ?_)
    refine lv_aload_n (x := a0) hx hb dX4_split_79 rfl (lv_at hl 1 rfl) ?_
    refine lv_iload_n hx hb dX4_split_80 rfl (lv_at hl 0 rfl) ?_
    refine zr_cVU (As := [.int x105]) (rest := []) hc hn hq (ci := 3) rfl ⟨rfl, hd_X4_repairs⟩ (lw_V q2291 q2293 qs48 q91 q2294) (Nat.le_of_ble_eq_true rfl) (Nat.le_of_ble_eq_true rfl) (fun _ _ _ _ q => m_X4_repairs l D dA b0 gs h114 a0 x105 q) hf dX4_split_81 hl.1 rfl rfl (zroom (Nat.le_of_ble_eq_true rfl)) (fun x115 h116 H locs cells slots C9 S9 hf hq hn => ?_)
    refine lv_iload_n hx hb dX4_split_84 rfl (lv_at hl 0 rfl) ?_
    obtain ⟨rfl, rfl, rfl, rfl⟩ := zret_i hf
    exact zr_iret hc hn hr hq (fun _ _ _ _ q => q) dX4_split_85
  · have hf := zif_f c9 hf
    refine lv_iconst (v := (0 : Int32)) hx hb dX4_split_46 (by decide) ?_
    obtain ⟨rfl, rfl, rfl, rfl⟩ := zret_i hf
    exact zr_iret hc hn hr hq (fun _ _ _ _ q => q) dX4_split_47
set_option maxHeartbeats 4000000 in
set_option maxRecDepth 100000 in
theorem m_X4_split (l : Launch) (D : va_G) (dA : Nat → ClassId) (b0 : Nat) (gs : Nat → Option Nat) (h : PH) (a0 : Nat) (v1 : Int32) (v2 : Int32) {r : Int32} {hh : PH} {mc ms : Nat} (hf : f_X4_split h a0 v1 v2 = some (r, hh, mc, ms)) : zMt l D dA b0 gs yX4_split cX4_split 4 (some .int) 6 185 [.ref a0, .int v1, .int v2] h (evI r) hh mc ms := by
  unfold f_X4_split at hf
  refine zMt.of (by decide) (Nat.le_of_ble_eq_true rfl) ?_
  intro p e s m args below meth c hc hr hin hn ls hl
  have hl : lv_has ls 4 [(0, .ref a0), (1, .int v1), (2, .int v2)] := hl
  have hq : 0 + mc = mc ∧ 0 + ms = ms := ⟨Nat.zero_add _, Nat.zero_add _⟩
  have hx := hc.x
  have hb := hc.b
  refine lv_aload_n (x := a0) hx hb dX4_split_0 rfl (lv_at hl 0 rfl) ?_
  refine lv_aload_n (x := a0) hx hb dX4_split_1 rfl (lv_at hl 0 rfl) ?_
  refine lv_iload_n hx hb dX4_split_2 rfl (lv_at hl 1 rfl) ?_
  refine zr_cVI (As := [.int v1]) (rest := [.ref a0]) hc hn hq (ci := 3) rfl ⟨rfl, hd_X4_isList⟩ (lw_V q2343 q2345 qs57 q91 q2346) (Nat.le_of_ble_eq_true rfl) (Nat.le_of_ble_eq_true rfl) (fun _ _ _ _ q => m_X4_isList l D dA b0 gs h a0 v1 q) hf dX4_split_3 hl.1 rfl rfl (zroom (Nat.le_of_ble_eq_true rfl)) (fun x101 h102 H locs cells slots C9 S9 hf hq hn => ?_)
  refine lv_if_ne (tgt := 13) hx hb dX4_split_6 (by decide) (fun c9 => ?_) (fun c9 => ?_)
  · have hf := zif_f c9 hf
    refine lv_iload_n hx hb dX4_split_13 rfl (lv_at hl 2 rfl) ?_
    refine zr_cSI (As := [.int v2]) (rest := [.ref a0]) hc hn hq hd_X4_isKey (lw_S q2384 q2385 q91 q2386) (Nat.le_of_ble_eq_true rfl) (Nat.le_of_ble_eq_true rfl) (fun _ _ _ _ q => m_X4_isKey l D dA b0 gs h102 v2 q) hf dX4_split_14 hl.1 rfl rfl (zroom (Nat.le_of_ble_eq_true rfl)) (fun x103 h104 H locs cells slots C9 S9 hf hq hn => ?_)
    refine lv_if_ne (tgt := 24) hx hb dX4_split_17 (by decide) (fun c9 => ?_) (fun c9 => ?_)
    · have hf := zif_f c9 hf
      refine lv_aload_n (x := a0) hx hb dX4_split_24 rfl (lv_at hl 0 rfl) ?_
      refine zr_cVI (As := []) (rest := [.ref a0]) hc hn hq (ci := 3) rfl ⟨rfl, hd_X4_spare⟩ (lw_V q2561 q2563 qs77 q91 q2564) (Nat.le_of_ble_eq_true rfl) (Nat.le_of_ble_eq_true rfl) (fun _ _ _ _ q => m_X4_spare l D dA b0 gs h104 a0 q) hf dX4_split_25 hl.1 rfl rfl (zroom (Nat.le_of_ble_eq_true rfl)) (fun x105 h106 H locs cells slots C9 S9 hf hq hn => ?_)
      refine lv_if_ge (tgt := 35) hx hb dX4_split_28 (by decide) (fun c9 => ?_) (fun c9 => ?_)
      · have hf := zif_t c9 hf
        refine lv_iconst (v := (0 : Int32)) hx hb dX4_split_35 (by decide) ?_
        exact m_X4_split_b36 hc hr hin h106 a0 v1 v2 a0 (0 : Int32) _ _ _ _ _ _ hf hq hn _ (lv_sub hl [0, 1, 2] rfl)
      · have hf := zif_f c9 hf
        refine lv_iconst (v := (3 : Int32)) hx hb dX4_split_31 (by decide) ?_
        refine lv_goto (tgt := 36) hx hb dX4_split_32 (by decide) ?_
        exact m_X4_split_b36 hc hr hin h106 a0 v1 v2 a0 (3 : Int32) _ _ _ _ _ _ hf hq hn _ (lv_sub hl [0, 1, 2] rfl)
    · have hf := zif_t c9 hf
      refine lv_iconst (v := (2 : Int32)) hx hb dX4_split_20 (by decide) ?_
      refine lv_goto (tgt := 36) hx hb dX4_split_21 (by decide) ?_
      exact m_X4_split_b36 hc hr hin h104 a0 v1 v2 a0 (2 : Int32) _ _ _ _ _ _ hf hq hn _ (lv_sub hl [0, 1, 2] rfl)
  · have hf := zif_t c9 hf
    refine lv_iconst (v := (1 : Int32)) hx hb dX4_split_9 (by decide) ?_
    refine lv_goto (tgt := 36) hx hb dX4_split_10 (by decide) ?_
    exact m_X4_split_b36 hc hr hin h102 a0 v1 v2 a0 (1 : Int32) _ _ _ _ _ _ hf hq hn _ (lv_sub hl [0, 1, 2] rfl)
theorem hd_X4_cut : yX4_cut.cls ≠ "java/lang/invoke/MethodHandle" ∧ yX4_cut.cls ≠ "java/lang/invoke/VarHandle" ∧ (parseMethodDescriptor yX4_cut.desc).map (fun d => d.parameters.length) = some 3 := by decide +kernel
def f_X4_cut_b238 : Nat → PH → Nat → Int32 → Int32 → Int32 → Int32 → Int32 → ZR Int32
  | 0 => fun _ _ _ _ _ _ _ => none
  | n + 1 => fun h a0 v1 v4 v5 v7 v8 =>
    zgP h a0 3 11 fun x101 =>
    znn x101 fun a102 =>
    zaI h a102 0 (1 : Int32) fun x103 =>
    if x103 ≤ v8 then
      (zgP h a0 3 1 fun x104 =>
      znm (v5 + (1 : Int32)) fun x105 =>
      zgP h a0 3 11 fun x106 =>
      znn x106 fun a107 =>
      zaI h a107 0 (1 : Int32) fun x108 =>
      znm (v7 + x108) fun x109 =>
      znn x104 fun a110 =>
      zsI h a110 0 x105 x109 fun h111 =>
      zrc h111 a0 3 <| zcl (f_X4_repairs h111 a0 v1) fun _ h113 =>
      zret v4 h113)
    else
      (zgP h a0 3 1 fun x114 =>
      znm (v5 + (2 : Int32)) fun x115 =>
      znm (x115 + v7) fun x116 =>
      znm (x116 + v8) fun x117 =>
      zgP h a0 3 11 fun x118 =>
      znm ((2 : Int32) + v8) fun x119 =>
      znn x118 fun a120 =>
      zaI h a120 0 x119 fun x121 =>
      znn x114 fun a122 =>
      zsI h a122 0 x117 x121 fun h123 =>
      zgP h123 a0 3 1 fun x124 =>
      znm (v5 + (62 : Int32)) fun x125 =>
      znm (x125 + v7) fun x126 =>
      znm (x126 + v8) fun x127 =>
      zgP h123 a0 3 11 fun x128 =>
      znm ((62 : Int32) + v8) fun x129 =>
      znn x128 fun a130 =>
      zaI h123 a130 0 x129 fun x131 =>
      znn x124 fun a132 =>
      zsI h123 a132 0 x127 x131 fun h133 =>
      zgP h133 a0 3 1 fun x134 =>
      znm (v5 + (122 : Int32)) fun x135 =>
      znm (x135 + v7) fun x136 =>
      znm (x136 + v8) fun x137 =>
      zgP h133 a0 3 11 fun x138 =>
      znm ((122 : Int32) + v8) fun x139 =>
      znn x138 fun a140 =>
      zaI h133 a140 0 x139 fun x141 =>
      znn x134 fun a142 =>
      zsI h133 a142 0 x137 x141 fun h143 =>
      znm (v8 + (1 : Int32)) fun x144 =>
      f_X4_cut_b238 n h143 a0 v1 v4 v5 v7 x144)
def f_X4_cut_b172 : Nat → PH → Nat → Int32 → Int32 → Int32 → Int32 → ZR Int32
  | 0 => fun _ _ _ _ _ _ => none
  | n + 1 => fun h a0 v1 v4 v5 v7 =>
    if (182 : Int32) ≤ v7 then
      (zgP h a0 3 1 fun x101 =>
      znm (v5 + (1 : Int32)) fun x102 =>
      znn x101 fun a103 =>
      zaI h a103 0 x102 fun x104 =>
      f_X4_cut_b238 zFU h a0 v1 v4 v5 x104 (0 : Int32))
    else
      (zgP h a0 3 11 fun x105 =>
      znn x105 fun a106 =>
      zaI h a106 0 v7 fun x107 =>
      zgP h a0 3 11 fun x108 =>
      zgP h a0 3 1 fun x109 =>
      znm (v5 + v7) fun x110 =>
      znn x109 fun a111 =>
      zaI h a111 0 x110 fun x112 =>
      znn x108 fun a113 =>
      zsI h a113 0 v7 x112 fun h114 =>
      zgP h114 a0 3 1 fun x115 =>
      znm (v5 + v7) fun x116 =>
      znn x115 fun a117 =>
      zsI h114 a117 0 x116 x107 fun h118 =>
      znm (v7 + (1 : Int32)) fun x119 =>
      f_X4_cut_b172 n h118 a0 v1 v4 v5 x119)
def f_X4_cut_b118 : Nat → PH → Nat → Int32 → Int32 → Int32 → Int32 → Int32 → ZR Int32
  | 0 => fun _ _ _ _ _ _ _ => none
  | n + 1 => fun h a0 v1 v4 v5 v6 v7 =>
    if (182 : Int32) ≤ v7 then
      (zrc h a0 3 <| zcl (f_X4_moves h a0 v4 v6 v1) fun _ h102 =>
      zrc h102 a0 3 <| zcl (f_X4_repairs h102 a0 v4) fun _ h104 =>
      zrc h104 a0 3 <| zcl (f_X4_repairs h104 a0 v1) fun _ h106 =>
      f_X4_cut_b172 zFU h106 a0 v1 v4 v5 (0 : Int32))
    else
      (zgP h a0 3 11 fun x107 =>
      zgP h a0 3 1 fun x108 =>
      znm (v5 + v7) fun x109 =>
      znn x108 fun a110 =>
      zaI h a110 0 x109 fun x111 =>
      znn x107 fun a112 =>
      zsI h a112 0 v7 x111 fun h113 =>
      znm (v7 + (1 : Int32)) fun x114 =>
      f_X4_cut_b118 n h113 a0 v1 v4 v5 v6 x114)
def f_X4_cut_b48 (h : PH) (a0 : Nat) (v1 : Int32) (v2 : Int32) (v3 : Int32) (s0 : Nat) (s1 : Int32) : ZR Int32 :=
  zpI h s0 3 0 s1 fun h101 =>
  zgI h101 a0 3 0 fun x102 =>
  if x102 ≤ 0 then
    (zrc h101 a0 3 <| zcl (f_X4_keeps h101 a0) fun _ h104 =>
    zrc h104 a0 3 <| zcl (f_X4_spare h104 a0) fun x105 h106 =>
    zrc h106 a0 3 <| zcl (f_X4_begins h106 a0 x105) fun _ h108 =>
    zrc h108 a0 3 <| zcl (f_X4_below h108 a0 v1 v2) fun x109 h110 =>
    zrc h110 a0 3 <| zcl (f_X4_moves h110 a0 v1 x109 x105) fun _ h112 =>
    zrc h112 a0 3 <| zcl (f_X4_repairs h112 a0 v1) fun _ h114 =>
    zrc h114 a0 3 <| zcl (f_X4_repairs h114 a0 x105) fun _ h116 =>
    zcl (f_X4_base h116 v1) fun x117 h118 =>
    zrc h118 a0 3 <| zcl (f_X4_below h118 a0 x105 v3) fun x119 h120 =>
    f_X4_cut_b118 zFU h120 a0 v1 x105 x117 x119 (0 : Int32))
  else
    (zret (0 : Int32) h101)
def f_X4_cut_b32 (h : PH) (a0 : Nat) (v1 : Int32) (v2 : Int32) (v3 : Int32) (s0 : Nat) : ZR Int32 :=
  f_X4_cut_b48 h a0 v1 v2 v3 s0 (2 : Int32)
def f_X4_cut (h : PH) (a0 : Nat) (v1 : Int32) (v2 : Int32) (v3 : Int32) : ZR Int32 :=
  zrc h a0 3 <| zcl (f_X4_isList h a0 v1) fun x101 h102 =>
  if x101 = 0 then
    (f_X4_cut_b48 h102 a0 v1 v2 v3 a0 (1 : Int32))
  else
    (zcl (f_X4_isKey h102 v2) fun x103 h104 =>
    if x103 = 0 then
      (f_X4_cut_b32 h104 a0 v1 v2 v3 a0)
    else
      (zcl (f_X4_isKey h104 v3) fun x105 h106 =>
      if x105 = 0 then
        (f_X4_cut_b32 h106 a0 v1 v2 v3 a0)
      else
        (if v2 ≤ v3 then
          (zrc h106 a0 3 <| zcl (f_X4_spare h106 a0) fun x107 h108 =>
          if 0 ≤ x107 then
            (f_X4_cut_b48 h108 a0 v1 v2 v3 a0 (0 : Int32))
          else
            (f_X4_cut_b48 h108 a0 v1 v2 v3 a0 (3 : Int32)))
        else
          (f_X4_cut_b32 h106 a0 v1 v2 v3 a0))))
set_option maxHeartbeats 4000000 in
set_option maxRecDepth 100000 in
theorem m_X4_cut_b238 {p : Program} {l : Launch} {e : Env} {s : State} {m : MethodId} {args : Array Value} {below : List Frame} {meth : Method} {c : Code} {D : va_G} {dA : Nat → ClassId} {b0 : Nat} {gs : Nat → Option Nat} (hc : zC D dA b0 gs yX4_cut.cls cX4_cut 9 p c s m args meth) (hr : meth.sig.returnType = (some .int)) (hin : meth.name = yX4_cut.name) {r : Int32} {hh : PH} {mc ms : Nat} : ∀ (n : Nat) (h : PH) (a0 : Nat) (v1 : Int32) (v4 : Int32) (v5 : Int32) (v7 : Int32) (v8 : Int32) (C9 S9 : Nat) (H : Heap) (locs : List Loc) (cells slots : Nat), f_X4_cut_b238 n h a0 v1 v4 v5 v7 v8 = some (r, hh, C9, S9) → cells + C9 = mc ∧ slots + S9 = ms → zM D dA b0 gs s h H locs → ∀ ls : Array Slot, lv_has ls 9 [(0, .ref a0), (1, .int v1), (4, .int v4), (5, .int v5), (7, .int v7), (8, .int v8)] → W p l e ({ frames := 6, cells := mc, slots := ms, locals := 185 } : Room) s m args below meth c H locs cells slots (MQ below (zQ D dA b0 gs (evI r) hh) args s mc ms (zA b0)) (F0 m 238 ls []) := by
  have hx := hc.x
  have hb := hc.b
  intro n
  induction n with
  | zero =>
    intro h a0 v1 v4 v5 v7 v8 C9 S9 H locs cells slots hf hq hn ls hl
    cases hf
  | succ n ih =>
    intro h a0 v1 v4 v5 v7 v8 C9 S9 H locs cells slots hf hq hn ls hl
    unfold f_X4_cut_b238 at hf
    refine lv_iload hx hb dX4_cut_238 (lv_at hl 5 rfl) ?_
    refine lv_aload_n (x := a0) hx hb dX4_cut_240 rfl (lv_at hl 0 rfl) ?_
    refine zr_gP hc hn (ci := 3) rfl rfl in_X4 11 (by decide) q2110 (fun _ h => h) (fun _ _ _ => rfl) hf dX4_cut_241 (fun x101 hf => ?_)
    refine lv_iconst (v := (1 : Int32)) hx hb dX4_cut_244 (by decide) ?_
    obtain ⟨a102, e9, hf9⟩ := znn_i hf
    subst e9
    have hf := hf9
    clear hf9
    refine zr_aI0 hc hn hf dX4_cut_245 (fun x103 hf => ?_)
    refine lv_icmp_ge (tgt := 331) hx hb dX4_cut_246 (by decide) (fun c9 => ?_) (fun c9 => ?_)
    · have hf := zif_t c9 hf
      refine lv_aload_n (x := a0) hx hb dX4_cut_331 rfl (lv_at hl 0 rfl) ?_
      refine zr_gP hc hn (ci := 3) rfl rfl in_X4 1 (by decide) q2100 (fun _ h => h) (fun _ _ _ => rfl) hf dX4_cut_332 (fun x104 hf => ?_)
      refine lv_iload hx hb dX4_cut_335 (lv_at hl 3 rfl) ?_
      refine lv_iconst (v := (1 : Int32)) hx hb dX4_cut_337 (by decide) ?_
      refine lv_iadd hx hb dX4_cut_338 ?_
      refine zr_nmI hf (fun x105 hf => ?_)
      refine lv_iload hx hb dX4_cut_339 (lv_at hl 4 rfl) ?_
      refine lv_aload_n (x := a0) hx hb dX4_cut_341 rfl (lv_at hl 0 rfl) ?_
      refine zr_gP hc hn (ci := 3) rfl rfl in_X4 11 (by decide) q2110 (fun _ h => h) (fun _ _ _ => rfl) hf dX4_cut_342 (fun x106 hf => ?_)
      refine lv_iconst (v := (1 : Int32)) hx hb dX4_cut_345 (by decide) ?_
      obtain ⟨a107, e9, hf9⟩ := znn_i hf
      subst e9
      have hf := hf9
      clear hf9
      refine zr_aI0 hc hn hf dX4_cut_346 (fun x108 hf => ?_)
      refine lv_iadd hx hb dX4_cut_347 ?_
      refine zr_nmI hf (fun x109 hf => ?_)
      obtain ⟨a110, e9, hf9⟩ := znn_i hf
      subst e9
      have hf := hf9
      clear hf9
      refine zr_sI hc hn hf dX4_cut_348 (fun h111 H locs hf hn => ?_)
      refine lv_aload_n (x := a0) hx hb dX4_cut_349 rfl (lv_at hl 0 rfl) ?_
      refine lv_iload_n hx hb dX4_cut_350 rfl (lv_at hl 1 rfl) ?_
      refine zr_cVU (As := [.int v1]) (rest := []) hc hn hq (ci := 3) rfl ⟨rfl, hd_X4_repairs⟩ (lw_V q2291 q2293 qs48 q91 q2294) (Nat.le_of_ble_eq_true rfl) (Nat.le_of_ble_eq_true rfl) (fun _ _ _ _ q => m_X4_repairs l D dA b0 gs h111 a0 v1 q) hf dX4_cut_351 hl.1 rfl rfl (zroom (Nat.le_of_ble_eq_true rfl)) (fun x112 h113 H locs cells slots C9 S9 hf hq hn => ?_)
      refine lv_iload hx hb dX4_cut_354 (lv_at hl 2 rfl) ?_
      obtain ⟨rfl, rfl, rfl, rfl⟩ := zret_i hf
      exact zr_iret hc hn hr hq (fun _ _ _ _ q => q) dX4_cut_356
    · have hf := zif_f c9 hf
      refine lv_aload_n (x := a0) hx hb dX4_cut_249 rfl (lv_at hl 0 rfl) ?_
      refine zr_gP hc hn (ci := 3) rfl rfl in_X4 1 (by decide) q2100 (fun _ h => h) (fun _ _ _ => rfl) hf dX4_cut_250 (fun x114 hf => ?_)
      refine lv_iload hx hb dX4_cut_253 (lv_at hl 3 rfl) ?_
      refine lv_iconst (v := (2 : Int32)) hx hb dX4_cut_255 (by decide) ?_
      refine lv_iadd hx hb dX4_cut_256 ?_
      refine zr_nmI hf (fun x115 hf => ?_)
      refine lv_iload hx hb dX4_cut_257 (lv_at hl 4 rfl) ?_
      refine lv_iadd hx hb dX4_cut_259 ?_
      refine zr_nmI hf (fun x116 hf => ?_)
      refine lv_iload hx hb dX4_cut_260 (lv_at hl 5 rfl) ?_
      refine lv_iadd hx hb dX4_cut_262 ?_
      refine zr_nmI hf (fun x117 hf => ?_)
      refine lv_aload_n (x := a0) hx hb dX4_cut_263 rfl (lv_at hl 0 rfl) ?_
      refine zr_gP hc hn (ci := 3) rfl rfl in_X4 11 (by decide) q2110 (fun _ h => h) (fun _ _ _ => rfl) hf dX4_cut_264 (fun x118 hf => ?_)
      refine lv_iconst (v := (2 : Int32)) hx hb dX4_cut_267 (by decide) ?_
      refine lv_iload hx hb dX4_cut_268 (lv_at hl 5 rfl) ?_
      refine lv_iadd hx hb dX4_cut_270 ?_
      refine zr_nmI hf (fun x119 hf => ?_)
      obtain ⟨a120, e9, hf9⟩ := znn_i hf
      subst e9
      have hf := hf9
      clear hf9
      refine zr_aI0 hc hn hf dX4_cut_271 (fun x121 hf => ?_)
      obtain ⟨a122, e9, hf9⟩ := znn_i hf
      subst e9
      have hf := hf9
      clear hf9
      refine zr_sI hc hn hf dX4_cut_272 (fun h123 H locs hf hn => ?_)
      refine lv_aload_n (x := a0) hx hb dX4_cut_273 rfl (lv_at hl 0 rfl) ?_
      refine zr_gP hc hn (ci := 3) rfl rfl in_X4 1 (by decide) q2100 (fun _ h => h) (fun _ _ _ => rfl) hf dX4_cut_274 (fun x124 hf => ?_)
      refine lv_iload hx hb dX4_cut_277 (lv_at hl 3 rfl) ?_
      refine lv_bipush (v := (62 : Int32)) hx hb dX4_cut_279 (by decide) ?_
      refine lv_iadd hx hb dX4_cut_281 ?_
      refine zr_nmI hf (fun x125 hf => ?_)
      refine lv_iload hx hb dX4_cut_282 (lv_at hl 4 rfl) ?_
      refine lv_iadd hx hb dX4_cut_284 ?_
      refine zr_nmI hf (fun x126 hf => ?_)
      refine lv_iload hx hb dX4_cut_285 (lv_at hl 5 rfl) ?_
      refine lv_iadd hx hb dX4_cut_287 ?_
      refine zr_nmI hf (fun x127 hf => ?_)
      refine lv_aload_n (x := a0) hx hb dX4_cut_288 rfl (lv_at hl 0 rfl) ?_
      refine zr_gP hc hn (ci := 3) rfl rfl in_X4 11 (by decide) q2110 (fun _ h => h) (fun _ _ _ => rfl) hf dX4_cut_289 (fun x128 hf => ?_)
      refine lv_bipush (v := (62 : Int32)) hx hb dX4_cut_292 (by decide) ?_
      refine lv_iload hx hb dX4_cut_294 (lv_at hl 5 rfl) ?_
      refine lv_iadd hx hb dX4_cut_296 ?_
      refine zr_nmI hf (fun x129 hf => ?_)
      obtain ⟨a130, e9, hf9⟩ := znn_i hf
      subst e9
      have hf := hf9
      clear hf9
      refine zr_aI0 hc hn hf dX4_cut_297 (fun x131 hf => ?_)
      obtain ⟨a132, e9, hf9⟩ := znn_i hf
      subst e9
      have hf := hf9
      clear hf9
      refine zr_sI hc hn hf dX4_cut_298 (fun h133 H locs hf hn => ?_)
      refine lv_aload_n (x := a0) hx hb dX4_cut_299 rfl (lv_at hl 0 rfl) ?_
      refine zr_gP hc hn (ci := 3) rfl rfl in_X4 1 (by decide) q2100 (fun _ h => h) (fun _ _ _ => rfl) hf dX4_cut_300 (fun x134 hf => ?_)
      refine lv_iload hx hb dX4_cut_303 (lv_at hl 3 rfl) ?_
      refine lv_bipush (v := (122 : Int32)) hx hb dX4_cut_305 (by decide) ?_
      refine lv_iadd hx hb dX4_cut_307 ?_
      refine zr_nmI hf (fun x135 hf => ?_)
      refine lv_iload hx hb dX4_cut_308 (lv_at hl 4 rfl) ?_
      refine lv_iadd hx hb dX4_cut_310 ?_
      refine zr_nmI hf (fun x136 hf => ?_)
      refine lv_iload hx hb dX4_cut_311 (lv_at hl 5 rfl) ?_
      refine lv_iadd hx hb dX4_cut_313 ?_
      refine zr_nmI hf (fun x137 hf => ?_)
      refine lv_aload_n (x := a0) hx hb dX4_cut_314 rfl (lv_at hl 0 rfl) ?_
      refine zr_gP hc hn (ci := 3) rfl rfl in_X4 11 (by decide) q2110 (fun _ h => h) (fun _ _ _ => rfl) hf dX4_cut_315 (fun x138 hf => ?_)
      refine lv_bipush (v := (122 : Int32)) hx hb dX4_cut_318 (by decide) ?_
      refine lv_iload hx hb dX4_cut_320 (lv_at hl 5 rfl) ?_
      refine lv_iadd hx hb dX4_cut_322 ?_
      refine zr_nmI hf (fun x139 hf => ?_)
      obtain ⟨a140, e9, hf9⟩ := znn_i hf
      subst e9
      have hf := hf9
      clear hf9
      refine zr_aI0 hc hn hf dX4_cut_323 (fun x141 hf => ?_)
      obtain ⟨a142, e9, hf9⟩ := znn_i hf
      subst e9
      have hf := hf9
      clear hf9
      refine zr_sI hc hn hf dX4_cut_324 (fun h143 H locs hf hn => ?_)
      obtain ⟨x144, ex144, hf⟩ := znm_i hf
      refine lv_iinc (v := x144) (lv' := [(8, .int x144), (0, .ref a0), (1, .int v1), (4, .int v4), (5, .int v5), (7, .int v7)]) hx hb dX4_cut_325 hl (k := 5) rfl (by rw [ex144]; rfl) (by decide) rfl (fun ls hl => ?_)
      refine lv_goto (tgt := 238) hx hb dX4_cut_328 (by decide) ?_
      exact ih h143 a0 v1 v4 v5 v7 x144 _ _ _ _ _ _ hf hq hn _ (lv_sub hl [1, 2, 3, 4, 5, 0] rfl)
set_option maxHeartbeats 4000000 in
set_option maxRecDepth 100000 in
theorem m_X4_cut_b172 {p : Program} {l : Launch} {e : Env} {s : State} {m : MethodId} {args : Array Value} {below : List Frame} {meth : Method} {c : Code} {D : va_G} {dA : Nat → ClassId} {b0 : Nat} {gs : Nat → Option Nat} (hc : zC D dA b0 gs yX4_cut.cls cX4_cut 9 p c s m args meth) (hr : meth.sig.returnType = (some .int)) (hin : meth.name = yX4_cut.name) {r : Int32} {hh : PH} {mc ms : Nat} : ∀ (n : Nat) (h : PH) (a0 : Nat) (v1 : Int32) (v4 : Int32) (v5 : Int32) (v7 : Int32) (C9 S9 : Nat) (H : Heap) (locs : List Loc) (cells slots : Nat), f_X4_cut_b172 n h a0 v1 v4 v5 v7 = some (r, hh, C9, S9) → cells + C9 = mc ∧ slots + S9 = ms → zM D dA b0 gs s h H locs → ∀ ls : Array Slot, lv_has ls 9 [(0, .ref a0), (1, .int v1), (4, .int v4), (5, .int v5), (7, .int v7)] → W p l e ({ frames := 6, cells := mc, slots := ms, locals := 185 } : Room) s m args below meth c H locs cells slots (MQ below (zQ D dA b0 gs (evI r) hh) args s mc ms (zA b0)) (F0 m 172 ls []) := by
  have hx := hc.x
  have hb := hc.b
  intro n
  induction n with
  | zero =>
    intro h a0 v1 v4 v5 v7 C9 S9 H locs cells slots hf hq hn ls hl
    cases hf
  | succ n ih =>
    intro h a0 v1 v4 v5 v7 C9 S9 H locs cells slots hf hq hn ls hl
    unfold f_X4_cut_b172 at hf
    refine lv_iload hx hb dX4_cut_172 (lv_at hl 4 rfl) ?_
    refine lv_sipush (v := (182 : Int32)) hx hb dX4_cut_174 (by decide) ?_
    refine lv_icmp_ge (tgt := 224) hx hb dX4_cut_177 (by decide) (fun c9 => ?_) (fun c9 => ?_)
    · have hf := zif_t c9 hf
      refine lv_aload_n (x := a0) hx hb dX4_cut_224 rfl (lv_at hl 0 rfl) ?_
      refine zr_gP hc hn (ci := 3) rfl rfl in_X4 1 (by decide) q2100 (fun _ h => h) (fun _ _ _ => rfl) hf dX4_cut_225 (fun x101 hf => ?_)
      refine lv_iload hx hb dX4_cut_228 (lv_at hl 3 rfl) ?_
      refine lv_iconst (v := (1 : Int32)) hx hb dX4_cut_230 (by decide) ?_
      refine lv_iadd hx hb dX4_cut_231 ?_
      refine zr_nmI hf (fun x102 hf => ?_)
      obtain ⟨a103, e9, hf9⟩ := znn_i hf
      subst e9
      have hf := hf9
      clear hf9
      refine zr_aI0 hc hn hf dX4_cut_232 (fun x104 hf => ?_)
      refine lv_istore (lv' := [(7, .int x104), (0, .ref a0), (1, .int v1), (4, .int v4), (5, .int v5)]) hx hb dX4_cut_233 hl (by decide) rfl (fun ls hl => ?_)
      refine lv_iconst (v := (0 : Int32)) hx hb dX4_cut_235 (by decide) ?_
      refine lv_istore (lv' := [(8, .int (0 : Int32)), (7, .int x104), (0, .ref a0), (1, .int v1), (4, .int v4), (5, .int v5)]) hx hb dX4_cut_236 hl (by decide) rfl (fun ls hl => ?_)
      exact m_X4_cut_b238 hc hr hin zFU h a0 v1 v4 v5 x104 (0 : Int32) _ _ _ _ _ _ hf hq hn _ (lv_sub hl [2, 3, 4, 5, 1, 0] rfl)
    · have hf := zif_f c9 hf
      refine lv_aload_n (x := a0) hx hb dX4_cut_180 rfl (lv_at hl 0 rfl) ?_
      refine zr_gP hc hn (ci := 3) rfl rfl in_X4 11 (by decide) q2110 (fun _ h => h) (fun _ _ _ => rfl) hf dX4_cut_181 (fun x105 hf => ?_)
      refine lv_iload hx hb dX4_cut_184 (lv_at hl 4 rfl) ?_
      obtain ⟨a106, e9, hf9⟩ := znn_i hf
      subst e9
      have hf := hf9
      clear hf9
      refine zr_aI0 hc hn hf dX4_cut_186 (fun x107 hf => ?_)
      refine lv_istore (lv' := [(8, .int x107), (0, .ref a0), (1, .int v1), (4, .int v4), (5, .int v5), (7, .int v7)]) hx hb dX4_cut_187 hl (by decide) rfl (fun ls hl => ?_)
      refine lv_aload_n (x := a0) hx hb dX4_cut_189 rfl (lv_at hl 1 rfl) ?_
      refine zr_gP hc hn (ci := 3) rfl rfl in_X4 11 (by decide) q2110 (fun _ h => h) (fun _ _ _ => rfl) hf dX4_cut_190 (fun x108 hf => ?_)
      refine lv_iload hx hb dX4_cut_193 (lv_at hl 5 rfl) ?_
      refine lv_aload_n (x := a0) hx hb dX4_cut_195 rfl (lv_at hl 1 rfl) ?_
      refine zr_gP hc hn (ci := 3) rfl rfl in_X4 1 (by decide) q2100 (fun _ h => h) (fun _ _ _ => rfl) hf dX4_cut_196 (fun x109 hf => ?_)
      refine lv_iload hx hb dX4_cut_199 (lv_at hl 4 rfl) ?_
      refine lv_iload hx hb dX4_cut_201 (lv_at hl 5 rfl) ?_
      refine lv_iadd hx hb dX4_cut_203 ?_
      refine zr_nmI hf (fun x110 hf => ?_)
      obtain ⟨a111, e9, hf9⟩ := znn_i hf
      subst e9
      have hf := hf9
      clear hf9
      refine zr_aI0 hc hn hf dX4_cut_204 (fun x112 hf => ?_)
      obtain ⟨a113, e9, hf9⟩ := znn_i hf
      subst e9
      have hf := hf9
      clear hf9
      refine zr_sI hc hn hf dX4_cut_205 (fun h114 H locs hf hn => ?_)
      refine lv_aload_n (x := a0) hx hb dX4_cut_206 rfl (lv_at hl 1 rfl) ?_
      refine zr_gP hc hn (ci := 3) rfl rfl in_X4 1 (by decide) q2100 (fun _ h => h) (fun _ _ _ => rfl) hf dX4_cut_207 (fun x115 hf => ?_)
      refine lv_iload hx hb dX4_cut_210 (lv_at hl 4 rfl) ?_
      refine lv_iload hx hb dX4_cut_212 (lv_at hl 5 rfl) ?_
      refine lv_iadd hx hb dX4_cut_214 ?_
      refine zr_nmI hf (fun x116 hf => ?_)
      refine lv_iload hx hb dX4_cut_215 (lv_at hl 0 rfl) ?_
      obtain ⟨a117, e9, hf9⟩ := znn_i hf
      subst e9
      have hf := hf9
      clear hf9
      refine zr_sI hc hn hf dX4_cut_217 (fun h118 H locs hf hn => ?_)
      obtain ⟨x119, ex119, hf⟩ := znm_i hf
      refine lv_iinc (v := x119) (lv' := [(7, .int x119), (8, .int x107), (0, .ref a0), (1, .int v1), (4, .int v4), (5, .int v5)]) hx hb dX4_cut_218 hl (k := 5) rfl (by rw [ex119]; rfl) (by decide) rfl (fun ls hl => ?_)
      refine lv_goto (tgt := 172) hx hb dX4_cut_221 (by decide) ?_
      exact ih h118 a0 v1 v4 v5 x119 _ _ _ _ _ _ hf hq hn _ (lv_sub hl [2, 3, 4, 5, 0] rfl)
set_option maxHeartbeats 4000000 in
set_option maxRecDepth 100000 in
theorem m_X4_cut_b118 {p : Program} {l : Launch} {e : Env} {s : State} {m : MethodId} {args : Array Value} {below : List Frame} {meth : Method} {c : Code} {D : va_G} {dA : Nat → ClassId} {b0 : Nat} {gs : Nat → Option Nat} (hc : zC D dA b0 gs yX4_cut.cls cX4_cut 9 p c s m args meth) (hr : meth.sig.returnType = (some .int)) (hin : meth.name = yX4_cut.name) {r : Int32} {hh : PH} {mc ms : Nat} : ∀ (n : Nat) (h : PH) (a0 : Nat) (v1 : Int32) (v4 : Int32) (v5 : Int32) (v6 : Int32) (v7 : Int32) (C9 S9 : Nat) (H : Heap) (locs : List Loc) (cells slots : Nat), f_X4_cut_b118 n h a0 v1 v4 v5 v6 v7 = some (r, hh, C9, S9) → cells + C9 = mc ∧ slots + S9 = ms → zM D dA b0 gs s h H locs → ∀ ls : Array Slot, lv_has ls 9 [(0, .ref a0), (1, .int v1), (4, .int v4), (5, .int v5), (6, .int v6), (7, .int v7)] → W p l e ({ frames := 6, cells := mc, slots := ms, locals := 185 } : Room) s m args below meth c H locs cells slots (MQ below (zQ D dA b0 gs (evI r) hh) args s mc ms (zA b0)) (F0 m 118 ls []) := by
  have hx := hc.x
  have hb := hc.b
  intro n
  induction n with
  | zero =>
    intro h a0 v1 v4 v5 v6 v7 C9 S9 H locs cells slots hf hq hn ls hl
    cases hf
  | succ n ih =>
    intro h a0 v1 v4 v5 v6 v7 C9 S9 H locs cells slots hf hq hn ls hl
    unfold f_X4_cut_b118 at hf
    refine lv_iload hx hb dX4_cut_118 (lv_at hl 5 rfl) ?_
    refine lv_sipush (v := (182 : Int32)) hx hb dX4_cut_120 (by decide) ?_
    refine lv_icmp_ge (tgt := 149) hx hb dX4_cut_123 (by decide) (fun c9 => ?_) (fun c9 => ?_)
    · have hf := zif_t c9 hf
      refine lv_aload_n (x := a0) hx hb dX4_cut_149 rfl (lv_at hl 0 rfl) ?_
      refine lv_iload hx hb dX4_cut_150 (lv_at hl 2 rfl) ?_
      refine lv_iload hx hb dX4_cut_152 (lv_at hl 4 rfl) ?_
      refine lv_iload_n hx hb dX4_cut_154 rfl (lv_at hl 1 rfl) ?_
      refine zr_cVU (As := [.int v4, .int v6, .int v1]) (rest := []) hc hn hq (ci := 3) rfl ⟨rfl, hd_X4_moves⟩ (lw_V q2597 q2599 qs81 q91 q2600) (Nat.le_of_ble_eq_true rfl) (Nat.le_of_ble_eq_true rfl) (fun _ _ _ _ q => m_X4_moves l D dA b0 gs h a0 v4 v6 v1 q) hf dX4_cut_155 hl.1 rfl rfl (zroom (Nat.le_of_ble_eq_true rfl)) (fun x101 h102 H locs cells slots C9 S9 hf hq hn => ?_)
      refine lv_aload_n (x := a0) hx hb dX4_cut_158 rfl (lv_at hl 0 rfl) ?_
      refine lv_iload hx hb dX4_cut_159 (lv_at hl 2 rfl) ?_
      refine zr_cVU (As := [.int v4]) (rest := []) hc hn hq (ci := 3) rfl ⟨rfl, hd_X4_repairs⟩ (lw_V q2291 q2293 qs48 q91 q2294) (Nat.le_of_ble_eq_true rfl) (Nat.le_of_ble_eq_true rfl) (fun _ _ _ _ q => m_X4_repairs l D dA b0 gs h102 a0 v4 q) hf dX4_cut_161 hl.1 rfl rfl (zroom (Nat.le_of_ble_eq_true rfl)) (fun x103 h104 H locs cells slots C9 S9 hf hq hn => ?_)
      refine lv_aload_n (x := a0) hx hb dX4_cut_164 rfl (lv_at hl 0 rfl) ?_
      refine lv_iload_n hx hb dX4_cut_165 rfl (lv_at hl 1 rfl) ?_
      refine zr_cVU (As := [.int v1]) (rest := []) hc hn hq (ci := 3) rfl ⟨rfl, hd_X4_repairs⟩ (lw_V q2291 q2293 qs48 q91 q2294) (Nat.le_of_ble_eq_true rfl) (Nat.le_of_ble_eq_true rfl) (fun _ _ _ _ q => m_X4_repairs l D dA b0 gs h104 a0 v1 q) hf dX4_cut_166 hl.1 rfl rfl (zroom (Nat.le_of_ble_eq_true rfl)) (fun x105 h106 H locs cells slots C9 S9 hf hq hn => ?_)
      refine lv_iconst (v := (0 : Int32)) hx hb dX4_cut_169 (by decide) ?_
      refine lv_istore (lv' := [(7, .int (0 : Int32)), (0, .ref a0), (1, .int v1), (4, .int v4), (5, .int v5), (6, .int v6)]) hx hb dX4_cut_170 hl (by decide) rfl (fun ls hl => ?_)
      exact m_X4_cut_b172 hc hr hin zFU h106 a0 v1 v4 v5 (0 : Int32) _ _ _ _ _ _ hf hq hn _ (lv_sub hl [1, 2, 3, 4, 0] rfl)
    · have hf := zif_f c9 hf
      refine lv_aload_n (x := a0) hx hb dX4_cut_126 rfl (lv_at hl 0 rfl) ?_
      refine zr_gP hc hn (ci := 3) rfl rfl in_X4 11 (by decide) q2110 (fun _ h => h) (fun _ _ _ => rfl) hf dX4_cut_127 (fun x107 hf => ?_)
      refine lv_iload hx hb dX4_cut_130 (lv_at hl 5 rfl) ?_
      refine lv_aload_n (x := a0) hx hb dX4_cut_132 rfl (lv_at hl 0 rfl) ?_
      refine zr_gP hc hn (ci := 3) rfl rfl in_X4 1 (by decide) q2100 (fun _ h => h) (fun _ _ _ => rfl) hf dX4_cut_133 (fun x108 hf => ?_)
      refine lv_iload hx hb dX4_cut_136 (lv_at hl 3 rfl) ?_
      refine lv_iload hx hb dX4_cut_138 (lv_at hl 5 rfl) ?_
      refine lv_iadd hx hb dX4_cut_140 ?_
      refine zr_nmI hf (fun x109 hf => ?_)
      obtain ⟨a110, e9, hf9⟩ := znn_i hf
      subst e9
      have hf := hf9
      clear hf9
      refine zr_aI0 hc hn hf dX4_cut_141 (fun x111 hf => ?_)
      obtain ⟨a112, e9, hf9⟩ := znn_i hf
      subst e9
      have hf := hf9
      clear hf9
      refine zr_sI hc hn hf dX4_cut_142 (fun h113 H locs hf hn => ?_)
      obtain ⟨x114, ex114, hf⟩ := znm_i hf
      refine lv_iinc (v := x114) (lv' := [(7, .int x114), (0, .ref a0), (1, .int v1), (4, .int v4), (5, .int v5), (6, .int v6)]) hx hb dX4_cut_143 hl (k := 5) rfl (by rw [ex114]; rfl) (by decide) rfl (fun ls hl => ?_)
      refine lv_goto (tgt := 118) hx hb dX4_cut_146 (by decide) ?_
      exact ih h113 a0 v1 v4 v5 v6 x114 _ _ _ _ _ _ hf hq hn _ (lv_sub hl [1, 2, 3, 4, 5, 0] rfl)
set_option maxHeartbeats 4000000 in
set_option maxRecDepth 100000 in
theorem m_X4_cut_b48 {p : Program} {l : Launch} {e : Env} {s : State} {m : MethodId} {args : Array Value} {below : List Frame} {meth : Method} {c : Code} {D : va_G} {dA : Nat → ClassId} {b0 : Nat} {gs : Nat → Option Nat} (hc : zC D dA b0 gs yX4_cut.cls cX4_cut 9 p c s m args meth) (hr : meth.sig.returnType = (some .int)) (hin : meth.name = yX4_cut.name) {r : Int32} {hh : PH} {mc ms : Nat} : ∀ (h : PH) (a0 : Nat) (v1 : Int32) (v2 : Int32) (v3 : Int32) (s0 : Nat) (s1 : Int32) (C9 S9 : Nat) (H : Heap) (locs : List Loc) (cells slots : Nat), f_X4_cut_b48 h a0 v1 v2 v3 s0 s1 = some (r, hh, C9, S9) → cells + C9 = mc ∧ slots + S9 = ms → zM D dA b0 gs s h H locs → ∀ ls : Array Slot, lv_has ls 9 [(0, .ref a0), (1, .int v1), (2, .int v2), (3, .int v3)] → W p l e ({ frames := 6, cells := mc, slots := ms, locals := 185 } : Room) s m args below meth c H locs cells slots (MQ below (zQ D dA b0 gs (evI r) hh) args s mc ms (zA b0)) (F0 m 48 ls [.int s1, .ref s0]) := by
  have hx := hc.x
  have hb := hc.b
  intro h a0 v1 v2 v3 s0 s1 C9 S9 H locs cells slots hf hq hn ls hl
  unfold f_X4_cut_b48 at hf
  refine zr_pI (x := s1) hc hn (ci := 3) rfl rfl in_X4 0 (by decide) tyX4 tyX4_ok nmX4 q2099 (fun _ h => h) (Or.inl rfl) (fun _ _ _ => rfl) rfl rfl hf dX4_cut_48 (fun h101 H locs hf hn => ?_)
  refine lv_aload_n (x := a0) hx hb dX4_cut_51 rfl (lv_at hl 0 rfl) ?_
  refine zr_gI hc hn (ci := 3) rfl rfl in_X4 0 (by decide) q2099 (fun _ h => h) (fun _ _ _ => rfl) hf dX4_cut_52 (fun x102 hf => ?_)
  refine lv_if_le (tgt := 60) hx hb dX4_cut_55 (by decide) (fun c9 => ?_) (fun c9 => ?_)
  · have hf := zif_t c9 hf
    refine lv_aload_n (x := a0) hx hb dX4_cut_60 rfl (lv_at hl 0 rfl) ?_
    refine zr_cVU (As := []) (rest := []) hc hn hq (ci := 3) rfl ⟨rfl, hd_X4_keeps⟩ (lw_V q2565 q2567 qs78 q91 q2568) (Nat.le_of_ble_eq_true rfl) (Nat.le_of_ble_eq_true rfl) (fun _ _ _ _ q => m_X4_keeps l D dA b0 gs h101 a0 q) hf dX4_cut_61 hl.1 rfl rfl (zroom (Nat.le_of_ble_eq_true rfl)) (fun x103 h104 H locs cells slots C9 S9 hf hq hn => ?_)
    refine lv_aload_n (x := a0) hx hb dX4_cut_64 rfl (lv_at hl 0 rfl) ?_
    refine zr_cVI (As := []) (rest := []) hc hn hq (ci := 3) rfl ⟨rfl, hd_X4_spare⟩ (lw_V q2561 q2563 qs77 q91 q2564) (Nat.le_of_ble_eq_true rfl) (Nat.le_of_ble_eq_true rfl) (fun _ _ _ _ q => m_X4_spare l D dA b0 gs h104 a0 q) hf dX4_cut_65 hl.1 rfl rfl (zroom (Nat.le_of_ble_eq_true rfl)) (fun x105 h106 H locs cells slots C9 S9 hf hq hn => ?_)
    refine lv_istore (lv' := [(4, .int x105), (0, .ref a0), (1, .int v1), (2, .int v2), (3, .int v3)]) hx hb dX4_cut_68 hl (by decide) rfl (fun ls hl => ?_)
    refine lv_aload_n (x := a0) hx hb dX4_cut_70 rfl (lv_at hl 1 rfl) ?_
    refine lv_iload hx hb dX4_cut_71 (lv_at hl 0 rfl) ?_
    refine zr_cVU (As := [.int x105]) (rest := []) hc hn hq (ci := 3) rfl ⟨rfl, hd_X4_begins⟩ (lw_V q2569 q2571 qs79 q91 q2572) (Nat.le_of_ble_eq_true rfl) (Nat.le_of_ble_eq_true rfl) (fun _ _ _ _ q => m_X4_begins l D dA b0 gs h106 a0 x105 q) hf dX4_cut_73 hl.1 rfl rfl (zroom (Nat.le_of_ble_eq_true rfl)) (fun x107 h108 H locs cells slots C9 S9 hf hq hn => ?_)
    refine lv_aload_n (x := a0) hx hb dX4_cut_76 rfl (lv_at hl 1 rfl) ?_
    refine lv_iload_n hx hb dX4_cut_77 rfl (lv_at hl 2 rfl) ?_
    refine lv_aload_n (x := a0) hx hb dX4_cut_78 rfl (lv_at hl 1 rfl) ?_
    refine lv_iload_n hx hb dX4_cut_79 rfl (lv_at hl 2 rfl) ?_
    refine lv_iload_n hx hb dX4_cut_80 rfl (lv_at hl 3 rfl) ?_
    refine zr_cVI (As := [.int v1, .int v2]) (rest := [.int v1, .ref a0]) hc hn hq (ci := 3) rfl ⟨rfl, hd_X4_below⟩ (lw_V q2393 q2395 qs61 q91 q2396) (Nat.le_of_ble_eq_true rfl) (Nat.le_of_ble_eq_true rfl) (fun _ _ _ _ q => m_X4_below l D dA b0 gs h108 a0 v1 v2 q) hf dX4_cut_81 hl.1 rfl rfl (zroom (Nat.le_of_ble_eq_true rfl)) (fun x109 h110 H locs cells slots C9 S9 hf hq hn => ?_)
    refine lv_iload hx hb dX4_cut_84 (lv_at hl 0 rfl) ?_
    refine zr_cVU (As := [.int v1, .int x109, .int x105]) (rest := []) hc hn hq (ci := 3) rfl ⟨rfl, hd_X4_moves⟩ (lw_V q2597 q2599 qs81 q91 q2600) (Nat.le_of_ble_eq_true rfl) (Nat.le_of_ble_eq_true rfl) (fun _ _ _ _ q => m_X4_moves l D dA b0 gs h110 a0 v1 x109 x105 q) hf dX4_cut_86 hl.1 rfl rfl (zroom (Nat.le_of_ble_eq_true rfl)) (fun x111 h112 H locs cells slots C9 S9 hf hq hn => ?_)
    refine lv_aload_n (x := a0) hx hb dX4_cut_89 rfl (lv_at hl 1 rfl) ?_
    refine lv_iload_n hx hb dX4_cut_90 rfl (lv_at hl 2 rfl) ?_
    refine zr_cVU (As := [.int v1]) (rest := []) hc hn hq (ci := 3) rfl ⟨rfl, hd_X4_repairs⟩ (lw_V q2291 q2293 qs48 q91 q2294) (Nat.le_of_ble_eq_true rfl) (Nat.le_of_ble_eq_true rfl) (fun _ _ _ _ q => m_X4_repairs l D dA b0 gs h112 a0 v1 q) hf dX4_cut_91 hl.1 rfl rfl (zroom (Nat.le_of_ble_eq_true rfl)) (fun x113 h114 H locs cells slots C9 S9 hf hq hn => ?_)
    refine lv_aload_n (x := a0) hx hb dX4_cut_94 rfl (lv_at hl 1 rfl) ?_
    refine lv_iload hx hb dX4_cut_95 (lv_at hl 0 rfl) ?_
    refine zr_cVU (As := [.int x105]) (rest := []) hc hn hq (ci := 3) rfl ⟨rfl, hd_X4_repairs⟩ (lw_V q2291 q2293 qs48 q91 q2294) (Nat.le_of_ble_eq_true rfl) (Nat.le_of_ble_eq_true rfl) (fun _ _ _ _ q => m_X4_repairs l D dA b0 gs h114 a0 x105 q) hf dX4_cut_97 hl.1 rfl rfl (zroom (Nat.le_of_ble_eq_true rfl)) (fun x115 h116 H locs cells slots C9 S9 hf hq hn => ?_)
    refine lv_iload_n hx hb dX4_cut_100 rfl (lv_at hl 2 rfl) ?_
    refine zr_cSI (As := [.int v1]) (rest := []) hc hn hq hd_X4_base (lw_S q2284 q2285 q91 q2286) (Nat.le_of_ble_eq_true rfl) (Nat.le_of_ble_eq_true rfl) (fun _ _ _ _ q => m_X4_base l D dA b0 gs h116 v1 q) hf dX4_cut_101 hl.1 rfl rfl (zroom (Nat.le_of_ble_eq_true rfl)) (fun x117 h118 H locs cells slots C9 S9 hf hq hn => ?_)
    refine lv_istore (lv' := [(5, .int x117), (4, .int x105), (0, .ref a0), (1, .int v1), (2, .int v2), (3, .int v3)]) hx hb dX4_cut_104 hl (by decide) rfl (fun ls hl => ?_)
    refine lv_aload_n (x := a0) hx hb dX4_cut_106 rfl (lv_at hl 2 rfl) ?_
    refine lv_iload hx hb dX4_cut_107 (lv_at hl 1 rfl) ?_
    refine lv_iload_n hx hb dX4_cut_109 rfl (lv_at hl 5 rfl) ?_
    refine zr_cVI (As := [.int x105, .int v3]) (rest := []) hc hn hq (ci := 3) rfl ⟨rfl, hd_X4_below⟩ (lw_V q2393 q2395 qs61 q91 q2396) (Nat.le_of_ble_eq_true rfl) (Nat.le_of_ble_eq_true rfl) (fun _ _ _ _ q => m_X4_below l D dA b0 gs h118 a0 x105 v3 q) hf dX4_cut_110 hl.1 rfl rfl (zroom (Nat.le_of_ble_eq_true rfl)) (fun x119 h120 H locs cells slots C9 S9 hf hq hn => ?_)
    refine lv_istore (lv' := [(6, .int x119), (5, .int x117), (4, .int x105), (0, .ref a0), (1, .int v1), (2, .int v2), (3, .int v3)]) hx hb dX4_cut_113 hl (by decide) rfl (fun ls hl => ?_)
    refine lv_iconst (v := (0 : Int32)) hx hb dX4_cut_115 (by decide) ?_
    refine lv_istore (lv' := [(7, .int (0 : Int32)), (6, .int x119), (5, .int x117), (4, .int x105), (0, .ref a0), (1, .int v1), (2, .int v2), (3, .int v3)]) hx hb dX4_cut_116 hl (by decide) rfl (fun ls hl => ?_)
    exact m_X4_cut_b118 hc hr hin zFU h120 a0 v1 x105 x117 x119 (0 : Int32) _ _ _ _ _ _ hf hq hn _ (lv_sub hl [4, 5, 3, 2, 1, 0] rfl)
  · have hf := zif_f c9 hf
    refine lv_iconst (v := (0 : Int32)) hx hb dX4_cut_58 (by decide) ?_
    obtain ⟨rfl, rfl, rfl, rfl⟩ := zret_i hf
    exact zr_iret hc hn hr hq (fun _ _ _ _ q => q) dX4_cut_59
set_option maxHeartbeats 4000000 in
set_option maxRecDepth 100000 in
theorem m_X4_cut_b32 {p : Program} {l : Launch} {e : Env} {s : State} {m : MethodId} {args : Array Value} {below : List Frame} {meth : Method} {c : Code} {D : va_G} {dA : Nat → ClassId} {b0 : Nat} {gs : Nat → Option Nat} (hc : zC D dA b0 gs yX4_cut.cls cX4_cut 9 p c s m args meth) (hr : meth.sig.returnType = (some .int)) (hin : meth.name = yX4_cut.name) {r : Int32} {hh : PH} {mc ms : Nat} : ∀ (h : PH) (a0 : Nat) (v1 : Int32) (v2 : Int32) (v3 : Int32) (s0 : Nat) (C9 S9 : Nat) (H : Heap) (locs : List Loc) (cells slots : Nat), f_X4_cut_b32 h a0 v1 v2 v3 s0 = some (r, hh, C9, S9) → cells + C9 = mc ∧ slots + S9 = ms → zM D dA b0 gs s h H locs → ∀ ls : Array Slot, lv_has ls 9 [(0, .ref a0), (1, .int v1), (2, .int v2), (3, .int v3)] → W p l e ({ frames := 6, cells := mc, slots := ms, locals := 185 } : Room) s m args below meth c H locs cells slots (MQ below (zQ D dA b0 gs (evI r) hh) args s mc ms (zA b0)) (F0 m 32 ls [.ref s0]) := by
  have hx := hc.x
  have hb := hc.b
  intro h a0 v1 v2 v3 s0 C9 S9 H locs cells slots hf hq hn ls hl
  unfold f_X4_cut_b32 at hf
  refine lv_iconst (v := (2 : Int32)) hx hb dX4_cut_32 (by decide) ?_
  refine lv_goto (tgt := 48) hx hb dX4_cut_33 (by decide) ?_
  exact m_X4_cut_b48 hc hr hin h a0 v1 v2 v3 s0 (2 : Int32) _ _ _ _ _ _ hf hq hn _ (lv_sub hl [0, 1, 2, 3] rfl)
set_option maxHeartbeats 4000000 in
set_option maxRecDepth 100000 in
theorem m_X4_cut (l : Launch) (D : va_G) (dA : Nat → ClassId) (b0 : Nat) (gs : Nat → Option Nat) (h : PH) (a0 : Nat) (v1 : Int32) (v2 : Int32) (v3 : Int32) {r : Int32} {hh : PH} {mc ms : Nat} (hf : f_X4_cut h a0 v1 v2 v3 = some (r, hh, mc, ms)) : zMt l D dA b0 gs yX4_cut cX4_cut 9 (some .int) 6 185 [.ref a0, .int v1, .int v2, .int v3] h (evI r) hh mc ms := by
  unfold f_X4_cut at hf
  refine zMt.of (by decide) (Nat.le_of_ble_eq_true rfl) ?_
  intro p e s m args below meth c hc hr hin hn ls hl
  have hl : lv_has ls 9 [(0, .ref a0), (1, .int v1), (2, .int v2), (3, .int v3)] := hl
  have hq : 0 + mc = mc ∧ 0 + ms = ms := ⟨Nat.zero_add _, Nat.zero_add _⟩
  have hx := hc.x
  have hb := hc.b
  refine lv_aload_n (x := a0) hx hb dX4_cut_0 rfl (lv_at hl 0 rfl) ?_
  refine lv_aload_n (x := a0) hx hb dX4_cut_1 rfl (lv_at hl 0 rfl) ?_
  refine lv_iload_n hx hb dX4_cut_2 rfl (lv_at hl 1 rfl) ?_
  refine zr_cVI (As := [.int v1]) (rest := [.ref a0]) hc hn hq (ci := 3) rfl ⟨rfl, hd_X4_isList⟩ (lw_V q2343 q2345 qs57 q91 q2346) (Nat.le_of_ble_eq_true rfl) (Nat.le_of_ble_eq_true rfl) (fun _ _ _ _ q => m_X4_isList l D dA b0 gs h a0 v1 q) hf dX4_cut_3 hl.1 rfl rfl (zroom (Nat.le_of_ble_eq_true rfl)) (fun x101 h102 H locs cells slots C9 S9 hf hq hn => ?_)
  refine lv_if_ne (tgt := 13) hx hb dX4_cut_6 (by decide) (fun c9 => ?_) (fun c9 => ?_)
  · have hf := zif_f c9 hf
    refine lv_iload_n hx hb dX4_cut_13 rfl (lv_at hl 2 rfl) ?_
    refine zr_cSI (As := [.int v2]) (rest := [.ref a0]) hc hn hq hd_X4_isKey (lw_S q2384 q2385 q91 q2386) (Nat.le_of_ble_eq_true rfl) (Nat.le_of_ble_eq_true rfl) (fun _ _ _ _ q => m_X4_isKey l D dA b0 gs h102 v2 q) hf dX4_cut_14 hl.1 rfl rfl (zroom (Nat.le_of_ble_eq_true rfl)) (fun x103 h104 H locs cells slots C9 S9 hf hq hn => ?_)
    refine lv_if_eq (tgt := 32) hx hb dX4_cut_17 (by decide) (fun c9 => ?_) (fun c9 => ?_)
    · have hf := zif_t c9 hf
      exact m_X4_cut_b32 hc hr hin h104 a0 v1 v2 v3 a0 _ _ _ _ _ _ hf hq hn _ (lv_sub hl [0, 1, 2, 3] rfl)
    · have hf := zif_f c9 hf
      refine lv_iload_n hx hb dX4_cut_20 rfl (lv_at hl 3 rfl) ?_
      refine zr_cSI (As := [.int v3]) (rest := [.ref a0]) hc hn hq hd_X4_isKey (lw_S q2384 q2385 q91 q2386) (Nat.le_of_ble_eq_true rfl) (Nat.le_of_ble_eq_true rfl) (fun _ _ _ _ q => m_X4_isKey l D dA b0 gs h104 v3 q) hf dX4_cut_21 hl.1 rfl rfl (zroom (Nat.le_of_ble_eq_true rfl)) (fun x105 h106 H locs cells slots C9 S9 hf hq hn => ?_)
      refine lv_if_eq (tgt := 32) hx hb dX4_cut_24 (by decide) (fun c9 => ?_) (fun c9 => ?_)
      · have hf := zif_t c9 hf
        exact m_X4_cut_b32 hc hr hin h106 a0 v1 v2 v3 a0 _ _ _ _ _ _ hf hq hn _ (lv_sub hl [0, 1, 2, 3] rfl)
      · have hf := zif_f c9 hf
        refine lv_iload_n hx hb dX4_cut_27 rfl (lv_at hl 2 rfl) ?_
        refine lv_iload_n hx hb dX4_cut_28 rfl (lv_at hl 3 rfl) ?_
        refine lv_icmp_le (tgt := 36) hx hb dX4_cut_29 (by decide) (fun c9 => ?_) (fun c9 => ?_)
        · have hf := zif_t c9 hf
          refine lv_aload_n (x := a0) hx hb dX4_cut_36 rfl (lv_at hl 0 rfl) ?_
          refine zr_cVI (As := []) (rest := [.ref a0]) hc hn hq (ci := 3) rfl ⟨rfl, hd_X4_spare⟩ (lw_V q2561 q2563 qs77 q91 q2564) (Nat.le_of_ble_eq_true rfl) (Nat.le_of_ble_eq_true rfl) (fun _ _ _ _ q => m_X4_spare l D dA b0 gs h106 a0 q) hf dX4_cut_37 hl.1 rfl rfl (zroom (Nat.le_of_ble_eq_true rfl)) (fun x107 h108 H locs cells slots C9 S9 hf hq hn => ?_)
          refine lv_if_ge (tgt := 47) hx hb dX4_cut_40 (by decide) (fun c9 => ?_) (fun c9 => ?_)
          · have hf := zif_t c9 hf
            refine lv_iconst (v := (0 : Int32)) hx hb dX4_cut_47 (by decide) ?_
            exact m_X4_cut_b48 hc hr hin h108 a0 v1 v2 v3 a0 (0 : Int32) _ _ _ _ _ _ hf hq hn _ (lv_sub hl [0, 1, 2, 3] rfl)
          · have hf := zif_f c9 hf
            refine lv_iconst (v := (3 : Int32)) hx hb dX4_cut_43 (by decide) ?_
            refine lv_goto (tgt := 48) hx hb dX4_cut_44 (by decide) ?_
            exact m_X4_cut_b48 hc hr hin h108 a0 v1 v2 v3 a0 (3 : Int32) _ _ _ _ _ _ hf hq hn _ (lv_sub hl [0, 1, 2, 3] rfl)
        · have hf := zif_f c9 hf
          exact m_X4_cut_b32 hc hr hin h106 a0 v1 v2 v3 a0 _ _ _ _ _ _ hf hq hn _ (lv_sub hl [0, 1, 2, 3] rfl)
  · have hf := zif_t c9 hf
    refine lv_iconst (v := (1 : Int32)) hx hb dX4_cut_9 (by decide) ?_
    refine lv_goto (tgt := 48) hx hb dX4_cut_10 (by decide) ?_
    exact m_X4_cut_b48 hc hr hin h102 a0 v1 v2 v3 a0 (1 : Int32) _ _ _ _ _ _ hf hq hn _ (lv_sub hl [0, 1, 2, 3] rfl)
theorem hd_X4_appends : yX4_appends.cls ≠ "java/lang/invoke/MethodHandle" ∧ yX4_appends.cls ≠ "java/lang/invoke/VarHandle" ∧ (parseMethodDescriptor yX4_appends.desc).map (fun d => d.parameters.length) = some 2 := by decide +kernel
def f_X4_appends_b24 : Nat → PH → Nat → Int32 → Int32 → Int32 → Int32 → ZR Unit
  | 0 => fun _ _ _ _ _ _ => none
  | n + 1 => fun h a0 v3 v4 v5 v6 =>
    zgP h a0 3 1 fun x101 =>
    znm (v4 + (1 : Int32)) fun x102 =>
    znn x101 fun a103 =>
    zaI h a103 0 x102 fun x104 =>
    if x104 ≤ v6 then
      (zgP h a0 3 1 fun x105 =>
      znm (v3 + (1 : Int32)) fun x106 =>
      zgP h a0 3 1 fun x107 =>
      znm (v4 + (1 : Int32)) fun x108 =>
      znn x107 fun a109 =>
      zaI h a109 0 x108 fun x110 =>
      znm (v5 + x110) fun x111 =>
      znn x105 fun a112 =>
      zsI h a112 0 x106 x111 fun h113 =>
      zret () h113)
    else
      (zgP h a0 3 1 fun x114 =>
      znm (v3 + (2 : Int32)) fun x115 =>
      znm (x115 + v5) fun x116 =>
      znm (x116 + v6) fun x117 =>
      zgP h a0 3 1 fun x118 =>
      znm (v4 + (2 : Int32)) fun x119 =>
      znm (x119 + v6) fun x120 =>
      znn x118 fun a121 =>
      zaI h a121 0 x120 fun x122 =>
      znn x114 fun a123 =>
      zsI h a123 0 x117 x122 fun h124 =>
      zgP h124 a0 3 1 fun x125 =>
      znm (v3 + (62 : Int32)) fun x126 =>
      znm (x126 + v5) fun x127 =>
      znm (x127 + v6) fun x128 =>
      zgP h124 a0 3 1 fun x129 =>
      znm (v4 + (62 : Int32)) fun x130 =>
      znm (x130 + v6) fun x131 =>
      znn x129 fun a132 =>
      zaI h124 a132 0 x131 fun x133 =>
      znn x125 fun a134 =>
      zsI h124 a134 0 x128 x133 fun h135 =>
      zgP h135 a0 3 1 fun x136 =>
      znm (v3 + (122 : Int32)) fun x137 =>
      znm (x137 + v5) fun x138 =>
      znm (x138 + v6) fun x139 =>
      zgP h135 a0 3 1 fun x140 =>
      znm (v4 + (122 : Int32)) fun x141 =>
      znm (x141 + v6) fun x142 =>
      znn x140 fun a143 =>
      zaI h135 a143 0 x142 fun x144 =>
      znn x136 fun a145 =>
      zsI h135 a145 0 x139 x144 fun h146 =>
      znm (v6 + (1 : Int32)) fun x147 =>
      f_X4_appends_b24 n h146 a0 v3 v4 v5 x147)
def f_X4_appends (h : PH) (a0 : Nat) (v1 : Int32) (v2 : Int32) : ZR Unit :=
  zcl (f_X4_base h v1) fun x101 h102 =>
  zcl (f_X4_base h102 v2) fun x103 h104 =>
  zgP h104 a0 3 1 fun x105 =>
  znm (x101 + (1 : Int32)) fun x106 =>
  znn x105 fun a107 =>
  zaI h104 a107 0 x106 fun x108 =>
  f_X4_appends_b24 zFU h104 a0 x101 x103 x108 (0 : Int32)
set_option maxHeartbeats 4000000 in
set_option maxRecDepth 100000 in
theorem m_X4_appends_b24 {p : Program} {l : Launch} {e : Env} {s : State} {m : MethodId} {args : Array Value} {below : List Frame} {meth : Method} {c : Code} {D : va_G} {dA : Nat → ClassId} {b0 : Nat} {gs : Nat → Option Nat} (hc : zC D dA b0 gs yX4_appends.cls cX4_appends 7 p c s m args meth) (hr : meth.sig.returnType = none) (hin : meth.name = yX4_appends.name) {r : Unit} {hh : PH} {mc ms : Nat} : ∀ (n : Nat) (h : PH) (a0 : Nat) (v3 : Int32) (v4 : Int32) (v5 : Int32) (v6 : Int32) (C9 S9 : Nat) (H : Heap) (locs : List Loc) (cells slots : Nat), f_X4_appends_b24 n h a0 v3 v4 v5 v6 = some (r, hh, C9, S9) → cells + C9 = mc ∧ slots + S9 = ms → zM D dA b0 gs s h H locs → ∀ ls : Array Slot, lv_has ls 7 [(0, .ref a0), (3, .int v3), (4, .int v4), (5, .int v5), (6, .int v6)] → W p l e ({ frames := 2, cells := mc, slots := ms, locals := 80 } : Room) s m args below meth c H locs cells slots (MQ below (zQ D dA b0 gs (evU r) hh) args s mc ms (zA b0)) (F0 m 24 ls []) := by
  have hx := hc.x
  have hb := hc.b
  intro n
  induction n with
  | zero =>
    intro h a0 v3 v4 v5 v6 C9 S9 H locs cells slots hf hq hn ls hl
    cases hf
  | succ n ih =>
    intro h a0 v3 v4 v5 v6 C9 S9 H locs cells slots hf hq hn ls hl
    unfold f_X4_appends_b24 at hf
    refine lv_iload hx hb dX4_appends_24 (lv_at hl 4 rfl) ?_
    refine lv_aload_n (x := a0) hx hb dX4_appends_26 rfl (lv_at hl 0 rfl) ?_
    refine zr_gP hc hn (ci := 3) rfl rfl in_X4 1 (by decide) q2100 (fun _ h => h) (fun _ _ _ => rfl) hf dX4_appends_27 (fun x101 hf => ?_)
    refine lv_iload hx hb dX4_appends_30 (lv_at hl 2 rfl) ?_
    refine lv_iconst (v := (1 : Int32)) hx hb dX4_appends_32 (by decide) ?_
    refine lv_iadd hx hb dX4_appends_33 ?_
    refine zr_nmI hf (fun x102 hf => ?_)
    obtain ⟨a103, e9, hf9⟩ := znn_i hf
    subst e9
    have hf := hf9
    clear hf9
    refine zr_aI0 hc hn hf dX4_appends_34 (fun x104 hf => ?_)
    refine lv_icmp_ge (tgt := 126) hx hb dX4_appends_35 (by decide) (fun c9 => ?_) (fun c9 => ?_)
    · have hf := zif_t c9 hf
      refine lv_aload_n (x := a0) hx hb dX4_appends_126 rfl (lv_at hl 0 rfl) ?_
      refine zr_gP hc hn (ci := 3) rfl rfl in_X4 1 (by decide) q2100 (fun _ h => h) (fun _ _ _ => rfl) hf dX4_appends_127 (fun x105 hf => ?_)
      refine lv_iload_n hx hb dX4_appends_130 rfl (lv_at hl 1 rfl) ?_
      refine lv_iconst (v := (1 : Int32)) hx hb dX4_appends_131 (by decide) ?_
      refine lv_iadd hx hb dX4_appends_132 ?_
      refine zr_nmI hf (fun x106 hf => ?_)
      refine lv_iload hx hb dX4_appends_133 (lv_at hl 3 rfl) ?_
      refine lv_aload_n (x := a0) hx hb dX4_appends_135 rfl (lv_at hl 0 rfl) ?_
      refine zr_gP hc hn (ci := 3) rfl rfl in_X4 1 (by decide) q2100 (fun _ h => h) (fun _ _ _ => rfl) hf dX4_appends_136 (fun x107 hf => ?_)
      refine lv_iload hx hb dX4_appends_139 (lv_at hl 2 rfl) ?_
      refine lv_iconst (v := (1 : Int32)) hx hb dX4_appends_141 (by decide) ?_
      refine lv_iadd hx hb dX4_appends_142 ?_
      refine zr_nmI hf (fun x108 hf => ?_)
      obtain ⟨a109, e9, hf9⟩ := znn_i hf
      subst e9
      have hf := hf9
      clear hf9
      refine zr_aI0 hc hn hf dX4_appends_143 (fun x110 hf => ?_)
      refine lv_iadd hx hb dX4_appends_144 ?_
      refine zr_nmI hf (fun x111 hf => ?_)
      obtain ⟨a112, e9, hf9⟩ := znn_i hf
      subst e9
      have hf := hf9
      clear hf9
      refine zr_sI hc hn hf dX4_appends_145 (fun h113 H locs hf hn => ?_)
      obtain ⟨rfl, rfl, rfl, rfl⟩ := zret_i hf
      exact zr_vret hc hn hr hq (fun _ _ _ _ q => q) dX4_appends_146
    · have hf := zif_f c9 hf
      refine lv_aload_n (x := a0) hx hb dX4_appends_38 rfl (lv_at hl 0 rfl) ?_
      refine zr_gP hc hn (ci := 3) rfl rfl in_X4 1 (by decide) q2100 (fun _ h => h) (fun _ _ _ => rfl) hf dX4_appends_39 (fun x114 hf => ?_)
      refine lv_iload_n hx hb dX4_appends_42 rfl (lv_at hl 1 rfl) ?_
      refine lv_iconst (v := (2 : Int32)) hx hb dX4_appends_43 (by decide) ?_
      refine lv_iadd hx hb dX4_appends_44 ?_
      refine zr_nmI hf (fun x115 hf => ?_)
      refine lv_iload hx hb dX4_appends_45 (lv_at hl 3 rfl) ?_
      refine lv_iadd hx hb dX4_appends_47 ?_
      refine zr_nmI hf (fun x116 hf => ?_)
      refine lv_iload hx hb dX4_appends_48 (lv_at hl 4 rfl) ?_
      refine lv_iadd hx hb dX4_appends_50 ?_
      refine zr_nmI hf (fun x117 hf => ?_)
      refine lv_aload_n (x := a0) hx hb dX4_appends_51 rfl (lv_at hl 0 rfl) ?_
      refine zr_gP hc hn (ci := 3) rfl rfl in_X4 1 (by decide) q2100 (fun _ h => h) (fun _ _ _ => rfl) hf dX4_appends_52 (fun x118 hf => ?_)
      refine lv_iload hx hb dX4_appends_55 (lv_at hl 2 rfl) ?_
      refine lv_iconst (v := (2 : Int32)) hx hb dX4_appends_57 (by decide) ?_
      refine lv_iadd hx hb dX4_appends_58 ?_
      refine zr_nmI hf (fun x119 hf => ?_)
      refine lv_iload hx hb dX4_appends_59 (lv_at hl 4 rfl) ?_
      refine lv_iadd hx hb dX4_appends_61 ?_
      refine zr_nmI hf (fun x120 hf => ?_)
      obtain ⟨a121, e9, hf9⟩ := znn_i hf
      subst e9
      have hf := hf9
      clear hf9
      refine zr_aI0 hc hn hf dX4_appends_62 (fun x122 hf => ?_)
      obtain ⟨a123, e9, hf9⟩ := znn_i hf
      subst e9
      have hf := hf9
      clear hf9
      refine zr_sI hc hn hf dX4_appends_63 (fun h124 H locs hf hn => ?_)
      refine lv_aload_n (x := a0) hx hb dX4_appends_64 rfl (lv_at hl 0 rfl) ?_
      refine zr_gP hc hn (ci := 3) rfl rfl in_X4 1 (by decide) q2100 (fun _ h => h) (fun _ _ _ => rfl) hf dX4_appends_65 (fun x125 hf => ?_)
      refine lv_iload_n hx hb dX4_appends_68 rfl (lv_at hl 1 rfl) ?_
      refine lv_bipush (v := (62 : Int32)) hx hb dX4_appends_69 (by decide) ?_
      refine lv_iadd hx hb dX4_appends_71 ?_
      refine zr_nmI hf (fun x126 hf => ?_)
      refine lv_iload hx hb dX4_appends_72 (lv_at hl 3 rfl) ?_
      refine lv_iadd hx hb dX4_appends_74 ?_
      refine zr_nmI hf (fun x127 hf => ?_)
      refine lv_iload hx hb dX4_appends_75 (lv_at hl 4 rfl) ?_
      refine lv_iadd hx hb dX4_appends_77 ?_
      refine zr_nmI hf (fun x128 hf => ?_)
      refine lv_aload_n (x := a0) hx hb dX4_appends_78 rfl (lv_at hl 0 rfl) ?_
      refine zr_gP hc hn (ci := 3) rfl rfl in_X4 1 (by decide) q2100 (fun _ h => h) (fun _ _ _ => rfl) hf dX4_appends_79 (fun x129 hf => ?_)
      refine lv_iload hx hb dX4_appends_82 (lv_at hl 2 rfl) ?_
      refine lv_bipush (v := (62 : Int32)) hx hb dX4_appends_84 (by decide) ?_
      refine lv_iadd hx hb dX4_appends_86 ?_
      refine zr_nmI hf (fun x130 hf => ?_)
      refine lv_iload hx hb dX4_appends_87 (lv_at hl 4 rfl) ?_
      refine lv_iadd hx hb dX4_appends_89 ?_
      refine zr_nmI hf (fun x131 hf => ?_)
      obtain ⟨a132, e9, hf9⟩ := znn_i hf
      subst e9
      have hf := hf9
      clear hf9
      refine zr_aI0 hc hn hf dX4_appends_90 (fun x133 hf => ?_)
      obtain ⟨a134, e9, hf9⟩ := znn_i hf
      subst e9
      have hf := hf9
      clear hf9
      refine zr_sI hc hn hf dX4_appends_91 (fun h135 H locs hf hn => ?_)
      refine lv_aload_n (x := a0) hx hb dX4_appends_92 rfl (lv_at hl 0 rfl) ?_
      refine zr_gP hc hn (ci := 3) rfl rfl in_X4 1 (by decide) q2100 (fun _ h => h) (fun _ _ _ => rfl) hf dX4_appends_93 (fun x136 hf => ?_)
      refine lv_iload_n hx hb dX4_appends_96 rfl (lv_at hl 1 rfl) ?_
      refine lv_bipush (v := (122 : Int32)) hx hb dX4_appends_97 (by decide) ?_
      refine lv_iadd hx hb dX4_appends_99 ?_
      refine zr_nmI hf (fun x137 hf => ?_)
      refine lv_iload hx hb dX4_appends_100 (lv_at hl 3 rfl) ?_
      refine lv_iadd hx hb dX4_appends_102 ?_
      refine zr_nmI hf (fun x138 hf => ?_)
      refine lv_iload hx hb dX4_appends_103 (lv_at hl 4 rfl) ?_
      refine lv_iadd hx hb dX4_appends_105 ?_
      refine zr_nmI hf (fun x139 hf => ?_)
      refine lv_aload_n (x := a0) hx hb dX4_appends_106 rfl (lv_at hl 0 rfl) ?_
      refine zr_gP hc hn (ci := 3) rfl rfl in_X4 1 (by decide) q2100 (fun _ h => h) (fun _ _ _ => rfl) hf dX4_appends_107 (fun x140 hf => ?_)
      refine lv_iload hx hb dX4_appends_110 (lv_at hl 2 rfl) ?_
      refine lv_bipush (v := (122 : Int32)) hx hb dX4_appends_112 (by decide) ?_
      refine lv_iadd hx hb dX4_appends_114 ?_
      refine zr_nmI hf (fun x141 hf => ?_)
      refine lv_iload hx hb dX4_appends_115 (lv_at hl 4 rfl) ?_
      refine lv_iadd hx hb dX4_appends_117 ?_
      refine zr_nmI hf (fun x142 hf => ?_)
      obtain ⟨a143, e9, hf9⟩ := znn_i hf
      subst e9
      have hf := hf9
      clear hf9
      refine zr_aI0 hc hn hf dX4_appends_118 (fun x144 hf => ?_)
      obtain ⟨a145, e9, hf9⟩ := znn_i hf
      subst e9
      have hf := hf9
      clear hf9
      refine zr_sI hc hn hf dX4_appends_119 (fun h146 H locs hf hn => ?_)
      obtain ⟨x147, ex147, hf⟩ := znm_i hf
      refine lv_iinc (v := x147) (lv' := [(6, .int x147), (0, .ref a0), (3, .int v3), (4, .int v4), (5, .int v5)]) hx hb dX4_appends_120 hl (k := 4) rfl (by rw [ex147]; rfl) (by decide) rfl (fun ls hl => ?_)
      refine lv_goto (tgt := 24) hx hb dX4_appends_123 (by decide) ?_
      exact ih h146 a0 v3 v4 v5 x147 _ _ _ _ _ _ hf hq hn _ (lv_sub hl [1, 2, 3, 4, 0] rfl)
set_option maxHeartbeats 4000000 in
set_option maxRecDepth 100000 in
theorem m_X4_appends (l : Launch) (D : va_G) (dA : Nat → ClassId) (b0 : Nat) (gs : Nat → Option Nat) (h : PH) (a0 : Nat) (v1 : Int32) (v2 : Int32) {r : Unit} {hh : PH} {mc ms : Nat} (hf : f_X4_appends h a0 v1 v2 = some (r, hh, mc, ms)) : zMt l D dA b0 gs yX4_appends cX4_appends 7 none 2 80 [.ref a0, .int v1, .int v2] h (evU r) hh mc ms := by
  unfold f_X4_appends at hf
  refine zMt.of (by decide) (Nat.le_of_ble_eq_true rfl) ?_
  intro p e s m args below meth c hc hr hin hn ls hl
  have hl : lv_has ls 7 [(0, .ref a0), (1, .int v1), (2, .int v2)] := hl
  have hq : 0 + mc = mc ∧ 0 + ms = ms := ⟨Nat.zero_add _, Nat.zero_add _⟩
  have hx := hc.x
  have hb := hc.b
  refine lv_iload_n hx hb dX4_appends_0 rfl (lv_at hl 1 rfl) ?_
  refine zr_cSI (As := [.int v1]) (rest := []) hc hn hq hd_X4_base (lw_S q2284 q2285 q91 q2286) (Nat.le_of_ble_eq_true rfl) (Nat.le_of_ble_eq_true rfl) (fun _ _ _ _ q => m_X4_base l D dA b0 gs h v1 q) hf dX4_appends_1 hl.1 rfl rfl (zroom (Nat.le_of_ble_eq_true rfl)) (fun x101 h102 H locs cells slots C9 S9 hf hq hn => ?_)
  refine lv_istore_n (i := 3) (lv' := [(3, .int x101), (0, .ref a0), (1, .int v1), (2, .int v2)]) hx hb dX4_appends_4 rfl hl (by decide) rfl (fun ls hl => ?_)
  refine lv_iload_n hx hb dX4_appends_5 rfl (lv_at hl 3 rfl) ?_
  refine zr_cSI (As := [.int v2]) (rest := []) hc hn hq hd_X4_base (lw_S q2284 q2285 q91 q2286) (Nat.le_of_ble_eq_true rfl) (Nat.le_of_ble_eq_true rfl) (fun _ _ _ _ q => m_X4_base l D dA b0 gs h102 v2 q) hf dX4_appends_6 hl.1 rfl rfl (zroom (Nat.le_of_ble_eq_true rfl)) (fun x103 h104 H locs cells slots C9 S9 hf hq hn => ?_)
  refine lv_istore (lv' := [(4, .int x103), (3, .int x101), (0, .ref a0), (1, .int v1), (2, .int v2)]) hx hb dX4_appends_9 hl (by decide) rfl (fun ls hl => ?_)
  refine lv_aload_n (x := a0) hx hb dX4_appends_11 rfl (lv_at hl 2 rfl) ?_
  refine zr_gP hc hn (ci := 3) rfl rfl in_X4 1 (by decide) q2100 (fun _ h => h) (fun _ _ _ => rfl) hf dX4_appends_12 (fun x105 hf => ?_)
  refine lv_iload_n hx hb dX4_appends_15 rfl (lv_at hl 1 rfl) ?_
  refine lv_iconst (v := (1 : Int32)) hx hb dX4_appends_16 (by decide) ?_
  refine lv_iadd hx hb dX4_appends_17 ?_
  refine zr_nmI hf (fun x106 hf => ?_)
  obtain ⟨a107, e9, hf9⟩ := znn_i hf
  subst e9
  have hf := hf9
  clear hf9
  refine zr_aI0 hc hn hf dX4_appends_18 (fun x108 hf => ?_)
  refine lv_istore (lv' := [(5, .int x108), (4, .int x103), (3, .int x101), (0, .ref a0), (1, .int v1), (2, .int v2)]) hx hb dX4_appends_19 hl (by decide) rfl (fun ls hl => ?_)
  refine lv_iconst (v := (0 : Int32)) hx hb dX4_appends_21 (by decide) ?_
  refine lv_istore (lv' := [(6, .int (0 : Int32)), (5, .int x108), (4, .int x103), (3, .int x101), (0, .ref a0), (1, .int v1), (2, .int v2)]) hx hb dX4_appends_22 hl (by decide) rfl (fun ls hl => ?_)
  exact m_X4_appends_b24 hc hr hin zFU h104 a0 x101 x103 x108 (0 : Int32) _ _ _ _ _ _ hf hq hn _ (lv_sub hl [4, 3, 2, 1, 0] rfl)
theorem hd_X4_join : yX4_join.cls ≠ "java/lang/invoke/MethodHandle" ∧ yX4_join.cls ≠ "java/lang/invoke/VarHandle" ∧ (parseMethodDescriptor yX4_join.desc).map (fun d => d.parameters.length) = some 2 := by decide +kernel
def f_X4_join_b28 (h : PH) (a0 : Nat) (v1 : Int32) (v2 : Int32) (s0 : Nat) (s1 : Int32) : ZR Int32 :=
  zpI h s0 3 0 s1 fun h101 =>
  zgI h101 a0 3 0 fun x102 =>
  if x102 ≤ 0 then
    (zrc h101 a0 3 <| zcl (f_X4_keeps h101 a0) fun _ h104 =>
    zrc h104 a0 3 <| zcl (f_X4_appends h104 a0 v1 v2) fun _ h106 =>
    zrc h106 a0 3 <| zcl (f_X4_ends h106 a0 v2) fun _ h108 =>
    zrc h108 a0 3 <| zcl (f_X4_repairs h108 a0 v1) fun _ h110 =>
    zgP h110 a0 3 1 fun x111 =>
    zcl (f_X4_base h110 v1) fun x112 h113 =>
    znm (x112 + (1 : Int32)) fun x114 =>
    znn x111 fun a115 =>
    zaI h113 a115 0 x114 fun x116 =>
    zret x116 h113)
  else
    (zret (0 : Int32) h101)
def f_X4_join (h : PH) (a0 : Nat) (v1 : Int32) (v2 : Int32) : ZR Int32 :=
  zrc h a0 3 <| zcl (f_X4_areBoth h a0 v1 v2) fun x101 h102 =>
  if x101 = 0 then
    (f_X4_join_b28 h102 a0 v1 v2 a0 (1 : Int32))
  else
    (zrc h102 a0 3 <| zcl (f_X4_againstJoin h102 a0 v1 v2) fun x103 h104 =>
    if x103 = 0 then
      (f_X4_join_b28 h104 a0 v1 v2 a0 (0 : Int32))
    else
      (f_X4_join_b28 h104 a0 v1 v2 a0 (2 : Int32)))
set_option maxHeartbeats 4000000 in
set_option maxRecDepth 100000 in
theorem m_X4_join_b28 {p : Program} {l : Launch} {e : Env} {s : State} {m : MethodId} {args : Array Value} {below : List Frame} {meth : Method} {c : Code} {D : va_G} {dA : Nat → ClassId} {b0 : Nat} {gs : Nat → Option Nat} (hc : zC D dA b0 gs yX4_join.cls cX4_join 3 p c s m args meth) (hr : meth.sig.returnType = (some .int)) (hin : meth.name = yX4_join.name) {r : Int32} {hh : PH} {mc ms : Nat} : ∀ (h : PH) (a0 : Nat) (v1 : Int32) (v2 : Int32) (s0 : Nat) (s1 : Int32) (C9 S9 : Nat) (H : Heap) (locs : List Loc) (cells slots : Nat), f_X4_join_b28 h a0 v1 v2 s0 s1 = some (r, hh, C9, S9) → cells + C9 = mc ∧ slots + S9 = ms → zM D dA b0 gs s h H locs → ∀ ls : Array Slot, lv_has ls 3 [(0, .ref a0), (1, .int v1), (2, .int v2)] → W p l e ({ frames := 6, cells := mc, slots := ms, locals := 185 } : Room) s m args below meth c H locs cells slots (MQ below (zQ D dA b0 gs (evI r) hh) args s mc ms (zA b0)) (F0 m 28 ls [.int s1, .ref s0]) := by
  have hx := hc.x
  have hb := hc.b
  intro h a0 v1 v2 s0 s1 C9 S9 H locs cells slots hf hq hn ls hl
  unfold f_X4_join_b28 at hf
  refine zr_pI (x := s1) hc hn (ci := 3) rfl rfl in_X4 0 (by decide) tyX4 tyX4_ok nmX4 q2099 (fun _ h => h) (Or.inl rfl) (fun _ _ _ => rfl) rfl rfl hf dX4_join_28 (fun h101 H locs hf hn => ?_)
  refine lv_aload_n (x := a0) hx hb dX4_join_31 rfl (lv_at hl 0 rfl) ?_
  refine zr_gI hc hn (ci := 3) rfl rfl in_X4 0 (by decide) q2099 (fun _ h => h) (fun _ _ _ => rfl) hf dX4_join_32 (fun x102 hf => ?_)
  refine lv_if_le (tgt := 40) hx hb dX4_join_35 (by decide) (fun c9 => ?_) (fun c9 => ?_)
  · have hf := zif_t c9 hf
    refine lv_aload_n (x := a0) hx hb dX4_join_40 rfl (lv_at hl 0 rfl) ?_
    refine zr_cVU (As := []) (rest := []) hc hn hq (ci := 3) rfl ⟨rfl, hd_X4_keeps⟩ (lw_V q2565 q2567 qs78 q91 q2568) (Nat.le_of_ble_eq_true rfl) (Nat.le_of_ble_eq_true rfl) (fun _ _ _ _ q => m_X4_keeps l D dA b0 gs h101 a0 q) hf dX4_join_41 hl.1 rfl rfl (zroom (Nat.le_of_ble_eq_true rfl)) (fun x103 h104 H locs cells slots C9 S9 hf hq hn => ?_)
    refine lv_aload_n (x := a0) hx hb dX4_join_44 rfl (lv_at hl 0 rfl) ?_
    refine lv_iload_n hx hb dX4_join_45 rfl (lv_at hl 1 rfl) ?_
    refine lv_iload_n hx hb dX4_join_46 rfl (lv_at hl 2 rfl) ?_
    refine zr_cVU (As := [.int v1, .int v2]) (rest := []) hc hn hq (ci := 3) rfl ⟨rfl, hd_X4_appends⟩ (lw_V q2609 q2611 qs82 q91 q2612) (Nat.le_of_ble_eq_true rfl) (Nat.le_of_ble_eq_true rfl) (fun _ _ _ _ q => m_X4_appends l D dA b0 gs h104 a0 v1 v2 q) hf dX4_join_47 hl.1 rfl rfl (zroom (Nat.le_of_ble_eq_true rfl)) (fun x105 h106 H locs cells slots C9 S9 hf hq hn => ?_)
    refine lv_aload_n (x := a0) hx hb dX4_join_50 rfl (lv_at hl 0 rfl) ?_
    refine lv_iload_n hx hb dX4_join_51 rfl (lv_at hl 2 rfl) ?_
    refine zr_cVU (As := [.int v2]) (rest := []) hc hn hq (ci := 3) rfl ⟨rfl, hd_X4_ends⟩ (lw_V q2577 q2579 qs80 q91 q2580) (Nat.le_of_ble_eq_true rfl) (Nat.le_of_ble_eq_true rfl) (fun _ _ _ _ q => m_X4_ends l D dA b0 gs h106 a0 v2 q) hf dX4_join_52 hl.1 rfl rfl (zroom (Nat.le_of_ble_eq_true rfl)) (fun x107 h108 H locs cells slots C9 S9 hf hq hn => ?_)
    refine lv_aload_n (x := a0) hx hb dX4_join_55 rfl (lv_at hl 0 rfl) ?_
    refine lv_iload_n hx hb dX4_join_56 rfl (lv_at hl 1 rfl) ?_
    refine zr_cVU (As := [.int v1]) (rest := []) hc hn hq (ci := 3) rfl ⟨rfl, hd_X4_repairs⟩ (lw_V q2291 q2293 qs48 q91 q2294) (Nat.le_of_ble_eq_true rfl) (Nat.le_of_ble_eq_true rfl) (fun _ _ _ _ q => m_X4_repairs l D dA b0 gs h108 a0 v1 q) hf dX4_join_57 hl.1 rfl rfl (zroom (Nat.le_of_ble_eq_true rfl)) (fun x109 h110 H locs cells slots C9 S9 hf hq hn => ?_)
    refine lv_aload_n (x := a0) hx hb dX4_join_60 rfl (lv_at hl 0 rfl) ?_
    refine zr_gP hc hn (ci := 3) rfl rfl in_X4 1 (by decide) q2100 (fun _ h => h) (fun _ _ _ => rfl) hf dX4_join_61 (fun x111 hf => ?_)
    refine lv_iload_n hx hb dX4_join_64 rfl (lv_at hl 1 rfl) ?_
    refine zr_cSI (As := [.int v1]) (rest := [va_rf x111]) hc hn hq hd_X4_base (lw_S q2284 q2285 q91 q2286) (Nat.le_of_ble_eq_true rfl) (Nat.le_of_ble_eq_true rfl) (fun _ _ _ _ q => m_X4_base l D dA b0 gs h110 v1 q) hf dX4_join_65 hl.1 rfl rfl (zroom (Nat.le_of_ble_eq_true rfl)) (fun x112 h113 H locs cells slots C9 S9 hf hq hn => ?_)
    refine lv_iconst (v := (1 : Int32)) hx hb dX4_join_68 (by decide) ?_
    refine lv_iadd hx hb dX4_join_69 ?_
    refine zr_nmI hf (fun x114 hf => ?_)
    obtain ⟨a115, e9, hf9⟩ := znn_i hf
    subst e9
    have hf := hf9
    clear hf9
    refine zr_aI0 hc hn hf dX4_join_70 (fun x116 hf => ?_)
    obtain ⟨rfl, rfl, rfl, rfl⟩ := zret_i hf
    exact zr_iret hc hn hr hq (fun _ _ _ _ q => q) dX4_join_71
  · have hf := zif_f c9 hf
    refine lv_iconst (v := (0 : Int32)) hx hb dX4_join_38 (by decide) ?_
    obtain ⟨rfl, rfl, rfl, rfl⟩ := zret_i hf
    exact zr_iret hc hn hr hq (fun _ _ _ _ q => q) dX4_join_39
set_option maxHeartbeats 4000000 in
set_option maxRecDepth 100000 in
theorem m_X4_join (l : Launch) (D : va_G) (dA : Nat → ClassId) (b0 : Nat) (gs : Nat → Option Nat) (h : PH) (a0 : Nat) (v1 : Int32) (v2 : Int32) {r : Int32} {hh : PH} {mc ms : Nat} (hf : f_X4_join h a0 v1 v2 = some (r, hh, mc, ms)) : zMt l D dA b0 gs yX4_join cX4_join 3 (some .int) 6 185 [.ref a0, .int v1, .int v2] h (evI r) hh mc ms := by
  unfold f_X4_join at hf
  refine zMt.of (by decide) (Nat.le_of_ble_eq_true rfl) ?_
  intro p e s m args below meth c hc hr hin hn ls hl
  have hl : lv_has ls 3 [(0, .ref a0), (1, .int v1), (2, .int v2)] := hl
  have hq : 0 + mc = mc ∧ 0 + ms = ms := ⟨Nat.zero_add _, Nat.zero_add _⟩
  have hx := hc.x
  have hb := hc.b
  refine lv_aload_n (x := a0) hx hb dX4_join_0 rfl (lv_at hl 0 rfl) ?_
  refine lv_aload_n (x := a0) hx hb dX4_join_1 rfl (lv_at hl 0 rfl) ?_
  refine lv_iload_n hx hb dX4_join_2 rfl (lv_at hl 1 rfl) ?_
  refine lv_iload_n hx hb dX4_join_3 rfl (lv_at hl 2 rfl) ?_
  refine zr_cVI (As := [.int v1, .int v2]) (rest := [.ref a0]) hc hn hq (ci := 3) rfl ⟨rfl, hd_X4_areBoth⟩ (lw_V q2517 q2519 qs73 q91 q2520) (Nat.le_of_ble_eq_true rfl) (Nat.le_of_ble_eq_true rfl) (fun _ _ _ _ q => m_X4_areBoth l D dA b0 gs h a0 v1 v2 q) hf dX4_join_4 hl.1 rfl rfl (zroom (Nat.le_of_ble_eq_true rfl)) (fun x101 h102 H locs cells slots C9 S9 hf hq hn => ?_)
  refine lv_if_ne (tgt := 14) hx hb dX4_join_7 (by decide) (fun c9 => ?_) (fun c9 => ?_)
  · have hf := zif_f c9 hf
    refine lv_aload_n (x := a0) hx hb dX4_join_14 rfl (lv_at hl 0 rfl) ?_
    refine lv_iload_n hx hb dX4_join_15 rfl (lv_at hl 1 rfl) ?_
    refine lv_iload_n hx hb dX4_join_16 rfl (lv_at hl 2 rfl) ?_
    refine zr_cVI (As := [.int v1, .int v2]) (rest := [.ref a0]) hc hn hq (ci := 3) rfl ⟨rfl, hd_X4_againstJoin⟩ (lw_V q2521 q2523 qs74 q91 q2524) (Nat.le_of_ble_eq_true rfl) (Nat.le_of_ble_eq_true rfl) (fun _ _ _ _ q => m_X4_againstJoin l D dA b0 gs h102 a0 v1 v2 q) hf dX4_join_17 hl.1 rfl rfl (zroom (Nat.le_of_ble_eq_true rfl)) (fun x103 h104 H locs cells slots C9 S9 hf hq hn => ?_)
    refine lv_if_eq (tgt := 27) hx hb dX4_join_20 (by decide) (fun c9 => ?_) (fun c9 => ?_)
    · have hf := zif_t c9 hf
      refine lv_iconst (v := (0 : Int32)) hx hb dX4_join_27 (by decide) ?_
      exact m_X4_join_b28 hc hr hin h104 a0 v1 v2 a0 (0 : Int32) _ _ _ _ _ _ hf hq hn _ (lv_sub hl [0, 1, 2] rfl)
    · have hf := zif_f c9 hf
      refine lv_iconst (v := (2 : Int32)) hx hb dX4_join_23 (by decide) ?_
      refine lv_goto (tgt := 28) hx hb dX4_join_24 (by decide) ?_
      exact m_X4_join_b28 hc hr hin h104 a0 v1 v2 a0 (2 : Int32) _ _ _ _ _ _ hf hq hn _ (lv_sub hl [0, 1, 2] rfl)
  · have hf := zif_t c9 hf
    refine lv_iconst (v := (1 : Int32)) hx hb dX4_join_10 (by decide) ?_
    refine lv_goto (tgt := 28) hx hb dX4_join_11 (by decide) ?_
    exact m_X4_join_b28 hc hr hin h102 a0 v1 v2 a0 (1 : Int32) _ _ _ _ _ _ hf hq hn _ (lv_sub hl [0, 1, 2] rfl)
theorem hd_X4_absorb : yX4_absorb.cls ≠ "java/lang/invoke/MethodHandle" ∧ yX4_absorb.cls ≠ "java/lang/invoke/VarHandle" ∧ (parseMethodDescriptor yX4_absorb.desc).map (fun d => d.parameters.length) = some 2 := by decide +kernel
def f_X4_absorb_b62 : Nat → PH → Nat → Int32 → Int32 → Int32 → Int32 → Int32 → ZR Int32
  | 0 => fun _ _ _ _ _ _ _ => none
  | n + 1 => fun h a0 v1 v2 v3 v4 v5 =>
    if v4 ≤ v5 then
      (zrc h a0 3 <| zcl (f_X4_ends h a0 v2) fun _ h102 =>
      zgP h102 a0 3 1 fun x103 =>
      zcl (f_X4_base h102 v1) fun x104 h105 =>
      znm (x104 + (1 : Int32)) fun x106 =>
      znn x103 fun a107 =>
      zaI h105 a107 0 x106 fun x108 =>
      zret x108 h105)
    else
      (zgP h a0 3 1 fun x109 =>
      znm (v3 + (2 : Int32)) fun x110 =>
      znm (x110 + v5) fun x111 =>
      znn x109 fun a112 =>
      zaI h a112 0 x111 fun x113 =>
      zgP h a0 3 1 fun x114 =>
      znm (v3 + (62 : Int32)) fun x115 =>
      znm (x115 + v5) fun x116 =>
      znn x114 fun a117 =>
      zaI h a117 0 x116 fun x118 =>
      zrc h a0 3 <| zcl (f_X4_puts h a0 v1 x113 x118) fun x119 h120 =>
      znm (v5 + (1 : Int32)) fun x121 =>
      f_X4_absorb_b62 n h120 a0 v1 v2 v3 v4 x121)
def f_X4_absorb_b28 (h : PH) (a0 : Nat) (v1 : Int32) (v2 : Int32) (s0 : Nat) (s1 : Int32) : ZR Int32 :=
  zpI h s0 3 0 s1 fun h101 =>
  zgI h101 a0 3 0 fun x102 =>
  if x102 ≤ 0 then
    (zrc h101 a0 3 <| zcl (f_X4_keeps h101 a0) fun _ h104 =>
    zcl (f_X4_base h104 v2) fun x105 h106 =>
    zgP h106 a0 3 1 fun x107 =>
    znm (x105 + (1 : Int32)) fun x108 =>
    znn x107 fun a109 =>
    zaI h106 a109 0 x108 fun x110 =>
    f_X4_absorb_b62 zFU h106 a0 v1 v2 x105 x110 (0 : Int32))
  else
    (zret (0 : Int32) h101)
def f_X4_absorb (h : PH) (a0 : Nat) (v1 : Int32) (v2 : Int32) : ZR Int32 :=
  zrc h a0 3 <| zcl (f_X4_areBoth h a0 v1 v2) fun x101 h102 =>
  if x101 = 0 then
    (f_X4_absorb_b28 h102 a0 v1 v2 a0 (1 : Int32))
  else
    (zrc h102 a0 3 <| zcl (f_X4_againstAbsorb h102 a0 v1 v2) fun x103 h104 =>
    if x103 = 0 then
      (f_X4_absorb_b28 h104 a0 v1 v2 a0 (0 : Int32))
    else
      (f_X4_absorb_b28 h104 a0 v1 v2 a0 (2 : Int32)))
set_option maxHeartbeats 4000000 in
set_option maxRecDepth 100000 in
theorem m_X4_absorb_b62 {p : Program} {l : Launch} {e : Env} {s : State} {m : MethodId} {args : Array Value} {below : List Frame} {meth : Method} {c : Code} {D : va_G} {dA : Nat → ClassId} {b0 : Nat} {gs : Nat → Option Nat} (hc : zC D dA b0 gs yX4_absorb.cls cX4_absorb 7 p c s m args meth) (hr : meth.sig.returnType = (some .int)) (hin : meth.name = yX4_absorb.name) {r : Int32} {hh : PH} {mc ms : Nat} : ∀ (n : Nat) (h : PH) (a0 : Nat) (v1 : Int32) (v2 : Int32) (v3 : Int32) (v4 : Int32) (v5 : Int32) (C9 S9 : Nat) (H : Heap) (locs : List Loc) (cells slots : Nat), f_X4_absorb_b62 n h a0 v1 v2 v3 v4 v5 = some (r, hh, C9, S9) → cells + C9 = mc ∧ slots + S9 = ms → zM D dA b0 gs s h H locs → ∀ ls : Array Slot, lv_has ls 7 [(0, .ref a0), (1, .int v1), (2, .int v2), (3, .int v3), (4, .int v4), (5, .int v5)] → W p l e ({ frames := 7, cells := mc, slots := ms, locals := 211 } : Room) s m args below meth c H locs cells slots (MQ below (zQ D dA b0 gs (evI r) hh) args s mc ms (zA b0)) (F0 m 62 ls []) := by
  have hx := hc.x
  have hb := hc.b
  intro n
  induction n with
  | zero =>
    intro h a0 v1 v2 v3 v4 v5 C9 S9 H locs cells slots hf hq hn ls hl
    cases hf
  | succ n ih =>
    intro h a0 v1 v2 v3 v4 v5 C9 S9 H locs cells slots hf hq hn ls hl
    unfold f_X4_absorb_b62 at hf
    refine lv_iload hx hb dX4_absorb_62 (lv_at hl 5 rfl) ?_
    refine lv_iload hx hb dX4_absorb_64 (lv_at hl 4 rfl) ?_
    refine lv_icmp_ge (tgt := 105) hx hb dX4_absorb_66 (by decide) (fun c9 => ?_) (fun c9 => ?_)
    · have hf := zif_t c9 hf
      refine lv_aload_n (x := a0) hx hb dX4_absorb_105 rfl (lv_at hl 0 rfl) ?_
      refine lv_iload_n hx hb dX4_absorb_106 rfl (lv_at hl 2 rfl) ?_
      refine zr_cVU (As := [.int v2]) (rest := []) hc hn hq (ci := 3) rfl ⟨rfl, hd_X4_ends⟩ (lw_V q2577 q2579 qs80 q91 q2580) (Nat.le_of_ble_eq_true rfl) (Nat.le_of_ble_eq_true rfl) (fun _ _ _ _ q => m_X4_ends l D dA b0 gs h a0 v2 q) hf dX4_absorb_107 hl.1 rfl rfl (zroom (Nat.le_of_ble_eq_true rfl)) (fun x101 h102 H locs cells slots C9 S9 hf hq hn => ?_)
      refine lv_aload_n (x := a0) hx hb dX4_absorb_110 rfl (lv_at hl 0 rfl) ?_
      refine zr_gP hc hn (ci := 3) rfl rfl in_X4 1 (by decide) q2100 (fun _ h => h) (fun _ _ _ => rfl) hf dX4_absorb_111 (fun x103 hf => ?_)
      refine lv_iload_n hx hb dX4_absorb_114 rfl (lv_at hl 1 rfl) ?_
      refine zr_cSI (As := [.int v1]) (rest := [va_rf x103]) hc hn hq hd_X4_base (lw_S q2284 q2285 q91 q2286) (Nat.le_of_ble_eq_true rfl) (Nat.le_of_ble_eq_true rfl) (fun _ _ _ _ q => m_X4_base l D dA b0 gs h102 v1 q) hf dX4_absorb_115 hl.1 rfl rfl (zroom (Nat.le_of_ble_eq_true rfl)) (fun x104 h105 H locs cells slots C9 S9 hf hq hn => ?_)
      refine lv_iconst (v := (1 : Int32)) hx hb dX4_absorb_118 (by decide) ?_
      refine lv_iadd hx hb dX4_absorb_119 ?_
      refine zr_nmI hf (fun x106 hf => ?_)
      obtain ⟨a107, e9, hf9⟩ := znn_i hf
      subst e9
      have hf := hf9
      clear hf9
      refine zr_aI0 hc hn hf dX4_absorb_120 (fun x108 hf => ?_)
      obtain ⟨rfl, rfl, rfl, rfl⟩ := zret_i hf
      exact zr_iret hc hn hr hq (fun _ _ _ _ q => q) dX4_absorb_121
    · have hf := zif_f c9 hf
      refine lv_aload_n (x := a0) hx hb dX4_absorb_69 rfl (lv_at hl 0 rfl) ?_
      refine lv_iload_n hx hb dX4_absorb_70 rfl (lv_at hl 1 rfl) ?_
      refine lv_aload_n (x := a0) hx hb dX4_absorb_71 rfl (lv_at hl 0 rfl) ?_
      refine zr_gP hc hn (ci := 3) rfl rfl in_X4 1 (by decide) q2100 (fun _ h => h) (fun _ _ _ => rfl) hf dX4_absorb_72 (fun x109 hf => ?_)
      refine lv_iload_n hx hb dX4_absorb_75 rfl (lv_at hl 3 rfl) ?_
      refine lv_iconst (v := (2 : Int32)) hx hb dX4_absorb_76 (by decide) ?_
      refine lv_iadd hx hb dX4_absorb_77 ?_
      refine zr_nmI hf (fun x110 hf => ?_)
      refine lv_iload hx hb dX4_absorb_78 (lv_at hl 5 rfl) ?_
      refine lv_iadd hx hb dX4_absorb_80 ?_
      refine zr_nmI hf (fun x111 hf => ?_)
      obtain ⟨a112, e9, hf9⟩ := znn_i hf
      subst e9
      have hf := hf9
      clear hf9
      refine zr_aI0 hc hn hf dX4_absorb_81 (fun x113 hf => ?_)
      refine lv_aload_n (x := a0) hx hb dX4_absorb_82 rfl (lv_at hl 0 rfl) ?_
      refine zr_gP hc hn (ci := 3) rfl rfl in_X4 1 (by decide) q2100 (fun _ h => h) (fun _ _ _ => rfl) hf dX4_absorb_83 (fun x114 hf => ?_)
      refine lv_iload_n hx hb dX4_absorb_86 rfl (lv_at hl 3 rfl) ?_
      refine lv_bipush (v := (62 : Int32)) hx hb dX4_absorb_87 (by decide) ?_
      refine lv_iadd hx hb dX4_absorb_89 ?_
      refine zr_nmI hf (fun x115 hf => ?_)
      refine lv_iload hx hb dX4_absorb_90 (lv_at hl 5 rfl) ?_
      refine lv_iadd hx hb dX4_absorb_92 ?_
      refine zr_nmI hf (fun x116 hf => ?_)
      obtain ⟨a117, e9, hf9⟩ := znn_i hf
      subst e9
      have hf := hf9
      clear hf9
      refine zr_aI0 hc hn hf dX4_absorb_93 (fun x118 hf => ?_)
      refine zr_cVI (As := [.int v1, .int x113, .int x118]) (rest := []) hc hn hq (ci := 3) rfl ⟨rfl, hd_X4_puts⟩ (lw_V q2489 q2491 qs69 q91 q2492) (Nat.le_of_ble_eq_true rfl) (Nat.le_of_ble_eq_true rfl) (fun _ _ _ _ q => m_X4_puts l D dA b0 gs h a0 v1 x113 x118 q) hf dX4_absorb_94 hl.1 rfl rfl (zroom (Nat.le_of_ble_eq_true rfl)) (fun x119 h120 H locs cells slots C9 S9 hf hq hn => ?_)
      refine lv_istore (lv' := [(6, .int x119), (0, .ref a0), (1, .int v1), (2, .int v2), (3, .int v3), (4, .int v4), (5, .int v5)]) hx hb dX4_absorb_97 hl (by decide) rfl (fun ls hl => ?_)
      obtain ⟨x121, ex121, hf⟩ := znm_i hf
      refine lv_iinc (v := x121) (lv' := [(5, .int x121), (6, .int x119), (0, .ref a0), (1, .int v1), (2, .int v2), (3, .int v3), (4, .int v4)]) hx hb dX4_absorb_99 hl (k := 6) rfl (by rw [ex121]; rfl) (by decide) rfl (fun ls hl => ?_)
      refine lv_goto (tgt := 62) hx hb dX4_absorb_102 (by decide) ?_
      exact ih h120 a0 v1 v2 v3 v4 x121 _ _ _ _ _ _ hf hq hn _ (lv_sub hl [2, 3, 4, 5, 6, 0] rfl)
set_option maxHeartbeats 4000000 in
set_option maxRecDepth 100000 in
theorem m_X4_absorb_b28 {p : Program} {l : Launch} {e : Env} {s : State} {m : MethodId} {args : Array Value} {below : List Frame} {meth : Method} {c : Code} {D : va_G} {dA : Nat → ClassId} {b0 : Nat} {gs : Nat → Option Nat} (hc : zC D dA b0 gs yX4_absorb.cls cX4_absorb 7 p c s m args meth) (hr : meth.sig.returnType = (some .int)) (hin : meth.name = yX4_absorb.name) {r : Int32} {hh : PH} {mc ms : Nat} : ∀ (h : PH) (a0 : Nat) (v1 : Int32) (v2 : Int32) (s0 : Nat) (s1 : Int32) (C9 S9 : Nat) (H : Heap) (locs : List Loc) (cells slots : Nat), f_X4_absorb_b28 h a0 v1 v2 s0 s1 = some (r, hh, C9, S9) → cells + C9 = mc ∧ slots + S9 = ms → zM D dA b0 gs s h H locs → ∀ ls : Array Slot, lv_has ls 7 [(0, .ref a0), (1, .int v1), (2, .int v2)] → W p l e ({ frames := 7, cells := mc, slots := ms, locals := 211 } : Room) s m args below meth c H locs cells slots (MQ below (zQ D dA b0 gs (evI r) hh) args s mc ms (zA b0)) (F0 m 28 ls [.int s1, .ref s0]) := by
  have hx := hc.x
  have hb := hc.b
  intro h a0 v1 v2 s0 s1 C9 S9 H locs cells slots hf hq hn ls hl
  unfold f_X4_absorb_b28 at hf
  refine zr_pI (x := s1) hc hn (ci := 3) rfl rfl in_X4 0 (by decide) tyX4 tyX4_ok nmX4 q2099 (fun _ h => h) (Or.inl rfl) (fun _ _ _ => rfl) rfl rfl hf dX4_absorb_28 (fun h101 H locs hf hn => ?_)
  refine lv_aload_n (x := a0) hx hb dX4_absorb_31 rfl (lv_at hl 0 rfl) ?_
  refine zr_gI hc hn (ci := 3) rfl rfl in_X4 0 (by decide) q2099 (fun _ h => h) (fun _ _ _ => rfl) hf dX4_absorb_32 (fun x102 hf => ?_)
  refine lv_if_le (tgt := 40) hx hb dX4_absorb_35 (by decide) (fun c9 => ?_) (fun c9 => ?_)
  · have hf := zif_t c9 hf
    refine lv_aload_n (x := a0) hx hb dX4_absorb_40 rfl (lv_at hl 0 rfl) ?_
    refine zr_cVU (As := []) (rest := []) hc hn hq (ci := 3) rfl ⟨rfl, hd_X4_keeps⟩ (lw_V q2565 q2567 qs78 q91 q2568) (Nat.le_of_ble_eq_true rfl) (Nat.le_of_ble_eq_true rfl) (fun _ _ _ _ q => m_X4_keeps l D dA b0 gs h101 a0 q) hf dX4_absorb_41 hl.1 rfl rfl (zroom (Nat.le_of_ble_eq_true rfl)) (fun x103 h104 H locs cells slots C9 S9 hf hq hn => ?_)
    refine lv_iload_n hx hb dX4_absorb_44 rfl (lv_at hl 2 rfl) ?_
    refine zr_cSI (As := [.int v2]) (rest := []) hc hn hq hd_X4_base (lw_S q2284 q2285 q91 q2286) (Nat.le_of_ble_eq_true rfl) (Nat.le_of_ble_eq_true rfl) (fun _ _ _ _ q => m_X4_base l D dA b0 gs h104 v2 q) hf dX4_absorb_45 hl.1 rfl rfl (zroom (Nat.le_of_ble_eq_true rfl)) (fun x105 h106 H locs cells slots C9 S9 hf hq hn => ?_)
    refine lv_istore_n (i := 3) (lv' := [(3, .int x105), (0, .ref a0), (1, .int v1), (2, .int v2)]) hx hb dX4_absorb_48 rfl hl (by decide) rfl (fun ls hl => ?_)
    refine lv_aload_n (x := a0) hx hb dX4_absorb_49 rfl (lv_at hl 1 rfl) ?_
    refine zr_gP hc hn (ci := 3) rfl rfl in_X4 1 (by decide) q2100 (fun _ h => h) (fun _ _ _ => rfl) hf dX4_absorb_50 (fun x107 hf => ?_)
    refine lv_iload_n hx hb dX4_absorb_53 rfl (lv_at hl 0 rfl) ?_
    refine lv_iconst (v := (1 : Int32)) hx hb dX4_absorb_54 (by decide) ?_
    refine lv_iadd hx hb dX4_absorb_55 ?_
    refine zr_nmI hf (fun x108 hf => ?_)
    obtain ⟨a109, e9, hf9⟩ := znn_i hf
    subst e9
    have hf := hf9
    clear hf9
    refine zr_aI0 hc hn hf dX4_absorb_56 (fun x110 hf => ?_)
    refine lv_istore (lv' := [(4, .int x110), (3, .int x105), (0, .ref a0), (1, .int v1), (2, .int v2)]) hx hb dX4_absorb_57 hl (by decide) rfl (fun ls hl => ?_)
    refine lv_iconst (v := (0 : Int32)) hx hb dX4_absorb_59 (by decide) ?_
    refine lv_istore (lv' := [(5, .int (0 : Int32)), (4, .int x110), (3, .int x105), (0, .ref a0), (1, .int v1), (2, .int v2)]) hx hb dX4_absorb_60 hl (by decide) rfl (fun ls hl => ?_)
    exact m_X4_absorb_b62 hc hr hin zFU h106 a0 v1 v2 x105 x110 (0 : Int32) _ _ _ _ _ _ hf hq hn _ (lv_sub hl [3, 4, 5, 2, 1, 0] rfl)
  · have hf := zif_f c9 hf
    refine lv_iconst (v := (0 : Int32)) hx hb dX4_absorb_38 (by decide) ?_
    obtain ⟨rfl, rfl, rfl, rfl⟩ := zret_i hf
    exact zr_iret hc hn hr hq (fun _ _ _ _ q => q) dX4_absorb_39
set_option maxHeartbeats 4000000 in
set_option maxRecDepth 100000 in
theorem m_X4_absorb (l : Launch) (D : va_G) (dA : Nat → ClassId) (b0 : Nat) (gs : Nat → Option Nat) (h : PH) (a0 : Nat) (v1 : Int32) (v2 : Int32) {r : Int32} {hh : PH} {mc ms : Nat} (hf : f_X4_absorb h a0 v1 v2 = some (r, hh, mc, ms)) : zMt l D dA b0 gs yX4_absorb cX4_absorb 7 (some .int) 7 211 [.ref a0, .int v1, .int v2] h (evI r) hh mc ms := by
  unfold f_X4_absorb at hf
  refine zMt.of (by decide) (Nat.le_of_ble_eq_true rfl) ?_
  intro p e s m args below meth c hc hr hin hn ls hl
  have hl : lv_has ls 7 [(0, .ref a0), (1, .int v1), (2, .int v2)] := hl
  have hq : 0 + mc = mc ∧ 0 + ms = ms := ⟨Nat.zero_add _, Nat.zero_add _⟩
  have hx := hc.x
  have hb := hc.b
  refine lv_aload_n (x := a0) hx hb dX4_absorb_0 rfl (lv_at hl 0 rfl) ?_
  refine lv_aload_n (x := a0) hx hb dX4_absorb_1 rfl (lv_at hl 0 rfl) ?_
  refine lv_iload_n hx hb dX4_absorb_2 rfl (lv_at hl 1 rfl) ?_
  refine lv_iload_n hx hb dX4_absorb_3 rfl (lv_at hl 2 rfl) ?_
  refine zr_cVI (As := [.int v1, .int v2]) (rest := [.ref a0]) hc hn hq (ci := 3) rfl ⟨rfl, hd_X4_areBoth⟩ (lw_V q2517 q2519 qs73 q91 q2520) (Nat.le_of_ble_eq_true rfl) (Nat.le_of_ble_eq_true rfl) (fun _ _ _ _ q => m_X4_areBoth l D dA b0 gs h a0 v1 v2 q) hf dX4_absorb_4 hl.1 rfl rfl (zroom (Nat.le_of_ble_eq_true rfl)) (fun x101 h102 H locs cells slots C9 S9 hf hq hn => ?_)
  refine lv_if_ne (tgt := 14) hx hb dX4_absorb_7 (by decide) (fun c9 => ?_) (fun c9 => ?_)
  · have hf := zif_f c9 hf
    refine lv_aload_n (x := a0) hx hb dX4_absorb_14 rfl (lv_at hl 0 rfl) ?_
    refine lv_iload_n hx hb dX4_absorb_15 rfl (lv_at hl 1 rfl) ?_
    refine lv_iload_n hx hb dX4_absorb_16 rfl (lv_at hl 2 rfl) ?_
    refine zr_cVI (As := [.int v1, .int v2]) (rest := [.ref a0]) hc hn hq (ci := 3) rfl ⟨rfl, hd_X4_againstAbsorb⟩ (lw_V q2529 q2531 qs75 q91 q2532) (Nat.le_of_ble_eq_true rfl) (Nat.le_of_ble_eq_true rfl) (fun _ _ _ _ q => m_X4_againstAbsorb l D dA b0 gs h102 a0 v1 v2 q) hf dX4_absorb_17 hl.1 rfl rfl (zroom (Nat.le_of_ble_eq_true rfl)) (fun x103 h104 H locs cells slots C9 S9 hf hq hn => ?_)
    refine lv_if_eq (tgt := 27) hx hb dX4_absorb_20 (by decide) (fun c9 => ?_) (fun c9 => ?_)
    · have hf := zif_t c9 hf
      refine lv_iconst (v := (0 : Int32)) hx hb dX4_absorb_27 (by decide) ?_
      exact m_X4_absorb_b28 hc hr hin h104 a0 v1 v2 a0 (0 : Int32) _ _ _ _ _ _ hf hq hn _ (lv_sub hl [0, 1, 2] rfl)
    · have hf := zif_f c9 hf
      refine lv_iconst (v := (2 : Int32)) hx hb dX4_absorb_23 (by decide) ?_
      refine lv_goto (tgt := 28) hx hb dX4_absorb_24 (by decide) ?_
      exact m_X4_absorb_b28 hc hr hin h104 a0 v1 v2 a0 (2 : Int32) _ _ _ _ _ _ hf hq hn _ (lv_sub hl [0, 1, 2] rfl)
  · have hf := zif_t c9 hf
    refine lv_iconst (v := (1 : Int32)) hx hb dX4_absorb_10 (by decide) ?_
    refine lv_goto (tgt := 28) hx hb dX4_absorb_11 (by decide) ?_
    exact m_X4_absorb_b28 hc hr hin h102 a0 v1 v2 a0 (1 : Int32) _ _ _ _ _ _ hf hq hn _ (lv_sub hl [0, 1, 2] rfl)
theorem hd_X4_level : yX4_level.cls ≠ "java/lang/invoke/MethodHandle" ∧ yX4_level.cls ≠ "java/lang/invoke/VarHandle" ∧ (parseMethodDescriptor yX4_level.desc).map (fun d => d.parameters.length) = some 1 := by decide +kernel
def f_X4_level_b14 (h : PH) (a0 : Nat) (v1 : Int32) (s0 : Nat) (s1 : Int32) : ZR Int32 :=
  zpI h s0 3 0 s1 fun h101 =>
  zgI h101 a0 3 0 fun x102 =>
  if x102 ≤ 0 then
    (zrc h101 a0 3 <| zcl (f_X4_keeps h101 a0) fun _ h104 =>
    zrc h104 a0 3 <| zcl (f_X4_levels h104 a0 v1) fun _ h106 =>
    zrc h106 a0 3 <| zcl (f_X4_heightOf h106 a0 v1) fun x107 h108 =>
    zret x107 h108)
  else
    (zret (0 : Int32) h101)
def f_X4_level (h : PH) (a0 : Nat) (v1 : Int32) : ZR Int32 :=
  zrc h a0 3 <| zcl (f_X4_isList h a0 v1) fun x101 h102 =>
  if x101 = 0 then
    (f_X4_level_b14 h102 a0 v1 a0 (1 : Int32))
  else
    (f_X4_level_b14 h102 a0 v1 a0 (0 : Int32))
set_option maxHeartbeats 4000000 in
set_option maxRecDepth 100000 in
theorem m_X4_level_b14 {p : Program} {l : Launch} {e : Env} {s : State} {m : MethodId} {args : Array Value} {below : List Frame} {meth : Method} {c : Code} {D : va_G} {dA : Nat → ClassId} {b0 : Nat} {gs : Nat → Option Nat} (hc : zC D dA b0 gs yX4_level.cls cX4_level 2 p c s m args meth) (hr : meth.sig.returnType = (some .int)) (hin : meth.name = yX4_level.name) {r : Int32} {hh : PH} {mc ms : Nat} : ∀ (h : PH) (a0 : Nat) (v1 : Int32) (s0 : Nat) (s1 : Int32) (C9 S9 : Nat) (H : Heap) (locs : List Loc) (cells slots : Nat), f_X4_level_b14 h a0 v1 s0 s1 = some (r, hh, C9, S9) → cells + C9 = mc ∧ slots + S9 = ms → zM D dA b0 gs s h H locs → ∀ ls : Array Slot, lv_has ls 2 [(0, .ref a0), (1, .int v1)] → W p l e ({ frames := 7, cells := mc, slots := ms, locals := 210 } : Room) s m args below meth c H locs cells slots (MQ below (zQ D dA b0 gs (evI r) hh) args s mc ms (zA b0)) (F0 m 14 ls [.int s1, .ref s0]) := by
  have hx := hc.x
  have hb := hc.b
  intro h a0 v1 s0 s1 C9 S9 H locs cells slots hf hq hn ls hl
  unfold f_X4_level_b14 at hf
  refine zr_pI (x := s1) hc hn (ci := 3) rfl rfl in_X4 0 (by decide) tyX4 tyX4_ok nmX4 q2099 (fun _ h => h) (Or.inl rfl) (fun _ _ _ => rfl) rfl rfl hf dX4_level_14 (fun h101 H locs hf hn => ?_)
  refine lv_aload_n (x := a0) hx hb dX4_level_17 rfl (lv_at hl 0 rfl) ?_
  refine zr_gI hc hn (ci := 3) rfl rfl in_X4 0 (by decide) q2099 (fun _ h => h) (fun _ _ _ => rfl) hf dX4_level_18 (fun x102 hf => ?_)
  refine lv_if_le (tgt := 26) hx hb dX4_level_21 (by decide) (fun c9 => ?_) (fun c9 => ?_)
  · have hf := zif_t c9 hf
    refine lv_aload_n (x := a0) hx hb dX4_level_26 rfl (lv_at hl 0 rfl) ?_
    refine zr_cVU (As := []) (rest := []) hc hn hq (ci := 3) rfl ⟨rfl, hd_X4_keeps⟩ (lw_V q2565 q2567 qs78 q91 q2568) (Nat.le_of_ble_eq_true rfl) (Nat.le_of_ble_eq_true rfl) (fun _ _ _ _ q => m_X4_keeps l D dA b0 gs h101 a0 q) hf dX4_level_27 hl.1 rfl rfl (zroom (Nat.le_of_ble_eq_true rfl)) (fun x103 h104 H locs cells slots C9 S9 hf hq hn => ?_)
    refine lv_aload_n (x := a0) hx hb dX4_level_30 rfl (lv_at hl 0 rfl) ?_
    refine lv_iload_n hx hb dX4_level_31 rfl (lv_at hl 1 rfl) ?_
    refine zr_cVU (As := [.int v1]) (rest := []) hc hn hq (ci := 3) rfl ⟨rfl, hd_X4_levels⟩ (lw_V q2287 q2289 qs47 q91 q2290) (Nat.le_of_ble_eq_true rfl) (Nat.le_of_ble_eq_true rfl) (fun _ _ _ _ q => m_X4_levels l D dA b0 gs h104 a0 v1 q) hf dX4_level_32 hl.1 rfl rfl (zroom (Nat.le_of_ble_eq_true rfl)) (fun x105 h106 H locs cells slots C9 S9 hf hq hn => ?_)
    refine lv_aload_n (x := a0) hx hb dX4_level_35 rfl (lv_at hl 0 rfl) ?_
    refine lv_iload_n hx hb dX4_level_36 rfl (lv_at hl 1 rfl) ?_
    refine zr_cVI (As := [.int v1]) (rest := []) hc hn hq (ci := 3) rfl ⟨rfl, hd_X4_heightOf⟩ (lw_V q2299 q2301 qs50 q91 q2302) (Nat.le_of_ble_eq_true rfl) (Nat.le_of_ble_eq_true rfl) (fun _ _ _ _ q => m_X4_heightOf l D dA b0 gs h106 a0 v1 q) hf dX4_level_37 hl.1 rfl rfl (zroom (Nat.le_of_ble_eq_true rfl)) (fun x107 h108 H locs cells slots C9 S9 hf hq hn => ?_)
    obtain ⟨rfl, rfl, rfl, rfl⟩ := zret_i hf
    exact zr_iret hc hn hr hq (fun _ _ _ _ q => q) dX4_level_40
  · have hf := zif_f c9 hf
    refine lv_iconst (v := (0 : Int32)) hx hb dX4_level_24 (by decide) ?_
    obtain ⟨rfl, rfl, rfl, rfl⟩ := zret_i hf
    exact zr_iret hc hn hr hq (fun _ _ _ _ q => q) dX4_level_25
set_option maxHeartbeats 4000000 in
set_option maxRecDepth 100000 in
theorem m_X4_level (l : Launch) (D : va_G) (dA : Nat → ClassId) (b0 : Nat) (gs : Nat → Option Nat) (h : PH) (a0 : Nat) (v1 : Int32) {r : Int32} {hh : PH} {mc ms : Nat} (hf : f_X4_level h a0 v1 = some (r, hh, mc, ms)) : zMt l D dA b0 gs yX4_level cX4_level 2 (some .int) 7 210 [.ref a0, .int v1] h (evI r) hh mc ms := by
  unfold f_X4_level at hf
  refine zMt.of (by decide) (Nat.le_of_ble_eq_true rfl) ?_
  intro p e s m args below meth c hc hr hin hn ls hl
  have hl : lv_has ls 2 [(0, .ref a0), (1, .int v1)] := hl
  have hq : 0 + mc = mc ∧ 0 + ms = ms := ⟨Nat.zero_add _, Nat.zero_add _⟩
  have hx := hc.x
  have hb := hc.b
  refine lv_aload_n (x := a0) hx hb dX4_level_0 rfl (lv_at hl 0 rfl) ?_
  refine lv_aload_n (x := a0) hx hb dX4_level_1 rfl (lv_at hl 0 rfl) ?_
  refine lv_iload_n hx hb dX4_level_2 rfl (lv_at hl 1 rfl) ?_
  refine zr_cVI (As := [.int v1]) (rest := [.ref a0]) hc hn hq (ci := 3) rfl ⟨rfl, hd_X4_isList⟩ (lw_V q2343 q2345 qs57 q91 q2346) (Nat.le_of_ble_eq_true rfl) (Nat.le_of_ble_eq_true rfl) (fun _ _ _ _ q => m_X4_isList l D dA b0 gs h a0 v1 q) hf dX4_level_3 hl.1 rfl rfl (zroom (Nat.le_of_ble_eq_true rfl)) (fun x101 h102 H locs cells slots C9 S9 hf hq hn => ?_)
  refine lv_if_eq (tgt := 13) hx hb dX4_level_6 (by decide) (fun c9 => ?_) (fun c9 => ?_)
  · have hf := zif_t c9 hf
    refine lv_iconst (v := (1 : Int32)) hx hb dX4_level_13 (by decide) ?_
    exact m_X4_level_b14 hc hr hin h102 a0 v1 a0 (1 : Int32) _ _ _ _ _ _ hf hq hn _ (lv_sub hl [0, 1] rfl)
  · have hf := zif_f c9 hf
    refine lv_iconst (v := (0 : Int32)) hx hb dX4_level_9 (by decide) ?_
    refine lv_goto (tgt := 14) hx hb dX4_level_10 (by decide) ?_
    exact m_X4_level_b14 hc hr hin h102 a0 v1 a0 (0 : Int32) _ _ _ _ _ _ hf hq hn _ (lv_sub hl [0, 1] rfl)
theorem hd_X4_setLimit : yX4_setLimit.cls ≠ "java/lang/invoke/MethodHandle" ∧ yX4_setLimit.cls ≠ "java/lang/invoke/VarHandle" ∧ (parseMethodDescriptor yX4_setLimit.desc).map (fun d => d.parameters.length) = some 1 := by decide +kernel
def f_X4_setLimit_b20 (h : PH) (a0 : Nat) (v1 : Int32) (s0 : Nat) (s1 : Int32) : ZR Int32 :=
  zpI h s0 3 0 s1 fun h101 =>
  zgI h101 a0 3 0 fun x102 =>
  if x102 ≤ 0 then
    (zrc h101 a0 3 <| zcl (f_X4_keeps h101 a0) fun _ h104 =>
    zgP h104 a0 3 1 fun x105 =>
    znn x105 fun a106 =>
    zaI h104 a106 0 (0 : Int32) fun x107 =>
    zrc h104 a0 3 <| zcl (f_X4_limits h104 a0 v1) fun _ h109 =>
    zret x107 h109)
  else
    (zret (0 : Int32) h101)
def f_X4_setLimit (h : PH) (a0 : Nat) (v1 : Int32) : ZR Int32 :=
  znm v1.toInt64 fun x101 =>
  zcl (f_X4_in h x101 (2 : Int64) (7 : Int64)) fun x102 h103 =>
  if x102 = 0 then
    (f_X4_setLimit_b20 h103 a0 v1 a0 (1 : Int32))
  else
    (f_X4_setLimit_b20 h103 a0 v1 a0 (0 : Int32))
set_option maxHeartbeats 4000000 in
set_option maxRecDepth 100000 in
theorem m_X4_setLimit_b20 {p : Program} {l : Launch} {e : Env} {s : State} {m : MethodId} {args : Array Value} {below : List Frame} {meth : Method} {c : Code} {D : va_G} {dA : Nat → ClassId} {b0 : Nat} {gs : Nat → Option Nat} (hc : zC D dA b0 gs yX4_setLimit.cls cX4_setLimit 3 p c s m args meth) (hr : meth.sig.returnType = (some .int)) (hin : meth.name = yX4_setLimit.name) {r : Int32} {hh : PH} {mc ms : Nat} : ∀ (h : PH) (a0 : Nat) (v1 : Int32) (s0 : Nat) (s1 : Int32) (C9 S9 : Nat) (H : Heap) (locs : List Loc) (cells slots : Nat), f_X4_setLimit_b20 h a0 v1 s0 s1 = some (r, hh, C9, S9) → cells + C9 = mc ∧ slots + S9 = ms → zM D dA b0 gs s h H locs → ∀ ls : Array Slot, lv_has ls 3 [(0, .ref a0), (1, .int v1)] → W p l e ({ frames := 7, cells := mc, slots := ms, locals := 207 } : Room) s m args below meth c H locs cells slots (MQ below (zQ D dA b0 gs (evI r) hh) args s mc ms (zA b0)) (F0 m 20 ls [.int s1, .ref s0]) := by
  have hx := hc.x
  have hb := hc.b
  intro h a0 v1 s0 s1 C9 S9 H locs cells slots hf hq hn ls hl
  unfold f_X4_setLimit_b20 at hf
  refine zr_pI (x := s1) hc hn (ci := 3) rfl rfl in_X4 0 (by decide) tyX4 tyX4_ok nmX4 q2099 (fun _ h => h) (Or.inl rfl) (fun _ _ _ => rfl) rfl rfl hf dX4_setLimit_20 (fun h101 H locs hf hn => ?_)
  refine lv_aload_n (x := a0) hx hb dX4_setLimit_23 rfl (lv_at hl 0 rfl) ?_
  refine zr_gI hc hn (ci := 3) rfl rfl in_X4 0 (by decide) q2099 (fun _ h => h) (fun _ _ _ => rfl) hf dX4_setLimit_24 (fun x102 hf => ?_)
  refine lv_if_le (tgt := 32) hx hb dX4_setLimit_27 (by decide) (fun c9 => ?_) (fun c9 => ?_)
  · have hf := zif_t c9 hf
    refine lv_aload_n (x := a0) hx hb dX4_setLimit_32 rfl (lv_at hl 0 rfl) ?_
    refine zr_cVU (As := []) (rest := []) hc hn hq (ci := 3) rfl ⟨rfl, hd_X4_keeps⟩ (lw_V q2565 q2567 qs78 q91 q2568) (Nat.le_of_ble_eq_true rfl) (Nat.le_of_ble_eq_true rfl) (fun _ _ _ _ q => m_X4_keeps l D dA b0 gs h101 a0 q) hf dX4_setLimit_33 hl.1 rfl rfl (zroom (Nat.le_of_ble_eq_true rfl)) (fun x103 h104 H locs cells slots C9 S9 hf hq hn => ?_)
    refine lv_aload_n (x := a0) hx hb dX4_setLimit_36 rfl (lv_at hl 0 rfl) ?_
    refine zr_gP hc hn (ci := 3) rfl rfl in_X4 1 (by decide) q2100 (fun _ h => h) (fun _ _ _ => rfl) hf dX4_setLimit_37 (fun x105 hf => ?_)
    refine lv_iconst (v := (0 : Int32)) hx hb dX4_setLimit_40 (by decide) ?_
    obtain ⟨a106, e9, hf9⟩ := znn_i hf
    subst e9
    have hf := hf9
    clear hf9
    refine zr_aI0 hc hn hf dX4_setLimit_41 (fun x107 hf => ?_)
    refine lv_istore_n (i := 2) (lv' := [(2, .int x107), (0, .ref a0), (1, .int v1)]) hx hb dX4_setLimit_42 rfl hl (by decide) rfl (fun ls hl => ?_)
    refine lv_aload_n (x := a0) hx hb dX4_setLimit_43 rfl (lv_at hl 1 rfl) ?_
    refine lv_iload_n hx hb dX4_setLimit_44 rfl (lv_at hl 2 rfl) ?_
    refine zr_cVU (As := [.int v1]) (rest := []) hc hn hq (ci := 3) rfl ⟨rfl, hd_X4_limits⟩ (lw_V q2509 q2511 qs72 q91 q2512) (Nat.le_of_ble_eq_true rfl) (Nat.le_of_ble_eq_true rfl) (fun _ _ _ _ q => m_X4_limits l D dA b0 gs h104 a0 v1 q) hf dX4_setLimit_45 hl.1 rfl rfl (zroom (Nat.le_of_ble_eq_true rfl)) (fun x108 h109 H locs cells slots C9 S9 hf hq hn => ?_)
    refine lv_iload_n hx hb dX4_setLimit_48 rfl (lv_at hl 0 rfl) ?_
    obtain ⟨rfl, rfl, rfl, rfl⟩ := zret_i hf
    exact zr_iret hc hn hr hq (fun _ _ _ _ q => q) dX4_setLimit_49
  · have hf := zif_f c9 hf
    refine lv_iconst (v := (0 : Int32)) hx hb dX4_setLimit_30 (by decide) ?_
    obtain ⟨rfl, rfl, rfl, rfl⟩ := zret_i hf
    exact zr_iret hc hn hr hq (fun _ _ _ _ q => q) dX4_setLimit_31
set_option maxHeartbeats 4000000 in
set_option maxRecDepth 100000 in
theorem m_X4_setLimit (l : Launch) (D : va_G) (dA : Nat → ClassId) (b0 : Nat) (gs : Nat → Option Nat) (h : PH) (a0 : Nat) (v1 : Int32) {r : Int32} {hh : PH} {mc ms : Nat} (hf : f_X4_setLimit h a0 v1 = some (r, hh, mc, ms)) : zMt l D dA b0 gs yX4_setLimit cX4_setLimit 3 (some .int) 7 207 [.ref a0, .int v1] h (evI r) hh mc ms := by
  unfold f_X4_setLimit at hf
  refine zMt.of (by decide) (Nat.le_of_ble_eq_true rfl) ?_
  intro p e s m args below meth c hc hr hin hn ls hl
  have hl : lv_has ls 3 [(0, .ref a0), (1, .int v1)] := hl
  have hq : 0 + mc = mc ∧ 0 + ms = ms := ⟨Nat.zero_add _, Nat.zero_add _⟩
  have hx := hc.x
  have hb := hc.b
  refine lv_aload_n (x := a0) hx hb dX4_setLimit_0 rfl (lv_at hl 0 rfl) ?_
  refine lv_iload_n hx hb dX4_setLimit_1 rfl (lv_at hl 1 rfl) ?_
  refine lv_i2l (v := v1.toInt64) hx hb dX4_setLimit_2 rfl ?_
  refine zr_nmL hf (fun x101 hf => ?_)
  refine lv_ldc2 (v := (2 : Int64)) hx hb hc.ow (hc.ts _ q2257) dX4_setLimit_3 ?_
  refine lv_ldc2 (v := (7 : Int64)) hx hb hc.ow (hc.ts _ q2258) dX4_setLimit_6 ?_
  refine zr_cSI (As := [.long x101, .long (2 : Int64), .long (7 : Int64)]) (rest := [.ref a0]) hc hn hq hd_X4_in (lw_S q2211 q2212 q91 q2213) (Nat.le_of_ble_eq_true rfl) (Nat.le_of_ble_eq_true rfl) (fun _ _ _ _ q => m_X4_in l D dA b0 gs h x101 (2 : Int64) (7 : Int64) q) hf dX4_setLimit_9 hl.1 rfl rfl (zroom (Nat.le_of_ble_eq_true rfl)) (fun x102 h103 H locs cells slots C9 S9 hf hq hn => ?_)
  refine lv_if_eq (tgt := 19) hx hb dX4_setLimit_12 (by decide) (fun c9 => ?_) (fun c9 => ?_)
  · have hf := zif_t c9 hf
    refine lv_iconst (v := (1 : Int32)) hx hb dX4_setLimit_19 (by decide) ?_
    exact m_X4_setLimit_b20 hc hr hin h103 a0 v1 a0 (1 : Int32) _ _ _ _ _ _ hf hq hn _ (lv_sub hl [0, 1] rfl)
  · have hf := zif_f c9 hf
    refine lv_iconst (v := (0 : Int32)) hx hb dX4_setLimit_15 (by decide) ?_
    refine lv_goto (tgt := 20) hx hb dX4_setLimit_16 (by decide) ?_
    exact m_X4_setLimit_b20 hc hr hin h103 a0 v1 a0 (0 : Int32) _ _ _ _ _ _ hf hq hn _ (lv_sub hl [0, 1] rfl)
theorem hd_X4_undo : yX4_undo.cls ≠ "java/lang/invoke/MethodHandle" ∧ yX4_undo.cls ≠ "java/lang/invoke/VarHandle" ∧ (parseMethodDescriptor yX4_undo.desc).map (fun d => d.parameters.length) = some 0 := by decide +kernel
def f_X4_undo_b73 : Nat → PH → Nat → Int32 → ZR Int32
  | 0 => fun _ _ _ => none
  | n + 1 => fun h a0 v1 =>
    if (6 : Int32) ≤ v1 then
      (zgI h a0 3 10 fun x101 =>
      zret x101 h)
    else
      (zgP h a0 3 2 fun x102 =>
      zgP h a0 3 4 fun x103 =>
      zgI h a0 3 10 fun x104 =>
      znm ((6 : Int32) * x104) fun x105 =>
      znm (x105 + v1) fun x106 =>
      znn x103 fun a107 =>
      zaL h a107 3 x106 fun x108 =>
      znn x102 fun a109 =>
      zsL h a109 3 v1 x108 fun h110 =>
      znm (v1 + (1 : Int32)) fun x111 =>
      f_X4_undo_b73 n h110 a0 x111)
def f_X4_undo_b37 : Nat → PH → Nat → Int32 → ZR Int32
  | 0 => fun _ _ _ => none
  | n + 1 => fun h a0 v1 =>
    if (4100 : Int32) ≤ v1 then
      (f_X4_undo_b73 zFU h a0 (0 : Int32))
    else
      (zgP h a0 3 1 fun x101 =>
      zgP h a0 3 3 fun x102 =>
      zgI h a0 3 10 fun x103 =>
      znm ((4100 : Int32) * x103) fun x104 =>
      znm (x104 + v1) fun x105 =>
      znn x102 fun a106 =>
      zaI h a106 0 x105 fun x107 =>
      znn x101 fun a108 =>
      zsI h a108 0 v1 x107 fun h109 =>
      znm (v1 + (1 : Int32)) fun x110 =>
      f_X4_undo_b37 n h109 a0 x110)
def f_X4_undo_b13 (h : PH) (a0 : Nat) (s0 : Nat) (s1 : Int32) : ZR Int32 :=
  zpI h s0 3 0 s1 fun h101 =>
  zgI h101 a0 3 0 fun x102 =>
  if x102 ≤ 0 then
    (zgI h101 a0 3 10 fun x103 =>
    znm (x103 - (1 : Int32)) fun x104 =>
    zpI h101 a0 3 10 x104 fun h105 =>
    f_X4_undo_b37 zFU h105 a0 (0 : Int32))
  else
    (zret (0 : Int32) h101)
def f_X4_undo (h : PH) (a0 : Nat) : ZR Int32 :=
  zgI h a0 3 10 fun x101 =>
  if x101 ≤ 0 then
    (f_X4_undo_b13 h a0 a0 (1 : Int32))
  else
    (f_X4_undo_b13 h a0 a0 (0 : Int32))
set_option maxHeartbeats 4000000 in
set_option maxRecDepth 100000 in
theorem m_X4_undo_b73 {p : Program} {l : Launch} {e : Env} {s : State} {m : MethodId} {args : Array Value} {below : List Frame} {meth : Method} {c : Code} {D : va_G} {dA : Nat → ClassId} {b0 : Nat} {gs : Nat → Option Nat} (hc : zC D dA b0 gs yX4_undo.cls cX4_undo 2 p c s m args meth) (hr : meth.sig.returnType = (some .int)) (hin : meth.name = yX4_undo.name) {r : Int32} {hh : PH} {mc ms : Nat} : ∀ (n : Nat) (h : PH) (a0 : Nat) (v1 : Int32) (C9 S9 : Nat) (H : Heap) (locs : List Loc) (cells slots : Nat), f_X4_undo_b73 n h a0 v1 = some (r, hh, C9, S9) → cells + C9 = mc ∧ slots + S9 = ms → zM D dA b0 gs s h H locs → ∀ ls : Array Slot, lv_has ls 2 [(0, .ref a0), (1, .int v1)] → W p l e ({ frames := 1, cells := mc, slots := ms, locals := 60 } : Room) s m args below meth c H locs cells slots (MQ below (zQ D dA b0 gs (evI r) hh) args s mc ms (zA b0)) (F0 m 73 ls []) := by
  have hx := hc.x
  have hb := hc.b
  intro n
  induction n with
  | zero =>
    intro h a0 v1 C9 S9 H locs cells slots hf hq hn ls hl
    cases hf
  | succ n ih =>
    intro h a0 v1 C9 S9 H locs cells slots hf hq hn ls hl
    unfold f_X4_undo_b73 at hf
    refine lv_iload_n hx hb dX4_undo_73 rfl (lv_at hl 1 rfl) ?_
    refine lv_bipush (v := (6 : Int32)) hx hb dX4_undo_74 (by decide) ?_
    refine lv_icmp_ge (tgt := 105) hx hb dX4_undo_76 (by decide) (fun c9 => ?_) (fun c9 => ?_)
    · have hf := zif_t c9 hf
      refine lv_aload_n (x := a0) hx hb dX4_undo_105 rfl (lv_at hl 0 rfl) ?_
      refine zr_gI hc hn (ci := 3) rfl rfl in_X4 10 (by decide) q2109 (fun _ h => h) (fun _ _ _ => rfl) hf dX4_undo_106 (fun x101 hf => ?_)
      obtain ⟨rfl, rfl, rfl, rfl⟩ := zret_i hf
      exact zr_iret hc hn hr hq (fun _ _ _ _ q => q) dX4_undo_109
    · have hf := zif_f c9 hf
      refine lv_aload_n (x := a0) hx hb dX4_undo_79 rfl (lv_at hl 0 rfl) ?_
      refine zr_gP hc hn (ci := 3) rfl rfl in_X4 2 (by decide) q2101 (fun _ h => h) (fun _ _ _ => rfl) hf dX4_undo_80 (fun x102 hf => ?_)
      refine lv_iload_n hx hb dX4_undo_83 rfl (lv_at hl 1 rfl) ?_
      refine lv_aload_n (x := a0) hx hb dX4_undo_84 rfl (lv_at hl 0 rfl) ?_
      refine zr_gP hc hn (ci := 3) rfl rfl in_X4 4 (by decide) q2103 (fun _ h => h) (fun _ _ _ => rfl) hf dX4_undo_85 (fun x103 hf => ?_)
      refine lv_bipush (v := (6 : Int32)) hx hb dX4_undo_88 (by decide) ?_
      refine lv_aload_n (x := a0) hx hb dX4_undo_90 rfl (lv_at hl 0 rfl) ?_
      refine zr_gI hc hn (ci := 3) rfl rfl in_X4 10 (by decide) q2109 (fun _ h => h) (fun _ _ _ => rfl) hf dX4_undo_91 (fun x104 hf => ?_)
      refine lv_imul hx hb dX4_undo_94 ?_
      refine zr_nmI hf (fun x105 hf => ?_)
      refine lv_iload_n hx hb dX4_undo_95 rfl (lv_at hl 1 rfl) ?_
      refine lv_iadd hx hb dX4_undo_96 ?_
      refine zr_nmI hf (fun x106 hf => ?_)
      obtain ⟨a107, e9, hf9⟩ := znn_i hf
      subst e9
      have hf := hf9
      clear hf9
      refine zr_aL hc hn hf dX4_undo_97 (fun x108 hf => ?_)
      obtain ⟨a109, e9, hf9⟩ := znn_i hf
      subst e9
      have hf := hf9
      clear hf9
      refine zr_sL hc hn hf dX4_undo_98 (fun h110 H locs hf hn => ?_)
      obtain ⟨x111, ex111, hf⟩ := znm_i hf
      refine lv_iinc (v := x111) (lv' := [(1, .int x111), (0, .ref a0)]) hx hb dX4_undo_99 hl (k := 1) rfl (by rw [ex111]; rfl) (by decide) rfl (fun ls hl => ?_)
      refine lv_goto (tgt := 73) hx hb dX4_undo_102 (by decide) ?_
      exact ih h110 a0 x111 _ _ _ _ _ _ hf hq hn _ (lv_sub hl [1, 0] rfl)
set_option maxHeartbeats 4000000 in
set_option maxRecDepth 100000 in
theorem m_X4_undo_b37 {p : Program} {l : Launch} {e : Env} {s : State} {m : MethodId} {args : Array Value} {below : List Frame} {meth : Method} {c : Code} {D : va_G} {dA : Nat → ClassId} {b0 : Nat} {gs : Nat → Option Nat} (hc : zC D dA b0 gs yX4_undo.cls cX4_undo 2 p c s m args meth) (hr : meth.sig.returnType = (some .int)) (hin : meth.name = yX4_undo.name) {r : Int32} {hh : PH} {mc ms : Nat} : ∀ (n : Nat) (h : PH) (a0 : Nat) (v1 : Int32) (C9 S9 : Nat) (H : Heap) (locs : List Loc) (cells slots : Nat), f_X4_undo_b37 n h a0 v1 = some (r, hh, C9, S9) → cells + C9 = mc ∧ slots + S9 = ms → zM D dA b0 gs s h H locs → ∀ ls : Array Slot, lv_has ls 2 [(0, .ref a0), (1, .int v1)] → W p l e ({ frames := 1, cells := mc, slots := ms, locals := 60 } : Room) s m args below meth c H locs cells slots (MQ below (zQ D dA b0 gs (evI r) hh) args s mc ms (zA b0)) (F0 m 37 ls []) := by
  have hx := hc.x
  have hb := hc.b
  intro n
  induction n with
  | zero =>
    intro h a0 v1 C9 S9 H locs cells slots hf hq hn ls hl
    cases hf
  | succ n ih =>
    intro h a0 v1 C9 S9 H locs cells slots hf hq hn ls hl
    unfold f_X4_undo_b37 at hf
    refine lv_iload_n hx hb dX4_undo_37 rfl (lv_at hl 1 rfl) ?_
    refine lv_sipush (v := (4100 : Int32)) hx hb dX4_undo_38 (by decide) ?_
    refine lv_icmp_ge (tgt := 71) hx hb dX4_undo_41 (by decide) (fun c9 => ?_) (fun c9 => ?_)
    · have hf := zif_t c9 hf
      refine lv_iconst (v := (0 : Int32)) hx hb dX4_undo_71 (by decide) ?_
      refine lv_istore_n (i := 1) (lv' := [(1, .int (0 : Int32)), (0, .ref a0)]) hx hb dX4_undo_72 rfl hl (by decide) rfl (fun ls hl => ?_)
      exact m_X4_undo_b73 hc hr hin zFU h a0 (0 : Int32) _ _ _ _ _ _ hf hq hn _ (lv_sub hl [1, 0] rfl)
    · have hf := zif_f c9 hf
      refine lv_aload_n (x := a0) hx hb dX4_undo_44 rfl (lv_at hl 0 rfl) ?_
      refine zr_gP hc hn (ci := 3) rfl rfl in_X4 1 (by decide) q2100 (fun _ h => h) (fun _ _ _ => rfl) hf dX4_undo_45 (fun x101 hf => ?_)
      refine lv_iload_n hx hb dX4_undo_48 rfl (lv_at hl 1 rfl) ?_
      refine lv_aload_n (x := a0) hx hb dX4_undo_49 rfl (lv_at hl 0 rfl) ?_
      refine zr_gP hc hn (ci := 3) rfl rfl in_X4 3 (by decide) q2102 (fun _ h => h) (fun _ _ _ => rfl) hf dX4_undo_50 (fun x102 hf => ?_)
      refine lv_sipush (v := (4100 : Int32)) hx hb dX4_undo_53 (by decide) ?_
      refine lv_aload_n (x := a0) hx hb dX4_undo_56 rfl (lv_at hl 0 rfl) ?_
      refine zr_gI hc hn (ci := 3) rfl rfl in_X4 10 (by decide) q2109 (fun _ h => h) (fun _ _ _ => rfl) hf dX4_undo_57 (fun x103 hf => ?_)
      refine lv_imul hx hb dX4_undo_60 ?_
      refine zr_nmI hf (fun x104 hf => ?_)
      refine lv_iload_n hx hb dX4_undo_61 rfl (lv_at hl 1 rfl) ?_
      refine lv_iadd hx hb dX4_undo_62 ?_
      refine zr_nmI hf (fun x105 hf => ?_)
      obtain ⟨a106, e9, hf9⟩ := znn_i hf
      subst e9
      have hf := hf9
      clear hf9
      refine zr_aI0 hc hn hf dX4_undo_63 (fun x107 hf => ?_)
      obtain ⟨a108, e9, hf9⟩ := znn_i hf
      subst e9
      have hf := hf9
      clear hf9
      refine zr_sI hc hn hf dX4_undo_64 (fun h109 H locs hf hn => ?_)
      obtain ⟨x110, ex110, hf⟩ := znm_i hf
      refine lv_iinc (v := x110) (lv' := [(1, .int x110), (0, .ref a0)]) hx hb dX4_undo_65 hl (k := 1) rfl (by rw [ex110]; rfl) (by decide) rfl (fun ls hl => ?_)
      refine lv_goto (tgt := 37) hx hb dX4_undo_68 (by decide) ?_
      exact ih h109 a0 x110 _ _ _ _ _ _ hf hq hn _ (lv_sub hl [1, 0] rfl)
set_option maxHeartbeats 4000000 in
set_option maxRecDepth 100000 in
theorem m_X4_undo_b13 {p : Program} {l : Launch} {e : Env} {s : State} {m : MethodId} {args : Array Value} {below : List Frame} {meth : Method} {c : Code} {D : va_G} {dA : Nat → ClassId} {b0 : Nat} {gs : Nat → Option Nat} (hc : zC D dA b0 gs yX4_undo.cls cX4_undo 2 p c s m args meth) (hr : meth.sig.returnType = (some .int)) (hin : meth.name = yX4_undo.name) {r : Int32} {hh : PH} {mc ms : Nat} : ∀ (h : PH) (a0 : Nat) (s0 : Nat) (s1 : Int32) (C9 S9 : Nat) (H : Heap) (locs : List Loc) (cells slots : Nat), f_X4_undo_b13 h a0 s0 s1 = some (r, hh, C9, S9) → cells + C9 = mc ∧ slots + S9 = ms → zM D dA b0 gs s h H locs → ∀ ls : Array Slot, lv_has ls 2 [(0, .ref a0)] → W p l e ({ frames := 1, cells := mc, slots := ms, locals := 60 } : Room) s m args below meth c H locs cells slots (MQ below (zQ D dA b0 gs (evI r) hh) args s mc ms (zA b0)) (F0 m 13 ls [.int s1, .ref s0]) := by
  have hx := hc.x
  have hb := hc.b
  intro h a0 s0 s1 C9 S9 H locs cells slots hf hq hn ls hl
  unfold f_X4_undo_b13 at hf
  refine zr_pI (x := s1) hc hn (ci := 3) rfl rfl in_X4 0 (by decide) tyX4 tyX4_ok nmX4 q2099 (fun _ h => h) (Or.inl rfl) (fun _ _ _ => rfl) rfl rfl hf dX4_undo_13 (fun h101 H locs hf hn => ?_)
  refine lv_aload_n (x := a0) hx hb dX4_undo_16 rfl (lv_at hl 0 rfl) ?_
  refine zr_gI hc hn (ci := 3) rfl rfl in_X4 0 (by decide) q2099 (fun _ h => h) (fun _ _ _ => rfl) hf dX4_undo_17 (fun x102 hf => ?_)
  refine lv_if_le (tgt := 25) hx hb dX4_undo_20 (by decide) (fun c9 => ?_) (fun c9 => ?_)
  · have hf := zif_t c9 hf
    refine lv_aload_n (x := a0) hx hb dX4_undo_25 rfl (lv_at hl 0 rfl) ?_
    refine lv_dup hx hb dX4_undo_26 rfl ?_
    refine zr_gI hc hn (ci := 3) rfl rfl in_X4 10 (by decide) q2109 (fun _ h => h) (fun _ _ _ => rfl) hf dX4_undo_27 (fun x103 hf => ?_)
    refine lv_iconst (v := (1 : Int32)) hx hb dX4_undo_30 (by decide) ?_
    refine lv_isub hx hb dX4_undo_31 ?_
    refine zr_nmI hf (fun x104 hf => ?_)
    refine zr_pI (x := x104) hc hn (ci := 3) rfl rfl in_X4 10 (by decide) tyX4 tyX4_ok nmX4 q2109 (fun _ h => h) (Or.inl rfl) (fun _ _ _ => rfl) rfl rfl hf dX4_undo_32 (fun h105 H locs hf hn => ?_)
    refine lv_iconst (v := (0 : Int32)) hx hb dX4_undo_35 (by decide) ?_
    refine lv_istore_n (i := 1) (lv' := [(1, .int (0 : Int32)), (0, .ref a0)]) hx hb dX4_undo_36 rfl hl (by decide) rfl (fun ls hl => ?_)
    exact m_X4_undo_b37 hc hr hin zFU h105 a0 (0 : Int32) _ _ _ _ _ _ hf hq hn _ (lv_sub hl [1, 0] rfl)
  · have hf := zif_f c9 hf
    refine lv_iconst (v := (0 : Int32)) hx hb dX4_undo_23 (by decide) ?_
    obtain ⟨rfl, rfl, rfl, rfl⟩ := zret_i hf
    exact zr_iret hc hn hr hq (fun _ _ _ _ q => q) dX4_undo_24
set_option maxHeartbeats 4000000 in
set_option maxRecDepth 100000 in
theorem m_X4_undo (l : Launch) (D : va_G) (dA : Nat → ClassId) (b0 : Nat) (gs : Nat → Option Nat) (h : PH) (a0 : Nat) {r : Int32} {hh : PH} {mc ms : Nat} (hf : f_X4_undo h a0 = some (r, hh, mc, ms)) : zMt l D dA b0 gs yX4_undo cX4_undo 2 (some .int) 1 60 [.ref a0] h (evI r) hh mc ms := by
  unfold f_X4_undo at hf
  refine zMt.of (by decide) (Nat.le_of_ble_eq_true rfl) ?_
  intro p e s m args below meth c hc hr hin hn ls hl
  have hl : lv_has ls 2 [(0, .ref a0)] := hl
  have hq : 0 + mc = mc ∧ 0 + ms = ms := ⟨Nat.zero_add _, Nat.zero_add _⟩
  have hx := hc.x
  have hb := hc.b
  refine lv_aload_n (x := a0) hx hb dX4_undo_0 rfl (lv_at hl 0 rfl) ?_
  refine lv_aload_n (x := a0) hx hb dX4_undo_1 rfl (lv_at hl 0 rfl) ?_
  refine zr_gI hc hn (ci := 3) rfl rfl in_X4 10 (by decide) q2109 (fun _ h => h) (fun _ _ _ => rfl) hf dX4_undo_2 (fun x101 hf => ?_)
  refine lv_if_le (tgt := 12) hx hb dX4_undo_5 (by decide) (fun c9 => ?_) (fun c9 => ?_)
  · have hf := zif_t c9 hf
    refine lv_iconst (v := (1 : Int32)) hx hb dX4_undo_12 (by decide) ?_
    exact m_X4_undo_b13 hc hr hin h a0 a0 (1 : Int32) _ _ _ _ _ _ hf hq hn _ (lv_sub hl [0] rfl)
  · have hf := zif_f c9 hf
    refine lv_iconst (v := (0 : Int32)) hx hb dX4_undo_8 (by decide) ?_
    refine lv_goto (tgt := 13) hx hb dX4_undo_9 (by decide) ?_
    exact m_X4_undo_b13 hc hr hin h a0 a0 (0 : Int32) _ _ _ _ _ _ hf hq hn _ (lv_sub hl [0] rfl)
theorem hd_X4_save : yX4_save.cls ≠ "java/lang/invoke/MethodHandle" ∧ yX4_save.cls ≠ "java/lang/invoke/VarHandle" ∧ (parseMethodDescriptor yX4_save.desc).map (fun d => d.parameters.length) = some 1 := by decide +kernel
def f_X4_save_b62 : Nat → PH → Nat → Int32 → Int32 → ZR Unit
  | 0 => fun _ _ _ _ => none
  | n + 1 => fun h a0 v1 v2 =>
    if (6 : Int32) ≤ v2 then
      (zgP h a0 3 9 fun x101 =>
      znn x101 fun a102 =>
      zsZ h a102 v1 (1 : Int32) fun h103 =>
      zret () h103)
    else
      (zgP h a0 3 6 fun x104 =>
      znm ((6 : Int32) * v1) fun x105 =>
      znm (x105 + v2) fun x106 =>
      zgP h a0 3 2 fun x107 =>
      znn x107 fun a108 =>
      zaL h a108 3 v2 fun x109 =>
      znn x104 fun a110 =>
      zsL h a110 3 x106 x109 fun h111 =>
      znm (v2 + (1 : Int32)) fun x112 =>
      f_X4_save_b62 n h111 a0 v1 x112)
def f_X4_save_b29 : Nat → PH → Nat → Int32 → Int32 → ZR Unit
  | 0 => fun _ _ _ _ => none
  | n + 1 => fun h a0 v1 v2 =>
    if (4100 : Int32) ≤ v2 then
      (f_X4_save_b62 zFU h a0 v1 (0 : Int32))
    else
      (zgP h a0 3 5 fun x101 =>
      znm ((4100 : Int32) * v1) fun x102 =>
      znm (x102 + v2) fun x103 =>
      zgP h a0 3 1 fun x104 =>
      znn x104 fun a105 =>
      zaI h a105 0 v2 fun x106 =>
      znn x101 fun a107 =>
      zsI h a107 0 x103 x106 fun h108 =>
      znm (v2 + (1 : Int32)) fun x109 =>
      f_X4_save_b29 n h108 a0 v1 x109)
def f_X4_save_b16 (h : PH) (a0 : Nat) (v1 : Int32) (s0 : Nat) (s1 : Int32) : ZR Unit :=
  zpI h s0 3 0 s1 fun h101 =>
  zgI h101 a0 3 0 fun x102 =>
  if x102 ≤ 0 then
    (f_X4_save_b29 zFU h101 a0 v1 (0 : Int32))
  else
    (zret () h101)
def f_X4_save (h : PH) (a0 : Nat) (v1 : Int32) : ZR Unit :=
  znm v1.toInt64 fun x101 =>
  zcl (f_X4_in h x101 (0 : Int64) (1 : Int64)) fun x102 h103 =>
  if x102 = 0 then
    (f_X4_save_b16 h103 a0 v1 a0 (1 : Int32))
  else
    (f_X4_save_b16 h103 a0 v1 a0 (0 : Int32))
set_option maxHeartbeats 4000000 in
set_option maxRecDepth 100000 in
theorem m_X4_save_b62 {p : Program} {l : Launch} {e : Env} {s : State} {m : MethodId} {args : Array Value} {below : List Frame} {meth : Method} {c : Code} {D : va_G} {dA : Nat → ClassId} {b0 : Nat} {gs : Nat → Option Nat} (hc : zC D dA b0 gs yX4_save.cls cX4_save 3 p c s m args meth) (hr : meth.sig.returnType = none) (hin : meth.name = yX4_save.name) {r : Unit} {hh : PH} {mc ms : Nat} : ∀ (n : Nat) (h : PH) (a0 : Nat) (v1 : Int32) (v2 : Int32) (C9 S9 : Nat) (H : Heap) (locs : List Loc) (cells slots : Nat), f_X4_save_b62 n h a0 v1 v2 = some (r, hh, C9, S9) → cells + C9 = mc ∧ slots + S9 = ms → zM D dA b0 gs s h H locs → ∀ ls : Array Slot, lv_has ls 3 [(0, .ref a0), (1, .int v1), (2, .int v2)] → W p l e ({ frames := 2, cells := mc, slots := ms, locals := 85 } : Room) s m args below meth c H locs cells slots (MQ below (zQ D dA b0 gs (evU r) hh) args s mc ms (zA b0)) (F0 m 62 ls []) := by
  have hx := hc.x
  have hb := hc.b
  intro n
  induction n with
  | zero =>
    intro h a0 v1 v2 C9 S9 H locs cells slots hf hq hn ls hl
    cases hf
  | succ n ih =>
    intro h a0 v1 v2 C9 S9 H locs cells slots hf hq hn ls hl
    unfold f_X4_save_b62 at hf
    refine lv_iload_n hx hb dX4_save_62 rfl (lv_at hl 2 rfl) ?_
    refine lv_bipush (v := (6 : Int32)) hx hb dX4_save_63 (by decide) ?_
    refine lv_icmp_ge (tgt := 91) hx hb dX4_save_65 (by decide) (fun c9 => ?_) (fun c9 => ?_)
    · have hf := zif_t c9 hf
      refine lv_aload_n (x := a0) hx hb dX4_save_91 rfl (lv_at hl 0 rfl) ?_
      refine zr_gP hc hn (ci := 3) rfl rfl in_X4 9 (by decide) q2108 (fun _ h => h) (fun _ _ _ => rfl) hf dX4_save_92 (fun x101 hf => ?_)
      refine lv_iload_n hx hb dX4_save_95 rfl (lv_at hl 1 rfl) ?_
      refine lv_iconst (v := (1 : Int32)) hx hb dX4_save_96 (by decide) ?_
      obtain ⟨a102, e9, hf9⟩ := znn_i hf
      subst e9
      have hf := hf9
      clear hf9
      refine zr_sZ hc hn hf dX4_save_97 (fun h103 H locs hf hn => ?_)
      obtain ⟨rfl, rfl, rfl, rfl⟩ := zret_i hf
      exact zr_vret hc hn hr hq (fun _ _ _ _ q => q) dX4_save_98
    · have hf := zif_f c9 hf
      refine lv_aload_n (x := a0) hx hb dX4_save_68 rfl (lv_at hl 0 rfl) ?_
      refine zr_gP hc hn (ci := 3) rfl rfl in_X4 6 (by decide) q2105 (fun _ h => h) (fun _ _ _ => rfl) hf dX4_save_69 (fun x104 hf => ?_)
      refine lv_bipush (v := (6 : Int32)) hx hb dX4_save_72 (by decide) ?_
      refine lv_iload_n hx hb dX4_save_74 rfl (lv_at hl 1 rfl) ?_
      refine lv_imul hx hb dX4_save_75 ?_
      refine zr_nmI hf (fun x105 hf => ?_)
      refine lv_iload_n hx hb dX4_save_76 rfl (lv_at hl 2 rfl) ?_
      refine lv_iadd hx hb dX4_save_77 ?_
      refine zr_nmI hf (fun x106 hf => ?_)
      refine lv_aload_n (x := a0) hx hb dX4_save_78 rfl (lv_at hl 0 rfl) ?_
      refine zr_gP hc hn (ci := 3) rfl rfl in_X4 2 (by decide) q2101 (fun _ h => h) (fun _ _ _ => rfl) hf dX4_save_79 (fun x107 hf => ?_)
      refine lv_iload_n hx hb dX4_save_82 rfl (lv_at hl 2 rfl) ?_
      obtain ⟨a108, e9, hf9⟩ := znn_i hf
      subst e9
      have hf := hf9
      clear hf9
      refine zr_aL hc hn hf dX4_save_83 (fun x109 hf => ?_)
      obtain ⟨a110, e9, hf9⟩ := znn_i hf
      subst e9
      have hf := hf9
      clear hf9
      refine zr_sL hc hn hf dX4_save_84 (fun h111 H locs hf hn => ?_)
      obtain ⟨x112, ex112, hf⟩ := znm_i hf
      refine lv_iinc (v := x112) (lv' := [(2, .int x112), (0, .ref a0), (1, .int v1)]) hx hb dX4_save_85 hl (k := 2) rfl (by rw [ex112]; rfl) (by decide) rfl (fun ls hl => ?_)
      refine lv_goto (tgt := 62) hx hb dX4_save_88 (by decide) ?_
      exact ih h111 a0 v1 x112 _ _ _ _ _ _ hf hq hn _ (lv_sub hl [1, 2, 0] rfl)
set_option maxHeartbeats 4000000 in
set_option maxRecDepth 100000 in
theorem m_X4_save_b29 {p : Program} {l : Launch} {e : Env} {s : State} {m : MethodId} {args : Array Value} {below : List Frame} {meth : Method} {c : Code} {D : va_G} {dA : Nat → ClassId} {b0 : Nat} {gs : Nat → Option Nat} (hc : zC D dA b0 gs yX4_save.cls cX4_save 3 p c s m args meth) (hr : meth.sig.returnType = none) (hin : meth.name = yX4_save.name) {r : Unit} {hh : PH} {mc ms : Nat} : ∀ (n : Nat) (h : PH) (a0 : Nat) (v1 : Int32) (v2 : Int32) (C9 S9 : Nat) (H : Heap) (locs : List Loc) (cells slots : Nat), f_X4_save_b29 n h a0 v1 v2 = some (r, hh, C9, S9) → cells + C9 = mc ∧ slots + S9 = ms → zM D dA b0 gs s h H locs → ∀ ls : Array Slot, lv_has ls 3 [(0, .ref a0), (1, .int v1), (2, .int v2)] → W p l e ({ frames := 2, cells := mc, slots := ms, locals := 85 } : Room) s m args below meth c H locs cells slots (MQ below (zQ D dA b0 gs (evU r) hh) args s mc ms (zA b0)) (F0 m 29 ls []) := by
  have hx := hc.x
  have hb := hc.b
  intro n
  induction n with
  | zero =>
    intro h a0 v1 v2 C9 S9 H locs cells slots hf hq hn ls hl
    cases hf
  | succ n ih =>
    intro h a0 v1 v2 C9 S9 H locs cells slots hf hq hn ls hl
    unfold f_X4_save_b29 at hf
    refine lv_iload_n hx hb dX4_save_29 rfl (lv_at hl 2 rfl) ?_
    refine lv_sipush (v := (4100 : Int32)) hx hb dX4_save_30 (by decide) ?_
    refine lv_icmp_ge (tgt := 60) hx hb dX4_save_33 (by decide) (fun c9 => ?_) (fun c9 => ?_)
    · have hf := zif_t c9 hf
      refine lv_iconst (v := (0 : Int32)) hx hb dX4_save_60 (by decide) ?_
      refine lv_istore_n (i := 2) (lv' := [(2, .int (0 : Int32)), (0, .ref a0), (1, .int v1)]) hx hb dX4_save_61 rfl hl (by decide) rfl (fun ls hl => ?_)
      exact m_X4_save_b62 hc hr hin zFU h a0 v1 (0 : Int32) _ _ _ _ _ _ hf hq hn _ (lv_sub hl [1, 2, 0] rfl)
    · have hf := zif_f c9 hf
      refine lv_aload_n (x := a0) hx hb dX4_save_36 rfl (lv_at hl 0 rfl) ?_
      refine zr_gP hc hn (ci := 3) rfl rfl in_X4 5 (by decide) q2104 (fun _ h => h) (fun _ _ _ => rfl) hf dX4_save_37 (fun x101 hf => ?_)
      refine lv_sipush (v := (4100 : Int32)) hx hb dX4_save_40 (by decide) ?_
      refine lv_iload_n hx hb dX4_save_43 rfl (lv_at hl 1 rfl) ?_
      refine lv_imul hx hb dX4_save_44 ?_
      refine zr_nmI hf (fun x102 hf => ?_)
      refine lv_iload_n hx hb dX4_save_45 rfl (lv_at hl 2 rfl) ?_
      refine lv_iadd hx hb dX4_save_46 ?_
      refine zr_nmI hf (fun x103 hf => ?_)
      refine lv_aload_n (x := a0) hx hb dX4_save_47 rfl (lv_at hl 0 rfl) ?_
      refine zr_gP hc hn (ci := 3) rfl rfl in_X4 1 (by decide) q2100 (fun _ h => h) (fun _ _ _ => rfl) hf dX4_save_48 (fun x104 hf => ?_)
      refine lv_iload_n hx hb dX4_save_51 rfl (lv_at hl 2 rfl) ?_
      obtain ⟨a105, e9, hf9⟩ := znn_i hf
      subst e9
      have hf := hf9
      clear hf9
      refine zr_aI0 hc hn hf dX4_save_52 (fun x106 hf => ?_)
      obtain ⟨a107, e9, hf9⟩ := znn_i hf
      subst e9
      have hf := hf9
      clear hf9
      refine zr_sI hc hn hf dX4_save_53 (fun h108 H locs hf hn => ?_)
      obtain ⟨x109, ex109, hf⟩ := znm_i hf
      refine lv_iinc (v := x109) (lv' := [(2, .int x109), (0, .ref a0), (1, .int v1)]) hx hb dX4_save_54 hl (k := 2) rfl (by rw [ex109]; rfl) (by decide) rfl (fun ls hl => ?_)
      refine lv_goto (tgt := 29) hx hb dX4_save_57 (by decide) ?_
      exact ih h108 a0 v1 x109 _ _ _ _ _ _ hf hq hn _ (lv_sub hl [1, 2, 0] rfl)
set_option maxHeartbeats 4000000 in
set_option maxRecDepth 100000 in
theorem m_X4_save_b16 {p : Program} {l : Launch} {e : Env} {s : State} {m : MethodId} {args : Array Value} {below : List Frame} {meth : Method} {c : Code} {D : va_G} {dA : Nat → ClassId} {b0 : Nat} {gs : Nat → Option Nat} (hc : zC D dA b0 gs yX4_save.cls cX4_save 3 p c s m args meth) (hr : meth.sig.returnType = none) (hin : meth.name = yX4_save.name) {r : Unit} {hh : PH} {mc ms : Nat} : ∀ (h : PH) (a0 : Nat) (v1 : Int32) (s0 : Nat) (s1 : Int32) (C9 S9 : Nat) (H : Heap) (locs : List Loc) (cells slots : Nat), f_X4_save_b16 h a0 v1 s0 s1 = some (r, hh, C9, S9) → cells + C9 = mc ∧ slots + S9 = ms → zM D dA b0 gs s h H locs → ∀ ls : Array Slot, lv_has ls 3 [(0, .ref a0), (1, .int v1)] → W p l e ({ frames := 2, cells := mc, slots := ms, locals := 85 } : Room) s m args below meth c H locs cells slots (MQ below (zQ D dA b0 gs (evU r) hh) args s mc ms (zA b0)) (F0 m 16 ls [.int s1, .ref s0]) := by
  have hx := hc.x
  have hb := hc.b
  intro h a0 v1 s0 s1 C9 S9 H locs cells slots hf hq hn ls hl
  unfold f_X4_save_b16 at hf
  refine zr_pI (x := s1) hc hn (ci := 3) rfl rfl in_X4 0 (by decide) tyX4 tyX4_ok nmX4 q2099 (fun _ h => h) (Or.inl rfl) (fun _ _ _ => rfl) rfl rfl hf dX4_save_16 (fun h101 H locs hf hn => ?_)
  refine lv_aload_n (x := a0) hx hb dX4_save_19 rfl (lv_at hl 0 rfl) ?_
  refine zr_gI hc hn (ci := 3) rfl rfl in_X4 0 (by decide) q2099 (fun _ h => h) (fun _ _ _ => rfl) hf dX4_save_20 (fun x102 hf => ?_)
  refine lv_if_le (tgt := 27) hx hb dX4_save_23 (by decide) (fun c9 => ?_) (fun c9 => ?_)
  · have hf := zif_t c9 hf
    refine lv_iconst (v := (0 : Int32)) hx hb dX4_save_27 (by decide) ?_
    refine lv_istore_n (i := 2) (lv' := [(2, .int (0 : Int32)), (0, .ref a0), (1, .int v1)]) hx hb dX4_save_28 rfl hl (by decide) rfl (fun ls hl => ?_)
    exact m_X4_save_b29 hc hr hin zFU h101 a0 v1 (0 : Int32) _ _ _ _ _ _ hf hq hn _ (lv_sub hl [1, 2, 0] rfl)
  · have hf := zif_f c9 hf
    obtain ⟨rfl, rfl, rfl, rfl⟩ := zret_i hf
    exact zr_vret hc hn hr hq (fun _ _ _ _ q => q) dX4_save_26
set_option maxHeartbeats 4000000 in
set_option maxRecDepth 100000 in
theorem m_X4_save (l : Launch) (D : va_G) (dA : Nat → ClassId) (b0 : Nat) (gs : Nat → Option Nat) (h : PH) (a0 : Nat) (v1 : Int32) {r : Unit} {hh : PH} {mc ms : Nat} (hf : f_X4_save h a0 v1 = some (r, hh, mc, ms)) : zMt l D dA b0 gs yX4_save cX4_save 3 none 2 85 [.ref a0, .int v1] h (evU r) hh mc ms := by
  unfold f_X4_save at hf
  refine zMt.of (by decide) (Nat.le_of_ble_eq_true rfl) ?_
  intro p e s m args below meth c hc hr hin hn ls hl
  have hl : lv_has ls 3 [(0, .ref a0), (1, .int v1)] := hl
  have hq : 0 + mc = mc ∧ 0 + ms = ms := ⟨Nat.zero_add _, Nat.zero_add _⟩
  have hx := hc.x
  have hb := hc.b
  refine lv_aload_n (x := a0) hx hb dX4_save_0 rfl (lv_at hl 0 rfl) ?_
  refine lv_iload_n hx hb dX4_save_1 rfl (lv_at hl 1 rfl) ?_
  refine lv_i2l (v := v1.toInt64) hx hb dX4_save_2 rfl ?_
  refine zr_nmL hf (fun x101 hf => ?_)
  refine lv_lconst (v := (0 : Int64)) hx hb dX4_save_3 (by decide) ?_
  refine lv_lconst (v := (1 : Int64)) hx hb dX4_save_4 (by decide) ?_
  refine zr_cSI (As := [.long x101, .long (0 : Int64), .long (1 : Int64)]) (rest := [.ref a0]) hc hn hq hd_X4_in (lw_S q2211 q2212 q91 q2213) (Nat.le_of_ble_eq_true rfl) (Nat.le_of_ble_eq_true rfl) (fun _ _ _ _ q => m_X4_in l D dA b0 gs h x101 (0 : Int64) (1 : Int64) q) hf dX4_save_5 hl.1 rfl rfl (zroom (Nat.le_of_ble_eq_true rfl)) (fun x102 h103 H locs cells slots C9 S9 hf hq hn => ?_)
  refine lv_if_eq (tgt := 15) hx hb dX4_save_8 (by decide) (fun c9 => ?_) (fun c9 => ?_)
  · have hf := zif_t c9 hf
    refine lv_iconst (v := (1 : Int32)) hx hb dX4_save_15 (by decide) ?_
    exact m_X4_save_b16 hc hr hin h103 a0 v1 a0 (1 : Int32) _ _ _ _ _ _ hf hq hn _ (lv_sub hl [0, 1] rfl)
  · have hf := zif_f c9 hf
    refine lv_iconst (v := (0 : Int32)) hx hb dX4_save_11 (by decide) ?_
    refine lv_goto (tgt := 16) hx hb dX4_save_12 (by decide) ?_
    exact m_X4_save_b16 hc hr hin h103 a0 v1 a0 (0 : Int32) _ _ _ _ _ _ hf hq hn _ (lv_sub hl [0, 1] rfl)
theorem hd_X4_restore : yX4_restore.cls ≠ "java/lang/invoke/MethodHandle" ∧ yX4_restore.cls ≠ "java/lang/invoke/VarHandle" ∧ (parseMethodDescriptor yX4_restore.desc).map (fun d => d.parameters.length) = some 1 := by decide +kernel
def f_X4_restore_b75 : Nat → PH → Nat → Int32 → Int32 → ZR Unit
  | 0 => fun _ _ _ _ => none
  | n + 1 => fun h a0 v1 v2 =>
    if (6 : Int32) ≤ v2 then
      (zpI h a0 3 10 (0 : Int32) fun h101 =>
      zret () h101)
    else
      (zgP h a0 3 2 fun x102 =>
      zgP h a0 3 6 fun x103 =>
      znm ((6 : Int32) * v1) fun x104 =>
      znm (x104 + v2) fun x105 =>
      znn x103 fun a106 =>
      zaL h a106 3 x105 fun x107 =>
      znn x102 fun a108 =>
      zsL h a108 3 v2 x107 fun h109 =>
      znm (v2 + (1 : Int32)) fun x110 =>
      f_X4_restore_b75 n h109 a0 v1 x110)
def f_X4_restore_b42 : Nat → PH → Nat → Int32 → Int32 → ZR Unit
  | 0 => fun _ _ _ _ => none
  | n + 1 => fun h a0 v1 v2 =>
    if (4100 : Int32) ≤ v2 then
      (f_X4_restore_b75 zFU h a0 v1 (0 : Int32))
    else
      (zgP h a0 3 1 fun x101 =>
      zgP h a0 3 5 fun x102 =>
      znm ((4100 : Int32) * v1) fun x103 =>
      znm (x103 + v2) fun x104 =>
      znn x102 fun a105 =>
      zaI h a105 0 x104 fun x106 =>
      znn x101 fun a107 =>
      zsI h a107 0 v2 x106 fun h108 =>
      znm (v2 + (1 : Int32)) fun x109 =>
      f_X4_restore_b42 n h108 a0 v1 x109)
def f_X4_restore_b29 (h : PH) (a0 : Nat) (v1 : Int32) (s0 : Nat) (s1 : Int32) : ZR Unit :=
  zpI h s0 3 0 s1 fun h101 =>
  zgI h101 a0 3 0 fun x102 =>
  if x102 ≤ 0 then
    (f_X4_restore_b42 zFU h101 a0 v1 (0 : Int32))
  else
    (zret () h101)
def f_X4_restore (h : PH) (a0 : Nat) (v1 : Int32) : ZR Unit :=
  znm v1.toInt64 fun x101 =>
  zcl (f_X4_in h x101 (0 : Int64) (1 : Int64)) fun x102 h103 =>
  if x102 = 0 then
    (f_X4_restore_b29 h103 a0 v1 a0 (1 : Int32))
  else
    (zgP h103 a0 3 9 fun x104 =>
    znn x104 fun a105 =>
    zaI h103 a105 1 v1 fun x106 =>
    if x106 = 0 then
      (f_X4_restore_b29 h103 a0 v1 a0 (2 : Int32))
    else
      (f_X4_restore_b29 h103 a0 v1 a0 (0 : Int32)))
set_option maxHeartbeats 4000000 in
set_option maxRecDepth 100000 in
theorem m_X4_restore_b75 {p : Program} {l : Launch} {e : Env} {s : State} {m : MethodId} {args : Array Value} {below : List Frame} {meth : Method} {c : Code} {D : va_G} {dA : Nat → ClassId} {b0 : Nat} {gs : Nat → Option Nat} (hc : zC D dA b0 gs yX4_restore.cls cX4_restore 3 p c s m args meth) (hr : meth.sig.returnType = none) (hin : meth.name = yX4_restore.name) {r : Unit} {hh : PH} {mc ms : Nat} : ∀ (n : Nat) (h : PH) (a0 : Nat) (v1 : Int32) (v2 : Int32) (C9 S9 : Nat) (H : Heap) (locs : List Loc) (cells slots : Nat), f_X4_restore_b75 n h a0 v1 v2 = some (r, hh, C9, S9) → cells + C9 = mc ∧ slots + S9 = ms → zM D dA b0 gs s h H locs → ∀ ls : Array Slot, lv_has ls 3 [(0, .ref a0), (1, .int v1), (2, .int v2)] → W p l e ({ frames := 2, cells := mc, slots := ms, locals := 85 } : Room) s m args below meth c H locs cells slots (MQ below (zQ D dA b0 gs (evU r) hh) args s mc ms (zA b0)) (F0 m 75 ls []) := by
  have hx := hc.x
  have hb := hc.b
  intro n
  induction n with
  | zero =>
    intro h a0 v1 v2 C9 S9 H locs cells slots hf hq hn ls hl
    cases hf
  | succ n ih =>
    intro h a0 v1 v2 C9 S9 H locs cells slots hf hq hn ls hl
    unfold f_X4_restore_b75 at hf
    refine lv_iload_n hx hb dX4_restore_75 rfl (lv_at hl 2 rfl) ?_
    refine lv_bipush (v := (6 : Int32)) hx hb dX4_restore_76 (by decide) ?_
    refine lv_icmp_ge (tgt := 104) hx hb dX4_restore_78 (by decide) (fun c9 => ?_) (fun c9 => ?_)
    · have hf := zif_t c9 hf
      refine lv_aload_n (x := a0) hx hb dX4_restore_104 rfl (lv_at hl 0 rfl) ?_
      refine lv_iconst (v := (0 : Int32)) hx hb dX4_restore_105 (by decide) ?_
      refine zr_pI (x := (0 : Int32)) hc hn (ci := 3) rfl rfl in_X4 10 (by decide) tyX4 tyX4_ok nmX4 q2109 (fun _ h => h) (Or.inl rfl) (fun _ _ _ => rfl) rfl rfl hf dX4_restore_106 (fun h101 H locs hf hn => ?_)
      obtain ⟨rfl, rfl, rfl, rfl⟩ := zret_i hf
      exact zr_vret hc hn hr hq (fun _ _ _ _ q => q) dX4_restore_109
    · have hf := zif_f c9 hf
      refine lv_aload_n (x := a0) hx hb dX4_restore_81 rfl (lv_at hl 0 rfl) ?_
      refine zr_gP hc hn (ci := 3) rfl rfl in_X4 2 (by decide) q2101 (fun _ h => h) (fun _ _ _ => rfl) hf dX4_restore_82 (fun x102 hf => ?_)
      refine lv_iload_n hx hb dX4_restore_85 rfl (lv_at hl 2 rfl) ?_
      refine lv_aload_n (x := a0) hx hb dX4_restore_86 rfl (lv_at hl 0 rfl) ?_
      refine zr_gP hc hn (ci := 3) rfl rfl in_X4 6 (by decide) q2105 (fun _ h => h) (fun _ _ _ => rfl) hf dX4_restore_87 (fun x103 hf => ?_)
      refine lv_bipush (v := (6 : Int32)) hx hb dX4_restore_90 (by decide) ?_
      refine lv_iload_n hx hb dX4_restore_92 rfl (lv_at hl 1 rfl) ?_
      refine lv_imul hx hb dX4_restore_93 ?_
      refine zr_nmI hf (fun x104 hf => ?_)
      refine lv_iload_n hx hb dX4_restore_94 rfl (lv_at hl 2 rfl) ?_
      refine lv_iadd hx hb dX4_restore_95 ?_
      refine zr_nmI hf (fun x105 hf => ?_)
      obtain ⟨a106, e9, hf9⟩ := znn_i hf
      subst e9
      have hf := hf9
      clear hf9
      refine zr_aL hc hn hf dX4_restore_96 (fun x107 hf => ?_)
      obtain ⟨a108, e9, hf9⟩ := znn_i hf
      subst e9
      have hf := hf9
      clear hf9
      refine zr_sL hc hn hf dX4_restore_97 (fun h109 H locs hf hn => ?_)
      obtain ⟨x110, ex110, hf⟩ := znm_i hf
      refine lv_iinc (v := x110) (lv' := [(2, .int x110), (0, .ref a0), (1, .int v1)]) hx hb dX4_restore_98 hl (k := 2) rfl (by rw [ex110]; rfl) (by decide) rfl (fun ls hl => ?_)
      refine lv_goto (tgt := 75) hx hb dX4_restore_101 (by decide) ?_
      exact ih h109 a0 v1 x110 _ _ _ _ _ _ hf hq hn _ (lv_sub hl [1, 2, 0] rfl)
set_option maxHeartbeats 4000000 in
set_option maxRecDepth 100000 in
theorem m_X4_restore_b42 {p : Program} {l : Launch} {e : Env} {s : State} {m : MethodId} {args : Array Value} {below : List Frame} {meth : Method} {c : Code} {D : va_G} {dA : Nat → ClassId} {b0 : Nat} {gs : Nat → Option Nat} (hc : zC D dA b0 gs yX4_restore.cls cX4_restore 3 p c s m args meth) (hr : meth.sig.returnType = none) (hin : meth.name = yX4_restore.name) {r : Unit} {hh : PH} {mc ms : Nat} : ∀ (n : Nat) (h : PH) (a0 : Nat) (v1 : Int32) (v2 : Int32) (C9 S9 : Nat) (H : Heap) (locs : List Loc) (cells slots : Nat), f_X4_restore_b42 n h a0 v1 v2 = some (r, hh, C9, S9) → cells + C9 = mc ∧ slots + S9 = ms → zM D dA b0 gs s h H locs → ∀ ls : Array Slot, lv_has ls 3 [(0, .ref a0), (1, .int v1), (2, .int v2)] → W p l e ({ frames := 2, cells := mc, slots := ms, locals := 85 } : Room) s m args below meth c H locs cells slots (MQ below (zQ D dA b0 gs (evU r) hh) args s mc ms (zA b0)) (F0 m 42 ls []) := by
  have hx := hc.x
  have hb := hc.b
  intro n
  induction n with
  | zero =>
    intro h a0 v1 v2 C9 S9 H locs cells slots hf hq hn ls hl
    cases hf
  | succ n ih =>
    intro h a0 v1 v2 C9 S9 H locs cells slots hf hq hn ls hl
    unfold f_X4_restore_b42 at hf
    refine lv_iload_n hx hb dX4_restore_42 rfl (lv_at hl 2 rfl) ?_
    refine lv_sipush (v := (4100 : Int32)) hx hb dX4_restore_43 (by decide) ?_
    refine lv_icmp_ge (tgt := 73) hx hb dX4_restore_46 (by decide) (fun c9 => ?_) (fun c9 => ?_)
    · have hf := zif_t c9 hf
      refine lv_iconst (v := (0 : Int32)) hx hb dX4_restore_73 (by decide) ?_
      refine lv_istore_n (i := 2) (lv' := [(2, .int (0 : Int32)), (0, .ref a0), (1, .int v1)]) hx hb dX4_restore_74 rfl hl (by decide) rfl (fun ls hl => ?_)
      exact m_X4_restore_b75 hc hr hin zFU h a0 v1 (0 : Int32) _ _ _ _ _ _ hf hq hn _ (lv_sub hl [1, 2, 0] rfl)
    · have hf := zif_f c9 hf
      refine lv_aload_n (x := a0) hx hb dX4_restore_49 rfl (lv_at hl 0 rfl) ?_
      refine zr_gP hc hn (ci := 3) rfl rfl in_X4 1 (by decide) q2100 (fun _ h => h) (fun _ _ _ => rfl) hf dX4_restore_50 (fun x101 hf => ?_)
      refine lv_iload_n hx hb dX4_restore_53 rfl (lv_at hl 2 rfl) ?_
      refine lv_aload_n (x := a0) hx hb dX4_restore_54 rfl (lv_at hl 0 rfl) ?_
      refine zr_gP hc hn (ci := 3) rfl rfl in_X4 5 (by decide) q2104 (fun _ h => h) (fun _ _ _ => rfl) hf dX4_restore_55 (fun x102 hf => ?_)
      refine lv_sipush (v := (4100 : Int32)) hx hb dX4_restore_58 (by decide) ?_
      refine lv_iload_n hx hb dX4_restore_61 rfl (lv_at hl 1 rfl) ?_
      refine lv_imul hx hb dX4_restore_62 ?_
      refine zr_nmI hf (fun x103 hf => ?_)
      refine lv_iload_n hx hb dX4_restore_63 rfl (lv_at hl 2 rfl) ?_
      refine lv_iadd hx hb dX4_restore_64 ?_
      refine zr_nmI hf (fun x104 hf => ?_)
      obtain ⟨a105, e9, hf9⟩ := znn_i hf
      subst e9
      have hf := hf9
      clear hf9
      refine zr_aI0 hc hn hf dX4_restore_65 (fun x106 hf => ?_)
      obtain ⟨a107, e9, hf9⟩ := znn_i hf
      subst e9
      have hf := hf9
      clear hf9
      refine zr_sI hc hn hf dX4_restore_66 (fun h108 H locs hf hn => ?_)
      obtain ⟨x109, ex109, hf⟩ := znm_i hf
      refine lv_iinc (v := x109) (lv' := [(2, .int x109), (0, .ref a0), (1, .int v1)]) hx hb dX4_restore_67 hl (k := 2) rfl (by rw [ex109]; rfl) (by decide) rfl (fun ls hl => ?_)
      refine lv_goto (tgt := 42) hx hb dX4_restore_70 (by decide) ?_
      exact ih h108 a0 v1 x109 _ _ _ _ _ _ hf hq hn _ (lv_sub hl [1, 2, 0] rfl)
set_option maxHeartbeats 4000000 in
set_option maxRecDepth 100000 in
theorem m_X4_restore_b29 {p : Program} {l : Launch} {e : Env} {s : State} {m : MethodId} {args : Array Value} {below : List Frame} {meth : Method} {c : Code} {D : va_G} {dA : Nat → ClassId} {b0 : Nat} {gs : Nat → Option Nat} (hc : zC D dA b0 gs yX4_restore.cls cX4_restore 3 p c s m args meth) (hr : meth.sig.returnType = none) (hin : meth.name = yX4_restore.name) {r : Unit} {hh : PH} {mc ms : Nat} : ∀ (h : PH) (a0 : Nat) (v1 : Int32) (s0 : Nat) (s1 : Int32) (C9 S9 : Nat) (H : Heap) (locs : List Loc) (cells slots : Nat), f_X4_restore_b29 h a0 v1 s0 s1 = some (r, hh, C9, S9) → cells + C9 = mc ∧ slots + S9 = ms → zM D dA b0 gs s h H locs → ∀ ls : Array Slot, lv_has ls 3 [(0, .ref a0), (1, .int v1)] → W p l e ({ frames := 2, cells := mc, slots := ms, locals := 85 } : Room) s m args below meth c H locs cells slots (MQ below (zQ D dA b0 gs (evU r) hh) args s mc ms (zA b0)) (F0 m 29 ls [.int s1, .ref s0]) := by
  have hx := hc.x
  have hb := hc.b
  intro h a0 v1 s0 s1 C9 S9 H locs cells slots hf hq hn ls hl
  unfold f_X4_restore_b29 at hf
  refine zr_pI (x := s1) hc hn (ci := 3) rfl rfl in_X4 0 (by decide) tyX4 tyX4_ok nmX4 q2099 (fun _ h => h) (Or.inl rfl) (fun _ _ _ => rfl) rfl rfl hf dX4_restore_29 (fun h101 H locs hf hn => ?_)
  refine lv_aload_n (x := a0) hx hb dX4_restore_32 rfl (lv_at hl 0 rfl) ?_
  refine zr_gI hc hn (ci := 3) rfl rfl in_X4 0 (by decide) q2099 (fun _ h => h) (fun _ _ _ => rfl) hf dX4_restore_33 (fun x102 hf => ?_)
  refine lv_if_le (tgt := 40) hx hb dX4_restore_36 (by decide) (fun c9 => ?_) (fun c9 => ?_)
  · have hf := zif_t c9 hf
    refine lv_iconst (v := (0 : Int32)) hx hb dX4_restore_40 (by decide) ?_
    refine lv_istore_n (i := 2) (lv' := [(2, .int (0 : Int32)), (0, .ref a0), (1, .int v1)]) hx hb dX4_restore_41 rfl hl (by decide) rfl (fun ls hl => ?_)
    exact m_X4_restore_b42 hc hr hin zFU h101 a0 v1 (0 : Int32) _ _ _ _ _ _ hf hq hn _ (lv_sub hl [1, 2, 0] rfl)
  · have hf := zif_f c9 hf
    obtain ⟨rfl, rfl, rfl, rfl⟩ := zret_i hf
    exact zr_vret hc hn hr hq (fun _ _ _ _ q => q) dX4_restore_39
set_option maxHeartbeats 4000000 in
set_option maxRecDepth 100000 in
theorem m_X4_restore (l : Launch) (D : va_G) (dA : Nat → ClassId) (b0 : Nat) (gs : Nat → Option Nat) (h : PH) (a0 : Nat) (v1 : Int32) {r : Unit} {hh : PH} {mc ms : Nat} (hf : f_X4_restore h a0 v1 = some (r, hh, mc, ms)) : zMt l D dA b0 gs yX4_restore cX4_restore 3 none 2 85 [.ref a0, .int v1] h (evU r) hh mc ms := by
  unfold f_X4_restore at hf
  refine zMt.of (by decide) (Nat.le_of_ble_eq_true rfl) ?_
  intro p e s m args below meth c hc hr hin hn ls hl
  have hl : lv_has ls 3 [(0, .ref a0), (1, .int v1)] := hl
  have hq : 0 + mc = mc ∧ 0 + ms = ms := ⟨Nat.zero_add _, Nat.zero_add _⟩
  have hx := hc.x
  have hb := hc.b
  refine lv_aload_n (x := a0) hx hb dX4_restore_0 rfl (lv_at hl 0 rfl) ?_
  refine lv_iload_n hx hb dX4_restore_1 rfl (lv_at hl 1 rfl) ?_
  refine lv_i2l (v := v1.toInt64) hx hb dX4_restore_2 rfl ?_
  refine zr_nmL hf (fun x101 hf => ?_)
  refine lv_lconst (v := (0 : Int64)) hx hb dX4_restore_3 (by decide) ?_
  refine lv_lconst (v := (1 : Int64)) hx hb dX4_restore_4 (by decide) ?_
  refine zr_cSI (As := [.long x101, .long (0 : Int64), .long (1 : Int64)]) (rest := [.ref a0]) hc hn hq hd_X4_in (lw_S q2211 q2212 q91 q2213) (Nat.le_of_ble_eq_true rfl) (Nat.le_of_ble_eq_true rfl) (fun _ _ _ _ q => m_X4_in l D dA b0 gs h x101 (0 : Int64) (1 : Int64) q) hf dX4_restore_5 hl.1 rfl rfl (zroom (Nat.le_of_ble_eq_true rfl)) (fun x102 h103 H locs cells slots C9 S9 hf hq hn => ?_)
  refine lv_if_ne (tgt := 15) hx hb dX4_restore_8 (by decide) (fun c9 => ?_) (fun c9 => ?_)
  · have hf := zif_f c9 hf
    refine lv_aload_n (x := a0) hx hb dX4_restore_15 rfl (lv_at hl 0 rfl) ?_
    refine zr_gP hc hn (ci := 3) rfl rfl in_X4 9 (by decide) q2108 (fun _ h => h) (fun _ _ _ => rfl) hf dX4_restore_16 (fun x104 hf => ?_)
    refine lv_iload_n hx hb dX4_restore_19 rfl (lv_at hl 1 rfl) ?_
    obtain ⟨a105, e9, hf9⟩ := znn_i hf
    subst e9
    have hf := hf9
    clear hf9
    refine zr_aI1 hc hn hf dX4_restore_20 (fun x106 hf => ?_)
    refine lv_if_eq (tgt := 28) hx hb dX4_restore_21 (by decide) (fun c9 => ?_) (fun c9 => ?_)
    · have hf := zif_t c9 hf
      refine lv_iconst (v := (2 : Int32)) hx hb dX4_restore_28 (by decide) ?_
      exact m_X4_restore_b29 hc hr hin h103 a0 v1 a0 (2 : Int32) _ _ _ _ _ _ hf hq hn _ (lv_sub hl [0, 1] rfl)
    · have hf := zif_f c9 hf
      refine lv_iconst (v := (0 : Int32)) hx hb dX4_restore_24 (by decide) ?_
      refine lv_goto (tgt := 29) hx hb dX4_restore_25 (by decide) ?_
      exact m_X4_restore_b29 hc hr hin h103 a0 v1 a0 (0 : Int32) _ _ _ _ _ _ hf hq hn _ (lv_sub hl [0, 1] rfl)
  · have hf := zif_t c9 hf
    refine lv_iconst (v := (1 : Int32)) hx hb dX4_restore_11 (by decide) ?_
    refine lv_goto (tgt := 29) hx hb dX4_restore_12 (by decide) ?_
    exact m_X4_restore_b29 hc hr hin h103 a0 v1 a0 (1 : Int32) _ _ _ _ _ _ hf hq hn _ (lv_sub hl [0, 1] rfl)
