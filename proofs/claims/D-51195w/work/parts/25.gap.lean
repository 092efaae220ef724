/-! 25.gap (written by gen/mods.py) -/
set_option maxRecDepth 100000
theorem hd_X9_init : yX9_init.cls ≠ "java/lang/invoke/MethodHandle" ∧ yX9_init.cls ≠ "java/lang/invoke/VarHandle" ∧ (parseMethodDescriptor yX9_init.desc).map (fun d => d.parameters.length) = some 5 := by decide +kernel
def f_X9_init (h : PH) (a0 : Nat) (v1 : Int32) (v2 : Int32) (a3 : Nat) (o4 : Option Nat) (o5 : Option Nat) : ZR Unit :=
  zpI h a0 8 0 v1 fun h101 =>
  zpI h101 a0 8 1 v2 fun h102 =>
  zpP h102 a0 8 2 (some a3) fun h103 =>
  zpP h103 a0 8 3 o4 fun h104 =>
  zpP h104 a0 8 4 o5 fun h105 =>
  zret () h105
set_option maxHeartbeats 4000000 in
set_option maxRecDepth 100000 in
theorem m_X9_init (l : Launch) (D : va_G) (dA : Nat → ClassId) (b0 : Nat) (gs : Nat → Option Nat) (h : PH) (a0 : Nat) (v1 : Int32) (v2 : Int32) (a3 : Nat) (o4 : Option Nat) (o5 : Option Nat) {r : Unit} {hh : PH} {mc ms : Nat} (hf : f_X9_init h a0 v1 v2 a3 o4 o5 = some (r, hh, mc, ms)) : zMt l D dA b0 gs yX9_init cX9_init 6 none 1 60 [.ref a0, .int v1, .int v2, .ref a3, va_rf o4, va_rf o5] h (evU r) hh mc ms := by
  unfold f_X9_init at hf
  refine zMt.of (by decide) (by simp [lg_sl, zcat_rf, zcat_i, zcat_l, zcat_d, zcat_r, zcat_n]) ?_
  intro p e s m args below meth c hc hr hin hn ls hl
  have hl : lv_has ls 6 [(0, .ref a0), (1, .int v1), (2, .int v2), (3, .ref a3), (4, va_rf o4), (5, va_rf o5)] := by simpa [lv_args, zcat_rf, zcat_i, zcat_l, zcat_d, zcat_r, zcat_n] using hl
  have hq : 0 + mc = mc ∧ 0 + ms = ms := ⟨Nat.zero_add _, Nat.zero_add _⟩
  have hx := hc.x
  have hb := hc.b
  refine lv_aload_n (x := a0) hx hb dX9_init_0 rfl (lv_at hl 0 rfl) ?_
  refine W.objInit hx hb hc.ow (hc.ts _ q941) (hc.ts _ q137) (hc.ts _ q138) rfl (by rw [hc.ml]; exact hl.1) rfl dX9_init_1 (Nat.le_of_ble_eq_true rfl) (zroomL (Nat.le_of_ble_eq_true rfl) (Nat.le_of_ble_eq_true rfl)) ?_
  refine W.eq (g2 := F0 m 4 ls []) rfl ?_
  refine lv_aload_n (x := a0) hx hb dX9_init_4 rfl (lv_at hl 0 rfl) ?_
  refine lv_iload_n hx hb dX9_init_5 rfl (lv_at hl 1 rfl) ?_
  refine zr_pI (x := v1) hc hn (ci := 8) rfl rfl in_X9 0 (by decide) tyX9 tyX9_ok nmX9 q942 (fun _ h => h) (Or.inr ⟨rfl, hin, rfl⟩) (fun _ _ _ => rfl) rfl rfl hf dX9_init_6 (fun h101 H locs hf hn => ?_)
  refine lv_aload_n (x := a0) hx hb dX9_init_9 rfl (lv_at hl 0 rfl) ?_
  refine lv_iload_n hx hb dX9_init_10 rfl (lv_at hl 2 rfl) ?_
  refine zr_pI (x := v2) hc hn (ci := 8) rfl rfl in_X9 1 (by decide) tyX9 tyX9_ok nmX9 q944 (fun _ h => h) (Or.inr ⟨rfl, hin, rfl⟩) (fun _ _ _ => rfl) rfl rfl hf dX9_init_11 (fun h102 H locs hf hn => ?_)
  refine lv_aload_n (x := a0) hx hb dX9_init_14 rfl (lv_at hl 0 rfl) ?_
  refine lv_aload_n (x := a3) hx hb dX9_init_15 rfl (lv_at hl 3 rfl) ?_
  refine zr_pP (x := (some a3)) hc hn (ci := 8) rfl rfl in_X9 2 (by decide) tyX9 tyX9_ok nmX9 q947 (fun _ h => h) (Or.inr ⟨rfl, hin, rfl⟩) (fun _ _ _ => rfl) (zn_rf _ (by decide)) (zf_rf _ (by decide)) hf dX9_init_16 (fun h103 H locs hf hn => ?_)
  refine lv_aload_n (x := a0) hx hb dX9_init_19 rfl (lv_at hl 0 rfl) ?_
  refine zr_aload (x := o4) hx hb dX9_init_20 (lv_at hl 4 rfl) ?_
  refine zr_pP (x := o4) hc hn (ci := 8) rfl rfl in_X9 3 (by decide) tyX9 tyX9_ok nmX9 q948 (fun _ h => h) (Or.inr ⟨rfl, hin, rfl⟩) (fun _ _ _ => rfl) (zn_rf _ (by decide)) (zf_rf _ (by decide)) hf dX9_init_22 (fun h104 H locs hf hn => ?_)
  refine lv_aload_n (x := a0) hx hb dX9_init_25 rfl (lv_at hl 0 rfl) ?_
  refine zr_aload (x := o5) hx hb dX9_init_26 (lv_at hl 5 rfl) ?_
  refine zr_pP (x := o5) hc hn (ci := 8) rfl rfl in_X9 4 (by decide) tyX9 tyX9_ok nmX9 q949 (fun _ h => h) (Or.inr ⟨rfl, hin, rfl⟩) (fun _ _ _ => rfl) (zn_rf _ (by decide)) (zf_rf _ (by decide)) hf dX9_init_28 (fun h105 H locs hf hn => ?_)
  obtain ⟨rfl, rfl, rfl, rfl⟩ := zret_i hf
  exact zr_vret hc hn hr hq (fun _ _ _ _ q => q) dX9_init_31
theorem hd_X9_isLeft : yX9_isLeft.cls ≠ "java/lang/invoke/MethodHandle" ∧ yX9_isLeft.cls ≠ "java/lang/invoke/VarHandle" ∧ (parseMethodDescriptor yX9_isLeft.desc).map (fun d => d.parameters.length) = some 0 := by decide +kernel
def f_X9_isLeft (h : PH) (a0 : Nat) : ZR Int32 :=
  zgP h a0 8 2 fun x101 =>
  znn x101 fun a102 =>
  zgI h a102 7 5 fun x103 =>
  zgI h a0 8 0 fun x104 =>
  znm (x104 + (1 : Int32)) fun x105 =>
  if x103 = x105 then
    (zret (1 : Int32) h)
  else
    (zret (0 : Int32) h)
set_option maxHeartbeats 4000000 in
set_option maxRecDepth 100000 in
theorem m_X9_isLeft (l : Launch) (D : va_G) (dA : Nat → ClassId) (b0 : Nat) (gs : Nat → Option Nat) (h : PH) (a0 : Nat) {r : Int32} {hh : PH} {mc ms : Nat} (hf : f_X9_isLeft h a0 = some (r, hh, mc, ms)) : zMt l D dA b0 gs yX9_isLeft cX9_isLeft 1 (some .boolean) 1 60 [.ref a0] h (evI r) hh mc ms := by
  unfold f_X9_isLeft at hf
  refine zMt.of (by decide) (Nat.le_of_ble_eq_true rfl) ?_
  intro p e s m args below meth c hc hr hin hn ls hl
  have hl : lv_has ls 1 [(0, .ref a0)] := hl
  have hq : 0 + mc = mc ∧ 0 + ms = ms := ⟨Nat.zero_add _, Nat.zero_add _⟩
  have hx := hc.x
  have hb := hc.b
  refine lv_aload_n (x := a0) hx hb dX9_isLeft_0 rfl (lv_at hl 0 rfl) ?_
  refine zr_gP hc hn (ci := 8) rfl rfl in_X9 2 (by decide) q947 (fun _ h => h) (fun _ _ _ => rfl) hf dX9_isLeft_1 (fun x101 hf => ?_)
  obtain ⟨a102, e9, hf9⟩ := znn_i hf
  subst e9
  have hf := hf9
  clear hf9
  refine zr_gIN hc hn (ci := 7) rfl rfl in_X8 5 (by decide) q848 (fun _ h => h) (fun _ _ _ => rfl) hf dX9_isLeft_4 (fun x103 hf => ?_)
  refine lv_aload_n (x := a0) hx hb dX9_isLeft_7 rfl (lv_at hl 0 rfl) ?_
  refine zr_gI hc hn (ci := 8) rfl rfl in_X9 0 (by decide) q942 (fun _ h => h) (fun _ _ _ => rfl) hf dX9_isLeft_8 (fun x104 hf => ?_)
  refine lv_iconst (v := (1 : Int32)) hx hb dX9_isLeft_11 (by decide) ?_
  refine lv_iadd hx hb dX9_isLeft_12 ?_
  refine zr_nmI hf (fun x105 hf => ?_)
  refine lv_icmp_ne (tgt := 20) hx hb dX9_isLeft_13 (by decide) (fun c9 => ?_) (fun c9 => ?_)
  · have hf := zif_f c9 hf
    refine lv_iconst (v := (0 : Int32)) hx hb dX9_isLeft_20 (by decide) ?_
    obtain ⟨rfl, rfl, rfl, rfl⟩ := zret_i hf
    exact zr_zret hc hn hr (by decide) hq (fun _ _ _ _ q => q) dX9_isLeft_21
  · have hf := zif_t c9 hf
    refine lv_iconst (v := (1 : Int32)) hx hb dX9_isLeft_16 (by decide) ?_
    refine lv_goto (tgt := 21) hx hb dX9_isLeft_17 (by decide) ?_
    obtain ⟨rfl, rfl, rfl, rfl⟩ := zret_i hf
    exact zr_zret hc hn hr (by decide) hq (fun _ _ _ _ q => q) dX9_isLeft_21
theorem hd_X9_isRich : yX9_isRich.cls ≠ "java/lang/invoke/MethodHandle" ∧ yX9_isRich.cls ≠ "java/lang/invoke/VarHandle" ∧ (parseMethodDescriptor yX9_isRich.desc).map (fun d => d.parameters.length) = some 0 := by decide +kernel
def f_X9_isRich_b46 (h : PH) (a0 : Nat) (o1 : Option Nat) (s0 : Option Nat) : ZR Int32 :=
  zgI h a0 8 0 fun x101 =>
  znn o1 fun a102 =>
  zrc h a102 7 <| zcl (f_X8_next h a102 x101) fun x103 h104 =>
  zgI h104 a0 8 0 fun x105 =>
  znn x103 fun a106 =>
  zrc h104 a106 7 <| zcl (f_X8_next h104 a106 x105) fun x107 h108 =>
  if x107 = s0 then
    (zret (0 : Int32) h108)
  else
    (zret (1 : Int32) h108)
def f_X9_isRich_b18 (h : PH) (a0 : Nat) (s0 : Option Nat) : ZR Int32 :=
  zrc h a0 8 <| zcl (f_X9_isLeft h a0) fun x101 h102 =>
  if x101 = 0 then
    (zgP h102 a0 8 3 fun x103 =>
    zgI h102 a0 8 0 fun x104 =>
    znm (x104 + (1 : Int32)) fun x105 =>
    znn x103 fun a106 =>
    zrc h102 a106 7 <| zcl (f_X8_next h102 a106 x105) fun x107 h108 =>
    f_X9_isRich_b46 h108 a0 s0 x107)
  else
    (zgP h102 a0 8 2 fun x109 =>
    f_X9_isRich_b46 h102 a0 s0 x109)
def f_X9_isRich (h : PH) (a0 : Nat) : ZR Int32 :=
  zrc h a0 8 <| zcl (f_X9_isLeft h a0) fun x101 h102 =>
  if x101 = 0 then
    (zgP h102 a0 8 3 fun x103 =>
    f_X9_isRich_b18 h102 a0 x103)
  else
    (zgP h102 a0 8 4 fun x104 =>
    f_X9_isRich_b18 h102 a0 x104)
set_option maxHeartbeats 4000000 in
set_option maxRecDepth 100000 in
theorem m_X9_isRich_b46 {p : Program} {l : Launch} {e : Env} {s : State} {m : MethodId} {args : Array Value} {below : List Frame} {meth : Method} {c : Code} {D : va_G} {dA : Nat → ClassId} {b0 : Nat} {gs : Nat → Option Nat} (hc : zC D dA b0 gs yX9_isRich.cls cX9_isRich 3 p c s m args meth) (hr : meth.sig.returnType = (some .boolean)) (hin : meth.name = yX9_isRich.name) {r : Int32} {hh : PH} {mc ms : Nat} : ∀ (h : PH) (a0 : Nat) (o1 : Option Nat) (s0 : Option Nat) (C9 S9 : Nat) (H : Heap) (locs : List Loc) (cells slots : Nat), f_X9_isRich_b46 h a0 o1 s0 = some (r, hh, C9, S9) → cells + C9 = mc ∧ slots + S9 = ms → zM D dA b0 gs s h H locs → ∀ ls : Array Slot, lv_has ls 3 [(0, .ref a0), (1, va_rf o1)] → W p l e ({ frames := 2, cells := mc, slots := ms, locals := 81 } : Room) s m args below meth c H locs cells slots (MQ below (zQ D dA b0 gs (evI r) hh) args s mc ms (zA b0)) (F0 m 46 ls [va_rf s0]) := by
  have hx := hc.x
  have hb := hc.b
  intro h a0 o1 s0 C9 S9 H locs cells slots hf hq hn ls hl
  unfold f_X9_isRich_b46 at hf
  refine zr_astore_n (x := s0) (i := 2) (lv' := [(2, va_rf s0), (0, .ref a0), (1, va_rf o1)]) hx hb dX9_isRich_46 rfl hl (by decide) (by simp [zcat_rf, zcat_i, zcat_l, zcat_d, zcat_r, zcat_n] <;> rfl) (fun ls hl => ?_)
  refine zr_aload_n (x := o1) hx hb dX9_isRich_47 rfl (lv_at hl 2 rfl) ?_
  refine lv_aload_n (x := a0) hx hb dX9_isRich_48 rfl (lv_at hl 1 rfl) ?_
  refine zr_gI hc hn (ci := 8) rfl rfl in_X9 0 (by decide) q942 (fun _ h => h) (fun _ _ _ => rfl) hf dX9_isRich_49 (fun x101 hf => ?_)
  obtain ⟨a102, e9, hf9⟩ := znn_i hf
  subst e9
  have hf := hf9
  clear hf9
  refine zr_cVP (As := [.int x101]) (rest := []) hc hn hq (ci := 7) rfl ⟨rfl, hd_X8_next⟩ (lw_V q989 q905 q906 q116 q907) (Nat.le_of_ble_eq_true rfl) (Nat.le_of_ble_eq_true rfl) (fun _ _ _ _ q => m_X8_next l D dA b0 gs h a102 x101 q) hf dX9_isRich_52 hl.1 rfl rfl (zroom (Nat.le_of_ble_eq_true rfl)) (fun x103 h104 H locs cells slots C9 S9 hf hq hn => ?_)
  refine lv_aload_n (x := a0) hx hb dX9_isRich_55 rfl (lv_at hl 1 rfl) ?_
  refine zr_gI hc hn (ci := 8) rfl rfl in_X9 0 (by decide) q942 (fun _ h => h) (fun _ _ _ => rfl) hf dX9_isRich_56 (fun x105 hf => ?_)
  obtain ⟨a106, e9, hf9⟩ := znn_i hf
  subst e9
  have hf := hf9
  clear hf9
  refine zr_cVP (As := [.int x105]) (rest := []) hc hn hq (ci := 7) rfl ⟨rfl, hd_X8_next⟩ (lw_V q989 q905 q906 q116 q907) (Nat.le_of_ble_eq_true rfl) (Nat.le_of_ble_eq_true rfl) (fun _ _ _ _ q => m_X8_next l D dA b0 gs h104 a106 x105 q) hf dX9_isRich_59 hl.1 rfl rfl (zroom (Nat.le_of_ble_eq_true rfl)) (fun x107 h108 H locs cells slots C9 S9 hf hq hn => ?_)
  refine zr_aload_n (x := s0) hx hb dX9_isRich_62 rfl (lv_at hl 0 rfl) ?_
  refine lv_acmp_eq (rx := x107) (ry := s0) (tgt := 70) hx hb dX9_isRich_63 (by decide) (fun c9 => ?_) (fun c9 => ?_)
  · have hf := zif_t c9 hf
    refine lv_iconst (v := (0 : Int32)) hx hb dX9_isRich_70 (by decide) ?_
    obtain ⟨rfl, rfl, rfl, rfl⟩ := zret_i hf
    exact zr_zret hc hn hr (by decide) hq (fun _ _ _ _ q => q) dX9_isRich_71
  · have hf := zif_f c9 hf
    refine lv_iconst (v := (1 : Int32)) hx hb dX9_isRich_66 (by decide) ?_
    refine lv_goto (tgt := 71) hx hb dX9_isRich_67 (by decide) ?_
    obtain ⟨rfl, rfl, rfl, rfl⟩ := zret_i hf
    exact zr_zret hc hn hr (by decide) hq (fun _ _ _ _ q => q) dX9_isRich_71
set_option maxHeartbeats 4000000 in
set_option maxRecDepth 100000 in
theorem m_X9_isRich_b18 {p : Program} {l : Launch} {e : Env} {s : State} {m : MethodId} {args : Array Value} {below : List Frame} {meth : Method} {c : Code} {D : va_G} {dA : Nat → ClassId} {b0 : Nat} {gs : Nat → Option Nat} (hc : zC D dA b0 gs yX9_isRich.cls cX9_isRich 3 p c s m args meth) (hr : meth.sig.returnType = (some .boolean)) (hin : meth.name = yX9_isRich.name) {r : Int32} {hh : PH} {mc ms : Nat} : ∀ (h : PH) (a0 : Nat) (s0 : Option Nat) (C9 S9 : Nat) (H : Heap) (locs : List Loc) (cells slots : Nat), f_X9_isRich_b18 h a0 s0 = some (r, hh, C9, S9) → cells + C9 = mc ∧ slots + S9 = ms → zM D dA b0 gs s h H locs → ∀ ls : Array Slot, lv_has ls 3 [(0, .ref a0)] → W p l e ({ frames := 2, cells := mc, slots := ms, locals := 81 } : Room) s m args below meth c H locs cells slots (MQ below (zQ D dA b0 gs (evI r) hh) args s mc ms (zA b0)) (F0 m 18 ls [va_rf s0]) := by
  have hx := hc.x
  have hb := hc.b
  intro h a0 s0 C9 S9 H locs cells slots hf hq hn ls hl
  unfold f_X9_isRich_b18 at hf
  refine zr_astore_n (x := s0) (i := 1) (lv' := [(1, va_rf s0), (0, .ref a0)]) hx hb dX9_isRich_18 rfl hl (by decide) rfl (fun ls hl => ?_)
  refine lv_aload_n (x := a0) hx hb dX9_isRich_19 rfl (lv_at hl 1 rfl) ?_
  refine zr_cVI (As := []) (rest := []) hc hn hq (ci := 8) rfl ⟨rfl, hd_X9_isLeft⟩ (lw_V q985 q987 qs10 q117 q988) (Nat.le_of_ble_eq_true rfl) (Nat.le_of_ble_eq_true rfl) (fun _ _ _ _ q => m_X9_isLeft l D dA b0 gs h a0 q) hf dX9_isRich_20 hl.1 rfl rfl (zroom (Nat.le_of_ble_eq_true rfl)) (fun x101 h102 H locs cells slots C9 S9 hf hq hn => ?_)
  refine lv_if_eq (tgt := 33) hx hb dX9_isRich_23 (by decide) (fun c9 => ?_) (fun c9 => ?_)
  · have hf := zif_t c9 hf
    refine lv_aload_n (x := a0) hx hb dX9_isRich_33 rfl (lv_at hl 1 rfl) ?_
    refine zr_gP hc hn (ci := 8) rfl rfl in_X9 3 (by decide) q948 (fun _ h => h) (fun _ _ _ => rfl) hf dX9_isRich_34 (fun x103 hf => ?_)
    refine lv_aload_n (x := a0) hx hb dX9_isRich_37 rfl (lv_at hl 1 rfl) ?_
    refine zr_gI hc hn (ci := 8) rfl rfl in_X9 0 (by decide) q942 (fun _ h => h) (fun _ _ _ => rfl) hf dX9_isRich_38 (fun x104 hf => ?_)
    refine lv_iconst (v := (1 : Int32)) hx hb dX9_isRich_41 (by decide) ?_
    refine lv_iadd hx hb dX9_isRich_42 ?_
    refine zr_nmI hf (fun x105 hf => ?_)
    obtain ⟨a106, e9, hf9⟩ := znn_i hf
    subst e9
    have hf := hf9
    clear hf9
    refine zr_cVP (As := [.int x105]) (rest := []) hc hn hq (ci := 7) rfl ⟨rfl, hd_X8_next⟩ (lw_V q989 q905 q906 q116 q907) (Nat.le_of_ble_eq_true rfl) (Nat.le_of_ble_eq_true rfl) (fun _ _ _ _ q => m_X8_next l D dA b0 gs h102 a106 x105 q) hf dX9_isRich_43 hl.1 rfl rfl (zroom (Nat.le_of_ble_eq_true rfl)) (fun x107 h108 H locs cells slots C9 S9 hf hq hn => ?_)
    exact m_X9_isRich_b46 hc hr hin h108 a0 s0 x107 _ _ _ _ _ _ hf hq hn _ (lv_sub hl [1, 0] rfl)
  · have hf := zif_f c9 hf
    refine lv_aload_n (x := a0) hx hb dX9_isRich_26 rfl (lv_at hl 1 rfl) ?_
    refine zr_gP hc hn (ci := 8) rfl rfl in_X9 2 (by decide) q947 (fun _ h => h) (fun _ _ _ => rfl) hf dX9_isRich_27 (fun x109 hf => ?_)
    refine lv_goto (tgt := 46) hx hb dX9_isRich_30 (by decide) ?_
    exact m_X9_isRich_b46 hc hr hin h102 a0 s0 x109 _ _ _ _ _ _ hf hq hn _ (lv_sub hl [1, 0] rfl)
set_option maxHeartbeats 4000000 in
set_option maxRecDepth 100000 in
theorem m_X9_isRich (l : Launch) (D : va_G) (dA : Nat → ClassId) (b0 : Nat) (gs : Nat → Option Nat) (h : PH) (a0 : Nat) {r : Int32} {hh : PH} {mc ms : Nat} (hf : f_X9_isRich h a0 = some (r, hh, mc, ms)) : zMt l D dA b0 gs yX9_isRich cX9_isRich 3 (some .boolean) 2 81 [.ref a0] h (evI r) hh mc ms := by
  unfold f_X9_isRich at hf
  refine zMt.of (by decide) (Nat.le_of_ble_eq_true rfl) ?_
  intro p e s m args below meth c hc hr hin hn ls hl
  have hl : lv_has ls 3 [(0, .ref a0)] := hl
  have hq : 0 + mc = mc ∧ 0 + ms = ms := ⟨Nat.zero_add _, Nat.zero_add _⟩
  have hx := hc.x
  have hb := hc.b
  refine lv_aload_n (x := a0) hx hb dX9_isRich_0 rfl (lv_at hl 0 rfl) ?_
  refine zr_cVI (As := []) (rest := []) hc hn hq (ci := 8) rfl ⟨rfl, hd_X9_isLeft⟩ (lw_V q985 q987 qs10 q117 q988) (Nat.le_of_ble_eq_true rfl) (Nat.le_of_ble_eq_true rfl) (fun _ _ _ _ q => m_X9_isLeft l D dA b0 gs h a0 q) hf dX9_isRich_1 hl.1 rfl rfl (zroom (Nat.le_of_ble_eq_true rfl)) (fun x101 h102 H locs cells slots C9 S9 hf hq hn => ?_)
  refine lv_if_eq (tgt := 14) hx hb dX9_isRich_4 (by decide) (fun c9 => ?_) (fun c9 => ?_)
  · have hf := zif_t c9 hf
    refine lv_aload_n (x := a0) hx hb dX9_isRich_14 rfl (lv_at hl 0 rfl) ?_
    refine zr_gP hc hn (ci := 8) rfl rfl in_X9 3 (by decide) q948 (fun _ h => h) (fun _ _ _ => rfl) hf dX9_isRich_15 (fun x103 hf => ?_)
    exact m_X9_isRich_b18 hc hr hin h102 a0 x103 _ _ _ _ _ _ hf hq hn _ (lv_sub hl [0] rfl)
  · have hf := zif_f c9 hf
    refine lv_aload_n (x := a0) hx hb dX9_isRich_7 rfl (lv_at hl 0 rfl) ?_
    refine zr_gP hc hn (ci := 8) rfl rfl in_X9 4 (by decide) q949 (fun _ h => h) (fun _ _ _ => rfl) hf dX9_isRich_8 (fun x104 hf => ?_)
    refine lv_goto (tgt := 18) hx hb dX9_isRich_11 (by decide) ?_
    exact m_X9_isRich_b18 hc hr hin h102 a0 x104 _ _ _ _ _ _ hf hq hn _ (lv_sub hl [0] rfl)
theorem hd_X9_at : yX9_at.cls ≠ "java/lang/invoke/MethodHandle" ∧ yX9_at.cls ≠ "java/lang/invoke/VarHandle" ∧ (parseMethodDescriptor yX9_at.desc).map (fun d => d.parameters.length) = some 1 := by decide +kernel
def f_X9_at_b14 : Nat → PH → Nat → Int32 → Option Nat → Int32 → ZR (Option Nat)
  | 0 => fun _ _ _ _ _ => none
  | n + 1 => fun h a0 v1 o2 v3 =>
    if v1 ≤ v3 then
      (zret o2 h)
    else
      (zgI h a0 8 0 fun x101 =>
      znn o2 fun a102 =>
      zrc h a102 7 <| zcl (f_X8_next h a102 x101) fun x103 h104 =>
      znm (v3 + (1 : Int32)) fun x105 =>
      f_X9_at_b14 n h104 a0 v1 x103 x105)
def f_X9_at (h : PH) (a0 : Nat) (v1 : Int32) : ZR (Option Nat) :=
  zgP h a0 8 2 fun x101 =>
  zgI h a0 8 0 fun x102 =>
  znn x101 fun a103 =>
  zrc h a103 7 <| zcl (f_X8_next h a103 x102) fun x104 h105 =>
  f_X9_at_b14 zFU h105 a0 v1 x104 (0 : Int32)
set_option maxHeartbeats 4000000 in
set_option maxRecDepth 100000 in
theorem m_X9_at_b14 {p : Program} {l : Launch} {e : Env} {s : State} {m : MethodId} {args : Array Value} {below : List Frame} {meth : Method} {c : Code} {D : va_G} {dA : Nat → ClassId} {b0 : Nat} {gs : Nat → Option Nat} (hc : zC D dA b0 gs yX9_at.cls cX9_at 4 p c s m args meth) (hr : meth.sig.returnType = (some (.object "CountedSkipLists$Node"))) (hin : meth.name = yX9_at.name) {r : (Option Nat)} {hh : PH} {mc ms : Nat} : ∀ (n : Nat) (h : PH) (a0 : Nat) (v1 : Int32) (o2 : Option Nat) (v3 : Int32) (C9 S9 : Nat) (H : Heap) (locs : List Loc) (cells slots : Nat), f_X9_at_b14 n h a0 v1 o2 v3 = some (r, hh, C9, S9) → cells + C9 = mc ∧ slots + S9 = ms → zM D dA b0 gs s h H locs → ∀ ls : Array Slot, lv_has ls 4 [(0, .ref a0), (1, .int v1), (2, va_rf o2), (3, .int v3)] → W p l e ({ frames := 2, cells := mc, slots := ms, locals := 81 } : Room) s m args below meth c H locs cells slots (MQ below (zQ D dA b0 gs (evP r) hh) args s mc ms (zA b0)) (F0 m 14 ls []) := by
  have hx := hc.x
  have hb := hc.b
  intro n
  induction n with
  | zero =>
    intro h a0 v1 o2 v3 C9 S9 H locs cells slots hf hq hn ls hl
    cases hf
  | succ n ih =>
    intro h a0 v1 o2 v3 C9 S9 H locs cells slots hf hq hn ls hl
    unfold f_X9_at_b14 at hf
    refine lv_iload_n hx hb dX9_at_14 rfl (lv_at hl 3 rfl) ?_
    refine lv_iload_n hx hb dX9_at_15 rfl (lv_at hl 1 rfl) ?_
    refine lv_icmp_ge (tgt := 34) hx hb dX9_at_16 (by decide) (fun c9 => ?_) (fun c9 => ?_)
    · have hf := zif_t c9 hf
      refine zr_aload_n (x := o2) hx hb dX9_at_34 rfl (lv_at hl 2 rfl) ?_
      obtain ⟨rfl, rfl, rfl, rfl⟩ := zret_i hf
      exact zr_aret (x := o2) hc hn hr (Or.inl ⟨_, rfl⟩) hq (fun _ _ _ _ q => q) dX9_at_35
    · have hf := zif_f c9 hf
      refine zr_aload_n (x := o2) hx hb dX9_at_19 rfl (lv_at hl 2 rfl) ?_
      refine lv_aload_n (x := a0) hx hb dX9_at_20 rfl (lv_at hl 0 rfl) ?_
      refine zr_gI hc hn (ci := 8) rfl rfl in_X9 0 (by decide) q942 (fun _ h => h) (fun _ _ _ => rfl) hf dX9_at_21 (fun x101 hf => ?_)
      obtain ⟨a102, e9, hf9⟩ := znn_i hf
      subst e9
      have hf := hf9
      clear hf9
      refine zr_cVP (As := [.int x101]) (rest := []) hc hn hq (ci := 7) rfl ⟨rfl, hd_X8_next⟩ (lw_V q989 q905 q906 q116 q907) (Nat.le_of_ble_eq_true rfl) (Nat.le_of_ble_eq_true rfl) (fun _ _ _ _ q => m_X8_next l D dA b0 gs h a102 x101 q) hf dX9_at_24 hl.1 rfl rfl (zroom (Nat.le_of_ble_eq_true rfl)) (fun x103 h104 H locs cells slots C9 S9 hf hq hn => ?_)
      refine zr_astore_n (x := x103) (i := 2) (lv' := [(2, va_rf x103), (0, .ref a0), (1, .int v1), (3, .int v3)]) hx hb dX9_at_27 rfl hl (by decide) rfl (fun ls hl => ?_)
      obtain ⟨x105, ex105, hf⟩ := znm_i hf
      refine lv_iinc (v := x105) (lv' := [(3, .int x105), (2, va_rf x103), (0, .ref a0), (1, .int v1)]) hx hb dX9_at_28 hl (k := 3) rfl (by rw [ex105]; rfl) (by decide) (by simp [zcat_rf, zcat_i, zcat_l, zcat_d, zcat_r, zcat_n] <;> rfl) (fun ls hl => ?_)
      refine lv_goto (tgt := 14) hx hb dX9_at_31 (by decide) ?_
      exact ih h104 a0 v1 x103 x105 _ _ _ _ _ _ hf hq hn _ (lv_sub hl [2, 3, 1, 0] rfl)
set_option maxHeartbeats 4000000 in
set_option maxRecDepth 100000 in
theorem m_X9_at (l : Launch) (D : va_G) (dA : Nat → ClassId) (b0 : Nat) (gs : Nat → Option Nat) (h : PH) (a0 : Nat) (v1 : Int32) {r : (Option Nat)} {hh : PH} {mc ms : Nat} (hf : f_X9_at h a0 v1 = some (r, hh, mc, ms)) : zMt l D dA b0 gs yX9_at cX9_at 4 (some (.object "CountedSkipLists$Node")) 2 81 [.ref a0, .int v1] h (evP r) hh mc ms := by
  unfold f_X9_at at hf
  refine zMt.of (by decide) (Nat.le_of_ble_eq_true rfl) ?_
  intro p e s m args below meth c hc hr hin hn ls hl
  have hl : lv_has ls 4 [(0, .ref a0), (1, .int v1)] := hl
  have hq : 0 + mc = mc ∧ 0 + ms = ms := ⟨Nat.zero_add _, Nat.zero_add _⟩
  have hx := hc.x
  have hb := hc.b
  refine lv_aload_n (x := a0) hx hb dX9_at_0 rfl (lv_at hl 0 rfl) ?_
  refine zr_gP hc hn (ci := 8) rfl rfl in_X9 2 (by decide) q947 (fun _ h => h) (fun _ _ _ => rfl) hf dX9_at_1 (fun x101 hf => ?_)
  refine lv_aload_n (x := a0) hx hb dX9_at_4 rfl (lv_at hl 0 rfl) ?_
  refine zr_gI hc hn (ci := 8) rfl rfl in_X9 0 (by decide) q942 (fun _ h => h) (fun _ _ _ => rfl) hf dX9_at_5 (fun x102 hf => ?_)
  obtain ⟨a103, e9, hf9⟩ := znn_i hf
  subst e9
  have hf := hf9
  clear hf9
  refine zr_cVP (As := [.int x102]) (rest := []) hc hn hq (ci := 7) rfl ⟨rfl, hd_X8_next⟩ (lw_V q989 q905 q906 q116 q907) (Nat.le_of_ble_eq_true rfl) (Nat.le_of_ble_eq_true rfl) (fun _ _ _ _ q => m_X8_next l D dA b0 gs h a103 x102 q) hf dX9_at_8 hl.1 rfl rfl (zroom (Nat.le_of_ble_eq_true rfl)) (fun x104 h105 H locs cells slots C9 S9 hf hq hn => ?_)
  refine zr_astore_n (x := x104) (i := 2) (lv' := [(2, va_rf x104), (0, .ref a0), (1, .int v1)]) hx hb dX9_at_11 rfl hl (by decide) rfl (fun ls hl => ?_)
  refine lv_iconst (v := (0 : Int32)) hx hb dX9_at_12 (by decide) ?_
  refine lv_istore_n (i := 3) (lv' := [(3, .int (0 : Int32)), (2, va_rf x104), (0, .ref a0), (1, .int v1)]) hx hb dX9_at_13 rfl hl (by decide) (by simp [zcat_rf, zcat_i, zcat_l, zcat_d, zcat_r, zcat_n] <;> rfl) (fun ls hl => ?_)
  exact m_X9_at_b14 hc hr hin zFU h105 a0 v1 x104 (0 : Int32) _ _ _ _ _ _ hf hq hn _ (lv_sub hl [2, 3, 1, 0] rfl)
theorem hd_X9_separator : yX9_separator.cls ≠ "java/lang/invoke/MethodHandle" ∧ yX9_separator.cls ≠ "java/lang/invoke/VarHandle" ∧ (parseMethodDescriptor yX9_separator.desc).map (fun d => d.parameters.length) = some 0 := by decide +kernel
def f_X9_separator (h : PH) (a0 : Nat) : ZR (Option Nat) :=
  zrc h a0 8 <| zcl (f_X9_isLeft h a0) fun x101 h102 =>
  if x101 = 0 then
    (zgP h102 a0 8 3 fun x103 =>
    zret x103 h102)
  else
    (zgP h102 a0 8 2 fun x104 =>
    zret x104 h102)
set_option maxHeartbeats 4000000 in
set_option maxRecDepth 100000 in
theorem m_X9_separator (l : Launch) (D : va_G) (dA : Nat → ClassId) (b0 : Nat) (gs : Nat → Option Nat) (h : PH) (a0 : Nat) {r : (Option Nat)} {hh : PH} {mc ms : Nat} (hf : f_X9_separator h a0 = some (r, hh, mc, ms)) : zMt l D dA b0 gs yX9_separator cX9_separator 1 (some (.object "CountedSkipLists$Node")) 2 80 [.ref a0] h (evP r) hh mc ms := by
  unfold f_X9_separator at hf
  refine zMt.of (by decide) (Nat.le_of_ble_eq_true rfl) ?_
  intro p e s m args below meth c hc hr hin hn ls hl
  have hl : lv_has ls 1 [(0, .ref a0)] := hl
  have hq : 0 + mc = mc ∧ 0 + ms = ms := ⟨Nat.zero_add _, Nat.zero_add _⟩
  have hx := hc.x
  have hb := hc.b
  refine lv_aload_n (x := a0) hx hb dX9_separator_0 rfl (lv_at hl 0 rfl) ?_
  refine zr_cVI (As := []) (rest := []) hc hn hq (ci := 8) rfl ⟨rfl, hd_X9_isLeft⟩ (lw_V q985 q987 qs10 q117 q988) (Nat.le_of_ble_eq_true rfl) (Nat.le_of_ble_eq_true rfl) (fun _ _ _ _ q => m_X9_isLeft l D dA b0 gs h a0 q) hf dX9_separator_1 hl.1 rfl rfl (zroom (Nat.le_of_ble_eq_true rfl)) (fun x101 h102 H locs cells slots C9 S9 hf hq hn => ?_)
  refine lv_if_eq (tgt := 14) hx hb dX9_separator_4 (by decide) (fun c9 => ?_) (fun c9 => ?_)
  · have hf := zif_t c9 hf
    refine lv_aload_n (x := a0) hx hb dX9_separator_14 rfl (lv_at hl 0 rfl) ?_
    refine zr_gP hc hn (ci := 8) rfl rfl in_X9 3 (by decide) q948 (fun _ h => h) (fun _ _ _ => rfl) hf dX9_separator_15 (fun x103 hf => ?_)
    obtain ⟨rfl, rfl, rfl, rfl⟩ := zret_i hf
    exact zr_aret (x := x103) hc hn hr (Or.inl ⟨_, rfl⟩) hq (fun _ _ _ _ q => q) dX9_separator_18
  · have hf := zif_f c9 hf
    refine lv_aload_n (x := a0) hx hb dX9_separator_7 rfl (lv_at hl 0 rfl) ?_
    refine zr_gP hc hn (ci := 8) rfl rfl in_X9 2 (by decide) q947 (fun _ h => h) (fun _ _ _ => rfl) hf dX9_separator_8 (fun x104 hf => ?_)
    refine lv_goto (tgt := 18) hx hb dX9_separator_11 (by decide) ?_
    obtain ⟨rfl, rfl, rfl, rfl⟩ := zret_i hf
    exact zr_aret (x := x104) hc hn hr (Or.inl ⟨_, rfl⟩) hq (fun _ _ _ _ q => q) dX9_separator_18
theorem hd_X9_nearest : yX9_nearest.cls ≠ "java/lang/invoke/MethodHandle" ∧ yX9_nearest.cls ≠ "java/lang/invoke/VarHandle" ∧ (parseMethodDescriptor yX9_nearest.desc).map (fun d => d.parameters.length) = some 0 := by decide +kernel
def f_X9_nearest_b31 : Nat → PH → Nat → Option Nat → ZR (Option Nat)
  | 0 => fun _ _ _ => none
  | n + 1 => fun h a0 o1 =>
    zgI h a0 8 0 fun x101 =>
    znn o1 fun a102 =>
    zrc h a102 7 <| zcl (f_X8_next h a102 x101) fun x103 h104 =>
    zgP h104 a0 8 2 fun x105 =>
    if x103 = x105 then
      (zret (some a102) h104)
    else
      (zgI h104 a0 8 0 fun x106 =>
      zrc h104 a102 7 <| zcl (f_X8_next h104 a102 x106) fun x107 h108 =>
      f_X9_nearest_b31 n h108 a0 x107)
def f_X9_nearest (h : PH) (a0 : Nat) : ZR (Option Nat) :=
  zrc h a0 8 <| zcl (f_X9_isLeft h a0) fun x101 h102 =>
  if x101 = 0 then
    (zgP h102 a0 8 3 fun x108 =>
    zgI h102 a0 8 0 fun x109 =>
    znn x108 fun a110 =>
    zrc h102 a110 7 <| zcl (f_X8_next h102 a110 x109) fun x111 h112 =>
    zret x111 h112)
  else
    (zgP h102 a0 8 4 fun x103 =>
    zgI h102 a0 8 0 fun x104 =>
    znn x103 fun a105 =>
    zrc h102 a105 7 <| zcl (f_X8_next h102 a105 x104) fun x106 h107 =>
    f_X9_nearest_b31 zFU h107 a0 x106)
set_option maxHeartbeats 4000000 in
set_option maxRecDepth 100000 in
theorem m_X9_nearest_b31 {p : Program} {l : Launch} {e : Env} {s : State} {m : MethodId} {args : Array Value} {below : List Frame} {meth : Method} {c : Code} {D : va_G} {dA : Nat → ClassId} {b0 : Nat} {gs : Nat → Option Nat} (hc : zC D dA b0 gs yX9_nearest.cls cX9_nearest 2 p c s m args meth) (hr : meth.sig.returnType = (some (.object "CountedSkipLists$Node"))) (hin : meth.name = yX9_nearest.name) {r : (Option Nat)} {hh : PH} {mc ms : Nat} : ∀ (n : Nat) (h : PH) (a0 : Nat) (o1 : Option Nat) (C9 S9 : Nat) (H : Heap) (locs : List Loc) (cells slots : Nat), f_X9_nearest_b31 n h a0 o1 = some (r, hh, C9, S9) → cells + C9 = mc ∧ slots + S9 = ms → zM D dA b0 gs s h H locs → ∀ ls : Array Slot, lv_has ls 2 [(0, .ref a0), (1, va_rf o1)] → W p l e ({ frames := 2, cells := mc, slots := ms, locals := 81 } : Room) s m args below meth c H locs cells slots (MQ below (zQ D dA b0 gs (evP r) hh) args s mc ms (zA b0)) (F0 m 31 ls []) := by
  have hx := hc.x
  have hb := hc.b
  intro n
  induction n with
  | zero =>
    intro h a0 o1 C9 S9 H locs cells slots hf hq hn ls hl
    cases hf
  | succ n ih =>
    intro h a0 o1 C9 S9 H locs cells slots hf hq hn ls hl
    unfold f_X9_nearest_b31 at hf
    refine zr_aload_n (x := o1) hx hb dX9_nearest_31 rfl (lv_at hl 1 rfl) ?_
    refine lv_aload_n (x := a0) hx hb dX9_nearest_32 rfl (lv_at hl 0 rfl) ?_
    refine zr_gI hc hn (ci := 8) rfl rfl in_X9 0 (by decide) q942 (fun _ h => h) (fun _ _ _ => rfl) hf dX9_nearest_33 (fun x101 hf => ?_)
    obtain ⟨a102, e9, hf9⟩ := znn_i hf
    subst e9
    have hf := hf9
    clear hf9
    refine zr_cVP (As := [.int x101]) (rest := []) hc hn hq (ci := 7) rfl ⟨rfl, hd_X8_next⟩ (lw_V q989 q905 q906 q116 q907) (Nat.le_of_ble_eq_true rfl) (Nat.le_of_ble_eq_true rfl) (fun _ _ _ _ q => m_X8_next l D dA b0 gs h a102 x101 q) hf dX9_nearest_36 hl.1 rfl rfl (zroom (Nat.le_of_ble_eq_true rfl)) (fun x103 h104 H locs cells slots C9 S9 hf hq hn => ?_)
    refine lv_aload_n (x := a0) hx hb dX9_nearest_39 rfl (lv_at hl 0 rfl) ?_
    refine zr_gP hc hn (ci := 8) rfl rfl in_X9 2 (by decide) q947 (fun _ h => h) (fun _ _ _ => rfl) hf dX9_nearest_40 (fun x105 hf => ?_)
    refine lv_acmp_eq (rx := x103) (ry := x105) (tgt := 58) hx hb dX9_nearest_43 (by decide) (fun c9 => ?_) (fun c9 => ?_)
    · have hf := zif_t c9 hf
      refine lv_aload_n (x := a102) hx hb dX9_nearest_58 rfl (lv_at hl 1 rfl) ?_
      obtain ⟨rfl, rfl, rfl, rfl⟩ := zret_i hf
      exact zr_aret (x := (some a102)) hc hn hr (Or.inl ⟨_, rfl⟩) hq (fun _ _ _ _ q => q) dX9_nearest_59
    · have hf := zif_f c9 hf
      refine lv_aload_n (x := a102) hx hb dX9_nearest_46 rfl (lv_at hl 1 rfl) ?_
      refine lv_aload_n (x := a0) hx hb dX9_nearest_47 rfl (lv_at hl 0 rfl) ?_
      refine zr_gI hc hn (ci := 8) rfl rfl in_X9 0 (by decide) q942 (fun _ h => h) (fun _ _ _ => rfl) hf dX9_nearest_48 (fun x106 hf => ?_)
      refine zr_cVP (As := [.int x106]) (rest := []) hc hn hq (ci := 7) rfl ⟨rfl, hd_X8_next⟩ (lw_V q989 q905 q906 q116 q907) (Nat.le_of_ble_eq_true rfl) (Nat.le_of_ble_eq_true rfl) (fun _ _ _ _ q => m_X8_next l D dA b0 gs h104 a102 x106 q) hf dX9_nearest_51 hl.1 rfl rfl (zroom (Nat.le_of_ble_eq_true rfl)) (fun x107 h108 H locs cells slots C9 S9 hf hq hn => ?_)
      refine zr_astore_n (x := x107) (i := 1) (lv' := [(1, va_rf x107), (0, .ref a0)]) hx hb dX9_nearest_54 rfl hl (by decide) rfl (fun ls hl => ?_)
      refine lv_goto (tgt := 31) hx hb dX9_nearest_55 (by decide) ?_
      exact ih h108 a0 x107 _ _ _ _ _ _ hf hq hn _ (lv_sub hl [1, 0] rfl)
set_option maxHeartbeats 4000000 in
set_option maxRecDepth 100000 in
theorem m_X9_nearest (l : Launch) (D : va_G) (dA : Nat → ClassId) (b0 : Nat) (gs : Nat → Option Nat) (h : PH) (a0 : Nat) {r : (Option Nat)} {hh : PH} {mc ms : Nat} (hf : f_X9_nearest h a0 = some (r, hh, mc, ms)) : zMt l D dA b0 gs yX9_nearest cX9_nearest 2 (some (.object "CountedSkipLists$Node")) 2 81 [.ref a0] h (evP r) hh mc ms := by
  unfold f_X9_nearest at hf
  refine zMt.of (by decide) (Nat.le_of_ble_eq_true rfl) ?_
  intro p e s m args below meth c hc hr hin hn ls hl
  have hl : lv_has ls 2 [(0, .ref a0)] := hl
  have hq : 0 + mc = mc ∧ 0 + ms = ms := ⟨Nat.zero_add _, Nat.zero_add _⟩
  have hx := hc.x
  have hb := hc.b
  refine lv_aload_n (x := a0) hx hb dX9_nearest_0 rfl (lv_at hl 0 rfl) ?_
  refine zr_cVI (As := []) (rest := []) hc hn hq (ci := 8) rfl ⟨rfl, hd_X9_isLeft⟩ (lw_V q985 q987 qs10 q117 q988) (Nat.le_of_ble_eq_true rfl) (Nat.le_of_ble_eq_true rfl) (fun _ _ _ _ q => m_X9_isLeft l D dA b0 gs h a0 q) hf dX9_nearest_1 hl.1 rfl rfl (zroom (Nat.le_of_ble_eq_true rfl)) (fun x101 h102 H locs cells slots C9 S9 hf hq hn => ?_)
  refine lv_if_ne (tgt := 19) hx hb dX9_nearest_4 (by decide) (fun c9 => ?_) (fun c9 => ?_)
  · have hf := zif_f c9 hf
    refine lv_aload_n (x := a0) hx hb dX9_nearest_19 rfl (lv_at hl 0 rfl) ?_
    refine zr_gP hc hn (ci := 8) rfl rfl in_X9 4 (by decide) q949 (fun _ h => h) (fun _ _ _ => rfl) hf dX9_nearest_20 (fun x103 hf => ?_)
    refine lv_aload_n (x := a0) hx hb dX9_nearest_23 rfl (lv_at hl 0 rfl) ?_
    refine zr_gI hc hn (ci := 8) rfl rfl in_X9 0 (by decide) q942 (fun _ h => h) (fun _ _ _ => rfl) hf dX9_nearest_24 (fun x104 hf => ?_)
    obtain ⟨a105, e9, hf9⟩ := znn_i hf
    subst e9
    have hf := hf9
    clear hf9
    refine zr_cVP (As := [.int x104]) (rest := []) hc hn hq (ci := 7) rfl ⟨rfl, hd_X8_next⟩ (lw_V q989 q905 q906 q116 q907) (Nat.le_of_ble_eq_true rfl) (Nat.le_of_ble_eq_true rfl) (fun _ _ _ _ q => m_X8_next l D dA b0 gs h102 a105 x104 q) hf dX9_nearest_27 hl.1 rfl rfl (zroom (Nat.le_of_ble_eq_true rfl)) (fun x106 h107 H locs cells slots C9 S9 hf hq hn => ?_)
    refine zr_astore_n (x := x106) (i := 1) (lv' := [(1, va_rf x106), (0, .ref a0)]) hx hb dX9_nearest_30 rfl hl (by decide) rfl (fun ls hl => ?_)
    exact m_X9_nearest_b31 hc hr hin zFU h107 a0 x106 _ _ _ _ _ _ hf hq hn _ (lv_sub hl [1, 0] rfl)
  · have hf := zif_t c9 hf
    refine lv_aload_n (x := a0) hx hb dX9_nearest_7 rfl (lv_at hl 0 rfl) ?_
    refine zr_gP hc hn (ci := 8) rfl rfl in_X9 3 (by decide) q948 (fun _ h => h) (fun _ _ _ => rfl) hf dX9_nearest_8 (fun x108 hf => ?_)
    refine lv_aload_n (x := a0) hx hb dX9_nearest_11 rfl (lv_at hl 0 rfl) ?_
    refine zr_gI hc hn (ci := 8) rfl rfl in_X9 0 (by decide) q942 (fun _ h => h) (fun _ _ _ => rfl) hf dX9_nearest_12 (fun x109 hf => ?_)
    obtain ⟨a110, e9, hf9⟩ := znn_i hf
    subst e9
    have hf := hf9
    clear hf9
    refine zr_cVP (As := [.int x109]) (rest := []) hc hn hq (ci := 7) rfl ⟨rfl, hd_X8_next⟩ (lw_V q989 q905 q906 q116 q907) (Nat.le_of_ble_eq_true rfl) (Nat.le_of_ble_eq_true rfl) (fun _ _ _ _ q => m_X8_next l D dA b0 gs h102 a110 x109 q) hf dX9_nearest_15 hl.1 rfl rfl (zroom (Nat.le_of_ble_eq_true rfl)) (fun x111 h112 H locs cells slots C9 S9 hf hq hn => ?_)
    obtain ⟨rfl, rfl, rfl, rfl⟩ := zret_i hf
    exact zr_aret (x := x111) hc hn hr (Or.inl ⟨_, rfl⟩) hq (fun _ _ _ _ q => q) dX9_nearest_18
