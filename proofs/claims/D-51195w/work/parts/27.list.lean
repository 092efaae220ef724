/-! 27.list (written by gen/mods.py) -/
set_option maxRecDepth 100000
theorem hd_X10_values : yX10_values.cls ≠ "java/lang/invoke/MethodHandle" ∧ yX10_values.cls ≠ "java/lang/invoke/VarHandle" ∧ (parseMethodDescriptor yX10_values.desc).map (fun d => d.parameters.length) = some 0 := by decide +kernel
def f_X10_values (h : PH) : ZR Nat :=
  znm (zS h 8) fun x101 =>
  znn x101 fun a102 =>
  zcln h a102 10 fun a103 h104 =>
  zcastA h104 a103 10 <|
  zret a103 h104
set_option maxHeartbeats 4000000 in
set_option maxRecDepth 100000 in
theorem m_X10_values (l : Launch) (D : va_G) (dA : Nat → ClassId) (b0 : Nat) (gs : Nat → Option Nat) (h : PH)  {r : Nat} {hh : PH} {mc ms : Nat} (hf : f_X10_values h = some (r, hh, mc, ms)) : zMt l D dA b0 gs yX10_values cX10_values 0 (some (.array (.object "CountedSkipLists$Mend"))) 1 60 [] h (evN r) hh mc ms := by
  unfold f_X10_values at hf
  refine zMt.of (by decide) (Nat.le_of_ble_eq_true rfl) ?_
  intro p e s m args below meth c hc hr hin hn ls hl
  have hl : lv_has ls 0 [] := hl
  have hq : 0 + mc = mc ∧ 0 + ms = ms := ⟨Nat.zero_add _, Nat.zero_add _⟩
  have hx := hc.x
  have hb := hc.b
  refine zr_gs hc hn (hc.st8) q1948 (fun _ h => h) hf dX10_values_0 (fun x101 hf => ?_)
  obtain ⟨a102, e9, hf9⟩ := znn_i hf
  subst e9
  have hf := hf9
  clear hf9
  refine zr_cln (ai := 10) hc hn hq hl.1 q1950 q1951 q509 q510 q1952 q1953 hc.nmM hf (zroom (Nat.le_of_ble_eq_true rfl)) (Nat.le_of_ble_eq_true rfl) (Nat.le_of_ble_eq_true rfl) dX10_values_3 (fun a103 h104 H cells slots C9 S9 hf hq hn => ?_)
  refine zr_castA10 hc hn q1955 hf dX10_values_6 (fun hf => ?_)
  obtain ⟨rfl, rfl, rfl, rfl⟩ := zret_i hf
  exact zr_nret hc hn hr (Or.inr ⟨_, rfl⟩) hq (fun _ _ _ _ q => q) dX10_values_9
theorem hd_X11_init : yX11_init.cls ≠ "java/lang/invoke/MethodHandle" ∧ yX11_init.cls ≠ "java/lang/invoke/VarHandle" ∧ (parseMethodDescriptor yX11_init.desc).map (fun d => d.parameters.length) = some 3 := by decide +kernel
def f_X11_init (h : PH) (a0 : Nat) (a1 : Nat) (v2 : Int32) (v3 : Int32) : ZR Unit :=
  zcl (f_J22_init h a0) fun _ h102 =>
  zpP h102 a0 9 0 (some a1) fun h103 =>
  zpI h103 a0 9 1 v2 fun h104 =>
  zpI h104 a0 9 2 v3 fun h105 =>
  zret () h105
set_option maxHeartbeats 4000000 in
set_option maxRecDepth 100000 in
theorem m_X11_init (l : Launch) (D : va_G) (dA : Nat → ClassId) (b0 : Nat) (gs : Nat → Option Nat) (h : PH) (a0 : Nat) (a1 : Nat) (v2 : Int32) (v3 : Int32) {r : Unit} {hh : PH} {mc ms : Nat} (hf : f_X11_init h a0 a1 v2 v3 = some (r, hh, mc, ms)) : zMt l D dA b0 gs yX11_init cX11_init 4 none 2 80 [.ref a0, .ref a1, .int v2, .int v3] h (evU r) hh mc ms := by
  unfold f_X11_init at hf
  refine zMt.of (by decide) (Nat.le_of_ble_eq_true rfl) ?_
  intro p e s m args below meth c hc hr hin hn ls hl
  have hl : lv_has ls 4 [(0, .ref a0), (1, .ref a1), (2, .int v2), (3, .int v3)] := hl
  have hq : 0 + mc = mc ∧ 0 + ms = ms := ⟨Nat.zero_add _, Nat.zero_add _⟩
  have hx := hc.x
  have hb := hc.b
  refine lv_aload_n (x := a0) hx hb dX11_init_0 rfl (lv_at hl 0 rfl) ?_
  refine zr_cI (As := []) (rest := []) hc hn hq rfl hd_J22_init (lw_meth q1044) q1042 q1043 q119 (Nat.le_of_ble_eq_true rfl) (Nat.le_of_ble_eq_true rfl) (fun _ _ _ _ q => m_J22_init l D dA b0 gs h a0 q) hf dX11_init_1 hl.1 rfl rfl (zroom (Nat.le_of_ble_eq_true rfl)) (fun x101 h102 H locs cells slots C9 S9 hf hq hn => ?_)
  refine lv_aload_n (x := a0) hx hb dX11_init_4 rfl (lv_at hl 0 rfl) ?_
  refine lv_aload_n (x := a1) hx hb dX11_init_5 rfl (lv_at hl 1 rfl) ?_
  refine zr_pP (x := (some a1)) hc hn (ci := 9) rfl rfl in_X11 0 (by decide) tyX11 tyX11_ok nmX11 q1046 (fun _ h => h) (Or.inr ⟨rfl, hin, rfl⟩) (fun _ _ _ => rfl) (zn_rf _ (by decide)) (zf_rf _ (by decide)) hf dX11_init_6 (fun h103 H locs hf hn => ?_)
  refine lv_aload_n (x := a0) hx hb dX11_init_9 rfl (lv_at hl 0 rfl) ?_
  refine lv_iload_n hx hb dX11_init_10 rfl (lv_at hl 2 rfl) ?_
  refine zr_pI (x := v2) hc hn (ci := 9) rfl rfl in_X11 1 (by decide) tyX11 tyX11_ok nmX11 q1047 (fun _ h => h) (Or.inr ⟨rfl, hin, rfl⟩) (fun _ _ _ => rfl) rfl rfl hf dX11_init_11 (fun h104 H locs hf hn => ?_)
  refine lv_aload_n (x := a0) hx hb dX11_init_14 rfl (lv_at hl 0 rfl) ?_
  refine lv_iload_n hx hb dX11_init_15 rfl (lv_at hl 3 rfl) ?_
  refine zr_pI (x := v3) hc hn (ci := 9) rfl rfl in_X11 2 (by decide) tyX11 tyX11_ok nmX11 q1048 (fun _ h => h) (Or.inr ⟨rfl, hin, rfl⟩) (fun _ _ _ => rfl) rfl rfl hf dX11_init_16 (fun h105 H locs hf hn => ?_)
  obtain ⟨rfl, rfl, rfl, rfl⟩ := zret_i hf
  exact zr_vret hc hn hr hq (fun _ _ _ _ q => q) dX11_init_19
theorem hd_X11_mend : yX11_mend.cls ≠ "java/lang/invoke/MethodHandle" ∧ yX11_mend.cls ≠ "java/lang/invoke/VarHandle" ∧ (parseMethodDescriptor yX11_mend.desc).map (fun d => d.parameters.length) = some 0 := by decide +kernel
def f_X11_mend (h : PH) (a0 : Nat) : ZR (Option Nat) :=
  zgP h a0 9 0 fun x101 =>
  zret x101 h
set_option maxHeartbeats 4000000 in
set_option maxRecDepth 100000 in
theorem m_X11_mend (l : Launch) (D : va_G) (dA : Nat → ClassId) (b0 : Nat) (gs : Nat → Option Nat) (h : PH) (a0 : Nat) {r : (Option Nat)} {hh : PH} {mc ms : Nat} (hf : f_X11_mend h a0 = some (r, hh, mc, ms)) : zMt l D dA b0 gs yX11_mend cX11_mend 1 (some (.object "CountedSkipLists$Mend")) 1 60 [.ref a0] h (evP r) hh mc ms := by
  unfold f_X11_mend at hf
  refine zMt.of (by decide) (Nat.le_of_ble_eq_true rfl) ?_
  intro p e s m args below meth c hc hr hin hn ls hl
  have hl : lv_has ls 1 [(0, .ref a0)] := hl
  have hq : 0 + mc = mc ∧ 0 + ms = ms := ⟨Nat.zero_add _, Nat.zero_add _⟩
  have hx := hc.x
  have hb := hc.b
  refine lv_aload_n (x := a0) hx hb dX11_mend_0 rfl (lv_at hl 0 rfl) ?_
  refine zr_gP hc hn (ci := 9) rfl rfl in_X11 0 (by decide) q1046 (fun _ h => h) (fun _ _ _ => rfl) hf dX11_mend_1 (fun x101 hf => ?_)
  obtain ⟨rfl, rfl, rfl, rfl⟩ := zret_i hf
  exact zr_aret (x := x101) hc hn hr (Or.inl ⟨_, rfl⟩) hq (fun _ _ _ _ q => q) dX11_mend_4
theorem hd_X11_level : yX11_level.cls ≠ "java/lang/invoke/MethodHandle" ∧ yX11_level.cls ≠ "java/lang/invoke/VarHandle" ∧ (parseMethodDescriptor yX11_level.desc).map (fun d => d.parameters.length) = some 0 := by decide +kernel
def f_X11_level (h : PH) (a0 : Nat) : ZR Int32 :=
  zgI h a0 9 1 fun x101 =>
  zret x101 h
set_option maxHeartbeats 4000000 in
set_option maxRecDepth 100000 in
theorem m_X11_level (l : Launch) (D : va_G) (dA : Nat → ClassId) (b0 : Nat) (gs : Nat → Option Nat) (h : PH) (a0 : Nat) {r : Int32} {hh : PH} {mc ms : Nat} (hf : f_X11_level h a0 = some (r, hh, mc, ms)) : zMt l D dA b0 gs yX11_level cX11_level 1 (some .int) 1 60 [.ref a0] h (evI r) hh mc ms := by
  unfold f_X11_level at hf
  refine zMt.of (by decide) (Nat.le_of_ble_eq_true rfl) ?_
  intro p e s m args below meth c hc hr hin hn ls hl
  have hl : lv_has ls 1 [(0, .ref a0)] := hl
  have hq : 0 + mc = mc ∧ 0 + ms = ms := ⟨Nat.zero_add _, Nat.zero_add _⟩
  have hx := hc.x
  have hb := hc.b
  refine lv_aload_n (x := a0) hx hb dX11_level_0 rfl (lv_at hl 0 rfl) ?_
  refine zr_gI hc hn (ci := 9) rfl rfl in_X11 1 (by decide) q1047 (fun _ h => h) (fun _ _ _ => rfl) hf dX11_level_1 (fun x101 hf => ?_)
  obtain ⟨rfl, rfl, rfl, rfl⟩ := zret_i hf
  exact zr_iret hc hn hr hq (fun _ _ _ _ q => q) dX11_level_4
theorem hd_X11_key : yX11_key.cls ≠ "java/lang/invoke/MethodHandle" ∧ yX11_key.cls ≠ "java/lang/invoke/VarHandle" ∧ (parseMethodDescriptor yX11_key.desc).map (fun d => d.parameters.length) = some 0 := by decide +kernel
def f_X11_key (h : PH) (a0 : Nat) : ZR Int32 :=
  zgI h a0 9 2 fun x101 =>
  zret x101 h
set_option maxHeartbeats 4000000 in
set_option maxRecDepth 100000 in
theorem m_X11_key (l : Launch) (D : va_G) (dA : Nat → ClassId) (b0 : Nat) (gs : Nat → Option Nat) (h : PH) (a0 : Nat) {r : Int32} {hh : PH} {mc ms : Nat} (hf : f_X11_key h a0 = some (r, hh, mc, ms)) : zMt l D dA b0 gs yX11_key cX11_key 1 (some .int) 1 60 [.ref a0] h (evI r) hh mc ms := by
  unfold f_X11_key at hf
  refine zMt.of (by decide) (Nat.le_of_ble_eq_true rfl) ?_
  intro p e s m args below meth c hc hr hin hn ls hl
  have hl : lv_has ls 1 [(0, .ref a0)] := hl
  have hq : 0 + mc = mc ∧ 0 + ms = ms := ⟨Nat.zero_add _, Nat.zero_add _⟩
  have hx := hc.x
  have hb := hc.b
  refine lv_aload_n (x := a0) hx hb dX11_key_0 rfl (lv_at hl 0 rfl) ?_
  refine zr_gI hc hn (ci := 9) rfl rfl in_X11 2 (by decide) q1048 (fun _ h => h) (fun _ _ _ => rfl) hf dX11_key_1 (fun x101 hf => ?_)
  obtain ⟨rfl, rfl, rfl, rfl⟩ := zret_i hf
  exact zr_iret hc hn hr hq (fun _ _ _ _ q => q) dX11_key_4
theorem hd_X7_height : yX7_height.cls ≠ "java/lang/invoke/MethodHandle" ∧ yX7_height.cls ≠ "java/lang/invoke/VarHandle" ∧ (parseMethodDescriptor yX7_height.desc).map (fun d => d.parameters.length) = some 0 := by decide +kernel
def f_X7_height_b2 : Nat → PH → Nat → Int32 → ZR Int32
  | 0 => fun _ _ _ => none
  | n + 1 => fun h a0 v1 =>
    zgP h a0 6 1 fun x101 =>
    znm (v1 + (1 : Int32)) fun x102 =>
    znn x101 fun a103 =>
    zrc h a103 7 <| zcl (f_X8_next h a103 x102) fun x104 h105 =>
    znul x104
      (zret v1 h105)
      (fun a106 =>
        znm (v1 + (1 : Int32)) fun x107 =>
        f_X7_height_b2 n h105 a0 x107)
def f_X7_height (h : PH) (a0 : Nat) : ZR Int32 :=
  f_X7_height_b2 zFU h a0 (0 : Int32)
set_option maxHeartbeats 4000000 in
set_option maxRecDepth 100000 in
theorem m_X7_height_b2 {p : Program} {l : Launch} {e : Env} {s : State} {m : MethodId} {args : Array Value} {below : List Frame} {meth : Method} {c : Code} {D : va_G} {dA : Nat → ClassId} {b0 : Nat} {gs : Nat → Option Nat} (hc : zC D dA b0 gs yX7_height.cls cX7_height 2 p c s m args meth) (hr : meth.sig.returnType = (some .int)) (hin : meth.name = yX7_height.name) {r : Int32} {hh : PH} {mc ms : Nat} : ∀ (n : Nat) (h : PH) (a0 : Nat) (v1 : Int32) (C9 S9 : Nat) (H : Heap) (locs : List Loc) (cells slots : Nat), f_X7_height_b2 n h a0 v1 = some (r, hh, C9, S9) → cells + C9 = mc ∧ slots + S9 = ms → zM D dA b0 gs s h H locs → ∀ ls : Array Slot, lv_has ls 2 [(0, .ref a0), (1, .int v1)] → W p l e ({ frames := 2, cells := mc, slots := ms, locals := 81 } : Room) s m args below meth c H locs cells slots (MQ below (zQ D dA b0 gs (evI r) hh) args s mc ms (zA b0)) (F0 m 2 ls []) := by
  have hx := hc.x
  have hb := hc.b
  intro n
  induction n with
  | zero =>
    intro h a0 v1 C9 S9 H locs cells slots hf hq hn ls hl
    cases hf
  | succ n ih =>
    intro h a0 v1 C9 S9 H locs cells slots hf hq hn ls hl
    unfold f_X7_height_b2 at hf
    refine lv_aload_n (x := a0) hx hb dX7_height_2 rfl (lv_at hl 0 rfl) ?_
    refine zr_gP hc hn (ci := 6) rfl rfl in_X7 1 (by decide) q871 (fun _ h => h) (fun _ _ _ => rfl) hf dX7_height_3 (fun x101 hf => ?_)
    refine lv_iload_n hx hb dX7_height_6 rfl (lv_at hl 1 rfl) ?_
    refine lv_iconst (v := (1 : Int32)) hx hb dX7_height_7 (by decide) ?_
    refine lv_iadd hx hb dX7_height_8 ?_
    refine zr_nmI hf (fun x102 hf => ?_)
    obtain ⟨a103, e9, hf9⟩ := znn_i hf
    subst e9
    have hf := hf9
    clear hf9
    refine zr_cVP (As := [.int x102]) (rest := []) hc hn hq (ci := 7) rfl ⟨rfl, hd_X8_next⟩ (lw_V q904 q905 q906 q116 q907) (Nat.le_of_ble_eq_true rfl) (Nat.le_of_ble_eq_true rfl) (fun _ _ _ _ q => m_X8_next l D dA b0 gs h a103 x102 q) hf dX7_height_9 hl.1 rfl rfl (zroom (Nat.le_of_ble_eq_true rfl)) (fun x104 h105 H locs cells slots C9 S9 hf hq hn => ?_)
    refine zr_ifnull (tgt := 21) hx hb hf dX7_height_12 (by decide) (fun e9 hf9 => ?_) (fun a106 e9 hf9 => ?_)
    · subst e9
      have hf := hf9
      clear hf9
      refine lv_iload_n hx hb dX7_height_21 rfl (lv_at hl 1 rfl) ?_
      obtain ⟨rfl, rfl, rfl, rfl⟩ := zret_i hf
      exact zr_iret hc hn hr hq (fun _ _ _ _ q => q) dX7_height_22
    · subst e9
      have hf := hf9
      clear hf9
      obtain ⟨x107, ex107, hf⟩ := znm_i hf
      refine lv_iinc (v := x107) (lv' := [(1, .int x107), (0, .ref a0)]) hx hb dX7_height_15 hl (k := 1) rfl (by rw [ex107]; rfl) (by decide) rfl (fun ls hl => ?_)
      refine lv_goto (tgt := 2) hx hb dX7_height_18 (by decide) ?_
      exact ih h105 a0 x107 _ _ _ _ _ _ hf hq hn _ (lv_sub hl [1, 0] rfl)
set_option maxHeartbeats 4000000 in
set_option maxRecDepth 100000 in
theorem m_X7_height (l : Launch) (D : va_G) (dA : Nat → ClassId) (b0 : Nat) (gs : Nat → Option Nat) (h : PH) (a0 : Nat) {r : Int32} {hh : PH} {mc ms : Nat} (hf : f_X7_height h a0 = some (r, hh, mc, ms)) : zMt l D dA b0 gs yX7_height cX7_height 2 (some .int) 2 81 [.ref a0] h (evI r) hh mc ms := by
  unfold f_X7_height at hf
  refine zMt.of (by decide) (Nat.le_of_ble_eq_true rfl) ?_
  intro p e s m args below meth c hc hr hin hn ls hl
  have hl : lv_has ls 2 [(0, .ref a0)] := hl
  have hq : 0 + mc = mc ∧ 0 + ms = ms := ⟨Nat.zero_add _, Nat.zero_add _⟩
  have hx := hc.x
  have hb := hc.b
  refine lv_iconst (v := (0 : Int32)) hx hb dX7_height_0 (by decide) ?_
  refine lv_istore_n (i := 1) (lv' := [(1, .int (0 : Int32)), (0, .ref a0)]) hx hb dX7_height_1 rfl hl (by decide) rfl (fun ls hl => ?_)
  exact m_X7_height_b2 hc hr hin zFU h a0 (0 : Int32) _ _ _ _ _ _ hf hq hn _ (lv_sub hl [1, 0] rfl)
theorem hd_X12_init : yX12_init.cls ≠ "java/lang/invoke/MethodHandle" ∧ yX12_init.cls ≠ "java/lang/invoke/VarHandle" ∧ (parseMethodDescriptor yX12_init.desc).map (fun d => d.parameters.length) = some 2 := by decide +kernel
def f_X12_init_b120 (k36 : PH → Nat → Int32 → Option Nat → Int32 → ZR Unit) (h : PH) (a0 : Nat) (v2 : Int32) (a3 : Nat) (v4 : Int32) : ZR Unit :=
  znm (v4 + (-1 : Int32)) fun x101 =>
  k36 h a0 v2 (some a3) x101
def f_X12_init_b41 (k36 : PH → Nat → Int32 → Option Nat → Int32 → ZR Unit) : Nat → PH → Nat → Int32 → Option Nat → Int32 → ZR Unit
  | 0 => fun _ _ _ _ _ => none
  | n + 1 => fun h a0 v2 o3 v4 =>
    znn o3 fun a101 =>
    zrc h a101 7 <| zcl (f_X8_next h a101 v4) fun x102 h103 =>
    znul x102
      (f_X12_init_b120 k36 h103 a0 v2 a101 v4)
      (fun a104 =>
        zgI h103 a0 10 3 fun x105 =>
        znm (x105 + (1 : Int32)) fun x106 =>
        zpI h103 a0 10 3 x106 fun h107 =>
        zrc h107 a101 7 <| zcl (f_X8_next h107 a101 v4) fun x108 h109 =>
        znn x108 fun a110 =>
        zgI h109 a110 7 0 fun x111 =>
        if x111 < v2 then
          (zrc h109 a101 7 <| zcl (f_X8_next h109 a101 v4) fun x112 h113 =>
          zgP h113 a0 10 0 fun x114 =>
          zgI h113 a0 10 2 fun x115 =>
          znn x112 fun a116 =>
          zgI h113 a116 7 0 fun x117 =>
          znn x114 fun a118 =>
          zsI h113 a118 0 x115 x117 fun h119 =>
          zgP h119 a0 10 1 fun x120 =>
          zgI h119 a0 10 2 fun x121 =>
          znn x120 fun a122 =>
          zsI h119 a122 0 x121 v4 fun h123 =>
          zgI h123 a0 10 2 fun x124 =>
          znm (x124 + (1 : Int32)) fun x125 =>
          zpI h123 a0 10 2 x125 fun h126 =>
          f_X12_init_b41 k36 n h126 a0 v2 (some a116) v4)
        else
          (f_X12_init_b120 k36 h109 a0 v2 a101 v4))
def f_X12_init_b36 : Nat → PH → Nat → Int32 → Option Nat → Int32 → ZR Unit
  | 0 => fun _ _ _ _ _ => none
  | n + 1 => fun h a0 v2 o3 v4 =>
    if v4 ≤ 0 then
      (zret () h)
    else
      (f_X12_init_b41 (f_X12_init_b36 n) zFU h a0 v2 o3 v4)
def f_X12_init (h : PH) (a0 : Nat) (a1 : Nat) (v2 : Int32) : ZR Unit :=
  zpP h a0 10 4 (some a1) fun h101 =>
  zna h101 0 (60 : Int32) fun a102 h103 =>
  zpP h103 a0 10 0 (some a102) fun h104 =>
  zna h104 0 (60 : Int32) fun a105 h106 =>
  zpP h106 a0 10 1 (some a105) fun h107 =>
  zgP h107 a1 6 1 fun x108 =>
  zrc h107 a1 6 <| zcl (f_X7_height h107 a1) fun x109 h110 =>
  f_X12_init_b36 zFU h110 a0 v2 x108 x109
set_option maxHeartbeats 4000000 in
set_option maxRecDepth 100000 in
theorem m_X12_init_b120 {p : Program} {l : Launch} {e : Env} {s : State} {m : MethodId} {args : Array Value} {below : List Frame} {meth : Method} {c : Code} {D : va_G} {dA : Nat → ClassId} {b0 : Nat} {gs : Nat → Option Nat} (hc : zC D dA b0 gs yX12_init.cls cX12_init 5 p c s m args meth) (hr : meth.sig.returnType = none) (hin : meth.name = yX12_init.name) {r : Unit} {hh : PH} {mc ms : Nat} (k36 : PH → Nat → Int32 → Option Nat → Int32 → ZR Unit) (hk36 : ∀ (h : PH) (a0 : Nat) (v2 : Int32) (o3 : Option Nat) (v4 : Int32) (C9 S9 : Nat) (H : Heap) (locs : List Loc) (cells slots : Nat), k36 h a0 v2 o3 v4 = some (r, hh, C9, S9) → cells + C9 = mc ∧ slots + S9 = ms → zM D dA b0 gs s h H locs → ∀ ls : Array Slot, lv_has ls 5 [(0, .ref a0), (2, .int v2), (3, va_rf o3), (4, .int v4)] → W p l e ({ frames := 3, cells := mc, slots := ms, locals := 102 } : Room) s m args below meth c H locs cells slots (MQ below (zQ D dA b0 gs (evU r) hh) args s mc ms (zA b0)) (F0 m 36 ls [])) : ∀ (h : PH) (a0 : Nat) (v2 : Int32) (a3 : Nat) (v4 : Int32) (C9 S9 : Nat) (H : Heap) (locs : List Loc) (cells slots : Nat), f_X12_init_b120 k36 h a0 v2 a3 v4 = some (r, hh, C9, S9) → cells + C9 = mc ∧ slots + S9 = ms → zM D dA b0 gs s h H locs → ∀ ls : Array Slot, lv_has ls 5 [(0, .ref a0), (2, .int v2), (3, .ref a3), (4, .int v4)] → W p l e ({ frames := 3, cells := mc, slots := ms, locals := 102 } : Room) s m args below meth c H locs cells slots (MQ below (zQ D dA b0 gs (evU r) hh) args s mc ms (zA b0)) (F0 m 120 ls []) := by
  have hx := hc.x
  have hb := hc.b
  intro h a0 v2 a3 v4 C9 S9 H locs cells slots hf hq hn ls hl
  unfold f_X12_init_b120 at hf
  obtain ⟨x101, ex101, hf⟩ := znm_i hf
  refine lv_iinc (v := x101) (lv' := [(4, .int x101), (0, .ref a0), (2, .int v2), (3, .ref a3)]) hx hb dX12_init_120 hl (k := 3) rfl (by rw [ex101]; rfl) (by decide) rfl (fun ls hl => ?_)
  refine lv_goto (tgt := 36) hx hb dX12_init_123 (by decide) ?_
  exact hk36 h a0 v2 (some a3) x101 _ _ _ _ _ _ hf hq hn _ (lv_sub hl [1, 2, 3, 0] rfl)
set_option maxHeartbeats 4000000 in
set_option maxRecDepth 100000 in
theorem m_X12_init_b41 {p : Program} {l : Launch} {e : Env} {s : State} {m : MethodId} {args : Array Value} {below : List Frame} {meth : Method} {c : Code} {D : va_G} {dA : Nat → ClassId} {b0 : Nat} {gs : Nat → Option Nat} (hc : zC D dA b0 gs yX12_init.cls cX12_init 5 p c s m args meth) (hr : meth.sig.returnType = none) (hin : meth.name = yX12_init.name) {r : Unit} {hh : PH} {mc ms : Nat} (k36 : PH → Nat → Int32 → Option Nat → Int32 → ZR Unit) (hk36 : ∀ (h : PH) (a0 : Nat) (v2 : Int32) (o3 : Option Nat) (v4 : Int32) (C9 S9 : Nat) (H : Heap) (locs : List Loc) (cells slots : Nat), k36 h a0 v2 o3 v4 = some (r, hh, C9, S9) → cells + C9 = mc ∧ slots + S9 = ms → zM D dA b0 gs s h H locs → ∀ ls : Array Slot, lv_has ls 5 [(0, .ref a0), (2, .int v2), (3, va_rf o3), (4, .int v4)] → W p l e ({ frames := 3, cells := mc, slots := ms, locals := 102 } : Room) s m args below meth c H locs cells slots (MQ below (zQ D dA b0 gs (evU r) hh) args s mc ms (zA b0)) (F0 m 36 ls [])) : ∀ (n : Nat) (h : PH) (a0 : Nat) (v2 : Int32) (o3 : Option Nat) (v4 : Int32) (C9 S9 : Nat) (H : Heap) (locs : List Loc) (cells slots : Nat), f_X12_init_b41 k36 n h a0 v2 o3 v4 = some (r, hh, C9, S9) → cells + C9 = mc ∧ slots + S9 = ms → zM D dA b0 gs s h H locs → ∀ ls : Array Slot, lv_has ls 5 [(0, .ref a0), (2, .int v2), (3, va_rf o3), (4, .int v4)] → W p l e ({ frames := 3, cells := mc, slots := ms, locals := 102 } : Room) s m args below meth c H locs cells slots (MQ below (zQ D dA b0 gs (evU r) hh) args s mc ms (zA b0)) (F0 m 41 ls []) := by
  have hx := hc.x
  have hb := hc.b
  intro n
  induction n with
  | zero =>
    intro h a0 v2 o3 v4 C9 S9 H locs cells slots hf hq hn ls hl
    cases hf
  | succ n ih =>
    intro h a0 v2 o3 v4 C9 S9 H locs cells slots hf hq hn ls hl
    unfold f_X12_init_b41 at hf
    refine zr_aload_n (x := o3) hx hb dX12_init_41 rfl (lv_at hl 2 rfl) ?_
    refine lv_iload hx hb dX12_init_42 (lv_at hl 3 rfl) ?_
    obtain ⟨a101, e9, hf9⟩ := znn_i hf
    subst e9
    have hf := hf9
    clear hf9
    refine zr_cVP (As := [.int v4]) (rest := []) hc hn hq (ci := 7) rfl ⟨rfl, hd_X8_next⟩ (lw_V q1365 q905 q906 q116 q907) (Nat.le_of_ble_eq_true rfl) (Nat.le_of_ble_eq_true rfl) (fun _ _ _ _ q => m_X8_next l D dA b0 gs h a101 v4 q) hf dX12_init_44 hl.1 rfl rfl (zroom (Nat.le_of_ble_eq_true rfl)) (fun x102 h103 H locs cells slots C9 S9 hf hq hn => ?_)
    refine zr_ifnull (tgt := 120) hx hb hf dX12_init_47 (by decide) (fun e9 hf9 => ?_) (fun a104 e9 hf9 => ?_)
    · subst e9
      have hf := hf9
      clear hf9
      exact m_X12_init_b120 hc hr hin k36 hk36 h103 a0 v2 a101 v4 _ _ _ _ _ _ hf hq hn _ (lv_sub hl [0, 1, 2, 3] rfl)
    · subst e9
      have hf := hf9
      clear hf9
      refine lv_aload_n (x := a0) hx hb dX12_init_50 rfl (lv_at hl 0 rfl) ?_
      refine lv_dup hx hb dX12_init_51 rfl ?_
      refine zr_gI hc hn (ci := 10) rfl rfl in_X12 3 (by decide) q1372 (fun _ h => h) (fun _ _ _ => rfl) hf dX12_init_52 (fun x105 hf => ?_)
      refine lv_iconst (v := (1 : Int32)) hx hb dX12_init_55 (by decide) ?_
      refine lv_iadd hx hb dX12_init_56 ?_
      refine zr_nmI hf (fun x106 hf => ?_)
      refine zr_pI (x := x106) hc hn (ci := 10) rfl rfl in_X12 3 (by decide) tyX12 tyX12_ok nmX12 q1372 (fun _ h => h) (Or.inl rfl) (fun _ _ _ => rfl) rfl rfl hf dX12_init_57 (fun h107 H locs hf hn => ?_)
      refine lv_aload_n (x := a101) hx hb dX12_init_60 rfl (lv_at hl 2 rfl) ?_
      refine lv_iload hx hb dX12_init_61 (lv_at hl 3 rfl) ?_
      refine zr_cVP (As := [.int v4]) (rest := []) hc hn hq (ci := 7) rfl ⟨rfl, hd_X8_next⟩ (lw_V q1365 q905 q906 q116 q907) (Nat.le_of_ble_eq_true rfl) (Nat.le_of_ble_eq_true rfl) (fun _ _ _ _ q => m_X8_next l D dA b0 gs h107 a101 v4 q) hf dX12_init_63 hl.1 rfl rfl (zroom (Nat.le_of_ble_eq_true rfl)) (fun x108 h109 H locs cells slots C9 S9 hf hq hn => ?_)
      obtain ⟨a110, e9, hf9⟩ := znn_i hf
      subst e9
      have hf := hf9
      clear hf9
      refine zr_gIN hc hn (ci := 7) rfl rfl in_X8 0 (by decide) q830 (fun _ h => h) (fun _ _ _ => rfl) hf dX12_init_66 (fun x111 hf => ?_)
      refine lv_iload_n hx hb dX12_init_69 rfl (lv_at hl 1 rfl) ?_
      refine lv_icmp_lt (tgt := 76) hx hb dX12_init_70 (by decide) (fun c9 => ?_) (fun c9 => ?_)
      · have hf := zif_t c9 hf
        refine lv_aload_n (x := a101) hx hb dX12_init_76 rfl (lv_at hl 2 rfl) ?_
        refine lv_iload hx hb dX12_init_77 (lv_at hl 3 rfl) ?_
        refine zr_cVP (As := [.int v4]) (rest := []) hc hn hq (ci := 7) rfl ⟨rfl, hd_X8_next⟩ (lw_V q1365 q905 q906 q116 q907) (Nat.le_of_ble_eq_true rfl) (Nat.le_of_ble_eq_true rfl) (fun _ _ _ _ q => m_X8_next l D dA b0 gs h109 a101 v4 q) hf dX12_init_79 hl.1 rfl rfl (zroom (Nat.le_of_ble_eq_true rfl)) (fun x112 h113 H locs cells slots C9 S9 hf hq hn => ?_)
        refine zr_astore_n (x := x112) (i := 3) (lv' := [(3, va_rf x112), (0, .ref a0), (2, .int v2), (4, .int v4)]) hx hb dX12_init_82 rfl hl (by decide) rfl (fun ls hl => ?_)
        refine lv_aload_n (x := a0) hx hb dX12_init_83 rfl (lv_at hl 1 rfl) ?_
        refine zr_gP hc hn (ci := 10) rfl rfl in_X12 0 (by decide) q1366 (fun _ h => h) (fun _ _ _ => rfl) hf dX12_init_84 (fun x114 hf => ?_)
        refine lv_aload_n (x := a0) hx hb dX12_init_87 rfl (lv_at hl 1 rfl) ?_
        refine zr_gI hc hn (ci := 10) rfl rfl in_X12 2 (by decide) q1370 (fun _ h => h) (fun _ _ _ => rfl) hf dX12_init_88 (fun x115 hf => ?_)
        refine zr_aload_n (x := x112) hx hb dX12_init_91 rfl (lv_at hl 0 rfl) ?_
        obtain ⟨a116, e9, hf9⟩ := znn_i hf
        subst e9
        have hf := hf9
        clear hf9
        refine zr_gIN hc hn (ci := 7) rfl rfl in_X8 0 (by decide) q830 (fun _ h => h) (fun _ _ _ => rfl) hf dX12_init_92 (fun x117 hf => ?_)
        obtain ⟨a118, e9, hf9⟩ := znn_i hf
        subst e9
        have hf := hf9
        clear hf9
        refine zr_sI hc hn hf dX12_init_95 (fun h119 H locs hf hn => ?_)
        refine lv_aload_n (x := a0) hx hb dX12_init_96 rfl (lv_at hl 1 rfl) ?_
        refine zr_gP hc hn (ci := 10) rfl rfl in_X12 1 (by decide) q1368 (fun _ h => h) (fun _ _ _ => rfl) hf dX12_init_97 (fun x120 hf => ?_)
        refine lv_aload_n (x := a0) hx hb dX12_init_100 rfl (lv_at hl 1 rfl) ?_
        refine zr_gI hc hn (ci := 10) rfl rfl in_X12 2 (by decide) q1370 (fun _ h => h) (fun _ _ _ => rfl) hf dX12_init_101 (fun x121 hf => ?_)
        refine lv_iload hx hb dX12_init_104 (lv_at hl 3 rfl) ?_
        obtain ⟨a122, e9, hf9⟩ := znn_i hf
        subst e9
        have hf := hf9
        clear hf9
        refine zr_sI hc hn hf dX12_init_106 (fun h123 H locs hf hn => ?_)
        refine lv_aload_n (x := a0) hx hb dX12_init_107 rfl (lv_at hl 1 rfl) ?_
        refine lv_dup hx hb dX12_init_108 rfl ?_
        refine zr_gI hc hn (ci := 10) rfl rfl in_X12 2 (by decide) q1370 (fun _ h => h) (fun _ _ _ => rfl) hf dX12_init_109 (fun x124 hf => ?_)
        refine lv_iconst (v := (1 : Int32)) hx hb dX12_init_112 (by decide) ?_
        refine lv_iadd hx hb dX12_init_113 ?_
        refine zr_nmI hf (fun x125 hf => ?_)
        refine zr_pI (x := x125) hc hn (ci := 10) rfl rfl in_X12 2 (by decide) tyX12 tyX12_ok nmX12 q1370 (fun _ h => h) (Or.inl rfl) (fun _ _ _ => rfl) rfl rfl hf dX12_init_114 (fun h126 H locs hf hn => ?_)
        refine lv_goto (tgt := 41) hx hb dX12_init_117 (by decide) ?_
        exact ih h126 a0 v2 (some a116) v4 _ _ _ _ _ _ hf hq hn _ (lv_sub hl [1, 2, 0, 3] rfl)
      · have hf := zif_f c9 hf
        refine lv_goto (tgt := 120) hx hb dX12_init_73 (by decide) ?_
        exact m_X12_init_b120 hc hr hin k36 hk36 h109 a0 v2 a101 v4 _ _ _ _ _ _ hf hq hn _ (lv_sub hl [0, 1, 2, 3] rfl)
set_option maxHeartbeats 4000000 in
set_option maxRecDepth 100000 in
theorem m_X12_init_b36 {p : Program} {l : Launch} {e : Env} {s : State} {m : MethodId} {args : Array Value} {below : List Frame} {meth : Method} {c : Code} {D : va_G} {dA : Nat → ClassId} {b0 : Nat} {gs : Nat → Option Nat} (hc : zC D dA b0 gs yX12_init.cls cX12_init 5 p c s m args meth) (hr : meth.sig.returnType = none) (hin : meth.name = yX12_init.name) {r : Unit} {hh : PH} {mc ms : Nat} : ∀ (n : Nat) (h : PH) (a0 : Nat) (v2 : Int32) (o3 : Option Nat) (v4 : Int32) (C9 S9 : Nat) (H : Heap) (locs : List Loc) (cells slots : Nat), f_X12_init_b36 n h a0 v2 o3 v4 = some (r, hh, C9, S9) → cells + C9 = mc ∧ slots + S9 = ms → zM D dA b0 gs s h H locs → ∀ ls : Array Slot, lv_has ls 5 [(0, .ref a0), (2, .int v2), (3, va_rf o3), (4, .int v4)] → W p l e ({ frames := 3, cells := mc, slots := ms, locals := 102 } : Room) s m args below meth c H locs cells slots (MQ below (zQ D dA b0 gs (evU r) hh) args s mc ms (zA b0)) (F0 m 36 ls []) := by
  have hx := hc.x
  have hb := hc.b
  intro n
  induction n with
  | zero =>
    intro h a0 v2 o3 v4 C9 S9 H locs cells slots hf hq hn ls hl
    cases hf
  | succ n ih =>
    intro h a0 v2 o3 v4 C9 S9 H locs cells slots hf hq hn ls hl
    unfold f_X12_init_b36 at hf
    refine lv_iload hx hb dX12_init_36 (lv_at hl 3 rfl) ?_
    refine lv_if_le (tgt := 126) hx hb dX12_init_38 (by decide) (fun c9 => ?_) (fun c9 => ?_)
    · have hf := zif_t c9 hf
      obtain ⟨rfl, rfl, rfl, rfl⟩ := zret_i hf
      exact zr_vret hc hn hr hq (fun _ _ _ _ q => q) dX12_init_126
    · have hf := zif_f c9 hf
      exact m_X12_init_b41 hc hr hin (f_X12_init_b36 n) ih zFU h a0 v2 o3 v4 _ _ _ _ _ _ hf hq hn _ (lv_sub hl [0, 1, 2, 3] rfl)
set_option maxHeartbeats 4000000 in
set_option maxRecDepth 100000 in
theorem m_X12_init (l : Launch) (D : va_G) (dA : Nat → ClassId) (b0 : Nat) (gs : Nat → Option Nat) (h : PH) (a0 : Nat) (a1 : Nat) (v2 : Int32) {r : Unit} {hh : PH} {mc ms : Nat} (hf : f_X12_init h a0 a1 v2 = some (r, hh, mc, ms)) : zMt l D dA b0 gs yX12_init cX12_init 5 none 3 102 [.ref a0, .ref a1, .int v2] h (evU r) hh mc ms := by
  unfold f_X12_init at hf
  refine zMt.of (by decide) (Nat.le_of_ble_eq_true rfl) ?_
  intro p e s m args below meth c hc hr hin hn ls hl
  have hl : lv_has ls 5 [(0, .ref a0), (1, .ref a1), (2, .int v2)] := hl
  have hq : 0 + mc = mc ∧ 0 + ms = ms := ⟨Nat.zero_add _, Nat.zero_add _⟩
  have hx := hc.x
  have hb := hc.b
  refine lv_aload_n (x := a0) hx hb dX12_init_0 rfl (lv_at hl 0 rfl) ?_
  refine lv_aload_n (x := a1) hx hb dX12_init_1 rfl (lv_at hl 1 rfl) ?_
  refine zr_pP (x := (some a1)) hc hn (ci := 10) rfl rfl in_X12 4 (by decide) tyX12 tyX12_ok nmX12 q1374 (fun _ h => h) (Or.inr ⟨rfl, hin, rfl⟩) (fun _ _ _ => rfl) (zn_rf _ (by decide)) (zf_rf _ (by decide)) hf dX12_init_2 (fun h101 H locs hf hn => ?_)
  refine lv_aload_n (x := a0) hx hb dX12_init_5 rfl (lv_at hl 0 rfl) ?_
  refine W.objInit hx hb hc.ow (hc.ts _ q1363) (hc.ts _ q137) (hc.ts _ q138) rfl (by rw [hc.ml]; exact hl.1) rfl dX12_init_6 (Nat.le_of_ble_eq_true rfl) (zroomL (Nat.le_of_ble_eq_true rfl) (Nat.le_of_ble_eq_true rfl)) ?_
  refine W.eq (g2 := F0 m 9 ls []) rfl ?_
  refine lv_aload_n (x := a0) hx hb dX12_init_9 rfl (lv_at hl 0 rfl) ?_
  refine lv_bipush (v := (60 : Int32)) hx hb dX12_init_10 (by decide) ?_
  refine zr_na0 hc hn hq q180 hf dX12_init_12 (fun a102 h103 H cells slots C9 S9 hf hq hn => ?_)
  refine zr_pP (x := (some a102)) hc hn (ci := 10) rfl rfl in_X12 0 (by decide) tyX12 tyX12_ok nmX12 q1366 (fun _ h => h) (Or.inr ⟨rfl, hin, rfl⟩) (fun _ _ _ => rfl) (zn_rf _ (by decide)) (zf_rf _ (by decide)) hf dX12_init_14 (fun h104 H locs hf hn => ?_)
  refine lv_aload_n (x := a0) hx hb dX12_init_17 rfl (lv_at hl 0 rfl) ?_
  refine lv_bipush (v := (60 : Int32)) hx hb dX12_init_18 (by decide) ?_
  refine zr_na0 hc hn hq q180 hf dX12_init_20 (fun a105 h106 H cells slots C9 S9 hf hq hn => ?_)
  refine zr_pP (x := (some a105)) hc hn (ci := 10) rfl rfl in_X12 1 (by decide) tyX12 tyX12_ok nmX12 q1368 (fun _ h => h) (Or.inr ⟨rfl, hin, rfl⟩) (fun _ _ _ => rfl) (zn_rf _ (by decide)) (zf_rf _ (by decide)) hf dX12_init_22 (fun h107 H locs hf hn => ?_)
  refine lv_aload_n (x := a1) hx hb dX12_init_25 rfl (lv_at hl 1 rfl) ?_
  refine zr_gPN hc hn (ci := 6) rfl rfl in_X7 1 (by decide) q872 (fun _ h => h) (fun _ _ _ => rfl) hf dX12_init_26 (fun x108 hf => ?_)
  refine zr_astore_n (x := x108) (i := 3) (lv' := [(3, va_rf x108), (0, .ref a0), (1, .ref a1), (2, .int v2)]) hx hb dX12_init_29 rfl hl (by decide) rfl (fun ls hl => ?_)
  refine lv_aload_n (x := a1) hx hb dX12_init_30 rfl (lv_at hl 2 rfl) ?_
  refine zr_cVI (As := []) (rest := []) hc hn hq (ci := 6) rfl ⟨rfl, hd_X7_height⟩ (lw_V q1364 q929 q930 q115 q931) (Nat.le_of_ble_eq_true rfl) (Nat.le_of_ble_eq_true rfl) (fun _ _ _ _ q => m_X7_height l D dA b0 gs h107 a1 q) hf dX12_init_31 hl.1 rfl rfl (zroom (Nat.le_of_ble_eq_true rfl)) (fun x109 h110 H locs cells slots C9 S9 hf hq hn => ?_)
  refine lv_istore (lv' := [(4, .int x109), (3, va_rf x108), (0, .ref a0), (1, .ref a1), (2, .int v2)]) hx hb dX12_init_34 hl (by decide) (by simp [zcat_rf, zcat_i, zcat_l, zcat_d, zcat_r, zcat_n] <;> rfl) (fun ls hl => ?_)
  exact m_X12_init_b36 hc hr hin zFU h110 a0 v2 x108 x109 _ _ _ _ _ _ hf hq hn _ (lv_sub hl [2, 4, 1, 0] rfl)
theorem hd_X7_findsPaths : yX7_findsPaths.cls ≠ "java/lang/invoke/MethodHandle" ∧ yX7_findsPaths.cls ≠ "java/lang/invoke/VarHandle" ∧ (parseMethodDescriptor yX7_findsPaths.desc).map (fun d => d.parameters.length) = some 1 := by decide +kernel
def f_X7_findsPaths_b41 (k8 : PH → Nat → Int32 → Option Nat → Int32 → ZR Unit) (h : PH) (a0 : Nat) (v1 : Int32) (a2 : Nat) (v3 : Int32) : ZR Unit :=
  zgP h a0 6 2 fun x101 =>
  znn x101 fun a102 =>
  zsO h a102 5 v3 (some a2) fun h103 =>
  znm (v3 + (-1 : Int32)) fun x104 =>
  k8 h103 a0 v1 (some a2) x104
def f_X7_findsPaths_b12 (k8 : PH → Nat → Int32 → Option Nat → Int32 → ZR Unit) : Nat → PH → Nat → Int32 → Option Nat → Int32 → ZR Unit
  | 0 => fun _ _ _ _ _ => none
  | n + 1 => fun h a0 v1 o2 v3 =>
    znn o2 fun a101 =>
    zrc h a101 7 <| zcl (f_X8_next h a101 v3) fun x102 h103 =>
    znul x102
      (f_X7_findsPaths_b41 k8 h103 a0 v1 a101 v3)
      (fun a104 =>
        zrc h103 a101 7 <| zcl (f_X8_next h103 a101 v3) fun x105 h106 =>
        znn x105 fun a107 =>
        zgI h106 a107 7 0 fun x108 =>
        if v1 ≤ x108 then
          (f_X7_findsPaths_b41 k8 h106 a0 v1 a101 v3)
        else
          (zrc h106 a101 7 <| zcl (f_X8_next h106 a101 v3) fun x109 h110 =>
          f_X7_findsPaths_b12 k8 n h110 a0 v1 x109 v3))
def f_X7_findsPaths_b8 : Nat → PH → Nat → Int32 → Option Nat → Int32 → ZR Unit
  | 0 => fun _ _ _ _ _ => none
  | n + 1 => fun h a0 v1 o2 v3 =>
    if v3 ≤ 0 then
      (zret () h)
    else
      (f_X7_findsPaths_b12 (f_X7_findsPaths_b8 n) zFU h a0 v1 o2 v3)
def f_X7_findsPaths (h : PH) (a0 : Nat) (v1 : Int32) : ZR Unit :=
  zgP h a0 6 1 fun x101 =>
  f_X7_findsPaths_b8 zFU h a0 v1 x101 (8 : Int32)
set_option maxHeartbeats 4000000 in
set_option maxRecDepth 100000 in
theorem m_X7_findsPaths_b41 {p : Program} {l : Launch} {e : Env} {s : State} {m : MethodId} {args : Array Value} {below : List Frame} {meth : Method} {c : Code} {D : va_G} {dA : Nat → ClassId} {b0 : Nat} {gs : Nat → Option Nat} (hc : zC D dA b0 gs yX7_findsPaths.cls cX7_findsPaths 4 p c s m args meth) (hr : meth.sig.returnType = none) (hin : meth.name = yX7_findsPaths.name) {r : Unit} {hh : PH} {mc ms : Nat} (k8 : PH → Nat → Int32 → Option Nat → Int32 → ZR Unit) (hk8 : ∀ (h : PH) (a0 : Nat) (v1 : Int32) (o2 : Option Nat) (v3 : Int32) (C9 S9 : Nat) (H : Heap) (locs : List Loc) (cells slots : Nat), k8 h a0 v1 o2 v3 = some (r, hh, C9, S9) → cells + C9 = mc ∧ slots + S9 = ms → zM D dA b0 gs s h H locs → ∀ ls : Array Slot, lv_has ls 4 [(0, .ref a0), (1, .int v1), (2, va_rf o2), (3, .int v3)] → W p l e ({ frames := 2, cells := mc, slots := ms, locals := 81 } : Room) s m args below meth c H locs cells slots (MQ below (zQ D dA b0 gs (evU r) hh) args s mc ms (zA b0)) (F0 m 8 ls [])) : ∀ (h : PH) (a0 : Nat) (v1 : Int32) (a2 : Nat) (v3 : Int32) (C9 S9 : Nat) (H : Heap) (locs : List Loc) (cells slots : Nat), f_X7_findsPaths_b41 k8 h a0 v1 a2 v3 = some (r, hh, C9, S9) → cells + C9 = mc ∧ slots + S9 = ms → zM D dA b0 gs s h H locs → ∀ ls : Array Slot, lv_has ls 4 [(0, .ref a0), (1, .int v1), (2, .ref a2), (3, .int v3)] → W p l e ({ frames := 2, cells := mc, slots := ms, locals := 81 } : Room) s m args below meth c H locs cells slots (MQ below (zQ D dA b0 gs (evU r) hh) args s mc ms (zA b0)) (F0 m 41 ls []) := by
  have hx := hc.x
  have hb := hc.b
  intro h a0 v1 a2 v3 C9 S9 H locs cells slots hf hq hn ls hl
  unfold f_X7_findsPaths_b41 at hf
  refine lv_aload_n (x := a0) hx hb dX7_findsPaths_41 rfl (lv_at hl 0 rfl) ?_
  refine zr_gP hc hn (ci := 6) rfl rfl in_X7 2 (by decide) q874 (fun _ h => h) (fun _ _ _ => rfl) hf dX7_findsPaths_42 (fun x101 hf => ?_)
  refine lv_iload_n hx hb dX7_findsPaths_45 rfl (lv_at hl 3 rfl) ?_
  refine lv_aload_n (x := a2) hx hb dX7_findsPaths_46 rfl (lv_at hl 2 rfl) ?_
  obtain ⟨a102, e9, hf9⟩ := znn_i hf
  subst e9
  have hf := hf9
  clear hf9
  refine zr_sO (ai := 5) (x := (some a2)) (by decide) hc hn hf dX7_findsPaths_47 (fun h103 H locs hf hn => ?_)
  obtain ⟨x104, ex104, hf⟩ := znm_i hf
  refine lv_iinc (v := x104) (lv' := [(3, .int x104), (0, .ref a0), (1, .int v1), (2, .ref a2)]) hx hb dX7_findsPaths_48 hl (k := 3) rfl (by rw [ex104]; rfl) (by decide) rfl (fun ls hl => ?_)
  refine lv_goto (tgt := 8) hx hb dX7_findsPaths_51 (by decide) ?_
  exact hk8 h103 a0 v1 (some a2) x104 _ _ _ _ _ _ hf hq hn _ (lv_sub hl [1, 2, 3, 0] rfl)
set_option maxHeartbeats 4000000 in
set_option maxRecDepth 100000 in
theorem m_X7_findsPaths_b12 {p : Program} {l : Launch} {e : Env} {s : State} {m : MethodId} {args : Array Value} {below : List Frame} {meth : Method} {c : Code} {D : va_G} {dA : Nat → ClassId} {b0 : Nat} {gs : Nat → Option Nat} (hc : zC D dA b0 gs yX7_findsPaths.cls cX7_findsPaths 4 p c s m args meth) (hr : meth.sig.returnType = none) (hin : meth.name = yX7_findsPaths.name) {r : Unit} {hh : PH} {mc ms : Nat} (k8 : PH → Nat → Int32 → Option Nat → Int32 → ZR Unit) (hk8 : ∀ (h : PH) (a0 : Nat) (v1 : Int32) (o2 : Option Nat) (v3 : Int32) (C9 S9 : Nat) (H : Heap) (locs : List Loc) (cells slots : Nat), k8 h a0 v1 o2 v3 = some (r, hh, C9, S9) → cells + C9 = mc ∧ slots + S9 = ms → zM D dA b0 gs s h H locs → ∀ ls : Array Slot, lv_has ls 4 [(0, .ref a0), (1, .int v1), (2, va_rf o2), (3, .int v3)] → W p l e ({ frames := 2, cells := mc, slots := ms, locals := 81 } : Room) s m args below meth c H locs cells slots (MQ below (zQ D dA b0 gs (evU r) hh) args s mc ms (zA b0)) (F0 m 8 ls [])) : ∀ (n : Nat) (h : PH) (a0 : Nat) (v1 : Int32) (o2 : Option Nat) (v3 : Int32) (C9 S9 : Nat) (H : Heap) (locs : List Loc) (cells slots : Nat), f_X7_findsPaths_b12 k8 n h a0 v1 o2 v3 = some (r, hh, C9, S9) → cells + C9 = mc ∧ slots + S9 = ms → zM D dA b0 gs s h H locs → ∀ ls : Array Slot, lv_has ls 4 [(0, .ref a0), (1, .int v1), (2, va_rf o2), (3, .int v3)] → W p l e ({ frames := 2, cells := mc, slots := ms, locals := 81 } : Room) s m args below meth c H locs cells slots (MQ below (zQ D dA b0 gs (evU r) hh) args s mc ms (zA b0)) (F0 m 12 ls []) := by
  have hx := hc.x
  have hb := hc.b
  intro n
  induction n with
  | zero =>
    intro h a0 v1 o2 v3 C9 S9 H locs cells slots hf hq hn ls hl
    cases hf
  | succ n ih =>
    intro h a0 v1 o2 v3 C9 S9 H locs cells slots hf hq hn ls hl
    unfold f_X7_findsPaths_b12 at hf
    refine zr_aload_n (x := o2) hx hb dX7_findsPaths_12 rfl (lv_at hl 2 rfl) ?_
    refine lv_iload_n hx hb dX7_findsPaths_13 rfl (lv_at hl 3 rfl) ?_
    obtain ⟨a101, e9, hf9⟩ := znn_i hf
    subst e9
    have hf := hf9
    clear hf9
    refine zr_cVP (As := [.int v3]) (rest := []) hc hn hq (ci := 7) rfl ⟨rfl, hd_X8_next⟩ (lw_V q904 q905 q906 q116 q907) (Nat.le_of_ble_eq_true rfl) (Nat.le_of_ble_eq_true rfl) (fun _ _ _ _ q => m_X8_next l D dA b0 gs h a101 v3 q) hf dX7_findsPaths_14 hl.1 rfl rfl (zroom (Nat.le_of_ble_eq_true rfl)) (fun x102 h103 H locs cells slots C9 S9 hf hq hn => ?_)
    refine zr_ifnull (tgt := 41) hx hb hf dX7_findsPaths_17 (by decide) (fun e9 hf9 => ?_) (fun a104 e9 hf9 => ?_)
    · subst e9
      have hf := hf9
      clear hf9
      exact m_X7_findsPaths_b41 hc hr hin k8 hk8 h103 a0 v1 a101 v3 _ _ _ _ _ _ hf hq hn _ (lv_sub hl [0, 1, 2, 3] rfl)
    · subst e9
      have hf := hf9
      clear hf9
      refine lv_aload_n (x := a101) hx hb dX7_findsPaths_20 rfl (lv_at hl 2 rfl) ?_
      refine lv_iload_n hx hb dX7_findsPaths_21 rfl (lv_at hl 3 rfl) ?_
      refine zr_cVP (As := [.int v3]) (rest := []) hc hn hq (ci := 7) rfl ⟨rfl, hd_X8_next⟩ (lw_V q904 q905 q906 q116 q907) (Nat.le_of_ble_eq_true rfl) (Nat.le_of_ble_eq_true rfl) (fun _ _ _ _ q => m_X8_next l D dA b0 gs h103 a101 v3 q) hf dX7_findsPaths_22 hl.1 rfl rfl (zroom (Nat.le_of_ble_eq_true rfl)) (fun x105 h106 H locs cells slots C9 S9 hf hq hn => ?_)
      obtain ⟨a107, e9, hf9⟩ := znn_i hf
      subst e9
      have hf := hf9
      clear hf9
      refine zr_gIN hc hn (ci := 7) rfl rfl in_X8 0 (by decide) q834 (fun _ h => h) (fun _ _ _ => rfl) hf dX7_findsPaths_25 (fun x108 hf => ?_)
      refine lv_iload_n hx hb dX7_findsPaths_28 rfl (lv_at hl 1 rfl) ?_
      refine lv_icmp_ge (tgt := 41) hx hb dX7_findsPaths_29 (by decide) (fun c9 => ?_) (fun c9 => ?_)
      · have hf := zif_t c9 hf
        exact m_X7_findsPaths_b41 hc hr hin k8 hk8 h106 a0 v1 a101 v3 _ _ _ _ _ _ hf hq hn _ (lv_sub hl [0, 1, 2, 3] rfl)
      · have hf := zif_f c9 hf
        refine lv_aload_n (x := a101) hx hb dX7_findsPaths_32 rfl (lv_at hl 2 rfl) ?_
        refine lv_iload_n hx hb dX7_findsPaths_33 rfl (lv_at hl 3 rfl) ?_
        refine zr_cVP (As := [.int v3]) (rest := []) hc hn hq (ci := 7) rfl ⟨rfl, hd_X8_next⟩ (lw_V q904 q905 q906 q116 q907) (Nat.le_of_ble_eq_true rfl) (Nat.le_of_ble_eq_true rfl) (fun _ _ _ _ q => m_X8_next l D dA b0 gs h106 a101 v3 q) hf dX7_findsPaths_34 hl.1 rfl rfl (zroom (Nat.le_of_ble_eq_true rfl)) (fun x109 h110 H locs cells slots C9 S9 hf hq hn => ?_)
        refine zr_astore_n (x := x109) (i := 2) (lv' := [(2, va_rf x109), (0, .ref a0), (1, .int v1), (3, .int v3)]) hx hb dX7_findsPaths_37 rfl hl (by decide) rfl (fun ls hl => ?_)
        refine lv_goto (tgt := 12) hx hb dX7_findsPaths_38 (by decide) ?_
        exact ih h110 a0 v1 x109 v3 _ _ _ _ _ _ hf hq hn _ (lv_sub hl [1, 2, 0, 3] rfl)
set_option maxHeartbeats 4000000 in
set_option maxRecDepth 100000 in
theorem m_X7_findsPaths_b8 {p : Program} {l : Launch} {e : Env} {s : State} {m : MethodId} {args : Array Value} {below : List Frame} {meth : Method} {c : Code} {D : va_G} {dA : Nat → ClassId} {b0 : Nat} {gs : Nat → Option Nat} (hc : zC D dA b0 gs yX7_findsPaths.cls cX7_findsPaths 4 p c s m args meth) (hr : meth.sig.returnType = none) (hin : meth.name = yX7_findsPaths.name) {r : Unit} {hh : PH} {mc ms : Nat} : ∀ (n : Nat) (h : PH) (a0 : Nat) (v1 : Int32) (o2 : Option Nat) (v3 : Int32) (C9 S9 : Nat) (H : Heap) (locs : List Loc) (cells slots : Nat), f_X7_findsPaths_b8 n h a0 v1 o2 v3 = some (r, hh, C9, S9) → cells + C9 = mc ∧ slots + S9 = ms → zM D dA b0 gs s h H locs → ∀ ls : Array Slot, lv_has ls 4 [(0, .ref a0), (1, .int v1), (2, va_rf o2), (3, .int v3)] → W p l e ({ frames := 2, cells := mc, slots := ms, locals := 81 } : Room) s m args below meth c H locs cells slots (MQ below (zQ D dA b0 gs (evU r) hh) args s mc ms (zA b0)) (F0 m 8 ls []) := by
  have hx := hc.x
  have hb := hc.b
  intro n
  induction n with
  | zero =>
    intro h a0 v1 o2 v3 C9 S9 H locs cells slots hf hq hn ls hl
    cases hf
  | succ n ih =>
    intro h a0 v1 o2 v3 C9 S9 H locs cells slots hf hq hn ls hl
    unfold f_X7_findsPaths_b8 at hf
    refine lv_iload_n hx hb dX7_findsPaths_8 rfl (lv_at hl 3 rfl) ?_
    refine lv_if_le (tgt := 54) hx hb dX7_findsPaths_9 (by decide) (fun c9 => ?_) (fun c9 => ?_)
    · have hf := zif_t c9 hf
      obtain ⟨rfl, rfl, rfl, rfl⟩ := zret_i hf
      exact zr_vret hc hn hr hq (fun _ _ _ _ q => q) dX7_findsPaths_54
    · have hf := zif_f c9 hf
      exact m_X7_findsPaths_b12 hc hr hin (f_X7_findsPaths_b8 n) ih zFU h a0 v1 o2 v3 _ _ _ _ _ _ hf hq hn _ (lv_sub hl [0, 1, 2, 3] rfl)
set_option maxHeartbeats 4000000 in
set_option maxRecDepth 100000 in
theorem m_X7_findsPaths (l : Launch) (D : va_G) (dA : Nat → ClassId) (b0 : Nat) (gs : Nat → Option Nat) (h : PH) (a0 : Nat) (v1 : Int32) {r : Unit} {hh : PH} {mc ms : Nat} (hf : f_X7_findsPaths h a0 v1 = some (r, hh, mc, ms)) : zMt l D dA b0 gs yX7_findsPaths cX7_findsPaths 4 none 2 81 [.ref a0, .int v1] h (evU r) hh mc ms := by
  unfold f_X7_findsPaths at hf
  refine zMt.of (by decide) (Nat.le_of_ble_eq_true rfl) ?_
  intro p e s m args below meth c hc hr hin hn ls hl
  have hl : lv_has ls 4 [(0, .ref a0), (1, .int v1)] := hl
  have hq : 0 + mc = mc ∧ 0 + ms = ms := ⟨Nat.zero_add _, Nat.zero_add _⟩
  have hx := hc.x
  have hb := hc.b
  refine lv_aload_n (x := a0) hx hb dX7_findsPaths_0 rfl (lv_at hl 0 rfl) ?_
  refine zr_gP hc hn (ci := 6) rfl rfl in_X7 1 (by decide) q871 (fun _ h => h) (fun _ _ _ => rfl) hf dX7_findsPaths_1 (fun x101 hf => ?_)
  refine zr_astore_n (x := x101) (i := 2) (lv' := [(2, va_rf x101), (0, .ref a0), (1, .int v1)]) hx hb dX7_findsPaths_4 rfl hl (by decide) rfl (fun ls hl => ?_)
  refine lv_bipush (v := (8 : Int32)) hx hb dX7_findsPaths_5 (by decide) ?_
  refine lv_istore_n (i := 3) (lv' := [(3, .int (8 : Int32)), (2, va_rf x101), (0, .ref a0), (1, .int v1)]) hx hb dX7_findsPaths_7 rfl hl (by decide) (by simp [zcat_rf, zcat_i, zcat_l, zcat_d, zcat_r, zcat_n] <;> rfl) (fun ls hl => ?_)
  exact m_X7_findsPaths_b8 hc hr hin zFU h a0 v1 x101 (8 : Int32) _ _ _ _ _ _ hf hq hn _ (lv_sub hl [2, 3, 1, 0] rfl)
theorem hd_X7_lower : yX7_lower.cls ≠ "java/lang/invoke/MethodHandle" ∧ yX7_lower.cls ≠ "java/lang/invoke/VarHandle" ∧ (parseMethodDescriptor yX7_lower.desc).map (fun d => d.parameters.length) = some 1 := by decide +kernel
def f_X7_lower (h : PH) (a0 : Nat) (a1 : Nat) : ZR Unit :=
  zgI h a1 7 5 fun x101 =>
  zgI h a1 7 0 fun x102 =>
  zrc h a0 6 <| zcl (f_X7_findsPaths h a0 x102) fun _ h104 =>
  zgP h104 a0 6 2 fun x105 =>
  znn x105 fun a106 =>
  zaP h104 a106 5 x101 fun x107 =>
  zrc h104 a1 7 <| zcl (f_X8_next h104 a1 x101) fun x108 h109 =>
  znn x107 fun a110 =>
  zgP h109 a110 7 2 fun x111 =>
  znn x111 fun a112 =>
  zaI h109 a112 0 x101 fun x113 =>
  zgP h109 a1 7 2 fun x114 =>
  znn x114 fun a115 =>
  zaI h109 a115 0 x101 fun x116 =>
  znm (x113 + x116) fun x117 =>
  zgP h109 a110 7 3 fun x118 =>
  znn x118 fun a119 =>
  zaI h109 a119 0 x101 fun x120 =>
  zgP h109 a1 7 3 fun x121 =>
  znn x121 fun a122 =>
  zaI h109 a122 0 x101 fun x123 =>
  znm (x120 + x123) fun x124 =>
  zrc h109 a110 7 <| zcl (f_X8_link h109 a110 x101 x108 x117 x124) fun _ h126 =>
  znm (x101 - (1 : Int32)) fun x127 =>
  zpI h126 a1 7 5 x127 fun h128 =>
  zret () h128
set_option maxHeartbeats 4000000 in
set_option maxRecDepth 100000 in
theorem m_X7_lower (l : Launch) (D : va_G) (dA : Nat → ClassId) (b0 : Nat) (gs : Nat → Option Nat) (h : PH) (a0 : Nat) (a1 : Nat) {r : Unit} {hh : PH} {mc ms : Nat} (hf : f_X7_lower h a0 a1 = some (r, hh, mc, ms)) : zMt l D dA b0 gs yX7_lower cX7_lower 4 none 3 104 [.ref a0, .ref a1] h (evU r) hh mc ms := by
  unfold f_X7_lower at hf
  refine zMt.of (by decide) (Nat.le_of_ble_eq_true rfl) ?_
  intro p e s m args below meth c hc hr hin hn ls hl
  have hl : lv_has ls 4 [(0, .ref a0), (1, .ref a1)] := hl
  have hq : 0 + mc = mc ∧ 0 + ms = ms := ⟨Nat.zero_add _, Nat.zero_add _⟩
  have hx := hc.x
  have hb := hc.b
  refine lv_aload_n (x := a1) hx hb dX7_lower_0 rfl (lv_at hl 1 rfl) ?_
  refine zr_gIN hc hn (ci := 7) rfl rfl in_X8 5 (by decide) q849 (fun _ h => h) (fun _ _ _ => rfl) hf dX7_lower_1 (fun x101 hf => ?_)
  refine lv_istore_n (i := 2) (lv' := [(2, .int x101), (0, .ref a0), (1, .ref a1)]) hx hb dX7_lower_4 rfl hl (by decide) rfl (fun ls hl => ?_)
  refine lv_aload_n (x := a0) hx hb dX7_lower_5 rfl (lv_at hl 1 rfl) ?_
  refine lv_aload_n (x := a1) hx hb dX7_lower_6 rfl (lv_at hl 2 rfl) ?_
  refine zr_gIN hc hn (ci := 7) rfl rfl in_X8 0 (by decide) q834 (fun _ h => h) (fun _ _ _ => rfl) hf dX7_lower_7 (fun x102 hf => ?_)
  refine zr_cVU (As := [.int x102]) (rest := []) hc hn hq (ci := 6) rfl ⟨rfl, hd_X7_findsPaths⟩ (lw_V q1008 q1010 qs11 q115 q1011) (Nat.le_of_ble_eq_true rfl) (Nat.le_of_ble_eq_true rfl) (fun _ _ _ _ q => m_X7_findsPaths l D dA b0 gs h a0 x102 q) hf dX7_lower_10 hl.1 rfl rfl (zroom (Nat.le_of_ble_eq_true rfl)) (fun x103 h104 H locs cells slots C9 S9 hf hq hn => ?_)
  refine lv_aload_n (x := a0) hx hb dX7_lower_13 rfl (lv_at hl 1 rfl) ?_
  refine zr_gP hc hn (ci := 6) rfl rfl in_X7 2 (by decide) q874 (fun _ h => h) (fun _ _ _ => rfl) hf dX7_lower_14 (fun x105 hf => ?_)
  refine lv_iload_n hx hb dX7_lower_17 rfl (lv_at hl 0 rfl) ?_
  obtain ⟨a106, e9, hf9⟩ := znn_i hf
  subst e9
  have hf := hf9
  clear hf9
  refine zr_aP (ai := 5) (by decide) hc hn hf dX7_lower_18 (fun x107 hf => ?_)
  refine zr_astore_n (x := x107) (i := 3) (lv' := [(3, va_rf x107), (2, .int x101), (0, .ref a0), (1, .ref a1)]) hx hb dX7_lower_19 rfl hl (by decide) rfl (fun ls hl => ?_)
  refine zr_aload_n (x := x107) hx hb dX7_lower_20 rfl (lv_at hl 0 rfl) ?_
  refine lv_iload_n hx hb dX7_lower_21 rfl (lv_at hl 1 rfl) ?_
  refine lv_aload_n (x := a1) hx hb dX7_lower_22 rfl (lv_at hl 3 rfl) ?_
  refine lv_iload_n hx hb dX7_lower_23 rfl (lv_at hl 1 rfl) ?_
  refine zr_cVP (As := [.int x101]) (rest := [.int x101, va_rf x107]) hc hn hq (ci := 7) rfl ⟨rfl, hd_X8_next⟩ (lw_V q904 q905 q906 q116 q907) (Nat.le_of_ble_eq_true rfl) (Nat.le_of_ble_eq_true rfl) (fun _ _ _ _ q => m_X8_next l D dA b0 gs h104 a1 x101 q) hf dX7_lower_24 hl.1 rfl rfl (zroom (Nat.le_of_ble_eq_true rfl)) (fun x108 h109 H locs cells slots C9 S9 hf hq hn => ?_)
  refine zr_aload_n (x := x107) hx hb dX7_lower_27 rfl (lv_at hl 0 rfl) ?_
  obtain ⟨a110, e9, hf9⟩ := znn_i hf
  subst e9
  have hf := hf9
  clear hf9
  refine zr_gPN hc hn (ci := 7) rfl rfl in_X8 2 (by decide) q839 (fun _ h => h) (fun _ _ _ => rfl) hf dX7_lower_28 (fun x111 hf => ?_)
  refine lv_iload_n hx hb dX7_lower_31 rfl (lv_at hl 1 rfl) ?_
  obtain ⟨a112, e9, hf9⟩ := znn_i hf
  subst e9
  have hf := hf9
  clear hf9
  refine zr_aI0 hc hn hf dX7_lower_32 (fun x113 hf => ?_)
  refine lv_aload_n (x := a1) hx hb dX7_lower_33 rfl (lv_at hl 3 rfl) ?_
  refine zr_gPN hc hn (ci := 7) rfl rfl in_X8 2 (by decide) q839 (fun _ h => h) (fun _ _ _ => rfl) hf dX7_lower_34 (fun x114 hf => ?_)
  refine lv_iload_n hx hb dX7_lower_37 rfl (lv_at hl 1 rfl) ?_
  obtain ⟨a115, e9, hf9⟩ := znn_i hf
  subst e9
  have hf := hf9
  clear hf9
  refine zr_aI0 hc hn hf dX7_lower_38 (fun x116 hf => ?_)
  refine lv_iadd hx hb dX7_lower_39 ?_
  refine zr_nmI hf (fun x117 hf => ?_)
  refine lv_aload_n (x := a110) hx hb dX7_lower_40 rfl (lv_at hl 0 rfl) ?_
  refine zr_gPN hc hn (ci := 7) rfl rfl in_X8 3 (by decide) q842 (fun _ h => h) (fun _ _ _ => rfl) hf dX7_lower_41 (fun x118 hf => ?_)
  refine lv_iload_n hx hb dX7_lower_44 rfl (lv_at hl 1 rfl) ?_
  obtain ⟨a119, e9, hf9⟩ := znn_i hf
  subst e9
  have hf := hf9
  clear hf9
  refine zr_aI0 hc hn hf dX7_lower_45 (fun x120 hf => ?_)
  refine lv_aload_n (x := a1) hx hb dX7_lower_46 rfl (lv_at hl 3 rfl) ?_
  refine zr_gPN hc hn (ci := 7) rfl rfl in_X8 3 (by decide) q842 (fun _ h => h) (fun _ _ _ => rfl) hf dX7_lower_47 (fun x121 hf => ?_)
  refine lv_iload_n hx hb dX7_lower_50 rfl (lv_at hl 1 rfl) ?_
  obtain ⟨a122, e9, hf9⟩ := znn_i hf
  subst e9
  have hf := hf9
  clear hf9
  refine zr_aI0 hc hn hf dX7_lower_51 (fun x123 hf => ?_)
  refine lv_iadd hx hb dX7_lower_52 ?_
  refine zr_nmI hf (fun x124 hf => ?_)
  refine zr_cVU (As := [.int x101, va_rf x108, .int x117, .int x124]) (rest := []) hc hn hq (ci := 7) rfl ⟨rfl, hd_X8_link⟩ (lw_V q864 q865 q866 q116 q867) (Nat.le_of_ble_eq_true rfl) (Nat.le_of_ble_eq_true rfl) (fun _ _ _ _ q => m_X8_link l D dA b0 gs h109 a110 x101 x108 x117 x124 q) hf dX7_lower_53 hl.1 rfl rfl (zroom (Nat.le_of_ble_eq_true rfl)) (fun x125 h126 H locs cells slots C9 S9 hf hq hn => ?_)
  refine lv_aload_n (x := a1) hx hb dX7_lower_56 rfl (lv_at hl 3 rfl) ?_
  refine lv_iload_n hx hb dX7_lower_57 rfl (lv_at hl 1 rfl) ?_
  refine lv_iconst (v := (1 : Int32)) hx hb dX7_lower_58 (by decide) ?_
  refine lv_isub hx hb dX7_lower_59 ?_
  refine zr_nmI hf (fun x127 hf => ?_)
  refine zr_pIN (x := x127) hc hn (ci := 7) rfl rfl in_X8 5 (by decide) tyX8 tyX8_ok nmX8 q849 (fun _ h => h) rfl (fun _ _ _ => rfl) rfl rfl hf dX7_lower_60 (fun h128 H locs hf hn => ?_)
  obtain ⟨rfl, rfl, rfl, rfl⟩ := zret_i hf
  exact zr_vret hc hn hr hq (fun _ _ _ _ q => q) dX7_lower_63
theorem hd_X14_moves : yX14_moves.cls ≠ "java/lang/invoke/MethodHandle" ∧ yX14_moves.cls ≠ "java/lang/invoke/VarHandle" ∧ (parseMethodDescriptor yX14_moves.desc).map (fun d => d.parameters.length) = some 2 := by decide +kernel
def f_X14_moves (h : PH) (a0 : Nat) (a1 : Nat) (a2 : Nat) : ZR Int32 :=
  zrc h a2 8 <| zcl (f_X9_separator h a2) fun x101 h102 =>
  znn x101 fun a103 =>
  zrc h102 a1 6 <| zcl (f_X7_lower h102 a1 a103) fun _ h105 =>
  zgI h105 a103 7 0 fun x106 =>
  zret x106 h105
set_option maxHeartbeats 4000000 in
set_option maxRecDepth 100000 in
theorem m_X14_moves (l : Launch) (D : va_G) (dA : Nat → ClassId) (b0 : Nat) (gs : Nat → Option Nat) (h : PH) (a0 : Nat) (a1 : Nat) (a2 : Nat) {r : Int32} {hh : PH} {mc ms : Nat} (hf : f_X14_moves h a0 a1 a2 = some (r, hh, mc, ms)) : zUt l D dA b0 gs yX14_moves cX14_moves 4 (some .int) 8 400 [.ref a0, .ref a1, .ref a2] h (evI r) hh mc ms := by
  unfold f_X14_moves at hf
  refine zUt.of (by decide) (Nat.le_of_ble_eq_true rfl) ?_
  intro p e s m args below meth c hc hr hin hn ls hl
  have hl : lv_has ls 4 [(0, .ref a0), (1, .ref a1), (2, .ref a2)] := hl
  have hq : 0 + mc = mc ∧ 0 + ms = ms := ⟨Nat.zero_add _, Nat.zero_add _⟩
  have hx := hc.x
  have hb := hc.b
  refine lv_aload_n (x := a2) hx hb dX14_moves_0 rfl (lv_at hl 2 rfl) ?_
  refine zr_cVP (As := []) (rest := []) hc hn hq (ci := 8) rfl ⟨rfl, hd_X9_separator⟩ (lw_V q1031 q1016 q1017 q117 q1018) (Nat.le_of_ble_eq_true rfl) (Nat.le_of_ble_eq_true rfl) (fun _ _ _ _ q => m_X9_separator l D dA b0 gs h a2 q) hf dX14_moves_1 hl.1 rfl rfl (zroom (Nat.le_of_ble_eq_true rfl)) (fun x101 h102 H locs cells slots C9 S9 hf hq hn => ?_)
  refine zr_astore_n (x := x101) (i := 3) (lv' := [(3, va_rf x101), (0, .ref a0), (1, .ref a1), (2, .ref a2)]) hx hb dX14_moves_4 rfl hl (by decide) rfl (fun ls hl => ?_)
  refine lv_aload_n (x := a1) hx hb dX14_moves_5 rfl (lv_at hl 2 rfl) ?_
  refine zr_aload_n (x := x101) hx hb dX14_moves_6 rfl (lv_at hl 0 rfl) ?_
  obtain ⟨a103, e9, hf9⟩ := znn_i hf
  subst e9
  have hf := hf9
  clear hf9
  refine zr_cVU (As := [.ref a103]) (rest := []) hc hn hq (ci := 6) rfl ⟨rfl, hd_X7_lower⟩ (lw_V q1032 q1024 q1025 q115 q1026) (Nat.le_of_ble_eq_true rfl) (Nat.le_of_ble_eq_true rfl) (fun _ _ _ _ q => m_X7_lower l D dA b0 gs h102 a1 a103 q) hf dX14_moves_7 hl.1 rfl rfl (zroom (Nat.le_of_ble_eq_true rfl)) (fun x104 h105 H locs cells slots C9 S9 hf hq hn => ?_)
  refine lv_aload_n (x := a103) hx hb dX14_moves_10 rfl (lv_at hl 0 rfl) ?_
  refine zr_gIN hc hn (ci := 7) rfl rfl in_X8 0 (by decide) q831 (fun _ h => h) (fun _ _ _ => rfl) hf dX14_moves_11 (fun x106 hf => ?_)
  obtain ⟨rfl, rfl, rfl, rfl⟩ := zret_i hf
  exact zr_iret hc hn hr hq (fun _ _ _ _ q => q) dX14_moves_14
theorem hd_X7_raise : yX7_raise.cls ≠ "java/lang/invoke/MethodHandle" ∧ yX7_raise.cls ≠ "java/lang/invoke/VarHandle" ∧ (parseMethodDescriptor yX7_raise.desc).map (fun d => d.parameters.length) = some 1 := by decide +kernel
def f_X7_raise_b31 : Nat → PH → Nat → Int32 → Option Nat → Int32 → Int32 → Option Nat → ZR Unit
  | 0 => fun _ _ _ _ _ _ _ => none
  | n + 1 => fun h a1 v2 o3 v4 v5 o6 =>
    if o6 = (some a1) then
      (znn o3 fun a101 =>
      zrc h a101 7 <| zcl (f_X8_next h a101 v2) fun x102 h103 =>
      zgP h103 a101 7 2 fun x104 =>
      znn x104 fun a105 =>
      zaI h103 a105 0 v2 fun x106 =>
      znm (x106 - v4) fun x107 =>
      zgP h103 a101 7 3 fun x108 =>
      znn x108 fun a109 =>
      zaI h103 a109 0 v2 fun x110 =>
      znm (x110 - v5) fun x111 =>
      zrc h103 a1 7 <| zcl (f_X8_link h103 a1 v2 x102 x107 x111) fun _ h113 =>
      zrc h113 a101 7 <| zcl (f_X8_link h113 a101 v2 (some a1) v4 v5) fun _ h115 =>
      zpI h115 a1 7 5 v2 fun h116 =>
      zret () h116)
    else
      (znn o6 fun a117 =>
      zgP h a117 7 2 fun x118 =>
      znm (v2 - (1 : Int32)) fun x119 =>
      znn x118 fun a120 =>
      zaI h a120 0 x119 fun x121 =>
      znm (v4 + x121) fun x122 =>
      zgP h a117 7 3 fun x123 =>
      znm (v2 - (1 : Int32)) fun x124 =>
      znn x123 fun a125 =>
      zaI h a125 0 x124 fun x126 =>
      znm (v5 + x126) fun x127 =>
      znm (v2 - (1 : Int32)) fun x128 =>
      zrc h a117 7 <| zcl (f_X8_next h a117 x128) fun x129 h130 =>
      f_X7_raise_b31 n h130 a1 v2 o3 x122 x127 x129)
def f_X7_raise (h : PH) (a0 : Nat) (a1 : Nat) : ZR Unit :=
  zgI h a1 7 5 fun x101 =>
  znm (x101 + (1 : Int32)) fun x102 =>
  zgI h a1 7 0 fun x103 =>
  zrc h a0 6 <| zcl (f_X7_findsPaths h a0 x103) fun _ h105 =>
  zgP h105 a0 6 2 fun x106 =>
  znn x106 fun a107 =>
  zaP h105 a107 5 x102 fun x108 =>
  f_X7_raise_b31 zFU h105 a1 x102 x108 (0 : Int32) (0 : Int32) x108
set_option maxHeartbeats 4000000 in
set_option maxRecDepth 100000 in
theorem m_X7_raise_b31 {p : Program} {l : Launch} {e : Env} {s : State} {m : MethodId} {args : Array Value} {below : List Frame} {meth : Method} {c : Code} {D : va_G} {dA : Nat → ClassId} {b0 : Nat} {gs : Nat → Option Nat} (hc : zC D dA b0 gs yX7_raise.cls cX7_raise 7 p c s m args meth) (hr : meth.sig.returnType = none) (hin : meth.name = yX7_raise.name) {r : Unit} {hh : PH} {mc ms : Nat} : ∀ (n : Nat) (h : PH) (a1 : Nat) (v2 : Int32) (o3 : Option Nat) (v4 : Int32) (v5 : Int32) (o6 : Option Nat) (C9 S9 : Nat) (H : Heap) (locs : List Loc) (cells slots : Nat), f_X7_raise_b31 n h a1 v2 o3 v4 v5 o6 = some (r, hh, C9, S9) → cells + C9 = mc ∧ slots + S9 = ms → zM D dA b0 gs s h H locs → ∀ ls : Array Slot, lv_has ls 7 [(1, .ref a1), (2, .int v2), (3, va_rf o3), (4, .int v4), (5, .int v5), (6, va_rf o6)] → W p l e ({ frames := 3, cells := mc, slots := ms, locals := 104 } : Room) s m args below meth c H locs cells slots (MQ below (zQ D dA b0 gs (evU r) hh) args s mc ms (zA b0)) (F0 m 31 ls []) := by
  have hx := hc.x
  have hb := hc.b
  intro n
  induction n with
  | zero =>
    intro h a1 v2 o3 v4 v5 o6 C9 S9 H locs cells slots hf hq hn ls hl
    cases hf
  | succ n ih =>
    intro h a1 v2 o3 v4 v5 o6 C9 S9 H locs cells slots hf hq hn ls hl
    unfold f_X7_raise_b31 at hf
    refine zr_aload (x := o6) hx hb dX7_raise_31 (lv_at hl 5 rfl) ?_
    refine lv_aload_n (x := a1) hx hb dX7_raise_33 rfl (lv_at hl 0 rfl) ?_
    refine lv_acmp_eq (rx := o6) (ry := (some a1)) (tgt := 78) hx hb dX7_raise_34 (by decide) (fun c9 => ?_) (fun c9 => ?_)
    · have hf := zif_t c9 hf
      refine lv_aload_n (x := a1) hx hb dX7_raise_78 rfl (lv_at hl 0 rfl) ?_
      refine lv_iload_n hx hb dX7_raise_79 rfl (lv_at hl 1 rfl) ?_
      refine zr_aload_n (x := o3) hx hb dX7_raise_80 rfl (lv_at hl 2 rfl) ?_
      refine lv_iload_n hx hb dX7_raise_81 rfl (lv_at hl 1 rfl) ?_
      obtain ⟨a101, e9, hf9⟩ := znn_i hf
      subst e9
      have hf := hf9
      clear hf9
      refine zr_cVP (As := [.int v2]) (rest := [.int v2, .ref a1]) hc hn hq (ci := 7) rfl ⟨rfl, hd_X8_next⟩ (lw_V q904 q905 q906 q116 q907) (Nat.le_of_ble_eq_true rfl) (Nat.le_of_ble_eq_true rfl) (fun _ _ _ _ q => m_X8_next l D dA b0 gs h a101 v2 q) hf dX7_raise_82 hl.1 rfl rfl (zroom (Nat.le_of_ble_eq_true rfl)) (fun x102 h103 H locs cells slots C9 S9 hf hq hn => ?_)
      refine lv_aload_n (x := a101) hx hb dX7_raise_85 rfl (lv_at hl 2 rfl) ?_
      refine zr_gPN hc hn (ci := 7) rfl rfl in_X8 2 (by decide) q839 (fun _ h => h) (fun _ _ _ => rfl) hf dX7_raise_86 (fun x104 hf => ?_)
      refine lv_iload_n hx hb dX7_raise_89 rfl (lv_at hl 1 rfl) ?_
      obtain ⟨a105, e9, hf9⟩ := znn_i hf
      subst e9
      have hf := hf9
      clear hf9
      refine zr_aI0 hc hn hf dX7_raise_90 (fun x106 hf => ?_)
      refine lv_iload hx hb dX7_raise_91 (lv_at hl 3 rfl) ?_
      refine lv_isub hx hb dX7_raise_93 ?_
      refine zr_nmI hf (fun x107 hf => ?_)
      refine lv_aload_n (x := a101) hx hb dX7_raise_94 rfl (lv_at hl 2 rfl) ?_
      refine zr_gPN hc hn (ci := 7) rfl rfl in_X8 3 (by decide) q842 (fun _ h => h) (fun _ _ _ => rfl) hf dX7_raise_95 (fun x108 hf => ?_)
      refine lv_iload_n hx hb dX7_raise_98 rfl (lv_at hl 1 rfl) ?_
      obtain ⟨a109, e9, hf9⟩ := znn_i hf
      subst e9
      have hf := hf9
      clear hf9
      refine zr_aI0 hc hn hf dX7_raise_99 (fun x110 hf => ?_)
      refine lv_iload hx hb dX7_raise_100 (lv_at hl 4 rfl) ?_
      refine lv_isub hx hb dX7_raise_102 ?_
      refine zr_nmI hf (fun x111 hf => ?_)
      refine zr_cVU (As := [.int v2, va_rf x102, .int x107, .int x111]) (rest := []) hc hn hq (ci := 7) rfl ⟨rfl, hd_X8_link⟩ (lw_V q864 q865 q866 q116 q867) (Nat.le_of_ble_eq_true rfl) (Nat.le_of_ble_eq_true rfl) (fun _ _ _ _ q => m_X8_link l D dA b0 gs h103 a1 v2 x102 x107 x111 q) hf dX7_raise_103 hl.1 rfl rfl (zroom (Nat.le_of_ble_eq_true rfl)) (fun x112 h113 H locs cells slots C9 S9 hf hq hn => ?_)
      refine lv_aload_n (x := a101) hx hb dX7_raise_106 rfl (lv_at hl 2 rfl) ?_
      refine lv_iload_n hx hb dX7_raise_107 rfl (lv_at hl 1 rfl) ?_
      refine lv_aload_n (x := a1) hx hb dX7_raise_108 rfl (lv_at hl 0 rfl) ?_
      refine lv_iload hx hb dX7_raise_109 (lv_at hl 3 rfl) ?_
      refine lv_iload hx hb dX7_raise_111 (lv_at hl 4 rfl) ?_
      refine zr_cVU (As := [.int v2, .ref a1, .int v4, .int v5]) (rest := []) hc hn hq (ci := 7) rfl ⟨rfl, hd_X8_link⟩ (lw_V q864 q865 q866 q116 q867) (Nat.le_of_ble_eq_true rfl) (Nat.le_of_ble_eq_true rfl) (fun _ _ _ _ q => m_X8_link l D dA b0 gs h113 a101 v2 (some a1) v4 v5 q) hf dX7_raise_113 hl.1 rfl rfl (zroom (Nat.le_of_ble_eq_true rfl)) (fun x114 h115 H locs cells slots C9 S9 hf hq hn => ?_)
      refine lv_aload_n (x := a1) hx hb dX7_raise_116 rfl (lv_at hl 0 rfl) ?_
      refine lv_iload_n hx hb dX7_raise_117 rfl (lv_at hl 1 rfl) ?_
      refine zr_pIN (x := v2) hc hn (ci := 7) rfl rfl in_X8 5 (by decide) tyX8 tyX8_ok nmX8 q849 (fun _ h => h) rfl (fun _ _ _ => rfl) rfl rfl hf dX7_raise_118 (fun h116 H locs hf hn => ?_)
      obtain ⟨rfl, rfl, rfl, rfl⟩ := zret_i hf
      exact zr_vret hc hn hr hq (fun _ _ _ _ q => q) dX7_raise_121
    · have hf := zif_f c9 hf
      refine lv_iload hx hb dX7_raise_37 (lv_at hl 3 rfl) ?_
      refine zr_aload (x := o6) hx hb dX7_raise_39 (lv_at hl 5 rfl) ?_
      obtain ⟨a117, e9, hf9⟩ := znn_i hf
      subst e9
      have hf := hf9
      clear hf9
      refine zr_gPN hc hn (ci := 7) rfl rfl in_X8 2 (by decide) q839 (fun _ h => h) (fun _ _ _ => rfl) hf dX7_raise_41 (fun x118 hf => ?_)
      refine lv_iload_n hx hb dX7_raise_44 rfl (lv_at hl 1 rfl) ?_
      refine lv_iconst (v := (1 : Int32)) hx hb dX7_raise_45 (by decide) ?_
      refine lv_isub hx hb dX7_raise_46 ?_
      refine zr_nmI hf (fun x119 hf => ?_)
      obtain ⟨a120, e9, hf9⟩ := znn_i hf
      subst e9
      have hf := hf9
      clear hf9
      refine zr_aI0 hc hn hf dX7_raise_47 (fun x121 hf => ?_)
      refine lv_iadd hx hb dX7_raise_48 ?_
      refine zr_nmI hf (fun x122 hf => ?_)
      refine lv_istore (lv' := [(4, .int x122), (1, .ref a1), (2, .int v2), (3, va_rf o3), (5, .int v5), (6, .ref a117)]) hx hb dX7_raise_49 hl (by decide) (by simp [zcat_rf, zcat_i, zcat_l, zcat_d, zcat_r, zcat_n] <;> rfl) (fun ls hl => ?_)
      refine lv_iload hx hb dX7_raise_51 (lv_at hl 4 rfl) ?_
      refine lv_aload (x := a117) hx hb dX7_raise_53 (lv_at hl 5 rfl) ?_
      refine zr_gPN hc hn (ci := 7) rfl rfl in_X8 3 (by decide) q842 (fun _ h => h) (fun _ _ _ => rfl) hf dX7_raise_55 (fun x123 hf => ?_)
      refine lv_iload_n hx hb dX7_raise_58 rfl (lv_at hl 2 rfl) ?_
      refine lv_iconst (v := (1 : Int32)) hx hb dX7_raise_59 (by decide) ?_
      refine lv_isub hx hb dX7_raise_60 ?_
      refine zr_nmI hf (fun x124 hf => ?_)
      obtain ⟨a125, e9, hf9⟩ := znn_i hf
      subst e9
      have hf := hf9
      clear hf9
      refine zr_aI0 hc hn hf dX7_raise_61 (fun x126 hf => ?_)
      refine lv_iadd hx hb dX7_raise_62 ?_
      refine zr_nmI hf (fun x127 hf => ?_)
      refine lv_istore (lv' := [(5, .int x127), (4, .int x122), (1, .ref a1), (2, .int v2), (3, va_rf o3), (6, .ref a117)]) hx hb dX7_raise_63 hl (by decide) rfl (fun ls hl => ?_)
      refine lv_aload (x := a117) hx hb dX7_raise_65 (lv_at hl 5 rfl) ?_
      refine lv_iload_n hx hb dX7_raise_67 rfl (lv_at hl 3 rfl) ?_
      refine lv_iconst (v := (1 : Int32)) hx hb dX7_raise_68 (by decide) ?_
      refine lv_isub hx hb dX7_raise_69 ?_
      refine zr_nmI hf (fun x128 hf => ?_)
      refine zr_cVP (As := [.int x128]) (rest := []) hc hn hq (ci := 7) rfl ⟨rfl, hd_X8_next⟩ (lw_V q904 q905 q906 q116 q907) (Nat.le_of_ble_eq_true rfl) (Nat.le_of_ble_eq_true rfl) (fun _ _ _ _ q => m_X8_next l D dA b0 gs h a117 x128 q) hf dX7_raise_70 hl.1 rfl rfl (zroom (Nat.le_of_ble_eq_true rfl)) (fun x129 h130 H locs cells slots C9 S9 hf hq hn => ?_)
      refine zr_astore (x := x129) (lv' := [(6, va_rf x129), (5, .int x127), (4, .int x122), (1, .ref a1), (2, .int v2), (3, va_rf o3)]) hx hb dX7_raise_73 hl (by decide) rfl (fun ls hl => ?_)
      refine lv_goto (tgt := 31) hx hb dX7_raise_75 (by decide) ?_
      exact ih h130 a1 v2 o3 x122 x127 x129 _ _ _ _ _ _ hf hq hn _ (lv_sub hl [3, 4, 5, 2, 1, 0] rfl)
set_option maxHeartbeats 4000000 in
set_option maxRecDepth 100000 in
theorem m_X7_raise (l : Launch) (D : va_G) (dA : Nat → ClassId) (b0 : Nat) (gs : Nat → Option Nat) (h : PH) (a0 : Nat) (a1 : Nat) {r : Unit} {hh : PH} {mc ms : Nat} (hf : f_X7_raise h a0 a1 = some (r, hh, mc, ms)) : zMt l D dA b0 gs yX7_raise cX7_raise 7 none 3 104 [.ref a0, .ref a1] h (evU r) hh mc ms := by
  unfold f_X7_raise at hf
  refine zMt.of (by decide) (Nat.le_of_ble_eq_true rfl) ?_
  intro p e s m args below meth c hc hr hin hn ls hl
  have hl : lv_has ls 7 [(0, .ref a0), (1, .ref a1)] := hl
  have hq : 0 + mc = mc ∧ 0 + ms = ms := ⟨Nat.zero_add _, Nat.zero_add _⟩
  have hx := hc.x
  have hb := hc.b
  refine lv_aload_n (x := a1) hx hb dX7_raise_0 rfl (lv_at hl 1 rfl) ?_
  refine zr_gIN hc hn (ci := 7) rfl rfl in_X8 5 (by decide) q849 (fun _ h => h) (fun _ _ _ => rfl) hf dX7_raise_1 (fun x101 hf => ?_)
  refine lv_iconst (v := (1 : Int32)) hx hb dX7_raise_4 (by decide) ?_
  refine lv_iadd hx hb dX7_raise_5 ?_
  refine zr_nmI hf (fun x102 hf => ?_)
  refine lv_istore_n (i := 2) (lv' := [(2, .int x102), (0, .ref a0), (1, .ref a1)]) hx hb dX7_raise_6 rfl hl (by decide) rfl (fun ls hl => ?_)
  refine lv_aload_n (x := a0) hx hb dX7_raise_7 rfl (lv_at hl 1 rfl) ?_
  refine lv_aload_n (x := a1) hx hb dX7_raise_8 rfl (lv_at hl 2 rfl) ?_
  refine zr_gIN hc hn (ci := 7) rfl rfl in_X8 0 (by decide) q834 (fun _ h => h) (fun _ _ _ => rfl) hf dX7_raise_9 (fun x103 hf => ?_)
  refine zr_cVU (As := [.int x103]) (rest := []) hc hn hq (ci := 6) rfl ⟨rfl, hd_X7_findsPaths⟩ (lw_V q1008 q1010 qs11 q115 q1011) (Nat.le_of_ble_eq_true rfl) (Nat.le_of_ble_eq_true rfl) (fun _ _ _ _ q => m_X7_findsPaths l D dA b0 gs h a0 x103 q) hf dX7_raise_12 hl.1 rfl rfl (zroom (Nat.le_of_ble_eq_true rfl)) (fun x104 h105 H locs cells slots C9 S9 hf hq hn => ?_)
  refine lv_aload_n (x := a0) hx hb dX7_raise_15 rfl (lv_at hl 1 rfl) ?_
  refine zr_gP hc hn (ci := 6) rfl rfl in_X7 2 (by decide) q874 (fun _ h => h) (fun _ _ _ => rfl) hf dX7_raise_16 (fun x106 hf => ?_)
  refine lv_iload_n hx hb dX7_raise_19 rfl (lv_at hl 0 rfl) ?_
  obtain ⟨a107, e9, hf9⟩ := znn_i hf
  subst e9
  have hf := hf9
  clear hf9
  refine zr_aP (ai := 5) (by decide) hc hn hf dX7_raise_20 (fun x108 hf => ?_)
  refine zr_astore_n (x := x108) (i := 3) (lv' := [(3, va_rf x108), (2, .int x102), (0, .ref a0), (1, .ref a1)]) hx hb dX7_raise_21 rfl hl (by decide) rfl (fun ls hl => ?_)
  refine lv_iconst (v := (0 : Int32)) hx hb dX7_raise_22 (by decide) ?_
  refine lv_istore (lv' := [(4, .int (0 : Int32)), (3, va_rf x108), (2, .int x102), (0, .ref a0), (1, .ref a1)]) hx hb dX7_raise_23 hl (by decide) (by simp [zcat_rf, zcat_i, zcat_l, zcat_d, zcat_r, zcat_n] <;> rfl) (fun ls hl => ?_)
  refine lv_iconst (v := (0 : Int32)) hx hb dX7_raise_25 (by decide) ?_
  refine lv_istore (lv' := [(5, .int (0 : Int32)), (4, .int (0 : Int32)), (3, va_rf x108), (2, .int x102), (0, .ref a0), (1, .ref a1)]) hx hb dX7_raise_26 hl (by decide) rfl (fun ls hl => ?_)
  refine zr_aload_n (x := x108) hx hb dX7_raise_28 rfl (lv_at hl 2 rfl) ?_
  refine zr_astore (x := x108) (lv' := [(6, va_rf x108), (5, .int (0 : Int32)), (4, .int (0 : Int32)), (3, va_rf x108), (2, .int x102), (0, .ref a0), (1, .ref a1)]) hx hb dX7_raise_29 hl (by decide) rfl (fun ls hl => ?_)
  exact m_X7_raise_b31 hc hr hin zFU h105 a1 x102 x108 (0 : Int32) (0 : Int32) x108 _ _ _ _ _ _ hf hq hn _ (lv_sub hl [6, 4, 3, 2, 1, 0] rfl)
theorem hd_X15_moves : yX15_moves.cls ≠ "java/lang/invoke/MethodHandle" ∧ yX15_moves.cls ≠ "java/lang/invoke/VarHandle" ∧ (parseMethodDescriptor yX15_moves.desc).map (fun d => d.parameters.length) = some 2 := by decide +kernel
def f_X15_moves (h : PH) (a0 : Nat) (a1 : Nat) (a2 : Nat) : ZR Int32 :=
  zgI h a2 8 1 fun x101 =>
  zgd (¬ (2 : Int32) = 0) <|
  znm (x101 / (2 : Int32)) fun x102 =>
  zrc h a2 8 <| zcl (f_X9_at h a2 x102) fun x103 h104 =>
  znn x103 fun a105 =>
  zrc h104 a1 6 <| zcl (f_X7_raise h104 a1 a105) fun _ h107 =>
  zgI h107 a105 7 0 fun x108 =>
  zret x108 h107
set_option maxHeartbeats 4000000 in
set_option maxRecDepth 100000 in
theorem m_X15_moves (l : Launch) (D : va_G) (dA : Nat → ClassId) (b0 : Nat) (gs : Nat → Option Nat) (h : PH) (a0 : Nat) (a1 : Nat) (a2 : Nat) {r : Int32} {hh : PH} {mc ms : Nat} (hf : f_X15_moves h a0 a1 a2 = some (r, hh, mc, ms)) : zUt l D dA b0 gs yX15_moves cX15_moves 4 (some .int) 8 400 [.ref a0, .ref a1, .ref a2] h (evI r) hh mc ms := by
  unfold f_X15_moves at hf
  refine zUt.of (by decide) (Nat.le_of_ble_eq_true rfl) ?_
  intro p e s m args below meth c hc hr hin hn ls hl
  have hl : lv_has ls 4 [(0, .ref a0), (1, .ref a1), (2, .ref a2)] := hl
  have hq : 0 + mc = mc ∧ 0 + ms = ms := ⟨Nat.zero_add _, Nat.zero_add _⟩
  have hx := hc.x
  have hb := hc.b
  refine lv_aload_n (x := a2) hx hb dX15_moves_0 rfl (lv_at hl 2 rfl) ?_
  refine lv_aload_n (x := a2) hx hb dX15_moves_1 rfl (lv_at hl 2 rfl) ?_
  refine zr_gIN hc hn (ci := 8) rfl rfl in_X9 1 (by decide) q945 (fun _ h => h) (fun _ _ _ => rfl) hf dX15_moves_2 (fun x101 hf => ?_)
  refine lv_iconst (v := (2 : Int32)) hx hb dX15_moves_5 (by decide) ?_
  obtain ⟨hne, hf⟩ := zgd_i hf
  refine lv_idiv hx hb dX15_moves_6 hne ?_
  refine zr_nmI hf (fun x102 hf => ?_)
  refine zr_cVP (As := [.int x102]) (rest := []) hc hn hq (ci := 8) rfl ⟨rfl, hd_X9_at⟩ (lw_V q1000 q1001 q1002 q117 q1003) (Nat.le_of_ble_eq_true rfl) (Nat.le_of_ble_eq_true rfl) (fun _ _ _ _ q => m_X9_at l D dA b0 gs h a2 x102 q) hf dX15_moves_7 hl.1 rfl rfl (zroom (Nat.le_of_ble_eq_true rfl)) (fun x103 h104 H locs cells slots C9 S9 hf hq hn => ?_)
  refine zr_astore_n (x := x103) (i := 3) (lv' := [(3, va_rf x103), (0, .ref a0), (1, .ref a1), (2, .ref a2)]) hx hb dX15_moves_10 rfl hl (by decide) rfl (fun ls hl => ?_)
  refine lv_aload_n (x := a1) hx hb dX15_moves_11 rfl (lv_at hl 2 rfl) ?_
  refine zr_aload_n (x := x103) hx hb dX15_moves_12 rfl (lv_at hl 0 rfl) ?_
  obtain ⟨a105, e9, hf9⟩ := znn_i hf
  subst e9
  have hf := hf9
  clear hf9
  refine zr_cVU (As := [.ref a105]) (rest := []) hc hn hq (ci := 6) rfl ⟨rfl, hd_X7_raise⟩ (lw_V q1004 q1005 q1006 q115 q1007) (Nat.le_of_ble_eq_true rfl) (Nat.le_of_ble_eq_true rfl) (fun _ _ _ _ q => m_X7_raise l D dA b0 gs h104 a1 a105 q) hf dX15_moves_13 hl.1 rfl rfl (zroom (Nat.le_of_ble_eq_true rfl)) (fun x106 h107 H locs cells slots C9 S9 hf hq hn => ?_)
  refine lv_aload_n (x := a105) hx hb dX15_moves_16 rfl (lv_at hl 0 rfl) ?_
  refine zr_gIN hc hn (ci := 7) rfl rfl in_X8 0 (by decide) q832 (fun _ h => h) (fun _ _ _ => rfl) hf dX15_moves_17 (fun x108 hf => ?_)
  obtain ⟨rfl, rfl, rfl, rfl⟩ := zret_i hf
  exact zr_iret hc hn hr hq (fun _ _ _ _ q => q) dX15_moves_20
theorem hd_X16_moves : yX16_moves.cls ≠ "java/lang/invoke/MethodHandle" ∧ yX16_moves.cls ≠ "java/lang/invoke/VarHandle" ∧ (parseMethodDescriptor yX16_moves.desc).map (fun d => d.parameters.length) = some 2 := by decide +kernel
def f_X16_moves (h : PH) (a0 : Nat) (a1 : Nat) (a2 : Nat) : ZR Int32 :=
  zrc h a2 8 <| zcl (f_X9_separator h a2) fun x101 h102 =>
  zrc h102 a2 8 <| zcl (f_X9_nearest h102 a2) fun x103 h104 =>
  znn x101 fun a105 =>
  zrc h104 a1 6 <| zcl (f_X7_lower h104 a1 a105) fun _ h107 =>
  znn x103 fun a108 =>
  zrc h107 a1 6 <| zcl (f_X7_raise h107 a1 a108) fun _ h110 =>
  zgI h110 a105 7 0 fun x111 =>
  zret x111 h110
set_option maxHeartbeats 4000000 in
set_option maxRecDepth 100000 in
theorem m_X16_moves (l : Launch) (D : va_G) (dA : Nat → ClassId) (b0 : Nat) (gs : Nat → Option Nat) (h : PH) (a0 : Nat) (a1 : Nat) (a2 : Nat) {r : Int32} {hh : PH} {mc ms : Nat} (hf : f_X16_moves h a0 a1 a2 = some (r, hh, mc, ms)) : zUt l D dA b0 gs yX16_moves cX16_moves 5 (some .int) 8 400 [.ref a0, .ref a1, .ref a2] h (evI r) hh mc ms := by
  unfold f_X16_moves at hf
  refine zUt.of (by decide) (Nat.le_of_ble_eq_true rfl) ?_
  intro p e s m args below meth c hc hr hin hn ls hl
  have hl : lv_has ls 5 [(0, .ref a0), (1, .ref a1), (2, .ref a2)] := hl
  have hq : 0 + mc = mc ∧ 0 + ms = ms := ⟨Nat.zero_add _, Nat.zero_add _⟩
  have hx := hc.x
  have hb := hc.b
  refine lv_aload_n (x := a2) hx hb dX16_moves_0 rfl (lv_at hl 2 rfl) ?_
  refine zr_cVP (As := []) (rest := []) hc hn hq (ci := 8) rfl ⟨rfl, hd_X9_separator⟩ (lw_V q1015 q1016 q1017 q117 q1018) (Nat.le_of_ble_eq_true rfl) (Nat.le_of_ble_eq_true rfl) (fun _ _ _ _ q => m_X9_separator l D dA b0 gs h a2 q) hf dX16_moves_1 hl.1 rfl rfl (zroom (Nat.le_of_ble_eq_true rfl)) (fun x101 h102 H locs cells slots C9 S9 hf hq hn => ?_)
  refine zr_astore_n (x := x101) (i := 3) (lv' := [(3, va_rf x101), (0, .ref a0), (1, .ref a1), (2, .ref a2)]) hx hb dX16_moves_4 rfl hl (by decide) rfl (fun ls hl => ?_)
  refine lv_aload_n (x := a2) hx hb dX16_moves_5 rfl (lv_at hl 3 rfl) ?_
  refine zr_cVP (As := []) (rest := []) hc hn hq (ci := 8) rfl ⟨rfl, hd_X9_nearest⟩ (lw_V q1019 q1020 q1021 q117 q1022) (Nat.le_of_ble_eq_true rfl) (Nat.le_of_ble_eq_true rfl) (fun _ _ _ _ q => m_X9_nearest l D dA b0 gs h102 a2 q) hf dX16_moves_6 hl.1 rfl rfl (zroom (Nat.le_of_ble_eq_true rfl)) (fun x103 h104 H locs cells slots C9 S9 hf hq hn => ?_)
  refine zr_astore (x := x103) (lv' := [(4, va_rf x103), (3, va_rf x101), (0, .ref a0), (1, .ref a1), (2, .ref a2)]) hx hb dX16_moves_9 hl (by decide) (by simp [zcat_rf, zcat_i, zcat_l, zcat_d, zcat_r, zcat_n] <;> rfl) (fun ls hl => ?_)
  refine lv_aload_n (x := a1) hx hb dX16_moves_11 rfl (lv_at hl 3 rfl) ?_
  refine zr_aload_n (x := x101) hx hb dX16_moves_12 rfl (lv_at hl 1 rfl) ?_
  obtain ⟨a105, e9, hf9⟩ := znn_i hf
  subst e9
  have hf := hf9
  clear hf9
  refine zr_cVU (As := [.ref a105]) (rest := []) hc hn hq (ci := 6) rfl ⟨rfl, hd_X7_lower⟩ (lw_V q1023 q1024 q1025 q115 q1026) (Nat.le_of_ble_eq_true rfl) (Nat.le_of_ble_eq_true rfl) (fun _ _ _ _ q => m_X7_lower l D dA b0 gs h104 a1 a105 q) hf dX16_moves_13 hl.1 rfl rfl (zroom (Nat.le_of_ble_eq_true rfl)) (fun x106 h107 H locs cells slots C9 S9 hf hq hn => ?_)
  refine lv_aload_n (x := a1) hx hb dX16_moves_16 rfl (lv_at hl 3 rfl) ?_
  refine zr_aload (x := x103) hx hb dX16_moves_17 (lv_at hl 0 rfl) ?_
  obtain ⟨a108, e9, hf9⟩ := znn_i hf
  subst e9
  have hf := hf9
  clear hf9
  refine zr_cVU (As := [.ref a108]) (rest := []) hc hn hq (ci := 6) rfl ⟨rfl, hd_X7_raise⟩ (lw_V q1027 q1005 q1006 q115 q1007) (Nat.le_of_ble_eq_true rfl) (Nat.le_of_ble_eq_true rfl) (fun _ _ _ _ q => m_X7_raise l D dA b0 gs h107 a1 a108 q) hf dX16_moves_19 hl.1 rfl rfl (zroom (Nat.le_of_ble_eq_true rfl)) (fun x109 h110 H locs cells slots C9 S9 hf hq hn => ?_)
  refine lv_aload_n (x := a105) hx hb dX16_moves_22 rfl (lv_at hl 1 rfl) ?_
  refine zr_gIN hc hn (ci := 7) rfl rfl in_X8 0 (by decide) q833 (fun _ h => h) (fun _ _ _ => rfl) hf dX16_moves_23 (fun x111 hf => ?_)
  obtain ⟨rfl, rfl, rfl, rfl⟩ := zret_i hf
  exact zr_iret hc hn hr hq (fun _ _ _ _ q => q) dX16_moves_26
theorem hd_X3_init : yX3_init.cls ≠ "java/lang/invoke/MethodHandle" ∧ yX3_init.cls ≠ "java/lang/invoke/VarHandle" ∧ (parseMethodDescriptor yX3_init.desc).map (fun d => d.parameters.length) = some 0 := by decide +kernel
def f_X3_init (h : PH) (a0 : Nat) : ZR Unit :=
  zno h 12 3 fun a101 h102 =>
  zcl (f_J2_init h102 a101) fun _ h104 =>
  zpP h104 a0 2 0 (some a101) fun h105 =>
  zret () h105
set_option maxHeartbeats 4000000 in
set_option maxRecDepth 100000 in
theorem m_X3_init (l : Launch) (D : va_G) (dA : Nat → ClassId) (b0 : Nat) (gs : Nat → Option Nat) (h : PH) (a0 : Nat) {r : Unit} {hh : PH} {mc ms : Nat} (hf : f_X3_init h a0 = some (r, hh, mc, ms)) : zMt l D dA b0 gs yX3_init cX3_init 1 none 4 120 [.ref a0] h (evU r) hh mc ms := by
  unfold f_X3_init at hf
  refine zMt.of (by decide) (Nat.le_of_ble_eq_true rfl) ?_
  intro p e s m args below meth c hc hr hin hn ls hl
  have hl : lv_has ls 1 [(0, .ref a0)] := hl
  have hq : 0 + mc = mc ∧ 0 + ms = ms := ⟨Nat.zero_add _, Nat.zero_add _⟩
  have hx := hc.x
  have hb := hc.b
  refine lv_aload_n (x := a0) hx hb dX3_init_0 rfl (lv_at hl 0 rfl) ?_
  refine W.objInit hx hb hc.ow (hc.ts _ q152) (hc.ts _ q137) (hc.ts _ q138) rfl (by rw [hc.ml]; exact hl.1) rfl dX3_init_1 (Nat.le_of_ble_eq_true rfl) (zroomL (Nat.le_of_ble_eq_true rfl) (Nat.le_of_ble_eq_true rfl)) ?_
  refine W.eq (g2 := F0 m 4 ls []) rfl ?_
  refine lv_aload_n (x := a0) hx hb dX3_init_4 rfl (lv_at hl 0 rfl) ?_
  refine zr_new hc hn hq (ci := 12) rfl rfl in_J2 tyJ2_ok q153 q154 q89 (zd_J2) hf dX3_init_5 (fun a101 h102 H cells slots C9 S9 hf hq hn => ?_)
  refine lv_dup hx hb dX3_init_8 rfl ?_
  refine zr_cI (As := []) (rest := [.ref a101, .ref a0]) hc hn hq rfl hd_J2_init (lw_meth q157) q155 q156 q89 (Nat.le_of_ble_eq_true rfl) (Nat.le_of_ble_eq_true rfl) (fun _ _ _ _ q => m_J2_init l D dA b0 gs h102 a101 q) hf dX3_init_9 hl.1 rfl rfl (zroom (Nat.le_of_ble_eq_true rfl)) (fun x103 h104 H locs cells slots C9 S9 hf hq hn => ?_)
  refine zr_pP (x := (some a101)) hc hn (ci := 2) rfl rfl in_X3 0 (by decide) tyX3 tyX3_ok nmX3 q181 (fun _ h => h) (Or.inr ⟨rfl, hin, rfl⟩) (fun _ _ _ => rfl) (zn_rf _ (by decide)) (zf_rf _ (by decide)) hf dX3_init_12 (fun h105 H locs hf hn => ?_)
  obtain ⟨rfl, rfl, rfl, rfl⟩ := zret_i hf
  exact zr_vret hc hn hr hq (fun _ _ _ _ q => q) dX3_init_15
theorem hd_X3_size : yX3_size.cls ≠ "java/lang/invoke/MethodHandle" ∧ yX3_size.cls ≠ "java/lang/invoke/VarHandle" ∧ (parseMethodDescriptor yX3_size.desc).map (fun d => d.parameters.length) = some 0 := by decide +kernel
def f_X3_size (h : PH) (a0 : Nat) : ZR Int32 :=
  zgP h a0 2 0 fun x101 =>
  znn x101 fun a102 =>
  zrc h a102 12 <| zcl (f_J2_size h a102) fun x103 h104 =>
  zret x103 h104
set_option maxHeartbeats 4000000 in
set_option maxRecDepth 100000 in
theorem m_X3_size (l : Launch) (D : va_G) (dA : Nat → ClassId) (b0 : Nat) (gs : Nat → Option Nat) (h : PH) (a0 : Nat) {r : Int32} {hh : PH} {mc ms : Nat} (hf : f_X3_size h a0 = some (r, hh, mc, ms)) : zMt l D dA b0 gs yX3_size cX3_size 1 (some .int) 2 80 [.ref a0] h (evI r) hh mc ms := by
  unfold f_X3_size at hf
  refine zMt.of (by decide) (Nat.le_of_ble_eq_true rfl) ?_
  intro p e s m args below meth c hc hr hin hn ls hl
  have hl : lv_has ls 1 [(0, .ref a0)] := hl
  have hq : 0 + mc = mc ∧ 0 + ms = ms := ⟨Nat.zero_add _, Nat.zero_add _⟩
  have hx := hc.x
  have hb := hc.b
  refine lv_aload_n (x := a0) hx hb dX3_size_0 rfl (lv_at hl 0 rfl) ?_
  refine zr_gP hc hn (ci := 2) rfl rfl in_X3 0 (by decide) q181 (fun _ h => h) (fun _ _ _ => rfl) hf dX3_size_1 (fun x101 hf => ?_)
  obtain ⟨a102, e9, hf9⟩ := znn_i hf
  subst e9
  have hf := hf9
  clear hf9
  refine zr_cVI (As := []) (rest := []) hc hn hq (ci := 12) rfl ⟨rfl, hd_J2_size⟩ (lw_V q274 q275 q276 q89 q277) (Nat.le_of_ble_eq_true rfl) (Nat.le_of_ble_eq_true rfl) (fun _ _ _ _ q => m_J2_size l D dA b0 gs h a102 q) hf dX3_size_4 hl.1 rfl rfl (zroom (Nat.le_of_ble_eq_true rfl)) (fun x103 h104 H locs cells slots C9 S9 hf hq hn => ?_)
  obtain ⟨rfl, rfl, rfl, rfl⟩ := zret_i hf
  exact zr_iret hc hn hr hq (fun _ _ _ _ q => q) dX3_size_7
theorem hd_X3_add : yX3_add.cls ≠ "java/lang/invoke/MethodHandle" ∧ yX3_add.cls ≠ "java/lang/invoke/VarHandle" ∧ (parseMethodDescriptor yX3_add.desc).map (fun d => d.parameters.length) = some 3 := by decide +kernel
def f_X3_add (h : PH) (a0 : Nat) (a1 : Nat) (v2 : Int32) (v3 : Int32) : ZR Unit :=
  zgP h a0 2 0 fun x101 =>
  zno h 9 3 fun a102 h103 =>
  zcl (f_X11_init h103 a102 a1 v2 v3) fun _ h105 =>
  znn x101 fun a106 =>
  zrc h105 a106 12 <| zcl (f_J2_add h105 a106 a102) fun x107 h108 =>
  zret () h108
set_option maxHeartbeats 4000000 in
set_option maxRecDepth 100000 in
theorem m_X3_add (l : Launch) (D : va_G) (dA : Nat → ClassId) (b0 : Nat) (gs : Nat → Option Nat) (h : PH) (a0 : Nat) (a1 : Nat) (v2 : Int32) (v3 : Int32) {r : Unit} {hh : PH} {mc ms : Nat} (hf : f_X3_add h a0 a1 v2 v3 = some (r, hh, mc, ms)) : zMt l D dA b0 gs yX3_add cX3_add 4 none 7 192 [.ref a0, .ref a1, .int v2, .int v3] h (evU r) hh mc ms := by
  unfold f_X3_add at hf
  refine zMt.of (by decide) (Nat.le_of_ble_eq_true rfl) ?_
  intro p e s m args below meth c hc hr hin hn ls hl
  have hl : lv_has ls 4 [(0, .ref a0), (1, .ref a1), (2, .int v2), (3, .int v3)] := hl
  have hq : 0 + mc = mc ∧ 0 + ms = ms := ⟨Nat.zero_add _, Nat.zero_add _⟩
  have hx := hc.x
  have hb := hc.b
  refine lv_aload_n (x := a0) hx hb dX3_add_0 rfl (lv_at hl 0 rfl) ?_
  refine zr_gP hc hn (ci := 2) rfl rfl in_X3 0 (by decide) q181 (fun _ h => h) (fun _ _ _ => rfl) hf dX3_add_1 (fun x101 hf => ?_)
  refine zr_new hc hn hq (ci := 9) rfl rfl in_X11 tyX11_ok q1037 q1038 q120 (zd_X11) hf dX3_add_4 (fun a102 h103 H cells slots C9 S9 hf hq hn => ?_)
  refine lv_dup hx hb dX3_add_7 rfl ?_
  refine lv_aload_n (x := a1) hx hb dX3_add_8 rfl (lv_at hl 1 rfl) ?_
  refine lv_iload_n hx hb dX3_add_9 rfl (lv_at hl 2 rfl) ?_
  refine lv_iload_n hx hb dX3_add_10 rfl (lv_at hl 3 rfl) ?_
  refine zr_cIN (As := [.ref a1, .int v2, .int v3]) (rest := [.ref a102, va_rf x101]) hc hn hq rfl hd_X11_init (lw_meth q1041) q1039 q1040 q120 (Nat.le_of_ble_eq_true rfl) (Nat.le_of_ble_eq_true rfl) (fun _ _ _ _ q => m_X11_init l D dA b0 gs h103 a102 a1 v2 v3 q) hf dX3_add_11 hl.1 rfl rfl (zroom (Nat.le_of_ble_eq_true rfl)) (fun x104 h105 H locs cells slots C9 S9 hf hq hn => ?_)
  obtain ⟨a106, e9, hf9⟩ := znn_i hf
  subst e9
  have hf := hf9
  clear hf9
  refine zr_cVI (As := [.ref a102]) (rest := []) hc hn hq (ci := 12) rfl ⟨rfl, hd_J2_add⟩ (lw_V q1056 q1057 q1058 q89 q1059) (Nat.le_of_ble_eq_true rfl) (Nat.le_of_ble_eq_true rfl) (fun _ _ _ _ q => m_J2_add l D dA b0 gs h105 a106 a102 q) hf dX3_add_14 hl.1 rfl rfl (zroom (Nat.le_of_ble_eq_true rfl)) (fun x107 h108 H locs cells slots C9 S9 hf hq hn => ?_)
  refine lv_pop hx hb dX3_add_17 rfl ?_
  obtain ⟨rfl, rfl, rfl, rfl⟩ := zret_i hf
  exact zr_vret hc hn hr hq (fun _ _ _ _ q => q) dX3_add_18
theorem hd_X3_at : yX3_at.cls ≠ "java/lang/invoke/MethodHandle" ∧ yX3_at.cls ≠ "java/lang/invoke/VarHandle" ∧ (parseMethodDescriptor yX3_at.desc).map (fun d => d.parameters.length) = some 1 := by decide +kernel
def f_X3_at (h : PH) (a0 : Nat) (v1 : Int32) : ZR (Option Nat) :=
  zgP h a0 2 0 fun x101 =>
  znn x101 fun a102 =>
  zrc h a102 12 <| zcl (f_J2_get h a102 v1) fun x103 h104 =>
  zcast h104 9 x103 <|
  zret x103 h104
set_option maxHeartbeats 4000000 in
set_option maxRecDepth 100000 in
theorem m_X3_at (l : Launch) (D : va_G) (dA : Nat → ClassId) (b0 : Nat) (gs : Nat → Option Nat) (h : PH) (a0 : Nat) (v1 : Int32) {r : (Option Nat)} {hh : PH} {mc ms : Nat} (hf : f_X3_at h a0 v1 = some (r, hh, mc, ms)) : zMt l D dA b0 gs yX3_at cX3_at 2 (some (.object "CountedSkipLists$Entry")) 4 124 [.ref a0, .int v1] h (evP r) hh mc ms := by
  unfold f_X3_at at hf
  refine zMt.of (by decide) (Nat.le_of_ble_eq_true rfl) ?_
  intro p e s m args below meth c hc hr hin hn ls hl
  have hl : lv_has ls 2 [(0, .ref a0), (1, .int v1)] := hl
  have hq : 0 + mc = mc ∧ 0 + ms = ms := ⟨Nat.zero_add _, Nat.zero_add _⟩
  have hx := hc.x
  have hb := hc.b
  refine lv_aload_n (x := a0) hx hb dX3_at_0 rfl (lv_at hl 0 rfl) ?_
  refine zr_gP hc hn (ci := 2) rfl rfl in_X3 0 (by decide) q181 (fun _ h => h) (fun _ _ _ => rfl) hf dX3_at_1 (fun x101 hf => ?_)
  refine lv_iload_n hx hb dX3_at_4 rfl (lv_at hl 1 rfl) ?_
  obtain ⟨a102, e9, hf9⟩ := znn_i hf
  subst e9
  have hf := hf9
  clear hf9
  refine zr_cVP (As := [.int v1]) (rest := []) hc hn hq (ci := 12) rfl ⟨rfl, hd_J2_get⟩ (lw_V q1817 q1818 q1819 q89 q1820) (Nat.le_of_ble_eq_true rfl) (Nat.le_of_ble_eq_true rfl) (fun _ _ _ _ q => m_J2_get l D dA b0 gs h a102 v1 q) hf dX3_at_5 hl.1 rfl rfl (zroom (Nat.le_of_ble_eq_true rfl)) (fun x103 h104 H locs cells slots C9 S9 hf hq hn => ?_)
  refine zr_cast (o := x103) hc hn (ci := 9) rfl q1037 (Or.inl rfl) hf dX3_at_8 (fun hf => ?_)
  obtain ⟨rfl, rfl, rfl, rfl⟩ := zret_i hf
  exact zr_aret (x := x103) hc hn hr (Or.inl ⟨_, rfl⟩) hq (fun _ _ _ _ q => q) dX3_at_11
theorem hd_X3_of : yX3_of.cls ≠ "java/lang/invoke/MethodHandle" ∧ yX3_of.cls ≠ "java/lang/invoke/VarHandle" ∧ (parseMethodDescriptor yX3_of.desc).map (fun d => d.parameters.length) = some 1 := by decide +kernel
def f_X3_of_b39 (k4 : PH → Nat → Nat → Int32 → Int32 → ZR Int32) (h : PH) (a0 : Nat) (a1 : Nat) (v3 : Int32) (s0 : Int32) (s1 : Int32) : ZR Int32 :=
  znm (s0 + s1) fun x101 =>
  znm (v3 + (1 : Int32)) fun x102 =>
  k4 h a0 a1 x101 x102
def f_X3_of_b4 : Nat → PH → Nat → Nat → Int32 → Int32 → ZR Int32
  | 0 => fun _ _ _ _ _ => none
  | n + 1 => fun h a0 a1 v2 v3 =>
    zgP h a0 2 0 fun x101 =>
    znn x101 fun a102 =>
    zrc h a102 12 <| zcl (f_J2_size h a102) fun x103 h104 =>
    if x103 ≤ v3 then
      (zret v2 h104)
    else
      (zgP h104 a0 2 0 fun x105 =>
      znn x105 fun a106 =>
      zrc h104 a106 12 <| zcl (f_J2_get h104 a106 v3) fun x107 h108 =>
      zcast h108 9 x107 <|
      znn x107 fun a109 =>
      zrc h108 a109 9 <| zcl (f_X11_mend h108 a109) fun x110 h111 =>
      if x110 = (some a1) then
        (f_X3_of_b39 (f_X3_of_b4 n) h111 a0 a1 v3 v2 (1 : Int32))
      else
        (f_X3_of_b39 (f_X3_of_b4 n) h111 a0 a1 v3 v2 (0 : Int32)))
def f_X3_of (h : PH) (a0 : Nat) (a1 : Nat) : ZR Int32 :=
  f_X3_of_b4 zFU h a0 a1 (0 : Int32) (0 : Int32)
set_option maxHeartbeats 4000000 in
set_option maxRecDepth 100000 in
theorem m_X3_of_b39 {p : Program} {l : Launch} {e : Env} {s : State} {m : MethodId} {args : Array Value} {below : List Frame} {meth : Method} {c : Code} {D : va_G} {dA : Nat → ClassId} {b0 : Nat} {gs : Nat → Option Nat} (hc : zC D dA b0 gs yX3_of.cls cX3_of 4 p c s m args meth) (hr : meth.sig.returnType = (some .int)) (hin : meth.name = yX3_of.name) {r : Int32} {hh : PH} {mc ms : Nat} (k4 : PH → Nat → Nat → Int32 → Int32 → ZR Int32) (hk4 : ∀ (h : PH) (a0 : Nat) (a1 : Nat) (v2 : Int32) (v3 : Int32) (C9 S9 : Nat) (H : Heap) (locs : List Loc) (cells slots : Nat), k4 h a0 a1 v2 v3 = some (r, hh, C9, S9) → cells + C9 = mc ∧ slots + S9 = ms → zM D dA b0 gs s h H locs → ∀ ls : Array Slot, lv_has ls 4 [(0, .ref a0), (1, .ref a1), (2, .int v2), (3, .int v3)] → W p l e ({ frames := 4, cells := mc, slots := ms, locals := 124 } : Room) s m args below meth c H locs cells slots (MQ below (zQ D dA b0 gs (evI r) hh) args s mc ms (zA b0)) (F0 m 4 ls [])) : ∀ (h : PH) (a0 : Nat) (a1 : Nat) (v3 : Int32) (s0 : Int32) (s1 : Int32) (C9 S9 : Nat) (H : Heap) (locs : List Loc) (cells slots : Nat), f_X3_of_b39 k4 h a0 a1 v3 s0 s1 = some (r, hh, C9, S9) → cells + C9 = mc ∧ slots + S9 = ms → zM D dA b0 gs s h H locs → ∀ ls : Array Slot, lv_has ls 4 [(0, .ref a0), (1, .ref a1), (3, .int v3)] → W p l e ({ frames := 4, cells := mc, slots := ms, locals := 124 } : Room) s m args below meth c H locs cells slots (MQ below (zQ D dA b0 gs (evI r) hh) args s mc ms (zA b0)) (F0 m 39 ls [.int s1, .int s0]) := by
  have hx := hc.x
  have hb := hc.b
  intro h a0 a1 v3 s0 s1 C9 S9 H locs cells slots hf hq hn ls hl
  unfold f_X3_of_b39 at hf
  refine lv_iadd hx hb dX3_of_39 ?_
  refine zr_nmI hf (fun x101 hf => ?_)
  refine lv_istore_n (i := 2) (lv' := [(2, .int x101), (0, .ref a0), (1, .ref a1), (3, .int v3)]) hx hb dX3_of_40 rfl hl (by decide) rfl (fun ls hl => ?_)
  obtain ⟨x102, ex102, hf⟩ := znm_i hf
  refine lv_iinc (v := x102) (lv' := [(3, .int x102), (2, .int x101), (0, .ref a0), (1, .ref a1)]) hx hb dX3_of_41 hl (k := 3) rfl (by rw [ex102]; rfl) (by decide) rfl (fun ls hl => ?_)
  refine lv_goto (tgt := 4) hx hb dX3_of_44 (by decide) ?_
  exact hk4 h a0 a1 x101 x102 _ _ _ _ _ _ hf hq hn _ (lv_sub hl [2, 3, 1, 0] rfl)
set_option maxHeartbeats 4000000 in
set_option maxRecDepth 100000 in
theorem m_X3_of_b4 {p : Program} {l : Launch} {e : Env} {s : State} {m : MethodId} {args : Array Value} {below : List Frame} {meth : Method} {c : Code} {D : va_G} {dA : Nat → ClassId} {b0 : Nat} {gs : Nat → Option Nat} (hc : zC D dA b0 gs yX3_of.cls cX3_of 4 p c s m args meth) (hr : meth.sig.returnType = (some .int)) (hin : meth.name = yX3_of.name) {r : Int32} {hh : PH} {mc ms : Nat} : ∀ (n : Nat) (h : PH) (a0 : Nat) (a1 : Nat) (v2 : Int32) (v3 : Int32) (C9 S9 : Nat) (H : Heap) (locs : List Loc) (cells slots : Nat), f_X3_of_b4 n h a0 a1 v2 v3 = some (r, hh, C9, S9) → cells + C9 = mc ∧ slots + S9 = ms → zM D dA b0 gs s h H locs → ∀ ls : Array Slot, lv_has ls 4 [(0, .ref a0), (1, .ref a1), (2, .int v2), (3, .int v3)] → W p l e ({ frames := 4, cells := mc, slots := ms, locals := 124 } : Room) s m args below meth c H locs cells slots (MQ below (zQ D dA b0 gs (evI r) hh) args s mc ms (zA b0)) (F0 m 4 ls []) := by
  have hx := hc.x
  have hb := hc.b
  intro n
  induction n with
  | zero =>
    intro h a0 a1 v2 v3 C9 S9 H locs cells slots hf hq hn ls hl
    cases hf
  | succ n ih =>
    intro h a0 a1 v2 v3 C9 S9 H locs cells slots hf hq hn ls hl
    unfold f_X3_of_b4 at hf
    refine lv_iload_n hx hb dX3_of_4 rfl (lv_at hl 3 rfl) ?_
    refine lv_aload_n (x := a0) hx hb dX3_of_5 rfl (lv_at hl 0 rfl) ?_
    refine zr_gP hc hn (ci := 2) rfl rfl in_X3 0 (by decide) q181 (fun _ h => h) (fun _ _ _ => rfl) hf dX3_of_6 (fun x101 hf => ?_)
    obtain ⟨a102, e9, hf9⟩ := znn_i hf
    subst e9
    have hf := hf9
    clear hf9
    refine zr_cVI (As := []) (rest := [.int v3]) hc hn hq (ci := 12) rfl ⟨rfl, hd_J2_size⟩ (lw_V q274 q275 q276 q89 q277) (Nat.le_of_ble_eq_true rfl) (Nat.le_of_ble_eq_true rfl) (fun _ _ _ _ q => m_J2_size l D dA b0 gs h a102 q) hf dX3_of_9 hl.1 rfl rfl (zroom (Nat.le_of_ble_eq_true rfl)) (fun x103 h104 H locs cells slots C9 S9 hf hq hn => ?_)
    refine lv_icmp_ge (tgt := 47) hx hb dX3_of_12 (by decide) (fun c9 => ?_) (fun c9 => ?_)
    · have hf := zif_t c9 hf
      refine lv_iload_n hx hb dX3_of_47 rfl (lv_at hl 2 rfl) ?_
      obtain ⟨rfl, rfl, rfl, rfl⟩ := zret_i hf
      exact zr_iret hc hn hr hq (fun _ _ _ _ q => q) dX3_of_48
    · have hf := zif_f c9 hf
      refine lv_iload_n hx hb dX3_of_15 rfl (lv_at hl 2 rfl) ?_
      refine lv_aload_n (x := a0) hx hb dX3_of_16 rfl (lv_at hl 0 rfl) ?_
      refine zr_gP hc hn (ci := 2) rfl rfl in_X3 0 (by decide) q181 (fun _ h => h) (fun _ _ _ => rfl) hf dX3_of_17 (fun x105 hf => ?_)
      refine lv_iload_n hx hb dX3_of_20 rfl (lv_at hl 3 rfl) ?_
      obtain ⟨a106, e9, hf9⟩ := znn_i hf
      subst e9
      have hf := hf9
      clear hf9
      refine zr_cVP (As := [.int v3]) (rest := [.int v2]) hc hn hq (ci := 12) rfl ⟨rfl, hd_J2_get⟩ (lw_V q1817 q1818 q1819 q89 q1820) (Nat.le_of_ble_eq_true rfl) (Nat.le_of_ble_eq_true rfl) (fun _ _ _ _ q => m_J2_get l D dA b0 gs h104 a106 v3 q) hf dX3_of_21 hl.1 rfl rfl (zroom (Nat.le_of_ble_eq_true rfl)) (fun x107 h108 H locs cells slots C9 S9 hf hq hn => ?_)
      refine zr_cast (o := x107) hc hn (ci := 9) rfl q1037 (Or.inl rfl) hf dX3_of_24 (fun hf => ?_)
      obtain ⟨a109, e9, hf9⟩ := znn_i hf
      subst e9
      have hf := hf9
      clear hf9
      refine zr_cVP (As := []) (rest := [.int v2]) hc hn hq (ci := 9) rfl ⟨rfl, hd_X11_mend⟩ (lw_V q1960 q1830 q1831 q120 q1832) (Nat.le_of_ble_eq_true rfl) (Nat.le_of_ble_eq_true rfl) (fun _ _ _ _ q => m_X11_mend l D dA b0 gs h108 a109 q) hf dX3_of_27 hl.1 rfl rfl (zroom (Nat.le_of_ble_eq_true rfl)) (fun x110 h111 H locs cells slots C9 S9 hf hq hn => ?_)
      refine lv_aload_n (x := a1) hx hb dX3_of_30 rfl (lv_at hl 1 rfl) ?_
      refine lv_acmp_ne (rx := x110) (ry := (some a1)) (tgt := 38) hx hb dX3_of_31 (by decide) (fun c9 => ?_) (fun c9 => ?_)
      · have hf := zif_f c9 hf
        refine lv_iconst (v := (0 : Int32)) hx hb dX3_of_38 (by decide) ?_
        exact m_X3_of_b39 hc hr hin (f_X3_of_b4 n) ih h111 a0 a1 v3 v2 (0 : Int32) _ _ _ _ _ _ hf hq hn _ (lv_sub hl [0, 1, 3] rfl)
      · have hf := zif_t c9 hf
        refine lv_iconst (v := (1 : Int32)) hx hb dX3_of_34 (by decide) ?_
        refine lv_goto (tgt := 39) hx hb dX3_of_35 (by decide) ?_
        exact m_X3_of_b39 hc hr hin (f_X3_of_b4 n) ih h111 a0 a1 v3 v2 (1 : Int32) _ _ _ _ _ _ hf hq hn _ (lv_sub hl [0, 1, 3] rfl)
set_option maxHeartbeats 4000000 in
set_option maxRecDepth 100000 in
theorem m_X3_of (l : Launch) (D : va_G) (dA : Nat → ClassId) (b0 : Nat) (gs : Nat → Option Nat) (h : PH) (a0 : Nat) (a1 : Nat) {r : Int32} {hh : PH} {mc ms : Nat} (hf : f_X3_of h a0 a1 = some (r, hh, mc, ms)) : zMt l D dA b0 gs yX3_of cX3_of 4 (some .int) 4 124 [.ref a0, .ref a1] h (evI r) hh mc ms := by
  unfold f_X3_of at hf
  refine zMt.of (by decide) (Nat.le_of_ble_eq_true rfl) ?_
  intro p e s m args below meth c hc hr hin hn ls hl
  have hl : lv_has ls 4 [(0, .ref a0), (1, .ref a1)] := hl
  have hq : 0 + mc = mc ∧ 0 + ms = ms := ⟨Nat.zero_add _, Nat.zero_add _⟩
  have hx := hc.x
  have hb := hc.b
  refine lv_iconst (v := (0 : Int32)) hx hb dX3_of_0 (by decide) ?_
  refine lv_istore_n (i := 2) (lv' := [(2, .int (0 : Int32)), (0, .ref a0), (1, .ref a1)]) hx hb dX3_of_1 rfl hl (by decide) rfl (fun ls hl => ?_)
  refine lv_iconst (v := (0 : Int32)) hx hb dX3_of_2 (by decide) ?_
  refine lv_istore_n (i := 3) (lv' := [(3, .int (0 : Int32)), (2, .int (0 : Int32)), (0, .ref a0), (1, .ref a1)]) hx hb dX3_of_3 rfl hl (by decide) rfl (fun ls hl => ?_)
  exact m_X3_of_b4 hc hr hin zFU h a0 a1 (0 : Int32) (0 : Int32) _ _ _ _ _ _ hf hq hn _ (lv_sub hl [2, 3, 1, 0] rfl)
theorem hd_X7_init : yX7_init.cls ≠ "java/lang/invoke/MethodHandle" ∧ yX7_init.cls ≠ "java/lang/invoke/VarHandle" ∧ (parseMethodDescriptor yX7_init.desc).map (fun d => d.parameters.length) = some 1 := by decide +kernel
def f_X7_init_b26 : Nat → PH → Nat → Nat → Int32 → ZR Unit
  | 0 => fun _ _ _ _ => none
  | n + 1 => fun h a0 a1 v2 =>
    if (8 : Int32) < v2 then
      (zpP h a0 6 0 (some a1) fun h101 =>
      zret () h101)
    else
      (zgP h a0 6 1 fun x102 =>
      znn x102 fun a103 =>
      zrc h a103 7 <| zcl (f_X8_link h a103 v2 (none : Option Nat) (1 : Int32) (0 : Int32)) fun _ h105 =>
      znm (v2 + (1 : Int32)) fun x106 =>
      f_X7_init_b26 n h105 a0 a1 x106)
def f_X7_init (h : PH) (a0 : Nat) (a1 : Nat) : ZR Unit :=
  zno h 7 6 fun a101 h102 =>
  zcl (f_X8_init h102 a101) fun _ h104 =>
  zpP h104 a0 6 1 (some a101) fun h105 =>
  zna h105 5 (9 : Int32) fun a106 h107 =>
  zpP h107 a0 6 2 (some a106) fun h108 =>
  f_X7_init_b26 zFU h108 a0 a1 (1 : Int32)
set_option maxHeartbeats 4000000 in
set_option maxRecDepth 100000 in
theorem m_X7_init_b26 {p : Program} {l : Launch} {e : Env} {s : State} {m : MethodId} {args : Array Value} {below : List Frame} {meth : Method} {c : Code} {D : va_G} {dA : Nat → ClassId} {b0 : Nat} {gs : Nat → Option Nat} (hc : zC D dA b0 gs yX7_init.cls cX7_init 3 p c s m args meth) (hr : meth.sig.returnType = none) (hin : meth.name = yX7_init.name) {r : Unit} {hh : PH} {mc ms : Nat} : ∀ (n : Nat) (h : PH) (a0 : Nat) (a1 : Nat) (v2 : Int32) (C9 S9 : Nat) (H : Heap) (locs : List Loc) (cells slots : Nat), f_X7_init_b26 n h a0 a1 v2 = some (r, hh, C9, S9) → cells + C9 = mc ∧ slots + S9 = ms → zM D dA b0 gs s h H locs → ∀ ls : Array Slot, lv_has ls 3 [(0, .ref a0), (1, .ref a1), (2, .int v2)] → W p l e ({ frames := 3, cells := mc, slots := ms, locals := 103 } : Room) s m args below meth c H locs cells slots (MQ below (zQ D dA b0 gs (evU r) hh) args s mc ms (zA b0)) (F0 m 26 ls []) := by
  have hx := hc.x
  have hb := hc.b
  intro n
  induction n with
  | zero =>
    intro h a0 a1 v2 C9 S9 H locs cells slots hf hq hn ls hl
    cases hf
  | succ n ih =>
    intro h a0 a1 v2 C9 S9 H locs cells slots hf hq hn ls hl
    unfold f_X7_init_b26 at hf
    refine lv_iload_n hx hb dX7_init_26 rfl (lv_at hl 2 rfl) ?_
    refine lv_bipush (v := (8 : Int32)) hx hb dX7_init_27 (by decide) ?_
    refine lv_icmp_gt (tgt := 49) hx hb dX7_init_29 (by decide) (fun c9 => ?_) (fun c9 => ?_)
    · have hf := zif_t c9 hf
      refine lv_aload_n (x := a0) hx hb dX7_init_49 rfl (lv_at hl 0 rfl) ?_
      refine lv_aload_n (x := a1) hx hb dX7_init_50 rfl (lv_at hl 1 rfl) ?_
      refine zr_pP (x := (some a1)) hc hn (ci := 6) rfl rfl in_X7 0 (by decide) tyX7 tyX7_ok nmX7 q868 (fun _ h => h) (Or.inr ⟨rfl, hin, rfl⟩) (fun _ _ _ => rfl) (zn_rf _ (by decide)) (zf_rf _ (by decide)) hf dX7_init_51 (fun h101 H locs hf hn => ?_)
      obtain ⟨rfl, rfl, rfl, rfl⟩ := zret_i hf
      exact zr_vret hc hn hr hq (fun _ _ _ _ q => q) dX7_init_54
    · have hf := zif_f c9 hf
      refine lv_aload_n (x := a0) hx hb dX7_init_32 rfl (lv_at hl 0 rfl) ?_
      refine zr_gP hc hn (ci := 6) rfl rfl in_X7 1 (by decide) q871 (fun _ h => h) (fun _ _ _ => rfl) hf dX7_init_33 (fun x102 hf => ?_)
      refine lv_iload_n hx hb dX7_init_36 rfl (lv_at hl 2 rfl) ?_
      refine lv_null hx hb dX7_init_37 ?_
      refine lv_iconst (v := (1 : Int32)) hx hb dX7_init_38 (by decide) ?_
      refine lv_iconst (v := (0 : Int32)) hx hb dX7_init_39 (by decide) ?_
      obtain ⟨a103, e9, hf9⟩ := znn_i hf
      subst e9
      have hf := hf9
      clear hf9
      refine zr_cVU (As := [.int v2, .null, .int (1 : Int32), .int (0 : Int32)]) (rest := []) hc hn hq (ci := 7) rfl ⟨rfl, hd_X8_link⟩ (lw_V q864 q865 q866 q116 q867) (Nat.le_of_ble_eq_true rfl) (Nat.le_of_ble_eq_true rfl) (fun _ _ _ _ q => m_X8_link l D dA b0 gs h a103 v2 (none : Option Nat) (1 : Int32) (0 : Int32) q) hf dX7_init_40 hl.1 rfl rfl (zroom (Nat.le_of_ble_eq_true rfl)) (fun x104 h105 H locs cells slots C9 S9 hf hq hn => ?_)
      obtain ⟨x106, ex106, hf⟩ := znm_i hf
      refine lv_iinc (v := x106) (lv' := [(2, .int x106), (0, .ref a0), (1, .ref a1)]) hx hb dX7_init_43 hl (k := 2) rfl (by rw [ex106]; rfl) (by decide) rfl (fun ls hl => ?_)
      refine lv_goto (tgt := 26) hx hb dX7_init_46 (by decide) ?_
      exact ih h105 a0 a1 x106 _ _ _ _ _ _ hf hq hn _ (lv_sub hl [1, 2, 0] rfl)
set_option maxHeartbeats 4000000 in
set_option maxRecDepth 100000 in
theorem m_X7_init (l : Launch) (D : va_G) (dA : Nat → ClassId) (b0 : Nat) (gs : Nat → Option Nat) (h : PH) (a0 : Nat) (a1 : Nat) {r : Unit} {hh : PH} {mc ms : Nat} (hf : f_X7_init h a0 a1 = some (r, hh, mc, ms)) : zMt l D dA b0 gs yX7_init cX7_init 3 none 3 103 [.ref a0, .ref a1] h (evU r) hh mc ms := by
  unfold f_X7_init at hf
  refine zMt.of (by decide) (Nat.le_of_ble_eq_true rfl) ?_
  intro p e s m args below meth c hc hr hin hn ls hl
  have hl : lv_has ls 3 [(0, .ref a0), (1, .ref a1)] := hl
  have hq : 0 + mc = mc ∧ 0 + ms = ms := ⟨Nat.zero_add _, Nat.zero_add _⟩
  have hx := hc.x
  have hb := hc.b
  refine lv_aload_n (x := a0) hx hb dX7_init_0 rfl (lv_at hl 0 rfl) ?_
  refine W.objInit hx hb hc.ow (hc.ts _ q817) (hc.ts _ q137) (hc.ts _ q138) rfl (by rw [hc.ml]; exact hl.1) rfl dX7_init_1 (Nat.le_of_ble_eq_true rfl) (zroomL (Nat.le_of_ble_eq_true rfl) (Nat.le_of_ble_eq_true rfl)) ?_
  refine W.eq (g2 := F0 m 4 ls []) rfl ?_
  refine lv_aload_n (x := a0) hx hb dX7_init_4 rfl (lv_at hl 0 rfl) ?_
  refine zr_new hc hn hq (ci := 7) rfl rfl in_X8 tyX8_ok q818 q819 q116 (zd_X8) hf dX7_init_5 (fun a101 h102 H cells slots C9 S9 hf hq hn => ?_)
  refine lv_dup hx hb dX7_init_8 rfl ?_
  refine zr_cI (As := []) (rest := [.ref a101, .ref a0]) hc hn hq rfl hd_X8_init (lw_meth q822) q820 q821 q116 (Nat.le_of_ble_eq_true rfl) (Nat.le_of_ble_eq_true rfl) (fun _ _ _ _ q => m_X8_init l D dA b0 gs h102 a101 q) hf dX7_init_9 hl.1 rfl rfl (zroom (Nat.le_of_ble_eq_true rfl)) (fun x103 h104 H locs cells slots C9 S9 hf hq hn => ?_)
  refine zr_pP (x := (some a101)) hc hn (ci := 6) rfl rfl in_X7 1 (by decide) tyX7 tyX7_ok nmX7 q871 (fun _ h => h) (Or.inr ⟨rfl, hin, rfl⟩) (fun _ _ _ => rfl) (zn_rf _ (by decide)) (zf_rf _ (by decide)) hf dX7_init_12 (fun h105 H locs hf hn => ?_)
  refine lv_aload_n (x := a0) hx hb dX7_init_15 rfl (lv_at hl 0 rfl) ?_
  refine lv_bipush (v := (9 : Int32)) hx hb dX7_init_16 (by decide) ?_
  refine zr_nq (ai := 5) hc hn hq (by decide) rfl q818 q828 hf dX7_init_18 (fun a106 h107 H cells slots C9 S9 hf hq hn => ?_)
  refine zr_pP (x := (some a106)) hc hn (ci := 6) rfl rfl in_X7 2 (by decide) tyX7 tyX7_ok nmX7 q874 (fun _ h => h) (Or.inr ⟨rfl, hin, rfl⟩) (fun _ _ _ => rfl) (zn_rf _ (by decide)) (zf_rf _ (by decide)) hf dX7_init_21 (fun h108 H locs hf hn => ?_)
  refine lv_iconst (v := (1 : Int32)) hx hb dX7_init_24 (by decide) ?_
  refine lv_istore_n (i := 2) (lv' := [(2, .int (1 : Int32)), (0, .ref a0), (1, .ref a1)]) hx hb dX7_init_25 rfl hl (by decide) rfl (fun ls hl => ?_)
  exact m_X7_init_b26 hc hr hin zFU h108 a0 a1 (1 : Int32) _ _ _ _ _ _ hf hq hn _ (lv_sub hl [1, 2, 0] rfl)
theorem hd_X7_append : yX7_append.cls ≠ "java/lang/invoke/MethodHandle" ∧ yX7_append.cls ≠ "java/lang/invoke/VarHandle" ∧ (parseMethodDescriptor yX7_append.desc).map (fun d => d.parameters.length) = some 3 := by decide +kernel
def f_X7_append_b120 (k15 : PH → Nat → Int32 → Int32 → Nat → Int32 → ZR Unit) (h : PH) (a0 : Nat) (v2 : Int32) (v3 : Int32) (a4 : Nat) (v5 : Int32) : ZR Unit :=
  znm (v5 + (1 : Int32)) fun x101 =>
  k15 h a0 v2 v3 a4 x101
def f_X7_append_b28 (k15 : PH → Nat → Int32 → Int32 → Nat → Int32 → ZR Unit) : Nat → PH → Nat → Int32 → Int32 → Nat → Int32 → Option Nat → ZR Unit
  | 0 => fun _ _ _ _ _ _ _ => none
  | n + 1 => fun h a0 v2 v3 a4 v5 o6 =>
    znn o6 fun a101 =>
    zrc h a101 7 <| zcl (f_X8_next h a101 v5) fun x102 h103 =>
    znul x102
      (if v3 < v5 then
        (zgP h103 a101 7 2 fun x105 =>
        znn x105 fun a106 =>
        zaI h103 a106 0 v5 fun x107 =>
        znm (x107 + (1 : Int32)) fun x108 =>
        zsI h103 a106 0 v5 x108 fun h109 =>
        zgP h109 a101 7 3 fun x110 =>
        znn x110 fun a111 =>
        zaI h109 a111 0 v5 fun x112 =>
        znm (x112 + v2) fun x113 =>
        zsI h109 a111 0 v5 x113 fun h114 =>
        f_X7_append_b120 k15 h114 a0 v2 v3 a4 v5)
      else
        (zrc h103 a4 7 <| zcl (f_X8_link h103 a4 v5 (none : Option Nat) (1 : Int32) (0 : Int32)) fun _ h116 =>
        zgP h116 a101 7 2 fun x117 =>
        znn x117 fun a118 =>
        zaI h116 a118 0 v5 fun x119 =>
        zgP h116 a101 7 3 fun x120 =>
        znn x120 fun a121 =>
        zaI h116 a121 0 v5 fun x122 =>
        znm (x122 + v2) fun x123 =>
        zrc h116 a101 7 <| zcl (f_X8_link h116 a101 v5 (some a4) x119 x123) fun _ h125 =>
        f_X7_append_b120 k15 h125 a0 v2 v3 a4 v5))
      (fun a104 =>
        zrc h103 a101 7 <| zcl (f_X8_next h103 a101 v5) fun x126 h127 =>
        f_X7_append_b28 k15 n h127 a0 v2 v3 a4 v5 x126)
def f_X7_append_b15 : Nat → PH → Nat → Int32 → Int32 → Nat → Int32 → ZR Unit
  | 0 => fun _ _ _ _ _ _ => none
  | n + 1 => fun h a0 v2 v3 a4 v5 =>
    if (8 : Int32) < v5 then
      (zgI h a0 6 3 fun x101 =>
      znm (x101 + (1 : Int32)) fun x102 =>
      zpI h a0 6 3 x102 fun h103 =>
      zret () h103)
    else
      (zgP h a0 6 1 fun x104 =>
      f_X7_append_b28 (f_X7_append_b15 n) zFU h a0 v2 v3 a4 v5 x104)
def f_X7_append (h : PH) (a0 : Nat) (v1 : Int32) (v2 : Int32) (v3 : Int32) : ZR Unit :=
  zno h 7 6 fun a101 h102 =>
  zcl (f_X8_init_2 h102 a101 v1 v2 v3) fun _ h104 =>
  f_X7_append_b15 zFU h104 a0 v2 v3 a101 (1 : Int32)
set_option maxHeartbeats 4000000 in
set_option maxRecDepth 100000 in
theorem m_X7_append_b120 {p : Program} {l : Launch} {e : Env} {s : State} {m : MethodId} {args : Array Value} {below : List Frame} {meth : Method} {c : Code} {D : va_G} {dA : Nat → ClassId} {b0 : Nat} {gs : Nat → Option Nat} (hc : zC D dA b0 gs yX7_append.cls cX7_append 7 p c s m args meth) (hr : meth.sig.returnType = none) (hin : meth.name = yX7_append.name) {r : Unit} {hh : PH} {mc ms : Nat} (k15 : PH → Nat → Int32 → Int32 → Nat → Int32 → ZR Unit) (hk15 : ∀ (h : PH) (a0 : Nat) (v2 : Int32) (v3 : Int32) (a4 : Nat) (v5 : Int32) (C9 S9 : Nat) (H : Heap) (locs : List Loc) (cells slots : Nat), k15 h a0 v2 v3 a4 v5 = some (r, hh, C9, S9) → cells + C9 = mc ∧ slots + S9 = ms → zM D dA b0 gs s h H locs → ∀ ls : Array Slot, lv_has ls 7 [(0, .ref a0), (2, .int v2), (3, .int v3), (4, .ref a4), (5, .int v5)] → W p l e ({ frames := 2, cells := mc, slots := ms, locals := 84 } : Room) s m args below meth c H locs cells slots (MQ below (zQ D dA b0 gs (evU r) hh) args s mc ms (zA b0)) (F0 m 15 ls [])) : ∀ (h : PH) (a0 : Nat) (v2 : Int32) (v3 : Int32) (a4 : Nat) (v5 : Int32) (C9 S9 : Nat) (H : Heap) (locs : List Loc) (cells slots : Nat), f_X7_append_b120 k15 h a0 v2 v3 a4 v5 = some (r, hh, C9, S9) → cells + C9 = mc ∧ slots + S9 = ms → zM D dA b0 gs s h H locs → ∀ ls : Array Slot, lv_has ls 7 [(0, .ref a0), (2, .int v2), (3, .int v3), (4, .ref a4), (5, .int v5)] → W p l e ({ frames := 2, cells := mc, slots := ms, locals := 84 } : Room) s m args below meth c H locs cells slots (MQ below (zQ D dA b0 gs (evU r) hh) args s mc ms (zA b0)) (F0 m 120 ls []) := by
  have hx := hc.x
  have hb := hc.b
  intro h a0 v2 v3 a4 v5 C9 S9 H locs cells slots hf hq hn ls hl
  unfold f_X7_append_b120 at hf
  obtain ⟨x101, ex101, hf⟩ := znm_i hf
  refine lv_iinc (v := x101) (lv' := [(5, .int x101), (0, .ref a0), (2, .int v2), (3, .int v3), (4, .ref a4)]) hx hb dX7_append_120 hl (k := 4) rfl (by rw [ex101]; rfl) (by decide) rfl (fun ls hl => ?_)
  refine lv_goto (tgt := 15) hx hb dX7_append_123 (by decide) ?_
  exact hk15 h a0 v2 v3 a4 x101 _ _ _ _ _ _ hf hq hn _ (lv_sub hl [1, 2, 3, 4, 0] rfl)
set_option maxHeartbeats 4000000 in
set_option maxRecDepth 100000 in
theorem m_X7_append_b28 {p : Program} {l : Launch} {e : Env} {s : State} {m : MethodId} {args : Array Value} {below : List Frame} {meth : Method} {c : Code} {D : va_G} {dA : Nat → ClassId} {b0 : Nat} {gs : Nat → Option Nat} (hc : zC D dA b0 gs yX7_append.cls cX7_append 7 p c s m args meth) (hr : meth.sig.returnType = none) (hin : meth.name = yX7_append.name) {r : Unit} {hh : PH} {mc ms : Nat} (k15 : PH → Nat → Int32 → Int32 → Nat → Int32 → ZR Unit) (hk15 : ∀ (h : PH) (a0 : Nat) (v2 : Int32) (v3 : Int32) (a4 : Nat) (v5 : Int32) (C9 S9 : Nat) (H : Heap) (locs : List Loc) (cells slots : Nat), k15 h a0 v2 v3 a4 v5 = some (r, hh, C9, S9) → cells + C9 = mc ∧ slots + S9 = ms → zM D dA b0 gs s h H locs → ∀ ls : Array Slot, lv_has ls 7 [(0, .ref a0), (2, .int v2), (3, .int v3), (4, .ref a4), (5, .int v5)] → W p l e ({ frames := 2, cells := mc, slots := ms, locals := 84 } : Room) s m args below meth c H locs cells slots (MQ below (zQ D dA b0 gs (evU r) hh) args s mc ms (zA b0)) (F0 m 15 ls [])) : ∀ (n : Nat) (h : PH) (a0 : Nat) (v2 : Int32) (v3 : Int32) (a4 : Nat) (v5 : Int32) (o6 : Option Nat) (C9 S9 : Nat) (H : Heap) (locs : List Loc) (cells slots : Nat), f_X7_append_b28 k15 n h a0 v2 v3 a4 v5 o6 = some (r, hh, C9, S9) → cells + C9 = mc ∧ slots + S9 = ms → zM D dA b0 gs s h H locs → ∀ ls : Array Slot, lv_has ls 7 [(0, .ref a0), (2, .int v2), (3, .int v3), (4, .ref a4), (5, .int v5), (6, va_rf o6)] → W p l e ({ frames := 2, cells := mc, slots := ms, locals := 84 } : Room) s m args below meth c H locs cells slots (MQ below (zQ D dA b0 gs (evU r) hh) args s mc ms (zA b0)) (F0 m 28 ls []) := by
  have hx := hc.x
  have hb := hc.b
  intro n
  induction n with
  | zero =>
    intro h a0 v2 v3 a4 v5 o6 C9 S9 H locs cells slots hf hq hn ls hl
    cases hf
  | succ n ih =>
    intro h a0 v2 v3 a4 v5 o6 C9 S9 H locs cells slots hf hq hn ls hl
    unfold f_X7_append_b28 at hf
    refine zr_aload (x := o6) hx hb dX7_append_28 (lv_at hl 5 rfl) ?_
    refine lv_iload hx hb dX7_append_30 (lv_at hl 4 rfl) ?_
    obtain ⟨a101, e9, hf9⟩ := znn_i hf
    subst e9
    have hf := hf9
    clear hf9
    refine zr_cVP (As := [.int v5]) (rest := []) hc hn hq (ci := 7) rfl ⟨rfl, hd_X8_next⟩ (lw_V q904 q905 q906 q116 q907) (Nat.le_of_ble_eq_true rfl) (Nat.le_of_ble_eq_true rfl) (fun _ _ _ _ q => m_X8_next l D dA b0 gs h a101 v5 q) hf dX7_append_32 hl.1 rfl rfl (zroom (Nat.le_of_ble_eq_true rfl)) (fun x102 h103 H locs cells slots C9 S9 hf hq hn => ?_)
    refine zr_ifnull (tgt := 50) hx hb hf dX7_append_35 (by decide) (fun e9 hf9 => ?_) (fun a104 e9 hf9 => ?_)
    · subst e9
      have hf := hf9
      clear hf9
      refine lv_iload hx hb dX7_append_50 (lv_at hl 4 rfl) ?_
      refine lv_iload_n hx hb dX7_append_52 rfl (lv_at hl 2 rfl) ?_
      refine lv_icmp_gt (tgt := 96) hx hb dX7_append_53 (by decide) (fun c9 => ?_) (fun c9 => ?_)
      · have hf := zif_t c9 hf
        refine lv_aload (x := a101) hx hb dX7_append_96 (lv_at hl 5 rfl) ?_
        refine zr_gPN hc hn (ci := 7) rfl rfl in_X8 2 (by decide) q839 (fun _ h => h) (fun _ _ _ => rfl) hf dX7_append_98 (fun x105 hf => ?_)
        refine lv_iload hx hb dX7_append_101 (lv_at hl 4 rfl) ?_
        refine lv_dup2_11 hx hb dX7_append_103 rfl (zcat_rf _) ?_
        obtain ⟨a106, e9, hf9⟩ := znn_i hf
        subst e9
        have hf := hf9
        clear hf9
        refine zr_aI0 hc hn hf dX7_append_104 (fun x107 hf => ?_)
        refine lv_iconst (v := (1 : Int32)) hx hb dX7_append_105 (by decide) ?_
        refine lv_iadd hx hb dX7_append_106 ?_
        refine zr_nmI hf (fun x108 hf => ?_)
        refine zr_sI hc hn hf dX7_append_107 (fun h109 H locs hf hn => ?_)
        refine lv_aload (x := a101) hx hb dX7_append_108 (lv_at hl 5 rfl) ?_
        refine zr_gPN hc hn (ci := 7) rfl rfl in_X8 3 (by decide) q842 (fun _ h => h) (fun _ _ _ => rfl) hf dX7_append_110 (fun x110 hf => ?_)
        refine lv_iload hx hb dX7_append_113 (lv_at hl 4 rfl) ?_
        refine lv_dup2_11 hx hb dX7_append_115 rfl (zcat_rf _) ?_
        obtain ⟨a111, e9, hf9⟩ := znn_i hf
        subst e9
        have hf := hf9
        clear hf9
        refine zr_aI0 hc hn hf dX7_append_116 (fun x112 hf => ?_)
        refine lv_iload_n hx hb dX7_append_117 rfl (lv_at hl 1 rfl) ?_
        refine lv_iadd hx hb dX7_append_118 ?_
        refine zr_nmI hf (fun x113 hf => ?_)
        refine zr_sI hc hn hf dX7_append_119 (fun h114 H locs hf hn => ?_)
        exact m_X7_append_b120 hc hr hin k15 hk15 h114 a0 v2 v3 a4 v5 _ _ _ _ _ _ hf hq hn _ (lv_sub hl [0, 1, 2, 3, 4] rfl)
      · have hf := zif_f c9 hf
        refine lv_aload (x := a4) hx hb dX7_append_56 (lv_at hl 3 rfl) ?_
        refine lv_iload hx hb dX7_append_58 (lv_at hl 4 rfl) ?_
        refine lv_null hx hb dX7_append_60 ?_
        refine lv_iconst (v := (1 : Int32)) hx hb dX7_append_61 (by decide) ?_
        refine lv_iconst (v := (0 : Int32)) hx hb dX7_append_62 (by decide) ?_
        refine zr_cVU (As := [.int v5, .null, .int (1 : Int32), .int (0 : Int32)]) (rest := []) hc hn hq (ci := 7) rfl ⟨rfl, hd_X8_link⟩ (lw_V q864 q865 q866 q116 q867) (Nat.le_of_ble_eq_true rfl) (Nat.le_of_ble_eq_true rfl) (fun _ _ _ _ q => m_X8_link l D dA b0 gs h103 a4 v5 (none : Option Nat) (1 : Int32) (0 : Int32) q) hf dX7_append_63 hl.1 rfl rfl (zroom (Nat.le_of_ble_eq_true rfl)) (fun x115 h116 H locs cells slots C9 S9 hf hq hn => ?_)
        refine lv_aload (x := a101) hx hb dX7_append_66 (lv_at hl 5 rfl) ?_
        refine lv_iload hx hb dX7_append_68 (lv_at hl 4 rfl) ?_
        refine lv_aload (x := a4) hx hb dX7_append_70 (lv_at hl 3 rfl) ?_
        refine lv_aload (x := a101) hx hb dX7_append_72 (lv_at hl 5 rfl) ?_
        refine zr_gPN hc hn (ci := 7) rfl rfl in_X8 2 (by decide) q839 (fun _ h => h) (fun _ _ _ => rfl) hf dX7_append_74 (fun x117 hf => ?_)
        refine lv_iload hx hb dX7_append_77 (lv_at hl 4 rfl) ?_
        obtain ⟨a118, e9, hf9⟩ := znn_i hf
        subst e9
        have hf := hf9
        clear hf9
        refine zr_aI0 hc hn hf dX7_append_79 (fun x119 hf => ?_)
        refine lv_aload (x := a101) hx hb dX7_append_80 (lv_at hl 5 rfl) ?_
        refine zr_gPN hc hn (ci := 7) rfl rfl in_X8 3 (by decide) q842 (fun _ h => h) (fun _ _ _ => rfl) hf dX7_append_82 (fun x120 hf => ?_)
        refine lv_iload hx hb dX7_append_85 (lv_at hl 4 rfl) ?_
        obtain ⟨a121, e9, hf9⟩ := znn_i hf
        subst e9
        have hf := hf9
        clear hf9
        refine zr_aI0 hc hn hf dX7_append_87 (fun x122 hf => ?_)
        refine lv_iload_n hx hb dX7_append_88 rfl (lv_at hl 1 rfl) ?_
        refine lv_iadd hx hb dX7_append_89 ?_
        refine zr_nmI hf (fun x123 hf => ?_)
        refine zr_cVU (As := [.int v5, .ref a4, .int x119, .int x123]) (rest := []) hc hn hq (ci := 7) rfl ⟨rfl, hd_X8_link⟩ (lw_V q864 q865 q866 q116 q867) (Nat.le_of_ble_eq_true rfl) (Nat.le_of_ble_eq_true rfl) (fun _ _ _ _ q => m_X8_link l D dA b0 gs h116 a101 v5 (some a4) x119 x123 q) hf dX7_append_90 hl.1 rfl rfl (zroom (Nat.le_of_ble_eq_true rfl)) (fun x124 h125 H locs cells slots C9 S9 hf hq hn => ?_)
        refine lv_goto (tgt := 120) hx hb dX7_append_93 (by decide) ?_
        exact m_X7_append_b120 hc hr hin k15 hk15 h125 a0 v2 v3 a4 v5 _ _ _ _ _ _ hf hq hn _ (lv_sub hl [0, 1, 2, 3, 4] rfl)
    · subst e9
      have hf := hf9
      clear hf9
      refine lv_aload (x := a101) hx hb dX7_append_38 (lv_at hl 5 rfl) ?_
      refine lv_iload hx hb dX7_append_40 (lv_at hl 4 rfl) ?_
      refine zr_cVP (As := [.int v5]) (rest := []) hc hn hq (ci := 7) rfl ⟨rfl, hd_X8_next⟩ (lw_V q904 q905 q906 q116 q907) (Nat.le_of_ble_eq_true rfl) (Nat.le_of_ble_eq_true rfl) (fun _ _ _ _ q => m_X8_next l D dA b0 gs h103 a101 v5 q) hf dX7_append_42 hl.1 rfl rfl (zroom (Nat.le_of_ble_eq_true rfl)) (fun x126 h127 H locs cells slots C9 S9 hf hq hn => ?_)
      refine zr_astore (x := x126) (lv' := [(6, va_rf x126), (0, .ref a0), (2, .int v2), (3, .int v3), (4, .ref a4), (5, .int v5)]) hx hb dX7_append_45 hl (by decide) rfl (fun ls hl => ?_)
      refine lv_goto (tgt := 28) hx hb dX7_append_47 (by decide) ?_
      exact ih h127 a0 v2 v3 a4 v5 x126 _ _ _ _ _ _ hf hq hn _ (lv_sub hl [1, 2, 3, 4, 5, 0] rfl)
set_option maxHeartbeats 4000000 in
set_option maxRecDepth 100000 in
theorem m_X7_append_b15 {p : Program} {l : Launch} {e : Env} {s : State} {m : MethodId} {args : Array Value} {below : List Frame} {meth : Method} {c : Code} {D : va_G} {dA : Nat → ClassId} {b0 : Nat} {gs : Nat → Option Nat} (hc : zC D dA b0 gs yX7_append.cls cX7_append 7 p c s m args meth) (hr : meth.sig.returnType = none) (hin : meth.name = yX7_append.name) {r : Unit} {hh : PH} {mc ms : Nat} : ∀ (n : Nat) (h : PH) (a0 : Nat) (v2 : Int32) (v3 : Int32) (a4 : Nat) (v5 : Int32) (C9 S9 : Nat) (H : Heap) (locs : List Loc) (cells slots : Nat), f_X7_append_b15 n h a0 v2 v3 a4 v5 = some (r, hh, C9, S9) → cells + C9 = mc ∧ slots + S9 = ms → zM D dA b0 gs s h H locs → ∀ ls : Array Slot, lv_has ls 7 [(0, .ref a0), (2, .int v2), (3, .int v3), (4, .ref a4), (5, .int v5)] → W p l e ({ frames := 2, cells := mc, slots := ms, locals := 84 } : Room) s m args below meth c H locs cells slots (MQ below (zQ D dA b0 gs (evU r) hh) args s mc ms (zA b0)) (F0 m 15 ls []) := by
  have hx := hc.x
  have hb := hc.b
  intro n
  induction n with
  | zero =>
    intro h a0 v2 v3 a4 v5 C9 S9 H locs cells slots hf hq hn ls hl
    cases hf
  | succ n ih =>
    intro h a0 v2 v3 a4 v5 C9 S9 H locs cells slots hf hq hn ls hl
    unfold f_X7_append_b15 at hf
    refine lv_iload hx hb dX7_append_15 (lv_at hl 4 rfl) ?_
    refine lv_bipush (v := (8 : Int32)) hx hb dX7_append_17 (by decide) ?_
    refine lv_icmp_gt (tgt := 126) hx hb dX7_append_19 (by decide) (fun c9 => ?_) (fun c9 => ?_)
    · have hf := zif_t c9 hf
      refine lv_aload_n (x := a0) hx hb dX7_append_126 rfl (lv_at hl 0 rfl) ?_
      refine lv_dup hx hb dX7_append_127 rfl ?_
      refine zr_gI hc hn (ci := 6) rfl rfl in_X7 3 (by decide) q875 (fun _ h => h) (fun _ _ _ => rfl) hf dX7_append_128 (fun x101 hf => ?_)
      refine lv_iconst (v := (1 : Int32)) hx hb dX7_append_131 (by decide) ?_
      refine lv_iadd hx hb dX7_append_132 ?_
      refine zr_nmI hf (fun x102 hf => ?_)
      refine zr_pI (x := x102) hc hn (ci := 6) rfl rfl in_X7 3 (by decide) tyX7 tyX7_ok nmX7 q875 (fun _ h => h) (Or.inl rfl) (fun _ _ _ => rfl) rfl rfl hf dX7_append_133 (fun h103 H locs hf hn => ?_)
      obtain ⟨rfl, rfl, rfl, rfl⟩ := zret_i hf
      exact zr_vret hc hn hr hq (fun _ _ _ _ q => q) dX7_append_136
    · have hf := zif_f c9 hf
      refine lv_aload_n (x := a0) hx hb dX7_append_22 rfl (lv_at hl 0 rfl) ?_
      refine zr_gP hc hn (ci := 6) rfl rfl in_X7 1 (by decide) q871 (fun _ h => h) (fun _ _ _ => rfl) hf dX7_append_23 (fun x104 hf => ?_)
      refine zr_astore (x := x104) (lv' := [(6, va_rf x104), (0, .ref a0), (2, .int v2), (3, .int v3), (4, .ref a4), (5, .int v5)]) hx hb dX7_append_26 hl (by decide) rfl (fun ls hl => ?_)
      exact m_X7_append_b28 hc hr hin (f_X7_append_b15 n) ih zFU h a0 v2 v3 a4 v5 x104 _ _ _ _ _ _ hf hq hn _ (lv_sub hl [1, 2, 3, 4, 5, 0] rfl)
set_option maxHeartbeats 4000000 in
set_option maxRecDepth 100000 in
theorem m_X7_append (l : Launch) (D : va_G) (dA : Nat → ClassId) (b0 : Nat) (gs : Nat → Option Nat) (h : PH) (a0 : Nat) (v1 : Int32) (v2 : Int32) (v3 : Int32) {r : Unit} {hh : PH} {mc ms : Nat} (hf : f_X7_append h a0 v1 v2 v3 = some (r, hh, mc, ms)) : zMt l D dA b0 gs yX7_append cX7_append 7 none 2 84 [.ref a0, .int v1, .int v2, .int v3] h (evU r) hh mc ms := by
  unfold f_X7_append at hf
  refine zMt.of (by decide) (Nat.le_of_ble_eq_true rfl) ?_
  intro p e s m args below meth c hc hr hin hn ls hl
  have hl : lv_has ls 7 [(0, .ref a0), (1, .int v1), (2, .int v2), (3, .int v3)] := hl
  have hq : 0 + mc = mc ∧ 0 + ms = ms := ⟨Nat.zero_add _, Nat.zero_add _⟩
  have hx := hc.x
  have hb := hc.b
  refine zr_new hc hn hq (ci := 7) rfl rfl in_X8 tyX8_ok q818 q819 q116 (zd_X8) hf dX7_append_0 (fun a101 h102 H cells slots C9 S9 hf hq hn => ?_)
  refine lv_dup hx hb dX7_append_3 rfl ?_
  refine lv_iload_n hx hb dX7_append_4 rfl (lv_at hl 1 rfl) ?_
  refine lv_iload_n hx hb dX7_append_5 rfl (lv_at hl 2 rfl) ?_
  refine lv_iload_n hx hb dX7_append_6 rfl (lv_at hl 3 rfl) ?_
  refine zr_cI (As := [.int v1, .int v2, .int v3]) (rest := [.ref a101]) hc hn hq rfl hd_X8_init_2 (lw_meth q825) q903 q824 q116 (Nat.le_of_ble_eq_true rfl) (Nat.le_of_ble_eq_true rfl) (fun _ _ _ _ q => m_X8_init_2 l D dA b0 gs h102 a101 v1 v2 v3 q) hf dX7_append_7 hl.1 rfl rfl (zroom (Nat.le_of_ble_eq_true rfl)) (fun x103 h104 H locs cells slots C9 S9 hf hq hn => ?_)
  refine lv_astore (x := a101) (lv' := [(4, .ref a101), (0, .ref a0), (1, .int v1), (2, .int v2), (3, .int v3)]) hx hb dX7_append_10 hl (by decide) rfl (fun ls hl => ?_)
  refine lv_iconst (v := (1 : Int32)) hx hb dX7_append_12 (by decide) ?_
  refine lv_istore (lv' := [(5, .int (1 : Int32)), (4, .ref a101), (0, .ref a0), (1, .int v1), (2, .int v2), (3, .int v3)]) hx hb dX7_append_13 hl (by decide) rfl (fun ls hl => ?_)
  exact m_X7_append_b15 hc hr hin zFU h104 a0 v2 v3 a101 (1 : Int32) _ _ _ _ _ _ hf hq hn _ (lv_sub hl [2, 4, 5, 1, 0] rfl)
theorem hd_X7_counted : yX7_counted.cls ≠ "java/lang/invoke/MethodHandle" ∧ yX7_counted.cls ≠ "java/lang/invoke/VarHandle" ∧ (parseMethodDescriptor yX7_counted.desc).map (fun d => d.parameters.length) = some 0 := by decide +kernel
def f_X7_counted_b23 : Nat → PH → Nat → Int32 → Option Nat → ZR Nat
  | 0 => fun _ _ _ _ => none
  | n + 1 => fun h a1 v2 o3 =>
    znul o3
      (zret a1 h)
      (fun a101 =>
        znm (v2 + (1 : Int32)) fun x102 =>
        zgI h a101 7 0 fun x103 =>
        zgI h a101 7 4 fun x104 =>
        znm (zS h 4) fun x105 =>
        znn x105 fun a106 =>
        zaI h a106 0 x102 fun x107 =>
        znm ((1 : Int32) + x107) fun x108 =>
        zrc h a1 6 <| zcl (f_X7_append h a1 x103 x104 x108) fun _ h110 =>
        zrc h110 a101 7 <| zcl (f_X8_next h110 a101 (1 : Int32)) fun x111 h112 =>
        f_X7_counted_b23 n h112 a1 x102 x111)
def f_X7_counted (h : PH) (a0 : Nat) : ZR Nat :=
  zno h 6 4 fun a101 h102 =>
  zgP h102 a0 6 0 fun x103 =>
  znn x103 fun a104 =>
  zcl (f_X7_init h102 a101 a104) fun _ h106 =>
  zgP h106 a0 6 1 fun x107 =>
  znn x107 fun a108 =>
  zrc h106 a108 7 <| zcl (f_X8_next h106 a108 (1 : Int32)) fun x109 h110 =>
  f_X7_counted_b23 zFU h110 a101 (0 : Int32) x109
set_option maxHeartbeats 4000000 in
set_option maxRecDepth 100000 in
theorem m_X7_counted_b23 {p : Program} {l : Launch} {e : Env} {s : State} {m : MethodId} {args : Array Value} {below : List Frame} {meth : Method} {c : Code} {D : va_G} {dA : Nat → ClassId} {b0 : Nat} {gs : Nat → Option Nat} (hc : zC D dA b0 gs yX7_counted.cls cX7_counted 4 p c s m args meth) (hr : meth.sig.returnType = (some (.object "CountedSkipLists$SkipList"))) (hin : meth.name = yX7_counted.name) {r : Nat} {hh : PH} {mc ms : Nat} : ∀ (n : Nat) (h : PH) (a1 : Nat) (v2 : Int32) (o3 : Option Nat) (C9 S9 : Nat) (H : Heap) (locs : List Loc) (cells slots : Nat), f_X7_counted_b23 n h a1 v2 o3 = some (r, hh, C9, S9) → cells + C9 = mc ∧ slots + S9 = ms → zM D dA b0 gs s h H locs → ∀ ls : Array Slot, lv_has ls 4 [(1, .ref a1), (2, .int v2), (3, va_rf o3)] → W p l e ({ frames := 4, cells := mc, slots := ms, locals := 125 } : Room) s m args below meth c H locs cells slots (MQ below (zQ D dA b0 gs (evN r) hh) args s mc ms (zA b0)) (F0 m 23 ls []) := by
  have hx := hc.x
  have hb := hc.b
  intro n
  induction n with
  | zero =>
    intro h a1 v2 o3 C9 S9 H locs cells slots hf hq hn ls hl
    cases hf
  | succ n ih =>
    intro h a1 v2 o3 C9 S9 H locs cells slots hf hq hn ls hl
    unfold f_X7_counted_b23 at hf
    refine zr_aload_n (x := o3) hx hb dX7_counted_23 rfl (lv_at hl 2 rfl) ?_
    refine zr_ifnull (tgt := 58) hx hb hf dX7_counted_24 (by decide) (fun e9 hf9 => ?_) (fun a101 e9 hf9 => ?_)
    · subst e9
      have hf := hf9
      clear hf9
      refine lv_aload_n (x := a1) hx hb dX7_counted_58 rfl (lv_at hl 0 rfl) ?_
      obtain ⟨rfl, rfl, rfl, rfl⟩ := zret_i hf
      exact zr_nret hc hn hr (Or.inl ⟨_, rfl⟩) hq (fun _ _ _ _ q => q) dX7_counted_59
    · subst e9
      have hf := hf9
      clear hf9
      obtain ⟨x102, ex102, hf⟩ := znm_i hf
      refine lv_iinc (v := x102) (lv' := [(2, .int x102), (1, .ref a1), (3, .ref a101)]) hx hb dX7_counted_27 hl (k := 1) rfl (by rw [ex102]; rfl) (by decide) rfl (fun ls hl => ?_)
      refine lv_aload_n (x := a1) hx hb dX7_counted_30 rfl (lv_at hl 1 rfl) ?_
      refine lv_aload_n (x := a101) hx hb dX7_counted_31 rfl (lv_at hl 2 rfl) ?_
      refine zr_gIN hc hn (ci := 7) rfl rfl in_X8 0 (by decide) q834 (fun _ h => h) (fun _ _ _ => rfl) hf dX7_counted_32 (fun x103 hf => ?_)
      refine lv_aload_n (x := a101) hx hb dX7_counted_35 rfl (lv_at hl 2 rfl) ?_
      refine zr_gIN hc hn (ci := 7) rfl rfl in_X8 4 (by decide) q845 (fun _ h => h) (fun _ _ _ => rfl) hf dX7_counted_36 (fun x104 hf => ?_)
      refine lv_iconst (v := (1 : Int32)) hx hb dX7_counted_39 (by decide) ?_
      refine zr_gsN hc hn (hc.st4) q914 (fun _ h => h) hf dX7_counted_40 (fun x105 hf => ?_)
      refine lv_iload_n hx hb dX7_counted_43 rfl (lv_at hl 0 rfl) ?_
      obtain ⟨a106, e9, hf9⟩ := znn_i hf
      subst e9
      have hf := hf9
      clear hf9
      refine zr_aI0 hc hn hf dX7_counted_44 (fun x107 hf => ?_)
      refine lv_iadd hx hb dX7_counted_45 ?_
      refine zr_nmI hf (fun x108 hf => ?_)
      refine zr_cVU (As := [.int x103, .int x104, .int x108]) (rest := []) hc hn hq (ci := 6) rfl ⟨rfl, hd_X7_append⟩ (lw_V q916 q900 q901 q115 q902) (Nat.le_of_ble_eq_true rfl) (Nat.le_of_ble_eq_true rfl) (fun _ _ _ _ q => m_X7_append l D dA b0 gs h a1 x103 x104 x108 q) hf dX7_counted_46 hl.1 rfl rfl (zroom (Nat.le_of_ble_eq_true rfl)) (fun x109 h110 H locs cells slots C9 S9 hf hq hn => ?_)
      refine lv_aload_n (x := a101) hx hb dX7_counted_49 rfl (lv_at hl 2 rfl) ?_
      refine lv_iconst (v := (1 : Int32)) hx hb dX7_counted_50 (by decide) ?_
      refine zr_cVP (As := [.int (1 : Int32)]) (rest := []) hc hn hq (ci := 7) rfl ⟨rfl, hd_X8_next⟩ (lw_V q904 q905 q906 q116 q907) (Nat.le_of_ble_eq_true rfl) (Nat.le_of_ble_eq_true rfl) (fun _ _ _ _ q => m_X8_next l D dA b0 gs h110 a101 (1 : Int32) q) hf dX7_counted_51 hl.1 rfl rfl (zroom (Nat.le_of_ble_eq_true rfl)) (fun x111 h112 H locs cells slots C9 S9 hf hq hn => ?_)
      refine zr_astore_n (x := x111) (i := 3) (lv' := [(3, va_rf x111), (2, .int x102), (1, .ref a1)]) hx hb dX7_counted_54 rfl hl (by decide) rfl (fun ls hl => ?_)
      refine lv_goto (tgt := 23) hx hb dX7_counted_55 (by decide) ?_
      exact ih h112 a1 x102 x111 _ _ _ _ _ _ hf hq hn _ (lv_sub hl [2, 1, 0] rfl)
set_option maxHeartbeats 4000000 in
set_option maxRecDepth 100000 in
theorem m_X7_counted (l : Launch) (D : va_G) (dA : Nat → ClassId) (b0 : Nat) (gs : Nat → Option Nat) (h : PH) (a0 : Nat) {r : Nat} {hh : PH} {mc ms : Nat} (hf : f_X7_counted h a0 = some (r, hh, mc, ms)) : zMt l D dA b0 gs yX7_counted cX7_counted 4 (some (.object "CountedSkipLists$SkipList")) 4 125 [.ref a0] h (evN r) hh mc ms := by
  unfold f_X7_counted at hf
  refine zMt.of (by decide) (Nat.le_of_ble_eq_true rfl) ?_
  intro p e s m args below meth c hc hr hin hn ls hl
  have hl : lv_has ls 4 [(0, .ref a0)] := hl
  have hq : 0 + mc = mc ∧ 0 + ms = ms := ⟨Nat.zero_add _, Nat.zero_add _⟩
  have hx := hc.x
  have hb := hc.b
  refine zr_new hc hn hq (ci := 6) rfl rfl in_X7 tyX7_ok q912 q813 q115 (zd_X7) hf dX7_counted_0 (fun a101 h102 H cells slots C9 S9 hf hq hn => ?_)
  refine lv_dup hx hb dX7_counted_3 rfl ?_
  refine lv_aload_n (x := a0) hx hb dX7_counted_4 rfl (lv_at hl 0 rfl) ?_
  refine zr_gP hc hn (ci := 6) rfl rfl in_X7 0 (by decide) q868 (fun _ h => h) (fun _ _ _ => rfl) hf dX7_counted_5 (fun x103 hf => ?_)
  obtain ⟨a104, e9, hf9⟩ := znn_i hf
  subst e9
  have hf := hf9
  clear hf9
  refine zr_cI (As := [.ref a104]) (rest := [.ref a101]) hc hn hq rfl hd_X7_init (lw_meth q816) q913 q815 q115 (Nat.le_of_ble_eq_true rfl) (Nat.le_of_ble_eq_true rfl) (fun _ _ _ _ q => m_X7_init l D dA b0 gs h102 a101 a104 q) hf dX7_counted_8 hl.1 rfl rfl (zroom (Nat.le_of_ble_eq_true rfl)) (fun x105 h106 H locs cells slots C9 S9 hf hq hn => ?_)
  refine lv_astore_n (x := a101) (i := 1) (lv' := [(1, .ref a101), (0, .ref a0)]) hx hb dX7_counted_11 rfl hl (by decide) rfl (fun ls hl => ?_)
  refine lv_iconst (v := (0 : Int32)) hx hb dX7_counted_12 (by decide) ?_
  refine lv_istore_n (i := 2) (lv' := [(2, .int (0 : Int32)), (1, .ref a101), (0, .ref a0)]) hx hb dX7_counted_13 rfl hl (by decide) rfl (fun ls hl => ?_)
  refine lv_aload_n (x := a0) hx hb dX7_counted_14 rfl (lv_at hl 2 rfl) ?_
  refine zr_gP hc hn (ci := 6) rfl rfl in_X7 1 (by decide) q871 (fun _ h => h) (fun _ _ _ => rfl) hf dX7_counted_15 (fun x107 hf => ?_)
  refine lv_iconst (v := (1 : Int32)) hx hb dX7_counted_18 (by decide) ?_
  obtain ⟨a108, e9, hf9⟩ := znn_i hf
  subst e9
  have hf := hf9
  clear hf9
  refine zr_cVP (As := [.int (1 : Int32)]) (rest := []) hc hn hq (ci := 7) rfl ⟨rfl, hd_X8_next⟩ (lw_V q904 q905 q906 q116 q907) (Nat.le_of_ble_eq_true rfl) (Nat.le_of_ble_eq_true rfl) (fun _ _ _ _ q => m_X8_next l D dA b0 gs h106 a108 (1 : Int32) q) hf dX7_counted_19 hl.1 rfl rfl (zroom (Nat.le_of_ble_eq_true rfl)) (fun x109 h110 H locs cells slots C9 S9 hf hq hn => ?_)
  refine zr_astore_n (x := x109) (i := 3) (lv' := [(3, va_rf x109), (2, .int (0 : Int32)), (1, .ref a101), (0, .ref a0)]) hx hb dX7_counted_22 rfl hl (by decide) rfl (fun ls hl => ?_)
  exact m_X7_counted_b23 hc hr hin zFU h110 a101 (0 : Int32) x109 _ _ _ _ _ _ hf hq hn _ (lv_sub hl [2, 1, 0] rfl)
theorem hd_X7_inGap : yX7_inGap.cls ≠ "java/lang/invoke/MethodHandle" ∧ yX7_inGap.cls ≠ "java/lang/invoke/VarHandle" ∧ (parseMethodDescriptor yX7_inGap.desc).map (fun d => d.parameters.length) = some 2 := by decide +kernel
def f_X7_inGap_b18 : Nat → PH → Int32 → Int32 → Option Nat → Option Nat → ZR Int32
  | 0 => fun _ _ _ _ _ => none
  | n + 1 => fun h v1 v3 o4 o5 =>
    if o5 = o4 then
      (zret v3 h)
    else
      (znm (v3 + (1 : Int32)) fun x101 =>
      znn o5 fun a102 =>
      zrc h a102 7 <| zcl (f_X8_next h a102 v1) fun x103 h104 =>
      f_X7_inGap_b18 n h104 v1 x101 o4 x103)
def f_X7_inGap (h : PH) (a0 : Nat) (v1 : Int32) (a2 : Nat) : ZR Int32 :=
  znm (v1 + (1 : Int32)) fun x101 =>
  zrc h a2 7 <| zcl (f_X8_next h a2 x101) fun x102 h103 =>
  zrc h103 a2 7 <| zcl (f_X8_next h103 a2 v1) fun x104 h105 =>
  f_X7_inGap_b18 zFU h105 v1 (0 : Int32) x102 x104
set_option maxHeartbeats 4000000 in
set_option maxRecDepth 100000 in
theorem m_X7_inGap_b18 {p : Program} {l : Launch} {e : Env} {s : State} {m : MethodId} {args : Array Value} {below : List Frame} {meth : Method} {c : Code} {D : va_G} {dA : Nat → ClassId} {b0 : Nat} {gs : Nat → Option Nat} (hc : zC D dA b0 gs yX7_inGap.cls cX7_inGap 6 p c s m args meth) (hr : meth.sig.returnType = (some .int)) (hin : meth.name = yX7_inGap.name) {r : Int32} {hh : PH} {mc ms : Nat} : ∀ (n : Nat) (h : PH) (v1 : Int32) (v3 : Int32) (o4 : Option Nat) (o5 : Option Nat) (C9 S9 : Nat) (H : Heap) (locs : List Loc) (cells slots : Nat), f_X7_inGap_b18 n h v1 v3 o4 o5 = some (r, hh, C9, S9) → cells + C9 = mc ∧ slots + S9 = ms → zM D dA b0 gs s h H locs → ∀ ls : Array Slot, lv_has ls 6 [(1, .int v1), (3, .int v3), (4, va_rf o4), (5, va_rf o5)] → W p l e ({ frames := 2, cells := mc, slots := ms, locals := 81 } : Room) s m args below meth c H locs cells slots (MQ below (zQ D dA b0 gs (evI r) hh) args s mc ms (zA b0)) (F0 m 18 ls []) := by
  have hx := hc.x
  have hb := hc.b
  intro n
  induction n with
  | zero =>
    intro h v1 v3 o4 o5 C9 S9 H locs cells slots hf hq hn ls hl
    cases hf
  | succ n ih =>
    intro h v1 v3 o4 o5 C9 S9 H locs cells slots hf hq hn ls hl
    unfold f_X7_inGap_b18 at hf
    refine zr_aload (x := o5) hx hb dX7_inGap_18 (lv_at hl 3 rfl) ?_
    refine zr_aload (x := o4) hx hb dX7_inGap_20 (lv_at hl 2 rfl) ?_
    refine lv_acmp_eq (rx := o5) (ry := o4) (tgt := 39) hx hb dX7_inGap_22 (by decide) (fun c9 => ?_) (fun c9 => ?_)
    · have hf := zif_t c9 hf
      refine lv_iload_n hx hb dX7_inGap_39 rfl (lv_at hl 1 rfl) ?_
      obtain ⟨rfl, rfl, rfl, rfl⟩ := zret_i hf
      exact zr_iret hc hn hr hq (fun _ _ _ _ q => q) dX7_inGap_40
    · have hf := zif_f c9 hf
      obtain ⟨x101, ex101, hf⟩ := znm_i hf
      refine lv_iinc (v := x101) (lv' := [(3, .int x101), (1, .int v1), (4, va_rf o4), (5, va_rf o5)]) hx hb dX7_inGap_25 hl (k := 1) rfl (by rw [ex101]; rfl) (by decide) rfl (fun ls hl => ?_)
      refine zr_aload (x := o5) hx hb dX7_inGap_28 (lv_at hl 3 rfl) ?_
      refine lv_iload_n hx hb dX7_inGap_30 rfl (lv_at hl 1 rfl) ?_
      obtain ⟨a102, e9, hf9⟩ := znn_i hf
      subst e9
      have hf := hf9
      clear hf9
      refine zr_cVP (As := [.int v1]) (rest := []) hc hn hq (ci := 7) rfl ⟨rfl, hd_X8_next⟩ (lw_V q904 q905 q906 q116 q907) (Nat.le_of_ble_eq_true rfl) (Nat.le_of_ble_eq_true rfl) (fun _ _ _ _ q => m_X8_next l D dA b0 gs h a102 v1 q) hf dX7_inGap_31 hl.1 rfl rfl (zroom (Nat.le_of_ble_eq_true rfl)) (fun x103 h104 H locs cells slots C9 S9 hf hq hn => ?_)
      refine zr_astore (x := x103) (lv' := [(5, va_rf x103), (3, .int x101), (1, .int v1), (4, va_rf o4)]) hx hb dX7_inGap_34 hl (by decide) (by simp [zcat_rf, zcat_i, zcat_l, zcat_d, zcat_r, zcat_n] <;> rfl) (fun ls hl => ?_)
      refine lv_goto (tgt := 18) hx hb dX7_inGap_36 (by decide) ?_
      exact ih h104 v1 x101 o4 x103 _ _ _ _ _ _ hf hq hn _ (lv_sub hl [2, 1, 3, 0] rfl)
set_option maxHeartbeats 4000000 in
set_option maxRecDepth 100000 in
theorem m_X7_inGap (l : Launch) (D : va_G) (dA : Nat → ClassId) (b0 : Nat) (gs : Nat → Option Nat) (h : PH) (a0 : Nat) (v1 : Int32) (a2 : Nat) {r : Int32} {hh : PH} {mc ms : Nat} (hf : f_X7_inGap h a0 v1 a2 = some (r, hh, mc, ms)) : zMt l D dA b0 gs yX7_inGap cX7_inGap 6 (some .int) 2 81 [.ref a0, .int v1, .ref a2] h (evI r) hh mc ms := by
  unfold f_X7_inGap at hf
  refine zMt.of (by decide) (Nat.le_of_ble_eq_true rfl) ?_
  intro p e s m args below meth c hc hr hin hn ls hl
  have hl : lv_has ls 6 [(0, .ref a0), (1, .int v1), (2, .ref a2)] := hl
  have hq : 0 + mc = mc ∧ 0 + ms = ms := ⟨Nat.zero_add _, Nat.zero_add _⟩
  have hx := hc.x
  have hb := hc.b
  refine lv_iconst (v := (0 : Int32)) hx hb dX7_inGap_0 (by decide) ?_
  refine lv_istore_n (i := 3) (lv' := [(3, .int (0 : Int32)), (0, .ref a0), (1, .int v1), (2, .ref a2)]) hx hb dX7_inGap_1 rfl hl (by decide) rfl (fun ls hl => ?_)
  refine lv_aload_n (x := a2) hx hb dX7_inGap_2 rfl (lv_at hl 3 rfl) ?_
  refine lv_iload_n hx hb dX7_inGap_3 rfl (lv_at hl 2 rfl) ?_
  refine lv_iconst (v := (1 : Int32)) hx hb dX7_inGap_4 (by decide) ?_
  refine lv_iadd hx hb dX7_inGap_5 ?_
  refine zr_nmI hf (fun x101 hf => ?_)
  refine zr_cVP (As := [.int x101]) (rest := []) hc hn hq (ci := 7) rfl ⟨rfl, hd_X8_next⟩ (lw_V q904 q905 q906 q116 q907) (Nat.le_of_ble_eq_true rfl) (Nat.le_of_ble_eq_true rfl) (fun _ _ _ _ q => m_X8_next l D dA b0 gs h a2 x101 q) hf dX7_inGap_6 hl.1 rfl rfl (zroom (Nat.le_of_ble_eq_true rfl)) (fun x102 h103 H locs cells slots C9 S9 hf hq hn => ?_)
  refine zr_astore (x := x102) (lv' := [(4, va_rf x102), (3, .int (0 : Int32)), (0, .ref a0), (1, .int v1), (2, .ref a2)]) hx hb dX7_inGap_9 hl (by decide) rfl (fun ls hl => ?_)
  refine lv_aload_n (x := a2) hx hb dX7_inGap_11 rfl (lv_at hl 4 rfl) ?_
  refine lv_iload_n hx hb dX7_inGap_12 rfl (lv_at hl 3 rfl) ?_
  refine zr_cVP (As := [.int v1]) (rest := []) hc hn hq (ci := 7) rfl ⟨rfl, hd_X8_next⟩ (lw_V q904 q905 q906 q116 q907) (Nat.le_of_ble_eq_true rfl) (Nat.le_of_ble_eq_true rfl) (fun _ _ _ _ q => m_X8_next l D dA b0 gs h103 a2 v1 q) hf dX7_inGap_13 hl.1 rfl rfl (zroom (Nat.le_of_ble_eq_true rfl)) (fun x104 h105 H locs cells slots C9 S9 hf hq hn => ?_)
  refine zr_astore (x := x104) (lv' := [(5, va_rf x104), (4, va_rf x102), (3, .int (0 : Int32)), (0, .ref a0), (1, .int v1), (2, .ref a2)]) hx hb dX7_inGap_16 hl (by decide) (by simp [zcat_rf, zcat_i, zcat_l, zcat_d, zcat_r, zcat_n] <;> rfl) (fun ls hl => ?_)
  exact m_X7_inGap_b18 hc hr hin zFU h105 v1 (0 : Int32) x102 x104 _ _ _ _ _ _ hf hq hn _ (lv_sub hl [4, 2, 1, 0] rfl)
theorem hd_X7_tooFull : yX7_tooFull.cls ≠ "java/lang/invoke/MethodHandle" ∧ yX7_tooFull.cls ≠ "java/lang/invoke/VarHandle" ∧ (parseMethodDescriptor yX7_tooFull.desc).map (fun d => d.parameters.length) = some 1 := by decide +kernel
def f_X7_tooFull_b18 (k2 : PH → Nat → Int32 → Int32 → ZR (Option Nat)) : Nat → PH → Nat → Int32 → Int32 → Option Nat → Option Nat → ZR (Option Nat)
  | 0 => fun _ _ _ _ _ _ => none
  | n + 1 => fun h a0 v1 v2 o3 o4 =>
    znul o4
      (znm (v2 + (1 : Int32)) fun x102 =>
      k2 h a0 v1 x102)
      (fun a101 =>
        zrc h a0 6 <| zcl (f_X7_inGap h a0 v2 a101) fun x103 h104 =>
        if x103 ≤ v1 then
          (znm (v2 + (1 : Int32)) fun x105 =>
          zrc h104 a101 7 <| zcl (f_X8_next h104 a101 x105) fun x106 h107 =>
          f_X7_tooFull_b18 k2 n h107 a0 v1 v2 (some a101) x106)
        else
          (zno h104 8 5 fun a108 h109 =>
          znm (v2 + (1 : Int32)) fun x110 =>
          zrc h109 a101 7 <| zcl (f_X8_next h109 a101 x110) fun x111 h112 =>
          zcl (f_X9_init h112 a108 v2 x103 a101 x111 o3) fun _ h114 =>
          zret (some a108) h114))
def f_X7_tooFull_b2 : Nat → PH → Nat → Int32 → Int32 → ZR (Option Nat)
  | 0 => fun _ _ _ _ => none
  | n + 1 => fun h a0 v1 v2 =>
    zrc h a0 6 <| zcl (f_X7_height h a0) fun x101 h102 =>
    if x101 < v2 then
      (zret (none : Option Nat) h102)
    else
      (zgP h102 a0 6 1 fun x103 =>
      f_X7_tooFull_b18 (f_X7_tooFull_b2 n) zFU h102 a0 v1 v2 (none : Option Nat) x103)
def f_X7_tooFull (h : PH) (a0 : Nat) (v1 : Int32) : ZR (Option Nat) :=
  f_X7_tooFull_b2 zFU h a0 v1 (1 : Int32)
set_option maxHeartbeats 4000000 in
set_option maxRecDepth 100000 in
theorem m_X7_tooFull_b18 {p : Program} {l : Launch} {e : Env} {s : State} {m : MethodId} {args : Array Value} {below : List Frame} {meth : Method} {c : Code} {D : va_G} {dA : Nat → ClassId} {b0 : Nat} {gs : Nat → Option Nat} (hc : zC D dA b0 gs yX7_tooFull.cls cX7_tooFull 6 p c s m args meth) (hr : meth.sig.returnType = (some (.object "CountedSkipLists$Gap"))) (hin : meth.name = yX7_tooFull.name) {r : (Option Nat)} {hh : PH} {mc ms : Nat} (k2 : PH → Nat → Int32 → Int32 → ZR (Option Nat)) (hk2 : ∀ (h : PH) (a0 : Nat) (v1 : Int32) (v2 : Int32) (C9 S9 : Nat) (H : Heap) (locs : List Loc) (cells slots : Nat), k2 h a0 v1 v2 = some (r, hh, C9, S9) → cells + C9 = mc ∧ slots + S9 = ms → zM D dA b0 gs s h H locs → ∀ ls : Array Slot, lv_has ls 6 [(0, .ref a0), (1, .int v1), (2, .int v2)] → W p l e ({ frames := 3, cells := mc, slots := ms, locals := 106 } : Room) s m args below meth c H locs cells slots (MQ below (zQ D dA b0 gs (evP r) hh) args s mc ms (zA b0)) (F0 m 2 ls [])) : ∀ (n : Nat) (h : PH) (a0 : Nat) (v1 : Int32) (v2 : Int32) (o3 : Option Nat) (o4 : Option Nat) (C9 S9 : Nat) (H : Heap) (locs : List Loc) (cells slots : Nat), f_X7_tooFull_b18 k2 n h a0 v1 v2 o3 o4 = some (r, hh, C9, S9) → cells + C9 = mc ∧ slots + S9 = ms → zM D dA b0 gs s h H locs → ∀ ls : Array Slot, lv_has ls 6 [(0, .ref a0), (1, .int v1), (2, .int v2), (3, va_rf o3), (4, va_rf o4)] → W p l e ({ frames := 3, cells := mc, slots := ms, locals := 106 } : Room) s m args below meth c H locs cells slots (MQ below (zQ D dA b0 gs (evP r) hh) args s mc ms (zA b0)) (F0 m 18 ls []) := by
  have hx := hc.x
  have hb := hc.b
  intro n
  induction n with
  | zero =>
    intro h a0 v1 v2 o3 o4 C9 S9 H locs cells slots hf hq hn ls hl
    cases hf
  | succ n ih =>
    intro h a0 v1 v2 o3 o4 C9 S9 H locs cells slots hf hq hn ls hl
    unfold f_X7_tooFull_b18 at hf
    refine zr_aload (x := o4) hx hb dX7_tooFull_18 (lv_at hl 4 rfl) ?_
    refine zr_ifnull (tgt := 76) hx hb hf dX7_tooFull_20 (by decide) (fun e9 hf9 => ?_) (fun a101 e9 hf9 => ?_)
    · subst e9
      have hf := hf9
      clear hf9
      obtain ⟨x102, ex102, hf⟩ := znm_i hf
      refine lv_iinc (v := x102) (lv' := [(2, .int x102), (0, .ref a0), (1, .int v1), (3, va_rf o3), (4, .null)]) hx hb dX7_tooFull_76 hl (k := 2) rfl (by rw [ex102]; rfl) (by decide) rfl (fun ls hl => ?_)
      refine lv_goto (tgt := 2) hx hb dX7_tooFull_79 (by decide) ?_
      exact hk2 h a0 v1 x102 _ _ _ _ _ _ hf hq hn _ (lv_sub hl [1, 2, 0] rfl)
    · subst e9
      have hf := hf9
      clear hf9
      refine lv_aload_n (x := a0) hx hb dX7_tooFull_23 rfl (lv_at hl 0 rfl) ?_
      refine lv_iload_n hx hb dX7_tooFull_24 rfl (lv_at hl 2 rfl) ?_
      refine lv_aload (x := a101) hx hb dX7_tooFull_25 (lv_at hl 4 rfl) ?_
      refine zr_cVI (As := [.int v2, .ref a101]) (rest := []) hc hn hq (ci := 6) rfl ⟨rfl, hd_X7_inGap⟩ (lw_V q932 q933 q934 q115 q935) (Nat.le_of_ble_eq_true rfl) (Nat.le_of_ble_eq_true rfl) (fun _ _ _ _ q => m_X7_inGap l D dA b0 gs h a0 v2 a101 q) hf dX7_tooFull_27 hl.1 rfl rfl (zroom (Nat.le_of_ble_eq_true rfl)) (fun x103 h104 H locs cells slots C9 S9 hf hq hn => ?_)
      refine lv_istore (lv' := [(5, .int x103), (0, .ref a0), (1, .int v1), (2, .int v2), (3, va_rf o3), (4, .ref a101)]) hx hb dX7_tooFull_30 hl (by decide) rfl (fun ls hl => ?_)
      refine lv_iload hx hb dX7_tooFull_32 (lv_at hl 0 rfl) ?_
      refine lv_iload_n hx hb dX7_tooFull_34 rfl (lv_at hl 2 rfl) ?_
      refine lv_icmp_le (tgt := 60) hx hb dX7_tooFull_35 (by decide) (fun c9 => ?_) (fun c9 => ?_)
      · have hf := zif_t c9 hf
        refine lv_aload (x := a101) hx hb dX7_tooFull_60 (lv_at hl 5 rfl) ?_
        refine lv_astore_n (x := a101) (i := 3) (lv' := [(3, .ref a101), (5, .int x103), (0, .ref a0), (1, .int v1), (2, .int v2), (4, .ref a101)]) hx hb dX7_tooFull_62 rfl hl (by decide) rfl (fun ls hl => ?_)
        refine lv_aload (x := a101) hx hb dX7_tooFull_63 (lv_at hl 5 rfl) ?_
        refine lv_iload_n hx hb dX7_tooFull_65 rfl (lv_at hl 4 rfl) ?_
        refine lv_iconst (v := (1 : Int32)) hx hb dX7_tooFull_66 (by decide) ?_
        refine lv_iadd hx hb dX7_tooFull_67 ?_
        refine zr_nmI hf (fun x105 hf => ?_)
        refine zr_cVP (As := [.int x105]) (rest := []) hc hn hq (ci := 7) rfl ⟨rfl, hd_X8_next⟩ (lw_V q904 q905 q906 q116 q907) (Nat.le_of_ble_eq_true rfl) (Nat.le_of_ble_eq_true rfl) (fun _ _ _ _ q => m_X8_next l D dA b0 gs h104 a101 x105 q) hf dX7_tooFull_68 hl.1 rfl rfl (zroom (Nat.le_of_ble_eq_true rfl)) (fun x106 h107 H locs cells slots C9 S9 hf hq hn => ?_)
        refine zr_astore (x := x106) (lv' := [(4, va_rf x106), (3, .ref a101), (5, .int x103), (0, .ref a0), (1, .int v1), (2, .int v2)]) hx hb dX7_tooFull_71 hl (by decide) rfl (fun ls hl => ?_)
        refine lv_goto (tgt := 18) hx hb dX7_tooFull_73 (by decide) ?_
        exact ih h107 a0 v1 v2 (some a101) x106 _ _ _ _ _ _ hf hq hn _ (lv_sub hl [3, 4, 5, 1, 0] rfl)
      · have hf := zif_f c9 hf
        refine zr_new hc hn hq (ci := 8) rfl rfl in_X9 tyX9_ok q936 q937 q117 (zd_X9) hf dX7_tooFull_38 (fun a108 h109 H cells slots C9 S9 hf hq hn => ?_)
        refine lv_dup hx hb dX7_tooFull_41 rfl ?_
        refine lv_iload_n hx hb dX7_tooFull_42 rfl (lv_at hl 3 rfl) ?_
        refine lv_iload hx hb dX7_tooFull_43 (lv_at hl 0 rfl) ?_
        refine lv_aload (x := a101) hx hb dX7_tooFull_45 (lv_at hl 5 rfl) ?_
        refine lv_aload (x := a101) hx hb dX7_tooFull_47 (lv_at hl 5 rfl) ?_
        refine lv_iload_n hx hb dX7_tooFull_49 rfl (lv_at hl 3 rfl) ?_
        refine lv_iconst (v := (1 : Int32)) hx hb dX7_tooFull_50 (by decide) ?_
        refine lv_iadd hx hb dX7_tooFull_51 ?_
        refine zr_nmI hf (fun x110 hf => ?_)
        refine zr_cVP (As := [.int x110]) (rest := [.ref a101, .int x103, .int v2, .ref a108, .ref a108]) hc hn hq (ci := 7) rfl ⟨rfl, hd_X8_next⟩ (lw_V q904 q905 q906 q116 q907) (Nat.le_of_ble_eq_true rfl) (Nat.le_of_ble_eq_true rfl) (fun _ _ _ _ q => m_X8_next l D dA b0 gs h109 a101 x110 q) hf dX7_tooFull_52 hl.1 rfl rfl (by simp [zcat_rf, zcat_i, zcat_l, zcat_d, zcat_r, zcat_n]) (fun x111 h112 H locs cells slots C9 S9 hf hq hn => ?_)
        refine zr_aload_n (x := o3) hx hb dX7_tooFull_55 rfl (lv_at hl 4 rfl) ?_
        refine zr_cI (As := [.int v2, .int x103, .ref a101, va_rf x111, va_rf o3]) (rest := [.ref a108]) hc hn hq rfl hd_X9_init (lw_meth q940) q938 q939 q117 (Nat.le_of_ble_eq_true rfl) (Nat.le_of_ble_eq_true rfl) (fun _ _ _ _ q => m_X9_init l D dA b0 gs h112 a108 v2 x103 a101 x111 o3 q) hf dX7_tooFull_56 hl.1 rfl rfl (zroom (Nat.le_of_ble_eq_true rfl)) (fun x113 h114 H locs cells slots C9 S9 hf hq hn => ?_)
        obtain ⟨rfl, rfl, rfl, rfl⟩ := zret_i hf
        exact zr_aret (x := (some a108)) hc hn hr (Or.inl ⟨_, rfl⟩) hq (fun _ _ _ _ q => q) dX7_tooFull_59
set_option maxHeartbeats 4000000 in
set_option maxRecDepth 100000 in
theorem m_X7_tooFull_b2 {p : Program} {l : Launch} {e : Env} {s : State} {m : MethodId} {args : Array Value} {below : List Frame} {meth : Method} {c : Code} {D : va_G} {dA : Nat → ClassId} {b0 : Nat} {gs : Nat → Option Nat} (hc : zC D dA b0 gs yX7_tooFull.cls cX7_tooFull 6 p c s m args meth) (hr : meth.sig.returnType = (some (.object "CountedSkipLists$Gap"))) (hin : meth.name = yX7_tooFull.name) {r : (Option Nat)} {hh : PH} {mc ms : Nat} : ∀ (n : Nat) (h : PH) (a0 : Nat) (v1 : Int32) (v2 : Int32) (C9 S9 : Nat) (H : Heap) (locs : List Loc) (cells slots : Nat), f_X7_tooFull_b2 n h a0 v1 v2 = some (r, hh, C9, S9) → cells + C9 = mc ∧ slots + S9 = ms → zM D dA b0 gs s h H locs → ∀ ls : Array Slot, lv_has ls 6 [(0, .ref a0), (1, .int v1), (2, .int v2)] → W p l e ({ frames := 3, cells := mc, slots := ms, locals := 106 } : Room) s m args below meth c H locs cells slots (MQ below (zQ D dA b0 gs (evP r) hh) args s mc ms (zA b0)) (F0 m 2 ls []) := by
  have hx := hc.x
  have hb := hc.b
  intro n
  induction n with
  | zero =>
    intro h a0 v1 v2 C9 S9 H locs cells slots hf hq hn ls hl
    cases hf
  | succ n ih =>
    intro h a0 v1 v2 C9 S9 H locs cells slots hf hq hn ls hl
    unfold f_X7_tooFull_b2 at hf
    refine lv_iload_n hx hb dX7_tooFull_2 rfl (lv_at hl 2 rfl) ?_
    refine lv_aload_n (x := a0) hx hb dX7_tooFull_3 rfl (lv_at hl 0 rfl) ?_
    refine zr_cVI (As := []) (rest := [.int v2]) hc hn hq (ci := 6) rfl ⟨rfl, hd_X7_height⟩ (lw_V q928 q929 q930 q115 q931) (Nat.le_of_ble_eq_true rfl) (Nat.le_of_ble_eq_true rfl) (fun _ _ _ _ q => m_X7_height l D dA b0 gs h a0 q) hf dX7_tooFull_4 hl.1 rfl rfl (zroom (Nat.le_of_ble_eq_true rfl)) (fun x101 h102 H locs cells slots C9 S9 hf hq hn => ?_)
    refine lv_icmp_gt (tgt := 82) hx hb dX7_tooFull_7 (by decide) (fun c9 => ?_) (fun c9 => ?_)
    · have hf := zif_t c9 hf
      refine lv_null hx hb dX7_tooFull_82 ?_
      obtain ⟨rfl, rfl, rfl, rfl⟩ := zret_i hf
      exact zr_aret (x := (none : Option Nat)) hc hn hr (Or.inl ⟨_, rfl⟩) hq (fun _ _ _ _ q => q) dX7_tooFull_83
    · have hf := zif_f c9 hf
      refine lv_null hx hb dX7_tooFull_10 ?_
      refine lv_astore_nN (i := 3) (lv' := [(3, .null), (0, .ref a0), (1, .int v1), (2, .int v2)]) hx hb dX7_tooFull_11 rfl hl (by decide) rfl (fun ls hl => ?_)
      refine lv_aload_n (x := a0) hx hb dX7_tooFull_12 rfl (lv_at hl 1 rfl) ?_
      refine zr_gP hc hn (ci := 6) rfl rfl in_X7 1 (by decide) q871 (fun _ h => h) (fun _ _ _ => rfl) hf dX7_tooFull_13 (fun x103 hf => ?_)
      refine zr_astore (x := x103) (lv' := [(4, va_rf x103), (3, .null), (0, .ref a0), (1, .int v1), (2, .int v2)]) hx hb dX7_tooFull_16 hl (by decide) rfl (fun ls hl => ?_)
      exact m_X7_tooFull_b18 hc hr hin (f_X7_tooFull_b2 n) ih zFU h102 a0 v1 v2 (none : Option Nat) x103 _ _ _ _ _ _ hf hq hn _ (lv_sub hl [2, 3, 4, 1, 0] rfl)
set_option maxHeartbeats 4000000 in
set_option maxRecDepth 100000 in
theorem m_X7_tooFull (l : Launch) (D : va_G) (dA : Nat → ClassId) (b0 : Nat) (gs : Nat → Option Nat) (h : PH) (a0 : Nat) (v1 : Int32) {r : (Option Nat)} {hh : PH} {mc ms : Nat} (hf : f_X7_tooFull h a0 v1 = some (r, hh, mc, ms)) : zMt l D dA b0 gs yX7_tooFull cX7_tooFull 6 (some (.object "CountedSkipLists$Gap")) 3 106 [.ref a0, .int v1] h (evP r) hh mc ms := by
  unfold f_X7_tooFull at hf
  refine zMt.of (by decide) (Nat.le_of_ble_eq_true rfl) ?_
  intro p e s m args below meth c hc hr hin hn ls hl
  have hl : lv_has ls 6 [(0, .ref a0), (1, .int v1)] := hl
  have hq : 0 + mc = mc ∧ 0 + ms = ms := ⟨Nat.zero_add _, Nat.zero_add _⟩
  have hx := hc.x
  have hb := hc.b
  refine lv_iconst (v := (1 : Int32)) hx hb dX7_tooFull_0 (by decide) ?_
  refine lv_istore_n (i := 2) (lv' := [(2, .int (1 : Int32)), (0, .ref a0), (1, .int v1)]) hx hb dX7_tooFull_1 rfl hl (by decide) rfl (fun ls hl => ?_)
  exact m_X7_tooFull_b2 hc hr hin zFU h a0 v1 (1 : Int32) _ _ _ _ _ _ hf hq hn _ (lv_sub hl [1, 2, 0] rfl)
theorem hd_X7_empty : yX7_empty.cls ≠ "java/lang/invoke/MethodHandle" ∧ yX7_empty.cls ≠ "java/lang/invoke/VarHandle" ∧ (parseMethodDescriptor yX7_empty.desc).map (fun d => d.parameters.length) = some 0 := by decide +kernel
def f_X7_empty_b18 (k7 : PH → Nat → Int32 → ZR (Option Nat)) : Nat → PH → Nat → Int32 → Option Nat → Option Nat → ZR (Option Nat)
  | 0 => fun _ _ _ _ _ => none
  | n + 1 => fun h a0 v1 o2 o3 =>
    znul o3
      (znm (v1 + (-1 : Int32)) fun x102 =>
      k7 h a0 x102)
      (fun a101 =>
        zrc h a101 7 <| zcl (f_X8_next h a101 v1) fun x103 h104 =>
        znm (v1 + (1 : Int32)) fun x105 =>
        zrc h104 a101 7 <| zcl (f_X8_next h104 a101 x105) fun x106 h107 =>
        if x103 = x106 then
          (zno h107 8 5 fun a111 h112 =>
          znm (v1 + (1 : Int32)) fun x113 =>
          zrc h112 a101 7 <| zcl (f_X8_next h112 a101 x113) fun x114 h115 =>
          zcl (f_X9_init h115 a111 v1 (0 : Int32) a101 x114 o2) fun _ h117 =>
          zret (some a111) h117)
        else
          (znm (v1 + (1 : Int32)) fun x108 =>
          zrc h107 a101 7 <| zcl (f_X8_next h107 a101 x108) fun x109 h110 =>
          f_X7_empty_b18 k7 n h110 a0 v1 (some a101) x109))
def f_X7_empty_b7 : Nat → PH → Nat → Int32 → ZR (Option Nat)
  | 0 => fun _ _ _ => none
  | n + 1 => fun h a0 v1 =>
    if v1 ≤ 0 then
      (zret (none : Option Nat) h)
    else
      (zgP h a0 6 1 fun x101 =>
      f_X7_empty_b18 (f_X7_empty_b7 n) zFU h a0 v1 (none : Option Nat) x101)
def f_X7_empty (h : PH) (a0 : Nat) : ZR (Option Nat) :=
  zrc h a0 6 <| zcl (f_X7_height h a0) fun x101 h102 =>
  znm (x101 - (1 : Int32)) fun x103 =>
  f_X7_empty_b7 zFU h102 a0 x103
set_option maxHeartbeats 4000000 in
set_option maxRecDepth 100000 in
theorem m_X7_empty_b18 {p : Program} {l : Launch} {e : Env} {s : State} {m : MethodId} {args : Array Value} {below : List Frame} {meth : Method} {c : Code} {D : va_G} {dA : Nat → ClassId} {b0 : Nat} {gs : Nat → Option Nat} (hc : zC D dA b0 gs yX7_empty.cls cX7_empty 4 p c s m args meth) (hr : meth.sig.returnType = (some (.object "CountedSkipLists$Gap"))) (hin : meth.name = yX7_empty.name) {r : (Option Nat)} {hh : PH} {mc ms : Nat} (k7 : PH → Nat → Int32 → ZR (Option Nat)) (hk7 : ∀ (h : PH) (a0 : Nat) (v1 : Int32) (C9 S9 : Nat) (H : Heap) (locs : List Loc) (cells slots : Nat), k7 h a0 v1 = some (r, hh, C9, S9) → cells + C9 = mc ∧ slots + S9 = ms → zM D dA b0 gs s h H locs → ∀ ls : Array Slot, lv_has ls 4 [(0, .ref a0), (1, .int v1)] → W p l e ({ frames := 3, cells := mc, slots := ms, locals := 102 } : Room) s m args below meth c H locs cells slots (MQ below (zQ D dA b0 gs (evP r) hh) args s mc ms (zA b0)) (F0 m 7 ls [])) : ∀ (n : Nat) (h : PH) (a0 : Nat) (v1 : Int32) (o2 : Option Nat) (o3 : Option Nat) (C9 S9 : Nat) (H : Heap) (locs : List Loc) (cells slots : Nat), f_X7_empty_b18 k7 n h a0 v1 o2 o3 = some (r, hh, C9, S9) → cells + C9 = mc ∧ slots + S9 = ms → zM D dA b0 gs s h H locs → ∀ ls : Array Slot, lv_has ls 4 [(0, .ref a0), (1, .int v1), (2, va_rf o2), (3, va_rf o3)] → W p l e ({ frames := 3, cells := mc, slots := ms, locals := 102 } : Room) s m args below meth c H locs cells slots (MQ below (zQ D dA b0 gs (evP r) hh) args s mc ms (zA b0)) (F0 m 18 ls []) := by
  have hx := hc.x
  have hb := hc.b
  intro n
  induction n with
  | zero =>
    intro h a0 v1 o2 o3 C9 S9 H locs cells slots hf hq hn ls hl
    cases hf
  | succ n ih =>
    intro h a0 v1 o2 o3 C9 S9 H locs cells slots hf hq hn ls hl
    unfold f_X7_empty_b18 at hf
    refine zr_aload_n (x := o3) hx hb dX7_empty_18 rfl (lv_at hl 3 rfl) ?_
    refine zr_ifnull (tgt := 69) hx hb hf dX7_empty_19 (by decide) (fun e9 hf9 => ?_) (fun a101 e9 hf9 => ?_)
    · subst e9
      have hf := hf9
      clear hf9
      obtain ⟨x102, ex102, hf⟩ := znm_i hf
      refine lv_iinc (v := x102) (lv' := [(1, .int x102), (0, .ref a0), (2, va_rf o2), (3, .null)]) hx hb dX7_empty_69 hl (k := 1) rfl (by rw [ex102]; rfl) (by decide) rfl (fun ls hl => ?_)
      refine lv_goto (tgt := 7) hx hb dX7_empty_72 (by decide) ?_
      exact hk7 h a0 x102 _ _ _ _ _ _ hf hq hn _ (lv_sub hl [1, 0] rfl)
    · subst e9
      have hf := hf9
      clear hf9
      refine lv_aload_n (x := a101) hx hb dX7_empty_22 rfl (lv_at hl 3 rfl) ?_
      refine lv_iload_n hx hb dX7_empty_23 rfl (lv_at hl 1 rfl) ?_
      refine zr_cVP (As := [.int v1]) (rest := []) hc hn hq (ci := 7) rfl ⟨rfl, hd_X8_next⟩ (lw_V q904 q905 q906 q116 q907) (Nat.le_of_ble_eq_true rfl) (Nat.le_of_ble_eq_true rfl) (fun _ _ _ _ q => m_X8_next l D dA b0 gs h a101 v1 q) hf dX7_empty_24 hl.1 rfl rfl (zroom (Nat.le_of_ble_eq_true rfl)) (fun x103 h104 H locs cells slots C9 S9 hf hq hn => ?_)
      refine lv_aload_n (x := a101) hx hb dX7_empty_27 rfl (lv_at hl 3 rfl) ?_
      refine lv_iload_n hx hb dX7_empty_28 rfl (lv_at hl 1 rfl) ?_
      refine lv_iconst (v := (1 : Int32)) hx hb dX7_empty_29 (by decide) ?_
      refine lv_iadd hx hb dX7_empty_30 ?_
      refine zr_nmI hf (fun x105 hf => ?_)
      refine zr_cVP (As := [.int x105]) (rest := [va_rf x103]) hc hn hq (ci := 7) rfl ⟨rfl, hd_X8_next⟩ (lw_V q904 q905 q906 q116 q907) (Nat.le_of_ble_eq_true rfl) (Nat.le_of_ble_eq_true rfl) (fun _ _ _ _ q => m_X8_next l D dA b0 gs h104 a101 x105 q) hf dX7_empty_31 hl.1 rfl rfl (zroom (Nat.le_of_ble_eq_true rfl)) (fun x106 h107 H locs cells slots C9 S9 hf hq hn => ?_)
      refine lv_acmp_ne (rx := x103) (ry := x106) (tgt := 56) hx hb dX7_empty_34 (by decide) (fun c9 => ?_) (fun c9 => ?_)
      · have hf := zif_f c9 hf
        refine lv_aload_n (x := a101) hx hb dX7_empty_56 rfl (lv_at hl 3 rfl) ?_
        refine lv_astore_n (x := a101) (i := 2) (lv' := [(2, .ref a101), (0, .ref a0), (1, .int v1), (3, .ref a101)]) hx hb dX7_empty_57 rfl hl (by decide) rfl (fun ls hl => ?_)
        refine lv_aload_n (x := a101) hx hb dX7_empty_58 rfl (lv_at hl 3 rfl) ?_
        refine lv_iload_n hx hb dX7_empty_59 rfl (lv_at hl 2 rfl) ?_
        refine lv_iconst (v := (1 : Int32)) hx hb dX7_empty_60 (by decide) ?_
        refine lv_iadd hx hb dX7_empty_61 ?_
        refine zr_nmI hf (fun x108 hf => ?_)
        refine zr_cVP (As := [.int x108]) (rest := []) hc hn hq (ci := 7) rfl ⟨rfl, hd_X8_next⟩ (lw_V q904 q905 q906 q116 q907) (Nat.le_of_ble_eq_true rfl) (Nat.le_of_ble_eq_true rfl) (fun _ _ _ _ q => m_X8_next l D dA b0 gs h107 a101 x108 q) hf dX7_empty_62 hl.1 rfl rfl (zroom (Nat.le_of_ble_eq_true rfl)) (fun x109 h110 H locs cells slots C9 S9 hf hq hn => ?_)
        refine zr_astore_n (x := x109) (i := 3) (lv' := [(3, va_rf x109), (2, .ref a101), (0, .ref a0), (1, .int v1)]) hx hb dX7_empty_65 rfl hl (by decide) rfl (fun ls hl => ?_)
        refine lv_goto (tgt := 18) hx hb dX7_empty_66 (by decide) ?_
        exact ih h110 a0 v1 (some a101) x109 _ _ _ _ _ _ hf hq hn _ (lv_sub hl [2, 3, 1, 0] rfl)
      · have hf := zif_t c9 hf
        refine zr_new hc hn hq (ci := 8) rfl rfl in_X9 tyX9_ok q936 q937 q117 (zd_X9) hf dX7_empty_37 (fun a111 h112 H cells slots C9 S9 hf hq hn => ?_)
        refine lv_dup hx hb dX7_empty_40 rfl ?_
        refine lv_iload_n hx hb dX7_empty_41 rfl (lv_at hl 1 rfl) ?_
        refine lv_iconst (v := (0 : Int32)) hx hb dX7_empty_42 (by decide) ?_
        refine lv_aload_n (x := a101) hx hb dX7_empty_43 rfl (lv_at hl 3 rfl) ?_
        refine lv_aload_n (x := a101) hx hb dX7_empty_44 rfl (lv_at hl 3 rfl) ?_
        refine lv_iload_n hx hb dX7_empty_45 rfl (lv_at hl 1 rfl) ?_
        refine lv_iconst (v := (1 : Int32)) hx hb dX7_empty_46 (by decide) ?_
        refine lv_iadd hx hb dX7_empty_47 ?_
        refine zr_nmI hf (fun x113 hf => ?_)
        refine zr_cVP (As := [.int x113]) (rest := [.ref a101, .int (0 : Int32), .int v1, .ref a111, .ref a111]) hc hn hq (ci := 7) rfl ⟨rfl, hd_X8_next⟩ (lw_V q904 q905 q906 q116 q907) (Nat.le_of_ble_eq_true rfl) (Nat.le_of_ble_eq_true rfl) (fun _ _ _ _ q => m_X8_next l D dA b0 gs h112 a101 x113 q) hf dX7_empty_48 hl.1 rfl rfl (by simp [zcat_rf, zcat_i, zcat_l, zcat_d, zcat_r, zcat_n]) (fun x114 h115 H locs cells slots C9 S9 hf hq hn => ?_)
        refine zr_aload_n (x := o2) hx hb dX7_empty_51 rfl (lv_at hl 2 rfl) ?_
        refine zr_cI (As := [.int v1, .int (0 : Int32), .ref a101, va_rf x114, va_rf o2]) (rest := [.ref a111]) hc hn hq rfl hd_X9_init (lw_meth q940) q938 q939 q117 (Nat.le_of_ble_eq_true rfl) (Nat.le_of_ble_eq_true rfl) (fun _ _ _ _ q => m_X9_init l D dA b0 gs h115 a111 v1 (0 : Int32) a101 x114 o2 q) hf dX7_empty_52 hl.1 rfl rfl (zroom (Nat.le_of_ble_eq_true rfl)) (fun x116 h117 H locs cells slots C9 S9 hf hq hn => ?_)
        obtain ⟨rfl, rfl, rfl, rfl⟩ := zret_i hf
        exact zr_aret (x := (some a111)) hc hn hr (Or.inl ⟨_, rfl⟩) hq (fun _ _ _ _ q => q) dX7_empty_55
set_option maxHeartbeats 4000000 in
set_option maxRecDepth 100000 in
theorem m_X7_empty_b7 {p : Program} {l : Launch} {e : Env} {s : State} {m : MethodId} {args : Array Value} {below : List Frame} {meth : Method} {c : Code} {D : va_G} {dA : Nat → ClassId} {b0 : Nat} {gs : Nat → Option Nat} (hc : zC D dA b0 gs yX7_empty.cls cX7_empty 4 p c s m args meth) (hr : meth.sig.returnType = (some (.object "CountedSkipLists$Gap"))) (hin : meth.name = yX7_empty.name) {r : (Option Nat)} {hh : PH} {mc ms : Nat} : ∀ (n : Nat) (h : PH) (a0 : Nat) (v1 : Int32) (C9 S9 : Nat) (H : Heap) (locs : List Loc) (cells slots : Nat), f_X7_empty_b7 n h a0 v1 = some (r, hh, C9, S9) → cells + C9 = mc ∧ slots + S9 = ms → zM D dA b0 gs s h H locs → ∀ ls : Array Slot, lv_has ls 4 [(0, .ref a0), (1, .int v1)] → W p l e ({ frames := 3, cells := mc, slots := ms, locals := 102 } : Room) s m args below meth c H locs cells slots (MQ below (zQ D dA b0 gs (evP r) hh) args s mc ms (zA b0)) (F0 m 7 ls []) := by
  have hx := hc.x
  have hb := hc.b
  intro n
  induction n with
  | zero =>
    intro h a0 v1 C9 S9 H locs cells slots hf hq hn ls hl
    cases hf
  | succ n ih =>
    intro h a0 v1 C9 S9 H locs cells slots hf hq hn ls hl
    unfold f_X7_empty_b7 at hf
    refine lv_iload_n hx hb dX7_empty_7 rfl (lv_at hl 1 rfl) ?_
    refine lv_if_le (tgt := 75) hx hb dX7_empty_8 (by decide) (fun c9 => ?_) (fun c9 => ?_)
    · have hf := zif_t c9 hf
      refine lv_null hx hb dX7_empty_75 ?_
      obtain ⟨rfl, rfl, rfl, rfl⟩ := zret_i hf
      exact zr_aret (x := (none : Option Nat)) hc hn hr (Or.inl ⟨_, rfl⟩) hq (fun _ _ _ _ q => q) dX7_empty_76
    · have hf := zif_f c9 hf
      refine lv_null hx hb dX7_empty_11 ?_
      refine lv_astore_nN (i := 2) (lv' := [(2, .null), (0, .ref a0), (1, .int v1)]) hx hb dX7_empty_12 rfl hl (by decide) rfl (fun ls hl => ?_)
      refine lv_aload_n (x := a0) hx hb dX7_empty_13 rfl (lv_at hl 1 rfl) ?_
      refine zr_gP hc hn (ci := 6) rfl rfl in_X7 1 (by decide) q871 (fun _ h => h) (fun _ _ _ => rfl) hf dX7_empty_14 (fun x101 hf => ?_)
      refine zr_astore_n (x := x101) (i := 3) (lv' := [(3, va_rf x101), (2, .null), (0, .ref a0), (1, .int v1)]) hx hb dX7_empty_17 rfl hl (by decide) rfl (fun ls hl => ?_)
      exact m_X7_empty_b18 hc hr hin (f_X7_empty_b7 n) ih zFU h a0 v1 (none : Option Nat) x101 _ _ _ _ _ _ hf hq hn _ (lv_sub hl [2, 3, 1, 0] rfl)
set_option maxHeartbeats 4000000 in
set_option maxRecDepth 100000 in
theorem m_X7_empty (l : Launch) (D : va_G) (dA : Nat → ClassId) (b0 : Nat) (gs : Nat → Option Nat) (h : PH) (a0 : Nat) {r : (Option Nat)} {hh : PH} {mc ms : Nat} (hf : f_X7_empty h a0 = some (r, hh, mc, ms)) : zMt l D dA b0 gs yX7_empty cX7_empty 4 (some (.object "CountedSkipLists$Gap")) 3 102 [.ref a0] h (evP r) hh mc ms := by
  unfold f_X7_empty at hf
  refine zMt.of (by decide) (Nat.le_of_ble_eq_true rfl) ?_
  intro p e s m args below meth c hc hr hin hn ls hl
  have hl : lv_has ls 4 [(0, .ref a0)] := hl
  have hq : 0 + mc = mc ∧ 0 + ms = ms := ⟨Nat.zero_add _, Nat.zero_add _⟩
  have hx := hc.x
  have hb := hc.b
  refine lv_aload_n (x := a0) hx hb dX7_empty_0 rfl (lv_at hl 0 rfl) ?_
  refine zr_cVI (As := []) (rest := []) hc hn hq (ci := 6) rfl ⟨rfl, hd_X7_height⟩ (lw_V q928 q929 q930 q115 q931) (Nat.le_of_ble_eq_true rfl) (Nat.le_of_ble_eq_true rfl) (fun _ _ _ _ q => m_X7_height l D dA b0 gs h a0 q) hf dX7_empty_1 hl.1 rfl rfl (zroom (Nat.le_of_ble_eq_true rfl)) (fun x101 h102 H locs cells slots C9 S9 hf hq hn => ?_)
  refine lv_iconst (v := (1 : Int32)) hx hb dX7_empty_4 (by decide) ?_
  refine lv_isub hx hb dX7_empty_5 ?_
  refine zr_nmI hf (fun x103 hf => ?_)
  refine lv_istore_n (i := 1) (lv' := [(1, .int x103), (0, .ref a0)]) hx hb dX7_empty_6 rfl hl (by decide) rfl (fun ls hl => ?_)
  exact m_X7_empty_b7 hc hr hin zFU h102 a0 x103 _ _ _ _ _ _ hf hq hn _ (lv_sub hl [1, 0] rfl)
theorem hd_X7_select : yX7_select.cls ≠ "java/lang/invoke/MethodHandle" ∧ yX7_select.cls ≠ "java/lang/invoke/VarHandle" ∧ (parseMethodDescriptor yX7_select.desc).map (fun d => d.parameters.length) = some 2 := by decide +kernel
def f_X7_select_b71 (k14 : PH → Int32 → Nat → Option Nat → Int32 → Int32 → ZR (Option Nat)) (h : PH) (v1 : Int32) (a2 : Nat) (a3 : Nat) (v4 : Int32) (v5 : Int32) : ZR (Option Nat) :=
  znm (v5 + (-1 : Int32)) fun x101 =>
  k14 h v1 a2 (some a3) v4 x101
def f_X7_select_b19 (k14 : PH → Int32 → Nat → Option Nat → Int32 → Int32 → ZR (Option Nat)) : Nat → PH → Int32 → Nat → Option Nat → Int32 → Int32 → ZR (Option Nat)
  | 0 => fun _ _ _ _ _ _ => none
  | n + 1 => fun h v1 a2 o3 v4 v5 =>
    znn o3 fun a101 =>
    zrc h a101 7 <| zcl (f_X8_next h a101 v5) fun x102 h103 =>
    znul x102
      (f_X7_select_b71 k14 h103 v1 a2 a101 v4 v5)
      (fun a104 =>
        zgP h103 a101 7 2 fun x105 =>
        znn x105 fun a106 =>
        zaI h103 a106 0 v5 fun x107 =>
        znm (v4 + x107) fun x108 =>
        if v1 < x108 then
          (f_X7_select_b71 k14 h103 v1 a2 a101 v4 v5)
        else
          (zgP h103 a101 7 2 fun x109 =>
          znn x109 fun a110 =>
          zaI h103 a110 0 v5 fun x111 =>
          znm (v4 + x111) fun x112 =>
          zrc h103 a101 7 <| zcl (f_X8_next h103 a101 v5) fun x113 h114 =>
          zaI h114 a2 0 (0 : Int32) fun x115 =>
          znm (x115 + (1 : Int32)) fun x116 =>
          zsI h114 a2 0 (0 : Int32) x116 fun h117 =>
          f_X7_select_b19 k14 n h117 v1 a2 x113 x112 v5))
def f_X7_select_b14 : Nat → PH → Int32 → Nat → Option Nat → Int32 → Int32 → ZR (Option Nat)
  | 0 => fun _ _ _ _ _ _ => none
  | n + 1 => fun h v1 a2 o3 v4 v5 =>
    if v5 ≤ 0 then
      (zret o3 h)
    else
      (f_X7_select_b19 (f_X7_select_b14 n) zFU h v1 a2 o3 v4 v5)
def f_X7_select (h : PH) (a0 : Nat) (v1 : Int32) (a2 : Nat) : ZR (Option Nat) :=
  zgP h a0 6 1 fun x101 =>
  zrc h a0 6 <| zcl (f_X7_height h a0) fun x102 h103 =>
  f_X7_select_b14 zFU h103 v1 a2 x101 (-1 : Int32) x102
set_option maxHeartbeats 4000000 in
set_option maxRecDepth 100000 in
theorem m_X7_select_b71 {p : Program} {l : Launch} {e : Env} {s : State} {m : MethodId} {args : Array Value} {below : List Frame} {meth : Method} {c : Code} {D : va_G} {dA : Nat → ClassId} {b0 : Nat} {gs : Nat → Option Nat} (hc : zC D dA b0 gs yX7_select.cls cX7_select 6 p c s m args meth) (hr : meth.sig.returnType = (some (.object "CountedSkipLists$Node"))) (hin : meth.name = yX7_select.name) {r : (Option Nat)} {hh : PH} {mc ms : Nat} (k14 : PH → Int32 → Nat → Option Nat → Int32 → Int32 → ZR (Option Nat)) (hk14 : ∀ (h : PH) (v1 : Int32) (a2 : Nat) (o3 : Option Nat) (v4 : Int32) (v5 : Int32) (C9 S9 : Nat) (H : Heap) (locs : List Loc) (cells slots : Nat), k14 h v1 a2 o3 v4 v5 = some (r, hh, C9, S9) → cells + C9 = mc ∧ slots + S9 = ms → zM D dA b0 gs s h H locs → ∀ ls : Array Slot, lv_has ls 6 [(1, .int v1), (2, .ref a2), (3, va_rf o3), (4, .int v4), (5, .int v5)] → W p l e ({ frames := 3, cells := mc, slots := ms, locals := 102 } : Room) s m args below meth c H locs cells slots (MQ below (zQ D dA b0 gs (evP r) hh) args s mc ms (zA b0)) (F0 m 14 ls [])) : ∀ (h : PH) (v1 : Int32) (a2 : Nat) (a3 : Nat) (v4 : Int32) (v5 : Int32) (C9 S9 : Nat) (H : Heap) (locs : List Loc) (cells slots : Nat), f_X7_select_b71 k14 h v1 a2 a3 v4 v5 = some (r, hh, C9, S9) → cells + C9 = mc ∧ slots + S9 = ms → zM D dA b0 gs s h H locs → ∀ ls : Array Slot, lv_has ls 6 [(1, .int v1), (2, .ref a2), (3, .ref a3), (4, .int v4), (5, .int v5)] → W p l e ({ frames := 3, cells := mc, slots := ms, locals := 102 } : Room) s m args below meth c H locs cells slots (MQ below (zQ D dA b0 gs (evP r) hh) args s mc ms (zA b0)) (F0 m 71 ls []) := by
  have hx := hc.x
  have hb := hc.b
  intro h v1 a2 a3 v4 v5 C9 S9 H locs cells slots hf hq hn ls hl
  unfold f_X7_select_b71 at hf
  obtain ⟨x101, ex101, hf⟩ := znm_i hf
  refine lv_iinc (v := x101) (lv' := [(5, .int x101), (1, .int v1), (2, .ref a2), (3, .ref a3), (4, .int v4)]) hx hb dX7_select_71 hl (k := 4) rfl (by rw [ex101]; rfl) (by decide) rfl (fun ls hl => ?_)
  refine lv_goto (tgt := 14) hx hb dX7_select_74 (by decide) ?_
  exact hk14 h v1 a2 (some a3) v4 x101 _ _ _ _ _ _ hf hq hn _ (lv_sub hl [1, 2, 3, 4, 0] rfl)
set_option maxHeartbeats 4000000 in
set_option maxRecDepth 100000 in
theorem m_X7_select_b19 {p : Program} {l : Launch} {e : Env} {s : State} {m : MethodId} {args : Array Value} {below : List Frame} {meth : Method} {c : Code} {D : va_G} {dA : Nat → ClassId} {b0 : Nat} {gs : Nat → Option Nat} (hc : zC D dA b0 gs yX7_select.cls cX7_select 6 p c s m args meth) (hr : meth.sig.returnType = (some (.object "CountedSkipLists$Node"))) (hin : meth.name = yX7_select.name) {r : (Option Nat)} {hh : PH} {mc ms : Nat} (k14 : PH → Int32 → Nat → Option Nat → Int32 → Int32 → ZR (Option Nat)) (hk14 : ∀ (h : PH) (v1 : Int32) (a2 : Nat) (o3 : Option Nat) (v4 : Int32) (v5 : Int32) (C9 S9 : Nat) (H : Heap) (locs : List Loc) (cells slots : Nat), k14 h v1 a2 o3 v4 v5 = some (r, hh, C9, S9) → cells + C9 = mc ∧ slots + S9 = ms → zM D dA b0 gs s h H locs → ∀ ls : Array Slot, lv_has ls 6 [(1, .int v1), (2, .ref a2), (3, va_rf o3), (4, .int v4), (5, .int v5)] → W p l e ({ frames := 3, cells := mc, slots := ms, locals := 102 } : Room) s m args below meth c H locs cells slots (MQ below (zQ D dA b0 gs (evP r) hh) args s mc ms (zA b0)) (F0 m 14 ls [])) : ∀ (n : Nat) (h : PH) (v1 : Int32) (a2 : Nat) (o3 : Option Nat) (v4 : Int32) (v5 : Int32) (C9 S9 : Nat) (H : Heap) (locs : List Loc) (cells slots : Nat), f_X7_select_b19 k14 n h v1 a2 o3 v4 v5 = some (r, hh, C9, S9) → cells + C9 = mc ∧ slots + S9 = ms → zM D dA b0 gs s h H locs → ∀ ls : Array Slot, lv_has ls 6 [(1, .int v1), (2, .ref a2), (3, va_rf o3), (4, .int v4), (5, .int v5)] → W p l e ({ frames := 3, cells := mc, slots := ms, locals := 102 } : Room) s m args below meth c H locs cells slots (MQ below (zQ D dA b0 gs (evP r) hh) args s mc ms (zA b0)) (F0 m 19 ls []) := by
  have hx := hc.x
  have hb := hc.b
  intro n
  induction n with
  | zero =>
    intro h v1 a2 o3 v4 v5 C9 S9 H locs cells slots hf hq hn ls hl
    cases hf
  | succ n ih =>
    intro h v1 a2 o3 v4 v5 C9 S9 H locs cells slots hf hq hn ls hl
    unfold f_X7_select_b19 at hf
    refine zr_aload_n (x := o3) hx hb dX7_select_19 rfl (lv_at hl 2 rfl) ?_
    refine lv_iload hx hb dX7_select_20 (lv_at hl 4 rfl) ?_
    obtain ⟨a101, e9, hf9⟩ := znn_i hf
    subst e9
    have hf := hf9
    clear hf9
    refine zr_cVP (As := [.int v5]) (rest := []) hc hn hq (ci := 7) rfl ⟨rfl, hd_X8_next⟩ (lw_V q904 q905 q906 q116 q907) (Nat.le_of_ble_eq_true rfl) (Nat.le_of_ble_eq_true rfl) (fun _ _ _ _ q => m_X8_next l D dA b0 gs h a101 v5 q) hf dX7_select_22 hl.1 rfl rfl (zroom (Nat.le_of_ble_eq_true rfl)) (fun x102 h103 H locs cells slots C9 S9 hf hq hn => ?_)
    refine zr_ifnull (tgt := 71) hx hb hf dX7_select_25 (by decide) (fun e9 hf9 => ?_) (fun a104 e9 hf9 => ?_)
    · subst e9
      have hf := hf9
      clear hf9
      exact m_X7_select_b71 hc hr hin k14 hk14 h103 v1 a2 a101 v4 v5 _ _ _ _ _ _ hf hq hn _ (lv_sub hl [0, 1, 2, 3, 4] rfl)
    · subst e9
      have hf := hf9
      clear hf9
      refine lv_iload hx hb dX7_select_28 (lv_at hl 3 rfl) ?_
      refine lv_aload_n (x := a101) hx hb dX7_select_30 rfl (lv_at hl 2 rfl) ?_
      refine zr_gPN hc hn (ci := 7) rfl rfl in_X8 2 (by decide) q839 (fun _ h => h) (fun _ _ _ => rfl) hf dX7_select_31 (fun x105 hf => ?_)
      refine lv_iload hx hb dX7_select_34 (lv_at hl 4 rfl) ?_
      obtain ⟨a106, e9, hf9⟩ := znn_i hf
      subst e9
      have hf := hf9
      clear hf9
      refine zr_aI0 hc hn hf dX7_select_36 (fun x107 hf => ?_)
      refine lv_iadd hx hb dX7_select_37 ?_
      refine zr_nmI hf (fun x108 hf => ?_)
      refine lv_iload_n hx hb dX7_select_38 rfl (lv_at hl 0 rfl) ?_
      refine lv_icmp_gt (tgt := 71) hx hb dX7_select_39 (by decide) (fun c9 => ?_) (fun c9 => ?_)
      · have hf := zif_t c9 hf
        exact m_X7_select_b71 hc hr hin k14 hk14 h103 v1 a2 a101 v4 v5 _ _ _ _ _ _ hf hq hn _ (lv_sub hl [0, 1, 2, 3, 4] rfl)
      · have hf := zif_f c9 hf
        refine lv_iload hx hb dX7_select_42 (lv_at hl 3 rfl) ?_
        refine lv_aload_n (x := a101) hx hb dX7_select_44 rfl (lv_at hl 2 rfl) ?_
        refine zr_gPN hc hn (ci := 7) rfl rfl in_X8 2 (by decide) q839 (fun _ h => h) (fun _ _ _ => rfl) hf dX7_select_45 (fun x109 hf => ?_)
        refine lv_iload hx hb dX7_select_48 (lv_at hl 4 rfl) ?_
        obtain ⟨a110, e9, hf9⟩ := znn_i hf
        subst e9
        have hf := hf9
        clear hf9
        refine zr_aI0 hc hn hf dX7_select_50 (fun x111 hf => ?_)
        refine lv_iadd hx hb dX7_select_51 ?_
        refine zr_nmI hf (fun x112 hf => ?_)
        refine lv_istore (lv' := [(4, .int x112), (1, .int v1), (2, .ref a2), (3, .ref a101), (5, .int v5)]) hx hb dX7_select_52 hl (by decide) rfl (fun ls hl => ?_)
        refine lv_aload_n (x := a101) hx hb dX7_select_54 rfl (lv_at hl 3 rfl) ?_
        refine lv_iload hx hb dX7_select_55 (lv_at hl 4 rfl) ?_
        refine zr_cVP (As := [.int v5]) (rest := []) hc hn hq (ci := 7) rfl ⟨rfl, hd_X8_next⟩ (lw_V q904 q905 q906 q116 q907) (Nat.le_of_ble_eq_true rfl) (Nat.le_of_ble_eq_true rfl) (fun _ _ _ _ q => m_X8_next l D dA b0 gs h103 a101 v5 q) hf dX7_select_57 hl.1 rfl rfl (zroom (Nat.le_of_ble_eq_true rfl)) (fun x113 h114 H locs cells slots C9 S9 hf hq hn => ?_)
        refine zr_astore_n (x := x113) (i := 3) (lv' := [(3, va_rf x113), (4, .int x112), (1, .int v1), (2, .ref a2), (5, .int v5)]) hx hb dX7_select_60 rfl hl (by decide) rfl (fun ls hl => ?_)
        refine lv_aload_n (x := a2) hx hb dX7_select_61 rfl (lv_at hl 3 rfl) ?_
        refine lv_iconst (v := (0 : Int32)) hx hb dX7_select_62 (by decide) ?_
        refine lv_dup2_11 hx hb dX7_select_63 rfl rfl ?_
        refine zr_aI0 hc hn hf dX7_select_64 (fun x115 hf => ?_)
        refine lv_iconst (v := (1 : Int32)) hx hb dX7_select_65 (by decide) ?_
        refine lv_iadd hx hb dX7_select_66 ?_
        refine zr_nmI hf (fun x116 hf => ?_)
        refine zr_sI hc hn hf dX7_select_67 (fun h117 H locs hf hn => ?_)
        refine lv_goto (tgt := 19) hx hb dX7_select_68 (by decide) ?_
        exact ih h117 v1 a2 x113 x112 v5 _ _ _ _ _ _ hf hq hn _ (lv_sub hl [2, 3, 0, 1, 4] rfl)
set_option maxHeartbeats 4000000 in
set_option maxRecDepth 100000 in
theorem m_X7_select_b14 {p : Program} {l : Launch} {e : Env} {s : State} {m : MethodId} {args : Array Value} {below : List Frame} {meth : Method} {c : Code} {D : va_G} {dA : Nat → ClassId} {b0 : Nat} {gs : Nat → Option Nat} (hc : zC D dA b0 gs yX7_select.cls cX7_select 6 p c s m args meth) (hr : meth.sig.returnType = (some (.object "CountedSkipLists$Node"))) (hin : meth.name = yX7_select.name) {r : (Option Nat)} {hh : PH} {mc ms : Nat} : ∀ (n : Nat) (h : PH) (v1 : Int32) (a2 : Nat) (o3 : Option Nat) (v4 : Int32) (v5 : Int32) (C9 S9 : Nat) (H : Heap) (locs : List Loc) (cells slots : Nat), f_X7_select_b14 n h v1 a2 o3 v4 v5 = some (r, hh, C9, S9) → cells + C9 = mc ∧ slots + S9 = ms → zM D dA b0 gs s h H locs → ∀ ls : Array Slot, lv_has ls 6 [(1, .int v1), (2, .ref a2), (3, va_rf o3), (4, .int v4), (5, .int v5)] → W p l e ({ frames := 3, cells := mc, slots := ms, locals := 102 } : Room) s m args below meth c H locs cells slots (MQ below (zQ D dA b0 gs (evP r) hh) args s mc ms (zA b0)) (F0 m 14 ls []) := by
  have hx := hc.x
  have hb := hc.b
  intro n
  induction n with
  | zero =>
    intro h v1 a2 o3 v4 v5 C9 S9 H locs cells slots hf hq hn ls hl
    cases hf
  | succ n ih =>
    intro h v1 a2 o3 v4 v5 C9 S9 H locs cells slots hf hq hn ls hl
    unfold f_X7_select_b14 at hf
    refine lv_iload hx hb dX7_select_14 (lv_at hl 4 rfl) ?_
    refine lv_if_le (tgt := 77) hx hb dX7_select_16 (by decide) (fun c9 => ?_) (fun c9 => ?_)
    · have hf := zif_t c9 hf
      refine zr_aload_n (x := o3) hx hb dX7_select_77 rfl (lv_at hl 2 rfl) ?_
      obtain ⟨rfl, rfl, rfl, rfl⟩ := zret_i hf
      exact zr_aret (x := o3) hc hn hr (Or.inl ⟨_, rfl⟩) hq (fun _ _ _ _ q => q) dX7_select_78
    · have hf := zif_f c9 hf
      exact m_X7_select_b19 hc hr hin (f_X7_select_b14 n) ih zFU h v1 a2 o3 v4 v5 _ _ _ _ _ _ hf hq hn _ (lv_sub hl [0, 1, 2, 3, 4] rfl)
set_option maxHeartbeats 4000000 in
set_option maxRecDepth 100000 in
theorem m_X7_select (l : Launch) (D : va_G) (dA : Nat → ClassId) (b0 : Nat) (gs : Nat → Option Nat) (h : PH) (a0 : Nat) (v1 : Int32) (a2 : Nat) {r : (Option Nat)} {hh : PH} {mc ms : Nat} (hf : f_X7_select h a0 v1 a2 = some (r, hh, mc, ms)) : zMt l D dA b0 gs yX7_select cX7_select 6 (some (.object "CountedSkipLists$Node")) 3 102 [.ref a0, .int v1, .ref a2] h (evP r) hh mc ms := by
  unfold f_X7_select at hf
  refine zMt.of (by decide) (Nat.le_of_ble_eq_true rfl) ?_
  intro p e s m args below meth c hc hr hin hn ls hl
  have hl : lv_has ls 6 [(0, .ref a0), (1, .int v1), (2, .ref a2)] := hl
  have hq : 0 + mc = mc ∧ 0 + ms = ms := ⟨Nat.zero_add _, Nat.zero_add _⟩
  have hx := hc.x
  have hb := hc.b
  refine lv_aload_n (x := a0) hx hb dX7_select_0 rfl (lv_at hl 0 rfl) ?_
  refine zr_gP hc hn (ci := 6) rfl rfl in_X7 1 (by decide) q871 (fun _ h => h) (fun _ _ _ => rfl) hf dX7_select_1 (fun x101 hf => ?_)
  refine zr_astore_n (x := x101) (i := 3) (lv' := [(3, va_rf x101), (0, .ref a0), (1, .int v1), (2, .ref a2)]) hx hb dX7_select_4 rfl hl (by decide) rfl (fun ls hl => ?_)
  refine lv_iconst (v := (-1 : Int32)) hx hb dX7_select_5 (by decide) ?_
  refine lv_istore (lv' := [(4, .int (-1 : Int32)), (3, va_rf x101), (0, .ref a0), (1, .int v1), (2, .ref a2)]) hx hb dX7_select_6 hl (by decide) (by simp [zcat_rf, zcat_i, zcat_l, zcat_d, zcat_r, zcat_n] <;> rfl) (fun ls hl => ?_)
  refine lv_aload_n (x := a0) hx hb dX7_select_8 rfl (lv_at hl 2 rfl) ?_
  refine zr_cVI (As := []) (rest := []) hc hn hq (ci := 6) rfl ⟨rfl, hd_X7_height⟩ (lw_V q928 q929 q930 q115 q931) (Nat.le_of_ble_eq_true rfl) (Nat.le_of_ble_eq_true rfl) (fun _ _ _ _ q => m_X7_height l D dA b0 gs h a0 q) hf dX7_select_9 hl.1 rfl rfl (zroom (Nat.le_of_ble_eq_true rfl)) (fun x102 h103 H locs cells slots C9 S9 hf hq hn => ?_)
  refine lv_istore (lv' := [(5, .int x102), (4, .int (-1 : Int32)), (3, va_rf x101), (0, .ref a0), (1, .int v1), (2, .ref a2)]) hx hb dX7_select_12 hl (by decide) rfl (fun ls hl => ?_)
  exact m_X7_select_b14 hc hr hin zFU h103 v1 a2 x101 (-1 : Int32) x102 _ _ _ _ _ _ hf hq hn _ (lv_sub hl [4, 5, 2, 1, 0] rfl)
theorem hd_X7_find : yX7_find.cls ≠ "java/lang/invoke/MethodHandle" ∧ yX7_find.cls ≠ "java/lang/invoke/VarHandle" ∧ (parseMethodDescriptor yX7_find.desc).map (fun d => d.parameters.length) = some 1 := by decide +kernel
def f_X7_find (h : PH) (a0 : Nat) (v1 : Int32) : ZR (Option Nat) :=
  zrc h a0 6 <| zcl (f_X7_findsPaths h a0 v1) fun _ h102 =>
  zgP h102 a0 6 2 fun x103 =>
  znn x103 fun a104 =>
  zaP h102 a104 5 (1 : Int32) fun x105 =>
  znn x105 fun a106 =>
  zrc h102 a106 7 <| zcl (f_X8_next h102 a106 (1 : Int32)) fun x107 h108 =>
  znul x107
    (zcl (f_J24_empty h108) fun x110 h111 =>
    zret x110 h111)
    (fun a109 =>
      zgI h108 a109 7 0 fun x112 =>
      if x112 = v1 then
        (zcl (f_J24_of h108 a109) fun x115 h116 =>
        zret (some x115) h116)
      else
        (zcl (f_J24_empty h108) fun x113 h114 =>
        zret x113 h114))
set_option maxHeartbeats 4000000 in
set_option maxRecDepth 100000 in
theorem m_X7_find (l : Launch) (D : va_G) (dA : Nat → ClassId) (b0 : Nat) (gs : Nat → Option Nat) (h : PH) (a0 : Nat) (v1 : Int32) {r : (Option Nat)} {hh : PH} {mc ms : Nat} (hf : f_X7_find h a0 v1 = some (r, hh, mc, ms)) : zMt l D dA b0 gs yX7_find cX7_find 3 (some (.object "java/util/Optional")) 3 104 [.ref a0, .int v1] h (evP r) hh mc ms := by
  unfold f_X7_find at hf
  refine zMt.of (by decide) (Nat.le_of_ble_eq_true rfl) ?_
  intro p e s m args below meth c hc hr hin hn ls hl
  have hl : lv_has ls 3 [(0, .ref a0), (1, .int v1)] := hl
  have hq : 0 + mc = mc ∧ 0 + ms = ms := ⟨Nat.zero_add _, Nat.zero_add _⟩
  have hx := hc.x
  have hb := hc.b
  refine lv_aload_n (x := a0) hx hb dX7_find_0 rfl (lv_at hl 0 rfl) ?_
  refine lv_iload_n hx hb dX7_find_1 rfl (lv_at hl 1 rfl) ?_
  refine zr_cVU (As := [.int v1]) (rest := []) hc hn hq (ci := 6) rfl ⟨rfl, hd_X7_findsPaths⟩ (lw_V q1008 q1010 qs11 q115 q1011) (Nat.le_of_ble_eq_true rfl) (Nat.le_of_ble_eq_true rfl) (fun _ _ _ _ q => m_X7_findsPaths l D dA b0 gs h a0 v1 q) hf dX7_find_2 hl.1 rfl rfl (zroom (Nat.le_of_ble_eq_true rfl)) (fun x101 h102 H locs cells slots C9 S9 hf hq hn => ?_)
  refine lv_aload_n (x := a0) hx hb dX7_find_5 rfl (lv_at hl 0 rfl) ?_
  refine zr_gP hc hn (ci := 6) rfl rfl in_X7 2 (by decide) q874 (fun _ h => h) (fun _ _ _ => rfl) hf dX7_find_6 (fun x103 hf => ?_)
  refine lv_iconst (v := (1 : Int32)) hx hb dX7_find_9 (by decide) ?_
  obtain ⟨a104, e9, hf9⟩ := znn_i hf
  subst e9
  have hf := hf9
  clear hf9
  refine zr_aP (ai := 5) (by decide) hc hn hf dX7_find_10 (fun x105 hf => ?_)
  refine lv_iconst (v := (1 : Int32)) hx hb dX7_find_11 (by decide) ?_
  obtain ⟨a106, e9, hf9⟩ := znn_i hf
  subst e9
  have hf := hf9
  clear hf9
  refine zr_cVP (As := [.int (1 : Int32)]) (rest := []) hc hn hq (ci := 7) rfl ⟨rfl, hd_X8_next⟩ (lw_V q904 q905 q906 q116 q907) (Nat.le_of_ble_eq_true rfl) (Nat.le_of_ble_eq_true rfl) (fun _ _ _ _ q => m_X8_next l D dA b0 gs h102 a106 (1 : Int32) q) hf dX7_find_12 hl.1 rfl rfl (zroom (Nat.le_of_ble_eq_true rfl)) (fun x107 h108 H locs cells slots C9 S9 hf hq hn => ?_)
  refine zr_astore_n (x := x107) (i := 2) (lv' := [(2, va_rf x107), (0, .ref a0), (1, .int v1)]) hx hb dX7_find_15 rfl hl (by decide) rfl (fun ls hl => ?_)
  refine zr_aload_n (x := x107) hx hb dX7_find_16 rfl (lv_at hl 0 rfl) ?_
  refine zr_ifnull (tgt := 35) hx hb hf dX7_find_17 (by decide) (fun e9 hf9 => ?_) (fun a109 e9 hf9 => ?_)
  · subst e9
    have hf := hf9
    clear hf9
    refine zr_cSP (As := []) (rest := []) hc hn hq hd_J24_empty (lw_S q1252 q1253 q122 q1254) (Nat.le_of_ble_eq_true rfl) (Nat.le_of_ble_eq_true rfl) (fun _ _ _ _ q => m_J24_empty l D dA b0 gs h108 q) hf dX7_find_35 hl.1 rfl rfl (zroom (Nat.le_of_ble_eq_true rfl)) (fun x110 h111 H locs cells slots C9 S9 hf hq hn => ?_)
    obtain ⟨rfl, rfl, rfl, rfl⟩ := zret_i hf
    exact zr_aret (x := x110) hc hn hr (Or.inl ⟨_, rfl⟩) hq (fun _ _ _ _ q => q) dX7_find_38
  · subst e9
    have hf := hf9
    clear hf9
    refine lv_aload_n (x := a109) hx hb dX7_find_20 rfl (lv_at hl 0 rfl) ?_
    refine zr_gIN hc hn (ci := 7) rfl rfl in_X8 0 (by decide) q834 (fun _ h => h) (fun _ _ _ => rfl) hf dX7_find_21 (fun x112 hf => ?_)
    refine lv_iload_n hx hb dX7_find_24 rfl (lv_at hl 2 rfl) ?_
    refine lv_icmp_ne (tgt := 35) hx hb dX7_find_25 (by decide) (fun c9 => ?_) (fun c9 => ?_)
    · have hf := zif_f c9 hf
      refine zr_cSP (As := []) (rest := []) hc hn hq hd_J24_empty (lw_S q1252 q1253 q122 q1254) (Nat.le_of_ble_eq_true rfl) (Nat.le_of_ble_eq_true rfl) (fun _ _ _ _ q => m_J24_empty l D dA b0 gs h108 q) hf dX7_find_35 hl.1 rfl rfl (zroom (Nat.le_of_ble_eq_true rfl)) (fun x113 h114 H locs cells slots C9 S9 hf hq hn => ?_)
      obtain ⟨rfl, rfl, rfl, rfl⟩ := zret_i hf
      exact zr_aret (x := x113) hc hn hr (Or.inl ⟨_, rfl⟩) hq (fun _ _ _ _ q => q) dX7_find_38
    · have hf := zif_t c9 hf
      refine lv_aload_n (x := a109) hx hb dX7_find_28 rfl (lv_at hl 0 rfl) ?_
      refine zr_cSN (As := [.ref a109]) (rest := []) hc hn hq hd_J24_of (lw_S q1236 q1237 q122 q1238) (Nat.le_of_ble_eq_true rfl) (Nat.le_of_ble_eq_true rfl) (fun _ _ _ _ q => m_J24_of l D dA b0 gs h108 a109 q) hf dX7_find_29 hl.1 rfl rfl (zroom (Nat.le_of_ble_eq_true rfl)) (fun x115 h116 H locs cells slots C9 S9 hf hq hn => ?_)
      refine lv_goto (tgt := 38) hx hb dX7_find_32 (by decide) ?_
      obtain ⟨rfl, rfl, rfl, rfl⟩ := zret_i hf
      exact zr_aret (x := (some x115)) hc hn hr (Or.inl ⟨_, rfl⟩) hq (fun _ _ _ _ q => q) dX7_find_38
theorem hd_X7_rank : yX7_rank.cls ≠ "java/lang/invoke/MethodHandle" ∧ yX7_rank.cls ≠ "java/lang/invoke/VarHandle" ∧ (parseMethodDescriptor yX7_rank.desc).map (fun d => d.parameters.length) = some 1 := by decide +kernel
def f_X7_rank_b58 (k11 : PH → Int32 → Int32 → Option Nat → Int32 → ZR Int32) (h : PH) (v1 : Int32) (v2 : Int32) (a3 : Nat) (v4 : Int32) : ZR Int32 :=
  znm (v4 + (-1 : Int32)) fun x101 =>
  k11 h v1 v2 (some a3) x101
def f_X7_rank_b16 (k11 : PH → Int32 → Int32 → Option Nat → Int32 → ZR Int32) : Nat → PH → Int32 → Int32 → Option Nat → Int32 → ZR Int32
  | 0 => fun _ _ _ _ _ => none
  | n + 1 => fun h v1 v2 o3 v4 =>
    znn o3 fun a101 =>
    zrc h a101 7 <| zcl (f_X8_next h a101 v4) fun x102 h103 =>
    znul x102
      (f_X7_rank_b58 k11 h103 v1 v2 a101 v4)
      (fun a104 =>
        zrc h103 a101 7 <| zcl (f_X8_next h103 a101 v4) fun x105 h106 =>
        znn x105 fun a107 =>
        zgI h106 a107 7 0 fun x108 =>
        if v1 ≤ x108 then
          (f_X7_rank_b58 k11 h106 v1 v2 a101 v4)
        else
          (zgP h106 a101 7 2 fun x109 =>
          znn x109 fun a110 =>
          zaI h106 a110 0 v4 fun x111 =>
          znm (v2 + x111) fun x112 =>
          zrc h106 a101 7 <| zcl (f_X8_next h106 a101 v4) fun x113 h114 =>
          f_X7_rank_b16 k11 n h114 v1 x112 x113 v4))
def f_X7_rank_b11 : Nat → PH → Int32 → Int32 → Option Nat → Int32 → ZR Int32
  | 0 => fun _ _ _ _ _ => none
  | n + 1 => fun h v1 v2 o3 v4 =>
    if v4 ≤ 0 then
      (zret v2 h)
    else
      (f_X7_rank_b16 (f_X7_rank_b11 n) zFU h v1 v2 o3 v4)
def f_X7_rank (h : PH) (a0 : Nat) (v1 : Int32) : ZR Int32 :=
  zgP h a0 6 1 fun x101 =>
  f_X7_rank_b11 zFU h v1 (0 : Int32) x101 (8 : Int32)
set_option maxHeartbeats 4000000 in
set_option maxRecDepth 100000 in
theorem m_X7_rank_b58 {p : Program} {l : Launch} {e : Env} {s : State} {m : MethodId} {args : Array Value} {below : List Frame} {meth : Method} {c : Code} {D : va_G} {dA : Nat → ClassId} {b0 : Nat} {gs : Nat → Option Nat} (hc : zC D dA b0 gs yX7_rank.cls cX7_rank 5 p c s m args meth) (hr : meth.sig.returnType = (some .int)) (hin : meth.name = yX7_rank.name) {r : Int32} {hh : PH} {mc ms : Nat} (k11 : PH → Int32 → Int32 → Option Nat → Int32 → ZR Int32) (hk11 : ∀ (h : PH) (v1 : Int32) (v2 : Int32) (o3 : Option Nat) (v4 : Int32) (C9 S9 : Nat) (H : Heap) (locs : List Loc) (cells slots : Nat), k11 h v1 v2 o3 v4 = some (r, hh, C9, S9) → cells + C9 = mc ∧ slots + S9 = ms → zM D dA b0 gs s h H locs → ∀ ls : Array Slot, lv_has ls 5 [(1, .int v1), (2, .int v2), (3, va_rf o3), (4, .int v4)] → W p l e ({ frames := 2, cells := mc, slots := ms, locals := 81 } : Room) s m args below meth c H locs cells slots (MQ below (zQ D dA b0 gs (evI r) hh) args s mc ms (zA b0)) (F0 m 11 ls [])) : ∀ (h : PH) (v1 : Int32) (v2 : Int32) (a3 : Nat) (v4 : Int32) (C9 S9 : Nat) (H : Heap) (locs : List Loc) (cells slots : Nat), f_X7_rank_b58 k11 h v1 v2 a3 v4 = some (r, hh, C9, S9) → cells + C9 = mc ∧ slots + S9 = ms → zM D dA b0 gs s h H locs → ∀ ls : Array Slot, lv_has ls 5 [(1, .int v1), (2, .int v2), (3, .ref a3), (4, .int v4)] → W p l e ({ frames := 2, cells := mc, slots := ms, locals := 81 } : Room) s m args below meth c H locs cells slots (MQ below (zQ D dA b0 gs (evI r) hh) args s mc ms (zA b0)) (F0 m 58 ls []) := by
  have hx := hc.x
  have hb := hc.b
  intro h v1 v2 a3 v4 C9 S9 H locs cells slots hf hq hn ls hl
  unfold f_X7_rank_b58 at hf
  obtain ⟨x101, ex101, hf⟩ := znm_i hf
  refine lv_iinc (v := x101) (lv' := [(4, .int x101), (1, .int v1), (2, .int v2), (3, .ref a3)]) hx hb dX7_rank_58 hl (k := 3) rfl (by rw [ex101]; rfl) (by decide) rfl (fun ls hl => ?_)
  refine lv_goto (tgt := 11) hx hb dX7_rank_61 (by decide) ?_
  exact hk11 h v1 v2 (some a3) x101 _ _ _ _ _ _ hf hq hn _ (lv_sub hl [1, 2, 3, 0] rfl)
set_option maxHeartbeats 4000000 in
set_option maxRecDepth 100000 in
theorem m_X7_rank_b16 {p : Program} {l : Launch} {e : Env} {s : State} {m : MethodId} {args : Array Value} {below : List Frame} {meth : Method} {c : Code} {D : va_G} {dA : Nat → ClassId} {b0 : Nat} {gs : Nat → Option Nat} (hc : zC D dA b0 gs yX7_rank.cls cX7_rank 5 p c s m args meth) (hr : meth.sig.returnType = (some .int)) (hin : meth.name = yX7_rank.name) {r : Int32} {hh : PH} {mc ms : Nat} (k11 : PH → Int32 → Int32 → Option Nat → Int32 → ZR Int32) (hk11 : ∀ (h : PH) (v1 : Int32) (v2 : Int32) (o3 : Option Nat) (v4 : Int32) (C9 S9 : Nat) (H : Heap) (locs : List Loc) (cells slots : Nat), k11 h v1 v2 o3 v4 = some (r, hh, C9, S9) → cells + C9 = mc ∧ slots + S9 = ms → zM D dA b0 gs s h H locs → ∀ ls : Array Slot, lv_has ls 5 [(1, .int v1), (2, .int v2), (3, va_rf o3), (4, .int v4)] → W p l e ({ frames := 2, cells := mc, slots := ms, locals := 81 } : Room) s m args below meth c H locs cells slots (MQ below (zQ D dA b0 gs (evI r) hh) args s mc ms (zA b0)) (F0 m 11 ls [])) : ∀ (n : Nat) (h : PH) (v1 : Int32) (v2 : Int32) (o3 : Option Nat) (v4 : Int32) (C9 S9 : Nat) (H : Heap) (locs : List Loc) (cells slots : Nat), f_X7_rank_b16 k11 n h v1 v2 o3 v4 = some (r, hh, C9, S9) → cells + C9 = mc ∧ slots + S9 = ms → zM D dA b0 gs s h H locs → ∀ ls : Array Slot, lv_has ls 5 [(1, .int v1), (2, .int v2), (3, va_rf o3), (4, .int v4)] → W p l e ({ frames := 2, cells := mc, slots := ms, locals := 81 } : Room) s m args below meth c H locs cells slots (MQ below (zQ D dA b0 gs (evI r) hh) args s mc ms (zA b0)) (F0 m 16 ls []) := by
  have hx := hc.x
  have hb := hc.b
  intro n
  induction n with
  | zero =>
    intro h v1 v2 o3 v4 C9 S9 H locs cells slots hf hq hn ls hl
    cases hf
  | succ n ih =>
    intro h v1 v2 o3 v4 C9 S9 H locs cells slots hf hq hn ls hl
    unfold f_X7_rank_b16 at hf
    refine zr_aload_n (x := o3) hx hb dX7_rank_16 rfl (lv_at hl 2 rfl) ?_
    refine lv_iload hx hb dX7_rank_17 (lv_at hl 3 rfl) ?_
    obtain ⟨a101, e9, hf9⟩ := znn_i hf
    subst e9
    have hf := hf9
    clear hf9
    refine zr_cVP (As := [.int v4]) (rest := []) hc hn hq (ci := 7) rfl ⟨rfl, hd_X8_next⟩ (lw_V q904 q905 q906 q116 q907) (Nat.le_of_ble_eq_true rfl) (Nat.le_of_ble_eq_true rfl) (fun _ _ _ _ q => m_X8_next l D dA b0 gs h a101 v4 q) hf dX7_rank_19 hl.1 rfl rfl (zroom (Nat.le_of_ble_eq_true rfl)) (fun x102 h103 H locs cells slots C9 S9 hf hq hn => ?_)
    refine zr_ifnull (tgt := 58) hx hb hf dX7_rank_22 (by decide) (fun e9 hf9 => ?_) (fun a104 e9 hf9 => ?_)
    · subst e9
      have hf := hf9
      clear hf9
      exact m_X7_rank_b58 hc hr hin k11 hk11 h103 v1 v2 a101 v4 _ _ _ _ _ _ hf hq hn _ (lv_sub hl [0, 1, 2, 3] rfl)
    · subst e9
      have hf := hf9
      clear hf9
      refine lv_aload_n (x := a101) hx hb dX7_rank_25 rfl (lv_at hl 2 rfl) ?_
      refine lv_iload hx hb dX7_rank_26 (lv_at hl 3 rfl) ?_
      refine zr_cVP (As := [.int v4]) (rest := []) hc hn hq (ci := 7) rfl ⟨rfl, hd_X8_next⟩ (lw_V q904 q905 q906 q116 q907) (Nat.le_of_ble_eq_true rfl) (Nat.le_of_ble_eq_true rfl) (fun _ _ _ _ q => m_X8_next l D dA b0 gs h103 a101 v4 q) hf dX7_rank_28 hl.1 rfl rfl (zroom (Nat.le_of_ble_eq_true rfl)) (fun x105 h106 H locs cells slots C9 S9 hf hq hn => ?_)
      obtain ⟨a107, e9, hf9⟩ := znn_i hf
      subst e9
      have hf := hf9
      clear hf9
      refine zr_gIN hc hn (ci := 7) rfl rfl in_X8 0 (by decide) q834 (fun _ h => h) (fun _ _ _ => rfl) hf dX7_rank_31 (fun x108 hf => ?_)
      refine lv_iload_n hx hb dX7_rank_34 rfl (lv_at hl 0 rfl) ?_
      refine lv_icmp_ge (tgt := 58) hx hb dX7_rank_35 (by decide) (fun c9 => ?_) (fun c9 => ?_)
      · have hf := zif_t c9 hf
        exact m_X7_rank_b58 hc hr hin k11 hk11 h106 v1 v2 a101 v4 _ _ _ _ _ _ hf hq hn _ (lv_sub hl [0, 1, 2, 3] rfl)
      · have hf := zif_f c9 hf
        refine lv_iload_n hx hb dX7_rank_38 rfl (lv_at hl 1 rfl) ?_
        refine lv_aload_n (x := a101) hx hb dX7_rank_39 rfl (lv_at hl 2 rfl) ?_
        refine zr_gPN hc hn (ci := 7) rfl rfl in_X8 2 (by decide) q839 (fun _ h => h) (fun _ _ _ => rfl) hf dX7_rank_40 (fun x109 hf => ?_)
        refine lv_iload hx hb dX7_rank_43 (lv_at hl 3 rfl) ?_
        obtain ⟨a110, e9, hf9⟩ := znn_i hf
        subst e9
        have hf := hf9
        clear hf9
        refine zr_aI0 hc hn hf dX7_rank_45 (fun x111 hf => ?_)
        refine lv_iadd hx hb dX7_rank_46 ?_
        refine zr_nmI hf (fun x112 hf => ?_)
        refine lv_istore_n (i := 2) (lv' := [(2, .int x112), (1, .int v1), (3, .ref a101), (4, .int v4)]) hx hb dX7_rank_47 rfl hl (by decide) rfl (fun ls hl => ?_)
        refine lv_aload_n (x := a101) hx hb dX7_rank_48 rfl (lv_at hl 2 rfl) ?_
        refine lv_iload hx hb dX7_rank_49 (lv_at hl 3 rfl) ?_
        refine zr_cVP (As := [.int v4]) (rest := []) hc hn hq (ci := 7) rfl ⟨rfl, hd_X8_next⟩ (lw_V q904 q905 q906 q116 q907) (Nat.le_of_ble_eq_true rfl) (Nat.le_of_ble_eq_true rfl) (fun _ _ _ _ q => m_X8_next l D dA b0 gs h106 a101 v4 q) hf dX7_rank_51 hl.1 rfl rfl (zroom (Nat.le_of_ble_eq_true rfl)) (fun x113 h114 H locs cells slots C9 S9 hf hq hn => ?_)
        refine zr_astore_n (x := x113) (i := 3) (lv' := [(3, va_rf x113), (2, .int x112), (1, .int v1), (4, .int v4)]) hx hb dX7_rank_54 rfl hl (by decide) rfl (fun ls hl => ?_)
        refine lv_goto (tgt := 16) hx hb dX7_rank_55 (by decide) ?_
        exact ih h114 v1 x112 x113 v4 _ _ _ _ _ _ hf hq hn _ (lv_sub hl [2, 1, 0, 3] rfl)
set_option maxHeartbeats 4000000 in
set_option maxRecDepth 100000 in
theorem m_X7_rank_b11 {p : Program} {l : Launch} {e : Env} {s : State} {m : MethodId} {args : Array Value} {below : List Frame} {meth : Method} {c : Code} {D : va_G} {dA : Nat → ClassId} {b0 : Nat} {gs : Nat → Option Nat} (hc : zC D dA b0 gs yX7_rank.cls cX7_rank 5 p c s m args meth) (hr : meth.sig.returnType = (some .int)) (hin : meth.name = yX7_rank.name) {r : Int32} {hh : PH} {mc ms : Nat} : ∀ (n : Nat) (h : PH) (v1 : Int32) (v2 : Int32) (o3 : Option Nat) (v4 : Int32) (C9 S9 : Nat) (H : Heap) (locs : List Loc) (cells slots : Nat), f_X7_rank_b11 n h v1 v2 o3 v4 = some (r, hh, C9, S9) → cells + C9 = mc ∧ slots + S9 = ms → zM D dA b0 gs s h H locs → ∀ ls : Array Slot, lv_has ls 5 [(1, .int v1), (2, .int v2), (3, va_rf o3), (4, .int v4)] → W p l e ({ frames := 2, cells := mc, slots := ms, locals := 81 } : Room) s m args below meth c H locs cells slots (MQ below (zQ D dA b0 gs (evI r) hh) args s mc ms (zA b0)) (F0 m 11 ls []) := by
  have hx := hc.x
  have hb := hc.b
  intro n
  induction n with
  | zero =>
    intro h v1 v2 o3 v4 C9 S9 H locs cells slots hf hq hn ls hl
    cases hf
  | succ n ih =>
    intro h v1 v2 o3 v4 C9 S9 H locs cells slots hf hq hn ls hl
    unfold f_X7_rank_b11 at hf
    refine lv_iload hx hb dX7_rank_11 (lv_at hl 3 rfl) ?_
    refine lv_if_le (tgt := 64) hx hb dX7_rank_13 (by decide) (fun c9 => ?_) (fun c9 => ?_)
    · have hf := zif_t c9 hf
      refine lv_iload_n hx hb dX7_rank_64 rfl (lv_at hl 1 rfl) ?_
      obtain ⟨rfl, rfl, rfl, rfl⟩ := zret_i hf
      exact zr_iret hc hn hr hq (fun _ _ _ _ q => q) dX7_rank_65
    · have hf := zif_f c9 hf
      exact m_X7_rank_b16 hc hr hin (f_X7_rank_b11 n) ih zFU h v1 v2 o3 v4 _ _ _ _ _ _ hf hq hn _ (lv_sub hl [0, 1, 2, 3] rfl)
set_option maxHeartbeats 4000000 in
set_option maxRecDepth 100000 in
theorem m_X7_rank (l : Launch) (D : va_G) (dA : Nat → ClassId) (b0 : Nat) (gs : Nat → Option Nat) (h : PH) (a0 : Nat) (v1 : Int32) {r : Int32} {hh : PH} {mc ms : Nat} (hf : f_X7_rank h a0 v1 = some (r, hh, mc, ms)) : zMt l D dA b0 gs yX7_rank cX7_rank 5 (some .int) 2 81 [.ref a0, .int v1] h (evI r) hh mc ms := by
  unfold f_X7_rank at hf
  refine zMt.of (by decide) (Nat.le_of_ble_eq_true rfl) ?_
  intro p e s m args below meth c hc hr hin hn ls hl
  have hl : lv_has ls 5 [(0, .ref a0), (1, .int v1)] := hl
  have hq : 0 + mc = mc ∧ 0 + ms = ms := ⟨Nat.zero_add _, Nat.zero_add _⟩
  have hx := hc.x
  have hb := hc.b
  refine lv_iconst (v := (0 : Int32)) hx hb dX7_rank_0 (by decide) ?_
  refine lv_istore_n (i := 2) (lv' := [(2, .int (0 : Int32)), (0, .ref a0), (1, .int v1)]) hx hb dX7_rank_1 rfl hl (by decide) rfl (fun ls hl => ?_)
  refine lv_aload_n (x := a0) hx hb dX7_rank_2 rfl (lv_at hl 1 rfl) ?_
  refine zr_gP hc hn (ci := 6) rfl rfl in_X7 1 (by decide) q871 (fun _ h => h) (fun _ _ _ => rfl) hf dX7_rank_3 (fun x101 hf => ?_)
  refine zr_astore_n (x := x101) (i := 3) (lv' := [(3, va_rf x101), (2, .int (0 : Int32)), (0, .ref a0), (1, .int v1)]) hx hb dX7_rank_6 rfl hl (by decide) rfl (fun ls hl => ?_)
  refine lv_bipush (v := (8 : Int32)) hx hb dX7_rank_7 (by decide) ?_
  refine lv_istore (lv' := [(4, .int (8 : Int32)), (3, va_rf x101), (2, .int (0 : Int32)), (0, .ref a0), (1, .int v1)]) hx hb dX7_rank_9 hl (by decide) (by simp [zcat_rf, zcat_i, zcat_l, zcat_d, zcat_r, zcat_n] <;> rfl) (fun ls hl => ?_)
  exact m_X7_rank_b11 hc hr hin zFU h v1 (0 : Int32) x101 (8 : Int32) _ _ _ _ _ _ hf hq hn _ (lv_sub hl [4, 2, 1, 0] rfl)
theorem hd_X7_sumBefore : yX7_sumBefore.cls ≠ "java/lang/invoke/MethodHandle" ∧ yX7_sumBefore.cls ≠ "java/lang/invoke/VarHandle" ∧ (parseMethodDescriptor yX7_sumBefore.desc).map (fun d => d.parameters.length) = some 1 := by decide +kernel
def f_X7_sumBefore_b58 (k11 : PH → Int32 → Int32 → Option Nat → Int32 → ZR Int32) (h : PH) (v1 : Int32) (v2 : Int32) (a3 : Nat) (v4 : Int32) : ZR Int32 :=
  znm (v4 + (-1 : Int32)) fun x101 =>
  k11 h v1 v2 (some a3) x101
def f_X7_sumBefore_b16 (k11 : PH → Int32 → Int32 → Option Nat → Int32 → ZR Int32) : Nat → PH → Int32 → Int32 → Option Nat → Int32 → ZR Int32
  | 0 => fun _ _ _ _ _ => none
  | n + 1 => fun h v1 v2 o3 v4 =>
    znn o3 fun a101 =>
    zrc h a101 7 <| zcl (f_X8_next h a101 v4) fun x102 h103 =>
    znul x102
      (f_X7_sumBefore_b58 k11 h103 v1 v2 a101 v4)
      (fun a104 =>
        zrc h103 a101 7 <| zcl (f_X8_next h103 a101 v4) fun x105 h106 =>
        znn x105 fun a107 =>
        zgI h106 a107 7 0 fun x108 =>
        if v1 ≤ x108 then
          (f_X7_sumBefore_b58 k11 h106 v1 v2 a101 v4)
        else
          (zgP h106 a101 7 3 fun x109 =>
          znn x109 fun a110 =>
          zaI h106 a110 0 v4 fun x111 =>
          znm (v2 + x111) fun x112 =>
          zrc h106 a101 7 <| zcl (f_X8_next h106 a101 v4) fun x113 h114 =>
          f_X7_sumBefore_b16 k11 n h114 v1 x112 x113 v4))
def f_X7_sumBefore_b11 : Nat → PH → Int32 → Int32 → Option Nat → Int32 → ZR Int32
  | 0 => fun _ _ _ _ _ => none
  | n + 1 => fun h v1 v2 o3 v4 =>
    if v4 ≤ 0 then
      (zret v2 h)
    else
      (f_X7_sumBefore_b16 (f_X7_sumBefore_b11 n) zFU h v1 v2 o3 v4)
def f_X7_sumBefore (h : PH) (a0 : Nat) (v1 : Int32) : ZR Int32 :=
  zgP h a0 6 1 fun x101 =>
  f_X7_sumBefore_b11 zFU h v1 (0 : Int32) x101 (8 : Int32)
set_option maxHeartbeats 4000000 in
set_option maxRecDepth 100000 in
theorem m_X7_sumBefore_b58 {p : Program} {l : Launch} {e : Env} {s : State} {m : MethodId} {args : Array Value} {below : List Frame} {meth : Method} {c : Code} {D : va_G} {dA : Nat → ClassId} {b0 : Nat} {gs : Nat → Option Nat} (hc : zC D dA b0 gs yX7_sumBefore.cls cX7_sumBefore 5 p c s m args meth) (hr : meth.sig.returnType = (some .int)) (hin : meth.name = yX7_sumBefore.name) {r : Int32} {hh : PH} {mc ms : Nat} (k11 : PH → Int32 → Int32 → Option Nat → Int32 → ZR Int32) (hk11 : ∀ (h : PH) (v1 : Int32) (v2 : Int32) (o3 : Option Nat) (v4 : Int32) (C9 S9 : Nat) (H : Heap) (locs : List Loc) (cells slots : Nat), k11 h v1 v2 o3 v4 = some (r, hh, C9, S9) → cells + C9 = mc ∧ slots + S9 = ms → zM D dA b0 gs s h H locs → ∀ ls : Array Slot, lv_has ls 5 [(1, .int v1), (2, .int v2), (3, va_rf o3), (4, .int v4)] → W p l e ({ frames := 2, cells := mc, slots := ms, locals := 81 } : Room) s m args below meth c H locs cells slots (MQ below (zQ D dA b0 gs (evI r) hh) args s mc ms (zA b0)) (F0 m 11 ls [])) : ∀ (h : PH) (v1 : Int32) (v2 : Int32) (a3 : Nat) (v4 : Int32) (C9 S9 : Nat) (H : Heap) (locs : List Loc) (cells slots : Nat), f_X7_sumBefore_b58 k11 h v1 v2 a3 v4 = some (r, hh, C9, S9) → cells + C9 = mc ∧ slots + S9 = ms → zM D dA b0 gs s h H locs → ∀ ls : Array Slot, lv_has ls 5 [(1, .int v1), (2, .int v2), (3, .ref a3), (4, .int v4)] → W p l e ({ frames := 2, cells := mc, slots := ms, locals := 81 } : Room) s m args below meth c H locs cells slots (MQ below (zQ D dA b0 gs (evI r) hh) args s mc ms (zA b0)) (F0 m 58 ls []) := by
  have hx := hc.x
  have hb := hc.b
  intro h v1 v2 a3 v4 C9 S9 H locs cells slots hf hq hn ls hl
  unfold f_X7_sumBefore_b58 at hf
  obtain ⟨x101, ex101, hf⟩ := znm_i hf
  refine lv_iinc (v := x101) (lv' := [(4, .int x101), (1, .int v1), (2, .int v2), (3, .ref a3)]) hx hb dX7_sumBefore_58 hl (k := 3) rfl (by rw [ex101]; rfl) (by decide) rfl (fun ls hl => ?_)
  refine lv_goto (tgt := 11) hx hb dX7_sumBefore_61 (by decide) ?_
  exact hk11 h v1 v2 (some a3) x101 _ _ _ _ _ _ hf hq hn _ (lv_sub hl [1, 2, 3, 0] rfl)
set_option maxHeartbeats 4000000 in
set_option maxRecDepth 100000 in
theorem m_X7_sumBefore_b16 {p : Program} {l : Launch} {e : Env} {s : State} {m : MethodId} {args : Array Value} {below : List Frame} {meth : Method} {c : Code} {D : va_G} {dA : Nat → ClassId} {b0 : Nat} {gs : Nat → Option Nat} (hc : zC D dA b0 gs yX7_sumBefore.cls cX7_sumBefore 5 p c s m args meth) (hr : meth.sig.returnType = (some .int)) (hin : meth.name = yX7_sumBefore.name) {r : Int32} {hh : PH} {mc ms : Nat} (k11 : PH → Int32 → Int32 → Option Nat → Int32 → ZR Int32) (hk11 : ∀ (h : PH) (v1 : Int32) (v2 : Int32) (o3 : Option Nat) (v4 : Int32) (C9 S9 : Nat) (H : Heap) (locs : List Loc) (cells slots : Nat), k11 h v1 v2 o3 v4 = some (r, hh, C9, S9) → cells + C9 = mc ∧ slots + S9 = ms → zM D dA b0 gs s h H locs → ∀ ls : Array Slot, lv_has ls 5 [(1, .int v1), (2, .int v2), (3, va_rf o3), (4, .int v4)] → W p l e ({ frames := 2, cells := mc, slots := ms, locals := 81 } : Room) s m args below meth c H locs cells slots (MQ below (zQ D dA b0 gs (evI r) hh) args s mc ms (zA b0)) (F0 m 11 ls [])) : ∀ (n : Nat) (h : PH) (v1 : Int32) (v2 : Int32) (o3 : Option Nat) (v4 : Int32) (C9 S9 : Nat) (H : Heap) (locs : List Loc) (cells slots : Nat), f_X7_sumBefore_b16 k11 n h v1 v2 o3 v4 = some (r, hh, C9, S9) → cells + C9 = mc ∧ slots + S9 = ms → zM D dA b0 gs s h H locs → ∀ ls : Array Slot, lv_has ls 5 [(1, .int v1), (2, .int v2), (3, va_rf o3), (4, .int v4)] → W p l e ({ frames := 2, cells := mc, slots := ms, locals := 81 } : Room) s m args below meth c H locs cells slots (MQ below (zQ D dA b0 gs (evI r) hh) args s mc ms (zA b0)) (F0 m 16 ls []) := by
  have hx := hc.x
  have hb := hc.b
  intro n
  induction n with
  | zero =>
    intro h v1 v2 o3 v4 C9 S9 H locs cells slots hf hq hn ls hl
    cases hf
  | succ n ih =>
    intro h v1 v2 o3 v4 C9 S9 H locs cells slots hf hq hn ls hl
    unfold f_X7_sumBefore_b16 at hf
    refine zr_aload_n (x := o3) hx hb dX7_sumBefore_16 rfl (lv_at hl 2 rfl) ?_
    refine lv_iload hx hb dX7_sumBefore_17 (lv_at hl 3 rfl) ?_
    obtain ⟨a101, e9, hf9⟩ := znn_i hf
    subst e9
    have hf := hf9
    clear hf9
    refine zr_cVP (As := [.int v4]) (rest := []) hc hn hq (ci := 7) rfl ⟨rfl, hd_X8_next⟩ (lw_V q904 q905 q906 q116 q907) (Nat.le_of_ble_eq_true rfl) (Nat.le_of_ble_eq_true rfl) (fun _ _ _ _ q => m_X8_next l D dA b0 gs h a101 v4 q) hf dX7_sumBefore_19 hl.1 rfl rfl (zroom (Nat.le_of_ble_eq_true rfl)) (fun x102 h103 H locs cells slots C9 S9 hf hq hn => ?_)
    refine zr_ifnull (tgt := 58) hx hb hf dX7_sumBefore_22 (by decide) (fun e9 hf9 => ?_) (fun a104 e9 hf9 => ?_)
    · subst e9
      have hf := hf9
      clear hf9
      exact m_X7_sumBefore_b58 hc hr hin k11 hk11 h103 v1 v2 a101 v4 _ _ _ _ _ _ hf hq hn _ (lv_sub hl [0, 1, 2, 3] rfl)
    · subst e9
      have hf := hf9
      clear hf9
      refine lv_aload_n (x := a101) hx hb dX7_sumBefore_25 rfl (lv_at hl 2 rfl) ?_
      refine lv_iload hx hb dX7_sumBefore_26 (lv_at hl 3 rfl) ?_
      refine zr_cVP (As := [.int v4]) (rest := []) hc hn hq (ci := 7) rfl ⟨rfl, hd_X8_next⟩ (lw_V q904 q905 q906 q116 q907) (Nat.le_of_ble_eq_true rfl) (Nat.le_of_ble_eq_true rfl) (fun _ _ _ _ q => m_X8_next l D dA b0 gs h103 a101 v4 q) hf dX7_sumBefore_28 hl.1 rfl rfl (zroom (Nat.le_of_ble_eq_true rfl)) (fun x105 h106 H locs cells slots C9 S9 hf hq hn => ?_)
      obtain ⟨a107, e9, hf9⟩ := znn_i hf
      subst e9
      have hf := hf9
      clear hf9
      refine zr_gIN hc hn (ci := 7) rfl rfl in_X8 0 (by decide) q834 (fun _ h => h) (fun _ _ _ => rfl) hf dX7_sumBefore_31 (fun x108 hf => ?_)
      refine lv_iload_n hx hb dX7_sumBefore_34 rfl (lv_at hl 0 rfl) ?_
      refine lv_icmp_ge (tgt := 58) hx hb dX7_sumBefore_35 (by decide) (fun c9 => ?_) (fun c9 => ?_)
      · have hf := zif_t c9 hf
        exact m_X7_sumBefore_b58 hc hr hin k11 hk11 h106 v1 v2 a101 v4 _ _ _ _ _ _ hf hq hn _ (lv_sub hl [0, 1, 2, 3] rfl)
      · have hf := zif_f c9 hf
        refine lv_iload_n hx hb dX7_sumBefore_38 rfl (lv_at hl 1 rfl) ?_
        refine lv_aload_n (x := a101) hx hb dX7_sumBefore_39 rfl (lv_at hl 2 rfl) ?_
        refine zr_gPN hc hn (ci := 7) rfl rfl in_X8 3 (by decide) q842 (fun _ h => h) (fun _ _ _ => rfl) hf dX7_sumBefore_40 (fun x109 hf => ?_)
        refine lv_iload hx hb dX7_sumBefore_43 (lv_at hl 3 rfl) ?_
        obtain ⟨a110, e9, hf9⟩ := znn_i hf
        subst e9
        have hf := hf9
        clear hf9
        refine zr_aI0 hc hn hf dX7_sumBefore_45 (fun x111 hf => ?_)
        refine lv_iadd hx hb dX7_sumBefore_46 ?_
        refine zr_nmI hf (fun x112 hf => ?_)
        refine lv_istore_n (i := 2) (lv' := [(2, .int x112), (1, .int v1), (3, .ref a101), (4, .int v4)]) hx hb dX7_sumBefore_47 rfl hl (by decide) rfl (fun ls hl => ?_)
        refine lv_aload_n (x := a101) hx hb dX7_sumBefore_48 rfl (lv_at hl 2 rfl) ?_
        refine lv_iload hx hb dX7_sumBefore_49 (lv_at hl 3 rfl) ?_
        refine zr_cVP (As := [.int v4]) (rest := []) hc hn hq (ci := 7) rfl ⟨rfl, hd_X8_next⟩ (lw_V q904 q905 q906 q116 q907) (Nat.le_of_ble_eq_true rfl) (Nat.le_of_ble_eq_true rfl) (fun _ _ _ _ q => m_X8_next l D dA b0 gs h106 a101 v4 q) hf dX7_sumBefore_51 hl.1 rfl rfl (zroom (Nat.le_of_ble_eq_true rfl)) (fun x113 h114 H locs cells slots C9 S9 hf hq hn => ?_)
        refine zr_astore_n (x := x113) (i := 3) (lv' := [(3, va_rf x113), (2, .int x112), (1, .int v1), (4, .int v4)]) hx hb dX7_sumBefore_54 rfl hl (by decide) rfl (fun ls hl => ?_)
        refine lv_goto (tgt := 16) hx hb dX7_sumBefore_55 (by decide) ?_
        exact ih h114 v1 x112 x113 v4 _ _ _ _ _ _ hf hq hn _ (lv_sub hl [2, 1, 0, 3] rfl)
set_option maxHeartbeats 4000000 in
set_option maxRecDepth 100000 in
theorem m_X7_sumBefore_b11 {p : Program} {l : Launch} {e : Env} {s : State} {m : MethodId} {args : Array Value} {below : List Frame} {meth : Method} {c : Code} {D : va_G} {dA : Nat → ClassId} {b0 : Nat} {gs : Nat → Option Nat} (hc : zC D dA b0 gs yX7_sumBefore.cls cX7_sumBefore 5 p c s m args meth) (hr : meth.sig.returnType = (some .int)) (hin : meth.name = yX7_sumBefore.name) {r : Int32} {hh : PH} {mc ms : Nat} : ∀ (n : Nat) (h : PH) (v1 : Int32) (v2 : Int32) (o3 : Option Nat) (v4 : Int32) (C9 S9 : Nat) (H : Heap) (locs : List Loc) (cells slots : Nat), f_X7_sumBefore_b11 n h v1 v2 o3 v4 = some (r, hh, C9, S9) → cells + C9 = mc ∧ slots + S9 = ms → zM D dA b0 gs s h H locs → ∀ ls : Array Slot, lv_has ls 5 [(1, .int v1), (2, .int v2), (3, va_rf o3), (4, .int v4)] → W p l e ({ frames := 2, cells := mc, slots := ms, locals := 81 } : Room) s m args below meth c H locs cells slots (MQ below (zQ D dA b0 gs (evI r) hh) args s mc ms (zA b0)) (F0 m 11 ls []) := by
  have hx := hc.x
  have hb := hc.b
  intro n
  induction n with
  | zero =>
    intro h v1 v2 o3 v4 C9 S9 H locs cells slots hf hq hn ls hl
    cases hf
  | succ n ih =>
    intro h v1 v2 o3 v4 C9 S9 H locs cells slots hf hq hn ls hl
    unfold f_X7_sumBefore_b11 at hf
    refine lv_iload hx hb dX7_sumBefore_11 (lv_at hl 3 rfl) ?_
    refine lv_if_le (tgt := 64) hx hb dX7_sumBefore_13 (by decide) (fun c9 => ?_) (fun c9 => ?_)
    · have hf := zif_t c9 hf
      refine lv_iload_n hx hb dX7_sumBefore_64 rfl (lv_at hl 1 rfl) ?_
      obtain ⟨rfl, rfl, rfl, rfl⟩ := zret_i hf
      exact zr_iret hc hn hr hq (fun _ _ _ _ q => q) dX7_sumBefore_65
    · have hf := zif_f c9 hf
      exact m_X7_sumBefore_b16 hc hr hin (f_X7_sumBefore_b11 n) ih zFU h v1 v2 o3 v4 _ _ _ _ _ _ hf hq hn _ (lv_sub hl [0, 1, 2, 3] rfl)
set_option maxHeartbeats 4000000 in
set_option maxRecDepth 100000 in
theorem m_X7_sumBefore (l : Launch) (D : va_G) (dA : Nat → ClassId) (b0 : Nat) (gs : Nat → Option Nat) (h : PH) (a0 : Nat) (v1 : Int32) {r : Int32} {hh : PH} {mc ms : Nat} (hf : f_X7_sumBefore h a0 v1 = some (r, hh, mc, ms)) : zMt l D dA b0 gs yX7_sumBefore cX7_sumBefore 5 (some .int) 2 81 [.ref a0, .int v1] h (evI r) hh mc ms := by
  unfold f_X7_sumBefore at hf
  refine zMt.of (by decide) (Nat.le_of_ble_eq_true rfl) ?_
  intro p e s m args below meth c hc hr hin hn ls hl
  have hl : lv_has ls 5 [(0, .ref a0), (1, .int v1)] := hl
  have hq : 0 + mc = mc ∧ 0 + ms = ms := ⟨Nat.zero_add _, Nat.zero_add _⟩
  have hx := hc.x
  have hb := hc.b
  refine lv_iconst (v := (0 : Int32)) hx hb dX7_sumBefore_0 (by decide) ?_
  refine lv_istore_n (i := 2) (lv' := [(2, .int (0 : Int32)), (0, .ref a0), (1, .int v1)]) hx hb dX7_sumBefore_1 rfl hl (by decide) rfl (fun ls hl => ?_)
  refine lv_aload_n (x := a0) hx hb dX7_sumBefore_2 rfl (lv_at hl 1 rfl) ?_
  refine zr_gP hc hn (ci := 6) rfl rfl in_X7 1 (by decide) q871 (fun _ h => h) (fun _ _ _ => rfl) hf dX7_sumBefore_3 (fun x101 hf => ?_)
  refine zr_astore_n (x := x101) (i := 3) (lv' := [(3, va_rf x101), (2, .int (0 : Int32)), (0, .ref a0), (1, .int v1)]) hx hb dX7_sumBefore_6 rfl hl (by decide) rfl (fun ls hl => ?_)
  refine lv_bipush (v := (8 : Int32)) hx hb dX7_sumBefore_7 (by decide) ?_
  refine lv_istore (lv' := [(4, .int (8 : Int32)), (3, va_rf x101), (2, .int (0 : Int32)), (0, .ref a0), (1, .int v1)]) hx hb dX7_sumBefore_9 hl (by decide) (by simp [zcat_rf, zcat_i, zcat_l, zcat_d, zcat_r, zcat_n] <;> rfl) (fun ls hl => ?_)
  exact m_X7_sumBefore_b11 hc hr hin zFU h v1 (0 : Int32) x101 (8 : Int32) _ _ _ _ _ _ hf hq hn _ (lv_sub hl [4, 2, 1, 0] rfl)
theorem hd_X7_search : yX7_search.cls ≠ "java/lang/invoke/MethodHandle" ∧ yX7_search.cls ≠ "java/lang/invoke/VarHandle" ∧ (parseMethodDescriptor yX7_search.desc).map (fun d => d.parameters.length) = some 1 := by decide +kernel
def f_X7_search (h : PH) (a0 : Nat) (v1 : Int32) : ZR Nat :=
  zno h 10 5 fun a101 h102 =>
  zcl (f_X12_init h102 a101 a0 v1) fun _ h104 =>
  zret a101 h104
set_option maxHeartbeats 4000000 in
set_option maxRecDepth 100000 in
theorem m_X7_search (l : Launch) (D : va_G) (dA : Nat → ClassId) (b0 : Nat) (gs : Nat → Option Nat) (h : PH) (a0 : Nat) (v1 : Int32) {r : Nat} {hh : PH} {mc ms : Nat} (hf : f_X7_search h a0 v1 = some (r, hh, mc, ms)) : zMt l D dA b0 gs yX7_search cX7_search 2 (some (.object "CountedSkipLists$SkipList$Search")) 4 126 [.ref a0, .int v1] h (evN r) hh mc ms := by
  unfold f_X7_search at hf
  refine zMt.of (by decide) (Nat.le_of_ble_eq_true rfl) ?_
  intro p e s m args below meth c hc hr hin hn ls hl
  have hl : lv_has ls 2 [(0, .ref a0), (1, .int v1)] := hl
  have hq : 0 + mc = mc ∧ 0 + ms = ms := ⟨Nat.zero_add _, Nat.zero_add _⟩
  have hx := hc.x
  have hb := hc.b
  refine zr_new hc hn hq (ci := 10) rfl rfl in_X12 tyX12_ok q1358 q1359 q124 (zd_X12) hf dX7_search_0 (fun a101 h102 H cells slots C9 S9 hf hq hn => ?_)
  refine lv_dup hx hb dX7_search_3 rfl ?_
  refine lv_aload_n (x := a0) hx hb dX7_search_4 rfl (lv_at hl 0 rfl) ?_
  refine lv_iload_n hx hb dX7_search_5 rfl (lv_at hl 1 rfl) ?_
  refine zr_cI (As := [.ref a0, .int v1]) (rest := [.ref a101]) hc hn hq rfl hd_X12_init (lw_meth q1362) q1360 q1361 q124 (Nat.le_of_ble_eq_true rfl) (Nat.le_of_ble_eq_true rfl) (fun _ _ _ _ q => m_X12_init l D dA b0 gs h102 a101 a0 v1 q) hf dX7_search_6 hl.1 rfl rfl (zroom (Nat.le_of_ble_eq_true rfl)) (fun x103 h104 H locs cells slots C9 S9 hf hq hn => ?_)
  obtain ⟨rfl, rfl, rfl, rfl⟩ := zret_i hf
  exact zr_nret hc hn hr (Or.inl ⟨_, rfl⟩) hq (fun _ _ _ _ q => q) dX7_search_9
theorem hd_X7_fill : yX7_fill.cls ≠ "java/lang/invoke/MethodHandle" ∧ yX7_fill.cls ≠ "java/lang/invoke/VarHandle" ∧ (parseMethodDescriptor yX7_fill.desc).map (fun d => d.parameters.length) = some 3 := by decide +kernel
def f_X7_fill_b3 : Nat → PH → Nat → Option Nat → Option Nat → ZR Unit
  | 0 => fun _ _ _ _ => none
  | n + 1 => fun h a0 o3 o4 =>
    if o4 = o3 then
      (zret () h)
    else
      (znn o4 fun a101 =>
      zgI h a101 7 0 fun x102 =>
      zgI h a101 7 4 fun x103 =>
      zgI h a101 7 5 fun x104 =>
      zrc h a0 6 <| zcl (f_X7_append h a0 x102 x103 x104) fun _ h106 =>
      zrc h106 a101 7 <| zcl (f_X8_next h106 a101 (1 : Int32)) fun x107 h108 =>
      f_X7_fill_b3 n h108 a0 o3 x107)
def f_X7_fill (h : PH) (a0 : Nat) (a1 : Nat) (o2 : Option Nat) (o3 : Option Nat) : ZR Unit :=
  f_X7_fill_b3 zFU h a0 o3 o2
set_option maxHeartbeats 4000000 in
set_option maxRecDepth 100000 in
theorem m_X7_fill_b3 {p : Program} {l : Launch} {e : Env} {s : State} {m : MethodId} {args : Array Value} {below : List Frame} {meth : Method} {c : Code} {D : va_G} {dA : Nat → ClassId} {b0 : Nat} {gs : Nat → Option Nat} (hc : zC D dA b0 gs yX7_fill.cls cX7_fill 5 p c s m args meth) (hr : meth.sig.returnType = none) (hin : meth.name = yX7_fill.name) {r : Unit} {hh : PH} {mc ms : Nat} : ∀ (n : Nat) (h : PH) (a0 : Nat) (o3 : Option Nat) (o4 : Option Nat) (C9 S9 : Nat) (H : Heap) (locs : List Loc) (cells slots : Nat), f_X7_fill_b3 n h a0 o3 o4 = some (r, hh, C9, S9) → cells + C9 = mc ∧ slots + S9 = ms → zM D dA b0 gs s h H locs → ∀ ls : Array Slot, lv_has ls 5 [(0, .ref a0), (3, va_rf o3), (4, va_rf o4)] → W p l e ({ frames := 3, cells := mc, slots := ms, locals := 110 } : Room) s m args below meth c H locs cells slots (MQ below (zQ D dA b0 gs (evU r) hh) args s mc ms (zA b0)) (F0 m 3 ls []) := by
  have hx := hc.x
  have hb := hc.b
  intro n
  induction n with
  | zero =>
    intro h a0 o3 o4 C9 S9 H locs cells slots hf hq hn ls hl
    cases hf
  | succ n ih =>
    intro h a0 o3 o4 C9 S9 H locs cells slots hf hq hn ls hl
    unfold f_X7_fill_b3 at hf
    refine zr_aload (x := o4) hx hb dX7_fill_3 (lv_at hl 2 rfl) ?_
    refine zr_aload_n (x := o3) hx hb dX7_fill_5 rfl (lv_at hl 1 rfl) ?_
    refine lv_acmp_eq (rx := o4) (ry := o3) (tgt := 39) hx hb dX7_fill_6 (by decide) (fun c9 => ?_) (fun c9 => ?_)
    · have hf := zif_t c9 hf
      obtain ⟨rfl, rfl, rfl, rfl⟩ := zret_i hf
      exact zr_vret hc hn hr hq (fun _ _ _ _ q => q) dX7_fill_39
    · have hf := zif_f c9 hf
      refine lv_aload_n (x := a0) hx hb dX7_fill_9 rfl (lv_at hl 0 rfl) ?_
      refine zr_aload (x := o4) hx hb dX7_fill_10 (lv_at hl 2 rfl) ?_
      obtain ⟨a101, e9, hf9⟩ := znn_i hf
      subst e9
      have hf := hf9
      clear hf9
      refine zr_gIN hc hn (ci := 7) rfl rfl in_X8 0 (by decide) q834 (fun _ h => h) (fun _ _ _ => rfl) hf dX7_fill_12 (fun x102 hf => ?_)
      refine lv_aload (x := a101) hx hb dX7_fill_15 (lv_at hl 2 rfl) ?_
      refine zr_gIN hc hn (ci := 7) rfl rfl in_X8 4 (by decide) q845 (fun _ h => h) (fun _ _ _ => rfl) hf dX7_fill_17 (fun x103 hf => ?_)
      refine lv_aload (x := a101) hx hb dX7_fill_20 (lv_at hl 2 rfl) ?_
      refine zr_gIN hc hn (ci := 7) rfl rfl in_X8 5 (by decide) q849 (fun _ h => h) (fun _ _ _ => rfl) hf dX7_fill_22 (fun x104 hf => ?_)
      refine zr_cVU (As := [.int x102, .int x103, .int x104]) (rest := []) hc hn hq (ci := 6) rfl ⟨rfl, hd_X7_append⟩ (lw_V q916 q900 q901 q115 q902) (Nat.le_of_ble_eq_true rfl) (Nat.le_of_ble_eq_true rfl) (fun _ _ _ _ q => m_X7_append l D dA b0 gs h a0 x102 x103 x104 q) hf dX7_fill_25 hl.1 rfl rfl (zroom (Nat.le_of_ble_eq_true rfl)) (fun x105 h106 H locs cells slots C9 S9 hf hq hn => ?_)
      refine lv_aload (x := a101) hx hb dX7_fill_28 (lv_at hl 2 rfl) ?_
      refine lv_iconst (v := (1 : Int32)) hx hb dX7_fill_30 (by decide) ?_
      refine zr_cVP (As := [.int (1 : Int32)]) (rest := []) hc hn hq (ci := 7) rfl ⟨rfl, hd_X8_next⟩ (lw_V q904 q905 q906 q116 q907) (Nat.le_of_ble_eq_true rfl) (Nat.le_of_ble_eq_true rfl) (fun _ _ _ _ q => m_X8_next l D dA b0 gs h106 a101 (1 : Int32) q) hf dX7_fill_31 hl.1 rfl rfl (zroom (Nat.le_of_ble_eq_true rfl)) (fun x107 h108 H locs cells slots C9 S9 hf hq hn => ?_)
      refine zr_astore (x := x107) (lv' := [(4, va_rf x107), (0, .ref a0), (3, va_rf o3)]) hx hb dX7_fill_34 hl (by decide) (by simp [zcat_rf, zcat_i, zcat_l, zcat_d, zcat_r, zcat_n] <;> rfl) (fun ls hl => ?_)
      refine lv_goto (tgt := 3) hx hb dX7_fill_36 (by decide) ?_
      exact ih h108 a0 o3 x107 _ _ _ _ _ _ hf hq hn _ (lv_sub hl [1, 2, 0] rfl)
set_option maxHeartbeats 4000000 in
set_option maxRecDepth 100000 in
theorem m_X7_fill (l : Launch) (D : va_G) (dA : Nat → ClassId) (b0 : Nat) (gs : Nat → Option Nat) (h : PH) (a0 : Nat) (a1 : Nat) (o2 : Option Nat) (o3 : Option Nat) {r : Unit} {hh : PH} {mc ms : Nat} (hf : f_X7_fill h a0 a1 o2 o3 = some (r, hh, mc, ms)) : zMt l D dA b0 gs yX7_fill cX7_fill 5 none 3 110 [.ref a0, .ref a1, va_rf o2, va_rf o3] h (evU r) hh mc ms := by
  unfold f_X7_fill at hf
  refine zMt.of (by decide) (by simp [lg_sl, zcat_rf, zcat_i, zcat_l, zcat_d, zcat_r, zcat_n]) ?_
  intro p e s m args below meth c hc hr hin hn ls hl
  have hl : lv_has ls 5 [(0, .ref a0), (1, .ref a1), (2, va_rf o2), (3, va_rf o3)] := by simpa [lv_args, zcat_rf, zcat_i, zcat_l, zcat_d, zcat_r, zcat_n] using hl
  have hq : 0 + mc = mc ∧ 0 + ms = ms := ⟨Nat.zero_add _, Nat.zero_add _⟩
  have hx := hc.x
  have hb := hc.b
  refine zr_aload_n (x := o2) hx hb dX7_fill_0 rfl (lv_at hl 2 rfl) ?_
  refine zr_astore (x := o2) (lv' := [(4, va_rf o2), (0, .ref a0), (1, .ref a1), (2, va_rf o2), (3, va_rf o3)]) hx hb dX7_fill_1 hl (by decide) (by simp [zcat_rf, zcat_i, zcat_l, zcat_d, zcat_r, zcat_n] <;> rfl) (fun ls hl => ?_)
  exact m_X7_fill_b3 hc hr hin zFU h a0 o3 o2 _ _ _ _ _ _ hf hq hn _ (lv_sub hl [1, 4, 0] rfl)
theorem hd_X7_copy : yX7_copy.cls ≠ "java/lang/invoke/MethodHandle" ∧ yX7_copy.cls ≠ "java/lang/invoke/VarHandle" ∧ (parseMethodDescriptor yX7_copy.desc).map (fun d => d.parameters.length) = some 0 := by decide +kernel
def f_X7_copy (h : PH) (a0 : Nat) : ZR Nat :=
  zno h 6 4 fun a101 h102 =>
  zgP h102 a0 6 0 fun x103 =>
  znn x103 fun a104 =>
  zcl (f_X7_init h102 a101 a104) fun _ h106 =>
  zgP h106 a0 6 1 fun x107 =>
  znn x107 fun a108 =>
  zrc h106 a108 7 <| zcl (f_X8_next h106 a108 (1 : Int32)) fun x109 h110 =>
  zrc h110 a101 6 <| zcl (f_X7_fill h110 a101 a0 x109 (none : Option Nat)) fun _ h112 =>
  zret a101 h112
set_option maxHeartbeats 4000000 in
set_option maxRecDepth 100000 in
theorem m_X7_copy (l : Launch) (D : va_G) (dA : Nat → ClassId) (b0 : Nat) (gs : Nat → Option Nat) (h : PH) (a0 : Nat) {r : Nat} {hh : PH} {mc ms : Nat} (hf : f_X7_copy h a0 = some (r, hh, mc, ms)) : zMt l D dA b0 gs yX7_copy cX7_copy 2 (some (.object "CountedSkipLists$SkipList")) 4 134 [.ref a0] h (evN r) hh mc ms := by
  unfold f_X7_copy at hf
  refine zMt.of (by decide) (Nat.le_of_ble_eq_true rfl) ?_
  intro p e s m args below meth c hc hr hin hn ls hl
  have hl : lv_has ls 2 [(0, .ref a0)] := hl
  have hq : 0 + mc = mc ∧ 0 + ms = ms := ⟨Nat.zero_add _, Nat.zero_add _⟩
  have hx := hc.x
  have hb := hc.b
  refine zr_new hc hn hq (ci := 6) rfl rfl in_X7 tyX7_ok q912 q813 q115 (zd_X7) hf dX7_copy_0 (fun a101 h102 H cells slots C9 S9 hf hq hn => ?_)
  refine lv_dup hx hb dX7_copy_3 rfl ?_
  refine lv_aload_n (x := a0) hx hb dX7_copy_4 rfl (lv_at hl 0 rfl) ?_
  refine zr_gP hc hn (ci := 6) rfl rfl in_X7 0 (by decide) q868 (fun _ h => h) (fun _ _ _ => rfl) hf dX7_copy_5 (fun x103 hf => ?_)
  obtain ⟨a104, e9, hf9⟩ := znn_i hf
  subst e9
  have hf := hf9
  clear hf9
  refine zr_cI (As := [.ref a104]) (rest := [.ref a101]) hc hn hq rfl hd_X7_init (lw_meth q816) q913 q815 q115 (Nat.le_of_ble_eq_true rfl) (Nat.le_of_ble_eq_true rfl) (fun _ _ _ _ q => m_X7_init l D dA b0 gs h102 a101 a104 q) hf dX7_copy_8 hl.1 rfl rfl (zroom (Nat.le_of_ble_eq_true rfl)) (fun x105 h106 H locs cells slots C9 S9 hf hq hn => ?_)
  refine lv_astore_n (x := a101) (i := 1) (lv' := [(1, .ref a101), (0, .ref a0)]) hx hb dX7_copy_11 rfl hl (by decide) rfl (fun ls hl => ?_)
  refine lv_aload_n (x := a101) hx hb dX7_copy_12 rfl (lv_at hl 0 rfl) ?_
  refine lv_aload_n (x := a0) hx hb dX7_copy_13 rfl (lv_at hl 1 rfl) ?_
  refine lv_aload_n (x := a0) hx hb dX7_copy_14 rfl (lv_at hl 1 rfl) ?_
  refine zr_gP hc hn (ci := 6) rfl rfl in_X7 1 (by decide) q871 (fun _ h => h) (fun _ _ _ => rfl) hf dX7_copy_15 (fun x107 hf => ?_)
  refine lv_iconst (v := (1 : Int32)) hx hb dX7_copy_18 (by decide) ?_
  obtain ⟨a108, e9, hf9⟩ := znn_i hf
  subst e9
  have hf := hf9
  clear hf9
  refine zr_cVP (As := [.int (1 : Int32)]) (rest := [.ref a0, .ref a101]) hc hn hq (ci := 7) rfl ⟨rfl, hd_X8_next⟩ (lw_V q904 q905 q906 q116 q907) (Nat.le_of_ble_eq_true rfl) (Nat.le_of_ble_eq_true rfl) (fun _ _ _ _ q => m_X8_next l D dA b0 gs h106 a108 (1 : Int32) q) hf dX7_copy_19 hl.1 rfl rfl (zroom (Nat.le_of_ble_eq_true rfl)) (fun x109 h110 H locs cells slots C9 S9 hf hq hn => ?_)
  refine lv_null hx hb dX7_copy_22 ?_
  refine zr_cVU (As := [.ref a0, va_rf x109, .null]) (rest := []) hc hn hq (ci := 6) rfl ⟨rfl, hd_X7_fill⟩ (lw_V q1751 q1752 q1753 q115 q1754) (Nat.le_of_ble_eq_true rfl) (Nat.le_of_ble_eq_true rfl) (fun _ _ _ _ q => m_X7_fill l D dA b0 gs h110 a101 a0 x109 (none : Option Nat) q) hf dX7_copy_23 hl.1 rfl rfl (zroom (Nat.le_of_ble_eq_true rfl)) (fun x111 h112 H locs cells slots C9 S9 hf hq hn => ?_)
  refine lv_aload_n (x := a101) hx hb dX7_copy_26 rfl (lv_at hl 0 rfl) ?_
  obtain ⟨rfl, rfl, rfl, rfl⟩ := zret_i hf
  exact zr_nret hc hn hr (Or.inl ⟨_, rfl⟩) hq (fun _ _ _ _ q => q) dX7_copy_27
theorem hd_X7_insert : yX7_insert.cls ≠ "java/lang/invoke/MethodHandle" ∧ yX7_insert.cls ≠ "java/lang/invoke/VarHandle" ∧ (parseMethodDescriptor yX7_insert.desc).map (fun d => d.parameters.length) = some 2 := by decide +kernel
def f_X7_insert_b99 : Nat → PH → Nat → Int32 → Int32 → Int32 → ZR Int32
  | 0 => fun _ _ _ _ _ => none
  | n + 1 => fun h a0 v2 v3 v6 =>
    if (8 : Int32) < v6 then
      (zgI h a0 6 3 fun x101 =>
      znm (x101 + (1 : Int32)) fun x102 =>
      zpI h a0 6 3 x102 fun h103 =>
      zret v3 h103)
    else
      (zgP h a0 6 2 fun x104 =>
      znn x104 fun a105 =>
      zaP h a105 5 v6 fun x106 =>
      znn x106 fun a107 =>
      zgP h a107 7 2 fun x108 =>
      znn x108 fun a109 =>
      zaI h a109 0 v6 fun x110 =>
      znm (x110 + (1 : Int32)) fun x111 =>
      zsI h a109 0 v6 x111 fun h112 =>
      zgP h112 a0 6 2 fun x113 =>
      znn x113 fun a114 =>
      zaP h112 a114 5 v6 fun x115 =>
      znn x115 fun a116 =>
      zgP h112 a116 7 3 fun x117 =>
      znn x117 fun a118 =>
      zaI h112 a118 0 v6 fun x119 =>
      znm (x119 + v2) fun x120 =>
      zsI h112 a118 0 v6 x120 fun h121 =>
      znm (v6 + (1 : Int32)) fun x122 =>
      f_X7_insert_b99 n h121 a0 v2 v3 x122)
def f_X7_insert_b96 (h : PH) (a0 : Nat) (v2 : Int32) (v3 : Int32) : ZR Int32 :=
  f_X7_insert_b99 zFU h a0 v2 v3 (2 : Int32)
def f_X7_insert_b66 (h : PH) (a0 : Nat) (v2 : Int32) (v3 : Int32) (a4 : Nat) (a5 : Nat) (s0 : Nat) (s1 : Int32) (s2 : Option Nat) (s3 : Int32) (s4 : Int32) : ZR Int32 :=
  zrc h s0 7 <| zcl (f_X8_link h s0 s1 s2 s3 s4) fun _ h102 =>
  zrc h102 a5 7 <| zcl (f_X8_link h102 a5 (1 : Int32) (some a4) (1 : Int32) v2) fun _ h104 =>
  zrc h104 a4 7 <| zcl (f_X8_next h104 a4 (1 : Int32)) fun x105 h106 =>
  znul x105
    (zgP h106 a4 7 3 fun x108 =>
    znn x108 fun a109 =>
    zsI h106 a109 0 (1 : Int32) (0 : Int32) fun h110 =>
    f_X7_insert_b96 h110 a0 v2 v3)
    (fun a107 =>
      f_X7_insert_b96 h106 a0 v2 v3)
def f_X7_insert (h : PH) (a0 : Nat) (v1 : Int32) (v2 : Int32) : ZR Int32 :=
  zrc h a0 6 <| zcl (f_X7_rank h a0 v1) fun x101 h102 =>
  zrc h102 a0 6 <| zcl (f_X7_findsPaths h102 a0 v1) fun _ h104 =>
  zno h104 7 6 fun a105 h106 =>
  zcl (f_X8_init_3 h106 a105 v1 v2) fun _ h108 =>
  zgP h108 a0 6 2 fun x109 =>
  znn x109 fun a110 =>
  zaP h108 a110 5 (1 : Int32) fun x111 =>
  znn x111 fun a112 =>
  zrc h108 a112 7 <| zcl (f_X8_next h108 a112 (1 : Int32)) fun x113 h114 =>
  zgP h114 a112 7 2 fun x115 =>
  znn x115 fun a116 =>
  zaI h114 a116 0 (1 : Int32) fun x117 =>
  zrc h114 a112 7 <| zcl (f_X8_next h114 a112 (1 : Int32)) fun x118 h119 =>
  znul x118
    (f_X7_insert_b66 h119 a0 v2 x101 a105 a112 a105 (1 : Int32) x113 x117 (0 : Int32))
    (fun a120 =>
      zgP h119 a112 7 3 fun x121 =>
      znn x121 fun a122 =>
      zaI h119 a122 0 (1 : Int32) fun x123 =>
      f_X7_insert_b66 h119 a0 v2 x101 a105 a112 a105 (1 : Int32) x113 x117 x123)
set_option maxHeartbeats 4000000 in
set_option maxRecDepth 100000 in
theorem m_X7_insert_b99 {p : Program} {l : Launch} {e : Env} {s : State} {m : MethodId} {args : Array Value} {below : List Frame} {meth : Method} {c : Code} {D : va_G} {dA : Nat → ClassId} {b0 : Nat} {gs : Nat → Option Nat} (hc : zC D dA b0 gs yX7_insert.cls cX7_insert 7 p c s m args meth) (hr : meth.sig.returnType = (some .int)) (hin : meth.name = yX7_insert.name) {r : Int32} {hh : PH} {mc ms : Nat} : ∀ (n : Nat) (h : PH) (a0 : Nat) (v2 : Int32) (v3 : Int32) (v6 : Int32) (C9 S9 : Nat) (H : Heap) (locs : List Loc) (cells slots : Nat), f_X7_insert_b99 n h a0 v2 v3 v6 = some (r, hh, C9, S9) → cells + C9 = mc ∧ slots + S9 = ms → zM D dA b0 gs s h H locs → ∀ ls : Array Slot, lv_has ls 7 [(0, .ref a0), (2, .int v2), (3, .int v3), (6, .int v6)] → W p l e ({ frames := 3, cells := mc, slots := ms, locals := 105 } : Room) s m args below meth c H locs cells slots (MQ below (zQ D dA b0 gs (evI r) hh) args s mc ms (zA b0)) (F0 m 99 ls []) := by
  have hx := hc.x
  have hb := hc.b
  intro n
  induction n with
  | zero =>
    intro h a0 v2 v3 v6 C9 S9 H locs cells slots hf hq hn ls hl
    cases hf
  | succ n ih =>
    intro h a0 v2 v3 v6 C9 S9 H locs cells slots hf hq hn ls hl
    unfold f_X7_insert_b99 at hf
    refine lv_iload hx hb dX7_insert_99 (lv_at hl 3 rfl) ?_
    refine lv_bipush (v := (8 : Int32)) hx hb dX7_insert_101 (by decide) ?_
    refine lv_icmp_gt (tgt := 146) hx hb dX7_insert_103 (by decide) (fun c9 => ?_) (fun c9 => ?_)
    · have hf := zif_t c9 hf
      refine lv_aload_n (x := a0) hx hb dX7_insert_146 rfl (lv_at hl 0 rfl) ?_
      refine lv_dup hx hb dX7_insert_147 rfl ?_
      refine zr_gI hc hn (ci := 6) rfl rfl in_X7 3 (by decide) q875 (fun _ h => h) (fun _ _ _ => rfl) hf dX7_insert_148 (fun x101 hf => ?_)
      refine lv_iconst (v := (1 : Int32)) hx hb dX7_insert_151 (by decide) ?_
      refine lv_iadd hx hb dX7_insert_152 ?_
      refine zr_nmI hf (fun x102 hf => ?_)
      refine zr_pI (x := x102) hc hn (ci := 6) rfl rfl in_X7 3 (by decide) tyX7 tyX7_ok nmX7 q875 (fun _ h => h) (Or.inl rfl) (fun _ _ _ => rfl) rfl rfl hf dX7_insert_153 (fun h103 H locs hf hn => ?_)
      refine lv_iload_n hx hb dX7_insert_156 rfl (lv_at hl 2 rfl) ?_
      obtain ⟨rfl, rfl, rfl, rfl⟩ := zret_i hf
      exact zr_iret hc hn hr hq (fun _ _ _ _ q => q) dX7_insert_157
    · have hf := zif_f c9 hf
      refine lv_aload_n (x := a0) hx hb dX7_insert_106 rfl (lv_at hl 0 rfl) ?_
      refine zr_gP hc hn (ci := 6) rfl rfl in_X7 2 (by decide) q874 (fun _ h => h) (fun _ _ _ => rfl) hf dX7_insert_107 (fun x104 hf => ?_)
      refine lv_iload hx hb dX7_insert_110 (lv_at hl 3 rfl) ?_
      obtain ⟨a105, e9, hf9⟩ := znn_i hf
      subst e9
      have hf := hf9
      clear hf9
      refine zr_aP (ai := 5) (by decide) hc hn hf dX7_insert_112 (fun x106 hf => ?_)
      obtain ⟨a107, e9, hf9⟩ := znn_i hf
      subst e9
      have hf := hf9
      clear hf9
      refine zr_gPN hc hn (ci := 7) rfl rfl in_X8 2 (by decide) q839 (fun _ h => h) (fun _ _ _ => rfl) hf dX7_insert_113 (fun x108 hf => ?_)
      refine lv_iload hx hb dX7_insert_116 (lv_at hl 3 rfl) ?_
      refine lv_dup2_11 hx hb dX7_insert_118 rfl (zcat_rf _) ?_
      obtain ⟨a109, e9, hf9⟩ := znn_i hf
      subst e9
      have hf := hf9
      clear hf9
      refine zr_aI0 hc hn hf dX7_insert_119 (fun x110 hf => ?_)
      refine lv_iconst (v := (1 : Int32)) hx hb dX7_insert_120 (by decide) ?_
      refine lv_iadd hx hb dX7_insert_121 ?_
      refine zr_nmI hf (fun x111 hf => ?_)
      refine zr_sI hc hn hf dX7_insert_122 (fun h112 H locs hf hn => ?_)
      refine lv_aload_n (x := a0) hx hb dX7_insert_123 rfl (lv_at hl 0 rfl) ?_
      refine zr_gP hc hn (ci := 6) rfl rfl in_X7 2 (by decide) q874 (fun _ h => h) (fun _ _ _ => rfl) hf dX7_insert_124 (fun x113 hf => ?_)
      refine lv_iload hx hb dX7_insert_127 (lv_at hl 3 rfl) ?_
      obtain ⟨a114, e9, hf9⟩ := znn_i hf
      subst e9
      have hf := hf9
      clear hf9
      refine zr_aP (ai := 5) (by decide) hc hn hf dX7_insert_129 (fun x115 hf => ?_)
      obtain ⟨a116, e9, hf9⟩ := znn_i hf
      subst e9
      have hf := hf9
      clear hf9
      refine zr_gPN hc hn (ci := 7) rfl rfl in_X8 3 (by decide) q842 (fun _ h => h) (fun _ _ _ => rfl) hf dX7_insert_130 (fun x117 hf => ?_)
      refine lv_iload hx hb dX7_insert_133 (lv_at hl 3 rfl) ?_
      refine lv_dup2_11 hx hb dX7_insert_135 rfl (zcat_rf _) ?_
      obtain ⟨a118, e9, hf9⟩ := znn_i hf
      subst e9
      have hf := hf9
      clear hf9
      refine zr_aI0 hc hn hf dX7_insert_136 (fun x119 hf => ?_)
      refine lv_iload_n hx hb dX7_insert_137 rfl (lv_at hl 1 rfl) ?_
      refine lv_iadd hx hb dX7_insert_138 ?_
      refine zr_nmI hf (fun x120 hf => ?_)
      refine zr_sI hc hn hf dX7_insert_139 (fun h121 H locs hf hn => ?_)
      obtain ⟨x122, ex122, hf⟩ := znm_i hf
      refine lv_iinc (v := x122) (lv' := [(6, .int x122), (0, .ref a0), (2, .int v2), (3, .int v3)]) hx hb dX7_insert_140 hl (k := 3) rfl (by rw [ex122]; rfl) (by decide) rfl (fun ls hl => ?_)
      refine lv_goto (tgt := 99) hx hb dX7_insert_143 (by decide) ?_
      exact ih h121 a0 v2 v3 x122 _ _ _ _ _ _ hf hq hn _ (lv_sub hl [1, 2, 3, 0] rfl)
set_option maxHeartbeats 4000000 in
set_option maxRecDepth 100000 in
theorem m_X7_insert_b96 {p : Program} {l : Launch} {e : Env} {s : State} {m : MethodId} {args : Array Value} {below : List Frame} {meth : Method} {c : Code} {D : va_G} {dA : Nat → ClassId} {b0 : Nat} {gs : Nat → Option Nat} (hc : zC D dA b0 gs yX7_insert.cls cX7_insert 7 p c s m args meth) (hr : meth.sig.returnType = (some .int)) (hin : meth.name = yX7_insert.name) {r : Int32} {hh : PH} {mc ms : Nat} : ∀ (h : PH) (a0 : Nat) (v2 : Int32) (v3 : Int32) (C9 S9 : Nat) (H : Heap) (locs : List Loc) (cells slots : Nat), f_X7_insert_b96 h a0 v2 v3 = some (r, hh, C9, S9) → cells + C9 = mc ∧ slots + S9 = ms → zM D dA b0 gs s h H locs → ∀ ls : Array Slot, lv_has ls 7 [(0, .ref a0), (2, .int v2), (3, .int v3)] → W p l e ({ frames := 3, cells := mc, slots := ms, locals := 105 } : Room) s m args below meth c H locs cells slots (MQ below (zQ D dA b0 gs (evI r) hh) args s mc ms (zA b0)) (F0 m 96 ls []) := by
  have hx := hc.x
  have hb := hc.b
  intro h a0 v2 v3 C9 S9 H locs cells slots hf hq hn ls hl
  unfold f_X7_insert_b96 at hf
  refine lv_iconst (v := (2 : Int32)) hx hb dX7_insert_96 (by decide) ?_
  refine lv_istore (lv' := [(6, .int (2 : Int32)), (0, .ref a0), (2, .int v2), (3, .int v3)]) hx hb dX7_insert_97 hl (by decide) rfl (fun ls hl => ?_)
  exact m_X7_insert_b99 hc hr hin zFU h a0 v2 v3 (2 : Int32) _ _ _ _ _ _ hf hq hn _ (lv_sub hl [1, 2, 3, 0] rfl)
set_option maxHeartbeats 4000000 in
set_option maxRecDepth 100000 in
theorem m_X7_insert_b66 {p : Program} {l : Launch} {e : Env} {s : State} {m : MethodId} {args : Array Value} {below : List Frame} {meth : Method} {c : Code} {D : va_G} {dA : Nat → ClassId} {b0 : Nat} {gs : Nat → Option Nat} (hc : zC D dA b0 gs yX7_insert.cls cX7_insert 7 p c s m args meth) (hr : meth.sig.returnType = (some .int)) (hin : meth.name = yX7_insert.name) {r : Int32} {hh : PH} {mc ms : Nat} : ∀ (h : PH) (a0 : Nat) (v2 : Int32) (v3 : Int32) (a4 : Nat) (a5 : Nat) (s0 : Nat) (s1 : Int32) (s2 : Option Nat) (s3 : Int32) (s4 : Int32) (C9 S9 : Nat) (H : Heap) (locs : List Loc) (cells slots : Nat), f_X7_insert_b66 h a0 v2 v3 a4 a5 s0 s1 s2 s3 s4 = some (r, hh, C9, S9) → cells + C9 = mc ∧ slots + S9 = ms → zM D dA b0 gs s h H locs → ∀ ls : Array Slot, lv_has ls 7 [(0, .ref a0), (2, .int v2), (3, .int v3), (4, .ref a4), (5, .ref a5)] → W p l e ({ frames := 3, cells := mc, slots := ms, locals := 105 } : Room) s m args below meth c H locs cells slots (MQ below (zQ D dA b0 gs (evI r) hh) args s mc ms (zA b0)) (F0 m 66 ls [.int s4, .int s3, va_rf s2, .int s1, .ref s0]) := by
  have hx := hc.x
  have hb := hc.b
  intro h a0 v2 v3 a4 a5 s0 s1 s2 s3 s4 C9 S9 H locs cells slots hf hq hn ls hl
  unfold f_X7_insert_b66 at hf
  refine zr_cVU (As := [.int s1, va_rf s2, .int s3, .int s4]) (rest := []) hc hn hq (ci := 7) rfl ⟨rfl, hd_X8_link⟩ (lw_V q864 q865 q866 q116 q867) (Nat.le_of_ble_eq_true rfl) (Nat.le_of_ble_eq_true rfl) (fun _ _ _ _ q => m_X8_link l D dA b0 gs h s0 s1 s2 s3 s4 q) hf dX7_insert_66 hl.1 rfl rfl (zroom (Nat.le_of_ble_eq_true rfl)) (fun x101 h102 H locs cells slots C9 S9 hf hq hn => ?_)
  refine lv_aload (x := a5) hx hb dX7_insert_69 (lv_at hl 4 rfl) ?_
  refine lv_iconst (v := (1 : Int32)) hx hb dX7_insert_71 (by decide) ?_
  refine lv_aload (x := a4) hx hb dX7_insert_72 (lv_at hl 3 rfl) ?_
  refine lv_iconst (v := (1 : Int32)) hx hb dX7_insert_74 (by decide) ?_
  refine lv_iload_n hx hb dX7_insert_75 rfl (lv_at hl 1 rfl) ?_
  refine zr_cVU (As := [.int (1 : Int32), .ref a4, .int (1 : Int32), .int v2]) (rest := []) hc hn hq (ci := 7) rfl ⟨rfl, hd_X8_link⟩ (lw_V q864 q865 q866 q116 q867) (Nat.le_of_ble_eq_true rfl) (Nat.le_of_ble_eq_true rfl) (fun _ _ _ _ q => m_X8_link l D dA b0 gs h102 a5 (1 : Int32) (some a4) (1 : Int32) v2 q) hf dX7_insert_76 hl.1 rfl rfl (zroom (Nat.le_of_ble_eq_true rfl)) (fun x103 h104 H locs cells slots C9 S9 hf hq hn => ?_)
  refine lv_aload (x := a4) hx hb dX7_insert_79 (lv_at hl 3 rfl) ?_
  refine lv_iconst (v := (1 : Int32)) hx hb dX7_insert_81 (by decide) ?_
  refine zr_cVP (As := [.int (1 : Int32)]) (rest := []) hc hn hq (ci := 7) rfl ⟨rfl, hd_X8_next⟩ (lw_V q904 q905 q906 q116 q907) (Nat.le_of_ble_eq_true rfl) (Nat.le_of_ble_eq_true rfl) (fun _ _ _ _ q => m_X8_next l D dA b0 gs h104 a4 (1 : Int32) q) hf dX7_insert_82 hl.1 rfl rfl (zroom (Nat.le_of_ble_eq_true rfl)) (fun x105 h106 H locs cells slots C9 S9 hf hq hn => ?_)
  refine zr_ifnonnull (tgt := 96) hx hb hf dX7_insert_85 (by decide) (fun e9 hf9 => ?_) (fun a107 e9 hf9 => ?_)
  · subst e9
    have hf := hf9
    clear hf9
    refine lv_aload (x := a4) hx hb dX7_insert_88 (lv_at hl 3 rfl) ?_
    refine zr_gPN hc hn (ci := 7) rfl rfl in_X8 3 (by decide) q842 (fun _ h => h) (fun _ _ _ => rfl) hf dX7_insert_90 (fun x108 hf => ?_)
    refine lv_iconst (v := (1 : Int32)) hx hb dX7_insert_93 (by decide) ?_
    refine lv_iconst (v := (0 : Int32)) hx hb dX7_insert_94 (by decide) ?_
    obtain ⟨a109, e9, hf9⟩ := znn_i hf
    subst e9
    have hf := hf9
    clear hf9
    refine zr_sI hc hn hf dX7_insert_95 (fun h110 H locs hf hn => ?_)
    exact m_X7_insert_b96 hc hr hin h110 a0 v2 v3 _ _ _ _ _ _ hf hq hn _ (lv_sub hl [0, 1, 2] rfl)
  · subst e9
    have hf := hf9
    clear hf9
    exact m_X7_insert_b96 hc hr hin h106 a0 v2 v3 _ _ _ _ _ _ hf hq hn _ (lv_sub hl [0, 1, 2] rfl)
set_option maxHeartbeats 4000000 in
set_option maxRecDepth 100000 in
theorem m_X7_insert (l : Launch) (D : va_G) (dA : Nat → ClassId) (b0 : Nat) (gs : Nat → Option Nat) (h : PH) (a0 : Nat) (v1 : Int32) (v2 : Int32) {r : Int32} {hh : PH} {mc ms : Nat} (hf : f_X7_insert h a0 v1 v2 = some (r, hh, mc, ms)) : zMt l D dA b0 gs yX7_insert cX7_insert 7 (some .int) 3 105 [.ref a0, .int v1, .int v2] h (evI r) hh mc ms := by
  unfold f_X7_insert at hf
  refine zMt.of (by decide) (Nat.le_of_ble_eq_true rfl) ?_
  intro p e s m args below meth c hc hr hin hn ls hl
  have hl : lv_has ls 7 [(0, .ref a0), (1, .int v1), (2, .int v2)] := hl
  have hq : 0 + mc = mc ∧ 0 + ms = ms := ⟨Nat.zero_add _, Nat.zero_add _⟩
  have hx := hc.x
  have hb := hc.b
  refine lv_aload_n (x := a0) hx hb dX7_insert_0 rfl (lv_at hl 0 rfl) ?_
  refine lv_iload_n hx hb dX7_insert_1 rfl (lv_at hl 1 rfl) ?_
  refine zr_cVI (As := [.int v1]) (rest := []) hc hn hq (ci := 6) rfl ⟨rfl, hd_X7_rank⟩ (lw_V q1759 q1283 q1284 q115 q1285) (Nat.le_of_ble_eq_true rfl) (Nat.le_of_ble_eq_true rfl) (fun _ _ _ _ q => m_X7_rank l D dA b0 gs h a0 v1 q) hf dX7_insert_2 hl.1 rfl rfl (zroom (Nat.le_of_ble_eq_true rfl)) (fun x101 h102 H locs cells slots C9 S9 hf hq hn => ?_)
  refine lv_istore_n (i := 3) (lv' := [(3, .int x101), (0, .ref a0), (1, .int v1), (2, .int v2)]) hx hb dX7_insert_5 rfl hl (by decide) rfl (fun ls hl => ?_)
  refine lv_aload_n (x := a0) hx hb dX7_insert_6 rfl (lv_at hl 1 rfl) ?_
  refine lv_iload_n hx hb dX7_insert_7 rfl (lv_at hl 2 rfl) ?_
  refine zr_cVU (As := [.int v1]) (rest := []) hc hn hq (ci := 6) rfl ⟨rfl, hd_X7_findsPaths⟩ (lw_V q1008 q1010 qs11 q115 q1011) (Nat.le_of_ble_eq_true rfl) (Nat.le_of_ble_eq_true rfl) (fun _ _ _ _ q => m_X7_findsPaths l D dA b0 gs h102 a0 v1 q) hf dX7_insert_8 hl.1 rfl rfl (zroom (Nat.le_of_ble_eq_true rfl)) (fun x103 h104 H locs cells slots C9 S9 hf hq hn => ?_)
  refine zr_new hc hn hq (ci := 7) rfl rfl in_X8 tyX8_ok q818 q819 q116 (zd_X8) hf dX7_insert_11 (fun a105 h106 H cells slots C9 S9 hf hq hn => ?_)
  refine lv_dup hx hb dX7_insert_14 rfl ?_
  refine lv_iload_n hx hb dX7_insert_15 rfl (lv_at hl 2 rfl) ?_
  refine lv_iload_n hx hb dX7_insert_16 rfl (lv_at hl 3 rfl) ?_
  refine zr_cI (As := [.int v1, .int v2]) (rest := [.ref a105]) hc hn hq rfl hd_X8_init_3 (lw_meth q1762) q1760 q1761 q116 (Nat.le_of_ble_eq_true rfl) (Nat.le_of_ble_eq_true rfl) (fun _ _ _ _ q => m_X8_init_3 l D dA b0 gs h106 a105 v1 v2 q) hf dX7_insert_17 hl.1 rfl rfl (zroom (Nat.le_of_ble_eq_true rfl)) (fun x107 h108 H locs cells slots C9 S9 hf hq hn => ?_)
  refine lv_astore (x := a105) (lv' := [(4, .ref a105), (3, .int x101), (0, .ref a0), (1, .int v1), (2, .int v2)]) hx hb dX7_insert_20 hl (by decide) rfl (fun ls hl => ?_)
  refine lv_aload_n (x := a0) hx hb dX7_insert_22 rfl (lv_at hl 2 rfl) ?_
  refine zr_gP hc hn (ci := 6) rfl rfl in_X7 2 (by decide) q874 (fun _ h => h) (fun _ _ _ => rfl) hf dX7_insert_23 (fun x109 hf => ?_)
  refine lv_iconst (v := (1 : Int32)) hx hb dX7_insert_26 (by decide) ?_
  obtain ⟨a110, e9, hf9⟩ := znn_i hf
  subst e9
  have hf := hf9
  clear hf9
  refine zr_aP (ai := 5) (by decide) hc hn hf dX7_insert_27 (fun x111 hf => ?_)
  refine zr_astore (x := x111) (lv' := [(5, va_rf x111), (4, .ref a105), (3, .int x101), (0, .ref a0), (1, .int v1), (2, .int v2)]) hx hb dX7_insert_28 hl (by decide) rfl (fun ls hl => ?_)
  refine lv_aload (x := a105) hx hb dX7_insert_30 (lv_at hl 1 rfl) ?_
  refine lv_iconst (v := (1 : Int32)) hx hb dX7_insert_32 (by decide) ?_
  refine zr_aload (x := x111) hx hb dX7_insert_33 (lv_at hl 0 rfl) ?_
  refine lv_iconst (v := (1 : Int32)) hx hb dX7_insert_35 (by decide) ?_
  obtain ⟨a112, e9, hf9⟩ := znn_i hf
  subst e9
  have hf := hf9
  clear hf9
  refine zr_cVP (As := [.int (1 : Int32)]) (rest := [.int (1 : Int32), .ref a105]) hc hn hq (ci := 7) rfl ⟨rfl, hd_X8_next⟩ (lw_V q904 q905 q906 q116 q907) (Nat.le_of_ble_eq_true rfl) (Nat.le_of_ble_eq_true rfl) (fun _ _ _ _ q => m_X8_next l D dA b0 gs h108 a112 (1 : Int32) q) hf dX7_insert_36 hl.1 rfl rfl (zroom (Nat.le_of_ble_eq_true rfl)) (fun x113 h114 H locs cells slots C9 S9 hf hq hn => ?_)
  refine lv_aload (x := a112) hx hb dX7_insert_39 (lv_at hl 0 rfl) ?_
  refine zr_gPN hc hn (ci := 7) rfl rfl in_X8 2 (by decide) q839 (fun _ h => h) (fun _ _ _ => rfl) hf dX7_insert_41 (fun x115 hf => ?_)
  refine lv_iconst (v := (1 : Int32)) hx hb dX7_insert_44 (by decide) ?_
  obtain ⟨a116, e9, hf9⟩ := znn_i hf
  subst e9
  have hf := hf9
  clear hf9
  refine zr_aI0 hc hn hf dX7_insert_45 (fun x117 hf => ?_)
  refine lv_aload (x := a112) hx hb dX7_insert_46 (lv_at hl 0 rfl) ?_
  refine lv_iconst (v := (1 : Int32)) hx hb dX7_insert_48 (by decide) ?_
  refine zr_cVP (As := [.int (1 : Int32)]) (rest := [.int x117, va_rf x113, .int (1 : Int32), .ref a105]) hc hn hq (ci := 7) rfl ⟨rfl, hd_X8_next⟩ (lw_V q904 q905 q906 q116 q907) (Nat.le_of_ble_eq_true rfl) (Nat.le_of_ble_eq_true rfl) (fun _ _ _ _ q => m_X8_next l D dA b0 gs h114 a112 (1 : Int32) q) hf dX7_insert_49 hl.1 rfl rfl (zroom (Nat.le_of_ble_eq_true rfl)) (fun x118 h119 H locs cells slots C9 S9 hf hq hn => ?_)
  refine zr_ifnonnull (tgt := 59) hx hb hf dX7_insert_52 (by decide) (fun e9 hf9 => ?_) (fun a120 e9 hf9 => ?_)
  · subst e9
    have hf := hf9
    clear hf9
    refine lv_iconst (v := (0 : Int32)) hx hb dX7_insert_55 (by decide) ?_
    refine lv_goto (tgt := 66) hx hb dX7_insert_56 (by decide) ?_
    exact m_X7_insert_b66 hc hr hin h119 a0 v2 x101 a105 a112 a105 (1 : Int32) x113 x117 (0 : Int32) _ _ _ _ _ _ hf hq hn _ (lv_sub hl [3, 5, 2, 1, 0] rfl)
  · subst e9
    have hf := hf9
    clear hf9
    refine lv_aload (x := a112) hx hb dX7_insert_59 (lv_at hl 0 rfl) ?_
    refine zr_gPN hc hn (ci := 7) rfl rfl in_X8 3 (by decide) q842 (fun _ h => h) (fun _ _ _ => rfl) hf dX7_insert_61 (fun x121 hf => ?_)
    refine lv_iconst (v := (1 : Int32)) hx hb dX7_insert_64 (by decide) ?_
    obtain ⟨a122, e9, hf9⟩ := znn_i hf
    subst e9
    have hf := hf9
    clear hf9
    refine zr_aI0 hc hn hf dX7_insert_65 (fun x123 hf => ?_)
    exact m_X7_insert_b66 hc hr hin h119 a0 v2 x101 a105 a112 a105 (1 : Int32) x113 x117 x123 _ _ _ _ _ _ hf hq hn _ (lv_sub hl [3, 5, 2, 1, 0] rfl)
theorem hd_X7_remove : yX7_remove.cls ≠ "java/lang/invoke/MethodHandle" ∧ yX7_remove.cls ≠ "java/lang/invoke/VarHandle" ∧ (parseMethodDescriptor yX7_remove.desc).map (fun d => d.parameters.length) = some 1 := by decide +kernel
def f_X7_remove_b111 : Nat → PH → Nat → Nat → Option Nat → Int32 → Int32 → ZR Unit
  | 0 => fun _ _ _ _ _ _ => none
  | n + 1 => fun h a0 a1 o2 v3 v4 =>
    if (8 : Int32) < v4 then
      (zrc h a1 7 <| zcl (f_X8_next h a1 (1 : Int32)) fun x101 h102 =>
      zgP h102 a1 7 2 fun x103 =>
      znn x103 fun a104 =>
      zaI h102 a104 0 (1 : Int32) fun x105 =>
      zgP h102 a1 7 3 fun x106 =>
      znn x106 fun a107 =>
      zaI h102 a107 0 (1 : Int32) fun x108 =>
      znn o2 fun a109 =>
      zrc h102 a109 7 <| zcl (f_X8_link h102 a109 (1 : Int32) x101 x105 x108) fun _ h111 =>
      if v3 ≤ (1 : Int32) then
        (zgI h111 a0 6 3 fun x112 =>
        znm (x112 - (1 : Int32)) fun x113 =>
        zpI h111 a0 6 3 x113 fun h114 =>
        zret () h114)
      else
        (zpI h111 a109 7 5 v3 fun h115 =>
        zgI h115 a0 6 3 fun x116 =>
        znm (x116 - (1 : Int32)) fun x117 =>
        zpI h115 a0 6 3 x117 fun h118 =>
        zret () h118))
    else
      (zgP h a0 6 2 fun x119 =>
      znn x119 fun a120 =>
      zaP h a120 5 v4 fun x121 =>
      znn x121 fun a122 =>
      zgP h a122 7 2 fun x123 =>
      znn x123 fun a124 =>
      zaI h a124 0 v4 fun x125 =>
      znm (x125 - (1 : Int32)) fun x126 =>
      zsI h a124 0 v4 x126 fun h127 =>
      zgP h127 a0 6 2 fun x128 =>
      znn x128 fun a129 =>
      zaP h127 a129 5 v4 fun x130 =>
      znn x130 fun a131 =>
      zgP h127 a131 7 3 fun x132 =>
      znn x132 fun a133 =>
      zaI h127 a133 0 v4 fun x134 =>
      zgI h127 a1 7 4 fun x135 =>
      znm (x134 - x135) fun x136 =>
      zsI h127 a133 0 v4 x136 fun h137 =>
      znm (v4 + (1 : Int32)) fun x138 =>
      f_X7_remove_b111 n h137 a0 a1 o2 v3 x138)
def f_X7_remove_b23 : Nat → PH → Nat → Nat → Option Nat → Int32 → Int32 → ZR Unit
  | 0 => fun _ _ _ _ _ _ => none
  | n + 1 => fun h a0 a1 o2 v3 v4 =>
    if v4 ≤ (1 : Int32) then
      (znm (v3 + (1 : Int32)) fun x101 =>
      f_X7_remove_b111 zFU h a0 a1 o2 v3 x101)
    else
      (zgP h a0 6 2 fun x102 =>
      znn x102 fun a103 =>
      zaP h a103 5 v4 fun x104 =>
      znn x104 fun a105 =>
      zgP h a105 7 2 fun x106 =>
      znn x106 fun a107 =>
      zaI h a107 0 v4 fun x108 =>
      znm (x108 - (1 : Int32)) fun x109 =>
      zsI h a107 0 v4 x109 fun h110 =>
      zgP h110 a105 7 3 fun x111 =>
      znn x111 fun a112 =>
      zaI h110 a112 0 v4 fun x113 =>
      zgI h110 a1 7 4 fun x114 =>
      znm (x113 - x114) fun x115 =>
      zsI h110 a112 0 v4 x115 fun h116 =>
      zrc h116 a1 7 <| zcl (f_X8_next h116 a1 v4) fun x117 h118 =>
      zgP h118 a1 7 2 fun x119 =>
      znn x119 fun a120 =>
      zaI h118 a120 0 v4 fun x121 =>
      zgP h118 a1 7 3 fun x122 =>
      znn x122 fun a123 =>
      zaI h118 a123 0 v4 fun x124 =>
      znn o2 fun a125 =>
      zrc h118 a125 7 <| zcl (f_X8_link h118 a125 v4 x117 x121 x124) fun _ h127 =>
      zgP h127 a105 7 1 fun x128 =>
      znn x128 fun a129 =>
      zsO h127 a129 5 v4 (some a125) fun h130 =>
      znm (v4 + (-1 : Int32)) fun x131 =>
      f_X7_remove_b23 n h130 a0 a1 (some a125) v3 x131)
def f_X7_remove (h : PH) (a0 : Nat) (a1 : Nat) : ZR Unit :=
  zgI h a1 7 0 fun x101 =>
  zrc h a0 6 <| zcl (f_X7_findsPaths h a0 x101) fun _ h103 =>
  zgP h103 a0 6 2 fun x104 =>
  znn x104 fun a105 =>
  zaP h103 a105 5 (1 : Int32) fun x106 =>
  zgI h103 a1 7 5 fun x107 =>
  f_X7_remove_b23 zFU h103 a0 a1 x106 x107 x107
set_option maxHeartbeats 4000000 in
set_option maxRecDepth 100000 in
theorem m_X7_remove_b111 {p : Program} {l : Launch} {e : Env} {s : State} {m : MethodId} {args : Array Value} {below : List Frame} {meth : Method} {c : Code} {D : va_G} {dA : Nat → ClassId} {b0 : Nat} {gs : Nat → Option Nat} (hc : zC D dA b0 gs yX7_remove.cls cX7_remove 6 p c s m args meth) (hr : meth.sig.returnType = none) (hin : meth.name = yX7_remove.name) {r : Unit} {hh : PH} {mc ms : Nat} : ∀ (n : Nat) (h : PH) (a0 : Nat) (a1 : Nat) (o2 : Option Nat) (v3 : Int32) (v4 : Int32) (C9 S9 : Nat) (H : Heap) (locs : List Loc) (cells slots : Nat), f_X7_remove_b111 n h a0 a1 o2 v3 v4 = some (r, hh, C9, S9) → cells + C9 = mc ∧ slots + S9 = ms → zM D dA b0 gs s h H locs → ∀ ls : Array Slot, lv_has ls 6 [(0, .ref a0), (1, .ref a1), (2, va_rf o2), (3, .int v3), (4, .int v4)] → W p l e ({ frames := 3, cells := mc, slots := ms, locals := 104 } : Room) s m args below meth c H locs cells slots (MQ below (zQ D dA b0 gs (evU r) hh) args s mc ms (zA b0)) (F0 m 111 ls []) := by
  have hx := hc.x
  have hb := hc.b
  intro n
  induction n with
  | zero =>
    intro h a0 a1 o2 v3 v4 C9 S9 H locs cells slots hf hq hn ls hl
    cases hf
  | succ n ih =>
    intro h a0 a1 o2 v3 v4 C9 S9 H locs cells slots hf hq hn ls hl
    unfold f_X7_remove_b111 at hf
    refine lv_iload hx hb dX7_remove_111 (lv_at hl 4 rfl) ?_
    refine lv_bipush (v := (8 : Int32)) hx hb dX7_remove_113 (by decide) ?_
    refine lv_icmp_gt (tgt := 161) hx hb dX7_remove_115 (by decide) (fun c9 => ?_) (fun c9 => ?_)
    · have hf := zif_t c9 hf
      refine zr_aload_n (x := o2) hx hb dX7_remove_161 rfl (lv_at hl 2 rfl) ?_
      refine lv_iconst (v := (1 : Int32)) hx hb dX7_remove_162 (by decide) ?_
      refine lv_aload_n (x := a1) hx hb dX7_remove_163 rfl (lv_at hl 1 rfl) ?_
      refine lv_iconst (v := (1 : Int32)) hx hb dX7_remove_164 (by decide) ?_
      refine zr_cVP (As := [.int (1 : Int32)]) (rest := [.int (1 : Int32), va_rf o2]) hc hn hq (ci := 7) rfl ⟨rfl, hd_X8_next⟩ (lw_V q904 q905 q906 q116 q907) (Nat.le_of_ble_eq_true rfl) (Nat.le_of_ble_eq_true rfl) (fun _ _ _ _ q => m_X8_next l D dA b0 gs h a1 (1 : Int32) q) hf dX7_remove_165 hl.1 rfl rfl (zroom (Nat.le_of_ble_eq_true rfl)) (fun x101 h102 H locs cells slots C9 S9 hf hq hn => ?_)
      refine lv_aload_n (x := a1) hx hb dX7_remove_168 rfl (lv_at hl 1 rfl) ?_
      refine zr_gPN hc hn (ci := 7) rfl rfl in_X8 2 (by decide) q839 (fun _ h => h) (fun _ _ _ => rfl) hf dX7_remove_169 (fun x103 hf => ?_)
      refine lv_iconst (v := (1 : Int32)) hx hb dX7_remove_172 (by decide) ?_
      obtain ⟨a104, e9, hf9⟩ := znn_i hf
      subst e9
      have hf := hf9
      clear hf9
      refine zr_aI0 hc hn hf dX7_remove_173 (fun x105 hf => ?_)
      refine lv_aload_n (x := a1) hx hb dX7_remove_174 rfl (lv_at hl 1 rfl) ?_
      refine zr_gPN hc hn (ci := 7) rfl rfl in_X8 3 (by decide) q842 (fun _ h => h) (fun _ _ _ => rfl) hf dX7_remove_175 (fun x106 hf => ?_)
      refine lv_iconst (v := (1 : Int32)) hx hb dX7_remove_178 (by decide) ?_
      obtain ⟨a107, e9, hf9⟩ := znn_i hf
      subst e9
      have hf := hf9
      clear hf9
      refine zr_aI0 hc hn hf dX7_remove_179 (fun x108 hf => ?_)
      obtain ⟨a109, e9, hf9⟩ := znn_i hf
      subst e9
      have hf := hf9
      clear hf9
      refine zr_cVU (As := [.int (1 : Int32), va_rf x101, .int x105, .int x108]) (rest := []) hc hn hq (ci := 7) rfl ⟨rfl, hd_X8_link⟩ (lw_V q864 q865 q866 q116 q867) (Nat.le_of_ble_eq_true rfl) (Nat.le_of_ble_eq_true rfl) (fun _ _ _ _ q => m_X8_link l D dA b0 gs h102 a109 (1 : Int32) x101 x105 x108 q) hf dX7_remove_180 hl.1 rfl rfl (zroom (Nat.le_of_ble_eq_true rfl)) (fun x110 h111 H locs cells slots C9 S9 hf hq hn => ?_)
      refine lv_iload_n hx hb dX7_remove_183 rfl (lv_at hl 3 rfl) ?_
      refine lv_iconst (v := (1 : Int32)) hx hb dX7_remove_184 (by decide) ?_
      refine lv_icmp_le (tgt := 193) hx hb dX7_remove_185 (by decide) (fun c9 => ?_) (fun c9 => ?_)
      · have hf := zif_t c9 hf
        refine lv_aload_n (x := a0) hx hb dX7_remove_193 rfl (lv_at hl 0 rfl) ?_
        refine lv_dup hx hb dX7_remove_194 rfl ?_
        refine zr_gI hc hn (ci := 6) rfl rfl in_X7 3 (by decide) q875 (fun _ h => h) (fun _ _ _ => rfl) hf dX7_remove_195 (fun x112 hf => ?_)
        refine lv_iconst (v := (1 : Int32)) hx hb dX7_remove_198 (by decide) ?_
        refine lv_isub hx hb dX7_remove_199 ?_
        refine zr_nmI hf (fun x113 hf => ?_)
        refine zr_pI (x := x113) hc hn (ci := 6) rfl rfl in_X7 3 (by decide) tyX7 tyX7_ok nmX7 q875 (fun _ h => h) (Or.inl rfl) (fun _ _ _ => rfl) rfl rfl hf dX7_remove_200 (fun h114 H locs hf hn => ?_)
        obtain ⟨rfl, rfl, rfl, rfl⟩ := zret_i hf
        exact zr_vret hc hn hr hq (fun _ _ _ _ q => q) dX7_remove_203
      · have hf := zif_f c9 hf
        refine lv_aload_n (x := a109) hx hb dX7_remove_188 rfl (lv_at hl 2 rfl) ?_
        refine lv_iload_n hx hb dX7_remove_189 rfl (lv_at hl 3 rfl) ?_
        refine zr_pIN (x := v3) hc hn (ci := 7) rfl rfl in_X8 5 (by decide) tyX8 tyX8_ok nmX8 q849 (fun _ h => h) rfl (fun _ _ _ => rfl) rfl rfl hf dX7_remove_190 (fun h115 H locs hf hn => ?_)
        refine lv_aload_n (x := a0) hx hb dX7_remove_193 rfl (lv_at hl 0 rfl) ?_
        refine lv_dup hx hb dX7_remove_194 rfl ?_
        refine zr_gI hc hn (ci := 6) rfl rfl in_X7 3 (by decide) q875 (fun _ h => h) (fun _ _ _ => rfl) hf dX7_remove_195 (fun x116 hf => ?_)
        refine lv_iconst (v := (1 : Int32)) hx hb dX7_remove_198 (by decide) ?_
        refine lv_isub hx hb dX7_remove_199 ?_
        refine zr_nmI hf (fun x117 hf => ?_)
        refine zr_pI (x := x117) hc hn (ci := 6) rfl rfl in_X7 3 (by decide) tyX7 tyX7_ok nmX7 q875 (fun _ h => h) (Or.inl rfl) (fun _ _ _ => rfl) rfl rfl hf dX7_remove_200 (fun h118 H locs hf hn => ?_)
        obtain ⟨rfl, rfl, rfl, rfl⟩ := zret_i hf
        exact zr_vret hc hn hr hq (fun _ _ _ _ q => q) dX7_remove_203
    · have hf := zif_f c9 hf
      refine lv_aload_n (x := a0) hx hb dX7_remove_118 rfl (lv_at hl 0 rfl) ?_
      refine zr_gP hc hn (ci := 6) rfl rfl in_X7 2 (by decide) q874 (fun _ h => h) (fun _ _ _ => rfl) hf dX7_remove_119 (fun x119 hf => ?_)
      refine lv_iload hx hb dX7_remove_122 (lv_at hl 4 rfl) ?_
      obtain ⟨a120, e9, hf9⟩ := znn_i hf
      subst e9
      have hf := hf9
      clear hf9
      refine zr_aP (ai := 5) (by decide) hc hn hf dX7_remove_124 (fun x121 hf => ?_)
      obtain ⟨a122, e9, hf9⟩ := znn_i hf
      subst e9
      have hf := hf9
      clear hf9
      refine zr_gPN hc hn (ci := 7) rfl rfl in_X8 2 (by decide) q839 (fun _ h => h) (fun _ _ _ => rfl) hf dX7_remove_125 (fun x123 hf => ?_)
      refine lv_iload hx hb dX7_remove_128 (lv_at hl 4 rfl) ?_
      refine lv_dup2_11 hx hb dX7_remove_130 rfl (zcat_rf _) ?_
      obtain ⟨a124, e9, hf9⟩ := znn_i hf
      subst e9
      have hf := hf9
      clear hf9
      refine zr_aI0 hc hn hf dX7_remove_131 (fun x125 hf => ?_)
      refine lv_iconst (v := (1 : Int32)) hx hb dX7_remove_132 (by decide) ?_
      refine lv_isub hx hb dX7_remove_133 ?_
      refine zr_nmI hf (fun x126 hf => ?_)
      refine zr_sI hc hn hf dX7_remove_134 (fun h127 H locs hf hn => ?_)
      refine lv_aload_n (x := a0) hx hb dX7_remove_135 rfl (lv_at hl 0 rfl) ?_
      refine zr_gP hc hn (ci := 6) rfl rfl in_X7 2 (by decide) q874 (fun _ h => h) (fun _ _ _ => rfl) hf dX7_remove_136 (fun x128 hf => ?_)
      refine lv_iload hx hb dX7_remove_139 (lv_at hl 4 rfl) ?_
      obtain ⟨a129, e9, hf9⟩ := znn_i hf
      subst e9
      have hf := hf9
      clear hf9
      refine zr_aP (ai := 5) (by decide) hc hn hf dX7_remove_141 (fun x130 hf => ?_)
      obtain ⟨a131, e9, hf9⟩ := znn_i hf
      subst e9
      have hf := hf9
      clear hf9
      refine zr_gPN hc hn (ci := 7) rfl rfl in_X8 3 (by decide) q842 (fun _ h => h) (fun _ _ _ => rfl) hf dX7_remove_142 (fun x132 hf => ?_)
      refine lv_iload hx hb dX7_remove_145 (lv_at hl 4 rfl) ?_
      refine lv_dup2_11 hx hb dX7_remove_147 rfl (zcat_rf _) ?_
      obtain ⟨a133, e9, hf9⟩ := znn_i hf
      subst e9
      have hf := hf9
      clear hf9
      refine zr_aI0 hc hn hf dX7_remove_148 (fun x134 hf => ?_)
      refine lv_aload_n (x := a1) hx hb dX7_remove_149 rfl (lv_at hl 1 rfl) ?_
      refine zr_gIN hc hn (ci := 7) rfl rfl in_X8 4 (by decide) q845 (fun _ h => h) (fun _ _ _ => rfl) hf dX7_remove_150 (fun x135 hf => ?_)
      refine lv_isub hx hb dX7_remove_153 ?_
      refine zr_nmI hf (fun x136 hf => ?_)
      refine zr_sI hc hn hf dX7_remove_154 (fun h137 H locs hf hn => ?_)
      obtain ⟨x138, ex138, hf⟩ := znm_i hf
      refine lv_iinc (v := x138) (lv' := [(4, .int x138), (0, .ref a0), (1, .ref a1), (2, va_rf o2), (3, .int v3)]) hx hb dX7_remove_155 hl (k := 4) rfl (by rw [ex138]; rfl) (by decide) rfl (fun ls hl => ?_)
      refine lv_goto (tgt := 111) hx hb dX7_remove_158 (by decide) ?_
      exact ih h137 a0 a1 o2 v3 x138 _ _ _ _ _ _ hf hq hn _ (lv_sub hl [1, 2, 3, 4, 0] rfl)
set_option maxHeartbeats 4000000 in
set_option maxRecDepth 100000 in
theorem m_X7_remove_b23 {p : Program} {l : Launch} {e : Env} {s : State} {m : MethodId} {args : Array Value} {below : List Frame} {meth : Method} {c : Code} {D : va_G} {dA : Nat → ClassId} {b0 : Nat} {gs : Nat → Option Nat} (hc : zC D dA b0 gs yX7_remove.cls cX7_remove 6 p c s m args meth) (hr : meth.sig.returnType = none) (hin : meth.name = yX7_remove.name) {r : Unit} {hh : PH} {mc ms : Nat} : ∀ (n : Nat) (h : PH) (a0 : Nat) (a1 : Nat) (o2 : Option Nat) (v3 : Int32) (v4 : Int32) (C9 S9 : Nat) (H : Heap) (locs : List Loc) (cells slots : Nat), f_X7_remove_b23 n h a0 a1 o2 v3 v4 = some (r, hh, C9, S9) → cells + C9 = mc ∧ slots + S9 = ms → zM D dA b0 gs s h H locs → ∀ ls : Array Slot, lv_has ls 6 [(0, .ref a0), (1, .ref a1), (2, va_rf o2), (3, .int v3), (4, .int v4)] → W p l e ({ frames := 3, cells := mc, slots := ms, locals := 104 } : Room) s m args below meth c H locs cells slots (MQ below (zQ D dA b0 gs (evU r) hh) args s mc ms (zA b0)) (F0 m 23 ls []) := by
  have hx := hc.x
  have hb := hc.b
  intro n
  induction n with
  | zero =>
    intro h a0 a1 o2 v3 v4 C9 S9 H locs cells slots hf hq hn ls hl
    cases hf
  | succ n ih =>
    intro h a0 a1 o2 v3 v4 C9 S9 H locs cells slots hf hq hn ls hl
    unfold f_X7_remove_b23 at hf
    refine lv_iload hx hb dX7_remove_23 (lv_at hl 4 rfl) ?_
    refine lv_iconst (v := (1 : Int32)) hx hb dX7_remove_25 (by decide) ?_
    refine lv_icmp_le (tgt := 106) hx hb dX7_remove_26 (by decide) (fun c9 => ?_) (fun c9 => ?_)
    · have hf := zif_t c9 hf
      refine lv_iload_n hx hb dX7_remove_106 rfl (lv_at hl 3 rfl) ?_
      refine lv_iconst (v := (1 : Int32)) hx hb dX7_remove_107 (by decide) ?_
      refine lv_iadd hx hb dX7_remove_108 ?_
      refine zr_nmI hf (fun x101 hf => ?_)
      refine lv_istore (lv' := [(4, .int x101), (0, .ref a0), (1, .ref a1), (2, va_rf o2), (3, .int v3)]) hx hb dX7_remove_109 hl (by decide) rfl (fun ls hl => ?_)
      exact m_X7_remove_b111 hc hr hin zFU h a0 a1 o2 v3 x101 _ _ _ _ _ _ hf hq hn _ (lv_sub hl [1, 2, 3, 4, 0] rfl)
    · have hf := zif_f c9 hf
      refine lv_aload_n (x := a0) hx hb dX7_remove_29 rfl (lv_at hl 0 rfl) ?_
      refine zr_gP hc hn (ci := 6) rfl rfl in_X7 2 (by decide) q874 (fun _ h => h) (fun _ _ _ => rfl) hf dX7_remove_30 (fun x102 hf => ?_)
      refine lv_iload hx hb dX7_remove_33 (lv_at hl 4 rfl) ?_
      obtain ⟨a103, e9, hf9⟩ := znn_i hf
      subst e9
      have hf := hf9
      clear hf9
      refine zr_aP (ai := 5) (by decide) hc hn hf dX7_remove_35 (fun x104 hf => ?_)
      refine zr_astore (x := x104) (lv' := [(5, va_rf x104), (0, .ref a0), (1, .ref a1), (2, va_rf o2), (3, .int v3), (4, .int v4)]) hx hb dX7_remove_36 hl (by decide) rfl (fun ls hl => ?_)
      refine zr_aload (x := x104) hx hb dX7_remove_38 (lv_at hl 0 rfl) ?_
      obtain ⟨a105, e9, hf9⟩ := znn_i hf
      subst e9
      have hf := hf9
      clear hf9
      refine zr_gPN hc hn (ci := 7) rfl rfl in_X8 2 (by decide) q839 (fun _ h => h) (fun _ _ _ => rfl) hf dX7_remove_40 (fun x106 hf => ?_)
      refine lv_iload hx hb dX7_remove_43 (lv_at hl 5 rfl) ?_
      refine lv_dup2_11 hx hb dX7_remove_45 rfl (zcat_rf _) ?_
      obtain ⟨a107, e9, hf9⟩ := znn_i hf
      subst e9
      have hf := hf9
      clear hf9
      refine zr_aI0 hc hn hf dX7_remove_46 (fun x108 hf => ?_)
      refine lv_iconst (v := (1 : Int32)) hx hb dX7_remove_47 (by decide) ?_
      refine lv_isub hx hb dX7_remove_48 ?_
      refine zr_nmI hf (fun x109 hf => ?_)
      refine zr_sI hc hn hf dX7_remove_49 (fun h110 H locs hf hn => ?_)
      refine lv_aload (x := a105) hx hb dX7_remove_50 (lv_at hl 0 rfl) ?_
      refine zr_gPN hc hn (ci := 7) rfl rfl in_X8 3 (by decide) q842 (fun _ h => h) (fun _ _ _ => rfl) hf dX7_remove_52 (fun x111 hf => ?_)
      refine lv_iload hx hb dX7_remove_55 (lv_at hl 5 rfl) ?_
      refine lv_dup2_11 hx hb dX7_remove_57 rfl (zcat_rf _) ?_
      obtain ⟨a112, e9, hf9⟩ := znn_i hf
      subst e9
      have hf := hf9
      clear hf9
      refine zr_aI0 hc hn hf dX7_remove_58 (fun x113 hf => ?_)
      refine lv_aload_n (x := a1) hx hb dX7_remove_59 rfl (lv_at hl 2 rfl) ?_
      refine zr_gIN hc hn (ci := 7) rfl rfl in_X8 4 (by decide) q845 (fun _ h => h) (fun _ _ _ => rfl) hf dX7_remove_60 (fun x114 hf => ?_)
      refine lv_isub hx hb dX7_remove_63 ?_
      refine zr_nmI hf (fun x115 hf => ?_)
      refine zr_sI hc hn hf dX7_remove_64 (fun h116 H locs hf hn => ?_)
      refine zr_aload_n (x := o2) hx hb dX7_remove_65 rfl (lv_at hl 3 rfl) ?_
      refine lv_iload hx hb dX7_remove_66 (lv_at hl 5 rfl) ?_
      refine lv_aload_n (x := a1) hx hb dX7_remove_68 rfl (lv_at hl 2 rfl) ?_
      refine lv_iload hx hb dX7_remove_69 (lv_at hl 5 rfl) ?_
      refine zr_cVP (As := [.int v4]) (rest := [.int v4, va_rf o2]) hc hn hq (ci := 7) rfl ⟨rfl, hd_X8_next⟩ (lw_V q904 q905 q906 q116 q907) (Nat.le_of_ble_eq_true rfl) (Nat.le_of_ble_eq_true rfl) (fun _ _ _ _ q => m_X8_next l D dA b0 gs h116 a1 v4 q) hf dX7_remove_71 hl.1 rfl rfl (zroom (Nat.le_of_ble_eq_true rfl)) (fun x117 h118 H locs cells slots C9 S9 hf hq hn => ?_)
      refine lv_aload_n (x := a1) hx hb dX7_remove_74 rfl (lv_at hl 2 rfl) ?_
      refine zr_gPN hc hn (ci := 7) rfl rfl in_X8 2 (by decide) q839 (fun _ h => h) (fun _ _ _ => rfl) hf dX7_remove_75 (fun x119 hf => ?_)
      refine lv_iload hx hb dX7_remove_78 (lv_at hl 5 rfl) ?_
      obtain ⟨a120, e9, hf9⟩ := znn_i hf
      subst e9
      have hf := hf9
      clear hf9
      refine zr_aI0 hc hn hf dX7_remove_80 (fun x121 hf => ?_)
      refine lv_aload_n (x := a1) hx hb dX7_remove_81 rfl (lv_at hl 2 rfl) ?_
      refine zr_gPN hc hn (ci := 7) rfl rfl in_X8 3 (by decide) q842 (fun _ h => h) (fun _ _ _ => rfl) hf dX7_remove_82 (fun x122 hf => ?_)
      refine lv_iload hx hb dX7_remove_85 (lv_at hl 5 rfl) ?_
      obtain ⟨a123, e9, hf9⟩ := znn_i hf
      subst e9
      have hf := hf9
      clear hf9
      refine zr_aI0 hc hn hf dX7_remove_87 (fun x124 hf => ?_)
      obtain ⟨a125, e9, hf9⟩ := znn_i hf
      subst e9
      have hf := hf9
      clear hf9
      refine zr_cVU (As := [.int v4, va_rf x117, .int x121, .int x124]) (rest := []) hc hn hq (ci := 7) rfl ⟨rfl, hd_X8_link⟩ (lw_V q864 q865 q866 q116 q867) (Nat.le_of_ble_eq_true rfl) (Nat.le_of_ble_eq_true rfl) (fun _ _ _ _ q => m_X8_link l D dA b0 gs h118 a125 v4 x117 x121 x124 q) hf dX7_remove_88 hl.1 rfl rfl (zroom (Nat.le_of_ble_eq_true rfl)) (fun x126 h127 H locs cells slots C9 S9 hf hq hn => ?_)
      refine lv_aload (x := a105) hx hb dX7_remove_91 (lv_at hl 0 rfl) ?_
      refine zr_gPN hc hn (ci := 7) rfl rfl in_X8 1 (by decide) q837 (fun _ h => h) (fun _ _ _ => rfl) hf dX7_remove_93 (fun x128 hf => ?_)
      refine lv_iload hx hb dX7_remove_96 (lv_at hl 5 rfl) ?_
      refine lv_aload_n (x := a125) hx hb dX7_remove_98 rfl (lv_at hl 3 rfl) ?_
      obtain ⟨a129, e9, hf9⟩ := znn_i hf
      subst e9
      have hf := hf9
      clear hf9
      refine zr_sO (ai := 5) (x := (some a125)) (by decide) hc hn hf dX7_remove_99 (fun h130 H locs hf hn => ?_)
      obtain ⟨x131, ex131, hf⟩ := znm_i hf
      refine lv_iinc (v := x131) (lv' := [(4, .int x131), (5, .ref a105), (0, .ref a0), (1, .ref a1), (2, .ref a125), (3, .int v3)]) hx hb dX7_remove_100 hl (k := 5) rfl (by rw [ex131]; rfl) (by decide) rfl (fun ls hl => ?_)
      refine lv_goto (tgt := 23) hx hb dX7_remove_103 (by decide) ?_
      exact ih h130 a0 a1 (some a125) v3 x131 _ _ _ _ _ _ hf hq hn _ (lv_sub hl [2, 3, 4, 5, 0] rfl)
set_option maxHeartbeats 4000000 in
set_option maxRecDepth 100000 in
theorem m_X7_remove (l : Launch) (D : va_G) (dA : Nat → ClassId) (b0 : Nat) (gs : Nat → Option Nat) (h : PH) (a0 : Nat) (a1 : Nat) {r : Unit} {hh : PH} {mc ms : Nat} (hf : f_X7_remove h a0 a1 = some (r, hh, mc, ms)) : zMt l D dA b0 gs yX7_remove cX7_remove 6 none 3 104 [.ref a0, .ref a1] h (evU r) hh mc ms := by
  unfold f_X7_remove at hf
  refine zMt.of (by decide) (Nat.le_of_ble_eq_true rfl) ?_
  intro p e s m args below meth c hc hr hin hn ls hl
  have hl : lv_has ls 6 [(0, .ref a0), (1, .ref a1)] := hl
  have hq : 0 + mc = mc ∧ 0 + ms = ms := ⟨Nat.zero_add _, Nat.zero_add _⟩
  have hx := hc.x
  have hb := hc.b
  refine lv_aload_n (x := a0) hx hb dX7_remove_0 rfl (lv_at hl 0 rfl) ?_
  refine lv_aload_n (x := a1) hx hb dX7_remove_1 rfl (lv_at hl 1 rfl) ?_
  refine zr_gIN hc hn (ci := 7) rfl rfl in_X8 0 (by decide) q834 (fun _ h => h) (fun _ _ _ => rfl) hf dX7_remove_2 (fun x101 hf => ?_)
  refine zr_cVU (As := [.int x101]) (rest := []) hc hn hq (ci := 6) rfl ⟨rfl, hd_X7_findsPaths⟩ (lw_V q1008 q1010 qs11 q115 q1011) (Nat.le_of_ble_eq_true rfl) (Nat.le_of_ble_eq_true rfl) (fun _ _ _ _ q => m_X7_findsPaths l D dA b0 gs h a0 x101 q) hf dX7_remove_5 hl.1 rfl rfl (zroom (Nat.le_of_ble_eq_true rfl)) (fun x102 h103 H locs cells slots C9 S9 hf hq hn => ?_)
  refine lv_aload_n (x := a0) hx hb dX7_remove_8 rfl (lv_at hl 0 rfl) ?_
  refine zr_gP hc hn (ci := 6) rfl rfl in_X7 2 (by decide) q874 (fun _ h => h) (fun _ _ _ => rfl) hf dX7_remove_9 (fun x104 hf => ?_)
  refine lv_iconst (v := (1 : Int32)) hx hb dX7_remove_12 (by decide) ?_
  obtain ⟨a105, e9, hf9⟩ := znn_i hf
  subst e9
  have hf := hf9
  clear hf9
  refine zr_aP (ai := 5) (by decide) hc hn hf dX7_remove_13 (fun x106 hf => ?_)
  refine zr_astore_n (x := x106) (i := 2) (lv' := [(2, va_rf x106), (0, .ref a0), (1, .ref a1)]) hx hb dX7_remove_14 rfl hl (by decide) rfl (fun ls hl => ?_)
  refine lv_aload_n (x := a1) hx hb dX7_remove_15 rfl (lv_at hl 2 rfl) ?_
  refine zr_gIN hc hn (ci := 7) rfl rfl in_X8 5 (by decide) q849 (fun _ h => h) (fun _ _ _ => rfl) hf dX7_remove_16 (fun x107 hf => ?_)
  refine lv_istore_n (i := 3) (lv' := [(3, .int x107), (2, va_rf x106), (0, .ref a0), (1, .ref a1)]) hx hb dX7_remove_19 rfl hl (by decide) (by simp [zcat_rf, zcat_i, zcat_l, zcat_d, zcat_r, zcat_n] <;> rfl) (fun ls hl => ?_)
  refine lv_iload_n hx hb dX7_remove_20 rfl (lv_at hl 0 rfl) ?_
  refine lv_istore (lv' := [(4, .int x107), (3, .int x107), (2, va_rf x106), (0, .ref a0), (1, .ref a1)]) hx hb dX7_remove_21 hl (by decide) rfl (fun ls hl => ?_)
  exact m_X7_remove_b23 hc hr hin zFU h103 a0 a1 x106 x107 x107 _ _ _ _ _ _ hf hq hn _ (lv_sub hl [3, 4, 2, 1, 0] rfl)
theorem hd_X7_init_2 : yX7_init_2.cls ≠ "java/lang/invoke/MethodHandle" ∧ yX7_init_2.cls ≠ "java/lang/invoke/VarHandle" ∧ (parseMethodDescriptor yX7_init_2.desc).map (fun d => d.parameters.length) = some 0 := by decide +kernel
def f_X7_init_2 (h : PH) (a0 : Nat) : ZR Unit :=
  znm (zS h 23) fun x101 =>
  znn x101 fun a102 =>
  zcl (f_X7_init h a0 a102) fun _ h104 =>
  zret () h104
set_option maxHeartbeats 4000000 in
set_option maxRecDepth 100000 in
theorem m_X7_init_2 (l : Launch) (D : va_G) (dA : Nat → ClassId) (b0 : Nat) (gs : Nat → Option Nat) (h : PH) (a0 : Nat) {r : Unit} {hh : PH} {mc ms : Nat} (hf : f_X7_init_2 h a0 = some (r, hh, mc, ms)) : zMt l D dA b0 gs yX7_init_2 cX7_init_2 1 none 4 125 [.ref a0] h (evU r) hh mc ms := by
  unfold f_X7_init_2 at hf
  refine zMt.of (by decide) (Nat.le_of_ble_eq_true rfl) ?_
  intro p e s m args below meth c hc hr hin hn ls hl
  have hl : lv_has ls 1 [(0, .ref a0)] := hl
  have hq : 0 + mc = mc ∧ 0 + ms = ms := ⟨Nat.zero_add _, Nat.zero_add _⟩
  have hx := hc.x
  have hb := hc.b
  refine lv_aload_n (x := a0) hx hb dX7_init_2_0 rfl (lv_at hl 0 rfl) ?_
  refine zr_lds (k := 23) hc hn rfl q1940 znr_23 hf dX7_init_2_1 (fun x101 hf => ?_)
  obtain ⟨a102, e9, hf9⟩ := znn_i hf
  subst e9
  have hf := hf9
  clear hf9
  refine zr_cI (As := [.ref a102]) (rest := []) hc hn hq rfl hd_X7_init (lw_meth q816) q913 q815 q115 (Nat.le_of_ble_eq_true rfl) (Nat.le_of_ble_eq_true rfl) (fun _ _ _ _ q => m_X7_init l D dA b0 gs h a0 a102 q) hf dX7_init_2_3 hl.1 rfl rfl (zroom (Nat.le_of_ble_eq_true rfl)) (fun x103 h104 H locs cells slots C9 S9 hf hq hn => ?_)
  obtain ⟨rfl, rfl, rfl, rfl⟩ := zret_i hf
  exact zr_vret hc hn hr hq (fun _ _ _ _ q => q) dX7_init_2_6
theorem hd_X7_setValue : yX7_setValue.cls ≠ "java/lang/invoke/MethodHandle" ∧ yX7_setValue.cls ≠ "java/lang/invoke/VarHandle" ∧ (parseMethodDescriptor yX7_setValue.desc).map (fun d => d.parameters.length) = some 2 := by decide +kernel
def f_X7_setValue_b10 : Nat → PH → Nat → Nat → Int32 → Int32 → ZR Unit
  | 0 => fun _ _ _ _ _ => none
  | n + 1 => fun h a0 a1 v2 v3 =>
    if (8 : Int32) < v3 then
      (zpI h a1 7 4 v2 fun h101 =>
      zret () h101)
    else
      (zgP h a0 6 2 fun x102 =>
      znn x102 fun a103 =>
      zaP h a103 5 v3 fun x104 =>
      znn x104 fun a105 =>
      zgP h a105 7 3 fun x106 =>
      znn x106 fun a107 =>
      zaI h a107 0 v3 fun x108 =>
      zgI h a1 7 4 fun x109 =>
      znm (v2 - x109) fun x110 =>
      znm (x108 + x110) fun x111 =>
      zsI h a107 0 v3 x111 fun h112 =>
      znm (v3 + (1 : Int32)) fun x113 =>
      f_X7_setValue_b10 n h112 a0 a1 v2 x113)
def f_X7_setValue (h : PH) (a0 : Nat) (a1 : Nat) (v2 : Int32) : ZR Unit :=
  zgI h a1 7 0 fun x101 =>
  zrc h a0 6 <| zcl (f_X7_findsPaths h a0 x101) fun _ h103 =>
  f_X7_setValue_b10 zFU h103 a0 a1 v2 (1 : Int32)
set_option maxHeartbeats 4000000 in
set_option maxRecDepth 100000 in
theorem m_X7_setValue_b10 {p : Program} {l : Launch} {e : Env} {s : State} {m : MethodId} {args : Array Value} {below : List Frame} {meth : Method} {c : Code} {D : va_G} {dA : Nat → ClassId} {b0 : Nat} {gs : Nat → Option Nat} (hc : zC D dA b0 gs yX7_setValue.cls cX7_setValue 4 p c s m args meth) (hr : meth.sig.returnType = none) (hin : meth.name = yX7_setValue.name) {r : Unit} {hh : PH} {mc ms : Nat} : ∀ (n : Nat) (h : PH) (a0 : Nat) (a1 : Nat) (v2 : Int32) (v3 : Int32) (C9 S9 : Nat) (H : Heap) (locs : List Loc) (cells slots : Nat), f_X7_setValue_b10 n h a0 a1 v2 v3 = some (r, hh, C9, S9) → cells + C9 = mc ∧ slots + S9 = ms → zM D dA b0 gs s h H locs → ∀ ls : Array Slot, lv_has ls 4 [(0, .ref a0), (1, .ref a1), (2, .int v2), (3, .int v3)] → W p l e ({ frames := 3, cells := mc, slots := ms, locals := 104 } : Room) s m args below meth c H locs cells slots (MQ below (zQ D dA b0 gs (evU r) hh) args s mc ms (zA b0)) (F0 m 10 ls []) := by
  have hx := hc.x
  have hb := hc.b
  intro n
  induction n with
  | zero =>
    intro h a0 a1 v2 v3 C9 S9 H locs cells slots hf hq hn ls hl
    cases hf
  | succ n ih =>
    intro h a0 a1 v2 v3 C9 S9 H locs cells slots hf hq hn ls hl
    unfold f_X7_setValue_b10 at hf
    refine lv_iload_n hx hb dX7_setValue_10 rfl (lv_at hl 3 rfl) ?_
    refine lv_bipush (v := (8 : Int32)) hx hb dX7_setValue_11 (by decide) ?_
    refine lv_icmp_gt (tgt := 42) hx hb dX7_setValue_13 (by decide) (fun c9 => ?_) (fun c9 => ?_)
    · have hf := zif_t c9 hf
      refine lv_aload_n (x := a1) hx hb dX7_setValue_42 rfl (lv_at hl 1 rfl) ?_
      refine lv_iload_n hx hb dX7_setValue_43 rfl (lv_at hl 2 rfl) ?_
      refine zr_pIN (x := v2) hc hn (ci := 7) rfl rfl in_X8 4 (by decide) tyX8 tyX8_ok nmX8 q845 (fun _ h => h) rfl (fun _ _ _ => rfl) rfl rfl hf dX7_setValue_44 (fun h101 H locs hf hn => ?_)
      obtain ⟨rfl, rfl, rfl, rfl⟩ := zret_i hf
      exact zr_vret hc hn hr hq (fun _ _ _ _ q => q) dX7_setValue_47
    · have hf := zif_f c9 hf
      refine lv_aload_n (x := a0) hx hb dX7_setValue_16 rfl (lv_at hl 0 rfl) ?_
      refine zr_gP hc hn (ci := 6) rfl rfl in_X7 2 (by decide) q874 (fun _ h => h) (fun _ _ _ => rfl) hf dX7_setValue_17 (fun x102 hf => ?_)
      refine lv_iload_n hx hb dX7_setValue_20 rfl (lv_at hl 3 rfl) ?_
      obtain ⟨a103, e9, hf9⟩ := znn_i hf
      subst e9
      have hf := hf9
      clear hf9
      refine zr_aP (ai := 5) (by decide) hc hn hf dX7_setValue_21 (fun x104 hf => ?_)
      obtain ⟨a105, e9, hf9⟩ := znn_i hf
      subst e9
      have hf := hf9
      clear hf9
      refine zr_gPN hc hn (ci := 7) rfl rfl in_X8 3 (by decide) q842 (fun _ h => h) (fun _ _ _ => rfl) hf dX7_setValue_22 (fun x106 hf => ?_)
      refine lv_iload_n hx hb dX7_setValue_25 rfl (lv_at hl 3 rfl) ?_
      refine lv_dup2_11 hx hb dX7_setValue_26 rfl (zcat_rf _) ?_
      obtain ⟨a107, e9, hf9⟩ := znn_i hf
      subst e9
      have hf := hf9
      clear hf9
      refine zr_aI0 hc hn hf dX7_setValue_27 (fun x108 hf => ?_)
      refine lv_iload_n hx hb dX7_setValue_28 rfl (lv_at hl 2 rfl) ?_
      refine lv_aload_n (x := a1) hx hb dX7_setValue_29 rfl (lv_at hl 1 rfl) ?_
      refine zr_gIN hc hn (ci := 7) rfl rfl in_X8 4 (by decide) q845 (fun _ h => h) (fun _ _ _ => rfl) hf dX7_setValue_30 (fun x109 hf => ?_)
      refine lv_isub hx hb dX7_setValue_33 ?_
      refine zr_nmI hf (fun x110 hf => ?_)
      refine lv_iadd hx hb dX7_setValue_34 ?_
      refine zr_nmI hf (fun x111 hf => ?_)
      refine zr_sI hc hn hf dX7_setValue_35 (fun h112 H locs hf hn => ?_)
      obtain ⟨x113, ex113, hf⟩ := znm_i hf
      refine lv_iinc (v := x113) (lv' := [(3, .int x113), (0, .ref a0), (1, .ref a1), (2, .int v2)]) hx hb dX7_setValue_36 hl (k := 3) rfl (by rw [ex113]; rfl) (by decide) rfl (fun ls hl => ?_)
      refine lv_goto (tgt := 10) hx hb dX7_setValue_39 (by decide) ?_
      exact ih h112 a0 a1 v2 x113 _ _ _ _ _ _ hf hq hn _ (lv_sub hl [1, 2, 3, 0] rfl)
set_option maxHeartbeats 4000000 in
set_option maxRecDepth 100000 in
theorem m_X7_setValue (l : Launch) (D : va_G) (dA : Nat → ClassId) (b0 : Nat) (gs : Nat → Option Nat) (h : PH) (a0 : Nat) (a1 : Nat) (v2 : Int32) {r : Unit} {hh : PH} {mc ms : Nat} (hf : f_X7_setValue h a0 a1 v2 = some (r, hh, mc, ms)) : zMt l D dA b0 gs yX7_setValue cX7_setValue 4 none 3 104 [.ref a0, .ref a1, .int v2] h (evU r) hh mc ms := by
  unfold f_X7_setValue at hf
  refine zMt.of (by decide) (Nat.le_of_ble_eq_true rfl) ?_
  intro p e s m args below meth c hc hr hin hn ls hl
  have hl : lv_has ls 4 [(0, .ref a0), (1, .ref a1), (2, .int v2)] := hl
  have hq : 0 + mc = mc ∧ 0 + ms = ms := ⟨Nat.zero_add _, Nat.zero_add _⟩
  have hx := hc.x
  have hb := hc.b
  refine lv_aload_n (x := a0) hx hb dX7_setValue_0 rfl (lv_at hl 0 rfl) ?_
  refine lv_aload_n (x := a1) hx hb dX7_setValue_1 rfl (lv_at hl 1 rfl) ?_
  refine zr_gIN hc hn (ci := 7) rfl rfl in_X8 0 (by decide) q834 (fun _ h => h) (fun _ _ _ => rfl) hf dX7_setValue_2 (fun x101 hf => ?_)
  refine zr_cVU (As := [.int x101]) (rest := []) hc hn hq (ci := 6) rfl ⟨rfl, hd_X7_findsPaths⟩ (lw_V q1008 q1010 qs11 q115 q1011) (Nat.le_of_ble_eq_true rfl) (Nat.le_of_ble_eq_true rfl) (fun _ _ _ _ q => m_X7_findsPaths l D dA b0 gs h a0 x101 q) hf dX7_setValue_5 hl.1 rfl rfl (zroom (Nat.le_of_ble_eq_true rfl)) (fun x102 h103 H locs cells slots C9 S9 hf hq hn => ?_)
  refine lv_iconst (v := (1 : Int32)) hx hb dX7_setValue_8 (by decide) ?_
  refine lv_istore_n (i := 3) (lv' := [(3, .int (1 : Int32)), (0, .ref a0), (1, .ref a1), (2, .int v2)]) hx hb dX7_setValue_9 rfl hl (by decide) rfl (fun ls hl => ?_)
  exact m_X7_setValue_b10 hc hr hin zFU h103 a0 a1 v2 (1 : Int32) _ _ _ _ _ _ hf hq hn _ (lv_sub hl [1, 2, 3, 0] rfl)
