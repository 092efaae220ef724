/-! 26.jdk (written by gen/mods.py) -/
set_option maxRecDepth 100000
theorem hd_J0_init : yJ0_init.cls ≠ "java/lang/invoke/MethodHandle" ∧ yJ0_init.cls ≠ "java/lang/invoke/VarHandle" ∧ (parseMethodDescriptor yJ0_init.desc).map (fun d => d.parameters.length) = some 0 := by decide +kernel
def f_J0_init (h : PH) (a0 : Nat) : ZR Unit :=
  zret () h
set_option maxHeartbeats 4000000 in
set_option maxRecDepth 100000 in
theorem m_J0_init (l : Launch) (D : va_G) (dA : Nat → ClassId) (b0 : Nat) (gs : Nat → Option Nat) (h : PH) (a0 : Nat) {r : Unit} {hh : PH} {mc ms : Nat} (hf : f_J0_init h a0 = some (r, hh, mc, ms)) : zMt l D dA b0 gs yJ0_init cJ0_init 1 none 1 60 [.ref a0] h (evU r) hh mc ms := by
  unfold f_J0_init at hf
  refine zMt.of (by decide) (Nat.le_of_ble_eq_true rfl) ?_
  intro p e s m args below meth c hc hr hin hn ls hl
  have hl : lv_has ls 1 [(0, .ref a0)] := hl
  have hq : 0 + mc = mc ∧ 0 + ms = ms := ⟨Nat.zero_add _, Nat.zero_add _⟩
  have hx := hc.x
  have hb := hc.b
  refine lv_aload_n (x := a0) hx hb dJ0_init_0 rfl (lv_at hl 0 rfl) ?_
  refine W.objInit hx hb hc.ow (hc.ts _ q164) (hc.ts _ q137) (hc.ts _ q138) rfl (by rw [hc.ml]; exact hl.1) rfl dJ0_init_1 (Nat.le_of_ble_eq_true rfl) (zroomL (Nat.le_of_ble_eq_true rfl) (Nat.le_of_ble_eq_true rfl)) ?_
  refine W.eq (g2 := F0 m 4 ls []) rfl ?_
  obtain ⟨rfl, rfl, rfl, rfl⟩ := zret_i hf
  exact zr_vret hc hn hr hq (fun _ _ _ _ q => q) dJ0_init_4
theorem hd_J1_init : yJ1_init.cls ≠ "java/lang/invoke/MethodHandle" ∧ yJ1_init.cls ≠ "java/lang/invoke/VarHandle" ∧ (parseMethodDescriptor yJ1_init.desc).map (fun d => d.parameters.length) = some 0 := by decide +kernel
def f_J1_init (h : PH) (a0 : Nat) : ZR Unit :=
  zcl (f_J0_init h a0) fun _ h102 =>
  zpI h102 a0 12 0 (0 : Int32) fun h103 =>
  zret () h103
set_option maxHeartbeats 4000000 in
set_option maxRecDepth 100000 in
theorem m_J1_init (l : Launch) (D : va_G) (dA : Nat → ClassId) (b0 : Nat) (gs : Nat → Option Nat) (h : PH) (a0 : Nat) {r : Unit} {hh : PH} {mc ms : Nat} (hf : f_J1_init h a0 = some (r, hh, mc, ms)) : zMt l D dA b0 gs yJ1_init cJ1_init 1 none 2 80 [.ref a0] h (evU r) hh mc ms := by
  unfold f_J1_init at hf
  refine zMt.of (by decide) (Nat.le_of_ble_eq_true rfl) ?_
  intro p e s m args below meth c hc hr hin hn ls hl
  have hl : lv_has ls 1 [(0, .ref a0)] := hl
  have hq : 0 + mc = mc ∧ 0 + ms = ms := ⟨Nat.zero_add _, Nat.zero_add _⟩
  have hx := hc.x
  have hb := hc.b
  refine lv_aload_n (x := a0) hx hb dJ1_init_0 rfl (lv_at hl 0 rfl) ?_
  refine zr_cI (As := []) (rest := []) hc hn hq rfl hd_J0_init (lw_meth q163) q161 q162 q87 (Nat.le_of_ble_eq_true rfl) (Nat.le_of_ble_eq_true rfl) (fun _ _ _ _ q => m_J0_init l D dA b0 gs h a0 q) hf dJ1_init_1 hl.1 rfl rfl (zroom (Nat.le_of_ble_eq_true rfl)) (fun x101 h102 H locs cells slots C9 S9 hf hq hn => ?_)
  refine lv_aload_n (x := a0) hx hb dJ1_init_4 rfl (lv_at hl 0 rfl) ?_
  refine lv_iconst (v := (0 : Int32)) hx hb dJ1_init_5 (by decide) ?_
  refine zr_pI (x := (0 : Int32)) hc hn (ci := 12) rfl rfl in_J2 0 (by decide) tyJ2 tyJ2_ok nmJ2 q169 (fun _ h => h) (Or.inl rfl) (fun _ _ _ => rfl) rfl rfl hf dJ1_init_6 (fun h103 H locs hf hn => ?_)
  obtain ⟨rfl, rfl, rfl, rfl⟩ := zret_i hf
  exact zr_vret hc hn hr hq (fun _ _ _ _ q => q) dJ1_init_9
theorem hd_J19_checkFromIndexSize : yJ19_checkFromIndexSize.cls ≠ "java/lang/invoke/MethodHandle" ∧ yJ19_checkFromIndexSize.cls ≠ "java/lang/invoke/VarHandle" ∧ (parseMethodDescriptor yJ19_checkFromIndexSize.desc).map (fun d => d.parameters.length) = some 4 := by decide +kernel
def f_J19_checkFromIndexSize (h : PH) (v0 : Int32) (v1 : Int32) (v2 : Int32) (a3 : Nat) : ZR Int32 :=
  znm (v2 ||| v0) fun x101 =>
  znm (x101 ||| v1) fun x102 =>
  if x102 < 0 then
    (none)
  else
    (znm (v2 - v0) fun x103 =>
    if v1 ≤ x103 then
      (zret v0 h)
    else
      (none))
set_option maxHeartbeats 4000000 in
set_option maxRecDepth 100000 in
theorem m_J19_checkFromIndexSize (l : Launch) (D : va_G) (dA : Nat → ClassId) (b0 : Nat) (gs : Nat → Option Nat) (h : PH) (v0 : Int32) (v1 : Int32) (v2 : Int32) (a3 : Nat) {r : Int32} {hh : PH} {mc ms : Nat} (hf : f_J19_checkFromIndexSize h v0 v1 v2 a3 = some (r, hh, mc, ms)) : zMt l D dA b0 gs yJ19_checkFromIndexSize cJ19_checkFromIndexSize 4 (some .int) 1 60 [.int v0, .int v1, .int v2, .ref a3] h (evI r) hh mc ms := by
  unfold f_J19_checkFromIndexSize at hf
  refine zMt.of (by decide) (Nat.le_of_ble_eq_true rfl) ?_
  intro p e s m args below meth c hc hr hin hn ls hl
  have hl : lv_has ls 4 [(0, .int v0), (1, .int v1), (2, .int v2), (3, .ref a3)] := hl
  have hq : 0 + mc = mc ∧ 0 + ms = ms := ⟨Nat.zero_add _, Nat.zero_add _⟩
  have hx := hc.x
  have hb := hc.b
  refine lv_iload_n hx hb dJ19_checkFromIndexSize_0 rfl (lv_at hl 2 rfl) ?_
  refine lv_iload_n hx hb dJ19_checkFromIndexSize_1 rfl (lv_at hl 0 rfl) ?_
  refine lv_ior hx hb dJ19_checkFromIndexSize_2 ?_
  refine zr_nmI hf (fun x101 hf => ?_)
  refine lv_iload_n hx hb dJ19_checkFromIndexSize_3 rfl (lv_at hl 1 rfl) ?_
  refine lv_ior hx hb dJ19_checkFromIndexSize_4 ?_
  refine zr_nmI hf (fun x102 hf => ?_)
  refine lv_if_lt (tgt := 15) hx hb dJ19_checkFromIndexSize_5 (by decide) (fun c9 => ?_) (fun c9 => ?_)
  · have hf := zif_t c9 hf
    refine lv_aload_n (x := a3) hx hb dJ19_checkFromIndexSize_15 rfl (lv_at hl 3 rfl) ?_
    refine lv_iload_n hx hb dJ19_checkFromIndexSize_16 rfl (lv_at hl 0 rfl) ?_
    refine lv_iload_n hx hb dJ19_checkFromIndexSize_17 rfl (lv_at hl 1 rfl) ?_
    refine lv_iload_n hx hb dJ19_checkFromIndexSize_18 rfl (lv_at hl 2 rfl) ?_
    cases hf
  · have hf := zif_f c9 hf
    refine lv_iload_n hx hb dJ19_checkFromIndexSize_8 rfl (lv_at hl 1 rfl) ?_
    refine lv_iload_n hx hb dJ19_checkFromIndexSize_9 rfl (lv_at hl 2 rfl) ?_
    refine lv_iload_n hx hb dJ19_checkFromIndexSize_10 rfl (lv_at hl 0 rfl) ?_
    refine lv_isub hx hb dJ19_checkFromIndexSize_11 ?_
    refine zr_nmI hf (fun x103 hf => ?_)
    refine lv_icmp_le (tgt := 23) hx hb dJ19_checkFromIndexSize_12 (by decide) (fun c9 => ?_) (fun c9 => ?_)
    · have hf := zif_t c9 hf
      refine lv_iload_n hx hb dJ19_checkFromIndexSize_23 rfl (lv_at hl 0 rfl) ?_
      obtain ⟨rfl, rfl, rfl, rfl⟩ := zret_i hf
      exact zr_iret hc hn hr hq (fun _ _ _ _ q => q) dJ19_checkFromIndexSize_24
    · have hf := zif_f c9 hf
      refine lv_aload_n (x := a3) hx hb dJ19_checkFromIndexSize_15 rfl (lv_at hl 3 rfl) ?_
      refine lv_iload_n hx hb dJ19_checkFromIndexSize_16 rfl (lv_at hl 0 rfl) ?_
      refine lv_iload_n hx hb dJ19_checkFromIndexSize_17 rfl (lv_at hl 1 rfl) ?_
      refine lv_iload_n hx hb dJ19_checkFromIndexSize_18 rfl (lv_at hl 2 rfl) ?_
      cases hf
theorem hd_J19_checkIndex : yJ19_checkIndex.cls ≠ "java/lang/invoke/MethodHandle" ∧ yJ19_checkIndex.cls ≠ "java/lang/invoke/VarHandle" ∧ (parseMethodDescriptor yJ19_checkIndex.desc).map (fun d => d.parameters.length) = some 3 := by decide +kernel
def f_J19_checkIndex (h : PH) (v0 : Int32) (v1 : Int32) (o2 : Option Nat) : ZR Int32 :=
  if v0 < 0 then
    (none)
  else
    (if v0 < v1 then
      (zret v0 h)
    else
      (none))
set_option maxHeartbeats 4000000 in
set_option maxRecDepth 100000 in
theorem m_J19_checkIndex (l : Launch) (D : va_G) (dA : Nat → ClassId) (b0 : Nat) (gs : Nat → Option Nat) (h : PH) (v0 : Int32) (v1 : Int32) (o2 : Option Nat) {r : Int32} {hh : PH} {mc ms : Nat} (hf : f_J19_checkIndex h v0 v1 o2 = some (r, hh, mc, ms)) : zMt l D dA b0 gs yJ19_checkIndex cJ19_checkIndex 3 (some .int) 1 60 [.int v0, .int v1, va_rf o2] h (evI r) hh mc ms := by
  unfold f_J19_checkIndex at hf
  refine zMt.of (by decide) (by simp [lg_sl, zcat_rf, zcat_i, zcat_l, zcat_d, zcat_r, zcat_n]) ?_
  intro p e s m args below meth c hc hr hin hn ls hl
  have hl : lv_has ls 3 [(0, .int v0), (1, .int v1), (2, va_rf o2)] := by simpa [lv_args, zcat_rf, zcat_i, zcat_l, zcat_d, zcat_r, zcat_n] using hl
  have hq : 0 + mc = mc ∧ 0 + ms = ms := ⟨Nat.zero_add _, Nat.zero_add _⟩
  have hx := hc.x
  have hb := hc.b
  refine lv_iload_n hx hb dJ19_checkIndex_0 rfl (lv_at hl 0 rfl) ?_
  refine lv_if_lt (tgt := 9) hx hb dJ19_checkIndex_1 (by decide) (fun c9 => ?_) (fun c9 => ?_)
  · have hf := zif_t c9 hf
    cases hf
  · have hf := zif_f c9 hf
    refine lv_iload_n hx hb dJ19_checkIndex_4 rfl (lv_at hl 0 rfl) ?_
    refine lv_iload_n hx hb dJ19_checkIndex_5 rfl (lv_at hl 1 rfl) ?_
    refine lv_icmp_lt (tgt := 16) hx hb dJ19_checkIndex_6 (by decide) (fun c9 => ?_) (fun c9 => ?_)
    · have hf := zif_t c9 hf
      refine lv_iload_n hx hb dJ19_checkIndex_16 rfl (lv_at hl 0 rfl) ?_
      obtain ⟨rfl, rfl, rfl, rfl⟩ := zret_i hf
      exact zr_iret hc hn hr hq (fun _ _ _ _ q => q) dJ19_checkIndex_17
    · have hf := zif_f c9 hf
      cases hf
theorem hd_J12_getValue : yJ12_getValue.cls ≠ "java/lang/invoke/MethodHandle" ∧ yJ12_getValue.cls ≠ "java/lang/invoke/VarHandle" ∧ (parseMethodDescriptor yJ12_getValue.desc).map (fun d => d.parameters.length) = some 0 := by decide +kernel
def f_J12_getValue (h : PH) (a0 : Nat) : ZR (Option Nat) :=
  zgP h a0 15 0 fun x101 =>
  zret x101 h
set_option maxHeartbeats 4000000 in
set_option maxRecDepth 100000 in
theorem m_J12_getValue (l : Launch) (D : va_G) (dA : Nat → ClassId) (b0 : Nat) (gs : Nat → Option Nat) (h : PH) (a0 : Nat) {r : (Option Nat)} {hh : PH} {mc ms : Nat} (hf : f_J12_getValue h a0 = some (r, hh, mc, ms)) : zMt l D dA b0 gs yJ12_getValue cJ12_getValue 1 (some (.array .byte)) 1 60 [.ref a0] h (evP r) hh mc ms := by
  unfold f_J12_getValue at hf
  refine zMt.of (by decide) (Nat.le_of_ble_eq_true rfl) ?_
  intro p e s m args below meth c hc hr hin hn ls hl
  have hl : lv_has ls 1 [(0, .ref a0)] := hl
  have hq : 0 + mc = mc ∧ 0 + ms = ms := ⟨Nat.zero_add _, Nat.zero_add _⟩
  have hx := hc.x
  have hb := hc.b
  refine lv_aload_n (x := a0) hx hb dJ12_getValue_0 rfl (lv_at hl 0 rfl) ?_
  refine zr_gP hc hn (ci := 15) rfl rfl in_J13 0 (by decide) q458 (fun _ h => h) (fun _ _ _ => rfl) hf dJ12_getValue_1 (fun x101 hf => ?_)
  obtain ⟨rfl, rfl, rfl, rfl⟩ := zret_i hf
  exact zr_aret (x := x101) hc hn hr (Or.inr ⟨_, rfl⟩) hq (fun _ _ _ _ q => q) dJ12_getValue_4
theorem hd_J12_length : yJ12_length.cls ≠ "java/lang/invoke/MethodHandle" ∧ yJ12_length.cls ≠ "java/lang/invoke/VarHandle" ∧ (parseMethodDescriptor yJ12_length.desc).map (fun d => d.parameters.length) = some 0 := by decide +kernel
def f_J12_length (h : PH) (a0 : Nat) : ZR Int32 :=
  zgI h a0 15 3 fun x101 =>
  zret x101 h
set_option maxHeartbeats 4000000 in
set_option maxRecDepth 100000 in
theorem m_J12_length (l : Launch) (D : va_G) (dA : Nat → ClassId) (b0 : Nat) (gs : Nat → Option Nat) (h : PH) (a0 : Nat) {r : Int32} {hh : PH} {mc ms : Nat} (hf : f_J12_length h a0 = some (r, hh, mc, ms)) : zMt l D dA b0 gs yJ12_length cJ12_length 1 (some .int) 1 60 [.ref a0] h (evI r) hh mc ms := by
  unfold f_J12_length at hf
  refine zMt.of (by decide) (Nat.le_of_ble_eq_true rfl) ?_
  intro p e s m args below meth c hc hr hin hn ls hl
  have hl : lv_has ls 1 [(0, .ref a0)] := hl
  have hq : 0 + mc = mc ∧ 0 + ms = ms := ⟨Nat.zero_add _, Nat.zero_add _⟩
  have hx := hc.x
  have hb := hc.b
  refine lv_aload_n (x := a0) hx hb dJ12_length_0 rfl (lv_at hl 0 rfl) ?_
  refine zr_gI hc hn (ci := 15) rfl rfl in_J13 3 (by decide) q461 (fun _ h => h) (fun _ _ _ => rfl) hf dJ12_length_1 (fun x101 hf => ?_)
  obtain ⟨rfl, rfl, rfl, rfl⟩ := zret_i hf
  exact zr_iret hc hn hr hq (fun _ _ _ _ q => q) dJ12_length_4
theorem hd_J13_length : yJ13_length.cls ≠ "java/lang/invoke/MethodHandle" ∧ yJ13_length.cls ≠ "java/lang/invoke/VarHandle" ∧ (parseMethodDescriptor yJ13_length.desc).map (fun d => d.parameters.length) = some 0 := by decide +kernel
def f_J13_length (h : PH) (a0 : Nat) : ZR Int32 :=
  zrc h a0 15 <| zcl (f_J12_length h a0) fun x101 h102 =>
  zret x101 h102
set_option maxHeartbeats 4000000 in
set_option maxRecDepth 100000 in
theorem m_J13_length (l : Launch) (D : va_G) (dA : Nat → ClassId) (b0 : Nat) (gs : Nat → Option Nat) (h : PH) (a0 : Nat) {r : Int32} {hh : PH} {mc ms : Nat} (hf : f_J13_length h a0 = some (r, hh, mc, ms)) : zMt l D dA b0 gs yJ13_length cJ13_length 1 (some .int) 2 80 [.ref a0] h (evI r) hh mc ms := by
  unfold f_J13_length at hf
  refine zMt.of (by decide) (Nat.le_of_ble_eq_true rfl) ?_
  intro p e s m args below meth c hc hr hin hn ls hl
  have hl : lv_has ls 1 [(0, .ref a0)] := hl
  have hq : 0 + mc = mc ∧ 0 + ms = ms := ⟨Nat.zero_add _, Nat.zero_add _⟩
  have hx := hc.x
  have hb := hc.b
  refine lv_aload_n (x := a0) hx hb dJ13_length_0 rfl (lv_at hl 0 rfl) ?_
  refine zr_cSUI (n := 0) (As := []) (rest := []) hc hn hq (ci := 15) rfl (by decide +kernel) (lw_SU q475 q2639 q470 q476 q102 q477) (Nat.le_of_ble_eq_true rfl) (Nat.le_of_ble_eq_true rfl) (fun _ _ _ _ q => m_J12_length l D dA b0 gs h a0 q) hf dJ13_length_1 hl.1 rfl rfl (zroom (Nat.le_of_ble_eq_true rfl)) (fun x101 h102 H locs cells slots C9 S9 hf hq hn => ?_)
  obtain ⟨rfl, rfl, rfl, rfl⟩ := zret_i hf
  exact zr_iret hc hn hr hq (fun _ _ _ _ q => q) dJ13_length_4
theorem hd_J12_isLatin1 : yJ12_isLatin1.cls ≠ "java/lang/invoke/MethodHandle" ∧ yJ12_isLatin1.cls ≠ "java/lang/invoke/VarHandle" ∧ (parseMethodDescriptor yJ12_isLatin1.desc).map (fun d => d.parameters.length) = some 0 := by decide +kernel
def f_J12_isLatin1 (h : PH) (a0 : Nat) : ZR Int32 :=
  zgI h a0 15 1 fun x101 =>
  if x101 = 0 then
    (zret (1 : Int32) h)
  else
    (zret (0 : Int32) h)
set_option maxHeartbeats 4000000 in
set_option maxRecDepth 100000 in
theorem m_J12_isLatin1 (l : Launch) (D : va_G) (dA : Nat → ClassId) (b0 : Nat) (gs : Nat → Option Nat) (h : PH) (a0 : Nat) {r : Int32} {hh : PH} {mc ms : Nat} (hf : f_J12_isLatin1 h a0 = some (r, hh, mc, ms)) : zMt l D dA b0 gs yJ12_isLatin1 cJ12_isLatin1 1 (some .boolean) 1 60 [.ref a0] h (evI r) hh mc ms := by
  unfold f_J12_isLatin1 at hf
  refine zMt.of (by decide) (Nat.le_of_ble_eq_true rfl) ?_
  intro p e s m args below meth c hc hr hin hn ls hl
  have hl : lv_has ls 1 [(0, .ref a0)] := hl
  have hq : 0 + mc = mc ∧ 0 + ms = ms := ⟨Nat.zero_add _, Nat.zero_add _⟩
  have hx := hc.x
  have hb := hc.b
  refine zr_gsI hc hn (hc.stCS) q449 (fun _ h => h) dJ12_isLatin1_0 ?_
  refine lv_if_eq (tgt := 17) hx hb dJ12_isLatin1_3 (by decide) (fun c9 => ?_) (fun c9 => ?_)
  · first | exact absurd c9 (by decide) | exact absurd (by decide) c9
  · refine lv_aload_n (x := a0) hx hb dJ12_isLatin1_6 rfl (lv_at hl 0 rfl) ?_
    refine zr_gI hc hn (ci := 15) rfl rfl in_J13 1 (by decide) q459 (fun _ h => h) (fun _ _ _ => rfl) hf dJ12_isLatin1_7 (fun x101 hf => ?_)
    refine lv_if_ne (tgt := 17) hx hb dJ12_isLatin1_10 (by decide) (fun c9 => ?_) (fun c9 => ?_)
    · have hf := zif_f c9 hf
      refine lv_iconst (v := (0 : Int32)) hx hb dJ12_isLatin1_17 (by decide) ?_
      obtain ⟨rfl, rfl, rfl, rfl⟩ := zret_i hf
      exact zr_zret hc hn hr (by decide) hq (fun _ _ _ _ q => q) dJ12_isLatin1_18
    · have hf := zif_t c9 hf
      refine lv_iconst (v := (1 : Int32)) hx hb dJ12_isLatin1_13 (by decide) ?_
      refine lv_goto (tgt := 18) hx hb dJ12_isLatin1_14 (by decide) ?_
      obtain ⟨rfl, rfl, rfl, rfl⟩ := zret_i hf
      exact zr_zret hc hn hr (by decide) hq (fun _ _ _ _ q => q) dJ12_isLatin1_18
theorem hd_J12_init : yJ12_init.cls ≠ "java/lang/invoke/MethodHandle" ∧ yJ12_init.cls ≠ "java/lang/invoke/VarHandle" ∧ (parseMethodDescriptor yJ12_init.desc).map (fun d => d.parameters.length) = some 1 := by decide +kernel
def f_J12_init (h : PH) (a0 : Nat) (v1 : Int32) : ZR Unit :=
  zna h 2 v1 fun a101 h102 =>
  zpP h102 a0 15 0 (some a101) fun h103 =>
  zpI h103 a0 15 1 (0 : Int32) fun h104 =>
  zret () h104
set_option maxHeartbeats 4000000 in
set_option maxRecDepth 100000 in
theorem m_J12_init (l : Launch) (D : va_G) (dA : Nat → ClassId) (b0 : Nat) (gs : Nat → Option Nat) (h : PH) (a0 : Nat) (v1 : Int32) {r : Unit} {hh : PH} {mc ms : Nat} (hf : f_J12_init h a0 v1 = some (r, hh, mc, ms)) : zMt l D dA b0 gs yJ12_init cJ12_init 2 none 1 60 [.ref a0, .int v1] h (evU r) hh mc ms := by
  unfold f_J12_init at hf
  refine zMt.of (by decide) (Nat.le_of_ble_eq_true rfl) ?_
  intro p e s m args below meth c hc hr hin hn ls hl
  have hl : lv_has ls 2 [(0, .ref a0), (1, .int v1)] := hl
  have hq : 0 + mc = mc ∧ 0 + ms = ms := ⟨Nat.zero_add _, Nat.zero_add _⟩
  have hx := hc.x
  have hb := hc.b
  refine lv_aload_n (x := a0) hx hb dJ12_init_0 rfl (lv_at hl 0 rfl) ?_
  refine W.objInit hx hb hc.ow (hc.ts _ q448) (hc.ts _ q137) (hc.ts _ q138) rfl (by rw [hc.ml]; exact hl.1) rfl dJ12_init_1 (Nat.le_of_ble_eq_true rfl) (zroomL (Nat.le_of_ble_eq_true rfl) (Nat.le_of_ble_eq_true rfl)) ?_
  refine W.eq (g2 := F0 m 4 ls []) rfl ?_
  refine zr_gsI hc hn (hc.stCS) q449 (fun _ h => h) dJ12_init_4 ?_
  refine lv_if_eq (tgt := 25) hx hb dJ12_init_7 (by decide) (fun c9 => ?_) (fun c9 => ?_)
  · first | exact absurd c9 (by decide) | exact absurd (by decide) c9
  · refine lv_aload_n (x := a0) hx hb dJ12_init_10 rfl (lv_at hl 0 rfl) ?_
    refine lv_iload_n hx hb dJ12_init_11 rfl (lv_at hl 1 rfl) ?_
    refine zr_na2 hc hn hq q179 hf dJ12_init_12 (fun a101 h102 H cells slots C9 S9 hf hq hn => ?_)
    refine zr_pP (x := (some a101)) hc hn (ci := 15) rfl rfl in_J13 0 (by decide) tyJ13 tyJ13_ok nmJ13 q458 (fun _ h => h) (Or.inl rfl) (fun _ _ _ => rfl) (zn_rf _ (by decide)) (zf_rf _ (by decide)) hf dJ12_init_14 (fun h103 H locs hf hn => ?_)
    refine lv_aload_n (x := a0) hx hb dJ12_init_17 rfl (lv_at hl 0 rfl) ?_
    refine lv_iconst (v := (0 : Int32)) hx hb dJ12_init_18 (by decide) ?_
    refine zr_pI (x := (0 : Int32)) hc hn (ci := 15) rfl rfl in_J13 1 (by decide) tyJ13 tyJ13_ok nmJ13 q459 (fun _ h => h) (Or.inl rfl) (fun _ _ _ => rfl) (by decide) (by decide) hf dJ12_init_19 (fun h104 H locs hf hn => ?_)
    refine lv_goto (tgt := 38) hx hb dJ12_init_22 (by decide) ?_
    obtain ⟨rfl, rfl, rfl, rfl⟩ := zret_i hf
    exact zr_vret hc hn hr hq (fun _ _ _ _ q => q) dJ12_init_38
theorem hd_J13_init_2 : yJ13_init_2.cls ≠ "java/lang/invoke/MethodHandle" ∧ yJ13_init_2.cls ≠ "java/lang/invoke/VarHandle" ∧ (parseMethodDescriptor yJ13_init_2.desc).map (fun d => d.parameters.length) = some 0 := by decide +kernel
def f_J13_init_2 (h : PH) (a0 : Nat) : ZR Unit :=
  zcl (f_J12_init h a0 (16 : Int32)) fun _ h102 =>
  zret () h102
set_option maxHeartbeats 4000000 in
set_option maxRecDepth 100000 in
theorem m_J13_init_2 (l : Launch) (D : va_G) (dA : Nat → ClassId) (b0 : Nat) (gs : Nat → Option Nat) (h : PH) (a0 : Nat) {r : Unit} {hh : PH} {mc ms : Nat} (hf : f_J13_init_2 h a0 = some (r, hh, mc, ms)) : zMt l D dA b0 gs yJ13_init_2 cJ13_init_2 1 none 2 81 [.ref a0] h (evU r) hh mc ms := by
  unfold f_J13_init_2 at hf
  refine zMt.of (by decide) (Nat.le_of_ble_eq_true rfl) ?_
  intro p e s m args below meth c hc hr hin hn ls hl
  have hl : lv_has ls 1 [(0, .ref a0)] := hl
  have hq : 0 + mc = mc ∧ 0 + ms = ms := ⟨Nat.zero_add _, Nat.zero_add _⟩
  have hx := hc.x
  have hb := hc.b
  refine lv_aload_n (x := a0) hx hb dJ13_init_2_0 rfl (lv_at hl 0 rfl) ?_
  refine lv_bipush (v := (16 : Int32)) hx hb dJ13_init_2_1 (by decide) ?_
  refine zr_cI (As := [.int (16 : Int32)]) (rest := []) hc hn hq rfl hd_J12_init (lw_meth q447) q445 q446 q102 (Nat.le_of_ble_eq_true rfl) (Nat.le_of_ble_eq_true rfl) (fun _ _ _ _ q => m_J12_init l D dA b0 gs h a0 (16 : Int32) q) hf dJ13_init_2_3 hl.1 rfl rfl (zroom (Nat.le_of_ble_eq_true rfl)) (fun x101 h102 H locs cells slots C9 S9 hf hq hn => ?_)
  obtain ⟨rfl, rfl, rfl, rfl⟩ := zret_i hf
  exact zr_vret hc hn hr hq (fun _ _ _ _ q => q) dJ13_init_2_6
theorem hd_J21_stringSize : yJ21_stringSize.cls ≠ "java/lang/invoke/MethodHandle" ∧ yJ21_stringSize.cls ≠ "java/lang/invoke/VarHandle" ∧ (parseMethodDescriptor yJ21_stringSize.desc).map (fun d => d.parameters.length) = some 1 := by decide +kernel
def f_J21_stringSize_b16 : Nat → PH → Int32 → Int32 → Int32 → Int32 → ZR Int32
  | 0 => fun _ _ _ _ _ => none
  | n + 1 => fun h v0 v1 v2 v3 =>
    if (10 : Int32) ≤ v3 then
      (znm ((10 : Int32) + v1) fun x101 =>
      zret x101 h)
    else
      (if v0 ≤ v2 then
        (znm ((10 : Int32) * v2) fun x102 =>
        znm (v3 + (1 : Int32)) fun x103 =>
        f_J21_stringSize_b16 n h v0 v1 x102 x103)
      else
        (znm (v3 + v1) fun x104 =>
        zret x104 h))
def f_J21_stringSize_b11 (h : PH) (v0 : Int32) (v1 : Int32) : ZR Int32 :=
  f_J21_stringSize_b16 zFU h v0 v1 (-10 : Int32) (1 : Int32)
def f_J21_stringSize (h : PH) (v0 : Int32) : ZR Int32 :=
  if v0 < 0 then
    (f_J21_stringSize_b11 h v0 (1 : Int32))
  else
    (znm (-v0) fun x101 =>
    f_J21_stringSize_b11 h x101 (0 : Int32))
set_option maxHeartbeats 4000000 in
set_option maxRecDepth 100000 in
theorem m_J21_stringSize_b16 {p : Program} {l : Launch} {e : Env} {s : State} {m : MethodId} {args : Array Value} {below : List Frame} {meth : Method} {c : Code} {D : va_G} {dA : Nat → ClassId} {b0 : Nat} {gs : Nat → Option Nat} (hc : zC D dA b0 gs yJ21_stringSize.cls cJ21_stringSize 4 p c s m args meth) (hr : meth.sig.returnType = (some .int)) (hin : meth.name = yJ21_stringSize.name) {r : Int32} {hh : PH} {mc ms : Nat} : ∀ (n : Nat) (h : PH) (v0 : Int32) (v1 : Int32) (v2 : Int32) (v3 : Int32) (C9 S9 : Nat) (H : Heap) (locs : List Loc) (cells slots : Nat), f_J21_stringSize_b16 n h v0 v1 v2 v3 = some (r, hh, C9, S9) → cells + C9 = mc ∧ slots + S9 = ms → zM D dA b0 gs s h H locs → ∀ ls : Array Slot, lv_has ls 4 [(0, .int v0), (1, .int v1), (2, .int v2), (3, .int v3)] → W p l e ({ frames := 1, cells := mc, slots := ms, locals := 60 } : Room) s m args below meth c H locs cells slots (MQ below (zQ D dA b0 gs (evI r) hh) args s mc ms (zA b0)) (F0 m 16 ls []) := by
  have hx := hc.x
  have hb := hc.b
  intro n
  induction n with
  | zero =>
    intro h v0 v1 v2 v3 C9 S9 H locs cells slots hf hq hn ls hl
    cases hf
  | succ n ih =>
    intro h v0 v1 v2 v3 C9 S9 H locs cells slots hf hq hn ls hl
    unfold f_J21_stringSize_b16 at hf
    refine lv_iload_n hx hb dJ21_stringSize_16 rfl (lv_at hl 3 rfl) ?_
    refine lv_bipush (v := (10 : Int32)) hx hb dJ21_stringSize_17 (by decide) ?_
    refine lv_icmp_ge (tgt := 42) hx hb dJ21_stringSize_19 (by decide) (fun c9 => ?_) (fun c9 => ?_)
    · have hf := zif_t c9 hf
      refine lv_bipush (v := (10 : Int32)) hx hb dJ21_stringSize_42 (by decide) ?_
      refine lv_iload_n hx hb dJ21_stringSize_44 rfl (lv_at hl 1 rfl) ?_
      refine lv_iadd hx hb dJ21_stringSize_45 ?_
      refine zr_nmI hf (fun x101 hf => ?_)
      obtain ⟨rfl, rfl, rfl, rfl⟩ := zret_i hf
      exact zr_iret hc hn hr hq (fun _ _ _ _ q => q) dJ21_stringSize_46
    · have hf := zif_f c9 hf
      refine lv_iload_n hx hb dJ21_stringSize_22 rfl (lv_at hl 0 rfl) ?_
      refine lv_iload_n hx hb dJ21_stringSize_23 rfl (lv_at hl 2 rfl) ?_
      refine lv_icmp_le (tgt := 31) hx hb dJ21_stringSize_24 (by decide) (fun c9 => ?_) (fun c9 => ?_)
      · have hf := zif_t c9 hf
        refine lv_bipush (v := (10 : Int32)) hx hb dJ21_stringSize_31 (by decide) ?_
        refine lv_iload_n hx hb dJ21_stringSize_33 rfl (lv_at hl 2 rfl) ?_
        refine lv_imul hx hb dJ21_stringSize_34 ?_
        refine zr_nmI hf (fun x102 hf => ?_)
        refine lv_istore_n (i := 2) (lv' := [(2, .int x102), (0, .int v0), (1, .int v1), (3, .int v3)]) hx hb dJ21_stringSize_35 rfl hl (by decide) rfl (fun ls hl => ?_)
        obtain ⟨x103, ex103, hf⟩ := znm_i hf
        refine lv_iinc (v := x103) (lv' := [(3, .int x103), (2, .int x102), (0, .int v0), (1, .int v1)]) hx hb dJ21_stringSize_36 hl (k := 3) rfl (by rw [ex103]; rfl) (by decide) rfl (fun ls hl => ?_)
        refine lv_goto (tgt := 16) hx hb dJ21_stringSize_39 (by decide) ?_
        exact ih h v0 v1 x102 x103 _ _ _ _ _ _ hf hq hn _ (lv_sub hl [2, 3, 1, 0] rfl)
      · have hf := zif_f c9 hf
        refine lv_iload_n hx hb dJ21_stringSize_27 rfl (lv_at hl 3 rfl) ?_
        refine lv_iload_n hx hb dJ21_stringSize_28 rfl (lv_at hl 1 rfl) ?_
        refine lv_iadd hx hb dJ21_stringSize_29 ?_
        refine zr_nmI hf (fun x104 hf => ?_)
        obtain ⟨rfl, rfl, rfl, rfl⟩ := zret_i hf
        exact zr_iret hc hn hr hq (fun _ _ _ _ q => q) dJ21_stringSize_30
set_option maxHeartbeats 4000000 in
set_option maxRecDepth 100000 in
theorem m_J21_stringSize_b11 {p : Program} {l : Launch} {e : Env} {s : State} {m : MethodId} {args : Array Value} {below : List Frame} {meth : Method} {c : Code} {D : va_G} {dA : Nat → ClassId} {b0 : Nat} {gs : Nat → Option Nat} (hc : zC D dA b0 gs yJ21_stringSize.cls cJ21_stringSize 4 p c s m args meth) (hr : meth.sig.returnType = (some .int)) (hin : meth.name = yJ21_stringSize.name) {r : Int32} {hh : PH} {mc ms : Nat} : ∀ (h : PH) (v0 : Int32) (v1 : Int32) (C9 S9 : Nat) (H : Heap) (locs : List Loc) (cells slots : Nat), f_J21_stringSize_b11 h v0 v1 = some (r, hh, C9, S9) → cells + C9 = mc ∧ slots + S9 = ms → zM D dA b0 gs s h H locs → ∀ ls : Array Slot, lv_has ls 4 [(0, .int v0), (1, .int v1)] → W p l e ({ frames := 1, cells := mc, slots := ms, locals := 60 } : Room) s m args below meth c H locs cells slots (MQ below (zQ D dA b0 gs (evI r) hh) args s mc ms (zA b0)) (F0 m 11 ls []) := by
  have hx := hc.x
  have hb := hc.b
  intro h v0 v1 C9 S9 H locs cells slots hf hq hn ls hl
  unfold f_J21_stringSize_b11 at hf
  refine lv_bipush (v := (-10 : Int32)) hx hb dJ21_stringSize_11 (by decide) ?_
  refine lv_istore_n (i := 2) (lv' := [(2, .int (-10 : Int32)), (0, .int v0), (1, .int v1)]) hx hb dJ21_stringSize_13 rfl hl (by decide) rfl (fun ls hl => ?_)
  refine lv_iconst (v := (1 : Int32)) hx hb dJ21_stringSize_14 (by decide) ?_
  refine lv_istore_n (i := 3) (lv' := [(3, .int (1 : Int32)), (2, .int (-10 : Int32)), (0, .int v0), (1, .int v1)]) hx hb dJ21_stringSize_15 rfl hl (by decide) rfl (fun ls hl => ?_)
  exact m_J21_stringSize_b16 hc hr hin zFU h v0 v1 (-10 : Int32) (1 : Int32) _ _ _ _ _ _ hf hq hn _ (lv_sub hl [2, 3, 1, 0] rfl)
set_option maxHeartbeats 4000000 in
set_option maxRecDepth 100000 in
theorem m_J21_stringSize (l : Launch) (D : va_G) (dA : Nat → ClassId) (b0 : Nat) (gs : Nat → Option Nat) (h : PH) (v0 : Int32) {r : Int32} {hh : PH} {mc ms : Nat} (hf : f_J21_stringSize h v0 = some (r, hh, mc, ms)) : zMt l D dA b0 gs yJ21_stringSize cJ21_stringSize 4 (some .int) 1 60 [.int v0] h (evI r) hh mc ms := by
  unfold f_J21_stringSize at hf
  refine zMt.of (by decide) (Nat.le_of_ble_eq_true rfl) ?_
  intro p e s m args below meth c hc hr hin hn ls hl
  have hl : lv_has ls 4 [(0, .int v0)] := hl
  have hq : 0 + mc = mc ∧ 0 + ms = ms := ⟨Nat.zero_add _, Nat.zero_add _⟩
  have hx := hc.x
  have hb := hc.b
  refine lv_iconst (v := (1 : Int32)) hx hb dJ21_stringSize_0 (by decide) ?_
  refine lv_istore_n (i := 1) (lv' := [(1, .int (1 : Int32)), (0, .int v0)]) hx hb dJ21_stringSize_1 rfl hl (by decide) rfl (fun ls hl => ?_)
  refine lv_iload_n hx hb dJ21_stringSize_2 rfl (lv_at hl 1 rfl) ?_
  refine lv_if_lt (tgt := 11) hx hb dJ21_stringSize_3 (by decide) (fun c9 => ?_) (fun c9 => ?_)
  · have hf := zif_t c9 hf
    exact m_J21_stringSize_b11 hc hr hin h v0 (1 : Int32) _ _ _ _ _ _ hf hq hn _ (lv_sub hl [1, 0] rfl)
  · have hf := zif_f c9 hf
    refine lv_iconst (v := (0 : Int32)) hx hb dJ21_stringSize_6 (by decide) ?_
    refine lv_istore_n (i := 1) (lv' := [(1, .int (0 : Int32)), (0, .int v0)]) hx hb dJ21_stringSize_7 rfl hl (by decide) rfl (fun ls hl => ?_)
    refine lv_iload_n hx hb dJ21_stringSize_8 rfl (lv_at hl 1 rfl) ?_
    refine lv_ineg hx hb dJ21_stringSize_9 ?_
    refine zr_nmI hf (fun x101 hf => ?_)
    refine lv_istore_n (i := 0) (lv' := [(0, .int x101), (1, .int (0 : Int32))]) hx hb dJ21_stringSize_10 rfl hl (by decide) rfl (fun ls hl => ?_)
    exact m_J21_stringSize_b11 hc hr hin h x101 (0 : Int32) _ _ _ _ _ _ hf hq hn _ (lv_sub hl [0, 1] rfl)
theorem hd_J15_hugeLength : yJ15_hugeLength.cls ≠ "java/lang/invoke/MethodHandle" ∧ yJ15_hugeLength.cls ≠ "java/lang/invoke/VarHandle" ∧ (parseMethodDescriptor yJ15_hugeLength.desc).map (fun d => d.parameters.length) = some 2 := by decide +kernel
def f_J15_hugeLength (h : PH) (v0 : Int32) (v1 : Int32) : ZR Int32 :=
  znm (v0 + v1) fun x101 =>
  if 0 ≤ x101 then
    (if (2147483639 : Int32) < x101 then
      (zret x101 h)
    else
      (zret (2147483639 : Int32) h))
  else
    (none)
set_option maxHeartbeats 4000000 in
set_option maxRecDepth 100000 in
theorem m_J15_hugeLength (l : Launch) (D : va_G) (dA : Nat → ClassId) (b0 : Nat) (gs : Nat → Option Nat) (h : PH) (v0 : Int32) (v1 : Int32) {r : Int32} {hh : PH} {mc ms : Nat} (hf : f_J15_hugeLength h v0 v1 = some (r, hh, mc, ms)) : zMt l D dA b0 gs yJ15_hugeLength cJ15_hugeLength 3 (some .int) 1 60 [.int v0, .int v1] h (evI r) hh mc ms := by
  unfold f_J15_hugeLength at hf
  refine zMt.of (by decide) (Nat.le_of_ble_eq_true rfl) ?_
  intro p e s m args below meth c hc hr hin hn ls hl
  have hl : lv_has ls 3 [(0, .int v0), (1, .int v1)] := hl
  have hq : 0 + mc = mc ∧ 0 + ms = ms := ⟨Nat.zero_add _, Nat.zero_add _⟩
  have hx := hc.x
  have hb := hc.b
  refine lv_iload_n hx hb dJ15_hugeLength_0 rfl (lv_at hl 0 rfl) ?_
  refine lv_iload_n hx hb dJ15_hugeLength_1 rfl (lv_at hl 1 rfl) ?_
  refine lv_iadd hx hb dJ15_hugeLength_2 ?_
  refine zr_nmI hf (fun x101 hf => ?_)
  refine lv_istore_n (i := 2) (lv' := [(2, .int x101), (0, .int v0), (1, .int v1)]) hx hb dJ15_hugeLength_3 rfl hl (by decide) rfl (fun ls hl => ?_)
  refine lv_iload_n hx hb dJ15_hugeLength_4 rfl (lv_at hl 0 rfl) ?_
  refine lv_if_ge (tgt := 49) hx hb dJ15_hugeLength_5 (by decide) (fun c9 => ?_) (fun c9 => ?_)
  · have hf := zif_t c9 hf
    refine lv_iload_n hx hb dJ15_hugeLength_49 rfl (lv_at hl 0 rfl) ?_
    refine lv_ldc (v := (2147483639 : Int32)) hx hb hc.ow (hc.ts _ q499) dJ15_hugeLength_50 ?_
    refine lv_icmp_gt (tgt := 58) hx hb dJ15_hugeLength_52 (by decide) (fun c9 => ?_) (fun c9 => ?_)
    · have hf := zif_t c9 hf
      refine lv_iload_n hx hb dJ15_hugeLength_58 rfl (lv_at hl 0 rfl) ?_
      obtain ⟨rfl, rfl, rfl, rfl⟩ := zret_i hf
      exact zr_iret hc hn hr hq (fun _ _ _ _ q => q) dJ15_hugeLength_59
    · have hf := zif_f c9 hf
      refine lv_ldc (v := (2147483639 : Int32)) hx hb hc.ow (hc.ts _ q499) dJ15_hugeLength_55 ?_
      obtain ⟨rfl, rfl, rfl, rfl⟩ := zret_i hf
      exact zr_iret hc hn hr hq (fun _ _ _ _ q => q) dJ15_hugeLength_57
  · have hf := zif_f c9 hf
    cases hf
theorem hd_J15_newLength : yJ15_newLength.cls ≠ "java/lang/invoke/MethodHandle" ∧ yJ15_newLength.cls ≠ "java/lang/invoke/VarHandle" ∧ (parseMethodDescriptor yJ15_newLength.desc).map (fun d => d.parameters.length) = some 3 := by decide +kernel
def f_J15_newLength (h : PH) (v0 : Int32) (v1 : Int32) (v2 : Int32) : ZR Int32 :=
  znm (if v1 < v2 then v2 else v1) fun x101 =>
  znm (v0 + x101) fun x102 =>
  if x102 ≤ (0 : Int32) then
    (zcl (f_J15_hugeLength h v0 v1) fun x103 h104 =>
    zret x103 h104)
  else
    (if (2147483639 : Int32) < x102 then
      (zcl (f_J15_hugeLength h v0 v1) fun x105 h106 =>
      zret x105 h106)
    else
      (zret x102 h))
set_option maxHeartbeats 4000000 in
set_option maxRecDepth 100000 in
theorem m_J15_newLength (l : Launch) (D : va_G) (dA : Nat → ClassId) (b0 : Nat) (gs : Nat → Option Nat) (h : PH) (v0 : Int32) (v1 : Int32) (v2 : Int32) {r : Int32} {hh : PH} {mc ms : Nat} (hf : f_J15_newLength h v0 v1 v2 = some (r, hh, mc, ms)) : zMt l D dA b0 gs yJ15_newLength cJ15_newLength 4 (some .int) 2 82 [.int v0, .int v1, .int v2] h (evI r) hh mc ms := by
  unfold f_J15_newLength at hf
  refine zMt.of (by decide) (Nat.le_of_ble_eq_true rfl) ?_
  intro p e s m args below meth c hc hr hin hn ls hl
  have hl : lv_has ls 4 [(0, .int v0), (1, .int v1), (2, .int v2)] := hl
  have hq : 0 + mc = mc ∧ 0 + ms = ms := ⟨Nat.zero_add _, Nat.zero_add _⟩
  have hx := hc.x
  have hb := hc.b
  refine lv_iload_n hx hb dJ15_newLength_0 rfl (lv_at hl 0 rfl) ?_
  refine lv_iload_n hx hb dJ15_newLength_1 rfl (lv_at hl 1 rfl) ?_
  refine lv_iload_n hx hb dJ15_newLength_2 rfl (lv_at hl 2 rfl) ?_
  refine zr_mmax (x := v1) (y := v2) hc hq hl.1 q496 q497 q106 q498 (zroom (Nat.le_of_ble_eq_true rfl)) (Nat.le_of_ble_eq_true rfl) (Nat.le_of_ble_eq_true rfl) dJ15_newLength_3 ?_
  refine zr_nmI hf (fun x101 hf => ?_)
  refine lv_iadd hx hb dJ15_newLength_6 ?_
  refine zr_nmI hf (fun x102 hf => ?_)
  refine lv_istore_n (i := 3) (lv' := [(3, .int x102), (0, .int v0), (1, .int v1), (2, .int v2)]) hx hb dJ15_newLength_7 rfl hl (by decide) rfl (fun ls hl => ?_)
  refine lv_iconst (v := (0 : Int32)) hx hb dJ15_newLength_8 (by decide) ?_
  refine lv_iload_n hx hb dJ15_newLength_9 rfl (lv_at hl 0 rfl) ?_
  refine lv_icmp_ge (tgt := 21) hx hb dJ15_newLength_10 (by decide) (fun c9 => ?_) (fun c9 => ?_)
  · have hf := zif_t c9 hf
    refine lv_iload_n hx hb dJ15_newLength_21 rfl (lv_at hl 1 rfl) ?_
    refine lv_iload_n hx hb dJ15_newLength_22 rfl (lv_at hl 2 rfl) ?_
    refine zr_cSI (As := [.int v0, .int v1]) (rest := []) hc hn hq hd_J15_hugeLength (lw_S q500 q501 q105 q502) (Nat.le_of_ble_eq_true rfl) (Nat.le_of_ble_eq_true rfl) (fun _ _ _ _ q => m_J15_hugeLength l D dA b0 gs h v0 v1 q) hf dJ15_newLength_23 hl.1 rfl rfl (zroom (Nat.le_of_ble_eq_true rfl)) (fun x103 h104 H locs cells slots C9 S9 hf hq hn => ?_)
    obtain ⟨rfl, rfl, rfl, rfl⟩ := zret_i hf
    exact zr_iret hc hn hr hq (fun _ _ _ _ q => q) dJ15_newLength_26
  · have hf := zif_f c9 hf
    refine lv_iload_n hx hb dJ15_newLength_13 rfl (lv_at hl 0 rfl) ?_
    refine lv_ldc (v := (2147483639 : Int32)) hx hb hc.ow (hc.ts _ q499) dJ15_newLength_14 ?_
    refine lv_icmp_gt (tgt := 21) hx hb dJ15_newLength_16 (by decide) (fun c9 => ?_) (fun c9 => ?_)
    · have hf := zif_t c9 hf
      refine lv_iload_n hx hb dJ15_newLength_21 rfl (lv_at hl 1 rfl) ?_
      refine lv_iload_n hx hb dJ15_newLength_22 rfl (lv_at hl 2 rfl) ?_
      refine zr_cSI (As := [.int v0, .int v1]) (rest := []) hc hn hq hd_J15_hugeLength (lw_S q500 q501 q105 q502) (Nat.le_of_ble_eq_true rfl) (Nat.le_of_ble_eq_true rfl) (fun _ _ _ _ q => m_J15_hugeLength l D dA b0 gs h v0 v1 q) hf dJ15_newLength_23 hl.1 rfl rfl (zroom (Nat.le_of_ble_eq_true rfl)) (fun x105 h106 H locs cells slots C9 S9 hf hq hn => ?_)
      obtain ⟨rfl, rfl, rfl, rfl⟩ := zret_i hf
      exact zr_iret hc hn hr hq (fun _ _ _ _ q => q) dJ15_newLength_26
    · have hf := zif_f c9 hf
      refine lv_iload_n hx hb dJ15_newLength_19 rfl (lv_at hl 0 rfl) ?_
      obtain ⟨rfl, rfl, rfl, rfl⟩ := zret_i hf
      exact zr_iret hc hn hr hq (fun _ _ _ _ q => q) dJ15_newLength_20
theorem hd_J12_newCapacity : yJ12_newCapacity.cls ≠ "java/lang/invoke/MethodHandle" ∧ yJ12_newCapacity.cls ≠ "java/lang/invoke/VarHandle" ∧ (parseMethodDescriptor yJ12_newCapacity.desc).map (fun d => d.parameters.length) = some 1 := by decide +kernel
def f_J12_newCapacity (h : PH) (a0 : Nat) (v1 : Int32) : ZR Int32 :=
  zgP h a0 15 0 fun x101 =>
  znn x101 fun a102 =>
  zlen h a102 2 fun x103 =>
  zgI h a0 15 1 fun x104 =>
  znm (v1 <<< (x104 &&& 31)) fun x105 =>
  znm (x105 - x103) fun x106 =>
  zgI h a0 15 1 fun x107 =>
  znm ((2 : Int32) <<< (x107 &&& 31)) fun x108 =>
  znm (x103 + x108) fun x109 =>
  zcl (f_J15_newLength h x103 x106 x109) fun x110 h111 =>
  if x110 = (2147483647 : Int32) then
    (none)
  else
    (zgI h111 a0 15 1 fun x112 =>
    znm (x110 >>> (x112 &&& 31)) fun x113 =>
    zret x113 h111)
set_option maxHeartbeats 4000000 in
set_option maxRecDepth 100000 in
theorem m_J12_newCapacity (l : Launch) (D : va_G) (dA : Nat → ClassId) (b0 : Nat) (gs : Nat → Option Nat) (h : PH) (a0 : Nat) (v1 : Int32) {r : Int32} {hh : PH} {mc ms : Nat} (hf : f_J12_newCapacity h a0 v1 = some (r, hh, mc, ms)) : zMt l D dA b0 gs yJ12_newCapacity cJ12_newCapacity 6 (some .int) 3 105 [.ref a0, .int v1] h (evI r) hh mc ms := by
  unfold f_J12_newCapacity at hf
  refine zMt.of (by decide) (Nat.le_of_ble_eq_true rfl) ?_
  intro p e s m args below meth c hc hr hin hn ls hl
  have hl : lv_has ls 6 [(0, .ref a0), (1, .int v1)] := hl
  have hq : 0 + mc = mc ∧ 0 + ms = ms := ⟨Nat.zero_add _, Nat.zero_add _⟩
  have hx := hc.x
  have hb := hc.b
  refine lv_aload_n (x := a0) hx hb dJ12_newCapacity_0 rfl (lv_at hl 0 rfl) ?_
  refine zr_gP hc hn (ci := 15) rfl rfl in_J13 0 (by decide) q458 (fun _ h => h) (fun _ _ _ => rfl) hf dJ12_newCapacity_1 (fun x101 hf => ?_)
  obtain ⟨a102, e9, hf9⟩ := znn_i hf
  subst e9
  have hf := hf9
  clear hf9
  refine zr_len (ai := 2) hc hn hf dJ12_newCapacity_4 (fun x103 hf => ?_)
  refine lv_istore_n (i := 2) (lv' := [(2, .int x103), (0, .ref a0), (1, .int v1)]) hx hb dJ12_newCapacity_5 rfl hl (by decide) rfl (fun ls hl => ?_)
  refine lv_iload_n hx hb dJ12_newCapacity_6 rfl (lv_at hl 2 rfl) ?_
  refine lv_aload_n (x := a0) hx hb dJ12_newCapacity_7 rfl (lv_at hl 1 rfl) ?_
  refine zr_gI hc hn (ci := 15) rfl rfl in_J13 1 (by decide) q459 (fun _ h => h) (fun _ _ _ => rfl) hf dJ12_newCapacity_8 (fun x104 hf => ?_)
  refine lv_ishl hx hb dJ12_newCapacity_11 ?_
  refine zr_nmI hf (fun x105 hf => ?_)
  refine lv_istore_n (i := 3) (lv' := [(3, .int x105), (2, .int x103), (0, .ref a0), (1, .int v1)]) hx hb dJ12_newCapacity_12 rfl hl (by decide) rfl (fun ls hl => ?_)
  refine lv_iload_n hx hb dJ12_newCapacity_13 rfl (lv_at hl 0 rfl) ?_
  refine lv_iload_n hx hb dJ12_newCapacity_14 rfl (lv_at hl 1 rfl) ?_
  refine lv_isub hx hb dJ12_newCapacity_15 ?_
  refine zr_nmI hf (fun x106 hf => ?_)
  refine lv_istore (lv' := [(4, .int x106), (3, .int x105), (2, .int x103), (0, .ref a0), (1, .int v1)]) hx hb dJ12_newCapacity_16 hl (by decide) rfl (fun ls hl => ?_)
  refine lv_iload_n hx hb dJ12_newCapacity_18 rfl (lv_at hl 2 rfl) ?_
  refine lv_iload hx hb dJ12_newCapacity_19 (lv_at hl 0 rfl) ?_
  refine lv_iload_n hx hb dJ12_newCapacity_21 rfl (lv_at hl 2 rfl) ?_
  refine lv_iconst (v := (2 : Int32)) hx hb dJ12_newCapacity_22 (by decide) ?_
  refine lv_aload_n (x := a0) hx hb dJ12_newCapacity_23 rfl (lv_at hl 3 rfl) ?_
  refine zr_gI hc hn (ci := 15) rfl rfl in_J13 1 (by decide) q459 (fun _ h => h) (fun _ _ _ => rfl) hf dJ12_newCapacity_24 (fun x107 hf => ?_)
  refine lv_ishl hx hb dJ12_newCapacity_27 ?_
  refine zr_nmI hf (fun x108 hf => ?_)
  refine lv_iadd hx hb dJ12_newCapacity_28 ?_
  refine zr_nmI hf (fun x109 hf => ?_)
  refine zr_cSI (As := [.int x103, .int x106, .int x109]) (rest := []) hc hn hq hd_J15_newLength (lw_S q493 q494 q105 q495) (Nat.le_of_ble_eq_true rfl) (Nat.le_of_ble_eq_true rfl) (fun _ _ _ _ q => m_J15_newLength l D dA b0 gs h x103 x106 x109 q) hf dJ12_newCapacity_29 hl.1 rfl rfl (zroom (Nat.le_of_ble_eq_true rfl)) (fun x110 h111 H locs cells slots C9 S9 hf hq hn => ?_)
  refine lv_istore (lv' := [(5, .int x110), (4, .int x106), (3, .int x105), (2, .int x103), (0, .ref a0), (1, .int v1)]) hx hb dJ12_newCapacity_32 hl (by decide) rfl (fun ls hl => ?_)
  refine lv_iload hx hb dJ12_newCapacity_34 (lv_at hl 0 rfl) ?_
  refine lv_ldc (v := (2147483647 : Int32)) hx hb hc.ow (hc.ts _ q503) dJ12_newCapacity_36 ?_
  refine lv_icmp_ne (tgt := 51) hx hb dJ12_newCapacity_38 (by decide) (fun c9 => ?_) (fun c9 => ?_)
  · have hf := zif_f c9 hf
    refine lv_iload hx hb dJ12_newCapacity_51 (lv_at hl 0 rfl) ?_
    refine lv_aload_n (x := a0) hx hb dJ12_newCapacity_53 rfl (lv_at hl 4 rfl) ?_
    refine zr_gI hc hn (ci := 15) rfl rfl in_J13 1 (by decide) q459 (fun _ h => h) (fun _ _ _ => rfl) hf dJ12_newCapacity_54 (fun x112 hf => ?_)
    refine lv_ishr hx hb dJ12_newCapacity_57 ?_
    refine zr_nmI hf (fun x113 hf => ?_)
    obtain ⟨rfl, rfl, rfl, rfl⟩ := zret_i hf
    exact zr_iret hc hn hr hq (fun _ _ _ _ q => q) dJ12_newCapacity_58
  · have hf := zif_t c9 hf
    cases hf
theorem hd_J17_copyOf : yJ17_copyOf.cls ≠ "java/lang/invoke/MethodHandle" ∧ yJ17_copyOf.cls ≠ "java/lang/invoke/VarHandle" ∧ (parseMethodDescriptor yJ17_copyOf.desc).map (fun d => d.parameters.length) = some 2 := by decide +kernel
def f_J17_copyOf (h : PH) (a0 : Nat) (v1 : Int32) : ZR Nat :=
  zlen h a0 2 fun x101 =>
  if v1 = x101 then
    (zcln h a0 2 fun a107 h108 =>
    zcastA h108 a107 2 <|
    zret a107 h108)
  else
    (zna h 2 v1 fun a102 h103 =>
    zlen h103 a0 2 fun x104 =>
    znm (if v1 < x104 then v1 else x104) fun x105 =>
    zcpI h103 a0 a102 2 (0 : Int32) (0 : Int32) x105 fun h106 =>
    zret a102 h106)
set_option maxHeartbeats 4000000 in
set_option maxRecDepth 100000 in
theorem m_J17_copyOf (l : Launch) (D : va_G) (dA : Nat → ClassId) (b0 : Nat) (gs : Nat → Option Nat) (h : PH) (a0 : Nat) (v1 : Int32) {r : Nat} {hh : PH} {mc ms : Nat} (hf : f_J17_copyOf h a0 v1 = some (r, hh, mc, ms)) : zMt l D dA b0 gs yJ17_copyOf cJ17_copyOf 3 (some (.array .byte)) 1 60 [.ref a0, .int v1] h (evN r) hh mc ms := by
  unfold f_J17_copyOf at hf
  refine zMt.of (by decide) (Nat.le_of_ble_eq_true rfl) ?_
  intro p e s m args below meth c hc hr hin hn ls hl
  have hl : lv_has ls 3 [(0, .ref a0), (1, .int v1)] := hl
  have hq : 0 + mc = mc ∧ 0 + ms = ms := ⟨Nat.zero_add _, Nat.zero_add _⟩
  have hx := hc.x
  have hb := hc.b
  refine lv_iload_n hx hb dJ17_copyOf_0 rfl (lv_at hl 1 rfl) ?_
  refine lv_aload_n (x := a0) hx hb dJ17_copyOf_1 rfl (lv_at hl 0 rfl) ?_
  refine zr_len (ai := 2) hc hn hf dJ17_copyOf_2 (fun x101 hf => ?_)
  refine lv_icmp_ne (tgt := 14) hx hb dJ17_copyOf_3 (by decide) (fun c9 => ?_) (fun c9 => ?_)
  · have hf := zif_f c9 hf
    refine lv_iload_n hx hb dJ17_copyOf_14 rfl (lv_at hl 1 rfl) ?_
    refine zr_na2 hc hn hq q179 hf dJ17_copyOf_15 (fun a102 h103 H cells slots C9 S9 hf hq hn => ?_)
    refine lv_astore_n (x := a102) (i := 2) (lv' := [(2, .ref a102), (0, .ref a0), (1, .int v1)]) hx hb dJ17_copyOf_17 rfl hl (by decide) rfl (fun ls hl => ?_)
    refine lv_aload_n (x := a0) hx hb dJ17_copyOf_18 rfl (lv_at hl 1 rfl) ?_
    refine lv_iconst (v := (0 : Int32)) hx hb dJ17_copyOf_19 (by decide) ?_
    refine lv_aload_n (x := a102) hx hb dJ17_copyOf_20 rfl (lv_at hl 0 rfl) ?_
    refine lv_iconst (v := (0 : Int32)) hx hb dJ17_copyOf_21 (by decide) ?_
    refine lv_aload_n (x := a0) hx hb dJ17_copyOf_22 rfl (lv_at hl 1 rfl) ?_
    refine zr_len (ai := 2) hc hn hf dJ17_copyOf_23 (fun x104 hf => ?_)
    refine lv_iload_n hx hb dJ17_copyOf_24 rfl (lv_at hl 2 rfl) ?_
    refine zr_mmin (x := x104) (y := v1) hc hq hl.1 q514 q515 q106 q516 (zroom (Nat.le_of_ble_eq_true rfl)) (Nat.le_of_ble_eq_true rfl) (Nat.le_of_ble_eq_true rfl) dJ17_copyOf_25 ?_
    refine zr_nmI hf (fun x105 hf => ?_)
    refine zr_cpI (ai := 2) hc hn (by decide) hl.1 q517 q519 q518 q108 hf (zroom (Nat.le_of_ble_eq_true rfl)) (Nat.le_of_ble_eq_true rfl) (Nat.le_of_ble_eq_true rfl) dJ17_copyOf_28 (fun h106 H locs hf hn => ?_)
    refine lv_aload_n (x := a102) hx hb dJ17_copyOf_31 rfl (lv_at hl 0 rfl) ?_
    obtain ⟨rfl, rfl, rfl, rfl⟩ := zret_i hf
    exact zr_nret hc hn hr (Or.inr ⟨_, rfl⟩) hq (fun _ _ _ _ q => q) dJ17_copyOf_32
  · have hf := zif_t c9 hf
    refine lv_aload_n (x := a0) hx hb dJ17_copyOf_6 rfl (lv_at hl 0 rfl) ?_
    refine zr_cln (ai := 2) hc hn hq hl.1 q507 q508 q509 q510 q511 q512 hc.nmB hf (zroom (Nat.le_of_ble_eq_true rfl)) (Nat.le_of_ble_eq_true rfl) (Nat.le_of_ble_eq_true rfl) dJ17_copyOf_7 (fun a107 h108 H cells slots C9 S9 hf hq hn => ?_)
    refine zr_castA2 hc hn q513 hf dJ17_copyOf_10 (fun hf => ?_)
    obtain ⟨rfl, rfl, rfl, rfl⟩ := zret_i hf
    exact zr_nret hc hn hr (Or.inr ⟨_, rfl⟩) hq (fun _ _ _ _ q => q) dJ17_copyOf_13
theorem hd_J12_ensureCapacityInternal : yJ12_ensureCapacityInternal.cls ≠ "java/lang/invoke/MethodHandle" ∧ yJ12_ensureCapacityInternal.cls ≠ "java/lang/invoke/VarHandle" ∧ (parseMethodDescriptor yJ12_ensureCapacityInternal.desc).map (fun d => d.parameters.length) = some 1 := by decide +kernel
def f_J12_ensureCapacityInternal (h : PH) (a0 : Nat) (v1 : Int32) : ZR Unit :=
  zgP h a0 15 0 fun x101 =>
  znn x101 fun a102 =>
  zlen h a102 2 fun x103 =>
  zgI h a0 15 1 fun x104 =>
  znm (x103 >>> (x104 &&& 31)) fun x105 =>
  znm (v1 - x105) fun x106 =>
  if x106 ≤ 0 then
    (zret () h)
  else
    (none)
set_option maxHeartbeats 4000000 in
set_option maxRecDepth 100000 in
theorem m_J12_ensureCapacityInternal (l : Launch) (D : va_G) (dA : Nat → ClassId) (b0 : Nat) (gs : Nat → Option Nat) (h : PH) (a0 : Nat) (v1 : Int32) {r : Unit} {hh : PH} {mc ms : Nat} (hf : f_J12_ensureCapacityInternal h a0 v1 = some (r, hh, mc, ms)) : zMt l D dA b0 gs yJ12_ensureCapacityInternal cJ12_ensureCapacityInternal 3 none 1 60 [.ref a0, .int v1] h (evU r) hh mc ms := by
  unfold f_J12_ensureCapacityInternal at hf
  refine zMt.of (by decide) (Nat.le_of_ble_eq_true rfl) ?_
  intro p e s m args below meth c hc hr hin hn ls hl
  have hl : lv_has ls 3 [(0, .ref a0), (1, .int v1)] := hl
  have hq : 0 + mc = mc ∧ 0 + ms = ms := ⟨Nat.zero_add _, Nat.zero_add _⟩
  have hx := hc.x
  have hb := hc.b
  refine lv_aload_n (x := a0) hx hb dJ12_ensureCapacityInternal_0 rfl (lv_at hl 0 rfl) ?_
  refine zr_gP hc hn (ci := 15) rfl rfl in_J13 0 (by decide) q458 (fun _ h => h) (fun _ _ _ => rfl) hf dJ12_ensureCapacityInternal_1 (fun x101 hf => ?_)
  obtain ⟨a102, e9, hf9⟩ := znn_i hf
  subst e9
  have hf := hf9
  clear hf9
  refine zr_len (ai := 2) hc hn hf dJ12_ensureCapacityInternal_4 (fun x103 hf => ?_)
  refine lv_aload_n (x := a0) hx hb dJ12_ensureCapacityInternal_5 rfl (lv_at hl 0 rfl) ?_
  refine zr_gI hc hn (ci := 15) rfl rfl in_J13 1 (by decide) q459 (fun _ h => h) (fun _ _ _ => rfl) hf dJ12_ensureCapacityInternal_6 (fun x104 hf => ?_)
  refine lv_ishr hx hb dJ12_ensureCapacityInternal_9 ?_
  refine zr_nmI hf (fun x105 hf => ?_)
  refine lv_istore_n (i := 2) (lv' := [(2, .int x105), (0, .ref a0), (1, .int v1)]) hx hb dJ12_ensureCapacityInternal_10 rfl hl (by decide) rfl (fun ls hl => ?_)
  refine lv_iload_n hx hb dJ12_ensureCapacityInternal_11 rfl (lv_at hl 2 rfl) ?_
  refine lv_iload_n hx hb dJ12_ensureCapacityInternal_12 rfl (lv_at hl 0 rfl) ?_
  refine lv_isub hx hb dJ12_ensureCapacityInternal_13 ?_
  refine zr_nmI hf (fun x106 hf => ?_)
  refine lv_if_le (tgt := 38) hx hb dJ12_ensureCapacityInternal_14 (by decide) (fun c9 => ?_) (fun c9 => ?_)
  · have hf := zif_t c9 hf
    obtain ⟨rfl, rfl, rfl, rfl⟩ := zret_i hf
    exact zr_vret hc hn hr hq (fun _ _ _ _ q => q) dJ12_ensureCapacityInternal_38
  · have hf := zif_f c9 hf
    cases hf
theorem hd_J10_coder : yJ10_coder.cls ≠ "java/lang/invoke/MethodHandle" ∧ yJ10_coder.cls ≠ "java/lang/invoke/VarHandle" ∧ (parseMethodDescriptor yJ10_coder.desc).map (fun d => d.parameters.length) = some 0 := by decide +kernel
def f_J10_coder (h : PH) (a0 : Nat) : ZR Int32 :=
  zgI h a0 14 1 fun x101 =>
  zgd (x101.toInt8.toInt32 = x101) <| zret x101 h
set_option maxHeartbeats 4000000 in
set_option maxRecDepth 100000 in
theorem m_J10_coder (l : Launch) (D : va_G) (dA : Nat → ClassId) (b0 : Nat) (gs : Nat → Option Nat) (h : PH) (a0 : Nat) {r : Int32} {hh : PH} {mc ms : Nat} (hf : f_J10_coder h a0 = some (r, hh, mc, ms)) : zMt l D dA b0 gs yJ10_coder cJ10_coder 1 (some .byte) 1 60 [.ref a0] h (evI r) hh mc ms := by
  unfold f_J10_coder at hf
  refine zMt.of (by decide) (Nat.le_of_ble_eq_true rfl) ?_
  intro p e s m args below meth c hc hr hin hn ls hl
  have hl : lv_has ls 1 [(0, .ref a0)] := hl
  have hq : 0 + mc = mc ∧ 0 + ms = ms := ⟨Nat.zero_add _, Nat.zero_add _⟩
  have hx := hc.x
  have hb := hc.b
  refine zr_gsI hc hn (hc.stCS) q671 (fun _ h => h) dJ10_coder_0 ?_
  refine lv_if_eq (tgt := 13) hx hb dJ10_coder_3 (by decide) (fun c9 => ?_) (fun c9 => ?_)
  · first | exact absurd c9 (by decide) | exact absurd (by decide) c9
  · refine lv_aload_n (x := a0) hx hb dJ10_coder_6 rfl (lv_at hl 0 rfl) ?_
    refine zr_gI hc hn (ci := 14) rfl rfl in_J10s 1 (by decide) q708 (fun _ h => h) (fun _ _ _ => rfl) hf dJ10_coder_7 (fun x101 hf => ?_)
    refine lv_goto (tgt := 14) hx hb dJ10_coder_10 (by decide) ?_
    obtain ⟨hz1, hf⟩ := zgd_i hf
    obtain ⟨rfl, rfl, rfl, rfl⟩ := zret_i hf
    exact zr_zret (ty := .byte) hc hn hr (congrArg Value.int hz1) hq (fun _ _ _ _ q => q) dJ10_coder_14
theorem hd_J10_length : yJ10_length.cls ≠ "java/lang/invoke/MethodHandle" ∧ yJ10_length.cls ≠ "java/lang/invoke/VarHandle" ∧ (parseMethodDescriptor yJ10_length.desc).map (fun d => d.parameters.length) = some 0 := by decide +kernel
def f_J10_length (h : PH) (a0 : Nat) : ZR Int32 :=
  zgP h a0 14 0 fun x101 =>
  znn x101 fun a102 =>
  zlen h a102 2 fun x103 =>
  zrc h a0 14 <| zcl (f_J10_coder h a0) fun x104 h105 =>
  znm (x103 >>> (x104 &&& 31)) fun x106 =>
  zret x106 h105
set_option maxHeartbeats 4000000 in
set_option maxRecDepth 100000 in
theorem m_J10_length (l : Launch) (D : va_G) (dA : Nat → ClassId) (b0 : Nat) (gs : Nat → Option Nat) (h : PH) (a0 : Nat) {r : Int32} {hh : PH} {mc ms : Nat} (hf : f_J10_length h a0 = some (r, hh, mc, ms)) : zMt l D dA b0 gs yJ10_length cJ10_length 1 (some .int) 2 80 [.ref a0] h (evI r) hh mc ms := by
  unfold f_J10_length at hf
  refine zMt.of (by decide) (Nat.le_of_ble_eq_true rfl) ?_
  intro p e s m args below meth c hc hr hin hn ls hl
  have hl : lv_has ls 1 [(0, .ref a0)] := hl
  have hq : 0 + mc = mc ∧ 0 + ms = ms := ⟨Nat.zero_add _, Nat.zero_add _⟩
  have hx := hc.x
  have hb := hc.b
  refine lv_aload_n (x := a0) hx hb dJ10_length_0 rfl (lv_at hl 0 rfl) ?_
  refine zr_gP hc hn (ci := 14) rfl rfl in_J10s 0 (by decide) q707 (fun _ h => h) (fun _ _ _ => rfl) hf dJ10_length_1 (fun x101 hf => ?_)
  obtain ⟨a102, e9, hf9⟩ := znn_i hf
  subst e9
  have hf := hf9
  clear hf9
  refine zr_len (ai := 2) hc hn hf dJ10_length_4 (fun x103 hf => ?_)
  refine lv_aload_n (x := a0) hx hb dJ10_length_5 rfl (lv_at hl 0 rfl) ?_
  refine zr_cVI (As := []) (rest := [.int x103]) hc hn hq (ci := 14) rfl ⟨rfl, hd_J10_coder⟩ (lw_V q667 q668 q669 q98 q670) (Nat.le_of_ble_eq_true rfl) (Nat.le_of_ble_eq_true rfl) (fun _ _ _ _ q => m_J10_coder l D dA b0 gs h a0 q) hf dJ10_length_6 hl.1 rfl rfl (zroom (Nat.le_of_ble_eq_true rfl)) (fun x104 h105 H locs cells slots C9 S9 hf hq hn => ?_)
  refine lv_ishr hx hb dJ10_length_9 ?_
  refine zr_nmI hf (fun x106 hf => ?_)
  obtain ⟨rfl, rfl, rfl, rfl⟩ := zret_i hf
  exact zr_iret hc hn hr hq (fun _ _ _ _ q => q) dJ10_length_10
theorem hd_J17_checkLength : yJ17_checkLength.cls ≠ "java/lang/invoke/MethodHandle" ∧ yJ17_checkLength.cls ≠ "java/lang/invoke/VarHandle" ∧ (parseMethodDescriptor yJ17_checkLength.desc).map (fun d => d.parameters.length) = some 2 := by decide +kernel
def f_J17_checkLength (h : PH) (v0 : Int32) (v1 : Int32) : ZR Unit :=
  if v0 ≤ v1 then
    (zret () h)
  else
    (none)
set_option maxHeartbeats 4000000 in
set_option maxRecDepth 100000 in
theorem m_J17_checkLength (l : Launch) (D : va_G) (dA : Nat → ClassId) (b0 : Nat) (gs : Nat → Option Nat) (h : PH) (v0 : Int32) (v1 : Int32) {r : Unit} {hh : PH} {mc ms : Nat} (hf : f_J17_checkLength h v0 v1 = some (r, hh, mc, ms)) : zMt l D dA b0 gs yJ17_checkLength cJ17_checkLength 2 none 1 60 [.int v0, .int v1] h (evU r) hh mc ms := by
  unfold f_J17_checkLength at hf
  refine zMt.of (by decide) (Nat.le_of_ble_eq_true rfl) ?_
  intro p e s m args below meth c hc hr hin hn ls hl
  have hl : lv_has ls 2 [(0, .int v0), (1, .int v1)] := hl
  have hq : 0 + mc = mc ∧ 0 + ms = ms := ⟨Nat.zero_add _, Nat.zero_add _⟩
  have hx := hc.x
  have hb := hc.b
  refine lv_iload_n hx hb dJ17_checkLength_0 rfl (lv_at hl 1 rfl) ?_
  refine lv_iload_n hx hb dJ17_checkLength_1 rfl (lv_at hl 0 rfl) ?_
  refine lv_icmp_ge (tgt := 37) hx hb dJ17_checkLength_2 (by decide) (fun c9 => ?_) (fun c9 => ?_)
  · have hf := zif_t c9 hf
    obtain ⟨rfl, rfl, rfl, rfl⟩ := zret_i hf
    exact zr_vret hc hn hr hq (fun _ _ _ _ q => q) dJ17_checkLength_37
  · have hf := zif_f c9 hf
    cases hf
theorem hd_J17_copyOfRangeByte : yJ17_copyOfRangeByte.cls ≠ "java/lang/invoke/MethodHandle" ∧ yJ17_copyOfRangeByte.cls ≠ "java/lang/invoke/VarHandle" ∧ (parseMethodDescriptor yJ17_copyOfRangeByte.desc).map (fun d => d.parameters.length) = some 3 := by decide +kernel
def f_J17_copyOfRangeByte (h : PH) (a0 : Nat) (v1 : Int32) (v2 : Int32) : ZR Nat :=
  zcl (f_J17_checkLength h v1 v2) fun _ h102 =>
  znm (v2 - v1) fun x103 =>
  zna h102 2 x103 fun a104 h105 =>
  zlen h105 a0 2 fun x106 =>
  znm (x106 - v1) fun x107 =>
  znm (if x103 < x107 then x103 else x107) fun x108 =>
  zcpI h105 a0 a104 2 v1 (0 : Int32) x108 fun h109 =>
  zret a104 h109
set_option maxHeartbeats 4000000 in
set_option maxRecDepth 100000 in
theorem m_J17_copyOfRangeByte (l : Launch) (D : va_G) (dA : Nat → ClassId) (b0 : Nat) (gs : Nat → Option Nat) (h : PH) (a0 : Nat) (v1 : Int32) (v2 : Int32) {r : Nat} {hh : PH} {mc ms : Nat} (hf : f_J17_copyOfRangeByte h a0 v1 v2 = some (r, hh, mc, ms)) : zMt l D dA b0 gs yJ17_copyOfRangeByte cJ17_copyOfRangeByte 5 (some (.array .byte)) 2 81 [.ref a0, .int v1, .int v2] h (evN r) hh mc ms := by
  unfold f_J17_copyOfRangeByte at hf
  refine zMt.of (by decide) (Nat.le_of_ble_eq_true rfl) ?_
  intro p e s m args below meth c hc hr hin hn ls hl
  have hl : lv_has ls 5 [(0, .ref a0), (1, .int v1), (2, .int v2)] := hl
  have hq : 0 + mc = mc ∧ 0 + ms = ms := ⟨Nat.zero_add _, Nat.zero_add _⟩
  have hx := hc.x
  have hb := hc.b
  refine lv_iload_n hx hb dJ17_copyOfRangeByte_0 rfl (lv_at hl 1 rfl) ?_
  refine lv_iload_n hx hb dJ17_copyOfRangeByte_1 rfl (lv_at hl 2 rfl) ?_
  refine zr_cSU (As := [.int v1, .int v2]) (rest := []) hc hn hq hd_J17_checkLength (lw_S q598 q599 q107 q600) (Nat.le_of_ble_eq_true rfl) (Nat.le_of_ble_eq_true rfl) (fun _ _ _ _ q => m_J17_checkLength l D dA b0 gs h v1 v2 q) hf dJ17_copyOfRangeByte_2 hl.1 rfl rfl (zroom (Nat.le_of_ble_eq_true rfl)) (fun x101 h102 H locs cells slots C9 S9 hf hq hn => ?_)
  refine lv_iload_n hx hb dJ17_copyOfRangeByte_5 rfl (lv_at hl 2 rfl) ?_
  refine lv_iload_n hx hb dJ17_copyOfRangeByte_6 rfl (lv_at hl 1 rfl) ?_
  refine lv_isub hx hb dJ17_copyOfRangeByte_7 ?_
  refine zr_nmI hf (fun x103 hf => ?_)
  refine lv_istore_n (i := 3) (lv' := [(3, .int x103), (0, .ref a0), (1, .int v1), (2, .int v2)]) hx hb dJ17_copyOfRangeByte_8 rfl hl (by decide) rfl (fun ls hl => ?_)
  refine lv_iload_n hx hb dJ17_copyOfRangeByte_9 rfl (lv_at hl 0 rfl) ?_
  refine zr_na2 hc hn hq q179 hf dJ17_copyOfRangeByte_10 (fun a104 h105 H cells slots C9 S9 hf hq hn => ?_)
  refine lv_astore (x := a104) (lv' := [(4, .ref a104), (3, .int x103), (0, .ref a0), (1, .int v1), (2, .int v2)]) hx hb dJ17_copyOfRangeByte_12 hl (by decide) rfl (fun ls hl => ?_)
  refine lv_aload_n (x := a0) hx hb dJ17_copyOfRangeByte_14 rfl (lv_at hl 2 rfl) ?_
  refine lv_iload_n hx hb dJ17_copyOfRangeByte_15 rfl (lv_at hl 3 rfl) ?_
  refine lv_aload (x := a104) hx hb dJ17_copyOfRangeByte_16 (lv_at hl 0 rfl) ?_
  refine lv_iconst (v := (0 : Int32)) hx hb dJ17_copyOfRangeByte_18 (by decide) ?_
  refine lv_aload_n (x := a0) hx hb dJ17_copyOfRangeByte_19 rfl (lv_at hl 2 rfl) ?_
  refine zr_len (ai := 2) hc hn hf dJ17_copyOfRangeByte_20 (fun x106 hf => ?_)
  refine lv_iload_n hx hb dJ17_copyOfRangeByte_21 rfl (lv_at hl 3 rfl) ?_
  refine lv_isub hx hb dJ17_copyOfRangeByte_22 ?_
  refine zr_nmI hf (fun x107 hf => ?_)
  refine lv_iload_n hx hb dJ17_copyOfRangeByte_23 rfl (lv_at hl 1 rfl) ?_
  refine zr_mmin (x := x107) (y := x103) hc hq hl.1 q514 q515 q106 q516 (zroom (Nat.le_of_ble_eq_true rfl)) (Nat.le_of_ble_eq_true rfl) (Nat.le_of_ble_eq_true rfl) dJ17_copyOfRangeByte_24 ?_
  refine zr_nmI hf (fun x108 hf => ?_)
  refine zr_cpI (ai := 2) hc hn (by decide) hl.1 q517 q519 q518 q108 hf (zroom (Nat.le_of_ble_eq_true rfl)) (Nat.le_of_ble_eq_true rfl) (Nat.le_of_ble_eq_true rfl) dJ17_copyOfRangeByte_27 (fun h109 H locs hf hn => ?_)
  refine lv_aload (x := a104) hx hb dJ17_copyOfRangeByte_30 (lv_at hl 0 rfl) ?_
  obtain ⟨rfl, rfl, rfl, rfl⟩ := zret_i hf
  exact zr_nret hc hn hr (Or.inr ⟨_, rfl⟩) hq (fun _ _ _ _ q => q) dJ17_copyOfRangeByte_32
theorem hd_J17_copyOfRange : yJ17_copyOfRange.cls ≠ "java/lang/invoke/MethodHandle" ∧ yJ17_copyOfRange.cls ≠ "java/lang/invoke/VarHandle" ∧ (parseMethodDescriptor yJ17_copyOfRange.desc).map (fun d => d.parameters.length) = some 3 := by decide +kernel
def f_J17_copyOfRange (h : PH) (a0 : Nat) (v1 : Int32) (v2 : Int32) : ZR Nat :=
  if v1 = 0 then
    (zlen h a0 2 fun x103 =>
    if v2 = x103 then
      (zcln h a0 2 fun a104 h105 =>
      zcastA h105 a104 2 <|
      zret a104 h105)
    else
      (zcl (f_J17_copyOfRangeByte h a0 v1 v2) fun x106 h107 =>
      zret x106 h107))
  else
    (zcl (f_J17_copyOfRangeByte h a0 v1 v2) fun x101 h102 =>
    zret x101 h102)
set_option maxHeartbeats 4000000 in
set_option maxRecDepth 100000 in
theorem m_J17_copyOfRange (l : Launch) (D : va_G) (dA : Nat → ClassId) (b0 : Nat) (gs : Nat → Option Nat) (h : PH) (a0 : Nat) (v1 : Int32) (v2 : Int32) {r : Nat} {hh : PH} {mc ms : Nat} (hf : f_J17_copyOfRange h a0 v1 v2 = some (r, hh, mc, ms)) : zMt l D dA b0 gs yJ17_copyOfRange cJ17_copyOfRange 3 (some (.array .byte)) 3 105 [.ref a0, .int v1, .int v2] h (evN r) hh mc ms := by
  unfold f_J17_copyOfRange at hf
  refine zMt.of (by decide) (Nat.le_of_ble_eq_true rfl) ?_
  intro p e s m args below meth c hc hr hin hn ls hl
  have hl : lv_has ls 3 [(0, .ref a0), (1, .int v1), (2, .int v2)] := hl
  have hq : 0 + mc = mc ∧ 0 + ms = ms := ⟨Nat.zero_add _, Nat.zero_add _⟩
  have hx := hc.x
  have hb := hc.b
  refine lv_iload_n hx hb dJ17_copyOfRange_0 rfl (lv_at hl 1 rfl) ?_
  refine lv_if_ne (tgt := 10) hx hb dJ17_copyOfRange_1 (by decide) (fun c9 => ?_) (fun c9 => ?_)
  · have hf := zif_f c9 hf
    refine lv_aload_n (x := a0) hx hb dJ17_copyOfRange_10 rfl (lv_at hl 0 rfl) ?_
    refine lv_iload_n hx hb dJ17_copyOfRange_11 rfl (lv_at hl 1 rfl) ?_
    refine lv_iload_n hx hb dJ17_copyOfRange_12 rfl (lv_at hl 2 rfl) ?_
    refine zr_cSN (As := [.ref a0, .int v1, .int v2]) (rest := []) hc hn hq hd_J17_copyOfRangeByte (lw_S q595 q596 q107 q597) (Nat.le_of_ble_eq_true rfl) (Nat.le_of_ble_eq_true rfl) (fun _ _ _ _ q => m_J17_copyOfRangeByte l D dA b0 gs h a0 v1 v2 q) hf dJ17_copyOfRange_13 hl.1 rfl rfl (zroom (Nat.le_of_ble_eq_true rfl)) (fun x101 h102 H locs cells slots C9 S9 hf hq hn => ?_)
    obtain ⟨rfl, rfl, rfl, rfl⟩ := zret_i hf
    exact zr_nret hc hn hr (Or.inr ⟨_, rfl⟩) hq (fun _ _ _ _ q => q) dJ17_copyOfRange_16
  · have hf := zif_t c9 hf
    refine lv_iload_n hx hb dJ17_copyOfRange_4 rfl (lv_at hl 2 rfl) ?_
    refine lv_aload_n (x := a0) hx hb dJ17_copyOfRange_5 rfl (lv_at hl 0 rfl) ?_
    refine zr_len (ai := 2) hc hn hf dJ17_copyOfRange_6 (fun x103 hf => ?_)
    refine lv_icmp_eq (tgt := 17) hx hb dJ17_copyOfRange_7 (by decide) (fun c9 => ?_) (fun c9 => ?_)
    · have hf := zif_t c9 hf
      refine lv_aload_n (x := a0) hx hb dJ17_copyOfRange_17 rfl (lv_at hl 0 rfl) ?_
      refine zr_cln (ai := 2) hc hn hq hl.1 q507 q508 q509 q510 q511 q512 hc.nmB hf (zroom (Nat.le_of_ble_eq_true rfl)) (Nat.le_of_ble_eq_true rfl) (Nat.le_of_ble_eq_true rfl) dJ17_copyOfRange_18 (fun a104 h105 H cells slots C9 S9 hf hq hn => ?_)
      refine zr_castA2 hc hn q513 hf dJ17_copyOfRange_21 (fun hf => ?_)
      obtain ⟨rfl, rfl, rfl, rfl⟩ := zret_i hf
      exact zr_nret hc hn hr (Or.inr ⟨_, rfl⟩) hq (fun _ _ _ _ q => q) dJ17_copyOfRange_24
    · have hf := zif_f c9 hf
      refine lv_aload_n (x := a0) hx hb dJ17_copyOfRange_10 rfl (lv_at hl 0 rfl) ?_
      refine lv_iload_n hx hb dJ17_copyOfRange_11 rfl (lv_at hl 1 rfl) ?_
      refine lv_iload_n hx hb dJ17_copyOfRange_12 rfl (lv_at hl 2 rfl) ?_
      refine zr_cSN (As := [.ref a0, .int v1, .int v2]) (rest := []) hc hn hq hd_J17_copyOfRangeByte (lw_S q595 q596 q107 q597) (Nat.le_of_ble_eq_true rfl) (Nat.le_of_ble_eq_true rfl) (fun _ _ _ _ q => m_J17_copyOfRangeByte l D dA b0 gs h a0 v1 v2 q) hf dJ17_copyOfRange_13 hl.1 rfl rfl (zroom (Nat.le_of_ble_eq_true rfl)) (fun x106 h107 H locs cells slots C9 S9 hf hq hn => ?_)
      obtain ⟨rfl, rfl, rfl, rfl⟩ := zret_i hf
      exact zr_nret hc hn hr (Or.inr ⟨_, rfl⟩) hq (fun _ _ _ _ q => q) dJ17_copyOfRange_16
theorem hd_J10_init_2 : yJ10_init_2.cls ≠ "java/lang/invoke/MethodHandle" ∧ yJ10_init_2.cls ≠ "java/lang/invoke/VarHandle" ∧ (parseMethodDescriptor yJ10_init_2.desc).map (fun d => d.parameters.length) = some 2 := by decide +kernel
def f_J10_init_2 (h : PH) (a0 : Nat) (a1 : Nat) (o2 : Option Nat) : ZR Unit :=
  zrc h a1 15 <| zcl (f_J12_getValue h a1) fun x101 h102 =>
  zrc h102 a1 15 <| zcl (f_J13_length h102 a1) fun x103 h104 =>
  zrc h104 a1 15 <| zcl (f_J12_isLatin1 h104 a1) fun x105 h106 =>
  if x105 = 0 then
    (none)
  else
    (zpI h106 a0 14 1 (0 : Int32) fun h107 =>
    znn x101 fun a108 =>
    zcl (f_J17_copyOfRange h107 a108 (0 : Int32) x103) fun x109 h110 =>
    zpP h110 a0 14 0 (some x109) fun h111 =>
    zret () h111)
set_option maxHeartbeats 4000000 in
set_option maxRecDepth 100000 in
theorem m_J10_init_2 (l : Launch) (D : va_G) (dA : Nat → ClassId) (b0 : Nat) (gs : Nat → Option Nat) (h : PH) (a0 : Nat) (a1 : Nat) (o2 : Option Nat) {r : Unit} {hh : PH} {mc ms : Nat} (hf : f_J10_init_2 h a0 a1 o2 = some (r, hh, mc, ms)) : zMt l D dA b0 gs yJ10_init_2 cJ10_init_2 5 none 4 127 [.ref a0, .ref a1, va_rf o2] h (evU r) hh mc ms := by
  unfold f_J10_init_2 at hf
  refine zMt.of (by decide) (by simp [lg_sl, zcat_rf, zcat_i, zcat_l, zcat_d, zcat_r, zcat_n]) ?_
  intro p e s m args below meth c hc hr hin hn ls hl
  have hl : lv_has ls 5 [(0, .ref a0), (1, .ref a1), (2, va_rf o2)] := by simpa [lv_args, zcat_rf, zcat_i, zcat_l, zcat_d, zcat_r, zcat_n] using hl
  have hq : 0 + mc = mc ∧ 0 + ms = ms := ⟨Nat.zero_add _, Nat.zero_add _⟩
  have hx := hc.x
  have hb := hc.b
  refine lv_aload_n (x := a0) hx hb dJ10_init_2_0 rfl (lv_at hl 0 rfl) ?_
  refine W.objInit hx hb hc.ow (hc.ts _ q584) (hc.ts _ q137) (hc.ts _ q138) rfl (by rw [hc.ml]; exact hl.1) rfl dJ10_init_2_1 (Nat.le_of_ble_eq_true rfl) (zroomL (Nat.le_of_ble_eq_true rfl) (Nat.le_of_ble_eq_true rfl)) ?_
  refine W.eq (g2 := F0 m 4 ls []) rfl ?_
  refine lv_aload_n (x := a1) hx hb dJ10_init_2_4 rfl (lv_at hl 1 rfl) ?_
  refine zr_cUP (n := 0) (As := []) (rest := []) hc hn hq (ci := 15) rfl rfl (by decide +kernel) (lw_U q585 q587 q588 q586 q102 q589) (Nat.le_of_ble_eq_true rfl) (Nat.le_of_ble_eq_true rfl) (fun _ _ _ _ q => m_J12_getValue l D dA b0 gs h a1 q) hf dJ10_init_2_5 hl.1 rfl rfl (zroom (Nat.le_of_ble_eq_true rfl)) (fun x101 h102 H locs cells slots C9 S9 hf hq hn => ?_)
  refine zr_astore_n (x := x101) (i := 3) (lv' := [(3, va_rf x101), (0, .ref a0), (1, .ref a1), (2, va_rf o2)]) hx hb dJ10_init_2_8 rfl hl (by decide) (by simp [zcat_rf, zcat_i, zcat_l, zcat_d, zcat_r, zcat_n] <;> rfl) (fun ls hl => ?_)
  refine lv_aload_n (x := a1) hx hb dJ10_init_2_9 rfl (lv_at hl 2 rfl) ?_
  refine zr_cOI (n := 0) (As := []) (rest := []) hc hn hq (ci := 15) (owner := "java/lang/AbstractStringBuilder") rfl q476 q477 (by decide +kernel) (lw_U q590 q2639 q2644 q472 q103 q474) (Nat.le_of_ble_eq_true rfl) (Nat.le_of_ble_eq_true rfl) (fun _ _ _ _ q => m_J13_length l D dA b0 gs h102 a1 q) hf dJ10_init_2_10 hl.1 rfl rfl (zroom (Nat.le_of_ble_eq_true rfl)) (fun x103 h104 H locs cells slots C9 S9 hf hq hn => ?_)
  refine lv_istore (lv' := [(4, .int x103), (3, va_rf x101), (0, .ref a0), (1, .ref a1), (2, va_rf o2)]) hx hb dJ10_init_2_13 hl (by decide) (by simp [zcat_rf, zcat_i, zcat_l, zcat_d, zcat_r, zcat_n] <;> rfl) (fun ls hl => ?_)
  refine lv_aload_n (x := a1) hx hb dJ10_init_2_15 rfl (lv_at hl 3 rfl) ?_
  refine zr_cUI (n := 0) (As := []) (rest := []) hc hn hq (ci := 15) rfl rfl (by decide +kernel) (lw_U q591 q522 q523 q521 q102 q524) (Nat.le_of_ble_eq_true rfl) (Nat.le_of_ble_eq_true rfl) (fun _ _ _ _ q => m_J12_isLatin1 l D dA b0 gs h104 a1 q) hf dJ10_init_2_16 hl.1 rfl rfl (zroom (Nat.le_of_ble_eq_true rfl)) (fun x105 h106 H locs cells slots C9 S9 hf hq hn => ?_)
  refine lv_if_eq (tgt := 41) hx hb dJ10_init_2_19 (by decide) (fun c9 => ?_) (fun c9 => ?_)
  · have hf := zif_t c9 hf
    cases hf
  · have hf := zif_f c9 hf
    refine lv_aload_n (x := a0) hx hb dJ10_init_2_22 rfl (lv_at hl 2 rfl) ?_
    refine lv_iconst (v := (0 : Int32)) hx hb dJ10_init_2_23 (by decide) ?_
    refine zr_pI (x := (0 : Int32)) hc hn (ci := 14) rfl rfl in_J10s 1 (by decide) tyJ10 tyJ10s_ok nmJ10s q708 (fun _ h => h) (Or.inr ⟨rfl, hin, rfl⟩) (fun _ _ _ => rfl) (by decide) (by decide) hf dJ10_init_2_24 (fun h107 H locs hf hn => ?_)
    refine lv_aload_n (x := a0) hx hb dJ10_init_2_27 rfl (lv_at hl 2 rfl) ?_
    refine zr_aload_n (x := x101) hx hb dJ10_init_2_28 rfl (lv_at hl 1 rfl) ?_
    refine lv_iconst (v := (0 : Int32)) hx hb dJ10_init_2_29 (by decide) ?_
    refine lv_iload hx hb dJ10_init_2_30 (lv_at hl 0 rfl) ?_
    obtain ⟨a108, e9, hf9⟩ := znn_i hf
    subst e9
    have hf := hf9
    clear hf9
    refine zr_cSN (As := [.ref a108, .int (0 : Int32), .int x103]) (rest := [.ref a0]) hc hn hq hd_J17_copyOfRange (lw_S q592 q593 q107 q594) (Nat.le_of_ble_eq_true rfl) (Nat.le_of_ble_eq_true rfl) (fun _ _ _ _ q => m_J17_copyOfRange l D dA b0 gs h107 a108 (0 : Int32) x103 q) hf dJ10_init_2_32 hl.1 rfl rfl (zroom (Nat.le_of_ble_eq_true rfl)) (fun x109 h110 H locs cells slots C9 S9 hf hq hn => ?_)
    refine zr_pP (x := (some x109)) hc hn (ci := 14) rfl rfl in_J10s 0 (by decide) tyJ10 tyJ10s_ok nmJ10s q707 (fun _ h => h) (Or.inr ⟨rfl, hin, rfl⟩) (fun _ _ _ => rfl) (zn_rf _ (by decide)) (zf_rf _ (by decide)) hf dJ10_init_2_35 (fun h111 H locs hf hn => ?_)
    refine lv_goto (tgt := 97) hx hb dJ10_init_2_38 (by decide) ?_
    obtain ⟨rfl, rfl, rfl, rfl⟩ := zret_i hf
    exact zr_vret hc hn hr hq (fun _ _ _ _ q => q) dJ10_init_2_97
theorem hd_J10_init : yJ10_init.cls ≠ "java/lang/invoke/MethodHandle" ∧ yJ10_init.cls ≠ "java/lang/invoke/VarHandle" ∧ (parseMethodDescriptor yJ10_init.desc).map (fun d => d.parameters.length) = some 1 := by decide +kernel
def f_J10_init (h : PH) (a0 : Nat) (a1 : Nat) : ZR Unit :=
  zcl (f_J10_init_2 h a0 a1 (none : Option Nat)) fun _ h102 =>
  zret () h102
set_option maxHeartbeats 4000000 in
set_option maxRecDepth 100000 in
theorem m_J10_init (l : Launch) (D : va_G) (dA : Nat → ClassId) (b0 : Nat) (gs : Nat → Option Nat) (h : PH) (a0 : Nat) (a1 : Nat) {r : Unit} {hh : PH} {mc ms : Nat} (hf : f_J10_init h a0 a1 = some (r, hh, mc, ms)) : zMt l D dA b0 gs yJ10_init cJ10_init 2 none 5 151 [.ref a0, .ref a1] h (evU r) hh mc ms := by
  unfold f_J10_init at hf
  refine zMt.of (by decide) (Nat.le_of_ble_eq_true rfl) ?_
  intro p e s m args below meth c hc hr hin hn ls hl
  have hl : lv_has ls 2 [(0, .ref a0), (1, .ref a1)] := hl
  have hq : 0 + mc = mc ∧ 0 + ms = ms := ⟨Nat.zero_add _, Nat.zero_add _⟩
  have hx := hc.x
  have hb := hc.b
  refine lv_aload_n (x := a0) hx hb dJ10_init_0 rfl (lv_at hl 0 rfl) ?_
  refine lv_aload_n (x := a1) hx hb dJ10_init_1 rfl (lv_at hl 1 rfl) ?_
  refine lv_null hx hb dJ10_init_2 ?_
  refine zr_cI (As := [.ref a1, .null]) (rest := []) hc hn hq rfl hd_J10_init_2 (lw_meth q583) q581 q582 q98 (Nat.le_of_ble_eq_true rfl) (Nat.le_of_ble_eq_true rfl) (fun _ _ _ _ q => m_J10_init_2 l D dA b0 gs h a0 a1 (none : Option Nat) q) hf dJ10_init_3 hl.1 rfl rfl (zroom (Nat.le_of_ble_eq_true rfl)) (fun x101 h102 H locs cells slots C9 S9 hf hq hn => ?_)
  obtain ⟨rfl, rfl, rfl, rfl⟩ := zret_i hf
  exact zr_vret hc hn hr hq (fun _ _ _ _ q => q) dJ10_init_6
theorem hd_J19_checkFromToIndex : yJ19_checkFromToIndex.cls ≠ "java/lang/invoke/MethodHandle" ∧ yJ19_checkFromToIndex.cls ≠ "java/lang/invoke/VarHandle" ∧ (parseMethodDescriptor yJ19_checkFromToIndex.desc).map (fun d => d.parameters.length) = some 4 := by decide +kernel
def f_J19_checkFromToIndex (h : PH) (v0 : Int32) (v1 : Int32) (v2 : Int32) (a3 : Nat) : ZR Int32 :=
  if v0 < 0 then
    (none)
  else
    (if v1 < v0 then
      (none)
    else
      (if v1 ≤ v2 then
        (zret v0 h)
      else
        (none)))
set_option maxHeartbeats 4000000 in
set_option maxRecDepth 100000 in
theorem m_J19_checkFromToIndex (l : Launch) (D : va_G) (dA : Nat → ClassId) (b0 : Nat) (gs : Nat → Option Nat) (h : PH) (v0 : Int32) (v1 : Int32) (v2 : Int32) (a3 : Nat) {r : Int32} {hh : PH} {mc ms : Nat} (hf : f_J19_checkFromToIndex h v0 v1 v2 a3 = some (r, hh, mc, ms)) : zMt l D dA b0 gs yJ19_checkFromToIndex cJ19_checkFromToIndex 4 (some .int) 1 60 [.int v0, .int v1, .int v2, .ref a3] h (evI r) hh mc ms := by
  unfold f_J19_checkFromToIndex at hf
  refine zMt.of (by decide) (Nat.le_of_ble_eq_true rfl) ?_
  intro p e s m args below meth c hc hr hin hn ls hl
  have hl : lv_has ls 4 [(0, .int v0), (1, .int v1), (2, .int v2), (3, .ref a3)] := hl
  have hq : 0 + mc = mc ∧ 0 + ms = ms := ⟨Nat.zero_add _, Nat.zero_add _⟩
  have hx := hc.x
  have hb := hc.b
  refine lv_iload_n hx hb dJ19_checkFromToIndex_0 rfl (lv_at hl 0 rfl) ?_
  refine lv_if_lt (tgt := 14) hx hb dJ19_checkFromToIndex_1 (by decide) (fun c9 => ?_) (fun c9 => ?_)
  · have hf := zif_t c9 hf
    refine lv_aload_n (x := a3) hx hb dJ19_checkFromToIndex_14 rfl (lv_at hl 3 rfl) ?_
    refine lv_iload_n hx hb dJ19_checkFromToIndex_15 rfl (lv_at hl 0 rfl) ?_
    refine lv_iload_n hx hb dJ19_checkFromToIndex_16 rfl (lv_at hl 1 rfl) ?_
    refine lv_iload_n hx hb dJ19_checkFromToIndex_17 rfl (lv_at hl 2 rfl) ?_
    cases hf
  · have hf := zif_f c9 hf
    refine lv_iload_n hx hb dJ19_checkFromToIndex_4 rfl (lv_at hl 0 rfl) ?_
    refine lv_iload_n hx hb dJ19_checkFromToIndex_5 rfl (lv_at hl 1 rfl) ?_
    refine lv_icmp_gt (tgt := 14) hx hb dJ19_checkFromToIndex_6 (by decide) (fun c9 => ?_) (fun c9 => ?_)
    · have hf := zif_t c9 hf
      refine lv_aload_n (x := a3) hx hb dJ19_checkFromToIndex_14 rfl (lv_at hl 3 rfl) ?_
      refine lv_iload_n hx hb dJ19_checkFromToIndex_15 rfl (lv_at hl 0 rfl) ?_
      refine lv_iload_n hx hb dJ19_checkFromToIndex_16 rfl (lv_at hl 1 rfl) ?_
      refine lv_iload_n hx hb dJ19_checkFromToIndex_17 rfl (lv_at hl 2 rfl) ?_
      cases hf
    · have hf := zif_f c9 hf
      refine lv_iload_n hx hb dJ19_checkFromToIndex_9 rfl (lv_at hl 1 rfl) ?_
      refine lv_iload_n hx hb dJ19_checkFromToIndex_10 rfl (lv_at hl 2 rfl) ?_
      refine lv_icmp_le (tgt := 22) hx hb dJ19_checkFromToIndex_11 (by decide) (fun c9 => ?_) (fun c9 => ?_)
      · have hf := zif_t c9 hf
        refine lv_iload_n hx hb dJ19_checkFromToIndex_22 rfl (lv_at hl 0 rfl) ?_
        obtain ⟨rfl, rfl, rfl, rfl⟩ := zret_i hf
        exact zr_iret hc hn hr hq (fun _ _ _ _ q => q) dJ19_checkFromToIndex_23
      · have hf := zif_f c9 hf
        refine lv_aload_n (x := a3) hx hb dJ19_checkFromToIndex_14 rfl (lv_at hl 3 rfl) ?_
        refine lv_iload_n hx hb dJ19_checkFromToIndex_15 rfl (lv_at hl 0 rfl) ?_
        refine lv_iload_n hx hb dJ19_checkFromToIndex_16 rfl (lv_at hl 1 rfl) ?_
        refine lv_iload_n hx hb dJ19_checkFromToIndex_17 rfl (lv_at hl 2 rfl) ?_
        cases hf
theorem hd_J18_equals : yJ18_equals.cls ≠ "java/lang/invoke/MethodHandle" ∧ yJ18_equals.cls ≠ "java/lang/invoke/VarHandle" ∧ (parseMethodDescriptor yJ18_equals.desc).map (fun d => d.parameters.length) = some 2 := by decide +kernel
def f_J18_equals_b9 : Nat → PH → Nat → Nat → Int32 → ZR Int32
  | 0 => fun _ _ _ _ => none
  | n + 1 => fun h a0 a1 v2 =>
    zlen h a0 2 fun x101 =>
    if x101 ≤ v2 then
      (zret (1 : Int32) h)
    else
      (zaI h a0 2 v2 fun x102 =>
      zaI h a1 2 v2 fun x103 =>
      if x102 = x103 then
        (znm (v2 + (1 : Int32)) fun x104 =>
        f_J18_equals_b9 n h a0 a1 x104)
      else
        (zret (0 : Int32) h))
def f_J18_equals (h : PH) (a0 : Nat) (a1 : Nat) : ZR Int32 :=
  zlen h a0 2 fun x101 =>
  zlen h a1 2 fun x102 =>
  if x101 = x102 then
    (f_J18_equals_b9 zFU h a0 a1 (0 : Int32))
  else
    (zret (0 : Int32) h)
set_option maxHeartbeats 4000000 in
set_option maxRecDepth 100000 in
theorem m_J18_equals_b9 {p : Program} {l : Launch} {e : Env} {s : State} {m : MethodId} {args : Array Value} {below : List Frame} {meth : Method} {c : Code} {D : va_G} {dA : Nat → ClassId} {b0 : Nat} {gs : Nat → Option Nat} (hc : zC D dA b0 gs yJ18_equals.cls cJ18_equals 3 p c s m args meth) (hr : meth.sig.returnType = (some .boolean)) (hin : meth.name = yJ18_equals.name) {r : Int32} {hh : PH} {mc ms : Nat} : ∀ (n : Nat) (h : PH) (a0 : Nat) (a1 : Nat) (v2 : Int32) (C9 S9 : Nat) (H : Heap) (locs : List Loc) (cells slots : Nat), f_J18_equals_b9 n h a0 a1 v2 = some (r, hh, C9, S9) → cells + C9 = mc ∧ slots + S9 = ms → zM D dA b0 gs s h H locs → ∀ ls : Array Slot, lv_has ls 3 [(0, .ref a0), (1, .ref a1), (2, .int v2)] → W p l e ({ frames := 1, cells := mc, slots := ms, locals := 60 } : Room) s m args below meth c H locs cells slots (MQ below (zQ D dA b0 gs (evI r) hh) args s mc ms (zA b0)) (F0 m 9 ls []) := by
  have hx := hc.x
  have hb := hc.b
  intro n
  induction n with
  | zero =>
    intro h a0 a1 v2 C9 S9 H locs cells slots hf hq hn ls hl
    cases hf
  | succ n ih =>
    intro h a0 a1 v2 C9 S9 H locs cells slots hf hq hn ls hl
    unfold f_J18_equals_b9 at hf
    refine lv_iload_n hx hb dJ18_equals_9 rfl (lv_at hl 2 rfl) ?_
    refine lv_aload_n (x := a0) hx hb dJ18_equals_10 rfl (lv_at hl 0 rfl) ?_
    refine zr_len (ai := 2) hc hn hf dJ18_equals_11 (fun x101 hf => ?_)
    refine lv_icmp_ge (tgt := 32) hx hb dJ18_equals_12 (by decide) (fun c9 => ?_) (fun c9 => ?_)
    · have hf := zif_t c9 hf
      refine lv_iconst (v := (1 : Int32)) hx hb dJ18_equals_32 (by decide) ?_
      obtain ⟨rfl, rfl, rfl, rfl⟩ := zret_i hf
      exact zr_zret hc hn hr (by decide) hq (fun _ _ _ _ q => q) dJ18_equals_33
    · have hf := zif_f c9 hf
      refine lv_aload_n (x := a0) hx hb dJ18_equals_15 rfl (lv_at hl 0 rfl) ?_
      refine lv_iload_n hx hb dJ18_equals_16 rfl (lv_at hl 2 rfl) ?_
      refine zr_aI2 hc hn hf dJ18_equals_17 (fun x102 hf => ?_)
      refine lv_aload_n (x := a1) hx hb dJ18_equals_18 rfl (lv_at hl 1 rfl) ?_
      refine lv_iload_n hx hb dJ18_equals_19 rfl (lv_at hl 2 rfl) ?_
      refine zr_aI2 hc hn hf dJ18_equals_20 (fun x103 hf => ?_)
      refine lv_icmp_eq (tgt := 26) hx hb dJ18_equals_21 (by decide) (fun c9 => ?_) (fun c9 => ?_)
      · have hf := zif_t c9 hf
        obtain ⟨x104, ex104, hf⟩ := znm_i hf
        refine lv_iinc (v := x104) (lv' := [(2, .int x104), (0, .ref a0), (1, .ref a1)]) hx hb dJ18_equals_26 hl (k := 2) rfl (by rw [ex104]; rfl) (by decide) rfl (fun ls hl => ?_)
        refine lv_goto (tgt := 9) hx hb dJ18_equals_29 (by decide) ?_
        exact ih h a0 a1 x104 _ _ _ _ _ _ hf hq hn _ (lv_sub hl [1, 2, 0] rfl)
      · have hf := zif_f c9 hf
        refine lv_iconst (v := (0 : Int32)) hx hb dJ18_equals_24 (by decide) ?_
        obtain ⟨rfl, rfl, rfl, rfl⟩ := zret_i hf
        exact zr_zret hc hn hr (by decide) hq (fun _ _ _ _ q => q) dJ18_equals_25
set_option maxHeartbeats 4000000 in
set_option maxRecDepth 100000 in
theorem m_J18_equals (l : Launch) (D : va_G) (dA : Nat → ClassId) (b0 : Nat) (gs : Nat → Option Nat) (h : PH) (a0 : Nat) (a1 : Nat) {r : Int32} {hh : PH} {mc ms : Nat} (hf : f_J18_equals h a0 a1 = some (r, hh, mc, ms)) : zMt l D dA b0 gs yJ18_equals cJ18_equals 3 (some .boolean) 1 60 [.ref a0, .ref a1] h (evI r) hh mc ms := by
  unfold f_J18_equals at hf
  refine zMt.of (by decide) (Nat.le_of_ble_eq_true rfl) ?_
  intro p e s m args below meth c hc hr hin hn ls hl
  have hl : lv_has ls 3 [(0, .ref a0), (1, .ref a1)] := hl
  have hq : 0 + mc = mc ∧ 0 + ms = ms := ⟨Nat.zero_add _, Nat.zero_add _⟩
  have hx := hc.x
  have hb := hc.b
  refine lv_aload_n (x := a0) hx hb dJ18_equals_0 rfl (lv_at hl 0 rfl) ?_
  refine zr_len (ai := 2) hc hn hf dJ18_equals_1 (fun x101 hf => ?_)
  refine lv_aload_n (x := a1) hx hb dJ18_equals_2 rfl (lv_at hl 1 rfl) ?_
  refine zr_len (ai := 2) hc hn hf dJ18_equals_3 (fun x102 hf => ?_)
  refine lv_icmp_ne (tgt := 34) hx hb dJ18_equals_4 (by decide) (fun c9 => ?_) (fun c9 => ?_)
  · have hf := zif_f c9 hf
    refine lv_iconst (v := (0 : Int32)) hx hb dJ18_equals_34 (by decide) ?_
    obtain ⟨rfl, rfl, rfl, rfl⟩ := zret_i hf
    exact zr_zret hc hn hr (by decide) hq (fun _ _ _ _ q => q) dJ18_equals_35
  · have hf := zif_t c9 hf
    refine lv_iconst (v := (0 : Int32)) hx hb dJ18_equals_7 (by decide) ?_
    refine lv_istore_n (i := 2) (lv' := [(2, .int (0 : Int32)), (0, .ref a0), (1, .ref a1)]) hx hb dJ18_equals_8 rfl hl (by decide) rfl (fun ls hl => ?_)
    exact m_J18_equals_b9 hc hr hin zFU h a0 a1 (0 : Int32) _ _ _ _ _ _ hf hq hn _ (lv_sub hl [1, 2, 0] rfl)
theorem hd_J10_equals : yJ10_equals.cls ≠ "java/lang/invoke/MethodHandle" ∧ yJ10_equals.cls ≠ "java/lang/invoke/VarHandle" ∧ (parseMethodDescriptor yJ10_equals.desc).map (fun d => d.parameters.length) = some 1 := by decide +kernel
def f_J10_equals (h : PH) (a0 : Nat) (a1 : Nat) : ZR Int32 :=
  if (some a0) = (some a1) then
    (zret (1 : Int32) h)
  else
    (zinst h a1 14 <|
    zcast h 14 (some a1) <|
    zgI h a0 14 1 fun x101 =>
    zgI h a1 14 1 fun x102 =>
    if x101 = x102 then
      (zgP h a0 14 0 fun x103 =>
      zgP h a1 14 0 fun x104 =>
      znn x103 fun a105 =>
      znn x104 fun a106 =>
      zcl (f_J18_equals h a105 a106) fun x107 h108 =>
      if x107 = 0 then
        (zret (0 : Int32) h108)
      else
        (zret (1 : Int32) h108))
    else
      (zret (0 : Int32) h))
set_option maxHeartbeats 4000000 in
set_option maxRecDepth 100000 in
theorem m_J10_equals (l : Launch) (D : va_G) (dA : Nat → ClassId) (b0 : Nat) (gs : Nat → Option Nat) (h : PH) (a0 : Nat) (a1 : Nat) {r : Int32} {hh : PH} {mc ms : Nat} (hf : f_J10_equals h a0 a1 = some (r, hh, mc, ms)) : zMt l D dA b0 gs yJ10_equals cJ10_equals 3 (some .boolean) 2 82 [.ref a0, .ref a1] h (evI r) hh mc ms := by
  unfold f_J10_equals at hf
  refine zMt.of (by decide) (Nat.le_of_ble_eq_true rfl) ?_
  intro p e s m args below meth c hc hr hin hn ls hl
  have hl : lv_has ls 3 [(0, .ref a0), (1, .ref a1)] := hl
  have hq : 0 + mc = mc ∧ 0 + ms = ms := ⟨Nat.zero_add _, Nat.zero_add _⟩
  have hx := hc.x
  have hb := hc.b
  refine lv_aload_n (x := a0) hx hb dJ10_equals_0 rfl (lv_at hl 0 rfl) ?_
  refine lv_aload_n (x := a1) hx hb dJ10_equals_1 rfl (lv_at hl 1 rfl) ?_
  refine lv_acmp_ne (rx := (some a0)) (ry := (some a1)) (tgt := 7) hx hb dJ10_equals_2 (by decide) (fun c9 => ?_) (fun c9 => ?_)
  · have hf := zif_f c9 hf
    refine lv_aload_n (x := a1) hx hb dJ10_equals_7 rfl (lv_at hl 1 rfl) ?_
    refine zr_inst hc hn (ci := 14) rfl q764 hf dJ10_equals_8 (fun hf => ?_)
    refine lv_if_eq (tgt := 54) hx hb dJ10_equals_11 (by decide) (fun c9 => ?_) (fun c9 => ?_)
    · first | exact absurd c9 (by decide) | exact absurd (by decide) c9
    · refine lv_aload_n (x := a1) hx hb dJ10_equals_14 rfl (lv_at hl 1 rfl) ?_
      refine zr_cast (o := (some a1)) hc hn (ci := 14) rfl q764 (Or.inl rfl) hf dJ10_equals_15 (fun hf => ?_)
      refine lv_astore_n (x := a1) (i := 2) (lv' := [(2, .ref a1), (0, .ref a0), (1, .ref a1)]) hx hb dJ10_equals_18 rfl hl (by decide) rfl (fun ls hl => ?_)
      refine zr_gsI hc hn (hc.stCS) q671 (fun _ h => h) dJ10_equals_19 ?_
      refine lv_if_eq (tgt := 36) hx hb dJ10_equals_22 (by decide) (fun c9 => ?_) (fun c9 => ?_)
      · first | exact absurd c9 (by decide) | exact absurd (by decide) c9
      · refine lv_aload_n (x := a0) hx hb dJ10_equals_25 rfl (lv_at hl 1 rfl) ?_
        refine zr_gI hc hn (ci := 14) rfl rfl in_J10s 1 (by decide) q708 (fun _ h => h) (fun _ _ _ => rfl) hf dJ10_equals_26 (fun x101 hf => ?_)
        refine lv_aload_n (x := a1) hx hb dJ10_equals_29 rfl (lv_at hl 0 rfl) ?_
        refine zr_gI hc hn (ci := 14) rfl rfl in_J10s 1 (by decide) q708 (fun _ h => h) (fun _ _ _ => rfl) hf dJ10_equals_30 (fun x102 hf => ?_)
        refine lv_icmp_ne (tgt := 54) hx hb dJ10_equals_33 (by decide) (fun c9 => ?_) (fun c9 => ?_)
        · have hf := zif_f c9 hf
          refine lv_iconst (v := (0 : Int32)) hx hb dJ10_equals_54 (by decide) ?_
          obtain ⟨rfl, rfl, rfl, rfl⟩ := zret_i hf
          exact zr_zret hc hn hr (by decide) hq (fun _ _ _ _ q => q) dJ10_equals_55
        · have hf := zif_t c9 hf
          refine lv_aload_n (x := a0) hx hb dJ10_equals_36 rfl (lv_at hl 1 rfl) ?_
          refine zr_gP hc hn (ci := 14) rfl rfl in_J10s 0 (by decide) q707 (fun _ h => h) (fun _ _ _ => rfl) hf dJ10_equals_37 (fun x103 hf => ?_)
          refine lv_aload_n (x := a1) hx hb dJ10_equals_40 rfl (lv_at hl 0 rfl) ?_
          refine zr_gP hc hn (ci := 14) rfl rfl in_J10s 0 (by decide) q707 (fun _ h => h) (fun _ _ _ => rfl) hf dJ10_equals_41 (fun x104 hf => ?_)
          obtain ⟨a105, e9, hf9⟩ := znn_i hf
          subst e9
          have hf := hf9
          clear hf9
          obtain ⟨a106, e9, hf9⟩ := znn_i hf
          subst e9
          have hf := hf9
          clear hf9
          refine zr_cSI (As := [.ref a105, .ref a106]) (rest := []) hc hn hq hd_J18_equals (lw_S q765 q766 q109 q767) (Nat.le_of_ble_eq_true rfl) (Nat.le_of_ble_eq_true rfl) (fun _ _ _ _ q => m_J18_equals l D dA b0 gs h a105 a106 q) hf dJ10_equals_44 hl.1 rfl rfl (zroom (Nat.le_of_ble_eq_true rfl)) (fun x107 h108 H locs cells slots C9 S9 hf hq hn => ?_)
          refine lv_if_eq (tgt := 54) hx hb dJ10_equals_47 (by decide) (fun c9 => ?_) (fun c9 => ?_)
          · have hf := zif_t c9 hf
            refine lv_iconst (v := (0 : Int32)) hx hb dJ10_equals_54 (by decide) ?_
            obtain ⟨rfl, rfl, rfl, rfl⟩ := zret_i hf
            exact zr_zret hc hn hr (by decide) hq (fun _ _ _ _ q => q) dJ10_equals_55
          · have hf := zif_f c9 hf
            refine lv_iconst (v := (1 : Int32)) hx hb dJ10_equals_50 (by decide) ?_
            refine lv_goto (tgt := 55) hx hb dJ10_equals_51 (by decide) ?_
            obtain ⟨rfl, rfl, rfl, rfl⟩ := zret_i hf
            exact zr_zret hc hn hr (by decide) hq (fun _ _ _ _ q => q) dJ10_equals_55
  · have hf := zif_t c9 hf
    refine lv_iconst (v := (1 : Int32)) hx hb dJ10_equals_5 (by decide) ?_
    obtain ⟨rfl, rfl, rfl, rfl⟩ := zret_i hf
    exact zr_zret hc hn hr (by decide) hq (fun _ _ _ _ q => q) dJ10_equals_6
theorem hd_J10_isEmpty : yJ10_isEmpty.cls ≠ "java/lang/invoke/MethodHandle" ∧ yJ10_isEmpty.cls ≠ "java/lang/invoke/VarHandle" ∧ (parseMethodDescriptor yJ10_isEmpty.desc).map (fun d => d.parameters.length) = some 0 := by decide +kernel
def f_J10_isEmpty (h : PH) (a0 : Nat) : ZR Int32 :=
  zgP h a0 14 0 fun x101 =>
  znn x101 fun a102 =>
  zlen h a102 2 fun x103 =>
  if x103 = 0 then
    (zret (1 : Int32) h)
  else
    (zret (0 : Int32) h)
set_option maxHeartbeats 4000000 in
set_option maxRecDepth 100000 in
theorem m_J10_isEmpty (l : Launch) (D : va_G) (dA : Nat → ClassId) (b0 : Nat) (gs : Nat → Option Nat) (h : PH) (a0 : Nat) {r : Int32} {hh : PH} {mc ms : Nat} (hf : f_J10_isEmpty h a0 = some (r, hh, mc, ms)) : zMt l D dA b0 gs yJ10_isEmpty cJ10_isEmpty 1 (some .boolean) 1 60 [.ref a0] h (evI r) hh mc ms := by
  unfold f_J10_isEmpty at hf
  refine zMt.of (by decide) (Nat.le_of_ble_eq_true rfl) ?_
  intro p e s m args below meth c hc hr hin hn ls hl
  have hl : lv_has ls 1 [(0, .ref a0)] := hl
  have hq : 0 + mc = mc ∧ 0 + ms = ms := ⟨Nat.zero_add _, Nat.zero_add _⟩
  have hx := hc.x
  have hb := hc.b
  refine lv_aload_n (x := a0) hx hb dJ10_isEmpty_0 rfl (lv_at hl 0 rfl) ?_
  refine zr_gP hc hn (ci := 14) rfl rfl in_J10s 0 (by decide) q707 (fun _ h => h) (fun _ _ _ => rfl) hf dJ10_isEmpty_1 (fun x101 hf => ?_)
  obtain ⟨a102, e9, hf9⟩ := znn_i hf
  subst e9
  have hf := hf9
  clear hf9
  refine zr_len (ai := 2) hc hn hf dJ10_isEmpty_4 (fun x103 hf => ?_)
  refine lv_if_ne (tgt := 12) hx hb dJ10_isEmpty_5 (by decide) (fun c9 => ?_) (fun c9 => ?_)
  · have hf := zif_f c9 hf
    refine lv_iconst (v := (0 : Int32)) hx hb dJ10_isEmpty_12 (by decide) ?_
    obtain ⟨rfl, rfl, rfl, rfl⟩ := zret_i hf
    exact zr_zret hc hn hr (by decide) hq (fun _ _ _ _ q => q) dJ10_isEmpty_13
  · have hf := zif_t c9 hf
    refine lv_iconst (v := (1 : Int32)) hx hb dJ10_isEmpty_8 (by decide) ?_
    refine lv_goto (tgt := 13) hx hb dJ10_isEmpty_9 (by decide) ?_
    obtain ⟨rfl, rfl, rfl, rfl⟩ := zret_i hf
    exact zr_zret hc hn hr (by decide) hq (fun _ _ _ _ q => q) dJ10_isEmpty_13
theorem hd_J21_numberOfLeadingZeros : yJ21_numberOfLeadingZeros.cls ≠ "java/lang/invoke/MethodHandle" ∧ yJ21_numberOfLeadingZeros.cls ≠ "java/lang/invoke/VarHandle" ∧ (parseMethodDescriptor yJ21_numberOfLeadingZeros.desc).map (fun d => d.parameters.length) = some 1 := by decide +kernel
def f_J21_numberOfLeadingZeros_b61 (h : PH) (v0 : Int32) (v1 : Int32) : ZR Int32 :=
  if v0 < (4 : Int32) then
    (znm ((v0.toUInt32 >>> ((1 : Int32).toUInt32 &&& Int32.toUInt32 31)).toInt32) fun x101 =>
    znm (v1 - x101) fun x102 =>
    zret x102 h)
  else
    (znm (v1 + (-2 : Int32)) fun x103 =>
    znm ((v0.toUInt32 >>> ((2 : Int32).toUInt32 &&& Int32.toUInt32 31)).toInt32) fun x104 =>
    znm ((x104.toUInt32 >>> ((1 : Int32).toUInt32 &&& Int32.toUInt32 31)).toInt32) fun x105 =>
    znm (x103 - x105) fun x106 =>
    zret x106 h)
def f_J21_numberOfLeadingZeros_b48 (h : PH) (v0 : Int32) (v1 : Int32) : ZR Int32 :=
  if v0 < (16 : Int32) then
    (f_J21_numberOfLeadingZeros_b61 h v0 v1)
  else
    (znm (v1 + (-4 : Int32)) fun x101 =>
    znm ((v0.toUInt32 >>> ((4 : Int32).toUInt32 &&& Int32.toUInt32 31)).toInt32) fun x102 =>
    f_J21_numberOfLeadingZeros_b61 h x102 x101)
def f_J21_numberOfLeadingZeros_b33 (h : PH) (v0 : Int32) (v1 : Int32) : ZR Int32 :=
  if v0 < (256 : Int32) then
    (f_J21_numberOfLeadingZeros_b48 h v0 v1)
  else
    (znm (v1 + (-8 : Int32)) fun x101 =>
    znm ((v0.toUInt32 >>> ((8 : Int32).toUInt32 &&& Int32.toUInt32 31)).toInt32) fun x102 =>
    f_J21_numberOfLeadingZeros_b48 h x102 x101)
def f_J21_numberOfLeadingZeros (h : PH) (v0 : Int32) : ZR Int32 :=
  if 0 < v0 then
    (if v0 < (65536 : Int32) then
      (f_J21_numberOfLeadingZeros_b33 h v0 (31 : Int32))
    else
      (znm ((31 : Int32) + (-16 : Int32)) fun x101 =>
      znm ((v0.toUInt32 >>> ((16 : Int32).toUInt32 &&& Int32.toUInt32 31)).toInt32) fun x102 =>
      f_J21_numberOfLeadingZeros_b33 h x102 x101))
  else
    (if v0 = 0 then
      (zret (32 : Int32) h)
    else
      (zret (0 : Int32) h))
set_option maxHeartbeats 4000000 in
set_option maxRecDepth 100000 in
theorem m_J21_numberOfLeadingZeros_b61 {p : Program} {l : Launch} {e : Env} {s : State} {m : MethodId} {args : Array Value} {below : List Frame} {meth : Method} {c : Code} {D : va_G} {dA : Nat → ClassId} {b0 : Nat} {gs : Nat → Option Nat} (hc : zC D dA b0 gs yJ21_numberOfLeadingZeros.cls cJ21_numberOfLeadingZeros 2 p c s m args meth) (hr : meth.sig.returnType = (some .int)) (hin : meth.name = yJ21_numberOfLeadingZeros.name) {r : Int32} {hh : PH} {mc ms : Nat} : ∀ (h : PH) (v0 : Int32) (v1 : Int32) (C9 S9 : Nat) (H : Heap) (locs : List Loc) (cells slots : Nat), f_J21_numberOfLeadingZeros_b61 h v0 v1 = some (r, hh, C9, S9) → cells + C9 = mc ∧ slots + S9 = ms → zM D dA b0 gs s h H locs → ∀ ls : Array Slot, lv_has ls 2 [(0, .int v0), (1, .int v1)] → W p l e ({ frames := 1, cells := mc, slots := ms, locals := 60 } : Room) s m args below meth c H locs cells slots (MQ below (zQ D dA b0 gs (evI r) hh) args s mc ms (zA b0)) (F0 m 61 ls []) := by
  have hx := hc.x
  have hb := hc.b
  intro h v0 v1 C9 S9 H locs cells slots hf hq hn ls hl
  unfold f_J21_numberOfLeadingZeros_b61 at hf
  refine lv_iload_n hx hb dJ21_numberOfLeadingZeros_61 rfl (lv_at hl 0 rfl) ?_
  refine lv_iconst (v := (4 : Int32)) hx hb dJ21_numberOfLeadingZeros_62 (by decide) ?_
  refine lv_icmp_lt (tgt := 73) hx hb dJ21_numberOfLeadingZeros_63 (by decide) (fun c9 => ?_) (fun c9 => ?_)
  · have hf := zif_t c9 hf
    refine lv_iload_n hx hb dJ21_numberOfLeadingZeros_73 rfl (lv_at hl 1 rfl) ?_
    refine lv_iload_n hx hb dJ21_numberOfLeadingZeros_74 rfl (lv_at hl 0 rfl) ?_
    refine lv_iconst (v := (1 : Int32)) hx hb dJ21_numberOfLeadingZeros_75 (by decide) ?_
    refine lv_iushr (v := (v0.toUInt32 >>> ((1 : Int32).toUInt32 &&& Int32.toUInt32 31)).toInt32) hx hb dJ21_numberOfLeadingZeros_76 rfl ?_
    refine zr_nmI hf (fun x101 hf => ?_)
    refine lv_isub hx hb dJ21_numberOfLeadingZeros_77 ?_
    refine zr_nmI hf (fun x102 hf => ?_)
    obtain ⟨rfl, rfl, rfl, rfl⟩ := zret_i hf
    exact zr_iret hc hn hr hq (fun _ _ _ _ q => q) dJ21_numberOfLeadingZeros_78
  · have hf := zif_f c9 hf
    obtain ⟨x103, ex103, hf⟩ := znm_i hf
    refine lv_iinc (v := x103) (lv' := [(1, .int x103), (0, .int v0)]) hx hb dJ21_numberOfLeadingZeros_66 hl (k := 1) rfl (by rw [ex103]; rfl) (by decide) rfl (fun ls hl => ?_)
    refine lv_iload_n hx hb dJ21_numberOfLeadingZeros_69 rfl (lv_at hl 1 rfl) ?_
    refine lv_iconst (v := (2 : Int32)) hx hb dJ21_numberOfLeadingZeros_70 (by decide) ?_
    refine lv_iushr (v := (v0.toUInt32 >>> ((2 : Int32).toUInt32 &&& Int32.toUInt32 31)).toInt32) hx hb dJ21_numberOfLeadingZeros_71 rfl ?_
    refine zr_nmI hf (fun x104 hf => ?_)
    refine lv_istore_n (i := 0) (lv' := [(0, .int x104), (1, .int x103)]) hx hb dJ21_numberOfLeadingZeros_72 rfl hl (by decide) rfl (fun ls hl => ?_)
    refine lv_iload_n hx hb dJ21_numberOfLeadingZeros_73 rfl (lv_at hl 1 rfl) ?_
    refine lv_iload_n hx hb dJ21_numberOfLeadingZeros_74 rfl (lv_at hl 0 rfl) ?_
    refine lv_iconst (v := (1 : Int32)) hx hb dJ21_numberOfLeadingZeros_75 (by decide) ?_
    refine lv_iushr (v := (x104.toUInt32 >>> ((1 : Int32).toUInt32 &&& Int32.toUInt32 31)).toInt32) hx hb dJ21_numberOfLeadingZeros_76 rfl ?_
    refine zr_nmI hf (fun x105 hf => ?_)
    refine lv_isub hx hb dJ21_numberOfLeadingZeros_77 ?_
    refine zr_nmI hf (fun x106 hf => ?_)
    obtain ⟨rfl, rfl, rfl, rfl⟩ := zret_i hf
    exact zr_iret hc hn hr hq (fun _ _ _ _ q => q) dJ21_numberOfLeadingZeros_78
set_option maxHeartbeats 4000000 in
set_option maxRecDepth 100000 in
theorem m_J21_numberOfLeadingZeros_b48 {p : Program} {l : Launch} {e : Env} {s : State} {m : MethodId} {args : Array Value} {below : List Frame} {meth : Method} {c : Code} {D : va_G} {dA : Nat → ClassId} {b0 : Nat} {gs : Nat → Option Nat} (hc : zC D dA b0 gs yJ21_numberOfLeadingZeros.cls cJ21_numberOfLeadingZeros 2 p c s m args meth) (hr : meth.sig.returnType = (some .int)) (hin : meth.name = yJ21_numberOfLeadingZeros.name) {r : Int32} {hh : PH} {mc ms : Nat} : ∀ (h : PH) (v0 : Int32) (v1 : Int32) (C9 S9 : Nat) (H : Heap) (locs : List Loc) (cells slots : Nat), f_J21_numberOfLeadingZeros_b48 h v0 v1 = some (r, hh, C9, S9) → cells + C9 = mc ∧ slots + S9 = ms → zM D dA b0 gs s h H locs → ∀ ls : Array Slot, lv_has ls 2 [(0, .int v0), (1, .int v1)] → W p l e ({ frames := 1, cells := mc, slots := ms, locals := 60 } : Room) s m args below meth c H locs cells slots (MQ below (zQ D dA b0 gs (evI r) hh) args s mc ms (zA b0)) (F0 m 48 ls []) := by
  have hx := hc.x
  have hb := hc.b
  intro h v0 v1 C9 S9 H locs cells slots hf hq hn ls hl
  unfold f_J21_numberOfLeadingZeros_b48 at hf
  refine lv_iload_n hx hb dJ21_numberOfLeadingZeros_48 rfl (lv_at hl 0 rfl) ?_
  refine lv_bipush (v := (16 : Int32)) hx hb dJ21_numberOfLeadingZeros_49 (by decide) ?_
  refine lv_icmp_lt (tgt := 61) hx hb dJ21_numberOfLeadingZeros_51 (by decide) (fun c9 => ?_) (fun c9 => ?_)
  · have hf := zif_t c9 hf
    exact m_J21_numberOfLeadingZeros_b61 hc hr hin h v0 v1 _ _ _ _ _ _ hf hq hn _ (lv_sub hl [0, 1] rfl)
  · have hf := zif_f c9 hf
    obtain ⟨x101, ex101, hf⟩ := znm_i hf
    refine lv_iinc (v := x101) (lv' := [(1, .int x101), (0, .int v0)]) hx hb dJ21_numberOfLeadingZeros_54 hl (k := 1) rfl (by rw [ex101]; rfl) (by decide) rfl (fun ls hl => ?_)
    refine lv_iload_n hx hb dJ21_numberOfLeadingZeros_57 rfl (lv_at hl 1 rfl) ?_
    refine lv_iconst (v := (4 : Int32)) hx hb dJ21_numberOfLeadingZeros_58 (by decide) ?_
    refine lv_iushr (v := (v0.toUInt32 >>> ((4 : Int32).toUInt32 &&& Int32.toUInt32 31)).toInt32) hx hb dJ21_numberOfLeadingZeros_59 rfl ?_
    refine zr_nmI hf (fun x102 hf => ?_)
    refine lv_istore_n (i := 0) (lv' := [(0, .int x102), (1, .int x101)]) hx hb dJ21_numberOfLeadingZeros_60 rfl hl (by decide) rfl (fun ls hl => ?_)
    exact m_J21_numberOfLeadingZeros_b61 hc hr hin h x102 x101 _ _ _ _ _ _ hf hq hn _ (lv_sub hl [0, 1] rfl)
set_option maxHeartbeats 4000000 in
set_option maxRecDepth 100000 in
theorem m_J21_numberOfLeadingZeros_b33 {p : Program} {l : Launch} {e : Env} {s : State} {m : MethodId} {args : Array Value} {below : List Frame} {meth : Method} {c : Code} {D : va_G} {dA : Nat → ClassId} {b0 : Nat} {gs : Nat → Option Nat} (hc : zC D dA b0 gs yJ21_numberOfLeadingZeros.cls cJ21_numberOfLeadingZeros 2 p c s m args meth) (hr : meth.sig.returnType = (some .int)) (hin : meth.name = yJ21_numberOfLeadingZeros.name) {r : Int32} {hh : PH} {mc ms : Nat} : ∀ (h : PH) (v0 : Int32) (v1 : Int32) (C9 S9 : Nat) (H : Heap) (locs : List Loc) (cells slots : Nat), f_J21_numberOfLeadingZeros_b33 h v0 v1 = some (r, hh, C9, S9) → cells + C9 = mc ∧ slots + S9 = ms → zM D dA b0 gs s h H locs → ∀ ls : Array Slot, lv_has ls 2 [(0, .int v0), (1, .int v1)] → W p l e ({ frames := 1, cells := mc, slots := ms, locals := 60 } : Room) s m args below meth c H locs cells slots (MQ below (zQ D dA b0 gs (evI r) hh) args s mc ms (zA b0)) (F0 m 33 ls []) := by
  have hx := hc.x
  have hb := hc.b
  intro h v0 v1 C9 S9 H locs cells slots hf hq hn ls hl
  unfold f_J21_numberOfLeadingZeros_b33 at hf
  refine lv_iload_n hx hb dJ21_numberOfLeadingZeros_33 rfl (lv_at hl 0 rfl) ?_
  refine lv_sipush (v := (256 : Int32)) hx hb dJ21_numberOfLeadingZeros_34 (by decide) ?_
  refine lv_icmp_lt (tgt := 48) hx hb dJ21_numberOfLeadingZeros_37 (by decide) (fun c9 => ?_) (fun c9 => ?_)
  · have hf := zif_t c9 hf
    exact m_J21_numberOfLeadingZeros_b48 hc hr hin h v0 v1 _ _ _ _ _ _ hf hq hn _ (lv_sub hl [0, 1] rfl)
  · have hf := zif_f c9 hf
    obtain ⟨x101, ex101, hf⟩ := znm_i hf
    refine lv_iinc (v := x101) (lv' := [(1, .int x101), (0, .int v0)]) hx hb dJ21_numberOfLeadingZeros_40 hl (k := 1) rfl (by rw [ex101]; rfl) (by decide) rfl (fun ls hl => ?_)
    refine lv_iload_n hx hb dJ21_numberOfLeadingZeros_43 rfl (lv_at hl 1 rfl) ?_
    refine lv_bipush (v := (8 : Int32)) hx hb dJ21_numberOfLeadingZeros_44 (by decide) ?_
    refine lv_iushr (v := (v0.toUInt32 >>> ((8 : Int32).toUInt32 &&& Int32.toUInt32 31)).toInt32) hx hb dJ21_numberOfLeadingZeros_46 rfl ?_
    refine zr_nmI hf (fun x102 hf => ?_)
    refine lv_istore_n (i := 0) (lv' := [(0, .int x102), (1, .int x101)]) hx hb dJ21_numberOfLeadingZeros_47 rfl hl (by decide) rfl (fun ls hl => ?_)
    exact m_J21_numberOfLeadingZeros_b48 hc hr hin h x102 x101 _ _ _ _ _ _ hf hq hn _ (lv_sub hl [0, 1] rfl)
set_option maxHeartbeats 4000000 in
set_option maxRecDepth 100000 in
theorem m_J21_numberOfLeadingZeros (l : Launch) (D : va_G) (dA : Nat → ClassId) (b0 : Nat) (gs : Nat → Option Nat) (h : PH) (v0 : Int32) {r : Int32} {hh : PH} {mc ms : Nat} (hf : f_J21_numberOfLeadingZeros h v0 = some (r, hh, mc, ms)) : zMt l D dA b0 gs yJ21_numberOfLeadingZeros cJ21_numberOfLeadingZeros 2 (some .int) 1 60 [.int v0] h (evI r) hh mc ms := by
  unfold f_J21_numberOfLeadingZeros at hf
  refine zMt.of (by decide) (Nat.le_of_ble_eq_true rfl) ?_
  intro p e s m args below meth c hc hr hin hn ls hl
  have hl : lv_has ls 2 [(0, .int v0)] := hl
  have hq : 0 + mc = mc ∧ 0 + ms = ms := ⟨Nat.zero_add _, Nat.zero_add _⟩
  have hx := hc.x
  have hb := hc.b
  refine lv_iload_n hx hb dJ21_numberOfLeadingZeros_0 rfl (lv_at hl 0 rfl) ?_
  refine lv_if_gt (tgt := 15) hx hb dJ21_numberOfLeadingZeros_1 (by decide) (fun c9 => ?_) (fun c9 => ?_)
  · have hf := zif_t c9 hf
    refine lv_bipush (v := (31 : Int32)) hx hb dJ21_numberOfLeadingZeros_15 (by decide) ?_
    refine lv_istore_n (i := 1) (lv' := [(1, .int (31 : Int32)), (0, .int v0)]) hx hb dJ21_numberOfLeadingZeros_17 rfl hl (by decide) rfl (fun ls hl => ?_)
    refine lv_iload_n hx hb dJ21_numberOfLeadingZeros_18 rfl (lv_at hl 1 rfl) ?_
    refine lv_ldcw (v := (65536 : Int32)) hx hb hc.ow (hc.ts _ q1638) dJ21_numberOfLeadingZeros_19 ?_
    refine lv_icmp_lt (tgt := 33) hx hb dJ21_numberOfLeadingZeros_22 (by decide) (fun c9 => ?_) (fun c9 => ?_)
    · have hf := zif_t c9 hf
      exact m_J21_numberOfLeadingZeros_b33 hc hr hin h v0 (31 : Int32) _ _ _ _ _ _ hf hq hn _ (lv_sub hl [1, 0] rfl)
    · have hf := zif_f c9 hf
      obtain ⟨x101, ex101, hf⟩ := znm_i hf
      refine lv_iinc (v := x101) (lv' := [(1, .int x101), (0, .int v0)]) hx hb dJ21_numberOfLeadingZeros_25 hl (k := 0) rfl (by rw [ex101]; rfl) (by decide) rfl (fun ls hl => ?_)
      refine lv_iload_n hx hb dJ21_numberOfLeadingZeros_28 rfl (lv_at hl 1 rfl) ?_
      refine lv_bipush (v := (16 : Int32)) hx hb dJ21_numberOfLeadingZeros_29 (by decide) ?_
      refine lv_iushr (v := (v0.toUInt32 >>> ((16 : Int32).toUInt32 &&& Int32.toUInt32 31)).toInt32) hx hb dJ21_numberOfLeadingZeros_31 rfl ?_
      refine zr_nmI hf (fun x102 hf => ?_)
      refine lv_istore_n (i := 0) (lv' := [(0, .int x102), (1, .int x101)]) hx hb dJ21_numberOfLeadingZeros_32 rfl hl (by decide) rfl (fun ls hl => ?_)
      exact m_J21_numberOfLeadingZeros_b33 hc hr hin h x102 x101 _ _ _ _ _ _ hf hq hn _ (lv_sub hl [0, 1] rfl)
  · have hf := zif_f c9 hf
    refine lv_iload_n hx hb dJ21_numberOfLeadingZeros_4 rfl (lv_at hl 0 rfl) ?_
    refine lv_if_ne (tgt := 13) hx hb dJ21_numberOfLeadingZeros_5 (by decide) (fun c9 => ?_) (fun c9 => ?_)
    · have hf := zif_f c9 hf
      refine lv_iconst (v := (0 : Int32)) hx hb dJ21_numberOfLeadingZeros_13 (by decide) ?_
      obtain ⟨rfl, rfl, rfl, rfl⟩ := zret_i hf
      exact zr_iret hc hn hr hq (fun _ _ _ _ q => q) dJ21_numberOfLeadingZeros_14
    · have hf := zif_t c9 hf
      refine lv_bipush (v := (32 : Int32)) hx hb dJ21_numberOfLeadingZeros_8 (by decide) ?_
      refine lv_goto (tgt := 14) hx hb dJ21_numberOfLeadingZeros_10 (by decide) ?_
      obtain ⟨rfl, rfl, rfl, rfl⟩ := zret_i hf
      exact zr_iret hc hn hr hq (fun _ _ _ _ q => q) dJ21_numberOfLeadingZeros_14
theorem hd_J21_numberOfTrailingZeros : yJ21_numberOfTrailingZeros.cls ≠ "java/lang/invoke/MethodHandle" ∧ yJ21_numberOfTrailingZeros.cls ≠ "java/lang/invoke/VarHandle" ∧ (parseMethodDescriptor yJ21_numberOfTrailingZeros.desc).map (fun d => d.parameters.length) = some 1 := by decide +kernel
def f_J21_numberOfTrailingZeros_b62 (h : PH) (v0 : Int32) (v1 : Int32) : ZR Int32 :=
  if v0 ≤ (4 : Int32) then
    (znm ((v0.toUInt32 >>> ((1 : Int32).toUInt32 &&& Int32.toUInt32 31)).toInt32) fun x101 =>
    znm (v1 + x101) fun x102 =>
    zret x102 h)
  else
    (znm (v1 + (2 : Int32)) fun x103 =>
    znm ((v0.toUInt32 >>> ((2 : Int32).toUInt32 &&& Int32.toUInt32 31)).toInt32) fun x104 =>
    znm ((x104.toUInt32 >>> ((1 : Int32).toUInt32 &&& Int32.toUInt32 31)).toInt32) fun x105 =>
    znm (x103 + x105) fun x106 =>
    zret x106 h)
def f_J21_numberOfTrailingZeros_b49 (h : PH) (v0 : Int32) (v1 : Int32) : ZR Int32 :=
  if v0 ≤ (16 : Int32) then
    (f_J21_numberOfTrailingZeros_b62 h v0 v1)
  else
    (znm (v1 + (4 : Int32)) fun x101 =>
    znm ((v0.toUInt32 >>> ((4 : Int32).toUInt32 &&& Int32.toUInt32 31)).toInt32) fun x102 =>
    f_J21_numberOfTrailingZeros_b62 h x102 x101)
def f_J21_numberOfTrailingZeros_b34 (h : PH) (v0 : Int32) (v1 : Int32) : ZR Int32 :=
  if v0 ≤ (256 : Int32) then
    (f_J21_numberOfTrailingZeros_b49 h v0 v1)
  else
    (znm (v1 + (8 : Int32)) fun x101 =>
    znm ((v0.toUInt32 >>> ((8 : Int32).toUInt32 &&& Int32.toUInt32 31)).toInt32) fun x102 =>
    f_J21_numberOfTrailingZeros_b49 h x102 x101)
def f_J21_numberOfTrailingZeros (h : PH) (v0 : Int32) : ZR Int32 :=
  znm (v0 ^^^ (-1 : Int32)) fun x101 =>
  znm (v0 - (1 : Int32)) fun x102 =>
  znm (x101 &&& x102) fun x103 =>
  if 0 < x103 then
    (if x103 ≤ (65536 : Int32) then
      (f_J21_numberOfTrailingZeros_b34 h x103 (1 : Int32))
    else
      (znm ((1 : Int32) + (16 : Int32)) fun x104 =>
      znm ((x103.toUInt32 >>> ((16 : Int32).toUInt32 &&& Int32.toUInt32 31)).toInt32) fun x105 =>
      f_J21_numberOfTrailingZeros_b34 h x105 x104))
  else
    (znm (x103 &&& (32 : Int32)) fun x106 =>
    zret x106 h)
set_option maxHeartbeats 4000000 in
set_option maxRecDepth 100000 in
theorem m_J21_numberOfTrailingZeros_b62 {p : Program} {l : Launch} {e : Env} {s : State} {m : MethodId} {args : Array Value} {below : List Frame} {meth : Method} {c : Code} {D : va_G} {dA : Nat → ClassId} {b0 : Nat} {gs : Nat → Option Nat} (hc : zC D dA b0 gs yJ21_numberOfTrailingZeros.cls cJ21_numberOfTrailingZeros 2 p c s m args meth) (hr : meth.sig.returnType = (some .int)) (hin : meth.name = yJ21_numberOfTrailingZeros.name) {r : Int32} {hh : PH} {mc ms : Nat} : ∀ (h : PH) (v0 : Int32) (v1 : Int32) (C9 S9 : Nat) (H : Heap) (locs : List Loc) (cells slots : Nat), f_J21_numberOfTrailingZeros_b62 h v0 v1 = some (r, hh, C9, S9) → cells + C9 = mc ∧ slots + S9 = ms → zM D dA b0 gs s h H locs → ∀ ls : Array Slot, lv_has ls 2 [(0, .int v0), (1, .int v1)] → W p l e ({ frames := 1, cells := mc, slots := ms, locals := 60 } : Room) s m args below meth c H locs cells slots (MQ below (zQ D dA b0 gs (evI r) hh) args s mc ms (zA b0)) (F0 m 62 ls []) := by
  have hx := hc.x
  have hb := hc.b
  intro h v0 v1 C9 S9 H locs cells slots hf hq hn ls hl
  unfold f_J21_numberOfTrailingZeros_b62 at hf
  refine lv_iload_n hx hb dJ21_numberOfTrailingZeros_62 rfl (lv_at hl 0 rfl) ?_
  refine lv_iconst (v := (4 : Int32)) hx hb dJ21_numberOfTrailingZeros_63 (by decide) ?_
  refine lv_icmp_le (tgt := 74) hx hb dJ21_numberOfTrailingZeros_64 (by decide) (fun c9 => ?_) (fun c9 => ?_)
  · have hf := zif_t c9 hf
    refine lv_iload_n hx hb dJ21_numberOfTrailingZeros_74 rfl (lv_at hl 1 rfl) ?_
    refine lv_iload_n hx hb dJ21_numberOfTrailingZeros_75 rfl (lv_at hl 0 rfl) ?_
    refine lv_iconst (v := (1 : Int32)) hx hb dJ21_numberOfTrailingZeros_76 (by decide) ?_
    refine lv_iushr (v := (v0.toUInt32 >>> ((1 : Int32).toUInt32 &&& Int32.toUInt32 31)).toInt32) hx hb dJ21_numberOfTrailingZeros_77 rfl ?_
    refine zr_nmI hf (fun x101 hf => ?_)
    refine lv_iadd hx hb dJ21_numberOfTrailingZeros_78 ?_
    refine zr_nmI hf (fun x102 hf => ?_)
    obtain ⟨rfl, rfl, rfl, rfl⟩ := zret_i hf
    exact zr_iret hc hn hr hq (fun _ _ _ _ q => q) dJ21_numberOfTrailingZeros_79
  · have hf := zif_f c9 hf
    obtain ⟨x103, ex103, hf⟩ := znm_i hf
    refine lv_iinc (v := x103) (lv' := [(1, .int x103), (0, .int v0)]) hx hb dJ21_numberOfTrailingZeros_67 hl (k := 1) rfl (by rw [ex103]; rfl) (by decide) rfl (fun ls hl => ?_)
    refine lv_iload_n hx hb dJ21_numberOfTrailingZeros_70 rfl (lv_at hl 1 rfl) ?_
    refine lv_iconst (v := (2 : Int32)) hx hb dJ21_numberOfTrailingZeros_71 (by decide) ?_
    refine lv_iushr (v := (v0.toUInt32 >>> ((2 : Int32).toUInt32 &&& Int32.toUInt32 31)).toInt32) hx hb dJ21_numberOfTrailingZeros_72 rfl ?_
    refine zr_nmI hf (fun x104 hf => ?_)
    refine lv_istore_n (i := 0) (lv' := [(0, .int x104), (1, .int x103)]) hx hb dJ21_numberOfTrailingZeros_73 rfl hl (by decide) rfl (fun ls hl => ?_)
    refine lv_iload_n hx hb dJ21_numberOfTrailingZeros_74 rfl (lv_at hl 1 rfl) ?_
    refine lv_iload_n hx hb dJ21_numberOfTrailingZeros_75 rfl (lv_at hl 0 rfl) ?_
    refine lv_iconst (v := (1 : Int32)) hx hb dJ21_numberOfTrailingZeros_76 (by decide) ?_
    refine lv_iushr (v := (x104.toUInt32 >>> ((1 : Int32).toUInt32 &&& Int32.toUInt32 31)).toInt32) hx hb dJ21_numberOfTrailingZeros_77 rfl ?_
    refine zr_nmI hf (fun x105 hf => ?_)
    refine lv_iadd hx hb dJ21_numberOfTrailingZeros_78 ?_
    refine zr_nmI hf (fun x106 hf => ?_)
    obtain ⟨rfl, rfl, rfl, rfl⟩ := zret_i hf
    exact zr_iret hc hn hr hq (fun _ _ _ _ q => q) dJ21_numberOfTrailingZeros_79
set_option maxHeartbeats 4000000 in
set_option maxRecDepth 100000 in
theorem m_J21_numberOfTrailingZeros_b49 {p : Program} {l : Launch} {e : Env} {s : State} {m : MethodId} {args : Array Value} {below : List Frame} {meth : Method} {c : Code} {D : va_G} {dA : Nat → ClassId} {b0 : Nat} {gs : Nat → Option Nat} (hc : zC D dA b0 gs yJ21_numberOfTrailingZeros.cls cJ21_numberOfTrailingZeros 2 p c s m args meth) (hr : meth.sig.returnType = (some .int)) (hin : meth.name = yJ21_numberOfTrailingZeros.name) {r : Int32} {hh : PH} {mc ms : Nat} : ∀ (h : PH) (v0 : Int32) (v1 : Int32) (C9 S9 : Nat) (H : Heap) (locs : List Loc) (cells slots : Nat), f_J21_numberOfTrailingZeros_b49 h v0 v1 = some (r, hh, C9, S9) → cells + C9 = mc ∧ slots + S9 = ms → zM D dA b0 gs s h H locs → ∀ ls : Array Slot, lv_has ls 2 [(0, .int v0), (1, .int v1)] → W p l e ({ frames := 1, cells := mc, slots := ms, locals := 60 } : Room) s m args below meth c H locs cells slots (MQ below (zQ D dA b0 gs (evI r) hh) args s mc ms (zA b0)) (F0 m 49 ls []) := by
  have hx := hc.x
  have hb := hc.b
  intro h v0 v1 C9 S9 H locs cells slots hf hq hn ls hl
  unfold f_J21_numberOfTrailingZeros_b49 at hf
  refine lv_iload_n hx hb dJ21_numberOfTrailingZeros_49 rfl (lv_at hl 0 rfl) ?_
  refine lv_bipush (v := (16 : Int32)) hx hb dJ21_numberOfTrailingZeros_50 (by decide) ?_
  refine lv_icmp_le (tgt := 62) hx hb dJ21_numberOfTrailingZeros_52 (by decide) (fun c9 => ?_) (fun c9 => ?_)
  · have hf := zif_t c9 hf
    exact m_J21_numberOfTrailingZeros_b62 hc hr hin h v0 v1 _ _ _ _ _ _ hf hq hn _ (lv_sub hl [0, 1] rfl)
  · have hf := zif_f c9 hf
    obtain ⟨x101, ex101, hf⟩ := znm_i hf
    refine lv_iinc (v := x101) (lv' := [(1, .int x101), (0, .int v0)]) hx hb dJ21_numberOfTrailingZeros_55 hl (k := 1) rfl (by rw [ex101]; rfl) (by decide) rfl (fun ls hl => ?_)
    refine lv_iload_n hx hb dJ21_numberOfTrailingZeros_58 rfl (lv_at hl 1 rfl) ?_
    refine lv_iconst (v := (4 : Int32)) hx hb dJ21_numberOfTrailingZeros_59 (by decide) ?_
    refine lv_iushr (v := (v0.toUInt32 >>> ((4 : Int32).toUInt32 &&& Int32.toUInt32 31)).toInt32) hx hb dJ21_numberOfTrailingZeros_60 rfl ?_
    refine zr_nmI hf (fun x102 hf => ?_)
    refine lv_istore_n (i := 0) (lv' := [(0, .int x102), (1, .int x101)]) hx hb dJ21_numberOfTrailingZeros_61 rfl hl (by decide) rfl (fun ls hl => ?_)
    exact m_J21_numberOfTrailingZeros_b62 hc hr hin h x102 x101 _ _ _ _ _ _ hf hq hn _ (lv_sub hl [0, 1] rfl)
set_option maxHeartbeats 4000000 in
set_option maxRecDepth 100000 in
theorem m_J21_numberOfTrailingZeros_b34 {p : Program} {l : Launch} {e : Env} {s : State} {m : MethodId} {args : Array Value} {below : List Frame} {meth : Method} {c : Code} {D : va_G} {dA : Nat → ClassId} {b0 : Nat} {gs : Nat → Option Nat} (hc : zC D dA b0 gs yJ21_numberOfTrailingZeros.cls cJ21_numberOfTrailingZeros 2 p c s m args meth) (hr : meth.sig.returnType = (some .int)) (hin : meth.name = yJ21_numberOfTrailingZeros.name) {r : Int32} {hh : PH} {mc ms : Nat} : ∀ (h : PH) (v0 : Int32) (v1 : Int32) (C9 S9 : Nat) (H : Heap) (locs : List Loc) (cells slots : Nat), f_J21_numberOfTrailingZeros_b34 h v0 v1 = some (r, hh, C9, S9) → cells + C9 = mc ∧ slots + S9 = ms → zM D dA b0 gs s h H locs → ∀ ls : Array Slot, lv_has ls 2 [(0, .int v0), (1, .int v1)] → W p l e ({ frames := 1, cells := mc, slots := ms, locals := 60 } : Room) s m args below meth c H locs cells slots (MQ below (zQ D dA b0 gs (evI r) hh) args s mc ms (zA b0)) (F0 m 34 ls []) := by
  have hx := hc.x
  have hb := hc.b
  intro h v0 v1 C9 S9 H locs cells slots hf hq hn ls hl
  unfold f_J21_numberOfTrailingZeros_b34 at hf
  refine lv_iload_n hx hb dJ21_numberOfTrailingZeros_34 rfl (lv_at hl 0 rfl) ?_
  refine lv_sipush (v := (256 : Int32)) hx hb dJ21_numberOfTrailingZeros_35 (by decide) ?_
  refine lv_icmp_le (tgt := 49) hx hb dJ21_numberOfTrailingZeros_38 (by decide) (fun c9 => ?_) (fun c9 => ?_)
  · have hf := zif_t c9 hf
    exact m_J21_numberOfTrailingZeros_b49 hc hr hin h v0 v1 _ _ _ _ _ _ hf hq hn _ (lv_sub hl [0, 1] rfl)
  · have hf := zif_f c9 hf
    obtain ⟨x101, ex101, hf⟩ := znm_i hf
    refine lv_iinc (v := x101) (lv' := [(1, .int x101), (0, .int v0)]) hx hb dJ21_numberOfTrailingZeros_41 hl (k := 1) rfl (by rw [ex101]; rfl) (by decide) rfl (fun ls hl => ?_)
    refine lv_iload_n hx hb dJ21_numberOfTrailingZeros_44 rfl (lv_at hl 1 rfl) ?_
    refine lv_bipush (v := (8 : Int32)) hx hb dJ21_numberOfTrailingZeros_45 (by decide) ?_
    refine lv_iushr (v := (v0.toUInt32 >>> ((8 : Int32).toUInt32 &&& Int32.toUInt32 31)).toInt32) hx hb dJ21_numberOfTrailingZeros_47 rfl ?_
    refine zr_nmI hf (fun x102 hf => ?_)
    refine lv_istore_n (i := 0) (lv' := [(0, .int x102), (1, .int x101)]) hx hb dJ21_numberOfTrailingZeros_48 rfl hl (by decide) rfl (fun ls hl => ?_)
    exact m_J21_numberOfTrailingZeros_b49 hc hr hin h x102 x101 _ _ _ _ _ _ hf hq hn _ (lv_sub hl [0, 1] rfl)
set_option maxHeartbeats 4000000 in
set_option maxRecDepth 100000 in
theorem m_J21_numberOfTrailingZeros (l : Launch) (D : va_G) (dA : Nat → ClassId) (b0 : Nat) (gs : Nat → Option Nat) (h : PH) (v0 : Int32) {r : Int32} {hh : PH} {mc ms : Nat} (hf : f_J21_numberOfTrailingZeros h v0 = some (r, hh, mc, ms)) : zMt l D dA b0 gs yJ21_numberOfTrailingZeros cJ21_numberOfTrailingZeros 2 (some .int) 1 60 [.int v0] h (evI r) hh mc ms := by
  unfold f_J21_numberOfTrailingZeros at hf
  refine zMt.of (by decide) (Nat.le_of_ble_eq_true rfl) ?_
  intro p e s m args below meth c hc hr hin hn ls hl
  have hl : lv_has ls 2 [(0, .int v0)] := hl
  have hq : 0 + mc = mc ∧ 0 + ms = ms := ⟨Nat.zero_add _, Nat.zero_add _⟩
  have hx := hc.x
  have hb := hc.b
  refine lv_iload_n hx hb dJ21_numberOfTrailingZeros_0 rfl (lv_at hl 0 rfl) ?_
  refine lv_iconst (v := (-1 : Int32)) hx hb dJ21_numberOfTrailingZeros_1 (by decide) ?_
  refine lv_ixor hx hb dJ21_numberOfTrailingZeros_2 ?_
  refine zr_nmI hf (fun x101 hf => ?_)
  refine lv_iload_n hx hb dJ21_numberOfTrailingZeros_3 rfl (lv_at hl 0 rfl) ?_
  refine lv_iconst (v := (1 : Int32)) hx hb dJ21_numberOfTrailingZeros_4 (by decide) ?_
  refine lv_isub hx hb dJ21_numberOfTrailingZeros_5 ?_
  refine zr_nmI hf (fun x102 hf => ?_)
  refine lv_iand hx hb dJ21_numberOfTrailingZeros_6 ?_
  refine zr_nmI hf (fun x103 hf => ?_)
  refine lv_istore_n (i := 0) (lv' := [(0, .int x103)]) hx hb dJ21_numberOfTrailingZeros_7 rfl hl (by decide) rfl (fun ls hl => ?_)
  refine lv_iload_n hx hb dJ21_numberOfTrailingZeros_8 rfl (lv_at hl 0 rfl) ?_
  refine lv_if_gt (tgt := 17) hx hb dJ21_numberOfTrailingZeros_9 (by decide) (fun c9 => ?_) (fun c9 => ?_)
  · have hf := zif_t c9 hf
    refine lv_iconst (v := (1 : Int32)) hx hb dJ21_numberOfTrailingZeros_17 (by decide) ?_
    refine lv_istore_n (i := 1) (lv' := [(1, .int (1 : Int32)), (0, .int x103)]) hx hb dJ21_numberOfTrailingZeros_18 rfl hl (by decide) rfl (fun ls hl => ?_)
    refine lv_iload_n hx hb dJ21_numberOfTrailingZeros_19 rfl (lv_at hl 1 rfl) ?_
    refine lv_ldcw (v := (65536 : Int32)) hx hb hc.ow (hc.ts _ q1638) dJ21_numberOfTrailingZeros_20 ?_
    refine lv_icmp_le (tgt := 34) hx hb dJ21_numberOfTrailingZeros_23 (by decide) (fun c9 => ?_) (fun c9 => ?_)
    · have hf := zif_t c9 hf
      exact m_J21_numberOfTrailingZeros_b34 hc hr hin h x103 (1 : Int32) _ _ _ _ _ _ hf hq hn _ (lv_sub hl [1, 0] rfl)
    · have hf := zif_f c9 hf
      obtain ⟨x104, ex104, hf⟩ := znm_i hf
      refine lv_iinc (v := x104) (lv' := [(1, .int x104), (0, .int x103)]) hx hb dJ21_numberOfTrailingZeros_26 hl (k := 0) rfl (by rw [ex104]; rfl) (by decide) rfl (fun ls hl => ?_)
      refine lv_iload_n hx hb dJ21_numberOfTrailingZeros_29 rfl (lv_at hl 1 rfl) ?_
      refine lv_bipush (v := (16 : Int32)) hx hb dJ21_numberOfTrailingZeros_30 (by decide) ?_
      refine lv_iushr (v := (x103.toUInt32 >>> ((16 : Int32).toUInt32 &&& Int32.toUInt32 31)).toInt32) hx hb dJ21_numberOfTrailingZeros_32 rfl ?_
      refine zr_nmI hf (fun x105 hf => ?_)
      refine lv_istore_n (i := 0) (lv' := [(0, .int x105), (1, .int x104)]) hx hb dJ21_numberOfTrailingZeros_33 rfl hl (by decide) rfl (fun ls hl => ?_)
      exact m_J21_numberOfTrailingZeros_b34 hc hr hin h x105 x104 _ _ _ _ _ _ hf hq hn _ (lv_sub hl [0, 1] rfl)
  · have hf := zif_f c9 hf
    refine lv_iload_n hx hb dJ21_numberOfTrailingZeros_12 rfl (lv_at hl 0 rfl) ?_
    refine lv_bipush (v := (32 : Int32)) hx hb dJ21_numberOfTrailingZeros_13 (by decide) ?_
    refine lv_iand hx hb dJ21_numberOfTrailingZeros_15 ?_
    refine zr_nmI hf (fun x106 hf => ?_)
    obtain ⟨rfl, rfl, rfl, rfl⟩ := zret_i hf
    exact zr_iret hc hn hr hq (fun _ _ _ _ q => q) dJ21_numberOfTrailingZeros_16
theorem hd_J18_length : yJ18_length.cls ≠ "java/lang/invoke/MethodHandle" ∧ yJ18_length.cls ≠ "java/lang/invoke/VarHandle" ∧ (parseMethodDescriptor yJ18_length.desc).map (fun d => d.parameters.length) = some 1 := by decide +kernel
def f_J18_length (h : PH) (a0 : Nat) : ZR Int32 :=
  zlen h a0 2 fun x101 =>
  zret x101 h
set_option maxHeartbeats 4000000 in
set_option maxRecDepth 100000 in
theorem m_J18_length (l : Launch) (D : va_G) (dA : Nat → ClassId) (b0 : Nat) (gs : Nat → Option Nat) (h : PH) (a0 : Nat) {r : Int32} {hh : PH} {mc ms : Nat} (hf : f_J18_length h a0 = some (r, hh, mc, ms)) : zMt l D dA b0 gs yJ18_length cJ18_length 1 (some .int) 1 60 [.ref a0] h (evI r) hh mc ms := by
  unfold f_J18_length at hf
  refine zMt.of (by decide) (Nat.le_of_ble_eq_true rfl) ?_
  intro p e s m args below meth c hc hr hin hn ls hl
  have hl : lv_has ls 1 [(0, .ref a0)] := hl
  have hq : 0 + mc = mc ∧ 0 + ms = ms := ⟨Nat.zero_add _, Nat.zero_add _⟩
  have hx := hc.x
  have hb := hc.b
  refine lv_aload_n (x := a0) hx hb dJ18_length_0 rfl (lv_at hl 0 rfl) ?_
  refine zr_len (ai := 2) hc hn hf dJ18_length_1 (fun x101 hf => ?_)
  obtain ⟨rfl, rfl, rfl, rfl⟩ := zret_i hf
  exact zr_iret hc hn hr hq (fun _ _ _ _ q => q) dJ18_length_2
theorem hd_J18_canEncode : yJ18_canEncode.cls ≠ "java/lang/invoke/MethodHandle" ∧ yJ18_canEncode.cls ≠ "java/lang/invoke/VarHandle" ∧ (parseMethodDescriptor yJ18_canEncode.desc).map (fun d => d.parameters.length) = some 1 := by decide +kernel
def f_J18_canEncode (h : PH) (v0 : Int32) : ZR Int32 :=
  if (255 : Int32) < v0 then
    (zret (0 : Int32) h)
  else
    (zret (1 : Int32) h)
set_option maxHeartbeats 4000000 in
set_option maxRecDepth 100000 in
theorem m_J18_canEncode (l : Launch) (D : va_G) (dA : Nat → ClassId) (b0 : Nat) (gs : Nat → Option Nat) (h : PH) (v0 : Int32) {r : Int32} {hh : PH} {mc ms : Nat} (hf : f_J18_canEncode h v0 = some (r, hh, mc, ms)) : zMt l D dA b0 gs yJ18_canEncode cJ18_canEncode 1 (some .boolean) 1 60 [.int v0] h (evI r) hh mc ms := by
  unfold f_J18_canEncode at hf
  refine zMt.of (by decide) (Nat.le_of_ble_eq_true rfl) ?_
  intro p e s m args below meth c hc hr hin hn ls hl
  have hl : lv_has ls 1 [(0, .int v0)] := hl
  have hq : 0 + mc = mc ∧ 0 + ms = ms := ⟨Nat.zero_add _, Nat.zero_add _⟩
  have hx := hc.x
  have hb := hc.b
  refine lv_iload_n hx hb dJ18_canEncode_0 rfl (lv_at hl 0 rfl) ?_
  refine lv_sipush (v := (255 : Int32)) hx hb dJ18_canEncode_1 (by decide) ?_
  refine lv_icmp_gt (tgt := 11) hx hb dJ18_canEncode_4 (by decide) (fun c9 => ?_) (fun c9 => ?_)
  · have hf := zif_t c9 hf
    refine lv_iconst (v := (0 : Int32)) hx hb dJ18_canEncode_11 (by decide) ?_
    obtain ⟨rfl, rfl, rfl, rfl⟩ := zret_i hf
    exact zr_zret hc hn hr (by decide) hq (fun _ _ _ _ q => q) dJ18_canEncode_12
  · have hf := zif_f c9 hf
    refine lv_iconst (v := (1 : Int32)) hx hb dJ18_canEncode_7 (by decide) ?_
    refine lv_goto (tgt := 12) hx hb dJ18_canEncode_8 (by decide) ?_
    obtain ⟨rfl, rfl, rfl, rfl⟩ := zret_i hf
    exact zr_zret hc hn hr (by decide) hq (fun _ _ _ _ q => q) dJ18_canEncode_12
theorem hd_J12_append : yJ12_append.cls ≠ "java/lang/invoke/MethodHandle" ∧ yJ12_append.cls ≠ "java/lang/invoke/VarHandle" ∧ (parseMethodDescriptor yJ12_append.desc).map (fun d => d.parameters.length) = some 1 := by decide +kernel
def f_J12_append (h : PH) (a0 : Nat) (v1 : Int32) : ZR Nat :=
  zgI h a0 15 3 fun x101 =>
  znm (x101 + (1 : Int32)) fun x102 =>
  zrc h a0 15 <| zcl (f_J12_ensureCapacityInternal h a0 x102) fun _ h104 =>
  zrc h104 a0 15 <| zcl (f_J12_isLatin1 h104 a0) fun x105 h106 =>
  if x105 = 0 then
    (none)
  else
    (zcl (f_J18_canEncode h106 v1) fun x107 h108 =>
    if x107 = 0 then
      (none)
    else
      (zgP h108 a0 15 0 fun x109 =>
      zgI h108 a0 15 3 fun x110 =>
      znm (x110 + (1 : Int32)) fun x111 =>
      zpI h108 a0 15 3 x111 fun h112 =>
      znm v1.toInt8.toInt32 fun x113 =>
      znn x109 fun a114 =>
      zsY h112 a114 x110 x113 fun h115 =>
      zret a0 h115))
set_option maxHeartbeats 4000000 in
set_option maxRecDepth 100000 in
theorem m_J12_append (l : Launch) (D : va_G) (dA : Nat → ClassId) (b0 : Nat) (gs : Nat → Option Nat) (h : PH) (a0 : Nat) (v1 : Int32) {r : Nat} {hh : PH} {mc ms : Nat} (hf : f_J12_append h a0 v1 = some (r, hh, mc, ms)) : zMt l D dA b0 gs yJ12_append cJ12_append 2 (some (.object "java/lang/AbstractStringBuilder")) 2 82 [.ref a0, .int v1] h (evN r) hh mc ms := by
  unfold f_J12_append at hf
  refine zMt.of (by decide) (Nat.le_of_ble_eq_true rfl) ?_
  intro p e s m args below meth c hc hr hin hn ls hl
  have hl : lv_has ls 2 [(0, .ref a0), (1, .int v1)] := hl
  have hq : 0 + mc = mc ∧ 0 + ms = ms := ⟨Nat.zero_add _, Nat.zero_add _⟩
  have hx := hc.x
  have hb := hc.b
  refine lv_aload_n (x := a0) hx hb dJ12_append_0 rfl (lv_at hl 0 rfl) ?_
  refine lv_aload_n (x := a0) hx hb dJ12_append_1 rfl (lv_at hl 0 rfl) ?_
  refine zr_gI hc hn (ci := 15) rfl rfl in_J13 3 (by decide) q461 (fun _ h => h) (fun _ _ _ => rfl) hf dJ12_append_2 (fun x101 hf => ?_)
  refine lv_iconst (v := (1 : Int32)) hx hb dJ12_append_5 (by decide) ?_
  refine lv_iadd hx hb dJ12_append_6 ?_
  refine zr_nmI hf (fun x102 hf => ?_)
  refine zr_cPU (n := 1) (As := [.int x102]) (rest := []) hc hn hq (ci := 15) rfl (by decide +kernel) q485 q2641 q486 q487 q102 q488 (Nat.le_of_ble_eq_true rfl) (Nat.le_of_ble_eq_true rfl) (fun _ _ _ _ q => m_J12_ensureCapacityInternal l D dA b0 gs h a0 x102 q) hf dJ12_append_7 hl.1 rfl rfl (zroom (Nat.le_of_ble_eq_true rfl)) (fun x103 h104 H locs cells slots C9 S9 hf hq hn => ?_)
  refine lv_aload_n (x := a0) hx hb dJ12_append_10 rfl (lv_at hl 0 rfl) ?_
  refine zr_cUI (n := 0) (As := []) (rest := []) hc hn hq (ci := 15) rfl rfl (by decide +kernel) (lw_U q520 q522 q523 q521 q102 q524) (Nat.le_of_ble_eq_true rfl) (Nat.le_of_ble_eq_true rfl) (fun _ _ _ _ q => m_J12_isLatin1 l D dA b0 gs h104 a0 q) hf dJ12_append_11 hl.1 rfl rfl (zroom (Nat.le_of_ble_eq_true rfl)) (fun x105 h106 H locs cells slots C9 S9 hf hq hn => ?_)
  refine lv_if_eq (tgt := 45) hx hb dJ12_append_14 (by decide) (fun c9 => ?_) (fun c9 => ?_)
  · have hf := zif_t c9 hf
    cases hf
  · have hf := zif_f c9 hf
    refine lv_iload_n hx hb dJ12_append_17 rfl (lv_at hl 1 rfl) ?_
    refine zr_cSI (As := [.int v1]) (rest := []) hc hn hq hd_J18_canEncode (lw_S q525 q526 q109 q527) (Nat.le_of_ble_eq_true rfl) (Nat.le_of_ble_eq_true rfl) (fun _ _ _ _ q => m_J18_canEncode l D dA b0 gs h106 v1 q) hf dJ12_append_18 hl.1 rfl rfl (zroom (Nat.le_of_ble_eq_true rfl)) (fun x107 h108 H locs cells slots C9 S9 hf hq hn => ?_)
    refine lv_if_eq (tgt := 45) hx hb dJ12_append_21 (by decide) (fun c9 => ?_) (fun c9 => ?_)
    · have hf := zif_t c9 hf
      cases hf
    · have hf := zif_f c9 hf
      refine lv_aload_n (x := a0) hx hb dJ12_append_24 rfl (lv_at hl 0 rfl) ?_
      refine zr_gP hc hn (ci := 15) rfl rfl in_J13 0 (by decide) q458 (fun _ h => h) (fun _ _ _ => rfl) hf dJ12_append_25 (fun x109 hf => ?_)
      refine lv_aload_n (x := a0) hx hb dJ12_append_28 rfl (lv_at hl 0 rfl) ?_
      refine lv_dup hx hb dJ12_append_29 rfl ?_
      refine zr_gI hc hn (ci := 15) rfl rfl in_J13 3 (by decide) q461 (fun _ h => h) (fun _ _ _ => rfl) hf dJ12_append_30 (fun x110 hf => ?_)
      refine lv_dup_x1 hx hb dJ12_append_33 rfl rfl ?_
      refine lv_iconst (v := (1 : Int32)) hx hb dJ12_append_34 (by decide) ?_
      refine lv_iadd hx hb dJ12_append_35 ?_
      refine zr_nmI hf (fun x111 hf => ?_)
      refine zr_pI (x := x111) hc hn (ci := 15) rfl rfl in_J13 3 (by decide) tyJ13 tyJ13_ok nmJ13 q461 (fun _ h => h) (Or.inl rfl) (fun _ _ _ => rfl) rfl rfl hf dJ12_append_36 (fun h112 H locs hf hn => ?_)
      refine lv_iload_n hx hb dJ12_append_39 rfl (lv_at hl 1 rfl) ?_
      refine lv_i2b (v := v1.toInt8.toInt32) hx hb dJ12_append_40 rfl ?_
      refine zr_nmI hf (fun x113 hf => ?_)
      obtain ⟨a114, e9, hf9⟩ := znn_i hf
      subst e9
      have hf := hf9
      clear hf9
      refine zr_sY hc hn hf dJ12_append_41 (fun h115 H locs hf hn => ?_)
      refine lv_goto (tgt := 75) hx hb dJ12_append_42 (by decide) ?_
      refine lv_aload_n (x := a0) hx hb dJ12_append_75 rfl (lv_at hl 0 rfl) ?_
      obtain ⟨rfl, rfl, rfl, rfl⟩ := zret_i hf
      exact zr_nret hc hn hr (Or.inl ⟨_, rfl⟩) hq (fun _ _ _ _ q => q) dJ12_append_76
theorem hd_J13_init : yJ13_init.cls ≠ "java/lang/invoke/MethodHandle" ∧ yJ13_init.cls ≠ "java/lang/invoke/VarHandle" ∧ (parseMethodDescriptor yJ13_init.desc).map (fun d => d.parameters.length) = some 1 := by decide +kernel
def f_J13_init (h : PH) (a0 : Nat) (v1 : Int32) : ZR Unit :=
  zcl (f_J12_init h a0 v1) fun _ h102 =>
  zret () h102
set_option maxHeartbeats 4000000 in
set_option maxRecDepth 100000 in
theorem m_J13_init (l : Launch) (D : va_G) (dA : Nat → ClassId) (b0 : Nat) (gs : Nat → Option Nat) (h : PH) (a0 : Nat) (v1 : Int32) {r : Unit} {hh : PH} {mc ms : Nat} (hf : f_J13_init h a0 v1 = some (r, hh, mc, ms)) : zMt l D dA b0 gs yJ13_init cJ13_init 2 none 2 81 [.ref a0, .int v1] h (evU r) hh mc ms := by
  unfold f_J13_init at hf
  refine zMt.of (by decide) (Nat.le_of_ble_eq_true rfl) ?_
  intro p e s m args below meth c hc hr hin hn ls hl
  have hl : lv_has ls 2 [(0, .ref a0), (1, .int v1)] := hl
  have hq : 0 + mc = mc ∧ 0 + ms = ms := ⟨Nat.zero_add _, Nat.zero_add _⟩
  have hx := hc.x
  have hb := hc.b
  refine lv_aload_n (x := a0) hx hb dJ13_init_0 rfl (lv_at hl 0 rfl) ?_
  refine lv_iload_n hx hb dJ13_init_1 rfl (lv_at hl 1 rfl) ?_
  refine zr_cI (As := [.int v1]) (rest := []) hc hn hq rfl hd_J12_init (lw_meth q447) q445 q446 q102 (Nat.le_of_ble_eq_true rfl) (Nat.le_of_ble_eq_true rfl) (fun _ _ _ _ q => m_J12_init l D dA b0 gs h a0 v1 q) hf dJ13_init_2 hl.1 rfl rfl (zroom (Nat.le_of_ble_eq_true rfl)) (fun x101 h102 H locs cells slots C9 S9 hf hq hn => ?_)
  obtain ⟨rfl, rfl, rfl, rfl⟩ := zret_i hf
  exact zr_vret hc hn hr hq (fun _ _ _ _ q => q) dJ13_init_5
theorem hd_J13_append : yJ13_append.cls ≠ "java/lang/invoke/MethodHandle" ∧ yJ13_append.cls ≠ "java/lang/invoke/VarHandle" ∧ (parseMethodDescriptor yJ13_append.desc).map (fun d => d.parameters.length) = some 1 := by decide +kernel
def f_J13_append (h : PH) (a0 : Nat) (v1 : Int32) : ZR Nat :=
  zrc h a0 15 <| zcl (f_J12_append h a0 v1) fun x101 h102 =>
  zret a0 h102
set_option maxHeartbeats 4000000 in
set_option maxRecDepth 100000 in
theorem m_J13_append (l : Launch) (D : va_G) (dA : Nat → ClassId) (b0 : Nat) (gs : Nat → Option Nat) (h : PH) (a0 : Nat) (v1 : Int32) {r : Nat} {hh : PH} {mc ms : Nat} (hf : f_J13_append h a0 v1 = some (r, hh, mc, ms)) : zMt l D dA b0 gs yJ13_append cJ13_append 2 (some (.object "java/lang/StringBuilder")) 3 103 [.ref a0, .int v1] h (evN r) hh mc ms := by
  unfold f_J13_append at hf
  refine zMt.of (by decide) (Nat.le_of_ble_eq_true rfl) ?_
  intro p e s m args below meth c hc hr hin hn ls hl
  have hl : lv_has ls 2 [(0, .ref a0), (1, .int v1)] := hl
  have hq : 0 + mc = mc ∧ 0 + ms = ms := ⟨Nat.zero_add _, Nat.zero_add _⟩
  have hx := hc.x
  have hb := hc.b
  refine lv_aload_n (x := a0) hx hb dJ13_append_0 rfl (lv_at hl 0 rfl) ?_
  refine lv_iload_n hx hb dJ13_append_1 rfl (lv_at hl 1 rfl) ?_
  refine zr_cSUN (n := 1) (As := [.int v1]) (rest := []) hc hn hq (ci := 15) rfl (by decide +kernel) (lw_SU q482 q2640 q470 q483 q102 q484) (Nat.le_of_ble_eq_true rfl) (Nat.le_of_ble_eq_true rfl) (fun _ _ _ _ q => m_J12_append l D dA b0 gs h a0 v1 q) hf dJ13_append_2 hl.1 rfl rfl (zroom (Nat.le_of_ble_eq_true rfl)) (fun x101 h102 H locs cells slots C9 S9 hf hq hn => ?_)
  refine lv_pop hx hb dJ13_append_5 rfl ?_
  refine lv_aload_n (x := a0) hx hb dJ13_append_6 rfl (lv_at hl 0 rfl) ?_
  obtain ⟨rfl, rfl, rfl, rfl⟩ := zret_i hf
  exact zr_nret hc hn hr (Or.inl ⟨_, rfl⟩) hq (fun _ _ _ _ q => q) dJ13_append_7
theorem hd_J17_copyOf_3 : yJ17_copyOf_3.cls ≠ "java/lang/invoke/MethodHandle" ∧ yJ17_copyOf_3.cls ≠ "java/lang/invoke/VarHandle" ∧ (parseMethodDescriptor yJ17_copyOf_3.desc).map (fun d => d.parameters.length) = some 3 := by decide +kernel
def f_J17_copyOf_3 (h : PH) (a0 : Nat) (v1 : Int32) (o2 : Option Nat) : ZR Nat :=
  znm (zS h 25) fun x101 =>
  if o2 = x101 then
    (zna h 9 v1 fun a102 h103 =>
    zlen h103 a0 9 fun x104 =>
    znm (if v1 < x104 then v1 else x104) fun x105 =>
    zcpP h103 a0 a102 9 (zecl h103 a0 (0 : Int32)) (0 : Int32) (0 : Int32) x105 fun h106 =>
    zret a102 h106)
  else
    (none)
set_option maxHeartbeats 4000000 in
set_option maxRecDepth 100000 in
theorem m_J17_copyOf_3 (l : Launch) (D : va_G) (dA : Nat → ClassId) (b0 : Nat) (gs : Nat → Option Nat) (h : PH) (a0 : Nat) (v1 : Int32) (o2 : Option Nat) {r : Nat} {hh : PH} {mc ms : Nat} (hf : f_J17_copyOf_3 h a0 v1 o2 = some (r, hh, mc, ms)) : zMt l D dA b0 gs yJ17_copyOf_3 cJ17_copyOf_3 4 (some (.array (.object "java/lang/Object"))) 1 60 [.ref a0, .int v1, va_rf o2] h (evN r) hh mc ms := by
  unfold f_J17_copyOf_3 at hf
  refine zMt.of (by decide) (by simp [lg_sl, zcat_rf, zcat_i, zcat_l, zcat_d, zcat_r, zcat_n]) ?_
  intro p e s m args below meth c hc hr hin hn ls hl
  have hl : lv_has ls 4 [(0, .ref a0), (1, .int v1), (2, va_rf o2)] := by simpa [lv_args, zcat_rf, zcat_i, zcat_l, zcat_d, zcat_r, zcat_n] using hl
  have hq : 0 + mc = mc ∧ 0 + ms = ms := ⟨Nat.zero_add _, Nat.zero_add _⟩
  have hx := hc.x
  have hb := hc.b
  refine zr_aload_n (x := o2) hx hb dJ17_copyOf_3_0 rfl (lv_at hl 2 rfl) ?_
  refine zr_ldm hc hn q1111 hf dJ17_copyOf_3_1 (fun x101 hf => ?_)
  refine lv_acmp_ne (rx := o2) (ry := x101) (tgt := 13) hx hb dJ17_copyOf_3_3 (by decide) (fun c9 => ?_) (fun c9 => ?_)
  · have hf := zif_f c9 hf
    cases hf
  · have hf := zif_t c9 hf
    refine lv_iload_n hx hb dJ17_copyOf_3_6 rfl (lv_at hl 1 rfl) ?_
    refine zr_nq (ai := 9) hc hn hq (by decide) rfl q1112 q212 hf dJ17_copyOf_3_7 (fun a102 h103 H cells slots C9 S9 hf hq hn => ?_)
    refine lv_goto (tgt := 24) hx hb dJ17_copyOf_3_10 (by decide) ?_
    refine lv_astore_n (x := a102) (i := 3) (lv' := [(3, .ref a102), (0, .ref a0), (1, .int v1), (2, va_rf o2)]) hx hb dJ17_copyOf_3_24 rfl hl (by decide) (by simp [zcat_rf, zcat_i, zcat_l, zcat_d, zcat_r, zcat_n] <;> rfl) (fun ls hl => ?_)
    refine lv_aload_n (x := a0) hx hb dJ17_copyOf_3_25 rfl (lv_at hl 1 rfl) ?_
    refine lv_iconst (v := (0 : Int32)) hx hb dJ17_copyOf_3_26 (by decide) ?_
    refine lv_aload_n (x := a102) hx hb dJ17_copyOf_3_27 rfl (lv_at hl 0 rfl) ?_
    refine lv_iconst (v := (0 : Int32)) hx hb dJ17_copyOf_3_28 (by decide) ?_
    refine lv_aload_n (x := a0) hx hb dJ17_copyOf_3_29 rfl (lv_at hl 1 rfl) ?_
    refine zr_len (ai := 9) hc hn hf dJ17_copyOf_3_30 (fun x104 hf => ?_)
    refine lv_iload_n hx hb dJ17_copyOf_3_31 rfl (lv_at hl 2 rfl) ?_
    refine zr_mmin (x := x104) (y := v1) hc hq hl.1 q514 q515 q106 q516 (zroom (Nat.le_of_ble_eq_true rfl)) (Nat.le_of_ble_eq_true rfl) (Nat.le_of_ble_eq_true rfl) dJ17_copyOf_3_32 ?_
    refine zr_nmI hf (fun x105 hf => ?_)
    refine zr_cpP (ai := 9) hc hn (by decide) hl.1 q517 q519 q518 q108 hf (zroom (Nat.le_of_ble_eq_true rfl)) (Nat.le_of_ble_eq_true rfl) (Nat.le_of_ble_eq_true rfl) dJ17_copyOf_3_35 (fun h106 H locs hf hn => ?_)
    refine lv_aload_n (x := a102) hx hb dJ17_copyOf_3_38 rfl (lv_at hl 0 rfl) ?_
    obtain ⟨rfl, rfl, rfl, rfl⟩ := zret_i hf
    exact zr_nret hc hn hr (Or.inr ⟨_, rfl⟩) hq (fun _ _ _ _ q => q) dJ17_copyOf_3_39
theorem hd_J17_copyOf_2 : yJ17_copyOf_2.cls ≠ "java/lang/invoke/MethodHandle" ∧ yJ17_copyOf_2.cls ≠ "java/lang/invoke/VarHandle" ∧ (parseMethodDescriptor yJ17_copyOf_2.desc).map (fun d => d.parameters.length) = some 2 := by decide +kernel
def f_J17_copyOf_2 (h : PH) (a0 : Nat) (v1 : Int32) : ZR Nat :=
  zgcl h a0 9 fun x101 =>
  zcl (f_J17_copyOf_3 h a0 v1 x101) fun x102 h103 =>
  zret x102 h103
set_option maxHeartbeats 4000000 in
set_option maxRecDepth 100000 in
theorem m_J17_copyOf_2 (l : Launch) (D : va_G) (dA : Nat → ClassId) (b0 : Nat) (gs : Nat → Option Nat) (h : PH) (a0 : Nat) (v1 : Int32) {r : Nat} {hh : PH} {mc ms : Nat} (hf : f_J17_copyOf_2 h a0 v1 = some (r, hh, mc, ms)) : zMt l D dA b0 gs yJ17_copyOf_2 cJ17_copyOf_2 2 (some (.array (.object "java/lang/Object"))) 2 83 [.ref a0, .int v1] h (evN r) hh mc ms := by
  unfold f_J17_copyOf_2 at hf
  refine zMt.of (by decide) (Nat.le_of_ble_eq_true rfl) ?_
  intro p e s m args below meth c hc hr hin hn ls hl
  have hl : lv_has ls 2 [(0, .ref a0), (1, .int v1)] := hl
  have hq : 0 + mc = mc ∧ 0 + ms = ms := ⟨Nat.zero_add _, Nat.zero_add _⟩
  have hx := hc.x
  have hb := hc.b
  refine lv_aload_n (x := a0) hx hb dJ17_copyOf_2_0 rfl (lv_at hl 0 rfl) ?_
  refine lv_iload_n hx hb dJ17_copyOf_2_1 rfl (lv_at hl 1 rfl) ?_
  refine lv_aload_n (x := a0) hx hb dJ17_copyOf_2_2 rfl (lv_at hl 0 rfl) ?_
  refine zr_gcl hc hn hl.1 q1076 q2693 q2692 q1077 q1107 hf (zroom (Nat.le_of_ble_eq_true rfl)) (Nat.le_of_ble_eq_true rfl) (Nat.le_of_ble_eq_true rfl) dJ17_copyOf_2_3 (fun x101 hf => ?_)
  refine zr_cSN (As := [.ref a0, .int v1, va_rf x101]) (rest := []) hc hn hq hd_J17_copyOf_3 (lw_S q1108 q1109 q107 q1110) (Nat.le_of_ble_eq_true rfl) (Nat.le_of_ble_eq_true rfl) (fun _ _ _ _ q => m_J17_copyOf_3 l D dA b0 gs h a0 v1 x101 q) hf dJ17_copyOf_2_6 hl.1 rfl rfl (zroom (Nat.le_of_ble_eq_true rfl)) (fun x102 h103 H locs cells slots C9 S9 hf hq hn => ?_)
  obtain ⟨rfl, rfl, rfl, rfl⟩ := zret_i hf
  exact zr_nret hc hn hr (Or.inr ⟨_, rfl⟩) hq (fun _ _ _ _ q => q) dJ17_copyOf_2_9
theorem hd_J2_init : yJ2_init.cls ≠ "java/lang/invoke/MethodHandle" ∧ yJ2_init.cls ≠ "java/lang/invoke/VarHandle" ∧ (parseMethodDescriptor yJ2_init.desc).map (fun d => d.parameters.length) = some 0 := by decide +kernel
def f_J2_init (h : PH) (a0 : Nat) : ZR Unit :=
  zcl (f_J1_init h a0) fun _ h102 =>
  znm (zS h102 0) fun x103 =>
  zpP h102 a0 12 1 x103 fun h104 =>
  zret () h104
set_option maxHeartbeats 4000000 in
set_option maxRecDepth 100000 in
theorem m_J2_init (l : Launch) (D : va_G) (dA : Nat → ClassId) (b0 : Nat) (gs : Nat → Option Nat) (h : PH) (a0 : Nat) {r : Unit} {hh : PH} {mc ms : Nat} (hf : f_J2_init h a0 = some (r, hh, mc, ms)) : zMt l D dA b0 gs yJ2_init cJ2_init 1 none 3 100 [.ref a0] h (evU r) hh mc ms := by
  unfold f_J2_init at hf
  refine zMt.of (by decide) (Nat.le_of_ble_eq_true rfl) ?_
  intro p e s m args below meth c hc hr hin hn ls hl
  have hl : lv_has ls 1 [(0, .ref a0)] := hl
  have hq : 0 + mc = mc ∧ 0 + ms = ms := ⟨Nat.zero_add _, Nat.zero_add _⟩
  have hx := hc.x
  have hb := hc.b
  refine lv_aload_n (x := a0) hx hb dJ2_init_0 rfl (lv_at hl 0 rfl) ?_
  refine zr_cI (As := []) (rest := []) hc hn hq rfl hd_J1_init (lw_meth q160) q158 q159 q88 (Nat.le_of_ble_eq_true rfl) (Nat.le_of_ble_eq_true rfl) (fun _ _ _ _ q => m_J1_init l D dA b0 gs h a0 q) hf dJ2_init_1 hl.1 rfl rfl (zroom (Nat.le_of_ble_eq_true rfl)) (fun x101 h102 H locs cells slots C9 S9 hf hq hn => ?_)
  refine lv_aload_n (x := a0) hx hb dJ2_init_4 rfl (lv_at hl 0 rfl) ?_
  refine zr_gs hc hn (hc.st0) q165 (fun _ h => h) hf dJ2_init_5 (fun x103 hf => ?_)
  refine zr_pP (x := x103) hc hn (ci := 12) rfl rfl in_J2 1 (by decide) tyJ2 tyJ2_ok nmJ2 q167 (fun _ h => h) (Or.inl rfl) (fun _ _ _ => rfl) (zn_rf _ (by decide)) (zf_rf _ (by decide)) hf dJ2_init_8 (fun h104 H locs hf hn => ?_)
  obtain ⟨rfl, rfl, rfl, rfl⟩ := zret_i hf
  exact zr_vret hc hn hr hq (fun _ _ _ _ q => q) dJ2_init_11
theorem hd_J2_size : yJ2_size.cls ≠ "java/lang/invoke/MethodHandle" ∧ yJ2_size.cls ≠ "java/lang/invoke/VarHandle" ∧ (parseMethodDescriptor yJ2_size.desc).map (fun d => d.parameters.length) = some 0 := by decide +kernel
def f_J2_size (h : PH) (a0 : Nat) : ZR Int32 :=
  zgI h a0 12 2 fun x101 =>
  zret x101 h
set_option maxHeartbeats 4000000 in
set_option maxRecDepth 100000 in
theorem m_J2_size (l : Launch) (D : va_G) (dA : Nat → ClassId) (b0 : Nat) (gs : Nat → Option Nat) (h : PH) (a0 : Nat) {r : Int32} {hh : PH} {mc ms : Nat} (hf : f_J2_size h a0 = some (r, hh, mc, ms)) : zMt l D dA b0 gs yJ2_size cJ2_size 1 (some .int) 1 60 [.ref a0] h (evI r) hh mc ms := by
  unfold f_J2_size at hf
  refine zMt.of (by decide) (Nat.le_of_ble_eq_true rfl) ?_
  intro p e s m args below meth c hc hr hin hn ls hl
  have hl : lv_has ls 1 [(0, .ref a0)] := hl
  have hq : 0 + mc = mc ∧ 0 + ms = ms := ⟨Nat.zero_add _, Nat.zero_add _⟩
  have hx := hc.x
  have hb := hc.b
  refine lv_aload_n (x := a0) hx hb dJ2_size_0 rfl (lv_at hl 0 rfl) ?_
  refine zr_gI hc hn (ci := 12) rfl rfl in_J2 2 (by decide) q168 (fun _ h => h) (fun _ _ _ => rfl) hf dJ2_size_1 (fun x101 hf => ?_)
  obtain ⟨rfl, rfl, rfl, rfl⟩ := zret_i hf
  exact zr_iret hc hn hr hq (fun _ _ _ _ q => q) dJ2_size_4
theorem hd_J2_grow_2 : yJ2_grow_2.cls ≠ "java/lang/invoke/MethodHandle" ∧ yJ2_grow_2.cls ≠ "java/lang/invoke/VarHandle" ∧ (parseMethodDescriptor yJ2_grow_2.desc).map (fun d => d.parameters.length) = some 1 := by decide +kernel
def f_J2_grow_2_b20 (h : PH) (a0 : Nat) (v1 : Int32) (v2 : Int32) : ZR Nat :=
  znm (v1 - v2) fun x101 =>
  znm (v2 >>> ((1 : Int32) &&& 31)) fun x102 =>
  zcl (f_J15_newLength h v2 x101 x102) fun x103 h104 =>
  zgP h104 a0 12 1 fun x105 =>
  znn x105 fun a106 =>
  zcl (f_J17_copyOf_2 h104 a106 x103) fun x107 h108 =>
  zpP h108 a0 12 1 (some x107) fun h109 =>
  zret x107 h109
def f_J2_grow_2 (h : PH) (a0 : Nat) (v1 : Int32) : ZR Nat :=
  zgP h a0 12 1 fun x101 =>
  znn x101 fun a102 =>
  zlen h a102 9 fun x103 =>
  if 0 < x103 then
    (f_J2_grow_2_b20 h a0 v1 x103)
  else
    (zgP h a0 12 1 fun x104 =>
    znm (zS h 0) fun x105 =>
    if x104 = x105 then
      (znm (if (10 : Int32) < v1 then v1 else (10 : Int32)) fun x106 =>
      zna h 9 x106 fun a107 h108 =>
      zpP h108 a0 12 1 (some a107) fun h109 =>
      zret a107 h109)
    else
      (f_J2_grow_2_b20 h a0 v1 x103))
set_option maxHeartbeats 4000000 in
set_option maxRecDepth 100000 in
theorem m_J2_grow_2_b20 {p : Program} {l : Launch} {e : Env} {s : State} {m : MethodId} {args : Array Value} {below : List Frame} {meth : Method} {c : Code} {D : va_G} {dA : Nat → ClassId} {b0 : Nat} {gs : Nat → Option Nat} (hc : zC D dA b0 gs yJ2_grow_2.cls cJ2_grow_2 4 p c s m args meth) (hr : meth.sig.returnType = (some (.array (.object "java/lang/Object")))) (hin : meth.name = yJ2_grow_2.name) {r : Nat} {hh : PH} {mc ms : Nat} : ∀ (h : PH) (a0 : Nat) (v1 : Int32) (v2 : Int32) (C9 S9 : Nat) (H : Heap) (locs : List Loc) (cells slots : Nat), f_J2_grow_2_b20 h a0 v1 v2 = some (r, hh, C9, S9) → cells + C9 = mc ∧ slots + S9 = ms → zM D dA b0 gs s h H locs → ∀ ls : Array Slot, lv_has ls 4 [(0, .ref a0), (1, .int v1), (2, .int v2)] → W p l e ({ frames := 3, cells := mc, slots := ms, locals := 105 } : Room) s m args below meth c H locs cells slots (MQ below (zQ D dA b0 gs (evN r) hh) args s mc ms (zA b0)) (F0 m 20 ls []) := by
  have hx := hc.x
  have hb := hc.b
  intro h a0 v1 v2 C9 S9 H locs cells slots hf hq hn ls hl
  unfold f_J2_grow_2_b20 at hf
  refine lv_iload_n hx hb dJ2_grow_2_20 rfl (lv_at hl 2 rfl) ?_
  refine lv_iload_n hx hb dJ2_grow_2_21 rfl (lv_at hl 1 rfl) ?_
  refine lv_iload_n hx hb dJ2_grow_2_22 rfl (lv_at hl 2 rfl) ?_
  refine lv_isub hx hb dJ2_grow_2_23 ?_
  refine zr_nmI hf (fun x101 hf => ?_)
  refine lv_iload_n hx hb dJ2_grow_2_24 rfl (lv_at hl 2 rfl) ?_
  refine lv_iconst (v := (1 : Int32)) hx hb dJ2_grow_2_25 (by decide) ?_
  refine lv_ishr hx hb dJ2_grow_2_26 ?_
  refine zr_nmI hf (fun x102 hf => ?_)
  refine zr_cSI (As := [.int v2, .int x101, .int x102]) (rest := []) hc hn hq hd_J15_newLength (lw_S q1072 q494 q105 q495) (Nat.le_of_ble_eq_true rfl) (Nat.le_of_ble_eq_true rfl) (fun _ _ _ _ q => m_J15_newLength l D dA b0 gs h v2 x101 x102 q) hf dJ2_grow_2_27 hl.1 rfl rfl (zroom (Nat.le_of_ble_eq_true rfl)) (fun x103 h104 H locs cells slots C9 S9 hf hq hn => ?_)
  refine lv_istore_n (i := 3) (lv' := [(3, .int x103), (0, .ref a0), (1, .int v1), (2, .int v2)]) hx hb dJ2_grow_2_30 rfl hl (by decide) rfl (fun ls hl => ?_)
  refine lv_aload_n (x := a0) hx hb dJ2_grow_2_31 rfl (lv_at hl 1 rfl) ?_
  refine lv_aload_n (x := a0) hx hb dJ2_grow_2_32 rfl (lv_at hl 1 rfl) ?_
  refine zr_gP hc hn (ci := 12) rfl rfl in_J2 1 (by decide) q167 (fun _ h => h) (fun _ _ _ => rfl) hf dJ2_grow_2_33 (fun x105 hf => ?_)
  refine lv_iload_n hx hb dJ2_grow_2_36 rfl (lv_at hl 0 rfl) ?_
  obtain ⟨a106, e9, hf9⟩ := znn_i hf
  subst e9
  have hf := hf9
  clear hf9
  refine zr_cSN (As := [.ref a106, .int x103]) (rest := [.ref a0]) hc hn hq hd_J17_copyOf_2 (lw_S q1073 q1074 q107 q1075) (Nat.le_of_ble_eq_true rfl) (Nat.le_of_ble_eq_true rfl) (fun _ _ _ _ q => m_J17_copyOf_2 l D dA b0 gs h104 a106 x103 q) hf dJ2_grow_2_37 hl.1 rfl rfl (zroom (Nat.le_of_ble_eq_true rfl)) (fun x107 h108 H locs cells slots C9 S9 hf hq hn => ?_)
  refine lv_dup_x1 hx hb dJ2_grow_2_40 rfl rfl ?_
  refine zr_pP (x := (some x107)) hc hn (ci := 12) rfl rfl in_J2 1 (by decide) tyJ2 tyJ2_ok nmJ2 q167 (fun _ h => h) (Or.inl rfl) (fun _ _ _ => rfl) (zn_rf _ (by decide)) (zf_rf _ (by decide)) hf dJ2_grow_2_41 (fun h109 H locs hf hn => ?_)
  obtain ⟨rfl, rfl, rfl, rfl⟩ := zret_i hf
  exact zr_nret hc hn hr (Or.inr ⟨_, rfl⟩) hq (fun _ _ _ _ q => q) dJ2_grow_2_44
set_option maxHeartbeats 4000000 in
set_option maxRecDepth 100000 in
theorem m_J2_grow_2 (l : Launch) (D : va_G) (dA : Nat → ClassId) (b0 : Nat) (gs : Nat → Option Nat) (h : PH) (a0 : Nat) (v1 : Int32) {r : Nat} {hh : PH} {mc ms : Nat} (hf : f_J2_grow_2 h a0 v1 = some (r, hh, mc, ms)) : zMt l D dA b0 gs yJ2_grow_2 cJ2_grow_2 4 (some (.array (.object "java/lang/Object"))) 3 105 [.ref a0, .int v1] h (evN r) hh mc ms := by
  unfold f_J2_grow_2 at hf
  refine zMt.of (by decide) (Nat.le_of_ble_eq_true rfl) ?_
  intro p e s m args below meth c hc hr hin hn ls hl
  have hl : lv_has ls 4 [(0, .ref a0), (1, .int v1)] := hl
  have hq : 0 + mc = mc ∧ 0 + ms = ms := ⟨Nat.zero_add _, Nat.zero_add _⟩
  have hx := hc.x
  have hb := hc.b
  refine lv_aload_n (x := a0) hx hb dJ2_grow_2_0 rfl (lv_at hl 0 rfl) ?_
  refine zr_gP hc hn (ci := 12) rfl rfl in_J2 1 (by decide) q167 (fun _ h => h) (fun _ _ _ => rfl) hf dJ2_grow_2_1 (fun x101 hf => ?_)
  obtain ⟨a102, e9, hf9⟩ := znn_i hf
  subst e9
  have hf := hf9
  clear hf9
  refine zr_len (ai := 9) hc hn hf dJ2_grow_2_4 (fun x103 hf => ?_)
  refine lv_istore_n (i := 2) (lv' := [(2, .int x103), (0, .ref a0), (1, .int v1)]) hx hb dJ2_grow_2_5 rfl hl (by decide) rfl (fun ls hl => ?_)
  refine lv_iload_n hx hb dJ2_grow_2_6 rfl (lv_at hl 0 rfl) ?_
  refine lv_if_gt (tgt := 20) hx hb dJ2_grow_2_7 (by decide) (fun c9 => ?_) (fun c9 => ?_)
  · have hf := zif_t c9 hf
    exact m_J2_grow_2_b20 hc hr hin h a0 v1 x103 _ _ _ _ _ _ hf hq hn _ (lv_sub hl [1, 2, 0] rfl)
  · have hf := zif_f c9 hf
    refine lv_aload_n (x := a0) hx hb dJ2_grow_2_10 rfl (lv_at hl 1 rfl) ?_
    refine zr_gP hc hn (ci := 12) rfl rfl in_J2 1 (by decide) q167 (fun _ h => h) (fun _ _ _ => rfl) hf dJ2_grow_2_11 (fun x104 hf => ?_)
    refine zr_gs hc hn (hc.st0) q165 (fun _ h => h) hf dJ2_grow_2_14 (fun x105 hf => ?_)
    refine lv_acmp_eq (rx := x104) (ry := x105) (tgt := 45) hx hb dJ2_grow_2_17 (by decide) (fun c9 => ?_) (fun c9 => ?_)
    · have hf := zif_t c9 hf
      refine lv_aload_n (x := a0) hx hb dJ2_grow_2_45 rfl (lv_at hl 1 rfl) ?_
      refine lv_bipush (v := (10 : Int32)) hx hb dJ2_grow_2_46 (by decide) ?_
      refine lv_iload_n hx hb dJ2_grow_2_48 rfl (lv_at hl 2 rfl) ?_
      refine zr_mmax (x := (10 : Int32)) (y := v1) hc hq hl.1 q1113 q497 q106 q498 (zroom (Nat.le_of_ble_eq_true rfl)) (Nat.le_of_ble_eq_true rfl) (Nat.le_of_ble_eq_true rfl) dJ2_grow_2_49 ?_
      refine zr_nmI hf (fun x106 hf => ?_)
      refine zr_nq (ai := 9) hc hn hq (by decide) rfl q1114 q212 hf dJ2_grow_2_52 (fun a107 h108 H cells slots C9 S9 hf hq hn => ?_)
      refine lv_dup_x1 hx hb dJ2_grow_2_55 rfl rfl ?_
      refine zr_pP (x := (some a107)) hc hn (ci := 12) rfl rfl in_J2 1 (by decide) tyJ2 tyJ2_ok nmJ2 q167 (fun _ h => h) (Or.inl rfl) (fun _ _ _ => rfl) (zn_rf _ (by decide)) (zf_rf _ (by decide)) hf dJ2_grow_2_56 (fun h109 H locs hf hn => ?_)
      obtain ⟨rfl, rfl, rfl, rfl⟩ := zret_i hf
      exact zr_nret hc hn hr (Or.inr ⟨_, rfl⟩) hq (fun _ _ _ _ q => q) dJ2_grow_2_59
    · have hf := zif_f c9 hf
      exact m_J2_grow_2_b20 hc hr hin h a0 v1 x103 _ _ _ _ _ _ hf hq hn _ (lv_sub hl [1, 2, 0] rfl)
theorem hd_J2_grow : yJ2_grow.cls ≠ "java/lang/invoke/MethodHandle" ∧ yJ2_grow.cls ≠ "java/lang/invoke/VarHandle" ∧ (parseMethodDescriptor yJ2_grow.desc).map (fun d => d.parameters.length) = some 0 := by decide +kernel
def f_J2_grow (h : PH) (a0 : Nat) : ZR Nat :=
  zgI h a0 12 2 fun x101 =>
  znm (x101 + (1 : Int32)) fun x102 =>
  zrc h a0 12 <| zcl (f_J2_grow_2 h a0 x102) fun x103 h104 =>
  zret x103 h104
set_option maxHeartbeats 4000000 in
set_option maxRecDepth 100000 in
theorem m_J2_grow (l : Launch) (D : va_G) (dA : Nat → ClassId) (b0 : Nat) (gs : Nat → Option Nat) (h : PH) (a0 : Nat) {r : Nat} {hh : PH} {mc ms : Nat} (hf : f_J2_grow h a0 = some (r, hh, mc, ms)) : zMt l D dA b0 gs yJ2_grow cJ2_grow 1 (some (.array (.object "java/lang/Object"))) 4 128 [.ref a0] h (evN r) hh mc ms := by
  unfold f_J2_grow at hf
  refine zMt.of (by decide) (Nat.le_of_ble_eq_true rfl) ?_
  intro p e s m args below meth c hc hr hin hn ls hl
  have hl : lv_has ls 1 [(0, .ref a0)] := hl
  have hq : 0 + mc = mc ∧ 0 + ms = ms := ⟨Nat.zero_add _, Nat.zero_add _⟩
  have hx := hc.x
  have hb := hc.b
  refine lv_aload_n (x := a0) hx hb dJ2_grow_0 rfl (lv_at hl 0 rfl) ?_
  refine lv_aload_n (x := a0) hx hb dJ2_grow_1 rfl (lv_at hl 0 rfl) ?_
  refine zr_gI hc hn (ci := 12) rfl rfl in_J2 2 (by decide) q168 (fun _ h => h) (fun _ _ _ => rfl) hf dJ2_grow_2 (fun x101 hf => ?_)
  refine lv_iconst (v := (1 : Int32)) hx hb dJ2_grow_5 (by decide) ?_
  refine lv_iadd hx hb dJ2_grow_6 ?_
  refine zr_nmI hf (fun x102 hf => ?_)
  refine zr_cVN (As := [.int x102]) (rest := []) hc hn hq (ci := 12) rfl ⟨rfl, hd_J2_grow_2⟩ (lw_V q1068 q1070 qs14 q89 q1071) (Nat.le_of_ble_eq_true rfl) (Nat.le_of_ble_eq_true rfl) (fun _ _ _ _ q => m_J2_grow_2 l D dA b0 gs h a0 x102 q) hf dJ2_grow_7 hl.1 rfl rfl (zroom (Nat.le_of_ble_eq_true rfl)) (fun x103 h104 H locs cells slots C9 S9 hf hq hn => ?_)
  obtain ⟨rfl, rfl, rfl, rfl⟩ := zret_i hf
  exact zr_nret hc hn hr (Or.inr ⟨_, rfl⟩) hq (fun _ _ _ _ q => q) dJ2_grow_10
theorem hd_J2_add_2 : yJ2_add_2.cls ≠ "java/lang/invoke/MethodHandle" ∧ yJ2_add_2.cls ≠ "java/lang/invoke/VarHandle" ∧ (parseMethodDescriptor yJ2_add_2.desc).map (fun d => d.parameters.length) = some 3 := by decide +kernel
def f_J2_add_2 (h : PH) (a0 : Nat) (a1 : Nat) (a2 : Nat) (v3 : Int32) : ZR Unit :=
  zlen h a2 9 fun x101 =>
  if v3 = x101 then
    (zrc h a0 12 <| zcl (f_J2_grow h a0) fun x105 h106 =>
    zsO h106 x105 9 v3 (some a1) fun h107 =>
    znm (v3 + (1 : Int32)) fun x108 =>
    zpI h107 a0 12 2 x108 fun h109 =>
    zret () h109)
  else
    (zsO h a2 9 v3 (some a1) fun h102 =>
    znm (v3 + (1 : Int32)) fun x103 =>
    zpI h102 a0 12 2 x103 fun h104 =>
    zret () h104)
set_option maxHeartbeats 4000000 in
set_option maxRecDepth 100000 in
theorem m_J2_add_2 (l : Launch) (D : va_G) (dA : Nat → ClassId) (b0 : Nat) (gs : Nat → Option Nat) (h : PH) (a0 : Nat) (a1 : Nat) (a2 : Nat) (v3 : Int32) {r : Unit} {hh : PH} {mc ms : Nat} (hf : f_J2_add_2 h a0 a1 a2 v3 = some (r, hh, mc, ms)) : zMt l D dA b0 gs yJ2_add_2 cJ2_add_2 4 none 5 148 [.ref a0, .ref a1, .ref a2, .int v3] h (evU r) hh mc ms := by
  unfold f_J2_add_2 at hf
  refine zMt.of (by decide) (Nat.le_of_ble_eq_true rfl) ?_
  intro p e s m args below meth c hc hr hin hn ls hl
  have hl : lv_has ls 4 [(0, .ref a0), (1, .ref a1), (2, .ref a2), (3, .int v3)] := hl
  have hq : 0 + mc = mc ∧ 0 + ms = ms := ⟨Nat.zero_add _, Nat.zero_add _⟩
  have hx := hc.x
  have hb := hc.b
  refine lv_iload_n hx hb dJ2_add_2_0 rfl (lv_at hl 3 rfl) ?_
  refine lv_aload_n (x := a2) hx hb dJ2_add_2_1 rfl (lv_at hl 2 rfl) ?_
  refine zr_len (ai := 9) hc hn hf dJ2_add_2_2 (fun x101 hf => ?_)
  refine lv_icmp_ne (tgt := 11) hx hb dJ2_add_2_3 (by decide) (fun c9 => ?_) (fun c9 => ?_)
  · have hf := zif_f c9 hf
    refine lv_aload_n (x := a2) hx hb dJ2_add_2_11 rfl (lv_at hl 2 rfl) ?_
    refine lv_iload_n hx hb dJ2_add_2_12 rfl (lv_at hl 3 rfl) ?_
    refine lv_aload_n (x := a1) hx hb dJ2_add_2_13 rfl (lv_at hl 1 rfl) ?_
    refine zr_sO (ai := 9) (x := (some a1)) (by decide) hc hn hf dJ2_add_2_14 (fun h102 H locs hf hn => ?_)
    refine lv_aload_n (x := a0) hx hb dJ2_add_2_15 rfl (lv_at hl 0 rfl) ?_
    refine lv_iload_n hx hb dJ2_add_2_16 rfl (lv_at hl 3 rfl) ?_
    refine lv_iconst (v := (1 : Int32)) hx hb dJ2_add_2_17 (by decide) ?_
    refine lv_iadd hx hb dJ2_add_2_18 ?_
    refine zr_nmI hf (fun x103 hf => ?_)
    refine zr_pI (x := x103) hc hn (ci := 12) rfl rfl in_J2 2 (by decide) tyJ2 tyJ2_ok nmJ2 q168 (fun _ h => h) (Or.inl rfl) (fun _ _ _ => rfl) rfl rfl hf dJ2_add_2_19 (fun h104 H locs hf hn => ?_)
    obtain ⟨rfl, rfl, rfl, rfl⟩ := zret_i hf
    exact zr_vret hc hn hr hq (fun _ _ _ _ q => q) dJ2_add_2_22
  · have hf := zif_t c9 hf
    refine lv_aload_n (x := a0) hx hb dJ2_add_2_6 rfl (lv_at hl 0 rfl) ?_
    refine zr_cVN (As := []) (rest := []) hc hn hq (ci := 12) rfl ⟨rfl, hd_J2_grow⟩ (lw_V q1064 q1066 qs13 q89 q1067) (Nat.le_of_ble_eq_true rfl) (Nat.le_of_ble_eq_true rfl) (fun _ _ _ _ q => m_J2_grow l D dA b0 gs h a0 q) hf dJ2_add_2_7 hl.1 rfl rfl (zroom (Nat.le_of_ble_eq_true rfl)) (fun x105 h106 H locs cells slots C9 S9 hf hq hn => ?_)
    refine lv_astore_n (x := x105) (i := 2) (lv' := [(2, .ref x105), (0, .ref a0), (1, .ref a1), (3, .int v3)]) hx hb dJ2_add_2_10 rfl hl (by decide) rfl (fun ls hl => ?_)
    refine lv_aload_n (x := x105) hx hb dJ2_add_2_11 rfl (lv_at hl 0 rfl) ?_
    refine lv_iload_n hx hb dJ2_add_2_12 rfl (lv_at hl 3 rfl) ?_
    refine lv_aload_n (x := a1) hx hb dJ2_add_2_13 rfl (lv_at hl 2 rfl) ?_
    refine zr_sO (ai := 9) (x := (some a1)) (by decide) hc hn hf dJ2_add_2_14 (fun h107 H locs hf hn => ?_)
    refine lv_aload_n (x := a0) hx hb dJ2_add_2_15 rfl (lv_at hl 1 rfl) ?_
    refine lv_iload_n hx hb dJ2_add_2_16 rfl (lv_at hl 3 rfl) ?_
    refine lv_iconst (v := (1 : Int32)) hx hb dJ2_add_2_17 (by decide) ?_
    refine lv_iadd hx hb dJ2_add_2_18 ?_
    refine zr_nmI hf (fun x108 hf => ?_)
    refine zr_pI (x := x108) hc hn (ci := 12) rfl rfl in_J2 2 (by decide) tyJ2 tyJ2_ok nmJ2 q168 (fun _ h => h) (Or.inl rfl) (fun _ _ _ => rfl) rfl rfl hf dJ2_add_2_19 (fun h109 H locs hf hn => ?_)
    obtain ⟨rfl, rfl, rfl, rfl⟩ := zret_i hf
    exact zr_vret hc hn hr hq (fun _ _ _ _ q => q) dJ2_add_2_22
theorem hd_J2_add : yJ2_add.cls ≠ "java/lang/invoke/MethodHandle" ∧ yJ2_add.cls ≠ "java/lang/invoke/VarHandle" ∧ (parseMethodDescriptor yJ2_add.desc).map (fun d => d.parameters.length) = some 1 := by decide +kernel
def f_J2_add (h : PH) (a0 : Nat) (a1 : Nat) : ZR Int32 :=
  zgI h a0 12 0 fun x101 =>
  znm (x101 + (1 : Int32)) fun x102 =>
  zpI h a0 12 0 x102 fun h103 =>
  zgP h103 a0 12 1 fun x104 =>
  zgI h103 a0 12 2 fun x105 =>
  znn x104 fun a106 =>
  zrc h103 a0 12 <| zcl (f_J2_add_2 h103 a0 a1 a106 x105) fun _ h108 =>
  zret (1 : Int32) h108
set_option maxHeartbeats 4000000 in
set_option maxRecDepth 100000 in
theorem m_J2_add (l : Launch) (D : va_G) (dA : Nat → ClassId) (b0 : Nat) (gs : Nat → Option Nat) (h : PH) (a0 : Nat) (a1 : Nat) {r : Int32} {hh : PH} {mc ms : Nat} (hf : f_J2_add h a0 a1 = some (r, hh, mc, ms)) : zMt l D dA b0 gs yJ2_add cJ2_add 2 (some .boolean) 6 171 [.ref a0, .ref a1] h (evI r) hh mc ms := by
  unfold f_J2_add at hf
  refine zMt.of (by decide) (Nat.le_of_ble_eq_true rfl) ?_
  intro p e s m args below meth c hc hr hin hn ls hl
  have hl : lv_has ls 2 [(0, .ref a0), (1, .ref a1)] := hl
  have hq : 0 + mc = mc ∧ 0 + ms = ms := ⟨Nat.zero_add _, Nat.zero_add _⟩
  have hx := hc.x
  have hb := hc.b
  refine lv_aload_n (x := a0) hx hb dJ2_add_0 rfl (lv_at hl 0 rfl) ?_
  refine lv_dup hx hb dJ2_add_1 rfl ?_
  refine zr_gI hc hn (ci := 12) rfl rfl in_J2 0 (by decide) q170 (fun x h => u_same (hc.ts _ q171) x h) (fun _ _ _ => rfl) hf dJ2_add_2 (fun x101 hf => ?_)
  refine lv_iconst (v := (1 : Int32)) hx hb dJ2_add_5 (by decide) ?_
  refine lv_iadd hx hb dJ2_add_6 ?_
  refine zr_nmI hf (fun x102 hf => ?_)
  refine zr_pI (x := x102) hc hn (ci := 12) rfl rfl in_J2 0 (by decide) tyJ2 tyJ2_ok nmJ2 q170 (fun x h => u_same (hc.ts _ q171) x h) (Or.inl rfl) (fun _ _ _ => rfl) rfl rfl hf dJ2_add_7 (fun h103 H locs hf hn => ?_)
  refine lv_aload_n (x := a0) hx hb dJ2_add_10 rfl (lv_at hl 0 rfl) ?_
  refine lv_aload_n (x := a1) hx hb dJ2_add_11 rfl (lv_at hl 1 rfl) ?_
  refine lv_aload_n (x := a0) hx hb dJ2_add_12 rfl (lv_at hl 0 rfl) ?_
  refine zr_gP hc hn (ci := 12) rfl rfl in_J2 1 (by decide) q167 (fun _ h => h) (fun _ _ _ => rfl) hf dJ2_add_13 (fun x104 hf => ?_)
  refine lv_aload_n (x := a0) hx hb dJ2_add_16 rfl (lv_at hl 0 rfl) ?_
  refine zr_gI hc hn (ci := 12) rfl rfl in_J2 2 (by decide) q168 (fun _ h => h) (fun _ _ _ => rfl) hf dJ2_add_17 (fun x105 hf => ?_)
  obtain ⟨a106, e9, hf9⟩ := znn_i hf
  subst e9
  have hf := hf9
  clear hf9
  refine zr_cVU (As := [.ref a1, .ref a106, .int x105]) (rest := []) hc hn hq (ci := 12) rfl ⟨rfl, hd_J2_add_2⟩ (lw_V q1060 q1062 qs12 q89 q1063) (Nat.le_of_ble_eq_true rfl) (Nat.le_of_ble_eq_true rfl) (fun _ _ _ _ q => m_J2_add_2 l D dA b0 gs h103 a0 a1 a106 x105 q) hf dJ2_add_20 hl.1 rfl rfl (zroom (Nat.le_of_ble_eq_true rfl)) (fun x107 h108 H locs cells slots C9 S9 hf hq hn => ?_)
  refine lv_iconst (v := (1 : Int32)) hx hb dJ2_add_23 (by decide) ?_
  obtain ⟨rfl, rfl, rfl, rfl⟩ := zret_i hf
  exact zr_zret hc hn hr (by decide) hq (fun _ _ _ _ q => q) dJ2_add_24
theorem hd_J25_checkIndex : yJ25_checkIndex.cls ≠ "java/lang/invoke/MethodHandle" ∧ yJ25_checkIndex.cls ≠ "java/lang/invoke/VarHandle" ∧ (parseMethodDescriptor yJ25_checkIndex.desc).map (fun d => d.parameters.length) = some 2 := by decide +kernel
def f_J25_checkIndex (h : PH) (v0 : Int32) (v1 : Int32) : ZR Int32 :=
  zcl (f_J19_checkIndex h v0 v1 (none : Option Nat)) fun x101 h102 =>
  zret x101 h102
set_option maxHeartbeats 4000000 in
set_option maxRecDepth 100000 in
theorem m_J25_checkIndex (l : Launch) (D : va_G) (dA : Nat → ClassId) (b0 : Nat) (gs : Nat → Option Nat) (h : PH) (v0 : Int32) (v1 : Int32) {r : Int32} {hh : PH} {mc ms : Nat} (hf : f_J25_checkIndex h v0 v1 = some (r, hh, mc, ms)) : zMt l D dA b0 gs yJ25_checkIndex cJ25_checkIndex 2 (some .int) 2 82 [.int v0, .int v1] h (evI r) hh mc ms := by
  unfold f_J25_checkIndex at hf
  refine zMt.of (by decide) (Nat.le_of_ble_eq_true rfl) ?_
  intro p e s m args below meth c hc hr hin hn ls hl
  have hl : lv_has ls 2 [(0, .int v0), (1, .int v1)] := hl
  have hq : 0 + mc = mc ∧ 0 + ms = ms := ⟨Nat.zero_add _, Nat.zero_add _⟩
  have hx := hc.x
  have hb := hc.b
  refine lv_iload_n hx hb dJ25_checkIndex_0 rfl (lv_at hl 0 rfl) ?_
  refine lv_iload_n hx hb dJ25_checkIndex_1 rfl (lv_at hl 1 rfl) ?_
  refine lv_null hx hb dJ25_checkIndex_2 ?_
  refine zr_cSI (As := [.int v0, .int v1, .null]) (rest := []) hc hn hq hd_J19_checkIndex (lw_S q1824 q571 q110 q572) (Nat.le_of_ble_eq_true rfl) (Nat.le_of_ble_eq_true rfl) (fun _ _ _ _ q => m_J19_checkIndex l D dA b0 gs h v0 v1 (none : Option Nat) q) hf dJ25_checkIndex_3 hl.1 rfl rfl (zroom (Nat.le_of_ble_eq_true rfl)) (fun x101 h102 H locs cells slots C9 S9 hf hq hn => ?_)
  obtain ⟨rfl, rfl, rfl, rfl⟩ := zret_i hf
  exact zr_iret hc hn hr hq (fun _ _ _ _ q => q) dJ25_checkIndex_6
theorem hd_J2_elementData : yJ2_elementData.cls ≠ "java/lang/invoke/MethodHandle" ∧ yJ2_elementData.cls ≠ "java/lang/invoke/VarHandle" ∧ (parseMethodDescriptor yJ2_elementData.desc).map (fun d => d.parameters.length) = some 1 := by decide +kernel
def f_J2_elementData (h : PH) (a0 : Nat) (v1 : Int32) : ZR (Option Nat) :=
  zgP h a0 12 1 fun x101 =>
  znn x101 fun a102 =>
  zaP h a102 9 v1 fun x103 =>
  zret x103 h
set_option maxHeartbeats 4000000 in
set_option maxRecDepth 100000 in
theorem m_J2_elementData (l : Launch) (D : va_G) (dA : Nat → ClassId) (b0 : Nat) (gs : Nat → Option Nat) (h : PH) (a0 : Nat) (v1 : Int32) {r : (Option Nat)} {hh : PH} {mc ms : Nat} (hf : f_J2_elementData h a0 v1 = some (r, hh, mc, ms)) : zMt l D dA b0 gs yJ2_elementData cJ2_elementData 2 (some (.object "java/lang/Object")) 1 60 [.ref a0, .int v1] h (evP r) hh mc ms := by
  unfold f_J2_elementData at hf
  refine zMt.of (by decide) (Nat.le_of_ble_eq_true rfl) ?_
  intro p e s m args below meth c hc hr hin hn ls hl
  have hl : lv_has ls 2 [(0, .ref a0), (1, .int v1)] := hl
  have hq : 0 + mc = mc ∧ 0 + ms = ms := ⟨Nat.zero_add _, Nat.zero_add _⟩
  have hx := hc.x
  have hb := hc.b
  refine lv_aload_n (x := a0) hx hb dJ2_elementData_0 rfl (lv_at hl 0 rfl) ?_
  refine zr_gP hc hn (ci := 12) rfl rfl in_J2 1 (by decide) q167 (fun _ h => h) (fun _ _ _ => rfl) hf dJ2_elementData_1 (fun x101 hf => ?_)
  refine lv_iload_n hx hb dJ2_elementData_4 rfl (lv_at hl 1 rfl) ?_
  obtain ⟨a102, e9, hf9⟩ := znn_i hf
  subst e9
  have hf := hf9
  clear hf9
  refine zr_aP (ai := 9) (by decide) hc hn hf dJ2_elementData_5 (fun x103 hf => ?_)
  obtain ⟨rfl, rfl, rfl, rfl⟩ := zret_i hf
  exact zr_aret (x := x103) hc hn hr (Or.inl ⟨_, rfl⟩) hq (fun _ _ _ _ q => q) dJ2_elementData_6
theorem hd_J2_get : yJ2_get.cls ≠ "java/lang/invoke/MethodHandle" ∧ yJ2_get.cls ≠ "java/lang/invoke/VarHandle" ∧ (parseMethodDescriptor yJ2_get.desc).map (fun d => d.parameters.length) = some 1 := by decide +kernel
def f_J2_get (h : PH) (a0 : Nat) (v1 : Int32) : ZR (Option Nat) :=
  zgI h a0 12 2 fun x101 =>
  zcl (f_J25_checkIndex h v1 x101) fun x102 h103 =>
  zrc h103 a0 12 <| zcl (f_J2_elementData h103 a0 v1) fun x104 h105 =>
  zret x104 h105
set_option maxHeartbeats 4000000 in
set_option maxRecDepth 100000 in
theorem m_J2_get (l : Launch) (D : va_G) (dA : Nat → ClassId) (b0 : Nat) (gs : Nat → Option Nat) (h : PH) (a0 : Nat) (v1 : Int32) {r : (Option Nat)} {hh : PH} {mc ms : Nat} (hf : f_J2_get h a0 v1 = some (r, hh, mc, ms)) : zMt l D dA b0 gs yJ2_get cJ2_get 2 (some (.object "java/lang/Object")) 3 103 [.ref a0, .int v1] h (evP r) hh mc ms := by
  unfold f_J2_get at hf
  refine zMt.of (by decide) (Nat.le_of_ble_eq_true rfl) ?_
  intro p e s m args below meth c hc hr hin hn ls hl
  have hl : lv_has ls 2 [(0, .ref a0), (1, .int v1)] := hl
  have hq : 0 + mc = mc ∧ 0 + ms = ms := ⟨Nat.zero_add _, Nat.zero_add _⟩
  have hx := hc.x
  have hb := hc.b
  refine lv_iload_n hx hb dJ2_get_0 rfl (lv_at hl 1 rfl) ?_
  refine lv_aload_n (x := a0) hx hb dJ2_get_1 rfl (lv_at hl 0 rfl) ?_
  refine zr_gI hc hn (ci := 12) rfl rfl in_J2 2 (by decide) q168 (fun _ h => h) (fun _ _ _ => rfl) hf dJ2_get_2 (fun x101 hf => ?_)
  refine zr_cSI (As := [.int v1, .int x101]) (rest := []) hc hn hq hd_J25_checkIndex (lw_S q1821 q1822 q123 q1823) (Nat.le_of_ble_eq_true rfl) (Nat.le_of_ble_eq_true rfl) (fun _ _ _ _ q => m_J25_checkIndex l D dA b0 gs h v1 x101 q) hf dJ2_get_5 hl.1 rfl rfl (zroom (Nat.le_of_ble_eq_true rfl)) (fun x102 h103 H locs cells slots C9 S9 hf hq hn => ?_)
  refine lv_pop hx hb dJ2_get_8 rfl ?_
  refine lv_aload_n (x := a0) hx hb dJ2_get_9 rfl (lv_at hl 0 rfl) ?_
  refine lv_iload_n hx hb dJ2_get_10 rfl (lv_at hl 1 rfl) ?_
  refine zr_cVP (As := [.int v1]) (rest := []) hc hn hq (ci := 12) rfl ⟨rfl, hd_J2_elementData⟩ (lw_V q1825 q1826 q1827 q89 q1828) (Nat.le_of_ble_eq_true rfl) (Nat.le_of_ble_eq_true rfl) (fun _ _ _ _ q => m_J2_elementData l D dA b0 gs h103 a0 v1 q) hf dJ2_get_11 hl.1 rfl rfl (zroom (Nat.le_of_ble_eq_true rfl)) (fun x104 h105 H locs cells slots C9 S9 hf hq hn => ?_)
  obtain ⟨rfl, rfl, rfl, rfl⟩ := zret_i hf
  exact zr_aret (x := x104) hc hn hr (Or.inl ⟨_, rfl⟩) hq (fun _ _ _ _ q => q) dJ2_get_14
theorem hd_J21_compare : yJ21_compare.cls ≠ "java/lang/invoke/MethodHandle" ∧ yJ21_compare.cls ≠ "java/lang/invoke/VarHandle" ∧ (parseMethodDescriptor yJ21_compare.desc).map (fun d => d.parameters.length) = some 2 := by decide +kernel
def f_J21_compare (h : PH) (v0 : Int32) (v1 : Int32) : ZR Int32 :=
  if v1 ≤ v0 then
    (if v0 = v1 then
      (zret (0 : Int32) h)
    else
      (zret (1 : Int32) h))
  else
    (zret (-1 : Int32) h)
set_option maxHeartbeats 4000000 in
set_option maxRecDepth 100000 in
theorem m_J21_compare (l : Launch) (D : va_G) (dA : Nat → ClassId) (b0 : Nat) (gs : Nat → Option Nat) (h : PH) (v0 : Int32) (v1 : Int32) {r : Int32} {hh : PH} {mc ms : Nat} (hf : f_J21_compare h v0 v1 = some (r, hh, mc, ms)) : zMt l D dA b0 gs yJ21_compare cJ21_compare 2 (some .int) 1 60 [.int v0, .int v1] h (evI r) hh mc ms := by
  unfold f_J21_compare at hf
  refine zMt.of (by decide) (Nat.le_of_ble_eq_true rfl) ?_
  intro p e s m args below meth c hc hr hin hn ls hl
  have hl : lv_has ls 2 [(0, .int v0), (1, .int v1)] := hl
  have hq : 0 + mc = mc ∧ 0 + ms = ms := ⟨Nat.zero_add _, Nat.zero_add _⟩
  have hx := hc.x
  have hb := hc.b
  refine lv_iload_n hx hb dJ21_compare_0 rfl (lv_at hl 0 rfl) ?_
  refine lv_iload_n hx hb dJ21_compare_1 rfl (lv_at hl 1 rfl) ?_
  refine lv_icmp_ge (tgt := 9) hx hb dJ21_compare_2 (by decide) (fun c9 => ?_) (fun c9 => ?_)
  · have hf := zif_t c9 hf
    refine lv_iload_n hx hb dJ21_compare_9 rfl (lv_at hl 0 rfl) ?_
    refine lv_iload_n hx hb dJ21_compare_10 rfl (lv_at hl 1 rfl) ?_
    refine lv_icmp_ne (tgt := 18) hx hb dJ21_compare_11 (by decide) (fun c9 => ?_) (fun c9 => ?_)
    · have hf := zif_f c9 hf
      refine lv_iconst (v := (1 : Int32)) hx hb dJ21_compare_18 (by decide) ?_
      obtain ⟨rfl, rfl, rfl, rfl⟩ := zret_i hf
      exact zr_iret hc hn hr hq (fun _ _ _ _ q => q) dJ21_compare_19
    · have hf := zif_t c9 hf
      refine lv_iconst (v := (0 : Int32)) hx hb dJ21_compare_14 (by decide) ?_
      refine lv_goto (tgt := 19) hx hb dJ21_compare_15 (by decide) ?_
      obtain ⟨rfl, rfl, rfl, rfl⟩ := zret_i hf
      exact zr_iret hc hn hr hq (fun _ _ _ _ q => q) dJ21_compare_19
  · have hf := zif_f c9 hf
    refine lv_iconst (v := (-1 : Int32)) hx hb dJ21_compare_5 (by decide) ?_
    refine lv_goto (tgt := 19) hx hb dJ21_compare_6 (by decide) ?_
    obtain ⟨rfl, rfl, rfl, rfl⟩ := zret_i hf
    exact zr_iret hc hn hr hq (fun _ _ _ _ q => q) dJ21_compare_19
theorem hd_J22_init : yJ22_init.cls ≠ "java/lang/invoke/MethodHandle" ∧ yJ22_init.cls ≠ "java/lang/invoke/VarHandle" ∧ (parseMethodDescriptor yJ22_init.desc).map (fun d => d.parameters.length) = some 0 := by decide +kernel
def f_J22_init (h : PH) (a0 : Nat) : ZR Unit :=
  zret () h
set_option maxHeartbeats 4000000 in
set_option maxRecDepth 100000 in
theorem m_J22_init (l : Launch) (D : va_G) (dA : Nat → ClassId) (b0 : Nat) (gs : Nat → Option Nat) (h : PH) (a0 : Nat) {r : Unit} {hh : PH} {mc ms : Nat} (hf : f_J22_init h a0 = some (r, hh, mc, ms)) : zMt l D dA b0 gs yJ22_init cJ22_init 1 none 1 60 [.ref a0] h (evU r) hh mc ms := by
  unfold f_J22_init at hf
  refine zMt.of (by decide) (Nat.le_of_ble_eq_true rfl) ?_
  intro p e s m args below meth c hc hr hin hn ls hl
  have hl : lv_has ls 1 [(0, .ref a0)] := hl
  have hq : 0 + mc = mc ∧ 0 + ms = ms := ⟨Nat.zero_add _, Nat.zero_add _⟩
  have hx := hc.x
  have hb := hc.b
  refine lv_aload_n (x := a0) hx hb dJ22_init_0 rfl (lv_at hl 0 rfl) ?_
  refine W.objInit hx hb hc.ow (hc.ts _ q1045) (hc.ts _ q137) (hc.ts _ q138) rfl (by rw [hc.ml]; exact hl.1) rfl dJ22_init_1 (Nat.le_of_ble_eq_true rfl) (zroomL (Nat.le_of_ble_eq_true rfl) (Nat.le_of_ble_eq_true rfl)) ?_
  refine W.eq (g2 := F0 m 4 ls []) rfl ?_
  obtain ⟨rfl, rfl, rfl, rfl⟩ := zret_i hf
  exact zr_vret hc hn hr hq (fun _ _ _ _ q => q) dJ22_init_4
theorem hd_J25_requireNonNull : yJ25_requireNonNull.cls ≠ "java/lang/invoke/MethodHandle" ∧ yJ25_requireNonNull.cls ≠ "java/lang/invoke/VarHandle" ∧ (parseMethodDescriptor yJ25_requireNonNull.desc).map (fun d => d.parameters.length) = some 1 := by decide +kernel
def f_J25_requireNonNull (h : PH) (a0 : Nat) : ZR Nat :=
  zret a0 h
set_option maxHeartbeats 4000000 in
set_option maxRecDepth 100000 in
theorem m_J25_requireNonNull (l : Launch) (D : va_G) (dA : Nat → ClassId) (b0 : Nat) (gs : Nat → Option Nat) (h : PH) (a0 : Nat) {r : Nat} {hh : PH} {mc ms : Nat} (hf : f_J25_requireNonNull h a0 = some (r, hh, mc, ms)) : zMt l D dA b0 gs yJ25_requireNonNull cJ25_requireNonNull 1 (some (.object "java/lang/Object")) 1 60 [.ref a0] h (evN r) hh mc ms := by
  unfold f_J25_requireNonNull at hf
  refine zMt.of (by decide) (Nat.le_of_ble_eq_true rfl) ?_
  intro p e s m args below meth c hc hr hin hn ls hl
  have hl : lv_has ls 1 [(0, .ref a0)] := hl
  have hq : 0 + mc = mc ∧ 0 + ms = ms := ⟨Nat.zero_add _, Nat.zero_add _⟩
  have hx := hc.x
  have hb := hc.b
  refine lv_aload_n (x := a0) hx hb dJ25_requireNonNull_0 rfl (lv_at hl 0 rfl) ?_
  refine lv_ifnonnull (x := a0) (tgt := 12) hx hb dJ25_requireNonNull_1 (by decide) ?_
  refine lv_aload_n (x := a0) hx hb dJ25_requireNonNull_12 rfl (lv_at hl 0 rfl) ?_
  obtain ⟨rfl, rfl, rfl, rfl⟩ := zret_i hf
  exact zr_nret hc hn hr (Or.inl ⟨_, rfl⟩) hq (fun _ _ _ _ q => q) dJ25_requireNonNull_13
theorem hd_J24_init : yJ24_init.cls ≠ "java/lang/invoke/MethodHandle" ∧ yJ24_init.cls ≠ "java/lang/invoke/VarHandle" ∧ (parseMethodDescriptor yJ24_init.desc).map (fun d => d.parameters.length) = some 1 := by decide +kernel
def f_J24_init (h : PH) (a0 : Nat) (a1 : Nat) : ZR Unit :=
  zpP h a0 16 0 (some a1) fun h101 =>
  zret () h101
set_option maxHeartbeats 4000000 in
set_option maxRecDepth 100000 in
theorem m_J24_init (l : Launch) (D : va_G) (dA : Nat → ClassId) (b0 : Nat) (gs : Nat → Option Nat) (h : PH) (a0 : Nat) (a1 : Nat) {r : Unit} {hh : PH} {mc ms : Nat} (hf : f_J24_init h a0 a1 = some (r, hh, mc, ms)) : zMt l D dA b0 gs yJ24_init cJ24_init 2 none 1 60 [.ref a0, .ref a1] h (evU r) hh mc ms := by
  unfold f_J24_init at hf
  refine zMt.of (by decide) (Nat.le_of_ble_eq_true rfl) ?_
  intro p e s m args below meth c hc hr hin hn ls hl
  have hl : lv_has ls 2 [(0, .ref a0), (1, .ref a1)] := hl
  have hq : 0 + mc = mc ∧ 0 + ms = ms := ⟨Nat.zero_add _, Nat.zero_add _⟩
  have hx := hc.x
  have hb := hc.b
  refine lv_aload_n (x := a0) hx hb dJ24_init_0 rfl (lv_at hl 0 rfl) ?_
  refine W.objInit hx hb hc.ow (hc.ts _ q1247) (hc.ts _ q137) (hc.ts _ q138) rfl (by rw [hc.ml]; exact hl.1) rfl dJ24_init_1 (Nat.le_of_ble_eq_true rfl) (zroomL (Nat.le_of_ble_eq_true rfl) (Nat.le_of_ble_eq_true rfl)) ?_
  refine W.eq (g2 := F0 m 4 ls []) rfl ?_
  refine lv_aload_n (x := a0) hx hb dJ24_init_4 rfl (lv_at hl 0 rfl) ?_
  refine lv_aload_n (x := a1) hx hb dJ24_init_5 rfl (lv_at hl 1 rfl) ?_
  refine zr_pP (x := (some a1)) hc hn (ci := 16) rfl rfl in_J24 0 (by decide) tyJ24 tyJ24_ok nmJ24 q1248 (fun _ h => h) (Or.inr ⟨rfl, hin, rfl⟩) (fun _ _ _ => rfl) (zn_rf _ (by decide)) (zf_rf _ (by decide)) hf dJ24_init_6 (fun h101 H locs hf hn => ?_)
  obtain ⟨rfl, rfl, rfl, rfl⟩ := zret_i hf
  exact zr_vret hc hn hr hq (fun _ _ _ _ q => q) dJ24_init_9
theorem hd_J24_of : yJ24_of.cls ≠ "java/lang/invoke/MethodHandle" ∧ yJ24_of.cls ≠ "java/lang/invoke/VarHandle" ∧ (parseMethodDescriptor yJ24_of.desc).map (fun d => d.parameters.length) = some 1 := by decide +kernel
def f_J24_of (h : PH) (a0 : Nat) : ZR Nat :=
  zno h 16 1 fun a101 h102 =>
  zcl (f_J25_requireNonNull h102 a0) fun x103 h104 =>
  zcl (f_J24_init h104 a101 x103) fun _ h106 =>
  zret a101 h106
set_option maxHeartbeats 4000000 in
set_option maxRecDepth 100000 in
theorem m_J24_of (l : Launch) (D : va_G) (dA : Nat → ClassId) (b0 : Nat) (gs : Nat → Option Nat) (h : PH) (a0 : Nat) {r : Nat} {hh : PH} {mc ms : Nat} (hf : f_J24_of h a0 = some (r, hh, mc, ms)) : zMt l D dA b0 gs yJ24_of cJ24_of 1 (some (.object "java/util/Optional")) 2 81 [.ref a0] h (evN r) hh mc ms := by
  unfold f_J24_of at hf
  refine zMt.of (by decide) (Nat.le_of_ble_eq_true rfl) ?_
  intro p e s m args below meth c hc hr hin hn ls hl
  have hl : lv_has ls 1 [(0, .ref a0)] := hl
  have hq : 0 + mc = mc ∧ 0 + ms = ms := ⟨Nat.zero_add _, Nat.zero_add _⟩
  have hx := hc.x
  have hb := hc.b
  refine zr_new hc hn hq (ci := 16) rfl rfl in_J24 tyJ24_ok q1239 q1240 q122 (zd_J24) hf dJ24_of_0 (fun a101 h102 H cells slots C9 S9 hf hq hn => ?_)
  refine lv_dup hx hb dJ24_of_3 rfl ?_
  refine lv_aload_n (x := a0) hx hb dJ24_of_4 rfl (lv_at hl 0 rfl) ?_
  refine zr_cSN (As := [.ref a0]) (rest := [.ref a101, .ref a101]) hc hn hq hd_J25_requireNonNull (lw_S q1241 q1242 q123 q1243) (Nat.le_of_ble_eq_true rfl) (Nat.le_of_ble_eq_true rfl) (fun _ _ _ _ q => m_J25_requireNonNull l D dA b0 gs h102 a0 q) hf dJ24_of_5 hl.1 rfl rfl (zroom (Nat.le_of_ble_eq_true rfl)) (fun x103 h104 H locs cells slots C9 S9 hf hq hn => ?_)
  refine zr_cI (As := [.ref x103]) (rest := [.ref a101]) hc hn hq rfl hd_J24_init (lw_meth q1246) q1244 q1245 q122 (Nat.le_of_ble_eq_true rfl) (Nat.le_of_ble_eq_true rfl) (fun _ _ _ _ q => m_J24_init l D dA b0 gs h104 a101 x103 q) hf dJ24_of_8 hl.1 rfl rfl (zroom (Nat.le_of_ble_eq_true rfl)) (fun x105 h106 H locs cells slots C9 S9 hf hq hn => ?_)
  obtain ⟨rfl, rfl, rfl, rfl⟩ := zret_i hf
  exact zr_nret hc hn hr (Or.inl ⟨_, rfl⟩) hq (fun _ _ _ _ q => q) dJ24_of_11
theorem hd_J24_empty : yJ24_empty.cls ≠ "java/lang/invoke/MethodHandle" ∧ yJ24_empty.cls ≠ "java/lang/invoke/VarHandle" ∧ (parseMethodDescriptor yJ24_empty.desc).map (fun d => d.parameters.length) = some 0 := by decide +kernel
def f_J24_empty (h : PH) : ZR (Option Nat) :=
  znm (zS h 1) fun x101 =>
  zret x101 h
set_option maxHeartbeats 4000000 in
set_option maxRecDepth 100000 in
theorem m_J24_empty (l : Launch) (D : va_G) (dA : Nat → ClassId) (b0 : Nat) (gs : Nat → Option Nat) (h : PH)  {r : (Option Nat)} {hh : PH} {mc ms : Nat} (hf : f_J24_empty h = some (r, hh, mc, ms)) : zMt l D dA b0 gs yJ24_empty cJ24_empty 1 (some (.object "java/util/Optional")) 1 60 [] h (evP r) hh mc ms := by
  unfold f_J24_empty at hf
  refine zMt.of (by decide) (Nat.le_of_ble_eq_true rfl) ?_
  intro p e s m args below meth c hc hr hin hn ls hl
  have hl : lv_has ls 1 [] := hl
  have hq : 0 + mc = mc ∧ 0 + ms = ms := ⟨Nat.zero_add _, Nat.zero_add _⟩
  have hx := hc.x
  have hb := hc.b
  refine zr_gs hc hn (hc.st1) q1255 (fun _ h => h) hf dJ24_empty_0 (fun x101 hf => ?_)
  refine zr_astore_n (x := x101) (i := 0) (lv' := [(0, va_rf x101)]) hx hb dJ24_empty_3 rfl hl (by decide) rfl (fun ls hl => ?_)
  refine zr_aload_n (x := x101) hx hb dJ24_empty_4 rfl (lv_at hl 0 rfl) ?_
  obtain ⟨rfl, rfl, rfl, rfl⟩ := zret_i hf
  exact zr_aret (x := x101) hc hn hr (Or.inl ⟨_, rfl⟩) hq (fun _ _ _ _ q => q) dJ24_empty_5
theorem hd_J24_isPresent : yJ24_isPresent.cls ≠ "java/lang/invoke/MethodHandle" ∧ yJ24_isPresent.cls ≠ "java/lang/invoke/VarHandle" ∧ (parseMethodDescriptor yJ24_isPresent.desc).map (fun d => d.parameters.length) = some 0 := by decide +kernel
def f_J24_isPresent (h : PH) (a0 : Nat) : ZR Int32 :=
  zgP h a0 16 0 fun x101 =>
  znul x101
    (zret (0 : Int32) h)
    (fun a102 =>
      zret (1 : Int32) h)
set_option maxHeartbeats 4000000 in
set_option maxRecDepth 100000 in
theorem m_J24_isPresent (l : Launch) (D : va_G) (dA : Nat → ClassId) (b0 : Nat) (gs : Nat → Option Nat) (h : PH) (a0 : Nat) {r : Int32} {hh : PH} {mc ms : Nat} (hf : f_J24_isPresent h a0 = some (r, hh, mc, ms)) : zMt l D dA b0 gs yJ24_isPresent cJ24_isPresent 1 (some .boolean) 1 60 [.ref a0] h (evI r) hh mc ms := by
  unfold f_J24_isPresent at hf
  refine zMt.of (by decide) (Nat.le_of_ble_eq_true rfl) ?_
  intro p e s m args below meth c hc hr hin hn ls hl
  have hl : lv_has ls 1 [(0, .ref a0)] := hl
  have hq : 0 + mc = mc ∧ 0 + ms = ms := ⟨Nat.zero_add _, Nat.zero_add _⟩
  have hx := hc.x
  have hb := hc.b
  refine lv_aload_n (x := a0) hx hb dJ24_isPresent_0 rfl (lv_at hl 0 rfl) ?_
  refine zr_gP hc hn (ci := 16) rfl rfl in_J24 0 (by decide) q1248 (fun _ h => h) (fun _ _ _ => rfl) hf dJ24_isPresent_1 (fun x101 hf => ?_)
  refine zr_ifnull (tgt := 11) hx hb hf dJ24_isPresent_4 (by decide) (fun e9 hf9 => ?_) (fun a102 e9 hf9 => ?_)
  · subst e9
    have hf := hf9
    clear hf9
    refine lv_iconst (v := (0 : Int32)) hx hb dJ24_isPresent_11 (by decide) ?_
    obtain ⟨rfl, rfl, rfl, rfl⟩ := zret_i hf
    exact zr_zret hc hn hr (by decide) hq (fun _ _ _ _ q => q) dJ24_isPresent_12
  · subst e9
    have hf := hf9
    clear hf9
    refine lv_iconst (v := (1 : Int32)) hx hb dJ24_isPresent_7 (by decide) ?_
    refine lv_goto (tgt := 12) hx hb dJ24_isPresent_8 (by decide) ?_
    obtain ⟨rfl, rfl, rfl, rfl⟩ := zret_i hf
    exact zr_zret hc hn hr (by decide) hq (fun _ _ _ _ q => q) dJ24_isPresent_12
theorem hd_J24_get : yJ24_get.cls ≠ "java/lang/invoke/MethodHandle" ∧ yJ24_get.cls ≠ "java/lang/invoke/VarHandle" ∧ (parseMethodDescriptor yJ24_get.desc).map (fun d => d.parameters.length) = some 0 := by decide +kernel
def f_J24_get (h : PH) (a0 : Nat) : ZR (Option Nat) :=
  zgP h a0 16 0 fun x101 =>
  znul x101
    (none)
    (fun a102 =>
      zgP h a0 16 0 fun x103 =>
      zret x103 h)
set_option maxHeartbeats 4000000 in
set_option maxRecDepth 100000 in
theorem m_J24_get (l : Launch) (D : va_G) (dA : Nat → ClassId) (b0 : Nat) (gs : Nat → Option Nat) (h : PH) (a0 : Nat) {r : (Option Nat)} {hh : PH} {mc ms : Nat} (hf : f_J24_get h a0 = some (r, hh, mc, ms)) : zMt l D dA b0 gs yJ24_get cJ24_get 1 (some (.object "java/lang/Object")) 1 60 [.ref a0] h (evP r) hh mc ms := by
  unfold f_J24_get at hf
  refine zMt.of (by decide) (Nat.le_of_ble_eq_true rfl) ?_
  intro p e s m args below meth c hc hr hin hn ls hl
  have hl : lv_has ls 1 [(0, .ref a0)] := hl
  have hq : 0 + mc = mc ∧ 0 + ms = ms := ⟨Nat.zero_add _, Nat.zero_add _⟩
  have hx := hc.x
  have hb := hc.b
  refine lv_aload_n (x := a0) hx hb dJ24_get_0 rfl (lv_at hl 0 rfl) ?_
  refine zr_gP hc hn (ci := 16) rfl rfl in_J24 0 (by decide) q1248 (fun _ h => h) (fun _ _ _ => rfl) hf dJ24_get_1 (fun x101 hf => ?_)
  refine zr_ifnonnull (tgt := 17) hx hb hf dJ24_get_4 (by decide) (fun e9 hf9 => ?_) (fun a102 e9 hf9 => ?_)
  · subst e9
    have hf := hf9
    clear hf9
    cases hf
  · subst e9
    have hf := hf9
    clear hf9
    refine lv_aload_n (x := a0) hx hb dJ24_get_17 rfl (lv_at hl 0 rfl) ?_
    refine zr_gP hc hn (ci := 16) rfl rfl in_J24 0 (by decide) q1248 (fun _ h => h) (fun _ _ _ => rfl) hf dJ24_get_18 (fun x103 hf => ?_)
    obtain ⟨rfl, rfl, rfl, rfl⟩ := zret_i hf
    exact zr_aret (x := x103) hc hn hr (Or.inl ⟨_, rfl⟩) hq (fun _ _ _ _ q => q) dJ24_get_21
theorem hd_J26_init : yJ26_init.cls ≠ "java/lang/invoke/MethodHandle" ∧ yJ26_init.cls ≠ "java/lang/invoke/VarHandle" ∧ (parseMethodDescriptor yJ26_init.desc).map (fun d => d.parameters.length) = some 0 := by decide +kernel
def f_J26_init (h : PH) (a0 : Nat) : ZR Unit :=
  zcl (f_J0_init h a0) fun _ h102 =>
  zret () h102
set_option maxHeartbeats 4000000 in
set_option maxRecDepth 100000 in
theorem m_J26_init (l : Launch) (D : va_G) (dA : Nat → ClassId) (b0 : Nat) (gs : Nat → Option Nat) (h : PH) (a0 : Nat) {r : Unit} {hh : PH} {mc ms : Nat} (hf : f_J26_init h a0 = some (r, hh, mc, ms)) : zMt l D dA b0 gs yJ26_init cJ26_init 1 none 2 80 [.ref a0] h (evU r) hh mc ms := by
  unfold f_J26_init at hf
  refine zMt.of (by decide) (Nat.le_of_ble_eq_true rfl) ?_
  intro p e s m args below meth c hc hr hin hn ls hl
  have hl : lv_has ls 1 [(0, .ref a0)] := hl
  have hq : 0 + mc = mc ∧ 0 + ms = ms := ⟨Nat.zero_add _, Nat.zero_add _⟩
  have hx := hc.x
  have hb := hc.b
  refine lv_aload_n (x := a0) hx hb dJ26_init_0 rfl (lv_at hl 0 rfl) ?_
  refine zr_cI (As := []) (rest := []) hc hn hq rfl hd_J0_init (lw_meth q163) q1436 q162 q87 (Nat.le_of_ble_eq_true rfl) (Nat.le_of_ble_eq_true rfl) (fun _ _ _ _ q => m_J0_init l D dA b0 gs h a0 q) hf dJ26_init_1 hl.1 rfl rfl (zroom (Nat.le_of_ble_eq_true rfl)) (fun x101 h102 H locs cells slots C9 S9 hf hq hn => ?_)
  obtain ⟨rfl, rfl, rfl, rfl⟩ := zret_i hf
  exact zr_vret hc hn hr hq (fun _ _ _ _ q => q) dJ26_init_4
theorem hd_J27_init_2 : yJ27_init_2.cls ≠ "java/lang/invoke/MethodHandle" ∧ yJ27_init_2.cls ≠ "java/lang/invoke/VarHandle" ∧ (parseMethodDescriptor yJ27_init_2.desc).map (fun d => d.parameters.length) = some 2 := by decide +kernel
def f_J27_init_2 (h : PH) (a0 : Nat) (v1 : Int32) (o2 : Option Nat) : ZR Unit :=
  zcl (f_J26_init h a0) fun _ h102 =>
  if (1 : Int32) ≤ v1 then
    (zna h102 9 v1 fun a103 h104 =>
    zpP h104 a0 17 0 (some a103) fun h105 =>
    zpP h105 a0 17 2 o2 fun h106 =>
    zret () h106)
  else
    (none)
set_option maxHeartbeats 4000000 in
set_option maxRecDepth 100000 in
theorem m_J27_init_2 (l : Launch) (D : va_G) (dA : Nat → ClassId) (b0 : Nat) (gs : Nat → Option Nat) (h : PH) (a0 : Nat) (v1 : Int32) (o2 : Option Nat) {r : Unit} {hh : PH} {mc ms : Nat} (hf : f_J27_init_2 h a0 v1 o2 = some (r, hh, mc, ms)) : zMt l D dA b0 gs yJ27_init_2 cJ27_init_2 3 none 3 100 [.ref a0, .int v1, va_rf o2] h (evU r) hh mc ms := by
  unfold f_J27_init_2 at hf
  refine zMt.of (by decide) (by simp [lg_sl, zcat_rf, zcat_i, zcat_l, zcat_d, zcat_r, zcat_n]) ?_
  intro p e s m args below meth c hc hr hin hn ls hl
  have hl : lv_has ls 3 [(0, .ref a0), (1, .int v1), (2, va_rf o2)] := by simpa [lv_args, zcat_rf, zcat_i, zcat_l, zcat_d, zcat_r, zcat_n] using hl
  have hq : 0 + mc = mc ∧ 0 + ms = ms := ⟨Nat.zero_add _, Nat.zero_add _⟩
  have hx := hc.x
  have hb := hc.b
  refine lv_aload_n (x := a0) hx hb dJ27_init_2_0 rfl (lv_at hl 0 rfl) ?_
  refine zr_cI (As := []) (rest := []) hc hn hq rfl hd_J26_init (lw_meth q1435) q1433 q1434 q125 (Nat.le_of_ble_eq_true rfl) (Nat.le_of_ble_eq_true rfl) (fun _ _ _ _ q => m_J26_init l D dA b0 gs h a0 q) hf dJ27_init_2_1 hl.1 rfl rfl (zroom (Nat.le_of_ble_eq_true rfl)) (fun x101 h102 H locs cells slots C9 S9 hf hq hn => ?_)
  refine lv_iload_n hx hb dJ27_init_2_4 rfl (lv_at hl 1 rfl) ?_
  refine lv_iconst (v := (1 : Int32)) hx hb dJ27_init_2_5 (by decide) ?_
  refine lv_icmp_ge (tgt := 17) hx hb dJ27_init_2_6 (by decide) (fun c9 => ?_) (fun c9 => ?_)
  · have hf := zif_t c9 hf
    refine lv_aload_n (x := a0) hx hb dJ27_init_2_17 rfl (lv_at hl 0 rfl) ?_
    refine lv_iload_n hx hb dJ27_init_2_18 rfl (lv_at hl 1 rfl) ?_
    refine zr_nq (ai := 9) hc hn hq (by decide) rfl q1439 q212 hf dJ27_init_2_19 (fun a103 h104 H cells slots C9 S9 hf hq hn => ?_)
    refine zr_pP (x := (some a103)) hc hn (ci := 17) rfl rfl in_J27 0 (by decide) tyJ27 tyJ27_ok nmJ27 q1440 (fun _ h => h) (Or.inl rfl) (fun _ _ _ => rfl) (zn_rf _ (by decide)) (zf_rf _ (by decide)) hf dJ27_init_2_22 (fun h105 H locs hf hn => ?_)
    refine lv_aload_n (x := a0) hx hb dJ27_init_2_25 rfl (lv_at hl 0 rfl) ?_
    refine zr_aload_n (x := o2) hx hb dJ27_init_2_26 rfl (lv_at hl 2 rfl) ?_
    refine zr_pP (x := o2) hc hn (ci := 17) rfl rfl in_J27 2 (by decide) tyJ27 tyJ27_ok nmJ27 q1442 (fun _ h => h) (Or.inr ⟨rfl, hin, rfl⟩) (fun _ _ _ => rfl) (zn_rf _ (by decide)) (zf_rf _ (by decide)) hf dJ27_init_2_27 (fun h106 H locs hf hn => ?_)
    obtain ⟨rfl, rfl, rfl, rfl⟩ := zret_i hf
    exact zr_vret hc hn hr hq (fun _ _ _ _ q => q) dJ27_init_2_30
  · have hf := zif_f c9 hf
    cases hf
theorem hd_J27_init : yJ27_init.cls ≠ "java/lang/invoke/MethodHandle" ∧ yJ27_init.cls ≠ "java/lang/invoke/VarHandle" ∧ (parseMethodDescriptor yJ27_init.desc).map (fun d => d.parameters.length) = some 0 := by decide +kernel
def f_J27_init (h : PH) (a0 : Nat) : ZR Unit :=
  zcl (f_J27_init_2 h a0 (11 : Int32) (none : Option Nat)) fun _ h102 =>
  zret () h102
set_option maxHeartbeats 4000000 in
set_option maxRecDepth 100000 in
theorem m_J27_init (l : Launch) (D : va_G) (dA : Nat → ClassId) (b0 : Nat) (gs : Nat → Option Nat) (h : PH) (a0 : Nat) {r : Unit} {hh : PH} {mc ms : Nat} (hf : f_J27_init h a0 = some (r, hh, mc, ms)) : zMt l D dA b0 gs yJ27_init cJ27_init 1 none 4 122 [.ref a0] h (evU r) hh mc ms := by
  unfold f_J27_init at hf
  refine zMt.of (by decide) (Nat.le_of_ble_eq_true rfl) ?_
  intro p e s m args below meth c hc hr hin hn ls hl
  have hl : lv_has ls 1 [(0, .ref a0)] := hl
  have hq : 0 + mc = mc ∧ 0 + ms = ms := ⟨Nat.zero_add _, Nat.zero_add _⟩
  have hx := hc.x
  have hb := hc.b
  refine lv_aload_n (x := a0) hx hb dJ27_init_0 rfl (lv_at hl 0 rfl) ?_
  refine lv_bipush (v := (11 : Int32)) hx hb dJ27_init_1 (by decide) ?_
  refine lv_null hx hb dJ27_init_3 ?_
  refine zr_cI (As := [.int (11 : Int32), .null]) (rest := []) hc hn hq rfl hd_J27_init_2 (lw_meth q1432) q1430 q1431 q126 (Nat.le_of_ble_eq_true rfl) (Nat.le_of_ble_eq_true rfl) (fun _ _ _ _ q => m_J27_init_2 l D dA b0 gs h a0 (11 : Int32) (none : Option Nat) q) hf dJ27_init_4 hl.1 rfl rfl (zroom (Nat.le_of_ble_eq_true rfl)) (fun x101 h102 H locs cells slots C9 S9 hf hq hn => ?_)
  obtain ⟨rfl, rfl, rfl, rfl⟩ := zret_i hf
  exact zr_vret hc hn hr hq (fun _ _ _ _ q => q) dJ27_init_7
theorem hd_J27_grow : yJ27_grow.cls ≠ "java/lang/invoke/MethodHandle" ∧ yJ27_grow.cls ≠ "java/lang/invoke/VarHandle" ∧ (parseMethodDescriptor yJ27_grow.desc).map (fun d => d.parameters.length) = some 1 := by decide +kernel
def f_J27_grow (h : PH) (a0 : Nat) (v1 : Int32) : ZR Unit :=
  zgP h a0 17 0 fun x101 =>
  znn x101 fun a102 =>
  zlen h a102 9 fun x103 =>
  znm (v1 - x103) fun x104 =>
  if (64 : Int32) ≤ x103 then
    (znm (x103 >>> ((1 : Int32) &&& 31)) fun x105 =>
    zcl (f_J15_newLength h x103 x104 x105) fun x106 h107 =>
    zgP h107 a0 17 0 fun x108 =>
    znn x108 fun a109 =>
    zcl (f_J17_copyOf_2 h107 a109 x106) fun x110 h111 =>
    zpP h111 a0 17 0 (some x110) fun h112 =>
    zret () h112)
  else
    (znm (x103 + (2 : Int32)) fun x113 =>
    zcl (f_J15_newLength h x103 x104 x113) fun x114 h115 =>
    zgP h115 a0 17 0 fun x116 =>
    znn x116 fun a117 =>
    zcl (f_J17_copyOf_2 h115 a117 x114) fun x118 h119 =>
    zpP h119 a0 17 0 (some x118) fun h120 =>
    zret () h120)
set_option maxHeartbeats 4000000 in
set_option maxRecDepth 100000 in
theorem m_J27_grow (l : Launch) (D : va_G) (dA : Nat → ClassId) (b0 : Nat) (gs : Nat → Option Nat) (h : PH) (a0 : Nat) (v1 : Int32) {r : Unit} {hh : PH} {mc ms : Nat} (hf : f_J27_grow h a0 v1 = some (r, hh, mc, ms)) : zMt l D dA b0 gs yJ27_grow cJ27_grow 4 none 3 105 [.ref a0, .int v1] h (evU r) hh mc ms := by
  unfold f_J27_grow at hf
  refine zMt.of (by decide) (Nat.le_of_ble_eq_true rfl) ?_
  intro p e s m args below meth c hc hr hin hn ls hl
  have hl : lv_has ls 4 [(0, .ref a0), (1, .int v1)] := hl
  have hq : 0 + mc = mc ∧ 0 + ms = ms := ⟨Nat.zero_add _, Nat.zero_add _⟩
  have hx := hc.x
  have hb := hc.b
  refine lv_aload_n (x := a0) hx hb dJ27_grow_0 rfl (lv_at hl 0 rfl) ?_
  refine zr_gP hc hn (ci := 17) rfl rfl in_J27 0 (by decide) q1440 (fun _ h => h) (fun _ _ _ => rfl) hf dJ27_grow_1 (fun x101 hf => ?_)
  obtain ⟨a102, e9, hf9⟩ := znn_i hf
  subst e9
  have hf := hf9
  clear hf9
  refine zr_len (ai := 9) hc hn hf dJ27_grow_4 (fun x103 hf => ?_)
  refine lv_istore_n (i := 2) (lv' := [(2, .int x103), (0, .ref a0), (1, .int v1)]) hx hb dJ27_grow_5 rfl hl (by decide) rfl (fun ls hl => ?_)
  refine lv_iload_n hx hb dJ27_grow_6 rfl (lv_at hl 0 rfl) ?_
  refine lv_iload_n hx hb dJ27_grow_7 rfl (lv_at hl 2 rfl) ?_
  refine lv_iload_n hx hb dJ27_grow_8 rfl (lv_at hl 0 rfl) ?_
  refine lv_isub hx hb dJ27_grow_9 ?_
  refine zr_nmI hf (fun x104 hf => ?_)
  refine lv_iload_n hx hb dJ27_grow_10 rfl (lv_at hl 0 rfl) ?_
  refine lv_bipush (v := (64 : Int32)) hx hb dJ27_grow_11 (by decide) ?_
  refine lv_icmp_ge (tgt := 22) hx hb dJ27_grow_13 (by decide) (fun c9 => ?_) (fun c9 => ?_)
  · have hf := zif_t c9 hf
    refine lv_iload_n hx hb dJ27_grow_22 rfl (lv_at hl 0 rfl) ?_
    refine lv_iconst (v := (1 : Int32)) hx hb dJ27_grow_23 (by decide) ?_
    refine lv_ishr hx hb dJ27_grow_24 ?_
    refine zr_nmI hf (fun x105 hf => ?_)
    refine zr_cSI (As := [.int x103, .int x104, .int x105]) (rest := []) hc hn hq hd_J15_newLength (lw_S q1479 q494 q105 q495) (Nat.le_of_ble_eq_true rfl) (Nat.le_of_ble_eq_true rfl) (fun _ _ _ _ q => m_J15_newLength l D dA b0 gs h x103 x104 x105 q) hf dJ27_grow_25 hl.1 rfl rfl (zroom (Nat.le_of_ble_eq_true rfl)) (fun x106 h107 H locs cells slots C9 S9 hf hq hn => ?_)
    refine lv_istore_n (i := 3) (lv' := [(3, .int x106), (2, .int x103), (0, .ref a0), (1, .int v1)]) hx hb dJ27_grow_28 rfl hl (by decide) rfl (fun ls hl => ?_)
    refine lv_aload_n (x := a0) hx hb dJ27_grow_29 rfl (lv_at hl 2 rfl) ?_
    refine lv_aload_n (x := a0) hx hb dJ27_grow_30 rfl (lv_at hl 2 rfl) ?_
    refine zr_gP hc hn (ci := 17) rfl rfl in_J27 0 (by decide) q1440 (fun _ h => h) (fun _ _ _ => rfl) hf dJ27_grow_31 (fun x108 hf => ?_)
    refine lv_iload_n hx hb dJ27_grow_34 rfl (lv_at hl 0 rfl) ?_
    obtain ⟨a109, e9, hf9⟩ := znn_i hf
    subst e9
    have hf := hf9
    clear hf9
    refine zr_cSN (As := [.ref a109, .int x106]) (rest := [.ref a0]) hc hn hq hd_J17_copyOf_2 (lw_S q1480 q1074 q107 q1075) (Nat.le_of_ble_eq_true rfl) (Nat.le_of_ble_eq_true rfl) (fun _ _ _ _ q => m_J17_copyOf_2 l D dA b0 gs h107 a109 x106 q) hf dJ27_grow_35 hl.1 rfl rfl (zroom (Nat.le_of_ble_eq_true rfl)) (fun x110 h111 H locs cells slots C9 S9 hf hq hn => ?_)
    refine zr_pP (x := (some x110)) hc hn (ci := 17) rfl rfl in_J27 0 (by decide) tyJ27 tyJ27_ok nmJ27 q1440 (fun _ h => h) (Or.inl rfl) (fun _ _ _ => rfl) (zn_rf _ (by decide)) (zf_rf _ (by decide)) hf dJ27_grow_38 (fun h112 H locs hf hn => ?_)
    obtain ⟨rfl, rfl, rfl, rfl⟩ := zret_i hf
    exact zr_vret hc hn hr hq (fun _ _ _ _ q => q) dJ27_grow_41
  · have hf := zif_f c9 hf
    refine lv_iload_n hx hb dJ27_grow_16 rfl (lv_at hl 0 rfl) ?_
    refine lv_iconst (v := (2 : Int32)) hx hb dJ27_grow_17 (by decide) ?_
    refine lv_iadd hx hb dJ27_grow_18 ?_
    refine zr_nmI hf (fun x113 hf => ?_)
    refine lv_goto (tgt := 25) hx hb dJ27_grow_19 (by decide) ?_
    refine zr_cSI (As := [.int x103, .int x104, .int x113]) (rest := []) hc hn hq hd_J15_newLength (lw_S q1479 q494 q105 q495) (Nat.le_of_ble_eq_true rfl) (Nat.le_of_ble_eq_true rfl) (fun _ _ _ _ q => m_J15_newLength l D dA b0 gs h x103 x104 x113 q) hf dJ27_grow_25 hl.1 rfl rfl (zroom (Nat.le_of_ble_eq_true rfl)) (fun x114 h115 H locs cells slots C9 S9 hf hq hn => ?_)
    refine lv_istore_n (i := 3) (lv' := [(3, .int x114), (2, .int x103), (0, .ref a0), (1, .int v1)]) hx hb dJ27_grow_28 rfl hl (by decide) rfl (fun ls hl => ?_)
    refine lv_aload_n (x := a0) hx hb dJ27_grow_29 rfl (lv_at hl 2 rfl) ?_
    refine lv_aload_n (x := a0) hx hb dJ27_grow_30 rfl (lv_at hl 2 rfl) ?_
    refine zr_gP hc hn (ci := 17) rfl rfl in_J27 0 (by decide) q1440 (fun _ h => h) (fun _ _ _ => rfl) hf dJ27_grow_31 (fun x116 hf => ?_)
    refine lv_iload_n hx hb dJ27_grow_34 rfl (lv_at hl 0 rfl) ?_
    obtain ⟨a117, e9, hf9⟩ := znn_i hf
    subst e9
    have hf := hf9
    clear hf9
    refine zr_cSN (As := [.ref a117, .int x114]) (rest := [.ref a0]) hc hn hq hd_J17_copyOf_2 (lw_S q1480 q1074 q107 q1075) (Nat.le_of_ble_eq_true rfl) (Nat.le_of_ble_eq_true rfl) (fun _ _ _ _ q => m_J17_copyOf_2 l D dA b0 gs h115 a117 x114 q) hf dJ27_grow_35 hl.1 rfl rfl (zroom (Nat.le_of_ble_eq_true rfl)) (fun x118 h119 H locs cells slots C9 S9 hf hq hn => ?_)
    refine zr_pP (x := (some x118)) hc hn (ci := 17) rfl rfl in_J27 0 (by decide) tyJ27 tyJ27_ok nmJ27 q1440 (fun _ h => h) (Or.inl rfl) (fun _ _ _ => rfl) (zn_rf _ (by decide)) (zf_rf _ (by decide)) hf dJ27_grow_38 (fun h120 H locs hf hn => ?_)
    obtain ⟨rfl, rfl, rfl, rfl⟩ := zret_i hf
    exact zr_vret hc hn hr hq (fun _ _ _ _ q => q) dJ27_grow_41
theorem hd_J27_peek : yJ27_peek.cls ≠ "java/lang/invoke/MethodHandle" ∧ yJ27_peek.cls ≠ "java/lang/invoke/VarHandle" ∧ (parseMethodDescriptor yJ27_peek.desc).map (fun d => d.parameters.length) = some 0 := by decide +kernel
def f_J27_peek (h : PH) (a0 : Nat) : ZR (Option Nat) :=
  zgP h a0 17 0 fun x101 =>
  znn x101 fun a102 =>
  zaP h a102 9 (0 : Int32) fun x103 =>
  zret x103 h
set_option maxHeartbeats 4000000 in
set_option maxRecDepth 100000 in
theorem m_J27_peek (l : Launch) (D : va_G) (dA : Nat → ClassId) (b0 : Nat) (gs : Nat → Option Nat) (h : PH) (a0 : Nat) {r : (Option Nat)} {hh : PH} {mc ms : Nat} (hf : f_J27_peek h a0 = some (r, hh, mc, ms)) : zMt l D dA b0 gs yJ27_peek cJ27_peek 1 (some (.object "java/lang/Object")) 1 60 [.ref a0] h (evP r) hh mc ms := by
  unfold f_J27_peek at hf
  refine zMt.of (by decide) (Nat.le_of_ble_eq_true rfl) ?_
  intro p e s m args below meth c hc hr hin hn ls hl
  have hl : lv_has ls 1 [(0, .ref a0)] := hl
  have hq : 0 + mc = mc ∧ 0 + ms = ms := ⟨Nat.zero_add _, Nat.zero_add _⟩
  have hx := hc.x
  have hb := hc.b
  refine lv_aload_n (x := a0) hx hb dJ27_peek_0 rfl (lv_at hl 0 rfl) ?_
  refine zr_gP hc hn (ci := 17) rfl rfl in_J27 0 (by decide) q1440 (fun _ h => h) (fun _ _ _ => rfl) hf dJ27_peek_1 (fun x101 hf => ?_)
  refine lv_iconst (v := (0 : Int32)) hx hb dJ27_peek_4 (by decide) ?_
  obtain ⟨a102, e9, hf9⟩ := znn_i hf
  subst e9
  have hf := hf9
  clear hf9
  refine zr_aP (ai := 9) (by decide) hc hn hf dJ27_peek_5 (fun x103 hf => ?_)
  obtain ⟨rfl, rfl, rfl, rfl⟩ := zret_i hf
  exact zr_aret (x := x103) hc hn hr (Or.inl ⟨_, rfl⟩) hq (fun _ _ _ _ q => q) dJ27_peek_6
theorem hd_J3_init : yJ3_init.cls ≠ "java/lang/invoke/MethodHandle" ∧ yJ3_init.cls ≠ "java/lang/invoke/VarHandle" ∧ (parseMethodDescriptor yJ3_init.desc).map (fun d => d.parameters.length) = some 1 := by decide +kernel
def f_J3_init (h : PH) (a0 : Nat) (v1 : Int32) : ZR Unit :=
  zcl (f_J0_init h a0) fun _ h102 =>
  if (1 : Int32) ≤ v1 then
    (if v1 = (2147483647 : Int32) then
      (zna h102 9 (2147483647 : Int32) fun a107 h108 =>
      zpP h108 a0 13 0 (some a107) fun h109 =>
      zret () h109)
    else
      (znm (v1 + (1 : Int32)) fun x103 =>
      zna h102 9 x103 fun a104 h105 =>
      zpP h105 a0 13 0 (some a104) fun h106 =>
      zret () h106))
  else
    (zna h102 9 (1 : Int32) fun a110 h111 =>
    zpP h111 a0 13 0 (some a110) fun h112 =>
    zret () h112)
set_option maxHeartbeats 4000000 in
set_option maxRecDepth 100000 in
theorem m_J3_init (l : Launch) (D : va_G) (dA : Nat → ClassId) (b0 : Nat) (gs : Nat → Option Nat) (h : PH) (a0 : Nat) (v1 : Int32) {r : Unit} {hh : PH} {mc ms : Nat} (hf : f_J3_init h a0 v1 = some (r, hh, mc, ms)) : zMt l D dA b0 gs yJ3_init cJ3_init 2 none 2 80 [.ref a0, .int v1] h (evU r) hh mc ms := by
  unfold f_J3_init at hf
  refine zMt.of (by decide) (Nat.le_of_ble_eq_true rfl) ?_
  intro p e s m args below meth c hc hr hin hn ls hl
  have hl : lv_has ls 2 [(0, .ref a0), (1, .int v1)] := hl
  have hq : 0 + mc = mc ∧ 0 + ms = ms := ⟨Nat.zero_add _, Nat.zero_add _⟩
  have hx := hc.x
  have hb := hc.b
  refine lv_aload_n (x := a0) hx hb dJ3_init_0 rfl (lv_at hl 0 rfl) ?_
  refine zr_cI (As := []) (rest := []) hc hn hq rfl hd_J0_init (lw_meth q163) q209 q162 q87 (Nat.le_of_ble_eq_true rfl) (Nat.le_of_ble_eq_true rfl) (fun _ _ _ _ q => m_J0_init l D dA b0 gs h a0 q) hf dJ3_init_1 hl.1 rfl rfl (zroom (Nat.le_of_ble_eq_true rfl)) (fun x101 h102 H locs cells slots C9 S9 hf hq hn => ?_)
  refine lv_aload_n (x := a0) hx hb dJ3_init_4 rfl (lv_at hl 0 rfl) ?_
  refine lv_iload_n hx hb dJ3_init_5 rfl (lv_at hl 1 rfl) ?_
  refine lv_iconst (v := (1 : Int32)) hx hb dJ3_init_6 (by decide) ?_
  refine lv_icmp_ge (tgt := 14) hx hb dJ3_init_7 (by decide) (fun c9 => ?_) (fun c9 => ?_)
  · have hf := zif_t c9 hf
    refine lv_iload_n hx hb dJ3_init_14 rfl (lv_at hl 1 rfl) ?_
    refine lv_ldc (v := (2147483647 : Int32)) hx hb hc.ow (hc.ts _ q210) dJ3_init_15 ?_
    refine lv_icmp_ne (tgt := 25) hx hb dJ3_init_17 (by decide) (fun c9 => ?_) (fun c9 => ?_)
    · have hf := zif_f c9 hf
      refine lv_iload_n hx hb dJ3_init_25 rfl (lv_at hl 1 rfl) ?_
      refine lv_iconst (v := (1 : Int32)) hx hb dJ3_init_26 (by decide) ?_
      refine lv_iadd hx hb dJ3_init_27 ?_
      refine zr_nmI hf (fun x103 hf => ?_)
      refine zr_nq (ai := 9) hc hn hq (by decide) rfl q211 q212 hf dJ3_init_28 (fun a104 h105 H cells slots C9 S9 hf hq hn => ?_)
      refine zr_pP (x := (some a104)) hc hn (ci := 13) rfl rfl in_J3 0 (by decide) tyJ3 tyJ3_ok nmJ3 q213 (fun _ h => h) (Or.inl rfl) (fun _ _ _ => rfl) (zn_rf _ (by decide)) (zf_rf _ (by decide)) hf dJ3_init_31 (fun h106 H locs hf hn => ?_)
      obtain ⟨rfl, rfl, rfl, rfl⟩ := zret_i hf
      exact zr_vret hc hn hr hq (fun _ _ _ _ q => q) dJ3_init_34
    · have hf := zif_t c9 hf
      refine lv_ldc (v := (2147483647 : Int32)) hx hb hc.ow (hc.ts _ q210) dJ3_init_20 ?_
      refine lv_goto (tgt := 28) hx hb dJ3_init_22 (by decide) ?_
      refine zr_nq (ai := 9) hc hn hq (by decide) rfl q211 q212 hf dJ3_init_28 (fun a107 h108 H cells slots C9 S9 hf hq hn => ?_)
      refine zr_pP (x := (some a107)) hc hn (ci := 13) rfl rfl in_J3 0 (by decide) tyJ3 tyJ3_ok nmJ3 q213 (fun _ h => h) (Or.inl rfl) (fun _ _ _ => rfl) (zn_rf _ (by decide)) (zf_rf _ (by decide)) hf dJ3_init_31 (fun h109 H locs hf hn => ?_)
      obtain ⟨rfl, rfl, rfl, rfl⟩ := zret_i hf
      exact zr_vret hc hn hr hq (fun _ _ _ _ q => q) dJ3_init_34
  · have hf := zif_f c9 hf
    refine lv_iconst (v := (1 : Int32)) hx hb dJ3_init_10 (by decide) ?_
    refine lv_goto (tgt := 28) hx hb dJ3_init_11 (by decide) ?_
    refine zr_nq (ai := 9) hc hn hq (by decide) rfl q211 q212 hf dJ3_init_28 (fun a110 h111 H cells slots C9 S9 hf hq hn => ?_)
    refine zr_pP (x := (some a110)) hc hn (ci := 13) rfl rfl in_J3 0 (by decide) tyJ3 tyJ3_ok nmJ3 q213 (fun _ h => h) (Or.inl rfl) (fun _ _ _ => rfl) (zn_rf _ (by decide)) (zf_rf _ (by decide)) hf dJ3_init_31 (fun h112 H locs hf hn => ?_)
    obtain ⟨rfl, rfl, rfl, rfl⟩ := zret_i hf
    exact zr_vret hc hn hr hq (fun _ _ _ _ q => q) dJ3_init_34
theorem hd_J3_circularClear : yJ3_circularClear.cls ≠ "java/lang/invoke/MethodHandle" ∧ yJ3_circularClear.cls ≠ "java/lang/invoke/VarHandle" ∧ (parseMethodDescriptor yJ3_circularClear.desc).map (fun d => d.parameters.length) = some 3 := by decide +kernel
def f_J3_circularClear_b12 : Nat → PH → Nat → Int32 → Int32 → Int32 → ZR Unit
  | 0 => fun _ _ _ _ _ => none
  | n + 1 => fun h a0 v1 v2 v3 =>
    if v3 ≤ v1 then
      (if v3 = v2 then
        (zret () h)
      else
        (f_J3_circularClear_b12 n h a0 (0 : Int32) v2 v2))
    else
      (zsO h a0 9 v1 (none : Option Nat) fun h101 =>
      znm (v1 + (1 : Int32)) fun x102 =>
      f_J3_circularClear_b12 n h101 a0 x102 v2 v3)
def f_J3_circularClear_b11 (h : PH) (a0 : Nat) (v1 : Int32) (v2 : Int32) (s0 : Int32) : ZR Unit :=
  f_J3_circularClear_b12 zFU h a0 v1 v2 s0
def f_J3_circularClear (h : PH) (a0 : Nat) (v1 : Int32) (v2 : Int32) : ZR Unit :=
  if v2 < v1 then
    (zlen h a0 9 fun x101 =>
    f_J3_circularClear_b11 h a0 v1 v2 x101)
  else
    (f_J3_circularClear_b11 h a0 v1 v2 v2)
set_option maxHeartbeats 4000000 in
set_option maxRecDepth 100000 in
theorem m_J3_circularClear_b12 {p : Program} {l : Launch} {e : Env} {s : State} {m : MethodId} {args : Array Value} {below : List Frame} {meth : Method} {c : Code} {D : va_G} {dA : Nat → ClassId} {b0 : Nat} {gs : Nat → Option Nat} (hc : zC D dA b0 gs yJ3_circularClear.cls cJ3_circularClear 4 p c s m args meth) (hr : meth.sig.returnType = none) (hin : meth.name = yJ3_circularClear.name) {r : Unit} {hh : PH} {mc ms : Nat} : ∀ (n : Nat) (h : PH) (a0 : Nat) (v1 : Int32) (v2 : Int32) (v3 : Int32) (C9 S9 : Nat) (H : Heap) (locs : List Loc) (cells slots : Nat), f_J3_circularClear_b12 n h a0 v1 v2 v3 = some (r, hh, C9, S9) → cells + C9 = mc ∧ slots + S9 = ms → zM D dA b0 gs s h H locs → ∀ ls : Array Slot, lv_has ls 4 [(0, .ref a0), (1, .int v1), (2, .int v2), (3, .int v3)] → W p l e ({ frames := 1, cells := mc, slots := ms, locals := 60 } : Room) s m args below meth c H locs cells slots (MQ below (zQ D dA b0 gs (evU r) hh) args s mc ms (zA b0)) (F0 m 12 ls []) := by
  have hx := hc.x
  have hb := hc.b
  intro n
  induction n with
  | zero =>
    intro h a0 v1 v2 v3 C9 S9 H locs cells slots hf hq hn ls hl
    cases hf
  | succ n ih =>
    intro h a0 v1 v2 v3 C9 S9 H locs cells slots hf hq hn ls hl
    unfold f_J3_circularClear_b12 at hf
    refine lv_iload_n hx hb dJ3_circularClear_12 rfl (lv_at hl 1 rfl) ?_
    refine lv_iload_n hx hb dJ3_circularClear_13 rfl (lv_at hl 3 rfl) ?_
    refine lv_icmp_ge (tgt := 27) hx hb dJ3_circularClear_14 (by decide) (fun c9 => ?_) (fun c9 => ?_)
    · have hf := zif_t c9 hf
      refine lv_iload_n hx hb dJ3_circularClear_27 rfl (lv_at hl 3 rfl) ?_
      refine lv_iload_n hx hb dJ3_circularClear_28 rfl (lv_at hl 2 rfl) ?_
      refine lv_icmp_ne (tgt := 35) hx hb dJ3_circularClear_29 (by decide) (fun c9 => ?_) (fun c9 => ?_)
      · have hf := zif_f c9 hf
        refine lv_iconst (v := (0 : Int32)) hx hb dJ3_circularClear_35 (by decide) ?_
        refine lv_istore_n (i := 1) (lv' := [(1, .int (0 : Int32)), (0, .ref a0), (2, .int v2), (3, .int v3)]) hx hb dJ3_circularClear_36 rfl hl (by decide) rfl (fun ls hl => ?_)
        refine lv_iload_n hx hb dJ3_circularClear_37 rfl (lv_at hl 2 rfl) ?_
        refine lv_istore_n (i := 3) (lv' := [(3, .int v2), (1, .int (0 : Int32)), (0, .ref a0), (2, .int v2)]) hx hb dJ3_circularClear_38 rfl hl (by decide) rfl (fun ls hl => ?_)
        refine lv_goto (tgt := 12) hx hb dJ3_circularClear_39 (by decide) ?_
        exact ih h a0 (0 : Int32) v2 v2 _ _ _ _ _ _ hf hq hn _ (lv_sub hl [2, 1, 3, 0] rfl)
      · have hf := zif_t c9 hf
        refine lv_goto (tgt := 42) hx hb dJ3_circularClear_32 (by decide) ?_
        obtain ⟨rfl, rfl, rfl, rfl⟩ := zret_i hf
        exact zr_vret hc hn hr hq (fun _ _ _ _ q => q) dJ3_circularClear_42
    · have hf := zif_f c9 hf
      refine lv_aload_n (x := a0) hx hb dJ3_circularClear_17 rfl (lv_at hl 0 rfl) ?_
      refine lv_iload_n hx hb dJ3_circularClear_18 rfl (lv_at hl 1 rfl) ?_
      refine lv_null hx hb dJ3_circularClear_19 ?_
      refine zr_sO (ai := 9) (x := (none : Option Nat)) (by decide) hc hn hf dJ3_circularClear_20 (fun h101 H locs hf hn => ?_)
      obtain ⟨x102, ex102, hf⟩ := znm_i hf
      refine lv_iinc (v := x102) (lv' := [(1, .int x102), (0, .ref a0), (2, .int v2), (3, .int v3)]) hx hb dJ3_circularClear_21 hl (k := 1) rfl (by rw [ex102]; rfl) (by decide) rfl (fun ls hl => ?_)
      refine lv_goto (tgt := 12) hx hb dJ3_circularClear_24 (by decide) ?_
      exact ih h101 a0 x102 v2 v3 _ _ _ _ _ _ hf hq hn _ (lv_sub hl [1, 0, 2, 3] rfl)
set_option maxHeartbeats 4000000 in
set_option maxRecDepth 100000 in
theorem m_J3_circularClear_b11 {p : Program} {l : Launch} {e : Env} {s : State} {m : MethodId} {args : Array Value} {below : List Frame} {meth : Method} {c : Code} {D : va_G} {dA : Nat → ClassId} {b0 : Nat} {gs : Nat → Option Nat} (hc : zC D dA b0 gs yJ3_circularClear.cls cJ3_circularClear 4 p c s m args meth) (hr : meth.sig.returnType = none) (hin : meth.name = yJ3_circularClear.name) {r : Unit} {hh : PH} {mc ms : Nat} : ∀ (h : PH) (a0 : Nat) (v1 : Int32) (v2 : Int32) (s0 : Int32) (C9 S9 : Nat) (H : Heap) (locs : List Loc) (cells slots : Nat), f_J3_circularClear_b11 h a0 v1 v2 s0 = some (r, hh, C9, S9) → cells + C9 = mc ∧ slots + S9 = ms → zM D dA b0 gs s h H locs → ∀ ls : Array Slot, lv_has ls 4 [(0, .ref a0), (1, .int v1), (2, .int v2)] → W p l e ({ frames := 1, cells := mc, slots := ms, locals := 60 } : Room) s m args below meth c H locs cells slots (MQ below (zQ D dA b0 gs (evU r) hh) args s mc ms (zA b0)) (F0 m 11 ls [.int s0]) := by
  have hx := hc.x
  have hb := hc.b
  intro h a0 v1 v2 s0 C9 S9 H locs cells slots hf hq hn ls hl
  unfold f_J3_circularClear_b11 at hf
  refine lv_istore_n (i := 3) (lv' := [(3, .int s0), (0, .ref a0), (1, .int v1), (2, .int v2)]) hx hb dJ3_circularClear_11 rfl hl (by decide) rfl (fun ls hl => ?_)
  exact m_J3_circularClear_b12 hc hr hin zFU h a0 v1 v2 s0 _ _ _ _ _ _ hf hq hn _ (lv_sub hl [1, 2, 3, 0] rfl)
set_option maxHeartbeats 4000000 in
set_option maxRecDepth 100000 in
theorem m_J3_circularClear (l : Launch) (D : va_G) (dA : Nat → ClassId) (b0 : Nat) (gs : Nat → Option Nat) (h : PH) (a0 : Nat) (v1 : Int32) (v2 : Int32) {r : Unit} {hh : PH} {mc ms : Nat} (hf : f_J3_circularClear h a0 v1 v2 = some (r, hh, mc, ms)) : zMt l D dA b0 gs yJ3_circularClear cJ3_circularClear 4 none 1 60 [.ref a0, .int v1, .int v2] h (evU r) hh mc ms := by
  unfold f_J3_circularClear at hf
  refine zMt.of (by decide) (Nat.le_of_ble_eq_true rfl) ?_
  intro p e s m args below meth c hc hr hin hn ls hl
  have hl : lv_has ls 4 [(0, .ref a0), (1, .int v1), (2, .int v2)] := hl
  have hq : 0 + mc = mc ∧ 0 + ms = ms := ⟨Nat.zero_add _, Nat.zero_add _⟩
  have hx := hc.x
  have hb := hc.b
  refine lv_iload_n hx hb dJ3_circularClear_0 rfl (lv_at hl 1 rfl) ?_
  refine lv_iload_n hx hb dJ3_circularClear_1 rfl (lv_at hl 2 rfl) ?_
  refine lv_icmp_gt (tgt := 9) hx hb dJ3_circularClear_2 (by decide) (fun c9 => ?_) (fun c9 => ?_)
  · have hf := zif_t c9 hf
    refine lv_aload_n (x := a0) hx hb dJ3_circularClear_9 rfl (lv_at hl 0 rfl) ?_
    refine zr_len (ai := 9) hc hn hf dJ3_circularClear_10 (fun x101 hf => ?_)
    exact m_J3_circularClear_b11 hc hr hin h a0 v1 v2 x101 _ _ _ _ _ _ hf hq hn _ (lv_sub hl [0, 1, 2] rfl)
  · have hf := zif_f c9 hf
    refine lv_iload_n hx hb dJ3_circularClear_5 rfl (lv_at hl 2 rfl) ?_
    refine lv_goto (tgt := 11) hx hb dJ3_circularClear_6 (by decide) ?_
    exact m_J3_circularClear_b11 hc hr hin h a0 v1 v2 v2 _ _ _ _ _ _ hf hq hn _ (lv_sub hl [0, 1, 2] rfl)
theorem hd_J3_clear : yJ3_clear.cls ≠ "java/lang/invoke/MethodHandle" ∧ yJ3_clear.cls ≠ "java/lang/invoke/VarHandle" ∧ (parseMethodDescriptor yJ3_clear.desc).map (fun d => d.parameters.length) = some 0 := by decide +kernel
def f_J3_clear (h : PH) (a0 : Nat) : ZR Unit :=
  zgP h a0 13 0 fun x101 =>
  zgI h a0 13 1 fun x102 =>
  zgI h a0 13 2 fun x103 =>
  znn x101 fun a104 =>
  zcl (f_J3_circularClear h a104 x102 x103) fun _ h106 =>
  zpI h106 a0 13 2 (0 : Int32) fun h107 =>
  zpI h107 a0 13 1 (0 : Int32) fun h108 =>
  zret () h108
set_option maxHeartbeats 4000000 in
set_option maxRecDepth 100000 in
theorem m_J3_clear (l : Launch) (D : va_G) (dA : Nat → ClassId) (b0 : Nat) (gs : Nat → Option Nat) (h : PH) (a0 : Nat) {r : Unit} {hh : PH} {mc ms : Nat} (hf : f_J3_clear h a0 = some (r, hh, mc, ms)) : zMt l D dA b0 gs yJ3_clear cJ3_clear 1 none 2 83 [.ref a0] h (evU r) hh mc ms := by
  unfold f_J3_clear at hf
  refine zMt.of (by decide) (Nat.le_of_ble_eq_true rfl) ?_
  intro p e s m args below meth c hc hr hin hn ls hl
  have hl : lv_has ls 1 [(0, .ref a0)] := hl
  have hq : 0 + mc = mc ∧ 0 + ms = ms := ⟨Nat.zero_add _, Nat.zero_add _⟩
  have hx := hc.x
  have hb := hc.b
  refine lv_aload_n (x := a0) hx hb dJ3_clear_0 rfl (lv_at hl 0 rfl) ?_
  refine zr_gP hc hn (ci := 13) rfl rfl in_J3 0 (by decide) q213 (fun _ h => h) (fun _ _ _ => rfl) hf dJ3_clear_1 (fun x101 hf => ?_)
  refine lv_aload_n (x := a0) hx hb dJ3_clear_4 rfl (lv_at hl 0 rfl) ?_
  refine zr_gI hc hn (ci := 13) rfl rfl in_J3 1 (by decide) q214 (fun _ h => h) (fun _ _ _ => rfl) hf dJ3_clear_5 (fun x102 hf => ?_)
  refine lv_aload_n (x := a0) hx hb dJ3_clear_8 rfl (lv_at hl 0 rfl) ?_
  refine zr_gI hc hn (ci := 13) rfl rfl in_J3 2 (by decide) q215 (fun _ h => h) (fun _ _ _ => rfl) hf dJ3_clear_9 (fun x103 hf => ?_)
  obtain ⟨a104, e9, hf9⟩ := znn_i hf
  subst e9
  have hf := hf9
  clear hf9
  refine zr_cSU (As := [.ref a104, .int x102, .int x103]) (rest := []) hc hn hq hd_J3_circularClear (lw_S q1124 q1125 q90 q1126) (Nat.le_of_ble_eq_true rfl) (Nat.le_of_ble_eq_true rfl) (fun _ _ _ _ q => m_J3_circularClear l D dA b0 gs h a104 x102 x103 q) hf dJ3_clear_12 hl.1 rfl rfl (zroom (Nat.le_of_ble_eq_true rfl)) (fun x105 h106 H locs cells slots C9 S9 hf hq hn => ?_)
  refine lv_aload_n (x := a0) hx hb dJ3_clear_15 rfl (lv_at hl 0 rfl) ?_
  refine lv_aload_n (x := a0) hx hb dJ3_clear_16 rfl (lv_at hl 0 rfl) ?_
  refine lv_iconst (v := (0 : Int32)) hx hb dJ3_clear_17 (by decide) ?_
  refine lv_dup_x1 hx hb dJ3_clear_18 rfl rfl ?_
  refine zr_pI (x := (0 : Int32)) hc hn (ci := 13) rfl rfl in_J3 2 (by decide) tyJ3 tyJ3_ok nmJ3 q215 (fun _ h => h) (Or.inl rfl) (fun _ _ _ => rfl) rfl rfl hf dJ3_clear_19 (fun h107 H locs hf hn => ?_)
  refine zr_pI (x := (0 : Int32)) hc hn (ci := 13) rfl rfl in_J3 1 (by decide) tyJ3 tyJ3_ok nmJ3 q214 (fun _ h => h) (Or.inl rfl) (fun _ _ _ => rfl) rfl rfl hf dJ3_clear_22 (fun h108 H locs hf hn => ?_)
  obtain ⟨rfl, rfl, rfl, rfl⟩ := zret_i hf
  exact zr_vret hc hn hr hq (fun _ _ _ _ q => q) dJ3_clear_25
theorem hd_J3_sub : yJ3_sub.cls ≠ "java/lang/invoke/MethodHandle" ∧ yJ3_sub.cls ≠ "java/lang/invoke/VarHandle" ∧ (parseMethodDescriptor yJ3_sub.desc).map (fun d => d.parameters.length) = some 3 := by decide +kernel
def f_J3_sub (h : PH) (v0 : Int32) (v1 : Int32) (v2 : Int32) : ZR Int32 :=
  znm (v0 - v1) fun x101 =>
  if 0 ≤ x101 then
    (zret x101 h)
  else
    (znm (x101 + v2) fun x102 =>
    zret x102 h)
set_option maxHeartbeats 4000000 in
set_option maxRecDepth 100000 in
theorem m_J3_sub (l : Launch) (D : va_G) (dA : Nat → ClassId) (b0 : Nat) (gs : Nat → Option Nat) (h : PH) (v0 : Int32) (v1 : Int32) (v2 : Int32) {r : Int32} {hh : PH} {mc ms : Nat} (hf : f_J3_sub h v0 v1 v2 = some (r, hh, mc, ms)) : zMt l D dA b0 gs yJ3_sub cJ3_sub 3 (some .int) 1 60 [.int v0, .int v1, .int v2] h (evI r) hh mc ms := by
  unfold f_J3_sub at hf
  refine zMt.of (by decide) (Nat.le_of_ble_eq_true rfl) ?_
  intro p e s m args below meth c hc hr hin hn ls hl
  have hl : lv_has ls 3 [(0, .int v0), (1, .int v1), (2, .int v2)] := hl
  have hq : 0 + mc = mc ∧ 0 + ms = ms := ⟨Nat.zero_add _, Nat.zero_add _⟩
  have hx := hc.x
  have hb := hc.b
  refine lv_iload_n hx hb dJ3_sub_0 rfl (lv_at hl 0 rfl) ?_
  refine lv_iload_n hx hb dJ3_sub_1 rfl (lv_at hl 1 rfl) ?_
  refine lv_isub hx hb dJ3_sub_2 ?_
  refine zr_nmI hf (fun x101 hf => ?_)
  refine lv_dup hx hb dJ3_sub_3 rfl ?_
  refine lv_istore_n (i := 0) (lv' := [(0, .int x101), (1, .int v1), (2, .int v2)]) hx hb dJ3_sub_4 rfl hl (by decide) rfl (fun ls hl => ?_)
  refine lv_if_ge (tgt := 12) hx hb dJ3_sub_5 (by decide) (fun c9 => ?_) (fun c9 => ?_)
  · have hf := zif_t c9 hf
    refine lv_iload_n hx hb dJ3_sub_12 rfl (lv_at hl 0 rfl) ?_
    obtain ⟨rfl, rfl, rfl, rfl⟩ := zret_i hf
    exact zr_iret hc hn hr hq (fun _ _ _ _ q => q) dJ3_sub_13
  · have hf := zif_f c9 hf
    refine lv_iload_n hx hb dJ3_sub_8 rfl (lv_at hl 0 rfl) ?_
    refine lv_iload_n hx hb dJ3_sub_9 rfl (lv_at hl 2 rfl) ?_
    refine lv_iadd hx hb dJ3_sub_10 ?_
    refine zr_nmI hf (fun x102 hf => ?_)
    refine lv_istore_n (i := 0) (lv' := [(0, .int x102), (1, .int v1), (2, .int v2)]) hx hb dJ3_sub_11 rfl hl (by decide) rfl (fun ls hl => ?_)
    refine lv_iload_n hx hb dJ3_sub_12 rfl (lv_at hl 0 rfl) ?_
    obtain ⟨rfl, rfl, rfl, rfl⟩ := zret_i hf
    exact zr_iret hc hn hr hq (fun _ _ _ _ q => q) dJ3_sub_13
theorem hd_J3_size : yJ3_size.cls ≠ "java/lang/invoke/MethodHandle" ∧ yJ3_size.cls ≠ "java/lang/invoke/VarHandle" ∧ (parseMethodDescriptor yJ3_size.desc).map (fun d => d.parameters.length) = some 0 := by decide +kernel
def f_J3_size (h : PH) (a0 : Nat) : ZR Int32 :=
  zgI h a0 13 2 fun x101 =>
  zgI h a0 13 1 fun x102 =>
  zgP h a0 13 0 fun x103 =>
  znn x103 fun a104 =>
  zlen h a104 9 fun x105 =>
  zcl (f_J3_sub h x101 x102 x105) fun x106 h107 =>
  zret x106 h107
set_option maxHeartbeats 4000000 in
set_option maxRecDepth 100000 in
theorem m_J3_size (l : Launch) (D : va_G) (dA : Nat → ClassId) (b0 : Nat) (gs : Nat → Option Nat) (h : PH) (a0 : Nat) {r : Int32} {hh : PH} {mc ms : Nat} (hf : f_J3_size h a0 = some (r, hh, mc, ms)) : zMt l D dA b0 gs yJ3_size cJ3_size 1 (some .int) 2 82 [.ref a0] h (evI r) hh mc ms := by
  unfold f_J3_size at hf
  refine zMt.of (by decide) (Nat.le_of_ble_eq_true rfl) ?_
  intro p e s m args below meth c hc hr hin hn ls hl
  have hl : lv_has ls 1 [(0, .ref a0)] := hl
  have hq : 0 + mc = mc ∧ 0 + ms = ms := ⟨Nat.zero_add _, Nat.zero_add _⟩
  have hx := hc.x
  have hb := hc.b
  refine lv_aload_n (x := a0) hx hb dJ3_size_0 rfl (lv_at hl 0 rfl) ?_
  refine zr_gI hc hn (ci := 13) rfl rfl in_J3 2 (by decide) q215 (fun _ h => h) (fun _ _ _ => rfl) hf dJ3_size_1 (fun x101 hf => ?_)
  refine lv_aload_n (x := a0) hx hb dJ3_size_4 rfl (lv_at hl 0 rfl) ?_
  refine zr_gI hc hn (ci := 13) rfl rfl in_J3 1 (by decide) q214 (fun _ h => h) (fun _ _ _ => rfl) hf dJ3_size_5 (fun x102 hf => ?_)
  refine lv_aload_n (x := a0) hx hb dJ3_size_8 rfl (lv_at hl 0 rfl) ?_
  refine zr_gP hc hn (ci := 13) rfl rfl in_J3 0 (by decide) q213 (fun _ h => h) (fun _ _ _ => rfl) hf dJ3_size_9 (fun x103 hf => ?_)
  obtain ⟨a104, e9, hf9⟩ := znn_i hf
  subst e9
  have hf := hf9
  clear hf9
  refine zr_len (ai := 9) hc hn hf dJ3_size_12 (fun x105 hf => ?_)
  refine zr_cSI (As := [.int x101, .int x102, .int x105]) (rest := []) hc hn hq hd_J3_sub (lw_S q1889 q1890 q90 q1891) (Nat.le_of_ble_eq_true rfl) (Nat.le_of_ble_eq_true rfl) (fun _ _ _ _ q => m_J3_sub l D dA b0 gs h x101 x102 x105 q) hf dJ3_size_13 hl.1 rfl rfl (zroom (Nat.le_of_ble_eq_true rfl)) (fun x106 h107 H locs cells slots C9 S9 hf hq hn => ?_)
  obtain ⟨rfl, rfl, rfl, rfl⟩ := zret_i hf
  exact zr_iret hc hn hr hq (fun _ _ _ _ q => q) dJ3_size_16
theorem hd_J3_elementAt : yJ3_elementAt.cls ≠ "java/lang/invoke/MethodHandle" ∧ yJ3_elementAt.cls ≠ "java/lang/invoke/VarHandle" ∧ (parseMethodDescriptor yJ3_elementAt.desc).map (fun d => d.parameters.length) = some 2 := by decide +kernel
def f_J3_elementAt (h : PH) (a0 : Nat) (v1 : Int32) : ZR (Option Nat) :=
  zaP h a0 9 v1 fun x101 =>
  zret x101 h
set_option maxHeartbeats 4000000 in
set_option maxRecDepth 100000 in
theorem m_J3_elementAt (l : Launch) (D : va_G) (dA : Nat → ClassId) (b0 : Nat) (gs : Nat → Option Nat) (h : PH) (a0 : Nat) (v1 : Int32) {r : (Option Nat)} {hh : PH} {mc ms : Nat} (hf : f_J3_elementAt h a0 v1 = some (r, hh, mc, ms)) : zMt l D dA b0 gs yJ3_elementAt cJ3_elementAt 2 (some (.object "java/lang/Object")) 1 60 [.ref a0, .int v1] h (evP r) hh mc ms := by
  unfold f_J3_elementAt at hf
  refine zMt.of (by decide) (Nat.le_of_ble_eq_true rfl) ?_
  intro p e s m args below meth c hc hr hin hn ls hl
  have hl : lv_has ls 2 [(0, .ref a0), (1, .int v1)] := hl
  have hq : 0 + mc = mc ∧ 0 + ms = ms := ⟨Nat.zero_add _, Nat.zero_add _⟩
  have hx := hc.x
  have hb := hc.b
  refine lv_aload_n (x := a0) hx hb dJ3_elementAt_0 rfl (lv_at hl 0 rfl) ?_
  refine lv_iload_n hx hb dJ3_elementAt_1 rfl (lv_at hl 1 rfl) ?_
  refine zr_aP (ai := 9) (by decide) hc hn hf dJ3_elementAt_2 (fun x101 hf => ?_)
  obtain ⟨rfl, rfl, rfl, rfl⟩ := zret_i hf
  exact zr_aret (x := x101) hc hn hr (Or.inl ⟨_, rfl⟩) hq (fun _ _ _ _ q => q) dJ3_elementAt_3
theorem hd_J3_inc : yJ3_inc.cls ≠ "java/lang/invoke/MethodHandle" ∧ yJ3_inc.cls ≠ "java/lang/invoke/VarHandle" ∧ (parseMethodDescriptor yJ3_inc.desc).map (fun d => d.parameters.length) = some 2 := by decide +kernel
def f_J3_inc (h : PH) (v0 : Int32) (v1 : Int32) : ZR Int32 :=
  znm (v0 + (1 : Int32)) fun x101 =>
  if x101 < v1 then
    (zret x101 h)
  else
    (zret (0 : Int32) h)
set_option maxHeartbeats 4000000 in
set_option maxRecDepth 100000 in
theorem m_J3_inc (l : Launch) (D : va_G) (dA : Nat → ClassId) (b0 : Nat) (gs : Nat → Option Nat) (h : PH) (v0 : Int32) (v1 : Int32) {r : Int32} {hh : PH} {mc ms : Nat} (hf : f_J3_inc h v0 v1 = some (r, hh, mc, ms)) : zMt l D dA b0 gs yJ3_inc cJ3_inc 2 (some .int) 1 60 [.int v0, .int v1] h (evI r) hh mc ms := by
  unfold f_J3_inc at hf
  refine zMt.of (by decide) (Nat.le_of_ble_eq_true rfl) ?_
  intro p e s m args below meth c hc hr hin hn ls hl
  have hl : lv_has ls 2 [(0, .int v0), (1, .int v1)] := hl
  have hq : 0 + mc = mc ∧ 0 + ms = ms := ⟨Nat.zero_add _, Nat.zero_add _⟩
  have hx := hc.x
  have hb := hc.b
  obtain ⟨x101, ex101, hf⟩ := znm_i hf
  refine lv_iinc (v := x101) (lv' := [(0, .int x101), (1, .int v1)]) hx hb dJ3_inc_0 hl (k := 0) rfl (by rw [ex101]; rfl) (by decide) rfl (fun ls hl => ?_)
  refine lv_iload_n hx hb dJ3_inc_3 rfl (lv_at hl 0 rfl) ?_
  refine lv_iload_n hx hb dJ3_inc_4 rfl (lv_at hl 1 rfl) ?_
  refine lv_icmp_lt (tgt := 10) hx hb dJ3_inc_5 (by decide) (fun c9 => ?_) (fun c9 => ?_)
  · have hf := zif_t c9 hf
    refine lv_iload_n hx hb dJ3_inc_10 rfl (lv_at hl 0 rfl) ?_
    obtain ⟨rfl, rfl, rfl, rfl⟩ := zret_i hf
    exact zr_iret hc hn hr hq (fun _ _ _ _ q => q) dJ3_inc_11
  · have hf := zif_f c9 hf
    refine lv_iconst (v := (0 : Int32)) hx hb dJ3_inc_8 (by decide) ?_
    refine lv_istore_n (i := 0) (lv' := [(0, .int (0 : Int32)), (1, .int v1)]) hx hb dJ3_inc_9 rfl hl (by decide) rfl (fun ls hl => ?_)
    refine lv_iload_n hx hb dJ3_inc_10 rfl (lv_at hl 0 rfl) ?_
    obtain ⟨rfl, rfl, rfl, rfl⟩ := zret_i hf
    exact zr_iret hc hn hr hq (fun _ _ _ _ q => q) dJ3_inc_11
theorem hd_J3_pollFirst : yJ3_pollFirst.cls ≠ "java/lang/invoke/MethodHandle" ∧ yJ3_pollFirst.cls ≠ "java/lang/invoke/VarHandle" ∧ (parseMethodDescriptor yJ3_pollFirst.desc).map (fun d => d.parameters.length) = some 0 := by decide +kernel
def f_J3_pollFirst (h : PH) (a0 : Nat) : ZR (Option Nat) :=
  zgP h a0 13 0 fun x101 =>
  zgI h a0 13 1 fun x102 =>
  znn x101 fun a103 =>
  zcl (f_J3_elementAt h a103 x102) fun x104 h105 =>
  znul x104
    (zret (none : Option Nat) h105)
    (fun a106 =>
      zsO h105 a103 9 x102 (none : Option Nat) fun h107 =>
      zlen h107 a103 9 fun x108 =>
      zcl (f_J3_inc h107 x102 x108) fun x109 h110 =>
      zpI h110 a0 13 1 x109 fun h111 =>
      zret (some a106) h111)
set_option maxHeartbeats 4000000 in
set_option maxRecDepth 100000 in
theorem m_J3_pollFirst (l : Launch) (D : va_G) (dA : Nat → ClassId) (b0 : Nat) (gs : Nat → Option Nat) (h : PH) (a0 : Nat) {r : (Option Nat)} {hh : PH} {mc ms : Nat} (hf : f_J3_pollFirst h a0 = some (r, hh, mc, ms)) : zMt l D dA b0 gs yJ3_pollFirst cJ3_pollFirst 4 (some (.object "java/lang/Object")) 2 81 [.ref a0] h (evP r) hh mc ms := by
  unfold f_J3_pollFirst at hf
  refine zMt.of (by decide) (Nat.le_of_ble_eq_true rfl) ?_
  intro p e s m args below meth c hc hr hin hn ls hl
  have hl : lv_has ls 4 [(0, .ref a0)] := hl
  have hq : 0 + mc = mc ∧ 0 + ms = ms := ⟨Nat.zero_add _, Nat.zero_add _⟩
  have hx := hc.x
  have hb := hc.b
  refine lv_aload_n (x := a0) hx hb dJ3_pollFirst_0 rfl (lv_at hl 0 rfl) ?_
  refine zr_gP hc hn (ci := 13) rfl rfl in_J3 0 (by decide) q213 (fun _ h => h) (fun _ _ _ => rfl) hf dJ3_pollFirst_1 (fun x101 hf => ?_)
  refine lv_dup hx hb dJ3_pollFirst_4 (zcat_rf _) ?_
  refine zr_astore_n (x := x101) (i := 1) (lv' := [(1, va_rf x101), (0, .ref a0)]) hx hb dJ3_pollFirst_5 rfl hl (by decide) rfl (fun ls hl => ?_)
  refine lv_aload_n (x := a0) hx hb dJ3_pollFirst_6 rfl (lv_at hl 1 rfl) ?_
  refine zr_gI hc hn (ci := 13) rfl rfl in_J3 1 (by decide) q214 (fun _ h => h) (fun _ _ _ => rfl) hf dJ3_pollFirst_7 (fun x102 hf => ?_)
  refine lv_dup hx hb dJ3_pollFirst_10 rfl ?_
  refine lv_istore_n (i := 2) (lv' := [(2, .int x102), (1, va_rf x101), (0, .ref a0)]) hx hb dJ3_pollFirst_11 rfl hl (by decide) (by simp [zcat_rf, zcat_i, zcat_l, zcat_d, zcat_r, zcat_n] <;> rfl) (fun ls hl => ?_)
  obtain ⟨a103, e9, hf9⟩ := znn_i hf
  subst e9
  have hf := hf9
  clear hf9
  refine zr_cSP (As := [.ref a103, .int x102]) (rest := []) hc hn hq hd_J3_elementAt (lw_S q1900 q1901 q90 q1902) (Nat.le_of_ble_eq_true rfl) (Nat.le_of_ble_eq_true rfl) (fun _ _ _ _ q => m_J3_elementAt l D dA b0 gs h a103 x102 q) hf dJ3_pollFirst_12 hl.1 rfl rfl (zroom (Nat.le_of_ble_eq_true rfl)) (fun x104 h105 H locs cells slots C9 S9 hf hq hn => ?_)
  refine zr_astore_n (x := x104) (i := 3) (lv' := [(3, va_rf x104), (2, .int x102), (1, .ref a103), (0, .ref a0)]) hx hb dJ3_pollFirst_15 rfl hl (by decide) rfl (fun ls hl => ?_)
  refine zr_aload_n (x := x104) hx hb dJ3_pollFirst_16 rfl (lv_at hl 0 rfl) ?_
  refine zr_ifnull (tgt := 34) hx hb hf dJ3_pollFirst_17 (by decide) (fun e9 hf9 => ?_) (fun a106 e9 hf9 => ?_)
  · subst e9
    have hf := hf9
    clear hf9
    refine lv_aload_nN hx hb dJ3_pollFirst_34 rfl (lv_at hl 0 rfl) ?_
    obtain ⟨rfl, rfl, rfl, rfl⟩ := zret_i hf
    exact zr_aret (x := (none : Option Nat)) hc hn hr (Or.inl ⟨_, rfl⟩) hq (fun _ _ _ _ q => q) dJ3_pollFirst_35
  · subst e9
    have hf := hf9
    clear hf9
    refine lv_aload_n (x := a103) hx hb dJ3_pollFirst_20 rfl (lv_at hl 2 rfl) ?_
    refine lv_iload_n hx hb dJ3_pollFirst_21 rfl (lv_at hl 1 rfl) ?_
    refine lv_null hx hb dJ3_pollFirst_22 ?_
    refine zr_sO (ai := 9) (x := (none : Option Nat)) (by decide) hc hn hf dJ3_pollFirst_23 (fun h107 H locs hf hn => ?_)
    refine lv_aload_n (x := a0) hx hb dJ3_pollFirst_24 rfl (lv_at hl 3 rfl) ?_
    refine lv_iload_n hx hb dJ3_pollFirst_25 rfl (lv_at hl 1 rfl) ?_
    refine lv_aload_n (x := a103) hx hb dJ3_pollFirst_26 rfl (lv_at hl 2 rfl) ?_
    refine zr_len (ai := 9) hc hn hf dJ3_pollFirst_27 (fun x108 hf => ?_)
    refine zr_cSI (As := [.int x102, .int x108]) (rest := [.ref a0]) hc hn hq hd_J3_inc (lw_S q1903 q1904 q90 q1905) (Nat.le_of_ble_eq_true rfl) (Nat.le_of_ble_eq_true rfl) (fun _ _ _ _ q => m_J3_inc l D dA b0 gs h107 x102 x108 q) hf dJ3_pollFirst_28 hl.1 rfl rfl (zroom (Nat.le_of_ble_eq_true rfl)) (fun x109 h110 H locs cells slots C9 S9 hf hq hn => ?_)
    refine zr_pI (x := x109) hc hn (ci := 13) rfl rfl in_J3 1 (by decide) tyJ3 tyJ3_ok nmJ3 q214 (fun _ h => h) (Or.inl rfl) (fun _ _ _ => rfl) rfl rfl hf dJ3_pollFirst_31 (fun h111 H locs hf hn => ?_)
    refine lv_aload_n (x := a106) hx hb dJ3_pollFirst_34 rfl (lv_at hl 0 rfl) ?_
    obtain ⟨rfl, rfl, rfl, rfl⟩ := zret_i hf
    exact zr_aret (x := (some a106)) hc hn hr (Or.inl ⟨_, rfl⟩) hq (fun _ _ _ _ q => q) dJ3_pollFirst_35
theorem hd_J3_removeFirst : yJ3_removeFirst.cls ≠ "java/lang/invoke/MethodHandle" ∧ yJ3_removeFirst.cls ≠ "java/lang/invoke/VarHandle" ∧ (parseMethodDescriptor yJ3_removeFirst.desc).map (fun d => d.parameters.length) = some 0 := by decide +kernel
def f_J3_removeFirst (h : PH) (a0 : Nat) : ZR Nat :=
  zrc h a0 13 <| zcl (f_J3_pollFirst h a0) fun x101 h102 =>
  znul x101
    (none)
    (fun a103 =>
      zret a103 h102)
set_option maxHeartbeats 4000000 in
set_option maxRecDepth 100000 in
theorem m_J3_removeFirst (l : Launch) (D : va_G) (dA : Nat → ClassId) (b0 : Nat) (gs : Nat → Option Nat) (h : PH) (a0 : Nat) {r : Nat} {hh : PH} {mc ms : Nat} (hf : f_J3_removeFirst h a0 = some (r, hh, mc, ms)) : zMt l D dA b0 gs yJ3_removeFirst cJ3_removeFirst 2 (some (.object "java/lang/Object")) 3 104 [.ref a0] h (evN r) hh mc ms := by
  unfold f_J3_removeFirst at hf
  refine zMt.of (by decide) (Nat.le_of_ble_eq_true rfl) ?_
  intro p e s m args below meth c hc hr hin hn ls hl
  have hl : lv_has ls 2 [(0, .ref a0)] := hl
  have hq : 0 + mc = mc ∧ 0 + ms = ms := ⟨Nat.zero_add _, Nat.zero_add _⟩
  have hx := hc.x
  have hb := hc.b
  refine lv_aload_n (x := a0) hx hb dJ3_removeFirst_0 rfl (lv_at hl 0 rfl) ?_
  refine zr_cVP (As := []) (rest := []) hc hn hq (ci := 13) rfl ⟨rfl, hd_J3_pollFirst⟩ (lw_V q1896 q1897 q1898 q90 q1899) (Nat.le_of_ble_eq_true rfl) (Nat.le_of_ble_eq_true rfl) (fun _ _ _ _ q => m_J3_pollFirst l D dA b0 gs h a0 q) hf dJ3_removeFirst_1 hl.1 rfl rfl (zroom (Nat.le_of_ble_eq_true rfl)) (fun x101 h102 H locs cells slots C9 S9 hf hq hn => ?_)
  refine zr_astore_n (x := x101) (i := 1) (lv' := [(1, va_rf x101), (0, .ref a0)]) hx hb dJ3_removeFirst_4 rfl hl (by decide) rfl (fun ls hl => ?_)
  refine zr_aload_n (x := x101) hx hb dJ3_removeFirst_5 rfl (lv_at hl 0 rfl) ?_
  refine zr_ifnonnull (tgt := 17) hx hb hf dJ3_removeFirst_6 (by decide) (fun e9 hf9 => ?_) (fun a103 e9 hf9 => ?_)
  · subst e9
    have hf := hf9
    clear hf9
    cases hf
  · subst e9
    have hf := hf9
    clear hf9
    refine lv_aload_n (x := a103) hx hb dJ3_removeFirst_17 rfl (lv_at hl 0 rfl) ?_
    obtain ⟨rfl, rfl, rfl, rfl⟩ := zret_i hf
    exact zr_nret hc hn hr (Or.inl ⟨_, rfl⟩) hq (fun _ _ _ _ q => q) dJ3_removeFirst_18
theorem hd_J3_newCapacity : yJ3_newCapacity.cls ≠ "java/lang/invoke/MethodHandle" ∧ yJ3_newCapacity.cls ≠ "java/lang/invoke/VarHandle" ∧ (parseMethodDescriptor yJ3_newCapacity.desc).map (fun d => d.parameters.length) = some 2 := by decide +kernel
def f_J3_newCapacity (h : PH) (a0 : Nat) (v1 : Int32) (v2 : Int32) : ZR Int32 :=
  zgP h a0 13 0 fun x101 =>
  znn x101 fun a102 =>
  zlen h a102 9 fun x103 =>
  znm (x103 + v1) fun x104 =>
  znm (x104 - (2147483639 : Int32)) fun x105 =>
  if x105 ≤ 0 then
    (if v1 ≤ v2 then
      (znm (x103 + v2) fun x106 =>
      znm (x106 - (2147483639 : Int32)) fun x107 =>
      if 0 ≤ x107 then
        (zret (2147483639 : Int32) h)
      else
        (znm (x103 + v2) fun x108 =>
        zret x108 h))
    else
      (zret x104 h))
  else
    (if 0 ≤ x104 then
      (zret (2147483647 : Int32) h)
    else
      (none))
set_option maxHeartbeats 4000000 in
set_option maxRecDepth 100000 in
theorem m_J3_newCapacity (l : Launch) (D : va_G) (dA : Nat → ClassId) (b0 : Nat) (gs : Nat → Option Nat) (h : PH) (a0 : Nat) (v1 : Int32) (v2 : Int32) {r : Int32} {hh : PH} {mc ms : Nat} (hf : f_J3_newCapacity h a0 v1 v2 = some (r, hh, mc, ms)) : zMt l D dA b0 gs yJ3_newCapacity cJ3_newCapacity 5 (some .int) 1 60 [.ref a0, .int v1, .int v2] h (evI r) hh mc ms := by
  unfold f_J3_newCapacity at hf
  refine zMt.of (by decide) (Nat.le_of_ble_eq_true rfl) ?_
  intro p e s m args below meth c hc hr hin hn ls hl
  have hl : lv_has ls 5 [(0, .ref a0), (1, .int v1), (2, .int v2)] := hl
  have hq : 0 + mc = mc ∧ 0 + ms = ms := ⟨Nat.zero_add _, Nat.zero_add _⟩
  have hx := hc.x
  have hb := hc.b
  refine lv_aload_n (x := a0) hx hb dJ3_newCapacity_0 rfl (lv_at hl 0 rfl) ?_
  refine zr_gP hc hn (ci := 13) rfl rfl in_J3 0 (by decide) q213 (fun _ h => h) (fun _ _ _ => rfl) hf dJ3_newCapacity_1 (fun x101 hf => ?_)
  obtain ⟨a102, e9, hf9⟩ := znn_i hf
  subst e9
  have hf := hf9
  clear hf9
  refine zr_len (ai := 9) hc hn hf dJ3_newCapacity_4 (fun x103 hf => ?_)
  refine lv_istore_n (i := 3) (lv' := [(3, .int x103), (0, .ref a0), (1, .int v1), (2, .int v2)]) hx hb dJ3_newCapacity_5 rfl hl (by decide) rfl (fun ls hl => ?_)
  refine lv_iload_n hx hb dJ3_newCapacity_6 rfl (lv_at hl 0 rfl) ?_
  refine lv_iload_n hx hb dJ3_newCapacity_7 rfl (lv_at hl 2 rfl) ?_
  refine lv_iadd hx hb dJ3_newCapacity_8 ?_
  refine zr_nmI hf (fun x104 hf => ?_)
  refine lv_dup hx hb dJ3_newCapacity_9 rfl ?_
  refine lv_istore (lv' := [(4, .int x104), (3, .int x103), (0, .ref a0), (1, .int v1), (2, .int v2)]) hx hb dJ3_newCapacity_10 hl (by decide) rfl (fun ls hl => ?_)
  refine lv_ldc (v := (2147483639 : Int32)) hx hb hc.ow (hc.ts _ q1916) dJ3_newCapacity_12 ?_
  refine lv_isub hx hb dJ3_newCapacity_14 ?_
  refine zr_nmI hf (fun x105 hf => ?_)
  refine lv_if_le (tgt := 36) hx hb dJ3_newCapacity_15 (by decide) (fun c9 => ?_) (fun c9 => ?_)
  · have hf := zif_t c9 hf
    refine lv_iload_n hx hb dJ3_newCapacity_36 rfl (lv_at hl 3 rfl) ?_
    refine lv_iload_n hx hb dJ3_newCapacity_37 rfl (lv_at hl 4 rfl) ?_
    refine lv_icmp_le (tgt := 44) hx hb dJ3_newCapacity_38 (by decide) (fun c9 => ?_) (fun c9 => ?_)
    · have hf := zif_t c9 hf
      refine lv_iload_n hx hb dJ3_newCapacity_44 rfl (lv_at hl 1 rfl) ?_
      refine lv_iload_n hx hb dJ3_newCapacity_45 rfl (lv_at hl 4 rfl) ?_
      refine lv_iadd hx hb dJ3_newCapacity_46 ?_
      refine zr_nmI hf (fun x106 hf => ?_)
      refine lv_ldc (v := (2147483639 : Int32)) hx hb hc.ow (hc.ts _ q1916) dJ3_newCapacity_47 ?_
      refine lv_isub hx hb dJ3_newCapacity_49 ?_
      refine zr_nmI hf (fun x107 hf => ?_)
      refine lv_if_ge (tgt := 59) hx hb dJ3_newCapacity_50 (by decide) (fun c9 => ?_) (fun c9 => ?_)
      · have hf := zif_t c9 hf
        refine lv_ldc (v := (2147483639 : Int32)) hx hb hc.ow (hc.ts _ q1916) dJ3_newCapacity_59 ?_
        obtain ⟨rfl, rfl, rfl, rfl⟩ := zret_i hf
        exact zr_iret hc hn hr hq (fun _ _ _ _ q => q) dJ3_newCapacity_61
      · have hf := zif_f c9 hf
        refine lv_iload_n hx hb dJ3_newCapacity_53 rfl (lv_at hl 1 rfl) ?_
        refine lv_iload_n hx hb dJ3_newCapacity_54 rfl (lv_at hl 4 rfl) ?_
        refine lv_iadd hx hb dJ3_newCapacity_55 ?_
        refine zr_nmI hf (fun x108 hf => ?_)
        refine lv_goto (tgt := 61) hx hb dJ3_newCapacity_56 (by decide) ?_
        obtain ⟨rfl, rfl, rfl, rfl⟩ := zret_i hf
        exact zr_iret hc hn hr hq (fun _ _ _ _ q => q) dJ3_newCapacity_61
    · have hf := zif_f c9 hf
      refine lv_iload hx hb dJ3_newCapacity_41 (lv_at hl 0 rfl) ?_
      obtain ⟨rfl, rfl, rfl, rfl⟩ := zret_i hf
      exact zr_iret hc hn hr hq (fun _ _ _ _ q => q) dJ3_newCapacity_43
  · have hf := zif_f c9 hf
    refine lv_iload hx hb dJ3_newCapacity_18 (lv_at hl 0 rfl) ?_
    refine lv_if_ge (tgt := 33) hx hb dJ3_newCapacity_20 (by decide) (fun c9 => ?_) (fun c9 => ?_)
    · have hf := zif_t c9 hf
      refine lv_ldc (v := (2147483647 : Int32)) hx hb hc.ow (hc.ts _ q210) dJ3_newCapacity_33 ?_
      obtain ⟨rfl, rfl, rfl, rfl⟩ := zret_i hf
      exact zr_iret hc hn hr hq (fun _ _ _ _ q => q) dJ3_newCapacity_35
    · have hf := zif_f c9 hf
      cases hf
theorem hd_J3_grow : yJ3_grow.cls ≠ "java/lang/invoke/MethodHandle" ∧ yJ3_grow.cls ≠ "java/lang/invoke/VarHandle" ∧ (parseMethodDescriptor yJ3_grow.desc).map (fun d => d.parameters.length) = some 1 := by decide +kernel
def f_J3_grow_b145 : Nat → PH → Nat → Int32 → Int32 → ZR Unit
  | 0 => fun _ _ _ _ => none
  | n + 1 => fun h a5 v7 v8 =>
    if v8 ≤ v7 then
      (zret () h)
    else
      (zsO h a5 9 v7 (none : Option Nat) fun h101 =>
      znm (v7 + (1 : Int32)) fun x102 =>
      f_J3_grow_b145 n h101 a5 x102 v8)
def f_J3_grow_b96 (h : PH) (a0 : Nat) (v2 : Int32) (v3 : Int32) (a5 : Nat) : ZR Unit :=
  znm (v3 - v2) fun x101 =>
  zgI h a0 13 1 fun x102 =>
  zgI h a0 13 1 fun x103 =>
  znm (x103 + x101) fun x104 =>
  zgI h a0 13 1 fun x105 =>
  znm (v2 - x105) fun x106 =>
  zcpP h a5 a5 9 (zecl h a5 x102) x102 x104 x106 fun h107 =>
  zgI h107 a0 13 1 fun x108 =>
  zgI h107 a0 13 1 fun x109 =>
  znm (x109 + x101) fun x110 =>
  zpI h107 a0 13 1 x110 fun h111 =>
  f_J3_grow_b145 zFU h111 a5 x108 x110
def f_J3_grow_b49 (h : PH) (a0 : Nat) (v2 : Int32) (v3 : Int32) : ZR Unit :=
  zgP h a0 13 0 fun x101 =>
  znn x101 fun a102 =>
  zcl (f_J17_copyOf_2 h a102 v3) fun x103 h104 =>
  zpP h104 a0 13 0 (some x103) fun h105 =>
  zgI h105 a0 13 2 fun x106 =>
  zgI h105 a0 13 1 fun x107 =>
  if x106 < x107 then
    (f_J3_grow_b96 h105 a0 v2 v3 x103)
  else
    (zgI h105 a0 13 2 fun x108 =>
    zgI h105 a0 13 1 fun x109 =>
    if x108 = x109 then
      (zgI h105 a0 13 1 fun x110 =>
      zaP h105 x103 9 x110 fun x111 =>
      znul x111
        (zret () h105)
        (fun a112 =>
          f_J3_grow_b96 h105 a0 v2 v3 x103))
    else
      (zret () h105))
def f_J3_grow_b41 (h : PH) (a0 : Nat) (v1 : Int32) (v2 : Int32) (v4 : Int32) : ZR Unit :=
  zrc h a0 13 <| zcl (f_J3_newCapacity h a0 v1 v4) fun x101 h102 =>
  f_J3_grow_b49 h102 a0 v2 x101
def f_J3_grow_b21 (h : PH) (a0 : Nat) (v1 : Int32) (v2 : Int32) (s0 : Int32) : ZR Unit :=
  if s0 < v1 then
    (f_J3_grow_b41 h a0 v1 v2 s0)
  else
    (znm (v2 + s0) fun x101 =>
    znm (x101 - (2147483639 : Int32)) fun x102 =>
    if x102 ≤ 0 then
      (f_J3_grow_b49 h a0 v2 x101)
    else
      (f_J3_grow_b41 h a0 v1 v2 s0))
def f_J3_grow (h : PH) (a0 : Nat) (v1 : Int32) : ZR Unit :=
  zgP h a0 13 0 fun x101 =>
  znn x101 fun a102 =>
  zlen h a102 9 fun x103 =>
  if (64 : Int32) ≤ x103 then
    (znm (x103 >>> ((1 : Int32) &&& 31)) fun x104 =>
    f_J3_grow_b21 h a0 v1 x103 x104)
  else
    (znm (x103 + (2 : Int32)) fun x105 =>
    f_J3_grow_b21 h a0 v1 x103 x105)
set_option maxHeartbeats 4000000 in
set_option maxRecDepth 100000 in
theorem m_J3_grow_b145 {p : Program} {l : Launch} {e : Env} {s : State} {m : MethodId} {args : Array Value} {below : List Frame} {meth : Method} {c : Code} {D : va_G} {dA : Nat → ClassId} {b0 : Nat} {gs : Nat → Option Nat} (hc : zC D dA b0 gs yJ3_grow.cls cJ3_grow 9 p c s m args meth) (hr : meth.sig.returnType = none) (hin : meth.name = yJ3_grow.name) {r : Unit} {hh : PH} {mc ms : Nat} : ∀ (n : Nat) (h : PH) (a5 : Nat) (v7 : Int32) (v8 : Int32) (C9 S9 : Nat) (H : Heap) (locs : List Loc) (cells slots : Nat), f_J3_grow_b145 n h a5 v7 v8 = some (r, hh, C9, S9) → cells + C9 = mc ∧ slots + S9 = ms → zM D dA b0 gs s h H locs → ∀ ls : Array Slot, lv_has ls 9 [(5, .ref a5), (7, .int v7), (8, .int v8)] → W p l e ({ frames := 3, cells := mc, slots := ms, locals := 104 } : Room) s m args below meth c H locs cells slots (MQ below (zQ D dA b0 gs (evU r) hh) args s mc ms (zA b0)) (F0 m 145 ls []) := by
  have hx := hc.x
  have hb := hc.b
  intro n
  induction n with
  | zero =>
    intro h a5 v7 v8 C9 S9 H locs cells slots hf hq hn ls hl
    cases hf
  | succ n ih =>
    intro h a5 v7 v8 C9 S9 H locs cells slots hf hq hn ls hl
    unfold f_J3_grow_b145 at hf
    refine lv_iload hx hb dJ3_grow_145 (lv_at hl 1 rfl) ?_
    refine lv_iload hx hb dJ3_grow_147 (lv_at hl 2 rfl) ?_
    refine lv_icmp_ge (tgt := 164) hx hb dJ3_grow_149 (by decide) (fun c9 => ?_) (fun c9 => ?_)
    · have hf := zif_t c9 hf
      obtain ⟨rfl, rfl, rfl, rfl⟩ := zret_i hf
      exact zr_vret hc hn hr hq (fun _ _ _ _ q => q) dJ3_grow_164
    · have hf := zif_f c9 hf
      refine lv_aload (x := a5) hx hb dJ3_grow_152 (lv_at hl 0 rfl) ?_
      refine lv_iload hx hb dJ3_grow_154 (lv_at hl 1 rfl) ?_
      refine lv_null hx hb dJ3_grow_156 ?_
      refine zr_sO (ai := 9) (x := (none : Option Nat)) (by decide) hc hn hf dJ3_grow_157 (fun h101 H locs hf hn => ?_)
      obtain ⟨x102, ex102, hf⟩ := znm_i hf
      refine lv_iinc (v := x102) (lv' := [(7, .int x102), (5, .ref a5), (8, .int v8)]) hx hb dJ3_grow_158 hl (k := 1) rfl (by rw [ex102]; rfl) (by decide) rfl (fun ls hl => ?_)
      refine lv_goto (tgt := 145) hx hb dJ3_grow_161 (by decide) ?_
      exact ih h101 a5 x102 v8 _ _ _ _ _ _ hf hq hn _ (lv_sub hl [1, 0, 2] rfl)
set_option maxHeartbeats 4000000 in
set_option maxRecDepth 100000 in
theorem m_J3_grow_b96 {p : Program} {l : Launch} {e : Env} {s : State} {m : MethodId} {args : Array Value} {below : List Frame} {meth : Method} {c : Code} {D : va_G} {dA : Nat → ClassId} {b0 : Nat} {gs : Nat → Option Nat} (hc : zC D dA b0 gs yJ3_grow.cls cJ3_grow 9 p c s m args meth) (hr : meth.sig.returnType = none) (hin : meth.name = yJ3_grow.name) {r : Unit} {hh : PH} {mc ms : Nat} : ∀ (h : PH) (a0 : Nat) (v2 : Int32) (v3 : Int32) (a5 : Nat) (C9 S9 : Nat) (H : Heap) (locs : List Loc) (cells slots : Nat), f_J3_grow_b96 h a0 v2 v3 a5 = some (r, hh, C9, S9) → cells + C9 = mc ∧ slots + S9 = ms → zM D dA b0 gs s h H locs → ∀ ls : Array Slot, lv_has ls 9 [(0, .ref a0), (2, .int v2), (3, .int v3), (5, .ref a5)] → W p l e ({ frames := 3, cells := mc, slots := ms, locals := 104 } : Room) s m args below meth c H locs cells slots (MQ below (zQ D dA b0 gs (evU r) hh) args s mc ms (zA b0)) (F0 m 96 ls []) := by
  have hx := hc.x
  have hb := hc.b
  intro h a0 v2 v3 a5 C9 S9 H locs cells slots hf hq hn ls hl
  unfold f_J3_grow_b96 at hf
  refine lv_iload_n hx hb dJ3_grow_96 rfl (lv_at hl 2 rfl) ?_
  refine lv_iload_n hx hb dJ3_grow_97 rfl (lv_at hl 1 rfl) ?_
  refine lv_isub hx hb dJ3_grow_98 ?_
  refine zr_nmI hf (fun x101 hf => ?_)
  refine lv_istore (lv' := [(6, .int x101), (0, .ref a0), (2, .int v2), (3, .int v3), (5, .ref a5)]) hx hb dJ3_grow_99 hl (by decide) rfl (fun ls hl => ?_)
  refine lv_aload (x := a5) hx hb dJ3_grow_101 (lv_at hl 4 rfl) ?_
  refine lv_aload_n (x := a0) hx hb dJ3_grow_103 rfl (lv_at hl 1 rfl) ?_
  refine zr_gI hc hn (ci := 13) rfl rfl in_J3 1 (by decide) q214 (fun _ h => h) (fun _ _ _ => rfl) hf dJ3_grow_104 (fun x102 hf => ?_)
  refine lv_aload (x := a5) hx hb dJ3_grow_107 (lv_at hl 4 rfl) ?_
  refine lv_aload_n (x := a0) hx hb dJ3_grow_109 rfl (lv_at hl 1 rfl) ?_
  refine zr_gI hc hn (ci := 13) rfl rfl in_J3 1 (by decide) q214 (fun _ h => h) (fun _ _ _ => rfl) hf dJ3_grow_110 (fun x103 hf => ?_)
  refine lv_iload hx hb dJ3_grow_113 (lv_at hl 0 rfl) ?_
  refine lv_iadd hx hb dJ3_grow_115 ?_
  refine zr_nmI hf (fun x104 hf => ?_)
  refine lv_iload_n hx hb dJ3_grow_116 rfl (lv_at hl 2 rfl) ?_
  refine lv_aload_n (x := a0) hx hb dJ3_grow_117 rfl (lv_at hl 1 rfl) ?_
  refine zr_gI hc hn (ci := 13) rfl rfl in_J3 1 (by decide) q214 (fun _ h => h) (fun _ _ _ => rfl) hf dJ3_grow_118 (fun x105 hf => ?_)
  refine lv_isub hx hb dJ3_grow_121 ?_
  refine zr_nmI hf (fun x106 hf => ?_)
  refine zr_cpP (ai := 9) hc hn (by decide) hl.1 q1928 q519 q518 q108 hf (zroom (Nat.le_of_ble_eq_true rfl)) (Nat.le_of_ble_eq_true rfl) (Nat.le_of_ble_eq_true rfl) dJ3_grow_122 (fun h107 H locs hf hn => ?_)
  refine lv_aload_n (x := a0) hx hb dJ3_grow_125 rfl (lv_at hl 1 rfl) ?_
  refine zr_gI hc hn (ci := 13) rfl rfl in_J3 1 (by decide) q214 (fun _ h => h) (fun _ _ _ => rfl) hf dJ3_grow_126 (fun x108 hf => ?_)
  refine lv_istore (lv' := [(7, .int x108), (6, .int x101), (0, .ref a0), (2, .int v2), (3, .int v3), (5, .ref a5)]) hx hb dJ3_grow_129 hl (by decide) rfl (fun ls hl => ?_)
  refine lv_aload_n (x := a0) hx hb dJ3_grow_131 rfl (lv_at hl 2 rfl) ?_
  refine lv_dup hx hb dJ3_grow_132 rfl ?_
  refine zr_gI hc hn (ci := 13) rfl rfl in_J3 1 (by decide) q214 (fun _ h => h) (fun _ _ _ => rfl) hf dJ3_grow_133 (fun x109 hf => ?_)
  refine lv_iload hx hb dJ3_grow_136 (lv_at hl 1 rfl) ?_
  refine lv_iadd hx hb dJ3_grow_138 ?_
  refine zr_nmI hf (fun x110 hf => ?_)
  refine lv_dup_x1 hx hb dJ3_grow_139 rfl rfl ?_
  refine zr_pI (x := x110) hc hn (ci := 13) rfl rfl in_J3 1 (by decide) tyJ3 tyJ3_ok nmJ3 q214 (fun _ h => h) (Or.inl rfl) (fun _ _ _ => rfl) rfl rfl hf dJ3_grow_140 (fun h111 H locs hf hn => ?_)
  refine lv_istore (lv' := [(8, .int x110), (7, .int x108), (6, .int x101), (0, .ref a0), (2, .int v2), (3, .int v3), (5, .ref a5)]) hx hb dJ3_grow_143 hl (by decide) rfl (fun ls hl => ?_)
  exact m_J3_grow_b145 hc hr hin zFU h111 a5 x108 x110 _ _ _ _ _ _ hf hq hn _ (lv_sub hl [6, 1, 0] rfl)
set_option maxHeartbeats 4000000 in
set_option maxRecDepth 100000 in
theorem m_J3_grow_b49 {p : Program} {l : Launch} {e : Env} {s : State} {m : MethodId} {args : Array Value} {below : List Frame} {meth : Method} {c : Code} {D : va_G} {dA : Nat → ClassId} {b0 : Nat} {gs : Nat → Option Nat} (hc : zC D dA b0 gs yJ3_grow.cls cJ3_grow 9 p c s m args meth) (hr : meth.sig.returnType = none) (hin : meth.name = yJ3_grow.name) {r : Unit} {hh : PH} {mc ms : Nat} : ∀ (h : PH) (a0 : Nat) (v2 : Int32) (v3 : Int32) (C9 S9 : Nat) (H : Heap) (locs : List Loc) (cells slots : Nat), f_J3_grow_b49 h a0 v2 v3 = some (r, hh, C9, S9) → cells + C9 = mc ∧ slots + S9 = ms → zM D dA b0 gs s h H locs → ∀ ls : Array Slot, lv_has ls 9 [(0, .ref a0), (2, .int v2), (3, .int v3)] → W p l e ({ frames := 3, cells := mc, slots := ms, locals := 104 } : Room) s m args below meth c H locs cells slots (MQ below (zQ D dA b0 gs (evU r) hh) args s mc ms (zA b0)) (F0 m 49 ls []) := by
  have hx := hc.x
  have hb := hc.b
  intro h a0 v2 v3 C9 S9 H locs cells slots hf hq hn ls hl
  unfold f_J3_grow_b49 at hf
  refine lv_aload_n (x := a0) hx hb dJ3_grow_49 rfl (lv_at hl 0 rfl) ?_
  refine lv_aload_n (x := a0) hx hb dJ3_grow_50 rfl (lv_at hl 0 rfl) ?_
  refine zr_gP hc hn (ci := 13) rfl rfl in_J3 0 (by decide) q213 (fun _ h => h) (fun _ _ _ => rfl) hf dJ3_grow_51 (fun x101 hf => ?_)
  refine lv_iload_n hx hb dJ3_grow_54 rfl (lv_at hl 2 rfl) ?_
  obtain ⟨a102, e9, hf9⟩ := znn_i hf
  subst e9
  have hf := hf9
  clear hf9
  refine zr_cSN (As := [.ref a102, .int v3]) (rest := [.ref a0]) hc hn hq hd_J17_copyOf_2 (lw_S q1927 q1074 q107 q1075) (Nat.le_of_ble_eq_true rfl) (Nat.le_of_ble_eq_true rfl) (fun _ _ _ _ q => m_J17_copyOf_2 l D dA b0 gs h a102 v3 q) hf dJ3_grow_55 hl.1 rfl rfl (zroom (Nat.le_of_ble_eq_true rfl)) (fun x103 h104 H locs cells slots C9 S9 hf hq hn => ?_)
  refine lv_dup_x1 hx hb dJ3_grow_58 rfl rfl ?_
  refine zr_pP (x := (some x103)) hc hn (ci := 13) rfl rfl in_J3 0 (by decide) tyJ3 tyJ3_ok nmJ3 q213 (fun _ h => h) (Or.inl rfl) (fun _ _ _ => rfl) (zn_rf _ (by decide)) (zf_rf _ (by decide)) hf dJ3_grow_59 (fun h105 H locs hf hn => ?_)
  refine lv_astore (x := x103) (lv' := [(5, .ref x103), (0, .ref a0), (2, .int v2), (3, .int v3)]) hx hb dJ3_grow_62 hl (by decide) rfl (fun ls hl => ?_)
  refine lv_aload_n (x := a0) hx hb dJ3_grow_64 rfl (lv_at hl 1 rfl) ?_
  refine zr_gI hc hn (ci := 13) rfl rfl in_J3 2 (by decide) q215 (fun _ h => h) (fun _ _ _ => rfl) hf dJ3_grow_65 (fun x106 hf => ?_)
  refine lv_aload_n (x := a0) hx hb dJ3_grow_68 rfl (lv_at hl 1 rfl) ?_
  refine zr_gI hc hn (ci := 13) rfl rfl in_J3 1 (by decide) q214 (fun _ h => h) (fun _ _ _ => rfl) hf dJ3_grow_69 (fun x107 hf => ?_)
  refine lv_icmp_lt (tgt := 96) hx hb dJ3_grow_72 (by decide) (fun c9 => ?_) (fun c9 => ?_)
  · have hf := zif_t c9 hf
    exact m_J3_grow_b96 hc hr hin h105 a0 v2 v3 x103 _ _ _ _ _ _ hf hq hn _ (lv_sub hl [1, 2, 3, 0] rfl)
  · have hf := zif_f c9 hf
    refine lv_aload_n (x := a0) hx hb dJ3_grow_75 rfl (lv_at hl 1 rfl) ?_
    refine zr_gI hc hn (ci := 13) rfl rfl in_J3 2 (by decide) q215 (fun _ h => h) (fun _ _ _ => rfl) hf dJ3_grow_76 (fun x108 hf => ?_)
    refine lv_aload_n (x := a0) hx hb dJ3_grow_79 rfl (lv_at hl 1 rfl) ?_
    refine zr_gI hc hn (ci := 13) rfl rfl in_J3 1 (by decide) q214 (fun _ h => h) (fun _ _ _ => rfl) hf dJ3_grow_80 (fun x109 hf => ?_)
    refine lv_icmp_ne (tgt := 164) hx hb dJ3_grow_83 (by decide) (fun c9 => ?_) (fun c9 => ?_)
    · have hf := zif_f c9 hf
      obtain ⟨rfl, rfl, rfl, rfl⟩ := zret_i hf
      exact zr_vret hc hn hr hq (fun _ _ _ _ q => q) dJ3_grow_164
    · have hf := zif_t c9 hf
      refine lv_aload (x := x103) hx hb dJ3_grow_86 (lv_at hl 0 rfl) ?_
      refine lv_aload_n (x := a0) hx hb dJ3_grow_88 rfl (lv_at hl 1 rfl) ?_
      refine zr_gI hc hn (ci := 13) rfl rfl in_J3 1 (by decide) q214 (fun _ h => h) (fun _ _ _ => rfl) hf dJ3_grow_89 (fun x110 hf => ?_)
      refine zr_aP (ai := 9) (by decide) hc hn hf dJ3_grow_92 (fun x111 hf => ?_)
      refine zr_ifnull (tgt := 164) hx hb hf dJ3_grow_93 (by decide) (fun e9 hf9 => ?_) (fun a112 e9 hf9 => ?_)
      · subst e9
        have hf := hf9
        clear hf9
        obtain ⟨rfl, rfl, rfl, rfl⟩ := zret_i hf
        exact zr_vret hc hn hr hq (fun _ _ _ _ q => q) dJ3_grow_164
      · subst e9
        have hf := hf9
        clear hf9
        exact m_J3_grow_b96 hc hr hin h105 a0 v2 v3 x103 _ _ _ _ _ _ hf hq hn _ (lv_sub hl [1, 2, 3, 0] rfl)
set_option maxHeartbeats 4000000 in
set_option maxRecDepth 100000 in
theorem m_J3_grow_b41 {p : Program} {l : Launch} {e : Env} {s : State} {m : MethodId} {args : Array Value} {below : List Frame} {meth : Method} {c : Code} {D : va_G} {dA : Nat → ClassId} {b0 : Nat} {gs : Nat → Option Nat} (hc : zC D dA b0 gs yJ3_grow.cls cJ3_grow 9 p c s m args meth) (hr : meth.sig.returnType = none) (hin : meth.name = yJ3_grow.name) {r : Unit} {hh : PH} {mc ms : Nat} : ∀ (h : PH) (a0 : Nat) (v1 : Int32) (v2 : Int32) (v4 : Int32) (C9 S9 : Nat) (H : Heap) (locs : List Loc) (cells slots : Nat), f_J3_grow_b41 h a0 v1 v2 v4 = some (r, hh, C9, S9) → cells + C9 = mc ∧ slots + S9 = ms → zM D dA b0 gs s h H locs → ∀ ls : Array Slot, lv_has ls 9 [(0, .ref a0), (1, .int v1), (2, .int v2), (4, .int v4)] → W p l e ({ frames := 3, cells := mc, slots := ms, locals := 104 } : Room) s m args below meth c H locs cells slots (MQ below (zQ D dA b0 gs (evU r) hh) args s mc ms (zA b0)) (F0 m 41 ls []) := by
  have hx := hc.x
  have hb := hc.b
  intro h a0 v1 v2 v4 C9 S9 H locs cells slots hf hq hn ls hl
  unfold f_J3_grow_b41 at hf
  refine lv_aload_n (x := a0) hx hb dJ3_grow_41 rfl (lv_at hl 0 rfl) ?_
  refine lv_iload_n hx hb dJ3_grow_42 rfl (lv_at hl 1 rfl) ?_
  refine lv_iload hx hb dJ3_grow_43 (lv_at hl 3 rfl) ?_
  refine zr_cVI (As := [.int v1, .int v4]) (rest := []) hc hn hq (ci := 13) rfl ⟨rfl, hd_J3_newCapacity⟩ (lw_V q1917 q1919 qs27 q90 q1920) (Nat.le_of_ble_eq_true rfl) (Nat.le_of_ble_eq_true rfl) (fun _ _ _ _ q => m_J3_newCapacity l D dA b0 gs h a0 v1 v4 q) hf dJ3_grow_45 hl.1 rfl rfl (zroom (Nat.le_of_ble_eq_true rfl)) (fun x101 h102 H locs cells slots C9 S9 hf hq hn => ?_)
  refine lv_istore_n (i := 3) (lv' := [(3, .int x101), (0, .ref a0), (1, .int v1), (2, .int v2), (4, .int v4)]) hx hb dJ3_grow_48 rfl hl (by decide) rfl (fun ls hl => ?_)
  exact m_J3_grow_b49 hc hr hin h102 a0 v2 x101 _ _ _ _ _ _ hf hq hn _ (lv_sub hl [1, 3, 0] rfl)
set_option maxHeartbeats 4000000 in
set_option maxRecDepth 100000 in
theorem m_J3_grow_b21 {p : Program} {l : Launch} {e : Env} {s : State} {m : MethodId} {args : Array Value} {below : List Frame} {meth : Method} {c : Code} {D : va_G} {dA : Nat → ClassId} {b0 : Nat} {gs : Nat → Option Nat} (hc : zC D dA b0 gs yJ3_grow.cls cJ3_grow 9 p c s m args meth) (hr : meth.sig.returnType = none) (hin : meth.name = yJ3_grow.name) {r : Unit} {hh : PH} {mc ms : Nat} : ∀ (h : PH) (a0 : Nat) (v1 : Int32) (v2 : Int32) (s0 : Int32) (C9 S9 : Nat) (H : Heap) (locs : List Loc) (cells slots : Nat), f_J3_grow_b21 h a0 v1 v2 s0 = some (r, hh, C9, S9) → cells + C9 = mc ∧ slots + S9 = ms → zM D dA b0 gs s h H locs → ∀ ls : Array Slot, lv_has ls 9 [(0, .ref a0), (1, .int v1), (2, .int v2)] → W p l e ({ frames := 3, cells := mc, slots := ms, locals := 104 } : Room) s m args below meth c H locs cells slots (MQ below (zQ D dA b0 gs (evU r) hh) args s mc ms (zA b0)) (F0 m 21 ls [.int s0]) := by
  have hx := hc.x
  have hb := hc.b
  intro h a0 v1 v2 s0 C9 S9 H locs cells slots hf hq hn ls hl
  unfold f_J3_grow_b21 at hf
  refine lv_istore (lv' := [(4, .int s0), (0, .ref a0), (1, .int v1), (2, .int v2)]) hx hb dJ3_grow_21 hl (by decide) rfl (fun ls hl => ?_)
  refine lv_iload hx hb dJ3_grow_23 (lv_at hl 0 rfl) ?_
  refine lv_iload_n hx hb dJ3_grow_25 rfl (lv_at hl 2 rfl) ?_
  refine lv_icmp_lt (tgt := 41) hx hb dJ3_grow_26 (by decide) (fun c9 => ?_) (fun c9 => ?_)
  · have hf := zif_t c9 hf
    exact m_J3_grow_b41 hc hr hin h a0 v1 v2 s0 _ _ _ _ _ _ hf hq hn _ (lv_sub hl [1, 2, 3, 0] rfl)
  · have hf := zif_f c9 hf
    refine lv_iload_n hx hb dJ3_grow_29 rfl (lv_at hl 3 rfl) ?_
    refine lv_iload hx hb dJ3_grow_30 (lv_at hl 0 rfl) ?_
    refine lv_iadd hx hb dJ3_grow_32 ?_
    refine zr_nmI hf (fun x101 hf => ?_)
    refine lv_dup hx hb dJ3_grow_33 rfl ?_
    refine lv_istore_n (i := 3) (lv' := [(3, .int x101), (4, .int s0), (0, .ref a0), (1, .int v1), (2, .int v2)]) hx hb dJ3_grow_34 rfl hl (by decide) rfl (fun ls hl => ?_)
    refine lv_ldc (v := (2147483639 : Int32)) hx hb hc.ow (hc.ts _ q1916) dJ3_grow_35 ?_
    refine lv_isub hx hb dJ3_grow_37 ?_
    refine zr_nmI hf (fun x102 hf => ?_)
    refine lv_if_le (tgt := 49) hx hb dJ3_grow_38 (by decide) (fun c9 => ?_) (fun c9 => ?_)
    · have hf := zif_t c9 hf
      exact m_J3_grow_b49 hc hr hin h a0 v2 x101 _ _ _ _ _ _ hf hq hn _ (lv_sub hl [2, 4, 0] rfl)
    · have hf := zif_f c9 hf
      exact m_J3_grow_b41 hc hr hin h a0 v1 v2 s0 _ _ _ _ _ _ hf hq hn _ (lv_sub hl [2, 3, 4, 1] rfl)
set_option maxHeartbeats 4000000 in
set_option maxRecDepth 100000 in
theorem m_J3_grow (l : Launch) (D : va_G) (dA : Nat → ClassId) (b0 : Nat) (gs : Nat → Option Nat) (h : PH) (a0 : Nat) (v1 : Int32) {r : Unit} {hh : PH} {mc ms : Nat} (hf : f_J3_grow h a0 v1 = some (r, hh, mc, ms)) : zMt l D dA b0 gs yJ3_grow cJ3_grow 9 none 3 104 [.ref a0, .int v1] h (evU r) hh mc ms := by
  unfold f_J3_grow at hf
  refine zMt.of (by decide) (Nat.le_of_ble_eq_true rfl) ?_
  intro p e s m args below meth c hc hr hin hn ls hl
  have hl : lv_has ls 9 [(0, .ref a0), (1, .int v1)] := hl
  have hq : 0 + mc = mc ∧ 0 + ms = ms := ⟨Nat.zero_add _, Nat.zero_add _⟩
  have hx := hc.x
  have hb := hc.b
  refine lv_aload_n (x := a0) hx hb dJ3_grow_0 rfl (lv_at hl 0 rfl) ?_
  refine zr_gP hc hn (ci := 13) rfl rfl in_J3 0 (by decide) q213 (fun _ h => h) (fun _ _ _ => rfl) hf dJ3_grow_1 (fun x101 hf => ?_)
  obtain ⟨a102, e9, hf9⟩ := znn_i hf
  subst e9
  have hf := hf9
  clear hf9
  refine zr_len (ai := 9) hc hn hf dJ3_grow_4 (fun x103 hf => ?_)
  refine lv_istore_n (i := 2) (lv' := [(2, .int x103), (0, .ref a0), (1, .int v1)]) hx hb dJ3_grow_5 rfl hl (by decide) rfl (fun ls hl => ?_)
  refine lv_iload_n hx hb dJ3_grow_6 rfl (lv_at hl 0 rfl) ?_
  refine lv_bipush (v := (64 : Int32)) hx hb dJ3_grow_7 (by decide) ?_
  refine lv_icmp_ge (tgt := 18) hx hb dJ3_grow_9 (by decide) (fun c9 => ?_) (fun c9 => ?_)
  · have hf := zif_t c9 hf
    refine lv_iload_n hx hb dJ3_grow_18 rfl (lv_at hl 0 rfl) ?_
    refine lv_iconst (v := (1 : Int32)) hx hb dJ3_grow_19 (by decide) ?_
    refine lv_ishr hx hb dJ3_grow_20 ?_
    refine zr_nmI hf (fun x104 hf => ?_)
    exact m_J3_grow_b21 hc hr hin h a0 v1 x103 x104 _ _ _ _ _ _ hf hq hn _ (lv_sub hl [1, 2, 0] rfl)
  · have hf := zif_f c9 hf
    refine lv_iload_n hx hb dJ3_grow_12 rfl (lv_at hl 0 rfl) ?_
    refine lv_iconst (v := (2 : Int32)) hx hb dJ3_grow_13 (by decide) ?_
    refine lv_iadd hx hb dJ3_grow_14 ?_
    refine zr_nmI hf (fun x105 hf => ?_)
    refine lv_goto (tgt := 21) hx hb dJ3_grow_15 (by decide) ?_
    exact m_J3_grow_b21 hc hr hin h a0 v1 x103 x105 _ _ _ _ _ _ hf hq hn _ (lv_sub hl [1, 2, 0] rfl)
theorem hd_J3_addLast : yJ3_addLast.cls ≠ "java/lang/invoke/MethodHandle" ∧ yJ3_addLast.cls ≠ "java/lang/invoke/VarHandle" ∧ (parseMethodDescriptor yJ3_addLast.desc).map (fun d => d.parameters.length) = some 1 := by decide +kernel
def f_J3_addLast (h : PH) (a0 : Nat) (a1 : Nat) : ZR Unit :=
  zgP h a0 13 0 fun x101 =>
  zgI h a0 13 2 fun x102 =>
  znn x101 fun a103 =>
  zsO h a103 9 x102 (some a1) fun h104 =>
  zgI h104 a0 13 1 fun x105 =>
  zgI h104 a0 13 2 fun x106 =>
  zlen h104 a103 9 fun x107 =>
  zcl (f_J3_inc h104 x106 x107) fun x108 h109 =>
  zpI h109 a0 13 2 x108 fun h110 =>
  if x105 = x108 then
    (none)
  else
    (zret () h110)
set_option maxHeartbeats 4000000 in
set_option maxRecDepth 100000 in
theorem m_J3_addLast (l : Launch) (D : va_G) (dA : Nat → ClassId) (b0 : Nat) (gs : Nat → Option Nat) (h : PH) (a0 : Nat) (a1 : Nat) {r : Unit} {hh : PH} {mc ms : Nat} (hf : f_J3_addLast h a0 a1 = some (r, hh, mc, ms)) : zMt l D dA b0 gs yJ3_addLast cJ3_addLast 3 none 2 81 [.ref a0, .ref a1] h (evU r) hh mc ms := by
  unfold f_J3_addLast at hf
  refine zMt.of (by decide) (Nat.le_of_ble_eq_true rfl) ?_
  intro p e s m args below meth c hc hr hin hn ls hl
  have hl : lv_has ls 3 [(0, .ref a0), (1, .ref a1)] := hl
  have hq : 0 + mc = mc ∧ 0 + ms = ms := ⟨Nat.zero_add _, Nat.zero_add _⟩
  have hx := hc.x
  have hb := hc.b
  refine lv_aload_n (x := a1) hx hb dJ3_addLast_0 rfl (lv_at hl 1 rfl) ?_
  refine lv_ifnonnull (x := a1) (tgt := 12) hx hb dJ3_addLast_1 (by decide) ?_
  refine lv_aload_n (x := a0) hx hb dJ3_addLast_12 rfl (lv_at hl 0 rfl) ?_
  refine zr_gP hc hn (ci := 13) rfl rfl in_J3 0 (by decide) q213 (fun _ h => h) (fun _ _ _ => rfl) hf dJ3_addLast_13 (fun x101 hf => ?_)
  refine zr_astore_n (x := x101) (i := 2) (lv' := [(2, va_rf x101), (0, .ref a0), (1, .ref a1)]) hx hb dJ3_addLast_16 rfl hl (by decide) rfl (fun ls hl => ?_)
  refine zr_aload_n (x := x101) hx hb dJ3_addLast_17 rfl (lv_at hl 0 rfl) ?_
  refine lv_aload_n (x := a0) hx hb dJ3_addLast_18 rfl (lv_at hl 1 rfl) ?_
  refine zr_gI hc hn (ci := 13) rfl rfl in_J3 2 (by decide) q215 (fun _ h => h) (fun _ _ _ => rfl) hf dJ3_addLast_19 (fun x102 hf => ?_)
  refine lv_aload_n (x := a1) hx hb dJ3_addLast_22 rfl (lv_at hl 2 rfl) ?_
  obtain ⟨a103, e9, hf9⟩ := znn_i hf
  subst e9
  have hf := hf9
  clear hf9
  refine zr_sO (ai := 9) (x := (some a1)) (by decide) hc hn hf dJ3_addLast_23 (fun h104 H locs hf hn => ?_)
  refine lv_aload_n (x := a0) hx hb dJ3_addLast_24 rfl (lv_at hl 1 rfl) ?_
  refine zr_gI hc hn (ci := 13) rfl rfl in_J3 1 (by decide) q214 (fun _ h => h) (fun _ _ _ => rfl) hf dJ3_addLast_25 (fun x105 hf => ?_)
  refine lv_aload_n (x := a0) hx hb dJ3_addLast_28 rfl (lv_at hl 1 rfl) ?_
  refine lv_aload_n (x := a0) hx hb dJ3_addLast_29 rfl (lv_at hl 1 rfl) ?_
  refine zr_gI hc hn (ci := 13) rfl rfl in_J3 2 (by decide) q215 (fun _ h => h) (fun _ _ _ => rfl) hf dJ3_addLast_30 (fun x106 hf => ?_)
  refine lv_aload_n (x := a103) hx hb dJ3_addLast_33 rfl (lv_at hl 0 rfl) ?_
  refine zr_len (ai := 9) hc hn hf dJ3_addLast_34 (fun x107 hf => ?_)
  refine zr_cSI (As := [.int x106, .int x107]) (rest := [.ref a0, .int x105]) hc hn hq hd_J3_inc (lw_S q1903 q1904 q90 q1905) (Nat.le_of_ble_eq_true rfl) (Nat.le_of_ble_eq_true rfl) (fun _ _ _ _ q => m_J3_inc l D dA b0 gs h104 x106 x107 q) hf dJ3_addLast_35 hl.1 rfl rfl (zroom (Nat.le_of_ble_eq_true rfl)) (fun x108 h109 H locs cells slots C9 S9 hf hq hn => ?_)
  refine lv_dup_x1 hx hb dJ3_addLast_38 rfl rfl ?_
  refine zr_pI (x := x108) hc hn (ci := 13) rfl rfl in_J3 2 (by decide) tyJ3 tyJ3_ok nmJ3 q215 (fun _ h => h) (Or.inl rfl) (fun _ _ _ => rfl) rfl rfl hf dJ3_addLast_39 (fun h110 H locs hf hn => ?_)
  refine lv_icmp_ne (tgt := 50) hx hb dJ3_addLast_42 (by decide) (fun c9 => ?_) (fun c9 => ?_)
  · have hf := zif_f c9 hf
    obtain ⟨rfl, rfl, rfl, rfl⟩ := zret_i hf
    exact zr_vret hc hn hr hq (fun _ _ _ _ q => q) dJ3_addLast_50
  · have hf := zif_t c9 hf
    cases hf
theorem hd_J3_isEmpty : yJ3_isEmpty.cls ≠ "java/lang/invoke/MethodHandle" ∧ yJ3_isEmpty.cls ≠ "java/lang/invoke/VarHandle" ∧ (parseMethodDescriptor yJ3_isEmpty.desc).map (fun d => d.parameters.length) = some 0 := by decide +kernel
def f_J3_isEmpty (h : PH) (a0 : Nat) : ZR Int32 :=
  zgI h a0 13 1 fun x101 =>
  zgI h a0 13 2 fun x102 =>
  if x101 = x102 then
    (zret (1 : Int32) h)
  else
    (zret (0 : Int32) h)
set_option maxHeartbeats 4000000 in
set_option maxRecDepth 100000 in
theorem m_J3_isEmpty (l : Launch) (D : va_G) (dA : Nat → ClassId) (b0 : Nat) (gs : Nat → Option Nat) (h : PH) (a0 : Nat) {r : Int32} {hh : PH} {mc ms : Nat} (hf : f_J3_isEmpty h a0 = some (r, hh, mc, ms)) : zMt l D dA b0 gs yJ3_isEmpty cJ3_isEmpty 1 (some .boolean) 1 60 [.ref a0] h (evI r) hh mc ms := by
  unfold f_J3_isEmpty at hf
  refine zMt.of (by decide) (Nat.le_of_ble_eq_true rfl) ?_
  intro p e s m args below meth c hc hr hin hn ls hl
  have hl : lv_has ls 1 [(0, .ref a0)] := hl
  have hq : 0 + mc = mc ∧ 0 + ms = ms := ⟨Nat.zero_add _, Nat.zero_add _⟩
  have hx := hc.x
  have hb := hc.b
  refine lv_aload_n (x := a0) hx hb dJ3_isEmpty_0 rfl (lv_at hl 0 rfl) ?_
  refine zr_gI hc hn (ci := 13) rfl rfl in_J3 1 (by decide) q214 (fun _ h => h) (fun _ _ _ => rfl) hf dJ3_isEmpty_1 (fun x101 hf => ?_)
  refine lv_aload_n (x := a0) hx hb dJ3_isEmpty_4 rfl (lv_at hl 0 rfl) ?_
  refine zr_gI hc hn (ci := 13) rfl rfl in_J3 2 (by decide) q215 (fun _ h => h) (fun _ _ _ => rfl) hf dJ3_isEmpty_5 (fun x102 hf => ?_)
  refine lv_icmp_ne (tgt := 15) hx hb dJ3_isEmpty_8 (by decide) (fun c9 => ?_) (fun c9 => ?_)
  · have hf := zif_f c9 hf
    refine lv_iconst (v := (0 : Int32)) hx hb dJ3_isEmpty_15 (by decide) ?_
    obtain ⟨rfl, rfl, rfl, rfl⟩ := zret_i hf
    exact zr_zret hc hn hr (by decide) hq (fun _ _ _ _ q => q) dJ3_isEmpty_16
  · have hf := zif_t c9 hf
    refine lv_iconst (v := (1 : Int32)) hx hb dJ3_isEmpty_11 (by decide) ?_
    refine lv_goto (tgt := 16) hx hb dJ3_isEmpty_12 (by decide) ?_
    obtain ⟨rfl, rfl, rfl, rfl⟩ := zret_i hf
    exact zr_zret hc hn hr (by decide) hq (fun _ _ _ _ q => q) dJ3_isEmpty_16
theorem hd_J3_dec : yJ3_dec.cls ≠ "java/lang/invoke/MethodHandle" ∧ yJ3_dec.cls ≠ "java/lang/invoke/VarHandle" ∧ (parseMethodDescriptor yJ3_dec.desc).map (fun d => d.parameters.length) = some 2 := by decide +kernel
def f_J3_dec (h : PH) (v0 : Int32) (v1 : Int32) : ZR Int32 :=
  znm (v0 + (-1 : Int32)) fun x101 =>
  if 0 ≤ x101 then
    (zret x101 h)
  else
    (znm (v1 - (1 : Int32)) fun x102 =>
    zret x102 h)
set_option maxHeartbeats 4000000 in
set_option maxRecDepth 100000 in
theorem m_J3_dec (l : Launch) (D : va_G) (dA : Nat → ClassId) (b0 : Nat) (gs : Nat → Option Nat) (h : PH) (v0 : Int32) (v1 : Int32) {r : Int32} {hh : PH} {mc ms : Nat} (hf : f_J3_dec h v0 v1 = some (r, hh, mc, ms)) : zMt l D dA b0 gs yJ3_dec cJ3_dec 2 (some .int) 1 60 [.int v0, .int v1] h (evI r) hh mc ms := by
  unfold f_J3_dec at hf
  refine zMt.of (by decide) (Nat.le_of_ble_eq_true rfl) ?_
  intro p e s m args below meth c hc hr hin hn ls hl
  have hl : lv_has ls 2 [(0, .int v0), (1, .int v1)] := hl
  have hq : 0 + mc = mc ∧ 0 + ms = ms := ⟨Nat.zero_add _, Nat.zero_add _⟩
  have hx := hc.x
  have hb := hc.b
  obtain ⟨x101, ex101, hf⟩ := znm_i hf
  refine lv_iinc (v := x101) (lv' := [(0, .int x101), (1, .int v1)]) hx hb dJ3_dec_0 hl (k := 0) rfl (by rw [ex101]; rfl) (by decide) rfl (fun ls hl => ?_)
  refine lv_iload_n hx hb dJ3_dec_3 rfl (lv_at hl 0 rfl) ?_
  refine lv_if_ge (tgt := 11) hx hb dJ3_dec_4 (by decide) (fun c9 => ?_) (fun c9 => ?_)
  · have hf := zif_t c9 hf
    refine lv_iload_n hx hb dJ3_dec_11 rfl (lv_at hl 0 rfl) ?_
    obtain ⟨rfl, rfl, rfl, rfl⟩ := zret_i hf
    exact zr_iret hc hn hr hq (fun _ _ _ _ q => q) dJ3_dec_12
  · have hf := zif_f c9 hf
    refine lv_iload_n hx hb dJ3_dec_7 rfl (lv_at hl 1 rfl) ?_
    refine lv_iconst (v := (1 : Int32)) hx hb dJ3_dec_8 (by decide) ?_
    refine lv_isub hx hb dJ3_dec_9 ?_
    refine zr_nmI hf (fun x102 hf => ?_)
    refine lv_istore_n (i := 0) (lv' := [(0, .int x102), (1, .int v1)]) hx hb dJ3_dec_10 rfl hl (by decide) rfl (fun ls hl => ?_)
    refine lv_iload_n hx hb dJ3_dec_11 rfl (lv_at hl 0 rfl) ?_
    obtain ⟨rfl, rfl, rfl, rfl⟩ := zret_i hf
    exact zr_iret hc hn hr hq (fun _ _ _ _ q => q) dJ3_dec_12
theorem hd_J3_pollLast : yJ3_pollLast.cls ≠ "java/lang/invoke/MethodHandle" ∧ yJ3_pollLast.cls ≠ "java/lang/invoke/VarHandle" ∧ (parseMethodDescriptor yJ3_pollLast.desc).map (fun d => d.parameters.length) = some 0 := by decide +kernel
def f_J3_pollLast (h : PH) (a0 : Nat) : ZR (Option Nat) :=
  zgP h a0 13 0 fun x101 =>
  zgI h a0 13 2 fun x102 =>
  znn x101 fun a103 =>
  zlen h a103 9 fun x104 =>
  zcl (f_J3_dec h x102 x104) fun x105 h106 =>
  zcl (f_J3_elementAt h106 a103 x105) fun x107 h108 =>
  znul x107
    (zret (none : Option Nat) h108)
    (fun a109 =>
      zpI h108 a0 13 2 x105 fun h110 =>
      zsO h110 a103 9 x105 (none : Option Nat) fun h111 =>
      zret (some a109) h111)
set_option maxHeartbeats 4000000 in
set_option maxRecDepth 100000 in
theorem m_J3_pollLast (l : Launch) (D : va_G) (dA : Nat → ClassId) (b0 : Nat) (gs : Nat → Option Nat) (h : PH) (a0 : Nat) {r : (Option Nat)} {hh : PH} {mc ms : Nat} (hf : f_J3_pollLast h a0 = some (r, hh, mc, ms)) : zMt l D dA b0 gs yJ3_pollLast cJ3_pollLast 4 (some (.object "java/lang/Object")) 2 81 [.ref a0] h (evP r) hh mc ms := by
  unfold f_J3_pollLast at hf
  refine zMt.of (by decide) (Nat.le_of_ble_eq_true rfl) ?_
  intro p e s m args below meth c hc hr hin hn ls hl
  have hl : lv_has ls 4 [(0, .ref a0)] := hl
  have hq : 0 + mc = mc ∧ 0 + ms = ms := ⟨Nat.zero_add _, Nat.zero_add _⟩
  have hx := hc.x
  have hb := hc.b
  refine lv_aload_n (x := a0) hx hb dJ3_pollLast_0 rfl (lv_at hl 0 rfl) ?_
  refine zr_gP hc hn (ci := 13) rfl rfl in_J3 0 (by decide) q213 (fun _ h => h) (fun _ _ _ => rfl) hf dJ3_pollLast_1 (fun x101 hf => ?_)
  refine lv_dup hx hb dJ3_pollLast_4 (zcat_rf _) ?_
  refine zr_astore_n (x := x101) (i := 1) (lv' := [(1, va_rf x101), (0, .ref a0)]) hx hb dJ3_pollLast_5 rfl hl (by decide) rfl (fun ls hl => ?_)
  refine lv_aload_n (x := a0) hx hb dJ3_pollLast_6 rfl (lv_at hl 1 rfl) ?_
  refine zr_gI hc hn (ci := 13) rfl rfl in_J3 2 (by decide) q215 (fun _ h => h) (fun _ _ _ => rfl) hf dJ3_pollLast_7 (fun x102 hf => ?_)
  refine zr_aload_n (x := x101) hx hb dJ3_pollLast_10 rfl (lv_at hl 0 rfl) ?_
  obtain ⟨a103, e9, hf9⟩ := znn_i hf
  subst e9
  have hf := hf9
  clear hf9
  refine zr_len (ai := 9) hc hn hf dJ3_pollLast_11 (fun x104 hf => ?_)
  refine zr_cSI (As := [.int x102, .int x104]) (rest := [.ref a103]) hc hn hq hd_J3_dec (lw_S q2072 q2073 q90 q2074) (Nat.le_of_ble_eq_true rfl) (Nat.le_of_ble_eq_true rfl) (fun _ _ _ _ q => m_J3_dec l D dA b0 gs h x102 x104 q) hf dJ3_pollLast_12 hl.1 rfl rfl (zroom (Nat.le_of_ble_eq_true rfl)) (fun x105 h106 H locs cells slots C9 S9 hf hq hn => ?_)
  refine lv_dup hx hb dJ3_pollLast_15 rfl ?_
  refine lv_istore_n (i := 2) (lv' := [(2, .int x105), (1, .ref a103), (0, .ref a0)]) hx hb dJ3_pollLast_16 rfl hl (by decide) rfl (fun ls hl => ?_)
  refine zr_cSP (As := [.ref a103, .int x105]) (rest := []) hc hn hq hd_J3_elementAt (lw_S q1900 q1901 q90 q1902) (Nat.le_of_ble_eq_true rfl) (Nat.le_of_ble_eq_true rfl) (fun _ _ _ _ q => m_J3_elementAt l D dA b0 gs h106 a103 x105 q) hf dJ3_pollLast_17 hl.1 rfl rfl (zroom (Nat.le_of_ble_eq_true rfl)) (fun x107 h108 H locs cells slots C9 S9 hf hq hn => ?_)
  refine zr_astore_n (x := x107) (i := 3) (lv' := [(3, va_rf x107), (2, .int x105), (1, .ref a103), (0, .ref a0)]) hx hb dJ3_pollLast_20 rfl hl (by decide) rfl (fun ls hl => ?_)
  refine zr_aload_n (x := x107) hx hb dJ3_pollLast_21 rfl (lv_at hl 0 rfl) ?_
  refine zr_ifnull (tgt := 34) hx hb hf dJ3_pollLast_22 (by decide) (fun e9 hf9 => ?_) (fun a109 e9 hf9 => ?_)
  · subst e9
    have hf := hf9
    clear hf9
    refine lv_aload_nN hx hb dJ3_pollLast_34 rfl (lv_at hl 0 rfl) ?_
    obtain ⟨rfl, rfl, rfl, rfl⟩ := zret_i hf
    exact zr_aret (x := (none : Option Nat)) hc hn hr (Or.inl ⟨_, rfl⟩) hq (fun _ _ _ _ q => q) dJ3_pollLast_35
  · subst e9
    have hf := hf9
    clear hf9
    refine lv_aload_n (x := a103) hx hb dJ3_pollLast_25 rfl (lv_at hl 2 rfl) ?_
    refine lv_aload_n (x := a0) hx hb dJ3_pollLast_26 rfl (lv_at hl 3 rfl) ?_
    refine lv_iload_n hx hb dJ3_pollLast_27 rfl (lv_at hl 1 rfl) ?_
    refine lv_dup_x1 hx hb dJ3_pollLast_28 rfl rfl ?_
    refine zr_pI (x := x105) hc hn (ci := 13) rfl rfl in_J3 2 (by decide) tyJ3 tyJ3_ok nmJ3 q215 (fun _ h => h) (Or.inl rfl) (fun _ _ _ => rfl) rfl rfl hf dJ3_pollLast_29 (fun h110 H locs hf hn => ?_)
    refine lv_null hx hb dJ3_pollLast_32 ?_
    refine zr_sO (ai := 9) (x := (none : Option Nat)) (by decide) hc hn hf dJ3_pollLast_33 (fun h111 H locs hf hn => ?_)
    refine lv_aload_n (x := a109) hx hb dJ3_pollLast_34 rfl (lv_at hl 0 rfl) ?_
    obtain ⟨rfl, rfl, rfl, rfl⟩ := zret_i hf
    exact zr_aret (x := (some a109)) hc hn hr (Or.inl ⟨_, rfl⟩) hq (fun _ _ _ _ q => q) dJ3_pollLast_35
theorem hd_J4_init_3 : yJ4_init_3.cls ≠ "java/lang/invoke/MethodHandle" ∧ yJ4_init_3.cls ≠ "java/lang/invoke/VarHandle" ∧ (parseMethodDescriptor yJ4_init_3.desc).map (fun d => d.parameters.length) = some 4 := by decide +kernel
def f_J4_init_3 (h : PH) (a0 : Nat) (o1 : Option Nat) (o2 : Option Nat) (v3 : Int32) (v4 : Int32) : ZR Unit :=
  zpP h a0 5 0 (some a0) fun h101 =>
  znm (zS h101 2) fun x102 =>
  zpP h101 a0 5 1 x102 fun h103 =>
  znm (zS h103 3) fun x104 =>
  zpP h103 a0 5 2 x104 fun h105 =>
  if v4 = 0 then
    (zpP h105 a0 5 1 (none : Option Nat) fun h106 =>
    zpP h106 a0 5 3 o1 fun h107 =>
    zpP h107 a0 5 0 o2 fun h108 =>
    if v3 = 0 then
      (zpP h108 a0 5 2 (none : Option Nat) fun h109 =>
      zret () h109)
    else
      (zret () h108))
  else
    (none)
set_option maxHeartbeats 4000000 in
set_option maxRecDepth 100000 in
theorem m_J4_init_3 (l : Launch) (D : va_G) (dA : Nat → ClassId) (b0 : Nat) (gs : Nat → Option Nat) (h : PH) (a0 : Nat) (o1 : Option Nat) (o2 : Option Nat) (v3 : Int32) (v4 : Int32) {r : Unit} {hh : PH} {mc ms : Nat} (hf : f_J4_init_3 h a0 o1 o2 v3 v4 = some (r, hh, mc, ms)) : zMt l D dA b0 gs yJ4_init_3 cJ4_init_3 5 none 1 60 [.ref a0, va_rf o1, va_rf o2, .int v3, .int v4] h (evU r) hh mc ms := by
  unfold f_J4_init_3 at hf
  refine zMt.of (by decide) (by simp [lg_sl, zcat_rf, zcat_i, zcat_l, zcat_d, zcat_r, zcat_n]) ?_
  intro p e s m args below meth c hc hr hin hn ls hl
  have hl : lv_has ls 5 [(0, .ref a0), (1, va_rf o1), (2, va_rf o2), (3, .int v3), (4, .int v4)] := by simpa [lv_args, zcat_rf, zcat_i, zcat_l, zcat_d, zcat_r, zcat_n] using hl
  have hq : 0 + mc = mc ∧ 0 + ms = ms := ⟨Nat.zero_add _, Nat.zero_add _⟩
  have hx := hc.x
  have hb := hc.b
  refine lv_aload_n (x := a0) hx hb dJ4_init_3_0 rfl (lv_at hl 0 rfl) ?_
  refine W.objInit hx hb hc.ow (hc.ts _ q314) (hc.ts _ q137) (hc.ts _ q138) rfl (by rw [hc.ml]; exact hl.1) rfl dJ4_init_3_1 (Nat.le_of_ble_eq_true rfl) (zroomL (Nat.le_of_ble_eq_true rfl) (Nat.le_of_ble_eq_true rfl)) ?_
  refine W.eq (g2 := F0 m 4 ls []) rfl ?_
  refine lv_aload_n (x := a0) hx hb dJ4_init_3_4 rfl (lv_at hl 0 rfl) ?_
  refine lv_aload_n (x := a0) hx hb dJ4_init_3_5 rfl (lv_at hl 0 rfl) ?_
  refine zr_pP (x := (some a0)) hc hn (ci := 5) rfl rfl in_X6 0 (by decide) tyX6 tyX6_ok nmX6 q345 (fun _ h => h) (Or.inl rfl) (fun _ _ _ => rfl) (zn_rf _ (by decide)) (zf_rf _ (by decide)) hf dJ4_init_3_6 (fun h101 H locs hf hn => ?_)
  refine lv_aload_n (x := a0) hx hb dJ4_init_3_9 rfl (lv_at hl 0 rfl) ?_
  refine zr_gs hc hn (hc.st2) q315 (fun _ h => h) hf dJ4_init_3_10 (fun x102 hf => ?_)
  refine zr_pP (x := x102) hc hn (ci := 5) rfl rfl in_X6 1 (by decide) tyX6 tyX6_ok nmX6 q346 (fun _ h => h) (Or.inl rfl) (fun _ _ _ => rfl) (zn_rf _ (by decide)) (zf_rf _ (by decide)) hf dJ4_init_3_13 (fun h103 H locs hf hn => ?_)
  refine lv_aload_n (x := a0) hx hb dJ4_init_3_16 rfl (lv_at hl 0 rfl) ?_
  refine zr_gs hc hn (hc.st3) q317 (fun _ h => h) hf dJ4_init_3_17 (fun x104 hf => ?_)
  refine zr_pP (x := x104) hc hn (ci := 5) rfl rfl in_X6 2 (by decide) tyX6 tyX6_ok nmX6 q347 (fun _ h => h) (Or.inl rfl) (fun _ _ _ => rfl) (zn_rf _ (by decide)) (zf_rf _ (by decide)) hf dJ4_init_3_20 (fun h105 H locs hf hn => ?_)
  refine lv_iload hx hb dJ4_init_3_23 (lv_at hl 4 rfl) ?_
  refine lv_if_eq (tgt := 36) hx hb dJ4_init_3_25 (by decide) (fun c9 => ?_) (fun c9 => ?_)
  · have hf := zif_t c9 hf
    refine lv_aload_n (x := a0) hx hb dJ4_init_3_36 rfl (lv_at hl 0 rfl) ?_
    refine lv_null hx hb dJ4_init_3_37 ?_
    refine zr_pP (x := (none : Option Nat)) hc hn (ci := 5) rfl rfl in_X6 1 (by decide) tyX6 tyX6_ok nmX6 q346 (fun _ h => h) (Or.inl rfl) (fun _ _ _ => rfl) (zn_rf _ (by decide)) (zf_rf _ (by decide)) hf dJ4_init_3_38 (fun h106 H locs hf hn => ?_)
    refine lv_aload_n (x := a0) hx hb dJ4_init_3_41 rfl (lv_at hl 0 rfl) ?_
    refine zr_aload_n (x := o1) hx hb dJ4_init_3_42 rfl (lv_at hl 1 rfl) ?_
    refine zr_pP (x := o1) hc hn (ci := 5) rfl rfl in_X6 3 (by decide) tyX6 tyX6_ok nmX6 q344 (fun _ h => h) (Or.inl rfl) (fun _ _ _ => rfl) (zn_rf _ (by decide)) (zf_rf _ (by decide)) hf dJ4_init_3_43 (fun h107 H locs hf hn => ?_)
    refine lv_aload_n (x := a0) hx hb dJ4_init_3_46 rfl (lv_at hl 0 rfl) ?_
    refine zr_aload_n (x := o2) hx hb dJ4_init_3_47 rfl (lv_at hl 2 rfl) ?_
    refine zr_pP (x := o2) hc hn (ci := 5) rfl rfl in_X6 0 (by decide) tyX6 tyX6_ok nmX6 q345 (fun _ h => h) (Or.inl rfl) (fun _ _ _ => rfl) (zn_rf _ (by decide)) (zf_rf _ (by decide)) hf dJ4_init_3_48 (fun h108 H locs hf hn => ?_)
    refine lv_iload_n hx hb dJ4_init_3_51 rfl (lv_at hl 3 rfl) ?_
    refine lv_if_ne (tgt := 60) hx hb dJ4_init_3_52 (by decide) (fun c9 => ?_) (fun c9 => ?_)
    · have hf := zif_f c9 hf
      obtain ⟨rfl, rfl, rfl, rfl⟩ := zret_i hf
      exact zr_vret hc hn hr hq (fun _ _ _ _ q => q) dJ4_init_3_60
    · have hf := zif_t c9 hf
      refine lv_aload_n (x := a0) hx hb dJ4_init_3_55 rfl (lv_at hl 0 rfl) ?_
      refine lv_null hx hb dJ4_init_3_56 ?_
      refine zr_pP (x := (none : Option Nat)) hc hn (ci := 5) rfl rfl in_X6 2 (by decide) tyX6 tyX6_ok nmX6 q347 (fun _ h => h) (Or.inl rfl) (fun _ _ _ => rfl) (zn_rf _ (by decide)) (zf_rf _ (by decide)) hf dJ4_init_3_57 (fun h109 H locs hf hn => ?_)
      obtain ⟨rfl, rfl, rfl, rfl⟩ := zret_i hf
      exact zr_vret hc hn hr hq (fun _ _ _ _ q => q) dJ4_init_3_60
  · have hf := zif_f c9 hf
    cases hf
theorem hd_J5_init_3 : yJ5_init_3.cls ≠ "java/lang/invoke/MethodHandle" ∧ yJ5_init_3.cls ≠ "java/lang/invoke/VarHandle" ∧ (parseMethodDescriptor yJ5_init_3.desc).map (fun d => d.parameters.length) = some 4 := by decide +kernel
def f_J5_init_3 (h : PH) (a0 : Nat) (o1 : Option Nat) (o2 : Option Nat) (v3 : Int32) (v4 : Int32) : ZR Unit :=
  zcl (f_J4_init_3 h a0 o1 o2 v3 v4) fun _ h102 =>
  zret () h102
set_option maxHeartbeats 4000000 in
set_option maxRecDepth 100000 in
theorem m_J5_init_3 (l : Launch) (D : va_G) (dA : Nat → ClassId) (b0 : Nat) (gs : Nat → Option Nat) (h : PH) (a0 : Nat) (o1 : Option Nat) (o2 : Option Nat) (v3 : Int32) (v4 : Int32) {r : Unit} {hh : PH} {mc ms : Nat} (hf : f_J5_init_3 h a0 o1 o2 v3 v4 = some (r, hh, mc, ms)) : zMt l D dA b0 gs yJ5_init_3 cJ5_init_3 5 none 2 84 [.ref a0, va_rf o1, va_rf o2, .int v3, .int v4] h (evU r) hh mc ms := by
  unfold f_J5_init_3 at hf
  refine zMt.of (by decide) (by simp [lg_sl, zcat_rf, zcat_i, zcat_l, zcat_d, zcat_r, zcat_n]) ?_
  intro p e s m args below meth c hc hr hin hn ls hl
  have hl : lv_has ls 5 [(0, .ref a0), (1, va_rf o1), (2, va_rf o2), (3, .int v3), (4, .int v4)] := by simpa [lv_args, zcat_rf, zcat_i, zcat_l, zcat_d, zcat_r, zcat_n] using hl
  have hq : 0 + mc = mc ∧ 0 + ms = ms := ⟨Nat.zero_add _, Nat.zero_add _⟩
  have hx := hc.x
  have hb := hc.b
  refine lv_aload_n (x := a0) hx hb dJ5_init_3_0 rfl (lv_at hl 0 rfl) ?_
  refine zr_aload_n (x := o1) hx hb dJ5_init_3_1 rfl (lv_at hl 1 rfl) ?_
  refine zr_aload_n (x := o2) hx hb dJ5_init_3_2 rfl (lv_at hl 2 rfl) ?_
  refine lv_iload_n hx hb dJ5_init_3_3 rfl (lv_at hl 3 rfl) ?_
  refine lv_iload hx hb dJ5_init_3_4 (lv_at hl 4 rfl) ?_
  refine zr_cI (As := [va_rf o1, va_rf o2, .int v3, .int v4]) (rest := []) hc hn hq rfl hd_J4_init_3 (lw_meth q793) q791 q792 q92 (Nat.le_of_ble_eq_true rfl) (Nat.le_of_ble_eq_true rfl) (fun _ _ _ _ q => m_J4_init_3 l D dA b0 gs h a0 o1 o2 v3 v4 q) hf dJ5_init_3_6 hl.1 rfl rfl (zroom (Nat.le_of_ble_eq_true rfl)) (fun x101 h102 H locs cells slots C9 S9 hf hq hn => ?_)
  obtain ⟨rfl, rfl, rfl, rfl⟩ := zret_i hf
  exact zr_vret hc hn hr hq (fun _ _ _ _ q => q) dJ5_init_3_9
theorem hd_X13_init : yX13_init.cls ≠ "java/lang/invoke/MethodHandle" ∧ yX13_init.cls ≠ "java/lang/invoke/VarHandle" ∧ (parseMethodDescriptor yX13_init.desc).map (fun d => d.parameters.length) = some 2 := by decide +kernel
def f_X13_init (h : PH) (a0 : Nat) (v1 : Int32) (v2 : Int32) : ZR Unit :=
  zpI h a0 11 0 v1 fun h101 =>
  zpI h101 a0 11 1 v2 fun h102 =>
  zret () h102
set_option maxHeartbeats 4000000 in
set_option maxRecDepth 100000 in
theorem m_X13_init (l : Launch) (D : va_G) (dA : Nat → ClassId) (b0 : Nat) (gs : Nat → Option Nat) (h : PH) (a0 : Nat) (v1 : Int32) (v2 : Int32) {r : Unit} {hh : PH} {mc ms : Nat} (hf : f_X13_init h a0 v1 v2 = some (r, hh, mc, ms)) : zMt l D dA b0 gs yX13_init cX13_init 3 none 1 60 [.ref a0, .int v1, .int v2] h (evU r) hh mc ms := by
  unfold f_X13_init at hf
  refine zMt.of (by decide) (Nat.le_of_ble_eq_true rfl) ?_
  intro p e s m args below meth c hc hr hin hn ls hl
  have hl : lv_has ls 3 [(0, .ref a0), (1, .int v1), (2, .int v2)] := hl
  have hq : 0 + mc = mc ∧ 0 + ms = ms := ⟨Nat.zero_add _, Nat.zero_add _⟩
  have hx := hc.x
  have hb := hc.b
  refine lv_aload_n (x := a0) hx hb dX13_init_0 rfl (lv_at hl 0 rfl) ?_
  refine W.objInit hx hb hc.ow (hc.ts _ q1458) (hc.ts _ q137) (hc.ts _ q138) rfl (by rw [hc.ml]; exact hl.1) rfl dX13_init_1 (Nat.le_of_ble_eq_true rfl) (zroomL (Nat.le_of_ble_eq_true rfl) (Nat.le_of_ble_eq_true rfl)) ?_
  refine W.eq (g2 := F0 m 4 ls []) rfl ?_
  refine lv_aload_n (x := a0) hx hb dX13_init_4 rfl (lv_at hl 0 rfl) ?_
  refine lv_iload_n hx hb dX13_init_5 rfl (lv_at hl 1 rfl) ?_
  refine zr_pI (x := v1) hc hn (ci := 11) rfl rfl in_X13 0 (by decide) tyX13 tyX13_ok nmX13 q1459 (fun _ h => h) (Or.inr ⟨rfl, hin, rfl⟩) (fun _ _ _ => rfl) rfl rfl hf dX13_init_6 (fun h101 H locs hf hn => ?_)
  refine lv_aload_n (x := a0) hx hb dX13_init_9 rfl (lv_at hl 0 rfl) ?_
  refine lv_iload_n hx hb dX13_init_10 rfl (lv_at hl 2 rfl) ?_
  refine zr_pI (x := v2) hc hn (ci := 11) rfl rfl in_X13 1 (by decide) tyX13 tyX13_ok nmX13 q1461 (fun _ h => h) (Or.inr ⟨rfl, hin, rfl⟩) (fun _ _ _ => rfl) rfl rfl hf dX13_init_11 (fun h102 H locs hf hn => ?_)
  obtain ⟨rfl, rfl, rfl, rfl⟩ := zret_i hf
  exact zr_vret hc hn hr hq (fun _ _ _ _ q => q) dX13_init_14
theorem hd_X13_compareTo_2 : yX13_compareTo_2.cls ≠ "java/lang/invoke/MethodHandle" ∧ yX13_compareTo_2.cls ≠ "java/lang/invoke/VarHandle" ∧ (parseMethodDescriptor yX13_compareTo_2.desc).map (fun d => d.parameters.length) = some 1 := by decide +kernel
def f_X13_compareTo_2 (h : PH) (a0 : Nat) (a1 : Nat) : ZR Int32 :=
  zgI h a0 11 1 fun x101 =>
  zgI h a1 11 1 fun x102 =>
  if x101 = x102 then
    (zgI h a0 11 0 fun x103 =>
    zgI h a1 11 0 fun x104 =>
    zcl (f_J21_compare h x103 x104) fun x105 h106 =>
    zret x105 h106)
  else
    (zgI h a1 11 1 fun x107 =>
    zgI h a0 11 1 fun x108 =>
    zcl (f_J21_compare h x107 x108) fun x109 h110 =>
    zret x109 h110)
set_option maxHeartbeats 4000000 in
set_option maxRecDepth 100000 in
theorem m_X13_compareTo_2 (l : Launch) (D : va_G) (dA : Nat → ClassId) (b0 : Nat) (gs : Nat → Option Nat) (h : PH) (a0 : Nat) (a1 : Nat) {r : Int32} {hh : PH} {mc ms : Nat} (hf : f_X13_compareTo_2 h a0 a1 = some (r, hh, mc, ms)) : zMt l D dA b0 gs yX13_compareTo_2 cX13_compareTo_2 2 (some .int) 2 81 [.ref a0, .ref a1] h (evI r) hh mc ms := by
  unfold f_X13_compareTo_2 at hf
  refine zMt.of (by decide) (Nat.le_of_ble_eq_true rfl) ?_
  intro p e s m args below meth c hc hr hin hn ls hl
  have hl : lv_has ls 2 [(0, .ref a0), (1, .ref a1)] := hl
  have hq : 0 + mc = mc ∧ 0 + ms = ms := ⟨Nat.zero_add _, Nat.zero_add _⟩
  have hx := hc.x
  have hb := hc.b
  refine lv_aload_n (x := a0) hx hb dX13_compareTo_2_0 rfl (lv_at hl 0 rfl) ?_
  refine zr_gI hc hn (ci := 11) rfl rfl in_X13 1 (by decide) q1461 (fun _ h => h) (fun _ _ _ => rfl) hf dX13_compareTo_2_1 (fun x101 hf => ?_)
  refine lv_aload_n (x := a1) hx hb dX13_compareTo_2_4 rfl (lv_at hl 1 rfl) ?_
  refine zr_gI hc hn (ci := 11) rfl rfl in_X13 1 (by decide) q1461 (fun _ h => h) (fun _ _ _ => rfl) hf dX13_compareTo_2_5 (fun x102 hf => ?_)
  refine lv_icmp_eq (tgt := 25) hx hb dX13_compareTo_2_8 (by decide) (fun c9 => ?_) (fun c9 => ?_)
  · have hf := zif_t c9 hf
    refine lv_aload_n (x := a0) hx hb dX13_compareTo_2_25 rfl (lv_at hl 0 rfl) ?_
    refine zr_gI hc hn (ci := 11) rfl rfl in_X13 0 (by decide) q1459 (fun _ h => h) (fun _ _ _ => rfl) hf dX13_compareTo_2_26 (fun x103 hf => ?_)
    refine lv_aload_n (x := a1) hx hb dX13_compareTo_2_29 rfl (lv_at hl 1 rfl) ?_
    refine zr_gI hc hn (ci := 11) rfl rfl in_X13 0 (by decide) q1459 (fun _ h => h) (fun _ _ _ => rfl) hf dX13_compareTo_2_30 (fun x104 hf => ?_)
    refine zr_cSI (As := [.int x103, .int x104]) (rest := []) hc hn hq hd_J21_compare (lw_S q1544 q1545 q113 q1546) (Nat.le_of_ble_eq_true rfl) (Nat.le_of_ble_eq_true rfl) (fun _ _ _ _ q => m_J21_compare l D dA b0 gs h x103 x104 q) hf dX13_compareTo_2_33 hl.1 rfl rfl (zroom (Nat.le_of_ble_eq_true rfl)) (fun x105 h106 H locs cells slots C9 S9 hf hq hn => ?_)
    obtain ⟨rfl, rfl, rfl, rfl⟩ := zret_i hf
    exact zr_iret hc hn hr hq (fun _ _ _ _ q => q) dX13_compareTo_2_36
  · have hf := zif_f c9 hf
    refine lv_aload_n (x := a1) hx hb dX13_compareTo_2_11 rfl (lv_at hl 1 rfl) ?_
    refine zr_gI hc hn (ci := 11) rfl rfl in_X13 1 (by decide) q1461 (fun _ h => h) (fun _ _ _ => rfl) hf dX13_compareTo_2_12 (fun x107 hf => ?_)
    refine lv_aload_n (x := a0) hx hb dX13_compareTo_2_15 rfl (lv_at hl 0 rfl) ?_
    refine zr_gI hc hn (ci := 11) rfl rfl in_X13 1 (by decide) q1461 (fun _ h => h) (fun _ _ _ => rfl) hf dX13_compareTo_2_16 (fun x108 hf => ?_)
    refine zr_cSI (As := [.int x107, .int x108]) (rest := []) hc hn hq hd_J21_compare (lw_S q1544 q1545 q113 q1546) (Nat.le_of_ble_eq_true rfl) (Nat.le_of_ble_eq_true rfl) (fun _ _ _ _ q => m_J21_compare l D dA b0 gs h x107 x108 q) hf dX13_compareTo_2_19 hl.1 rfl rfl (zroom (Nat.le_of_ble_eq_true rfl)) (fun x109 h110 H locs cells slots C9 S9 hf hq hn => ?_)
    refine lv_goto (tgt := 36) hx hb dX13_compareTo_2_22 (by decide) ?_
    obtain ⟨rfl, rfl, rfl, rfl⟩ := zret_i hf
    exact zr_iret hc hn hr hq (fun _ _ _ _ q => q) dX13_compareTo_2_36
theorem hd_X13_compareTo : yX13_compareTo.cls ≠ "java/lang/invoke/MethodHandle" ∧ yX13_compareTo.cls ≠ "java/lang/invoke/VarHandle" ∧ (parseMethodDescriptor yX13_compareTo.desc).map (fun d => d.parameters.length) = some 1 := by decide +kernel
def f_X13_compareTo (h : PH) (a0 : Nat) (a1 : Nat) : ZR Int32 :=
  zcast h 11 (some a1) <|
  zrc h a0 11 <| zcl (f_X13_compareTo_2 h a0 a1) fun x101 h102 =>
  zret x101 h102
set_option maxHeartbeats 4000000 in
set_option maxRecDepth 100000 in
theorem m_X13_compareTo (l : Launch) (D : va_G) (dA : Nat → ClassId) (b0 : Nat) (gs : Nat → Option Nat) (h : PH) (a0 : Nat) (a1 : Nat) {r : Int32} {hh : PH} {mc ms : Nat} (hf : f_X13_compareTo h a0 a1 = some (r, hh, mc, ms)) : zMt l D dA b0 gs yX13_compareTo cX13_compareTo 2 (some .int) 3 102 [.ref a0, .ref a1] h (evI r) hh mc ms := by
  unfold f_X13_compareTo at hf
  refine zMt.of (by decide) (Nat.le_of_ble_eq_true rfl) ?_
  intro p e s m args below meth c hc hr hin hn ls hl
  have hl : lv_has ls 2 [(0, .ref a0), (1, .ref a1)] := hl
  have hq : 0 + mc = mc ∧ 0 + ms = ms := ⟨Nat.zero_add _, Nat.zero_add _⟩
  have hx := hc.x
  have hb := hc.b
  refine lv_aload_n (x := a0) hx hb dX13_compareTo_0 rfl (lv_at hl 0 rfl) ?_
  refine lv_aload_n (x := a1) hx hb dX13_compareTo_1 rfl (lv_at hl 1 rfl) ?_
  refine zr_cast (o := (some a1)) hc hn (ci := 11) rfl q1539 (Or.inl rfl) hf dX13_compareTo_2 (fun hf => ?_)
  refine zr_cVI (As := [.ref a1]) (rest := []) hc hn hq (ci := 11) rfl ⟨rfl, hd_X13_compareTo_2⟩ (lw_V q1540 q1541 q1542 q127 q1543) (Nat.le_of_ble_eq_true rfl) (Nat.le_of_ble_eq_true rfl) (fun _ _ _ _ q => m_X13_compareTo_2 l D dA b0 gs h a0 a1 q) hf dX13_compareTo_5 hl.1 rfl rfl (zroom (Nat.le_of_ble_eq_true rfl)) (fun x101 h102 H locs cells slots C9 S9 hf hq hn => ?_)
  obtain ⟨rfl, rfl, rfl, rfl⟩ := zret_i hf
  exact zr_iret hc hn hr hq (fun _ _ _ _ q => q) dX13_compareTo_8
theorem hd_J13_toString : yJ13_toString.cls ≠ "java/lang/invoke/MethodHandle" ∧ yJ13_toString.cls ≠ "java/lang/invoke/VarHandle" ∧ (parseMethodDescriptor yJ13_toString.desc).map (fun d => d.parameters.length) = some 0 := by decide +kernel
def f_J13_toString (h : PH) (a0 : Nat) : ZR Nat :=
  zno h 14 4 fun a101 h102 =>
  zcl (f_J10_init h102 a101 a0) fun _ h104 =>
  zret a101 h104
set_option maxHeartbeats 4000000 in
set_option maxRecDepth 100000 in
theorem m_J13_toString (l : Launch) (D : va_G) (dA : Nat → ClassId) (b0 : Nat) (gs : Nat → Option Nat) (h : PH) (a0 : Nat) {r : Nat} {hh : PH} {mc ms : Nat} (hf : f_J13_toString h a0 = some (r, hh, mc, ms)) : zMt l D dA b0 gs yJ13_toString cJ13_toString 1 (some (.object "java/lang/String")) 6 172 [.ref a0] h (evN r) hh mc ms := by
  unfold f_J13_toString at hf
  refine zMt.of (by decide) (Nat.le_of_ble_eq_true rfl) ?_
  intro p e s m args below meth c hc hr hin hn ls hl
  have hl : lv_has ls 1 [(0, .ref a0)] := hl
  have hq : 0 + mc = mc ∧ 0 + ms = ms := ⟨Nat.zero_add _, Nat.zero_add _⟩
  have hx := hc.x
  have hb := hc.b
  refine zr_new hc hn hq (ci := 14) rfl rfl in_J10s tyJ10s_ok q577 q386 q98 (zd_J10) hf dJ13_toString_0 (fun a101 h102 H cells slots C9 S9 hf hq hn => ?_)
  refine lv_dup hx hb dJ13_toString_3 rfl ?_
  refine lv_aload_n (x := a0) hx hb dJ13_toString_4 rfl (lv_at hl 0 rfl) ?_
  refine zr_cI (As := [.ref a0]) (rest := [.ref a101]) hc hn hq rfl hd_J10_init (lw_meth q580) q578 q579 q98 (Nat.le_of_ble_eq_true rfl) (Nat.le_of_ble_eq_true rfl) (fun _ _ _ _ q => m_J10_init l D dA b0 gs h102 a101 a0 q) hf dJ13_toString_5 hl.1 rfl rfl (zroom (Nat.le_of_ble_eq_true rfl)) (fun x103 h104 H locs cells slots C9 S9 hf hq hn => ?_)
  obtain ⟨rfl, rfl, rfl, rfl⟩ := zret_i hf
  exact zr_nret hc hn hr (Or.inl ⟨_, rfl⟩) hq (fun _ _ _ _ q => q) dJ13_toString_8
theorem hd_J27_siftUpComparable : yJ27_siftUpComparable.cls ≠ "java/lang/invoke/MethodHandle" ∧ yJ27_siftUpComparable.cls ≠ "java/lang/invoke/VarHandle" ∧ (parseMethodDescriptor yJ27_siftUpComparable.desc).map (fun d => d.parameters.length) = some 3 := by decide +kernel
def f_J27_siftUpComparable_b5 : Nat → PH → Int32 → Nat → Nat → ZR Unit
  | 0 => fun _ _ _ _ => none
  | n + 1 => fun h v0 a2 a3 =>
    if v0 ≤ 0 then
      (zsO h a2 9 v0 (some a3) fun h101 =>
      zret () h101)
    else
      (znm (v0 - (1 : Int32)) fun x102 =>
      znm ((x102.toUInt32 >>> ((1 : Int32).toUInt32 &&& Int32.toUInt32 31)).toInt32) fun x103 =>
      zaP h a2 9 x103 fun x104 =>
      znn x104 fun a105 =>
      zrc h a3 11 <| zcl (f_X13_compareTo h a3 a105) fun x106 h107 =>
      if x106 < 0 then
        (zsO h107 a2 9 v0 (some a105) fun h108 =>
        f_J27_siftUpComparable_b5 n h108 x103 a2 a3)
      else
        (zsO h107 a2 9 v0 (some a3) fun h109 =>
        zret () h109))
def f_J27_siftUpComparable (h : PH) (v0 : Int32) (a1 : Nat) (a2 : Nat) : ZR Unit :=
  zcast h 11 (some a1) <|
  f_J27_siftUpComparable_b5 zFU h v0 a2 a1
set_option maxHeartbeats 4000000 in
set_option maxRecDepth 100000 in
theorem m_J27_siftUpComparable_b5 {p : Program} {l : Launch} {e : Env} {s : State} {m : MethodId} {args : Array Value} {below : List Frame} {meth : Method} {c : Code} {D : va_G} {dA : Nat → ClassId} {b0 : Nat} {gs : Nat → Option Nat} (hc : zC D dA b0 gs yJ27_siftUpComparable.cls cJ27_siftUpComparable 6 p c s m args meth) (hr : meth.sig.returnType = none) (hin : meth.name = yJ27_siftUpComparable.name) {r : Unit} {hh : PH} {mc ms : Nat} : ∀ (n : Nat) (h : PH) (v0 : Int32) (a2 : Nat) (a3 : Nat) (C9 S9 : Nat) (H : Heap) (locs : List Loc) (cells slots : Nat), f_J27_siftUpComparable_b5 n h v0 a2 a3 = some (r, hh, C9, S9) → cells + C9 = mc ∧ slots + S9 = ms → zM D dA b0 gs s h H locs → ∀ ls : Array Slot, lv_has ls 6 [(0, .int v0), (2, .ref a2), (3, .ref a3)] → W p l e ({ frames := 4, cells := mc, slots := ms, locals := 123 } : Room) s m args below meth c H locs cells slots (MQ below (zQ D dA b0 gs (evU r) hh) args s mc ms (zA b0)) (F0 m 5 ls []) := by
  have hx := hc.x
  have hb := hc.b
  intro n
  induction n with
  | zero =>
    intro h v0 a2 a3 C9 S9 H locs cells slots hf hq hn ls hl
    cases hf
  | succ n ih =>
    intro h v0 a2 a3 C9 S9 H locs cells slots hf hq hn ls hl
    unfold f_J27_siftUpComparable_b5 at hf
    refine lv_iload_n hx hb dJ27_siftUpComparable_5 rfl (lv_at hl 0 rfl) ?_
    refine lv_if_le (tgt := 47) hx hb dJ27_siftUpComparable_6 (by decide) (fun c9 => ?_) (fun c9 => ?_)
    · have hf := zif_t c9 hf
      refine lv_aload_n (x := a2) hx hb dJ27_siftUpComparable_47 rfl (lv_at hl 1 rfl) ?_
      refine lv_iload_n hx hb dJ27_siftUpComparable_48 rfl (lv_at hl 0 rfl) ?_
      refine lv_aload_n (x := a3) hx hb dJ27_siftUpComparable_49 rfl (lv_at hl 2 rfl) ?_
      refine zr_sO (ai := 9) (x := (some a3)) (by decide) hc hn hf dJ27_siftUpComparable_50 (fun h101 H locs hf hn => ?_)
      obtain ⟨rfl, rfl, rfl, rfl⟩ := zret_i hf
      exact zr_vret hc hn hr hq (fun _ _ _ _ q => q) dJ27_siftUpComparable_51
    · have hf := zif_f c9 hf
      refine lv_iload_n hx hb dJ27_siftUpComparable_9 rfl (lv_at hl 0 rfl) ?_
      refine lv_iconst (v := (1 : Int32)) hx hb dJ27_siftUpComparable_10 (by decide) ?_
      refine lv_isub hx hb dJ27_siftUpComparable_11 ?_
      refine zr_nmI hf (fun x102 hf => ?_)
      refine lv_iconst (v := (1 : Int32)) hx hb dJ27_siftUpComparable_12 (by decide) ?_
      refine lv_iushr (v := (x102.toUInt32 >>> ((1 : Int32).toUInt32 &&& Int32.toUInt32 31)).toInt32) hx hb dJ27_siftUpComparable_13 rfl ?_
      refine zr_nmI hf (fun x103 hf => ?_)
      refine lv_istore (lv' := [(4, .int x103), (0, .int v0), (2, .ref a2), (3, .ref a3)]) hx hb dJ27_siftUpComparable_14 hl (by decide) rfl (fun ls hl => ?_)
      refine lv_aload_n (x := a2) hx hb dJ27_siftUpComparable_16 rfl (lv_at hl 2 rfl) ?_
      refine lv_iload hx hb dJ27_siftUpComparable_17 (lv_at hl 0 rfl) ?_
      refine zr_aP (ai := 9) (by decide) hc hn hf dJ27_siftUpComparable_19 (fun x104 hf => ?_)
      refine zr_astore (x := x104) (lv' := [(5, va_rf x104), (4, .int x103), (0, .int v0), (2, .ref a2), (3, .ref a3)]) hx hb dJ27_siftUpComparable_20 hl (by decide) rfl (fun ls hl => ?_)
      refine lv_aload_n (x := a3) hx hb dJ27_siftUpComparable_22 rfl (lv_at hl 4 rfl) ?_
      refine zr_aload (x := x104) hx hb dJ27_siftUpComparable_23 (lv_at hl 0 rfl) ?_
      obtain ⟨a105, e9, hf9⟩ := znn_i hf
      subst e9
      have hf := hf9
      clear hf9
      refine zr_cFI (n := 1) (As := [.ref a105]) (rest := []) hc hn hq (ci := 11) rfl (hc.fw (x := ⟨"java/lang/Comparable", "compareTo", "(Ljava/lang/Object;)I"⟩) (y := yX13_compareTo) (by decide) q1499 q1498 q1537 q1535 q1533) (by decide +kernel) (lw_F q1497 q1534 q1536 q127 q1538) (Nat.le_of_ble_eq_true rfl) (Nat.le_of_ble_eq_true rfl) (fun _ _ _ _ q => m_X13_compareTo l D dA b0 gs h a3 a105 q) hf dJ27_siftUpComparable_25 hl.1 rfl rfl (zroom (Nat.le_of_ble_eq_true rfl)) (fun x106 h107 H locs cells slots C9 S9 hf hq hn => ?_)
      refine lv_if_lt (tgt := 36) hx hb dJ27_siftUpComparable_30 (by decide) (fun c9 => ?_) (fun c9 => ?_)
      · have hf := zif_t c9 hf
        refine lv_aload_n (x := a2) hx hb dJ27_siftUpComparable_36 rfl (lv_at hl 3 rfl) ?_
        refine lv_iload_n hx hb dJ27_siftUpComparable_37 rfl (lv_at hl 2 rfl) ?_
        refine lv_aload (x := a105) hx hb dJ27_siftUpComparable_38 (lv_at hl 0 rfl) ?_
        refine zr_sO (ai := 9) (x := (some a105)) (by decide) hc hn hf dJ27_siftUpComparable_40 (fun h108 H locs hf hn => ?_)
        refine lv_iload hx hb dJ27_siftUpComparable_41 (lv_at hl 1 rfl) ?_
        refine lv_istore_n (i := 0) (lv' := [(0, .int x103), (5, .ref a105), (4, .int x103), (2, .ref a2), (3, .ref a3)]) hx hb dJ27_siftUpComparable_43 rfl hl (by decide) rfl (fun ls hl => ?_)
        refine lv_goto (tgt := 5) hx hb dJ27_siftUpComparable_44 (by decide) ?_
        exact ih h108 x103 a2 a3 _ _ _ _ _ _ hf hq hn _ (lv_sub hl [0, 3, 4] rfl)
      · have hf := zif_f c9 hf
        refine lv_goto (tgt := 47) hx hb dJ27_siftUpComparable_33 (by decide) ?_
        refine lv_aload_n (x := a2) hx hb dJ27_siftUpComparable_47 rfl (lv_at hl 3 rfl) ?_
        refine lv_iload_n hx hb dJ27_siftUpComparable_48 rfl (lv_at hl 2 rfl) ?_
        refine lv_aload_n (x := a3) hx hb dJ27_siftUpComparable_49 rfl (lv_at hl 4 rfl) ?_
        refine zr_sO (ai := 9) (x := (some a3)) (by decide) hc hn hf dJ27_siftUpComparable_50 (fun h109 H locs hf hn => ?_)
        obtain ⟨rfl, rfl, rfl, rfl⟩ := zret_i hf
        exact zr_vret hc hn hr hq (fun _ _ _ _ q => q) dJ27_siftUpComparable_51
set_option maxHeartbeats 4000000 in
set_option maxRecDepth 100000 in
theorem m_J27_siftUpComparable (l : Launch) (D : va_G) (dA : Nat → ClassId) (b0 : Nat) (gs : Nat → Option Nat) (h : PH) (v0 : Int32) (a1 : Nat) (a2 : Nat) {r : Unit} {hh : PH} {mc ms : Nat} (hf : f_J27_siftUpComparable h v0 a1 a2 = some (r, hh, mc, ms)) : zMt l D dA b0 gs yJ27_siftUpComparable cJ27_siftUpComparable 6 none 4 123 [.int v0, .ref a1, .ref a2] h (evU r) hh mc ms := by
  unfold f_J27_siftUpComparable at hf
  refine zMt.of (by decide) (Nat.le_of_ble_eq_true rfl) ?_
  intro p e s m args below meth c hc hr hin hn ls hl
  have hl : lv_has ls 6 [(0, .int v0), (1, .ref a1), (2, .ref a2)] := hl
  have hq : 0 + mc = mc ∧ 0 + ms = ms := ⟨Nat.zero_add _, Nat.zero_add _⟩
  have hx := hc.x
  have hb := hc.b
  refine lv_aload_n (x := a1) hx hb dJ27_siftUpComparable_0 rfl (lv_at hl 1 rfl) ?_
  refine zr_cast (o := (some a1)) hc hn (ci := 11) rfl q1495 (Or.inr q1533) hf dJ27_siftUpComparable_1 (fun hf => ?_)
  refine lv_astore_n (x := a1) (i := 3) (lv' := [(3, .ref a1), (0, .int v0), (1, .ref a1), (2, .ref a2)]) hx hb dJ27_siftUpComparable_4 rfl hl (by decide) rfl (fun ls hl => ?_)
  exact m_J27_siftUpComparable_b5 hc hr hin zFU h v0 a2 a1 _ _ _ _ _ _ hf hq hn _ (lv_sub hl [1, 3, 0] rfl)
theorem hd_J27_siftUp : yJ27_siftUp.cls ≠ "java/lang/invoke/MethodHandle" ∧ yJ27_siftUp.cls ≠ "java/lang/invoke/VarHandle" ∧ (parseMethodDescriptor yJ27_siftUp.desc).map (fun d => d.parameters.length) = some 2 := by decide +kernel
def f_J27_siftUp (h : PH) (a0 : Nat) (v1 : Int32) (a2 : Nat) : ZR Unit :=
  zgP h a0 17 2 fun x101 =>
  znul x101
    (zgP h a0 17 0 fun x103 =>
    znn x103 fun a104 =>
    zcl (f_J27_siftUpComparable h v1 a2 a104) fun _ h106 =>
    zret () h106)
    (fun a102 =>
      none)
set_option maxHeartbeats 4000000 in
set_option maxRecDepth 100000 in
theorem m_J27_siftUp (l : Launch) (D : va_G) (dA : Nat → ClassId) (b0 : Nat) (gs : Nat → Option Nat) (h : PH) (a0 : Nat) (v1 : Int32) (a2 : Nat) {r : Unit} {hh : PH} {mc ms : Nat} (hf : f_J27_siftUp h a0 v1 a2 = some (r, hh, mc, ms)) : zMt l D dA b0 gs yJ27_siftUp cJ27_siftUp 3 none 5 148 [.ref a0, .int v1, .ref a2] h (evU r) hh mc ms := by
  unfold f_J27_siftUp at hf
  refine zMt.of (by decide) (Nat.le_of_ble_eq_true rfl) ?_
  intro p e s m args below meth c hc hr hin hn ls hl
  have hl : lv_has ls 3 [(0, .ref a0), (1, .int v1), (2, .ref a2)] := hl
  have hq : 0 + mc = mc ∧ 0 + ms = ms := ⟨Nat.zero_add _, Nat.zero_add _⟩
  have hx := hc.x
  have hb := hc.b
  refine lv_aload_n (x := a0) hx hb dJ27_siftUp_0 rfl (lv_at hl 0 rfl) ?_
  refine zr_gP hc hn (ci := 17) rfl rfl in_J27 2 (by decide) q1442 (fun _ h => h) (fun _ _ _ => rfl) hf dJ27_siftUp_1 (fun x101 hf => ?_)
  refine zr_ifnull (tgt := 23) hx hb hf dJ27_siftUp_4 (by decide) (fun e9 hf9 => ?_) (fun a102 e9 hf9 => ?_)
  · subst e9
    have hf := hf9
    clear hf9
    refine lv_iload_n hx hb dJ27_siftUp_23 rfl (lv_at hl 1 rfl) ?_
    refine lv_aload_n (x := a2) hx hb dJ27_siftUp_24 rfl (lv_at hl 2 rfl) ?_
    refine lv_aload_n (x := a0) hx hb dJ27_siftUp_25 rfl (lv_at hl 0 rfl) ?_
    refine zr_gP hc hn (ci := 17) rfl rfl in_J27 0 (by decide) q1440 (fun _ h => h) (fun _ _ _ => rfl) hf dJ27_siftUp_26 (fun x103 hf => ?_)
    obtain ⟨a104, e9, hf9⟩ := znn_i hf
    subst e9
    have hf := hf9
    clear hf9
    refine zr_cSU (As := [.int v1, .ref a2, .ref a104]) (rest := []) hc hn hq hd_J27_siftUpComparable (lw_S q1492 q1493 q126 q1494) (Nat.le_of_ble_eq_true rfl) (Nat.le_of_ble_eq_true rfl) (fun _ _ _ _ q => m_J27_siftUpComparable l D dA b0 gs h v1 a2 a104 q) hf dJ27_siftUp_29 hl.1 rfl rfl (zroom (Nat.le_of_ble_eq_true rfl)) (fun x105 h106 H locs cells slots C9 S9 hf hq hn => ?_)
    obtain ⟨rfl, rfl, rfl, rfl⟩ := zret_i hf
    exact zr_vret hc hn hr hq (fun _ _ _ _ q => q) dJ27_siftUp_32
  · subst e9
    have hf := hf9
    clear hf9
    cases hf
theorem hd_J27_offer : yJ27_offer.cls ≠ "java/lang/invoke/MethodHandle" ∧ yJ27_offer.cls ≠ "java/lang/invoke/VarHandle" ∧ (parseMethodDescriptor yJ27_offer.desc).map (fun d => d.parameters.length) = some 1 := by decide +kernel
def f_J27_offer (h : PH) (a0 : Nat) (a1 : Nat) : ZR Int32 :=
  zgI h a0 17 3 fun x101 =>
  znm (x101 + (1 : Int32)) fun x102 =>
  zpI h a0 17 3 x102 fun h103 =>
  zgI h103 a0 17 1 fun x104 =>
  zgP h103 a0 17 0 fun x105 =>
  znn x105 fun a106 =>
  zlen h103 a106 9 fun x107 =>
  if x104 < x107 then
    (zrc h103 a0 17 <| zcl (f_J27_siftUp h103 a0 x104 a1) fun _ h109 =>
    znm (x104 + (1 : Int32)) fun x110 =>
    zpI h109 a0 17 1 x110 fun h111 =>
    zret (1 : Int32) h111)
  else
    (znm (x104 + (1 : Int32)) fun x112 =>
    zrc h103 a0 17 <| zcl (f_J27_grow h103 a0 x112) fun _ h114 =>
    zrc h114 a0 17 <| zcl (f_J27_siftUp h114 a0 x104 a1) fun _ h116 =>
    znm (x104 + (1 : Int32)) fun x117 =>
    zpI h116 a0 17 1 x117 fun h118 =>
    zret (1 : Int32) h118)
set_option maxHeartbeats 4000000 in
set_option maxRecDepth 100000 in
theorem m_J27_offer (l : Launch) (D : va_G) (dA : Nat → ClassId) (b0 : Nat) (gs : Nat → Option Nat) (h : PH) (a0 : Nat) (a1 : Nat) {r : Int32} {hh : PH} {mc ms : Nat} (hf : f_J27_offer h a0 a1 = some (r, hh, mc, ms)) : zMt l D dA b0 gs yJ27_offer cJ27_offer 3 (some .boolean) 6 170 [.ref a0, .ref a1] h (evI r) hh mc ms := by
  unfold f_J27_offer at hf
  refine zMt.of (by decide) (Nat.le_of_ble_eq_true rfl) ?_
  intro p e s m args below meth c hc hr hin hn ls hl
  have hl : lv_has ls 3 [(0, .ref a0), (1, .ref a1)] := hl
  have hq : 0 + mc = mc ∧ 0 + ms = ms := ⟨Nat.zero_add _, Nat.zero_add _⟩
  have hx := hc.x
  have hb := hc.b
  refine lv_aload_n (x := a1) hx hb dJ27_offer_0 rfl (lv_at hl 1 rfl) ?_
  refine lv_ifnonnull (x := a1) (tgt := 12) hx hb dJ27_offer_1 (by decide) ?_
  refine lv_aload_n (x := a0) hx hb dJ27_offer_12 rfl (lv_at hl 0 rfl) ?_
  refine lv_dup hx hb dJ27_offer_13 rfl ?_
  refine zr_gI hc hn (ci := 17) rfl rfl in_J27 3 (by decide) q1443 (fun _ h => h) (fun _ _ _ => rfl) hf dJ27_offer_14 (fun x101 hf => ?_)
  refine lv_iconst (v := (1 : Int32)) hx hb dJ27_offer_17 (by decide) ?_
  refine lv_iadd hx hb dJ27_offer_18 ?_
  refine zr_nmI hf (fun x102 hf => ?_)
  refine zr_pI (x := x102) hc hn (ci := 17) rfl rfl in_J27 3 (by decide) tyJ27 tyJ27_ok nmJ27 q1443 (fun _ h => h) (Or.inl rfl) (fun _ _ _ => rfl) rfl rfl hf dJ27_offer_19 (fun h103 H locs hf hn => ?_)
  refine lv_aload_n (x := a0) hx hb dJ27_offer_22 rfl (lv_at hl 0 rfl) ?_
  refine zr_gI hc hn (ci := 17) rfl rfl in_J27 1 (by decide) q1441 (fun _ h => h) (fun _ _ _ => rfl) hf dJ27_offer_23 (fun x104 hf => ?_)
  refine lv_istore_n (i := 2) (lv' := [(2, .int x104), (0, .ref a0), (1, .ref a1)]) hx hb dJ27_offer_26 rfl hl (by decide) rfl (fun ls hl => ?_)
  refine lv_iload_n hx hb dJ27_offer_27 rfl (lv_at hl 0 rfl) ?_
  refine lv_aload_n (x := a0) hx hb dJ27_offer_28 rfl (lv_at hl 1 rfl) ?_
  refine zr_gP hc hn (ci := 17) rfl rfl in_J27 0 (by decide) q1440 (fun _ h => h) (fun _ _ _ => rfl) hf dJ27_offer_29 (fun x105 hf => ?_)
  obtain ⟨a106, e9, hf9⟩ := znn_i hf
  subst e9
  have hf := hf9
  clear hf9
  refine zr_len (ai := 9) hc hn hf dJ27_offer_32 (fun x107 hf => ?_)
  refine lv_icmp_lt (tgt := 43) hx hb dJ27_offer_33 (by decide) (fun c9 => ?_) (fun c9 => ?_)
  · have hf := zif_t c9 hf
    refine lv_aload_n (x := a0) hx hb dJ27_offer_43 rfl (lv_at hl 1 rfl) ?_
    refine lv_iload_n hx hb dJ27_offer_44 rfl (lv_at hl 0 rfl) ?_
    refine lv_aload_n (x := a1) hx hb dJ27_offer_45 rfl (lv_at hl 2 rfl) ?_
    refine zr_cVU (As := [.int x104, .ref a1]) (rest := []) hc hn hq (ci := 17) rfl ⟨rfl, hd_J27_siftUp⟩ (lw_V q1481 q1483 qs21 q126 q1484) (Nat.le_of_ble_eq_true rfl) (Nat.le_of_ble_eq_true rfl) (fun _ _ _ _ q => m_J27_siftUp l D dA b0 gs h103 a0 x104 a1 q) hf dJ27_offer_46 hl.1 rfl rfl (zroom (Nat.le_of_ble_eq_true rfl)) (fun x108 h109 H locs cells slots C9 S9 hf hq hn => ?_)
    refine lv_aload_n (x := a0) hx hb dJ27_offer_49 rfl (lv_at hl 1 rfl) ?_
    refine lv_iload_n hx hb dJ27_offer_50 rfl (lv_at hl 0 rfl) ?_
    refine lv_iconst (v := (1 : Int32)) hx hb dJ27_offer_51 (by decide) ?_
    refine lv_iadd hx hb dJ27_offer_52 ?_
    refine zr_nmI hf (fun x110 hf => ?_)
    refine zr_pI (x := x110) hc hn (ci := 17) rfl rfl in_J27 1 (by decide) tyJ27 tyJ27_ok nmJ27 q1441 (fun _ h => h) (Or.inl rfl) (fun _ _ _ => rfl) rfl rfl hf dJ27_offer_53 (fun h111 H locs hf hn => ?_)
    refine lv_iconst (v := (1 : Int32)) hx hb dJ27_offer_56 (by decide) ?_
    obtain ⟨rfl, rfl, rfl, rfl⟩ := zret_i hf
    exact zr_zret hc hn hr (by decide) hq (fun _ _ _ _ q => q) dJ27_offer_57
  · have hf := zif_f c9 hf
    refine lv_aload_n (x := a0) hx hb dJ27_offer_36 rfl (lv_at hl 1 rfl) ?_
    refine lv_iload_n hx hb dJ27_offer_37 rfl (lv_at hl 0 rfl) ?_
    refine lv_iconst (v := (1 : Int32)) hx hb dJ27_offer_38 (by decide) ?_
    refine lv_iadd hx hb dJ27_offer_39 ?_
    refine zr_nmI hf (fun x112 hf => ?_)
    refine zr_cVU (As := [.int x112]) (rest := []) hc hn hq (ci := 17) rfl ⟨rfl, hd_J27_grow⟩ (lw_V q1475 q1477 qs20 q126 q1478) (Nat.le_of_ble_eq_true rfl) (Nat.le_of_ble_eq_true rfl) (fun _ _ _ _ q => m_J27_grow l D dA b0 gs h103 a0 x112 q) hf dJ27_offer_40 hl.1 rfl rfl (zroom (Nat.le_of_ble_eq_true rfl)) (fun x113 h114 H locs cells slots C9 S9 hf hq hn => ?_)
    refine lv_aload_n (x := a0) hx hb dJ27_offer_43 rfl (lv_at hl 1 rfl) ?_
    refine lv_iload_n hx hb dJ27_offer_44 rfl (lv_at hl 0 rfl) ?_
    refine lv_aload_n (x := a1) hx hb dJ27_offer_45 rfl (lv_at hl 2 rfl) ?_
    refine zr_cVU (As := [.int x104, .ref a1]) (rest := []) hc hn hq (ci := 17) rfl ⟨rfl, hd_J27_siftUp⟩ (lw_V q1481 q1483 qs21 q126 q1484) (Nat.le_of_ble_eq_true rfl) (Nat.le_of_ble_eq_true rfl) (fun _ _ _ _ q => m_J27_siftUp l D dA b0 gs h114 a0 x104 a1 q) hf dJ27_offer_46 hl.1 rfl rfl (zroom (Nat.le_of_ble_eq_true rfl)) (fun x115 h116 H locs cells slots C9 S9 hf hq hn => ?_)
    refine lv_aload_n (x := a0) hx hb dJ27_offer_49 rfl (lv_at hl 1 rfl) ?_
    refine lv_iload_n hx hb dJ27_offer_50 rfl (lv_at hl 0 rfl) ?_
    refine lv_iconst (v := (1 : Int32)) hx hb dJ27_offer_51 (by decide) ?_
    refine lv_iadd hx hb dJ27_offer_52 ?_
    refine zr_nmI hf (fun x117 hf => ?_)
    refine zr_pI (x := x117) hc hn (ci := 17) rfl rfl in_J27 1 (by decide) tyJ27 tyJ27_ok nmJ27 q1441 (fun _ h => h) (Or.inl rfl) (fun _ _ _ => rfl) rfl rfl hf dJ27_offer_53 (fun h118 H locs hf hn => ?_)
    refine lv_iconst (v := (1 : Int32)) hx hb dJ27_offer_56 (by decide) ?_
    obtain ⟨rfl, rfl, rfl, rfl⟩ := zret_i hf
    exact zr_zret hc hn hr (by decide) hq (fun _ _ _ _ q => q) dJ27_offer_57
theorem hd_J27_add : yJ27_add.cls ≠ "java/lang/invoke/MethodHandle" ∧ yJ27_add.cls ≠ "java/lang/invoke/VarHandle" ∧ (parseMethodDescriptor yJ27_add.desc).map (fun d => d.parameters.length) = some 1 := by decide +kernel
def f_J27_add (h : PH) (a0 : Nat) (a1 : Nat) : ZR Int32 :=
  zrc h a0 17 <| zcl (f_J27_offer h a0 a1) fun x101 h102 =>
  zgd (zb01 x101 = true) <| zret x101 h102
set_option maxHeartbeats 4000000 in
set_option maxRecDepth 100000 in
theorem m_J27_add (l : Launch) (D : va_G) (dA : Nat → ClassId) (b0 : Nat) (gs : Nat → Option Nat) (h : PH) (a0 : Nat) (a1 : Nat) {r : Int32} {hh : PH} {mc ms : Nat} (hf : f_J27_add h a0 a1 = some (r, hh, mc, ms)) : zMt l D dA b0 gs yJ27_add cJ27_add 2 (some .boolean) 7 192 [.ref a0, .ref a1] h (evI r) hh mc ms := by
  unfold f_J27_add at hf
  refine zMt.of (by decide) (Nat.le_of_ble_eq_true rfl) ?_
  intro p e s m args below meth c hc hr hin hn ls hl
  have hl : lv_has ls 2 [(0, .ref a0), (1, .ref a1)] := hl
  have hq : 0 + mc = mc ∧ 0 + ms = ms := ⟨Nat.zero_add _, Nat.zero_add _⟩
  have hx := hc.x
  have hb := hc.b
  refine lv_aload_n (x := a0) hx hb dJ27_add_0 rfl (lv_at hl 0 rfl) ?_
  refine lv_aload_n (x := a1) hx hb dJ27_add_1 rfl (lv_at hl 1 rfl) ?_
  refine zr_cVI (As := [.ref a1]) (rest := []) hc hn hq (ci := 17) rfl ⟨rfl, hd_J27_offer⟩ (lw_V q1471 q1472 q1473 q126 q1474) (Nat.le_of_ble_eq_true rfl) (Nat.le_of_ble_eq_true rfl) (fun _ _ _ _ q => m_J27_offer l D dA b0 gs h a0 a1 q) hf dJ27_add_2 hl.1 rfl rfl (zroom (Nat.le_of_ble_eq_true rfl)) (fun x101 h102 H locs cells slots C9 S9 hf hq hn => ?_)
  obtain ⟨hz1, hf⟩ := zgd_i hf
  obtain ⟨rfl, rfl, rfl, rfl⟩ := zret_i hf
  exact zr_zret hc hn hr (zb01_n hz1) hq (fun _ _ _ _ q => q) dJ27_add_5
