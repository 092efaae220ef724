/-! 30.law (written by gen/mods.py) -/
set_option maxRecDepth 100000
theorem hd_X0_append : yX0_append.cls ≠ "java/lang/invoke/MethodHandle" ∧ yX0_append.cls ≠ "java/lang/invoke/VarHandle" ∧ (parseMethodDescriptor yX0_append.desc).map (fun d => d.parameters.length) = some 7 := by decide +kernel
def f_X0_append (h : PH) (a0 : Nat) (v1 : Int32) (v2 : Int32) (v3 : Int32) (v4 : Int32) (v5 : Int32) (a6 : Nat) : ZR Int32 :=
  zrc h a0 0 <| zch (f_X1_append h a0 v1 v2 v3 v4 v5) (fun x101 h102 =>
    znm x101.toInt64 fun x103 =>
    zsL h102 a6 3 (0 : Int32) x103 fun h104 =>
    zret (0 : Int32) h104)
    (fun e9 q9 h102 =>
      if e9 = 3 then
        (zret (1 : Int32) h102)
      else
        (none))
set_option maxHeartbeats 4000000 in
set_option maxRecDepth 100000 in
theorem m_X0_append (l : Launch) (hl0 : l.stackTraces = false) (D : va_G) (dA : Nat → ClassId) (b0 : Nat) (gs : Nat → Option Nat) (h : PH) (a0 : Nat) (v1 : Int32) (v2 : Int32) (v3 : Int32) (v4 : Int32) (v5 : Int32) (a6 : Nat) {r : Int32} {hh : PH} {mc ms : Nat} (hf : f_X0_append h a0 v1 v2 v3 v4 v5 a6 = some (r, hh, mc, ms)) : zMx l D dA b0 gs yX0_append (wsW_ yX0_append cX0_append 8 (some .int) [((0 : Nat), (16 : Nat), (19 : Nat), (13 : Nat))]) 8 167 [.ref a0, .int v1, .int v2, .int v3, .int v4, .int v5, .ref a6] h evI (.inl r) hh mc ms := by
  unfold f_X0_append at hf
  refine zMx.ofH (by decide) (Nat.le_of_ble_eq_true rfl) ?_
  intro p e s m args below meth c hc hr hin ht hn ls hl
  have hl : lv_has ls 8 [(0, .ref a0), (1, .int v1), (2, .int v2), (3, .int v3), (4, .int v4), (5, .int v5), (6, .ref a6)] := hl
  have hq : 0 + mc = mc ∧ 0 + ms = ms := ⟨Nat.zero_add _, Nat.zero_add _⟩
  have hx := hc.x
  have hb := hc.b
  refine lv_aload (x := a6) hx hb dX0_append_0 (lv_at hl 6 rfl) ?_
  refine lv_iconst (v := (0 : Int32)) hx hb dX0_append_2 (by decide) ?_
  refine lv_aload_n (x := a0) hx hb dX0_append_3 rfl (lv_at hl 0 rfl) ?_
  refine lv_iload_n hx hb dX0_append_4 rfl (lv_at hl 1 rfl) ?_
  refine lv_iload_n hx hb dX0_append_5 rfl (lv_at hl 2 rfl) ?_
  refine lv_iload_n hx hb dX0_append_6 rfl (lv_at hl 3 rfl) ?_
  refine lv_iload hx hb dX0_append_7 (lv_at hl 4 rfl) ?_
  refine lv_iload hx hb dX0_append_9 (lv_at hl 5 rfl) ?_
  refine zh_VI (As := [.int v1, .int v2, .int v3, .int v4, .int v5]) (rest := [.int (0 : Int32), .ref a6]) hc hn hq (ci := 0) rfl ⟨rfl, hd_X1_append⟩ (lw_V q282 q283 q284 q84 q285) (Nat.le_of_ble_eq_true rfl) (Nat.le_of_ble_eq_true rfl) (fun _ _ _ _ q => m_X1_append l hl0 D dA b0 gs h a0 v1 v2 v3 v4 v5 q) hf dX0_append_11 hl.1 rfl rfl (zroom (Nat.le_of_ble_eq_true rfl)) (fun x101 h102 H locs cells slots C9 S9 hf hq hn => ?_) (fun e9 q9 ce9 h102 H locs cells slots C9 S9 hf hq hn g5 g6 g7 => ?_)
  · refine lv_i2l (v := x101.toInt64) hx hb dX0_append_14 rfl ?_
    refine zr_nmL hf (fun x103 hf => ?_)
    refine zr_sL hc hn hf dX0_append_15 (fun h104 H locs hf hn => ?_)
    refine lv_goto (tgt := 23) hx hb dX0_append_16 (by decide) ?_
    refine lv_iconst (v := (0 : Int32)) hx hb dX0_append_23 (by decide) ?_
    obtain ⟨rfl, rfl, rfl, rfl⟩ := zret_i hf
    exact zx_ret (zr_iret hc hn hr hq (fun _ _ _ _ q => ⟨_, rfl, q⟩) dX0_append_24)
  · by_cases c9 : e9 = 3
    · have hf9 := zif_t c9 hf
      subst c9
      have hf := hf9
      clear hf9
      refine vx_catch (name := "java/lang/IllegalStateException") hc.ow [] ⟨0, 16, 19, 13⟩ [] (by rw [ht]; rfl) (fun z hz => nomatch hz) (by decide) (by decide) (hc.ts _ q281) ((hc.nC q291).use rfl) g5 g6 g7 ?_
      refine lv_astore (x := q9) (lv' := [(7, .ref q9), (0, .ref a0), (1, .int v1), (2, .int v2), (3, .int v3), (4, .int v4), (5, .int v5), (6, .ref a6)]) hx hb dX0_append_19 hl (by decide) rfl (fun ls hl => ?_)
      refine lv_iconst (v := (1 : Int32)) hx hb dX0_append_21 (by decide) ?_
      obtain ⟨rfl, rfl, rfl, rfl⟩ := zret_i hf
      exact zx_ret (zr_iret hc hn hr hq (fun _ _ _ _ q => ⟨_, rfl, q⟩) dX0_append_22)
    · have hf := zif_f c9 hf
      cases hf
theorem hd_X0_truncate : yX0_truncate.cls ≠ "java/lang/invoke/MethodHandle" ∧ yX0_truncate.cls ≠ "java/lang/invoke/VarHandle" ∧ (parseMethodDescriptor yX0_truncate.desc).map (fun d => d.parameters.length) = some 3 := by decide +kernel
def f_X0_truncate (h : PH) (a0 : Nat) (v1 : Int32) (a2 : Nat) : ZR Int32 :=
  zrc h a0 0 <| zch (f_X1_truncate h a0 v1) (fun x101 h102 =>
    znm x101.toInt64 fun x103 =>
    zsL h102 a2 3 (0 : Int32) x103 fun h104 =>
    zret (0 : Int32) h104)
    (fun e9 q9 h102 =>
      if e9 = 1 then
        (zret (1 : Int32) h102)
      else
        (none))
set_option maxHeartbeats 4000000 in
set_option maxRecDepth 100000 in
theorem m_X0_truncate (l : Launch) (hl0 : l.stackTraces = false) (D : va_G) (dA : Nat → ClassId) (b0 : Nat) (gs : Nat → Option Nat) (h : PH) (a0 : Nat) (v1 : Int32) (a2 : Nat) {r : Int32} {hh : PH} {mc ms : Nat} (hf : f_X0_truncate h a0 v1 a2 = some (r, hh, mc, ms)) : zMx l D dA b0 gs yX0_truncate (wsW_ yX0_truncate cX0_truncate 4 (some .int) [((0 : Nat), (9 : Nat), (12 : Nat), (19 : Nat))]) 8 161 [.ref a0, .int v1, .ref a2] h evI (.inl r) hh mc ms := by
  unfold f_X0_truncate at hf
  refine zMx.ofH (by decide) (Nat.le_of_ble_eq_true rfl) ?_
  intro p e s m args below meth c hc hr hin ht hn ls hl
  have hl : lv_has ls 4 [(0, .ref a0), (1, .int v1), (2, .ref a2)] := hl
  have hq : 0 + mc = mc ∧ 0 + ms = ms := ⟨Nat.zero_add _, Nat.zero_add _⟩
  have hx := hc.x
  have hb := hc.b
  refine lv_aload_n (x := a2) hx hb dX0_truncate_0 rfl (lv_at hl 2 rfl) ?_
  refine lv_iconst (v := (0 : Int32)) hx hb dX0_truncate_1 (by decide) ?_
  refine lv_aload_n (x := a0) hx hb dX0_truncate_2 rfl (lv_at hl 0 rfl) ?_
  refine lv_iload_n hx hb dX0_truncate_3 rfl (lv_at hl 1 rfl) ?_
  refine zh_VI (As := [.int v1]) (rest := [.int (0 : Int32), .ref a2]) hc hn hq (ci := 0) rfl ⟨rfl, hd_X1_truncate⟩ (lw_V q391 q392 q393 q84 q394) (Nat.le_of_ble_eq_true rfl) (Nat.le_of_ble_eq_true rfl) (fun _ _ _ _ q => m_X1_truncate l hl0 D dA b0 gs h a0 v1 q) hf dX0_truncate_4 hl.1 rfl rfl (zroom (Nat.le_of_ble_eq_true rfl)) (fun x101 h102 H locs cells slots C9 S9 hf hq hn => ?_) (fun e9 q9 ce9 h102 H locs cells slots C9 S9 hf hq hn g5 g6 g7 => ?_)
  · refine lv_i2l (v := x101.toInt64) hx hb dX0_truncate_7 rfl ?_
    refine zr_nmL hf (fun x103 hf => ?_)
    refine zr_sL hc hn hf dX0_truncate_8 (fun h104 H locs hf hn => ?_)
    refine lv_goto (tgt := 15) hx hb dX0_truncate_9 (by decide) ?_
    refine lv_iconst (v := (0 : Int32)) hx hb dX0_truncate_15 (by decide) ?_
    obtain ⟨rfl, rfl, rfl, rfl⟩ := zret_i hf
    exact zx_ret (zr_iret hc hn hr hq (fun _ _ _ _ q => ⟨_, rfl, q⟩) dX0_truncate_16)
  · by_cases c9 : e9 = 1
    · have hf9 := zif_t c9 hf
      subst c9
      have hf := hf9
      clear hf9
      refine vx_catch (name := "java/lang/IndexOutOfBoundsException") hc.ow [] ⟨0, 9, 12, 19⟩ [] (by rw [ht]; rfl) (fun z hz => nomatch hz) (by decide) (by decide) (hc.ts _ q359) ((hc.nC q400).use rfl) g5 g6 g7 ?_
      refine lv_astore_n (x := q9) (i := 3) (lv' := [(3, .ref q9), (0, .ref a0), (1, .int v1), (2, .ref a2)]) hx hb dX0_truncate_12 rfl hl (by decide) rfl (fun ls hl => ?_)
      refine lv_iconst (v := (1 : Int32)) hx hb dX0_truncate_13 (by decide) ?_
      obtain ⟨rfl, rfl, rfl, rfl⟩ := zret_i hf
      exact zx_ret (zr_iret hc hn hr hq (fun _ _ _ _ q => ⟨_, rfl, q⟩) dX0_truncate_14)
    · have hf := zif_f c9 hf
      cases hf
theorem hd_X0_load : yX0_load.cls ≠ "java/lang/invoke/MethodHandle" ∧ yX0_load.cls ≠ "java/lang/invoke/VarHandle" ∧ (parseMethodDescriptor yX0_load.desc).map (fun d => d.parameters.length) = some 2 := by decide +kernel
def f_X0_load (h : PH) (a0 : Nat) (a1 : Nat) : ZR Int32 :=
  zrc h a0 0 <| zch (f_X1_load h a0) (fun x101 h102 =>
    znm x101.toInt64 fun x103 =>
    zsL h102 a1 3 (0 : Int32) x103 fun h104 =>
    zret (0 : Int32) h104)
    (fun e9 q9 h102 =>
      if e9 = 2 then
        (zret (1 : Int32) h102)
      else
        (none))
set_option maxHeartbeats 4000000 in
set_option maxRecDepth 100000 in
theorem m_X0_load (l : Launch) (hl0 : l.stackTraces = false) (D : va_G) (dA : Nat → ClassId) (b0 : Nat) (gs : Nat → Option Nat) (h : PH) (a0 : Nat) (a1 : Nat) {r : Int32} {hh : PH} {mc ms : Nat} (hf : f_X0_load h a0 a1 = some (r, hh, mc, ms)) : zMx l D dA b0 gs yX0_load (wsW_ yX0_load cX0_load 3 (some .int) [((0 : Nat), (8 : Nat), (11 : Nat), (25 : Nat))]) 14 3160 [.ref a0, .ref a1] h evI (.inl r) hh mc ms := by
  unfold f_X0_load at hf
  refine zMx.ofH (by decide) (Nat.le_of_ble_eq_true rfl) ?_
  intro p e s m args below meth c hc hr hin ht hn ls hl
  have hl : lv_has ls 3 [(0, .ref a0), (1, .ref a1)] := hl
  have hq : 0 + mc = mc ∧ 0 + ms = ms := ⟨Nat.zero_add _, Nat.zero_add _⟩
  have hx := hc.x
  have hb := hc.b
  refine lv_aload_n (x := a1) hx hb dX0_load_0 rfl (lv_at hl 1 rfl) ?_
  refine lv_iconst (v := (0 : Int32)) hx hb dX0_load_1 (by decide) ?_
  refine lv_aload_n (x := a0) hx hb dX0_load_2 rfl (lv_at hl 0 rfl) ?_
  refine zh_VWI (As := []) (rest := [.int (0 : Int32), .ref a1]) hc hn hq (ci := 0) rfl ⟨rfl, hd_X1_load⟩ (lw_VW q417 q418 q419 q84 q420) (Nat.le_of_ble_eq_true rfl) (Nat.le_of_ble_eq_true rfl) (fun _ _ _ _ q => m_X1_load l hl0 D dA b0 gs h a0 q) hf dX0_load_3 hl.1 rfl rfl (zroom (Nat.le_of_ble_eq_true rfl)) (fun x101 h102 H locs cells slots C9 S9 hf hq hn => ?_) (fun e9 q9 ce9 h102 H locs cells slots C9 S9 hf hq hn g5 g6 g7 => ?_)
  · refine lv_i2l (v := x101.toInt64) hx hb dX0_load_6 rfl ?_
    refine zr_nmL hf (fun x103 hf => ?_)
    refine zr_sL hc hn hf dX0_load_7 (fun h104 H locs hf hn => ?_)
    refine lv_goto (tgt := 14) hx hb dX0_load_8 (by decide) ?_
    refine lv_iconst (v := (0 : Int32)) hx hb dX0_load_14 (by decide) ?_
    obtain ⟨rfl, rfl, rfl, rfl⟩ := zret_i hf
    exact zx_ret (zr_iret hc hn hr hq (fun _ _ _ _ q => ⟨_, rfl, q⟩) dX0_load_15)
  · by_cases c9 : e9 = 2
    · have hf9 := zif_t c9 hf
      subst c9
      have hf := hf9
      clear hf9
      refine vx_catch (name := "java/lang/IllegalArgumentException") hc.ow [] ⟨0, 8, 11, 25⟩ [] (by rw [ht]; rfl) (fun z hz => nomatch hz) (by decide) (by decide) (hc.ts _ q416) ((hc.nC q603).use rfl) g5 g6 g7 ?_
      refine lv_astore_n (x := q9) (i := 2) (lv' := [(2, .ref q9), (0, .ref a0), (1, .ref a1)]) hx hb dX0_load_11 rfl hl (by decide) rfl (fun ls hl => ?_)
      refine lv_iconst (v := (1 : Int32)) hx hb dX0_load_12 (by decide) ?_
      obtain ⟨rfl, rfl, rfl, rfl⟩ := zret_i hf
      exact zx_ret (zr_iret hc hn hr hq (fun _ _ _ _ q => ⟨_, rfl, q⟩) dX0_load_13)
    · have hf := zif_f c9 hf
      cases hf
theorem hd_X0_find : yX0_find.cls ≠ "java/lang/invoke/MethodHandle" ∧ yX0_find.cls ≠ "java/lang/invoke/VarHandle" ∧ (parseMethodDescriptor yX0_find.desc).map (fun d => d.parameters.length) = some 2 := by decide +kernel
def f_X0_find (h : PH) (a0 : Nat) (a1 : Nat) : ZR Int32 :=
  zrc h a0 0 <| zch (f_X1_find h a0) (fun x101 h102 =>
    znm x101.toInt64 fun x103 =>
    zsL h102 a1 3 (0 : Int32) x103 fun h104 =>
    zret (0 : Int32) h104)
    (fun e9 q9 h102 =>
      if e9 = 4 then
        (zret (1 : Int32) h102)
      else
        (none))
set_option maxHeartbeats 4000000 in
set_option maxRecDepth 100000 in
theorem m_X0_find (l : Launch) (hl0 : l.stackTraces = false) (D : va_G) (dA : Nat → ClassId) (b0 : Nat) (gs : Nat → Option Nat) (h : PH) (a0 : Nat) (a1 : Nat) {r : Int32} {hh : PH} {mc ms : Nat} (hf : f_X0_find h a0 a1 = some (r, hh, mc, ms)) : zMx l D dA b0 gs yX0_find (wsW_ yX0_find cX0_find 3 (some .int) [((0 : Nat), (8 : Nat), (11 : Nat), (30 : Nat))]) 8 215 [.ref a0, .ref a1] h evI (.inl r) hh mc ms := by
  unfold f_X0_find at hf
  refine zMx.ofH (by decide) (Nat.le_of_ble_eq_true rfl) ?_
  intro p e s m args below meth c hc hr hin ht hn ls hl
  have hl : lv_has ls 3 [(0, .ref a0), (1, .ref a1)] := hl
  have hq : 0 + mc = mc ∧ 0 + ms = ms := ⟨Nat.zero_add _, Nat.zero_add _⟩
  have hx := hc.x
  have hb := hc.b
  refine lv_aload_n (x := a1) hx hb dX0_find_0 rfl (lv_at hl 1 rfl) ?_
  refine lv_iconst (v := (0 : Int32)) hx hb dX0_find_1 (by decide) ?_
  refine lv_aload_n (x := a0) hx hb dX0_find_2 rfl (lv_at hl 0 rfl) ?_
  refine zh_VI (As := []) (rest := [.int (0 : Int32), .ref a1]) hc hn hq (ci := 0) rfl ⟨rfl, hd_X1_find⟩ (lw_V q1135 q1136 q1137 q84 q1138) (Nat.le_of_ble_eq_true rfl) (Nat.le_of_ble_eq_true rfl) (fun _ _ _ _ q => m_X1_find l hl0 D dA b0 gs h a0 q) hf dX0_find_3 hl.1 rfl rfl (zroom (Nat.le_of_ble_eq_true rfl)) (fun x101 h102 H locs cells slots C9 S9 hf hq hn => ?_) (fun e9 q9 ce9 h102 H locs cells slots C9 S9 hf hq hn g5 g6 g7 => ?_)
  · refine lv_i2l (v := x101.toInt64) hx hb dX0_find_6 rfl ?_
    refine zr_nmL hf (fun x103 hf => ?_)
    refine zr_sL hc hn hf dX0_find_7 (fun h104 H locs hf hn => ?_)
    refine lv_goto (tgt := 14) hx hb dX0_find_8 (by decide) ?_
    refine lv_iconst (v := (0 : Int32)) hx hb dX0_find_14 (by decide) ?_
    obtain ⟨rfl, rfl, rfl, rfl⟩ := zret_i hf
    exact zx_ret (zr_iret hc hn hr hq (fun _ _ _ _ q => ⟨_, rfl, q⟩) dX0_find_15)
  · by_cases c9 : e9 = 4
    · have hf9 := zif_t c9 hf
      subst c9
      have hf := hf9
      clear hf9
      refine vx_catch (name := "java/util/NoSuchElementException") hc.ow [] ⟨0, 8, 11, 30⟩ [] (by rw [ht]; rfl) (fun z hz => nomatch hz) (by decide) (by decide) (hc.ts _ q1134) ((hc.nC q1150).use rfl) g5 g6 g7 ?_
      refine lv_astore_n (x := q9) (i := 2) (lv' := [(2, .ref q9), (0, .ref a0), (1, .ref a1)]) hx hb dX0_find_11 rfl hl (by decide) rfl (fun ls hl => ?_)
      refine lv_iconst (v := (1 : Int32)) hx hb dX0_find_12 (by decide) ?_
      obtain ⟨rfl, rfl, rfl, rfl⟩ := zret_i hf
      exact zx_ret (zr_iret hc hn hr hq (fun _ _ _ _ q => ⟨_, rfl, q⟩) dX0_find_13)
    · have hf := zif_f c9 hf
      cases hf
theorem hd_X0_size : yX0_size.cls ≠ "java/lang/invoke/MethodHandle" ∧ yX0_size.cls ≠ "java/lang/invoke/VarHandle" ∧ (parseMethodDescriptor yX0_size.desc).map (fun d => d.parameters.length) = some 3 := by decide +kernel
def f_X0_size (h : PH) (a0 : Nat) (v1 : Int32) (a2 : Nat) : ZR Int32 :=
  zrc h a0 0 <| zch (f_X1_size h a0 v1) (fun x101 h102 =>
    znm x101.toInt64 fun x103 =>
    zsL h102 a2 3 (0 : Int32) x103 fun h104 =>
    zret (0 : Int32) h104)
    (fun e9 q9 h102 =>
      if e9 = 1 then
        (zret (1 : Int32) h102)
      else
        (none))
set_option maxHeartbeats 4000000 in
set_option maxRecDepth 100000 in
theorem m_X0_size (l : Launch) (hl0 : l.stackTraces = false) (D : va_G) (dA : Nat → ClassId) (b0 : Nat) (gs : Nat → Option Nat) (h : PH) (a0 : Nat) (v1 : Int32) (a2 : Nat) {r : Int32} {hh : PH} {mc ms : Nat} (hf : f_X0_size h a0 v1 a2 = some (r, hh, mc, ms)) : zMx l D dA b0 gs yX0_size (wsW_ yX0_size cX0_size 4 (some .int) [((0 : Nat), (9 : Nat), (12 : Nat), (19 : Nat))]) 9 182 [.ref a0, .int v1, .ref a2] h evI (.inl r) hh mc ms := by
  unfold f_X0_size at hf
  refine zMx.ofH (by decide) (Nat.le_of_ble_eq_true rfl) ?_
  intro p e s m args below meth c hc hr hin ht hn ls hl
  have hl : lv_has ls 4 [(0, .ref a0), (1, .int v1), (2, .ref a2)] := hl
  have hq : 0 + mc = mc ∧ 0 + ms = ms := ⟨Nat.zero_add _, Nat.zero_add _⟩
  have hx := hc.x
  have hb := hc.b
  refine lv_aload_n (x := a2) hx hb dX0_size_0 rfl (lv_at hl 2 rfl) ?_
  refine lv_iconst (v := (0 : Int32)) hx hb dX0_size_1 (by decide) ?_
  refine lv_aload_n (x := a0) hx hb dX0_size_2 rfl (lv_at hl 0 rfl) ?_
  refine lv_iload_n hx hb dX0_size_3 rfl (lv_at hl 1 rfl) ?_
  refine zh_VI (As := [.int v1]) (rest := [.int (0 : Int32), .ref a2]) hc hn hq (ci := 0) rfl ⟨rfl, hd_X1_size⟩ (lw_V q1166 q1167 q1168 q84 q1169) (Nat.le_of_ble_eq_true rfl) (Nat.le_of_ble_eq_true rfl) (fun _ _ _ _ q => m_X1_size l hl0 D dA b0 gs h a0 v1 q) hf dX0_size_4 hl.1 rfl rfl (zroom (Nat.le_of_ble_eq_true rfl)) (fun x101 h102 H locs cells slots C9 S9 hf hq hn => ?_) (fun e9 q9 ce9 h102 H locs cells slots C9 S9 hf hq hn g5 g6 g7 => ?_)
  · refine lv_i2l (v := x101.toInt64) hx hb dX0_size_7 rfl ?_
    refine zr_nmL hf (fun x103 hf => ?_)
    refine zr_sL hc hn hf dX0_size_8 (fun h104 H locs hf hn => ?_)
    refine lv_goto (tgt := 15) hx hb dX0_size_9 (by decide) ?_
    refine lv_iconst (v := (0 : Int32)) hx hb dX0_size_15 (by decide) ?_
    obtain ⟨rfl, rfl, rfl, rfl⟩ := zret_i hf
    exact zx_ret (zr_iret hc hn hr hq (fun _ _ _ _ q => ⟨_, rfl, q⟩) dX0_size_16)
  · by_cases c9 : e9 = 1
    · have hf9 := zif_t c9 hf
      subst c9
      have hf := hf9
      clear hf9
      refine vx_catch (name := "java/lang/IndexOutOfBoundsException") hc.ow [] ⟨0, 9, 12, 19⟩ [] (by rw [ht]; rfl) (fun z hz => nomatch hz) (by decide) (by decide) (hc.ts _ q359) ((hc.nC q400).use rfl) g5 g6 g7 ?_
      refine lv_astore_n (x := q9) (i := 3) (lv' := [(3, .ref q9), (0, .ref a0), (1, .int v1), (2, .ref a2)]) hx hb dX0_size_12 rfl hl (by decide) rfl (fun ls hl => ?_)
      refine lv_iconst (v := (1 : Int32)) hx hb dX0_size_13 (by decide) ?_
      obtain ⟨rfl, rfl, rfl, rfl⟩ := zret_i hf
      exact zx_ret (zr_iret hc hn hr hq (fun _ _ _ _ q => ⟨_, rfl, q⟩) dX0_size_14)
    · have hf := zif_f c9 hf
      cases hf
theorem hd_X0_height : yX0_height.cls ≠ "java/lang/invoke/MethodHandle" ∧ yX0_height.cls ≠ "java/lang/invoke/VarHandle" ∧ (parseMethodDescriptor yX0_height.desc).map (fun d => d.parameters.length) = some 3 := by decide +kernel
def f_X0_height (h : PH) (a0 : Nat) (v1 : Int32) (a2 : Nat) : ZR Int32 :=
  zrc h a0 0 <| zch (f_X1_height h a0 v1) (fun x101 h102 =>
    znm x101.toInt64 fun x103 =>
    zsL h102 a2 3 (0 : Int32) x103 fun h104 =>
    zret (0 : Int32) h104)
    (fun e9 q9 h102 =>
      if e9 = 1 then
        (zret (1 : Int32) h102)
      else
        (none))
set_option maxHeartbeats 4000000 in
set_option maxRecDepth 100000 in
theorem m_X0_height (l : Launch) (hl0 : l.stackTraces = false) (D : va_G) (dA : Nat → ClassId) (b0 : Nat) (gs : Nat → Option Nat) (h : PH) (a0 : Nat) (v1 : Int32) (a2 : Nat) {r : Int32} {hh : PH} {mc ms : Nat} (hf : f_X0_height h a0 v1 a2 = some (r, hh, mc, ms)) : zMx l D dA b0 gs yX0_height (wsW_ yX0_height cX0_height 4 (some .int) [((0 : Nat), (9 : Nat), (12 : Nat), (19 : Nat))]) 9 182 [.ref a0, .int v1, .ref a2] h evI (.inl r) hh mc ms := by
  unfold f_X0_height at hf
  refine zMx.ofH (by decide) (Nat.le_of_ble_eq_true rfl) ?_
  intro p e s m args below meth c hc hr hin ht hn ls hl
  have hl : lv_has ls 4 [(0, .ref a0), (1, .int v1), (2, .ref a2)] := hl
  have hq : 0 + mc = mc ∧ 0 + ms = ms := ⟨Nat.zero_add _, Nat.zero_add _⟩
  have hx := hc.x
  have hb := hc.b
  refine lv_aload_n (x := a2) hx hb dX0_height_0 rfl (lv_at hl 2 rfl) ?_
  refine lv_iconst (v := (0 : Int32)) hx hb dX0_height_1 (by decide) ?_
  refine lv_aload_n (x := a0) hx hb dX0_height_2 rfl (lv_at hl 0 rfl) ?_
  refine lv_iload_n hx hb dX0_height_3 rfl (lv_at hl 1 rfl) ?_
  refine zh_VI (As := [.int v1]) (rest := [.int (0 : Int32), .ref a2]) hc hn hq (ci := 0) rfl ⟨rfl, hd_X1_height⟩ (lw_V q1178 q1179 q1180 q84 q1181) (Nat.le_of_ble_eq_true rfl) (Nat.le_of_ble_eq_true rfl) (fun _ _ _ _ q => m_X1_height l hl0 D dA b0 gs h a0 v1 q) hf dX0_height_4 hl.1 rfl rfl (zroom (Nat.le_of_ble_eq_true rfl)) (fun x101 h102 H locs cells slots C9 S9 hf hq hn => ?_) (fun e9 q9 ce9 h102 H locs cells slots C9 S9 hf hq hn g5 g6 g7 => ?_)
  · refine lv_i2l (v := x101.toInt64) hx hb dX0_height_7 rfl ?_
    refine zr_nmL hf (fun x103 hf => ?_)
    refine zr_sL hc hn hf dX0_height_8 (fun h104 H locs hf hn => ?_)
    refine lv_goto (tgt := 15) hx hb dX0_height_9 (by decide) ?_
    refine lv_iconst (v := (0 : Int32)) hx hb dX0_height_15 (by decide) ?_
    obtain ⟨rfl, rfl, rfl, rfl⟩ := zret_i hf
    exact zx_ret (zr_iret hc hn hr hq (fun _ _ _ _ q => ⟨_, rfl, q⟩) dX0_height_16)
  · by_cases c9 : e9 = 1
    · have hf9 := zif_t c9 hf
      subst c9
      have hf := hf9
      clear hf9
      refine vx_catch (name := "java/lang/IndexOutOfBoundsException") hc.ow [] ⟨0, 9, 12, 19⟩ [] (by rw [ht]; rfl) (fun z hz => nomatch hz) (by decide) (by decide) (hc.ts _ q359) ((hc.nC q400).use rfl) g5 g6 g7 ?_
      refine lv_astore_n (x := q9) (i := 3) (lv' := [(3, .ref q9), (0, .ref a0), (1, .int v1), (2, .ref a2)]) hx hb dX0_height_12 rfl hl (by decide) rfl (fun ls hl => ?_)
      refine lv_iconst (v := (1 : Int32)) hx hb dX0_height_13 (by decide) ?_
      obtain ⟨rfl, rfl, rfl, rfl⟩ := zret_i hf
      exact zx_ret (zr_iret hc hn hr hq (fun _ _ _ _ q => ⟨_, rfl, q⟩) dX0_height_14)
    · have hf := zif_f c9 hf
      cases hf
theorem hd_X0_keyAt : yX0_keyAt.cls ≠ "java/lang/invoke/MethodHandle" ∧ yX0_keyAt.cls ≠ "java/lang/invoke/VarHandle" ∧ (parseMethodDescriptor yX0_keyAt.desc).map (fun d => d.parameters.length) = some 4 := by decide +kernel
def f_X0_keyAt (h : PH) (a0 : Nat) (v1 : Int32) (v2 : Int32) (a3 : Nat) : ZR Int32 :=
  zrc h a0 0 <| zch (f_X1_keyAt h a0 v1 v2) (fun x101 h102 =>
    znm x101.toInt64 fun x103 =>
    zsL h102 a3 3 (0 : Int32) x103 fun h104 =>
    zret (0 : Int32) h104)
    (fun e9 q9 h102 =>
      if e9 = 1 then
        (zret (1 : Int32) h102)
      else
        (none))
set_option maxHeartbeats 4000000 in
set_option maxRecDepth 100000 in
theorem m_X0_keyAt (l : Launch) (hl0 : l.stackTraces = false) (D : va_G) (dA : Nat → ClassId) (b0 : Nat) (gs : Nat → Option Nat) (h : PH) (a0 : Nat) (v1 : Int32) (v2 : Int32) (a3 : Nat) {r : Int32} {hh : PH} {mc ms : Nat} (hf : f_X0_keyAt h a0 v1 v2 a3 = some (r, hh, mc, ms)) : zMx l D dA b0 gs yX0_keyAt (wsW_ yX0_keyAt cX0_keyAt 5 (some .int) [((0 : Nat), (10 : Nat), (13 : Nat), (19 : Nat))]) 10 206 [.ref a0, .int v1, .int v2, .ref a3] h evI (.inl r) hh mc ms := by
  unfold f_X0_keyAt at hf
  refine zMx.ofH (by decide) (Nat.le_of_ble_eq_true rfl) ?_
  intro p e s m args below meth c hc hr hin ht hn ls hl
  have hl : lv_has ls 5 [(0, .ref a0), (1, .int v1), (2, .int v2), (3, .ref a3)] := hl
  have hq : 0 + mc = mc ∧ 0 + ms = ms := ⟨Nat.zero_add _, Nat.zero_add _⟩
  have hx := hc.x
  have hb := hc.b
  refine lv_aload_n (x := a3) hx hb dX0_keyAt_0 rfl (lv_at hl 3 rfl) ?_
  refine lv_iconst (v := (0 : Int32)) hx hb dX0_keyAt_1 (by decide) ?_
  refine lv_aload_n (x := a0) hx hb dX0_keyAt_2 rfl (lv_at hl 0 rfl) ?_
  refine lv_iload_n hx hb dX0_keyAt_3 rfl (lv_at hl 1 rfl) ?_
  refine lv_iload_n hx hb dX0_keyAt_4 rfl (lv_at hl 2 rfl) ?_
  refine zh_VI (As := [.int v1, .int v2]) (rest := [.int (0 : Int32), .ref a3]) hc hn hq (ci := 0) rfl ⟨rfl, hd_X1_keyAt⟩ (lw_V q1186 q1187 q1188 q84 q1189) (Nat.le_of_ble_eq_true rfl) (Nat.le_of_ble_eq_true rfl) (fun _ _ _ _ q => m_X1_keyAt l hl0 D dA b0 gs h a0 v1 v2 q) hf dX0_keyAt_5 hl.1 rfl rfl (zroom (Nat.le_of_ble_eq_true rfl)) (fun x101 h102 H locs cells slots C9 S9 hf hq hn => ?_) (fun e9 q9 ce9 h102 H locs cells slots C9 S9 hf hq hn g5 g6 g7 => ?_)
  · refine lv_i2l (v := x101.toInt64) hx hb dX0_keyAt_8 rfl ?_
    refine zr_nmL hf (fun x103 hf => ?_)
    refine zr_sL hc hn hf dX0_keyAt_9 (fun h104 H locs hf hn => ?_)
    refine lv_goto (tgt := 17) hx hb dX0_keyAt_10 (by decide) ?_
    refine lv_iconst (v := (0 : Int32)) hx hb dX0_keyAt_17 (by decide) ?_
    obtain ⟨rfl, rfl, rfl, rfl⟩ := zret_i hf
    exact zx_ret (zr_iret hc hn hr hq (fun _ _ _ _ q => ⟨_, rfl, q⟩) dX0_keyAt_18)
  · by_cases c9 : e9 = 1
    · have hf9 := zif_t c9 hf
      subst c9
      have hf := hf9
      clear hf9
      refine vx_catch (name := "java/lang/IndexOutOfBoundsException") hc.ow [] ⟨0, 10, 13, 19⟩ [] (by rw [ht]; rfl) (fun z hz => nomatch hz) (by decide) (by decide) (hc.ts _ q359) ((hc.nC q400).use rfl) g5 g6 g7 ?_
      refine lv_astore (x := q9) (lv' := [(4, .ref q9), (0, .ref a0), (1, .int v1), (2, .int v2), (3, .ref a3)]) hx hb dX0_keyAt_13 hl (by decide) rfl (fun ls hl => ?_)
      refine lv_iconst (v := (1 : Int32)) hx hb dX0_keyAt_15 (by decide) ?_
      obtain ⟨rfl, rfl, rfl, rfl⟩ := zret_i hf
      exact zx_ret (zr_iret hc hn hr hq (fun _ _ _ _ q => ⟨_, rfl, q⟩) dX0_keyAt_16)
    · have hf := zif_f c9 hf
      cases hf
theorem hd_X0_valueAt : yX0_valueAt.cls ≠ "java/lang/invoke/MethodHandle" ∧ yX0_valueAt.cls ≠ "java/lang/invoke/VarHandle" ∧ (parseMethodDescriptor yX0_valueAt.desc).map (fun d => d.parameters.length) = some 4 := by decide +kernel
def f_X0_valueAt (h : PH) (a0 : Nat) (v1 : Int32) (v2 : Int32) (a3 : Nat) : ZR Int32 :=
  zrc h a0 0 <| zch (f_X1_valueAt h a0 v1 v2) (fun x101 h102 =>
    znm x101.toInt64 fun x103 =>
    zsL h102 a3 3 (0 : Int32) x103 fun h104 =>
    zret (0 : Int32) h104)
    (fun e9 q9 h102 =>
      if e9 = 1 then
        (zret (1 : Int32) h102)
      else
        (none))
set_option maxHeartbeats 4000000 in
set_option maxRecDepth 100000 in
theorem m_X0_valueAt (l : Launch) (hl0 : l.stackTraces = false) (D : va_G) (dA : Nat → ClassId) (b0 : Nat) (gs : Nat → Option Nat) (h : PH) (a0 : Nat) (v1 : Int32) (v2 : Int32) (a3 : Nat) {r : Int32} {hh : PH} {mc ms : Nat} (hf : f_X0_valueAt h a0 v1 v2 a3 = some (r, hh, mc, ms)) : zMx l D dA b0 gs yX0_valueAt (wsW_ yX0_valueAt cX0_valueAt 5 (some .int) [((0 : Nat), (10 : Nat), (13 : Nat), (19 : Nat))]) 10 206 [.ref a0, .int v1, .int v2, .ref a3] h evI (.inl r) hh mc ms := by
  unfold f_X0_valueAt at hf
  refine zMx.ofH (by decide) (Nat.le_of_ble_eq_true rfl) ?_
  intro p e s m args below meth c hc hr hin ht hn ls hl
  have hl : lv_has ls 5 [(0, .ref a0), (1, .int v1), (2, .int v2), (3, .ref a3)] := hl
  have hq : 0 + mc = mc ∧ 0 + ms = ms := ⟨Nat.zero_add _, Nat.zero_add _⟩
  have hx := hc.x
  have hb := hc.b
  refine lv_aload_n (x := a3) hx hb dX0_valueAt_0 rfl (lv_at hl 3 rfl) ?_
  refine lv_iconst (v := (0 : Int32)) hx hb dX0_valueAt_1 (by decide) ?_
  refine lv_aload_n (x := a0) hx hb dX0_valueAt_2 rfl (lv_at hl 0 rfl) ?_
  refine lv_iload_n hx hb dX0_valueAt_3 rfl (lv_at hl 1 rfl) ?_
  refine lv_iload_n hx hb dX0_valueAt_4 rfl (lv_at hl 2 rfl) ?_
  refine zh_VI (As := [.int v1, .int v2]) (rest := [.int (0 : Int32), .ref a3]) hc hn hq (ci := 0) rfl ⟨rfl, hd_X1_valueAt⟩ (lw_V q1201 q1202 q1203 q84 q1204) (Nat.le_of_ble_eq_true rfl) (Nat.le_of_ble_eq_true rfl) (fun _ _ _ _ q => m_X1_valueAt l hl0 D dA b0 gs h a0 v1 v2 q) hf dX0_valueAt_5 hl.1 rfl rfl (zroom (Nat.le_of_ble_eq_true rfl)) (fun x101 h102 H locs cells slots C9 S9 hf hq hn => ?_) (fun e9 q9 ce9 h102 H locs cells slots C9 S9 hf hq hn g5 g6 g7 => ?_)
  · refine lv_i2l (v := x101.toInt64) hx hb dX0_valueAt_8 rfl ?_
    refine zr_nmL hf (fun x103 hf => ?_)
    refine zr_sL hc hn hf dX0_valueAt_9 (fun h104 H locs hf hn => ?_)
    refine lv_goto (tgt := 17) hx hb dX0_valueAt_10 (by decide) ?_
    refine lv_iconst (v := (0 : Int32)) hx hb dX0_valueAt_17 (by decide) ?_
    obtain ⟨rfl, rfl, rfl, rfl⟩ := zret_i hf
    exact zx_ret (zr_iret hc hn hr hq (fun _ _ _ _ q => ⟨_, rfl, q⟩) dX0_valueAt_18)
  · by_cases c9 : e9 = 1
    · have hf9 := zif_t c9 hf
      subst c9
      have hf := hf9
      clear hf9
      refine vx_catch (name := "java/lang/IndexOutOfBoundsException") hc.ow [] ⟨0, 10, 13, 19⟩ [] (by rw [ht]; rfl) (fun z hz => nomatch hz) (by decide) (by decide) (hc.ts _ q359) ((hc.nC q400).use rfl) g5 g6 g7 ?_
      refine lv_astore (x := q9) (lv' := [(4, .ref q9), (0, .ref a0), (1, .int v1), (2, .int v2), (3, .ref a3)]) hx hb dX0_valueAt_13 hl (by decide) rfl (fun ls hl => ?_)
      refine lv_iconst (v := (1 : Int32)) hx hb dX0_valueAt_15 (by decide) ?_
      obtain ⟨rfl, rfl, rfl, rfl⟩ := zret_i hf
      exact zx_ret (zr_iret hc hn hr hq (fun _ _ _ _ q => ⟨_, rfl, q⟩) dX0_valueAt_16)
    · have hf := zif_f c9 hf
      cases hf
theorem hd_X0_heightAt : yX0_heightAt.cls ≠ "java/lang/invoke/MethodHandle" ∧ yX0_heightAt.cls ≠ "java/lang/invoke/VarHandle" ∧ (parseMethodDescriptor yX0_heightAt.desc).map (fun d => d.parameters.length) = some 4 := by decide +kernel
def f_X0_heightAt (h : PH) (a0 : Nat) (v1 : Int32) (v2 : Int32) (a3 : Nat) : ZR Int32 :=
  zrc h a0 0 <| zch (f_X1_heightAt h a0 v1 v2) (fun x101 h102 =>
    znm x101.toInt64 fun x103 =>
    zsL h102 a3 3 (0 : Int32) x103 fun h104 =>
    zret (0 : Int32) h104)
    (fun e9 q9 h102 =>
      if e9 = 1 then
        (zret (1 : Int32) h102)
      else
        (none))
set_option maxHeartbeats 4000000 in
set_option maxRecDepth 100000 in
theorem m_X0_heightAt (l : Launch) (hl0 : l.stackTraces = false) (D : va_G) (dA : Nat → ClassId) (b0 : Nat) (gs : Nat → Option Nat) (h : PH) (a0 : Nat) (v1 : Int32) (v2 : Int32) (a3 : Nat) {r : Int32} {hh : PH} {mc ms : Nat} (hf : f_X0_heightAt h a0 v1 v2 a3 = some (r, hh, mc, ms)) : zMx l D dA b0 gs yX0_heightAt (wsW_ yX0_heightAt cX0_heightAt 5 (some .int) [((0 : Nat), (10 : Nat), (13 : Nat), (19 : Nat))]) 10 206 [.ref a0, .int v1, .int v2, .ref a3] h evI (.inl r) hh mc ms := by
  unfold f_X0_heightAt at hf
  refine zMx.ofH (by decide) (Nat.le_of_ble_eq_true rfl) ?_
  intro p e s m args below meth c hc hr hin ht hn ls hl
  have hl : lv_has ls 5 [(0, .ref a0), (1, .int v1), (2, .int v2), (3, .ref a3)] := hl
  have hq : 0 + mc = mc ∧ 0 + ms = ms := ⟨Nat.zero_add _, Nat.zero_add _⟩
  have hx := hc.x
  have hb := hc.b
  refine lv_aload_n (x := a3) hx hb dX0_heightAt_0 rfl (lv_at hl 3 rfl) ?_
  refine lv_iconst (v := (0 : Int32)) hx hb dX0_heightAt_1 (by decide) ?_
  refine lv_aload_n (x := a0) hx hb dX0_heightAt_2 rfl (lv_at hl 0 rfl) ?_
  refine lv_iload_n hx hb dX0_heightAt_3 rfl (lv_at hl 1 rfl) ?_
  refine lv_iload_n hx hb dX0_heightAt_4 rfl (lv_at hl 2 rfl) ?_
  refine zh_VI (As := [.int v1, .int v2]) (rest := [.int (0 : Int32), .ref a3]) hc hn hq (ci := 0) rfl ⟨rfl, hd_X1_heightAt⟩ (lw_V q1208 q1209 q1210 q84 q1211) (Nat.le_of_ble_eq_true rfl) (Nat.le_of_ble_eq_true rfl) (fun _ _ _ _ q => m_X1_heightAt l hl0 D dA b0 gs h a0 v1 v2 q) hf dX0_heightAt_5 hl.1 rfl rfl (zroom (Nat.le_of_ble_eq_true rfl)) (fun x101 h102 H locs cells slots C9 S9 hf hq hn => ?_) (fun e9 q9 ce9 h102 H locs cells slots C9 S9 hf hq hn g5 g6 g7 => ?_)
  · refine lv_i2l (v := x101.toInt64) hx hb dX0_heightAt_8 rfl ?_
    refine zr_nmL hf (fun x103 hf => ?_)
    refine zr_sL hc hn hf dX0_heightAt_9 (fun h104 H locs hf hn => ?_)
    refine lv_goto (tgt := 17) hx hb dX0_heightAt_10 (by decide) ?_
    refine lv_iconst (v := (0 : Int32)) hx hb dX0_heightAt_17 (by decide) ?_
    obtain ⟨rfl, rfl, rfl, rfl⟩ := zret_i hf
    exact zx_ret (zr_iret hc hn hr hq (fun _ _ _ _ q => ⟨_, rfl, q⟩) dX0_heightAt_18)
  · by_cases c9 : e9 = 1
    · have hf9 := zif_t c9 hf
      subst c9
      have hf := hf9
      clear hf9
      refine vx_catch (name := "java/lang/IndexOutOfBoundsException") hc.ow [] ⟨0, 10, 13, 19⟩ [] (by rw [ht]; rfl) (fun z hz => nomatch hz) (by decide) (by decide) (hc.ts _ q359) ((hc.nC q400).use rfl) g5 g6 g7 ?_
      refine lv_astore (x := q9) (lv' := [(4, .ref q9), (0, .ref a0), (1, .int v1), (2, .int v2), (3, .ref a3)]) hx hb dX0_heightAt_13 hl (by decide) rfl (fun ls hl => ?_)
      refine lv_iconst (v := (1 : Int32)) hx hb dX0_heightAt_15 (by decide) ?_
      obtain ⟨rfl, rfl, rfl, rfl⟩ := zret_i hf
      exact zx_ret (zr_iret hc hn hr hq (fun _ _ _ _ q => ⟨_, rfl, q⟩) dX0_heightAt_16)
    · have hf := zif_f c9 hf
      cases hf
theorem hd_X0_value : yX0_value.cls ≠ "java/lang/invoke/MethodHandle" ∧ yX0_value.cls ≠ "java/lang/invoke/VarHandle" ∧ (parseMethodDescriptor yX0_value.desc).map (fun d => d.parameters.length) = some 4 := by decide +kernel
def f_X0_value (h : PH) (a0 : Nat) (v1 : Int32) (v2 : Int32) (a3 : Nat) : ZR Int32 :=
  zrc h a0 0 <| zch (f_X1_value h a0 v1 v2) (fun x101 h102 =>
    znm x101.toInt64 fun x103 =>
    zsL h102 a3 3 (0 : Int32) x103 fun h104 =>
    zret (0 : Int32) h104)
    (fun e9 q9 h102 =>
      if e9 = 1 then
        (zret (1 : Int32) h102)
      else
        (if e9 = 2 then
          (zret (2 : Int32) h102)
        else
          (if e9 = 4 then
            (zret (3 : Int32) h102)
          else
            (none))))
set_option maxHeartbeats 4000000 in
set_option maxRecDepth 100000 in
theorem m_X0_value (l : Launch) (hl0 : l.stackTraces = false) (D : va_G) (dA : Nat → ClassId) (b0 : Nat) (gs : Nat → Option Nat) (h : PH) (a0 : Nat) (v1 : Int32) (v2 : Int32) (a3 : Nat) {r : Int32} {hh : PH} {mc ms : Nat} (hf : f_X0_value h a0 v1 v2 a3 = some (r, hh, mc, ms)) : zMx l D dA b0 gs yX0_value (wsW_ yX0_value cX0_value 5 (some .int) [((0 : Nat), (10 : Nat), (13 : Nat), (19 : Nat)), ((0 : Nat), (10 : Nat), (17 : Nat), (25 : Nat)), ((0 : Nat), (10 : Nat), (21 : Nat), (30 : Nat))]) 10 209 [.ref a0, .int v1, .int v2, .ref a3] h evI (.inl r) hh mc ms := by
  unfold f_X0_value at hf
  refine zMx.ofH (by decide) (Nat.le_of_ble_eq_true rfl) ?_
  intro p e s m args below meth c hc hr hin ht hn ls hl
  have hl : lv_has ls 5 [(0, .ref a0), (1, .int v1), (2, .int v2), (3, .ref a3)] := hl
  have hq : 0 + mc = mc ∧ 0 + ms = ms := ⟨Nat.zero_add _, Nat.zero_add _⟩
  have hx := hc.x
  have hb := hc.b
  refine lv_aload_n (x := a3) hx hb dX0_value_0 rfl (lv_at hl 3 rfl) ?_
  refine lv_iconst (v := (0 : Int32)) hx hb dX0_value_1 (by decide) ?_
  refine lv_aload_n (x := a0) hx hb dX0_value_2 rfl (lv_at hl 0 rfl) ?_
  refine lv_iload_n hx hb dX0_value_3 rfl (lv_at hl 1 rfl) ?_
  refine lv_iload_n hx hb dX0_value_4 rfl (lv_at hl 2 rfl) ?_
  refine zh_VI (As := [.int v1, .int v2]) (rest := [.int (0 : Int32), .ref a3]) hc hn hq (ci := 0) rfl ⟨rfl, hd_X1_value⟩ (lw_V q1215 q1216 q1217 q84 q1218) (Nat.le_of_ble_eq_true rfl) (Nat.le_of_ble_eq_true rfl) (fun _ _ _ _ q => m_X1_value l hl0 D dA b0 gs h a0 v1 v2 q) hf dX0_value_5 hl.1 rfl rfl (zroom (Nat.le_of_ble_eq_true rfl)) (fun x101 h102 H locs cells slots C9 S9 hf hq hn => ?_) (fun e9 q9 ce9 h102 H locs cells slots C9 S9 hf hq hn g5 g6 g7 => ?_)
  · refine lv_i2l (v := x101.toInt64) hx hb dX0_value_8 rfl ?_
    refine zr_nmL hf (fun x103 hf => ?_)
    refine zr_sL hc hn hf dX0_value_9 (fun h104 H locs hf hn => ?_)
    refine lv_goto (tgt := 25) hx hb dX0_value_10 (by decide) ?_
    refine lv_iconst (v := (0 : Int32)) hx hb dX0_value_25 (by decide) ?_
    obtain ⟨rfl, rfl, rfl, rfl⟩ := zret_i hf
    exact zx_ret (zr_iret hc hn hr hq (fun _ _ _ _ q => ⟨_, rfl, q⟩) dX0_value_26)
  · by_cases c9 : e9 = 1
    · have hf9 := zif_t c9 hf
      subst c9
      have hf := hf9
      clear hf9
      refine vx_catch (name := "java/lang/IndexOutOfBoundsException") hc.ow [] ⟨0, 10, 13, 19⟩ [⟨0, 10, 17, 25⟩, ⟨0, 10, 21, 30⟩] (by rw [ht]; rfl) (fun z hz => nomatch hz) (by decide) (by decide) (hc.ts _ q359) ((hc.nC q400).use rfl) g5 g6 g7 ?_
      refine lv_astore (x := q9) (lv' := [(4, .ref q9), (0, .ref a0), (1, .int v1), (2, .int v2), (3, .ref a3)]) hx hb dX0_value_13 hl (by decide) rfl (fun ls hl => ?_)
      refine lv_iconst (v := (1 : Int32)) hx hb dX0_value_15 (by decide) ?_
      obtain ⟨rfl, rfl, rfl, rfl⟩ := zret_i hf
      exact zx_ret (zr_iret hc hn hr hq (fun _ _ _ _ q => ⟨_, rfl, q⟩) dX0_value_16)
    · have hf := zif_f c9 hf
      by_cases c9 : e9 = 2
      · have hf9 := zif_t c9 hf
        subst c9
        have hf := hf9
        clear hf9
        refine vx_catch (name := "java/lang/IllegalArgumentException") hc.ow [⟨0, 10, 13, 19⟩] ⟨0, 10, 17, 25⟩ [⟨0, 10, 21, 30⟩] (by rw [ht]; rfl) (fun z hz => by
            simp only [List.mem_cons, List.not_mem_nil, or_false] at hz
            rcases hz with rfl
            · exact Or.inr ⟨by decide, _, hc.ts _ q359, hc.nNc znc_2_1⟩) (by decide) (by decide) (hc.ts _ q416) ((hc.nC q603).use rfl) g5 g6 g7 ?_
        refine lv_astore (x := q9) (lv' := [(4, .ref q9), (0, .ref a0), (1, .int v1), (2, .int v2), (3, .ref a3)]) hx hb dX0_value_17 hl (by decide) rfl (fun ls hl => ?_)
        refine lv_iconst (v := (2 : Int32)) hx hb dX0_value_19 (by decide) ?_
        obtain ⟨rfl, rfl, rfl, rfl⟩ := zret_i hf
        exact zx_ret (zr_iret hc hn hr hq (fun _ _ _ _ q => ⟨_, rfl, q⟩) dX0_value_20)
      · have hf := zif_f c9 hf
        by_cases c9 : e9 = 4
        · have hf9 := zif_t c9 hf
          subst c9
          have hf := hf9
          clear hf9
          refine vx_catch (name := "java/util/NoSuchElementException") hc.ow [⟨0, 10, 13, 19⟩, ⟨0, 10, 17, 25⟩] ⟨0, 10, 21, 30⟩ [] (by rw [ht]; rfl) (fun z hz => by
              simp only [List.mem_cons, List.not_mem_nil, or_false] at hz
              rcases hz with rfl | rfl
              · exact Or.inr ⟨by decide, _, hc.ts _ q359, hc.nNc znc_4_1⟩
              · exact Or.inr ⟨by decide, _, hc.ts _ q416, hc.nNc znc_4_2⟩) (by decide) (by decide) (hc.ts _ q1134) ((hc.nC q1150).use rfl) g5 g6 g7 ?_
          refine lv_astore (x := q9) (lv' := [(4, .ref q9), (0, .ref a0), (1, .int v1), (2, .int v2), (3, .ref a3)]) hx hb dX0_value_21 hl (by decide) rfl (fun ls hl => ?_)
          refine lv_iconst (v := (3 : Int32)) hx hb dX0_value_23 (by decide) ?_
          obtain ⟨rfl, rfl, rfl, rfl⟩ := zret_i hf
          exact zx_ret (zr_iret hc hn hr hq (fun _ _ _ _ q => ⟨_, rfl, q⟩) dX0_value_24)
        · have hf := zif_f c9 hf
          cases hf
theorem hd_X0_rank : yX0_rank.cls ≠ "java/lang/invoke/MethodHandle" ∧ yX0_rank.cls ≠ "java/lang/invoke/VarHandle" ∧ (parseMethodDescriptor yX0_rank.desc).map (fun d => d.parameters.length) = some 4 := by decide +kernel
def f_X0_rank (h : PH) (a0 : Nat) (v1 : Int32) (v2 : Int32) (a3 : Nat) : ZR Int32 :=
  zrc h a0 0 <| zch (f_X1_rank h a0 v1 v2) (fun x101 h102 =>
    znm x101.toInt64 fun x103 =>
    zsL h102 a3 3 (0 : Int32) x103 fun h104 =>
    zret (0 : Int32) h104)
    (fun e9 q9 h102 =>
      if e9 = 1 then
        (zret (1 : Int32) h102)
      else
        (if e9 = 2 then
          (zret (2 : Int32) h102)
        else
          (none)))
set_option maxHeartbeats 4000000 in
set_option maxRecDepth 100000 in
theorem m_X0_rank (l : Launch) (hl0 : l.stackTraces = false) (D : va_G) (dA : Nat → ClassId) (b0 : Nat) (gs : Nat → Option Nat) (h : PH) (a0 : Nat) (v1 : Int32) (v2 : Int32) (a3 : Nat) {r : Int32} {hh : PH} {mc ms : Nat} (hf : f_X0_rank h a0 v1 v2 a3 = some (r, hh, mc, ms)) : zMx l D dA b0 gs yX0_rank (wsW_ yX0_rank cX0_rank 5 (some .int) [((0 : Nat), (10 : Nat), (13 : Nat), (19 : Nat)), ((0 : Nat), (10 : Nat), (17 : Nat), (25 : Nat))]) 10 209 [.ref a0, .int v1, .int v2, .ref a3] h evI (.inl r) hh mc ms := by
  unfold f_X0_rank at hf
  refine zMx.ofH (by decide) (Nat.le_of_ble_eq_true rfl) ?_
  intro p e s m args below meth c hc hr hin ht hn ls hl
  have hl : lv_has ls 5 [(0, .ref a0), (1, .int v1), (2, .int v2), (3, .ref a3)] := hl
  have hq : 0 + mc = mc ∧ 0 + ms = ms := ⟨Nat.zero_add _, Nat.zero_add _⟩
  have hx := hc.x
  have hb := hc.b
  refine lv_aload_n (x := a3) hx hb dX0_rank_0 rfl (lv_at hl 3 rfl) ?_
  refine lv_iconst (v := (0 : Int32)) hx hb dX0_rank_1 (by decide) ?_
  refine lv_aload_n (x := a0) hx hb dX0_rank_2 rfl (lv_at hl 0 rfl) ?_
  refine lv_iload_n hx hb dX0_rank_3 rfl (lv_at hl 1 rfl) ?_
  refine lv_iload_n hx hb dX0_rank_4 rfl (lv_at hl 2 rfl) ?_
  refine zh_VI (As := [.int v1, .int v2]) (rest := [.int (0 : Int32), .ref a3]) hc hn hq (ci := 0) rfl ⟨rfl, hd_X1_rank⟩ (lw_V q1278 q1279 q1280 q84 q1281) (Nat.le_of_ble_eq_true rfl) (Nat.le_of_ble_eq_true rfl) (fun _ _ _ _ q => m_X1_rank l hl0 D dA b0 gs h a0 v1 v2 q) hf dX0_rank_5 hl.1 rfl rfl (zroom (Nat.le_of_ble_eq_true rfl)) (fun x101 h102 H locs cells slots C9 S9 hf hq hn => ?_) (fun e9 q9 ce9 h102 H locs cells slots C9 S9 hf hq hn g5 g6 g7 => ?_)
  · refine lv_i2l (v := x101.toInt64) hx hb dX0_rank_8 rfl ?_
    refine zr_nmL hf (fun x103 hf => ?_)
    refine zr_sL hc hn hf dX0_rank_9 (fun h104 H locs hf hn => ?_)
    refine lv_goto (tgt := 21) hx hb dX0_rank_10 (by decide) ?_
    refine lv_iconst (v := (0 : Int32)) hx hb dX0_rank_21 (by decide) ?_
    obtain ⟨rfl, rfl, rfl, rfl⟩ := zret_i hf
    exact zx_ret (zr_iret hc hn hr hq (fun _ _ _ _ q => ⟨_, rfl, q⟩) dX0_rank_22)
  · by_cases c9 : e9 = 1
    · have hf9 := zif_t c9 hf
      subst c9
      have hf := hf9
      clear hf9
      refine vx_catch (name := "java/lang/IndexOutOfBoundsException") hc.ow [] ⟨0, 10, 13, 19⟩ [⟨0, 10, 17, 25⟩] (by rw [ht]; rfl) (fun z hz => nomatch hz) (by decide) (by decide) (hc.ts _ q359) ((hc.nC q400).use rfl) g5 g6 g7 ?_
      refine lv_astore (x := q9) (lv' := [(4, .ref q9), (0, .ref a0), (1, .int v1), (2, .int v2), (3, .ref a3)]) hx hb dX0_rank_13 hl (by decide) rfl (fun ls hl => ?_)
      refine lv_iconst (v := (1 : Int32)) hx hb dX0_rank_15 (by decide) ?_
      obtain ⟨rfl, rfl, rfl, rfl⟩ := zret_i hf
      exact zx_ret (zr_iret hc hn hr hq (fun _ _ _ _ q => ⟨_, rfl, q⟩) dX0_rank_16)
    · have hf := zif_f c9 hf
      by_cases c9 : e9 = 2
      · have hf9 := zif_t c9 hf
        subst c9
        have hf := hf9
        clear hf9
        refine vx_catch (name := "java/lang/IllegalArgumentException") hc.ow [⟨0, 10, 13, 19⟩] ⟨0, 10, 17, 25⟩ [] (by rw [ht]; rfl) (fun z hz => by
            simp only [List.mem_cons, List.not_mem_nil, or_false] at hz
            rcases hz with rfl
            · exact Or.inr ⟨by decide, _, hc.ts _ q359, hc.nNc znc_2_1⟩) (by decide) (by decide) (hc.ts _ q416) ((hc.nC q603).use rfl) g5 g6 g7 ?_
        refine lv_astore (x := q9) (lv' := [(4, .ref q9), (0, .ref a0), (1, .int v1), (2, .int v2), (3, .ref a3)]) hx hb dX0_rank_17 hl (by decide) rfl (fun ls hl => ?_)
        refine lv_iconst (v := (2 : Int32)) hx hb dX0_rank_19 (by decide) ?_
        obtain ⟨rfl, rfl, rfl, rfl⟩ := zret_i hf
        exact zx_ret (zr_iret hc hn hr hq (fun _ _ _ _ q => ⟨_, rfl, q⟩) dX0_rank_20)
      · have hf := zif_f c9 hf
        cases hf
theorem hd_X0_nearest : yX0_nearest.cls ≠ "java/lang/invoke/MethodHandle" ∧ yX0_nearest.cls ≠ "java/lang/invoke/VarHandle" ∧ (parseMethodDescriptor yX0_nearest.desc).map (fun d => d.parameters.length) = some 4 := by decide +kernel
def f_X0_nearest (h : PH) (a0 : Nat) (v1 : Int32) (v2 : Int32) (a3 : Nat) : ZR Int32 :=
  zrc h a0 0 <| zch (f_X1_nearest h a0 v1 v2) (fun x101 h102 =>
    znm x101.toInt64 fun x103 =>
    zsL h102 a3 3 (0 : Int32) x103 fun h104 =>
    zret (0 : Int32) h104)
    (fun e9 q9 h102 =>
      if e9 = 1 then
        (zret (1 : Int32) h102)
      else
        (if e9 = 2 then
          (zret (2 : Int32) h102)
        else
          (if e9 = 4 then
            (zret (3 : Int32) h102)
          else
            (none))))
set_option maxHeartbeats 4000000 in
set_option maxRecDepth 100000 in
theorem m_X0_nearest (l : Launch) (hl0 : l.stackTraces = false) (D : va_G) (dA : Nat → ClassId) (b0 : Nat) (gs : Nat → Option Nat) (h : PH) (a0 : Nat) (v1 : Int32) (v2 : Int32) (a3 : Nat) {r : Int32} {hh : PH} {mc ms : Nat} (hf : f_X0_nearest h a0 v1 v2 a3 = some (r, hh, mc, ms)) : zMx l D dA b0 gs yX0_nearest (wsW_ yX0_nearest cX0_nearest 5 (some .int) [((0 : Nat), (10 : Nat), (13 : Nat), (19 : Nat)), ((0 : Nat), (10 : Nat), (17 : Nat), (25 : Nat)), ((0 : Nat), (10 : Nat), (21 : Nat), (30 : Nat))]) 11 232 [.ref a0, .int v1, .int v2, .ref a3] h evI (.inl r) hh mc ms := by
  unfold f_X0_nearest at hf
  refine zMx.ofH (by decide) (Nat.le_of_ble_eq_true rfl) ?_
  intro p e s m args below meth c hc hr hin ht hn ls hl
  have hl : lv_has ls 5 [(0, .ref a0), (1, .int v1), (2, .int v2), (3, .ref a3)] := hl
  have hq : 0 + mc = mc ∧ 0 + ms = ms := ⟨Nat.zero_add _, Nat.zero_add _⟩
  have hx := hc.x
  have hb := hc.b
  refine lv_aload_n (x := a3) hx hb dX0_nearest_0 rfl (lv_at hl 3 rfl) ?_
  refine lv_iconst (v := (0 : Int32)) hx hb dX0_nearest_1 (by decide) ?_
  refine lv_aload_n (x := a0) hx hb dX0_nearest_2 rfl (lv_at hl 0 rfl) ?_
  refine lv_iload_n hx hb dX0_nearest_3 rfl (lv_at hl 1 rfl) ?_
  refine lv_iload_n hx hb dX0_nearest_4 rfl (lv_at hl 2 rfl) ?_
  refine zh_VI (As := [.int v1, .int v2]) (rest := [.int (0 : Int32), .ref a3]) hc hn hq (ci := 0) rfl ⟨rfl, hd_X1_nearest⟩ (lw_V q1289 q1290 q1291 q84 q1292) (Nat.le_of_ble_eq_true rfl) (Nat.le_of_ble_eq_true rfl) (fun _ _ _ _ q => m_X1_nearest l hl0 D dA b0 gs h a0 v1 v2 q) hf dX0_nearest_5 hl.1 rfl rfl (zroom (Nat.le_of_ble_eq_true rfl)) (fun x101 h102 H locs cells slots C9 S9 hf hq hn => ?_) (fun e9 q9 ce9 h102 H locs cells slots C9 S9 hf hq hn g5 g6 g7 => ?_)
  · refine lv_i2l (v := x101.toInt64) hx hb dX0_nearest_8 rfl ?_
    refine zr_nmL hf (fun x103 hf => ?_)
    refine zr_sL hc hn hf dX0_nearest_9 (fun h104 H locs hf hn => ?_)
    refine lv_goto (tgt := 25) hx hb dX0_nearest_10 (by decide) ?_
    refine lv_iconst (v := (0 : Int32)) hx hb dX0_nearest_25 (by decide) ?_
    obtain ⟨rfl, rfl, rfl, rfl⟩ := zret_i hf
    exact zx_ret (zr_iret hc hn hr hq (fun _ _ _ _ q => ⟨_, rfl, q⟩) dX0_nearest_26)
  · by_cases c9 : e9 = 1
    · have hf9 := zif_t c9 hf
      subst c9
      have hf := hf9
      clear hf9
      refine vx_catch (name := "java/lang/IndexOutOfBoundsException") hc.ow [] ⟨0, 10, 13, 19⟩ [⟨0, 10, 17, 25⟩, ⟨0, 10, 21, 30⟩] (by rw [ht]; rfl) (fun z hz => nomatch hz) (by decide) (by decide) (hc.ts _ q359) ((hc.nC q400).use rfl) g5 g6 g7 ?_
      refine lv_astore (x := q9) (lv' := [(4, .ref q9), (0, .ref a0), (1, .int v1), (2, .int v2), (3, .ref a3)]) hx hb dX0_nearest_13 hl (by decide) rfl (fun ls hl => ?_)
      refine lv_iconst (v := (1 : Int32)) hx hb dX0_nearest_15 (by decide) ?_
      obtain ⟨rfl, rfl, rfl, rfl⟩ := zret_i hf
      exact zx_ret (zr_iret hc hn hr hq (fun _ _ _ _ q => ⟨_, rfl, q⟩) dX0_nearest_16)
    · have hf := zif_f c9 hf
      by_cases c9 : e9 = 2
      · have hf9 := zif_t c9 hf
        subst c9
        have hf := hf9
        clear hf9
        refine vx_catch (name := "java/lang/IllegalArgumentException") hc.ow [⟨0, 10, 13, 19⟩] ⟨0, 10, 17, 25⟩ [⟨0, 10, 21, 30⟩] (by rw [ht]; rfl) (fun z hz => by
            simp only [List.mem_cons, List.not_mem_nil, or_false] at hz
            rcases hz with rfl
            · exact Or.inr ⟨by decide, _, hc.ts _ q359, hc.nNc znc_2_1⟩) (by decide) (by decide) (hc.ts _ q416) ((hc.nC q603).use rfl) g5 g6 g7 ?_
        refine lv_astore (x := q9) (lv' := [(4, .ref q9), (0, .ref a0), (1, .int v1), (2, .int v2), (3, .ref a3)]) hx hb dX0_nearest_17 hl (by decide) rfl (fun ls hl => ?_)
        refine lv_iconst (v := (2 : Int32)) hx hb dX0_nearest_19 (by decide) ?_
        obtain ⟨rfl, rfl, rfl, rfl⟩ := zret_i hf
        exact zx_ret (zr_iret hc hn hr hq (fun _ _ _ _ q => ⟨_, rfl, q⟩) dX0_nearest_20)
      · have hf := zif_f c9 hf
        by_cases c9 : e9 = 4
        · have hf9 := zif_t c9 hf
          subst c9
          have hf := hf9
          clear hf9
          refine vx_catch (name := "java/util/NoSuchElementException") hc.ow [⟨0, 10, 13, 19⟩, ⟨0, 10, 17, 25⟩] ⟨0, 10, 21, 30⟩ [] (by rw [ht]; rfl) (fun z hz => by
              simp only [List.mem_cons, List.not_mem_nil, or_false] at hz
              rcases hz with rfl | rfl
              · exact Or.inr ⟨by decide, _, hc.ts _ q359, hc.nNc znc_4_1⟩
              · exact Or.inr ⟨by decide, _, hc.ts _ q416, hc.nNc znc_4_2⟩) (by decide) (by decide) (hc.ts _ q1134) ((hc.nC q1150).use rfl) g5 g6 g7 ?_
          refine lv_astore (x := q9) (lv' := [(4, .ref q9), (0, .ref a0), (1, .int v1), (2, .int v2), (3, .ref a3)]) hx hb dX0_nearest_21 hl (by decide) rfl (fun ls hl => ?_)
          refine lv_iconst (v := (3 : Int32)) hx hb dX0_nearest_23 (by decide) ?_
          obtain ⟨rfl, rfl, rfl, rfl⟩ := zret_i hf
          exact zx_ret (zr_iret hc hn hr hq (fun _ _ _ _ q => ⟨_, rfl, q⟩) dX0_nearest_24)
        · have hf := zif_f c9 hf
          cases hf
theorem hd_X0_rangeSum : yX0_rangeSum.cls ≠ "java/lang/invoke/MethodHandle" ∧ yX0_rangeSum.cls ≠ "java/lang/invoke/VarHandle" ∧ (parseMethodDescriptor yX0_rangeSum.desc).map (fun d => d.parameters.length) = some 5 := by decide +kernel
def f_X0_rangeSum (h : PH) (a0 : Nat) (v1 : Int32) (v2 : Int32) (v3 : Int32) (a4 : Nat) : ZR Int32 :=
  zrc h a0 0 <| zch (f_X1_rangeSum h a0 v1 v2 v3) (fun x101 h102 =>
    znm x101.toInt64 fun x103 =>
    zsL h102 a4 3 (0 : Int32) x103 fun h104 =>
    zret (0 : Int32) h104)
    (fun e9 q9 h102 =>
      if e9 = 1 then
        (zret (1 : Int32) h102)
      else
        (if e9 = 2 then
          (zret (2 : Int32) h102)
        else
          (none)))
set_option maxHeartbeats 4000000 in
set_option maxRecDepth 100000 in
theorem m_X0_rangeSum (l : Launch) (hl0 : l.stackTraces = false) (D : va_G) (dA : Nat → ClassId) (b0 : Nat) (gs : Nat → Option Nat) (h : PH) (a0 : Nat) (v1 : Int32) (v2 : Int32) (v3 : Int32) (a4 : Nat) {r : Int32} {hh : PH} {mc ms : Nat} (hf : f_X0_rangeSum h a0 v1 v2 v3 a4 = some (r, hh, mc, ms)) : zMx l D dA b0 gs yX0_rangeSum (wsW_ yX0_rangeSum cX0_rangeSum 6 (some .int) [((0 : Nat), (12 : Nat), (15 : Nat), (19 : Nat)), ((0 : Nat), (12 : Nat), (19 : Nat), (25 : Nat))]) 9 188 [.ref a0, .int v1, .int v2, .int v3, .ref a4] h evI (.inl r) hh mc ms := by
  unfold f_X0_rangeSum at hf
  refine zMx.ofH (by decide) (Nat.le_of_ble_eq_true rfl) ?_
  intro p e s m args below meth c hc hr hin ht hn ls hl
  have hl : lv_has ls 6 [(0, .ref a0), (1, .int v1), (2, .int v2), (3, .int v3), (4, .ref a4)] := hl
  have hq : 0 + mc = mc ∧ 0 + ms = ms := ⟨Nat.zero_add _, Nat.zero_add _⟩
  have hx := hc.x
  have hb := hc.b
  refine lv_aload (x := a4) hx hb dX0_rangeSum_0 (lv_at hl 4 rfl) ?_
  refine lv_iconst (v := (0 : Int32)) hx hb dX0_rangeSum_2 (by decide) ?_
  refine lv_aload_n (x := a0) hx hb dX0_rangeSum_3 rfl (lv_at hl 0 rfl) ?_
  refine lv_iload_n hx hb dX0_rangeSum_4 rfl (lv_at hl 1 rfl) ?_
  refine lv_iload_n hx hb dX0_rangeSum_5 rfl (lv_at hl 2 rfl) ?_
  refine lv_iload_n hx hb dX0_rangeSum_6 rfl (lv_at hl 3 rfl) ?_
  refine zh_VI (As := [.int v1, .int v2, .int v3]) (rest := [.int (0 : Int32), .ref a4]) hc hn hq (ci := 0) rfl ⟨rfl, hd_X1_rangeSum⟩ (lw_V q1297 q1298 q1299 q84 q1300) (Nat.le_of_ble_eq_true rfl) (Nat.le_of_ble_eq_true rfl) (fun _ _ _ _ q => m_X1_rangeSum l hl0 D dA b0 gs h a0 v1 v2 v3 q) hf dX0_rangeSum_7 hl.1 rfl rfl (zroom (Nat.le_of_ble_eq_true rfl)) (fun x101 h102 H locs cells slots C9 S9 hf hq hn => ?_) (fun e9 q9 ce9 h102 H locs cells slots C9 S9 hf hq hn g5 g6 g7 => ?_)
  · refine lv_i2l (v := x101.toInt64) hx hb dX0_rangeSum_10 rfl ?_
    refine zr_nmL hf (fun x103 hf => ?_)
    refine zr_sL hc hn hf dX0_rangeSum_11 (fun h104 H locs hf hn => ?_)
    refine lv_goto (tgt := 23) hx hb dX0_rangeSum_12 (by decide) ?_
    refine lv_iconst (v := (0 : Int32)) hx hb dX0_rangeSum_23 (by decide) ?_
    obtain ⟨rfl, rfl, rfl, rfl⟩ := zret_i hf
    exact zx_ret (zr_iret hc hn hr hq (fun _ _ _ _ q => ⟨_, rfl, q⟩) dX0_rangeSum_24)
  · by_cases c9 : e9 = 1
    · have hf9 := zif_t c9 hf
      subst c9
      have hf := hf9
      clear hf9
      refine vx_catch (name := "java/lang/IndexOutOfBoundsException") hc.ow [] ⟨0, 12, 15, 19⟩ [⟨0, 12, 19, 25⟩] (by rw [ht]; rfl) (fun z hz => nomatch hz) (by decide) (by decide) (hc.ts _ q359) ((hc.nC q400).use rfl) g5 g6 g7 ?_
      refine lv_astore (x := q9) (lv' := [(5, .ref q9), (0, .ref a0), (1, .int v1), (2, .int v2), (3, .int v3), (4, .ref a4)]) hx hb dX0_rangeSum_15 hl (by decide) rfl (fun ls hl => ?_)
      refine lv_iconst (v := (1 : Int32)) hx hb dX0_rangeSum_17 (by decide) ?_
      obtain ⟨rfl, rfl, rfl, rfl⟩ := zret_i hf
      exact zx_ret (zr_iret hc hn hr hq (fun _ _ _ _ q => ⟨_, rfl, q⟩) dX0_rangeSum_18)
    · have hf := zif_f c9 hf
      by_cases c9 : e9 = 2
      · have hf9 := zif_t c9 hf
        subst c9
        have hf := hf9
        clear hf9
        refine vx_catch (name := "java/lang/IllegalArgumentException") hc.ow [⟨0, 12, 15, 19⟩] ⟨0, 12, 19, 25⟩ [] (by rw [ht]; rfl) (fun z hz => by
            simp only [List.mem_cons, List.not_mem_nil, or_false] at hz
            rcases hz with rfl
            · exact Or.inr ⟨by decide, _, hc.ts _ q359, hc.nNc znc_2_1⟩) (by decide) (by decide) (hc.ts _ q416) ((hc.nC q603).use rfl) g5 g6 g7 ?_
        refine lv_astore (x := q9) (lv' := [(5, .ref q9), (0, .ref a0), (1, .int v1), (2, .int v2), (3, .int v3), (4, .ref a4)]) hx hb dX0_rangeSum_19 hl (by decide) rfl (fun ls hl => ?_)
        refine lv_iconst (v := (2 : Int32)) hx hb dX0_rangeSum_21 (by decide) ?_
        obtain ⟨rfl, rfl, rfl, rfl⟩ := zret_i hf
        exact zx_ret (zr_iret hc hn hr hq (fun _ _ _ _ q => ⟨_, rfl, q⟩) dX0_rangeSum_22)
      · have hf := zif_f c9 hf
        cases hf
theorem hd_X0_rowSize : yX0_rowSize.cls ≠ "java/lang/invoke/MethodHandle" ∧ yX0_rowSize.cls ≠ "java/lang/invoke/VarHandle" ∧ (parseMethodDescriptor yX0_rowSize.desc).map (fun d => d.parameters.length) = some 4 := by decide +kernel
def f_X0_rowSize (h : PH) (a0 : Nat) (v1 : Int32) (v2 : Int32) (a3 : Nat) : ZR Int32 :=
  zrc h a0 0 <| zch (f_X1_rowSize h a0 v1 v2) (fun x101 h102 =>
    znm x101.toInt64 fun x103 =>
    zsL h102 a3 3 (0 : Int32) x103 fun h104 =>
    zret (0 : Int32) h104)
    (fun e9 q9 h102 =>
      if e9 = 1 then
        (zret (1 : Int32) h102)
      else
        (if e9 = 2 then
          (zret (2 : Int32) h102)
        else
          (none)))
set_option maxHeartbeats 4000000 in
set_option maxRecDepth 100000 in
theorem m_X0_rowSize (l : Launch) (hl0 : l.stackTraces = false) (D : va_G) (dA : Nat → ClassId) (b0 : Nat) (gs : Nat → Option Nat) (h : PH) (a0 : Nat) (v1 : Int32) (v2 : Int32) (a3 : Nat) {r : Int32} {hh : PH} {mc ms : Nat} (hf : f_X0_rowSize h a0 v1 v2 a3 = some (r, hh, mc, ms)) : zMx l D dA b0 gs yX0_rowSize (wsW_ yX0_rowSize cX0_rowSize 5 (some .int) [((0 : Nat), (10 : Nat), (13 : Nat), (19 : Nat)), ((0 : Nat), (10 : Nat), (17 : Nat), (25 : Nat))]) 9 186 [.ref a0, .int v1, .int v2, .ref a3] h evI (.inl r) hh mc ms := by
  unfold f_X0_rowSize at hf
  refine zMx.ofH (by decide) (Nat.le_of_ble_eq_true rfl) ?_
  intro p e s m args below meth c hc hr hin ht hn ls hl
  have hl : lv_has ls 5 [(0, .ref a0), (1, .int v1), (2, .int v2), (3, .ref a3)] := hl
  have hq : 0 + mc = mc ∧ 0 + ms = ms := ⟨Nat.zero_add _, Nat.zero_add _⟩
  have hx := hc.x
  have hb := hc.b
  refine lv_aload_n (x := a3) hx hb dX0_rowSize_0 rfl (lv_at hl 3 rfl) ?_
  refine lv_iconst (v := (0 : Int32)) hx hb dX0_rowSize_1 (by decide) ?_
  refine lv_aload_n (x := a0) hx hb dX0_rowSize_2 rfl (lv_at hl 0 rfl) ?_
  refine lv_iload_n hx hb dX0_rowSize_3 rfl (lv_at hl 1 rfl) ?_
  refine lv_iload_n hx hb dX0_rowSize_4 rfl (lv_at hl 2 rfl) ?_
  refine zh_VI (As := [.int v1, .int v2]) (rest := [.int (0 : Int32), .ref a3]) hc hn hq (ci := 0) rfl ⟨rfl, hd_X1_rowSize⟩ (lw_V q1308 q1309 q1310 q84 q1311) (Nat.le_of_ble_eq_true rfl) (Nat.le_of_ble_eq_true rfl) (fun _ _ _ _ q => m_X1_rowSize l hl0 D dA b0 gs h a0 v1 v2 q) hf dX0_rowSize_5 hl.1 rfl rfl (zroom (Nat.le_of_ble_eq_true rfl)) (fun x101 h102 H locs cells slots C9 S9 hf hq hn => ?_) (fun e9 q9 ce9 h102 H locs cells slots C9 S9 hf hq hn g5 g6 g7 => ?_)
  · refine lv_i2l (v := x101.toInt64) hx hb dX0_rowSize_8 rfl ?_
    refine zr_nmL hf (fun x103 hf => ?_)
    refine zr_sL hc hn hf dX0_rowSize_9 (fun h104 H locs hf hn => ?_)
    refine lv_goto (tgt := 21) hx hb dX0_rowSize_10 (by decide) ?_
    refine lv_iconst (v := (0 : Int32)) hx hb dX0_rowSize_21 (by decide) ?_
    obtain ⟨rfl, rfl, rfl, rfl⟩ := zret_i hf
    exact zx_ret (zr_iret hc hn hr hq (fun _ _ _ _ q => ⟨_, rfl, q⟩) dX0_rowSize_22)
  · by_cases c9 : e9 = 1
    · have hf9 := zif_t c9 hf
      subst c9
      have hf := hf9
      clear hf9
      refine vx_catch (name := "java/lang/IndexOutOfBoundsException") hc.ow [] ⟨0, 10, 13, 19⟩ [⟨0, 10, 17, 25⟩] (by rw [ht]; rfl) (fun z hz => nomatch hz) (by decide) (by decide) (hc.ts _ q359) ((hc.nC q400).use rfl) g5 g6 g7 ?_
      refine lv_astore (x := q9) (lv' := [(4, .ref q9), (0, .ref a0), (1, .int v1), (2, .int v2), (3, .ref a3)]) hx hb dX0_rowSize_13 hl (by decide) rfl (fun ls hl => ?_)
      refine lv_iconst (v := (1 : Int32)) hx hb dX0_rowSize_15 (by decide) ?_
      obtain ⟨rfl, rfl, rfl, rfl⟩ := zret_i hf
      exact zx_ret (zr_iret hc hn hr hq (fun _ _ _ _ q => ⟨_, rfl, q⟩) dX0_rowSize_16)
    · have hf := zif_f c9 hf
      by_cases c9 : e9 = 2
      · have hf9 := zif_t c9 hf
        subst c9
        have hf := hf9
        clear hf9
        refine vx_catch (name := "java/lang/IllegalArgumentException") hc.ow [⟨0, 10, 13, 19⟩] ⟨0, 10, 17, 25⟩ [] (by rw [ht]; rfl) (fun z hz => by
            simp only [List.mem_cons, List.not_mem_nil, or_false] at hz
            rcases hz with rfl
            · exact Or.inr ⟨by decide, _, hc.ts _ q359, hc.nNc znc_2_1⟩) (by decide) (by decide) (hc.ts _ q416) ((hc.nC q603).use rfl) g5 g6 g7 ?_
        refine lv_astore (x := q9) (lv' := [(4, .ref q9), (0, .ref a0), (1, .int v1), (2, .int v2), (3, .ref a3)]) hx hb dX0_rowSize_17 hl (by decide) rfl (fun ls hl => ?_)
        refine lv_iconst (v := (2 : Int32)) hx hb dX0_rowSize_19 (by decide) ?_
        obtain ⟨rfl, rfl, rfl, rfl⟩ := zret_i hf
        exact zx_ret (zr_iret hc hn hr hq (fun _ _ _ _ q => ⟨_, rfl, q⟩) dX0_rowSize_20)
      · have hf := zif_f c9 hf
        cases hf
theorem hd_X0_linkWidth : yX0_linkWidth.cls ≠ "java/lang/invoke/MethodHandle" ∧ yX0_linkWidth.cls ≠ "java/lang/invoke/VarHandle" ∧ (parseMethodDescriptor yX0_linkWidth.desc).map (fun d => d.parameters.length) = some 5 := by decide +kernel
def f_X0_linkWidth (h : PH) (a0 : Nat) (v1 : Int32) (v2 : Int32) (v3 : Int32) (a4 : Nat) : ZR Int32 :=
  zrc h a0 0 <| zch (f_X1_linkWidth h a0 v1 v2 v3) (fun x101 h102 =>
    znm x101.toInt64 fun x103 =>
    zsL h102 a4 3 (0 : Int32) x103 fun h104 =>
    zret (0 : Int32) h104)
    (fun e9 q9 h102 =>
      if e9 = 1 then
        (zret (1 : Int32) h102)
      else
        (none))
set_option maxHeartbeats 4000000 in
set_option maxRecDepth 100000 in
theorem m_X0_linkWidth (l : Launch) (hl0 : l.stackTraces = false) (D : va_G) (dA : Nat → ClassId) (b0 : Nat) (gs : Nat → Option Nat) (h : PH) (a0 : Nat) (v1 : Int32) (v2 : Int32) (v3 : Int32) (a4 : Nat) {r : Int32} {hh : PH} {mc ms : Nat} (hf : f_X0_linkWidth h a0 v1 v2 v3 a4 = some (r, hh, mc, ms)) : zMx l D dA b0 gs yX0_linkWidth (wsW_ yX0_linkWidth cX0_linkWidth 6 (some .int) [((0 : Nat), (12 : Nat), (15 : Nat), (19 : Nat))]) 10 211 [.ref a0, .int v1, .int v2, .int v3, .ref a4] h evI (.inl r) hh mc ms := by
  unfold f_X0_linkWidth at hf
  refine zMx.ofH (by decide) (Nat.le_of_ble_eq_true rfl) ?_
  intro p e s m args below meth c hc hr hin ht hn ls hl
  have hl : lv_has ls 6 [(0, .ref a0), (1, .int v1), (2, .int v2), (3, .int v3), (4, .ref a4)] := hl
  have hq : 0 + mc = mc ∧ 0 + ms = ms := ⟨Nat.zero_add _, Nat.zero_add _⟩
  have hx := hc.x
  have hb := hc.b
  refine lv_aload (x := a4) hx hb dX0_linkWidth_0 (lv_at hl 4 rfl) ?_
  refine lv_iconst (v := (0 : Int32)) hx hb dX0_linkWidth_2 (by decide) ?_
  refine lv_aload_n (x := a0) hx hb dX0_linkWidth_3 rfl (lv_at hl 0 rfl) ?_
  refine lv_iload_n hx hb dX0_linkWidth_4 rfl (lv_at hl 1 rfl) ?_
  refine lv_iload_n hx hb dX0_linkWidth_5 rfl (lv_at hl 2 rfl) ?_
  refine lv_iload_n hx hb dX0_linkWidth_6 rfl (lv_at hl 3 rfl) ?_
  refine zh_VI (As := [.int v1, .int v2, .int v3]) (rest := [.int (0 : Int32), .ref a4]) hc hn hq (ci := 0) rfl ⟨rfl, hd_X1_linkWidth⟩ (lw_V q1316 q1317 q1318 q84 q1319) (Nat.le_of_ble_eq_true rfl) (Nat.le_of_ble_eq_true rfl) (fun _ _ _ _ q => m_X1_linkWidth l hl0 D dA b0 gs h a0 v1 v2 v3 q) hf dX0_linkWidth_7 hl.1 rfl rfl (zroom (Nat.le_of_ble_eq_true rfl)) (fun x101 h102 H locs cells slots C9 S9 hf hq hn => ?_) (fun e9 q9 ce9 h102 H locs cells slots C9 S9 hf hq hn g5 g6 g7 => ?_)
  · refine lv_i2l (v := x101.toInt64) hx hb dX0_linkWidth_10 rfl ?_
    refine zr_nmL hf (fun x103 hf => ?_)
    refine zr_sL hc hn hf dX0_linkWidth_11 (fun h104 H locs hf hn => ?_)
    refine lv_goto (tgt := 19) hx hb dX0_linkWidth_12 (by decide) ?_
    refine lv_iconst (v := (0 : Int32)) hx hb dX0_linkWidth_19 (by decide) ?_
    obtain ⟨rfl, rfl, rfl, rfl⟩ := zret_i hf
    exact zx_ret (zr_iret hc hn hr hq (fun _ _ _ _ q => ⟨_, rfl, q⟩) dX0_linkWidth_20)
  · by_cases c9 : e9 = 1
    · have hf9 := zif_t c9 hf
      subst c9
      have hf := hf9
      clear hf9
      refine vx_catch (name := "java/lang/IndexOutOfBoundsException") hc.ow [] ⟨0, 12, 15, 19⟩ [] (by rw [ht]; rfl) (fun z hz => nomatch hz) (by decide) (by decide) (hc.ts _ q359) ((hc.nC q400).use rfl) g5 g6 g7 ?_
      refine lv_astore (x := q9) (lv' := [(5, .ref q9), (0, .ref a0), (1, .int v1), (2, .int v2), (3, .int v3), (4, .ref a4)]) hx hb dX0_linkWidth_15 hl (by decide) rfl (fun ls hl => ?_)
      refine lv_iconst (v := (1 : Int32)) hx hb dX0_linkWidth_17 (by decide) ?_
      obtain ⟨rfl, rfl, rfl, rfl⟩ := zret_i hf
      exact zx_ret (zr_iret hc hn hr hq (fun _ _ _ _ q => ⟨_, rfl, q⟩) dX0_linkWidth_18)
    · have hf := zif_f c9 hf
      cases hf
theorem hd_X0_linkSum : yX0_linkSum.cls ≠ "java/lang/invoke/MethodHandle" ∧ yX0_linkSum.cls ≠ "java/lang/invoke/VarHandle" ∧ (parseMethodDescriptor yX0_linkSum.desc).map (fun d => d.parameters.length) = some 5 := by decide +kernel
def f_X0_linkSum (h : PH) (a0 : Nat) (v1 : Int32) (v2 : Int32) (v3 : Int32) (a4 : Nat) : ZR Int32 :=
  zrc h a0 0 <| zch (f_X1_linkSum h a0 v1 v2 v3) (fun x101 h102 =>
    znm x101.toInt64 fun x103 =>
    zsL h102 a4 3 (0 : Int32) x103 fun h104 =>
    zret (0 : Int32) h104)
    (fun e9 q9 h102 =>
      if e9 = 1 then
        (zret (1 : Int32) h102)
      else
        (none))
set_option maxHeartbeats 4000000 in
set_option maxRecDepth 100000 in
theorem m_X0_linkSum (l : Launch) (hl0 : l.stackTraces = false) (D : va_G) (dA : Nat → ClassId) (b0 : Nat) (gs : Nat → Option Nat) (h : PH) (a0 : Nat) (v1 : Int32) (v2 : Int32) (v3 : Int32) (a4 : Nat) {r : Int32} {hh : PH} {mc ms : Nat} (hf : f_X0_linkSum h a0 v1 v2 v3 a4 = some (r, hh, mc, ms)) : zMx l D dA b0 gs yX0_linkSum (wsW_ yX0_linkSum cX0_linkSum 6 (some .int) [((0 : Nat), (12 : Nat), (15 : Nat), (19 : Nat))]) 10 212 [.ref a0, .int v1, .int v2, .int v3, .ref a4] h evI (.inl r) hh mc ms := by
  unfold f_X0_linkSum at hf
  refine zMx.ofH (by decide) (Nat.le_of_ble_eq_true rfl) ?_
  intro p e s m args below meth c hc hr hin ht hn ls hl
  have hl : lv_has ls 6 [(0, .ref a0), (1, .int v1), (2, .int v2), (3, .int v3), (4, .ref a4)] := hl
  have hq : 0 + mc = mc ∧ 0 + ms = ms := ⟨Nat.zero_add _, Nat.zero_add _⟩
  have hx := hc.x
  have hb := hc.b
  refine lv_aload (x := a4) hx hb dX0_linkSum_0 (lv_at hl 4 rfl) ?_
  refine lv_iconst (v := (0 : Int32)) hx hb dX0_linkSum_2 (by decide) ?_
  refine lv_aload_n (x := a0) hx hb dX0_linkSum_3 rfl (lv_at hl 0 rfl) ?_
  refine lv_iload_n hx hb dX0_linkSum_4 rfl (lv_at hl 1 rfl) ?_
  refine lv_iload_n hx hb dX0_linkSum_5 rfl (lv_at hl 2 rfl) ?_
  refine lv_iload_n hx hb dX0_linkSum_6 rfl (lv_at hl 3 rfl) ?_
  refine zh_VI (As := [.int v1, .int v2, .int v3]) (rest := [.int (0 : Int32), .ref a4]) hc hn hq (ci := 0) rfl ⟨rfl, hd_X1_linkSum⟩ (lw_V q1327 q1328 q1329 q84 q1330) (Nat.le_of_ble_eq_true rfl) (Nat.le_of_ble_eq_true rfl) (fun _ _ _ _ q => m_X1_linkSum l hl0 D dA b0 gs h a0 v1 v2 v3 q) hf dX0_linkSum_7 hl.1 rfl rfl (zroom (Nat.le_of_ble_eq_true rfl)) (fun x101 h102 H locs cells slots C9 S9 hf hq hn => ?_) (fun e9 q9 ce9 h102 H locs cells slots C9 S9 hf hq hn g5 g6 g7 => ?_)
  · refine lv_i2l (v := x101.toInt64) hx hb dX0_linkSum_10 rfl ?_
    refine zr_nmL hf (fun x103 hf => ?_)
    refine zr_sL hc hn hf dX0_linkSum_11 (fun h104 H locs hf hn => ?_)
    refine lv_goto (tgt := 19) hx hb dX0_linkSum_12 (by decide) ?_
    refine lv_iconst (v := (0 : Int32)) hx hb dX0_linkSum_19 (by decide) ?_
    obtain ⟨rfl, rfl, rfl, rfl⟩ := zret_i hf
    exact zx_ret (zr_iret hc hn hr hq (fun _ _ _ _ q => ⟨_, rfl, q⟩) dX0_linkSum_20)
  · by_cases c9 : e9 = 1
    · have hf9 := zif_t c9 hf
      subst c9
      have hf := hf9
      clear hf9
      refine vx_catch (name := "java/lang/IndexOutOfBoundsException") hc.ow [] ⟨0, 12, 15, 19⟩ [] (by rw [ht]; rfl) (fun z hz => nomatch hz) (by decide) (by decide) (hc.ts _ q359) ((hc.nC q400).use rfl) g5 g6 g7 ?_
      refine lv_astore (x := q9) (lv' := [(5, .ref q9), (0, .ref a0), (1, .int v1), (2, .int v2), (3, .int v3), (4, .ref a4)]) hx hb dX0_linkSum_15 hl (by decide) rfl (fun ls hl => ?_)
      refine lv_iconst (v := (1 : Int32)) hx hb dX0_linkSum_17 (by decide) ?_
      obtain ⟨rfl, rfl, rfl, rfl⟩ := zret_i hf
      exact zx_ret (zr_iret hc hn hr hq (fun _ _ _ _ q => ⟨_, rfl, q⟩) dX0_linkSum_18)
    · have hf := zif_f c9 hf
      cases hf
theorem hd_X0_gapSize : yX0_gapSize.cls ≠ "java/lang/invoke/MethodHandle" ∧ yX0_gapSize.cls ≠ "java/lang/invoke/VarHandle" ∧ (parseMethodDescriptor yX0_gapSize.desc).map (fun d => d.parameters.length) = some 5 := by decide +kernel
def f_X0_gapSize (h : PH) (a0 : Nat) (v1 : Int32) (v2 : Int32) (v3 : Int32) (a4 : Nat) : ZR Int32 :=
  zrc h a0 0 <| zch (f_X1_gapSize h a0 v1 v2 v3) (fun x101 h102 =>
    znm x101.toInt64 fun x103 =>
    zsL h102 a4 3 (0 : Int32) x103 fun h104 =>
    zret (0 : Int32) h104)
    (fun e9 q9 h102 =>
      if e9 = 1 then
        (zret (1 : Int32) h102)
      else
        (none))
set_option maxHeartbeats 4000000 in
set_option maxRecDepth 100000 in
theorem m_X0_gapSize (l : Launch) (hl0 : l.stackTraces = false) (D : va_G) (dA : Nat → ClassId) (b0 : Nat) (gs : Nat → Option Nat) (h : PH) (a0 : Nat) (v1 : Int32) (v2 : Int32) (v3 : Int32) (a4 : Nat) {r : Int32} {hh : PH} {mc ms : Nat} (hf : f_X0_gapSize h a0 v1 v2 v3 a4 = some (r, hh, mc, ms)) : zMx l D dA b0 gs yX0_gapSize (wsW_ yX0_gapSize cX0_gapSize 6 (some .int) [((0 : Nat), (12 : Nat), (15 : Nat), (19 : Nat))]) 10 212 [.ref a0, .int v1, .int v2, .int v3, .ref a4] h evI (.inl r) hh mc ms := by
  unfold f_X0_gapSize at hf
  refine zMx.ofH (by decide) (Nat.le_of_ble_eq_true rfl) ?_
  intro p e s m args below meth c hc hr hin ht hn ls hl
  have hl : lv_has ls 6 [(0, .ref a0), (1, .int v1), (2, .int v2), (3, .int v3), (4, .ref a4)] := hl
  have hq : 0 + mc = mc ∧ 0 + ms = ms := ⟨Nat.zero_add _, Nat.zero_add _⟩
  have hx := hc.x
  have hb := hc.b
  refine lv_aload (x := a4) hx hb dX0_gapSize_0 (lv_at hl 4 rfl) ?_
  refine lv_iconst (v := (0 : Int32)) hx hb dX0_gapSize_2 (by decide) ?_
  refine lv_aload_n (x := a0) hx hb dX0_gapSize_3 rfl (lv_at hl 0 rfl) ?_
  refine lv_iload_n hx hb dX0_gapSize_4 rfl (lv_at hl 1 rfl) ?_
  refine lv_iload_n hx hb dX0_gapSize_5 rfl (lv_at hl 2 rfl) ?_
  refine lv_iload_n hx hb dX0_gapSize_6 rfl (lv_at hl 3 rfl) ?_
  refine zh_VI (As := [.int v1, .int v2, .int v3]) (rest := [.int (0 : Int32), .ref a4]) hc hn hq (ci := 0) rfl ⟨rfl, hd_X1_gapSize⟩ (lw_V q1334 q1335 q1336 q84 q1337) (Nat.le_of_ble_eq_true rfl) (Nat.le_of_ble_eq_true rfl) (fun _ _ _ _ q => m_X1_gapSize l hl0 D dA b0 gs h a0 v1 v2 v3 q) hf dX0_gapSize_7 hl.1 rfl rfl (zroom (Nat.le_of_ble_eq_true rfl)) (fun x101 h102 H locs cells slots C9 S9 hf hq hn => ?_) (fun e9 q9 ce9 h102 H locs cells slots C9 S9 hf hq hn g5 g6 g7 => ?_)
  · refine lv_i2l (v := x101.toInt64) hx hb dX0_gapSize_10 rfl ?_
    refine zr_nmL hf (fun x103 hf => ?_)
    refine zr_sL hc hn hf dX0_gapSize_11 (fun h104 H locs hf hn => ?_)
    refine lv_goto (tgt := 19) hx hb dX0_gapSize_12 (by decide) ?_
    refine lv_iconst (v := (0 : Int32)) hx hb dX0_gapSize_19 (by decide) ?_
    obtain ⟨rfl, rfl, rfl, rfl⟩ := zret_i hf
    exact zx_ret (zr_iret hc hn hr hq (fun _ _ _ _ q => ⟨_, rfl, q⟩) dX0_gapSize_20)
  · by_cases c9 : e9 = 1
    · have hf9 := zif_t c9 hf
      subst c9
      have hf := hf9
      clear hf9
      refine vx_catch (name := "java/lang/IndexOutOfBoundsException") hc.ow [] ⟨0, 12, 15, 19⟩ [] (by rw [ht]; rfl) (fun z hz => nomatch hz) (by decide) (by decide) (hc.ts _ q359) ((hc.nC q400).use rfl) g5 g6 g7 ?_
      refine lv_astore (x := q9) (lv' := [(5, .ref q9), (0, .ref a0), (1, .int v1), (2, .int v2), (3, .int v3), (4, .ref a4)]) hx hb dX0_gapSize_15 hl (by decide) rfl (fun ls hl => ?_)
      refine lv_iconst (v := (1 : Int32)) hx hb dX0_gapSize_17 (by decide) ?_
      obtain ⟨rfl, rfl, rfl, rfl⟩ := zret_i hf
      exact zx_ret (zr_iret hc hn hr hq (fun _ _ _ _ q => ⟨_, rfl, q⟩) dX0_gapSize_18)
    · have hf := zif_f c9 hf
      cases hf
theorem hd_X0_links : yX0_links.cls ≠ "java/lang/invoke/MethodHandle" ∧ yX0_links.cls ≠ "java/lang/invoke/VarHandle" ∧ (parseMethodDescriptor yX0_links.desc).map (fun d => d.parameters.length) = some 3 := by decide +kernel
def f_X0_links (h : PH) (a0 : Nat) (v1 : Int32) (a2 : Nat) : ZR Int32 :=
  zrc h a0 0 <| zch (f_X1_links h a0 v1) (fun x101 h102 =>
    znm x101.toInt64 fun x103 =>
    zsL h102 a2 3 (0 : Int32) x103 fun h104 =>
    zret (0 : Int32) h104)
    (fun e9 q9 h102 =>
      if e9 = 1 then
        (zret (1 : Int32) h102)
      else
        (none))
set_option maxHeartbeats 4000000 in
set_option maxRecDepth 100000 in
theorem m_X0_links (l : Launch) (hl0 : l.stackTraces = false) (D : va_G) (dA : Nat → ClassId) (b0 : Nat) (gs : Nat → Option Nat) (h : PH) (a0 : Nat) (v1 : Int32) (a2 : Nat) {r : Int32} {hh : PH} {mc ms : Nat} (hf : f_X0_links h a0 v1 a2 = some (r, hh, mc, ms)) : zMx l D dA b0 gs yX0_links (wsW_ yX0_links cX0_links 4 (some .int) [((0 : Nat), (9 : Nat), (12 : Nat), (19 : Nat))]) 10 209 [.ref a0, .int v1, .ref a2] h evI (.inl r) hh mc ms := by
  unfold f_X0_links at hf
  refine zMx.ofH (by decide) (Nat.le_of_ble_eq_true rfl) ?_
  intro p e s m args below meth c hc hr hin ht hn ls hl
  have hl : lv_has ls 4 [(0, .ref a0), (1, .int v1), (2, .ref a2)] := hl
  have hq : 0 + mc = mc ∧ 0 + ms = ms := ⟨Nat.zero_add _, Nat.zero_add _⟩
  have hx := hc.x
  have hb := hc.b
  refine lv_aload_n (x := a2) hx hb dX0_links_0 rfl (lv_at hl 2 rfl) ?_
  refine lv_iconst (v := (0 : Int32)) hx hb dX0_links_1 (by decide) ?_
  refine lv_aload_n (x := a0) hx hb dX0_links_2 rfl (lv_at hl 0 rfl) ?_
  refine lv_iload_n hx hb dX0_links_3 rfl (lv_at hl 1 rfl) ?_
  refine zh_VI (As := [.int v1]) (rest := [.int (0 : Int32), .ref a2]) hc hn hq (ci := 0) rfl ⟨rfl, hd_X1_links⟩ (lw_V q1342 q1343 q1344 q84 q1345) (Nat.le_of_ble_eq_true rfl) (Nat.le_of_ble_eq_true rfl) (fun _ _ _ _ q => m_X1_links l hl0 D dA b0 gs h a0 v1 q) hf dX0_links_4 hl.1 rfl rfl (zroom (Nat.le_of_ble_eq_true rfl)) (fun x101 h102 H locs cells slots C9 S9 hf hq hn => ?_) (fun e9 q9 ce9 h102 H locs cells slots C9 S9 hf hq hn g5 g6 g7 => ?_)
  · refine lv_i2l (v := x101.toInt64) hx hb dX0_links_7 rfl ?_
    refine zr_nmL hf (fun x103 hf => ?_)
    refine zr_sL hc hn hf dX0_links_8 (fun h104 H locs hf hn => ?_)
    refine lv_goto (tgt := 15) hx hb dX0_links_9 (by decide) ?_
    refine lv_iconst (v := (0 : Int32)) hx hb dX0_links_15 (by decide) ?_
    obtain ⟨rfl, rfl, rfl, rfl⟩ := zret_i hf
    exact zx_ret (zr_iret hc hn hr hq (fun _ _ _ _ q => ⟨_, rfl, q⟩) dX0_links_16)
  · by_cases c9 : e9 = 1
    · have hf9 := zif_t c9 hf
      subst c9
      have hf := hf9
      clear hf9
      refine vx_catch (name := "java/lang/IndexOutOfBoundsException") hc.ow [] ⟨0, 9, 12, 19⟩ [] (by rw [ht]; rfl) (fun z hz => nomatch hz) (by decide) (by decide) (hc.ts _ q359) ((hc.nC q400).use rfl) g5 g6 g7 ?_
      refine lv_astore_n (x := q9) (i := 3) (lv' := [(3, .ref q9), (0, .ref a0), (1, .int v1), (2, .ref a2)]) hx hb dX0_links_12 rfl hl (by decide) rfl (fun ls hl => ?_)
      refine lv_iconst (v := (1 : Int32)) hx hb dX0_links_13 (by decide) ?_
      obtain ⟨rfl, rfl, rfl, rfl⟩ := zret_i hf
      exact zx_ret (zr_iret hc hn hr hq (fun _ _ _ _ q => ⟨_, rfl, q⟩) dX0_links_14)
    · have hf := zif_f c9 hf
      cases hf
theorem hd_X0_steps : yX0_steps.cls ≠ "java/lang/invoke/MethodHandle" ∧ yX0_steps.cls ≠ "java/lang/invoke/VarHandle" ∧ (parseMethodDescriptor yX0_steps.desc).map (fun d => d.parameters.length) = some 4 := by decide +kernel
def f_X0_steps (h : PH) (a0 : Nat) (v1 : Int32) (v2 : Int32) (a3 : Nat) : ZR Int32 :=
  zrc h a0 0 <| zch (f_X1_steps h a0 v1 v2) (fun x101 h102 =>
    znm x101.toInt64 fun x103 =>
    zsL h102 a3 3 (0 : Int32) x103 fun h104 =>
    zret (0 : Int32) h104)
    (fun e9 q9 h102 =>
      if e9 = 1 then
        (zret (1 : Int32) h102)
      else
        (if e9 = 2 then
          (zret (2 : Int32) h102)
        else
          (none)))
set_option maxHeartbeats 4000000 in
set_option maxRecDepth 100000 in
theorem m_X0_steps (l : Launch) (hl0 : l.stackTraces = false) (D : va_G) (dA : Nat → ClassId) (b0 : Nat) (gs : Nat → Option Nat) (h : PH) (a0 : Nat) (v1 : Int32) (v2 : Int32) (a3 : Nat) {r : Int32} {hh : PH} {mc ms : Nat} (hf : f_X0_steps h a0 v1 v2 a3 = some (r, hh, mc, ms)) : zMx l D dA b0 gs yX0_steps (wsW_ yX0_steps cX0_steps 5 (some .int) [((0 : Nat), (10 : Nat), (13 : Nat), (19 : Nat)), ((0 : Nat), (10 : Nat), (17 : Nat), (25 : Nat))]) 10 209 [.ref a0, .int v1, .int v2, .ref a3] h evI (.inl r) hh mc ms := by
  unfold f_X0_steps at hf
  refine zMx.ofH (by decide) (Nat.le_of_ble_eq_true rfl) ?_
  intro p e s m args below meth c hc hr hin ht hn ls hl
  have hl : lv_has ls 5 [(0, .ref a0), (1, .int v1), (2, .int v2), (3, .ref a3)] := hl
  have hq : 0 + mc = mc ∧ 0 + ms = ms := ⟨Nat.zero_add _, Nat.zero_add _⟩
  have hx := hc.x
  have hb := hc.b
  refine lv_aload_n (x := a3) hx hb dX0_steps_0 rfl (lv_at hl 3 rfl) ?_
  refine lv_iconst (v := (0 : Int32)) hx hb dX0_steps_1 (by decide) ?_
  refine lv_aload_n (x := a0) hx hb dX0_steps_2 rfl (lv_at hl 0 rfl) ?_
  refine lv_iload_n hx hb dX0_steps_3 rfl (lv_at hl 1 rfl) ?_
  refine lv_iload_n hx hb dX0_steps_4 rfl (lv_at hl 2 rfl) ?_
  refine zh_VI (As := [.int v1, .int v2]) (rest := [.int (0 : Int32), .ref a3]) hc hn hq (ci := 0) rfl ⟨rfl, hd_X1_steps⟩ (lw_V q1350 q1351 q1352 q84 q1353) (Nat.le_of_ble_eq_true rfl) (Nat.le_of_ble_eq_true rfl) (fun _ _ _ _ q => m_X1_steps l hl0 D dA b0 gs h a0 v1 v2 q) hf dX0_steps_5 hl.1 rfl rfl (zroom (Nat.le_of_ble_eq_true rfl)) (fun x101 h102 H locs cells slots C9 S9 hf hq hn => ?_) (fun e9 q9 ce9 h102 H locs cells slots C9 S9 hf hq hn g5 g6 g7 => ?_)
  · refine lv_i2l (v := x101.toInt64) hx hb dX0_steps_8 rfl ?_
    refine zr_nmL hf (fun x103 hf => ?_)
    refine zr_sL hc hn hf dX0_steps_9 (fun h104 H locs hf hn => ?_)
    refine lv_goto (tgt := 21) hx hb dX0_steps_10 (by decide) ?_
    refine lv_iconst (v := (0 : Int32)) hx hb dX0_steps_21 (by decide) ?_
    obtain ⟨rfl, rfl, rfl, rfl⟩ := zret_i hf
    exact zx_ret (zr_iret hc hn hr hq (fun _ _ _ _ q => ⟨_, rfl, q⟩) dX0_steps_22)
  · by_cases c9 : e9 = 1
    · have hf9 := zif_t c9 hf
      subst c9
      have hf := hf9
      clear hf9
      refine vx_catch (name := "java/lang/IndexOutOfBoundsException") hc.ow [] ⟨0, 10, 13, 19⟩ [⟨0, 10, 17, 25⟩] (by rw [ht]; rfl) (fun z hz => nomatch hz) (by decide) (by decide) (hc.ts _ q359) ((hc.nC q400).use rfl) g5 g6 g7 ?_
      refine lv_astore (x := q9) (lv' := [(4, .ref q9), (0, .ref a0), (1, .int v1), (2, .int v2), (3, .ref a3)]) hx hb dX0_steps_13 hl (by decide) rfl (fun ls hl => ?_)
      refine lv_iconst (v := (1 : Int32)) hx hb dX0_steps_15 (by decide) ?_
      obtain ⟨rfl, rfl, rfl, rfl⟩ := zret_i hf
      exact zx_ret (zr_iret hc hn hr hq (fun _ _ _ _ q => ⟨_, rfl, q⟩) dX0_steps_16)
    · have hf := zif_f c9 hf
      by_cases c9 : e9 = 2
      · have hf9 := zif_t c9 hf
        subst c9
        have hf := hf9
        clear hf9
        refine vx_catch (name := "java/lang/IllegalArgumentException") hc.ow [⟨0, 10, 13, 19⟩] ⟨0, 10, 17, 25⟩ [] (by rw [ht]; rfl) (fun z hz => by
            simp only [List.mem_cons, List.not_mem_nil, or_false] at hz
            rcases hz with rfl
            · exact Or.inr ⟨by decide, _, hc.ts _ q359, hc.nNc znc_2_1⟩) (by decide) (by decide) (hc.ts _ q416) ((hc.nC q603).use rfl) g5 g6 g7 ?_
        refine lv_astore (x := q9) (lv' := [(4, .ref q9), (0, .ref a0), (1, .int v1), (2, .int v2), (3, .ref a3)]) hx hb dX0_steps_17 hl (by decide) rfl (fun ls hl => ?_)
        refine lv_iconst (v := (2 : Int32)) hx hb dX0_steps_19 (by decide) ?_
        obtain ⟨rfl, rfl, rfl, rfl⟩ := zret_i hf
        exact zx_ret (zr_iret hc hn hr hq (fun _ _ _ _ q => ⟨_, rfl, q⟩) dX0_steps_20)
      · have hf := zif_f c9 hf
        cases hf
theorem hd_X0_looks : yX0_looks.cls ≠ "java/lang/invoke/MethodHandle" ∧ yX0_looks.cls ≠ "java/lang/invoke/VarHandle" ∧ (parseMethodDescriptor yX0_looks.desc).map (fun d => d.parameters.length) = some 4 := by decide +kernel
def f_X0_looks (h : PH) (a0 : Nat) (v1 : Int32) (v2 : Int32) (a3 : Nat) : ZR Int32 :=
  zrc h a0 0 <| zch (f_X1_looks h a0 v1 v2) (fun x101 h102 =>
    znm x101.toInt64 fun x103 =>
    zsL h102 a3 3 (0 : Int32) x103 fun h104 =>
    zret (0 : Int32) h104)
    (fun e9 q9 h102 =>
      if e9 = 1 then
        (zret (1 : Int32) h102)
      else
        (if e9 = 2 then
          (zret (2 : Int32) h102)
        else
          (none)))
set_option maxHeartbeats 4000000 in
set_option maxRecDepth 100000 in
theorem m_X0_looks (l : Launch) (hl0 : l.stackTraces = false) (D : va_G) (dA : Nat → ClassId) (b0 : Nat) (gs : Nat → Option Nat) (h : PH) (a0 : Nat) (v1 : Int32) (v2 : Int32) (a3 : Nat) {r : Int32} {hh : PH} {mc ms : Nat} (hf : f_X0_looks h a0 v1 v2 a3 = some (r, hh, mc, ms)) : zMx l D dA b0 gs yX0_looks (wsW_ yX0_looks cX0_looks 5 (some .int) [((0 : Nat), (10 : Nat), (13 : Nat), (19 : Nat)), ((0 : Nat), (10 : Nat), (17 : Nat), (25 : Nat))]) 10 209 [.ref a0, .int v1, .int v2, .ref a3] h evI (.inl r) hh mc ms := by
  unfold f_X0_looks at hf
  refine zMx.ofH (by decide) (Nat.le_of_ble_eq_true rfl) ?_
  intro p e s m args below meth c hc hr hin ht hn ls hl
  have hl : lv_has ls 5 [(0, .ref a0), (1, .int v1), (2, .int v2), (3, .ref a3)] := hl
  have hq : 0 + mc = mc ∧ 0 + ms = ms := ⟨Nat.zero_add _, Nat.zero_add _⟩
  have hx := hc.x
  have hb := hc.b
  refine lv_aload_n (x := a3) hx hb dX0_looks_0 rfl (lv_at hl 3 rfl) ?_
  refine lv_iconst (v := (0 : Int32)) hx hb dX0_looks_1 (by decide) ?_
  refine lv_aload_n (x := a0) hx hb dX0_looks_2 rfl (lv_at hl 0 rfl) ?_
  refine lv_iload_n hx hb dX0_looks_3 rfl (lv_at hl 1 rfl) ?_
  refine lv_iload_n hx hb dX0_looks_4 rfl (lv_at hl 2 rfl) ?_
  refine zh_VI (As := [.int v1, .int v2]) (rest := [.int (0 : Int32), .ref a3]) hc hn hq (ci := 0) rfl ⟨rfl, hd_X1_looks⟩ (lw_V q1389 q1390 q1391 q84 q1392) (Nat.le_of_ble_eq_true rfl) (Nat.le_of_ble_eq_true rfl) (fun _ _ _ _ q => m_X1_looks l hl0 D dA b0 gs h a0 v1 v2 q) hf dX0_looks_5 hl.1 rfl rfl (zroom (Nat.le_of_ble_eq_true rfl)) (fun x101 h102 H locs cells slots C9 S9 hf hq hn => ?_) (fun e9 q9 ce9 h102 H locs cells slots C9 S9 hf hq hn g5 g6 g7 => ?_)
  · refine lv_i2l (v := x101.toInt64) hx hb dX0_looks_8 rfl ?_
    refine zr_nmL hf (fun x103 hf => ?_)
    refine zr_sL hc hn hf dX0_looks_9 (fun h104 H locs hf hn => ?_)
    refine lv_goto (tgt := 21) hx hb dX0_looks_10 (by decide) ?_
    refine lv_iconst (v := (0 : Int32)) hx hb dX0_looks_21 (by decide) ?_
    obtain ⟨rfl, rfl, rfl, rfl⟩ := zret_i hf
    exact zx_ret (zr_iret hc hn hr hq (fun _ _ _ _ q => ⟨_, rfl, q⟩) dX0_looks_22)
  · by_cases c9 : e9 = 1
    · have hf9 := zif_t c9 hf
      subst c9
      have hf := hf9
      clear hf9
      refine vx_catch (name := "java/lang/IndexOutOfBoundsException") hc.ow [] ⟨0, 10, 13, 19⟩ [⟨0, 10, 17, 25⟩] (by rw [ht]; rfl) (fun z hz => nomatch hz) (by decide) (by decide) (hc.ts _ q359) ((hc.nC q400).use rfl) g5 g6 g7 ?_
      refine lv_astore (x := q9) (lv' := [(4, .ref q9), (0, .ref a0), (1, .int v1), (2, .int v2), (3, .ref a3)]) hx hb dX0_looks_13 hl (by decide) rfl (fun ls hl => ?_)
      refine lv_iconst (v := (1 : Int32)) hx hb dX0_looks_15 (by decide) ?_
      obtain ⟨rfl, rfl, rfl, rfl⟩ := zret_i hf
      exact zx_ret (zr_iret hc hn hr hq (fun _ _ _ _ q => ⟨_, rfl, q⟩) dX0_looks_16)
    · have hf := zif_f c9 hf
      by_cases c9 : e9 = 2
      · have hf9 := zif_t c9 hf
        subst c9
        have hf := hf9
        clear hf9
        refine vx_catch (name := "java/lang/IllegalArgumentException") hc.ow [⟨0, 10, 13, 19⟩] ⟨0, 10, 17, 25⟩ [] (by rw [ht]; rfl) (fun z hz => by
            simp only [List.mem_cons, List.not_mem_nil, or_false] at hz
            rcases hz with rfl
            · exact Or.inr ⟨by decide, _, hc.ts _ q359, hc.nNc znc_2_1⟩) (by decide) (by decide) (hc.ts _ q416) ((hc.nC q603).use rfl) g5 g6 g7 ?_
        refine lv_astore (x := q9) (lv' := [(4, .ref q9), (0, .ref a0), (1, .int v1), (2, .int v2), (3, .ref a3)]) hx hb dX0_looks_17 hl (by decide) rfl (fun ls hl => ?_)
        refine lv_iconst (v := (2 : Int32)) hx hb dX0_looks_19 (by decide) ?_
        obtain ⟨rfl, rfl, rfl, rfl⟩ := zret_i hf
        exact zx_ret (zr_iret hc hn hr hq (fun _ _ _ _ q => ⟨_, rfl, q⟩) dX0_looks_20)
      · have hf := zif_f c9 hf
        cases hf
theorem hd_X0_stepKey : yX0_stepKey.cls ≠ "java/lang/invoke/MethodHandle" ∧ yX0_stepKey.cls ≠ "java/lang/invoke/VarHandle" ∧ (parseMethodDescriptor yX0_stepKey.desc).map (fun d => d.parameters.length) = some 5 := by decide +kernel
def f_X0_stepKey (h : PH) (a0 : Nat) (v1 : Int32) (v2 : Int32) (v3 : Int32) (a4 : Nat) : ZR Int32 :=
  zrc h a0 0 <| zch (f_X1_stepKey h a0 v1 v2 v3) (fun x101 h102 =>
    znm x101.toInt64 fun x103 =>
    zsL h102 a4 3 (0 : Int32) x103 fun h104 =>
    zret (0 : Int32) h104)
    (fun e9 q9 h102 =>
      if e9 = 1 then
        (zret (1 : Int32) h102)
      else
        (if e9 = 2 then
          (zret (2 : Int32) h102)
        else
          (if e9 = 4 then
            (zret (3 : Int32) h102)
          else
            (none))))
set_option maxHeartbeats 4000000 in
set_option maxRecDepth 100000 in
theorem m_X0_stepKey (l : Launch) (hl0 : l.stackTraces = false) (D : va_G) (dA : Nat → ClassId) (b0 : Nat) (gs : Nat → Option Nat) (h : PH) (a0 : Nat) (v1 : Int32) (v2 : Int32) (v3 : Int32) (a4 : Nat) {r : Int32} {hh : PH} {mc ms : Nat} (hf : f_X0_stepKey h a0 v1 v2 v3 a4 = some (r, hh, mc, ms)) : zMx l D dA b0 gs yX0_stepKey (wsW_ yX0_stepKey cX0_stepKey 6 (some .int) [((0 : Nat), (12 : Nat), (15 : Nat), (19 : Nat)), ((0 : Nat), (12 : Nat), (19 : Nat), (25 : Nat)), ((0 : Nat), (12 : Nat), (23 : Nat), (30 : Nat))]) 11 234 [.ref a0, .int v1, .int v2, .int v3, .ref a4] h evI (.inl r) hh mc ms := by
  unfold f_X0_stepKey at hf
  refine zMx.ofH (by decide) (Nat.le_of_ble_eq_true rfl) ?_
  intro p e s m args below meth c hc hr hin ht hn ls hl
  have hl : lv_has ls 6 [(0, .ref a0), (1, .int v1), (2, .int v2), (3, .int v3), (4, .ref a4)] := hl
  have hq : 0 + mc = mc ∧ 0 + ms = ms := ⟨Nat.zero_add _, Nat.zero_add _⟩
  have hx := hc.x
  have hb := hc.b
  refine lv_aload (x := a4) hx hb dX0_stepKey_0 (lv_at hl 4 rfl) ?_
  refine lv_iconst (v := (0 : Int32)) hx hb dX0_stepKey_2 (by decide) ?_
  refine lv_aload_n (x := a0) hx hb dX0_stepKey_3 rfl (lv_at hl 0 rfl) ?_
  refine lv_iload_n hx hb dX0_stepKey_4 rfl (lv_at hl 1 rfl) ?_
  refine lv_iload_n hx hb dX0_stepKey_5 rfl (lv_at hl 2 rfl) ?_
  refine lv_iload_n hx hb dX0_stepKey_6 rfl (lv_at hl 3 rfl) ?_
  refine zh_VI (As := [.int v1, .int v2, .int v3]) (rest := [.int (0 : Int32), .ref a4]) hc hn hq (ci := 0) rfl ⟨rfl, hd_X1_stepKey⟩ (lw_V q1396 q1397 q1398 q84 q1399) (Nat.le_of_ble_eq_true rfl) (Nat.le_of_ble_eq_true rfl) (fun _ _ _ _ q => m_X1_stepKey l hl0 D dA b0 gs h a0 v1 v2 v3 q) hf dX0_stepKey_7 hl.1 rfl rfl (zroom (Nat.le_of_ble_eq_true rfl)) (fun x101 h102 H locs cells slots C9 S9 hf hq hn => ?_) (fun e9 q9 ce9 h102 H locs cells slots C9 S9 hf hq hn g5 g6 g7 => ?_)
  · refine lv_i2l (v := x101.toInt64) hx hb dX0_stepKey_10 rfl ?_
    refine zr_nmL hf (fun x103 hf => ?_)
    refine zr_sL hc hn hf dX0_stepKey_11 (fun h104 H locs hf hn => ?_)
    refine lv_goto (tgt := 27) hx hb dX0_stepKey_12 (by decide) ?_
    refine lv_iconst (v := (0 : Int32)) hx hb dX0_stepKey_27 (by decide) ?_
    obtain ⟨rfl, rfl, rfl, rfl⟩ := zret_i hf
    exact zx_ret (zr_iret hc hn hr hq (fun _ _ _ _ q => ⟨_, rfl, q⟩) dX0_stepKey_28)
  · by_cases c9 : e9 = 1
    · have hf9 := zif_t c9 hf
      subst c9
      have hf := hf9
      clear hf9
      refine vx_catch (name := "java/lang/IndexOutOfBoundsException") hc.ow [] ⟨0, 12, 15, 19⟩ [⟨0, 12, 19, 25⟩, ⟨0, 12, 23, 30⟩] (by rw [ht]; rfl) (fun z hz => nomatch hz) (by decide) (by decide) (hc.ts _ q359) ((hc.nC q400).use rfl) g5 g6 g7 ?_
      refine lv_astore (x := q9) (lv' := [(5, .ref q9), (0, .ref a0), (1, .int v1), (2, .int v2), (3, .int v3), (4, .ref a4)]) hx hb dX0_stepKey_15 hl (by decide) rfl (fun ls hl => ?_)
      refine lv_iconst (v := (1 : Int32)) hx hb dX0_stepKey_17 (by decide) ?_
      obtain ⟨rfl, rfl, rfl, rfl⟩ := zret_i hf
      exact zx_ret (zr_iret hc hn hr hq (fun _ _ _ _ q => ⟨_, rfl, q⟩) dX0_stepKey_18)
    · have hf := zif_f c9 hf
      by_cases c9 : e9 = 2
      · have hf9 := zif_t c9 hf
        subst c9
        have hf := hf9
        clear hf9
        refine vx_catch (name := "java/lang/IllegalArgumentException") hc.ow [⟨0, 12, 15, 19⟩] ⟨0, 12, 19, 25⟩ [⟨0, 12, 23, 30⟩] (by rw [ht]; rfl) (fun z hz => by
            simp only [List.mem_cons, List.not_mem_nil, or_false] at hz
            rcases hz with rfl
            · exact Or.inr ⟨by decide, _, hc.ts _ q359, hc.nNc znc_2_1⟩) (by decide) (by decide) (hc.ts _ q416) ((hc.nC q603).use rfl) g5 g6 g7 ?_
        refine lv_astore (x := q9) (lv' := [(5, .ref q9), (0, .ref a0), (1, .int v1), (2, .int v2), (3, .int v3), (4, .ref a4)]) hx hb dX0_stepKey_19 hl (by decide) rfl (fun ls hl => ?_)
        refine lv_iconst (v := (2 : Int32)) hx hb dX0_stepKey_21 (by decide) ?_
        obtain ⟨rfl, rfl, rfl, rfl⟩ := zret_i hf
        exact zx_ret (zr_iret hc hn hr hq (fun _ _ _ _ q => ⟨_, rfl, q⟩) dX0_stepKey_22)
      · have hf := zif_f c9 hf
        by_cases c9 : e9 = 4
        · have hf9 := zif_t c9 hf
          subst c9
          have hf := hf9
          clear hf9
          refine vx_catch (name := "java/util/NoSuchElementException") hc.ow [⟨0, 12, 15, 19⟩, ⟨0, 12, 19, 25⟩] ⟨0, 12, 23, 30⟩ [] (by rw [ht]; rfl) (fun z hz => by
              simp only [List.mem_cons, List.not_mem_nil, or_false] at hz
              rcases hz with rfl | rfl
              · exact Or.inr ⟨by decide, _, hc.ts _ q359, hc.nNc znc_4_1⟩
              · exact Or.inr ⟨by decide, _, hc.ts _ q416, hc.nNc znc_4_2⟩) (by decide) (by decide) (hc.ts _ q1134) ((hc.nC q1150).use rfl) g5 g6 g7 ?_
          refine lv_astore (x := q9) (lv' := [(5, .ref q9), (0, .ref a0), (1, .int v1), (2, .int v2), (3, .int v3), (4, .ref a4)]) hx hb dX0_stepKey_23 hl (by decide) rfl (fun ls hl => ?_)
          refine lv_iconst (v := (3 : Int32)) hx hb dX0_stepKey_25 (by decide) ?_
          obtain ⟨rfl, rfl, rfl, rfl⟩ := zret_i hf
          exact zx_ret (zr_iret hc hn hr hq (fun _ _ _ _ q => ⟨_, rfl, q⟩) dX0_stepKey_26)
        · have hf := zif_f c9 hf
          cases hf
theorem hd_X0_stepLevel : yX0_stepLevel.cls ≠ "java/lang/invoke/MethodHandle" ∧ yX0_stepLevel.cls ≠ "java/lang/invoke/VarHandle" ∧ (parseMethodDescriptor yX0_stepLevel.desc).map (fun d => d.parameters.length) = some 5 := by decide +kernel
def f_X0_stepLevel (h : PH) (a0 : Nat) (v1 : Int32) (v2 : Int32) (v3 : Int32) (a4 : Nat) : ZR Int32 :=
  zrc h a0 0 <| zch (f_X1_stepLevel h a0 v1 v2 v3) (fun x101 h102 =>
    znm x101.toInt64 fun x103 =>
    zsL h102 a4 3 (0 : Int32) x103 fun h104 =>
    zret (0 : Int32) h104)
    (fun e9 q9 h102 =>
      if e9 = 1 then
        (zret (1 : Int32) h102)
      else
        (if e9 = 2 then
          (zret (2 : Int32) h102)
        else
          (if e9 = 4 then
            (zret (3 : Int32) h102)
          else
            (none))))
set_option maxHeartbeats 4000000 in
set_option maxRecDepth 100000 in
theorem m_X0_stepLevel (l : Launch) (hl0 : l.stackTraces = false) (D : va_G) (dA : Nat → ClassId) (b0 : Nat) (gs : Nat → Option Nat) (h : PH) (a0 : Nat) (v1 : Int32) (v2 : Int32) (v3 : Int32) (a4 : Nat) {r : Int32} {hh : PH} {mc ms : Nat} (hf : f_X0_stepLevel h a0 v1 v2 v3 a4 = some (r, hh, mc, ms)) : zMx l D dA b0 gs yX0_stepLevel (wsW_ yX0_stepLevel cX0_stepLevel 6 (some .int) [((0 : Nat), (12 : Nat), (15 : Nat), (19 : Nat)), ((0 : Nat), (12 : Nat), (19 : Nat), (25 : Nat)), ((0 : Nat), (12 : Nat), (23 : Nat), (30 : Nat))]) 11 234 [.ref a0, .int v1, .int v2, .int v3, .ref a4] h evI (.inl r) hh mc ms := by
  unfold f_X0_stepLevel at hf
  refine zMx.ofH (by decide) (Nat.le_of_ble_eq_true rfl) ?_
  intro p e s m args below meth c hc hr hin ht hn ls hl
  have hl : lv_has ls 6 [(0, .ref a0), (1, .int v1), (2, .int v2), (3, .int v3), (4, .ref a4)] := hl
  have hq : 0 + mc = mc ∧ 0 + ms = ms := ⟨Nat.zero_add _, Nat.zero_add _⟩
  have hx := hc.x
  have hb := hc.b
  refine lv_aload (x := a4) hx hb dX0_stepLevel_0 (lv_at hl 4 rfl) ?_
  refine lv_iconst (v := (0 : Int32)) hx hb dX0_stepLevel_2 (by decide) ?_
  refine lv_aload_n (x := a0) hx hb dX0_stepLevel_3 rfl (lv_at hl 0 rfl) ?_
  refine lv_iload_n hx hb dX0_stepLevel_4 rfl (lv_at hl 1 rfl) ?_
  refine lv_iload_n hx hb dX0_stepLevel_5 rfl (lv_at hl 2 rfl) ?_
  refine lv_iload_n hx hb dX0_stepLevel_6 rfl (lv_at hl 3 rfl) ?_
  refine zh_VI (As := [.int v1, .int v2, .int v3]) (rest := [.int (0 : Int32), .ref a4]) hc hn hq (ci := 0) rfl ⟨rfl, hd_X1_stepLevel⟩ (lw_V q1407 q1408 q1409 q84 q1410) (Nat.le_of_ble_eq_true rfl) (Nat.le_of_ble_eq_true rfl) (fun _ _ _ _ q => m_X1_stepLevel l hl0 D dA b0 gs h a0 v1 v2 v3 q) hf dX0_stepLevel_7 hl.1 rfl rfl (zroom (Nat.le_of_ble_eq_true rfl)) (fun x101 h102 H locs cells slots C9 S9 hf hq hn => ?_) (fun e9 q9 ce9 h102 H locs cells slots C9 S9 hf hq hn g5 g6 g7 => ?_)
  · refine lv_i2l (v := x101.toInt64) hx hb dX0_stepLevel_10 rfl ?_
    refine zr_nmL hf (fun x103 hf => ?_)
    refine zr_sL hc hn hf dX0_stepLevel_11 (fun h104 H locs hf hn => ?_)
    refine lv_goto (tgt := 27) hx hb dX0_stepLevel_12 (by decide) ?_
    refine lv_iconst (v := (0 : Int32)) hx hb dX0_stepLevel_27 (by decide) ?_
    obtain ⟨rfl, rfl, rfl, rfl⟩ := zret_i hf
    exact zx_ret (zr_iret hc hn hr hq (fun _ _ _ _ q => ⟨_, rfl, q⟩) dX0_stepLevel_28)
  · by_cases c9 : e9 = 1
    · have hf9 := zif_t c9 hf
      subst c9
      have hf := hf9
      clear hf9
      refine vx_catch (name := "java/lang/IndexOutOfBoundsException") hc.ow [] ⟨0, 12, 15, 19⟩ [⟨0, 12, 19, 25⟩, ⟨0, 12, 23, 30⟩] (by rw [ht]; rfl) (fun z hz => nomatch hz) (by decide) (by decide) (hc.ts _ q359) ((hc.nC q400).use rfl) g5 g6 g7 ?_
      refine lv_astore (x := q9) (lv' := [(5, .ref q9), (0, .ref a0), (1, .int v1), (2, .int v2), (3, .int v3), (4, .ref a4)]) hx hb dX0_stepLevel_15 hl (by decide) rfl (fun ls hl => ?_)
      refine lv_iconst (v := (1 : Int32)) hx hb dX0_stepLevel_17 (by decide) ?_
      obtain ⟨rfl, rfl, rfl, rfl⟩ := zret_i hf
      exact zx_ret (zr_iret hc hn hr hq (fun _ _ _ _ q => ⟨_, rfl, q⟩) dX0_stepLevel_18)
    · have hf := zif_f c9 hf
      by_cases c9 : e9 = 2
      · have hf9 := zif_t c9 hf
        subst c9
        have hf := hf9
        clear hf9
        refine vx_catch (name := "java/lang/IllegalArgumentException") hc.ow [⟨0, 12, 15, 19⟩] ⟨0, 12, 19, 25⟩ [⟨0, 12, 23, 30⟩] (by rw [ht]; rfl) (fun z hz => by
            simp only [List.mem_cons, List.not_mem_nil, or_false] at hz
            rcases hz with rfl
            · exact Or.inr ⟨by decide, _, hc.ts _ q359, hc.nNc znc_2_1⟩) (by decide) (by decide) (hc.ts _ q416) ((hc.nC q603).use rfl) g5 g6 g7 ?_
        refine lv_astore (x := q9) (lv' := [(5, .ref q9), (0, .ref a0), (1, .int v1), (2, .int v2), (3, .int v3), (4, .ref a4)]) hx hb dX0_stepLevel_19 hl (by decide) rfl (fun ls hl => ?_)
        refine lv_iconst (v := (2 : Int32)) hx hb dX0_stepLevel_21 (by decide) ?_
        obtain ⟨rfl, rfl, rfl, rfl⟩ := zret_i hf
        exact zx_ret (zr_iret hc hn hr hq (fun _ _ _ _ q => ⟨_, rfl, q⟩) dX0_stepLevel_22)
      · have hf := zif_f c9 hf
        by_cases c9 : e9 = 4
        · have hf9 := zif_t c9 hf
          subst c9
          have hf := hf9
          clear hf9
          refine vx_catch (name := "java/util/NoSuchElementException") hc.ow [⟨0, 12, 15, 19⟩, ⟨0, 12, 19, 25⟩] ⟨0, 12, 23, 30⟩ [] (by rw [ht]; rfl) (fun z hz => by
              simp only [List.mem_cons, List.not_mem_nil, or_false] at hz
              rcases hz with rfl | rfl
              · exact Or.inr ⟨by decide, _, hc.ts _ q359, hc.nNc znc_4_1⟩
              · exact Or.inr ⟨by decide, _, hc.ts _ q416, hc.nNc znc_4_2⟩) (by decide) (by decide) (hc.ts _ q1134) ((hc.nC q1150).use rfl) g5 g6 g7 ?_
          refine lv_astore (x := q9) (lv' := [(5, .ref q9), (0, .ref a0), (1, .int v1), (2, .int v2), (3, .int v3), (4, .ref a4)]) hx hb dX0_stepLevel_23 hl (by decide) rfl (fun ls hl => ?_)
          refine lv_iconst (v := (3 : Int32)) hx hb dX0_stepLevel_25 (by decide) ?_
          obtain ⟨rfl, rfl, rfl, rfl⟩ := zret_i hf
          exact zx_ret (zr_iret hc hn hr hq (fun _ _ _ _ q => ⟨_, rfl, q⟩) dX0_stepLevel_26)
        · have hf := zif_f c9 hf
          cases hf
theorem hd_X0_stepsTo : yX0_stepsTo.cls ≠ "java/lang/invoke/MethodHandle" ∧ yX0_stepsTo.cls ≠ "java/lang/invoke/VarHandle" ∧ (parseMethodDescriptor yX0_stepsTo.desc).map (fun d => d.parameters.length) = some 4 := by decide +kernel
def f_X0_stepsTo (h : PH) (a0 : Nat) (v1 : Int32) (v2 : Int32) (a3 : Nat) : ZR Int32 :=
  zrc h a0 0 <| zch (f_X1_stepsTo h a0 v1 v2) (fun x101 h102 =>
    znm x101.toInt64 fun x103 =>
    zsL h102 a3 3 (0 : Int32) x103 fun h104 =>
    zret (0 : Int32) h104)
    (fun e9 q9 h102 =>
      if e9 = 1 then
        (zret (1 : Int32) h102)
      else
        (none))
set_option maxHeartbeats 4000000 in
set_option maxRecDepth 100000 in
theorem m_X0_stepsTo (l : Launch) (hl0 : l.stackTraces = false) (D : va_G) (dA : Nat → ClassId) (b0 : Nat) (gs : Nat → Option Nat) (h : PH) (a0 : Nat) (v1 : Int32) (v2 : Int32) (a3 : Nat) {r : Int32} {hh : PH} {mc ms : Nat} (hf : f_X0_stepsTo h a0 v1 v2 a3 = some (r, hh, mc, ms)) : zMx l D dA b0 gs yX0_stepsTo (wsW_ yX0_stepsTo cX0_stepsTo 5 (some .int) [((0 : Nat), (10 : Nat), (13 : Nat), (19 : Nat))]) 9 186 [.ref a0, .int v1, .int v2, .ref a3] h evI (.inl r) hh mc ms := by
  unfold f_X0_stepsTo at hf
  refine zMx.ofH (by decide) (Nat.le_of_ble_eq_true rfl) ?_
  intro p e s m args below meth c hc hr hin ht hn ls hl
  have hl : lv_has ls 5 [(0, .ref a0), (1, .int v1), (2, .int v2), (3, .ref a3)] := hl
  have hq : 0 + mc = mc ∧ 0 + ms = ms := ⟨Nat.zero_add _, Nat.zero_add _⟩
  have hx := hc.x
  have hb := hc.b
  refine lv_aload_n (x := a3) hx hb dX0_stepsTo_0 rfl (lv_at hl 3 rfl) ?_
  refine lv_iconst (v := (0 : Int32)) hx hb dX0_stepsTo_1 (by decide) ?_
  refine lv_aload_n (x := a0) hx hb dX0_stepsTo_2 rfl (lv_at hl 0 rfl) ?_
  refine lv_iload_n hx hb dX0_stepsTo_3 rfl (lv_at hl 1 rfl) ?_
  refine lv_iload_n hx hb dX0_stepsTo_4 rfl (lv_at hl 2 rfl) ?_
  refine zh_VI (As := [.int v1, .int v2]) (rest := [.int (0 : Int32), .ref a3]) hc hn hq (ci := 0) rfl ⟨rfl, hd_X1_stepsTo⟩ (lw_V q1414 q1415 q1416 q84 q1417) (Nat.le_of_ble_eq_true rfl) (Nat.le_of_ble_eq_true rfl) (fun _ _ _ _ q => m_X1_stepsTo l hl0 D dA b0 gs h a0 v1 v2 q) hf dX0_stepsTo_5 hl.1 rfl rfl (zroom (Nat.le_of_ble_eq_true rfl)) (fun x101 h102 H locs cells slots C9 S9 hf hq hn => ?_) (fun e9 q9 ce9 h102 H locs cells slots C9 S9 hf hq hn g5 g6 g7 => ?_)
  · refine lv_i2l (v := x101.toInt64) hx hb dX0_stepsTo_8 rfl ?_
    refine zr_nmL hf (fun x103 hf => ?_)
    refine zr_sL hc hn hf dX0_stepsTo_9 (fun h104 H locs hf hn => ?_)
    refine lv_goto (tgt := 17) hx hb dX0_stepsTo_10 (by decide) ?_
    refine lv_iconst (v := (0 : Int32)) hx hb dX0_stepsTo_17 (by decide) ?_
    obtain ⟨rfl, rfl, rfl, rfl⟩ := zret_i hf
    exact zx_ret (zr_iret hc hn hr hq (fun _ _ _ _ q => ⟨_, rfl, q⟩) dX0_stepsTo_18)
  · by_cases c9 : e9 = 1
    · have hf9 := zif_t c9 hf
      subst c9
      have hf := hf9
      clear hf9
      refine vx_catch (name := "java/lang/IndexOutOfBoundsException") hc.ow [] ⟨0, 10, 13, 19⟩ [] (by rw [ht]; rfl) (fun z hz => nomatch hz) (by decide) (by decide) (hc.ts _ q359) ((hc.nC q400).use rfl) g5 g6 g7 ?_
      refine lv_astore (x := q9) (lv' := [(4, .ref q9), (0, .ref a0), (1, .int v1), (2, .int v2), (3, .ref a3)]) hx hb dX0_stepsTo_13 hl (by decide) rfl (fun ls hl => ?_)
      refine lv_iconst (v := (1 : Int32)) hx hb dX0_stepsTo_15 (by decide) ?_
      obtain ⟨rfl, rfl, rfl, rfl⟩ := zret_i hf
      exact zx_ret (zr_iret hc hn hr hq (fun _ _ _ _ q => ⟨_, rfl, q⟩) dX0_stepsTo_16)
    · have hf := zif_f c9 hf
      cases hf
theorem hd_X0_farthest : yX0_farthest.cls ≠ "java/lang/invoke/MethodHandle" ∧ yX0_farthest.cls ≠ "java/lang/invoke/VarHandle" ∧ (parseMethodDescriptor yX0_farthest.desc).map (fun d => d.parameters.length) = some 3 := by decide +kernel
def f_X0_farthest (h : PH) (a0 : Nat) (v1 : Int32) (a2 : Nat) : ZR Int32 :=
  zrc h a0 0 <| zch (f_X1_farthest h a0 v1) (fun x101 h102 =>
    znm x101.toInt64 fun x103 =>
    zsL h102 a2 3 (0 : Int32) x103 fun h104 =>
    zret (0 : Int32) h104)
    (fun e9 q9 h102 =>
      if e9 = 1 then
        (zret (1 : Int32) h102)
      else
        (if e9 = 4 then
          (zret (2 : Int32) h102)
        else
          (none)))
set_option maxHeartbeats 4000000 in
set_option maxRecDepth 100000 in
theorem m_X0_farthest (l : Launch) (hl0 : l.stackTraces = false) (D : va_G) (dA : Nat → ClassId) (b0 : Nat) (gs : Nat → Option Nat) (h : PH) (a0 : Nat) (v1 : Int32) (a2 : Nat) {r : Int32} {hh : PH} {mc ms : Nat} (hf : f_X0_farthest h a0 v1 a2 = some (r, hh, mc, ms)) : zMx l D dA b0 gs yX0_farthest (wsW_ yX0_farthest cX0_farthest 4 (some .int) [((0 : Nat), (9 : Nat), (12 : Nat), (19 : Nat)), ((0 : Nat), (9 : Nat), (15 : Nat), (30 : Nat))]) 9 238 [.ref a0, .int v1, .ref a2] h evI (.inl r) hh mc ms := by
  unfold f_X0_farthest at hf
  refine zMx.ofH (by decide) (Nat.le_of_ble_eq_true rfl) ?_
  intro p e s m args below meth c hc hr hin ht hn ls hl
  have hl : lv_has ls 4 [(0, .ref a0), (1, .int v1), (2, .ref a2)] := hl
  have hq : 0 + mc = mc ∧ 0 + ms = ms := ⟨Nat.zero_add _, Nat.zero_add _⟩
  have hx := hc.x
  have hb := hc.b
  refine lv_aload_n (x := a2) hx hb dX0_farthest_0 rfl (lv_at hl 2 rfl) ?_
  refine lv_iconst (v := (0 : Int32)) hx hb dX0_farthest_1 (by decide) ?_
  refine lv_aload_n (x := a0) hx hb dX0_farthest_2 rfl (lv_at hl 0 rfl) ?_
  refine lv_iload_n hx hb dX0_farthest_3 rfl (lv_at hl 1 rfl) ?_
  refine zh_VI (As := [.int v1]) (rest := [.int (0 : Int32), .ref a2]) hc hn hq (ci := 0) rfl ⟨rfl, hd_X1_farthest⟩ (lw_V q1421 q1422 q1423 q84 q1424) (Nat.le_of_ble_eq_true rfl) (Nat.le_of_ble_eq_true rfl) (fun _ _ _ _ q => m_X1_farthest l hl0 D dA b0 gs h a0 v1 q) hf dX0_farthest_4 hl.1 rfl rfl (zroom (Nat.le_of_ble_eq_true rfl)) (fun x101 h102 H locs cells slots C9 S9 hf hq hn => ?_) (fun e9 q9 ce9 h102 H locs cells slots C9 S9 hf hq hn g5 g6 g7 => ?_)
  · refine lv_i2l (v := x101.toInt64) hx hb dX0_farthest_7 rfl ?_
    refine zr_nmL hf (fun x103 hf => ?_)
    refine zr_sL hc hn hf dX0_farthest_8 (fun h104 H locs hf hn => ?_)
    refine lv_goto (tgt := 18) hx hb dX0_farthest_9 (by decide) ?_
    refine lv_iconst (v := (0 : Int32)) hx hb dX0_farthest_18 (by decide) ?_
    obtain ⟨rfl, rfl, rfl, rfl⟩ := zret_i hf
    exact zx_ret (zr_iret hc hn hr hq (fun _ _ _ _ q => ⟨_, rfl, q⟩) dX0_farthest_19)
  · by_cases c9 : e9 = 1
    · have hf9 := zif_t c9 hf
      subst c9
      have hf := hf9
      clear hf9
      refine vx_catch (name := "java/lang/IndexOutOfBoundsException") hc.ow [] ⟨0, 9, 12, 19⟩ [⟨0, 9, 15, 30⟩] (by rw [ht]; rfl) (fun z hz => nomatch hz) (by decide) (by decide) (hc.ts _ q359) ((hc.nC q400).use rfl) g5 g6 g7 ?_
      refine lv_astore_n (x := q9) (i := 3) (lv' := [(3, .ref q9), (0, .ref a0), (1, .int v1), (2, .ref a2)]) hx hb dX0_farthest_12 rfl hl (by decide) rfl (fun ls hl => ?_)
      refine lv_iconst (v := (1 : Int32)) hx hb dX0_farthest_13 (by decide) ?_
      obtain ⟨rfl, rfl, rfl, rfl⟩ := zret_i hf
      exact zx_ret (zr_iret hc hn hr hq (fun _ _ _ _ q => ⟨_, rfl, q⟩) dX0_farthest_14)
    · have hf := zif_f c9 hf
      by_cases c9 : e9 = 4
      · have hf9 := zif_t c9 hf
        subst c9
        have hf := hf9
        clear hf9
        refine vx_catch (name := "java/util/NoSuchElementException") hc.ow [⟨0, 9, 12, 19⟩] ⟨0, 9, 15, 30⟩ [] (by rw [ht]; rfl) (fun z hz => by
            simp only [List.mem_cons, List.not_mem_nil, or_false] at hz
            rcases hz with rfl
            · exact Or.inr ⟨by decide, _, hc.ts _ q359, hc.nNc znc_4_1⟩) (by decide) (by decide) (hc.ts _ q1134) ((hc.nC q1150).use rfl) g5 g6 g7 ?_
        refine lv_astore_n (x := q9) (i := 3) (lv' := [(3, .ref q9), (0, .ref a0), (1, .int v1), (2, .ref a2)]) hx hb dX0_farthest_15 rfl hl (by decide) rfl (fun ls hl => ?_)
        refine lv_iconst (v := (2 : Int32)) hx hb dX0_farthest_16 (by decide) ?_
        obtain ⟨rfl, rfl, rfl, rfl⟩ := zret_i hf
        exact zx_ret (zr_iret hc hn hr hq (fun _ _ _ _ q => ⟨_, rfl, q⟩) dX0_farthest_17)
      · have hf := zif_f c9 hf
        cases hf
theorem hd_X0_meanLooks : yX0_meanLooks.cls ≠ "java/lang/invoke/MethodHandle" ∧ yX0_meanLooks.cls ≠ "java/lang/invoke/VarHandle" ∧ (parseMethodDescriptor yX0_meanLooks.desc).map (fun d => d.parameters.length) = some 3 := by decide +kernel
def f_X0_meanLooks (h : PH) (a0 : Nat) (v1 : Int32) (a2 : Nat) : ZR Int32 :=
  zrc h a0 0 <| zch (f_X1_meanLooks h a0 v1) (fun x101 h102 =>
    zsD h102 a2 (0 : Int32) x101 fun h103 =>
    zret (0 : Int32) h103)
    (fun e9 q9 h102 =>
      if e9 = 1 then
        (zret (1 : Int32) h102)
      else
        (if e9 = 4 then
          (zret (2 : Int32) h102)
        else
          (none)))
set_option maxHeartbeats 4000000 in
set_option maxRecDepth 100000 in
theorem m_X0_meanLooks (l : Launch) (hl0 : l.stackTraces = false) (D : va_G) (dA : Nat → ClassId) (b0 : Nat) (gs : Nat → Option Nat) (h : PH) (a0 : Nat) (v1 : Int32) (a2 : Nat) {r : Int32} {hh : PH} {mc ms : Nat} (hf : f_X0_meanLooks h a0 v1 a2 = some (r, hh, mc, ms)) : zMx l D dA b0 gs yX0_meanLooks (wsW_ yX0_meanLooks cX0_meanLooks 4 (some .int) [((0 : Nat), (8 : Nat), (11 : Nat), (19 : Nat)), ((0 : Nat), (8 : Nat), (14 : Nat), (30 : Nat))]) 9 185 [.ref a0, .int v1, .ref a2] h evI (.inl r) hh mc ms := by
  unfold f_X0_meanLooks at hf
  refine zMx.ofH (by decide) (Nat.le_of_ble_eq_true rfl) ?_
  intro p e s m args below meth c hc hr hin ht hn ls hl
  have hl : lv_has ls 4 [(0, .ref a0), (1, .int v1), (2, .ref a2)] := hl
  have hq : 0 + mc = mc ∧ 0 + ms = ms := ⟨Nat.zero_add _, Nat.zero_add _⟩
  have hx := hc.x
  have hb := hc.b
  refine lv_aload_n (x := a2) hx hb dX0_meanLooks_0 rfl (lv_at hl 2 rfl) ?_
  refine lv_iconst (v := (0 : Int32)) hx hb dX0_meanLooks_1 (by decide) ?_
  refine lv_aload_n (x := a0) hx hb dX0_meanLooks_2 rfl (lv_at hl 0 rfl) ?_
  refine lv_iload_n hx hb dX0_meanLooks_3 rfl (lv_at hl 1 rfl) ?_
  refine zh_VD (As := [.int v1]) (rest := [.int (0 : Int32), .ref a2]) hc hn hq (ci := 0) rfl ⟨rfl, hd_X1_meanLooks⟩ (lw_V q1732 q1733 q1734 q84 q1735) (Nat.le_of_ble_eq_true rfl) (Nat.le_of_ble_eq_true rfl) (fun _ _ _ _ q => m_X1_meanLooks l hl0 D dA b0 gs h a0 v1 q) hf dX0_meanLooks_4 hl.1 rfl rfl (zroom (Nat.le_of_ble_eq_true rfl)) (fun x101 h102 H locs cells slots C9 S9 hf hq hn => ?_) (fun e9 q9 ce9 h102 H locs cells slots C9 S9 hf hq hn g5 g6 g7 => ?_)
  · refine zr_sD hc hn hf dX0_meanLooks_7 (fun h103 H locs hf hn => ?_)
    refine lv_goto (tgt := 17) hx hb dX0_meanLooks_8 (by decide) ?_
    refine lv_iconst (v := (0 : Int32)) hx hb dX0_meanLooks_17 (by decide) ?_
    obtain ⟨rfl, rfl, rfl, rfl⟩ := zret_i hf
    exact zx_ret (zr_iret hc hn hr hq (fun _ _ _ _ q => ⟨_, rfl, q⟩) dX0_meanLooks_18)
  · by_cases c9 : e9 = 1
    · have hf9 := zif_t c9 hf
      subst c9
      have hf := hf9
      clear hf9
      refine vx_catch (name := "java/lang/IndexOutOfBoundsException") hc.ow [] ⟨0, 8, 11, 19⟩ [⟨0, 8, 14, 30⟩] (by rw [ht]; rfl) (fun z hz => nomatch hz) (by decide) (by decide) (hc.ts _ q359) ((hc.nC q400).use rfl) g5 g6 g7 ?_
      refine lv_astore_n (x := q9) (i := 3) (lv' := [(3, .ref q9), (0, .ref a0), (1, .int v1), (2, .ref a2)]) hx hb dX0_meanLooks_11 rfl hl (by decide) rfl (fun ls hl => ?_)
      refine lv_iconst (v := (1 : Int32)) hx hb dX0_meanLooks_12 (by decide) ?_
      obtain ⟨rfl, rfl, rfl, rfl⟩ := zret_i hf
      exact zx_ret (zr_iret hc hn hr hq (fun _ _ _ _ q => ⟨_, rfl, q⟩) dX0_meanLooks_13)
    · have hf := zif_f c9 hf
      by_cases c9 : e9 = 4
      · have hf9 := zif_t c9 hf
        subst c9
        have hf := hf9
        clear hf9
        refine vx_catch (name := "java/util/NoSuchElementException") hc.ow [⟨0, 8, 11, 19⟩] ⟨0, 8, 14, 30⟩ [] (by rw [ht]; rfl) (fun z hz => by
            simp only [List.mem_cons, List.not_mem_nil, or_false] at hz
            rcases hz with rfl
            · exact Or.inr ⟨by decide, _, hc.ts _ q359, hc.nNc znc_4_1⟩) (by decide) (by decide) (hc.ts _ q1134) ((hc.nC q1150).use rfl) g5 g6 g7 ?_
        refine lv_astore_n (x := q9) (i := 3) (lv' := [(3, .ref q9), (0, .ref a0), (1, .int v1), (2, .ref a2)]) hx hb dX0_meanLooks_14 rfl hl (by decide) rfl (fun ls hl => ?_)
        refine lv_iconst (v := (2 : Int32)) hx hb dX0_meanLooks_15 (by decide) ?_
        obtain ⟨rfl, rfl, rfl, rfl⟩ := zret_i hf
        exact zx_ret (zr_iret hc hn hr hq (fun _ _ _ _ q => ⟨_, rfl, q⟩) dX0_meanLooks_16)
      · have hf := zif_f c9 hf
        cases hf
theorem hd_X0_heightIfInserted : yX0_heightIfInserted.cls ≠ "java/lang/invoke/MethodHandle" ∧ yX0_heightIfInserted.cls ≠ "java/lang/invoke/VarHandle" ∧ (parseMethodDescriptor yX0_heightIfInserted.desc).map (fun d => d.parameters.length) = some 4 := by decide +kernel
def f_X0_heightIfInserted (h : PH) (a0 : Nat) (v1 : Int32) (v2 : Int32) (a3 : Nat) : ZR Int32 :=
  zrc h a0 0 <| zch (f_X1_heightIfInserted h a0 v1 v2) (fun x101 h102 =>
    znm x101.toInt64 fun x103 =>
    zsL h102 a3 3 (0 : Int32) x103 fun h104 =>
    zret (0 : Int32) h104)
    (fun e9 q9 h102 =>
      if e9 = 1 then
        (zret (1 : Int32) h102)
      else
        (if e9 = 2 then
          (zret (2 : Int32) h102)
        else
          (if e9 = 3 then
            (zret (3 : Int32) h102)
          else
            (none))))
set_option maxHeartbeats 4000000 in
set_option maxRecDepth 100000 in
theorem m_X0_heightIfInserted (l : Launch) (hl0 : l.stackTraces = false) (D : va_G) (dA : Nat → ClassId) (b0 : Nat) (gs : Nat → Option Nat) (h : PH) (a0 : Nat) (v1 : Int32) (v2 : Int32) (a3 : Nat) {r : Int32} {hh : PH} {mc ms : Nat} (hf : f_X0_heightIfInserted h a0 v1 v2 a3 = some (r, hh, mc, ms)) : zMx l D dA b0 gs yX0_heightIfInserted (wsW_ yX0_heightIfInserted cX0_heightIfInserted 5 (some .int) [((0 : Nat), (10 : Nat), (13 : Nat), (19 : Nat)), ((0 : Nat), (10 : Nat), (17 : Nat), (25 : Nat)), ((0 : Nat), (10 : Nat), (21 : Nat), (13 : Nat))]) 13 3141 [.ref a0, .int v1, .int v2, .ref a3] h evI (.inl r) hh mc ms := by
  unfold f_X0_heightIfInserted at hf
  refine zMx.ofH (by decide) (Nat.le_of_ble_eq_true rfl) ?_
  intro p e s m args below meth c hc hr hin ht hn ls hl
  have hl : lv_has ls 5 [(0, .ref a0), (1, .int v1), (2, .int v2), (3, .ref a3)] := hl
  have hq : 0 + mc = mc ∧ 0 + ms = ms := ⟨Nat.zero_add _, Nat.zero_add _⟩
  have hx := hc.x
  have hb := hc.b
  refine lv_aload_n (x := a3) hx hb dX0_heightIfInserted_0 rfl (lv_at hl 3 rfl) ?_
  refine lv_iconst (v := (0 : Int32)) hx hb dX0_heightIfInserted_1 (by decide) ?_
  refine lv_aload_n (x := a0) hx hb dX0_heightIfInserted_2 rfl (lv_at hl 0 rfl) ?_
  refine lv_iload_n hx hb dX0_heightIfInserted_3 rfl (lv_at hl 1 rfl) ?_
  refine lv_iload_n hx hb dX0_heightIfInserted_4 rfl (lv_at hl 2 rfl) ?_
  refine zh_VI (As := [.int v1, .int v2]) (rest := [.int (0 : Int32), .ref a3]) hc hn hq (ci := 0) rfl ⟨rfl, hd_X1_heightIfInserted⟩ (lw_V q1739 q1740 q1741 q84 q1742) (Nat.le_of_ble_eq_true rfl) (Nat.le_of_ble_eq_true rfl) (fun _ _ _ _ q => m_X1_heightIfInserted l hl0 D dA b0 gs h a0 v1 v2 q) hf dX0_heightIfInserted_5 hl.1 rfl rfl (zroom (Nat.le_of_ble_eq_true rfl)) (fun x101 h102 H locs cells slots C9 S9 hf hq hn => ?_) (fun e9 q9 ce9 h102 H locs cells slots C9 S9 hf hq hn g5 g6 g7 => ?_)
  · refine lv_i2l (v := x101.toInt64) hx hb dX0_heightIfInserted_8 rfl ?_
    refine zr_nmL hf (fun x103 hf => ?_)
    refine zr_sL hc hn hf dX0_heightIfInserted_9 (fun h104 H locs hf hn => ?_)
    refine lv_goto (tgt := 25) hx hb dX0_heightIfInserted_10 (by decide) ?_
    refine lv_iconst (v := (0 : Int32)) hx hb dX0_heightIfInserted_25 (by decide) ?_
    obtain ⟨rfl, rfl, rfl, rfl⟩ := zret_i hf
    exact zx_ret (zr_iret hc hn hr hq (fun _ _ _ _ q => ⟨_, rfl, q⟩) dX0_heightIfInserted_26)
  · by_cases c9 : e9 = 1
    · have hf9 := zif_t c9 hf
      subst c9
      have hf := hf9
      clear hf9
      refine vx_catch (name := "java/lang/IndexOutOfBoundsException") hc.ow [] ⟨0, 10, 13, 19⟩ [⟨0, 10, 17, 25⟩, ⟨0, 10, 21, 13⟩] (by rw [ht]; rfl) (fun z hz => nomatch hz) (by decide) (by decide) (hc.ts _ q359) ((hc.nC q400).use rfl) g5 g6 g7 ?_
      refine lv_astore (x := q9) (lv' := [(4, .ref q9), (0, .ref a0), (1, .int v1), (2, .int v2), (3, .ref a3)]) hx hb dX0_heightIfInserted_13 hl (by decide) rfl (fun ls hl => ?_)
      refine lv_iconst (v := (1 : Int32)) hx hb dX0_heightIfInserted_15 (by decide) ?_
      obtain ⟨rfl, rfl, rfl, rfl⟩ := zret_i hf
      exact zx_ret (zr_iret hc hn hr hq (fun _ _ _ _ q => ⟨_, rfl, q⟩) dX0_heightIfInserted_16)
    · have hf := zif_f c9 hf
      by_cases c9 : e9 = 2
      · have hf9 := zif_t c9 hf
        subst c9
        have hf := hf9
        clear hf9
        refine vx_catch (name := "java/lang/IllegalArgumentException") hc.ow [⟨0, 10, 13, 19⟩] ⟨0, 10, 17, 25⟩ [⟨0, 10, 21, 13⟩] (by rw [ht]; rfl) (fun z hz => by
            simp only [List.mem_cons, List.not_mem_nil, or_false] at hz
            rcases hz with rfl
            · exact Or.inr ⟨by decide, _, hc.ts _ q359, hc.nNc znc_2_1⟩) (by decide) (by decide) (hc.ts _ q416) ((hc.nC q603).use rfl) g5 g6 g7 ?_
        refine lv_astore (x := q9) (lv' := [(4, .ref q9), (0, .ref a0), (1, .int v1), (2, .int v2), (3, .ref a3)]) hx hb dX0_heightIfInserted_17 hl (by decide) rfl (fun ls hl => ?_)
        refine lv_iconst (v := (2 : Int32)) hx hb dX0_heightIfInserted_19 (by decide) ?_
        obtain ⟨rfl, rfl, rfl, rfl⟩ := zret_i hf
        exact zx_ret (zr_iret hc hn hr hq (fun _ _ _ _ q => ⟨_, rfl, q⟩) dX0_heightIfInserted_20)
      · have hf := zif_f c9 hf
        by_cases c9 : e9 = 3
        · have hf9 := zif_t c9 hf
          subst c9
          have hf := hf9
          clear hf9
          refine vx_catch (name := "java/lang/IllegalStateException") hc.ow [⟨0, 10, 13, 19⟩, ⟨0, 10, 17, 25⟩] ⟨0, 10, 21, 13⟩ [] (by rw [ht]; rfl) (fun z hz => by
              simp only [List.mem_cons, List.not_mem_nil, or_false] at hz
              rcases hz with rfl | rfl
              · exact Or.inr ⟨by decide, _, hc.ts _ q359, hc.nNc znc_3_1⟩
              · exact Or.inr ⟨by decide, _, hc.ts _ q416, hc.nNc znc_3_2⟩) (by decide) (by decide) (hc.ts _ q281) ((hc.nC q291).use rfl) g5 g6 g7 ?_
          refine lv_astore (x := q9) (lv' := [(4, .ref q9), (0, .ref a0), (1, .int v1), (2, .int v2), (3, .ref a3)]) hx hb dX0_heightIfInserted_21 hl (by decide) rfl (fun ls hl => ?_)
          refine lv_iconst (v := (3 : Int32)) hx hb dX0_heightIfInserted_23 (by decide) ?_
          obtain ⟨rfl, rfl, rfl, rfl⟩ := zret_i hf
          exact zx_ret (zr_iret hc hn hr hq (fun _ _ _ _ q => ⟨_, rfl, q⟩) dX0_heightIfInserted_24)
        · have hf := zif_f c9 hf
          cases hf
theorem hd_X0_repairsIfRemoved : yX0_repairsIfRemoved.cls ≠ "java/lang/invoke/MethodHandle" ∧ yX0_repairsIfRemoved.cls ≠ "java/lang/invoke/VarHandle" ∧ (parseMethodDescriptor yX0_repairsIfRemoved.desc).map (fun d => d.parameters.length) = some 4 := by decide +kernel
def f_X0_repairsIfRemoved (h : PH) (a0 : Nat) (v1 : Int32) (v2 : Int32) (a3 : Nat) : ZR Int32 :=
  zrc h a0 0 <| zch (f_X1_repairsIfRemoved h a0 v1 v2) (fun x101 h102 =>
    znm x101.toInt64 fun x103 =>
    zsL h102 a3 3 (0 : Int32) x103 fun h104 =>
    zret (0 : Int32) h104)
    (fun e9 q9 h102 =>
      if e9 = 1 then
        (zret (1 : Int32) h102)
      else
        (if e9 = 2 then
          (zret (2 : Int32) h102)
        else
          (if e9 = 4 then
            (zret (3 : Int32) h102)
          else
            (none))))
set_option maxHeartbeats 4000000 in
set_option maxRecDepth 100000 in
theorem m_X0_repairsIfRemoved (l : Launch) (hl0 : l.stackTraces = false) (D : va_G) (dA : Nat → ClassId) (b0 : Nat) (gs : Nat → Option Nat) (h : PH) (a0 : Nat) (v1 : Int32) (v2 : Int32) (a3 : Nat) {r : Int32} {hh : PH} {mc ms : Nat} (hf : f_X0_repairsIfRemoved h a0 v1 v2 a3 = some (r, hh, mc, ms)) : zMx l D dA b0 gs yX0_repairsIfRemoved (wsW_ yX0_repairsIfRemoved cX0_repairsIfRemoved 5 (some .int) [((0 : Nat), (10 : Nat), (13 : Nat), (19 : Nat)), ((0 : Nat), (10 : Nat), (17 : Nat), (25 : Nat)), ((0 : Nat), (10 : Nat), (21 : Nat), (30 : Nat))]) 13 3140 [.ref a0, .int v1, .int v2, .ref a3] h evI (.inl r) hh mc ms := by
  unfold f_X0_repairsIfRemoved at hf
  refine zMx.ofH (by decide) (Nat.le_of_ble_eq_true rfl) ?_
  intro p e s m args below meth c hc hr hin ht hn ls hl
  have hl : lv_has ls 5 [(0, .ref a0), (1, .int v1), (2, .int v2), (3, .ref a3)] := hl
  have hq : 0 + mc = mc ∧ 0 + ms = ms := ⟨Nat.zero_add _, Nat.zero_add _⟩
  have hx := hc.x
  have hb := hc.b
  refine lv_aload_n (x := a3) hx hb dX0_repairsIfRemoved_0 rfl (lv_at hl 3 rfl) ?_
  refine lv_iconst (v := (0 : Int32)) hx hb dX0_repairsIfRemoved_1 (by decide) ?_
  refine lv_aload_n (x := a0) hx hb dX0_repairsIfRemoved_2 rfl (lv_at hl 0 rfl) ?_
  refine lv_iload_n hx hb dX0_repairsIfRemoved_3 rfl (lv_at hl 1 rfl) ?_
  refine lv_iload_n hx hb dX0_repairsIfRemoved_4 rfl (lv_at hl 2 rfl) ?_
  refine zh_VI (As := [.int v1, .int v2]) (rest := [.int (0 : Int32), .ref a3]) hc hn hq (ci := 0) rfl ⟨rfl, hd_X1_repairsIfRemoved⟩ (lw_V q1769 q1770 q1771 q84 q1772) (Nat.le_of_ble_eq_true rfl) (Nat.le_of_ble_eq_true rfl) (fun _ _ _ _ q => m_X1_repairsIfRemoved l hl0 D dA b0 gs h a0 v1 v2 q) hf dX0_repairsIfRemoved_5 hl.1 rfl rfl (zroom (Nat.le_of_ble_eq_true rfl)) (fun x101 h102 H locs cells slots C9 S9 hf hq hn => ?_) (fun e9 q9 ce9 h102 H locs cells slots C9 S9 hf hq hn g5 g6 g7 => ?_)
  · refine lv_i2l (v := x101.toInt64) hx hb dX0_repairsIfRemoved_8 rfl ?_
    refine zr_nmL hf (fun x103 hf => ?_)
    refine zr_sL hc hn hf dX0_repairsIfRemoved_9 (fun h104 H locs hf hn => ?_)
    refine lv_goto (tgt := 25) hx hb dX0_repairsIfRemoved_10 (by decide) ?_
    refine lv_iconst (v := (0 : Int32)) hx hb dX0_repairsIfRemoved_25 (by decide) ?_
    obtain ⟨rfl, rfl, rfl, rfl⟩ := zret_i hf
    exact zx_ret (zr_iret hc hn hr hq (fun _ _ _ _ q => ⟨_, rfl, q⟩) dX0_repairsIfRemoved_26)
  · by_cases c9 : e9 = 1
    · have hf9 := zif_t c9 hf
      subst c9
      have hf := hf9
      clear hf9
      refine vx_catch (name := "java/lang/IndexOutOfBoundsException") hc.ow [] ⟨0, 10, 13, 19⟩ [⟨0, 10, 17, 25⟩, ⟨0, 10, 21, 30⟩] (by rw [ht]; rfl) (fun z hz => nomatch hz) (by decide) (by decide) (hc.ts _ q359) ((hc.nC q400).use rfl) g5 g6 g7 ?_
      refine lv_astore (x := q9) (lv' := [(4, .ref q9), (0, .ref a0), (1, .int v1), (2, .int v2), (3, .ref a3)]) hx hb dX0_repairsIfRemoved_13 hl (by decide) rfl (fun ls hl => ?_)
      refine lv_iconst (v := (1 : Int32)) hx hb dX0_repairsIfRemoved_15 (by decide) ?_
      obtain ⟨rfl, rfl, rfl, rfl⟩ := zret_i hf
      exact zx_ret (zr_iret hc hn hr hq (fun _ _ _ _ q => ⟨_, rfl, q⟩) dX0_repairsIfRemoved_16)
    · have hf := zif_f c9 hf
      by_cases c9 : e9 = 2
      · have hf9 := zif_t c9 hf
        subst c9
        have hf := hf9
        clear hf9
        refine vx_catch (name := "java/lang/IllegalArgumentException") hc.ow [⟨0, 10, 13, 19⟩] ⟨0, 10, 17, 25⟩ [⟨0, 10, 21, 30⟩] (by rw [ht]; rfl) (fun z hz => by
            simp only [List.mem_cons, List.not_mem_nil, or_false] at hz
            rcases hz with rfl
            · exact Or.inr ⟨by decide, _, hc.ts _ q359, hc.nNc znc_2_1⟩) (by decide) (by decide) (hc.ts _ q416) ((hc.nC q603).use rfl) g5 g6 g7 ?_
        refine lv_astore (x := q9) (lv' := [(4, .ref q9), (0, .ref a0), (1, .int v1), (2, .int v2), (3, .ref a3)]) hx hb dX0_repairsIfRemoved_17 hl (by decide) rfl (fun ls hl => ?_)
        refine lv_iconst (v := (2 : Int32)) hx hb dX0_repairsIfRemoved_19 (by decide) ?_
        obtain ⟨rfl, rfl, rfl, rfl⟩ := zret_i hf
        exact zx_ret (zr_iret hc hn hr hq (fun _ _ _ _ q => ⟨_, rfl, q⟩) dX0_repairsIfRemoved_20)
      · have hf := zif_f c9 hf
        by_cases c9 : e9 = 4
        · have hf9 := zif_t c9 hf
          subst c9
          have hf := hf9
          clear hf9
          refine vx_catch (name := "java/util/NoSuchElementException") hc.ow [⟨0, 10, 13, 19⟩, ⟨0, 10, 17, 25⟩] ⟨0, 10, 21, 30⟩ [] (by rw [ht]; rfl) (fun z hz => by
              simp only [List.mem_cons, List.not_mem_nil, or_false] at hz
              rcases hz with rfl | rfl
              · exact Or.inr ⟨by decide, _, hc.ts _ q359, hc.nNc znc_4_1⟩
              · exact Or.inr ⟨by decide, _, hc.ts _ q416, hc.nNc znc_4_2⟩) (by decide) (by decide) (hc.ts _ q1134) ((hc.nC q1150).use rfl) g5 g6 g7 ?_
          refine lv_astore (x := q9) (lv' := [(4, .ref q9), (0, .ref a0), (1, .int v1), (2, .int v2), (3, .ref a3)]) hx hb dX0_repairsIfRemoved_21 hl (by decide) rfl (fun ls hl => ?_)
          refine lv_iconst (v := (3 : Int32)) hx hb dX0_repairsIfRemoved_23 (by decide) ?_
          obtain ⟨rfl, rfl, rfl, rfl⟩ := zret_i hf
          exact zx_ret (zr_iret hc hn hr hq (fun _ _ _ _ q => ⟨_, rfl, q⟩) dX0_repairsIfRemoved_24)
        · have hf := zif_f c9 hf
          cases hf
theorem hd_X0_repairsIfLimit : yX0_repairsIfLimit.cls ≠ "java/lang/invoke/MethodHandle" ∧ yX0_repairsIfLimit.cls ≠ "java/lang/invoke/VarHandle" ∧ (parseMethodDescriptor yX0_repairsIfLimit.desc).map (fun d => d.parameters.length) = some 3 := by decide +kernel
def f_X0_repairsIfLimit (h : PH) (a0 : Nat) (v1 : Int32) (a2 : Nat) : ZR Int32 :=
  zrc h a0 0 <| zch (f_X1_repairsIfLimit h a0 v1) (fun x101 h102 =>
    znm x101.toInt64 fun x103 =>
    zsL h102 a2 3 (0 : Int32) x103 fun h104 =>
    zret (0 : Int32) h104)
    (fun e9 q9 h102 =>
      if e9 = 2 then
        (zret (1 : Int32) h102)
      else
        (none))
set_option maxHeartbeats 4000000 in
set_option maxRecDepth 100000 in
theorem m_X0_repairsIfLimit (l : Launch) (hl0 : l.stackTraces = false) (D : va_G) (dA : Nat → ClassId) (b0 : Nat) (gs : Nat → Option Nat) (h : PH) (a0 : Nat) (v1 : Int32) (a2 : Nat) {r : Int32} {hh : PH} {mc ms : Nat} (hf : f_X0_repairsIfLimit h a0 v1 a2 = some (r, hh, mc, ms)) : zMx l D dA b0 gs yX0_repairsIfLimit (wsW_ yX0_repairsIfLimit cX0_repairsIfLimit 4 (some .int) [((0 : Nat), (9 : Nat), (12 : Nat), (25 : Nat))]) 13 3142 [.ref a0, .int v1, .ref a2] h evI (.inl r) hh mc ms := by
  unfold f_X0_repairsIfLimit at hf
  refine zMx.ofH (by decide) (Nat.le_of_ble_eq_true rfl) ?_
  intro p e s m args below meth c hc hr hin ht hn ls hl
  have hl : lv_has ls 4 [(0, .ref a0), (1, .int v1), (2, .ref a2)] := hl
  have hq : 0 + mc = mc ∧ 0 + ms = ms := ⟨Nat.zero_add _, Nat.zero_add _⟩
  have hx := hc.x
  have hb := hc.b
  refine lv_aload_n (x := a2) hx hb dX0_repairsIfLimit_0 rfl (lv_at hl 2 rfl) ?_
  refine lv_iconst (v := (0 : Int32)) hx hb dX0_repairsIfLimit_1 (by decide) ?_
  refine lv_aload_n (x := a0) hx hb dX0_repairsIfLimit_2 rfl (lv_at hl 0 rfl) ?_
  refine lv_iload_n hx hb dX0_repairsIfLimit_3 rfl (lv_at hl 1 rfl) ?_
  refine zh_VI (As := [.int v1]) (rest := [.int (0 : Int32), .ref a2]) hc hn hq (ci := 0) rfl ⟨rfl, hd_X1_repairsIfLimit⟩ (lw_V q1780 q1781 q1782 q84 q1783) (Nat.le_of_ble_eq_true rfl) (Nat.le_of_ble_eq_true rfl) (fun _ _ _ _ q => m_X1_repairsIfLimit l hl0 D dA b0 gs h a0 v1 q) hf dX0_repairsIfLimit_4 hl.1 rfl rfl (zroom (Nat.le_of_ble_eq_true rfl)) (fun x101 h102 H locs cells slots C9 S9 hf hq hn => ?_) (fun e9 q9 ce9 h102 H locs cells slots C9 S9 hf hq hn g5 g6 g7 => ?_)
  · refine lv_i2l (v := x101.toInt64) hx hb dX0_repairsIfLimit_7 rfl ?_
    refine zr_nmL hf (fun x103 hf => ?_)
    refine zr_sL hc hn hf dX0_repairsIfLimit_8 (fun h104 H locs hf hn => ?_)
    refine lv_goto (tgt := 15) hx hb dX0_repairsIfLimit_9 (by decide) ?_
    refine lv_iconst (v := (0 : Int32)) hx hb dX0_repairsIfLimit_15 (by decide) ?_
    obtain ⟨rfl, rfl, rfl, rfl⟩ := zret_i hf
    exact zx_ret (zr_iret hc hn hr hq (fun _ _ _ _ q => ⟨_, rfl, q⟩) dX0_repairsIfLimit_16)
  · by_cases c9 : e9 = 2
    · have hf9 := zif_t c9 hf
      subst c9
      have hf := hf9
      clear hf9
      refine vx_catch (name := "java/lang/IllegalArgumentException") hc.ow [] ⟨0, 9, 12, 25⟩ [] (by rw [ht]; rfl) (fun z hz => nomatch hz) (by decide) (by decide) (hc.ts _ q416) ((hc.nC q603).use rfl) g5 g6 g7 ?_
      refine lv_astore_n (x := q9) (i := 3) (lv' := [(3, .ref q9), (0, .ref a0), (1, .int v1), (2, .ref a2)]) hx hb dX0_repairsIfLimit_12 rfl hl (by decide) rfl (fun ls hl => ?_)
      refine lv_iconst (v := (1 : Int32)) hx hb dX0_repairsIfLimit_13 (by decide) ?_
      obtain ⟨rfl, rfl, rfl, rfl⟩ := zret_i hf
      exact zx_ret (zr_iret hc hn hr hq (fun _ _ _ _ q => ⟨_, rfl, q⟩) dX0_repairsIfLimit_14)
    · have hf := zif_f c9 hf
      cases hf
theorem hd_X0_whyNotJoin : yX0_whyNotJoin.cls ≠ "java/lang/invoke/MethodHandle" ∧ yX0_whyNotJoin.cls ≠ "java/lang/invoke/VarHandle" ∧ (parseMethodDescriptor yX0_whyNotJoin.desc).map (fun d => d.parameters.length) = some 4 := by decide +kernel
def f_X0_whyNotJoin (h : PH) (a0 : Nat) (v1 : Int32) (v2 : Int32) (a3 : Nat) : ZR Int32 :=
  zrc h a0 0 <| zch (f_X1_whyNotJoin h a0 v1 v2) (fun x101 h102 =>
    znm x101.toInt64 fun x103 =>
    zsL h102 a3 3 (0 : Int32) x103 fun h104 =>
    zret (0 : Int32) h104)
    (fun e9 q9 h102 =>
      if e9 = 1 then
        (zret (1 : Int32) h102)
      else
        (none))
set_option maxHeartbeats 4000000 in
set_option maxRecDepth 100000 in
theorem m_X0_whyNotJoin (l : Launch) (hl0 : l.stackTraces = false) (D : va_G) (dA : Nat → ClassId) (b0 : Nat) (gs : Nat → Option Nat) (h : PH) (a0 : Nat) (v1 : Int32) (v2 : Int32) (a3 : Nat) {r : Int32} {hh : PH} {mc ms : Nat} (hf : f_X0_whyNotJoin h a0 v1 v2 a3 = some (r, hh, mc, ms)) : zMx l D dA b0 gs yX0_whyNotJoin (wsW_ yX0_whyNotJoin cX0_whyNotJoin 5 (some .int) [((0 : Nat), (10 : Nat), (13 : Nat), (19 : Nat))]) 9 185 [.ref a0, .int v1, .int v2, .ref a3] h evI (.inl r) hh mc ms := by
  unfold f_X0_whyNotJoin at hf
  refine zMx.ofH (by decide) (Nat.le_of_ble_eq_true rfl) ?_
  intro p e s m args below meth c hc hr hin ht hn ls hl
  have hl : lv_has ls 5 [(0, .ref a0), (1, .int v1), (2, .int v2), (3, .ref a3)] := hl
  have hq : 0 + mc = mc ∧ 0 + ms = ms := ⟨Nat.zero_add _, Nat.zero_add _⟩
  have hx := hc.x
  have hb := hc.b
  refine lv_aload_n (x := a3) hx hb dX0_whyNotJoin_0 rfl (lv_at hl 3 rfl) ?_
  refine lv_iconst (v := (0 : Int32)) hx hb dX0_whyNotJoin_1 (by decide) ?_
  refine lv_aload_n (x := a0) hx hb dX0_whyNotJoin_2 rfl (lv_at hl 0 rfl) ?_
  refine lv_iload_n hx hb dX0_whyNotJoin_3 rfl (lv_at hl 1 rfl) ?_
  refine lv_iload_n hx hb dX0_whyNotJoin_4 rfl (lv_at hl 2 rfl) ?_
  refine zh_VI (As := [.int v1, .int v2]) (rest := [.int (0 : Int32), .ref a3]) hc hn hq (ci := 0) rfl ⟨rfl, hd_X1_whyNotJoin⟩ (lw_V q1787 q1788 q1789 q84 q1790) (Nat.le_of_ble_eq_true rfl) (Nat.le_of_ble_eq_true rfl) (fun _ _ _ _ q => m_X1_whyNotJoin l hl0 D dA b0 gs h a0 v1 v2 q) hf dX0_whyNotJoin_5 hl.1 rfl rfl (zroom (Nat.le_of_ble_eq_true rfl)) (fun x101 h102 H locs cells slots C9 S9 hf hq hn => ?_) (fun e9 q9 ce9 h102 H locs cells slots C9 S9 hf hq hn g5 g6 g7 => ?_)
  · refine lv_i2l (v := x101.toInt64) hx hb dX0_whyNotJoin_8 rfl ?_
    refine zr_nmL hf (fun x103 hf => ?_)
    refine zr_sL hc hn hf dX0_whyNotJoin_9 (fun h104 H locs hf hn => ?_)
    refine lv_goto (tgt := 17) hx hb dX0_whyNotJoin_10 (by decide) ?_
    refine lv_iconst (v := (0 : Int32)) hx hb dX0_whyNotJoin_17 (by decide) ?_
    obtain ⟨rfl, rfl, rfl, rfl⟩ := zret_i hf
    exact zx_ret (zr_iret hc hn hr hq (fun _ _ _ _ q => ⟨_, rfl, q⟩) dX0_whyNotJoin_18)
  · by_cases c9 : e9 = 1
    · have hf9 := zif_t c9 hf
      subst c9
      have hf := hf9
      clear hf9
      refine vx_catch (name := "java/lang/IndexOutOfBoundsException") hc.ow [] ⟨0, 10, 13, 19⟩ [] (by rw [ht]; rfl) (fun z hz => nomatch hz) (by decide) (by decide) (hc.ts _ q359) ((hc.nC q400).use rfl) g5 g6 g7 ?_
      refine lv_astore (x := q9) (lv' := [(4, .ref q9), (0, .ref a0), (1, .int v1), (2, .int v2), (3, .ref a3)]) hx hb dX0_whyNotJoin_13 hl (by decide) rfl (fun ls hl => ?_)
      refine lv_iconst (v := (1 : Int32)) hx hb dX0_whyNotJoin_15 (by decide) ?_
      obtain ⟨rfl, rfl, rfl, rfl⟩ := zret_i hf
      exact zx_ret (zr_iret hc hn hr hq (fun _ _ _ _ q => ⟨_, rfl, q⟩) dX0_whyNotJoin_16)
    · have hf := zif_f c9 hf
      cases hf
theorem hd_X0_whyNotAbsorb : yX0_whyNotAbsorb.cls ≠ "java/lang/invoke/MethodHandle" ∧ yX0_whyNotAbsorb.cls ≠ "java/lang/invoke/VarHandle" ∧ (parseMethodDescriptor yX0_whyNotAbsorb.desc).map (fun d => d.parameters.length) = some 4 := by decide +kernel
def f_X0_whyNotAbsorb (h : PH) (a0 : Nat) (v1 : Int32) (v2 : Int32) (a3 : Nat) : ZR Int32 :=
  zrc h a0 0 <| zch (f_X1_whyNotAbsorb h a0 v1 v2) (fun x101 h102 =>
    znm x101.toInt64 fun x103 =>
    zsL h102 a3 3 (0 : Int32) x103 fun h104 =>
    zret (0 : Int32) h104)
    (fun e9 q9 h102 =>
      if e9 = 1 then
        (zret (1 : Int32) h102)
      else
        (none))
set_option maxHeartbeats 4000000 in
set_option maxRecDepth 100000 in
theorem m_X0_whyNotAbsorb (l : Launch) (hl0 : l.stackTraces = false) (D : va_G) (dA : Nat → ClassId) (b0 : Nat) (gs : Nat → Option Nat) (h : PH) (a0 : Nat) (v1 : Int32) (v2 : Int32) (a3 : Nat) {r : Int32} {hh : PH} {mc ms : Nat} (hf : f_X0_whyNotAbsorb h a0 v1 v2 a3 = some (r, hh, mc, ms)) : zMx l D dA b0 gs yX0_whyNotAbsorb (wsW_ yX0_whyNotAbsorb cX0_whyNotAbsorb 5 (some .int) [((0 : Nat), (10 : Nat), (13 : Nat), (19 : Nat))]) 9 186 [.ref a0, .int v1, .int v2, .ref a3] h evI (.inl r) hh mc ms := by
  unfold f_X0_whyNotAbsorb at hf
  refine zMx.ofH (by decide) (Nat.le_of_ble_eq_true rfl) ?_
  intro p e s m args below meth c hc hr hin ht hn ls hl
  have hl : lv_has ls 5 [(0, .ref a0), (1, .int v1), (2, .int v2), (3, .ref a3)] := hl
  have hq : 0 + mc = mc ∧ 0 + ms = ms := ⟨Nat.zero_add _, Nat.zero_add _⟩
  have hx := hc.x
  have hb := hc.b
  refine lv_aload_n (x := a3) hx hb dX0_whyNotAbsorb_0 rfl (lv_at hl 3 rfl) ?_
  refine lv_iconst (v := (0 : Int32)) hx hb dX0_whyNotAbsorb_1 (by decide) ?_
  refine lv_aload_n (x := a0) hx hb dX0_whyNotAbsorb_2 rfl (lv_at hl 0 rfl) ?_
  refine lv_iload_n hx hb dX0_whyNotAbsorb_3 rfl (lv_at hl 1 rfl) ?_
  refine lv_iload_n hx hb dX0_whyNotAbsorb_4 rfl (lv_at hl 2 rfl) ?_
  refine zh_VI (As := [.int v1, .int v2]) (rest := [.int (0 : Int32), .ref a3]) hc hn hq (ci := 0) rfl ⟨rfl, hd_X1_whyNotAbsorb⟩ (lw_V q1798 q1799 q1800 q84 q1801) (Nat.le_of_ble_eq_true rfl) (Nat.le_of_ble_eq_true rfl) (fun _ _ _ _ q => m_X1_whyNotAbsorb l hl0 D dA b0 gs h a0 v1 v2 q) hf dX0_whyNotAbsorb_5 hl.1 rfl rfl (zroom (Nat.le_of_ble_eq_true rfl)) (fun x101 h102 H locs cells slots C9 S9 hf hq hn => ?_) (fun e9 q9 ce9 h102 H locs cells slots C9 S9 hf hq hn g5 g6 g7 => ?_)
  · refine lv_i2l (v := x101.toInt64) hx hb dX0_whyNotAbsorb_8 rfl ?_
    refine zr_nmL hf (fun x103 hf => ?_)
    refine zr_sL hc hn hf dX0_whyNotAbsorb_9 (fun h104 H locs hf hn => ?_)
    refine lv_goto (tgt := 17) hx hb dX0_whyNotAbsorb_10 (by decide) ?_
    refine lv_iconst (v := (0 : Int32)) hx hb dX0_whyNotAbsorb_17 (by decide) ?_
    obtain ⟨rfl, rfl, rfl, rfl⟩ := zret_i hf
    exact zx_ret (zr_iret hc hn hr hq (fun _ _ _ _ q => ⟨_, rfl, q⟩) dX0_whyNotAbsorb_18)
  · by_cases c9 : e9 = 1
    · have hf9 := zif_t c9 hf
      subst c9
      have hf := hf9
      clear hf9
      refine vx_catch (name := "java/lang/IndexOutOfBoundsException") hc.ow [] ⟨0, 10, 13, 19⟩ [] (by rw [ht]; rfl) (fun z hz => nomatch hz) (by decide) (by decide) (hc.ts _ q359) ((hc.nC q400).use rfl) g5 g6 g7 ?_
      refine lv_astore (x := q9) (lv' := [(4, .ref q9), (0, .ref a0), (1, .int v1), (2, .int v2), (3, .ref a3)]) hx hb dX0_whyNotAbsorb_13 hl (by decide) rfl (fun ls hl => ?_)
      refine lv_iconst (v := (1 : Int32)) hx hb dX0_whyNotAbsorb_15 (by decide) ?_
      obtain ⟨rfl, rfl, rfl, rfl⟩ := zret_i hf
      exact zx_ret (zr_iret hc hn hr hq (fun _ _ _ _ q => ⟨_, rfl, q⟩) dX0_whyNotAbsorb_16)
    · have hf := zif_f c9 hf
      cases hf
theorem hd_X0_logKind : yX0_logKind.cls ≠ "java/lang/invoke/MethodHandle" ∧ yX0_logKind.cls ≠ "java/lang/invoke/VarHandle" ∧ (parseMethodDescriptor yX0_logKind.desc).map (fun d => d.parameters.length) = some 3 := by decide +kernel
def f_X0_logKind (h : PH) (a0 : Nat) (v1 : Int32) (a2 : Nat) : ZR Int32 :=
  zrc h a0 0 <| zch (f_X1_logKind h a0 v1) (fun x101 h102 =>
    znm x101.toInt64 fun x103 =>
    zsL h102 a2 3 (0 : Int32) x103 fun h104 =>
    zret (0 : Int32) h104)
    (fun e9 q9 h102 =>
      if e9 = 1 then
        (zret (1 : Int32) h102)
      else
        (none))
set_option maxHeartbeats 4000000 in
set_option maxRecDepth 100000 in
theorem m_X0_logKind (l : Launch) (hl0 : l.stackTraces = false) (D : va_G) (dA : Nat → ClassId) (b0 : Nat) (gs : Nat → Option Nat) (h : PH) (a0 : Nat) (v1 : Int32) (a2 : Nat) {r : Int32} {hh : PH} {mc ms : Nat} (hf : f_X0_logKind h a0 v1 a2 = some (r, hh, mc, ms)) : zMx l D dA b0 gs yX0_logKind (wsW_ yX0_logKind cX0_logKind 4 (some .int) [((0 : Nat), (9 : Nat), (12 : Nat), (19 : Nat))]) 9 187 [.ref a0, .int v1, .ref a2] h evI (.inl r) hh mc ms := by
  unfold f_X0_logKind at hf
  refine zMx.ofH (by decide) (Nat.le_of_ble_eq_true rfl) ?_
  intro p e s m args below meth c hc hr hin ht hn ls hl
  have hl : lv_has ls 4 [(0, .ref a0), (1, .int v1), (2, .ref a2)] := hl
  have hq : 0 + mc = mc ∧ 0 + ms = ms := ⟨Nat.zero_add _, Nat.zero_add _⟩
  have hx := hc.x
  have hb := hc.b
  refine lv_aload_n (x := a2) hx hb dX0_logKind_0 rfl (lv_at hl 2 rfl) ?_
  refine lv_iconst (v := (0 : Int32)) hx hb dX0_logKind_1 (by decide) ?_
  refine lv_aload_n (x := a0) hx hb dX0_logKind_2 rfl (lv_at hl 0 rfl) ?_
  refine lv_iload_n hx hb dX0_logKind_3 rfl (lv_at hl 1 rfl) ?_
  refine zh_VI (As := [.int v1]) (rest := [.int (0 : Int32), .ref a2]) hc hn hq (ci := 0) rfl ⟨rfl, hd_X1_logKind⟩ (lw_V q1805 q1806 q1807 q84 q1808) (Nat.le_of_ble_eq_true rfl) (Nat.le_of_ble_eq_true rfl) (fun _ _ _ _ q => m_X1_logKind l hl0 D dA b0 gs h a0 v1 q) hf dX0_logKind_4 hl.1 rfl rfl (zroom (Nat.le_of_ble_eq_true rfl)) (fun x101 h102 H locs cells slots C9 S9 hf hq hn => ?_) (fun e9 q9 ce9 h102 H locs cells slots C9 S9 hf hq hn g5 g6 g7 => ?_)
  · refine lv_i2l (v := x101.toInt64) hx hb dX0_logKind_7 rfl ?_
    refine zr_nmL hf (fun x103 hf => ?_)
    refine zr_sL hc hn hf dX0_logKind_8 (fun h104 H locs hf hn => ?_)
    refine lv_goto (tgt := 15) hx hb dX0_logKind_9 (by decide) ?_
    refine lv_iconst (v := (0 : Int32)) hx hb dX0_logKind_15 (by decide) ?_
    obtain ⟨rfl, rfl, rfl, rfl⟩ := zret_i hf
    exact zx_ret (zr_iret hc hn hr hq (fun _ _ _ _ q => ⟨_, rfl, q⟩) dX0_logKind_16)
  · by_cases c9 : e9 = 1
    · have hf9 := zif_t c9 hf
      subst c9
      have hf := hf9
      clear hf9
      refine vx_catch (name := "java/lang/IndexOutOfBoundsException") hc.ow [] ⟨0, 9, 12, 19⟩ [] (by rw [ht]; rfl) (fun z hz => nomatch hz) (by decide) (by decide) (hc.ts _ q359) ((hc.nC q400).use rfl) g5 g6 g7 ?_
      refine lv_astore_n (x := q9) (i := 3) (lv' := [(3, .ref q9), (0, .ref a0), (1, .int v1), (2, .ref a2)]) hx hb dX0_logKind_12 rfl hl (by decide) rfl (fun ls hl => ?_)
      refine lv_iconst (v := (1 : Int32)) hx hb dX0_logKind_13 (by decide) ?_
      obtain ⟨rfl, rfl, rfl, rfl⟩ := zret_i hf
      exact zx_ret (zr_iret hc hn hr hq (fun _ _ _ _ q => ⟨_, rfl, q⟩) dX0_logKind_14)
    · have hf := zif_f c9 hf
      cases hf
theorem hd_X0_logLevel : yX0_logLevel.cls ≠ "java/lang/invoke/MethodHandle" ∧ yX0_logLevel.cls ≠ "java/lang/invoke/VarHandle" ∧ (parseMethodDescriptor yX0_logLevel.desc).map (fun d => d.parameters.length) = some 3 := by decide +kernel
def f_X0_logLevel (h : PH) (a0 : Nat) (v1 : Int32) (a2 : Nat) : ZR Int32 :=
  zrc h a0 0 <| zch (f_X1_logLevel h a0 v1) (fun x101 h102 =>
    znm x101.toInt64 fun x103 =>
    zsL h102 a2 3 (0 : Int32) x103 fun h104 =>
    zret (0 : Int32) h104)
    (fun e9 q9 h102 =>
      if e9 = 1 then
        (zret (1 : Int32) h102)
      else
        (none))
set_option maxHeartbeats 4000000 in
set_option maxRecDepth 100000 in
theorem m_X0_logLevel (l : Launch) (hl0 : l.stackTraces = false) (D : va_G) (dA : Nat → ClassId) (b0 : Nat) (gs : Nat → Option Nat) (h : PH) (a0 : Nat) (v1 : Int32) (a2 : Nat) {r : Int32} {hh : PH} {mc ms : Nat} (hf : f_X0_logLevel h a0 v1 a2 = some (r, hh, mc, ms)) : zMx l D dA b0 gs yX0_logLevel (wsW_ yX0_logLevel cX0_logLevel 4 (some .int) [((0 : Nat), (9 : Nat), (12 : Nat), (19 : Nat))]) 9 187 [.ref a0, .int v1, .ref a2] h evI (.inl r) hh mc ms := by
  unfold f_X0_logLevel at hf
  refine zMx.ofH (by decide) (Nat.le_of_ble_eq_true rfl) ?_
  intro p e s m args below meth c hc hr hin ht hn ls hl
  have hl : lv_has ls 4 [(0, .ref a0), (1, .int v1), (2, .ref a2)] := hl
  have hq : 0 + mc = mc ∧ 0 + ms = ms := ⟨Nat.zero_add _, Nat.zero_add _⟩
  have hx := hc.x
  have hb := hc.b
  refine lv_aload_n (x := a2) hx hb dX0_logLevel_0 rfl (lv_at hl 2 rfl) ?_
  refine lv_iconst (v := (0 : Int32)) hx hb dX0_logLevel_1 (by decide) ?_
  refine lv_aload_n (x := a0) hx hb dX0_logLevel_2 rfl (lv_at hl 0 rfl) ?_
  refine lv_iload_n hx hb dX0_logLevel_3 rfl (lv_at hl 1 rfl) ?_
  refine zh_VI (As := [.int v1]) (rest := [.int (0 : Int32), .ref a2]) hc hn hq (ci := 0) rfl ⟨rfl, hd_X1_logLevel⟩ (lw_V q1844 q1845 q1846 q84 q1847) (Nat.le_of_ble_eq_true rfl) (Nat.le_of_ble_eq_true rfl) (fun _ _ _ _ q => m_X1_logLevel l hl0 D dA b0 gs h a0 v1 q) hf dX0_logLevel_4 hl.1 rfl rfl (zroom (Nat.le_of_ble_eq_true rfl)) (fun x101 h102 H locs cells slots C9 S9 hf hq hn => ?_) (fun e9 q9 ce9 h102 H locs cells slots C9 S9 hf hq hn g5 g6 g7 => ?_)
  · refine lv_i2l (v := x101.toInt64) hx hb dX0_logLevel_7 rfl ?_
    refine zr_nmL hf (fun x103 hf => ?_)
    refine zr_sL hc hn hf dX0_logLevel_8 (fun h104 H locs hf hn => ?_)
    refine lv_goto (tgt := 15) hx hb dX0_logLevel_9 (by decide) ?_
    refine lv_iconst (v := (0 : Int32)) hx hb dX0_logLevel_15 (by decide) ?_
    obtain ⟨rfl, rfl, rfl, rfl⟩ := zret_i hf
    exact zx_ret (zr_iret hc hn hr hq (fun _ _ _ _ q => ⟨_, rfl, q⟩) dX0_logLevel_16)
  · by_cases c9 : e9 = 1
    · have hf9 := zif_t c9 hf
      subst c9
      have hf := hf9
      clear hf9
      refine vx_catch (name := "java/lang/IndexOutOfBoundsException") hc.ow [] ⟨0, 9, 12, 19⟩ [] (by rw [ht]; rfl) (fun z hz => nomatch hz) (by decide) (by decide) (hc.ts _ q359) ((hc.nC q400).use rfl) g5 g6 g7 ?_
      refine lv_astore_n (x := q9) (i := 3) (lv' := [(3, .ref q9), (0, .ref a0), (1, .int v1), (2, .ref a2)]) hx hb dX0_logLevel_12 rfl hl (by decide) rfl (fun ls hl => ?_)
      refine lv_iconst (v := (1 : Int32)) hx hb dX0_logLevel_13 (by decide) ?_
      obtain ⟨rfl, rfl, rfl, rfl⟩ := zret_i hf
      exact zx_ret (zr_iret hc hn hr hq (fun _ _ _ _ q => ⟨_, rfl, q⟩) dX0_logLevel_14)
    · have hf := zif_f c9 hf
      cases hf
theorem hd_X0_logKey : yX0_logKey.cls ≠ "java/lang/invoke/MethodHandle" ∧ yX0_logKey.cls ≠ "java/lang/invoke/VarHandle" ∧ (parseMethodDescriptor yX0_logKey.desc).map (fun d => d.parameters.length) = some 3 := by decide +kernel
def f_X0_logKey (h : PH) (a0 : Nat) (v1 : Int32) (a2 : Nat) : ZR Int32 :=
  zrc h a0 0 <| zch (f_X1_logKey h a0 v1) (fun x101 h102 =>
    znm x101.toInt64 fun x103 =>
    zsL h102 a2 3 (0 : Int32) x103 fun h104 =>
    zret (0 : Int32) h104)
    (fun e9 q9 h102 =>
      if e9 = 1 then
        (zret (1 : Int32) h102)
      else
        (none))
set_option maxHeartbeats 4000000 in
set_option maxRecDepth 100000 in
theorem m_X0_logKey (l : Launch) (hl0 : l.stackTraces = false) (D : va_G) (dA : Nat → ClassId) (b0 : Nat) (gs : Nat → Option Nat) (h : PH) (a0 : Nat) (v1 : Int32) (a2 : Nat) {r : Int32} {hh : PH} {mc ms : Nat} (hf : f_X0_logKey h a0 v1 a2 = some (r, hh, mc, ms)) : zMx l D dA b0 gs yX0_logKey (wsW_ yX0_logKey cX0_logKey 4 (some .int) [((0 : Nat), (9 : Nat), (12 : Nat), (19 : Nat))]) 9 187 [.ref a0, .int v1, .ref a2] h evI (.inl r) hh mc ms := by
  unfold f_X0_logKey at hf
  refine zMx.ofH (by decide) (Nat.le_of_ble_eq_true rfl) ?_
  intro p e s m args below meth c hc hr hin ht hn ls hl
  have hl : lv_has ls 4 [(0, .ref a0), (1, .int v1), (2, .ref a2)] := hl
  have hq : 0 + mc = mc ∧ 0 + ms = ms := ⟨Nat.zero_add _, Nat.zero_add _⟩
  have hx := hc.x
  have hb := hc.b
  refine lv_aload_n (x := a2) hx hb dX0_logKey_0 rfl (lv_at hl 2 rfl) ?_
  refine lv_iconst (v := (0 : Int32)) hx hb dX0_logKey_1 (by decide) ?_
  refine lv_aload_n (x := a0) hx hb dX0_logKey_2 rfl (lv_at hl 0 rfl) ?_
  refine lv_iload_n hx hb dX0_logKey_3 rfl (lv_at hl 1 rfl) ?_
  refine zh_VI (As := [.int v1]) (rest := [.int (0 : Int32), .ref a2]) hc hn hq (ci := 0) rfl ⟨rfl, hd_X1_logKey⟩ (lw_V q1855 q1856 q1857 q84 q1858) (Nat.le_of_ble_eq_true rfl) (Nat.le_of_ble_eq_true rfl) (fun _ _ _ _ q => m_X1_logKey l hl0 D dA b0 gs h a0 v1 q) hf dX0_logKey_4 hl.1 rfl rfl (zroom (Nat.le_of_ble_eq_true rfl)) (fun x101 h102 H locs cells slots C9 S9 hf hq hn => ?_) (fun e9 q9 ce9 h102 H locs cells slots C9 S9 hf hq hn g5 g6 g7 => ?_)
  · refine lv_i2l (v := x101.toInt64) hx hb dX0_logKey_7 rfl ?_
    refine zr_nmL hf (fun x103 hf => ?_)
    refine zr_sL hc hn hf dX0_logKey_8 (fun h104 H locs hf hn => ?_)
    refine lv_goto (tgt := 15) hx hb dX0_logKey_9 (by decide) ?_
    refine lv_iconst (v := (0 : Int32)) hx hb dX0_logKey_15 (by decide) ?_
    obtain ⟨rfl, rfl, rfl, rfl⟩ := zret_i hf
    exact zx_ret (zr_iret hc hn hr hq (fun _ _ _ _ q => ⟨_, rfl, q⟩) dX0_logKey_16)
  · by_cases c9 : e9 = 1
    · have hf9 := zif_t c9 hf
      subst c9
      have hf := hf9
      clear hf9
      refine vx_catch (name := "java/lang/IndexOutOfBoundsException") hc.ow [] ⟨0, 9, 12, 19⟩ [] (by rw [ht]; rfl) (fun z hz => nomatch hz) (by decide) (by decide) (hc.ts _ q359) ((hc.nC q400).use rfl) g5 g6 g7 ?_
      refine lv_astore_n (x := q9) (i := 3) (lv' := [(3, .ref q9), (0, .ref a0), (1, .int v1), (2, .ref a2)]) hx hb dX0_logKey_12 rfl hl (by decide) rfl (fun ls hl => ?_)
      refine lv_iconst (v := (1 : Int32)) hx hb dX0_logKey_13 (by decide) ?_
      obtain ⟨rfl, rfl, rfl, rfl⟩ := zret_i hf
      exact zx_ret (zr_iret hc hn hr hq (fun _ _ _ _ q => ⟨_, rfl, q⟩) dX0_logKey_14)
    · have hf := zif_f c9 hf
      cases hf
theorem hd_X0_counter : yX0_counter.cls ≠ "java/lang/invoke/MethodHandle" ∧ yX0_counter.cls ≠ "java/lang/invoke/VarHandle" ∧ (parseMethodDescriptor yX0_counter.desc).map (fun d => d.parameters.length) = some 3 := by decide +kernel
def f_X0_counter (h : PH) (a0 : Nat) (v1 : Int32) (a2 : Nat) : ZR Int32 :=
  zrc h a0 0 <| zch (f_X1_counter h a0 v1) (fun x101 h102 =>
    znm x101.toInt64 fun x103 =>
    zsL h102 a2 3 (0 : Int32) x103 fun h104 =>
    zret (0 : Int32) h104)
    (fun e9 q9 h102 =>
      if e9 = 2 then
        (zret (1 : Int32) h102)
      else
        (none))
set_option maxHeartbeats 4000000 in
set_option maxRecDepth 100000 in
theorem m_X0_counter (l : Launch) (hl0 : l.stackTraces = false) (D : va_G) (dA : Nat → ClassId) (b0 : Nat) (gs : Nat → Option Nat) (h : PH) (a0 : Nat) (v1 : Int32) (a2 : Nat) {r : Int32} {hh : PH} {mc ms : Nat} (hf : f_X0_counter h a0 v1 a2 = some (r, hh, mc, ms)) : zMx l D dA b0 gs yX0_counter (wsW_ yX0_counter cX0_counter 4 (some .int) [((0 : Nat), (9 : Nat), (12 : Nat), (25 : Nat))]) 8 161 [.ref a0, .int v1, .ref a2] h evI (.inl r) hh mc ms := by
  unfold f_X0_counter at hf
  refine zMx.ofH (by decide) (Nat.le_of_ble_eq_true rfl) ?_
  intro p e s m args below meth c hc hr hin ht hn ls hl
  have hl : lv_has ls 4 [(0, .ref a0), (1, .int v1), (2, .ref a2)] := hl
  have hq : 0 + mc = mc ∧ 0 + ms = ms := ⟨Nat.zero_add _, Nat.zero_add _⟩
  have hx := hc.x
  have hb := hc.b
  refine lv_aload_n (x := a2) hx hb dX0_counter_0 rfl (lv_at hl 2 rfl) ?_
  refine lv_iconst (v := (0 : Int32)) hx hb dX0_counter_1 (by decide) ?_
  refine lv_aload_n (x := a0) hx hb dX0_counter_2 rfl (lv_at hl 0 rfl) ?_
  refine lv_iload_n hx hb dX0_counter_3 rfl (lv_at hl 1 rfl) ?_
  refine zh_VI (As := [.int v1]) (rest := [.int (0 : Int32), .ref a2]) hc hn hq (ci := 0) rfl ⟨rfl, hd_X1_counter⟩ (lw_V q1866 q1867 q1868 q84 q1869) (Nat.le_of_ble_eq_true rfl) (Nat.le_of_ble_eq_true rfl) (fun _ _ _ _ q => m_X1_counter l hl0 D dA b0 gs h a0 v1 q) hf dX0_counter_4 hl.1 rfl rfl (zroom (Nat.le_of_ble_eq_true rfl)) (fun x101 h102 H locs cells slots C9 S9 hf hq hn => ?_) (fun e9 q9 ce9 h102 H locs cells slots C9 S9 hf hq hn g5 g6 g7 => ?_)
  · refine lv_i2l (v := x101.toInt64) hx hb dX0_counter_7 rfl ?_
    refine zr_nmL hf (fun x103 hf => ?_)
    refine zr_sL hc hn hf dX0_counter_8 (fun h104 H locs hf hn => ?_)
    refine lv_goto (tgt := 15) hx hb dX0_counter_9 (by decide) ?_
    refine lv_iconst (v := (0 : Int32)) hx hb dX0_counter_15 (by decide) ?_
    obtain ⟨rfl, rfl, rfl, rfl⟩ := zret_i hf
    exact zx_ret (zr_iret hc hn hr hq (fun _ _ _ _ q => ⟨_, rfl, q⟩) dX0_counter_16)
  · by_cases c9 : e9 = 2
    · have hf9 := zif_t c9 hf
      subst c9
      have hf := hf9
      clear hf9
      refine vx_catch (name := "java/lang/IllegalArgumentException") hc.ow [] ⟨0, 9, 12, 25⟩ [] (by rw [ht]; rfl) (fun z hz => nomatch hz) (by decide) (by decide) (hc.ts _ q416) ((hc.nC q603).use rfl) g5 g6 g7 ?_
      refine lv_astore_n (x := q9) (i := 3) (lv' := [(3, .ref q9), (0, .ref a0), (1, .int v1), (2, .ref a2)]) hx hb dX0_counter_12 rfl hl (by decide) rfl (fun ls hl => ?_)
      refine lv_iconst (v := (1 : Int32)) hx hb dX0_counter_13 (by decide) ?_
      obtain ⟨rfl, rfl, rfl, rfl⟩ := zret_i hf
      exact zx_ret (zr_iret hc hn hr hq (fun _ _ _ _ q => ⟨_, rfl, q⟩) dX0_counter_14)
    · have hf := zif_f c9 hf
      cases hf
theorem hd_X0_create : yX0_create.cls ≠ "java/lang/invoke/MethodHandle" ∧ yX0_create.cls ≠ "java/lang/invoke/VarHandle" ∧ (parseMethodDescriptor yX0_create.desc).map (fun d => d.parameters.length) = some 2 := by decide +kernel
def f_X0_create (h : PH) (a0 : Nat) (a1 : Nat) : ZR Int32 :=
  zrc h a0 0 <| zch (f_X1_create h a0) (fun x101 h102 =>
    znm x101.toInt64 fun x103 =>
    zsL h102 a1 3 (0 : Int32) x103 fun h104 =>
    zret (0 : Int32) h104)
    (fun e9 q9 h102 =>
      if e9 = 3 then
        (zret (1 : Int32) h102)
      else
        (none))
set_option maxHeartbeats 4000000 in
set_option maxRecDepth 100000 in
theorem m_X0_create (l : Launch) (hl0 : l.stackTraces = false) (D : va_G) (dA : Nat → ClassId) (b0 : Nat) (gs : Nat → Option Nat) (h : PH) (a0 : Nat) (a1 : Nat) {r : Int32} {hh : PH} {mc ms : Nat} (hf : f_X0_create h a0 a1 = some (r, hh, mc, ms)) : zMx l D dA b0 gs yX0_create (wsW_ yX0_create cX0_create 3 (some .int) [((0 : Nat), (8 : Nat), (11 : Nat), (13 : Nat))]) 9 223 [.ref a0, .ref a1] h evI (.inl r) hh mc ms := by
  unfold f_X0_create at hf
  refine zMx.ofH (by decide) (Nat.le_of_ble_eq_true rfl) ?_
  intro p e s m args below meth c hc hr hin ht hn ls hl
  have hl : lv_has ls 3 [(0, .ref a0), (1, .ref a1)] := hl
  have hq : 0 + mc = mc ∧ 0 + ms = ms := ⟨Nat.zero_add _, Nat.zero_add _⟩
  have hx := hc.x
  have hb := hc.b
  refine lv_aload_n (x := a1) hx hb dX0_create_0 rfl (lv_at hl 1 rfl) ?_
  refine lv_iconst (v := (0 : Int32)) hx hb dX0_create_1 (by decide) ?_
  refine lv_aload_n (x := a0) hx hb dX0_create_2 rfl (lv_at hl 0 rfl) ?_
  refine zh_VI (As := []) (rest := [.int (0 : Int32), .ref a1]) hc hn hq (ci := 0) rfl ⟨rfl, hd_X1_create⟩ (lw_V q1873 q1874 q1875 q84 q1876) (Nat.le_of_ble_eq_true rfl) (Nat.le_of_ble_eq_true rfl) (fun _ _ _ _ q => m_X1_create l hl0 D dA b0 gs h a0 q) hf dX0_create_3 hl.1 rfl rfl (zroom (Nat.le_of_ble_eq_true rfl)) (fun x101 h102 H locs cells slots C9 S9 hf hq hn => ?_) (fun e9 q9 ce9 h102 H locs cells slots C9 S9 hf hq hn g5 g6 g7 => ?_)
  · refine lv_i2l (v := x101.toInt64) hx hb dX0_create_6 rfl ?_
    refine zr_nmL hf (fun x103 hf => ?_)
    refine zr_sL hc hn hf dX0_create_7 (fun h104 H locs hf hn => ?_)
    refine lv_goto (tgt := 14) hx hb dX0_create_8 (by decide) ?_
    refine lv_iconst (v := (0 : Int32)) hx hb dX0_create_14 (by decide) ?_
    obtain ⟨rfl, rfl, rfl, rfl⟩ := zret_i hf
    exact zx_ret (zr_iret hc hn hr hq (fun _ _ _ _ q => ⟨_, rfl, q⟩) dX0_create_15)
  · by_cases c9 : e9 = 3
    · have hf9 := zif_t c9 hf
      subst c9
      have hf := hf9
      clear hf9
      refine vx_catch (name := "java/lang/IllegalStateException") hc.ow [] ⟨0, 8, 11, 13⟩ [] (by rw [ht]; rfl) (fun z hz => nomatch hz) (by decide) (by decide) (hc.ts _ q281) ((hc.nC q291).use rfl) g5 g6 g7 ?_
      refine lv_astore_n (x := q9) (i := 2) (lv' := [(2, .ref q9), (0, .ref a0), (1, .ref a1)]) hx hb dX0_create_11 rfl hl (by decide) rfl (fun ls hl => ?_)
      refine lv_iconst (v := (1 : Int32)) hx hb dX0_create_12 (by decide) ?_
      obtain ⟨rfl, rfl, rfl, rfl⟩ := zret_i hf
      exact zx_ret (zr_iret hc hn hr hq (fun _ _ _ _ q => ⟨_, rfl, q⟩) dX0_create_13)
    · have hf := zif_f c9 hf
      cases hf
theorem hd_X0_drop : yX0_drop.cls ≠ "java/lang/invoke/MethodHandle" ∧ yX0_drop.cls ≠ "java/lang/invoke/VarHandle" ∧ (parseMethodDescriptor yX0_drop.desc).map (fun d => d.parameters.length) = some 3 := by decide +kernel
def f_X0_drop (h : PH) (a0 : Nat) (v1 : Int32) (a2 : Nat) : ZR Int32 :=
  zrc h a0 0 <| zch (f_X1_drop h a0 v1) (fun x101 h102 =>
    znm x101.toInt64 fun x103 =>
    zsL h102 a2 3 (0 : Int32) x103 fun h104 =>
    zret (0 : Int32) h104)
    (fun e9 q9 h102 =>
      if e9 = 1 then
        (zret (1 : Int32) h102)
      else
        (none))
set_option maxHeartbeats 4000000 in
set_option maxRecDepth 100000 in
theorem m_X0_drop (l : Launch) (hl0 : l.stackTraces = false) (D : va_G) (dA : Nat → ClassId) (b0 : Nat) (gs : Nat → Option Nat) (h : PH) (a0 : Nat) (v1 : Int32) (a2 : Nat) {r : Int32} {hh : PH} {mc ms : Nat} (hf : f_X0_drop h a0 v1 a2 = some (r, hh, mc, ms)) : zMx l D dA b0 gs yX0_drop (wsW_ yX0_drop cX0_drop 4 (some .int) [((0 : Nat), (9 : Nat), (12 : Nat), (19 : Nat))]) 9 224 [.ref a0, .int v1, .ref a2] h evI (.inl r) hh mc ms := by
  unfold f_X0_drop at hf
  refine zMx.ofH (by decide) (Nat.le_of_ble_eq_true rfl) ?_
  intro p e s m args below meth c hc hr hin ht hn ls hl
  have hl : lv_has ls 4 [(0, .ref a0), (1, .int v1), (2, .ref a2)] := hl
  have hq : 0 + mc = mc ∧ 0 + ms = ms := ⟨Nat.zero_add _, Nat.zero_add _⟩
  have hx := hc.x
  have hb := hc.b
  refine lv_aload_n (x := a2) hx hb dX0_drop_0 rfl (lv_at hl 2 rfl) ?_
  refine lv_iconst (v := (0 : Int32)) hx hb dX0_drop_1 (by decide) ?_
  refine lv_aload_n (x := a0) hx hb dX0_drop_2 rfl (lv_at hl 0 rfl) ?_
  refine lv_iload_n hx hb dX0_drop_3 rfl (lv_at hl 1 rfl) ?_
  refine zh_VI (As := [.int v1]) (rest := [.int (0 : Int32), .ref a2]) hc hn hq (ci := 0) rfl ⟨rfl, hd_X1_drop⟩ (lw_V q1964 q1965 q1966 q84 q1967) (Nat.le_of_ble_eq_true rfl) (Nat.le_of_ble_eq_true rfl) (fun _ _ _ _ q => m_X1_drop l hl0 D dA b0 gs h a0 v1 q) hf dX0_drop_4 hl.1 rfl rfl (zroom (Nat.le_of_ble_eq_true rfl)) (fun x101 h102 H locs cells slots C9 S9 hf hq hn => ?_) (fun e9 q9 ce9 h102 H locs cells slots C9 S9 hf hq hn g5 g6 g7 => ?_)
  · refine lv_i2l (v := x101.toInt64) hx hb dX0_drop_7 rfl ?_
    refine zr_nmL hf (fun x103 hf => ?_)
    refine zr_sL hc hn hf dX0_drop_8 (fun h104 H locs hf hn => ?_)
    refine lv_goto (tgt := 15) hx hb dX0_drop_9 (by decide) ?_
    refine lv_iconst (v := (0 : Int32)) hx hb dX0_drop_15 (by decide) ?_
    obtain ⟨rfl, rfl, rfl, rfl⟩ := zret_i hf
    exact zx_ret (zr_iret hc hn hr hq (fun _ _ _ _ q => ⟨_, rfl, q⟩) dX0_drop_16)
  · by_cases c9 : e9 = 1
    · have hf9 := zif_t c9 hf
      subst c9
      have hf := hf9
      clear hf9
      refine vx_catch (name := "java/lang/IndexOutOfBoundsException") hc.ow [] ⟨0, 9, 12, 19⟩ [] (by rw [ht]; rfl) (fun z hz => nomatch hz) (by decide) (by decide) (hc.ts _ q359) ((hc.nC q400).use rfl) g5 g6 g7 ?_
      refine lv_astore_n (x := q9) (i := 3) (lv' := [(3, .ref q9), (0, .ref a0), (1, .int v1), (2, .ref a2)]) hx hb dX0_drop_12 rfl hl (by decide) rfl (fun ls hl => ?_)
      refine lv_iconst (v := (1 : Int32)) hx hb dX0_drop_13 (by decide) ?_
      obtain ⟨rfl, rfl, rfl, rfl⟩ := zret_i hf
      exact zx_ret (zr_iret hc hn hr hq (fun _ _ _ _ q => ⟨_, rfl, q⟩) dX0_drop_14)
    · have hf := zif_f c9 hf
      cases hf
theorem hd_X0_insert : yX0_insert.cls ≠ "java/lang/invoke/MethodHandle" ∧ yX0_insert.cls ≠ "java/lang/invoke/VarHandle" ∧ (parseMethodDescriptor yX0_insert.desc).map (fun d => d.parameters.length) = some 5 := by decide +kernel
def f_X0_insert (h : PH) (a0 : Nat) (v1 : Int32) (v2 : Int32) (v3 : Int32) (a4 : Nat) : ZR Int32 :=
  zrc h a0 0 <| zch (f_X1_insert h a0 v1 v2 v3) (fun x101 h102 =>
    znm x101.toInt64 fun x103 =>
    zsL h102 a4 3 (0 : Int32) x103 fun h104 =>
    zret (0 : Int32) h104)
    (fun e9 q9 h102 =>
      if e9 = 1 then
        (zret (1 : Int32) h102)
      else
        (if e9 = 2 then
          (zret (2 : Int32) h102)
        else
          (if e9 = 3 then
            (zret (3 : Int32) h102)
          else
            (none))))
set_option maxHeartbeats 4000000 in
set_option maxRecDepth 100000 in
theorem m_X0_insert (l : Launch) (hl0 : l.stackTraces = false) (D : va_G) (dA : Nat → ClassId) (b0 : Nat) (gs : Nat → Option Nat) (h : PH) (a0 : Nat) (v1 : Int32) (v2 : Int32) (v3 : Int32) (a4 : Nat) {r : Int32} {hh : PH} {mc ms : Nat} (hf : f_X0_insert h a0 v1 v2 v3 a4 = some (r, hh, mc, ms)) : zMx l D dA b0 gs yX0_insert (wsW_ yX0_insert cX0_insert 6 (some .int) [((0 : Nat), (12 : Nat), (15 : Nat), (19 : Nat)), ((0 : Nat), (12 : Nat), (19 : Nat), (25 : Nat)), ((0 : Nat), (12 : Nat), (23 : Nat), (13 : Nat))]) 14 3163 [.ref a0, .int v1, .int v2, .int v3, .ref a4] h evI (.inl r) hh mc ms := by
  unfold f_X0_insert at hf
  refine zMx.ofH (by decide) (Nat.le_of_ble_eq_true rfl) ?_
  intro p e s m args below meth c hc hr hin ht hn ls hl
  have hl : lv_has ls 6 [(0, .ref a0), (1, .int v1), (2, .int v2), (3, .int v3), (4, .ref a4)] := hl
  have hq : 0 + mc = mc ∧ 0 + ms = ms := ⟨Nat.zero_add _, Nat.zero_add _⟩
  have hx := hc.x
  have hb := hc.b
  refine lv_aload (x := a4) hx hb dX0_insert_0 (lv_at hl 4 rfl) ?_
  refine lv_iconst (v := (0 : Int32)) hx hb dX0_insert_2 (by decide) ?_
  refine lv_aload_n (x := a0) hx hb dX0_insert_3 rfl (lv_at hl 0 rfl) ?_
  refine lv_iload_n hx hb dX0_insert_4 rfl (lv_at hl 1 rfl) ?_
  refine lv_iload_n hx hb dX0_insert_5 rfl (lv_at hl 2 rfl) ?_
  refine lv_iload_n hx hb dX0_insert_6 rfl (lv_at hl 3 rfl) ?_
  refine zh_VI (As := [.int v1, .int v2, .int v3]) (rest := [.int (0 : Int32), .ref a4]) hc hn hq (ci := 0) rfl ⟨rfl, hd_X1_insert⟩ (lw_V q1971 q1972 q1973 q84 q1974) (Nat.le_of_ble_eq_true rfl) (Nat.le_of_ble_eq_true rfl) (fun _ _ _ _ q => m_X1_insert l hl0 D dA b0 gs h a0 v1 v2 v3 q) hf dX0_insert_7 hl.1 rfl rfl (zroom (Nat.le_of_ble_eq_true rfl)) (fun x101 h102 H locs cells slots C9 S9 hf hq hn => ?_) (fun e9 q9 ce9 h102 H locs cells slots C9 S9 hf hq hn g5 g6 g7 => ?_)
  · refine lv_i2l (v := x101.toInt64) hx hb dX0_insert_10 rfl ?_
    refine zr_nmL hf (fun x103 hf => ?_)
    refine zr_sL hc hn hf dX0_insert_11 (fun h104 H locs hf hn => ?_)
    refine lv_goto (tgt := 27) hx hb dX0_insert_12 (by decide) ?_
    refine lv_iconst (v := (0 : Int32)) hx hb dX0_insert_27 (by decide) ?_
    obtain ⟨rfl, rfl, rfl, rfl⟩ := zret_i hf
    exact zx_ret (zr_iret hc hn hr hq (fun _ _ _ _ q => ⟨_, rfl, q⟩) dX0_insert_28)
  · by_cases c9 : e9 = 1
    · have hf9 := zif_t c9 hf
      subst c9
      have hf := hf9
      clear hf9
      refine vx_catch (name := "java/lang/IndexOutOfBoundsException") hc.ow [] ⟨0, 12, 15, 19⟩ [⟨0, 12, 19, 25⟩, ⟨0, 12, 23, 13⟩] (by rw [ht]; rfl) (fun z hz => nomatch hz) (by decide) (by decide) (hc.ts _ q359) ((hc.nC q400).use rfl) g5 g6 g7 ?_
      refine lv_astore (x := q9) (lv' := [(5, .ref q9), (0, .ref a0), (1, .int v1), (2, .int v2), (3, .int v3), (4, .ref a4)]) hx hb dX0_insert_15 hl (by decide) rfl (fun ls hl => ?_)
      refine lv_iconst (v := (1 : Int32)) hx hb dX0_insert_17 (by decide) ?_
      obtain ⟨rfl, rfl, rfl, rfl⟩ := zret_i hf
      exact zx_ret (zr_iret hc hn hr hq (fun _ _ _ _ q => ⟨_, rfl, q⟩) dX0_insert_18)
    · have hf := zif_f c9 hf
      by_cases c9 : e9 = 2
      · have hf9 := zif_t c9 hf
        subst c9
        have hf := hf9
        clear hf9
        refine vx_catch (name := "java/lang/IllegalArgumentException") hc.ow [⟨0, 12, 15, 19⟩] ⟨0, 12, 19, 25⟩ [⟨0, 12, 23, 13⟩] (by rw [ht]; rfl) (fun z hz => by
            simp only [List.mem_cons, List.not_mem_nil, or_false] at hz
            rcases hz with rfl
            · exact Or.inr ⟨by decide, _, hc.ts _ q359, hc.nNc znc_2_1⟩) (by decide) (by decide) (hc.ts _ q416) ((hc.nC q603).use rfl) g5 g6 g7 ?_
        refine lv_astore (x := q9) (lv' := [(5, .ref q9), (0, .ref a0), (1, .int v1), (2, .int v2), (3, .int v3), (4, .ref a4)]) hx hb dX0_insert_19 hl (by decide) rfl (fun ls hl => ?_)
        refine lv_iconst (v := (2 : Int32)) hx hb dX0_insert_21 (by decide) ?_
        obtain ⟨rfl, rfl, rfl, rfl⟩ := zret_i hf
        exact zx_ret (zr_iret hc hn hr hq (fun _ _ _ _ q => ⟨_, rfl, q⟩) dX0_insert_22)
      · have hf := zif_f c9 hf
        by_cases c9 : e9 = 3
        · have hf9 := zif_t c9 hf
          subst c9
          have hf := hf9
          clear hf9
          refine vx_catch (name := "java/lang/IllegalStateException") hc.ow [⟨0, 12, 15, 19⟩, ⟨0, 12, 19, 25⟩] ⟨0, 12, 23, 13⟩ [] (by rw [ht]; rfl) (fun z hz => by
              simp only [List.mem_cons, List.not_mem_nil, or_false] at hz
              rcases hz with rfl | rfl
              · exact Or.inr ⟨by decide, _, hc.ts _ q359, hc.nNc znc_3_1⟩
              · exact Or.inr ⟨by decide, _, hc.ts _ q416, hc.nNc znc_3_2⟩) (by decide) (by decide) (hc.ts _ q281) ((hc.nC q291).use rfl) g5 g6 g7 ?_
          refine lv_astore (x := q9) (lv' := [(5, .ref q9), (0, .ref a0), (1, .int v1), (2, .int v2), (3, .int v3), (4, .ref a4)]) hx hb dX0_insert_23 hl (by decide) rfl (fun ls hl => ?_)
          refine lv_iconst (v := (3 : Int32)) hx hb dX0_insert_25 (by decide) ?_
          obtain ⟨rfl, rfl, rfl, rfl⟩ := zret_i hf
          exact zx_ret (zr_iret hc hn hr hq (fun _ _ _ _ q => ⟨_, rfl, q⟩) dX0_insert_26)
        · have hf := zif_f c9 hf
          cases hf
theorem hd_X0_remove : yX0_remove.cls ≠ "java/lang/invoke/MethodHandle" ∧ yX0_remove.cls ≠ "java/lang/invoke/VarHandle" ∧ (parseMethodDescriptor yX0_remove.desc).map (fun d => d.parameters.length) = some 4 := by decide +kernel
def f_X0_remove (h : PH) (a0 : Nat) (v1 : Int32) (v2 : Int32) (a3 : Nat) : ZR Int32 :=
  zrc h a0 0 <| zch (f_X1_remove h a0 v1 v2) (fun x101 h102 =>
    znm x101.toInt64 fun x103 =>
    zsL h102 a3 3 (0 : Int32) x103 fun h104 =>
    zret (0 : Int32) h104)
    (fun e9 q9 h102 =>
      if e9 = 1 then
        (zret (1 : Int32) h102)
      else
        (if e9 = 2 then
          (zret (2 : Int32) h102)
        else
          (if e9 = 4 then
            (zret (3 : Int32) h102)
          else
            (none))))
set_option maxHeartbeats 4000000 in
set_option maxRecDepth 100000 in
theorem m_X0_remove (l : Launch) (hl0 : l.stackTraces = false) (D : va_G) (dA : Nat → ClassId) (b0 : Nat) (gs : Nat → Option Nat) (h : PH) (a0 : Nat) (v1 : Int32) (v2 : Int32) (a3 : Nat) {r : Int32} {hh : PH} {mc ms : Nat} (hf : f_X0_remove h a0 v1 v2 a3 = some (r, hh, mc, ms)) : zMx l D dA b0 gs yX0_remove (wsW_ yX0_remove cX0_remove 5 (some .int) [((0 : Nat), (10 : Nat), (13 : Nat), (19 : Nat)), ((0 : Nat), (10 : Nat), (17 : Nat), (25 : Nat)), ((0 : Nat), (10 : Nat), (21 : Nat), (30 : Nat))]) 14 3161 [.ref a0, .int v1, .int v2, .ref a3] h evI (.inl r) hh mc ms := by
  unfold f_X0_remove at hf
  refine zMx.ofH (by decide) (Nat.le_of_ble_eq_true rfl) ?_
  intro p e s m args below meth c hc hr hin ht hn ls hl
  have hl : lv_has ls 5 [(0, .ref a0), (1, .int v1), (2, .int v2), (3, .ref a3)] := hl
  have hq : 0 + mc = mc ∧ 0 + ms = ms := ⟨Nat.zero_add _, Nat.zero_add _⟩
  have hx := hc.x
  have hb := hc.b
  refine lv_aload_n (x := a3) hx hb dX0_remove_0 rfl (lv_at hl 3 rfl) ?_
  refine lv_iconst (v := (0 : Int32)) hx hb dX0_remove_1 (by decide) ?_
  refine lv_aload_n (x := a0) hx hb dX0_remove_2 rfl (lv_at hl 0 rfl) ?_
  refine lv_iload_n hx hb dX0_remove_3 rfl (lv_at hl 1 rfl) ?_
  refine lv_iload_n hx hb dX0_remove_4 rfl (lv_at hl 2 rfl) ?_
  refine zh_VI (As := [.int v1, .int v2]) (rest := [.int (0 : Int32), .ref a3]) hc hn hq (ci := 0) rfl ⟨rfl, hd_X1_remove⟩ (lw_V q1987 q1988 q1989 q84 q1990) (Nat.le_of_ble_eq_true rfl) (Nat.le_of_ble_eq_true rfl) (fun _ _ _ _ q => m_X1_remove l hl0 D dA b0 gs h a0 v1 v2 q) hf dX0_remove_5 hl.1 rfl rfl (zroom (Nat.le_of_ble_eq_true rfl)) (fun x101 h102 H locs cells slots C9 S9 hf hq hn => ?_) (fun e9 q9 ce9 h102 H locs cells slots C9 S9 hf hq hn g5 g6 g7 => ?_)
  · refine lv_i2l (v := x101.toInt64) hx hb dX0_remove_8 rfl ?_
    refine zr_nmL hf (fun x103 hf => ?_)
    refine zr_sL hc hn hf dX0_remove_9 (fun h104 H locs hf hn => ?_)
    refine lv_goto (tgt := 25) hx hb dX0_remove_10 (by decide) ?_
    refine lv_iconst (v := (0 : Int32)) hx hb dX0_remove_25 (by decide) ?_
    obtain ⟨rfl, rfl, rfl, rfl⟩ := zret_i hf
    exact zx_ret (zr_iret hc hn hr hq (fun _ _ _ _ q => ⟨_, rfl, q⟩) dX0_remove_26)
  · by_cases c9 : e9 = 1
    · have hf9 := zif_t c9 hf
      subst c9
      have hf := hf9
      clear hf9
      refine vx_catch (name := "java/lang/IndexOutOfBoundsException") hc.ow [] ⟨0, 10, 13, 19⟩ [⟨0, 10, 17, 25⟩, ⟨0, 10, 21, 30⟩] (by rw [ht]; rfl) (fun z hz => nomatch hz) (by decide) (by decide) (hc.ts _ q359) ((hc.nC q400).use rfl) g5 g6 g7 ?_
      refine lv_astore (x := q9) (lv' := [(4, .ref q9), (0, .ref a0), (1, .int v1), (2, .int v2), (3, .ref a3)]) hx hb dX0_remove_13 hl (by decide) rfl (fun ls hl => ?_)
      refine lv_iconst (v := (1 : Int32)) hx hb dX0_remove_15 (by decide) ?_
      obtain ⟨rfl, rfl, rfl, rfl⟩ := zret_i hf
      exact zx_ret (zr_iret hc hn hr hq (fun _ _ _ _ q => ⟨_, rfl, q⟩) dX0_remove_16)
    · have hf := zif_f c9 hf
      by_cases c9 : e9 = 2
      · have hf9 := zif_t c9 hf
        subst c9
        have hf := hf9
        clear hf9
        refine vx_catch (name := "java/lang/IllegalArgumentException") hc.ow [⟨0, 10, 13, 19⟩] ⟨0, 10, 17, 25⟩ [⟨0, 10, 21, 30⟩] (by rw [ht]; rfl) (fun z hz => by
            simp only [List.mem_cons, List.not_mem_nil, or_false] at hz
            rcases hz with rfl
            · exact Or.inr ⟨by decide, _, hc.ts _ q359, hc.nNc znc_2_1⟩) (by decide) (by decide) (hc.ts _ q416) ((hc.nC q603).use rfl) g5 g6 g7 ?_
        refine lv_astore (x := q9) (lv' := [(4, .ref q9), (0, .ref a0), (1, .int v1), (2, .int v2), (3, .ref a3)]) hx hb dX0_remove_17 hl (by decide) rfl (fun ls hl => ?_)
        refine lv_iconst (v := (2 : Int32)) hx hb dX0_remove_19 (by decide) ?_
        obtain ⟨rfl, rfl, rfl, rfl⟩ := zret_i hf
        exact zx_ret (zr_iret hc hn hr hq (fun _ _ _ _ q => ⟨_, rfl, q⟩) dX0_remove_20)
      · have hf := zif_f c9 hf
        by_cases c9 : e9 = 4
        · have hf9 := zif_t c9 hf
          subst c9
          have hf := hf9
          clear hf9
          refine vx_catch (name := "java/util/NoSuchElementException") hc.ow [⟨0, 10, 13, 19⟩, ⟨0, 10, 17, 25⟩] ⟨0, 10, 21, 30⟩ [] (by rw [ht]; rfl) (fun z hz => by
              simp only [List.mem_cons, List.not_mem_nil, or_false] at hz
              rcases hz with rfl | rfl
              · exact Or.inr ⟨by decide, _, hc.ts _ q359, hc.nNc znc_4_1⟩
              · exact Or.inr ⟨by decide, _, hc.ts _ q416, hc.nNc znc_4_2⟩) (by decide) (by decide) (hc.ts _ q1134) ((hc.nC q1150).use rfl) g5 g6 g7 ?_
          refine lv_astore (x := q9) (lv' := [(4, .ref q9), (0, .ref a0), (1, .int v1), (2, .int v2), (3, .ref a3)]) hx hb dX0_remove_21 hl (by decide) rfl (fun ls hl => ?_)
          refine lv_iconst (v := (3 : Int32)) hx hb dX0_remove_23 (by decide) ?_
          obtain ⟨rfl, rfl, rfl, rfl⟩ := zret_i hf
          exact zx_ret (zr_iret hc hn hr hq (fun _ _ _ _ q => ⟨_, rfl, q⟩) dX0_remove_24)
        · have hf := zif_f c9 hf
          cases hf
theorem hd_X0_setValue : yX0_setValue.cls ≠ "java/lang/invoke/MethodHandle" ∧ yX0_setValue.cls ≠ "java/lang/invoke/VarHandle" ∧ (parseMethodDescriptor yX0_setValue.desc).map (fun d => d.parameters.length) = some 5 := by decide +kernel
def f_X0_setValue (h : PH) (a0 : Nat) (v1 : Int32) (v2 : Int32) (v3 : Int32) (a4 : Nat) : ZR Int32 :=
  zrc h a0 0 <| zch (f_X1_setValue h a0 v1 v2 v3) (fun x101 h102 =>
    znm x101.toInt64 fun x103 =>
    zsL h102 a4 3 (0 : Int32) x103 fun h104 =>
    zret (0 : Int32) h104)
    (fun e9 q9 h102 =>
      if e9 = 1 then
        (zret (1 : Int32) h102)
      else
        (if e9 = 2 then
          (zret (2 : Int32) h102)
        else
          (if e9 = 4 then
            (zret (3 : Int32) h102)
          else
            (none))))
set_option maxHeartbeats 4000000 in
set_option maxRecDepth 100000 in
theorem m_X0_setValue (l : Launch) (hl0 : l.stackTraces = false) (D : va_G) (dA : Nat → ClassId) (b0 : Nat) (gs : Nat → Option Nat) (h : PH) (a0 : Nat) (v1 : Int32) (v2 : Int32) (v3 : Int32) (a4 : Nat) {r : Int32} {hh : PH} {mc ms : Nat} (hf : f_X0_setValue h a0 v1 v2 v3 a4 = some (r, hh, mc, ms)) : zMx l D dA b0 gs yX0_setValue (wsW_ yX0_setValue cX0_setValue 6 (some .int) [((0 : Nat), (12 : Nat), (15 : Nat), (19 : Nat)), ((0 : Nat), (12 : Nat), (19 : Nat), (25 : Nat)), ((0 : Nat), (12 : Nat), (23 : Nat), (30 : Nat))]) 9 228 [.ref a0, .int v1, .int v2, .int v3, .ref a4] h evI (.inl r) hh mc ms := by
  unfold f_X0_setValue at hf
  refine zMx.ofH (by decide) (Nat.le_of_ble_eq_true rfl) ?_
  intro p e s m args below meth c hc hr hin ht hn ls hl
  have hl : lv_has ls 6 [(0, .ref a0), (1, .int v1), (2, .int v2), (3, .int v3), (4, .ref a4)] := hl
  have hq : 0 + mc = mc ∧ 0 + ms = ms := ⟨Nat.zero_add _, Nat.zero_add _⟩
  have hx := hc.x
  have hb := hc.b
  refine lv_aload (x := a4) hx hb dX0_setValue_0 (lv_at hl 4 rfl) ?_
  refine lv_iconst (v := (0 : Int32)) hx hb dX0_setValue_2 (by decide) ?_
  refine lv_aload_n (x := a0) hx hb dX0_setValue_3 rfl (lv_at hl 0 rfl) ?_
  refine lv_iload_n hx hb dX0_setValue_4 rfl (lv_at hl 1 rfl) ?_
  refine lv_iload_n hx hb dX0_setValue_5 rfl (lv_at hl 2 rfl) ?_
  refine lv_iload_n hx hb dX0_setValue_6 rfl (lv_at hl 3 rfl) ?_
  refine zh_VI (As := [.int v1, .int v2, .int v3]) (rest := [.int (0 : Int32), .ref a4]) hc hn hq (ci := 0) rfl ⟨rfl, hd_X1_setValue⟩ (lw_V q1994 q1995 q1996 q84 q1997) (Nat.le_of_ble_eq_true rfl) (Nat.le_of_ble_eq_true rfl) (fun _ _ _ _ q => m_X1_setValue l hl0 D dA b0 gs h a0 v1 v2 v3 q) hf dX0_setValue_7 hl.1 rfl rfl (zroom (Nat.le_of_ble_eq_true rfl)) (fun x101 h102 H locs cells slots C9 S9 hf hq hn => ?_) (fun e9 q9 ce9 h102 H locs cells slots C9 S9 hf hq hn g5 g6 g7 => ?_)
  · refine lv_i2l (v := x101.toInt64) hx hb dX0_setValue_10 rfl ?_
    refine zr_nmL hf (fun x103 hf => ?_)
    refine zr_sL hc hn hf dX0_setValue_11 (fun h104 H locs hf hn => ?_)
    refine lv_goto (tgt := 27) hx hb dX0_setValue_12 (by decide) ?_
    refine lv_iconst (v := (0 : Int32)) hx hb dX0_setValue_27 (by decide) ?_
    obtain ⟨rfl, rfl, rfl, rfl⟩ := zret_i hf
    exact zx_ret (zr_iret hc hn hr hq (fun _ _ _ _ q => ⟨_, rfl, q⟩) dX0_setValue_28)
  · by_cases c9 : e9 = 1
    · have hf9 := zif_t c9 hf
      subst c9
      have hf := hf9
      clear hf9
      refine vx_catch (name := "java/lang/IndexOutOfBoundsException") hc.ow [] ⟨0, 12, 15, 19⟩ [⟨0, 12, 19, 25⟩, ⟨0, 12, 23, 30⟩] (by rw [ht]; rfl) (fun z hz => nomatch hz) (by decide) (by decide) (hc.ts _ q359) ((hc.nC q400).use rfl) g5 g6 g7 ?_
      refine lv_astore (x := q9) (lv' := [(5, .ref q9), (0, .ref a0), (1, .int v1), (2, .int v2), (3, .int v3), (4, .ref a4)]) hx hb dX0_setValue_15 hl (by decide) rfl (fun ls hl => ?_)
      refine lv_iconst (v := (1 : Int32)) hx hb dX0_setValue_17 (by decide) ?_
      obtain ⟨rfl, rfl, rfl, rfl⟩ := zret_i hf
      exact zx_ret (zr_iret hc hn hr hq (fun _ _ _ _ q => ⟨_, rfl, q⟩) dX0_setValue_18)
    · have hf := zif_f c9 hf
      by_cases c9 : e9 = 2
      · have hf9 := zif_t c9 hf
        subst c9
        have hf := hf9
        clear hf9
        refine vx_catch (name := "java/lang/IllegalArgumentException") hc.ow [⟨0, 12, 15, 19⟩] ⟨0, 12, 19, 25⟩ [⟨0, 12, 23, 30⟩] (by rw [ht]; rfl) (fun z hz => by
            simp only [List.mem_cons, List.not_mem_nil, or_false] at hz
            rcases hz with rfl
            · exact Or.inr ⟨by decide, _, hc.ts _ q359, hc.nNc znc_2_1⟩) (by decide) (by decide) (hc.ts _ q416) ((hc.nC q603).use rfl) g5 g6 g7 ?_
        refine lv_astore (x := q9) (lv' := [(5, .ref q9), (0, .ref a0), (1, .int v1), (2, .int v2), (3, .int v3), (4, .ref a4)]) hx hb dX0_setValue_19 hl (by decide) rfl (fun ls hl => ?_)
        refine lv_iconst (v := (2 : Int32)) hx hb dX0_setValue_21 (by decide) ?_
        obtain ⟨rfl, rfl, rfl, rfl⟩ := zret_i hf
        exact zx_ret (zr_iret hc hn hr hq (fun _ _ _ _ q => ⟨_, rfl, q⟩) dX0_setValue_22)
      · have hf := zif_f c9 hf
        by_cases c9 : e9 = 4
        · have hf9 := zif_t c9 hf
          subst c9
          have hf := hf9
          clear hf9
          refine vx_catch (name := "java/util/NoSuchElementException") hc.ow [⟨0, 12, 15, 19⟩, ⟨0, 12, 19, 25⟩] ⟨0, 12, 23, 30⟩ [] (by rw [ht]; rfl) (fun z hz => by
              simp only [List.mem_cons, List.not_mem_nil, or_false] at hz
              rcases hz with rfl | rfl
              · exact Or.inr ⟨by decide, _, hc.ts _ q359, hc.nNc znc_4_1⟩
              · exact Or.inr ⟨by decide, _, hc.ts _ q416, hc.nNc znc_4_2⟩) (by decide) (by decide) (hc.ts _ q1134) ((hc.nC q1150).use rfl) g5 g6 g7 ?_
          refine lv_astore (x := q9) (lv' := [(5, .ref q9), (0, .ref a0), (1, .int v1), (2, .int v2), (3, .int v3), (4, .ref a4)]) hx hb dX0_setValue_23 hl (by decide) rfl (fun ls hl => ?_)
          refine lv_iconst (v := (3 : Int32)) hx hb dX0_setValue_25 (by decide) ?_
          obtain ⟨rfl, rfl, rfl, rfl⟩ := zret_i hf
          exact zx_ret (zr_iret hc hn hr hq (fun _ _ _ _ q => ⟨_, rfl, q⟩) dX0_setValue_26)
        · have hf := zif_f c9 hf
          cases hf
theorem hd_X0_split : yX0_split.cls ≠ "java/lang/invoke/MethodHandle" ∧ yX0_split.cls ≠ "java/lang/invoke/VarHandle" ∧ (parseMethodDescriptor yX0_split.desc).map (fun d => d.parameters.length) = some 4 := by decide +kernel
def f_X0_split (h : PH) (a0 : Nat) (v1 : Int32) (v2 : Int32) (a3 : Nat) : ZR Int32 :=
  zrc h a0 0 <| zch (f_X1_split h a0 v1 v2) (fun x101 h102 =>
    znm x101.toInt64 fun x103 =>
    zsL h102 a3 3 (0 : Int32) x103 fun h104 =>
    zret (0 : Int32) h104)
    (fun e9 q9 h102 =>
      if e9 = 1 then
        (zret (1 : Int32) h102)
      else
        (if e9 = 2 then
          (zret (2 : Int32) h102)
        else
          (if e9 = 3 then
            (zret (3 : Int32) h102)
          else
            (none))))
set_option maxHeartbeats 4000000 in
set_option maxRecDepth 100000 in
theorem m_X0_split (l : Launch) (hl0 : l.stackTraces = false) (D : va_G) (dA : Nat → ClassId) (b0 : Nat) (gs : Nat → Option Nat) (h : PH) (a0 : Nat) (v1 : Int32) (v2 : Int32) (a3 : Nat) {r : Int32} {hh : PH} {mc ms : Nat} (hf : f_X0_split h a0 v1 v2 a3 = some (r, hh, mc, ms)) : zMx l D dA b0 gs yX0_split (wsW_ yX0_split cX0_split 5 (some .int) [((0 : Nat), (10 : Nat), (13 : Nat), (19 : Nat)), ((0 : Nat), (10 : Nat), (17 : Nat), (25 : Nat)), ((0 : Nat), (10 : Nat), (21 : Nat), (13 : Nat))]) 15 3187 [.ref a0, .int v1, .int v2, .ref a3] h evI (.inl r) hh mc ms := by
  unfold f_X0_split at hf
  refine zMx.ofH (by decide) (Nat.le_of_ble_eq_true rfl) ?_
  intro p e s m args below meth c hc hr hin ht hn ls hl
  have hl : lv_has ls 5 [(0, .ref a0), (1, .int v1), (2, .int v2), (3, .ref a3)] := hl
  have hq : 0 + mc = mc ∧ 0 + ms = ms := ⟨Nat.zero_add _, Nat.zero_add _⟩
  have hx := hc.x
  have hb := hc.b
  refine lv_aload_n (x := a3) hx hb dX0_split_0 rfl (lv_at hl 3 rfl) ?_
  refine lv_iconst (v := (0 : Int32)) hx hb dX0_split_1 (by decide) ?_
  refine lv_aload_n (x := a0) hx hb dX0_split_2 rfl (lv_at hl 0 rfl) ?_
  refine lv_iload_n hx hb dX0_split_3 rfl (lv_at hl 1 rfl) ?_
  refine lv_iload_n hx hb dX0_split_4 rfl (lv_at hl 2 rfl) ?_
  refine zh_VI (As := [.int v1, .int v2]) (rest := [.int (0 : Int32), .ref a3]) hc hn hq (ci := 0) rfl ⟨rfl, hd_X1_split⟩ (lw_V q2005 q2006 q2007 q84 q2008) (Nat.le_of_ble_eq_true rfl) (Nat.le_of_ble_eq_true rfl) (fun _ _ _ _ q => m_X1_split l hl0 D dA b0 gs h a0 v1 v2 q) hf dX0_split_5 hl.1 rfl rfl (zroom (Nat.le_of_ble_eq_true rfl)) (fun x101 h102 H locs cells slots C9 S9 hf hq hn => ?_) (fun e9 q9 ce9 h102 H locs cells slots C9 S9 hf hq hn g5 g6 g7 => ?_)
  · refine lv_i2l (v := x101.toInt64) hx hb dX0_split_8 rfl ?_
    refine zr_nmL hf (fun x103 hf => ?_)
    refine zr_sL hc hn hf dX0_split_9 (fun h104 H locs hf hn => ?_)
    refine lv_goto (tgt := 25) hx hb dX0_split_10 (by decide) ?_
    refine lv_iconst (v := (0 : Int32)) hx hb dX0_split_25 (by decide) ?_
    obtain ⟨rfl, rfl, rfl, rfl⟩ := zret_i hf
    exact zx_ret (zr_iret hc hn hr hq (fun _ _ _ _ q => ⟨_, rfl, q⟩) dX0_split_26)
  · by_cases c9 : e9 = 1
    · have hf9 := zif_t c9 hf
      subst c9
      have hf := hf9
      clear hf9
      refine vx_catch (name := "java/lang/IndexOutOfBoundsException") hc.ow [] ⟨0, 10, 13, 19⟩ [⟨0, 10, 17, 25⟩, ⟨0, 10, 21, 13⟩] (by rw [ht]; rfl) (fun z hz => nomatch hz) (by decide) (by decide) (hc.ts _ q359) ((hc.nC q400).use rfl) g5 g6 g7 ?_
      refine lv_astore (x := q9) (lv' := [(4, .ref q9), (0, .ref a0), (1, .int v1), (2, .int v2), (3, .ref a3)]) hx hb dX0_split_13 hl (by decide) rfl (fun ls hl => ?_)
      refine lv_iconst (v := (1 : Int32)) hx hb dX0_split_15 (by decide) ?_
      obtain ⟨rfl, rfl, rfl, rfl⟩ := zret_i hf
      exact zx_ret (zr_iret hc hn hr hq (fun _ _ _ _ q => ⟨_, rfl, q⟩) dX0_split_16)
    · have hf := zif_f c9 hf
      by_cases c9 : e9 = 2
      · have hf9 := zif_t c9 hf
        subst c9
        have hf := hf9
        clear hf9
        refine vx_catch (name := "java/lang/IllegalArgumentException") hc.ow [⟨0, 10, 13, 19⟩] ⟨0, 10, 17, 25⟩ [⟨0, 10, 21, 13⟩] (by rw [ht]; rfl) (fun z hz => by
            simp only [List.mem_cons, List.not_mem_nil, or_false] at hz
            rcases hz with rfl
            · exact Or.inr ⟨by decide, _, hc.ts _ q359, hc.nNc znc_2_1⟩) (by decide) (by decide) (hc.ts _ q416) ((hc.nC q603).use rfl) g5 g6 g7 ?_
        refine lv_astore (x := q9) (lv' := [(4, .ref q9), (0, .ref a0), (1, .int v1), (2, .int v2), (3, .ref a3)]) hx hb dX0_split_17 hl (by decide) rfl (fun ls hl => ?_)
        refine lv_iconst (v := (2 : Int32)) hx hb dX0_split_19 (by decide) ?_
        obtain ⟨rfl, rfl, rfl, rfl⟩ := zret_i hf
        exact zx_ret (zr_iret hc hn hr hq (fun _ _ _ _ q => ⟨_, rfl, q⟩) dX0_split_20)
      · have hf := zif_f c9 hf
        by_cases c9 : e9 = 3
        · have hf9 := zif_t c9 hf
          subst c9
          have hf := hf9
          clear hf9
          refine vx_catch (name := "java/lang/IllegalStateException") hc.ow [⟨0, 10, 13, 19⟩, ⟨0, 10, 17, 25⟩] ⟨0, 10, 21, 13⟩ [] (by rw [ht]; rfl) (fun z hz => by
              simp only [List.mem_cons, List.not_mem_nil, or_false] at hz
              rcases hz with rfl | rfl
              · exact Or.inr ⟨by decide, _, hc.ts _ q359, hc.nNc znc_3_1⟩
              · exact Or.inr ⟨by decide, _, hc.ts _ q416, hc.nNc znc_3_2⟩) (by decide) (by decide) (hc.ts _ q281) ((hc.nC q291).use rfl) g5 g6 g7 ?_
          refine lv_astore (x := q9) (lv' := [(4, .ref q9), (0, .ref a0), (1, .int v1), (2, .int v2), (3, .ref a3)]) hx hb dX0_split_21 hl (by decide) rfl (fun ls hl => ?_)
          refine lv_iconst (v := (3 : Int32)) hx hb dX0_split_23 (by decide) ?_
          obtain ⟨rfl, rfl, rfl, rfl⟩ := zret_i hf
          exact zx_ret (zr_iret hc hn hr hq (fun _ _ _ _ q => ⟨_, rfl, q⟩) dX0_split_24)
        · have hf := zif_f c9 hf
          cases hf
theorem hd_X0_cut : yX0_cut.cls ≠ "java/lang/invoke/MethodHandle" ∧ yX0_cut.cls ≠ "java/lang/invoke/VarHandle" ∧ (parseMethodDescriptor yX0_cut.desc).map (fun d => d.parameters.length) = some 5 := by decide +kernel
def f_X0_cut (h : PH) (a0 : Nat) (v1 : Int32) (v2 : Int32) (v3 : Int32) (a4 : Nat) : ZR Int32 :=
  zrc h a0 0 <| zch (f_X1_cut h a0 v1 v2 v3) (fun x101 h102 =>
    znm x101.toInt64 fun x103 =>
    zsL h102 a4 3 (0 : Int32) x103 fun h104 =>
    zret (0 : Int32) h104)
    (fun e9 q9 h102 =>
      if e9 = 1 then
        (zret (1 : Int32) h102)
      else
        (if e9 = 2 then
          (zret (2 : Int32) h102)
        else
          (if e9 = 3 then
            (zret (3 : Int32) h102)
          else
            (none))))
set_option maxHeartbeats 4000000 in
set_option maxRecDepth 100000 in
theorem m_X0_cut (l : Launch) (hl0 : l.stackTraces = false) (D : va_G) (dA : Nat → ClassId) (b0 : Nat) (gs : Nat → Option Nat) (h : PH) (a0 : Nat) (v1 : Int32) (v2 : Int32) (v3 : Int32) (a4 : Nat) {r : Int32} {hh : PH} {mc ms : Nat} (hf : f_X0_cut h a0 v1 v2 v3 a4 = some (r, hh, mc, ms)) : zMx l D dA b0 gs yX0_cut (wsW_ yX0_cut cX0_cut 6 (some .int) [((0 : Nat), (12 : Nat), (15 : Nat), (19 : Nat)), ((0 : Nat), (12 : Nat), (19 : Nat), (25 : Nat)), ((0 : Nat), (12 : Nat), (23 : Nat), (13 : Nat))]) 15 3189 [.ref a0, .int v1, .int v2, .int v3, .ref a4] h evI (.inl r) hh mc ms := by
  unfold f_X0_cut at hf
  refine zMx.ofH (by decide) (Nat.le_of_ble_eq_true rfl) ?_
  intro p e s m args below meth c hc hr hin ht hn ls hl
  have hl : lv_has ls 6 [(0, .ref a0), (1, .int v1), (2, .int v2), (3, .int v3), (4, .ref a4)] := hl
  have hq : 0 + mc = mc ∧ 0 + ms = ms := ⟨Nat.zero_add _, Nat.zero_add _⟩
  have hx := hc.x
  have hb := hc.b
  refine lv_aload (x := a4) hx hb dX0_cut_0 (lv_at hl 4 rfl) ?_
  refine lv_iconst (v := (0 : Int32)) hx hb dX0_cut_2 (by decide) ?_
  refine lv_aload_n (x := a0) hx hb dX0_cut_3 rfl (lv_at hl 0 rfl) ?_
  refine lv_iload_n hx hb dX0_cut_4 rfl (lv_at hl 1 rfl) ?_
  refine lv_iload_n hx hb dX0_cut_5 rfl (lv_at hl 2 rfl) ?_
  refine lv_iload_n hx hb dX0_cut_6 rfl (lv_at hl 3 rfl) ?_
  refine zh_VI (As := [.int v1, .int v2, .int v3]) (rest := [.int (0 : Int32), .ref a4]) hc hn hq (ci := 0) rfl ⟨rfl, hd_X1_cut⟩ (lw_V q2018 q2019 q2020 q84 q2021) (Nat.le_of_ble_eq_true rfl) (Nat.le_of_ble_eq_true rfl) (fun _ _ _ _ q => m_X1_cut l hl0 D dA b0 gs h a0 v1 v2 v3 q) hf dX0_cut_7 hl.1 rfl rfl (zroom (Nat.le_of_ble_eq_true rfl)) (fun x101 h102 H locs cells slots C9 S9 hf hq hn => ?_) (fun e9 q9 ce9 h102 H locs cells slots C9 S9 hf hq hn g5 g6 g7 => ?_)
  · refine lv_i2l (v := x101.toInt64) hx hb dX0_cut_10 rfl ?_
    refine zr_nmL hf (fun x103 hf => ?_)
    refine zr_sL hc hn hf dX0_cut_11 (fun h104 H locs hf hn => ?_)
    refine lv_goto (tgt := 27) hx hb dX0_cut_12 (by decide) ?_
    refine lv_iconst (v := (0 : Int32)) hx hb dX0_cut_27 (by decide) ?_
    obtain ⟨rfl, rfl, rfl, rfl⟩ := zret_i hf
    exact zx_ret (zr_iret hc hn hr hq (fun _ _ _ _ q => ⟨_, rfl, q⟩) dX0_cut_28)
  · by_cases c9 : e9 = 1
    · have hf9 := zif_t c9 hf
      subst c9
      have hf := hf9
      clear hf9
      refine vx_catch (name := "java/lang/IndexOutOfBoundsException") hc.ow [] ⟨0, 12, 15, 19⟩ [⟨0, 12, 19, 25⟩, ⟨0, 12, 23, 13⟩] (by rw [ht]; rfl) (fun z hz => nomatch hz) (by decide) (by decide) (hc.ts _ q359) ((hc.nC q400).use rfl) g5 g6 g7 ?_
      refine lv_astore (x := q9) (lv' := [(5, .ref q9), (0, .ref a0), (1, .int v1), (2, .int v2), (3, .int v3), (4, .ref a4)]) hx hb dX0_cut_15 hl (by decide) rfl (fun ls hl => ?_)
      refine lv_iconst (v := (1 : Int32)) hx hb dX0_cut_17 (by decide) ?_
      obtain ⟨rfl, rfl, rfl, rfl⟩ := zret_i hf
      exact zx_ret (zr_iret hc hn hr hq (fun _ _ _ _ q => ⟨_, rfl, q⟩) dX0_cut_18)
    · have hf := zif_f c9 hf
      by_cases c9 : e9 = 2
      · have hf9 := zif_t c9 hf
        subst c9
        have hf := hf9
        clear hf9
        refine vx_catch (name := "java/lang/IllegalArgumentException") hc.ow [⟨0, 12, 15, 19⟩] ⟨0, 12, 19, 25⟩ [⟨0, 12, 23, 13⟩] (by rw [ht]; rfl) (fun z hz => by
            simp only [List.mem_cons, List.not_mem_nil, or_false] at hz
            rcases hz with rfl
            · exact Or.inr ⟨by decide, _, hc.ts _ q359, hc.nNc znc_2_1⟩) (by decide) (by decide) (hc.ts _ q416) ((hc.nC q603).use rfl) g5 g6 g7 ?_
        refine lv_astore (x := q9) (lv' := [(5, .ref q9), (0, .ref a0), (1, .int v1), (2, .int v2), (3, .int v3), (4, .ref a4)]) hx hb dX0_cut_19 hl (by decide) rfl (fun ls hl => ?_)
        refine lv_iconst (v := (2 : Int32)) hx hb dX0_cut_21 (by decide) ?_
        obtain ⟨rfl, rfl, rfl, rfl⟩ := zret_i hf
        exact zx_ret (zr_iret hc hn hr hq (fun _ _ _ _ q => ⟨_, rfl, q⟩) dX0_cut_22)
      · have hf := zif_f c9 hf
        by_cases c9 : e9 = 3
        · have hf9 := zif_t c9 hf
          subst c9
          have hf := hf9
          clear hf9
          refine vx_catch (name := "java/lang/IllegalStateException") hc.ow [⟨0, 12, 15, 19⟩, ⟨0, 12, 19, 25⟩] ⟨0, 12, 23, 13⟩ [] (by rw [ht]; rfl) (fun z hz => by
              simp only [List.mem_cons, List.not_mem_nil, or_false] at hz
              rcases hz with rfl | rfl
              · exact Or.inr ⟨by decide, _, hc.ts _ q359, hc.nNc znc_3_1⟩
              · exact Or.inr ⟨by decide, _, hc.ts _ q416, hc.nNc znc_3_2⟩) (by decide) (by decide) (hc.ts _ q281) ((hc.nC q291).use rfl) g5 g6 g7 ?_
          refine lv_astore (x := q9) (lv' := [(5, .ref q9), (0, .ref a0), (1, .int v1), (2, .int v2), (3, .int v3), (4, .ref a4)]) hx hb dX0_cut_23 hl (by decide) rfl (fun ls hl => ?_)
          refine lv_iconst (v := (3 : Int32)) hx hb dX0_cut_25 (by decide) ?_
          obtain ⟨rfl, rfl, rfl, rfl⟩ := zret_i hf
          exact zx_ret (zr_iret hc hn hr hq (fun _ _ _ _ q => ⟨_, rfl, q⟩) dX0_cut_26)
        · have hf := zif_f c9 hf
          cases hf
theorem hd_X0_join : yX0_join.cls ≠ "java/lang/invoke/MethodHandle" ∧ yX0_join.cls ≠ "java/lang/invoke/VarHandle" ∧ (parseMethodDescriptor yX0_join.desc).map (fun d => d.parameters.length) = some 4 := by decide +kernel
def f_X0_join (h : PH) (a0 : Nat) (v1 : Int32) (v2 : Int32) (a3 : Nat) : ZR Int32 :=
  zrc h a0 0 <| zch (f_X1_join h a0 v1 v2) (fun x101 h102 =>
    znm x101.toInt64 fun x103 =>
    zsL h102 a3 3 (0 : Int32) x103 fun h104 =>
    zret (0 : Int32) h104)
    (fun e9 q9 h102 =>
      if e9 = 1 then
        (zret (1 : Int32) h102)
      else
        (if e9 = 3 then
          (zret (2 : Int32) h102)
        else
          (none)))
set_option maxHeartbeats 4000000 in
set_option maxRecDepth 100000 in
theorem m_X0_join (l : Launch) (hl0 : l.stackTraces = false) (D : va_G) (dA : Nat → ClassId) (b0 : Nat) (gs : Nat → Option Nat) (h : PH) (a0 : Nat) (v1 : Int32) (v2 : Int32) (a3 : Nat) {r : Int32} {hh : PH} {mc ms : Nat} (hf : f_X0_join h a0 v1 v2 a3 = some (r, hh, mc, ms)) : zMx l D dA b0 gs yX0_join (wsW_ yX0_join cX0_join 5 (some .int) [((0 : Nat), (10 : Nat), (13 : Nat), (19 : Nat)), ((0 : Nat), (10 : Nat), (17 : Nat), (13 : Nat))]) 15 3182 [.ref a0, .int v1, .int v2, .ref a3] h evI (.inl r) hh mc ms := by
  unfold f_X0_join at hf
  refine zMx.ofH (by decide) (Nat.le_of_ble_eq_true rfl) ?_
  intro p e s m args below meth c hc hr hin ht hn ls hl
  have hl : lv_has ls 5 [(0, .ref a0), (1, .int v1), (2, .int v2), (3, .ref a3)] := hl
  have hq : 0 + mc = mc ∧ 0 + ms = ms := ⟨Nat.zero_add _, Nat.zero_add _⟩
  have hx := hc.x
  have hb := hc.b
  refine lv_aload_n (x := a3) hx hb dX0_join_0 rfl (lv_at hl 3 rfl) ?_
  refine lv_iconst (v := (0 : Int32)) hx hb dX0_join_1 (by decide) ?_
  refine lv_aload_n (x := a0) hx hb dX0_join_2 rfl (lv_at hl 0 rfl) ?_
  refine lv_iload_n hx hb dX0_join_3 rfl (lv_at hl 1 rfl) ?_
  refine lv_iload_n hx hb dX0_join_4 rfl (lv_at hl 2 rfl) ?_
  refine zh_VI (As := [.int v1, .int v2]) (rest := [.int (0 : Int32), .ref a3]) hc hn hq (ci := 0) rfl ⟨rfl, hd_X1_join⟩ (lw_V q2029 q2030 q2031 q84 q2032) (Nat.le_of_ble_eq_true rfl) (Nat.le_of_ble_eq_true rfl) (fun _ _ _ _ q => m_X1_join l hl0 D dA b0 gs h a0 v1 v2 q) hf dX0_join_5 hl.1 rfl rfl (zroom (Nat.le_of_ble_eq_true rfl)) (fun x101 h102 H locs cells slots C9 S9 hf hq hn => ?_) (fun e9 q9 ce9 h102 H locs cells slots C9 S9 hf hq hn g5 g6 g7 => ?_)
  · refine lv_i2l (v := x101.toInt64) hx hb dX0_join_8 rfl ?_
    refine zr_nmL hf (fun x103 hf => ?_)
    refine zr_sL hc hn hf dX0_join_9 (fun h104 H locs hf hn => ?_)
    refine lv_goto (tgt := 21) hx hb dX0_join_10 (by decide) ?_
    refine lv_iconst (v := (0 : Int32)) hx hb dX0_join_21 (by decide) ?_
    obtain ⟨rfl, rfl, rfl, rfl⟩ := zret_i hf
    exact zx_ret (zr_iret hc hn hr hq (fun _ _ _ _ q => ⟨_, rfl, q⟩) dX0_join_22)
  · by_cases c9 : e9 = 1
    · have hf9 := zif_t c9 hf
      subst c9
      have hf := hf9
      clear hf9
      refine vx_catch (name := "java/lang/IndexOutOfBoundsException") hc.ow [] ⟨0, 10, 13, 19⟩ [⟨0, 10, 17, 13⟩] (by rw [ht]; rfl) (fun z hz => nomatch hz) (by decide) (by decide) (hc.ts _ q359) ((hc.nC q400).use rfl) g5 g6 g7 ?_
      refine lv_astore (x := q9) (lv' := [(4, .ref q9), (0, .ref a0), (1, .int v1), (2, .int v2), (3, .ref a3)]) hx hb dX0_join_13 hl (by decide) rfl (fun ls hl => ?_)
      refine lv_iconst (v := (1 : Int32)) hx hb dX0_join_15 (by decide) ?_
      obtain ⟨rfl, rfl, rfl, rfl⟩ := zret_i hf
      exact zx_ret (zr_iret hc hn hr hq (fun _ _ _ _ q => ⟨_, rfl, q⟩) dX0_join_16)
    · have hf := zif_f c9 hf
      by_cases c9 : e9 = 3
      · have hf9 := zif_t c9 hf
        subst c9
        have hf := hf9
        clear hf9
        refine vx_catch (name := "java/lang/IllegalStateException") hc.ow [⟨0, 10, 13, 19⟩] ⟨0, 10, 17, 13⟩ [] (by rw [ht]; rfl) (fun z hz => by
            simp only [List.mem_cons, List.not_mem_nil, or_false] at hz
            rcases hz with rfl
            · exact Or.inr ⟨by decide, _, hc.ts _ q359, hc.nNc znc_3_1⟩) (by decide) (by decide) (hc.ts _ q281) ((hc.nC q291).use rfl) g5 g6 g7 ?_
        refine lv_astore (x := q9) (lv' := [(4, .ref q9), (0, .ref a0), (1, .int v1), (2, .int v2), (3, .ref a3)]) hx hb dX0_join_17 hl (by decide) rfl (fun ls hl => ?_)
        refine lv_iconst (v := (2 : Int32)) hx hb dX0_join_19 (by decide) ?_
        obtain ⟨rfl, rfl, rfl, rfl⟩ := zret_i hf
        exact zx_ret (zr_iret hc hn hr hq (fun _ _ _ _ q => ⟨_, rfl, q⟩) dX0_join_20)
      · have hf := zif_f c9 hf
        cases hf
theorem hd_X0_absorb : yX0_absorb.cls ≠ "java/lang/invoke/MethodHandle" ∧ yX0_absorb.cls ≠ "java/lang/invoke/VarHandle" ∧ (parseMethodDescriptor yX0_absorb.desc).map (fun d => d.parameters.length) = some 4 := by decide +kernel
def f_X0_absorb (h : PH) (a0 : Nat) (v1 : Int32) (v2 : Int32) (a3 : Nat) : ZR Int32 :=
  zrc h a0 0 <| zch (f_X1_absorb h a0 v1 v2) (fun x101 h102 =>
    znm x101.toInt64 fun x103 =>
    zsL h102 a3 3 (0 : Int32) x103 fun h104 =>
    zret (0 : Int32) h104)
    (fun e9 q9 h102 =>
      if e9 = 1 then
        (zret (1 : Int32) h102)
      else
        (if e9 = 3 then
          (zret (2 : Int32) h102)
        else
          (none)))
set_option maxHeartbeats 4000000 in
set_option maxRecDepth 100000 in
theorem m_X0_absorb (l : Launch) (hl0 : l.stackTraces = false) (D : va_G) (dA : Nat → ClassId) (b0 : Nat) (gs : Nat → Option Nat) (h : PH) (a0 : Nat) (v1 : Int32) (v2 : Int32) (a3 : Nat) {r : Int32} {hh : PH} {mc ms : Nat} (hf : f_X0_absorb h a0 v1 v2 a3 = some (r, hh, mc, ms)) : zMx l D dA b0 gs yX0_absorb (wsW_ yX0_absorb cX0_absorb 5 (some .int) [((0 : Nat), (10 : Nat), (13 : Nat), (19 : Nat)), ((0 : Nat), (10 : Nat), (17 : Nat), (13 : Nat))]) 14 3163 [.ref a0, .int v1, .int v2, .ref a3] h evI (.inl r) hh mc ms := by
  unfold f_X0_absorb at hf
  refine zMx.ofH (by decide) (Nat.le_of_ble_eq_true rfl) ?_
  intro p e s m args below meth c hc hr hin ht hn ls hl
  have hl : lv_has ls 5 [(0, .ref a0), (1, .int v1), (2, .int v2), (3, .ref a3)] := hl
  have hq : 0 + mc = mc ∧ 0 + ms = ms := ⟨Nat.zero_add _, Nat.zero_add _⟩
  have hx := hc.x
  have hb := hc.b
  refine lv_aload_n (x := a3) hx hb dX0_absorb_0 rfl (lv_at hl 3 rfl) ?_
  refine lv_iconst (v := (0 : Int32)) hx hb dX0_absorb_1 (by decide) ?_
  refine lv_aload_n (x := a0) hx hb dX0_absorb_2 rfl (lv_at hl 0 rfl) ?_
  refine lv_iload_n hx hb dX0_absorb_3 rfl (lv_at hl 1 rfl) ?_
  refine lv_iload_n hx hb dX0_absorb_4 rfl (lv_at hl 2 rfl) ?_
  refine zh_VI (As := [.int v1, .int v2]) (rest := [.int (0 : Int32), .ref a3]) hc hn hq (ci := 0) rfl ⟨rfl, hd_X1_absorb⟩ (lw_V q2037 q2038 q2039 q84 q2040) (Nat.le_of_ble_eq_true rfl) (Nat.le_of_ble_eq_true rfl) (fun _ _ _ _ q => m_X1_absorb l hl0 D dA b0 gs h a0 v1 v2 q) hf dX0_absorb_5 hl.1 rfl rfl (zroom (Nat.le_of_ble_eq_true rfl)) (fun x101 h102 H locs cells slots C9 S9 hf hq hn => ?_) (fun e9 q9 ce9 h102 H locs cells slots C9 S9 hf hq hn g5 g6 g7 => ?_)
  · refine lv_i2l (v := x101.toInt64) hx hb dX0_absorb_8 rfl ?_
    refine zr_nmL hf (fun x103 hf => ?_)
    refine zr_sL hc hn hf dX0_absorb_9 (fun h104 H locs hf hn => ?_)
    refine lv_goto (tgt := 21) hx hb dX0_absorb_10 (by decide) ?_
    refine lv_iconst (v := (0 : Int32)) hx hb dX0_absorb_21 (by decide) ?_
    obtain ⟨rfl, rfl, rfl, rfl⟩ := zret_i hf
    exact zx_ret (zr_iret hc hn hr hq (fun _ _ _ _ q => ⟨_, rfl, q⟩) dX0_absorb_22)
  · by_cases c9 : e9 = 1
    · have hf9 := zif_t c9 hf
      subst c9
      have hf := hf9
      clear hf9
      refine vx_catch (name := "java/lang/IndexOutOfBoundsException") hc.ow [] ⟨0, 10, 13, 19⟩ [⟨0, 10, 17, 13⟩] (by rw [ht]; rfl) (fun z hz => nomatch hz) (by decide) (by decide) (hc.ts _ q359) ((hc.nC q400).use rfl) g5 g6 g7 ?_
      refine lv_astore (x := q9) (lv' := [(4, .ref q9), (0, .ref a0), (1, .int v1), (2, .int v2), (3, .ref a3)]) hx hb dX0_absorb_13 hl (by decide) rfl (fun ls hl => ?_)
      refine lv_iconst (v := (1 : Int32)) hx hb dX0_absorb_15 (by decide) ?_
      obtain ⟨rfl, rfl, rfl, rfl⟩ := zret_i hf
      exact zx_ret (zr_iret hc hn hr hq (fun _ _ _ _ q => ⟨_, rfl, q⟩) dX0_absorb_16)
    · have hf := zif_f c9 hf
      by_cases c9 : e9 = 3
      · have hf9 := zif_t c9 hf
        subst c9
        have hf := hf9
        clear hf9
        refine vx_catch (name := "java/lang/IllegalStateException") hc.ow [⟨0, 10, 13, 19⟩] ⟨0, 10, 17, 13⟩ [] (by rw [ht]; rfl) (fun z hz => by
            simp only [List.mem_cons, List.not_mem_nil, or_false] at hz
            rcases hz with rfl
            · exact Or.inr ⟨by decide, _, hc.ts _ q359, hc.nNc znc_3_1⟩) (by decide) (by decide) (hc.ts _ q281) ((hc.nC q291).use rfl) g5 g6 g7 ?_
        refine lv_astore (x := q9) (lv' := [(4, .ref q9), (0, .ref a0), (1, .int v1), (2, .int v2), (3, .ref a3)]) hx hb dX0_absorb_17 hl (by decide) rfl (fun ls hl => ?_)
        refine lv_iconst (v := (2 : Int32)) hx hb dX0_absorb_19 (by decide) ?_
        obtain ⟨rfl, rfl, rfl, rfl⟩ := zret_i hf
        exact zx_ret (zr_iret hc hn hr hq (fun _ _ _ _ q => ⟨_, rfl, q⟩) dX0_absorb_20)
      · have hf := zif_f c9 hf
        cases hf
theorem hd_X0_level : yX0_level.cls ≠ "java/lang/invoke/MethodHandle" ∧ yX0_level.cls ≠ "java/lang/invoke/VarHandle" ∧ (parseMethodDescriptor yX0_level.desc).map (fun d => d.parameters.length) = some 3 := by decide +kernel
def f_X0_level (h : PH) (a0 : Nat) (v1 : Int32) (a2 : Nat) : ZR Int32 :=
  zrc h a0 0 <| zch (f_X1_level h a0 v1) (fun x101 h102 =>
    znm x101.toInt64 fun x103 =>
    zsL h102 a2 3 (0 : Int32) x103 fun h104 =>
    zret (0 : Int32) h104)
    (fun e9 q9 h102 =>
      if e9 = 1 then
        (zret (1 : Int32) h102)
      else
        (none))
set_option maxHeartbeats 4000000 in
set_option maxRecDepth 100000 in
theorem m_X0_level (l : Launch) (hl0 : l.stackTraces = false) (D : va_G) (dA : Nat → ClassId) (b0 : Nat) (gs : Nat → Option Nat) (h : PH) (a0 : Nat) (v1 : Int32) (a2 : Nat) {r : Int32} {hh : PH} {mc ms : Nat} (hf : f_X0_level h a0 v1 a2 = some (r, hh, mc, ms)) : zMx l D dA b0 gs yX0_level (wsW_ yX0_level cX0_level 4 (some .int) [((0 : Nat), (9 : Nat), (12 : Nat), (19 : Nat))]) 14 3160 [.ref a0, .int v1, .ref a2] h evI (.inl r) hh mc ms := by
  unfold f_X0_level at hf
  refine zMx.ofH (by decide) (Nat.le_of_ble_eq_true rfl) ?_
  intro p e s m args below meth c hc hr hin ht hn ls hl
  have hl : lv_has ls 4 [(0, .ref a0), (1, .int v1), (2, .ref a2)] := hl
  have hq : 0 + mc = mc ∧ 0 + ms = ms := ⟨Nat.zero_add _, Nat.zero_add _⟩
  have hx := hc.x
  have hb := hc.b
  refine lv_aload_n (x := a2) hx hb dX0_level_0 rfl (lv_at hl 2 rfl) ?_
  refine lv_iconst (v := (0 : Int32)) hx hb dX0_level_1 (by decide) ?_
  refine lv_aload_n (x := a0) hx hb dX0_level_2 rfl (lv_at hl 0 rfl) ?_
  refine lv_iload_n hx hb dX0_level_3 rfl (lv_at hl 1 rfl) ?_
  refine zh_VI (As := [.int v1]) (rest := [.int (0 : Int32), .ref a2]) hc hn hq (ci := 0) rfl ⟨rfl, hd_X1_level⟩ (lw_V q2045 q2046 q2047 q84 q2048) (Nat.le_of_ble_eq_true rfl) (Nat.le_of_ble_eq_true rfl) (fun _ _ _ _ q => m_X1_level l hl0 D dA b0 gs h a0 v1 q) hf dX0_level_4 hl.1 rfl rfl (zroom (Nat.le_of_ble_eq_true rfl)) (fun x101 h102 H locs cells slots C9 S9 hf hq hn => ?_) (fun e9 q9 ce9 h102 H locs cells slots C9 S9 hf hq hn g5 g6 g7 => ?_)
  · refine lv_i2l (v := x101.toInt64) hx hb dX0_level_7 rfl ?_
    refine zr_nmL hf (fun x103 hf => ?_)
    refine zr_sL hc hn hf dX0_level_8 (fun h104 H locs hf hn => ?_)
    refine lv_goto (tgt := 15) hx hb dX0_level_9 (by decide) ?_
    refine lv_iconst (v := (0 : Int32)) hx hb dX0_level_15 (by decide) ?_
    obtain ⟨rfl, rfl, rfl, rfl⟩ := zret_i hf
    exact zx_ret (zr_iret hc hn hr hq (fun _ _ _ _ q => ⟨_, rfl, q⟩) dX0_level_16)
  · by_cases c9 : e9 = 1
    · have hf9 := zif_t c9 hf
      subst c9
      have hf := hf9
      clear hf9
      refine vx_catch (name := "java/lang/IndexOutOfBoundsException") hc.ow [] ⟨0, 9, 12, 19⟩ [] (by rw [ht]; rfl) (fun z hz => nomatch hz) (by decide) (by decide) (hc.ts _ q359) ((hc.nC q400).use rfl) g5 g6 g7 ?_
      refine lv_astore_n (x := q9) (i := 3) (lv' := [(3, .ref q9), (0, .ref a0), (1, .int v1), (2, .ref a2)]) hx hb dX0_level_12 rfl hl (by decide) rfl (fun ls hl => ?_)
      refine lv_iconst (v := (1 : Int32)) hx hb dX0_level_13 (by decide) ?_
      obtain ⟨rfl, rfl, rfl, rfl⟩ := zret_i hf
      exact zx_ret (zr_iret hc hn hr hq (fun _ _ _ _ q => ⟨_, rfl, q⟩) dX0_level_14)
    · have hf := zif_f c9 hf
      cases hf
theorem hd_X0_setLimit : yX0_setLimit.cls ≠ "java/lang/invoke/MethodHandle" ∧ yX0_setLimit.cls ≠ "java/lang/invoke/VarHandle" ∧ (parseMethodDescriptor yX0_setLimit.desc).map (fun d => d.parameters.length) = some 3 := by decide +kernel
def f_X0_setLimit (h : PH) (a0 : Nat) (v1 : Int32) (a2 : Nat) : ZR Int32 :=
  zrc h a0 0 <| zch (f_X1_setLimit h a0 v1) (fun x101 h102 =>
    znm x101.toInt64 fun x103 =>
    zsL h102 a2 3 (0 : Int32) x103 fun h104 =>
    zret (0 : Int32) h104)
    (fun e9 q9 h102 =>
      if e9 = 2 then
        (zret (1 : Int32) h102)
      else
        (none))
set_option maxHeartbeats 4000000 in
set_option maxRecDepth 100000 in
theorem m_X0_setLimit (l : Launch) (hl0 : l.stackTraces = false) (D : va_G) (dA : Nat → ClassId) (b0 : Nat) (gs : Nat → Option Nat) (h : PH) (a0 : Nat) (v1 : Int32) (a2 : Nat) {r : Int32} {hh : PH} {mc ms : Nat} (hf : f_X0_setLimit h a0 v1 a2 = some (r, hh, mc, ms)) : zMx l D dA b0 gs yX0_setLimit (wsW_ yX0_setLimit cX0_setLimit 4 (some .int) [((0 : Nat), (9 : Nat), (12 : Nat), (25 : Nat))]) 14 3161 [.ref a0, .int v1, .ref a2] h evI (.inl r) hh mc ms := by
  unfold f_X0_setLimit at hf
  refine zMx.ofH (by decide) (Nat.le_of_ble_eq_true rfl) ?_
  intro p e s m args below meth c hc hr hin ht hn ls hl
  have hl : lv_has ls 4 [(0, .ref a0), (1, .int v1), (2, .ref a2)] := hl
  have hq : 0 + mc = mc ∧ 0 + ms = ms := ⟨Nat.zero_add _, Nat.zero_add _⟩
  have hx := hc.x
  have hb := hc.b
  refine lv_aload_n (x := a2) hx hb dX0_setLimit_0 rfl (lv_at hl 2 rfl) ?_
  refine lv_iconst (v := (0 : Int32)) hx hb dX0_setLimit_1 (by decide) ?_
  refine lv_aload_n (x := a0) hx hb dX0_setLimit_2 rfl (lv_at hl 0 rfl) ?_
  refine lv_iload_n hx hb dX0_setLimit_3 rfl (lv_at hl 1 rfl) ?_
  refine zh_VI (As := [.int v1]) (rest := [.int (0 : Int32), .ref a2]) hc hn hq (ci := 0) rfl ⟨rfl, hd_X1_setLimit⟩ (lw_V q2053 q2054 q2055 q84 q2056) (Nat.le_of_ble_eq_true rfl) (Nat.le_of_ble_eq_true rfl) (fun _ _ _ _ q => m_X1_setLimit l hl0 D dA b0 gs h a0 v1 q) hf dX0_setLimit_4 hl.1 rfl rfl (zroom (Nat.le_of_ble_eq_true rfl)) (fun x101 h102 H locs cells slots C9 S9 hf hq hn => ?_) (fun e9 q9 ce9 h102 H locs cells slots C9 S9 hf hq hn g5 g6 g7 => ?_)
  · refine lv_i2l (v := x101.toInt64) hx hb dX0_setLimit_7 rfl ?_
    refine zr_nmL hf (fun x103 hf => ?_)
    refine zr_sL hc hn hf dX0_setLimit_8 (fun h104 H locs hf hn => ?_)
    refine lv_goto (tgt := 15) hx hb dX0_setLimit_9 (by decide) ?_
    refine lv_iconst (v := (0 : Int32)) hx hb dX0_setLimit_15 (by decide) ?_
    obtain ⟨rfl, rfl, rfl, rfl⟩ := zret_i hf
    exact zx_ret (zr_iret hc hn hr hq (fun _ _ _ _ q => ⟨_, rfl, q⟩) dX0_setLimit_16)
  · by_cases c9 : e9 = 2
    · have hf9 := zif_t c9 hf
      subst c9
      have hf := hf9
      clear hf9
      refine vx_catch (name := "java/lang/IllegalArgumentException") hc.ow [] ⟨0, 9, 12, 25⟩ [] (by rw [ht]; rfl) (fun z hz => nomatch hz) (by decide) (by decide) (hc.ts _ q416) ((hc.nC q603).use rfl) g5 g6 g7 ?_
      refine lv_astore_n (x := q9) (i := 3) (lv' := [(3, .ref q9), (0, .ref a0), (1, .int v1), (2, .ref a2)]) hx hb dX0_setLimit_12 rfl hl (by decide) rfl (fun ls hl => ?_)
      refine lv_iconst (v := (1 : Int32)) hx hb dX0_setLimit_13 (by decide) ?_
      obtain ⟨rfl, rfl, rfl, rfl⟩ := zret_i hf
      exact zx_ret (zr_iret hc hn hr hq (fun _ _ _ _ q => ⟨_, rfl, q⟩) dX0_setLimit_14)
    · have hf := zif_f c9 hf
      cases hf
theorem hd_X0_undo : yX0_undo.cls ≠ "java/lang/invoke/MethodHandle" ∧ yX0_undo.cls ≠ "java/lang/invoke/VarHandle" ∧ (parseMethodDescriptor yX0_undo.desc).map (fun d => d.parameters.length) = some 2 := by decide +kernel
def f_X0_undo (h : PH) (a0 : Nat) (a1 : Nat) : ZR Int32 :=
  zrc h a0 0 <| zch (f_X1_undo h a0) (fun x101 h102 =>
    znm x101.toInt64 fun x103 =>
    zsL h102 a1 3 (0 : Int32) x103 fun h104 =>
    zret (0 : Int32) h104)
    (fun e9 q9 h102 =>
      if e9 = 3 then
        (zret (1 : Int32) h102)
      else
        (none))
set_option maxHeartbeats 4000000 in
set_option maxRecDepth 100000 in
theorem m_X0_undo (l : Launch) (hl0 : l.stackTraces = false) (D : va_G) (dA : Nat → ClassId) (b0 : Nat) (gs : Nat → Option Nat) (h : PH) (a0 : Nat) (a1 : Nat) {r : Int32} {hh : PH} {mc ms : Nat} (hf : f_X0_undo h a0 a1 = some (r, hh, mc, ms)) : zMx l D dA b0 gs yX0_undo (wsW_ yX0_undo cX0_undo 3 (some .int) [((0 : Nat), (8 : Nat), (11 : Nat), (13 : Nat))]) 8 160 [.ref a0, .ref a1] h evI (.inl r) hh mc ms := by
  unfold f_X0_undo at hf
  refine zMx.ofH (by decide) (Nat.le_of_ble_eq_true rfl) ?_
  intro p e s m args below meth c hc hr hin ht hn ls hl
  have hl : lv_has ls 3 [(0, .ref a0), (1, .ref a1)] := hl
  have hq : 0 + mc = mc ∧ 0 + ms = ms := ⟨Nat.zero_add _, Nat.zero_add _⟩
  have hx := hc.x
  have hb := hc.b
  refine lv_aload_n (x := a1) hx hb dX0_undo_0 rfl (lv_at hl 1 rfl) ?_
  refine lv_iconst (v := (0 : Int32)) hx hb dX0_undo_1 (by decide) ?_
  refine lv_aload_n (x := a0) hx hb dX0_undo_2 rfl (lv_at hl 0 rfl) ?_
  refine zh_VI (As := []) (rest := [.int (0 : Int32), .ref a1]) hc hn hq (ci := 0) rfl ⟨rfl, hd_X1_undo⟩ (lw_V q2060 q2061 q2062 q84 q2063) (Nat.le_of_ble_eq_true rfl) (Nat.le_of_ble_eq_true rfl) (fun _ _ _ _ q => m_X1_undo l hl0 D dA b0 gs h a0 q) hf dX0_undo_3 hl.1 rfl rfl (zroom (Nat.le_of_ble_eq_true rfl)) (fun x101 h102 H locs cells slots C9 S9 hf hq hn => ?_) (fun e9 q9 ce9 h102 H locs cells slots C9 S9 hf hq hn g5 g6 g7 => ?_)
  · refine lv_i2l (v := x101.toInt64) hx hb dX0_undo_6 rfl ?_
    refine zr_nmL hf (fun x103 hf => ?_)
    refine zr_sL hc hn hf dX0_undo_7 (fun h104 H locs hf hn => ?_)
    refine lv_goto (tgt := 14) hx hb dX0_undo_8 (by decide) ?_
    refine lv_iconst (v := (0 : Int32)) hx hb dX0_undo_14 (by decide) ?_
    obtain ⟨rfl, rfl, rfl, rfl⟩ := zret_i hf
    exact zx_ret (zr_iret hc hn hr hq (fun _ _ _ _ q => ⟨_, rfl, q⟩) dX0_undo_15)
  · by_cases c9 : e9 = 3
    · have hf9 := zif_t c9 hf
      subst c9
      have hf := hf9
      clear hf9
      refine vx_catch (name := "java/lang/IllegalStateException") hc.ow [] ⟨0, 8, 11, 13⟩ [] (by rw [ht]; rfl) (fun z hz => nomatch hz) (by decide) (by decide) (hc.ts _ q281) ((hc.nC q291).use rfl) g5 g6 g7 ?_
      refine lv_astore_n (x := q9) (i := 2) (lv' := [(2, .ref q9), (0, .ref a0), (1, .ref a1)]) hx hb dX0_undo_11 rfl hl (by decide) rfl (fun ls hl => ?_)
      refine lv_iconst (v := (1 : Int32)) hx hb dX0_undo_12 (by decide) ?_
      obtain ⟨rfl, rfl, rfl, rfl⟩ := zret_i hf
      exact zx_ret (zr_iret hc hn hr hq (fun _ _ _ _ q => ⟨_, rfl, q⟩) dX0_undo_13)
    · have hf := zif_f c9 hf
      cases hf
theorem hd_X0_save : yX0_save.cls ≠ "java/lang/invoke/MethodHandle" ∧ yX0_save.cls ≠ "java/lang/invoke/VarHandle" ∧ (parseMethodDescriptor yX0_save.desc).map (fun d => d.parameters.length) = some 2 := by decide +kernel
def f_X0_save (h : PH) (a0 : Nat) (v1 : Int32) : ZR Int32 :=
  zrc h a0 0 <| zch (f_X1_save h a0 v1) (fun _ h102 =>
    zret (0 : Int32) h102)
    (fun e9 q9 h102 =>
      if e9 = 1 then
        (zret (1 : Int32) h102)
      else
        (none))
set_option maxHeartbeats 4000000 in
set_option maxRecDepth 100000 in
theorem m_X0_save (l : Launch) (hl0 : l.stackTraces = false) (D : va_G) (dA : Nat → ClassId) (b0 : Nat) (gs : Nat → Option Nat) (h : PH) (a0 : Nat) (v1 : Int32) {r : Int32} {hh : PH} {mc ms : Nat} (hf : f_X0_save h a0 v1 = some (r, hh, mc, ms)) : zMx l D dA b0 gs yX0_save (wsW_ yX0_save cX0_save 3 (some .int) [((0 : Nat), (5 : Nat), (8 : Nat), (19 : Nat))]) 9 181 [.ref a0, .int v1] h evI (.inl r) hh mc ms := by
  unfold f_X0_save at hf
  refine zMx.ofH (by decide) (Nat.le_of_ble_eq_true rfl) ?_
  intro p e s m args below meth c hc hr hin ht hn ls hl
  have hl : lv_has ls 3 [(0, .ref a0), (1, .int v1)] := hl
  have hq : 0 + mc = mc ∧ 0 + ms = ms := ⟨Nat.zero_add _, Nat.zero_add _⟩
  have hx := hc.x
  have hb := hc.b
  refine lv_aload_n (x := a0) hx hb dX0_save_0 rfl (lv_at hl 0 rfl) ?_
  refine lv_iload_n hx hb dX0_save_1 rfl (lv_at hl 1 rfl) ?_
  refine zh_VU (As := [.int v1]) (rest := []) hc hn hq (ci := 0) rfl ⟨rfl, hd_X1_save⟩ (lw_V q2078 q2079 q2080 q84 q2081) (Nat.le_of_ble_eq_true rfl) (Nat.le_of_ble_eq_true rfl) (fun _ _ _ _ q => m_X1_save l hl0 D dA b0 gs h a0 v1 q) hf dX0_save_2 hl.1 rfl rfl (zroom (Nat.le_of_ble_eq_true rfl)) (fun x101 h102 H locs cells slots C9 S9 hf hq hn => ?_) (fun e9 q9 ce9 h102 H locs cells slots C9 S9 hf hq hn g5 g6 g7 => ?_)
  · refine lv_goto (tgt := 11) hx hb dX0_save_5 (by decide) ?_
    refine lv_iconst (v := (0 : Int32)) hx hb dX0_save_11 (by decide) ?_
    obtain ⟨rfl, rfl, rfl, rfl⟩ := zret_i hf
    exact zx_ret (zr_iret hc hn hr hq (fun _ _ _ _ q => ⟨_, rfl, q⟩) dX0_save_12)
  · by_cases c9 : e9 = 1
    · have hf9 := zif_t c9 hf
      subst c9
      have hf := hf9
      clear hf9
      refine vx_catch (name := "java/lang/IndexOutOfBoundsException") hc.ow [] ⟨0, 5, 8, 19⟩ [] (by rw [ht]; rfl) (fun z hz => nomatch hz) (by decide) (by decide) (hc.ts _ q359) ((hc.nC q400).use rfl) g5 g6 g7 ?_
      refine lv_astore_n (x := q9) (i := 2) (lv' := [(2, .ref q9), (0, .ref a0), (1, .int v1)]) hx hb dX0_save_8 rfl hl (by decide) rfl (fun ls hl => ?_)
      refine lv_iconst (v := (1 : Int32)) hx hb dX0_save_9 (by decide) ?_
      obtain ⟨rfl, rfl, rfl, rfl⟩ := zret_i hf
      exact zx_ret (zr_iret hc hn hr hq (fun _ _ _ _ q => ⟨_, rfl, q⟩) dX0_save_10)
    · have hf := zif_f c9 hf
      cases hf
theorem hd_X0_restore : yX0_restore.cls ≠ "java/lang/invoke/MethodHandle" ∧ yX0_restore.cls ≠ "java/lang/invoke/VarHandle" ∧ (parseMethodDescriptor yX0_restore.desc).map (fun d => d.parameters.length) = some 2 := by decide +kernel
def f_X0_restore (h : PH) (a0 : Nat) (v1 : Int32) : ZR Int32 :=
  zrc h a0 0 <| zch (f_X1_restore h a0 v1) (fun _ h102 =>
    zret (0 : Int32) h102)
    (fun e9 q9 h102 =>
      if e9 = 1 then
        (zret (1 : Int32) h102)
      else
        (if e9 = 4 then
          (zret (2 : Int32) h102)
        else
          (none)))
set_option maxHeartbeats 4000000 in
set_option maxRecDepth 100000 in
theorem m_X0_restore (l : Launch) (hl0 : l.stackTraces = false) (D : va_G) (dA : Nat → ClassId) (b0 : Nat) (gs : Nat → Option Nat) (h : PH) (a0 : Nat) (v1 : Int32) {r : Int32} {hh : PH} {mc ms : Nat} (hf : f_X0_restore h a0 v1 = some (r, hh, mc, ms)) : zMx l D dA b0 gs yX0_restore (wsW_ yX0_restore cX0_restore 3 (some .int) [((0 : Nat), (5 : Nat), (8 : Nat), (19 : Nat)), ((0 : Nat), (5 : Nat), (11 : Nat), (30 : Nat))]) 9 181 [.ref a0, .int v1] h evI (.inl r) hh mc ms := by
  unfold f_X0_restore at hf
  refine zMx.ofH (by decide) (Nat.le_of_ble_eq_true rfl) ?_
  intro p e s m args below meth c hc hr hin ht hn ls hl
  have hl : lv_has ls 3 [(0, .ref a0), (1, .int v1)] := hl
  have hq : 0 + mc = mc ∧ 0 + ms = ms := ⟨Nat.zero_add _, Nat.zero_add _⟩
  have hx := hc.x
  have hb := hc.b
  refine lv_aload_n (x := a0) hx hb dX0_restore_0 rfl (lv_at hl 0 rfl) ?_
  refine lv_iload_n hx hb dX0_restore_1 rfl (lv_at hl 1 rfl) ?_
  refine zh_VU (As := [.int v1]) (rest := []) hc hn hq (ci := 0) rfl ⟨rfl, hd_X1_restore⟩ (lw_V q2088 q2089 q2090 q84 q2091) (Nat.le_of_ble_eq_true rfl) (Nat.le_of_ble_eq_true rfl) (fun _ _ _ _ q => m_X1_restore l hl0 D dA b0 gs h a0 v1 q) hf dX0_restore_2 hl.1 rfl rfl (zroom (Nat.le_of_ble_eq_true rfl)) (fun x101 h102 H locs cells slots C9 S9 hf hq hn => ?_) (fun e9 q9 ce9 h102 H locs cells slots C9 S9 hf hq hn g5 g6 g7 => ?_)
  · refine lv_goto (tgt := 14) hx hb dX0_restore_5 (by decide) ?_
    refine lv_iconst (v := (0 : Int32)) hx hb dX0_restore_14 (by decide) ?_
    obtain ⟨rfl, rfl, rfl, rfl⟩ := zret_i hf
    exact zx_ret (zr_iret hc hn hr hq (fun _ _ _ _ q => ⟨_, rfl, q⟩) dX0_restore_15)
  · by_cases c9 : e9 = 1
    · have hf9 := zif_t c9 hf
      subst c9
      have hf := hf9
      clear hf9
      refine vx_catch (name := "java/lang/IndexOutOfBoundsException") hc.ow [] ⟨0, 5, 8, 19⟩ [⟨0, 5, 11, 30⟩] (by rw [ht]; rfl) (fun z hz => nomatch hz) (by decide) (by decide) (hc.ts _ q359) ((hc.nC q400).use rfl) g5 g6 g7 ?_
      refine lv_astore_n (x := q9) (i := 2) (lv' := [(2, .ref q9), (0, .ref a0), (1, .int v1)]) hx hb dX0_restore_8 rfl hl (by decide) rfl (fun ls hl => ?_)
      refine lv_iconst (v := (1 : Int32)) hx hb dX0_restore_9 (by decide) ?_
      obtain ⟨rfl, rfl, rfl, rfl⟩ := zret_i hf
      exact zx_ret (zr_iret hc hn hr hq (fun _ _ _ _ q => ⟨_, rfl, q⟩) dX0_restore_10)
    · have hf := zif_f c9 hf
      by_cases c9 : e9 = 4
      · have hf9 := zif_t c9 hf
        subst c9
        have hf := hf9
        clear hf9
        refine vx_catch (name := "java/util/NoSuchElementException") hc.ow [⟨0, 5, 8, 19⟩] ⟨0, 5, 11, 30⟩ [] (by rw [ht]; rfl) (fun z hz => by
            simp only [List.mem_cons, List.not_mem_nil, or_false] at hz
            rcases hz with rfl
            · exact Or.inr ⟨by decide, _, hc.ts _ q359, hc.nNc znc_4_1⟩) (by decide) (by decide) (hc.ts _ q1134) ((hc.nC q1150).use rfl) g5 g6 g7 ?_
        refine lv_astore_n (x := q9) (i := 2) (lv' := [(2, .ref q9), (0, .ref a0), (1, .int v1)]) hx hb dX0_restore_11 rfl hl (by decide) rfl (fun ls hl => ?_)
        refine lv_iconst (v := (2 : Int32)) hx hb dX0_restore_12 (by decide) ?_
        obtain ⟨rfl, rfl, rfl, rfl⟩ := zret_i hf
        exact zx_ret (zr_iret hc hn hr hq (fun _ _ _ _ q => ⟨_, rfl, q⟩) dX0_restore_13)
      · have hf := zif_f c9 hf
        cases hf
