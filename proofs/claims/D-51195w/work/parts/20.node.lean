/-! 20.node (written by gen/mods.py) -/
set_option maxRecDepth 100000
theorem hd_X8_init_2 : yX8_init_2.cls ≠ "java/lang/invoke/MethodHandle" ∧ yX8_init_2.cls ≠ "java/lang/invoke/VarHandle" ∧ (parseMethodDescriptor yX8_init_2.desc).map (fun d => d.parameters.length) = some 3 := by decide +kernel
def f_X8_init_2 (h : PH) (a0 : Nat) (v1 : Int32) (v2 : Int32) (v3 : Int32) : ZR Unit :=
  zna h 5 (9 : Int32) fun a101 h102 =>
  zpP h102 a0 7 1 (some a101) fun h103 =>
  zna h103 0 (9 : Int32) fun a104 h105 =>
  zpP h105 a0 7 2 (some a104) fun h106 =>
  zna h106 0 (9 : Int32) fun a107 h108 =>
  zpP h108 a0 7 3 (some a107) fun h109 =>
  zpI h109 a0 7 0 v1 fun h110 =>
  zpI h110 a0 7 4 v2 fun h111 =>
  zpI h111 a0 7 5 v3 fun h112 =>
  zret () h112
set_option maxHeartbeats 4000000 in
set_option maxRecDepth 100000 in
theorem m_X8_init_2 (l : Launch) (D : va_G) (dA : Nat → ClassId) (b0 : Nat) (gs : Nat → Option Nat) (h : PH) (a0 : Nat) (v1 : Int32) (v2 : Int32) (v3 : Int32) {r : Unit} {hh : PH} {mc ms : Nat} (hf : f_X8_init_2 h a0 v1 v2 v3 = some (r, hh, mc, ms)) : zMt l D dA b0 gs yX8_init_2 cX8_init_2 4 none 1 60 [.ref a0, .int v1, .int v2, .int v3] h (evU r) hh mc ms := by
  unfold f_X8_init_2 at hf
  refine zMt.of (by decide) (Nat.le_of_ble_eq_true rfl) ?_
  intro p e s m args below meth c hc hr hin hn ls hl
  have hl : lv_has ls 4 [(0, .ref a0), (1, .int v1), (2, .int v2), (3, .int v3)] := hl
  have hq : 0 + mc = mc ∧ 0 + ms = ms := ⟨Nat.zero_add _, Nat.zero_add _⟩
  have hx := hc.x
  have hb := hc.b
  refine lv_aload_n (x := a0) hx hb dX8_init_2_0 rfl (lv_at hl 0 rfl) ?_
  refine W.objInit hx hb hc.ow (hc.ts _ q826) (hc.ts _ q137) (hc.ts _ q138) rfl (by rw [hc.ml]; exact hl.1) rfl dX8_init_2_1 (Nat.le_of_ble_eq_true rfl) (zroomL (Nat.le_of_ble_eq_true rfl) (Nat.le_of_ble_eq_true rfl)) ?_
  refine W.eq (g2 := F0 m 4 ls []) rfl ?_
  refine lv_aload_n (x := a0) hx hb dX8_init_2_4 rfl (lv_at hl 0 rfl) ?_
  refine lv_bipush (v := (9 : Int32)) hx hb dX8_init_2_5 (by decide) ?_
  refine zr_nq (ai := 5) hc hn hq (by decide) rfl q827 q828 hf dX8_init_2_7 (fun a101 h102 H cells slots C9 S9 hf hq hn => ?_)
  refine zr_pP (x := (some a101)) hc hn (ci := 7) rfl rfl in_X8 1 (by decide) tyX8 tyX8_ok nmX8 q836 (fun _ h => h) (Or.inr ⟨rfl, hin, rfl⟩) (fun _ _ _ => rfl) (zn_rf _ (by decide)) (zf_rf _ (by decide)) hf dX8_init_2_10 (fun h103 H locs hf hn => ?_)
  refine lv_aload_n (x := a0) hx hb dX8_init_2_13 rfl (lv_at hl 0 rfl) ?_
  refine lv_bipush (v := (9 : Int32)) hx hb dX8_init_2_14 (by decide) ?_
  refine zr_na0 hc hn hq q180 hf dX8_init_2_16 (fun a104 h105 H cells slots C9 S9 hf hq hn => ?_)
  refine zr_pP (x := (some a104)) hc hn (ci := 7) rfl rfl in_X8 2 (by decide) tyX8 tyX8_ok nmX8 q838 (fun _ h => h) (Or.inr ⟨rfl, hin, rfl⟩) (fun _ _ _ => rfl) (zn_rf _ (by decide)) (zf_rf _ (by decide)) hf dX8_init_2_18 (fun h106 H locs hf hn => ?_)
  refine lv_aload_n (x := a0) hx hb dX8_init_2_21 rfl (lv_at hl 0 rfl) ?_
  refine lv_bipush (v := (9 : Int32)) hx hb dX8_init_2_22 (by decide) ?_
  refine zr_na0 hc hn hq q180 hf dX8_init_2_24 (fun a107 h108 H cells slots C9 S9 hf hq hn => ?_)
  refine zr_pP (x := (some a107)) hc hn (ci := 7) rfl rfl in_X8 3 (by decide) tyX8 tyX8_ok nmX8 q841 (fun _ h => h) (Or.inr ⟨rfl, hin, rfl⟩) (fun _ _ _ => rfl) (zn_rf _ (by decide)) (zf_rf _ (by decide)) hf dX8_init_2_26 (fun h109 H locs hf hn => ?_)
  refine lv_aload_n (x := a0) hx hb dX8_init_2_29 rfl (lv_at hl 0 rfl) ?_
  refine lv_iload_n hx hb dX8_init_2_30 rfl (lv_at hl 1 rfl) ?_
  refine zr_pI (x := v1) hc hn (ci := 7) rfl rfl in_X8 0 (by decide) tyX8 tyX8_ok nmX8 q829 (fun _ h => h) (Or.inr ⟨rfl, hin, rfl⟩) (fun _ _ _ => rfl) rfl rfl hf dX8_init_2_31 (fun h110 H locs hf hn => ?_)
  refine lv_aload_n (x := a0) hx hb dX8_init_2_34 rfl (lv_at hl 0 rfl) ?_
  refine lv_iload_n hx hb dX8_init_2_35 rfl (lv_at hl 2 rfl) ?_
  refine zr_pI (x := v2) hc hn (ci := 7) rfl rfl in_X8 4 (by decide) tyX8 tyX8_ok nmX8 q844 (fun _ h => h) (Or.inl rfl) (fun _ _ _ => rfl) rfl rfl hf dX8_init_2_36 (fun h111 H locs hf hn => ?_)
  refine lv_aload_n (x := a0) hx hb dX8_init_2_39 rfl (lv_at hl 0 rfl) ?_
  refine lv_iload_n hx hb dX8_init_2_40 rfl (lv_at hl 3 rfl) ?_
  refine zr_pI (x := v3) hc hn (ci := 7) rfl rfl in_X8 5 (by decide) tyX8 tyX8_ok nmX8 q847 (fun _ h => h) (Or.inl rfl) (fun _ _ _ => rfl) rfl rfl hf dX8_init_2_41 (fun h112 H locs hf hn => ?_)
  obtain ⟨rfl, rfl, rfl, rfl⟩ := zret_i hf
  exact zr_vret hc hn hr hq (fun _ _ _ _ q => q) dX8_init_2_44
theorem hd_X8_init : yX8_init.cls ≠ "java/lang/invoke/MethodHandle" ∧ yX8_init.cls ≠ "java/lang/invoke/VarHandle" ∧ (parseMethodDescriptor yX8_init.desc).map (fun d => d.parameters.length) = some 0 := by decide +kernel
def f_X8_init (h : PH) (a0 : Nat) : ZR Unit :=
  zcl (f_X8_init_2 h a0 (-10000 : Int32) (0 : Int32) (9 : Int32)) fun _ h102 =>
  zret () h102
set_option maxHeartbeats 4000000 in
set_option maxRecDepth 100000 in
theorem m_X8_init (l : Launch) (D : va_G) (dA : Nat → ClassId) (b0 : Nat) (gs : Nat → Option Nat) (h : PH) (a0 : Nat) {r : Unit} {hh : PH} {mc ms : Nat} (hf : f_X8_init h a0 = some (r, hh, mc, ms)) : zMt l D dA b0 gs yX8_init cX8_init 1 none 2 83 [.ref a0] h (evU r) hh mc ms := by
  unfold f_X8_init at hf
  refine zMt.of (by decide) (Nat.le_of_ble_eq_true rfl) ?_
  intro p e s m args below meth c hc hr hin hn ls hl
  have hl : lv_has ls 1 [(0, .ref a0)] := hl
  have hq : 0 + mc = mc ∧ 0 + ms = ms := ⟨Nat.zero_add _, Nat.zero_add _⟩
  have hx := hc.x
  have hb := hc.b
  refine lv_aload_n (x := a0) hx hb dX8_init_0 rfl (lv_at hl 0 rfl) ?_
  refine lv_sipush (v := (-10000 : Int32)) hx hb dX8_init_1 (by decide) ?_
  refine lv_iconst (v := (0 : Int32)) hx hb dX8_init_4 (by decide) ?_
  refine lv_bipush (v := (9 : Int32)) hx hb dX8_init_5 (by decide) ?_
  refine zr_cI (As := [.int (-10000 : Int32), .int (0 : Int32), .int (9 : Int32)]) (rest := []) hc hn hq rfl hd_X8_init_2 (lw_meth q825) q823 q824 q116 (Nat.le_of_ble_eq_true rfl) (Nat.le_of_ble_eq_true rfl) (fun _ _ _ _ q => m_X8_init_2 l D dA b0 gs h a0 (-10000 : Int32) (0 : Int32) (9 : Int32) q) hf dX8_init_7 hl.1 rfl rfl (zroom (Nat.le_of_ble_eq_true rfl)) (fun x101 h102 H locs cells slots C9 S9 hf hq hn => ?_)
  obtain ⟨rfl, rfl, rfl, rfl⟩ := zret_i hf
  exact zr_vret hc hn hr hq (fun _ _ _ _ q => q) dX8_init_10
theorem hd_X8_link : yX8_link.cls ≠ "java/lang/invoke/MethodHandle" ∧ yX8_link.cls ≠ "java/lang/invoke/VarHandle" ∧ (parseMethodDescriptor yX8_link.desc).map (fun d => d.parameters.length) = some 4 := by decide +kernel
def f_X8_link (h : PH) (a0 : Nat) (v1 : Int32) (o2 : Option Nat) (v3 : Int32) (v4 : Int32) : ZR Unit :=
  zgP h a0 7 1 fun x101 =>
  znn x101 fun a102 =>
  zsO h a102 5 v1 o2 fun h103 =>
  zgP h103 a0 7 2 fun x104 =>
  znn x104 fun a105 =>
  zsI h103 a105 0 v1 v3 fun h106 =>
  zgP h106 a0 7 3 fun x107 =>
  znn x107 fun a108 =>
  zsI h106 a108 0 v1 v4 fun h109 =>
  zret () h109
set_option maxHeartbeats 4000000 in
set_option maxRecDepth 100000 in
theorem m_X8_link (l : Launch) (D : va_G) (dA : Nat → ClassId) (b0 : Nat) (gs : Nat → Option Nat) (h : PH) (a0 : Nat) (v1 : Int32) (o2 : Option Nat) (v3 : Int32) (v4 : Int32) {r : Unit} {hh : PH} {mc ms : Nat} (hf : f_X8_link h a0 v1 o2 v3 v4 = some (r, hh, mc, ms)) : zMt l D dA b0 gs yX8_link cX8_link 5 none 1 60 [.ref a0, .int v1, va_rf o2, .int v3, .int v4] h (evU r) hh mc ms := by
  unfold f_X8_link at hf
  refine zMt.of (by decide) (by simp [lg_sl, zcat_rf, zcat_i, zcat_l, zcat_d, zcat_r, zcat_n]) ?_
  intro p e s m args below meth c hc hr hin hn ls hl
  have hl : lv_has ls 5 [(0, .ref a0), (1, .int v1), (2, va_rf o2), (3, .int v3), (4, .int v4)] := by simpa [lv_args, zcat_rf, zcat_i, zcat_l, zcat_d, zcat_r, zcat_n] using hl
  have hq : 0 + mc = mc ∧ 0 + ms = ms := ⟨Nat.zero_add _, Nat.zero_add _⟩
  have hx := hc.x
  have hb := hc.b
  refine lv_aload_n (x := a0) hx hb dX8_link_0 rfl (lv_at hl 0 rfl) ?_
  refine zr_gP hc hn (ci := 7) rfl rfl in_X8 1 (by decide) q836 (fun _ h => h) (fun _ _ _ => rfl) hf dX8_link_1 (fun x101 hf => ?_)
  refine lv_iload_n hx hb dX8_link_4 rfl (lv_at hl 1 rfl) ?_
  refine zr_aload_n (x := o2) hx hb dX8_link_5 rfl (lv_at hl 2 rfl) ?_
  obtain ⟨a102, e9, hf9⟩ := znn_i hf
  subst e9
  have hf := hf9
  clear hf9
  refine zr_sO (ai := 5) (x := o2) (by decide) hc hn hf dX8_link_6 (fun h103 H locs hf hn => ?_)
  refine lv_aload_n (x := a0) hx hb dX8_link_7 rfl (lv_at hl 0 rfl) ?_
  refine zr_gP hc hn (ci := 7) rfl rfl in_X8 2 (by decide) q838 (fun _ h => h) (fun _ _ _ => rfl) hf dX8_link_8 (fun x104 hf => ?_)
  refine lv_iload_n hx hb dX8_link_11 rfl (lv_at hl 1 rfl) ?_
  refine lv_iload_n hx hb dX8_link_12 rfl (lv_at hl 3 rfl) ?_
  obtain ⟨a105, e9, hf9⟩ := znn_i hf
  subst e9
  have hf := hf9
  clear hf9
  refine zr_sI hc hn hf dX8_link_13 (fun h106 H locs hf hn => ?_)
  refine lv_aload_n (x := a0) hx hb dX8_link_14 rfl (lv_at hl 0 rfl) ?_
  refine zr_gP hc hn (ci := 7) rfl rfl in_X8 3 (by decide) q841 (fun _ h => h) (fun _ _ _ => rfl) hf dX8_link_15 (fun x107 hf => ?_)
  refine lv_iload_n hx hb dX8_link_18 rfl (lv_at hl 1 rfl) ?_
  refine lv_iload hx hb dX8_link_19 (lv_at hl 4 rfl) ?_
  obtain ⟨a108, e9, hf9⟩ := znn_i hf
  subst e9
  have hf := hf9
  clear hf9
  refine zr_sI hc hn hf dX8_link_21 (fun h109 H locs hf hn => ?_)
  obtain ⟨rfl, rfl, rfl, rfl⟩ := zret_i hf
  exact zr_vret hc hn hr hq (fun _ _ _ _ q => q) dX8_link_22
theorem hd_X8_next : yX8_next.cls ≠ "java/lang/invoke/MethodHandle" ∧ yX8_next.cls ≠ "java/lang/invoke/VarHandle" ∧ (parseMethodDescriptor yX8_next.desc).map (fun d => d.parameters.length) = some 1 := by decide +kernel
def f_X8_next (h : PH) (a0 : Nat) (v1 : Int32) : ZR (Option Nat) :=
  zgP h a0 7 1 fun x101 =>
  znn x101 fun a102 =>
  zaP h a102 5 v1 fun x103 =>
  zret x103 h
set_option maxHeartbeats 4000000 in
set_option maxRecDepth 100000 in
theorem m_X8_next (l : Launch) (D : va_G) (dA : Nat → ClassId) (b0 : Nat) (gs : Nat → Option Nat) (h : PH) (a0 : Nat) (v1 : Int32) {r : (Option Nat)} {hh : PH} {mc ms : Nat} (hf : f_X8_next h a0 v1 = some (r, hh, mc, ms)) : zMt l D dA b0 gs yX8_next cX8_next 2 (some (.object "CountedSkipLists$Node")) 1 60 [.ref a0, .int v1] h (evP r) hh mc ms := by
  unfold f_X8_next at hf
  refine zMt.of (by decide) (Nat.le_of_ble_eq_true rfl) ?_
  intro p e s m args below meth c hc hr hin hn ls hl
  have hl : lv_has ls 2 [(0, .ref a0), (1, .int v1)] := hl
  have hq : 0 + mc = mc ∧ 0 + ms = ms := ⟨Nat.zero_add _, Nat.zero_add _⟩
  have hx := hc.x
  have hb := hc.b
  refine lv_aload_n (x := a0) hx hb dX8_next_0 rfl (lv_at hl 0 rfl) ?_
  refine zr_gP hc hn (ci := 7) rfl rfl in_X8 1 (by decide) q836 (fun _ h => h) (fun _ _ _ => rfl) hf dX8_next_1 (fun x101 hf => ?_)
  refine lv_iload_n hx hb dX8_next_4 rfl (lv_at hl 1 rfl) ?_
  obtain ⟨a102, e9, hf9⟩ := znn_i hf
  subst e9
  have hf := hf9
  clear hf9
  refine zr_aP (ai := 5) (by decide) hc hn hf dX8_next_5 (fun x103 hf => ?_)
  obtain ⟨rfl, rfl, rfl, rfl⟩ := zret_i hf
  exact zr_aret (x := x103) hc hn hr (Or.inl ⟨_, rfl⟩) hq (fun _ _ _ _ q => q) dX8_next_6
theorem hd_X8_init_3 : yX8_init_3.cls ≠ "java/lang/invoke/MethodHandle" ∧ yX8_init_3.cls ≠ "java/lang/invoke/VarHandle" ∧ (parseMethodDescriptor yX8_init_3.desc).map (fun d => d.parameters.length) = some 2 := by decide +kernel
def f_X8_init_3 (h : PH) (a0 : Nat) (v1 : Int32) (v2 : Int32) : ZR Unit :=
  zcl (f_X8_init_2 h a0 v1 v2 (1 : Int32)) fun _ h102 =>
  zret () h102
set_option maxHeartbeats 4000000 in
set_option maxRecDepth 100000 in
theorem m_X8_init_3 (l : Launch) (D : va_G) (dA : Nat → ClassId) (b0 : Nat) (gs : Nat → Option Nat) (h : PH) (a0 : Nat) (v1 : Int32) (v2 : Int32) {r : Unit} {hh : PH} {mc ms : Nat} (hf : f_X8_init_3 h a0 v1 v2 = some (r, hh, mc, ms)) : zMt l D dA b0 gs yX8_init_3 cX8_init_3 3 none 2 83 [.ref a0, .int v1, .int v2] h (evU r) hh mc ms := by
  unfold f_X8_init_3 at hf
  refine zMt.of (by decide) (Nat.le_of_ble_eq_true rfl) ?_
  intro p e s m args below meth c hc hr hin hn ls hl
  have hl : lv_has ls 3 [(0, .ref a0), (1, .int v1), (2, .int v2)] := hl
  have hq : 0 + mc = mc ∧ 0 + ms = ms := ⟨Nat.zero_add _, Nat.zero_add _⟩
  have hx := hc.x
  have hb := hc.b
  refine lv_aload_n (x := a0) hx hb dX8_init_3_0 rfl (lv_at hl 0 rfl) ?_
  refine lv_iload_n hx hb dX8_init_3_1 rfl (lv_at hl 1 rfl) ?_
  refine lv_iload_n hx hb dX8_init_3_2 rfl (lv_at hl 2 rfl) ?_
  refine lv_iconst (v := (1 : Int32)) hx hb dX8_init_3_3 (by decide) ?_
  refine zr_cI (As := [.int v1, .int v2, .int (1 : Int32)]) (rest := []) hc hn hq rfl hd_X8_init_2 (lw_meth q825) q823 q824 q116 (Nat.le_of_ble_eq_true rfl) (Nat.le_of_ble_eq_true rfl) (fun _ _ _ _ q => m_X8_init_2 l D dA b0 gs h a0 v1 v2 (1 : Int32) q) hf dX8_init_3_4 hl.1 rfl rfl (zroom (Nat.le_of_ble_eq_true rfl)) (fun x101 h102 H locs cells slots C9 S9 hf hq hn => ?_)
  obtain ⟨rfl, rfl, rfl, rfl⟩ := zret_i hf
  exact zr_vret hc hn hr hq (fun _ _ _ _ q => q) dX8_init_3_7
