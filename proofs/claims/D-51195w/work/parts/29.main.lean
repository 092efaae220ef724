/-! 29.main (written by gen/mods.py) -/
set_option maxRecDepth 100000
theorem hd_X1_init : yX1_init.cls ≠ "java/lang/invoke/MethodHandle" ∧ yX1_init.cls ≠ "java/lang/invoke/VarHandle" ∧ (parseMethodDescriptor yX1_init.desc).map (fun d => d.parameters.length) = some 0 := by decide +kernel
def f_X1_init (h : PH) (a0 : Nat) : ZR Unit :=
  zna h 2 (1000 : Int32) fun a101 h102 =>
  zpP h102 a0 0 0 (some a101) fun h103 =>
  zpI h103 a0 0 3 (-1 : Int32) fun h104 =>
  zno h104 1 4 fun a105 h106 =>
  zcl (f_X2_init h106 a105 (3 : Int32)) fun _ h108 =>
  zpP h108 a0 0 4 (some a105) fun h109 =>
  zno h109 13 3 fun a110 h111 =>
  zcl (f_J3_init h111 a110 (10 : Int32)) fun _ h113 =>
  zpP h113 a0 0 5 (some a110) fun h114 =>
  zna h114 7 (2 : Int32) fun a115 h116 =>
  zpP h116 a0 0 6 (some a115) fun h117 =>
  zret () h117
set_option maxHeartbeats 4000000 in
set_option maxRecDepth 100000 in
theorem m_X1_init (l : Launch) (D : va_G) (dA : Nat → ClassId) (b0 : Nat) (gs : Nat → Option Nat) (h : PH) (a0 : Nat) {r : Unit} {hh : PH} {mc ms : Nat} (hf : f_X1_init h a0 = some (r, hh, mc, ms)) : zMt l D dA b0 gs yX1_init cX1_init 1 none 6 161 [.ref a0] h (evU r) hh mc ms := by
  unfold f_X1_init at hf
  refine zMt.of (by decide) (Nat.le_of_ble_eq_true rfl) ?_
  intro p e s m args below meth c hc hr hin hn ls hl
  have hl : lv_has ls 1 [(0, .ref a0)] := hl
  have hq : 0 + mc = mc ∧ 0 + ms = ms := ⟨Nat.zero_add _, Nat.zero_add _⟩
  have hx := hc.x
  have hb := hc.b
  refine lv_aload_n (x := a0) hx hb dX1_init_0 rfl (lv_at hl 0 rfl) ?_
  refine W.objInit hx hb hc.ow (hc.ts _ q136) (hc.ts _ q137) (hc.ts _ q138) rfl (by rw [hc.ml]; exact hl.1) rfl dX1_init_1 (Nat.le_of_ble_eq_true rfl) (zroomL (Nat.le_of_ble_eq_true rfl) (Nat.le_of_ble_eq_true rfl)) ?_
  refine W.eq (g2 := F0 m 4 ls []) rfl ?_
  refine lv_aload_n (x := a0) hx hb dX1_init_4 rfl (lv_at hl 0 rfl) ?_
  refine lv_sipush (v := (1000 : Int32)) hx hb dX1_init_5 (by decide) ?_
  refine zr_na2 hc hn hq q179 hf dX1_init_8 (fun a101 h102 H cells slots C9 S9 hf hq hn => ?_)
  refine zr_pP (x := (some a101)) hc hn (ci := 0) rfl rfl in_X1 0 (by decide) tyX1 tyX1_ok nmX1 q225 (fun _ h => h) (Or.inr ⟨rfl, hin, rfl⟩) (fun _ _ _ => rfl) (zn_rf _ (by decide)) (zf_rf _ (by decide)) hf dX1_init_10 (fun h103 H locs hf hn => ?_)
  refine lv_aload_n (x := a0) hx hb dX1_init_13 rfl (lv_at hl 0 rfl) ?_
  refine lv_iconst (v := (-1 : Int32)) hx hb dX1_init_14 (by decide) ?_
  refine zr_pI (x := (-1 : Int32)) hc hn (ci := 0) rfl rfl in_X1 3 (by decide) tyX1 tyX1_ok nmX1 q228 (fun _ h => h) (Or.inl rfl) (fun _ _ _ => rfl) rfl rfl hf dX1_init_15 (fun h104 H locs hf hn => ?_)
  refine lv_aload_n (x := a0) hx hb dX1_init_18 rfl (lv_at hl 0 rfl) ?_
  refine zr_new hc hn hq (ci := 1) rfl rfl in_X2 tyX2_ok q139 q140 q85 (zd_X2) hf dX1_init_19 (fun a105 h106 H cells slots C9 S9 hf hq hn => ?_)
  refine lv_dup hx hb dX1_init_22 rfl ?_
  refine lv_iconst (v := (3 : Int32)) hx hb dX1_init_23 (by decide) ?_
  refine zr_cI (As := [.int (3 : Int32)]) (rest := [.ref a105, .ref a0]) hc hn hq rfl hd_X2_init (lw_meth q143) q141 q142 q85 (Nat.le_of_ble_eq_true rfl) (Nat.le_of_ble_eq_true rfl) (fun _ _ _ _ q => m_X2_init l D dA b0 gs h106 a105 (3 : Int32) q) hf dX1_init_24 hl.1 rfl rfl (zroom (Nat.le_of_ble_eq_true rfl)) (fun x107 h108 H locs cells slots C9 S9 hf hq hn => ?_)
  refine zr_pP (x := (some a105)) hc hn (ci := 0) rfl rfl in_X1 4 (by decide) tyX1 tyX1_ok nmX1 q229 (fun _ h => h) (Or.inl rfl) (fun _ _ _ => rfl) (zn_rf _ (by decide)) (zf_rf _ (by decide)) hf dX1_init_27 (fun h109 H locs hf hn => ?_)
  refine lv_aload_n (x := a0) hx hb dX1_init_30 rfl (lv_at hl 0 rfl) ?_
  refine zr_new hc hn hq (ci := 13) rfl rfl in_J3 tyJ3_ok q204 q205 q90 (zd_J3) hf dX1_init_31 (fun a110 h111 H cells slots C9 S9 hf hq hn => ?_)
  refine lv_dup hx hb dX1_init_34 rfl ?_
  refine lv_bipush (v := (10 : Int32)) hx hb dX1_init_35 (by decide) ?_
  refine zr_cI (As := [.int (10 : Int32)]) (rest := [.ref a110, .ref a0]) hc hn hq rfl hd_J3_init (lw_meth q208) q206 q207 q90 (Nat.le_of_ble_eq_true rfl) (Nat.le_of_ble_eq_true rfl) (fun _ _ _ _ q => m_J3_init l D dA b0 gs h111 a110 (10 : Int32) q) hf dX1_init_37 hl.1 rfl rfl (zroom (Nat.le_of_ble_eq_true rfl)) (fun x112 h113 H locs cells slots C9 S9 hf hq hn => ?_)
  refine zr_pP (x := (some a110)) hc hn (ci := 0) rfl rfl in_X1 5 (by decide) tyX1 tyX1_ok nmX1 q230 (fun _ h => h) (Or.inr ⟨rfl, hin, rfl⟩) (fun _ _ _ => rfl) (zn_rf _ (by decide)) (zf_rf _ (by decide)) hf dX1_init_40 (fun h114 H locs hf hn => ?_)
  refine lv_aload_n (x := a0) hx hb dX1_init_43 rfl (lv_at hl 0 rfl) ?_
  refine lv_iconst (v := (2 : Int32)) hx hb dX1_init_44 (by decide) ?_
  refine zr_nq (ai := 7) hc hn hq (by decide) rfl q139 q223 hf dX1_init_45 (fun a115 h116 H cells slots C9 S9 hf hq hn => ?_)
  refine zr_pP (x := (some a115)) hc hn (ci := 0) rfl rfl in_X1 6 (by decide) tyX1 tyX1_ok nmX1 q231 (fun _ h => h) (Or.inr ⟨rfl, hin, rfl⟩) (fun _ _ _ => rfl) (zn_rf _ (by decide)) (zf_rf _ (by decide)) hf dX1_init_48 (fun h117 H locs hf hn => ?_)
  obtain ⟨rfl, rfl, rfl, rfl⟩ := zret_i hf
  exact zr_vret hc hn hr hq (fun _ _ _ _ q => q) dX1_init_51
theorem hd_X1_errorCode : yX1_errorCode.cls ≠ "java/lang/invoke/MethodHandle" ∧ yX1_errorCode.cls ≠ "java/lang/invoke/VarHandle" ∧ (parseMethodDescriptor yX1_errorCode.desc).map (fun d => d.parameters.length) = some 0 := by decide +kernel
def f_X1_errorCode (h : PH) (a0 : Nat) : ZR Int32 :=
  zgI h a0 0 2 fun x101 =>
  zret x101 h
set_option maxHeartbeats 4000000 in
set_option maxRecDepth 100000 in
theorem m_X1_errorCode (l : Launch) (D : va_G) (dA : Nat → ClassId) (b0 : Nat) (gs : Nat → Option Nat) (h : PH) (a0 : Nat) {r : Int32} {hh : PH} {mc ms : Nat} (hf : f_X1_errorCode h a0 = some (r, hh, mc, ms)) : zMt l D dA b0 gs yX1_errorCode cX1_errorCode 1 (some .int) 1 60 [.ref a0] h (evI r) hh mc ms := by
  unfold f_X1_errorCode at hf
  refine zMt.of (by decide) (Nat.le_of_ble_eq_true rfl) ?_
  intro p e s m args below meth c hc hr hin hn ls hl
  have hl : lv_has ls 1 [(0, .ref a0)] := hl
  have hq : 0 + mc = mc ∧ 0 + ms = ms := ⟨Nat.zero_add _, Nat.zero_add _⟩
  have hx := hc.x
  have hb := hc.b
  refine lv_aload_n (x := a0) hx hb dX1_errorCode_0 rfl (lv_at hl 0 rfl) ?_
  refine zr_gI hc hn (ci := 0) rfl rfl in_X1 2 (by decide) q227 (fun _ h => h) (fun _ _ _ => rfl) hf dX1_errorCode_1 (fun x101 hf => ?_)
  obtain ⟨rfl, rfl, rfl, rfl⟩ := zret_i hf
  exact zr_iret hc hn hr hq (fun _ _ _ _ q => q) dX1_errorCode_4
theorem hd_X1_errorPosition : yX1_errorPosition.cls ≠ "java/lang/invoke/MethodHandle" ∧ yX1_errorPosition.cls ≠ "java/lang/invoke/VarHandle" ∧ (parseMethodDescriptor yX1_errorPosition.desc).map (fun d => d.parameters.length) = some 0 := by decide +kernel
def f_X1_errorPosition (h : PH) (a0 : Nat) : ZR Int32 :=
  zgI h a0 0 3 fun x101 =>
  zret x101 h
set_option maxHeartbeats 4000000 in
set_option maxRecDepth 100000 in
theorem m_X1_errorPosition (l : Launch) (D : va_G) (dA : Nat → ClassId) (b0 : Nat) (gs : Nat → Option Nat) (h : PH) (a0 : Nat) {r : Int32} {hh : PH} {mc ms : Nat} (hf : f_X1_errorPosition h a0 = some (r, hh, mc, ms)) : zMt l D dA b0 gs yX1_errorPosition cX1_errorPosition 1 (some .int) 1 60 [.ref a0] h (evI r) hh mc ms := by
  unfold f_X1_errorPosition at hf
  refine zMt.of (by decide) (Nat.le_of_ble_eq_true rfl) ?_
  intro p e s m args below meth c hc hr hin hn ls hl
  have hl : lv_has ls 1 [(0, .ref a0)] := hl
  have hq : 0 + mc = mc ∧ 0 + ms = ms := ⟨Nat.zero_add _, Nat.zero_add _⟩
  have hx := hc.x
  have hb := hc.b
  refine lv_aload_n (x := a0) hx hb dX1_errorPosition_0 rfl (lv_at hl 0 rfl) ?_
  refine zr_gI hc hn (ci := 0) rfl rfl in_X1 3 (by decide) q228 (fun _ h => h) (fun _ _ _ => rfl) hf dX1_errorPosition_1 (fun x101 hf => ?_)
  obtain ⟨rfl, rfl, rfl, rfl⟩ := zret_i hf
  exact zr_iret hc hn hr hq (fun _ _ _ _ q => q) dX1_errorPosition_4
theorem hd_X1_isIn : yX1_isIn.cls ≠ "java/lang/invoke/MethodHandle" ∧ yX1_isIn.cls ≠ "java/lang/invoke/VarHandle" ∧ (parseMethodDescriptor yX1_isIn.desc).map (fun d => d.parameters.length) = some 3 := by decide +kernel
def f_X1_isIn (h : PH) (v0 : Int32) (v1 : Int32) (v2 : Int32) : ZR Int32 :=
  if v0 < v1 then
    (zret (0 : Int32) h)
  else
    (if v2 < v0 then
      (zret (0 : Int32) h)
    else
      (zret (1 : Int32) h))
set_option maxHeartbeats 4000000 in
set_option maxRecDepth 100000 in
theorem m_X1_isIn (l : Launch) (D : va_G) (dA : Nat → ClassId) (b0 : Nat) (gs : Nat → Option Nat) (h : PH) (v0 : Int32) (v1 : Int32) (v2 : Int32) {r : Int32} {hh : PH} {mc ms : Nat} (hf : f_X1_isIn h v0 v1 v2 = some (r, hh, mc, ms)) : zMt l D dA b0 gs yX1_isIn cX1_isIn 3 (some .boolean) 1 60 [.int v0, .int v1, .int v2] h (evI r) hh mc ms := by
  unfold f_X1_isIn at hf
  refine zMt.of (by decide) (Nat.le_of_ble_eq_true rfl) ?_
  intro p e s m args below meth c hc hr hin hn ls hl
  have hl : lv_has ls 3 [(0, .int v0), (1, .int v1), (2, .int v2)] := hl
  have hq : 0 + mc = mc ∧ 0 + ms = ms := ⟨Nat.zero_add _, Nat.zero_add _⟩
  have hx := hc.x
  have hb := hc.b
  refine lv_iload_n hx hb dX1_isIn_0 rfl (lv_at hl 0 rfl) ?_
  refine lv_iload_n hx hb dX1_isIn_1 rfl (lv_at hl 1 rfl) ?_
  refine lv_icmp_lt (tgt := 14) hx hb dX1_isIn_2 (by decide) (fun c9 => ?_) (fun c9 => ?_)
  · have hf := zif_t c9 hf
    refine lv_iconst (v := (0 : Int32)) hx hb dX1_isIn_14 (by decide) ?_
    obtain ⟨rfl, rfl, rfl, rfl⟩ := zret_i hf
    exact zr_zret hc hn hr (by decide) hq (fun _ _ _ _ q => q) dX1_isIn_15
  · have hf := zif_f c9 hf
    refine lv_iload_n hx hb dX1_isIn_5 rfl (lv_at hl 0 rfl) ?_
    refine lv_iload_n hx hb dX1_isIn_6 rfl (lv_at hl 2 rfl) ?_
    refine lv_icmp_gt (tgt := 14) hx hb dX1_isIn_7 (by decide) (fun c9 => ?_) (fun c9 => ?_)
    · have hf := zif_t c9 hf
      refine lv_iconst (v := (0 : Int32)) hx hb dX1_isIn_14 (by decide) ?_
      obtain ⟨rfl, rfl, rfl, rfl⟩ := zret_i hf
      exact zr_zret hc hn hr (by decide) hq (fun _ _ _ _ q => q) dX1_isIn_15
    · have hf := zif_f c9 hf
      refine lv_iconst (v := (1 : Int32)) hx hb dX1_isIn_10 (by decide) ?_
      refine lv_goto (tgt := 15) hx hb dX1_isIn_11 (by decide) ?_
      obtain ⟨rfl, rfl, rfl, rfl⟩ := zret_i hf
      exact zr_zret hc hn hr (by decide) hq (fun _ _ _ _ q => q) dX1_isIn_15
theorem hd_X1_exists : yX1_exists.cls ≠ "java/lang/invoke/MethodHandle" ∧ yX1_exists.cls ≠ "java/lang/invoke/VarHandle" ∧ (parseMethodDescriptor yX1_exists.desc).map (fun d => d.parameters.length) = some 1 := by decide +kernel
def f_X1_exists (h : PH) (a0 : Nat) (v1 : Int32) : ZR Int32 :=
  zcl (f_X1_isIn h v1 (0 : Int32) (5 : Int32)) fun x101 h102 =>
  if x101 = 0 then
    (zret (0 : Int32) h102)
  else
    (zgP h102 a0 0 4 fun x103 =>
    znn x103 fun a104 =>
    zgP h102 a104 1 0 fun x105 =>
    znn x105 fun a106 =>
    zaP h102 a106 6 v1 fun x107 =>
    znul x107
      (zret (0 : Int32) h102)
      (fun a108 =>
        zret (1 : Int32) h102))
set_option maxHeartbeats 4000000 in
set_option maxRecDepth 100000 in
theorem m_X1_exists (l : Launch) (D : va_G) (dA : Nat → ClassId) (b0 : Nat) (gs : Nat → Option Nat) (h : PH) (a0 : Nat) (v1 : Int32) {r : Int32} {hh : PH} {mc ms : Nat} (hf : f_X1_exists h a0 v1 = some (r, hh, mc, ms)) : zMt l D dA b0 gs yX1_exists cX1_exists 2 (some .boolean) 2 82 [.ref a0, .int v1] h (evI r) hh mc ms := by
  unfold f_X1_exists at hf
  refine zMt.of (by decide) (Nat.le_of_ble_eq_true rfl) ?_
  intro p e s m args below meth c hc hr hin hn ls hl
  have hl : lv_has ls 2 [(0, .ref a0), (1, .int v1)] := hl
  have hq : 0 + mc = mc ∧ 0 + ms = ms := ⟨Nat.zero_add _, Nat.zero_add _⟩
  have hx := hc.x
  have hb := hc.b
  refine lv_iload_n hx hb dX1_exists_0 rfl (lv_at hl 1 rfl) ?_
  refine lv_iconst (v := (0 : Int32)) hx hb dX1_exists_1 (by decide) ?_
  refine lv_iconst (v := (5 : Int32)) hx hb dX1_exists_2 (by decide) ?_
  refine zr_cSI (As := [.int v1, .int (0 : Int32), .int (5 : Int32)]) (rest := []) hc hn hq hd_X1_isIn (lw_S q259 q260 q84 q261) (Nat.le_of_ble_eq_true rfl) (Nat.le_of_ble_eq_true rfl) (fun _ _ _ _ q => m_X1_isIn l D dA b0 gs h v1 (0 : Int32) (5 : Int32) q) hf dX1_exists_3 hl.1 rfl rfl (zroom (Nat.le_of_ble_eq_true rfl)) (fun x101 h102 H locs cells slots C9 S9 hf hq hn => ?_)
  refine lv_if_eq (tgt := 25) hx hb dX1_exists_6 (by decide) (fun c9 => ?_) (fun c9 => ?_)
  · have hf := zif_t c9 hf
    refine lv_iconst (v := (0 : Int32)) hx hb dX1_exists_25 (by decide) ?_
    obtain ⟨rfl, rfl, rfl, rfl⟩ := zret_i hf
    exact zr_zret hc hn hr (by decide) hq (fun _ _ _ _ q => q) dX1_exists_26
  · have hf := zif_f c9 hf
    refine lv_aload_n (x := a0) hx hb dX1_exists_9 rfl (lv_at hl 0 rfl) ?_
    refine zr_gP hc hn (ci := 0) rfl rfl in_X1 4 (by decide) q229 (fun _ h => h) (fun _ _ _ => rfl) hf dX1_exists_10 (fun x103 hf => ?_)
    obtain ⟨a104, e9, hf9⟩ := znn_i hf
    subst e9
    have hf := hf9
    clear hf9
    refine zr_gPN hc hn (ci := 1) rfl rfl in_X2 0 (by decide) q187 (fun _ h => h) (fun _ _ _ => rfl) hf dX1_exists_13 (fun x105 hf => ?_)
    refine lv_iload_n hx hb dX1_exists_16 rfl (lv_at hl 1 rfl) ?_
    obtain ⟨a106, e9, hf9⟩ := znn_i hf
    subst e9
    have hf := hf9
    clear hf9
    refine zr_aP (ai := 6) (by decide) hc hn hf dX1_exists_17 (fun x107 hf => ?_)
    refine zr_ifnull (tgt := 25) hx hb hf dX1_exists_18 (by decide) (fun e9 hf9 => ?_) (fun a108 e9 hf9 => ?_)
    · subst e9
      have hf := hf9
      clear hf9
      refine lv_iconst (v := (0 : Int32)) hx hb dX1_exists_25 (by decide) ?_
      obtain ⟨rfl, rfl, rfl, rfl⟩ := zret_i hf
      exact zr_zret hc hn hr (by decide) hq (fun _ _ _ _ q => q) dX1_exists_26
    · subst e9
      have hf := hf9
      clear hf9
      refine lv_iconst (v := (1 : Int32)) hx hb dX1_exists_21 (by decide) ?_
      refine lv_goto (tgt := 26) hx hb dX1_exists_22 (by decide) ?_
      obtain ⟨rfl, rfl, rfl, rfl⟩ := zret_i hf
      exact zr_zret hc hn hr (by decide) hq (fun _ _ _ _ q => q) dX1_exists_26
theorem hd_X1_limit : yX1_limit.cls ≠ "java/lang/invoke/MethodHandle" ∧ yX1_limit.cls ≠ "java/lang/invoke/VarHandle" ∧ (parseMethodDescriptor yX1_limit.desc).map (fun d => d.parameters.length) = some 0 := by decide +kernel
def f_X1_limit (h : PH) (a0 : Nat) : ZR Int32 :=
  zgP h a0 0 4 fun x101 =>
  znn x101 fun a102 =>
  zgI h a102 1 3 fun x103 =>
  zret x103 h
set_option maxHeartbeats 4000000 in
set_option maxRecDepth 100000 in
theorem m_X1_limit (l : Launch) (D : va_G) (dA : Nat → ClassId) (b0 : Nat) (gs : Nat → Option Nat) (h : PH) (a0 : Nat) {r : Int32} {hh : PH} {mc ms : Nat} (hf : f_X1_limit h a0 = some (r, hh, mc, ms)) : zMt l D dA b0 gs yX1_limit cX1_limit 1 (some .int) 1 60 [.ref a0] h (evI r) hh mc ms := by
  unfold f_X1_limit at hf
  refine zMt.of (by decide) (Nat.le_of_ble_eq_true rfl) ?_
  intro p e s m args below meth c hc hr hin hn ls hl
  have hl : lv_has ls 1 [(0, .ref a0)] := hl
  have hq : 0 + mc = mc ∧ 0 + ms = ms := ⟨Nat.zero_add _, Nat.zero_add _⟩
  have hx := hc.x
  have hb := hc.b
  refine lv_aload_n (x := a0) hx hb dX1_limit_0 rfl (lv_at hl 0 rfl) ?_
  refine zr_gP hc hn (ci := 0) rfl rfl in_X1 4 (by decide) q229 (fun _ h => h) (fun _ _ _ => rfl) hf dX1_limit_1 (fun x101 hf => ?_)
  obtain ⟨a102, e9, hf9⟩ := znn_i hf
  subst e9
  have hf := hf9
  clear hf9
  refine zr_gIN hc hn (ci := 1) rfl rfl in_X2 3 (by decide) q194 (fun _ h => h) (fun _ _ _ => rfl) hf dX1_limit_4 (fun x103 hf => ?_)
  obtain ⟨rfl, rfl, rfl, rfl⟩ := zret_i hf
  exact zr_iret hc hn hr hq (fun _ _ _ _ q => q) dX1_limit_7
theorem hd_X1_logSize : yX1_logSize.cls ≠ "java/lang/invoke/MethodHandle" ∧ yX1_logSize.cls ≠ "java/lang/invoke/VarHandle" ∧ (parseMethodDescriptor yX1_logSize.desc).map (fun d => d.parameters.length) = some 0 := by decide +kernel
def f_X1_logSize (h : PH) (a0 : Nat) : ZR Int32 :=
  zgP h a0 0 4 fun x101 =>
  znn x101 fun a102 =>
  zgP h a102 1 2 fun x103 =>
  znn x103 fun a104 =>
  zrc h a104 2 <| zcl (f_X3_size h a104) fun x105 h106 =>
  zret x105 h106
set_option maxHeartbeats 4000000 in
set_option maxRecDepth 100000 in
theorem m_X1_logSize (l : Launch) (D : va_G) (dA : Nat → ClassId) (b0 : Nat) (gs : Nat → Option Nat) (h : PH) (a0 : Nat) {r : Int32} {hh : PH} {mc ms : Nat} (hf : f_X1_logSize h a0 = some (r, hh, mc, ms)) : zMt l D dA b0 gs yX1_logSize cX1_logSize 1 (some .int) 3 100 [.ref a0] h (evI r) hh mc ms := by
  unfold f_X1_logSize at hf
  refine zMt.of (by decide) (Nat.le_of_ble_eq_true rfl) ?_
  intro p e s m args below meth c hc hr hin hn ls hl
  have hl : lv_has ls 1 [(0, .ref a0)] := hl
  have hq : 0 + mc = mc ∧ 0 + ms = ms := ⟨Nat.zero_add _, Nat.zero_add _⟩
  have hx := hc.x
  have hb := hc.b
  refine lv_aload_n (x := a0) hx hb dX1_logSize_0 rfl (lv_at hl 0 rfl) ?_
  refine zr_gP hc hn (ci := 0) rfl rfl in_X1 4 (by decide) q229 (fun _ h => h) (fun _ _ _ => rfl) hf dX1_logSize_1 (fun x101 hf => ?_)
  obtain ⟨a102, e9, hf9⟩ := znn_i hf
  subst e9
  have hf := hf9
  clear hf9
  refine zr_gPN hc hn (ci := 1) rfl rfl in_X2 2 (by decide) q191 (fun _ h => h) (fun _ _ _ => rfl) hf dX1_logSize_4 (fun x103 hf => ?_)
  obtain ⟨a104, e9, hf9⟩ := znn_i hf
  subst e9
  have hf := hf9
  clear hf9
  refine zr_cVI (As := []) (rest := []) hc hn hq (ci := 2) rfl ⟨rfl, hd_X3_size⟩ (lw_V q270 q271 q272 q86 q273) (Nat.le_of_ble_eq_true rfl) (Nat.le_of_ble_eq_true rfl) (fun _ _ _ _ q => m_X3_size l D dA b0 gs h a104 q) hf dX1_logSize_7 hl.1 rfl rfl (zroom (Nat.le_of_ble_eq_true rfl)) (fun x105 h106 H locs cells slots C9 S9 hf hq hn => ?_)
  obtain ⟨rfl, rfl, rfl, rfl⟩ := zret_i hf
  exact zr_iret hc hn hr hq (fun _ _ _ _ q => q) dX1_logSize_10
theorem hd_X1_checkState : yX1_checkState.cls ≠ "java/lang/invoke/MethodHandle" ∧ yX1_checkState.cls ≠ "java/lang/invoke/VarHandle" ∧ (parseMethodDescriptor yX1_checkState.desc).map (fun d => d.parameters.length) = some 1 := by decide +kernel
def f_X1_checkState (h : PH) (v0 : Int32) : ZR (ZX Unit) :=
  if v0 = 0 then
    (zth 3 h)
  else
    (zret (.inl ()) h)
set_option maxHeartbeats 4000000 in
set_option maxRecDepth 100000 in
theorem m_X1_checkState (l : Launch) (hl0 : l.stackTraces = false) (D : va_G) (dA : Nat → ClassId) (b0 : Nat) (gs : Nat → Option Nat) (h : PH) (v0 : Int32) {r : (ZX Unit)} {hh : PH} {mc ms : Nat} (hf : f_X1_checkState h v0 = some (r, hh, mc, ms)) : zMx l D dA b0 gs yX1_checkState (ws_ yX1_checkState cX1_checkState 1 none) 6 120 [.int v0] h evU r hh mc ms := by
  unfold f_X1_checkState at hf
  refine zMx.of (by decide) (Nat.le_of_ble_eq_true rfl) ?_
  intro p e s m args below meth c hc hr hin ht hn ls hl
  have hl : lv_has ls 1 [(0, .int v0)] := hl
  have hq : 0 + mc = mc ∧ 0 + ms = ms := ⟨Nat.zero_add _, Nat.zero_add _⟩
  have hx := hc.x
  have hb := hc.b
  refine lv_iload_n hx hb dX1_checkState_0 rfl (lv_at hl 0 rfl) ?_
  refine lv_if_ne (tgt := 12) hx hb dX1_checkState_1 (by decide) (fun c9 => ?_) (fun c9 => ?_)
  · have hf := zif_f c9 hf
    obtain ⟨rfl, rfl, rfl, rfl⟩ := zretx_i hf
    exact zx_ret (zr_vret hc hn hr hq (fun _ _ _ _ q => ⟨_, rfl, q⟩) dX1_checkState_12)
  · have hf := zif_t c9 hf
    exact zr_th3 hl0 hc hn hq hf (fun x hx => (ht x hx).elim) dX1_checkState_4 dX1_checkState_7 dX1_checkState_8 dX1_checkState_11 hl.1 (zroom (Nat.le_of_ble_eq_true rfl)) (Nat.le_of_ble_eq_true rfl) (Nat.le_of_ble_eq_true rfl)
theorem hd_X1_append : yX1_append.cls ≠ "java/lang/invoke/MethodHandle" ∧ yX1_append.cls ≠ "java/lang/invoke/VarHandle" ∧ (parseMethodDescriptor yX1_append.desc).map (fun d => d.parameters.length) = some 5 := by decide +kernel
def f_X1_append_b51 : Nat → PH → Nat → Nat → Int32 → ZR (ZX Int32)
  | 0 => fun _ _ _ _ => none
  | n + 1 => fun h a0 a6 v7 =>
    if (20 : Int32) ≤ v7 then
      (zgI h a0 0 1 fun x101 =>
      znm (x101 + (20 : Int32)) fun x102 =>
      zpI h a0 0 1 x102 fun h103 =>
      zgI h103 a0 0 1 fun x104 =>
      zret (.inl x104) h103)
    else
      (zgP h a0 0 0 fun x105 =>
      zgI h a0 0 1 fun x106 =>
      znm (x106 + v7) fun x107 =>
      zgd (¬ (4 : Int32) = 0) <|
      znm (v7 / (4 : Int32)) fun x108 =>
      zaI h a6 0 x108 fun x109 =>
      zgd (¬ (4 : Int32) = 0) <|
      znm (v7 - v7 / (4 : Int32) * (4 : Int32)) fun x110 =>
      znm ((8 : Int32) * x110) fun x111 =>
      znm ((24 : Int32) - x111) fun x112 =>
      znm (x109 >>> (x112 &&& 31)) fun x113 =>
      znm x113.toInt8.toInt32 fun x114 =>
      znn x105 fun a115 =>
      zsY h a115 x107 x114 fun h116 =>
      znm (v7 + (1 : Int32)) fun x117 =>
      f_X1_append_b51 n h116 a0 a6 x117)
def f_X1_append_b18 (h : PH) (a0 : Nat) (v1 : Int32) (v2 : Int32) (v3 : Int32) (v4 : Int32) (v5 : Int32) (s0 : Int32) : ZR (ZX Int32) :=
  zcx (f_X1_checkState h s0) fun _ h102 =>
  zna h102 0 (5 : Int32) fun a103 h104 =>
  zsI h104 a103 0 (0 : Int32) v1 fun h105 =>
  zsI h105 a103 0 (1 : Int32) v2 fun h106 =>
  zsI h106 a103 0 (2 : Int32) v3 fun h107 =>
  zsI h107 a103 0 (3 : Int32) v4 fun h108 =>
  zsI h108 a103 0 (4 : Int32) v5 fun h109 =>
  f_X1_append_b51 zFU h109 a0 a103 (0 : Int32)
def f_X1_append (h : PH) (a0 : Nat) (v1 : Int32) (v2 : Int32) (v3 : Int32) (v4 : Int32) (v5 : Int32) : ZR (ZX Int32) :=
  zgI h a0 0 1 fun x101 =>
  znm (x101 + (20 : Int32)) fun x102 =>
  if (1000 : Int32) < x102 then
    (f_X1_append_b18 h a0 v1 v2 v3 v4 v5 (0 : Int32))
  else
    (f_X1_append_b18 h a0 v1 v2 v3 v4 v5 (1 : Int32))
set_option maxHeartbeats 4000000 in
set_option maxRecDepth 100000 in
theorem m_X1_append_b51 {p : Program} {l : Launch} {e : Env} {s : State} {m : MethodId} {args : Array Value} {below : List Frame} {meth : Method} {c : Code} {D : va_G} {dA : Nat → ClassId} {b0 : Nat} {gs : Nat → Option Nat} (hc : zC D dA b0 gs yX1_append.cls cX1_append 8 p c s m args meth) (hr : meth.sig.returnType = (some .int)) (hin : meth.name = yX1_append.name) {r : (ZX Int32)} {hh : PH} {mc ms : Nat} (hl0 : l.stackTraces = false) (ht : ∀ x ∈ c.exceptionTable.toList, False) : ∀ (n : Nat) (h : PH) (a0 : Nat) (a6 : Nat) (v7 : Int32) (C9 S9 : Nat) (H : Heap) (locs : List Loc) (cells slots : Nat), f_X1_append_b51 n h a0 a6 v7 = some (r, hh, C9, S9) → cells + C9 = mc ∧ slots + S9 = ms → zM D dA b0 gs s h H locs → ∀ ls : Array Slot, lv_has ls 8 [(0, .ref a0), (6, .ref a6), (7, .int v7)] → W p l e ({ frames := 7, cells := mc, slots := ms, locals := 140 } : Room) s m args below meth c H locs cells slots (vx_MQ below (zQX D dA b0 gs evI r hh) (zXC D dA b0 gs r hh) args s mc ms (zA b0)) (F0 m 51 ls []) := by
  have hx := hc.x
  have hb := hc.b
  intro n
  induction n with
  | zero =>
    intro h a0 a6 v7 C9 S9 H locs cells slots hf hq hn ls hl
    cases hf
  | succ n ih =>
    intro h a0 a6 v7 C9 S9 H locs cells slots hf hq hn ls hl
    unfold f_X1_append_b51 at hf
    refine lv_iload hx hb dX1_append_51 (lv_at hl 2 rfl) ?_
    refine lv_bipush (v := (20 : Int32)) hx hb dX1_append_53 (by decide) ?_
    refine lv_icmp_ge (tgt := 95) hx hb dX1_append_55 (by decide) (fun c9 => ?_) (fun c9 => ?_)
    · have hf := zif_t c9 hf
      refine lv_aload_n (x := a0) hx hb dX1_append_95 rfl (lv_at hl 0 rfl) ?_
      refine lv_dup hx hb dX1_append_96 rfl ?_
      refine zr_gI hc hn (ci := 0) rfl rfl in_X1 1 (by decide) q226 (fun _ h => h) (fun _ _ _ => rfl) hf dX1_append_97 (fun x101 hf => ?_)
      refine lv_bipush (v := (20 : Int32)) hx hb dX1_append_100 (by decide) ?_
      refine lv_iadd hx hb dX1_append_102 ?_
      refine zr_nmI hf (fun x102 hf => ?_)
      refine zr_pI (x := x102) hc hn (ci := 0) rfl rfl in_X1 1 (by decide) tyX1 tyX1_ok nmX1 q226 (fun _ h => h) (Or.inl rfl) (fun _ _ _ => rfl) rfl rfl hf dX1_append_103 (fun h103 H locs hf hn => ?_)
      refine lv_aload_n (x := a0) hx hb dX1_append_106 rfl (lv_at hl 0 rfl) ?_
      refine zr_gI hc hn (ci := 0) rfl rfl in_X1 1 (by decide) q226 (fun _ h => h) (fun _ _ _ => rfl) hf dX1_append_107 (fun x104 hf => ?_)
      obtain ⟨rfl, rfl, rfl, rfl⟩ := zretx_i hf
      exact zx_ret (zr_iret hc hn hr hq (fun _ _ _ _ q => ⟨_, rfl, q⟩) dX1_append_110)
    · have hf := zif_f c9 hf
      refine lv_aload_n (x := a0) hx hb dX1_append_58 rfl (lv_at hl 0 rfl) ?_
      refine zr_gP hc hn (ci := 0) rfl rfl in_X1 0 (by decide) q225 (fun _ h => h) (fun _ _ _ => rfl) hf dX1_append_59 (fun x105 hf => ?_)
      refine lv_aload_n (x := a0) hx hb dX1_append_62 rfl (lv_at hl 0 rfl) ?_
      refine zr_gI hc hn (ci := 0) rfl rfl in_X1 1 (by decide) q226 (fun _ h => h) (fun _ _ _ => rfl) hf dX1_append_63 (fun x106 hf => ?_)
      refine lv_iload hx hb dX1_append_66 (lv_at hl 2 rfl) ?_
      refine lv_iadd hx hb dX1_append_68 ?_
      refine zr_nmI hf (fun x107 hf => ?_)
      refine lv_aload (x := a6) hx hb dX1_append_69 (lv_at hl 1 rfl) ?_
      refine lv_iload hx hb dX1_append_71 (lv_at hl 2 rfl) ?_
      refine lv_iconst (v := (4 : Int32)) hx hb dX1_append_73 (by decide) ?_
      obtain ⟨hne, hf⟩ := zgd_i hf
      refine lv_idiv hx hb dX1_append_74 hne ?_
      refine zr_nmI hf (fun x108 hf => ?_)
      refine zr_aI0 hc hn hf dX1_append_75 (fun x109 hf => ?_)
      refine lv_bipush (v := (24 : Int32)) hx hb dX1_append_76 (by decide) ?_
      refine lv_bipush (v := (8 : Int32)) hx hb dX1_append_78 (by decide) ?_
      refine lv_iload hx hb dX1_append_80 (lv_at hl 2 rfl) ?_
      refine lv_iconst (v := (4 : Int32)) hx hb dX1_append_82 (by decide) ?_
      obtain ⟨hne, hf⟩ := zgd_i hf
      refine lv_irem hx hb dX1_append_83 hne ?_
      refine zr_nmI hf (fun x110 hf => ?_)
      refine lv_imul hx hb dX1_append_84 ?_
      refine zr_nmI hf (fun x111 hf => ?_)
      refine lv_isub hx hb dX1_append_85 ?_
      refine zr_nmI hf (fun x112 hf => ?_)
      refine lv_ishr hx hb dX1_append_86 ?_
      refine zr_nmI hf (fun x113 hf => ?_)
      refine lv_i2b (v := x113.toInt8.toInt32) hx hb dX1_append_87 rfl ?_
      refine zr_nmI hf (fun x114 hf => ?_)
      obtain ⟨a115, e9, hf9⟩ := znn_i hf
      subst e9
      have hf := hf9
      clear hf9
      refine zr_sY hc hn hf dX1_append_88 (fun h116 H locs hf hn => ?_)
      obtain ⟨x117, ex117, hf⟩ := znm_i hf
      refine lv_iinc (v := x117) (lv' := [(7, .int x117), (0, .ref a0), (6, .ref a6)]) hx hb dX1_append_89 hl (k := 2) rfl (by rw [ex117]; rfl) (by decide) rfl (fun ls hl => ?_)
      refine lv_goto (tgt := 51) hx hb dX1_append_92 (by decide) ?_
      exact ih h116 a0 a6 x117 _ _ _ _ _ _ hf hq hn _ (lv_sub hl [1, 2, 0] rfl)
set_option maxHeartbeats 4000000 in
set_option maxRecDepth 100000 in
theorem m_X1_append_b18 {p : Program} {l : Launch} {e : Env} {s : State} {m : MethodId} {args : Array Value} {below : List Frame} {meth : Method} {c : Code} {D : va_G} {dA : Nat → ClassId} {b0 : Nat} {gs : Nat → Option Nat} (hc : zC D dA b0 gs yX1_append.cls cX1_append 8 p c s m args meth) (hr : meth.sig.returnType = (some .int)) (hin : meth.name = yX1_append.name) {r : (ZX Int32)} {hh : PH} {mc ms : Nat} (hl0 : l.stackTraces = false) (ht : ∀ x ∈ c.exceptionTable.toList, False) : ∀ (h : PH) (a0 : Nat) (v1 : Int32) (v2 : Int32) (v3 : Int32) (v4 : Int32) (v5 : Int32) (s0 : Int32) (C9 S9 : Nat) (H : Heap) (locs : List Loc) (cells slots : Nat), f_X1_append_b18 h a0 v1 v2 v3 v4 v5 s0 = some (r, hh, C9, S9) → cells + C9 = mc ∧ slots + S9 = ms → zM D dA b0 gs s h H locs → ∀ ls : Array Slot, lv_has ls 8 [(0, .ref a0), (1, .int v1), (2, .int v2), (3, .int v3), (4, .int v4), (5, .int v5)] → W p l e ({ frames := 7, cells := mc, slots := ms, locals := 140 } : Room) s m args below meth c H locs cells slots (vx_MQ below (zQX D dA b0 gs evI r hh) (zXC D dA b0 gs r hh) args s mc ms (zA b0)) (F0 m 18 ls [.int s0]) := by
  have hx := hc.x
  have hb := hc.b
  intro h a0 v1 v2 v3 v4 v5 s0 C9 S9 H locs cells slots hf hq hn ls hl
  unfold f_X1_append_b18 at hf
  refine zx_SU (As := [.int s0]) (rest := []) hc hn hq (fun x hx => (ht x hx).elim) hd_X1_checkState (lw_S q286 q287 q84 q288) (Nat.le_of_ble_eq_true rfl) (Nat.le_of_ble_eq_true rfl) (fun _ _ _ _ q => m_X1_checkState l hl0 D dA b0 gs h s0 q) hf dX1_append_18 hl.1 rfl rfl (zroom (Nat.le_of_ble_eq_true rfl)) (fun x101 h102 H locs cells slots C9 S9 hf hq hn => ?_)
  refine lv_iconst (v := (5 : Int32)) hx hb dX1_append_21 (by decide) ?_
  refine zr_na0 hc hn hq q180 hf dX1_append_22 (fun a103 h104 H cells slots C9 S9 hf hq hn => ?_)
  refine lv_dup hx hb dX1_append_24 rfl ?_
  refine lv_iconst (v := (0 : Int32)) hx hb dX1_append_25 (by decide) ?_
  refine lv_iload_n hx hb dX1_append_26 rfl (lv_at hl 1 rfl) ?_
  refine zr_sI hc hn hf dX1_append_27 (fun h105 H locs hf hn => ?_)
  refine lv_dup hx hb dX1_append_28 rfl ?_
  refine lv_iconst (v := (1 : Int32)) hx hb dX1_append_29 (by decide) ?_
  refine lv_iload_n hx hb dX1_append_30 rfl (lv_at hl 2 rfl) ?_
  refine zr_sI hc hn hf dX1_append_31 (fun h106 H locs hf hn => ?_)
  refine lv_dup hx hb dX1_append_32 rfl ?_
  refine lv_iconst (v := (2 : Int32)) hx hb dX1_append_33 (by decide) ?_
  refine lv_iload_n hx hb dX1_append_34 rfl (lv_at hl 3 rfl) ?_
  refine zr_sI hc hn hf dX1_append_35 (fun h107 H locs hf hn => ?_)
  refine lv_dup hx hb dX1_append_36 rfl ?_
  refine lv_iconst (v := (3 : Int32)) hx hb dX1_append_37 (by decide) ?_
  refine lv_iload hx hb dX1_append_38 (lv_at hl 4 rfl) ?_
  refine zr_sI hc hn hf dX1_append_40 (fun h108 H locs hf hn => ?_)
  refine lv_dup hx hb dX1_append_41 rfl ?_
  refine lv_iconst (v := (4 : Int32)) hx hb dX1_append_42 (by decide) ?_
  refine lv_iload hx hb dX1_append_43 (lv_at hl 5 rfl) ?_
  refine zr_sI hc hn hf dX1_append_45 (fun h109 H locs hf hn => ?_)
  refine lv_astore (x := a103) (lv' := [(6, .ref a103), (0, .ref a0), (1, .int v1), (2, .int v2), (3, .int v3), (4, .int v4), (5, .int v5)]) hx hb dX1_append_46 hl (by decide) rfl (fun ls hl => ?_)
  refine lv_iconst (v := (0 : Int32)) hx hb dX1_append_48 (by decide) ?_
  refine lv_istore (lv' := [(7, .int (0 : Int32)), (6, .ref a103), (0, .ref a0), (1, .int v1), (2, .int v2), (3, .int v3), (4, .int v4), (5, .int v5)]) hx hb dX1_append_49 hl (by decide) rfl (fun ls hl => ?_)
  exact m_X1_append_b51 hc hr hin hl0 ht zFU h109 a0 a103 (0 : Int32) _ _ _ _ _ _ hf hq hn _ (lv_sub hl [2, 1, 0] rfl)
set_option maxHeartbeats 4000000 in
set_option maxRecDepth 100000 in
theorem m_X1_append (l : Launch) (hl0 : l.stackTraces = false) (D : va_G) (dA : Nat → ClassId) (b0 : Nat) (gs : Nat → Option Nat) (h : PH) (a0 : Nat) (v1 : Int32) (v2 : Int32) (v3 : Int32) (v4 : Int32) (v5 : Int32) {r : (ZX Int32)} {hh : PH} {mc ms : Nat} (hf : f_X1_append h a0 v1 v2 v3 v4 v5 = some (r, hh, mc, ms)) : zMx l D dA b0 gs yX1_append (ws_ yX1_append cX1_append 8 (some .int)) 7 140 [.ref a0, .int v1, .int v2, .int v3, .int v4, .int v5] h evI r hh mc ms := by
  unfold f_X1_append at hf
  refine zMx.of (by decide) (Nat.le_of_ble_eq_true rfl) ?_
  intro p e s m args below meth c hc hr hin ht hn ls hl
  have hl : lv_has ls 8 [(0, .ref a0), (1, .int v1), (2, .int v2), (3, .int v3), (4, .int v4), (5, .int v5)] := hl
  have hq : 0 + mc = mc ∧ 0 + ms = ms := ⟨Nat.zero_add _, Nat.zero_add _⟩
  have hx := hc.x
  have hb := hc.b
  refine lv_aload_n (x := a0) hx hb dX1_append_0 rfl (lv_at hl 0 rfl) ?_
  refine zr_gI hc hn (ci := 0) rfl rfl in_X1 1 (by decide) q226 (fun _ h => h) (fun _ _ _ => rfl) hf dX1_append_1 (fun x101 hf => ?_)
  refine lv_bipush (v := (20 : Int32)) hx hb dX1_append_4 (by decide) ?_
  refine lv_iadd hx hb dX1_append_6 ?_
  refine zr_nmI hf (fun x102 hf => ?_)
  refine lv_sipush (v := (1000 : Int32)) hx hb dX1_append_7 (by decide) ?_
  refine lv_icmp_gt (tgt := 17) hx hb dX1_append_10 (by decide) (fun c9 => ?_) (fun c9 => ?_)
  · have hf := zif_t c9 hf
    refine lv_iconst (v := (0 : Int32)) hx hb dX1_append_17 (by decide) ?_
    exact m_X1_append_b18 hc hr hin hl0 ht h a0 v1 v2 v3 v4 v5 (0 : Int32) _ _ _ _ _ _ hf hq hn _ (lv_sub hl [0, 1, 2, 3, 4, 5] rfl)
  · have hf := zif_f c9 hf
    refine lv_iconst (v := (1 : Int32)) hx hb dX1_append_13 (by decide) ?_
    refine lv_goto (tgt := 18) hx hb dX1_append_14 (by decide) ?_
    exact m_X1_append_b18 hc hr hin hl0 ht h a0 v1 v2 v3 v4 v5 (1 : Int32) _ _ _ _ _ _ hf hq hn _ (lv_sub hl [0, 1, 2, 3, 4, 5] rfl)
theorem hd_X1_checkIndex : yX1_checkIndex.cls ≠ "java/lang/invoke/MethodHandle" ∧ yX1_checkIndex.cls ≠ "java/lang/invoke/VarHandle" ∧ (parseMethodDescriptor yX1_checkIndex.desc).map (fun d => d.parameters.length) = some 1 := by decide +kernel
def f_X1_checkIndex (h : PH) (v0 : Int32) : ZR (ZX Unit) :=
  if v0 = 0 then
    (zth 1 h)
  else
    (zret (.inl ()) h)
set_option maxHeartbeats 4000000 in
set_option maxRecDepth 100000 in
theorem m_X1_checkIndex (l : Launch) (hl0 : l.stackTraces = false) (D : va_G) (dA : Nat → ClassId) (b0 : Nat) (gs : Nat → Option Nat) (h : PH) (v0 : Int32) {r : (ZX Unit)} {hh : PH} {mc ms : Nat} (hf : f_X1_checkIndex h v0 = some (r, hh, mc, ms)) : zMx l D dA b0 gs yX1_checkIndex (ws_ yX1_checkIndex cX1_checkIndex 1 none) 6 120 [.int v0] h evU r hh mc ms := by
  unfold f_X1_checkIndex at hf
  refine zMx.of (by decide) (Nat.le_of_ble_eq_true rfl) ?_
  intro p e s m args below meth c hc hr hin ht hn ls hl
  have hl : lv_has ls 1 [(0, .int v0)] := hl
  have hq : 0 + mc = mc ∧ 0 + ms = ms := ⟨Nat.zero_add _, Nat.zero_add _⟩
  have hx := hc.x
  have hb := hc.b
  refine lv_iload_n hx hb dX1_checkIndex_0 rfl (lv_at hl 0 rfl) ?_
  refine lv_if_ne (tgt := 12) hx hb dX1_checkIndex_1 (by decide) (fun c9 => ?_) (fun c9 => ?_)
  · have hf := zif_f c9 hf
    obtain ⟨rfl, rfl, rfl, rfl⟩ := zretx_i hf
    exact zx_ret (zr_vret hc hn hr hq (fun _ _ _ _ q => ⟨_, rfl, q⟩) dX1_checkIndex_12)
  · have hf := zif_t c9 hf
    exact zr_th1 hl0 hc hn hq hf (fun x hx => (ht x hx).elim) dX1_checkIndex_4 dX1_checkIndex_7 dX1_checkIndex_8 dX1_checkIndex_11 hl.1 (zroom (Nat.le_of_ble_eq_true rfl)) (Nat.le_of_ble_eq_true rfl) (Nat.le_of_ble_eq_true rfl)
theorem hd_X1_truncate : yX1_truncate.cls ≠ "java/lang/invoke/MethodHandle" ∧ yX1_truncate.cls ≠ "java/lang/invoke/VarHandle" ∧ (parseMethodDescriptor yX1_truncate.desc).map (fun d => d.parameters.length) = some 1 := by decide +kernel
def f_X1_truncate (h : PH) (a0 : Nat) (v1 : Int32) : ZR (ZX Int32) :=
  zgI h a0 0 1 fun x101 =>
  zcl (f_X1_isIn h v1 (0 : Int32) x101) fun x102 h103 =>
  zcx (f_X1_checkIndex h103 x102) fun _ h105 =>
  zpI h105 a0 0 1 v1 fun h106 =>
  zgI h106 a0 0 1 fun x107 =>
  zret (.inl x107) h106
set_option maxHeartbeats 4000000 in
set_option maxRecDepth 100000 in
theorem m_X1_truncate (l : Launch) (hl0 : l.stackTraces = false) (D : va_G) (dA : Nat → ClassId) (b0 : Nat) (gs : Nat → Option Nat) (h : PH) (a0 : Nat) (v1 : Int32) {r : (ZX Int32)} {hh : PH} {mc ms : Nat} (hf : f_X1_truncate h a0 v1 = some (r, hh, mc, ms)) : zMx l D dA b0 gs yX1_truncate (ws_ yX1_truncate cX1_truncate 2 (some .int)) 7 140 [.ref a0, .int v1] h evI r hh mc ms := by
  unfold f_X1_truncate at hf
  refine zMx.of (by decide) (Nat.le_of_ble_eq_true rfl) ?_
  intro p e s m args below meth c hc hr hin ht hn ls hl
  have hl : lv_has ls 2 [(0, .ref a0), (1, .int v1)] := hl
  have hq : 0 + mc = mc ∧ 0 + ms = ms := ⟨Nat.zero_add _, Nat.zero_add _⟩
  have hx := hc.x
  have hb := hc.b
  refine lv_iload_n hx hb dX1_truncate_0 rfl (lv_at hl 1 rfl) ?_
  refine lv_iconst (v := (0 : Int32)) hx hb dX1_truncate_1 (by decide) ?_
  refine lv_aload_n (x := a0) hx hb dX1_truncate_2 rfl (lv_at hl 0 rfl) ?_
  refine zr_gI hc hn (ci := 0) rfl rfl in_X1 1 (by decide) q226 (fun _ h => h) (fun _ _ _ => rfl) hf dX1_truncate_3 (fun x101 hf => ?_)
  refine zr_cSI (As := [.int v1, .int (0 : Int32), .int x101]) (rest := []) hc hn hq hd_X1_isIn (lw_S q259 q260 q84 q261) (Nat.le_of_ble_eq_true rfl) (Nat.le_of_ble_eq_true rfl) (fun _ _ _ _ q => m_X1_isIn l D dA b0 gs h v1 (0 : Int32) x101 q) hf dX1_truncate_6 hl.1 rfl rfl (zroom (Nat.le_of_ble_eq_true rfl)) (fun x102 h103 H locs cells slots C9 S9 hf hq hn => ?_)
  refine zx_SU (As := [.int x102]) (rest := []) hc hn hq (fun x hx => (ht x hx).elim) hd_X1_checkIndex (lw_S q395 q396 q84 q397) (Nat.le_of_ble_eq_true rfl) (Nat.le_of_ble_eq_true rfl) (fun _ _ _ _ q => m_X1_checkIndex l hl0 D dA b0 gs h103 x102 q) hf dX1_truncate_9 hl.1 rfl rfl (zroom (Nat.le_of_ble_eq_true rfl)) (fun x104 h105 H locs cells slots C9 S9 hf hq hn => ?_)
  refine lv_aload_n (x := a0) hx hb dX1_truncate_12 rfl (lv_at hl 0 rfl) ?_
  refine lv_iload_n hx hb dX1_truncate_13 rfl (lv_at hl 1 rfl) ?_
  refine zr_pI (x := v1) hc hn (ci := 0) rfl rfl in_X1 1 (by decide) tyX1 tyX1_ok nmX1 q226 (fun _ h => h) (Or.inl rfl) (fun _ _ _ => rfl) rfl rfl hf dX1_truncate_14 (fun h106 H locs hf hn => ?_)
  refine lv_aload_n (x := a0) hx hb dX1_truncate_17 rfl (lv_at hl 0 rfl) ?_
  refine zr_gI hc hn (ci := 0) rfl rfl in_X1 1 (by decide) q226 (fun _ h => h) (fun _ _ _ => rfl) hf dX1_truncate_18 (fun x107 hf => ?_)
  obtain ⟨rfl, rfl, rfl, rfl⟩ := zretx_i hf
  exact zx_ret (zr_iret hc hn hr hq (fun _ _ _ _ q => ⟨_, rfl, q⟩) dX1_truncate_21)
theorem hd_X5_at : yX5_at.cls ≠ "java/lang/invoke/MethodHandle" ∧ yX5_at.cls ≠ "java/lang/invoke/VarHandle" ∧ (parseMethodDescriptor yX5_at.desc).map (fun d => d.parameters.length) = some 1 := by decide +kernel
def f_X5_at (h : PH) (a0 : Nat) (v1 : Int32) : ZR Int32 :=
  zgI h a0 4 0 fun x101 =>
  if x101 ≤ v1 then
    (zret (-1 : Int32) h)
  else
    (zgP h a0 4 7 fun x102 =>
    znn x102 fun a103 =>
    zgP h a103 0 0 fun x104 =>
    znn x104 fun a105 =>
    zaI h a105 2 v1 fun x106 =>
    znm (x106 &&& (255 : Int32)) fun x107 =>
    zret x107 h)
set_option maxHeartbeats 4000000 in
set_option maxRecDepth 100000 in
theorem m_X5_at (l : Launch) (D : va_G) (dA : Nat → ClassId) (b0 : Nat) (gs : Nat → Option Nat) (h : PH) (a0 : Nat) (v1 : Int32) {r : Int32} {hh : PH} {mc ms : Nat} (hf : f_X5_at h a0 v1 = some (r, hh, mc, ms)) : zMt l D dA b0 gs yX5_at cX5_at 2 (some .int) 1 60 [.ref a0, .int v1] h (evI r) hh mc ms := by
  unfold f_X5_at at hf
  refine zMt.of (by decide) (Nat.le_of_ble_eq_true rfl) ?_
  intro p e s m args below meth c hc hr hin hn ls hl
  have hl : lv_has ls 2 [(0, .ref a0), (1, .int v1)] := hl
  have hq : 0 + mc = mc ∧ 0 + ms = ms := ⟨Nat.zero_add _, Nat.zero_add _⟩
  have hx := hc.x
  have hb := hc.b
  refine lv_iload_n hx hb dX5_at_0 rfl (lv_at hl 1 rfl) ?_
  refine lv_aload_n (x := a0) hx hb dX5_at_1 rfl (lv_at hl 0 rfl) ?_
  refine zr_gI hc hn (ci := 4) rfl rfl in_X5 0 (by decide) q726 (fun _ h => h) (fun _ _ _ => rfl) hf dX5_at_2 (fun x101 hf => ?_)
  refine lv_icmp_ge (tgt := 24) hx hb dX5_at_5 (by decide) (fun c9 => ?_) (fun c9 => ?_)
  · have hf := zif_t c9 hf
    refine lv_iconst (v := (-1 : Int32)) hx hb dX5_at_24 (by decide) ?_
    obtain ⟨rfl, rfl, rfl, rfl⟩ := zret_i hf
    exact zr_iret hc hn hr hq (fun _ _ _ _ q => q) dX5_at_25
  · have hf := zif_f c9 hf
    refine lv_aload_n (x := a0) hx hb dX5_at_8 rfl (lv_at hl 0 rfl) ?_
    refine zr_gP hc hn (ci := 4) rfl rfl in_X5 7 (by decide) q733 (fun _ h => h) (fun _ _ _ => rfl) hf dX5_at_9 (fun x102 hf => ?_)
    obtain ⟨a103, e9, hf9⟩ := znn_i hf
    subst e9
    have hf := hf9
    clear hf9
    refine zr_gPN hc hn (ci := 0) rfl rfl in_X1 0 (by decide) q224 (fun _ h => h) (fun _ _ _ => rfl) hf dX5_at_12 (fun x104 hf => ?_)
    refine lv_iload_n hx hb dX5_at_15 rfl (lv_at hl 1 rfl) ?_
    obtain ⟨a105, e9, hf9⟩ := znn_i hf
    subst e9
    have hf := hf9
    clear hf9
    refine zr_aI2 hc hn hf dX5_at_16 (fun x106 hf => ?_)
    refine lv_sipush (v := (255 : Int32)) hx hb dX5_at_17 (by decide) ?_
    refine lv_iand hx hb dX5_at_20 ?_
    refine zr_nmI hf (fun x107 hf => ?_)
    refine lv_goto (tgt := 25) hx hb dX5_at_21 (by decide) ?_
    obtain ⟨rfl, rfl, rfl, rfl⟩ := zret_i hf
    exact zr_iret hc hn hr hq (fun _ _ _ _ q => q) dX5_at_25
theorem hd_X5_advance : yX5_advance.cls ≠ "java/lang/invoke/MethodHandle" ∧ yX5_advance.cls ≠ "java/lang/invoke/VarHandle" ∧ (parseMethodDescriptor yX5_advance.desc).map (fun d => d.parameters.length) = some 0 := by decide +kernel
def f_X5_advance_b26 (k0 : PH → Nat → ZR Unit) (h : PH) (a0 : Nat) : ZR Unit :=
  zgI h a0 4 2 fun x101 =>
  znm (x101 + (1 : Int32)) fun x102 =>
  zpI h a0 4 2 x102 fun h103 =>
  k0 h103 a0
def f_X5_advance_b133 (k92 : PH → Nat → Nat → ZR Unit) (h : PH) (a0 : Nat) (a2 : Nat) : ZR Unit :=
  zgI h a0 4 2 fun x101 =>
  znm (x101 + (1 : Int32)) fun x102 =>
  zpI h a0 4 2 x102 fun h103 =>
  k92 h103 a0 a2
def f_X5_advance_b92 : Nat → PH → Nat → Nat → ZR Unit
  | 0 => fun _ _ _ => none
  | n + 1 => fun h a0 a2 =>
    zgI h a0 4 2 fun x101 =>
    zrc h a0 4 <| zcl (f_X5_at h a0 x101) fun x102 h103 =>
    zcl (f_X1_isIn h103 x102 (97 : Int32) (122 : Int32)) fun x104 h105 =>
    if x104 = 0 then
      (zrc h105 a2 15 <| zcl (f_J13_toString h105 a2) fun x106 h107 =>
      zpP h107 a0 4 6 (some x106) fun h108 =>
      znm (zS h108 10) fun x109 =>
      zpP h108 a0 4 5 x109 fun h110 =>
      zret () h110)
    else
      (zrc h105 a2 15 <| zcl (f_J13_length h105 a2) fun x111 h112 =>
      if (8 : Int32) < x111 then
        (f_X5_advance_b133 (f_X5_advance_b92 n) h112 a0 a2)
      else
        (zgI h112 a0 4 2 fun x113 =>
        zrc h112 a0 4 <| zcl (f_X5_at h112 a0 x113) fun x114 h115 =>
        znm ((x114.toUInt32 % 65536).toInt32) fun x116 =>
        zrc h115 a2 15 <| zcl (f_J13_append h115 a2 x116) fun x117 h118 =>
        f_X5_advance_b133 (f_X5_advance_b92 n) h118 a0 a2))
def f_X5_advance_b234 (k180 : PH → Nat → ZR Unit) (h : PH) (a0 : Nat) : ZR Unit :=
  zgI h a0 4 2 fun x101 =>
  znm (x101 + (1 : Int32)) fun x102 =>
  zpI h a0 4 2 x102 fun h103 =>
  k180 h103 a0
def f_X5_advance_b180 : Nat → PH → Nat → ZR Unit
  | 0 => fun _ _ => none
  | n + 1 => fun h a0 =>
    zgI h a0 4 2 fun x101 =>
    zrc h a0 4 <| zcl (f_X5_at h a0 x101) fun x102 h103 =>
    zcl (f_X1_isIn h103 x102 (48 : Int32) (57 : Int32)) fun x104 h105 =>
    if x104 = 0 then
      (zgI h105 a0 4 2 fun x106 =>
      zgI h105 a0 4 3 fun x107 =>
      znm (x106 - x107) fun x108 =>
      if x108 ≤ (4 : Int32) then
        (znm (zS h105 12) fun x109 =>
        zpP h105 a0 4 5 x109 fun h110 =>
        zret () h110)
      else
        (znm (zS h105 11) fun x111 =>
        zpP h105 a0 4 5 x111 fun h112 =>
        zret () h112))
    else
      (zgI h105 a0 4 2 fun x113 =>
      zgI h105 a0 4 3 fun x114 =>
      znm (x113 - x114) fun x115 =>
      if (4 : Int32) ≤ x115 then
        (f_X5_advance_b234 (f_X5_advance_b180 n) h105 a0)
      else
        (zgI h105 a0 4 4 fun x116 =>
        znm ((10 : Int32) * x116) fun x117 =>
        zgI h105 a0 4 2 fun x118 =>
        zrc h105 a0 4 <| zcl (f_X5_at h105 a0 x118) fun x119 h120 =>
        znm (x117 + x119) fun x121 =>
        znm (x121 - (48 : Int32)) fun x122 =>
        zpI h120 a0 4 4 x122 fun h123 =>
        f_X5_advance_b234 (f_X5_advance_b180 n) h123 a0))
def f_X5_advance_b0 : Nat → PH → Nat → ZR Unit
  | 0 => fun _ _ => none
  | n + 1 => fun h a0 =>
    zgI h a0 4 2 fun x101 =>
    zrc h a0 4 <| zcl (f_X5_at h a0 x101) fun x102 h103 =>
    if x102 = (32 : Int32) then
      (f_X5_advance_b26 (f_X5_advance_b0 n) h103 a0)
    else
      (zgI h103 a0 4 2 fun x104 =>
      zrc h103 a0 4 <| zcl (f_X5_at h103 a0 x104) fun x105 h106 =>
      if x105 = (10 : Int32) then
        (f_X5_advance_b26 (f_X5_advance_b0 n) h106 a0)
      else
        (zgI h106 a0 4 2 fun x107 =>
        zpI h106 a0 4 3 x107 fun h108 =>
        zgI h108 a0 4 2 fun x109 =>
        zrc h108 a0 4 <| zcl (f_X5_at h108 a0 x109) fun x110 h111 =>
        if x110 = (-1 : Int32) then
          (znm (zS h111 9) fun x132 =>
          zpP h111 a0 4 5 x132 fun h133 =>
          zret () h133)
        else
          (zcl (f_X1_isIn h111 x110 (97 : Int32) (122 : Int32)) fun x112 h113 =>
          if x112 = 0 then
            (zcl (f_X1_isIn h113 x110 (48 : Int32) (57 : Int32)) fun x114 h115 =>
            if x114 = 0 then
              (zgI h115 a0 4 2 fun x116 =>
              znm (x116 + (1 : Int32)) fun x117 =>
              zpI h115 a0 4 2 x117 fun h118 =>
              if x110 = (59 : Int32) then
                (znm (zS h118 13) fun x125 =>
                zpP h118 a0 4 5 x125 fun h126 =>
                zret () h126)
              else
                (if x110 = (58 : Int32) then
                  (znm (zS h118 14) fun x123 =>
                  zpP h118 a0 4 5 x123 fun h124 =>
                  zret () h124)
                else
                  (if x110 = (45 : Int32) then
                    (znm (zS h118 15) fun x121 =>
                    zpP h118 a0 4 5 x121 fun h122 =>
                    zret () h122)
                  else
                    (znm (zS h118 11) fun x119 =>
                    zpP h118 a0 4 5 x119 fun h120 =>
                    zret () h120))))
            else
              (zpI h115 a0 4 4 (0 : Int32) fun h127 =>
              f_X5_advance_b180 zFU h127 a0))
          else
            (zno h113 15 4 fun a128 h129 =>
            zcl (f_J13_init h129 a128 (10 : Int32)) fun _ h131 =>
            f_X5_advance_b92 zFU h131 a0 a128))))
def f_X5_advance (h : PH) (a0 : Nat) : ZR Unit :=
  f_X5_advance_b0 zFU h a0
set_option maxHeartbeats 4000000 in
set_option maxRecDepth 100000 in
theorem m_X5_advance_b26 {p : Program} {l : Launch} {e : Env} {s : State} {m : MethodId} {args : Array Value} {below : List Frame} {meth : Method} {c : Code} {D : va_G} {dA : Nat → ClassId} {b0 : Nat} {gs : Nat → Option Nat} (hc : zC D dA b0 gs yX5_advance.cls cX5_advance 3 p c s m args meth) (hr : meth.sig.returnType = none) (hin : meth.name = yX5_advance.name) {r : Unit} {hh : PH} {mc ms : Nat} (k0 : PH → Nat → ZR Unit) (hk0 : ∀ (h : PH) (a0 : Nat) (C9 S9 : Nat) (H : Heap) (locs : List Loc) (cells slots : Nat), k0 h a0 = some (r, hh, C9, S9) → cells + C9 = mc ∧ slots + S9 = ms → zM D dA b0 gs s h H locs → ∀ ls : Array Slot, lv_has ls 3 [(0, .ref a0)] → W p l e ({ frames := 7, cells := mc, slots := ms, locals := 192 } : Room) s m args below meth c H locs cells slots (MQ below (zQ D dA b0 gs (evU r) hh) args s mc ms (zA b0)) (F0 m 0 ls [])) : ∀ (h : PH) (a0 : Nat) (C9 S9 : Nat) (H : Heap) (locs : List Loc) (cells slots : Nat), f_X5_advance_b26 k0 h a0 = some (r, hh, C9, S9) → cells + C9 = mc ∧ slots + S9 = ms → zM D dA b0 gs s h H locs → ∀ ls : Array Slot, lv_has ls 3 [(0, .ref a0)] → W p l e ({ frames := 7, cells := mc, slots := ms, locals := 192 } : Room) s m args below meth c H locs cells slots (MQ below (zQ D dA b0 gs (evU r) hh) args s mc ms (zA b0)) (F0 m 26 ls []) := by
  have hx := hc.x
  have hb := hc.b
  intro h a0 C9 S9 H locs cells slots hf hq hn ls hl
  unfold f_X5_advance_b26 at hf
  refine lv_aload_n (x := a0) hx hb dX5_advance_26 rfl (lv_at hl 0 rfl) ?_
  refine lv_dup hx hb dX5_advance_27 rfl ?_
  refine zr_gI hc hn (ci := 4) rfl rfl in_X5 2 (by decide) q728 (fun _ h => h) (fun _ _ _ => rfl) hf dX5_advance_28 (fun x101 hf => ?_)
  refine lv_iconst (v := (1 : Int32)) hx hb dX5_advance_31 (by decide) ?_
  refine lv_iadd hx hb dX5_advance_32 ?_
  refine zr_nmI hf (fun x102 hf => ?_)
  refine zr_pI (x := x102) hc hn (ci := 4) rfl rfl in_X5 2 (by decide) tyX5 tyX5_ok nmX5 q728 (fun _ h => h) (Or.inl rfl) (fun _ _ _ => rfl) rfl rfl hf dX5_advance_33 (fun h103 H locs hf hn => ?_)
  refine lv_goto (tgt := 0) hx hb dX5_advance_36 (by decide) ?_
  exact hk0 h103 a0 _ _ _ _ _ _ hf hq hn _ (lv_sub hl [0] rfl)
set_option maxHeartbeats 4000000 in
set_option maxRecDepth 100000 in
theorem m_X5_advance_b133 {p : Program} {l : Launch} {e : Env} {s : State} {m : MethodId} {args : Array Value} {below : List Frame} {meth : Method} {c : Code} {D : va_G} {dA : Nat → ClassId} {b0 : Nat} {gs : Nat → Option Nat} (hc : zC D dA b0 gs yX5_advance.cls cX5_advance 3 p c s m args meth) (hr : meth.sig.returnType = none) (hin : meth.name = yX5_advance.name) {r : Unit} {hh : PH} {mc ms : Nat} (k92 : PH → Nat → Nat → ZR Unit) (hk92 : ∀ (h : PH) (a0 : Nat) (a2 : Nat) (C9 S9 : Nat) (H : Heap) (locs : List Loc) (cells slots : Nat), k92 h a0 a2 = some (r, hh, C9, S9) → cells + C9 = mc ∧ slots + S9 = ms → zM D dA b0 gs s h H locs → ∀ ls : Array Slot, lv_has ls 3 [(0, .ref a0), (2, .ref a2)] → W p l e ({ frames := 7, cells := mc, slots := ms, locals := 192 } : Room) s m args below meth c H locs cells slots (MQ below (zQ D dA b0 gs (evU r) hh) args s mc ms (zA b0)) (F0 m 92 ls [])) : ∀ (h : PH) (a0 : Nat) (a2 : Nat) (C9 S9 : Nat) (H : Heap) (locs : List Loc) (cells slots : Nat), f_X5_advance_b133 k92 h a0 a2 = some (r, hh, C9, S9) → cells + C9 = mc ∧ slots + S9 = ms → zM D dA b0 gs s h H locs → ∀ ls : Array Slot, lv_has ls 3 [(0, .ref a0), (2, .ref a2)] → W p l e ({ frames := 7, cells := mc, slots := ms, locals := 192 } : Room) s m args below meth c H locs cells slots (MQ below (zQ D dA b0 gs (evU r) hh) args s mc ms (zA b0)) (F0 m 133 ls []) := by
  have hx := hc.x
  have hb := hc.b
  intro h a0 a2 C9 S9 H locs cells slots hf hq hn ls hl
  unfold f_X5_advance_b133 at hf
  refine lv_aload_n (x := a0) hx hb dX5_advance_133 rfl (lv_at hl 0 rfl) ?_
  refine lv_dup hx hb dX5_advance_134 rfl ?_
  refine zr_gI hc hn (ci := 4) rfl rfl in_X5 2 (by decide) q728 (fun _ h => h) (fun _ _ _ => rfl) hf dX5_advance_135 (fun x101 hf => ?_)
  refine lv_iconst (v := (1 : Int32)) hx hb dX5_advance_138 (by decide) ?_
  refine lv_iadd hx hb dX5_advance_139 ?_
  refine zr_nmI hf (fun x102 hf => ?_)
  refine zr_pI (x := x102) hc hn (ci := 4) rfl rfl in_X5 2 (by decide) tyX5 tyX5_ok nmX5 q728 (fun _ h => h) (Or.inl rfl) (fun _ _ _ => rfl) rfl rfl hf dX5_advance_140 (fun h103 H locs hf hn => ?_)
  refine lv_goto (tgt := 92) hx hb dX5_advance_143 (by decide) ?_
  exact hk92 h103 a0 a2 _ _ _ _ _ _ hf hq hn _ (lv_sub hl [0, 1] rfl)
set_option maxHeartbeats 4000000 in
set_option maxRecDepth 100000 in
theorem m_X5_advance_b92 {p : Program} {l : Launch} {e : Env} {s : State} {m : MethodId} {args : Array Value} {below : List Frame} {meth : Method} {c : Code} {D : va_G} {dA : Nat → ClassId} {b0 : Nat} {gs : Nat → Option Nat} (hc : zC D dA b0 gs yX5_advance.cls cX5_advance 3 p c s m args meth) (hr : meth.sig.returnType = none) (hin : meth.name = yX5_advance.name) {r : Unit} {hh : PH} {mc ms : Nat} : ∀ (n : Nat) (h : PH) (a0 : Nat) (a2 : Nat) (C9 S9 : Nat) (H : Heap) (locs : List Loc) (cells slots : Nat), f_X5_advance_b92 n h a0 a2 = some (r, hh, C9, S9) → cells + C9 = mc ∧ slots + S9 = ms → zM D dA b0 gs s h H locs → ∀ ls : Array Slot, lv_has ls 3 [(0, .ref a0), (2, .ref a2)] → W p l e ({ frames := 7, cells := mc, slots := ms, locals := 192 } : Room) s m args below meth c H locs cells slots (MQ below (zQ D dA b0 gs (evU r) hh) args s mc ms (zA b0)) (F0 m 92 ls []) := by
  have hx := hc.x
  have hb := hc.b
  intro n
  induction n with
  | zero =>
    intro h a0 a2 C9 S9 H locs cells slots hf hq hn ls hl
    cases hf
  | succ n ih =>
    intro h a0 a2 C9 S9 H locs cells slots hf hq hn ls hl
    unfold f_X5_advance_b92 at hf
    refine lv_aload_n (x := a0) hx hb dX5_advance_92 rfl (lv_at hl 0 rfl) ?_
    refine lv_aload_n (x := a0) hx hb dX5_advance_93 rfl (lv_at hl 0 rfl) ?_
    refine zr_gI hc hn (ci := 4) rfl rfl in_X5 2 (by decide) q728 (fun _ h => h) (fun _ _ _ => rfl) hf dX5_advance_94 (fun x101 hf => ?_)
    refine zr_cVI (As := [.int x101]) (rest := []) hc hn hq (ci := 4) rfl ⟨rfl, hd_X5_at⟩ (lw_V q433 q435 qs2 q99 q436) (Nat.le_of_ble_eq_true rfl) (Nat.le_of_ble_eq_true rfl) (fun _ _ _ _ q => m_X5_at l D dA b0 gs h a0 x101 q) hf dX5_advance_97 hl.1 rfl rfl (zroom (Nat.le_of_ble_eq_true rfl)) (fun x102 h103 H locs cells slots C9 S9 hf hq hn => ?_)
    refine lv_bipush (v := (97 : Int32)) hx hb dX5_advance_100 (by decide) ?_
    refine lv_bipush (v := (122 : Int32)) hx hb dX5_advance_102 (by decide) ?_
    refine zr_cSNI (As := [.int x102, .int (97 : Int32), .int (122 : Int32)]) (rest := []) hc hn hq hd_X1_isIn (lw_meth q261) q439 q260 q84 (Nat.le_of_ble_eq_true rfl) (Nat.le_of_ble_eq_true rfl) (fun _ _ _ _ q => m_X1_isIn l D dA b0 gs h103 x102 (97 : Int32) (122 : Int32) q) hf dX5_advance_104 hl.1 rfl rfl (zroom (Nat.le_of_ble_eq_true rfl)) (fun x104 h105 H locs cells slots C9 S9 hf hq hn => ?_)
    refine lv_if_eq (tgt := 146) hx hb dX5_advance_107 (by decide) (fun c9 => ?_) (fun c9 => ?_)
    · have hf := zif_t c9 hf
      refine lv_aload_n (x := a0) hx hb dX5_advance_146 rfl (lv_at hl 0 rfl) ?_
      refine lv_aload_n (x := a2) hx hb dX5_advance_147 rfl (lv_at hl 1 rfl) ?_
      refine zr_cVN (As := []) (rest := [.ref a0]) hc hn hq (ci := 15) rfl ⟨rfl, hd_J13_toString⟩ (lw_V q573 q574 q575 q103 q576) (Nat.le_of_ble_eq_true rfl) (Nat.le_of_ble_eq_true rfl) (fun _ _ _ _ q => m_J13_toString l D dA b0 gs h105 a2 q) hf dX5_advance_148 hl.1 rfl rfl (zroom (Nat.le_of_ble_eq_true rfl)) (fun x106 h107 H locs cells slots C9 S9 hf hq hn => ?_)
      refine zr_pP (x := (some x106)) hc hn (ci := 4) rfl rfl in_X5 6 (by decide) tyX5 tyX5_ok nmX5 q732 (fun _ h => h) (Or.inl rfl) (fun _ _ _ => rfl) (zn_rf _ (by decide)) (zf_rf _ (by decide)) hf dX5_advance_151 (fun h108 H locs hf hn => ?_)
      refine lv_aload_n (x := a0) hx hb dX5_advance_154 rfl (lv_at hl 0 rfl) ?_
      refine zr_gs hc hn (hc.st10) q714 (fun _ h => h) hf dX5_advance_155 (fun x109 hf => ?_)
      refine zr_pP (x := x109) hc hn (ci := 4) rfl rfl in_X5 5 (by decide) tyX5 tyX5_ok nmX5 q731 (fun _ h => h) (Or.inl rfl) (fun _ _ _ => rfl) (zn_rf _ (by decide)) (zf_rf _ (by decide)) hf dX5_advance_158 (fun h110 H locs hf hn => ?_)
      refine lv_goto (tgt := 329) hx hb dX5_advance_161 (by decide) ?_
      obtain ⟨rfl, rfl, rfl, rfl⟩ := zret_i hf
      exact zr_vret hc hn hr hq (fun _ _ _ _ q => q) dX5_advance_329
    · have hf := zif_f c9 hf
      refine lv_aload_n (x := a2) hx hb dX5_advance_110 rfl (lv_at hl 1 rfl) ?_
      refine zr_cVI (As := []) (rest := []) hc hn hq (ci := 15) rfl ⟨rfl, hd_J13_length⟩ (lw_V q471 q472 q473 q103 q474) (Nat.le_of_ble_eq_true rfl) (Nat.le_of_ble_eq_true rfl) (fun _ _ _ _ q => m_J13_length l D dA b0 gs h105 a2 q) hf dX5_advance_111 hl.1 rfl rfl (zroom (Nat.le_of_ble_eq_true rfl)) (fun x111 h112 H locs cells slots C9 S9 hf hq hn => ?_)
      refine lv_bipush (v := (8 : Int32)) hx hb dX5_advance_114 (by decide) ?_
      refine lv_icmp_gt (tgt := 133) hx hb dX5_advance_116 (by decide) (fun c9 => ?_) (fun c9 => ?_)
      · have hf := zif_t c9 hf
        exact m_X5_advance_b133 hc hr hin (f_X5_advance_b92 n) ih h112 a0 a2 _ _ _ _ _ _ hf hq hn _ (lv_sub hl [0, 1] rfl)
      · have hf := zif_f c9 hf
        refine lv_aload_n (x := a2) hx hb dX5_advance_119 rfl (lv_at hl 1 rfl) ?_
        refine lv_aload_n (x := a0) hx hb dX5_advance_120 rfl (lv_at hl 0 rfl) ?_
        refine lv_aload_n (x := a0) hx hb dX5_advance_121 rfl (lv_at hl 0 rfl) ?_
        refine zr_gI hc hn (ci := 4) rfl rfl in_X5 2 (by decide) q728 (fun _ h => h) (fun _ _ _ => rfl) hf dX5_advance_122 (fun x113 hf => ?_)
        refine zr_cVI (As := [.int x113]) (rest := [.ref a2]) hc hn hq (ci := 4) rfl ⟨rfl, hd_X5_at⟩ (lw_V q433 q435 qs2 q99 q436) (Nat.le_of_ble_eq_true rfl) (Nat.le_of_ble_eq_true rfl) (fun _ _ _ _ q => m_X5_at l D dA b0 gs h112 a0 x113 q) hf dX5_advance_125 hl.1 rfl rfl (zroom (Nat.le_of_ble_eq_true rfl)) (fun x114 h115 H locs cells slots C9 S9 hf hq hn => ?_)
        refine lv_i2c (v := (x114.toUInt32 % 65536).toInt32) hx hb dX5_advance_128 rfl ?_
        refine zr_nmI hf (fun x116 hf => ?_)
        refine zr_cVN (As := [.int x116]) (rest := []) hc hn hq (ci := 15) rfl ⟨rfl, hd_J13_append⟩ (lw_V q478 q479 q480 q103 q481) (Nat.le_of_ble_eq_true rfl) (Nat.le_of_ble_eq_true rfl) (fun _ _ _ _ q => m_J13_append l D dA b0 gs h115 a2 x116 q) hf dX5_advance_129 hl.1 rfl rfl (zroom (Nat.le_of_ble_eq_true rfl)) (fun x117 h118 H locs cells slots C9 S9 hf hq hn => ?_)
        refine lv_pop hx hb dX5_advance_132 rfl ?_
        exact m_X5_advance_b133 hc hr hin (f_X5_advance_b92 n) ih h118 a0 a2 _ _ _ _ _ _ hf hq hn _ (lv_sub hl [0, 1] rfl)
set_option maxHeartbeats 4000000 in
set_option maxRecDepth 100000 in
theorem m_X5_advance_b234 {p : Program} {l : Launch} {e : Env} {s : State} {m : MethodId} {args : Array Value} {below : List Frame} {meth : Method} {c : Code} {D : va_G} {dA : Nat → ClassId} {b0 : Nat} {gs : Nat → Option Nat} (hc : zC D dA b0 gs yX5_advance.cls cX5_advance 3 p c s m args meth) (hr : meth.sig.returnType = none) (hin : meth.name = yX5_advance.name) {r : Unit} {hh : PH} {mc ms : Nat} (k180 : PH → Nat → ZR Unit) (hk180 : ∀ (h : PH) (a0 : Nat) (C9 S9 : Nat) (H : Heap) (locs : List Loc) (cells slots : Nat), k180 h a0 = some (r, hh, C9, S9) → cells + C9 = mc ∧ slots + S9 = ms → zM D dA b0 gs s h H locs → ∀ ls : Array Slot, lv_has ls 3 [(0, .ref a0)] → W p l e ({ frames := 7, cells := mc, slots := ms, locals := 192 } : Room) s m args below meth c H locs cells slots (MQ below (zQ D dA b0 gs (evU r) hh) args s mc ms (zA b0)) (F0 m 180 ls [])) : ∀ (h : PH) (a0 : Nat) (C9 S9 : Nat) (H : Heap) (locs : List Loc) (cells slots : Nat), f_X5_advance_b234 k180 h a0 = some (r, hh, C9, S9) → cells + C9 = mc ∧ slots + S9 = ms → zM D dA b0 gs s h H locs → ∀ ls : Array Slot, lv_has ls 3 [(0, .ref a0)] → W p l e ({ frames := 7, cells := mc, slots := ms, locals := 192 } : Room) s m args below meth c H locs cells slots (MQ below (zQ D dA b0 gs (evU r) hh) args s mc ms (zA b0)) (F0 m 234 ls []) := by
  have hx := hc.x
  have hb := hc.b
  intro h a0 C9 S9 H locs cells slots hf hq hn ls hl
  unfold f_X5_advance_b234 at hf
  refine lv_aload_n (x := a0) hx hb dX5_advance_234 rfl (lv_at hl 0 rfl) ?_
  refine lv_dup hx hb dX5_advance_235 rfl ?_
  refine zr_gI hc hn (ci := 4) rfl rfl in_X5 2 (by decide) q728 (fun _ h => h) (fun _ _ _ => rfl) hf dX5_advance_236 (fun x101 hf => ?_)
  refine lv_iconst (v := (1 : Int32)) hx hb dX5_advance_239 (by decide) ?_
  refine lv_iadd hx hb dX5_advance_240 ?_
  refine zr_nmI hf (fun x102 hf => ?_)
  refine zr_pI (x := x102) hc hn (ci := 4) rfl rfl in_X5 2 (by decide) tyX5 tyX5_ok nmX5 q728 (fun _ h => h) (Or.inl rfl) (fun _ _ _ => rfl) rfl rfl hf dX5_advance_241 (fun h103 H locs hf hn => ?_)
  refine lv_goto (tgt := 180) hx hb dX5_advance_244 (by decide) ?_
  exact hk180 h103 a0 _ _ _ _ _ _ hf hq hn _ (lv_sub hl [0] rfl)
set_option maxHeartbeats 4000000 in
set_option maxRecDepth 100000 in
theorem m_X5_advance_b180 {p : Program} {l : Launch} {e : Env} {s : State} {m : MethodId} {args : Array Value} {below : List Frame} {meth : Method} {c : Code} {D : va_G} {dA : Nat → ClassId} {b0 : Nat} {gs : Nat → Option Nat} (hc : zC D dA b0 gs yX5_advance.cls cX5_advance 3 p c s m args meth) (hr : meth.sig.returnType = none) (hin : meth.name = yX5_advance.name) {r : Unit} {hh : PH} {mc ms : Nat} : ∀ (n : Nat) (h : PH) (a0 : Nat) (C9 S9 : Nat) (H : Heap) (locs : List Loc) (cells slots : Nat), f_X5_advance_b180 n h a0 = some (r, hh, C9, S9) → cells + C9 = mc ∧ slots + S9 = ms → zM D dA b0 gs s h H locs → ∀ ls : Array Slot, lv_has ls 3 [(0, .ref a0)] → W p l e ({ frames := 7, cells := mc, slots := ms, locals := 192 } : Room) s m args below meth c H locs cells slots (MQ below (zQ D dA b0 gs (evU r) hh) args s mc ms (zA b0)) (F0 m 180 ls []) := by
  have hx := hc.x
  have hb := hc.b
  intro n
  induction n with
  | zero =>
    intro h a0 C9 S9 H locs cells slots hf hq hn ls hl
    cases hf
  | succ n ih =>
    intro h a0 C9 S9 H locs cells slots hf hq hn ls hl
    unfold f_X5_advance_b180 at hf
    refine lv_aload_n (x := a0) hx hb dX5_advance_180 rfl (lv_at hl 0 rfl) ?_
    refine lv_aload_n (x := a0) hx hb dX5_advance_181 rfl (lv_at hl 0 rfl) ?_
    refine zr_gI hc hn (ci := 4) rfl rfl in_X5 2 (by decide) q728 (fun _ h => h) (fun _ _ _ => rfl) hf dX5_advance_182 (fun x101 hf => ?_)
    refine zr_cVI (As := [.int x101]) (rest := []) hc hn hq (ci := 4) rfl ⟨rfl, hd_X5_at⟩ (lw_V q433 q435 qs2 q99 q436) (Nat.le_of_ble_eq_true rfl) (Nat.le_of_ble_eq_true rfl) (fun _ _ _ _ q => m_X5_at l D dA b0 gs h a0 x101 q) hf dX5_advance_185 hl.1 rfl rfl (zroom (Nat.le_of_ble_eq_true rfl)) (fun x102 h103 H locs cells slots C9 S9 hf hq hn => ?_)
    refine lv_bipush (v := (48 : Int32)) hx hb dX5_advance_188 (by decide) ?_
    refine lv_bipush (v := (57 : Int32)) hx hb dX5_advance_190 (by decide) ?_
    refine zr_cSNI (As := [.int x102, .int (48 : Int32), .int (57 : Int32)]) (rest := []) hc hn hq hd_X1_isIn (lw_meth q261) q439 q260 q84 (Nat.le_of_ble_eq_true rfl) (Nat.le_of_ble_eq_true rfl) (fun _ _ _ _ q => m_X1_isIn l D dA b0 gs h103 x102 (48 : Int32) (57 : Int32) q) hf dX5_advance_192 hl.1 rfl rfl (zroom (Nat.le_of_ble_eq_true rfl)) (fun x104 h105 H locs cells slots C9 S9 hf hq hn => ?_)
    refine lv_if_eq (tgt := 247) hx hb dX5_advance_195 (by decide) (fun c9 => ?_) (fun c9 => ?_)
    · have hf := zif_t c9 hf
      refine lv_aload_n (x := a0) hx hb dX5_advance_247 rfl (lv_at hl 0 rfl) ?_
      refine lv_aload_n (x := a0) hx hb dX5_advance_248 rfl (lv_at hl 0 rfl) ?_
      refine zr_gI hc hn (ci := 4) rfl rfl in_X5 2 (by decide) q728 (fun _ h => h) (fun _ _ _ => rfl) hf dX5_advance_249 (fun x106 hf => ?_)
      refine lv_aload_n (x := a0) hx hb dX5_advance_252 rfl (lv_at hl 0 rfl) ?_
      refine zr_gI hc hn (ci := 4) rfl rfl in_X5 3 (by decide) q729 (fun _ h => h) (fun _ _ _ => rfl) hf dX5_advance_253 (fun x107 hf => ?_)
      refine lv_isub hx hb dX5_advance_256 ?_
      refine zr_nmI hf (fun x108 hf => ?_)
      refine lv_iconst (v := (4 : Int32)) hx hb dX5_advance_257 (by decide) ?_
      refine lv_icmp_le (tgt := 267) hx hb dX5_advance_258 (by decide) (fun c9 => ?_) (fun c9 => ?_)
      · have hf := zif_t c9 hf
        refine zr_gs hc hn (hc.st12) q718 (fun _ h => h) hf dX5_advance_267 (fun x109 hf => ?_)
        refine zr_pP (x := x109) hc hn (ci := 4) rfl rfl in_X5 5 (by decide) tyX5 tyX5_ok nmX5 q731 (fun _ h => h) (Or.inl rfl) (fun _ _ _ => rfl) (zn_rf _ (by decide)) (zf_rf _ (by decide)) hf dX5_advance_270 (fun h110 H locs hf hn => ?_)
        refine lv_goto (tgt := 329) hx hb dX5_advance_273 (by decide) ?_
        obtain ⟨rfl, rfl, rfl, rfl⟩ := zret_i hf
        exact zr_vret hc hn hr hq (fun _ _ _ _ q => q) dX5_advance_329
      · have hf := zif_f c9 hf
        refine zr_gs hc hn (hc.st11) q716 (fun _ h => h) hf dX5_advance_261 (fun x111 hf => ?_)
        refine lv_goto (tgt := 270) hx hb dX5_advance_264 (by decide) ?_
        refine zr_pP (x := x111) hc hn (ci := 4) rfl rfl in_X5 5 (by decide) tyX5 tyX5_ok nmX5 q731 (fun _ h => h) (Or.inl rfl) (fun _ _ _ => rfl) (zn_rf _ (by decide)) (zf_rf _ (by decide)) hf dX5_advance_270 (fun h112 H locs hf hn => ?_)
        refine lv_goto (tgt := 329) hx hb dX5_advance_273 (by decide) ?_
        obtain ⟨rfl, rfl, rfl, rfl⟩ := zret_i hf
        exact zr_vret hc hn hr hq (fun _ _ _ _ q => q) dX5_advance_329
    · have hf := zif_f c9 hf
      refine lv_aload_n (x := a0) hx hb dX5_advance_198 rfl (lv_at hl 0 rfl) ?_
      refine zr_gI hc hn (ci := 4) rfl rfl in_X5 2 (by decide) q728 (fun _ h => h) (fun _ _ _ => rfl) hf dX5_advance_199 (fun x113 hf => ?_)
      refine lv_aload_n (x := a0) hx hb dX5_advance_202 rfl (lv_at hl 0 rfl) ?_
      refine zr_gI hc hn (ci := 4) rfl rfl in_X5 3 (by decide) q729 (fun _ h => h) (fun _ _ _ => rfl) hf dX5_advance_203 (fun x114 hf => ?_)
      refine lv_isub hx hb dX5_advance_206 ?_
      refine zr_nmI hf (fun x115 hf => ?_)
      refine lv_iconst (v := (4 : Int32)) hx hb dX5_advance_207 (by decide) ?_
      refine lv_icmp_ge (tgt := 234) hx hb dX5_advance_208 (by decide) (fun c9 => ?_) (fun c9 => ?_)
      · have hf := zif_t c9 hf
        exact m_X5_advance_b234 hc hr hin (f_X5_advance_b180 n) ih h105 a0 _ _ _ _ _ _ hf hq hn _ (lv_sub hl [0] rfl)
      · have hf := zif_f c9 hf
        refine lv_aload_n (x := a0) hx hb dX5_advance_211 rfl (lv_at hl 0 rfl) ?_
        refine lv_bipush (v := (10 : Int32)) hx hb dX5_advance_212 (by decide) ?_
        refine lv_aload_n (x := a0) hx hb dX5_advance_214 rfl (lv_at hl 0 rfl) ?_
        refine zr_gI hc hn (ci := 4) rfl rfl in_X5 4 (by decide) q730 (fun _ h => h) (fun _ _ _ => rfl) hf dX5_advance_215 (fun x116 hf => ?_)
        refine lv_imul hx hb dX5_advance_218 ?_
        refine zr_nmI hf (fun x117 hf => ?_)
        refine lv_aload_n (x := a0) hx hb dX5_advance_219 rfl (lv_at hl 0 rfl) ?_
        refine lv_aload_n (x := a0) hx hb dX5_advance_220 rfl (lv_at hl 0 rfl) ?_
        refine zr_gI hc hn (ci := 4) rfl rfl in_X5 2 (by decide) q728 (fun _ h => h) (fun _ _ _ => rfl) hf dX5_advance_221 (fun x118 hf => ?_)
        refine zr_cVI (As := [.int x118]) (rest := [.int x117, .ref a0]) hc hn hq (ci := 4) rfl ⟨rfl, hd_X5_at⟩ (lw_V q433 q435 qs2 q99 q436) (Nat.le_of_ble_eq_true rfl) (Nat.le_of_ble_eq_true rfl) (fun _ _ _ _ q => m_X5_at l D dA b0 gs h105 a0 x118 q) hf dX5_advance_224 hl.1 rfl rfl (zroom (Nat.le_of_ble_eq_true rfl)) (fun x119 h120 H locs cells slots C9 S9 hf hq hn => ?_)
        refine lv_iadd hx hb dX5_advance_227 ?_
        refine zr_nmI hf (fun x121 hf => ?_)
        refine lv_bipush (v := (48 : Int32)) hx hb dX5_advance_228 (by decide) ?_
        refine lv_isub hx hb dX5_advance_230 ?_
        refine zr_nmI hf (fun x122 hf => ?_)
        refine zr_pI (x := x122) hc hn (ci := 4) rfl rfl in_X5 4 (by decide) tyX5 tyX5_ok nmX5 q730 (fun _ h => h) (Or.inl rfl) (fun _ _ _ => rfl) rfl rfl hf dX5_advance_231 (fun h123 H locs hf hn => ?_)
        exact m_X5_advance_b234 hc hr hin (f_X5_advance_b180 n) ih h123 a0 _ _ _ _ _ _ hf hq hn _ (lv_sub hl [0] rfl)
set_option maxHeartbeats 4000000 in
set_option maxRecDepth 100000 in
theorem m_X5_advance_b0 {p : Program} {l : Launch} {e : Env} {s : State} {m : MethodId} {args : Array Value} {below : List Frame} {meth : Method} {c : Code} {D : va_G} {dA : Nat → ClassId} {b0 : Nat} {gs : Nat → Option Nat} (hc : zC D dA b0 gs yX5_advance.cls cX5_advance 3 p c s m args meth) (hr : meth.sig.returnType = none) (hin : meth.name = yX5_advance.name) {r : Unit} {hh : PH} {mc ms : Nat} : ∀ (n : Nat) (h : PH) (a0 : Nat) (C9 S9 : Nat) (H : Heap) (locs : List Loc) (cells slots : Nat), f_X5_advance_b0 n h a0 = some (r, hh, C9, S9) → cells + C9 = mc ∧ slots + S9 = ms → zM D dA b0 gs s h H locs → ∀ ls : Array Slot, lv_has ls 3 [(0, .ref a0)] → W p l e ({ frames := 7, cells := mc, slots := ms, locals := 192 } : Room) s m args below meth c H locs cells slots (MQ below (zQ D dA b0 gs (evU r) hh) args s mc ms (zA b0)) (F0 m 0 ls []) := by
  have hx := hc.x
  have hb := hc.b
  intro n
  induction n with
  | zero =>
    intro h a0 C9 S9 H locs cells slots hf hq hn ls hl
    cases hf
  | succ n ih =>
    intro h a0 C9 S9 H locs cells slots hf hq hn ls hl
    unfold f_X5_advance_b0 at hf
    refine lv_aload_n (x := a0) hx hb dX5_advance_0 rfl (lv_at hl 0 rfl) ?_
    refine lv_aload_n (x := a0) hx hb dX5_advance_1 rfl (lv_at hl 0 rfl) ?_
    refine zr_gI hc hn (ci := 4) rfl rfl in_X5 2 (by decide) q728 (fun _ h => h) (fun _ _ _ => rfl) hf dX5_advance_2 (fun x101 hf => ?_)
    refine zr_cVI (As := [.int x101]) (rest := []) hc hn hq (ci := 4) rfl ⟨rfl, hd_X5_at⟩ (lw_V q433 q435 qs2 q99 q436) (Nat.le_of_ble_eq_true rfl) (Nat.le_of_ble_eq_true rfl) (fun _ _ _ _ q => m_X5_at l D dA b0 gs h a0 x101 q) hf dX5_advance_5 hl.1 rfl rfl (zroom (Nat.le_of_ble_eq_true rfl)) (fun x102 h103 H locs cells slots C9 S9 hf hq hn => ?_)
    refine lv_bipush (v := (32 : Int32)) hx hb dX5_advance_8 (by decide) ?_
    refine lv_icmp_eq (tgt := 26) hx hb dX5_advance_10 (by decide) (fun c9 => ?_) (fun c9 => ?_)
    · have hf := zif_t c9 hf
      exact m_X5_advance_b26 hc hr hin (f_X5_advance_b0 n) ih h103 a0 _ _ _ _ _ _ hf hq hn _ (lv_sub hl [0] rfl)
    · have hf := zif_f c9 hf
      refine lv_aload_n (x := a0) hx hb dX5_advance_13 rfl (lv_at hl 0 rfl) ?_
      refine lv_aload_n (x := a0) hx hb dX5_advance_14 rfl (lv_at hl 0 rfl) ?_
      refine zr_gI hc hn (ci := 4) rfl rfl in_X5 2 (by decide) q728 (fun _ h => h) (fun _ _ _ => rfl) hf dX5_advance_15 (fun x104 hf => ?_)
      refine zr_cVI (As := [.int x104]) (rest := []) hc hn hq (ci := 4) rfl ⟨rfl, hd_X5_at⟩ (lw_V q433 q435 qs2 q99 q436) (Nat.le_of_ble_eq_true rfl) (Nat.le_of_ble_eq_true rfl) (fun _ _ _ _ q => m_X5_at l D dA b0 gs h103 a0 x104 q) hf dX5_advance_18 hl.1 rfl rfl (zroom (Nat.le_of_ble_eq_true rfl)) (fun x105 h106 H locs cells slots C9 S9 hf hq hn => ?_)
      refine lv_bipush (v := (10 : Int32)) hx hb dX5_advance_21 (by decide) ?_
      refine lv_icmp_ne (tgt := 39) hx hb dX5_advance_23 (by decide) (fun c9 => ?_) (fun c9 => ?_)
      · have hf := zif_f c9 hf
        refine lv_aload_n (x := a0) hx hb dX5_advance_39 rfl (lv_at hl 0 rfl) ?_
        refine lv_aload_n (x := a0) hx hb dX5_advance_40 rfl (lv_at hl 0 rfl) ?_
        refine zr_gI hc hn (ci := 4) rfl rfl in_X5 2 (by decide) q728 (fun _ h => h) (fun _ _ _ => rfl) hf dX5_advance_41 (fun x107 hf => ?_)
        refine zr_pI (x := x107) hc hn (ci := 4) rfl rfl in_X5 3 (by decide) tyX5 tyX5_ok nmX5 q729 (fun _ h => h) (Or.inl rfl) (fun _ _ _ => rfl) rfl rfl hf dX5_advance_44 (fun h108 H locs hf hn => ?_)
        refine lv_aload_n (x := a0) hx hb dX5_advance_47 rfl (lv_at hl 0 rfl) ?_
        refine lv_aload_n (x := a0) hx hb dX5_advance_48 rfl (lv_at hl 0 rfl) ?_
        refine zr_gI hc hn (ci := 4) rfl rfl in_X5 2 (by decide) q728 (fun _ h => h) (fun _ _ _ => rfl) hf dX5_advance_49 (fun x109 hf => ?_)
        refine zr_cVI (As := [.int x109]) (rest := []) hc hn hq (ci := 4) rfl ⟨rfl, hd_X5_at⟩ (lw_V q433 q435 qs2 q99 q436) (Nat.le_of_ble_eq_true rfl) (Nat.le_of_ble_eq_true rfl) (fun _ _ _ _ q => m_X5_at l D dA b0 gs h108 a0 x109 q) hf dX5_advance_52 hl.1 rfl rfl (zroom (Nat.le_of_ble_eq_true rfl)) (fun x110 h111 H locs cells slots C9 S9 hf hq hn => ?_)
        refine lv_istore_n (i := 1) (lv' := [(1, .int x110), (0, .ref a0)]) hx hb dX5_advance_55 rfl hl (by decide) rfl (fun ls hl => ?_)
        refine lv_iload_n hx hb dX5_advance_56 rfl (lv_at hl 0 rfl) ?_
        refine lv_iconst (v := (-1 : Int32)) hx hb dX5_advance_57 (by decide) ?_
        refine lv_icmp_ne (tgt := 71) hx hb dX5_advance_58 (by decide) (fun c9 => ?_) (fun c9 => ?_)
        · have hf := zif_f c9 hf
          refine lv_iload_n hx hb dX5_advance_71 rfl (lv_at hl 0 rfl) ?_
          refine lv_bipush (v := (97 : Int32)) hx hb dX5_advance_72 (by decide) ?_
          refine lv_bipush (v := (122 : Int32)) hx hb dX5_advance_74 (by decide) ?_
          refine zr_cSNI (As := [.int x110, .int (97 : Int32), .int (122 : Int32)]) (rest := []) hc hn hq hd_X1_isIn (lw_meth q261) q439 q260 q84 (Nat.le_of_ble_eq_true rfl) (Nat.le_of_ble_eq_true rfl) (fun _ _ _ _ q => m_X1_isIn l D dA b0 gs h111 x110 (97 : Int32) (122 : Int32) q) hf dX5_advance_76 hl.1 rfl rfl (zroom (Nat.le_of_ble_eq_true rfl)) (fun x112 h113 H locs cells slots C9 S9 hf hq hn => ?_)
          refine lv_if_eq (tgt := 164) hx hb dX5_advance_79 (by decide) (fun c9 => ?_) (fun c9 => ?_)
          · have hf := zif_t c9 hf
            refine lv_iload_n hx hb dX5_advance_164 rfl (lv_at hl 0 rfl) ?_
            refine lv_bipush (v := (48 : Int32)) hx hb dX5_advance_165 (by decide) ?_
            refine lv_bipush (v := (57 : Int32)) hx hb dX5_advance_167 (by decide) ?_
            refine zr_cSNI (As := [.int x110, .int (48 : Int32), .int (57 : Int32)]) (rest := []) hc hn hq hd_X1_isIn (lw_meth q261) q439 q260 q84 (Nat.le_of_ble_eq_true rfl) (Nat.le_of_ble_eq_true rfl) (fun _ _ _ _ q => m_X1_isIn l D dA b0 gs h113 x110 (48 : Int32) (57 : Int32) q) hf dX5_advance_169 hl.1 rfl rfl (zroom (Nat.le_of_ble_eq_true rfl)) (fun x114 h115 H locs cells slots C9 S9 hf hq hn => ?_)
            refine lv_if_eq (tgt := 276) hx hb dX5_advance_172 (by decide) (fun c9 => ?_) (fun c9 => ?_)
            · have hf := zif_t c9 hf
              refine lv_aload_n (x := a0) hx hb dX5_advance_276 rfl (lv_at hl 1 rfl) ?_
              refine lv_dup hx hb dX5_advance_277 rfl ?_
              refine zr_gI hc hn (ci := 4) rfl rfl in_X5 2 (by decide) q728 (fun _ h => h) (fun _ _ _ => rfl) hf dX5_advance_278 (fun x116 hf => ?_)
              refine lv_iconst (v := (1 : Int32)) hx hb dX5_advance_281 (by decide) ?_
              refine lv_iadd hx hb dX5_advance_282 ?_
              refine zr_nmI hf (fun x117 hf => ?_)
              refine zr_pI (x := x117) hc hn (ci := 4) rfl rfl in_X5 2 (by decide) tyX5 tyX5_ok nmX5 q728 (fun _ h => h) (Or.inl rfl) (fun _ _ _ => rfl) rfl rfl hf dX5_advance_283 (fun h118 H locs hf hn => ?_)
              refine lv_aload_n (x := a0) hx hb dX5_advance_286 rfl (lv_at hl 1 rfl) ?_
              refine lv_iload_n hx hb dX5_advance_287 rfl (lv_at hl 0 rfl) ?_
              refine lv_bipush (v := (59 : Int32)) hx hb dX5_advance_288 (by decide) ?_
              refine lv_icmp_ne (tgt := 299) hx hb dX5_advance_290 (by decide) (fun c9 => ?_) (fun c9 => ?_)
              · have hf := zif_f c9 hf
                refine lv_iload_n hx hb dX5_advance_299 rfl (lv_at hl 0 rfl) ?_
                refine lv_bipush (v := (58 : Int32)) hx hb dX5_advance_300 (by decide) ?_
                refine lv_icmp_ne (tgt := 311) hx hb dX5_advance_302 (by decide) (fun c9 => ?_) (fun c9 => ?_)
                · have hf := zif_f c9 hf
                  refine lv_iload_n hx hb dX5_advance_311 rfl (lv_at hl 0 rfl) ?_
                  refine lv_bipush (v := (45 : Int32)) hx hb dX5_advance_312 (by decide) ?_
                  refine lv_icmp_ne (tgt := 323) hx hb dX5_advance_314 (by decide) (fun c9 => ?_) (fun c9 => ?_)
                  · have hf := zif_f c9 hf
                    refine zr_gs hc hn (hc.st11) q716 (fun _ h => h) hf dX5_advance_323 (fun x119 hf => ?_)
                    refine zr_pP (x := x119) hc hn (ci := 4) rfl rfl in_X5 5 (by decide) tyX5 tyX5_ok nmX5 q731 (fun _ h => h) (Or.inl rfl) (fun _ _ _ => rfl) (zn_rf _ (by decide)) (zf_rf _ (by decide)) hf dX5_advance_326 (fun h120 H locs hf hn => ?_)
                    obtain ⟨rfl, rfl, rfl, rfl⟩ := zret_i hf
                    exact zr_vret hc hn hr hq (fun _ _ _ _ q => q) dX5_advance_329
                  · have hf := zif_t c9 hf
                    refine zr_gs hc hn (hc.st15) q724 (fun _ h => h) hf dX5_advance_317 (fun x121 hf => ?_)
                    refine lv_goto (tgt := 326) hx hb dX5_advance_320 (by decide) ?_
                    refine zr_pP (x := x121) hc hn (ci := 4) rfl rfl in_X5 5 (by decide) tyX5 tyX5_ok nmX5 q731 (fun _ h => h) (Or.inl rfl) (fun _ _ _ => rfl) (zn_rf _ (by decide)) (zf_rf _ (by decide)) hf dX5_advance_326 (fun h122 H locs hf hn => ?_)
                    obtain ⟨rfl, rfl, rfl, rfl⟩ := zret_i hf
                    exact zr_vret hc hn hr hq (fun _ _ _ _ q => q) dX5_advance_329
                · have hf := zif_t c9 hf
                  refine zr_gs hc hn (hc.st14) q722 (fun _ h => h) hf dX5_advance_305 (fun x123 hf => ?_)
                  refine lv_goto (tgt := 326) hx hb dX5_advance_308 (by decide) ?_
                  refine zr_pP (x := x123) hc hn (ci := 4) rfl rfl in_X5 5 (by decide) tyX5 tyX5_ok nmX5 q731 (fun _ h => h) (Or.inl rfl) (fun _ _ _ => rfl) (zn_rf _ (by decide)) (zf_rf _ (by decide)) hf dX5_advance_326 (fun h124 H locs hf hn => ?_)
                  obtain ⟨rfl, rfl, rfl, rfl⟩ := zret_i hf
                  exact zr_vret hc hn hr hq (fun _ _ _ _ q => q) dX5_advance_329
              · have hf := zif_t c9 hf
                refine zr_gs hc hn (hc.st13) q720 (fun _ h => h) hf dX5_advance_293 (fun x125 hf => ?_)
                refine lv_goto (tgt := 326) hx hb dX5_advance_296 (by decide) ?_
                refine zr_pP (x := x125) hc hn (ci := 4) rfl rfl in_X5 5 (by decide) tyX5 tyX5_ok nmX5 q731 (fun _ h => h) (Or.inl rfl) (fun _ _ _ => rfl) (zn_rf _ (by decide)) (zf_rf _ (by decide)) hf dX5_advance_326 (fun h126 H locs hf hn => ?_)
                obtain ⟨rfl, rfl, rfl, rfl⟩ := zret_i hf
                exact zr_vret hc hn hr hq (fun _ _ _ _ q => q) dX5_advance_329
            · have hf := zif_f c9 hf
              refine lv_aload_n (x := a0) hx hb dX5_advance_175 rfl (lv_at hl 1 rfl) ?_
              refine lv_iconst (v := (0 : Int32)) hx hb dX5_advance_176 (by decide) ?_
              refine zr_pI (x := (0 : Int32)) hc hn (ci := 4) rfl rfl in_X5 4 (by decide) tyX5 tyX5_ok nmX5 q730 (fun _ h => h) (Or.inl rfl) (fun _ _ _ => rfl) rfl rfl hf dX5_advance_177 (fun h127 H locs hf hn => ?_)
              exact m_X5_advance_b180 hc hr hin zFU h127 a0 _ _ _ _ _ _ hf hq hn _ (lv_sub hl [1] rfl)
          · have hf := zif_f c9 hf
            refine zr_new hc hn hq (ci := 15) rfl rfl in_J13 tyJ13_ok q440 q441 q103 (zd_J13) hf dX5_advance_82 (fun a128 h129 H cells slots C9 S9 hf hq hn => ?_)
            refine lv_dup hx hb dX5_advance_85 rfl ?_
            refine lv_bipush (v := (10 : Int32)) hx hb dX5_advance_86 (by decide) ?_
            refine zr_cI (As := [.int (10 : Int32)]) (rest := [.ref a128]) hc hn hq rfl hd_J13_init (lw_meth q444) q442 q443 q103 (Nat.le_of_ble_eq_true rfl) (Nat.le_of_ble_eq_true rfl) (fun _ _ _ _ q => m_J13_init l D dA b0 gs h129 a128 (10 : Int32) q) hf dX5_advance_88 hl.1 rfl rfl (zroom (Nat.le_of_ble_eq_true rfl)) (fun x130 h131 H locs cells slots C9 S9 hf hq hn => ?_)
            refine lv_astore_n (x := a128) (i := 2) (lv' := [(2, .ref a128), (1, .int x110), (0, .ref a0)]) hx hb dX5_advance_91 rfl hl (by decide) rfl (fun ls hl => ?_)
            exact m_X5_advance_b92 hc hr hin zFU h131 a0 a128 _ _ _ _ _ _ hf hq hn _ (lv_sub hl [2, 0] rfl)
        · have hf := zif_t c9 hf
          refine lv_aload_n (x := a0) hx hb dX5_advance_61 rfl (lv_at hl 1 rfl) ?_
          refine zr_gs hc hn (hc.st9) q437 (fun _ h => h) hf dX5_advance_62 (fun x132 hf => ?_)
          refine zr_pP (x := x132) hc hn (ci := 4) rfl rfl in_X5 5 (by decide) tyX5 tyX5_ok nmX5 q731 (fun _ h => h) (Or.inl rfl) (fun _ _ _ => rfl) (zn_rf _ (by decide)) (zf_rf _ (by decide)) hf dX5_advance_65 (fun h133 H locs hf hn => ?_)
          refine lv_goto (tgt := 329) hx hb dX5_advance_68 (by decide) ?_
          obtain ⟨rfl, rfl, rfl, rfl⟩ := zret_i hf
          exact zr_vret hc hn hr hq (fun _ _ _ _ q => q) dX5_advance_329
      · have hf := zif_t c9 hf
        exact m_X5_advance_b26 hc hr hin (f_X5_advance_b0 n) ih h106 a0 _ _ _ _ _ _ hf hq hn _ (lv_sub hl [0] rfl)
set_option maxHeartbeats 4000000 in
set_option maxRecDepth 100000 in
theorem m_X5_advance (l : Launch) (D : va_G) (dA : Nat → ClassId) (b0 : Nat) (gs : Nat → Option Nat) (h : PH) (a0 : Nat) {r : Unit} {hh : PH} {mc ms : Nat} (hf : f_X5_advance h a0 = some (r, hh, mc, ms)) : zMt l D dA b0 gs yX5_advance cX5_advance 3 none 7 192 [.ref a0] h (evU r) hh mc ms := by
  unfold f_X5_advance at hf
  refine zMt.of (by decide) (Nat.le_of_ble_eq_true rfl) ?_
  intro p e s m args below meth c hc hr hin hn ls hl
  have hl : lv_has ls 3 [(0, .ref a0)] := hl
  have hq : 0 + mc = mc ∧ 0 + ms = ms := ⟨Nat.zero_add _, Nat.zero_add _⟩
  have hx := hc.x
  have hb := hc.b
  exact m_X5_advance_b0 hc hr hin zFU h a0 _ _ _ _ _ _ hf hq hn _ (lv_sub hl [0] rfl)
theorem hd_X5_init : yX5_init.cls ≠ "java/lang/invoke/MethodHandle" ∧ yX5_init.cls ≠ "java/lang/invoke/VarHandle" ∧ (parseMethodDescriptor yX5_init.desc).map (fun d => d.parameters.length) = some 2 := by decide +kernel
def f_X5_init (h : PH) (a0 : Nat) (a1 : Nat) (v2 : Int32) : ZR Unit :=
  zpP h a0 4 7 (some a1) fun h101 =>
  znm (zS h101 20) fun x102 =>
  zpP h101 a0 4 6 x102 fun h103 =>
  zpI h103 a0 4 0 v2 fun h104 =>
  zrc h104 a0 4 <| zcl (f_X5_advance h104 a0) fun _ h106 =>
  zret () h106
set_option maxHeartbeats 4000000 in
set_option maxRecDepth 100000 in
theorem m_X5_init (l : Launch) (D : va_G) (dA : Nat → ClassId) (b0 : Nat) (gs : Nat → Option Nat) (h : PH) (a0 : Nat) (a1 : Nat) (v2 : Int32) {r : Unit} {hh : PH} {mc ms : Nat} (hf : f_X5_init h a0 a1 v2 = some (r, hh, mc, ms)) : zMt l D dA b0 gs yX5_init cX5_init 3 none 8 214 [.ref a0, .ref a1, .int v2] h (evU r) hh mc ms := by
  unfold f_X5_init at hf
  refine zMt.of (by decide) (Nat.le_of_ble_eq_true rfl) ?_
  intro p e s m args below meth c hc hr hin hn ls hl
  have hl : lv_has ls 3 [(0, .ref a0), (1, .ref a1), (2, .int v2)] := hl
  have hq : 0 + mc = mc ∧ 0 + ms = ms := ⟨Nat.zero_add _, Nat.zero_add _⟩
  have hx := hc.x
  have hb := hc.b
  refine lv_aload_n (x := a0) hx hb dX5_init_0 rfl (lv_at hl 0 rfl) ?_
  refine lv_aload_n (x := a1) hx hb dX5_init_1 rfl (lv_at hl 1 rfl) ?_
  refine zr_pP (x := (some a1)) hc hn (ci := 4) rfl rfl in_X5 7 (by decide) tyX5 tyX5_ok nmX5 q733 (fun _ h => h) (Or.inr ⟨rfl, hin, rfl⟩) (fun _ _ _ => rfl) (zn_rf _ (by decide)) (zf_rf _ (by decide)) hf dX5_init_2 (fun h101 H locs hf hn => ?_)
  refine lv_aload_n (x := a0) hx hb dX5_init_5 rfl (lv_at hl 0 rfl) ?_
  refine W.objInit hx hb hc.ow (hc.ts _ q427) (hc.ts _ q137) (hc.ts _ q138) rfl (by rw [hc.ml]; exact hl.1) rfl dX5_init_6 (Nat.le_of_ble_eq_true rfl) (zroomL (Nat.le_of_ble_eq_true rfl) (Nat.le_of_ble_eq_true rfl)) ?_
  refine W.eq (g2 := F0 m 9 ls []) rfl ?_
  refine lv_aload_n (x := a0) hx hb dX5_init_9 rfl (lv_at hl 0 rfl) ?_
  refine zr_lds (k := 20) hc hn rfl q428 znr_20 hf dX5_init_10 (fun x102 hf => ?_)
  refine zr_pP (x := x102) hc hn (ci := 4) rfl rfl in_X5 6 (by decide) tyX5 tyX5_ok nmX5 q732 (fun _ h => h) (Or.inl rfl) (fun _ _ _ => rfl) (zn_rf _ (by decide)) (zf_rf _ (by decide)) hf dX5_init_12 (fun h103 H locs hf hn => ?_)
  refine lv_aload_n (x := a0) hx hb dX5_init_15 rfl (lv_at hl 0 rfl) ?_
  refine lv_iload_n hx hb dX5_init_16 rfl (lv_at hl 2 rfl) ?_
  refine zr_pI (x := v2) hc hn (ci := 4) rfl rfl in_X5 0 (by decide) tyX5 tyX5_ok nmX5 q726 (fun _ h => h) (Or.inr ⟨rfl, hin, rfl⟩) (fun _ _ _ => rfl) rfl rfl hf dX5_init_17 (fun h104 H locs hf hn => ?_)
  refine lv_aload_n (x := a0) hx hb dX5_init_20 rfl (lv_at hl 0 rfl) ?_
  refine zr_cVU (As := []) (rest := []) hc hn hq (ci := 4) rfl ⟨rfl, hd_X5_advance⟩ (lw_V q429 q431 qs1 q99 q432) (Nat.le_of_ble_eq_true rfl) (Nat.le_of_ble_eq_true rfl) (fun _ _ _ _ q => m_X5_advance l D dA b0 gs h104 a0 q) hf dX5_init_21 hl.1 rfl rfl (zroom (Nat.le_of_ble_eq_true rfl)) (fun x105 h106 H locs cells slots C9 S9 hf hq hn => ?_)
  obtain ⟨rfl, rfl, rfl, rfl⟩ := zret_i hf
  exact zr_vret hc hn hr hq (fun _ _ _ _ q => q) dX5_init_24
theorem hd_X5_isWord : yX5_isWord.cls ≠ "java/lang/invoke/MethodHandle" ∧ yX5_isWord.cls ≠ "java/lang/invoke/VarHandle" ∧ (parseMethodDescriptor yX5_isWord.desc).map (fun d => d.parameters.length) = some 1 := by decide +kernel
def f_X5_isWord (h : PH) (a0 : Nat) (a1 : Nat) : ZR Int32 :=
  zgP h a0 4 5 fun x101 =>
  znm (zS h 10) fun x102 =>
  if x101 = x102 then
    (zgP h a0 4 6 fun x103 =>
    znn x103 fun a104 =>
    zrc h a104 14 <| zcl (f_J10_equals h a104 a1) fun x105 h106 =>
    if x105 = 0 then
      (zret (0 : Int32) h106)
    else
      (zret (1 : Int32) h106))
  else
    (zret (0 : Int32) h)
set_option maxHeartbeats 4000000 in
set_option maxRecDepth 100000 in
theorem m_X5_isWord (l : Launch) (D : va_G) (dA : Nat → ClassId) (b0 : Nat) (gs : Nat → Option Nat) (h : PH) (a0 : Nat) (a1 : Nat) {r : Int32} {hh : PH} {mc ms : Nat} (hf : f_X5_isWord h a0 a1 = some (r, hh, mc, ms)) : zMt l D dA b0 gs yX5_isWord cX5_isWord 2 (some .boolean) 3 104 [.ref a0, .ref a1] h (evI r) hh mc ms := by
  unfold f_X5_isWord at hf
  refine zMt.of (by decide) (Nat.le_of_ble_eq_true rfl) ?_
  intro p e s m args below meth c hc hr hin hn ls hl
  have hl : lv_has ls 2 [(0, .ref a0), (1, .ref a1)] := hl
  have hq : 0 + mc = mc ∧ 0 + ms = ms := ⟨Nat.zero_add _, Nat.zero_add _⟩
  have hx := hc.x
  have hb := hc.b
  refine lv_aload_n (x := a0) hx hb dX5_isWord_0 rfl (lv_at hl 0 rfl) ?_
  refine zr_gP hc hn (ci := 4) rfl rfl in_X5 5 (by decide) q731 (fun _ h => h) (fun _ _ _ => rfl) hf dX5_isWord_1 (fun x101 hf => ?_)
  refine zr_gs hc hn (hc.st10) q714 (fun _ h => h) hf dX5_isWord_4 (fun x102 hf => ?_)
  refine lv_acmp_ne (rx := x101) (ry := x102) (tgt := 25) hx hb dX5_isWord_7 (by decide) (fun c9 => ?_) (fun c9 => ?_)
  · have hf := zif_f c9 hf
    refine lv_iconst (v := (0 : Int32)) hx hb dX5_isWord_25 (by decide) ?_
    obtain ⟨rfl, rfl, rfl, rfl⟩ := zret_i hf
    exact zr_zret hc hn hr (by decide) hq (fun _ _ _ _ q => q) dX5_isWord_26
  · have hf := zif_t c9 hf
    refine lv_aload_n (x := a0) hx hb dX5_isWord_10 rfl (lv_at hl 0 rfl) ?_
    refine zr_gP hc hn (ci := 4) rfl rfl in_X5 6 (by decide) q732 (fun _ h => h) (fun _ _ _ => rfl) hf dX5_isWord_11 (fun x103 hf => ?_)
    refine lv_aload_n (x := a1) hx hb dX5_isWord_14 rfl (lv_at hl 1 rfl) ?_
    obtain ⟨a104, e9, hf9⟩ := znn_i hf
    subst e9
    have hf := hf9
    clear hf9
    refine zr_cVI (As := [.ref a1]) (rest := []) hc hn hq (ci := 14) rfl ⟨rfl, hd_J10_equals⟩ (lw_V q760 q761 q762 q98 q763) (Nat.le_of_ble_eq_true rfl) (Nat.le_of_ble_eq_true rfl) (fun _ _ _ _ q => m_J10_equals l D dA b0 gs h a104 a1 q) hf dX5_isWord_15 hl.1 rfl rfl (zroom (Nat.le_of_ble_eq_true rfl)) (fun x105 h106 H locs cells slots C9 S9 hf hq hn => ?_)
    refine lv_if_eq (tgt := 25) hx hb dX5_isWord_18 (by decide) (fun c9 => ?_) (fun c9 => ?_)
    · have hf := zif_t c9 hf
      refine lv_iconst (v := (0 : Int32)) hx hb dX5_isWord_25 (by decide) ?_
      obtain ⟨rfl, rfl, rfl, rfl⟩ := zret_i hf
      exact zr_zret hc hn hr (by decide) hq (fun _ _ _ _ q => q) dX5_isWord_26
    · have hf := zif_f c9 hf
      refine lv_iconst (v := (1 : Int32)) hx hb dX5_isWord_21 (by decide) ?_
      refine lv_goto (tgt := 26) hx hb dX5_isWord_22 (by decide) ?_
      obtain ⟨rfl, rfl, rfl, rfl⟩ := zret_i hf
      exact zr_zret hc hn hr (by decide) hq (fun _ _ _ _ q => q) dX5_isWord_26
theorem hd_X5_require : yX5_require.cls ≠ "java/lang/invoke/MethodHandle" ∧ yX5_require.cls ≠ "java/lang/invoke/VarHandle" ∧ (parseMethodDescriptor yX5_require.desc).map (fun d => d.parameters.length) = some 2 := by decide +kernel
def f_X5_require (h : PH) (a0 : Nat) (v1 : Int32) (v2 : Int32) : ZR (ZX Unit) :=
  if v1 = 0 then
    (zno h 5 8 fun a101 h102 =>
    zgI h102 a0 4 3 fun x103 =>
    zcl (f_X6_init h102 a101 v2 x103) fun _ h105 =>
    zthr h105 5 a101)
  else
    (zret (.inl ()) h)
set_option maxHeartbeats 4000000 in
set_option maxRecDepth 100000 in
theorem m_X5_require (l : Launch) (hl0 : l.stackTraces = false) (D : va_G) (dA : Nat → ClassId) (b0 : Nat) (gs : Nat → Option Nat) (h : PH) (a0 : Nat) (v1 : Int32) (v2 : Int32) {r : (ZX Unit)} {hh : PH} {mc ms : Nat} (hf : f_X5_require h a0 v1 v2 = some (r, hh, mc, ms)) : zMx l D dA b0 gs yX5_require (ws_ yX5_require cX5_require 3 none) 6 130 [.ref a0, .int v1, .int v2] h evU r hh mc ms := by
  unfold f_X5_require at hf
  refine zMx.of (by decide) (Nat.le_of_ble_eq_true rfl) ?_
  intro p e s m args below meth c hc hr hin ht hn ls hl
  have hl : lv_has ls 3 [(0, .ref a0), (1, .int v1), (2, .int v2)] := hl
  have hq : 0 + mc = mc ∧ 0 + ms = ms := ⟨Nat.zero_add _, Nat.zero_add _⟩
  have hx := hc.x
  have hb := hc.b
  refine lv_iload_n hx hb dX5_require_0 rfl (lv_at hl 1 rfl) ?_
  refine lv_if_ne (tgt := 17) hx hb dX5_require_1 (by decide) (fun c9 => ?_) (fun c9 => ?_)
  · have hf := zif_f c9 hf
    obtain ⟨rfl, rfl, rfl, rfl⟩ := zretx_i hf
    exact zx_ret (zr_vret hc hn hr hq (fun _ _ _ _ q => ⟨_, rfl, q⟩) dX5_require_17)
  · have hf := zif_t c9 hf
    refine zr_new hc hn hq (ci := 5) rfl rfl in_X6 tyX6_ok q776 q777 q114 (zd_X6) hf dX5_require_4 (fun a101 h102 H cells slots C9 S9 hf hq hn => ?_)
    refine lv_dup hx hb dX5_require_7 rfl ?_
    refine lv_iload_n hx hb dX5_require_8 rfl (lv_at hl 2 rfl) ?_
    refine lv_aload_n (x := a0) hx hb dX5_require_9 rfl (lv_at hl 0 rfl) ?_
    refine zr_gI hc hn (ci := 4) rfl rfl in_X5 3 (by decide) q729 (fun _ h => h) (fun _ _ _ => rfl) hf dX5_require_10 (fun x103 hf => ?_)
    refine zr_cI (As := [.int v2, .int x103]) (rest := [.ref a101]) hc hn hq rfl hd_X6_init (lw_meth q787) q785 q786 q114 (Nat.le_of_ble_eq_true rfl) (Nat.le_of_ble_eq_true rfl) (fun _ _ _ _ q => m_X6_init l D dA b0 gs h102 a101 v2 x103 q) hf dX5_require_13 hl.1 rfl rfl (zroom (Nat.le_of_ble_eq_true rfl)) (fun x104 h105 H locs cells slots C9 S9 hf hq hn => ?_)
    exact zr_athrow hc hn hq (fun x hx => (ht x hx).elim) hf dX5_require_16
theorem hd_X5_take : yX5_take.cls ≠ "java/lang/invoke/MethodHandle" ∧ yX5_take.cls ≠ "java/lang/invoke/VarHandle" ∧ (parseMethodDescriptor yX5_take.desc).map (fun d => d.parameters.length) = some 2 := by decide +kernel
def f_X5_take (h : PH) (a0 : Nat) (v1 : Int32) (v2 : Int32) : ZR (ZX Unit) :=
  zrc h a0 4 <| zcx (f_X5_require h a0 v1 v2) fun _ h102 =>
  zrc h102 a0 4 <| zcl (f_X5_advance h102 a0) fun _ h104 =>
  zret (.inl ()) h104
set_option maxHeartbeats 4000000 in
set_option maxRecDepth 100000 in
theorem m_X5_take (l : Launch) (hl0 : l.stackTraces = false) (D : va_G) (dA : Nat → ClassId) (b0 : Nat) (gs : Nat → Option Nat) (h : PH) (a0 : Nat) (v1 : Int32) (v2 : Int32) {r : (ZX Unit)} {hh : PH} {mc ms : Nat} (hf : f_X5_take h a0 v1 v2 = some (r, hh, mc, ms)) : zMx l D dA b0 gs yX5_take (ws_ yX5_take cX5_take 3 none) 8 214 [.ref a0, .int v1, .int v2] h evU r hh mc ms := by
  unfold f_X5_take at hf
  refine zMx.of (by decide) (Nat.le_of_ble_eq_true rfl) ?_
  intro p e s m args below meth c hc hr hin ht hn ls hl
  have hl : lv_has ls 3 [(0, .ref a0), (1, .int v1), (2, .int v2)] := hl
  have hq : 0 + mc = mc ∧ 0 + ms = ms := ⟨Nat.zero_add _, Nat.zero_add _⟩
  have hx := hc.x
  have hb := hc.b
  refine lv_aload_n (x := a0) hx hb dX5_take_0 rfl (lv_at hl 0 rfl) ?_
  refine lv_iload_n hx hb dX5_take_1 rfl (lv_at hl 1 rfl) ?_
  refine lv_iload_n hx hb dX5_take_2 rfl (lv_at hl 2 rfl) ?_
  refine zx_VU (As := [.int v1, .int v2]) (rest := []) hc hn hq (fun x hx => (ht x hx).elim) (ci := 4) rfl ⟨rfl, hd_X5_require⟩ (lw_V q772 q774 qs5 q99 q775) (Nat.le_of_ble_eq_true rfl) (Nat.le_of_ble_eq_true rfl) (fun _ _ _ _ q => m_X5_require l hl0 D dA b0 gs h a0 v1 v2 q) hf dX5_take_3 hl.1 rfl rfl (zroom (Nat.le_of_ble_eq_true rfl)) (fun x101 h102 H locs cells slots C9 S9 hf hq hn => ?_)
  refine lv_aload_n (x := a0) hx hb dX5_take_6 rfl (lv_at hl 0 rfl) ?_
  refine zr_cVU (As := []) (rest := []) hc hn hq (ci := 4) rfl ⟨rfl, hd_X5_advance⟩ (lw_V q429 q431 qs1 q99 q432) (Nat.le_of_ble_eq_true rfl) (Nat.le_of_ble_eq_true rfl) (fun _ _ _ _ q => m_X5_advance l D dA b0 gs h102 a0 q) hf dX5_take_7 hl.1 rfl rfl (zroom (Nat.le_of_ble_eq_true rfl)) (fun x103 h104 H locs cells slots C9 S9 hf hq hn => ?_)
  obtain ⟨rfl, rfl, rfl, rfl⟩ := zretx_i hf
  exact zx_ret (zr_vret hc hn hr hq (fun _ _ _ _ q => ⟨_, rfl, q⟩) dX5_take_10)
theorem hd_X5_sign : yX5_sign.cls ≠ "java/lang/invoke/MethodHandle" ∧ yX5_sign.cls ≠ "java/lang/invoke/VarHandle" ∧ (parseMethodDescriptor yX5_sign.desc).map (fun d => d.parameters.length) = some 0 := by decide +kernel
def f_X5_sign (h : PH) (a0 : Nat) : ZR Int32 :=
  zgP h a0 4 5 fun x101 =>
  znm (zS h 15) fun x102 =>
  if x101 = x102 then
    (zrc h a0 4 <| zcl (f_X5_advance h a0) fun _ h104 =>
    zret (-1 : Int32) h104)
  else
    (zret (1 : Int32) h)
set_option maxHeartbeats 4000000 in
set_option maxRecDepth 100000 in
theorem m_X5_sign (l : Launch) (D : va_G) (dA : Nat → ClassId) (b0 : Nat) (gs : Nat → Option Nat) (h : PH) (a0 : Nat) {r : Int32} {hh : PH} {mc ms : Nat} (hf : f_X5_sign h a0 = some (r, hh, mc, ms)) : zMt l D dA b0 gs yX5_sign cX5_sign 1 (some .int) 8 214 [.ref a0] h (evI r) hh mc ms := by
  unfold f_X5_sign at hf
  refine zMt.of (by decide) (Nat.le_of_ble_eq_true rfl) ?_
  intro p e s m args below meth c hc hr hin hn ls hl
  have hl : lv_has ls 1 [(0, .ref a0)] := hl
  have hq : 0 + mc = mc ∧ 0 + ms = ms := ⟨Nat.zero_add _, Nat.zero_add _⟩
  have hx := hc.x
  have hb := hc.b
  refine lv_aload_n (x := a0) hx hb dX5_sign_0 rfl (lv_at hl 0 rfl) ?_
  refine zr_gP hc hn (ci := 4) rfl rfl in_X5 5 (by decide) q731 (fun _ h => h) (fun _ _ _ => rfl) hf dX5_sign_1 (fun x101 hf => ?_)
  refine zr_gs hc hn (hc.st15) q724 (fun _ h => h) hf dX5_sign_4 (fun x102 hf => ?_)
  refine lv_acmp_eq (rx := x101) (ry := x102) (tgt := 12) hx hb dX5_sign_7 (by decide) (fun c9 => ?_) (fun c9 => ?_)
  · have hf := zif_t c9 hf
    refine lv_aload_n (x := a0) hx hb dX5_sign_12 rfl (lv_at hl 0 rfl) ?_
    refine zr_cVU (As := []) (rest := []) hc hn hq (ci := 4) rfl ⟨rfl, hd_X5_advance⟩ (lw_V q429 q431 qs1 q99 q432) (Nat.le_of_ble_eq_true rfl) (Nat.le_of_ble_eq_true rfl) (fun _ _ _ _ q => m_X5_advance l D dA b0 gs h a0 q) hf dX5_sign_13 hl.1 rfl rfl (zroom (Nat.le_of_ble_eq_true rfl)) (fun x103 h104 H locs cells slots C9 S9 hf hq hn => ?_)
    refine lv_iconst (v := (-1 : Int32)) hx hb dX5_sign_16 (by decide) ?_
    obtain ⟨rfl, rfl, rfl, rfl⟩ := zret_i hf
    exact zr_iret hc hn hr hq (fun _ _ _ _ q => q) dX5_sign_17
  · have hf := zif_f c9 hf
    refine lv_iconst (v := (1 : Int32)) hx hb dX5_sign_10 (by decide) ?_
    obtain ⟨rfl, rfl, rfl, rfl⟩ := zret_i hf
    exact zr_iret hc hn hr hq (fun _ _ _ _ q => q) dX5_sign_11
theorem hd_X5_isGreater : yX5_isGreater.cls ≠ "java/lang/invoke/MethodHandle" ∧ yX5_isGreater.cls ≠ "java/lang/invoke/VarHandle" ∧ (parseMethodDescriptor yX5_isGreater.desc).map (fun d => d.parameters.length) = some 3 := by decide +kernel
def f_X5_isGreater (h : PH) (a0 : Nat) (a1 : Nat) (v2 : Int32) (v3 : Int32) : ZR Int32 :=
  zgI h a1 6 3 fun x101 =>
  if x101 = 0 then
    (zret (1 : Int32) h)
  else
    (if v2 ≤ v3 then
      (zret (0 : Int32) h)
    else
      (zret (1 : Int32) h))
set_option maxHeartbeats 4000000 in
set_option maxRecDepth 100000 in
theorem m_X5_isGreater (l : Launch) (D : va_G) (dA : Nat → ClassId) (b0 : Nat) (gs : Nat → Option Nat) (h : PH) (a0 : Nat) (a1 : Nat) (v2 : Int32) (v3 : Int32) {r : Int32} {hh : PH} {mc ms : Nat} (hf : f_X5_isGreater h a0 a1 v2 v3 = some (r, hh, mc, ms)) : zMt l D dA b0 gs yX5_isGreater cX5_isGreater 4 (some .boolean) 1 60 [.ref a0, .ref a1, .int v2, .int v3] h (evI r) hh mc ms := by
  unfold f_X5_isGreater at hf
  refine zMt.of (by decide) (Nat.le_of_ble_eq_true rfl) ?_
  intro p e s m args below meth c hc hr hin hn ls hl
  have hl : lv_has ls 4 [(0, .ref a0), (1, .ref a1), (2, .int v2), (3, .int v3)] := hl
  have hq : 0 + mc = mc ∧ 0 + ms = ms := ⟨Nat.zero_add _, Nat.zero_add _⟩
  have hx := hc.x
  have hb := hc.b
  refine lv_aload_n (x := a1) hx hb dX5_isGreater_0 rfl (lv_at hl 1 rfl) ?_
  refine zr_gIN hc hn (ci := 6) rfl rfl in_X7 3 (by decide) q876 (fun _ h => h) (fun _ _ _ => rfl) hf dX5_isGreater_1 (fun x101 hf => ?_)
  refine lv_if_eq (tgt := 12) hx hb dX5_isGreater_4 (by decide) (fun c9 => ?_) (fun c9 => ?_)
  · have hf := zif_t c9 hf
    refine lv_iconst (v := (1 : Int32)) hx hb dX5_isGreater_12 (by decide) ?_
    refine lv_goto (tgt := 17) hx hb dX5_isGreater_13 (by decide) ?_
    obtain ⟨rfl, rfl, rfl, rfl⟩ := zret_i hf
    exact zr_zret hc hn hr (by decide) hq (fun _ _ _ _ q => q) dX5_isGreater_17
  · have hf := zif_f c9 hf
    refine lv_iload_n hx hb dX5_isGreater_7 rfl (lv_at hl 2 rfl) ?_
    refine lv_iload_n hx hb dX5_isGreater_8 rfl (lv_at hl 3 rfl) ?_
    refine lv_icmp_le (tgt := 16) hx hb dX5_isGreater_9 (by decide) (fun c9 => ?_) (fun c9 => ?_)
    · have hf := zif_t c9 hf
      refine lv_iconst (v := (0 : Int32)) hx hb dX5_isGreater_16 (by decide) ?_
      obtain ⟨rfl, rfl, rfl, rfl⟩ := zret_i hf
      exact zr_zret hc hn hr (by decide) hq (fun _ _ _ _ q => q) dX5_isGreater_17
    · have hf := zif_f c9 hf
      refine lv_iconst (v := (1 : Int32)) hx hb dX5_isGreater_12 (by decide) ?_
      refine lv_goto (tgt := 17) hx hb dX5_isGreater_13 (by decide) ?_
      obtain ⟨rfl, rfl, rfl, rfl⟩ := zret_i hf
      exact zr_zret hc hn hr (by decide) hq (fun _ _ _ _ q => q) dX5_isGreater_17
theorem hd_X5_readValue : yX5_readValue.cls ≠ "java/lang/invoke/MethodHandle" ∧ yX5_readValue.cls ≠ "java/lang/invoke/VarHandle" ∧ (parseMethodDescriptor yX5_readValue.desc).map (fun d => d.parameters.length) = some 0 := by decide +kernel
def f_X5_readValue (h : PH) (a0 : Nat) : ZR (ZX Int32) :=
  zgP h a0 4 5 fun x101 =>
  znm (zS h 14) fun x102 =>
  if x101 = x102 then
    (zrc h a0 4 <| zcl (f_X5_advance h a0) fun _ h104 =>
    zrc h104 a0 4 <| zcl (f_X5_sign h104 a0) fun x105 h106 =>
    zgP h106 a0 4 5 fun x107 =>
    znm (zS h106 12) fun x108 =>
    if x107 = x108 then
      (zrc h106 a0 4 <| zcx (f_X5_require h106 a0 (1 : Int32) (1 : Int32)) fun _ h116 =>
      zgI h116 a0 4 4 fun x117 =>
      znm (x105 * x117) fun x118 =>
      zrc h116 a0 4 <| zcl (f_X5_advance h116 a0) fun _ h120 =>
      zret (.inl x118) h120)
    else
      (zrc h106 a0 4 <| zcx (f_X5_require h106 a0 (0 : Int32) (1 : Int32)) fun _ h110 =>
      zgI h110 a0 4 4 fun x111 =>
      znm (x105 * x111) fun x112 =>
      zrc h110 a0 4 <| zcl (f_X5_advance h110 a0) fun _ h114 =>
      zret (.inl x112) h114))
  else
    (zret (.inl (0 : Int32)) h)
set_option maxHeartbeats 4000000 in
set_option maxRecDepth 100000 in
theorem m_X5_readValue (l : Launch) (hl0 : l.stackTraces = false) (D : va_G) (dA : Nat → ClassId) (b0 : Nat) (gs : Nat → Option Nat) (h : PH) (a0 : Nat) {r : (ZX Int32)} {hh : PH} {mc ms : Nat} (hf : f_X5_readValue h a0 = some (r, hh, mc, ms)) : zMx l D dA b0 gs yX5_readValue (ws_ yX5_readValue cX5_readValue 3 (some .int)) 9 234 [.ref a0] h evI r hh mc ms := by
  unfold f_X5_readValue at hf
  refine zMx.of (by decide) (Nat.le_of_ble_eq_true rfl) ?_
  intro p e s m args below meth c hc hr hin ht hn ls hl
  have hl : lv_has ls 3 [(0, .ref a0)] := hl
  have hq : 0 + mc = mc ∧ 0 + ms = ms := ⟨Nat.zero_add _, Nat.zero_add _⟩
  have hx := hc.x
  have hb := hc.b
  refine lv_aload_n (x := a0) hx hb dX5_readValue_0 rfl (lv_at hl 0 rfl) ?_
  refine zr_gP hc hn (ci := 4) rfl rfl in_X5 5 (by decide) q731 (fun _ h => h) (fun _ _ _ => rfl) hf dX5_readValue_1 (fun x101 hf => ?_)
  refine zr_gs hc hn (hc.st14) q722 (fun _ h => h) hf dX5_readValue_4 (fun x102 hf => ?_)
  refine lv_acmp_eq (rx := x101) (ry := x102) (tgt := 12) hx hb dX5_readValue_7 (by decide) (fun c9 => ?_) (fun c9 => ?_)
  · have hf := zif_t c9 hf
    refine lv_aload_n (x := a0) hx hb dX5_readValue_12 rfl (lv_at hl 0 rfl) ?_
    refine zr_cVU (As := []) (rest := []) hc hn hq (ci := 4) rfl ⟨rfl, hd_X5_advance⟩ (lw_V q429 q431 qs1 q99 q432) (Nat.le_of_ble_eq_true rfl) (Nat.le_of_ble_eq_true rfl) (fun _ _ _ _ q => m_X5_advance l D dA b0 gs h a0 q) hf dX5_readValue_13 hl.1 rfl rfl (zroom (Nat.le_of_ble_eq_true rfl)) (fun x103 h104 H locs cells slots C9 S9 hf hq hn => ?_)
    refine lv_aload_n (x := a0) hx hb dX5_readValue_16 rfl (lv_at hl 0 rfl) ?_
    refine zr_cVI (As := []) (rest := []) hc hn hq (ci := 4) rfl ⟨rfl, hd_X5_sign⟩ (lw_V q887 q889 qs7 q99 q890) (Nat.le_of_ble_eq_true rfl) (Nat.le_of_ble_eq_true rfl) (fun _ _ _ _ q => m_X5_sign l D dA b0 gs h104 a0 q) hf dX5_readValue_17 hl.1 rfl rfl (zroom (Nat.le_of_ble_eq_true rfl)) (fun x105 h106 H locs cells slots C9 S9 hf hq hn => ?_)
    refine lv_istore_n (i := 1) (lv' := [(1, .int x105), (0, .ref a0)]) hx hb dX5_readValue_20 rfl hl (by decide) rfl (fun ls hl => ?_)
    refine lv_aload_n (x := a0) hx hb dX5_readValue_21 rfl (lv_at hl 1 rfl) ?_
    refine lv_aload_n (x := a0) hx hb dX5_readValue_22 rfl (lv_at hl 1 rfl) ?_
    refine zr_gP hc hn (ci := 4) rfl rfl in_X5 5 (by decide) q731 (fun _ h => h) (fun _ _ _ => rfl) hf dX5_readValue_23 (fun x107 hf => ?_)
    refine zr_gs hc hn (hc.st12) q718 (fun _ h => h) hf dX5_readValue_26 (fun x108 hf => ?_)
    refine lv_acmp_ne (rx := x107) (ry := x108) (tgt := 36) hx hb dX5_readValue_29 (by decide) (fun c9 => ?_) (fun c9 => ?_)
    · have hf := zif_f c9 hf
      refine lv_iconst (v := (0 : Int32)) hx hb dX5_readValue_36 (by decide) ?_
      refine lv_iconst (v := (1 : Int32)) hx hb dX5_readValue_37 (by decide) ?_
      refine zx_VU (As := [.int (0 : Int32), .int (1 : Int32)]) (rest := []) hc hn hq (fun x hx => (ht x hx).elim) (ci := 4) rfl ⟨rfl, hd_X5_require⟩ (lw_V q772 q774 qs5 q99 q775) (Nat.le_of_ble_eq_true rfl) (Nat.le_of_ble_eq_true rfl) (fun _ _ _ _ q => m_X5_require l hl0 D dA b0 gs h106 a0 (0 : Int32) (1 : Int32) q) hf dX5_readValue_38 hl.1 rfl rfl (zroom (Nat.le_of_ble_eq_true rfl)) (fun x109 h110 H locs cells slots C9 S9 hf hq hn => ?_)
      refine lv_iload_n hx hb dX5_readValue_41 rfl (lv_at hl 0 rfl) ?_
      refine lv_aload_n (x := a0) hx hb dX5_readValue_42 rfl (lv_at hl 1 rfl) ?_
      refine zr_gI hc hn (ci := 4) rfl rfl in_X5 4 (by decide) q730 (fun _ h => h) (fun _ _ _ => rfl) hf dX5_readValue_43 (fun x111 hf => ?_)
      refine lv_imul hx hb dX5_readValue_46 ?_
      refine zr_nmI hf (fun x112 hf => ?_)
      refine lv_istore_n (i := 2) (lv' := [(2, .int x112), (1, .int x105), (0, .ref a0)]) hx hb dX5_readValue_47 rfl hl (by decide) rfl (fun ls hl => ?_)
      refine lv_aload_n (x := a0) hx hb dX5_readValue_48 rfl (lv_at hl 2 rfl) ?_
      refine zr_cVU (As := []) (rest := []) hc hn hq (ci := 4) rfl ⟨rfl, hd_X5_advance⟩ (lw_V q429 q431 qs1 q99 q432) (Nat.le_of_ble_eq_true rfl) (Nat.le_of_ble_eq_true rfl) (fun _ _ _ _ q => m_X5_advance l D dA b0 gs h110 a0 q) hf dX5_readValue_49 hl.1 rfl rfl (zroom (Nat.le_of_ble_eq_true rfl)) (fun x113 h114 H locs cells slots C9 S9 hf hq hn => ?_)
      refine lv_iload_n hx hb dX5_readValue_52 rfl (lv_at hl 0 rfl) ?_
      obtain ⟨rfl, rfl, rfl, rfl⟩ := zretx_i hf
      exact zx_ret (zr_iret hc hn hr hq (fun _ _ _ _ q => ⟨_, rfl, q⟩) dX5_readValue_53)
    · have hf := zif_t c9 hf
      refine lv_iconst (v := (1 : Int32)) hx hb dX5_readValue_32 (by decide) ?_
      refine lv_goto (tgt := 37) hx hb dX5_readValue_33 (by decide) ?_
      refine lv_iconst (v := (1 : Int32)) hx hb dX5_readValue_37 (by decide) ?_
      refine zx_VU (As := [.int (1 : Int32), .int (1 : Int32)]) (rest := []) hc hn hq (fun x hx => (ht x hx).elim) (ci := 4) rfl ⟨rfl, hd_X5_require⟩ (lw_V q772 q774 qs5 q99 q775) (Nat.le_of_ble_eq_true rfl) (Nat.le_of_ble_eq_true rfl) (fun _ _ _ _ q => m_X5_require l hl0 D dA b0 gs h106 a0 (1 : Int32) (1 : Int32) q) hf dX5_readValue_38 hl.1 rfl rfl (zroom (Nat.le_of_ble_eq_true rfl)) (fun x115 h116 H locs cells slots C9 S9 hf hq hn => ?_)
      refine lv_iload_n hx hb dX5_readValue_41 rfl (lv_at hl 0 rfl) ?_
      refine lv_aload_n (x := a0) hx hb dX5_readValue_42 rfl (lv_at hl 1 rfl) ?_
      refine zr_gI hc hn (ci := 4) rfl rfl in_X5 4 (by decide) q730 (fun _ h => h) (fun _ _ _ => rfl) hf dX5_readValue_43 (fun x117 hf => ?_)
      refine lv_imul hx hb dX5_readValue_46 ?_
      refine zr_nmI hf (fun x118 hf => ?_)
      refine lv_istore_n (i := 2) (lv' := [(2, .int x118), (1, .int x105), (0, .ref a0)]) hx hb dX5_readValue_47 rfl hl (by decide) rfl (fun ls hl => ?_)
      refine lv_aload_n (x := a0) hx hb dX5_readValue_48 rfl (lv_at hl 2 rfl) ?_
      refine zr_cVU (As := []) (rest := []) hc hn hq (ci := 4) rfl ⟨rfl, hd_X5_advance⟩ (lw_V q429 q431 qs1 q99 q432) (Nat.le_of_ble_eq_true rfl) (Nat.le_of_ble_eq_true rfl) (fun _ _ _ _ q => m_X5_advance l D dA b0 gs h116 a0 q) hf dX5_readValue_49 hl.1 rfl rfl (zroom (Nat.le_of_ble_eq_true rfl)) (fun x119 h120 H locs cells slots C9 S9 hf hq hn => ?_)
      refine lv_iload_n hx hb dX5_readValue_52 rfl (lv_at hl 0 rfl) ?_
      obtain ⟨rfl, rfl, rfl, rfl⟩ := zretx_i hf
      exact zx_ret (zr_iret hc hn hr hq (fun _ _ _ _ q => ⟨_, rfl, q⟩) dX5_readValue_53)
  · have hf := zif_f c9 hf
    refine lv_iconst (v := (0 : Int32)) hx hb dX5_readValue_10 (by decide) ?_
    obtain ⟨rfl, rfl, rfl, rfl⟩ := zretx_i hf
    exact zx_ret (zr_iret hc hn hr hq (fun _ _ _ _ q => ⟨_, rfl, q⟩) dX5_readValue_11)
theorem hd_X5_readList : yX5_readList.cls ≠ "java/lang/invoke/MethodHandle" ∧ yX5_readList.cls ≠ "java/lang/invoke/VarHandle" ∧ (parseMethodDescriptor yX5_readList.desc).map (fun d => d.parameters.length) = some 0 := by decide +kernel
def f_X5_readList_b81 (k45 : PH → Nat → Nat → Int32 → Int32 → ZR (ZX Nat)) (h : PH) (a0 : Nat) (a1 : Nat) (v2 : Int32) (v3 : Int32) (s0 : Nat) (s1 : Int32) : ZR (ZX Nat) :=
  zrc h s0 4 <| zcx (f_X5_require h s0 s1 (4 : Int32)) fun _ h102 =>
  znm (v3 + (1 : Int32)) fun x103 =>
  k45 h102 a0 a1 v2 x103
def f_X5_readList_b76 (k45 : PH → Nat → Nat → Int32 → Int32 → ZR (ZX Nat)) (h : PH) (a0 : Nat) (a1 : Nat) (v2 : Int32) (v3 : Int32) (s0 : Nat) : ZR (ZX Nat) :=
  f_X5_readList_b81 k45 h a0 a1 v2 v3 s0 (1 : Int32)
def f_X5_readList_b219 (k109 : PH → Nat → Nat → Int32 → ZR (ZX Nat)) (h : PH) (a0 : Nat) (a1 : Nat) (v4 : Int32) (s0 : Nat) (s1 : Int32) : ZR (ZX Nat) :=
  zrc h s0 4 <| zcx (f_X5_take h s0 s1 (5 : Int32)) fun _ h102 =>
  zrc h102 a0 4 <| zcx (f_X5_readValue h102 a0) fun x103 h104 =>
  zrc h104 a1 6 <| zcl (f_X7_append h104 a1 v4 x103 (1 : Int32)) fun _ h106 =>
  k109 h106 a0 a1 v4
def f_X5_readList_b179 (k109 : PH → Nat → Nat → Int32 → ZR (ZX Nat)) (h : PH) (a0 : Nat) (a1 : Nat) (v2 : Int32) (v3 : Int32) (s0 : Nat) (s1 : Int32) : ZR (ZX Nat) :=
  zrc h s0 4 <| zcx (f_X5_require h s0 s1 (1 : Int32)) fun _ h102 =>
  zgI h102 a0 4 4 fun x103 =>
  znm (v3 * x103) fun x104 =>
  zrc h102 a0 4 <| zcl (f_X5_isGreater h102 a0 a1 x104 v2) fun x105 h106 =>
  zrc h106 a0 4 <| zcx (f_X5_require h106 a0 x105 (3 : Int32)) fun _ h108 =>
  zgI h108 a1 6 3 fun x109 =>
  if (60 : Int32) ≤ x109 then
    (f_X5_readList_b219 k109 h108 a0 a1 x104 a0 (0 : Int32))
  else
    (f_X5_readList_b219 k109 h108 a0 a1 x104 a0 (1 : Int32))
def f_X5_readList_b154 (k109 : PH → Nat → Nat → Int32 → ZR (ZX Nat)) (h : PH) (a0 : Nat) (a1 : Nat) (v2 : Int32) (s0 : Nat) (s1 : Int32) : ZR (ZX Nat) :=
  zrc h s0 4 <| zcx (f_X5_require h s0 s1 (5 : Int32)) fun _ h102 =>
  zrc h102 a0 4 <| zcl (f_X5_sign h102 a0) fun x103 h104 =>
  zgP h104 a0 4 5 fun x105 =>
  znm (zS h104 12) fun x106 =>
  if x105 = x106 then
    (f_X5_readList_b179 k109 h104 a0 a1 v2 x103 a0 (1 : Int32))
  else
    (f_X5_readList_b179 k109 h104 a0 a1 v2 x103 a0 (0 : Int32))
def f_X5_readList_b149 (k109 : PH → Nat → Nat → Int32 → ZR (ZX Nat)) (h : PH) (a0 : Nat) (a1 : Nat) (v2 : Int32) (s0 : Nat) : ZR (ZX Nat) :=
  f_X5_readList_b154 k109 h a0 a1 v2 s0 (1 : Int32)
def f_X5_readList_b129 (k109 : PH → Nat → Nat → Int32 → ZR (ZX Nat)) (h : PH) (a0 : Nat) (a1 : Nat) (v2 : Int32) : ZR (ZX Nat) :=
  zgP h a0 4 5 fun x101 =>
  znm (zS h 12) fun x102 =>
  if x101 = x102 then
    (f_X5_readList_b149 k109 h a0 a1 v2 a0)
  else
    (zgI h a1 6 3 fun x103 =>
    if (60 : Int32) ≤ x103 then
      (f_X5_readList_b154 k109 h a0 a1 v2 a0 (0 : Int32))
    else
      (f_X5_readList_b149 k109 h a0 a1 v2 a0))
def f_X5_readList_b109 : Nat → PH → Nat → Nat → Int32 → ZR (ZX Nat)
  | 0 => fun _ _ _ _ => none
  | n + 1 => fun h a0 a1 v2 =>
    zgP h a0 4 5 fun x101 =>
    znm (zS h 15) fun x102 =>
    if x101 = x102 then
      (f_X5_readList_b129 (f_X5_readList_b109 n) h a0 a1 v2)
    else
      (zgP h a0 4 5 fun x103 =>
      znm (zS h 12) fun x104 =>
      if x103 = x104 then
        (f_X5_readList_b129 (f_X5_readList_b109 n) h a0 a1 v2)
      else
        (zgP h a0 4 5 fun x105 =>
        znm (zS h 13) fun x106 =>
        if x105 = x106 then
          (zrc h a0 4 <| zcx (f_X5_take h a0 (1 : Int32) (1 : Int32)) fun _ h110 =>
          zret (.inl a1) h110)
        else
          (zrc h a0 4 <| zcx (f_X5_take h a0 (0 : Int32) (1 : Int32)) fun _ h108 =>
          zret (.inl a1) h108)))
def f_X5_readList_b45 : Nat → PH → Nat → Nat → Int32 → Int32 → ZR (ZX Nat)
  | 0 => fun _ _ _ _ _ => none
  | n + 1 => fun h a0 a1 v2 v3 =>
    if v2 ≤ v3 then
      (zno h 6 4 fun a101 h102 =>
      zgP h102 a0 4 6 fun x103 =>
      znn x103 fun a104 =>
      zcl (f_X7_init h102 a101 a104) fun _ h106 =>
      zrc h106 a0 4 <| zcl (f_X5_advance h106 a0) fun _ h108 =>
      f_X5_readList_b109 zFU h108 a0 a101 (0 : Int32))
    else
      (zaP h a1 6 v3 fun x109 =>
      znul x109
        (f_X5_readList_b76 (f_X5_readList_b45 n) h a0 a1 v2 v3 a0)
        (fun a110 =>
          zgP h a110 6 0 fun x111 =>
          zgP h a0 4 6 fun x112 =>
          znn x111 fun a113 =>
          znn x112 fun a114 =>
          zrc h a113 14 <| zcl (f_J10_equals h a113 a114) fun x115 h116 =>
          if x115 = 0 then
            (f_X5_readList_b76 (f_X5_readList_b45 n) h116 a0 a1 v2 v3 a0)
          else
            (f_X5_readList_b81 (f_X5_readList_b45 n) h116 a0 a1 v2 v3 a0 (0 : Int32))))
def f_X5_readList_b28 (h : PH) (a0 : Nat) (s0 : Nat) (s1 : Int32) : ZR (ZX Nat) :=
  zrc h s0 4 <| zcx (f_X5_require h s0 s1 (1 : Int32)) fun _ h102 =>
  zgP h102 a0 4 1 fun x103 =>
  znn x103 fun a104 =>
  zgP h102 a104 1 0 fun x105 =>
  znn x105 fun a106 =>
  zlen h102 a106 6 fun x107 =>
  f_X5_readList_b45 zFU h102 a0 a106 x107 (0 : Int32)
def f_X5_readList_b27 (h : PH) (a0 : Nat) (s0 : Nat) : ZR (ZX Nat) :=
  f_X5_readList_b28 h a0 s0 (0 : Int32)
def f_X5_readList (h : PH) (a0 : Nat) : ZR (ZX Nat) :=
  zgP h a0 4 5 fun x101 =>
  znm (zS h 10) fun x102 =>
  if x101 = x102 then
    (zgP h a0 4 6 fun x103 =>
    znn x103 fun a104 =>
    zrc h a104 14 <| zcl (f_J10_length h a104) fun x105 h106 =>
    if (8 : Int32) < x105 then
      (f_X5_readList_b27 h106 a0 a0)
    else
      (f_X5_readList_b28 h106 a0 a0 (1 : Int32)))
  else
    (f_X5_readList_b27 h a0 a0)
set_option maxHeartbeats 4000000 in
set_option maxRecDepth 100000 in
theorem m_X5_readList_b81 {p : Program} {l : Launch} {e : Env} {s : State} {m : MethodId} {args : Array Value} {below : List Frame} {meth : Method} {c : Code} {D : va_G} {dA : Nat → ClassId} {b0 : Nat} {gs : Nat → Option Nat} (hc : zC D dA b0 gs yX5_readList.cls cX5_readList 5 p c s m args meth) (hr : meth.sig.returnType = (some (.object "CountedSkipLists$SkipList"))) (hin : meth.name = yX5_readList.name) {r : (ZX Nat)} {hh : PH} {mc ms : Nat} (hl0 : l.stackTraces = false) (ht : ∀ x ∈ c.exceptionTable.toList, False) (k45 : PH → Nat → Nat → Int32 → Int32 → ZR (ZX Nat)) (hk45 : ∀ (h : PH) (a0 : Nat) (a1 : Nat) (v2 : Int32) (v3 : Int32) (C9 S9 : Nat) (H : Heap) (locs : List Loc) (cells slots : Nat), k45 h a0 a1 v2 v3 = some (r, hh, C9, S9) → cells + C9 = mc ∧ slots + S9 = ms → zM D dA b0 gs s h H locs → ∀ ls : Array Slot, lv_has ls 5 [(0, .ref a0), (1, .ref a1), (2, .int v2), (3, .int v3)] → W p l e ({ frames := 10, cells := mc, slots := ms, locals := 256 } : Room) s m args below meth c H locs cells slots (vx_MQ below (zQX D dA b0 gs evN r hh) (zXC D dA b0 gs r hh) args s mc ms (zA b0)) (F0 m 45 ls [])) : ∀ (h : PH) (a0 : Nat) (a1 : Nat) (v2 : Int32) (v3 : Int32) (s0 : Nat) (s1 : Int32) (C9 S9 : Nat) (H : Heap) (locs : List Loc) (cells slots : Nat), f_X5_readList_b81 k45 h a0 a1 v2 v3 s0 s1 = some (r, hh, C9, S9) → cells + C9 = mc ∧ slots + S9 = ms → zM D dA b0 gs s h H locs → ∀ ls : Array Slot, lv_has ls 5 [(0, .ref a0), (1, .ref a1), (2, .int v2), (3, .int v3)] → W p l e ({ frames := 10, cells := mc, slots := ms, locals := 256 } : Room) s m args below meth c H locs cells slots (vx_MQ below (zQX D dA b0 gs evN r hh) (zXC D dA b0 gs r hh) args s mc ms (zA b0)) (F0 m 81 ls [.int s1, .ref s0]) := by
  have hx := hc.x
  have hb := hc.b
  intro h a0 a1 v2 v3 s0 s1 C9 S9 H locs cells slots hf hq hn ls hl
  unfold f_X5_readList_b81 at hf
  refine lv_iconst (v := (4 : Int32)) hx hb dX5_readList_81 (by decide) ?_
  refine zx_VU (As := [.int s1, .int (4 : Int32)]) (rest := []) hc hn hq (fun x hx => (ht x hx).elim) (ci := 4) rfl ⟨rfl, hd_X5_require⟩ (lw_V q772 q774 qs5 q99 q775) (Nat.le_of_ble_eq_true rfl) (Nat.le_of_ble_eq_true rfl) (fun _ _ _ _ q => m_X5_require l hl0 D dA b0 gs h s0 s1 (4 : Int32) q) hf dX5_readList_82 hl.1 rfl rfl (zroom (Nat.le_of_ble_eq_true rfl)) (fun x101 h102 H locs cells slots C9 S9 hf hq hn => ?_)
  obtain ⟨x103, ex103, hf⟩ := znm_i hf
  refine lv_iinc (v := x103) (lv' := [(3, .int x103), (0, .ref a0), (1, .ref a1), (2, .int v2)]) hx hb dX5_readList_85 hl (k := 3) rfl (by rw [ex103]; rfl) (by decide) rfl (fun ls hl => ?_)
  refine lv_goto (tgt := 45) hx hb dX5_readList_88 (by decide) ?_
  exact hk45 h102 a0 a1 v2 x103 _ _ _ _ _ _ hf hq hn _ (lv_sub hl [1, 2, 3, 0] rfl)
set_option maxHeartbeats 4000000 in
set_option maxRecDepth 100000 in
theorem m_X5_readList_b76 {p : Program} {l : Launch} {e : Env} {s : State} {m : MethodId} {args : Array Value} {below : List Frame} {meth : Method} {c : Code} {D : va_G} {dA : Nat → ClassId} {b0 : Nat} {gs : Nat → Option Nat} (hc : zC D dA b0 gs yX5_readList.cls cX5_readList 5 p c s m args meth) (hr : meth.sig.returnType = (some (.object "CountedSkipLists$SkipList"))) (hin : meth.name = yX5_readList.name) {r : (ZX Nat)} {hh : PH} {mc ms : Nat} (hl0 : l.stackTraces = false) (ht : ∀ x ∈ c.exceptionTable.toList, False) (k45 : PH → Nat → Nat → Int32 → Int32 → ZR (ZX Nat)) (hk45 : ∀ (h : PH) (a0 : Nat) (a1 : Nat) (v2 : Int32) (v3 : Int32) (C9 S9 : Nat) (H : Heap) (locs : List Loc) (cells slots : Nat), k45 h a0 a1 v2 v3 = some (r, hh, C9, S9) → cells + C9 = mc ∧ slots + S9 = ms → zM D dA b0 gs s h H locs → ∀ ls : Array Slot, lv_has ls 5 [(0, .ref a0), (1, .ref a1), (2, .int v2), (3, .int v3)] → W p l e ({ frames := 10, cells := mc, slots := ms, locals := 256 } : Room) s m args below meth c H locs cells slots (vx_MQ below (zQX D dA b0 gs evN r hh) (zXC D dA b0 gs r hh) args s mc ms (zA b0)) (F0 m 45 ls [])) : ∀ (h : PH) (a0 : Nat) (a1 : Nat) (v2 : Int32) (v3 : Int32) (s0 : Nat) (C9 S9 : Nat) (H : Heap) (locs : List Loc) (cells slots : Nat), f_X5_readList_b76 k45 h a0 a1 v2 v3 s0 = some (r, hh, C9, S9) → cells + C9 = mc ∧ slots + S9 = ms → zM D dA b0 gs s h H locs → ∀ ls : Array Slot, lv_has ls 5 [(0, .ref a0), (1, .ref a1), (2, .int v2), (3, .int v3)] → W p l e ({ frames := 10, cells := mc, slots := ms, locals := 256 } : Room) s m args below meth c H locs cells slots (vx_MQ below (zQX D dA b0 gs evN r hh) (zXC D dA b0 gs r hh) args s mc ms (zA b0)) (F0 m 76 ls [.ref s0]) := by
  have hx := hc.x
  have hb := hc.b
  intro h a0 a1 v2 v3 s0 C9 S9 H locs cells slots hf hq hn ls hl
  unfold f_X5_readList_b76 at hf
  refine lv_iconst (v := (1 : Int32)) hx hb dX5_readList_76 (by decide) ?_
  refine lv_goto (tgt := 81) hx hb dX5_readList_77 (by decide) ?_
  exact m_X5_readList_b81 hc hr hin hl0 ht k45 hk45 h a0 a1 v2 v3 s0 (1 : Int32) _ _ _ _ _ _ hf hq hn _ (lv_sub hl [0, 1, 2, 3] rfl)
set_option maxHeartbeats 4000000 in
set_option maxRecDepth 100000 in
theorem m_X5_readList_b219 {p : Program} {l : Launch} {e : Env} {s : State} {m : MethodId} {args : Array Value} {below : List Frame} {meth : Method} {c : Code} {D : va_G} {dA : Nat → ClassId} {b0 : Nat} {gs : Nat → Option Nat} (hc : zC D dA b0 gs yX5_readList.cls cX5_readList 5 p c s m args meth) (hr : meth.sig.returnType = (some (.object "CountedSkipLists$SkipList"))) (hin : meth.name = yX5_readList.name) {r : (ZX Nat)} {hh : PH} {mc ms : Nat} (hl0 : l.stackTraces = false) (ht : ∀ x ∈ c.exceptionTable.toList, False) (k109 : PH → Nat → Nat → Int32 → ZR (ZX Nat)) (hk109 : ∀ (h : PH) (a0 : Nat) (a1 : Nat) (v2 : Int32) (C9 S9 : Nat) (H : Heap) (locs : List Loc) (cells slots : Nat), k109 h a0 a1 v2 = some (r, hh, C9, S9) → cells + C9 = mc ∧ slots + S9 = ms → zM D dA b0 gs s h H locs → ∀ ls : Array Slot, lv_has ls 5 [(0, .ref a0), (1, .ref a1), (2, .int v2)] → W p l e ({ frames := 10, cells := mc, slots := ms, locals := 256 } : Room) s m args below meth c H locs cells slots (vx_MQ below (zQX D dA b0 gs evN r hh) (zXC D dA b0 gs r hh) args s mc ms (zA b0)) (F0 m 109 ls [])) : ∀ (h : PH) (a0 : Nat) (a1 : Nat) (v4 : Int32) (s0 : Nat) (s1 : Int32) (C9 S9 : Nat) (H : Heap) (locs : List Loc) (cells slots : Nat), f_X5_readList_b219 k109 h a0 a1 v4 s0 s1 = some (r, hh, C9, S9) → cells + C9 = mc ∧ slots + S9 = ms → zM D dA b0 gs s h H locs → ∀ ls : Array Slot, lv_has ls 5 [(0, .ref a0), (1, .ref a1), (4, .int v4)] → W p l e ({ frames := 10, cells := mc, slots := ms, locals := 256 } : Room) s m args below meth c H locs cells slots (vx_MQ below (zQX D dA b0 gs evN r hh) (zXC D dA b0 gs r hh) args s mc ms (zA b0)) (F0 m 219 ls [.int s1, .ref s0]) := by
  have hx := hc.x
  have hb := hc.b
  intro h a0 a1 v4 s0 s1 C9 S9 H locs cells slots hf hq hn ls hl
  unfold f_X5_readList_b219 at hf
  refine lv_iconst (v := (5 : Int32)) hx hb dX5_readList_219 (by decide) ?_
  refine zx_VU (As := [.int s1, .int (5 : Int32)]) (rest := []) hc hn hq (fun x hx => (ht x hx).elim) (ci := 4) rfl ⟨rfl, hd_X5_take⟩ (lw_V q768 q770 qs4 q99 q771) (Nat.le_of_ble_eq_true rfl) (Nat.le_of_ble_eq_true rfl) (fun _ _ _ _ q => m_X5_take l hl0 D dA b0 gs h s0 s1 (5 : Int32) q) hf dX5_readList_220 hl.1 rfl rfl (zroom (Nat.le_of_ble_eq_true rfl)) (fun x101 h102 H locs cells slots C9 S9 hf hq hn => ?_)
  refine lv_aload_n (x := a1) hx hb dX5_readList_223 rfl (lv_at hl 1 rfl) ?_
  refine lv_iload hx hb dX5_readList_224 (lv_at hl 2 rfl) ?_
  refine lv_aload_n (x := a0) hx hb dX5_readList_226 rfl (lv_at hl 0 rfl) ?_
  refine zx_VI (As := []) (rest := [.int v4, .ref a1]) hc hn hq (fun x hx => (ht x hx).elim) (ci := 4) rfl ⟨rfl, hd_X5_readValue⟩ (lw_V q895 q897 qs9 q99 q898) (Nat.le_of_ble_eq_true rfl) (Nat.le_of_ble_eq_true rfl) (fun _ _ _ _ q => m_X5_readValue l hl0 D dA b0 gs h102 a0 q) hf dX5_readList_227 hl.1 rfl rfl (zroom (Nat.le_of_ble_eq_true rfl)) (fun x103 h104 H locs cells slots C9 S9 hf hq hn => ?_)
  refine lv_iconst (v := (1 : Int32)) hx hb dX5_readList_230 (by decide) ?_
  refine zr_cVU (As := [.int v4, .int x103, .int (1 : Int32)]) (rest := []) hc hn hq (ci := 6) rfl ⟨rfl, hd_X7_append⟩ (lw_V q899 q900 q901 q115 q902) (Nat.le_of_ble_eq_true rfl) (Nat.le_of_ble_eq_true rfl) (fun _ _ _ _ q => m_X7_append l D dA b0 gs h104 a1 v4 x103 (1 : Int32) q) hf dX5_readList_231 hl.1 rfl rfl (zroom (Nat.le_of_ble_eq_true rfl)) (fun x105 h106 H locs cells slots C9 S9 hf hq hn => ?_)
  refine lv_iload hx hb dX5_readList_234 (lv_at hl 2 rfl) ?_
  refine lv_istore_n (i := 2) (lv' := [(2, .int v4), (0, .ref a0), (1, .ref a1), (4, .int v4)]) hx hb dX5_readList_236 rfl hl (by decide) rfl (fun ls hl => ?_)
  refine lv_goto (tgt := 109) hx hb dX5_readList_237 (by decide) ?_
  exact hk109 h106 a0 a1 v4 _ _ _ _ _ _ hf hq hn _ (lv_sub hl [1, 2, 0] rfl)
set_option maxHeartbeats 4000000 in
set_option maxRecDepth 100000 in
theorem m_X5_readList_b179 {p : Program} {l : Launch} {e : Env} {s : State} {m : MethodId} {args : Array Value} {below : List Frame} {meth : Method} {c : Code} {D : va_G} {dA : Nat → ClassId} {b0 : Nat} {gs : Nat → Option Nat} (hc : zC D dA b0 gs yX5_readList.cls cX5_readList 5 p c s m args meth) (hr : meth.sig.returnType = (some (.object "CountedSkipLists$SkipList"))) (hin : meth.name = yX5_readList.name) {r : (ZX Nat)} {hh : PH} {mc ms : Nat} (hl0 : l.stackTraces = false) (ht : ∀ x ∈ c.exceptionTable.toList, False) (k109 : PH → Nat → Nat → Int32 → ZR (ZX Nat)) (hk109 : ∀ (h : PH) (a0 : Nat) (a1 : Nat) (v2 : Int32) (C9 S9 : Nat) (H : Heap) (locs : List Loc) (cells slots : Nat), k109 h a0 a1 v2 = some (r, hh, C9, S9) → cells + C9 = mc ∧ slots + S9 = ms → zM D dA b0 gs s h H locs → ∀ ls : Array Slot, lv_has ls 5 [(0, .ref a0), (1, .ref a1), (2, .int v2)] → W p l e ({ frames := 10, cells := mc, slots := ms, locals := 256 } : Room) s m args below meth c H locs cells slots (vx_MQ below (zQX D dA b0 gs evN r hh) (zXC D dA b0 gs r hh) args s mc ms (zA b0)) (F0 m 109 ls [])) : ∀ (h : PH) (a0 : Nat) (a1 : Nat) (v2 : Int32) (v3 : Int32) (s0 : Nat) (s1 : Int32) (C9 S9 : Nat) (H : Heap) (locs : List Loc) (cells slots : Nat), f_X5_readList_b179 k109 h a0 a1 v2 v3 s0 s1 = some (r, hh, C9, S9) → cells + C9 = mc ∧ slots + S9 = ms → zM D dA b0 gs s h H locs → ∀ ls : Array Slot, lv_has ls 5 [(0, .ref a0), (1, .ref a1), (2, .int v2), (3, .int v3)] → W p l e ({ frames := 10, cells := mc, slots := ms, locals := 256 } : Room) s m args below meth c H locs cells slots (vx_MQ below (zQX D dA b0 gs evN r hh) (zXC D dA b0 gs r hh) args s mc ms (zA b0)) (F0 m 179 ls [.int s1, .ref s0]) := by
  have hx := hc.x
  have hb := hc.b
  intro h a0 a1 v2 v3 s0 s1 C9 S9 H locs cells slots hf hq hn ls hl
  unfold f_X5_readList_b179 at hf
  refine lv_iconst (v := (1 : Int32)) hx hb dX5_readList_179 (by decide) ?_
  refine zx_VU (As := [.int s1, .int (1 : Int32)]) (rest := []) hc hn hq (fun x hx => (ht x hx).elim) (ci := 4) rfl ⟨rfl, hd_X5_require⟩ (lw_V q772 q774 qs5 q99 q775) (Nat.le_of_ble_eq_true rfl) (Nat.le_of_ble_eq_true rfl) (fun _ _ _ _ q => m_X5_require l hl0 D dA b0 gs h s0 s1 (1 : Int32) q) hf dX5_readList_180 hl.1 rfl rfl (zroom (Nat.le_of_ble_eq_true rfl)) (fun x101 h102 H locs cells slots C9 S9 hf hq hn => ?_)
  refine lv_iload_n hx hb dX5_readList_183 rfl (lv_at hl 3 rfl) ?_
  refine lv_aload_n (x := a0) hx hb dX5_readList_184 rfl (lv_at hl 0 rfl) ?_
  refine zr_gI hc hn (ci := 4) rfl rfl in_X5 4 (by decide) q730 (fun _ h => h) (fun _ _ _ => rfl) hf dX5_readList_185 (fun x103 hf => ?_)
  refine lv_imul hx hb dX5_readList_188 ?_
  refine zr_nmI hf (fun x104 hf => ?_)
  refine lv_istore (lv' := [(4, .int x104), (0, .ref a0), (1, .ref a1), (2, .int v2), (3, .int v3)]) hx hb dX5_readList_189 hl (by decide) rfl (fun ls hl => ?_)
  refine lv_aload_n (x := a0) hx hb dX5_readList_191 rfl (lv_at hl 1 rfl) ?_
  refine lv_aload_n (x := a0) hx hb dX5_readList_192 rfl (lv_at hl 1 rfl) ?_
  refine lv_aload_n (x := a1) hx hb dX5_readList_193 rfl (lv_at hl 2 rfl) ?_
  refine lv_iload hx hb dX5_readList_194 (lv_at hl 0 rfl) ?_
  refine lv_iload_n hx hb dX5_readList_196 rfl (lv_at hl 3 rfl) ?_
  refine zr_cVI (As := [.ref a1, .int x104, .int v2]) (rest := [.ref a0]) hc hn hq (ci := 4) rfl ⟨rfl, hd_X5_isGreater⟩ (lw_V q891 q893 qs8 q99 q894) (Nat.le_of_ble_eq_true rfl) (Nat.le_of_ble_eq_true rfl) (fun _ _ _ _ q => m_X5_isGreater l D dA b0 gs h102 a0 a1 x104 v2 q) hf dX5_readList_197 hl.1 rfl rfl (zroom (Nat.le_of_ble_eq_true rfl)) (fun x105 h106 H locs cells slots C9 S9 hf hq hn => ?_)
  refine lv_iconst (v := (3 : Int32)) hx hb dX5_readList_200 (by decide) ?_
  refine zx_VU (As := [.int x105, .int (3 : Int32)]) (rest := []) hc hn hq (fun x hx => (ht x hx).elim) (ci := 4) rfl ⟨rfl, hd_X5_require⟩ (lw_V q772 q774 qs5 q99 q775) (Nat.le_of_ble_eq_true rfl) (Nat.le_of_ble_eq_true rfl) (fun _ _ _ _ q => m_X5_require l hl0 D dA b0 gs h106 a0 x105 (3 : Int32) q) hf dX5_readList_201 hl.1 rfl rfl (zroom (Nat.le_of_ble_eq_true rfl)) (fun x107 h108 H locs cells slots C9 S9 hf hq hn => ?_)
  refine lv_aload_n (x := a0) hx hb dX5_readList_204 rfl (lv_at hl 1 rfl) ?_
  refine lv_aload_n (x := a1) hx hb dX5_readList_205 rfl (lv_at hl 2 rfl) ?_
  refine zr_gIN hc hn (ci := 6) rfl rfl in_X7 3 (by decide) q876 (fun _ h => h) (fun _ _ _ => rfl) hf dX5_readList_206 (fun x109 hf => ?_)
  refine lv_bipush (v := (60 : Int32)) hx hb dX5_readList_209 (by decide) ?_
  refine lv_icmp_ge (tgt := 218) hx hb dX5_readList_211 (by decide) (fun c9 => ?_) (fun c9 => ?_)
  · have hf := zif_t c9 hf
    refine lv_iconst (v := (0 : Int32)) hx hb dX5_readList_218 (by decide) ?_
    exact m_X5_readList_b219 hc hr hin hl0 ht k109 hk109 h108 a0 a1 x104 a0 (0 : Int32) _ _ _ _ _ _ hf hq hn _ (lv_sub hl [1, 2, 0] rfl)
  · have hf := zif_f c9 hf
    refine lv_iconst (v := (1 : Int32)) hx hb dX5_readList_214 (by decide) ?_
    refine lv_goto (tgt := 219) hx hb dX5_readList_215 (by decide) ?_
    exact m_X5_readList_b219 hc hr hin hl0 ht k109 hk109 h108 a0 a1 x104 a0 (1 : Int32) _ _ _ _ _ _ hf hq hn _ (lv_sub hl [1, 2, 0] rfl)
set_option maxHeartbeats 4000000 in
set_option maxRecDepth 100000 in
theorem m_X5_readList_b154 {p : Program} {l : Launch} {e : Env} {s : State} {m : MethodId} {args : Array Value} {below : List Frame} {meth : Method} {c : Code} {D : va_G} {dA : Nat → ClassId} {b0 : Nat} {gs : Nat → Option Nat} (hc : zC D dA b0 gs yX5_readList.cls cX5_readList 5 p c s m args meth) (hr : meth.sig.returnType = (some (.object "CountedSkipLists$SkipList"))) (hin : meth.name = yX5_readList.name) {r : (ZX Nat)} {hh : PH} {mc ms : Nat} (hl0 : l.stackTraces = false) (ht : ∀ x ∈ c.exceptionTable.toList, False) (k109 : PH → Nat → Nat → Int32 → ZR (ZX Nat)) (hk109 : ∀ (h : PH) (a0 : Nat) (a1 : Nat) (v2 : Int32) (C9 S9 : Nat) (H : Heap) (locs : List Loc) (cells slots : Nat), k109 h a0 a1 v2 = some (r, hh, C9, S9) → cells + C9 = mc ∧ slots + S9 = ms → zM D dA b0 gs s h H locs → ∀ ls : Array Slot, lv_has ls 5 [(0, .ref a0), (1, .ref a1), (2, .int v2)] → W p l e ({ frames := 10, cells := mc, slots := ms, locals := 256 } : Room) s m args below meth c H locs cells slots (vx_MQ below (zQX D dA b0 gs evN r hh) (zXC D dA b0 gs r hh) args s mc ms (zA b0)) (F0 m 109 ls [])) : ∀ (h : PH) (a0 : Nat) (a1 : Nat) (v2 : Int32) (s0 : Nat) (s1 : Int32) (C9 S9 : Nat) (H : Heap) (locs : List Loc) (cells slots : Nat), f_X5_readList_b154 k109 h a0 a1 v2 s0 s1 = some (r, hh, C9, S9) → cells + C9 = mc ∧ slots + S9 = ms → zM D dA b0 gs s h H locs → ∀ ls : Array Slot, lv_has ls 5 [(0, .ref a0), (1, .ref a1), (2, .int v2)] → W p l e ({ frames := 10, cells := mc, slots := ms, locals := 256 } : Room) s m args below meth c H locs cells slots (vx_MQ below (zQX D dA b0 gs evN r hh) (zXC D dA b0 gs r hh) args s mc ms (zA b0)) (F0 m 154 ls [.int s1, .ref s0]) := by
  have hx := hc.x
  have hb := hc.b
  intro h a0 a1 v2 s0 s1 C9 S9 H locs cells slots hf hq hn ls hl
  unfold f_X5_readList_b154 at hf
  refine lv_iconst (v := (5 : Int32)) hx hb dX5_readList_154 (by decide) ?_
  refine zx_VU (As := [.int s1, .int (5 : Int32)]) (rest := []) hc hn hq (fun x hx => (ht x hx).elim) (ci := 4) rfl ⟨rfl, hd_X5_require⟩ (lw_V q772 q774 qs5 q99 q775) (Nat.le_of_ble_eq_true rfl) (Nat.le_of_ble_eq_true rfl) (fun _ _ _ _ q => m_X5_require l hl0 D dA b0 gs h s0 s1 (5 : Int32) q) hf dX5_readList_155 hl.1 rfl rfl (zroom (Nat.le_of_ble_eq_true rfl)) (fun x101 h102 H locs cells slots C9 S9 hf hq hn => ?_)
  refine lv_aload_n (x := a0) hx hb dX5_readList_158 rfl (lv_at hl 0 rfl) ?_
  refine zr_cVI (As := []) (rest := []) hc hn hq (ci := 4) rfl ⟨rfl, hd_X5_sign⟩ (lw_V q887 q889 qs7 q99 q890) (Nat.le_of_ble_eq_true rfl) (Nat.le_of_ble_eq_true rfl) (fun _ _ _ _ q => m_X5_sign l D dA b0 gs h102 a0 q) hf dX5_readList_159 hl.1 rfl rfl (zroom (Nat.le_of_ble_eq_true rfl)) (fun x103 h104 H locs cells slots C9 S9 hf hq hn => ?_)
  refine lv_istore_n (i := 3) (lv' := [(3, .int x103), (0, .ref a0), (1, .ref a1), (2, .int v2)]) hx hb dX5_readList_162 rfl hl (by decide) rfl (fun ls hl => ?_)
  refine lv_aload_n (x := a0) hx hb dX5_readList_163 rfl (lv_at hl 1 rfl) ?_
  refine lv_aload_n (x := a0) hx hb dX5_readList_164 rfl (lv_at hl 1 rfl) ?_
  refine zr_gP hc hn (ci := 4) rfl rfl in_X5 5 (by decide) q731 (fun _ h => h) (fun _ _ _ => rfl) hf dX5_readList_165 (fun x105 hf => ?_)
  refine zr_gs hc hn (hc.st12) q718 (fun _ h => h) hf dX5_readList_168 (fun x106 hf => ?_)
  refine lv_acmp_ne (rx := x105) (ry := x106) (tgt := 178) hx hb dX5_readList_171 (by decide) (fun c9 => ?_) (fun c9 => ?_)
  · have hf := zif_f c9 hf
    refine lv_iconst (v := (0 : Int32)) hx hb dX5_readList_178 (by decide) ?_
    exact m_X5_readList_b179 hc hr hin hl0 ht k109 hk109 h104 a0 a1 v2 x103 a0 (0 : Int32) _ _ _ _ _ _ hf hq hn _ (lv_sub hl [1, 2, 3, 0] rfl)
  · have hf := zif_t c9 hf
    refine lv_iconst (v := (1 : Int32)) hx hb dX5_readList_174 (by decide) ?_
    refine lv_goto (tgt := 179) hx hb dX5_readList_175 (by decide) ?_
    exact m_X5_readList_b179 hc hr hin hl0 ht k109 hk109 h104 a0 a1 v2 x103 a0 (1 : Int32) _ _ _ _ _ _ hf hq hn _ (lv_sub hl [1, 2, 3, 0] rfl)
set_option maxHeartbeats 4000000 in
set_option maxRecDepth 100000 in
theorem m_X5_readList_b149 {p : Program} {l : Launch} {e : Env} {s : State} {m : MethodId} {args : Array Value} {below : List Frame} {meth : Method} {c : Code} {D : va_G} {dA : Nat → ClassId} {b0 : Nat} {gs : Nat → Option Nat} (hc : zC D dA b0 gs yX5_readList.cls cX5_readList 5 p c s m args meth) (hr : meth.sig.returnType = (some (.object "CountedSkipLists$SkipList"))) (hin : meth.name = yX5_readList.name) {r : (ZX Nat)} {hh : PH} {mc ms : Nat} (hl0 : l.stackTraces = false) (ht : ∀ x ∈ c.exceptionTable.toList, False) (k109 : PH → Nat → Nat → Int32 → ZR (ZX Nat)) (hk109 : ∀ (h : PH) (a0 : Nat) (a1 : Nat) (v2 : Int32) (C9 S9 : Nat) (H : Heap) (locs : List Loc) (cells slots : Nat), k109 h a0 a1 v2 = some (r, hh, C9, S9) → cells + C9 = mc ∧ slots + S9 = ms → zM D dA b0 gs s h H locs → ∀ ls : Array Slot, lv_has ls 5 [(0, .ref a0), (1, .ref a1), (2, .int v2)] → W p l e ({ frames := 10, cells := mc, slots := ms, locals := 256 } : Room) s m args below meth c H locs cells slots (vx_MQ below (zQX D dA b0 gs evN r hh) (zXC D dA b0 gs r hh) args s mc ms (zA b0)) (F0 m 109 ls [])) : ∀ (h : PH) (a0 : Nat) (a1 : Nat) (v2 : Int32) (s0 : Nat) (C9 S9 : Nat) (H : Heap) (locs : List Loc) (cells slots : Nat), f_X5_readList_b149 k109 h a0 a1 v2 s0 = some (r, hh, C9, S9) → cells + C9 = mc ∧ slots + S9 = ms → zM D dA b0 gs s h H locs → ∀ ls : Array Slot, lv_has ls 5 [(0, .ref a0), (1, .ref a1), (2, .int v2)] → W p l e ({ frames := 10, cells := mc, slots := ms, locals := 256 } : Room) s m args below meth c H locs cells slots (vx_MQ below (zQX D dA b0 gs evN r hh) (zXC D dA b0 gs r hh) args s mc ms (zA b0)) (F0 m 149 ls [.ref s0]) := by
  have hx := hc.x
  have hb := hc.b
  intro h a0 a1 v2 s0 C9 S9 H locs cells slots hf hq hn ls hl
  unfold f_X5_readList_b149 at hf
  refine lv_iconst (v := (1 : Int32)) hx hb dX5_readList_149 (by decide) ?_
  refine lv_goto (tgt := 154) hx hb dX5_readList_150 (by decide) ?_
  exact m_X5_readList_b154 hc hr hin hl0 ht k109 hk109 h a0 a1 v2 s0 (1 : Int32) _ _ _ _ _ _ hf hq hn _ (lv_sub hl [0, 1, 2] rfl)
set_option maxHeartbeats 4000000 in
set_option maxRecDepth 100000 in
theorem m_X5_readList_b129 {p : Program} {l : Launch} {e : Env} {s : State} {m : MethodId} {args : Array Value} {below : List Frame} {meth : Method} {c : Code} {D : va_G} {dA : Nat → ClassId} {b0 : Nat} {gs : Nat → Option Nat} (hc : zC D dA b0 gs yX5_readList.cls cX5_readList 5 p c s m args meth) (hr : meth.sig.returnType = (some (.object "CountedSkipLists$SkipList"))) (hin : meth.name = yX5_readList.name) {r : (ZX Nat)} {hh : PH} {mc ms : Nat} (hl0 : l.stackTraces = false) (ht : ∀ x ∈ c.exceptionTable.toList, False) (k109 : PH → Nat → Nat → Int32 → ZR (ZX Nat)) (hk109 : ∀ (h : PH) (a0 : Nat) (a1 : Nat) (v2 : Int32) (C9 S9 : Nat) (H : Heap) (locs : List Loc) (cells slots : Nat), k109 h a0 a1 v2 = some (r, hh, C9, S9) → cells + C9 = mc ∧ slots + S9 = ms → zM D dA b0 gs s h H locs → ∀ ls : Array Slot, lv_has ls 5 [(0, .ref a0), (1, .ref a1), (2, .int v2)] → W p l e ({ frames := 10, cells := mc, slots := ms, locals := 256 } : Room) s m args below meth c H locs cells slots (vx_MQ below (zQX D dA b0 gs evN r hh) (zXC D dA b0 gs r hh) args s mc ms (zA b0)) (F0 m 109 ls [])) : ∀ (h : PH) (a0 : Nat) (a1 : Nat) (v2 : Int32) (C9 S9 : Nat) (H : Heap) (locs : List Loc) (cells slots : Nat), f_X5_readList_b129 k109 h a0 a1 v2 = some (r, hh, C9, S9) → cells + C9 = mc ∧ slots + S9 = ms → zM D dA b0 gs s h H locs → ∀ ls : Array Slot, lv_has ls 5 [(0, .ref a0), (1, .ref a1), (2, .int v2)] → W p l e ({ frames := 10, cells := mc, slots := ms, locals := 256 } : Room) s m args below meth c H locs cells slots (vx_MQ below (zQX D dA b0 gs evN r hh) (zXC D dA b0 gs r hh) args s mc ms (zA b0)) (F0 m 129 ls []) := by
  have hx := hc.x
  have hb := hc.b
  intro h a0 a1 v2 C9 S9 H locs cells slots hf hq hn ls hl
  unfold f_X5_readList_b129 at hf
  refine lv_aload_n (x := a0) hx hb dX5_readList_129 rfl (lv_at hl 0 rfl) ?_
  refine lv_aload_n (x := a0) hx hb dX5_readList_130 rfl (lv_at hl 0 rfl) ?_
  refine zr_gP hc hn (ci := 4) rfl rfl in_X5 5 (by decide) q731 (fun _ h => h) (fun _ _ _ => rfl) hf dX5_readList_131 (fun x101 hf => ?_)
  refine zr_gs hc hn (hc.st12) q718 (fun _ h => h) hf dX5_readList_134 (fun x102 hf => ?_)
  refine lv_acmp_eq (rx := x101) (ry := x102) (tgt := 149) hx hb dX5_readList_137 (by decide) (fun c9 => ?_) (fun c9 => ?_)
  · have hf := zif_t c9 hf
    exact m_X5_readList_b149 hc hr hin hl0 ht k109 hk109 h a0 a1 v2 a0 _ _ _ _ _ _ hf hq hn _ (lv_sub hl [0, 1, 2] rfl)
  · have hf := zif_f c9 hf
    refine lv_aload_n (x := a1) hx hb dX5_readList_140 rfl (lv_at hl 1 rfl) ?_
    refine zr_gIN hc hn (ci := 6) rfl rfl in_X7 3 (by decide) q876 (fun _ h => h) (fun _ _ _ => rfl) hf dX5_readList_141 (fun x103 hf => ?_)
    refine lv_bipush (v := (60 : Int32)) hx hb dX5_readList_144 (by decide) ?_
    refine lv_icmp_ge (tgt := 153) hx hb dX5_readList_146 (by decide) (fun c9 => ?_) (fun c9 => ?_)
    · have hf := zif_t c9 hf
      refine lv_iconst (v := (0 : Int32)) hx hb dX5_readList_153 (by decide) ?_
      exact m_X5_readList_b154 hc hr hin hl0 ht k109 hk109 h a0 a1 v2 a0 (0 : Int32) _ _ _ _ _ _ hf hq hn _ (lv_sub hl [0, 1, 2] rfl)
    · have hf := zif_f c9 hf
      exact m_X5_readList_b149 hc hr hin hl0 ht k109 hk109 h a0 a1 v2 a0 _ _ _ _ _ _ hf hq hn _ (lv_sub hl [0, 1, 2] rfl)
set_option maxHeartbeats 4000000 in
set_option maxRecDepth 100000 in
theorem m_X5_readList_b109 {p : Program} {l : Launch} {e : Env} {s : State} {m : MethodId} {args : Array Value} {below : List Frame} {meth : Method} {c : Code} {D : va_G} {dA : Nat → ClassId} {b0 : Nat} {gs : Nat → Option Nat} (hc : zC D dA b0 gs yX5_readList.cls cX5_readList 5 p c s m args meth) (hr : meth.sig.returnType = (some (.object "CountedSkipLists$SkipList"))) (hin : meth.name = yX5_readList.name) {r : (ZX Nat)} {hh : PH} {mc ms : Nat} (hl0 : l.stackTraces = false) (ht : ∀ x ∈ c.exceptionTable.toList, False) : ∀ (n : Nat) (h : PH) (a0 : Nat) (a1 : Nat) (v2 : Int32) (C9 S9 : Nat) (H : Heap) (locs : List Loc) (cells slots : Nat), f_X5_readList_b109 n h a0 a1 v2 = some (r, hh, C9, S9) → cells + C9 = mc ∧ slots + S9 = ms → zM D dA b0 gs s h H locs → ∀ ls : Array Slot, lv_has ls 5 [(0, .ref a0), (1, .ref a1), (2, .int v2)] → W p l e ({ frames := 10, cells := mc, slots := ms, locals := 256 } : Room) s m args below meth c H locs cells slots (vx_MQ below (zQX D dA b0 gs evN r hh) (zXC D dA b0 gs r hh) args s mc ms (zA b0)) (F0 m 109 ls []) := by
  have hx := hc.x
  have hb := hc.b
  intro n
  induction n with
  | zero =>
    intro h a0 a1 v2 C9 S9 H locs cells slots hf hq hn ls hl
    cases hf
  | succ n ih =>
    intro h a0 a1 v2 C9 S9 H locs cells slots hf hq hn ls hl
    unfold f_X5_readList_b109 at hf
    refine lv_aload_n (x := a0) hx hb dX5_readList_109 rfl (lv_at hl 0 rfl) ?_
    refine zr_gP hc hn (ci := 4) rfl rfl in_X5 5 (by decide) q731 (fun _ h => h) (fun _ _ _ => rfl) hf dX5_readList_110 (fun x101 hf => ?_)
    refine zr_gs hc hn (hc.st15) q724 (fun _ h => h) hf dX5_readList_113 (fun x102 hf => ?_)
    refine lv_acmp_eq (rx := x101) (ry := x102) (tgt := 129) hx hb dX5_readList_116 (by decide) (fun c9 => ?_) (fun c9 => ?_)
    · have hf := zif_t c9 hf
      exact m_X5_readList_b129 hc hr hin hl0 ht (f_X5_readList_b109 n) ih h a0 a1 v2 _ _ _ _ _ _ hf hq hn _ (lv_sub hl [0, 1, 2] rfl)
    · have hf := zif_f c9 hf
      refine lv_aload_n (x := a0) hx hb dX5_readList_119 rfl (lv_at hl 0 rfl) ?_
      refine zr_gP hc hn (ci := 4) rfl rfl in_X5 5 (by decide) q731 (fun _ h => h) (fun _ _ _ => rfl) hf dX5_readList_120 (fun x103 hf => ?_)
      refine zr_gs hc hn (hc.st12) q718 (fun _ h => h) hf dX5_readList_123 (fun x104 hf => ?_)
      refine lv_acmp_ne (rx := x103) (ry := x104) (tgt := 240) hx hb dX5_readList_126 (by decide) (fun c9 => ?_) (fun c9 => ?_)
      · have hf := zif_f c9 hf
        refine lv_aload_n (x := a0) hx hb dX5_readList_240 rfl (lv_at hl 0 rfl) ?_
        refine lv_aload_n (x := a0) hx hb dX5_readList_241 rfl (lv_at hl 0 rfl) ?_
        refine zr_gP hc hn (ci := 4) rfl rfl in_X5 5 (by decide) q731 (fun _ h => h) (fun _ _ _ => rfl) hf dX5_readList_242 (fun x105 hf => ?_)
        refine zr_gs hc hn (hc.st13) q720 (fun _ h => h) hf dX5_readList_245 (fun x106 hf => ?_)
        refine lv_acmp_ne (rx := x105) (ry := x106) (tgt := 255) hx hb dX5_readList_248 (by decide) (fun c9 => ?_) (fun c9 => ?_)
        · have hf := zif_f c9 hf
          refine lv_iconst (v := (0 : Int32)) hx hb dX5_readList_255 (by decide) ?_
          refine lv_iconst (v := (1 : Int32)) hx hb dX5_readList_256 (by decide) ?_
          refine zx_VU (As := [.int (0 : Int32), .int (1 : Int32)]) (rest := []) hc hn hq (fun x hx => (ht x hx).elim) (ci := 4) rfl ⟨rfl, hd_X5_take⟩ (lw_V q768 q770 qs4 q99 q771) (Nat.le_of_ble_eq_true rfl) (Nat.le_of_ble_eq_true rfl) (fun _ _ _ _ q => m_X5_take l hl0 D dA b0 gs h a0 (0 : Int32) (1 : Int32) q) hf dX5_readList_257 hl.1 rfl rfl (zroom (Nat.le_of_ble_eq_true rfl)) (fun x107 h108 H locs cells slots C9 S9 hf hq hn => ?_)
          refine lv_aload_n (x := a1) hx hb dX5_readList_260 rfl (lv_at hl 1 rfl) ?_
          obtain ⟨rfl, rfl, rfl, rfl⟩ := zretx_i hf
          exact zx_ret (zr_nret hc hn hr (Or.inl ⟨_, rfl⟩) hq (fun _ _ _ _ q => ⟨_, rfl, q⟩) dX5_readList_261)
        · have hf := zif_t c9 hf
          refine lv_iconst (v := (1 : Int32)) hx hb dX5_readList_251 (by decide) ?_
          refine lv_goto (tgt := 256) hx hb dX5_readList_252 (by decide) ?_
          refine lv_iconst (v := (1 : Int32)) hx hb dX5_readList_256 (by decide) ?_
          refine zx_VU (As := [.int (1 : Int32), .int (1 : Int32)]) (rest := []) hc hn hq (fun x hx => (ht x hx).elim) (ci := 4) rfl ⟨rfl, hd_X5_take⟩ (lw_V q768 q770 qs4 q99 q771) (Nat.le_of_ble_eq_true rfl) (Nat.le_of_ble_eq_true rfl) (fun _ _ _ _ q => m_X5_take l hl0 D dA b0 gs h a0 (1 : Int32) (1 : Int32) q) hf dX5_readList_257 hl.1 rfl rfl (zroom (Nat.le_of_ble_eq_true rfl)) (fun x109 h110 H locs cells slots C9 S9 hf hq hn => ?_)
          refine lv_aload_n (x := a1) hx hb dX5_readList_260 rfl (lv_at hl 1 rfl) ?_
          obtain ⟨rfl, rfl, rfl, rfl⟩ := zretx_i hf
          exact zx_ret (zr_nret hc hn hr (Or.inl ⟨_, rfl⟩) hq (fun _ _ _ _ q => ⟨_, rfl, q⟩) dX5_readList_261)
      · have hf := zif_t c9 hf
        exact m_X5_readList_b129 hc hr hin hl0 ht (f_X5_readList_b109 n) ih h a0 a1 v2 _ _ _ _ _ _ hf hq hn _ (lv_sub hl [0, 1, 2] rfl)
set_option maxHeartbeats 4000000 in
set_option maxRecDepth 100000 in
theorem m_X5_readList_b45 {p : Program} {l : Launch} {e : Env} {s : State} {m : MethodId} {args : Array Value} {below : List Frame} {meth : Method} {c : Code} {D : va_G} {dA : Nat → ClassId} {b0 : Nat} {gs : Nat → Option Nat} (hc : zC D dA b0 gs yX5_readList.cls cX5_readList 5 p c s m args meth) (hr : meth.sig.returnType = (some (.object "CountedSkipLists$SkipList"))) (hin : meth.name = yX5_readList.name) {r : (ZX Nat)} {hh : PH} {mc ms : Nat} (hl0 : l.stackTraces = false) (ht : ∀ x ∈ c.exceptionTable.toList, False) : ∀ (n : Nat) (h : PH) (a0 : Nat) (a1 : Nat) (v2 : Int32) (v3 : Int32) (C9 S9 : Nat) (H : Heap) (locs : List Loc) (cells slots : Nat), f_X5_readList_b45 n h a0 a1 v2 v3 = some (r, hh, C9, S9) → cells + C9 = mc ∧ slots + S9 = ms → zM D dA b0 gs s h H locs → ∀ ls : Array Slot, lv_has ls 5 [(0, .ref a0), (1, .ref a1), (2, .int v2), (3, .int v3)] → W p l e ({ frames := 10, cells := mc, slots := ms, locals := 256 } : Room) s m args below meth c H locs cells slots (vx_MQ below (zQX D dA b0 gs evN r hh) (zXC D dA b0 gs r hh) args s mc ms (zA b0)) (F0 m 45 ls []) := by
  have hx := hc.x
  have hb := hc.b
  intro n
  induction n with
  | zero =>
    intro h a0 a1 v2 v3 C9 S9 H locs cells slots hf hq hn ls hl
    cases hf
  | succ n ih =>
    intro h a0 a1 v2 v3 C9 S9 H locs cells slots hf hq hn ls hl
    unfold f_X5_readList_b45 at hf
    refine lv_iload_n hx hb dX5_readList_45 rfl (lv_at hl 3 rfl) ?_
    refine lv_iload_n hx hb dX5_readList_46 rfl (lv_at hl 2 rfl) ?_
    refine lv_icmp_ge (tgt := 91) hx hb dX5_readList_47 (by decide) (fun c9 => ?_) (fun c9 => ?_)
    · have hf := zif_t c9 hf
      refine zr_new hc hn hq (ci := 6) rfl rfl in_X7 tyX7_ok q812 q813 q115 (zd_X7) hf dX5_readList_91 (fun a101 h102 H cells slots C9 S9 hf hq hn => ?_)
      refine lv_dup hx hb dX5_readList_94 rfl ?_
      refine lv_aload_n (x := a0) hx hb dX5_readList_95 rfl (lv_at hl 0 rfl) ?_
      refine zr_gP hc hn (ci := 4) rfl rfl in_X5 6 (by decide) q732 (fun _ h => h) (fun _ _ _ => rfl) hf dX5_readList_96 (fun x103 hf => ?_)
      obtain ⟨a104, e9, hf9⟩ := znn_i hf
      subst e9
      have hf := hf9
      clear hf9
      refine zr_cI (As := [.ref a104]) (rest := [.ref a101]) hc hn hq rfl hd_X7_init (lw_meth q816) q814 q815 q115 (Nat.le_of_ble_eq_true rfl) (Nat.le_of_ble_eq_true rfl) (fun _ _ _ _ q => m_X7_init l D dA b0 gs h102 a101 a104 q) hf dX5_readList_99 hl.1 rfl rfl (zroom (Nat.le_of_ble_eq_true rfl)) (fun x105 h106 H locs cells slots C9 S9 hf hq hn => ?_)
      refine lv_astore_n (x := a101) (i := 1) (lv' := [(1, .ref a101), (0, .ref a0), (2, .int v2), (3, .int v3)]) hx hb dX5_readList_102 rfl hl (by decide) rfl (fun ls hl => ?_)
      refine lv_aload_n (x := a0) hx hb dX5_readList_103 rfl (lv_at hl 1 rfl) ?_
      refine zr_cVU (As := []) (rest := []) hc hn hq (ci := 4) rfl ⟨rfl, hd_X5_advance⟩ (lw_V q429 q431 qs1 q99 q432) (Nat.le_of_ble_eq_true rfl) (Nat.le_of_ble_eq_true rfl) (fun _ _ _ _ q => m_X5_advance l D dA b0 gs h106 a0 q) hf dX5_readList_104 hl.1 rfl rfl (zroom (Nat.le_of_ble_eq_true rfl)) (fun x107 h108 H locs cells slots C9 S9 hf hq hn => ?_)
      refine lv_iconst (v := (0 : Int32)) hx hb dX5_readList_107 (by decide) ?_
      refine lv_istore_n (i := 2) (lv' := [(2, .int (0 : Int32)), (1, .ref a101), (0, .ref a0), (3, .int v3)]) hx hb dX5_readList_108 rfl hl (by decide) rfl (fun ls hl => ?_)
      exact m_X5_readList_b109 hc hr hin hl0 ht zFU h108 a0 a101 (0 : Int32) _ _ _ _ _ _ hf hq hn _ (lv_sub hl [2, 1, 0] rfl)
    · have hf := zif_f c9 hf
      refine lv_aload_n (x := a1) hx hb dX5_readList_50 rfl (lv_at hl 1 rfl) ?_
      refine lv_iload_n hx hb dX5_readList_51 rfl (lv_at hl 3 rfl) ?_
      refine zr_aP (ai := 6) (by decide) hc hn hf dX5_readList_52 (fun x109 hf => ?_)
      refine zr_astore (x := x109) (lv' := [(4, va_rf x109), (0, .ref a0), (1, .ref a1), (2, .int v2), (3, .int v3)]) hx hb dX5_readList_53 hl (by decide) rfl (fun ls hl => ?_)
      refine lv_aload_n (x := a0) hx hb dX5_readList_55 rfl (lv_at hl 1 rfl) ?_
      refine zr_aload (x := x109) hx hb dX5_readList_56 (lv_at hl 0 rfl) ?_
      refine zr_ifnull (tgt := 76) hx hb hf dX5_readList_58 (by decide) (fun e9 hf9 => ?_) (fun a110 e9 hf9 => ?_)
      · subst e9
        have hf := hf9
        clear hf9
        exact m_X5_readList_b76 hc hr hin hl0 ht (f_X5_readList_b45 n) ih h a0 a1 v2 v3 a0 _ _ _ _ _ _ hf hq hn _ (lv_sub hl [1, 2, 3, 4] rfl)
      · subst e9
        have hf := hf9
        clear hf9
        refine lv_aload (x := a110) hx hb dX5_readList_61 (lv_at hl 0 rfl) ?_
        refine zr_gPN hc hn (ci := 6) rfl rfl in_X7 0 (by decide) q869 (fun _ h => h) (fun _ _ _ => rfl) hf dX5_readList_63 (fun x111 hf => ?_)
        refine lv_aload_n (x := a0) hx hb dX5_readList_66 rfl (lv_at hl 1 rfl) ?_
        refine zr_gP hc hn (ci := 4) rfl rfl in_X5 6 (by decide) q732 (fun _ h => h) (fun _ _ _ => rfl) hf dX5_readList_67 (fun x112 hf => ?_)
        obtain ⟨a113, e9, hf9⟩ := znn_i hf
        subst e9
        have hf := hf9
        clear hf9
        obtain ⟨a114, e9, hf9⟩ := znn_i hf
        subst e9
        have hf := hf9
        clear hf9
        refine zr_cVI (As := [.ref a114]) (rest := [.ref a0]) hc hn hq (ci := 14) rfl ⟨rfl, hd_J10_equals⟩ (lw_V q760 q761 q762 q98 q763) (Nat.le_of_ble_eq_true rfl) (Nat.le_of_ble_eq_true rfl) (fun _ _ _ _ q => m_J10_equals l D dA b0 gs h a113 a114 q) hf dX5_readList_70 hl.1 rfl rfl (zroom (Nat.le_of_ble_eq_true rfl)) (fun x115 h116 H locs cells slots C9 S9 hf hq hn => ?_)
        refine lv_if_ne (tgt := 80) hx hb dX5_readList_73 (by decide) (fun c9 => ?_) (fun c9 => ?_)
        · have hf := zif_f c9 hf
          refine lv_iconst (v := (0 : Int32)) hx hb dX5_readList_80 (by decide) ?_
          exact m_X5_readList_b81 hc hr hin hl0 ht (f_X5_readList_b45 n) ih h116 a0 a1 v2 v3 a0 (0 : Int32) _ _ _ _ _ _ hf hq hn _ (lv_sub hl [1, 2, 3, 4] rfl)
        · have hf := zif_t c9 hf
          exact m_X5_readList_b76 hc hr hin hl0 ht (f_X5_readList_b45 n) ih h116 a0 a1 v2 v3 a0 _ _ _ _ _ _ hf hq hn _ (lv_sub hl [1, 2, 3, 4] rfl)
set_option maxHeartbeats 4000000 in
set_option maxRecDepth 100000 in
theorem m_X5_readList_b28 {p : Program} {l : Launch} {e : Env} {s : State} {m : MethodId} {args : Array Value} {below : List Frame} {meth : Method} {c : Code} {D : va_G} {dA : Nat → ClassId} {b0 : Nat} {gs : Nat → Option Nat} (hc : zC D dA b0 gs yX5_readList.cls cX5_readList 5 p c s m args meth) (hr : meth.sig.returnType = (some (.object "CountedSkipLists$SkipList"))) (hin : meth.name = yX5_readList.name) {r : (ZX Nat)} {hh : PH} {mc ms : Nat} (hl0 : l.stackTraces = false) (ht : ∀ x ∈ c.exceptionTable.toList, False) : ∀ (h : PH) (a0 : Nat) (s0 : Nat) (s1 : Int32) (C9 S9 : Nat) (H : Heap) (locs : List Loc) (cells slots : Nat), f_X5_readList_b28 h a0 s0 s1 = some (r, hh, C9, S9) → cells + C9 = mc ∧ slots + S9 = ms → zM D dA b0 gs s h H locs → ∀ ls : Array Slot, lv_has ls 5 [(0, .ref a0)] → W p l e ({ frames := 10, cells := mc, slots := ms, locals := 256 } : Room) s m args below meth c H locs cells slots (vx_MQ below (zQX D dA b0 gs evN r hh) (zXC D dA b0 gs r hh) args s mc ms (zA b0)) (F0 m 28 ls [.int s1, .ref s0]) := by
  have hx := hc.x
  have hb := hc.b
  intro h a0 s0 s1 C9 S9 H locs cells slots hf hq hn ls hl
  unfold f_X5_readList_b28 at hf
  refine lv_iconst (v := (1 : Int32)) hx hb dX5_readList_28 (by decide) ?_
  refine zx_VU (As := [.int s1, .int (1 : Int32)]) (rest := []) hc hn hq (fun x hx => (ht x hx).elim) (ci := 4) rfl ⟨rfl, hd_X5_require⟩ (lw_V q772 q774 qs5 q99 q775) (Nat.le_of_ble_eq_true rfl) (Nat.le_of_ble_eq_true rfl) (fun _ _ _ _ q => m_X5_require l hl0 D dA b0 gs h s0 s1 (1 : Int32) q) hf dX5_readList_29 hl.1 rfl rfl (zroom (Nat.le_of_ble_eq_true rfl)) (fun x101 h102 H locs cells slots C9 S9 hf hq hn => ?_)
  refine lv_aload_n (x := a0) hx hb dX5_readList_32 rfl (lv_at hl 0 rfl) ?_
  refine zr_gP hc hn (ci := 4) rfl rfl in_X5 1 (by decide) q727 (fun _ h => h) (fun _ _ _ => rfl) hf dX5_readList_33 (fun x103 hf => ?_)
  obtain ⟨a104, e9, hf9⟩ := znn_i hf
  subst e9
  have hf := hf9
  clear hf9
  refine zr_gPN hc hn (ci := 1) rfl rfl in_X2 0 (by decide) q186 (fun _ h => h) (fun _ _ _ => rfl) hf dX5_readList_36 (fun x105 hf => ?_)
  refine zr_astore_n (x := x105) (i := 1) (lv' := [(1, va_rf x105), (0, .ref a0)]) hx hb dX5_readList_39 rfl hl (by decide) rfl (fun ls hl => ?_)
  refine zr_aload_n (x := x105) hx hb dX5_readList_40 rfl (lv_at hl 0 rfl) ?_
  obtain ⟨a106, e9, hf9⟩ := znn_i hf
  subst e9
  have hf := hf9
  clear hf9
  refine zr_len (ai := 6) hc hn hf dX5_readList_41 (fun x107 hf => ?_)
  refine lv_istore_n (i := 2) (lv' := [(2, .int x107), (1, .ref a106), (0, .ref a0)]) hx hb dX5_readList_42 rfl hl (by decide) rfl (fun ls hl => ?_)
  refine lv_iconst (v := (0 : Int32)) hx hb dX5_readList_43 (by decide) ?_
  refine lv_istore_n (i := 3) (lv' := [(3, .int (0 : Int32)), (2, .int x107), (1, .ref a106), (0, .ref a0)]) hx hb dX5_readList_44 rfl hl (by decide) rfl (fun ls hl => ?_)
  exact m_X5_readList_b45 hc hr hin hl0 ht zFU h102 a0 a106 x107 (0 : Int32) _ _ _ _ _ _ hf hq hn _ (lv_sub hl [3, 2, 1, 0] rfl)
set_option maxHeartbeats 4000000 in
set_option maxRecDepth 100000 in
theorem m_X5_readList_b27 {p : Program} {l : Launch} {e : Env} {s : State} {m : MethodId} {args : Array Value} {below : List Frame} {meth : Method} {c : Code} {D : va_G} {dA : Nat → ClassId} {b0 : Nat} {gs : Nat → Option Nat} (hc : zC D dA b0 gs yX5_readList.cls cX5_readList 5 p c s m args meth) (hr : meth.sig.returnType = (some (.object "CountedSkipLists$SkipList"))) (hin : meth.name = yX5_readList.name) {r : (ZX Nat)} {hh : PH} {mc ms : Nat} (hl0 : l.stackTraces = false) (ht : ∀ x ∈ c.exceptionTable.toList, False) : ∀ (h : PH) (a0 : Nat) (s0 : Nat) (C9 S9 : Nat) (H : Heap) (locs : List Loc) (cells slots : Nat), f_X5_readList_b27 h a0 s0 = some (r, hh, C9, S9) → cells + C9 = mc ∧ slots + S9 = ms → zM D dA b0 gs s h H locs → ∀ ls : Array Slot, lv_has ls 5 [(0, .ref a0)] → W p l e ({ frames := 10, cells := mc, slots := ms, locals := 256 } : Room) s m args below meth c H locs cells slots (vx_MQ below (zQX D dA b0 gs evN r hh) (zXC D dA b0 gs r hh) args s mc ms (zA b0)) (F0 m 27 ls [.ref s0]) := by
  have hx := hc.x
  have hb := hc.b
  intro h a0 s0 C9 S9 H locs cells slots hf hq hn ls hl
  unfold f_X5_readList_b27 at hf
  refine lv_iconst (v := (0 : Int32)) hx hb dX5_readList_27 (by decide) ?_
  exact m_X5_readList_b28 hc hr hin hl0 ht h a0 s0 (0 : Int32) _ _ _ _ _ _ hf hq hn _ (lv_sub hl [0] rfl)
set_option maxHeartbeats 4000000 in
set_option maxRecDepth 100000 in
theorem m_X5_readList (l : Launch) (hl0 : l.stackTraces = false) (D : va_G) (dA : Nat → ClassId) (b0 : Nat) (gs : Nat → Option Nat) (h : PH) (a0 : Nat) {r : (ZX Nat)} {hh : PH} {mc ms : Nat} (hf : f_X5_readList h a0 = some (r, hh, mc, ms)) : zMx l D dA b0 gs yX5_readList (ws_ yX5_readList cX5_readList 5 (some (.object "CountedSkipLists$SkipList"))) 10 256 [.ref a0] h evN r hh mc ms := by
  unfold f_X5_readList at hf
  refine zMx.of (by decide) (Nat.le_of_ble_eq_true rfl) ?_
  intro p e s m args below meth c hc hr hin ht hn ls hl
  have hl : lv_has ls 5 [(0, .ref a0)] := hl
  have hq : 0 + mc = mc ∧ 0 + ms = ms := ⟨Nat.zero_add _, Nat.zero_add _⟩
  have hx := hc.x
  have hb := hc.b
  refine lv_aload_n (x := a0) hx hb dX5_readList_0 rfl (lv_at hl 0 rfl) ?_
  refine lv_aload_n (x := a0) hx hb dX5_readList_1 rfl (lv_at hl 0 rfl) ?_
  refine zr_gP hc hn (ci := 4) rfl rfl in_X5 5 (by decide) q731 (fun _ h => h) (fun _ _ _ => rfl) hf dX5_readList_2 (fun x101 hf => ?_)
  refine zr_gs hc hn (hc.st10) q714 (fun _ h => h) hf dX5_readList_5 (fun x102 hf => ?_)
  refine lv_acmp_ne (rx := x101) (ry := x102) (tgt := 27) hx hb dX5_readList_8 (by decide) (fun c9 => ?_) (fun c9 => ?_)
  · have hf := zif_f c9 hf
    exact m_X5_readList_b27 hc hr hin hl0 ht h a0 a0 _ _ _ _ _ _ hf hq hn _ (lv_sub hl [0] rfl)
  · have hf := zif_t c9 hf
    refine lv_aload_n (x := a0) hx hb dX5_readList_11 rfl (lv_at hl 0 rfl) ?_
    refine zr_gP hc hn (ci := 4) rfl rfl in_X5 6 (by decide) q732 (fun _ h => h) (fun _ _ _ => rfl) hf dX5_readList_12 (fun x103 hf => ?_)
    obtain ⟨a104, e9, hf9⟩ := znn_i hf
    subst e9
    have hf := hf9
    clear hf9
    refine zr_cVI (As := []) (rest := [.ref a0]) hc hn hq (ci := 14) rfl ⟨rfl, hd_J10_length⟩ (lw_V q811 q664 q665 q98 q666) (Nat.le_of_ble_eq_true rfl) (Nat.le_of_ble_eq_true rfl) (fun _ _ _ _ q => m_J10_length l D dA b0 gs h a104 q) hf dX5_readList_15 hl.1 rfl rfl (zroom (Nat.le_of_ble_eq_true rfl)) (fun x105 h106 H locs cells slots C9 S9 hf hq hn => ?_)
    refine lv_bipush (v := (8 : Int32)) hx hb dX5_readList_18 (by decide) ?_
    refine lv_icmp_gt (tgt := 27) hx hb dX5_readList_20 (by decide) (fun c9 => ?_) (fun c9 => ?_)
    · have hf := zif_t c9 hf
      exact m_X5_readList_b27 hc hr hin hl0 ht h106 a0 a0 _ _ _ _ _ _ hf hq hn _ (lv_sub hl [0] rfl)
    · have hf := zif_f c9 hf
      refine lv_iconst (v := (1 : Int32)) hx hb dX5_readList_23 (by decide) ?_
      refine lv_goto (tgt := 28) hx hb dX5_readList_24 (by decide) ?_
      exact m_X5_readList_b28 hc hr hin hl0 ht h106 a0 a0 (1 : Int32) _ _ _ _ _ _ hf hq hn _ (lv_sub hl [0] rfl)
theorem hd_X1_mendOf : yX1_mendOf.cls ≠ "java/lang/invoke/MethodHandle" ∧ yX1_mendOf.cls ≠ "java/lang/invoke/VarHandle" ∧ (parseMethodDescriptor yX1_mendOf.desc).map (fun d => d.parameters.length) = some 1 := by decide +kernel
def f_X1_mendOf (h : PH) (a0 : Nat) : ZR (Option Nat) :=
  zgI h a0 8 1 fun x101 =>
  if x101 ≤ 0 then
    (zrc h a0 8 <| zcl (f_X9_isRich h a0) fun x102 h103 =>
    if x102 = 0 then
      (znm (zS h103 7) fun x104 =>
      zret x104 h103)
    else
      (znm (zS h103 6) fun x105 =>
      zret x105 h103))
  else
    (znm (zS h 5) fun x106 =>
    zret x106 h)
set_option maxHeartbeats 4000000 in
set_option maxRecDepth 100000 in
theorem m_X1_mendOf (l : Launch) (D : va_G) (dA : Nat → ClassId) (b0 : Nat) (gs : Nat → Option Nat) (h : PH) (a0 : Nat) {r : (Option Nat)} {hh : PH} {mc ms : Nat} (hf : f_X1_mendOf h a0 = some (r, hh, mc, ms)) : zMt l D dA b0 gs yX1_mendOf cX1_mendOf 1 (some (.object "CountedSkipLists$Mend")) 3 103 [.ref a0] h (evP r) hh mc ms := by
  unfold f_X1_mendOf at hf
  refine zMt.of (by decide) (Nat.le_of_ble_eq_true rfl) ?_
  intro p e s m args below meth c hc hr hin hn ls hl
  have hl : lv_has ls 1 [(0, .ref a0)] := hl
  have hq : 0 + mc = mc ∧ 0 + ms = ms := ⟨Nat.zero_add _, Nat.zero_add _⟩
  have hx := hc.x
  have hb := hc.b
  refine lv_aload_n (x := a0) hx hb dX1_mendOf_0 rfl (lv_at hl 0 rfl) ?_
  refine zr_gIN hc hn (ci := 8) rfl rfl in_X9 1 (by decide) q946 (fun _ h => h) (fun _ _ _ => rfl) hf dX1_mendOf_1 (fun x101 hf => ?_)
  refine lv_if_le (tgt := 13) hx hb dX1_mendOf_4 (by decide) (fun c9 => ?_) (fun c9 => ?_)
  · have hf := zif_t c9 hf
    refine lv_aload_n (x := a0) hx hb dX1_mendOf_13 rfl (lv_at hl 0 rfl) ?_
    refine zr_cVI (As := []) (rest := []) hc hn hq (ci := 8) rfl ⟨rfl, hd_X9_isRich⟩ (lw_V q981 q982 q983 q117 q984) (Nat.le_of_ble_eq_true rfl) (Nat.le_of_ble_eq_true rfl) (fun _ _ _ _ q => m_X9_isRich l D dA b0 gs h a0 q) hf dX1_mendOf_14 hl.1 rfl rfl (zroom (Nat.le_of_ble_eq_true rfl)) (fun x102 h103 H locs cells slots C9 S9 hf hq hn => ?_)
    refine lv_if_eq (tgt := 26) hx hb dX1_mendOf_17 (by decide) (fun c9 => ?_) (fun c9 => ?_)
    · have hf := zif_t c9 hf
      refine zr_gs hc hn (hc.st7) q992 (fun _ h => h) hf dX1_mendOf_26 (fun x104 hf => ?_)
      obtain ⟨rfl, rfl, rfl, rfl⟩ := zret_i hf
      exact zr_aret (x := x104) hc hn hr (Or.inl ⟨_, rfl⟩) hq (fun _ _ _ _ q => q) dX1_mendOf_29
    · have hf := zif_f c9 hf
      refine zr_gs hc hn (hc.st6) q990 (fun _ h => h) hf dX1_mendOf_20 (fun x105 hf => ?_)
      refine lv_goto (tgt := 29) hx hb dX1_mendOf_23 (by decide) ?_
      obtain ⟨rfl, rfl, rfl, rfl⟩ := zret_i hf
      exact zr_aret (x := x105) hc hn hr (Or.inl ⟨_, rfl⟩) hq (fun _ _ _ _ q => q) dX1_mendOf_29
  · have hf := zif_f c9 hf
    refine zr_gs hc hn (hc.st5) q979 (fun _ h => h) hf dX1_mendOf_7 (fun x106 hf => ?_)
    refine lv_goto (tgt := 29) hx hb dX1_mendOf_10 (by decide) ?_
    obtain ⟨rfl, rfl, rfl, rfl⟩ := zret_i hf
    exact zr_aret (x := x106) hc hn hr (Or.inl ⟨_, rfl⟩) hq (fun _ _ _ _ q => q) dX1_mendOf_29
theorem hd_X1_lambda_repairs_0 : yX1_lambda_repairs_0.cls ≠ "java/lang/invoke/MethodHandle" ∧ yX1_lambda_repairs_0.cls ≠ "java/lang/invoke/VarHandle" ∧ (parseMethodDescriptor yX1_lambda_repairs_0.desc).map (fun d => d.parameters.length) = some 2 := by decide +kernel
def f_X1_lambda_repairs_0 (h : PH) (v0 : Int32) (a1 : Nat) : ZR (Option Nat) :=
  zrc h a1 6 <| zcl (f_X7_tooFull h a1 v0) fun x101 h102 =>
  zret x101 h102
set_option maxHeartbeats 4000000 in
set_option maxRecDepth 100000 in
theorem m_X1_lambda_repairs_0 (l : Launch) (D : va_G) (dA : Nat → ClassId) (b0 : Nat) (gs : Nat → Option Nat) (h : PH) (v0 : Int32) (a1 : Nat) {r : (Option Nat)} {hh : PH} {mc ms : Nat} (hf : f_X1_lambda_repairs_0 h v0 a1 = some (r, hh, mc, ms)) : zMt l D dA b0 gs yX1_lambda_repairs_0 cX1_lambda_repairs_0 2 (some (.object "CountedSkipLists$Gap")) 8 400 [.int v0, .ref a1] h (evP r) hh mc ms := by
  unfold f_X1_lambda_repairs_0 at hf
  refine zMt.of (by decide) (Nat.le_of_ble_eq_true rfl) ?_
  intro p e s m args below meth c hc hr hin hn ls hl
  have hl : lv_has ls 2 [(0, .int v0), (1, .ref a1)] := hl
  have hq : 0 + mc = mc ∧ 0 + ms = ms := ⟨Nat.zero_add _, Nat.zero_add _⟩
  have hx := hc.x
  have hb := hc.b
  refine lv_aload_n (x := a1) hx hb dX1_lambda_repairs_0_0 rfl (lv_at hl 1 rfl) ?_
  refine lv_iload_n hx hb dX1_lambda_repairs_0_1 rfl (lv_at hl 0 rfl) ?_
  refine zr_cVP (As := [.int v0]) (rest := []) hc hn hq (ci := 6) rfl ⟨rfl, hd_X7_tooFull⟩ (lw_V q924 q925 q926 q115 q927) (Nat.le_of_ble_eq_true rfl) (Nat.le_of_ble_eq_true rfl) (fun _ _ _ _ q => m_X7_tooFull l D dA b0 gs h a1 v0 q) hf dX1_lambda_repairs_0_2 hl.1 rfl rfl (zroom (Nat.le_of_ble_eq_true rfl)) (fun x101 h102 H locs cells slots C9 S9 hf hq hn => ?_)
  obtain ⟨rfl, rfl, rfl, rfl⟩ := zret_i hf
  exact zr_aret (x := x101) hc hn hr (Or.inl ⟨_, rfl⟩) hq (fun _ _ _ _ q => q) dX1_lambda_repairs_0_5
theorem hd_X1_lambda_repairs_1 : yX1_lambda_repairs_1.cls ≠ "java/lang/invoke/MethodHandle" ∧ yX1_lambda_repairs_1.cls ≠ "java/lang/invoke/VarHandle" ∧ (parseMethodDescriptor yX1_lambda_repairs_1.desc).map (fun d => d.parameters.length) = some 1 := by decide +kernel
def f_X1_lambda_repairs_1 (h : PH) (a0 : Nat) : ZR (Option Nat) :=
  zrc h a0 6 <| zcl (f_X7_empty h a0) fun x101 h102 =>
  zret x101 h102
set_option maxHeartbeats 4000000 in
set_option maxRecDepth 100000 in
theorem m_X1_lambda_repairs_1 (l : Launch) (D : va_G) (dA : Nat → ClassId) (b0 : Nat) (gs : Nat → Option Nat) (h : PH) (a0 : Nat) {r : (Option Nat)} {hh : PH} {mc ms : Nat} (hf : f_X1_lambda_repairs_1 h a0 = some (r, hh, mc, ms)) : zMt l D dA b0 gs yX1_lambda_repairs_1 cX1_lambda_repairs_1 1 (some (.object "CountedSkipLists$Gap")) 8 400 [.ref a0] h (evP r) hh mc ms := by
  unfold f_X1_lambda_repairs_1 at hf
  refine zMt.of (by decide) (Nat.le_of_ble_eq_true rfl) ?_
  intro p e s m args below meth c hc hr hin hn ls hl
  have hl : lv_has ls 1 [(0, .ref a0)] := hl
  have hq : 0 + mc = mc ∧ 0 + ms = ms := ⟨Nat.zero_add _, Nat.zero_add _⟩
  have hx := hc.x
  have hb := hc.b
  refine lv_aload_n (x := a0) hx hb dX1_lambda_repairs_1_0 rfl (lv_at hl 0 rfl) ?_
  refine zr_cVP (As := []) (rest := []) hc hn hq (ci := 6) rfl ⟨rfl, hd_X7_empty⟩ (lw_V q963 q964 q965 q115 q966) (Nat.le_of_ble_eq_true rfl) (Nat.le_of_ble_eq_true rfl) (fun _ _ _ _ q => m_X7_empty l D dA b0 gs h a0 q) hf dX1_lambda_repairs_1_1 hl.1 rfl rfl (zroom (Nat.le_of_ble_eq_true rfl)) (fun x101 h102 H locs cells slots C9 S9 hf hq hn => ?_)
  obtain ⟨rfl, rfl, rfl, rfl⟩ := zret_i hf
  exact zr_aret (x := x101) hc hn hr (Or.inl ⟨_, rfl⟩) hq (fun _ _ _ _ q => q) dX1_lambda_repairs_1_4
theorem hd_X1_find : yX1_find.cls ≠ "java/lang/invoke/MethodHandle" ∧ yX1_find.cls ≠ "java/lang/invoke/VarHandle" ∧ (parseMethodDescriptor yX1_find.desc).map (fun d => d.parameters.length) = some 0 := by decide +kernel
def f_X1_find_b102 (k56 : PH → Nat → Nat → Int32 → ZR (ZX Int32)) (h : PH) (a0 : Nat) (a2 : Nat) (v3 : Int32) : ZR (ZX Int32) :=
  znm (v3 + (1 : Int32)) fun x101 =>
  k56 h a0 a2 x101
def f_X1_find_b56 : Nat → PH → Nat → Nat → Int32 → ZR (ZX Int32)
  | 0 => fun _ _ _ _ => none
  | n + 1 => fun h a0 a2 v3 =>
    if (6 : Int32) ≤ v3 then
      (zth 4 h)
    else
      (zrc h a2 14 <| zcl (f_J10_isEmpty h a2) fun x101 h102 =>
      if x101 = 0 then
        (zgP h102 a0 0 4 fun x103 =>
        znn x103 fun a104 =>
        zgP h102 a104 1 0 fun x105 =>
        znn x105 fun a106 =>
        zaP h102 a106 6 v3 fun x107 =>
        znul x107
          (f_X1_find_b102 (f_X1_find_b56 n) h102 a0 a2 v3)
          (fun a108 =>
            zgP h102 a0 0 4 fun x109 =>
            znn x109 fun a110 =>
            zgP h102 a110 1 0 fun x111 =>
            znn x111 fun a112 =>
            zaP h102 a112 6 v3 fun x113 =>
            znn x113 fun a114 =>
            zgP h102 a114 6 0 fun x115 =>
            znn x115 fun a116 =>
            zrc h102 a116 14 <| zcl (f_J10_equals h102 a116 a2) fun x117 h118 =>
            if x117 = 0 then
              (f_X1_find_b102 (f_X1_find_b56 n) h118 a0 a2 v3)
            else
              (zret (.inl v3) h118)))
      else
        (f_X1_find_b102 (f_X1_find_b56 n) h102 a0 a2 v3))
def f_X1_find_b14 : Nat → PH → Nat → Nat → Int32 → ZR (ZX Int32)
  | 0 => fun _ _ _ _ => none
  | n + 1 => fun h a0 a1 v2 =>
    zgI h a0 0 1 fun x101 =>
    if x101 ≤ v2 then
      (zrc h a1 15 <| zcl (f_J13_toString h a1) fun x102 h103 =>
      zpI h103 a0 0 1 (0 : Int32) fun h104 =>
      f_X1_find_b56 zFU h104 a0 x102 (0 : Int32))
    else
      (zgP h a0 0 0 fun x105 =>
      znn x105 fun a106 =>
      zaI h a106 2 v2 fun x107 =>
      znm (x107 &&& (255 : Int32)) fun x108 =>
      znm ((x108.toUInt32 % 65536).toInt32) fun x109 =>
      zrc h a1 15 <| zcl (f_J13_append h a1 x109) fun x110 h111 =>
      znm (v2 + (1 : Int32)) fun x112 =>
      f_X1_find_b14 n h111 a0 a1 x112)
def f_X1_find (h : PH) (a0 : Nat) : ZR (ZX Int32) :=
  zno h 15 4 fun a101 h102 =>
  zgI h102 a0 0 1 fun x103 =>
  zcl (f_J13_init h102 a101 x103) fun _ h105 =>
  f_X1_find_b14 zFU h105 a0 a101 (0 : Int32)
set_option maxHeartbeats 4000000 in
set_option maxRecDepth 100000 in
theorem m_X1_find_b102 {p : Program} {l : Launch} {e : Env} {s : State} {m : MethodId} {args : Array Value} {below : List Frame} {meth : Method} {c : Code} {D : va_G} {dA : Nat → ClassId} {b0 : Nat} {gs : Nat → Option Nat} (hc : zC D dA b0 gs yX1_find.cls cX1_find 4 p c s m args meth) (hr : meth.sig.returnType = (some .int)) (hin : meth.name = yX1_find.name) {r : (ZX Int32)} {hh : PH} {mc ms : Nat} (hl0 : l.stackTraces = false) (ht : ∀ x ∈ c.exceptionTable.toList, False) (k56 : PH → Nat → Nat → Int32 → ZR (ZX Int32)) (hk56 : ∀ (h : PH) (a0 : Nat) (a2 : Nat) (v3 : Int32) (C9 S9 : Nat) (H : Heap) (locs : List Loc) (cells slots : Nat), k56 h a0 a2 v3 = some (r, hh, C9, S9) → cells + C9 = mc ∧ slots + S9 = ms → zM D dA b0 gs s h H locs → ∀ ls : Array Slot, lv_has ls 4 [(0, .ref a0), (2, .ref a2), (3, .int v3)] → W p l e ({ frames := 7, cells := mc, slots := ms, locals := 192 } : Room) s m args below meth c H locs cells slots (vx_MQ below (zQX D dA b0 gs evI r hh) (zXC D dA b0 gs r hh) args s mc ms (zA b0)) (F0 m 56 ls [])) : ∀ (h : PH) (a0 : Nat) (a2 : Nat) (v3 : Int32) (C9 S9 : Nat) (H : Heap) (locs : List Loc) (cells slots : Nat), f_X1_find_b102 k56 h a0 a2 v3 = some (r, hh, C9, S9) → cells + C9 = mc ∧ slots + S9 = ms → zM D dA b0 gs s h H locs → ∀ ls : Array Slot, lv_has ls 4 [(0, .ref a0), (2, .ref a2), (3, .int v3)] → W p l e ({ frames := 7, cells := mc, slots := ms, locals := 192 } : Room) s m args below meth c H locs cells slots (vx_MQ below (zQX D dA b0 gs evI r hh) (zXC D dA b0 gs r hh) args s mc ms (zA b0)) (F0 m 102 ls []) := by
  have hx := hc.x
  have hb := hc.b
  intro h a0 a2 v3 C9 S9 H locs cells slots hf hq hn ls hl
  unfold f_X1_find_b102 at hf
  obtain ⟨x101, ex101, hf⟩ := znm_i hf
  refine lv_iinc (v := x101) (lv' := [(3, .int x101), (0, .ref a0), (2, .ref a2)]) hx hb dX1_find_102 hl (k := 2) rfl (by rw [ex101]; rfl) (by decide) rfl (fun ls hl => ?_)
  refine lv_goto (tgt := 56) hx hb dX1_find_105 (by decide) ?_
  exact hk56 h a0 a2 x101 _ _ _ _ _ _ hf hq hn _ (lv_sub hl [1, 2, 0] rfl)
set_option maxHeartbeats 4000000 in
set_option maxRecDepth 100000 in
theorem m_X1_find_b56 {p : Program} {l : Launch} {e : Env} {s : State} {m : MethodId} {args : Array Value} {below : List Frame} {meth : Method} {c : Code} {D : va_G} {dA : Nat → ClassId} {b0 : Nat} {gs : Nat → Option Nat} (hc : zC D dA b0 gs yX1_find.cls cX1_find 4 p c s m args meth) (hr : meth.sig.returnType = (some .int)) (hin : meth.name = yX1_find.name) {r : (ZX Int32)} {hh : PH} {mc ms : Nat} (hl0 : l.stackTraces = false) (ht : ∀ x ∈ c.exceptionTable.toList, False) : ∀ (n : Nat) (h : PH) (a0 : Nat) (a2 : Nat) (v3 : Int32) (C9 S9 : Nat) (H : Heap) (locs : List Loc) (cells slots : Nat), f_X1_find_b56 n h a0 a2 v3 = some (r, hh, C9, S9) → cells + C9 = mc ∧ slots + S9 = ms → zM D dA b0 gs s h H locs → ∀ ls : Array Slot, lv_has ls 4 [(0, .ref a0), (2, .ref a2), (3, .int v3)] → W p l e ({ frames := 7, cells := mc, slots := ms, locals := 192 } : Room) s m args below meth c H locs cells slots (vx_MQ below (zQX D dA b0 gs evI r hh) (zXC D dA b0 gs r hh) args s mc ms (zA b0)) (F0 m 56 ls []) := by
  have hx := hc.x
  have hb := hc.b
  intro n
  induction n with
  | zero =>
    intro h a0 a2 v3 C9 S9 H locs cells slots hf hq hn ls hl
    cases hf
  | succ n ih =>
    intro h a0 a2 v3 C9 S9 H locs cells slots hf hq hn ls hl
    unfold f_X1_find_b56 at hf
    refine lv_iload_n hx hb dX1_find_56 rfl (lv_at hl 2 rfl) ?_
    refine lv_bipush (v := (6 : Int32)) hx hb dX1_find_57 (by decide) ?_
    refine lv_icmp_ge (tgt := 108) hx hb dX1_find_59 (by decide) (fun c9 => ?_) (fun c9 => ?_)
    · have hf := zif_t c9 hf
      exact zr_th4 hl0 hc hn hq hf (fun x hx => (ht x hx).elim) dX1_find_108 dX1_find_111 dX1_find_112 dX1_find_115 hl.1 (zroom (Nat.le_of_ble_eq_true rfl)) (Nat.le_of_ble_eq_true rfl) (Nat.le_of_ble_eq_true rfl)
    · have hf := zif_f c9 hf
      refine lv_aload_n (x := a2) hx hb dX1_find_62 rfl (lv_at hl 1 rfl) ?_
      refine zr_cVI (As := []) (rest := []) hc hn hq (ci := 14) rfl ⟨rfl, hd_J10_isEmpty⟩ (lw_V q1143 q1144 q1145 q98 q1146) (Nat.le_of_ble_eq_true rfl) (Nat.le_of_ble_eq_true rfl) (fun _ _ _ _ q => m_J10_isEmpty l D dA b0 gs h a2 q) hf dX1_find_63 hl.1 rfl rfl (zroom (Nat.le_of_ble_eq_true rfl)) (fun x101 h102 H locs cells slots C9 S9 hf hq hn => ?_)
      refine lv_if_ne (tgt := 102) hx hb dX1_find_66 (by decide) (fun c9 => ?_) (fun c9 => ?_)
      · have hf := zif_f c9 hf
        exact m_X1_find_b102 hc hr hin hl0 ht (f_X1_find_b56 n) ih h102 a0 a2 v3 _ _ _ _ _ _ hf hq hn _ (lv_sub hl [0, 1, 2] rfl)
      · have hf := zif_t c9 hf
        refine lv_aload_n (x := a0) hx hb dX1_find_69 rfl (lv_at hl 0 rfl) ?_
        refine zr_gP hc hn (ci := 0) rfl rfl in_X1 4 (by decide) q229 (fun _ h => h) (fun _ _ _ => rfl) hf dX1_find_70 (fun x103 hf => ?_)
        obtain ⟨a104, e9, hf9⟩ := znn_i hf
        subst e9
        have hf := hf9
        clear hf9
        refine zr_gPN hc hn (ci := 1) rfl rfl in_X2 0 (by decide) q187 (fun _ h => h) (fun _ _ _ => rfl) hf dX1_find_73 (fun x105 hf => ?_)
        refine lv_iload_n hx hb dX1_find_76 rfl (lv_at hl 2 rfl) ?_
        obtain ⟨a106, e9, hf9⟩ := znn_i hf
        subst e9
        have hf := hf9
        clear hf9
        refine zr_aP (ai := 6) (by decide) hc hn hf dX1_find_77 (fun x107 hf => ?_)
        refine zr_ifnull (tgt := 102) hx hb hf dX1_find_78 (by decide) (fun e9 hf9 => ?_) (fun a108 e9 hf9 => ?_)
        · subst e9
          have hf := hf9
          clear hf9
          exact m_X1_find_b102 hc hr hin hl0 ht (f_X1_find_b56 n) ih h102 a0 a2 v3 _ _ _ _ _ _ hf hq hn _ (lv_sub hl [0, 1, 2] rfl)
        · subst e9
          have hf := hf9
          clear hf9
          refine lv_aload_n (x := a0) hx hb dX1_find_81 rfl (lv_at hl 0 rfl) ?_
          refine zr_gP hc hn (ci := 0) rfl rfl in_X1 4 (by decide) q229 (fun _ h => h) (fun _ _ _ => rfl) hf dX1_find_82 (fun x109 hf => ?_)
          obtain ⟨a110, e9, hf9⟩ := znn_i hf
          subst e9
          have hf := hf9
          clear hf9
          refine zr_gPN hc hn (ci := 1) rfl rfl in_X2 0 (by decide) q187 (fun _ h => h) (fun _ _ _ => rfl) hf dX1_find_85 (fun x111 hf => ?_)
          refine lv_iload_n hx hb dX1_find_88 rfl (lv_at hl 2 rfl) ?_
          obtain ⟨a112, e9, hf9⟩ := znn_i hf
          subst e9
          have hf := hf9
          clear hf9
          refine zr_aP (ai := 6) (by decide) hc hn hf dX1_find_89 (fun x113 hf => ?_)
          obtain ⟨a114, e9, hf9⟩ := znn_i hf
          subst e9
          have hf := hf9
          clear hf9
          refine zr_gPN hc hn (ci := 6) rfl rfl in_X7 0 (by decide) q870 (fun _ h => h) (fun _ _ _ => rfl) hf dX1_find_90 (fun x115 hf => ?_)
          refine lv_aload_n (x := a2) hx hb dX1_find_93 rfl (lv_at hl 1 rfl) ?_
          obtain ⟨a116, e9, hf9⟩ := znn_i hf
          subst e9
          have hf := hf9
          clear hf9
          refine zr_cVI (As := [.ref a2]) (rest := []) hc hn hq (ci := 14) rfl ⟨rfl, hd_J10_equals⟩ (lw_V q1147 q761 q762 q98 q763) (Nat.le_of_ble_eq_true rfl) (Nat.le_of_ble_eq_true rfl) (fun _ _ _ _ q => m_J10_equals l D dA b0 gs h102 a116 a2 q) hf dX1_find_94 hl.1 rfl rfl (zroom (Nat.le_of_ble_eq_true rfl)) (fun x117 h118 H locs cells slots C9 S9 hf hq hn => ?_)
          refine lv_if_eq (tgt := 102) hx hb dX1_find_97 (by decide) (fun c9 => ?_) (fun c9 => ?_)
          · have hf := zif_t c9 hf
            exact m_X1_find_b102 hc hr hin hl0 ht (f_X1_find_b56 n) ih h118 a0 a2 v3 _ _ _ _ _ _ hf hq hn _ (lv_sub hl [0, 1, 2] rfl)
          · have hf := zif_f c9 hf
            refine lv_iload_n hx hb dX1_find_100 rfl (lv_at hl 2 rfl) ?_
            obtain ⟨rfl, rfl, rfl, rfl⟩ := zretx_i hf
            exact zx_ret (zr_iret hc hn hr hq (fun _ _ _ _ q => ⟨_, rfl, q⟩) dX1_find_101)
set_option maxHeartbeats 4000000 in
set_option maxRecDepth 100000 in
theorem m_X1_find_b14 {p : Program} {l : Launch} {e : Env} {s : State} {m : MethodId} {args : Array Value} {below : List Frame} {meth : Method} {c : Code} {D : va_G} {dA : Nat → ClassId} {b0 : Nat} {gs : Nat → Option Nat} (hc : zC D dA b0 gs yX1_find.cls cX1_find 4 p c s m args meth) (hr : meth.sig.returnType = (some .int)) (hin : meth.name = yX1_find.name) {r : (ZX Int32)} {hh : PH} {mc ms : Nat} (hl0 : l.stackTraces = false) (ht : ∀ x ∈ c.exceptionTable.toList, False) : ∀ (n : Nat) (h : PH) (a0 : Nat) (a1 : Nat) (v2 : Int32) (C9 S9 : Nat) (H : Heap) (locs : List Loc) (cells slots : Nat), f_X1_find_b14 n h a0 a1 v2 = some (r, hh, C9, S9) → cells + C9 = mc ∧ slots + S9 = ms → zM D dA b0 gs s h H locs → ∀ ls : Array Slot, lv_has ls 4 [(0, .ref a0), (1, .ref a1), (2, .int v2)] → W p l e ({ frames := 7, cells := mc, slots := ms, locals := 192 } : Room) s m args below meth c H locs cells slots (vx_MQ below (zQX D dA b0 gs evI r hh) (zXC D dA b0 gs r hh) args s mc ms (zA b0)) (F0 m 14 ls []) := by
  have hx := hc.x
  have hb := hc.b
  intro n
  induction n with
  | zero =>
    intro h a0 a1 v2 C9 S9 H locs cells slots hf hq hn ls hl
    cases hf
  | succ n ih =>
    intro h a0 a1 v2 C9 S9 H locs cells slots hf hq hn ls hl
    unfold f_X1_find_b14 at hf
    refine lv_iload_n hx hb dX1_find_14 rfl (lv_at hl 2 rfl) ?_
    refine lv_aload_n (x := a0) hx hb dX1_find_15 rfl (lv_at hl 0 rfl) ?_
    refine zr_gI hc hn (ci := 0) rfl rfl in_X1 1 (by decide) q226 (fun _ h => h) (fun _ _ _ => rfl) hf dX1_find_16 (fun x101 hf => ?_)
    refine lv_icmp_ge (tgt := 44) hx hb dX1_find_19 (by decide) (fun c9 => ?_) (fun c9 => ?_)
    · have hf := zif_t c9 hf
      refine lv_aload_n (x := a1) hx hb dX1_find_44 rfl (lv_at hl 1 rfl) ?_
      refine zr_cVN (As := []) (rest := []) hc hn hq (ci := 15) rfl ⟨rfl, hd_J13_toString⟩ (lw_V q1142 q574 q575 q103 q576) (Nat.le_of_ble_eq_true rfl) (Nat.le_of_ble_eq_true rfl) (fun _ _ _ _ q => m_J13_toString l D dA b0 gs h a1 q) hf dX1_find_45 hl.1 rfl rfl (zroom (Nat.le_of_ble_eq_true rfl)) (fun x102 h103 H locs cells slots C9 S9 hf hq hn => ?_)
      refine lv_astore_n (x := x102) (i := 2) (lv' := [(2, .ref x102), (0, .ref a0), (1, .ref a1)]) hx hb dX1_find_48 rfl hl (by decide) rfl (fun ls hl => ?_)
      refine lv_aload_n (x := a0) hx hb dX1_find_49 rfl (lv_at hl 1 rfl) ?_
      refine lv_iconst (v := (0 : Int32)) hx hb dX1_find_50 (by decide) ?_
      refine zr_pI (x := (0 : Int32)) hc hn (ci := 0) rfl rfl in_X1 1 (by decide) tyX1 tyX1_ok nmX1 q226 (fun _ h => h) (Or.inl rfl) (fun _ _ _ => rfl) rfl rfl hf dX1_find_51 (fun h104 H locs hf hn => ?_)
      refine lv_iconst (v := (0 : Int32)) hx hb dX1_find_54 (by decide) ?_
      refine lv_istore_n (i := 3) (lv' := [(3, .int (0 : Int32)), (2, .ref x102), (0, .ref a0), (1, .ref a1)]) hx hb dX1_find_55 rfl hl (by decide) rfl (fun ls hl => ?_)
      exact m_X1_find_b56 hc hr hin hl0 ht zFU h104 a0 x102 (0 : Int32) _ _ _ _ _ _ hf hq hn _ (lv_sub hl [2, 1, 0] rfl)
    · have hf := zif_f c9 hf
      refine lv_aload_n (x := a1) hx hb dX1_find_22 rfl (lv_at hl 1 rfl) ?_
      refine lv_aload_n (x := a0) hx hb dX1_find_23 rfl (lv_at hl 0 rfl) ?_
      refine zr_gP hc hn (ci := 0) rfl rfl in_X1 0 (by decide) q225 (fun _ h => h) (fun _ _ _ => rfl) hf dX1_find_24 (fun x105 hf => ?_)
      refine lv_iload_n hx hb dX1_find_27 rfl (lv_at hl 2 rfl) ?_
      obtain ⟨a106, e9, hf9⟩ := znn_i hf
      subst e9
      have hf := hf9
      clear hf9
      refine zr_aI2 hc hn hf dX1_find_28 (fun x107 hf => ?_)
      refine lv_sipush (v := (255 : Int32)) hx hb dX1_find_29 (by decide) ?_
      refine lv_iand hx hb dX1_find_32 ?_
      refine zr_nmI hf (fun x108 hf => ?_)
      refine lv_i2c (v := (x108.toUInt32 % 65536).toInt32) hx hb dX1_find_33 rfl ?_
      refine zr_nmI hf (fun x109 hf => ?_)
      refine zr_cVN (As := [.int x109]) (rest := []) hc hn hq (ci := 15) rfl ⟨rfl, hd_J13_append⟩ (lw_V q1141 q479 q480 q103 q481) (Nat.le_of_ble_eq_true rfl) (Nat.le_of_ble_eq_true rfl) (fun _ _ _ _ q => m_J13_append l D dA b0 gs h a1 x109 q) hf dX1_find_34 hl.1 rfl rfl (zroom (Nat.le_of_ble_eq_true rfl)) (fun x110 h111 H locs cells slots C9 S9 hf hq hn => ?_)
      refine lv_pop hx hb dX1_find_37 rfl ?_
      obtain ⟨x112, ex112, hf⟩ := znm_i hf
      refine lv_iinc (v := x112) (lv' := [(2, .int x112), (0, .ref a0), (1, .ref a1)]) hx hb dX1_find_38 hl (k := 2) rfl (by rw [ex112]; rfl) (by decide) rfl (fun ls hl => ?_)
      refine lv_goto (tgt := 14) hx hb dX1_find_41 (by decide) ?_
      exact ih h111 a0 a1 x112 _ _ _ _ _ _ hf hq hn _ (lv_sub hl [1, 2, 0] rfl)
set_option maxHeartbeats 4000000 in
set_option maxRecDepth 100000 in
theorem m_X1_find (l : Launch) (hl0 : l.stackTraces = false) (D : va_G) (dA : Nat → ClassId) (b0 : Nat) (gs : Nat → Option Nat) (h : PH) (a0 : Nat) {r : (ZX Int32)} {hh : PH} {mc ms : Nat} (hf : f_X1_find h a0 = some (r, hh, mc, ms)) : zMx l D dA b0 gs yX1_find (ws_ yX1_find cX1_find 4 (some .int)) 7 192 [.ref a0] h evI r hh mc ms := by
  unfold f_X1_find at hf
  refine zMx.of (by decide) (Nat.le_of_ble_eq_true rfl) ?_
  intro p e s m args below meth c hc hr hin ht hn ls hl
  have hl : lv_has ls 4 [(0, .ref a0)] := hl
  have hq : 0 + mc = mc ∧ 0 + ms = ms := ⟨Nat.zero_add _, Nat.zero_add _⟩
  have hx := hc.x
  have hb := hc.b
  refine zr_new hc hn hq (ci := 15) rfl rfl in_J13 tyJ13_ok q1139 q441 q103 (zd_J13) hf dX1_find_0 (fun a101 h102 H cells slots C9 S9 hf hq hn => ?_)
  refine lv_dup hx hb dX1_find_3 rfl ?_
  refine lv_aload_n (x := a0) hx hb dX1_find_4 rfl (lv_at hl 0 rfl) ?_
  refine zr_gI hc hn (ci := 0) rfl rfl in_X1 1 (by decide) q226 (fun _ h => h) (fun _ _ _ => rfl) hf dX1_find_5 (fun x103 hf => ?_)
  refine zr_cI (As := [.int x103]) (rest := [.ref a101]) hc hn hq rfl hd_J13_init (lw_meth q444) q1140 q443 q103 (Nat.le_of_ble_eq_true rfl) (Nat.le_of_ble_eq_true rfl) (fun _ _ _ _ q => m_J13_init l D dA b0 gs h102 a101 x103 q) hf dX1_find_8 hl.1 rfl rfl (zroom (Nat.le_of_ble_eq_true rfl)) (fun x104 h105 H locs cells slots C9 S9 hf hq hn => ?_)
  refine lv_astore_n (x := a101) (i := 1) (lv' := [(1, .ref a101), (0, .ref a0)]) hx hb dX1_find_11 rfl hl (by decide) rfl (fun ls hl => ?_)
  refine lv_iconst (v := (0 : Int32)) hx hb dX1_find_12 (by decide) ?_
  refine lv_istore_n (i := 2) (lv' := [(2, .int (0 : Int32)), (1, .ref a101), (0, .ref a0)]) hx hb dX1_find_13 rfl hl (by decide) rfl (fun ls hl => ?_)
  exact m_X1_find_b14 hc hr hin hl0 ht zFU h105 a0 a101 (0 : Int32) _ _ _ _ _ _ hf hq hn _ (lv_sub hl [2, 1, 0] rfl)
theorem hd_X1_at : yX1_at.cls ≠ "java/lang/invoke/MethodHandle" ∧ yX1_at.cls ≠ "java/lang/invoke/VarHandle" ∧ (parseMethodDescriptor yX1_at.desc).map (fun d => d.parameters.length) = some 1 := by decide +kernel
def f_X1_at (h : PH) (a0 : Nat) (v1 : Int32) : ZR (ZX (Option Nat)) :=
  zrc h a0 0 <| zcl (f_X1_exists h a0 v1) fun x101 h102 =>
  zcx (f_X1_checkIndex h102 x101) fun _ h104 =>
  zgP h104 a0 0 4 fun x105 =>
  znn x105 fun a106 =>
  zgP h104 a106 1 0 fun x107 =>
  znn x107 fun a108 =>
  zaP h104 a108 6 v1 fun x109 =>
  zret (.inl x109) h104
set_option maxHeartbeats 4000000 in
set_option maxRecDepth 100000 in
theorem m_X1_at (l : Launch) (hl0 : l.stackTraces = false) (D : va_G) (dA : Nat → ClassId) (b0 : Nat) (gs : Nat → Option Nat) (h : PH) (a0 : Nat) (v1 : Int32) {r : (ZX (Option Nat))} {hh : PH} {mc ms : Nat} (hf : f_X1_at h a0 v1 = some (r, hh, mc, ms)) : zMx l D dA b0 gs yX1_at (ws_ yX1_at cX1_at 2 (some (.object "CountedSkipLists$SkipList"))) 7 140 [.ref a0, .int v1] h evP r hh mc ms := by
  unfold f_X1_at at hf
  refine zMx.of (by decide) (Nat.le_of_ble_eq_true rfl) ?_
  intro p e s m args below meth c hc hr hin ht hn ls hl
  have hl : lv_has ls 2 [(0, .ref a0), (1, .int v1)] := hl
  have hq : 0 + mc = mc ∧ 0 + ms = ms := ⟨Nat.zero_add _, Nat.zero_add _⟩
  have hx := hc.x
  have hb := hc.b
  refine lv_aload_n (x := a0) hx hb dX1_at_0 rfl (lv_at hl 0 rfl) ?_
  refine lv_iload_n hx hb dX1_at_1 rfl (lv_at hl 1 rfl) ?_
  refine zr_cVI (As := [.int v1]) (rest := []) hc hn hq (ci := 0) rfl ⟨rfl, hd_X1_exists⟩ (lw_V q1174 q256 q257 q84 q258) (Nat.le_of_ble_eq_true rfl) (Nat.le_of_ble_eq_true rfl) (fun _ _ _ _ q => m_X1_exists l D dA b0 gs h a0 v1 q) hf dX1_at_2 hl.1 rfl rfl (zroom (Nat.le_of_ble_eq_true rfl)) (fun x101 h102 H locs cells slots C9 S9 hf hq hn => ?_)
  refine zx_SU (As := [.int x101]) (rest := []) hc hn hq (fun x hx => (ht x hx).elim) hd_X1_checkIndex (lw_S q395 q396 q84 q397) (Nat.le_of_ble_eq_true rfl) (Nat.le_of_ble_eq_true rfl) (fun _ _ _ _ q => m_X1_checkIndex l hl0 D dA b0 gs h102 x101 q) hf dX1_at_5 hl.1 rfl rfl (zroom (Nat.le_of_ble_eq_true rfl)) (fun x103 h104 H locs cells slots C9 S9 hf hq hn => ?_)
  refine lv_aload_n (x := a0) hx hb dX1_at_8 rfl (lv_at hl 0 rfl) ?_
  refine zr_gP hc hn (ci := 0) rfl rfl in_X1 4 (by decide) q229 (fun _ h => h) (fun _ _ _ => rfl) hf dX1_at_9 (fun x105 hf => ?_)
  obtain ⟨a106, e9, hf9⟩ := znn_i hf
  subst e9
  have hf := hf9
  clear hf9
  refine zr_gPN hc hn (ci := 1) rfl rfl in_X2 0 (by decide) q187 (fun _ h => h) (fun _ _ _ => rfl) hf dX1_at_12 (fun x107 hf => ?_)
  refine lv_iload_n hx hb dX1_at_15 rfl (lv_at hl 1 rfl) ?_
  obtain ⟨a108, e9, hf9⟩ := znn_i hf
  subst e9
  have hf := hf9
  clear hf9
  refine zr_aP (ai := 6) (by decide) hc hn hf dX1_at_16 (fun x109 hf => ?_)
  obtain ⟨rfl, rfl, rfl, rfl⟩ := zretx_i hf
  exact zx_ret (zr_aret (x := x109) hc hn hr (Or.inl ⟨_, rfl⟩) hq (fun _ _ _ _ q => ⟨_, rfl, q⟩) dX1_at_17)
theorem hd_X1_size : yX1_size.cls ≠ "java/lang/invoke/MethodHandle" ∧ yX1_size.cls ≠ "java/lang/invoke/VarHandle" ∧ (parseMethodDescriptor yX1_size.desc).map (fun d => d.parameters.length) = some 1 := by decide +kernel
def f_X1_size (h : PH) (a0 : Nat) (v1 : Int32) : ZR (ZX Int32) :=
  zrc h a0 0 <| zcx (f_X1_at h a0 v1) fun x101 h102 =>
  znn x101 fun a103 =>
  zgI h102 a103 6 3 fun x104 =>
  zret (.inl x104) h102
set_option maxHeartbeats 4000000 in
set_option maxRecDepth 100000 in
theorem m_X1_size (l : Launch) (hl0 : l.stackTraces = false) (D : va_G) (dA : Nat → ClassId) (b0 : Nat) (gs : Nat → Option Nat) (h : PH) (a0 : Nat) (v1 : Int32) {r : (ZX Int32)} {hh : PH} {mc ms : Nat} (hf : f_X1_size h a0 v1 = some (r, hh, mc, ms)) : zMx l D dA b0 gs yX1_size (ws_ yX1_size cX1_size 2 (some .int)) 8 161 [.ref a0, .int v1] h evI r hh mc ms := by
  unfold f_X1_size at hf
  refine zMx.of (by decide) (Nat.le_of_ble_eq_true rfl) ?_
  intro p e s m args below meth c hc hr hin ht hn ls hl
  have hl : lv_has ls 2 [(0, .ref a0), (1, .int v1)] := hl
  have hq : 0 + mc = mc ∧ 0 + ms = ms := ⟨Nat.zero_add _, Nat.zero_add _⟩
  have hx := hc.x
  have hb := hc.b
  refine lv_aload_n (x := a0) hx hb dX1_size_0 rfl (lv_at hl 0 rfl) ?_
  refine lv_iload_n hx hb dX1_size_1 rfl (lv_at hl 1 rfl) ?_
  refine zx_VP (As := [.int v1]) (rest := []) hc hn hq (fun x hx => (ht x hx).elim) (ci := 0) rfl ⟨rfl, hd_X1_at⟩ (lw_V q1170 q1172 qs15 q84 q1173) (Nat.le_of_ble_eq_true rfl) (Nat.le_of_ble_eq_true rfl) (fun _ _ _ _ q => m_X1_at l hl0 D dA b0 gs h a0 v1 q) hf dX1_size_2 hl.1 rfl rfl (zroom (Nat.le_of_ble_eq_true rfl)) (fun x101 h102 H locs cells slots C9 S9 hf hq hn => ?_)
  obtain ⟨a103, e9, hf9⟩ := znn_i hf
  subst e9
  have hf := hf9
  clear hf9
  refine zr_gIN hc hn (ci := 6) rfl rfl in_X7 3 (by decide) q877 (fun _ h => h) (fun _ _ _ => rfl) hf dX1_size_5 (fun x104 hf => ?_)
  obtain ⟨rfl, rfl, rfl, rfl⟩ := zretx_i hf
  exact zx_ret (zr_iret hc hn hr hq (fun _ _ _ _ q => ⟨_, rfl, q⟩) dX1_size_8)
theorem hd_X1_height : yX1_height.cls ≠ "java/lang/invoke/MethodHandle" ∧ yX1_height.cls ≠ "java/lang/invoke/VarHandle" ∧ (parseMethodDescriptor yX1_height.desc).map (fun d => d.parameters.length) = some 1 := by decide +kernel
def f_X1_height (h : PH) (a0 : Nat) (v1 : Int32) : ZR (ZX Int32) :=
  zrc h a0 0 <| zcx (f_X1_at h a0 v1) fun x101 h102 =>
  znn x101 fun a103 =>
  zrc h102 a103 6 <| zcl (f_X7_height h102 a103) fun x104 h105 =>
  zret (.inl x104) h105
set_option maxHeartbeats 4000000 in
set_option maxRecDepth 100000 in
theorem m_X1_height (l : Launch) (hl0 : l.stackTraces = false) (D : va_G) (dA : Nat → ClassId) (b0 : Nat) (gs : Nat → Option Nat) (h : PH) (a0 : Nat) (v1 : Int32) {r : (ZX Int32)} {hh : PH} {mc ms : Nat} (hf : f_X1_height h a0 v1 = some (r, hh, mc, ms)) : zMx l D dA b0 gs yX1_height (ws_ yX1_height cX1_height 2 (some .int)) 8 161 [.ref a0, .int v1] h evI r hh mc ms := by
  unfold f_X1_height at hf
  refine zMx.of (by decide) (Nat.le_of_ble_eq_true rfl) ?_
  intro p e s m args below meth c hc hr hin ht hn ls hl
  have hl : lv_has ls 2 [(0, .ref a0), (1, .int v1)] := hl
  have hq : 0 + mc = mc ∧ 0 + ms = ms := ⟨Nat.zero_add _, Nat.zero_add _⟩
  have hx := hc.x
  have hb := hc.b
  refine lv_aload_n (x := a0) hx hb dX1_height_0 rfl (lv_at hl 0 rfl) ?_
  refine lv_iload_n hx hb dX1_height_1 rfl (lv_at hl 1 rfl) ?_
  refine zx_VP (As := [.int v1]) (rest := []) hc hn hq (fun x hx => (ht x hx).elim) (ci := 0) rfl ⟨rfl, hd_X1_at⟩ (lw_V q1170 q1172 qs15 q84 q1173) (Nat.le_of_ble_eq_true rfl) (Nat.le_of_ble_eq_true rfl) (fun _ _ _ _ q => m_X1_at l hl0 D dA b0 gs h a0 v1 q) hf dX1_height_2 hl.1 rfl rfl (zroom (Nat.le_of_ble_eq_true rfl)) (fun x101 h102 H locs cells slots C9 S9 hf hq hn => ?_)
  obtain ⟨a103, e9, hf9⟩ := znn_i hf
  subst e9
  have hf := hf9
  clear hf9
  refine zr_cVI (As := []) (rest := []) hc hn hq (ci := 6) rfl ⟨rfl, hd_X7_height⟩ (lw_V q1182 q929 q930 q115 q931) (Nat.le_of_ble_eq_true rfl) (Nat.le_of_ble_eq_true rfl) (fun _ _ _ _ q => m_X7_height l D dA b0 gs h102 a103 q) hf dX1_height_5 hl.1 rfl rfl (zroom (Nat.le_of_ble_eq_true rfl)) (fun x104 h105 H locs cells slots C9 S9 hf hq hn => ?_)
  obtain ⟨rfl, rfl, rfl, rfl⟩ := zretx_i hf
  exact zx_ret (zr_iret hc hn hr hq (fun _ _ _ _ q => ⟨_, rfl, q⟩) dX1_height_8)
theorem hd_X1_nodeAt : yX1_nodeAt.cls ≠ "java/lang/invoke/MethodHandle" ∧ yX1_nodeAt.cls ≠ "java/lang/invoke/VarHandle" ∧ (parseMethodDescriptor yX1_nodeAt.desc).map (fun d => d.parameters.length) = some 2 := by decide +kernel
def f_X1_nodeAt (h : PH) (a0 : Nat) (v1 : Int32) (v2 : Int32) : ZR (ZX (Option Nat)) :=
  zrc h a0 0 <| zcx (f_X1_at h a0 v1) fun x101 h102 =>
  znn x101 fun a103 =>
  zgI h102 a103 6 3 fun x104 =>
  znm (x104 - (1 : Int32)) fun x105 =>
  zcl (f_X1_isIn h102 v2 (0 : Int32) x105) fun x106 h107 =>
  zcx (f_X1_checkIndex h107 x106) fun _ h109 =>
  zna h109 0 (1 : Int32) fun a110 h111 =>
  zrc h111 a103 6 <| zcl (f_X7_select h111 a103 v2 a110) fun x112 h113 =>
  zret (.inl x112) h113
set_option maxHeartbeats 4000000 in
set_option maxRecDepth 100000 in
theorem m_X1_nodeAt (l : Launch) (hl0 : l.stackTraces = false) (D : va_G) (dA : Nat → ClassId) (b0 : Nat) (gs : Nat → Option Nat) (h : PH) (a0 : Nat) (v1 : Int32) (v2 : Int32) {r : (ZX (Option Nat))} {hh : PH} {mc ms : Nat} (hf : f_X1_nodeAt h a0 v1 v2 = some (r, hh, mc, ms)) : zMx l D dA b0 gs yX1_nodeAt (ws_ yX1_nodeAt cX1_nodeAt 4 (some (.object "CountedSkipLists$Node"))) 8 161 [.ref a0, .int v1, .int v2] h evP r hh mc ms := by
  unfold f_X1_nodeAt at hf
  refine zMx.of (by decide) (Nat.le_of_ble_eq_true rfl) ?_
  intro p e s m args below meth c hc hr hin ht hn ls hl
  have hl : lv_has ls 4 [(0, .ref a0), (1, .int v1), (2, .int v2)] := hl
  have hq : 0 + mc = mc ∧ 0 + ms = ms := ⟨Nat.zero_add _, Nat.zero_add _⟩
  have hx := hc.x
  have hb := hc.b
  refine lv_aload_n (x := a0) hx hb dX1_nodeAt_0 rfl (lv_at hl 0 rfl) ?_
  refine lv_iload_n hx hb dX1_nodeAt_1 rfl (lv_at hl 1 rfl) ?_
  refine zx_VP (As := [.int v1]) (rest := []) hc hn hq (fun x hx => (ht x hx).elim) (ci := 0) rfl ⟨rfl, hd_X1_at⟩ (lw_V q1170 q1172 qs15 q84 q1173) (Nat.le_of_ble_eq_true rfl) (Nat.le_of_ble_eq_true rfl) (fun _ _ _ _ q => m_X1_at l hl0 D dA b0 gs h a0 v1 q) hf dX1_nodeAt_2 hl.1 rfl rfl (zroom (Nat.le_of_ble_eq_true rfl)) (fun x101 h102 H locs cells slots C9 S9 hf hq hn => ?_)
  refine zr_astore_n (x := x101) (i := 3) (lv' := [(3, va_rf x101), (0, .ref a0), (1, .int v1), (2, .int v2)]) hx hb dX1_nodeAt_5 rfl hl (by decide) rfl (fun ls hl => ?_)
  refine lv_iload_n hx hb dX1_nodeAt_6 rfl (lv_at hl 3 rfl) ?_
  refine lv_iconst (v := (0 : Int32)) hx hb dX1_nodeAt_7 (by decide) ?_
  refine zr_aload_n (x := x101) hx hb dX1_nodeAt_8 rfl (lv_at hl 0 rfl) ?_
  obtain ⟨a103, e9, hf9⟩ := znn_i hf
  subst e9
  have hf := hf9
  clear hf9
  refine zr_gIN hc hn (ci := 6) rfl rfl in_X7 3 (by decide) q877 (fun _ h => h) (fun _ _ _ => rfl) hf dX1_nodeAt_9 (fun x104 hf => ?_)
  refine lv_iconst (v := (1 : Int32)) hx hb dX1_nodeAt_12 (by decide) ?_
  refine lv_isub hx hb dX1_nodeAt_13 ?_
  refine zr_nmI hf (fun x105 hf => ?_)
  refine zr_cSI (As := [.int v2, .int (0 : Int32), .int x105]) (rest := []) hc hn hq hd_X1_isIn (lw_S q259 q260 q84 q261) (Nat.le_of_ble_eq_true rfl) (Nat.le_of_ble_eq_true rfl) (fun _ _ _ _ q => m_X1_isIn l D dA b0 gs h102 v2 (0 : Int32) x105 q) hf dX1_nodeAt_14 hl.1 rfl rfl (zroom (Nat.le_of_ble_eq_true rfl)) (fun x106 h107 H locs cells slots C9 S9 hf hq hn => ?_)
  refine zx_SU (As := [.int x106]) (rest := []) hc hn hq (fun x hx => (ht x hx).elim) hd_X1_checkIndex (lw_S q395 q396 q84 q397) (Nat.le_of_ble_eq_true rfl) (Nat.le_of_ble_eq_true rfl) (fun _ _ _ _ q => m_X1_checkIndex l hl0 D dA b0 gs h107 x106 q) hf dX1_nodeAt_17 hl.1 rfl rfl (zroom (Nat.le_of_ble_eq_true rfl)) (fun x108 h109 H locs cells slots C9 S9 hf hq hn => ?_)
  refine lv_aload_n (x := a103) hx hb dX1_nodeAt_20 rfl (lv_at hl 0 rfl) ?_
  refine lv_iload_n hx hb dX1_nodeAt_21 rfl (lv_at hl 3 rfl) ?_
  refine lv_iconst (v := (1 : Int32)) hx hb dX1_nodeAt_22 (by decide) ?_
  refine zr_na0 hc hn hq q180 hf dX1_nodeAt_23 (fun a110 h111 H cells slots C9 S9 hf hq hn => ?_)
  refine zr_cVP (As := [.int v2, .ref a110]) (rest := []) hc hn hq (ci := 6) rfl ⟨rfl, hd_X7_select⟩ (lw_V q1194 q1195 q1196 q115 q1197) (Nat.le_of_ble_eq_true rfl) (Nat.le_of_ble_eq_true rfl) (fun _ _ _ _ q => m_X7_select l D dA b0 gs h111 a103 v2 a110 q) hf dX1_nodeAt_25 hl.1 rfl rfl (zroom (Nat.le_of_ble_eq_true rfl)) (fun x112 h113 H locs cells slots C9 S9 hf hq hn => ?_)
  obtain ⟨rfl, rfl, rfl, rfl⟩ := zretx_i hf
  exact zx_ret (zr_aret (x := x112) hc hn hr (Or.inl ⟨_, rfl⟩) hq (fun _ _ _ _ q => ⟨_, rfl, q⟩) dX1_nodeAt_28)
theorem hd_X1_keyAt : yX1_keyAt.cls ≠ "java/lang/invoke/MethodHandle" ∧ yX1_keyAt.cls ≠ "java/lang/invoke/VarHandle" ∧ (parseMethodDescriptor yX1_keyAt.desc).map (fun d => d.parameters.length) = some 2 := by decide +kernel
def f_X1_keyAt (h : PH) (a0 : Nat) (v1 : Int32) (v2 : Int32) : ZR (ZX Int32) :=
  zrc h a0 0 <| zcx (f_X1_nodeAt h a0 v1 v2) fun x101 h102 =>
  znn x101 fun a103 =>
  zgI h102 a103 7 0 fun x104 =>
  zret (.inl x104) h102
set_option maxHeartbeats 4000000 in
set_option maxRecDepth 100000 in
theorem m_X1_keyAt (l : Launch) (hl0 : l.stackTraces = false) (D : va_G) (dA : Nat → ClassId) (b0 : Nat) (gs : Nat → Option Nat) (h : PH) (a0 : Nat) (v1 : Int32) (v2 : Int32) {r : (ZX Int32)} {hh : PH} {mc ms : Nat} (hf : f_X1_keyAt h a0 v1 v2 = some (r, hh, mc, ms)) : zMx l D dA b0 gs yX1_keyAt (ws_ yX1_keyAt cX1_keyAt 3 (some .int)) 9 184 [.ref a0, .int v1, .int v2] h evI r hh mc ms := by
  unfold f_X1_keyAt at hf
  refine zMx.of (by decide) (Nat.le_of_ble_eq_true rfl) ?_
  intro p e s m args below meth c hc hr hin ht hn ls hl
  have hl : lv_has ls 3 [(0, .ref a0), (1, .int v1), (2, .int v2)] := hl
  have hq : 0 + mc = mc ∧ 0 + ms = ms := ⟨Nat.zero_add _, Nat.zero_add _⟩
  have hx := hc.x
  have hb := hc.b
  refine lv_aload_n (x := a0) hx hb dX1_keyAt_0 rfl (lv_at hl 0 rfl) ?_
  refine lv_iload_n hx hb dX1_keyAt_1 rfl (lv_at hl 1 rfl) ?_
  refine lv_iload_n hx hb dX1_keyAt_2 rfl (lv_at hl 2 rfl) ?_
  refine zx_VP (As := [.int v1, .int v2]) (rest := []) hc hn hq (fun x hx => (ht x hx).elim) (ci := 0) rfl ⟨rfl, hd_X1_nodeAt⟩ (lw_V q1190 q1192 qs16 q84 q1193) (Nat.le_of_ble_eq_true rfl) (Nat.le_of_ble_eq_true rfl) (fun _ _ _ _ q => m_X1_nodeAt l hl0 D dA b0 gs h a0 v1 v2 q) hf dX1_keyAt_3 hl.1 rfl rfl (zroom (Nat.le_of_ble_eq_true rfl)) (fun x101 h102 H locs cells slots C9 S9 hf hq hn => ?_)
  obtain ⟨a103, e9, hf9⟩ := znn_i hf
  subst e9
  have hf := hf9
  clear hf9
  refine zr_gIN hc hn (ci := 7) rfl rfl in_X8 0 (by decide) q835 (fun _ h => h) (fun _ _ _ => rfl) hf dX1_keyAt_6 (fun x104 hf => ?_)
  obtain ⟨rfl, rfl, rfl, rfl⟩ := zretx_i hf
  exact zx_ret (zr_iret hc hn hr hq (fun _ _ _ _ q => ⟨_, rfl, q⟩) dX1_keyAt_9)
theorem hd_X1_valueAt : yX1_valueAt.cls ≠ "java/lang/invoke/MethodHandle" ∧ yX1_valueAt.cls ≠ "java/lang/invoke/VarHandle" ∧ (parseMethodDescriptor yX1_valueAt.desc).map (fun d => d.parameters.length) = some 2 := by decide +kernel
def f_X1_valueAt (h : PH) (a0 : Nat) (v1 : Int32) (v2 : Int32) : ZR (ZX Int32) :=
  zrc h a0 0 <| zcx (f_X1_nodeAt h a0 v1 v2) fun x101 h102 =>
  znn x101 fun a103 =>
  zgI h102 a103 7 4 fun x104 =>
  zret (.inl x104) h102
set_option maxHeartbeats 4000000 in
set_option maxRecDepth 100000 in
theorem m_X1_valueAt (l : Launch) (hl0 : l.stackTraces = false) (D : va_G) (dA : Nat → ClassId) (b0 : Nat) (gs : Nat → Option Nat) (h : PH) (a0 : Nat) (v1 : Int32) (v2 : Int32) {r : (ZX Int32)} {hh : PH} {mc ms : Nat} (hf : f_X1_valueAt h a0 v1 v2 = some (r, hh, mc, ms)) : zMx l D dA b0 gs yX1_valueAt (ws_ yX1_valueAt cX1_valueAt 3 (some .int)) 9 184 [.ref a0, .int v1, .int v2] h evI r hh mc ms := by
  unfold f_X1_valueAt at hf
  refine zMx.of (by decide) (Nat.le_of_ble_eq_true rfl) ?_
  intro p e s m args below meth c hc hr hin ht hn ls hl
  have hl : lv_has ls 3 [(0, .ref a0), (1, .int v1), (2, .int v2)] := hl
  have hq : 0 + mc = mc ∧ 0 + ms = ms := ⟨Nat.zero_add _, Nat.zero_add _⟩
  have hx := hc.x
  have hb := hc.b
  refine lv_aload_n (x := a0) hx hb dX1_valueAt_0 rfl (lv_at hl 0 rfl) ?_
  refine lv_iload_n hx hb dX1_valueAt_1 rfl (lv_at hl 1 rfl) ?_
  refine lv_iload_n hx hb dX1_valueAt_2 rfl (lv_at hl 2 rfl) ?_
  refine zx_VP (As := [.int v1, .int v2]) (rest := []) hc hn hq (fun x hx => (ht x hx).elim) (ci := 0) rfl ⟨rfl, hd_X1_nodeAt⟩ (lw_V q1190 q1192 qs16 q84 q1193) (Nat.le_of_ble_eq_true rfl) (Nat.le_of_ble_eq_true rfl) (fun _ _ _ _ q => m_X1_nodeAt l hl0 D dA b0 gs h a0 v1 v2 q) hf dX1_valueAt_3 hl.1 rfl rfl (zroom (Nat.le_of_ble_eq_true rfl)) (fun x101 h102 H locs cells slots C9 S9 hf hq hn => ?_)
  obtain ⟨a103, e9, hf9⟩ := znn_i hf
  subst e9
  have hf := hf9
  clear hf9
  refine zr_gIN hc hn (ci := 7) rfl rfl in_X8 4 (by decide) q846 (fun _ h => h) (fun _ _ _ => rfl) hf dX1_valueAt_6 (fun x104 hf => ?_)
  obtain ⟨rfl, rfl, rfl, rfl⟩ := zretx_i hf
  exact zx_ret (zr_iret hc hn hr hq (fun _ _ _ _ q => ⟨_, rfl, q⟩) dX1_valueAt_9)
theorem hd_X1_heightAt : yX1_heightAt.cls ≠ "java/lang/invoke/MethodHandle" ∧ yX1_heightAt.cls ≠ "java/lang/invoke/VarHandle" ∧ (parseMethodDescriptor yX1_heightAt.desc).map (fun d => d.parameters.length) = some 2 := by decide +kernel
def f_X1_heightAt (h : PH) (a0 : Nat) (v1 : Int32) (v2 : Int32) : ZR (ZX Int32) :=
  zrc h a0 0 <| zcx (f_X1_nodeAt h a0 v1 v2) fun x101 h102 =>
  znn x101 fun a103 =>
  zgI h102 a103 7 5 fun x104 =>
  zret (.inl x104) h102
set_option maxHeartbeats 4000000 in
set_option maxRecDepth 100000 in
theorem m_X1_heightAt (l : Launch) (hl0 : l.stackTraces = false) (D : va_G) (dA : Nat → ClassId) (b0 : Nat) (gs : Nat → Option Nat) (h : PH) (a0 : Nat) (v1 : Int32) (v2 : Int32) {r : (ZX Int32)} {hh : PH} {mc ms : Nat} (hf : f_X1_heightAt h a0 v1 v2 = some (r, hh, mc, ms)) : zMx l D dA b0 gs yX1_heightAt (ws_ yX1_heightAt cX1_heightAt 3 (some .int)) 9 184 [.ref a0, .int v1, .int v2] h evI r hh mc ms := by
  unfold f_X1_heightAt at hf
  refine zMx.of (by decide) (Nat.le_of_ble_eq_true rfl) ?_
  intro p e s m args below meth c hc hr hin ht hn ls hl
  have hl : lv_has ls 3 [(0, .ref a0), (1, .int v1), (2, .int v2)] := hl
  have hq : 0 + mc = mc ∧ 0 + ms = ms := ⟨Nat.zero_add _, Nat.zero_add _⟩
  have hx := hc.x
  have hb := hc.b
  refine lv_aload_n (x := a0) hx hb dX1_heightAt_0 rfl (lv_at hl 0 rfl) ?_
  refine lv_iload_n hx hb dX1_heightAt_1 rfl (lv_at hl 1 rfl) ?_
  refine lv_iload_n hx hb dX1_heightAt_2 rfl (lv_at hl 2 rfl) ?_
  refine zx_VP (As := [.int v1, .int v2]) (rest := []) hc hn hq (fun x hx => (ht x hx).elim) (ci := 0) rfl ⟨rfl, hd_X1_nodeAt⟩ (lw_V q1190 q1192 qs16 q84 q1193) (Nat.le_of_ble_eq_true rfl) (Nat.le_of_ble_eq_true rfl) (fun _ _ _ _ q => m_X1_nodeAt l hl0 D dA b0 gs h a0 v1 v2 q) hf dX1_heightAt_3 hl.1 rfl rfl (zroom (Nat.le_of_ble_eq_true rfl)) (fun x101 h102 H locs cells slots C9 S9 hf hq hn => ?_)
  obtain ⟨a103, e9, hf9⟩ := znn_i hf
  subst e9
  have hf := hf9
  clear hf9
  refine zr_gIN hc hn (ci := 7) rfl rfl in_X8 5 (by decide) q850 (fun _ h => h) (fun _ _ _ => rfl) hf dX1_heightAt_6 (fun x104 hf => ?_)
  obtain ⟨rfl, rfl, rfl, rfl⟩ := zretx_i hf
  exact zx_ret (zr_iret hc hn hr hq (fun _ _ _ _ q => ⟨_, rfl, q⟩) dX1_heightAt_9)
theorem hd_X1_checkArgument : yX1_checkArgument.cls ≠ "java/lang/invoke/MethodHandle" ∧ yX1_checkArgument.cls ≠ "java/lang/invoke/VarHandle" ∧ (parseMethodDescriptor yX1_checkArgument.desc).map (fun d => d.parameters.length) = some 1 := by decide +kernel
def f_X1_checkArgument (h : PH) (v0 : Int32) : ZR (ZX Unit) :=
  if v0 = 0 then
    (zth 2 h)
  else
    (zret (.inl ()) h)
set_option maxHeartbeats 4000000 in
set_option maxRecDepth 100000 in
theorem m_X1_checkArgument (l : Launch) (hl0 : l.stackTraces = false) (D : va_G) (dA : Nat → ClassId) (b0 : Nat) (gs : Nat → Option Nat) (h : PH) (v0 : Int32) {r : (ZX Unit)} {hh : PH} {mc ms : Nat} (hf : f_X1_checkArgument h v0 = some (r, hh, mc, ms)) : zMx l D dA b0 gs yX1_checkArgument (ws_ yX1_checkArgument cX1_checkArgument 1 none) 6 120 [.int v0] h evU r hh mc ms := by
  unfold f_X1_checkArgument at hf
  refine zMx.of (by decide) (Nat.le_of_ble_eq_true rfl) ?_
  intro p e s m args below meth c hc hr hin ht hn ls hl
  have hl : lv_has ls 1 [(0, .int v0)] := hl
  have hq : 0 + mc = mc ∧ 0 + ms = ms := ⟨Nat.zero_add _, Nat.zero_add _⟩
  have hx := hc.x
  have hb := hc.b
  refine lv_iload_n hx hb dX1_checkArgument_0 rfl (lv_at hl 0 rfl) ?_
  refine lv_if_ne (tgt := 12) hx hb dX1_checkArgument_1 (by decide) (fun c9 => ?_) (fun c9 => ?_)
  · have hf := zif_f c9 hf
    obtain ⟨rfl, rfl, rfl, rfl⟩ := zretx_i hf
    exact zx_ret (zr_vret hc hn hr hq (fun _ _ _ _ q => ⟨_, rfl, q⟩) dX1_checkArgument_12)
  · have hf := zif_t c9 hf
    exact zr_th2 hl0 hc hn hq hf (fun x hx => (ht x hx).elim) dX1_checkArgument_4 dX1_checkArgument_7 dX1_checkArgument_8 dX1_checkArgument_11 hl.1 (zroom (Nat.le_of_ble_eq_true rfl)) (Nat.le_of_ble_eq_true rfl) (Nat.le_of_ble_eq_true rfl)
theorem hd_X1_checkNumbers : yX1_checkNumbers.cls ≠ "java/lang/invoke/MethodHandle" ∧ yX1_checkNumbers.cls ≠ "java/lang/invoke/VarHandle" ∧ (parseMethodDescriptor yX1_checkNumbers.desc).map (fun d => d.parameters.length) = some 1 := by decide +kernel
def f_X1_checkNumbers_b7 : Nat → PH → Nat → Int32 → Int32 → ZR (ZX Unit)
  | 0 => fun _ _ _ _ => none
  | n + 1 => fun h a1 v2 v3 =>
    if v2 ≤ v3 then
      (zret (.inl ()) h)
    else
      (zaI h a1 0 v3 fun x101 =>
      zcl (f_X1_isIn h x101 (-9999 : Int32) (9999 : Int32)) fun x102 h103 =>
      zcx (f_X1_checkArgument h103 x102) fun _ h105 =>
      znm (v3 + (1 : Int32)) fun x106 =>
      f_X1_checkNumbers_b7 n h105 a1 v2 x106)
def f_X1_checkNumbers (h : PH) (a0 : Nat) : ZR (ZX Unit) :=
  zlen h a0 0 fun x101 =>
  f_X1_checkNumbers_b7 zFU h a0 x101 (0 : Int32)
set_option maxHeartbeats 4000000 in
set_option maxRecDepth 100000 in
theorem m_X1_checkNumbers_b7 {p : Program} {l : Launch} {e : Env} {s : State} {m : MethodId} {args : Array Value} {below : List Frame} {meth : Method} {c : Code} {D : va_G} {dA : Nat → ClassId} {b0 : Nat} {gs : Nat → Option Nat} (hc : zC D dA b0 gs yX1_checkNumbers.cls cX1_checkNumbers 5 p c s m args meth) (hr : meth.sig.returnType = none) (hin : meth.name = yX1_checkNumbers.name) {r : (ZX Unit)} {hh : PH} {mc ms : Nat} (hl0 : l.stackTraces = false) (ht : ∀ x ∈ c.exceptionTable.toList, False) : ∀ (n : Nat) (h : PH) (a1 : Nat) (v2 : Int32) (v3 : Int32) (C9 S9 : Nat) (H : Heap) (locs : List Loc) (cells slots : Nat), f_X1_checkNumbers_b7 n h a1 v2 v3 = some (r, hh, C9, S9) → cells + C9 = mc ∧ slots + S9 = ms → zM D dA b0 gs s h H locs → ∀ ls : Array Slot, lv_has ls 5 [(1, .ref a1), (2, .int v2), (3, .int v3)] → W p l e ({ frames := 7, cells := mc, slots := ms, locals := 140 } : Room) s m args below meth c H locs cells slots (vx_MQ below (zQX D dA b0 gs evU r hh) (zXC D dA b0 gs r hh) args s mc ms (zA b0)) (F0 m 7 ls []) := by
  have hx := hc.x
  have hb := hc.b
  intro n
  induction n with
  | zero =>
    intro h a1 v2 v3 C9 S9 H locs cells slots hf hq hn ls hl
    cases hf
  | succ n ih =>
    intro h a1 v2 v3 C9 S9 H locs cells slots hf hq hn ls hl
    unfold f_X1_checkNumbers_b7 at hf
    refine lv_iload_n hx hb dX1_checkNumbers_7 rfl (lv_at hl 2 rfl) ?_
    refine lv_iload_n hx hb dX1_checkNumbers_8 rfl (lv_at hl 1 rfl) ?_
    refine lv_icmp_ge (tgt := 37) hx hb dX1_checkNumbers_9 (by decide) (fun c9 => ?_) (fun c9 => ?_)
    · have hf := zif_t c9 hf
      obtain ⟨rfl, rfl, rfl, rfl⟩ := zretx_i hf
      exact zx_ret (zr_vret hc hn hr hq (fun _ _ _ _ q => ⟨_, rfl, q⟩) dX1_checkNumbers_37)
    · have hf := zif_f c9 hf
      refine lv_aload_n (x := a1) hx hb dX1_checkNumbers_12 rfl (lv_at hl 0 rfl) ?_
      refine lv_iload_n hx hb dX1_checkNumbers_13 rfl (lv_at hl 2 rfl) ?_
      refine zr_aI0 hc hn hf dX1_checkNumbers_14 (fun x101 hf => ?_)
      refine lv_istore (lv' := [(4, .int x101), (1, .ref a1), (2, .int v2), (3, .int v3)]) hx hb dX1_checkNumbers_15 hl (by decide) rfl (fun ls hl => ?_)
      refine lv_iload hx hb dX1_checkNumbers_17 (lv_at hl 0 rfl) ?_
      refine lv_sipush (v := (-9999 : Int32)) hx hb dX1_checkNumbers_19 (by decide) ?_
      refine lv_sipush (v := (9999 : Int32)) hx hb dX1_checkNumbers_22 (by decide) ?_
      refine zr_cSI (As := [.int x101, .int (-9999 : Int32), .int (9999 : Int32)]) (rest := []) hc hn hq hd_X1_isIn (lw_S q259 q260 q84 q261) (Nat.le_of_ble_eq_true rfl) (Nat.le_of_ble_eq_true rfl) (fun _ _ _ _ q => m_X1_isIn l D dA b0 gs h x101 (-9999 : Int32) (9999 : Int32) q) hf dX1_checkNumbers_25 hl.1 rfl rfl (zroom (Nat.le_of_ble_eq_true rfl)) (fun x102 h103 H locs cells slots C9 S9 hf hq hn => ?_)
      refine zx_SU (As := [.int x102]) (rest := []) hc hn hq (fun x hx => (ht x hx).elim) hd_X1_checkArgument (lw_S q1226 q1227 q84 q1228) (Nat.le_of_ble_eq_true rfl) (Nat.le_of_ble_eq_true rfl) (fun _ _ _ _ q => m_X1_checkArgument l hl0 D dA b0 gs h103 x102 q) hf dX1_checkNumbers_28 hl.1 rfl rfl (zroom (Nat.le_of_ble_eq_true rfl)) (fun x104 h105 H locs cells slots C9 S9 hf hq hn => ?_)
      obtain ⟨x106, ex106, hf⟩ := znm_i hf
      refine lv_iinc (v := x106) (lv' := [(3, .int x106), (4, .int x101), (1, .ref a1), (2, .int v2)]) hx hb dX1_checkNumbers_31 hl (k := 3) rfl (by rw [ex106]; rfl) (by decide) rfl (fun ls hl => ?_)
      refine lv_goto (tgt := 7) hx hb dX1_checkNumbers_34 (by decide) ?_
      exact ih h105 a1 v2 x106 _ _ _ _ _ _ hf hq hn _ (lv_sub hl [2, 3, 0] rfl)
set_option maxHeartbeats 4000000 in
set_option maxRecDepth 100000 in
theorem m_X1_checkNumbers (l : Launch) (hl0 : l.stackTraces = false) (D : va_G) (dA : Nat → ClassId) (b0 : Nat) (gs : Nat → Option Nat) (h : PH) (a0 : Nat) {r : (ZX Unit)} {hh : PH} {mc ms : Nat} (hf : f_X1_checkNumbers h a0 = some (r, hh, mc, ms)) : zMx l D dA b0 gs yX1_checkNumbers (ws_ yX1_checkNumbers cX1_checkNumbers 5 none) 7 140 [.ref a0] h evU r hh mc ms := by
  unfold f_X1_checkNumbers at hf
  refine zMx.of (by decide) (Nat.le_of_ble_eq_true rfl) ?_
  intro p e s m args below meth c hc hr hin ht hn ls hl
  have hl : lv_has ls 5 [(0, .ref a0)] := hl
  have hq : 0 + mc = mc ∧ 0 + ms = ms := ⟨Nat.zero_add _, Nat.zero_add _⟩
  have hx := hc.x
  have hb := hc.b
  refine lv_aload_n (x := a0) hx hb dX1_checkNumbers_0 rfl (lv_at hl 0 rfl) ?_
  refine lv_astore_n (x := a0) (i := 1) (lv' := [(1, .ref a0), (0, .ref a0)]) hx hb dX1_checkNumbers_1 rfl hl (by decide) rfl (fun ls hl => ?_)
  refine lv_aload_n (x := a0) hx hb dX1_checkNumbers_2 rfl (lv_at hl 0 rfl) ?_
  refine zr_len (ai := 0) hc hn hf dX1_checkNumbers_3 (fun x101 hf => ?_)
  refine lv_istore_n (i := 2) (lv' := [(2, .int x101), (1, .ref a0), (0, .ref a0)]) hx hb dX1_checkNumbers_4 rfl hl (by decide) rfl (fun ls hl => ?_)
  refine lv_iconst (v := (0 : Int32)) hx hb dX1_checkNumbers_5 (by decide) ?_
  refine lv_istore_n (i := 3) (lv' := [(3, .int (0 : Int32)), (2, .int x101), (1, .ref a0), (0, .ref a0)]) hx hb dX1_checkNumbers_6 rfl hl (by decide) rfl (fun ls hl => ?_)
  exact m_X1_checkNumbers_b7 hc hr hin hl0 ht zFU h a0 x101 (0 : Int32) _ _ _ _ _ _ hf hq hn _ (lv_sub hl [2, 1, 0] rfl)
theorem hd_X1_at_2 : yX1_at_2.cls ≠ "java/lang/invoke/MethodHandle" ∧ yX1_at_2.cls ≠ "java/lang/invoke/VarHandle" ∧ (parseMethodDescriptor yX1_at_2.desc).map (fun d => d.parameters.length) = some 2 := by decide +kernel
def f_X1_at_2 (h : PH) (a0 : Nat) (v1 : Int32) (v2 : Int32) : ZR (ZX (Option Nat)) :=
  zrc h a0 0 <| zcx (f_X1_at h a0 v1) fun x101 h102 =>
  zna h102 0 (1 : Int32) fun a103 h104 =>
  zsI h104 a103 0 (0 : Int32) v2 fun h105 =>
  zcx (f_X1_checkNumbers h105 a103) fun _ h107 =>
  zret (.inl x101) h107
set_option maxHeartbeats 4000000 in
set_option maxRecDepth 100000 in
theorem m_X1_at_2 (l : Launch) (hl0 : l.stackTraces = false) (D : va_G) (dA : Nat → ClassId) (b0 : Nat) (gs : Nat → Option Nat) (h : PH) (a0 : Nat) (v1 : Int32) (v2 : Int32) {r : (ZX (Option Nat))} {hh : PH} {mc ms : Nat} (hf : f_X1_at_2 h a0 v1 v2 = some (r, hh, mc, ms)) : zMx l D dA b0 gs yX1_at_2 (ws_ yX1_at_2 cX1_at_2 4 (some (.object "CountedSkipLists$SkipList"))) 8 164 [.ref a0, .int v1, .int v2] h evP r hh mc ms := by
  unfold f_X1_at_2 at hf
  refine zMx.of (by decide) (Nat.le_of_ble_eq_true rfl) ?_
  intro p e s m args below meth c hc hr hin ht hn ls hl
  have hl : lv_has ls 4 [(0, .ref a0), (1, .int v1), (2, .int v2)] := hl
  have hq : 0 + mc = mc ∧ 0 + ms = ms := ⟨Nat.zero_add _, Nat.zero_add _⟩
  have hx := hc.x
  have hb := hc.b
  refine lv_aload_n (x := a0) hx hb dX1_at_2_0 rfl (lv_at hl 0 rfl) ?_
  refine lv_iload_n hx hb dX1_at_2_1 rfl (lv_at hl 1 rfl) ?_
  refine zx_VP (As := [.int v1]) (rest := []) hc hn hq (fun x hx => (ht x hx).elim) (ci := 0) rfl ⟨rfl, hd_X1_at⟩ (lw_V q1170 q1172 qs15 q84 q1173) (Nat.le_of_ble_eq_true rfl) (Nat.le_of_ble_eq_true rfl) (fun _ _ _ _ q => m_X1_at l hl0 D dA b0 gs h a0 v1 q) hf dX1_at_2_2 hl.1 rfl rfl (zroom (Nat.le_of_ble_eq_true rfl)) (fun x101 h102 H locs cells slots C9 S9 hf hq hn => ?_)
  refine zr_astore_n (x := x101) (i := 3) (lv' := [(3, va_rf x101), (0, .ref a0), (1, .int v1), (2, .int v2)]) hx hb dX1_at_2_5 rfl hl (by decide) rfl (fun ls hl => ?_)
  refine lv_iconst (v := (1 : Int32)) hx hb dX1_at_2_6 (by decide) ?_
  refine zr_na0 hc hn hq q180 hf dX1_at_2_7 (fun a103 h104 H cells slots C9 S9 hf hq hn => ?_)
  refine lv_dup hx hb dX1_at_2_9 rfl ?_
  refine lv_iconst (v := (0 : Int32)) hx hb dX1_at_2_10 (by decide) ?_
  refine lv_iload_n hx hb dX1_at_2_11 rfl (lv_at hl 3 rfl) ?_
  refine zr_sI hc hn hf dX1_at_2_12 (fun h105 H locs hf hn => ?_)
  refine zx_SU (As := [.ref a103]) (rest := []) hc hn hq (fun x hx => (ht x hx).elim) hd_X1_checkNumbers (lw_S q1223 q1224 q84 q1225) (Nat.le_of_ble_eq_true rfl) (Nat.le_of_ble_eq_true rfl) (fun _ _ _ _ q => m_X1_checkNumbers l hl0 D dA b0 gs h105 a103 q) hf dX1_at_2_13 hl.1 rfl rfl (zroom (Nat.le_of_ble_eq_true rfl)) (fun x106 h107 H locs cells slots C9 S9 hf hq hn => ?_)
  refine zr_aload_n (x := x101) hx hb dX1_at_2_16 rfl (lv_at hl 0 rfl) ?_
  obtain ⟨rfl, rfl, rfl, rfl⟩ := zretx_i hf
  exact zx_ret (zr_aret (x := x101) hc hn hr (Or.inl ⟨_, rfl⟩) hq (fun _ _ _ _ q => ⟨_, rfl, q⟩) dX1_at_2_17)
theorem hd_X1_checkElement : yX1_checkElement.cls ≠ "java/lang/invoke/MethodHandle" ∧ yX1_checkElement.cls ≠ "java/lang/invoke/VarHandle" ∧ (parseMethodDescriptor yX1_checkElement.desc).map (fun d => d.parameters.length) = some 1 := by decide +kernel
def f_X1_checkElement (h : PH) (v0 : Int32) : ZR (ZX Unit) :=
  if v0 = 0 then
    (zth 4 h)
  else
    (zret (.inl ()) h)
set_option maxHeartbeats 4000000 in
set_option maxRecDepth 100000 in
theorem m_X1_checkElement (l : Launch) (hl0 : l.stackTraces = false) (D : va_G) (dA : Nat → ClassId) (b0 : Nat) (gs : Nat → Option Nat) (h : PH) (v0 : Int32) {r : (ZX Unit)} {hh : PH} {mc ms : Nat} (hf : f_X1_checkElement h v0 = some (r, hh, mc, ms)) : zMx l D dA b0 gs yX1_checkElement (ws_ yX1_checkElement cX1_checkElement 1 none) 6 120 [.int v0] h evU r hh mc ms := by
  unfold f_X1_checkElement at hf
  refine zMx.of (by decide) (Nat.le_of_ble_eq_true rfl) ?_
  intro p e s m args below meth c hc hr hin ht hn ls hl
  have hl : lv_has ls 1 [(0, .int v0)] := hl
  have hq : 0 + mc = mc ∧ 0 + ms = ms := ⟨Nat.zero_add _, Nat.zero_add _⟩
  have hx := hc.x
  have hb := hc.b
  refine lv_iload_n hx hb dX1_checkElement_0 rfl (lv_at hl 0 rfl) ?_
  refine lv_if_ne (tgt := 12) hx hb dX1_checkElement_1 (by decide) (fun c9 => ?_) (fun c9 => ?_)
  · have hf := zif_f c9 hf
    obtain ⟨rfl, rfl, rfl, rfl⟩ := zretx_i hf
    exact zx_ret (zr_vret hc hn hr hq (fun _ _ _ _ q => ⟨_, rfl, q⟩) dX1_checkElement_12)
  · have hf := zif_t c9 hf
    exact zr_th4 hl0 hc hn hq hf (fun x hx => (ht x hx).elim) dX1_checkElement_4 dX1_checkElement_7 dX1_checkElement_8 dX1_checkElement_11 hl.1 (zroom (Nat.le_of_ble_eq_true rfl)) (Nat.le_of_ble_eq_true rfl) (Nat.le_of_ble_eq_true rfl)
theorem hd_X1_nodeOf : yX1_nodeOf.cls ≠ "java/lang/invoke/MethodHandle" ∧ yX1_nodeOf.cls ≠ "java/lang/invoke/VarHandle" ∧ (parseMethodDescriptor yX1_nodeOf.desc).map (fun d => d.parameters.length) = some 2 := by decide +kernel
def f_X1_nodeOf (h : PH) (a0 : Nat) (v1 : Int32) : ZR (ZX (Option Nat)) :=
  zrc h a0 6 <| zcl (f_X7_find h a0 v1) fun x101 h102 =>
  znn x101 fun a103 =>
  zrc h102 a103 16 <| zcl (f_J24_isPresent h102 a103) fun x104 h105 =>
  zcx (f_X1_checkElement h105 x104) fun _ h107 =>
  zrc h107 a103 16 <| zcl (f_J24_get h107 a103) fun x108 h109 =>
  zcast h109 7 x108 <|
  zret (.inl x108) h109
set_option maxHeartbeats 4000000 in
set_option maxRecDepth 100000 in
theorem m_X1_nodeOf (l : Launch) (hl0 : l.stackTraces = false) (D : va_G) (dA : Nat → ClassId) (b0 : Nat) (gs : Nat → Option Nat) (h : PH) (a0 : Nat) (v1 : Int32) {r : (ZX (Option Nat))} {hh : PH} {mc ms : Nat} (hf : f_X1_nodeOf h a0 v1 = some (r, hh, mc, ms)) : zMx l D dA b0 gs yX1_nodeOf (ws_ yX1_nodeOf cX1_nodeOf 3 (some (.object "CountedSkipLists$Node"))) 7 140 [.ref a0, .int v1] h evP r hh mc ms := by
  unfold f_X1_nodeOf at hf
  refine zMx.of (by decide) (Nat.le_of_ble_eq_true rfl) ?_
  intro p e s m args below meth c hc hr hin ht hn ls hl
  have hl : lv_has ls 3 [(0, .ref a0), (1, .int v1)] := hl
  have hq : 0 + mc = mc ∧ 0 + ms = ms := ⟨Nat.zero_add _, Nat.zero_add _⟩
  have hx := hc.x
  have hb := hc.b
  refine lv_aload_n (x := a0) hx hb dX1_nodeOf_0 rfl (lv_at hl 0 rfl) ?_
  refine lv_iload_n hx hb dX1_nodeOf_1 rfl (lv_at hl 1 rfl) ?_
  refine zr_cVP (As := [.int v1]) (rest := []) hc hn hq (ci := 6) rfl ⟨rfl, hd_X7_find⟩ (lw_V q1232 q1233 q1234 q115 q1235) (Nat.le_of_ble_eq_true rfl) (Nat.le_of_ble_eq_true rfl) (fun _ _ _ _ q => m_X7_find l D dA b0 gs h a0 v1 q) hf dX1_nodeOf_2 hl.1 rfl rfl (zroom (Nat.le_of_ble_eq_true rfl)) (fun x101 h102 H locs cells slots C9 S9 hf hq hn => ?_)
  refine zr_astore_n (x := x101) (i := 2) (lv' := [(2, va_rf x101), (0, .ref a0), (1, .int v1)]) hx hb dX1_nodeOf_5 rfl hl (by decide) rfl (fun ls hl => ?_)
  refine zr_aload_n (x := x101) hx hb dX1_nodeOf_6 rfl (lv_at hl 0 rfl) ?_
  obtain ⟨a103, e9, hf9⟩ := znn_i hf
  subst e9
  have hf := hf9
  clear hf9
  refine zr_cVI (As := []) (rest := []) hc hn hq (ci := 16) rfl ⟨rfl, hd_J24_isPresent⟩ (lw_V q1257 q1258 q1259 q122 q1260) (Nat.le_of_ble_eq_true rfl) (Nat.le_of_ble_eq_true rfl) (fun _ _ _ _ q => m_J24_isPresent l D dA b0 gs h102 a103 q) hf dX1_nodeOf_7 hl.1 rfl rfl (zroom (Nat.le_of_ble_eq_true rfl)) (fun x104 h105 H locs cells slots C9 S9 hf hq hn => ?_)
  refine zx_SU (As := [.int x104]) (rest := []) hc hn hq (fun x hx => (ht x hx).elim) hd_X1_checkElement (lw_S q1261 q1262 q84 q1263) (Nat.le_of_ble_eq_true rfl) (Nat.le_of_ble_eq_true rfl) (fun _ _ _ _ q => m_X1_checkElement l hl0 D dA b0 gs h105 x104 q) hf dX1_nodeOf_10 hl.1 rfl rfl (zroom (Nat.le_of_ble_eq_true rfl)) (fun x106 h107 H locs cells slots C9 S9 hf hq hn => ?_)
  refine lv_aload_n (x := a103) hx hb dX1_nodeOf_13 rfl (lv_at hl 0 rfl) ?_
  refine zr_cVP (As := []) (rest := []) hc hn hq (ci := 16) rfl ⟨rfl, hd_J24_get⟩ (lw_V q1264 q1265 q1266 q122 q1267) (Nat.le_of_ble_eq_true rfl) (Nat.le_of_ble_eq_true rfl) (fun _ _ _ _ q => m_J24_get l D dA b0 gs h107 a103 q) hf dX1_nodeOf_14 hl.1 rfl rfl (zroom (Nat.le_of_ble_eq_true rfl)) (fun x108 h109 H locs cells slots C9 S9 hf hq hn => ?_)
  refine zr_cast (o := x108) hc hn (ci := 7) rfl q1274 (Or.inl rfl) hf dX1_nodeOf_17 (fun hf => ?_)
  obtain ⟨rfl, rfl, rfl, rfl⟩ := zretx_i hf
  exact zx_ret (zr_aret (x := x108) hc hn hr (Or.inl ⟨_, rfl⟩) hq (fun _ _ _ _ q => ⟨_, rfl, q⟩) dX1_nodeOf_20)
theorem hd_X1_value : yX1_value.cls ≠ "java/lang/invoke/MethodHandle" ∧ yX1_value.cls ≠ "java/lang/invoke/VarHandle" ∧ (parseMethodDescriptor yX1_value.desc).map (fun d => d.parameters.length) = some 2 := by decide +kernel
def f_X1_value (h : PH) (a0 : Nat) (v1 : Int32) (v2 : Int32) : ZR (ZX Int32) :=
  zrc h a0 0 <| zcx (f_X1_at_2 h a0 v1 v2) fun x101 h102 =>
  znn x101 fun a103 =>
  zcx (f_X1_nodeOf h102 a103 v2) fun x104 h105 =>
  znn x104 fun a106 =>
  zgI h105 a106 7 4 fun x107 =>
  zret (.inl x107) h105
set_option maxHeartbeats 4000000 in
set_option maxRecDepth 100000 in
theorem m_X1_value (l : Launch) (hl0 : l.stackTraces = false) (D : va_G) (dA : Nat → ClassId) (b0 : Nat) (gs : Nat → Option Nat) (h : PH) (a0 : Nat) (v1 : Int32) (v2 : Int32) {r : (ZX Int32)} {hh : PH} {mc ms : Nat} (hf : f_X1_value h a0 v1 v2 = some (r, hh, mc, ms)) : zMx l D dA b0 gs yX1_value (ws_ yX1_value cX1_value 3 (some .int)) 9 187 [.ref a0, .int v1, .int v2] h evI r hh mc ms := by
  unfold f_X1_value at hf
  refine zMx.of (by decide) (Nat.le_of_ble_eq_true rfl) ?_
  intro p e s m args below meth c hc hr hin ht hn ls hl
  have hl : lv_has ls 3 [(0, .ref a0), (1, .int v1), (2, .int v2)] := hl
  have hq : 0 + mc = mc ∧ 0 + ms = ms := ⟨Nat.zero_add _, Nat.zero_add _⟩
  have hx := hc.x
  have hb := hc.b
  refine lv_aload_n (x := a0) hx hb dX1_value_0 rfl (lv_at hl 0 rfl) ?_
  refine lv_iload_n hx hb dX1_value_1 rfl (lv_at hl 1 rfl) ?_
  refine lv_iload_n hx hb dX1_value_2 rfl (lv_at hl 2 rfl) ?_
  refine zx_VP (As := [.int v1, .int v2]) (rest := []) hc hn hq (fun x hx => (ht x hx).elim) (ci := 0) rfl ⟨rfl, hd_X1_at_2⟩ (lw_V q1219 q1221 qs17 q84 q1222) (Nat.le_of_ble_eq_true rfl) (Nat.le_of_ble_eq_true rfl) (fun _ _ _ _ q => m_X1_at_2 l hl0 D dA b0 gs h a0 v1 v2 q) hf dX1_value_3 hl.1 rfl rfl (zroom (Nat.le_of_ble_eq_true rfl)) (fun x101 h102 H locs cells slots C9 S9 hf hq hn => ?_)
  refine lv_iload_n hx hb dX1_value_6 rfl (lv_at hl 2 rfl) ?_
  obtain ⟨a103, e9, hf9⟩ := znn_i hf
  subst e9
  have hf := hf9
  clear hf9
  refine zx_SP (As := [.ref a103, .int v2]) (rest := []) hc hn hq (fun x hx => (ht x hx).elim) hd_X1_nodeOf (lw_S q1229 q1230 q84 q1231) (Nat.le_of_ble_eq_true rfl) (Nat.le_of_ble_eq_true rfl) (fun _ _ _ _ q => m_X1_nodeOf l hl0 D dA b0 gs h102 a103 v2 q) hf dX1_value_7 hl.1 rfl rfl (zroom (Nat.le_of_ble_eq_true rfl)) (fun x104 h105 H locs cells slots C9 S9 hf hq hn => ?_)
  obtain ⟨a106, e9, hf9⟩ := znn_i hf
  subst e9
  have hf := hf9
  clear hf9
  refine zr_gIN hc hn (ci := 7) rfl rfl in_X8 4 (by decide) q846 (fun _ h => h) (fun _ _ _ => rfl) hf dX1_value_10 (fun x107 hf => ?_)
  obtain ⟨rfl, rfl, rfl, rfl⟩ := zretx_i hf
  exact zx_ret (zr_iret hc hn hr hq (fun _ _ _ _ q => ⟨_, rfl, q⟩) dX1_value_13)
theorem hd_X1_rank : yX1_rank.cls ≠ "java/lang/invoke/MethodHandle" ∧ yX1_rank.cls ≠ "java/lang/invoke/VarHandle" ∧ (parseMethodDescriptor yX1_rank.desc).map (fun d => d.parameters.length) = some 2 := by decide +kernel
def f_X1_rank (h : PH) (a0 : Nat) (v1 : Int32) (v2 : Int32) : ZR (ZX Int32) :=
  zrc h a0 0 <| zcx (f_X1_at_2 h a0 v1 v2) fun x101 h102 =>
  znn x101 fun a103 =>
  zrc h102 a103 6 <| zcl (f_X7_rank h102 a103 v2) fun x104 h105 =>
  zret (.inl x104) h105
set_option maxHeartbeats 4000000 in
set_option maxRecDepth 100000 in
theorem m_X1_rank (l : Launch) (hl0 : l.stackTraces = false) (D : va_G) (dA : Nat → ClassId) (b0 : Nat) (gs : Nat → Option Nat) (h : PH) (a0 : Nat) (v1 : Int32) (v2 : Int32) {r : (ZX Int32)} {hh : PH} {mc ms : Nat} (hf : f_X1_rank h a0 v1 v2 = some (r, hh, mc, ms)) : zMx l D dA b0 gs yX1_rank (ws_ yX1_rank cX1_rank 3 (some .int)) 9 187 [.ref a0, .int v1, .int v2] h evI r hh mc ms := by
  unfold f_X1_rank at hf
  refine zMx.of (by decide) (Nat.le_of_ble_eq_true rfl) ?_
  intro p e s m args below meth c hc hr hin ht hn ls hl
  have hl : lv_has ls 3 [(0, .ref a0), (1, .int v1), (2, .int v2)] := hl
  have hq : 0 + mc = mc ∧ 0 + ms = ms := ⟨Nat.zero_add _, Nat.zero_add _⟩
  have hx := hc.x
  have hb := hc.b
  refine lv_aload_n (x := a0) hx hb dX1_rank_0 rfl (lv_at hl 0 rfl) ?_
  refine lv_iload_n hx hb dX1_rank_1 rfl (lv_at hl 1 rfl) ?_
  refine lv_iload_n hx hb dX1_rank_2 rfl (lv_at hl 2 rfl) ?_
  refine zx_VP (As := [.int v1, .int v2]) (rest := []) hc hn hq (fun x hx => (ht x hx).elim) (ci := 0) rfl ⟨rfl, hd_X1_at_2⟩ (lw_V q1219 q1221 qs17 q84 q1222) (Nat.le_of_ble_eq_true rfl) (Nat.le_of_ble_eq_true rfl) (fun _ _ _ _ q => m_X1_at_2 l hl0 D dA b0 gs h a0 v1 v2 q) hf dX1_rank_3 hl.1 rfl rfl (zroom (Nat.le_of_ble_eq_true rfl)) (fun x101 h102 H locs cells slots C9 S9 hf hq hn => ?_)
  refine lv_iload_n hx hb dX1_rank_6 rfl (lv_at hl 2 rfl) ?_
  obtain ⟨a103, e9, hf9⟩ := znn_i hf
  subst e9
  have hf := hf9
  clear hf9
  refine zr_cVI (As := [.int v2]) (rest := []) hc hn hq (ci := 6) rfl ⟨rfl, hd_X7_rank⟩ (lw_V q1282 q1283 q1284 q115 q1285) (Nat.le_of_ble_eq_true rfl) (Nat.le_of_ble_eq_true rfl) (fun _ _ _ _ q => m_X7_rank l D dA b0 gs h102 a103 v2 q) hf dX1_rank_7 hl.1 rfl rfl (zroom (Nat.le_of_ble_eq_true rfl)) (fun x104 h105 H locs cells slots C9 S9 hf hq hn => ?_)
  obtain ⟨rfl, rfl, rfl, rfl⟩ := zretx_i hf
  exact zx_ret (zr_iret hc hn hr hq (fun _ _ _ _ q => ⟨_, rfl, q⟩) dX1_rank_10)
theorem hd_X1_nearest : yX1_nearest.cls ≠ "java/lang/invoke/MethodHandle" ∧ yX1_nearest.cls ≠ "java/lang/invoke/VarHandle" ∧ (parseMethodDescriptor yX1_nearest.desc).map (fun d => d.parameters.length) = some 2 := by decide +kernel
def f_X1_nearest_b19 (h : PH) (a0 : Nat) (v1 : Int32) (v2 : Int32) (a3 : Nat) (s0 : Int32) : ZR (ZX Int32) :=
  zcx (f_X1_checkElement h s0) fun _ h102 =>
  zrc h102 a3 6 <| zcl (f_X7_rank h102 a3 v2) fun x103 h104 =>
  zgI h104 a3 6 3 fun x105 =>
  if x103 = x105 then
    (znm (x103 - (1 : Int32)) fun x113 =>
    zrc h104 a0 0 <| zcx (f_X1_keyAt h104 a0 v1 x113) fun x114 h115 =>
    zret (.inl x114) h115)
  else
    (zrc h104 a0 0 <| zcx (f_X1_keyAt h104 a0 v1 x103) fun x106 h107 =>
    if x103 = 0 then
      (zret (.inl x106) h107)
    else
      (znm (x103 - (1 : Int32)) fun x108 =>
      zrc h107 a0 0 <| zcx (f_X1_keyAt h107 a0 v1 x108) fun x109 h110 =>
      znm (v2 - x109) fun x111 =>
      znm (x106 - v2) fun x112 =>
      if x112 < x111 then
        (zret (.inl x106) h110)
      else
        (zret (.inl x109) h110)))
def f_X1_nearest (h : PH) (a0 : Nat) (v1 : Int32) (v2 : Int32) : ZR (ZX Int32) :=
  zrc h a0 0 <| zcx (f_X1_at_2 h a0 v1 v2) fun x101 h102 =>
  znn x101 fun a103 =>
  zgI h102 a103 6 3 fun x104 =>
  if x104 ≤ 0 then
    (f_X1_nearest_b19 h102 a0 v1 v2 a103 (0 : Int32))
  else
    (f_X1_nearest_b19 h102 a0 v1 v2 a103 (1 : Int32))
set_option maxHeartbeats 4000000 in
set_option maxRecDepth 100000 in
theorem m_X1_nearest_b19 {p : Program} {l : Launch} {e : Env} {s : State} {m : MethodId} {args : Array Value} {below : List Frame} {meth : Method} {c : Code} {D : va_G} {dA : Nat → ClassId} {b0 : Nat} {gs : Nat → Option Nat} (hc : zC D dA b0 gs yX1_nearest.cls cX1_nearest 7 p c s m args meth) (hr : meth.sig.returnType = (some .int)) (hin : meth.name = yX1_nearest.name) {r : (ZX Int32)} {hh : PH} {mc ms : Nat} (hl0 : l.stackTraces = false) (ht : ∀ x ∈ c.exceptionTable.toList, False) : ∀ (h : PH) (a0 : Nat) (v1 : Int32) (v2 : Int32) (a3 : Nat) (s0 : Int32) (C9 S9 : Nat) (H : Heap) (locs : List Loc) (cells slots : Nat), f_X1_nearest_b19 h a0 v1 v2 a3 s0 = some (r, hh, C9, S9) → cells + C9 = mc ∧ slots + S9 = ms → zM D dA b0 gs s h H locs → ∀ ls : Array Slot, lv_has ls 7 [(0, .ref a0), (1, .int v1), (2, .int v2), (3, .ref a3)] → W p l e ({ frames := 10, cells := mc, slots := ms, locals := 206 } : Room) s m args below meth c H locs cells slots (vx_MQ below (zQX D dA b0 gs evI r hh) (zXC D dA b0 gs r hh) args s mc ms (zA b0)) (F0 m 19 ls [.int s0]) := by
  have hx := hc.x
  have hb := hc.b
  intro h a0 v1 v2 a3 s0 C9 S9 H locs cells slots hf hq hn ls hl
  unfold f_X1_nearest_b19 at hf
  refine zx_SU (As := [.int s0]) (rest := []) hc hn hq (fun x hx => (ht x hx).elim) hd_X1_checkElement (lw_S q1261 q1262 q84 q1263) (Nat.le_of_ble_eq_true rfl) (Nat.le_of_ble_eq_true rfl) (fun _ _ _ _ q => m_X1_checkElement l hl0 D dA b0 gs h s0 q) hf dX1_nearest_19 hl.1 rfl rfl (zroom (Nat.le_of_ble_eq_true rfl)) (fun x101 h102 H locs cells slots C9 S9 hf hq hn => ?_)
  refine lv_aload_n (x := a3) hx hb dX1_nearest_22 rfl (lv_at hl 3 rfl) ?_
  refine lv_iload_n hx hb dX1_nearest_23 rfl (lv_at hl 2 rfl) ?_
  refine zr_cVI (As := [.int v2]) (rest := []) hc hn hq (ci := 6) rfl ⟨rfl, hd_X7_rank⟩ (lw_V q1282 q1283 q1284 q115 q1285) (Nat.le_of_ble_eq_true rfl) (Nat.le_of_ble_eq_true rfl) (fun _ _ _ _ q => m_X7_rank l D dA b0 gs h102 a3 v2 q) hf dX1_nearest_24 hl.1 rfl rfl (zroom (Nat.le_of_ble_eq_true rfl)) (fun x103 h104 H locs cells slots C9 S9 hf hq hn => ?_)
  refine lv_istore (lv' := [(4, .int x103), (0, .ref a0), (1, .int v1), (2, .int v2), (3, .ref a3)]) hx hb dX1_nearest_27 hl (by decide) rfl (fun ls hl => ?_)
  refine lv_iload hx hb dX1_nearest_29 (lv_at hl 0 rfl) ?_
  refine lv_aload_n (x := a3) hx hb dX1_nearest_31 rfl (lv_at hl 4 rfl) ?_
  refine zr_gIN hc hn (ci := 6) rfl rfl in_X7 3 (by decide) q877 (fun _ h => h) (fun _ _ _ => rfl) hf dX1_nearest_32 (fun x105 hf => ?_)
  refine lv_icmp_ne (tgt := 48) hx hb dX1_nearest_35 (by decide) (fun c9 => ?_) (fun c9 => ?_)
  · have hf := zif_f c9 hf
    refine lv_aload_n (x := a0) hx hb dX1_nearest_48 rfl (lv_at hl 1 rfl) ?_
    refine lv_iload_n hx hb dX1_nearest_49 rfl (lv_at hl 2 rfl) ?_
    refine lv_iload hx hb dX1_nearest_50 (lv_at hl 0 rfl) ?_
    refine zx_VI (As := [.int v1, .int x103]) (rest := []) hc hn hq (fun x hx => (ht x hx).elim) (ci := 0) rfl ⟨rfl, hd_X1_keyAt⟩ (lw_V q1293 q1187 q1188 q84 q1189) (Nat.le_of_ble_eq_true rfl) (Nat.le_of_ble_eq_true rfl) (fun _ _ _ _ q => m_X1_keyAt l hl0 D dA b0 gs h104 a0 v1 x103 q) hf dX1_nearest_52 hl.1 rfl rfl (zroom (Nat.le_of_ble_eq_true rfl)) (fun x106 h107 H locs cells slots C9 S9 hf hq hn => ?_)
    refine lv_istore (lv' := [(5, .int x106), (4, .int x103), (0, .ref a0), (1, .int v1), (2, .int v2), (3, .ref a3)]) hx hb dX1_nearest_55 hl (by decide) rfl (fun ls hl => ?_)
    refine lv_iload hx hb dX1_nearest_57 (lv_at hl 1 rfl) ?_
    refine lv_if_ne (tgt := 65) hx hb dX1_nearest_59 (by decide) (fun c9 => ?_) (fun c9 => ?_)
    · have hf := zif_f c9 hf
      refine lv_aload_n (x := a0) hx hb dX1_nearest_65 rfl (lv_at hl 2 rfl) ?_
      refine lv_iload_n hx hb dX1_nearest_66 rfl (lv_at hl 3 rfl) ?_
      refine lv_iload hx hb dX1_nearest_67 (lv_at hl 1 rfl) ?_
      refine lv_iconst (v := (1 : Int32)) hx hb dX1_nearest_69 (by decide) ?_
      refine lv_isub hx hb dX1_nearest_70 ?_
      refine zr_nmI hf (fun x108 hf => ?_)
      refine zx_VI (As := [.int v1, .int x108]) (rest := []) hc hn hq (fun x hx => (ht x hx).elim) (ci := 0) rfl ⟨rfl, hd_X1_keyAt⟩ (lw_V q1293 q1187 q1188 q84 q1189) (Nat.le_of_ble_eq_true rfl) (Nat.le_of_ble_eq_true rfl) (fun _ _ _ _ q => m_X1_keyAt l hl0 D dA b0 gs h107 a0 v1 x108 q) hf dX1_nearest_71 hl.1 rfl rfl (zroom (Nat.le_of_ble_eq_true rfl)) (fun x109 h110 H locs cells slots C9 S9 hf hq hn => ?_)
      refine lv_istore (lv' := [(6, .int x109), (5, .int x106), (4, .int x103), (0, .ref a0), (1, .int v1), (2, .int v2), (3, .ref a3)]) hx hb dX1_nearest_74 hl (by decide) rfl (fun ls hl => ?_)
      refine lv_iload_n hx hb dX1_nearest_76 rfl (lv_at hl 5 rfl) ?_
      refine lv_iload hx hb dX1_nearest_77 (lv_at hl 0 rfl) ?_
      refine lv_isub hx hb dX1_nearest_79 ?_
      refine zr_nmI hf (fun x111 hf => ?_)
      refine lv_iload hx hb dX1_nearest_80 (lv_at hl 1 rfl) ?_
      refine lv_iload_n hx hb dX1_nearest_82 rfl (lv_at hl 5 rfl) ?_
      refine lv_isub hx hb dX1_nearest_83 ?_
      refine zr_nmI hf (fun x112 hf => ?_)
      refine lv_icmp_gt (tgt := 92) hx hb dX1_nearest_84 (by decide) (fun c9 => ?_) (fun c9 => ?_)
      · have hf := zif_t c9 hf
        refine lv_iload hx hb dX1_nearest_92 (lv_at hl 1 rfl) ?_
        obtain ⟨rfl, rfl, rfl, rfl⟩ := zretx_i hf
        exact zx_ret (zr_iret hc hn hr hq (fun _ _ _ _ q => ⟨_, rfl, q⟩) dX1_nearest_94)
      · have hf := zif_f c9 hf
        refine lv_iload hx hb dX1_nearest_87 (lv_at hl 0 rfl) ?_
        refine lv_goto (tgt := 94) hx hb dX1_nearest_89 (by decide) ?_
        obtain ⟨rfl, rfl, rfl, rfl⟩ := zretx_i hf
        exact zx_ret (zr_iret hc hn hr hq (fun _ _ _ _ q => ⟨_, rfl, q⟩) dX1_nearest_94)
    · have hf := zif_t c9 hf
      refine lv_iload hx hb dX1_nearest_62 (lv_at hl 0 rfl) ?_
      obtain ⟨rfl, rfl, rfl, rfl⟩ := zretx_i hf
      exact zx_ret (zr_iret hc hn hr hq (fun _ _ _ _ q => ⟨_, rfl, q⟩) dX1_nearest_64)
  · have hf := zif_t c9 hf
    refine lv_aload_n (x := a0) hx hb dX1_nearest_38 rfl (lv_at hl 1 rfl) ?_
    refine lv_iload_n hx hb dX1_nearest_39 rfl (lv_at hl 2 rfl) ?_
    refine lv_iload hx hb dX1_nearest_40 (lv_at hl 0 rfl) ?_
    refine lv_iconst (v := (1 : Int32)) hx hb dX1_nearest_42 (by decide) ?_
    refine lv_isub hx hb dX1_nearest_43 ?_
    refine zr_nmI hf (fun x113 hf => ?_)
    refine zx_VI (As := [.int v1, .int x113]) (rest := []) hc hn hq (fun x hx => (ht x hx).elim) (ci := 0) rfl ⟨rfl, hd_X1_keyAt⟩ (lw_V q1293 q1187 q1188 q84 q1189) (Nat.le_of_ble_eq_true rfl) (Nat.le_of_ble_eq_true rfl) (fun _ _ _ _ q => m_X1_keyAt l hl0 D dA b0 gs h104 a0 v1 x113 q) hf dX1_nearest_44 hl.1 rfl rfl (zroom (Nat.le_of_ble_eq_true rfl)) (fun x114 h115 H locs cells slots C9 S9 hf hq hn => ?_)
    obtain ⟨rfl, rfl, rfl, rfl⟩ := zretx_i hf
    exact zx_ret (zr_iret hc hn hr hq (fun _ _ _ _ q => ⟨_, rfl, q⟩) dX1_nearest_47)
set_option maxHeartbeats 4000000 in
set_option maxRecDepth 100000 in
theorem m_X1_nearest (l : Launch) (hl0 : l.stackTraces = false) (D : va_G) (dA : Nat → ClassId) (b0 : Nat) (gs : Nat → Option Nat) (h : PH) (a0 : Nat) (v1 : Int32) (v2 : Int32) {r : (ZX Int32)} {hh : PH} {mc ms : Nat} (hf : f_X1_nearest h a0 v1 v2 = some (r, hh, mc, ms)) : zMx l D dA b0 gs yX1_nearest (ws_ yX1_nearest cX1_nearest 7 (some .int)) 10 206 [.ref a0, .int v1, .int v2] h evI r hh mc ms := by
  unfold f_X1_nearest at hf
  refine zMx.of (by decide) (Nat.le_of_ble_eq_true rfl) ?_
  intro p e s m args below meth c hc hr hin ht hn ls hl
  have hl : lv_has ls 7 [(0, .ref a0), (1, .int v1), (2, .int v2)] := hl
  have hq : 0 + mc = mc ∧ 0 + ms = ms := ⟨Nat.zero_add _, Nat.zero_add _⟩
  have hx := hc.x
  have hb := hc.b
  refine lv_aload_n (x := a0) hx hb dX1_nearest_0 rfl (lv_at hl 0 rfl) ?_
  refine lv_iload_n hx hb dX1_nearest_1 rfl (lv_at hl 1 rfl) ?_
  refine lv_iload_n hx hb dX1_nearest_2 rfl (lv_at hl 2 rfl) ?_
  refine zx_VP (As := [.int v1, .int v2]) (rest := []) hc hn hq (fun x hx => (ht x hx).elim) (ci := 0) rfl ⟨rfl, hd_X1_at_2⟩ (lw_V q1219 q1221 qs17 q84 q1222) (Nat.le_of_ble_eq_true rfl) (Nat.le_of_ble_eq_true rfl) (fun _ _ _ _ q => m_X1_at_2 l hl0 D dA b0 gs h a0 v1 v2 q) hf dX1_nearest_3 hl.1 rfl rfl (zroom (Nat.le_of_ble_eq_true rfl)) (fun x101 h102 H locs cells slots C9 S9 hf hq hn => ?_)
  refine zr_astore_n (x := x101) (i := 3) (lv' := [(3, va_rf x101), (0, .ref a0), (1, .int v1), (2, .int v2)]) hx hb dX1_nearest_6 rfl hl (by decide) rfl (fun ls hl => ?_)
  refine zr_aload_n (x := x101) hx hb dX1_nearest_7 rfl (lv_at hl 0 rfl) ?_
  obtain ⟨a103, e9, hf9⟩ := znn_i hf
  subst e9
  have hf := hf9
  clear hf9
  refine zr_gIN hc hn (ci := 6) rfl rfl in_X7 3 (by decide) q877 (fun _ h => h) (fun _ _ _ => rfl) hf dX1_nearest_8 (fun x104 hf => ?_)
  refine lv_if_le (tgt := 18) hx hb dX1_nearest_11 (by decide) (fun c9 => ?_) (fun c9 => ?_)
  · have hf := zif_t c9 hf
    refine lv_iconst (v := (0 : Int32)) hx hb dX1_nearest_18 (by decide) ?_
    exact m_X1_nearest_b19 hc hr hin hl0 ht h102 a0 v1 v2 a103 (0 : Int32) _ _ _ _ _ _ hf hq hn _ (lv_sub hl [1, 2, 3, 0] rfl)
  · have hf := zif_f c9 hf
    refine lv_iconst (v := (1 : Int32)) hx hb dX1_nearest_14 (by decide) ?_
    refine lv_goto (tgt := 19) hx hb dX1_nearest_15 (by decide) ?_
    exact m_X1_nearest_b19 hc hr hin hl0 ht h102 a0 v1 v2 a103 (1 : Int32) _ _ _ _ _ _ hf hq hn _ (lv_sub hl [1, 2, 3, 0] rfl)
theorem hd_X1_rangeSum : yX1_rangeSum.cls ≠ "java/lang/invoke/MethodHandle" ∧ yX1_rangeSum.cls ≠ "java/lang/invoke/VarHandle" ∧ (parseMethodDescriptor yX1_rangeSum.desc).map (fun d => d.parameters.length) = some 3 := by decide +kernel
def f_X1_rangeSum (h : PH) (a0 : Nat) (v1 : Int32) (v2 : Int32) (v3 : Int32) : ZR (ZX Int32) :=
  zrc h a0 0 <| zcx (f_X1_at h a0 v1) fun x101 h102 =>
  zna h102 0 (2 : Int32) fun a103 h104 =>
  zsI h104 a103 0 (0 : Int32) v2 fun h105 =>
  zsI h105 a103 0 (1 : Int32) v3 fun h106 =>
  zcx (f_X1_checkNumbers h106 a103) fun _ h108 =>
  if v2 < v3 then
    (znn x101 fun a109 =>
    zrc h108 a109 6 <| zcl (f_X7_sumBefore h108 a109 v3) fun x110 h111 =>
    zrc h111 a109 6 <| zcl (f_X7_sumBefore h111 a109 v2) fun x112 h113 =>
    znm (x110 - x112) fun x114 =>
    zret (.inl x114) h113)
  else
    (zret (.inl (0 : Int32)) h108)
set_option maxHeartbeats 4000000 in
set_option maxRecDepth 100000 in
theorem m_X1_rangeSum (l : Launch) (hl0 : l.stackTraces = false) (D : va_G) (dA : Nat → ClassId) (b0 : Nat) (gs : Nat → Option Nat) (h : PH) (a0 : Nat) (v1 : Int32) (v2 : Int32) (v3 : Int32) {r : (ZX Int32)} {hh : PH} {mc ms : Nat} (hf : f_X1_rangeSum h a0 v1 v2 v3 = some (r, hh, mc, ms)) : zMx l D dA b0 gs yX1_rangeSum (ws_ yX1_rangeSum cX1_rangeSum 5 (some .int)) 8 164 [.ref a0, .int v1, .int v2, .int v3] h evI r hh mc ms := by
  unfold f_X1_rangeSum at hf
  refine zMx.of (by decide) (Nat.le_of_ble_eq_true rfl) ?_
  intro p e s m args below meth c hc hr hin ht hn ls hl
  have hl : lv_has ls 5 [(0, .ref a0), (1, .int v1), (2, .int v2), (3, .int v3)] := hl
  have hq : 0 + mc = mc ∧ 0 + ms = ms := ⟨Nat.zero_add _, Nat.zero_add _⟩
  have hx := hc.x
  have hb := hc.b
  refine lv_aload_n (x := a0) hx hb dX1_rangeSum_0 rfl (lv_at hl 0 rfl) ?_
  refine lv_iload_n hx hb dX1_rangeSum_1 rfl (lv_at hl 1 rfl) ?_
  refine zx_VP (As := [.int v1]) (rest := []) hc hn hq (fun x hx => (ht x hx).elim) (ci := 0) rfl ⟨rfl, hd_X1_at⟩ (lw_V q1170 q1172 qs15 q84 q1173) (Nat.le_of_ble_eq_true rfl) (Nat.le_of_ble_eq_true rfl) (fun _ _ _ _ q => m_X1_at l hl0 D dA b0 gs h a0 v1 q) hf dX1_rangeSum_2 hl.1 rfl rfl (zroom (Nat.le_of_ble_eq_true rfl)) (fun x101 h102 H locs cells slots C9 S9 hf hq hn => ?_)
  refine zr_astore (x := x101) (lv' := [(4, va_rf x101), (0, .ref a0), (1, .int v1), (2, .int v2), (3, .int v3)]) hx hb dX1_rangeSum_5 hl (by decide) rfl (fun ls hl => ?_)
  refine lv_iconst (v := (2 : Int32)) hx hb dX1_rangeSum_7 (by decide) ?_
  refine zr_na0 hc hn hq q180 hf dX1_rangeSum_8 (fun a103 h104 H cells slots C9 S9 hf hq hn => ?_)
  refine lv_dup hx hb dX1_rangeSum_10 rfl ?_
  refine lv_iconst (v := (0 : Int32)) hx hb dX1_rangeSum_11 (by decide) ?_
  refine lv_iload_n hx hb dX1_rangeSum_12 rfl (lv_at hl 3 rfl) ?_
  refine zr_sI hc hn hf dX1_rangeSum_13 (fun h105 H locs hf hn => ?_)
  refine lv_dup hx hb dX1_rangeSum_14 rfl ?_
  refine lv_iconst (v := (1 : Int32)) hx hb dX1_rangeSum_15 (by decide) ?_
  refine lv_iload_n hx hb dX1_rangeSum_16 rfl (lv_at hl 4 rfl) ?_
  refine zr_sI hc hn hf dX1_rangeSum_17 (fun h106 H locs hf hn => ?_)
  refine zx_SU (As := [.ref a103]) (rest := []) hc hn hq (fun x hx => (ht x hx).elim) hd_X1_checkNumbers (lw_S q1223 q1224 q84 q1225) (Nat.le_of_ble_eq_true rfl) (Nat.le_of_ble_eq_true rfl) (fun _ _ _ _ q => m_X1_checkNumbers l hl0 D dA b0 gs h106 a103 q) hf dX1_rangeSum_18 hl.1 rfl rfl (zroom (Nat.le_of_ble_eq_true rfl)) (fun x107 h108 H locs cells slots C9 S9 hf hq hn => ?_)
  refine lv_iload_n hx hb dX1_rangeSum_21 rfl (lv_at hl 4 rfl) ?_
  refine lv_iload_n hx hb dX1_rangeSum_22 rfl (lv_at hl 3 rfl) ?_
  refine lv_icmp_gt (tgt := 30) hx hb dX1_rangeSum_23 (by decide) (fun c9 => ?_) (fun c9 => ?_)
  · have hf := zif_t c9 hf
    refine zr_aload (x := x101) hx hb dX1_rangeSum_30 (lv_at hl 0 rfl) ?_
    refine lv_iload_n hx hb dX1_rangeSum_32 rfl (lv_at hl 4 rfl) ?_
    obtain ⟨a109, e9, hf9⟩ := znn_i hf
    subst e9
    have hf := hf9
    clear hf9
    refine zr_cVI (As := [.int v3]) (rest := []) hc hn hq (ci := 6) rfl ⟨rfl, hd_X7_sumBefore⟩ (lw_V q1301 q1302 q1303 q115 q1304) (Nat.le_of_ble_eq_true rfl) (Nat.le_of_ble_eq_true rfl) (fun _ _ _ _ q => m_X7_sumBefore l D dA b0 gs h108 a109 v3 q) hf dX1_rangeSum_33 hl.1 rfl rfl (zroom (Nat.le_of_ble_eq_true rfl)) (fun x110 h111 H locs cells slots C9 S9 hf hq hn => ?_)
    refine lv_aload (x := a109) hx hb dX1_rangeSum_36 (lv_at hl 0 rfl) ?_
    refine lv_iload_n hx hb dX1_rangeSum_38 rfl (lv_at hl 3 rfl) ?_
    refine zr_cVI (As := [.int v2]) (rest := [.int x110]) hc hn hq (ci := 6) rfl ⟨rfl, hd_X7_sumBefore⟩ (lw_V q1301 q1302 q1303 q115 q1304) (Nat.le_of_ble_eq_true rfl) (Nat.le_of_ble_eq_true rfl) (fun _ _ _ _ q => m_X7_sumBefore l D dA b0 gs h111 a109 v2 q) hf dX1_rangeSum_39 hl.1 rfl rfl (zroom (Nat.le_of_ble_eq_true rfl)) (fun x112 h113 H locs cells slots C9 S9 hf hq hn => ?_)
    refine lv_isub hx hb dX1_rangeSum_42 ?_
    refine zr_nmI hf (fun x114 hf => ?_)
    obtain ⟨rfl, rfl, rfl, rfl⟩ := zretx_i hf
    exact zx_ret (zr_iret hc hn hr hq (fun _ _ _ _ q => ⟨_, rfl, q⟩) dX1_rangeSum_43)
  · have hf := zif_f c9 hf
    refine lv_iconst (v := (0 : Int32)) hx hb dX1_rangeSum_26 (by decide) ?_
    refine lv_goto (tgt := 43) hx hb dX1_rangeSum_27 (by decide) ?_
    obtain ⟨rfl, rfl, rfl, rfl⟩ := zretx_i hf
    exact zx_ret (zr_iret hc hn hr hq (fun _ _ _ _ q => ⟨_, rfl, q⟩) dX1_rangeSum_43)
theorem hd_X1_rowSize : yX1_rowSize.cls ≠ "java/lang/invoke/MethodHandle" ∧ yX1_rowSize.cls ≠ "java/lang/invoke/VarHandle" ∧ (parseMethodDescriptor yX1_rowSize.desc).map (fun d => d.parameters.length) = some 2 := by decide +kernel
def f_X1_rowSize_b38 : Nat → PH → Int32 → Int32 → Option Nat → ZR (ZX Int32)
  | 0 => fun _ _ _ _ => none
  | n + 1 => fun h v2 v4 o5 =>
    znul o5
      (zret (.inl v4) h)
      (fun a101 =>
        znm (v4 + (1 : Int32)) fun x102 =>
        zrc h a101 7 <| zcl (f_X8_next h a101 v2) fun x103 h104 =>
        f_X1_rowSize_b38 n h104 v2 x102 x103)
def f_X1_rowSize_b16 (h : PH) (v2 : Int32) (o3 : Option Nat) (s0 : Int32) : ZR (ZX Int32) :=
  zcx (f_X1_checkArgument h s0) fun _ h102 =>
  if (8 : Int32) < v2 then
    (zret (.inl (0 : Int32)) h102)
  else
    (znn o3 fun a103 =>
    zgP h102 a103 6 1 fun x104 =>
    znn x104 fun a105 =>
    zrc h102 a105 7 <| zcl (f_X8_next h102 a105 v2) fun x106 h107 =>
    f_X1_rowSize_b38 zFU h107 v2 (0 : Int32) x106)
def f_X1_rowSize (h : PH) (a0 : Nat) (v1 : Int32) (v2 : Int32) : ZR (ZX Int32) :=
  zrc h a0 0 <| zcx (f_X1_at h a0 v1) fun x101 h102 =>
  if v2 < (1 : Int32) then
    (f_X1_rowSize_b16 h102 v2 x101 (0 : Int32))
  else
    (f_X1_rowSize_b16 h102 v2 x101 (1 : Int32))
set_option maxHeartbeats 4000000 in
set_option maxRecDepth 100000 in
theorem m_X1_rowSize_b38 {p : Program} {l : Launch} {e : Env} {s : State} {m : MethodId} {args : Array Value} {below : List Frame} {meth : Method} {c : Code} {D : va_G} {dA : Nat → ClassId} {b0 : Nat} {gs : Nat → Option Nat} (hc : zC D dA b0 gs yX1_rowSize.cls cX1_rowSize 6 p c s m args meth) (hr : meth.sig.returnType = (some .int)) (hin : meth.name = yX1_rowSize.name) {r : (ZX Int32)} {hh : PH} {mc ms : Nat} (hl0 : l.stackTraces = false) (ht : ∀ x ∈ c.exceptionTable.toList, False) : ∀ (n : Nat) (h : PH) (v2 : Int32) (v4 : Int32) (o5 : Option Nat) (C9 S9 : Nat) (H : Heap) (locs : List Loc) (cells slots : Nat), f_X1_rowSize_b38 n h v2 v4 o5 = some (r, hh, C9, S9) → cells + C9 = mc ∧ slots + S9 = ms → zM D dA b0 gs s h H locs → ∀ ls : Array Slot, lv_has ls 6 [(2, .int v2), (4, .int v4), (5, va_rf o5)] → W p l e ({ frames := 8, cells := mc, slots := ms, locals := 161 } : Room) s m args below meth c H locs cells slots (vx_MQ below (zQX D dA b0 gs evI r hh) (zXC D dA b0 gs r hh) args s mc ms (zA b0)) (F0 m 38 ls []) := by
  have hx := hc.x
  have hb := hc.b
  intro n
  induction n with
  | zero =>
    intro h v2 v4 o5 C9 S9 H locs cells slots hf hq hn ls hl
    cases hf
  | succ n ih =>
    intro h v2 v4 o5 C9 S9 H locs cells slots hf hq hn ls hl
    unfold f_X1_rowSize_b38 at hf
    refine zr_aload (x := o5) hx hb dX1_rowSize_38 (lv_at hl 2 rfl) ?_
    refine zr_ifnull (tgt := 57) hx hb hf dX1_rowSize_40 (by decide) (fun e9 hf9 => ?_) (fun a101 e9 hf9 => ?_)
    · subst e9
      have hf := hf9
      clear hf9
      refine lv_iload hx hb dX1_rowSize_57 (lv_at hl 1 rfl) ?_
      obtain ⟨rfl, rfl, rfl, rfl⟩ := zretx_i hf
      exact zx_ret (zr_iret hc hn hr hq (fun _ _ _ _ q => ⟨_, rfl, q⟩) dX1_rowSize_59)
    · subst e9
      have hf := hf9
      clear hf9
      obtain ⟨x102, ex102, hf⟩ := znm_i hf
      refine lv_iinc (v := x102) (lv' := [(4, .int x102), (2, .int v2), (5, .ref a101)]) hx hb dX1_rowSize_43 hl (k := 1) rfl (by rw [ex102]; rfl) (by decide) rfl (fun ls hl => ?_)
      refine lv_aload (x := a101) hx hb dX1_rowSize_46 (lv_at hl 2 rfl) ?_
      refine lv_iload_n hx hb dX1_rowSize_48 rfl (lv_at hl 1 rfl) ?_
      refine zr_cVP (As := [.int v2]) (rest := []) hc hn hq (ci := 7) rfl ⟨rfl, hd_X8_next⟩ (lw_V q1312 q905 q906 q116 q907) (Nat.le_of_ble_eq_true rfl) (Nat.le_of_ble_eq_true rfl) (fun _ _ _ _ q => m_X8_next l D dA b0 gs h a101 v2 q) hf dX1_rowSize_49 hl.1 rfl rfl (zroom (Nat.le_of_ble_eq_true rfl)) (fun x103 h104 H locs cells slots C9 S9 hf hq hn => ?_)
      refine zr_astore (x := x103) (lv' := [(5, va_rf x103), (4, .int x102), (2, .int v2)]) hx hb dX1_rowSize_52 hl (by decide) rfl (fun ls hl => ?_)
      refine lv_goto (tgt := 38) hx hb dX1_rowSize_54 (by decide) ?_
      exact ih h104 v2 x102 x103 _ _ _ _ _ _ hf hq hn _ (lv_sub hl [2, 1, 0] rfl)
set_option maxHeartbeats 4000000 in
set_option maxRecDepth 100000 in
theorem m_X1_rowSize_b16 {p : Program} {l : Launch} {e : Env} {s : State} {m : MethodId} {args : Array Value} {below : List Frame} {meth : Method} {c : Code} {D : va_G} {dA : Nat → ClassId} {b0 : Nat} {gs : Nat → Option Nat} (hc : zC D dA b0 gs yX1_rowSize.cls cX1_rowSize 6 p c s m args meth) (hr : meth.sig.returnType = (some .int)) (hin : meth.name = yX1_rowSize.name) {r : (ZX Int32)} {hh : PH} {mc ms : Nat} (hl0 : l.stackTraces = false) (ht : ∀ x ∈ c.exceptionTable.toList, False) : ∀ (h : PH) (v2 : Int32) (o3 : Option Nat) (s0 : Int32) (C9 S9 : Nat) (H : Heap) (locs : List Loc) (cells slots : Nat), f_X1_rowSize_b16 h v2 o3 s0 = some (r, hh, C9, S9) → cells + C9 = mc ∧ slots + S9 = ms → zM D dA b0 gs s h H locs → ∀ ls : Array Slot, lv_has ls 6 [(2, .int v2), (3, va_rf o3)] → W p l e ({ frames := 8, cells := mc, slots := ms, locals := 161 } : Room) s m args below meth c H locs cells slots (vx_MQ below (zQX D dA b0 gs evI r hh) (zXC D dA b0 gs r hh) args s mc ms (zA b0)) (F0 m 16 ls [.int s0]) := by
  have hx := hc.x
  have hb := hc.b
  intro h v2 o3 s0 C9 S9 H locs cells slots hf hq hn ls hl
  unfold f_X1_rowSize_b16 at hf
  refine zx_SU (As := [.int s0]) (rest := []) hc hn hq (fun x hx => (ht x hx).elim) hd_X1_checkArgument (lw_S q1226 q1227 q84 q1228) (Nat.le_of_ble_eq_true rfl) (Nat.le_of_ble_eq_true rfl) (fun _ _ _ _ q => m_X1_checkArgument l hl0 D dA b0 gs h s0 q) hf dX1_rowSize_16 hl.1 rfl rfl (zroom (Nat.le_of_ble_eq_true rfl)) (fun x101 h102 H locs cells slots C9 S9 hf hq hn => ?_)
  refine lv_iconst (v := (0 : Int32)) hx hb dX1_rowSize_19 (by decide) ?_
  refine lv_istore (lv' := [(4, .int (0 : Int32)), (2, .int v2), (3, va_rf o3)]) hx hb dX1_rowSize_20 hl (by decide) (by simp [zcat_rf, zcat_i, zcat_l, zcat_d, zcat_r, zcat_n] <;> rfl) (fun ls hl => ?_)
  refine lv_iload_n hx hb dX1_rowSize_22 rfl (lv_at hl 1 rfl) ?_
  refine lv_bipush (v := (8 : Int32)) hx hb dX1_rowSize_23 (by decide) ?_
  refine lv_icmp_gt (tgt := 57) hx hb dX1_rowSize_25 (by decide) (fun c9 => ?_) (fun c9 => ?_)
  · have hf := zif_t c9 hf
    refine lv_iload hx hb dX1_rowSize_57 (lv_at hl 0 rfl) ?_
    obtain ⟨rfl, rfl, rfl, rfl⟩ := zretx_i hf
    exact zx_ret (zr_iret hc hn hr hq (fun _ _ _ _ q => ⟨_, rfl, q⟩) dX1_rowSize_59)
  · have hf := zif_f c9 hf
    refine zr_aload_n (x := o3) hx hb dX1_rowSize_28 rfl (lv_at hl 2 rfl) ?_
    obtain ⟨a103, e9, hf9⟩ := znn_i hf
    subst e9
    have hf := hf9
    clear hf9
    refine zr_gPN hc hn (ci := 6) rfl rfl in_X7 1 (by decide) q873 (fun _ h => h) (fun _ _ _ => rfl) hf dX1_rowSize_29 (fun x104 hf => ?_)
    refine lv_iload_n hx hb dX1_rowSize_32 rfl (lv_at hl 1 rfl) ?_
    obtain ⟨a105, e9, hf9⟩ := znn_i hf
    subst e9
    have hf := hf9
    clear hf9
    refine zr_cVP (As := [.int v2]) (rest := []) hc hn hq (ci := 7) rfl ⟨rfl, hd_X8_next⟩ (lw_V q1312 q905 q906 q116 q907) (Nat.le_of_ble_eq_true rfl) (Nat.le_of_ble_eq_true rfl) (fun _ _ _ _ q => m_X8_next l D dA b0 gs h102 a105 v2 q) hf dX1_rowSize_33 hl.1 rfl rfl (zroom (Nat.le_of_ble_eq_true rfl)) (fun x106 h107 H locs cells slots C9 S9 hf hq hn => ?_)
    refine zr_astore (x := x106) (lv' := [(5, va_rf x106), (4, .int (0 : Int32)), (2, .int v2), (3, .ref a103)]) hx hb dX1_rowSize_36 hl (by decide) rfl (fun ls hl => ?_)
    exact m_X1_rowSize_b38 hc hr hin hl0 ht zFU h107 v2 (0 : Int32) x106 _ _ _ _ _ _ hf hq hn _ (lv_sub hl [2, 1, 0] rfl)
set_option maxHeartbeats 4000000 in
set_option maxRecDepth 100000 in
theorem m_X1_rowSize (l : Launch) (hl0 : l.stackTraces = false) (D : va_G) (dA : Nat → ClassId) (b0 : Nat) (gs : Nat → Option Nat) (h : PH) (a0 : Nat) (v1 : Int32) (v2 : Int32) {r : (ZX Int32)} {hh : PH} {mc ms : Nat} (hf : f_X1_rowSize h a0 v1 v2 = some (r, hh, mc, ms)) : zMx l D dA b0 gs yX1_rowSize (ws_ yX1_rowSize cX1_rowSize 6 (some .int)) 8 161 [.ref a0, .int v1, .int v2] h evI r hh mc ms := by
  unfold f_X1_rowSize at hf
  refine zMx.of (by decide) (Nat.le_of_ble_eq_true rfl) ?_
  intro p e s m args below meth c hc hr hin ht hn ls hl
  have hl : lv_has ls 6 [(0, .ref a0), (1, .int v1), (2, .int v2)] := hl
  have hq : 0 + mc = mc ∧ 0 + ms = ms := ⟨Nat.zero_add _, Nat.zero_add _⟩
  have hx := hc.x
  have hb := hc.b
  refine lv_aload_n (x := a0) hx hb dX1_rowSize_0 rfl (lv_at hl 0 rfl) ?_
  refine lv_iload_n hx hb dX1_rowSize_1 rfl (lv_at hl 1 rfl) ?_
  refine zx_VP (As := [.int v1]) (rest := []) hc hn hq (fun x hx => (ht x hx).elim) (ci := 0) rfl ⟨rfl, hd_X1_at⟩ (lw_V q1170 q1172 qs15 q84 q1173) (Nat.le_of_ble_eq_true rfl) (Nat.le_of_ble_eq_true rfl) (fun _ _ _ _ q => m_X1_at l hl0 D dA b0 gs h a0 v1 q) hf dX1_rowSize_2 hl.1 rfl rfl (zroom (Nat.le_of_ble_eq_true rfl)) (fun x101 h102 H locs cells slots C9 S9 hf hq hn => ?_)
  refine zr_astore_n (x := x101) (i := 3) (lv' := [(3, va_rf x101), (0, .ref a0), (1, .int v1), (2, .int v2)]) hx hb dX1_rowSize_5 rfl hl (by decide) rfl (fun ls hl => ?_)
  refine lv_iload_n hx hb dX1_rowSize_6 rfl (lv_at hl 3 rfl) ?_
  refine lv_iconst (v := (1 : Int32)) hx hb dX1_rowSize_7 (by decide) ?_
  refine lv_icmp_lt (tgt := 15) hx hb dX1_rowSize_8 (by decide) (fun c9 => ?_) (fun c9 => ?_)
  · have hf := zif_t c9 hf
    refine lv_iconst (v := (0 : Int32)) hx hb dX1_rowSize_15 (by decide) ?_
    exact m_X1_rowSize_b16 hc hr hin hl0 ht h102 v2 x101 (0 : Int32) _ _ _ _ _ _ hf hq hn _ (lv_sub hl [3, 0] rfl)
  · have hf := zif_f c9 hf
    refine lv_iconst (v := (1 : Int32)) hx hb dX1_rowSize_11 (by decide) ?_
    refine lv_goto (tgt := 16) hx hb dX1_rowSize_12 (by decide) ?_
    exact m_X1_rowSize_b16 hc hr hin hl0 ht h102 v2 x101 (1 : Int32) _ _ _ _ _ _ hf hq hn _ (lv_sub hl [3, 0] rfl)
theorem hd_X1_linkAt : yX1_linkAt.cls ≠ "java/lang/invoke/MethodHandle" ∧ yX1_linkAt.cls ≠ "java/lang/invoke/VarHandle" ∧ (parseMethodDescriptor yX1_linkAt.desc).map (fun d => d.parameters.length) = some 4 := by decide +kernel
def f_X1_linkAt_b42 : Nat → PH → Int32 → Int32 → Int32 → Option Nat → Int32 → ZR (ZX (Option Nat))
  | 0 => fun _ _ _ _ _ _ => none
  | n + 1 => fun h v2 v3 v4 o6 v7 =>
    if v3 ≤ v7 then
      (znul o6
        (zcx (f_X1_checkIndex h (0 : Int32)) fun _ h103 =>
        zret (.inl (none : Option Nat)) h103)
        (fun a101 =>
          zcx (f_X1_checkIndex h (1 : Int32)) fun _ h105 =>
          zret (.inl (some a101)) h105))
    else
      (znul o6
        (zcx (f_X1_checkIndex h (0 : Int32)) fun _ h108 =>
        zret (.inl (none : Option Nat)) h108)
        (fun a106 =>
          znm (v2 + v4) fun x109 =>
          zrc h a106 7 <| zcl (f_X8_next h a106 x109) fun x110 h111 =>
          znm (v7 + (1 : Int32)) fun x112 =>
          f_X1_linkAt_b42 n h111 v2 v3 v4 x110 x112))
def f_X1_linkAt_b29 (h : PH) (v2 : Int32) (v3 : Int32) (v4 : Int32) (a5 : Nat) (s0 : Int32) : ZR (ZX (Option Nat)) :=
  zcx (f_X1_checkIndex h s0) fun _ h102 =>
  zgP h102 a5 6 1 fun x103 =>
  f_X1_linkAt_b42 zFU h102 v2 v3 v4 x103 (0 : Int32)
def f_X1_linkAt_b28 (h : PH) (v2 : Int32) (v3 : Int32) (v4 : Int32) (a5 : Nat) : ZR (ZX (Option Nat)) :=
  f_X1_linkAt_b29 h v2 v3 v4 a5 (0 : Int32)
def f_X1_linkAt (h : PH) (a0 : Nat) (v1 : Int32) (v2 : Int32) (v3 : Int32) (v4 : Int32) : ZR (ZX (Option Nat)) :=
  zrc h a0 0 <| zcx (f_X1_at h a0 v1) fun x101 h102 =>
  znn x101 fun a103 =>
  zrc h102 a103 6 <| zcl (f_X7_height h102 a103) fun x104 h105 =>
  zcl (f_X1_isIn h105 v2 (1 : Int32) x104) fun x106 h107 =>
  if x106 = 0 then
    (f_X1_linkAt_b28 h107 v2 v3 v4 a103)
  else
    (if v3 < 0 then
      (f_X1_linkAt_b28 h107 v2 v3 v4 a103)
    else
      (f_X1_linkAt_b29 h107 v2 v3 v4 a103 (1 : Int32)))
set_option maxHeartbeats 4000000 in
set_option maxRecDepth 100000 in
theorem m_X1_linkAt_b42 {p : Program} {l : Launch} {e : Env} {s : State} {m : MethodId} {args : Array Value} {below : List Frame} {meth : Method} {c : Code} {D : va_G} {dA : Nat → ClassId} {b0 : Nat} {gs : Nat → Option Nat} (hc : zC D dA b0 gs yX1_linkAt.cls cX1_linkAt 8 p c s m args meth) (hr : meth.sig.returnType = (some (.object "CountedSkipLists$Node"))) (hin : meth.name = yX1_linkAt.name) {r : (ZX (Option Nat))} {hh : PH} {mc ms : Nat} (hl0 : l.stackTraces = false) (ht : ∀ x ∈ c.exceptionTable.toList, False) : ∀ (n : Nat) (h : PH) (v2 : Int32) (v3 : Int32) (v4 : Int32) (o6 : Option Nat) (v7 : Int32) (C9 S9 : Nat) (H : Heap) (locs : List Loc) (cells slots : Nat), f_X1_linkAt_b42 n h v2 v3 v4 o6 v7 = some (r, hh, C9, S9) → cells + C9 = mc ∧ slots + S9 = ms → zM D dA b0 gs s h H locs → ∀ ls : Array Slot, lv_has ls 8 [(2, .int v2), (3, .int v3), (4, .int v4), (6, va_rf o6), (7, .int v7)] → W p l e ({ frames := 8, cells := mc, slots := ms, locals := 161 } : Room) s m args below meth c H locs cells slots (vx_MQ below (zQX D dA b0 gs evP r hh) (zXC D dA b0 gs r hh) args s mc ms (zA b0)) (F0 m 42 ls []) := by
  have hx := hc.x
  have hb := hc.b
  intro n
  induction n with
  | zero =>
    intro h v2 v3 v4 o6 v7 C9 S9 H locs cells slots hf hq hn ls hl
    cases hf
  | succ n ih =>
    intro h v2 v3 v4 o6 v7 C9 S9 H locs cells slots hf hq hn ls hl
    unfold f_X1_linkAt_b42 at hf
    refine lv_iload hx hb dX1_linkAt_42 (lv_at hl 4 rfl) ?_
    refine lv_iload_n hx hb dX1_linkAt_44 rfl (lv_at hl 1 rfl) ?_
    refine lv_icmp_ge (tgt := 70) hx hb dX1_linkAt_45 (by decide) (fun c9 => ?_) (fun c9 => ?_)
    · have hf := zif_t c9 hf
      refine zr_aload (x := o6) hx hb dX1_linkAt_70 (lv_at hl 3 rfl) ?_
      refine zr_ifnull (tgt := 79) hx hb hf dX1_linkAt_72 (by decide) (fun e9 hf9 => ?_) (fun a101 e9 hf9 => ?_)
      · subst e9
        have hf := hf9
        clear hf9
        refine lv_iconst (v := (0 : Int32)) hx hb dX1_linkAt_79 (by decide) ?_
        refine zx_SU (As := [.int (0 : Int32)]) (rest := []) hc hn hq (fun x hx => (ht x hx).elim) hd_X1_checkIndex (lw_S q395 q396 q84 q397) (Nat.le_of_ble_eq_true rfl) (Nat.le_of_ble_eq_true rfl) (fun _ _ _ _ q => m_X1_checkIndex l hl0 D dA b0 gs h (0 : Int32) q) hf dX1_linkAt_80 hl.1 rfl rfl (zroom (Nat.le_of_ble_eq_true rfl)) (fun x102 h103 H locs cells slots C9 S9 hf hq hn => ?_)
        refine lv_aloadN hx hb dX1_linkAt_83 (lv_at hl 3 rfl) ?_
        obtain ⟨rfl, rfl, rfl, rfl⟩ := zretx_i hf
        exact zx_ret (zr_aret (x := (none : Option Nat)) hc hn hr (Or.inl ⟨_, rfl⟩) hq (fun _ _ _ _ q => ⟨_, rfl, q⟩) dX1_linkAt_85)
      · subst e9
        have hf := hf9
        clear hf9
        refine lv_iconst (v := (1 : Int32)) hx hb dX1_linkAt_75 (by decide) ?_
        refine lv_goto (tgt := 80) hx hb dX1_linkAt_76 (by decide) ?_
        refine zx_SU (As := [.int (1 : Int32)]) (rest := []) hc hn hq (fun x hx => (ht x hx).elim) hd_X1_checkIndex (lw_S q395 q396 q84 q397) (Nat.le_of_ble_eq_true rfl) (Nat.le_of_ble_eq_true rfl) (fun _ _ _ _ q => m_X1_checkIndex l hl0 D dA b0 gs h (1 : Int32) q) hf dX1_linkAt_80 hl.1 rfl rfl (zroom (Nat.le_of_ble_eq_true rfl)) (fun x104 h105 H locs cells slots C9 S9 hf hq hn => ?_)
        refine lv_aload (x := a101) hx hb dX1_linkAt_83 (lv_at hl 3 rfl) ?_
        obtain ⟨rfl, rfl, rfl, rfl⟩ := zretx_i hf
        exact zx_ret (zr_aret (x := (some a101)) hc hn hr (Or.inl ⟨_, rfl⟩) hq (fun _ _ _ _ q => ⟨_, rfl, q⟩) dX1_linkAt_85)
    · have hf := zif_f c9 hf
      refine zr_aload (x := o6) hx hb dX1_linkAt_48 (lv_at hl 3 rfl) ?_
      refine zr_ifnull (tgt := 70) hx hb hf dX1_linkAt_50 (by decide) (fun e9 hf9 => ?_) (fun a106 e9 hf9 => ?_)
      · subst e9
        have hf := hf9
        clear hf9
        refine lv_aloadN hx hb dX1_linkAt_70 (lv_at hl 3 rfl) ?_
        refine lv_ifnullN (tgt := 79) hx hb dX1_linkAt_72 (by decide) ?_
        refine lv_iconst (v := (0 : Int32)) hx hb dX1_linkAt_79 (by decide) ?_
        refine zx_SU (As := [.int (0 : Int32)]) (rest := []) hc hn hq (fun x hx => (ht x hx).elim) hd_X1_checkIndex (lw_S q395 q396 q84 q397) (Nat.le_of_ble_eq_true rfl) (Nat.le_of_ble_eq_true rfl) (fun _ _ _ _ q => m_X1_checkIndex l hl0 D dA b0 gs h (0 : Int32) q) hf dX1_linkAt_80 hl.1 rfl rfl (zroom (Nat.le_of_ble_eq_true rfl)) (fun x107 h108 H locs cells slots C9 S9 hf hq hn => ?_)
        refine lv_aloadN hx hb dX1_linkAt_83 (lv_at hl 3 rfl) ?_
        obtain ⟨rfl, rfl, rfl, rfl⟩ := zretx_i hf
        exact zx_ret (zr_aret (x := (none : Option Nat)) hc hn hr (Or.inl ⟨_, rfl⟩) hq (fun _ _ _ _ q => ⟨_, rfl, q⟩) dX1_linkAt_85)
      · subst e9
        have hf := hf9
        clear hf9
        refine lv_aload (x := a106) hx hb dX1_linkAt_53 (lv_at hl 3 rfl) ?_
        refine lv_iload_n hx hb dX1_linkAt_55 rfl (lv_at hl 0 rfl) ?_
        refine lv_iload hx hb dX1_linkAt_56 (lv_at hl 2 rfl) ?_
        refine lv_iadd hx hb dX1_linkAt_58 ?_
        refine zr_nmI hf (fun x109 hf => ?_)
        refine zr_cVP (As := [.int x109]) (rest := []) hc hn hq (ci := 7) rfl ⟨rfl, hd_X8_next⟩ (lw_V q1312 q905 q906 q116 q907) (Nat.le_of_ble_eq_true rfl) (Nat.le_of_ble_eq_true rfl) (fun _ _ _ _ q => m_X8_next l D dA b0 gs h a106 x109 q) hf dX1_linkAt_59 hl.1 rfl rfl (zroom (Nat.le_of_ble_eq_true rfl)) (fun x110 h111 H locs cells slots C9 S9 hf hq hn => ?_)
        refine zr_astore (x := x110) (lv' := [(6, va_rf x110), (2, .int v2), (3, .int v3), (4, .int v4), (7, .int v7)]) hx hb dX1_linkAt_62 hl (by decide) rfl (fun ls hl => ?_)
        obtain ⟨x112, ex112, hf⟩ := znm_i hf
        refine lv_iinc (v := x112) (lv' := [(7, .int x112), (6, va_rf x110), (2, .int v2), (3, .int v3), (4, .int v4)]) hx hb dX1_linkAt_64 hl (k := 4) rfl (by rw [ex112]; rfl) (by decide) (by simp [zcat_rf, zcat_i, zcat_l, zcat_d, zcat_r, zcat_n] <;> rfl) (fun ls hl => ?_)
        refine lv_goto (tgt := 42) hx hb dX1_linkAt_67 (by decide) ?_
        exact ih h111 v2 v3 v4 x110 x112 _ _ _ _ _ _ hf hq hn _ (lv_sub hl [2, 3, 4, 1, 0] rfl)
set_option maxHeartbeats 4000000 in
set_option maxRecDepth 100000 in
theorem m_X1_linkAt_b29 {p : Program} {l : Launch} {e : Env} {s : State} {m : MethodId} {args : Array Value} {below : List Frame} {meth : Method} {c : Code} {D : va_G} {dA : Nat → ClassId} {b0 : Nat} {gs : Nat → Option Nat} (hc : zC D dA b0 gs yX1_linkAt.cls cX1_linkAt 8 p c s m args meth) (hr : meth.sig.returnType = (some (.object "CountedSkipLists$Node"))) (hin : meth.name = yX1_linkAt.name) {r : (ZX (Option Nat))} {hh : PH} {mc ms : Nat} (hl0 : l.stackTraces = false) (ht : ∀ x ∈ c.exceptionTable.toList, False) : ∀ (h : PH) (v2 : Int32) (v3 : Int32) (v4 : Int32) (a5 : Nat) (s0 : Int32) (C9 S9 : Nat) (H : Heap) (locs : List Loc) (cells slots : Nat), f_X1_linkAt_b29 h v2 v3 v4 a5 s0 = some (r, hh, C9, S9) → cells + C9 = mc ∧ slots + S9 = ms → zM D dA b0 gs s h H locs → ∀ ls : Array Slot, lv_has ls 8 [(2, .int v2), (3, .int v3), (4, .int v4), (5, .ref a5)] → W p l e ({ frames := 8, cells := mc, slots := ms, locals := 161 } : Room) s m args below meth c H locs cells slots (vx_MQ below (zQX D dA b0 gs evP r hh) (zXC D dA b0 gs r hh) args s mc ms (zA b0)) (F0 m 29 ls [.int s0]) := by
  have hx := hc.x
  have hb := hc.b
  intro h v2 v3 v4 a5 s0 C9 S9 H locs cells slots hf hq hn ls hl
  unfold f_X1_linkAt_b29 at hf
  refine zx_SU (As := [.int s0]) (rest := []) hc hn hq (fun x hx => (ht x hx).elim) hd_X1_checkIndex (lw_S q395 q396 q84 q397) (Nat.le_of_ble_eq_true rfl) (Nat.le_of_ble_eq_true rfl) (fun _ _ _ _ q => m_X1_checkIndex l hl0 D dA b0 gs h s0 q) hf dX1_linkAt_29 hl.1 rfl rfl (zroom (Nat.le_of_ble_eq_true rfl)) (fun x101 h102 H locs cells slots C9 S9 hf hq hn => ?_)
  refine lv_aload (x := a5) hx hb dX1_linkAt_32 (lv_at hl 3 rfl) ?_
  refine zr_gPN hc hn (ci := 6) rfl rfl in_X7 1 (by decide) q873 (fun _ h => h) (fun _ _ _ => rfl) hf dX1_linkAt_34 (fun x103 hf => ?_)
  refine zr_astore (x := x103) (lv' := [(6, va_rf x103), (2, .int v2), (3, .int v3), (4, .int v4), (5, .ref a5)]) hx hb dX1_linkAt_37 hl (by decide) rfl (fun ls hl => ?_)
  refine lv_iconst (v := (0 : Int32)) hx hb dX1_linkAt_39 (by decide) ?_
  refine lv_istore (lv' := [(7, .int (0 : Int32)), (6, va_rf x103), (2, .int v2), (3, .int v3), (4, .int v4), (5, .ref a5)]) hx hb dX1_linkAt_40 hl (by decide) (by simp [zcat_rf, zcat_i, zcat_l, zcat_d, zcat_r, zcat_n] <;> rfl) (fun ls hl => ?_)
  exact m_X1_linkAt_b42 hc hr hin hl0 ht zFU h102 v2 v3 v4 x103 (0 : Int32) _ _ _ _ _ _ hf hq hn _ (lv_sub hl [2, 3, 4, 1, 0] rfl)
set_option maxHeartbeats 4000000 in
set_option maxRecDepth 100000 in
theorem m_X1_linkAt_b28 {p : Program} {l : Launch} {e : Env} {s : State} {m : MethodId} {args : Array Value} {below : List Frame} {meth : Method} {c : Code} {D : va_G} {dA : Nat → ClassId} {b0 : Nat} {gs : Nat → Option Nat} (hc : zC D dA b0 gs yX1_linkAt.cls cX1_linkAt 8 p c s m args meth) (hr : meth.sig.returnType = (some (.object "CountedSkipLists$Node"))) (hin : meth.name = yX1_linkAt.name) {r : (ZX (Option Nat))} {hh : PH} {mc ms : Nat} (hl0 : l.stackTraces = false) (ht : ∀ x ∈ c.exceptionTable.toList, False) : ∀ (h : PH) (v2 : Int32) (v3 : Int32) (v4 : Int32) (a5 : Nat) (C9 S9 : Nat) (H : Heap) (locs : List Loc) (cells slots : Nat), f_X1_linkAt_b28 h v2 v3 v4 a5 = some (r, hh, C9, S9) → cells + C9 = mc ∧ slots + S9 = ms → zM D dA b0 gs s h H locs → ∀ ls : Array Slot, lv_has ls 8 [(2, .int v2), (3, .int v3), (4, .int v4), (5, .ref a5)] → W p l e ({ frames := 8, cells := mc, slots := ms, locals := 161 } : Room) s m args below meth c H locs cells slots (vx_MQ below (zQX D dA b0 gs evP r hh) (zXC D dA b0 gs r hh) args s mc ms (zA b0)) (F0 m 28 ls []) := by
  have hx := hc.x
  have hb := hc.b
  intro h v2 v3 v4 a5 C9 S9 H locs cells slots hf hq hn ls hl
  unfold f_X1_linkAt_b28 at hf
  refine lv_iconst (v := (0 : Int32)) hx hb dX1_linkAt_28 (by decide) ?_
  exact m_X1_linkAt_b29 hc hr hin hl0 ht h v2 v3 v4 a5 (0 : Int32) _ _ _ _ _ _ hf hq hn _ (lv_sub hl [0, 1, 2, 3] rfl)
set_option maxHeartbeats 4000000 in
set_option maxRecDepth 100000 in
theorem m_X1_linkAt (l : Launch) (hl0 : l.stackTraces = false) (D : va_G) (dA : Nat → ClassId) (b0 : Nat) (gs : Nat → Option Nat) (h : PH) (a0 : Nat) (v1 : Int32) (v2 : Int32) (v3 : Int32) (v4 : Int32) {r : (ZX (Option Nat))} {hh : PH} {mc ms : Nat} (hf : f_X1_linkAt h a0 v1 v2 v3 v4 = some (r, hh, mc, ms)) : zMx l D dA b0 gs yX1_linkAt (ws_ yX1_linkAt cX1_linkAt 8 (some (.object "CountedSkipLists$Node"))) 8 161 [.ref a0, .int v1, .int v2, .int v3, .int v4] h evP r hh mc ms := by
  unfold f_X1_linkAt at hf
  refine zMx.of (by decide) (Nat.le_of_ble_eq_true rfl) ?_
  intro p e s m args below meth c hc hr hin ht hn ls hl
  have hl : lv_has ls 8 [(0, .ref a0), (1, .int v1), (2, .int v2), (3, .int v3), (4, .int v4)] := hl
  have hq : 0 + mc = mc ∧ 0 + ms = ms := ⟨Nat.zero_add _, Nat.zero_add _⟩
  have hx := hc.x
  have hb := hc.b
  refine lv_aload_n (x := a0) hx hb dX1_linkAt_0 rfl (lv_at hl 0 rfl) ?_
  refine lv_iload_n hx hb dX1_linkAt_1 rfl (lv_at hl 1 rfl) ?_
  refine zx_VP (As := [.int v1]) (rest := []) hc hn hq (fun x hx => (ht x hx).elim) (ci := 0) rfl ⟨rfl, hd_X1_at⟩ (lw_V q1170 q1172 qs15 q84 q1173) (Nat.le_of_ble_eq_true rfl) (Nat.le_of_ble_eq_true rfl) (fun _ _ _ _ q => m_X1_at l hl0 D dA b0 gs h a0 v1 q) hf dX1_linkAt_2 hl.1 rfl rfl (zroom (Nat.le_of_ble_eq_true rfl)) (fun x101 h102 H locs cells slots C9 S9 hf hq hn => ?_)
  refine zr_astore (x := x101) (lv' := [(5, va_rf x101), (0, .ref a0), (1, .int v1), (2, .int v2), (3, .int v3), (4, .int v4)]) hx hb dX1_linkAt_5 hl (by decide) rfl (fun ls hl => ?_)
  refine lv_iload_n hx hb dX1_linkAt_7 rfl (lv_at hl 3 rfl) ?_
  refine lv_iconst (v := (1 : Int32)) hx hb dX1_linkAt_8 (by decide) ?_
  refine zr_aload (x := x101) hx hb dX1_linkAt_9 (lv_at hl 0 rfl) ?_
  obtain ⟨a103, e9, hf9⟩ := znn_i hf
  subst e9
  have hf := hf9
  clear hf9
  refine zr_cVI (As := []) (rest := [.int (1 : Int32), .int v2]) hc hn hq (ci := 6) rfl ⟨rfl, hd_X7_height⟩ (lw_V q1182 q929 q930 q115 q931) (Nat.le_of_ble_eq_true rfl) (Nat.le_of_ble_eq_true rfl) (fun _ _ _ _ q => m_X7_height l D dA b0 gs h102 a103 q) hf dX1_linkAt_11 hl.1 rfl rfl (zroom (Nat.le_of_ble_eq_true rfl)) (fun x104 h105 H locs cells slots C9 S9 hf hq hn => ?_)
  refine zr_cSI (As := [.int v2, .int (1 : Int32), .int x104]) (rest := []) hc hn hq hd_X1_isIn (lw_S q259 q260 q84 q261) (Nat.le_of_ble_eq_true rfl) (Nat.le_of_ble_eq_true rfl) (fun _ _ _ _ q => m_X1_isIn l D dA b0 gs h105 v2 (1 : Int32) x104 q) hf dX1_linkAt_14 hl.1 rfl rfl (zroom (Nat.le_of_ble_eq_true rfl)) (fun x106 h107 H locs cells slots C9 S9 hf hq hn => ?_)
  refine lv_if_eq (tgt := 28) hx hb dX1_linkAt_17 (by decide) (fun c9 => ?_) (fun c9 => ?_)
  · have hf := zif_t c9 hf
    exact m_X1_linkAt_b28 hc hr hin hl0 ht h107 v2 v3 v4 a103 _ _ _ _ _ _ hf hq hn _ (lv_sub hl [3, 4, 5, 0] rfl)
  · have hf := zif_f c9 hf
    refine lv_iload_n hx hb dX1_linkAt_20 rfl (lv_at hl 4 rfl) ?_
    refine lv_if_lt (tgt := 28) hx hb dX1_linkAt_21 (by decide) (fun c9 => ?_) (fun c9 => ?_)
    · have hf := zif_t c9 hf
      exact m_X1_linkAt_b28 hc hr hin hl0 ht h107 v2 v3 v4 a103 _ _ _ _ _ _ hf hq hn _ (lv_sub hl [3, 4, 5, 0] rfl)
    · have hf := zif_f c9 hf
      refine lv_iconst (v := (1 : Int32)) hx hb dX1_linkAt_24 (by decide) ?_
      refine lv_goto (tgt := 29) hx hb dX1_linkAt_25 (by decide) ?_
      exact m_X1_linkAt_b29 hc hr hin hl0 ht h107 v2 v3 v4 a103 (1 : Int32) _ _ _ _ _ _ hf hq hn _ (lv_sub hl [3, 4, 5, 0] rfl)
theorem hd_X1_linkWidth : yX1_linkWidth.cls ≠ "java/lang/invoke/MethodHandle" ∧ yX1_linkWidth.cls ≠ "java/lang/invoke/VarHandle" ∧ (parseMethodDescriptor yX1_linkWidth.desc).map (fun d => d.parameters.length) = some 3 := by decide +kernel
def f_X1_linkWidth (h : PH) (a0 : Nat) (v1 : Int32) (v2 : Int32) (v3 : Int32) : ZR (ZX Int32) :=
  zrc h a0 0 <| zcx (f_X1_linkAt h a0 v1 v2 v3 (0 : Int32)) fun x101 h102 =>
  znn x101 fun a103 =>
  zgP h102 a103 7 2 fun x104 =>
  znn x104 fun a105 =>
  zaI h102 a105 0 v2 fun x106 =>
  zret (.inl x106) h102
set_option maxHeartbeats 4000000 in
set_option maxRecDepth 100000 in
theorem m_X1_linkWidth (l : Launch) (hl0 : l.stackTraces = false) (D : va_G) (dA : Nat → ClassId) (b0 : Nat) (gs : Nat → Option Nat) (h : PH) (a0 : Nat) (v1 : Int32) (v2 : Int32) (v3 : Int32) {r : (ZX Int32)} {hh : PH} {mc ms : Nat} (hf : f_X1_linkWidth h a0 v1 v2 v3 = some (r, hh, mc, ms)) : zMx l D dA b0 gs yX1_linkWidth (ws_ yX1_linkWidth cX1_linkWidth 4 (some .int)) 9 188 [.ref a0, .int v1, .int v2, .int v3] h evI r hh mc ms := by
  unfold f_X1_linkWidth at hf
  refine zMx.of (by decide) (Nat.le_of_ble_eq_true rfl) ?_
  intro p e s m args below meth c hc hr hin ht hn ls hl
  have hl : lv_has ls 4 [(0, .ref a0), (1, .int v1), (2, .int v2), (3, .int v3)] := hl
  have hq : 0 + mc = mc ∧ 0 + ms = ms := ⟨Nat.zero_add _, Nat.zero_add _⟩
  have hx := hc.x
  have hb := hc.b
  refine lv_aload_n (x := a0) hx hb dX1_linkWidth_0 rfl (lv_at hl 0 rfl) ?_
  refine lv_iload_n hx hb dX1_linkWidth_1 rfl (lv_at hl 1 rfl) ?_
  refine lv_iload_n hx hb dX1_linkWidth_2 rfl (lv_at hl 2 rfl) ?_
  refine lv_iload_n hx hb dX1_linkWidth_3 rfl (lv_at hl 3 rfl) ?_
  refine lv_iconst (v := (0 : Int32)) hx hb dX1_linkWidth_4 (by decide) ?_
  refine zx_VP (As := [.int v1, .int v2, .int v3, .int (0 : Int32)]) (rest := []) hc hn hq (fun x hx => (ht x hx).elim) (ci := 0) rfl ⟨rfl, hd_X1_linkAt⟩ (lw_V q1320 q1322 qs18 q84 q1323) (Nat.le_of_ble_eq_true rfl) (Nat.le_of_ble_eq_true rfl) (fun _ _ _ _ q => m_X1_linkAt l hl0 D dA b0 gs h a0 v1 v2 v3 (0 : Int32) q) hf dX1_linkWidth_5 hl.1 rfl rfl (zroom (Nat.le_of_ble_eq_true rfl)) (fun x101 h102 H locs cells slots C9 S9 hf hq hn => ?_)
  obtain ⟨a103, e9, hf9⟩ := znn_i hf
  subst e9
  have hf := hf9
  clear hf9
  refine zr_gPN hc hn (ci := 7) rfl rfl in_X8 2 (by decide) q840 (fun _ h => h) (fun _ _ _ => rfl) hf dX1_linkWidth_8 (fun x104 hf => ?_)
  refine lv_iload_n hx hb dX1_linkWidth_11 rfl (lv_at hl 2 rfl) ?_
  obtain ⟨a105, e9, hf9⟩ := znn_i hf
  subst e9
  have hf := hf9
  clear hf9
  refine zr_aI0 hc hn hf dX1_linkWidth_12 (fun x106 hf => ?_)
  obtain ⟨rfl, rfl, rfl, rfl⟩ := zretx_i hf
  exact zx_ret (zr_iret hc hn hr hq (fun _ _ _ _ q => ⟨_, rfl, q⟩) dX1_linkWidth_13)
theorem hd_X1_linkSum : yX1_linkSum.cls ≠ "java/lang/invoke/MethodHandle" ∧ yX1_linkSum.cls ≠ "java/lang/invoke/VarHandle" ∧ (parseMethodDescriptor yX1_linkSum.desc).map (fun d => d.parameters.length) = some 3 := by decide +kernel
def f_X1_linkSum (h : PH) (a0 : Nat) (v1 : Int32) (v2 : Int32) (v3 : Int32) : ZR (ZX Int32) :=
  zrc h a0 0 <| zcx (f_X1_linkAt h a0 v1 v2 v3 (0 : Int32)) fun x101 h102 =>
  znn x101 fun a103 =>
  zgP h102 a103 7 3 fun x104 =>
  znn x104 fun a105 =>
  zaI h102 a105 0 v2 fun x106 =>
  zret (.inl x106) h102
set_option maxHeartbeats 4000000 in
set_option maxRecDepth 100000 in
theorem m_X1_linkSum (l : Launch) (hl0 : l.stackTraces = false) (D : va_G) (dA : Nat → ClassId) (b0 : Nat) (gs : Nat → Option Nat) (h : PH) (a0 : Nat) (v1 : Int32) (v2 : Int32) (v3 : Int32) {r : (ZX Int32)} {hh : PH} {mc ms : Nat} (hf : f_X1_linkSum h a0 v1 v2 v3 = some (r, hh, mc, ms)) : zMx l D dA b0 gs yX1_linkSum (ws_ yX1_linkSum cX1_linkSum 5 (some .int)) 9 188 [.ref a0, .int v1, .int v2, .int v3] h evI r hh mc ms := by
  unfold f_X1_linkSum at hf
  refine zMx.of (by decide) (Nat.le_of_ble_eq_true rfl) ?_
  intro p e s m args below meth c hc hr hin ht hn ls hl
  have hl : lv_has ls 5 [(0, .ref a0), (1, .int v1), (2, .int v2), (3, .int v3)] := hl
  have hq : 0 + mc = mc ∧ 0 + ms = ms := ⟨Nat.zero_add _, Nat.zero_add _⟩
  have hx := hc.x
  have hb := hc.b
  refine lv_aload_n (x := a0) hx hb dX1_linkSum_0 rfl (lv_at hl 0 rfl) ?_
  refine lv_iload_n hx hb dX1_linkSum_1 rfl (lv_at hl 1 rfl) ?_
  refine lv_iload_n hx hb dX1_linkSum_2 rfl (lv_at hl 2 rfl) ?_
  refine lv_iload_n hx hb dX1_linkSum_3 rfl (lv_at hl 3 rfl) ?_
  refine lv_iconst (v := (0 : Int32)) hx hb dX1_linkSum_4 (by decide) ?_
  refine zx_VP (As := [.int v1, .int v2, .int v3, .int (0 : Int32)]) (rest := []) hc hn hq (fun x hx => (ht x hx).elim) (ci := 0) rfl ⟨rfl, hd_X1_linkAt⟩ (lw_V q1320 q1322 qs18 q84 q1323) (Nat.le_of_ble_eq_true rfl) (Nat.le_of_ble_eq_true rfl) (fun _ _ _ _ q => m_X1_linkAt l hl0 D dA b0 gs h a0 v1 v2 v3 (0 : Int32) q) hf dX1_linkSum_5 hl.1 rfl rfl (zroom (Nat.le_of_ble_eq_true rfl)) (fun x101 h102 H locs cells slots C9 S9 hf hq hn => ?_)
  refine zr_astore (x := x101) (lv' := [(4, va_rf x101), (0, .ref a0), (1, .int v1), (2, .int v2), (3, .int v3)]) hx hb dX1_linkSum_8 hl (by decide) rfl (fun ls hl => ?_)
  refine zr_aload (x := x101) hx hb dX1_linkSum_10 (lv_at hl 0 rfl) ?_
  obtain ⟨a103, e9, hf9⟩ := znn_i hf
  subst e9
  have hf := hf9
  clear hf9
  refine zr_gPN hc hn (ci := 7) rfl rfl in_X8 3 (by decide) q843 (fun _ h => h) (fun _ _ _ => rfl) hf dX1_linkSum_12 (fun x104 hf => ?_)
  refine lv_iload_n hx hb dX1_linkSum_15 rfl (lv_at hl 3 rfl) ?_
  obtain ⟨a105, e9, hf9⟩ := znn_i hf
  subst e9
  have hf := hf9
  clear hf9
  refine zr_aI0 hc hn hf dX1_linkSum_16 (fun x106 hf => ?_)
  obtain ⟨rfl, rfl, rfl, rfl⟩ := zretx_i hf
  exact zx_ret (zr_iret hc hn hr hq (fun _ _ _ _ q => ⟨_, rfl, q⟩) dX1_linkSum_17)
theorem hd_X1_gapSize : yX1_gapSize.cls ≠ "java/lang/invoke/MethodHandle" ∧ yX1_gapSize.cls ≠ "java/lang/invoke/VarHandle" ∧ (parseMethodDescriptor yX1_gapSize.desc).map (fun d => d.parameters.length) = some 3 := by decide +kernel
def f_X1_gapSize (h : PH) (a0 : Nat) (v1 : Int32) (v2 : Int32) (v3 : Int32) : ZR (ZX Int32) :=
  zrc h a0 0 <| zcx (f_X1_linkAt h a0 v1 v2 v3 (1 : Int32)) fun x101 h102 =>
  zgP h102 a0 0 4 fun x103 =>
  znn x103 fun a104 =>
  zgP h102 a104 1 0 fun x105 =>
  znn x105 fun a106 =>
  zaP h102 a106 6 v1 fun x107 =>
  znn x107 fun a108 =>
  znn x101 fun a109 =>
  zrc h102 a108 6 <| zcl (f_X7_inGap h102 a108 v2 a109) fun x110 h111 =>
  zret (.inl x110) h111
set_option maxHeartbeats 4000000 in
set_option maxRecDepth 100000 in
theorem m_X1_gapSize (l : Launch) (hl0 : l.stackTraces = false) (D : va_G) (dA : Nat → ClassId) (b0 : Nat) (gs : Nat → Option Nat) (h : PH) (a0 : Nat) (v1 : Int32) (v2 : Int32) (v3 : Int32) {r : (ZX Int32)} {hh : PH} {mc ms : Nat} (hf : f_X1_gapSize h a0 v1 v2 v3 = some (r, hh, mc, ms)) : zMx l D dA b0 gs yX1_gapSize (ws_ yX1_gapSize cX1_gapSize 5 (some .int)) 9 188 [.ref a0, .int v1, .int v2, .int v3] h evI r hh mc ms := by
  unfold f_X1_gapSize at hf
  refine zMx.of (by decide) (Nat.le_of_ble_eq_true rfl) ?_
  intro p e s m args below meth c hc hr hin ht hn ls hl
  have hl : lv_has ls 5 [(0, .ref a0), (1, .int v1), (2, .int v2), (3, .int v3)] := hl
  have hq : 0 + mc = mc ∧ 0 + ms = ms := ⟨Nat.zero_add _, Nat.zero_add _⟩
  have hx := hc.x
  have hb := hc.b
  refine lv_aload_n (x := a0) hx hb dX1_gapSize_0 rfl (lv_at hl 0 rfl) ?_
  refine lv_iload_n hx hb dX1_gapSize_1 rfl (lv_at hl 1 rfl) ?_
  refine lv_iload_n hx hb dX1_gapSize_2 rfl (lv_at hl 2 rfl) ?_
  refine lv_iload_n hx hb dX1_gapSize_3 rfl (lv_at hl 3 rfl) ?_
  refine lv_iconst (v := (1 : Int32)) hx hb dX1_gapSize_4 (by decide) ?_
  refine zx_VP (As := [.int v1, .int v2, .int v3, .int (1 : Int32)]) (rest := []) hc hn hq (fun x hx => (ht x hx).elim) (ci := 0) rfl ⟨rfl, hd_X1_linkAt⟩ (lw_V q1320 q1322 qs18 q84 q1323) (Nat.le_of_ble_eq_true rfl) (Nat.le_of_ble_eq_true rfl) (fun _ _ _ _ q => m_X1_linkAt l hl0 D dA b0 gs h a0 v1 v2 v3 (1 : Int32) q) hf dX1_gapSize_5 hl.1 rfl rfl (zroom (Nat.le_of_ble_eq_true rfl)) (fun x101 h102 H locs cells slots C9 S9 hf hq hn => ?_)
  refine zr_astore (x := x101) (lv' := [(4, va_rf x101), (0, .ref a0), (1, .int v1), (2, .int v2), (3, .int v3)]) hx hb dX1_gapSize_8 hl (by decide) rfl (fun ls hl => ?_)
  refine lv_aload_n (x := a0) hx hb dX1_gapSize_10 rfl (lv_at hl 1 rfl) ?_
  refine zr_gP hc hn (ci := 0) rfl rfl in_X1 4 (by decide) q229 (fun _ h => h) (fun _ _ _ => rfl) hf dX1_gapSize_11 (fun x103 hf => ?_)
  obtain ⟨a104, e9, hf9⟩ := znn_i hf
  subst e9
  have hf := hf9
  clear hf9
  refine zr_gPN hc hn (ci := 1) rfl rfl in_X2 0 (by decide) q187 (fun _ h => h) (fun _ _ _ => rfl) hf dX1_gapSize_14 (fun x105 hf => ?_)
  refine lv_iload_n hx hb dX1_gapSize_17 rfl (lv_at hl 2 rfl) ?_
  obtain ⟨a106, e9, hf9⟩ := znn_i hf
  subst e9
  have hf := hf9
  clear hf9
  refine zr_aP (ai := 6) (by decide) hc hn hf dX1_gapSize_18 (fun x107 hf => ?_)
  refine lv_iload_n hx hb dX1_gapSize_19 rfl (lv_at hl 3 rfl) ?_
  refine zr_aload (x := x101) hx hb dX1_gapSize_20 (lv_at hl 0 rfl) ?_
  obtain ⟨a108, e9, hf9⟩ := znn_i hf
  subst e9
  have hf := hf9
  clear hf9
  obtain ⟨a109, e9, hf9⟩ := znn_i hf
  subst e9
  have hf := hf9
  clear hf9
  refine zr_cVI (As := [.int v2, .ref a109]) (rest := []) hc hn hq (ci := 6) rfl ⟨rfl, hd_X7_inGap⟩ (lw_V q1338 q933 q934 q115 q935) (Nat.le_of_ble_eq_true rfl) (Nat.le_of_ble_eq_true rfl) (fun _ _ _ _ q => m_X7_inGap l D dA b0 gs h102 a108 v2 a109 q) hf dX1_gapSize_22 hl.1 rfl rfl (zroom (Nat.le_of_ble_eq_true rfl)) (fun x110 h111 H locs cells slots C9 S9 hf hq hn => ?_)
  obtain ⟨rfl, rfl, rfl, rfl⟩ := zretx_i hf
  exact zx_ret (zr_iret hc hn hr hq (fun _ _ _ _ q => ⟨_, rfl, q⟩) dX1_gapSize_25)
theorem hd_X1_links : yX1_links.cls ≠ "java/lang/invoke/MethodHandle" ∧ yX1_links.cls ≠ "java/lang/invoke/VarHandle" ∧ (parseMethodDescriptor yX1_links.desc).map (fun d => d.parameters.length) = some 1 := by decide +kernel
def f_X1_links_b11 : Nat → PH → Nat → Int32 → Int32 → Int32 → ZR (ZX Int32)
  | 0 => fun _ _ _ _ _ => none
  | n + 1 => fun h a0 v1 v2 v3 =>
    if v3 ≤ 0 then
      (zret (.inl v2) h)
    else
      (zrc h a0 0 <| zcx (f_X1_rowSize h a0 v1 v3) fun x101 h102 =>
      znm (x101 + (1 : Int32)) fun x103 =>
      znm (v2 + x103) fun x104 =>
      znm (v3 + (-1 : Int32)) fun x105 =>
      f_X1_links_b11 n h102 a0 v1 x104 x105)
def f_X1_links (h : PH) (a0 : Nat) (v1 : Int32) : ZR (ZX Int32) :=
  zrc h a0 0 <| zcx (f_X1_at h a0 v1) fun x101 h102 =>
  znn x101 fun a103 =>
  zrc h102 a103 6 <| zcl (f_X7_height h102 a103) fun x104 h105 =>
  f_X1_links_b11 zFU h105 a0 v1 (0 : Int32) x104
set_option maxHeartbeats 4000000 in
set_option maxRecDepth 100000 in
theorem m_X1_links_b11 {p : Program} {l : Launch} {e : Env} {s : State} {m : MethodId} {args : Array Value} {below : List Frame} {meth : Method} {c : Code} {D : va_G} {dA : Nat → ClassId} {b0 : Nat} {gs : Nat → Option Nat} (hc : zC D dA b0 gs yX1_links.cls cX1_links 4 p c s m args meth) (hr : meth.sig.returnType = (some .int)) (hin : meth.name = yX1_links.name) {r : (ZX Int32)} {hh : PH} {mc ms : Nat} (hl0 : l.stackTraces = false) (ht : ∀ x ∈ c.exceptionTable.toList, False) : ∀ (n : Nat) (h : PH) (a0 : Nat) (v1 : Int32) (v2 : Int32) (v3 : Int32) (C9 S9 : Nat) (H : Heap) (locs : List Loc) (cells slots : Nat), f_X1_links_b11 n h a0 v1 v2 v3 = some (r, hh, C9, S9) → cells + C9 = mc ∧ slots + S9 = ms → zM D dA b0 gs s h H locs → ∀ ls : Array Slot, lv_has ls 4 [(0, .ref a0), (1, .int v1), (2, .int v2), (3, .int v3)] → W p l e ({ frames := 9, cells := mc, slots := ms, locals := 186 } : Room) s m args below meth c H locs cells slots (vx_MQ below (zQX D dA b0 gs evI r hh) (zXC D dA b0 gs r hh) args s mc ms (zA b0)) (F0 m 11 ls []) := by
  have hx := hc.x
  have hb := hc.b
  intro n
  induction n with
  | zero =>
    intro h a0 v1 v2 v3 C9 S9 H locs cells slots hf hq hn ls hl
    cases hf
  | succ n ih =>
    intro h a0 v1 v2 v3 C9 S9 H locs cells slots hf hq hn ls hl
    unfold f_X1_links_b11 at hf
    refine lv_iload_n hx hb dX1_links_11 rfl (lv_at hl 3 rfl) ?_
    refine lv_if_le (tgt := 32) hx hb dX1_links_12 (by decide) (fun c9 => ?_) (fun c9 => ?_)
    · have hf := zif_t c9 hf
      refine lv_iload_n hx hb dX1_links_32 rfl (lv_at hl 2 rfl) ?_
      obtain ⟨rfl, rfl, rfl, rfl⟩ := zretx_i hf
      exact zx_ret (zr_iret hc hn hr hq (fun _ _ _ _ q => ⟨_, rfl, q⟩) dX1_links_33)
    · have hf := zif_f c9 hf
      refine lv_iload_n hx hb dX1_links_15 rfl (lv_at hl 2 rfl) ?_
      refine lv_aload_n (x := a0) hx hb dX1_links_16 rfl (lv_at hl 0 rfl) ?_
      refine lv_iload_n hx hb dX1_links_17 rfl (lv_at hl 1 rfl) ?_
      refine lv_iload_n hx hb dX1_links_18 rfl (lv_at hl 3 rfl) ?_
      refine zx_VI (As := [.int v1, .int v3]) (rest := [.int v2]) hc hn hq (fun x hx => (ht x hx).elim) (ci := 0) rfl ⟨rfl, hd_X1_rowSize⟩ (lw_V q1346 q1309 q1310 q84 q1311) (Nat.le_of_ble_eq_true rfl) (Nat.le_of_ble_eq_true rfl) (fun _ _ _ _ q => m_X1_rowSize l hl0 D dA b0 gs h a0 v1 v3 q) hf dX1_links_19 hl.1 rfl rfl (zroom (Nat.le_of_ble_eq_true rfl)) (fun x101 h102 H locs cells slots C9 S9 hf hq hn => ?_)
      refine lv_iconst (v := (1 : Int32)) hx hb dX1_links_22 (by decide) ?_
      refine lv_iadd hx hb dX1_links_23 ?_
      refine zr_nmI hf (fun x103 hf => ?_)
      refine lv_iadd hx hb dX1_links_24 ?_
      refine zr_nmI hf (fun x104 hf => ?_)
      refine lv_istore_n (i := 2) (lv' := [(2, .int x104), (0, .ref a0), (1, .int v1), (3, .int v3)]) hx hb dX1_links_25 rfl hl (by decide) rfl (fun ls hl => ?_)
      obtain ⟨x105, ex105, hf⟩ := znm_i hf
      refine lv_iinc (v := x105) (lv' := [(3, .int x105), (2, .int x104), (0, .ref a0), (1, .int v1)]) hx hb dX1_links_26 hl (k := 3) rfl (by rw [ex105]; rfl) (by decide) rfl (fun ls hl => ?_)
      refine lv_goto (tgt := 11) hx hb dX1_links_29 (by decide) ?_
      exact ih h102 a0 v1 x104 x105 _ _ _ _ _ _ hf hq hn _ (lv_sub hl [2, 3, 1, 0] rfl)
set_option maxHeartbeats 4000000 in
set_option maxRecDepth 100000 in
theorem m_X1_links (l : Launch) (hl0 : l.stackTraces = false) (D : va_G) (dA : Nat → ClassId) (b0 : Nat) (gs : Nat → Option Nat) (h : PH) (a0 : Nat) (v1 : Int32) {r : (ZX Int32)} {hh : PH} {mc ms : Nat} (hf : f_X1_links h a0 v1 = some (r, hh, mc, ms)) : zMx l D dA b0 gs yX1_links (ws_ yX1_links cX1_links 4 (some .int)) 9 186 [.ref a0, .int v1] h evI r hh mc ms := by
  unfold f_X1_links at hf
  refine zMx.of (by decide) (Nat.le_of_ble_eq_true rfl) ?_
  intro p e s m args below meth c hc hr hin ht hn ls hl
  have hl : lv_has ls 4 [(0, .ref a0), (1, .int v1)] := hl
  have hq : 0 + mc = mc ∧ 0 + ms = ms := ⟨Nat.zero_add _, Nat.zero_add _⟩
  have hx := hc.x
  have hb := hc.b
  refine lv_iconst (v := (0 : Int32)) hx hb dX1_links_0 (by decide) ?_
  refine lv_istore_n (i := 2) (lv' := [(2, .int (0 : Int32)), (0, .ref a0), (1, .int v1)]) hx hb dX1_links_1 rfl hl (by decide) rfl (fun ls hl => ?_)
  refine lv_aload_n (x := a0) hx hb dX1_links_2 rfl (lv_at hl 1 rfl) ?_
  refine lv_iload_n hx hb dX1_links_3 rfl (lv_at hl 2 rfl) ?_
  refine zx_VP (As := [.int v1]) (rest := []) hc hn hq (fun x hx => (ht x hx).elim) (ci := 0) rfl ⟨rfl, hd_X1_at⟩ (lw_V q1170 q1172 qs15 q84 q1173) (Nat.le_of_ble_eq_true rfl) (Nat.le_of_ble_eq_true rfl) (fun _ _ _ _ q => m_X1_at l hl0 D dA b0 gs h a0 v1 q) hf dX1_links_4 hl.1 rfl rfl (zroom (Nat.le_of_ble_eq_true rfl)) (fun x101 h102 H locs cells slots C9 S9 hf hq hn => ?_)
  obtain ⟨a103, e9, hf9⟩ := znn_i hf
  subst e9
  have hf := hf9
  clear hf9
  refine zr_cVI (As := []) (rest := []) hc hn hq (ci := 6) rfl ⟨rfl, hd_X7_height⟩ (lw_V q1182 q929 q930 q115 q931) (Nat.le_of_ble_eq_true rfl) (Nat.le_of_ble_eq_true rfl) (fun _ _ _ _ q => m_X7_height l D dA b0 gs h102 a103 q) hf dX1_links_7 hl.1 rfl rfl (zroom (Nat.le_of_ble_eq_true rfl)) (fun x104 h105 H locs cells slots C9 S9 hf hq hn => ?_)
  refine lv_istore_n (i := 3) (lv' := [(3, .int x104), (2, .int (0 : Int32)), (0, .ref a0), (1, .int v1)]) hx hb dX1_links_10 rfl hl (by decide) rfl (fun ls hl => ?_)
  exact m_X1_links_b11 hc hr hin hl0 ht zFU h105 a0 v1 (0 : Int32) x104 _ _ _ _ _ _ hf hq hn _ (lv_sub hl [2, 3, 1, 0] rfl)
theorem hd_X1_steps : yX1_steps.cls ≠ "java/lang/invoke/MethodHandle" ∧ yX1_steps.cls ≠ "java/lang/invoke/VarHandle" ∧ (parseMethodDescriptor yX1_steps.desc).map (fun d => d.parameters.length) = some 2 := by decide +kernel
def f_X1_steps (h : PH) (a0 : Nat) (v1 : Int32) (v2 : Int32) : ZR (ZX Int32) :=
  zrc h a0 0 <| zcx (f_X1_at_2 h a0 v1 v2) fun x101 h102 =>
  znn x101 fun a103 =>
  zrc h102 a103 6 <| zcl (f_X7_search h102 a103 v2) fun x104 h105 =>
  zgI h105 x104 10 2 fun x106 =>
  zret (.inl x106) h105
set_option maxHeartbeats 4000000 in
set_option maxRecDepth 100000 in
theorem m_X1_steps (l : Launch) (hl0 : l.stackTraces = false) (D : va_G) (dA : Nat → ClassId) (b0 : Nat) (gs : Nat → Option Nat) (h : PH) (a0 : Nat) (v1 : Int32) (v2 : Int32) {r : (ZX Int32)} {hh : PH} {mc ms : Nat} (hf : f_X1_steps h a0 v1 v2 = some (r, hh, mc, ms)) : zMx l D dA b0 gs yX1_steps (ws_ yX1_steps cX1_steps 3 (some .int)) 9 187 [.ref a0, .int v1, .int v2] h evI r hh mc ms := by
  unfold f_X1_steps at hf
  refine zMx.of (by decide) (Nat.le_of_ble_eq_true rfl) ?_
  intro p e s m args below meth c hc hr hin ht hn ls hl
  have hl : lv_has ls 3 [(0, .ref a0), (1, .int v1), (2, .int v2)] := hl
  have hq : 0 + mc = mc ∧ 0 + ms = ms := ⟨Nat.zero_add _, Nat.zero_add _⟩
  have hx := hc.x
  have hb := hc.b
  refine lv_aload_n (x := a0) hx hb dX1_steps_0 rfl (lv_at hl 0 rfl) ?_
  refine lv_iload_n hx hb dX1_steps_1 rfl (lv_at hl 1 rfl) ?_
  refine lv_iload_n hx hb dX1_steps_2 rfl (lv_at hl 2 rfl) ?_
  refine zx_VP (As := [.int v1, .int v2]) (rest := []) hc hn hq (fun x hx => (ht x hx).elim) (ci := 0) rfl ⟨rfl, hd_X1_at_2⟩ (lw_V q1219 q1221 qs17 q84 q1222) (Nat.le_of_ble_eq_true rfl) (Nat.le_of_ble_eq_true rfl) (fun _ _ _ _ q => m_X1_at_2 l hl0 D dA b0 gs h a0 v1 v2 q) hf dX1_steps_3 hl.1 rfl rfl (zroom (Nat.le_of_ble_eq_true rfl)) (fun x101 h102 H locs cells slots C9 S9 hf hq hn => ?_)
  refine lv_iload_n hx hb dX1_steps_6 rfl (lv_at hl 2 rfl) ?_
  obtain ⟨a103, e9, hf9⟩ := znn_i hf
  subst e9
  have hf := hf9
  clear hf9
  refine zr_cVN (As := [.int v2]) (rest := []) hc hn hq (ci := 6) rfl ⟨rfl, hd_X7_search⟩ (lw_V q1354 q1355 q1356 q115 q1357) (Nat.le_of_ble_eq_true rfl) (Nat.le_of_ble_eq_true rfl) (fun _ _ _ _ q => m_X7_search l D dA b0 gs h102 a103 v2 q) hf dX1_steps_7 hl.1 rfl rfl (zroom (Nat.le_of_ble_eq_true rfl)) (fun x104 h105 H locs cells slots C9 S9 hf hq hn => ?_)
  refine zr_gIN hc hn (ci := 10) rfl rfl in_X12 2 (by decide) q1371 (fun _ h => h) (fun _ _ _ => rfl) hf dX1_steps_10 (fun x106 hf => ?_)
  obtain ⟨rfl, rfl, rfl, rfl⟩ := zretx_i hf
  exact zx_ret (zr_iret hc hn hr hq (fun _ _ _ _ q => ⟨_, rfl, q⟩) dX1_steps_13)
theorem hd_X1_looks : yX1_looks.cls ≠ "java/lang/invoke/MethodHandle" ∧ yX1_looks.cls ≠ "java/lang/invoke/VarHandle" ∧ (parseMethodDescriptor yX1_looks.desc).map (fun d => d.parameters.length) = some 2 := by decide +kernel
def f_X1_looks (h : PH) (a0 : Nat) (v1 : Int32) (v2 : Int32) : ZR (ZX Int32) :=
  zrc h a0 0 <| zcx (f_X1_at_2 h a0 v1 v2) fun x101 h102 =>
  znn x101 fun a103 =>
  zrc h102 a103 6 <| zcl (f_X7_search h102 a103 v2) fun x104 h105 =>
  zgI h105 x104 10 3 fun x106 =>
  zret (.inl x106) h105
set_option maxHeartbeats 4000000 in
set_option maxRecDepth 100000 in
theorem m_X1_looks (l : Launch) (hl0 : l.stackTraces = false) (D : va_G) (dA : Nat → ClassId) (b0 : Nat) (gs : Nat → Option Nat) (h : PH) (a0 : Nat) (v1 : Int32) (v2 : Int32) {r : (ZX Int32)} {hh : PH} {mc ms : Nat} (hf : f_X1_looks h a0 v1 v2 = some (r, hh, mc, ms)) : zMx l D dA b0 gs yX1_looks (ws_ yX1_looks cX1_looks 3 (some .int)) 9 187 [.ref a0, .int v1, .int v2] h evI r hh mc ms := by
  unfold f_X1_looks at hf
  refine zMx.of (by decide) (Nat.le_of_ble_eq_true rfl) ?_
  intro p e s m args below meth c hc hr hin ht hn ls hl
  have hl : lv_has ls 3 [(0, .ref a0), (1, .int v1), (2, .int v2)] := hl
  have hq : 0 + mc = mc ∧ 0 + ms = ms := ⟨Nat.zero_add _, Nat.zero_add _⟩
  have hx := hc.x
  have hb := hc.b
  refine lv_aload_n (x := a0) hx hb dX1_looks_0 rfl (lv_at hl 0 rfl) ?_
  refine lv_iload_n hx hb dX1_looks_1 rfl (lv_at hl 1 rfl) ?_
  refine lv_iload_n hx hb dX1_looks_2 rfl (lv_at hl 2 rfl) ?_
  refine zx_VP (As := [.int v1, .int v2]) (rest := []) hc hn hq (fun x hx => (ht x hx).elim) (ci := 0) rfl ⟨rfl, hd_X1_at_2⟩ (lw_V q1219 q1221 qs17 q84 q1222) (Nat.le_of_ble_eq_true rfl) (Nat.le_of_ble_eq_true rfl) (fun _ _ _ _ q => m_X1_at_2 l hl0 D dA b0 gs h a0 v1 v2 q) hf dX1_looks_3 hl.1 rfl rfl (zroom (Nat.le_of_ble_eq_true rfl)) (fun x101 h102 H locs cells slots C9 S9 hf hq hn => ?_)
  refine lv_iload_n hx hb dX1_looks_6 rfl (lv_at hl 2 rfl) ?_
  obtain ⟨a103, e9, hf9⟩ := znn_i hf
  subst e9
  have hf := hf9
  clear hf9
  refine zr_cVN (As := [.int v2]) (rest := []) hc hn hq (ci := 6) rfl ⟨rfl, hd_X7_search⟩ (lw_V q1354 q1355 q1356 q115 q1357) (Nat.le_of_ble_eq_true rfl) (Nat.le_of_ble_eq_true rfl) (fun _ _ _ _ q => m_X7_search l D dA b0 gs h102 a103 v2 q) hf dX1_looks_7 hl.1 rfl rfl (zroom (Nat.le_of_ble_eq_true rfl)) (fun x104 h105 H locs cells slots C9 S9 hf hq hn => ?_)
  refine zr_gIN hc hn (ci := 10) rfl rfl in_X12 3 (by decide) q1373 (fun _ h => h) (fun _ _ _ => rfl) hf dX1_looks_10 (fun x106 hf => ?_)
  obtain ⟨rfl, rfl, rfl, rfl⟩ := zretx_i hf
  exact zx_ret (zr_iret hc hn hr hq (fun _ _ _ _ q => ⟨_, rfl, q⟩) dX1_looks_13)
theorem hd_X1_searchWith : yX1_searchWith.cls ≠ "java/lang/invoke/MethodHandle" ∧ yX1_searchWith.cls ≠ "java/lang/invoke/VarHandle" ∧ (parseMethodDescriptor yX1_searchWith.desc).map (fun d => d.parameters.length) = some 3 := by decide +kernel
def f_X1_searchWith (h : PH) (a0 : Nat) (v1 : Int32) (v2 : Int32) (v3 : Int32) : ZR (ZX Nat) :=
  zrc h a0 0 <| zcx (f_X1_at_2 h a0 v1 v2) fun x101 h102 =>
  znn x101 fun a103 =>
  zrc h102 a103 6 <| zcl (f_X7_search h102 a103 v2) fun x104 h105 =>
  zgI h105 x104 10 2 fun x106 =>
  znm (x106 - (1 : Int32)) fun x107 =>
  zcl (f_X1_isIn h105 v3 (0 : Int32) x107) fun x108 h109 =>
  zcx (f_X1_checkElement h109 x108) fun _ h111 =>
  zret (.inl x104) h111
set_option maxHeartbeats 4000000 in
set_option maxRecDepth 100000 in
theorem m_X1_searchWith (l : Launch) (hl0 : l.stackTraces = false) (D : va_G) (dA : Nat → ClassId) (b0 : Nat) (gs : Nat → Option Nat) (h : PH) (a0 : Nat) (v1 : Int32) (v2 : Int32) (v3 : Int32) {r : (ZX Nat)} {hh : PH} {mc ms : Nat} (hf : f_X1_searchWith h a0 v1 v2 v3 = some (r, hh, mc, ms)) : zMx l D dA b0 gs yX1_searchWith (ws_ yX1_searchWith cX1_searchWith 5 (some (.object "CountedSkipLists$SkipList$Search"))) 9 187 [.ref a0, .int v1, .int v2, .int v3] h evN r hh mc ms := by
  unfold f_X1_searchWith at hf
  refine zMx.of (by decide) (Nat.le_of_ble_eq_true rfl) ?_
  intro p e s m args below meth c hc hr hin ht hn ls hl
  have hl : lv_has ls 5 [(0, .ref a0), (1, .int v1), (2, .int v2), (3, .int v3)] := hl
  have hq : 0 + mc = mc ∧ 0 + ms = ms := ⟨Nat.zero_add _, Nat.zero_add _⟩
  have hx := hc.x
  have hb := hc.b
  refine lv_aload_n (x := a0) hx hb dX1_searchWith_0 rfl (lv_at hl 0 rfl) ?_
  refine lv_iload_n hx hb dX1_searchWith_1 rfl (lv_at hl 1 rfl) ?_
  refine lv_iload_n hx hb dX1_searchWith_2 rfl (lv_at hl 2 rfl) ?_
  refine zx_VP (As := [.int v1, .int v2]) (rest := []) hc hn hq (fun x hx => (ht x hx).elim) (ci := 0) rfl ⟨rfl, hd_X1_at_2⟩ (lw_V q1219 q1221 qs17 q84 q1222) (Nat.le_of_ble_eq_true rfl) (Nat.le_of_ble_eq_true rfl) (fun _ _ _ _ q => m_X1_at_2 l hl0 D dA b0 gs h a0 v1 v2 q) hf dX1_searchWith_3 hl.1 rfl rfl (zroom (Nat.le_of_ble_eq_true rfl)) (fun x101 h102 H locs cells slots C9 S9 hf hq hn => ?_)
  refine lv_iload_n hx hb dX1_searchWith_6 rfl (lv_at hl 2 rfl) ?_
  obtain ⟨a103, e9, hf9⟩ := znn_i hf
  subst e9
  have hf := hf9
  clear hf9
  refine zr_cVN (As := [.int v2]) (rest := []) hc hn hq (ci := 6) rfl ⟨rfl, hd_X7_search⟩ (lw_V q1354 q1355 q1356 q115 q1357) (Nat.le_of_ble_eq_true rfl) (Nat.le_of_ble_eq_true rfl) (fun _ _ _ _ q => m_X7_search l D dA b0 gs h102 a103 v2 q) hf dX1_searchWith_7 hl.1 rfl rfl (zroom (Nat.le_of_ble_eq_true rfl)) (fun x104 h105 H locs cells slots C9 S9 hf hq hn => ?_)
  refine lv_astore (x := x104) (lv' := [(4, .ref x104), (0, .ref a0), (1, .int v1), (2, .int v2), (3, .int v3)]) hx hb dX1_searchWith_10 hl (by decide) rfl (fun ls hl => ?_)
  refine lv_iload_n hx hb dX1_searchWith_12 rfl (lv_at hl 4 rfl) ?_
  refine lv_iconst (v := (0 : Int32)) hx hb dX1_searchWith_13 (by decide) ?_
  refine lv_aload (x := x104) hx hb dX1_searchWith_14 (lv_at hl 0 rfl) ?_
  refine zr_gIN hc hn (ci := 10) rfl rfl in_X12 2 (by decide) q1371 (fun _ h => h) (fun _ _ _ => rfl) hf dX1_searchWith_16 (fun x106 hf => ?_)
  refine lv_iconst (v := (1 : Int32)) hx hb dX1_searchWith_19 (by decide) ?_
  refine lv_isub hx hb dX1_searchWith_20 ?_
  refine zr_nmI hf (fun x107 hf => ?_)
  refine zr_cSI (As := [.int v3, .int (0 : Int32), .int x107]) (rest := []) hc hn hq hd_X1_isIn (lw_S q259 q260 q84 q261) (Nat.le_of_ble_eq_true rfl) (Nat.le_of_ble_eq_true rfl) (fun _ _ _ _ q => m_X1_isIn l D dA b0 gs h105 v3 (0 : Int32) x107 q) hf dX1_searchWith_21 hl.1 rfl rfl (zroom (Nat.le_of_ble_eq_true rfl)) (fun x108 h109 H locs cells slots C9 S9 hf hq hn => ?_)
  refine zx_SU (As := [.int x108]) (rest := []) hc hn hq (fun x hx => (ht x hx).elim) hd_X1_checkElement (lw_S q1261 q1262 q84 q1263) (Nat.le_of_ble_eq_true rfl) (Nat.le_of_ble_eq_true rfl) (fun _ _ _ _ q => m_X1_checkElement l hl0 D dA b0 gs h109 x108 q) hf dX1_searchWith_24 hl.1 rfl rfl (zroom (Nat.le_of_ble_eq_true rfl)) (fun x110 h111 H locs cells slots C9 S9 hf hq hn => ?_)
  refine lv_aload (x := x104) hx hb dX1_searchWith_27 (lv_at hl 0 rfl) ?_
  obtain ⟨rfl, rfl, rfl, rfl⟩ := zretx_i hf
  exact zx_ret (zr_nret hc hn hr (Or.inl ⟨_, rfl⟩) hq (fun _ _ _ _ q => ⟨_, rfl, q⟩) dX1_searchWith_29)
theorem hd_X1_stepKey : yX1_stepKey.cls ≠ "java/lang/invoke/MethodHandle" ∧ yX1_stepKey.cls ≠ "java/lang/invoke/VarHandle" ∧ (parseMethodDescriptor yX1_stepKey.desc).map (fun d => d.parameters.length) = some 3 := by decide +kernel
def f_X1_stepKey (h : PH) (a0 : Nat) (v1 : Int32) (v2 : Int32) (v3 : Int32) : ZR (ZX Int32) :=
  zrc h a0 0 <| zcx (f_X1_searchWith h a0 v1 v2 v3) fun x101 h102 =>
  zgP h102 x101 10 0 fun x103 =>
  znn x103 fun a104 =>
  zaI h102 a104 0 v3 fun x105 =>
  zret (.inl x105) h102
set_option maxHeartbeats 4000000 in
set_option maxRecDepth 100000 in
theorem m_X1_stepKey (l : Launch) (hl0 : l.stackTraces = false) (D : va_G) (dA : Nat → ClassId) (b0 : Nat) (gs : Nat → Option Nat) (h : PH) (a0 : Nat) (v1 : Int32) (v2 : Int32) (v3 : Int32) {r : (ZX Int32)} {hh : PH} {mc ms : Nat} (hf : f_X1_stepKey h a0 v1 v2 v3 = some (r, hh, mc, ms)) : zMx l D dA b0 gs yX1_stepKey (ws_ yX1_stepKey cX1_stepKey 4 (some .int)) 10 211 [.ref a0, .int v1, .int v2, .int v3] h evI r hh mc ms := by
  unfold f_X1_stepKey at hf
  refine zMx.of (by decide) (Nat.le_of_ble_eq_true rfl) ?_
  intro p e s m args below meth c hc hr hin ht hn ls hl
  have hl : lv_has ls 4 [(0, .ref a0), (1, .int v1), (2, .int v2), (3, .int v3)] := hl
  have hq : 0 + mc = mc ∧ 0 + ms = ms := ⟨Nat.zero_add _, Nat.zero_add _⟩
  have hx := hc.x
  have hb := hc.b
  refine lv_aload_n (x := a0) hx hb dX1_stepKey_0 rfl (lv_at hl 0 rfl) ?_
  refine lv_iload_n hx hb dX1_stepKey_1 rfl (lv_at hl 1 rfl) ?_
  refine lv_iload_n hx hb dX1_stepKey_2 rfl (lv_at hl 2 rfl) ?_
  refine lv_iload_n hx hb dX1_stepKey_3 rfl (lv_at hl 3 rfl) ?_
  refine zx_VN (As := [.int v1, .int v2, .int v3]) (rest := []) hc hn hq (fun x hx => (ht x hx).elim) (ci := 0) rfl ⟨rfl, hd_X1_searchWith⟩ (lw_V q1400 q1402 qs19 q84 q1403) (Nat.le_of_ble_eq_true rfl) (Nat.le_of_ble_eq_true rfl) (fun _ _ _ _ q => m_X1_searchWith l hl0 D dA b0 gs h a0 v1 v2 v3 q) hf dX1_stepKey_4 hl.1 rfl rfl (zroom (Nat.le_of_ble_eq_true rfl)) (fun x101 h102 H locs cells slots C9 S9 hf hq hn => ?_)
  refine zr_gPN hc hn (ci := 10) rfl rfl in_X12 0 (by decide) q1367 (fun _ h => h) (fun _ _ _ => rfl) hf dX1_stepKey_7 (fun x103 hf => ?_)
  refine lv_iload_n hx hb dX1_stepKey_10 rfl (lv_at hl 3 rfl) ?_
  obtain ⟨a104, e9, hf9⟩ := znn_i hf
  subst e9
  have hf := hf9
  clear hf9
  refine zr_aI0 hc hn hf dX1_stepKey_11 (fun x105 hf => ?_)
  obtain ⟨rfl, rfl, rfl, rfl⟩ := zretx_i hf
  exact zx_ret (zr_iret hc hn hr hq (fun _ _ _ _ q => ⟨_, rfl, q⟩) dX1_stepKey_12)
theorem hd_X1_stepLevel : yX1_stepLevel.cls ≠ "java/lang/invoke/MethodHandle" ∧ yX1_stepLevel.cls ≠ "java/lang/invoke/VarHandle" ∧ (parseMethodDescriptor yX1_stepLevel.desc).map (fun d => d.parameters.length) = some 3 := by decide +kernel
def f_X1_stepLevel (h : PH) (a0 : Nat) (v1 : Int32) (v2 : Int32) (v3 : Int32) : ZR (ZX Int32) :=
  zrc h a0 0 <| zcx (f_X1_searchWith h a0 v1 v2 v3) fun x101 h102 =>
  zgP h102 x101 10 1 fun x103 =>
  znn x103 fun a104 =>
  zaI h102 a104 0 v3 fun x105 =>
  zret (.inl x105) h102
set_option maxHeartbeats 4000000 in
set_option maxRecDepth 100000 in
theorem m_X1_stepLevel (l : Launch) (hl0 : l.stackTraces = false) (D : va_G) (dA : Nat → ClassId) (b0 : Nat) (gs : Nat → Option Nat) (h : PH) (a0 : Nat) (v1 : Int32) (v2 : Int32) (v3 : Int32) {r : (ZX Int32)} {hh : PH} {mc ms : Nat} (hf : f_X1_stepLevel h a0 v1 v2 v3 = some (r, hh, mc, ms)) : zMx l D dA b0 gs yX1_stepLevel (ws_ yX1_stepLevel cX1_stepLevel 4 (some .int)) 10 211 [.ref a0, .int v1, .int v2, .int v3] h evI r hh mc ms := by
  unfold f_X1_stepLevel at hf
  refine zMx.of (by decide) (Nat.le_of_ble_eq_true rfl) ?_
  intro p e s m args below meth c hc hr hin ht hn ls hl
  have hl : lv_has ls 4 [(0, .ref a0), (1, .int v1), (2, .int v2), (3, .int v3)] := hl
  have hq : 0 + mc = mc ∧ 0 + ms = ms := ⟨Nat.zero_add _, Nat.zero_add _⟩
  have hx := hc.x
  have hb := hc.b
  refine lv_aload_n (x := a0) hx hb dX1_stepLevel_0 rfl (lv_at hl 0 rfl) ?_
  refine lv_iload_n hx hb dX1_stepLevel_1 rfl (lv_at hl 1 rfl) ?_
  refine lv_iload_n hx hb dX1_stepLevel_2 rfl (lv_at hl 2 rfl) ?_
  refine lv_iload_n hx hb dX1_stepLevel_3 rfl (lv_at hl 3 rfl) ?_
  refine zx_VN (As := [.int v1, .int v2, .int v3]) (rest := []) hc hn hq (fun x hx => (ht x hx).elim) (ci := 0) rfl ⟨rfl, hd_X1_searchWith⟩ (lw_V q1400 q1402 qs19 q84 q1403) (Nat.le_of_ble_eq_true rfl) (Nat.le_of_ble_eq_true rfl) (fun _ _ _ _ q => m_X1_searchWith l hl0 D dA b0 gs h a0 v1 v2 v3 q) hf dX1_stepLevel_4 hl.1 rfl rfl (zroom (Nat.le_of_ble_eq_true rfl)) (fun x101 h102 H locs cells slots C9 S9 hf hq hn => ?_)
  refine zr_gPN hc hn (ci := 10) rfl rfl in_X12 1 (by decide) q1369 (fun _ h => h) (fun _ _ _ => rfl) hf dX1_stepLevel_7 (fun x103 hf => ?_)
  refine lv_iload_n hx hb dX1_stepLevel_10 rfl (lv_at hl 3 rfl) ?_
  obtain ⟨a104, e9, hf9⟩ := znn_i hf
  subst e9
  have hf := hf9
  clear hf9
  refine zr_aI0 hc hn hf dX1_stepLevel_11 (fun x105 hf => ?_)
  obtain ⟨rfl, rfl, rfl, rfl⟩ := zretx_i hf
  exact zx_ret (zr_iret hc hn hr hq (fun _ _ _ _ q => ⟨_, rfl, q⟩) dX1_stepLevel_12)
theorem hd_X1_stepsTo : yX1_stepsTo.cls ≠ "java/lang/invoke/MethodHandle" ∧ yX1_stepsTo.cls ≠ "java/lang/invoke/VarHandle" ∧ (parseMethodDescriptor yX1_stepsTo.desc).map (fun d => d.parameters.length) = some 2 := by decide +kernel
def f_X1_stepsTo (h : PH) (a0 : Nat) (v1 : Int32) (v2 : Int32) : ZR (ZX Int32) :=
  zrc h a0 0 <| zcx (f_X1_at h a0 v1) fun x101 h102 =>
  znn x101 fun a103 =>
  zgI h102 a103 6 3 fun x104 =>
  znm (x104 - (1 : Int32)) fun x105 =>
  zcl (f_X1_isIn h102 v2 (0 : Int32) x105) fun x106 h107 =>
  zcx (f_X1_checkIndex h107 x106) fun _ h109 =>
  zna h109 0 (1 : Int32) fun a110 h111 =>
  zrc h111 a103 6 <| zcl (f_X7_select h111 a103 v2 a110) fun x112 h113 =>
  zaI h113 a110 0 (0 : Int32) fun x114 =>
  zret (.inl x114) h113
set_option maxHeartbeats 4000000 in
set_option maxRecDepth 100000 in
theorem m_X1_stepsTo (l : Launch) (hl0 : l.stackTraces = false) (D : va_G) (dA : Nat → ClassId) (b0 : Nat) (gs : Nat → Option Nat) (h : PH) (a0 : Nat) (v1 : Int32) (v2 : Int32) {r : (ZX Int32)} {hh : PH} {mc ms : Nat} (hf : f_X1_stepsTo h a0 v1 v2 = some (r, hh, mc, ms)) : zMx l D dA b0 gs yX1_stepsTo (ws_ yX1_stepsTo cX1_stepsTo 6 (some .int)) 8 161 [.ref a0, .int v1, .int v2] h evI r hh mc ms := by
  unfold f_X1_stepsTo at hf
  refine zMx.of (by decide) (Nat.le_of_ble_eq_true rfl) ?_
  intro p e s m args below meth c hc hr hin ht hn ls hl
  have hl : lv_has ls 6 [(0, .ref a0), (1, .int v1), (2, .int v2)] := hl
  have hq : 0 + mc = mc ∧ 0 + ms = ms := ⟨Nat.zero_add _, Nat.zero_add _⟩
  have hx := hc.x
  have hb := hc.b
  refine lv_aload_n (x := a0) hx hb dX1_stepsTo_0 rfl (lv_at hl 0 rfl) ?_
  refine lv_iload_n hx hb dX1_stepsTo_1 rfl (lv_at hl 1 rfl) ?_
  refine zx_VP (As := [.int v1]) (rest := []) hc hn hq (fun x hx => (ht x hx).elim) (ci := 0) rfl ⟨rfl, hd_X1_at⟩ (lw_V q1170 q1172 qs15 q84 q1173) (Nat.le_of_ble_eq_true rfl) (Nat.le_of_ble_eq_true rfl) (fun _ _ _ _ q => m_X1_at l hl0 D dA b0 gs h a0 v1 q) hf dX1_stepsTo_2 hl.1 rfl rfl (zroom (Nat.le_of_ble_eq_true rfl)) (fun x101 h102 H locs cells slots C9 S9 hf hq hn => ?_)
  refine zr_astore_n (x := x101) (i := 3) (lv' := [(3, va_rf x101), (0, .ref a0), (1, .int v1), (2, .int v2)]) hx hb dX1_stepsTo_5 rfl hl (by decide) rfl (fun ls hl => ?_)
  refine lv_iload_n hx hb dX1_stepsTo_6 rfl (lv_at hl 3 rfl) ?_
  refine lv_iconst (v := (0 : Int32)) hx hb dX1_stepsTo_7 (by decide) ?_
  refine zr_aload_n (x := x101) hx hb dX1_stepsTo_8 rfl (lv_at hl 0 rfl) ?_
  obtain ⟨a103, e9, hf9⟩ := znn_i hf
  subst e9
  have hf := hf9
  clear hf9
  refine zr_gIN hc hn (ci := 6) rfl rfl in_X7 3 (by decide) q877 (fun _ h => h) (fun _ _ _ => rfl) hf dX1_stepsTo_9 (fun x104 hf => ?_)
  refine lv_iconst (v := (1 : Int32)) hx hb dX1_stepsTo_12 (by decide) ?_
  refine lv_isub hx hb dX1_stepsTo_13 ?_
  refine zr_nmI hf (fun x105 hf => ?_)
  refine zr_cSI (As := [.int v2, .int (0 : Int32), .int x105]) (rest := []) hc hn hq hd_X1_isIn (lw_S q259 q260 q84 q261) (Nat.le_of_ble_eq_true rfl) (Nat.le_of_ble_eq_true rfl) (fun _ _ _ _ q => m_X1_isIn l D dA b0 gs h102 v2 (0 : Int32) x105 q) hf dX1_stepsTo_14 hl.1 rfl rfl (zroom (Nat.le_of_ble_eq_true rfl)) (fun x106 h107 H locs cells slots C9 S9 hf hq hn => ?_)
  refine zx_SU (As := [.int x106]) (rest := []) hc hn hq (fun x hx => (ht x hx).elim) hd_X1_checkIndex (lw_S q395 q396 q84 q397) (Nat.le_of_ble_eq_true rfl) (Nat.le_of_ble_eq_true rfl) (fun _ _ _ _ q => m_X1_checkIndex l hl0 D dA b0 gs h107 x106 q) hf dX1_stepsTo_17 hl.1 rfl rfl (zroom (Nat.le_of_ble_eq_true rfl)) (fun x108 h109 H locs cells slots C9 S9 hf hq hn => ?_)
  refine lv_iconst (v := (1 : Int32)) hx hb dX1_stepsTo_20 (by decide) ?_
  refine zr_na0 hc hn hq q180 hf dX1_stepsTo_21 (fun a110 h111 H cells slots C9 S9 hf hq hn => ?_)
  refine lv_astore (x := a110) (lv' := [(4, .ref a110), (3, .ref a103), (0, .ref a0), (1, .int v1), (2, .int v2)]) hx hb dX1_stepsTo_23 hl (by decide) rfl (fun ls hl => ?_)
  refine lv_aload_n (x := a103) hx hb dX1_stepsTo_25 rfl (lv_at hl 1 rfl) ?_
  refine lv_iload_n hx hb dX1_stepsTo_26 rfl (lv_at hl 4 rfl) ?_
  refine lv_aload (x := a110) hx hb dX1_stepsTo_27 (lv_at hl 0 rfl) ?_
  refine zr_cVP (As := [.int v2, .ref a110]) (rest := []) hc hn hq (ci := 6) rfl ⟨rfl, hd_X7_select⟩ (lw_V q1194 q1195 q1196 q115 q1197) (Nat.le_of_ble_eq_true rfl) (Nat.le_of_ble_eq_true rfl) (fun _ _ _ _ q => m_X7_select l D dA b0 gs h111 a103 v2 a110 q) hf dX1_stepsTo_29 hl.1 rfl rfl (zroom (Nat.le_of_ble_eq_true rfl)) (fun x112 h113 H locs cells slots C9 S9 hf hq hn => ?_)
  refine zr_astore (x := x112) (lv' := [(5, va_rf x112), (4, .ref a110), (3, .ref a103), (0, .ref a0), (1, .int v1), (2, .int v2)]) hx hb dX1_stepsTo_32 hl (by decide) rfl (fun ls hl => ?_)
  refine lv_aload (x := a110) hx hb dX1_stepsTo_34 (lv_at hl 1 rfl) ?_
  refine lv_iconst (v := (0 : Int32)) hx hb dX1_stepsTo_36 (by decide) ?_
  refine zr_aI0 hc hn hf dX1_stepsTo_37 (fun x114 hf => ?_)
  obtain ⟨rfl, rfl, rfl, rfl⟩ := zretx_i hf
  exact zx_ret (zr_iret hc hn hr hq (fun _ _ _ _ q => ⟨_, rfl, q⟩) dX1_stepsTo_38)
theorem hd_X1_farthest : yX1_farthest.cls ≠ "java/lang/invoke/MethodHandle" ∧ yX1_farthest.cls ≠ "java/lang/invoke/VarHandle" ∧ (parseMethodDescriptor yX1_farthest.desc).map (fun d => d.parameters.length) = some 1 := by decide +kernel
def f_X1_farthest_b39 : Nat → PH → Nat → Nat → Option Nat → ZR (ZX Int32)
  | 0 => fun _ _ _ _ => none
  | n + 1 => fun h a2 a3 o4 =>
    znul o4
      (zrc h a3 17 <| zcl (f_J27_peek h a3) fun x102 h103 =>
      zcast h103 11 x102 <|
      znn x102 fun a104 =>
      zgI h103 a104 11 0 fun x105 =>
      zret (.inl x105) h103)
      (fun a101 =>
        zno h 11 2 fun a106 h107 =>
        zgI h107 a101 7 0 fun x108 =>
        zgI h107 a101 7 0 fun x109 =>
        zrc h107 a2 6 <| zcl (f_X7_search h107 a2 x109) fun x110 h111 =>
        zgI h111 x110 10 2 fun x112 =>
        zcl (f_X13_init h111 a106 x108 x112) fun _ h114 =>
        zrc h114 a3 17 <| zcl (f_J27_add h114 a3 a106) fun x115 h116 =>
        zrc h116 a101 7 <| zcl (f_X8_next h116 a101 (1 : Int32)) fun x117 h118 =>
        f_X1_farthest_b39 n h118 a2 a3 x117)
def f_X1_farthest_b18 (h : PH) (a2 : Nat) (s0 : Int32) : ZR (ZX Int32) :=
  zcx (f_X1_checkElement h s0) fun _ h102 =>
  zno h102 17 4 fun a103 h104 =>
  zcl (f_J27_init h104 a103) fun _ h106 =>
  zgP h106 a2 6 1 fun x107 =>
  znn x107 fun a108 =>
  zrc h106 a108 7 <| zcl (f_X8_next h106 a108 (1 : Int32)) fun x109 h110 =>
  f_X1_farthest_b39 zFU h110 a2 a103 x109
def f_X1_farthest (h : PH) (a0 : Nat) (v1 : Int32) : ZR (ZX Int32) :=
  zrc h a0 0 <| zcx (f_X1_at h a0 v1) fun x101 h102 =>
  znn x101 fun a103 =>
  zgI h102 a103 6 3 fun x104 =>
  if x104 ≤ 0 then
    (f_X1_farthest_b18 h102 a103 (0 : Int32))
  else
    (f_X1_farthest_b18 h102 a103 (1 : Int32))
set_option maxHeartbeats 4000000 in
set_option maxRecDepth 100000 in
theorem m_X1_farthest_b39 {p : Program} {l : Launch} {e : Env} {s : State} {m : MethodId} {args : Array Value} {below : List Frame} {meth : Method} {c : Code} {D : va_G} {dA : Nat → ClassId} {b0 : Nat} {gs : Nat → Option Nat} (hc : zC D dA b0 gs yX1_farthest.cls cX1_farthest 6 p c s m args meth) (hr : meth.sig.returnType = (some .int)) (hin : meth.name = yX1_farthest.name) {r : (ZX Int32)} {hh : PH} {mc ms : Nat} (hl0 : l.stackTraces = false) (ht : ∀ x ∈ c.exceptionTable.toList, False) : ∀ (n : Nat) (h : PH) (a2 : Nat) (a3 : Nat) (o4 : Option Nat) (C9 S9 : Nat) (H : Heap) (locs : List Loc) (cells slots : Nat), f_X1_farthest_b39 n h a2 a3 o4 = some (r, hh, C9, S9) → cells + C9 = mc ∧ slots + S9 = ms → zM D dA b0 gs s h H locs → ∀ ls : Array Slot, lv_has ls 6 [(2, .ref a2), (3, .ref a3), (4, va_rf o4)] → W p l e ({ frames := 8, cells := mc, slots := ms, locals := 213 } : Room) s m args below meth c H locs cells slots (vx_MQ below (zQX D dA b0 gs evI r hh) (zXC D dA b0 gs r hh) args s mc ms (zA b0)) (F0 m 39 ls []) := by
  have hx := hc.x
  have hb := hc.b
  intro n
  induction n with
  | zero =>
    intro h a2 a3 o4 C9 S9 H locs cells slots hf hq hn ls hl
    cases hf
  | succ n ih =>
    intro h a2 a3 o4 C9 S9 H locs cells slots hf hq hn ls hl
    unfold f_X1_farthest_b39 at hf
    refine zr_aload (x := o4) hx hb dX1_farthest_39 (lv_at hl 2 rfl) ?_
    refine zr_ifnull (tgt := 85) hx hb hf dX1_farthest_41 (by decide) (fun e9 hf9 => ?_) (fun a101 e9 hf9 => ?_)
    · subst e9
      have hf := hf9
      clear hf9
      refine lv_aload_n (x := a3) hx hb dX1_farthest_85 rfl (lv_at hl 1 rfl) ?_
      refine zr_cVP (As := []) (rest := []) hc hn hq (ci := 17) rfl ⟨rfl, hd_J27_peek⟩ (lw_V q1725 q1726 q1727 q126 q1728) (Nat.le_of_ble_eq_true rfl) (Nat.le_of_ble_eq_true rfl) (fun _ _ _ _ q => m_J27_peek l D dA b0 gs h a3 q) hf dX1_farthest_86 hl.1 rfl rfl (zroom (Nat.le_of_ble_eq_true rfl)) (fun x102 h103 H locs cells slots C9 S9 hf hq hn => ?_)
      refine zr_cast (o := x102) hc hn (ci := 11) rfl q1453 (Or.inl rfl) hf dX1_farthest_89 (fun hf => ?_)
      obtain ⟨a104, e9, hf9⟩ := znn_i hf
      subst e9
      have hf := hf9
      clear hf9
      refine zr_gIN hc hn (ci := 11) rfl rfl in_X13 0 (by decide) q1460 (fun _ h => h) (fun _ _ _ => rfl) hf dX1_farthest_92 (fun x105 hf => ?_)
      obtain ⟨rfl, rfl, rfl, rfl⟩ := zretx_i hf
      exact zx_ret (zr_iret hc hn hr hq (fun _ _ _ _ q => ⟨_, rfl, q⟩) dX1_farthest_95)
    · subst e9
      have hf := hf9
      clear hf9
      refine lv_aload_n (x := a3) hx hb dX1_farthest_44 rfl (lv_at hl 1 rfl) ?_
      refine zr_new hc hn hq (ci := 11) rfl rfl in_X13 tyX13_ok q1453 q1454 q127 (zd_X13) hf dX1_farthest_45 (fun a106 h107 H cells slots C9 S9 hf hq hn => ?_)
      refine lv_dup hx hb dX1_farthest_48 rfl ?_
      refine lv_aload (x := a101) hx hb dX1_farthest_49 (lv_at hl 2 rfl) ?_
      refine zr_gIN hc hn (ci := 7) rfl rfl in_X8 0 (by decide) q835 (fun _ h => h) (fun _ _ _ => rfl) hf dX1_farthest_51 (fun x108 hf => ?_)
      refine lv_aload_n (x := a2) hx hb dX1_farthest_54 rfl (lv_at hl 0 rfl) ?_
      refine lv_aload (x := a101) hx hb dX1_farthest_55 (lv_at hl 2 rfl) ?_
      refine zr_gIN hc hn (ci := 7) rfl rfl in_X8 0 (by decide) q835 (fun _ h => h) (fun _ _ _ => rfl) hf dX1_farthest_57 (fun x109 hf => ?_)
      refine zr_cVN (As := [.int x109]) (rest := [.int x108, .ref a106, .ref a106, .ref a3]) hc hn hq (ci := 6) rfl ⟨rfl, hd_X7_search⟩ (lw_V q1354 q1355 q1356 q115 q1357) (Nat.le_of_ble_eq_true rfl) (Nat.le_of_ble_eq_true rfl) (fun _ _ _ _ q => m_X7_search l D dA b0 gs h107 a2 x109 q) hf dX1_farthest_60 hl.1 rfl rfl (zroom (Nat.le_of_ble_eq_true rfl)) (fun x110 h111 H locs cells slots C9 S9 hf hq hn => ?_)
      refine zr_gIN hc hn (ci := 10) rfl rfl in_X12 2 (by decide) q1371 (fun _ h => h) (fun _ _ _ => rfl) hf dX1_farthest_63 (fun x112 hf => ?_)
      refine zr_cI (As := [.int x108, .int x112]) (rest := [.ref a106, .ref a3]) hc hn hq rfl hd_X13_init (lw_meth q1457) q1455 q1456 q127 (Nat.le_of_ble_eq_true rfl) (Nat.le_of_ble_eq_true rfl) (fun _ _ _ _ q => m_X13_init l D dA b0 gs h111 a106 x108 x112 q) hf dX1_farthest_66 hl.1 rfl rfl (zroom (Nat.le_of_ble_eq_true rfl)) (fun x113 h114 H locs cells slots C9 S9 hf hq hn => ?_)
      refine zr_cVI (As := [.ref a106]) (rest := []) hc hn hq (ci := 17) rfl ⟨rfl, hd_J27_add⟩ (lw_V q1467 q1468 q1469 q126 q1470) (Nat.le_of_ble_eq_true rfl) (Nat.le_of_ble_eq_true rfl) (fun _ _ _ _ q => m_J27_add l D dA b0 gs h114 a3 a106 q) hf dX1_farthest_69 hl.1 rfl rfl (zroom (Nat.le_of_ble_eq_true rfl)) (fun x115 h116 H locs cells slots C9 S9 hf hq hn => ?_)
      refine lv_istore (lv' := [(5, .int x115), (2, .ref a2), (3, .ref a3), (4, .ref a101)]) hx hb dX1_farthest_72 hl (by decide) rfl (fun ls hl => ?_)
      refine lv_aload (x := a101) hx hb dX1_farthest_74 (lv_at hl 3 rfl) ?_
      refine lv_iconst (v := (1 : Int32)) hx hb dX1_farthest_76 (by decide) ?_
      refine zr_cVP (As := [.int (1 : Int32)]) (rest := []) hc hn hq (ci := 7) rfl ⟨rfl, hd_X8_next⟩ (lw_V q1312 q905 q906 q116 q907) (Nat.le_of_ble_eq_true rfl) (Nat.le_of_ble_eq_true rfl) (fun _ _ _ _ q => m_X8_next l D dA b0 gs h116 a101 (1 : Int32) q) hf dX1_farthest_77 hl.1 rfl rfl (zroom (Nat.le_of_ble_eq_true rfl)) (fun x117 h118 H locs cells slots C9 S9 hf hq hn => ?_)
      refine zr_astore (x := x117) (lv' := [(4, va_rf x117), (5, .int x115), (2, .ref a2), (3, .ref a3)]) hx hb dX1_farthest_80 hl (by decide) rfl (fun ls hl => ?_)
      refine lv_goto (tgt := 39) hx hb dX1_farthest_82 (by decide) ?_
      exact ih h118 a2 a3 x117 _ _ _ _ _ _ hf hq hn _ (lv_sub hl [2, 3, 0] rfl)
set_option maxHeartbeats 4000000 in
set_option maxRecDepth 100000 in
theorem m_X1_farthest_b18 {p : Program} {l : Launch} {e : Env} {s : State} {m : MethodId} {args : Array Value} {below : List Frame} {meth : Method} {c : Code} {D : va_G} {dA : Nat → ClassId} {b0 : Nat} {gs : Nat → Option Nat} (hc : zC D dA b0 gs yX1_farthest.cls cX1_farthest 6 p c s m args meth) (hr : meth.sig.returnType = (some .int)) (hin : meth.name = yX1_farthest.name) {r : (ZX Int32)} {hh : PH} {mc ms : Nat} (hl0 : l.stackTraces = false) (ht : ∀ x ∈ c.exceptionTable.toList, False) : ∀ (h : PH) (a2 : Nat) (s0 : Int32) (C9 S9 : Nat) (H : Heap) (locs : List Loc) (cells slots : Nat), f_X1_farthest_b18 h a2 s0 = some (r, hh, C9, S9) → cells + C9 = mc ∧ slots + S9 = ms → zM D dA b0 gs s h H locs → ∀ ls : Array Slot, lv_has ls 6 [(2, .ref a2)] → W p l e ({ frames := 8, cells := mc, slots := ms, locals := 213 } : Room) s m args below meth c H locs cells slots (vx_MQ below (zQX D dA b0 gs evI r hh) (zXC D dA b0 gs r hh) args s mc ms (zA b0)) (F0 m 18 ls [.int s0]) := by
  have hx := hc.x
  have hb := hc.b
  intro h a2 s0 C9 S9 H locs cells slots hf hq hn ls hl
  unfold f_X1_farthest_b18 at hf
  refine zx_SU (As := [.int s0]) (rest := []) hc hn hq (fun x hx => (ht x hx).elim) hd_X1_checkElement (lw_S q1261 q1262 q84 q1263) (Nat.le_of_ble_eq_true rfl) (Nat.le_of_ble_eq_true rfl) (fun _ _ _ _ q => m_X1_checkElement l hl0 D dA b0 gs h s0 q) hf dX1_farthest_18 hl.1 rfl rfl (zroom (Nat.le_of_ble_eq_true rfl)) (fun x101 h102 H locs cells slots C9 S9 hf hq hn => ?_)
  refine zr_new hc hn hq (ci := 17) rfl rfl in_J27 tyJ27_ok q1425 q1426 q126 (zd_J27) hf dX1_farthest_21 (fun a103 h104 H cells slots C9 S9 hf hq hn => ?_)
  refine lv_dup hx hb dX1_farthest_24 rfl ?_
  refine zr_cI (As := []) (rest := [.ref a103]) hc hn hq rfl hd_J27_init (lw_meth q1429) q1427 q1428 q126 (Nat.le_of_ble_eq_true rfl) (Nat.le_of_ble_eq_true rfl) (fun _ _ _ _ q => m_J27_init l D dA b0 gs h104 a103 q) hf dX1_farthest_25 hl.1 rfl rfl (zroom (Nat.le_of_ble_eq_true rfl)) (fun x105 h106 H locs cells slots C9 S9 hf hq hn => ?_)
  refine lv_astore_n (x := a103) (i := 3) (lv' := [(3, .ref a103), (2, .ref a2)]) hx hb dX1_farthest_28 rfl hl (by decide) rfl (fun ls hl => ?_)
  refine lv_aload_n (x := a2) hx hb dX1_farthest_29 rfl (lv_at hl 1 rfl) ?_
  refine zr_gPN hc hn (ci := 6) rfl rfl in_X7 1 (by decide) q873 (fun _ h => h) (fun _ _ _ => rfl) hf dX1_farthest_30 (fun x107 hf => ?_)
  refine lv_iconst (v := (1 : Int32)) hx hb dX1_farthest_33 (by decide) ?_
  obtain ⟨a108, e9, hf9⟩ := znn_i hf
  subst e9
  have hf := hf9
  clear hf9
  refine zr_cVP (As := [.int (1 : Int32)]) (rest := []) hc hn hq (ci := 7) rfl ⟨rfl, hd_X8_next⟩ (lw_V q1312 q905 q906 q116 q907) (Nat.le_of_ble_eq_true rfl) (Nat.le_of_ble_eq_true rfl) (fun _ _ _ _ q => m_X8_next l D dA b0 gs h106 a108 (1 : Int32) q) hf dX1_farthest_34 hl.1 rfl rfl (zroom (Nat.le_of_ble_eq_true rfl)) (fun x109 h110 H locs cells slots C9 S9 hf hq hn => ?_)
  refine zr_astore (x := x109) (lv' := [(4, va_rf x109), (3, .ref a103), (2, .ref a2)]) hx hb dX1_farthest_37 hl (by decide) rfl (fun ls hl => ?_)
  exact m_X1_farthest_b39 hc hr hin hl0 ht zFU h110 a2 a103 x109 _ _ _ _ _ _ hf hq hn _ (lv_sub hl [2, 1, 0] rfl)
set_option maxHeartbeats 4000000 in
set_option maxRecDepth 100000 in
theorem m_X1_farthest (l : Launch) (hl0 : l.stackTraces = false) (D : va_G) (dA : Nat → ClassId) (b0 : Nat) (gs : Nat → Option Nat) (h : PH) (a0 : Nat) (v1 : Int32) {r : (ZX Int32)} {hh : PH} {mc ms : Nat} (hf : f_X1_farthest h a0 v1 = some (r, hh, mc, ms)) : zMx l D dA b0 gs yX1_farthest (ws_ yX1_farthest cX1_farthest 6 (some .int)) 8 213 [.ref a0, .int v1] h evI r hh mc ms := by
  unfold f_X1_farthest at hf
  refine zMx.of (by decide) (Nat.le_of_ble_eq_true rfl) ?_
  intro p e s m args below meth c hc hr hin ht hn ls hl
  have hl : lv_has ls 6 [(0, .ref a0), (1, .int v1)] := hl
  have hq : 0 + mc = mc ∧ 0 + ms = ms := ⟨Nat.zero_add _, Nat.zero_add _⟩
  have hx := hc.x
  have hb := hc.b
  refine lv_aload_n (x := a0) hx hb dX1_farthest_0 rfl (lv_at hl 0 rfl) ?_
  refine lv_iload_n hx hb dX1_farthest_1 rfl (lv_at hl 1 rfl) ?_
  refine zx_VP (As := [.int v1]) (rest := []) hc hn hq (fun x hx => (ht x hx).elim) (ci := 0) rfl ⟨rfl, hd_X1_at⟩ (lw_V q1170 q1172 qs15 q84 q1173) (Nat.le_of_ble_eq_true rfl) (Nat.le_of_ble_eq_true rfl) (fun _ _ _ _ q => m_X1_at l hl0 D dA b0 gs h a0 v1 q) hf dX1_farthest_2 hl.1 rfl rfl (zroom (Nat.le_of_ble_eq_true rfl)) (fun x101 h102 H locs cells slots C9 S9 hf hq hn => ?_)
  refine zr_astore_n (x := x101) (i := 2) (lv' := [(2, va_rf x101), (0, .ref a0), (1, .int v1)]) hx hb dX1_farthest_5 rfl hl (by decide) rfl (fun ls hl => ?_)
  refine zr_aload_n (x := x101) hx hb dX1_farthest_6 rfl (lv_at hl 0 rfl) ?_
  obtain ⟨a103, e9, hf9⟩ := znn_i hf
  subst e9
  have hf := hf9
  clear hf9
  refine zr_gIN hc hn (ci := 6) rfl rfl in_X7 3 (by decide) q877 (fun _ h => h) (fun _ _ _ => rfl) hf dX1_farthest_7 (fun x104 hf => ?_)
  refine lv_if_le (tgt := 17) hx hb dX1_farthest_10 (by decide) (fun c9 => ?_) (fun c9 => ?_)
  · have hf := zif_t c9 hf
    refine lv_iconst (v := (0 : Int32)) hx hb dX1_farthest_17 (by decide) ?_
    exact m_X1_farthest_b18 hc hr hin hl0 ht h102 a103 (0 : Int32) _ _ _ _ _ _ hf hq hn _ (lv_sub hl [0] rfl)
  · have hf := zif_f c9 hf
    refine lv_iconst (v := (1 : Int32)) hx hb dX1_farthest_13 (by decide) ?_
    refine lv_goto (tgt := 18) hx hb dX1_farthest_14 (by decide) ?_
    exact m_X1_farthest_b18 hc hr hin hl0 ht h102 a103 (1 : Int32) _ _ _ _ _ _ hf hq hn _ (lv_sub hl [0] rfl)
theorem hd_X1_meanLooks : yX1_meanLooks.cls ≠ "java/lang/invoke/MethodHandle" ∧ yX1_meanLooks.cls ≠ "java/lang/invoke/VarHandle" ∧ (parseMethodDescriptor yX1_meanLooks.desc).map (fun d => d.parameters.length) = some 1 := by decide +kernel
def f_X1_meanLooks_b33 : Nat → PH → Nat → Int32 → Option Nat → ZR (ZX UInt64)
  | 0 => fun _ _ _ _ => none
  | n + 1 => fun h a2 v3 o4 =>
    znul o4
      (znm (FP.i2d v3) fun x102 =>
      zgI h a2 6 3 fun x103 =>
      znm (FP.i2d x103) fun x104 =>
      zgd (zn64 (FP.ddiv x102 x104) = true) <|
      znm (FP.ddiv x102 x104) fun x105 =>
      zret (.inl x105) h)
      (fun a101 =>
        zgI h a101 7 0 fun x106 =>
        zrc h a2 6 <| zcl (f_X7_search h a2 x106) fun x107 h108 =>
        zgI h108 x107 10 3 fun x109 =>
        znm (v3 + x109) fun x110 =>
        zrc h108 a101 7 <| zcl (f_X8_next h108 a101 (1 : Int32)) fun x111 h112 =>
        f_X1_meanLooks_b33 n h112 a2 x110 x111)
def f_X1_meanLooks_b18 (h : PH) (a2 : Nat) (s0 : Int32) : ZR (ZX UInt64) :=
  zcx (f_X1_checkElement h s0) fun _ h102 =>
  zgP h102 a2 6 1 fun x103 =>
  znn x103 fun a104 =>
  zrc h102 a104 7 <| zcl (f_X8_next h102 a104 (1 : Int32)) fun x105 h106 =>
  f_X1_meanLooks_b33 zFU h106 a2 (0 : Int32) x105
def f_X1_meanLooks (h : PH) (a0 : Nat) (v1 : Int32) : ZR (ZX UInt64) :=
  zrc h a0 0 <| zcx (f_X1_at h a0 v1) fun x101 h102 =>
  znn x101 fun a103 =>
  zgI h102 a103 6 3 fun x104 =>
  if x104 ≤ 0 then
    (f_X1_meanLooks_b18 h102 a103 (0 : Int32))
  else
    (f_X1_meanLooks_b18 h102 a103 (1 : Int32))
set_option maxHeartbeats 4000000 in
set_option maxRecDepth 100000 in
theorem m_X1_meanLooks_b33 {p : Program} {l : Launch} {e : Env} {s : State} {m : MethodId} {args : Array Value} {below : List Frame} {meth : Method} {c : Code} {D : va_G} {dA : Nat → ClassId} {b0 : Nat} {gs : Nat → Option Nat} (hc : zC D dA b0 gs yX1_meanLooks.cls cX1_meanLooks 5 p c s m args meth) (hr : meth.sig.returnType = (some .double)) (hin : meth.name = yX1_meanLooks.name) {r : (ZX UInt64)} {hh : PH} {mc ms : Nat} (hl0 : l.stackTraces = false) (ht : ∀ x ∈ c.exceptionTable.toList, False) : ∀ (n : Nat) (h : PH) (a2 : Nat) (v3 : Int32) (o4 : Option Nat) (C9 S9 : Nat) (H : Heap) (locs : List Loc) (cells slots : Nat), f_X1_meanLooks_b33 n h a2 v3 o4 = some (r, hh, C9, S9) → cells + C9 = mc ∧ slots + S9 = ms → zM D dA b0 gs s h H locs → ∀ ls : Array Slot, lv_has ls 5 [(2, .ref a2), (3, .int v3), (4, va_rf o4)] → W p l e ({ frames := 8, cells := mc, slots := ms, locals := 161 } : Room) s m args below meth c H locs cells slots (vx_MQ below (zQX D dA b0 gs evD r hh) (zXC D dA b0 gs r hh) args s mc ms (zA b0)) (F0 m 33 ls []) := by
  have hx := hc.x
  have hb := hc.b
  intro n
  induction n with
  | zero =>
    intro h a2 v3 o4 C9 S9 H locs cells slots hf hq hn ls hl
    cases hf
  | succ n ih =>
    intro h a2 v3 o4 C9 S9 H locs cells slots hf hq hn ls hl
    unfold f_X1_meanLooks_b33 at hf
    refine zr_aload (x := o4) hx hb dX1_meanLooks_33 (lv_at hl 2 rfl) ?_
    refine zr_ifnull (tgt := 64) hx hb hf dX1_meanLooks_35 (by decide) (fun e9 hf9 => ?_) (fun a101 e9 hf9 => ?_)
    · subst e9
      have hf := hf9
      clear hf9
      refine lv_iload_n hx hb dX1_meanLooks_64 rfl (lv_at hl 1 rfl) ?_
      refine lv_i2d hx hb dX1_meanLooks_65 ?_
      refine zr_nmD hf (fun x102 hf => ?_)
      refine lv_aload_n (x := a2) hx hb dX1_meanLooks_66 rfl (lv_at hl 0 rfl) ?_
      refine zr_gIN hc hn (ci := 6) rfl rfl in_X7 3 (by decide) q877 (fun _ h => h) (fun _ _ _ => rfl) hf dX1_meanLooks_67 (fun x103 hf => ?_)
      refine lv_i2d hx hb dX1_meanLooks_70 ?_
      refine zr_nmD hf (fun x104 hf => ?_)
      obtain ⟨hne, hf⟩ := zgd_i hf
      refine lv_ddiv hx hb dX1_meanLooks_71 (zn64_i hne) ?_
      refine zr_nmD hf (fun x105 hf => ?_)
      obtain ⟨rfl, rfl, rfl, rfl⟩ := zretx_i hf
      exact zx_ret (zr_dret hc hn hr hq (fun _ _ _ _ q => ⟨_, rfl, q⟩) dX1_meanLooks_72)
    · subst e9
      have hf := hf9
      clear hf9
      refine lv_iload_n hx hb dX1_meanLooks_38 rfl (lv_at hl 1 rfl) ?_
      refine lv_aload_n (x := a2) hx hb dX1_meanLooks_39 rfl (lv_at hl 0 rfl) ?_
      refine lv_aload (x := a101) hx hb dX1_meanLooks_40 (lv_at hl 2 rfl) ?_
      refine zr_gIN hc hn (ci := 7) rfl rfl in_X8 0 (by decide) q835 (fun _ h => h) (fun _ _ _ => rfl) hf dX1_meanLooks_42 (fun x106 hf => ?_)
      refine zr_cVN (As := [.int x106]) (rest := [.int v3]) hc hn hq (ci := 6) rfl ⟨rfl, hd_X7_search⟩ (lw_V q1354 q1355 q1356 q115 q1357) (Nat.le_of_ble_eq_true rfl) (Nat.le_of_ble_eq_true rfl) (fun _ _ _ _ q => m_X7_search l D dA b0 gs h a2 x106 q) hf dX1_meanLooks_45 hl.1 rfl rfl (zroom (Nat.le_of_ble_eq_true rfl)) (fun x107 h108 H locs cells slots C9 S9 hf hq hn => ?_)
      refine zr_gIN hc hn (ci := 10) rfl rfl in_X12 3 (by decide) q1373 (fun _ h => h) (fun _ _ _ => rfl) hf dX1_meanLooks_48 (fun x109 hf => ?_)
      refine lv_iadd hx hb dX1_meanLooks_51 ?_
      refine zr_nmI hf (fun x110 hf => ?_)
      refine lv_istore_n (i := 3) (lv' := [(3, .int x110), (2, .ref a2), (4, .ref a101)]) hx hb dX1_meanLooks_52 rfl hl (by decide) rfl (fun ls hl => ?_)
      refine lv_aload (x := a101) hx hb dX1_meanLooks_53 (lv_at hl 2 rfl) ?_
      refine lv_iconst (v := (1 : Int32)) hx hb dX1_meanLooks_55 (by decide) ?_
      refine zr_cVP (As := [.int (1 : Int32)]) (rest := []) hc hn hq (ci := 7) rfl ⟨rfl, hd_X8_next⟩ (lw_V q1312 q905 q906 q116 q907) (Nat.le_of_ble_eq_true rfl) (Nat.le_of_ble_eq_true rfl) (fun _ _ _ _ q => m_X8_next l D dA b0 gs h108 a101 (1 : Int32) q) hf dX1_meanLooks_56 hl.1 rfl rfl (zroom (Nat.le_of_ble_eq_true rfl)) (fun x111 h112 H locs cells slots C9 S9 hf hq hn => ?_)
      refine zr_astore (x := x111) (lv' := [(4, va_rf x111), (3, .int x110), (2, .ref a2)]) hx hb dX1_meanLooks_59 hl (by decide) rfl (fun ls hl => ?_)
      refine lv_goto (tgt := 33) hx hb dX1_meanLooks_61 (by decide) ?_
      exact ih h112 a2 x110 x111 _ _ _ _ _ _ hf hq hn _ (lv_sub hl [2, 1, 0] rfl)
set_option maxHeartbeats 4000000 in
set_option maxRecDepth 100000 in
theorem m_X1_meanLooks_b18 {p : Program} {l : Launch} {e : Env} {s : State} {m : MethodId} {args : Array Value} {below : List Frame} {meth : Method} {c : Code} {D : va_G} {dA : Nat → ClassId} {b0 : Nat} {gs : Nat → Option Nat} (hc : zC D dA b0 gs yX1_meanLooks.cls cX1_meanLooks 5 p c s m args meth) (hr : meth.sig.returnType = (some .double)) (hin : meth.name = yX1_meanLooks.name) {r : (ZX UInt64)} {hh : PH} {mc ms : Nat} (hl0 : l.stackTraces = false) (ht : ∀ x ∈ c.exceptionTable.toList, False) : ∀ (h : PH) (a2 : Nat) (s0 : Int32) (C9 S9 : Nat) (H : Heap) (locs : List Loc) (cells slots : Nat), f_X1_meanLooks_b18 h a2 s0 = some (r, hh, C9, S9) → cells + C9 = mc ∧ slots + S9 = ms → zM D dA b0 gs s h H locs → ∀ ls : Array Slot, lv_has ls 5 [(2, .ref a2)] → W p l e ({ frames := 8, cells := mc, slots := ms, locals := 161 } : Room) s m args below meth c H locs cells slots (vx_MQ below (zQX D dA b0 gs evD r hh) (zXC D dA b0 gs r hh) args s mc ms (zA b0)) (F0 m 18 ls [.int s0]) := by
  have hx := hc.x
  have hb := hc.b
  intro h a2 s0 C9 S9 H locs cells slots hf hq hn ls hl
  unfold f_X1_meanLooks_b18 at hf
  refine zx_SU (As := [.int s0]) (rest := []) hc hn hq (fun x hx => (ht x hx).elim) hd_X1_checkElement (lw_S q1261 q1262 q84 q1263) (Nat.le_of_ble_eq_true rfl) (Nat.le_of_ble_eq_true rfl) (fun _ _ _ _ q => m_X1_checkElement l hl0 D dA b0 gs h s0 q) hf dX1_meanLooks_18 hl.1 rfl rfl (zroom (Nat.le_of_ble_eq_true rfl)) (fun x101 h102 H locs cells slots C9 S9 hf hq hn => ?_)
  refine lv_iconst (v := (0 : Int32)) hx hb dX1_meanLooks_21 (by decide) ?_
  refine lv_istore_n (i := 3) (lv' := [(3, .int (0 : Int32)), (2, .ref a2)]) hx hb dX1_meanLooks_22 rfl hl (by decide) rfl (fun ls hl => ?_)
  refine lv_aload_n (x := a2) hx hb dX1_meanLooks_23 rfl (lv_at hl 1 rfl) ?_
  refine zr_gPN hc hn (ci := 6) rfl rfl in_X7 1 (by decide) q873 (fun _ h => h) (fun _ _ _ => rfl) hf dX1_meanLooks_24 (fun x103 hf => ?_)
  refine lv_iconst (v := (1 : Int32)) hx hb dX1_meanLooks_27 (by decide) ?_
  obtain ⟨a104, e9, hf9⟩ := znn_i hf
  subst e9
  have hf := hf9
  clear hf9
  refine zr_cVP (As := [.int (1 : Int32)]) (rest := []) hc hn hq (ci := 7) rfl ⟨rfl, hd_X8_next⟩ (lw_V q1312 q905 q906 q116 q907) (Nat.le_of_ble_eq_true rfl) (Nat.le_of_ble_eq_true rfl) (fun _ _ _ _ q => m_X8_next l D dA b0 gs h102 a104 (1 : Int32) q) hf dX1_meanLooks_28 hl.1 rfl rfl (zroom (Nat.le_of_ble_eq_true rfl)) (fun x105 h106 H locs cells slots C9 S9 hf hq hn => ?_)
  refine zr_astore (x := x105) (lv' := [(4, va_rf x105), (3, .int (0 : Int32)), (2, .ref a2)]) hx hb dX1_meanLooks_31 hl (by decide) rfl (fun ls hl => ?_)
  exact m_X1_meanLooks_b33 hc hr hin hl0 ht zFU h106 a2 (0 : Int32) x105 _ _ _ _ _ _ hf hq hn _ (lv_sub hl [2, 1, 0] rfl)
set_option maxHeartbeats 4000000 in
set_option maxRecDepth 100000 in
theorem m_X1_meanLooks (l : Launch) (hl0 : l.stackTraces = false) (D : va_G) (dA : Nat → ClassId) (b0 : Nat) (gs : Nat → Option Nat) (h : PH) (a0 : Nat) (v1 : Int32) {r : (ZX UInt64)} {hh : PH} {mc ms : Nat} (hf : f_X1_meanLooks h a0 v1 = some (r, hh, mc, ms)) : zMx l D dA b0 gs yX1_meanLooks (ws_ yX1_meanLooks cX1_meanLooks 5 (some .double)) 8 161 [.ref a0, .int v1] h evD r hh mc ms := by
  unfold f_X1_meanLooks at hf
  refine zMx.of (by decide) (Nat.le_of_ble_eq_true rfl) ?_
  intro p e s m args below meth c hc hr hin ht hn ls hl
  have hl : lv_has ls 5 [(0, .ref a0), (1, .int v1)] := hl
  have hq : 0 + mc = mc ∧ 0 + ms = ms := ⟨Nat.zero_add _, Nat.zero_add _⟩
  have hx := hc.x
  have hb := hc.b
  refine lv_aload_n (x := a0) hx hb dX1_meanLooks_0 rfl (lv_at hl 0 rfl) ?_
  refine lv_iload_n hx hb dX1_meanLooks_1 rfl (lv_at hl 1 rfl) ?_
  refine zx_VP (As := [.int v1]) (rest := []) hc hn hq (fun x hx => (ht x hx).elim) (ci := 0) rfl ⟨rfl, hd_X1_at⟩ (lw_V q1170 q1172 qs15 q84 q1173) (Nat.le_of_ble_eq_true rfl) (Nat.le_of_ble_eq_true rfl) (fun _ _ _ _ q => m_X1_at l hl0 D dA b0 gs h a0 v1 q) hf dX1_meanLooks_2 hl.1 rfl rfl (zroom (Nat.le_of_ble_eq_true rfl)) (fun x101 h102 H locs cells slots C9 S9 hf hq hn => ?_)
  refine zr_astore_n (x := x101) (i := 2) (lv' := [(2, va_rf x101), (0, .ref a0), (1, .int v1)]) hx hb dX1_meanLooks_5 rfl hl (by decide) rfl (fun ls hl => ?_)
  refine zr_aload_n (x := x101) hx hb dX1_meanLooks_6 rfl (lv_at hl 0 rfl) ?_
  obtain ⟨a103, e9, hf9⟩ := znn_i hf
  subst e9
  have hf := hf9
  clear hf9
  refine zr_gIN hc hn (ci := 6) rfl rfl in_X7 3 (by decide) q877 (fun _ h => h) (fun _ _ _ => rfl) hf dX1_meanLooks_7 (fun x104 hf => ?_)
  refine lv_if_le (tgt := 17) hx hb dX1_meanLooks_10 (by decide) (fun c9 => ?_) (fun c9 => ?_)
  · have hf := zif_t c9 hf
    refine lv_iconst (v := (0 : Int32)) hx hb dX1_meanLooks_17 (by decide) ?_
    exact m_X1_meanLooks_b18 hc hr hin hl0 ht h102 a103 (0 : Int32) _ _ _ _ _ _ hf hq hn _ (lv_sub hl [0] rfl)
  · have hf := zif_f c9 hf
    refine lv_iconst (v := (1 : Int32)) hx hb dX1_meanLooks_13 (by decide) ?_
    refine lv_goto (tgt := 18) hx hb dX1_meanLooks_14 (by decide) ?_
    exact m_X1_meanLooks_b18 hc hr hin hl0 ht h102 a103 (1 : Int32) _ _ _ _ _ _ hf hq hn _ (lv_sub hl [0] rfl)
theorem hd_X1_checkInsert : yX1_checkInsert.cls ≠ "java/lang/invoke/MethodHandle" ∧ yX1_checkInsert.cls ≠ "java/lang/invoke/VarHandle" ∧ (parseMethodDescriptor yX1_checkInsert.desc).map (fun d => d.parameters.length) = some 2 := by decide +kernel
def f_X1_checkInsert (h : PH) (a0 : Nat) (a1 : Nat) (v2 : Int32) : ZR (ZX Unit) :=
  zgI h a1 6 3 fun x101 =>
  if (60 : Int32) ≤ x101 then
    (zcx (f_X1_checkState h (0 : Int32)) fun _ h103 =>
    zret (.inl ()) h103)
  else
    (zrc h a1 6 <| zcl (f_X7_find h a1 v2) fun x104 h105 =>
    znn x104 fun a106 =>
    zrc h105 a106 16 <| zcl (f_J24_isPresent h105 a106) fun x107 h108 =>
    if x107 = 0 then
      (zcx (f_X1_checkState h108 (1 : Int32)) fun _ h112 =>
      zret (.inl ()) h112)
    else
      (zcx (f_X1_checkState h108 (0 : Int32)) fun _ h110 =>
      zret (.inl ()) h110))
set_option maxHeartbeats 4000000 in
set_option maxRecDepth 100000 in
theorem m_X1_checkInsert (l : Launch) (hl0 : l.stackTraces = false) (D : va_G) (dA : Nat → ClassId) (b0 : Nat) (gs : Nat → Option Nat) (h : PH) (a0 : Nat) (a1 : Nat) (v2 : Int32) {r : (ZX Unit)} {hh : PH} {mc ms : Nat} (hf : f_X1_checkInsert h a0 a1 v2 = some (r, hh, mc, ms)) : zMx l D dA b0 gs yX1_checkInsert (ws_ yX1_checkInsert cX1_checkInsert 3 none) 7 140 [.ref a0, .ref a1, .int v2] h evU r hh mc ms := by
  unfold f_X1_checkInsert at hf
  refine zMx.of (by decide) (Nat.le_of_ble_eq_true rfl) ?_
  intro p e s m args below meth c hc hr hin ht hn ls hl
  have hl : lv_has ls 3 [(0, .ref a0), (1, .ref a1), (2, .int v2)] := hl
  have hq : 0 + mc = mc ∧ 0 + ms = ms := ⟨Nat.zero_add _, Nat.zero_add _⟩
  have hx := hc.x
  have hb := hc.b
  refine lv_aload_n (x := a1) hx hb dX1_checkInsert_0 rfl (lv_at hl 1 rfl) ?_
  refine zr_gIN hc hn (ci := 6) rfl rfl in_X7 3 (by decide) q877 (fun _ h => h) (fun _ _ _ => rfl) hf dX1_checkInsert_1 (fun x101 hf => ?_)
  refine lv_bipush (v := (60 : Int32)) hx hb dX1_checkInsert_4 (by decide) ?_
  refine lv_icmp_ge (tgt := 24) hx hb dX1_checkInsert_6 (by decide) (fun c9 => ?_) (fun c9 => ?_)
  · have hf := zif_t c9 hf
    refine lv_iconst (v := (0 : Int32)) hx hb dX1_checkInsert_24 (by decide) ?_
    refine zx_SU (As := [.int (0 : Int32)]) (rest := []) hc hn hq (fun x hx => (ht x hx).elim) hd_X1_checkState (lw_S q286 q287 q84 q288) (Nat.le_of_ble_eq_true rfl) (Nat.le_of_ble_eq_true rfl) (fun _ _ _ _ q => m_X1_checkState l hl0 D dA b0 gs h (0 : Int32) q) hf dX1_checkInsert_25 hl.1 rfl rfl (zroom (Nat.le_of_ble_eq_true rfl)) (fun x102 h103 H locs cells slots C9 S9 hf hq hn => ?_)
    obtain ⟨rfl, rfl, rfl, rfl⟩ := zretx_i hf
    exact zx_ret (zr_vret hc hn hr hq (fun _ _ _ _ q => ⟨_, rfl, q⟩) dX1_checkInsert_28)
  · have hf := zif_f c9 hf
    refine lv_aload_n (x := a1) hx hb dX1_checkInsert_9 rfl (lv_at hl 1 rfl) ?_
    refine lv_iload_n hx hb dX1_checkInsert_10 rfl (lv_at hl 2 rfl) ?_
    refine zr_cVP (As := [.int v2]) (rest := []) hc hn hq (ci := 6) rfl ⟨rfl, hd_X7_find⟩ (lw_V q1232 q1233 q1234 q115 q1235) (Nat.le_of_ble_eq_true rfl) (Nat.le_of_ble_eq_true rfl) (fun _ _ _ _ q => m_X7_find l D dA b0 gs h a1 v2 q) hf dX1_checkInsert_11 hl.1 rfl rfl (zroom (Nat.le_of_ble_eq_true rfl)) (fun x104 h105 H locs cells slots C9 S9 hf hq hn => ?_)
    obtain ⟨a106, e9, hf9⟩ := znn_i hf
    subst e9
    have hf := hf9
    clear hf9
    refine zr_cVI (As := []) (rest := []) hc hn hq (ci := 16) rfl ⟨rfl, hd_J24_isPresent⟩ (lw_V q1257 q1258 q1259 q122 q1260) (Nat.le_of_ble_eq_true rfl) (Nat.le_of_ble_eq_true rfl) (fun _ _ _ _ q => m_J24_isPresent l D dA b0 gs h105 a106 q) hf dX1_checkInsert_14 hl.1 rfl rfl (zroom (Nat.le_of_ble_eq_true rfl)) (fun x107 h108 H locs cells slots C9 S9 hf hq hn => ?_)
    refine lv_if_ne (tgt := 24) hx hb dX1_checkInsert_17 (by decide) (fun c9 => ?_) (fun c9 => ?_)
    · have hf := zif_f c9 hf
      refine lv_iconst (v := (0 : Int32)) hx hb dX1_checkInsert_24 (by decide) ?_
      refine zx_SU (As := [.int (0 : Int32)]) (rest := []) hc hn hq (fun x hx => (ht x hx).elim) hd_X1_checkState (lw_S q286 q287 q84 q288) (Nat.le_of_ble_eq_true rfl) (Nat.le_of_ble_eq_true rfl) (fun _ _ _ _ q => m_X1_checkState l hl0 D dA b0 gs h108 (0 : Int32) q) hf dX1_checkInsert_25 hl.1 rfl rfl (zroom (Nat.le_of_ble_eq_true rfl)) (fun x109 h110 H locs cells slots C9 S9 hf hq hn => ?_)
      obtain ⟨rfl, rfl, rfl, rfl⟩ := zretx_i hf
      exact zx_ret (zr_vret hc hn hr hq (fun _ _ _ _ q => ⟨_, rfl, q⟩) dX1_checkInsert_28)
    · have hf := zif_t c9 hf
      refine lv_iconst (v := (1 : Int32)) hx hb dX1_checkInsert_20 (by decide) ?_
      refine lv_goto (tgt := 25) hx hb dX1_checkInsert_21 (by decide) ?_
      refine zx_SU (As := [.int (1 : Int32)]) (rest := []) hc hn hq (fun x hx => (ht x hx).elim) hd_X1_checkState (lw_S q286 q287 q84 q288) (Nat.le_of_ble_eq_true rfl) (Nat.le_of_ble_eq_true rfl) (fun _ _ _ _ q => m_X1_checkState l hl0 D dA b0 gs h108 (1 : Int32) q) hf dX1_checkInsert_25 hl.1 rfl rfl (zroom (Nat.le_of_ble_eq_true rfl)) (fun x111 h112 H locs cells slots C9 S9 hf hq hn => ?_)
      obtain ⟨rfl, rfl, rfl, rfl⟩ := zretx_i hf
      exact zx_ret (zr_vret hc hn hr hq (fun _ _ _ _ q => ⟨_, rfl, q⟩) dX1_checkInsert_28)
theorem hd_X1_keyOf : yX1_keyOf.cls ≠ "java/lang/invoke/MethodHandle" ∧ yX1_keyOf.cls ≠ "java/lang/invoke/VarHandle" ∧ (parseMethodDescriptor yX1_keyOf.desc).map (fun d => d.parameters.length) = some 2 := by decide +kernel
def f_X1_keyOf (h : PH) (a0 : Nat) (a1 : Nat) (v2 : Int32) : ZR Int32 :=
  zna h 0 (1 : Int32) fun a101 h102 =>
  zrc h102 a1 6 <| zcl (f_X7_select h102 a1 v2 a101) fun x103 h104 =>
  znn x103 fun a105 =>
  zgI h104 a105 7 0 fun x106 =>
  zret x106 h104
set_option maxHeartbeats 4000000 in
set_option maxRecDepth 100000 in
theorem m_X1_keyOf (l : Launch) (D : va_G) (dA : Nat → ClassId) (b0 : Nat) (gs : Nat → Option Nat) (h : PH) (a0 : Nat) (a1 : Nat) (v2 : Int32) {r : Int32} {hh : PH} {mc ms : Nat} (hf : f_X1_keyOf h a0 a1 v2 = some (r, hh, mc, ms)) : zMt l D dA b0 gs yX1_keyOf cX1_keyOf 3 (some .int) 4 127 [.ref a0, .ref a1, .int v2] h (evI r) hh mc ms := by
  unfold f_X1_keyOf at hf
  refine zMt.of (by decide) (Nat.le_of_ble_eq_true rfl) ?_
  intro p e s m args below meth c hc hr hin hn ls hl
  have hl : lv_has ls 3 [(0, .ref a0), (1, .ref a1), (2, .int v2)] := hl
  have hq : 0 + mc = mc ∧ 0 + ms = ms := ⟨Nat.zero_add _, Nat.zero_add _⟩
  have hx := hc.x
  have hb := hc.b
  refine lv_aload_n (x := a1) hx hb dX1_keyOf_0 rfl (lv_at hl 1 rfl) ?_
  refine lv_iload_n hx hb dX1_keyOf_1 rfl (lv_at hl 2 rfl) ?_
  refine lv_iconst (v := (1 : Int32)) hx hb dX1_keyOf_2 (by decide) ?_
  refine zr_na0 hc hn hq q180 hf dX1_keyOf_3 (fun a101 h102 H cells slots C9 S9 hf hq hn => ?_)
  refine zr_cVP (As := [.int v2, .ref a101]) (rest := []) hc hn hq (ci := 6) rfl ⟨rfl, hd_X7_select⟩ (lw_V q1194 q1195 q1196 q115 q1197) (Nat.le_of_ble_eq_true rfl) (Nat.le_of_ble_eq_true rfl) (fun _ _ _ _ q => m_X7_select l D dA b0 gs h102 a1 v2 a101 q) hf dX1_keyOf_5 hl.1 rfl rfl (zroom (Nat.le_of_ble_eq_true rfl)) (fun x103 h104 H locs cells slots C9 S9 hf hq hn => ?_)
  obtain ⟨a105, e9, hf9⟩ := znn_i hf
  subst e9
  have hf := hf9
  clear hf9
  refine zr_gIN hc hn (ci := 7) rfl rfl in_X8 0 (by decide) q835 (fun _ h => h) (fun _ _ _ => rfl) hf dX1_keyOf_8 (fun x106 hf => ?_)
  obtain ⟨rfl, rfl, rfl, rfl⟩ := zret_i hf
  exact zr_iret hc hn hr hq (fun _ _ _ _ q => q) dX1_keyOf_11
theorem hd_X1_whyNotJoin : yX1_whyNotJoin.cls ≠ "java/lang/invoke/MethodHandle" ∧ yX1_whyNotJoin.cls ≠ "java/lang/invoke/VarHandle" ∧ (parseMethodDescriptor yX1_whyNotJoin.desc).map (fun d => d.parameters.length) = some 2 := by decide +kernel
def f_X1_whyNotJoin (h : PH) (a0 : Nat) (v1 : Int32) (v2 : Int32) : ZR (ZX Int32) :=
  zrc h a0 0 <| zcx (f_X1_at h a0 v1) fun x101 h102 =>
  zrc h102 a0 0 <| zcx (f_X1_at h102 a0 v2) fun x103 h104 =>
  if x101 = x103 then
    (zret (.inl (1 : Int32)) h104)
  else
    (znn x101 fun a105 =>
    zgI h104 a105 6 3 fun x106 =>
    znn x103 fun a107 =>
    zgI h104 a107 6 3 fun x108 =>
    znm (x106 + x108) fun x109 =>
    if x109 ≤ (60 : Int32) then
      (zgI h104 a105 6 3 fun x110 =>
      if x110 ≤ 0 then
        (zret (.inl (0 : Int32)) h104)
      else
        (zgI h104 a107 6 3 fun x111 =>
        if x111 ≤ 0 then
          (zret (.inl (0 : Int32)) h104)
        else
          (zgI h104 a105 6 3 fun x112 =>
          znm (x112 - (1 : Int32)) fun x113 =>
          zrc h104 a0 0 <| zcl (f_X1_keyOf h104 a0 a105 x113) fun x114 h115 =>
          zrc h115 a0 0 <| zcl (f_X1_keyOf h115 a0 a107 (0 : Int32)) fun x116 h117 =>
          if x114 < x116 then
            (zret (.inl (0 : Int32)) h117)
          else
            (zret (.inl (3 : Int32)) h117))))
    else
      (zret (.inl (2 : Int32)) h104))
set_option maxHeartbeats 4000000 in
set_option maxRecDepth 100000 in
theorem m_X1_whyNotJoin (l : Launch) (hl0 : l.stackTraces = false) (D : va_G) (dA : Nat → ClassId) (b0 : Nat) (gs : Nat → Option Nat) (h : PH) (a0 : Nat) (v1 : Int32) (v2 : Int32) {r : (ZX Int32)} {hh : PH} {mc ms : Nat} (hf : f_X1_whyNotJoin h a0 v1 v2 = some (r, hh, mc, ms)) : zMx l D dA b0 gs yX1_whyNotJoin (ws_ yX1_whyNotJoin cX1_whyNotJoin 5 (some .int)) 8 161 [.ref a0, .int v1, .int v2] h evI r hh mc ms := by
  unfold f_X1_whyNotJoin at hf
  refine zMx.of (by decide) (Nat.le_of_ble_eq_true rfl) ?_
  intro p e s m args below meth c hc hr hin ht hn ls hl
  have hl : lv_has ls 5 [(0, .ref a0), (1, .int v1), (2, .int v2)] := hl
  have hq : 0 + mc = mc ∧ 0 + ms = ms := ⟨Nat.zero_add _, Nat.zero_add _⟩
  have hx := hc.x
  have hb := hc.b
  refine lv_aload_n (x := a0) hx hb dX1_whyNotJoin_0 rfl (lv_at hl 0 rfl) ?_
  refine lv_iload_n hx hb dX1_whyNotJoin_1 rfl (lv_at hl 1 rfl) ?_
  refine zx_VP (As := [.int v1]) (rest := []) hc hn hq (fun x hx => (ht x hx).elim) (ci := 0) rfl ⟨rfl, hd_X1_at⟩ (lw_V q1170 q1172 qs15 q84 q1173) (Nat.le_of_ble_eq_true rfl) (Nat.le_of_ble_eq_true rfl) (fun _ _ _ _ q => m_X1_at l hl0 D dA b0 gs h a0 v1 q) hf dX1_whyNotJoin_2 hl.1 rfl rfl (zroom (Nat.le_of_ble_eq_true rfl)) (fun x101 h102 H locs cells slots C9 S9 hf hq hn => ?_)
  refine zr_astore_n (x := x101) (i := 3) (lv' := [(3, va_rf x101), (0, .ref a0), (1, .int v1), (2, .int v2)]) hx hb dX1_whyNotJoin_5 rfl hl (by decide) rfl (fun ls hl => ?_)
  refine lv_aload_n (x := a0) hx hb dX1_whyNotJoin_6 rfl (lv_at hl 1 rfl) ?_
  refine lv_iload_n hx hb dX1_whyNotJoin_7 rfl (lv_at hl 3 rfl) ?_
  refine zx_VP (As := [.int v2]) (rest := []) hc hn hq (fun x hx => (ht x hx).elim) (ci := 0) rfl ⟨rfl, hd_X1_at⟩ (lw_V q1170 q1172 qs15 q84 q1173) (Nat.le_of_ble_eq_true rfl) (Nat.le_of_ble_eq_true rfl) (fun _ _ _ _ q => m_X1_at l hl0 D dA b0 gs h102 a0 v2 q) hf dX1_whyNotJoin_8 hl.1 rfl rfl (zroom (Nat.le_of_ble_eq_true rfl)) (fun x103 h104 H locs cells slots C9 S9 hf hq hn => ?_)
  refine zr_astore (x := x103) (lv' := [(4, va_rf x103), (3, va_rf x101), (0, .ref a0), (1, .int v1), (2, .int v2)]) hx hb dX1_whyNotJoin_11 hl (by decide) (by simp [zcat_rf, zcat_i, zcat_l, zcat_d, zcat_r, zcat_n] <;> rfl) (fun ls hl => ?_)
  refine zr_aload_n (x := x101) hx hb dX1_whyNotJoin_13 rfl (lv_at hl 1 rfl) ?_
  refine zr_aload (x := x103) hx hb dX1_whyNotJoin_14 (lv_at hl 0 rfl) ?_
  refine lv_acmp_ne (rx := x101) (ry := x103) (tgt := 21) hx hb dX1_whyNotJoin_16 (by decide) (fun c9 => ?_) (fun c9 => ?_)
  · have hf := zif_f c9 hf
    refine zr_aload_n (x := x101) hx hb dX1_whyNotJoin_21 rfl (lv_at hl 1 rfl) ?_
    obtain ⟨a105, e9, hf9⟩ := znn_i hf
    subst e9
    have hf := hf9
    clear hf9
    refine zr_gIN hc hn (ci := 6) rfl rfl in_X7 3 (by decide) q877 (fun _ h => h) (fun _ _ _ => rfl) hf dX1_whyNotJoin_22 (fun x106 hf => ?_)
    refine zr_aload (x := x103) hx hb dX1_whyNotJoin_25 (lv_at hl 0 rfl) ?_
    obtain ⟨a107, e9, hf9⟩ := znn_i hf
    subst e9
    have hf := hf9
    clear hf9
    refine zr_gIN hc hn (ci := 6) rfl rfl in_X7 3 (by decide) q877 (fun _ h => h) (fun _ _ _ => rfl) hf dX1_whyNotJoin_27 (fun x108 hf => ?_)
    refine lv_iadd hx hb dX1_whyNotJoin_30 ?_
    refine zr_nmI hf (fun x109 hf => ?_)
    refine lv_bipush (v := (60 : Int32)) hx hb dX1_whyNotJoin_31 (by decide) ?_
    refine lv_icmp_le (tgt := 38) hx hb dX1_whyNotJoin_33 (by decide) (fun c9 => ?_) (fun c9 => ?_)
    · have hf := zif_t c9 hf
      refine lv_aload_n (x := a105) hx hb dX1_whyNotJoin_38 rfl (lv_at hl 1 rfl) ?_
      refine zr_gIN hc hn (ci := 6) rfl rfl in_X7 3 (by decide) q877 (fun _ h => h) (fun _ _ _ => rfl) hf dX1_whyNotJoin_39 (fun x110 hf => ?_)
      refine lv_if_le (tgt := 78) hx hb dX1_whyNotJoin_42 (by decide) (fun c9 => ?_) (fun c9 => ?_)
      · have hf := zif_t c9 hf
        refine lv_iconst (v := (0 : Int32)) hx hb dX1_whyNotJoin_78 (by decide) ?_
        obtain ⟨rfl, rfl, rfl, rfl⟩ := zretx_i hf
        exact zx_ret (zr_iret hc hn hr hq (fun _ _ _ _ q => ⟨_, rfl, q⟩) dX1_whyNotJoin_79)
      · have hf := zif_f c9 hf
        refine lv_aload (x := a107) hx hb dX1_whyNotJoin_45 (lv_at hl 0 rfl) ?_
        refine zr_gIN hc hn (ci := 6) rfl rfl in_X7 3 (by decide) q877 (fun _ h => h) (fun _ _ _ => rfl) hf dX1_whyNotJoin_47 (fun x111 hf => ?_)
        refine lv_if_le (tgt := 78) hx hb dX1_whyNotJoin_50 (by decide) (fun c9 => ?_) (fun c9 => ?_)
        · have hf := zif_t c9 hf
          refine lv_iconst (v := (0 : Int32)) hx hb dX1_whyNotJoin_78 (by decide) ?_
          obtain ⟨rfl, rfl, rfl, rfl⟩ := zretx_i hf
          exact zx_ret (zr_iret hc hn hr hq (fun _ _ _ _ q => ⟨_, rfl, q⟩) dX1_whyNotJoin_79)
        · have hf := zif_f c9 hf
          refine lv_aload_n (x := a0) hx hb dX1_whyNotJoin_53 rfl (lv_at hl 2 rfl) ?_
          refine lv_aload_n (x := a105) hx hb dX1_whyNotJoin_54 rfl (lv_at hl 1 rfl) ?_
          refine lv_aload_n (x := a105) hx hb dX1_whyNotJoin_55 rfl (lv_at hl 1 rfl) ?_
          refine zr_gIN hc hn (ci := 6) rfl rfl in_X7 3 (by decide) q877 (fun _ h => h) (fun _ _ _ => rfl) hf dX1_whyNotJoin_56 (fun x112 hf => ?_)
          refine lv_iconst (v := (1 : Int32)) hx hb dX1_whyNotJoin_59 (by decide) ?_
          refine lv_isub hx hb dX1_whyNotJoin_60 ?_
          refine zr_nmI hf (fun x113 hf => ?_)
          refine zr_cVI (As := [.ref a105, .int x113]) (rest := []) hc hn hq (ci := 0) rfl ⟨rfl, hd_X1_keyOf⟩ (lw_V q1791 q1793 qs23 q84 q1794) (Nat.le_of_ble_eq_true rfl) (Nat.le_of_ble_eq_true rfl) (fun _ _ _ _ q => m_X1_keyOf l D dA b0 gs h104 a0 a105 x113 q) hf dX1_whyNotJoin_61 hl.1 rfl rfl (zroom (Nat.le_of_ble_eq_true rfl)) (fun x114 h115 H locs cells slots C9 S9 hf hq hn => ?_)
          refine lv_aload_n (x := a0) hx hb dX1_whyNotJoin_64 rfl (lv_at hl 2 rfl) ?_
          refine lv_aload (x := a107) hx hb dX1_whyNotJoin_65 (lv_at hl 0 rfl) ?_
          refine lv_iconst (v := (0 : Int32)) hx hb dX1_whyNotJoin_67 (by decide) ?_
          refine zr_cVI (As := [.ref a107, .int (0 : Int32)]) (rest := [.int x114]) hc hn hq (ci := 0) rfl ⟨rfl, hd_X1_keyOf⟩ (lw_V q1791 q1793 qs23 q84 q1794) (Nat.le_of_ble_eq_true rfl) (Nat.le_of_ble_eq_true rfl) (fun _ _ _ _ q => m_X1_keyOf l D dA b0 gs h115 a0 a107 (0 : Int32) q) hf dX1_whyNotJoin_68 hl.1 rfl rfl (zroom (Nat.le_of_ble_eq_true rfl)) (fun x116 h117 H locs cells slots C9 S9 hf hq hn => ?_)
          refine lv_icmp_lt (tgt := 78) hx hb dX1_whyNotJoin_71 (by decide) (fun c9 => ?_) (fun c9 => ?_)
          · have hf := zif_t c9 hf
            refine lv_iconst (v := (0 : Int32)) hx hb dX1_whyNotJoin_78 (by decide) ?_
            obtain ⟨rfl, rfl, rfl, rfl⟩ := zretx_i hf
            exact zx_ret (zr_iret hc hn hr hq (fun _ _ _ _ q => ⟨_, rfl, q⟩) dX1_whyNotJoin_79)
          · have hf := zif_f c9 hf
            refine lv_iconst (v := (3 : Int32)) hx hb dX1_whyNotJoin_74 (by decide) ?_
            refine lv_goto (tgt := 79) hx hb dX1_whyNotJoin_75 (by decide) ?_
            obtain ⟨rfl, rfl, rfl, rfl⟩ := zretx_i hf
            exact zx_ret (zr_iret hc hn hr hq (fun _ _ _ _ q => ⟨_, rfl, q⟩) dX1_whyNotJoin_79)
    · have hf := zif_f c9 hf
      refine lv_iconst (v := (2 : Int32)) hx hb dX1_whyNotJoin_36 (by decide) ?_
      obtain ⟨rfl, rfl, rfl, rfl⟩ := zretx_i hf
      exact zx_ret (zr_iret hc hn hr hq (fun _ _ _ _ q => ⟨_, rfl, q⟩) dX1_whyNotJoin_37)
  · have hf := zif_t c9 hf
    refine lv_iconst (v := (1 : Int32)) hx hb dX1_whyNotJoin_19 (by decide) ?_
    obtain ⟨rfl, rfl, rfl, rfl⟩ := zretx_i hf
    exact zx_ret (zr_iret hc hn hr hq (fun _ _ _ _ q => ⟨_, rfl, q⟩) dX1_whyNotJoin_20)
theorem hd_X1_whyNotAbsorb : yX1_whyNotAbsorb.cls ≠ "java/lang/invoke/MethodHandle" ∧ yX1_whyNotAbsorb.cls ≠ "java/lang/invoke/VarHandle" ∧ (parseMethodDescriptor yX1_whyNotAbsorb.desc).map (fun d => d.parameters.length) = some 2 := by decide +kernel
def f_X1_whyNotAbsorb_b49 : Nat → PH → Nat → Option Nat → ZR (ZX Int32)
  | 0 => fun _ _ _ => none
  | n + 1 => fun h a3 o5 =>
    znul o5
      (zret (.inl (0 : Int32)) h)
      (fun a101 =>
        zgI h a101 7 0 fun x102 =>
        zrc h a3 6 <| zcl (f_X7_find h a3 x102) fun x103 h104 =>
        znn x103 fun a105 =>
        zrc h104 a105 16 <| zcl (f_J24_isPresent h104 a105) fun x106 h107 =>
        if x106 = 0 then
          (zrc h107 a101 7 <| zcl (f_X8_next h107 a101 (1 : Int32)) fun x108 h109 =>
          f_X1_whyNotAbsorb_b49 n h109 a3 x108)
        else
          (zret (.inl (3 : Int32)) h107))
def f_X1_whyNotAbsorb (h : PH) (a0 : Nat) (v1 : Int32) (v2 : Int32) : ZR (ZX Int32) :=
  zrc h a0 0 <| zcx (f_X1_at h a0 v1) fun x101 h102 =>
  zrc h102 a0 0 <| zcx (f_X1_at h102 a0 v2) fun x103 h104 =>
  if x101 = x103 then
    (zret (.inl (1 : Int32)) h104)
  else
    (znn x101 fun a105 =>
    zgI h104 a105 6 3 fun x106 =>
    znn x103 fun a107 =>
    zgI h104 a107 6 3 fun x108 =>
    znm (x106 + x108) fun x109 =>
    if x109 ≤ (60 : Int32) then
      (zgP h104 a107 6 1 fun x110 =>
      znn x110 fun a111 =>
      zrc h104 a111 7 <| zcl (f_X8_next h104 a111 (1 : Int32)) fun x112 h113 =>
      f_X1_whyNotAbsorb_b49 zFU h113 a105 x112)
    else
      (zret (.inl (2 : Int32)) h104))
set_option maxHeartbeats 4000000 in
set_option maxRecDepth 100000 in
theorem m_X1_whyNotAbsorb_b49 {p : Program} {l : Launch} {e : Env} {s : State} {m : MethodId} {args : Array Value} {below : List Frame} {meth : Method} {c : Code} {D : va_G} {dA : Nat → ClassId} {b0 : Nat} {gs : Nat → Option Nat} (hc : zC D dA b0 gs yX1_whyNotAbsorb.cls cX1_whyNotAbsorb 6 p c s m args meth) (hr : meth.sig.returnType = (some .int)) (hin : meth.name = yX1_whyNotAbsorb.name) {r : (ZX Int32)} {hh : PH} {mc ms : Nat} (hl0 : l.stackTraces = false) (ht : ∀ x ∈ c.exceptionTable.toList, False) : ∀ (n : Nat) (h : PH) (a3 : Nat) (o5 : Option Nat) (C9 S9 : Nat) (H : Heap) (locs : List Loc) (cells slots : Nat), f_X1_whyNotAbsorb_b49 n h a3 o5 = some (r, hh, C9, S9) → cells + C9 = mc ∧ slots + S9 = ms → zM D dA b0 gs s h H locs → ∀ ls : Array Slot, lv_has ls 6 [(3, .ref a3), (5, va_rf o5)] → W p l e ({ frames := 8, cells := mc, slots := ms, locals := 161 } : Room) s m args below meth c H locs cells slots (vx_MQ below (zQX D dA b0 gs evI r hh) (zXC D dA b0 gs r hh) args s mc ms (zA b0)) (F0 m 49 ls []) := by
  have hx := hc.x
  have hb := hc.b
  intro n
  induction n with
  | zero =>
    intro h a3 o5 C9 S9 H locs cells slots hf hq hn ls hl
    cases hf
  | succ n ih =>
    intro h a3 o5 C9 S9 H locs cells slots hf hq hn ls hl
    unfold f_X1_whyNotAbsorb_b49 at hf
    refine zr_aload (x := o5) hx hb dX1_whyNotAbsorb_49 (lv_at hl 1 rfl) ?_
    refine zr_ifnull (tgt := 82) hx hb hf dX1_whyNotAbsorb_51 (by decide) (fun e9 hf9 => ?_) (fun a101 e9 hf9 => ?_)
    · subst e9
      have hf := hf9
      clear hf9
      refine lv_iconst (v := (0 : Int32)) hx hb dX1_whyNotAbsorb_82 (by decide) ?_
      obtain ⟨rfl, rfl, rfl, rfl⟩ := zretx_i hf
      exact zx_ret (zr_iret hc hn hr hq (fun _ _ _ _ q => ⟨_, rfl, q⟩) dX1_whyNotAbsorb_83)
    · subst e9
      have hf := hf9
      clear hf9
      refine lv_aload_n (x := a3) hx hb dX1_whyNotAbsorb_54 rfl (lv_at hl 0 rfl) ?_
      refine lv_aload (x := a101) hx hb dX1_whyNotAbsorb_55 (lv_at hl 1 rfl) ?_
      refine zr_gIN hc hn (ci := 7) rfl rfl in_X8 0 (by decide) q835 (fun _ h => h) (fun _ _ _ => rfl) hf dX1_whyNotAbsorb_57 (fun x102 hf => ?_)
      refine zr_cVP (As := [.int x102]) (rest := []) hc hn hq (ci := 6) rfl ⟨rfl, hd_X7_find⟩ (lw_V q1232 q1233 q1234 q115 q1235) (Nat.le_of_ble_eq_true rfl) (Nat.le_of_ble_eq_true rfl) (fun _ _ _ _ q => m_X7_find l D dA b0 gs h a3 x102 q) hf dX1_whyNotAbsorb_60 hl.1 rfl rfl (zroom (Nat.le_of_ble_eq_true rfl)) (fun x103 h104 H locs cells slots C9 S9 hf hq hn => ?_)
      obtain ⟨a105, e9, hf9⟩ := znn_i hf
      subst e9
      have hf := hf9
      clear hf9
      refine zr_cVI (As := []) (rest := []) hc hn hq (ci := 16) rfl ⟨rfl, hd_J24_isPresent⟩ (lw_V q1257 q1258 q1259 q122 q1260) (Nat.le_of_ble_eq_true rfl) (Nat.le_of_ble_eq_true rfl) (fun _ _ _ _ q => m_J24_isPresent l D dA b0 gs h104 a105 q) hf dX1_whyNotAbsorb_63 hl.1 rfl rfl (zroom (Nat.le_of_ble_eq_true rfl)) (fun x106 h107 H locs cells slots C9 S9 hf hq hn => ?_)
      refine lv_if_eq (tgt := 71) hx hb dX1_whyNotAbsorb_66 (by decide) (fun c9 => ?_) (fun c9 => ?_)
      · have hf := zif_t c9 hf
        refine lv_aload (x := a101) hx hb dX1_whyNotAbsorb_71 (lv_at hl 1 rfl) ?_
        refine lv_iconst (v := (1 : Int32)) hx hb dX1_whyNotAbsorb_73 (by decide) ?_
        refine zr_cVP (As := [.int (1 : Int32)]) (rest := []) hc hn hq (ci := 7) rfl ⟨rfl, hd_X8_next⟩ (lw_V q1312 q905 q906 q116 q907) (Nat.le_of_ble_eq_true rfl) (Nat.le_of_ble_eq_true rfl) (fun _ _ _ _ q => m_X8_next l D dA b0 gs h107 a101 (1 : Int32) q) hf dX1_whyNotAbsorb_74 hl.1 rfl rfl (zroom (Nat.le_of_ble_eq_true rfl)) (fun x108 h109 H locs cells slots C9 S9 hf hq hn => ?_)
        refine zr_astore (x := x108) (lv' := [(5, va_rf x108), (3, .ref a3)]) hx hb dX1_whyNotAbsorb_77 hl (by decide) rfl (fun ls hl => ?_)
        refine lv_goto (tgt := 49) hx hb dX1_whyNotAbsorb_79 (by decide) ?_
        exact ih h109 a3 x108 _ _ _ _ _ _ hf hq hn _ (lv_sub hl [1, 0] rfl)
      · have hf := zif_f c9 hf
        refine lv_iconst (v := (3 : Int32)) hx hb dX1_whyNotAbsorb_69 (by decide) ?_
        obtain ⟨rfl, rfl, rfl, rfl⟩ := zretx_i hf
        exact zx_ret (zr_iret hc hn hr hq (fun _ _ _ _ q => ⟨_, rfl, q⟩) dX1_whyNotAbsorb_70)
set_option maxHeartbeats 4000000 in
set_option maxRecDepth 100000 in
theorem m_X1_whyNotAbsorb (l : Launch) (hl0 : l.stackTraces = false) (D : va_G) (dA : Nat → ClassId) (b0 : Nat) (gs : Nat → Option Nat) (h : PH) (a0 : Nat) (v1 : Int32) (v2 : Int32) {r : (ZX Int32)} {hh : PH} {mc ms : Nat} (hf : f_X1_whyNotAbsorb h a0 v1 v2 = some (r, hh, mc, ms)) : zMx l D dA b0 gs yX1_whyNotAbsorb (ws_ yX1_whyNotAbsorb cX1_whyNotAbsorb 6 (some .int)) 8 161 [.ref a0, .int v1, .int v2] h evI r hh mc ms := by
  unfold f_X1_whyNotAbsorb at hf
  refine zMx.of (by decide) (Nat.le_of_ble_eq_true rfl) ?_
  intro p e s m args below meth c hc hr hin ht hn ls hl
  have hl : lv_has ls 6 [(0, .ref a0), (1, .int v1), (2, .int v2)] := hl
  have hq : 0 + mc = mc ∧ 0 + ms = ms := ⟨Nat.zero_add _, Nat.zero_add _⟩
  have hx := hc.x
  have hb := hc.b
  refine lv_aload_n (x := a0) hx hb dX1_whyNotAbsorb_0 rfl (lv_at hl 0 rfl) ?_
  refine lv_iload_n hx hb dX1_whyNotAbsorb_1 rfl (lv_at hl 1 rfl) ?_
  refine zx_VP (As := [.int v1]) (rest := []) hc hn hq (fun x hx => (ht x hx).elim) (ci := 0) rfl ⟨rfl, hd_X1_at⟩ (lw_V q1170 q1172 qs15 q84 q1173) (Nat.le_of_ble_eq_true rfl) (Nat.le_of_ble_eq_true rfl) (fun _ _ _ _ q => m_X1_at l hl0 D dA b0 gs h a0 v1 q) hf dX1_whyNotAbsorb_2 hl.1 rfl rfl (zroom (Nat.le_of_ble_eq_true rfl)) (fun x101 h102 H locs cells slots C9 S9 hf hq hn => ?_)
  refine zr_astore_n (x := x101) (i := 3) (lv' := [(3, va_rf x101), (0, .ref a0), (1, .int v1), (2, .int v2)]) hx hb dX1_whyNotAbsorb_5 rfl hl (by decide) rfl (fun ls hl => ?_)
  refine lv_aload_n (x := a0) hx hb dX1_whyNotAbsorb_6 rfl (lv_at hl 1 rfl) ?_
  refine lv_iload_n hx hb dX1_whyNotAbsorb_7 rfl (lv_at hl 3 rfl) ?_
  refine zx_VP (As := [.int v2]) (rest := []) hc hn hq (fun x hx => (ht x hx).elim) (ci := 0) rfl ⟨rfl, hd_X1_at⟩ (lw_V q1170 q1172 qs15 q84 q1173) (Nat.le_of_ble_eq_true rfl) (Nat.le_of_ble_eq_true rfl) (fun _ _ _ _ q => m_X1_at l hl0 D dA b0 gs h102 a0 v2 q) hf dX1_whyNotAbsorb_8 hl.1 rfl rfl (zroom (Nat.le_of_ble_eq_true rfl)) (fun x103 h104 H locs cells slots C9 S9 hf hq hn => ?_)
  refine zr_astore (x := x103) (lv' := [(4, va_rf x103), (3, va_rf x101), (0, .ref a0), (1, .int v1), (2, .int v2)]) hx hb dX1_whyNotAbsorb_11 hl (by decide) (by simp [zcat_rf, zcat_i, zcat_l, zcat_d, zcat_r, zcat_n] <;> rfl) (fun ls hl => ?_)
  refine zr_aload_n (x := x101) hx hb dX1_whyNotAbsorb_13 rfl (lv_at hl 1 rfl) ?_
  refine zr_aload (x := x103) hx hb dX1_whyNotAbsorb_14 (lv_at hl 0 rfl) ?_
  refine lv_acmp_ne (rx := x101) (ry := x103) (tgt := 21) hx hb dX1_whyNotAbsorb_16 (by decide) (fun c9 => ?_) (fun c9 => ?_)
  · have hf := zif_f c9 hf
    refine zr_aload_n (x := x101) hx hb dX1_whyNotAbsorb_21 rfl (lv_at hl 1 rfl) ?_
    obtain ⟨a105, e9, hf9⟩ := znn_i hf
    subst e9
    have hf := hf9
    clear hf9
    refine zr_gIN hc hn (ci := 6) rfl rfl in_X7 3 (by decide) q877 (fun _ h => h) (fun _ _ _ => rfl) hf dX1_whyNotAbsorb_22 (fun x106 hf => ?_)
    refine zr_aload (x := x103) hx hb dX1_whyNotAbsorb_25 (lv_at hl 0 rfl) ?_
    obtain ⟨a107, e9, hf9⟩ := znn_i hf
    subst e9
    have hf := hf9
    clear hf9
    refine zr_gIN hc hn (ci := 6) rfl rfl in_X7 3 (by decide) q877 (fun _ h => h) (fun _ _ _ => rfl) hf dX1_whyNotAbsorb_27 (fun x108 hf => ?_)
    refine lv_iadd hx hb dX1_whyNotAbsorb_30 ?_
    refine zr_nmI hf (fun x109 hf => ?_)
    refine lv_bipush (v := (60 : Int32)) hx hb dX1_whyNotAbsorb_31 (by decide) ?_
    refine lv_icmp_le (tgt := 38) hx hb dX1_whyNotAbsorb_33 (by decide) (fun c9 => ?_) (fun c9 => ?_)
    · have hf := zif_t c9 hf
      refine lv_aload (x := a107) hx hb dX1_whyNotAbsorb_38 (lv_at hl 0 rfl) ?_
      refine zr_gPN hc hn (ci := 6) rfl rfl in_X7 1 (by decide) q873 (fun _ h => h) (fun _ _ _ => rfl) hf dX1_whyNotAbsorb_40 (fun x110 hf => ?_)
      refine lv_iconst (v := (1 : Int32)) hx hb dX1_whyNotAbsorb_43 (by decide) ?_
      obtain ⟨a111, e9, hf9⟩ := znn_i hf
      subst e9
      have hf := hf9
      clear hf9
      refine zr_cVP (As := [.int (1 : Int32)]) (rest := []) hc hn hq (ci := 7) rfl ⟨rfl, hd_X8_next⟩ (lw_V q1312 q905 q906 q116 q907) (Nat.le_of_ble_eq_true rfl) (Nat.le_of_ble_eq_true rfl) (fun _ _ _ _ q => m_X8_next l D dA b0 gs h104 a111 (1 : Int32) q) hf dX1_whyNotAbsorb_44 hl.1 rfl rfl (zroom (Nat.le_of_ble_eq_true rfl)) (fun x112 h113 H locs cells slots C9 S9 hf hq hn => ?_)
      refine zr_astore (x := x112) (lv' := [(5, va_rf x112), (4, .ref a107), (3, .ref a105), (0, .ref a0), (1, .int v1), (2, .int v2)]) hx hb dX1_whyNotAbsorb_47 hl (by decide) rfl (fun ls hl => ?_)
      exact m_X1_whyNotAbsorb_b49 hc hr hin hl0 ht zFU h113 a105 x112 _ _ _ _ _ _ hf hq hn _ (lv_sub hl [2, 0] rfl)
    · have hf := zif_f c9 hf
      refine lv_iconst (v := (2 : Int32)) hx hb dX1_whyNotAbsorb_36 (by decide) ?_
      obtain ⟨rfl, rfl, rfl, rfl⟩ := zretx_i hf
      exact zx_ret (zr_iret hc hn hr hq (fun _ _ _ _ q => ⟨_, rfl, q⟩) dX1_whyNotAbsorb_37)
  · have hf := zif_t c9 hf
    refine lv_iconst (v := (1 : Int32)) hx hb dX1_whyNotAbsorb_19 (by decide) ?_
    obtain ⟨rfl, rfl, rfl, rfl⟩ := zretx_i hf
    exact zx_ret (zr_iret hc hn hr hq (fun _ _ _ _ q => ⟨_, rfl, q⟩) dX1_whyNotAbsorb_20)
theorem hd_X1_entryAt : yX1_entryAt.cls ≠ "java/lang/invoke/MethodHandle" ∧ yX1_entryAt.cls ≠ "java/lang/invoke/VarHandle" ∧ (parseMethodDescriptor yX1_entryAt.desc).map (fun d => d.parameters.length) = some 1 := by decide +kernel
def f_X1_entryAt (h : PH) (a0 : Nat) (v1 : Int32) : ZR (ZX (Option Nat)) :=
  zgP h a0 0 4 fun x101 =>
  znn x101 fun a102 =>
  zgP h a102 1 2 fun x103 =>
  znn x103 fun a104 =>
  zrc h a104 2 <| zcl (f_X3_size h a104) fun x105 h106 =>
  znm (x105 - (1 : Int32)) fun x107 =>
  zcl (f_X1_isIn h106 v1 (0 : Int32) x107) fun x108 h109 =>
  zcx (f_X1_checkIndex h109 x108) fun _ h111 =>
  zgP h111 a0 0 4 fun x112 =>
  znn x112 fun a113 =>
  zgP h111 a113 1 2 fun x114 =>
  znn x114 fun a115 =>
  zrc h111 a115 2 <| zcl (f_X3_at h111 a115 v1) fun x116 h117 =>
  zret (.inl x116) h117
set_option maxHeartbeats 4000000 in
set_option maxRecDepth 100000 in
theorem m_X1_entryAt (l : Launch) (hl0 : l.stackTraces = false) (D : va_G) (dA : Nat → ClassId) (b0 : Nat) (gs : Nat → Option Nat) (h : PH) (a0 : Nat) (v1 : Int32) {r : (ZX (Option Nat))} {hh : PH} {mc ms : Nat} (hf : f_X1_entryAt h a0 v1 = some (r, hh, mc, ms)) : zMx l D dA b0 gs yX1_entryAt (ws_ yX1_entryAt cX1_entryAt 2 (some (.object "CountedSkipLists$Entry"))) 7 145 [.ref a0, .int v1] h evP r hh mc ms := by
  unfold f_X1_entryAt at hf
  refine zMx.of (by decide) (Nat.le_of_ble_eq_true rfl) ?_
  intro p e s m args below meth c hc hr hin ht hn ls hl
  have hl : lv_has ls 2 [(0, .ref a0), (1, .int v1)] := hl
  have hq : 0 + mc = mc ∧ 0 + ms = ms := ⟨Nat.zero_add _, Nat.zero_add _⟩
  have hx := hc.x
  have hb := hc.b
  refine lv_iload_n hx hb dX1_entryAt_0 rfl (lv_at hl 1 rfl) ?_
  refine lv_iconst (v := (0 : Int32)) hx hb dX1_entryAt_1 (by decide) ?_
  refine lv_aload_n (x := a0) hx hb dX1_entryAt_2 rfl (lv_at hl 0 rfl) ?_
  refine zr_gP hc hn (ci := 0) rfl rfl in_X1 4 (by decide) q229 (fun _ h => h) (fun _ _ _ => rfl) hf dX1_entryAt_3 (fun x101 hf => ?_)
  obtain ⟨a102, e9, hf9⟩ := znn_i hf
  subst e9
  have hf := hf9
  clear hf9
  refine zr_gPN hc hn (ci := 1) rfl rfl in_X2 2 (by decide) q191 (fun _ h => h) (fun _ _ _ => rfl) hf dX1_entryAt_6 (fun x103 hf => ?_)
  obtain ⟨a104, e9, hf9⟩ := znn_i hf
  subst e9
  have hf := hf9
  clear hf9
  refine zr_cVI (As := []) (rest := [.int (0 : Int32), .int v1]) hc hn hq (ci := 2) rfl ⟨rfl, hd_X3_size⟩ (lw_V q270 q271 q272 q86 q273) (Nat.le_of_ble_eq_true rfl) (Nat.le_of_ble_eq_true rfl) (fun _ _ _ _ q => m_X3_size l D dA b0 gs h a104 q) hf dX1_entryAt_9 hl.1 rfl rfl (zroom (Nat.le_of_ble_eq_true rfl)) (fun x105 h106 H locs cells slots C9 S9 hf hq hn => ?_)
  refine lv_iconst (v := (1 : Int32)) hx hb dX1_entryAt_12 (by decide) ?_
  refine lv_isub hx hb dX1_entryAt_13 ?_
  refine zr_nmI hf (fun x107 hf => ?_)
  refine zr_cSI (As := [.int v1, .int (0 : Int32), .int x107]) (rest := []) hc hn hq hd_X1_isIn (lw_S q259 q260 q84 q261) (Nat.le_of_ble_eq_true rfl) (Nat.le_of_ble_eq_true rfl) (fun _ _ _ _ q => m_X1_isIn l D dA b0 gs h106 v1 (0 : Int32) x107 q) hf dX1_entryAt_14 hl.1 rfl rfl (zroom (Nat.le_of_ble_eq_true rfl)) (fun x108 h109 H locs cells slots C9 S9 hf hq hn => ?_)
  refine zx_SU (As := [.int x108]) (rest := []) hc hn hq (fun x hx => (ht x hx).elim) hd_X1_checkIndex (lw_S q395 q396 q84 q397) (Nat.le_of_ble_eq_true rfl) (Nat.le_of_ble_eq_true rfl) (fun _ _ _ _ q => m_X1_checkIndex l hl0 D dA b0 gs h109 x108 q) hf dX1_entryAt_17 hl.1 rfl rfl (zroom (Nat.le_of_ble_eq_true rfl)) (fun x110 h111 H locs cells slots C9 S9 hf hq hn => ?_)
  refine lv_aload_n (x := a0) hx hb dX1_entryAt_20 rfl (lv_at hl 0 rfl) ?_
  refine zr_gP hc hn (ci := 0) rfl rfl in_X1 4 (by decide) q229 (fun _ h => h) (fun _ _ _ => rfl) hf dX1_entryAt_21 (fun x112 hf => ?_)
  obtain ⟨a113, e9, hf9⟩ := znn_i hf
  subst e9
  have hf := hf9
  clear hf9
  refine zr_gPN hc hn (ci := 1) rfl rfl in_X2 2 (by decide) q191 (fun _ h => h) (fun _ _ _ => rfl) hf dX1_entryAt_24 (fun x114 hf => ?_)
  refine lv_iload_n hx hb dX1_entryAt_27 rfl (lv_at hl 1 rfl) ?_
  obtain ⟨a115, e9, hf9⟩ := znn_i hf
  subst e9
  have hf := hf9
  clear hf9
  refine zr_cVP (As := [.int v1]) (rest := []) hc hn hq (ci := 2) rfl ⟨rfl, hd_X3_at⟩ (lw_V q1813 q1814 q1815 q86 q1816) (Nat.le_of_ble_eq_true rfl) (Nat.le_of_ble_eq_true rfl) (fun _ _ _ _ q => m_X3_at l D dA b0 gs h111 a115 v1 q) hf dX1_entryAt_28 hl.1 rfl rfl (zroom (Nat.le_of_ble_eq_true rfl)) (fun x116 h117 H locs cells slots C9 S9 hf hq hn => ?_)
  obtain ⟨rfl, rfl, rfl, rfl⟩ := zretx_i hf
  exact zx_ret (zr_aret (x := x116) hc hn hr (Or.inl ⟨_, rfl⟩) hq (fun _ _ _ _ q => ⟨_, rfl, q⟩) dX1_entryAt_31)
theorem hd_X1_logKind : yX1_logKind.cls ≠ "java/lang/invoke/MethodHandle" ∧ yX1_logKind.cls ≠ "java/lang/invoke/VarHandle" ∧ (parseMethodDescriptor yX1_logKind.desc).map (fun d => d.parameters.length) = some 1 := by decide +kernel
def f_X1_logKind (h : PH) (a0 : Nat) (v1 : Int32) : ZR (ZX Int32) :=
  zrc h a0 0 <| zcx (f_X1_entryAt h a0 v1) fun x101 h102 =>
  znn x101 fun a103 =>
  zrc h102 a103 9 <| zcl (f_X11_mend h102 a103) fun x104 h105 =>
  znn x104 fun a106 =>
  zord h105 a106 fun x107 =>
  zret (.inl x107) h105
set_option maxHeartbeats 4000000 in
set_option maxRecDepth 100000 in
theorem m_X1_logKind (l : Launch) (hl0 : l.stackTraces = false) (D : va_G) (dA : Nat → ClassId) (b0 : Nat) (gs : Nat → Option Nat) (h : PH) (a0 : Nat) (v1 : Int32) {r : (ZX Int32)} {hh : PH} {mc ms : Nat} (hf : f_X1_logKind h a0 v1 = some (r, hh, mc, ms)) : zMx l D dA b0 gs yX1_logKind (ws_ yX1_logKind cX1_logKind 2 (some .int)) 8 166 [.ref a0, .int v1] h evI r hh mc ms := by
  unfold f_X1_logKind at hf
  refine zMx.of (by decide) (Nat.le_of_ble_eq_true rfl) ?_
  intro p e s m args below meth c hc hr hin ht hn ls hl
  have hl : lv_has ls 2 [(0, .ref a0), (1, .int v1)] := hl
  have hq : 0 + mc = mc ∧ 0 + ms = ms := ⟨Nat.zero_add _, Nat.zero_add _⟩
  have hx := hc.x
  have hb := hc.b
  refine lv_aload_n (x := a0) hx hb dX1_logKind_0 rfl (lv_at hl 0 rfl) ?_
  refine lv_iload_n hx hb dX1_logKind_1 rfl (lv_at hl 1 rfl) ?_
  refine zx_VP (As := [.int v1]) (rest := []) hc hn hq (fun x hx => (ht x hx).elim) (ci := 0) rfl ⟨rfl, hd_X1_entryAt⟩ (lw_V q1809 q1811 qs24 q84 q1812) (Nat.le_of_ble_eq_true rfl) (Nat.le_of_ble_eq_true rfl) (fun _ _ _ _ q => m_X1_entryAt l hl0 D dA b0 gs h a0 v1 q) hf dX1_logKind_2 hl.1 rfl rfl (zroom (Nat.le_of_ble_eq_true rfl)) (fun x101 h102 H locs cells slots C9 S9 hf hq hn => ?_)
  obtain ⟨a103, e9, hf9⟩ := znn_i hf
  subst e9
  have hf := hf9
  clear hf9
  refine zr_cVP (As := []) (rest := []) hc hn hq (ci := 9) rfl ⟨rfl, hd_X11_mend⟩ (lw_V q1829 q1830 q1831 q120 q1832) (Nat.le_of_ble_eq_true rfl) (Nat.le_of_ble_eq_true rfl) (fun _ _ _ _ q => m_X11_mend l D dA b0 gs h102 a103 q) hf dX1_logKind_5 hl.1 rfl rfl (zroom (Nat.le_of_ble_eq_true rfl)) (fun x104 h105 H locs cells slots C9 S9 hf hq hn => ?_)
  obtain ⟨a106, e9, hf9⟩ := znn_i hf
  subst e9
  have hf := hf9
  clear hf9
  refine zr_ord hc hn hq q1833 (Nat.le_of_ble_eq_true rfl) (Nat.le_of_ble_eq_true rfl) hf dX1_logKind_8 hl.1 rfl (zroom (Nat.le_of_ble_eq_true rfl)) (fun x107 H locs hf hn => ?_)
  obtain ⟨rfl, rfl, rfl, rfl⟩ := zretx_i hf
  exact zx_ret (zr_iret hc hn hr hq (fun _ _ _ _ q => ⟨_, rfl, q⟩) dX1_logKind_11)
theorem hd_X1_logLevel : yX1_logLevel.cls ≠ "java/lang/invoke/MethodHandle" ∧ yX1_logLevel.cls ≠ "java/lang/invoke/VarHandle" ∧ (parseMethodDescriptor yX1_logLevel.desc).map (fun d => d.parameters.length) = some 1 := by decide +kernel
def f_X1_logLevel (h : PH) (a0 : Nat) (v1 : Int32) : ZR (ZX Int32) :=
  zrc h a0 0 <| zcx (f_X1_entryAt h a0 v1) fun x101 h102 =>
  znn x101 fun a103 =>
  zrc h102 a103 9 <| zcl (f_X11_level h102 a103) fun x104 h105 =>
  zret (.inl x104) h105
set_option maxHeartbeats 4000000 in
set_option maxRecDepth 100000 in
theorem m_X1_logLevel (l : Launch) (hl0 : l.stackTraces = false) (D : va_G) (dA : Nat → ClassId) (b0 : Nat) (gs : Nat → Option Nat) (h : PH) (a0 : Nat) (v1 : Int32) {r : (ZX Int32)} {hh : PH} {mc ms : Nat} (hf : f_X1_logLevel h a0 v1 = some (r, hh, mc, ms)) : zMx l D dA b0 gs yX1_logLevel (ws_ yX1_logLevel cX1_logLevel 2 (some .int)) 8 166 [.ref a0, .int v1] h evI r hh mc ms := by
  unfold f_X1_logLevel at hf
  refine zMx.of (by decide) (Nat.le_of_ble_eq_true rfl) ?_
  intro p e s m args below meth c hc hr hin ht hn ls hl
  have hl : lv_has ls 2 [(0, .ref a0), (1, .int v1)] := hl
  have hq : 0 + mc = mc ∧ 0 + ms = ms := ⟨Nat.zero_add _, Nat.zero_add _⟩
  have hx := hc.x
  have hb := hc.b
  refine lv_aload_n (x := a0) hx hb dX1_logLevel_0 rfl (lv_at hl 0 rfl) ?_
  refine lv_iload_n hx hb dX1_logLevel_1 rfl (lv_at hl 1 rfl) ?_
  refine zx_VP (As := [.int v1]) (rest := []) hc hn hq (fun x hx => (ht x hx).elim) (ci := 0) rfl ⟨rfl, hd_X1_entryAt⟩ (lw_V q1809 q1811 qs24 q84 q1812) (Nat.le_of_ble_eq_true rfl) (Nat.le_of_ble_eq_true rfl) (fun _ _ _ _ q => m_X1_entryAt l hl0 D dA b0 gs h a0 v1 q) hf dX1_logLevel_2 hl.1 rfl rfl (zroom (Nat.le_of_ble_eq_true rfl)) (fun x101 h102 H locs cells slots C9 S9 hf hq hn => ?_)
  obtain ⟨a103, e9, hf9⟩ := znn_i hf
  subst e9
  have hf := hf9
  clear hf9
  refine zr_cVI (As := []) (rest := []) hc hn hq (ci := 9) rfl ⟨rfl, hd_X11_level⟩ (lw_V q1848 q1849 q1850 q120 q1851) (Nat.le_of_ble_eq_true rfl) (Nat.le_of_ble_eq_true rfl) (fun _ _ _ _ q => m_X11_level l D dA b0 gs h102 a103 q) hf dX1_logLevel_5 hl.1 rfl rfl (zroom (Nat.le_of_ble_eq_true rfl)) (fun x104 h105 H locs cells slots C9 S9 hf hq hn => ?_)
  obtain ⟨rfl, rfl, rfl, rfl⟩ := zretx_i hf
  exact zx_ret (zr_iret hc hn hr hq (fun _ _ _ _ q => ⟨_, rfl, q⟩) dX1_logLevel_8)
theorem hd_X1_logKey : yX1_logKey.cls ≠ "java/lang/invoke/MethodHandle" ∧ yX1_logKey.cls ≠ "java/lang/invoke/VarHandle" ∧ (parseMethodDescriptor yX1_logKey.desc).map (fun d => d.parameters.length) = some 1 := by decide +kernel
def f_X1_logKey (h : PH) (a0 : Nat) (v1 : Int32) : ZR (ZX Int32) :=
  zrc h a0 0 <| zcx (f_X1_entryAt h a0 v1) fun x101 h102 =>
  znn x101 fun a103 =>
  zrc h102 a103 9 <| zcl (f_X11_key h102 a103) fun x104 h105 =>
  zret (.inl x104) h105
set_option maxHeartbeats 4000000 in
set_option maxRecDepth 100000 in
theorem m_X1_logKey (l : Launch) (hl0 : l.stackTraces = false) (D : va_G) (dA : Nat → ClassId) (b0 : Nat) (gs : Nat → Option Nat) (h : PH) (a0 : Nat) (v1 : Int32) {r : (ZX Int32)} {hh : PH} {mc ms : Nat} (hf : f_X1_logKey h a0 v1 = some (r, hh, mc, ms)) : zMx l D dA b0 gs yX1_logKey (ws_ yX1_logKey cX1_logKey 2 (some .int)) 8 166 [.ref a0, .int v1] h evI r hh mc ms := by
  unfold f_X1_logKey at hf
  refine zMx.of (by decide) (Nat.le_of_ble_eq_true rfl) ?_
  intro p e s m args below meth c hc hr hin ht hn ls hl
  have hl : lv_has ls 2 [(0, .ref a0), (1, .int v1)] := hl
  have hq : 0 + mc = mc ∧ 0 + ms = ms := ⟨Nat.zero_add _, Nat.zero_add _⟩
  have hx := hc.x
  have hb := hc.b
  refine lv_aload_n (x := a0) hx hb dX1_logKey_0 rfl (lv_at hl 0 rfl) ?_
  refine lv_iload_n hx hb dX1_logKey_1 rfl (lv_at hl 1 rfl) ?_
  refine zx_VP (As := [.int v1]) (rest := []) hc hn hq (fun x hx => (ht x hx).elim) (ci := 0) rfl ⟨rfl, hd_X1_entryAt⟩ (lw_V q1809 q1811 qs24 q84 q1812) (Nat.le_of_ble_eq_true rfl) (Nat.le_of_ble_eq_true rfl) (fun _ _ _ _ q => m_X1_entryAt l hl0 D dA b0 gs h a0 v1 q) hf dX1_logKey_2 hl.1 rfl rfl (zroom (Nat.le_of_ble_eq_true rfl)) (fun x101 h102 H locs cells slots C9 S9 hf hq hn => ?_)
  obtain ⟨a103, e9, hf9⟩ := znn_i hf
  subst e9
  have hf := hf9
  clear hf9
  refine zr_cVI (As := []) (rest := []) hc hn hq (ci := 9) rfl ⟨rfl, hd_X11_key⟩ (lw_V q1859 q1860 q1861 q120 q1862) (Nat.le_of_ble_eq_true rfl) (Nat.le_of_ble_eq_true rfl) (fun _ _ _ _ q => m_X11_key l D dA b0 gs h102 a103 q) hf dX1_logKey_5 hl.1 rfl rfl (zroom (Nat.le_of_ble_eq_true rfl)) (fun x104 h105 H locs cells slots C9 S9 hf hq hn => ?_)
  obtain ⟨rfl, rfl, rfl, rfl⟩ := zretx_i hf
  exact zx_ret (zr_iret hc hn hr hq (fun _ _ _ _ q => ⟨_, rfl, q⟩) dX1_logKey_8)
theorem hd_X1_counter : yX1_counter.cls ≠ "java/lang/invoke/MethodHandle" ∧ yX1_counter.cls ≠ "java/lang/invoke/VarHandle" ∧ (parseMethodDescriptor yX1_counter.desc).map (fun d => d.parameters.length) = some 1 := by decide +kernel
def f_X1_counter (h : PH) (a0 : Nat) (v1 : Int32) : ZR (ZX Int32) :=
  zcl (f_X1_isIn h v1 (0 : Int32) (5 : Int32)) fun x101 h102 =>
  zcx (f_X1_checkArgument h102 x101) fun _ h104 =>
  zgP h104 a0 0 4 fun x105 =>
  znn x105 fun a106 =>
  zgP h104 a106 1 1 fun x107 =>
  znn x107 fun a108 =>
  zaI h104 a108 0 v1 fun x109 =>
  zret (.inl x109) h104
set_option maxHeartbeats 4000000 in
set_option maxRecDepth 100000 in
theorem m_X1_counter (l : Launch) (hl0 : l.stackTraces = false) (D : va_G) (dA : Nat → ClassId) (b0 : Nat) (gs : Nat → Option Nat) (h : PH) (a0 : Nat) (v1 : Int32) {r : (ZX Int32)} {hh : PH} {mc ms : Nat} (hf : f_X1_counter h a0 v1 = some (r, hh, mc, ms)) : zMx l D dA b0 gs yX1_counter (ws_ yX1_counter cX1_counter 2 (some .int)) 7 140 [.ref a0, .int v1] h evI r hh mc ms := by
  unfold f_X1_counter at hf
  refine zMx.of (by decide) (Nat.le_of_ble_eq_true rfl) ?_
  intro p e s m args below meth c hc hr hin ht hn ls hl
  have hl : lv_has ls 2 [(0, .ref a0), (1, .int v1)] := hl
  have hq : 0 + mc = mc ∧ 0 + ms = ms := ⟨Nat.zero_add _, Nat.zero_add _⟩
  have hx := hc.x
  have hb := hc.b
  refine lv_iload_n hx hb dX1_counter_0 rfl (lv_at hl 1 rfl) ?_
  refine lv_iconst (v := (0 : Int32)) hx hb dX1_counter_1 (by decide) ?_
  refine lv_iconst (v := (5 : Int32)) hx hb dX1_counter_2 (by decide) ?_
  refine zr_cSI (As := [.int v1, .int (0 : Int32), .int (5 : Int32)]) (rest := []) hc hn hq hd_X1_isIn (lw_S q259 q260 q84 q261) (Nat.le_of_ble_eq_true rfl) (Nat.le_of_ble_eq_true rfl) (fun _ _ _ _ q => m_X1_isIn l D dA b0 gs h v1 (0 : Int32) (5 : Int32) q) hf dX1_counter_3 hl.1 rfl rfl (zroom (Nat.le_of_ble_eq_true rfl)) (fun x101 h102 H locs cells slots C9 S9 hf hq hn => ?_)
  refine zx_SU (As := [.int x101]) (rest := []) hc hn hq (fun x hx => (ht x hx).elim) hd_X1_checkArgument (lw_S q1226 q1227 q84 q1228) (Nat.le_of_ble_eq_true rfl) (Nat.le_of_ble_eq_true rfl) (fun _ _ _ _ q => m_X1_checkArgument l hl0 D dA b0 gs h102 x101 q) hf dX1_counter_6 hl.1 rfl rfl (zroom (Nat.le_of_ble_eq_true rfl)) (fun x103 h104 H locs cells slots C9 S9 hf hq hn => ?_)
  refine lv_aload_n (x := a0) hx hb dX1_counter_9 rfl (lv_at hl 0 rfl) ?_
  refine zr_gP hc hn (ci := 0) rfl rfl in_X1 4 (by decide) q229 (fun _ h => h) (fun _ _ _ => rfl) hf dX1_counter_10 (fun x105 hf => ?_)
  obtain ⟨a106, e9, hf9⟩ := znn_i hf
  subst e9
  have hf := hf9
  clear hf9
  refine zr_gPN hc hn (ci := 1) rfl rfl in_X2 1 (by decide) q189 (fun _ h => h) (fun _ _ _ => rfl) hf dX1_counter_13 (fun x107 hf => ?_)
  refine lv_iload_n hx hb dX1_counter_16 rfl (lv_at hl 1 rfl) ?_
  obtain ⟨a108, e9, hf9⟩ := znn_i hf
  subst e9
  have hf := hf9
  clear hf9
  refine zr_aI0 hc hn hf dX1_counter_17 (fun x109 hf => ?_)
  obtain ⟨rfl, rfl, rfl, rfl⟩ := zretx_i hf
  exact zx_ret (zr_iret hc hn hr hq (fun _ _ _ _ q => ⟨_, rfl, q⟩) dX1_counter_18)
theorem hd_X1_begin : yX1_begin.cls ≠ "java/lang/invoke/MethodHandle" ∧ yX1_begin.cls ≠ "java/lang/invoke/VarHandle" ∧ (parseMethodDescriptor yX1_begin.desc).map (fun d => d.parameters.length) = some 0 := by decide +kernel
def f_X1_begin_b20 (h : PH) (a0 : Nat) : ZR (Option Nat) :=
  zgP h a0 0 5 fun x101 =>
  zgP h a0 0 4 fun x102 =>
  znn x101 fun a103 =>
  znn x102 fun a104 =>
  zrc h a103 13 <| zcl (f_J3_addLast h a103 a104) fun _ h106 =>
  zgP h106 a0 0 4 fun x107 =>
  znn x107 fun a108 =>
  zrc h106 a108 1 <| zcl (f_X2_copy h106 a108) fun x109 h110 =>
  zpP h110 a0 0 4 (some x109) fun h111 =>
  zgP h111 a0 0 4 fun x112 =>
  zno h111 2 1 fun a113 h114 =>
  zcl (f_X3_init h114 a113) fun _ h116 =>
  znn x112 fun a117 =>
  zpP h116 a117 1 2 (some a113) fun h118 =>
  zgP h118 a0 0 4 fun x119 =>
  zret x119 h118
def f_X1_begin (h : PH) (a0 : Nat) : ZR (Option Nat) :=
  zgP h a0 0 5 fun x101 =>
  znn x101 fun a102 =>
  zrc h a102 13 <| zcl (f_J3_size h a102) fun x103 h104 =>
  if x103 = (10 : Int32) then
    (zgP h104 a0 0 5 fun x105 =>
    znn x105 fun a106 =>
    zrc h104 a106 13 <| zcl (f_J3_removeFirst h104 a106) fun x107 h108 =>
    f_X1_begin_b20 h108 a0)
  else
    (f_X1_begin_b20 h104 a0)
set_option maxHeartbeats 4000000 in
set_option maxRecDepth 100000 in
theorem m_X1_begin_b20 {p : Program} {l : Launch} {e : Env} {s : State} {m : MethodId} {args : Array Value} {below : List Frame} {meth : Method} {c : Code} {D : va_G} {dA : Nat → ClassId} {b0 : Nat} {gs : Nat → Option Nat} (hc : zC D dA b0 gs yX1_begin.cls cX1_begin 1 p c s m args meth) (hr : meth.sig.returnType = (some (.object "CountedSkipLists$State"))) (hin : meth.name = yX1_begin.name) {r : (Option Nat)} {hh : PH} {mc ms : Nat} : ∀ (h : PH) (a0 : Nat) (C9 S9 : Nat) (H : Heap) (locs : List Loc) (cells slots : Nat), f_X1_begin_b20 h a0 = some (r, hh, C9, S9) → cells + C9 = mc ∧ slots + S9 = ms → zM D dA b0 gs s h H locs → ∀ ls : Array Slot, lv_has ls 1 [(0, .ref a0)] → W p l e ({ frames := 7, cells := mc, slots := ms, locals := 182 } : Room) s m args below meth c H locs cells slots (MQ below (zQ D dA b0 gs (evP r) hh) args s mc ms (zA b0)) (F0 m 20 ls []) := by
  have hx := hc.x
  have hb := hc.b
  intro h a0 C9 S9 H locs cells slots hf hq hn ls hl
  unfold f_X1_begin_b20 at hf
  refine lv_aload_n (x := a0) hx hb dX1_begin_20 rfl (lv_at hl 0 rfl) ?_
  refine zr_gP hc hn (ci := 0) rfl rfl in_X1 5 (by decide) q230 (fun _ h => h) (fun _ _ _ => rfl) hf dX1_begin_21 (fun x101 hf => ?_)
  refine lv_aload_n (x := a0) hx hb dX1_begin_24 rfl (lv_at hl 0 rfl) ?_
  refine zr_gP hc hn (ci := 0) rfl rfl in_X1 4 (by decide) q229 (fun _ h => h) (fun _ _ _ => rfl) hf dX1_begin_25 (fun x102 hf => ?_)
  obtain ⟨a103, e9, hf9⟩ := znn_i hf
  subst e9
  have hf := hf9
  clear hf9
  obtain ⟨a104, e9, hf9⟩ := znn_i hf
  subst e9
  have hf := hf9
  clear hf9
  refine zr_cVU (As := [.ref a104]) (rest := []) hc hn hq (ci := 13) rfl ⟨rfl, hd_J3_addLast⟩ (lw_V q1908 q1909 q1910 q90 q1911) (Nat.le_of_ble_eq_true rfl) (Nat.le_of_ble_eq_true rfl) (fun _ _ _ _ q => m_J3_addLast l D dA b0 gs h a103 a104 q) hf dX1_begin_28 hl.1 rfl rfl (zroom (Nat.le_of_ble_eq_true rfl)) (fun x105 h106 H locs cells slots C9 S9 hf hq hn => ?_)
  refine lv_aload_n (x := a0) hx hb dX1_begin_31 rfl (lv_at hl 0 rfl) ?_
  refine lv_aload_n (x := a0) hx hb dX1_begin_32 rfl (lv_at hl 0 rfl) ?_
  refine zr_gP hc hn (ci := 0) rfl rfl in_X1 4 (by decide) q229 (fun _ h => h) (fun _ _ _ => rfl) hf dX1_begin_33 (fun x107 hf => ?_)
  obtain ⟨a108, e9, hf9⟩ := znn_i hf
  subst e9
  have hf := hf9
  clear hf9
  refine zr_cVN (As := []) (rest := [.ref a0]) hc hn hq (ci := 1) rfl ⟨rfl, hd_X2_copy⟩ (lw_V q1929 q1930 q1931 q85 q1932) (Nat.le_of_ble_eq_true rfl) (Nat.le_of_ble_eq_true rfl) (fun _ _ _ _ q => m_X2_copy l D dA b0 gs h106 a108 q) hf dX1_begin_36 hl.1 rfl rfl (zroom (Nat.le_of_ble_eq_true rfl)) (fun x109 h110 H locs cells slots C9 S9 hf hq hn => ?_)
  refine zr_pP (x := (some x109)) hc hn (ci := 0) rfl rfl in_X1 4 (by decide) tyX1 tyX1_ok nmX1 q229 (fun _ h => h) (Or.inl rfl) (fun _ _ _ => rfl) (zn_rf _ (by decide)) (zf_rf _ (by decide)) hf dX1_begin_39 (fun h111 H locs hf hn => ?_)
  refine lv_aload_n (x := a0) hx hb dX1_begin_42 rfl (lv_at hl 0 rfl) ?_
  refine zr_gP hc hn (ci := 0) rfl rfl in_X1 4 (by decide) q229 (fun _ h => h) (fun _ _ _ => rfl) hf dX1_begin_43 (fun x112 hf => ?_)
  refine zr_new hc hn hq (ci := 2) rfl rfl in_X3 tyX3_ok q1763 q148 q86 (zd_X3) hf dX1_begin_46 (fun a113 h114 H cells slots C9 S9 hf hq hn => ?_)
  refine lv_dup hx hb dX1_begin_49 rfl ?_
  refine zr_cIN (As := []) (rest := [.ref a113, va_rf x112]) hc hn hq rfl hd_X3_init (lw_meth q151) q1764 q150 q86 (Nat.le_of_ble_eq_true rfl) (Nat.le_of_ble_eq_true rfl) (fun _ _ _ _ q => m_X3_init l D dA b0 gs h114 a113 q) hf dX1_begin_50 hl.1 rfl rfl (zroom (Nat.le_of_ble_eq_true rfl)) (fun x115 h116 H locs cells slots C9 S9 hf hq hn => ?_)
  obtain ⟨a117, e9, hf9⟩ := znn_i hf
  subst e9
  have hf := hf9
  clear hf9
  refine zr_pPN (x := (some a113)) hc hn (ci := 1) rfl rfl in_X2 2 (by decide) tyX2 tyX2_ok nmX2 q191 (fun _ h => h) rfl (fun _ _ _ => rfl) (zn_rf _ (by decide)) (zf_rf _ (by decide)) hf dX1_begin_53 (fun h118 H locs hf hn => ?_)
  refine lv_aload_n (x := a0) hx hb dX1_begin_56 rfl (lv_at hl 0 rfl) ?_
  refine zr_gP hc hn (ci := 0) rfl rfl in_X1 4 (by decide) q229 (fun _ h => h) (fun _ _ _ => rfl) hf dX1_begin_57 (fun x119 hf => ?_)
  obtain ⟨rfl, rfl, rfl, rfl⟩ := zret_i hf
  exact zr_aret (x := x119) hc hn hr (Or.inl ⟨_, rfl⟩) hq (fun _ _ _ _ q => q) dX1_begin_60
set_option maxHeartbeats 4000000 in
set_option maxRecDepth 100000 in
theorem m_X1_begin (l : Launch) (D : va_G) (dA : Nat → ClassId) (b0 : Nat) (gs : Nat → Option Nat) (h : PH) (a0 : Nat) {r : (Option Nat)} {hh : PH} {mc ms : Nat} (hf : f_X1_begin h a0 = some (r, hh, mc, ms)) : zMt l D dA b0 gs yX1_begin cX1_begin 1 (some (.object "CountedSkipLists$State")) 7 182 [.ref a0] h (evP r) hh mc ms := by
  unfold f_X1_begin at hf
  refine zMt.of (by decide) (Nat.le_of_ble_eq_true rfl) ?_
  intro p e s m args below meth c hc hr hin hn ls hl
  have hl : lv_has ls 1 [(0, .ref a0)] := hl
  have hq : 0 + mc = mc ∧ 0 + ms = ms := ⟨Nat.zero_add _, Nat.zero_add _⟩
  have hx := hc.x
  have hb := hc.b
  refine lv_aload_n (x := a0) hx hb dX1_begin_0 rfl (lv_at hl 0 rfl) ?_
  refine zr_gP hc hn (ci := 0) rfl rfl in_X1 5 (by decide) q230 (fun _ h => h) (fun _ _ _ => rfl) hf dX1_begin_1 (fun x101 hf => ?_)
  obtain ⟨a102, e9, hf9⟩ := znn_i hf
  subst e9
  have hf := hf9
  clear hf9
  refine zr_cVI (As := []) (rest := []) hc hn hq (ci := 13) rfl ⟨rfl, hd_J3_size⟩ (lw_V q1885 q1886 q1887 q90 q1888) (Nat.le_of_ble_eq_true rfl) (Nat.le_of_ble_eq_true rfl) (fun _ _ _ _ q => m_J3_size l D dA b0 gs h a102 q) hf dX1_begin_4 hl.1 rfl rfl (zroom (Nat.le_of_ble_eq_true rfl)) (fun x103 h104 H locs cells slots C9 S9 hf hq hn => ?_)
  refine lv_bipush (v := (10 : Int32)) hx hb dX1_begin_7 (by decide) ?_
  refine lv_icmp_ne (tgt := 20) hx hb dX1_begin_9 (by decide) (fun c9 => ?_) (fun c9 => ?_)
  · have hf := zif_f c9 hf
    exact m_X1_begin_b20 hc hr hin h104 a0 _ _ _ _ _ _ hf hq hn _ (lv_sub hl [0] rfl)
  · have hf := zif_t c9 hf
    refine lv_aload_n (x := a0) hx hb dX1_begin_12 rfl (lv_at hl 0 rfl) ?_
    refine zr_gP hc hn (ci := 0) rfl rfl in_X1 5 (by decide) q230 (fun _ h => h) (fun _ _ _ => rfl) hf dX1_begin_13 (fun x105 hf => ?_)
    obtain ⟨a106, e9, hf9⟩ := znn_i hf
    subst e9
    have hf := hf9
    clear hf9
    refine zr_cVN (As := []) (rest := []) hc hn hq (ci := 13) rfl ⟨rfl, hd_J3_removeFirst⟩ (lw_V q1892 q1893 q1894 q90 q1895) (Nat.le_of_ble_eq_true rfl) (Nat.le_of_ble_eq_true rfl) (fun _ _ _ _ q => m_J3_removeFirst l D dA b0 gs h104 a106 q) hf dX1_begin_16 hl.1 rfl rfl (zroom (Nat.le_of_ble_eq_true rfl)) (fun x107 h108 H locs cells slots C9 S9 hf hq hn => ?_)
    refine lv_pop hx hb dX1_begin_19 rfl ?_
    exact m_X1_begin_b20 hc hr hin h108 a0 _ _ _ _ _ _ hf hq hn _ (lv_sub hl [0] rfl)
theorem hd_X1_ends : yX1_ends.cls ≠ "java/lang/invoke/MethodHandle" ∧ yX1_ends.cls ≠ "java/lang/invoke/VarHandle" ∧ (parseMethodDescriptor yX1_ends.desc).map (fun d => d.parameters.length) = some 0 := by decide +kernel
def f_X1_ends_b9 : Nat → PH → Nat → Nat → Int32 → Int32 → ZR Unit
  | 0 => fun _ _ _ _ _ => none
  | n + 1 => fun h a0 a1 v2 v3 =>
    if v2 ≤ v3 then
      (zgP h a0 0 4 fun x101 =>
      znn x101 fun a102 =>
      zgP h a102 1 1 fun x103 =>
      znn x103 fun a104 =>
      zaI h a104 0 (5 : Int32) fun x105 =>
      znm (x105 + (1 : Int32)) fun x106 =>
      zsI h a104 0 (5 : Int32) x106 fun h107 =>
      zret () h107)
    else
      (zaP h a1 10 v3 fun x108 =>
      zgP h a0 0 4 fun x109 =>
      znn x109 fun a110 =>
      zgP h a110 1 1 fun x111 =>
      znn x108 fun a112 =>
      zord h a112 fun x113 =>
      znm ((2 : Int32) + x113) fun x114 =>
      znn x111 fun a115 =>
      zaI h a115 0 x114 fun x116 =>
      zgP h a0 0 4 fun x117 =>
      znn x117 fun a118 =>
      zgP h a118 1 2 fun x119 =>
      znn x119 fun a120 =>
      zrc h a120 2 <| zcl (f_X3_of h a120 a112) fun x121 h122 =>
      znm (x116 + x121) fun x123 =>
      zsI h122 a115 0 x114 x123 fun h124 =>
      znm (v3 + (1 : Int32)) fun x125 =>
      f_X1_ends_b9 n h124 a0 a1 v2 x125)
def f_X1_ends (h : PH) (a0 : Nat) : ZR Unit :=
  zcl (f_X10_values h) fun x101 h102 =>
  zlen h102 x101 10 fun x103 =>
  f_X1_ends_b9 zFU h102 a0 x101 x103 (0 : Int32)
set_option maxHeartbeats 4000000 in
set_option maxRecDepth 100000 in
theorem m_X1_ends_b9 {p : Program} {l : Launch} {e : Env} {s : State} {m : MethodId} {args : Array Value} {below : List Frame} {meth : Method} {c : Code} {D : va_G} {dA : Nat → ClassId} {b0 : Nat} {gs : Nat → Option Nat} (hc : zC D dA b0 gs yX1_ends.cls cX1_ends 5 p c s m args meth) (hr : meth.sig.returnType = none) (hin : meth.name = yX1_ends.name) {r : Unit} {hh : PH} {mc ms : Nat} : ∀ (n : Nat) (h : PH) (a0 : Nat) (a1 : Nat) (v2 : Int32) (v3 : Int32) (C9 S9 : Nat) (H : Heap) (locs : List Loc) (cells slots : Nat), f_X1_ends_b9 n h a0 a1 v2 v3 = some (r, hh, C9, S9) → cells + C9 = mc ∧ slots + S9 = ms → zM D dA b0 gs s h H locs → ∀ ls : Array Slot, lv_has ls 5 [(0, .ref a0), (1, .ref a1), (2, .int v2), (3, .int v3)] → W p l e ({ frames := 5, cells := mc, slots := ms, locals := 147 } : Room) s m args below meth c H locs cells slots (MQ below (zQ D dA b0 gs (evU r) hh) args s mc ms (zA b0)) (F0 m 9 ls []) := by
  have hx := hc.x
  have hb := hc.b
  intro n
  induction n with
  | zero =>
    intro h a0 a1 v2 v3 C9 S9 H locs cells slots hf hq hn ls hl
    cases hf
  | succ n ih =>
    intro h a0 a1 v2 v3 C9 S9 H locs cells slots hf hq hn ls hl
    unfold f_X1_ends_b9 at hf
    refine lv_iload_n hx hb dX1_ends_9 rfl (lv_at hl 3 rfl) ?_
    refine lv_iload_n hx hb dX1_ends_10 rfl (lv_at hl 2 rfl) ?_
    refine lv_icmp_ge (tgt := 55) hx hb dX1_ends_11 (by decide) (fun c9 => ?_) (fun c9 => ?_)
    · have hf := zif_t c9 hf
      refine lv_aload_n (x := a0) hx hb dX1_ends_55 rfl (lv_at hl 0 rfl) ?_
      refine zr_gP hc hn (ci := 0) rfl rfl in_X1 4 (by decide) q229 (fun _ h => h) (fun _ _ _ => rfl) hf dX1_ends_56 (fun x101 hf => ?_)
      obtain ⟨a102, e9, hf9⟩ := znn_i hf
      subst e9
      have hf := hf9
      clear hf9
      refine zr_gPN hc hn (ci := 1) rfl rfl in_X2 1 (by decide) q189 (fun _ h => h) (fun _ _ _ => rfl) hf dX1_ends_59 (fun x103 hf => ?_)
      refine lv_iconst (v := (5 : Int32)) hx hb dX1_ends_62 (by decide) ?_
      refine lv_dup2_11 hx hb dX1_ends_63 rfl (zcat_rf _) ?_
      obtain ⟨a104, e9, hf9⟩ := znn_i hf
      subst e9
      have hf := hf9
      clear hf9
      refine zr_aI0 hc hn hf dX1_ends_64 (fun x105 hf => ?_)
      refine lv_iconst (v := (1 : Int32)) hx hb dX1_ends_65 (by decide) ?_
      refine lv_iadd hx hb dX1_ends_66 ?_
      refine zr_nmI hf (fun x106 hf => ?_)
      refine zr_sI hc hn hf dX1_ends_67 (fun h107 H locs hf hn => ?_)
      obtain ⟨rfl, rfl, rfl, rfl⟩ := zret_i hf
      exact zr_vret hc hn hr hq (fun _ _ _ _ q => q) dX1_ends_68
    · have hf := zif_f c9 hf
      refine lv_aload_n (x := a1) hx hb dX1_ends_14 rfl (lv_at hl 1 rfl) ?_
      refine lv_iload_n hx hb dX1_ends_15 rfl (lv_at hl 3 rfl) ?_
      refine zr_aP (ai := 10) (by decide) hc hn hf dX1_ends_16 (fun x108 hf => ?_)
      refine zr_astore (x := x108) (lv' := [(4, va_rf x108), (0, .ref a0), (1, .ref a1), (2, .int v2), (3, .int v3)]) hx hb dX1_ends_17 hl (by decide) rfl (fun ls hl => ?_)
      refine lv_aload_n (x := a0) hx hb dX1_ends_19 rfl (lv_at hl 1 rfl) ?_
      refine zr_gP hc hn (ci := 0) rfl rfl in_X1 4 (by decide) q229 (fun _ h => h) (fun _ _ _ => rfl) hf dX1_ends_20 (fun x109 hf => ?_)
      obtain ⟨a110, e9, hf9⟩ := znn_i hf
      subst e9
      have hf := hf9
      clear hf9
      refine zr_gPN hc hn (ci := 1) rfl rfl in_X2 1 (by decide) q189 (fun _ h => h) (fun _ _ _ => rfl) hf dX1_ends_23 (fun x111 hf => ?_)
      refine lv_iconst (v := (2 : Int32)) hx hb dX1_ends_26 (by decide) ?_
      refine zr_aload (x := x108) hx hb dX1_ends_27 (lv_at hl 0 rfl) ?_
      obtain ⟨a112, e9, hf9⟩ := znn_i hf
      subst e9
      have hf := hf9
      clear hf9
      refine zr_ord hc hn hq q1833 (Nat.le_of_ble_eq_true rfl) (Nat.le_of_ble_eq_true rfl) hf dX1_ends_29 hl.1 rfl (zroom (Nat.le_of_ble_eq_true rfl)) (fun x113 H locs hf hn => ?_)
      refine lv_iadd hx hb dX1_ends_32 ?_
      refine zr_nmI hf (fun x114 hf => ?_)
      refine lv_dup2_11 hx hb dX1_ends_33 rfl (zcat_rf _) ?_
      obtain ⟨a115, e9, hf9⟩ := znn_i hf
      subst e9
      have hf := hf9
      clear hf9
      refine zr_aI0 hc hn hf dX1_ends_34 (fun x116 hf => ?_)
      refine lv_aload_n (x := a0) hx hb dX1_ends_35 rfl (lv_at hl 1 rfl) ?_
      refine zr_gP hc hn (ci := 0) rfl rfl in_X1 4 (by decide) q229 (fun _ h => h) (fun _ _ _ => rfl) hf dX1_ends_36 (fun x117 hf => ?_)
      obtain ⟨a118, e9, hf9⟩ := znn_i hf
      subst e9
      have hf := hf9
      clear hf9
      refine zr_gPN hc hn (ci := 1) rfl rfl in_X2 2 (by decide) q191 (fun _ h => h) (fun _ _ _ => rfl) hf dX1_ends_39 (fun x119 hf => ?_)
      refine lv_aload (x := a112) hx hb dX1_ends_42 (lv_at hl 0 rfl) ?_
      obtain ⟨a120, e9, hf9⟩ := znn_i hf
      subst e9
      have hf := hf9
      clear hf9
      refine zr_cVI (As := [.ref a112]) (rest := [.int x116, .int x114, .ref a115]) hc hn hq (ci := 2) rfl ⟨rfl, hd_X3_of⟩ (lw_V q1956 q1957 q1958 q86 q1959) (Nat.le_of_ble_eq_true rfl) (Nat.le_of_ble_eq_true rfl) (fun _ _ _ _ q => m_X3_of l D dA b0 gs h a120 a112 q) hf dX1_ends_44 hl.1 rfl rfl (zroom (Nat.le_of_ble_eq_true rfl)) (fun x121 h122 H locs cells slots C9 S9 hf hq hn => ?_)
      refine lv_iadd hx hb dX1_ends_47 ?_
      refine zr_nmI hf (fun x123 hf => ?_)
      refine zr_sI hc hn hf dX1_ends_48 (fun h124 H locs hf hn => ?_)
      obtain ⟨x125, ex125, hf⟩ := znm_i hf
      refine lv_iinc (v := x125) (lv' := [(3, .int x125), (4, .ref a112), (0, .ref a0), (1, .ref a1), (2, .int v2)]) hx hb dX1_ends_49 hl (k := 4) rfl (by rw [ex125]; rfl) (by decide) rfl (fun ls hl => ?_)
      refine lv_goto (tgt := 9) hx hb dX1_ends_52 (by decide) ?_
      exact ih h124 a0 a1 v2 x125 _ _ _ _ _ _ hf hq hn _ (lv_sub hl [2, 3, 4, 0] rfl)
set_option maxHeartbeats 4000000 in
set_option maxRecDepth 100000 in
theorem m_X1_ends (l : Launch) (D : va_G) (dA : Nat → ClassId) (b0 : Nat) (gs : Nat → Option Nat) (h : PH) (a0 : Nat) {r : Unit} {hh : PH} {mc ms : Nat} (hf : f_X1_ends h a0 = some (r, hh, mc, ms)) : zMt l D dA b0 gs yX1_ends cX1_ends 5 none 5 147 [.ref a0] h (evU r) hh mc ms := by
  unfold f_X1_ends at hf
  refine zMt.of (by decide) (Nat.le_of_ble_eq_true rfl) ?_
  intro p e s m args below meth c hc hr hin hn ls hl
  have hl : lv_has ls 5 [(0, .ref a0)] := hl
  have hq : 0 + mc = mc ∧ 0 + ms = ms := ⟨Nat.zero_add _, Nat.zero_add _⟩
  have hx := hc.x
  have hb := hc.b
  refine zr_cSN (As := []) (rest := []) hc hn hq hd_X10_values (lw_S q1945 q1946 q118 q1947) (Nat.le_of_ble_eq_true rfl) (Nat.le_of_ble_eq_true rfl) (fun _ _ _ _ q => m_X10_values l D dA b0 gs h q) hf dX1_ends_0 hl.1 rfl rfl (zroom (Nat.le_of_ble_eq_true rfl)) (fun x101 h102 H locs cells slots C9 S9 hf hq hn => ?_)
  refine lv_astore_n (x := x101) (i := 1) (lv' := [(1, .ref x101), (0, .ref a0)]) hx hb dX1_ends_3 rfl hl (by decide) rfl (fun ls hl => ?_)
  refine lv_aload_n (x := x101) hx hb dX1_ends_4 rfl (lv_at hl 0 rfl) ?_
  refine zr_len (ai := 10) hc hn hf dX1_ends_5 (fun x103 hf => ?_)
  refine lv_istore_n (i := 2) (lv' := [(2, .int x103), (1, .ref x101), (0, .ref a0)]) hx hb dX1_ends_6 rfl hl (by decide) rfl (fun ls hl => ?_)
  refine lv_iconst (v := (0 : Int32)) hx hb dX1_ends_7 (by decide) ?_
  refine lv_istore_n (i := 3) (lv' := [(3, .int (0 : Int32)), (2, .int x103), (1, .ref x101), (0, .ref a0)]) hx hb dX1_ends_8 rfl hl (by decide) rfl (fun ls hl => ?_)
  exact m_X1_ends_b9 hc hr hin zFU h102 a0 x101 x103 (0 : Int32) _ _ _ _ _ _ hf hq hn _ (lv_sub hl [3, 2, 1, 0] rfl)
theorem hd_X1_create : yX1_create.cls ≠ "java/lang/invoke/MethodHandle" ∧ yX1_create.cls ≠ "java/lang/invoke/VarHandle" ∧ (parseMethodDescriptor yX1_create.desc).map (fun d => d.parameters.length) = some 0 := by decide +kernel
def f_X1_create (h : PH) (a0 : Nat) : ZR (ZX Int32) :=
  zgP h a0 0 4 fun x101 =>
  znn x101 fun a102 =>
  zrc h a102 1 <| zcl (f_X2_free h a102) fun x103 h104 =>
  if x103 = (-1 : Int32) then
    (zcx (f_X1_checkState h104 (0 : Int32)) fun _ h106 =>
    zrc h106 a0 0 <| zcl (f_X1_begin h106 a0) fun x107 h108 =>
    znn x107 fun a109 =>
    zgP h108 a109 1 0 fun x110 =>
    zno h108 6 4 fun a111 h112 =>
    zcl (f_X7_init_2 h112 a111) fun _ h114 =>
    znn x110 fun a115 =>
    zsO h114 a115 6 x103 (some a111) fun h116 =>
    zrc h116 a0 0 <| zcl (f_X1_ends h116 a0) fun _ h118 =>
    zret (.inl x103) h118)
  else
    (zcx (f_X1_checkState h104 (1 : Int32)) fun _ h120 =>
    zrc h120 a0 0 <| zcl (f_X1_begin h120 a0) fun x121 h122 =>
    znn x121 fun a123 =>
    zgP h122 a123 1 0 fun x124 =>
    zno h122 6 4 fun a125 h126 =>
    zcl (f_X7_init_2 h126 a125) fun _ h128 =>
    znn x124 fun a129 =>
    zsO h128 a129 6 x103 (some a125) fun h130 =>
    zrc h130 a0 0 <| zcl (f_X1_ends h130 a0) fun _ h132 =>
    zret (.inl x103) h132)
set_option maxHeartbeats 4000000 in
set_option maxRecDepth 100000 in
theorem m_X1_create (l : Launch) (hl0 : l.stackTraces = false) (D : va_G) (dA : Nat → ClassId) (b0 : Nat) (gs : Nat → Option Nat) (h : PH) (a0 : Nat) {r : (ZX Int32)} {hh : PH} {mc ms : Nat} (hf : f_X1_create h a0 = some (r, hh, mc, ms)) : zMx l D dA b0 gs yX1_create (ws_ yX1_create cX1_create 2 (some .int)) 8 202 [.ref a0] h evI r hh mc ms := by
  unfold f_X1_create at hf
  refine zMx.of (by decide) (Nat.le_of_ble_eq_true rfl) ?_
  intro p e s m args below meth c hc hr hin ht hn ls hl
  have hl : lv_has ls 2 [(0, .ref a0)] := hl
  have hq : 0 + mc = mc ∧ 0 + ms = ms := ⟨Nat.zero_add _, Nat.zero_add _⟩
  have hx := hc.x
  have hb := hc.b
  refine lv_aload_n (x := a0) hx hb dX1_create_0 rfl (lv_at hl 0 rfl) ?_
  refine zr_gP hc hn (ci := 0) rfl rfl in_X1 4 (by decide) q229 (fun _ h => h) (fun _ _ _ => rfl) hf dX1_create_1 (fun x101 hf => ?_)
  obtain ⟨a102, e9, hf9⟩ := znn_i hf
  subst e9
  have hf := hf9
  clear hf9
  refine zr_cVI (As := []) (rest := []) hc hn hq (ci := 1) rfl ⟨rfl, hd_X2_free⟩ (lw_V q1877 q1878 q1879 q85 q1880) (Nat.le_of_ble_eq_true rfl) (Nat.le_of_ble_eq_true rfl) (fun _ _ _ _ q => m_X2_free l D dA b0 gs h a102 q) hf dX1_create_4 hl.1 rfl rfl (zroom (Nat.le_of_ble_eq_true rfl)) (fun x103 h104 H locs cells slots C9 S9 hf hq hn => ?_)
  refine lv_istore_n (i := 1) (lv' := [(1, .int x103), (0, .ref a0)]) hx hb dX1_create_7 rfl hl (by decide) rfl (fun ls hl => ?_)
  refine lv_iload_n hx hb dX1_create_8 rfl (lv_at hl 0 rfl) ?_
  refine lv_iconst (v := (-1 : Int32)) hx hb dX1_create_9 (by decide) ?_
  refine lv_icmp_eq (tgt := 17) hx hb dX1_create_10 (by decide) (fun c9 => ?_) (fun c9 => ?_)
  · have hf := zif_t c9 hf
    refine lv_iconst (v := (0 : Int32)) hx hb dX1_create_17 (by decide) ?_
    refine zx_SU (As := [.int (0 : Int32)]) (rest := []) hc hn hq (fun x hx => (ht x hx).elim) hd_X1_checkState (lw_S q286 q287 q84 q288) (Nat.le_of_ble_eq_true rfl) (Nat.le_of_ble_eq_true rfl) (fun _ _ _ _ q => m_X1_checkState l hl0 D dA b0 gs h104 (0 : Int32) q) hf dX1_create_18 hl.1 rfl rfl (zroom (Nat.le_of_ble_eq_true rfl)) (fun x105 h106 H locs cells slots C9 S9 hf hq hn => ?_)
    refine lv_aload_n (x := a0) hx hb dX1_create_21 rfl (lv_at hl 1 rfl) ?_
    refine zr_cVP (As := []) (rest := []) hc hn hq (ci := 0) rfl ⟨rfl, hd_X1_begin⟩ (lw_V q1881 q1883 qs25 q84 q1884) (Nat.le_of_ble_eq_true rfl) (Nat.le_of_ble_eq_true rfl) (fun _ _ _ _ q => m_X1_begin l D dA b0 gs h106 a0 q) hf dX1_create_22 hl.1 rfl rfl (zroom (Nat.le_of_ble_eq_true rfl)) (fun x107 h108 H locs cells slots C9 S9 hf hq hn => ?_)
    obtain ⟨a109, e9, hf9⟩ := znn_i hf
    subst e9
    have hf := hf9
    clear hf9
    refine zr_gPN hc hn (ci := 1) rfl rfl in_X2 0 (by decide) q187 (fun _ h => h) (fun _ _ _ => rfl) hf dX1_create_25 (fun x110 hf => ?_)
    refine lv_iload_n hx hb dX1_create_28 rfl (lv_at hl 0 rfl) ?_
    refine zr_new hc hn hq (ci := 6) rfl rfl in_X7 tyX7_ok q1936 q813 q115 (zd_X7) hf dX1_create_29 (fun a111 h112 H cells slots C9 S9 hf hq hn => ?_)
    refine lv_dup hx hb dX1_create_32 rfl ?_
    refine zr_cI (As := []) (rest := [.ref a111, .int x103, va_rf x110]) hc hn hq rfl hd_X7_init_2 (lw_meth q1939) q1937 q1938 q115 (Nat.le_of_ble_eq_true rfl) (Nat.le_of_ble_eq_true rfl) (fun _ _ _ _ q => m_X7_init_2 l D dA b0 gs h112 a111 q) hf dX1_create_33 hl.1 rfl rfl (zroom (Nat.le_of_ble_eq_true rfl)) (fun x113 h114 H locs cells slots C9 S9 hf hq hn => ?_)
    obtain ⟨a115, e9, hf9⟩ := znn_i hf
    subst e9
    have hf := hf9
    clear hf9
    refine zr_sO (ai := 6) (x := (some a111)) (by decide) hc hn hf dX1_create_36 (fun h116 H locs hf hn => ?_)
    refine lv_aload_n (x := a0) hx hb dX1_create_37 rfl (lv_at hl 1 rfl) ?_
    refine zr_cVU (As := []) (rest := []) hc hn hq (ci := 0) rfl ⟨rfl, hd_X1_ends⟩ (lw_V q1941 q1943 qs28 q84 q1944) (Nat.le_of_ble_eq_true rfl) (Nat.le_of_ble_eq_true rfl) (fun _ _ _ _ q => m_X1_ends l D dA b0 gs h116 a0 q) hf dX1_create_38 hl.1 rfl rfl (zroom (Nat.le_of_ble_eq_true rfl)) (fun x117 h118 H locs cells slots C9 S9 hf hq hn => ?_)
    refine lv_iload_n hx hb dX1_create_41 rfl (lv_at hl 0 rfl) ?_
    obtain ⟨rfl, rfl, rfl, rfl⟩ := zretx_i hf
    exact zx_ret (zr_iret hc hn hr hq (fun _ _ _ _ q => ⟨_, rfl, q⟩) dX1_create_42)
  · have hf := zif_f c9 hf
    refine lv_iconst (v := (1 : Int32)) hx hb dX1_create_13 (by decide) ?_
    refine lv_goto (tgt := 18) hx hb dX1_create_14 (by decide) ?_
    refine zx_SU (As := [.int (1 : Int32)]) (rest := []) hc hn hq (fun x hx => (ht x hx).elim) hd_X1_checkState (lw_S q286 q287 q84 q288) (Nat.le_of_ble_eq_true rfl) (Nat.le_of_ble_eq_true rfl) (fun _ _ _ _ q => m_X1_checkState l hl0 D dA b0 gs h104 (1 : Int32) q) hf dX1_create_18 hl.1 rfl rfl (zroom (Nat.le_of_ble_eq_true rfl)) (fun x119 h120 H locs cells slots C9 S9 hf hq hn => ?_)
    refine lv_aload_n (x := a0) hx hb dX1_create_21 rfl (lv_at hl 1 rfl) ?_
    refine zr_cVP (As := []) (rest := []) hc hn hq (ci := 0) rfl ⟨rfl, hd_X1_begin⟩ (lw_V q1881 q1883 qs25 q84 q1884) (Nat.le_of_ble_eq_true rfl) (Nat.le_of_ble_eq_true rfl) (fun _ _ _ _ q => m_X1_begin l D dA b0 gs h120 a0 q) hf dX1_create_22 hl.1 rfl rfl (zroom (Nat.le_of_ble_eq_true rfl)) (fun x121 h122 H locs cells slots C9 S9 hf hq hn => ?_)
    obtain ⟨a123, e9, hf9⟩ := znn_i hf
    subst e9
    have hf := hf9
    clear hf9
    refine zr_gPN hc hn (ci := 1) rfl rfl in_X2 0 (by decide) q187 (fun _ h => h) (fun _ _ _ => rfl) hf dX1_create_25 (fun x124 hf => ?_)
    refine lv_iload_n hx hb dX1_create_28 rfl (lv_at hl 0 rfl) ?_
    refine zr_new hc hn hq (ci := 6) rfl rfl in_X7 tyX7_ok q1936 q813 q115 (zd_X7) hf dX1_create_29 (fun a125 h126 H cells slots C9 S9 hf hq hn => ?_)
    refine lv_dup hx hb dX1_create_32 rfl ?_
    refine zr_cI (As := []) (rest := [.ref a125, .int x103, va_rf x124]) hc hn hq rfl hd_X7_init_2 (lw_meth q1939) q1937 q1938 q115 (Nat.le_of_ble_eq_true rfl) (Nat.le_of_ble_eq_true rfl) (fun _ _ _ _ q => m_X7_init_2 l D dA b0 gs h126 a125 q) hf dX1_create_33 hl.1 rfl rfl (zroom (Nat.le_of_ble_eq_true rfl)) (fun x127 h128 H locs cells slots C9 S9 hf hq hn => ?_)
    obtain ⟨a129, e9, hf9⟩ := znn_i hf
    subst e9
    have hf := hf9
    clear hf9
    refine zr_sO (ai := 6) (x := (some a125)) (by decide) hc hn hf dX1_create_36 (fun h130 H locs hf hn => ?_)
    refine lv_aload_n (x := a0) hx hb dX1_create_37 rfl (lv_at hl 1 rfl) ?_
    refine zr_cVU (As := []) (rest := []) hc hn hq (ci := 0) rfl ⟨rfl, hd_X1_ends⟩ (lw_V q1941 q1943 qs28 q84 q1944) (Nat.le_of_ble_eq_true rfl) (Nat.le_of_ble_eq_true rfl) (fun _ _ _ _ q => m_X1_ends l D dA b0 gs h130 a0 q) hf dX1_create_38 hl.1 rfl rfl (zroom (Nat.le_of_ble_eq_true rfl)) (fun x131 h132 H locs cells slots C9 S9 hf hq hn => ?_)
    refine lv_iload_n hx hb dX1_create_41 rfl (lv_at hl 0 rfl) ?_
    obtain ⟨rfl, rfl, rfl, rfl⟩ := zretx_i hf
    exact zx_ret (zr_iret hc hn hr hq (fun _ _ _ _ q => ⟨_, rfl, q⟩) dX1_create_42)
theorem hd_X1_drop : yX1_drop.cls ≠ "java/lang/invoke/MethodHandle" ∧ yX1_drop.cls ≠ "java/lang/invoke/VarHandle" ∧ (parseMethodDescriptor yX1_drop.desc).map (fun d => d.parameters.length) = some 1 := by decide +kernel
def f_X1_drop (h : PH) (a0 : Nat) (v1 : Int32) : ZR (ZX Int32) :=
  zrc h a0 0 <| zcx (f_X1_at h a0 v1) fun x101 h102 =>
  znn x101 fun a103 =>
  zgI h102 a103 6 3 fun x104 =>
  zrc h102 a0 0 <| zcl (f_X1_begin h102 a0) fun x105 h106 =>
  znn x105 fun a107 =>
  zgP h106 a107 1 0 fun x108 =>
  znn x108 fun a109 =>
  zsO h106 a109 6 v1 (none : Option Nat) fun h110 =>
  zrc h110 a0 0 <| zcl (f_X1_ends h110 a0) fun _ h112 =>
  zret (.inl x104) h112
set_option maxHeartbeats 4000000 in
set_option maxRecDepth 100000 in
theorem m_X1_drop (l : Launch) (hl0 : l.stackTraces = false) (D : va_G) (dA : Nat → ClassId) (b0 : Nat) (gs : Nat → Option Nat) (h : PH) (a0 : Nat) (v1 : Int32) {r : (ZX Int32)} {hh : PH} {mc ms : Nat} (hf : f_X1_drop h a0 v1 = some (r, hh, mc, ms)) : zMx l D dA b0 gs yX1_drop (ws_ yX1_drop cX1_drop 3 (some .int)) 8 202 [.ref a0, .int v1] h evI r hh mc ms := by
  unfold f_X1_drop at hf
  refine zMx.of (by decide) (Nat.le_of_ble_eq_true rfl) ?_
  intro p e s m args below meth c hc hr hin ht hn ls hl
  have hl : lv_has ls 3 [(0, .ref a0), (1, .int v1)] := hl
  have hq : 0 + mc = mc ∧ 0 + ms = ms := ⟨Nat.zero_add _, Nat.zero_add _⟩
  have hx := hc.x
  have hb := hc.b
  refine lv_aload_n (x := a0) hx hb dX1_drop_0 rfl (lv_at hl 0 rfl) ?_
  refine lv_iload_n hx hb dX1_drop_1 rfl (lv_at hl 1 rfl) ?_
  refine zx_VP (As := [.int v1]) (rest := []) hc hn hq (fun x hx => (ht x hx).elim) (ci := 0) rfl ⟨rfl, hd_X1_at⟩ (lw_V q1170 q1172 qs15 q84 q1173) (Nat.le_of_ble_eq_true rfl) (Nat.le_of_ble_eq_true rfl) (fun _ _ _ _ q => m_X1_at l hl0 D dA b0 gs h a0 v1 q) hf dX1_drop_2 hl.1 rfl rfl (zroom (Nat.le_of_ble_eq_true rfl)) (fun x101 h102 H locs cells slots C9 S9 hf hq hn => ?_)
  obtain ⟨a103, e9, hf9⟩ := znn_i hf
  subst e9
  have hf := hf9
  clear hf9
  refine zr_gIN hc hn (ci := 6) rfl rfl in_X7 3 (by decide) q877 (fun _ h => h) (fun _ _ _ => rfl) hf dX1_drop_5 (fun x104 hf => ?_)
  refine lv_istore_n (i := 2) (lv' := [(2, .int x104), (0, .ref a0), (1, .int v1)]) hx hb dX1_drop_8 rfl hl (by decide) rfl (fun ls hl => ?_)
  refine lv_aload_n (x := a0) hx hb dX1_drop_9 rfl (lv_at hl 1 rfl) ?_
  refine zr_cVP (As := []) (rest := []) hc hn hq (ci := 0) rfl ⟨rfl, hd_X1_begin⟩ (lw_V q1881 q1883 qs25 q84 q1884) (Nat.le_of_ble_eq_true rfl) (Nat.le_of_ble_eq_true rfl) (fun _ _ _ _ q => m_X1_begin l D dA b0 gs h102 a0 q) hf dX1_drop_10 hl.1 rfl rfl (zroom (Nat.le_of_ble_eq_true rfl)) (fun x105 h106 H locs cells slots C9 S9 hf hq hn => ?_)
  obtain ⟨a107, e9, hf9⟩ := znn_i hf
  subst e9
  have hf := hf9
  clear hf9
  refine zr_gPN hc hn (ci := 1) rfl rfl in_X2 0 (by decide) q187 (fun _ h => h) (fun _ _ _ => rfl) hf dX1_drop_13 (fun x108 hf => ?_)
  refine lv_iload_n hx hb dX1_drop_16 rfl (lv_at hl 2 rfl) ?_
  refine lv_null hx hb dX1_drop_17 ?_
  obtain ⟨a109, e9, hf9⟩ := znn_i hf
  subst e9
  have hf := hf9
  clear hf9
  refine zr_sO (ai := 6) (x := (none : Option Nat)) (by decide) hc hn hf dX1_drop_18 (fun h110 H locs hf hn => ?_)
  refine lv_aload_n (x := a0) hx hb dX1_drop_19 rfl (lv_at hl 1 rfl) ?_
  refine zr_cVU (As := []) (rest := []) hc hn hq (ci := 0) rfl ⟨rfl, hd_X1_ends⟩ (lw_V q1941 q1943 qs28 q84 q1944) (Nat.le_of_ble_eq_true rfl) (Nat.le_of_ble_eq_true rfl) (fun _ _ _ _ q => m_X1_ends l D dA b0 gs h110 a0 q) hf dX1_drop_20 hl.1 rfl rfl (zroom (Nat.le_of_ble_eq_true rfl)) (fun x111 h112 H locs cells slots C9 S9 hf hq hn => ?_)
  refine lv_iload_n hx hb dX1_drop_23 rfl (lv_at hl 0 rfl) ?_
  obtain ⟨rfl, rfl, rfl, rfl⟩ := zretx_i hf
  exact zx_ret (zr_iret hc hn hr hq (fun _ _ _ _ q => ⟨_, rfl, q⟩) dX1_drop_24)
theorem hd_X1_setValue : yX1_setValue.cls ≠ "java/lang/invoke/MethodHandle" ∧ yX1_setValue.cls ≠ "java/lang/invoke/VarHandle" ∧ (parseMethodDescriptor yX1_setValue.desc).map (fun d => d.parameters.length) = some 3 := by decide +kernel
def f_X1_setValue (h : PH) (a0 : Nat) (v1 : Int32) (v2 : Int32) (v3 : Int32) : ZR (ZX Int32) :=
  zrc h a0 0 <| zcx (f_X1_at h a0 v1) fun x101 h102 =>
  zna h102 0 (2 : Int32) fun a103 h104 =>
  zsI h104 a103 0 (0 : Int32) v2 fun h105 =>
  zsI h105 a103 0 (1 : Int32) v3 fun h106 =>
  zcx (f_X1_checkNumbers h106 a103) fun _ h108 =>
  znn x101 fun a109 =>
  zcx (f_X1_nodeOf h108 a109 v2) fun x110 h111 =>
  znn x110 fun a112 =>
  zgI h111 a112 7 4 fun x113 =>
  zrc h111 a0 0 <| zcl (f_X1_begin h111 a0) fun x114 h115 =>
  znn x114 fun a116 =>
  zrc h115 a116 1 <| zcl (f_X2_own h115 a116 v1) fun x117 h118 =>
  znn x117 fun a119 =>
  zcx (f_X1_nodeOf h118 a119 v2) fun x120 h121 =>
  znn x120 fun a122 =>
  zrc h121 a119 6 <| zcl (f_X7_setValue h121 a119 a122 v3) fun _ h124 =>
  zrc h124 a0 0 <| zcl (f_X1_ends h124 a0) fun _ h126 =>
  zret (.inl x113) h126
set_option maxHeartbeats 4000000 in
set_option maxRecDepth 100000 in
theorem m_X1_setValue (l : Launch) (hl0 : l.stackTraces = false) (D : va_G) (dA : Nat → ClassId) (b0 : Nat) (gs : Nat → Option Nat) (h : PH) (a0 : Nat) (v1 : Int32) (v2 : Int32) (v3 : Int32) {r : (ZX Int32)} {hh : PH} {mc ms : Nat} (hf : f_X1_setValue h a0 v1 v2 v3 = some (r, hh, mc, ms)) : zMx l D dA b0 gs yX1_setValue (ws_ yX1_setValue cX1_setValue 7 (some .int)) 8 202 [.ref a0, .int v1, .int v2, .int v3] h evI r hh mc ms := by
  unfold f_X1_setValue at hf
  refine zMx.of (by decide) (Nat.le_of_ble_eq_true rfl) ?_
  intro p e s m args below meth c hc hr hin ht hn ls hl
  have hl : lv_has ls 7 [(0, .ref a0), (1, .int v1), (2, .int v2), (3, .int v3)] := hl
  have hq : 0 + mc = mc ∧ 0 + ms = ms := ⟨Nat.zero_add _, Nat.zero_add _⟩
  have hx := hc.x
  have hb := hc.b
  refine lv_aload_n (x := a0) hx hb dX1_setValue_0 rfl (lv_at hl 0 rfl) ?_
  refine lv_iload_n hx hb dX1_setValue_1 rfl (lv_at hl 1 rfl) ?_
  refine zx_VP (As := [.int v1]) (rest := []) hc hn hq (fun x hx => (ht x hx).elim) (ci := 0) rfl ⟨rfl, hd_X1_at⟩ (lw_V q1170 q1172 qs15 q84 q1173) (Nat.le_of_ble_eq_true rfl) (Nat.le_of_ble_eq_true rfl) (fun _ _ _ _ q => m_X1_at l hl0 D dA b0 gs h a0 v1 q) hf dX1_setValue_2 hl.1 rfl rfl (zroom (Nat.le_of_ble_eq_true rfl)) (fun x101 h102 H locs cells slots C9 S9 hf hq hn => ?_)
  refine zr_astore (x := x101) (lv' := [(4, va_rf x101), (0, .ref a0), (1, .int v1), (2, .int v2), (3, .int v3)]) hx hb dX1_setValue_5 hl (by decide) rfl (fun ls hl => ?_)
  refine lv_iconst (v := (2 : Int32)) hx hb dX1_setValue_7 (by decide) ?_
  refine zr_na0 hc hn hq q180 hf dX1_setValue_8 (fun a103 h104 H cells slots C9 S9 hf hq hn => ?_)
  refine lv_dup hx hb dX1_setValue_10 rfl ?_
  refine lv_iconst (v := (0 : Int32)) hx hb dX1_setValue_11 (by decide) ?_
  refine lv_iload_n hx hb dX1_setValue_12 rfl (lv_at hl 3 rfl) ?_
  refine zr_sI hc hn hf dX1_setValue_13 (fun h105 H locs hf hn => ?_)
  refine lv_dup hx hb dX1_setValue_14 rfl ?_
  refine lv_iconst (v := (1 : Int32)) hx hb dX1_setValue_15 (by decide) ?_
  refine lv_iload_n hx hb dX1_setValue_16 rfl (lv_at hl 4 rfl) ?_
  refine zr_sI hc hn hf dX1_setValue_17 (fun h106 H locs hf hn => ?_)
  refine zx_SU (As := [.ref a103]) (rest := []) hc hn hq (fun x hx => (ht x hx).elim) hd_X1_checkNumbers (lw_S q1223 q1224 q84 q1225) (Nat.le_of_ble_eq_true rfl) (Nat.le_of_ble_eq_true rfl) (fun _ _ _ _ q => m_X1_checkNumbers l hl0 D dA b0 gs h106 a103 q) hf dX1_setValue_18 hl.1 rfl rfl (zroom (Nat.le_of_ble_eq_true rfl)) (fun x107 h108 H locs cells slots C9 S9 hf hq hn => ?_)
  refine zr_aload (x := x101) hx hb dX1_setValue_21 (lv_at hl 0 rfl) ?_
  refine lv_iload_n hx hb dX1_setValue_23 rfl (lv_at hl 3 rfl) ?_
  obtain ⟨a109, e9, hf9⟩ := znn_i hf
  subst e9
  have hf := hf9
  clear hf9
  refine zx_SP (As := [.ref a109, .int v2]) (rest := []) hc hn hq (fun x hx => (ht x hx).elim) hd_X1_nodeOf (lw_S q1229 q1230 q84 q1231) (Nat.le_of_ble_eq_true rfl) (Nat.le_of_ble_eq_true rfl) (fun _ _ _ _ q => m_X1_nodeOf l hl0 D dA b0 gs h108 a109 v2 q) hf dX1_setValue_24 hl.1 rfl rfl (zroom (Nat.le_of_ble_eq_true rfl)) (fun x110 h111 H locs cells slots C9 S9 hf hq hn => ?_)
  obtain ⟨a112, e9, hf9⟩ := znn_i hf
  subst e9
  have hf := hf9
  clear hf9
  refine zr_gIN hc hn (ci := 7) rfl rfl in_X8 4 (by decide) q846 (fun _ h => h) (fun _ _ _ => rfl) hf dX1_setValue_27 (fun x113 hf => ?_)
  refine lv_istore (lv' := [(5, .int x113), (4, .ref a109), (0, .ref a0), (1, .int v1), (2, .int v2), (3, .int v3)]) hx hb dX1_setValue_30 hl (by decide) rfl (fun ls hl => ?_)
  refine lv_aload_n (x := a0) hx hb dX1_setValue_32 rfl (lv_at hl 2 rfl) ?_
  refine zr_cVP (As := []) (rest := []) hc hn hq (ci := 0) rfl ⟨rfl, hd_X1_begin⟩ (lw_V q1881 q1883 qs25 q84 q1884) (Nat.le_of_ble_eq_true rfl) (Nat.le_of_ble_eq_true rfl) (fun _ _ _ _ q => m_X1_begin l D dA b0 gs h111 a0 q) hf dX1_setValue_33 hl.1 rfl rfl (zroom (Nat.le_of_ble_eq_true rfl)) (fun x114 h115 H locs cells slots C9 S9 hf hq hn => ?_)
  refine lv_iload_n hx hb dX1_setValue_36 rfl (lv_at hl 3 rfl) ?_
  obtain ⟨a116, e9, hf9⟩ := znn_i hf
  subst e9
  have hf := hf9
  clear hf9
  refine zr_cVP (As := [.int v1]) (rest := []) hc hn hq (ci := 1) rfl ⟨rfl, hd_X2_own⟩ (lw_V q1975 q1976 q1977 q85 q1978) (Nat.le_of_ble_eq_true rfl) (Nat.le_of_ble_eq_true rfl) (fun _ _ _ _ q => m_X2_own l D dA b0 gs h115 a116 v1 q) hf dX1_setValue_37 hl.1 rfl rfl (zroom (Nat.le_of_ble_eq_true rfl)) (fun x117 h118 H locs cells slots C9 S9 hf hq hn => ?_)
  refine zr_astore (x := x117) (lv' := [(6, va_rf x117), (5, .int x113), (4, .ref a109), (0, .ref a0), (1, .int v1), (2, .int v2), (3, .int v3)]) hx hb dX1_setValue_40 hl (by decide) rfl (fun ls hl => ?_)
  refine zr_aload (x := x117) hx hb dX1_setValue_42 (lv_at hl 0 rfl) ?_
  refine zr_aload (x := x117) hx hb dX1_setValue_44 (lv_at hl 0 rfl) ?_
  refine lv_iload_n hx hb dX1_setValue_46 rfl (lv_at hl 5 rfl) ?_
  obtain ⟨a119, e9, hf9⟩ := znn_i hf
  subst e9
  have hf := hf9
  clear hf9
  refine zx_SP (As := [.ref a119, .int v2]) (rest := [.ref a119]) hc hn hq (fun x hx => (ht x hx).elim) hd_X1_nodeOf (lw_S q1229 q1230 q84 q1231) (Nat.le_of_ble_eq_true rfl) (Nat.le_of_ble_eq_true rfl) (fun _ _ _ _ q => m_X1_nodeOf l hl0 D dA b0 gs h118 a119 v2 q) hf dX1_setValue_47 hl.1 rfl rfl (zroom (Nat.le_of_ble_eq_true rfl)) (fun x120 h121 H locs cells slots C9 S9 hf hq hn => ?_)
  refine lv_iload_n hx hb dX1_setValue_50 rfl (lv_at hl 6 rfl) ?_
  obtain ⟨a122, e9, hf9⟩ := znn_i hf
  subst e9
  have hf := hf9
  clear hf9
  refine zr_cVU (As := [.ref a122, .int v3]) (rest := []) hc hn hq (ci := 6) rfl ⟨rfl, hd_X7_setValue⟩ (lw_V q1998 q1999 q2000 q115 q2001) (Nat.le_of_ble_eq_true rfl) (Nat.le_of_ble_eq_true rfl) (fun _ _ _ _ q => m_X7_setValue l D dA b0 gs h121 a119 a122 v3 q) hf dX1_setValue_51 hl.1 rfl rfl (zroom (Nat.le_of_ble_eq_true rfl)) (fun x123 h124 H locs cells slots C9 S9 hf hq hn => ?_)
  refine lv_aload_n (x := a0) hx hb dX1_setValue_54 rfl (lv_at hl 3 rfl) ?_
  refine zr_cVU (As := []) (rest := []) hc hn hq (ci := 0) rfl ⟨rfl, hd_X1_ends⟩ (lw_V q1941 q1943 qs28 q84 q1944) (Nat.le_of_ble_eq_true rfl) (Nat.le_of_ble_eq_true rfl) (fun _ _ _ _ q => m_X1_ends l D dA b0 gs h124 a0 q) hf dX1_setValue_55 hl.1 rfl rfl (zroom (Nat.le_of_ble_eq_true rfl)) (fun x125 h126 H locs cells slots C9 S9 hf hq hn => ?_)
  refine lv_iload hx hb dX1_setValue_58 (lv_at hl 1 rfl) ?_
  obtain ⟨rfl, rfl, rfl, rfl⟩ := zretx_i hf
  exact zx_ret (zr_iret hc hn hr hq (fun _ _ _ _ q => ⟨_, rfl, q⟩) dX1_setValue_60)
theorem hd_X1_undo : yX1_undo.cls ≠ "java/lang/invoke/MethodHandle" ∧ yX1_undo.cls ≠ "java/lang/invoke/VarHandle" ∧ (parseMethodDescriptor yX1_undo.desc).map (fun d => d.parameters.length) = some 0 := by decide +kernel
def f_X1_undo (h : PH) (a0 : Nat) : ZR (ZX Int32) :=
  zgP h a0 0 5 fun x101 =>
  znn x101 fun a102 =>
  zrc h a102 13 <| zcl (f_J3_isEmpty h a102) fun x103 h104 =>
  if x103 = 0 then
    (zcx (f_X1_checkState h104 (1 : Int32)) fun _ h117 =>
    zgP h117 a0 0 5 fun x118 =>
    znn x118 fun a119 =>
    zrc h117 a119 13 <| zcl (f_J3_pollLast h117 a119) fun x120 h121 =>
    zcast h121 1 x120 <|
    zpP h121 a0 0 4 x120 fun h122 =>
    zgP h122 a0 0 5 fun x123 =>
    znn x123 fun a124 =>
    zrc h122 a124 13 <| zcl (f_J3_size h122 a124) fun x125 h126 =>
    zret (.inl x125) h126)
  else
    (zcx (f_X1_checkState h104 (0 : Int32)) fun _ h106 =>
    zgP h106 a0 0 5 fun x107 =>
    znn x107 fun a108 =>
    zrc h106 a108 13 <| zcl (f_J3_pollLast h106 a108) fun x109 h110 =>
    zcast h110 1 x109 <|
    zpP h110 a0 0 4 x109 fun h111 =>
    zgP h111 a0 0 5 fun x112 =>
    znn x112 fun a113 =>
    zrc h111 a113 13 <| zcl (f_J3_size h111 a113) fun x114 h115 =>
    zret (.inl x114) h115)
set_option maxHeartbeats 4000000 in
set_option maxRecDepth 100000 in
theorem m_X1_undo (l : Launch) (hl0 : l.stackTraces = false) (D : va_G) (dA : Nat → ClassId) (b0 : Nat) (gs : Nat → Option Nat) (h : PH) (a0 : Nat) {r : (ZX Int32)} {hh : PH} {mc ms : Nat} (hf : f_X1_undo h a0 = some (r, hh, mc, ms)) : zMx l D dA b0 gs yX1_undo (ws_ yX1_undo cX1_undo 1 (some .int)) 7 140 [.ref a0] h evI r hh mc ms := by
  unfold f_X1_undo at hf
  refine zMx.of (by decide) (Nat.le_of_ble_eq_true rfl) ?_
  intro p e s m args below meth c hc hr hin ht hn ls hl
  have hl : lv_has ls 1 [(0, .ref a0)] := hl
  have hq : 0 + mc = mc ∧ 0 + ms = ms := ⟨Nat.zero_add _, Nat.zero_add _⟩
  have hx := hc.x
  have hb := hc.b
  refine lv_aload_n (x := a0) hx hb dX1_undo_0 rfl (lv_at hl 0 rfl) ?_
  refine zr_gP hc hn (ci := 0) rfl rfl in_X1 5 (by decide) q230 (fun _ h => h) (fun _ _ _ => rfl) hf dX1_undo_1 (fun x101 hf => ?_)
  obtain ⟨a102, e9, hf9⟩ := znn_i hf
  subst e9
  have hf := hf9
  clear hf9
  refine zr_cVI (As := []) (rest := []) hc hn hq (ci := 13) rfl ⟨rfl, hd_J3_isEmpty⟩ (lw_V q2064 q2065 q2066 q90 q2067) (Nat.le_of_ble_eq_true rfl) (Nat.le_of_ble_eq_true rfl) (fun _ _ _ _ q => m_J3_isEmpty l D dA b0 gs h a102 q) hf dX1_undo_4 hl.1 rfl rfl (zroom (Nat.le_of_ble_eq_true rfl)) (fun x103 h104 H locs cells slots C9 S9 hf hq hn => ?_)
  refine lv_if_ne (tgt := 14) hx hb dX1_undo_7 (by decide) (fun c9 => ?_) (fun c9 => ?_)
  · have hf := zif_f c9 hf
    refine lv_iconst (v := (0 : Int32)) hx hb dX1_undo_14 (by decide) ?_
    refine zx_SU (As := [.int (0 : Int32)]) (rest := []) hc hn hq (fun x hx => (ht x hx).elim) hd_X1_checkState (lw_S q286 q287 q84 q288) (Nat.le_of_ble_eq_true rfl) (Nat.le_of_ble_eq_true rfl) (fun _ _ _ _ q => m_X1_checkState l hl0 D dA b0 gs h104 (0 : Int32) q) hf dX1_undo_15 hl.1 rfl rfl (zroom (Nat.le_of_ble_eq_true rfl)) (fun x105 h106 H locs cells slots C9 S9 hf hq hn => ?_)
    refine lv_aload_n (x := a0) hx hb dX1_undo_18 rfl (lv_at hl 0 rfl) ?_
    refine lv_aload_n (x := a0) hx hb dX1_undo_19 rfl (lv_at hl 0 rfl) ?_
    refine zr_gP hc hn (ci := 0) rfl rfl in_X1 5 (by decide) q230 (fun _ h => h) (fun _ _ _ => rfl) hf dX1_undo_20 (fun x107 hf => ?_)
    obtain ⟨a108, e9, hf9⟩ := znn_i hf
    subst e9
    have hf := hf9
    clear hf9
    refine zr_cVP (As := []) (rest := [.ref a0]) hc hn hq (ci := 13) rfl ⟨rfl, hd_J3_pollLast⟩ (lw_V q2068 q2069 q2070 q90 q2071) (Nat.le_of_ble_eq_true rfl) (Nat.le_of_ble_eq_true rfl) (fun _ _ _ _ q => m_J3_pollLast l D dA b0 gs h106 a108 q) hf dX1_undo_23 hl.1 rfl rfl (zroom (Nat.le_of_ble_eq_true rfl)) (fun x109 h110 H locs cells slots C9 S9 hf hq hn => ?_)
    refine zr_cast (o := x109) hc hn (ci := 1) rfl q139 (Or.inl rfl) hf dX1_undo_26 (fun hf => ?_)
    refine zr_pP (x := x109) hc hn (ci := 0) rfl rfl in_X1 4 (by decide) tyX1 tyX1_ok nmX1 q229 (fun _ h => h) (Or.inl rfl) (fun _ _ _ => rfl) (zn_rf _ (by decide)) (zf_rf _ (by decide)) hf dX1_undo_29 (fun h111 H locs hf hn => ?_)
    refine lv_aload_n (x := a0) hx hb dX1_undo_32 rfl (lv_at hl 0 rfl) ?_
    refine zr_gP hc hn (ci := 0) rfl rfl in_X1 5 (by decide) q230 (fun _ h => h) (fun _ _ _ => rfl) hf dX1_undo_33 (fun x112 hf => ?_)
    obtain ⟨a113, e9, hf9⟩ := znn_i hf
    subst e9
    have hf := hf9
    clear hf9
    refine zr_cVI (As := []) (rest := []) hc hn hq (ci := 13) rfl ⟨rfl, hd_J3_size⟩ (lw_V q1885 q1886 q1887 q90 q1888) (Nat.le_of_ble_eq_true rfl) (Nat.le_of_ble_eq_true rfl) (fun _ _ _ _ q => m_J3_size l D dA b0 gs h111 a113 q) hf dX1_undo_36 hl.1 rfl rfl (zroom (Nat.le_of_ble_eq_true rfl)) (fun x114 h115 H locs cells slots C9 S9 hf hq hn => ?_)
    obtain ⟨rfl, rfl, rfl, rfl⟩ := zretx_i hf
    exact zx_ret (zr_iret hc hn hr hq (fun _ _ _ _ q => ⟨_, rfl, q⟩) dX1_undo_39)
  · have hf := zif_t c9 hf
    refine lv_iconst (v := (1 : Int32)) hx hb dX1_undo_10 (by decide) ?_
    refine lv_goto (tgt := 15) hx hb dX1_undo_11 (by decide) ?_
    refine zx_SU (As := [.int (1 : Int32)]) (rest := []) hc hn hq (fun x hx => (ht x hx).elim) hd_X1_checkState (lw_S q286 q287 q84 q288) (Nat.le_of_ble_eq_true rfl) (Nat.le_of_ble_eq_true rfl) (fun _ _ _ _ q => m_X1_checkState l hl0 D dA b0 gs h104 (1 : Int32) q) hf dX1_undo_15 hl.1 rfl rfl (zroom (Nat.le_of_ble_eq_true rfl)) (fun x116 h117 H locs cells slots C9 S9 hf hq hn => ?_)
    refine lv_aload_n (x := a0) hx hb dX1_undo_18 rfl (lv_at hl 0 rfl) ?_
    refine lv_aload_n (x := a0) hx hb dX1_undo_19 rfl (lv_at hl 0 rfl) ?_
    refine zr_gP hc hn (ci := 0) rfl rfl in_X1 5 (by decide) q230 (fun _ h => h) (fun _ _ _ => rfl) hf dX1_undo_20 (fun x118 hf => ?_)
    obtain ⟨a119, e9, hf9⟩ := znn_i hf
    subst e9
    have hf := hf9
    clear hf9
    refine zr_cVP (As := []) (rest := [.ref a0]) hc hn hq (ci := 13) rfl ⟨rfl, hd_J3_pollLast⟩ (lw_V q2068 q2069 q2070 q90 q2071) (Nat.le_of_ble_eq_true rfl) (Nat.le_of_ble_eq_true rfl) (fun _ _ _ _ q => m_J3_pollLast l D dA b0 gs h117 a119 q) hf dX1_undo_23 hl.1 rfl rfl (zroom (Nat.le_of_ble_eq_true rfl)) (fun x120 h121 H locs cells slots C9 S9 hf hq hn => ?_)
    refine zr_cast (o := x120) hc hn (ci := 1) rfl q139 (Or.inl rfl) hf dX1_undo_26 (fun hf => ?_)
    refine zr_pP (x := x120) hc hn (ci := 0) rfl rfl in_X1 4 (by decide) tyX1 tyX1_ok nmX1 q229 (fun _ h => h) (Or.inl rfl) (fun _ _ _ => rfl) (zn_rf _ (by decide)) (zf_rf _ (by decide)) hf dX1_undo_29 (fun h122 H locs hf hn => ?_)
    refine lv_aload_n (x := a0) hx hb dX1_undo_32 rfl (lv_at hl 0 rfl) ?_
    refine zr_gP hc hn (ci := 0) rfl rfl in_X1 5 (by decide) q230 (fun _ h => h) (fun _ _ _ => rfl) hf dX1_undo_33 (fun x123 hf => ?_)
    obtain ⟨a124, e9, hf9⟩ := znn_i hf
    subst e9
    have hf := hf9
    clear hf9
    refine zr_cVI (As := []) (rest := []) hc hn hq (ci := 13) rfl ⟨rfl, hd_J3_size⟩ (lw_V q1885 q1886 q1887 q90 q1888) (Nat.le_of_ble_eq_true rfl) (Nat.le_of_ble_eq_true rfl) (fun _ _ _ _ q => m_J3_size l D dA b0 gs h122 a124 q) hf dX1_undo_36 hl.1 rfl rfl (zroom (Nat.le_of_ble_eq_true rfl)) (fun x125 h126 H locs cells slots C9 S9 hf hq hn => ?_)
    obtain ⟨rfl, rfl, rfl, rfl⟩ := zretx_i hf
    exact zx_ret (zr_iret hc hn hr hq (fun _ _ _ _ q => ⟨_, rfl, q⟩) dX1_undo_39)
theorem hd_X1_checkSlot : yX1_checkSlot.cls ≠ "java/lang/invoke/MethodHandle" ∧ yX1_checkSlot.cls ≠ "java/lang/invoke/VarHandle" ∧ (parseMethodDescriptor yX1_checkSlot.desc).map (fun d => d.parameters.length) = some 1 := by decide +kernel
def f_X1_checkSlot (h : PH) (v0 : Int32) : ZR (ZX Unit) :=
  zcl (f_X1_isIn h v0 (0 : Int32) (1 : Int32)) fun x101 h102 =>
  zcx (f_X1_checkIndex h102 x101) fun _ h104 =>
  zret (.inl ()) h104
set_option maxHeartbeats 4000000 in
set_option maxRecDepth 100000 in
theorem m_X1_checkSlot (l : Launch) (hl0 : l.stackTraces = false) (D : va_G) (dA : Nat → ClassId) (b0 : Nat) (gs : Nat → Option Nat) (h : PH) (v0 : Int32) {r : (ZX Unit)} {hh : PH} {mc ms : Nat} (hf : f_X1_checkSlot h v0 = some (r, hh, mc, ms)) : zMx l D dA b0 gs yX1_checkSlot (ws_ yX1_checkSlot cX1_checkSlot 1 none) 7 140 [.int v0] h evU r hh mc ms := by
  unfold f_X1_checkSlot at hf
  refine zMx.of (by decide) (Nat.le_of_ble_eq_true rfl) ?_
  intro p e s m args below meth c hc hr hin ht hn ls hl
  have hl : lv_has ls 1 [(0, .int v0)] := hl
  have hq : 0 + mc = mc ∧ 0 + ms = ms := ⟨Nat.zero_add _, Nat.zero_add _⟩
  have hx := hc.x
  have hb := hc.b
  refine lv_iload_n hx hb dX1_checkSlot_0 rfl (lv_at hl 0 rfl) ?_
  refine lv_iconst (v := (0 : Int32)) hx hb dX1_checkSlot_1 (by decide) ?_
  refine lv_iconst (v := (1 : Int32)) hx hb dX1_checkSlot_2 (by decide) ?_
  refine zr_cSI (As := [.int v0, .int (0 : Int32), .int (1 : Int32)]) (rest := []) hc hn hq hd_X1_isIn (lw_S q259 q260 q84 q261) (Nat.le_of_ble_eq_true rfl) (Nat.le_of_ble_eq_true rfl) (fun _ _ _ _ q => m_X1_isIn l D dA b0 gs h v0 (0 : Int32) (1 : Int32) q) hf dX1_checkSlot_3 hl.1 rfl rfl (zroom (Nat.le_of_ble_eq_true rfl)) (fun x101 h102 H locs cells slots C9 S9 hf hq hn => ?_)
  refine zx_SU (As := [.int x101]) (rest := []) hc hn hq (fun x hx => (ht x hx).elim) hd_X1_checkIndex (lw_S q395 q396 q84 q397) (Nat.le_of_ble_eq_true rfl) (Nat.le_of_ble_eq_true rfl) (fun _ _ _ _ q => m_X1_checkIndex l hl0 D dA b0 gs h102 x101 q) hf dX1_checkSlot_6 hl.1 rfl rfl (zroom (Nat.le_of_ble_eq_true rfl)) (fun x103 h104 H locs cells slots C9 S9 hf hq hn => ?_)
  obtain ⟨rfl, rfl, rfl, rfl⟩ := zretx_i hf
  exact zx_ret (zr_vret hc hn hr hq (fun _ _ _ _ q => ⟨_, rfl, q⟩) dX1_checkSlot_9)
theorem hd_X1_save : yX1_save.cls ≠ "java/lang/invoke/MethodHandle" ∧ yX1_save.cls ≠ "java/lang/invoke/VarHandle" ∧ (parseMethodDescriptor yX1_save.desc).map (fun d => d.parameters.length) = some 1 := by decide +kernel
def f_X1_save (h : PH) (a0 : Nat) (v1 : Int32) : ZR (ZX Unit) :=
  zcx (f_X1_checkSlot h v1) fun _ h102 =>
  zgP h102 a0 0 6 fun x103 =>
  zgP h102 a0 0 4 fun x104 =>
  znn x103 fun a105 =>
  zsO h102 a105 7 v1 x104 fun h106 =>
  zret (.inl ()) h106
set_option maxHeartbeats 4000000 in
set_option maxRecDepth 100000 in
theorem m_X1_save (l : Launch) (hl0 : l.stackTraces = false) (D : va_G) (dA : Nat → ClassId) (b0 : Nat) (gs : Nat → Option Nat) (h : PH) (a0 : Nat) (v1 : Int32) {r : (ZX Unit)} {hh : PH} {mc ms : Nat} (hf : f_X1_save h a0 v1 = some (r, hh, mc, ms)) : zMx l D dA b0 gs yX1_save (ws_ yX1_save cX1_save 2 none) 8 160 [.ref a0, .int v1] h evU r hh mc ms := by
  unfold f_X1_save at hf
  refine zMx.of (by decide) (Nat.le_of_ble_eq_true rfl) ?_
  intro p e s m args below meth c hc hr hin ht hn ls hl
  have hl : lv_has ls 2 [(0, .ref a0), (1, .int v1)] := hl
  have hq : 0 + mc = mc ∧ 0 + ms = ms := ⟨Nat.zero_add _, Nat.zero_add _⟩
  have hx := hc.x
  have hb := hc.b
  refine lv_iload_n hx hb dX1_save_0 rfl (lv_at hl 1 rfl) ?_
  refine zx_SU (As := [.int v1]) (rest := []) hc hn hq (fun x hx => (ht x hx).elim) hd_X1_checkSlot (lw_S q2082 q2083 q84 q2084) (Nat.le_of_ble_eq_true rfl) (Nat.le_of_ble_eq_true rfl) (fun _ _ _ _ q => m_X1_checkSlot l hl0 D dA b0 gs h v1 q) hf dX1_save_1 hl.1 rfl rfl (zroom (Nat.le_of_ble_eq_true rfl)) (fun x101 h102 H locs cells slots C9 S9 hf hq hn => ?_)
  refine lv_aload_n (x := a0) hx hb dX1_save_4 rfl (lv_at hl 0 rfl) ?_
  refine zr_gP hc hn (ci := 0) rfl rfl in_X1 6 (by decide) q231 (fun _ h => h) (fun _ _ _ => rfl) hf dX1_save_5 (fun x103 hf => ?_)
  refine lv_iload_n hx hb dX1_save_8 rfl (lv_at hl 1 rfl) ?_
  refine lv_aload_n (x := a0) hx hb dX1_save_9 rfl (lv_at hl 0 rfl) ?_
  refine zr_gP hc hn (ci := 0) rfl rfl in_X1 4 (by decide) q229 (fun _ h => h) (fun _ _ _ => rfl) hf dX1_save_10 (fun x104 hf => ?_)
  obtain ⟨a105, e9, hf9⟩ := znn_i hf
  subst e9
  have hf := hf9
  clear hf9
  refine zr_sO (ai := 7) (x := x104) (by decide) hc hn hf dX1_save_13 (fun h106 H locs hf hn => ?_)
  obtain ⟨rfl, rfl, rfl, rfl⟩ := zretx_i hf
  exact zx_ret (zr_vret hc hn hr hq (fun _ _ _ _ q => ⟨_, rfl, q⟩) dX1_save_14)
theorem hd_X1_restore : yX1_restore.cls ≠ "java/lang/invoke/MethodHandle" ∧ yX1_restore.cls ≠ "java/lang/invoke/VarHandle" ∧ (parseMethodDescriptor yX1_restore.desc).map (fun d => d.parameters.length) = some 1 := by decide +kernel
def f_X1_restore (h : PH) (a0 : Nat) (v1 : Int32) : ZR (ZX Unit) :=
  zcx (f_X1_checkSlot h v1) fun _ h102 =>
  zgP h102 a0 0 6 fun x103 =>
  znn x103 fun a104 =>
  zaP h102 a104 7 v1 fun x105 =>
  znul x105
    (zcx (f_X1_checkElement h102 (0 : Int32)) fun _ h108 =>
    zgP h108 a0 0 6 fun x109 =>
    znn x109 fun a110 =>
    zaP h108 a110 7 v1 fun x111 =>
    zpP h108 a0 0 4 x111 fun h112 =>
    zgP h112 a0 0 5 fun x113 =>
    znn x113 fun a114 =>
    zrc h112 a114 13 <| zcl (f_J3_clear h112 a114) fun _ h116 =>
    zret (.inl ()) h116)
    (fun a106 =>
      zcx (f_X1_checkElement h102 (1 : Int32)) fun _ h118 =>
      zgP h118 a0 0 6 fun x119 =>
      znn x119 fun a120 =>
      zaP h118 a120 7 v1 fun x121 =>
      zpP h118 a0 0 4 x121 fun h122 =>
      zgP h122 a0 0 5 fun x123 =>
      znn x123 fun a124 =>
      zrc h122 a124 13 <| zcl (f_J3_clear h122 a124) fun _ h126 =>
      zret (.inl ()) h126)
set_option maxHeartbeats 4000000 in
set_option maxRecDepth 100000 in
theorem m_X1_restore (l : Launch) (hl0 : l.stackTraces = false) (D : va_G) (dA : Nat → ClassId) (b0 : Nat) (gs : Nat → Option Nat) (h : PH) (a0 : Nat) (v1 : Int32) {r : (ZX Unit)} {hh : PH} {mc ms : Nat} (hf : f_X1_restore h a0 v1 = some (r, hh, mc, ms)) : zMx l D dA b0 gs yX1_restore (ws_ yX1_restore cX1_restore 2 none) 8 160 [.ref a0, .int v1] h evU r hh mc ms := by
  unfold f_X1_restore at hf
  refine zMx.of (by decide) (Nat.le_of_ble_eq_true rfl) ?_
  intro p e s m args below meth c hc hr hin ht hn ls hl
  have hl : lv_has ls 2 [(0, .ref a0), (1, .int v1)] := hl
  have hq : 0 + mc = mc ∧ 0 + ms = ms := ⟨Nat.zero_add _, Nat.zero_add _⟩
  have hx := hc.x
  have hb := hc.b
  refine lv_iload_n hx hb dX1_restore_0 rfl (lv_at hl 1 rfl) ?_
  refine zx_SU (As := [.int v1]) (rest := []) hc hn hq (fun x hx => (ht x hx).elim) hd_X1_checkSlot (lw_S q2082 q2083 q84 q2084) (Nat.le_of_ble_eq_true rfl) (Nat.le_of_ble_eq_true rfl) (fun _ _ _ _ q => m_X1_checkSlot l hl0 D dA b0 gs h v1 q) hf dX1_restore_1 hl.1 rfl rfl (zroom (Nat.le_of_ble_eq_true rfl)) (fun x101 h102 H locs cells slots C9 S9 hf hq hn => ?_)
  refine lv_aload_n (x := a0) hx hb dX1_restore_4 rfl (lv_at hl 0 rfl) ?_
  refine zr_gP hc hn (ci := 0) rfl rfl in_X1 6 (by decide) q231 (fun _ h => h) (fun _ _ _ => rfl) hf dX1_restore_5 (fun x103 hf => ?_)
  refine lv_iload_n hx hb dX1_restore_8 rfl (lv_at hl 1 rfl) ?_
  obtain ⟨a104, e9, hf9⟩ := znn_i hf
  subst e9
  have hf := hf9
  clear hf9
  refine zr_aP (ai := 7) (by decide) hc hn hf dX1_restore_9 (fun x105 hf => ?_)
  refine zr_ifnull (tgt := 17) hx hb hf dX1_restore_10 (by decide) (fun e9 hf9 => ?_) (fun a106 e9 hf9 => ?_)
  · subst e9
    have hf := hf9
    clear hf9
    refine lv_iconst (v := (0 : Int32)) hx hb dX1_restore_17 (by decide) ?_
    refine zx_SU (As := [.int (0 : Int32)]) (rest := []) hc hn hq (fun x hx => (ht x hx).elim) hd_X1_checkElement (lw_S q1261 q1262 q84 q1263) (Nat.le_of_ble_eq_true rfl) (Nat.le_of_ble_eq_true rfl) (fun _ _ _ _ q => m_X1_checkElement l hl0 D dA b0 gs h102 (0 : Int32) q) hf dX1_restore_18 hl.1 rfl rfl (zroom (Nat.le_of_ble_eq_true rfl)) (fun x107 h108 H locs cells slots C9 S9 hf hq hn => ?_)
    refine lv_aload_n (x := a0) hx hb dX1_restore_21 rfl (lv_at hl 0 rfl) ?_
    refine lv_aload_n (x := a0) hx hb dX1_restore_22 rfl (lv_at hl 0 rfl) ?_
    refine zr_gP hc hn (ci := 0) rfl rfl in_X1 6 (by decide) q231 (fun _ h => h) (fun _ _ _ => rfl) hf dX1_restore_23 (fun x109 hf => ?_)
    refine lv_iload_n hx hb dX1_restore_26 rfl (lv_at hl 1 rfl) ?_
    obtain ⟨a110, e9, hf9⟩ := znn_i hf
    subst e9
    have hf := hf9
    clear hf9
    refine zr_aP (ai := 7) (by decide) hc hn hf dX1_restore_27 (fun x111 hf => ?_)
    refine zr_pP (x := x111) hc hn (ci := 0) rfl rfl in_X1 4 (by decide) tyX1 tyX1_ok nmX1 q229 (fun _ h => h) (Or.inl rfl) (fun _ _ _ => rfl) (zn_rf _ (by decide)) (zf_rf _ (by decide)) hf dX1_restore_28 (fun h112 H locs hf hn => ?_)
    refine lv_aload_n (x := a0) hx hb dX1_restore_31 rfl (lv_at hl 0 rfl) ?_
    refine zr_gP hc hn (ci := 0) rfl rfl in_X1 5 (by decide) q230 (fun _ h => h) (fun _ _ _ => rfl) hf dX1_restore_32 (fun x113 hf => ?_)
    obtain ⟨a114, e9, hf9⟩ := znn_i hf
    subst e9
    have hf := hf9
    clear hf9
    refine zr_cVU (As := []) (rest := []) hc hn hq (ci := 13) rfl ⟨rfl, hd_J3_clear⟩ (lw_V q1120 q1121 q1122 q90 q1123) (Nat.le_of_ble_eq_true rfl) (Nat.le_of_ble_eq_true rfl) (fun _ _ _ _ q => m_J3_clear l D dA b0 gs h112 a114 q) hf dX1_restore_35 hl.1 rfl rfl (zroom (Nat.le_of_ble_eq_true rfl)) (fun x115 h116 H locs cells slots C9 S9 hf hq hn => ?_)
    obtain ⟨rfl, rfl, rfl, rfl⟩ := zretx_i hf
    exact zx_ret (zr_vret hc hn hr hq (fun _ _ _ _ q => ⟨_, rfl, q⟩) dX1_restore_38)
  · subst e9
    have hf := hf9
    clear hf9
    refine lv_iconst (v := (1 : Int32)) hx hb dX1_restore_13 (by decide) ?_
    refine lv_goto (tgt := 18) hx hb dX1_restore_14 (by decide) ?_
    refine zx_SU (As := [.int (1 : Int32)]) (rest := []) hc hn hq (fun x hx => (ht x hx).elim) hd_X1_checkElement (lw_S q1261 q1262 q84 q1263) (Nat.le_of_ble_eq_true rfl) (Nat.le_of_ble_eq_true rfl) (fun _ _ _ _ q => m_X1_checkElement l hl0 D dA b0 gs h102 (1 : Int32) q) hf dX1_restore_18 hl.1 rfl rfl (zroom (Nat.le_of_ble_eq_true rfl)) (fun x117 h118 H locs cells slots C9 S9 hf hq hn => ?_)
    refine lv_aload_n (x := a0) hx hb dX1_restore_21 rfl (lv_at hl 0 rfl) ?_
    refine lv_aload_n (x := a0) hx hb dX1_restore_22 rfl (lv_at hl 0 rfl) ?_
    refine zr_gP hc hn (ci := 0) rfl rfl in_X1 6 (by decide) q231 (fun _ h => h) (fun _ _ _ => rfl) hf dX1_restore_23 (fun x119 hf => ?_)
    refine lv_iload_n hx hb dX1_restore_26 rfl (lv_at hl 1 rfl) ?_
    obtain ⟨a120, e9, hf9⟩ := znn_i hf
    subst e9
    have hf := hf9
    clear hf9
    refine zr_aP (ai := 7) (by decide) hc hn hf dX1_restore_27 (fun x121 hf => ?_)
    refine zr_pP (x := x121) hc hn (ci := 0) rfl rfl in_X1 4 (by decide) tyX1 tyX1_ok nmX1 q229 (fun _ h => h) (Or.inl rfl) (fun _ _ _ => rfl) (zn_rf _ (by decide)) (zf_rf _ (by decide)) hf dX1_restore_28 (fun h122 H locs hf hn => ?_)
    refine lv_aload_n (x := a0) hx hb dX1_restore_31 rfl (lv_at hl 0 rfl) ?_
    refine zr_gP hc hn (ci := 0) rfl rfl in_X1 5 (by decide) q230 (fun _ h => h) (fun _ _ _ => rfl) hf dX1_restore_32 (fun x123 hf => ?_)
    obtain ⟨a124, e9, hf9⟩ := znn_i hf
    subst e9
    have hf := hf9
    clear hf9
    refine zr_cVU (As := []) (rest := []) hc hn hq (ci := 13) rfl ⟨rfl, hd_J3_clear⟩ (lw_V q1120 q1121 q1122 q90 q1123) (Nat.le_of_ble_eq_true rfl) (Nat.le_of_ble_eq_true rfl) (fun _ _ _ _ q => m_J3_clear l D dA b0 gs h122 a124 q) hf dX1_restore_35 hl.1 rfl rfl (zroom (Nat.le_of_ble_eq_true rfl)) (fun x125 h126 H locs cells slots C9 S9 hf hq hn => ?_)
    obtain ⟨rfl, rfl, rfl, rfl⟩ := zretx_i hf
    exact zx_ret (zr_vret hc hn hr hq (fun _ _ _ _ q => ⟨_, rfl, q⟩) dX1_restore_38)
theorem hd_X1_first : yX1_first.cls ≠ "java/lang/invoke/MethodHandle" ∧ yX1_first.cls ≠ "java/lang/invoke/VarHandle" ∧ (parseMethodDescriptor yX1_first.desc).map (fun d => d.parameters.length) = some 2 := by decide +kernel
def f_X1_first_b8 : Nat → PH → Nat → Nat → Int32 → Int32 → ZR (Option Nat)
  | 0 => fun _ _ _ _ _ => none
  | n + 1 => fun h a0 a2 v3 v4 =>
    if v3 ≤ v4 then
      (zret (none : Option Nat) h)
    else
      (zaP h a2 8 v4 fun x101 =>
      znn x101 fun a102 =>
      zcl (zfd h a102 (fun v => f_X1_lambda_repairs_0 h v a0) (f_X1_lambda_repairs_1 h a0)) fun x103 h104 =>
      znul x103
        (znm (v4 + (1 : Int32)) fun x106 =>
        f_X1_first_b8 n h104 a0 a2 v3 x106)
        (fun a105 =>
          zret (some a105) h104))
def f_X1_first (h : PH) (a0 : Nat) (a1 : Nat) : ZR (Option Nat) :=
  zlen h a1 8 fun x101 =>
  f_X1_first_b8 zFU h a0 a1 x101 (0 : Int32)
set_option maxHeartbeats 4000000 in
set_option maxRecDepth 100000 in
theorem m_X1_first_b8 {p : Program} {l : Launch} {e : Env} {s : State} {m : MethodId} {args : Array Value} {below : List Frame} {meth : Method} {c : Code} {D : va_G} {dA : Nat → ClassId} {b0 : Nat} {gs : Nat → Option Nat} (hc : zC D dA b0 gs yX1_first.cls cX1_first 7 p c s m args meth) (hr : meth.sig.returnType = (some (.object "CountedSkipLists$Gap"))) (hin : meth.name = yX1_first.name) {r : (Option Nat)} {hh : PH} {mc ms : Nat} : ∀ (n : Nat) (h : PH) (a0 : Nat) (a2 : Nat) (v3 : Int32) (v4 : Int32) (C9 S9 : Nat) (H : Heap) (locs : List Loc) (cells slots : Nat), f_X1_first_b8 n h a0 a2 v3 v4 = some (r, hh, C9, S9) → cells + C9 = mc ∧ slots + S9 = ms → zM D dA b0 gs s h H locs → ∀ ls : Array Slot, lv_has ls 7 [(0, .ref a0), (2, .ref a2), (3, .int v3), (4, .int v4)] → W p l e ({ frames := 10, cells := mc, slots := ms, locals := 450 } : Room) s m args below meth c H locs cells slots (MQ below (zQ D dA b0 gs (evP r) hh) args s mc ms (zA b0)) (F0 m 8 ls []) := by
  have hx := hc.x
  have hb := hc.b
  intro n
  induction n with
  | zero =>
    intro h a0 a2 v3 v4 C9 S9 H locs cells slots hf hq hn ls hl
    cases hf
  | succ n ih =>
    intro h a0 a2 v3 v4 C9 S9 H locs cells slots hf hq hn ls hl
    unfold f_X1_first_b8 at hf
    refine lv_iload hx hb dX1_first_8 (lv_at hl 3 rfl) ?_
    refine lv_iload_n hx hb dX1_first_10 rfl (lv_at hl 2 rfl) ?_
    refine lv_icmp_ge (tgt := 44) hx hb dX1_first_11 (by decide) (fun c9 => ?_) (fun c9 => ?_)
    · have hf := zif_t c9 hf
      refine lv_null hx hb dX1_first_44 ?_
      obtain ⟨rfl, rfl, rfl, rfl⟩ := zret_i hf
      exact zr_aret (x := (none : Option Nat)) hc hn hr (Or.inl ⟨_, rfl⟩) hq (fun _ _ _ _ q => q) dX1_first_45
    · have hf := zif_f c9 hf
      refine lv_aload_n (x := a2) hx hb dX1_first_14 rfl (lv_at hl 1 rfl) ?_
      refine lv_iload hx hb dX1_first_15 (lv_at hl 3 rfl) ?_
      refine zr_aP (ai := 8) (by decide) hc hn hf dX1_first_17 (fun x101 hf => ?_)
      refine zr_astore (x := x101) (lv' := [(5, va_rf x101), (0, .ref a0), (2, .ref a2), (3, .int v3), (4, .int v4)]) hx hb dX1_first_18 hl (by decide) rfl (fun ls hl => ?_)
      refine zr_aload (x := x101) hx hb dX1_first_20 (lv_at hl 0 rfl) ?_
      refine lv_aload_n (x := a0) hx hb dX1_first_22 rfl (lv_at hl 1 rfl) ?_
      obtain ⟨a102, e9, hf9⟩ := znn_i hf
      subst e9
      have hf := hf9
      clear hf9
      refine zr_fd (rest := []) hc hn hq q973 (Nat.le_of_ble_eq_true rfl) (Nat.le_of_ble_eq_true rfl) (fun v _ _ _ _ q => m_X1_lambda_repairs_0 l D dA b0 gs h v a0 q) (fun _ _ _ _ q => m_X1_lambda_repairs_1 l D dA b0 gs h a0 q) hf dX1_first_23 hl.1 (by simp [zcat_rf, zcat_i, zcat_l, zcat_d, zcat_r, zcat_n]) (fun x103 h104 H locs cells slots C9 S9 hf hq hn => ?_)
      refine zr_astore (x := x103) (lv' := [(6, va_rf x103), (5, .ref a102), (0, .ref a0), (2, .ref a2), (3, .int v3), (4, .int v4)]) hx hb dX1_first_28 hl (by decide) rfl (fun ls hl => ?_)
      refine zr_aload (x := x103) hx hb dX1_first_30 (lv_at hl 0 rfl) ?_
      refine zr_ifnull (tgt := 38) hx hb hf dX1_first_32 (by decide) (fun e9 hf9 => ?_) (fun a105 e9 hf9 => ?_)
      · subst e9
        have hf := hf9
        clear hf9
        obtain ⟨x106, ex106, hf⟩ := znm_i hf
        refine lv_iinc (v := x106) (lv' := [(4, .int x106), (6, .null), (5, .ref a102), (0, .ref a0), (2, .ref a2), (3, .int v3)]) hx hb dX1_first_38 hl (k := 5) rfl (by rw [ex106]; rfl) (by decide) rfl (fun ls hl => ?_)
        refine lv_goto (tgt := 8) hx hb dX1_first_41 (by decide) ?_
        exact ih h104 a0 a2 v3 x106 _ _ _ _ _ _ hf hq hn _ (lv_sub hl [3, 4, 5, 0] rfl)
      · subst e9
        have hf := hf9
        clear hf9
        refine lv_aload (x := a105) hx hb dX1_first_35 (lv_at hl 0 rfl) ?_
        obtain ⟨rfl, rfl, rfl, rfl⟩ := zret_i hf
        exact zr_aret (x := (some a105)) hc hn hr (Or.inl ⟨_, rfl⟩) hq (fun _ _ _ _ q => q) dX1_first_37
set_option maxHeartbeats 4000000 in
set_option maxRecDepth 100000 in
theorem m_X1_first (l : Launch) (D : va_G) (dA : Nat → ClassId) (b0 : Nat) (gs : Nat → Option Nat) (h : PH) (a0 : Nat) (a1 : Nat) {r : (Option Nat)} {hh : PH} {mc ms : Nat} (hf : f_X1_first h a0 a1 = some (r, hh, mc, ms)) : zMt l D dA b0 gs yX1_first cX1_first 7 (some (.object "CountedSkipLists$Gap")) 10 450 [.ref a0, .ref a1] h (evP r) hh mc ms := by
  unfold f_X1_first at hf
  refine zMt.of (by decide) (Nat.le_of_ble_eq_true rfl) ?_
  intro p e s m args below meth c hc hr hin hn ls hl
  have hl : lv_has ls 7 [(0, .ref a0), (1, .ref a1)] := hl
  have hq : 0 + mc = mc ∧ 0 + ms = ms := ⟨Nat.zero_add _, Nat.zero_add _⟩
  have hx := hc.x
  have hb := hc.b
  refine lv_aload_n (x := a1) hx hb dX1_first_0 rfl (lv_at hl 1 rfl) ?_
  refine lv_astore_n (x := a1) (i := 2) (lv' := [(2, .ref a1), (0, .ref a0), (1, .ref a1)]) hx hb dX1_first_1 rfl hl (by decide) rfl (fun ls hl => ?_)
  refine lv_aload_n (x := a1) hx hb dX1_first_2 rfl (lv_at hl 0 rfl) ?_
  refine zr_len (ai := 8) hc hn hf dX1_first_3 (fun x101 hf => ?_)
  refine lv_istore_n (i := 3) (lv' := [(3, .int x101), (2, .ref a1), (0, .ref a0), (1, .ref a1)]) hx hb dX1_first_4 rfl hl (by decide) rfl (fun ls hl => ?_)
  refine lv_iconst (v := (0 : Int32)) hx hb dX1_first_5 (by decide) ?_
  refine lv_istore (lv' := [(4, .int (0 : Int32)), (3, .int x101), (2, .ref a1), (0, .ref a0), (1, .ref a1)]) hx hb dX1_first_6 hl (by decide) rfl (fun ls hl => ?_)
  exact m_X1_first_b8 hc hr hin zFU h a0 a1 x101 (0 : Int32) _ _ _ _ _ _ hf hq hn _ (lv_sub hl [3, 2, 1, 0] rfl)
theorem hd_X1_repairs : yX1_repairs.cls ≠ "java/lang/invoke/MethodHandle" ∧ yX1_repairs.cls ≠ "java/lang/invoke/VarHandle" ∧ (parseMethodDescriptor yX1_repairs.desc).map (fun d => d.parameters.length) = some 3 := by decide +kernel
def f_X1_repairs_b33 : Nat → PH → Nat → Nat → Nat → Option Nat → Option Nat → ZR Unit
  | 0 => fun _ _ _ _ _ _ => none
  | n + 1 => fun h a0 a2 a3 o4 o5 =>
    znul o5
      (zret () h)
      (fun a101 =>
        zcl (f_X1_mendOf h a101) fun x102 h103 =>
        zgI h103 a101 8 0 fun x104 =>
        znn x102 fun a105 =>
        zcl (zmv h103 a105 (f_X15_moves h103 a105 a0 a101) (f_X16_moves h103 a105 a0 a101) (f_X14_moves h103 a105 a0 a101)) fun x106 h107 =>
        zrc h107 a2 2 <| zcl (f_X3_add h107 a2 a105 x104 x106) fun _ h109 =>
        zna h109 8 (2 : Int32) fun a110 h111 =>
        zsR h111 a110 (0 : Int32) (some a3) fun h112 =>
        zsR h112 a110 (1 : Int32) o4 fun h113 =>
        zcl (f_X1_first h113 a0 a110) fun x114 h115 =>
        f_X1_repairs_b33 n h115 a0 a2 a3 o4 x114)
def f_X1_repairs (h : PH) (a0 : Nat) (v1 : Int32) (a2 : Nat) : ZR Unit :=
  zlm h v1 fun a101 h102 =>
  znm (zS h102 26) fun x103 =>
  zna h102 8 (2 : Int32) fun a104 h105 =>
  zsR h105 a104 (0 : Int32) (some a101) fun h106 =>
  zsR h106 a104 (1 : Int32) x103 fun h107 =>
  zcl (f_X1_first h107 a0 a104) fun x108 h109 =>
  f_X1_repairs_b33 zFU h109 a0 a2 a101 x103 x108
set_option maxHeartbeats 4000000 in
set_option maxRecDepth 100000 in
theorem m_X1_repairs_b33 {p : Program} {l : Launch} {e : Env} {s : State} {m : MethodId} {args : Array Value} {below : List Frame} {meth : Method} {c : Code} {D : va_G} {dA : Nat → ClassId} {b0 : Nat} {gs : Nat → Option Nat} (hc : zC D dA b0 gs yX1_repairs.cls cX1_repairs 7 p c s m args meth) (hr : meth.sig.returnType = none) (hin : meth.name = yX1_repairs.name) {r : Unit} {hh : PH} {mc ms : Nat} : ∀ (n : Nat) (h : PH) (a0 : Nat) (a2 : Nat) (a3 : Nat) (o4 : Option Nat) (o5 : Option Nat) (C9 S9 : Nat) (H : Heap) (locs : List Loc) (cells slots : Nat), f_X1_repairs_b33 n h a0 a2 a3 o4 o5 = some (r, hh, C9, S9) → cells + C9 = mc ∧ slots + S9 = ms → zM D dA b0 gs s h H locs → ∀ ls : Array Slot, lv_has ls 7 [(0, .ref a0), (2, .ref a2), (3, .ref a3), (4, va_rf o4), (5, va_rf o5)] → W p l e ({ frames := 11, cells := mc, slots := ms, locals := 3090 } : Room) s m args below meth c H locs cells slots (MQ below (zQ D dA b0 gs (evU r) hh) args s mc ms (zA b0)) (F0 m 33 ls []) := by
  have hx := hc.x
  have hb := hc.b
  intro n
  induction n with
  | zero =>
    intro h a0 a2 a3 o4 o5 C9 S9 H locs cells slots hf hq hn ls hl
    cases hf
  | succ n ih =>
    intro h a0 a2 a3 o4 o5 C9 S9 H locs cells slots hf hq hn ls hl
    unfold f_X1_repairs_b33 at hf
    refine zr_aload (x := o5) hx hb dX1_repairs_33 (lv_at hl 4 rfl) ?_
    refine zr_ifnull (tgt := 86) hx hb hf dX1_repairs_35 (by decide) (fun e9 hf9 => ?_) (fun a101 e9 hf9 => ?_)
    · subst e9
      have hf := hf9
      clear hf9
      obtain ⟨rfl, rfl, rfl, rfl⟩ := zret_i hf
      exact zr_vret hc hn hr hq (fun _ _ _ _ q => q) dX1_repairs_86
    · subst e9
      have hf := hf9
      clear hf9
      refine lv_aload (x := a101) hx hb dX1_repairs_38 (lv_at hl 4 rfl) ?_
      refine zr_cSP (As := [.ref a101]) (rest := []) hc hn hq hd_X1_mendOf (lw_S q976 q977 q84 q978) (Nat.le_of_ble_eq_true rfl) (Nat.le_of_ble_eq_true rfl) (fun _ _ _ _ q => m_X1_mendOf l D dA b0 gs h a101 q) hf dX1_repairs_40 hl.1 rfl rfl (zroom (Nat.le_of_ble_eq_true rfl)) (fun x102 h103 H locs cells slots C9 S9 hf hq hn => ?_)
      refine zr_astore (x := x102) (lv' := [(6, va_rf x102), (0, .ref a0), (2, .ref a2), (3, .ref a3), (4, va_rf o4), (5, .ref a101)]) hx hb dX1_repairs_43 hl (by decide) rfl (fun ls hl => ?_)
      refine lv_aload_n (x := a2) hx hb dX1_repairs_45 rfl (lv_at hl 2 rfl) ?_
      refine zr_aload (x := x102) hx hb dX1_repairs_46 (lv_at hl 0 rfl) ?_
      refine lv_aload (x := a101) hx hb dX1_repairs_48 (lv_at hl 5 rfl) ?_
      refine zr_gIN hc hn (ci := 8) rfl rfl in_X9 0 (by decide) q943 (fun _ h => h) (fun _ _ _ => rfl) hf dX1_repairs_50 (fun x104 hf => ?_)
      refine zr_aload (x := x102) hx hb dX1_repairs_53 (lv_at hl 0 rfl) ?_
      refine lv_aload_n (x := a0) hx hb dX1_repairs_55 rfl (lv_at hl 1 rfl) ?_
      refine lv_aload (x := a101) hx hb dX1_repairs_56 (lv_at hl 5 rfl) ?_
      obtain ⟨a105, e9, hf9⟩ := znn_i hf
      subst e9
      have hf := hf9
      clear hf9
      refine zr_mv (As := [.ref a0, .ref a101]) (rest := [.int x104, .ref a105, .ref a2]) hc hn hq q994 rfl (Nat.le_of_ble_eq_true rfl) (Nat.le_of_ble_eq_true rfl) (fun _ _ _ _ q => m_X15_moves l D dA b0 gs h103 a105 a0 a101 q) (fun _ _ _ _ q => m_X16_moves l D dA b0 gs h103 a105 a0 a101 q) (fun _ _ _ _ q => m_X14_moves l D dA b0 gs h103 a105 a0 a101 q) hf dX1_repairs_58 hl.1 rfl rfl (zroom (Nat.le_of_ble_eq_true rfl)) (fun x106 h107 H locs cells slots C9 S9 hf hq hn => ?_)
      refine zr_cVU (As := [.ref a105, .int x104, .int x106]) (rest := []) hc hn hq (ci := 2) rfl ⟨rfl, hd_X3_add⟩ (lw_V q1033 q1034 q1035 q86 q1036) (Nat.le_of_ble_eq_true rfl) (Nat.le_of_ble_eq_true rfl) (fun _ _ _ _ q => m_X3_add l D dA b0 gs h107 a2 a105 x104 x106 q) hf dX1_repairs_61 hl.1 rfl rfl (zroom (Nat.le_of_ble_eq_true rfl)) (fun x108 h109 H locs cells slots C9 S9 hf hq hn => ?_)
      refine lv_aload_n (x := a0) hx hb dX1_repairs_64 rfl (lv_at hl 1 rfl) ?_
      refine lv_iconst (v := (2 : Int32)) hx hb dX1_repairs_65 (by decide) ?_
      refine zr_nq (ai := 8) hc hn hq (by decide) rfl q967 q968 hf dX1_repairs_66 (fun a110 h111 H cells slots C9 S9 hf hq hn => ?_)
      refine lv_dup hx hb dX1_repairs_69 rfl ?_
      refine lv_iconst (v := (0 : Int32)) hx hb dX1_repairs_70 (by decide) ?_
      refine lv_aload_n (x := a3) hx hb dX1_repairs_71 rfl (lv_at hl 3 rfl) ?_
      refine zr_sR (x := (some a3)) hc hn hf dX1_repairs_72 (fun h112 H locs hf hn => ?_)
      refine lv_dup hx hb dX1_repairs_73 rfl ?_
      refine lv_iconst (v := (1 : Int32)) hx hb dX1_repairs_74 (by decide) ?_
      refine zr_aload (x := o4) hx hb dX1_repairs_75 (lv_at hl 4 rfl) ?_
      refine zr_sR (x := o4) hc hn hf dX1_repairs_77 (fun h113 H locs hf hn => ?_)
      refine zr_cSP (As := [.ref a0, .ref a110]) (rest := []) hc hn hq hd_X1_first (lw_S q969 q970 q84 q971) (Nat.le_of_ble_eq_true rfl) (Nat.le_of_ble_eq_true rfl) (fun _ _ _ _ q => m_X1_first l D dA b0 gs h113 a0 a110 q) hf dX1_repairs_78 hl.1 rfl rfl (zroom (Nat.le_of_ble_eq_true rfl)) (fun x114 h115 H locs cells slots C9 S9 hf hq hn => ?_)
      refine zr_astore (x := x114) (lv' := [(5, va_rf x114), (6, .ref a105), (0, .ref a0), (2, .ref a2), (3, .ref a3), (4, va_rf o4)]) hx hb dX1_repairs_81 hl (by decide) (by simp [zcat_rf, zcat_i, zcat_l, zcat_d, zcat_r, zcat_n] <;> rfl) (fun ls hl => ?_)
      refine lv_goto (tgt := 33) hx hb dX1_repairs_83 (by decide) ?_
      exact ih h115 a0 a2 a3 o4 x114 _ _ _ _ _ _ hf hq hn _ (lv_sub hl [2, 3, 4, 5, 0] rfl)
set_option maxHeartbeats 4000000 in
set_option maxRecDepth 100000 in
theorem m_X1_repairs (l : Launch) (D : va_G) (dA : Nat → ClassId) (b0 : Nat) (gs : Nat → Option Nat) (h : PH) (a0 : Nat) (v1 : Int32) (a2 : Nat) {r : Unit} {hh : PH} {mc ms : Nat} (hf : f_X1_repairs h a0 v1 a2 = some (r, hh, mc, ms)) : zMt l D dA b0 gs yX1_repairs cX1_repairs 7 none 11 3090 [.ref a0, .int v1, .ref a2] h (evU r) hh mc ms := by
  unfold f_X1_repairs at hf
  refine zMt.ofN (by decide) (Nat.le_of_ble_eq_true rfl) ?_
  intro p e s m args below meth c hc hr hin hnm hn ls hl
  have hl : lv_has ls 7 [(0, .ref a0), (1, .int v1), (2, .ref a2)] := hl
  have hq : 0 + mc = mc ∧ 0 + ms = ms := ⟨Nat.zero_add _, Nat.zero_add _⟩
  have hx := hc.x
  have hb := hc.b
  refine lv_iload_n hx hb dX1_repairs_0 rfl (lv_at hl 1 rfl) ?_
  refine zr_lam1 hc hn hq hnm (Nat.le_of_ble_eq_true rfl) hl.1 (by simp [zcat_rf, zcat_i, zcat_l, zcat_d, zcat_r, zcat_n]) hf dX1_repairs_1 (fun a101 h102 H cells slots C9 S9 hf hq hn => ?_)
  refine lv_astore_n (x := a101) (i := 3) (lv' := [(3, .ref a101), (0, .ref a0), (1, .int v1), (2, .ref a2)]) hx hb dX1_repairs_6 rfl hl (by decide) rfl (fun ls hl => ?_)
  refine zr_lam2 hc hn hnm (Nat.le_of_ble_eq_true rfl) hl.1 (by simp [zcat_rf, zcat_i, zcat_l, zcat_d, zcat_r, zcat_n]) hf dX1_repairs_7 (fun x103 hf => ?_)
  refine zr_astore (x := x103) (lv' := [(4, va_rf x103), (3, .ref a101), (0, .ref a0), (1, .int v1), (2, .ref a2)]) hx hb dX1_repairs_12 hl (by decide) rfl (fun ls hl => ?_)
  refine lv_aload_n (x := a0) hx hb dX1_repairs_14 rfl (lv_at hl 2 rfl) ?_
  refine lv_iconst (v := (2 : Int32)) hx hb dX1_repairs_15 (by decide) ?_
  refine zr_nq (ai := 8) hc hn hq (by decide) rfl q967 q968 hf dX1_repairs_16 (fun a104 h105 H cells slots C9 S9 hf hq hn => ?_)
  refine lv_dup hx hb dX1_repairs_19 rfl ?_
  refine lv_iconst (v := (0 : Int32)) hx hb dX1_repairs_20 (by decide) ?_
  refine lv_aload_n (x := a101) hx hb dX1_repairs_21 rfl (lv_at hl 1 rfl) ?_
  refine zr_sR (x := (some a101)) hc hn hf dX1_repairs_22 (fun h106 H locs hf hn => ?_)
  refine lv_dup hx hb dX1_repairs_23 rfl ?_
  refine lv_iconst (v := (1 : Int32)) hx hb dX1_repairs_24 (by decide) ?_
  refine zr_aload (x := x103) hx hb dX1_repairs_25 (lv_at hl 0 rfl) ?_
  refine zr_sR (x := x103) hc hn hf dX1_repairs_27 (fun h107 H locs hf hn => ?_)
  refine zr_cSP (As := [.ref a0, .ref a104]) (rest := []) hc hn hq hd_X1_first (lw_S q969 q970 q84 q971) (Nat.le_of_ble_eq_true rfl) (Nat.le_of_ble_eq_true rfl) (fun _ _ _ _ q => m_X1_first l D dA b0 gs h107 a0 a104 q) hf dX1_repairs_28 hl.1 rfl rfl (zroom (Nat.le_of_ble_eq_true rfl)) (fun x108 h109 H locs cells slots C9 S9 hf hq hn => ?_)
  refine zr_astore (x := x108) (lv' := [(5, va_rf x108), (4, va_rf x103), (3, .ref a101), (0, .ref a0), (1, .int v1), (2, .ref a2)]) hx hb dX1_repairs_31 hl (by decide) (by simp [zcat_rf, zcat_i, zcat_l, zcat_d, zcat_r, zcat_n] <;> rfl) (fun ls hl => ?_)
  exact m_X1_repairs_b33 hc hr hin zFU h109 a0 a2 a101 x103 x108 _ _ _ _ _ _ hf hq hn _ (lv_sub hl [3, 5, 2, 1, 0] rfl)
theorem hd_X5_parse : yX5_parse.cls ≠ "java/lang/invoke/MethodHandle" ∧ yX5_parse.cls ≠ "java/lang/invoke/VarHandle" ∧ (parseMethodDescriptor yX5_parse.desc).map (fun d => d.parameters.length) = some 0 := by decide +kernel
def f_X5_parse_b116 (k83 : PH → Nat → Int32 → ZR (ZX (Option Nat))) (h : PH) (a0 : Nat) (v1 : Int32) (s0 : Nat) (s1 : Int32) : ZR (ZX (Option Nat)) :=
  zrc h s0 4 <| zcx (f_X5_take h s0 s1 (5 : Int32)) fun _ h102 =>
  zrc h102 a0 4 <| zcx (f_X5_readList h102 a0) fun x103 h104 =>
  zrc h104 x103 6 <| zcl (f_X7_counted h104 x103) fun x105 h106 =>
  zgP h106 a0 4 1 fun x107 =>
  znn x107 fun a108 =>
  zgI h106 a108 1 3 fun x109 =>
  zno h106 2 1 fun a110 h111 =>
  zcl (f_X3_init h111 a110) fun _ h113 =>
  zcl (f_X1_repairs h113 x105 x109 a110) fun _ h115 =>
  zgP h115 a0 4 1 fun x116 =>
  znn x116 fun a117 =>
  zgP h115 a117 1 0 fun x118 =>
  znn x118 fun a119 =>
  zsO h115 a119 6 v1 (some x105) fun h120 =>
  znm (v1 + (1 : Int32)) fun x121 =>
  k83 h120 a0 x121
def f_X5_parse_b83 : Nat → PH → Nat → Int32 → ZR (ZX (Option Nat))
  | 0 => fun _ _ _ => none
  | n + 1 => fun h a0 v1 =>
    zgP h a0 4 5 fun x101 =>
    znm (zS h 9) fun x102 =>
    if x101 = x102 then
      (zgP h a0 4 1 fun x103 =>
      zret (.inl x103) h)
    else
      (znm (zS h 22) fun x104 =>
      znn x104 fun a105 =>
      zrc h a0 4 <| zcl (f_X5_isWord h a0 a105) fun x106 h107 =>
      zrc h107 a0 4 <| zcx (f_X5_require h107 a0 x106 (1 : Int32)) fun _ h109 =>
      if (6 : Int32) ≤ v1 then
        (f_X5_parse_b116 (f_X5_parse_b83 n) h109 a0 v1 a0 (0 : Int32))
      else
        (f_X5_parse_b116 (f_X5_parse_b83 n) h109 a0 v1 a0 (1 : Int32)))
def f_X5_parse_b77 (h : PH) (a0 : Nat) (s0 : Nat) (s1 : Int32) : ZR (ZX (Option Nat)) :=
  zrc h s0 4 <| zcx (f_X5_take h s0 s1 (1 : Int32)) fun _ h102 =>
  f_X5_parse_b83 zFU h102 a0 (0 : Int32)
def f_X5_parse_b27 (h : PH) (a0 : Nat) (s0 : Nat) (s1 : Int32) : ZR (ZX (Option Nat)) :=
  zrc h s0 4 <| zcx (f_X5_require h s0 s1 (1 : Int32)) fun _ h102 =>
  zno h102 1 4 fun a103 h104 =>
  zgI h104 a0 4 4 fun x105 =>
  zcl (f_X2_init h104 a103 x105) fun _ h107 =>
  zpP h107 a0 4 1 (some a103) fun h108 =>
  zgI h108 a0 4 4 fun x109 =>
  zcl (f_X1_isIn h108 x109 (2 : Int32) (7 : Int32)) fun x110 h111 =>
  zrc h111 a0 4 <| zcx (f_X5_take h111 a0 x110 (2 : Int32)) fun _ h113 =>
  zgP h113 a0 4 5 fun x114 =>
  znm (zS h113 13) fun x115 =>
  if x114 = x115 then
    (f_X5_parse_b77 h113 a0 a0 (1 : Int32))
  else
    (f_X5_parse_b77 h113 a0 a0 (0 : Int32))
def f_X5_parse (h : PH) (a0 : Nat) : ZR (ZX (Option Nat)) :=
  znm (zS h 21) fun x101 =>
  znn x101 fun a102 =>
  zrc h a0 4 <| zcl (f_X5_isWord h a0 a102) fun x103 h104 =>
  zrc h104 a0 4 <| zcx (f_X5_take h104 a0 x103 (1 : Int32)) fun _ h106 =>
  zgP h106 a0 4 5 fun x107 =>
  znm (zS h106 12) fun x108 =>
  if x107 = x108 then
    (f_X5_parse_b27 h106 a0 a0 (1 : Int32))
  else
    (f_X5_parse_b27 h106 a0 a0 (0 : Int32))
set_option maxHeartbeats 4000000 in
set_option maxRecDepth 100000 in
theorem m_X5_parse_b116 {p : Program} {l : Launch} {e : Env} {s : State} {m : MethodId} {args : Array Value} {below : List Frame} {meth : Method} {c : Code} {D : va_G} {dA : Nat → ClassId} {b0 : Nat} {gs : Nat → Option Nat} (hc : zC D dA b0 gs yX5_parse.cls cX5_parse 3 p c s m args meth) (hr : meth.sig.returnType = (some (.object "CountedSkipLists$State"))) (hin : meth.name = yX5_parse.name) {r : (ZX (Option Nat))} {hh : PH} {mc ms : Nat} (hl0 : l.stackTraces = false) (ht : ∀ x ∈ c.exceptionTable.toList, False) (k83 : PH → Nat → Int32 → ZR (ZX (Option Nat))) (hk83 : ∀ (h : PH) (a0 : Nat) (v1 : Int32) (C9 S9 : Nat) (H : Heap) (locs : List Loc) (cells slots : Nat), k83 h a0 v1 = some (r, hh, C9, S9) → cells + C9 = mc ∧ slots + S9 = ms → zM D dA b0 gs s h H locs → ∀ ls : Array Slot, lv_has ls 3 [(0, .ref a0), (1, .int v1)] → W p l e ({ frames := 12, cells := mc, slots := ms, locals := 3116 } : Room) s m args below meth c H locs cells slots (vx_MQ below (zQX D dA b0 gs evP r hh) (zXC D dA b0 gs r hh) args s mc ms (zA b0)) (F0 m 83 ls [])) : ∀ (h : PH) (a0 : Nat) (v1 : Int32) (s0 : Nat) (s1 : Int32) (C9 S9 : Nat) (H : Heap) (locs : List Loc) (cells slots : Nat), f_X5_parse_b116 k83 h a0 v1 s0 s1 = some (r, hh, C9, S9) → cells + C9 = mc ∧ slots + S9 = ms → zM D dA b0 gs s h H locs → ∀ ls : Array Slot, lv_has ls 3 [(0, .ref a0), (1, .int v1)] → W p l e ({ frames := 12, cells := mc, slots := ms, locals := 3116 } : Room) s m args below meth c H locs cells slots (vx_MQ below (zQX D dA b0 gs evP r hh) (zXC D dA b0 gs r hh) args s mc ms (zA b0)) (F0 m 116 ls [.int s1, .ref s0]) := by
  have hx := hc.x
  have hb := hc.b
  intro h a0 v1 s0 s1 C9 S9 H locs cells slots hf hq hn ls hl
  unfold f_X5_parse_b116 at hf
  refine lv_iconst (v := (5 : Int32)) hx hb dX5_parse_116 (by decide) ?_
  refine zx_VU (As := [.int s1, .int (5 : Int32)]) (rest := []) hc hn hq (fun x hx => (ht x hx).elim) (ci := 4) rfl ⟨rfl, hd_X5_take⟩ (lw_V q768 q770 qs4 q99 q771) (Nat.le_of_ble_eq_true rfl) (Nat.le_of_ble_eq_true rfl) (fun _ _ _ _ q => m_X5_take l hl0 D dA b0 gs h s0 s1 (5 : Int32) q) hf dX5_parse_117 hl.1 rfl rfl (zroom (Nat.le_of_ble_eq_true rfl)) (fun x101 h102 H locs cells slots C9 S9 hf hq hn => ?_)
  refine lv_aload_n (x := a0) hx hb dX5_parse_120 rfl (lv_at hl 0 rfl) ?_
  refine zx_VN (As := []) (rest := []) hc hn hq (fun x hx => (ht x hx).elim) (ci := 4) rfl ⟨rfl, hd_X5_readList⟩ (lw_V q807 q809 qs6 q99 q810) (Nat.le_of_ble_eq_true rfl) (Nat.le_of_ble_eq_true rfl) (fun _ _ _ _ q => m_X5_readList l hl0 D dA b0 gs h102 a0 q) hf dX5_parse_121 hl.1 rfl rfl (zroom (Nat.le_of_ble_eq_true rfl)) (fun x103 h104 H locs cells slots C9 S9 hf hq hn => ?_)
  refine zr_cVN (As := []) (rest := []) hc hn hq (ci := 6) rfl ⟨rfl, hd_X7_counted⟩ (lw_V q908 q909 q910 q115 q911) (Nat.le_of_ble_eq_true rfl) (Nat.le_of_ble_eq_true rfl) (fun _ _ _ _ q => m_X7_counted l D dA b0 gs h104 x103 q) hf dX5_parse_124 hl.1 rfl rfl (zroom (Nat.le_of_ble_eq_true rfl)) (fun x105 h106 H locs cells slots C9 S9 hf hq hn => ?_)
  refine lv_astore_n (x := x105) (i := 2) (lv' := [(2, .ref x105), (0, .ref a0), (1, .int v1)]) hx hb dX5_parse_127 rfl hl (by decide) rfl (fun ls hl => ?_)
  refine lv_aload_n (x := x105) hx hb dX5_parse_128 rfl (lv_at hl 0 rfl) ?_
  refine lv_aload_n (x := a0) hx hb dX5_parse_129 rfl (lv_at hl 1 rfl) ?_
  refine zr_gP hc hn (ci := 4) rfl rfl in_X5 1 (by decide) q727 (fun _ h => h) (fun _ _ _ => rfl) hf dX5_parse_130 (fun x107 hf => ?_)
  obtain ⟨a108, e9, hf9⟩ := znn_i hf
  subst e9
  have hf := hf9
  clear hf9
  refine zr_gIN hc hn (ci := 1) rfl rfl in_X2 3 (by decide) q193 (fun _ h => h) (fun _ _ _ => rfl) hf dX5_parse_133 (fun x109 hf => ?_)
  refine zr_new hc hn hq (ci := 2) rfl rfl in_X3 tyX3_ok q917 q148 q86 (zd_X3) hf dX5_parse_136 (fun a110 h111 H cells slots C9 S9 hf hq hn => ?_)
  refine lv_dup hx hb dX5_parse_139 rfl ?_
  refine zr_cIN (As := []) (rest := [.ref a110, .int x109, .ref x105]) hc hn hq rfl hd_X3_init (lw_meth q151) q918 q150 q86 (Nat.le_of_ble_eq_true rfl) (Nat.le_of_ble_eq_true rfl) (fun _ _ _ _ q => m_X3_init l D dA b0 gs h111 a110 q) hf dX5_parse_140 hl.1 rfl rfl (zroom (Nat.le_of_ble_eq_true rfl)) (fun x112 h113 H locs cells slots C9 S9 hf hq hn => ?_)
  refine zr_cSNU (As := [.ref x105, .int x109, .ref a110]) (rest := []) hc hn hq hd_X1_repairs (lw_meth q921) q919 q920 q84 (Nat.le_of_ble_eq_true rfl) (Nat.le_of_ble_eq_true rfl) (fun _ _ _ _ q => m_X1_repairs l D dA b0 gs h113 x105 x109 a110 q) hf dX5_parse_143 hl.1 rfl rfl (zroom (Nat.le_of_ble_eq_true rfl)) (fun x114 h115 H locs cells slots C9 S9 hf hq hn => ?_)
  refine lv_aload_n (x := a0) hx hb dX5_parse_146 rfl (lv_at hl 1 rfl) ?_
  refine zr_gP hc hn (ci := 4) rfl rfl in_X5 1 (by decide) q727 (fun _ h => h) (fun _ _ _ => rfl) hf dX5_parse_147 (fun x116 hf => ?_)
  obtain ⟨a117, e9, hf9⟩ := znn_i hf
  subst e9
  have hf := hf9
  clear hf9
  refine zr_gPN hc hn (ci := 1) rfl rfl in_X2 0 (by decide) q186 (fun _ h => h) (fun _ _ _ => rfl) hf dX5_parse_150 (fun x118 hf => ?_)
  refine lv_iload_n hx hb dX5_parse_153 rfl (lv_at hl 2 rfl) ?_
  refine lv_aload_n (x := x105) hx hb dX5_parse_154 rfl (lv_at hl 0 rfl) ?_
  obtain ⟨a119, e9, hf9⟩ := znn_i hf
  subst e9
  have hf := hf9
  clear hf9
  refine zr_sO (ai := 6) (x := (some x105)) (by decide) hc hn hf dX5_parse_155 (fun h120 H locs hf hn => ?_)
  obtain ⟨x121, ex121, hf⟩ := znm_i hf
  refine lv_iinc (v := x121) (lv' := [(1, .int x121), (2, .ref x105), (0, .ref a0)]) hx hb dX5_parse_156 hl (k := 2) rfl (by rw [ex121]; rfl) (by decide) rfl (fun ls hl => ?_)
  refine lv_goto (tgt := 83) hx hb dX5_parse_159 (by decide) ?_
  exact hk83 h120 a0 x121 _ _ _ _ _ _ hf hq hn _ (lv_sub hl [2, 0] rfl)
set_option maxHeartbeats 4000000 in
set_option maxRecDepth 100000 in
theorem m_X5_parse_b83 {p : Program} {l : Launch} {e : Env} {s : State} {m : MethodId} {args : Array Value} {below : List Frame} {meth : Method} {c : Code} {D : va_G} {dA : Nat → ClassId} {b0 : Nat} {gs : Nat → Option Nat} (hc : zC D dA b0 gs yX5_parse.cls cX5_parse 3 p c s m args meth) (hr : meth.sig.returnType = (some (.object "CountedSkipLists$State"))) (hin : meth.name = yX5_parse.name) {r : (ZX (Option Nat))} {hh : PH} {mc ms : Nat} (hl0 : l.stackTraces = false) (ht : ∀ x ∈ c.exceptionTable.toList, False) : ∀ (n : Nat) (h : PH) (a0 : Nat) (v1 : Int32) (C9 S9 : Nat) (H : Heap) (locs : List Loc) (cells slots : Nat), f_X5_parse_b83 n h a0 v1 = some (r, hh, C9, S9) → cells + C9 = mc ∧ slots + S9 = ms → zM D dA b0 gs s h H locs → ∀ ls : Array Slot, lv_has ls 3 [(0, .ref a0), (1, .int v1)] → W p l e ({ frames := 12, cells := mc, slots := ms, locals := 3116 } : Room) s m args below meth c H locs cells slots (vx_MQ below (zQX D dA b0 gs evP r hh) (zXC D dA b0 gs r hh) args s mc ms (zA b0)) (F0 m 83 ls []) := by
  have hx := hc.x
  have hb := hc.b
  intro n
  induction n with
  | zero =>
    intro h a0 v1 C9 S9 H locs cells slots hf hq hn ls hl
    cases hf
  | succ n ih =>
    intro h a0 v1 C9 S9 H locs cells slots hf hq hn ls hl
    unfold f_X5_parse_b83 at hf
    refine lv_aload_n (x := a0) hx hb dX5_parse_83 rfl (lv_at hl 0 rfl) ?_
    refine zr_gP hc hn (ci := 4) rfl rfl in_X5 5 (by decide) q731 (fun _ h => h) (fun _ _ _ => rfl) hf dX5_parse_84 (fun x101 hf => ?_)
    refine zr_gs hc hn (hc.st9) q437 (fun _ h => h) hf dX5_parse_87 (fun x102 hf => ?_)
    refine lv_acmp_eq (rx := x101) (ry := x102) (tgt := 162) hx hb dX5_parse_90 (by decide) (fun c9 => ?_) (fun c9 => ?_)
    · have hf := zif_t c9 hf
      refine lv_aload_n (x := a0) hx hb dX5_parse_162 rfl (lv_at hl 0 rfl) ?_
      refine zr_gP hc hn (ci := 4) rfl rfl in_X5 1 (by decide) q727 (fun _ h => h) (fun _ _ _ => rfl) hf dX5_parse_163 (fun x103 hf => ?_)
      obtain ⟨rfl, rfl, rfl, rfl⟩ := zretx_i hf
      exact zx_ret (zr_aret (x := x103) hc hn hr (Or.inl ⟨_, rfl⟩) hq (fun _ _ _ _ q => ⟨_, rfl, q⟩) dX5_parse_166)
    · have hf := zif_f c9 hf
      refine lv_aload_n (x := a0) hx hb dX5_parse_93 rfl (lv_at hl 0 rfl) ?_
      refine lv_aload_n (x := a0) hx hb dX5_parse_94 rfl (lv_at hl 0 rfl) ?_
      refine zr_lds (k := 22) hc hn rfl q806 znr_22 hf dX5_parse_95 (fun x104 hf => ?_)
      obtain ⟨a105, e9, hf9⟩ := znn_i hf
      subst e9
      have hf := hf9
      clear hf9
      refine zr_cVI (As := [.ref a105]) (rest := [.ref a0]) hc hn hq (ci := 4) rfl ⟨rfl, hd_X5_isWord⟩ (lw_V q756 q758 qs3 q99 q759) (Nat.le_of_ble_eq_true rfl) (Nat.le_of_ble_eq_true rfl) (fun _ _ _ _ q => m_X5_isWord l D dA b0 gs h a0 a105 q) hf dX5_parse_97 hl.1 rfl rfl (zroom (Nat.le_of_ble_eq_true rfl)) (fun x106 h107 H locs cells slots C9 S9 hf hq hn => ?_)
      refine lv_iconst (v := (1 : Int32)) hx hb dX5_parse_100 (by decide) ?_
      refine zx_VU (As := [.int x106, .int (1 : Int32)]) (rest := []) hc hn hq (fun x hx => (ht x hx).elim) (ci := 4) rfl ⟨rfl, hd_X5_require⟩ (lw_V q772 q774 qs5 q99 q775) (Nat.le_of_ble_eq_true rfl) (Nat.le_of_ble_eq_true rfl) (fun _ _ _ _ q => m_X5_require l hl0 D dA b0 gs h107 a0 x106 (1 : Int32) q) hf dX5_parse_101 hl.1 rfl rfl (zroom (Nat.le_of_ble_eq_true rfl)) (fun x108 h109 H locs cells slots C9 S9 hf hq hn => ?_)
      refine lv_aload_n (x := a0) hx hb dX5_parse_104 rfl (lv_at hl 0 rfl) ?_
      refine lv_iload_n hx hb dX5_parse_105 rfl (lv_at hl 1 rfl) ?_
      refine lv_bipush (v := (6 : Int32)) hx hb dX5_parse_106 (by decide) ?_
      refine lv_icmp_ge (tgt := 115) hx hb dX5_parse_108 (by decide) (fun c9 => ?_) (fun c9 => ?_)
      · have hf := zif_t c9 hf
        refine lv_iconst (v := (0 : Int32)) hx hb dX5_parse_115 (by decide) ?_
        exact m_X5_parse_b116 hc hr hin hl0 ht (f_X5_parse_b83 n) ih h109 a0 v1 a0 (0 : Int32) _ _ _ _ _ _ hf hq hn _ (lv_sub hl [0, 1] rfl)
      · have hf := zif_f c9 hf
        refine lv_iconst (v := (1 : Int32)) hx hb dX5_parse_111 (by decide) ?_
        refine lv_goto (tgt := 116) hx hb dX5_parse_112 (by decide) ?_
        exact m_X5_parse_b116 hc hr hin hl0 ht (f_X5_parse_b83 n) ih h109 a0 v1 a0 (1 : Int32) _ _ _ _ _ _ hf hq hn _ (lv_sub hl [0, 1] rfl)
set_option maxHeartbeats 4000000 in
set_option maxRecDepth 100000 in
theorem m_X5_parse_b77 {p : Program} {l : Launch} {e : Env} {s : State} {m : MethodId} {args : Array Value} {below : List Frame} {meth : Method} {c : Code} {D : va_G} {dA : Nat → ClassId} {b0 : Nat} {gs : Nat → Option Nat} (hc : zC D dA b0 gs yX5_parse.cls cX5_parse 3 p c s m args meth) (hr : meth.sig.returnType = (some (.object "CountedSkipLists$State"))) (hin : meth.name = yX5_parse.name) {r : (ZX (Option Nat))} {hh : PH} {mc ms : Nat} (hl0 : l.stackTraces = false) (ht : ∀ x ∈ c.exceptionTable.toList, False) : ∀ (h : PH) (a0 : Nat) (s0 : Nat) (s1 : Int32) (C9 S9 : Nat) (H : Heap) (locs : List Loc) (cells slots : Nat), f_X5_parse_b77 h a0 s0 s1 = some (r, hh, C9, S9) → cells + C9 = mc ∧ slots + S9 = ms → zM D dA b0 gs s h H locs → ∀ ls : Array Slot, lv_has ls 3 [(0, .ref a0)] → W p l e ({ frames := 12, cells := mc, slots := ms, locals := 3116 } : Room) s m args below meth c H locs cells slots (vx_MQ below (zQX D dA b0 gs evP r hh) (zXC D dA b0 gs r hh) args s mc ms (zA b0)) (F0 m 77 ls [.int s1, .ref s0]) := by
  have hx := hc.x
  have hb := hc.b
  intro h a0 s0 s1 C9 S9 H locs cells slots hf hq hn ls hl
  unfold f_X5_parse_b77 at hf
  refine lv_iconst (v := (1 : Int32)) hx hb dX5_parse_77 (by decide) ?_
  refine zx_VU (As := [.int s1, .int (1 : Int32)]) (rest := []) hc hn hq (fun x hx => (ht x hx).elim) (ci := 4) rfl ⟨rfl, hd_X5_take⟩ (lw_V q768 q770 qs4 q99 q771) (Nat.le_of_ble_eq_true rfl) (Nat.le_of_ble_eq_true rfl) (fun _ _ _ _ q => m_X5_take l hl0 D dA b0 gs h s0 s1 (1 : Int32) q) hf dX5_parse_78 hl.1 rfl rfl (zroom (Nat.le_of_ble_eq_true rfl)) (fun x101 h102 H locs cells slots C9 S9 hf hq hn => ?_)
  refine lv_iconst (v := (0 : Int32)) hx hb dX5_parse_81 (by decide) ?_
  refine lv_istore_n (i := 1) (lv' := [(1, .int (0 : Int32)), (0, .ref a0)]) hx hb dX5_parse_82 rfl hl (by decide) rfl (fun ls hl => ?_)
  exact m_X5_parse_b83 hc hr hin hl0 ht zFU h102 a0 (0 : Int32) _ _ _ _ _ _ hf hq hn _ (lv_sub hl [1, 0] rfl)
set_option maxHeartbeats 4000000 in
set_option maxRecDepth 100000 in
theorem m_X5_parse_b27 {p : Program} {l : Launch} {e : Env} {s : State} {m : MethodId} {args : Array Value} {below : List Frame} {meth : Method} {c : Code} {D : va_G} {dA : Nat → ClassId} {b0 : Nat} {gs : Nat → Option Nat} (hc : zC D dA b0 gs yX5_parse.cls cX5_parse 3 p c s m args meth) (hr : meth.sig.returnType = (some (.object "CountedSkipLists$State"))) (hin : meth.name = yX5_parse.name) {r : (ZX (Option Nat))} {hh : PH} {mc ms : Nat} (hl0 : l.stackTraces = false) (ht : ∀ x ∈ c.exceptionTable.toList, False) : ∀ (h : PH) (a0 : Nat) (s0 : Nat) (s1 : Int32) (C9 S9 : Nat) (H : Heap) (locs : List Loc) (cells slots : Nat), f_X5_parse_b27 h a0 s0 s1 = some (r, hh, C9, S9) → cells + C9 = mc ∧ slots + S9 = ms → zM D dA b0 gs s h H locs → ∀ ls : Array Slot, lv_has ls 3 [(0, .ref a0)] → W p l e ({ frames := 12, cells := mc, slots := ms, locals := 3116 } : Room) s m args below meth c H locs cells slots (vx_MQ below (zQX D dA b0 gs evP r hh) (zXC D dA b0 gs r hh) args s mc ms (zA b0)) (F0 m 27 ls [.int s1, .ref s0]) := by
  have hx := hc.x
  have hb := hc.b
  intro h a0 s0 s1 C9 S9 H locs cells slots hf hq hn ls hl
  unfold f_X5_parse_b27 at hf
  refine lv_iconst (v := (1 : Int32)) hx hb dX5_parse_27 (by decide) ?_
  refine zx_VU (As := [.int s1, .int (1 : Int32)]) (rest := []) hc hn hq (fun x hx => (ht x hx).elim) (ci := 4) rfl ⟨rfl, hd_X5_require⟩ (lw_V q772 q774 qs5 q99 q775) (Nat.le_of_ble_eq_true rfl) (Nat.le_of_ble_eq_true rfl) (fun _ _ _ _ q => m_X5_require l hl0 D dA b0 gs h s0 s1 (1 : Int32) q) hf dX5_parse_28 hl.1 rfl rfl (zroom (Nat.le_of_ble_eq_true rfl)) (fun x101 h102 H locs cells slots C9 S9 hf hq hn => ?_)
  refine lv_aload_n (x := a0) hx hb dX5_parse_31 rfl (lv_at hl 0 rfl) ?_
  refine zr_new hc hn hq (ci := 1) rfl rfl in_X2 tyX2_ok q804 q140 q85 (zd_X2) hf dX5_parse_32 (fun a103 h104 H cells slots C9 S9 hf hq hn => ?_)
  refine lv_dup hx hb dX5_parse_35 rfl ?_
  refine lv_aload_n (x := a0) hx hb dX5_parse_36 rfl (lv_at hl 0 rfl) ?_
  refine zr_gI hc hn (ci := 4) rfl rfl in_X5 4 (by decide) q730 (fun _ h => h) (fun _ _ _ => rfl) hf dX5_parse_37 (fun x105 hf => ?_)
  refine zr_cI (As := [.int x105]) (rest := [.ref a103, .ref a0]) hc hn hq rfl hd_X2_init (lw_meth q143) q805 q142 q85 (Nat.le_of_ble_eq_true rfl) (Nat.le_of_ble_eq_true rfl) (fun _ _ _ _ q => m_X2_init l D dA b0 gs h104 a103 x105 q) hf dX5_parse_40 hl.1 rfl rfl (zroom (Nat.le_of_ble_eq_true rfl)) (fun x106 h107 H locs cells slots C9 S9 hf hq hn => ?_)
  refine zr_pP (x := (some a103)) hc hn (ci := 4) rfl rfl in_X5 1 (by decide) tyX5 tyX5_ok nmX5 q727 (fun _ h => h) (Or.inl rfl) (fun _ _ _ => rfl) (zn_rf _ (by decide)) (zf_rf _ (by decide)) hf dX5_parse_43 (fun h108 H locs hf hn => ?_)
  refine lv_aload_n (x := a0) hx hb dX5_parse_46 rfl (lv_at hl 0 rfl) ?_
  refine lv_aload_n (x := a0) hx hb dX5_parse_47 rfl (lv_at hl 0 rfl) ?_
  refine zr_gI hc hn (ci := 4) rfl rfl in_X5 4 (by decide) q730 (fun _ h => h) (fun _ _ _ => rfl) hf dX5_parse_48 (fun x109 hf => ?_)
  refine lv_iconst (v := (2 : Int32)) hx hb dX5_parse_51 (by decide) ?_
  refine lv_bipush (v := (7 : Int32)) hx hb dX5_parse_52 (by decide) ?_
  refine zr_cSNI (As := [.int x109, .int (2 : Int32), .int (7 : Int32)]) (rest := [.ref a0]) hc hn hq hd_X1_isIn (lw_meth q261) q439 q260 q84 (Nat.le_of_ble_eq_true rfl) (Nat.le_of_ble_eq_true rfl) (fun _ _ _ _ q => m_X1_isIn l D dA b0 gs h108 x109 (2 : Int32) (7 : Int32) q) hf dX5_parse_54 hl.1 rfl rfl (zroom (Nat.le_of_ble_eq_true rfl)) (fun x110 h111 H locs cells slots C9 S9 hf hq hn => ?_)
  refine lv_iconst (v := (2 : Int32)) hx hb dX5_parse_57 (by decide) ?_
  refine zx_VU (As := [.int x110, .int (2 : Int32)]) (rest := []) hc hn hq (fun x hx => (ht x hx).elim) (ci := 4) rfl ⟨rfl, hd_X5_take⟩ (lw_V q768 q770 qs4 q99 q771) (Nat.le_of_ble_eq_true rfl) (Nat.le_of_ble_eq_true rfl) (fun _ _ _ _ q => m_X5_take l hl0 D dA b0 gs h111 a0 x110 (2 : Int32) q) hf dX5_parse_58 hl.1 rfl rfl (zroom (Nat.le_of_ble_eq_true rfl)) (fun x112 h113 H locs cells slots C9 S9 hf hq hn => ?_)
  refine lv_aload_n (x := a0) hx hb dX5_parse_61 rfl (lv_at hl 0 rfl) ?_
  refine lv_aload_n (x := a0) hx hb dX5_parse_62 rfl (lv_at hl 0 rfl) ?_
  refine zr_gP hc hn (ci := 4) rfl rfl in_X5 5 (by decide) q731 (fun _ h => h) (fun _ _ _ => rfl) hf dX5_parse_63 (fun x114 hf => ?_)
  refine zr_gs hc hn (hc.st13) q720 (fun _ h => h) hf dX5_parse_66 (fun x115 hf => ?_)
  refine lv_acmp_ne (rx := x114) (ry := x115) (tgt := 76) hx hb dX5_parse_69 (by decide) (fun c9 => ?_) (fun c9 => ?_)
  · have hf := zif_f c9 hf
    refine lv_iconst (v := (0 : Int32)) hx hb dX5_parse_76 (by decide) ?_
    exact m_X5_parse_b77 hc hr hin hl0 ht h113 a0 a0 (0 : Int32) _ _ _ _ _ _ hf hq hn _ (lv_sub hl [0] rfl)
  · have hf := zif_t c9 hf
    refine lv_iconst (v := (1 : Int32)) hx hb dX5_parse_72 (by decide) ?_
    refine lv_goto (tgt := 77) hx hb dX5_parse_73 (by decide) ?_
    exact m_X5_parse_b77 hc hr hin hl0 ht h113 a0 a0 (1 : Int32) _ _ _ _ _ _ hf hq hn _ (lv_sub hl [0] rfl)
set_option maxHeartbeats 4000000 in
set_option maxRecDepth 100000 in
theorem m_X5_parse (l : Launch) (hl0 : l.stackTraces = false) (D : va_G) (dA : Nat → ClassId) (b0 : Nat) (gs : Nat → Option Nat) (h : PH) (a0 : Nat) {r : (ZX (Option Nat))} {hh : PH} {mc ms : Nat} (hf : f_X5_parse h a0 = some (r, hh, mc, ms)) : zMx l D dA b0 gs yX5_parse (ws_ yX5_parse cX5_parse 3 (some (.object "CountedSkipLists$State"))) 12 3116 [.ref a0] h evP r hh mc ms := by
  unfold f_X5_parse at hf
  refine zMx.of (by decide) (Nat.le_of_ble_eq_true rfl) ?_
  intro p e s m args below meth c hc hr hin ht hn ls hl
  have hl : lv_has ls 3 [(0, .ref a0)] := hl
  have hq : 0 + mc = mc ∧ 0 + ms = ms := ⟨Nat.zero_add _, Nat.zero_add _⟩
  have hx := hc.x
  have hb := hc.b
  refine lv_aload_n (x := a0) hx hb dX5_parse_0 rfl (lv_at hl 0 rfl) ?_
  refine lv_aload_n (x := a0) hx hb dX5_parse_1 rfl (lv_at hl 0 rfl) ?_
  refine zr_lds (k := 21) hc hn rfl q755 znr_21 hf dX5_parse_2 (fun x101 hf => ?_)
  obtain ⟨a102, e9, hf9⟩ := znn_i hf
  subst e9
  have hf := hf9
  clear hf9
  refine zr_cVI (As := [.ref a102]) (rest := [.ref a0]) hc hn hq (ci := 4) rfl ⟨rfl, hd_X5_isWord⟩ (lw_V q756 q758 qs3 q99 q759) (Nat.le_of_ble_eq_true rfl) (Nat.le_of_ble_eq_true rfl) (fun _ _ _ _ q => m_X5_isWord l D dA b0 gs h a0 a102 q) hf dX5_parse_4 hl.1 rfl rfl (zroom (Nat.le_of_ble_eq_true rfl)) (fun x103 h104 H locs cells slots C9 S9 hf hq hn => ?_)
  refine lv_iconst (v := (1 : Int32)) hx hb dX5_parse_7 (by decide) ?_
  refine zx_VU (As := [.int x103, .int (1 : Int32)]) (rest := []) hc hn hq (fun x hx => (ht x hx).elim) (ci := 4) rfl ⟨rfl, hd_X5_take⟩ (lw_V q768 q770 qs4 q99 q771) (Nat.le_of_ble_eq_true rfl) (Nat.le_of_ble_eq_true rfl) (fun _ _ _ _ q => m_X5_take l hl0 D dA b0 gs h104 a0 x103 (1 : Int32) q) hf dX5_parse_8 hl.1 rfl rfl (zroom (Nat.le_of_ble_eq_true rfl)) (fun x105 h106 H locs cells slots C9 S9 hf hq hn => ?_)
  refine lv_aload_n (x := a0) hx hb dX5_parse_11 rfl (lv_at hl 0 rfl) ?_
  refine lv_aload_n (x := a0) hx hb dX5_parse_12 rfl (lv_at hl 0 rfl) ?_
  refine zr_gP hc hn (ci := 4) rfl rfl in_X5 5 (by decide) q731 (fun _ h => h) (fun _ _ _ => rfl) hf dX5_parse_13 (fun x107 hf => ?_)
  refine zr_gs hc hn (hc.st12) q718 (fun _ h => h) hf dX5_parse_16 (fun x108 hf => ?_)
  refine lv_acmp_ne (rx := x107) (ry := x108) (tgt := 26) hx hb dX5_parse_19 (by decide) (fun c9 => ?_) (fun c9 => ?_)
  · have hf := zif_f c9 hf
    refine lv_iconst (v := (0 : Int32)) hx hb dX5_parse_26 (by decide) ?_
    exact m_X5_parse_b27 hc hr hin hl0 ht h106 a0 a0 (0 : Int32) _ _ _ _ _ _ hf hq hn _ (lv_sub hl [0] rfl)
  · have hf := zif_t c9 hf
    refine lv_iconst (v := (1 : Int32)) hx hb dX5_parse_22 (by decide) ?_
    refine lv_goto (tgt := 27) hx hb dX5_parse_23 (by decide) ?_
    exact m_X5_parse_b27 hc hr hin hl0 ht h106 a0 a0 (1 : Int32) _ _ _ _ _ _ hf hq hn _ (lv_sub hl [0] rfl)
theorem hd_X1_load : yX1_load.cls ≠ "java/lang/invoke/MethodHandle" ∧ yX1_load.cls ≠ "java/lang/invoke/VarHandle" ∧ (parseMethodDescriptor yX1_load.desc).map (fun d => d.parameters.length) = some 0 := by decide +kernel
def f_X1_load_b73 : Nat → PH → Nat → Int32 → ZR (ZX Int32)
  | 0 => fun _ _ _ => none
  | n + 1 => fun h a0 v2 =>
    if (2 : Int32) ≤ v2 then
      (zgP h a0 0 4 fun x101 =>
      znn x101 fun a102 =>
      zrc h a102 1 <| zcl (f_X2_lists h a102) fun x103 h104 =>
      zret (.inl x103) h104)
    else
      (zgP h a0 0 6 fun x105 =>
      znn x105 fun a106 =>
      zsO h a106 7 v2 (none : Option Nat) fun h107 =>
      znm (v2 + (1 : Int32)) fun x108 =>
      f_X1_load_b73 n h107 a0 x108)
def f_X1_load (h : PH) (a0 : Nat) : ZR (ZX Int32) :=
  zgI h a0 0 1 fun x101 =>
  zpI h a0 0 1 (0 : Int32) fun h102 =>
  zpI h102 a0 0 2 (0 : Int32) fun h103 =>
  zpI h103 a0 0 3 (-1 : Int32) fun h104 =>
  zno h104 4 8 fun a105 h106 =>
  zcl (f_X5_init h106 a105 a0 x101) fun _ h108 =>
  zrc h108 a105 4 <| zch (f_X5_parse h108 a105) (fun x109 h110 =>
    zpP h110 a0 0 4 x109 fun h115 =>
    zgP h115 a0 0 5 fun x116 =>
    znn x116 fun a117 =>
    zrc h115 a117 13 <| zcl (f_J3_clear h115 a117) fun _ h119 =>
    f_X1_load_b73 zFU h119 a0 (0 : Int32))
    (fun e9 q9 h110 =>
      if e9 = 5 then
        (zgI h110 q9 5 6 fun x111 =>
        zpI h110 a0 0 2 x111 fun h112 =>
        zgI h112 q9 5 7 fun x113 =>
        zpI h112 a0 0 3 x113 fun h114 =>
        zth 2 h114)
      else
        (none))
set_option maxHeartbeats 4000000 in
set_option maxRecDepth 100000 in
theorem m_X1_load_b73 {p : Program} {l : Launch} {e : Env} {s : State} {m : MethodId} {args : Array Value} {below : List Frame} {meth : Method} {c : Code} {D : va_G} {dA : Nat → ClassId} {b0 : Nat} {gs : Nat → Option Nat} (hc : zC D dA b0 gs yX1_load.cls cX1_load 3 p c s m args meth) (hr : meth.sig.returnType = (some .int)) (hin : meth.name = yX1_load.name) {r : (ZX Int32)} {hh : PH} {mc ms : Nat} (hl0 : l.stackTraces = false) (ht : c.exceptionTable.toList = tableOf [((20 : Nat), (36 : Nat), (39 : Nat), (132 : Nat))]) : ∀ (n : Nat) (h : PH) (a0 : Nat) (v2 : Int32) (C9 S9 : Nat) (H : Heap) (locs : List Loc) (cells slots : Nat), f_X1_load_b73 n h a0 v2 = some (r, hh, C9, S9) → cells + C9 = mc ∧ slots + S9 = ms → zM D dA b0 gs s h H locs → ∀ ls : Array Slot, lv_has ls 3 [(0, .ref a0), (2, .int v2)] → W p l e ({ frames := 13, cells := mc, slots := ms, locals := 3138 } : Room) s m args below meth c H locs cells slots (vx_MQ below (zQX D dA b0 gs evI r hh) (zXC D dA b0 gs r hh) args s mc ms (zA b0)) (F0 m 73 ls []) := by
  have hx := hc.x
  have hb := hc.b
  intro n
  induction n with
  | zero =>
    intro h a0 v2 C9 S9 H locs cells slots hf hq hn ls hl
    cases hf
  | succ n ih =>
    intro h a0 v2 C9 S9 H locs cells slots hf hq hn ls hl
    unfold f_X1_load_b73 at hf
    refine lv_iload_n hx hb dX1_load_73 rfl (lv_at hl 1 rfl) ?_
    refine lv_iconst (v := (2 : Int32)) hx hb dX1_load_74 (by decide) ?_
    refine lv_icmp_ge (tgt := 91) hx hb dX1_load_75 (by decide) (fun c9 => ?_) (fun c9 => ?_)
    · have hf := zif_t c9 hf
      refine lv_aload_n (x := a0) hx hb dX1_load_91 rfl (lv_at hl 0 rfl) ?_
      refine zr_gP hc hn (ci := 0) rfl rfl in_X1 4 (by decide) q229 (fun _ h => h) (fun _ _ _ => rfl) hf dX1_load_92 (fun x101 hf => ?_)
      obtain ⟨a102, e9, hf9⟩ := znn_i hf
      subst e9
      have hf := hf9
      clear hf9
      refine zr_cVI (As := []) (rest := []) hc hn hq (ci := 1) rfl ⟨rfl, hd_X2_lists⟩ (lw_V q1127 q1128 q1129 q85 q1130) (Nat.le_of_ble_eq_true rfl) (Nat.le_of_ble_eq_true rfl) (fun _ _ _ _ q => m_X2_lists l D dA b0 gs h a102 q) hf dX1_load_95 hl.1 rfl rfl (zroom (Nat.le_of_ble_eq_true rfl)) (fun x103 h104 H locs cells slots C9 S9 hf hq hn => ?_)
      obtain ⟨rfl, rfl, rfl, rfl⟩ := zretx_i hf
      exact zx_ret (zr_iret hc hn hr hq (fun _ _ _ _ q => ⟨_, rfl, q⟩) dX1_load_98)
    · have hf := zif_f c9 hf
      refine lv_aload_n (x := a0) hx hb dX1_load_78 rfl (lv_at hl 0 rfl) ?_
      refine zr_gP hc hn (ci := 0) rfl rfl in_X1 6 (by decide) q231 (fun _ h => h) (fun _ _ _ => rfl) hf dX1_load_79 (fun x105 hf => ?_)
      refine lv_iload_n hx hb dX1_load_82 rfl (lv_at hl 1 rfl) ?_
      refine lv_null hx hb dX1_load_83 ?_
      obtain ⟨a106, e9, hf9⟩ := znn_i hf
      subst e9
      have hf := hf9
      clear hf9
      refine zr_sO (ai := 7) (x := (none : Option Nat)) (by decide) hc hn hf dX1_load_84 (fun h107 H locs hf hn => ?_)
      obtain ⟨x108, ex108, hf⟩ := znm_i hf
      refine lv_iinc (v := x108) (lv' := [(2, .int x108), (0, .ref a0)]) hx hb dX1_load_85 hl (k := 1) rfl (by rw [ex108]; rfl) (by decide) rfl (fun ls hl => ?_)
      refine lv_goto (tgt := 73) hx hb dX1_load_88 (by decide) ?_
      exact ih h107 a0 x108 _ _ _ _ _ _ hf hq hn _ (lv_sub hl [1, 0] rfl)
set_option maxHeartbeats 4000000 in
set_option maxRecDepth 100000 in
theorem m_X1_load (l : Launch) (hl0 : l.stackTraces = false) (D : va_G) (dA : Nat → ClassId) (b0 : Nat) (gs : Nat → Option Nat) (h : PH) (a0 : Nat) {r : (ZX Int32)} {hh : PH} {mc ms : Nat} (hf : f_X1_load h a0 = some (r, hh, mc, ms)) : zMx l D dA b0 gs yX1_load (wsW_ yX1_load cX1_load 3 (some .int) [((20 : Nat), (36 : Nat), (39 : Nat), (132 : Nat))]) 13 3138 [.ref a0] h evI r hh mc ms := by
  unfold f_X1_load at hf
  refine zMx.ofH (by decide) (Nat.le_of_ble_eq_true rfl) ?_
  intro p e s m args below meth c hc hr hin ht hn ls hl
  have hl : lv_has ls 3 [(0, .ref a0)] := hl
  have hq : 0 + mc = mc ∧ 0 + ms = ms := ⟨Nat.zero_add _, Nat.zero_add _⟩
  have hx := hc.x
  have hb := hc.b
  refine lv_aload_n (x := a0) hx hb dX1_load_0 rfl (lv_at hl 0 rfl) ?_
  refine zr_gI hc hn (ci := 0) rfl rfl in_X1 1 (by decide) q226 (fun _ h => h) (fun _ _ _ => rfl) hf dX1_load_1 (fun x101 hf => ?_)
  refine lv_istore_n (i := 1) (lv' := [(1, .int x101), (0, .ref a0)]) hx hb dX1_load_4 rfl hl (by decide) rfl (fun ls hl => ?_)
  refine lv_aload_n (x := a0) hx hb dX1_load_5 rfl (lv_at hl 1 rfl) ?_
  refine lv_iconst (v := (0 : Int32)) hx hb dX1_load_6 (by decide) ?_
  refine zr_pI (x := (0 : Int32)) hc hn (ci := 0) rfl rfl in_X1 1 (by decide) tyX1 tyX1_ok nmX1 q226 (fun _ h => h) (Or.inl rfl) (fun _ _ _ => rfl) rfl rfl hf dX1_load_7 (fun h102 H locs hf hn => ?_)
  refine lv_aload_n (x := a0) hx hb dX1_load_10 rfl (lv_at hl 1 rfl) ?_
  refine lv_iconst (v := (0 : Int32)) hx hb dX1_load_11 (by decide) ?_
  refine zr_pI (x := (0 : Int32)) hc hn (ci := 0) rfl rfl in_X1 2 (by decide) tyX1 tyX1_ok nmX1 q227 (fun _ h => h) (Or.inl rfl) (fun _ _ _ => rfl) rfl rfl hf dX1_load_12 (fun h103 H locs hf hn => ?_)
  refine lv_aload_n (x := a0) hx hb dX1_load_15 rfl (lv_at hl 1 rfl) ?_
  refine lv_iconst (v := (-1 : Int32)) hx hb dX1_load_16 (by decide) ?_
  refine zr_pI (x := (-1 : Int32)) hc hn (ci := 0) rfl rfl in_X1 3 (by decide) tyX1 tyX1_ok nmX1 q228 (fun _ h => h) (Or.inl rfl) (fun _ _ _ => rfl) rfl rfl hf dX1_load_17 (fun h104 H locs hf hn => ?_)
  refine lv_aload_n (x := a0) hx hb dX1_load_20 rfl (lv_at hl 1 rfl) ?_
  refine zr_new hc hn hq (ci := 4) rfl rfl in_X5 tyX5_ok q422 q423 q99 (zd_X5) hf dX1_load_21 (fun a105 h106 H cells slots C9 S9 hf hq hn => ?_)
  refine lv_dup hx hb dX1_load_24 rfl ?_
  refine lv_aload_n (x := a0) hx hb dX1_load_25 rfl (lv_at hl 1 rfl) ?_
  refine lv_iload_n hx hb dX1_load_26 rfl (lv_at hl 0 rfl) ?_
  refine zr_cI (As := [.ref a0, .int x101]) (rest := [.ref a105, .ref a0]) hc hn hq rfl hd_X5_init (lw_meth q426) q424 q425 q99 (Nat.le_of_ble_eq_true rfl) (Nat.le_of_ble_eq_true rfl) (fun _ _ _ _ q => m_X5_init l D dA b0 gs h106 a105 a0 x101 q) hf dX1_load_27 hl.1 rfl rfl (zroom (Nat.le_of_ble_eq_true rfl)) (fun x107 h108 H locs cells slots C9 S9 hf hq hn => ?_)
  refine zh_VP (As := []) (rest := [.ref a0]) hc hn hq (ci := 4) rfl ⟨rfl, hd_X5_parse⟩ (lw_V q751 q752 q753 q99 q754) (Nat.le_of_ble_eq_true rfl) (Nat.le_of_ble_eq_true rfl) (fun _ _ _ _ q => m_X5_parse l hl0 D dA b0 gs h108 a105 q) hf dX1_load_30 hl.1 rfl rfl (zroom (Nat.le_of_ble_eq_true rfl)) (fun x109 h110 H locs cells slots C9 S9 hf hq hn => ?_) (fun e9 q9 ce9 h110 H locs cells slots C9 S9 hf hq hn g5 g6 g7 => ?_)
  · refine zr_pP (x := x109) hc hn (ci := 0) rfl rfl in_X1 4 (by decide) tyX1 tyX1_ok nmX1 q229 (fun _ h => h) (Or.inl rfl) (fun _ _ _ => rfl) (zn_rf _ (by decide)) (zf_rf _ (by decide)) hf dX1_load_33 (fun h115 H locs hf hn => ?_)
    refine lv_goto (tgt := 64) hx hb dX1_load_36 (by decide) ?_
    refine lv_aload_n (x := a0) hx hb dX1_load_64 rfl (lv_at hl 1 rfl) ?_
    refine zr_gP hc hn (ci := 0) rfl rfl in_X1 5 (by decide) q230 (fun _ h => h) (fun _ _ _ => rfl) hf dX1_load_65 (fun x116 hf => ?_)
    obtain ⟨a117, e9, hf9⟩ := znn_i hf
    subst e9
    have hf := hf9
    clear hf9
    refine zr_cVU (As := []) (rest := []) hc hn hq (ci := 13) rfl ⟨rfl, hd_J3_clear⟩ (lw_V q1120 q1121 q1122 q90 q1123) (Nat.le_of_ble_eq_true rfl) (Nat.le_of_ble_eq_true rfl) (fun _ _ _ _ q => m_J3_clear l D dA b0 gs h115 a117 q) hf dX1_load_68 hl.1 rfl rfl (zroom (Nat.le_of_ble_eq_true rfl)) (fun x118 h119 H locs cells slots C9 S9 hf hq hn => ?_)
    refine lv_iconst (v := (0 : Int32)) hx hb dX1_load_71 (by decide) ?_
    refine lv_istore_n (i := 2) (lv' := [(2, .int (0 : Int32)), (1, .int x101), (0, .ref a0)]) hx hb dX1_load_72 rfl hl (by decide) rfl (fun ls hl => ?_)
    exact m_X1_load_b73 hc hr hin hl0 ht zFU h119 a0 (0 : Int32) _ _ _ _ _ _ hf hq hn _ (lv_sub hl [2, 0] rfl)
  · by_cases c9 : e9 = 5
    · have hf9 := zif_t c9 hf
      subst c9
      have hf := hf9
      clear hf9
      refine vx_catch (name := "CountedSkipLists$TextException") hc.ow [] ⟨20, 36, 39, 132⟩ [] (by rw [ht]; rfl) (fun z hz => nomatch hz) (by decide) (by decide) (hc.ts _ q421) ((hc.nC q778).use rfl) g5 g6 g7 ?_
      refine lv_astore_n (x := q9) (i := 2) (lv' := [(2, .ref q9), (1, .int x101), (0, .ref a0)]) hx hb dX1_load_39 rfl hl (by decide) rfl (fun ls hl => ?_)
      refine lv_aload_n (x := a0) hx hb dX1_load_40 rfl (lv_at hl 2 rfl) ?_
      refine lv_aload_n (x := q9) hx hb dX1_load_41 rfl (lv_at hl 0 rfl) ?_
      refine zr_gIN hc hn (ci := 5) rfl rfl in_X6 6 (by decide) q795 (fun _ h => h) (fun _ _ _ => rfl) hf dX1_load_42 (fun x111 hf => ?_)
      refine zr_pI (x := x111) hc hn (ci := 0) rfl rfl in_X1 2 (by decide) tyX1 tyX1_ok nmX1 q227 (fun _ h => h) (Or.inl rfl) (fun _ _ _ => rfl) rfl rfl hf dX1_load_45 (fun h112 H locs hf hn => ?_)
      refine lv_aload_n (x := a0) hx hb dX1_load_48 rfl (lv_at hl 2 rfl) ?_
      refine lv_aload_n (x := q9) hx hb dX1_load_49 rfl (lv_at hl 0 rfl) ?_
      refine zr_gIN hc hn (ci := 5) rfl rfl in_X6 7 (by decide) q797 (fun _ h => h) (fun _ _ _ => rfl) hf dX1_load_50 (fun x113 hf => ?_)
      refine zr_pI (x := x113) hc hn (ci := 0) rfl rfl in_X1 3 (by decide) tyX1 tyX1_ok nmX1 q228 (fun _ h => h) (Or.inl rfl) (fun _ _ _ => rfl) rfl rfl hf dX1_load_53 (fun h114 H locs hf hn => ?_)
      exact zr_th2 hl0 hc hn hq hf (by rw [ht]; decide) dX1_load_56 dX1_load_59 dX1_load_60 dX1_load_63 hl.1 (zroom (Nat.le_of_ble_eq_true rfl)) (Nat.le_of_ble_eq_true rfl) (Nat.le_of_ble_eq_true rfl)
    · have hf := zif_f c9 hf
      cases hf
theorem hd_X1_heightIfInserted : yX1_heightIfInserted.cls ≠ "java/lang/invoke/MethodHandle" ∧ yX1_heightIfInserted.cls ≠ "java/lang/invoke/VarHandle" ∧ (parseMethodDescriptor yX1_heightIfInserted.desc).map (fun d => d.parameters.length) = some 2 := by decide +kernel
def f_X1_heightIfInserted (h : PH) (a0 : Nat) (v1 : Int32) (v2 : Int32) : ZR (ZX Int32) :=
  zrc h a0 0 <| zcx (f_X1_at_2 h a0 v1 v2) fun x101 h102 =>
  znn x101 fun a103 =>
  zrc h102 a0 0 <| zcx (f_X1_checkInsert h102 a0 a103 v2) fun _ h105 =>
  zrc h105 a103 6 <| zcl (f_X7_copy h105 a103) fun x106 h107 =>
  zrc h107 x106 6 <| zcl (f_X7_insert h107 x106 v2 (0 : Int32)) fun x108 h109 =>
  zgP h109 a0 0 4 fun x110 =>
  znn x110 fun a111 =>
  zgI h109 a111 1 3 fun x112 =>
  zno h109 2 1 fun a113 h114 =>
  zcl (f_X3_init h114 a113) fun _ h116 =>
  zcl (f_X1_repairs h116 x106 x112 a113) fun _ h118 =>
  zrc h118 x106 6 <| zcl (f_X7_height h118 x106) fun x119 h120 =>
  zret (.inl x119) h120
set_option maxHeartbeats 4000000 in
set_option maxRecDepth 100000 in
theorem m_X1_heightIfInserted (l : Launch) (hl0 : l.stackTraces = false) (D : va_G) (dA : Nat → ClassId) (b0 : Nat) (gs : Nat → Option Nat) (h : PH) (a0 : Nat) (v1 : Int32) (v2 : Int32) {r : (ZX Int32)} {hh : PH} {mc ms : Nat} (hf : f_X1_heightIfInserted h a0 v1 v2 = some (r, hh, mc, ms)) : zMx l D dA b0 gs yX1_heightIfInserted (ws_ yX1_heightIfInserted cX1_heightIfInserted 6 (some .int)) 12 3116 [.ref a0, .int v1, .int v2] h evI r hh mc ms := by
  unfold f_X1_heightIfInserted at hf
  refine zMx.of (by decide) (Nat.le_of_ble_eq_true rfl) ?_
  intro p e s m args below meth c hc hr hin ht hn ls hl
  have hl : lv_has ls 6 [(0, .ref a0), (1, .int v1), (2, .int v2)] := hl
  have hq : 0 + mc = mc ∧ 0 + ms = ms := ⟨Nat.zero_add _, Nat.zero_add _⟩
  have hx := hc.x
  have hb := hc.b
  refine lv_aload_n (x := a0) hx hb dX1_heightIfInserted_0 rfl (lv_at hl 0 rfl) ?_
  refine lv_iload_n hx hb dX1_heightIfInserted_1 rfl (lv_at hl 1 rfl) ?_
  refine lv_iload_n hx hb dX1_heightIfInserted_2 rfl (lv_at hl 2 rfl) ?_
  refine zx_VP (As := [.int v1, .int v2]) (rest := []) hc hn hq (fun x hx => (ht x hx).elim) (ci := 0) rfl ⟨rfl, hd_X1_at_2⟩ (lw_V q1219 q1221 qs17 q84 q1222) (Nat.le_of_ble_eq_true rfl) (Nat.le_of_ble_eq_true rfl) (fun _ _ _ _ q => m_X1_at_2 l hl0 D dA b0 gs h a0 v1 v2 q) hf dX1_heightIfInserted_3 hl.1 rfl rfl (zroom (Nat.le_of_ble_eq_true rfl)) (fun x101 h102 H locs cells slots C9 S9 hf hq hn => ?_)
  refine zr_astore_n (x := x101) (i := 3) (lv' := [(3, va_rf x101), (0, .ref a0), (1, .int v1), (2, .int v2)]) hx hb dX1_heightIfInserted_6 rfl hl (by decide) rfl (fun ls hl => ?_)
  refine lv_aload_n (x := a0) hx hb dX1_heightIfInserted_7 rfl (lv_at hl 1 rfl) ?_
  refine zr_aload_n (x := x101) hx hb dX1_heightIfInserted_8 rfl (lv_at hl 0 rfl) ?_
  refine lv_iload_n hx hb dX1_heightIfInserted_9 rfl (lv_at hl 3 rfl) ?_
  obtain ⟨a103, e9, hf9⟩ := znn_i hf
  subst e9
  have hf := hf9
  clear hf9
  refine zx_VU (As := [.ref a103, .int v2]) (rest := []) hc hn hq (fun x hx => (ht x hx).elim) (ci := 0) rfl ⟨rfl, hd_X1_checkInsert⟩ (lw_V q1743 q1745 qs22 q84 q1746) (Nat.le_of_ble_eq_true rfl) (Nat.le_of_ble_eq_true rfl) (fun _ _ _ _ q => m_X1_checkInsert l hl0 D dA b0 gs h102 a0 a103 v2 q) hf dX1_heightIfInserted_10 hl.1 rfl rfl (zroom (Nat.le_of_ble_eq_true rfl)) (fun x104 h105 H locs cells slots C9 S9 hf hq hn => ?_)
  refine lv_aload_n (x := a103) hx hb dX1_heightIfInserted_13 rfl (lv_at hl 0 rfl) ?_
  refine zr_cVN (As := []) (rest := []) hc hn hq (ci := 6) rfl ⟨rfl, hd_X7_copy⟩ (lw_V q1747 q1748 q1749 q115 q1750) (Nat.le_of_ble_eq_true rfl) (Nat.le_of_ble_eq_true rfl) (fun _ _ _ _ q => m_X7_copy l D dA b0 gs h105 a103 q) hf dX1_heightIfInserted_14 hl.1 rfl rfl (zroom (Nat.le_of_ble_eq_true rfl)) (fun x106 h107 H locs cells slots C9 S9 hf hq hn => ?_)
  refine lv_astore (x := x106) (lv' := [(4, .ref x106), (3, .ref a103), (0, .ref a0), (1, .int v1), (2, .int v2)]) hx hb dX1_heightIfInserted_17 hl (by decide) rfl (fun ls hl => ?_)
  refine lv_aload (x := x106) hx hb dX1_heightIfInserted_19 (lv_at hl 0 rfl) ?_
  refine lv_iload_n hx hb dX1_heightIfInserted_21 rfl (lv_at hl 4 rfl) ?_
  refine lv_iconst (v := (0 : Int32)) hx hb dX1_heightIfInserted_22 (by decide) ?_
  refine zr_cVI (As := [.int v2, .int (0 : Int32)]) (rest := []) hc hn hq (ci := 6) rfl ⟨rfl, hd_X7_insert⟩ (lw_V q1755 q1756 q1757 q115 q1758) (Nat.le_of_ble_eq_true rfl) (Nat.le_of_ble_eq_true rfl) (fun _ _ _ _ q => m_X7_insert l D dA b0 gs h107 x106 v2 (0 : Int32) q) hf dX1_heightIfInserted_23 hl.1 rfl rfl (zroom (Nat.le_of_ble_eq_true rfl)) (fun x108 h109 H locs cells slots C9 S9 hf hq hn => ?_)
  refine lv_istore (lv' := [(5, .int x108), (4, .ref x106), (3, .ref a103), (0, .ref a0), (1, .int v1), (2, .int v2)]) hx hb dX1_heightIfInserted_26 hl (by decide) rfl (fun ls hl => ?_)
  refine lv_aload (x := x106) hx hb dX1_heightIfInserted_28 (lv_at hl 1 rfl) ?_
  refine lv_aload_n (x := a0) hx hb dX1_heightIfInserted_30 rfl (lv_at hl 3 rfl) ?_
  refine zr_gP hc hn (ci := 0) rfl rfl in_X1 4 (by decide) q229 (fun _ h => h) (fun _ _ _ => rfl) hf dX1_heightIfInserted_31 (fun x110 hf => ?_)
  obtain ⟨a111, e9, hf9⟩ := znn_i hf
  subst e9
  have hf := hf9
  clear hf9
  refine zr_gIN hc hn (ci := 1) rfl rfl in_X2 3 (by decide) q194 (fun _ h => h) (fun _ _ _ => rfl) hf dX1_heightIfInserted_34 (fun x112 hf => ?_)
  refine zr_new hc hn hq (ci := 2) rfl rfl in_X3 tyX3_ok q1763 q148 q86 (zd_X3) hf dX1_heightIfInserted_37 (fun a113 h114 H cells slots C9 S9 hf hq hn => ?_)
  refine lv_dup hx hb dX1_heightIfInserted_40 rfl ?_
  refine zr_cIN (As := []) (rest := [.ref a113, .int x112, .ref x106]) hc hn hq rfl hd_X3_init (lw_meth q151) q1764 q150 q86 (Nat.le_of_ble_eq_true rfl) (Nat.le_of_ble_eq_true rfl) (fun _ _ _ _ q => m_X3_init l D dA b0 gs h114 a113 q) hf dX1_heightIfInserted_41 hl.1 rfl rfl (zroom (Nat.le_of_ble_eq_true rfl)) (fun x115 h116 H locs cells slots C9 S9 hf hq hn => ?_)
  refine zr_cSU (As := [.ref x106, .int x112, .ref a113]) (rest := []) hc hn hq hd_X1_repairs (lw_S q1765 q920 q84 q921) (Nat.le_of_ble_eq_true rfl) (Nat.le_of_ble_eq_true rfl) (fun _ _ _ _ q => m_X1_repairs l D dA b0 gs h116 x106 x112 a113 q) hf dX1_heightIfInserted_44 hl.1 rfl rfl (zroom (Nat.le_of_ble_eq_true rfl)) (fun x117 h118 H locs cells slots C9 S9 hf hq hn => ?_)
  refine lv_aload (x := x106) hx hb dX1_heightIfInserted_47 (lv_at hl 1 rfl) ?_
  refine zr_cVI (As := []) (rest := []) hc hn hq (ci := 6) rfl ⟨rfl, hd_X7_height⟩ (lw_V q1182 q929 q930 q115 q931) (Nat.le_of_ble_eq_true rfl) (Nat.le_of_ble_eq_true rfl) (fun _ _ _ _ q => m_X7_height l D dA b0 gs h118 x106 q) hf dX1_heightIfInserted_49 hl.1 rfl rfl (zroom (Nat.le_of_ble_eq_true rfl)) (fun x119 h120 H locs cells slots C9 S9 hf hq hn => ?_)
  obtain ⟨rfl, rfl, rfl, rfl⟩ := zretx_i hf
  exact zx_ret (zr_iret hc hn hr hq (fun _ _ _ _ q => ⟨_, rfl, q⟩) dX1_heightIfInserted_52)
theorem hd_X1_repairsIfRemoved : yX1_repairsIfRemoved.cls ≠ "java/lang/invoke/MethodHandle" ∧ yX1_repairsIfRemoved.cls ≠ "java/lang/invoke/VarHandle" ∧ (parseMethodDescriptor yX1_repairsIfRemoved.desc).map (fun d => d.parameters.length) = some 2 := by decide +kernel
def f_X1_repairsIfRemoved (h : PH) (a0 : Nat) (v1 : Int32) (v2 : Int32) : ZR (ZX Int32) :=
  zrc h a0 0 <| zcx (f_X1_at_2 h a0 v1 v2) fun x101 h102 =>
  znn x101 fun a103 =>
  zrc h102 a103 6 <| zcl (f_X7_copy h102 a103) fun x104 h105 =>
  zno h105 2 1 fun a106 h107 =>
  zcl (f_X3_init h107 a106) fun _ h109 =>
  zcx (f_X1_nodeOf h109 x104 v2) fun x110 h111 =>
  znn x110 fun a112 =>
  zrc h111 x104 6 <| zcl (f_X7_remove h111 x104 a112) fun _ h114 =>
  zgP h114 a0 0 4 fun x115 =>
  znn x115 fun a116 =>
  zgI h114 a116 1 3 fun x117 =>
  zcl (f_X1_repairs h114 x104 x117 a106) fun _ h119 =>
  zrc h119 a106 2 <| zcl (f_X3_size h119 a106) fun x120 h121 =>
  zret (.inl x120) h121
set_option maxHeartbeats 4000000 in
set_option maxRecDepth 100000 in
theorem m_X1_repairsIfRemoved (l : Launch) (hl0 : l.stackTraces = false) (D : va_G) (dA : Nat → ClassId) (b0 : Nat) (gs : Nat → Option Nat) (h : PH) (a0 : Nat) (v1 : Int32) (v2 : Int32) {r : (ZX Int32)} {hh : PH} {mc ms : Nat} (hf : f_X1_repairsIfRemoved h a0 v1 v2 = some (r, hh, mc, ms)) : zMx l D dA b0 gs yX1_repairsIfRemoved (ws_ yX1_repairsIfRemoved cX1_repairsIfRemoved 5 (some .int)) 12 3116 [.ref a0, .int v1, .int v2] h evI r hh mc ms := by
  unfold f_X1_repairsIfRemoved at hf
  refine zMx.of (by decide) (Nat.le_of_ble_eq_true rfl) ?_
  intro p e s m args below meth c hc hr hin ht hn ls hl
  have hl : lv_has ls 5 [(0, .ref a0), (1, .int v1), (2, .int v2)] := hl
  have hq : 0 + mc = mc ∧ 0 + ms = ms := ⟨Nat.zero_add _, Nat.zero_add _⟩
  have hx := hc.x
  have hb := hc.b
  refine lv_aload_n (x := a0) hx hb dX1_repairsIfRemoved_0 rfl (lv_at hl 0 rfl) ?_
  refine lv_iload_n hx hb dX1_repairsIfRemoved_1 rfl (lv_at hl 1 rfl) ?_
  refine lv_iload_n hx hb dX1_repairsIfRemoved_2 rfl (lv_at hl 2 rfl) ?_
  refine zx_VP (As := [.int v1, .int v2]) (rest := []) hc hn hq (fun x hx => (ht x hx).elim) (ci := 0) rfl ⟨rfl, hd_X1_at_2⟩ (lw_V q1219 q1221 qs17 q84 q1222) (Nat.le_of_ble_eq_true rfl) (Nat.le_of_ble_eq_true rfl) (fun _ _ _ _ q => m_X1_at_2 l hl0 D dA b0 gs h a0 v1 v2 q) hf dX1_repairsIfRemoved_3 hl.1 rfl rfl (zroom (Nat.le_of_ble_eq_true rfl)) (fun x101 h102 H locs cells slots C9 S9 hf hq hn => ?_)
  obtain ⟨a103, e9, hf9⟩ := znn_i hf
  subst e9
  have hf := hf9
  clear hf9
  refine zr_cVN (As := []) (rest := []) hc hn hq (ci := 6) rfl ⟨rfl, hd_X7_copy⟩ (lw_V q1747 q1748 q1749 q115 q1750) (Nat.le_of_ble_eq_true rfl) (Nat.le_of_ble_eq_true rfl) (fun _ _ _ _ q => m_X7_copy l D dA b0 gs h102 a103 q) hf dX1_repairsIfRemoved_6 hl.1 rfl rfl (zroom (Nat.le_of_ble_eq_true rfl)) (fun x104 h105 H locs cells slots C9 S9 hf hq hn => ?_)
  refine lv_astore_n (x := x104) (i := 3) (lv' := [(3, .ref x104), (0, .ref a0), (1, .int v1), (2, .int v2)]) hx hb dX1_repairsIfRemoved_9 rfl hl (by decide) rfl (fun ls hl => ?_)
  refine zr_new hc hn hq (ci := 2) rfl rfl in_X3 tyX3_ok q1763 q148 q86 (zd_X3) hf dX1_repairsIfRemoved_10 (fun a106 h107 H cells slots C9 S9 hf hq hn => ?_)
  refine lv_dup hx hb dX1_repairsIfRemoved_13 rfl ?_
  refine zr_cIN (As := []) (rest := [.ref a106]) hc hn hq rfl hd_X3_init (lw_meth q151) q1764 q150 q86 (Nat.le_of_ble_eq_true rfl) (Nat.le_of_ble_eq_true rfl) (fun _ _ _ _ q => m_X3_init l D dA b0 gs h107 a106 q) hf dX1_repairsIfRemoved_14 hl.1 rfl rfl (zroom (Nat.le_of_ble_eq_true rfl)) (fun x108 h109 H locs cells slots C9 S9 hf hq hn => ?_)
  refine lv_astore (x := a106) (lv' := [(4, .ref a106), (3, .ref x104), (0, .ref a0), (1, .int v1), (2, .int v2)]) hx hb dX1_repairsIfRemoved_17 hl (by decide) rfl (fun ls hl => ?_)
  refine lv_aload_n (x := x104) hx hb dX1_repairsIfRemoved_19 rfl (lv_at hl 1 rfl) ?_
  refine lv_aload_n (x := x104) hx hb dX1_repairsIfRemoved_20 rfl (lv_at hl 1 rfl) ?_
  refine lv_iload_n hx hb dX1_repairsIfRemoved_21 rfl (lv_at hl 4 rfl) ?_
  refine zx_SP (As := [.ref x104, .int v2]) (rest := [.ref x104]) hc hn hq (fun x hx => (ht x hx).elim) hd_X1_nodeOf (lw_S q1229 q1230 q84 q1231) (Nat.le_of_ble_eq_true rfl) (Nat.le_of_ble_eq_true rfl) (fun _ _ _ _ q => m_X1_nodeOf l hl0 D dA b0 gs h109 x104 v2 q) hf dX1_repairsIfRemoved_22 hl.1 rfl rfl (zroom (Nat.le_of_ble_eq_true rfl)) (fun x110 h111 H locs cells slots C9 S9 hf hq hn => ?_)
  obtain ⟨a112, e9, hf9⟩ := znn_i hf
  subst e9
  have hf := hf9
  clear hf9
  refine zr_cVU (As := [.ref a112]) (rest := []) hc hn hq (ci := 6) rfl ⟨rfl, hd_X7_remove⟩ (lw_V q1773 q1774 q1775 q115 q1776) (Nat.le_of_ble_eq_true rfl) (Nat.le_of_ble_eq_true rfl) (fun _ _ _ _ q => m_X7_remove l D dA b0 gs h111 x104 a112 q) hf dX1_repairsIfRemoved_25 hl.1 rfl rfl (zroom (Nat.le_of_ble_eq_true rfl)) (fun x113 h114 H locs cells slots C9 S9 hf hq hn => ?_)
  refine lv_aload_n (x := x104) hx hb dX1_repairsIfRemoved_28 rfl (lv_at hl 1 rfl) ?_
  refine lv_aload_n (x := a0) hx hb dX1_repairsIfRemoved_29 rfl (lv_at hl 2 rfl) ?_
  refine zr_gP hc hn (ci := 0) rfl rfl in_X1 4 (by decide) q229 (fun _ h => h) (fun _ _ _ => rfl) hf dX1_repairsIfRemoved_30 (fun x115 hf => ?_)
  obtain ⟨a116, e9, hf9⟩ := znn_i hf
  subst e9
  have hf := hf9
  clear hf9
  refine zr_gIN hc hn (ci := 1) rfl rfl in_X2 3 (by decide) q194 (fun _ h => h) (fun _ _ _ => rfl) hf dX1_repairsIfRemoved_33 (fun x117 hf => ?_)
  refine lv_aload (x := a106) hx hb dX1_repairsIfRemoved_36 (lv_at hl 0 rfl) ?_
  refine zr_cSU (As := [.ref x104, .int x117, .ref a106]) (rest := []) hc hn hq hd_X1_repairs (lw_S q1765 q920 q84 q921) (Nat.le_of_ble_eq_true rfl) (Nat.le_of_ble_eq_true rfl) (fun _ _ _ _ q => m_X1_repairs l D dA b0 gs h114 x104 x117 a106 q) hf dX1_repairsIfRemoved_38 hl.1 rfl rfl (zroom (Nat.le_of_ble_eq_true rfl)) (fun x118 h119 H locs cells slots C9 S9 hf hq hn => ?_)
  refine lv_aload (x := a106) hx hb dX1_repairsIfRemoved_41 (lv_at hl 0 rfl) ?_
  refine zr_cVI (As := []) (rest := []) hc hn hq (ci := 2) rfl ⟨rfl, hd_X3_size⟩ (lw_V q270 q271 q272 q86 q273) (Nat.le_of_ble_eq_true rfl) (Nat.le_of_ble_eq_true rfl) (fun _ _ _ _ q => m_X3_size l D dA b0 gs h119 a106 q) hf dX1_repairsIfRemoved_43 hl.1 rfl rfl (zroom (Nat.le_of_ble_eq_true rfl)) (fun x120 h121 H locs cells slots C9 S9 hf hq hn => ?_)
  obtain ⟨rfl, rfl, rfl, rfl⟩ := zretx_i hf
  exact zx_ret (zr_iret hc hn hr hq (fun _ _ _ _ q => ⟨_, rfl, q⟩) dX1_repairsIfRemoved_46)
theorem hd_X1_repairsIfLimit : yX1_repairsIfLimit.cls ≠ "java/lang/invoke/MethodHandle" ∧ yX1_repairsIfLimit.cls ≠ "java/lang/invoke/VarHandle" ∧ (parseMethodDescriptor yX1_repairsIfLimit.desc).map (fun d => d.parameters.length) = some 1 := by decide +kernel
def f_X1_repairsIfLimit_b61 (k33 : PH → Int32 → Nat → Nat → Int32 → Int32 → ZR (ZX Int32)) (h : PH) (v1 : Int32) (a2 : Nat) (a3 : Nat) (v4 : Int32) (v5 : Int32) : ZR (ZX Int32) :=
  znm (v5 + (1 : Int32)) fun x101 =>
  k33 h v1 a2 a3 v4 x101
def f_X1_repairsIfLimit_b33 : Nat → PH → Int32 → Nat → Nat → Int32 → Int32 → ZR (ZX Int32)
  | 0 => fun _ _ _ _ _ _ => none
  | n + 1 => fun h v1 a2 a3 v4 v5 =>
    if v4 ≤ v5 then
      (zrc h a2 2 <| zcl (f_X3_size h a2) fun x101 h102 =>
      zret (.inl x101) h102)
    else
      (zaP h a3 6 v5 fun x103 =>
      znul x103
        (f_X1_repairsIfLimit_b61 (f_X1_repairsIfLimit_b33 n) h v1 a2 a3 v4 v5)
        (fun a104 =>
          zrc h a104 6 <| zcl (f_X7_copy h a104) fun x105 h106 =>
          zcl (f_X1_repairs h106 x105 v1 a2) fun _ h108 =>
          f_X1_repairsIfLimit_b61 (f_X1_repairsIfLimit_b33 n) h108 v1 a2 a3 v4 v5))
def f_X1_repairsIfLimit (h : PH) (a0 : Nat) (v1 : Int32) : ZR (ZX Int32) :=
  zcl (f_X1_isIn h v1 (2 : Int32) (7 : Int32)) fun x101 h102 =>
  zcx (f_X1_checkArgument h102 x101) fun _ h104 =>
  zno h104 2 1 fun a105 h106 =>
  zcl (f_X3_init h106 a105) fun _ h108 =>
  zgP h108 a0 0 4 fun x109 =>
  znn x109 fun a110 =>
  zgP h108 a110 1 0 fun x111 =>
  znn x111 fun a112 =>
  zlen h108 a112 6 fun x113 =>
  f_X1_repairsIfLimit_b33 zFU h108 v1 a105 a112 x113 (0 : Int32)
set_option maxHeartbeats 4000000 in
set_option maxRecDepth 100000 in
theorem m_X1_repairsIfLimit_b61 {p : Program} {l : Launch} {e : Env} {s : State} {m : MethodId} {args : Array Value} {below : List Frame} {meth : Method} {c : Code} {D : va_G} {dA : Nat → ClassId} {b0 : Nat} {gs : Nat → Option Nat} (hc : zC D dA b0 gs yX1_repairsIfLimit.cls cX1_repairsIfLimit 7 p c s m args meth) (hr : meth.sig.returnType = (some .int)) (hin : meth.name = yX1_repairsIfLimit.name) {r : (ZX Int32)} {hh : PH} {mc ms : Nat} (hl0 : l.stackTraces = false) (ht : ∀ x ∈ c.exceptionTable.toList, False) (k33 : PH → Int32 → Nat → Nat → Int32 → Int32 → ZR (ZX Int32)) (hk33 : ∀ (h : PH) (v1 : Int32) (a2 : Nat) (a3 : Nat) (v4 : Int32) (v5 : Int32) (C9 S9 : Nat) (H : Heap) (locs : List Loc) (cells slots : Nat), k33 h v1 a2 a3 v4 v5 = some (r, hh, C9, S9) → cells + C9 = mc ∧ slots + S9 = ms → zM D dA b0 gs s h H locs → ∀ ls : Array Slot, lv_has ls 7 [(1, .int v1), (2, .ref a2), (3, .ref a3), (4, .int v4), (5, .int v5)] → W p l e ({ frames := 12, cells := mc, slots := ms, locals := 3116 } : Room) s m args below meth c H locs cells slots (vx_MQ below (zQX D dA b0 gs evI r hh) (zXC D dA b0 gs r hh) args s mc ms (zA b0)) (F0 m 33 ls [])) : ∀ (h : PH) (v1 : Int32) (a2 : Nat) (a3 : Nat) (v4 : Int32) (v5 : Int32) (C9 S9 : Nat) (H : Heap) (locs : List Loc) (cells slots : Nat), f_X1_repairsIfLimit_b61 k33 h v1 a2 a3 v4 v5 = some (r, hh, C9, S9) → cells + C9 = mc ∧ slots + S9 = ms → zM D dA b0 gs s h H locs → ∀ ls : Array Slot, lv_has ls 7 [(1, .int v1), (2, .ref a2), (3, .ref a3), (4, .int v4), (5, .int v5)] → W p l e ({ frames := 12, cells := mc, slots := ms, locals := 3116 } : Room) s m args below meth c H locs cells slots (vx_MQ below (zQX D dA b0 gs evI r hh) (zXC D dA b0 gs r hh) args s mc ms (zA b0)) (F0 m 61 ls []) := by
  have hx := hc.x
  have hb := hc.b
  intro h v1 a2 a3 v4 v5 C9 S9 H locs cells slots hf hq hn ls hl
  unfold f_X1_repairsIfLimit_b61 at hf
  obtain ⟨x101, ex101, hf⟩ := znm_i hf
  refine lv_iinc (v := x101) (lv' := [(5, .int x101), (1, .int v1), (2, .ref a2), (3, .ref a3), (4, .int v4)]) hx hb dX1_repairsIfLimit_61 hl (k := 4) rfl (by rw [ex101]; rfl) (by decide) rfl (fun ls hl => ?_)
  refine lv_goto (tgt := 33) hx hb dX1_repairsIfLimit_64 (by decide) ?_
  exact hk33 h v1 a2 a3 v4 x101 _ _ _ _ _ _ hf hq hn _ (lv_sub hl [1, 2, 3, 4, 0] rfl)
set_option maxHeartbeats 4000000 in
set_option maxRecDepth 100000 in
theorem m_X1_repairsIfLimit_b33 {p : Program} {l : Launch} {e : Env} {s : State} {m : MethodId} {args : Array Value} {below : List Frame} {meth : Method} {c : Code} {D : va_G} {dA : Nat → ClassId} {b0 : Nat} {gs : Nat → Option Nat} (hc : zC D dA b0 gs yX1_repairsIfLimit.cls cX1_repairsIfLimit 7 p c s m args meth) (hr : meth.sig.returnType = (some .int)) (hin : meth.name = yX1_repairsIfLimit.name) {r : (ZX Int32)} {hh : PH} {mc ms : Nat} (hl0 : l.stackTraces = false) (ht : ∀ x ∈ c.exceptionTable.toList, False) : ∀ (n : Nat) (h : PH) (v1 : Int32) (a2 : Nat) (a3 : Nat) (v4 : Int32) (v5 : Int32) (C9 S9 : Nat) (H : Heap) (locs : List Loc) (cells slots : Nat), f_X1_repairsIfLimit_b33 n h v1 a2 a3 v4 v5 = some (r, hh, C9, S9) → cells + C9 = mc ∧ slots + S9 = ms → zM D dA b0 gs s h H locs → ∀ ls : Array Slot, lv_has ls 7 [(1, .int v1), (2, .ref a2), (3, .ref a3), (4, .int v4), (5, .int v5)] → W p l e ({ frames := 12, cells := mc, slots := ms, locals := 3116 } : Room) s m args below meth c H locs cells slots (vx_MQ below (zQX D dA b0 gs evI r hh) (zXC D dA b0 gs r hh) args s mc ms (zA b0)) (F0 m 33 ls []) := by
  have hx := hc.x
  have hb := hc.b
  intro n
  induction n with
  | zero =>
    intro h v1 a2 a3 v4 v5 C9 S9 H locs cells slots hf hq hn ls hl
    cases hf
  | succ n ih =>
    intro h v1 a2 a3 v4 v5 C9 S9 H locs cells slots hf hq hn ls hl
    unfold f_X1_repairsIfLimit_b33 at hf
    refine lv_iload hx hb dX1_repairsIfLimit_33 (lv_at hl 4 rfl) ?_
    refine lv_iload hx hb dX1_repairsIfLimit_35 (lv_at hl 3 rfl) ?_
    refine lv_icmp_ge (tgt := 67) hx hb dX1_repairsIfLimit_37 (by decide) (fun c9 => ?_) (fun c9 => ?_)
    · have hf := zif_t c9 hf
      refine lv_aload_n (x := a2) hx hb dX1_repairsIfLimit_67 rfl (lv_at hl 1 rfl) ?_
      refine zr_cVI (As := []) (rest := []) hc hn hq (ci := 2) rfl ⟨rfl, hd_X3_size⟩ (lw_V q270 q271 q272 q86 q273) (Nat.le_of_ble_eq_true rfl) (Nat.le_of_ble_eq_true rfl) (fun _ _ _ _ q => m_X3_size l D dA b0 gs h a2 q) hf dX1_repairsIfLimit_68 hl.1 rfl rfl (zroom (Nat.le_of_ble_eq_true rfl)) (fun x101 h102 H locs cells slots C9 S9 hf hq hn => ?_)
      obtain ⟨rfl, rfl, rfl, rfl⟩ := zretx_i hf
      exact zx_ret (zr_iret hc hn hr hq (fun _ _ _ _ q => ⟨_, rfl, q⟩) dX1_repairsIfLimit_71)
    · have hf := zif_f c9 hf
      refine lv_aload_n (x := a3) hx hb dX1_repairsIfLimit_40 rfl (lv_at hl 2 rfl) ?_
      refine lv_iload hx hb dX1_repairsIfLimit_41 (lv_at hl 4 rfl) ?_
      refine zr_aP (ai := 6) (by decide) hc hn hf dX1_repairsIfLimit_43 (fun x103 hf => ?_)
      refine zr_astore (x := x103) (lv' := [(6, va_rf x103), (1, .int v1), (2, .ref a2), (3, .ref a3), (4, .int v4), (5, .int v5)]) hx hb dX1_repairsIfLimit_44 hl (by decide) rfl (fun ls hl => ?_)
      refine zr_aload (x := x103) hx hb dX1_repairsIfLimit_46 (lv_at hl 0 rfl) ?_
      refine zr_ifnull (tgt := 61) hx hb hf dX1_repairsIfLimit_48 (by decide) (fun e9 hf9 => ?_) (fun a104 e9 hf9 => ?_)
      · subst e9
        have hf := hf9
        clear hf9
        exact m_X1_repairsIfLimit_b61 hc hr hin hl0 ht (f_X1_repairsIfLimit_b33 n) ih h v1 a2 a3 v4 v5 _ _ _ _ _ _ hf hq hn _ (lv_sub hl [1, 2, 3, 4, 5] rfl)
      · subst e9
        have hf := hf9
        clear hf9
        refine lv_aload (x := a104) hx hb dX1_repairsIfLimit_51 (lv_at hl 0 rfl) ?_
        refine zr_cVN (As := []) (rest := []) hc hn hq (ci := 6) rfl ⟨rfl, hd_X7_copy⟩ (lw_V q1747 q1748 q1749 q115 q1750) (Nat.le_of_ble_eq_true rfl) (Nat.le_of_ble_eq_true rfl) (fun _ _ _ _ q => m_X7_copy l D dA b0 gs h a104 q) hf dX1_repairsIfLimit_53 hl.1 rfl rfl (zroom (Nat.le_of_ble_eq_true rfl)) (fun x105 h106 H locs cells slots C9 S9 hf hq hn => ?_)
        refine lv_iload_n hx hb dX1_repairsIfLimit_56 rfl (lv_at hl 1 rfl) ?_
        refine lv_aload_n (x := a2) hx hb dX1_repairsIfLimit_57 rfl (lv_at hl 2 rfl) ?_
        refine zr_cSU (As := [.ref x105, .int v1, .ref a2]) (rest := []) hc hn hq hd_X1_repairs (lw_S q1765 q920 q84 q921) (Nat.le_of_ble_eq_true rfl) (Nat.le_of_ble_eq_true rfl) (fun _ _ _ _ q => m_X1_repairs l D dA b0 gs h106 x105 v1 a2 q) hf dX1_repairsIfLimit_58 hl.1 rfl rfl (zroom (Nat.le_of_ble_eq_true rfl)) (fun x107 h108 H locs cells slots C9 S9 hf hq hn => ?_)
        exact m_X1_repairsIfLimit_b61 hc hr hin hl0 ht (f_X1_repairsIfLimit_b33 n) ih h108 v1 a2 a3 v4 v5 _ _ _ _ _ _ hf hq hn _ (lv_sub hl [1, 2, 3, 4, 5] rfl)
set_option maxHeartbeats 4000000 in
set_option maxRecDepth 100000 in
theorem m_X1_repairsIfLimit (l : Launch) (hl0 : l.stackTraces = false) (D : va_G) (dA : Nat → ClassId) (b0 : Nat) (gs : Nat → Option Nat) (h : PH) (a0 : Nat) (v1 : Int32) {r : (ZX Int32)} {hh : PH} {mc ms : Nat} (hf : f_X1_repairsIfLimit h a0 v1 = some (r, hh, mc, ms)) : zMx l D dA b0 gs yX1_repairsIfLimit (ws_ yX1_repairsIfLimit cX1_repairsIfLimit 7 (some .int)) 12 3116 [.ref a0, .int v1] h evI r hh mc ms := by
  unfold f_X1_repairsIfLimit at hf
  refine zMx.of (by decide) (Nat.le_of_ble_eq_true rfl) ?_
  intro p e s m args below meth c hc hr hin ht hn ls hl
  have hl : lv_has ls 7 [(0, .ref a0), (1, .int v1)] := hl
  have hq : 0 + mc = mc ∧ 0 + ms = ms := ⟨Nat.zero_add _, Nat.zero_add _⟩
  have hx := hc.x
  have hb := hc.b
  refine lv_iload_n hx hb dX1_repairsIfLimit_0 rfl (lv_at hl 1 rfl) ?_
  refine lv_iconst (v := (2 : Int32)) hx hb dX1_repairsIfLimit_1 (by decide) ?_
  refine lv_bipush (v := (7 : Int32)) hx hb dX1_repairsIfLimit_2 (by decide) ?_
  refine zr_cSI (As := [.int v1, .int (2 : Int32), .int (7 : Int32)]) (rest := []) hc hn hq hd_X1_isIn (lw_S q259 q260 q84 q261) (Nat.le_of_ble_eq_true rfl) (Nat.le_of_ble_eq_true rfl) (fun _ _ _ _ q => m_X1_isIn l D dA b0 gs h v1 (2 : Int32) (7 : Int32) q) hf dX1_repairsIfLimit_4 hl.1 rfl rfl (zroom (Nat.le_of_ble_eq_true rfl)) (fun x101 h102 H locs cells slots C9 S9 hf hq hn => ?_)
  refine zx_SU (As := [.int x101]) (rest := []) hc hn hq (fun x hx => (ht x hx).elim) hd_X1_checkArgument (lw_S q1226 q1227 q84 q1228) (Nat.le_of_ble_eq_true rfl) (Nat.le_of_ble_eq_true rfl) (fun _ _ _ _ q => m_X1_checkArgument l hl0 D dA b0 gs h102 x101 q) hf dX1_repairsIfLimit_7 hl.1 rfl rfl (zroom (Nat.le_of_ble_eq_true rfl)) (fun x103 h104 H locs cells slots C9 S9 hf hq hn => ?_)
  refine zr_new hc hn hq (ci := 2) rfl rfl in_X3 tyX3_ok q1763 q148 q86 (zd_X3) hf dX1_repairsIfLimit_10 (fun a105 h106 H cells slots C9 S9 hf hq hn => ?_)
  refine lv_dup hx hb dX1_repairsIfLimit_13 rfl ?_
  refine zr_cIN (As := []) (rest := [.ref a105]) hc hn hq rfl hd_X3_init (lw_meth q151) q1764 q150 q86 (Nat.le_of_ble_eq_true rfl) (Nat.le_of_ble_eq_true rfl) (fun _ _ _ _ q => m_X3_init l D dA b0 gs h106 a105 q) hf dX1_repairsIfLimit_14 hl.1 rfl rfl (zroom (Nat.le_of_ble_eq_true rfl)) (fun x107 h108 H locs cells slots C9 S9 hf hq hn => ?_)
  refine lv_astore_n (x := a105) (i := 2) (lv' := [(2, .ref a105), (0, .ref a0), (1, .int v1)]) hx hb dX1_repairsIfLimit_17 rfl hl (by decide) rfl (fun ls hl => ?_)
  refine lv_aload_n (x := a0) hx hb dX1_repairsIfLimit_18 rfl (lv_at hl 1 rfl) ?_
  refine zr_gP hc hn (ci := 0) rfl rfl in_X1 4 (by decide) q229 (fun _ h => h) (fun _ _ _ => rfl) hf dX1_repairsIfLimit_19 (fun x109 hf => ?_)
  obtain ⟨a110, e9, hf9⟩ := znn_i hf
  subst e9
  have hf := hf9
  clear hf9
  refine zr_gPN hc hn (ci := 1) rfl rfl in_X2 0 (by decide) q187 (fun _ h => h) (fun _ _ _ => rfl) hf dX1_repairsIfLimit_22 (fun x111 hf => ?_)
  refine zr_astore_n (x := x111) (i := 3) (lv' := [(3, va_rf x111), (2, .ref a105), (0, .ref a0), (1, .int v1)]) hx hb dX1_repairsIfLimit_25 rfl hl (by decide) rfl (fun ls hl => ?_)
  refine zr_aload_n (x := x111) hx hb dX1_repairsIfLimit_26 rfl (lv_at hl 0 rfl) ?_
  obtain ⟨a112, e9, hf9⟩ := znn_i hf
  subst e9
  have hf := hf9
  clear hf9
  refine zr_len (ai := 6) hc hn hf dX1_repairsIfLimit_27 (fun x113 hf => ?_)
  refine lv_istore (lv' := [(4, .int x113), (3, .ref a112), (2, .ref a105), (0, .ref a0), (1, .int v1)]) hx hb dX1_repairsIfLimit_28 hl (by decide) rfl (fun ls hl => ?_)
  refine lv_iconst (v := (0 : Int32)) hx hb dX1_repairsIfLimit_30 (by decide) ?_
  refine lv_istore (lv' := [(5, .int (0 : Int32)), (4, .int x113), (3, .ref a112), (2, .ref a105), (0, .ref a0), (1, .int v1)]) hx hb dX1_repairsIfLimit_31 hl (by decide) rfl (fun ls hl => ?_)
  exact m_X1_repairsIfLimit_b33 hc hr hin hl0 ht zFU h108 v1 a105 a112 x113 (0 : Int32) _ _ _ _ _ _ hf hq hn _ (lv_sub hl [5, 3, 2, 1, 0] rfl)
theorem hd_X1_mends : yX1_mends.cls ≠ "java/lang/invoke/MethodHandle" ∧ yX1_mends.cls ≠ "java/lang/invoke/VarHandle" ∧ (parseMethodDescriptor yX1_mends.desc).map (fun d => d.parameters.length) = some 1 := by decide +kernel
def f_X1_mends (h : PH) (a0 : Nat) (a1 : Nat) : ZR Unit :=
  zgP h a0 0 4 fun x101 =>
  znn x101 fun a102 =>
  zgI h a102 1 3 fun x103 =>
  zgP h a0 0 4 fun x104 =>
  znn x104 fun a105 =>
  zgP h a105 1 2 fun x106 =>
  znn x106 fun a107 =>
  zcl (f_X1_repairs h a1 x103 a107) fun _ h109 =>
  zret () h109
set_option maxHeartbeats 4000000 in
set_option maxRecDepth 100000 in
theorem m_X1_mends (l : Launch) (D : va_G) (dA : Nat → ClassId) (b0 : Nat) (gs : Nat → Option Nat) (h : PH) (a0 : Nat) (a1 : Nat) {r : Unit} {hh : PH} {mc ms : Nat} (hf : f_X1_mends h a0 a1 = some (r, hh, mc, ms)) : zMt l D dA b0 gs yX1_mends cX1_mends 2 none 12 3116 [.ref a0, .ref a1] h (evU r) hh mc ms := by
  unfold f_X1_mends at hf
  refine zMt.of (by decide) (Nat.le_of_ble_eq_true rfl) ?_
  intro p e s m args below meth c hc hr hin hn ls hl
  have hl : lv_has ls 2 [(0, .ref a0), (1, .ref a1)] := hl
  have hq : 0 + mc = mc ∧ 0 + ms = ms := ⟨Nat.zero_add _, Nat.zero_add _⟩
  have hx := hc.x
  have hb := hc.b
  refine lv_aload_n (x := a1) hx hb dX1_mends_0 rfl (lv_at hl 1 rfl) ?_
  refine lv_aload_n (x := a0) hx hb dX1_mends_1 rfl (lv_at hl 0 rfl) ?_
  refine zr_gP hc hn (ci := 0) rfl rfl in_X1 4 (by decide) q229 (fun _ h => h) (fun _ _ _ => rfl) hf dX1_mends_2 (fun x101 hf => ?_)
  obtain ⟨a102, e9, hf9⟩ := znn_i hf
  subst e9
  have hf := hf9
  clear hf9
  refine zr_gIN hc hn (ci := 1) rfl rfl in_X2 3 (by decide) q194 (fun _ h => h) (fun _ _ _ => rfl) hf dX1_mends_5 (fun x103 hf => ?_)
  refine lv_aload_n (x := a0) hx hb dX1_mends_8 rfl (lv_at hl 0 rfl) ?_
  refine zr_gP hc hn (ci := 0) rfl rfl in_X1 4 (by decide) q229 (fun _ h => h) (fun _ _ _ => rfl) hf dX1_mends_9 (fun x104 hf => ?_)
  obtain ⟨a105, e9, hf9⟩ := znn_i hf
  subst e9
  have hf := hf9
  clear hf9
  refine zr_gPN hc hn (ci := 1) rfl rfl in_X2 2 (by decide) q191 (fun _ h => h) (fun _ _ _ => rfl) hf dX1_mends_12 (fun x106 hf => ?_)
  obtain ⟨a107, e9, hf9⟩ := znn_i hf
  subst e9
  have hf := hf9
  clear hf9
  refine zr_cSU (As := [.ref a1, .int x103, .ref a107]) (rest := []) hc hn hq hd_X1_repairs (lw_S q1765 q920 q84 q921) (Nat.le_of_ble_eq_true rfl) (Nat.le_of_ble_eq_true rfl) (fun _ _ _ _ q => m_X1_repairs l D dA b0 gs h a1 x103 a107 q) hf dX1_mends_15 hl.1 rfl rfl (zroom (Nat.le_of_ble_eq_true rfl)) (fun x108 h109 H locs cells slots C9 S9 hf hq hn => ?_)
  obtain ⟨rfl, rfl, rfl, rfl⟩ := zret_i hf
  exact zr_vret hc hn hr hq (fun _ _ _ _ q => q) dX1_mends_18
theorem hd_X1_insert : yX1_insert.cls ≠ "java/lang/invoke/MethodHandle" ∧ yX1_insert.cls ≠ "java/lang/invoke/VarHandle" ∧ (parseMethodDescriptor yX1_insert.desc).map (fun d => d.parameters.length) = some 3 := by decide +kernel
def f_X1_insert (h : PH) (a0 : Nat) (v1 : Int32) (v2 : Int32) (v3 : Int32) : ZR (ZX Int32) :=
  zrc h a0 0 <| zcx (f_X1_at h a0 v1) fun x101 h102 =>
  zna h102 0 (2 : Int32) fun a103 h104 =>
  zsI h104 a103 0 (0 : Int32) v2 fun h105 =>
  zsI h105 a103 0 (1 : Int32) v3 fun h106 =>
  zcx (f_X1_checkNumbers h106 a103) fun _ h108 =>
  znn x101 fun a109 =>
  zrc h108 a0 0 <| zcx (f_X1_checkInsert h108 a0 a109 v2) fun _ h111 =>
  zrc h111 a0 0 <| zcl (f_X1_begin h111 a0) fun x112 h113 =>
  znn x112 fun a114 =>
  zrc h113 a114 1 <| zcl (f_X2_own h113 a114 v1) fun x115 h116 =>
  znn x115 fun a117 =>
  zrc h116 a117 6 <| zcl (f_X7_insert h116 a117 v2 v3) fun x118 h119 =>
  zrc h119 a0 0 <| zcl (f_X1_mends h119 a0 a117) fun _ h121 =>
  zgP h121 a0 0 4 fun x122 =>
  znn x122 fun a123 =>
  zgP h121 a123 1 1 fun x124 =>
  znn x124 fun a125 =>
  zaI h121 a125 0 (0 : Int32) fun x126 =>
  znm (x126 + (1 : Int32)) fun x127 =>
  zsI h121 a125 0 (0 : Int32) x127 fun h128 =>
  zrc h128 a0 0 <| zcl (f_X1_ends h128 a0) fun _ h130 =>
  zret (.inl x118) h130
set_option maxHeartbeats 4000000 in
set_option maxRecDepth 100000 in
theorem m_X1_insert (l : Launch) (hl0 : l.stackTraces = false) (D : va_G) (dA : Nat → ClassId) (b0 : Nat) (gs : Nat → Option Nat) (h : PH) (a0 : Nat) (v1 : Int32) (v2 : Int32) (v3 : Int32) {r : (ZX Int32)} {hh : PH} {mc ms : Nat} (hf : f_X1_insert h a0 v1 v2 v3 = some (r, hh, mc, ms)) : zMx l D dA b0 gs yX1_insert (ws_ yX1_insert cX1_insert 7 (some .int)) 13 3137 [.ref a0, .int v1, .int v2, .int v3] h evI r hh mc ms := by
  unfold f_X1_insert at hf
  refine zMx.of (by decide) (Nat.le_of_ble_eq_true rfl) ?_
  intro p e s m args below meth c hc hr hin ht hn ls hl
  have hl : lv_has ls 7 [(0, .ref a0), (1, .int v1), (2, .int v2), (3, .int v3)] := hl
  have hq : 0 + mc = mc ∧ 0 + ms = ms := ⟨Nat.zero_add _, Nat.zero_add _⟩
  have hx := hc.x
  have hb := hc.b
  refine lv_aload_n (x := a0) hx hb dX1_insert_0 rfl (lv_at hl 0 rfl) ?_
  refine lv_iload_n hx hb dX1_insert_1 rfl (lv_at hl 1 rfl) ?_
  refine zx_VP (As := [.int v1]) (rest := []) hc hn hq (fun x hx => (ht x hx).elim) (ci := 0) rfl ⟨rfl, hd_X1_at⟩ (lw_V q1170 q1172 qs15 q84 q1173) (Nat.le_of_ble_eq_true rfl) (Nat.le_of_ble_eq_true rfl) (fun _ _ _ _ q => m_X1_at l hl0 D dA b0 gs h a0 v1 q) hf dX1_insert_2 hl.1 rfl rfl (zroom (Nat.le_of_ble_eq_true rfl)) (fun x101 h102 H locs cells slots C9 S9 hf hq hn => ?_)
  refine zr_astore (x := x101) (lv' := [(4, va_rf x101), (0, .ref a0), (1, .int v1), (2, .int v2), (3, .int v3)]) hx hb dX1_insert_5 hl (by decide) rfl (fun ls hl => ?_)
  refine lv_iconst (v := (2 : Int32)) hx hb dX1_insert_7 (by decide) ?_
  refine zr_na0 hc hn hq q180 hf dX1_insert_8 (fun a103 h104 H cells slots C9 S9 hf hq hn => ?_)
  refine lv_dup hx hb dX1_insert_10 rfl ?_
  refine lv_iconst (v := (0 : Int32)) hx hb dX1_insert_11 (by decide) ?_
  refine lv_iload_n hx hb dX1_insert_12 rfl (lv_at hl 3 rfl) ?_
  refine zr_sI hc hn hf dX1_insert_13 (fun h105 H locs hf hn => ?_)
  refine lv_dup hx hb dX1_insert_14 rfl ?_
  refine lv_iconst (v := (1 : Int32)) hx hb dX1_insert_15 (by decide) ?_
  refine lv_iload_n hx hb dX1_insert_16 rfl (lv_at hl 4 rfl) ?_
  refine zr_sI hc hn hf dX1_insert_17 (fun h106 H locs hf hn => ?_)
  refine zx_SU (As := [.ref a103]) (rest := []) hc hn hq (fun x hx => (ht x hx).elim) hd_X1_checkNumbers (lw_S q1223 q1224 q84 q1225) (Nat.le_of_ble_eq_true rfl) (Nat.le_of_ble_eq_true rfl) (fun _ _ _ _ q => m_X1_checkNumbers l hl0 D dA b0 gs h106 a103 q) hf dX1_insert_18 hl.1 rfl rfl (zroom (Nat.le_of_ble_eq_true rfl)) (fun x107 h108 H locs cells slots C9 S9 hf hq hn => ?_)
  refine lv_aload_n (x := a0) hx hb dX1_insert_21 rfl (lv_at hl 1 rfl) ?_
  refine zr_aload (x := x101) hx hb dX1_insert_22 (lv_at hl 0 rfl) ?_
  refine lv_iload_n hx hb dX1_insert_24 rfl (lv_at hl 3 rfl) ?_
  obtain ⟨a109, e9, hf9⟩ := znn_i hf
  subst e9
  have hf := hf9
  clear hf9
  refine zx_VU (As := [.ref a109, .int v2]) (rest := []) hc hn hq (fun x hx => (ht x hx).elim) (ci := 0) rfl ⟨rfl, hd_X1_checkInsert⟩ (lw_V q1743 q1745 qs22 q84 q1746) (Nat.le_of_ble_eq_true rfl) (Nat.le_of_ble_eq_true rfl) (fun _ _ _ _ q => m_X1_checkInsert l hl0 D dA b0 gs h108 a0 a109 v2 q) hf dX1_insert_25 hl.1 rfl rfl (zroom (Nat.le_of_ble_eq_true rfl)) (fun x110 h111 H locs cells slots C9 S9 hf hq hn => ?_)
  refine lv_aload_n (x := a0) hx hb dX1_insert_28 rfl (lv_at hl 1 rfl) ?_
  refine zr_cVP (As := []) (rest := []) hc hn hq (ci := 0) rfl ⟨rfl, hd_X1_begin⟩ (lw_V q1881 q1883 qs25 q84 q1884) (Nat.le_of_ble_eq_true rfl) (Nat.le_of_ble_eq_true rfl) (fun _ _ _ _ q => m_X1_begin l D dA b0 gs h111 a0 q) hf dX1_insert_29 hl.1 rfl rfl (zroom (Nat.le_of_ble_eq_true rfl)) (fun x112 h113 H locs cells slots C9 S9 hf hq hn => ?_)
  refine lv_iload_n hx hb dX1_insert_32 rfl (lv_at hl 2 rfl) ?_
  obtain ⟨a114, e9, hf9⟩ := znn_i hf
  subst e9
  have hf := hf9
  clear hf9
  refine zr_cVP (As := [.int v1]) (rest := []) hc hn hq (ci := 1) rfl ⟨rfl, hd_X2_own⟩ (lw_V q1975 q1976 q1977 q85 q1978) (Nat.le_of_ble_eq_true rfl) (Nat.le_of_ble_eq_true rfl) (fun _ _ _ _ q => m_X2_own l D dA b0 gs h113 a114 v1 q) hf dX1_insert_33 hl.1 rfl rfl (zroom (Nat.le_of_ble_eq_true rfl)) (fun x115 h116 H locs cells slots C9 S9 hf hq hn => ?_)
  refine zr_astore (x := x115) (lv' := [(5, va_rf x115), (4, .ref a109), (0, .ref a0), (1, .int v1), (2, .int v2), (3, .int v3)]) hx hb dX1_insert_36 hl (by decide) rfl (fun ls hl => ?_)
  refine zr_aload (x := x115) hx hb dX1_insert_38 (lv_at hl 0 rfl) ?_
  refine lv_iload_n hx hb dX1_insert_40 rfl (lv_at hl 4 rfl) ?_
  refine lv_iload_n hx hb dX1_insert_41 rfl (lv_at hl 5 rfl) ?_
  obtain ⟨a117, e9, hf9⟩ := znn_i hf
  subst e9
  have hf := hf9
  clear hf9
  refine zr_cVI (As := [.int v2, .int v3]) (rest := []) hc hn hq (ci := 6) rfl ⟨rfl, hd_X7_insert⟩ (lw_V q1755 q1756 q1757 q115 q1758) (Nat.le_of_ble_eq_true rfl) (Nat.le_of_ble_eq_true rfl) (fun _ _ _ _ q => m_X7_insert l D dA b0 gs h116 a117 v2 v3 q) hf dX1_insert_42 hl.1 rfl rfl (zroom (Nat.le_of_ble_eq_true rfl)) (fun x118 h119 H locs cells slots C9 S9 hf hq hn => ?_)
  refine lv_istore (lv' := [(6, .int x118), (5, .ref a117), (4, .ref a109), (0, .ref a0), (1, .int v1), (2, .int v2), (3, .int v3)]) hx hb dX1_insert_45 hl (by decide) rfl (fun ls hl => ?_)
  refine lv_aload_n (x := a0) hx hb dX1_insert_47 rfl (lv_at hl 3 rfl) ?_
  refine lv_aload (x := a117) hx hb dX1_insert_48 (lv_at hl 1 rfl) ?_
  refine zr_cVU (As := [.ref a117]) (rest := []) hc hn hq (ci := 0) rfl ⟨rfl, hd_X1_mends⟩ (lw_V q1980 q1982 qs29 q84 q1983) (Nat.le_of_ble_eq_true rfl) (Nat.le_of_ble_eq_true rfl) (fun _ _ _ _ q => m_X1_mends l D dA b0 gs h119 a0 a117 q) hf dX1_insert_50 hl.1 rfl rfl (zroom (Nat.le_of_ble_eq_true rfl)) (fun x120 h121 H locs cells slots C9 S9 hf hq hn => ?_)
  refine lv_aload_n (x := a0) hx hb dX1_insert_53 rfl (lv_at hl 3 rfl) ?_
  refine zr_gP hc hn (ci := 0) rfl rfl in_X1 4 (by decide) q229 (fun _ h => h) (fun _ _ _ => rfl) hf dX1_insert_54 (fun x122 hf => ?_)
  obtain ⟨a123, e9, hf9⟩ := znn_i hf
  subst e9
  have hf := hf9
  clear hf9
  refine zr_gPN hc hn (ci := 1) rfl rfl in_X2 1 (by decide) q189 (fun _ h => h) (fun _ _ _ => rfl) hf dX1_insert_57 (fun x124 hf => ?_)
  refine lv_iconst (v := (0 : Int32)) hx hb dX1_insert_60 (by decide) ?_
  refine lv_dup2_11 hx hb dX1_insert_61 rfl (zcat_rf _) ?_
  obtain ⟨a125, e9, hf9⟩ := znn_i hf
  subst e9
  have hf := hf9
  clear hf9
  refine zr_aI0 hc hn hf dX1_insert_62 (fun x126 hf => ?_)
  refine lv_iconst (v := (1 : Int32)) hx hb dX1_insert_63 (by decide) ?_
  refine lv_iadd hx hb dX1_insert_64 ?_
  refine zr_nmI hf (fun x127 hf => ?_)
  refine zr_sI hc hn hf dX1_insert_65 (fun h128 H locs hf hn => ?_)
  refine lv_aload_n (x := a0) hx hb dX1_insert_66 rfl (lv_at hl 3 rfl) ?_
  refine zr_cVU (As := []) (rest := []) hc hn hq (ci := 0) rfl ⟨rfl, hd_X1_ends⟩ (lw_V q1941 q1943 qs28 q84 q1944) (Nat.le_of_ble_eq_true rfl) (Nat.le_of_ble_eq_true rfl) (fun _ _ _ _ q => m_X1_ends l D dA b0 gs h128 a0 q) hf dX1_insert_67 hl.1 rfl rfl (zroom (Nat.le_of_ble_eq_true rfl)) (fun x129 h130 H locs cells slots C9 S9 hf hq hn => ?_)
  refine lv_iload hx hb dX1_insert_70 (lv_at hl 0 rfl) ?_
  obtain ⟨rfl, rfl, rfl, rfl⟩ := zretx_i hf
  exact zx_ret (zr_iret hc hn hr hq (fun _ _ _ _ q => ⟨_, rfl, q⟩) dX1_insert_72)
theorem hd_X1_remove : yX1_remove.cls ≠ "java/lang/invoke/MethodHandle" ∧ yX1_remove.cls ≠ "java/lang/invoke/VarHandle" ∧ (parseMethodDescriptor yX1_remove.desc).map (fun d => d.parameters.length) = some 2 := by decide +kernel
def f_X1_remove (h : PH) (a0 : Nat) (v1 : Int32) (v2 : Int32) : ZR (ZX Int32) :=
  zrc h a0 0 <| zcx (f_X1_at_2 h a0 v1 v2) fun x101 h102 =>
  znn x101 fun a103 =>
  zcx (f_X1_nodeOf h102 a103 v2) fun x104 h105 =>
  znn x104 fun a106 =>
  zgI h105 a106 7 4 fun x107 =>
  zrc h105 a0 0 <| zcl (f_X1_begin h105 a0) fun x108 h109 =>
  znn x108 fun a110 =>
  zrc h109 a110 1 <| zcl (f_X2_own h109 a110 v1) fun x111 h112 =>
  znn x111 fun a113 =>
  zcx (f_X1_nodeOf h112 a113 v2) fun x114 h115 =>
  znn x114 fun a116 =>
  zrc h115 a113 6 <| zcl (f_X7_remove h115 a113 a116) fun _ h118 =>
  zrc h118 a0 0 <| zcl (f_X1_mends h118 a0 a113) fun _ h120 =>
  zgP h120 a0 0 4 fun x121 =>
  znn x121 fun a122 =>
  zgP h120 a122 1 1 fun x123 =>
  znn x123 fun a124 =>
  zaI h120 a124 0 (1 : Int32) fun x125 =>
  znm (x125 + (1 : Int32)) fun x126 =>
  zsI h120 a124 0 (1 : Int32) x126 fun h127 =>
  zrc h127 a0 0 <| zcl (f_X1_ends h127 a0) fun _ h129 =>
  zret (.inl x107) h129
set_option maxHeartbeats 4000000 in
set_option maxRecDepth 100000 in
theorem m_X1_remove (l : Launch) (hl0 : l.stackTraces = false) (D : va_G) (dA : Nat → ClassId) (b0 : Nat) (gs : Nat → Option Nat) (h : PH) (a0 : Nat) (v1 : Int32) (v2 : Int32) {r : (ZX Int32)} {hh : PH} {mc ms : Nat} (hf : f_X1_remove h a0 v1 v2 = some (r, hh, mc, ms)) : zMx l D dA b0 gs yX1_remove (ws_ yX1_remove cX1_remove 5 (some .int)) 13 3137 [.ref a0, .int v1, .int v2] h evI r hh mc ms := by
  unfold f_X1_remove at hf
  refine zMx.of (by decide) (Nat.le_of_ble_eq_true rfl) ?_
  intro p e s m args below meth c hc hr hin ht hn ls hl
  have hl : lv_has ls 5 [(0, .ref a0), (1, .int v1), (2, .int v2)] := hl
  have hq : 0 + mc = mc ∧ 0 + ms = ms := ⟨Nat.zero_add _, Nat.zero_add _⟩
  have hx := hc.x
  have hb := hc.b
  refine lv_aload_n (x := a0) hx hb dX1_remove_0 rfl (lv_at hl 0 rfl) ?_
  refine lv_iload_n hx hb dX1_remove_1 rfl (lv_at hl 1 rfl) ?_
  refine lv_iload_n hx hb dX1_remove_2 rfl (lv_at hl 2 rfl) ?_
  refine zx_VP (As := [.int v1, .int v2]) (rest := []) hc hn hq (fun x hx => (ht x hx).elim) (ci := 0) rfl ⟨rfl, hd_X1_at_2⟩ (lw_V q1219 q1221 qs17 q84 q1222) (Nat.le_of_ble_eq_true rfl) (Nat.le_of_ble_eq_true rfl) (fun _ _ _ _ q => m_X1_at_2 l hl0 D dA b0 gs h a0 v1 v2 q) hf dX1_remove_3 hl.1 rfl rfl (zroom (Nat.le_of_ble_eq_true rfl)) (fun x101 h102 H locs cells slots C9 S9 hf hq hn => ?_)
  refine lv_iload_n hx hb dX1_remove_6 rfl (lv_at hl 2 rfl) ?_
  obtain ⟨a103, e9, hf9⟩ := znn_i hf
  subst e9
  have hf := hf9
  clear hf9
  refine zx_SP (As := [.ref a103, .int v2]) (rest := []) hc hn hq (fun x hx => (ht x hx).elim) hd_X1_nodeOf (lw_S q1229 q1230 q84 q1231) (Nat.le_of_ble_eq_true rfl) (Nat.le_of_ble_eq_true rfl) (fun _ _ _ _ q => m_X1_nodeOf l hl0 D dA b0 gs h102 a103 v2 q) hf dX1_remove_7 hl.1 rfl rfl (zroom (Nat.le_of_ble_eq_true rfl)) (fun x104 h105 H locs cells slots C9 S9 hf hq hn => ?_)
  obtain ⟨a106, e9, hf9⟩ := znn_i hf
  subst e9
  have hf := hf9
  clear hf9
  refine zr_gIN hc hn (ci := 7) rfl rfl in_X8 4 (by decide) q846 (fun _ h => h) (fun _ _ _ => rfl) hf dX1_remove_10 (fun x107 hf => ?_)
  refine lv_istore_n (i := 3) (lv' := [(3, .int x107), (0, .ref a0), (1, .int v1), (2, .int v2)]) hx hb dX1_remove_13 rfl hl (by decide) rfl (fun ls hl => ?_)
  refine lv_aload_n (x := a0) hx hb dX1_remove_14 rfl (lv_at hl 1 rfl) ?_
  refine zr_cVP (As := []) (rest := []) hc hn hq (ci := 0) rfl ⟨rfl, hd_X1_begin⟩ (lw_V q1881 q1883 qs25 q84 q1884) (Nat.le_of_ble_eq_true rfl) (Nat.le_of_ble_eq_true rfl) (fun _ _ _ _ q => m_X1_begin l D dA b0 gs h105 a0 q) hf dX1_remove_15 hl.1 rfl rfl (zroom (Nat.le_of_ble_eq_true rfl)) (fun x108 h109 H locs cells slots C9 S9 hf hq hn => ?_)
  refine lv_iload_n hx hb dX1_remove_18 rfl (lv_at hl 2 rfl) ?_
  obtain ⟨a110, e9, hf9⟩ := znn_i hf
  subst e9
  have hf := hf9
  clear hf9
  refine zr_cVP (As := [.int v1]) (rest := []) hc hn hq (ci := 1) rfl ⟨rfl, hd_X2_own⟩ (lw_V q1975 q1976 q1977 q85 q1978) (Nat.le_of_ble_eq_true rfl) (Nat.le_of_ble_eq_true rfl) (fun _ _ _ _ q => m_X2_own l D dA b0 gs h109 a110 v1 q) hf dX1_remove_19 hl.1 rfl rfl (zroom (Nat.le_of_ble_eq_true rfl)) (fun x111 h112 H locs cells slots C9 S9 hf hq hn => ?_)
  refine zr_astore (x := x111) (lv' := [(4, va_rf x111), (3, .int x107), (0, .ref a0), (1, .int v1), (2, .int v2)]) hx hb dX1_remove_22 hl (by decide) rfl (fun ls hl => ?_)
  refine zr_aload (x := x111) hx hb dX1_remove_24 (lv_at hl 0 rfl) ?_
  refine zr_aload (x := x111) hx hb dX1_remove_26 (lv_at hl 0 rfl) ?_
  refine lv_iload_n hx hb dX1_remove_28 rfl (lv_at hl 4 rfl) ?_
  obtain ⟨a113, e9, hf9⟩ := znn_i hf
  subst e9
  have hf := hf9
  clear hf9
  refine zx_SP (As := [.ref a113, .int v2]) (rest := [.ref a113]) hc hn hq (fun x hx => (ht x hx).elim) hd_X1_nodeOf (lw_S q1229 q1230 q84 q1231) (Nat.le_of_ble_eq_true rfl) (Nat.le_of_ble_eq_true rfl) (fun _ _ _ _ q => m_X1_nodeOf l hl0 D dA b0 gs h112 a113 v2 q) hf dX1_remove_29 hl.1 rfl rfl (zroom (Nat.le_of_ble_eq_true rfl)) (fun x114 h115 H locs cells slots C9 S9 hf hq hn => ?_)
  obtain ⟨a116, e9, hf9⟩ := znn_i hf
  subst e9
  have hf := hf9
  clear hf9
  refine zr_cVU (As := [.ref a116]) (rest := []) hc hn hq (ci := 6) rfl ⟨rfl, hd_X7_remove⟩ (lw_V q1773 q1774 q1775 q115 q1776) (Nat.le_of_ble_eq_true rfl) (Nat.le_of_ble_eq_true rfl) (fun _ _ _ _ q => m_X7_remove l D dA b0 gs h115 a113 a116 q) hf dX1_remove_32 hl.1 rfl rfl (zroom (Nat.le_of_ble_eq_true rfl)) (fun x117 h118 H locs cells slots C9 S9 hf hq hn => ?_)
  refine lv_aload_n (x := a0) hx hb dX1_remove_35 rfl (lv_at hl 2 rfl) ?_
  refine lv_aload (x := a113) hx hb dX1_remove_36 (lv_at hl 0 rfl) ?_
  refine zr_cVU (As := [.ref a113]) (rest := []) hc hn hq (ci := 0) rfl ⟨rfl, hd_X1_mends⟩ (lw_V q1980 q1982 qs29 q84 q1983) (Nat.le_of_ble_eq_true rfl) (Nat.le_of_ble_eq_true rfl) (fun _ _ _ _ q => m_X1_mends l D dA b0 gs h118 a0 a113 q) hf dX1_remove_38 hl.1 rfl rfl (zroom (Nat.le_of_ble_eq_true rfl)) (fun x119 h120 H locs cells slots C9 S9 hf hq hn => ?_)
  refine lv_aload_n (x := a0) hx hb dX1_remove_41 rfl (lv_at hl 2 rfl) ?_
  refine zr_gP hc hn (ci := 0) rfl rfl in_X1 4 (by decide) q229 (fun _ h => h) (fun _ _ _ => rfl) hf dX1_remove_42 (fun x121 hf => ?_)
  obtain ⟨a122, e9, hf9⟩ := znn_i hf
  subst e9
  have hf := hf9
  clear hf9
  refine zr_gPN hc hn (ci := 1) rfl rfl in_X2 1 (by decide) q189 (fun _ h => h) (fun _ _ _ => rfl) hf dX1_remove_45 (fun x123 hf => ?_)
  refine lv_iconst (v := (1 : Int32)) hx hb dX1_remove_48 (by decide) ?_
  refine lv_dup2_11 hx hb dX1_remove_49 rfl (zcat_rf _) ?_
  obtain ⟨a124, e9, hf9⟩ := znn_i hf
  subst e9
  have hf := hf9
  clear hf9
  refine zr_aI0 hc hn hf dX1_remove_50 (fun x125 hf => ?_)
  refine lv_iconst (v := (1 : Int32)) hx hb dX1_remove_51 (by decide) ?_
  refine lv_iadd hx hb dX1_remove_52 ?_
  refine zr_nmI hf (fun x126 hf => ?_)
  refine zr_sI hc hn hf dX1_remove_53 (fun h127 H locs hf hn => ?_)
  refine lv_aload_n (x := a0) hx hb dX1_remove_54 rfl (lv_at hl 2 rfl) ?_
  refine zr_cVU (As := []) (rest := []) hc hn hq (ci := 0) rfl ⟨rfl, hd_X1_ends⟩ (lw_V q1941 q1943 qs28 q84 q1944) (Nat.le_of_ble_eq_true rfl) (Nat.le_of_ble_eq_true rfl) (fun _ _ _ _ q => m_X1_ends l D dA b0 gs h127 a0 q) hf dX1_remove_55 hl.1 rfl rfl (zroom (Nat.le_of_ble_eq_true rfl)) (fun x128 h129 H locs cells slots C9 S9 hf hq hn => ?_)
  refine lv_iload_n hx hb dX1_remove_58 rfl (lv_at hl 1 rfl) ?_
  obtain ⟨rfl, rfl, rfl, rfl⟩ := zretx_i hf
  exact zx_ret (zr_iret hc hn hr hq (fun _ _ _ _ q => ⟨_, rfl, q⟩) dX1_remove_59)
theorem hd_X1_parts : yX1_parts.cls ≠ "java/lang/invoke/MethodHandle" ∧ yX1_parts.cls ≠ "java/lang/invoke/VarHandle" ∧ (parseMethodDescriptor yX1_parts.desc).map (fun d => d.parameters.length) = some 2 := by decide +kernel
def f_X1_parts_b64 (h : PH) (a0 : Nat) (a1 : Nat) (a3 : Nat) (o4 : Option Nat) : ZR Nat :=
  zaP h a3 6 (0 : Int32) fun x101 =>
  zgP h a1 6 1 fun x102 =>
  znn x102 fun a103 =>
  zrc h a103 7 <| zcl (f_X8_next h a103 (1 : Int32)) fun x104 h105 =>
  znn x101 fun a106 =>
  zrc h105 a106 6 <| zcl (f_X7_fill h105 a106 a1 x104 o4) fun _ h108 =>
  zaP h108 a3 6 (1 : Int32) fun x109 =>
  znn x109 fun a110 =>
  zrc h108 a110 6 <| zcl (f_X7_fill h108 a110 a1 o4 (none : Option Nat)) fun _ h112 =>
  zaP h112 a3 6 (0 : Int32) fun x113 =>
  znn x113 fun a114 =>
  zrc h112 a0 0 <| zcl (f_X1_mends h112 a0 a114) fun _ h116 =>
  zaP h116 a3 6 (1 : Int32) fun x117 =>
  znn x117 fun a118 =>
  zrc h116 a0 0 <| zcl (f_X1_mends h116 a0 a118) fun _ h120 =>
  zret a3 h120
def f_X1_parts_b39 : Nat → PH → Nat → Nat → Int32 → Nat → Option Nat → ZR Nat
  | 0 => fun _ _ _ _ _ _ => none
  | n + 1 => fun h a0 a1 v2 a3 o4 =>
    znul o4
      (f_X1_parts_b64 h a0 a1 a3 (none : Option Nat))
      (fun a101 =>
        zgI h a101 7 0 fun x102 =>
        if v2 ≤ x102 then
          (f_X1_parts_b64 h a0 a1 a3 (some a101))
        else
          (zrc h a101 7 <| zcl (f_X8_next h a101 (1 : Int32)) fun x103 h104 =>
          f_X1_parts_b39 n h104 a0 a1 v2 a3 x103))
def f_X1_parts (h : PH) (a0 : Nat) (a1 : Nat) (v2 : Int32) : ZR Nat :=
  zna h 6 (2 : Int32) fun a101 h102 =>
  zno h102 6 4 fun a103 h104 =>
  zgP h104 a1 6 0 fun x105 =>
  znn x105 fun a106 =>
  zcl (f_X7_init h104 a103 a106) fun _ h108 =>
  zsO h108 a101 6 (0 : Int32) (some a103) fun h109 =>
  zno h109 6 4 fun a110 h111 =>
  zcl (f_X7_init_2 h111 a110) fun _ h113 =>
  zsO h113 a101 6 (1 : Int32) (some a110) fun h114 =>
  zgP h114 a1 6 1 fun x115 =>
  znn x115 fun a116 =>
  zrc h114 a116 7 <| zcl (f_X8_next h114 a116 (1 : Int32)) fun x117 h118 =>
  f_X1_parts_b39 zFU h118 a0 a1 v2 a101 x117
set_option maxHeartbeats 4000000 in
set_option maxRecDepth 100000 in
theorem m_X1_parts_b64 {p : Program} {l : Launch} {e : Env} {s : State} {m : MethodId} {args : Array Value} {below : List Frame} {meth : Method} {c : Code} {D : va_G} {dA : Nat → ClassId} {b0 : Nat} {gs : Nat → Option Nat} (hc : zC D dA b0 gs yX1_parts.cls cX1_parts 5 p c s m args meth) (hr : meth.sig.returnType = (some (.array (.object "CountedSkipLists$SkipList")))) (hin : meth.name = yX1_parts.name) {r : Nat} {hh : PH} {mc ms : Nat} : ∀ (h : PH) (a0 : Nat) (a1 : Nat) (a3 : Nat) (o4 : Option Nat) (C9 S9 : Nat) (H : Heap) (locs : List Loc) (cells slots : Nat), f_X1_parts_b64 h a0 a1 a3 o4 = some (r, hh, C9, S9) → cells + C9 = mc ∧ slots + S9 = ms → zM D dA b0 gs s h H locs → ∀ ls : Array Slot, lv_has ls 5 [(0, .ref a0), (1, .ref a1), (3, .ref a3), (4, va_rf o4)] → W p l e ({ frames := 13, cells := mc, slots := ms, locals := 3137 } : Room) s m args below meth c H locs cells slots (MQ below (zQ D dA b0 gs (evN r) hh) args s mc ms (zA b0)) (F0 m 64 ls []) := by
  have hx := hc.x
  have hb := hc.b
  intro h a0 a1 a3 o4 C9 S9 H locs cells slots hf hq hn ls hl
  unfold f_X1_parts_b64 at hf
  refine lv_aload_n (x := a3) hx hb dX1_parts_64 rfl (lv_at hl 2 rfl) ?_
  refine lv_iconst (v := (0 : Int32)) hx hb dX1_parts_65 (by decide) ?_
  refine zr_aP (ai := 6) (by decide) hc hn hf dX1_parts_66 (fun x101 hf => ?_)
  refine lv_aload_n (x := a1) hx hb dX1_parts_67 rfl (lv_at hl 1 rfl) ?_
  refine lv_aload_n (x := a1) hx hb dX1_parts_68 rfl (lv_at hl 1 rfl) ?_
  refine zr_gPN hc hn (ci := 6) rfl rfl in_X7 1 (by decide) q873 (fun _ h => h) (fun _ _ _ => rfl) hf dX1_parts_69 (fun x102 hf => ?_)
  refine lv_iconst (v := (1 : Int32)) hx hb dX1_parts_72 (by decide) ?_
  obtain ⟨a103, e9, hf9⟩ := znn_i hf
  subst e9
  have hf := hf9
  clear hf9
  refine zr_cVP (As := [.int (1 : Int32)]) (rest := [.ref a1, va_rf x101]) hc hn hq (ci := 7) rfl ⟨rfl, hd_X8_next⟩ (lw_V q1312 q905 q906 q116 q907) (Nat.le_of_ble_eq_true rfl) (Nat.le_of_ble_eq_true rfl) (fun _ _ _ _ q => m_X8_next l D dA b0 gs h a103 (1 : Int32) q) hf dX1_parts_73 hl.1 rfl rfl (zroom (Nat.le_of_ble_eq_true rfl)) (fun x104 h105 H locs cells slots C9 S9 hf hq hn => ?_)
  refine zr_aload (x := o4) hx hb dX1_parts_76 (lv_at hl 3 rfl) ?_
  obtain ⟨a106, e9, hf9⟩ := znn_i hf
  subst e9
  have hf := hf9
  clear hf9
  refine zr_cVU (As := [.ref a1, va_rf x104, va_rf o4]) (rest := []) hc hn hq (ci := 6) rfl ⟨rfl, hd_X7_fill⟩ (lw_V q2014 q1752 q1753 q115 q1754) (Nat.le_of_ble_eq_true rfl) (Nat.le_of_ble_eq_true rfl) (fun _ _ _ _ q => m_X7_fill l D dA b0 gs h105 a106 a1 x104 o4 q) hf dX1_parts_78 hl.1 rfl rfl (zroom (Nat.le_of_ble_eq_true rfl)) (fun x107 h108 H locs cells slots C9 S9 hf hq hn => ?_)
  refine lv_aload_n (x := a3) hx hb dX1_parts_81 rfl (lv_at hl 2 rfl) ?_
  refine lv_iconst (v := (1 : Int32)) hx hb dX1_parts_82 (by decide) ?_
  refine zr_aP (ai := 6) (by decide) hc hn hf dX1_parts_83 (fun x109 hf => ?_)
  refine lv_aload_n (x := a1) hx hb dX1_parts_84 rfl (lv_at hl 1 rfl) ?_
  refine zr_aload (x := o4) hx hb dX1_parts_85 (lv_at hl 3 rfl) ?_
  refine lv_null hx hb dX1_parts_87 ?_
  obtain ⟨a110, e9, hf9⟩ := znn_i hf
  subst e9
  have hf := hf9
  clear hf9
  refine zr_cVU (As := [.ref a1, va_rf o4, .null]) (rest := []) hc hn hq (ci := 6) rfl ⟨rfl, hd_X7_fill⟩ (lw_V q2014 q1752 q1753 q115 q1754) (Nat.le_of_ble_eq_true rfl) (Nat.le_of_ble_eq_true rfl) (fun _ _ _ _ q => m_X7_fill l D dA b0 gs h108 a110 a1 o4 (none : Option Nat) q) hf dX1_parts_88 hl.1 rfl rfl (zroom (Nat.le_of_ble_eq_true rfl)) (fun x111 h112 H locs cells slots C9 S9 hf hq hn => ?_)
  refine lv_aload_n (x := a0) hx hb dX1_parts_91 rfl (lv_at hl 0 rfl) ?_
  refine lv_aload_n (x := a3) hx hb dX1_parts_92 rfl (lv_at hl 2 rfl) ?_
  refine lv_iconst (v := (0 : Int32)) hx hb dX1_parts_93 (by decide) ?_
  refine zr_aP (ai := 6) (by decide) hc hn hf dX1_parts_94 (fun x113 hf => ?_)
  obtain ⟨a114, e9, hf9⟩ := znn_i hf
  subst e9
  have hf := hf9
  clear hf9
  refine zr_cVU (As := [.ref a114]) (rest := []) hc hn hq (ci := 0) rfl ⟨rfl, hd_X1_mends⟩ (lw_V q1980 q1982 qs29 q84 q1983) (Nat.le_of_ble_eq_true rfl) (Nat.le_of_ble_eq_true rfl) (fun _ _ _ _ q => m_X1_mends l D dA b0 gs h112 a0 a114 q) hf dX1_parts_95 hl.1 rfl rfl (zroom (Nat.le_of_ble_eq_true rfl)) (fun x115 h116 H locs cells slots C9 S9 hf hq hn => ?_)
  refine lv_aload_n (x := a0) hx hb dX1_parts_98 rfl (lv_at hl 0 rfl) ?_
  refine lv_aload_n (x := a3) hx hb dX1_parts_99 rfl (lv_at hl 2 rfl) ?_
  refine lv_iconst (v := (1 : Int32)) hx hb dX1_parts_100 (by decide) ?_
  refine zr_aP (ai := 6) (by decide) hc hn hf dX1_parts_101 (fun x117 hf => ?_)
  obtain ⟨a118, e9, hf9⟩ := znn_i hf
  subst e9
  have hf := hf9
  clear hf9
  refine zr_cVU (As := [.ref a118]) (rest := []) hc hn hq (ci := 0) rfl ⟨rfl, hd_X1_mends⟩ (lw_V q1980 q1982 qs29 q84 q1983) (Nat.le_of_ble_eq_true rfl) (Nat.le_of_ble_eq_true rfl) (fun _ _ _ _ q => m_X1_mends l D dA b0 gs h116 a0 a118 q) hf dX1_parts_102 hl.1 rfl rfl (zroom (Nat.le_of_ble_eq_true rfl)) (fun x119 h120 H locs cells slots C9 S9 hf hq hn => ?_)
  refine lv_aload_n (x := a3) hx hb dX1_parts_105 rfl (lv_at hl 2 rfl) ?_
  obtain ⟨rfl, rfl, rfl, rfl⟩ := zret_i hf
  exact zr_nret hc hn hr (Or.inr ⟨_, rfl⟩) hq (fun _ _ _ _ q => q) dX1_parts_106
set_option maxHeartbeats 4000000 in
set_option maxRecDepth 100000 in
theorem m_X1_parts_b39 {p : Program} {l : Launch} {e : Env} {s : State} {m : MethodId} {args : Array Value} {below : List Frame} {meth : Method} {c : Code} {D : va_G} {dA : Nat → ClassId} {b0 : Nat} {gs : Nat → Option Nat} (hc : zC D dA b0 gs yX1_parts.cls cX1_parts 5 p c s m args meth) (hr : meth.sig.returnType = (some (.array (.object "CountedSkipLists$SkipList")))) (hin : meth.name = yX1_parts.name) {r : Nat} {hh : PH} {mc ms : Nat} : ∀ (n : Nat) (h : PH) (a0 : Nat) (a1 : Nat) (v2 : Int32) (a3 : Nat) (o4 : Option Nat) (C9 S9 : Nat) (H : Heap) (locs : List Loc) (cells slots : Nat), f_X1_parts_b39 n h a0 a1 v2 a3 o4 = some (r, hh, C9, S9) → cells + C9 = mc ∧ slots + S9 = ms → zM D dA b0 gs s h H locs → ∀ ls : Array Slot, lv_has ls 5 [(0, .ref a0), (1, .ref a1), (2, .int v2), (3, .ref a3), (4, va_rf o4)] → W p l e ({ frames := 13, cells := mc, slots := ms, locals := 3137 } : Room) s m args below meth c H locs cells slots (MQ below (zQ D dA b0 gs (evN r) hh) args s mc ms (zA b0)) (F0 m 39 ls []) := by
  have hx := hc.x
  have hb := hc.b
  intro n
  induction n with
  | zero =>
    intro h a0 a1 v2 a3 o4 C9 S9 H locs cells slots hf hq hn ls hl
    cases hf
  | succ n ih =>
    intro h a0 a1 v2 a3 o4 C9 S9 H locs cells slots hf hq hn ls hl
    unfold f_X1_parts_b39 at hf
    refine zr_aload (x := o4) hx hb dX1_parts_39 (lv_at hl 4 rfl) ?_
    refine zr_ifnull (tgt := 64) hx hb hf dX1_parts_41 (by decide) (fun e9 hf9 => ?_) (fun a101 e9 hf9 => ?_)
    · subst e9
      have hf := hf9
      clear hf9
      exact m_X1_parts_b64 hc hr hin h a0 a1 a3 (none : Option Nat) _ _ _ _ _ _ hf hq hn _ (lv_sub hl [0, 1, 3, 4] rfl)
    · subst e9
      have hf := hf9
      clear hf9
      refine lv_aload (x := a101) hx hb dX1_parts_44 (lv_at hl 4 rfl) ?_
      refine zr_gIN hc hn (ci := 7) rfl rfl in_X8 0 (by decide) q835 (fun _ h => h) (fun _ _ _ => rfl) hf dX1_parts_46 (fun x102 hf => ?_)
      refine lv_iload_n hx hb dX1_parts_49 rfl (lv_at hl 2 rfl) ?_
      refine lv_icmp_ge (tgt := 64) hx hb dX1_parts_50 (by decide) (fun c9 => ?_) (fun c9 => ?_)
      · have hf := zif_t c9 hf
        exact m_X1_parts_b64 hc hr hin h a0 a1 a3 (some a101) _ _ _ _ _ _ hf hq hn _ (lv_sub hl [0, 1, 3, 4] rfl)
      · have hf := zif_f c9 hf
        refine lv_aload (x := a101) hx hb dX1_parts_53 (lv_at hl 4 rfl) ?_
        refine lv_iconst (v := (1 : Int32)) hx hb dX1_parts_55 (by decide) ?_
        refine zr_cVP (As := [.int (1 : Int32)]) (rest := []) hc hn hq (ci := 7) rfl ⟨rfl, hd_X8_next⟩ (lw_V q1312 q905 q906 q116 q907) (Nat.le_of_ble_eq_true rfl) (Nat.le_of_ble_eq_true rfl) (fun _ _ _ _ q => m_X8_next l D dA b0 gs h a101 (1 : Int32) q) hf dX1_parts_56 hl.1 rfl rfl (zroom (Nat.le_of_ble_eq_true rfl)) (fun x103 h104 H locs cells slots C9 S9 hf hq hn => ?_)
        refine zr_astore (x := x103) (lv' := [(4, va_rf x103), (0, .ref a0), (1, .ref a1), (2, .int v2), (3, .ref a3)]) hx hb dX1_parts_59 hl (by decide) rfl (fun ls hl => ?_)
        refine lv_goto (tgt := 39) hx hb dX1_parts_61 (by decide) ?_
        exact ih h104 a0 a1 v2 a3 x103 _ _ _ _ _ _ hf hq hn _ (lv_sub hl [1, 2, 3, 4, 0] rfl)
set_option maxHeartbeats 4000000 in
set_option maxRecDepth 100000 in
theorem m_X1_parts (l : Launch) (D : va_G) (dA : Nat → ClassId) (b0 : Nat) (gs : Nat → Option Nat) (h : PH) (a0 : Nat) (a1 : Nat) (v2 : Int32) {r : Nat} {hh : PH} {mc ms : Nat} (hf : f_X1_parts h a0 a1 v2 = some (r, hh, mc, ms)) : zMt l D dA b0 gs yX1_parts cX1_parts 5 (some (.array (.object "CountedSkipLists$SkipList"))) 13 3137 [.ref a0, .ref a1, .int v2] h (evN r) hh mc ms := by
  unfold f_X1_parts at hf
  refine zMt.of (by decide) (Nat.le_of_ble_eq_true rfl) ?_
  intro p e s m args below meth c hc hr hin hn ls hl
  have hl : lv_has ls 5 [(0, .ref a0), (1, .ref a1), (2, .int v2)] := hl
  have hq : 0 + mc = mc ∧ 0 + ms = ms := ⟨Nat.zero_add _, Nat.zero_add _⟩
  have hx := hc.x
  have hb := hc.b
  refine lv_iconst (v := (2 : Int32)) hx hb dX1_parts_0 (by decide) ?_
  refine zr_nq (ai := 6) hc hn hq (by decide) rfl q1936 q146 hf dX1_parts_1 (fun a101 h102 H cells slots C9 S9 hf hq hn => ?_)
  refine lv_dup hx hb dX1_parts_4 rfl ?_
  refine lv_iconst (v := (0 : Int32)) hx hb dX1_parts_5 (by decide) ?_
  refine zr_new hc hn hq (ci := 6) rfl rfl in_X7 tyX7_ok q1936 q813 q115 (zd_X7) hf dX1_parts_6 (fun a103 h104 H cells slots C9 S9 hf hq hn => ?_)
  refine lv_dup hx hb dX1_parts_9 rfl ?_
  refine lv_aload_n (x := a1) hx hb dX1_parts_10 rfl (lv_at hl 1 rfl) ?_
  refine zr_gPN hc hn (ci := 6) rfl rfl in_X7 0 (by decide) q870 (fun _ h => h) (fun _ _ _ => rfl) hf dX1_parts_11 (fun x105 hf => ?_)
  obtain ⟨a106, e9, hf9⟩ := znn_i hf
  subst e9
  have hf := hf9
  clear hf9
  refine zr_cI (As := [.ref a106]) (rest := [.ref a103, .int (0 : Int32), .ref a101, .ref a101]) hc hn hq rfl hd_X7_init (lw_meth q816) q2013 q815 q115 (Nat.le_of_ble_eq_true rfl) (Nat.le_of_ble_eq_true rfl) (fun _ _ _ _ q => m_X7_init l D dA b0 gs h104 a103 a106 q) hf dX1_parts_14 hl.1 rfl rfl (zroom (Nat.le_of_ble_eq_true rfl)) (fun x107 h108 H locs cells slots C9 S9 hf hq hn => ?_)
  refine zr_sO (ai := 6) (x := (some a103)) (by decide) hc hn hf dX1_parts_17 (fun h109 H locs hf hn => ?_)
  refine lv_dup hx hb dX1_parts_18 rfl ?_
  refine lv_iconst (v := (1 : Int32)) hx hb dX1_parts_19 (by decide) ?_
  refine zr_new hc hn hq (ci := 6) rfl rfl in_X7 tyX7_ok q1936 q813 q115 (zd_X7) hf dX1_parts_20 (fun a110 h111 H cells slots C9 S9 hf hq hn => ?_)
  refine lv_dup hx hb dX1_parts_23 rfl ?_
  refine zr_cI (As := []) (rest := [.ref a110, .int (1 : Int32), .ref a101, .ref a101]) hc hn hq rfl hd_X7_init_2 (lw_meth q1939) q1937 q1938 q115 (Nat.le_of_ble_eq_true rfl) (Nat.le_of_ble_eq_true rfl) (fun _ _ _ _ q => m_X7_init_2 l D dA b0 gs h111 a110 q) hf dX1_parts_24 hl.1 rfl rfl (zroom (Nat.le_of_ble_eq_true rfl)) (fun x112 h113 H locs cells slots C9 S9 hf hq hn => ?_)
  refine zr_sO (ai := 6) (x := (some a110)) (by decide) hc hn hf dX1_parts_27 (fun h114 H locs hf hn => ?_)
  refine lv_astore_n (x := a101) (i := 3) (lv' := [(3, .ref a101), (0, .ref a0), (1, .ref a1), (2, .int v2)]) hx hb dX1_parts_28 rfl hl (by decide) rfl (fun ls hl => ?_)
  refine lv_aload_n (x := a1) hx hb dX1_parts_29 rfl (lv_at hl 2 rfl) ?_
  refine zr_gPN hc hn (ci := 6) rfl rfl in_X7 1 (by decide) q873 (fun _ h => h) (fun _ _ _ => rfl) hf dX1_parts_30 (fun x115 hf => ?_)
  refine lv_iconst (v := (1 : Int32)) hx hb dX1_parts_33 (by decide) ?_
  obtain ⟨a116, e9, hf9⟩ := znn_i hf
  subst e9
  have hf := hf9
  clear hf9
  refine zr_cVP (As := [.int (1 : Int32)]) (rest := []) hc hn hq (ci := 7) rfl ⟨rfl, hd_X8_next⟩ (lw_V q1312 q905 q906 q116 q907) (Nat.le_of_ble_eq_true rfl) (Nat.le_of_ble_eq_true rfl) (fun _ _ _ _ q => m_X8_next l D dA b0 gs h114 a116 (1 : Int32) q) hf dX1_parts_34 hl.1 rfl rfl (zroom (Nat.le_of_ble_eq_true rfl)) (fun x117 h118 H locs cells slots C9 S9 hf hq hn => ?_)
  refine zr_astore (x := x117) (lv' := [(4, va_rf x117), (3, .ref a101), (0, .ref a0), (1, .ref a1), (2, .int v2)]) hx hb dX1_parts_37 hl (by decide) rfl (fun ls hl => ?_)
  exact m_X1_parts_b39 hc hr hin zFU h118 a0 a1 v2 a101 x117 _ _ _ _ _ _ hf hq hn _ (lv_sub hl [2, 3, 4, 1, 0] rfl)
theorem hd_X1_split : yX1_split.cls ≠ "java/lang/invoke/MethodHandle" ∧ yX1_split.cls ≠ "java/lang/invoke/VarHandle" ∧ (parseMethodDescriptor yX1_split.desc).map (fun d => d.parameters.length) = some 2 := by decide +kernel
def f_X1_split_b27 (h : PH) (a0 : Nat) (v1 : Int32) (v2 : Int32) (o3 : Option Nat) (v4 : Int32) (s0 : Int32) : ZR (ZX Int32) :=
  zcx (f_X1_checkState h s0) fun _ h102 =>
  zrc h102 a0 0 <| zcl (f_X1_begin h102 a0) fun x103 h104 =>
  znn o3 fun a105 =>
  zrc h104 a0 0 <| zcl (f_X1_parts h104 a0 a105 v2) fun x106 h107 =>
  znn x103 fun a108 =>
  zgP h107 a108 1 0 fun x109 =>
  zaP h107 x106 6 (0 : Int32) fun x110 =>
  znn x109 fun a111 =>
  zsO h107 a111 6 v1 x110 fun h112 =>
  zgP h112 a108 1 0 fun x113 =>
  zaP h112 x106 6 (1 : Int32) fun x114 =>
  znn x113 fun a115 =>
  zsO h112 a115 6 v4 x114 fun h116 =>
  zrc h116 a0 0 <| zcl (f_X1_ends h116 a0) fun _ h118 =>
  zret (.inl v4) h118
def f_X1_split (h : PH) (a0 : Nat) (v1 : Int32) (v2 : Int32) : ZR (ZX Int32) :=
  zrc h a0 0 <| zcx (f_X1_at_2 h a0 v1 v2) fun x101 h102 =>
  zgP h102 a0 0 4 fun x103 =>
  znn x103 fun a104 =>
  zrc h102 a104 1 <| zcl (f_X2_free h102 a104) fun x105 h106 =>
  if x105 = (-1 : Int32) then
    (f_X1_split_b27 h106 a0 v1 v2 x101 x105 (0 : Int32))
  else
    (f_X1_split_b27 h106 a0 v1 v2 x101 x105 (1 : Int32))
set_option maxHeartbeats 4000000 in
set_option maxRecDepth 100000 in
theorem m_X1_split_b27 {p : Program} {l : Launch} {e : Env} {s : State} {m : MethodId} {args : Array Value} {below : List Frame} {meth : Method} {c : Code} {D : va_G} {dA : Nat → ClassId} {b0 : Nat} {gs : Nat → Option Nat} (hc : zC D dA b0 gs yX1_split.cls cX1_split 7 p c s m args meth) (hr : meth.sig.returnType = (some .int)) (hin : meth.name = yX1_split.name) {r : (ZX Int32)} {hh : PH} {mc ms : Nat} (hl0 : l.stackTraces = false) (ht : ∀ x ∈ c.exceptionTable.toList, False) : ∀ (h : PH) (a0 : Nat) (v1 : Int32) (v2 : Int32) (o3 : Option Nat) (v4 : Int32) (s0 : Int32) (C9 S9 : Nat) (H : Heap) (locs : List Loc) (cells slots : Nat), f_X1_split_b27 h a0 v1 v2 o3 v4 s0 = some (r, hh, C9, S9) → cells + C9 = mc ∧ slots + S9 = ms → zM D dA b0 gs s h H locs → ∀ ls : Array Slot, lv_has ls 7 [(0, .ref a0), (1, .int v1), (2, .int v2), (3, va_rf o3), (4, .int v4)] → W p l e ({ frames := 14, cells := mc, slots := ms, locals := 3161 } : Room) s m args below meth c H locs cells slots (vx_MQ below (zQX D dA b0 gs evI r hh) (zXC D dA b0 gs r hh) args s mc ms (zA b0)) (F0 m 27 ls [.int s0]) := by
  have hx := hc.x
  have hb := hc.b
  intro h a0 v1 v2 o3 v4 s0 C9 S9 H locs cells slots hf hq hn ls hl
  unfold f_X1_split_b27 at hf
  refine zx_SU (As := [.int s0]) (rest := []) hc hn hq (fun x hx => (ht x hx).elim) hd_X1_checkState (lw_S q286 q287 q84 q288) (Nat.le_of_ble_eq_true rfl) (Nat.le_of_ble_eq_true rfl) (fun _ _ _ _ q => m_X1_checkState l hl0 D dA b0 gs h s0 q) hf dX1_split_27 hl.1 rfl rfl (zroom (Nat.le_of_ble_eq_true rfl)) (fun x101 h102 H locs cells slots C9 S9 hf hq hn => ?_)
  refine lv_aload_n (x := a0) hx hb dX1_split_30 rfl (lv_at hl 0 rfl) ?_
  refine zr_cVP (As := []) (rest := []) hc hn hq (ci := 0) rfl ⟨rfl, hd_X1_begin⟩ (lw_V q1881 q1883 qs25 q84 q1884) (Nat.le_of_ble_eq_true rfl) (Nat.le_of_ble_eq_true rfl) (fun _ _ _ _ q => m_X1_begin l D dA b0 gs h102 a0 q) hf dX1_split_31 hl.1 rfl rfl (zroom (Nat.le_of_ble_eq_true rfl)) (fun x103 h104 H locs cells slots C9 S9 hf hq hn => ?_)
  refine zr_astore (x := x103) (lv' := [(5, va_rf x103), (0, .ref a0), (1, .int v1), (2, .int v2), (3, va_rf o3), (4, .int v4)]) hx hb dX1_split_34 hl (by decide) rfl (fun ls hl => ?_)
  refine lv_aload_n (x := a0) hx hb dX1_split_36 rfl (lv_at hl 1 rfl) ?_
  refine zr_aload_n (x := o3) hx hb dX1_split_37 rfl (lv_at hl 4 rfl) ?_
  refine lv_iload_n hx hb dX1_split_38 rfl (lv_at hl 3 rfl) ?_
  obtain ⟨a105, e9, hf9⟩ := znn_i hf
  subst e9
  have hf := hf9
  clear hf9
  refine zr_cVN (As := [.ref a105, .int v2]) (rest := []) hc hn hq (ci := 0) rfl ⟨rfl, hd_X1_parts⟩ (lw_V q2009 q2011 qs30 q84 q2012) (Nat.le_of_ble_eq_true rfl) (Nat.le_of_ble_eq_true rfl) (fun _ _ _ _ q => m_X1_parts l D dA b0 gs h104 a0 a105 v2 q) hf dX1_split_39 hl.1 rfl rfl (zroom (Nat.le_of_ble_eq_true rfl)) (fun x106 h107 H locs cells slots C9 S9 hf hq hn => ?_)
  refine lv_astore (x := x106) (lv' := [(6, .ref x106), (5, va_rf x103), (0, .ref a0), (1, .int v1), (2, .int v2), (3, .ref a105), (4, .int v4)]) hx hb dX1_split_42 hl (by decide) (by simp [zcat_rf, zcat_i, zcat_l, zcat_d, zcat_r, zcat_n] <;> rfl) (fun ls hl => ?_)
  refine zr_aload (x := x103) hx hb dX1_split_44 (lv_at hl 1 rfl) ?_
  obtain ⟨a108, e9, hf9⟩ := znn_i hf
  subst e9
  have hf := hf9
  clear hf9
  refine zr_gPN hc hn (ci := 1) rfl rfl in_X2 0 (by decide) q187 (fun _ h => h) (fun _ _ _ => rfl) hf dX1_split_46 (fun x109 hf => ?_)
  refine lv_iload_n hx hb dX1_split_49 rfl (lv_at hl 3 rfl) ?_
  refine lv_aload (x := x106) hx hb dX1_split_50 (lv_at hl 0 rfl) ?_
  refine lv_iconst (v := (0 : Int32)) hx hb dX1_split_52 (by decide) ?_
  refine zr_aP (ai := 6) (by decide) hc hn hf dX1_split_53 (fun x110 hf => ?_)
  obtain ⟨a111, e9, hf9⟩ := znn_i hf
  subst e9
  have hf := hf9
  clear hf9
  refine zr_sO (ai := 6) (x := x110) (by decide) hc hn hf dX1_split_54 (fun h112 H locs hf hn => ?_)
  refine lv_aload (x := a108) hx hb dX1_split_55 (lv_at hl 1 rfl) ?_
  refine zr_gPN hc hn (ci := 1) rfl rfl in_X2 0 (by decide) q187 (fun _ h => h) (fun _ _ _ => rfl) hf dX1_split_57 (fun x113 hf => ?_)
  refine lv_iload hx hb dX1_split_60 (lv_at hl 6 rfl) ?_
  refine lv_aload (x := x106) hx hb dX1_split_62 (lv_at hl 0 rfl) ?_
  refine lv_iconst (v := (1 : Int32)) hx hb dX1_split_64 (by decide) ?_
  refine zr_aP (ai := 6) (by decide) hc hn hf dX1_split_65 (fun x114 hf => ?_)
  obtain ⟨a115, e9, hf9⟩ := znn_i hf
  subst e9
  have hf := hf9
  clear hf9
  refine zr_sO (ai := 6) (x := x114) (by decide) hc hn hf dX1_split_66 (fun h116 H locs hf hn => ?_)
  refine lv_aload_n (x := a0) hx hb dX1_split_67 rfl (lv_at hl 2 rfl) ?_
  refine zr_cVU (As := []) (rest := []) hc hn hq (ci := 0) rfl ⟨rfl, hd_X1_ends⟩ (lw_V q1941 q1943 qs28 q84 q1944) (Nat.le_of_ble_eq_true rfl) (Nat.le_of_ble_eq_true rfl) (fun _ _ _ _ q => m_X1_ends l D dA b0 gs h116 a0 q) hf dX1_split_68 hl.1 rfl rfl (zroom (Nat.le_of_ble_eq_true rfl)) (fun x117 h118 H locs cells slots C9 S9 hf hq hn => ?_)
  refine lv_iload hx hb dX1_split_71 (lv_at hl 6 rfl) ?_
  obtain ⟨rfl, rfl, rfl, rfl⟩ := zretx_i hf
  exact zx_ret (zr_iret hc hn hr hq (fun _ _ _ _ q => ⟨_, rfl, q⟩) dX1_split_73)
set_option maxHeartbeats 4000000 in
set_option maxRecDepth 100000 in
theorem m_X1_split (l : Launch) (hl0 : l.stackTraces = false) (D : va_G) (dA : Nat → ClassId) (b0 : Nat) (gs : Nat → Option Nat) (h : PH) (a0 : Nat) (v1 : Int32) (v2 : Int32) {r : (ZX Int32)} {hh : PH} {mc ms : Nat} (hf : f_X1_split h a0 v1 v2 = some (r, hh, mc, ms)) : zMx l D dA b0 gs yX1_split (ws_ yX1_split cX1_split 7 (some .int)) 14 3161 [.ref a0, .int v1, .int v2] h evI r hh mc ms := by
  unfold f_X1_split at hf
  refine zMx.of (by decide) (Nat.le_of_ble_eq_true rfl) ?_
  intro p e s m args below meth c hc hr hin ht hn ls hl
  have hl : lv_has ls 7 [(0, .ref a0), (1, .int v1), (2, .int v2)] := hl
  have hq : 0 + mc = mc ∧ 0 + ms = ms := ⟨Nat.zero_add _, Nat.zero_add _⟩
  have hx := hc.x
  have hb := hc.b
  refine lv_aload_n (x := a0) hx hb dX1_split_0 rfl (lv_at hl 0 rfl) ?_
  refine lv_iload_n hx hb dX1_split_1 rfl (lv_at hl 1 rfl) ?_
  refine lv_iload_n hx hb dX1_split_2 rfl (lv_at hl 2 rfl) ?_
  refine zx_VP (As := [.int v1, .int v2]) (rest := []) hc hn hq (fun x hx => (ht x hx).elim) (ci := 0) rfl ⟨rfl, hd_X1_at_2⟩ (lw_V q1219 q1221 qs17 q84 q1222) (Nat.le_of_ble_eq_true rfl) (Nat.le_of_ble_eq_true rfl) (fun _ _ _ _ q => m_X1_at_2 l hl0 D dA b0 gs h a0 v1 v2 q) hf dX1_split_3 hl.1 rfl rfl (zroom (Nat.le_of_ble_eq_true rfl)) (fun x101 h102 H locs cells slots C9 S9 hf hq hn => ?_)
  refine zr_astore_n (x := x101) (i := 3) (lv' := [(3, va_rf x101), (0, .ref a0), (1, .int v1), (2, .int v2)]) hx hb dX1_split_6 rfl hl (by decide) rfl (fun ls hl => ?_)
  refine lv_aload_n (x := a0) hx hb dX1_split_7 rfl (lv_at hl 1 rfl) ?_
  refine zr_gP hc hn (ci := 0) rfl rfl in_X1 4 (by decide) q229 (fun _ h => h) (fun _ _ _ => rfl) hf dX1_split_8 (fun x103 hf => ?_)
  obtain ⟨a104, e9, hf9⟩ := znn_i hf
  subst e9
  have hf := hf9
  clear hf9
  refine zr_cVI (As := []) (rest := []) hc hn hq (ci := 1) rfl ⟨rfl, hd_X2_free⟩ (lw_V q1877 q1878 q1879 q85 q1880) (Nat.le_of_ble_eq_true rfl) (Nat.le_of_ble_eq_true rfl) (fun _ _ _ _ q => m_X2_free l D dA b0 gs h102 a104 q) hf dX1_split_11 hl.1 rfl rfl (zroom (Nat.le_of_ble_eq_true rfl)) (fun x105 h106 H locs cells slots C9 S9 hf hq hn => ?_)
  refine lv_istore (lv' := [(4, .int x105), (3, va_rf x101), (0, .ref a0), (1, .int v1), (2, .int v2)]) hx hb dX1_split_14 hl (by decide) (by simp [zcat_rf, zcat_i, zcat_l, zcat_d, zcat_r, zcat_n] <;> rfl) (fun ls hl => ?_)
  refine lv_iload hx hb dX1_split_16 (lv_at hl 0 rfl) ?_
  refine lv_iconst (v := (-1 : Int32)) hx hb dX1_split_18 (by decide) ?_
  refine lv_icmp_eq (tgt := 26) hx hb dX1_split_19 (by decide) (fun c9 => ?_) (fun c9 => ?_)
  · have hf := zif_t c9 hf
    refine lv_iconst (v := (0 : Int32)) hx hb dX1_split_26 (by decide) ?_
    exact m_X1_split_b27 hc hr hin hl0 ht h106 a0 v1 v2 x101 x105 (0 : Int32) _ _ _ _ _ _ hf hq hn _ (lv_sub hl [2, 3, 4, 1, 0] rfl)
  · have hf := zif_f c9 hf
    refine lv_iconst (v := (1 : Int32)) hx hb dX1_split_22 (by decide) ?_
    refine lv_goto (tgt := 27) hx hb dX1_split_23 (by decide) ?_
    exact m_X1_split_b27 hc hr hin hl0 ht h106 a0 v1 v2 x101 x105 (1 : Int32) _ _ _ _ _ _ hf hq hn _ (lv_sub hl [2, 3, 4, 1, 0] rfl)
theorem hd_X1_joins : yX1_joins.cls ≠ "java/lang/invoke/MethodHandle" ∧ yX1_joins.cls ≠ "java/lang/invoke/VarHandle" ∧ (parseMethodDescriptor yX1_joins.desc).map (fun d => d.parameters.length) = some 2 := by decide +kernel
def f_X1_joins (h : PH) (a0 : Nat) (a1 : Nat) (a2 : Nat) : ZR Unit :=
  zgP h a2 6 1 fun x101 =>
  znn x101 fun a102 =>
  zrc h a102 7 <| zcl (f_X8_next h a102 (1 : Int32)) fun x103 h104 =>
  zrc h104 a1 6 <| zcl (f_X7_fill h104 a1 a2 x103 (none : Option Nat)) fun _ h106 =>
  zrc h106 a0 0 <| zcl (f_X1_mends h106 a0 a1) fun _ h108 =>
  zret () h108
set_option maxHeartbeats 4000000 in
set_option maxRecDepth 100000 in
theorem m_X1_joins (l : Launch) (D : va_G) (dA : Nat → ClassId) (b0 : Nat) (gs : Nat → Option Nat) (h : PH) (a0 : Nat) (a1 : Nat) (a2 : Nat) {r : Unit} {hh : PH} {mc ms : Nat} (hf : f_X1_joins h a0 a1 a2 = some (r, hh, mc, ms)) : zMt l D dA b0 gs yX1_joins cX1_joins 3 none 13 3137 [.ref a0, .ref a1, .ref a2] h (evU r) hh mc ms := by
  unfold f_X1_joins at hf
  refine zMt.of (by decide) (Nat.le_of_ble_eq_true rfl) ?_
  intro p e s m args below meth c hc hr hin hn ls hl
  have hl : lv_has ls 3 [(0, .ref a0), (1, .ref a1), (2, .ref a2)] := hl
  have hq : 0 + mc = mc ∧ 0 + ms = ms := ⟨Nat.zero_add _, Nat.zero_add _⟩
  have hx := hc.x
  have hb := hc.b
  refine lv_aload_n (x := a1) hx hb dX1_joins_0 rfl (lv_at hl 1 rfl) ?_
  refine lv_aload_n (x := a2) hx hb dX1_joins_1 rfl (lv_at hl 2 rfl) ?_
  refine lv_aload_n (x := a2) hx hb dX1_joins_2 rfl (lv_at hl 2 rfl) ?_
  refine zr_gPN hc hn (ci := 6) rfl rfl in_X7 1 (by decide) q873 (fun _ h => h) (fun _ _ _ => rfl) hf dX1_joins_3 (fun x101 hf => ?_)
  refine lv_iconst (v := (1 : Int32)) hx hb dX1_joins_6 (by decide) ?_
  obtain ⟨a102, e9, hf9⟩ := znn_i hf
  subst e9
  have hf := hf9
  clear hf9
  refine zr_cVP (As := [.int (1 : Int32)]) (rest := [.ref a2, .ref a1]) hc hn hq (ci := 7) rfl ⟨rfl, hd_X8_next⟩ (lw_V q1312 q905 q906 q116 q907) (Nat.le_of_ble_eq_true rfl) (Nat.le_of_ble_eq_true rfl) (fun _ _ _ _ q => m_X8_next l D dA b0 gs h a102 (1 : Int32) q) hf dX1_joins_7 hl.1 rfl rfl (zroom (Nat.le_of_ble_eq_true rfl)) (fun x103 h104 H locs cells slots C9 S9 hf hq hn => ?_)
  refine lv_null hx hb dX1_joins_10 ?_
  refine zr_cVU (As := [.ref a2, va_rf x103, .null]) (rest := []) hc hn hq (ci := 6) rfl ⟨rfl, hd_X7_fill⟩ (lw_V q2014 q1752 q1753 q115 q1754) (Nat.le_of_ble_eq_true rfl) (Nat.le_of_ble_eq_true rfl) (fun _ _ _ _ q => m_X7_fill l D dA b0 gs h104 a1 a2 x103 (none : Option Nat) q) hf dX1_joins_11 hl.1 rfl rfl (zroom (Nat.le_of_ble_eq_true rfl)) (fun x105 h106 H locs cells slots C9 S9 hf hq hn => ?_)
  refine lv_aload_n (x := a0) hx hb dX1_joins_14 rfl (lv_at hl 0 rfl) ?_
  refine lv_aload_n (x := a1) hx hb dX1_joins_15 rfl (lv_at hl 1 rfl) ?_
  refine zr_cVU (As := [.ref a1]) (rest := []) hc hn hq (ci := 0) rfl ⟨rfl, hd_X1_mends⟩ (lw_V q1980 q1982 qs29 q84 q1983) (Nat.le_of_ble_eq_true rfl) (Nat.le_of_ble_eq_true rfl) (fun _ _ _ _ q => m_X1_mends l D dA b0 gs h106 a0 a1 q) hf dX1_joins_16 hl.1 rfl rfl (zroom (Nat.le_of_ble_eq_true rfl)) (fun x107 h108 H locs cells slots C9 S9 hf hq hn => ?_)
  obtain ⟨rfl, rfl, rfl, rfl⟩ := zret_i hf
  exact zr_vret hc hn hr hq (fun _ _ _ _ q => q) dX1_joins_19
theorem hd_X1_cut : yX1_cut.cls ≠ "java/lang/invoke/MethodHandle" ∧ yX1_cut.cls ≠ "java/lang/invoke/VarHandle" ∧ (parseMethodDescriptor yX1_cut.desc).map (fun d => d.parameters.length) = some 3 := by decide +kernel
def f_X1_cut_b54 (h : PH) (a0 : Nat) (v1 : Int32) (v2 : Int32) (v3 : Int32) (o4 : Option Nat) (v5 : Int32) (s0 : Int32) : ZR (ZX Int32) :=
  zcx (f_X1_checkState h s0) fun _ h102 =>
  zrc h102 a0 0 <| zcl (f_X1_begin h102 a0) fun x103 h104 =>
  znn o4 fun a105 =>
  zrc h104 a0 0 <| zcl (f_X1_parts h104 a0 a105 v2) fun x106 h107 =>
  zaP h107 x106 6 (1 : Int32) fun x108 =>
  znn x108 fun a109 =>
  zrc h107 a0 0 <| zcl (f_X1_parts h107 a0 a109 v3) fun x110 h111 =>
  zaP h111 x106 6 (0 : Int32) fun x112 =>
  zaP h111 x110 6 (1 : Int32) fun x113 =>
  znn x112 fun a114 =>
  znn x113 fun a115 =>
  zrc h111 a0 0 <| zcl (f_X1_joins h111 a0 a114 a115) fun _ h117 =>
  znn x103 fun a118 =>
  zgP h117 a118 1 0 fun x119 =>
  zaP h117 x106 6 (0 : Int32) fun x120 =>
  znn x119 fun a121 =>
  zsO h117 a121 6 v1 x120 fun h122 =>
  zgP h122 a118 1 0 fun x123 =>
  zaP h122 x110 6 (0 : Int32) fun x124 =>
  znn x123 fun a125 =>
  zsO h122 a125 6 v5 x124 fun h126 =>
  zrc h126 a0 0 <| zcl (f_X1_ends h126 a0) fun _ h128 =>
  zret (.inl v5) h128
def f_X1_cut_b31 (h : PH) (a0 : Nat) (v1 : Int32) (v2 : Int32) (v3 : Int32) (o4 : Option Nat) (s0 : Int32) : ZR (ZX Int32) :=
  zcx (f_X1_checkArgument h s0) fun _ h102 =>
  zgP h102 a0 0 4 fun x103 =>
  znn x103 fun a104 =>
  zrc h102 a104 1 <| zcl (f_X2_free h102 a104) fun x105 h106 =>
  if x105 = (-1 : Int32) then
    (f_X1_cut_b54 h106 a0 v1 v2 v3 o4 x105 (0 : Int32))
  else
    (f_X1_cut_b54 h106 a0 v1 v2 v3 o4 x105 (1 : Int32))
def f_X1_cut (h : PH) (a0 : Nat) (v1 : Int32) (v2 : Int32) (v3 : Int32) : ZR (ZX Int32) :=
  zrc h a0 0 <| zcx (f_X1_at h a0 v1) fun x101 h102 =>
  zna h102 0 (2 : Int32) fun a103 h104 =>
  zsI h104 a103 0 (0 : Int32) v2 fun h105 =>
  zsI h105 a103 0 (1 : Int32) v3 fun h106 =>
  zcx (f_X1_checkNumbers h106 a103) fun _ h108 =>
  if v3 < v2 then
    (f_X1_cut_b31 h108 a0 v1 v2 v3 x101 (0 : Int32))
  else
    (f_X1_cut_b31 h108 a0 v1 v2 v3 x101 (1 : Int32))
set_option maxHeartbeats 4000000 in
set_option maxRecDepth 100000 in
theorem m_X1_cut_b54 {p : Program} {l : Launch} {e : Env} {s : State} {m : MethodId} {args : Array Value} {below : List Frame} {meth : Method} {c : Code} {D : va_G} {dA : Nat → ClassId} {b0 : Nat} {gs : Nat → Option Nat} (hc : zC D dA b0 gs yX1_cut.cls cX1_cut 9 p c s m args meth) (hr : meth.sig.returnType = (some .int)) (hin : meth.name = yX1_cut.name) {r : (ZX Int32)} {hh : PH} {mc ms : Nat} (hl0 : l.stackTraces = false) (ht : ∀ x ∈ c.exceptionTable.toList, False) : ∀ (h : PH) (a0 : Nat) (v1 : Int32) (v2 : Int32) (v3 : Int32) (o4 : Option Nat) (v5 : Int32) (s0 : Int32) (C9 S9 : Nat) (H : Heap) (locs : List Loc) (cells slots : Nat), f_X1_cut_b54 h a0 v1 v2 v3 o4 v5 s0 = some (r, hh, C9, S9) → cells + C9 = mc ∧ slots + S9 = ms → zM D dA b0 gs s h H locs → ∀ ls : Array Slot, lv_has ls 9 [(0, .ref a0), (1, .int v1), (2, .int v2), (3, .int v3), (4, va_rf o4), (5, .int v5)] → W p l e ({ frames := 14, cells := mc, slots := ms, locals := 3161 } : Room) s m args below meth c H locs cells slots (vx_MQ below (zQX D dA b0 gs evI r hh) (zXC D dA b0 gs r hh) args s mc ms (zA b0)) (F0 m 54 ls [.int s0]) := by
  have hx := hc.x
  have hb := hc.b
  intro h a0 v1 v2 v3 o4 v5 s0 C9 S9 H locs cells slots hf hq hn ls hl
  unfold f_X1_cut_b54 at hf
  refine zx_SU (As := [.int s0]) (rest := []) hc hn hq (fun x hx => (ht x hx).elim) hd_X1_checkState (lw_S q286 q287 q84 q288) (Nat.le_of_ble_eq_true rfl) (Nat.le_of_ble_eq_true rfl) (fun _ _ _ _ q => m_X1_checkState l hl0 D dA b0 gs h s0 q) hf dX1_cut_54 hl.1 rfl rfl (zroom (Nat.le_of_ble_eq_true rfl)) (fun x101 h102 H locs cells slots C9 S9 hf hq hn => ?_)
  refine lv_aload_n (x := a0) hx hb dX1_cut_57 rfl (lv_at hl 0 rfl) ?_
  refine zr_cVP (As := []) (rest := []) hc hn hq (ci := 0) rfl ⟨rfl, hd_X1_begin⟩ (lw_V q1881 q1883 qs25 q84 q1884) (Nat.le_of_ble_eq_true rfl) (Nat.le_of_ble_eq_true rfl) (fun _ _ _ _ q => m_X1_begin l D dA b0 gs h102 a0 q) hf dX1_cut_58 hl.1 rfl rfl (zroom (Nat.le_of_ble_eq_true rfl)) (fun x103 h104 H locs cells slots C9 S9 hf hq hn => ?_)
  refine zr_astore (x := x103) (lv' := [(6, va_rf x103), (0, .ref a0), (1, .int v1), (2, .int v2), (3, .int v3), (4, va_rf o4), (5, .int v5)]) hx hb dX1_cut_61 hl (by decide) rfl (fun ls hl => ?_)
  refine lv_aload_n (x := a0) hx hb dX1_cut_63 rfl (lv_at hl 1 rfl) ?_
  refine zr_aload (x := o4) hx hb dX1_cut_64 (lv_at hl 5 rfl) ?_
  refine lv_iload_n hx hb dX1_cut_66 rfl (lv_at hl 3 rfl) ?_
  obtain ⟨a105, e9, hf9⟩ := znn_i hf
  subst e9
  have hf := hf9
  clear hf9
  refine zr_cVN (As := [.ref a105, .int v2]) (rest := []) hc hn hq (ci := 0) rfl ⟨rfl, hd_X1_parts⟩ (lw_V q2009 q2011 qs30 q84 q2012) (Nat.le_of_ble_eq_true rfl) (Nat.le_of_ble_eq_true rfl) (fun _ _ _ _ q => m_X1_parts l D dA b0 gs h104 a0 a105 v2 q) hf dX1_cut_67 hl.1 rfl rfl (zroom (Nat.le_of_ble_eq_true rfl)) (fun x106 h107 H locs cells slots C9 S9 hf hq hn => ?_)
  refine lv_astore (x := x106) (lv' := [(7, .ref x106), (6, va_rf x103), (0, .ref a0), (1, .int v1), (2, .int v2), (3, .int v3), (4, .ref a105), (5, .int v5)]) hx hb dX1_cut_70 hl (by decide) (by simp [zcat_rf, zcat_i, zcat_l, zcat_d, zcat_r, zcat_n] <;> rfl) (fun ls hl => ?_)
  refine lv_aload_n (x := a0) hx hb dX1_cut_72 rfl (lv_at hl 2 rfl) ?_
  refine lv_aload (x := x106) hx hb dX1_cut_73 (lv_at hl 0 rfl) ?_
  refine lv_iconst (v := (1 : Int32)) hx hb dX1_cut_75 (by decide) ?_
  refine zr_aP (ai := 6) (by decide) hc hn hf dX1_cut_76 (fun x108 hf => ?_)
  refine lv_iload_n hx hb dX1_cut_77 rfl (lv_at hl 5 rfl) ?_
  obtain ⟨a109, e9, hf9⟩ := znn_i hf
  subst e9
  have hf := hf9
  clear hf9
  refine zr_cVN (As := [.ref a109, .int v3]) (rest := []) hc hn hq (ci := 0) rfl ⟨rfl, hd_X1_parts⟩ (lw_V q2009 q2011 qs30 q84 q2012) (Nat.le_of_ble_eq_true rfl) (Nat.le_of_ble_eq_true rfl) (fun _ _ _ _ q => m_X1_parts l D dA b0 gs h107 a0 a109 v3 q) hf dX1_cut_78 hl.1 rfl rfl (zroom (Nat.le_of_ble_eq_true rfl)) (fun x110 h111 H locs cells slots C9 S9 hf hq hn => ?_)
  refine lv_astore (x := x110) (lv' := [(8, .ref x110), (7, .ref x106), (6, va_rf x103), (0, .ref a0), (1, .int v1), (2, .int v2), (3, .int v3), (4, .ref a105), (5, .int v5)]) hx hb dX1_cut_81 hl (by decide) rfl (fun ls hl => ?_)
  refine lv_aload_n (x := a0) hx hb dX1_cut_83 rfl (lv_at hl 3 rfl) ?_
  refine lv_aload (x := x106) hx hb dX1_cut_84 (lv_at hl 1 rfl) ?_
  refine lv_iconst (v := (0 : Int32)) hx hb dX1_cut_86 (by decide) ?_
  refine zr_aP (ai := 6) (by decide) hc hn hf dX1_cut_87 (fun x112 hf => ?_)
  refine lv_aload (x := x110) hx hb dX1_cut_88 (lv_at hl 0 rfl) ?_
  refine lv_iconst (v := (1 : Int32)) hx hb dX1_cut_90 (by decide) ?_
  refine zr_aP (ai := 6) (by decide) hc hn hf dX1_cut_91 (fun x113 hf => ?_)
  obtain ⟨a114, e9, hf9⟩ := znn_i hf
  subst e9
  have hf := hf9
  clear hf9
  obtain ⟨a115, e9, hf9⟩ := znn_i hf
  subst e9
  have hf := hf9
  clear hf9
  refine zr_cVU (As := [.ref a114, .ref a115]) (rest := []) hc hn hq (ci := 0) rfl ⟨rfl, hd_X1_joins⟩ (lw_V q2022 q2024 qs31 q84 q2025) (Nat.le_of_ble_eq_true rfl) (Nat.le_of_ble_eq_true rfl) (fun _ _ _ _ q => m_X1_joins l D dA b0 gs h111 a0 a114 a115 q) hf dX1_cut_92 hl.1 rfl rfl (zroom (Nat.le_of_ble_eq_true rfl)) (fun x116 h117 H locs cells slots C9 S9 hf hq hn => ?_)
  refine zr_aload (x := x103) hx hb dX1_cut_95 (lv_at hl 2 rfl) ?_
  obtain ⟨a118, e9, hf9⟩ := znn_i hf
  subst e9
  have hf := hf9
  clear hf9
  refine zr_gPN hc hn (ci := 1) rfl rfl in_X2 0 (by decide) q187 (fun _ h => h) (fun _ _ _ => rfl) hf dX1_cut_97 (fun x119 hf => ?_)
  refine lv_iload_n hx hb dX1_cut_100 rfl (lv_at hl 4 rfl) ?_
  refine lv_aload (x := x106) hx hb dX1_cut_101 (lv_at hl 1 rfl) ?_
  refine lv_iconst (v := (0 : Int32)) hx hb dX1_cut_103 (by decide) ?_
  refine zr_aP (ai := 6) (by decide) hc hn hf dX1_cut_104 (fun x120 hf => ?_)
  obtain ⟨a121, e9, hf9⟩ := znn_i hf
  subst e9
  have hf := hf9
  clear hf9
  refine zr_sO (ai := 6) (x := x120) (by decide) hc hn hf dX1_cut_105 (fun h122 H locs hf hn => ?_)
  refine lv_aload (x := a118) hx hb dX1_cut_106 (lv_at hl 2 rfl) ?_
  refine zr_gPN hc hn (ci := 1) rfl rfl in_X2 0 (by decide) q187 (fun _ h => h) (fun _ _ _ => rfl) hf dX1_cut_108 (fun x123 hf => ?_)
  refine lv_iload hx hb dX1_cut_111 (lv_at hl 8 rfl) ?_
  refine lv_aload (x := x110) hx hb dX1_cut_113 (lv_at hl 0 rfl) ?_
  refine lv_iconst (v := (0 : Int32)) hx hb dX1_cut_115 (by decide) ?_
  refine zr_aP (ai := 6) (by decide) hc hn hf dX1_cut_116 (fun x124 hf => ?_)
  obtain ⟨a125, e9, hf9⟩ := znn_i hf
  subst e9
  have hf := hf9
  clear hf9
  refine zr_sO (ai := 6) (x := x124) (by decide) hc hn hf dX1_cut_117 (fun h126 H locs hf hn => ?_)
  refine lv_aload_n (x := a0) hx hb dX1_cut_118 rfl (lv_at hl 3 rfl) ?_
  refine zr_cVU (As := []) (rest := []) hc hn hq (ci := 0) rfl ⟨rfl, hd_X1_ends⟩ (lw_V q1941 q1943 qs28 q84 q1944) (Nat.le_of_ble_eq_true rfl) (Nat.le_of_ble_eq_true rfl) (fun _ _ _ _ q => m_X1_ends l D dA b0 gs h126 a0 q) hf dX1_cut_119 hl.1 rfl rfl (zroom (Nat.le_of_ble_eq_true rfl)) (fun x127 h128 H locs cells slots C9 S9 hf hq hn => ?_)
  refine lv_iload hx hb dX1_cut_122 (lv_at hl 8 rfl) ?_
  obtain ⟨rfl, rfl, rfl, rfl⟩ := zretx_i hf
  exact zx_ret (zr_iret hc hn hr hq (fun _ _ _ _ q => ⟨_, rfl, q⟩) dX1_cut_124)
set_option maxHeartbeats 4000000 in
set_option maxRecDepth 100000 in
theorem m_X1_cut_b31 {p : Program} {l : Launch} {e : Env} {s : State} {m : MethodId} {args : Array Value} {below : List Frame} {meth : Method} {c : Code} {D : va_G} {dA : Nat → ClassId} {b0 : Nat} {gs : Nat → Option Nat} (hc : zC D dA b0 gs yX1_cut.cls cX1_cut 9 p c s m args meth) (hr : meth.sig.returnType = (some .int)) (hin : meth.name = yX1_cut.name) {r : (ZX Int32)} {hh : PH} {mc ms : Nat} (hl0 : l.stackTraces = false) (ht : ∀ x ∈ c.exceptionTable.toList, False) : ∀ (h : PH) (a0 : Nat) (v1 : Int32) (v2 : Int32) (v3 : Int32) (o4 : Option Nat) (s0 : Int32) (C9 S9 : Nat) (H : Heap) (locs : List Loc) (cells slots : Nat), f_X1_cut_b31 h a0 v1 v2 v3 o4 s0 = some (r, hh, C9, S9) → cells + C9 = mc ∧ slots + S9 = ms → zM D dA b0 gs s h H locs → ∀ ls : Array Slot, lv_has ls 9 [(0, .ref a0), (1, .int v1), (2, .int v2), (3, .int v3), (4, va_rf o4)] → W p l e ({ frames := 14, cells := mc, slots := ms, locals := 3161 } : Room) s m args below meth c H locs cells slots (vx_MQ below (zQX D dA b0 gs evI r hh) (zXC D dA b0 gs r hh) args s mc ms (zA b0)) (F0 m 31 ls [.int s0]) := by
  have hx := hc.x
  have hb := hc.b
  intro h a0 v1 v2 v3 o4 s0 C9 S9 H locs cells slots hf hq hn ls hl
  unfold f_X1_cut_b31 at hf
  refine zx_SU (As := [.int s0]) (rest := []) hc hn hq (fun x hx => (ht x hx).elim) hd_X1_checkArgument (lw_S q1226 q1227 q84 q1228) (Nat.le_of_ble_eq_true rfl) (Nat.le_of_ble_eq_true rfl) (fun _ _ _ _ q => m_X1_checkArgument l hl0 D dA b0 gs h s0 q) hf dX1_cut_31 hl.1 rfl rfl (zroom (Nat.le_of_ble_eq_true rfl)) (fun x101 h102 H locs cells slots C9 S9 hf hq hn => ?_)
  refine lv_aload_n (x := a0) hx hb dX1_cut_34 rfl (lv_at hl 0 rfl) ?_
  refine zr_gP hc hn (ci := 0) rfl rfl in_X1 4 (by decide) q229 (fun _ h => h) (fun _ _ _ => rfl) hf dX1_cut_35 (fun x103 hf => ?_)
  obtain ⟨a104, e9, hf9⟩ := znn_i hf
  subst e9
  have hf := hf9
  clear hf9
  refine zr_cVI (As := []) (rest := []) hc hn hq (ci := 1) rfl ⟨rfl, hd_X2_free⟩ (lw_V q1877 q1878 q1879 q85 q1880) (Nat.le_of_ble_eq_true rfl) (Nat.le_of_ble_eq_true rfl) (fun _ _ _ _ q => m_X2_free l D dA b0 gs h102 a104 q) hf dX1_cut_38 hl.1 rfl rfl (zroom (Nat.le_of_ble_eq_true rfl)) (fun x105 h106 H locs cells slots C9 S9 hf hq hn => ?_)
  refine lv_istore (lv' := [(5, .int x105), (0, .ref a0), (1, .int v1), (2, .int v2), (3, .int v3), (4, va_rf o4)]) hx hb dX1_cut_41 hl (by decide) (by simp [zcat_rf, zcat_i, zcat_l, zcat_d, zcat_r, zcat_n] <;> rfl) (fun ls hl => ?_)
  refine lv_iload hx hb dX1_cut_43 (lv_at hl 0 rfl) ?_
  refine lv_iconst (v := (-1 : Int32)) hx hb dX1_cut_45 (by decide) ?_
  refine lv_icmp_eq (tgt := 53) hx hb dX1_cut_46 (by decide) (fun c9 => ?_) (fun c9 => ?_)
  · have hf := zif_t c9 hf
    refine lv_iconst (v := (0 : Int32)) hx hb dX1_cut_53 (by decide) ?_
    exact m_X1_cut_b54 hc hr hin hl0 ht h106 a0 v1 v2 v3 o4 x105 (0 : Int32) _ _ _ _ _ _ hf hq hn _ (lv_sub hl [1, 2, 3, 4, 5, 0] rfl)
  · have hf := zif_f c9 hf
    refine lv_iconst (v := (1 : Int32)) hx hb dX1_cut_49 (by decide) ?_
    refine lv_goto (tgt := 54) hx hb dX1_cut_50 (by decide) ?_
    exact m_X1_cut_b54 hc hr hin hl0 ht h106 a0 v1 v2 v3 o4 x105 (1 : Int32) _ _ _ _ _ _ hf hq hn _ (lv_sub hl [1, 2, 3, 4, 5, 0] rfl)
set_option maxHeartbeats 4000000 in
set_option maxRecDepth 100000 in
theorem m_X1_cut (l : Launch) (hl0 : l.stackTraces = false) (D : va_G) (dA : Nat → ClassId) (b0 : Nat) (gs : Nat → Option Nat) (h : PH) (a0 : Nat) (v1 : Int32) (v2 : Int32) (v3 : Int32) {r : (ZX Int32)} {hh : PH} {mc ms : Nat} (hf : f_X1_cut h a0 v1 v2 v3 = some (r, hh, mc, ms)) : zMx l D dA b0 gs yX1_cut (ws_ yX1_cut cX1_cut 9 (some .int)) 14 3161 [.ref a0, .int v1, .int v2, .int v3] h evI r hh mc ms := by
  unfold f_X1_cut at hf
  refine zMx.of (by decide) (Nat.le_of_ble_eq_true rfl) ?_
  intro p e s m args below meth c hc hr hin ht hn ls hl
  have hl : lv_has ls 9 [(0, .ref a0), (1, .int v1), (2, .int v2), (3, .int v3)] := hl
  have hq : 0 + mc = mc ∧ 0 + ms = ms := ⟨Nat.zero_add _, Nat.zero_add _⟩
  have hx := hc.x
  have hb := hc.b
  refine lv_aload_n (x := a0) hx hb dX1_cut_0 rfl (lv_at hl 0 rfl) ?_
  refine lv_iload_n hx hb dX1_cut_1 rfl (lv_at hl 1 rfl) ?_
  refine zx_VP (As := [.int v1]) (rest := []) hc hn hq (fun x hx => (ht x hx).elim) (ci := 0) rfl ⟨rfl, hd_X1_at⟩ (lw_V q1170 q1172 qs15 q84 q1173) (Nat.le_of_ble_eq_true rfl) (Nat.le_of_ble_eq_true rfl) (fun _ _ _ _ q => m_X1_at l hl0 D dA b0 gs h a0 v1 q) hf dX1_cut_2 hl.1 rfl rfl (zroom (Nat.le_of_ble_eq_true rfl)) (fun x101 h102 H locs cells slots C9 S9 hf hq hn => ?_)
  refine zr_astore (x := x101) (lv' := [(4, va_rf x101), (0, .ref a0), (1, .int v1), (2, .int v2), (3, .int v3)]) hx hb dX1_cut_5 hl (by decide) rfl (fun ls hl => ?_)
  refine lv_iconst (v := (2 : Int32)) hx hb dX1_cut_7 (by decide) ?_
  refine zr_na0 hc hn hq q180 hf dX1_cut_8 (fun a103 h104 H cells slots C9 S9 hf hq hn => ?_)
  refine lv_dup hx hb dX1_cut_10 rfl ?_
  refine lv_iconst (v := (0 : Int32)) hx hb dX1_cut_11 (by decide) ?_
  refine lv_iload_n hx hb dX1_cut_12 rfl (lv_at hl 3 rfl) ?_
  refine zr_sI hc hn hf dX1_cut_13 (fun h105 H locs hf hn => ?_)
  refine lv_dup hx hb dX1_cut_14 rfl ?_
  refine lv_iconst (v := (1 : Int32)) hx hb dX1_cut_15 (by decide) ?_
  refine lv_iload_n hx hb dX1_cut_16 rfl (lv_at hl 4 rfl) ?_
  refine zr_sI hc hn hf dX1_cut_17 (fun h106 H locs hf hn => ?_)
  refine zx_SU (As := [.ref a103]) (rest := []) hc hn hq (fun x hx => (ht x hx).elim) hd_X1_checkNumbers (lw_S q1223 q1224 q84 q1225) (Nat.le_of_ble_eq_true rfl) (Nat.le_of_ble_eq_true rfl) (fun _ _ _ _ q => m_X1_checkNumbers l hl0 D dA b0 gs h106 a103 q) hf dX1_cut_18 hl.1 rfl rfl (zroom (Nat.le_of_ble_eq_true rfl)) (fun x107 h108 H locs cells slots C9 S9 hf hq hn => ?_)
  refine lv_iload_n hx hb dX1_cut_21 rfl (lv_at hl 3 rfl) ?_
  refine lv_iload_n hx hb dX1_cut_22 rfl (lv_at hl 4 rfl) ?_
  refine lv_icmp_gt (tgt := 30) hx hb dX1_cut_23 (by decide) (fun c9 => ?_) (fun c9 => ?_)
  · have hf := zif_t c9 hf
    refine lv_iconst (v := (0 : Int32)) hx hb dX1_cut_30 (by decide) ?_
    exact m_X1_cut_b31 hc hr hin hl0 ht h108 a0 v1 v2 v3 x101 (0 : Int32) _ _ _ _ _ _ hf hq hn _ (lv_sub hl [1, 2, 3, 4, 0] rfl)
  · have hf := zif_f c9 hf
    refine lv_iconst (v := (1 : Int32)) hx hb dX1_cut_26 (by decide) ?_
    refine lv_goto (tgt := 31) hx hb dX1_cut_27 (by decide) ?_
    exact m_X1_cut_b31 hc hr hin hl0 ht h108 a0 v1 v2 v3 x101 (1 : Int32) _ _ _ _ _ _ hf hq hn _ (lv_sub hl [1, 2, 3, 4, 0] rfl)
theorem hd_X1_join : yX1_join.cls ≠ "java/lang/invoke/MethodHandle" ∧ yX1_join.cls ≠ "java/lang/invoke/VarHandle" ∧ (parseMethodDescriptor yX1_join.desc).map (fun d => d.parameters.length) = some 2 := by decide +kernel
def f_X1_join_b14 (h : PH) (a0 : Nat) (v1 : Int32) (v2 : Int32) (s0 : Int32) : ZR (ZX Int32) :=
  zcx (f_X1_checkState h s0) fun _ h102 =>
  zrc h102 a0 0 <| zcl (f_X1_begin h102 a0) fun x103 h104 =>
  znn x103 fun a105 =>
  zrc h104 a105 1 <| zcl (f_X2_own h104 a105 v1) fun x106 h107 =>
  zgP h107 a105 1 0 fun x108 =>
  znn x108 fun a109 =>
  zaP h107 a109 6 v2 fun x110 =>
  znn x106 fun a111 =>
  znn x110 fun a112 =>
  zrc h107 a0 0 <| zcl (f_X1_joins h107 a0 a111 a112) fun _ h114 =>
  zgP h114 a105 1 0 fun x115 =>
  znn x115 fun a116 =>
  zsO h114 a116 6 v2 (none : Option Nat) fun h117 =>
  zrc h117 a0 0 <| zcl (f_X1_ends h117 a0) fun _ h119 =>
  zgP h119 a105 1 0 fun x120 =>
  znn x120 fun a121 =>
  zaP h119 a121 6 v1 fun x122 =>
  znn x122 fun a123 =>
  zgI h119 a123 6 3 fun x124 =>
  zret (.inl x124) h119
def f_X1_join (h : PH) (a0 : Nat) (v1 : Int32) (v2 : Int32) : ZR (ZX Int32) :=
  zrc h a0 0 <| zcx (f_X1_whyNotJoin h a0 v1 v2) fun x101 h102 =>
  if x101 = 0 then
    (f_X1_join_b14 h102 a0 v1 v2 (1 : Int32))
  else
    (f_X1_join_b14 h102 a0 v1 v2 (0 : Int32))
set_option maxHeartbeats 4000000 in
set_option maxRecDepth 100000 in
theorem m_X1_join_b14 {p : Program} {l : Launch} {e : Env} {s : State} {m : MethodId} {args : Array Value} {below : List Frame} {meth : Method} {c : Code} {D : va_G} {dA : Nat → ClassId} {b0 : Nat} {gs : Nat → Option Nat} (hc : zC D dA b0 gs yX1_join.cls cX1_join 4 p c s m args meth) (hr : meth.sig.returnType = (some .int)) (hin : meth.name = yX1_join.name) {r : (ZX Int32)} {hh : PH} {mc ms : Nat} (hl0 : l.stackTraces = false) (ht : ∀ x ∈ c.exceptionTable.toList, False) : ∀ (h : PH) (a0 : Nat) (v1 : Int32) (v2 : Int32) (s0 : Int32) (C9 S9 : Nat) (H : Heap) (locs : List Loc) (cells slots : Nat), f_X1_join_b14 h a0 v1 v2 s0 = some (r, hh, C9, S9) → cells + C9 = mc ∧ slots + S9 = ms → zM D dA b0 gs s h H locs → ∀ ls : Array Slot, lv_has ls 4 [(0, .ref a0), (1, .int v1), (2, .int v2)] → W p l e ({ frames := 14, cells := mc, slots := ms, locals := 3159 } : Room) s m args below meth c H locs cells slots (vx_MQ below (zQX D dA b0 gs evI r hh) (zXC D dA b0 gs r hh) args s mc ms (zA b0)) (F0 m 14 ls [.int s0]) := by
  have hx := hc.x
  have hb := hc.b
  intro h a0 v1 v2 s0 C9 S9 H locs cells slots hf hq hn ls hl
  unfold f_X1_join_b14 at hf
  refine zx_SU (As := [.int s0]) (rest := []) hc hn hq (fun x hx => (ht x hx).elim) hd_X1_checkState (lw_S q286 q287 q84 q288) (Nat.le_of_ble_eq_true rfl) (Nat.le_of_ble_eq_true rfl) (fun _ _ _ _ q => m_X1_checkState l hl0 D dA b0 gs h s0 q) hf dX1_join_14 hl.1 rfl rfl (zroom (Nat.le_of_ble_eq_true rfl)) (fun x101 h102 H locs cells slots C9 S9 hf hq hn => ?_)
  refine lv_aload_n (x := a0) hx hb dX1_join_17 rfl (lv_at hl 0 rfl) ?_
  refine zr_cVP (As := []) (rest := []) hc hn hq (ci := 0) rfl ⟨rfl, hd_X1_begin⟩ (lw_V q1881 q1883 qs25 q84 q1884) (Nat.le_of_ble_eq_true rfl) (Nat.le_of_ble_eq_true rfl) (fun _ _ _ _ q => m_X1_begin l D dA b0 gs h102 a0 q) hf dX1_join_18 hl.1 rfl rfl (zroom (Nat.le_of_ble_eq_true rfl)) (fun x103 h104 H locs cells slots C9 S9 hf hq hn => ?_)
  refine zr_astore_n (x := x103) (i := 3) (lv' := [(3, va_rf x103), (0, .ref a0), (1, .int v1), (2, .int v2)]) hx hb dX1_join_21 rfl hl (by decide) rfl (fun ls hl => ?_)
  refine lv_aload_n (x := a0) hx hb dX1_join_22 rfl (lv_at hl 1 rfl) ?_
  refine zr_aload_n (x := x103) hx hb dX1_join_23 rfl (lv_at hl 0 rfl) ?_
  refine lv_iload_n hx hb dX1_join_24 rfl (lv_at hl 2 rfl) ?_
  obtain ⟨a105, e9, hf9⟩ := znn_i hf
  subst e9
  have hf := hf9
  clear hf9
  refine zr_cVP (As := [.int v1]) (rest := [.ref a0]) hc hn hq (ci := 1) rfl ⟨rfl, hd_X2_own⟩ (lw_V q1975 q1976 q1977 q85 q1978) (Nat.le_of_ble_eq_true rfl) (Nat.le_of_ble_eq_true rfl) (fun _ _ _ _ q => m_X2_own l D dA b0 gs h104 a105 v1 q) hf dX1_join_25 hl.1 rfl rfl (zroom (Nat.le_of_ble_eq_true rfl)) (fun x106 h107 H locs cells slots C9 S9 hf hq hn => ?_)
  refine lv_aload_n (x := a105) hx hb dX1_join_28 rfl (lv_at hl 0 rfl) ?_
  refine zr_gPN hc hn (ci := 1) rfl rfl in_X2 0 (by decide) q187 (fun _ h => h) (fun _ _ _ => rfl) hf dX1_join_29 (fun x108 hf => ?_)
  refine lv_iload_n hx hb dX1_join_32 rfl (lv_at hl 3 rfl) ?_
  obtain ⟨a109, e9, hf9⟩ := znn_i hf
  subst e9
  have hf := hf9
  clear hf9
  refine zr_aP (ai := 6) (by decide) hc hn hf dX1_join_33 (fun x110 hf => ?_)
  obtain ⟨a111, e9, hf9⟩ := znn_i hf
  subst e9
  have hf := hf9
  clear hf9
  obtain ⟨a112, e9, hf9⟩ := znn_i hf
  subst e9
  have hf := hf9
  clear hf9
  refine zr_cVU (As := [.ref a111, .ref a112]) (rest := []) hc hn hq (ci := 0) rfl ⟨rfl, hd_X1_joins⟩ (lw_V q2022 q2024 qs31 q84 q2025) (Nat.le_of_ble_eq_true rfl) (Nat.le_of_ble_eq_true rfl) (fun _ _ _ _ q => m_X1_joins l D dA b0 gs h107 a0 a111 a112 q) hf dX1_join_34 hl.1 rfl rfl (zroom (Nat.le_of_ble_eq_true rfl)) (fun x113 h114 H locs cells slots C9 S9 hf hq hn => ?_)
  refine lv_aload_n (x := a105) hx hb dX1_join_37 rfl (lv_at hl 0 rfl) ?_
  refine zr_gPN hc hn (ci := 1) rfl rfl in_X2 0 (by decide) q187 (fun _ h => h) (fun _ _ _ => rfl) hf dX1_join_38 (fun x115 hf => ?_)
  refine lv_iload_n hx hb dX1_join_41 rfl (lv_at hl 3 rfl) ?_
  refine lv_null hx hb dX1_join_42 ?_
  obtain ⟨a116, e9, hf9⟩ := znn_i hf
  subst e9
  have hf := hf9
  clear hf9
  refine zr_sO (ai := 6) (x := (none : Option Nat)) (by decide) hc hn hf dX1_join_43 (fun h117 H locs hf hn => ?_)
  refine lv_aload_n (x := a0) hx hb dX1_join_44 rfl (lv_at hl 1 rfl) ?_
  refine zr_cVU (As := []) (rest := []) hc hn hq (ci := 0) rfl ⟨rfl, hd_X1_ends⟩ (lw_V q1941 q1943 qs28 q84 q1944) (Nat.le_of_ble_eq_true rfl) (Nat.le_of_ble_eq_true rfl) (fun _ _ _ _ q => m_X1_ends l D dA b0 gs h117 a0 q) hf dX1_join_45 hl.1 rfl rfl (zroom (Nat.le_of_ble_eq_true rfl)) (fun x118 h119 H locs cells slots C9 S9 hf hq hn => ?_)
  refine lv_aload_n (x := a105) hx hb dX1_join_48 rfl (lv_at hl 0 rfl) ?_
  refine zr_gPN hc hn (ci := 1) rfl rfl in_X2 0 (by decide) q187 (fun _ h => h) (fun _ _ _ => rfl) hf dX1_join_49 (fun x120 hf => ?_)
  refine lv_iload_n hx hb dX1_join_52 rfl (lv_at hl 2 rfl) ?_
  obtain ⟨a121, e9, hf9⟩ := znn_i hf
  subst e9
  have hf := hf9
  clear hf9
  refine zr_aP (ai := 6) (by decide) hc hn hf dX1_join_53 (fun x122 hf => ?_)
  obtain ⟨a123, e9, hf9⟩ := znn_i hf
  subst e9
  have hf := hf9
  clear hf9
  refine zr_gIN hc hn (ci := 6) rfl rfl in_X7 3 (by decide) q877 (fun _ h => h) (fun _ _ _ => rfl) hf dX1_join_54 (fun x124 hf => ?_)
  obtain ⟨rfl, rfl, rfl, rfl⟩ := zretx_i hf
  exact zx_ret (zr_iret hc hn hr hq (fun _ _ _ _ q => ⟨_, rfl, q⟩) dX1_join_57)
set_option maxHeartbeats 4000000 in
set_option maxRecDepth 100000 in
theorem m_X1_join (l : Launch) (hl0 : l.stackTraces = false) (D : va_G) (dA : Nat → ClassId) (b0 : Nat) (gs : Nat → Option Nat) (h : PH) (a0 : Nat) (v1 : Int32) (v2 : Int32) {r : (ZX Int32)} {hh : PH} {mc ms : Nat} (hf : f_X1_join h a0 v1 v2 = some (r, hh, mc, ms)) : zMx l D dA b0 gs yX1_join (ws_ yX1_join cX1_join 4 (some .int)) 14 3159 [.ref a0, .int v1, .int v2] h evI r hh mc ms := by
  unfold f_X1_join at hf
  refine zMx.of (by decide) (Nat.le_of_ble_eq_true rfl) ?_
  intro p e s m args below meth c hc hr hin ht hn ls hl
  have hl : lv_has ls 4 [(0, .ref a0), (1, .int v1), (2, .int v2)] := hl
  have hq : 0 + mc = mc ∧ 0 + ms = ms := ⟨Nat.zero_add _, Nat.zero_add _⟩
  have hx := hc.x
  have hb := hc.b
  refine lv_aload_n (x := a0) hx hb dX1_join_0 rfl (lv_at hl 0 rfl) ?_
  refine lv_iload_n hx hb dX1_join_1 rfl (lv_at hl 1 rfl) ?_
  refine lv_iload_n hx hb dX1_join_2 rfl (lv_at hl 2 rfl) ?_
  refine zx_VI (As := [.int v1, .int v2]) (rest := []) hc hn hq (fun x hx => (ht x hx).elim) (ci := 0) rfl ⟨rfl, hd_X1_whyNotJoin⟩ (lw_V q2033 q1788 q1789 q84 q1790) (Nat.le_of_ble_eq_true rfl) (Nat.le_of_ble_eq_true rfl) (fun _ _ _ _ q => m_X1_whyNotJoin l hl0 D dA b0 gs h a0 v1 v2 q) hf dX1_join_3 hl.1 rfl rfl (zroom (Nat.le_of_ble_eq_true rfl)) (fun x101 h102 H locs cells slots C9 S9 hf hq hn => ?_)
  refine lv_if_ne (tgt := 13) hx hb dX1_join_6 (by decide) (fun c9 => ?_) (fun c9 => ?_)
  · have hf := zif_f c9 hf
    refine lv_iconst (v := (0 : Int32)) hx hb dX1_join_13 (by decide) ?_
    exact m_X1_join_b14 hc hr hin hl0 ht h102 a0 v1 v2 (0 : Int32) _ _ _ _ _ _ hf hq hn _ (lv_sub hl [0, 1, 2] rfl)
  · have hf := zif_t c9 hf
    refine lv_iconst (v := (1 : Int32)) hx hb dX1_join_9 (by decide) ?_
    refine lv_goto (tgt := 14) hx hb dX1_join_10 (by decide) ?_
    exact m_X1_join_b14 hc hr hin hl0 ht h102 a0 v1 v2 (1 : Int32) _ _ _ _ _ _ hf hq hn _ (lv_sub hl [0, 1, 2] rfl)
theorem hd_X1_absorb : yX1_absorb.cls ≠ "java/lang/invoke/MethodHandle" ∧ yX1_absorb.cls ≠ "java/lang/invoke/VarHandle" ∧ (parseMethodDescriptor yX1_absorb.desc).map (fun d => d.parameters.length) = some 2 := by decide +kernel
def f_X1_absorb_b44 : Nat → PH → Nat → Int32 → Nat → Option Nat → Option Nat → ZR (ZX Int32)
  | 0 => fun _ _ _ _ _ _ => none
  | n + 1 => fun h a0 v2 a3 o4 o5 =>
    znul o5
      (zgP h a3 1 0 fun x102 =>
      znn x102 fun a103 =>
      zsO h a103 6 v2 (none : Option Nat) fun h104 =>
      zrc h104 a0 0 <| zcl (f_X1_ends h104 a0) fun _ h106 =>
      znn o4 fun a107 =>
      zgI h106 a107 6 3 fun x108 =>
      zret (.inl x108) h106)
      (fun a101 =>
        zgI h a101 7 0 fun x109 =>
        zgI h a101 7 4 fun x110 =>
        znn o4 fun a111 =>
        zrc h a111 6 <| zcl (f_X7_insert h a111 x109 x110) fun x112 h113 =>
        zrc h113 a0 0 <| zcl (f_X1_mends h113 a0 a111) fun _ h115 =>
        zrc h115 a101 7 <| zcl (f_X8_next h115 a101 (1 : Int32)) fun x116 h117 =>
        f_X1_absorb_b44 n h117 a0 v2 a3 (some a111) x116)
def f_X1_absorb_b14 (h : PH) (a0 : Nat) (v1 : Int32) (v2 : Int32) (s0 : Int32) : ZR (ZX Int32) :=
  zcx (f_X1_checkState h s0) fun _ h102 =>
  zrc h102 a0 0 <| zcl (f_X1_begin h102 a0) fun x103 h104 =>
  znn x103 fun a105 =>
  zrc h104 a105 1 <| zcl (f_X2_own h104 a105 v1) fun x106 h107 =>
  zgP h107 a105 1 0 fun x108 =>
  znn x108 fun a109 =>
  zaP h107 a109 6 v2 fun x110 =>
  znn x110 fun a111 =>
  zgP h107 a111 6 1 fun x112 =>
  znn x112 fun a113 =>
  zrc h107 a113 7 <| zcl (f_X8_next h107 a113 (1 : Int32)) fun x114 h115 =>
  f_X1_absorb_b44 zFU h115 a0 v2 a105 x106 x114
def f_X1_absorb (h : PH) (a0 : Nat) (v1 : Int32) (v2 : Int32) : ZR (ZX Int32) :=
  zrc h a0 0 <| zcx (f_X1_whyNotAbsorb h a0 v1 v2) fun x101 h102 =>
  if x101 = 0 then
    (f_X1_absorb_b14 h102 a0 v1 v2 (1 : Int32))
  else
    (f_X1_absorb_b14 h102 a0 v1 v2 (0 : Int32))
set_option maxHeartbeats 4000000 in
set_option maxRecDepth 100000 in
theorem m_X1_absorb_b44 {p : Program} {l : Launch} {e : Env} {s : State} {m : MethodId} {args : Array Value} {below : List Frame} {meth : Method} {c : Code} {D : va_G} {dA : Nat → ClassId} {b0 : Nat} {gs : Nat → Option Nat} (hc : zC D dA b0 gs yX1_absorb.cls cX1_absorb 7 p c s m args meth) (hr : meth.sig.returnType = (some .int)) (hin : meth.name = yX1_absorb.name) {r : (ZX Int32)} {hh : PH} {mc ms : Nat} (hl0 : l.stackTraces = false) (ht : ∀ x ∈ c.exceptionTable.toList, False) : ∀ (n : Nat) (h : PH) (a0 : Nat) (v2 : Int32) (a3 : Nat) (o4 : Option Nat) (o5 : Option Nat) (C9 S9 : Nat) (H : Heap) (locs : List Loc) (cells slots : Nat), f_X1_absorb_b44 n h a0 v2 a3 o4 o5 = some (r, hh, C9, S9) → cells + C9 = mc ∧ slots + S9 = ms → zM D dA b0 gs s h H locs → ∀ ls : Array Slot, lv_has ls 7 [(0, .ref a0), (2, .int v2), (3, .ref a3), (4, va_rf o4), (5, va_rf o5)] → W p l e ({ frames := 13, cells := mc, slots := ms, locals := 3137 } : Room) s m args below meth c H locs cells slots (vx_MQ below (zQX D dA b0 gs evI r hh) (zXC D dA b0 gs r hh) args s mc ms (zA b0)) (F0 m 44 ls []) := by
  have hx := hc.x
  have hb := hc.b
  intro n
  induction n with
  | zero =>
    intro h a0 v2 a3 o4 o5 C9 S9 H locs cells slots hf hq hn ls hl
    cases hf
  | succ n ih =>
    intro h a0 v2 a3 o4 o5 C9 S9 H locs cells slots hf hq hn ls hl
    unfold f_X1_absorb_b44 at hf
    refine zr_aload (x := o5) hx hb dX1_absorb_44 (lv_at hl 4 rfl) ?_
    refine zr_ifnull (tgt := 83) hx hb hf dX1_absorb_46 (by decide) (fun e9 hf9 => ?_) (fun a101 e9 hf9 => ?_)
    · subst e9
      have hf := hf9
      clear hf9
      refine lv_aload_n (x := a3) hx hb dX1_absorb_83 rfl (lv_at hl 2 rfl) ?_
      refine zr_gPN hc hn (ci := 1) rfl rfl in_X2 0 (by decide) q187 (fun _ h => h) (fun _ _ _ => rfl) hf dX1_absorb_84 (fun x102 hf => ?_)
      refine lv_iload_n hx hb dX1_absorb_87 rfl (lv_at hl 1 rfl) ?_
      refine lv_null hx hb dX1_absorb_88 ?_
      obtain ⟨a103, e9, hf9⟩ := znn_i hf
      subst e9
      have hf := hf9
      clear hf9
      refine zr_sO (ai := 6) (x := (none : Option Nat)) (by decide) hc hn hf dX1_absorb_89 (fun h104 H locs hf hn => ?_)
      refine lv_aload_n (x := a0) hx hb dX1_absorb_90 rfl (lv_at hl 0 rfl) ?_
      refine zr_cVU (As := []) (rest := []) hc hn hq (ci := 0) rfl ⟨rfl, hd_X1_ends⟩ (lw_V q1941 q1943 qs28 q84 q1944) (Nat.le_of_ble_eq_true rfl) (Nat.le_of_ble_eq_true rfl) (fun _ _ _ _ q => m_X1_ends l D dA b0 gs h104 a0 q) hf dX1_absorb_91 hl.1 rfl rfl (zroom (Nat.le_of_ble_eq_true rfl)) (fun x105 h106 H locs cells slots C9 S9 hf hq hn => ?_)
      refine zr_aload (x := o4) hx hb dX1_absorb_94 (lv_at hl 3 rfl) ?_
      obtain ⟨a107, e9, hf9⟩ := znn_i hf
      subst e9
      have hf := hf9
      clear hf9
      refine zr_gIN hc hn (ci := 6) rfl rfl in_X7 3 (by decide) q877 (fun _ h => h) (fun _ _ _ => rfl) hf dX1_absorb_96 (fun x108 hf => ?_)
      obtain ⟨rfl, rfl, rfl, rfl⟩ := zretx_i hf
      exact zx_ret (zr_iret hc hn hr hq (fun _ _ _ _ q => ⟨_, rfl, q⟩) dX1_absorb_99)
    · subst e9
      have hf := hf9
      clear hf9
      refine zr_aload (x := o4) hx hb dX1_absorb_49 (lv_at hl 3 rfl) ?_
      refine lv_aload (x := a101) hx hb dX1_absorb_51 (lv_at hl 4 rfl) ?_
      refine zr_gIN hc hn (ci := 7) rfl rfl in_X8 0 (by decide) q835 (fun _ h => h) (fun _ _ _ => rfl) hf dX1_absorb_53 (fun x109 hf => ?_)
      refine lv_aload (x := a101) hx hb dX1_absorb_56 (lv_at hl 4 rfl) ?_
      refine zr_gIN hc hn (ci := 7) rfl rfl in_X8 4 (by decide) q846 (fun _ h => h) (fun _ _ _ => rfl) hf dX1_absorb_58 (fun x110 hf => ?_)
      obtain ⟨a111, e9, hf9⟩ := znn_i hf
      subst e9
      have hf := hf9
      clear hf9
      refine zr_cVI (As := [.int x109, .int x110]) (rest := []) hc hn hq (ci := 6) rfl ⟨rfl, hd_X7_insert⟩ (lw_V q1755 q1756 q1757 q115 q1758) (Nat.le_of_ble_eq_true rfl) (Nat.le_of_ble_eq_true rfl) (fun _ _ _ _ q => m_X7_insert l D dA b0 gs h a111 x109 x110 q) hf dX1_absorb_61 hl.1 rfl rfl (zroom (Nat.le_of_ble_eq_true rfl)) (fun x112 h113 H locs cells slots C9 S9 hf hq hn => ?_)
      refine lv_istore (lv' := [(6, .int x112), (0, .ref a0), (2, .int v2), (3, .ref a3), (4, .ref a111), (5, .ref a101)]) hx hb dX1_absorb_64 hl (by decide) rfl (fun ls hl => ?_)
      refine lv_aload_n (x := a0) hx hb dX1_absorb_66 rfl (lv_at hl 1 rfl) ?_
      refine lv_aload (x := a111) hx hb dX1_absorb_67 (lv_at hl 4 rfl) ?_
      refine zr_cVU (As := [.ref a111]) (rest := []) hc hn hq (ci := 0) rfl ⟨rfl, hd_X1_mends⟩ (lw_V q1980 q1982 qs29 q84 q1983) (Nat.le_of_ble_eq_true rfl) (Nat.le_of_ble_eq_true rfl) (fun _ _ _ _ q => m_X1_mends l D dA b0 gs h113 a0 a111 q) hf dX1_absorb_69 hl.1 rfl rfl (zroom (Nat.le_of_ble_eq_true rfl)) (fun x114 h115 H locs cells slots C9 S9 hf hq hn => ?_)
      refine lv_aload (x := a101) hx hb dX1_absorb_72 (lv_at hl 5 rfl) ?_
      refine lv_iconst (v := (1 : Int32)) hx hb dX1_absorb_74 (by decide) ?_
      refine zr_cVP (As := [.int (1 : Int32)]) (rest := []) hc hn hq (ci := 7) rfl ⟨rfl, hd_X8_next⟩ (lw_V q1312 q905 q906 q116 q907) (Nat.le_of_ble_eq_true rfl) (Nat.le_of_ble_eq_true rfl) (fun _ _ _ _ q => m_X8_next l D dA b0 gs h115 a101 (1 : Int32) q) hf dX1_absorb_75 hl.1 rfl rfl (zroom (Nat.le_of_ble_eq_true rfl)) (fun x116 h117 H locs cells slots C9 S9 hf hq hn => ?_)
      refine zr_astore (x := x116) (lv' := [(5, va_rf x116), (6, .int x112), (0, .ref a0), (2, .int v2), (3, .ref a3), (4, .ref a111)]) hx hb dX1_absorb_78 hl (by decide) rfl (fun ls hl => ?_)
      refine lv_goto (tgt := 44) hx hb dX1_absorb_80 (by decide) ?_
      exact ih h117 a0 v2 a3 (some a111) x116 _ _ _ _ _ _ hf hq hn _ (lv_sub hl [2, 3, 4, 5, 0] rfl)
set_option maxHeartbeats 4000000 in
set_option maxRecDepth 100000 in
theorem m_X1_absorb_b14 {p : Program} {l : Launch} {e : Env} {s : State} {m : MethodId} {args : Array Value} {below : List Frame} {meth : Method} {c : Code} {D : va_G} {dA : Nat → ClassId} {b0 : Nat} {gs : Nat → Option Nat} (hc : zC D dA b0 gs yX1_absorb.cls cX1_absorb 7 p c s m args meth) (hr : meth.sig.returnType = (some .int)) (hin : meth.name = yX1_absorb.name) {r : (ZX Int32)} {hh : PH} {mc ms : Nat} (hl0 : l.stackTraces = false) (ht : ∀ x ∈ c.exceptionTable.toList, False) : ∀ (h : PH) (a0 : Nat) (v1 : Int32) (v2 : Int32) (s0 : Int32) (C9 S9 : Nat) (H : Heap) (locs : List Loc) (cells slots : Nat), f_X1_absorb_b14 h a0 v1 v2 s0 = some (r, hh, C9, S9) → cells + C9 = mc ∧ slots + S9 = ms → zM D dA b0 gs s h H locs → ∀ ls : Array Slot, lv_has ls 7 [(0, .ref a0), (1, .int v1), (2, .int v2)] → W p l e ({ frames := 13, cells := mc, slots := ms, locals := 3137 } : Room) s m args below meth c H locs cells slots (vx_MQ below (zQX D dA b0 gs evI r hh) (zXC D dA b0 gs r hh) args s mc ms (zA b0)) (F0 m 14 ls [.int s0]) := by
  have hx := hc.x
  have hb := hc.b
  intro h a0 v1 v2 s0 C9 S9 H locs cells slots hf hq hn ls hl
  unfold f_X1_absorb_b14 at hf
  refine zx_SU (As := [.int s0]) (rest := []) hc hn hq (fun x hx => (ht x hx).elim) hd_X1_checkState (lw_S q286 q287 q84 q288) (Nat.le_of_ble_eq_true rfl) (Nat.le_of_ble_eq_true rfl) (fun _ _ _ _ q => m_X1_checkState l hl0 D dA b0 gs h s0 q) hf dX1_absorb_14 hl.1 rfl rfl (zroom (Nat.le_of_ble_eq_true rfl)) (fun x101 h102 H locs cells slots C9 S9 hf hq hn => ?_)
  refine lv_aload_n (x := a0) hx hb dX1_absorb_17 rfl (lv_at hl 0 rfl) ?_
  refine zr_cVP (As := []) (rest := []) hc hn hq (ci := 0) rfl ⟨rfl, hd_X1_begin⟩ (lw_V q1881 q1883 qs25 q84 q1884) (Nat.le_of_ble_eq_true rfl) (Nat.le_of_ble_eq_true rfl) (fun _ _ _ _ q => m_X1_begin l D dA b0 gs h102 a0 q) hf dX1_absorb_18 hl.1 rfl rfl (zroom (Nat.le_of_ble_eq_true rfl)) (fun x103 h104 H locs cells slots C9 S9 hf hq hn => ?_)
  refine zr_astore_n (x := x103) (i := 3) (lv' := [(3, va_rf x103), (0, .ref a0), (1, .int v1), (2, .int v2)]) hx hb dX1_absorb_21 rfl hl (by decide) rfl (fun ls hl => ?_)
  refine zr_aload_n (x := x103) hx hb dX1_absorb_22 rfl (lv_at hl 0 rfl) ?_
  refine lv_iload_n hx hb dX1_absorb_23 rfl (lv_at hl 2 rfl) ?_
  obtain ⟨a105, e9, hf9⟩ := znn_i hf
  subst e9
  have hf := hf9
  clear hf9
  refine zr_cVP (As := [.int v1]) (rest := []) hc hn hq (ci := 1) rfl ⟨rfl, hd_X2_own⟩ (lw_V q1975 q1976 q1977 q85 q1978) (Nat.le_of_ble_eq_true rfl) (Nat.le_of_ble_eq_true rfl) (fun _ _ _ _ q => m_X2_own l D dA b0 gs h104 a105 v1 q) hf dX1_absorb_24 hl.1 rfl rfl (zroom (Nat.le_of_ble_eq_true rfl)) (fun x106 h107 H locs cells slots C9 S9 hf hq hn => ?_)
  refine zr_astore (x := x106) (lv' := [(4, va_rf x106), (3, .ref a105), (0, .ref a0), (1, .int v1), (2, .int v2)]) hx hb dX1_absorb_27 hl (by decide) rfl (fun ls hl => ?_)
  refine lv_aload_n (x := a105) hx hb dX1_absorb_29 rfl (lv_at hl 1 rfl) ?_
  refine zr_gPN hc hn (ci := 1) rfl rfl in_X2 0 (by decide) q187 (fun _ h => h) (fun _ _ _ => rfl) hf dX1_absorb_30 (fun x108 hf => ?_)
  refine lv_iload_n hx hb dX1_absorb_33 rfl (lv_at hl 4 rfl) ?_
  obtain ⟨a109, e9, hf9⟩ := znn_i hf
  subst e9
  have hf := hf9
  clear hf9
  refine zr_aP (ai := 6) (by decide) hc hn hf dX1_absorb_34 (fun x110 hf => ?_)
  obtain ⟨a111, e9, hf9⟩ := znn_i hf
  subst e9
  have hf := hf9
  clear hf9
  refine zr_gPN hc hn (ci := 6) rfl rfl in_X7 1 (by decide) q873 (fun _ h => h) (fun _ _ _ => rfl) hf dX1_absorb_35 (fun x112 hf => ?_)
  refine lv_iconst (v := (1 : Int32)) hx hb dX1_absorb_38 (by decide) ?_
  obtain ⟨a113, e9, hf9⟩ := znn_i hf
  subst e9
  have hf := hf9
  clear hf9
  refine zr_cVP (As := [.int (1 : Int32)]) (rest := []) hc hn hq (ci := 7) rfl ⟨rfl, hd_X8_next⟩ (lw_V q1312 q905 q906 q116 q907) (Nat.le_of_ble_eq_true rfl) (Nat.le_of_ble_eq_true rfl) (fun _ _ _ _ q => m_X8_next l D dA b0 gs h107 a113 (1 : Int32) q) hf dX1_absorb_39 hl.1 rfl rfl (zroom (Nat.le_of_ble_eq_true rfl)) (fun x114 h115 H locs cells slots C9 S9 hf hq hn => ?_)
  refine zr_astore (x := x114) (lv' := [(5, va_rf x114), (4, va_rf x106), (3, .ref a105), (0, .ref a0), (1, .int v1), (2, .int v2)]) hx hb dX1_absorb_42 hl (by decide) (by simp [zcat_rf, zcat_i, zcat_l, zcat_d, zcat_r, zcat_n] <;> rfl) (fun ls hl => ?_)
  exact m_X1_absorb_b44 hc hr hin hl0 ht zFU h115 a0 v2 a105 x106 x114 _ _ _ _ _ _ hf hq hn _ (lv_sub hl [3, 5, 2, 1, 0] rfl)
set_option maxHeartbeats 4000000 in
set_option maxRecDepth 100000 in
theorem m_X1_absorb (l : Launch) (hl0 : l.stackTraces = false) (D : va_G) (dA : Nat → ClassId) (b0 : Nat) (gs : Nat → Option Nat) (h : PH) (a0 : Nat) (v1 : Int32) (v2 : Int32) {r : (ZX Int32)} {hh : PH} {mc ms : Nat} (hf : f_X1_absorb h a0 v1 v2 = some (r, hh, mc, ms)) : zMx l D dA b0 gs yX1_absorb (ws_ yX1_absorb cX1_absorb 7 (some .int)) 13 3137 [.ref a0, .int v1, .int v2] h evI r hh mc ms := by
  unfold f_X1_absorb at hf
  refine zMx.of (by decide) (Nat.le_of_ble_eq_true rfl) ?_
  intro p e s m args below meth c hc hr hin ht hn ls hl
  have hl : lv_has ls 7 [(0, .ref a0), (1, .int v1), (2, .int v2)] := hl
  have hq : 0 + mc = mc ∧ 0 + ms = ms := ⟨Nat.zero_add _, Nat.zero_add _⟩
  have hx := hc.x
  have hb := hc.b
  refine lv_aload_n (x := a0) hx hb dX1_absorb_0 rfl (lv_at hl 0 rfl) ?_
  refine lv_iload_n hx hb dX1_absorb_1 rfl (lv_at hl 1 rfl) ?_
  refine lv_iload_n hx hb dX1_absorb_2 rfl (lv_at hl 2 rfl) ?_
  refine zx_VI (As := [.int v1, .int v2]) (rest := []) hc hn hq (fun x hx => (ht x hx).elim) (ci := 0) rfl ⟨rfl, hd_X1_whyNotAbsorb⟩ (lw_V q2041 q1799 q1800 q84 q1801) (Nat.le_of_ble_eq_true rfl) (Nat.le_of_ble_eq_true rfl) (fun _ _ _ _ q => m_X1_whyNotAbsorb l hl0 D dA b0 gs h a0 v1 v2 q) hf dX1_absorb_3 hl.1 rfl rfl (zroom (Nat.le_of_ble_eq_true rfl)) (fun x101 h102 H locs cells slots C9 S9 hf hq hn => ?_)
  refine lv_if_ne (tgt := 13) hx hb dX1_absorb_6 (by decide) (fun c9 => ?_) (fun c9 => ?_)
  · have hf := zif_f c9 hf
    refine lv_iconst (v := (0 : Int32)) hx hb dX1_absorb_13 (by decide) ?_
    exact m_X1_absorb_b14 hc hr hin hl0 ht h102 a0 v1 v2 (0 : Int32) _ _ _ _ _ _ hf hq hn _ (lv_sub hl [0, 1, 2] rfl)
  · have hf := zif_t c9 hf
    refine lv_iconst (v := (1 : Int32)) hx hb dX1_absorb_9 (by decide) ?_
    refine lv_goto (tgt := 14) hx hb dX1_absorb_10 (by decide) ?_
    exact m_X1_absorb_b14 hc hr hin hl0 ht h102 a0 v1 v2 (1 : Int32) _ _ _ _ _ _ hf hq hn _ (lv_sub hl [0, 1, 2] rfl)
theorem hd_X1_level : yX1_level.cls ≠ "java/lang/invoke/MethodHandle" ∧ yX1_level.cls ≠ "java/lang/invoke/VarHandle" ∧ (parseMethodDescriptor yX1_level.desc).map (fun d => d.parameters.length) = some 1 := by decide +kernel
def f_X1_level (h : PH) (a0 : Nat) (v1 : Int32) : ZR (ZX Int32) :=
  zrc h a0 0 <| zcx (f_X1_at h a0 v1) fun x101 h102 =>
  zrc h102 a0 0 <| zcl (f_X1_begin h102 a0) fun x103 h104 =>
  znn x103 fun a105 =>
  zgP h104 a105 1 0 fun x106 =>
  znn x101 fun a107 =>
  zrc h104 a107 6 <| zcl (f_X7_counted h104 a107) fun x108 h109 =>
  znn x106 fun a110 =>
  zsO h109 a110 6 v1 (some x108) fun h111 =>
  zgP h111 a105 1 0 fun x112 =>
  znn x112 fun a113 =>
  zaP h111 a113 6 v1 fun x114 =>
  znn x114 fun a115 =>
  zrc h111 a0 0 <| zcl (f_X1_mends h111 a0 a115) fun _ h117 =>
  zrc h117 a0 0 <| zcl (f_X1_ends h117 a0) fun _ h119 =>
  zgP h119 a105 1 0 fun x120 =>
  znn x120 fun a121 =>
  zaP h119 a121 6 v1 fun x122 =>
  znn x122 fun a123 =>
  zrc h119 a123 6 <| zcl (f_X7_height h119 a123) fun x124 h125 =>
  zret (.inl x124) h125
set_option maxHeartbeats 4000000 in
set_option maxRecDepth 100000 in
theorem m_X1_level (l : Launch) (hl0 : l.stackTraces = false) (D : va_G) (dA : Nat → ClassId) (b0 : Nat) (gs : Nat → Option Nat) (h : PH) (a0 : Nat) (v1 : Int32) {r : (ZX Int32)} {hh : PH} {mc ms : Nat} (hf : f_X1_level h a0 v1 = some (r, hh, mc, ms)) : zMx l D dA b0 gs yX1_level (ws_ yX1_level cX1_level 4 (some .int)) 13 3137 [.ref a0, .int v1] h evI r hh mc ms := by
  unfold f_X1_level at hf
  refine zMx.of (by decide) (Nat.le_of_ble_eq_true rfl) ?_
  intro p e s m args below meth c hc hr hin ht hn ls hl
  have hl : lv_has ls 4 [(0, .ref a0), (1, .int v1)] := hl
  have hq : 0 + mc = mc ∧ 0 + ms = ms := ⟨Nat.zero_add _, Nat.zero_add _⟩
  have hx := hc.x
  have hb := hc.b
  refine lv_aload_n (x := a0) hx hb dX1_level_0 rfl (lv_at hl 0 rfl) ?_
  refine lv_iload_n hx hb dX1_level_1 rfl (lv_at hl 1 rfl) ?_
  refine zx_VP (As := [.int v1]) (rest := []) hc hn hq (fun x hx => (ht x hx).elim) (ci := 0) rfl ⟨rfl, hd_X1_at⟩ (lw_V q1170 q1172 qs15 q84 q1173) (Nat.le_of_ble_eq_true rfl) (Nat.le_of_ble_eq_true rfl) (fun _ _ _ _ q => m_X1_at l hl0 D dA b0 gs h a0 v1 q) hf dX1_level_2 hl.1 rfl rfl (zroom (Nat.le_of_ble_eq_true rfl)) (fun x101 h102 H locs cells slots C9 S9 hf hq hn => ?_)
  refine zr_astore_n (x := x101) (i := 2) (lv' := [(2, va_rf x101), (0, .ref a0), (1, .int v1)]) hx hb dX1_level_5 rfl hl (by decide) rfl (fun ls hl => ?_)
  refine lv_aload_n (x := a0) hx hb dX1_level_6 rfl (lv_at hl 1 rfl) ?_
  refine zr_cVP (As := []) (rest := []) hc hn hq (ci := 0) rfl ⟨rfl, hd_X1_begin⟩ (lw_V q1881 q1883 qs25 q84 q1884) (Nat.le_of_ble_eq_true rfl) (Nat.le_of_ble_eq_true rfl) (fun _ _ _ _ q => m_X1_begin l D dA b0 gs h102 a0 q) hf dX1_level_7 hl.1 rfl rfl (zroom (Nat.le_of_ble_eq_true rfl)) (fun x103 h104 H locs cells slots C9 S9 hf hq hn => ?_)
  refine zr_astore_n (x := x103) (i := 3) (lv' := [(3, va_rf x103), (2, va_rf x101), (0, .ref a0), (1, .int v1)]) hx hb dX1_level_10 rfl hl (by decide) (by simp [zcat_rf, zcat_i, zcat_l, zcat_d, zcat_r, zcat_n] <;> rfl) (fun ls hl => ?_)
  refine zr_aload_n (x := x103) hx hb dX1_level_11 rfl (lv_at hl 0 rfl) ?_
  obtain ⟨a105, e9, hf9⟩ := znn_i hf
  subst e9
  have hf := hf9
  clear hf9
  refine zr_gPN hc hn (ci := 1) rfl rfl in_X2 0 (by decide) q187 (fun _ h => h) (fun _ _ _ => rfl) hf dX1_level_12 (fun x106 hf => ?_)
  refine lv_iload_n hx hb dX1_level_15 rfl (lv_at hl 3 rfl) ?_
  refine zr_aload_n (x := x101) hx hb dX1_level_16 rfl (lv_at hl 1 rfl) ?_
  obtain ⟨a107, e9, hf9⟩ := znn_i hf
  subst e9
  have hf := hf9
  clear hf9
  refine zr_cVN (As := []) (rest := [.int v1, va_rf x106]) hc hn hq (ci := 6) rfl ⟨rfl, hd_X7_counted⟩ (lw_V q2049 q909 q910 q115 q911) (Nat.le_of_ble_eq_true rfl) (Nat.le_of_ble_eq_true rfl) (fun _ _ _ _ q => m_X7_counted l D dA b0 gs h104 a107 q) hf dX1_level_17 hl.1 rfl rfl (zroom (Nat.le_of_ble_eq_true rfl)) (fun x108 h109 H locs cells slots C9 S9 hf hq hn => ?_)
  obtain ⟨a110, e9, hf9⟩ := znn_i hf
  subst e9
  have hf := hf9
  clear hf9
  refine zr_sO (ai := 6) (x := (some x108)) (by decide) hc hn hf dX1_level_20 (fun h111 H locs hf hn => ?_)
  refine lv_aload_n (x := a0) hx hb dX1_level_21 rfl (lv_at hl 2 rfl) ?_
  refine lv_aload_n (x := a105) hx hb dX1_level_22 rfl (lv_at hl 0 rfl) ?_
  refine zr_gPN hc hn (ci := 1) rfl rfl in_X2 0 (by decide) q187 (fun _ h => h) (fun _ _ _ => rfl) hf dX1_level_23 (fun x112 hf => ?_)
  refine lv_iload_n hx hb dX1_level_26 rfl (lv_at hl 3 rfl) ?_
  obtain ⟨a113, e9, hf9⟩ := znn_i hf
  subst e9
  have hf := hf9
  clear hf9
  refine zr_aP (ai := 6) (by decide) hc hn hf dX1_level_27 (fun x114 hf => ?_)
  obtain ⟨a115, e9, hf9⟩ := znn_i hf
  subst e9
  have hf := hf9
  clear hf9
  refine zr_cVU (As := [.ref a115]) (rest := []) hc hn hq (ci := 0) rfl ⟨rfl, hd_X1_mends⟩ (lw_V q1980 q1982 qs29 q84 q1983) (Nat.le_of_ble_eq_true rfl) (Nat.le_of_ble_eq_true rfl) (fun _ _ _ _ q => m_X1_mends l D dA b0 gs h111 a0 a115 q) hf dX1_level_28 hl.1 rfl rfl (zroom (Nat.le_of_ble_eq_true rfl)) (fun x116 h117 H locs cells slots C9 S9 hf hq hn => ?_)
  refine lv_aload_n (x := a0) hx hb dX1_level_31 rfl (lv_at hl 2 rfl) ?_
  refine zr_cVU (As := []) (rest := []) hc hn hq (ci := 0) rfl ⟨rfl, hd_X1_ends⟩ (lw_V q1941 q1943 qs28 q84 q1944) (Nat.le_of_ble_eq_true rfl) (Nat.le_of_ble_eq_true rfl) (fun _ _ _ _ q => m_X1_ends l D dA b0 gs h117 a0 q) hf dX1_level_32 hl.1 rfl rfl (zroom (Nat.le_of_ble_eq_true rfl)) (fun x118 h119 H locs cells slots C9 S9 hf hq hn => ?_)
  refine lv_aload_n (x := a105) hx hb dX1_level_35 rfl (lv_at hl 0 rfl) ?_
  refine zr_gPN hc hn (ci := 1) rfl rfl in_X2 0 (by decide) q187 (fun _ h => h) (fun _ _ _ => rfl) hf dX1_level_36 (fun x120 hf => ?_)
  refine lv_iload_n hx hb dX1_level_39 rfl (lv_at hl 3 rfl) ?_
  obtain ⟨a121, e9, hf9⟩ := znn_i hf
  subst e9
  have hf := hf9
  clear hf9
  refine zr_aP (ai := 6) (by decide) hc hn hf dX1_level_40 (fun x122 hf => ?_)
  obtain ⟨a123, e9, hf9⟩ := znn_i hf
  subst e9
  have hf := hf9
  clear hf9
  refine zr_cVI (As := []) (rest := []) hc hn hq (ci := 6) rfl ⟨rfl, hd_X7_height⟩ (lw_V q1182 q929 q930 q115 q931) (Nat.le_of_ble_eq_true rfl) (Nat.le_of_ble_eq_true rfl) (fun _ _ _ _ q => m_X7_height l D dA b0 gs h119 a123 q) hf dX1_level_41 hl.1 rfl rfl (zroom (Nat.le_of_ble_eq_true rfl)) (fun x124 h125 H locs cells slots C9 S9 hf hq hn => ?_)
  obtain ⟨rfl, rfl, rfl, rfl⟩ := zretx_i hf
  exact zx_ret (zr_iret hc hn hr hq (fun _ _ _ _ q => ⟨_, rfl, q⟩) dX1_level_44)
theorem hd_X1_setLimit : yX1_setLimit.cls ≠ "java/lang/invoke/MethodHandle" ∧ yX1_setLimit.cls ≠ "java/lang/invoke/VarHandle" ∧ (parseMethodDescriptor yX1_setLimit.desc).map (fun d => d.parameters.length) = some 1 := by decide +kernel
def f_X1_setLimit_b58 (k31 : PH → Nat → Int32 → Nat → Int32 → ZR (ZX Int32)) (h : PH) (a0 : Nat) (v2 : Int32) (a3 : Nat) (v4 : Int32) : ZR (ZX Int32) :=
  znm (v4 + (1 : Int32)) fun x101 =>
  k31 h a0 v2 a3 x101
def f_X1_setLimit_b31 : Nat → PH → Nat → Int32 → Nat → Int32 → ZR (ZX Int32)
  | 0 => fun _ _ _ _ _ => none
  | n + 1 => fun h a0 v2 a3 v4 =>
    if (6 : Int32) ≤ v4 then
      (zrc h a0 0 <| zcl (f_X1_ends h a0) fun _ h102 =>
      zret (.inl v2) h102)
    else
      (zgP h a3 1 0 fun x103 =>
      znn x103 fun a104 =>
      zaP h a104 6 v4 fun x105 =>
      znul x105
        (f_X1_setLimit_b58 (f_X1_setLimit_b31 n) h a0 v2 a3 v4)
        (fun a106 =>
          zrc h a3 1 <| zcl (f_X2_own h a3 v4) fun x107 h108 =>
          znn x107 fun a109 =>
          zrc h108 a0 0 <| zcl (f_X1_mends h108 a0 a109) fun _ h111 =>
          f_X1_setLimit_b58 (f_X1_setLimit_b31 n) h111 a0 v2 a3 v4))
def f_X1_setLimit (h : PH) (a0 : Nat) (v1 : Int32) : ZR (ZX Int32) :=
  zcl (f_X1_isIn h v1 (2 : Int32) (7 : Int32)) fun x101 h102 =>
  zcx (f_X1_checkArgument h102 x101) fun _ h104 =>
  zgP h104 a0 0 4 fun x105 =>
  znn x105 fun a106 =>
  zgI h104 a106 1 3 fun x107 =>
  zrc h104 a0 0 <| zcl (f_X1_begin h104 a0) fun x108 h109 =>
  znn x108 fun a110 =>
  zpI h109 a110 1 3 v1 fun h111 =>
  f_X1_setLimit_b31 zFU h111 a0 x107 a110 (0 : Int32)
set_option maxHeartbeats 4000000 in
set_option maxRecDepth 100000 in
theorem m_X1_setLimit_b58 {p : Program} {l : Launch} {e : Env} {s : State} {m : MethodId} {args : Array Value} {below : List Frame} {meth : Method} {c : Code} {D : va_G} {dA : Nat → ClassId} {b0 : Nat} {gs : Nat → Option Nat} (hc : zC D dA b0 gs yX1_setLimit.cls cX1_setLimit 5 p c s m args meth) (hr : meth.sig.returnType = (some .int)) (hin : meth.name = yX1_setLimit.name) {r : (ZX Int32)} {hh : PH} {mc ms : Nat} (hl0 : l.stackTraces = false) (ht : ∀ x ∈ c.exceptionTable.toList, False) (k31 : PH → Nat → Int32 → Nat → Int32 → ZR (ZX Int32)) (hk31 : ∀ (h : PH) (a0 : Nat) (v2 : Int32) (a3 : Nat) (v4 : Int32) (C9 S9 : Nat) (H : Heap) (locs : List Loc) (cells slots : Nat), k31 h a0 v2 a3 v4 = some (r, hh, C9, S9) → cells + C9 = mc ∧ slots + S9 = ms → zM D dA b0 gs s h H locs → ∀ ls : Array Slot, lv_has ls 5 [(0, .ref a0), (2, .int v2), (3, .ref a3), (4, .int v4)] → W p l e ({ frames := 13, cells := mc, slots := ms, locals := 3137 } : Room) s m args below meth c H locs cells slots (vx_MQ below (zQX D dA b0 gs evI r hh) (zXC D dA b0 gs r hh) args s mc ms (zA b0)) (F0 m 31 ls [])) : ∀ (h : PH) (a0 : Nat) (v2 : Int32) (a3 : Nat) (v4 : Int32) (C9 S9 : Nat) (H : Heap) (locs : List Loc) (cells slots : Nat), f_X1_setLimit_b58 k31 h a0 v2 a3 v4 = some (r, hh, C9, S9) → cells + C9 = mc ∧ slots + S9 = ms → zM D dA b0 gs s h H locs → ∀ ls : Array Slot, lv_has ls 5 [(0, .ref a0), (2, .int v2), (3, .ref a3), (4, .int v4)] → W p l e ({ frames := 13, cells := mc, slots := ms, locals := 3137 } : Room) s m args below meth c H locs cells slots (vx_MQ below (zQX D dA b0 gs evI r hh) (zXC D dA b0 gs r hh) args s mc ms (zA b0)) (F0 m 58 ls []) := by
  have hx := hc.x
  have hb := hc.b
  intro h a0 v2 a3 v4 C9 S9 H locs cells slots hf hq hn ls hl
  unfold f_X1_setLimit_b58 at hf
  obtain ⟨x101, ex101, hf⟩ := znm_i hf
  refine lv_iinc (v := x101) (lv' := [(4, .int x101), (0, .ref a0), (2, .int v2), (3, .ref a3)]) hx hb dX1_setLimit_58 hl (k := 3) rfl (by rw [ex101]; rfl) (by decide) rfl (fun ls hl => ?_)
  refine lv_goto (tgt := 31) hx hb dX1_setLimit_61 (by decide) ?_
  exact hk31 h a0 v2 a3 x101 _ _ _ _ _ _ hf hq hn _ (lv_sub hl [1, 2, 3, 0] rfl)
set_option maxHeartbeats 4000000 in
set_option maxRecDepth 100000 in
theorem m_X1_setLimit_b31 {p : Program} {l : Launch} {e : Env} {s : State} {m : MethodId} {args : Array Value} {below : List Frame} {meth : Method} {c : Code} {D : va_G} {dA : Nat → ClassId} {b0 : Nat} {gs : Nat → Option Nat} (hc : zC D dA b0 gs yX1_setLimit.cls cX1_setLimit 5 p c s m args meth) (hr : meth.sig.returnType = (some .int)) (hin : meth.name = yX1_setLimit.name) {r : (ZX Int32)} {hh : PH} {mc ms : Nat} (hl0 : l.stackTraces = false) (ht : ∀ x ∈ c.exceptionTable.toList, False) : ∀ (n : Nat) (h : PH) (a0 : Nat) (v2 : Int32) (a3 : Nat) (v4 : Int32) (C9 S9 : Nat) (H : Heap) (locs : List Loc) (cells slots : Nat), f_X1_setLimit_b31 n h a0 v2 a3 v4 = some (r, hh, C9, S9) → cells + C9 = mc ∧ slots + S9 = ms → zM D dA b0 gs s h H locs → ∀ ls : Array Slot, lv_has ls 5 [(0, .ref a0), (2, .int v2), (3, .ref a3), (4, .int v4)] → W p l e ({ frames := 13, cells := mc, slots := ms, locals := 3137 } : Room) s m args below meth c H locs cells slots (vx_MQ below (zQX D dA b0 gs evI r hh) (zXC D dA b0 gs r hh) args s mc ms (zA b0)) (F0 m 31 ls []) := by
  have hx := hc.x
  have hb := hc.b
  intro n
  induction n with
  | zero =>
    intro h a0 v2 a3 v4 C9 S9 H locs cells slots hf hq hn ls hl
    cases hf
  | succ n ih =>
    intro h a0 v2 a3 v4 C9 S9 H locs cells slots hf hq hn ls hl
    unfold f_X1_setLimit_b31 at hf
    refine lv_iload hx hb dX1_setLimit_31 (lv_at hl 3 rfl) ?_
    refine lv_bipush (v := (6 : Int32)) hx hb dX1_setLimit_33 (by decide) ?_
    refine lv_icmp_ge (tgt := 64) hx hb dX1_setLimit_35 (by decide) (fun c9 => ?_) (fun c9 => ?_)
    · have hf := zif_t c9 hf
      refine lv_aload_n (x := a0) hx hb dX1_setLimit_64 rfl (lv_at hl 0 rfl) ?_
      refine zr_cVU (As := []) (rest := []) hc hn hq (ci := 0) rfl ⟨rfl, hd_X1_ends⟩ (lw_V q1941 q1943 qs28 q84 q1944) (Nat.le_of_ble_eq_true rfl) (Nat.le_of_ble_eq_true rfl) (fun _ _ _ _ q => m_X1_ends l D dA b0 gs h a0 q) hf dX1_setLimit_65 hl.1 rfl rfl (zroom (Nat.le_of_ble_eq_true rfl)) (fun x101 h102 H locs cells slots C9 S9 hf hq hn => ?_)
      refine lv_iload_n hx hb dX1_setLimit_68 rfl (lv_at hl 1 rfl) ?_
      obtain ⟨rfl, rfl, rfl, rfl⟩ := zretx_i hf
      exact zx_ret (zr_iret hc hn hr hq (fun _ _ _ _ q => ⟨_, rfl, q⟩) dX1_setLimit_69)
    · have hf := zif_f c9 hf
      refine lv_aload_n (x := a3) hx hb dX1_setLimit_38 rfl (lv_at hl 2 rfl) ?_
      refine zr_gPN hc hn (ci := 1) rfl rfl in_X2 0 (by decide) q187 (fun _ h => h) (fun _ _ _ => rfl) hf dX1_setLimit_39 (fun x103 hf => ?_)
      refine lv_iload hx hb dX1_setLimit_42 (lv_at hl 3 rfl) ?_
      obtain ⟨a104, e9, hf9⟩ := znn_i hf
      subst e9
      have hf := hf9
      clear hf9
      refine zr_aP (ai := 6) (by decide) hc hn hf dX1_setLimit_44 (fun x105 hf => ?_)
      refine zr_ifnull (tgt := 58) hx hb hf dX1_setLimit_45 (by decide) (fun e9 hf9 => ?_) (fun a106 e9 hf9 => ?_)
      · subst e9
        have hf := hf9
        clear hf9
        exact m_X1_setLimit_b58 hc hr hin hl0 ht (f_X1_setLimit_b31 n) ih h a0 v2 a3 v4 _ _ _ _ _ _ hf hq hn _ (lv_sub hl [0, 1, 2, 3] rfl)
      · subst e9
        have hf := hf9
        clear hf9
        refine lv_aload_n (x := a0) hx hb dX1_setLimit_48 rfl (lv_at hl 0 rfl) ?_
        refine lv_aload_n (x := a3) hx hb dX1_setLimit_49 rfl (lv_at hl 2 rfl) ?_
        refine lv_iload hx hb dX1_setLimit_50 (lv_at hl 3 rfl) ?_
        refine zr_cVP (As := [.int v4]) (rest := [.ref a0]) hc hn hq (ci := 1) rfl ⟨rfl, hd_X2_own⟩ (lw_V q1975 q1976 q1977 q85 q1978) (Nat.le_of_ble_eq_true rfl) (Nat.le_of_ble_eq_true rfl) (fun _ _ _ _ q => m_X2_own l D dA b0 gs h a3 v4 q) hf dX1_setLimit_52 hl.1 rfl rfl (zroom (Nat.le_of_ble_eq_true rfl)) (fun x107 h108 H locs cells slots C9 S9 hf hq hn => ?_)
        obtain ⟨a109, e9, hf9⟩ := znn_i hf
        subst e9
        have hf := hf9
        clear hf9
        refine zr_cVU (As := [.ref a109]) (rest := []) hc hn hq (ci := 0) rfl ⟨rfl, hd_X1_mends⟩ (lw_V q1980 q1982 qs29 q84 q1983) (Nat.le_of_ble_eq_true rfl) (Nat.le_of_ble_eq_true rfl) (fun _ _ _ _ q => m_X1_mends l D dA b0 gs h108 a0 a109 q) hf dX1_setLimit_55 hl.1 rfl rfl (zroom (Nat.le_of_ble_eq_true rfl)) (fun x110 h111 H locs cells slots C9 S9 hf hq hn => ?_)
        exact m_X1_setLimit_b58 hc hr hin hl0 ht (f_X1_setLimit_b31 n) ih h111 a0 v2 a3 v4 _ _ _ _ _ _ hf hq hn _ (lv_sub hl [0, 1, 2, 3] rfl)
set_option maxHeartbeats 4000000 in
set_option maxRecDepth 100000 in
theorem m_X1_setLimit (l : Launch) (hl0 : l.stackTraces = false) (D : va_G) (dA : Nat → ClassId) (b0 : Nat) (gs : Nat → Option Nat) (h : PH) (a0 : Nat) (v1 : Int32) {r : (ZX Int32)} {hh : PH} {mc ms : Nat} (hf : f_X1_setLimit h a0 v1 = some (r, hh, mc, ms)) : zMx l D dA b0 gs yX1_setLimit (ws_ yX1_setLimit cX1_setLimit 5 (some .int)) 13 3137 [.ref a0, .int v1] h evI r hh mc ms := by
  unfold f_X1_setLimit at hf
  refine zMx.of (by decide) (Nat.le_of_ble_eq_true rfl) ?_
  intro p e s m args below meth c hc hr hin ht hn ls hl
  have hl : lv_has ls 5 [(0, .ref a0), (1, .int v1)] := hl
  have hq : 0 + mc = mc ∧ 0 + ms = ms := ⟨Nat.zero_add _, Nat.zero_add _⟩
  have hx := hc.x
  have hb := hc.b
  refine lv_iload_n hx hb dX1_setLimit_0 rfl (lv_at hl 1 rfl) ?_
  refine lv_iconst (v := (2 : Int32)) hx hb dX1_setLimit_1 (by decide) ?_
  refine lv_bipush (v := (7 : Int32)) hx hb dX1_setLimit_2 (by decide) ?_
  refine zr_cSI (As := [.int v1, .int (2 : Int32), .int (7 : Int32)]) (rest := []) hc hn hq hd_X1_isIn (lw_S q259 q260 q84 q261) (Nat.le_of_ble_eq_true rfl) (Nat.le_of_ble_eq_true rfl) (fun _ _ _ _ q => m_X1_isIn l D dA b0 gs h v1 (2 : Int32) (7 : Int32) q) hf dX1_setLimit_4 hl.1 rfl rfl (zroom (Nat.le_of_ble_eq_true rfl)) (fun x101 h102 H locs cells slots C9 S9 hf hq hn => ?_)
  refine zx_SU (As := [.int x101]) (rest := []) hc hn hq (fun x hx => (ht x hx).elim) hd_X1_checkArgument (lw_S q1226 q1227 q84 q1228) (Nat.le_of_ble_eq_true rfl) (Nat.le_of_ble_eq_true rfl) (fun _ _ _ _ q => m_X1_checkArgument l hl0 D dA b0 gs h102 x101 q) hf dX1_setLimit_7 hl.1 rfl rfl (zroom (Nat.le_of_ble_eq_true rfl)) (fun x103 h104 H locs cells slots C9 S9 hf hq hn => ?_)
  refine lv_aload_n (x := a0) hx hb dX1_setLimit_10 rfl (lv_at hl 0 rfl) ?_
  refine zr_gP hc hn (ci := 0) rfl rfl in_X1 4 (by decide) q229 (fun _ h => h) (fun _ _ _ => rfl) hf dX1_setLimit_11 (fun x105 hf => ?_)
  obtain ⟨a106, e9, hf9⟩ := znn_i hf
  subst e9
  have hf := hf9
  clear hf9
  refine zr_gIN hc hn (ci := 1) rfl rfl in_X2 3 (by decide) q194 (fun _ h => h) (fun _ _ _ => rfl) hf dX1_setLimit_14 (fun x107 hf => ?_)
  refine lv_istore_n (i := 2) (lv' := [(2, .int x107), (0, .ref a0), (1, .int v1)]) hx hb dX1_setLimit_17 rfl hl (by decide) rfl (fun ls hl => ?_)
  refine lv_aload_n (x := a0) hx hb dX1_setLimit_18 rfl (lv_at hl 1 rfl) ?_
  refine zr_cVP (As := []) (rest := []) hc hn hq (ci := 0) rfl ⟨rfl, hd_X1_begin⟩ (lw_V q1881 q1883 qs25 q84 q1884) (Nat.le_of_ble_eq_true rfl) (Nat.le_of_ble_eq_true rfl) (fun _ _ _ _ q => m_X1_begin l D dA b0 gs h104 a0 q) hf dX1_setLimit_19 hl.1 rfl rfl (zroom (Nat.le_of_ble_eq_true rfl)) (fun x108 h109 H locs cells slots C9 S9 hf hq hn => ?_)
  refine zr_astore_n (x := x108) (i := 3) (lv' := [(3, va_rf x108), (2, .int x107), (0, .ref a0), (1, .int v1)]) hx hb dX1_setLimit_22 rfl hl (by decide) rfl (fun ls hl => ?_)
  refine zr_aload_n (x := x108) hx hb dX1_setLimit_23 rfl (lv_at hl 0 rfl) ?_
  refine lv_iload_n hx hb dX1_setLimit_24 rfl (lv_at hl 3 rfl) ?_
  obtain ⟨a110, e9, hf9⟩ := znn_i hf
  subst e9
  have hf := hf9
  clear hf9
  refine zr_pIN (x := v1) hc hn (ci := 1) rfl rfl in_X2 3 (by decide) tyX2 tyX2_ok nmX2 q194 (fun _ h => h) rfl (fun _ _ _ => rfl) rfl rfl hf dX1_setLimit_25 (fun h111 H locs hf hn => ?_)
  refine lv_iconst (v := (0 : Int32)) hx hb dX1_setLimit_28 (by decide) ?_
  refine lv_istore (lv' := [(4, .int (0 : Int32)), (3, .ref a110), (2, .int x107), (0, .ref a0), (1, .int v1)]) hx hb dX1_setLimit_29 hl (by decide) rfl (fun ls hl => ?_)
  exact m_X1_setLimit_b31 hc hr hin hl0 ht zFU h111 a0 x107 a110 (0 : Int32) _ _ _ _ _ _ hf hq hn _ (lv_sub hl [3, 2, 1, 0] rfl)
