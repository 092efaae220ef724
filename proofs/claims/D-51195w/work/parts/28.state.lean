/-! 28.state (written by gen/mods.py) -/
set_option maxRecDepth 100000
theorem hd_X2_init : yX2_init.cls ≠ "java/lang/invoke/MethodHandle" ∧ yX2_init.cls ≠ "java/lang/invoke/VarHandle" ∧ (parseMethodDescriptor yX2_init.desc).map (fun d => d.parameters.length) = some 1 := by decide +kernel
def f_X2_init (h : PH) (a0 : Nat) (v1 : Int32) : ZR Unit :=
  zna h 6 (6 : Int32) fun a101 h102 =>
  zpP h102 a0 1 0 (some a101) fun h103 =>
  zna h103 0 (6 : Int32) fun a104 h105 =>
  zpP h105 a0 1 1 (some a104) fun h106 =>
  zno h106 2 1 fun a107 h108 =>
  zcl (f_X3_init h108 a107) fun _ h110 =>
  zpP h110 a0 1 2 (some a107) fun h111 =>
  zpI h111 a0 1 3 v1 fun h112 =>
  zret () h112
set_option maxHeartbeats 4000000 in
set_option maxRecDepth 100000 in
theorem m_X2_init (l : Launch) (D : va_G) (dA : Nat → ClassId) (b0 : Nat) (gs : Nat → Option Nat) (h : PH) (a0 : Nat) (v1 : Int32) {r : Unit} {hh : PH} {mc ms : Nat} (hf : f_X2_init h a0 v1 = some (r, hh, mc, ms)) : zMt l D dA b0 gs yX2_init cX2_init 2 none 5 140 [.ref a0, .int v1] h (evU r) hh mc ms := by
  unfold f_X2_init at hf
  refine zMt.of (by decide) (Nat.le_of_ble_eq_true rfl) ?_
  intro p e s m args below meth c hc hr hin hn ls hl
  have hl : lv_has ls 2 [(0, .ref a0), (1, .int v1)] := hl
  have hq : 0 + mc = mc ∧ 0 + ms = ms := ⟨Nat.zero_add _, Nat.zero_add _⟩
  have hx := hc.x
  have hb := hc.b
  refine lv_aload_n (x := a0) hx hb dX2_init_0 rfl (lv_at hl 0 rfl) ?_
  refine W.objInit hx hb hc.ow (hc.ts _ q144) (hc.ts _ q137) (hc.ts _ q138) rfl (by rw [hc.ml]; exact hl.1) rfl dX2_init_1 (Nat.le_of_ble_eq_true rfl) (zroomL (Nat.le_of_ble_eq_true rfl) (Nat.le_of_ble_eq_true rfl)) ?_
  refine W.eq (g2 := F0 m 4 ls []) rfl ?_
  refine lv_aload_n (x := a0) hx hb dX2_init_4 rfl (lv_at hl 0 rfl) ?_
  refine lv_bipush (v := (6 : Int32)) hx hb dX2_init_5 (by decide) ?_
  refine zr_nq (ai := 6) hc hn hq (by decide) rfl q145 q146 hf dX2_init_7 (fun a101 h102 H cells slots C9 S9 hf hq hn => ?_)
  refine zr_pP (x := (some a101)) hc hn (ci := 1) rfl rfl in_X2 0 (by decide) tyX2 tyX2_ok nmX2 q185 (fun _ h => h) (Or.inr ⟨rfl, hin, rfl⟩) (fun _ _ _ => rfl) (zn_rf _ (by decide)) (zf_rf _ (by decide)) hf dX2_init_10 (fun h103 H locs hf hn => ?_)
  refine lv_aload_n (x := a0) hx hb dX2_init_13 rfl (lv_at hl 0 rfl) ?_
  refine lv_bipush (v := (6 : Int32)) hx hb dX2_init_14 (by decide) ?_
  refine zr_na0 hc hn hq q180 hf dX2_init_16 (fun a104 h105 H cells slots C9 S9 hf hq hn => ?_)
  refine zr_pP (x := (some a104)) hc hn (ci := 1) rfl rfl in_X2 1 (by decide) tyX2 tyX2_ok nmX2 q188 (fun _ h => h) (Or.inr ⟨rfl, hin, rfl⟩) (fun _ _ _ => rfl) (zn_rf _ (by decide)) (zf_rf _ (by decide)) hf dX2_init_18 (fun h106 H locs hf hn => ?_)
  refine lv_aload_n (x := a0) hx hb dX2_init_21 rfl (lv_at hl 0 rfl) ?_
  refine zr_new hc hn hq (ci := 2) rfl rfl in_X3 tyX3_ok q147 q148 q86 (zd_X3) hf dX2_init_22 (fun a107 h108 H cells slots C9 S9 hf hq hn => ?_)
  refine lv_dup hx hb dX2_init_25 rfl ?_
  refine zr_cIN (As := []) (rest := [.ref a107, .ref a0]) hc hn hq rfl hd_X3_init (lw_meth q151) q149 q150 q86 (Nat.le_of_ble_eq_true rfl) (Nat.le_of_ble_eq_true rfl) (fun _ _ _ _ q => m_X3_init l D dA b0 gs h108 a107 q) hf dX2_init_26 hl.1 rfl rfl (zroom (Nat.le_of_ble_eq_true rfl)) (fun x109 h110 H locs cells slots C9 S9 hf hq hn => ?_)
  refine zr_pP (x := (some a107)) hc hn (ci := 1) rfl rfl in_X2 2 (by decide) tyX2 tyX2_ok nmX2 q190 (fun _ h => h) (Or.inl rfl) (fun _ _ _ => rfl) (zn_rf _ (by decide)) (zf_rf _ (by decide)) hf dX2_init_29 (fun h111 H locs hf hn => ?_)
  refine lv_aload_n (x := a0) hx hb dX2_init_32 rfl (lv_at hl 0 rfl) ?_
  refine lv_iload_n hx hb dX2_init_33 rfl (lv_at hl 1 rfl) ?_
  refine zr_pI (x := v1) hc hn (ci := 1) rfl rfl in_X2 3 (by decide) tyX2 tyX2_ok nmX2 q192 (fun _ h => h) (Or.inl rfl) (fun _ _ _ => rfl) rfl rfl hf dX2_init_34 (fun h112 H locs hf hn => ?_)
  obtain ⟨rfl, rfl, rfl, rfl⟩ := zret_i hf
  exact zr_vret hc hn hr hq (fun _ _ _ _ q => q) dX2_init_37
theorem hd_X2_lists : yX2_lists.cls ≠ "java/lang/invoke/MethodHandle" ∧ yX2_lists.cls ≠ "java/lang/invoke/VarHandle" ∧ (parseMethodDescriptor yX2_lists.desc).map (fun d => d.parameters.length) = some 0 := by decide +kernel
def f_X2_lists_b36 (k13 : PH → Int32 → Nat → Int32 → Int32 → ZR Int32) (h : PH) (a2 : Nat) (v3 : Int32) (v4 : Int32) (s0 : Int32) (s1 : Int32) : ZR Int32 :=
  znm (s0 + s1) fun x101 =>
  znm (v4 + (1 : Int32)) fun x102 =>
  k13 h x101 a2 v3 x102
def f_X2_lists_b13 : Nat → PH → Int32 → Nat → Int32 → Int32 → ZR Int32
  | 0 => fun _ _ _ _ _ => none
  | n + 1 => fun h v1 a2 v3 v4 =>
    if v3 ≤ v4 then
      (zret v1 h)
    else
      (zaP h a2 6 v4 fun x101 =>
      znul x101
        (f_X2_lists_b36 (f_X2_lists_b13 n) h a2 v3 v4 v1 (0 : Int32))
        (fun a102 =>
          f_X2_lists_b36 (f_X2_lists_b13 n) h a2 v3 v4 v1 (1 : Int32)))
def f_X2_lists (h : PH) (a0 : Nat) : ZR Int32 :=
  zgP h a0 1 0 fun x101 =>
  znn x101 fun a102 =>
  zlen h a102 6 fun x103 =>
  f_X2_lists_b13 zFU h (0 : Int32) a102 x103 (0 : Int32)
set_option maxHeartbeats 4000000 in
set_option maxRecDepth 100000 in
theorem m_X2_lists_b36 {p : Program} {l : Launch} {e : Env} {s : State} {m : MethodId} {args : Array Value} {below : List Frame} {meth : Method} {c : Code} {D : va_G} {dA : Nat → ClassId} {b0 : Nat} {gs : Nat → Option Nat} (hc : zC D dA b0 gs yX2_lists.cls cX2_lists 6 p c s m args meth) (hr : meth.sig.returnType = (some .int)) (hin : meth.name = yX2_lists.name) {r : Int32} {hh : PH} {mc ms : Nat} (k13 : PH → Int32 → Nat → Int32 → Int32 → ZR Int32) (hk13 : ∀ (h : PH) (v1 : Int32) (a2 : Nat) (v3 : Int32) (v4 : Int32) (C9 S9 : Nat) (H : Heap) (locs : List Loc) (cells slots : Nat), k13 h v1 a2 v3 v4 = some (r, hh, C9, S9) → cells + C9 = mc ∧ slots + S9 = ms → zM D dA b0 gs s h H locs → ∀ ls : Array Slot, lv_has ls 6 [(1, .int v1), (2, .ref a2), (3, .int v3), (4, .int v4)] → W p l e ({ frames := 1, cells := mc, slots := ms, locals := 60 } : Room) s m args below meth c H locs cells slots (MQ below (zQ D dA b0 gs (evI r) hh) args s mc ms (zA b0)) (F0 m 13 ls [])) : ∀ (h : PH) (a2 : Nat) (v3 : Int32) (v4 : Int32) (s0 : Int32) (s1 : Int32) (C9 S9 : Nat) (H : Heap) (locs : List Loc) (cells slots : Nat), f_X2_lists_b36 k13 h a2 v3 v4 s0 s1 = some (r, hh, C9, S9) → cells + C9 = mc ∧ slots + S9 = ms → zM D dA b0 gs s h H locs → ∀ ls : Array Slot, lv_has ls 6 [(2, .ref a2), (3, .int v3), (4, .int v4)] → W p l e ({ frames := 1, cells := mc, slots := ms, locals := 60 } : Room) s m args below meth c H locs cells slots (MQ below (zQ D dA b0 gs (evI r) hh) args s mc ms (zA b0)) (F0 m 36 ls [.int s1, .int s0]) := by
  have hx := hc.x
  have hb := hc.b
  intro h a2 v3 v4 s0 s1 C9 S9 H locs cells slots hf hq hn ls hl
  unfold f_X2_lists_b36 at hf
  refine lv_iadd hx hb dX2_lists_36 ?_
  refine zr_nmI hf (fun x101 hf => ?_)
  refine lv_istore_n (i := 1) (lv' := [(1, .int x101), (2, .ref a2), (3, .int v3), (4, .int v4)]) hx hb dX2_lists_37 rfl hl (by decide) rfl (fun ls hl => ?_)
  obtain ⟨x102, ex102, hf⟩ := znm_i hf
  refine lv_iinc (v := x102) (lv' := [(4, .int x102), (1, .int x101), (2, .ref a2), (3, .int v3)]) hx hb dX2_lists_38 hl (k := 3) rfl (by rw [ex102]; rfl) (by decide) rfl (fun ls hl => ?_)
  refine lv_goto (tgt := 13) hx hb dX2_lists_41 (by decide) ?_
  exact hk13 h x101 a2 v3 x102 _ _ _ _ _ _ hf hq hn _ (lv_sub hl [1, 2, 3, 0] rfl)
set_option maxHeartbeats 4000000 in
set_option maxRecDepth 100000 in
theorem m_X2_lists_b13 {p : Program} {l : Launch} {e : Env} {s : State} {m : MethodId} {args : Array Value} {below : List Frame} {meth : Method} {c : Code} {D : va_G} {dA : Nat → ClassId} {b0 : Nat} {gs : Nat → Option Nat} (hc : zC D dA b0 gs yX2_lists.cls cX2_lists 6 p c s m args meth) (hr : meth.sig.returnType = (some .int)) (hin : meth.name = yX2_lists.name) {r : Int32} {hh : PH} {mc ms : Nat} : ∀ (n : Nat) (h : PH) (v1 : Int32) (a2 : Nat) (v3 : Int32) (v4 : Int32) (C9 S9 : Nat) (H : Heap) (locs : List Loc) (cells slots : Nat), f_X2_lists_b13 n h v1 a2 v3 v4 = some (r, hh, C9, S9) → cells + C9 = mc ∧ slots + S9 = ms → zM D dA b0 gs s h H locs → ∀ ls : Array Slot, lv_has ls 6 [(1, .int v1), (2, .ref a2), (3, .int v3), (4, .int v4)] → W p l e ({ frames := 1, cells := mc, slots := ms, locals := 60 } : Room) s m args below meth c H locs cells slots (MQ below (zQ D dA b0 gs (evI r) hh) args s mc ms (zA b0)) (F0 m 13 ls []) := by
  have hx := hc.x
  have hb := hc.b
  intro n
  induction n with
  | zero =>
    intro h v1 a2 v3 v4 C9 S9 H locs cells slots hf hq hn ls hl
    cases hf
  | succ n ih =>
    intro h v1 a2 v3 v4 C9 S9 H locs cells slots hf hq hn ls hl
    unfold f_X2_lists_b13 at hf
    refine lv_iload hx hb dX2_lists_13 (lv_at hl 3 rfl) ?_
    refine lv_iload_n hx hb dX2_lists_15 rfl (lv_at hl 2 rfl) ?_
    refine lv_icmp_ge (tgt := 44) hx hb dX2_lists_16 (by decide) (fun c9 => ?_) (fun c9 => ?_)
    · have hf := zif_t c9 hf
      refine lv_iload_n hx hb dX2_lists_44 rfl (lv_at hl 0 rfl) ?_
      obtain ⟨rfl, rfl, rfl, rfl⟩ := zret_i hf
      exact zr_iret hc hn hr hq (fun _ _ _ _ q => q) dX2_lists_45
    · have hf := zif_f c9 hf
      refine lv_aload_n (x := a2) hx hb dX2_lists_19 rfl (lv_at hl 1 rfl) ?_
      refine lv_iload hx hb dX2_lists_20 (lv_at hl 3 rfl) ?_
      refine zr_aP (ai := 6) (by decide) hc hn hf dX2_lists_22 (fun x101 hf => ?_)
      refine zr_astore (x := x101) (lv' := [(5, va_rf x101), (1, .int v1), (2, .ref a2), (3, .int v3), (4, .int v4)]) hx hb dX2_lists_23 hl (by decide) rfl (fun ls hl => ?_)
      refine lv_iload_n hx hb dX2_lists_25 rfl (lv_at hl 1 rfl) ?_
      refine zr_aload (x := x101) hx hb dX2_lists_26 (lv_at hl 0 rfl) ?_
      refine zr_ifnonnull (tgt := 35) hx hb hf dX2_lists_28 (by decide) (fun e9 hf9 => ?_) (fun a102 e9 hf9 => ?_)
      · subst e9
        have hf := hf9
        clear hf9
        refine lv_iconst (v := (0 : Int32)) hx hb dX2_lists_31 (by decide) ?_
        refine lv_goto (tgt := 36) hx hb dX2_lists_32 (by decide) ?_
        exact m_X2_lists_b36 hc hr hin (f_X2_lists_b13 n) ih h a2 v3 v4 v1 (0 : Int32) _ _ _ _ _ _ hf hq hn _ (lv_sub hl [2, 3, 4] rfl)
      · subst e9
        have hf := hf9
        clear hf9
        refine lv_iconst (v := (1 : Int32)) hx hb dX2_lists_35 (by decide) ?_
        exact m_X2_lists_b36 hc hr hin (f_X2_lists_b13 n) ih h a2 v3 v4 v1 (1 : Int32) _ _ _ _ _ _ hf hq hn _ (lv_sub hl [2, 3, 4] rfl)
set_option maxHeartbeats 4000000 in
set_option maxRecDepth 100000 in
theorem m_X2_lists (l : Launch) (D : va_G) (dA : Nat → ClassId) (b0 : Nat) (gs : Nat → Option Nat) (h : PH) (a0 : Nat) {r : Int32} {hh : PH} {mc ms : Nat} (hf : f_X2_lists h a0 = some (r, hh, mc, ms)) : zMt l D dA b0 gs yX2_lists cX2_lists 6 (some .int) 1 60 [.ref a0] h (evI r) hh mc ms := by
  unfold f_X2_lists at hf
  refine zMt.of (by decide) (Nat.le_of_ble_eq_true rfl) ?_
  intro p e s m args below meth c hc hr hin hn ls hl
  have hl : lv_has ls 6 [(0, .ref a0)] := hl
  have hq : 0 + mc = mc ∧ 0 + ms = ms := ⟨Nat.zero_add _, Nat.zero_add _⟩
  have hx := hc.x
  have hb := hc.b
  refine lv_iconst (v := (0 : Int32)) hx hb dX2_lists_0 (by decide) ?_
  refine lv_istore_n (i := 1) (lv' := [(1, .int (0 : Int32)), (0, .ref a0)]) hx hb dX2_lists_1 rfl hl (by decide) rfl (fun ls hl => ?_)
  refine lv_aload_n (x := a0) hx hb dX2_lists_2 rfl (lv_at hl 1 rfl) ?_
  refine zr_gP hc hn (ci := 1) rfl rfl in_X2 0 (by decide) q185 (fun _ h => h) (fun _ _ _ => rfl) hf dX2_lists_3 (fun x101 hf => ?_)
  refine zr_astore_n (x := x101) (i := 2) (lv' := [(2, va_rf x101), (1, .int (0 : Int32)), (0, .ref a0)]) hx hb dX2_lists_6 rfl hl (by decide) rfl (fun ls hl => ?_)
  refine zr_aload_n (x := x101) hx hb dX2_lists_7 rfl (lv_at hl 0 rfl) ?_
  obtain ⟨a102, e9, hf9⟩ := znn_i hf
  subst e9
  have hf := hf9
  clear hf9
  refine zr_len (ai := 6) hc hn hf dX2_lists_8 (fun x103 hf => ?_)
  refine lv_istore_n (i := 3) (lv' := [(3, .int x103), (2, .ref a102), (1, .int (0 : Int32)), (0, .ref a0)]) hx hb dX2_lists_9 rfl hl (by decide) rfl (fun ls hl => ?_)
  refine lv_iconst (v := (0 : Int32)) hx hb dX2_lists_10 (by decide) ?_
  refine lv_istore (lv' := [(4, .int (0 : Int32)), (3, .int x103), (2, .ref a102), (1, .int (0 : Int32)), (0, .ref a0)]) hx hb dX2_lists_11 hl (by decide) rfl (fun ls hl => ?_)
  exact m_X2_lists_b13 hc hr hin zFU h (0 : Int32) a102 x103 (0 : Int32) _ _ _ _ _ _ hf hq hn _ (lv_sub hl [3, 2, 1, 0] rfl)
theorem hd_X2_free : yX2_free.cls ≠ "java/lang/invoke/MethodHandle" ∧ yX2_free.cls ≠ "java/lang/invoke/VarHandle" ∧ (parseMethodDescriptor yX2_free.desc).map (fun d => d.parameters.length) = some 0 := by decide +kernel
def f_X2_free_b2 : Nat → PH → Nat → Int32 → ZR Int32
  | 0 => fun _ _ _ => none
  | n + 1 => fun h a0 v1 =>
    if (6 : Int32) ≤ v1 then
      (zret (-1 : Int32) h)
    else
      (zgP h a0 1 0 fun x101 =>
      znn x101 fun a102 =>
      zaP h a102 6 v1 fun x103 =>
      znul x103
        (zret v1 h)
        (fun a104 =>
          znm (v1 + (1 : Int32)) fun x105 =>
          f_X2_free_b2 n h a0 x105))
def f_X2_free (h : PH) (a0 : Nat) : ZR Int32 :=
  f_X2_free_b2 zFU h a0 (0 : Int32)
set_option maxHeartbeats 4000000 in
set_option maxRecDepth 100000 in
theorem m_X2_free_b2 {p : Program} {l : Launch} {e : Env} {s : State} {m : MethodId} {args : Array Value} {below : List Frame} {meth : Method} {c : Code} {D : va_G} {dA : Nat → ClassId} {b0 : Nat} {gs : Nat → Option Nat} (hc : zC D dA b0 gs yX2_free.cls cX2_free 2 p c s m args meth) (hr : meth.sig.returnType = (some .int)) (hin : meth.name = yX2_free.name) {r : Int32} {hh : PH} {mc ms : Nat} : ∀ (n : Nat) (h : PH) (a0 : Nat) (v1 : Int32) (C9 S9 : Nat) (H : Heap) (locs : List Loc) (cells slots : Nat), f_X2_free_b2 n h a0 v1 = some (r, hh, C9, S9) → cells + C9 = mc ∧ slots + S9 = ms → zM D dA b0 gs s h H locs → ∀ ls : Array Slot, lv_has ls 2 [(0, .ref a0), (1, .int v1)] → W p l e ({ frames := 1, cells := mc, slots := ms, locals := 60 } : Room) s m args below meth c H locs cells slots (MQ below (zQ D dA b0 gs (evI r) hh) args s mc ms (zA b0)) (F0 m 2 ls []) := by
  have hx := hc.x
  have hb := hc.b
  intro n
  induction n with
  | zero =>
    intro h a0 v1 C9 S9 H locs cells slots hf hq hn ls hl
    cases hf
  | succ n ih =>
    intro h a0 v1 C9 S9 H locs cells slots hf hq hn ls hl
    unfold f_X2_free_b2 at hf
    refine lv_iload_n hx hb dX2_free_2 rfl (lv_at hl 1 rfl) ?_
    refine lv_bipush (v := (6 : Int32)) hx hb dX2_free_3 (by decide) ?_
    refine lv_icmp_ge (tgt := 25) hx hb dX2_free_5 (by decide) (fun c9 => ?_) (fun c9 => ?_)
    · have hf := zif_t c9 hf
      refine lv_iconst (v := (-1 : Int32)) hx hb dX2_free_25 (by decide) ?_
      obtain ⟨rfl, rfl, rfl, rfl⟩ := zret_i hf
      exact zr_iret hc hn hr hq (fun _ _ _ _ q => q) dX2_free_26
    · have hf := zif_f c9 hf
      refine lv_aload_n (x := a0) hx hb dX2_free_8 rfl (lv_at hl 0 rfl) ?_
      refine zr_gP hc hn (ci := 1) rfl rfl in_X2 0 (by decide) q185 (fun _ h => h) (fun _ _ _ => rfl) hf dX2_free_9 (fun x101 hf => ?_)
      refine lv_iload_n hx hb dX2_free_12 rfl (lv_at hl 1 rfl) ?_
      obtain ⟨a102, e9, hf9⟩ := znn_i hf
      subst e9
      have hf := hf9
      clear hf9
      refine zr_aP (ai := 6) (by decide) hc hn hf dX2_free_13 (fun x103 hf => ?_)
      refine zr_ifnonnull (tgt := 19) hx hb hf dX2_free_14 (by decide) (fun e9 hf9 => ?_) (fun a104 e9 hf9 => ?_)
      · subst e9
        have hf := hf9
        clear hf9
        refine lv_iload_n hx hb dX2_free_17 rfl (lv_at hl 1 rfl) ?_
        obtain ⟨rfl, rfl, rfl, rfl⟩ := zret_i hf
        exact zr_iret hc hn hr hq (fun _ _ _ _ q => q) dX2_free_18
      · subst e9
        have hf := hf9
        clear hf9
        obtain ⟨x105, ex105, hf⟩ := znm_i hf
        refine lv_iinc (v := x105) (lv' := [(1, .int x105), (0, .ref a0)]) hx hb dX2_free_19 hl (k := 1) rfl (by rw [ex105]; rfl) (by decide) rfl (fun ls hl => ?_)
        refine lv_goto (tgt := 2) hx hb dX2_free_22 (by decide) ?_
        exact ih h a0 x105 _ _ _ _ _ _ hf hq hn _ (lv_sub hl [1, 0] rfl)
set_option maxHeartbeats 4000000 in
set_option maxRecDepth 100000 in
theorem m_X2_free (l : Launch) (D : va_G) (dA : Nat → ClassId) (b0 : Nat) (gs : Nat → Option Nat) (h : PH) (a0 : Nat) {r : Int32} {hh : PH} {mc ms : Nat} (hf : f_X2_free h a0 = some (r, hh, mc, ms)) : zMt l D dA b0 gs yX2_free cX2_free 2 (some .int) 1 60 [.ref a0] h (evI r) hh mc ms := by
  unfold f_X2_free at hf
  refine zMt.of (by decide) (Nat.le_of_ble_eq_true rfl) ?_
  intro p e s m args below meth c hc hr hin hn ls hl
  have hl : lv_has ls 2 [(0, .ref a0)] := hl
  have hq : 0 + mc = mc ∧ 0 + ms = ms := ⟨Nat.zero_add _, Nat.zero_add _⟩
  have hx := hc.x
  have hb := hc.b
  refine lv_iconst (v := (0 : Int32)) hx hb dX2_free_0 (by decide) ?_
  refine lv_istore_n (i := 1) (lv' := [(1, .int (0 : Int32)), (0, .ref a0)]) hx hb dX2_free_1 rfl hl (by decide) rfl (fun ls hl => ?_)
  exact m_X2_free_b2 hc hr hin zFU h a0 (0 : Int32) _ _ _ _ _ _ hf hq hn _ (lv_sub hl [1, 0] rfl)
theorem hd_X2_copy : yX2_copy.cls ≠ "java/lang/invoke/MethodHandle" ∧ yX2_copy.cls ≠ "java/lang/invoke/VarHandle" ∧ (parseMethodDescriptor yX2_copy.desc).map (fun d => d.parameters.length) = some 0 := by decide +kernel
def f_X2_copy (h : PH) (a0 : Nat) : ZR Nat :=
  zno h 1 4 fun a101 h102 =>
  zgI h102 a0 1 3 fun x103 =>
  zcl (f_X2_init h102 a101 x103) fun _ h105 =>
  zgP h105 a0 1 0 fun x106 =>
  zgP h105 a101 1 0 fun x107 =>
  znn x107 fun a108 =>
  znn x106 fun a109 =>
  zcpP h105 a109 a108 6 6 (0 : Int32) (0 : Int32) (6 : Int32) fun h110 =>
  zgP h110 a0 1 1 fun x111 =>
  zgP h110 a101 1 1 fun x112 =>
  znn x112 fun a113 =>
  znn x111 fun a114 =>
  zcpI h110 a114 a113 0 (0 : Int32) (0 : Int32) (6 : Int32) fun h115 =>
  zgP h115 a0 1 2 fun x116 =>
  zpP h115 a101 1 2 x116 fun h117 =>
  zret a101 h117
set_option maxHeartbeats 4000000 in
set_option maxRecDepth 100000 in
theorem m_X2_copy (l : Launch) (D : va_G) (dA : Nat → ClassId) (b0 : Nat) (gs : Nat → Option Nat) (h : PH) (a0 : Nat) {r : Nat} {hh : PH} {mc ms : Nat} (hf : f_X2_copy h a0 = some (r, hh, mc, ms)) : zMt l D dA b0 gs yX2_copy cX2_copy 2 (some (.object "CountedSkipLists$State")) 6 161 [.ref a0] h (evN r) hh mc ms := by
  unfold f_X2_copy at hf
  refine zMt.of (by decide) (Nat.le_of_ble_eq_true rfl) ?_
  intro p e s m args below meth c hc hr hin hn ls hl
  have hl : lv_has ls 2 [(0, .ref a0)] := hl
  have hq : 0 + mc = mc ∧ 0 + ms = ms := ⟨Nat.zero_add _, Nat.zero_add _⟩
  have hx := hc.x
  have hb := hc.b
  refine zr_new hc hn hq (ci := 1) rfl rfl in_X2 tyX2_ok q1933 q140 q85 (zd_X2) hf dX2_copy_0 (fun a101 h102 H cells slots C9 S9 hf hq hn => ?_)
  refine lv_dup hx hb dX2_copy_3 rfl ?_
  refine lv_aload_n (x := a0) hx hb dX2_copy_4 rfl (lv_at hl 0 rfl) ?_
  refine zr_gI hc hn (ci := 1) rfl rfl in_X2 3 (by decide) q192 (fun _ h => h) (fun _ _ _ => rfl) hf dX2_copy_5 (fun x103 hf => ?_)
  refine zr_cI (As := [.int x103]) (rest := [.ref a101]) hc hn hq rfl hd_X2_init (lw_meth q143) q1934 q142 q85 (Nat.le_of_ble_eq_true rfl) (Nat.le_of_ble_eq_true rfl) (fun _ _ _ _ q => m_X2_init l D dA b0 gs h102 a101 x103 q) hf dX2_copy_8 hl.1 rfl rfl (zroom (Nat.le_of_ble_eq_true rfl)) (fun x104 h105 H locs cells slots C9 S9 hf hq hn => ?_)
  refine lv_astore_n (x := a101) (i := 1) (lv' := [(1, .ref a101), (0, .ref a0)]) hx hb dX2_copy_11 rfl hl (by decide) rfl (fun ls hl => ?_)
  refine lv_aload_n (x := a0) hx hb dX2_copy_12 rfl (lv_at hl 1 rfl) ?_
  refine zr_gP hc hn (ci := 1) rfl rfl in_X2 0 (by decide) q185 (fun _ h => h) (fun _ _ _ => rfl) hf dX2_copy_13 (fun x106 hf => ?_)
  refine lv_iconst (v := (0 : Int32)) hx hb dX2_copy_16 (by decide) ?_
  refine lv_aload_n (x := a101) hx hb dX2_copy_17 rfl (lv_at hl 0 rfl) ?_
  refine zr_gP hc hn (ci := 1) rfl rfl in_X2 0 (by decide) q185 (fun _ h => h) (fun _ _ _ => rfl) hf dX2_copy_18 (fun x107 hf => ?_)
  refine lv_iconst (v := (0 : Int32)) hx hb dX2_copy_21 (by decide) ?_
  refine lv_bipush (v := (6 : Int32)) hx hb dX2_copy_22 (by decide) ?_
  obtain ⟨a108, e9, hf9⟩ := znn_i hf
  subst e9
  have hf := hf9
  clear hf9
  obtain ⟨a109, e9, hf9⟩ := znn_i hf
  subst e9
  have hf := hf9
  clear hf9
  refine zr_cpP (ai := 6) hc hn (by decide) hl.1 q1935 q519 q518 q108 hf (zroom (Nat.le_of_ble_eq_true rfl)) (Nat.le_of_ble_eq_true rfl) (Nat.le_of_ble_eq_true rfl) dX2_copy_24 (fun h110 H locs hf hn => ?_)
  refine lv_aload_n (x := a0) hx hb dX2_copy_27 rfl (lv_at hl 1 rfl) ?_
  refine zr_gP hc hn (ci := 1) rfl rfl in_X2 1 (by decide) q188 (fun _ h => h) (fun _ _ _ => rfl) hf dX2_copy_28 (fun x111 hf => ?_)
  refine lv_iconst (v := (0 : Int32)) hx hb dX2_copy_31 (by decide) ?_
  refine lv_aload_n (x := a101) hx hb dX2_copy_32 rfl (lv_at hl 0 rfl) ?_
  refine zr_gP hc hn (ci := 1) rfl rfl in_X2 1 (by decide) q188 (fun _ h => h) (fun _ _ _ => rfl) hf dX2_copy_33 (fun x112 hf => ?_)
  refine lv_iconst (v := (0 : Int32)) hx hb dX2_copy_36 (by decide) ?_
  refine lv_bipush (v := (6 : Int32)) hx hb dX2_copy_37 (by decide) ?_
  obtain ⟨a113, e9, hf9⟩ := znn_i hf
  subst e9
  have hf := hf9
  clear hf9
  obtain ⟨a114, e9, hf9⟩ := znn_i hf
  subst e9
  have hf := hf9
  clear hf9
  refine zr_cpI (ai := 0) hc hn (by decide) hl.1 q1935 q519 q518 q108 hf (zroom (Nat.le_of_ble_eq_true rfl)) (Nat.le_of_ble_eq_true rfl) (Nat.le_of_ble_eq_true rfl) dX2_copy_39 (fun h115 H locs hf hn => ?_)
  refine lv_aload_n (x := a101) hx hb dX2_copy_42 rfl (lv_at hl 0 rfl) ?_
  refine lv_aload_n (x := a0) hx hb dX2_copy_43 rfl (lv_at hl 1 rfl) ?_
  refine zr_gP hc hn (ci := 1) rfl rfl in_X2 2 (by decide) q190 (fun _ h => h) (fun _ _ _ => rfl) hf dX2_copy_44 (fun x116 hf => ?_)
  refine zr_pP (x := x116) hc hn (ci := 1) rfl rfl in_X2 2 (by decide) tyX2 tyX2_ok nmX2 q190 (fun _ h => h) (Or.inl rfl) (fun _ _ _ => rfl) (zn_rf _ (by decide)) (zf_rf _ (by decide)) hf dX2_copy_47 (fun h117 H locs hf hn => ?_)
  refine lv_aload_n (x := a101) hx hb dX2_copy_50 rfl (lv_at hl 0 rfl) ?_
  obtain ⟨rfl, rfl, rfl, rfl⟩ := zret_i hf
  exact zr_nret hc hn hr (Or.inl ⟨_, rfl⟩) hq (fun _ _ _ _ q => q) dX2_copy_51
theorem hd_X2_own : yX2_own.cls ≠ "java/lang/invoke/MethodHandle" ∧ yX2_own.cls ≠ "java/lang/invoke/VarHandle" ∧ (parseMethodDescriptor yX2_own.desc).map (fun d => d.parameters.length) = some 1 := by decide +kernel
def f_X2_own (h : PH) (a0 : Nat) (v1 : Int32) : ZR (Option Nat) :=
  zgP h a0 1 0 fun x101 =>
  zgP h a0 1 0 fun x102 =>
  znn x102 fun a103 =>
  zaP h a103 6 v1 fun x104 =>
  znn x104 fun a105 =>
  zrc h a105 6 <| zcl (f_X7_copy h a105) fun x106 h107 =>
  znn x101 fun a108 =>
  zsO h107 a108 6 v1 (some x106) fun h109 =>
  zgP h109 a0 1 0 fun x110 =>
  znn x110 fun a111 =>
  zaP h109 a111 6 v1 fun x112 =>
  zret x112 h109
set_option maxHeartbeats 4000000 in
set_option maxRecDepth 100000 in
theorem m_X2_own (l : Launch) (D : va_G) (dA : Nat → ClassId) (b0 : Nat) (gs : Nat → Option Nat) (h : PH) (a0 : Nat) (v1 : Int32) {r : (Option Nat)} {hh : PH} {mc ms : Nat} (hf : f_X2_own h a0 v1 = some (r, hh, mc, ms)) : zMt l D dA b0 gs yX2_own cX2_own 2 (some (.object "CountedSkipLists$SkipList")) 5 155 [.ref a0, .int v1] h (evP r) hh mc ms := by
  unfold f_X2_own at hf
  refine zMt.of (by decide) (Nat.le_of_ble_eq_true rfl) ?_
  intro p e s m args below meth c hc hr hin hn ls hl
  have hl : lv_has ls 2 [(0, .ref a0), (1, .int v1)] := hl
  have hq : 0 + mc = mc ∧ 0 + ms = ms := ⟨Nat.zero_add _, Nat.zero_add _⟩
  have hx := hc.x
  have hb := hc.b
  refine lv_aload_n (x := a0) hx hb dX2_own_0 rfl (lv_at hl 0 rfl) ?_
  refine zr_gP hc hn (ci := 1) rfl rfl in_X2 0 (by decide) q185 (fun _ h => h) (fun _ _ _ => rfl) hf dX2_own_1 (fun x101 hf => ?_)
  refine lv_iload_n hx hb dX2_own_4 rfl (lv_at hl 1 rfl) ?_
  refine lv_aload_n (x := a0) hx hb dX2_own_5 rfl (lv_at hl 0 rfl) ?_
  refine zr_gP hc hn (ci := 1) rfl rfl in_X2 0 (by decide) q185 (fun _ h => h) (fun _ _ _ => rfl) hf dX2_own_6 (fun x102 hf => ?_)
  refine lv_iload_n hx hb dX2_own_9 rfl (lv_at hl 1 rfl) ?_
  obtain ⟨a103, e9, hf9⟩ := znn_i hf
  subst e9
  have hf := hf9
  clear hf9
  refine zr_aP (ai := 6) (by decide) hc hn hf dX2_own_10 (fun x104 hf => ?_)
  obtain ⟨a105, e9, hf9⟩ := znn_i hf
  subst e9
  have hf := hf9
  clear hf9
  refine zr_cVN (As := []) (rest := [.int v1, va_rf x101]) hc hn hq (ci := 6) rfl ⟨rfl, hd_X7_copy⟩ (lw_V q1979 q1748 q1749 q115 q1750) (Nat.le_of_ble_eq_true rfl) (Nat.le_of_ble_eq_true rfl) (fun _ _ _ _ q => m_X7_copy l D dA b0 gs h a105 q) hf dX2_own_11 hl.1 rfl rfl (zroom (Nat.le_of_ble_eq_true rfl)) (fun x106 h107 H locs cells slots C9 S9 hf hq hn => ?_)
  obtain ⟨a108, e9, hf9⟩ := znn_i hf
  subst e9
  have hf := hf9
  clear hf9
  refine zr_sO (ai := 6) (x := (some x106)) (by decide) hc hn hf dX2_own_14 (fun h109 H locs hf hn => ?_)
  refine lv_aload_n (x := a0) hx hb dX2_own_15 rfl (lv_at hl 0 rfl) ?_
  refine zr_gP hc hn (ci := 1) rfl rfl in_X2 0 (by decide) q185 (fun _ h => h) (fun _ _ _ => rfl) hf dX2_own_16 (fun x110 hf => ?_)
  refine lv_iload_n hx hb dX2_own_19 rfl (lv_at hl 1 rfl) ?_
  obtain ⟨a111, e9, hf9⟩ := znn_i hf
  subst e9
  have hf := hf9
  clear hf9
  refine zr_aP (ai := 6) (by decide) hc hn hf dX2_own_20 (fun x112 hf => ?_)
  obtain ⟨rfl, rfl, rfl, rfl⟩ := zret_i hf
  exact zr_aret (x := x112) hc hn hr (Or.inl ⟨_, rfl⟩) hq (fun _ _ _ _ q => q) dX2_own_21
theorem hd_X6_init : yX6_init.cls ≠ "java/lang/invoke/MethodHandle" ∧ yX6_init.cls ≠ "java/lang/invoke/VarHandle" ∧ (parseMethodDescriptor yX6_init.desc).map (fun d => d.parameters.length) = some 2 := by decide +kernel
def f_X6_init (h : PH) (a0 : Nat) (v1 : Int32) (v2 : Int32) : ZR Unit :=
  zcl (f_J5_init_3 h a0 (none : Option Nat) (none : Option Nat) (0 : Int32) (0 : Int32)) fun _ h102 =>
  zpI h102 a0 5 6 v1 fun h103 =>
  zpI h103 a0 5 7 v2 fun h104 =>
  zret () h104
set_option maxHeartbeats 4000000 in
set_option maxRecDepth 100000 in
theorem m_X6_init (l : Launch) (D : va_G) (dA : Nat → ClassId) (b0 : Nat) (gs : Nat → Option Nat) (h : PH) (a0 : Nat) (v1 : Int32) (v2 : Int32) {r : Unit} {hh : PH} {mc ms : Nat} (hf : f_X6_init h a0 v1 v2 = some (r, hh, mc, ms)) : zMt l D dA b0 gs yX6_init cX6_init 3 none 3 108 [.ref a0, .int v1, .int v2] h (evU r) hh mc ms := by
  unfold f_X6_init at hf
  refine zMt.of (by decide) (Nat.le_of_ble_eq_true rfl) ?_
  intro p e s m args below meth c hc hr hin hn ls hl
  have hl : lv_has ls 3 [(0, .ref a0), (1, .int v1), (2, .int v2)] := hl
  have hq : 0 + mc = mc ∧ 0 + ms = ms := ⟨Nat.zero_add _, Nat.zero_add _⟩
  have hx := hc.x
  have hb := hc.b
  refine lv_aload_n (x := a0) hx hb dX6_init_0 rfl (lv_at hl 0 rfl) ?_
  refine lv_null hx hb dX6_init_1 ?_
  refine lv_null hx hb dX6_init_2 ?_
  refine lv_iconst (v := (0 : Int32)) hx hb dX6_init_3 (by decide) ?_
  refine lv_iconst (v := (0 : Int32)) hx hb dX6_init_4 (by decide) ?_
  refine zr_cI (As := [.null, .null, .int (0 : Int32), .int (0 : Int32)]) (rest := []) hc hn hq rfl hd_J5_init_3 (lw_meth q790) q788 q789 q93 (Nat.le_of_ble_eq_true rfl) (Nat.le_of_ble_eq_true rfl) (fun _ _ _ _ q => m_J5_init_3 l D dA b0 gs h a0 (none : Option Nat) (none : Option Nat) (0 : Int32) (0 : Int32) q) hf dX6_init_5 hl.1 rfl rfl (zroom (Nat.le_of_ble_eq_true rfl)) (fun x101 h102 H locs cells slots C9 S9 hf hq hn => ?_)
  refine lv_aload_n (x := a0) hx hb dX6_init_8 rfl (lv_at hl 0 rfl) ?_
  refine lv_iload_n hx hb dX6_init_9 rfl (lv_at hl 1 rfl) ?_
  refine zr_pI (x := v1) hc hn (ci := 5) rfl rfl in_X6 6 (by decide) tyX6 tyX6_ok nmX6 q794 (fun _ h => h) (Or.inr ⟨rfl, hin, rfl⟩) (fun _ _ _ => rfl) rfl rfl hf dX6_init_10 (fun h103 H locs hf hn => ?_)
  refine lv_aload_n (x := a0) hx hb dX6_init_13 rfl (lv_at hl 0 rfl) ?_
  refine lv_iload_n hx hb dX6_init_14 rfl (lv_at hl 2 rfl) ?_
  refine zr_pI (x := v2) hc hn (ci := 5) rfl rfl in_X6 7 (by decide) tyX6 tyX6_ok nmX6 q796 (fun _ h => h) (Or.inr ⟨rfl, hin, rfl⟩) (fun _ _ _ => rfl) rfl rfl hf dX6_init_15 (fun h104 H locs hf hn => ?_)
  obtain ⟨rfl, rfl, rfl, rfl⟩ := zret_i hf
  exact zr_vret hc hn hr hq (fun _ _ _ _ q => q) dX6_init_18
