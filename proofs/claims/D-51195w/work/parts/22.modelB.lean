/-! 22.modelB (written by gen/mods.py) -/
set_option maxRecDepth 100000
theorem hd_X4_fillsGap : yX4_fillsGap.cls ≠ "java/lang/invoke/MethodHandle" ∧ yX4_fillsGap.cls ≠ "java/lang/invoke/VarHandle" ∧ (parseMethodDescriptor yX4_fillsGap.desc).map (fun d => d.parameters.length) = some 4 := by decide +kernel
def f_X4_fillsGap_b178 (k149 : PH → Nat → Int32 → Int32 → Int32 → Int32 → Int32 → ZR Unit) (h : PH) (a0 : Nat) (v2 : Int32) (v5 : Int32) (v6 : Int32) (v7 : Int32) (s0 : Int32) (s1 : Int32) : ZR Unit :=
  znm (s0 + s1) fun x101 =>
  k149 h a0 v2 v5 v6 v7 x101
def f_X4_fillsGap_b149 : Nat → PH → Nat → Int32 → Int32 → Int32 → Int32 → Int32 → ZR Unit
  | 0 => fun _ _ _ _ _ _ _ => none
  | n + 1 => fun h a0 v2 v5 v6 v7 v10 =>
    zgP h a0 3 1 fun x101 =>
    znm (v5 + (122 : Int32)) fun x102 =>
    znm (x102 + v10) fun x103 =>
    znn x101 fun a104 =>
    zaI h a104 0 x103 fun x105 =>
    if x105 = v2 then
      (zgP h a0 3 1 fun x106 =>
      znm (v5 + (122 : Int32)) fun x107 =>
      znm (x107 + v10) fun x108 =>
      znn x106 fun a109 =>
      zaI h a109 0 x108 fun x110 =>
      znm (x110 + (1 : Int32)) fun x111 =>
      zsI h a109 0 x108 x111 fun h112 =>
      zgP h112 a0 3 1 fun x113 =>
      znm (v5 + (2 : Int32)) fun x114 =>
      znm (x114 + v7) fun x115 =>
      znn x113 fun a116 =>
      zaI h112 a116 0 x115 fun x117 =>
      zrc h112 a0 3 <| zcl (f_X4_logs h112 a0 (1 : Int32) v2 x117) fun _ h119 =>
      zret () h119)
    else
      (if v6 = 0 then
        (f_X4_fillsGap_b178 (f_X4_fillsGap_b149 n) h a0 v2 v5 v6 v7 v10 (1 : Int32))
      else
        (f_X4_fillsGap_b178 (f_X4_fillsGap_b149 n) h a0 v2 v5 v6 v7 v10 (-1 : Int32)))
def f_X4_fillsGap_b147 (h : PH) (a0 : Nat) (v2 : Int32) (v5 : Int32) (v6 : Int32) (v7 : Int32) (s0 : Int32) : ZR Unit :=
  f_X4_fillsGap_b149 zFU h a0 v2 v5 v6 v7 s0
def f_X4_fillsGap_b106 (h : PH) (a0 : Nat) (v2 : Int32) (v5 : Int32) (v6 : Int32) (v7 : Int32) (s0 : Int32) : ZR Unit :=
  zgP h a0 3 1 fun x101 =>
  znm (v5 + (122 : Int32)) fun x102 =>
  znm (x102 + v7) fun x103 =>
  znn x101 fun a104 =>
  zaI h a104 0 x103 fun x105 =>
  znm (x105 - (1 : Int32)) fun x106 =>
  zsI h a104 0 x103 x106 fun h107 =>
  if s0 < (2 : Int32) then
    (zgP h107 a0 3 1 fun x108 =>
    znm (v5 + (2 : Int32)) fun x109 =>
    znm (x109 + v7) fun x110 =>
    znn x108 fun a111 =>
    zaI h107 a111 0 x110 fun x112 =>
    zrc h107 a0 3 <| zcl (f_X4_logs h107 a0 (2 : Int32) v2 x112) fun _ h114 =>
    zret () h114)
  else
    (if v6 = 0 then
      (znm (v7 + (1 : Int32)) fun x115 =>
      f_X4_fillsGap_b147 h107 a0 v2 v5 v6 v7 x115)
    else
      (znm (v7 - (1 : Int32)) fun x116 =>
      f_X4_fillsGap_b147 h107 a0 v2 v5 v6 v7 x116))
def f_X4_fillsGap_b76 (h : PH) (a0 : Nat) (v1 : Int32) (v2 : Int32) (v5 : Int32) (v6 : Int32) (v7 : Int32) (s0 : Int32) : ZR Unit :=
  if v6 = 0 then
    (zrc h a0 3 <| zcl (f_X4_between h a0 v1 v2 v7 s0) fun x101 h102 =>
    f_X4_fillsGap_b106 h102 a0 v2 v5 v6 v7 x101)
  else
    (zrc h a0 3 <| zcl (f_X4_between h a0 v1 v2 s0 v7) fun x103 h104 =>
    f_X4_fillsGap_b106 h104 a0 v2 v5 v6 v7 x103)
def f_X4_fillsGap_b46 (h : PH) (a0 : Nat) (v1 : Int32) (v2 : Int32) (v5 : Int32) (v6 : Int32) (s0 : Int32) : ZR Unit :=
  if v6 = 0 then
    (znm (v2 + (1 : Int32)) fun x101 =>
    zrc h a0 3 <| zcl (f_X4_after h a0 v1 x101 s0) fun x102 h103 =>
    f_X4_fillsGap_b76 h103 a0 v1 v2 v5 v6 s0 x102)
  else
    (znm (v2 + (1 : Int32)) fun x104 =>
    zrc h a0 3 <| zcl (f_X4_ahead h a0 v1 x104 s0) fun x105 h106 =>
    f_X4_fillsGap_b76 h106 a0 v1 v2 v5 v6 s0 x105)
def f_X4_fillsGap_b33 (h : PH) (a0 : Nat) (v1 : Int32) (v2 : Int32) (v3 : Int32) (v4 : Int32) (v5 : Int32) (s0 : Int32) : ZR Unit :=
  if s0 = 0 then
    (f_X4_fillsGap_b46 h a0 v1 v2 v5 s0 v4)
  else
    (f_X4_fillsGap_b46 h a0 v1 v2 v5 s0 v3)
def f_X4_fillsGap_b32 (h : PH) (a0 : Nat) (v1 : Int32) (v2 : Int32) (v3 : Int32) (v4 : Int32) (v5 : Int32) : ZR Unit :=
  f_X4_fillsGap_b33 h a0 v1 v2 v3 v4 v5 (0 : Int32)
def f_X4_fillsGap (h : PH) (a0 : Nat) (v1 : Int32) (v2 : Int32) (v3 : Int32) (v4 : Int32) : ZR Unit :=
  zcl (f_X4_base h v1) fun x101 h102 =>
  if v3 < 0 then
    (f_X4_fillsGap_b32 h102 a0 v1 v2 v3 v4 x101)
  else
    (zgP h102 a0 3 1 fun x103 =>
    znm (x101 + (122 : Int32)) fun x104 =>
    znm (x104 + v3) fun x105 =>
    znn x103 fun a106 =>
    zaI h102 a106 0 x105 fun x107 =>
    znm (v2 + (1 : Int32)) fun x108 =>
    if x107 = x108 then
      (f_X4_fillsGap_b33 h102 a0 v1 v2 v3 v4 x101 (1 : Int32))
    else
      (f_X4_fillsGap_b32 h102 a0 v1 v2 v3 v4 x101))
set_option maxHeartbeats 4000000 in
set_option maxRecDepth 100000 in
theorem m_X4_fillsGap_b178 {p : Program} {l : Launch} {e : Env} {s : State} {m : MethodId} {args : Array Value} {below : List Frame} {meth : Method} {c : Code} {D : va_G} {dA : Nat → ClassId} {b0 : Nat} {gs : Nat → Option Nat} (hc : zC D dA b0 gs yX4_fillsGap.cls cX4_fillsGap 11 p c s m args meth) (hr : meth.sig.returnType = none) (hin : meth.name = yX4_fillsGap.name) {r : Unit} {hh : PH} {mc ms : Nat} (k149 : PH → Nat → Int32 → Int32 → Int32 → Int32 → Int32 → ZR Unit) (hk149 : ∀ (h : PH) (a0 : Nat) (v2 : Int32) (v5 : Int32) (v6 : Int32) (v7 : Int32) (v10 : Int32) (C9 S9 : Nat) (H : Heap) (locs : List Loc) (cells slots : Nat), k149 h a0 v2 v5 v6 v7 v10 = some (r, hh, C9, S9) → cells + C9 = mc ∧ slots + S9 = ms → zM D dA b0 gs s h H locs → ∀ ls : Array Slot, lv_has ls 11 [(0, .ref a0), (2, .int v2), (5, .int v5), (6, .int v6), (7, .int v7), (10, .int v10)] → W p l e ({ frames := 3, cells := mc, slots := ms, locals := 107 } : Room) s m args below meth c H locs cells slots (MQ below (zQ D dA b0 gs (evU r) hh) args s mc ms (zA b0)) (F0 m 149 ls [])) : ∀ (h : PH) (a0 : Nat) (v2 : Int32) (v5 : Int32) (v6 : Int32) (v7 : Int32) (s0 : Int32) (s1 : Int32) (C9 S9 : Nat) (H : Heap) (locs : List Loc) (cells slots : Nat), f_X4_fillsGap_b178 k149 h a0 v2 v5 v6 v7 s0 s1 = some (r, hh, C9, S9) → cells + C9 = mc ∧ slots + S9 = ms → zM D dA b0 gs s h H locs → ∀ ls : Array Slot, lv_has ls 11 [(0, .ref a0), (2, .int v2), (5, .int v5), (6, .int v6), (7, .int v7)] → W p l e ({ frames := 3, cells := mc, slots := ms, locals := 107 } : Room) s m args below meth c H locs cells slots (MQ below (zQ D dA b0 gs (evU r) hh) args s mc ms (zA b0)) (F0 m 178 ls [.int s1, .int s0]) := by
  have hx := hc.x
  have hb := hc.b
  intro h a0 v2 v5 v6 v7 s0 s1 C9 S9 H locs cells slots hf hq hn ls hl
  unfold f_X4_fillsGap_b178 at hf
  refine lv_iadd hx hb dX4_fillsGap_178 ?_
  refine zr_nmI hf (fun x101 hf => ?_)
  refine lv_istore (lv' := [(10, .int x101), (0, .ref a0), (2, .int v2), (5, .int v5), (6, .int v6), (7, .int v7)]) hx hb dX4_fillsGap_179 hl (by decide) rfl (fun ls hl => ?_)
  refine lv_goto (tgt := 149) hx hb dX4_fillsGap_181 (by decide) ?_
  exact hk149 h a0 v2 v5 v6 v7 x101 _ _ _ _ _ _ hf hq hn _ (lv_sub hl [1, 2, 3, 4, 5, 0] rfl)
set_option maxHeartbeats 4000000 in
set_option maxRecDepth 100000 in
theorem m_X4_fillsGap_b149 {p : Program} {l : Launch} {e : Env} {s : State} {m : MethodId} {args : Array Value} {below : List Frame} {meth : Method} {c : Code} {D : va_G} {dA : Nat → ClassId} {b0 : Nat} {gs : Nat → Option Nat} (hc : zC D dA b0 gs yX4_fillsGap.cls cX4_fillsGap 11 p c s m args meth) (hr : meth.sig.returnType = none) (hin : meth.name = yX4_fillsGap.name) {r : Unit} {hh : PH} {mc ms : Nat} : ∀ (n : Nat) (h : PH) (a0 : Nat) (v2 : Int32) (v5 : Int32) (v6 : Int32) (v7 : Int32) (v10 : Int32) (C9 S9 : Nat) (H : Heap) (locs : List Loc) (cells slots : Nat), f_X4_fillsGap_b149 n h a0 v2 v5 v6 v7 v10 = some (r, hh, C9, S9) → cells + C9 = mc ∧ slots + S9 = ms → zM D dA b0 gs s h H locs → ∀ ls : Array Slot, lv_has ls 11 [(0, .ref a0), (2, .int v2), (5, .int v5), (6, .int v6), (7, .int v7), (10, .int v10)] → W p l e ({ frames := 3, cells := mc, slots := ms, locals := 107 } : Room) s m args below meth c H locs cells slots (MQ below (zQ D dA b0 gs (evU r) hh) args s mc ms (zA b0)) (F0 m 149 ls []) := by
  have hx := hc.x
  have hb := hc.b
  intro n
  induction n with
  | zero =>
    intro h a0 v2 v5 v6 v7 v10 C9 S9 H locs cells slots hf hq hn ls hl
    cases hf
  | succ n ih =>
    intro h a0 v2 v5 v6 v7 v10 C9 S9 H locs cells slots hf hq hn ls hl
    unfold f_X4_fillsGap_b149 at hf
    refine lv_aload_n (x := a0) hx hb dX4_fillsGap_149 rfl (lv_at hl 0 rfl) ?_
    refine zr_gP hc hn (ci := 3) rfl rfl in_X4 1 (by decide) q2100 (fun _ h => h) (fun _ _ _ => rfl) hf dX4_fillsGap_150 (fun x101 hf => ?_)
    refine lv_iload hx hb dX4_fillsGap_153 (lv_at hl 2 rfl) ?_
    refine lv_bipush (v := (122 : Int32)) hx hb dX4_fillsGap_155 (by decide) ?_
    refine lv_iadd hx hb dX4_fillsGap_157 ?_
    refine zr_nmI hf (fun x102 hf => ?_)
    refine lv_iload hx hb dX4_fillsGap_158 (lv_at hl 5 rfl) ?_
    refine lv_iadd hx hb dX4_fillsGap_160 ?_
    refine zr_nmI hf (fun x103 hf => ?_)
    obtain ⟨a104, e9, hf9⟩ := znn_i hf
    subst e9
    have hf := hf9
    clear hf9
    refine zr_aI0 hc hn hf dX4_fillsGap_161 (fun x105 hf => ?_)
    refine lv_iload_n hx hb dX4_fillsGap_162 rfl (lv_at hl 1 rfl) ?_
    refine lv_icmp_eq (tgt := 184) hx hb dX4_fillsGap_163 (by decide) (fun c9 => ?_) (fun c9 => ?_)
    · have hf := zif_t c9 hf
      refine lv_aload_n (x := a0) hx hb dX4_fillsGap_184 rfl (lv_at hl 0 rfl) ?_
      refine zr_gP hc hn (ci := 3) rfl rfl in_X4 1 (by decide) q2100 (fun _ h => h) (fun _ _ _ => rfl) hf dX4_fillsGap_185 (fun x106 hf => ?_)
      refine lv_iload hx hb dX4_fillsGap_188 (lv_at hl 2 rfl) ?_
      refine lv_bipush (v := (122 : Int32)) hx hb dX4_fillsGap_190 (by decide) ?_
      refine lv_iadd hx hb dX4_fillsGap_192 ?_
      refine zr_nmI hf (fun x107 hf => ?_)
      refine lv_iload hx hb dX4_fillsGap_193 (lv_at hl 5 rfl) ?_
      refine lv_iadd hx hb dX4_fillsGap_195 ?_
      refine zr_nmI hf (fun x108 hf => ?_)
      refine lv_dup2_11 hx hb dX4_fillsGap_196 rfl (zcat_rf _) ?_
      obtain ⟨a109, e9, hf9⟩ := znn_i hf
      subst e9
      have hf := hf9
      clear hf9
      refine zr_aI0 hc hn hf dX4_fillsGap_197 (fun x110 hf => ?_)
      refine lv_iconst (v := (1 : Int32)) hx hb dX4_fillsGap_198 (by decide) ?_
      refine lv_iadd hx hb dX4_fillsGap_199 ?_
      refine zr_nmI hf (fun x111 hf => ?_)
      refine zr_sI hc hn hf dX4_fillsGap_200 (fun h112 H locs hf hn => ?_)
      refine lv_aload_n (x := a0) hx hb dX4_fillsGap_201 rfl (lv_at hl 0 rfl) ?_
      refine lv_iconst (v := (1 : Int32)) hx hb dX4_fillsGap_202 (by decide) ?_
      refine lv_iload_n hx hb dX4_fillsGap_203 rfl (lv_at hl 1 rfl) ?_
      refine lv_aload_n (x := a0) hx hb dX4_fillsGap_204 rfl (lv_at hl 0 rfl) ?_
      refine zr_gP hc hn (ci := 3) rfl rfl in_X4 1 (by decide) q2100 (fun _ h => h) (fun _ _ _ => rfl) hf dX4_fillsGap_205 (fun x113 hf => ?_)
      refine lv_iload hx hb dX4_fillsGap_208 (lv_at hl 2 rfl) ?_
      refine lv_iconst (v := (2 : Int32)) hx hb dX4_fillsGap_210 (by decide) ?_
      refine lv_iadd hx hb dX4_fillsGap_211 ?_
      refine zr_nmI hf (fun x114 hf => ?_)
      refine lv_iload hx hb dX4_fillsGap_212 (lv_at hl 4 rfl) ?_
      refine lv_iadd hx hb dX4_fillsGap_214 ?_
      refine zr_nmI hf (fun x115 hf => ?_)
      obtain ⟨a116, e9, hf9⟩ := znn_i hf
      subst e9
      have hf := hf9
      clear hf9
      refine zr_aI0 hc hn hf dX4_fillsGap_215 (fun x117 hf => ?_)
      refine zr_cVU (As := [.int (1 : Int32), .int v2, .int x117]) (rest := []) hc hn hq (ci := 3) rfl ⟨rfl, hd_X4_logs⟩ (lw_V q2311 q2313 qs53 q91 q2314) (Nat.le_of_ble_eq_true rfl) (Nat.le_of_ble_eq_true rfl) (fun _ _ _ _ q => m_X4_logs l D dA b0 gs h112 a0 (1 : Int32) v2 x117 q) hf dX4_fillsGap_216 hl.1 rfl rfl (zroom (Nat.le_of_ble_eq_true rfl)) (fun x118 h119 H locs cells slots C9 S9 hf hq hn => ?_)
      refine lv_goto (tgt := 240) hx hb dX4_fillsGap_219 (by decide) ?_
      obtain ⟨rfl, rfl, rfl, rfl⟩ := zret_i hf
      exact zr_vret hc hn hr hq (fun _ _ _ _ q => q) dX4_fillsGap_240
    · have hf := zif_f c9 hf
      refine lv_iload hx hb dX4_fillsGap_166 (lv_at hl 5 rfl) ?_
      refine lv_iload hx hb dX4_fillsGap_168 (lv_at hl 3 rfl) ?_
      refine lv_if_eq (tgt := 177) hx hb dX4_fillsGap_170 (by decide) (fun c9 => ?_) (fun c9 => ?_)
      · have hf := zif_t c9 hf
        refine lv_iconst (v := (1 : Int32)) hx hb dX4_fillsGap_177 (by decide) ?_
        exact m_X4_fillsGap_b178 hc hr hin (f_X4_fillsGap_b149 n) ih h a0 v2 v5 v6 v7 v10 (1 : Int32) _ _ _ _ _ _ hf hq hn _ (lv_sub hl [0, 1, 2, 3, 4] rfl)
      · have hf := zif_f c9 hf
        refine lv_iconst (v := (-1 : Int32)) hx hb dX4_fillsGap_173 (by decide) ?_
        refine lv_goto (tgt := 178) hx hb dX4_fillsGap_174 (by decide) ?_
        exact m_X4_fillsGap_b178 hc hr hin (f_X4_fillsGap_b149 n) ih h a0 v2 v5 v6 v7 v10 (-1 : Int32) _ _ _ _ _ _ hf hq hn _ (lv_sub hl [0, 1, 2, 3, 4] rfl)
set_option maxHeartbeats 4000000 in
set_option maxRecDepth 100000 in
theorem m_X4_fillsGap_b147 {p : Program} {l : Launch} {e : Env} {s : State} {m : MethodId} {args : Array Value} {below : List Frame} {meth : Method} {c : Code} {D : va_G} {dA : Nat → ClassId} {b0 : Nat} {gs : Nat → Option Nat} (hc : zC D dA b0 gs yX4_fillsGap.cls cX4_fillsGap 11 p c s m args meth) (hr : meth.sig.returnType = none) (hin : meth.name = yX4_fillsGap.name) {r : Unit} {hh : PH} {mc ms : Nat} : ∀ (h : PH) (a0 : Nat) (v2 : Int32) (v5 : Int32) (v6 : Int32) (v7 : Int32) (s0 : Int32) (C9 S9 : Nat) (H : Heap) (locs : List Loc) (cells slots : Nat), f_X4_fillsGap_b147 h a0 v2 v5 v6 v7 s0 = some (r, hh, C9, S9) → cells + C9 = mc ∧ slots + S9 = ms → zM D dA b0 gs s h H locs → ∀ ls : Array Slot, lv_has ls 11 [(0, .ref a0), (2, .int v2), (5, .int v5), (6, .int v6), (7, .int v7)] → W p l e ({ frames := 3, cells := mc, slots := ms, locals := 107 } : Room) s m args below meth c H locs cells slots (MQ below (zQ D dA b0 gs (evU r) hh) args s mc ms (zA b0)) (F0 m 147 ls [.int s0]) := by
  have hx := hc.x
  have hb := hc.b
  intro h a0 v2 v5 v6 v7 s0 C9 S9 H locs cells slots hf hq hn ls hl
  unfold f_X4_fillsGap_b147 at hf
  refine lv_istore (lv' := [(10, .int s0), (0, .ref a0), (2, .int v2), (5, .int v5), (6, .int v6), (7, .int v7)]) hx hb dX4_fillsGap_147 hl (by decide) rfl (fun ls hl => ?_)
  exact m_X4_fillsGap_b149 hc hr hin zFU h a0 v2 v5 v6 v7 s0 _ _ _ _ _ _ hf hq hn _ (lv_sub hl [1, 2, 3, 4, 5, 0] rfl)
set_option maxHeartbeats 4000000 in
set_option maxRecDepth 100000 in
theorem m_X4_fillsGap_b106 {p : Program} {l : Launch} {e : Env} {s : State} {m : MethodId} {args : Array Value} {below : List Frame} {meth : Method} {c : Code} {D : va_G} {dA : Nat → ClassId} {b0 : Nat} {gs : Nat → Option Nat} (hc : zC D dA b0 gs yX4_fillsGap.cls cX4_fillsGap 11 p c s m args meth) (hr : meth.sig.returnType = none) (hin : meth.name = yX4_fillsGap.name) {r : Unit} {hh : PH} {mc ms : Nat} : ∀ (h : PH) (a0 : Nat) (v2 : Int32) (v5 : Int32) (v6 : Int32) (v7 : Int32) (s0 : Int32) (C9 S9 : Nat) (H : Heap) (locs : List Loc) (cells slots : Nat), f_X4_fillsGap_b106 h a0 v2 v5 v6 v7 s0 = some (r, hh, C9, S9) → cells + C9 = mc ∧ slots + S9 = ms → zM D dA b0 gs s h H locs → ∀ ls : Array Slot, lv_has ls 11 [(0, .ref a0), (2, .int v2), (5, .int v5), (6, .int v6), (7, .int v7)] → W p l e ({ frames := 3, cells := mc, slots := ms, locals := 107 } : Room) s m args below meth c H locs cells slots (MQ below (zQ D dA b0 gs (evU r) hh) args s mc ms (zA b0)) (F0 m 106 ls [.int s0]) := by
  have hx := hc.x
  have hb := hc.b
  intro h a0 v2 v5 v6 v7 s0 C9 S9 H locs cells slots hf hq hn ls hl
  unfold f_X4_fillsGap_b106 at hf
  refine lv_istore (lv' := [(9, .int s0), (0, .ref a0), (2, .int v2), (5, .int v5), (6, .int v6), (7, .int v7)]) hx hb dX4_fillsGap_106 hl (by decide) rfl (fun ls hl => ?_)
  refine lv_aload_n (x := a0) hx hb dX4_fillsGap_108 rfl (lv_at hl 1 rfl) ?_
  refine zr_gP hc hn (ci := 3) rfl rfl in_X4 1 (by decide) q2100 (fun _ h => h) (fun _ _ _ => rfl) hf dX4_fillsGap_109 (fun x101 hf => ?_)
  refine lv_iload hx hb dX4_fillsGap_112 (lv_at hl 3 rfl) ?_
  refine lv_bipush (v := (122 : Int32)) hx hb dX4_fillsGap_114 (by decide) ?_
  refine lv_iadd hx hb dX4_fillsGap_116 ?_
  refine zr_nmI hf (fun x102 hf => ?_)
  refine lv_iload hx hb dX4_fillsGap_117 (lv_at hl 5 rfl) ?_
  refine lv_iadd hx hb dX4_fillsGap_119 ?_
  refine zr_nmI hf (fun x103 hf => ?_)
  refine lv_dup2_11 hx hb dX4_fillsGap_120 rfl (zcat_rf _) ?_
  obtain ⟨a104, e9, hf9⟩ := znn_i hf
  subst e9
  have hf := hf9
  clear hf9
  refine zr_aI0 hc hn hf dX4_fillsGap_121 (fun x105 hf => ?_)
  refine lv_iconst (v := (1 : Int32)) hx hb dX4_fillsGap_122 (by decide) ?_
  refine lv_isub hx hb dX4_fillsGap_123 ?_
  refine zr_nmI hf (fun x106 hf => ?_)
  refine zr_sI hc hn hf dX4_fillsGap_124 (fun h107 H locs hf hn => ?_)
  refine lv_iload hx hb dX4_fillsGap_125 (lv_at hl 0 rfl) ?_
  refine lv_iconst (v := (2 : Int32)) hx hb dX4_fillsGap_127 (by decide) ?_
  refine lv_icmp_lt (tgt := 222) hx hb dX4_fillsGap_128 (by decide) (fun c9 => ?_) (fun c9 => ?_)
  · have hf := zif_t c9 hf
    refine lv_aload_n (x := a0) hx hb dX4_fillsGap_222 rfl (lv_at hl 1 rfl) ?_
    refine lv_iconst (v := (2 : Int32)) hx hb dX4_fillsGap_223 (by decide) ?_
    refine lv_iload_n hx hb dX4_fillsGap_224 rfl (lv_at hl 2 rfl) ?_
    refine lv_aload_n (x := a0) hx hb dX4_fillsGap_225 rfl (lv_at hl 1 rfl) ?_
    refine zr_gP hc hn (ci := 3) rfl rfl in_X4 1 (by decide) q2100 (fun _ h => h) (fun _ _ _ => rfl) hf dX4_fillsGap_226 (fun x108 hf => ?_)
    refine lv_iload hx hb dX4_fillsGap_229 (lv_at hl 3 rfl) ?_
    refine lv_iconst (v := (2 : Int32)) hx hb dX4_fillsGap_231 (by decide) ?_
    refine lv_iadd hx hb dX4_fillsGap_232 ?_
    refine zr_nmI hf (fun x109 hf => ?_)
    refine lv_iload hx hb dX4_fillsGap_233 (lv_at hl 5 rfl) ?_
    refine lv_iadd hx hb dX4_fillsGap_235 ?_
    refine zr_nmI hf (fun x110 hf => ?_)
    obtain ⟨a111, e9, hf9⟩ := znn_i hf
    subst e9
    have hf := hf9
    clear hf9
    refine zr_aI0 hc hn hf dX4_fillsGap_236 (fun x112 hf => ?_)
    refine zr_cVU (As := [.int (2 : Int32), .int v2, .int x112]) (rest := []) hc hn hq (ci := 3) rfl ⟨rfl, hd_X4_logs⟩ (lw_V q2311 q2313 qs53 q91 q2314) (Nat.le_of_ble_eq_true rfl) (Nat.le_of_ble_eq_true rfl) (fun _ _ _ _ q => m_X4_logs l D dA b0 gs h107 a0 (2 : Int32) v2 x112 q) hf dX4_fillsGap_237 hl.1 rfl rfl (zroom (Nat.le_of_ble_eq_true rfl)) (fun x113 h114 H locs cells slots C9 S9 hf hq hn => ?_)
    obtain ⟨rfl, rfl, rfl, rfl⟩ := zret_i hf
    exact zr_vret hc hn hr hq (fun _ _ _ _ q => q) dX4_fillsGap_240
  · have hf := zif_f c9 hf
    refine lv_iload hx hb dX4_fillsGap_131 (lv_at hl 4 rfl) ?_
    refine lv_if_eq (tgt := 143) hx hb dX4_fillsGap_133 (by decide) (fun c9 => ?_) (fun c9 => ?_)
    · have hf := zif_t c9 hf
      refine lv_iload hx hb dX4_fillsGap_143 (lv_at hl 5 rfl) ?_
      refine lv_iconst (v := (1 : Int32)) hx hb dX4_fillsGap_145 (by decide) ?_
      refine lv_iadd hx hb dX4_fillsGap_146 ?_
      refine zr_nmI hf (fun x115 hf => ?_)
      exact m_X4_fillsGap_b147 hc hr hin h107 a0 v2 v5 v6 v7 x115 _ _ _ _ _ _ hf hq hn _ (lv_sub hl [1, 2, 3, 4, 5] rfl)
    · have hf := zif_f c9 hf
      refine lv_iload hx hb dX4_fillsGap_136 (lv_at hl 5 rfl) ?_
      refine lv_iconst (v := (1 : Int32)) hx hb dX4_fillsGap_138 (by decide) ?_
      refine lv_isub hx hb dX4_fillsGap_139 ?_
      refine zr_nmI hf (fun x116 hf => ?_)
      refine lv_goto (tgt := 147) hx hb dX4_fillsGap_140 (by decide) ?_
      exact m_X4_fillsGap_b147 hc hr hin h107 a0 v2 v5 v6 v7 x116 _ _ _ _ _ _ hf hq hn _ (lv_sub hl [1, 2, 3, 4, 5] rfl)
set_option maxHeartbeats 4000000 in
set_option maxRecDepth 100000 in
theorem m_X4_fillsGap_b76 {p : Program} {l : Launch} {e : Env} {s : State} {m : MethodId} {args : Array Value} {below : List Frame} {meth : Method} {c : Code} {D : va_G} {dA : Nat → ClassId} {b0 : Nat} {gs : Nat → Option Nat} (hc : zC D dA b0 gs yX4_fillsGap.cls cX4_fillsGap 11 p c s m args meth) (hr : meth.sig.returnType = none) (hin : meth.name = yX4_fillsGap.name) {r : Unit} {hh : PH} {mc ms : Nat} : ∀ (h : PH) (a0 : Nat) (v1 : Int32) (v2 : Int32) (v5 : Int32) (v6 : Int32) (v7 : Int32) (s0 : Int32) (C9 S9 : Nat) (H : Heap) (locs : List Loc) (cells slots : Nat), f_X4_fillsGap_b76 h a0 v1 v2 v5 v6 v7 s0 = some (r, hh, C9, S9) → cells + C9 = mc ∧ slots + S9 = ms → zM D dA b0 gs s h H locs → ∀ ls : Array Slot, lv_has ls 11 [(0, .ref a0), (1, .int v1), (2, .int v2), (5, .int v5), (6, .int v6), (7, .int v7)] → W p l e ({ frames := 3, cells := mc, slots := ms, locals := 107 } : Room) s m args below meth c H locs cells slots (MQ below (zQ D dA b0 gs (evU r) hh) args s mc ms (zA b0)) (F0 m 76 ls [.int s0]) := by
  have hx := hc.x
  have hb := hc.b
  intro h a0 v1 v2 v5 v6 v7 s0 C9 S9 H locs cells slots hf hq hn ls hl
  unfold f_X4_fillsGap_b76 at hf
  refine lv_istore (lv' := [(8, .int s0), (0, .ref a0), (1, .int v1), (2, .int v2), (5, .int v5), (6, .int v6), (7, .int v7)]) hx hb dX4_fillsGap_76 hl (by decide) rfl (fun ls hl => ?_)
  refine lv_iload hx hb dX4_fillsGap_78 (lv_at hl 5 rfl) ?_
  refine lv_if_eq (tgt := 96) hx hb dX4_fillsGap_80 (by decide) (fun c9 => ?_) (fun c9 => ?_)
  · have hf := zif_t c9 hf
    refine lv_aload_n (x := a0) hx hb dX4_fillsGap_96 rfl (lv_at hl 1 rfl) ?_
    refine lv_iload_n hx hb dX4_fillsGap_97 rfl (lv_at hl 2 rfl) ?_
    refine lv_iload_n hx hb dX4_fillsGap_98 rfl (lv_at hl 3 rfl) ?_
    refine lv_iload hx hb dX4_fillsGap_99 (lv_at hl 6 rfl) ?_
    refine lv_iload hx hb dX4_fillsGap_101 (lv_at hl 0 rfl) ?_
    refine zr_cVI (As := [.int v1, .int v2, .int v7, .int s0]) (rest := []) hc hn hq (ci := 3) rfl ⟨rfl, hd_X4_between⟩ (lw_V q2307 q2309 qs52 q91 q2310) (Nat.le_of_ble_eq_true rfl) (Nat.le_of_ble_eq_true rfl) (fun _ _ _ _ q => m_X4_between l D dA b0 gs h a0 v1 v2 v7 s0 q) hf dX4_fillsGap_103 hl.1 rfl rfl (zroom (Nat.le_of_ble_eq_true rfl)) (fun x101 h102 H locs cells slots C9 S9 hf hq hn => ?_)
    exact m_X4_fillsGap_b106 hc hr hin h102 a0 v2 v5 v6 v7 x101 _ _ _ _ _ _ hf hq hn _ (lv_sub hl [1, 3, 4, 5, 6] rfl)
  · have hf := zif_f c9 hf
    refine lv_aload_n (x := a0) hx hb dX4_fillsGap_83 rfl (lv_at hl 1 rfl) ?_
    refine lv_iload_n hx hb dX4_fillsGap_84 rfl (lv_at hl 2 rfl) ?_
    refine lv_iload_n hx hb dX4_fillsGap_85 rfl (lv_at hl 3 rfl) ?_
    refine lv_iload hx hb dX4_fillsGap_86 (lv_at hl 0 rfl) ?_
    refine lv_iload hx hb dX4_fillsGap_88 (lv_at hl 6 rfl) ?_
    refine zr_cVI (As := [.int v1, .int v2, .int s0, .int v7]) (rest := []) hc hn hq (ci := 3) rfl ⟨rfl, hd_X4_between⟩ (lw_V q2307 q2309 qs52 q91 q2310) (Nat.le_of_ble_eq_true rfl) (Nat.le_of_ble_eq_true rfl) (fun _ _ _ _ q => m_X4_between l D dA b0 gs h a0 v1 v2 s0 v7 q) hf dX4_fillsGap_90 hl.1 rfl rfl (zroom (Nat.le_of_ble_eq_true rfl)) (fun x103 h104 H locs cells slots C9 S9 hf hq hn => ?_)
    refine lv_goto (tgt := 106) hx hb dX4_fillsGap_93 (by decide) ?_
    exact m_X4_fillsGap_b106 hc hr hin h104 a0 v2 v5 v6 v7 x103 _ _ _ _ _ _ hf hq hn _ (lv_sub hl [1, 3, 4, 5, 6] rfl)
set_option maxHeartbeats 4000000 in
set_option maxRecDepth 100000 in
theorem m_X4_fillsGap_b46 {p : Program} {l : Launch} {e : Env} {s : State} {m : MethodId} {args : Array Value} {below : List Frame} {meth : Method} {c : Code} {D : va_G} {dA : Nat → ClassId} {b0 : Nat} {gs : Nat → Option Nat} (hc : zC D dA b0 gs yX4_fillsGap.cls cX4_fillsGap 11 p c s m args meth) (hr : meth.sig.returnType = none) (hin : meth.name = yX4_fillsGap.name) {r : Unit} {hh : PH} {mc ms : Nat} : ∀ (h : PH) (a0 : Nat) (v1 : Int32) (v2 : Int32) (v5 : Int32) (v6 : Int32) (s0 : Int32) (C9 S9 : Nat) (H : Heap) (locs : List Loc) (cells slots : Nat), f_X4_fillsGap_b46 h a0 v1 v2 v5 v6 s0 = some (r, hh, C9, S9) → cells + C9 = mc ∧ slots + S9 = ms → zM D dA b0 gs s h H locs → ∀ ls : Array Slot, lv_has ls 11 [(0, .ref a0), (1, .int v1), (2, .int v2), (5, .int v5), (6, .int v6)] → W p l e ({ frames := 3, cells := mc, slots := ms, locals := 107 } : Room) s m args below meth c H locs cells slots (MQ below (zQ D dA b0 gs (evU r) hh) args s mc ms (zA b0)) (F0 m 46 ls [.int s0]) := by
  have hx := hc.x
  have hb := hc.b
  intro h a0 v1 v2 v5 v6 s0 C9 S9 H locs cells slots hf hq hn ls hl
  unfold f_X4_fillsGap_b46 at hf
  refine lv_istore (lv' := [(7, .int s0), (0, .ref a0), (1, .int v1), (2, .int v2), (5, .int v5), (6, .int v6)]) hx hb dX4_fillsGap_46 hl (by decide) rfl (fun ls hl => ?_)
  refine lv_iload hx hb dX4_fillsGap_48 (lv_at hl 5 rfl) ?_
  refine lv_if_eq (tgt := 66) hx hb dX4_fillsGap_50 (by decide) (fun c9 => ?_) (fun c9 => ?_)
  · have hf := zif_t c9 hf
    refine lv_aload_n (x := a0) hx hb dX4_fillsGap_66 rfl (lv_at hl 1 rfl) ?_
    refine lv_iload_n hx hb dX4_fillsGap_67 rfl (lv_at hl 2 rfl) ?_
    refine lv_iload_n hx hb dX4_fillsGap_68 rfl (lv_at hl 3 rfl) ?_
    refine lv_iconst (v := (1 : Int32)) hx hb dX4_fillsGap_69 (by decide) ?_
    refine lv_iadd hx hb dX4_fillsGap_70 ?_
    refine zr_nmI hf (fun x101 hf => ?_)
    refine lv_iload hx hb dX4_fillsGap_71 (lv_at hl 0 rfl) ?_
    refine zr_cVI (As := [.int v1, .int x101, .int s0]) (rest := []) hc hn hq (ci := 3) rfl ⟨rfl, hd_X4_after⟩ (lw_V q2303 q2305 qs51 q91 q2306) (Nat.le_of_ble_eq_true rfl) (Nat.le_of_ble_eq_true rfl) (fun _ _ _ _ q => m_X4_after l D dA b0 gs h a0 v1 x101 s0 q) hf dX4_fillsGap_73 hl.1 rfl rfl (zroom (Nat.le_of_ble_eq_true rfl)) (fun x102 h103 H locs cells slots C9 S9 hf hq hn => ?_)
    exact m_X4_fillsGap_b76 hc hr hin h103 a0 v1 v2 v5 v6 s0 x102 _ _ _ _ _ _ hf hq hn _ (lv_sub hl [1, 2, 3, 4, 5, 0] rfl)
  · have hf := zif_f c9 hf
    refine lv_aload_n (x := a0) hx hb dX4_fillsGap_53 rfl (lv_at hl 1 rfl) ?_
    refine lv_iload_n hx hb dX4_fillsGap_54 rfl (lv_at hl 2 rfl) ?_
    refine lv_iload_n hx hb dX4_fillsGap_55 rfl (lv_at hl 3 rfl) ?_
    refine lv_iconst (v := (1 : Int32)) hx hb dX4_fillsGap_56 (by decide) ?_
    refine lv_iadd hx hb dX4_fillsGap_57 ?_
    refine zr_nmI hf (fun x104 hf => ?_)
    refine lv_iload hx hb dX4_fillsGap_58 (lv_at hl 0 rfl) ?_
    refine zr_cVI (As := [.int v1, .int x104, .int s0]) (rest := []) hc hn hq (ci := 3) rfl ⟨rfl, hd_X4_ahead⟩ (lw_V q2323 q2325 qs56 q91 q2326) (Nat.le_of_ble_eq_true rfl) (Nat.le_of_ble_eq_true rfl) (fun _ _ _ _ q => m_X4_ahead l D dA b0 gs h a0 v1 x104 s0 q) hf dX4_fillsGap_60 hl.1 rfl rfl (zroom (Nat.le_of_ble_eq_true rfl)) (fun x105 h106 H locs cells slots C9 S9 hf hq hn => ?_)
    refine lv_goto (tgt := 76) hx hb dX4_fillsGap_63 (by decide) ?_
    exact m_X4_fillsGap_b76 hc hr hin h106 a0 v1 v2 v5 v6 s0 x105 _ _ _ _ _ _ hf hq hn _ (lv_sub hl [1, 2, 3, 4, 5, 0] rfl)
set_option maxHeartbeats 4000000 in
set_option maxRecDepth 100000 in
theorem m_X4_fillsGap_b33 {p : Program} {l : Launch} {e : Env} {s : State} {m : MethodId} {args : Array Value} {below : List Frame} {meth : Method} {c : Code} {D : va_G} {dA : Nat → ClassId} {b0 : Nat} {gs : Nat → Option Nat} (hc : zC D dA b0 gs yX4_fillsGap.cls cX4_fillsGap 11 p c s m args meth) (hr : meth.sig.returnType = none) (hin : meth.name = yX4_fillsGap.name) {r : Unit} {hh : PH} {mc ms : Nat} : ∀ (h : PH) (a0 : Nat) (v1 : Int32) (v2 : Int32) (v3 : Int32) (v4 : Int32) (v5 : Int32) (s0 : Int32) (C9 S9 : Nat) (H : Heap) (locs : List Loc) (cells slots : Nat), f_X4_fillsGap_b33 h a0 v1 v2 v3 v4 v5 s0 = some (r, hh, C9, S9) → cells + C9 = mc ∧ slots + S9 = ms → zM D dA b0 gs s h H locs → ∀ ls : Array Slot, lv_has ls 11 [(0, .ref a0), (1, .int v1), (2, .int v2), (3, .int v3), (4, .int v4), (5, .int v5)] → W p l e ({ frames := 3, cells := mc, slots := ms, locals := 107 } : Room) s m args below meth c H locs cells slots (MQ below (zQ D dA b0 gs (evU r) hh) args s mc ms (zA b0)) (F0 m 33 ls [.int s0]) := by
  have hx := hc.x
  have hb := hc.b
  intro h a0 v1 v2 v3 v4 v5 s0 C9 S9 H locs cells slots hf hq hn ls hl
  unfold f_X4_fillsGap_b33 at hf
  refine lv_istore (lv' := [(6, .int s0), (0, .ref a0), (1, .int v1), (2, .int v2), (3, .int v3), (4, .int v4), (5, .int v5)]) hx hb dX4_fillsGap_33 hl (by decide) rfl (fun ls hl => ?_)
  refine lv_iload hx hb dX4_fillsGap_35 (lv_at hl 0 rfl) ?_
  refine lv_if_eq (tgt := 44) hx hb dX4_fillsGap_37 (by decide) (fun c9 => ?_) (fun c9 => ?_)
  · have hf := zif_t c9 hf
    refine lv_iload hx hb dX4_fillsGap_44 (lv_at hl 5 rfl) ?_
    exact m_X4_fillsGap_b46 hc hr hin h a0 v1 v2 v5 s0 v4 _ _ _ _ _ _ hf hq hn _ (lv_sub hl [1, 2, 3, 6, 0] rfl)
  · have hf := zif_f c9 hf
    refine lv_iload_n hx hb dX4_fillsGap_40 rfl (lv_at hl 4 rfl) ?_
    refine lv_goto (tgt := 46) hx hb dX4_fillsGap_41 (by decide) ?_
    exact m_X4_fillsGap_b46 hc hr hin h a0 v1 v2 v5 s0 v3 _ _ _ _ _ _ hf hq hn _ (lv_sub hl [1, 2, 3, 6, 0] rfl)
set_option maxHeartbeats 4000000 in
set_option maxRecDepth 100000 in
theorem m_X4_fillsGap_b32 {p : Program} {l : Launch} {e : Env} {s : State} {m : MethodId} {args : Array Value} {below : List Frame} {meth : Method} {c : Code} {D : va_G} {dA : Nat → ClassId} {b0 : Nat} {gs : Nat → Option Nat} (hc : zC D dA b0 gs yX4_fillsGap.cls cX4_fillsGap 11 p c s m args meth) (hr : meth.sig.returnType = none) (hin : meth.name = yX4_fillsGap.name) {r : Unit} {hh : PH} {mc ms : Nat} : ∀ (h : PH) (a0 : Nat) (v1 : Int32) (v2 : Int32) (v3 : Int32) (v4 : Int32) (v5 : Int32) (C9 S9 : Nat) (H : Heap) (locs : List Loc) (cells slots : Nat), f_X4_fillsGap_b32 h a0 v1 v2 v3 v4 v5 = some (r, hh, C9, S9) → cells + C9 = mc ∧ slots + S9 = ms → zM D dA b0 gs s h H locs → ∀ ls : Array Slot, lv_has ls 11 [(0, .ref a0), (1, .int v1), (2, .int v2), (3, .int v3), (4, .int v4), (5, .int v5)] → W p l e ({ frames := 3, cells := mc, slots := ms, locals := 107 } : Room) s m args below meth c H locs cells slots (MQ below (zQ D dA b0 gs (evU r) hh) args s mc ms (zA b0)) (F0 m 32 ls []) := by
  have hx := hc.x
  have hb := hc.b
  intro h a0 v1 v2 v3 v4 v5 C9 S9 H locs cells slots hf hq hn ls hl
  unfold f_X4_fillsGap_b32 at hf
  refine lv_iconst (v := (0 : Int32)) hx hb dX4_fillsGap_32 (by decide) ?_
  exact m_X4_fillsGap_b33 hc hr hin h a0 v1 v2 v3 v4 v5 (0 : Int32) _ _ _ _ _ _ hf hq hn _ (lv_sub hl [0, 1, 2, 3, 4, 5] rfl)
set_option maxHeartbeats 4000000 in
set_option maxRecDepth 100000 in
theorem m_X4_fillsGap (l : Launch) (D : va_G) (dA : Nat → ClassId) (b0 : Nat) (gs : Nat → Option Nat) (h : PH) (a0 : Nat) (v1 : Int32) (v2 : Int32) (v3 : Int32) (v4 : Int32) {r : Unit} {hh : PH} {mc ms : Nat} (hf : f_X4_fillsGap h a0 v1 v2 v3 v4 = some (r, hh, mc, ms)) : zMt l D dA b0 gs yX4_fillsGap cX4_fillsGap 11 none 3 107 [.ref a0, .int v1, .int v2, .int v3, .int v4] h (evU r) hh mc ms := by
  unfold f_X4_fillsGap at hf
  refine zMt.of (by decide) (Nat.le_of_ble_eq_true rfl) ?_
  intro p e s m args below meth c hc hr hin hn ls hl
  have hl : lv_has ls 11 [(0, .ref a0), (1, .int v1), (2, .int v2), (3, .int v3), (4, .int v4)] := hl
  have hq : 0 + mc = mc ∧ 0 + ms = ms := ⟨Nat.zero_add _, Nat.zero_add _⟩
  have hx := hc.x
  have hb := hc.b
  refine lv_iload_n hx hb dX4_fillsGap_0 rfl (lv_at hl 1 rfl) ?_
  refine zr_cSI (As := [.int v1]) (rest := []) hc hn hq hd_X4_base (lw_S q2284 q2285 q91 q2286) (Nat.le_of_ble_eq_true rfl) (Nat.le_of_ble_eq_true rfl) (fun _ _ _ _ q => m_X4_base l D dA b0 gs h v1 q) hf dX4_fillsGap_1 hl.1 rfl rfl (zroom (Nat.le_of_ble_eq_true rfl)) (fun x101 h102 H locs cells slots C9 S9 hf hq hn => ?_)
  refine lv_istore (lv' := [(5, .int x101), (0, .ref a0), (1, .int v1), (2, .int v2), (3, .int v3), (4, .int v4)]) hx hb dX4_fillsGap_4 hl (by decide) rfl (fun ls hl => ?_)
  refine lv_iload_n hx hb dX4_fillsGap_6 rfl (lv_at hl 4 rfl) ?_
  refine lv_if_lt (tgt := 32) hx hb dX4_fillsGap_7 (by decide) (fun c9 => ?_) (fun c9 => ?_)
  · have hf := zif_t c9 hf
    exact m_X4_fillsGap_b32 hc hr hin h102 a0 v1 v2 v3 v4 x101 _ _ _ _ _ _ hf hq hn _ (lv_sub hl [1, 2, 3, 4, 5, 0] rfl)
  · have hf := zif_f c9 hf
    refine lv_aload_n (x := a0) hx hb dX4_fillsGap_10 rfl (lv_at hl 1 rfl) ?_
    refine zr_gP hc hn (ci := 3) rfl rfl in_X4 1 (by decide) q2100 (fun _ h => h) (fun _ _ _ => rfl) hf dX4_fillsGap_11 (fun x103 hf => ?_)
    refine lv_iload hx hb dX4_fillsGap_14 (lv_at hl 0 rfl) ?_
    refine lv_bipush (v := (122 : Int32)) hx hb dX4_fillsGap_16 (by decide) ?_
    refine lv_iadd hx hb dX4_fillsGap_18 ?_
    refine zr_nmI hf (fun x104 hf => ?_)
    refine lv_iload_n hx hb dX4_fillsGap_19 rfl (lv_at hl 4 rfl) ?_
    refine lv_iadd hx hb dX4_fillsGap_20 ?_
    refine zr_nmI hf (fun x105 hf => ?_)
    obtain ⟨a106, e9, hf9⟩ := znn_i hf
    subst e9
    have hf := hf9
    clear hf9
    refine zr_aI0 hc hn hf dX4_fillsGap_21 (fun x107 hf => ?_)
    refine lv_iload_n hx hb dX4_fillsGap_22 rfl (lv_at hl 3 rfl) ?_
    refine lv_iconst (v := (1 : Int32)) hx hb dX4_fillsGap_23 (by decide) ?_
    refine lv_iadd hx hb dX4_fillsGap_24 ?_
    refine zr_nmI hf (fun x108 hf => ?_)
    refine lv_icmp_ne (tgt := 32) hx hb dX4_fillsGap_25 (by decide) (fun c9 => ?_) (fun c9 => ?_)
    · have hf := zif_f c9 hf
      exact m_X4_fillsGap_b32 hc hr hin h102 a0 v1 v2 v3 v4 x101 _ _ _ _ _ _ hf hq hn _ (lv_sub hl [1, 2, 3, 4, 5, 0] rfl)
    · have hf := zif_t c9 hf
      refine lv_iconst (v := (1 : Int32)) hx hb dX4_fillsGap_28 (by decide) ?_
      refine lv_goto (tgt := 33) hx hb dX4_fillsGap_29 (by decide) ?_
      exact m_X4_fillsGap_b33 hc hr hin h102 a0 v1 v2 v3 v4 x101 (1 : Int32) _ _ _ _ _ _ hf hq hn _ (lv_sub hl [1, 2, 3, 4, 5, 0] rfl)
theorem hd_X4_fills : yX4_fills.cls ≠ "java/lang/invoke/MethodHandle" ∧ yX4_fills.cls ≠ "java/lang/invoke/VarHandle" ∧ (parseMethodDescriptor yX4_fills.desc).map (fun d => d.parameters.length) = some 1 := by decide +kernel
def f_X4_fills_b32 (k23 : PH → Nat → Int32 → Int32 → Int32 → ZR Int32) : Nat → PH → Nat → Int32 → Int32 → Int32 → Int32 → ZR Int32
  | 0 => fun _ _ _ _ _ _ => none
  | n + 1 => fun h a0 v1 v3 v4 v5 =>
    if v3 ≤ v5 then
      (znm (v4 + (-1 : Int32)) fun x101 =>
      k23 h a0 v1 v3 x101)
    else
      (znm (v4 + (1 : Int32)) fun x102 =>
      zrc h a0 3 <| zcl (f_X4_after h a0 v1 x102 v5) fun x103 h104 =>
      zrc h104 a0 3 <| zcl (f_X4_between h104 a0 v1 v4 v5 x103) fun x105 h106 =>
      if x105 = 0 then
        (zrc h106 a0 3 <| zcl (f_X4_fillsGap h106 a0 v1 v4 v5 x103) fun _ h108 =>
        zret (1 : Int32) h108)
      else
        (f_X4_fills_b32 k23 n h106 a0 v1 v3 v4 x103))
def f_X4_fills_b23 : Nat → PH → Nat → Int32 → Int32 → Int32 → ZR Int32
  | 0 => fun _ _ _ _ _ => none
  | n + 1 => fun h a0 v1 v3 v4 =>
    if v4 < (1 : Int32) then
      (zret (0 : Int32) h)
    else
      (f_X4_fills_b32 (f_X4_fills_b23 n) zFU h a0 v1 v3 v4 (-1 : Int32))
def f_X4_fills (h : PH) (a0 : Nat) (v1 : Int32) : ZR Int32 :=
  zcl (f_X4_base h v1) fun x101 h102 =>
  zgP h102 a0 3 1 fun x103 =>
  znm (x101 + (1 : Int32)) fun x104 =>
  znn x103 fun a105 =>
  zaI h102 a105 0 x104 fun x106 =>
  zrc h102 a0 3 <| zcl (f_X4_heightOf h102 a0 v1) fun x107 h108 =>
  znm (x107 - (1 : Int32)) fun x109 =>
  f_X4_fills_b23 zFU h108 a0 v1 x106 x109
set_option maxHeartbeats 4000000 in
set_option maxRecDepth 100000 in
theorem m_X4_fills_b32 {p : Program} {l : Launch} {e : Env} {s : State} {m : MethodId} {args : Array Value} {below : List Frame} {meth : Method} {c : Code} {D : va_G} {dA : Nat → ClassId} {b0 : Nat} {gs : Nat → Option Nat} (hc : zC D dA b0 gs yX4_fills.cls cX4_fills 7 p c s m args meth) (hr : meth.sig.returnType = (some .boolean)) (hin : meth.name = yX4_fills.name) {r : Int32} {hh : PH} {mc ms : Nat} (k23 : PH → Nat → Int32 → Int32 → Int32 → ZR Int32) (hk23 : ∀ (h : PH) (a0 : Nat) (v1 : Int32) (v3 : Int32) (v4 : Int32) (C9 S9 : Nat) (H : Heap) (locs : List Loc) (cells slots : Nat), k23 h a0 v1 v3 v4 = some (r, hh, C9, S9) → cells + C9 = mc ∧ slots + S9 = ms → zM D dA b0 gs s h H locs → ∀ ls : Array Slot, lv_has ls 7 [(0, .ref a0), (1, .int v1), (3, .int v3), (4, .int v4)] → W p l e ({ frames := 4, cells := mc, slots := ms, locals := 137 } : Room) s m args below meth c H locs cells slots (MQ below (zQ D dA b0 gs (evI r) hh) args s mc ms (zA b0)) (F0 m 23 ls [])) : ∀ (n : Nat) (h : PH) (a0 : Nat) (v1 : Int32) (v3 : Int32) (v4 : Int32) (v5 : Int32) (C9 S9 : Nat) (H : Heap) (locs : List Loc) (cells slots : Nat), f_X4_fills_b32 k23 n h a0 v1 v3 v4 v5 = some (r, hh, C9, S9) → cells + C9 = mc ∧ slots + S9 = ms → zM D dA b0 gs s h H locs → ∀ ls : Array Slot, lv_has ls 7 [(0, .ref a0), (1, .int v1), (3, .int v3), (4, .int v4), (5, .int v5)] → W p l e ({ frames := 4, cells := mc, slots := ms, locals := 137 } : Room) s m args below meth c H locs cells slots (MQ below (zQ D dA b0 gs (evI r) hh) args s mc ms (zA b0)) (F0 m 32 ls []) := by
  have hx := hc.x
  have hb := hc.b
  intro n
  induction n with
  | zero =>
    intro h a0 v1 v3 v4 v5 C9 S9 H locs cells slots hf hq hn ls hl
    cases hf
  | succ n ih =>
    intro h a0 v1 v3 v4 v5 C9 S9 H locs cells slots hf hq hn ls hl
    unfold f_X4_fills_b32 at hf
    refine lv_iload hx hb dX4_fills_32 (lv_at hl 4 rfl) ?_
    refine lv_iload_n hx hb dX4_fills_34 rfl (lv_at hl 2 rfl) ?_
    refine lv_icmp_ge (tgt := 85) hx hb dX4_fills_35 (by decide) (fun c9 => ?_) (fun c9 => ?_)
    · have hf := zif_t c9 hf
      obtain ⟨x101, ex101, hf⟩ := znm_i hf
      refine lv_iinc (v := x101) (lv' := [(4, .int x101), (0, .ref a0), (1, .int v1), (3, .int v3), (5, .int v5)]) hx hb dX4_fills_85 hl (k := 3) rfl (by rw [ex101]; rfl) (by decide) rfl (fun ls hl => ?_)
      refine lv_goto (tgt := 23) hx hb dX4_fills_88 (by decide) ?_
      exact hk23 h a0 v1 v3 x101 _ _ _ _ _ _ hf hq hn _ (lv_sub hl [1, 2, 3, 0] rfl)
    · have hf := zif_f c9 hf
      refine lv_aload_n (x := a0) hx hb dX4_fills_38 rfl (lv_at hl 0 rfl) ?_
      refine lv_iload_n hx hb dX4_fills_39 rfl (lv_at hl 1 rfl) ?_
      refine lv_iload hx hb dX4_fills_40 (lv_at hl 3 rfl) ?_
      refine lv_iconst (v := (1 : Int32)) hx hb dX4_fills_42 (by decide) ?_
      refine lv_iadd hx hb dX4_fills_43 ?_
      refine zr_nmI hf (fun x102 hf => ?_)
      refine lv_iload hx hb dX4_fills_44 (lv_at hl 4 rfl) ?_
      refine zr_cVI (As := [.int v1, .int x102, .int v5]) (rest := []) hc hn hq (ci := 3) rfl ⟨rfl, hd_X4_after⟩ (lw_V q2303 q2305 qs51 q91 q2306) (Nat.le_of_ble_eq_true rfl) (Nat.le_of_ble_eq_true rfl) (fun _ _ _ _ q => m_X4_after l D dA b0 gs h a0 v1 x102 v5 q) hf dX4_fills_46 hl.1 rfl rfl (zroom (Nat.le_of_ble_eq_true rfl)) (fun x103 h104 H locs cells slots C9 S9 hf hq hn => ?_)
      refine lv_istore (lv' := [(6, .int x103), (0, .ref a0), (1, .int v1), (3, .int v3), (4, .int v4), (5, .int v5)]) hx hb dX4_fills_49 hl (by decide) rfl (fun ls hl => ?_)
      refine lv_aload_n (x := a0) hx hb dX4_fills_51 rfl (lv_at hl 1 rfl) ?_
      refine lv_iload_n hx hb dX4_fills_52 rfl (lv_at hl 2 rfl) ?_
      refine lv_iload hx hb dX4_fills_53 (lv_at hl 4 rfl) ?_
      refine lv_iload hx hb dX4_fills_55 (lv_at hl 5 rfl) ?_
      refine lv_iload hx hb dX4_fills_57 (lv_at hl 0 rfl) ?_
      refine zr_cVI (As := [.int v1, .int v4, .int v5, .int x103]) (rest := []) hc hn hq (ci := 3) rfl ⟨rfl, hd_X4_between⟩ (lw_V q2307 q2309 qs52 q91 q2310) (Nat.le_of_ble_eq_true rfl) (Nat.le_of_ble_eq_true rfl) (fun _ _ _ _ q => m_X4_between l D dA b0 gs h104 a0 v1 v4 v5 x103 q) hf dX4_fills_59 hl.1 rfl rfl (zroom (Nat.le_of_ble_eq_true rfl)) (fun x105 h106 H locs cells slots C9 S9 hf hq hn => ?_)
      refine lv_if_ne (tgt := 78) hx hb dX4_fills_62 (by decide) (fun c9 => ?_) (fun c9 => ?_)
      · have hf := zif_f c9 hf
        refine lv_iload hx hb dX4_fills_78 (lv_at hl 0 rfl) ?_
        refine lv_istore (lv' := [(5, .int x103), (6, .int x103), (0, .ref a0), (1, .int v1), (3, .int v3), (4, .int v4)]) hx hb dX4_fills_80 hl (by decide) rfl (fun ls hl => ?_)
        refine lv_goto (tgt := 32) hx hb dX4_fills_82 (by decide) ?_
        exact ih h106 a0 v1 v3 v4 x103 _ _ _ _ _ _ hf hq hn _ (lv_sub hl [2, 3, 4, 5, 0] rfl)
      · have hf := zif_t c9 hf
        refine lv_aload_n (x := a0) hx hb dX4_fills_65 rfl (lv_at hl 1 rfl) ?_
        refine lv_iload_n hx hb dX4_fills_66 rfl (lv_at hl 2 rfl) ?_
        refine lv_iload hx hb dX4_fills_67 (lv_at hl 4 rfl) ?_
        refine lv_iload hx hb dX4_fills_69 (lv_at hl 5 rfl) ?_
        refine lv_iload hx hb dX4_fills_71 (lv_at hl 0 rfl) ?_
        refine zr_cVU (As := [.int v1, .int v4, .int v5, .int x103]) (rest := []) hc hn hq (ci := 3) rfl ⟨rfl, hd_X4_fillsGap⟩ (lw_V q2319 q2321 qs55 q91 q2322) (Nat.le_of_ble_eq_true rfl) (Nat.le_of_ble_eq_true rfl) (fun _ _ _ _ q => m_X4_fillsGap l D dA b0 gs h106 a0 v1 v4 v5 x103 q) hf dX4_fills_73 hl.1 rfl rfl (zroom (Nat.le_of_ble_eq_true rfl)) (fun x107 h108 H locs cells slots C9 S9 hf hq hn => ?_)
        refine lv_iconst (v := (1 : Int32)) hx hb dX4_fills_76 (by decide) ?_
        obtain ⟨rfl, rfl, rfl, rfl⟩ := zret_i hf
        exact zr_zret hc hn hr (by decide) hq (fun _ _ _ _ q => q) dX4_fills_77
set_option maxHeartbeats 4000000 in
set_option maxRecDepth 100000 in
theorem m_X4_fills_b23 {p : Program} {l : Launch} {e : Env} {s : State} {m : MethodId} {args : Array Value} {below : List Frame} {meth : Method} {c : Code} {D : va_G} {dA : Nat → ClassId} {b0 : Nat} {gs : Nat → Option Nat} (hc : zC D dA b0 gs yX4_fills.cls cX4_fills 7 p c s m args meth) (hr : meth.sig.returnType = (some .boolean)) (hin : meth.name = yX4_fills.name) {r : Int32} {hh : PH} {mc ms : Nat} : ∀ (n : Nat) (h : PH) (a0 : Nat) (v1 : Int32) (v3 : Int32) (v4 : Int32) (C9 S9 : Nat) (H : Heap) (locs : List Loc) (cells slots : Nat), f_X4_fills_b23 n h a0 v1 v3 v4 = some (r, hh, C9, S9) → cells + C9 = mc ∧ slots + S9 = ms → zM D dA b0 gs s h H locs → ∀ ls : Array Slot, lv_has ls 7 [(0, .ref a0), (1, .int v1), (3, .int v3), (4, .int v4)] → W p l e ({ frames := 4, cells := mc, slots := ms, locals := 137 } : Room) s m args below meth c H locs cells slots (MQ below (zQ D dA b0 gs (evI r) hh) args s mc ms (zA b0)) (F0 m 23 ls []) := by
  have hx := hc.x
  have hb := hc.b
  intro n
  induction n with
  | zero =>
    intro h a0 v1 v3 v4 C9 S9 H locs cells slots hf hq hn ls hl
    cases hf
  | succ n ih =>
    intro h a0 v1 v3 v4 C9 S9 H locs cells slots hf hq hn ls hl
    unfold f_X4_fills_b23 at hf
    refine lv_iload hx hb dX4_fills_23 (lv_at hl 3 rfl) ?_
    refine lv_iconst (v := (1 : Int32)) hx hb dX4_fills_25 (by decide) ?_
    refine lv_icmp_lt (tgt := 91) hx hb dX4_fills_26 (by decide) (fun c9 => ?_) (fun c9 => ?_)
    · have hf := zif_t c9 hf
      refine lv_iconst (v := (0 : Int32)) hx hb dX4_fills_91 (by decide) ?_
      obtain ⟨rfl, rfl, rfl, rfl⟩ := zret_i hf
      exact zr_zret hc hn hr (by decide) hq (fun _ _ _ _ q => q) dX4_fills_92
    · have hf := zif_f c9 hf
      refine lv_iconst (v := (-1 : Int32)) hx hb dX4_fills_29 (by decide) ?_
      refine lv_istore (lv' := [(5, .int (-1 : Int32)), (0, .ref a0), (1, .int v1), (3, .int v3), (4, .int v4)]) hx hb dX4_fills_30 hl (by decide) rfl (fun ls hl => ?_)
      exact m_X4_fills_b32 hc hr hin (f_X4_fills_b23 n) ih zFU h a0 v1 v3 v4 (-1 : Int32) _ _ _ _ _ _ hf hq hn _ (lv_sub hl [1, 2, 3, 4, 0] rfl)
set_option maxHeartbeats 4000000 in
set_option maxRecDepth 100000 in
theorem m_X4_fills (l : Launch) (D : va_G) (dA : Nat → ClassId) (b0 : Nat) (gs : Nat → Option Nat) (h : PH) (a0 : Nat) (v1 : Int32) {r : Int32} {hh : PH} {mc ms : Nat} (hf : f_X4_fills h a0 v1 = some (r, hh, mc, ms)) : zMt l D dA b0 gs yX4_fills cX4_fills 7 (some .boolean) 4 137 [.ref a0, .int v1] h (evI r) hh mc ms := by
  unfold f_X4_fills at hf
  refine zMt.of (by decide) (Nat.le_of_ble_eq_true rfl) ?_
  intro p e s m args below meth c hc hr hin hn ls hl
  have hl : lv_has ls 7 [(0, .ref a0), (1, .int v1)] := hl
  have hq : 0 + mc = mc ∧ 0 + ms = ms := ⟨Nat.zero_add _, Nat.zero_add _⟩
  have hx := hc.x
  have hb := hc.b
  refine lv_iload_n hx hb dX4_fills_0 rfl (lv_at hl 1 rfl) ?_
  refine zr_cSI (As := [.int v1]) (rest := []) hc hn hq hd_X4_base (lw_S q2284 q2285 q91 q2286) (Nat.le_of_ble_eq_true rfl) (Nat.le_of_ble_eq_true rfl) (fun _ _ _ _ q => m_X4_base l D dA b0 gs h v1 q) hf dX4_fills_1 hl.1 rfl rfl (zroom (Nat.le_of_ble_eq_true rfl)) (fun x101 h102 H locs cells slots C9 S9 hf hq hn => ?_)
  refine lv_istore_n (i := 2) (lv' := [(2, .int x101), (0, .ref a0), (1, .int v1)]) hx hb dX4_fills_4 rfl hl (by decide) rfl (fun ls hl => ?_)
  refine lv_aload_n (x := a0) hx hb dX4_fills_5 rfl (lv_at hl 1 rfl) ?_
  refine zr_gP hc hn (ci := 3) rfl rfl in_X4 1 (by decide) q2100 (fun _ h => h) (fun _ _ _ => rfl) hf dX4_fills_6 (fun x103 hf => ?_)
  refine lv_iload_n hx hb dX4_fills_9 rfl (lv_at hl 0 rfl) ?_
  refine lv_iconst (v := (1 : Int32)) hx hb dX4_fills_10 (by decide) ?_
  refine lv_iadd hx hb dX4_fills_11 ?_
  refine zr_nmI hf (fun x104 hf => ?_)
  obtain ⟨a105, e9, hf9⟩ := znn_i hf
  subst e9
  have hf := hf9
  clear hf9
  refine zr_aI0 hc hn hf dX4_fills_12 (fun x106 hf => ?_)
  refine lv_istore_n (i := 3) (lv' := [(3, .int x106), (2, .int x101), (0, .ref a0), (1, .int v1)]) hx hb dX4_fills_13 rfl hl (by decide) rfl (fun ls hl => ?_)
  refine lv_aload_n (x := a0) hx hb dX4_fills_14 rfl (lv_at hl 2 rfl) ?_
  refine lv_iload_n hx hb dX4_fills_15 rfl (lv_at hl 3 rfl) ?_
  refine zr_cVI (As := [.int v1]) (rest := []) hc hn hq (ci := 3) rfl ⟨rfl, hd_X4_heightOf⟩ (lw_V q2299 q2301 qs50 q91 q2302) (Nat.le_of_ble_eq_true rfl) (Nat.le_of_ble_eq_true rfl) (fun _ _ _ _ q => m_X4_heightOf l D dA b0 gs h102 a0 v1 q) hf dX4_fills_16 hl.1 rfl rfl (zroom (Nat.le_of_ble_eq_true rfl)) (fun x107 h108 H locs cells slots C9 S9 hf hq hn => ?_)
  refine lv_iconst (v := (1 : Int32)) hx hb dX4_fills_19 (by decide) ?_
  refine lv_isub hx hb dX4_fills_20 ?_
  refine zr_nmI hf (fun x109 hf => ?_)
  refine lv_istore (lv' := [(4, .int x109), (3, .int x106), (2, .int x101), (0, .ref a0), (1, .int v1)]) hx hb dX4_fills_21 hl (by decide) rfl (fun ls hl => ?_)
  exact m_X4_fills_b23 hc hr hin zFU h108 a0 v1 x106 x109 _ _ _ _ _ _ hf hq hn _ (lv_sub hl [3, 4, 1, 0] rfl)
theorem hd_X4_repairs : yX4_repairs.cls ≠ "java/lang/invoke/MethodHandle" ∧ yX4_repairs.cls ≠ "java/lang/invoke/VarHandle" ∧ (parseMethodDescriptor yX4_repairs.desc).map (fun d => d.parameters.length) = some 1 := by decide +kernel
def f_X4_repairs_b27 (k2 : PH → Nat → Int32 → Int32 → ZR Unit) (h : PH) (a0 : Nat) (v1 : Int32) (s0 : Int32) : ZR Unit :=
  k2 h a0 v1 s0
def f_X4_repairs_b22 (k2 : PH → Nat → Int32 → Int32 → ZR Unit) (h : PH) (a0 : Nat) (v1 : Int32) : ZR Unit :=
  f_X4_repairs_b27 k2 h a0 v1 (1 : Int32)
def f_X4_repairs_b2 : Nat → PH → Nat → Int32 → Int32 → ZR Unit
  | 0 => fun _ _ _ _ => none
  | n + 1 => fun h a0 v1 v2 =>
    if v2 = 0 then
      (zret () h)
    else
      (zrc h a0 3 <| zcl (f_X4_divides h a0 v1) fun x101 h102 =>
      if x101 = 0 then
        (zrc h102 a0 3 <| zcl (f_X4_fills h102 a0 v1) fun x103 h104 =>
        if x103 = 0 then
          (f_X4_repairs_b27 (f_X4_repairs_b2 n) h104 a0 v1 (0 : Int32))
        else
          (f_X4_repairs_b22 (f_X4_repairs_b2 n) h104 a0 v1))
      else
        (f_X4_repairs_b22 (f_X4_repairs_b2 n) h102 a0 v1))
def f_X4_repairs (h : PH) (a0 : Nat) (v1 : Int32) : ZR Unit :=
  f_X4_repairs_b2 zFU h a0 v1 (1 : Int32)
set_option maxHeartbeats 4000000 in
set_option maxRecDepth 100000 in
theorem m_X4_repairs_b27 {p : Program} {l : Launch} {e : Env} {s : State} {m : MethodId} {args : Array Value} {below : List Frame} {meth : Method} {c : Code} {D : va_G} {dA : Nat → ClassId} {b0 : Nat} {gs : Nat → Option Nat} (hc : zC D dA b0 gs yX4_repairs.cls cX4_repairs 3 p c s m args meth) (hr : meth.sig.returnType = none) (hin : meth.name = yX4_repairs.name) {r : Unit} {hh : PH} {mc ms : Nat} (k2 : PH → Nat → Int32 → Int32 → ZR Unit) (hk2 : ∀ (h : PH) (a0 : Nat) (v1 : Int32) (v2 : Int32) (C9 S9 : Nat) (H : Heap) (locs : List Loc) (cells slots : Nat), k2 h a0 v1 v2 = some (r, hh, C9, S9) → cells + C9 = mc ∧ slots + S9 = ms → zM D dA b0 gs s h H locs → ∀ ls : Array Slot, lv_has ls 3 [(0, .ref a0), (1, .int v1), (2, .int v2)] → W p l e ({ frames := 5, cells := mc, slots := ms, locals := 163 } : Room) s m args below meth c H locs cells slots (MQ below (zQ D dA b0 gs (evU r) hh) args s mc ms (zA b0)) (F0 m 2 ls [])) : ∀ (h : PH) (a0 : Nat) (v1 : Int32) (s0 : Int32) (C9 S9 : Nat) (H : Heap) (locs : List Loc) (cells slots : Nat), f_X4_repairs_b27 k2 h a0 v1 s0 = some (r, hh, C9, S9) → cells + C9 = mc ∧ slots + S9 = ms → zM D dA b0 gs s h H locs → ∀ ls : Array Slot, lv_has ls 3 [(0, .ref a0), (1, .int v1)] → W p l e ({ frames := 5, cells := mc, slots := ms, locals := 163 } : Room) s m args below meth c H locs cells slots (MQ below (zQ D dA b0 gs (evU r) hh) args s mc ms (zA b0)) (F0 m 27 ls [.int s0]) := by
  have hx := hc.x
  have hb := hc.b
  intro h a0 v1 s0 C9 S9 H locs cells slots hf hq hn ls hl
  unfold f_X4_repairs_b27 at hf
  refine lv_istore_n (i := 2) (lv' := [(2, .int s0), (0, .ref a0), (1, .int v1)]) hx hb dX4_repairs_27 rfl hl (by decide) rfl (fun ls hl => ?_)
  refine lv_goto (tgt := 2) hx hb dX4_repairs_28 (by decide) ?_
  exact hk2 h a0 v1 s0 _ _ _ _ _ _ hf hq hn _ (lv_sub hl [1, 2, 0] rfl)
set_option maxHeartbeats 4000000 in
set_option maxRecDepth 100000 in
theorem m_X4_repairs_b22 {p : Program} {l : Launch} {e : Env} {s : State} {m : MethodId} {args : Array Value} {below : List Frame} {meth : Method} {c : Code} {D : va_G} {dA : Nat → ClassId} {b0 : Nat} {gs : Nat → Option Nat} (hc : zC D dA b0 gs yX4_repairs.cls cX4_repairs 3 p c s m args meth) (hr : meth.sig.returnType = none) (hin : meth.name = yX4_repairs.name) {r : Unit} {hh : PH} {mc ms : Nat} (k2 : PH → Nat → Int32 → Int32 → ZR Unit) (hk2 : ∀ (h : PH) (a0 : Nat) (v1 : Int32) (v2 : Int32) (C9 S9 : Nat) (H : Heap) (locs : List Loc) (cells slots : Nat), k2 h a0 v1 v2 = some (r, hh, C9, S9) → cells + C9 = mc ∧ slots + S9 = ms → zM D dA b0 gs s h H locs → ∀ ls : Array Slot, lv_has ls 3 [(0, .ref a0), (1, .int v1), (2, .int v2)] → W p l e ({ frames := 5, cells := mc, slots := ms, locals := 163 } : Room) s m args below meth c H locs cells slots (MQ below (zQ D dA b0 gs (evU r) hh) args s mc ms (zA b0)) (F0 m 2 ls [])) : ∀ (h : PH) (a0 : Nat) (v1 : Int32) (C9 S9 : Nat) (H : Heap) (locs : List Loc) (cells slots : Nat), f_X4_repairs_b22 k2 h a0 v1 = some (r, hh, C9, S9) → cells + C9 = mc ∧ slots + S9 = ms → zM D dA b0 gs s h H locs → ∀ ls : Array Slot, lv_has ls 3 [(0, .ref a0), (1, .int v1)] → W p l e ({ frames := 5, cells := mc, slots := ms, locals := 163 } : Room) s m args below meth c H locs cells slots (MQ below (zQ D dA b0 gs (evU r) hh) args s mc ms (zA b0)) (F0 m 22 ls []) := by
  have hx := hc.x
  have hb := hc.b
  intro h a0 v1 C9 S9 H locs cells slots hf hq hn ls hl
  unfold f_X4_repairs_b22 at hf
  refine lv_iconst (v := (1 : Int32)) hx hb dX4_repairs_22 (by decide) ?_
  refine lv_goto (tgt := 27) hx hb dX4_repairs_23 (by decide) ?_
  exact m_X4_repairs_b27 hc hr hin k2 hk2 h a0 v1 (1 : Int32) _ _ _ _ _ _ hf hq hn _ (lv_sub hl [0, 1] rfl)
set_option maxHeartbeats 4000000 in
set_option maxRecDepth 100000 in
theorem m_X4_repairs_b2 {p : Program} {l : Launch} {e : Env} {s : State} {m : MethodId} {args : Array Value} {below : List Frame} {meth : Method} {c : Code} {D : va_G} {dA : Nat → ClassId} {b0 : Nat} {gs : Nat → Option Nat} (hc : zC D dA b0 gs yX4_repairs.cls cX4_repairs 3 p c s m args meth) (hr : meth.sig.returnType = none) (hin : meth.name = yX4_repairs.name) {r : Unit} {hh : PH} {mc ms : Nat} : ∀ (n : Nat) (h : PH) (a0 : Nat) (v1 : Int32) (v2 : Int32) (C9 S9 : Nat) (H : Heap) (locs : List Loc) (cells slots : Nat), f_X4_repairs_b2 n h a0 v1 v2 = some (r, hh, C9, S9) → cells + C9 = mc ∧ slots + S9 = ms → zM D dA b0 gs s h H locs → ∀ ls : Array Slot, lv_has ls 3 [(0, .ref a0), (1, .int v1), (2, .int v2)] → W p l e ({ frames := 5, cells := mc, slots := ms, locals := 163 } : Room) s m args below meth c H locs cells slots (MQ below (zQ D dA b0 gs (evU r) hh) args s mc ms (zA b0)) (F0 m 2 ls []) := by
  have hx := hc.x
  have hb := hc.b
  intro n
  induction n with
  | zero =>
    intro h a0 v1 v2 C9 S9 H locs cells slots hf hq hn ls hl
    cases hf
  | succ n ih =>
    intro h a0 v1 v2 C9 S9 H locs cells slots hf hq hn ls hl
    unfold f_X4_repairs_b2 at hf
    refine lv_iload_n hx hb dX4_repairs_2 rfl (lv_at hl 2 rfl) ?_
    refine lv_if_eq (tgt := 31) hx hb dX4_repairs_3 (by decide) (fun c9 => ?_) (fun c9 => ?_)
    · have hf := zif_t c9 hf
      obtain ⟨rfl, rfl, rfl, rfl⟩ := zret_i hf
      exact zr_vret hc hn hr hq (fun _ _ _ _ q => q) dX4_repairs_31
    · have hf := zif_f c9 hf
      refine lv_aload_n (x := a0) hx hb dX4_repairs_6 rfl (lv_at hl 0 rfl) ?_
      refine lv_iload_n hx hb dX4_repairs_7 rfl (lv_at hl 1 rfl) ?_
      refine zr_cVI (As := [.int v1]) (rest := []) hc hn hq (ci := 3) rfl ⟨rfl, hd_X4_divides⟩ (lw_V q2295 q2297 qs49 q91 q2298) (Nat.le_of_ble_eq_true rfl) (Nat.le_of_ble_eq_true rfl) (fun _ _ _ _ q => m_X4_divides l D dA b0 gs h a0 v1 q) hf dX4_repairs_8 hl.1 rfl rfl (zroom (Nat.le_of_ble_eq_true rfl)) (fun x101 h102 H locs cells slots C9 S9 hf hq hn => ?_)
      refine lv_if_ne (tgt := 22) hx hb dX4_repairs_11 (by decide) (fun c9 => ?_) (fun c9 => ?_)
      · have hf := zif_f c9 hf
        exact m_X4_repairs_b22 hc hr hin (f_X4_repairs_b2 n) ih h102 a0 v1 _ _ _ _ _ _ hf hq hn _ (lv_sub hl [0, 1] rfl)
      · have hf := zif_t c9 hf
        refine lv_aload_n (x := a0) hx hb dX4_repairs_14 rfl (lv_at hl 0 rfl) ?_
        refine lv_iload_n hx hb dX4_repairs_15 rfl (lv_at hl 1 rfl) ?_
        refine zr_cVI (As := [.int v1]) (rest := []) hc hn hq (ci := 3) rfl ⟨rfl, hd_X4_fills⟩ (lw_V q2315 q2317 qs54 q91 q2318) (Nat.le_of_ble_eq_true rfl) (Nat.le_of_ble_eq_true rfl) (fun _ _ _ _ q => m_X4_fills l D dA b0 gs h102 a0 v1 q) hf dX4_repairs_16 hl.1 rfl rfl (zroom (Nat.le_of_ble_eq_true rfl)) (fun x103 h104 H locs cells slots C9 S9 hf hq hn => ?_)
        refine lv_if_eq (tgt := 26) hx hb dX4_repairs_19 (by decide) (fun c9 => ?_) (fun c9 => ?_)
        · have hf := zif_t c9 hf
          refine lv_iconst (v := (0 : Int32)) hx hb dX4_repairs_26 (by decide) ?_
          exact m_X4_repairs_b27 hc hr hin (f_X4_repairs_b2 n) ih h104 a0 v1 (0 : Int32) _ _ _ _ _ _ hf hq hn _ (lv_sub hl [0, 1] rfl)
        · have hf := zif_f c9 hf
          exact m_X4_repairs_b22 hc hr hin (f_X4_repairs_b2 n) ih h104 a0 v1 _ _ _ _ _ _ hf hq hn _ (lv_sub hl [0, 1] rfl)
set_option maxHeartbeats 4000000 in
set_option maxRecDepth 100000 in
theorem m_X4_repairs (l : Launch) (D : va_G) (dA : Nat → ClassId) (b0 : Nat) (gs : Nat → Option Nat) (h : PH) (a0 : Nat) (v1 : Int32) {r : Unit} {hh : PH} {mc ms : Nat} (hf : f_X4_repairs h a0 v1 = some (r, hh, mc, ms)) : zMt l D dA b0 gs yX4_repairs cX4_repairs 3 none 5 163 [.ref a0, .int v1] h (evU r) hh mc ms := by
  unfold f_X4_repairs at hf
  refine zMt.of (by decide) (Nat.le_of_ble_eq_true rfl) ?_
  intro p e s m args below meth c hc hr hin hn ls hl
  have hl : lv_has ls 3 [(0, .ref a0), (1, .int v1)] := hl
  have hq : 0 + mc = mc ∧ 0 + ms = ms := ⟨Nat.zero_add _, Nat.zero_add _⟩
  have hx := hc.x
  have hb := hc.b
  refine lv_iconst (v := (1 : Int32)) hx hb dX4_repairs_0 (by decide) ?_
  refine lv_istore_n (i := 2) (lv' := [(2, .int (1 : Int32)), (0, .ref a0), (1, .int v1)]) hx hb dX4_repairs_1 rfl hl (by decide) rfl (fun ls hl => ?_)
  exact m_X4_repairs_b2 hc hr hin zFU h a0 v1 (1 : Int32) _ _ _ _ _ _ hf hq hn _ (lv_sub hl [1, 2, 0] rfl)
theorem hd_X4_levels : yX4_levels.cls ≠ "java/lang/invoke/MethodHandle" ∧ yX4_levels.cls ≠ "java/lang/invoke/VarHandle" ∧ (parseMethodDescriptor yX4_levels.desc).map (fun d => d.parameters.length) = some 1 := by decide +kernel
def f_X4_levels_b27 (k7 : PH → Nat → Int32 → Int32 → Int32 → ZR Unit) : Nat → PH → Nat → Int32 → Int32 → Int32 → Int32 → Int32 → ZR Unit
  | 0 => fun _ _ _ _ _ _ _ => none
  | n + 1 => fun h a0 v1 v2 v3 v4 v5 =>
    zgd (¬ (2 : Int32) = 0) <|
    znm (v4 - v4 / (2 : Int32) * (2 : Int32)) fun x101 =>
    if x101 = 0 then
      (zgd (¬ (2 : Int32) = 0) <|
      znm (v4 / (2 : Int32)) fun x108 =>
      znm (v5 + (1 : Int32)) fun x109 =>
      f_X4_levels_b27 k7 n h a0 v1 v2 v3 x108 x109)
    else
      (zgP h a0 3 1 fun x102 =>
      znm (v2 + (122 : Int32)) fun x103 =>
      znm (x103 + v3) fun x104 =>
      znn x102 fun a105 =>
      zsI h a105 0 x104 v5 fun h106 =>
      znm (v3 + (1 : Int32)) fun x107 =>
      k7 h106 a0 v1 v2 x107)
def f_X4_levels_b7 : Nat → PH → Nat → Int32 → Int32 → Int32 → ZR Unit
  | 0 => fun _ _ _ _ _ => none
  | n + 1 => fun h a0 v1 v2 v3 =>
    zgP h a0 3 1 fun x101 =>
    znm (v2 + (1 : Int32)) fun x102 =>
    znn x101 fun a103 =>
    zaI h a103 0 x102 fun x104 =>
    if x104 ≤ v3 then
      (zrc h a0 3 <| zcl (f_X4_repairs h a0 v1) fun _ h106 =>
      zret () h106)
    else
      (znm (v3 + (1 : Int32)) fun x107 =>
      f_X4_levels_b27 (f_X4_levels_b7 n) zFU h a0 v1 v2 v3 x107 (1 : Int32))
def f_X4_levels (h : PH) (a0 : Nat) (v1 : Int32) : ZR Unit :=
  zcl (f_X4_base h v1) fun x101 h102 =>
  f_X4_levels_b7 zFU h102 a0 v1 x101 (0 : Int32)
set_option maxHeartbeats 4000000 in
set_option maxRecDepth 100000 in
theorem m_X4_levels_b27 {p : Program} {l : Launch} {e : Env} {s : State} {m : MethodId} {args : Array Value} {below : List Frame} {meth : Method} {c : Code} {D : va_G} {dA : Nat → ClassId} {b0 : Nat} {gs : Nat → Option Nat} (hc : zC D dA b0 gs yX4_levels.cls cX4_levels 6 p c s m args meth) (hr : meth.sig.returnType = none) (hin : meth.name = yX4_levels.name) {r : Unit} {hh : PH} {mc ms : Nat} (k7 : PH → Nat → Int32 → Int32 → Int32 → ZR Unit) (hk7 : ∀ (h : PH) (a0 : Nat) (v1 : Int32) (v2 : Int32) (v3 : Int32) (C9 S9 : Nat) (H : Heap) (locs : List Loc) (cells slots : Nat), k7 h a0 v1 v2 v3 = some (r, hh, C9, S9) → cells + C9 = mc ∧ slots + S9 = ms → zM D dA b0 gs s h H locs → ∀ ls : Array Slot, lv_has ls 6 [(0, .ref a0), (1, .int v1), (2, .int v2), (3, .int v3)] → W p l e ({ frames := 6, cells := mc, slots := ms, locals := 185 } : Room) s m args below meth c H locs cells slots (MQ below (zQ D dA b0 gs (evU r) hh) args s mc ms (zA b0)) (F0 m 7 ls [])) : ∀ (n : Nat) (h : PH) (a0 : Nat) (v1 : Int32) (v2 : Int32) (v3 : Int32) (v4 : Int32) (v5 : Int32) (C9 S9 : Nat) (H : Heap) (locs : List Loc) (cells slots : Nat), f_X4_levels_b27 k7 n h a0 v1 v2 v3 v4 v5 = some (r, hh, C9, S9) → cells + C9 = mc ∧ slots + S9 = ms → zM D dA b0 gs s h H locs → ∀ ls : Array Slot, lv_has ls 6 [(0, .ref a0), (1, .int v1), (2, .int v2), (3, .int v3), (4, .int v4), (5, .int v5)] → W p l e ({ frames := 6, cells := mc, slots := ms, locals := 185 } : Room) s m args below meth c H locs cells slots (MQ below (zQ D dA b0 gs (evU r) hh) args s mc ms (zA b0)) (F0 m 27 ls []) := by
  have hx := hc.x
  have hb := hc.b
  intro n
  induction n with
  | zero =>
    intro h a0 v1 v2 v3 v4 v5 C9 S9 H locs cells slots hf hq hn ls hl
    cases hf
  | succ n ih =>
    intro h a0 v1 v2 v3 v4 v5 C9 S9 H locs cells slots hf hq hn ls hl
    unfold f_X4_levels_b27 at hf
    refine lv_iload hx hb dX4_levels_27 (lv_at hl 4 rfl) ?_
    refine lv_iconst (v := (2 : Int32)) hx hb dX4_levels_29 (by decide) ?_
    obtain ⟨hne, hf⟩ := zgd_i hf
    refine lv_irem hx hb dX4_levels_30 hne ?_
    refine zr_nmI hf (fun x101 hf => ?_)
    refine lv_if_ne (tgt := 46) hx hb dX4_levels_31 (by decide) (fun c9 => ?_) (fun c9 => ?_)
    · have hf := zif_f c9 hf
      refine lv_aload_n (x := a0) hx hb dX4_levels_46 rfl (lv_at hl 0 rfl) ?_
      refine zr_gP hc hn (ci := 3) rfl rfl in_X4 1 (by decide) q2100 (fun _ h => h) (fun _ _ _ => rfl) hf dX4_levels_47 (fun x102 hf => ?_)
      refine lv_iload_n hx hb dX4_levels_50 rfl (lv_at hl 2 rfl) ?_
      refine lv_bipush (v := (122 : Int32)) hx hb dX4_levels_51 (by decide) ?_
      refine lv_iadd hx hb dX4_levels_53 ?_
      refine zr_nmI hf (fun x103 hf => ?_)
      refine lv_iload_n hx hb dX4_levels_54 rfl (lv_at hl 3 rfl) ?_
      refine lv_iadd hx hb dX4_levels_55 ?_
      refine zr_nmI hf (fun x104 hf => ?_)
      refine lv_iload hx hb dX4_levels_56 (lv_at hl 5 rfl) ?_
      obtain ⟨a105, e9, hf9⟩ := znn_i hf
      subst e9
      have hf := hf9
      clear hf9
      refine zr_sI hc hn hf dX4_levels_58 (fun h106 H locs hf hn => ?_)
      obtain ⟨x107, ex107, hf⟩ := znm_i hf
      refine lv_iinc (v := x107) (lv' := [(3, .int x107), (0, .ref a0), (1, .int v1), (2, .int v2), (4, .int v4), (5, .int v5)]) hx hb dX4_levels_59 hl (k := 3) rfl (by rw [ex107]; rfl) (by decide) rfl (fun ls hl => ?_)
      refine lv_goto (tgt := 7) hx hb dX4_levels_62 (by decide) ?_
      exact hk7 h106 a0 v1 v2 x107 _ _ _ _ _ _ hf hq hn _ (lv_sub hl [1, 2, 3, 0] rfl)
    · have hf := zif_t c9 hf
      refine lv_iload hx hb dX4_levels_34 (lv_at hl 4 rfl) ?_
      refine lv_iconst (v := (2 : Int32)) hx hb dX4_levels_36 (by decide) ?_
      obtain ⟨hne, hf⟩ := zgd_i hf
      refine lv_idiv hx hb dX4_levels_37 hne ?_
      refine zr_nmI hf (fun x108 hf => ?_)
      refine lv_istore (lv' := [(4, .int x108), (0, .ref a0), (1, .int v1), (2, .int v2), (3, .int v3), (5, .int v5)]) hx hb dX4_levels_38 hl (by decide) rfl (fun ls hl => ?_)
      obtain ⟨x109, ex109, hf⟩ := znm_i hf
      refine lv_iinc (v := x109) (lv' := [(5, .int x109), (4, .int x108), (0, .ref a0), (1, .int v1), (2, .int v2), (3, .int v3)]) hx hb dX4_levels_40 hl (k := 5) rfl (by rw [ex109]; rfl) (by decide) rfl (fun ls hl => ?_)
      refine lv_goto (tgt := 27) hx hb dX4_levels_43 (by decide) ?_
      exact ih h a0 v1 v2 v3 x108 x109 _ _ _ _ _ _ hf hq hn _ (lv_sub hl [2, 3, 4, 5, 1, 0] rfl)
set_option maxHeartbeats 4000000 in
set_option maxRecDepth 100000 in
theorem m_X4_levels_b7 {p : Program} {l : Launch} {e : Env} {s : State} {m : MethodId} {args : Array Value} {below : List Frame} {meth : Method} {c : Code} {D : va_G} {dA : Nat → ClassId} {b0 : Nat} {gs : Nat → Option Nat} (hc : zC D dA b0 gs yX4_levels.cls cX4_levels 6 p c s m args meth) (hr : meth.sig.returnType = none) (hin : meth.name = yX4_levels.name) {r : Unit} {hh : PH} {mc ms : Nat} : ∀ (n : Nat) (h : PH) (a0 : Nat) (v1 : Int32) (v2 : Int32) (v3 : Int32) (C9 S9 : Nat) (H : Heap) (locs : List Loc) (cells slots : Nat), f_X4_levels_b7 n h a0 v1 v2 v3 = some (r, hh, C9, S9) → cells + C9 = mc ∧ slots + S9 = ms → zM D dA b0 gs s h H locs → ∀ ls : Array Slot, lv_has ls 6 [(0, .ref a0), (1, .int v1), (2, .int v2), (3, .int v3)] → W p l e ({ frames := 6, cells := mc, slots := ms, locals := 185 } : Room) s m args below meth c H locs cells slots (MQ below (zQ D dA b0 gs (evU r) hh) args s mc ms (zA b0)) (F0 m 7 ls []) := by
  have hx := hc.x
  have hb := hc.b
  intro n
  induction n with
  | zero =>
    intro h a0 v1 v2 v3 C9 S9 H locs cells slots hf hq hn ls hl
    cases hf
  | succ n ih =>
    intro h a0 v1 v2 v3 C9 S9 H locs cells slots hf hq hn ls hl
    unfold f_X4_levels_b7 at hf
    refine lv_iload_n hx hb dX4_levels_7 rfl (lv_at hl 3 rfl) ?_
    refine lv_aload_n (x := a0) hx hb dX4_levels_8 rfl (lv_at hl 0 rfl) ?_
    refine zr_gP hc hn (ci := 3) rfl rfl in_X4 1 (by decide) q2100 (fun _ h => h) (fun _ _ _ => rfl) hf dX4_levels_9 (fun x101 hf => ?_)
    refine lv_iload_n hx hb dX4_levels_12 rfl (lv_at hl 2 rfl) ?_
    refine lv_iconst (v := (1 : Int32)) hx hb dX4_levels_13 (by decide) ?_
    refine lv_iadd hx hb dX4_levels_14 ?_
    refine zr_nmI hf (fun x102 hf => ?_)
    obtain ⟨a103, e9, hf9⟩ := znn_i hf
    subst e9
    have hf := hf9
    clear hf9
    refine zr_aI0 hc hn hf dX4_levels_15 (fun x104 hf => ?_)
    refine lv_icmp_ge (tgt := 65) hx hb dX4_levels_16 (by decide) (fun c9 => ?_) (fun c9 => ?_)
    · have hf := zif_t c9 hf
      refine lv_aload_n (x := a0) hx hb dX4_levels_65 rfl (lv_at hl 0 rfl) ?_
      refine lv_iload_n hx hb dX4_levels_66 rfl (lv_at hl 1 rfl) ?_
      refine zr_cVU (As := [.int v1]) (rest := []) hc hn hq (ci := 3) rfl ⟨rfl, hd_X4_repairs⟩ (lw_V q2291 q2293 qs48 q91 q2294) (Nat.le_of_ble_eq_true rfl) (Nat.le_of_ble_eq_true rfl) (fun _ _ _ _ q => m_X4_repairs l D dA b0 gs h a0 v1 q) hf dX4_levels_67 hl.1 rfl rfl (zroom (Nat.le_of_ble_eq_true rfl)) (fun x105 h106 H locs cells slots C9 S9 hf hq hn => ?_)
      obtain ⟨rfl, rfl, rfl, rfl⟩ := zret_i hf
      exact zr_vret hc hn hr hq (fun _ _ _ _ q => q) dX4_levels_70
    · have hf := zif_f c9 hf
      refine lv_iload_n hx hb dX4_levels_19 rfl (lv_at hl 3 rfl) ?_
      refine lv_iconst (v := (1 : Int32)) hx hb dX4_levels_20 (by decide) ?_
      refine lv_iadd hx hb dX4_levels_21 ?_
      refine zr_nmI hf (fun x107 hf => ?_)
      refine lv_istore (lv' := [(4, .int x107), (0, .ref a0), (1, .int v1), (2, .int v2), (3, .int v3)]) hx hb dX4_levels_22 hl (by decide) rfl (fun ls hl => ?_)
      refine lv_iconst (v := (1 : Int32)) hx hb dX4_levels_24 (by decide) ?_
      refine lv_istore (lv' := [(5, .int (1 : Int32)), (4, .int x107), (0, .ref a0), (1, .int v1), (2, .int v2), (3, .int v3)]) hx hb dX4_levels_25 hl (by decide) rfl (fun ls hl => ?_)
      exact m_X4_levels_b27 hc hr hin (f_X4_levels_b7 n) ih zFU h a0 v1 v2 v3 x107 (1 : Int32) _ _ _ _ _ _ hf hq hn _ (lv_sub hl [2, 3, 4, 5, 1, 0] rfl)
set_option maxHeartbeats 4000000 in
set_option maxRecDepth 100000 in
theorem m_X4_levels (l : Launch) (D : va_G) (dA : Nat → ClassId) (b0 : Nat) (gs : Nat → Option Nat) (h : PH) (a0 : Nat) (v1 : Int32) {r : Unit} {hh : PH} {mc ms : Nat} (hf : f_X4_levels h a0 v1 = some (r, hh, mc, ms)) : zMt l D dA b0 gs yX4_levels cX4_levels 6 none 6 185 [.ref a0, .int v1] h (evU r) hh mc ms := by
  unfold f_X4_levels at hf
  refine zMt.of (by decide) (Nat.le_of_ble_eq_true rfl) ?_
  intro p e s m args below meth c hc hr hin hn ls hl
  have hl : lv_has ls 6 [(0, .ref a0), (1, .int v1)] := hl
  have hq : 0 + mc = mc ∧ 0 + ms = ms := ⟨Nat.zero_add _, Nat.zero_add _⟩
  have hx := hc.x
  have hb := hc.b
  refine lv_iload_n hx hb dX4_levels_0 rfl (lv_at hl 1 rfl) ?_
  refine zr_cSI (As := [.int v1]) (rest := []) hc hn hq hd_X4_base (lw_S q2284 q2285 q91 q2286) (Nat.le_of_ble_eq_true rfl) (Nat.le_of_ble_eq_true rfl) (fun _ _ _ _ q => m_X4_base l D dA b0 gs h v1 q) hf dX4_levels_1 hl.1 rfl rfl (zroom (Nat.le_of_ble_eq_true rfl)) (fun x101 h102 H locs cells slots C9 S9 hf hq hn => ?_)
  refine lv_istore_n (i := 2) (lv' := [(2, .int x101), (0, .ref a0), (1, .int v1)]) hx hb dX4_levels_4 rfl hl (by decide) rfl (fun ls hl => ?_)
  refine lv_iconst (v := (0 : Int32)) hx hb dX4_levels_5 (by decide) ?_
  refine lv_istore_n (i := 3) (lv' := [(3, .int (0 : Int32)), (2, .int x101), (0, .ref a0), (1, .int v1)]) hx hb dX4_levels_6 rfl hl (by decide) rfl (fun ls hl => ?_)
  exact m_X4_levels_b7 hc hr hin zFU h102 a0 v1 x101 (0 : Int32) _ _ _ _ _ _ hf hq hn _ (lv_sub hl [2, 3, 1, 0] rfl)
theorem hd_X4_load : yX4_load.cls ≠ "java/lang/invoke/MethodHandle" ∧ yX4_load.cls ≠ "java/lang/invoke/VarHandle" ∧ (parseMethodDescriptor yX4_load.desc).map (fun d => d.parameters.length) = some 0 := by decide +kernel
def f_X4_load_b149 (k99 : PH → Nat → Int32 → ZR Int32) : Nat → PH → Nat → Int32 → Int32 → Int32 → ZR Int32
  | 0 => fun _ _ _ _ _ => none
  | n + 1 => fun h a0 v1 v2 v3 =>
    zgP h a0 3 24 fun x101 =>
    znn x101 fun a102 =>
    zaI h a102 0 v1 fun x103 =>
    if x103 ≤ v3 then
      (zrc h a0 3 <| zcl (f_X4_levels h a0 v1) fun _ h105 =>
      znm (v1 + (1 : Int32)) fun x106 =>
      k99 h105 a0 x106)
    else
      (zgP h a0 3 1 fun x107 =>
      znm (v2 + (2 : Int32)) fun x108 =>
      znm (x108 + v3) fun x109 =>
      zgP h a0 3 25 fun x110 =>
      znm ((60 : Int32) * v1) fun x111 =>
      znm (x111 + v3) fun x112 =>
      znn x110 fun a113 =>
      zaI h a113 0 x112 fun x114 =>
      znn x107 fun a115 =>
      zsI h a115 0 x109 x114 fun h116 =>
      zgP h116 a0 3 1 fun x117 =>
      znm (v2 + (62 : Int32)) fun x118 =>
      znm (x118 + v3) fun x119 =>
      zgP h116 a0 3 26 fun x120 =>
      znm ((60 : Int32) * v1) fun x121 =>
      znm (x121 + v3) fun x122 =>
      znn x120 fun a123 =>
      zaI h116 a123 0 x122 fun x124 =>
      znn x117 fun a125 =>
      zsI h116 a125 0 x119 x124 fun h126 =>
      znm (v3 + (1 : Int32)) fun x127 =>
      f_X4_load_b149 k99 n h126 a0 v1 v2 x127)
def f_X4_load_b221 : Nat → PH → Nat → Int32 → ZR Int32
  | 0 => fun _ _ _ => none
  | n + 1 => fun h a0 v1 =>
    if (6 : Int32) ≤ v1 then
      (zgP h a0 3 1 fun x101 =>
      znn x101 fun a102 =>
      zsI h a102 0 (7 : Int32) (0 : Int32) fun h103 =>
      zpI h103 a0 3 10 (0 : Int32) fun h104 =>
      zgP h104 a0 3 9 fun x105 =>
      znn x105 fun a106 =>
      zsZ h104 a106 (0 : Int32) (0 : Int32) fun h107 =>
      zgP h107 a0 3 9 fun x108 =>
      znn x108 fun a109 =>
      zsZ h107 a109 (1 : Int32) (0 : Int32) fun h110 =>
      zgI h110 a0 3 22 fun x111 =>
      zret x111 h110)
    else
      (zgP h a0 3 1 fun x112 =>
      znm ((1 : Int32) + v1) fun x113 =>
      znn x112 fun a114 =>
      zsI h a114 0 x113 (0 : Int32) fun h115 =>
      znm (v1 + (1 : Int32)) fun x116 =>
      f_X4_load_b221 n h115 a0 x116)
def f_X4_load_b99 : Nat → PH → Nat → Int32 → ZR Int32
  | 0 => fun _ _ _ => none
  | n + 1 => fun h a0 v1 =>
    zgI h a0 3 22 fun x101 =>
    if x101 ≤ v1 then
      (f_X4_load_b221 zFU h a0 (0 : Int32))
    else
      (zcl (f_X4_base h v1) fun x102 h103 =>
      zgP h103 a0 3 2 fun x104 =>
      zgP h103 a0 3 23 fun x105 =>
      znn x105 fun a106 =>
      zaL h103 a106 3 v1 fun x107 =>
      znn x104 fun a108 =>
      zsL h103 a108 3 v1 x107 fun h109 =>
      zgP h109 a0 3 1 fun x110 =>
      znm (x102 + (0 : Int32)) fun x111 =>
      znn x110 fun a112 =>
      zsI h109 a112 0 x111 (1 : Int32) fun h113 =>
      zgP h113 a0 3 1 fun x114 =>
      znm (x102 + (1 : Int32)) fun x115 =>
      zgP h113 a0 3 24 fun x116 =>
      znn x116 fun a117 =>
      zaI h113 a117 0 v1 fun x118 =>
      znn x114 fun a119 =>
      zsI h113 a119 0 x115 x118 fun h120 =>
      f_X4_load_b149 (f_X4_load_b99 n) zFU h120 a0 v1 x102 (0 : Int32))
def f_X4_load_b78 : Nat → PH → Nat → Int32 → ZR Int32
  | 0 => fun _ _ _ => none
  | n + 1 => fun h a0 v1 =>
    if (6 : Int32) ≤ v1 then
      (f_X4_load_b99 zFU h a0 (0 : Int32))
    else
      (zgP h a0 3 2 fun x101 =>
      znn x101 fun a102 =>
      zsL h a102 3 v1 (0 : Int64) fun h103 =>
      znm (v1 + (1 : Int32)) fun x104 =>
      f_X4_load_b78 n h103 a0 x104)
def f_X4_load_b46 : Nat → PH → Nat → Int32 → ZR Int32
  | 0 => fun _ _ _ => none
  | n + 1 => fun h a0 v1 =>
    if (4100 : Int32) ≤ v1 then
      (zgP h a0 3 1 fun x101 =>
      zgI h a0 3 21 fun x102 =>
      znn x101 fun a103 =>
      zsI h a103 0 (0 : Int32) x102 fun h104 =>
      f_X4_load_b78 zFU h104 a0 (0 : Int32))
    else
      (zgP h a0 3 1 fun x105 =>
      znn x105 fun a106 =>
      zsI h a106 0 v1 (0 : Int32) fun h107 =>
      znm (v1 + (1 : Int32)) fun x108 =>
      f_X4_load_b46 n h107 a0 x108)
def f_X4_load_b32 (h : PH) (a0 : Nat) (s0 : Nat) (s1 : Int32) : ZR Int32 :=
  zpI h s0 3 0 s1 fun h101 =>
  zgI h101 a0 3 0 fun x102 =>
  if x102 ≤ 0 then
    (f_X4_load_b46 zFU h101 a0 (0 : Int32))
  else
    (zret (0 : Int32) h101)
def f_X4_load (h : PH) (a0 : Nat) : ZR Int32 :=
  zpI h a0 3 15 (0 : Int32) fun h101 =>
  zpI h101 a0 3 16 (-1 : Int32) fun h102 =>
  zrc h102 a0 3 <| zcl (f_X4_readsText h102 a0) fun _ h104 =>
  zpI h104 a0 3 13 (0 : Int32) fun h105 =>
  zgI h105 a0 3 17 fun x106 =>
  if x106 = 0 then
    (f_X4_load_b32 h105 a0 a0 (0 : Int32))
  else
    (f_X4_load_b32 h105 a0 a0 (1 : Int32))
set_option maxHeartbeats 4000000 in
set_option maxRecDepth 100000 in
theorem m_X4_load_b149 {p : Program} {l : Launch} {e : Env} {s : State} {m : MethodId} {args : Array Value} {below : List Frame} {meth : Method} {c : Code} {D : va_G} {dA : Nat → ClassId} {b0 : Nat} {gs : Nat → Option Nat} (hc : zC D dA b0 gs yX4_load.cls cX4_load 4 p c s m args meth) (hr : meth.sig.returnType = (some .int)) (hin : meth.name = yX4_load.name) {r : Int32} {hh : PH} {mc ms : Nat} (k99 : PH → Nat → Int32 → ZR Int32) (hk99 : ∀ (h : PH) (a0 : Nat) (v1 : Int32) (C9 S9 : Nat) (H : Heap) (locs : List Loc) (cells slots : Nat), k99 h a0 v1 = some (r, hh, C9, S9) → cells + C9 = mc ∧ slots + S9 = ms → zM D dA b0 gs s h H locs → ∀ ls : Array Slot, lv_has ls 4 [(0, .ref a0), (1, .int v1)] → W p l e ({ frames := 8, cells := mc, slots := ms, locals := 215 } : Room) s m args below meth c H locs cells slots (MQ below (zQ D dA b0 gs (evI r) hh) args s mc ms (zA b0)) (F0 m 99 ls [])) : ∀ (n : Nat) (h : PH) (a0 : Nat) (v1 : Int32) (v2 : Int32) (v3 : Int32) (C9 S9 : Nat) (H : Heap) (locs : List Loc) (cells slots : Nat), f_X4_load_b149 k99 n h a0 v1 v2 v3 = some (r, hh, C9, S9) → cells + C9 = mc ∧ slots + S9 = ms → zM D dA b0 gs s h H locs → ∀ ls : Array Slot, lv_has ls 4 [(0, .ref a0), (1, .int v1), (2, .int v2), (3, .int v3)] → W p l e ({ frames := 8, cells := mc, slots := ms, locals := 215 } : Room) s m args below meth c H locs cells slots (MQ below (zQ D dA b0 gs (evI r) hh) args s mc ms (zA b0)) (F0 m 149 ls []) := by
  have hx := hc.x
  have hb := hc.b
  intro n
  induction n with
  | zero =>
    intro h a0 v1 v2 v3 C9 S9 H locs cells slots hf hq hn ls hl
    cases hf
  | succ n ih =>
    intro h a0 v1 v2 v3 C9 S9 H locs cells slots hf hq hn ls hl
    unfold f_X4_load_b149 at hf
    refine lv_iload_n hx hb dX4_load_149 rfl (lv_at hl 3 rfl) ?_
    refine lv_aload_n (x := a0) hx hb dX4_load_150 rfl (lv_at hl 0 rfl) ?_
    refine zr_gP hc hn (ci := 3) rfl rfl in_X4 24 (by decide) q2123 (fun _ h => h) (fun _ _ _ => rfl) hf dX4_load_151 (fun x101 hf => ?_)
    refine lv_iload_n hx hb dX4_load_154 rfl (lv_at hl 1 rfl) ?_
    obtain ⟨a102, e9, hf9⟩ := znn_i hf
    subst e9
    have hf := hf9
    clear hf9
    refine zr_aI0 hc hn hf dX4_load_155 (fun x103 hf => ?_)
    refine lv_icmp_ge (tgt := 208) hx hb dX4_load_156 (by decide) (fun c9 => ?_) (fun c9 => ?_)
    · have hf := zif_t c9 hf
      refine lv_aload_n (x := a0) hx hb dX4_load_208 rfl (lv_at hl 0 rfl) ?_
      refine lv_iload_n hx hb dX4_load_209 rfl (lv_at hl 1 rfl) ?_
      refine zr_cVU (As := [.int v1]) (rest := []) hc hn hq (ci := 3) rfl ⟨rfl, hd_X4_levels⟩ (lw_V q2287 q2289 qs47 q91 q2290) (Nat.le_of_ble_eq_true rfl) (Nat.le_of_ble_eq_true rfl) (fun _ _ _ _ q => m_X4_levels l D dA b0 gs h a0 v1 q) hf dX4_load_210 hl.1 rfl rfl (zroom (Nat.le_of_ble_eq_true rfl)) (fun x104 h105 H locs cells slots C9 S9 hf hq hn => ?_)
      obtain ⟨x106, ex106, hf⟩ := znm_i hf
      refine lv_iinc (v := x106) (lv' := [(1, .int x106), (0, .ref a0), (2, .int v2), (3, .int v3)]) hx hb dX4_load_213 hl (k := 1) rfl (by rw [ex106]; rfl) (by decide) rfl (fun ls hl => ?_)
      refine lv_goto (tgt := 99) hx hb dX4_load_216 (by decide) ?_
      exact hk99 h105 a0 x106 _ _ _ _ _ _ hf hq hn _ (lv_sub hl [1, 0] rfl)
    · have hf := zif_f c9 hf
      refine lv_aload_n (x := a0) hx hb dX4_load_159 rfl (lv_at hl 0 rfl) ?_
      refine zr_gP hc hn (ci := 3) rfl rfl in_X4 1 (by decide) q2100 (fun _ h => h) (fun _ _ _ => rfl) hf dX4_load_160 (fun x107 hf => ?_)
      refine lv_iload_n hx hb dX4_load_163 rfl (lv_at hl 2 rfl) ?_
      refine lv_iconst (v := (2 : Int32)) hx hb dX4_load_164 (by decide) ?_
      refine lv_iadd hx hb dX4_load_165 ?_
      refine zr_nmI hf (fun x108 hf => ?_)
      refine lv_iload_n hx hb dX4_load_166 rfl (lv_at hl 3 rfl) ?_
      refine lv_iadd hx hb dX4_load_167 ?_
      refine zr_nmI hf (fun x109 hf => ?_)
      refine lv_aload_n (x := a0) hx hb dX4_load_168 rfl (lv_at hl 0 rfl) ?_
      refine zr_gP hc hn (ci := 3) rfl rfl in_X4 25 (by decide) q2124 (fun _ h => h) (fun _ _ _ => rfl) hf dX4_load_169 (fun x110 hf => ?_)
      refine lv_bipush (v := (60 : Int32)) hx hb dX4_load_172 (by decide) ?_
      refine lv_iload_n hx hb dX4_load_174 rfl (lv_at hl 1 rfl) ?_
      refine lv_imul hx hb dX4_load_175 ?_
      refine zr_nmI hf (fun x111 hf => ?_)
      refine lv_iload_n hx hb dX4_load_176 rfl (lv_at hl 3 rfl) ?_
      refine lv_iadd hx hb dX4_load_177 ?_
      refine zr_nmI hf (fun x112 hf => ?_)
      obtain ⟨a113, e9, hf9⟩ := znn_i hf
      subst e9
      have hf := hf9
      clear hf9
      refine zr_aI0 hc hn hf dX4_load_178 (fun x114 hf => ?_)
      obtain ⟨a115, e9, hf9⟩ := znn_i hf
      subst e9
      have hf := hf9
      clear hf9
      refine zr_sI hc hn hf dX4_load_179 (fun h116 H locs hf hn => ?_)
      refine lv_aload_n (x := a0) hx hb dX4_load_180 rfl (lv_at hl 0 rfl) ?_
      refine zr_gP hc hn (ci := 3) rfl rfl in_X4 1 (by decide) q2100 (fun _ h => h) (fun _ _ _ => rfl) hf dX4_load_181 (fun x117 hf => ?_)
      refine lv_iload_n hx hb dX4_load_184 rfl (lv_at hl 2 rfl) ?_
      refine lv_bipush (v := (62 : Int32)) hx hb dX4_load_185 (by decide) ?_
      refine lv_iadd hx hb dX4_load_187 ?_
      refine zr_nmI hf (fun x118 hf => ?_)
      refine lv_iload_n hx hb dX4_load_188 rfl (lv_at hl 3 rfl) ?_
      refine lv_iadd hx hb dX4_load_189 ?_
      refine zr_nmI hf (fun x119 hf => ?_)
      refine lv_aload_n (x := a0) hx hb dX4_load_190 rfl (lv_at hl 0 rfl) ?_
      refine zr_gP hc hn (ci := 3) rfl rfl in_X4 26 (by decide) q2125 (fun _ h => h) (fun _ _ _ => rfl) hf dX4_load_191 (fun x120 hf => ?_)
      refine lv_bipush (v := (60 : Int32)) hx hb dX4_load_194 (by decide) ?_
      refine lv_iload_n hx hb dX4_load_196 rfl (lv_at hl 1 rfl) ?_
      refine lv_imul hx hb dX4_load_197 ?_
      refine zr_nmI hf (fun x121 hf => ?_)
      refine lv_iload_n hx hb dX4_load_198 rfl (lv_at hl 3 rfl) ?_
      refine lv_iadd hx hb dX4_load_199 ?_
      refine zr_nmI hf (fun x122 hf => ?_)
      obtain ⟨a123, e9, hf9⟩ := znn_i hf
      subst e9
      have hf := hf9
      clear hf9
      refine zr_aI0 hc hn hf dX4_load_200 (fun x124 hf => ?_)
      obtain ⟨a125, e9, hf9⟩ := znn_i hf
      subst e9
      have hf := hf9
      clear hf9
      refine zr_sI hc hn hf dX4_load_201 (fun h126 H locs hf hn => ?_)
      obtain ⟨x127, ex127, hf⟩ := znm_i hf
      refine lv_iinc (v := x127) (lv' := [(3, .int x127), (0, .ref a0), (1, .int v1), (2, .int v2)]) hx hb dX4_load_202 hl (k := 3) rfl (by rw [ex127]; rfl) (by decide) rfl (fun ls hl => ?_)
      refine lv_goto (tgt := 149) hx hb dX4_load_205 (by decide) ?_
      exact ih h126 a0 v1 v2 x127 _ _ _ _ _ _ hf hq hn _ (lv_sub hl [1, 2, 3, 0] rfl)
set_option maxHeartbeats 4000000 in
set_option maxRecDepth 100000 in
theorem m_X4_load_b221 {p : Program} {l : Launch} {e : Env} {s : State} {m : MethodId} {args : Array Value} {below : List Frame} {meth : Method} {c : Code} {D : va_G} {dA : Nat → ClassId} {b0 : Nat} {gs : Nat → Option Nat} (hc : zC D dA b0 gs yX4_load.cls cX4_load 4 p c s m args meth) (hr : meth.sig.returnType = (some .int)) (hin : meth.name = yX4_load.name) {r : Int32} {hh : PH} {mc ms : Nat} : ∀ (n : Nat) (h : PH) (a0 : Nat) (v1 : Int32) (C9 S9 : Nat) (H : Heap) (locs : List Loc) (cells slots : Nat), f_X4_load_b221 n h a0 v1 = some (r, hh, C9, S9) → cells + C9 = mc ∧ slots + S9 = ms → zM D dA b0 gs s h H locs → ∀ ls : Array Slot, lv_has ls 4 [(0, .ref a0), (1, .int v1)] → W p l e ({ frames := 8, cells := mc, slots := ms, locals := 215 } : Room) s m args below meth c H locs cells slots (MQ below (zQ D dA b0 gs (evI r) hh) args s mc ms (zA b0)) (F0 m 221 ls []) := by
  have hx := hc.x
  have hb := hc.b
  intro n
  induction n with
  | zero =>
    intro h a0 v1 C9 S9 H locs cells slots hf hq hn ls hl
    cases hf
  | succ n ih =>
    intro h a0 v1 C9 S9 H locs cells slots hf hq hn ls hl
    unfold f_X4_load_b221 at hf
    refine lv_iload_n hx hb dX4_load_221 rfl (lv_at hl 1 rfl) ?_
    refine lv_bipush (v := (6 : Int32)) hx hb dX4_load_222 (by decide) ?_
    refine lv_icmp_ge (tgt := 242) hx hb dX4_load_224 (by decide) (fun c9 => ?_) (fun c9 => ?_)
    · have hf := zif_t c9 hf
      refine lv_aload_n (x := a0) hx hb dX4_load_242 rfl (lv_at hl 0 rfl) ?_
      refine zr_gP hc hn (ci := 3) rfl rfl in_X4 1 (by decide) q2100 (fun _ h => h) (fun _ _ _ => rfl) hf dX4_load_243 (fun x101 hf => ?_)
      refine lv_bipush (v := (7 : Int32)) hx hb dX4_load_246 (by decide) ?_
      refine lv_iconst (v := (0 : Int32)) hx hb dX4_load_248 (by decide) ?_
      obtain ⟨a102, e9, hf9⟩ := znn_i hf
      subst e9
      have hf := hf9
      clear hf9
      refine zr_sI hc hn hf dX4_load_249 (fun h103 H locs hf hn => ?_)
      refine lv_aload_n (x := a0) hx hb dX4_load_250 rfl (lv_at hl 0 rfl) ?_
      refine lv_iconst (v := (0 : Int32)) hx hb dX4_load_251 (by decide) ?_
      refine zr_pI (x := (0 : Int32)) hc hn (ci := 3) rfl rfl in_X4 10 (by decide) tyX4 tyX4_ok nmX4 q2109 (fun _ h => h) (Or.inl rfl) (fun _ _ _ => rfl) rfl rfl hf dX4_load_252 (fun h104 H locs hf hn => ?_)
      refine lv_aload_n (x := a0) hx hb dX4_load_255 rfl (lv_at hl 0 rfl) ?_
      refine zr_gP hc hn (ci := 3) rfl rfl in_X4 9 (by decide) q2108 (fun _ h => h) (fun _ _ _ => rfl) hf dX4_load_256 (fun x105 hf => ?_)
      refine lv_iconst (v := (0 : Int32)) hx hb dX4_load_259 (by decide) ?_
      refine lv_iconst (v := (0 : Int32)) hx hb dX4_load_260 (by decide) ?_
      obtain ⟨a106, e9, hf9⟩ := znn_i hf
      subst e9
      have hf := hf9
      clear hf9
      refine zr_sZ hc hn hf dX4_load_261 (fun h107 H locs hf hn => ?_)
      refine lv_aload_n (x := a0) hx hb dX4_load_262 rfl (lv_at hl 0 rfl) ?_
      refine zr_gP hc hn (ci := 3) rfl rfl in_X4 9 (by decide) q2108 (fun _ h => h) (fun _ _ _ => rfl) hf dX4_load_263 (fun x108 hf => ?_)
      refine lv_iconst (v := (1 : Int32)) hx hb dX4_load_266 (by decide) ?_
      refine lv_iconst (v := (0 : Int32)) hx hb dX4_load_267 (by decide) ?_
      obtain ⟨a109, e9, hf9⟩ := znn_i hf
      subst e9
      have hf := hf9
      clear hf9
      refine zr_sZ hc hn hf dX4_load_268 (fun h110 H locs hf hn => ?_)
      refine lv_aload_n (x := a0) hx hb dX4_load_269 rfl (lv_at hl 0 rfl) ?_
      refine zr_gI hc hn (ci := 3) rfl rfl in_X4 22 (by decide) q2121 (fun _ h => h) (fun _ _ _ => rfl) hf dX4_load_270 (fun x111 hf => ?_)
      obtain ⟨rfl, rfl, rfl, rfl⟩ := zret_i hf
      exact zr_iret hc hn hr hq (fun _ _ _ _ q => q) dX4_load_273
    · have hf := zif_f c9 hf
      refine lv_aload_n (x := a0) hx hb dX4_load_227 rfl (lv_at hl 0 rfl) ?_
      refine zr_gP hc hn (ci := 3) rfl rfl in_X4 1 (by decide) q2100 (fun _ h => h) (fun _ _ _ => rfl) hf dX4_load_228 (fun x112 hf => ?_)
      refine lv_iconst (v := (1 : Int32)) hx hb dX4_load_231 (by decide) ?_
      refine lv_iload_n hx hb dX4_load_232 rfl (lv_at hl 1 rfl) ?_
      refine lv_iadd hx hb dX4_load_233 ?_
      refine zr_nmI hf (fun x113 hf => ?_)
      refine lv_iconst (v := (0 : Int32)) hx hb dX4_load_234 (by decide) ?_
      obtain ⟨a114, e9, hf9⟩ := znn_i hf
      subst e9
      have hf := hf9
      clear hf9
      refine zr_sI hc hn hf dX4_load_235 (fun h115 H locs hf hn => ?_)
      obtain ⟨x116, ex116, hf⟩ := znm_i hf
      refine lv_iinc (v := x116) (lv' := [(1, .int x116), (0, .ref a0)]) hx hb dX4_load_236 hl (k := 1) rfl (by rw [ex116]; rfl) (by decide) rfl (fun ls hl => ?_)
      refine lv_goto (tgt := 221) hx hb dX4_load_239 (by decide) ?_
      exact ih h115 a0 x116 _ _ _ _ _ _ hf hq hn _ (lv_sub hl [1, 0] rfl)
set_option maxHeartbeats 4000000 in
set_option maxRecDepth 100000 in
theorem m_X4_load_b99 {p : Program} {l : Launch} {e : Env} {s : State} {m : MethodId} {args : Array Value} {below : List Frame} {meth : Method} {c : Code} {D : va_G} {dA : Nat → ClassId} {b0 : Nat} {gs : Nat → Option Nat} (hc : zC D dA b0 gs yX4_load.cls cX4_load 4 p c s m args meth) (hr : meth.sig.returnType = (some .int)) (hin : meth.name = yX4_load.name) {r : Int32} {hh : PH} {mc ms : Nat} : ∀ (n : Nat) (h : PH) (a0 : Nat) (v1 : Int32) (C9 S9 : Nat) (H : Heap) (locs : List Loc) (cells slots : Nat), f_X4_load_b99 n h a0 v1 = some (r, hh, C9, S9) → cells + C9 = mc ∧ slots + S9 = ms → zM D dA b0 gs s h H locs → ∀ ls : Array Slot, lv_has ls 4 [(0, .ref a0), (1, .int v1)] → W p l e ({ frames := 8, cells := mc, slots := ms, locals := 215 } : Room) s m args below meth c H locs cells slots (MQ below (zQ D dA b0 gs (evI r) hh) args s mc ms (zA b0)) (F0 m 99 ls []) := by
  have hx := hc.x
  have hb := hc.b
  intro n
  induction n with
  | zero =>
    intro h a0 v1 C9 S9 H locs cells slots hf hq hn ls hl
    cases hf
  | succ n ih =>
    intro h a0 v1 C9 S9 H locs cells slots hf hq hn ls hl
    unfold f_X4_load_b99 at hf
    refine lv_iload_n hx hb dX4_load_99 rfl (lv_at hl 1 rfl) ?_
    refine lv_aload_n (x := a0) hx hb dX4_load_100 rfl (lv_at hl 0 rfl) ?_
    refine zr_gI hc hn (ci := 3) rfl rfl in_X4 22 (by decide) q2121 (fun _ h => h) (fun _ _ _ => rfl) hf dX4_load_101 (fun x101 hf => ?_)
    refine lv_icmp_ge (tgt := 219) hx hb dX4_load_104 (by decide) (fun c9 => ?_) (fun c9 => ?_)
    · have hf := zif_t c9 hf
      refine lv_iconst (v := (0 : Int32)) hx hb dX4_load_219 (by decide) ?_
      refine lv_istore_n (i := 1) (lv' := [(1, .int (0 : Int32)), (0, .ref a0)]) hx hb dX4_load_220 rfl hl (by decide) rfl (fun ls hl => ?_)
      exact m_X4_load_b221 hc hr hin zFU h a0 (0 : Int32) _ _ _ _ _ _ hf hq hn _ (lv_sub hl [1, 0] rfl)
    · have hf := zif_f c9 hf
      refine lv_iload_n hx hb dX4_load_107 rfl (lv_at hl 1 rfl) ?_
      refine zr_cSI (As := [.int v1]) (rest := []) hc hn hq hd_X4_base (lw_S q2284 q2285 q91 q2286) (Nat.le_of_ble_eq_true rfl) (Nat.le_of_ble_eq_true rfl) (fun _ _ _ _ q => m_X4_base l D dA b0 gs h v1 q) hf dX4_load_108 hl.1 rfl rfl (zroom (Nat.le_of_ble_eq_true rfl)) (fun x102 h103 H locs cells slots C9 S9 hf hq hn => ?_)
      refine lv_istore_n (i := 2) (lv' := [(2, .int x102), (0, .ref a0), (1, .int v1)]) hx hb dX4_load_111 rfl hl (by decide) rfl (fun ls hl => ?_)
      refine lv_aload_n (x := a0) hx hb dX4_load_112 rfl (lv_at hl 1 rfl) ?_
      refine zr_gP hc hn (ci := 3) rfl rfl in_X4 2 (by decide) q2101 (fun _ h => h) (fun _ _ _ => rfl) hf dX4_load_113 (fun x104 hf => ?_)
      refine lv_iload_n hx hb dX4_load_116 rfl (lv_at hl 2 rfl) ?_
      refine lv_aload_n (x := a0) hx hb dX4_load_117 rfl (lv_at hl 1 rfl) ?_
      refine zr_gP hc hn (ci := 3) rfl rfl in_X4 23 (by decide) q2122 (fun _ h => h) (fun _ _ _ => rfl) hf dX4_load_118 (fun x105 hf => ?_)
      refine lv_iload_n hx hb dX4_load_121 rfl (lv_at hl 2 rfl) ?_
      obtain ⟨a106, e9, hf9⟩ := znn_i hf
      subst e9
      have hf := hf9
      clear hf9
      refine zr_aL hc hn hf dX4_load_122 (fun x107 hf => ?_)
      obtain ⟨a108, e9, hf9⟩ := znn_i hf
      subst e9
      have hf := hf9
      clear hf9
      refine zr_sL hc hn hf dX4_load_123 (fun h109 H locs hf hn => ?_)
      refine lv_aload_n (x := a0) hx hb dX4_load_124 rfl (lv_at hl 1 rfl) ?_
      refine zr_gP hc hn (ci := 3) rfl rfl in_X4 1 (by decide) q2100 (fun _ h => h) (fun _ _ _ => rfl) hf dX4_load_125 (fun x110 hf => ?_)
      refine lv_iload_n hx hb dX4_load_128 rfl (lv_at hl 0 rfl) ?_
      refine lv_iconst (v := (0 : Int32)) hx hb dX4_load_129 (by decide) ?_
      refine lv_iadd hx hb dX4_load_130 ?_
      refine zr_nmI hf (fun x111 hf => ?_)
      refine lv_iconst (v := (1 : Int32)) hx hb dX4_load_131 (by decide) ?_
      obtain ⟨a112, e9, hf9⟩ := znn_i hf
      subst e9
      have hf := hf9
      clear hf9
      refine zr_sI hc hn hf dX4_load_132 (fun h113 H locs hf hn => ?_)
      refine lv_aload_n (x := a0) hx hb dX4_load_133 rfl (lv_at hl 1 rfl) ?_
      refine zr_gP hc hn (ci := 3) rfl rfl in_X4 1 (by decide) q2100 (fun _ h => h) (fun _ _ _ => rfl) hf dX4_load_134 (fun x114 hf => ?_)
      refine lv_iload_n hx hb dX4_load_137 rfl (lv_at hl 0 rfl) ?_
      refine lv_iconst (v := (1 : Int32)) hx hb dX4_load_138 (by decide) ?_
      refine lv_iadd hx hb dX4_load_139 ?_
      refine zr_nmI hf (fun x115 hf => ?_)
      refine lv_aload_n (x := a0) hx hb dX4_load_140 rfl (lv_at hl 1 rfl) ?_
      refine zr_gP hc hn (ci := 3) rfl rfl in_X4 24 (by decide) q2123 (fun _ h => h) (fun _ _ _ => rfl) hf dX4_load_141 (fun x116 hf => ?_)
      refine lv_iload_n hx hb dX4_load_144 rfl (lv_at hl 2 rfl) ?_
      obtain ⟨a117, e9, hf9⟩ := znn_i hf
      subst e9
      have hf := hf9
      clear hf9
      refine zr_aI0 hc hn hf dX4_load_145 (fun x118 hf => ?_)
      obtain ⟨a119, e9, hf9⟩ := znn_i hf
      subst e9
      have hf := hf9
      clear hf9
      refine zr_sI hc hn hf dX4_load_146 (fun h120 H locs hf hn => ?_)
      refine lv_iconst (v := (0 : Int32)) hx hb dX4_load_147 (by decide) ?_
      refine lv_istore_n (i := 3) (lv' := [(3, .int (0 : Int32)), (2, .int x102), (0, .ref a0), (1, .int v1)]) hx hb dX4_load_148 rfl hl (by decide) rfl (fun ls hl => ?_)
      exact m_X4_load_b149 hc hr hin (f_X4_load_b99 n) ih zFU h120 a0 v1 x102 (0 : Int32) _ _ _ _ _ _ hf hq hn _ (lv_sub hl [2, 3, 1, 0] rfl)
set_option maxHeartbeats 4000000 in
set_option maxRecDepth 100000 in
theorem m_X4_load_b78 {p : Program} {l : Launch} {e : Env} {s : State} {m : MethodId} {args : Array Value} {below : List Frame} {meth : Method} {c : Code} {D : va_G} {dA : Nat → ClassId} {b0 : Nat} {gs : Nat → Option Nat} (hc : zC D dA b0 gs yX4_load.cls cX4_load 4 p c s m args meth) (hr : meth.sig.returnType = (some .int)) (hin : meth.name = yX4_load.name) {r : Int32} {hh : PH} {mc ms : Nat} : ∀ (n : Nat) (h : PH) (a0 : Nat) (v1 : Int32) (C9 S9 : Nat) (H : Heap) (locs : List Loc) (cells slots : Nat), f_X4_load_b78 n h a0 v1 = some (r, hh, C9, S9) → cells + C9 = mc ∧ slots + S9 = ms → zM D dA b0 gs s h H locs → ∀ ls : Array Slot, lv_has ls 4 [(0, .ref a0), (1, .int v1)] → W p l e ({ frames := 8, cells := mc, slots := ms, locals := 215 } : Room) s m args below meth c H locs cells slots (MQ below (zQ D dA b0 gs (evI r) hh) args s mc ms (zA b0)) (F0 m 78 ls []) := by
  have hx := hc.x
  have hb := hc.b
  intro n
  induction n with
  | zero =>
    intro h a0 v1 C9 S9 H locs cells slots hf hq hn ls hl
    cases hf
  | succ n ih =>
    intro h a0 v1 C9 S9 H locs cells slots hf hq hn ls hl
    unfold f_X4_load_b78 at hf
    refine lv_iload_n hx hb dX4_load_78 rfl (lv_at hl 1 rfl) ?_
    refine lv_bipush (v := (6 : Int32)) hx hb dX4_load_79 (by decide) ?_
    refine lv_icmp_ge (tgt := 97) hx hb dX4_load_81 (by decide) (fun c9 => ?_) (fun c9 => ?_)
    · have hf := zif_t c9 hf
      refine lv_iconst (v := (0 : Int32)) hx hb dX4_load_97 (by decide) ?_
      refine lv_istore_n (i := 1) (lv' := [(1, .int (0 : Int32)), (0, .ref a0)]) hx hb dX4_load_98 rfl hl (by decide) rfl (fun ls hl => ?_)
      exact m_X4_load_b99 hc hr hin zFU h a0 (0 : Int32) _ _ _ _ _ _ hf hq hn _ (lv_sub hl [1, 0] rfl)
    · have hf := zif_f c9 hf
      refine lv_aload_n (x := a0) hx hb dX4_load_84 rfl (lv_at hl 0 rfl) ?_
      refine zr_gP hc hn (ci := 3) rfl rfl in_X4 2 (by decide) q2101 (fun _ h => h) (fun _ _ _ => rfl) hf dX4_load_85 (fun x101 hf => ?_)
      refine lv_iload_n hx hb dX4_load_88 rfl (lv_at hl 1 rfl) ?_
      refine lv_lconst (v := (0 : Int64)) hx hb dX4_load_89 (by decide) ?_
      obtain ⟨a102, e9, hf9⟩ := znn_i hf
      subst e9
      have hf := hf9
      clear hf9
      refine zr_sL hc hn hf dX4_load_90 (fun h103 H locs hf hn => ?_)
      obtain ⟨x104, ex104, hf⟩ := znm_i hf
      refine lv_iinc (v := x104) (lv' := [(1, .int x104), (0, .ref a0)]) hx hb dX4_load_91 hl (k := 1) rfl (by rw [ex104]; rfl) (by decide) rfl (fun ls hl => ?_)
      refine lv_goto (tgt := 78) hx hb dX4_load_94 (by decide) ?_
      exact ih h103 a0 x104 _ _ _ _ _ _ hf hq hn _ (lv_sub hl [1, 0] rfl)
set_option maxHeartbeats 4000000 in
set_option maxRecDepth 100000 in
theorem m_X4_load_b46 {p : Program} {l : Launch} {e : Env} {s : State} {m : MethodId} {args : Array Value} {below : List Frame} {meth : Method} {c : Code} {D : va_G} {dA : Nat → ClassId} {b0 : Nat} {gs : Nat → Option Nat} (hc : zC D dA b0 gs yX4_load.cls cX4_load 4 p c s m args meth) (hr : meth.sig.returnType = (some .int)) (hin : meth.name = yX4_load.name) {r : Int32} {hh : PH} {mc ms : Nat} : ∀ (n : Nat) (h : PH) (a0 : Nat) (v1 : Int32) (C9 S9 : Nat) (H : Heap) (locs : List Loc) (cells slots : Nat), f_X4_load_b46 n h a0 v1 = some (r, hh, C9, S9) → cells + C9 = mc ∧ slots + S9 = ms → zM D dA b0 gs s h H locs → ∀ ls : Array Slot, lv_has ls 4 [(0, .ref a0), (1, .int v1)] → W p l e ({ frames := 8, cells := mc, slots := ms, locals := 215 } : Room) s m args below meth c H locs cells slots (MQ below (zQ D dA b0 gs (evI r) hh) args s mc ms (zA b0)) (F0 m 46 ls []) := by
  have hx := hc.x
  have hb := hc.b
  intro n
  induction n with
  | zero =>
    intro h a0 v1 C9 S9 H locs cells slots hf hq hn ls hl
    cases hf
  | succ n ih =>
    intro h a0 v1 C9 S9 H locs cells slots hf hq hn ls hl
    unfold f_X4_load_b46 at hf
    refine lv_iload_n hx hb dX4_load_46 rfl (lv_at hl 1 rfl) ?_
    refine lv_sipush (v := (4100 : Int32)) hx hb dX4_load_47 (by decide) ?_
    refine lv_icmp_ge (tgt := 66) hx hb dX4_load_50 (by decide) (fun c9 => ?_) (fun c9 => ?_)
    · have hf := zif_t c9 hf
      refine lv_aload_n (x := a0) hx hb dX4_load_66 rfl (lv_at hl 0 rfl) ?_
      refine zr_gP hc hn (ci := 3) rfl rfl in_X4 1 (by decide) q2100 (fun _ h => h) (fun _ _ _ => rfl) hf dX4_load_67 (fun x101 hf => ?_)
      refine lv_iconst (v := (0 : Int32)) hx hb dX4_load_70 (by decide) ?_
      refine lv_aload_n (x := a0) hx hb dX4_load_71 rfl (lv_at hl 0 rfl) ?_
      refine zr_gI hc hn (ci := 3) rfl rfl in_X4 21 (by decide) q2120 (fun _ h => h) (fun _ _ _ => rfl) hf dX4_load_72 (fun x102 hf => ?_)
      obtain ⟨a103, e9, hf9⟩ := znn_i hf
      subst e9
      have hf := hf9
      clear hf9
      refine zr_sI hc hn hf dX4_load_75 (fun h104 H locs hf hn => ?_)
      refine lv_iconst (v := (0 : Int32)) hx hb dX4_load_76 (by decide) ?_
      refine lv_istore_n (i := 1) (lv' := [(1, .int (0 : Int32)), (0, .ref a0)]) hx hb dX4_load_77 rfl hl (by decide) rfl (fun ls hl => ?_)
      exact m_X4_load_b78 hc hr hin zFU h104 a0 (0 : Int32) _ _ _ _ _ _ hf hq hn _ (lv_sub hl [1, 0] rfl)
    · have hf := zif_f c9 hf
      refine lv_aload_n (x := a0) hx hb dX4_load_53 rfl (lv_at hl 0 rfl) ?_
      refine zr_gP hc hn (ci := 3) rfl rfl in_X4 1 (by decide) q2100 (fun _ h => h) (fun _ _ _ => rfl) hf dX4_load_54 (fun x105 hf => ?_)
      refine lv_iload_n hx hb dX4_load_57 rfl (lv_at hl 1 rfl) ?_
      refine lv_iconst (v := (0 : Int32)) hx hb dX4_load_58 (by decide) ?_
      obtain ⟨a106, e9, hf9⟩ := znn_i hf
      subst e9
      have hf := hf9
      clear hf9
      refine zr_sI hc hn hf dX4_load_59 (fun h107 H locs hf hn => ?_)
      obtain ⟨x108, ex108, hf⟩ := znm_i hf
      refine lv_iinc (v := x108) (lv' := [(1, .int x108), (0, .ref a0)]) hx hb dX4_load_60 hl (k := 1) rfl (by rw [ex108]; rfl) (by decide) rfl (fun ls hl => ?_)
      refine lv_goto (tgt := 46) hx hb dX4_load_63 (by decide) ?_
      exact ih h107 a0 x108 _ _ _ _ _ _ hf hq hn _ (lv_sub hl [1, 0] rfl)
set_option maxHeartbeats 4000000 in
set_option maxRecDepth 100000 in
theorem m_X4_load_b32 {p : Program} {l : Launch} {e : Env} {s : State} {m : MethodId} {args : Array Value} {below : List Frame} {meth : Method} {c : Code} {D : va_G} {dA : Nat → ClassId} {b0 : Nat} {gs : Nat → Option Nat} (hc : zC D dA b0 gs yX4_load.cls cX4_load 4 p c s m args meth) (hr : meth.sig.returnType = (some .int)) (hin : meth.name = yX4_load.name) {r : Int32} {hh : PH} {mc ms : Nat} : ∀ (h : PH) (a0 : Nat) (s0 : Nat) (s1 : Int32) (C9 S9 : Nat) (H : Heap) (locs : List Loc) (cells slots : Nat), f_X4_load_b32 h a0 s0 s1 = some (r, hh, C9, S9) → cells + C9 = mc ∧ slots + S9 = ms → zM D dA b0 gs s h H locs → ∀ ls : Array Slot, lv_has ls 4 [(0, .ref a0)] → W p l e ({ frames := 8, cells := mc, slots := ms, locals := 215 } : Room) s m args below meth c H locs cells slots (MQ below (zQ D dA b0 gs (evI r) hh) args s mc ms (zA b0)) (F0 m 32 ls [.int s1, .ref s0]) := by
  have hx := hc.x
  have hb := hc.b
  intro h a0 s0 s1 C9 S9 H locs cells slots hf hq hn ls hl
  unfold f_X4_load_b32 at hf
  refine zr_pI (x := s1) hc hn (ci := 3) rfl rfl in_X4 0 (by decide) tyX4 tyX4_ok nmX4 q2099 (fun _ h => h) (Or.inl rfl) (fun _ _ _ => rfl) rfl rfl hf dX4_load_32 (fun h101 H locs hf hn => ?_)
  refine lv_aload_n (x := a0) hx hb dX4_load_35 rfl (lv_at hl 0 rfl) ?_
  refine zr_gI hc hn (ci := 3) rfl rfl in_X4 0 (by decide) q2099 (fun _ h => h) (fun _ _ _ => rfl) hf dX4_load_36 (fun x102 hf => ?_)
  refine lv_if_le (tgt := 44) hx hb dX4_load_39 (by decide) (fun c9 => ?_) (fun c9 => ?_)
  · have hf := zif_t c9 hf
    refine lv_iconst (v := (0 : Int32)) hx hb dX4_load_44 (by decide) ?_
    refine lv_istore_n (i := 1) (lv' := [(1, .int (0 : Int32)), (0, .ref a0)]) hx hb dX4_load_45 rfl hl (by decide) rfl (fun ls hl => ?_)
    exact m_X4_load_b46 hc hr hin zFU h101 a0 (0 : Int32) _ _ _ _ _ _ hf hq hn _ (lv_sub hl [1, 0] rfl)
  · have hf := zif_f c9 hf
    refine lv_iconst (v := (0 : Int32)) hx hb dX4_load_42 (by decide) ?_
    obtain ⟨rfl, rfl, rfl, rfl⟩ := zret_i hf
    exact zr_iret hc hn hr hq (fun _ _ _ _ q => q) dX4_load_43
set_option maxHeartbeats 4000000 in
set_option maxRecDepth 100000 in
theorem m_X4_load (l : Launch) (D : va_G) (dA : Nat → ClassId) (b0 : Nat) (gs : Nat → Option Nat) (h : PH) (a0 : Nat) {r : Int32} {hh : PH} {mc ms : Nat} (hf : f_X4_load h a0 = some (r, hh, mc, ms)) : zMt l D dA b0 gs yX4_load cX4_load 4 (some .int) 8 215 [.ref a0] h (evI r) hh mc ms := by
  unfold f_X4_load at hf
  refine zMt.of (by decide) (Nat.le_of_ble_eq_true rfl) ?_
  intro p e s m args below meth c hc hr hin hn ls hl
  have hl : lv_has ls 4 [(0, .ref a0)] := hl
  have hq : 0 + mc = mc ∧ 0 + ms = ms := ⟨Nat.zero_add _, Nat.zero_add _⟩
  have hx := hc.x
  have hb := hc.b
  refine lv_aload_n (x := a0) hx hb dX4_load_0 rfl (lv_at hl 0 rfl) ?_
  refine lv_iconst (v := (0 : Int32)) hx hb dX4_load_1 (by decide) ?_
  refine zr_pI (x := (0 : Int32)) hc hn (ci := 3) rfl rfl in_X4 15 (by decide) tyX4 tyX4_ok nmX4 q2114 (fun _ h => h) (Or.inl rfl) (fun _ _ _ => rfl) rfl rfl hf dX4_load_2 (fun h101 H locs hf hn => ?_)
  refine lv_aload_n (x := a0) hx hb dX4_load_5 rfl (lv_at hl 0 rfl) ?_
  refine lv_iconst (v := (-1 : Int32)) hx hb dX4_load_6 (by decide) ?_
  refine zr_pI (x := (-1 : Int32)) hc hn (ci := 3) rfl rfl in_X4 16 (by decide) tyX4 tyX4_ok nmX4 q2115 (fun _ h => h) (Or.inl rfl) (fun _ _ _ => rfl) rfl rfl hf dX4_load_7 (fun h102 H locs hf hn => ?_)
  refine lv_aload_n (x := a0) hx hb dX4_load_10 rfl (lv_at hl 0 rfl) ?_
  refine zr_cVU (As := []) (rest := []) hc hn hq (ci := 3) rfl ⟨rfl, hd_X4_readsText⟩ (lw_V q2218 q2220 qs33 q91 q2221) (Nat.le_of_ble_eq_true rfl) (Nat.le_of_ble_eq_true rfl) (fun _ _ _ _ q => m_X4_readsText l D dA b0 gs h102 a0 q) hf dX4_load_11 hl.1 rfl rfl (zroom (Nat.le_of_ble_eq_true rfl)) (fun x103 h104 H locs cells slots C9 S9 hf hq hn => ?_)
  refine lv_aload_n (x := a0) hx hb dX4_load_14 rfl (lv_at hl 0 rfl) ?_
  refine lv_iconst (v := (0 : Int32)) hx hb dX4_load_15 (by decide) ?_
  refine zr_pI (x := (0 : Int32)) hc hn (ci := 3) rfl rfl in_X4 13 (by decide) tyX4 tyX4_ok nmX4 q2112 (fun _ h => h) (Or.inl rfl) (fun _ _ _ => rfl) rfl rfl hf dX4_load_16 (fun h105 H locs hf hn => ?_)
  refine lv_aload_n (x := a0) hx hb dX4_load_19 rfl (lv_at hl 0 rfl) ?_
  refine lv_aload_n (x := a0) hx hb dX4_load_20 rfl (lv_at hl 0 rfl) ?_
  refine zr_gI hc hn (ci := 3) rfl rfl in_X4 17 (by decide) q2116 (fun _ h => h) (fun _ _ _ => rfl) hf dX4_load_21 (fun x106 hf => ?_)
  refine lv_if_eq (tgt := 31) hx hb dX4_load_24 (by decide) (fun c9 => ?_) (fun c9 => ?_)
  · have hf := zif_t c9 hf
    refine lv_iconst (v := (0 : Int32)) hx hb dX4_load_31 (by decide) ?_
    exact m_X4_load_b32 hc hr hin h105 a0 a0 (0 : Int32) _ _ _ _ _ _ hf hq hn _ (lv_sub hl [0] rfl)
  · have hf := zif_f c9 hf
    refine lv_iconst (v := (1 : Int32)) hx hb dX4_load_27 (by decide) ?_
    refine lv_goto (tgt := 32) hx hb dX4_load_28 (by decide) ?_
    exact m_X4_load_b32 hc hr hin h105 a0 a0 (1 : Int32) _ _ _ _ _ _ hf hq hn _ (lv_sub hl [0] rfl)
theorem hd_X4_errorCode : yX4_errorCode.cls ≠ "java/lang/invoke/MethodHandle" ∧ yX4_errorCode.cls ≠ "java/lang/invoke/VarHandle" ∧ (parseMethodDescriptor yX4_errorCode.desc).map (fun d => d.parameters.length) = some 0 := by decide +kernel
def f_X4_errorCode (h : PH) (a0 : Nat) : ZR Int32 :=
  zpI h a0 3 0 (0 : Int32) fun h101 =>
  zgI h101 a0 3 15 fun x102 =>
  zret x102 h101
set_option maxHeartbeats 4000000 in
set_option maxRecDepth 100000 in
theorem m_X4_errorCode (l : Launch) (D : va_G) (dA : Nat → ClassId) (b0 : Nat) (gs : Nat → Option Nat) (h : PH) (a0 : Nat) {r : Int32} {hh : PH} {mc ms : Nat} (hf : f_X4_errorCode h a0 = some (r, hh, mc, ms)) : zMt l D dA b0 gs yX4_errorCode cX4_errorCode 1 (some .int) 1 60 [.ref a0] h (evI r) hh mc ms := by
  unfold f_X4_errorCode at hf
  refine zMt.of (by decide) (Nat.le_of_ble_eq_true rfl) ?_
  intro p e s m args below meth c hc hr hin hn ls hl
  have hl : lv_has ls 1 [(0, .ref a0)] := hl
  have hq : 0 + mc = mc ∧ 0 + ms = ms := ⟨Nat.zero_add _, Nat.zero_add _⟩
  have hx := hc.x
  have hb := hc.b
  refine lv_aload_n (x := a0) hx hb dX4_errorCode_0 rfl (lv_at hl 0 rfl) ?_
  refine lv_iconst (v := (0 : Int32)) hx hb dX4_errorCode_1 (by decide) ?_
  refine zr_pI (x := (0 : Int32)) hc hn (ci := 3) rfl rfl in_X4 0 (by decide) tyX4 tyX4_ok nmX4 q2099 (fun _ h => h) (Or.inl rfl) (fun _ _ _ => rfl) rfl rfl hf dX4_errorCode_2 (fun h101 H locs hf hn => ?_)
  refine lv_aload_n (x := a0) hx hb dX4_errorCode_5 rfl (lv_at hl 0 rfl) ?_
  refine zr_gI hc hn (ci := 3) rfl rfl in_X4 15 (by decide) q2114 (fun _ h => h) (fun _ _ _ => rfl) hf dX4_errorCode_6 (fun x102 hf => ?_)
  obtain ⟨rfl, rfl, rfl, rfl⟩ := zret_i hf
  exact zr_iret hc hn hr hq (fun _ _ _ _ q => q) dX4_errorCode_9
theorem hd_X4_errorPosition : yX4_errorPosition.cls ≠ "java/lang/invoke/MethodHandle" ∧ yX4_errorPosition.cls ≠ "java/lang/invoke/VarHandle" ∧ (parseMethodDescriptor yX4_errorPosition.desc).map (fun d => d.parameters.length) = some 0 := by decide +kernel
def f_X4_errorPosition (h : PH) (a0 : Nat) : ZR Int32 :=
  zpI h a0 3 0 (0 : Int32) fun h101 =>
  zgI h101 a0 3 16 fun x102 =>
  zret x102 h101
set_option maxHeartbeats 4000000 in
set_option maxRecDepth 100000 in
theorem m_X4_errorPosition (l : Launch) (D : va_G) (dA : Nat → ClassId) (b0 : Nat) (gs : Nat → Option Nat) (h : PH) (a0 : Nat) {r : Int32} {hh : PH} {mc ms : Nat} (hf : f_X4_errorPosition h a0 = some (r, hh, mc, ms)) : zMt l D dA b0 gs yX4_errorPosition cX4_errorPosition 1 (some .int) 1 60 [.ref a0] h (evI r) hh mc ms := by
  unfold f_X4_errorPosition at hf
  refine zMt.of (by decide) (Nat.le_of_ble_eq_true rfl) ?_
  intro p e s m args below meth c hc hr hin hn ls hl
  have hl : lv_has ls 1 [(0, .ref a0)] := hl
  have hq : 0 + mc = mc ∧ 0 + ms = ms := ⟨Nat.zero_add _, Nat.zero_add _⟩
  have hx := hc.x
  have hb := hc.b
  refine lv_aload_n (x := a0) hx hb dX4_errorPosition_0 rfl (lv_at hl 0 rfl) ?_
  refine lv_iconst (v := (0 : Int32)) hx hb dX4_errorPosition_1 (by decide) ?_
  refine zr_pI (x := (0 : Int32)) hc hn (ci := 3) rfl rfl in_X4 0 (by decide) tyX4 tyX4_ok nmX4 q2099 (fun _ h => h) (Or.inl rfl) (fun _ _ _ => rfl) rfl rfl hf dX4_errorPosition_2 (fun h101 H locs hf hn => ?_)
  refine lv_aload_n (x := a0) hx hb dX4_errorPosition_5 rfl (lv_at hl 0 rfl) ?_
  refine zr_gI hc hn (ci := 3) rfl rfl in_X4 16 (by decide) q2115 (fun _ h => h) (fun _ _ _ => rfl) hf dX4_errorPosition_6 (fun x102 hf => ?_)
  obtain ⟨rfl, rfl, rfl, rfl⟩ := zret_i hf
  exact zr_iret hc hn hr hq (fun _ _ _ _ q => q) dX4_errorPosition_9
theorem hd_X4_find : yX4_find.cls ≠ "java/lang/invoke/MethodHandle" ∧ yX4_find.cls ≠ "java/lang/invoke/VarHandle" ∧ (parseMethodDescriptor yX4_find.desc).map (fun d => d.parameters.length) = some 0 := by decide +kernel
def f_X4_find_b57 (k4 : PH → Nat → Int64 → Int32 → ZR Int32) (h : PH) (a0 : Nat) (v3 : Int32) (s0 : Int64) : ZR Int32 :=
  znm (v3 + (1 : Int32)) fun x101 =>
  k4 h a0 s0 x101
def f_X4_find_b54 (k4 : PH → Nat → Int64 → Int32 → ZR Int32) (h : PH) (a0 : Nat) (v3 : Int32) : ZR Int32 :=
  f_X4_find_b57 k4 h a0 v3 (-1 : Int64)
def f_X4_find_b120 (k76 : PH → Nat → Int64 → Int32 → ZR Int32) (h : PH) (a0 : Nat) (v1 : Int64) (v3 : Int32) : ZR Int32 :=
  znm (v3 + (1 : Int32)) fun x101 =>
  k76 h a0 v1 x101
def f_X4_find_b76 : Nat → PH → Nat → Int64 → Int32 → ZR Int32
  | 0 => fun _ _ _ _ => none
  | n + 1 => fun h a0 v1 v3 =>
    if (6 : Int32) ≤ v3 then
      (zret (0 : Int32) h)
    else
      (znm (lg_cmp v1 (0 : Int64)) fun x101 =>
      if x101 ≤ 0 then
        (zret (0 : Int32) h)
      else
        (zgP h a0 3 1 fun x102 =>
        zcl (f_X4_base h v3) fun x103 h104 =>
        znm (x103 + (0 : Int32)) fun x105 =>
        znn x102 fun a106 =>
        zaI h104 a106 0 x105 fun x107 =>
        if x107 = 0 then
          (f_X4_find_b120 (f_X4_find_b76 n) h104 a0 v1 v3)
        else
          (zgP h104 a0 3 2 fun x108 =>
          znn x108 fun a109 =>
          zaL h104 a109 3 v3 fun x110 =>
          znm (lg_cmp x110 v1) fun x111 =>
          if x111 = 0 then
            (zpI h104 a0 3 0 (0 : Int32) fun h112 =>
            zret v3 h112)
          else
            (f_X4_find_b120 (f_X4_find_b76 n) h104 a0 v1 v3))))
def f_X4_find_b4 : Nat → PH → Nat → Int64 → Int32 → ZR Int32
  | 0 => fun _ _ _ _ => none
  | n + 1 => fun h a0 v1 v3 =>
    zgI h a0 3 13 fun x101 =>
    if x101 ≤ v3 then
      (zpI h a0 3 13 (0 : Int32) fun h102 =>
      zpI h102 a0 3 0 (1 : Int32) fun h103 =>
      f_X4_find_b76 zFU h103 a0 v1 (0 : Int32))
    else
      (zrc h a0 3 <| zcl (f_X4_isLetter h a0 v3) fun x104 h105 =>
      if x104 = 0 then
        (f_X4_find_b54 (f_X4_find_b4 n) h105 a0 v3)
      else
        (if (8 : Int32) ≤ v3 then
          (f_X4_find_b54 (f_X4_find_b4 n) h105 a0 v3)
        else
          (znm (lg_cmp v1 (0 : Int64)) fun x106 =>
          if x106 < 0 then
            (f_X4_find_b54 (f_X4_find_b4 n) h105 a0 v3)
          else
            (znm ((27 : Int64) * v1) fun x107 =>
            zgP h105 a0 3 12 fun x108 =>
            znn x108 fun a109 =>
            zaI h105 a109 0 v3 fun x110 =>
            znm x110.toInt64 fun x111 =>
            znm (x107 + x111) fun x112 =>
            znm (x112 - (97 : Int64)) fun x113 =>
            znm (x113 + (1 : Int64)) fun x114 =>
            f_X4_find_b57 (f_X4_find_b4 n) h105 a0 v3 x114))))
def f_X4_find (h : PH) (a0 : Nat) : ZR Int32 :=
  f_X4_find_b4 zFU h a0 (0 : Int64) (0 : Int32)
set_option maxHeartbeats 4000000 in
set_option maxRecDepth 100000 in
theorem m_X4_find_b57 {p : Program} {l : Launch} {e : Env} {s : State} {m : MethodId} {args : Array Value} {below : List Frame} {meth : Method} {c : Code} {D : va_G} {dA : Nat → ClassId} {b0 : Nat} {gs : Nat → Option Nat} (hc : zC D dA b0 gs yX4_find.cls cX4_find 4 p c s m args meth) (hr : meth.sig.returnType = (some .int)) (hin : meth.name = yX4_find.name) {r : Int32} {hh : PH} {mc ms : Nat} (k4 : PH → Nat → Int64 → Int32 → ZR Int32) (hk4 : ∀ (h : PH) (a0 : Nat) (v1 : Int64) (v3 : Int32) (C9 S9 : Nat) (H : Heap) (locs : List Loc) (cells slots : Nat), k4 h a0 v1 v3 = some (r, hh, C9, S9) → cells + C9 = mc ∧ slots + S9 = ms → zM D dA b0 gs s h H locs → ∀ ls : Array Slot, lv_has ls 4 [(0, .ref a0), (1, .long v1), (3, .int v3)] → W p l e ({ frames := 3, cells := mc, slots := ms, locals := 106 } : Room) s m args below meth c H locs cells slots (MQ below (zQ D dA b0 gs (evI r) hh) args s mc ms (zA b0)) (F0 m 4 ls [])) : ∀ (h : PH) (a0 : Nat) (v3 : Int32) (s0 : Int64) (C9 S9 : Nat) (H : Heap) (locs : List Loc) (cells slots : Nat), f_X4_find_b57 k4 h a0 v3 s0 = some (r, hh, C9, S9) → cells + C9 = mc ∧ slots + S9 = ms → zM D dA b0 gs s h H locs → ∀ ls : Array Slot, lv_has ls 4 [(0, .ref a0), (3, .int v3)] → W p l e ({ frames := 3, cells := mc, slots := ms, locals := 106 } : Room) s m args below meth c H locs cells slots (MQ below (zQ D dA b0 gs (evI r) hh) args s mc ms (zA b0)) (F0 m 57 ls [.long s0]) := by
  have hx := hc.x
  have hb := hc.b
  intro h a0 v3 s0 C9 S9 H locs cells slots hf hq hn ls hl
  unfold f_X4_find_b57 at hf
  refine lv_lstore_n (i := 1) (lv' := [(1, .long s0), (0, .ref a0), (3, .int v3)]) hx hb dX4_find_57 rfl hl (by decide) rfl (fun ls hl => ?_)
  obtain ⟨x101, ex101, hf⟩ := znm_i hf
  refine lv_iinc (v := x101) (lv' := [(3, .int x101), (1, .long s0), (0, .ref a0)]) hx hb dX4_find_58 hl (k := 2) rfl (by rw [ex101]; rfl) (by decide) rfl (fun ls hl => ?_)
  refine lv_goto (tgt := 4) hx hb dX4_find_61 (by decide) ?_
  exact hk4 h a0 s0 x101 _ _ _ _ _ _ hf hq hn _ (lv_sub hl [2, 1, 0] rfl)
set_option maxHeartbeats 4000000 in
set_option maxRecDepth 100000 in
theorem m_X4_find_b54 {p : Program} {l : Launch} {e : Env} {s : State} {m : MethodId} {args : Array Value} {below : List Frame} {meth : Method} {c : Code} {D : va_G} {dA : Nat → ClassId} {b0 : Nat} {gs : Nat → Option Nat} (hc : zC D dA b0 gs yX4_find.cls cX4_find 4 p c s m args meth) (hr : meth.sig.returnType = (some .int)) (hin : meth.name = yX4_find.name) {r : Int32} {hh : PH} {mc ms : Nat} (k4 : PH → Nat → Int64 → Int32 → ZR Int32) (hk4 : ∀ (h : PH) (a0 : Nat) (v1 : Int64) (v3 : Int32) (C9 S9 : Nat) (H : Heap) (locs : List Loc) (cells slots : Nat), k4 h a0 v1 v3 = some (r, hh, C9, S9) → cells + C9 = mc ∧ slots + S9 = ms → zM D dA b0 gs s h H locs → ∀ ls : Array Slot, lv_has ls 4 [(0, .ref a0), (1, .long v1), (3, .int v3)] → W p l e ({ frames := 3, cells := mc, slots := ms, locals := 106 } : Room) s m args below meth c H locs cells slots (MQ below (zQ D dA b0 gs (evI r) hh) args s mc ms (zA b0)) (F0 m 4 ls [])) : ∀ (h : PH) (a0 : Nat) (v3 : Int32) (C9 S9 : Nat) (H : Heap) (locs : List Loc) (cells slots : Nat), f_X4_find_b54 k4 h a0 v3 = some (r, hh, C9, S9) → cells + C9 = mc ∧ slots + S9 = ms → zM D dA b0 gs s h H locs → ∀ ls : Array Slot, lv_has ls 4 [(0, .ref a0), (3, .int v3)] → W p l e ({ frames := 3, cells := mc, slots := ms, locals := 106 } : Room) s m args below meth c H locs cells slots (MQ below (zQ D dA b0 gs (evI r) hh) args s mc ms (zA b0)) (F0 m 54 ls []) := by
  have hx := hc.x
  have hb := hc.b
  intro h a0 v3 C9 S9 H locs cells slots hf hq hn ls hl
  unfold f_X4_find_b54 at hf
  refine lv_ldc2 (v := (-1 : Int64)) hx hb hc.ow (hc.ts _ q2242) dX4_find_54 ?_
  exact m_X4_find_b57 hc hr hin k4 hk4 h a0 v3 (-1 : Int64) _ _ _ _ _ _ hf hq hn _ (lv_sub hl [0, 1] rfl)
set_option maxHeartbeats 4000000 in
set_option maxRecDepth 100000 in
theorem m_X4_find_b120 {p : Program} {l : Launch} {e : Env} {s : State} {m : MethodId} {args : Array Value} {below : List Frame} {meth : Method} {c : Code} {D : va_G} {dA : Nat → ClassId} {b0 : Nat} {gs : Nat → Option Nat} (hc : zC D dA b0 gs yX4_find.cls cX4_find 4 p c s m args meth) (hr : meth.sig.returnType = (some .int)) (hin : meth.name = yX4_find.name) {r : Int32} {hh : PH} {mc ms : Nat} (k76 : PH → Nat → Int64 → Int32 → ZR Int32) (hk76 : ∀ (h : PH) (a0 : Nat) (v1 : Int64) (v3 : Int32) (C9 S9 : Nat) (H : Heap) (locs : List Loc) (cells slots : Nat), k76 h a0 v1 v3 = some (r, hh, C9, S9) → cells + C9 = mc ∧ slots + S9 = ms → zM D dA b0 gs s h H locs → ∀ ls : Array Slot, lv_has ls 4 [(0, .ref a0), (1, .long v1), (3, .int v3)] → W p l e ({ frames := 3, cells := mc, slots := ms, locals := 106 } : Room) s m args below meth c H locs cells slots (MQ below (zQ D dA b0 gs (evI r) hh) args s mc ms (zA b0)) (F0 m 76 ls [])) : ∀ (h : PH) (a0 : Nat) (v1 : Int64) (v3 : Int32) (C9 S9 : Nat) (H : Heap) (locs : List Loc) (cells slots : Nat), f_X4_find_b120 k76 h a0 v1 v3 = some (r, hh, C9, S9) → cells + C9 = mc ∧ slots + S9 = ms → zM D dA b0 gs s h H locs → ∀ ls : Array Slot, lv_has ls 4 [(0, .ref a0), (1, .long v1), (3, .int v3)] → W p l e ({ frames := 3, cells := mc, slots := ms, locals := 106 } : Room) s m args below meth c H locs cells slots (MQ below (zQ D dA b0 gs (evI r) hh) args s mc ms (zA b0)) (F0 m 120 ls []) := by
  have hx := hc.x
  have hb := hc.b
  intro h a0 v1 v3 C9 S9 H locs cells slots hf hq hn ls hl
  unfold f_X4_find_b120 at hf
  obtain ⟨x101, ex101, hf⟩ := znm_i hf
  refine lv_iinc (v := x101) (lv' := [(3, .int x101), (0, .ref a0), (1, .long v1)]) hx hb dX4_find_120 hl (k := 2) rfl (by rw [ex101]; rfl) (by decide) rfl (fun ls hl => ?_)
  refine lv_goto (tgt := 76) hx hb dX4_find_123 (by decide) ?_
  exact hk76 h a0 v1 x101 _ _ _ _ _ _ hf hq hn _ (lv_sub hl [1, 2, 0] rfl)
set_option maxHeartbeats 4000000 in
set_option maxRecDepth 100000 in
theorem m_X4_find_b76 {p : Program} {l : Launch} {e : Env} {s : State} {m : MethodId} {args : Array Value} {below : List Frame} {meth : Method} {c : Code} {D : va_G} {dA : Nat → ClassId} {b0 : Nat} {gs : Nat → Option Nat} (hc : zC D dA b0 gs yX4_find.cls cX4_find 4 p c s m args meth) (hr : meth.sig.returnType = (some .int)) (hin : meth.name = yX4_find.name) {r : Int32} {hh : PH} {mc ms : Nat} : ∀ (n : Nat) (h : PH) (a0 : Nat) (v1 : Int64) (v3 : Int32) (C9 S9 : Nat) (H : Heap) (locs : List Loc) (cells slots : Nat), f_X4_find_b76 n h a0 v1 v3 = some (r, hh, C9, S9) → cells + C9 = mc ∧ slots + S9 = ms → zM D dA b0 gs s h H locs → ∀ ls : Array Slot, lv_has ls 4 [(0, .ref a0), (1, .long v1), (3, .int v3)] → W p l e ({ frames := 3, cells := mc, slots := ms, locals := 106 } : Room) s m args below meth c H locs cells slots (MQ below (zQ D dA b0 gs (evI r) hh) args s mc ms (zA b0)) (F0 m 76 ls []) := by
  have hx := hc.x
  have hb := hc.b
  intro n
  induction n with
  | zero =>
    intro h a0 v1 v3 C9 S9 H locs cells slots hf hq hn ls hl
    cases hf
  | succ n ih =>
    intro h a0 v1 v3 C9 S9 H locs cells slots hf hq hn ls hl
    unfold f_X4_find_b76 at hf
    refine lv_iload_n hx hb dX4_find_76 rfl (lv_at hl 2 rfl) ?_
    refine lv_bipush (v := (6 : Int32)) hx hb dX4_find_77 (by decide) ?_
    refine lv_icmp_ge (tgt := 126) hx hb dX4_find_79 (by decide) (fun c9 => ?_) (fun c9 => ?_)
    · have hf := zif_t c9 hf
      refine lv_iconst (v := (0 : Int32)) hx hb dX4_find_126 (by decide) ?_
      obtain ⟨rfl, rfl, rfl, rfl⟩ := zret_i hf
      exact zr_iret hc hn hr hq (fun _ _ _ _ q => q) dX4_find_127
    · have hf := zif_f c9 hf
      refine lv_lload_n hx hb dX4_find_82 rfl (lv_at hl 1 rfl) ?_
      refine lv_lconst (v := (0 : Int64)) hx hb dX4_find_83 (by decide) ?_
      refine W.lcmp hx hb dX4_find_84 ?_
      refine zr_nmI hf (fun x101 hf => ?_)
      refine lv_if_le (tgt := 126) hx hb dX4_find_85 (by decide) (fun c9 => ?_) (fun c9 => ?_)
      · have hf := zif_t c9 hf
        refine lv_iconst (v := (0 : Int32)) hx hb dX4_find_126 (by decide) ?_
        obtain ⟨rfl, rfl, rfl, rfl⟩ := zret_i hf
        exact zr_iret hc hn hr hq (fun _ _ _ _ q => q) dX4_find_127
      · have hf := zif_f c9 hf
        refine lv_aload_n (x := a0) hx hb dX4_find_88 rfl (lv_at hl 0 rfl) ?_
        refine zr_gP hc hn (ci := 3) rfl rfl in_X4 1 (by decide) q2100 (fun _ h => h) (fun _ _ _ => rfl) hf dX4_find_89 (fun x102 hf => ?_)
        refine lv_iload_n hx hb dX4_find_92 rfl (lv_at hl 2 rfl) ?_
        refine zr_cSI (As := [.int v3]) (rest := [va_rf x102]) hc hn hq hd_X4_base (lw_S q2284 q2285 q91 q2286) (Nat.le_of_ble_eq_true rfl) (Nat.le_of_ble_eq_true rfl) (fun _ _ _ _ q => m_X4_base l D dA b0 gs h v3 q) hf dX4_find_93 hl.1 rfl rfl (zroom (Nat.le_of_ble_eq_true rfl)) (fun x103 h104 H locs cells slots C9 S9 hf hq hn => ?_)
        refine lv_iconst (v := (0 : Int32)) hx hb dX4_find_96 (by decide) ?_
        refine lv_iadd hx hb dX4_find_97 ?_
        refine zr_nmI hf (fun x105 hf => ?_)
        obtain ⟨a106, e9, hf9⟩ := znn_i hf
        subst e9
        have hf := hf9
        clear hf9
        refine zr_aI0 hc hn hf dX4_find_98 (fun x107 hf => ?_)
        refine lv_if_eq (tgt := 120) hx hb dX4_find_99 (by decide) (fun c9 => ?_) (fun c9 => ?_)
        · have hf := zif_t c9 hf
          exact m_X4_find_b120 hc hr hin (f_X4_find_b76 n) ih h104 a0 v1 v3 _ _ _ _ _ _ hf hq hn _ (lv_sub hl [0, 1, 2] rfl)
        · have hf := zif_f c9 hf
          refine lv_aload_n (x := a0) hx hb dX4_find_102 rfl (lv_at hl 0 rfl) ?_
          refine zr_gP hc hn (ci := 3) rfl rfl in_X4 2 (by decide) q2101 (fun _ h => h) (fun _ _ _ => rfl) hf dX4_find_103 (fun x108 hf => ?_)
          refine lv_iload_n hx hb dX4_find_106 rfl (lv_at hl 2 rfl) ?_
          obtain ⟨a109, e9, hf9⟩ := znn_i hf
          subst e9
          have hf := hf9
          clear hf9
          refine zr_aL hc hn hf dX4_find_107 (fun x110 hf => ?_)
          refine lv_lload_n hx hb dX4_find_108 rfl (lv_at hl 1 rfl) ?_
          refine W.lcmp hx hb dX4_find_109 ?_
          refine zr_nmI hf (fun x111 hf => ?_)
          refine lv_if_ne (tgt := 120) hx hb dX4_find_110 (by decide) (fun c9 => ?_) (fun c9 => ?_)
          · have hf := zif_f c9 hf
            exact m_X4_find_b120 hc hr hin (f_X4_find_b76 n) ih h104 a0 v1 v3 _ _ _ _ _ _ hf hq hn _ (lv_sub hl [0, 1, 2] rfl)
          · have hf := zif_t c9 hf
            refine lv_aload_n (x := a0) hx hb dX4_find_113 rfl (lv_at hl 0 rfl) ?_
            refine lv_iconst (v := (0 : Int32)) hx hb dX4_find_114 (by decide) ?_
            refine zr_pI (x := (0 : Int32)) hc hn (ci := 3) rfl rfl in_X4 0 (by decide) tyX4 tyX4_ok nmX4 q2099 (fun _ h => h) (Or.inl rfl) (fun _ _ _ => rfl) rfl rfl hf dX4_find_115 (fun h112 H locs hf hn => ?_)
            refine lv_iload_n hx hb dX4_find_118 rfl (lv_at hl 2 rfl) ?_
            obtain ⟨rfl, rfl, rfl, rfl⟩ := zret_i hf
            exact zr_iret hc hn hr hq (fun _ _ _ _ q => q) dX4_find_119
set_option maxHeartbeats 4000000 in
set_option maxRecDepth 100000 in
theorem m_X4_find_b4 {p : Program} {l : Launch} {e : Env} {s : State} {m : MethodId} {args : Array Value} {below : List Frame} {meth : Method} {c : Code} {D : va_G} {dA : Nat → ClassId} {b0 : Nat} {gs : Nat → Option Nat} (hc : zC D dA b0 gs yX4_find.cls cX4_find 4 p c s m args meth) (hr : meth.sig.returnType = (some .int)) (hin : meth.name = yX4_find.name) {r : Int32} {hh : PH} {mc ms : Nat} : ∀ (n : Nat) (h : PH) (a0 : Nat) (v1 : Int64) (v3 : Int32) (C9 S9 : Nat) (H : Heap) (locs : List Loc) (cells slots : Nat), f_X4_find_b4 n h a0 v1 v3 = some (r, hh, C9, S9) → cells + C9 = mc ∧ slots + S9 = ms → zM D dA b0 gs s h H locs → ∀ ls : Array Slot, lv_has ls 4 [(0, .ref a0), (1, .long v1), (3, .int v3)] → W p l e ({ frames := 3, cells := mc, slots := ms, locals := 106 } : Room) s m args below meth c H locs cells slots (MQ below (zQ D dA b0 gs (evI r) hh) args s mc ms (zA b0)) (F0 m 4 ls []) := by
  have hx := hc.x
  have hb := hc.b
  intro n
  induction n with
  | zero =>
    intro h a0 v1 v3 C9 S9 H locs cells slots hf hq hn ls hl
    cases hf
  | succ n ih =>
    intro h a0 v1 v3 C9 S9 H locs cells slots hf hq hn ls hl
    unfold f_X4_find_b4 at hf
    refine lv_iload_n hx hb dX4_find_4 rfl (lv_at hl 2 rfl) ?_
    refine lv_aload_n (x := a0) hx hb dX4_find_5 rfl (lv_at hl 0 rfl) ?_
    refine zr_gI hc hn (ci := 3) rfl rfl in_X4 13 (by decide) q2112 (fun _ h => h) (fun _ _ _ => rfl) hf dX4_find_6 (fun x101 hf => ?_)
    refine lv_icmp_ge (tgt := 64) hx hb dX4_find_9 (by decide) (fun c9 => ?_) (fun c9 => ?_)
    · have hf := zif_t c9 hf
      refine lv_aload_n (x := a0) hx hb dX4_find_64 rfl (lv_at hl 0 rfl) ?_
      refine lv_iconst (v := (0 : Int32)) hx hb dX4_find_65 (by decide) ?_
      refine zr_pI (x := (0 : Int32)) hc hn (ci := 3) rfl rfl in_X4 13 (by decide) tyX4 tyX4_ok nmX4 q2112 (fun _ h => h) (Or.inl rfl) (fun _ _ _ => rfl) rfl rfl hf dX4_find_66 (fun h102 H locs hf hn => ?_)
      refine lv_aload_n (x := a0) hx hb dX4_find_69 rfl (lv_at hl 0 rfl) ?_
      refine lv_iconst (v := (1 : Int32)) hx hb dX4_find_70 (by decide) ?_
      refine zr_pI (x := (1 : Int32)) hc hn (ci := 3) rfl rfl in_X4 0 (by decide) tyX4 tyX4_ok nmX4 q2099 (fun _ h => h) (Or.inl rfl) (fun _ _ _ => rfl) rfl rfl hf dX4_find_71 (fun h103 H locs hf hn => ?_)
      refine lv_iconst (v := (0 : Int32)) hx hb dX4_find_74 (by decide) ?_
      refine lv_istore_n (i := 3) (lv' := [(3, .int (0 : Int32)), (0, .ref a0), (1, .long v1)]) hx hb dX4_find_75 rfl hl (by decide) rfl (fun ls hl => ?_)
      exact m_X4_find_b76 hc hr hin zFU h103 a0 v1 (0 : Int32) _ _ _ _ _ _ hf hq hn _ (lv_sub hl [1, 2, 0] rfl)
    · have hf := zif_f c9 hf
      refine lv_aload_n (x := a0) hx hb dX4_find_12 rfl (lv_at hl 0 rfl) ?_
      refine lv_iload_n hx hb dX4_find_13 rfl (lv_at hl 2 rfl) ?_
      refine zr_cVI (As := [.int v3]) (rest := []) hc hn hq (ci := 3) rfl ⟨rfl, hd_X4_isLetter⟩ (lw_V q2235 q2237 qs37 q91 q2238) (Nat.le_of_ble_eq_true rfl) (Nat.le_of_ble_eq_true rfl) (fun _ _ _ _ q => m_X4_isLetter l D dA b0 gs h a0 v3 q) hf dX4_find_14 hl.1 rfl rfl (zroom (Nat.le_of_ble_eq_true rfl)) (fun x104 h105 H locs cells slots C9 S9 hf hq hn => ?_)
      refine lv_if_eq (tgt := 54) hx hb dX4_find_17 (by decide) (fun c9 => ?_) (fun c9 => ?_)
      · have hf := zif_t c9 hf
        exact m_X4_find_b54 hc hr hin (f_X4_find_b4 n) ih h105 a0 v3 _ _ _ _ _ _ hf hq hn _ (lv_sub hl [0, 2] rfl)
      · have hf := zif_f c9 hf
        refine lv_iload_n hx hb dX4_find_20 rfl (lv_at hl 2 rfl) ?_
        refine lv_bipush (v := (8 : Int32)) hx hb dX4_find_21 (by decide) ?_
        refine lv_icmp_ge (tgt := 54) hx hb dX4_find_23 (by decide) (fun c9 => ?_) (fun c9 => ?_)
        · have hf := zif_t c9 hf
          exact m_X4_find_b54 hc hr hin (f_X4_find_b4 n) ih h105 a0 v3 _ _ _ _ _ _ hf hq hn _ (lv_sub hl [0, 2] rfl)
        · have hf := zif_f c9 hf
          refine lv_lload_n hx hb dX4_find_26 rfl (lv_at hl 1 rfl) ?_
          refine lv_lconst (v := (0 : Int64)) hx hb dX4_find_27 (by decide) ?_
          refine W.lcmp hx hb dX4_find_28 ?_
          refine zr_nmI hf (fun x106 hf => ?_)
          refine lv_if_lt (tgt := 54) hx hb dX4_find_29 (by decide) (fun c9 => ?_) (fun c9 => ?_)
          · have hf := zif_t c9 hf
            exact m_X4_find_b54 hc hr hin (f_X4_find_b4 n) ih h105 a0 v3 _ _ _ _ _ _ hf hq hn _ (lv_sub hl [0, 2] rfl)
          · have hf := zif_f c9 hf
            refine lv_ldc2 (v := (27 : Int64)) hx hb hc.ow (hc.ts _ q2241) dX4_find_32 ?_
            refine lv_lload_n hx hb dX4_find_35 rfl (lv_at hl 1 rfl) ?_
            refine lv_lmul hx hb dX4_find_36 ?_
            refine zr_nmL hf (fun x107 hf => ?_)
            refine lv_aload_n (x := a0) hx hb dX4_find_37 rfl (lv_at hl 0 rfl) ?_
            refine zr_gP hc hn (ci := 3) rfl rfl in_X4 12 (by decide) q2111 (fun _ h => h) (fun _ _ _ => rfl) hf dX4_find_38 (fun x108 hf => ?_)
            refine lv_iload_n hx hb dX4_find_41 rfl (lv_at hl 2 rfl) ?_
            obtain ⟨a109, e9, hf9⟩ := znn_i hf
            subst e9
            have hf := hf9
            clear hf9
            refine zr_aI0 hc hn hf dX4_find_42 (fun x110 hf => ?_)
            refine lv_i2l (v := x110.toInt64) hx hb dX4_find_43 rfl ?_
            refine zr_nmL hf (fun x111 hf => ?_)
            refine lv_ladd hx hb dX4_find_44 ?_
            refine zr_nmL hf (fun x112 hf => ?_)
            refine lv_ldc2 (v := (97 : Int64)) hx hb hc.ow (hc.ts _ q2239) dX4_find_45 ?_
            refine lv_lsub hx hb dX4_find_48 ?_
            refine zr_nmL hf (fun x113 hf => ?_)
            refine lv_lconst (v := (1 : Int64)) hx hb dX4_find_49 (by decide) ?_
            refine lv_ladd hx hb dX4_find_50 ?_
            refine zr_nmL hf (fun x114 hf => ?_)
            refine lv_goto (tgt := 57) hx hb dX4_find_51 (by decide) ?_
            exact m_X4_find_b57 hc hr hin (f_X4_find_b4 n) ih h105 a0 v3 x114 _ _ _ _ _ _ hf hq hn _ (lv_sub hl [0, 2] rfl)
set_option maxHeartbeats 4000000 in
set_option maxRecDepth 100000 in
theorem m_X4_find (l : Launch) (D : va_G) (dA : Nat → ClassId) (b0 : Nat) (gs : Nat → Option Nat) (h : PH) (a0 : Nat) {r : Int32} {hh : PH} {mc ms : Nat} (hf : f_X4_find h a0 = some (r, hh, mc, ms)) : zMt l D dA b0 gs yX4_find cX4_find 4 (some .int) 3 106 [.ref a0] h (evI r) hh mc ms := by
  unfold f_X4_find at hf
  refine zMt.of (by decide) (Nat.le_of_ble_eq_true rfl) ?_
  intro p e s m args below meth c hc hr hin hn ls hl
  have hl : lv_has ls 4 [(0, .ref a0)] := hl
  have hq : 0 + mc = mc ∧ 0 + ms = ms := ⟨Nat.zero_add _, Nat.zero_add _⟩
  have hx := hc.x
  have hb := hc.b
  refine lv_lconst (v := (0 : Int64)) hx hb dX4_find_0 (by decide) ?_
  refine lv_lstore_n (i := 1) (lv' := [(1, .long (0 : Int64)), (0, .ref a0)]) hx hb dX4_find_1 rfl hl (by decide) rfl (fun ls hl => ?_)
  refine lv_iconst (v := (0 : Int32)) hx hb dX4_find_2 (by decide) ?_
  refine lv_istore_n (i := 3) (lv' := [(3, .int (0 : Int32)), (1, .long (0 : Int64)), (0, .ref a0)]) hx hb dX4_find_3 rfl hl (by decide) rfl (fun ls hl => ?_)
  exact m_X4_find_b4 hc hr hin zFU h a0 (0 : Int64) (0 : Int32) _ _ _ _ _ _ hf hq hn _ (lv_sub hl [2, 1, 0] rfl)
theorem hd_X4_isList : yX4_isList.cls ≠ "java/lang/invoke/MethodHandle" ∧ yX4_isList.cls ≠ "java/lang/invoke/VarHandle" ∧ (parseMethodDescriptor yX4_isList.desc).map (fun d => d.parameters.length) = some 1 := by decide +kernel
def f_X4_isList (h : PH) (a0 : Nat) (v1 : Int32) : ZR Int32 :=
  znm v1.toInt64 fun x101 =>
  zcl (f_X4_in h x101 (0 : Int64) (5 : Int64)) fun x102 h103 =>
  if x102 = 0 then
    (zret (0 : Int32) h103)
  else
    (zgP h103 a0 3 1 fun x104 =>
    zcl (f_X4_base h103 v1) fun x105 h106 =>
    znm (x105 + (0 : Int32)) fun x107 =>
    znn x104 fun a108 =>
    zaI h106 a108 0 x107 fun x109 =>
    if x109 = 0 then
      (zret (0 : Int32) h106)
    else
      (zret (1 : Int32) h106))
set_option maxHeartbeats 4000000 in
set_option maxRecDepth 100000 in
theorem m_X4_isList (l : Launch) (D : va_G) (dA : Nat → ClassId) (b0 : Nat) (gs : Nat → Option Nat) (h : PH) (a0 : Nat) (v1 : Int32) {r : Int32} {hh : PH} {mc ms : Nat} (hf : f_X4_isList h a0 v1 = some (r, hh, mc, ms)) : zMt l D dA b0 gs yX4_isList cX4_isList 2 (some .boolean) 2 85 [.ref a0, .int v1] h (evI r) hh mc ms := by
  unfold f_X4_isList at hf
  refine zMt.of (by decide) (Nat.le_of_ble_eq_true rfl) ?_
  intro p e s m args below meth c hc hr hin hn ls hl
  have hl : lv_has ls 2 [(0, .ref a0), (1, .int v1)] := hl
  have hq : 0 + mc = mc ∧ 0 + ms = ms := ⟨Nat.zero_add _, Nat.zero_add _⟩
  have hx := hc.x
  have hb := hc.b
  refine lv_iload_n hx hb dX4_isList_0 rfl (lv_at hl 1 rfl) ?_
  refine lv_i2l (v := v1.toInt64) hx hb dX4_isList_1 rfl ?_
  refine zr_nmL hf (fun x101 hf => ?_)
  refine lv_lconst (v := (0 : Int64)) hx hb dX4_isList_2 (by decide) ?_
  refine lv_ldc2 (v := (5 : Int64)) hx hb hc.ow (hc.ts _ q2347) dX4_isList_3 ?_
  refine zr_cSI (As := [.long x101, .long (0 : Int64), .long (5 : Int64)]) (rest := []) hc hn hq hd_X4_in (lw_S q2211 q2212 q91 q2213) (Nat.le_of_ble_eq_true rfl) (Nat.le_of_ble_eq_true rfl) (fun _ _ _ _ q => m_X4_in l D dA b0 gs h x101 (0 : Int64) (5 : Int64) q) hf dX4_isList_6 hl.1 rfl rfl (zroom (Nat.le_of_ble_eq_true rfl)) (fun x102 h103 H locs cells slots C9 S9 hf hq hn => ?_)
  refine lv_if_eq (tgt := 30) hx hb dX4_isList_9 (by decide) (fun c9 => ?_) (fun c9 => ?_)
  · have hf := zif_t c9 hf
    refine lv_iconst (v := (0 : Int32)) hx hb dX4_isList_30 (by decide) ?_
    obtain ⟨rfl, rfl, rfl, rfl⟩ := zret_i hf
    exact zr_zret hc hn hr (by decide) hq (fun _ _ _ _ q => q) dX4_isList_31
  · have hf := zif_f c9 hf
    refine lv_aload_n (x := a0) hx hb dX4_isList_12 rfl (lv_at hl 0 rfl) ?_
    refine zr_gP hc hn (ci := 3) rfl rfl in_X4 1 (by decide) q2100 (fun _ h => h) (fun _ _ _ => rfl) hf dX4_isList_13 (fun x104 hf => ?_)
    refine lv_iload_n hx hb dX4_isList_16 rfl (lv_at hl 1 rfl) ?_
    refine zr_cSI (As := [.int v1]) (rest := [va_rf x104]) hc hn hq hd_X4_base (lw_S q2284 q2285 q91 q2286) (Nat.le_of_ble_eq_true rfl) (Nat.le_of_ble_eq_true rfl) (fun _ _ _ _ q => m_X4_base l D dA b0 gs h103 v1 q) hf dX4_isList_17 hl.1 rfl rfl (zroom (Nat.le_of_ble_eq_true rfl)) (fun x105 h106 H locs cells slots C9 S9 hf hq hn => ?_)
    refine lv_iconst (v := (0 : Int32)) hx hb dX4_isList_20 (by decide) ?_
    refine lv_iadd hx hb dX4_isList_21 ?_
    refine zr_nmI hf (fun x107 hf => ?_)
    obtain ⟨a108, e9, hf9⟩ := znn_i hf
    subst e9
    have hf := hf9
    clear hf9
    refine zr_aI0 hc hn hf dX4_isList_22 (fun x109 hf => ?_)
    refine lv_if_eq (tgt := 30) hx hb dX4_isList_23 (by decide) (fun c9 => ?_) (fun c9 => ?_)
    · have hf := zif_t c9 hf
      refine lv_iconst (v := (0 : Int32)) hx hb dX4_isList_30 (by decide) ?_
      obtain ⟨rfl, rfl, rfl, rfl⟩ := zret_i hf
      exact zr_zret hc hn hr (by decide) hq (fun _ _ _ _ q => q) dX4_isList_31
    · have hf := zif_f c9 hf
      refine lv_iconst (v := (1 : Int32)) hx hb dX4_isList_26 (by decide) ?_
      refine lv_goto (tgt := 31) hx hb dX4_isList_27 (by decide) ?_
      obtain ⟨rfl, rfl, rfl, rfl⟩ := zret_i hf
      exact zr_zret hc hn hr (by decide) hq (fun _ _ _ _ q => q) dX4_isList_31
theorem hd_X4_exists : yX4_exists.cls ≠ "java/lang/invoke/MethodHandle" ∧ yX4_exists.cls ≠ "java/lang/invoke/VarHandle" ∧ (parseMethodDescriptor yX4_exists.desc).map (fun d => d.parameters.length) = some 1 := by decide +kernel
def f_X4_exists (h : PH) (a0 : Nat) (v1 : Int32) : ZR Int32 :=
  zpI h a0 3 0 (0 : Int32) fun h101 =>
  zrc h101 a0 3 <| zcl (f_X4_isList h101 a0 v1) fun x102 h103 =>
  zgd (zb01 x102 = true) <| zret x102 h103
set_option maxHeartbeats 4000000 in
set_option maxRecDepth 100000 in
theorem m_X4_exists (l : Launch) (D : va_G) (dA : Nat → ClassId) (b0 : Nat) (gs : Nat → Option Nat) (h : PH) (a0 : Nat) (v1 : Int32) {r : Int32} {hh : PH} {mc ms : Nat} (hf : f_X4_exists h a0 v1 = some (r, hh, mc, ms)) : zMt l D dA b0 gs yX4_exists cX4_exists 2 (some .boolean) 3 106 [.ref a0, .int v1] h (evI r) hh mc ms := by
  unfold f_X4_exists at hf
  refine zMt.of (by decide) (Nat.le_of_ble_eq_true rfl) ?_
  intro p e s m args below meth c hc hr hin hn ls hl
  have hl : lv_has ls 2 [(0, .ref a0), (1, .int v1)] := hl
  have hq : 0 + mc = mc ∧ 0 + ms = ms := ⟨Nat.zero_add _, Nat.zero_add _⟩
  have hx := hc.x
  have hb := hc.b
  refine lv_aload_n (x := a0) hx hb dX4_exists_0 rfl (lv_at hl 0 rfl) ?_
  refine lv_iconst (v := (0 : Int32)) hx hb dX4_exists_1 (by decide) ?_
  refine zr_pI (x := (0 : Int32)) hc hn (ci := 3) rfl rfl in_X4 0 (by decide) tyX4 tyX4_ok nmX4 q2099 (fun _ h => h) (Or.inl rfl) (fun _ _ _ => rfl) rfl rfl hf dX4_exists_2 (fun h101 H locs hf hn => ?_)
  refine lv_aload_n (x := a0) hx hb dX4_exists_5 rfl (lv_at hl 0 rfl) ?_
  refine lv_iload_n hx hb dX4_exists_6 rfl (lv_at hl 1 rfl) ?_
  refine zr_cVI (As := [.int v1]) (rest := []) hc hn hq (ci := 3) rfl ⟨rfl, hd_X4_isList⟩ (lw_V q2343 q2345 qs57 q91 q2346) (Nat.le_of_ble_eq_true rfl) (Nat.le_of_ble_eq_true rfl) (fun _ _ _ _ q => m_X4_isList l D dA b0 gs h101 a0 v1 q) hf dX4_exists_7 hl.1 rfl rfl (zroom (Nat.le_of_ble_eq_true rfl)) (fun x102 h103 H locs cells slots C9 S9 hf hq hn => ?_)
  obtain ⟨hz1, hf⟩ := zgd_i hf
  obtain ⟨rfl, rfl, rfl, rfl⟩ := zret_i hf
  exact zr_zret hc hn hr (zb01_n hz1) hq (fun _ _ _ _ q => q) dX4_exists_10
theorem hd_X4_limit : yX4_limit.cls ≠ "java/lang/invoke/MethodHandle" ∧ yX4_limit.cls ≠ "java/lang/invoke/VarHandle" ∧ (parseMethodDescriptor yX4_limit.desc).map (fun d => d.parameters.length) = some 0 := by decide +kernel
def f_X4_limit (h : PH) (a0 : Nat) : ZR Int32 :=
  zpI h a0 3 0 (0 : Int32) fun h101 =>
  zgP h101 a0 3 1 fun x102 =>
  znn x102 fun a103 =>
  zaI h101 a103 0 (0 : Int32) fun x104 =>
  zret x104 h101
set_option maxHeartbeats 4000000 in
set_option maxRecDepth 100000 in
theorem m_X4_limit (l : Launch) (D : va_G) (dA : Nat → ClassId) (b0 : Nat) (gs : Nat → Option Nat) (h : PH) (a0 : Nat) {r : Int32} {hh : PH} {mc ms : Nat} (hf : f_X4_limit h a0 = some (r, hh, mc, ms)) : zMt l D dA b0 gs yX4_limit cX4_limit 1 (some .int) 1 60 [.ref a0] h (evI r) hh mc ms := by
  unfold f_X4_limit at hf
  refine zMt.of (by decide) (Nat.le_of_ble_eq_true rfl) ?_
  intro p e s m args below meth c hc hr hin hn ls hl
  have hl : lv_has ls 1 [(0, .ref a0)] := hl
  have hq : 0 + mc = mc ∧ 0 + ms = ms := ⟨Nat.zero_add _, Nat.zero_add _⟩
  have hx := hc.x
  have hb := hc.b
  refine lv_aload_n (x := a0) hx hb dX4_limit_0 rfl (lv_at hl 0 rfl) ?_
  refine lv_iconst (v := (0 : Int32)) hx hb dX4_limit_1 (by decide) ?_
  refine zr_pI (x := (0 : Int32)) hc hn (ci := 3) rfl rfl in_X4 0 (by decide) tyX4 tyX4_ok nmX4 q2099 (fun _ h => h) (Or.inl rfl) (fun _ _ _ => rfl) rfl rfl hf dX4_limit_2 (fun h101 H locs hf hn => ?_)
  refine lv_aload_n (x := a0) hx hb dX4_limit_5 rfl (lv_at hl 0 rfl) ?_
  refine zr_gP hc hn (ci := 3) rfl rfl in_X4 1 (by decide) q2100 (fun _ h => h) (fun _ _ _ => rfl) hf dX4_limit_6 (fun x102 hf => ?_)
  refine lv_iconst (v := (0 : Int32)) hx hb dX4_limit_9 (by decide) ?_
  obtain ⟨a103, e9, hf9⟩ := znn_i hf
  subst e9
  have hf := hf9
  clear hf9
  refine zr_aI0 hc hn hf dX4_limit_10 (fun x104 hf => ?_)
  obtain ⟨rfl, rfl, rfl, rfl⟩ := zret_i hf
  exact zr_iret hc hn hr hq (fun _ _ _ _ q => q) dX4_limit_11
theorem hd_X4_size : yX4_size.cls ≠ "java/lang/invoke/MethodHandle" ∧ yX4_size.cls ≠ "java/lang/invoke/VarHandle" ∧ (parseMethodDescriptor yX4_size.desc).map (fun d => d.parameters.length) = some 1 := by decide +kernel
def f_X4_size_b14 (h : PH) (a0 : Nat) (v1 : Int32) (s0 : Nat) (s1 : Int32) : ZR Int32 :=
  zpI h s0 3 0 s1 fun h101 =>
  zgI h101 a0 3 0 fun x102 =>
  if x102 ≤ 0 then
    (zgP h101 a0 3 1 fun x103 =>
    zcl (f_X4_base h101 v1) fun x104 h105 =>
    znm (x104 + (1 : Int32)) fun x106 =>
    znn x103 fun a107 =>
    zaI h105 a107 0 x106 fun x108 =>
    zret x108 h105)
  else
    (zret (0 : Int32) h101)
def f_X4_size (h : PH) (a0 : Nat) (v1 : Int32) : ZR Int32 :=
  zrc h a0 3 <| zcl (f_X4_isList h a0 v1) fun x101 h102 =>
  if x101 = 0 then
    (f_X4_size_b14 h102 a0 v1 a0 (1 : Int32))
  else
    (f_X4_size_b14 h102 a0 v1 a0 (0 : Int32))
set_option maxHeartbeats 4000000 in
set_option maxRecDepth 100000 in
theorem m_X4_size_b14 {p : Program} {l : Launch} {e : Env} {s : State} {m : MethodId} {args : Array Value} {below : List Frame} {meth : Method} {c : Code} {D : va_G} {dA : Nat → ClassId} {b0 : Nat} {gs : Nat → Option Nat} (hc : zC D dA b0 gs yX4_size.cls cX4_size 2 p c s m args meth) (hr : meth.sig.returnType = (some .int)) (hin : meth.name = yX4_size.name) {r : Int32} {hh : PH} {mc ms : Nat} : ∀ (h : PH) (a0 : Nat) (v1 : Int32) (s0 : Nat) (s1 : Int32) (C9 S9 : Nat) (H : Heap) (locs : List Loc) (cells slots : Nat), f_X4_size_b14 h a0 v1 s0 s1 = some (r, hh, C9, S9) → cells + C9 = mc ∧ slots + S9 = ms → zM D dA b0 gs s h H locs → ∀ ls : Array Slot, lv_has ls 2 [(0, .ref a0), (1, .int v1)] → W p l e ({ frames := 3, cells := mc, slots := ms, locals := 106 } : Room) s m args below meth c H locs cells slots (MQ below (zQ D dA b0 gs (evI r) hh) args s mc ms (zA b0)) (F0 m 14 ls [.int s1, .ref s0]) := by
  have hx := hc.x
  have hb := hc.b
  intro h a0 v1 s0 s1 C9 S9 H locs cells slots hf hq hn ls hl
  unfold f_X4_size_b14 at hf
  refine zr_pI (x := s1) hc hn (ci := 3) rfl rfl in_X4 0 (by decide) tyX4 tyX4_ok nmX4 q2099 (fun _ h => h) (Or.inl rfl) (fun _ _ _ => rfl) rfl rfl hf dX4_size_14 (fun h101 H locs hf hn => ?_)
  refine lv_aload_n (x := a0) hx hb dX4_size_17 rfl (lv_at hl 0 rfl) ?_
  refine zr_gI hc hn (ci := 3) rfl rfl in_X4 0 (by decide) q2099 (fun _ h => h) (fun _ _ _ => rfl) hf dX4_size_18 (fun x102 hf => ?_)
  refine lv_if_le (tgt := 28) hx hb dX4_size_21 (by decide) (fun c9 => ?_) (fun c9 => ?_)
  · have hf := zif_t c9 hf
    refine lv_aload_n (x := a0) hx hb dX4_size_28 rfl (lv_at hl 0 rfl) ?_
    refine zr_gP hc hn (ci := 3) rfl rfl in_X4 1 (by decide) q2100 (fun _ h => h) (fun _ _ _ => rfl) hf dX4_size_29 (fun x103 hf => ?_)
    refine lv_iload_n hx hb dX4_size_32 rfl (lv_at hl 1 rfl) ?_
    refine zr_cSI (As := [.int v1]) (rest := [va_rf x103]) hc hn hq hd_X4_base (lw_S q2284 q2285 q91 q2286) (Nat.le_of_ble_eq_true rfl) (Nat.le_of_ble_eq_true rfl) (fun _ _ _ _ q => m_X4_base l D dA b0 gs h101 v1 q) hf dX4_size_33 hl.1 rfl rfl (zroom (Nat.le_of_ble_eq_true rfl)) (fun x104 h105 H locs cells slots C9 S9 hf hq hn => ?_)
    refine lv_iconst (v := (1 : Int32)) hx hb dX4_size_36 (by decide) ?_
    refine lv_iadd hx hb dX4_size_37 ?_
    refine zr_nmI hf (fun x106 hf => ?_)
    obtain ⟨a107, e9, hf9⟩ := znn_i hf
    subst e9
    have hf := hf9
    clear hf9
    refine zr_aI0 hc hn hf dX4_size_38 (fun x108 hf => ?_)
    obtain ⟨rfl, rfl, rfl, rfl⟩ := zret_i hf
    exact zr_iret hc hn hr hq (fun _ _ _ _ q => q) dX4_size_39
  · have hf := zif_f c9 hf
    refine lv_iconst (v := (0 : Int32)) hx hb dX4_size_24 (by decide) ?_
    refine lv_goto (tgt := 39) hx hb dX4_size_25 (by decide) ?_
    obtain ⟨rfl, rfl, rfl, rfl⟩ := zret_i hf
    exact zr_iret hc hn hr hq (fun _ _ _ _ q => q) dX4_size_39
set_option maxHeartbeats 4000000 in
set_option maxRecDepth 100000 in
theorem m_X4_size (l : Launch) (D : va_G) (dA : Nat → ClassId) (b0 : Nat) (gs : Nat → Option Nat) (h : PH) (a0 : Nat) (v1 : Int32) {r : Int32} {hh : PH} {mc ms : Nat} (hf : f_X4_size h a0 v1 = some (r, hh, mc, ms)) : zMt l D dA b0 gs yX4_size cX4_size 2 (some .int) 3 106 [.ref a0, .int v1] h (evI r) hh mc ms := by
  unfold f_X4_size at hf
  refine zMt.of (by decide) (Nat.le_of_ble_eq_true rfl) ?_
  intro p e s m args below meth c hc hr hin hn ls hl
  have hl : lv_has ls 2 [(0, .ref a0), (1, .int v1)] := hl
  have hq : 0 + mc = mc ∧ 0 + ms = ms := ⟨Nat.zero_add _, Nat.zero_add _⟩
  have hx := hc.x
  have hb := hc.b
  refine lv_aload_n (x := a0) hx hb dX4_size_0 rfl (lv_at hl 0 rfl) ?_
  refine lv_aload_n (x := a0) hx hb dX4_size_1 rfl (lv_at hl 0 rfl) ?_
  refine lv_iload_n hx hb dX4_size_2 rfl (lv_at hl 1 rfl) ?_
  refine zr_cVI (As := [.int v1]) (rest := [.ref a0]) hc hn hq (ci := 3) rfl ⟨rfl, hd_X4_isList⟩ (lw_V q2343 q2345 qs57 q91 q2346) (Nat.le_of_ble_eq_true rfl) (Nat.le_of_ble_eq_true rfl) (fun _ _ _ _ q => m_X4_isList l D dA b0 gs h a0 v1 q) hf dX4_size_3 hl.1 rfl rfl (zroom (Nat.le_of_ble_eq_true rfl)) (fun x101 h102 H locs cells slots C9 S9 hf hq hn => ?_)
  refine lv_if_eq (tgt := 13) hx hb dX4_size_6 (by decide) (fun c9 => ?_) (fun c9 => ?_)
  · have hf := zif_t c9 hf
    refine lv_iconst (v := (1 : Int32)) hx hb dX4_size_13 (by decide) ?_
    exact m_X4_size_b14 hc hr hin h102 a0 v1 a0 (1 : Int32) _ _ _ _ _ _ hf hq hn _ (lv_sub hl [0, 1] rfl)
  · have hf := zif_f c9 hf
    refine lv_iconst (v := (0 : Int32)) hx hb dX4_size_9 (by decide) ?_
    refine lv_goto (tgt := 14) hx hb dX4_size_10 (by decide) ?_
    exact m_X4_size_b14 hc hr hin h102 a0 v1 a0 (0 : Int32) _ _ _ _ _ _ hf hq hn _ (lv_sub hl [0, 1] rfl)
theorem hd_X4_height : yX4_height.cls ≠ "java/lang/invoke/MethodHandle" ∧ yX4_height.cls ≠ "java/lang/invoke/VarHandle" ∧ (parseMethodDescriptor yX4_height.desc).map (fun d => d.parameters.length) = some 1 := by decide +kernel
def f_X4_height (h : PH) (a0 : Nat) (v1 : Int32) : ZR Int32 :=
  zrc h a0 3 <| zcl (f_X4_isList h a0 v1) fun x101 h102 =>
  if x101 = 0 then
    (zpI h102 a0 3 0 (1 : Int32) fun h103 =>
    zgI h103 a0 3 0 fun x104 =>
    if x104 ≤ 0 then
      (zrc h103 a0 3 <| zcl (f_X4_heightOf h103 a0 v1) fun x105 h106 =>
      zret x105 h106)
    else
      (zret (0 : Int32) h103))
  else
    (zpI h102 a0 3 0 (0 : Int32) fun h107 =>
    zgI h107 a0 3 0 fun x108 =>
    if x108 ≤ 0 then
      (zrc h107 a0 3 <| zcl (f_X4_heightOf h107 a0 v1) fun x109 h110 =>
      zret x109 h110)
    else
      (zret (0 : Int32) h107))
set_option maxHeartbeats 4000000 in
set_option maxRecDepth 100000 in
theorem m_X4_height (l : Launch) (D : va_G) (dA : Nat → ClassId) (b0 : Nat) (gs : Nat → Option Nat) (h : PH) (a0 : Nat) (v1 : Int32) {r : Int32} {hh : PH} {mc ms : Nat} (hf : f_X4_height h a0 v1 = some (r, hh, mc, ms)) : zMt l D dA b0 gs yX4_height cX4_height 2 (some .int) 3 106 [.ref a0, .int v1] h (evI r) hh mc ms := by
  unfold f_X4_height at hf
  refine zMt.of (by decide) (Nat.le_of_ble_eq_true rfl) ?_
  intro p e s m args below meth c hc hr hin hn ls hl
  have hl : lv_has ls 2 [(0, .ref a0), (1, .int v1)] := hl
  have hq : 0 + mc = mc ∧ 0 + ms = ms := ⟨Nat.zero_add _, Nat.zero_add _⟩
  have hx := hc.x
  have hb := hc.b
  refine lv_aload_n (x := a0) hx hb dX4_height_0 rfl (lv_at hl 0 rfl) ?_
  refine lv_aload_n (x := a0) hx hb dX4_height_1 rfl (lv_at hl 0 rfl) ?_
  refine lv_iload_n hx hb dX4_height_2 rfl (lv_at hl 1 rfl) ?_
  refine zr_cVI (As := [.int v1]) (rest := [.ref a0]) hc hn hq (ci := 3) rfl ⟨rfl, hd_X4_isList⟩ (lw_V q2343 q2345 qs57 q91 q2346) (Nat.le_of_ble_eq_true rfl) (Nat.le_of_ble_eq_true rfl) (fun _ _ _ _ q => m_X4_isList l D dA b0 gs h a0 v1 q) hf dX4_height_3 hl.1 rfl rfl (zroom (Nat.le_of_ble_eq_true rfl)) (fun x101 h102 H locs cells slots C9 S9 hf hq hn => ?_)
  refine lv_if_eq (tgt := 13) hx hb dX4_height_6 (by decide) (fun c9 => ?_) (fun c9 => ?_)
  · have hf := zif_t c9 hf
    refine lv_iconst (v := (1 : Int32)) hx hb dX4_height_13 (by decide) ?_
    refine zr_pI (x := (1 : Int32)) hc hn (ci := 3) rfl rfl in_X4 0 (by decide) tyX4 tyX4_ok nmX4 q2099 (fun _ h => h) (Or.inl rfl) (fun _ _ _ => rfl) rfl rfl hf dX4_height_14 (fun h103 H locs hf hn => ?_)
    refine lv_aload_n (x := a0) hx hb dX4_height_17 rfl (lv_at hl 0 rfl) ?_
    refine zr_gI hc hn (ci := 3) rfl rfl in_X4 0 (by decide) q2099 (fun _ h => h) (fun _ _ _ => rfl) hf dX4_height_18 (fun x104 hf => ?_)
    refine lv_if_le (tgt := 28) hx hb dX4_height_21 (by decide) (fun c9 => ?_) (fun c9 => ?_)
    · have hf := zif_t c9 hf
      refine lv_aload_n (x := a0) hx hb dX4_height_28 rfl (lv_at hl 0 rfl) ?_
      refine lv_iload_n hx hb dX4_height_29 rfl (lv_at hl 1 rfl) ?_
      refine zr_cVI (As := [.int v1]) (rest := []) hc hn hq (ci := 3) rfl ⟨rfl, hd_X4_heightOf⟩ (lw_V q2299 q2301 qs50 q91 q2302) (Nat.le_of_ble_eq_true rfl) (Nat.le_of_ble_eq_true rfl) (fun _ _ _ _ q => m_X4_heightOf l D dA b0 gs h103 a0 v1 q) hf dX4_height_30 hl.1 rfl rfl (zroom (Nat.le_of_ble_eq_true rfl)) (fun x105 h106 H locs cells slots C9 S9 hf hq hn => ?_)
      obtain ⟨rfl, rfl, rfl, rfl⟩ := zret_i hf
      exact zr_iret hc hn hr hq (fun _ _ _ _ q => q) dX4_height_33
    · have hf := zif_f c9 hf
      refine lv_iconst (v := (0 : Int32)) hx hb dX4_height_24 (by decide) ?_
      refine lv_goto (tgt := 33) hx hb dX4_height_25 (by decide) ?_
      obtain ⟨rfl, rfl, rfl, rfl⟩ := zret_i hf
      exact zr_iret hc hn hr hq (fun _ _ _ _ q => q) dX4_height_33
  · have hf := zif_f c9 hf
    refine lv_iconst (v := (0 : Int32)) hx hb dX4_height_9 (by decide) ?_
    refine lv_goto (tgt := 14) hx hb dX4_height_10 (by decide) ?_
    refine zr_pI (x := (0 : Int32)) hc hn (ci := 3) rfl rfl in_X4 0 (by decide) tyX4 tyX4_ok nmX4 q2099 (fun _ h => h) (Or.inl rfl) (fun _ _ _ => rfl) rfl rfl hf dX4_height_14 (fun h107 H locs hf hn => ?_)
    refine lv_aload_n (x := a0) hx hb dX4_height_17 rfl (lv_at hl 0 rfl) ?_
    refine zr_gI hc hn (ci := 3) rfl rfl in_X4 0 (by decide) q2099 (fun _ h => h) (fun _ _ _ => rfl) hf dX4_height_18 (fun x108 hf => ?_)
    refine lv_if_le (tgt := 28) hx hb dX4_height_21 (by decide) (fun c9 => ?_) (fun c9 => ?_)
    · have hf := zif_t c9 hf
      refine lv_aload_n (x := a0) hx hb dX4_height_28 rfl (lv_at hl 0 rfl) ?_
      refine lv_iload_n hx hb dX4_height_29 rfl (lv_at hl 1 rfl) ?_
      refine zr_cVI (As := [.int v1]) (rest := []) hc hn hq (ci := 3) rfl ⟨rfl, hd_X4_heightOf⟩ (lw_V q2299 q2301 qs50 q91 q2302) (Nat.le_of_ble_eq_true rfl) (Nat.le_of_ble_eq_true rfl) (fun _ _ _ _ q => m_X4_heightOf l D dA b0 gs h107 a0 v1 q) hf dX4_height_30 hl.1 rfl rfl (zroom (Nat.le_of_ble_eq_true rfl)) (fun x109 h110 H locs cells slots C9 S9 hf hq hn => ?_)
      obtain ⟨rfl, rfl, rfl, rfl⟩ := zret_i hf
      exact zr_iret hc hn hr hq (fun _ _ _ _ q => q) dX4_height_33
    · have hf := zif_f c9 hf
      refine lv_iconst (v := (0 : Int32)) hx hb dX4_height_24 (by decide) ?_
      refine lv_goto (tgt := 33) hx hb dX4_height_25 (by decide) ?_
      obtain ⟨rfl, rfl, rfl, rfl⟩ := zret_i hf
      exact zr_iret hc hn hr hq (fun _ _ _ _ q => q) dX4_height_33
theorem hd_X4_isPlace : yX4_isPlace.cls ≠ "java/lang/invoke/MethodHandle" ∧ yX4_isPlace.cls ≠ "java/lang/invoke/VarHandle" ∧ (parseMethodDescriptor yX4_isPlace.desc).map (fun d => d.parameters.length) = some 2 := by decide +kernel
def f_X4_isPlace (h : PH) (a0 : Nat) (v1 : Int32) (v2 : Int32) : ZR Int32 :=
  zrc h a0 3 <| zcl (f_X4_isList h a0 v1) fun x101 h102 =>
  if x101 = 0 then
    (zret (0 : Int32) h102)
  else
    (znm v2.toInt64 fun x103 =>
    zgP h102 a0 3 1 fun x104 =>
    zcl (f_X4_base h102 v1) fun x105 h106 =>
    znm (x105 + (1 : Int32)) fun x107 =>
    znn x104 fun a108 =>
    zaI h106 a108 0 x107 fun x109 =>
    znm (x109 - (1 : Int32)) fun x110 =>
    znm x110.toInt64 fun x111 =>
    zcl (f_X4_in h106 x103 (0 : Int64) x111) fun x112 h113 =>
    if x112 = 0 then
      (zret (0 : Int32) h113)
    else
      (zret (1 : Int32) h113))
set_option maxHeartbeats 4000000 in
set_option maxRecDepth 100000 in
theorem m_X4_isPlace (l : Launch) (D : va_G) (dA : Nat → ClassId) (b0 : Nat) (gs : Nat → Option Nat) (h : PH) (a0 : Nat) (v1 : Int32) (v2 : Int32) {r : Int32} {hh : PH} {mc ms : Nat} (hf : f_X4_isPlace h a0 v1 v2 = some (r, hh, mc, ms)) : zMt l D dA b0 gs yX4_isPlace cX4_isPlace 3 (some .boolean) 3 106 [.ref a0, .int v1, .int v2] h (evI r) hh mc ms := by
  unfold f_X4_isPlace at hf
  refine zMt.of (by decide) (Nat.le_of_ble_eq_true rfl) ?_
  intro p e s m args below meth c hc hr hin hn ls hl
  have hl : lv_has ls 3 [(0, .ref a0), (1, .int v1), (2, .int v2)] := hl
  have hq : 0 + mc = mc ∧ 0 + ms = ms := ⟨Nat.zero_add _, Nat.zero_add _⟩
  have hx := hc.x
  have hb := hc.b
  refine lv_aload_n (x := a0) hx hb dX4_isPlace_0 rfl (lv_at hl 0 rfl) ?_
  refine lv_iload_n hx hb dX4_isPlace_1 rfl (lv_at hl 1 rfl) ?_
  refine zr_cVI (As := [.int v1]) (rest := []) hc hn hq (ci := 3) rfl ⟨rfl, hd_X4_isList⟩ (lw_V q2343 q2345 qs57 q91 q2346) (Nat.le_of_ble_eq_true rfl) (Nat.le_of_ble_eq_true rfl) (fun _ _ _ _ q => m_X4_isList l D dA b0 gs h a0 v1 q) hf dX4_isPlace_2 hl.1 rfl rfl (zroom (Nat.le_of_ble_eq_true rfl)) (fun x101 h102 H locs cells slots C9 S9 hf hq hn => ?_)
  refine lv_if_eq (tgt := 35) hx hb dX4_isPlace_5 (by decide) (fun c9 => ?_) (fun c9 => ?_)
  · have hf := zif_t c9 hf
    refine lv_iconst (v := (0 : Int32)) hx hb dX4_isPlace_35 (by decide) ?_
    obtain ⟨rfl, rfl, rfl, rfl⟩ := zret_i hf
    exact zr_zret hc hn hr (by decide) hq (fun _ _ _ _ q => q) dX4_isPlace_36
  · have hf := zif_f c9 hf
    refine lv_iload_n hx hb dX4_isPlace_8 rfl (lv_at hl 2 rfl) ?_
    refine lv_i2l (v := v2.toInt64) hx hb dX4_isPlace_9 rfl ?_
    refine zr_nmL hf (fun x103 hf => ?_)
    refine lv_lconst (v := (0 : Int64)) hx hb dX4_isPlace_10 (by decide) ?_
    refine lv_aload_n (x := a0) hx hb dX4_isPlace_11 rfl (lv_at hl 0 rfl) ?_
    refine zr_gP hc hn (ci := 3) rfl rfl in_X4 1 (by decide) q2100 (fun _ h => h) (fun _ _ _ => rfl) hf dX4_isPlace_12 (fun x104 hf => ?_)
    refine lv_iload_n hx hb dX4_isPlace_15 rfl (lv_at hl 1 rfl) ?_
    refine zr_cSI (As := [.int v1]) (rest := [va_rf x104, .long (0 : Int64), .long x103]) hc hn hq hd_X4_base (lw_S q2284 q2285 q91 q2286) (Nat.le_of_ble_eq_true rfl) (Nat.le_of_ble_eq_true rfl) (fun _ _ _ _ q => m_X4_base l D dA b0 gs h102 v1 q) hf dX4_isPlace_16 hl.1 rfl rfl (zroom (Nat.le_of_ble_eq_true rfl)) (fun x105 h106 H locs cells slots C9 S9 hf hq hn => ?_)
    refine lv_iconst (v := (1 : Int32)) hx hb dX4_isPlace_19 (by decide) ?_
    refine lv_iadd hx hb dX4_isPlace_20 ?_
    refine zr_nmI hf (fun x107 hf => ?_)
    obtain ⟨a108, e9, hf9⟩ := znn_i hf
    subst e9
    have hf := hf9
    clear hf9
    refine zr_aI0 hc hn hf dX4_isPlace_21 (fun x109 hf => ?_)
    refine lv_iconst (v := (1 : Int32)) hx hb dX4_isPlace_22 (by decide) ?_
    refine lv_isub hx hb dX4_isPlace_23 ?_
    refine zr_nmI hf (fun x110 hf => ?_)
    refine lv_i2l (v := x110.toInt64) hx hb dX4_isPlace_24 rfl ?_
    refine zr_nmL hf (fun x111 hf => ?_)
    refine zr_cSI (As := [.long x103, .long (0 : Int64), .long x111]) (rest := []) hc hn hq hd_X4_in (lw_S q2211 q2212 q91 q2213) (Nat.le_of_ble_eq_true rfl) (Nat.le_of_ble_eq_true rfl) (fun _ _ _ _ q => m_X4_in l D dA b0 gs h106 x103 (0 : Int64) x111 q) hf dX4_isPlace_25 hl.1 rfl rfl (zroom (Nat.le_of_ble_eq_true rfl)) (fun x112 h113 H locs cells slots C9 S9 hf hq hn => ?_)
    refine lv_if_eq (tgt := 35) hx hb dX4_isPlace_28 (by decide) (fun c9 => ?_) (fun c9 => ?_)
    · have hf := zif_t c9 hf
      refine lv_iconst (v := (0 : Int32)) hx hb dX4_isPlace_35 (by decide) ?_
      obtain ⟨rfl, rfl, rfl, rfl⟩ := zret_i hf
      exact zr_zret hc hn hr (by decide) hq (fun _ _ _ _ q => q) dX4_isPlace_36
    · have hf := zif_f c9 hf
      refine lv_iconst (v := (1 : Int32)) hx hb dX4_isPlace_31 (by decide) ?_
      refine lv_goto (tgt := 36) hx hb dX4_isPlace_32 (by decide) ?_
      obtain ⟨rfl, rfl, rfl, rfl⟩ := zret_i hf
      exact zr_zret hc hn hr (by decide) hq (fun _ _ _ _ q => q) dX4_isPlace_36
theorem hd_X4_elementAt : yX4_elementAt.cls ≠ "java/lang/invoke/MethodHandle" ∧ yX4_elementAt.cls ≠ "java/lang/invoke/VarHandle" ∧ (parseMethodDescriptor yX4_elementAt.desc).map (fun d => d.parameters.length) = some 3 := by decide +kernel
def f_X4_elementAt_b15 (h : PH) (a0 : Nat) (v1 : Int32) (v2 : Int32) (v3 : Int32) (s0 : Nat) (s1 : Int32) : ZR Int32 :=
  zpI h s0 3 0 s1 fun h101 =>
  zgI h101 a0 3 0 fun x102 =>
  if x102 ≤ 0 then
    (zgP h101 a0 3 1 fun x103 =>
    zcl (f_X4_base h101 v1) fun x104 h105 =>
    znm (x104 + v3) fun x106 =>
    znm (x106 + v2) fun x107 =>
    znn x103 fun a108 =>
    zaI h105 a108 0 x107 fun x109 =>
    zret x109 h105)
  else
    (zret (0 : Int32) h101)
def f_X4_elementAt (h : PH) (a0 : Nat) (v1 : Int32) (v2 : Int32) (v3 : Int32) : ZR Int32 :=
  zrc h a0 3 <| zcl (f_X4_isPlace h a0 v1 v2) fun x101 h102 =>
  if x101 = 0 then
    (f_X4_elementAt_b15 h102 a0 v1 v2 v3 a0 (1 : Int32))
  else
    (f_X4_elementAt_b15 h102 a0 v1 v2 v3 a0 (0 : Int32))
set_option maxHeartbeats 4000000 in
set_option maxRecDepth 100000 in
theorem m_X4_elementAt_b15 {p : Program} {l : Launch} {e : Env} {s : State} {m : MethodId} {args : Array Value} {below : List Frame} {meth : Method} {c : Code} {D : va_G} {dA : Nat → ClassId} {b0 : Nat} {gs : Nat → Option Nat} (hc : zC D dA b0 gs yX4_elementAt.cls cX4_elementAt 4 p c s m args meth) (hr : meth.sig.returnType = (some .int)) (hin : meth.name = yX4_elementAt.name) {r : Int32} {hh : PH} {mc ms : Nat} : ∀ (h : PH) (a0 : Nat) (v1 : Int32) (v2 : Int32) (v3 : Int32) (s0 : Nat) (s1 : Int32) (C9 S9 : Nat) (H : Heap) (locs : List Loc) (cells slots : Nat), f_X4_elementAt_b15 h a0 v1 v2 v3 s0 s1 = some (r, hh, C9, S9) → cells + C9 = mc ∧ slots + S9 = ms → zM D dA b0 gs s h H locs → ∀ ls : Array Slot, lv_has ls 4 [(0, .ref a0), (1, .int v1), (2, .int v2), (3, .int v3)] → W p l e ({ frames := 4, cells := mc, slots := ms, locals := 128 } : Room) s m args below meth c H locs cells slots (MQ below (zQ D dA b0 gs (evI r) hh) args s mc ms (zA b0)) (F0 m 15 ls [.int s1, .ref s0]) := by
  have hx := hc.x
  have hb := hc.b
  intro h a0 v1 v2 v3 s0 s1 C9 S9 H locs cells slots hf hq hn ls hl
  unfold f_X4_elementAt_b15 at hf
  refine zr_pI (x := s1) hc hn (ci := 3) rfl rfl in_X4 0 (by decide) tyX4 tyX4_ok nmX4 q2099 (fun _ h => h) (Or.inl rfl) (fun _ _ _ => rfl) rfl rfl hf dX4_elementAt_15 (fun h101 H locs hf hn => ?_)
  refine lv_aload_n (x := a0) hx hb dX4_elementAt_18 rfl (lv_at hl 0 rfl) ?_
  refine zr_gI hc hn (ci := 3) rfl rfl in_X4 0 (by decide) q2099 (fun _ h => h) (fun _ _ _ => rfl) hf dX4_elementAt_19 (fun x102 hf => ?_)
  refine lv_if_le (tgt := 29) hx hb dX4_elementAt_22 (by decide) (fun c9 => ?_) (fun c9 => ?_)
  · have hf := zif_t c9 hf
    refine lv_aload_n (x := a0) hx hb dX4_elementAt_29 rfl (lv_at hl 0 rfl) ?_
    refine zr_gP hc hn (ci := 3) rfl rfl in_X4 1 (by decide) q2100 (fun _ h => h) (fun _ _ _ => rfl) hf dX4_elementAt_30 (fun x103 hf => ?_)
    refine lv_iload_n hx hb dX4_elementAt_33 rfl (lv_at hl 1 rfl) ?_
    refine zr_cSI (As := [.int v1]) (rest := [va_rf x103]) hc hn hq hd_X4_base (lw_S q2284 q2285 q91 q2286) (Nat.le_of_ble_eq_true rfl) (Nat.le_of_ble_eq_true rfl) (fun _ _ _ _ q => m_X4_base l D dA b0 gs h101 v1 q) hf dX4_elementAt_34 hl.1 rfl rfl (zroom (Nat.le_of_ble_eq_true rfl)) (fun x104 h105 H locs cells slots C9 S9 hf hq hn => ?_)
    refine lv_iload_n hx hb dX4_elementAt_37 rfl (lv_at hl 3 rfl) ?_
    refine lv_iadd hx hb dX4_elementAt_38 ?_
    refine zr_nmI hf (fun x106 hf => ?_)
    refine lv_iload_n hx hb dX4_elementAt_39 rfl (lv_at hl 2 rfl) ?_
    refine lv_iadd hx hb dX4_elementAt_40 ?_
    refine zr_nmI hf (fun x107 hf => ?_)
    obtain ⟨a108, e9, hf9⟩ := znn_i hf
    subst e9
    have hf := hf9
    clear hf9
    refine zr_aI0 hc hn hf dX4_elementAt_41 (fun x109 hf => ?_)
    obtain ⟨rfl, rfl, rfl, rfl⟩ := zret_i hf
    exact zr_iret hc hn hr hq (fun _ _ _ _ q => q) dX4_elementAt_42
  · have hf := zif_f c9 hf
    refine lv_iconst (v := (0 : Int32)) hx hb dX4_elementAt_25 (by decide) ?_
    refine lv_goto (tgt := 42) hx hb dX4_elementAt_26 (by decide) ?_
    obtain ⟨rfl, rfl, rfl, rfl⟩ := zret_i hf
    exact zr_iret hc hn hr hq (fun _ _ _ _ q => q) dX4_elementAt_42
set_option maxHeartbeats 4000000 in
set_option maxRecDepth 100000 in
theorem m_X4_elementAt (l : Launch) (D : va_G) (dA : Nat → ClassId) (b0 : Nat) (gs : Nat → Option Nat) (h : PH) (a0 : Nat) (v1 : Int32) (v2 : Int32) (v3 : Int32) {r : Int32} {hh : PH} {mc ms : Nat} (hf : f_X4_elementAt h a0 v1 v2 v3 = some (r, hh, mc, ms)) : zMt l D dA b0 gs yX4_elementAt cX4_elementAt 4 (some .int) 4 128 [.ref a0, .int v1, .int v2, .int v3] h (evI r) hh mc ms := by
  unfold f_X4_elementAt at hf
  refine zMt.of (by decide) (Nat.le_of_ble_eq_true rfl) ?_
  intro p e s m args below meth c hc hr hin hn ls hl
  have hl : lv_has ls 4 [(0, .ref a0), (1, .int v1), (2, .int v2), (3, .int v3)] := hl
  have hq : 0 + mc = mc ∧ 0 + ms = ms := ⟨Nat.zero_add _, Nat.zero_add _⟩
  have hx := hc.x
  have hb := hc.b
  refine lv_aload_n (x := a0) hx hb dX4_elementAt_0 rfl (lv_at hl 0 rfl) ?_
  refine lv_aload_n (x := a0) hx hb dX4_elementAt_1 rfl (lv_at hl 0 rfl) ?_
  refine lv_iload_n hx hb dX4_elementAt_2 rfl (lv_at hl 1 rfl) ?_
  refine lv_iload_n hx hb dX4_elementAt_3 rfl (lv_at hl 2 rfl) ?_
  refine zr_cVI (As := [.int v1, .int v2]) (rest := [.ref a0]) hc hn hq (ci := 3) rfl ⟨rfl, hd_X4_isPlace⟩ (lw_V q2368 q2370 qs59 q91 q2371) (Nat.le_of_ble_eq_true rfl) (Nat.le_of_ble_eq_true rfl) (fun _ _ _ _ q => m_X4_isPlace l D dA b0 gs h a0 v1 v2 q) hf dX4_elementAt_4 hl.1 rfl rfl (zroom (Nat.le_of_ble_eq_true rfl)) (fun x101 h102 H locs cells slots C9 S9 hf hq hn => ?_)
  refine lv_if_eq (tgt := 14) hx hb dX4_elementAt_7 (by decide) (fun c9 => ?_) (fun c9 => ?_)
  · have hf := zif_t c9 hf
    refine lv_iconst (v := (1 : Int32)) hx hb dX4_elementAt_14 (by decide) ?_
    exact m_X4_elementAt_b15 hc hr hin h102 a0 v1 v2 v3 a0 (1 : Int32) _ _ _ _ _ _ hf hq hn _ (lv_sub hl [0, 1, 2, 3] rfl)
  · have hf := zif_f c9 hf
    refine lv_iconst (v := (0 : Int32)) hx hb dX4_elementAt_10 (by decide) ?_
    refine lv_goto (tgt := 15) hx hb dX4_elementAt_11 (by decide) ?_
    exact m_X4_elementAt_b15 hc hr hin h102 a0 v1 v2 v3 a0 (0 : Int32) _ _ _ _ _ _ hf hq hn _ (lv_sub hl [0, 1, 2, 3] rfl)
theorem hd_X4_keyAt : yX4_keyAt.cls ≠ "java/lang/invoke/MethodHandle" ∧ yX4_keyAt.cls ≠ "java/lang/invoke/VarHandle" ∧ (parseMethodDescriptor yX4_keyAt.desc).map (fun d => d.parameters.length) = some 2 := by decide +kernel
def f_X4_keyAt (h : PH) (a0 : Nat) (v1 : Int32) (v2 : Int32) : ZR Int32 :=
  zrc h a0 3 <| zcl (f_X4_elementAt h a0 v1 v2 (2 : Int32)) fun x101 h102 =>
  zret x101 h102
set_option maxHeartbeats 4000000 in
set_option maxRecDepth 100000 in
theorem m_X4_keyAt (l : Launch) (D : va_G) (dA : Nat → ClassId) (b0 : Nat) (gs : Nat → Option Nat) (h : PH) (a0 : Nat) (v1 : Int32) (v2 : Int32) {r : Int32} {hh : PH} {mc ms : Nat} (hf : f_X4_keyAt h a0 v1 v2 = some (r, hh, mc, ms)) : zMt l D dA b0 gs yX4_keyAt cX4_keyAt 3 (some .int) 5 151 [.ref a0, .int v1, .int v2] h (evI r) hh mc ms := by
  unfold f_X4_keyAt at hf
  refine zMt.of (by decide) (Nat.le_of_ble_eq_true rfl) ?_
  intro p e s m args below meth c hc hr hin hn ls hl
  have hl : lv_has ls 3 [(0, .ref a0), (1, .int v1), (2, .int v2)] := hl
  have hq : 0 + mc = mc ∧ 0 + ms = ms := ⟨Nat.zero_add _, Nat.zero_add _⟩
  have hx := hc.x
  have hb := hc.b
  refine lv_aload_n (x := a0) hx hb dX4_keyAt_0 rfl (lv_at hl 0 rfl) ?_
  refine lv_iload_n hx hb dX4_keyAt_1 rfl (lv_at hl 1 rfl) ?_
  refine lv_iload_n hx hb dX4_keyAt_2 rfl (lv_at hl 2 rfl) ?_
  refine lv_iconst (v := (2 : Int32)) hx hb dX4_keyAt_3 (by decide) ?_
  refine zr_cVI (As := [.int v1, .int v2, .int (2 : Int32)]) (rest := []) hc hn hq (ci := 3) rfl ⟨rfl, hd_X4_elementAt⟩ (lw_V q2364 q2366 qs58 q91 q2367) (Nat.le_of_ble_eq_true rfl) (Nat.le_of_ble_eq_true rfl) (fun _ _ _ _ q => m_X4_elementAt l D dA b0 gs h a0 v1 v2 (2 : Int32) q) hf dX4_keyAt_4 hl.1 rfl rfl (zroom (Nat.le_of_ble_eq_true rfl)) (fun x101 h102 H locs cells slots C9 S9 hf hq hn => ?_)
  obtain ⟨rfl, rfl, rfl, rfl⟩ := zret_i hf
  exact zr_iret hc hn hr hq (fun _ _ _ _ q => q) dX4_keyAt_7
theorem hd_X4_valueAt : yX4_valueAt.cls ≠ "java/lang/invoke/MethodHandle" ∧ yX4_valueAt.cls ≠ "java/lang/invoke/VarHandle" ∧ (parseMethodDescriptor yX4_valueAt.desc).map (fun d => d.parameters.length) = some 2 := by decide +kernel
def f_X4_valueAt (h : PH) (a0 : Nat) (v1 : Int32) (v2 : Int32) : ZR Int32 :=
  zrc h a0 3 <| zcl (f_X4_elementAt h a0 v1 v2 (62 : Int32)) fun x101 h102 =>
  zret x101 h102
set_option maxHeartbeats 4000000 in
set_option maxRecDepth 100000 in
theorem m_X4_valueAt (l : Launch) (D : va_G) (dA : Nat → ClassId) (b0 : Nat) (gs : Nat → Option Nat) (h : PH) (a0 : Nat) (v1 : Int32) (v2 : Int32) {r : Int32} {hh : PH} {mc ms : Nat} (hf : f_X4_valueAt h a0 v1 v2 = some (r, hh, mc, ms)) : zMt l D dA b0 gs yX4_valueAt cX4_valueAt 3 (some .int) 5 151 [.ref a0, .int v1, .int v2] h (evI r) hh mc ms := by
  unfold f_X4_valueAt at hf
  refine zMt.of (by decide) (Nat.le_of_ble_eq_true rfl) ?_
  intro p e s m args below meth c hc hr hin hn ls hl
  have hl : lv_has ls 3 [(0, .ref a0), (1, .int v1), (2, .int v2)] := hl
  have hq : 0 + mc = mc ∧ 0 + ms = ms := ⟨Nat.zero_add _, Nat.zero_add _⟩
  have hx := hc.x
  have hb := hc.b
  refine lv_aload_n (x := a0) hx hb dX4_valueAt_0 rfl (lv_at hl 0 rfl) ?_
  refine lv_iload_n hx hb dX4_valueAt_1 rfl (lv_at hl 1 rfl) ?_
  refine lv_iload_n hx hb dX4_valueAt_2 rfl (lv_at hl 2 rfl) ?_
  refine lv_bipush (v := (62 : Int32)) hx hb dX4_valueAt_3 (by decide) ?_
  refine zr_cVI (As := [.int v1, .int v2, .int (62 : Int32)]) (rest := []) hc hn hq (ci := 3) rfl ⟨rfl, hd_X4_elementAt⟩ (lw_V q2364 q2366 qs58 q91 q2367) (Nat.le_of_ble_eq_true rfl) (Nat.le_of_ble_eq_true rfl) (fun _ _ _ _ q => m_X4_elementAt l D dA b0 gs h a0 v1 v2 (62 : Int32) q) hf dX4_valueAt_5 hl.1 rfl rfl (zroom (Nat.le_of_ble_eq_true rfl)) (fun x101 h102 H locs cells slots C9 S9 hf hq hn => ?_)
  obtain ⟨rfl, rfl, rfl, rfl⟩ := zret_i hf
  exact zr_iret hc hn hr hq (fun _ _ _ _ q => q) dX4_valueAt_8
theorem hd_X4_heightAt : yX4_heightAt.cls ≠ "java/lang/invoke/MethodHandle" ∧ yX4_heightAt.cls ≠ "java/lang/invoke/VarHandle" ∧ (parseMethodDescriptor yX4_heightAt.desc).map (fun d => d.parameters.length) = some 2 := by decide +kernel
def f_X4_heightAt (h : PH) (a0 : Nat) (v1 : Int32) (v2 : Int32) : ZR Int32 :=
  zrc h a0 3 <| zcl (f_X4_elementAt h a0 v1 v2 (122 : Int32)) fun x101 h102 =>
  zret x101 h102
set_option maxHeartbeats 4000000 in
set_option maxRecDepth 100000 in
theorem m_X4_heightAt (l : Launch) (D : va_G) (dA : Nat → ClassId) (b0 : Nat) (gs : Nat → Option Nat) (h : PH) (a0 : Nat) (v1 : Int32) (v2 : Int32) {r : Int32} {hh : PH} {mc ms : Nat} (hf : f_X4_heightAt h a0 v1 v2 = some (r, hh, mc, ms)) : zMt l D dA b0 gs yX4_heightAt cX4_heightAt 3 (some .int) 5 151 [.ref a0, .int v1, .int v2] h (evI r) hh mc ms := by
  unfold f_X4_heightAt at hf
  refine zMt.of (by decide) (Nat.le_of_ble_eq_true rfl) ?_
  intro p e s m args below meth c hc hr hin hn ls hl
  have hl : lv_has ls 3 [(0, .ref a0), (1, .int v1), (2, .int v2)] := hl
  have hq : 0 + mc = mc ∧ 0 + ms = ms := ⟨Nat.zero_add _, Nat.zero_add _⟩
  have hx := hc.x
  have hb := hc.b
  refine lv_aload_n (x := a0) hx hb dX4_heightAt_0 rfl (lv_at hl 0 rfl) ?_
  refine lv_iload_n hx hb dX4_heightAt_1 rfl (lv_at hl 1 rfl) ?_
  refine lv_iload_n hx hb dX4_heightAt_2 rfl (lv_at hl 2 rfl) ?_
  refine lv_bipush (v := (122 : Int32)) hx hb dX4_heightAt_3 (by decide) ?_
  refine zr_cVI (As := [.int v1, .int v2, .int (122 : Int32)]) (rest := []) hc hn hq (ci := 3) rfl ⟨rfl, hd_X4_elementAt⟩ (lw_V q2364 q2366 qs58 q91 q2367) (Nat.le_of_ble_eq_true rfl) (Nat.le_of_ble_eq_true rfl) (fun _ _ _ _ q => m_X4_elementAt l D dA b0 gs h a0 v1 v2 (122 : Int32) q) hf dX4_heightAt_5 hl.1 rfl rfl (zroom (Nat.le_of_ble_eq_true rfl)) (fun x101 h102 H locs cells slots C9 S9 hf hq hn => ?_)
  obtain ⟨rfl, rfl, rfl, rfl⟩ := zret_i hf
  exact zr_iret hc hn hr hq (fun _ _ _ _ q => q) dX4_heightAt_8
theorem hd_X4_isKey : yX4_isKey.cls ≠ "java/lang/invoke/MethodHandle" ∧ yX4_isKey.cls ≠ "java/lang/invoke/VarHandle" ∧ (parseMethodDescriptor yX4_isKey.desc).map (fun d => d.parameters.length) = some 1 := by decide +kernel
def f_X4_isKey (h : PH) (v0 : Int32) : ZR Int32 :=
  znm v0.toInt64 fun x101 =>
  zcl (f_X4_in h x101 (-9999 : Int64) (9999 : Int64)) fun x102 h103 =>
  zgd (zb01 x102 = true) <| zret x102 h103
set_option maxHeartbeats 4000000 in
set_option maxRecDepth 100000 in
theorem m_X4_isKey (l : Launch) (D : va_G) (dA : Nat → ClassId) (b0 : Nat) (gs : Nat → Option Nat) (h : PH) (v0 : Int32) {r : Int32} {hh : PH} {mc ms : Nat} (hf : f_X4_isKey h v0 = some (r, hh, mc, ms)) : zMt l D dA b0 gs yX4_isKey cX4_isKey 1 (some .boolean) 2 85 [.int v0] h (evI r) hh mc ms := by
  unfold f_X4_isKey at hf
  refine zMt.of (by decide) (Nat.le_of_ble_eq_true rfl) ?_
  intro p e s m args below meth c hc hr hin hn ls hl
  have hl : lv_has ls 1 [(0, .int v0)] := hl
  have hq : 0 + mc = mc ∧ 0 + ms = ms := ⟨Nat.zero_add _, Nat.zero_add _⟩
  have hx := hc.x
  have hb := hc.b
  refine lv_iload_n hx hb dX4_isKey_0 rfl (lv_at hl 0 rfl) ?_
  refine lv_i2l (v := v0.toInt64) hx hb dX4_isKey_1 rfl ?_
  refine zr_nmL hf (fun x101 hf => ?_)
  refine lv_ldc2 (v := (-9999 : Int64)) hx hb hc.ow (hc.ts _ q2387) dX4_isKey_2 ?_
  refine lv_ldc2 (v := (9999 : Int64)) hx hb hc.ow (hc.ts _ q2388) dX4_isKey_5 ?_
  refine zr_cSI (As := [.long x101, .long (-9999 : Int64), .long (9999 : Int64)]) (rest := []) hc hn hq hd_X4_in (lw_S q2211 q2212 q91 q2213) (Nat.le_of_ble_eq_true rfl) (Nat.le_of_ble_eq_true rfl) (fun _ _ _ _ q => m_X4_in l D dA b0 gs h x101 (-9999 : Int64) (9999 : Int64) q) hf dX4_isKey_8 hl.1 rfl rfl (zroom (Nat.le_of_ble_eq_true rfl)) (fun x102 h103 H locs cells slots C9 S9 hf hq hn => ?_)
  obtain ⟨hz1, hf⟩ := zgd_i hf
  obtain ⟨rfl, rfl, rfl, rfl⟩ := zret_i hf
  exact zr_zret hc hn hr (zb01_n hz1) hq (fun _ _ _ _ q => q) dX4_isKey_11
theorem hd_X4_below : yX4_below.cls ≠ "java/lang/invoke/MethodHandle" ∧ yX4_below.cls ≠ "java/lang/invoke/VarHandle" ∧ (parseMethodDescriptor yX4_below.desc).map (fun d => d.parameters.length) = some 2 := by decide +kernel
def f_X4_below_b8 : Nat → PH → Nat → Int32 → Int32 → Int32 → ZR Int32
  | 0 => fun _ _ _ _ _ => none
  | n + 1 => fun h a0 v2 v3 v4 =>
    zgP h a0 3 1 fun x101 =>
    znm (v3 + (1 : Int32)) fun x102 =>
    znn x101 fun a103 =>
    zaI h a103 0 x102 fun x104 =>
    if x104 ≤ v4 then
      (zret v4 h)
    else
      (zgP h a0 3 1 fun x105 =>
      znm (v3 + (2 : Int32)) fun x106 =>
      znm (x106 + v4) fun x107 =>
      znn x105 fun a108 =>
      zaI h a108 0 x107 fun x109 =>
      if v2 ≤ x109 then
        (zret v4 h)
      else
        (znm (v4 + (1 : Int32)) fun x110 =>
        f_X4_below_b8 n h a0 v2 v3 x110))
def f_X4_below (h : PH) (a0 : Nat) (v1 : Int32) (v2 : Int32) : ZR Int32 :=
  zcl (f_X4_base h v1) fun x101 h102 =>
  f_X4_below_b8 zFU h102 a0 v2 x101 (0 : Int32)
set_option maxHeartbeats 4000000 in
set_option maxRecDepth 100000 in
theorem m_X4_below_b8 {p : Program} {l : Launch} {e : Env} {s : State} {m : MethodId} {args : Array Value} {below : List Frame} {meth : Method} {c : Code} {D : va_G} {dA : Nat → ClassId} {b0 : Nat} {gs : Nat → Option Nat} (hc : zC D dA b0 gs yX4_below.cls cX4_below 5 p c s m args meth) (hr : meth.sig.returnType = (some .int)) (hin : meth.name = yX4_below.name) {r : Int32} {hh : PH} {mc ms : Nat} : ∀ (n : Nat) (h : PH) (a0 : Nat) (v2 : Int32) (v3 : Int32) (v4 : Int32) (C9 S9 : Nat) (H : Heap) (locs : List Loc) (cells slots : Nat), f_X4_below_b8 n h a0 v2 v3 v4 = some (r, hh, C9, S9) → cells + C9 = mc ∧ slots + S9 = ms → zM D dA b0 gs s h H locs → ∀ ls : Array Slot, lv_has ls 5 [(0, .ref a0), (2, .int v2), (3, .int v3), (4, .int v4)] → W p l e ({ frames := 2, cells := mc, slots := ms, locals := 80 } : Room) s m args below meth c H locs cells slots (MQ below (zQ D dA b0 gs (evI r) hh) args s mc ms (zA b0)) (F0 m 8 ls []) := by
  have hx := hc.x
  have hb := hc.b
  intro n
  induction n with
  | zero =>
    intro h a0 v2 v3 v4 C9 S9 H locs cells slots hf hq hn ls hl
    cases hf
  | succ n ih =>
    intro h a0 v2 v3 v4 C9 S9 H locs cells slots hf hq hn ls hl
    unfold f_X4_below_b8 at hf
    refine lv_iload hx hb dX4_below_8 (lv_at hl 3 rfl) ?_
    refine lv_aload_n (x := a0) hx hb dX4_below_10 rfl (lv_at hl 0 rfl) ?_
    refine zr_gP hc hn (ci := 3) rfl rfl in_X4 1 (by decide) q2100 (fun _ h => h) (fun _ _ _ => rfl) hf dX4_below_11 (fun x101 hf => ?_)
    refine lv_iload_n hx hb dX4_below_14 rfl (lv_at hl 2 rfl) ?_
    refine lv_iconst (v := (1 : Int32)) hx hb dX4_below_15 (by decide) ?_
    refine lv_iadd hx hb dX4_below_16 ?_
    refine zr_nmI hf (fun x102 hf => ?_)
    obtain ⟨a103, e9, hf9⟩ := znn_i hf
    subst e9
    have hf := hf9
    clear hf9
    refine zr_aI0 hc hn hf dX4_below_17 (fun x104 hf => ?_)
    refine lv_icmp_ge (tgt := 42) hx hb dX4_below_18 (by decide) (fun c9 => ?_) (fun c9 => ?_)
    · have hf := zif_t c9 hf
      refine lv_iload hx hb dX4_below_42 (lv_at hl 3 rfl) ?_
      obtain ⟨rfl, rfl, rfl, rfl⟩ := zret_i hf
      exact zr_iret hc hn hr hq (fun _ _ _ _ q => q) dX4_below_44
    · have hf := zif_f c9 hf
      refine lv_aload_n (x := a0) hx hb dX4_below_21 rfl (lv_at hl 0 rfl) ?_
      refine zr_gP hc hn (ci := 3) rfl rfl in_X4 1 (by decide) q2100 (fun _ h => h) (fun _ _ _ => rfl) hf dX4_below_22 (fun x105 hf => ?_)
      refine lv_iload_n hx hb dX4_below_25 rfl (lv_at hl 2 rfl) ?_
      refine lv_iconst (v := (2 : Int32)) hx hb dX4_below_26 (by decide) ?_
      refine lv_iadd hx hb dX4_below_27 ?_
      refine zr_nmI hf (fun x106 hf => ?_)
      refine lv_iload hx hb dX4_below_28 (lv_at hl 3 rfl) ?_
      refine lv_iadd hx hb dX4_below_30 ?_
      refine zr_nmI hf (fun x107 hf => ?_)
      obtain ⟨a108, e9, hf9⟩ := znn_i hf
      subst e9
      have hf := hf9
      clear hf9
      refine zr_aI0 hc hn hf dX4_below_31 (fun x109 hf => ?_)
      refine lv_iload_n hx hb dX4_below_32 rfl (lv_at hl 1 rfl) ?_
      refine lv_icmp_ge (tgt := 42) hx hb dX4_below_33 (by decide) (fun c9 => ?_) (fun c9 => ?_)
      · have hf := zif_t c9 hf
        refine lv_iload hx hb dX4_below_42 (lv_at hl 3 rfl) ?_
        obtain ⟨rfl, rfl, rfl, rfl⟩ := zret_i hf
        exact zr_iret hc hn hr hq (fun _ _ _ _ q => q) dX4_below_44
      · have hf := zif_f c9 hf
        obtain ⟨x110, ex110, hf⟩ := znm_i hf
        refine lv_iinc (v := x110) (lv' := [(4, .int x110), (0, .ref a0), (2, .int v2), (3, .int v3)]) hx hb dX4_below_36 hl (k := 3) rfl (by rw [ex110]; rfl) (by decide) rfl (fun ls hl => ?_)
        refine lv_goto (tgt := 8) hx hb dX4_below_39 (by decide) ?_
        exact ih h a0 v2 v3 x110 _ _ _ _ _ _ hf hq hn _ (lv_sub hl [1, 2, 3, 0] rfl)
set_option maxHeartbeats 4000000 in
set_option maxRecDepth 100000 in
theorem m_X4_below (l : Launch) (D : va_G) (dA : Nat → ClassId) (b0 : Nat) (gs : Nat → Option Nat) (h : PH) (a0 : Nat) (v1 : Int32) (v2 : Int32) {r : Int32} {hh : PH} {mc ms : Nat} (hf : f_X4_below h a0 v1 v2 = some (r, hh, mc, ms)) : zMt l D dA b0 gs yX4_below cX4_below 5 (some .int) 2 80 [.ref a0, .int v1, .int v2] h (evI r) hh mc ms := by
  unfold f_X4_below at hf
  refine zMt.of (by decide) (Nat.le_of_ble_eq_true rfl) ?_
  intro p e s m args below meth c hc hr hin hn ls hl
  have hl : lv_has ls 5 [(0, .ref a0), (1, .int v1), (2, .int v2)] := hl
  have hq : 0 + mc = mc ∧ 0 + ms = ms := ⟨Nat.zero_add _, Nat.zero_add _⟩
  have hx := hc.x
  have hb := hc.b
  refine lv_iload_n hx hb dX4_below_0 rfl (lv_at hl 1 rfl) ?_
  refine zr_cSI (As := [.int v1]) (rest := []) hc hn hq hd_X4_base (lw_S q2284 q2285 q91 q2286) (Nat.le_of_ble_eq_true rfl) (Nat.le_of_ble_eq_true rfl) (fun _ _ _ _ q => m_X4_base l D dA b0 gs h v1 q) hf dX4_below_1 hl.1 rfl rfl (zroom (Nat.le_of_ble_eq_true rfl)) (fun x101 h102 H locs cells slots C9 S9 hf hq hn => ?_)
  refine lv_istore_n (i := 3) (lv' := [(3, .int x101), (0, .ref a0), (1, .int v1), (2, .int v2)]) hx hb dX4_below_4 rfl hl (by decide) rfl (fun ls hl => ?_)
  refine lv_iconst (v := (0 : Int32)) hx hb dX4_below_5 (by decide) ?_
  refine lv_istore (lv' := [(4, .int (0 : Int32)), (3, .int x101), (0, .ref a0), (1, .int v1), (2, .int v2)]) hx hb dX4_below_6 hl (by decide) rfl (fun ls hl => ?_)
  exact m_X4_below_b8 hc hr hin zFU h102 a0 v2 x101 (0 : Int32) _ _ _ _ _ _ hf hq hn _ (lv_sub hl [2, 4, 1, 0] rfl)
theorem hd_X4_placeOf : yX4_placeOf.cls ≠ "java/lang/invoke/MethodHandle" ∧ yX4_placeOf.cls ≠ "java/lang/invoke/VarHandle" ∧ (parseMethodDescriptor yX4_placeOf.desc).map (fun d => d.parameters.length) = some 2 := by decide +kernel
def f_X4_placeOf (h : PH) (a0 : Nat) (v1 : Int32) (v2 : Int32) : ZR Int32 :=
  zrc h a0 3 <| zcl (f_X4_below h a0 v1 v2) fun x101 h102 =>
  zgP h102 a0 3 1 fun x103 =>
  zcl (f_X4_base h102 v1) fun x104 h105 =>
  znm (x104 + (1 : Int32)) fun x106 =>
  znn x103 fun a107 =>
  zaI h105 a107 0 x106 fun x108 =>
  if x108 ≤ x101 then
    (zret (-1 : Int32) h105)
  else
    (zgP h105 a0 3 1 fun x109 =>
    zcl (f_X4_base h105 v1) fun x110 h111 =>
    znm (x110 + (2 : Int32)) fun x112 =>
    znm (x112 + x101) fun x113 =>
    znn x109 fun a114 =>
    zaI h111 a114 0 x113 fun x115 =>
    if x115 = v2 then
      (zret x101 h111)
    else
      (zret (-1 : Int32) h111))
set_option maxHeartbeats 4000000 in
set_option maxRecDepth 100000 in
theorem m_X4_placeOf (l : Launch) (D : va_G) (dA : Nat → ClassId) (b0 : Nat) (gs : Nat → Option Nat) (h : PH) (a0 : Nat) (v1 : Int32) (v2 : Int32) {r : Int32} {hh : PH} {mc ms : Nat} (hf : f_X4_placeOf h a0 v1 v2 = some (r, hh, mc, ms)) : zMt l D dA b0 gs yX4_placeOf cX4_placeOf 4 (some .int) 3 104 [.ref a0, .int v1, .int v2] h (evI r) hh mc ms := by
  unfold f_X4_placeOf at hf
  refine zMt.of (by decide) (Nat.le_of_ble_eq_true rfl) ?_
  intro p e s m args below meth c hc hr hin hn ls hl
  have hl : lv_has ls 4 [(0, .ref a0), (1, .int v1), (2, .int v2)] := hl
  have hq : 0 + mc = mc ∧ 0 + ms = ms := ⟨Nat.zero_add _, Nat.zero_add _⟩
  have hx := hc.x
  have hb := hc.b
  refine lv_aload_n (x := a0) hx hb dX4_placeOf_0 rfl (lv_at hl 0 rfl) ?_
  refine lv_iload_n hx hb dX4_placeOf_1 rfl (lv_at hl 1 rfl) ?_
  refine lv_iload_n hx hb dX4_placeOf_2 rfl (lv_at hl 2 rfl) ?_
  refine zr_cVI (As := [.int v1, .int v2]) (rest := []) hc hn hq (ci := 3) rfl ⟨rfl, hd_X4_below⟩ (lw_V q2393 q2395 qs61 q91 q2396) (Nat.le_of_ble_eq_true rfl) (Nat.le_of_ble_eq_true rfl) (fun _ _ _ _ q => m_X4_below l D dA b0 gs h a0 v1 v2 q) hf dX4_placeOf_3 hl.1 rfl rfl (zroom (Nat.le_of_ble_eq_true rfl)) (fun x101 h102 H locs cells slots C9 S9 hf hq hn => ?_)
  refine lv_istore_n (i := 3) (lv' := [(3, .int x101), (0, .ref a0), (1, .int v1), (2, .int v2)]) hx hb dX4_placeOf_6 rfl hl (by decide) rfl (fun ls hl => ?_)
  refine lv_iload_n hx hb dX4_placeOf_7 rfl (lv_at hl 0 rfl) ?_
  refine lv_aload_n (x := a0) hx hb dX4_placeOf_8 rfl (lv_at hl 1 rfl) ?_
  refine zr_gP hc hn (ci := 3) rfl rfl in_X4 1 (by decide) q2100 (fun _ h => h) (fun _ _ _ => rfl) hf dX4_placeOf_9 (fun x103 hf => ?_)
  refine lv_iload_n hx hb dX4_placeOf_12 rfl (lv_at hl 2 rfl) ?_
  refine zr_cSI (As := [.int v1]) (rest := [va_rf x103, .int x101]) hc hn hq hd_X4_base (lw_S q2284 q2285 q91 q2286) (Nat.le_of_ble_eq_true rfl) (Nat.le_of_ble_eq_true rfl) (fun _ _ _ _ q => m_X4_base l D dA b0 gs h102 v1 q) hf dX4_placeOf_13 hl.1 rfl rfl (zroom (Nat.le_of_ble_eq_true rfl)) (fun x104 h105 H locs cells slots C9 S9 hf hq hn => ?_)
  refine lv_iconst (v := (1 : Int32)) hx hb dX4_placeOf_16 (by decide) ?_
  refine lv_iadd hx hb dX4_placeOf_17 ?_
  refine zr_nmI hf (fun x106 hf => ?_)
  obtain ⟨a107, e9, hf9⟩ := znn_i hf
  subst e9
  have hf := hf9
  clear hf9
  refine zr_aI0 hc hn hf dX4_placeOf_18 (fun x108 hf => ?_)
  refine lv_icmp_ge (tgt := 43) hx hb dX4_placeOf_19 (by decide) (fun c9 => ?_) (fun c9 => ?_)
  · have hf := zif_t c9 hf
    refine lv_iconst (v := (-1 : Int32)) hx hb dX4_placeOf_43 (by decide) ?_
    obtain ⟨rfl, rfl, rfl, rfl⟩ := zret_i hf
    exact zr_iret hc hn hr hq (fun _ _ _ _ q => q) dX4_placeOf_44
  · have hf := zif_f c9 hf
    refine lv_aload_n (x := a0) hx hb dX4_placeOf_22 rfl (lv_at hl 1 rfl) ?_
    refine zr_gP hc hn (ci := 3) rfl rfl in_X4 1 (by decide) q2100 (fun _ h => h) (fun _ _ _ => rfl) hf dX4_placeOf_23 (fun x109 hf => ?_)
    refine lv_iload_n hx hb dX4_placeOf_26 rfl (lv_at hl 2 rfl) ?_
    refine zr_cSI (As := [.int v1]) (rest := [va_rf x109]) hc hn hq hd_X4_base (lw_S q2284 q2285 q91 q2286) (Nat.le_of_ble_eq_true rfl) (Nat.le_of_ble_eq_true rfl) (fun _ _ _ _ q => m_X4_base l D dA b0 gs h105 v1 q) hf dX4_placeOf_27 hl.1 rfl rfl (zroom (Nat.le_of_ble_eq_true rfl)) (fun x110 h111 H locs cells slots C9 S9 hf hq hn => ?_)
    refine lv_iconst (v := (2 : Int32)) hx hb dX4_placeOf_30 (by decide) ?_
    refine lv_iadd hx hb dX4_placeOf_31 ?_
    refine zr_nmI hf (fun x112 hf => ?_)
    refine lv_iload_n hx hb dX4_placeOf_32 rfl (lv_at hl 0 rfl) ?_
    refine lv_iadd hx hb dX4_placeOf_33 ?_
    refine zr_nmI hf (fun x113 hf => ?_)
    obtain ⟨a114, e9, hf9⟩ := znn_i hf
    subst e9
    have hf := hf9
    clear hf9
    refine zr_aI0 hc hn hf dX4_placeOf_34 (fun x115 hf => ?_)
    refine lv_iload_n hx hb dX4_placeOf_35 rfl (lv_at hl 3 rfl) ?_
    refine lv_icmp_ne (tgt := 43) hx hb dX4_placeOf_36 (by decide) (fun c9 => ?_) (fun c9 => ?_)
    · have hf := zif_f c9 hf
      refine lv_iconst (v := (-1 : Int32)) hx hb dX4_placeOf_43 (by decide) ?_
      obtain ⟨rfl, rfl, rfl, rfl⟩ := zret_i hf
      exact zr_iret hc hn hr hq (fun _ _ _ _ q => q) dX4_placeOf_44
    · have hf := zif_t c9 hf
      refine lv_iload_n hx hb dX4_placeOf_39 rfl (lv_at hl 0 rfl) ?_
      refine lv_goto (tgt := 44) hx hb dX4_placeOf_40 (by decide) ?_
      obtain ⟨rfl, rfl, rfl, rfl⟩ := zret_i hf
      exact zr_iret hc hn hr hq (fun _ _ _ _ q => q) dX4_placeOf_44
theorem hd_X4_value : yX4_value.cls ≠ "java/lang/invoke/MethodHandle" ∧ yX4_value.cls ≠ "java/lang/invoke/VarHandle" ∧ (parseMethodDescriptor yX4_value.desc).map (fun d => d.parameters.length) = some 2 := by decide +kernel
def f_X4_value_b38 (h : PH) (a0 : Nat) (v1 : Int32) (v2 : Int32) (s0 : Nat) (s1 : Int32) : ZR Int32 :=
  zpI h s0 3 0 s1 fun h101 =>
  zgI h101 a0 3 0 fun x102 =>
  if x102 ≤ 0 then
    (zgP h101 a0 3 1 fun x103 =>
    zcl (f_X4_base h101 v1) fun x104 h105 =>
    znm (x104 + (62 : Int32)) fun x106 =>
    zrc h105 a0 3 <| zcl (f_X4_placeOf h105 a0 v1 v2) fun x107 h108 =>
    znm (x106 + x107) fun x109 =>
    znn x103 fun a110 =>
    zaI h108 a110 0 x109 fun x111 =>
    zret x111 h108)
  else
    (zret (0 : Int32) h101)
def f_X4_value (h : PH) (a0 : Nat) (v1 : Int32) (v2 : Int32) : ZR Int32 :=
  zrc h a0 3 <| zcl (f_X4_isList h a0 v1) fun x101 h102 =>
  if x101 = 0 then
    (f_X4_value_b38 h102 a0 v1 v2 a0 (1 : Int32))
  else
    (zcl (f_X4_isKey h102 v2) fun x103 h104 =>
    if x103 = 0 then
      (f_X4_value_b38 h104 a0 v1 v2 a0 (2 : Int32))
    else
      (zrc h104 a0 3 <| zcl (f_X4_placeOf h104 a0 v1 v2) fun x105 h106 =>
      if 0 ≤ x105 then
        (f_X4_value_b38 h106 a0 v1 v2 a0 (0 : Int32))
      else
        (f_X4_value_b38 h106 a0 v1 v2 a0 (3 : Int32))))
set_option maxHeartbeats 4000000 in
set_option maxRecDepth 100000 in
theorem m_X4_value_b38 {p : Program} {l : Launch} {e : Env} {s : State} {m : MethodId} {args : Array Value} {below : List Frame} {meth : Method} {c : Code} {D : va_G} {dA : Nat → ClassId} {b0 : Nat} {gs : Nat → Option Nat} (hc : zC D dA b0 gs yX4_value.cls cX4_value 3 p c s m args meth) (hr : meth.sig.returnType = (some .int)) (hin : meth.name = yX4_value.name) {r : Int32} {hh : PH} {mc ms : Nat} : ∀ (h : PH) (a0 : Nat) (v1 : Int32) (v2 : Int32) (s0 : Nat) (s1 : Int32) (C9 S9 : Nat) (H : Heap) (locs : List Loc) (cells slots : Nat), f_X4_value_b38 h a0 v1 v2 s0 s1 = some (r, hh, C9, S9) → cells + C9 = mc ∧ slots + S9 = ms → zM D dA b0 gs s h H locs → ∀ ls : Array Slot, lv_has ls 3 [(0, .ref a0), (1, .int v1), (2, .int v2)] → W p l e ({ frames := 4, cells := mc, slots := ms, locals := 127 } : Room) s m args below meth c H locs cells slots (MQ below (zQ D dA b0 gs (evI r) hh) args s mc ms (zA b0)) (F0 m 38 ls [.int s1, .ref s0]) := by
  have hx := hc.x
  have hb := hc.b
  intro h a0 v1 v2 s0 s1 C9 S9 H locs cells slots hf hq hn ls hl
  unfold f_X4_value_b38 at hf
  refine zr_pI (x := s1) hc hn (ci := 3) rfl rfl in_X4 0 (by decide) tyX4 tyX4_ok nmX4 q2099 (fun _ h => h) (Or.inl rfl) (fun _ _ _ => rfl) rfl rfl hf dX4_value_38 (fun h101 H locs hf hn => ?_)
  refine lv_aload_n (x := a0) hx hb dX4_value_41 rfl (lv_at hl 0 rfl) ?_
  refine zr_gI hc hn (ci := 3) rfl rfl in_X4 0 (by decide) q2099 (fun _ h => h) (fun _ _ _ => rfl) hf dX4_value_42 (fun x102 hf => ?_)
  refine lv_if_le (tgt := 52) hx hb dX4_value_45 (by decide) (fun c9 => ?_) (fun c9 => ?_)
  · have hf := zif_t c9 hf
    refine lv_aload_n (x := a0) hx hb dX4_value_52 rfl (lv_at hl 0 rfl) ?_
    refine zr_gP hc hn (ci := 3) rfl rfl in_X4 1 (by decide) q2100 (fun _ h => h) (fun _ _ _ => rfl) hf dX4_value_53 (fun x103 hf => ?_)
    refine lv_iload_n hx hb dX4_value_56 rfl (lv_at hl 1 rfl) ?_
    refine zr_cSI (As := [.int v1]) (rest := [va_rf x103]) hc hn hq hd_X4_base (lw_S q2284 q2285 q91 q2286) (Nat.le_of_ble_eq_true rfl) (Nat.le_of_ble_eq_true rfl) (fun _ _ _ _ q => m_X4_base l D dA b0 gs h101 v1 q) hf dX4_value_57 hl.1 rfl rfl (zroom (Nat.le_of_ble_eq_true rfl)) (fun x104 h105 H locs cells slots C9 S9 hf hq hn => ?_)
    refine lv_bipush (v := (62 : Int32)) hx hb dX4_value_60 (by decide) ?_
    refine lv_iadd hx hb dX4_value_62 ?_
    refine zr_nmI hf (fun x106 hf => ?_)
    refine lv_aload_n (x := a0) hx hb dX4_value_63 rfl (lv_at hl 0 rfl) ?_
    refine lv_iload_n hx hb dX4_value_64 rfl (lv_at hl 1 rfl) ?_
    refine lv_iload_n hx hb dX4_value_65 rfl (lv_at hl 2 rfl) ?_
    refine zr_cVI (As := [.int v1, .int v2]) (rest := [.int x106, va_rf x103]) hc hn hq (ci := 3) rfl ⟨rfl, hd_X4_placeOf⟩ (lw_V q2389 q2391 qs60 q91 q2392) (Nat.le_of_ble_eq_true rfl) (Nat.le_of_ble_eq_true rfl) (fun _ _ _ _ q => m_X4_placeOf l D dA b0 gs h105 a0 v1 v2 q) hf dX4_value_66 hl.1 rfl rfl (zroom (Nat.le_of_ble_eq_true rfl)) (fun x107 h108 H locs cells slots C9 S9 hf hq hn => ?_)
    refine lv_iadd hx hb dX4_value_69 ?_
    refine zr_nmI hf (fun x109 hf => ?_)
    obtain ⟨a110, e9, hf9⟩ := znn_i hf
    subst e9
    have hf := hf9
    clear hf9
    refine zr_aI0 hc hn hf dX4_value_70 (fun x111 hf => ?_)
    obtain ⟨rfl, rfl, rfl, rfl⟩ := zret_i hf
    exact zr_iret hc hn hr hq (fun _ _ _ _ q => q) dX4_value_71
  · have hf := zif_f c9 hf
    refine lv_iconst (v := (0 : Int32)) hx hb dX4_value_48 (by decide) ?_
    refine lv_goto (tgt := 71) hx hb dX4_value_49 (by decide) ?_
    obtain ⟨rfl, rfl, rfl, rfl⟩ := zret_i hf
    exact zr_iret hc hn hr hq (fun _ _ _ _ q => q) dX4_value_71
set_option maxHeartbeats 4000000 in
set_option maxRecDepth 100000 in
theorem m_X4_value (l : Launch) (D : va_G) (dA : Nat → ClassId) (b0 : Nat) (gs : Nat → Option Nat) (h : PH) (a0 : Nat) (v1 : Int32) (v2 : Int32) {r : Int32} {hh : PH} {mc ms : Nat} (hf : f_X4_value h a0 v1 v2 = some (r, hh, mc, ms)) : zMt l D dA b0 gs yX4_value cX4_value 3 (some .int) 4 127 [.ref a0, .int v1, .int v2] h (evI r) hh mc ms := by
  unfold f_X4_value at hf
  refine zMt.of (by decide) (Nat.le_of_ble_eq_true rfl) ?_
  intro p e s m args below meth c hc hr hin hn ls hl
  have hl : lv_has ls 3 [(0, .ref a0), (1, .int v1), (2, .int v2)] := hl
  have hq : 0 + mc = mc ∧ 0 + ms = ms := ⟨Nat.zero_add _, Nat.zero_add _⟩
  have hx := hc.x
  have hb := hc.b
  refine lv_aload_n (x := a0) hx hb dX4_value_0 rfl (lv_at hl 0 rfl) ?_
  refine lv_aload_n (x := a0) hx hb dX4_value_1 rfl (lv_at hl 0 rfl) ?_
  refine lv_iload_n hx hb dX4_value_2 rfl (lv_at hl 1 rfl) ?_
  refine zr_cVI (As := [.int v1]) (rest := [.ref a0]) hc hn hq (ci := 3) rfl ⟨rfl, hd_X4_isList⟩ (lw_V q2343 q2345 qs57 q91 q2346) (Nat.le_of_ble_eq_true rfl) (Nat.le_of_ble_eq_true rfl) (fun _ _ _ _ q => m_X4_isList l D dA b0 gs h a0 v1 q) hf dX4_value_3 hl.1 rfl rfl (zroom (Nat.le_of_ble_eq_true rfl)) (fun x101 h102 H locs cells slots C9 S9 hf hq hn => ?_)
  refine lv_if_ne (tgt := 13) hx hb dX4_value_6 (by decide) (fun c9 => ?_) (fun c9 => ?_)
  · have hf := zif_f c9 hf
    refine lv_iload_n hx hb dX4_value_13 rfl (lv_at hl 2 rfl) ?_
    refine zr_cSI (As := [.int v2]) (rest := [.ref a0]) hc hn hq hd_X4_isKey (lw_S q2384 q2385 q91 q2386) (Nat.le_of_ble_eq_true rfl) (Nat.le_of_ble_eq_true rfl) (fun _ _ _ _ q => m_X4_isKey l D dA b0 gs h102 v2 q) hf dX4_value_14 hl.1 rfl rfl (zroom (Nat.le_of_ble_eq_true rfl)) (fun x103 h104 H locs cells slots C9 S9 hf hq hn => ?_)
    refine lv_if_ne (tgt := 24) hx hb dX4_value_17 (by decide) (fun c9 => ?_) (fun c9 => ?_)
    · have hf := zif_f c9 hf
      refine lv_aload_n (x := a0) hx hb dX4_value_24 rfl (lv_at hl 0 rfl) ?_
      refine lv_iload_n hx hb dX4_value_25 rfl (lv_at hl 1 rfl) ?_
      refine lv_iload_n hx hb dX4_value_26 rfl (lv_at hl 2 rfl) ?_
      refine zr_cVI (As := [.int v1, .int v2]) (rest := [.ref a0]) hc hn hq (ci := 3) rfl ⟨rfl, hd_X4_placeOf⟩ (lw_V q2389 q2391 qs60 q91 q2392) (Nat.le_of_ble_eq_true rfl) (Nat.le_of_ble_eq_true rfl) (fun _ _ _ _ q => m_X4_placeOf l D dA b0 gs h104 a0 v1 v2 q) hf dX4_value_27 hl.1 rfl rfl (zroom (Nat.le_of_ble_eq_true rfl)) (fun x105 h106 H locs cells slots C9 S9 hf hq hn => ?_)
      refine lv_if_ge (tgt := 37) hx hb dX4_value_30 (by decide) (fun c9 => ?_) (fun c9 => ?_)
      · have hf := zif_t c9 hf
        refine lv_iconst (v := (0 : Int32)) hx hb dX4_value_37 (by decide) ?_
        exact m_X4_value_b38 hc hr hin h106 a0 v1 v2 a0 (0 : Int32) _ _ _ _ _ _ hf hq hn _ (lv_sub hl [0, 1, 2] rfl)
      · have hf := zif_f c9 hf
        refine lv_iconst (v := (3 : Int32)) hx hb dX4_value_33 (by decide) ?_
        refine lv_goto (tgt := 38) hx hb dX4_value_34 (by decide) ?_
        exact m_X4_value_b38 hc hr hin h106 a0 v1 v2 a0 (3 : Int32) _ _ _ _ _ _ hf hq hn _ (lv_sub hl [0, 1, 2] rfl)
    · have hf := zif_t c9 hf
      refine lv_iconst (v := (2 : Int32)) hx hb dX4_value_20 (by decide) ?_
      refine lv_goto (tgt := 38) hx hb dX4_value_21 (by decide) ?_
      exact m_X4_value_b38 hc hr hin h104 a0 v1 v2 a0 (2 : Int32) _ _ _ _ _ _ hf hq hn _ (lv_sub hl [0, 1, 2] rfl)
  · have hf := zif_t c9 hf
    refine lv_iconst (v := (1 : Int32)) hx hb dX4_value_9 (by decide) ?_
    refine lv_goto (tgt := 38) hx hb dX4_value_10 (by decide) ?_
    exact m_X4_value_b38 hc hr hin h102 a0 v1 v2 a0 (1 : Int32) _ _ _ _ _ _ hf hq hn _ (lv_sub hl [0, 1, 2] rfl)
theorem hd_X4_canSeek : yX4_canSeek.cls ≠ "java/lang/invoke/MethodHandle" ∧ yX4_canSeek.cls ≠ "java/lang/invoke/VarHandle" ∧ (parseMethodDescriptor yX4_canSeek.desc).map (fun d => d.parameters.length) = some 2 := by decide +kernel
def f_X4_canSeek (h : PH) (a0 : Nat) (v1 : Int32) (v2 : Int32) : ZR Int32 :=
  zrc h a0 3 <| zcl (f_X4_isList h a0 v1) fun x101 h102 =>
  if x101 = 0 then
    (zpI h102 a0 3 0 (1 : Int32) fun h109 =>
    zgI h109 a0 3 0 fun x110 =>
    if x110 = 0 then
      (zret (1 : Int32) h109)
    else
      (zret (0 : Int32) h109))
  else
    (zcl (f_X4_isKey h102 v2) fun x103 h104 =>
    if x103 = 0 then
      (zpI h104 a0 3 0 (2 : Int32) fun h105 =>
      zgI h105 a0 3 0 fun x106 =>
      if x106 = 0 then
        (zret (1 : Int32) h105)
      else
        (zret (0 : Int32) h105))
    else
      (zpI h104 a0 3 0 (0 : Int32) fun h107 =>
      zgI h107 a0 3 0 fun x108 =>
      if x108 = 0 then
        (zret (1 : Int32) h107)
      else
        (zret (0 : Int32) h107)))
set_option maxHeartbeats 4000000 in
set_option maxRecDepth 100000 in
theorem m_X4_canSeek (l : Launch) (D : va_G) (dA : Nat → ClassId) (b0 : Nat) (gs : Nat → Option Nat) (h : PH) (a0 : Nat) (v1 : Int32) (v2 : Int32) {r : Int32} {hh : PH} {mc ms : Nat} (hf : f_X4_canSeek h a0 v1 v2 = some (r, hh, mc, ms)) : zMt l D dA b0 gs yX4_canSeek cX4_canSeek 3 (some .boolean) 3 106 [.ref a0, .int v1, .int v2] h (evI r) hh mc ms := by
  unfold f_X4_canSeek at hf
  refine zMt.of (by decide) (Nat.le_of_ble_eq_true rfl) ?_
  intro p e s m args below meth c hc hr hin hn ls hl
  have hl : lv_has ls 3 [(0, .ref a0), (1, .int v1), (2, .int v2)] := hl
  have hq : 0 + mc = mc ∧ 0 + ms = ms := ⟨Nat.zero_add _, Nat.zero_add _⟩
  have hx := hc.x
  have hb := hc.b
  refine lv_aload_n (x := a0) hx hb dX4_canSeek_0 rfl (lv_at hl 0 rfl) ?_
  refine lv_aload_n (x := a0) hx hb dX4_canSeek_1 rfl (lv_at hl 0 rfl) ?_
  refine lv_iload_n hx hb dX4_canSeek_2 rfl (lv_at hl 1 rfl) ?_
  refine zr_cVI (As := [.int v1]) (rest := [.ref a0]) hc hn hq (ci := 3) rfl ⟨rfl, hd_X4_isList⟩ (lw_V q2343 q2345 qs57 q91 q2346) (Nat.le_of_ble_eq_true rfl) (Nat.le_of_ble_eq_true rfl) (fun _ _ _ _ q => m_X4_isList l D dA b0 gs h a0 v1 q) hf dX4_canSeek_3 hl.1 rfl rfl (zroom (Nat.le_of_ble_eq_true rfl)) (fun x101 h102 H locs cells slots C9 S9 hf hq hn => ?_)
  refine lv_if_ne (tgt := 13) hx hb dX4_canSeek_6 (by decide) (fun c9 => ?_) (fun c9 => ?_)
  · have hf := zif_f c9 hf
    refine lv_iload_n hx hb dX4_canSeek_13 rfl (lv_at hl 2 rfl) ?_
    refine zr_cSI (As := [.int v2]) (rest := [.ref a0]) hc hn hq hd_X4_isKey (lw_S q2384 q2385 q91 q2386) (Nat.le_of_ble_eq_true rfl) (Nat.le_of_ble_eq_true rfl) (fun _ _ _ _ q => m_X4_isKey l D dA b0 gs h102 v2 q) hf dX4_canSeek_14 hl.1 rfl rfl (zroom (Nat.le_of_ble_eq_true rfl)) (fun x103 h104 H locs cells slots C9 S9 hf hq hn => ?_)
    refine lv_if_eq (tgt := 24) hx hb dX4_canSeek_17 (by decide) (fun c9 => ?_) (fun c9 => ?_)
    · have hf := zif_t c9 hf
      refine lv_iconst (v := (2 : Int32)) hx hb dX4_canSeek_24 (by decide) ?_
      refine zr_pI (x := (2 : Int32)) hc hn (ci := 3) rfl rfl in_X4 0 (by decide) tyX4 tyX4_ok nmX4 q2099 (fun _ h => h) (Or.inl rfl) (fun _ _ _ => rfl) rfl rfl hf dX4_canSeek_25 (fun h105 H locs hf hn => ?_)
      refine lv_aload_n (x := a0) hx hb dX4_canSeek_28 rfl (lv_at hl 0 rfl) ?_
      refine zr_gI hc hn (ci := 3) rfl rfl in_X4 0 (by decide) q2099 (fun _ h => h) (fun _ _ _ => rfl) hf dX4_canSeek_29 (fun x106 hf => ?_)
      refine lv_if_ne (tgt := 39) hx hb dX4_canSeek_32 (by decide) (fun c9 => ?_) (fun c9 => ?_)
      · have hf := zif_f c9 hf
        refine lv_iconst (v := (0 : Int32)) hx hb dX4_canSeek_39 (by decide) ?_
        obtain ⟨rfl, rfl, rfl, rfl⟩ := zret_i hf
        exact zr_zret hc hn hr (by decide) hq (fun _ _ _ _ q => q) dX4_canSeek_40
      · have hf := zif_t c9 hf
        refine lv_iconst (v := (1 : Int32)) hx hb dX4_canSeek_35 (by decide) ?_
        refine lv_goto (tgt := 40) hx hb dX4_canSeek_36 (by decide) ?_
        obtain ⟨rfl, rfl, rfl, rfl⟩ := zret_i hf
        exact zr_zret hc hn hr (by decide) hq (fun _ _ _ _ q => q) dX4_canSeek_40
    · have hf := zif_f c9 hf
      refine lv_iconst (v := (0 : Int32)) hx hb dX4_canSeek_20 (by decide) ?_
      refine lv_goto (tgt := 25) hx hb dX4_canSeek_21 (by decide) ?_
      refine zr_pI (x := (0 : Int32)) hc hn (ci := 3) rfl rfl in_X4 0 (by decide) tyX4 tyX4_ok nmX4 q2099 (fun _ h => h) (Or.inl rfl) (fun _ _ _ => rfl) rfl rfl hf dX4_canSeek_25 (fun h107 H locs hf hn => ?_)
      refine lv_aload_n (x := a0) hx hb dX4_canSeek_28 rfl (lv_at hl 0 rfl) ?_
      refine zr_gI hc hn (ci := 3) rfl rfl in_X4 0 (by decide) q2099 (fun _ h => h) (fun _ _ _ => rfl) hf dX4_canSeek_29 (fun x108 hf => ?_)
      refine lv_if_ne (tgt := 39) hx hb dX4_canSeek_32 (by decide) (fun c9 => ?_) (fun c9 => ?_)
      · have hf := zif_f c9 hf
        refine lv_iconst (v := (0 : Int32)) hx hb dX4_canSeek_39 (by decide) ?_
        obtain ⟨rfl, rfl, rfl, rfl⟩ := zret_i hf
        exact zr_zret hc hn hr (by decide) hq (fun _ _ _ _ q => q) dX4_canSeek_40
      · have hf := zif_t c9 hf
        refine lv_iconst (v := (1 : Int32)) hx hb dX4_canSeek_35 (by decide) ?_
        refine lv_goto (tgt := 40) hx hb dX4_canSeek_36 (by decide) ?_
        obtain ⟨rfl, rfl, rfl, rfl⟩ := zret_i hf
        exact zr_zret hc hn hr (by decide) hq (fun _ _ _ _ q => q) dX4_canSeek_40
  · have hf := zif_t c9 hf
    refine lv_iconst (v := (1 : Int32)) hx hb dX4_canSeek_9 (by decide) ?_
    refine lv_goto (tgt := 25) hx hb dX4_canSeek_10 (by decide) ?_
    refine zr_pI (x := (1 : Int32)) hc hn (ci := 3) rfl rfl in_X4 0 (by decide) tyX4 tyX4_ok nmX4 q2099 (fun _ h => h) (Or.inl rfl) (fun _ _ _ => rfl) rfl rfl hf dX4_canSeek_25 (fun h109 H locs hf hn => ?_)
    refine lv_aload_n (x := a0) hx hb dX4_canSeek_28 rfl (lv_at hl 0 rfl) ?_
    refine zr_gI hc hn (ci := 3) rfl rfl in_X4 0 (by decide) q2099 (fun _ h => h) (fun _ _ _ => rfl) hf dX4_canSeek_29 (fun x110 hf => ?_)
    refine lv_if_ne (tgt := 39) hx hb dX4_canSeek_32 (by decide) (fun c9 => ?_) (fun c9 => ?_)
    · have hf := zif_f c9 hf
      refine lv_iconst (v := (0 : Int32)) hx hb dX4_canSeek_39 (by decide) ?_
      obtain ⟨rfl, rfl, rfl, rfl⟩ := zret_i hf
      exact zr_zret hc hn hr (by decide) hq (fun _ _ _ _ q => q) dX4_canSeek_40
    · have hf := zif_t c9 hf
      refine lv_iconst (v := (1 : Int32)) hx hb dX4_canSeek_35 (by decide) ?_
      refine lv_goto (tgt := 40) hx hb dX4_canSeek_36 (by decide) ?_
      obtain ⟨rfl, rfl, rfl, rfl⟩ := zret_i hf
      exact zr_zret hc hn hr (by decide) hq (fun _ _ _ _ q => q) dX4_canSeek_40
theorem hd_X4_rank : yX4_rank.cls ≠ "java/lang/invoke/MethodHandle" ∧ yX4_rank.cls ≠ "java/lang/invoke/VarHandle" ∧ (parseMethodDescriptor yX4_rank.desc).map (fun d => d.parameters.length) = some 2 := by decide +kernel
def f_X4_rank (h : PH) (a0 : Nat) (v1 : Int32) (v2 : Int32) : ZR Int32 :=
  zrc h a0 3 <| zcl (f_X4_canSeek h a0 v1 v2) fun x101 h102 =>
  if x101 = 0 then
    (zret (0 : Int32) h102)
  else
    (zrc h102 a0 3 <| zcl (f_X4_below h102 a0 v1 v2) fun x103 h104 =>
    zret x103 h104)
set_option maxHeartbeats 4000000 in
set_option maxRecDepth 100000 in
theorem m_X4_rank (l : Launch) (D : va_G) (dA : Nat → ClassId) (b0 : Nat) (gs : Nat → Option Nat) (h : PH) (a0 : Nat) (v1 : Int32) (v2 : Int32) {r : Int32} {hh : PH} {mc ms : Nat} (hf : f_X4_rank h a0 v1 v2 = some (r, hh, mc, ms)) : zMt l D dA b0 gs yX4_rank cX4_rank 3 (some .int) 4 128 [.ref a0, .int v1, .int v2] h (evI r) hh mc ms := by
  unfold f_X4_rank at hf
  refine zMt.of (by decide) (Nat.le_of_ble_eq_true rfl) ?_
  intro p e s m args below meth c hc hr hin hn ls hl
  have hl : lv_has ls 3 [(0, .ref a0), (1, .int v1), (2, .int v2)] := hl
  have hq : 0 + mc = mc ∧ 0 + ms = ms := ⟨Nat.zero_add _, Nat.zero_add _⟩
  have hx := hc.x
  have hb := hc.b
  refine lv_aload_n (x := a0) hx hb dX4_rank_0 rfl (lv_at hl 0 rfl) ?_
  refine lv_iload_n hx hb dX4_rank_1 rfl (lv_at hl 1 rfl) ?_
  refine lv_iload_n hx hb dX4_rank_2 rfl (lv_at hl 2 rfl) ?_
  refine zr_cVI (As := [.int v1, .int v2]) (rest := []) hc hn hq (ci := 3) rfl ⟨rfl, hd_X4_canSeek⟩ (lw_V q2401 q2403 qs62 q91 q2404) (Nat.le_of_ble_eq_true rfl) (Nat.le_of_ble_eq_true rfl) (fun _ _ _ _ q => m_X4_canSeek l D dA b0 gs h a0 v1 v2 q) hf dX4_rank_3 hl.1 rfl rfl (zroom (Nat.le_of_ble_eq_true rfl)) (fun x101 h102 H locs cells slots C9 S9 hf hq hn => ?_)
  refine lv_if_eq (tgt := 18) hx hb dX4_rank_6 (by decide) (fun c9 => ?_) (fun c9 => ?_)
  · have hf := zif_t c9 hf
    refine lv_iconst (v := (0 : Int32)) hx hb dX4_rank_18 (by decide) ?_
    obtain ⟨rfl, rfl, rfl, rfl⟩ := zret_i hf
    exact zr_iret hc hn hr hq (fun _ _ _ _ q => q) dX4_rank_19
  · have hf := zif_f c9 hf
    refine lv_aload_n (x := a0) hx hb dX4_rank_9 rfl (lv_at hl 0 rfl) ?_
    refine lv_iload_n hx hb dX4_rank_10 rfl (lv_at hl 1 rfl) ?_
    refine lv_iload_n hx hb dX4_rank_11 rfl (lv_at hl 2 rfl) ?_
    refine zr_cVI (As := [.int v1, .int v2]) (rest := []) hc hn hq (ci := 3) rfl ⟨rfl, hd_X4_below⟩ (lw_V q2393 q2395 qs61 q91 q2396) (Nat.le_of_ble_eq_true rfl) (Nat.le_of_ble_eq_true rfl) (fun _ _ _ _ q => m_X4_below l D dA b0 gs h102 a0 v1 v2 q) hf dX4_rank_12 hl.1 rfl rfl (zroom (Nat.le_of_ble_eq_true rfl)) (fun x103 h104 H locs cells slots C9 S9 hf hq hn => ?_)
    refine lv_goto (tgt := 19) hx hb dX4_rank_15 (by decide) ?_
    obtain ⟨rfl, rfl, rfl, rfl⟩ := zret_i hf
    exact zr_iret hc hn hr hq (fun _ _ _ _ q => q) dX4_rank_19
theorem hd_X4_nearest : yX4_nearest.cls ≠ "java/lang/invoke/MethodHandle" ∧ yX4_nearest.cls ≠ "java/lang/invoke/VarHandle" ∧ (parseMethodDescriptor yX4_nearest.desc).map (fun d => d.parameters.length) = some 2 := by decide +kernel
def f_X4_nearest_b134 (k42 : PH → Nat → Int32 → Int32 → Int32 → Int32 → ZR Int32) (h : PH) (a0 : Nat) (v2 : Int32) (v3 : Int32) (v5 : Int32) (s0 : Int32) : ZR Int32 :=
  znm (v5 + (1 : Int32)) fun x101 =>
  k42 h a0 v2 v3 s0 x101
def f_X4_nearest_b118 (k42 : PH → Nat → Int32 → Int32 → Int32 → Int32 → ZR Int32) (h : PH) (a0 : Nat) (v2 : Int32) (v3 : Int32) (v5 : Int32) : ZR Int32 :=
  zgP h a0 3 1 fun x101 =>
  znm (v3 + (2 : Int32)) fun x102 =>
  znm (x102 + v5) fun x103 =>
  znn x101 fun a104 =>
  zaI h a104 0 x103 fun x105 =>
  f_X4_nearest_b134 k42 h a0 v2 v3 v5 x105
def f_X4_nearest_b104 (k42 : PH → Nat → Int32 → Int32 → Int32 → Int32 → ZR Int32) (h : PH) (a0 : Nat) (v2 : Int32) (v3 : Int32) (v4 : Int32) (v5 : Int32) (v6 : Int32) (s0 : Int32) : ZR Int32 :=
  if v5 = 0 then
    (f_X4_nearest_b118 k42 h a0 v2 v3 v5)
  else
    (if s0 ≤ v6 then
      (f_X4_nearest_b134 k42 h a0 v2 v3 v5 v4)
    else
      (f_X4_nearest_b118 k42 h a0 v2 v3 v5))
def f_X4_nearest_b89 (k42 : PH → Nat → Int32 → Int32 → Int32 → Int32 → ZR Int32) (h : PH) (a0 : Nat) (v2 : Int32) (v3 : Int32) (v4 : Int32) (v5 : Int32) (v7 : Int32) (s0 : Int32) : ZR Int32 :=
  if 0 ≤ v7 then
    (f_X4_nearest_b104 k42 h a0 v2 v3 v4 v5 s0 v7)
  else
    (znm (-v7) fun x101 =>
    f_X4_nearest_b104 k42 h a0 v2 v3 v4 v5 s0 x101)
def f_X4_nearest_b42 : Nat → PH → Nat → Int32 → Int32 → Int32 → Int32 → ZR Int32
  | 0 => fun _ _ _ _ _ _ => none
  | n + 1 => fun h a0 v2 v3 v4 v5 =>
    zgP h a0 3 1 fun x101 =>
    znm (v3 + (1 : Int32)) fun x102 =>
    znn x101 fun a103 =>
    zaI h a103 0 x102 fun x104 =>
    if x104 ≤ v5 then
      (zret v4 h)
    else
      (zgP h a0 3 1 fun x105 =>
      znm (v3 + (2 : Int32)) fun x106 =>
      znm (x106 + v5) fun x107 =>
      znn x105 fun a108 =>
      zaI h a108 0 x107 fun x109 =>
      znm (x109 - v2) fun x110 =>
      znm (v4 - v2) fun x111 =>
      if 0 ≤ x110 then
        (f_X4_nearest_b89 (f_X4_nearest_b42 n) h a0 v2 v3 v4 v5 x111 x110)
      else
        (znm (-x110) fun x112 =>
        f_X4_nearest_b89 (f_X4_nearest_b42 n) h a0 v2 v3 v4 v5 x111 x112))
def f_X4_nearest_b33 (h : PH) (a0 : Nat) (v2 : Int32) (v3 : Int32) (s0 : Nat) (s1 : Int32) : ZR Int32 :=
  zpI h s0 3 0 s1 fun h101 =>
  f_X4_nearest_b42 zFU h101 a0 v2 v3 (0 : Int32) (0 : Int32)
def f_X4_nearest (h : PH) (a0 : Nat) (v1 : Int32) (v2 : Int32) : ZR Int32 :=
  zrc h a0 3 <| zcl (f_X4_canSeek h a0 v1 v2) fun x101 h102 =>
  if x101 = 0 then
    (zret (0 : Int32) h102)
  else
    (zcl (f_X4_base h102 v1) fun x103 h104 =>
    zgP h104 a0 3 1 fun x105 =>
    znm (x103 + (1 : Int32)) fun x106 =>
    znn x105 fun a107 =>
    zaI h104 a107 0 x106 fun x108 =>
    if x108 = 0 then
      (f_X4_nearest_b33 h104 a0 v2 x103 a0 (3 : Int32))
    else
      (f_X4_nearest_b33 h104 a0 v2 x103 a0 (0 : Int32)))
set_option maxHeartbeats 4000000 in
set_option maxRecDepth 100000 in
theorem m_X4_nearest_b134 {p : Program} {l : Launch} {e : Env} {s : State} {m : MethodId} {args : Array Value} {below : List Frame} {meth : Method} {c : Code} {D : va_G} {dA : Nat → ClassId} {b0 : Nat} {gs : Nat → Option Nat} (hc : zC D dA b0 gs yX4_nearest.cls cX4_nearest 8 p c s m args meth) (hr : meth.sig.returnType = (some .int)) (hin : meth.name = yX4_nearest.name) {r : Int32} {hh : PH} {mc ms : Nat} (k42 : PH → Nat → Int32 → Int32 → Int32 → Int32 → ZR Int32) (hk42 : ∀ (h : PH) (a0 : Nat) (v2 : Int32) (v3 : Int32) (v4 : Int32) (v5 : Int32) (C9 S9 : Nat) (H : Heap) (locs : List Loc) (cells slots : Nat), k42 h a0 v2 v3 v4 v5 = some (r, hh, C9, S9) → cells + C9 = mc ∧ slots + S9 = ms → zM D dA b0 gs s h H locs → ∀ ls : Array Slot, lv_has ls 8 [(0, .ref a0), (2, .int v2), (3, .int v3), (4, .int v4), (5, .int v5)] → W p l e ({ frames := 4, cells := mc, slots := ms, locals := 128 } : Room) s m args below meth c H locs cells slots (MQ below (zQ D dA b0 gs (evI r) hh) args s mc ms (zA b0)) (F0 m 42 ls [])) : ∀ (h : PH) (a0 : Nat) (v2 : Int32) (v3 : Int32) (v5 : Int32) (s0 : Int32) (C9 S9 : Nat) (H : Heap) (locs : List Loc) (cells slots : Nat), f_X4_nearest_b134 k42 h a0 v2 v3 v5 s0 = some (r, hh, C9, S9) → cells + C9 = mc ∧ slots + S9 = ms → zM D dA b0 gs s h H locs → ∀ ls : Array Slot, lv_has ls 8 [(0, .ref a0), (2, .int v2), (3, .int v3), (5, .int v5)] → W p l e ({ frames := 4, cells := mc, slots := ms, locals := 128 } : Room) s m args below meth c H locs cells slots (MQ below (zQ D dA b0 gs (evI r) hh) args s mc ms (zA b0)) (F0 m 134 ls [.int s0]) := by
  have hx := hc.x
  have hb := hc.b
  intro h a0 v2 v3 v5 s0 C9 S9 H locs cells slots hf hq hn ls hl
  unfold f_X4_nearest_b134 at hf
  refine lv_istore (lv' := [(4, .int s0), (0, .ref a0), (2, .int v2), (3, .int v3), (5, .int v5)]) hx hb dX4_nearest_134 hl (by decide) rfl (fun ls hl => ?_)
  obtain ⟨x101, ex101, hf⟩ := znm_i hf
  refine lv_iinc (v := x101) (lv' := [(5, .int x101), (4, .int s0), (0, .ref a0), (2, .int v2), (3, .int v3)]) hx hb dX4_nearest_136 hl (k := 4) rfl (by rw [ex101]; rfl) (by decide) rfl (fun ls hl => ?_)
  refine lv_goto (tgt := 42) hx hb dX4_nearest_139 (by decide) ?_
  exact hk42 h a0 v2 v3 s0 x101 _ _ _ _ _ _ hf hq hn _ (lv_sub hl [2, 3, 4, 1, 0] rfl)
set_option maxHeartbeats 4000000 in
set_option maxRecDepth 100000 in
theorem m_X4_nearest_b118 {p : Program} {l : Launch} {e : Env} {s : State} {m : MethodId} {args : Array Value} {below : List Frame} {meth : Method} {c : Code} {D : va_G} {dA : Nat → ClassId} {b0 : Nat} {gs : Nat → Option Nat} (hc : zC D dA b0 gs yX4_nearest.cls cX4_nearest 8 p c s m args meth) (hr : meth.sig.returnType = (some .int)) (hin : meth.name = yX4_nearest.name) {r : Int32} {hh : PH} {mc ms : Nat} (k42 : PH → Nat → Int32 → Int32 → Int32 → Int32 → ZR Int32) (hk42 : ∀ (h : PH) (a0 : Nat) (v2 : Int32) (v3 : Int32) (v4 : Int32) (v5 : Int32) (C9 S9 : Nat) (H : Heap) (locs : List Loc) (cells slots : Nat), k42 h a0 v2 v3 v4 v5 = some (r, hh, C9, S9) → cells + C9 = mc ∧ slots + S9 = ms → zM D dA b0 gs s h H locs → ∀ ls : Array Slot, lv_has ls 8 [(0, .ref a0), (2, .int v2), (3, .int v3), (4, .int v4), (5, .int v5)] → W p l e ({ frames := 4, cells := mc, slots := ms, locals := 128 } : Room) s m args below meth c H locs cells slots (MQ below (zQ D dA b0 gs (evI r) hh) args s mc ms (zA b0)) (F0 m 42 ls [])) : ∀ (h : PH) (a0 : Nat) (v2 : Int32) (v3 : Int32) (v5 : Int32) (C9 S9 : Nat) (H : Heap) (locs : List Loc) (cells slots : Nat), f_X4_nearest_b118 k42 h a0 v2 v3 v5 = some (r, hh, C9, S9) → cells + C9 = mc ∧ slots + S9 = ms → zM D dA b0 gs s h H locs → ∀ ls : Array Slot, lv_has ls 8 [(0, .ref a0), (2, .int v2), (3, .int v3), (5, .int v5)] → W p l e ({ frames := 4, cells := mc, slots := ms, locals := 128 } : Room) s m args below meth c H locs cells slots (MQ below (zQ D dA b0 gs (evI r) hh) args s mc ms (zA b0)) (F0 m 118 ls []) := by
  have hx := hc.x
  have hb := hc.b
  intro h a0 v2 v3 v5 C9 S9 H locs cells slots hf hq hn ls hl
  unfold f_X4_nearest_b118 at hf
  refine lv_aload_n (x := a0) hx hb dX4_nearest_118 rfl (lv_at hl 0 rfl) ?_
  refine zr_gP hc hn (ci := 3) rfl rfl in_X4 1 (by decide) q2100 (fun _ h => h) (fun _ _ _ => rfl) hf dX4_nearest_119 (fun x101 hf => ?_)
  refine lv_iload_n hx hb dX4_nearest_122 rfl (lv_at hl 2 rfl) ?_
  refine lv_iconst (v := (2 : Int32)) hx hb dX4_nearest_123 (by decide) ?_
  refine lv_iadd hx hb dX4_nearest_124 ?_
  refine zr_nmI hf (fun x102 hf => ?_)
  refine lv_iload hx hb dX4_nearest_125 (lv_at hl 3 rfl) ?_
  refine lv_iadd hx hb dX4_nearest_127 ?_
  refine zr_nmI hf (fun x103 hf => ?_)
  obtain ⟨a104, e9, hf9⟩ := znn_i hf
  subst e9
  have hf := hf9
  clear hf9
  refine zr_aI0 hc hn hf dX4_nearest_128 (fun x105 hf => ?_)
  refine lv_goto (tgt := 134) hx hb dX4_nearest_129 (by decide) ?_
  exact m_X4_nearest_b134 hc hr hin k42 hk42 h a0 v2 v3 v5 x105 _ _ _ _ _ _ hf hq hn _ (lv_sub hl [0, 1, 2, 3] rfl)
set_option maxHeartbeats 4000000 in
set_option maxRecDepth 100000 in
theorem m_X4_nearest_b104 {p : Program} {l : Launch} {e : Env} {s : State} {m : MethodId} {args : Array Value} {below : List Frame} {meth : Method} {c : Code} {D : va_G} {dA : Nat → ClassId} {b0 : Nat} {gs : Nat → Option Nat} (hc : zC D dA b0 gs yX4_nearest.cls cX4_nearest 8 p c s m args meth) (hr : meth.sig.returnType = (some .int)) (hin : meth.name = yX4_nearest.name) {r : Int32} {hh : PH} {mc ms : Nat} (k42 : PH → Nat → Int32 → Int32 → Int32 → Int32 → ZR Int32) (hk42 : ∀ (h : PH) (a0 : Nat) (v2 : Int32) (v3 : Int32) (v4 : Int32) (v5 : Int32) (C9 S9 : Nat) (H : Heap) (locs : List Loc) (cells slots : Nat), k42 h a0 v2 v3 v4 v5 = some (r, hh, C9, S9) → cells + C9 = mc ∧ slots + S9 = ms → zM D dA b0 gs s h H locs → ∀ ls : Array Slot, lv_has ls 8 [(0, .ref a0), (2, .int v2), (3, .int v3), (4, .int v4), (5, .int v5)] → W p l e ({ frames := 4, cells := mc, slots := ms, locals := 128 } : Room) s m args below meth c H locs cells slots (MQ below (zQ D dA b0 gs (evI r) hh) args s mc ms (zA b0)) (F0 m 42 ls [])) : ∀ (h : PH) (a0 : Nat) (v2 : Int32) (v3 : Int32) (v4 : Int32) (v5 : Int32) (v6 : Int32) (s0 : Int32) (C9 S9 : Nat) (H : Heap) (locs : List Loc) (cells slots : Nat), f_X4_nearest_b104 k42 h a0 v2 v3 v4 v5 v6 s0 = some (r, hh, C9, S9) → cells + C9 = mc ∧ slots + S9 = ms → zM D dA b0 gs s h H locs → ∀ ls : Array Slot, lv_has ls 8 [(0, .ref a0), (2, .int v2), (3, .int v3), (4, .int v4), (5, .int v5), (6, .int v6)] → W p l e ({ frames := 4, cells := mc, slots := ms, locals := 128 } : Room) s m args below meth c H locs cells slots (MQ below (zQ D dA b0 gs (evI r) hh) args s mc ms (zA b0)) (F0 m 104 ls [.int s0]) := by
  have hx := hc.x
  have hb := hc.b
  intro h a0 v2 v3 v4 v5 v6 s0 C9 S9 H locs cells slots hf hq hn ls hl
  unfold f_X4_nearest_b104 at hf
  refine lv_istore (lv' := [(7, .int s0), (0, .ref a0), (2, .int v2), (3, .int v3), (4, .int v4), (5, .int v5), (6, .int v6)]) hx hb dX4_nearest_104 hl (by decide) rfl (fun ls hl => ?_)
  refine lv_iload hx hb dX4_nearest_106 (lv_at hl 5 rfl) ?_
  refine lv_if_eq (tgt := 118) hx hb dX4_nearest_108 (by decide) (fun c9 => ?_) (fun c9 => ?_)
  · have hf := zif_t c9 hf
    exact m_X4_nearest_b118 hc hr hin k42 hk42 h a0 v2 v3 v5 _ _ _ _ _ _ hf hq hn _ (lv_sub hl [1, 2, 3, 5] rfl)
  · have hf := zif_f c9 hf
    refine lv_iload hx hb dX4_nearest_111 (lv_at hl 6 rfl) ?_
    refine lv_iload hx hb dX4_nearest_113 (lv_at hl 0 rfl) ?_
    refine lv_icmp_ge (tgt := 132) hx hb dX4_nearest_115 (by decide) (fun c9 => ?_) (fun c9 => ?_)
    · have hf := zif_t c9 hf
      refine lv_iload hx hb dX4_nearest_132 (lv_at hl 4 rfl) ?_
      exact m_X4_nearest_b134 hc hr hin k42 hk42 h a0 v2 v3 v5 v4 _ _ _ _ _ _ hf hq hn _ (lv_sub hl [1, 2, 3, 5] rfl)
    · have hf := zif_f c9 hf
      exact m_X4_nearest_b118 hc hr hin k42 hk42 h a0 v2 v3 v5 _ _ _ _ _ _ hf hq hn _ (lv_sub hl [1, 2, 3, 5] rfl)
set_option maxHeartbeats 4000000 in
set_option maxRecDepth 100000 in
theorem m_X4_nearest_b89 {p : Program} {l : Launch} {e : Env} {s : State} {m : MethodId} {args : Array Value} {below : List Frame} {meth : Method} {c : Code} {D : va_G} {dA : Nat → ClassId} {b0 : Nat} {gs : Nat → Option Nat} (hc : zC D dA b0 gs yX4_nearest.cls cX4_nearest 8 p c s m args meth) (hr : meth.sig.returnType = (some .int)) (hin : meth.name = yX4_nearest.name) {r : Int32} {hh : PH} {mc ms : Nat} (k42 : PH → Nat → Int32 → Int32 → Int32 → Int32 → ZR Int32) (hk42 : ∀ (h : PH) (a0 : Nat) (v2 : Int32) (v3 : Int32) (v4 : Int32) (v5 : Int32) (C9 S9 : Nat) (H : Heap) (locs : List Loc) (cells slots : Nat), k42 h a0 v2 v3 v4 v5 = some (r, hh, C9, S9) → cells + C9 = mc ∧ slots + S9 = ms → zM D dA b0 gs s h H locs → ∀ ls : Array Slot, lv_has ls 8 [(0, .ref a0), (2, .int v2), (3, .int v3), (4, .int v4), (5, .int v5)] → W p l e ({ frames := 4, cells := mc, slots := ms, locals := 128 } : Room) s m args below meth c H locs cells slots (MQ below (zQ D dA b0 gs (evI r) hh) args s mc ms (zA b0)) (F0 m 42 ls [])) : ∀ (h : PH) (a0 : Nat) (v2 : Int32) (v3 : Int32) (v4 : Int32) (v5 : Int32) (v7 : Int32) (s0 : Int32) (C9 S9 : Nat) (H : Heap) (locs : List Loc) (cells slots : Nat), f_X4_nearest_b89 k42 h a0 v2 v3 v4 v5 v7 s0 = some (r, hh, C9, S9) → cells + C9 = mc ∧ slots + S9 = ms → zM D dA b0 gs s h H locs → ∀ ls : Array Slot, lv_has ls 8 [(0, .ref a0), (2, .int v2), (3, .int v3), (4, .int v4), (5, .int v5), (7, .int v7)] → W p l e ({ frames := 4, cells := mc, slots := ms, locals := 128 } : Room) s m args below meth c H locs cells slots (MQ below (zQ D dA b0 gs (evI r) hh) args s mc ms (zA b0)) (F0 m 89 ls [.int s0]) := by
  have hx := hc.x
  have hb := hc.b
  intro h a0 v2 v3 v4 v5 v7 s0 C9 S9 H locs cells slots hf hq hn ls hl
  unfold f_X4_nearest_b89 at hf
  refine lv_istore (lv' := [(6, .int s0), (0, .ref a0), (2, .int v2), (3, .int v3), (4, .int v4), (5, .int v5), (7, .int v7)]) hx hb dX4_nearest_89 hl (by decide) rfl (fun ls hl => ?_)
  refine lv_iload hx hb dX4_nearest_91 (lv_at hl 6 rfl) ?_
  refine lv_if_ge (tgt := 102) hx hb dX4_nearest_93 (by decide) (fun c9 => ?_) (fun c9 => ?_)
  · have hf := zif_t c9 hf
    refine lv_iload hx hb dX4_nearest_102 (lv_at hl 6 rfl) ?_
    exact m_X4_nearest_b104 hc hr hin k42 hk42 h a0 v2 v3 v4 v5 s0 v7 _ _ _ _ _ _ hf hq hn _ (lv_sub hl [1, 2, 3, 4, 5, 0] rfl)
  · have hf := zif_f c9 hf
    refine lv_iload hx hb dX4_nearest_96 (lv_at hl 6 rfl) ?_
    refine lv_ineg hx hb dX4_nearest_98 ?_
    refine zr_nmI hf (fun x101 hf => ?_)
    refine lv_goto (tgt := 104) hx hb dX4_nearest_99 (by decide) ?_
    exact m_X4_nearest_b104 hc hr hin k42 hk42 h a0 v2 v3 v4 v5 s0 x101 _ _ _ _ _ _ hf hq hn _ (lv_sub hl [1, 2, 3, 4, 5, 0] rfl)
set_option maxHeartbeats 4000000 in
set_option maxRecDepth 100000 in
theorem m_X4_nearest_b42 {p : Program} {l : Launch} {e : Env} {s : State} {m : MethodId} {args : Array Value} {below : List Frame} {meth : Method} {c : Code} {D : va_G} {dA : Nat → ClassId} {b0 : Nat} {gs : Nat → Option Nat} (hc : zC D dA b0 gs yX4_nearest.cls cX4_nearest 8 p c s m args meth) (hr : meth.sig.returnType = (some .int)) (hin : meth.name = yX4_nearest.name) {r : Int32} {hh : PH} {mc ms : Nat} : ∀ (n : Nat) (h : PH) (a0 : Nat) (v2 : Int32) (v3 : Int32) (v4 : Int32) (v5 : Int32) (C9 S9 : Nat) (H : Heap) (locs : List Loc) (cells slots : Nat), f_X4_nearest_b42 n h a0 v2 v3 v4 v5 = some (r, hh, C9, S9) → cells + C9 = mc ∧ slots + S9 = ms → zM D dA b0 gs s h H locs → ∀ ls : Array Slot, lv_has ls 8 [(0, .ref a0), (2, .int v2), (3, .int v3), (4, .int v4), (5, .int v5)] → W p l e ({ frames := 4, cells := mc, slots := ms, locals := 128 } : Room) s m args below meth c H locs cells slots (MQ below (zQ D dA b0 gs (evI r) hh) args s mc ms (zA b0)) (F0 m 42 ls []) := by
  have hx := hc.x
  have hb := hc.b
  intro n
  induction n with
  | zero =>
    intro h a0 v2 v3 v4 v5 C9 S9 H locs cells slots hf hq hn ls hl
    cases hf
  | succ n ih =>
    intro h a0 v2 v3 v4 v5 C9 S9 H locs cells slots hf hq hn ls hl
    unfold f_X4_nearest_b42 at hf
    refine lv_iload hx hb dX4_nearest_42 (lv_at hl 4 rfl) ?_
    refine lv_aload_n (x := a0) hx hb dX4_nearest_44 rfl (lv_at hl 0 rfl) ?_
    refine zr_gP hc hn (ci := 3) rfl rfl in_X4 1 (by decide) q2100 (fun _ h => h) (fun _ _ _ => rfl) hf dX4_nearest_45 (fun x101 hf => ?_)
    refine lv_iload_n hx hb dX4_nearest_48 rfl (lv_at hl 2 rfl) ?_
    refine lv_iconst (v := (1 : Int32)) hx hb dX4_nearest_49 (by decide) ?_
    refine lv_iadd hx hb dX4_nearest_50 ?_
    refine zr_nmI hf (fun x102 hf => ?_)
    obtain ⟨a103, e9, hf9⟩ := znn_i hf
    subst e9
    have hf := hf9
    clear hf9
    refine zr_aI0 hc hn hf dX4_nearest_51 (fun x104 hf => ?_)
    refine lv_icmp_ge (tgt := 142) hx hb dX4_nearest_52 (by decide) (fun c9 => ?_) (fun c9 => ?_)
    · have hf := zif_t c9 hf
      refine lv_iload hx hb dX4_nearest_142 (lv_at hl 3 rfl) ?_
      obtain ⟨rfl, rfl, rfl, rfl⟩ := zret_i hf
      exact zr_iret hc hn hr hq (fun _ _ _ _ q => q) dX4_nearest_144
    · have hf := zif_f c9 hf
      refine lv_aload_n (x := a0) hx hb dX4_nearest_55 rfl (lv_at hl 0 rfl) ?_
      refine zr_gP hc hn (ci := 3) rfl rfl in_X4 1 (by decide) q2100 (fun _ h => h) (fun _ _ _ => rfl) hf dX4_nearest_56 (fun x105 hf => ?_)
      refine lv_iload_n hx hb dX4_nearest_59 rfl (lv_at hl 2 rfl) ?_
      refine lv_iconst (v := (2 : Int32)) hx hb dX4_nearest_60 (by decide) ?_
      refine lv_iadd hx hb dX4_nearest_61 ?_
      refine zr_nmI hf (fun x106 hf => ?_)
      refine lv_iload hx hb dX4_nearest_62 (lv_at hl 4 rfl) ?_
      refine lv_iadd hx hb dX4_nearest_64 ?_
      refine zr_nmI hf (fun x107 hf => ?_)
      obtain ⟨a108, e9, hf9⟩ := znn_i hf
      subst e9
      have hf := hf9
      clear hf9
      refine zr_aI0 hc hn hf dX4_nearest_65 (fun x109 hf => ?_)
      refine lv_iload_n hx hb dX4_nearest_66 rfl (lv_at hl 1 rfl) ?_
      refine lv_isub hx hb dX4_nearest_67 ?_
      refine zr_nmI hf (fun x110 hf => ?_)
      refine lv_istore (lv' := [(6, .int x110), (0, .ref a0), (2, .int v2), (3, .int v3), (4, .int v4), (5, .int v5)]) hx hb dX4_nearest_68 hl (by decide) rfl (fun ls hl => ?_)
      refine lv_iload hx hb dX4_nearest_70 (lv_at hl 4 rfl) ?_
      refine lv_iload_n hx hb dX4_nearest_72 rfl (lv_at hl 2 rfl) ?_
      refine lv_isub hx hb dX4_nearest_73 ?_
      refine zr_nmI hf (fun x111 hf => ?_)
      refine lv_istore (lv' := [(7, .int x111), (6, .int x110), (0, .ref a0), (2, .int v2), (3, .int v3), (4, .int v4), (5, .int v5)]) hx hb dX4_nearest_74 hl (by decide) rfl (fun ls hl => ?_)
      refine lv_iload hx hb dX4_nearest_76 (lv_at hl 1 rfl) ?_
      refine lv_if_ge (tgt := 87) hx hb dX4_nearest_78 (by decide) (fun c9 => ?_) (fun c9 => ?_)
      · have hf := zif_t c9 hf
        refine lv_iload hx hb dX4_nearest_87 (lv_at hl 1 rfl) ?_
        exact m_X4_nearest_b89 hc hr hin (f_X4_nearest_b42 n) ih h a0 v2 v3 v4 v5 x111 x110 _ _ _ _ _ _ hf hq hn _ (lv_sub hl [2, 3, 4, 5, 6, 0] rfl)
      · have hf := zif_f c9 hf
        refine lv_iload hx hb dX4_nearest_81 (lv_at hl 1 rfl) ?_
        refine lv_ineg hx hb dX4_nearest_83 ?_
        refine zr_nmI hf (fun x112 hf => ?_)
        refine lv_goto (tgt := 89) hx hb dX4_nearest_84 (by decide) ?_
        exact m_X4_nearest_b89 hc hr hin (f_X4_nearest_b42 n) ih h a0 v2 v3 v4 v5 x111 x112 _ _ _ _ _ _ hf hq hn _ (lv_sub hl [2, 3, 4, 5, 6, 0] rfl)
set_option maxHeartbeats 4000000 in
set_option maxRecDepth 100000 in
theorem m_X4_nearest_b33 {p : Program} {l : Launch} {e : Env} {s : State} {m : MethodId} {args : Array Value} {below : List Frame} {meth : Method} {c : Code} {D : va_G} {dA : Nat → ClassId} {b0 : Nat} {gs : Nat → Option Nat} (hc : zC D dA b0 gs yX4_nearest.cls cX4_nearest 8 p c s m args meth) (hr : meth.sig.returnType = (some .int)) (hin : meth.name = yX4_nearest.name) {r : Int32} {hh : PH} {mc ms : Nat} : ∀ (h : PH) (a0 : Nat) (v2 : Int32) (v3 : Int32) (s0 : Nat) (s1 : Int32) (C9 S9 : Nat) (H : Heap) (locs : List Loc) (cells slots : Nat), f_X4_nearest_b33 h a0 v2 v3 s0 s1 = some (r, hh, C9, S9) → cells + C9 = mc ∧ slots + S9 = ms → zM D dA b0 gs s h H locs → ∀ ls : Array Slot, lv_has ls 8 [(0, .ref a0), (2, .int v2), (3, .int v3)] → W p l e ({ frames := 4, cells := mc, slots := ms, locals := 128 } : Room) s m args below meth c H locs cells slots (MQ below (zQ D dA b0 gs (evI r) hh) args s mc ms (zA b0)) (F0 m 33 ls [.int s1, .ref s0]) := by
  have hx := hc.x
  have hb := hc.b
  intro h a0 v2 v3 s0 s1 C9 S9 H locs cells slots hf hq hn ls hl
  unfold f_X4_nearest_b33 at hf
  refine zr_pI (x := s1) hc hn (ci := 3) rfl rfl in_X4 0 (by decide) tyX4 tyX4_ok nmX4 q2099 (fun _ h => h) (Or.inl rfl) (fun _ _ _ => rfl) rfl rfl hf dX4_nearest_33 (fun h101 H locs hf hn => ?_)
  refine lv_iconst (v := (0 : Int32)) hx hb dX4_nearest_36 (by decide) ?_
  refine lv_istore (lv' := [(4, .int (0 : Int32)), (0, .ref a0), (2, .int v2), (3, .int v3)]) hx hb dX4_nearest_37 hl (by decide) rfl (fun ls hl => ?_)
  refine lv_iconst (v := (0 : Int32)) hx hb dX4_nearest_39 (by decide) ?_
  refine lv_istore (lv' := [(5, .int (0 : Int32)), (4, .int (0 : Int32)), (0, .ref a0), (2, .int v2), (3, .int v3)]) hx hb dX4_nearest_40 hl (by decide) rfl (fun ls hl => ?_)
  exact m_X4_nearest_b42 hc hr hin zFU h101 a0 v2 v3 (0 : Int32) (0 : Int32) _ _ _ _ _ _ hf hq hn _ (lv_sub hl [2, 3, 4, 1, 0] rfl)
set_option maxHeartbeats 4000000 in
set_option maxRecDepth 100000 in
theorem m_X4_nearest (l : Launch) (D : va_G) (dA : Nat → ClassId) (b0 : Nat) (gs : Nat → Option Nat) (h : PH) (a0 : Nat) (v1 : Int32) (v2 : Int32) {r : Int32} {hh : PH} {mc ms : Nat} (hf : f_X4_nearest h a0 v1 v2 = some (r, hh, mc, ms)) : zMt l D dA b0 gs yX4_nearest cX4_nearest 8 (some .int) 4 128 [.ref a0, .int v1, .int v2] h (evI r) hh mc ms := by
  unfold f_X4_nearest at hf
  refine zMt.of (by decide) (Nat.le_of_ble_eq_true rfl) ?_
  intro p e s m args below meth c hc hr hin hn ls hl
  have hl : lv_has ls 8 [(0, .ref a0), (1, .int v1), (2, .int v2)] := hl
  have hq : 0 + mc = mc ∧ 0 + ms = ms := ⟨Nat.zero_add _, Nat.zero_add _⟩
  have hx := hc.x
  have hb := hc.b
  refine lv_aload_n (x := a0) hx hb dX4_nearest_0 rfl (lv_at hl 0 rfl) ?_
  refine lv_iload_n hx hb dX4_nearest_1 rfl (lv_at hl 1 rfl) ?_
  refine lv_iload_n hx hb dX4_nearest_2 rfl (lv_at hl 2 rfl) ?_
  refine zr_cVI (As := [.int v1, .int v2]) (rest := []) hc hn hq (ci := 3) rfl ⟨rfl, hd_X4_canSeek⟩ (lw_V q2401 q2403 qs62 q91 q2404) (Nat.le_of_ble_eq_true rfl) (Nat.le_of_ble_eq_true rfl) (fun _ _ _ _ q => m_X4_canSeek l D dA b0 gs h a0 v1 v2 q) hf dX4_nearest_3 hl.1 rfl rfl (zroom (Nat.le_of_ble_eq_true rfl)) (fun x101 h102 H locs cells slots C9 S9 hf hq hn => ?_)
  refine lv_if_ne (tgt := 11) hx hb dX4_nearest_6 (by decide) (fun c9 => ?_) (fun c9 => ?_)
  · have hf := zif_f c9 hf
    refine lv_iload_n hx hb dX4_nearest_11 rfl (lv_at hl 1 rfl) ?_
    refine zr_cSI (As := [.int v1]) (rest := []) hc hn hq hd_X4_base (lw_S q2284 q2285 q91 q2286) (Nat.le_of_ble_eq_true rfl) (Nat.le_of_ble_eq_true rfl) (fun _ _ _ _ q => m_X4_base l D dA b0 gs h102 v1 q) hf dX4_nearest_12 hl.1 rfl rfl (zroom (Nat.le_of_ble_eq_true rfl)) (fun x103 h104 H locs cells slots C9 S9 hf hq hn => ?_)
    refine lv_istore_n (i := 3) (lv' := [(3, .int x103), (0, .ref a0), (1, .int v1), (2, .int v2)]) hx hb dX4_nearest_15 rfl hl (by decide) rfl (fun ls hl => ?_)
    refine lv_aload_n (x := a0) hx hb dX4_nearest_16 rfl (lv_at hl 1 rfl) ?_
    refine lv_aload_n (x := a0) hx hb dX4_nearest_17 rfl (lv_at hl 1 rfl) ?_
    refine zr_gP hc hn (ci := 3) rfl rfl in_X4 1 (by decide) q2100 (fun _ h => h) (fun _ _ _ => rfl) hf dX4_nearest_18 (fun x105 hf => ?_)
    refine lv_iload_n hx hb dX4_nearest_21 rfl (lv_at hl 0 rfl) ?_
    refine lv_iconst (v := (1 : Int32)) hx hb dX4_nearest_22 (by decide) ?_
    refine lv_iadd hx hb dX4_nearest_23 ?_
    refine zr_nmI hf (fun x106 hf => ?_)
    obtain ⟨a107, e9, hf9⟩ := znn_i hf
    subst e9
    have hf := hf9
    clear hf9
    refine zr_aI0 hc hn hf dX4_nearest_24 (fun x108 hf => ?_)
    refine lv_if_ne (tgt := 32) hx hb dX4_nearest_25 (by decide) (fun c9 => ?_) (fun c9 => ?_)
    · have hf := zif_f c9 hf
      refine lv_iconst (v := (0 : Int32)) hx hb dX4_nearest_32 (by decide) ?_
      exact m_X4_nearest_b33 hc hr hin h104 a0 v2 x103 a0 (0 : Int32) _ _ _ _ _ _ hf hq hn _ (lv_sub hl [1, 3, 0] rfl)
    · have hf := zif_t c9 hf
      refine lv_iconst (v := (3 : Int32)) hx hb dX4_nearest_28 (by decide) ?_
      refine lv_goto (tgt := 33) hx hb dX4_nearest_29 (by decide) ?_
      exact m_X4_nearest_b33 hc hr hin h104 a0 v2 x103 a0 (3 : Int32) _ _ _ _ _ _ hf hq hn _ (lv_sub hl [1, 3, 0] rfl)
  · have hf := zif_t c9 hf
    refine lv_iconst (v := (0 : Int32)) hx hb dX4_nearest_9 (by decide) ?_
    obtain ⟨rfl, rfl, rfl, rfl⟩ := zret_i hf
    exact zr_iret hc hn hr hq (fun _ _ _ _ q => q) dX4_nearest_10
theorem hd_X4_rangeSum : yX4_rangeSum.cls ≠ "java/lang/invoke/MethodHandle" ∧ yX4_rangeSum.cls ≠ "java/lang/invoke/VarHandle" ∧ (parseMethodDescriptor yX4_rangeSum.desc).map (fun d => d.parameters.length) = some 3 := by decide +kernel
def f_X4_rangeSum_b113 (k41 : PH → Nat → Int32 → Int32 → Int32 → Int32 → Int32 → ZR Int32) (h : PH) (a0 : Nat) (v1 : Int32) (v2 : Int32) (v3 : Int32) (v5 : Int32) (s0 : Int32) (s1 : Int32) : ZR Int32 :=
  znm (s0 + s1) fun x101 =>
  znm (v5 + (1 : Int32)) fun x102 =>
  k41 h a0 v1 v2 v3 x101 x102
def f_X4_rangeSum_b112 (k41 : PH → Nat → Int32 → Int32 → Int32 → Int32 → Int32 → ZR Int32) (h : PH) (a0 : Nat) (v1 : Int32) (v2 : Int32) (v3 : Int32) (v5 : Int32) (s0 : Int32) : ZR Int32 :=
  f_X4_rangeSum_b113 k41 h a0 v1 v2 v3 v5 s0 (0 : Int32)
def f_X4_rangeSum_b41 : Nat → PH → Nat → Int32 → Int32 → Int32 → Int32 → Int32 → ZR Int32
  | 0 => fun _ _ _ _ _ _ _ => none
  | n + 1 => fun h a0 v1 v2 v3 v4 v5 =>
    zgI h a0 3 0 fun x101 =>
    if x101 = 0 then
      (zgP h a0 3 1 fun x102 =>
      zcl (f_X4_base h v1) fun x103 h104 =>
      znm (x103 + (1 : Int32)) fun x105 =>
      znn x102 fun a106 =>
      zaI h104 a106 0 x105 fun x107 =>
      if x107 ≤ v5 then
        (zret v4 h104)
      else
        (zgP h104 a0 3 1 fun x108 =>
        zcl (f_X4_base h104 v1) fun x109 h110 =>
        znm (x109 + (2 : Int32)) fun x111 =>
        znm (x111 + v5) fun x112 =>
        znn x108 fun a113 =>
        zaI h110 a113 0 x112 fun x114 =>
        if x114 < v2 then
          (f_X4_rangeSum_b112 (f_X4_rangeSum_b41 n) h110 a0 v1 v2 v3 v5 v4)
        else
          (if v3 ≤ x114 then
            (f_X4_rangeSum_b112 (f_X4_rangeSum_b41 n) h110 a0 v1 v2 v3 v5 v4)
          else
            (zgP h110 a0 3 1 fun x115 =>
            zcl (f_X4_base h110 v1) fun x116 h117 =>
            znm (x116 + (62 : Int32)) fun x118 =>
            znm (x118 + v5) fun x119 =>
            znn x115 fun a120 =>
            zaI h117 a120 0 x119 fun x121 =>
            f_X4_rangeSum_b113 (f_X4_rangeSum_b41 n) h117 a0 v1 v2 v3 v5 v4 x121))))
    else
      (zret v4 h)
def f_X4_rangeSum_b32 (h : PH) (a0 : Nat) (v1 : Int32) (v2 : Int32) (v3 : Int32) (s0 : Nat) (s1 : Int32) : ZR Int32 :=
  zpI h s0 3 0 s1 fun h101 =>
  f_X4_rangeSum_b41 zFU h101 a0 v1 v2 v3 (0 : Int32) (0 : Int32)
def f_X4_rangeSum_b31 (h : PH) (a0 : Nat) (v1 : Int32) (v2 : Int32) (v3 : Int32) (s0 : Nat) : ZR Int32 :=
  f_X4_rangeSum_b32 h a0 v1 v2 v3 s0 (2 : Int32)
def f_X4_rangeSum (h : PH) (a0 : Nat) (v1 : Int32) (v2 : Int32) (v3 : Int32) : ZR Int32 :=
  zrc h a0 3 <| zcl (f_X4_isList h a0 v1) fun x101 h102 =>
  if x101 = 0 then
    (f_X4_rangeSum_b32 h102 a0 v1 v2 v3 a0 (1 : Int32))
  else
    (zcl (f_X4_isKey h102 v2) fun x103 h104 =>
    if x103 = 0 then
      (f_X4_rangeSum_b31 h104 a0 v1 v2 v3 a0)
    else
      (zcl (f_X4_isKey h104 v3) fun x105 h106 =>
      if x105 = 0 then
        (f_X4_rangeSum_b31 h106 a0 v1 v2 v3 a0)
      else
        (f_X4_rangeSum_b32 h106 a0 v1 v2 v3 a0 (0 : Int32))))
set_option maxHeartbeats 4000000 in
set_option maxRecDepth 100000 in
theorem m_X4_rangeSum_b113 {p : Program} {l : Launch} {e : Env} {s : State} {m : MethodId} {args : Array Value} {below : List Frame} {meth : Method} {c : Code} {D : va_G} {dA : Nat → ClassId} {b0 : Nat} {gs : Nat → Option Nat} (hc : zC D dA b0 gs yX4_rangeSum.cls cX4_rangeSum 7 p c s m args meth) (hr : meth.sig.returnType = (some .int)) (hin : meth.name = yX4_rangeSum.name) {r : Int32} {hh : PH} {mc ms : Nat} (k41 : PH → Nat → Int32 → Int32 → Int32 → Int32 → Int32 → ZR Int32) (hk41 : ∀ (h : PH) (a0 : Nat) (v1 : Int32) (v2 : Int32) (v3 : Int32) (v4 : Int32) (v5 : Int32) (C9 S9 : Nat) (H : Heap) (locs : List Loc) (cells slots : Nat), k41 h a0 v1 v2 v3 v4 v5 = some (r, hh, C9, S9) → cells + C9 = mc ∧ slots + S9 = ms → zM D dA b0 gs s h H locs → ∀ ls : Array Slot, lv_has ls 7 [(0, .ref a0), (1, .int v1), (2, .int v2), (3, .int v3), (4, .int v4), (5, .int v5)] → W p l e ({ frames := 3, cells := mc, slots := ms, locals := 106 } : Room) s m args below meth c H locs cells slots (MQ below (zQ D dA b0 gs (evI r) hh) args s mc ms (zA b0)) (F0 m 41 ls [])) : ∀ (h : PH) (a0 : Nat) (v1 : Int32) (v2 : Int32) (v3 : Int32) (v5 : Int32) (s0 : Int32) (s1 : Int32) (C9 S9 : Nat) (H : Heap) (locs : List Loc) (cells slots : Nat), f_X4_rangeSum_b113 k41 h a0 v1 v2 v3 v5 s0 s1 = some (r, hh, C9, S9) → cells + C9 = mc ∧ slots + S9 = ms → zM D dA b0 gs s h H locs → ∀ ls : Array Slot, lv_has ls 7 [(0, .ref a0), (1, .int v1), (2, .int v2), (3, .int v3), (5, .int v5)] → W p l e ({ frames := 3, cells := mc, slots := ms, locals := 106 } : Room) s m args below meth c H locs cells slots (MQ below (zQ D dA b0 gs (evI r) hh) args s mc ms (zA b0)) (F0 m 113 ls [.int s1, .int s0]) := by
  have hx := hc.x
  have hb := hc.b
  intro h a0 v1 v2 v3 v5 s0 s1 C9 S9 H locs cells slots hf hq hn ls hl
  unfold f_X4_rangeSum_b113 at hf
  refine lv_iadd hx hb dX4_rangeSum_113 ?_
  refine zr_nmI hf (fun x101 hf => ?_)
  refine lv_istore (lv' := [(4, .int x101), (0, .ref a0), (1, .int v1), (2, .int v2), (3, .int v3), (5, .int v5)]) hx hb dX4_rangeSum_114 hl (by decide) rfl (fun ls hl => ?_)
  obtain ⟨x102, ex102, hf⟩ := znm_i hf
  refine lv_iinc (v := x102) (lv' := [(5, .int x102), (4, .int x101), (0, .ref a0), (1, .int v1), (2, .int v2), (3, .int v3)]) hx hb dX4_rangeSum_116 hl (k := 5) rfl (by rw [ex102]; rfl) (by decide) rfl (fun ls hl => ?_)
  refine lv_goto (tgt := 41) hx hb dX4_rangeSum_119 (by decide) ?_
  exact hk41 h a0 v1 v2 v3 x101 x102 _ _ _ _ _ _ hf hq hn _ (lv_sub hl [2, 3, 4, 5, 1, 0] rfl)
set_option maxHeartbeats 4000000 in
set_option maxRecDepth 100000 in
theorem m_X4_rangeSum_b112 {p : Program} {l : Launch} {e : Env} {s : State} {m : MethodId} {args : Array Value} {below : List Frame} {meth : Method} {c : Code} {D : va_G} {dA : Nat → ClassId} {b0 : Nat} {gs : Nat → Option Nat} (hc : zC D dA b0 gs yX4_rangeSum.cls cX4_rangeSum 7 p c s m args meth) (hr : meth.sig.returnType = (some .int)) (hin : meth.name = yX4_rangeSum.name) {r : Int32} {hh : PH} {mc ms : Nat} (k41 : PH → Nat → Int32 → Int32 → Int32 → Int32 → Int32 → ZR Int32) (hk41 : ∀ (h : PH) (a0 : Nat) (v1 : Int32) (v2 : Int32) (v3 : Int32) (v4 : Int32) (v5 : Int32) (C9 S9 : Nat) (H : Heap) (locs : List Loc) (cells slots : Nat), k41 h a0 v1 v2 v3 v4 v5 = some (r, hh, C9, S9) → cells + C9 = mc ∧ slots + S9 = ms → zM D dA b0 gs s h H locs → ∀ ls : Array Slot, lv_has ls 7 [(0, .ref a0), (1, .int v1), (2, .int v2), (3, .int v3), (4, .int v4), (5, .int v5)] → W p l e ({ frames := 3, cells := mc, slots := ms, locals := 106 } : Room) s m args below meth c H locs cells slots (MQ below (zQ D dA b0 gs (evI r) hh) args s mc ms (zA b0)) (F0 m 41 ls [])) : ∀ (h : PH) (a0 : Nat) (v1 : Int32) (v2 : Int32) (v3 : Int32) (v5 : Int32) (s0 : Int32) (C9 S9 : Nat) (H : Heap) (locs : List Loc) (cells slots : Nat), f_X4_rangeSum_b112 k41 h a0 v1 v2 v3 v5 s0 = some (r, hh, C9, S9) → cells + C9 = mc ∧ slots + S9 = ms → zM D dA b0 gs s h H locs → ∀ ls : Array Slot, lv_has ls 7 [(0, .ref a0), (1, .int v1), (2, .int v2), (3, .int v3), (5, .int v5)] → W p l e ({ frames := 3, cells := mc, slots := ms, locals := 106 } : Room) s m args below meth c H locs cells slots (MQ below (zQ D dA b0 gs (evI r) hh) args s mc ms (zA b0)) (F0 m 112 ls [.int s0]) := by
  have hx := hc.x
  have hb := hc.b
  intro h a0 v1 v2 v3 v5 s0 C9 S9 H locs cells slots hf hq hn ls hl
  unfold f_X4_rangeSum_b112 at hf
  refine lv_iconst (v := (0 : Int32)) hx hb dX4_rangeSum_112 (by decide) ?_
  exact m_X4_rangeSum_b113 hc hr hin k41 hk41 h a0 v1 v2 v3 v5 s0 (0 : Int32) _ _ _ _ _ _ hf hq hn _ (lv_sub hl [0, 1, 2, 3, 4] rfl)
set_option maxHeartbeats 4000000 in
set_option maxRecDepth 100000 in
theorem m_X4_rangeSum_b41 {p : Program} {l : Launch} {e : Env} {s : State} {m : MethodId} {args : Array Value} {below : List Frame} {meth : Method} {c : Code} {D : va_G} {dA : Nat → ClassId} {b0 : Nat} {gs : Nat → Option Nat} (hc : zC D dA b0 gs yX4_rangeSum.cls cX4_rangeSum 7 p c s m args meth) (hr : meth.sig.returnType = (some .int)) (hin : meth.name = yX4_rangeSum.name) {r : Int32} {hh : PH} {mc ms : Nat} : ∀ (n : Nat) (h : PH) (a0 : Nat) (v1 : Int32) (v2 : Int32) (v3 : Int32) (v4 : Int32) (v5 : Int32) (C9 S9 : Nat) (H : Heap) (locs : List Loc) (cells slots : Nat), f_X4_rangeSum_b41 n h a0 v1 v2 v3 v4 v5 = some (r, hh, C9, S9) → cells + C9 = mc ∧ slots + S9 = ms → zM D dA b0 gs s h H locs → ∀ ls : Array Slot, lv_has ls 7 [(0, .ref a0), (1, .int v1), (2, .int v2), (3, .int v3), (4, .int v4), (5, .int v5)] → W p l e ({ frames := 3, cells := mc, slots := ms, locals := 106 } : Room) s m args below meth c H locs cells slots (MQ below (zQ D dA b0 gs (evI r) hh) args s mc ms (zA b0)) (F0 m 41 ls []) := by
  have hx := hc.x
  have hb := hc.b
  intro n
  induction n with
  | zero =>
    intro h a0 v1 v2 v3 v4 v5 C9 S9 H locs cells slots hf hq hn ls hl
    cases hf
  | succ n ih =>
    intro h a0 v1 v2 v3 v4 v5 C9 S9 H locs cells slots hf hq hn ls hl
    unfold f_X4_rangeSum_b41 at hf
    refine lv_aload_n (x := a0) hx hb dX4_rangeSum_41 rfl (lv_at hl 0 rfl) ?_
    refine zr_gI hc hn (ci := 3) rfl rfl in_X4 0 (by decide) q2099 (fun _ h => h) (fun _ _ _ => rfl) hf dX4_rangeSum_42 (fun x101 hf => ?_)
    refine lv_if_ne (tgt := 122) hx hb dX4_rangeSum_45 (by decide) (fun c9 => ?_) (fun c9 => ?_)
    · have hf := zif_f c9 hf
      refine lv_iload hx hb dX4_rangeSum_122 (lv_at hl 4 rfl) ?_
      obtain ⟨rfl, rfl, rfl, rfl⟩ := zret_i hf
      exact zr_iret hc hn hr hq (fun _ _ _ _ q => q) dX4_rangeSum_124
    · have hf := zif_t c9 hf
      refine lv_iload hx hb dX4_rangeSum_48 (lv_at hl 5 rfl) ?_
      refine lv_aload_n (x := a0) hx hb dX4_rangeSum_50 rfl (lv_at hl 0 rfl) ?_
      refine zr_gP hc hn (ci := 3) rfl rfl in_X4 1 (by decide) q2100 (fun _ h => h) (fun _ _ _ => rfl) hf dX4_rangeSum_51 (fun x102 hf => ?_)
      refine lv_iload_n hx hb dX4_rangeSum_54 rfl (lv_at hl 1 rfl) ?_
      refine zr_cSI (As := [.int v1]) (rest := [va_rf x102, .int v5]) hc hn hq hd_X4_base (lw_S q2284 q2285 q91 q2286) (Nat.le_of_ble_eq_true rfl) (Nat.le_of_ble_eq_true rfl) (fun _ _ _ _ q => m_X4_base l D dA b0 gs h v1 q) hf dX4_rangeSum_55 hl.1 rfl rfl (zroom (Nat.le_of_ble_eq_true rfl)) (fun x103 h104 H locs cells slots C9 S9 hf hq hn => ?_)
      refine lv_iconst (v := (1 : Int32)) hx hb dX4_rangeSum_58 (by decide) ?_
      refine lv_iadd hx hb dX4_rangeSum_59 ?_
      refine zr_nmI hf (fun x105 hf => ?_)
      obtain ⟨a106, e9, hf9⟩ := znn_i hf
      subst e9
      have hf := hf9
      clear hf9
      refine zr_aI0 hc hn hf dX4_rangeSum_60 (fun x107 hf => ?_)
      refine lv_icmp_ge (tgt := 122) hx hb dX4_rangeSum_61 (by decide) (fun c9 => ?_) (fun c9 => ?_)
      · have hf := zif_t c9 hf
        refine lv_iload hx hb dX4_rangeSum_122 (lv_at hl 4 rfl) ?_
        obtain ⟨rfl, rfl, rfl, rfl⟩ := zret_i hf
        exact zr_iret hc hn hr hq (fun _ _ _ _ q => q) dX4_rangeSum_124
      · have hf := zif_f c9 hf
        refine lv_aload_n (x := a0) hx hb dX4_rangeSum_64 rfl (lv_at hl 0 rfl) ?_
        refine zr_gP hc hn (ci := 3) rfl rfl in_X4 1 (by decide) q2100 (fun _ h => h) (fun _ _ _ => rfl) hf dX4_rangeSum_65 (fun x108 hf => ?_)
        refine lv_iload_n hx hb dX4_rangeSum_68 rfl (lv_at hl 1 rfl) ?_
        refine zr_cSI (As := [.int v1]) (rest := [va_rf x108]) hc hn hq hd_X4_base (lw_S q2284 q2285 q91 q2286) (Nat.le_of_ble_eq_true rfl) (Nat.le_of_ble_eq_true rfl) (fun _ _ _ _ q => m_X4_base l D dA b0 gs h104 v1 q) hf dX4_rangeSum_69 hl.1 rfl rfl (zroom (Nat.le_of_ble_eq_true rfl)) (fun x109 h110 H locs cells slots C9 S9 hf hq hn => ?_)
        refine lv_iconst (v := (2 : Int32)) hx hb dX4_rangeSum_72 (by decide) ?_
        refine lv_iadd hx hb dX4_rangeSum_73 ?_
        refine zr_nmI hf (fun x111 hf => ?_)
        refine lv_iload hx hb dX4_rangeSum_74 (lv_at hl 5 rfl) ?_
        refine lv_iadd hx hb dX4_rangeSum_76 ?_
        refine zr_nmI hf (fun x112 hf => ?_)
        obtain ⟨a113, e9, hf9⟩ := znn_i hf
        subst e9
        have hf := hf9
        clear hf9
        refine zr_aI0 hc hn hf dX4_rangeSum_77 (fun x114 hf => ?_)
        refine lv_istore (lv' := [(6, .int x114), (0, .ref a0), (1, .int v1), (2, .int v2), (3, .int v3), (4, .int v4), (5, .int v5)]) hx hb dX4_rangeSum_78 hl (by decide) rfl (fun ls hl => ?_)
        refine lv_iload hx hb dX4_rangeSum_80 (lv_at hl 5 rfl) ?_
        refine lv_iload hx hb dX4_rangeSum_82 (lv_at hl 0 rfl) ?_
        refine lv_iload_n hx hb dX4_rangeSum_84 rfl (lv_at hl 3 rfl) ?_
        refine lv_icmp_lt (tgt := 112) hx hb dX4_rangeSum_85 (by decide) (fun c9 => ?_) (fun c9 => ?_)
        · have hf := zif_t c9 hf
          exact m_X4_rangeSum_b112 hc hr hin (f_X4_rangeSum_b41 n) ih h110 a0 v1 v2 v3 v5 v4 _ _ _ _ _ _ hf hq hn _ (lv_sub hl [1, 2, 3, 4, 6] rfl)
        · have hf := zif_f c9 hf
          refine lv_iload hx hb dX4_rangeSum_88 (lv_at hl 0 rfl) ?_
          refine lv_iload_n hx hb dX4_rangeSum_90 rfl (lv_at hl 4 rfl) ?_
          refine lv_icmp_ge (tgt := 112) hx hb dX4_rangeSum_91 (by decide) (fun c9 => ?_) (fun c9 => ?_)
          · have hf := zif_t c9 hf
            exact m_X4_rangeSum_b112 hc hr hin (f_X4_rangeSum_b41 n) ih h110 a0 v1 v2 v3 v5 v4 _ _ _ _ _ _ hf hq hn _ (lv_sub hl [1, 2, 3, 4, 6] rfl)
          · have hf := zif_f c9 hf
            refine lv_aload_n (x := a0) hx hb dX4_rangeSum_94 rfl (lv_at hl 1 rfl) ?_
            refine zr_gP hc hn (ci := 3) rfl rfl in_X4 1 (by decide) q2100 (fun _ h => h) (fun _ _ _ => rfl) hf dX4_rangeSum_95 (fun x115 hf => ?_)
            refine lv_iload_n hx hb dX4_rangeSum_98 rfl (lv_at hl 2 rfl) ?_
            refine zr_cSI (As := [.int v1]) (rest := [va_rf x115, .int v4]) hc hn hq hd_X4_base (lw_S q2284 q2285 q91 q2286) (Nat.le_of_ble_eq_true rfl) (Nat.le_of_ble_eq_true rfl) (fun _ _ _ _ q => m_X4_base l D dA b0 gs h110 v1 q) hf dX4_rangeSum_99 hl.1 rfl rfl (zroom (Nat.le_of_ble_eq_true rfl)) (fun x116 h117 H locs cells slots C9 S9 hf hq hn => ?_)
            refine lv_bipush (v := (62 : Int32)) hx hb dX4_rangeSum_102 (by decide) ?_
            refine lv_iadd hx hb dX4_rangeSum_104 ?_
            refine zr_nmI hf (fun x118 hf => ?_)
            refine lv_iload hx hb dX4_rangeSum_105 (lv_at hl 6 rfl) ?_
            refine lv_iadd hx hb dX4_rangeSum_107 ?_
            refine zr_nmI hf (fun x119 hf => ?_)
            obtain ⟨a120, e9, hf9⟩ := znn_i hf
            subst e9
            have hf := hf9
            clear hf9
            refine zr_aI0 hc hn hf dX4_rangeSum_108 (fun x121 hf => ?_)
            refine lv_goto (tgt := 113) hx hb dX4_rangeSum_109 (by decide) ?_
            exact m_X4_rangeSum_b113 hc hr hin (f_X4_rangeSum_b41 n) ih h117 a0 v1 v2 v3 v5 v4 x121 _ _ _ _ _ _ hf hq hn _ (lv_sub hl [1, 2, 3, 4, 6] rfl)
set_option maxHeartbeats 4000000 in
set_option maxRecDepth 100000 in
theorem m_X4_rangeSum_b32 {p : Program} {l : Launch} {e : Env} {s : State} {m : MethodId} {args : Array Value} {below : List Frame} {meth : Method} {c : Code} {D : va_G} {dA : Nat → ClassId} {b0 : Nat} {gs : Nat → Option Nat} (hc : zC D dA b0 gs yX4_rangeSum.cls cX4_rangeSum 7 p c s m args meth) (hr : meth.sig.returnType = (some .int)) (hin : meth.name = yX4_rangeSum.name) {r : Int32} {hh : PH} {mc ms : Nat} : ∀ (h : PH) (a0 : Nat) (v1 : Int32) (v2 : Int32) (v3 : Int32) (s0 : Nat) (s1 : Int32) (C9 S9 : Nat) (H : Heap) (locs : List Loc) (cells slots : Nat), f_X4_rangeSum_b32 h a0 v1 v2 v3 s0 s1 = some (r, hh, C9, S9) → cells + C9 = mc ∧ slots + S9 = ms → zM D dA b0 gs s h H locs → ∀ ls : Array Slot, lv_has ls 7 [(0, .ref a0), (1, .int v1), (2, .int v2), (3, .int v3)] → W p l e ({ frames := 3, cells := mc, slots := ms, locals := 106 } : Room) s m args below meth c H locs cells slots (MQ below (zQ D dA b0 gs (evI r) hh) args s mc ms (zA b0)) (F0 m 32 ls [.int s1, .ref s0]) := by
  have hx := hc.x
  have hb := hc.b
  intro h a0 v1 v2 v3 s0 s1 C9 S9 H locs cells slots hf hq hn ls hl
  unfold f_X4_rangeSum_b32 at hf
  refine zr_pI (x := s1) hc hn (ci := 3) rfl rfl in_X4 0 (by decide) tyX4 tyX4_ok nmX4 q2099 (fun _ h => h) (Or.inl rfl) (fun _ _ _ => rfl) rfl rfl hf dX4_rangeSum_32 (fun h101 H locs hf hn => ?_)
  refine lv_iconst (v := (0 : Int32)) hx hb dX4_rangeSum_35 (by decide) ?_
  refine lv_istore (lv' := [(4, .int (0 : Int32)), (0, .ref a0), (1, .int v1), (2, .int v2), (3, .int v3)]) hx hb dX4_rangeSum_36 hl (by decide) rfl (fun ls hl => ?_)
  refine lv_iconst (v := (0 : Int32)) hx hb dX4_rangeSum_38 (by decide) ?_
  refine lv_istore (lv' := [(5, .int (0 : Int32)), (4, .int (0 : Int32)), (0, .ref a0), (1, .int v1), (2, .int v2), (3, .int v3)]) hx hb dX4_rangeSum_39 hl (by decide) rfl (fun ls hl => ?_)
  exact m_X4_rangeSum_b41 hc hr hin zFU h101 a0 v1 v2 v3 (0 : Int32) (0 : Int32) _ _ _ _ _ _ hf hq hn _ (lv_sub hl [2, 3, 4, 5, 1, 0] rfl)
set_option maxHeartbeats 4000000 in
set_option maxRecDepth 100000 in
theorem m_X4_rangeSum_b31 {p : Program} {l : Launch} {e : Env} {s : State} {m : MethodId} {args : Array Value} {below : List Frame} {meth : Method} {c : Code} {D : va_G} {dA : Nat → ClassId} {b0 : Nat} {gs : Nat → Option Nat} (hc : zC D dA b0 gs yX4_rangeSum.cls cX4_rangeSum 7 p c s m args meth) (hr : meth.sig.returnType = (some .int)) (hin : meth.name = yX4_rangeSum.name) {r : Int32} {hh : PH} {mc ms : Nat} : ∀ (h : PH) (a0 : Nat) (v1 : Int32) (v2 : Int32) (v3 : Int32) (s0 : Nat) (C9 S9 : Nat) (H : Heap) (locs : List Loc) (cells slots : Nat), f_X4_rangeSum_b31 h a0 v1 v2 v3 s0 = some (r, hh, C9, S9) → cells + C9 = mc ∧ slots + S9 = ms → zM D dA b0 gs s h H locs → ∀ ls : Array Slot, lv_has ls 7 [(0, .ref a0), (1, .int v1), (2, .int v2), (3, .int v3)] → W p l e ({ frames := 3, cells := mc, slots := ms, locals := 106 } : Room) s m args below meth c H locs cells slots (MQ below (zQ D dA b0 gs (evI r) hh) args s mc ms (zA b0)) (F0 m 31 ls [.ref s0]) := by
  have hx := hc.x
  have hb := hc.b
  intro h a0 v1 v2 v3 s0 C9 S9 H locs cells slots hf hq hn ls hl
  unfold f_X4_rangeSum_b31 at hf
  refine lv_iconst (v := (2 : Int32)) hx hb dX4_rangeSum_31 (by decide) ?_
  exact m_X4_rangeSum_b32 hc hr hin h a0 v1 v2 v3 s0 (2 : Int32) _ _ _ _ _ _ hf hq hn _ (lv_sub hl [0, 1, 2, 3] rfl)
set_option maxHeartbeats 4000000 in
set_option maxRecDepth 100000 in
theorem m_X4_rangeSum (l : Launch) (D : va_G) (dA : Nat → ClassId) (b0 : Nat) (gs : Nat → Option Nat) (h : PH) (a0 : Nat) (v1 : Int32) (v2 : Int32) (v3 : Int32) {r : Int32} {hh : PH} {mc ms : Nat} (hf : f_X4_rangeSum h a0 v1 v2 v3 = some (r, hh, mc, ms)) : zMt l D dA b0 gs yX4_rangeSum cX4_rangeSum 7 (some .int) 3 106 [.ref a0, .int v1, .int v2, .int v3] h (evI r) hh mc ms := by
  unfold f_X4_rangeSum at hf
  refine zMt.of (by decide) (Nat.le_of_ble_eq_true rfl) ?_
  intro p e s m args below meth c hc hr hin hn ls hl
  have hl : lv_has ls 7 [(0, .ref a0), (1, .int v1), (2, .int v2), (3, .int v3)] := hl
  have hq : 0 + mc = mc ∧ 0 + ms = ms := ⟨Nat.zero_add _, Nat.zero_add _⟩
  have hx := hc.x
  have hb := hc.b
  refine lv_aload_n (x := a0) hx hb dX4_rangeSum_0 rfl (lv_at hl 0 rfl) ?_
  refine lv_aload_n (x := a0) hx hb dX4_rangeSum_1 rfl (lv_at hl 0 rfl) ?_
  refine lv_iload_n hx hb dX4_rangeSum_2 rfl (lv_at hl 1 rfl) ?_
  refine zr_cVI (As := [.int v1]) (rest := [.ref a0]) hc hn hq (ci := 3) rfl ⟨rfl, hd_X4_isList⟩ (lw_V q2343 q2345 qs57 q91 q2346) (Nat.le_of_ble_eq_true rfl) (Nat.le_of_ble_eq_true rfl) (fun _ _ _ _ q => m_X4_isList l D dA b0 gs h a0 v1 q) hf dX4_rangeSum_3 hl.1 rfl rfl (zroom (Nat.le_of_ble_eq_true rfl)) (fun x101 h102 H locs cells slots C9 S9 hf hq hn => ?_)
  refine lv_if_ne (tgt := 13) hx hb dX4_rangeSum_6 (by decide) (fun c9 => ?_) (fun c9 => ?_)
  · have hf := zif_f c9 hf
    refine lv_iload_n hx hb dX4_rangeSum_13 rfl (lv_at hl 2 rfl) ?_
    refine zr_cSI (As := [.int v2]) (rest := [.ref a0]) hc hn hq hd_X4_isKey (lw_S q2384 q2385 q91 q2386) (Nat.le_of_ble_eq_true rfl) (Nat.le_of_ble_eq_true rfl) (fun _ _ _ _ q => m_X4_isKey l D dA b0 gs h102 v2 q) hf dX4_rangeSum_14 hl.1 rfl rfl (zroom (Nat.le_of_ble_eq_true rfl)) (fun x103 h104 H locs cells slots C9 S9 hf hq hn => ?_)
    refine lv_if_eq (tgt := 31) hx hb dX4_rangeSum_17 (by decide) (fun c9 => ?_) (fun c9 => ?_)
    · have hf := zif_t c9 hf
      exact m_X4_rangeSum_b31 hc hr hin h104 a0 v1 v2 v3 a0 _ _ _ _ _ _ hf hq hn _ (lv_sub hl [0, 1, 2, 3] rfl)
    · have hf := zif_f c9 hf
      refine lv_iload_n hx hb dX4_rangeSum_20 rfl (lv_at hl 3 rfl) ?_
      refine zr_cSI (As := [.int v3]) (rest := [.ref a0]) hc hn hq hd_X4_isKey (lw_S q2384 q2385 q91 q2386) (Nat.le_of_ble_eq_true rfl) (Nat.le_of_ble_eq_true rfl) (fun _ _ _ _ q => m_X4_isKey l D dA b0 gs h104 v3 q) hf dX4_rangeSum_21 hl.1 rfl rfl (zroom (Nat.le_of_ble_eq_true rfl)) (fun x105 h106 H locs cells slots C9 S9 hf hq hn => ?_)
      refine lv_if_eq (tgt := 31) hx hb dX4_rangeSum_24 (by decide) (fun c9 => ?_) (fun c9 => ?_)
      · have hf := zif_t c9 hf
        exact m_X4_rangeSum_b31 hc hr hin h106 a0 v1 v2 v3 a0 _ _ _ _ _ _ hf hq hn _ (lv_sub hl [0, 1, 2, 3] rfl)
      · have hf := zif_f c9 hf
        refine lv_iconst (v := (0 : Int32)) hx hb dX4_rangeSum_27 (by decide) ?_
        refine lv_goto (tgt := 32) hx hb dX4_rangeSum_28 (by decide) ?_
        exact m_X4_rangeSum_b32 hc hr hin h106 a0 v1 v2 v3 a0 (0 : Int32) _ _ _ _ _ _ hf hq hn _ (lv_sub hl [0, 1, 2, 3] rfl)
  · have hf := zif_t c9 hf
    refine lv_iconst (v := (1 : Int32)) hx hb dX4_rangeSum_9 (by decide) ?_
    refine lv_goto (tgt := 32) hx hb dX4_rangeSum_10 (by decide) ?_
    exact m_X4_rangeSum_b32 hc hr hin h102 a0 v1 v2 v3 a0 (1 : Int32) _ _ _ _ _ _ hf hq hn _ (lv_sub hl [0, 1, 2, 3] rfl)
theorem hd_X4_inRow : yX4_inRow.cls ≠ "java/lang/invoke/MethodHandle" ∧ yX4_inRow.cls ≠ "java/lang/invoke/VarHandle" ∧ (parseMethodDescriptor yX4_inRow.desc).map (fun d => d.parameters.length) = some 2 := by decide +kernel
def f_X4_inRow_b47 (k11 : PH → Nat → Int32 → Int32 → Int32 → Int32 → ZR Int32) (h : PH) (a0 : Nat) (v2 : Int32) (v3 : Int32) (v5 : Int32) (s0 : Int32) (s1 : Int32) : ZR Int32 :=
  znm (s0 + s1) fun x101 =>
  znm (v5 + (1 : Int32)) fun x102 =>
  k11 h a0 v2 v3 x101 x102
def f_X4_inRow_b11 : Nat → PH → Nat → Int32 → Int32 → Int32 → Int32 → ZR Int32
  | 0 => fun _ _ _ _ _ _ => none
  | n + 1 => fun h a0 v2 v3 v4 v5 =>
    zgP h a0 3 1 fun x101 =>
    znm (v3 + (1 : Int32)) fun x102 =>
    znn x101 fun a103 =>
    zaI h a103 0 x102 fun x104 =>
    if x104 ≤ v5 then
      (zret v4 h)
    else
      (zgP h a0 3 1 fun x105 =>
      znm (v3 + (122 : Int32)) fun x106 =>
      znm (x106 + v5) fun x107 =>
      znn x105 fun a108 =>
      zaI h a108 0 x107 fun x109 =>
      if x109 < v2 then
        (f_X4_inRow_b47 (f_X4_inRow_b11 n) h a0 v2 v3 v5 v4 (0 : Int32))
      else
        (f_X4_inRow_b47 (f_X4_inRow_b11 n) h a0 v2 v3 v5 v4 (1 : Int32)))
def f_X4_inRow (h : PH) (a0 : Nat) (v1 : Int32) (v2 : Int32) : ZR Int32 :=
  zcl (f_X4_base h v1) fun x101 h102 =>
  f_X4_inRow_b11 zFU h102 a0 v2 x101 (0 : Int32) (0 : Int32)
set_option maxHeartbeats 4000000 in
set_option maxRecDepth 100000 in
theorem m_X4_inRow_b47 {p : Program} {l : Launch} {e : Env} {s : State} {m : MethodId} {args : Array Value} {below : List Frame} {meth : Method} {c : Code} {D : va_G} {dA : Nat → ClassId} {b0 : Nat} {gs : Nat → Option Nat} (hc : zC D dA b0 gs yX4_inRow.cls cX4_inRow 6 p c s m args meth) (hr : meth.sig.returnType = (some .int)) (hin : meth.name = yX4_inRow.name) {r : Int32} {hh : PH} {mc ms : Nat} (k11 : PH → Nat → Int32 → Int32 → Int32 → Int32 → ZR Int32) (hk11 : ∀ (h : PH) (a0 : Nat) (v2 : Int32) (v3 : Int32) (v4 : Int32) (v5 : Int32) (C9 S9 : Nat) (H : Heap) (locs : List Loc) (cells slots : Nat), k11 h a0 v2 v3 v4 v5 = some (r, hh, C9, S9) → cells + C9 = mc ∧ slots + S9 = ms → zM D dA b0 gs s h H locs → ∀ ls : Array Slot, lv_has ls 6 [(0, .ref a0), (2, .int v2), (3, .int v3), (4, .int v4), (5, .int v5)] → W p l e ({ frames := 2, cells := mc, slots := ms, locals := 80 } : Room) s m args below meth c H locs cells slots (MQ below (zQ D dA b0 gs (evI r) hh) args s mc ms (zA b0)) (F0 m 11 ls [])) : ∀ (h : PH) (a0 : Nat) (v2 : Int32) (v3 : Int32) (v5 : Int32) (s0 : Int32) (s1 : Int32) (C9 S9 : Nat) (H : Heap) (locs : List Loc) (cells slots : Nat), f_X4_inRow_b47 k11 h a0 v2 v3 v5 s0 s1 = some (r, hh, C9, S9) → cells + C9 = mc ∧ slots + S9 = ms → zM D dA b0 gs s h H locs → ∀ ls : Array Slot, lv_has ls 6 [(0, .ref a0), (2, .int v2), (3, .int v3), (5, .int v5)] → W p l e ({ frames := 2, cells := mc, slots := ms, locals := 80 } : Room) s m args below meth c H locs cells slots (MQ below (zQ D dA b0 gs (evI r) hh) args s mc ms (zA b0)) (F0 m 47 ls [.int s1, .int s0]) := by
  have hx := hc.x
  have hb := hc.b
  intro h a0 v2 v3 v5 s0 s1 C9 S9 H locs cells slots hf hq hn ls hl
  unfold f_X4_inRow_b47 at hf
  refine lv_iadd hx hb dX4_inRow_47 ?_
  refine zr_nmI hf (fun x101 hf => ?_)
  refine lv_istore (lv' := [(4, .int x101), (0, .ref a0), (2, .int v2), (3, .int v3), (5, .int v5)]) hx hb dX4_inRow_48 hl (by decide) rfl (fun ls hl => ?_)
  obtain ⟨x102, ex102, hf⟩ := znm_i hf
  refine lv_iinc (v := x102) (lv' := [(5, .int x102), (4, .int x101), (0, .ref a0), (2, .int v2), (3, .int v3)]) hx hb dX4_inRow_50 hl (k := 4) rfl (by rw [ex102]; rfl) (by decide) rfl (fun ls hl => ?_)
  refine lv_goto (tgt := 11) hx hb dX4_inRow_53 (by decide) ?_
  exact hk11 h a0 v2 v3 x101 x102 _ _ _ _ _ _ hf hq hn _ (lv_sub hl [2, 3, 4, 1, 0] rfl)
set_option maxHeartbeats 4000000 in
set_option maxRecDepth 100000 in
theorem m_X4_inRow_b11 {p : Program} {l : Launch} {e : Env} {s : State} {m : MethodId} {args : Array Value} {below : List Frame} {meth : Method} {c : Code} {D : va_G} {dA : Nat → ClassId} {b0 : Nat} {gs : Nat → Option Nat} (hc : zC D dA b0 gs yX4_inRow.cls cX4_inRow 6 p c s m args meth) (hr : meth.sig.returnType = (some .int)) (hin : meth.name = yX4_inRow.name) {r : Int32} {hh : PH} {mc ms : Nat} : ∀ (n : Nat) (h : PH) (a0 : Nat) (v2 : Int32) (v3 : Int32) (v4 : Int32) (v5 : Int32) (C9 S9 : Nat) (H : Heap) (locs : List Loc) (cells slots : Nat), f_X4_inRow_b11 n h a0 v2 v3 v4 v5 = some (r, hh, C9, S9) → cells + C9 = mc ∧ slots + S9 = ms → zM D dA b0 gs s h H locs → ∀ ls : Array Slot, lv_has ls 6 [(0, .ref a0), (2, .int v2), (3, .int v3), (4, .int v4), (5, .int v5)] → W p l e ({ frames := 2, cells := mc, slots := ms, locals := 80 } : Room) s m args below meth c H locs cells slots (MQ below (zQ D dA b0 gs (evI r) hh) args s mc ms (zA b0)) (F0 m 11 ls []) := by
  have hx := hc.x
  have hb := hc.b
  intro n
  induction n with
  | zero =>
    intro h a0 v2 v3 v4 v5 C9 S9 H locs cells slots hf hq hn ls hl
    cases hf
  | succ n ih =>
    intro h a0 v2 v3 v4 v5 C9 S9 H locs cells slots hf hq hn ls hl
    unfold f_X4_inRow_b11 at hf
    refine lv_iload hx hb dX4_inRow_11 (lv_at hl 4 rfl) ?_
    refine lv_aload_n (x := a0) hx hb dX4_inRow_13 rfl (lv_at hl 0 rfl) ?_
    refine zr_gP hc hn (ci := 3) rfl rfl in_X4 1 (by decide) q2100 (fun _ h => h) (fun _ _ _ => rfl) hf dX4_inRow_14 (fun x101 hf => ?_)
    refine lv_iload_n hx hb dX4_inRow_17 rfl (lv_at hl 2 rfl) ?_
    refine lv_iconst (v := (1 : Int32)) hx hb dX4_inRow_18 (by decide) ?_
    refine lv_iadd hx hb dX4_inRow_19 ?_
    refine zr_nmI hf (fun x102 hf => ?_)
    obtain ⟨a103, e9, hf9⟩ := znn_i hf
    subst e9
    have hf := hf9
    clear hf9
    refine zr_aI0 hc hn hf dX4_inRow_20 (fun x104 hf => ?_)
    refine lv_icmp_ge (tgt := 56) hx hb dX4_inRow_21 (by decide) (fun c9 => ?_) (fun c9 => ?_)
    · have hf := zif_t c9 hf
      refine lv_iload hx hb dX4_inRow_56 (lv_at hl 3 rfl) ?_
      obtain ⟨rfl, rfl, rfl, rfl⟩ := zret_i hf
      exact zr_iret hc hn hr hq (fun _ _ _ _ q => q) dX4_inRow_58
    · have hf := zif_f c9 hf
      refine lv_iload hx hb dX4_inRow_24 (lv_at hl 3 rfl) ?_
      refine lv_aload_n (x := a0) hx hb dX4_inRow_26 rfl (lv_at hl 0 rfl) ?_
      refine zr_gP hc hn (ci := 3) rfl rfl in_X4 1 (by decide) q2100 (fun _ h => h) (fun _ _ _ => rfl) hf dX4_inRow_27 (fun x105 hf => ?_)
      refine lv_iload_n hx hb dX4_inRow_30 rfl (lv_at hl 2 rfl) ?_
      refine lv_bipush (v := (122 : Int32)) hx hb dX4_inRow_31 (by decide) ?_
      refine lv_iadd hx hb dX4_inRow_33 ?_
      refine zr_nmI hf (fun x106 hf => ?_)
      refine lv_iload hx hb dX4_inRow_34 (lv_at hl 4 rfl) ?_
      refine lv_iadd hx hb dX4_inRow_36 ?_
      refine zr_nmI hf (fun x107 hf => ?_)
      obtain ⟨a108, e9, hf9⟩ := znn_i hf
      subst e9
      have hf := hf9
      clear hf9
      refine zr_aI0 hc hn hf dX4_inRow_37 (fun x109 hf => ?_)
      refine lv_iload_n hx hb dX4_inRow_38 rfl (lv_at hl 1 rfl) ?_
      refine lv_icmp_lt (tgt := 46) hx hb dX4_inRow_39 (by decide) (fun c9 => ?_) (fun c9 => ?_)
      · have hf := zif_t c9 hf
        refine lv_iconst (v := (0 : Int32)) hx hb dX4_inRow_46 (by decide) ?_
        exact m_X4_inRow_b47 hc hr hin (f_X4_inRow_b11 n) ih h a0 v2 v3 v5 v4 (0 : Int32) _ _ _ _ _ _ hf hq hn _ (lv_sub hl [0, 1, 2, 4] rfl)
      · have hf := zif_f c9 hf
        refine lv_iconst (v := (1 : Int32)) hx hb dX4_inRow_42 (by decide) ?_
        refine lv_goto (tgt := 47) hx hb dX4_inRow_43 (by decide) ?_
        exact m_X4_inRow_b47 hc hr hin (f_X4_inRow_b11 n) ih h a0 v2 v3 v5 v4 (1 : Int32) _ _ _ _ _ _ hf hq hn _ (lv_sub hl [0, 1, 2, 4] rfl)
set_option maxHeartbeats 4000000 in
set_option maxRecDepth 100000 in
theorem m_X4_inRow (l : Launch) (D : va_G) (dA : Nat → ClassId) (b0 : Nat) (gs : Nat → Option Nat) (h : PH) (a0 : Nat) (v1 : Int32) (v2 : Int32) {r : Int32} {hh : PH} {mc ms : Nat} (hf : f_X4_inRow h a0 v1 v2 = some (r, hh, mc, ms)) : zMt l D dA b0 gs yX4_inRow cX4_inRow 6 (some .int) 2 80 [.ref a0, .int v1, .int v2] h (evI r) hh mc ms := by
  unfold f_X4_inRow at hf
  refine zMt.of (by decide) (Nat.le_of_ble_eq_true rfl) ?_
  intro p e s m args below meth c hc hr hin hn ls hl
  have hl : lv_has ls 6 [(0, .ref a0), (1, .int v1), (2, .int v2)] := hl
  have hq : 0 + mc = mc ∧ 0 + ms = ms := ⟨Nat.zero_add _, Nat.zero_add _⟩
  have hx := hc.x
  have hb := hc.b
  refine lv_iload_n hx hb dX4_inRow_0 rfl (lv_at hl 1 rfl) ?_
  refine zr_cSI (As := [.int v1]) (rest := []) hc hn hq hd_X4_base (lw_S q2284 q2285 q91 q2286) (Nat.le_of_ble_eq_true rfl) (Nat.le_of_ble_eq_true rfl) (fun _ _ _ _ q => m_X4_base l D dA b0 gs h v1 q) hf dX4_inRow_1 hl.1 rfl rfl (zroom (Nat.le_of_ble_eq_true rfl)) (fun x101 h102 H locs cells slots C9 S9 hf hq hn => ?_)
  refine lv_istore_n (i := 3) (lv' := [(3, .int x101), (0, .ref a0), (1, .int v1), (2, .int v2)]) hx hb dX4_inRow_4 rfl hl (by decide) rfl (fun ls hl => ?_)
  refine lv_iconst (v := (0 : Int32)) hx hb dX4_inRow_5 (by decide) ?_
  refine lv_istore (lv' := [(4, .int (0 : Int32)), (3, .int x101), (0, .ref a0), (1, .int v1), (2, .int v2)]) hx hb dX4_inRow_6 hl (by decide) rfl (fun ls hl => ?_)
  refine lv_iconst (v := (0 : Int32)) hx hb dX4_inRow_8 (by decide) ?_
  refine lv_istore (lv' := [(5, .int (0 : Int32)), (4, .int (0 : Int32)), (3, .int x101), (0, .ref a0), (1, .int v1), (2, .int v2)]) hx hb dX4_inRow_9 hl (by decide) rfl (fun ls hl => ?_)
  exact m_X4_inRow_b11 hc hr hin zFU h102 a0 v2 x101 (0 : Int32) (0 : Int32) _ _ _ _ _ _ hf hq hn _ (lv_sub hl [3, 5, 2, 1, 0] rfl)
