/-! 21.modelA (written by gen/mods.py) -/
set_option maxRecDepth 100000
theorem hd_X4_init : yX4_init.cls ≠ "java/lang/invoke/MethodHandle" ∧ yX4_init.cls ≠ "java/lang/invoke/VarHandle" ∧ (parseMethodDescriptor yX4_init.desc).map (fun d => d.parameters.length) = some 0 := by decide +kernel
def f_X4_init (h : PH) (a0 : Nat) : ZR Unit :=
  zna h 0 (4100 : Int32) fun a101 h102 =>
  zpP h102 a0 3 1 (some a101) fun h103 =>
  zna h103 3 (6 : Int32) fun a104 h105 =>
  zpP h105 a0 3 2 (some a104) fun h106 =>
  zna h106 0 (41000 : Int32) fun a107 h108 =>
  zpP h108 a0 3 3 (some a107) fun h109 =>
  zna h109 3 (60 : Int32) fun a110 h111 =>
  zpP h111 a0 3 4 (some a110) fun h112 =>
  zna h112 0 (8200 : Int32) fun a113 h114 =>
  zpP h114 a0 3 5 (some a113) fun h115 =>
  zna h115 3 (12 : Int32) fun a116 h117 =>
  zpP h117 a0 3 6 (some a116) fun h118 =>
  zna h118 0 (4100 : Int32) fun a119 h120 =>
  zpP h120 a0 3 7 (some a119) fun h121 =>
  zna h121 3 (6 : Int32) fun a122 h123 =>
  zpP h123 a0 3 8 (some a122) fun h124 =>
  zna h124 1 (2 : Int32) fun a125 h126 =>
  zpP h126 a0 3 9 (some a125) fun h127 =>
  zna h127 0 (182 : Int32) fun a128 h129 =>
  zpP h129 a0 3 11 (some a128) fun h130 =>
  zna h130 0 (1000 : Int32) fun a131 h132 =>
  zpP h132 a0 3 12 (some a131) fun h133 =>
  zpI h133 a0 3 16 (-1 : Int32) fun h134 =>
  zna h134 3 (6 : Int32) fun a135 h136 =>
  zpP h136 a0 3 23 (some a135) fun h137 =>
  zna h137 0 (6 : Int32) fun a138 h139 =>
  zpP h139 a0 3 24 (some a138) fun h140 =>
  zna h140 0 (360 : Int32) fun a141 h142 =>
  zpP h142 a0 3 25 (some a141) fun h143 =>
  zna h143 0 (360 : Int32) fun a144 h145 =>
  zpP h145 a0 3 26 (some a144) fun h146 =>
  zgP h146 a0 3 1 fun x147 =>
  znn x147 fun a148 =>
  zsI h146 a148 0 (0 : Int32) (3 : Int32) fun h149 =>
  zret () h149
set_option maxHeartbeats 4000000 in
set_option maxRecDepth 100000 in
theorem m_X4_init (l : Launch) (D : va_G) (dA : Nat → ClassId) (b0 : Nat) (gs : Nat → Option Nat) (h : PH) (a0 : Nat) {r : Unit} {hh : PH} {mc ms : Nat} (hf : f_X4_init h a0 = some (r, hh, mc, ms)) : zMt l D dA b0 gs yX4_init cX4_init 1 none 1 60 [.ref a0] h (evU r) hh mc ms := by
  unfold f_X4_init at hf
  refine zMt.of (by decide) (Nat.le_of_ble_eq_true rfl) ?_
  intro p e s m args below meth c hc hr hin hn ls hl
  have hl : lv_has ls 1 [(0, .ref a0)] := hl
  have hq : 0 + mc = mc ∧ 0 + ms = ms := ⟨Nat.zero_add _, Nat.zero_add _⟩
  have hx := hc.x
  have hb := hc.b
  refine lv_aload_n (x := a0) hx hb dX4_init_0 rfl (lv_at hl 0 rfl) ?_
  refine W.objInit hx hb hc.ow (hc.ts _ q2097) (hc.ts _ q137) (hc.ts _ q138) rfl (by rw [hc.ml]; exact hl.1) rfl dX4_init_1 (Nat.le_of_ble_eq_true rfl) (zroomL (Nat.le_of_ble_eq_true rfl) (Nat.le_of_ble_eq_true rfl)) ?_
  refine W.eq (g2 := F0 m 4 ls []) rfl ?_
  refine lv_aload_n (x := a0) hx hb dX4_init_4 rfl (lv_at hl 0 rfl) ?_
  refine lv_sipush (v := (4100 : Int32)) hx hb dX4_init_5 (by decide) ?_
  refine zr_na0 hc hn hq q180 hf dX4_init_8 (fun a101 h102 H cells slots C9 S9 hf hq hn => ?_)
  refine zr_pP (x := (some a101)) hc hn (ci := 3) rfl rfl in_X4 1 (by decide) tyX4 tyX4_ok nmX4 q2100 (fun _ h => h) (Or.inr ⟨rfl, hin, rfl⟩) (fun _ _ _ => rfl) (zn_rf _ (by decide)) (zf_rf _ (by decide)) hf dX4_init_10 (fun h103 H locs hf hn => ?_)
  refine lv_aload_n (x := a0) hx hb dX4_init_13 rfl (lv_at hl 0 rfl) ?_
  refine lv_bipush (v := (6 : Int32)) hx hb dX4_init_14 (by decide) ?_
  refine zr_na3 hc hn hq q2193 hf dX4_init_16 (fun a104 h105 H cells slots C9 S9 hf hq hn => ?_)
  refine zr_pP (x := (some a104)) hc hn (ci := 3) rfl rfl in_X4 2 (by decide) tyX4 tyX4_ok nmX4 q2101 (fun _ h => h) (Or.inr ⟨rfl, hin, rfl⟩) (fun _ _ _ => rfl) (zn_rf _ (by decide)) (zf_rf _ (by decide)) hf dX4_init_18 (fun h106 H locs hf hn => ?_)
  refine lv_aload_n (x := a0) hx hb dX4_init_21 rfl (lv_at hl 0 rfl) ?_
  refine lv_ldc (v := (41000 : Int32)) hx hb hc.ow (hc.ts _ q2098) dX4_init_22 ?_
  refine zr_na0 hc hn hq q180 hf dX4_init_24 (fun a107 h108 H cells slots C9 S9 hf hq hn => ?_)
  refine zr_pP (x := (some a107)) hc hn (ci := 3) rfl rfl in_X4 3 (by decide) tyX4 tyX4_ok nmX4 q2102 (fun _ h => h) (Or.inr ⟨rfl, hin, rfl⟩) (fun _ _ _ => rfl) (zn_rf _ (by decide)) (zf_rf _ (by decide)) hf dX4_init_26 (fun h109 H locs hf hn => ?_)
  refine lv_aload_n (x := a0) hx hb dX4_init_29 rfl (lv_at hl 0 rfl) ?_
  refine lv_bipush (v := (60 : Int32)) hx hb dX4_init_30 (by decide) ?_
  refine zr_na3 hc hn hq q2193 hf dX4_init_32 (fun a110 h111 H cells slots C9 S9 hf hq hn => ?_)
  refine zr_pP (x := (some a110)) hc hn (ci := 3) rfl rfl in_X4 4 (by decide) tyX4 tyX4_ok nmX4 q2103 (fun _ h => h) (Or.inr ⟨rfl, hin, rfl⟩) (fun _ _ _ => rfl) (zn_rf _ (by decide)) (zf_rf _ (by decide)) hf dX4_init_34 (fun h112 H locs hf hn => ?_)
  refine lv_aload_n (x := a0) hx hb dX4_init_37 rfl (lv_at hl 0 rfl) ?_
  refine lv_sipush (v := (8200 : Int32)) hx hb dX4_init_38 (by decide) ?_
  refine zr_na0 hc hn hq q180 hf dX4_init_41 (fun a113 h114 H cells slots C9 S9 hf hq hn => ?_)
  refine zr_pP (x := (some a113)) hc hn (ci := 3) rfl rfl in_X4 5 (by decide) tyX4 tyX4_ok nmX4 q2104 (fun _ h => h) (Or.inr ⟨rfl, hin, rfl⟩) (fun _ _ _ => rfl) (zn_rf _ (by decide)) (zf_rf _ (by decide)) hf dX4_init_43 (fun h115 H locs hf hn => ?_)
  refine lv_aload_n (x := a0) hx hb dX4_init_46 rfl (lv_at hl 0 rfl) ?_
  refine lv_bipush (v := (12 : Int32)) hx hb dX4_init_47 (by decide) ?_
  refine zr_na3 hc hn hq q2193 hf dX4_init_49 (fun a116 h117 H cells slots C9 S9 hf hq hn => ?_)
  refine zr_pP (x := (some a116)) hc hn (ci := 3) rfl rfl in_X4 6 (by decide) tyX4 tyX4_ok nmX4 q2105 (fun _ h => h) (Or.inr ⟨rfl, hin, rfl⟩) (fun _ _ _ => rfl) (zn_rf _ (by decide)) (zf_rf _ (by decide)) hf dX4_init_51 (fun h118 H locs hf hn => ?_)
  refine lv_aload_n (x := a0) hx hb dX4_init_54 rfl (lv_at hl 0 rfl) ?_
  refine lv_sipush (v := (4100 : Int32)) hx hb dX4_init_55 (by decide) ?_
  refine zr_na0 hc hn hq q180 hf dX4_init_58 (fun a119 h120 H cells slots C9 S9 hf hq hn => ?_)
  refine zr_pP (x := (some a119)) hc hn (ci := 3) rfl rfl in_X4 7 (by decide) tyX4 tyX4_ok nmX4 q2106 (fun _ h => h) (Or.inr ⟨rfl, hin, rfl⟩) (fun _ _ _ => rfl) (zn_rf _ (by decide)) (zf_rf _ (by decide)) hf dX4_init_60 (fun h121 H locs hf hn => ?_)
  refine lv_aload_n (x := a0) hx hb dX4_init_63 rfl (lv_at hl 0 rfl) ?_
  refine lv_bipush (v := (6 : Int32)) hx hb dX4_init_64 (by decide) ?_
  refine zr_na3 hc hn hq q2193 hf dX4_init_66 (fun a122 h123 H cells slots C9 S9 hf hq hn => ?_)
  refine zr_pP (x := (some a122)) hc hn (ci := 3) rfl rfl in_X4 8 (by decide) tyX4 tyX4_ok nmX4 q2107 (fun _ h => h) (Or.inr ⟨rfl, hin, rfl⟩) (fun _ _ _ => rfl) (zn_rf _ (by decide)) (zf_rf _ (by decide)) hf dX4_init_68 (fun h124 H locs hf hn => ?_)
  refine lv_aload_n (x := a0) hx hb dX4_init_71 rfl (lv_at hl 0 rfl) ?_
  refine lv_iconst (v := (2 : Int32)) hx hb dX4_init_72 (by decide) ?_
  refine zr_na1 hc hn hq q2194 hf dX4_init_73 (fun a125 h126 H cells slots C9 S9 hf hq hn => ?_)
  refine zr_pP (x := (some a125)) hc hn (ci := 3) rfl rfl in_X4 9 (by decide) tyX4 tyX4_ok nmX4 q2108 (fun _ h => h) (Or.inr ⟨rfl, hin, rfl⟩) (fun _ _ _ => rfl) (zn_rf _ (by decide)) (zf_rf _ (by decide)) hf dX4_init_75 (fun h127 H locs hf hn => ?_)
  refine lv_aload_n (x := a0) hx hb dX4_init_78 rfl (lv_at hl 0 rfl) ?_
  refine lv_sipush (v := (182 : Int32)) hx hb dX4_init_79 (by decide) ?_
  refine zr_na0 hc hn hq q180 hf dX4_init_82 (fun a128 h129 H cells slots C9 S9 hf hq hn => ?_)
  refine zr_pP (x := (some a128)) hc hn (ci := 3) rfl rfl in_X4 11 (by decide) tyX4 tyX4_ok nmX4 q2110 (fun _ h => h) (Or.inr ⟨rfl, hin, rfl⟩) (fun _ _ _ => rfl) (zn_rf _ (by decide)) (zf_rf _ (by decide)) hf dX4_init_84 (fun h130 H locs hf hn => ?_)
  refine lv_aload_n (x := a0) hx hb dX4_init_87 rfl (lv_at hl 0 rfl) ?_
  refine lv_sipush (v := (1000 : Int32)) hx hb dX4_init_88 (by decide) ?_
  refine zr_na0 hc hn hq q180 hf dX4_init_91 (fun a131 h132 H cells slots C9 S9 hf hq hn => ?_)
  refine zr_pP (x := (some a131)) hc hn (ci := 3) rfl rfl in_X4 12 (by decide) tyX4 tyX4_ok nmX4 q2111 (fun _ h => h) (Or.inr ⟨rfl, hin, rfl⟩) (fun _ _ _ => rfl) (zn_rf _ (by decide)) (zf_rf _ (by decide)) hf dX4_init_93 (fun h133 H locs hf hn => ?_)
  refine lv_aload_n (x := a0) hx hb dX4_init_96 rfl (lv_at hl 0 rfl) ?_
  refine lv_iconst (v := (-1 : Int32)) hx hb dX4_init_97 (by decide) ?_
  refine zr_pI (x := (-1 : Int32)) hc hn (ci := 3) rfl rfl in_X4 16 (by decide) tyX4 tyX4_ok nmX4 q2115 (fun _ h => h) (Or.inl rfl) (fun _ _ _ => rfl) rfl rfl hf dX4_init_98 (fun h134 H locs hf hn => ?_)
  refine lv_aload_n (x := a0) hx hb dX4_init_101 rfl (lv_at hl 0 rfl) ?_
  refine lv_bipush (v := (6 : Int32)) hx hb dX4_init_102 (by decide) ?_
  refine zr_na3 hc hn hq q2193 hf dX4_init_104 (fun a135 h136 H cells slots C9 S9 hf hq hn => ?_)
  refine zr_pP (x := (some a135)) hc hn (ci := 3) rfl rfl in_X4 23 (by decide) tyX4 tyX4_ok nmX4 q2122 (fun _ h => h) (Or.inr ⟨rfl, hin, rfl⟩) (fun _ _ _ => rfl) (zn_rf _ (by decide)) (zf_rf _ (by decide)) hf dX4_init_106 (fun h137 H locs hf hn => ?_)
  refine lv_aload_n (x := a0) hx hb dX4_init_109 rfl (lv_at hl 0 rfl) ?_
  refine lv_bipush (v := (6 : Int32)) hx hb dX4_init_110 (by decide) ?_
  refine zr_na0 hc hn hq q180 hf dX4_init_112 (fun a138 h139 H cells slots C9 S9 hf hq hn => ?_)
  refine zr_pP (x := (some a138)) hc hn (ci := 3) rfl rfl in_X4 24 (by decide) tyX4 tyX4_ok nmX4 q2123 (fun _ h => h) (Or.inr ⟨rfl, hin, rfl⟩) (fun _ _ _ => rfl) (zn_rf _ (by decide)) (zf_rf _ (by decide)) hf dX4_init_114 (fun h140 H locs hf hn => ?_)
  refine lv_aload_n (x := a0) hx hb dX4_init_117 rfl (lv_at hl 0 rfl) ?_
  refine lv_sipush (v := (360 : Int32)) hx hb dX4_init_118 (by decide) ?_
  refine zr_na0 hc hn hq q180 hf dX4_init_121 (fun a141 h142 H cells slots C9 S9 hf hq hn => ?_)
  refine zr_pP (x := (some a141)) hc hn (ci := 3) rfl rfl in_X4 25 (by decide) tyX4 tyX4_ok nmX4 q2124 (fun _ h => h) (Or.inr ⟨rfl, hin, rfl⟩) (fun _ _ _ => rfl) (zn_rf _ (by decide)) (zf_rf _ (by decide)) hf dX4_init_123 (fun h143 H locs hf hn => ?_)
  refine lv_aload_n (x := a0) hx hb dX4_init_126 rfl (lv_at hl 0 rfl) ?_
  refine lv_sipush (v := (360 : Int32)) hx hb dX4_init_127 (by decide) ?_
  refine zr_na0 hc hn hq q180 hf dX4_init_130 (fun a144 h145 H cells slots C9 S9 hf hq hn => ?_)
  refine zr_pP (x := (some a144)) hc hn (ci := 3) rfl rfl in_X4 26 (by decide) tyX4 tyX4_ok nmX4 q2125 (fun _ h => h) (Or.inr ⟨rfl, hin, rfl⟩) (fun _ _ _ => rfl) (zn_rf _ (by decide)) (zf_rf _ (by decide)) hf dX4_init_132 (fun h146 H locs hf hn => ?_)
  refine lv_aload_n (x := a0) hx hb dX4_init_135 rfl (lv_at hl 0 rfl) ?_
  refine zr_gP hc hn (ci := 3) rfl rfl in_X4 1 (by decide) q2100 (fun _ h => h) (fun _ _ _ => rfl) hf dX4_init_136 (fun x147 hf => ?_)
  refine lv_iconst (v := (0 : Int32)) hx hb dX4_init_139 (by decide) ?_
  refine lv_iconst (v := (3 : Int32)) hx hb dX4_init_140 (by decide) ?_
  obtain ⟨a148, e9, hf9⟩ := znn_i hf
  subst e9
  have hf := hf9
  clear hf9
  refine zr_sI hc hn hf dX4_init_141 (fun h149 H locs hf hn => ?_)
  obtain ⟨rfl, rfl, rfl, rfl⟩ := zret_i hf
  exact zr_vret hc hn hr hq (fun _ _ _ _ q => q) dX4_init_142
theorem hd_X4_thrown : yX4_thrown.cls ≠ "java/lang/invoke/MethodHandle" ∧ yX4_thrown.cls ≠ "java/lang/invoke/VarHandle" ∧ (parseMethodDescriptor yX4_thrown.desc).map (fun d => d.parameters.length) = some 0 := by decide +kernel
def f_X4_thrown (h : PH) (a0 : Nat) : ZR Int32 :=
  zgI h a0 3 0 fun x101 =>
  zret x101 h
set_option maxHeartbeats 4000000 in
set_option maxRecDepth 100000 in
theorem m_X4_thrown (l : Launch) (D : va_G) (dA : Nat → ClassId) (b0 : Nat) (gs : Nat → Option Nat) (h : PH) (a0 : Nat) {r : Int32} {hh : PH} {mc ms : Nat} (hf : f_X4_thrown h a0 = some (r, hh, mc, ms)) : zMt l D dA b0 gs yX4_thrown cX4_thrown 1 (some .int) 1 60 [.ref a0] h (evI r) hh mc ms := by
  unfold f_X4_thrown at hf
  refine zMt.of (by decide) (Nat.le_of_ble_eq_true rfl) ?_
  intro p e s m args below meth c hc hr hin hn ls hl
  have hl : lv_has ls 1 [(0, .ref a0)] := hl
  have hq : 0 + mc = mc ∧ 0 + ms = ms := ⟨Nat.zero_add _, Nat.zero_add _⟩
  have hx := hc.x
  have hb := hc.b
  refine lv_aload_n (x := a0) hx hb dX4_thrown_0 rfl (lv_at hl 0 rfl) ?_
  refine zr_gI hc hn (ci := 3) rfl rfl in_X4 0 (by decide) q2099 (fun _ h => h) (fun _ _ _ => rfl) hf dX4_thrown_1 (fun x101 hf => ?_)
  obtain ⟨rfl, rfl, rfl, rfl⟩ := zret_i hf
  exact zr_iret hc hn hr hq (fun _ _ _ _ q => q) dX4_thrown_4
theorem hd_X4_bytes : yX4_bytes.cls ≠ "java/lang/invoke/MethodHandle" ∧ yX4_bytes.cls ≠ "java/lang/invoke/VarHandle" ∧ (parseMethodDescriptor yX4_bytes.desc).map (fun d => d.parameters.length) = some 1 := by decide +kernel
def f_X4_bytes_b3 : Nat → PH → Nat → Int32 → Int32 → ZR Unit
  | 0 => fun _ _ _ _ => none
  | n + 1 => fun h a0 v1 v2 =>
    if v2 < 0 then
      (zret () h)
    else
      (zgP h a0 3 12 fun x101 =>
      zgI h a0 3 13 fun x102 =>
      znm (v1 >>> (v2 &&& 31)) fun x103 =>
      znm (x103 &&& (255 : Int32)) fun x104 =>
      znn x101 fun a105 =>
      zsI h a105 0 x102 x104 fun h106 =>
      zgI h106 a0 3 13 fun x107 =>
      znm (x107 + (1 : Int32)) fun x108 =>
      zpI h106 a0 3 13 x108 fun h109 =>
      znm (v2 + (-8 : Int32)) fun x110 =>
      f_X4_bytes_b3 n h109 a0 v1 x110)
def f_X4_bytes (h : PH) (a0 : Nat) (v1 : Int32) : ZR Unit :=
  f_X4_bytes_b3 zFU h a0 v1 (24 : Int32)
set_option maxHeartbeats 4000000 in
set_option maxRecDepth 100000 in
theorem m_X4_bytes_b3 {p : Program} {l : Launch} {e : Env} {s : State} {m : MethodId} {args : Array Value} {below : List Frame} {meth : Method} {c : Code} {D : va_G} {dA : Nat → ClassId} {b0 : Nat} {gs : Nat → Option Nat} (hc : zC D dA b0 gs yX4_bytes.cls cX4_bytes 3 p c s m args meth) (hr : meth.sig.returnType = none) (hin : meth.name = yX4_bytes.name) {r : Unit} {hh : PH} {mc ms : Nat} : ∀ (n : Nat) (h : PH) (a0 : Nat) (v1 : Int32) (v2 : Int32) (C9 S9 : Nat) (H : Heap) (locs : List Loc) (cells slots : Nat), f_X4_bytes_b3 n h a0 v1 v2 = some (r, hh, C9, S9) → cells + C9 = mc ∧ slots + S9 = ms → zM D dA b0 gs s h H locs → ∀ ls : Array Slot, lv_has ls 3 [(0, .ref a0), (1, .int v1), (2, .int v2)] → W p l e ({ frames := 1, cells := mc, slots := ms, locals := 60 } : Room) s m args below meth c H locs cells slots (MQ below (zQ D dA b0 gs (evU r) hh) args s mc ms (zA b0)) (F0 m 3 ls []) := by
  have hx := hc.x
  have hb := hc.b
  intro n
  induction n with
  | zero =>
    intro h a0 v1 v2 C9 S9 H locs cells slots hf hq hn ls hl
    cases hf
  | succ n ih =>
    intro h a0 v1 v2 C9 S9 H locs cells slots hf hq hn ls hl
    unfold f_X4_bytes_b3 at hf
    refine lv_iload_n hx hb dX4_bytes_3 rfl (lv_at hl 2 rfl) ?_
    refine lv_if_lt (tgt := 39) hx hb dX4_bytes_4 (by decide) (fun c9 => ?_) (fun c9 => ?_)
    · have hf := zif_t c9 hf
      obtain ⟨rfl, rfl, rfl, rfl⟩ := zret_i hf
      exact zr_vret hc hn hr hq (fun _ _ _ _ q => q) dX4_bytes_39
    · have hf := zif_f c9 hf
      refine lv_aload_n (x := a0) hx hb dX4_bytes_7 rfl (lv_at hl 0 rfl) ?_
      refine zr_gP hc hn (ci := 3) rfl rfl in_X4 12 (by decide) q2111 (fun _ h => h) (fun _ _ _ => rfl) hf dX4_bytes_8 (fun x101 hf => ?_)
      refine lv_aload_n (x := a0) hx hb dX4_bytes_11 rfl (lv_at hl 0 rfl) ?_
      refine zr_gI hc hn (ci := 3) rfl rfl in_X4 13 (by decide) q2112 (fun _ h => h) (fun _ _ _ => rfl) hf dX4_bytes_12 (fun x102 hf => ?_)
      refine lv_iload_n hx hb dX4_bytes_15 rfl (lv_at hl 1 rfl) ?_
      refine lv_iload_n hx hb dX4_bytes_16 rfl (lv_at hl 2 rfl) ?_
      refine lv_ishr hx hb dX4_bytes_17 ?_
      refine zr_nmI hf (fun x103 hf => ?_)
      refine lv_sipush (v := (255 : Int32)) hx hb dX4_bytes_18 (by decide) ?_
      refine lv_iand hx hb dX4_bytes_21 ?_
      refine zr_nmI hf (fun x104 hf => ?_)
      obtain ⟨a105, e9, hf9⟩ := znn_i hf
      subst e9
      have hf := hf9
      clear hf9
      refine zr_sI hc hn hf dX4_bytes_22 (fun h106 H locs hf hn => ?_)
      refine lv_aload_n (x := a0) hx hb dX4_bytes_23 rfl (lv_at hl 0 rfl) ?_
      refine lv_dup hx hb dX4_bytes_24 rfl ?_
      refine zr_gI hc hn (ci := 3) rfl rfl in_X4 13 (by decide) q2112 (fun _ h => h) (fun _ _ _ => rfl) hf dX4_bytes_25 (fun x107 hf => ?_)
      refine lv_iconst (v := (1 : Int32)) hx hb dX4_bytes_28 (by decide) ?_
      refine lv_iadd hx hb dX4_bytes_29 ?_
      refine zr_nmI hf (fun x108 hf => ?_)
      refine zr_pI (x := x108) hc hn (ci := 3) rfl rfl in_X4 13 (by decide) tyX4 tyX4_ok nmX4 q2112 (fun _ h => h) (Or.inl rfl) (fun _ _ _ => rfl) rfl rfl hf dX4_bytes_30 (fun h109 H locs hf hn => ?_)
      obtain ⟨x110, ex110, hf⟩ := znm_i hf
      refine lv_iinc (v := x110) (lv' := [(2, .int x110), (0, .ref a0), (1, .int v1)]) hx hb dX4_bytes_33 hl (k := 2) rfl (by rw [ex110]; rfl) (by decide) rfl (fun ls hl => ?_)
      refine lv_goto (tgt := 3) hx hb dX4_bytes_36 (by decide) ?_
      exact ih h109 a0 v1 x110 _ _ _ _ _ _ hf hq hn _ (lv_sub hl [1, 2, 0] rfl)
set_option maxHeartbeats 4000000 in
set_option maxRecDepth 100000 in
theorem m_X4_bytes (l : Launch) (D : va_G) (dA : Nat → ClassId) (b0 : Nat) (gs : Nat → Option Nat) (h : PH) (a0 : Nat) (v1 : Int32) {r : Unit} {hh : PH} {mc ms : Nat} (hf : f_X4_bytes h a0 v1 = some (r, hh, mc, ms)) : zMt l D dA b0 gs yX4_bytes cX4_bytes 3 none 1 60 [.ref a0, .int v1] h (evU r) hh mc ms := by
  unfold f_X4_bytes at hf
  refine zMt.of (by decide) (Nat.le_of_ble_eq_true rfl) ?_
  intro p e s m args below meth c hc hr hin hn ls hl
  have hl : lv_has ls 3 [(0, .ref a0), (1, .int v1)] := hl
  have hq : 0 + mc = mc ∧ 0 + ms = ms := ⟨Nat.zero_add _, Nat.zero_add _⟩
  have hx := hc.x
  have hb := hc.b
  refine lv_bipush (v := (24 : Int32)) hx hb dX4_bytes_0 (by decide) ?_
  refine lv_istore_n (i := 2) (lv' := [(2, .int (24 : Int32)), (0, .ref a0), (1, .int v1)]) hx hb dX4_bytes_2 rfl hl (by decide) rfl (fun ls hl => ?_)
  exact m_X4_bytes_b3 hc hr hin zFU h a0 v1 (24 : Int32) _ _ _ _ _ _ hf hq hn _ (lv_sub hl [1, 2, 0] rfl)
theorem hd_X4_append : yX4_append.cls ≠ "java/lang/invoke/MethodHandle" ∧ yX4_append.cls ≠ "java/lang/invoke/VarHandle" ∧ (parseMethodDescriptor yX4_append.desc).map (fun d => d.parameters.length) = some 5 := by decide +kernel
def f_X4_append_b19 (h : PH) (a0 : Nat) (v1 : Int32) (v2 : Int32) (v3 : Int32) (v4 : Int32) (v5 : Int32) (s0 : Nat) (s1 : Int32) : ZR Int32 :=
  zpI h s0 3 0 s1 fun h101 =>
  zgI h101 a0 3 0 fun x102 =>
  if x102 ≤ 0 then
    (zrc h101 a0 3 <| zcl (f_X4_bytes h101 a0 v1) fun _ h104 =>
    zrc h104 a0 3 <| zcl (f_X4_bytes h104 a0 v2) fun _ h106 =>
    zrc h106 a0 3 <| zcl (f_X4_bytes h106 a0 v3) fun _ h108 =>
    zrc h108 a0 3 <| zcl (f_X4_bytes h108 a0 v4) fun _ h110 =>
    zrc h110 a0 3 <| zcl (f_X4_bytes h110 a0 v5) fun _ h112 =>
    zgI h112 a0 3 13 fun x113 =>
    zret x113 h112)
  else
    (zret (0 : Int32) h101)
def f_X4_append (h : PH) (a0 : Nat) (v1 : Int32) (v2 : Int32) (v3 : Int32) (v4 : Int32) (v5 : Int32) : ZR Int32 :=
  zgI h a0 3 13 fun x101 =>
  znm (x101 + (20 : Int32)) fun x102 =>
  if x102 ≤ (1000 : Int32) then
    (f_X4_append_b19 h a0 v1 v2 v3 v4 v5 a0 (0 : Int32))
  else
    (f_X4_append_b19 h a0 v1 v2 v3 v4 v5 a0 (1 : Int32))
set_option maxHeartbeats 4000000 in
set_option maxRecDepth 100000 in
theorem m_X4_append_b19 {p : Program} {l : Launch} {e : Env} {s : State} {m : MethodId} {args : Array Value} {below : List Frame} {meth : Method} {c : Code} {D : va_G} {dA : Nat → ClassId} {b0 : Nat} {gs : Nat → Option Nat} (hc : zC D dA b0 gs yX4_append.cls cX4_append 6 p c s m args meth) (hr : meth.sig.returnType = (some .int)) (hin : meth.name = yX4_append.name) {r : Int32} {hh : PH} {mc ms : Nat} : ∀ (h : PH) (a0 : Nat) (v1 : Int32) (v2 : Int32) (v3 : Int32) (v4 : Int32) (v5 : Int32) (s0 : Nat) (s1 : Int32) (C9 S9 : Nat) (H : Heap) (locs : List Loc) (cells slots : Nat), f_X4_append_b19 h a0 v1 v2 v3 v4 v5 s0 s1 = some (r, hh, C9, S9) → cells + C9 = mc ∧ slots + S9 = ms → zM D dA b0 gs s h H locs → ∀ ls : Array Slot, lv_has ls 6 [(0, .ref a0), (1, .int v1), (2, .int v2), (3, .int v3), (4, .int v4), (5, .int v5)] → W p l e ({ frames := 2, cells := mc, slots := ms, locals := 82 } : Room) s m args below meth c H locs cells slots (MQ below (zQ D dA b0 gs (evI r) hh) args s mc ms (zA b0)) (F0 m 19 ls [.int s1, .ref s0]) := by
  have hx := hc.x
  have hb := hc.b
  intro h a0 v1 v2 v3 v4 v5 s0 s1 C9 S9 H locs cells slots hf hq hn ls hl
  unfold f_X4_append_b19 at hf
  refine zr_pI (x := s1) hc hn (ci := 3) rfl rfl in_X4 0 (by decide) tyX4 tyX4_ok nmX4 q2099 (fun _ h => h) (Or.inl rfl) (fun _ _ _ => rfl) rfl rfl hf dX4_append_19 (fun h101 H locs hf hn => ?_)
  refine lv_aload_n (x := a0) hx hb dX4_append_22 rfl (lv_at hl 0 rfl) ?_
  refine zr_gI hc hn (ci := 3) rfl rfl in_X4 0 (by decide) q2099 (fun _ h => h) (fun _ _ _ => rfl) hf dX4_append_23 (fun x102 hf => ?_)
  refine lv_if_le (tgt := 31) hx hb dX4_append_26 (by decide) (fun c9 => ?_) (fun c9 => ?_)
  · have hf := zif_t c9 hf
    refine lv_aload_n (x := a0) hx hb dX4_append_31 rfl (lv_at hl 0 rfl) ?_
    refine lv_iload_n hx hb dX4_append_32 rfl (lv_at hl 1 rfl) ?_
    refine zr_cVU (As := [.int v1]) (rest := []) hc hn hq (ci := 3) rfl ⟨rfl, hd_X4_bytes⟩ (lw_V q2203 q2205 qs32 q91 q2206) (Nat.le_of_ble_eq_true rfl) (Nat.le_of_ble_eq_true rfl) (fun _ _ _ _ q => m_X4_bytes l D dA b0 gs h101 a0 v1 q) hf dX4_append_33 hl.1 rfl rfl (zroom (Nat.le_of_ble_eq_true rfl)) (fun x103 h104 H locs cells slots C9 S9 hf hq hn => ?_)
    refine lv_aload_n (x := a0) hx hb dX4_append_36 rfl (lv_at hl 0 rfl) ?_
    refine lv_iload_n hx hb dX4_append_37 rfl (lv_at hl 2 rfl) ?_
    refine zr_cVU (As := [.int v2]) (rest := []) hc hn hq (ci := 3) rfl ⟨rfl, hd_X4_bytes⟩ (lw_V q2203 q2205 qs32 q91 q2206) (Nat.le_of_ble_eq_true rfl) (Nat.le_of_ble_eq_true rfl) (fun _ _ _ _ q => m_X4_bytes l D dA b0 gs h104 a0 v2 q) hf dX4_append_38 hl.1 rfl rfl (zroom (Nat.le_of_ble_eq_true rfl)) (fun x105 h106 H locs cells slots C9 S9 hf hq hn => ?_)
    refine lv_aload_n (x := a0) hx hb dX4_append_41 rfl (lv_at hl 0 rfl) ?_
    refine lv_iload_n hx hb dX4_append_42 rfl (lv_at hl 3 rfl) ?_
    refine zr_cVU (As := [.int v3]) (rest := []) hc hn hq (ci := 3) rfl ⟨rfl, hd_X4_bytes⟩ (lw_V q2203 q2205 qs32 q91 q2206) (Nat.le_of_ble_eq_true rfl) (Nat.le_of_ble_eq_true rfl) (fun _ _ _ _ q => m_X4_bytes l D dA b0 gs h106 a0 v3 q) hf dX4_append_43 hl.1 rfl rfl (zroom (Nat.le_of_ble_eq_true rfl)) (fun x107 h108 H locs cells slots C9 S9 hf hq hn => ?_)
    refine lv_aload_n (x := a0) hx hb dX4_append_46 rfl (lv_at hl 0 rfl) ?_
    refine lv_iload hx hb dX4_append_47 (lv_at hl 4 rfl) ?_
    refine zr_cVU (As := [.int v4]) (rest := []) hc hn hq (ci := 3) rfl ⟨rfl, hd_X4_bytes⟩ (lw_V q2203 q2205 qs32 q91 q2206) (Nat.le_of_ble_eq_true rfl) (Nat.le_of_ble_eq_true rfl) (fun _ _ _ _ q => m_X4_bytes l D dA b0 gs h108 a0 v4 q) hf dX4_append_49 hl.1 rfl rfl (zroom (Nat.le_of_ble_eq_true rfl)) (fun x109 h110 H locs cells slots C9 S9 hf hq hn => ?_)
    refine lv_aload_n (x := a0) hx hb dX4_append_52 rfl (lv_at hl 0 rfl) ?_
    refine lv_iload hx hb dX4_append_53 (lv_at hl 5 rfl) ?_
    refine zr_cVU (As := [.int v5]) (rest := []) hc hn hq (ci := 3) rfl ⟨rfl, hd_X4_bytes⟩ (lw_V q2203 q2205 qs32 q91 q2206) (Nat.le_of_ble_eq_true rfl) (Nat.le_of_ble_eq_true rfl) (fun _ _ _ _ q => m_X4_bytes l D dA b0 gs h110 a0 v5 q) hf dX4_append_55 hl.1 rfl rfl (zroom (Nat.le_of_ble_eq_true rfl)) (fun x111 h112 H locs cells slots C9 S9 hf hq hn => ?_)
    refine lv_aload_n (x := a0) hx hb dX4_append_58 rfl (lv_at hl 0 rfl) ?_
    refine zr_gI hc hn (ci := 3) rfl rfl in_X4 13 (by decide) q2112 (fun _ h => h) (fun _ _ _ => rfl) hf dX4_append_59 (fun x113 hf => ?_)
    obtain ⟨rfl, rfl, rfl, rfl⟩ := zret_i hf
    exact zr_iret hc hn hr hq (fun _ _ _ _ q => q) dX4_append_62
  · have hf := zif_f c9 hf
    refine lv_iconst (v := (0 : Int32)) hx hb dX4_append_29 (by decide) ?_
    obtain ⟨rfl, rfl, rfl, rfl⟩ := zret_i hf
    exact zr_iret hc hn hr hq (fun _ _ _ _ q => q) dX4_append_30
set_option maxHeartbeats 4000000 in
set_option maxRecDepth 100000 in
theorem m_X4_append (l : Launch) (D : va_G) (dA : Nat → ClassId) (b0 : Nat) (gs : Nat → Option Nat) (h : PH) (a0 : Nat) (v1 : Int32) (v2 : Int32) (v3 : Int32) (v4 : Int32) (v5 : Int32) {r : Int32} {hh : PH} {mc ms : Nat} (hf : f_X4_append h a0 v1 v2 v3 v4 v5 = some (r, hh, mc, ms)) : zMt l D dA b0 gs yX4_append cX4_append 6 (some .int) 2 82 [.ref a0, .int v1, .int v2, .int v3, .int v4, .int v5] h (evI r) hh mc ms := by
  unfold f_X4_append at hf
  refine zMt.of (by decide) (Nat.le_of_ble_eq_true rfl) ?_
  intro p e s m args below meth c hc hr hin hn ls hl
  have hl : lv_has ls 6 [(0, .ref a0), (1, .int v1), (2, .int v2), (3, .int v3), (4, .int v4), (5, .int v5)] := hl
  have hq : 0 + mc = mc ∧ 0 + ms = ms := ⟨Nat.zero_add _, Nat.zero_add _⟩
  have hx := hc.x
  have hb := hc.b
  refine lv_aload_n (x := a0) hx hb dX4_append_0 rfl (lv_at hl 0 rfl) ?_
  refine lv_aload_n (x := a0) hx hb dX4_append_1 rfl (lv_at hl 0 rfl) ?_
  refine zr_gI hc hn (ci := 3) rfl rfl in_X4 13 (by decide) q2112 (fun _ h => h) (fun _ _ _ => rfl) hf dX4_append_2 (fun x101 hf => ?_)
  refine lv_bipush (v := (20 : Int32)) hx hb dX4_append_5 (by decide) ?_
  refine lv_iadd hx hb dX4_append_7 ?_
  refine zr_nmI hf (fun x102 hf => ?_)
  refine lv_sipush (v := (1000 : Int32)) hx hb dX4_append_8 (by decide) ?_
  refine lv_icmp_le (tgt := 18) hx hb dX4_append_11 (by decide) (fun c9 => ?_) (fun c9 => ?_)
  · have hf := zif_t c9 hf
    refine lv_iconst (v := (0 : Int32)) hx hb dX4_append_18 (by decide) ?_
    exact m_X4_append_b19 hc hr hin h a0 v1 v2 v3 v4 v5 a0 (0 : Int32) _ _ _ _ _ _ hf hq hn _ (lv_sub hl [0, 1, 2, 3, 4, 5] rfl)
  · have hf := zif_f c9 hf
    refine lv_iconst (v := (1 : Int32)) hx hb dX4_append_14 (by decide) ?_
    refine lv_goto (tgt := 19) hx hb dX4_append_15 (by decide) ?_
    exact m_X4_append_b19 hc hr hin h a0 v1 v2 v3 v4 v5 a0 (1 : Int32) _ _ _ _ _ _ hf hq hn _ (lv_sub hl [0, 1, 2, 3, 4, 5] rfl)
theorem hd_X4_in : yX4_in.cls ≠ "java/lang/invoke/MethodHandle" ∧ yX4_in.cls ≠ "java/lang/invoke/VarHandle" ∧ (parseMethodDescriptor yX4_in.desc).map (fun d => d.parameters.length) = some 3 := by decide +kernel
def f_X4_in (h : PH) (v0 : Int64) (v2 : Int64) (v4 : Int64) : ZR Int32 :=
  znm (lg_cmp v0 v2) fun x101 =>
  if x101 < 0 then
    (zret (0 : Int32) h)
  else
    (znm (lg_cmp v0 v4) fun x102 =>
    if 0 < x102 then
      (zret (0 : Int32) h)
    else
      (zret (1 : Int32) h))
set_option maxHeartbeats 4000000 in
set_option maxRecDepth 100000 in
theorem m_X4_in (l : Launch) (D : va_G) (dA : Nat → ClassId) (b0 : Nat) (gs : Nat → Option Nat) (h : PH) (v0 : Int64) (v2 : Int64) (v4 : Int64) {r : Int32} {hh : PH} {mc ms : Nat} (hf : f_X4_in h v0 v2 v4 = some (r, hh, mc, ms)) : zMt l D dA b0 gs yX4_in cX4_in 6 (some .boolean) 1 60 [.long v0, .long v2, .long v4] h (evI r) hh mc ms := by
  unfold f_X4_in at hf
  refine zMt.of (by decide) (Nat.le_of_ble_eq_true rfl) ?_
  intro p e s m args below meth c hc hr hin hn ls hl
  have hl : lv_has ls 6 [(0, .long v0), (2, .long v2), (4, .long v4)] := hl
  have hq : 0 + mc = mc ∧ 0 + ms = ms := ⟨Nat.zero_add _, Nat.zero_add _⟩
  have hx := hc.x
  have hb := hc.b
  refine lv_lload_n hx hb dX4_in_0 rfl (lv_at hl 0 rfl) ?_
  refine lv_lload_n hx hb dX4_in_1 rfl (lv_at hl 1 rfl) ?_
  refine W.lcmp hx hb dX4_in_2 ?_
  refine zr_nmI hf (fun x101 hf => ?_)
  refine lv_if_lt (tgt := 17) hx hb dX4_in_3 (by decide) (fun c9 => ?_) (fun c9 => ?_)
  · have hf := zif_t c9 hf
    refine lv_iconst (v := (0 : Int32)) hx hb dX4_in_17 (by decide) ?_
    obtain ⟨rfl, rfl, rfl, rfl⟩ := zret_i hf
    exact zr_zret hc hn hr (by decide) hq (fun _ _ _ _ q => q) dX4_in_18
  · have hf := zif_f c9 hf
    refine lv_lload_n hx hb dX4_in_6 rfl (lv_at hl 0 rfl) ?_
    refine lv_lload hx hb dX4_in_7 (lv_at hl 2 rfl) ?_
    refine W.lcmp hx hb dX4_in_9 ?_
    refine zr_nmI hf (fun x102 hf => ?_)
    refine lv_if_gt (tgt := 17) hx hb dX4_in_10 (by decide) (fun c9 => ?_) (fun c9 => ?_)
    · have hf := zif_t c9 hf
      refine lv_iconst (v := (0 : Int32)) hx hb dX4_in_17 (by decide) ?_
      obtain ⟨rfl, rfl, rfl, rfl⟩ := zret_i hf
      exact zr_zret hc hn hr (by decide) hq (fun _ _ _ _ q => q) dX4_in_18
    · have hf := zif_f c9 hf
      refine lv_iconst (v := (1 : Int32)) hx hb dX4_in_13 (by decide) ?_
      refine lv_goto (tgt := 18) hx hb dX4_in_14 (by decide) ?_
      obtain ⟨rfl, rfl, rfl, rfl⟩ := zret_i hf
      exact zr_zret hc hn hr (by decide) hq (fun _ _ _ _ q => q) dX4_in_18
theorem hd_X4_truncate : yX4_truncate.cls ≠ "java/lang/invoke/MethodHandle" ∧ yX4_truncate.cls ≠ "java/lang/invoke/VarHandle" ∧ (parseMethodDescriptor yX4_truncate.desc).map (fun d => d.parameters.length) = some 1 := by decide +kernel
def f_X4_truncate (h : PH) (a0 : Nat) (v1 : Int32) : ZR Int32 :=
  znm v1.toInt64 fun x101 =>
  zgI h a0 3 13 fun x102 =>
  znm x102.toInt64 fun x103 =>
  zcl (f_X4_in h x101 (0 : Int64) x103) fun x104 h105 =>
  if x104 = 0 then
    (zpI h105 a0 3 0 (1 : Int32) fun h106 =>
    zgI h106 a0 3 0 fun x107 =>
    if x107 ≤ 0 then
      (zpI h106 a0 3 13 v1 fun h108 =>
      zret v1 h108)
    else
      (zret (0 : Int32) h106))
  else
    (zpI h105 a0 3 0 (0 : Int32) fun h109 =>
    zgI h109 a0 3 0 fun x110 =>
    if x110 ≤ 0 then
      (zpI h109 a0 3 13 v1 fun h111 =>
      zret v1 h111)
    else
      (zret (0 : Int32) h109))
set_option maxHeartbeats 4000000 in
set_option maxRecDepth 100000 in
theorem m_X4_truncate (l : Launch) (D : va_G) (dA : Nat → ClassId) (b0 : Nat) (gs : Nat → Option Nat) (h : PH) (a0 : Nat) (v1 : Int32) {r : Int32} {hh : PH} {mc ms : Nat} (hf : f_X4_truncate h a0 v1 = some (r, hh, mc, ms)) : zMt l D dA b0 gs yX4_truncate cX4_truncate 2 (some .int) 2 85 [.ref a0, .int v1] h (evI r) hh mc ms := by
  unfold f_X4_truncate at hf
  refine zMt.of (by decide) (Nat.le_of_ble_eq_true rfl) ?_
  intro p e s m args below meth c hc hr hin hn ls hl
  have hl : lv_has ls 2 [(0, .ref a0), (1, .int v1)] := hl
  have hq : 0 + mc = mc ∧ 0 + ms = ms := ⟨Nat.zero_add _, Nat.zero_add _⟩
  have hx := hc.x
  have hb := hc.b
  refine lv_aload_n (x := a0) hx hb dX4_truncate_0 rfl (lv_at hl 0 rfl) ?_
  refine lv_iload_n hx hb dX4_truncate_1 rfl (lv_at hl 1 rfl) ?_
  refine lv_i2l (v := v1.toInt64) hx hb dX4_truncate_2 rfl ?_
  refine zr_nmL hf (fun x101 hf => ?_)
  refine lv_lconst (v := (0 : Int64)) hx hb dX4_truncate_3 (by decide) ?_
  refine lv_aload_n (x := a0) hx hb dX4_truncate_4 rfl (lv_at hl 0 rfl) ?_
  refine zr_gI hc hn (ci := 3) rfl rfl in_X4 13 (by decide) q2112 (fun _ h => h) (fun _ _ _ => rfl) hf dX4_truncate_5 (fun x102 hf => ?_)
  refine lv_i2l (v := x102.toInt64) hx hb dX4_truncate_8 rfl ?_
  refine zr_nmL hf (fun x103 hf => ?_)
  refine zr_cSI (As := [.long x101, .long (0 : Int64), .long x103]) (rest := [.ref a0]) hc hn hq hd_X4_in (lw_S q2211 q2212 q91 q2213) (Nat.le_of_ble_eq_true rfl) (Nat.le_of_ble_eq_true rfl) (fun _ _ _ _ q => m_X4_in l D dA b0 gs h x101 (0 : Int64) x103 q) hf dX4_truncate_9 hl.1 rfl rfl (zroom (Nat.le_of_ble_eq_true rfl)) (fun x104 h105 H locs cells slots C9 S9 hf hq hn => ?_)
  refine lv_if_eq (tgt := 19) hx hb dX4_truncate_12 (by decide) (fun c9 => ?_) (fun c9 => ?_)
  · have hf := zif_t c9 hf
    refine lv_iconst (v := (1 : Int32)) hx hb dX4_truncate_19 (by decide) ?_
    refine zr_pI (x := (1 : Int32)) hc hn (ci := 3) rfl rfl in_X4 0 (by decide) tyX4 tyX4_ok nmX4 q2099 (fun _ h => h) (Or.inl rfl) (fun _ _ _ => rfl) rfl rfl hf dX4_truncate_20 (fun h106 H locs hf hn => ?_)
    refine lv_aload_n (x := a0) hx hb dX4_truncate_23 rfl (lv_at hl 0 rfl) ?_
    refine zr_gI hc hn (ci := 3) rfl rfl in_X4 0 (by decide) q2099 (fun _ h => h) (fun _ _ _ => rfl) hf dX4_truncate_24 (fun x107 hf => ?_)
    refine lv_if_le (tgt := 32) hx hb dX4_truncate_27 (by decide) (fun c9 => ?_) (fun c9 => ?_)
    · have hf := zif_t c9 hf
      refine lv_aload_n (x := a0) hx hb dX4_truncate_32 rfl (lv_at hl 0 rfl) ?_
      refine lv_iload_n hx hb dX4_truncate_33 rfl (lv_at hl 1 rfl) ?_
      refine zr_pI (x := v1) hc hn (ci := 3) rfl rfl in_X4 13 (by decide) tyX4 tyX4_ok nmX4 q2112 (fun _ h => h) (Or.inl rfl) (fun _ _ _ => rfl) rfl rfl hf dX4_truncate_34 (fun h108 H locs hf hn => ?_)
      refine lv_iload_n hx hb dX4_truncate_37 rfl (lv_at hl 1 rfl) ?_
      obtain ⟨rfl, rfl, rfl, rfl⟩ := zret_i hf
      exact zr_iret hc hn hr hq (fun _ _ _ _ q => q) dX4_truncate_38
    · have hf := zif_f c9 hf
      refine lv_iconst (v := (0 : Int32)) hx hb dX4_truncate_30 (by decide) ?_
      obtain ⟨rfl, rfl, rfl, rfl⟩ := zret_i hf
      exact zr_iret hc hn hr hq (fun _ _ _ _ q => q) dX4_truncate_31
  · have hf := zif_f c9 hf
    refine lv_iconst (v := (0 : Int32)) hx hb dX4_truncate_15 (by decide) ?_
    refine lv_goto (tgt := 20) hx hb dX4_truncate_16 (by decide) ?_
    refine zr_pI (x := (0 : Int32)) hc hn (ci := 3) rfl rfl in_X4 0 (by decide) tyX4 tyX4_ok nmX4 q2099 (fun _ h => h) (Or.inl rfl) (fun _ _ _ => rfl) rfl rfl hf dX4_truncate_20 (fun h109 H locs hf hn => ?_)
    refine lv_aload_n (x := a0) hx hb dX4_truncate_23 rfl (lv_at hl 0 rfl) ?_
    refine zr_gI hc hn (ci := 3) rfl rfl in_X4 0 (by decide) q2099 (fun _ h => h) (fun _ _ _ => rfl) hf dX4_truncate_24 (fun x110 hf => ?_)
    refine lv_if_le (tgt := 32) hx hb dX4_truncate_27 (by decide) (fun c9 => ?_) (fun c9 => ?_)
    · have hf := zif_t c9 hf
      refine lv_aload_n (x := a0) hx hb dX4_truncate_32 rfl (lv_at hl 0 rfl) ?_
      refine lv_iload_n hx hb dX4_truncate_33 rfl (lv_at hl 1 rfl) ?_
      refine zr_pI (x := v1) hc hn (ci := 3) rfl rfl in_X4 13 (by decide) tyX4 tyX4_ok nmX4 q2112 (fun _ h => h) (Or.inl rfl) (fun _ _ _ => rfl) rfl rfl hf dX4_truncate_34 (fun h111 H locs hf hn => ?_)
      refine lv_iload_n hx hb dX4_truncate_37 rfl (lv_at hl 1 rfl) ?_
      obtain ⟨rfl, rfl, rfl, rfl⟩ := zret_i hf
      exact zr_iret hc hn hr hq (fun _ _ _ _ q => q) dX4_truncate_38
    · have hf := zif_f c9 hf
      refine lv_iconst (v := (0 : Int32)) hx hb dX4_truncate_30 (by decide) ?_
      obtain ⟨rfl, rfl, rfl, rfl⟩ := zret_i hf
      exact zr_iret hc hn hr hq (fun _ _ _ _ q => q) dX4_truncate_31
theorem hd_X4_blanks : yX4_blanks.cls ≠ "java/lang/invoke/MethodHandle" ∧ yX4_blanks.cls ≠ "java/lang/invoke/VarHandle" ∧ (parseMethodDescriptor yX4_blanks.desc).map (fun d => d.parameters.length) = some 0 := by decide +kernel
def f_X4_blanks_b39 (k0 : PH → Nat → ZR Unit) (h : PH) (a0 : Nat) : ZR Unit :=
  zgI h a0 3 14 fun x101 =>
  znm (x101 + (1 : Int32)) fun x102 =>
  zpI h a0 3 14 x102 fun h103 =>
  k0 h103 a0
def f_X4_blanks_b0 : Nat → PH → Nat → ZR Unit
  | 0 => fun _ _ => none
  | n + 1 => fun h a0 =>
    zgI h a0 3 14 fun x101 =>
    zgI h a0 3 13 fun x102 =>
    if x102 ≤ x101 then
      (zret () h)
    else
      (zgP h a0 3 12 fun x103 =>
      zgI h a0 3 14 fun x104 =>
      znn x103 fun a105 =>
      zaI h a105 0 x104 fun x106 =>
      if x106 = (10 : Int32) then
        (f_X4_blanks_b39 (f_X4_blanks_b0 n) h a0)
      else
        (zgP h a0 3 12 fun x107 =>
        zgI h a0 3 14 fun x108 =>
        znn x107 fun a109 =>
        zaI h a109 0 x108 fun x110 =>
        if x110 = (32 : Int32) then
          (f_X4_blanks_b39 (f_X4_blanks_b0 n) h a0)
        else
          (zret () h)))
def f_X4_blanks (h : PH) (a0 : Nat) : ZR Unit :=
  f_X4_blanks_b0 zFU h a0
set_option maxHeartbeats 4000000 in
set_option maxRecDepth 100000 in
theorem m_X4_blanks_b39 {p : Program} {l : Launch} {e : Env} {s : State} {m : MethodId} {args : Array Value} {below : List Frame} {meth : Method} {c : Code} {D : va_G} {dA : Nat → ClassId} {b0 : Nat} {gs : Nat → Option Nat} (hc : zC D dA b0 gs yX4_blanks.cls cX4_blanks 1 p c s m args meth) (hr : meth.sig.returnType = none) (hin : meth.name = yX4_blanks.name) {r : Unit} {hh : PH} {mc ms : Nat} (k0 : PH → Nat → ZR Unit) (hk0 : ∀ (h : PH) (a0 : Nat) (C9 S9 : Nat) (H : Heap) (locs : List Loc) (cells slots : Nat), k0 h a0 = some (r, hh, C9, S9) → cells + C9 = mc ∧ slots + S9 = ms → zM D dA b0 gs s h H locs → ∀ ls : Array Slot, lv_has ls 1 [(0, .ref a0)] → W p l e ({ frames := 1, cells := mc, slots := ms, locals := 60 } : Room) s m args below meth c H locs cells slots (MQ below (zQ D dA b0 gs (evU r) hh) args s mc ms (zA b0)) (F0 m 0 ls [])) : ∀ (h : PH) (a0 : Nat) (C9 S9 : Nat) (H : Heap) (locs : List Loc) (cells slots : Nat), f_X4_blanks_b39 k0 h a0 = some (r, hh, C9, S9) → cells + C9 = mc ∧ slots + S9 = ms → zM D dA b0 gs s h H locs → ∀ ls : Array Slot, lv_has ls 1 [(0, .ref a0)] → W p l e ({ frames := 1, cells := mc, slots := ms, locals := 60 } : Room) s m args below meth c H locs cells slots (MQ below (zQ D dA b0 gs (evU r) hh) args s mc ms (zA b0)) (F0 m 39 ls []) := by
  have hx := hc.x
  have hb := hc.b
  intro h a0 C9 S9 H locs cells slots hf hq hn ls hl
  unfold f_X4_blanks_b39 at hf
  refine lv_aload_n (x := a0) hx hb dX4_blanks_39 rfl (lv_at hl 0 rfl) ?_
  refine lv_dup hx hb dX4_blanks_40 rfl ?_
  refine zr_gI hc hn (ci := 3) rfl rfl in_X4 14 (by decide) q2113 (fun _ h => h) (fun _ _ _ => rfl) hf dX4_blanks_41 (fun x101 hf => ?_)
  refine lv_iconst (v := (1 : Int32)) hx hb dX4_blanks_44 (by decide) ?_
  refine lv_iadd hx hb dX4_blanks_45 ?_
  refine zr_nmI hf (fun x102 hf => ?_)
  refine zr_pI (x := x102) hc hn (ci := 3) rfl rfl in_X4 14 (by decide) tyX4 tyX4_ok nmX4 q2113 (fun _ h => h) (Or.inl rfl) (fun _ _ _ => rfl) rfl rfl hf dX4_blanks_46 (fun h103 H locs hf hn => ?_)
  refine lv_goto (tgt := 0) hx hb dX4_blanks_49 (by decide) ?_
  exact hk0 h103 a0 _ _ _ _ _ _ hf hq hn _ (lv_sub hl [0] rfl)
set_option maxHeartbeats 4000000 in
set_option maxRecDepth 100000 in
theorem m_X4_blanks_b0 {p : Program} {l : Launch} {e : Env} {s : State} {m : MethodId} {args : Array Value} {below : List Frame} {meth : Method} {c : Code} {D : va_G} {dA : Nat → ClassId} {b0 : Nat} {gs : Nat → Option Nat} (hc : zC D dA b0 gs yX4_blanks.cls cX4_blanks 1 p c s m args meth) (hr : meth.sig.returnType = none) (hin : meth.name = yX4_blanks.name) {r : Unit} {hh : PH} {mc ms : Nat} : ∀ (n : Nat) (h : PH) (a0 : Nat) (C9 S9 : Nat) (H : Heap) (locs : List Loc) (cells slots : Nat), f_X4_blanks_b0 n h a0 = some (r, hh, C9, S9) → cells + C9 = mc ∧ slots + S9 = ms → zM D dA b0 gs s h H locs → ∀ ls : Array Slot, lv_has ls 1 [(0, .ref a0)] → W p l e ({ frames := 1, cells := mc, slots := ms, locals := 60 } : Room) s m args below meth c H locs cells slots (MQ below (zQ D dA b0 gs (evU r) hh) args s mc ms (zA b0)) (F0 m 0 ls []) := by
  have hx := hc.x
  have hb := hc.b
  intro n
  induction n with
  | zero =>
    intro h a0 C9 S9 H locs cells slots hf hq hn ls hl
    cases hf
  | succ n ih =>
    intro h a0 C9 S9 H locs cells slots hf hq hn ls hl
    unfold f_X4_blanks_b0 at hf
    refine lv_aload_n (x := a0) hx hb dX4_blanks_0 rfl (lv_at hl 0 rfl) ?_
    refine zr_gI hc hn (ci := 3) rfl rfl in_X4 14 (by decide) q2113 (fun _ h => h) (fun _ _ _ => rfl) hf dX4_blanks_1 (fun x101 hf => ?_)
    refine lv_aload_n (x := a0) hx hb dX4_blanks_4 rfl (lv_at hl 0 rfl) ?_
    refine zr_gI hc hn (ci := 3) rfl rfl in_X4 13 (by decide) q2112 (fun _ h => h) (fun _ _ _ => rfl) hf dX4_blanks_5 (fun x102 hf => ?_)
    refine lv_icmp_ge (tgt := 52) hx hb dX4_blanks_8 (by decide) (fun c9 => ?_) (fun c9 => ?_)
    · have hf := zif_t c9 hf
      obtain ⟨rfl, rfl, rfl, rfl⟩ := zret_i hf
      exact zr_vret hc hn hr hq (fun _ _ _ _ q => q) dX4_blanks_52
    · have hf := zif_f c9 hf
      refine lv_aload_n (x := a0) hx hb dX4_blanks_11 rfl (lv_at hl 0 rfl) ?_
      refine zr_gP hc hn (ci := 3) rfl rfl in_X4 12 (by decide) q2111 (fun _ h => h) (fun _ _ _ => rfl) hf dX4_blanks_12 (fun x103 hf => ?_)
      refine lv_aload_n (x := a0) hx hb dX4_blanks_15 rfl (lv_at hl 0 rfl) ?_
      refine zr_gI hc hn (ci := 3) rfl rfl in_X4 14 (by decide) q2113 (fun _ h => h) (fun _ _ _ => rfl) hf dX4_blanks_16 (fun x104 hf => ?_)
      obtain ⟨a105, e9, hf9⟩ := znn_i hf
      subst e9
      have hf := hf9
      clear hf9
      refine zr_aI0 hc hn hf dX4_blanks_19 (fun x106 hf => ?_)
      refine lv_bipush (v := (10 : Int32)) hx hb dX4_blanks_20 (by decide) ?_
      refine lv_icmp_eq (tgt := 39) hx hb dX4_blanks_22 (by decide) (fun c9 => ?_) (fun c9 => ?_)
      · have hf := zif_t c9 hf
        exact m_X4_blanks_b39 hc hr hin (f_X4_blanks_b0 n) ih h a0 _ _ _ _ _ _ hf hq hn _ (lv_sub hl [0] rfl)
      · have hf := zif_f c9 hf
        refine lv_aload_n (x := a0) hx hb dX4_blanks_25 rfl (lv_at hl 0 rfl) ?_
        refine zr_gP hc hn (ci := 3) rfl rfl in_X4 12 (by decide) q2111 (fun _ h => h) (fun _ _ _ => rfl) hf dX4_blanks_26 (fun x107 hf => ?_)
        refine lv_aload_n (x := a0) hx hb dX4_blanks_29 rfl (lv_at hl 0 rfl) ?_
        refine zr_gI hc hn (ci := 3) rfl rfl in_X4 14 (by decide) q2113 (fun _ h => h) (fun _ _ _ => rfl) hf dX4_blanks_30 (fun x108 hf => ?_)
        obtain ⟨a109, e9, hf9⟩ := znn_i hf
        subst e9
        have hf := hf9
        clear hf9
        refine zr_aI0 hc hn hf dX4_blanks_33 (fun x110 hf => ?_)
        refine lv_bipush (v := (32 : Int32)) hx hb dX4_blanks_34 (by decide) ?_
        refine lv_icmp_ne (tgt := 52) hx hb dX4_blanks_36 (by decide) (fun c9 => ?_) (fun c9 => ?_)
        · have hf := zif_f c9 hf
          obtain ⟨rfl, rfl, rfl, rfl⟩ := zret_i hf
          exact zr_vret hc hn hr hq (fun _ _ _ _ q => q) dX4_blanks_52
        · have hf := zif_t c9 hf
          exact m_X4_blanks_b39 hc hr hin (f_X4_blanks_b0 n) ih h a0 _ _ _ _ _ _ hf hq hn _ (lv_sub hl [0] rfl)
set_option maxHeartbeats 4000000 in
set_option maxRecDepth 100000 in
theorem m_X4_blanks (l : Launch) (D : va_G) (dA : Nat → ClassId) (b0 : Nat) (gs : Nat → Option Nat) (h : PH) (a0 : Nat) {r : Unit} {hh : PH} {mc ms : Nat} (hf : f_X4_blanks h a0 = some (r, hh, mc, ms)) : zMt l D dA b0 gs yX4_blanks cX4_blanks 1 none 1 60 [.ref a0] h (evU r) hh mc ms := by
  unfold f_X4_blanks at hf
  refine zMt.of (by decide) (Nat.le_of_ble_eq_true rfl) ?_
  intro p e s m args below meth c hc hr hin hn ls hl
  have hl : lv_has ls 1 [(0, .ref a0)] := hl
  have hq : 0 + mc = mc ∧ 0 + ms = ms := ⟨Nat.zero_add _, Nat.zero_add _⟩
  have hx := hc.x
  have hb := hc.b
  exact m_X4_blanks_b0 hc hr hin zFU h a0 _ _ _ _ _ _ hf hq hn _ (lv_sub hl [0] rfl)
theorem hd_X4_isLetter : yX4_isLetter.cls ≠ "java/lang/invoke/MethodHandle" ∧ yX4_isLetter.cls ≠ "java/lang/invoke/VarHandle" ∧ (parseMethodDescriptor yX4_isLetter.desc).map (fun d => d.parameters.length) = some 1 := by decide +kernel
def f_X4_isLetter (h : PH) (a0 : Nat) (v1 : Int32) : ZR Int32 :=
  zgI h a0 3 13 fun x101 =>
  if x101 ≤ v1 then
    (zret (0 : Int32) h)
  else
    (zgP h a0 3 12 fun x102 =>
    znn x102 fun a103 =>
    zaI h a103 0 v1 fun x104 =>
    znm x104.toInt64 fun x105 =>
    zcl (f_X4_in h x105 (97 : Int64) (122 : Int64)) fun x106 h107 =>
    if x106 = 0 then
      (zret (0 : Int32) h107)
    else
      (zret (1 : Int32) h107))
set_option maxHeartbeats 4000000 in
set_option maxRecDepth 100000 in
theorem m_X4_isLetter (l : Launch) (D : va_G) (dA : Nat → ClassId) (b0 : Nat) (gs : Nat → Option Nat) (h : PH) (a0 : Nat) (v1 : Int32) {r : Int32} {hh : PH} {mc ms : Nat} (hf : f_X4_isLetter h a0 v1 = some (r, hh, mc, ms)) : zMt l D dA b0 gs yX4_isLetter cX4_isLetter 2 (some .boolean) 2 85 [.ref a0, .int v1] h (evI r) hh mc ms := by
  unfold f_X4_isLetter at hf
  refine zMt.of (by decide) (Nat.le_of_ble_eq_true rfl) ?_
  intro p e s m args below meth c hc hr hin hn ls hl
  have hl : lv_has ls 2 [(0, .ref a0), (1, .int v1)] := hl
  have hq : 0 + mc = mc ∧ 0 + ms = ms := ⟨Nat.zero_add _, Nat.zero_add _⟩
  have hx := hc.x
  have hb := hc.b
  refine lv_iload_n hx hb dX4_isLetter_0 rfl (lv_at hl 1 rfl) ?_
  refine lv_aload_n (x := a0) hx hb dX4_isLetter_1 rfl (lv_at hl 0 rfl) ?_
  refine zr_gI hc hn (ci := 3) rfl rfl in_X4 13 (by decide) q2112 (fun _ h => h) (fun _ _ _ => rfl) hf dX4_isLetter_2 (fun x101 hf => ?_)
  refine lv_icmp_ge (tgt := 31) hx hb dX4_isLetter_5 (by decide) (fun c9 => ?_) (fun c9 => ?_)
  · have hf := zif_t c9 hf
    refine lv_iconst (v := (0 : Int32)) hx hb dX4_isLetter_31 (by decide) ?_
    obtain ⟨rfl, rfl, rfl, rfl⟩ := zret_i hf
    exact zr_zret hc hn hr (by decide) hq (fun _ _ _ _ q => q) dX4_isLetter_32
  · have hf := zif_f c9 hf
    refine lv_aload_n (x := a0) hx hb dX4_isLetter_8 rfl (lv_at hl 0 rfl) ?_
    refine zr_gP hc hn (ci := 3) rfl rfl in_X4 12 (by decide) q2111 (fun _ h => h) (fun _ _ _ => rfl) hf dX4_isLetter_9 (fun x102 hf => ?_)
    refine lv_iload_n hx hb dX4_isLetter_12 rfl (lv_at hl 1 rfl) ?_
    obtain ⟨a103, e9, hf9⟩ := znn_i hf
    subst e9
    have hf := hf9
    clear hf9
    refine zr_aI0 hc hn hf dX4_isLetter_13 (fun x104 hf => ?_)
    refine lv_i2l (v := x104.toInt64) hx hb dX4_isLetter_14 rfl ?_
    refine zr_nmL hf (fun x105 hf => ?_)
    refine lv_ldc2 (v := (97 : Int64)) hx hb hc.ow (hc.ts _ q2239) dX4_isLetter_15 ?_
    refine lv_ldc2 (v := (122 : Int64)) hx hb hc.ow (hc.ts _ q2240) dX4_isLetter_18 ?_
    refine zr_cSI (As := [.long x105, .long (97 : Int64), .long (122 : Int64)]) (rest := []) hc hn hq hd_X4_in (lw_S q2211 q2212 q91 q2213) (Nat.le_of_ble_eq_true rfl) (Nat.le_of_ble_eq_true rfl) (fun _ _ _ _ q => m_X4_in l D dA b0 gs h x105 (97 : Int64) (122 : Int64) q) hf dX4_isLetter_21 hl.1 rfl rfl (zroom (Nat.le_of_ble_eq_true rfl)) (fun x106 h107 H locs cells slots C9 S9 hf hq hn => ?_)
    refine lv_if_eq (tgt := 31) hx hb dX4_isLetter_24 (by decide) (fun c9 => ?_) (fun c9 => ?_)
    · have hf := zif_t c9 hf
      refine lv_iconst (v := (0 : Int32)) hx hb dX4_isLetter_31 (by decide) ?_
      obtain ⟨rfl, rfl, rfl, rfl⟩ := zret_i hf
      exact zr_zret hc hn hr (by decide) hq (fun _ _ _ _ q => q) dX4_isLetter_32
    · have hf := zif_f c9 hf
      refine lv_iconst (v := (1 : Int32)) hx hb dX4_isLetter_27 (by decide) ?_
      refine lv_goto (tgt := 32) hx hb dX4_isLetter_28 (by decide) ?_
      obtain ⟨rfl, rfl, rfl, rfl⟩ := zret_i hf
      exact zr_zret hc hn hr (by decide) hq (fun _ _ _ _ q => q) dX4_isLetter_32
theorem hd_X4_takesWord : yX4_takesWord.cls ≠ "java/lang/invoke/MethodHandle" ∧ yX4_takesWord.cls ≠ "java/lang/invoke/VarHandle" ∧ (parseMethodDescriptor yX4_takesWord.desc).map (fun d => d.parameters.length) = some 0 := by decide +kernel
def f_X4_takesWord_b61 (k16 : PH → Nat → Int64 → Int32 → ZR Int64) (h : PH) (a0 : Nat) (v3 : Int32) (s0 : Int64) : ZR Int64 :=
  znm (v3 + (1 : Int32)) fun x101 =>
  zgI h a0 3 14 fun x102 =>
  znm (x102 + (1 : Int32)) fun x103 =>
  zpI h a0 3 14 x103 fun h104 =>
  k16 h104 a0 s0 x101
def f_X4_takesWord_b16 : Nat → PH → Nat → Int64 → Int32 → ZR Int64
  | 0 => fun _ _ _ _ => none
  | n + 1 => fun h a0 v1 v3 =>
    zgI h a0 3 14 fun x101 =>
    zrc h a0 3 <| zcl (f_X4_isLetter h a0 x101) fun x102 h103 =>
    if x102 = 0 then
      (zret v1 h103)
    else
      (if (8 : Int32) ≤ v3 then
        (f_X4_takesWord_b61 (f_X4_takesWord_b16 n) h103 a0 v3 (-1 : Int64))
      else
        (znm ((27 : Int64) * v1) fun x104 =>
        zgP h103 a0 3 12 fun x105 =>
        zgI h103 a0 3 14 fun x106 =>
        znn x105 fun a107 =>
        zaI h103 a107 0 x106 fun x108 =>
        znm x108.toInt64 fun x109 =>
        znm (x104 + x109) fun x110 =>
        znm (x110 - (97 : Int64)) fun x111 =>
        znm (x111 + (1 : Int64)) fun x112 =>
        f_X4_takesWord_b61 (f_X4_takesWord_b16 n) h103 a0 v3 x112))
def f_X4_takesWord (h : PH) (a0 : Nat) : ZR Int64 :=
  zrc h a0 3 <| zcl (f_X4_blanks h a0) fun _ h102 =>
  zgI h102 a0 3 14 fun x103 =>
  zpI h102 a0 3 20 x103 fun h104 =>
  f_X4_takesWord_b16 zFU h104 a0 (0 : Int64) (0 : Int32)
set_option maxHeartbeats 4000000 in
set_option maxRecDepth 100000 in
theorem m_X4_takesWord_b61 {p : Program} {l : Launch} {e : Env} {s : State} {m : MethodId} {args : Array Value} {below : List Frame} {meth : Method} {c : Code} {D : va_G} {dA : Nat → ClassId} {b0 : Nat} {gs : Nat → Option Nat} (hc : zC D dA b0 gs yX4_takesWord.cls cX4_takesWord 4 p c s m args meth) (hr : meth.sig.returnType = (some .long)) (hin : meth.name = yX4_takesWord.name) {r : Int64} {hh : PH} {mc ms : Nat} (k16 : PH → Nat → Int64 → Int32 → ZR Int64) (hk16 : ∀ (h : PH) (a0 : Nat) (v1 : Int64) (v3 : Int32) (C9 S9 : Nat) (H : Heap) (locs : List Loc) (cells slots : Nat), k16 h a0 v1 v3 = some (r, hh, C9, S9) → cells + C9 = mc ∧ slots + S9 = ms → zM D dA b0 gs s h H locs → ∀ ls : Array Slot, lv_has ls 4 [(0, .ref a0), (1, .long v1), (3, .int v3)] → W p l e ({ frames := 3, cells := mc, slots := ms, locals := 106 } : Room) s m args below meth c H locs cells slots (MQ below (zQ D dA b0 gs (evL r) hh) args s mc ms (zA b0)) (F0 m 16 ls [])) : ∀ (h : PH) (a0 : Nat) (v3 : Int32) (s0 : Int64) (C9 S9 : Nat) (H : Heap) (locs : List Loc) (cells slots : Nat), f_X4_takesWord_b61 k16 h a0 v3 s0 = some (r, hh, C9, S9) → cells + C9 = mc ∧ slots + S9 = ms → zM D dA b0 gs s h H locs → ∀ ls : Array Slot, lv_has ls 4 [(0, .ref a0), (3, .int v3)] → W p l e ({ frames := 3, cells := mc, slots := ms, locals := 106 } : Room) s m args below meth c H locs cells slots (MQ below (zQ D dA b0 gs (evL r) hh) args s mc ms (zA b0)) (F0 m 61 ls [.long s0]) := by
  have hx := hc.x
  have hb := hc.b
  intro h a0 v3 s0 C9 S9 H locs cells slots hf hq hn ls hl
  unfold f_X4_takesWord_b61 at hf
  refine lv_lstore_n (i := 1) (lv' := [(1, .long s0), (0, .ref a0), (3, .int v3)]) hx hb dX4_takesWord_61 rfl hl (by decide) rfl (fun ls hl => ?_)
  obtain ⟨x101, ex101, hf⟩ := znm_i hf
  refine lv_iinc (v := x101) (lv' := [(3, .int x101), (1, .long s0), (0, .ref a0)]) hx hb dX4_takesWord_62 hl (k := 2) rfl (by rw [ex101]; rfl) (by decide) rfl (fun ls hl => ?_)
  refine lv_aload_n (x := a0) hx hb dX4_takesWord_65 rfl (lv_at hl 2 rfl) ?_
  refine lv_dup hx hb dX4_takesWord_66 rfl ?_
  refine zr_gI hc hn (ci := 3) rfl rfl in_X4 14 (by decide) q2113 (fun _ h => h) (fun _ _ _ => rfl) hf dX4_takesWord_67 (fun x102 hf => ?_)
  refine lv_iconst (v := (1 : Int32)) hx hb dX4_takesWord_70 (by decide) ?_
  refine lv_iadd hx hb dX4_takesWord_71 ?_
  refine zr_nmI hf (fun x103 hf => ?_)
  refine zr_pI (x := x103) hc hn (ci := 3) rfl rfl in_X4 14 (by decide) tyX4 tyX4_ok nmX4 q2113 (fun _ h => h) (Or.inl rfl) (fun _ _ _ => rfl) rfl rfl hf dX4_takesWord_72 (fun h104 H locs hf hn => ?_)
  refine lv_goto (tgt := 16) hx hb dX4_takesWord_75 (by decide) ?_
  exact hk16 h104 a0 s0 x101 _ _ _ _ _ _ hf hq hn _ (lv_sub hl [2, 1, 0] rfl)
set_option maxHeartbeats 4000000 in
set_option maxRecDepth 100000 in
theorem m_X4_takesWord_b16 {p : Program} {l : Launch} {e : Env} {s : State} {m : MethodId} {args : Array Value} {below : List Frame} {meth : Method} {c : Code} {D : va_G} {dA : Nat → ClassId} {b0 : Nat} {gs : Nat → Option Nat} (hc : zC D dA b0 gs yX4_takesWord.cls cX4_takesWord 4 p c s m args meth) (hr : meth.sig.returnType = (some .long)) (hin : meth.name = yX4_takesWord.name) {r : Int64} {hh : PH} {mc ms : Nat} : ∀ (n : Nat) (h : PH) (a0 : Nat) (v1 : Int64) (v3 : Int32) (C9 S9 : Nat) (H : Heap) (locs : List Loc) (cells slots : Nat), f_X4_takesWord_b16 n h a0 v1 v3 = some (r, hh, C9, S9) → cells + C9 = mc ∧ slots + S9 = ms → zM D dA b0 gs s h H locs → ∀ ls : Array Slot, lv_has ls 4 [(0, .ref a0), (1, .long v1), (3, .int v3)] → W p l e ({ frames := 3, cells := mc, slots := ms, locals := 106 } : Room) s m args below meth c H locs cells slots (MQ below (zQ D dA b0 gs (evL r) hh) args s mc ms (zA b0)) (F0 m 16 ls []) := by
  have hx := hc.x
  have hb := hc.b
  intro n
  induction n with
  | zero =>
    intro h a0 v1 v3 C9 S9 H locs cells slots hf hq hn ls hl
    cases hf
  | succ n ih =>
    intro h a0 v1 v3 C9 S9 H locs cells slots hf hq hn ls hl
    unfold f_X4_takesWord_b16 at hf
    refine lv_aload_n (x := a0) hx hb dX4_takesWord_16 rfl (lv_at hl 0 rfl) ?_
    refine lv_aload_n (x := a0) hx hb dX4_takesWord_17 rfl (lv_at hl 0 rfl) ?_
    refine zr_gI hc hn (ci := 3) rfl rfl in_X4 14 (by decide) q2113 (fun _ h => h) (fun _ _ _ => rfl) hf dX4_takesWord_18 (fun x101 hf => ?_)
    refine zr_cVI (As := [.int x101]) (rest := []) hc hn hq (ci := 3) rfl ⟨rfl, hd_X4_isLetter⟩ (lw_V q2235 q2237 qs37 q91 q2238) (Nat.le_of_ble_eq_true rfl) (Nat.le_of_ble_eq_true rfl) (fun _ _ _ _ q => m_X4_isLetter l D dA b0 gs h a0 x101 q) hf dX4_takesWord_21 hl.1 rfl rfl (zroom (Nat.le_of_ble_eq_true rfl)) (fun x102 h103 H locs cells slots C9 S9 hf hq hn => ?_)
    refine lv_if_eq (tgt := 78) hx hb dX4_takesWord_24 (by decide) (fun c9 => ?_) (fun c9 => ?_)
    · have hf := zif_t c9 hf
      refine lv_lload_n hx hb dX4_takesWord_78 rfl (lv_at hl 1 rfl) ?_
      obtain ⟨rfl, rfl, rfl, rfl⟩ := zret_i hf
      exact zr_lret hc hn hr hq (fun _ _ _ _ q => q) dX4_takesWord_79
    · have hf := zif_f c9 hf
      refine lv_iload_n hx hb dX4_takesWord_27 rfl (lv_at hl 2 rfl) ?_
      refine lv_bipush (v := (8 : Int32)) hx hb dX4_takesWord_28 (by decide) ?_
      refine lv_icmp_ge (tgt := 58) hx hb dX4_takesWord_30 (by decide) (fun c9 => ?_) (fun c9 => ?_)
      · have hf := zif_t c9 hf
        refine lv_ldc2 (v := (-1 : Int64)) hx hb hc.ow (hc.ts _ q2242) dX4_takesWord_58 ?_
        exact m_X4_takesWord_b61 hc hr hin (f_X4_takesWord_b16 n) ih h103 a0 v3 (-1 : Int64) _ _ _ _ _ _ hf hq hn _ (lv_sub hl [0, 2] rfl)
      · have hf := zif_f c9 hf
        refine lv_ldc2 (v := (27 : Int64)) hx hb hc.ow (hc.ts _ q2241) dX4_takesWord_33 ?_
        refine lv_lload_n hx hb dX4_takesWord_36 rfl (lv_at hl 1 rfl) ?_
        refine lv_lmul hx hb dX4_takesWord_37 ?_
        refine zr_nmL hf (fun x104 hf => ?_)
        refine lv_aload_n (x := a0) hx hb dX4_takesWord_38 rfl (lv_at hl 0 rfl) ?_
        refine zr_gP hc hn (ci := 3) rfl rfl in_X4 12 (by decide) q2111 (fun _ h => h) (fun _ _ _ => rfl) hf dX4_takesWord_39 (fun x105 hf => ?_)
        refine lv_aload_n (x := a0) hx hb dX4_takesWord_42 rfl (lv_at hl 0 rfl) ?_
        refine zr_gI hc hn (ci := 3) rfl rfl in_X4 14 (by decide) q2113 (fun _ h => h) (fun _ _ _ => rfl) hf dX4_takesWord_43 (fun x106 hf => ?_)
        obtain ⟨a107, e9, hf9⟩ := znn_i hf
        subst e9
        have hf := hf9
        clear hf9
        refine zr_aI0 hc hn hf dX4_takesWord_46 (fun x108 hf => ?_)
        refine lv_i2l (v := x108.toInt64) hx hb dX4_takesWord_47 rfl ?_
        refine zr_nmL hf (fun x109 hf => ?_)
        refine lv_ladd hx hb dX4_takesWord_48 ?_
        refine zr_nmL hf (fun x110 hf => ?_)
        refine lv_ldc2 (v := (97 : Int64)) hx hb hc.ow (hc.ts _ q2239) dX4_takesWord_49 ?_
        refine lv_lsub hx hb dX4_takesWord_52 ?_
        refine zr_nmL hf (fun x111 hf => ?_)
        refine lv_lconst (v := (1 : Int64)) hx hb dX4_takesWord_53 (by decide) ?_
        refine lv_ladd hx hb dX4_takesWord_54 ?_
        refine zr_nmL hf (fun x112 hf => ?_)
        refine lv_goto (tgt := 61) hx hb dX4_takesWord_55 (by decide) ?_
        exact m_X4_takesWord_b61 hc hr hin (f_X4_takesWord_b16 n) ih h103 a0 v3 x112 _ _ _ _ _ _ hf hq hn _ (lv_sub hl [0, 2] rfl)
set_option maxHeartbeats 4000000 in
set_option maxRecDepth 100000 in
theorem m_X4_takesWord (l : Launch) (D : va_G) (dA : Nat → ClassId) (b0 : Nat) (gs : Nat → Option Nat) (h : PH) (a0 : Nat) {r : Int64} {hh : PH} {mc ms : Nat} (hf : f_X4_takesWord h a0 = some (r, hh, mc, ms)) : zMt l D dA b0 gs yX4_takesWord cX4_takesWord 4 (some .long) 3 106 [.ref a0] h (evL r) hh mc ms := by
  unfold f_X4_takesWord at hf
  refine zMt.of (by decide) (Nat.le_of_ble_eq_true rfl) ?_
  intro p e s m args below meth c hc hr hin hn ls hl
  have hl : lv_has ls 4 [(0, .ref a0)] := hl
  have hq : 0 + mc = mc ∧ 0 + ms = ms := ⟨Nat.zero_add _, Nat.zero_add _⟩
  have hx := hc.x
  have hb := hc.b
  refine lv_aload_n (x := a0) hx hb dX4_takesWord_0 rfl (lv_at hl 0 rfl) ?_
  refine zr_cVU (As := []) (rest := []) hc hn hq (ci := 3) rfl ⟨rfl, hd_X4_blanks⟩ (lw_V q2222 q2224 qs34 q91 q2225) (Nat.le_of_ble_eq_true rfl) (Nat.le_of_ble_eq_true rfl) (fun _ _ _ _ q => m_X4_blanks l D dA b0 gs h a0 q) hf dX4_takesWord_1 hl.1 rfl rfl (zroom (Nat.le_of_ble_eq_true rfl)) (fun x101 h102 H locs cells slots C9 S9 hf hq hn => ?_)
  refine lv_aload_n (x := a0) hx hb dX4_takesWord_4 rfl (lv_at hl 0 rfl) ?_
  refine lv_aload_n (x := a0) hx hb dX4_takesWord_5 rfl (lv_at hl 0 rfl) ?_
  refine zr_gI hc hn (ci := 3) rfl rfl in_X4 14 (by decide) q2113 (fun _ h => h) (fun _ _ _ => rfl) hf dX4_takesWord_6 (fun x103 hf => ?_)
  refine zr_pI (x := x103) hc hn (ci := 3) rfl rfl in_X4 20 (by decide) tyX4 tyX4_ok nmX4 q2119 (fun _ h => h) (Or.inl rfl) (fun _ _ _ => rfl) rfl rfl hf dX4_takesWord_9 (fun h104 H locs hf hn => ?_)
  refine lv_lconst (v := (0 : Int64)) hx hb dX4_takesWord_12 (by decide) ?_
  refine lv_lstore_n (i := 1) (lv' := [(1, .long (0 : Int64)), (0, .ref a0)]) hx hb dX4_takesWord_13 rfl hl (by decide) rfl (fun ls hl => ?_)
  refine lv_iconst (v := (0 : Int32)) hx hb dX4_takesWord_14 (by decide) ?_
  refine lv_istore_n (i := 3) (lv' := [(3, .int (0 : Int32)), (1, .long (0 : Int64)), (0, .ref a0)]) hx hb dX4_takesWord_15 rfl hl (by decide) rfl (fun ls hl => ?_)
  exact m_X4_takesWord_b16 hc hr hin zFU h104 a0 (0 : Int64) (0 : Int32) _ _ _ _ _ _ hf hq hn _ (lv_sub hl [2, 1, 0] rfl)
theorem hd_X4_says : yX4_says.cls ≠ "java/lang/invoke/MethodHandle" ∧ yX4_says.cls ≠ "java/lang/invoke/VarHandle" ∧ (parseMethodDescriptor yX4_says.desc).map (fun d => d.parameters.length) = some 1 := by decide +kernel
def f_X4_says (h : PH) (a0 : Nat) (v1 : Int64) : ZR Int32 :=
  zgI h a0 3 14 fun x101 =>
  zrc h a0 3 <| zcl (f_X4_takesWord h a0) fun x102 h103 =>
  znm (lg_cmp x102 v1) fun x104 =>
  if x104 = 0 then
    (zret (1 : Int32) h103)
  else
    (zpI h103 a0 3 14 x101 fun h105 =>
    zrc h105 a0 3 <| zcl (f_X4_blanks h105 a0) fun _ h107 =>
    zret (0 : Int32) h107)
set_option maxHeartbeats 4000000 in
set_option maxRecDepth 100000 in
theorem m_X4_says (l : Launch) (D : va_G) (dA : Nat → ClassId) (b0 : Nat) (gs : Nat → Option Nat) (h : PH) (a0 : Nat) (v1 : Int64) {r : Int32} {hh : PH} {mc ms : Nat} (hf : f_X4_says h a0 v1 = some (r, hh, mc, ms)) : zMt l D dA b0 gs yX4_says cX4_says 5 (some .boolean) 4 129 [.ref a0, .long v1] h (evI r) hh mc ms := by
  unfold f_X4_says at hf
  refine zMt.of (by decide) (Nat.le_of_ble_eq_true rfl) ?_
  intro p e s m args below meth c hc hr hin hn ls hl
  have hl : lv_has ls 5 [(0, .ref a0), (1, .long v1)] := hl
  have hq : 0 + mc = mc ∧ 0 + ms = ms := ⟨Nat.zero_add _, Nat.zero_add _⟩
  have hx := hc.x
  have hb := hc.b
  refine lv_aload_n (x := a0) hx hb dX4_says_0 rfl (lv_at hl 0 rfl) ?_
  refine zr_gI hc hn (ci := 3) rfl rfl in_X4 14 (by decide) q2113 (fun _ h => h) (fun _ _ _ => rfl) hf dX4_says_1 (fun x101 hf => ?_)
  refine lv_istore_n (i := 3) (lv' := [(3, .int x101), (0, .ref a0), (1, .long v1)]) hx hb dX4_says_4 rfl hl (by decide) rfl (fun ls hl => ?_)
  refine lv_aload_n (x := a0) hx hb dX4_says_5 rfl (lv_at hl 1 rfl) ?_
  refine zr_cVL (As := []) (rest := []) hc hn hq (ci := 3) rfl ⟨rfl, hd_X4_takesWord⟩ (lw_V q2231 q2233 qs36 q91 q2234) (Nat.le_of_ble_eq_true rfl) (Nat.le_of_ble_eq_true rfl) (fun _ _ _ _ q => m_X4_takesWord l D dA b0 gs h a0 q) hf dX4_says_6 hl.1 rfl rfl (zroom (Nat.le_of_ble_eq_true rfl)) (fun x102 h103 H locs cells slots C9 S9 hf hq hn => ?_)
  refine lv_lload_n hx hb dX4_says_9 rfl (lv_at hl 2 rfl) ?_
  refine W.lcmp hx hb dX4_says_10 ?_
  refine zr_nmI hf (fun x104 hf => ?_)
  refine lv_if_ne (tgt := 18) hx hb dX4_says_11 (by decide) (fun c9 => ?_) (fun c9 => ?_)
  · have hf := zif_f c9 hf
    refine lv_iconst (v := (0 : Int32)) hx hb dX4_says_18 (by decide) ?_
    refine lv_istore (lv' := [(4, .int (0 : Int32)), (3, .int x101), (0, .ref a0), (1, .long v1)]) hx hb dX4_says_19 hl (by decide) rfl (fun ls hl => ?_)
    refine lv_iload hx hb dX4_says_21 (lv_at hl 0 rfl) ?_
    refine lv_if_ne (tgt := 35) hx hb dX4_says_23 (by decide) (fun c9 => ?_) (fun c9 => ?_)
    · first | exact absurd c9 (by decide) | exact absurd (by decide) c9
    · refine lv_aload_n (x := a0) hx hb dX4_says_26 rfl (lv_at hl 2 rfl) ?_
      refine lv_iload_n hx hb dX4_says_27 rfl (lv_at hl 1 rfl) ?_
      refine zr_pI (x := x101) hc hn (ci := 3) rfl rfl in_X4 14 (by decide) tyX4 tyX4_ok nmX4 q2113 (fun _ h => h) (Or.inl rfl) (fun _ _ _ => rfl) rfl rfl hf dX4_says_28 (fun h105 H locs hf hn => ?_)
      refine lv_aload_n (x := a0) hx hb dX4_says_31 rfl (lv_at hl 2 rfl) ?_
      refine zr_cVU (As := []) (rest := []) hc hn hq (ci := 3) rfl ⟨rfl, hd_X4_blanks⟩ (lw_V q2222 q2224 qs34 q91 q2225) (Nat.le_of_ble_eq_true rfl) (Nat.le_of_ble_eq_true rfl) (fun _ _ _ _ q => m_X4_blanks l D dA b0 gs h105 a0 q) hf dX4_says_32 hl.1 rfl rfl (zroom (Nat.le_of_ble_eq_true rfl)) (fun x106 h107 H locs cells slots C9 S9 hf hq hn => ?_)
      refine lv_iload hx hb dX4_says_35 (lv_at hl 0 rfl) ?_
      obtain ⟨rfl, rfl, rfl, rfl⟩ := zret_i hf
      exact zr_zret hc hn hr (by decide) hq (fun _ _ _ _ q => q) dX4_says_37
  · have hf := zif_t c9 hf
    refine lv_iconst (v := (1 : Int32)) hx hb dX4_says_14 (by decide) ?_
    refine lv_goto (tgt := 19) hx hb dX4_says_15 (by decide) ?_
    refine lv_istore (lv' := [(4, .int (1 : Int32)), (3, .int x101), (0, .ref a0), (1, .long v1)]) hx hb dX4_says_19 hl (by decide) rfl (fun ls hl => ?_)
    refine lv_iload hx hb dX4_says_21 (lv_at hl 0 rfl) ?_
    refine lv_if_ne (tgt := 35) hx hb dX4_says_23 (by decide) (fun c9 => ?_) (fun c9 => ?_)
    · refine lv_iload hx hb dX4_says_35 (lv_at hl 0 rfl) ?_
      obtain ⟨rfl, rfl, rfl, rfl⟩ := zret_i hf
      exact zr_zret hc hn hr (by decide) hq (fun _ _ _ _ q => q) dX4_says_37
    · first | exact absurd c9 (by decide) | exact absurd (by decide) c9
theorem hd_X4_fault : yX4_fault.cls ≠ "java/lang/invoke/MethodHandle" ∧ yX4_fault.cls ≠ "java/lang/invoke/VarHandle" ∧ (parseMethodDescriptor yX4_fault.desc).map (fun d => d.parameters.length) = some 2 := by decide +kernel
def f_X4_fault (h : PH) (a0 : Nat) (v1 : Int32) (v2 : Int32) : ZR Unit :=
  zgI h a0 3 17 fun x101 =>
  if x101 = 0 then
    (zpI h a0 3 17 (1 : Int32) fun h102 =>
    zpI h102 a0 3 15 v1 fun h103 =>
    zpI h103 a0 3 16 v2 fun h104 =>
    zret () h104)
  else
    (zret () h)
set_option maxHeartbeats 4000000 in
set_option maxRecDepth 100000 in
theorem m_X4_fault (l : Launch) (D : va_G) (dA : Nat → ClassId) (b0 : Nat) (gs : Nat → Option Nat) (h : PH) (a0 : Nat) (v1 : Int32) (v2 : Int32) {r : Unit} {hh : PH} {mc ms : Nat} (hf : f_X4_fault h a0 v1 v2 = some (r, hh, mc, ms)) : zMt l D dA b0 gs yX4_fault cX4_fault 3 none 1 60 [.ref a0, .int v1, .int v2] h (evU r) hh mc ms := by
  unfold f_X4_fault at hf
  refine zMt.of (by decide) (Nat.le_of_ble_eq_true rfl) ?_
  intro p e s m args below meth c hc hr hin hn ls hl
  have hl : lv_has ls 3 [(0, .ref a0), (1, .int v1), (2, .int v2)] := hl
  have hq : 0 + mc = mc ∧ 0 + ms = ms := ⟨Nat.zero_add _, Nat.zero_add _⟩
  have hx := hc.x
  have hb := hc.b
  refine lv_aload_n (x := a0) hx hb dX4_fault_0 rfl (lv_at hl 0 rfl) ?_
  refine zr_gI hc hn (ci := 3) rfl rfl in_X4 17 (by decide) q2116 (fun _ h => h) (fun _ _ _ => rfl) hf dX4_fault_1 (fun x101 hf => ?_)
  refine lv_if_ne (tgt := 22) hx hb dX4_fault_4 (by decide) (fun c9 => ?_) (fun c9 => ?_)
  · have hf := zif_f c9 hf
    obtain ⟨rfl, rfl, rfl, rfl⟩ := zret_i hf
    exact zr_vret hc hn hr hq (fun _ _ _ _ q => q) dX4_fault_22
  · have hf := zif_t c9 hf
    refine lv_aload_n (x := a0) hx hb dX4_fault_7 rfl (lv_at hl 0 rfl) ?_
    refine lv_iconst (v := (1 : Int32)) hx hb dX4_fault_8 (by decide) ?_
    refine zr_pI (x := (1 : Int32)) hc hn (ci := 3) rfl rfl in_X4 17 (by decide) tyX4 tyX4_ok nmX4 q2116 (fun _ h => h) (Or.inl rfl) (fun _ _ _ => rfl) (by decide) (by decide) hf dX4_fault_9 (fun h102 H locs hf hn => ?_)
    refine lv_aload_n (x := a0) hx hb dX4_fault_12 rfl (lv_at hl 0 rfl) ?_
    refine lv_iload_n hx hb dX4_fault_13 rfl (lv_at hl 1 rfl) ?_
    refine zr_pI (x := v1) hc hn (ci := 3) rfl rfl in_X4 15 (by decide) tyX4 tyX4_ok nmX4 q2114 (fun _ h => h) (Or.inl rfl) (fun _ _ _ => rfl) rfl rfl hf dX4_fault_14 (fun h103 H locs hf hn => ?_)
    refine lv_aload_n (x := a0) hx hb dX4_fault_17 rfl (lv_at hl 0 rfl) ?_
    refine lv_iload_n hx hb dX4_fault_18 rfl (lv_at hl 2 rfl) ?_
    refine zr_pI (x := v2) hc hn (ci := 3) rfl rfl in_X4 16 (by decide) tyX4 tyX4_ok nmX4 q2115 (fun _ h => h) (Or.inl rfl) (fun _ _ _ => rfl) rfl rfl hf dX4_fault_19 (fun h104 H locs hf hn => ?_)
    obtain ⟨rfl, rfl, rfl, rfl⟩ := zret_i hf
    exact zr_vret hc hn hr hq (fun _ _ _ _ q => q) dX4_fault_22
theorem hd_X4_isDigit : yX4_isDigit.cls ≠ "java/lang/invoke/MethodHandle" ∧ yX4_isDigit.cls ≠ "java/lang/invoke/VarHandle" ∧ (parseMethodDescriptor yX4_isDigit.desc).map (fun d => d.parameters.length) = some 1 := by decide +kernel
def f_X4_isDigit (h : PH) (a0 : Nat) (v1 : Int32) : ZR Int32 :=
  zgI h a0 3 13 fun x101 =>
  if x101 ≤ v1 then
    (zret (0 : Int32) h)
  else
    (zgP h a0 3 12 fun x102 =>
    znn x102 fun a103 =>
    zaI h a103 0 v1 fun x104 =>
    znm x104.toInt64 fun x105 =>
    zcl (f_X4_in h x105 (48 : Int64) (57 : Int64)) fun x106 h107 =>
    if x106 = 0 then
      (zret (0 : Int32) h107)
    else
      (zret (1 : Int32) h107))
set_option maxHeartbeats 4000000 in
set_option maxRecDepth 100000 in
theorem m_X4_isDigit (l : Launch) (D : va_G) (dA : Nat → ClassId) (b0 : Nat) (gs : Nat → Option Nat) (h : PH) (a0 : Nat) (v1 : Int32) {r : Int32} {hh : PH} {mc ms : Nat} (hf : f_X4_isDigit h a0 v1 = some (r, hh, mc, ms)) : zMt l D dA b0 gs yX4_isDigit cX4_isDigit 2 (some .boolean) 2 85 [.ref a0, .int v1] h (evI r) hh mc ms := by
  unfold f_X4_isDigit at hf
  refine zMt.of (by decide) (Nat.le_of_ble_eq_true rfl) ?_
  intro p e s m args below meth c hc hr hin hn ls hl
  have hl : lv_has ls 2 [(0, .ref a0), (1, .int v1)] := hl
  have hq : 0 + mc = mc ∧ 0 + ms = ms := ⟨Nat.zero_add _, Nat.zero_add _⟩
  have hx := hc.x
  have hb := hc.b
  refine lv_iload_n hx hb dX4_isDigit_0 rfl (lv_at hl 1 rfl) ?_
  refine lv_aload_n (x := a0) hx hb dX4_isDigit_1 rfl (lv_at hl 0 rfl) ?_
  refine zr_gI hc hn (ci := 3) rfl rfl in_X4 13 (by decide) q2112 (fun _ h => h) (fun _ _ _ => rfl) hf dX4_isDigit_2 (fun x101 hf => ?_)
  refine lv_icmp_ge (tgt := 31) hx hb dX4_isDigit_5 (by decide) (fun c9 => ?_) (fun c9 => ?_)
  · have hf := zif_t c9 hf
    refine lv_iconst (v := (0 : Int32)) hx hb dX4_isDigit_31 (by decide) ?_
    obtain ⟨rfl, rfl, rfl, rfl⟩ := zret_i hf
    exact zr_zret hc hn hr (by decide) hq (fun _ _ _ _ q => q) dX4_isDigit_32
  · have hf := zif_f c9 hf
    refine lv_aload_n (x := a0) hx hb dX4_isDigit_8 rfl (lv_at hl 0 rfl) ?_
    refine zr_gP hc hn (ci := 3) rfl rfl in_X4 12 (by decide) q2111 (fun _ h => h) (fun _ _ _ => rfl) hf dX4_isDigit_9 (fun x102 hf => ?_)
    refine lv_iload_n hx hb dX4_isDigit_12 rfl (lv_at hl 1 rfl) ?_
    obtain ⟨a103, e9, hf9⟩ := znn_i hf
    subst e9
    have hf := hf9
    clear hf9
    refine zr_aI0 hc hn hf dX4_isDigit_13 (fun x104 hf => ?_)
    refine lv_i2l (v := x104.toInt64) hx hb dX4_isDigit_14 rfl ?_
    refine zr_nmL hf (fun x105 hf => ?_)
    refine lv_ldc2 (v := (48 : Int64)) hx hb hc.ow (hc.ts _ q2255) dX4_isDigit_15 ?_
    refine lv_ldc2 (v := (57 : Int64)) hx hb hc.ow (hc.ts _ q2256) dX4_isDigit_18 ?_
    refine zr_cSI (As := [.long x105, .long (48 : Int64), .long (57 : Int64)]) (rest := []) hc hn hq hd_X4_in (lw_S q2211 q2212 q91 q2213) (Nat.le_of_ble_eq_true rfl) (Nat.le_of_ble_eq_true rfl) (fun _ _ _ _ q => m_X4_in l D dA b0 gs h x105 (48 : Int64) (57 : Int64) q) hf dX4_isDigit_21 hl.1 rfl rfl (zroom (Nat.le_of_ble_eq_true rfl)) (fun x106 h107 H locs cells slots C9 S9 hf hq hn => ?_)
    refine lv_if_eq (tgt := 31) hx hb dX4_isDigit_24 (by decide) (fun c9 => ?_) (fun c9 => ?_)
    · have hf := zif_t c9 hf
      refine lv_iconst (v := (0 : Int32)) hx hb dX4_isDigit_31 (by decide) ?_
      obtain ⟨rfl, rfl, rfl, rfl⟩ := zret_i hf
      exact zr_zret hc hn hr (by decide) hq (fun _ _ _ _ q => q) dX4_isDigit_32
    · have hf := zif_f c9 hf
      refine lv_iconst (v := (1 : Int32)) hx hb dX4_isDigit_27 (by decide) ?_
      refine lv_goto (tgt := 32) hx hb dX4_isDigit_28 (by decide) ?_
      obtain ⟨rfl, rfl, rfl, rfl⟩ := zret_i hf
      exact zr_zret hc hn hr (by decide) hq (fun _ _ _ _ q => q) dX4_isDigit_32
theorem hd_X4_number : yX4_number.cls ≠ "java/lang/invoke/MethodHandle" ∧ yX4_number.cls ≠ "java/lang/invoke/VarHandle" ∧ (parseMethodDescriptor yX4_number.desc).map (fun d => d.parameters.length) = some 0 := by decide +kernel
def f_X4_number_b63 (k19 : PH → Nat → Int32 → ZR Int32) (h : PH) (a0 : Nat) (v1 : Int32) (s0 : Nat) (s1 : Int32) : ZR Int32 :=
  zpI h s0 3 18 s1 fun h101 =>
  znm (v1 + (1 : Int32)) fun x102 =>
  zgI h101 a0 3 14 fun x103 =>
  znm (x103 + (1 : Int32)) fun x104 =>
  zpI h101 a0 3 14 x104 fun h105 =>
  k19 h105 a0 x102
def f_X4_number_b19 : Nat → PH → Nat → Int32 → ZR Int32
  | 0 => fun _ _ _ => none
  | n + 1 => fun h a0 v1 =>
    zgI h a0 3 14 fun x101 =>
    zrc h a0 3 <| zcl (f_X4_isDigit h a0 x101) fun x102 h103 =>
    if x102 = 0 then
      (if v1 = 0 then
        (zgI h103 a0 3 19 fun x104 =>
        zrc h103 a0 3 <| zcl (f_X4_fault h103 a0 (1 : Int32) x104) fun _ h106 =>
        zgI h106 a0 3 18 fun x107 =>
        zret x107 h106)
      else
        (if v1 ≤ (4 : Int32) then
          (zgI h103 a0 3 18 fun x108 =>
          zret x108 h103)
        else
          (zgI h103 a0 3 19 fun x109 =>
          zrc h103 a0 3 <| zcl (f_X4_fault h103 a0 (1 : Int32) x109) fun _ h111 =>
          zgI h111 a0 3 18 fun x112 =>
          zret x112 h111)))
    else
      (if (4 : Int32) ≤ v1 then
        (zgI h103 a0 3 18 fun x113 =>
        f_X4_number_b63 (f_X4_number_b19 n) h103 a0 v1 a0 x113)
      else
        (zgI h103 a0 3 18 fun x114 =>
        znm ((10 : Int32) * x114) fun x115 =>
        zgP h103 a0 3 12 fun x116 =>
        zgI h103 a0 3 14 fun x117 =>
        znn x116 fun a118 =>
        zaI h103 a118 0 x117 fun x119 =>
        znm (x115 + x119) fun x120 =>
        znm (x120 - (48 : Int32)) fun x121 =>
        f_X4_number_b63 (f_X4_number_b19 n) h103 a0 v1 a0 x121))
def f_X4_number (h : PH) (a0 : Nat) : ZR Int32 :=
  zrc h a0 3 <| zcl (f_X4_blanks h a0) fun _ h102 =>
  zgI h102 a0 3 14 fun x103 =>
  zpI h102 a0 3 19 x103 fun h104 =>
  zpI h104 a0 3 18 (0 : Int32) fun h105 =>
  f_X4_number_b19 zFU h105 a0 (0 : Int32)
set_option maxHeartbeats 4000000 in
set_option maxRecDepth 100000 in
theorem m_X4_number_b63 {p : Program} {l : Launch} {e : Env} {s : State} {m : MethodId} {args : Array Value} {below : List Frame} {meth : Method} {c : Code} {D : va_G} {dA : Nat → ClassId} {b0 : Nat} {gs : Nat → Option Nat} (hc : zC D dA b0 gs yX4_number.cls cX4_number 2 p c s m args meth) (hr : meth.sig.returnType = (some .int)) (hin : meth.name = yX4_number.name) {r : Int32} {hh : PH} {mc ms : Nat} (k19 : PH → Nat → Int32 → ZR Int32) (hk19 : ∀ (h : PH) (a0 : Nat) (v1 : Int32) (C9 S9 : Nat) (H : Heap) (locs : List Loc) (cells slots : Nat), k19 h a0 v1 = some (r, hh, C9, S9) → cells + C9 = mc ∧ slots + S9 = ms → zM D dA b0 gs s h H locs → ∀ ls : Array Slot, lv_has ls 2 [(0, .ref a0), (1, .int v1)] → W p l e ({ frames := 3, cells := mc, slots := ms, locals := 106 } : Room) s m args below meth c H locs cells slots (MQ below (zQ D dA b0 gs (evI r) hh) args s mc ms (zA b0)) (F0 m 19 ls [])) : ∀ (h : PH) (a0 : Nat) (v1 : Int32) (s0 : Nat) (s1 : Int32) (C9 S9 : Nat) (H : Heap) (locs : List Loc) (cells slots : Nat), f_X4_number_b63 k19 h a0 v1 s0 s1 = some (r, hh, C9, S9) → cells + C9 = mc ∧ slots + S9 = ms → zM D dA b0 gs s h H locs → ∀ ls : Array Slot, lv_has ls 2 [(0, .ref a0), (1, .int v1)] → W p l e ({ frames := 3, cells := mc, slots := ms, locals := 106 } : Room) s m args below meth c H locs cells slots (MQ below (zQ D dA b0 gs (evI r) hh) args s mc ms (zA b0)) (F0 m 63 ls [.int s1, .ref s0]) := by
  have hx := hc.x
  have hb := hc.b
  intro h a0 v1 s0 s1 C9 S9 H locs cells slots hf hq hn ls hl
  unfold f_X4_number_b63 at hf
  refine zr_pI (x := s1) hc hn (ci := 3) rfl rfl in_X4 18 (by decide) tyX4 tyX4_ok nmX4 q2117 (fun _ h => h) (Or.inl rfl) (fun _ _ _ => rfl) rfl rfl hf dX4_number_63 (fun h101 H locs hf hn => ?_)
  obtain ⟨x102, ex102, hf⟩ := znm_i hf
  refine lv_iinc (v := x102) (lv' := [(1, .int x102), (0, .ref a0)]) hx hb dX4_number_66 hl (k := 1) rfl (by rw [ex102]; rfl) (by decide) rfl (fun ls hl => ?_)
  refine lv_aload_n (x := a0) hx hb dX4_number_69 rfl (lv_at hl 1 rfl) ?_
  refine lv_dup hx hb dX4_number_70 rfl ?_
  refine zr_gI hc hn (ci := 3) rfl rfl in_X4 14 (by decide) q2113 (fun _ h => h) (fun _ _ _ => rfl) hf dX4_number_71 (fun x103 hf => ?_)
  refine lv_iconst (v := (1 : Int32)) hx hb dX4_number_74 (by decide) ?_
  refine lv_iadd hx hb dX4_number_75 ?_
  refine zr_nmI hf (fun x104 hf => ?_)
  refine zr_pI (x := x104) hc hn (ci := 3) rfl rfl in_X4 14 (by decide) tyX4 tyX4_ok nmX4 q2113 (fun _ h => h) (Or.inl rfl) (fun _ _ _ => rfl) rfl rfl hf dX4_number_76 (fun h105 H locs hf hn => ?_)
  refine lv_goto (tgt := 19) hx hb dX4_number_79 (by decide) ?_
  exact hk19 h105 a0 x102 _ _ _ _ _ _ hf hq hn _ (lv_sub hl [1, 0] rfl)
set_option maxHeartbeats 4000000 in
set_option maxRecDepth 100000 in
theorem m_X4_number_b19 {p : Program} {l : Launch} {e : Env} {s : State} {m : MethodId} {args : Array Value} {below : List Frame} {meth : Method} {c : Code} {D : va_G} {dA : Nat → ClassId} {b0 : Nat} {gs : Nat → Option Nat} (hc : zC D dA b0 gs yX4_number.cls cX4_number 2 p c s m args meth) (hr : meth.sig.returnType = (some .int)) (hin : meth.name = yX4_number.name) {r : Int32} {hh : PH} {mc ms : Nat} : ∀ (n : Nat) (h : PH) (a0 : Nat) (v1 : Int32) (C9 S9 : Nat) (H : Heap) (locs : List Loc) (cells slots : Nat), f_X4_number_b19 n h a0 v1 = some (r, hh, C9, S9) → cells + C9 = mc ∧ slots + S9 = ms → zM D dA b0 gs s h H locs → ∀ ls : Array Slot, lv_has ls 2 [(0, .ref a0), (1, .int v1)] → W p l e ({ frames := 3, cells := mc, slots := ms, locals := 106 } : Room) s m args below meth c H locs cells slots (MQ below (zQ D dA b0 gs (evI r) hh) args s mc ms (zA b0)) (F0 m 19 ls []) := by
  have hx := hc.x
  have hb := hc.b
  intro n
  induction n with
  | zero =>
    intro h a0 v1 C9 S9 H locs cells slots hf hq hn ls hl
    cases hf
  | succ n ih =>
    intro h a0 v1 C9 S9 H locs cells slots hf hq hn ls hl
    unfold f_X4_number_b19 at hf
    refine lv_aload_n (x := a0) hx hb dX4_number_19 rfl (lv_at hl 0 rfl) ?_
    refine lv_aload_n (x := a0) hx hb dX4_number_20 rfl (lv_at hl 0 rfl) ?_
    refine zr_gI hc hn (ci := 3) rfl rfl in_X4 14 (by decide) q2113 (fun _ h => h) (fun _ _ _ => rfl) hf dX4_number_21 (fun x101 hf => ?_)
    refine zr_cVI (As := [.int x101]) (rest := []) hc hn hq (ci := 3) rfl ⟨rfl, hd_X4_isDigit⟩ (lw_V q2251 q2253 qs40 q91 q2254) (Nat.le_of_ble_eq_true rfl) (Nat.le_of_ble_eq_true rfl) (fun _ _ _ _ q => m_X4_isDigit l D dA b0 gs h a0 x101 q) hf dX4_number_24 hl.1 rfl rfl (zroom (Nat.le_of_ble_eq_true rfl)) (fun x102 h103 H locs cells slots C9 S9 hf hq hn => ?_)
    refine lv_if_eq (tgt := 82) hx hb dX4_number_27 (by decide) (fun c9 => ?_) (fun c9 => ?_)
    · have hf := zif_t c9 hf
      refine lv_iload_n hx hb dX4_number_82 rfl (lv_at hl 1 rfl) ?_
      refine lv_if_eq (tgt := 91) hx hb dX4_number_83 (by decide) (fun c9 => ?_) (fun c9 => ?_)
      · have hf := zif_t c9 hf
        refine lv_aload_n (x := a0) hx hb dX4_number_91 rfl (lv_at hl 0 rfl) ?_
        refine lv_iconst (v := (1 : Int32)) hx hb dX4_number_92 (by decide) ?_
        refine lv_aload_n (x := a0) hx hb dX4_number_93 rfl (lv_at hl 0 rfl) ?_
        refine zr_gI hc hn (ci := 3) rfl rfl in_X4 19 (by decide) q2118 (fun _ h => h) (fun _ _ _ => rfl) hf dX4_number_94 (fun x104 hf => ?_)
        refine zr_cVU (As := [.int (1 : Int32), .int x104]) (rest := []) hc hn hq (ci := 3) rfl ⟨rfl, hd_X4_fault⟩ (lw_V q2243 q2245 qs38 q91 q2246) (Nat.le_of_ble_eq_true rfl) (Nat.le_of_ble_eq_true rfl) (fun _ _ _ _ q => m_X4_fault l D dA b0 gs h103 a0 (1 : Int32) x104 q) hf dX4_number_97 hl.1 rfl rfl (zroom (Nat.le_of_ble_eq_true rfl)) (fun x105 h106 H locs cells slots C9 S9 hf hq hn => ?_)
        refine lv_aload_n (x := a0) hx hb dX4_number_100 rfl (lv_at hl 0 rfl) ?_
        refine zr_gI hc hn (ci := 3) rfl rfl in_X4 18 (by decide) q2117 (fun _ h => h) (fun _ _ _ => rfl) hf dX4_number_101 (fun x107 hf => ?_)
        obtain ⟨rfl, rfl, rfl, rfl⟩ := zret_i hf
        exact zr_iret hc hn hr hq (fun _ _ _ _ q => q) dX4_number_104
      · have hf := zif_f c9 hf
        refine lv_iload_n hx hb dX4_number_86 rfl (lv_at hl 1 rfl) ?_
        refine lv_iconst (v := (4 : Int32)) hx hb dX4_number_87 (by decide) ?_
        refine lv_icmp_le (tgt := 100) hx hb dX4_number_88 (by decide) (fun c9 => ?_) (fun c9 => ?_)
        · have hf := zif_t c9 hf
          refine lv_aload_n (x := a0) hx hb dX4_number_100 rfl (lv_at hl 0 rfl) ?_
          refine zr_gI hc hn (ci := 3) rfl rfl in_X4 18 (by decide) q2117 (fun _ h => h) (fun _ _ _ => rfl) hf dX4_number_101 (fun x108 hf => ?_)
          obtain ⟨rfl, rfl, rfl, rfl⟩ := zret_i hf
          exact zr_iret hc hn hr hq (fun _ _ _ _ q => q) dX4_number_104
        · have hf := zif_f c9 hf
          refine lv_aload_n (x := a0) hx hb dX4_number_91 rfl (lv_at hl 0 rfl) ?_
          refine lv_iconst (v := (1 : Int32)) hx hb dX4_number_92 (by decide) ?_
          refine lv_aload_n (x := a0) hx hb dX4_number_93 rfl (lv_at hl 0 rfl) ?_
          refine zr_gI hc hn (ci := 3) rfl rfl in_X4 19 (by decide) q2118 (fun _ h => h) (fun _ _ _ => rfl) hf dX4_number_94 (fun x109 hf => ?_)
          refine zr_cVU (As := [.int (1 : Int32), .int x109]) (rest := []) hc hn hq (ci := 3) rfl ⟨rfl, hd_X4_fault⟩ (lw_V q2243 q2245 qs38 q91 q2246) (Nat.le_of_ble_eq_true rfl) (Nat.le_of_ble_eq_true rfl) (fun _ _ _ _ q => m_X4_fault l D dA b0 gs h103 a0 (1 : Int32) x109 q) hf dX4_number_97 hl.1 rfl rfl (zroom (Nat.le_of_ble_eq_true rfl)) (fun x110 h111 H locs cells slots C9 S9 hf hq hn => ?_)
          refine lv_aload_n (x := a0) hx hb dX4_number_100 rfl (lv_at hl 0 rfl) ?_
          refine zr_gI hc hn (ci := 3) rfl rfl in_X4 18 (by decide) q2117 (fun _ h => h) (fun _ _ _ => rfl) hf dX4_number_101 (fun x112 hf => ?_)
          obtain ⟨rfl, rfl, rfl, rfl⟩ := zret_i hf
          exact zr_iret hc hn hr hq (fun _ _ _ _ q => q) dX4_number_104
    · have hf := zif_f c9 hf
      refine lv_aload_n (x := a0) hx hb dX4_number_30 rfl (lv_at hl 0 rfl) ?_
      refine lv_iload_n hx hb dX4_number_31 rfl (lv_at hl 1 rfl) ?_
      refine lv_iconst (v := (4 : Int32)) hx hb dX4_number_32 (by decide) ?_
      refine lv_icmp_ge (tgt := 59) hx hb dX4_number_33 (by decide) (fun c9 => ?_) (fun c9 => ?_)
      · have hf := zif_t c9 hf
        refine lv_aload_n (x := a0) hx hb dX4_number_59 rfl (lv_at hl 0 rfl) ?_
        refine zr_gI hc hn (ci := 3) rfl rfl in_X4 18 (by decide) q2117 (fun _ h => h) (fun _ _ _ => rfl) hf dX4_number_60 (fun x113 hf => ?_)
        exact m_X4_number_b63 hc hr hin (f_X4_number_b19 n) ih h103 a0 v1 a0 x113 _ _ _ _ _ _ hf hq hn _ (lv_sub hl [0, 1] rfl)
      · have hf := zif_f c9 hf
        refine lv_bipush (v := (10 : Int32)) hx hb dX4_number_36 (by decide) ?_
        refine lv_aload_n (x := a0) hx hb dX4_number_38 rfl (lv_at hl 0 rfl) ?_
        refine zr_gI hc hn (ci := 3) rfl rfl in_X4 18 (by decide) q2117 (fun _ h => h) (fun _ _ _ => rfl) hf dX4_number_39 (fun x114 hf => ?_)
        refine lv_imul hx hb dX4_number_42 ?_
        refine zr_nmI hf (fun x115 hf => ?_)
        refine lv_aload_n (x := a0) hx hb dX4_number_43 rfl (lv_at hl 0 rfl) ?_
        refine zr_gP hc hn (ci := 3) rfl rfl in_X4 12 (by decide) q2111 (fun _ h => h) (fun _ _ _ => rfl) hf dX4_number_44 (fun x116 hf => ?_)
        refine lv_aload_n (x := a0) hx hb dX4_number_47 rfl (lv_at hl 0 rfl) ?_
        refine zr_gI hc hn (ci := 3) rfl rfl in_X4 14 (by decide) q2113 (fun _ h => h) (fun _ _ _ => rfl) hf dX4_number_48 (fun x117 hf => ?_)
        obtain ⟨a118, e9, hf9⟩ := znn_i hf
        subst e9
        have hf := hf9
        clear hf9
        refine zr_aI0 hc hn hf dX4_number_51 (fun x119 hf => ?_)
        refine lv_iadd hx hb dX4_number_52 ?_
        refine zr_nmI hf (fun x120 hf => ?_)
        refine lv_bipush (v := (48 : Int32)) hx hb dX4_number_53 (by decide) ?_
        refine lv_isub hx hb dX4_number_55 ?_
        refine zr_nmI hf (fun x121 hf => ?_)
        refine lv_goto (tgt := 63) hx hb dX4_number_56 (by decide) ?_
        exact m_X4_number_b63 hc hr hin (f_X4_number_b19 n) ih h103 a0 v1 a0 x121 _ _ _ _ _ _ hf hq hn _ (lv_sub hl [0, 1] rfl)
set_option maxHeartbeats 4000000 in
set_option maxRecDepth 100000 in
theorem m_X4_number (l : Launch) (D : va_G) (dA : Nat → ClassId) (b0 : Nat) (gs : Nat → Option Nat) (h : PH) (a0 : Nat) {r : Int32} {hh : PH} {mc ms : Nat} (hf : f_X4_number h a0 = some (r, hh, mc, ms)) : zMt l D dA b0 gs yX4_number cX4_number 2 (some .int) 3 106 [.ref a0] h (evI r) hh mc ms := by
  unfold f_X4_number at hf
  refine zMt.of (by decide) (Nat.le_of_ble_eq_true rfl) ?_
  intro p e s m args below meth c hc hr hin hn ls hl
  have hl : lv_has ls 2 [(0, .ref a0)] := hl
  have hq : 0 + mc = mc ∧ 0 + ms = ms := ⟨Nat.zero_add _, Nat.zero_add _⟩
  have hx := hc.x
  have hb := hc.b
  refine lv_aload_n (x := a0) hx hb dX4_number_0 rfl (lv_at hl 0 rfl) ?_
  refine zr_cVU (As := []) (rest := []) hc hn hq (ci := 3) rfl ⟨rfl, hd_X4_blanks⟩ (lw_V q2222 q2224 qs34 q91 q2225) (Nat.le_of_ble_eq_true rfl) (Nat.le_of_ble_eq_true rfl) (fun _ _ _ _ q => m_X4_blanks l D dA b0 gs h a0 q) hf dX4_number_1 hl.1 rfl rfl (zroom (Nat.le_of_ble_eq_true rfl)) (fun x101 h102 H locs cells slots C9 S9 hf hq hn => ?_)
  refine lv_aload_n (x := a0) hx hb dX4_number_4 rfl (lv_at hl 0 rfl) ?_
  refine lv_aload_n (x := a0) hx hb dX4_number_5 rfl (lv_at hl 0 rfl) ?_
  refine zr_gI hc hn (ci := 3) rfl rfl in_X4 14 (by decide) q2113 (fun _ h => h) (fun _ _ _ => rfl) hf dX4_number_6 (fun x103 hf => ?_)
  refine zr_pI (x := x103) hc hn (ci := 3) rfl rfl in_X4 19 (by decide) tyX4 tyX4_ok nmX4 q2118 (fun _ h => h) (Or.inl rfl) (fun _ _ _ => rfl) rfl rfl hf dX4_number_9 (fun h104 H locs hf hn => ?_)
  refine lv_iconst (v := (0 : Int32)) hx hb dX4_number_12 (by decide) ?_
  refine lv_istore_n (i := 1) (lv' := [(1, .int (0 : Int32)), (0, .ref a0)]) hx hb dX4_number_13 rfl hl (by decide) rfl (fun ls hl => ?_)
  refine lv_aload_n (x := a0) hx hb dX4_number_14 rfl (lv_at hl 1 rfl) ?_
  refine lv_iconst (v := (0 : Int32)) hx hb dX4_number_15 (by decide) ?_
  refine zr_pI (x := (0 : Int32)) hc hn (ci := 3) rfl rfl in_X4 18 (by decide) tyX4 tyX4_ok nmX4 q2117 (fun _ h => h) (Or.inl rfl) (fun _ _ _ => rfl) rfl rfl hf dX4_number_16 (fun h105 H locs hf hn => ?_)
  exact m_X4_number_b19 hc hr hin zFU h105 a0 (0 : Int32) _ _ _ _ _ _ hf hq hn _ (lv_sub hl [1, 0] rfl)
theorem hd_X4_isNext : yX4_isNext.cls ≠ "java/lang/invoke/MethodHandle" ∧ yX4_isNext.cls ≠ "java/lang/invoke/VarHandle" ∧ (parseMethodDescriptor yX4_isNext.desc).map (fun d => d.parameters.length) = some 1 := by decide +kernel
def f_X4_isNext (h : PH) (a0 : Nat) (v1 : Int32) : ZR Int32 :=
  zrc h a0 3 <| zcl (f_X4_blanks h a0) fun _ h102 =>
  zgI h102 a0 3 14 fun x103 =>
  zgI h102 a0 3 13 fun x104 =>
  if x104 ≤ x103 then
    (zret (0 : Int32) h102)
  else
    (zgP h102 a0 3 12 fun x105 =>
    zgI h102 a0 3 14 fun x106 =>
    znn x105 fun a107 =>
    zaI h102 a107 0 x106 fun x108 =>
    if x108 = v1 then
      (zret (1 : Int32) h102)
    else
      (zret (0 : Int32) h102))
set_option maxHeartbeats 4000000 in
set_option maxRecDepth 100000 in
theorem m_X4_isNext (l : Launch) (D : va_G) (dA : Nat → ClassId) (b0 : Nat) (gs : Nat → Option Nat) (h : PH) (a0 : Nat) (v1 : Int32) {r : Int32} {hh : PH} {mc ms : Nat} (hf : f_X4_isNext h a0 v1 = some (r, hh, mc, ms)) : zMt l D dA b0 gs yX4_isNext cX4_isNext 2 (some .boolean) 2 80 [.ref a0, .int v1] h (evI r) hh mc ms := by
  unfold f_X4_isNext at hf
  refine zMt.of (by decide) (Nat.le_of_ble_eq_true rfl) ?_
  intro p e s m args below meth c hc hr hin hn ls hl
  have hl : lv_has ls 2 [(0, .ref a0), (1, .int v1)] := hl
  have hq : 0 + mc = mc ∧ 0 + ms = ms := ⟨Nat.zero_add _, Nat.zero_add _⟩
  have hx := hc.x
  have hb := hc.b
  refine lv_aload_n (x := a0) hx hb dX4_isNext_0 rfl (lv_at hl 0 rfl) ?_
  refine zr_cVU (As := []) (rest := []) hc hn hq (ci := 3) rfl ⟨rfl, hd_X4_blanks⟩ (lw_V q2222 q2224 qs34 q91 q2225) (Nat.le_of_ble_eq_true rfl) (Nat.le_of_ble_eq_true rfl) (fun _ _ _ _ q => m_X4_blanks l D dA b0 gs h a0 q) hf dX4_isNext_1 hl.1 rfl rfl (zroom (Nat.le_of_ble_eq_true rfl)) (fun x101 h102 H locs cells slots C9 S9 hf hq hn => ?_)
  refine lv_aload_n (x := a0) hx hb dX4_isNext_4 rfl (lv_at hl 0 rfl) ?_
  refine zr_gI hc hn (ci := 3) rfl rfl in_X4 14 (by decide) q2113 (fun _ h => h) (fun _ _ _ => rfl) hf dX4_isNext_5 (fun x103 hf => ?_)
  refine lv_aload_n (x := a0) hx hb dX4_isNext_8 rfl (lv_at hl 0 rfl) ?_
  refine zr_gI hc hn (ci := 3) rfl rfl in_X4 13 (by decide) q2112 (fun _ h => h) (fun _ _ _ => rfl) hf dX4_isNext_9 (fun x104 hf => ?_)
  refine lv_icmp_ge (tgt := 32) hx hb dX4_isNext_12 (by decide) (fun c9 => ?_) (fun c9 => ?_)
  · have hf := zif_t c9 hf
    refine lv_iconst (v := (0 : Int32)) hx hb dX4_isNext_32 (by decide) ?_
    obtain ⟨rfl, rfl, rfl, rfl⟩ := zret_i hf
    exact zr_zret hc hn hr (by decide) hq (fun _ _ _ _ q => q) dX4_isNext_33
  · have hf := zif_f c9 hf
    refine lv_aload_n (x := a0) hx hb dX4_isNext_15 rfl (lv_at hl 0 rfl) ?_
    refine zr_gP hc hn (ci := 3) rfl rfl in_X4 12 (by decide) q2111 (fun _ h => h) (fun _ _ _ => rfl) hf dX4_isNext_16 (fun x105 hf => ?_)
    refine lv_aload_n (x := a0) hx hb dX4_isNext_19 rfl (lv_at hl 0 rfl) ?_
    refine zr_gI hc hn (ci := 3) rfl rfl in_X4 14 (by decide) q2113 (fun _ h => h) (fun _ _ _ => rfl) hf dX4_isNext_20 (fun x106 hf => ?_)
    obtain ⟨a107, e9, hf9⟩ := znn_i hf
    subst e9
    have hf := hf9
    clear hf9
    refine zr_aI0 hc hn hf dX4_isNext_23 (fun x108 hf => ?_)
    refine lv_iload_n hx hb dX4_isNext_24 rfl (lv_at hl 1 rfl) ?_
    refine lv_icmp_ne (tgt := 32) hx hb dX4_isNext_25 (by decide) (fun c9 => ?_) (fun c9 => ?_)
    · have hf := zif_f c9 hf
      refine lv_iconst (v := (0 : Int32)) hx hb dX4_isNext_32 (by decide) ?_
      obtain ⟨rfl, rfl, rfl, rfl⟩ := zret_i hf
      exact zr_zret hc hn hr (by decide) hq (fun _ _ _ _ q => q) dX4_isNext_33
    · have hf := zif_t c9 hf
      refine lv_iconst (v := (1 : Int32)) hx hb dX4_isNext_28 (by decide) ?_
      refine lv_goto (tgt := 33) hx hb dX4_isNext_29 (by decide) ?_
      obtain ⟨rfl, rfl, rfl, rfl⟩ := zret_i hf
      exact zr_zret hc hn hr (by decide) hq (fun _ _ _ _ q => q) dX4_isNext_33
theorem hd_X4_sign : yX4_sign.cls ≠ "java/lang/invoke/MethodHandle" ∧ yX4_sign.cls ≠ "java/lang/invoke/VarHandle" ∧ (parseMethodDescriptor yX4_sign.desc).map (fun d => d.parameters.length) = some 1 := by decide +kernel
def f_X4_sign (h : PH) (a0 : Nat) (v1 : Int32) : ZR Unit :=
  zrc h a0 3 <| zcl (f_X4_isNext h a0 v1) fun x101 h102 =>
  if x101 = 0 then
    (zgI h102 a0 3 14 fun x103 =>
    zrc h102 a0 3 <| zcl (f_X4_fault h102 a0 (1 : Int32) x103) fun _ h105 =>
    zret () h105)
  else
    (zgI h102 a0 3 14 fun x106 =>
    znm (x106 + (1 : Int32)) fun x107 =>
    zpI h102 a0 3 14 x107 fun h108 =>
    zret () h108)
set_option maxHeartbeats 4000000 in
set_option maxRecDepth 100000 in
theorem m_X4_sign (l : Launch) (D : va_G) (dA : Nat → ClassId) (b0 : Nat) (gs : Nat → Option Nat) (h : PH) (a0 : Nat) (v1 : Int32) {r : Unit} {hh : PH} {mc ms : Nat} (hf : f_X4_sign h a0 v1 = some (r, hh, mc, ms)) : zMt l D dA b0 gs yX4_sign cX4_sign 2 none 3 101 [.ref a0, .int v1] h (evU r) hh mc ms := by
  unfold f_X4_sign at hf
  refine zMt.of (by decide) (Nat.le_of_ble_eq_true rfl) ?_
  intro p e s m args below meth c hc hr hin hn ls hl
  have hl : lv_has ls 2 [(0, .ref a0), (1, .int v1)] := hl
  have hq : 0 + mc = mc ∧ 0 + ms = ms := ⟨Nat.zero_add _, Nat.zero_add _⟩
  have hx := hc.x
  have hb := hc.b
  refine lv_aload_n (x := a0) hx hb dX4_sign_0 rfl (lv_at hl 0 rfl) ?_
  refine lv_iload_n hx hb dX4_sign_1 rfl (lv_at hl 1 rfl) ?_
  refine zr_cVI (As := [.int v1]) (rest := []) hc hn hq (ci := 3) rfl ⟨rfl, hd_X4_isNext⟩ (lw_V q2263 q2265 qs42 q91 q2266) (Nat.le_of_ble_eq_true rfl) (Nat.le_of_ble_eq_true rfl) (fun _ _ _ _ q => m_X4_isNext l D dA b0 gs h a0 v1 q) hf dX4_sign_2 hl.1 rfl rfl (zroom (Nat.le_of_ble_eq_true rfl)) (fun x101 h102 H locs cells slots C9 S9 hf hq hn => ?_)
  refine lv_if_eq (tgt := 21) hx hb dX4_sign_5 (by decide) (fun c9 => ?_) (fun c9 => ?_)
  · have hf := zif_t c9 hf
    refine lv_aload_n (x := a0) hx hb dX4_sign_21 rfl (lv_at hl 0 rfl) ?_
    refine lv_iconst (v := (1 : Int32)) hx hb dX4_sign_22 (by decide) ?_
    refine lv_aload_n (x := a0) hx hb dX4_sign_23 rfl (lv_at hl 0 rfl) ?_
    refine zr_gI hc hn (ci := 3) rfl rfl in_X4 14 (by decide) q2113 (fun _ h => h) (fun _ _ _ => rfl) hf dX4_sign_24 (fun x103 hf => ?_)
    refine zr_cVU (As := [.int (1 : Int32), .int x103]) (rest := []) hc hn hq (ci := 3) rfl ⟨rfl, hd_X4_fault⟩ (lw_V q2243 q2245 qs38 q91 q2246) (Nat.le_of_ble_eq_true rfl) (Nat.le_of_ble_eq_true rfl) (fun _ _ _ _ q => m_X4_fault l D dA b0 gs h102 a0 (1 : Int32) x103 q) hf dX4_sign_27 hl.1 rfl rfl (zroom (Nat.le_of_ble_eq_true rfl)) (fun x104 h105 H locs cells slots C9 S9 hf hq hn => ?_)
    obtain ⟨rfl, rfl, rfl, rfl⟩ := zret_i hf
    exact zr_vret hc hn hr hq (fun _ _ _ _ q => q) dX4_sign_30
  · have hf := zif_f c9 hf
    refine lv_aload_n (x := a0) hx hb dX4_sign_8 rfl (lv_at hl 0 rfl) ?_
    refine lv_dup hx hb dX4_sign_9 rfl ?_
    refine zr_gI hc hn (ci := 3) rfl rfl in_X4 14 (by decide) q2113 (fun _ h => h) (fun _ _ _ => rfl) hf dX4_sign_10 (fun x106 hf => ?_)
    refine lv_iconst (v := (1 : Int32)) hx hb dX4_sign_13 (by decide) ?_
    refine lv_iadd hx hb dX4_sign_14 ?_
    refine zr_nmI hf (fun x107 hf => ?_)
    refine zr_pI (x := x107) hc hn (ci := 3) rfl rfl in_X4 14 (by decide) tyX4 tyX4_ok nmX4 q2113 (fun _ h => h) (Or.inl rfl) (fun _ _ _ => rfl) rfl rfl hf dX4_sign_15 (fun h108 H locs hf hn => ?_)
    refine lv_goto (tgt := 30) hx hb dX4_sign_18 (by decide) ?_
    obtain ⟨rfl, rfl, rfl, rfl⟩ := zret_i hf
    exact zr_vret hc hn hr hq (fun _ _ _ _ q => q) dX4_sign_30
theorem hd_X4_isNumberNext : yX4_isNumberNext.cls ≠ "java/lang/invoke/MethodHandle" ∧ yX4_isNumberNext.cls ≠ "java/lang/invoke/VarHandle" ∧ (parseMethodDescriptor yX4_isNumberNext.desc).map (fun d => d.parameters.length) = some 0 := by decide +kernel
def f_X4_isNumberNext (h : PH) (a0 : Nat) : ZR Int32 :=
  zrc h a0 3 <| zcl (f_X4_blanks h a0) fun _ h102 =>
  zgI h102 a0 3 14 fun x103 =>
  zrc h102 a0 3 <| zcl (f_X4_isDigit h102 a0 x103) fun x104 h105 =>
  zgd (zb01 x104 = true) <| zret x104 h105
set_option maxHeartbeats 4000000 in
set_option maxRecDepth 100000 in
theorem m_X4_isNumberNext (l : Launch) (D : va_G) (dA : Nat → ClassId) (b0 : Nat) (gs : Nat → Option Nat) (h : PH) (a0 : Nat) {r : Int32} {hh : PH} {mc ms : Nat} (hf : f_X4_isNumberNext h a0 = some (r, hh, mc, ms)) : zMt l D dA b0 gs yX4_isNumberNext cX4_isNumberNext 1 (some .boolean) 3 106 [.ref a0] h (evI r) hh mc ms := by
  unfold f_X4_isNumberNext at hf
  refine zMt.of (by decide) (Nat.le_of_ble_eq_true rfl) ?_
  intro p e s m args below meth c hc hr hin hn ls hl
  have hl : lv_has ls 1 [(0, .ref a0)] := hl
  have hq : 0 + mc = mc ∧ 0 + ms = ms := ⟨Nat.zero_add _, Nat.zero_add _⟩
  have hx := hc.x
  have hb := hc.b
  refine lv_aload_n (x := a0) hx hb dX4_isNumberNext_0 rfl (lv_at hl 0 rfl) ?_
  refine zr_cVU (As := []) (rest := []) hc hn hq (ci := 3) rfl ⟨rfl, hd_X4_blanks⟩ (lw_V q2222 q2224 qs34 q91 q2225) (Nat.le_of_ble_eq_true rfl) (Nat.le_of_ble_eq_true rfl) (fun _ _ _ _ q => m_X4_blanks l D dA b0 gs h a0 q) hf dX4_isNumberNext_1 hl.1 rfl rfl (zroom (Nat.le_of_ble_eq_true rfl)) (fun x101 h102 H locs cells slots C9 S9 hf hq hn => ?_)
  refine lv_aload_n (x := a0) hx hb dX4_isNumberNext_4 rfl (lv_at hl 0 rfl) ?_
  refine lv_aload_n (x := a0) hx hb dX4_isNumberNext_5 rfl (lv_at hl 0 rfl) ?_
  refine zr_gI hc hn (ci := 3) rfl rfl in_X4 14 (by decide) q2113 (fun _ h => h) (fun _ _ _ => rfl) hf dX4_isNumberNext_6 (fun x103 hf => ?_)
  refine zr_cVI (As := [.int x103]) (rest := []) hc hn hq (ci := 3) rfl ⟨rfl, hd_X4_isDigit⟩ (lw_V q2251 q2253 qs40 q91 q2254) (Nat.le_of_ble_eq_true rfl) (Nat.le_of_ble_eq_true rfl) (fun _ _ _ _ q => m_X4_isDigit l D dA b0 gs h102 a0 x103 q) hf dX4_isNumberNext_9 hl.1 rfl rfl (zroom (Nat.le_of_ble_eq_true rfl)) (fun x104 h105 H locs cells slots C9 S9 hf hq hn => ?_)
  obtain ⟨hz1, hf⟩ := zgd_i hf
  obtain ⟨rfl, rfl, rfl, rfl⟩ := zret_i hf
  exact zr_zret hc hn hr (zb01_n hz1) hq (fun _ _ _ _ q => q) dX4_isNumberNext_12
theorem hd_X4_integer : yX4_integer.cls ≠ "java/lang/invoke/MethodHandle" ∧ yX4_integer.cls ≠ "java/lang/invoke/VarHandle" ∧ (parseMethodDescriptor yX4_integer.desc).map (fun d => d.parameters.length) = some 0 := by decide +kernel
def f_X4_integer (h : PH) (a0 : Nat) : ZR Int32 :=
  zrc h a0 3 <| zcl (f_X4_isNext h a0 (45 : Int32)) fun x101 h102 =>
  if x101 = 0 then
    (zrc h102 a0 3 <| zcl (f_X4_number h102 a0) fun x103 h104 =>
    zret x103 h104)
  else
    (zgI h102 a0 3 14 fun x105 =>
    znm (x105 + (1 : Int32)) fun x106 =>
    zpI h102 a0 3 14 x106 fun h107 =>
    zrc h107 a0 3 <| zcl (f_X4_number h107 a0) fun x108 h109 =>
    znm (-x108) fun x110 =>
    zret x110 h109)
set_option maxHeartbeats 4000000 in
set_option maxRecDepth 100000 in
theorem m_X4_integer (l : Launch) (D : va_G) (dA : Nat → ClassId) (b0 : Nat) (gs : Nat → Option Nat) (h : PH) (a0 : Nat) {r : Int32} {hh : PH} {mc ms : Nat} (hf : f_X4_integer h a0 = some (r, hh, mc, ms)) : zMt l D dA b0 gs yX4_integer cX4_integer 1 (some .int) 4 127 [.ref a0] h (evI r) hh mc ms := by
  unfold f_X4_integer at hf
  refine zMt.of (by decide) (Nat.le_of_ble_eq_true rfl) ?_
  intro p e s m args below meth c hc hr hin hn ls hl
  have hl : lv_has ls 1 [(0, .ref a0)] := hl
  have hq : 0 + mc = mc ∧ 0 + ms = ms := ⟨Nat.zero_add _, Nat.zero_add _⟩
  have hx := hc.x
  have hb := hc.b
  refine lv_aload_n (x := a0) hx hb dX4_integer_0 rfl (lv_at hl 0 rfl) ?_
  refine lv_bipush (v := (45 : Int32)) hx hb dX4_integer_1 (by decide) ?_
  refine zr_cVI (As := [.int (45 : Int32)]) (rest := []) hc hn hq (ci := 3) rfl ⟨rfl, hd_X4_isNext⟩ (lw_V q2263 q2265 qs42 q91 q2266) (Nat.le_of_ble_eq_true rfl) (Nat.le_of_ble_eq_true rfl) (fun _ _ _ _ q => m_X4_isNext l D dA b0 gs h a0 (45 : Int32) q) hf dX4_integer_3 hl.1 rfl rfl (zroom (Nat.le_of_ble_eq_true rfl)) (fun x101 h102 H locs cells slots C9 S9 hf hq hn => ?_)
  refine lv_if_eq (tgt := 25) hx hb dX4_integer_6 (by decide) (fun c9 => ?_) (fun c9 => ?_)
  · have hf := zif_t c9 hf
    refine lv_aload_n (x := a0) hx hb dX4_integer_25 rfl (lv_at hl 0 rfl) ?_
    refine zr_cVI (As := []) (rest := []) hc hn hq (ci := 3) rfl ⟨rfl, hd_X4_number⟩ (lw_V q2247 q2249 qs39 q91 q2250) (Nat.le_of_ble_eq_true rfl) (Nat.le_of_ble_eq_true rfl) (fun _ _ _ _ q => m_X4_number l D dA b0 gs h102 a0 q) hf dX4_integer_26 hl.1 rfl rfl (zroom (Nat.le_of_ble_eq_true rfl)) (fun x103 h104 H locs cells slots C9 S9 hf hq hn => ?_)
    obtain ⟨rfl, rfl, rfl, rfl⟩ := zret_i hf
    exact zr_iret hc hn hr hq (fun _ _ _ _ q => q) dX4_integer_29
  · have hf := zif_f c9 hf
    refine lv_aload_n (x := a0) hx hb dX4_integer_9 rfl (lv_at hl 0 rfl) ?_
    refine lv_dup hx hb dX4_integer_10 rfl ?_
    refine zr_gI hc hn (ci := 3) rfl rfl in_X4 14 (by decide) q2113 (fun _ h => h) (fun _ _ _ => rfl) hf dX4_integer_11 (fun x105 hf => ?_)
    refine lv_iconst (v := (1 : Int32)) hx hb dX4_integer_14 (by decide) ?_
    refine lv_iadd hx hb dX4_integer_15 ?_
    refine zr_nmI hf (fun x106 hf => ?_)
    refine zr_pI (x := x106) hc hn (ci := 3) rfl rfl in_X4 14 (by decide) tyX4 tyX4_ok nmX4 q2113 (fun _ h => h) (Or.inl rfl) (fun _ _ _ => rfl) rfl rfl hf dX4_integer_16 (fun h107 H locs hf hn => ?_)
    refine lv_aload_n (x := a0) hx hb dX4_integer_19 rfl (lv_at hl 0 rfl) ?_
    refine zr_cVI (As := []) (rest := []) hc hn hq (ci := 3) rfl ⟨rfl, hd_X4_number⟩ (lw_V q2247 q2249 qs39 q91 q2250) (Nat.le_of_ble_eq_true rfl) (Nat.le_of_ble_eq_true rfl) (fun _ _ _ _ q => m_X4_number l D dA b0 gs h107 a0 q) hf dX4_integer_20 hl.1 rfl rfl (zroom (Nat.le_of_ble_eq_true rfl)) (fun x108 h109 H locs cells slots C9 S9 hf hq hn => ?_)
    refine lv_ineg hx hb dX4_integer_23 ?_
    refine zr_nmI hf (fun x110 hf => ?_)
    obtain ⟨rfl, rfl, rfl, rfl⟩ := zret_i hf
    exact zr_iret hc hn hr hq (fun _ _ _ _ q => q) dX4_integer_24
theorem hd_X4_element : yX4_element.cls ≠ "java/lang/invoke/MethodHandle" ∧ yX4_element.cls ≠ "java/lang/invoke/VarHandle" ∧ (parseMethodDescriptor yX4_element.desc).map (fun d => d.parameters.length) = some 0 := by decide +kernel
def f_X4_element_b138 (h : PH) (a0 : Nat) (v2 : Int32) (v3 : Int32) (v4 : Int32) : ZR Unit :=
  zgI h a0 3 17 fun x101 =>
  if x101 = 0 then
    (zgP h a0 3 25 fun x102 =>
    znn x102 fun a103 =>
    zsI h a103 0 v2 v3 fun h104 =>
    zgP h104 a0 3 26 fun x105 =>
    znn x105 fun a106 =>
    zsI h104 a106 0 v2 v4 fun h107 =>
    zgP h107 a0 3 24 fun x108 =>
    zgI h107 a0 3 22 fun x109 =>
    znn x108 fun a110 =>
    zaI h107 a110 0 x109 fun x111 =>
    znm (x111 + (1 : Int32)) fun x112 =>
    zsI h107 a110 0 x109 x112 fun h113 =>
    zret () h113)
  else
    (zret () h)
def f_X4_element_b103 (h : PH) (a0 : Nat) (v2 : Int32) (v3 : Int32) : ZR Unit :=
  zgI h a0 3 17 fun x101 =>
  if x101 = 0 then
    (zrc h a0 3 <| zcl (f_X4_isNext h a0 (58 : Int32)) fun x102 h103 =>
    if x102 = 0 then
      (f_X4_element_b138 h103 a0 v2 v3 (0 : Int32))
    else
      (zgI h103 a0 3 14 fun x104 =>
      znm (x104 + (1 : Int32)) fun x105 =>
      zpI h103 a0 3 14 x105 fun h106 =>
      zrc h106 a0 3 <| zcl (f_X4_integer h106 a0) fun x107 h108 =>
      f_X4_element_b138 h108 a0 v2 v3 x107))
  else
    (f_X4_element_b138 h a0 v2 v3 (0 : Int32))
def f_X4_element_b81 (h : PH) (a0 : Nat) (v1 : Int32) (v2 : Int32) (v3 : Int32) : ZR Unit :=
  zgI h a0 3 17 fun x101 =>
  if x101 = 0 then
    (if v1 = (60 : Int32) then
      (zgI h a0 3 19 fun x102 =>
      zrc h a0 3 <| zcl (f_X4_fault h a0 (5 : Int32) x102) fun _ h104 =>
      f_X4_element_b103 h104 a0 v2 v3)
    else
      (f_X4_element_b103 h a0 v2 v3))
  else
    (f_X4_element_b103 h a0 v2 v3)
def f_X4_element_b44 (h : PH) (a0 : Nat) (v1 : Int32) (v2 : Int32) : ZR Unit :=
  zrc h a0 3 <| zcl (f_X4_integer h a0) fun x101 h102 =>
  zgI h102 a0 3 17 fun x103 =>
  if x103 = 0 then
    (if v1 ≤ 0 then
      (f_X4_element_b81 h102 a0 v1 v2 x101)
    else
      (zgP h102 a0 3 25 fun x104 =>
      znm (v2 - (1 : Int32)) fun x105 =>
      znn x104 fun a106 =>
      zaI h102 a106 0 x105 fun x107 =>
      if x107 < x101 then
        (f_X4_element_b81 h102 a0 v1 v2 x101)
      else
        (zgI h102 a0 3 19 fun x108 =>
        zrc h102 a0 3 <| zcl (f_X4_fault h102 a0 (3 : Int32) x108) fun _ h110 =>
        f_X4_element_b81 h110 a0 v1 v2 x101)))
  else
    (f_X4_element_b81 h102 a0 v1 v2 x101)
def f_X4_element (h : PH) (a0 : Nat) : ZR Unit :=
  zgP h a0 3 24 fun x101 =>
  zgI h a0 3 22 fun x102 =>
  znn x101 fun a103 =>
  zaI h a103 0 x102 fun x104 =>
  zgI h a0 3 22 fun x105 =>
  znm ((60 : Int32) * x105) fun x106 =>
  znm (x106 + x104) fun x107 =>
  if x104 = (60 : Int32) then
    (zrc h a0 3 <| zcl (f_X4_isNext h a0 (45 : Int32)) fun x108 h109 =>
    if x108 = 0 then
      (f_X4_element_b44 h109 a0 x104 x107)
    else
      (zgI h109 a0 3 14 fun x110 =>
      zrc h109 a0 3 <| zcl (f_X4_fault h109 a0 (5 : Int32) x110) fun _ h112 =>
      f_X4_element_b44 h112 a0 x104 x107))
  else
    (f_X4_element_b44 h a0 x104 x107)
set_option maxHeartbeats 4000000 in
set_option maxRecDepth 100000 in
theorem m_X4_element_b138 {p : Program} {l : Launch} {e : Env} {s : State} {m : MethodId} {args : Array Value} {below : List Frame} {meth : Method} {c : Code} {D : va_G} {dA : Nat → ClassId} {b0 : Nat} {gs : Nat → Option Nat} (hc : zC D dA b0 gs yX4_element.cls cX4_element 5 p c s m args meth) (hr : meth.sig.returnType = none) (hin : meth.name = yX4_element.name) {r : Unit} {hh : PH} {mc ms : Nat} : ∀ (h : PH) (a0 : Nat) (v2 : Int32) (v3 : Int32) (v4 : Int32) (C9 S9 : Nat) (H : Heap) (locs : List Loc) (cells slots : Nat), f_X4_element_b138 h a0 v2 v3 v4 = some (r, hh, C9, S9) → cells + C9 = mc ∧ slots + S9 = ms → zM D dA b0 gs s h H locs → ∀ ls : Array Slot, lv_has ls 5 [(0, .ref a0), (2, .int v2), (3, .int v3), (4, .int v4)] → W p l e ({ frames := 5, cells := mc, slots := ms, locals := 147 } : Room) s m args below meth c H locs cells slots (MQ below (zQ D dA b0 gs (evU r) hh) args s mc ms (zA b0)) (F0 m 138 ls []) := by
  have hx := hc.x
  have hb := hc.b
  intro h a0 v2 v3 v4 C9 S9 H locs cells slots hf hq hn ls hl
  unfold f_X4_element_b138 at hf
  refine lv_aload_n (x := a0) hx hb dX4_element_138 rfl (lv_at hl 0 rfl) ?_
  refine zr_gI hc hn (ci := 3) rfl rfl in_X4 17 (by decide) q2116 (fun _ h => h) (fun _ _ _ => rfl) hf dX4_element_139 (fun x101 hf => ?_)
  refine lv_if_ne (tgt := 173) hx hb dX4_element_142 (by decide) (fun c9 => ?_) (fun c9 => ?_)
  · have hf := zif_f c9 hf
    obtain ⟨rfl, rfl, rfl, rfl⟩ := zret_i hf
    exact zr_vret hc hn hr hq (fun _ _ _ _ q => q) dX4_element_173
  · have hf := zif_t c9 hf
    refine lv_aload_n (x := a0) hx hb dX4_element_145 rfl (lv_at hl 0 rfl) ?_
    refine zr_gP hc hn (ci := 3) rfl rfl in_X4 25 (by decide) q2124 (fun _ h => h) (fun _ _ _ => rfl) hf dX4_element_146 (fun x102 hf => ?_)
    refine lv_iload_n hx hb dX4_element_149 rfl (lv_at hl 1 rfl) ?_
    refine lv_iload_n hx hb dX4_element_150 rfl (lv_at hl 2 rfl) ?_
    obtain ⟨a103, e9, hf9⟩ := znn_i hf
    subst e9
    have hf := hf9
    clear hf9
    refine zr_sI hc hn hf dX4_element_151 (fun h104 H locs hf hn => ?_)
    refine lv_aload_n (x := a0) hx hb dX4_element_152 rfl (lv_at hl 0 rfl) ?_
    refine zr_gP hc hn (ci := 3) rfl rfl in_X4 26 (by decide) q2125 (fun _ h => h) (fun _ _ _ => rfl) hf dX4_element_153 (fun x105 hf => ?_)
    refine lv_iload_n hx hb dX4_element_156 rfl (lv_at hl 1 rfl) ?_
    refine lv_iload hx hb dX4_element_157 (lv_at hl 3 rfl) ?_
    obtain ⟨a106, e9, hf9⟩ := znn_i hf
    subst e9
    have hf := hf9
    clear hf9
    refine zr_sI hc hn hf dX4_element_159 (fun h107 H locs hf hn => ?_)
    refine lv_aload_n (x := a0) hx hb dX4_element_160 rfl (lv_at hl 0 rfl) ?_
    refine zr_gP hc hn (ci := 3) rfl rfl in_X4 24 (by decide) q2123 (fun _ h => h) (fun _ _ _ => rfl) hf dX4_element_161 (fun x108 hf => ?_)
    refine lv_aload_n (x := a0) hx hb dX4_element_164 rfl (lv_at hl 0 rfl) ?_
    refine zr_gI hc hn (ci := 3) rfl rfl in_X4 22 (by decide) q2121 (fun _ h => h) (fun _ _ _ => rfl) hf dX4_element_165 (fun x109 hf => ?_)
    refine lv_dup2_11 hx hb dX4_element_168 rfl (zcat_rf _) ?_
    obtain ⟨a110, e9, hf9⟩ := znn_i hf
    subst e9
    have hf := hf9
    clear hf9
    refine zr_aI0 hc hn hf dX4_element_169 (fun x111 hf => ?_)
    refine lv_iconst (v := (1 : Int32)) hx hb dX4_element_170 (by decide) ?_
    refine lv_iadd hx hb dX4_element_171 ?_
    refine zr_nmI hf (fun x112 hf => ?_)
    refine zr_sI hc hn hf dX4_element_172 (fun h113 H locs hf hn => ?_)
    obtain ⟨rfl, rfl, rfl, rfl⟩ := zret_i hf
    exact zr_vret hc hn hr hq (fun _ _ _ _ q => q) dX4_element_173
set_option maxHeartbeats 4000000 in
set_option maxRecDepth 100000 in
theorem m_X4_element_b103 {p : Program} {l : Launch} {e : Env} {s : State} {m : MethodId} {args : Array Value} {below : List Frame} {meth : Method} {c : Code} {D : va_G} {dA : Nat → ClassId} {b0 : Nat} {gs : Nat → Option Nat} (hc : zC D dA b0 gs yX4_element.cls cX4_element 5 p c s m args meth) (hr : meth.sig.returnType = none) (hin : meth.name = yX4_element.name) {r : Unit} {hh : PH} {mc ms : Nat} : ∀ (h : PH) (a0 : Nat) (v2 : Int32) (v3 : Int32) (C9 S9 : Nat) (H : Heap) (locs : List Loc) (cells slots : Nat), f_X4_element_b103 h a0 v2 v3 = some (r, hh, C9, S9) → cells + C9 = mc ∧ slots + S9 = ms → zM D dA b0 gs s h H locs → ∀ ls : Array Slot, lv_has ls 5 [(0, .ref a0), (2, .int v2), (3, .int v3)] → W p l e ({ frames := 5, cells := mc, slots := ms, locals := 147 } : Room) s m args below meth c H locs cells slots (MQ below (zQ D dA b0 gs (evU r) hh) args s mc ms (zA b0)) (F0 m 103 ls []) := by
  have hx := hc.x
  have hb := hc.b
  intro h a0 v2 v3 C9 S9 H locs cells slots hf hq hn ls hl
  unfold f_X4_element_b103 at hf
  refine lv_iconst (v := (0 : Int32)) hx hb dX4_element_103 (by decide) ?_
  refine lv_istore (lv' := [(4, .int (0 : Int32)), (0, .ref a0), (2, .int v2), (3, .int v3)]) hx hb dX4_element_104 hl (by decide) rfl (fun ls hl => ?_)
  refine lv_aload_n (x := a0) hx hb dX4_element_106 rfl (lv_at hl 1 rfl) ?_
  refine zr_gI hc hn (ci := 3) rfl rfl in_X4 17 (by decide) q2116 (fun _ h => h) (fun _ _ _ => rfl) hf dX4_element_107 (fun x101 hf => ?_)
  refine lv_if_ne (tgt := 138) hx hb dX4_element_110 (by decide) (fun c9 => ?_) (fun c9 => ?_)
  · have hf := zif_f c9 hf
    exact m_X4_element_b138 hc hr hin h a0 v2 v3 (0 : Int32) _ _ _ _ _ _ hf hq hn _ (lv_sub hl [1, 2, 3, 0] rfl)
  · have hf := zif_t c9 hf
    refine lv_aload_n (x := a0) hx hb dX4_element_113 rfl (lv_at hl 1 rfl) ?_
    refine lv_bipush (v := (58 : Int32)) hx hb dX4_element_114 (by decide) ?_
    refine zr_cVI (As := [.int (58 : Int32)]) (rest := []) hc hn hq (ci := 3) rfl ⟨rfl, hd_X4_isNext⟩ (lw_V q2263 q2265 qs42 q91 q2266) (Nat.le_of_ble_eq_true rfl) (Nat.le_of_ble_eq_true rfl) (fun _ _ _ _ q => m_X4_isNext l D dA b0 gs h a0 (58 : Int32) q) hf dX4_element_116 hl.1 rfl rfl (zroom (Nat.le_of_ble_eq_true rfl)) (fun x102 h103 H locs cells slots C9 S9 hf hq hn => ?_)
    refine lv_if_eq (tgt := 138) hx hb dX4_element_119 (by decide) (fun c9 => ?_) (fun c9 => ?_)
    · have hf := zif_t c9 hf
      exact m_X4_element_b138 hc hr hin h103 a0 v2 v3 (0 : Int32) _ _ _ _ _ _ hf hq hn _ (lv_sub hl [1, 2, 3, 0] rfl)
    · have hf := zif_f c9 hf
      refine lv_aload_n (x := a0) hx hb dX4_element_122 rfl (lv_at hl 1 rfl) ?_
      refine lv_dup hx hb dX4_element_123 rfl ?_
      refine zr_gI hc hn (ci := 3) rfl rfl in_X4 14 (by decide) q2113 (fun _ h => h) (fun _ _ _ => rfl) hf dX4_element_124 (fun x104 hf => ?_)
      refine lv_iconst (v := (1 : Int32)) hx hb dX4_element_127 (by decide) ?_
      refine lv_iadd hx hb dX4_element_128 ?_
      refine zr_nmI hf (fun x105 hf => ?_)
      refine zr_pI (x := x105) hc hn (ci := 3) rfl rfl in_X4 14 (by decide) tyX4 tyX4_ok nmX4 q2113 (fun _ h => h) (Or.inl rfl) (fun _ _ _ => rfl) rfl rfl hf dX4_element_129 (fun h106 H locs hf hn => ?_)
      refine lv_aload_n (x := a0) hx hb dX4_element_132 rfl (lv_at hl 1 rfl) ?_
      refine zr_cVI (As := []) (rest := []) hc hn hq (ci := 3) rfl ⟨rfl, hd_X4_integer⟩ (lw_V q2280 q2282 qs46 q91 q2283) (Nat.le_of_ble_eq_true rfl) (Nat.le_of_ble_eq_true rfl) (fun _ _ _ _ q => m_X4_integer l D dA b0 gs h106 a0 q) hf dX4_element_133 hl.1 rfl rfl (zroom (Nat.le_of_ble_eq_true rfl)) (fun x107 h108 H locs cells slots C9 S9 hf hq hn => ?_)
      refine lv_istore (lv' := [(4, .int x107), (0, .ref a0), (2, .int v2), (3, .int v3)]) hx hb dX4_element_136 hl (by decide) rfl (fun ls hl => ?_)
      exact m_X4_element_b138 hc hr hin h108 a0 v2 v3 x107 _ _ _ _ _ _ hf hq hn _ (lv_sub hl [1, 2, 3, 0] rfl)
set_option maxHeartbeats 4000000 in
set_option maxRecDepth 100000 in
theorem m_X4_element_b81 {p : Program} {l : Launch} {e : Env} {s : State} {m : MethodId} {args : Array Value} {below : List Frame} {meth : Method} {c : Code} {D : va_G} {dA : Nat → ClassId} {b0 : Nat} {gs : Nat → Option Nat} (hc : zC D dA b0 gs yX4_element.cls cX4_element 5 p c s m args meth) (hr : meth.sig.returnType = none) (hin : meth.name = yX4_element.name) {r : Unit} {hh : PH} {mc ms : Nat} : ∀ (h : PH) (a0 : Nat) (v1 : Int32) (v2 : Int32) (v3 : Int32) (C9 S9 : Nat) (H : Heap) (locs : List Loc) (cells slots : Nat), f_X4_element_b81 h a0 v1 v2 v3 = some (r, hh, C9, S9) → cells + C9 = mc ∧ slots + S9 = ms → zM D dA b0 gs s h H locs → ∀ ls : Array Slot, lv_has ls 5 [(0, .ref a0), (1, .int v1), (2, .int v2), (3, .int v3)] → W p l e ({ frames := 5, cells := mc, slots := ms, locals := 147 } : Room) s m args below meth c H locs cells slots (MQ below (zQ D dA b0 gs (evU r) hh) args s mc ms (zA b0)) (F0 m 81 ls []) := by
  have hx := hc.x
  have hb := hc.b
  intro h a0 v1 v2 v3 C9 S9 H locs cells slots hf hq hn ls hl
  unfold f_X4_element_b81 at hf
  refine lv_aload_n (x := a0) hx hb dX4_element_81 rfl (lv_at hl 0 rfl) ?_
  refine zr_gI hc hn (ci := 3) rfl rfl in_X4 17 (by decide) q2116 (fun _ h => h) (fun _ _ _ => rfl) hf dX4_element_82 (fun x101 hf => ?_)
  refine lv_if_ne (tgt := 103) hx hb dX4_element_85 (by decide) (fun c9 => ?_) (fun c9 => ?_)
  · have hf := zif_f c9 hf
    exact m_X4_element_b103 hc hr hin h a0 v2 v3 _ _ _ _ _ _ hf hq hn _ (lv_sub hl [0, 2, 3] rfl)
  · have hf := zif_t c9 hf
    refine lv_iload_n hx hb dX4_element_88 rfl (lv_at hl 1 rfl) ?_
    refine lv_bipush (v := (60 : Int32)) hx hb dX4_element_89 (by decide) ?_
    refine lv_icmp_ne (tgt := 103) hx hb dX4_element_91 (by decide) (fun c9 => ?_) (fun c9 => ?_)
    · have hf := zif_f c9 hf
      exact m_X4_element_b103 hc hr hin h a0 v2 v3 _ _ _ _ _ _ hf hq hn _ (lv_sub hl [0, 2, 3] rfl)
    · have hf := zif_t c9 hf
      refine lv_aload_n (x := a0) hx hb dX4_element_94 rfl (lv_at hl 0 rfl) ?_
      refine lv_iconst (v := (5 : Int32)) hx hb dX4_element_95 (by decide) ?_
      refine lv_aload_n (x := a0) hx hb dX4_element_96 rfl (lv_at hl 0 rfl) ?_
      refine zr_gI hc hn (ci := 3) rfl rfl in_X4 19 (by decide) q2118 (fun _ h => h) (fun _ _ _ => rfl) hf dX4_element_97 (fun x102 hf => ?_)
      refine zr_cVU (As := [.int (5 : Int32), .int x102]) (rest := []) hc hn hq (ci := 3) rfl ⟨rfl, hd_X4_fault⟩ (lw_V q2243 q2245 qs38 q91 q2246) (Nat.le_of_ble_eq_true rfl) (Nat.le_of_ble_eq_true rfl) (fun _ _ _ _ q => m_X4_fault l D dA b0 gs h a0 (5 : Int32) x102 q) hf dX4_element_100 hl.1 rfl rfl (zroom (Nat.le_of_ble_eq_true rfl)) (fun x103 h104 H locs cells slots C9 S9 hf hq hn => ?_)
      exact m_X4_element_b103 hc hr hin h104 a0 v2 v3 _ _ _ _ _ _ hf hq hn _ (lv_sub hl [0, 2, 3] rfl)
set_option maxHeartbeats 4000000 in
set_option maxRecDepth 100000 in
theorem m_X4_element_b44 {p : Program} {l : Launch} {e : Env} {s : State} {m : MethodId} {args : Array Value} {below : List Frame} {meth : Method} {c : Code} {D : va_G} {dA : Nat → ClassId} {b0 : Nat} {gs : Nat → Option Nat} (hc : zC D dA b0 gs yX4_element.cls cX4_element 5 p c s m args meth) (hr : meth.sig.returnType = none) (hin : meth.name = yX4_element.name) {r : Unit} {hh : PH} {mc ms : Nat} : ∀ (h : PH) (a0 : Nat) (v1 : Int32) (v2 : Int32) (C9 S9 : Nat) (H : Heap) (locs : List Loc) (cells slots : Nat), f_X4_element_b44 h a0 v1 v2 = some (r, hh, C9, S9) → cells + C9 = mc ∧ slots + S9 = ms → zM D dA b0 gs s h H locs → ∀ ls : Array Slot, lv_has ls 5 [(0, .ref a0), (1, .int v1), (2, .int v2)] → W p l e ({ frames := 5, cells := mc, slots := ms, locals := 147 } : Room) s m args below meth c H locs cells slots (MQ below (zQ D dA b0 gs (evU r) hh) args s mc ms (zA b0)) (F0 m 44 ls []) := by
  have hx := hc.x
  have hb := hc.b
  intro h a0 v1 v2 C9 S9 H locs cells slots hf hq hn ls hl
  unfold f_X4_element_b44 at hf
  refine lv_aload_n (x := a0) hx hb dX4_element_44 rfl (lv_at hl 0 rfl) ?_
  refine zr_cVI (As := []) (rest := []) hc hn hq (ci := 3) rfl ⟨rfl, hd_X4_integer⟩ (lw_V q2280 q2282 qs46 q91 q2283) (Nat.le_of_ble_eq_true rfl) (Nat.le_of_ble_eq_true rfl) (fun _ _ _ _ q => m_X4_integer l D dA b0 gs h a0 q) hf dX4_element_45 hl.1 rfl rfl (zroom (Nat.le_of_ble_eq_true rfl)) (fun x101 h102 H locs cells slots C9 S9 hf hq hn => ?_)
  refine lv_istore_n (i := 3) (lv' := [(3, .int x101), (0, .ref a0), (1, .int v1), (2, .int v2)]) hx hb dX4_element_48 rfl hl (by decide) rfl (fun ls hl => ?_)
  refine lv_aload_n (x := a0) hx hb dX4_element_49 rfl (lv_at hl 1 rfl) ?_
  refine zr_gI hc hn (ci := 3) rfl rfl in_X4 17 (by decide) q2116 (fun _ h => h) (fun _ _ _ => rfl) hf dX4_element_50 (fun x103 hf => ?_)
  refine lv_if_ne (tgt := 81) hx hb dX4_element_53 (by decide) (fun c9 => ?_) (fun c9 => ?_)
  · have hf := zif_f c9 hf
    exact m_X4_element_b81 hc hr hin h102 a0 v1 v2 x101 _ _ _ _ _ _ hf hq hn _ (lv_sub hl [1, 2, 3, 0] rfl)
  · have hf := zif_t c9 hf
    refine lv_iload_n hx hb dX4_element_56 rfl (lv_at hl 2 rfl) ?_
    refine lv_if_le (tgt := 81) hx hb dX4_element_57 (by decide) (fun c9 => ?_) (fun c9 => ?_)
    · have hf := zif_t c9 hf
      exact m_X4_element_b81 hc hr hin h102 a0 v1 v2 x101 _ _ _ _ _ _ hf hq hn _ (lv_sub hl [1, 2, 3, 0] rfl)
    · have hf := zif_f c9 hf
      refine lv_iload_n hx hb dX4_element_60 rfl (lv_at hl 0 rfl) ?_
      refine lv_aload_n (x := a0) hx hb dX4_element_61 rfl (lv_at hl 1 rfl) ?_
      refine zr_gP hc hn (ci := 3) rfl rfl in_X4 25 (by decide) q2124 (fun _ h => h) (fun _ _ _ => rfl) hf dX4_element_62 (fun x104 hf => ?_)
      refine lv_iload_n hx hb dX4_element_65 rfl (lv_at hl 3 rfl) ?_
      refine lv_iconst (v := (1 : Int32)) hx hb dX4_element_66 (by decide) ?_
      refine lv_isub hx hb dX4_element_67 ?_
      refine zr_nmI hf (fun x105 hf => ?_)
      obtain ⟨a106, e9, hf9⟩ := znn_i hf
      subst e9
      have hf := hf9
      clear hf9
      refine zr_aI0 hc hn hf dX4_element_68 (fun x107 hf => ?_)
      refine lv_icmp_gt (tgt := 81) hx hb dX4_element_69 (by decide) (fun c9 => ?_) (fun c9 => ?_)
      · have hf := zif_t c9 hf
        exact m_X4_element_b81 hc hr hin h102 a0 v1 v2 x101 _ _ _ _ _ _ hf hq hn _ (lv_sub hl [1, 2, 3, 0] rfl)
      · have hf := zif_f c9 hf
        refine lv_aload_n (x := a0) hx hb dX4_element_72 rfl (lv_at hl 1 rfl) ?_
        refine lv_iconst (v := (3 : Int32)) hx hb dX4_element_73 (by decide) ?_
        refine lv_aload_n (x := a0) hx hb dX4_element_74 rfl (lv_at hl 1 rfl) ?_
        refine zr_gI hc hn (ci := 3) rfl rfl in_X4 19 (by decide) q2118 (fun _ h => h) (fun _ _ _ => rfl) hf dX4_element_75 (fun x108 hf => ?_)
        refine zr_cVU (As := [.int (3 : Int32), .int x108]) (rest := []) hc hn hq (ci := 3) rfl ⟨rfl, hd_X4_fault⟩ (lw_V q2243 q2245 qs38 q91 q2246) (Nat.le_of_ble_eq_true rfl) (Nat.le_of_ble_eq_true rfl) (fun _ _ _ _ q => m_X4_fault l D dA b0 gs h102 a0 (3 : Int32) x108 q) hf dX4_element_78 hl.1 rfl rfl (zroom (Nat.le_of_ble_eq_true rfl)) (fun x109 h110 H locs cells slots C9 S9 hf hq hn => ?_)
        exact m_X4_element_b81 hc hr hin h110 a0 v1 v2 x101 _ _ _ _ _ _ hf hq hn _ (lv_sub hl [1, 2, 3, 0] rfl)
set_option maxHeartbeats 4000000 in
set_option maxRecDepth 100000 in
theorem m_X4_element (l : Launch) (D : va_G) (dA : Nat → ClassId) (b0 : Nat) (gs : Nat → Option Nat) (h : PH) (a0 : Nat) {r : Unit} {hh : PH} {mc ms : Nat} (hf : f_X4_element h a0 = some (r, hh, mc, ms)) : zMt l D dA b0 gs yX4_element cX4_element 5 none 5 147 [.ref a0] h (evU r) hh mc ms := by
  unfold f_X4_element at hf
  refine zMt.of (by decide) (Nat.le_of_ble_eq_true rfl) ?_
  intro p e s m args below meth c hc hr hin hn ls hl
  have hl : lv_has ls 5 [(0, .ref a0)] := hl
  have hq : 0 + mc = mc ∧ 0 + ms = ms := ⟨Nat.zero_add _, Nat.zero_add _⟩
  have hx := hc.x
  have hb := hc.b
  refine lv_aload_n (x := a0) hx hb dX4_element_0 rfl (lv_at hl 0 rfl) ?_
  refine zr_gP hc hn (ci := 3) rfl rfl in_X4 24 (by decide) q2123 (fun _ h => h) (fun _ _ _ => rfl) hf dX4_element_1 (fun x101 hf => ?_)
  refine lv_aload_n (x := a0) hx hb dX4_element_4 rfl (lv_at hl 0 rfl) ?_
  refine zr_gI hc hn (ci := 3) rfl rfl in_X4 22 (by decide) q2121 (fun _ h => h) (fun _ _ _ => rfl) hf dX4_element_5 (fun x102 hf => ?_)
  obtain ⟨a103, e9, hf9⟩ := znn_i hf
  subst e9
  have hf := hf9
  clear hf9
  refine zr_aI0 hc hn hf dX4_element_8 (fun x104 hf => ?_)
  refine lv_istore_n (i := 1) (lv' := [(1, .int x104), (0, .ref a0)]) hx hb dX4_element_9 rfl hl (by decide) rfl (fun ls hl => ?_)
  refine lv_bipush (v := (60 : Int32)) hx hb dX4_element_10 (by decide) ?_
  refine lv_aload_n (x := a0) hx hb dX4_element_12 rfl (lv_at hl 1 rfl) ?_
  refine zr_gI hc hn (ci := 3) rfl rfl in_X4 22 (by decide) q2121 (fun _ h => h) (fun _ _ _ => rfl) hf dX4_element_13 (fun x105 hf => ?_)
  refine lv_imul hx hb dX4_element_16 ?_
  refine zr_nmI hf (fun x106 hf => ?_)
  refine lv_iload_n hx hb dX4_element_17 rfl (lv_at hl 0 rfl) ?_
  refine lv_iadd hx hb dX4_element_18 ?_
  refine zr_nmI hf (fun x107 hf => ?_)
  refine lv_istore_n (i := 2) (lv' := [(2, .int x107), (1, .int x104), (0, .ref a0)]) hx hb dX4_element_19 rfl hl (by decide) rfl (fun ls hl => ?_)
  refine lv_iload_n hx hb dX4_element_20 rfl (lv_at hl 1 rfl) ?_
  refine lv_bipush (v := (60 : Int32)) hx hb dX4_element_21 (by decide) ?_
  refine lv_icmp_ne (tgt := 44) hx hb dX4_element_23 (by decide) (fun c9 => ?_) (fun c9 => ?_)
  · have hf := zif_f c9 hf
    exact m_X4_element_b44 hc hr hin h a0 x104 x107 _ _ _ _ _ _ hf hq hn _ (lv_sub hl [2, 1, 0] rfl)
  · have hf := zif_t c9 hf
    refine lv_aload_n (x := a0) hx hb dX4_element_26 rfl (lv_at hl 2 rfl) ?_
    refine lv_bipush (v := (45 : Int32)) hx hb dX4_element_27 (by decide) ?_
    refine zr_cVI (As := [.int (45 : Int32)]) (rest := []) hc hn hq (ci := 3) rfl ⟨rfl, hd_X4_isNext⟩ (lw_V q2263 q2265 qs42 q91 q2266) (Nat.le_of_ble_eq_true rfl) (Nat.le_of_ble_eq_true rfl) (fun _ _ _ _ q => m_X4_isNext l D dA b0 gs h a0 (45 : Int32) q) hf dX4_element_29 hl.1 rfl rfl (zroom (Nat.le_of_ble_eq_true rfl)) (fun x108 h109 H locs cells slots C9 S9 hf hq hn => ?_)
    refine lv_if_eq (tgt := 44) hx hb dX4_element_32 (by decide) (fun c9 => ?_) (fun c9 => ?_)
    · have hf := zif_t c9 hf
      exact m_X4_element_b44 hc hr hin h109 a0 x104 x107 _ _ _ _ _ _ hf hq hn _ (lv_sub hl [2, 1, 0] rfl)
    · have hf := zif_f c9 hf
      refine lv_aload_n (x := a0) hx hb dX4_element_35 rfl (lv_at hl 2 rfl) ?_
      refine lv_iconst (v := (5 : Int32)) hx hb dX4_element_36 (by decide) ?_
      refine lv_aload_n (x := a0) hx hb dX4_element_37 rfl (lv_at hl 2 rfl) ?_
      refine zr_gI hc hn (ci := 3) rfl rfl in_X4 14 (by decide) q2113 (fun _ h => h) (fun _ _ _ => rfl) hf dX4_element_38 (fun x110 hf => ?_)
      refine zr_cVU (As := [.int (5 : Int32), .int x110]) (rest := []) hc hn hq (ci := 3) rfl ⟨rfl, hd_X4_fault⟩ (lw_V q2243 q2245 qs38 q91 q2246) (Nat.le_of_ble_eq_true rfl) (Nat.le_of_ble_eq_true rfl) (fun _ _ _ _ q => m_X4_fault l D dA b0 gs h109 a0 (5 : Int32) x110 q) hf dX4_element_41 hl.1 rfl rfl (zroom (Nat.le_of_ble_eq_true rfl)) (fun x111 h112 H locs cells slots C9 S9 hf hq hn => ?_)
      exact m_X4_element_b44 hc hr hin h112 a0 x104 x107 _ _ _ _ _ _ hf hq hn _ (lv_sub hl [2, 1, 0] rfl)
theorem hd_X4_list : yX4_list.cls ≠ "java/lang/invoke/MethodHandle" ∧ yX4_list.cls ≠ "java/lang/invoke/VarHandle" ∧ (parseMethodDescriptor yX4_list.desc).map (fun d => d.parameters.length) = some 0 := by decide +kernel
def f_X4_list_b50 (k22 : PH → Nat → Int64 → Int32 → ZR Unit) (h : PH) (a0 : Nat) (v1 : Int64) (v3 : Int32) : ZR Unit :=
  znm (v3 + (1 : Int32)) fun x101 =>
  k22 h a0 v1 x101
def f_X4_list_b89 (k66 : PH → Nat → Int64 → ZR Unit) (h : PH) (a0 : Nat) (v1 : Int64) : ZR Unit :=
  zrc h a0 3 <| zcl (f_X4_element h a0) fun _ h102 =>
  k66 h102 a0 v1
def f_X4_list_b96 (h : PH) (a0 : Nat) (v1 : Int64) : ZR Unit :=
  zgI h a0 3 17 fun x101 =>
  if x101 = 0 then
    (zrc h a0 3 <| zcl (f_X4_sign h a0 (59 : Int32)) fun _ h110 =>
    zgP h110 a0 3 23 fun x111 =>
    zgI h110 a0 3 22 fun x112 =>
    znn x111 fun a113 =>
    zsL h110 a113 3 x112 v1 fun h114 =>
    zgI h114 a0 3 22 fun x115 =>
    znm (x115 + (1 : Int32)) fun x116 =>
    zpI h114 a0 3 22 x116 fun h117 =>
    zret () h117)
  else
    (zgP h a0 3 23 fun x102 =>
    zgI h a0 3 22 fun x103 =>
    znn x102 fun a104 =>
    zsL h a104 3 x103 v1 fun h105 =>
    zgI h105 a0 3 22 fun x106 =>
    znm (x106 + (1 : Int32)) fun x107 =>
    zpI h105 a0 3 22 x107 fun h108 =>
    zret () h108)
def f_X4_list_b66 : Nat → PH → Nat → Int64 → ZR Unit
  | 0 => fun _ _ _ => none
  | n + 1 => fun h a0 v1 =>
    zgI h a0 3 17 fun x101 =>
    if x101 = 0 then
      (zrc h a0 3 <| zcl (f_X4_isNext h a0 (45 : Int32)) fun x102 h103 =>
      if x102 = 0 then
        (zrc h103 a0 3 <| zcl (f_X4_isNumberNext h103 a0) fun x104 h105 =>
        if x104 = 0 then
          (f_X4_list_b96 h105 a0 v1)
        else
          (f_X4_list_b89 (f_X4_list_b66 n) h105 a0 v1))
      else
        (f_X4_list_b89 (f_X4_list_b66 n) h103 a0 v1))
    else
      (f_X4_list_b96 h a0 v1)
def f_X4_list_b22 : Nat → PH → Nat → Int64 → Int32 → ZR Unit
  | 0 => fun _ _ _ _ => none
  | n + 1 => fun h a0 v1 v3 =>
    zgI h a0 3 22 fun x101 =>
    if x101 ≤ v3 then
      (zgP h a0 3 24 fun x102 =>
      zgI h a0 3 22 fun x103 =>
      znn x102 fun a104 =>
      zsI h a104 0 x103 (0 : Int32) fun h105 =>
      f_X4_list_b66 zFU h105 a0 v1)
    else
      (zgP h a0 3 23 fun x106 =>
      znn x106 fun a107 =>
      zaL h a107 3 v3 fun x108 =>
      znm (lg_cmp x108 v1) fun x109 =>
      if x109 = 0 then
        (zgI h a0 3 20 fun x110 =>
        zrc h a0 3 <| zcl (f_X4_fault h a0 (4 : Int32) x110) fun _ h112 =>
        f_X4_list_b50 (f_X4_list_b22 n) h112 a0 v1 v3)
      else
        (f_X4_list_b50 (f_X4_list_b22 n) h a0 v1 v3))
def f_X4_list_b20 (h : PH) (a0 : Nat) (v1 : Int64) : ZR Unit :=
  f_X4_list_b22 zFU h a0 v1 (0 : Int32)
def f_X4_list (h : PH) (a0 : Nat) : ZR Unit :=
  zrc h a0 3 <| zcl (f_X4_takesWord h a0) fun x101 h102 =>
  znm (lg_cmp x101 (0 : Int64)) fun x103 =>
  if 0 < x103 then
    (f_X4_list_b20 h102 a0 x101)
  else
    (zgI h102 a0 3 20 fun x104 =>
    zrc h102 a0 3 <| zcl (f_X4_fault h102 a0 (1 : Int32) x104) fun _ h106 =>
    f_X4_list_b20 h106 a0 x101)
set_option maxHeartbeats 4000000 in
set_option maxRecDepth 100000 in
theorem m_X4_list_b50 {p : Program} {l : Launch} {e : Env} {s : State} {m : MethodId} {args : Array Value} {below : List Frame} {meth : Method} {c : Code} {D : va_G} {dA : Nat → ClassId} {b0 : Nat} {gs : Nat → Option Nat} (hc : zC D dA b0 gs yX4_list.cls cX4_list 4 p c s m args meth) (hr : meth.sig.returnType = none) (hin : meth.name = yX4_list.name) {r : Unit} {hh : PH} {mc ms : Nat} (k22 : PH → Nat → Int64 → Int32 → ZR Unit) (hk22 : ∀ (h : PH) (a0 : Nat) (v1 : Int64) (v3 : Int32) (C9 S9 : Nat) (H : Heap) (locs : List Loc) (cells slots : Nat), k22 h a0 v1 v3 = some (r, hh, C9, S9) → cells + C9 = mc ∧ slots + S9 = ms → zM D dA b0 gs s h H locs → ∀ ls : Array Slot, lv_has ls 4 [(0, .ref a0), (1, .long v1), (3, .int v3)] → W p l e ({ frames := 6, cells := mc, slots := ms, locals := 171 } : Room) s m args below meth c H locs cells slots (MQ below (zQ D dA b0 gs (evU r) hh) args s mc ms (zA b0)) (F0 m 22 ls [])) : ∀ (h : PH) (a0 : Nat) (v1 : Int64) (v3 : Int32) (C9 S9 : Nat) (H : Heap) (locs : List Loc) (cells slots : Nat), f_X4_list_b50 k22 h a0 v1 v3 = some (r, hh, C9, S9) → cells + C9 = mc ∧ slots + S9 = ms → zM D dA b0 gs s h H locs → ∀ ls : Array Slot, lv_has ls 4 [(0, .ref a0), (1, .long v1), (3, .int v3)] → W p l e ({ frames := 6, cells := mc, slots := ms, locals := 171 } : Room) s m args below meth c H locs cells slots (MQ below (zQ D dA b0 gs (evU r) hh) args s mc ms (zA b0)) (F0 m 50 ls []) := by
  have hx := hc.x
  have hb := hc.b
  intro h a0 v1 v3 C9 S9 H locs cells slots hf hq hn ls hl
  unfold f_X4_list_b50 at hf
  obtain ⟨x101, ex101, hf⟩ := znm_i hf
  refine lv_iinc (v := x101) (lv' := [(3, .int x101), (0, .ref a0), (1, .long v1)]) hx hb dX4_list_50 hl (k := 2) rfl (by rw [ex101]; rfl) (by decide) rfl (fun ls hl => ?_)
  refine lv_goto (tgt := 22) hx hb dX4_list_53 (by decide) ?_
  exact hk22 h a0 v1 x101 _ _ _ _ _ _ hf hq hn _ (lv_sub hl [1, 2, 0] rfl)
set_option maxHeartbeats 4000000 in
set_option maxRecDepth 100000 in
theorem m_X4_list_b89 {p : Program} {l : Launch} {e : Env} {s : State} {m : MethodId} {args : Array Value} {below : List Frame} {meth : Method} {c : Code} {D : va_G} {dA : Nat → ClassId} {b0 : Nat} {gs : Nat → Option Nat} (hc : zC D dA b0 gs yX4_list.cls cX4_list 4 p c s m args meth) (hr : meth.sig.returnType = none) (hin : meth.name = yX4_list.name) {r : Unit} {hh : PH} {mc ms : Nat} (k66 : PH → Nat → Int64 → ZR Unit) (hk66 : ∀ (h : PH) (a0 : Nat) (v1 : Int64) (C9 S9 : Nat) (H : Heap) (locs : List Loc) (cells slots : Nat), k66 h a0 v1 = some (r, hh, C9, S9) → cells + C9 = mc ∧ slots + S9 = ms → zM D dA b0 gs s h H locs → ∀ ls : Array Slot, lv_has ls 4 [(0, .ref a0), (1, .long v1)] → W p l e ({ frames := 6, cells := mc, slots := ms, locals := 171 } : Room) s m args below meth c H locs cells slots (MQ below (zQ D dA b0 gs (evU r) hh) args s mc ms (zA b0)) (F0 m 66 ls [])) : ∀ (h : PH) (a0 : Nat) (v1 : Int64) (C9 S9 : Nat) (H : Heap) (locs : List Loc) (cells slots : Nat), f_X4_list_b89 k66 h a0 v1 = some (r, hh, C9, S9) → cells + C9 = mc ∧ slots + S9 = ms → zM D dA b0 gs s h H locs → ∀ ls : Array Slot, lv_has ls 4 [(0, .ref a0), (1, .long v1)] → W p l e ({ frames := 6, cells := mc, slots := ms, locals := 171 } : Room) s m args below meth c H locs cells slots (MQ below (zQ D dA b0 gs (evU r) hh) args s mc ms (zA b0)) (F0 m 89 ls []) := by
  have hx := hc.x
  have hb := hc.b
  intro h a0 v1 C9 S9 H locs cells slots hf hq hn ls hl
  unfold f_X4_list_b89 at hf
  refine lv_aload_n (x := a0) hx hb dX4_list_89 rfl (lv_at hl 0 rfl) ?_
  refine zr_cVU (As := []) (rest := []) hc hn hq (ci := 3) rfl ⟨rfl, hd_X4_element⟩ (lw_V q2276 q2278 qs45 q91 q2279) (Nat.le_of_ble_eq_true rfl) (Nat.le_of_ble_eq_true rfl) (fun _ _ _ _ q => m_X4_element l D dA b0 gs h a0 q) hf dX4_list_90 hl.1 rfl rfl (zroom (Nat.le_of_ble_eq_true rfl)) (fun x101 h102 H locs cells slots C9 S9 hf hq hn => ?_)
  refine lv_goto (tgt := 66) hx hb dX4_list_93 (by decide) ?_
  exact hk66 h102 a0 v1 _ _ _ _ _ _ hf hq hn _ (lv_sub hl [0, 1] rfl)
set_option maxHeartbeats 4000000 in
set_option maxRecDepth 100000 in
theorem m_X4_list_b96 {p : Program} {l : Launch} {e : Env} {s : State} {m : MethodId} {args : Array Value} {below : List Frame} {meth : Method} {c : Code} {D : va_G} {dA : Nat → ClassId} {b0 : Nat} {gs : Nat → Option Nat} (hc : zC D dA b0 gs yX4_list.cls cX4_list 4 p c s m args meth) (hr : meth.sig.returnType = none) (hin : meth.name = yX4_list.name) {r : Unit} {hh : PH} {mc ms : Nat} : ∀ (h : PH) (a0 : Nat) (v1 : Int64) (C9 S9 : Nat) (H : Heap) (locs : List Loc) (cells slots : Nat), f_X4_list_b96 h a0 v1 = some (r, hh, C9, S9) → cells + C9 = mc ∧ slots + S9 = ms → zM D dA b0 gs s h H locs → ∀ ls : Array Slot, lv_has ls 4 [(0, .ref a0), (1, .long v1)] → W p l e ({ frames := 6, cells := mc, slots := ms, locals := 171 } : Room) s m args below meth c H locs cells slots (MQ below (zQ D dA b0 gs (evU r) hh) args s mc ms (zA b0)) (F0 m 96 ls []) := by
  have hx := hc.x
  have hb := hc.b
  intro h a0 v1 C9 S9 H locs cells slots hf hq hn ls hl
  unfold f_X4_list_b96 at hf
  refine lv_aload_n (x := a0) hx hb dX4_list_96 rfl (lv_at hl 0 rfl) ?_
  refine zr_gI hc hn (ci := 3) rfl rfl in_X4 17 (by decide) q2116 (fun _ h => h) (fun _ _ _ => rfl) hf dX4_list_97 (fun x101 hf => ?_)
  refine lv_if_ne (tgt := 109) hx hb dX4_list_100 (by decide) (fun c9 => ?_) (fun c9 => ?_)
  · have hf := zif_f c9 hf
    refine lv_aload_n (x := a0) hx hb dX4_list_109 rfl (lv_at hl 0 rfl) ?_
    refine zr_gP hc hn (ci := 3) rfl rfl in_X4 23 (by decide) q2122 (fun _ h => h) (fun _ _ _ => rfl) hf dX4_list_110 (fun x102 hf => ?_)
    refine lv_aload_n (x := a0) hx hb dX4_list_113 rfl (lv_at hl 0 rfl) ?_
    refine zr_gI hc hn (ci := 3) rfl rfl in_X4 22 (by decide) q2121 (fun _ h => h) (fun _ _ _ => rfl) hf dX4_list_114 (fun x103 hf => ?_)
    refine lv_lload_n hx hb dX4_list_117 rfl (lv_at hl 1 rfl) ?_
    obtain ⟨a104, e9, hf9⟩ := znn_i hf
    subst e9
    have hf := hf9
    clear hf9
    refine zr_sL hc hn hf dX4_list_118 (fun h105 H locs hf hn => ?_)
    refine lv_aload_n (x := a0) hx hb dX4_list_119 rfl (lv_at hl 0 rfl) ?_
    refine lv_dup hx hb dX4_list_120 rfl ?_
    refine zr_gI hc hn (ci := 3) rfl rfl in_X4 22 (by decide) q2121 (fun _ h => h) (fun _ _ _ => rfl) hf dX4_list_121 (fun x106 hf => ?_)
    refine lv_iconst (v := (1 : Int32)) hx hb dX4_list_124 (by decide) ?_
    refine lv_iadd hx hb dX4_list_125 ?_
    refine zr_nmI hf (fun x107 hf => ?_)
    refine zr_pI (x := x107) hc hn (ci := 3) rfl rfl in_X4 22 (by decide) tyX4 tyX4_ok nmX4 q2121 (fun _ h => h) (Or.inl rfl) (fun _ _ _ => rfl) rfl rfl hf dX4_list_126 (fun h108 H locs hf hn => ?_)
    obtain ⟨rfl, rfl, rfl, rfl⟩ := zret_i hf
    exact zr_vret hc hn hr hq (fun _ _ _ _ q => q) dX4_list_129
  · have hf := zif_t c9 hf
    refine lv_aload_n (x := a0) hx hb dX4_list_103 rfl (lv_at hl 0 rfl) ?_
    refine lv_bipush (v := (59 : Int32)) hx hb dX4_list_104 (by decide) ?_
    refine zr_cVU (As := [.int (59 : Int32)]) (rest := []) hc hn hq (ci := 3) rfl ⟨rfl, hd_X4_sign⟩ (lw_V q2259 q2261 qs41 q91 q2262) (Nat.le_of_ble_eq_true rfl) (Nat.le_of_ble_eq_true rfl) (fun _ _ _ _ q => m_X4_sign l D dA b0 gs h a0 (59 : Int32) q) hf dX4_list_106 hl.1 rfl rfl (zroom (Nat.le_of_ble_eq_true rfl)) (fun x109 h110 H locs cells slots C9 S9 hf hq hn => ?_)
    refine lv_aload_n (x := a0) hx hb dX4_list_109 rfl (lv_at hl 0 rfl) ?_
    refine zr_gP hc hn (ci := 3) rfl rfl in_X4 23 (by decide) q2122 (fun _ h => h) (fun _ _ _ => rfl) hf dX4_list_110 (fun x111 hf => ?_)
    refine lv_aload_n (x := a0) hx hb dX4_list_113 rfl (lv_at hl 0 rfl) ?_
    refine zr_gI hc hn (ci := 3) rfl rfl in_X4 22 (by decide) q2121 (fun _ h => h) (fun _ _ _ => rfl) hf dX4_list_114 (fun x112 hf => ?_)
    refine lv_lload_n hx hb dX4_list_117 rfl (lv_at hl 1 rfl) ?_
    obtain ⟨a113, e9, hf9⟩ := znn_i hf
    subst e9
    have hf := hf9
    clear hf9
    refine zr_sL hc hn hf dX4_list_118 (fun h114 H locs hf hn => ?_)
    refine lv_aload_n (x := a0) hx hb dX4_list_119 rfl (lv_at hl 0 rfl) ?_
    refine lv_dup hx hb dX4_list_120 rfl ?_
    refine zr_gI hc hn (ci := 3) rfl rfl in_X4 22 (by decide) q2121 (fun _ h => h) (fun _ _ _ => rfl) hf dX4_list_121 (fun x115 hf => ?_)
    refine lv_iconst (v := (1 : Int32)) hx hb dX4_list_124 (by decide) ?_
    refine lv_iadd hx hb dX4_list_125 ?_
    refine zr_nmI hf (fun x116 hf => ?_)
    refine zr_pI (x := x116) hc hn (ci := 3) rfl rfl in_X4 22 (by decide) tyX4 tyX4_ok nmX4 q2121 (fun _ h => h) (Or.inl rfl) (fun _ _ _ => rfl) rfl rfl hf dX4_list_126 (fun h117 H locs hf hn => ?_)
    obtain ⟨rfl, rfl, rfl, rfl⟩ := zret_i hf
    exact zr_vret hc hn hr hq (fun _ _ _ _ q => q) dX4_list_129
set_option maxHeartbeats 4000000 in
set_option maxRecDepth 100000 in
theorem m_X4_list_b66 {p : Program} {l : Launch} {e : Env} {s : State} {m : MethodId} {args : Array Value} {below : List Frame} {meth : Method} {c : Code} {D : va_G} {dA : Nat → ClassId} {b0 : Nat} {gs : Nat → Option Nat} (hc : zC D dA b0 gs yX4_list.cls cX4_list 4 p c s m args meth) (hr : meth.sig.returnType = none) (hin : meth.name = yX4_list.name) {r : Unit} {hh : PH} {mc ms : Nat} : ∀ (n : Nat) (h : PH) (a0 : Nat) (v1 : Int64) (C9 S9 : Nat) (H : Heap) (locs : List Loc) (cells slots : Nat), f_X4_list_b66 n h a0 v1 = some (r, hh, C9, S9) → cells + C9 = mc ∧ slots + S9 = ms → zM D dA b0 gs s h H locs → ∀ ls : Array Slot, lv_has ls 4 [(0, .ref a0), (1, .long v1)] → W p l e ({ frames := 6, cells := mc, slots := ms, locals := 171 } : Room) s m args below meth c H locs cells slots (MQ below (zQ D dA b0 gs (evU r) hh) args s mc ms (zA b0)) (F0 m 66 ls []) := by
  have hx := hc.x
  have hb := hc.b
  intro n
  induction n with
  | zero =>
    intro h a0 v1 C9 S9 H locs cells slots hf hq hn ls hl
    cases hf
  | succ n ih =>
    intro h a0 v1 C9 S9 H locs cells slots hf hq hn ls hl
    unfold f_X4_list_b66 at hf
    refine lv_aload_n (x := a0) hx hb dX4_list_66 rfl (lv_at hl 0 rfl) ?_
    refine zr_gI hc hn (ci := 3) rfl rfl in_X4 17 (by decide) q2116 (fun _ h => h) (fun _ _ _ => rfl) hf dX4_list_67 (fun x101 hf => ?_)
    refine lv_if_ne (tgt := 96) hx hb dX4_list_70 (by decide) (fun c9 => ?_) (fun c9 => ?_)
    · have hf := zif_f c9 hf
      exact m_X4_list_b96 hc hr hin h a0 v1 _ _ _ _ _ _ hf hq hn _ (lv_sub hl [0, 1] rfl)
    · have hf := zif_t c9 hf
      refine lv_aload_n (x := a0) hx hb dX4_list_73 rfl (lv_at hl 0 rfl) ?_
      refine lv_bipush (v := (45 : Int32)) hx hb dX4_list_74 (by decide) ?_
      refine zr_cVI (As := [.int (45 : Int32)]) (rest := []) hc hn hq (ci := 3) rfl ⟨rfl, hd_X4_isNext⟩ (lw_V q2263 q2265 qs42 q91 q2266) (Nat.le_of_ble_eq_true rfl) (Nat.le_of_ble_eq_true rfl) (fun _ _ _ _ q => m_X4_isNext l D dA b0 gs h a0 (45 : Int32) q) hf dX4_list_76 hl.1 rfl rfl (zroom (Nat.le_of_ble_eq_true rfl)) (fun x102 h103 H locs cells slots C9 S9 hf hq hn => ?_)
      refine lv_if_ne (tgt := 89) hx hb dX4_list_79 (by decide) (fun c9 => ?_) (fun c9 => ?_)
      · have hf := zif_f c9 hf
        exact m_X4_list_b89 hc hr hin (f_X4_list_b66 n) ih h103 a0 v1 _ _ _ _ _ _ hf hq hn _ (lv_sub hl [0, 1] rfl)
      · have hf := zif_t c9 hf
        refine lv_aload_n (x := a0) hx hb dX4_list_82 rfl (lv_at hl 0 rfl) ?_
        refine zr_cVI (As := []) (rest := []) hc hn hq (ci := 3) rfl ⟨rfl, hd_X4_isNumberNext⟩ (lw_V q2272 q2274 qs44 q91 q2275) (Nat.le_of_ble_eq_true rfl) (Nat.le_of_ble_eq_true rfl) (fun _ _ _ _ q => m_X4_isNumberNext l D dA b0 gs h103 a0 q) hf dX4_list_83 hl.1 rfl rfl (zroom (Nat.le_of_ble_eq_true rfl)) (fun x104 h105 H locs cells slots C9 S9 hf hq hn => ?_)
        refine lv_if_eq (tgt := 96) hx hb dX4_list_86 (by decide) (fun c9 => ?_) (fun c9 => ?_)
        · have hf := zif_t c9 hf
          exact m_X4_list_b96 hc hr hin h105 a0 v1 _ _ _ _ _ _ hf hq hn _ (lv_sub hl [0, 1] rfl)
        · have hf := zif_f c9 hf
          exact m_X4_list_b89 hc hr hin (f_X4_list_b66 n) ih h105 a0 v1 _ _ _ _ _ _ hf hq hn _ (lv_sub hl [0, 1] rfl)
set_option maxHeartbeats 4000000 in
set_option maxRecDepth 100000 in
theorem m_X4_list_b22 {p : Program} {l : Launch} {e : Env} {s : State} {m : MethodId} {args : Array Value} {below : List Frame} {meth : Method} {c : Code} {D : va_G} {dA : Nat → ClassId} {b0 : Nat} {gs : Nat → Option Nat} (hc : zC D dA b0 gs yX4_list.cls cX4_list 4 p c s m args meth) (hr : meth.sig.returnType = none) (hin : meth.name = yX4_list.name) {r : Unit} {hh : PH} {mc ms : Nat} : ∀ (n : Nat) (h : PH) (a0 : Nat) (v1 : Int64) (v3 : Int32) (C9 S9 : Nat) (H : Heap) (locs : List Loc) (cells slots : Nat), f_X4_list_b22 n h a0 v1 v3 = some (r, hh, C9, S9) → cells + C9 = mc ∧ slots + S9 = ms → zM D dA b0 gs s h H locs → ∀ ls : Array Slot, lv_has ls 4 [(0, .ref a0), (1, .long v1), (3, .int v3)] → W p l e ({ frames := 6, cells := mc, slots := ms, locals := 171 } : Room) s m args below meth c H locs cells slots (MQ below (zQ D dA b0 gs (evU r) hh) args s mc ms (zA b0)) (F0 m 22 ls []) := by
  have hx := hc.x
  have hb := hc.b
  intro n
  induction n with
  | zero =>
    intro h a0 v1 v3 C9 S9 H locs cells slots hf hq hn ls hl
    cases hf
  | succ n ih =>
    intro h a0 v1 v3 C9 S9 H locs cells slots hf hq hn ls hl
    unfold f_X4_list_b22 at hf
    refine lv_iload_n hx hb dX4_list_22 rfl (lv_at hl 2 rfl) ?_
    refine lv_aload_n (x := a0) hx hb dX4_list_23 rfl (lv_at hl 0 rfl) ?_
    refine zr_gI hc hn (ci := 3) rfl rfl in_X4 22 (by decide) q2121 (fun _ h => h) (fun _ _ _ => rfl) hf dX4_list_24 (fun x101 hf => ?_)
    refine lv_icmp_ge (tgt := 56) hx hb dX4_list_27 (by decide) (fun c9 => ?_) (fun c9 => ?_)
    · have hf := zif_t c9 hf
      refine lv_aload_n (x := a0) hx hb dX4_list_56 rfl (lv_at hl 0 rfl) ?_
      refine zr_gP hc hn (ci := 3) rfl rfl in_X4 24 (by decide) q2123 (fun _ h => h) (fun _ _ _ => rfl) hf dX4_list_57 (fun x102 hf => ?_)
      refine lv_aload_n (x := a0) hx hb dX4_list_60 rfl (lv_at hl 0 rfl) ?_
      refine zr_gI hc hn (ci := 3) rfl rfl in_X4 22 (by decide) q2121 (fun _ h => h) (fun _ _ _ => rfl) hf dX4_list_61 (fun x103 hf => ?_)
      refine lv_iconst (v := (0 : Int32)) hx hb dX4_list_64 (by decide) ?_
      obtain ⟨a104, e9, hf9⟩ := znn_i hf
      subst e9
      have hf := hf9
      clear hf9
      refine zr_sI hc hn hf dX4_list_65 (fun h105 H locs hf hn => ?_)
      exact m_X4_list_b66 hc hr hin zFU h105 a0 v1 _ _ _ _ _ _ hf hq hn _ (lv_sub hl [0, 1] rfl)
    · have hf := zif_f c9 hf
      refine lv_aload_n (x := a0) hx hb dX4_list_30 rfl (lv_at hl 0 rfl) ?_
      refine zr_gP hc hn (ci := 3) rfl rfl in_X4 23 (by decide) q2122 (fun _ h => h) (fun _ _ _ => rfl) hf dX4_list_31 (fun x106 hf => ?_)
      refine lv_iload_n hx hb dX4_list_34 rfl (lv_at hl 2 rfl) ?_
      obtain ⟨a107, e9, hf9⟩ := znn_i hf
      subst e9
      have hf := hf9
      clear hf9
      refine zr_aL hc hn hf dX4_list_35 (fun x108 hf => ?_)
      refine lv_lload_n hx hb dX4_list_36 rfl (lv_at hl 1 rfl) ?_
      refine W.lcmp hx hb dX4_list_37 ?_
      refine zr_nmI hf (fun x109 hf => ?_)
      refine lv_if_ne (tgt := 50) hx hb dX4_list_38 (by decide) (fun c9 => ?_) (fun c9 => ?_)
      · have hf := zif_f c9 hf
        exact m_X4_list_b50 hc hr hin (f_X4_list_b22 n) ih h a0 v1 v3 _ _ _ _ _ _ hf hq hn _ (lv_sub hl [0, 1, 2] rfl)
      · have hf := zif_t c9 hf
        refine lv_aload_n (x := a0) hx hb dX4_list_41 rfl (lv_at hl 0 rfl) ?_
        refine lv_iconst (v := (4 : Int32)) hx hb dX4_list_42 (by decide) ?_
        refine lv_aload_n (x := a0) hx hb dX4_list_43 rfl (lv_at hl 0 rfl) ?_
        refine zr_gI hc hn (ci := 3) rfl rfl in_X4 20 (by decide) q2119 (fun _ h => h) (fun _ _ _ => rfl) hf dX4_list_44 (fun x110 hf => ?_)
        refine zr_cVU (As := [.int (4 : Int32), .int x110]) (rest := []) hc hn hq (ci := 3) rfl ⟨rfl, hd_X4_fault⟩ (lw_V q2243 q2245 qs38 q91 q2246) (Nat.le_of_ble_eq_true rfl) (Nat.le_of_ble_eq_true rfl) (fun _ _ _ _ q => m_X4_fault l D dA b0 gs h a0 (4 : Int32) x110 q) hf dX4_list_47 hl.1 rfl rfl (zroom (Nat.le_of_ble_eq_true rfl)) (fun x111 h112 H locs cells slots C9 S9 hf hq hn => ?_)
        exact m_X4_list_b50 hc hr hin (f_X4_list_b22 n) ih h112 a0 v1 v3 _ _ _ _ _ _ hf hq hn _ (lv_sub hl [0, 1, 2] rfl)
set_option maxHeartbeats 4000000 in
set_option maxRecDepth 100000 in
theorem m_X4_list_b20 {p : Program} {l : Launch} {e : Env} {s : State} {m : MethodId} {args : Array Value} {below : List Frame} {meth : Method} {c : Code} {D : va_G} {dA : Nat → ClassId} {b0 : Nat} {gs : Nat → Option Nat} (hc : zC D dA b0 gs yX4_list.cls cX4_list 4 p c s m args meth) (hr : meth.sig.returnType = none) (hin : meth.name = yX4_list.name) {r : Unit} {hh : PH} {mc ms : Nat} : ∀ (h : PH) (a0 : Nat) (v1 : Int64) (C9 S9 : Nat) (H : Heap) (locs : List Loc) (cells slots : Nat), f_X4_list_b20 h a0 v1 = some (r, hh, C9, S9) → cells + C9 = mc ∧ slots + S9 = ms → zM D dA b0 gs s h H locs → ∀ ls : Array Slot, lv_has ls 4 [(0, .ref a0), (1, .long v1)] → W p l e ({ frames := 6, cells := mc, slots := ms, locals := 171 } : Room) s m args below meth c H locs cells slots (MQ below (zQ D dA b0 gs (evU r) hh) args s mc ms (zA b0)) (F0 m 20 ls []) := by
  have hx := hc.x
  have hb := hc.b
  intro h a0 v1 C9 S9 H locs cells slots hf hq hn ls hl
  unfold f_X4_list_b20 at hf
  refine lv_iconst (v := (0 : Int32)) hx hb dX4_list_20 (by decide) ?_
  refine lv_istore_n (i := 3) (lv' := [(3, .int (0 : Int32)), (0, .ref a0), (1, .long v1)]) hx hb dX4_list_21 rfl hl (by decide) rfl (fun ls hl => ?_)
  exact m_X4_list_b22 hc hr hin zFU h a0 v1 (0 : Int32) _ _ _ _ _ _ hf hq hn _ (lv_sub hl [1, 2, 0] rfl)
set_option maxHeartbeats 4000000 in
set_option maxRecDepth 100000 in
theorem m_X4_list (l : Launch) (D : va_G) (dA : Nat → ClassId) (b0 : Nat) (gs : Nat → Option Nat) (h : PH) (a0 : Nat) {r : Unit} {hh : PH} {mc ms : Nat} (hf : f_X4_list h a0 = some (r, hh, mc, ms)) : zMt l D dA b0 gs yX4_list cX4_list 4 none 6 171 [.ref a0] h (evU r) hh mc ms := by
  unfold f_X4_list at hf
  refine zMt.of (by decide) (Nat.le_of_ble_eq_true rfl) ?_
  intro p e s m args below meth c hc hr hin hn ls hl
  have hl : lv_has ls 4 [(0, .ref a0)] := hl
  have hq : 0 + mc = mc ∧ 0 + ms = ms := ⟨Nat.zero_add _, Nat.zero_add _⟩
  have hx := hc.x
  have hb := hc.b
  refine lv_aload_n (x := a0) hx hb dX4_list_0 rfl (lv_at hl 0 rfl) ?_
  refine zr_cVL (As := []) (rest := []) hc hn hq (ci := 3) rfl ⟨rfl, hd_X4_takesWord⟩ (lw_V q2231 q2233 qs36 q91 q2234) (Nat.le_of_ble_eq_true rfl) (Nat.le_of_ble_eq_true rfl) (fun _ _ _ _ q => m_X4_takesWord l D dA b0 gs h a0 q) hf dX4_list_1 hl.1 rfl rfl (zroom (Nat.le_of_ble_eq_true rfl)) (fun x101 h102 H locs cells slots C9 S9 hf hq hn => ?_)
  refine lv_lstore_n (i := 1) (lv' := [(1, .long x101), (0, .ref a0)]) hx hb dX4_list_4 rfl hl (by decide) rfl (fun ls hl => ?_)
  refine lv_lload_n hx hb dX4_list_5 rfl (lv_at hl 0 rfl) ?_
  refine lv_lconst (v := (0 : Int64)) hx hb dX4_list_6 (by decide) ?_
  refine W.lcmp hx hb dX4_list_7 ?_
  refine zr_nmI hf (fun x103 hf => ?_)
  refine lv_if_gt (tgt := 20) hx hb dX4_list_8 (by decide) (fun c9 => ?_) (fun c9 => ?_)
  · have hf := zif_t c9 hf
    exact m_X4_list_b20 hc hr hin h102 a0 x101 _ _ _ _ _ _ hf hq hn _ (lv_sub hl [1, 0] rfl)
  · have hf := zif_f c9 hf
    refine lv_aload_n (x := a0) hx hb dX4_list_11 rfl (lv_at hl 1 rfl) ?_
    refine lv_iconst (v := (1 : Int32)) hx hb dX4_list_12 (by decide) ?_
    refine lv_aload_n (x := a0) hx hb dX4_list_13 rfl (lv_at hl 1 rfl) ?_
    refine zr_gI hc hn (ci := 3) rfl rfl in_X4 20 (by decide) q2119 (fun _ h => h) (fun _ _ _ => rfl) hf dX4_list_14 (fun x104 hf => ?_)
    refine zr_cVU (As := [.int (1 : Int32), .int x104]) (rest := []) hc hn hq (ci := 3) rfl ⟨rfl, hd_X4_fault⟩ (lw_V q2243 q2245 qs38 q91 q2246) (Nat.le_of_ble_eq_true rfl) (Nat.le_of_ble_eq_true rfl) (fun _ _ _ _ q => m_X4_fault l D dA b0 gs h102 a0 (1 : Int32) x104 q) hf dX4_list_17 hl.1 rfl rfl (zroom (Nat.le_of_ble_eq_true rfl)) (fun x105 h106 H locs cells slots C9 S9 hf hq hn => ?_)
    exact m_X4_list_b20 hc hr hin h106 a0 x101 _ _ _ _ _ _ hf hq hn _ (lv_sub hl [1, 0] rfl)
theorem hd_X4_readsText : yX4_readsText.cls ≠ "java/lang/invoke/MethodHandle" ∧ yX4_readsText.cls ≠ "java/lang/invoke/VarHandle" ∧ (parseMethodDescriptor yX4_readsText.desc).map (fun d => d.parameters.length) = some 0 := by decide +kernel
def f_X4_readsText_b162 (k93 : PH → Nat → ZR Unit) (h : PH) (a0 : Nat) : ZR Unit :=
  k93 h a0
def f_X4_readsText_b93 : Nat → PH → Nat → ZR Unit
  | 0 => fun _ _ => none
  | n + 1 => fun h a0 =>
    zgI h a0 3 17 fun x101 =>
    if x101 = 0 then
      (zrc h a0 3 <| zcl (f_X4_blanks h a0) fun _ h103 =>
      zgI h103 a0 3 14 fun x104 =>
      zrc h103 a0 3 <| zcl (f_X4_says h103 a0 (243290 : Int64)) fun x105 h106 =>
      if x105 = 0 then
        (zgI h106 a0 3 14 fun x112 =>
        zgI h106 a0 3 13 fun x113 =>
        if x113 ≤ x112 then
          (zret () h106)
        else
          (zgI h106 a0 3 14 fun x114 =>
          zrc h106 a0 3 <| zcl (f_X4_fault h106 a0 (1 : Int32) x114) fun _ h116 =>
          zret () h116))
      else
        (zgI h106 a0 3 22 fun x107 =>
        if x107 = (6 : Int32) then
          (zrc h106 a0 3 <| zcl (f_X4_fault h106 a0 (5 : Int32) x104) fun _ h111 =>
          f_X4_readsText_b162 (f_X4_readsText_b93 n) h111 a0)
        else
          (zrc h106 a0 3 <| zcl (f_X4_list h106 a0) fun _ h109 =>
          f_X4_readsText_b162 (f_X4_readsText_b93 n) h109 a0)))
    else
      (zret () h)
def f_X4_readsText_b80 (h : PH) (a0 : Nat) : ZR Unit :=
  zgI h a0 3 17 fun x101 =>
  if x101 = 0 then
    (zrc h a0 3 <| zcl (f_X4_sign h a0 (59 : Int32)) fun _ h103 =>
    f_X4_readsText_b93 zFU h103 a0)
  else
    (f_X4_readsText_b93 zFU h a0)
def f_X4_readsText (h : PH) (a0 : Nat) : ZR Unit :=
  zpI h a0 3 14 (0 : Int32) fun h101 =>
  zpI h101 a0 3 17 (0 : Int32) fun h102 =>
  zpI h102 a0 3 22 (0 : Int32) fun h103 =>
  zrc h103 a0 3 <| zcl (f_X4_blanks h103 a0) fun _ h105 =>
  zrc h105 a0 3 <| zcl (f_X4_says h105 a0 (6564179 : Int64)) fun x106 h107 =>
  if x106 = 0 then
    (zgI h107 a0 3 14 fun x119 =>
    zrc h107 a0 3 <| zcl (f_X4_fault h107 a0 (1 : Int32) x119) fun _ h121 =>
    zret () h121)
  else
    (zrc h107 a0 3 <| zcl (f_X4_number h107 a0) fun x108 h109 =>
    zpI h109 a0 3 21 x108 fun h110 =>
    zgI h110 a0 3 17 fun x111 =>
    if x111 = 0 then
      (zgI h110 a0 3 21 fun x112 =>
      znm x112.toInt64 fun x113 =>
      zcl (f_X4_in h110 x113 (2 : Int64) (7 : Int64)) fun x114 h115 =>
      if x114 = 0 then
        (zgI h115 a0 3 19 fun x116 =>
        zrc h115 a0 3 <| zcl (f_X4_fault h115 a0 (2 : Int32) x116) fun _ h118 =>
        f_X4_readsText_b80 h118 a0)
      else
        (f_X4_readsText_b80 h115 a0))
    else
      (f_X4_readsText_b80 h110 a0))
set_option maxHeartbeats 4000000 in
set_option maxRecDepth 100000 in
theorem m_X4_readsText_b162 {p : Program} {l : Launch} {e : Env} {s : State} {m : MethodId} {args : Array Value} {below : List Frame} {meth : Method} {c : Code} {D : va_G} {dA : Nat → ClassId} {b0 : Nat} {gs : Nat → Option Nat} (hc : zC D dA b0 gs yX4_readsText.cls cX4_readsText 2 p c s m args meth) (hr : meth.sig.returnType = none) (hin : meth.name = yX4_readsText.name) {r : Unit} {hh : PH} {mc ms : Nat} (k93 : PH → Nat → ZR Unit) (hk93 : ∀ (h : PH) (a0 : Nat) (C9 S9 : Nat) (H : Heap) (locs : List Loc) (cells slots : Nat), k93 h a0 = some (r, hh, C9, S9) → cells + C9 = mc ∧ slots + S9 = ms → zM D dA b0 gs s h H locs → ∀ ls : Array Slot, lv_has ls 2 [(0, .ref a0)] → W p l e ({ frames := 7, cells := mc, slots := ms, locals := 194 } : Room) s m args below meth c H locs cells slots (MQ below (zQ D dA b0 gs (evU r) hh) args s mc ms (zA b0)) (F0 m 93 ls [])) : ∀ (h : PH) (a0 : Nat) (C9 S9 : Nat) (H : Heap) (locs : List Loc) (cells slots : Nat), f_X4_readsText_b162 k93 h a0 = some (r, hh, C9, S9) → cells + C9 = mc ∧ slots + S9 = ms → zM D dA b0 gs s h H locs → ∀ ls : Array Slot, lv_has ls 2 [(0, .ref a0)] → W p l e ({ frames := 7, cells := mc, slots := ms, locals := 194 } : Room) s m args below meth c H locs cells slots (MQ below (zQ D dA b0 gs (evU r) hh) args s mc ms (zA b0)) (F0 m 162 ls []) := by
  have hx := hc.x
  have hb := hc.b
  intro h a0 C9 S9 H locs cells slots hf hq hn ls hl
  unfold f_X4_readsText_b162 at hf
  refine lv_goto (tgt := 93) hx hb dX4_readsText_162 (by decide) ?_
  exact hk93 h a0 _ _ _ _ _ _ hf hq hn _ (lv_sub hl [0] rfl)
set_option maxHeartbeats 4000000 in
set_option maxRecDepth 100000 in
theorem m_X4_readsText_b93 {p : Program} {l : Launch} {e : Env} {s : State} {m : MethodId} {args : Array Value} {below : List Frame} {meth : Method} {c : Code} {D : va_G} {dA : Nat → ClassId} {b0 : Nat} {gs : Nat → Option Nat} (hc : zC D dA b0 gs yX4_readsText.cls cX4_readsText 2 p c s m args meth) (hr : meth.sig.returnType = none) (hin : meth.name = yX4_readsText.name) {r : Unit} {hh : PH} {mc ms : Nat} : ∀ (n : Nat) (h : PH) (a0 : Nat) (C9 S9 : Nat) (H : Heap) (locs : List Loc) (cells slots : Nat), f_X4_readsText_b93 n h a0 = some (r, hh, C9, S9) → cells + C9 = mc ∧ slots + S9 = ms → zM D dA b0 gs s h H locs → ∀ ls : Array Slot, lv_has ls 2 [(0, .ref a0)] → W p l e ({ frames := 7, cells := mc, slots := ms, locals := 194 } : Room) s m args below meth c H locs cells slots (MQ below (zQ D dA b0 gs (evU r) hh) args s mc ms (zA b0)) (F0 m 93 ls []) := by
  have hx := hc.x
  have hb := hc.b
  intro n
  induction n with
  | zero =>
    intro h a0 C9 S9 H locs cells slots hf hq hn ls hl
    cases hf
  | succ n ih =>
    intro h a0 C9 S9 H locs cells slots hf hq hn ls hl
    unfold f_X4_readsText_b93 at hf
    refine lv_aload_n (x := a0) hx hb dX4_readsText_93 rfl (lv_at hl 0 rfl) ?_
    refine zr_gI hc hn (ci := 3) rfl rfl in_X4 17 (by decide) q2116 (fun _ h => h) (fun _ _ _ => rfl) hf dX4_readsText_94 (fun x101 hf => ?_)
    refine lv_if_ne (tgt := 165) hx hb dX4_readsText_97 (by decide) (fun c9 => ?_) (fun c9 => ?_)
    · have hf := zif_f c9 hf
      obtain ⟨rfl, rfl, rfl, rfl⟩ := zret_i hf
      exact zr_vret hc hn hr hq (fun _ _ _ _ q => q) dX4_readsText_165
    · have hf := zif_t c9 hf
      refine lv_aload_n (x := a0) hx hb dX4_readsText_100 rfl (lv_at hl 0 rfl) ?_
      refine zr_cVU (As := []) (rest := []) hc hn hq (ci := 3) rfl ⟨rfl, hd_X4_blanks⟩ (lw_V q2222 q2224 qs34 q91 q2225) (Nat.le_of_ble_eq_true rfl) (Nat.le_of_ble_eq_true rfl) (fun _ _ _ _ q => m_X4_blanks l D dA b0 gs h a0 q) hf dX4_readsText_101 hl.1 rfl rfl (zroom (Nat.le_of_ble_eq_true rfl)) (fun x102 h103 H locs cells slots C9 S9 hf hq hn => ?_)
      refine lv_aload_n (x := a0) hx hb dX4_readsText_104 rfl (lv_at hl 0 rfl) ?_
      refine zr_gI hc hn (ci := 3) rfl rfl in_X4 14 (by decide) q2113 (fun _ h => h) (fun _ _ _ => rfl) hf dX4_readsText_105 (fun x104 hf => ?_)
      refine lv_istore_n (i := 1) (lv' := [(1, .int x104), (0, .ref a0)]) hx hb dX4_readsText_108 rfl hl (by decide) rfl (fun ls hl => ?_)
      refine lv_aload_n (x := a0) hx hb dX4_readsText_109 rfl (lv_at hl 1 rfl) ?_
      refine lv_ldc2 (v := (243290 : Int64)) hx hb hc.ow (hc.ts _ q2267) dX4_readsText_110 ?_
      refine zr_cVI (As := [.long (243290 : Int64)]) (rest := []) hc hn hq (ci := 3) rfl ⟨rfl, hd_X4_says⟩ (lw_V q2227 q2229 qs35 q91 q2230) (Nat.le_of_ble_eq_true rfl) (Nat.le_of_ble_eq_true rfl) (fun _ _ _ _ q => m_X4_says l D dA b0 gs h103 a0 (243290 : Int64) q) hf dX4_readsText_113 hl.1 rfl rfl (zroom (Nat.le_of_ble_eq_true rfl)) (fun x105 h106 H locs cells slots C9 S9 hf hq hn => ?_)
      refine lv_if_ne (tgt := 140) hx hb dX4_readsText_116 (by decide) (fun c9 => ?_) (fun c9 => ?_)
      · have hf := zif_f c9 hf
        refine lv_aload_n (x := a0) hx hb dX4_readsText_140 rfl (lv_at hl 1 rfl) ?_
        refine zr_gI hc hn (ci := 3) rfl rfl in_X4 22 (by decide) q2121 (fun _ h => h) (fun _ _ _ => rfl) hf dX4_readsText_141 (fun x107 hf => ?_)
        refine lv_bipush (v := (6 : Int32)) hx hb dX4_readsText_144 (by decide) ?_
        refine lv_icmp_ne (tgt := 158) hx hb dX4_readsText_146 (by decide) (fun c9 => ?_) (fun c9 => ?_)
        · have hf := zif_f c9 hf
          refine lv_aload_n (x := a0) hx hb dX4_readsText_158 rfl (lv_at hl 1 rfl) ?_
          refine zr_cVU (As := []) (rest := []) hc hn hq (ci := 3) rfl ⟨rfl, hd_X4_list⟩ (lw_V q2268 q2270 qs43 q91 q2271) (Nat.le_of_ble_eq_true rfl) (Nat.le_of_ble_eq_true rfl) (fun _ _ _ _ q => m_X4_list l D dA b0 gs h106 a0 q) hf dX4_readsText_159 hl.1 rfl rfl (zroom (Nat.le_of_ble_eq_true rfl)) (fun x108 h109 H locs cells slots C9 S9 hf hq hn => ?_)
          exact m_X4_readsText_b162 hc hr hin (f_X4_readsText_b93 n) ih h109 a0 _ _ _ _ _ _ hf hq hn _ (lv_sub hl [1] rfl)
        · have hf := zif_t c9 hf
          refine lv_aload_n (x := a0) hx hb dX4_readsText_149 rfl (lv_at hl 1 rfl) ?_
          refine lv_iconst (v := (5 : Int32)) hx hb dX4_readsText_150 (by decide) ?_
          refine lv_iload_n hx hb dX4_readsText_151 rfl (lv_at hl 0 rfl) ?_
          refine zr_cVU (As := [.int (5 : Int32), .int x104]) (rest := []) hc hn hq (ci := 3) rfl ⟨rfl, hd_X4_fault⟩ (lw_V q2243 q2245 qs38 q91 q2246) (Nat.le_of_ble_eq_true rfl) (Nat.le_of_ble_eq_true rfl) (fun _ _ _ _ q => m_X4_fault l D dA b0 gs h106 a0 (5 : Int32) x104 q) hf dX4_readsText_152 hl.1 rfl rfl (zroom (Nat.le_of_ble_eq_true rfl)) (fun x110 h111 H locs cells slots C9 S9 hf hq hn => ?_)
          refine lv_goto (tgt := 162) hx hb dX4_readsText_155 (by decide) ?_
          exact m_X4_readsText_b162 hc hr hin (f_X4_readsText_b93 n) ih h111 a0 _ _ _ _ _ _ hf hq hn _ (lv_sub hl [1] rfl)
      · have hf := zif_t c9 hf
        refine lv_aload_n (x := a0) hx hb dX4_readsText_119 rfl (lv_at hl 1 rfl) ?_
        refine zr_gI hc hn (ci := 3) rfl rfl in_X4 14 (by decide) q2113 (fun _ h => h) (fun _ _ _ => rfl) hf dX4_readsText_120 (fun x112 hf => ?_)
        refine lv_aload_n (x := a0) hx hb dX4_readsText_123 rfl (lv_at hl 1 rfl) ?_
        refine zr_gI hc hn (ci := 3) rfl rfl in_X4 13 (by decide) q2112 (fun _ h => h) (fun _ _ _ => rfl) hf dX4_readsText_124 (fun x113 hf => ?_)
        refine lv_icmp_ge (tgt := 139) hx hb dX4_readsText_127 (by decide) (fun c9 => ?_) (fun c9 => ?_)
        · have hf := zif_t c9 hf
          obtain ⟨rfl, rfl, rfl, rfl⟩ := zret_i hf
          exact zr_vret hc hn hr hq (fun _ _ _ _ q => q) dX4_readsText_139
        · have hf := zif_f c9 hf
          refine lv_aload_n (x := a0) hx hb dX4_readsText_130 rfl (lv_at hl 1 rfl) ?_
          refine lv_iconst (v := (1 : Int32)) hx hb dX4_readsText_131 (by decide) ?_
          refine lv_aload_n (x := a0) hx hb dX4_readsText_132 rfl (lv_at hl 1 rfl) ?_
          refine zr_gI hc hn (ci := 3) rfl rfl in_X4 14 (by decide) q2113 (fun _ h => h) (fun _ _ _ => rfl) hf dX4_readsText_133 (fun x114 hf => ?_)
          refine zr_cVU (As := [.int (1 : Int32), .int x114]) (rest := []) hc hn hq (ci := 3) rfl ⟨rfl, hd_X4_fault⟩ (lw_V q2243 q2245 qs38 q91 q2246) (Nat.le_of_ble_eq_true rfl) (Nat.le_of_ble_eq_true rfl) (fun _ _ _ _ q => m_X4_fault l D dA b0 gs h106 a0 (1 : Int32) x114 q) hf dX4_readsText_136 hl.1 rfl rfl (zroom (Nat.le_of_ble_eq_true rfl)) (fun x115 h116 H locs cells slots C9 S9 hf hq hn => ?_)
          obtain ⟨rfl, rfl, rfl, rfl⟩ := zret_i hf
          exact zr_vret hc hn hr hq (fun _ _ _ _ q => q) dX4_readsText_139
set_option maxHeartbeats 4000000 in
set_option maxRecDepth 100000 in
theorem m_X4_readsText_b80 {p : Program} {l : Launch} {e : Env} {s : State} {m : MethodId} {args : Array Value} {below : List Frame} {meth : Method} {c : Code} {D : va_G} {dA : Nat → ClassId} {b0 : Nat} {gs : Nat → Option Nat} (hc : zC D dA b0 gs yX4_readsText.cls cX4_readsText 2 p c s m args meth) (hr : meth.sig.returnType = none) (hin : meth.name = yX4_readsText.name) {r : Unit} {hh : PH} {mc ms : Nat} : ∀ (h : PH) (a0 : Nat) (C9 S9 : Nat) (H : Heap) (locs : List Loc) (cells slots : Nat), f_X4_readsText_b80 h a0 = some (r, hh, C9, S9) → cells + C9 = mc ∧ slots + S9 = ms → zM D dA b0 gs s h H locs → ∀ ls : Array Slot, lv_has ls 2 [(0, .ref a0)] → W p l e ({ frames := 7, cells := mc, slots := ms, locals := 194 } : Room) s m args below meth c H locs cells slots (MQ below (zQ D dA b0 gs (evU r) hh) args s mc ms (zA b0)) (F0 m 80 ls []) := by
  have hx := hc.x
  have hb := hc.b
  intro h a0 C9 S9 H locs cells slots hf hq hn ls hl
  unfold f_X4_readsText_b80 at hf
  refine lv_aload_n (x := a0) hx hb dX4_readsText_80 rfl (lv_at hl 0 rfl) ?_
  refine zr_gI hc hn (ci := 3) rfl rfl in_X4 17 (by decide) q2116 (fun _ h => h) (fun _ _ _ => rfl) hf dX4_readsText_81 (fun x101 hf => ?_)
  refine lv_if_ne (tgt := 93) hx hb dX4_readsText_84 (by decide) (fun c9 => ?_) (fun c9 => ?_)
  · have hf := zif_f c9 hf
    exact m_X4_readsText_b93 hc hr hin zFU h a0 _ _ _ _ _ _ hf hq hn _ (lv_sub hl [0] rfl)
  · have hf := zif_t c9 hf
    refine lv_aload_n (x := a0) hx hb dX4_readsText_87 rfl (lv_at hl 0 rfl) ?_
    refine lv_bipush (v := (59 : Int32)) hx hb dX4_readsText_88 (by decide) ?_
    refine zr_cVU (As := [.int (59 : Int32)]) (rest := []) hc hn hq (ci := 3) rfl ⟨rfl, hd_X4_sign⟩ (lw_V q2259 q2261 qs41 q91 q2262) (Nat.le_of_ble_eq_true rfl) (Nat.le_of_ble_eq_true rfl) (fun _ _ _ _ q => m_X4_sign l D dA b0 gs h a0 (59 : Int32) q) hf dX4_readsText_90 hl.1 rfl rfl (zroom (Nat.le_of_ble_eq_true rfl)) (fun x102 h103 H locs cells slots C9 S9 hf hq hn => ?_)
    exact m_X4_readsText_b93 hc hr hin zFU h103 a0 _ _ _ _ _ _ hf hq hn _ (lv_sub hl [0] rfl)
set_option maxHeartbeats 4000000 in
set_option maxRecDepth 100000 in
theorem m_X4_readsText (l : Launch) (D : va_G) (dA : Nat → ClassId) (b0 : Nat) (gs : Nat → Option Nat) (h : PH) (a0 : Nat) {r : Unit} {hh : PH} {mc ms : Nat} (hf : f_X4_readsText h a0 = some (r, hh, mc, ms)) : zMt l D dA b0 gs yX4_readsText cX4_readsText 2 none 7 194 [.ref a0] h (evU r) hh mc ms := by
  unfold f_X4_readsText at hf
  refine zMt.of (by decide) (Nat.le_of_ble_eq_true rfl) ?_
  intro p e s m args below meth c hc hr hin hn ls hl
  have hl : lv_has ls 2 [(0, .ref a0)] := hl
  have hq : 0 + mc = mc ∧ 0 + ms = ms := ⟨Nat.zero_add _, Nat.zero_add _⟩
  have hx := hc.x
  have hb := hc.b
  refine lv_aload_n (x := a0) hx hb dX4_readsText_0 rfl (lv_at hl 0 rfl) ?_
  refine lv_iconst (v := (0 : Int32)) hx hb dX4_readsText_1 (by decide) ?_
  refine zr_pI (x := (0 : Int32)) hc hn (ci := 3) rfl rfl in_X4 14 (by decide) tyX4 tyX4_ok nmX4 q2113 (fun _ h => h) (Or.inl rfl) (fun _ _ _ => rfl) rfl rfl hf dX4_readsText_2 (fun h101 H locs hf hn => ?_)
  refine lv_aload_n (x := a0) hx hb dX4_readsText_5 rfl (lv_at hl 0 rfl) ?_
  refine lv_iconst (v := (0 : Int32)) hx hb dX4_readsText_6 (by decide) ?_
  refine zr_pI (x := (0 : Int32)) hc hn (ci := 3) rfl rfl in_X4 17 (by decide) tyX4 tyX4_ok nmX4 q2116 (fun _ h => h) (Or.inl rfl) (fun _ _ _ => rfl) (by decide) (by decide) hf dX4_readsText_7 (fun h102 H locs hf hn => ?_)
  refine lv_aload_n (x := a0) hx hb dX4_readsText_10 rfl (lv_at hl 0 rfl) ?_
  refine lv_iconst (v := (0 : Int32)) hx hb dX4_readsText_11 (by decide) ?_
  refine zr_pI (x := (0 : Int32)) hc hn (ci := 3) rfl rfl in_X4 22 (by decide) tyX4 tyX4_ok nmX4 q2121 (fun _ h => h) (Or.inl rfl) (fun _ _ _ => rfl) rfl rfl hf dX4_readsText_12 (fun h103 H locs hf hn => ?_)
  refine lv_aload_n (x := a0) hx hb dX4_readsText_15 rfl (lv_at hl 0 rfl) ?_
  refine zr_cVU (As := []) (rest := []) hc hn hq (ci := 3) rfl ⟨rfl, hd_X4_blanks⟩ (lw_V q2222 q2224 qs34 q91 q2225) (Nat.le_of_ble_eq_true rfl) (Nat.le_of_ble_eq_true rfl) (fun _ _ _ _ q => m_X4_blanks l D dA b0 gs h103 a0 q) hf dX4_readsText_16 hl.1 rfl rfl (zroom (Nat.le_of_ble_eq_true rfl)) (fun x104 h105 H locs cells slots C9 S9 hf hq hn => ?_)
  refine lv_aload_n (x := a0) hx hb dX4_readsText_19 rfl (lv_at hl 0 rfl) ?_
  refine lv_ldc2 (v := (6564179 : Int64)) hx hb hc.ow (hc.ts _ q2226) dX4_readsText_20 ?_
  refine zr_cVI (As := [.long (6564179 : Int64)]) (rest := []) hc hn hq (ci := 3) rfl ⟨rfl, hd_X4_says⟩ (lw_V q2227 q2229 qs35 q91 q2230) (Nat.le_of_ble_eq_true rfl) (Nat.le_of_ble_eq_true rfl) (fun _ _ _ _ q => m_X4_says l D dA b0 gs h105 a0 (6564179 : Int64) q) hf dX4_readsText_23 hl.1 rfl rfl (zroom (Nat.le_of_ble_eq_true rfl)) (fun x106 h107 H locs cells slots C9 S9 hf hq hn => ?_)
  refine lv_if_ne (tgt := 39) hx hb dX4_readsText_26 (by decide) (fun c9 => ?_) (fun c9 => ?_)
  · have hf := zif_f c9 hf
    refine lv_aload_n (x := a0) hx hb dX4_readsText_39 rfl (lv_at hl 0 rfl) ?_
    refine lv_aload_n (x := a0) hx hb dX4_readsText_40 rfl (lv_at hl 0 rfl) ?_
    refine zr_cVI (As := []) (rest := [.ref a0]) hc hn hq (ci := 3) rfl ⟨rfl, hd_X4_number⟩ (lw_V q2247 q2249 qs39 q91 q2250) (Nat.le_of_ble_eq_true rfl) (Nat.le_of_ble_eq_true rfl) (fun _ _ _ _ q => m_X4_number l D dA b0 gs h107 a0 q) hf dX4_readsText_41 hl.1 rfl rfl (zroom (Nat.le_of_ble_eq_true rfl)) (fun x108 h109 H locs cells slots C9 S9 hf hq hn => ?_)
    refine zr_pI (x := x108) hc hn (ci := 3) rfl rfl in_X4 21 (by decide) tyX4 tyX4_ok nmX4 q2120 (fun _ h => h) (Or.inl rfl) (fun _ _ _ => rfl) rfl rfl hf dX4_readsText_44 (fun h110 H locs hf hn => ?_)
    refine lv_aload_n (x := a0) hx hb dX4_readsText_47 rfl (lv_at hl 0 rfl) ?_
    refine zr_gI hc hn (ci := 3) rfl rfl in_X4 17 (by decide) q2116 (fun _ h => h) (fun _ _ _ => rfl) hf dX4_readsText_48 (fun x111 hf => ?_)
    refine lv_if_ne (tgt := 80) hx hb dX4_readsText_51 (by decide) (fun c9 => ?_) (fun c9 => ?_)
    · have hf := zif_f c9 hf
      exact m_X4_readsText_b80 hc hr hin h110 a0 _ _ _ _ _ _ hf hq hn _ (lv_sub hl [0] rfl)
    · have hf := zif_t c9 hf
      refine lv_aload_n (x := a0) hx hb dX4_readsText_54 rfl (lv_at hl 0 rfl) ?_
      refine zr_gI hc hn (ci := 3) rfl rfl in_X4 21 (by decide) q2120 (fun _ h => h) (fun _ _ _ => rfl) hf dX4_readsText_55 (fun x112 hf => ?_)
      refine lv_i2l (v := x112.toInt64) hx hb dX4_readsText_58 rfl ?_
      refine zr_nmL hf (fun x113 hf => ?_)
      refine lv_ldc2 (v := (2 : Int64)) hx hb hc.ow (hc.ts _ q2257) dX4_readsText_59 ?_
      refine lv_ldc2 (v := (7 : Int64)) hx hb hc.ow (hc.ts _ q2258) dX4_readsText_62 ?_
      refine zr_cSI (As := [.long x113, .long (2 : Int64), .long (7 : Int64)]) (rest := []) hc hn hq hd_X4_in (lw_S q2211 q2212 q91 q2213) (Nat.le_of_ble_eq_true rfl) (Nat.le_of_ble_eq_true rfl) (fun _ _ _ _ q => m_X4_in l D dA b0 gs h110 x113 (2 : Int64) (7 : Int64) q) hf dX4_readsText_65 hl.1 rfl rfl (zroom (Nat.le_of_ble_eq_true rfl)) (fun x114 h115 H locs cells slots C9 S9 hf hq hn => ?_)
      refine lv_if_ne (tgt := 80) hx hb dX4_readsText_68 (by decide) (fun c9 => ?_) (fun c9 => ?_)
      · have hf := zif_f c9 hf
        exact m_X4_readsText_b80 hc hr hin h115 a0 _ _ _ _ _ _ hf hq hn _ (lv_sub hl [0] rfl)
      · have hf := zif_t c9 hf
        refine lv_aload_n (x := a0) hx hb dX4_readsText_71 rfl (lv_at hl 0 rfl) ?_
        refine lv_iconst (v := (2 : Int32)) hx hb dX4_readsText_72 (by decide) ?_
        refine lv_aload_n (x := a0) hx hb dX4_readsText_73 rfl (lv_at hl 0 rfl) ?_
        refine zr_gI hc hn (ci := 3) rfl rfl in_X4 19 (by decide) q2118 (fun _ h => h) (fun _ _ _ => rfl) hf dX4_readsText_74 (fun x116 hf => ?_)
        refine zr_cVU (As := [.int (2 : Int32), .int x116]) (rest := []) hc hn hq (ci := 3) rfl ⟨rfl, hd_X4_fault⟩ (lw_V q2243 q2245 qs38 q91 q2246) (Nat.le_of_ble_eq_true rfl) (Nat.le_of_ble_eq_true rfl) (fun _ _ _ _ q => m_X4_fault l D dA b0 gs h115 a0 (2 : Int32) x116 q) hf dX4_readsText_77 hl.1 rfl rfl (zroom (Nat.le_of_ble_eq_true rfl)) (fun x117 h118 H locs cells slots C9 S9 hf hq hn => ?_)
        exact m_X4_readsText_b80 hc hr hin h118 a0 _ _ _ _ _ _ hf hq hn _ (lv_sub hl [0] rfl)
  · have hf := zif_t c9 hf
    refine lv_aload_n (x := a0) hx hb dX4_readsText_29 rfl (lv_at hl 0 rfl) ?_
    refine lv_iconst (v := (1 : Int32)) hx hb dX4_readsText_30 (by decide) ?_
    refine lv_aload_n (x := a0) hx hb dX4_readsText_31 rfl (lv_at hl 0 rfl) ?_
    refine zr_gI hc hn (ci := 3) rfl rfl in_X4 14 (by decide) q2113 (fun _ h => h) (fun _ _ _ => rfl) hf dX4_readsText_32 (fun x119 hf => ?_)
    refine zr_cVU (As := [.int (1 : Int32), .int x119]) (rest := []) hc hn hq (ci := 3) rfl ⟨rfl, hd_X4_fault⟩ (lw_V q2243 q2245 qs38 q91 q2246) (Nat.le_of_ble_eq_true rfl) (Nat.le_of_ble_eq_true rfl) (fun _ _ _ _ q => m_X4_fault l D dA b0 gs h107 a0 (1 : Int32) x119 q) hf dX4_readsText_35 hl.1 rfl rfl (zroom (Nat.le_of_ble_eq_true rfl)) (fun x120 h121 H locs cells slots C9 S9 hf hq hn => ?_)
    obtain ⟨rfl, rfl, rfl, rfl⟩ := zret_i hf
    exact zr_vret hc hn hr hq (fun _ _ _ _ q => q) dX4_readsText_38
theorem hd_X4_base : yX4_base.cls ≠ "java/lang/invoke/MethodHandle" ∧ yX4_base.cls ≠ "java/lang/invoke/VarHandle" ∧ (parseMethodDescriptor yX4_base.desc).map (fun d => d.parameters.length) = some 1 := by decide +kernel
def f_X4_base (h : PH) (v0 : Int32) : ZR Int32 :=
  znm ((182 : Int32) * v0) fun x101 =>
  znm ((8 : Int32) + x101) fun x102 =>
  zret x102 h
set_option maxHeartbeats 4000000 in
set_option maxRecDepth 100000 in
theorem m_X4_base (l : Launch) (D : va_G) (dA : Nat → ClassId) (b0 : Nat) (gs : Nat → Option Nat) (h : PH) (v0 : Int32) {r : Int32} {hh : PH} {mc ms : Nat} (hf : f_X4_base h v0 = some (r, hh, mc, ms)) : zMt l D dA b0 gs yX4_base cX4_base 1 (some .int) 1 60 [.int v0] h (evI r) hh mc ms := by
  unfold f_X4_base at hf
  refine zMt.of (by decide) (Nat.le_of_ble_eq_true rfl) ?_
  intro p e s m args below meth c hc hr hin hn ls hl
  have hl : lv_has ls 1 [(0, .int v0)] := hl
  have hq : 0 + mc = mc ∧ 0 + ms = ms := ⟨Nat.zero_add _, Nat.zero_add _⟩
  have hx := hc.x
  have hb := hc.b
  refine lv_bipush (v := (8 : Int32)) hx hb dX4_base_0 (by decide) ?_
  refine lv_sipush (v := (182 : Int32)) hx hb dX4_base_2 (by decide) ?_
  refine lv_iload_n hx hb dX4_base_5 rfl (lv_at hl 0 rfl) ?_
  refine lv_imul hx hb dX4_base_6 ?_
  refine zr_nmI hf (fun x101 hf => ?_)
  refine lv_iadd hx hb dX4_base_7 ?_
  refine zr_nmI hf (fun x102 hf => ?_)
  obtain ⟨rfl, rfl, rfl, rfl⟩ := zret_i hf
  exact zr_iret hc hn hr hq (fun _ _ _ _ q => q) dX4_base_8
theorem hd_X4_heightOf : yX4_heightOf.cls ≠ "java/lang/invoke/MethodHandle" ∧ yX4_heightOf.cls ≠ "java/lang/invoke/VarHandle" ∧ (parseMethodDescriptor yX4_heightOf.desc).map (fun d => d.parameters.length) = some 1 := by decide +kernel
def f_X4_heightOf_b55 (k10 : PH → Nat → Int32 → Int32 → Int32 → ZR Int32) (h : PH) (a0 : Nat) (v2 : Int32) (v4 : Int32) (s0 : Int32) : ZR Int32 :=
  znm (v4 + (1 : Int32)) fun x101 =>
  k10 h a0 v2 s0 x101
def f_X4_heightOf_b10 : Nat → PH → Nat → Int32 → Int32 → Int32 → ZR Int32
  | 0 => fun _ _ _ _ _ => none
  | n + 1 => fun h a0 v2 v3 v4 =>
    zgP h a0 3 1 fun x101 =>
    znm (v2 + (1 : Int32)) fun x102 =>
    znn x101 fun a103 =>
    zaI h a103 0 x102 fun x104 =>
    if x104 ≤ v4 then
      (zret v3 h)
    else
      (zgP h a0 3 1 fun x105 =>
      znm (v2 + (122 : Int32)) fun x106 =>
      znm (x106 + v4) fun x107 =>
      znn x105 fun a108 =>
      zaI h a108 0 x107 fun x109 =>
      if x109 ≤ v3 then
        (f_X4_heightOf_b55 (f_X4_heightOf_b10 n) h a0 v2 v4 v3)
      else
        (zgP h a0 3 1 fun x110 =>
        znm (v2 + (122 : Int32)) fun x111 =>
        znm (x111 + v4) fun x112 =>
        znn x110 fun a113 =>
        zaI h a113 0 x112 fun x114 =>
        f_X4_heightOf_b55 (f_X4_heightOf_b10 n) h a0 v2 v4 x114))
def f_X4_heightOf (h : PH) (a0 : Nat) (v1 : Int32) : ZR Int32 :=
  zcl (f_X4_base h v1) fun x101 h102 =>
  f_X4_heightOf_b10 zFU h102 a0 x101 (0 : Int32) (0 : Int32)
set_option maxHeartbeats 4000000 in
set_option maxRecDepth 100000 in
theorem m_X4_heightOf_b55 {p : Program} {l : Launch} {e : Env} {s : State} {m : MethodId} {args : Array Value} {below : List Frame} {meth : Method} {c : Code} {D : va_G} {dA : Nat → ClassId} {b0 : Nat} {gs : Nat → Option Nat} (hc : zC D dA b0 gs yX4_heightOf.cls cX4_heightOf 5 p c s m args meth) (hr : meth.sig.returnType = (some .int)) (hin : meth.name = yX4_heightOf.name) {r : Int32} {hh : PH} {mc ms : Nat} (k10 : PH → Nat → Int32 → Int32 → Int32 → ZR Int32) (hk10 : ∀ (h : PH) (a0 : Nat) (v2 : Int32) (v3 : Int32) (v4 : Int32) (C9 S9 : Nat) (H : Heap) (locs : List Loc) (cells slots : Nat), k10 h a0 v2 v3 v4 = some (r, hh, C9, S9) → cells + C9 = mc ∧ slots + S9 = ms → zM D dA b0 gs s h H locs → ∀ ls : Array Slot, lv_has ls 5 [(0, .ref a0), (2, .int v2), (3, .int v3), (4, .int v4)] → W p l e ({ frames := 2, cells := mc, slots := ms, locals := 80 } : Room) s m args below meth c H locs cells slots (MQ below (zQ D dA b0 gs (evI r) hh) args s mc ms (zA b0)) (F0 m 10 ls [])) : ∀ (h : PH) (a0 : Nat) (v2 : Int32) (v4 : Int32) (s0 : Int32) (C9 S9 : Nat) (H : Heap) (locs : List Loc) (cells slots : Nat), f_X4_heightOf_b55 k10 h a0 v2 v4 s0 = some (r, hh, C9, S9) → cells + C9 = mc ∧ slots + S9 = ms → zM D dA b0 gs s h H locs → ∀ ls : Array Slot, lv_has ls 5 [(0, .ref a0), (2, .int v2), (4, .int v4)] → W p l e ({ frames := 2, cells := mc, slots := ms, locals := 80 } : Room) s m args below meth c H locs cells slots (MQ below (zQ D dA b0 gs (evI r) hh) args s mc ms (zA b0)) (F0 m 55 ls [.int s0]) := by
  have hx := hc.x
  have hb := hc.b
  intro h a0 v2 v4 s0 C9 S9 H locs cells slots hf hq hn ls hl
  unfold f_X4_heightOf_b55 at hf
  refine lv_istore_n (i := 3) (lv' := [(3, .int s0), (0, .ref a0), (2, .int v2), (4, .int v4)]) hx hb dX4_heightOf_55 rfl hl (by decide) rfl (fun ls hl => ?_)
  obtain ⟨x101, ex101, hf⟩ := znm_i hf
  refine lv_iinc (v := x101) (lv' := [(4, .int x101), (3, .int s0), (0, .ref a0), (2, .int v2)]) hx hb dX4_heightOf_56 hl (k := 3) rfl (by rw [ex101]; rfl) (by decide) rfl (fun ls hl => ?_)
  refine lv_goto (tgt := 10) hx hb dX4_heightOf_59 (by decide) ?_
  exact hk10 h a0 v2 s0 x101 _ _ _ _ _ _ hf hq hn _ (lv_sub hl [2, 3, 1, 0] rfl)
set_option maxHeartbeats 4000000 in
set_option maxRecDepth 100000 in
theorem m_X4_heightOf_b10 {p : Program} {l : Launch} {e : Env} {s : State} {m : MethodId} {args : Array Value} {below : List Frame} {meth : Method} {c : Code} {D : va_G} {dA : Nat → ClassId} {b0 : Nat} {gs : Nat → Option Nat} (hc : zC D dA b0 gs yX4_heightOf.cls cX4_heightOf 5 p c s m args meth) (hr : meth.sig.returnType = (some .int)) (hin : meth.name = yX4_heightOf.name) {r : Int32} {hh : PH} {mc ms : Nat} : ∀ (n : Nat) (h : PH) (a0 : Nat) (v2 : Int32) (v3 : Int32) (v4 : Int32) (C9 S9 : Nat) (H : Heap) (locs : List Loc) (cells slots : Nat), f_X4_heightOf_b10 n h a0 v2 v3 v4 = some (r, hh, C9, S9) → cells + C9 = mc ∧ slots + S9 = ms → zM D dA b0 gs s h H locs → ∀ ls : Array Slot, lv_has ls 5 [(0, .ref a0), (2, .int v2), (3, .int v3), (4, .int v4)] → W p l e ({ frames := 2, cells := mc, slots := ms, locals := 80 } : Room) s m args below meth c H locs cells slots (MQ below (zQ D dA b0 gs (evI r) hh) args s mc ms (zA b0)) (F0 m 10 ls []) := by
  have hx := hc.x
  have hb := hc.b
  intro n
  induction n with
  | zero =>
    intro h a0 v2 v3 v4 C9 S9 H locs cells slots hf hq hn ls hl
    cases hf
  | succ n ih =>
    intro h a0 v2 v3 v4 C9 S9 H locs cells slots hf hq hn ls hl
    unfold f_X4_heightOf_b10 at hf
    refine lv_iload hx hb dX4_heightOf_10 (lv_at hl 3 rfl) ?_
    refine lv_aload_n (x := a0) hx hb dX4_heightOf_12 rfl (lv_at hl 0 rfl) ?_
    refine zr_gP hc hn (ci := 3) rfl rfl in_X4 1 (by decide) q2100 (fun _ h => h) (fun _ _ _ => rfl) hf dX4_heightOf_13 (fun x101 hf => ?_)
    refine lv_iload_n hx hb dX4_heightOf_16 rfl (lv_at hl 1 rfl) ?_
    refine lv_iconst (v := (1 : Int32)) hx hb dX4_heightOf_17 (by decide) ?_
    refine lv_iadd hx hb dX4_heightOf_18 ?_
    refine zr_nmI hf (fun x102 hf => ?_)
    obtain ⟨a103, e9, hf9⟩ := znn_i hf
    subst e9
    have hf := hf9
    clear hf9
    refine zr_aI0 hc hn hf dX4_heightOf_19 (fun x104 hf => ?_)
    refine lv_icmp_ge (tgt := 62) hx hb dX4_heightOf_20 (by decide) (fun c9 => ?_) (fun c9 => ?_)
    · have hf := zif_t c9 hf
      refine lv_iload_n hx hb dX4_heightOf_62 rfl (lv_at hl 2 rfl) ?_
      obtain ⟨rfl, rfl, rfl, rfl⟩ := zret_i hf
      exact zr_iret hc hn hr hq (fun _ _ _ _ q => q) dX4_heightOf_63
    · have hf := zif_f c9 hf
      refine lv_aload_n (x := a0) hx hb dX4_heightOf_23 rfl (lv_at hl 0 rfl) ?_
      refine zr_gP hc hn (ci := 3) rfl rfl in_X4 1 (by decide) q2100 (fun _ h => h) (fun _ _ _ => rfl) hf dX4_heightOf_24 (fun x105 hf => ?_)
      refine lv_iload_n hx hb dX4_heightOf_27 rfl (lv_at hl 1 rfl) ?_
      refine lv_bipush (v := (122 : Int32)) hx hb dX4_heightOf_28 (by decide) ?_
      refine lv_iadd hx hb dX4_heightOf_30 ?_
      refine zr_nmI hf (fun x106 hf => ?_)
      refine lv_iload hx hb dX4_heightOf_31 (lv_at hl 3 rfl) ?_
      refine lv_iadd hx hb dX4_heightOf_33 ?_
      refine zr_nmI hf (fun x107 hf => ?_)
      obtain ⟨a108, e9, hf9⟩ := znn_i hf
      subst e9
      have hf := hf9
      clear hf9
      refine zr_aI0 hc hn hf dX4_heightOf_34 (fun x109 hf => ?_)
      refine lv_iload_n hx hb dX4_heightOf_35 rfl (lv_at hl 2 rfl) ?_
      refine lv_icmp_le (tgt := 54) hx hb dX4_heightOf_36 (by decide) (fun c9 => ?_) (fun c9 => ?_)
      · have hf := zif_t c9 hf
        refine lv_iload_n hx hb dX4_heightOf_54 rfl (lv_at hl 2 rfl) ?_
        exact m_X4_heightOf_b55 hc hr hin (f_X4_heightOf_b10 n) ih h a0 v2 v4 v3 _ _ _ _ _ _ hf hq hn _ (lv_sub hl [0, 1, 3] rfl)
      · have hf := zif_f c9 hf
        refine lv_aload_n (x := a0) hx hb dX4_heightOf_39 rfl (lv_at hl 0 rfl) ?_
        refine zr_gP hc hn (ci := 3) rfl rfl in_X4 1 (by decide) q2100 (fun _ h => h) (fun _ _ _ => rfl) hf dX4_heightOf_40 (fun x110 hf => ?_)
        refine lv_iload_n hx hb dX4_heightOf_43 rfl (lv_at hl 1 rfl) ?_
        refine lv_bipush (v := (122 : Int32)) hx hb dX4_heightOf_44 (by decide) ?_
        refine lv_iadd hx hb dX4_heightOf_46 ?_
        refine zr_nmI hf (fun x111 hf => ?_)
        refine lv_iload hx hb dX4_heightOf_47 (lv_at hl 3 rfl) ?_
        refine lv_iadd hx hb dX4_heightOf_49 ?_
        refine zr_nmI hf (fun x112 hf => ?_)
        obtain ⟨a113, e9, hf9⟩ := znn_i hf
        subst e9
        have hf := hf9
        clear hf9
        refine zr_aI0 hc hn hf dX4_heightOf_50 (fun x114 hf => ?_)
        refine lv_goto (tgt := 55) hx hb dX4_heightOf_51 (by decide) ?_
        exact m_X4_heightOf_b55 hc hr hin (f_X4_heightOf_b10 n) ih h a0 v2 v4 x114 _ _ _ _ _ _ hf hq hn _ (lv_sub hl [0, 1, 3] rfl)
set_option maxHeartbeats 4000000 in
set_option maxRecDepth 100000 in
theorem m_X4_heightOf (l : Launch) (D : va_G) (dA : Nat → ClassId) (b0 : Nat) (gs : Nat → Option Nat) (h : PH) (a0 : Nat) (v1 : Int32) {r : Int32} {hh : PH} {mc ms : Nat} (hf : f_X4_heightOf h a0 v1 = some (r, hh, mc, ms)) : zMt l D dA b0 gs yX4_heightOf cX4_heightOf 5 (some .int) 2 80 [.ref a0, .int v1] h (evI r) hh mc ms := by
  unfold f_X4_heightOf at hf
  refine zMt.of (by decide) (Nat.le_of_ble_eq_true rfl) ?_
  intro p e s m args below meth c hc hr hin hn ls hl
  have hl : lv_has ls 5 [(0, .ref a0), (1, .int v1)] := hl
  have hq : 0 + mc = mc ∧ 0 + ms = ms := ⟨Nat.zero_add _, Nat.zero_add _⟩
  have hx := hc.x
  have hb := hc.b
  refine lv_iload_n hx hb dX4_heightOf_0 rfl (lv_at hl 1 rfl) ?_
  refine zr_cSI (As := [.int v1]) (rest := []) hc hn hq hd_X4_base (lw_S q2284 q2285 q91 q2286) (Nat.le_of_ble_eq_true rfl) (Nat.le_of_ble_eq_true rfl) (fun _ _ _ _ q => m_X4_base l D dA b0 gs h v1 q) hf dX4_heightOf_1 hl.1 rfl rfl (zroom (Nat.le_of_ble_eq_true rfl)) (fun x101 h102 H locs cells slots C9 S9 hf hq hn => ?_)
  refine lv_istore_n (i := 2) (lv' := [(2, .int x101), (0, .ref a0), (1, .int v1)]) hx hb dX4_heightOf_4 rfl hl (by decide) rfl (fun ls hl => ?_)
  refine lv_iconst (v := (0 : Int32)) hx hb dX4_heightOf_5 (by decide) ?_
  refine lv_istore_n (i := 3) (lv' := [(3, .int (0 : Int32)), (2, .int x101), (0, .ref a0), (1, .int v1)]) hx hb dX4_heightOf_6 rfl hl (by decide) rfl (fun ls hl => ?_)
  refine lv_iconst (v := (0 : Int32)) hx hb dX4_heightOf_7 (by decide) ?_
  refine lv_istore (lv' := [(4, .int (0 : Int32)), (3, .int (0 : Int32)), (2, .int x101), (0, .ref a0), (1, .int v1)]) hx hb dX4_heightOf_8 hl (by decide) rfl (fun ls hl => ?_)
  exact m_X4_heightOf_b10 hc hr hin zFU h102 a0 x101 (0 : Int32) (0 : Int32) _ _ _ _ _ _ hf hq hn _ (lv_sub hl [3, 2, 1, 0] rfl)
theorem hd_X4_after : yX4_after.cls ≠ "java/lang/invoke/MethodHandle" ∧ yX4_after.cls ≠ "java/lang/invoke/VarHandle" ∧ (parseMethodDescriptor yX4_after.desc).map (fun d => d.parameters.length) = some 3 := by decide +kernel
def f_X4_after_b11 : Nat → PH → Nat → Int32 → Int32 → Int32 → ZR Int32
  | 0 => fun _ _ _ _ _ => none
  | n + 1 => fun h a0 v2 v4 v5 =>
    zgP h a0 3 1 fun x101 =>
    znm (v4 + (1 : Int32)) fun x102 =>
    znn x101 fun a103 =>
    zaI h a103 0 x102 fun x104 =>
    if x104 ≤ v5 then
      (zret v5 h)
    else
      (zgP h a0 3 1 fun x105 =>
      znm (v4 + (122 : Int32)) fun x106 =>
      znm (x106 + v5) fun x107 =>
      znn x105 fun a108 =>
      zaI h a108 0 x107 fun x109 =>
      if v2 ≤ x109 then
        (zret v5 h)
      else
        (znm (v5 + (1 : Int32)) fun x110 =>
        f_X4_after_b11 n h a0 v2 v4 x110))
def f_X4_after (h : PH) (a0 : Nat) (v1 : Int32) (v2 : Int32) (v3 : Int32) : ZR Int32 :=
  zcl (f_X4_base h v1) fun x101 h102 =>
  znm (v3 + (1 : Int32)) fun x103 =>
  f_X4_after_b11 zFU h102 a0 v2 x101 x103
set_option maxHeartbeats 4000000 in
set_option maxRecDepth 100000 in
theorem m_X4_after_b11 {p : Program} {l : Launch} {e : Env} {s : State} {m : MethodId} {args : Array Value} {below : List Frame} {meth : Method} {c : Code} {D : va_G} {dA : Nat → ClassId} {b0 : Nat} {gs : Nat → Option Nat} (hc : zC D dA b0 gs yX4_after.cls cX4_after 6 p c s m args meth) (hr : meth.sig.returnType = (some .int)) (hin : meth.name = yX4_after.name) {r : Int32} {hh : PH} {mc ms : Nat} : ∀ (n : Nat) (h : PH) (a0 : Nat) (v2 : Int32) (v4 : Int32) (v5 : Int32) (C9 S9 : Nat) (H : Heap) (locs : List Loc) (cells slots : Nat), f_X4_after_b11 n h a0 v2 v4 v5 = some (r, hh, C9, S9) → cells + C9 = mc ∧ slots + S9 = ms → zM D dA b0 gs s h H locs → ∀ ls : Array Slot, lv_has ls 6 [(0, .ref a0), (2, .int v2), (4, .int v4), (5, .int v5)] → W p l e ({ frames := 2, cells := mc, slots := ms, locals := 80 } : Room) s m args below meth c H locs cells slots (MQ below (zQ D dA b0 gs (evI r) hh) args s mc ms (zA b0)) (F0 m 11 ls []) := by
  have hx := hc.x
  have hb := hc.b
  intro n
  induction n with
  | zero =>
    intro h a0 v2 v4 v5 C9 S9 H locs cells slots hf hq hn ls hl
    cases hf
  | succ n ih =>
    intro h a0 v2 v4 v5 C9 S9 H locs cells slots hf hq hn ls hl
    unfold f_X4_after_b11 at hf
    refine lv_iload hx hb dX4_after_11 (lv_at hl 3 rfl) ?_
    refine lv_aload_n (x := a0) hx hb dX4_after_13 rfl (lv_at hl 0 rfl) ?_
    refine zr_gP hc hn (ci := 3) rfl rfl in_X4 1 (by decide) q2100 (fun _ h => h) (fun _ _ _ => rfl) hf dX4_after_14 (fun x101 hf => ?_)
    refine lv_iload hx hb dX4_after_17 (lv_at hl 2 rfl) ?_
    refine lv_iconst (v := (1 : Int32)) hx hb dX4_after_19 (by decide) ?_
    refine lv_iadd hx hb dX4_after_20 ?_
    refine zr_nmI hf (fun x102 hf => ?_)
    obtain ⟨a103, e9, hf9⟩ := znn_i hf
    subst e9
    have hf := hf9
    clear hf9
    refine zr_aI0 hc hn hf dX4_after_21 (fun x104 hf => ?_)
    refine lv_icmp_ge (tgt := 48) hx hb dX4_after_22 (by decide) (fun c9 => ?_) (fun c9 => ?_)
    · have hf := zif_t c9 hf
      refine lv_iload hx hb dX4_after_48 (lv_at hl 3 rfl) ?_
      obtain ⟨rfl, rfl, rfl, rfl⟩ := zret_i hf
      exact zr_iret hc hn hr hq (fun _ _ _ _ q => q) dX4_after_50
    · have hf := zif_f c9 hf
      refine lv_aload_n (x := a0) hx hb dX4_after_25 rfl (lv_at hl 0 rfl) ?_
      refine zr_gP hc hn (ci := 3) rfl rfl in_X4 1 (by decide) q2100 (fun _ h => h) (fun _ _ _ => rfl) hf dX4_after_26 (fun x105 hf => ?_)
      refine lv_iload hx hb dX4_after_29 (lv_at hl 2 rfl) ?_
      refine lv_bipush (v := (122 : Int32)) hx hb dX4_after_31 (by decide) ?_
      refine lv_iadd hx hb dX4_after_33 ?_
      refine zr_nmI hf (fun x106 hf => ?_)
      refine lv_iload hx hb dX4_after_34 (lv_at hl 3 rfl) ?_
      refine lv_iadd hx hb dX4_after_36 ?_
      refine zr_nmI hf (fun x107 hf => ?_)
      obtain ⟨a108, e9, hf9⟩ := znn_i hf
      subst e9
      have hf := hf9
      clear hf9
      refine zr_aI0 hc hn hf dX4_after_37 (fun x109 hf => ?_)
      refine lv_iload_n hx hb dX4_after_38 rfl (lv_at hl 1 rfl) ?_
      refine lv_icmp_ge (tgt := 48) hx hb dX4_after_39 (by decide) (fun c9 => ?_) (fun c9 => ?_)
      · have hf := zif_t c9 hf
        refine lv_iload hx hb dX4_after_48 (lv_at hl 3 rfl) ?_
        obtain ⟨rfl, rfl, rfl, rfl⟩ := zret_i hf
        exact zr_iret hc hn hr hq (fun _ _ _ _ q => q) dX4_after_50
      · have hf := zif_f c9 hf
        obtain ⟨x110, ex110, hf⟩ := znm_i hf
        refine lv_iinc (v := x110) (lv' := [(5, .int x110), (0, .ref a0), (2, .int v2), (4, .int v4)]) hx hb dX4_after_42 hl (k := 3) rfl (by rw [ex110]; rfl) (by decide) rfl (fun ls hl => ?_)
        refine lv_goto (tgt := 11) hx hb dX4_after_45 (by decide) ?_
        exact ih h a0 v2 v4 x110 _ _ _ _ _ _ hf hq hn _ (lv_sub hl [1, 2, 3, 0] rfl)
set_option maxHeartbeats 4000000 in
set_option maxRecDepth 100000 in
theorem m_X4_after (l : Launch) (D : va_G) (dA : Nat → ClassId) (b0 : Nat) (gs : Nat → Option Nat) (h : PH) (a0 : Nat) (v1 : Int32) (v2 : Int32) (v3 : Int32) {r : Int32} {hh : PH} {mc ms : Nat} (hf : f_X4_after h a0 v1 v2 v3 = some (r, hh, mc, ms)) : zMt l D dA b0 gs yX4_after cX4_after 6 (some .int) 2 80 [.ref a0, .int v1, .int v2, .int v3] h (evI r) hh mc ms := by
  unfold f_X4_after at hf
  refine zMt.of (by decide) (Nat.le_of_ble_eq_true rfl) ?_
  intro p e s m args below meth c hc hr hin hn ls hl
  have hl : lv_has ls 6 [(0, .ref a0), (1, .int v1), (2, .int v2), (3, .int v3)] := hl
  have hq : 0 + mc = mc ∧ 0 + ms = ms := ⟨Nat.zero_add _, Nat.zero_add _⟩
  have hx := hc.x
  have hb := hc.b
  refine lv_iload_n hx hb dX4_after_0 rfl (lv_at hl 1 rfl) ?_
  refine zr_cSI (As := [.int v1]) (rest := []) hc hn hq hd_X4_base (lw_S q2284 q2285 q91 q2286) (Nat.le_of_ble_eq_true rfl) (Nat.le_of_ble_eq_true rfl) (fun _ _ _ _ q => m_X4_base l D dA b0 gs h v1 q) hf dX4_after_1 hl.1 rfl rfl (zroom (Nat.le_of_ble_eq_true rfl)) (fun x101 h102 H locs cells slots C9 S9 hf hq hn => ?_)
  refine lv_istore (lv' := [(4, .int x101), (0, .ref a0), (1, .int v1), (2, .int v2), (3, .int v3)]) hx hb dX4_after_4 hl (by decide) rfl (fun ls hl => ?_)
  refine lv_iload_n hx hb dX4_after_6 rfl (lv_at hl 4 rfl) ?_
  refine lv_iconst (v := (1 : Int32)) hx hb dX4_after_7 (by decide) ?_
  refine lv_iadd hx hb dX4_after_8 ?_
  refine zr_nmI hf (fun x103 hf => ?_)
  refine lv_istore (lv' := [(5, .int x103), (4, .int x101), (0, .ref a0), (1, .int v1), (2, .int v2), (3, .int v3)]) hx hb dX4_after_9 hl (by decide) rfl (fun ls hl => ?_)
  exact m_X4_after_b11 hc hr hin zFU h102 a0 v2 x101 x103 _ _ _ _ _ _ hf hq hn _ (lv_sub hl [2, 4, 1, 0] rfl)
theorem hd_X4_between : yX4_between.cls ≠ "java/lang/invoke/MethodHandle" ∧ yX4_between.cls ≠ "java/lang/invoke/VarHandle" ∧ (parseMethodDescriptor yX4_between.desc).map (fun d => d.parameters.length) = some 4 := by decide +kernel
def f_X4_between_b45 (k14 : PH → Nat → Int32 → Int32 → Int32 → Int32 → Int32 → ZR Int32) (h : PH) (a0 : Nat) (v2 : Int32) (v4 : Int32) (v5 : Int32) (v7 : Int32) (s0 : Int32) (s1 : Int32) : ZR Int32 :=
  znm (s0 + s1) fun x101 =>
  znm (v7 + (1 : Int32)) fun x102 =>
  k14 h a0 v2 v4 v5 x101 x102
def f_X4_between_b14 : Nat → PH → Nat → Int32 → Int32 → Int32 → Int32 → Int32 → ZR Int32
  | 0 => fun _ _ _ _ _ _ _ => none
  | n + 1 => fun h a0 v2 v4 v5 v6 v7 =>
    if v4 ≤ v7 then
      (zret v6 h)
    else
      (zgP h a0 3 1 fun x101 =>
      znm (v5 + (122 : Int32)) fun x102 =>
      znm (x102 + v7) fun x103 =>
      znn x101 fun a104 =>
      zaI h a104 0 x103 fun x105 =>
      if x105 = v2 then
        (f_X4_between_b45 (f_X4_between_b14 n) h a0 v2 v4 v5 v7 v6 (1 : Int32))
      else
        (f_X4_between_b45 (f_X4_between_b14 n) h a0 v2 v4 v5 v7 v6 (0 : Int32)))
def f_X4_between (h : PH) (a0 : Nat) (v1 : Int32) (v2 : Int32) (v3 : Int32) (v4 : Int32) : ZR Int32 :=
  zcl (f_X4_base h v1) fun x101 h102 =>
  znm (v3 + (1 : Int32)) fun x103 =>
  f_X4_between_b14 zFU h102 a0 v2 v4 x101 (0 : Int32) x103
set_option maxHeartbeats 4000000 in
set_option maxRecDepth 100000 in
theorem m_X4_between_b45 {p : Program} {l : Launch} {e : Env} {s : State} {m : MethodId} {args : Array Value} {below : List Frame} {meth : Method} {c : Code} {D : va_G} {dA : Nat → ClassId} {b0 : Nat} {gs : Nat → Option Nat} (hc : zC D dA b0 gs yX4_between.cls cX4_between 8 p c s m args meth) (hr : meth.sig.returnType = (some .int)) (hin : meth.name = yX4_between.name) {r : Int32} {hh : PH} {mc ms : Nat} (k14 : PH → Nat → Int32 → Int32 → Int32 → Int32 → Int32 → ZR Int32) (hk14 : ∀ (h : PH) (a0 : Nat) (v2 : Int32) (v4 : Int32) (v5 : Int32) (v6 : Int32) (v7 : Int32) (C9 S9 : Nat) (H : Heap) (locs : List Loc) (cells slots : Nat), k14 h a0 v2 v4 v5 v6 v7 = some (r, hh, C9, S9) → cells + C9 = mc ∧ slots + S9 = ms → zM D dA b0 gs s h H locs → ∀ ls : Array Slot, lv_has ls 8 [(0, .ref a0), (2, .int v2), (4, .int v4), (5, .int v5), (6, .int v6), (7, .int v7)] → W p l e ({ frames := 2, cells := mc, slots := ms, locals := 80 } : Room) s m args below meth c H locs cells slots (MQ below (zQ D dA b0 gs (evI r) hh) args s mc ms (zA b0)) (F0 m 14 ls [])) : ∀ (h : PH) (a0 : Nat) (v2 : Int32) (v4 : Int32) (v5 : Int32) (v7 : Int32) (s0 : Int32) (s1 : Int32) (C9 S9 : Nat) (H : Heap) (locs : List Loc) (cells slots : Nat), f_X4_between_b45 k14 h a0 v2 v4 v5 v7 s0 s1 = some (r, hh, C9, S9) → cells + C9 = mc ∧ slots + S9 = ms → zM D dA b0 gs s h H locs → ∀ ls : Array Slot, lv_has ls 8 [(0, .ref a0), (2, .int v2), (4, .int v4), (5, .int v5), (7, .int v7)] → W p l e ({ frames := 2, cells := mc, slots := ms, locals := 80 } : Room) s m args below meth c H locs cells slots (MQ below (zQ D dA b0 gs (evI r) hh) args s mc ms (zA b0)) (F0 m 45 ls [.int s1, .int s0]) := by
  have hx := hc.x
  have hb := hc.b
  intro h a0 v2 v4 v5 v7 s0 s1 C9 S9 H locs cells slots hf hq hn ls hl
  unfold f_X4_between_b45 at hf
  refine lv_iadd hx hb dX4_between_45 ?_
  refine zr_nmI hf (fun x101 hf => ?_)
  refine lv_istore (lv' := [(6, .int x101), (0, .ref a0), (2, .int v2), (4, .int v4), (5, .int v5), (7, .int v7)]) hx hb dX4_between_46 hl (by decide) rfl (fun ls hl => ?_)
  obtain ⟨x102, ex102, hf⟩ := znm_i hf
  refine lv_iinc (v := x102) (lv' := [(7, .int x102), (6, .int x101), (0, .ref a0), (2, .int v2), (4, .int v4), (5, .int v5)]) hx hb dX4_between_48 hl (k := 5) rfl (by rw [ex102]; rfl) (by decide) rfl (fun ls hl => ?_)
  refine lv_goto (tgt := 14) hx hb dX4_between_51 (by decide) ?_
  exact hk14 h a0 v2 v4 v5 x101 x102 _ _ _ _ _ _ hf hq hn _ (lv_sub hl [2, 3, 4, 5, 1, 0] rfl)
set_option maxHeartbeats 4000000 in
set_option maxRecDepth 100000 in
theorem m_X4_between_b14 {p : Program} {l : Launch} {e : Env} {s : State} {m : MethodId} {args : Array Value} {below : List Frame} {meth : Method} {c : Code} {D : va_G} {dA : Nat → ClassId} {b0 : Nat} {gs : Nat → Option Nat} (hc : zC D dA b0 gs yX4_between.cls cX4_between 8 p c s m args meth) (hr : meth.sig.returnType = (some .int)) (hin : meth.name = yX4_between.name) {r : Int32} {hh : PH} {mc ms : Nat} : ∀ (n : Nat) (h : PH) (a0 : Nat) (v2 : Int32) (v4 : Int32) (v5 : Int32) (v6 : Int32) (v7 : Int32) (C9 S9 : Nat) (H : Heap) (locs : List Loc) (cells slots : Nat), f_X4_between_b14 n h a0 v2 v4 v5 v6 v7 = some (r, hh, C9, S9) → cells + C9 = mc ∧ slots + S9 = ms → zM D dA b0 gs s h H locs → ∀ ls : Array Slot, lv_has ls 8 [(0, .ref a0), (2, .int v2), (4, .int v4), (5, .int v5), (6, .int v6), (7, .int v7)] → W p l e ({ frames := 2, cells := mc, slots := ms, locals := 80 } : Room) s m args below meth c H locs cells slots (MQ below (zQ D dA b0 gs (evI r) hh) args s mc ms (zA b0)) (F0 m 14 ls []) := by
  have hx := hc.x
  have hb := hc.b
  intro n
  induction n with
  | zero =>
    intro h a0 v2 v4 v5 v6 v7 C9 S9 H locs cells slots hf hq hn ls hl
    cases hf
  | succ n ih =>
    intro h a0 v2 v4 v5 v6 v7 C9 S9 H locs cells slots hf hq hn ls hl
    unfold f_X4_between_b14 at hf
    refine lv_iload hx hb dX4_between_14 (lv_at hl 5 rfl) ?_
    refine lv_iload hx hb dX4_between_16 (lv_at hl 2 rfl) ?_
    refine lv_icmp_ge (tgt := 54) hx hb dX4_between_18 (by decide) (fun c9 => ?_) (fun c9 => ?_)
    · have hf := zif_t c9 hf
      refine lv_iload hx hb dX4_between_54 (lv_at hl 4 rfl) ?_
      obtain ⟨rfl, rfl, rfl, rfl⟩ := zret_i hf
      exact zr_iret hc hn hr hq (fun _ _ _ _ q => q) dX4_between_56
    · have hf := zif_f c9 hf
      refine lv_iload hx hb dX4_between_21 (lv_at hl 4 rfl) ?_
      refine lv_aload_n (x := a0) hx hb dX4_between_23 rfl (lv_at hl 0 rfl) ?_
      refine zr_gP hc hn (ci := 3) rfl rfl in_X4 1 (by decide) q2100 (fun _ h => h) (fun _ _ _ => rfl) hf dX4_between_24 (fun x101 hf => ?_)
      refine lv_iload hx hb dX4_between_27 (lv_at hl 3 rfl) ?_
      refine lv_bipush (v := (122 : Int32)) hx hb dX4_between_29 (by decide) ?_
      refine lv_iadd hx hb dX4_between_31 ?_
      refine zr_nmI hf (fun x102 hf => ?_)
      refine lv_iload hx hb dX4_between_32 (lv_at hl 5 rfl) ?_
      refine lv_iadd hx hb dX4_between_34 ?_
      refine zr_nmI hf (fun x103 hf => ?_)
      obtain ⟨a104, e9, hf9⟩ := znn_i hf
      subst e9
      have hf := hf9
      clear hf9
      refine zr_aI0 hc hn hf dX4_between_35 (fun x105 hf => ?_)
      refine lv_iload_n hx hb dX4_between_36 rfl (lv_at hl 1 rfl) ?_
      refine lv_icmp_ne (tgt := 44) hx hb dX4_between_37 (by decide) (fun c9 => ?_) (fun c9 => ?_)
      · have hf := zif_f c9 hf
        refine lv_iconst (v := (0 : Int32)) hx hb dX4_between_44 (by decide) ?_
        exact m_X4_between_b45 hc hr hin (f_X4_between_b14 n) ih h a0 v2 v4 v5 v7 v6 (0 : Int32) _ _ _ _ _ _ hf hq hn _ (lv_sub hl [0, 1, 2, 3, 5] rfl)
      · have hf := zif_t c9 hf
        refine lv_iconst (v := (1 : Int32)) hx hb dX4_between_40 (by decide) ?_
        refine lv_goto (tgt := 45) hx hb dX4_between_41 (by decide) ?_
        exact m_X4_between_b45 hc hr hin (f_X4_between_b14 n) ih h a0 v2 v4 v5 v7 v6 (1 : Int32) _ _ _ _ _ _ hf hq hn _ (lv_sub hl [0, 1, 2, 3, 5] rfl)
set_option maxHeartbeats 4000000 in
set_option maxRecDepth 100000 in
theorem m_X4_between (l : Launch) (D : va_G) (dA : Nat → ClassId) (b0 : Nat) (gs : Nat → Option Nat) (h : PH) (a0 : Nat) (v1 : Int32) (v2 : Int32) (v3 : Int32) (v4 : Int32) {r : Int32} {hh : PH} {mc ms : Nat} (hf : f_X4_between h a0 v1 v2 v3 v4 = some (r, hh, mc, ms)) : zMt l D dA b0 gs yX4_between cX4_between 8 (some .int) 2 80 [.ref a0, .int v1, .int v2, .int v3, .int v4] h (evI r) hh mc ms := by
  unfold f_X4_between at hf
  refine zMt.of (by decide) (Nat.le_of_ble_eq_true rfl) ?_
  intro p e s m args below meth c hc hr hin hn ls hl
  have hl : lv_has ls 8 [(0, .ref a0), (1, .int v1), (2, .int v2), (3, .int v3), (4, .int v4)] := hl
  have hq : 0 + mc = mc ∧ 0 + ms = ms := ⟨Nat.zero_add _, Nat.zero_add _⟩
  have hx := hc.x
  have hb := hc.b
  refine lv_iload_n hx hb dX4_between_0 rfl (lv_at hl 1 rfl) ?_
  refine zr_cSI (As := [.int v1]) (rest := []) hc hn hq hd_X4_base (lw_S q2284 q2285 q91 q2286) (Nat.le_of_ble_eq_true rfl) (Nat.le_of_ble_eq_true rfl) (fun _ _ _ _ q => m_X4_base l D dA b0 gs h v1 q) hf dX4_between_1 hl.1 rfl rfl (zroom (Nat.le_of_ble_eq_true rfl)) (fun x101 h102 H locs cells slots C9 S9 hf hq hn => ?_)
  refine lv_istore (lv' := [(5, .int x101), (0, .ref a0), (1, .int v1), (2, .int v2), (3, .int v3), (4, .int v4)]) hx hb dX4_between_4 hl (by decide) rfl (fun ls hl => ?_)
  refine lv_iconst (v := (0 : Int32)) hx hb dX4_between_6 (by decide) ?_
  refine lv_istore (lv' := [(6, .int (0 : Int32)), (5, .int x101), (0, .ref a0), (1, .int v1), (2, .int v2), (3, .int v3), (4, .int v4)]) hx hb dX4_between_7 hl (by decide) rfl (fun ls hl => ?_)
  refine lv_iload_n hx hb dX4_between_9 rfl (lv_at hl 5 rfl) ?_
  refine lv_iconst (v := (1 : Int32)) hx hb dX4_between_10 (by decide) ?_
  refine lv_iadd hx hb dX4_between_11 ?_
  refine zr_nmI hf (fun x103 hf => ?_)
  refine lv_istore (lv' := [(7, .int x103), (6, .int (0 : Int32)), (5, .int x101), (0, .ref a0), (1, .int v1), (2, .int v2), (3, .int v3), (4, .int v4)]) hx hb dX4_between_12 hl (by decide) rfl (fun ls hl => ?_)
  exact m_X4_between_b14 hc hr hin zFU h102 a0 v2 v4 x101 (0 : Int32) x103 _ _ _ _ _ _ hf hq hn _ (lv_sub hl [3, 5, 7, 2, 1, 0] rfl)
theorem hd_X4_logs : yX4_logs.cls ≠ "java/lang/invoke/MethodHandle" ∧ yX4_logs.cls ≠ "java/lang/invoke/VarHandle" ∧ (parseMethodDescriptor yX4_logs.desc).map (fun d => d.parameters.length) = some 3 := by decide +kernel
def f_X4_logs (h : PH) (a0 : Nat) (v1 : Int32) (v2 : Int32) (v3 : Int32) : ZR Unit :=
  zgP h a0 3 1 fun x101 =>
  znn x101 fun a102 =>
  zaI h a102 0 (7 : Int32) fun x103 =>
  if (1000 : Int32) ≤ x103 then
    (zgP h a0 3 1 fun x104 =>
    znm ((3 : Int32) + v1) fun x105 =>
    znn x104 fun a106 =>
    zaI h a106 0 x105 fun x107 =>
    znm (x107 + (1 : Int32)) fun x108 =>
    zsI h a106 0 x105 x108 fun h109 =>
    zret () h109)
  else
    (zgP h a0 3 1 fun x110 =>
    znm ((3 : Int32) * x103) fun x111 =>
    znm ((1100 : Int32) + x111) fun x112 =>
    znn x110 fun a113 =>
    zsI h a113 0 x112 v1 fun h114 =>
    zgP h114 a0 3 1 fun x115 =>
    znm ((3 : Int32) * x103) fun x116 =>
    znm ((1100 : Int32) + x116) fun x117 =>
    znm (x117 + (1 : Int32)) fun x118 =>
    znn x115 fun a119 =>
    zsI h114 a119 0 x118 v2 fun h120 =>
    zgP h120 a0 3 1 fun x121 =>
    znm ((3 : Int32) * x103) fun x122 =>
    znm ((1100 : Int32) + x122) fun x123 =>
    znm (x123 + (2 : Int32)) fun x124 =>
    znn x121 fun a125 =>
    zsI h120 a125 0 x124 v3 fun h126 =>
    zgP h126 a0 3 1 fun x127 =>
    znn x127 fun a128 =>
    zaI h126 a128 0 (7 : Int32) fun x129 =>
    znm (x129 + (1 : Int32)) fun x130 =>
    zsI h126 a128 0 (7 : Int32) x130 fun h131 =>
    zgP h131 a0 3 1 fun x132 =>
    znm ((3 : Int32) + v1) fun x133 =>
    znn x132 fun a134 =>
    zaI h131 a134 0 x133 fun x135 =>
    znm (x135 + (1 : Int32)) fun x136 =>
    zsI h131 a134 0 x133 x136 fun h137 =>
    zret () h137)
set_option maxHeartbeats 4000000 in
set_option maxRecDepth 100000 in
theorem m_X4_logs (l : Launch) (D : va_G) (dA : Nat → ClassId) (b0 : Nat) (gs : Nat → Option Nat) (h : PH) (a0 : Nat) (v1 : Int32) (v2 : Int32) (v3 : Int32) {r : Unit} {hh : PH} {mc ms : Nat} (hf : f_X4_logs h a0 v1 v2 v3 = some (r, hh, mc, ms)) : zMt l D dA b0 gs yX4_logs cX4_logs 5 none 1 60 [.ref a0, .int v1, .int v2, .int v3] h (evU r) hh mc ms := by
  unfold f_X4_logs at hf
  refine zMt.of (by decide) (Nat.le_of_ble_eq_true rfl) ?_
  intro p e s m args below meth c hc hr hin hn ls hl
  have hl : lv_has ls 5 [(0, .ref a0), (1, .int v1), (2, .int v2), (3, .int v3)] := hl
  have hq : 0 + mc = mc ∧ 0 + ms = ms := ⟨Nat.zero_add _, Nat.zero_add _⟩
  have hx := hc.x
  have hb := hc.b
  refine lv_aload_n (x := a0) hx hb dX4_logs_0 rfl (lv_at hl 0 rfl) ?_
  refine zr_gP hc hn (ci := 3) rfl rfl in_X4 1 (by decide) q2100 (fun _ h => h) (fun _ _ _ => rfl) hf dX4_logs_1 (fun x101 hf => ?_)
  refine lv_bipush (v := (7 : Int32)) hx hb dX4_logs_4 (by decide) ?_
  obtain ⟨a102, e9, hf9⟩ := znn_i hf
  subst e9
  have hf := hf9
  clear hf9
  refine zr_aI0 hc hn hf dX4_logs_6 (fun x103 hf => ?_)
  refine lv_istore (lv' := [(4, .int x103), (0, .ref a0), (1, .int v1), (2, .int v2), (3, .int v3)]) hx hb dX4_logs_7 hl (by decide) rfl (fun ls hl => ?_)
  refine lv_iload hx hb dX4_logs_9 (lv_at hl 0 rfl) ?_
  refine lv_sipush (v := (1000 : Int32)) hx hb dX4_logs_11 (by decide) ?_
  refine lv_icmp_ge (tgt := 74) hx hb dX4_logs_14 (by decide) (fun c9 => ?_) (fun c9 => ?_)
  · have hf := zif_t c9 hf
    refine lv_aload_n (x := a0) hx hb dX4_logs_74 rfl (lv_at hl 1 rfl) ?_
    refine zr_gP hc hn (ci := 3) rfl rfl in_X4 1 (by decide) q2100 (fun _ h => h) (fun _ _ _ => rfl) hf dX4_logs_75 (fun x104 hf => ?_)
    refine lv_iconst (v := (3 : Int32)) hx hb dX4_logs_78 (by decide) ?_
    refine lv_iload_n hx hb dX4_logs_79 rfl (lv_at hl 2 rfl) ?_
    refine lv_iadd hx hb dX4_logs_80 ?_
    refine zr_nmI hf (fun x105 hf => ?_)
    refine lv_dup2_11 hx hb dX4_logs_81 rfl (zcat_rf _) ?_
    obtain ⟨a106, e9, hf9⟩ := znn_i hf
    subst e9
    have hf := hf9
    clear hf9
    refine zr_aI0 hc hn hf dX4_logs_82 (fun x107 hf => ?_)
    refine lv_iconst (v := (1 : Int32)) hx hb dX4_logs_83 (by decide) ?_
    refine lv_iadd hx hb dX4_logs_84 ?_
    refine zr_nmI hf (fun x108 hf => ?_)
    refine zr_sI hc hn hf dX4_logs_85 (fun h109 H locs hf hn => ?_)
    obtain ⟨rfl, rfl, rfl, rfl⟩ := zret_i hf
    exact zr_vret hc hn hr hq (fun _ _ _ _ q => q) dX4_logs_86
  · have hf := zif_f c9 hf
    refine lv_aload_n (x := a0) hx hb dX4_logs_17 rfl (lv_at hl 1 rfl) ?_
    refine zr_gP hc hn (ci := 3) rfl rfl in_X4 1 (by decide) q2100 (fun _ h => h) (fun _ _ _ => rfl) hf dX4_logs_18 (fun x110 hf => ?_)
    refine lv_sipush (v := (1100 : Int32)) hx hb dX4_logs_21 (by decide) ?_
    refine lv_iconst (v := (3 : Int32)) hx hb dX4_logs_24 (by decide) ?_
    refine lv_iload hx hb dX4_logs_25 (lv_at hl 0 rfl) ?_
    refine lv_imul hx hb dX4_logs_27 ?_
    refine zr_nmI hf (fun x111 hf => ?_)
    refine lv_iadd hx hb dX4_logs_28 ?_
    refine zr_nmI hf (fun x112 hf => ?_)
    refine lv_iload_n hx hb dX4_logs_29 rfl (lv_at hl 2 rfl) ?_
    obtain ⟨a113, e9, hf9⟩ := znn_i hf
    subst e9
    have hf := hf9
    clear hf9
    refine zr_sI hc hn hf dX4_logs_30 (fun h114 H locs hf hn => ?_)
    refine lv_aload_n (x := a0) hx hb dX4_logs_31 rfl (lv_at hl 1 rfl) ?_
    refine zr_gP hc hn (ci := 3) rfl rfl in_X4 1 (by decide) q2100 (fun _ h => h) (fun _ _ _ => rfl) hf dX4_logs_32 (fun x115 hf => ?_)
    refine lv_sipush (v := (1100 : Int32)) hx hb dX4_logs_35 (by decide) ?_
    refine lv_iconst (v := (3 : Int32)) hx hb dX4_logs_38 (by decide) ?_
    refine lv_iload hx hb dX4_logs_39 (lv_at hl 0 rfl) ?_
    refine lv_imul hx hb dX4_logs_41 ?_
    refine zr_nmI hf (fun x116 hf => ?_)
    refine lv_iadd hx hb dX4_logs_42 ?_
    refine zr_nmI hf (fun x117 hf => ?_)
    refine lv_iconst (v := (1 : Int32)) hx hb dX4_logs_43 (by decide) ?_
    refine lv_iadd hx hb dX4_logs_44 ?_
    refine zr_nmI hf (fun x118 hf => ?_)
    refine lv_iload_n hx hb dX4_logs_45 rfl (lv_at hl 3 rfl) ?_
    obtain ⟨a119, e9, hf9⟩ := znn_i hf
    subst e9
    have hf := hf9
    clear hf9
    refine zr_sI hc hn hf dX4_logs_46 (fun h120 H locs hf hn => ?_)
    refine lv_aload_n (x := a0) hx hb dX4_logs_47 rfl (lv_at hl 1 rfl) ?_
    refine zr_gP hc hn (ci := 3) rfl rfl in_X4 1 (by decide) q2100 (fun _ h => h) (fun _ _ _ => rfl) hf dX4_logs_48 (fun x121 hf => ?_)
    refine lv_sipush (v := (1100 : Int32)) hx hb dX4_logs_51 (by decide) ?_
    refine lv_iconst (v := (3 : Int32)) hx hb dX4_logs_54 (by decide) ?_
    refine lv_iload hx hb dX4_logs_55 (lv_at hl 0 rfl) ?_
    refine lv_imul hx hb dX4_logs_57 ?_
    refine zr_nmI hf (fun x122 hf => ?_)
    refine lv_iadd hx hb dX4_logs_58 ?_
    refine zr_nmI hf (fun x123 hf => ?_)
    refine lv_iconst (v := (2 : Int32)) hx hb dX4_logs_59 (by decide) ?_
    refine lv_iadd hx hb dX4_logs_60 ?_
    refine zr_nmI hf (fun x124 hf => ?_)
    refine lv_iload_n hx hb dX4_logs_61 rfl (lv_at hl 4 rfl) ?_
    obtain ⟨a125, e9, hf9⟩ := znn_i hf
    subst e9
    have hf := hf9
    clear hf9
    refine zr_sI hc hn hf dX4_logs_62 (fun h126 H locs hf hn => ?_)
    refine lv_aload_n (x := a0) hx hb dX4_logs_63 rfl (lv_at hl 1 rfl) ?_
    refine zr_gP hc hn (ci := 3) rfl rfl in_X4 1 (by decide) q2100 (fun _ h => h) (fun _ _ _ => rfl) hf dX4_logs_64 (fun x127 hf => ?_)
    refine lv_bipush (v := (7 : Int32)) hx hb dX4_logs_67 (by decide) ?_
    refine lv_dup2_11 hx hb dX4_logs_69 rfl (zcat_rf _) ?_
    obtain ⟨a128, e9, hf9⟩ := znn_i hf
    subst e9
    have hf := hf9
    clear hf9
    refine zr_aI0 hc hn hf dX4_logs_70 (fun x129 hf => ?_)
    refine lv_iconst (v := (1 : Int32)) hx hb dX4_logs_71 (by decide) ?_
    refine lv_iadd hx hb dX4_logs_72 ?_
    refine zr_nmI hf (fun x130 hf => ?_)
    refine zr_sI hc hn hf dX4_logs_73 (fun h131 H locs hf hn => ?_)
    refine lv_aload_n (x := a0) hx hb dX4_logs_74 rfl (lv_at hl 1 rfl) ?_
    refine zr_gP hc hn (ci := 3) rfl rfl in_X4 1 (by decide) q2100 (fun _ h => h) (fun _ _ _ => rfl) hf dX4_logs_75 (fun x132 hf => ?_)
    refine lv_iconst (v := (3 : Int32)) hx hb dX4_logs_78 (by decide) ?_
    refine lv_iload_n hx hb dX4_logs_79 rfl (lv_at hl 2 rfl) ?_
    refine lv_iadd hx hb dX4_logs_80 ?_
    refine zr_nmI hf (fun x133 hf => ?_)
    refine lv_dup2_11 hx hb dX4_logs_81 rfl (zcat_rf _) ?_
    obtain ⟨a134, e9, hf9⟩ := znn_i hf
    subst e9
    have hf := hf9
    clear hf9
    refine zr_aI0 hc hn hf dX4_logs_82 (fun x135 hf => ?_)
    refine lv_iconst (v := (1 : Int32)) hx hb dX4_logs_83 (by decide) ?_
    refine lv_iadd hx hb dX4_logs_84 ?_
    refine zr_nmI hf (fun x136 hf => ?_)
    refine zr_sI hc hn hf dX4_logs_85 (fun h137 H locs hf hn => ?_)
    obtain ⟨rfl, rfl, rfl, rfl⟩ := zret_i hf
    exact zr_vret hc hn hr hq (fun _ _ _ _ q => q) dX4_logs_86
theorem hd_X4_divides : yX4_divides.cls ≠ "java/lang/invoke/MethodHandle" ∧ yX4_divides.cls ≠ "java/lang/invoke/VarHandle" ∧ (parseMethodDescriptor yX4_divides.desc).map (fun d => d.parameters.length) = some 1 := by decide +kernel
def f_X4_divides_b90 : Nat → PH → Nat → Int32 → Int32 → Int32 → Int32 → Int32 → ZR Int32
  | 0 => fun _ _ _ _ _ _ _ => none
  | n + 1 => fun h a0 v1 v2 v4 v8 v9 =>
    if v8 ≤ 0 then
      (zgP h a0 3 1 fun x101 =>
      znm (v2 + (122 : Int32)) fun x102 =>
      znm (x102 + v9) fun x103 =>
      znn x101 fun a104 =>
      zaI h a104 0 x103 fun x105 =>
      znm (x105 + (1 : Int32)) fun x106 =>
      zsI h a104 0 x103 x106 fun h107 =>
      zgP h107 a0 3 1 fun x108 =>
      znm (v2 + (2 : Int32)) fun x109 =>
      znm (x109 + v9) fun x110 =>
      znn x108 fun a111 =>
      zaI h107 a111 0 x110 fun x112 =>
      zrc h107 a0 3 <| zcl (f_X4_logs h107 a0 (0 : Int32) v4 x112) fun _ h114 =>
      zret (1 : Int32) h114)
    else
      (zrc h a0 3 <| zcl (f_X4_after h a0 v1 v4 v9) fun x115 h116 =>
      znm (v8 + (-1 : Int32)) fun x117 =>
      f_X4_divides_b90 n h116 a0 v1 v2 v4 x117 x115)
def f_X4_divides_b23 (k14 : PH → Nat → Int32 → Int32 → Int32 → Int32 → ZR Int32) : Nat → PH → Nat → Int32 → Int32 → Int32 → Int32 → Int32 → ZR Int32
  | 0 => fun _ _ _ _ _ _ _ => none
  | n + 1 => fun h a0 v1 v2 v3 v4 v5 =>
    zgP h a0 3 1 fun x101 =>
    znm (v2 + (1 : Int32)) fun x102 =>
    znn x101 fun a103 =>
    zaI h a103 0 x102 fun x104 =>
    if x104 ≤ v5 then
      (znm (v4 + (1 : Int32)) fun x105 =>
      k14 h a0 v1 v2 v3 x105)
    else
      (znm (v4 + (1 : Int32)) fun x106 =>
      zrc h a0 3 <| zcl (f_X4_after h a0 v1 x106 v5) fun x107 h108 =>
      zrc h108 a0 3 <| zcl (f_X4_between h108 a0 v1 v4 v5 x107) fun x109 h110 =>
      zgP h110 a0 3 1 fun x111 =>
      znn x111 fun a112 =>
      zaI h110 a112 0 (0 : Int32) fun x113 =>
      if x109 ≤ x113 then
        (f_X4_divides_b23 k14 n h110 a0 v1 v2 v3 v4 x107)
      else
        (zgd (¬ (2 : Int32) = 0) <|
        znm (x109 / (2 : Int32)) fun x114 =>
        zrc h110 a0 3 <| zcl (f_X4_after h110 a0 v1 v4 v5) fun x115 h116 =>
        f_X4_divides_b90 zFU h116 a0 v1 v2 v4 x114 x115))
def f_X4_divides_b14 : Nat → PH → Nat → Int32 → Int32 → Int32 → Int32 → ZR Int32
  | 0 => fun _ _ _ _ _ _ => none
  | n + 1 => fun h a0 v1 v2 v3 v4 =>
    if v3 < v4 then
      (zret (0 : Int32) h)
    else
      (f_X4_divides_b23 (f_X4_divides_b14 n) zFU h a0 v1 v2 v3 v4 (-1 : Int32))
def f_X4_divides (h : PH) (a0 : Nat) (v1 : Int32) : ZR Int32 :=
  zcl (f_X4_base h v1) fun x101 h102 =>
  zrc h102 a0 3 <| zcl (f_X4_heightOf h102 a0 v1) fun x103 h104 =>
  f_X4_divides_b14 zFU h104 a0 v1 x101 x103 (1 : Int32)
set_option maxHeartbeats 4000000 in
set_option maxRecDepth 100000 in
theorem m_X4_divides_b90 {p : Program} {l : Launch} {e : Env} {s : State} {m : MethodId} {args : Array Value} {below : List Frame} {meth : Method} {c : Code} {D : va_G} {dA : Nat → ClassId} {b0 : Nat} {gs : Nat → Option Nat} (hc : zC D dA b0 gs yX4_divides.cls cX4_divides 10 p c s m args meth) (hr : meth.sig.returnType = (some .boolean)) (hin : meth.name = yX4_divides.name) {r : Int32} {hh : PH} {mc ms : Nat} : ∀ (n : Nat) (h : PH) (a0 : Nat) (v1 : Int32) (v2 : Int32) (v4 : Int32) (v8 : Int32) (v9 : Int32) (C9 S9 : Nat) (H : Heap) (locs : List Loc) (cells slots : Nat), f_X4_divides_b90 n h a0 v1 v2 v4 v8 v9 = some (r, hh, C9, S9) → cells + C9 = mc ∧ slots + S9 = ms → zM D dA b0 gs s h H locs → ∀ ls : Array Slot, lv_has ls 10 [(0, .ref a0), (1, .int v1), (2, .int v2), (4, .int v4), (8, .int v8), (9, .int v9)] → W p l e ({ frames := 3, cells := mc, slots := ms, locals := 107 } : Room) s m args below meth c H locs cells slots (MQ below (zQ D dA b0 gs (evI r) hh) args s mc ms (zA b0)) (F0 m 90 ls []) := by
  have hx := hc.x
  have hb := hc.b
  intro n
  induction n with
  | zero =>
    intro h a0 v1 v2 v4 v8 v9 C9 S9 H locs cells slots hf hq hn ls hl
    cases hf
  | succ n ih =>
    intro h a0 v1 v2 v4 v8 v9 C9 S9 H locs cells slots hf hq hn ls hl
    unfold f_X4_divides_b90 at hf
    refine lv_iload hx hb dX4_divides_90 (lv_at hl 4 rfl) ?_
    refine lv_if_le (tgt := 112) hx hb dX4_divides_92 (by decide) (fun c9 => ?_) (fun c9 => ?_)
    · have hf := zif_t c9 hf
      refine lv_aload_n (x := a0) hx hb dX4_divides_112 rfl (lv_at hl 0 rfl) ?_
      refine zr_gP hc hn (ci := 3) rfl rfl in_X4 1 (by decide) q2100 (fun _ h => h) (fun _ _ _ => rfl) hf dX4_divides_113 (fun x101 hf => ?_)
      refine lv_iload_n hx hb dX4_divides_116 rfl (lv_at hl 2 rfl) ?_
      refine lv_bipush (v := (122 : Int32)) hx hb dX4_divides_117 (by decide) ?_
      refine lv_iadd hx hb dX4_divides_119 ?_
      refine zr_nmI hf (fun x102 hf => ?_)
      refine lv_iload hx hb dX4_divides_120 (lv_at hl 5 rfl) ?_
      refine lv_iadd hx hb dX4_divides_122 ?_
      refine zr_nmI hf (fun x103 hf => ?_)
      refine lv_dup2_11 hx hb dX4_divides_123 rfl (zcat_rf _) ?_
      obtain ⟨a104, e9, hf9⟩ := znn_i hf
      subst e9
      have hf := hf9
      clear hf9
      refine zr_aI0 hc hn hf dX4_divides_124 (fun x105 hf => ?_)
      refine lv_iconst (v := (1 : Int32)) hx hb dX4_divides_125 (by decide) ?_
      refine lv_iadd hx hb dX4_divides_126 ?_
      refine zr_nmI hf (fun x106 hf => ?_)
      refine zr_sI hc hn hf dX4_divides_127 (fun h107 H locs hf hn => ?_)
      refine lv_aload_n (x := a0) hx hb dX4_divides_128 rfl (lv_at hl 0 rfl) ?_
      refine lv_iconst (v := (0 : Int32)) hx hb dX4_divides_129 (by decide) ?_
      refine lv_iload hx hb dX4_divides_130 (lv_at hl 3 rfl) ?_
      refine lv_aload_n (x := a0) hx hb dX4_divides_132 rfl (lv_at hl 0 rfl) ?_
      refine zr_gP hc hn (ci := 3) rfl rfl in_X4 1 (by decide) q2100 (fun _ h => h) (fun _ _ _ => rfl) hf dX4_divides_133 (fun x108 hf => ?_)
      refine lv_iload_n hx hb dX4_divides_136 rfl (lv_at hl 2 rfl) ?_
      refine lv_iconst (v := (2 : Int32)) hx hb dX4_divides_137 (by decide) ?_
      refine lv_iadd hx hb dX4_divides_138 ?_
      refine zr_nmI hf (fun x109 hf => ?_)
      refine lv_iload hx hb dX4_divides_139 (lv_at hl 5 rfl) ?_
      refine lv_iadd hx hb dX4_divides_141 ?_
      refine zr_nmI hf (fun x110 hf => ?_)
      obtain ⟨a111, e9, hf9⟩ := znn_i hf
      subst e9
      have hf := hf9
      clear hf9
      refine zr_aI0 hc hn hf dX4_divides_142 (fun x112 hf => ?_)
      refine zr_cVU (As := [.int (0 : Int32), .int v4, .int x112]) (rest := []) hc hn hq (ci := 3) rfl ⟨rfl, hd_X4_logs⟩ (lw_V q2311 q2313 qs53 q91 q2314) (Nat.le_of_ble_eq_true rfl) (Nat.le_of_ble_eq_true rfl) (fun _ _ _ _ q => m_X4_logs l D dA b0 gs h107 a0 (0 : Int32) v4 x112 q) hf dX4_divides_143 hl.1 rfl rfl (zroom (Nat.le_of_ble_eq_true rfl)) (fun x113 h114 H locs cells slots C9 S9 hf hq hn => ?_)
      refine lv_iconst (v := (1 : Int32)) hx hb dX4_divides_146 (by decide) ?_
      obtain ⟨rfl, rfl, rfl, rfl⟩ := zret_i hf
      exact zr_zret hc hn hr (by decide) hq (fun _ _ _ _ q => q) dX4_divides_147
    · have hf := zif_f c9 hf
      refine lv_aload_n (x := a0) hx hb dX4_divides_95 rfl (lv_at hl 0 rfl) ?_
      refine lv_iload_n hx hb dX4_divides_96 rfl (lv_at hl 1 rfl) ?_
      refine lv_iload hx hb dX4_divides_97 (lv_at hl 3 rfl) ?_
      refine lv_iload hx hb dX4_divides_99 (lv_at hl 5 rfl) ?_
      refine zr_cVI (As := [.int v1, .int v4, .int v9]) (rest := []) hc hn hq (ci := 3) rfl ⟨rfl, hd_X4_after⟩ (lw_V q2303 q2305 qs51 q91 q2306) (Nat.le_of_ble_eq_true rfl) (Nat.le_of_ble_eq_true rfl) (fun _ _ _ _ q => m_X4_after l D dA b0 gs h a0 v1 v4 v9 q) hf dX4_divides_101 hl.1 rfl rfl (zroom (Nat.le_of_ble_eq_true rfl)) (fun x115 h116 H locs cells slots C9 S9 hf hq hn => ?_)
      refine lv_istore (lv' := [(9, .int x115), (0, .ref a0), (1, .int v1), (2, .int v2), (4, .int v4), (8, .int v8)]) hx hb dX4_divides_104 hl (by decide) rfl (fun ls hl => ?_)
      obtain ⟨x117, ex117, hf⟩ := znm_i hf
      refine lv_iinc (v := x117) (lv' := [(8, .int x117), (9, .int x115), (0, .ref a0), (1, .int v1), (2, .int v2), (4, .int v4)]) hx hb dX4_divides_106 hl (k := 5) rfl (by rw [ex117]; rfl) (by decide) rfl (fun ls hl => ?_)
      refine lv_goto (tgt := 90) hx hb dX4_divides_109 (by decide) ?_
      exact ih h116 a0 v1 v2 v4 x117 x115 _ _ _ _ _ _ hf hq hn _ (lv_sub hl [2, 3, 4, 5, 0, 1] rfl)
set_option maxHeartbeats 4000000 in
set_option maxRecDepth 100000 in
theorem m_X4_divides_b23 {p : Program} {l : Launch} {e : Env} {s : State} {m : MethodId} {args : Array Value} {below : List Frame} {meth : Method} {c : Code} {D : va_G} {dA : Nat → ClassId} {b0 : Nat} {gs : Nat → Option Nat} (hc : zC D dA b0 gs yX4_divides.cls cX4_divides 10 p c s m args meth) (hr : meth.sig.returnType = (some .boolean)) (hin : meth.name = yX4_divides.name) {r : Int32} {hh : PH} {mc ms : Nat} (k14 : PH → Nat → Int32 → Int32 → Int32 → Int32 → ZR Int32) (hk14 : ∀ (h : PH) (a0 : Nat) (v1 : Int32) (v2 : Int32) (v3 : Int32) (v4 : Int32) (C9 S9 : Nat) (H : Heap) (locs : List Loc) (cells slots : Nat), k14 h a0 v1 v2 v3 v4 = some (r, hh, C9, S9) → cells + C9 = mc ∧ slots + S9 = ms → zM D dA b0 gs s h H locs → ∀ ls : Array Slot, lv_has ls 10 [(0, .ref a0), (1, .int v1), (2, .int v2), (3, .int v3), (4, .int v4)] → W p l e ({ frames := 3, cells := mc, slots := ms, locals := 107 } : Room) s m args below meth c H locs cells slots (MQ below (zQ D dA b0 gs (evI r) hh) args s mc ms (zA b0)) (F0 m 14 ls [])) : ∀ (n : Nat) (h : PH) (a0 : Nat) (v1 : Int32) (v2 : Int32) (v3 : Int32) (v4 : Int32) (v5 : Int32) (C9 S9 : Nat) (H : Heap) (locs : List Loc) (cells slots : Nat), f_X4_divides_b23 k14 n h a0 v1 v2 v3 v4 v5 = some (r, hh, C9, S9) → cells + C9 = mc ∧ slots + S9 = ms → zM D dA b0 gs s h H locs → ∀ ls : Array Slot, lv_has ls 10 [(0, .ref a0), (1, .int v1), (2, .int v2), (3, .int v3), (4, .int v4), (5, .int v5)] → W p l e ({ frames := 3, cells := mc, slots := ms, locals := 107 } : Room) s m args below meth c H locs cells slots (MQ below (zQ D dA b0 gs (evI r) hh) args s mc ms (zA b0)) (F0 m 23 ls []) := by
  have hx := hc.x
  have hb := hc.b
  intro n
  induction n with
  | zero =>
    intro h a0 v1 v2 v3 v4 v5 C9 S9 H locs cells slots hf hq hn ls hl
    cases hf
  | succ n ih =>
    intro h a0 v1 v2 v3 v4 v5 C9 S9 H locs cells slots hf hq hn ls hl
    unfold f_X4_divides_b23 at hf
    refine lv_iload hx hb dX4_divides_23 (lv_at hl 5 rfl) ?_
    refine lv_aload_n (x := a0) hx hb dX4_divides_25 rfl (lv_at hl 0 rfl) ?_
    refine zr_gP hc hn (ci := 3) rfl rfl in_X4 1 (by decide) q2100 (fun _ h => h) (fun _ _ _ => rfl) hf dX4_divides_26 (fun x101 hf => ?_)
    refine lv_iload_n hx hb dX4_divides_29 rfl (lv_at hl 2 rfl) ?_
    refine lv_iconst (v := (1 : Int32)) hx hb dX4_divides_30 (by decide) ?_
    refine lv_iadd hx hb dX4_divides_31 ?_
    refine zr_nmI hf (fun x102 hf => ?_)
    obtain ⟨a103, e9, hf9⟩ := znn_i hf
    subst e9
    have hf := hf9
    clear hf9
    refine zr_aI0 hc hn hf dX4_divides_32 (fun x104 hf => ?_)
    refine lv_icmp_ge (tgt := 155) hx hb dX4_divides_33 (by decide) (fun c9 => ?_) (fun c9 => ?_)
    · have hf := zif_t c9 hf
      obtain ⟨x105, ex105, hf⟩ := znm_i hf
      refine lv_iinc (v := x105) (lv' := [(4, .int x105), (0, .ref a0), (1, .int v1), (2, .int v2), (3, .int v3), (5, .int v5)]) hx hb dX4_divides_155 hl (k := 4) rfl (by rw [ex105]; rfl) (by decide) rfl (fun ls hl => ?_)
      refine lv_goto (tgt := 14) hx hb dX4_divides_158 (by decide) ?_
      exact hk14 h a0 v1 v2 v3 x105 _ _ _ _ _ _ hf hq hn _ (lv_sub hl [1, 2, 3, 4, 0] rfl)
    · have hf := zif_f c9 hf
      refine lv_aload_n (x := a0) hx hb dX4_divides_36 rfl (lv_at hl 0 rfl) ?_
      refine lv_iload_n hx hb dX4_divides_37 rfl (lv_at hl 1 rfl) ?_
      refine lv_iload hx hb dX4_divides_38 (lv_at hl 4 rfl) ?_
      refine lv_iconst (v := (1 : Int32)) hx hb dX4_divides_40 (by decide) ?_
      refine lv_iadd hx hb dX4_divides_41 ?_
      refine zr_nmI hf (fun x106 hf => ?_)
      refine lv_iload hx hb dX4_divides_42 (lv_at hl 5 rfl) ?_
      refine zr_cVI (As := [.int v1, .int x106, .int v5]) (rest := []) hc hn hq (ci := 3) rfl ⟨rfl, hd_X4_after⟩ (lw_V q2303 q2305 qs51 q91 q2306) (Nat.le_of_ble_eq_true rfl) (Nat.le_of_ble_eq_true rfl) (fun _ _ _ _ q => m_X4_after l D dA b0 gs h a0 v1 x106 v5 q) hf dX4_divides_44 hl.1 rfl rfl (zroom (Nat.le_of_ble_eq_true rfl)) (fun x107 h108 H locs cells slots C9 S9 hf hq hn => ?_)
      refine lv_istore (lv' := [(6, .int x107), (0, .ref a0), (1, .int v1), (2, .int v2), (3, .int v3), (4, .int v4), (5, .int v5)]) hx hb dX4_divides_47 hl (by decide) rfl (fun ls hl => ?_)
      refine lv_aload_n (x := a0) hx hb dX4_divides_49 rfl (lv_at hl 1 rfl) ?_
      refine lv_iload_n hx hb dX4_divides_50 rfl (lv_at hl 2 rfl) ?_
      refine lv_iload hx hb dX4_divides_51 (lv_at hl 5 rfl) ?_
      refine lv_iload hx hb dX4_divides_53 (lv_at hl 6 rfl) ?_
      refine lv_iload hx hb dX4_divides_55 (lv_at hl 0 rfl) ?_
      refine zr_cVI (As := [.int v1, .int v4, .int v5, .int x107]) (rest := []) hc hn hq (ci := 3) rfl ⟨rfl, hd_X4_between⟩ (lw_V q2307 q2309 qs52 q91 q2310) (Nat.le_of_ble_eq_true rfl) (Nat.le_of_ble_eq_true rfl) (fun _ _ _ _ q => m_X4_between l D dA b0 gs h108 a0 v1 v4 v5 x107 q) hf dX4_divides_57 hl.1 rfl rfl (zroom (Nat.le_of_ble_eq_true rfl)) (fun x109 h110 H locs cells slots C9 S9 hf hq hn => ?_)
      refine lv_istore (lv' := [(7, .int x109), (6, .int x107), (0, .ref a0), (1, .int v1), (2, .int v2), (3, .int v3), (4, .int v4), (5, .int v5)]) hx hb dX4_divides_60 hl (by decide) rfl (fun ls hl => ?_)
      refine lv_iload hx hb dX4_divides_62 (lv_at hl 0 rfl) ?_
      refine lv_aload_n (x := a0) hx hb dX4_divides_64 rfl (lv_at hl 2 rfl) ?_
      refine zr_gP hc hn (ci := 3) rfl rfl in_X4 1 (by decide) q2100 (fun _ h => h) (fun _ _ _ => rfl) hf dX4_divides_65 (fun x111 hf => ?_)
      refine lv_iconst (v := (0 : Int32)) hx hb dX4_divides_68 (by decide) ?_
      obtain ⟨a112, e9, hf9⟩ := znn_i hf
      subst e9
      have hf := hf9
      clear hf9
      refine zr_aI0 hc hn hf dX4_divides_69 (fun x113 hf => ?_)
      refine lv_icmp_le (tgt := 148) hx hb dX4_divides_70 (by decide) (fun c9 => ?_) (fun c9 => ?_)
      · have hf := zif_t c9 hf
        refine lv_iload hx hb dX4_divides_148 (lv_at hl 1 rfl) ?_
        refine lv_istore (lv' := [(5, .int x107), (7, .int x109), (6, .int x107), (0, .ref a0), (1, .int v1), (2, .int v2), (3, .int v3), (4, .int v4)]) hx hb dX4_divides_150 hl (by decide) rfl (fun ls hl => ?_)
        refine lv_goto (tgt := 23) hx hb dX4_divides_152 (by decide) ?_
        exact ih h110 a0 v1 v2 v3 v4 x107 _ _ _ _ _ _ hf hq hn _ (lv_sub hl [3, 4, 5, 6, 7, 0] rfl)
      · have hf := zif_f c9 hf
        refine lv_iload hx hb dX4_divides_73 (lv_at hl 0 rfl) ?_
        refine lv_iconst (v := (2 : Int32)) hx hb dX4_divides_75 (by decide) ?_
        obtain ⟨hne, hf⟩ := zgd_i hf
        refine lv_idiv hx hb dX4_divides_76 hne ?_
        refine zr_nmI hf (fun x114 hf => ?_)
        refine lv_istore (lv' := [(8, .int x114), (7, .int x109), (6, .int x107), (0, .ref a0), (1, .int v1), (2, .int v2), (3, .int v3), (4, .int v4), (5, .int v5)]) hx hb dX4_divides_77 hl (by decide) rfl (fun ls hl => ?_)
        refine lv_aload_n (x := a0) hx hb dX4_divides_79 rfl (lv_at hl 3 rfl) ?_
        refine lv_iload_n hx hb dX4_divides_80 rfl (lv_at hl 4 rfl) ?_
        refine lv_iload hx hb dX4_divides_81 (lv_at hl 7 rfl) ?_
        refine lv_iload hx hb dX4_divides_83 (lv_at hl 8 rfl) ?_
        refine zr_cVI (As := [.int v1, .int v4, .int v5]) (rest := []) hc hn hq (ci := 3) rfl ⟨rfl, hd_X4_after⟩ (lw_V q2303 q2305 qs51 q91 q2306) (Nat.le_of_ble_eq_true rfl) (Nat.le_of_ble_eq_true rfl) (fun _ _ _ _ q => m_X4_after l D dA b0 gs h110 a0 v1 v4 v5 q) hf dX4_divides_85 hl.1 rfl rfl (zroom (Nat.le_of_ble_eq_true rfl)) (fun x115 h116 H locs cells slots C9 S9 hf hq hn => ?_)
        refine lv_istore (lv' := [(9, .int x115), (8, .int x114), (7, .int x109), (6, .int x107), (0, .ref a0), (1, .int v1), (2, .int v2), (3, .int v3), (4, .int v4), (5, .int v5)]) hx hb dX4_divides_88 hl (by decide) rfl (fun ls hl => ?_)
        exact m_X4_divides_b90 hc hr hin zFU h116 a0 v1 v2 v4 x114 x115 _ _ _ _ _ _ hf hq hn _ (lv_sub hl [4, 5, 6, 8, 1, 0] rfl)
set_option maxHeartbeats 4000000 in
set_option maxRecDepth 100000 in
theorem m_X4_divides_b14 {p : Program} {l : Launch} {e : Env} {s : State} {m : MethodId} {args : Array Value} {below : List Frame} {meth : Method} {c : Code} {D : va_G} {dA : Nat → ClassId} {b0 : Nat} {gs : Nat → Option Nat} (hc : zC D dA b0 gs yX4_divides.cls cX4_divides 10 p c s m args meth) (hr : meth.sig.returnType = (some .boolean)) (hin : meth.name = yX4_divides.name) {r : Int32} {hh : PH} {mc ms : Nat} : ∀ (n : Nat) (h : PH) (a0 : Nat) (v1 : Int32) (v2 : Int32) (v3 : Int32) (v4 : Int32) (C9 S9 : Nat) (H : Heap) (locs : List Loc) (cells slots : Nat), f_X4_divides_b14 n h a0 v1 v2 v3 v4 = some (r, hh, C9, S9) → cells + C9 = mc ∧ slots + S9 = ms → zM D dA b0 gs s h H locs → ∀ ls : Array Slot, lv_has ls 10 [(0, .ref a0), (1, .int v1), (2, .int v2), (3, .int v3), (4, .int v4)] → W p l e ({ frames := 3, cells := mc, slots := ms, locals := 107 } : Room) s m args below meth c H locs cells slots (MQ below (zQ D dA b0 gs (evI r) hh) args s mc ms (zA b0)) (F0 m 14 ls []) := by
  have hx := hc.x
  have hb := hc.b
  intro n
  induction n with
  | zero =>
    intro h a0 v1 v2 v3 v4 C9 S9 H locs cells slots hf hq hn ls hl
    cases hf
  | succ n ih =>
    intro h a0 v1 v2 v3 v4 C9 S9 H locs cells slots hf hq hn ls hl
    unfold f_X4_divides_b14 at hf
    refine lv_iload hx hb dX4_divides_14 (lv_at hl 4 rfl) ?_
    refine lv_iload_n hx hb dX4_divides_16 rfl (lv_at hl 3 rfl) ?_
    refine lv_icmp_gt (tgt := 161) hx hb dX4_divides_17 (by decide) (fun c9 => ?_) (fun c9 => ?_)
    · have hf := zif_t c9 hf
      refine lv_iconst (v := (0 : Int32)) hx hb dX4_divides_161 (by decide) ?_
      obtain ⟨rfl, rfl, rfl, rfl⟩ := zret_i hf
      exact zr_zret hc hn hr (by decide) hq (fun _ _ _ _ q => q) dX4_divides_162
    · have hf := zif_f c9 hf
      refine lv_iconst (v := (-1 : Int32)) hx hb dX4_divides_20 (by decide) ?_
      refine lv_istore (lv' := [(5, .int (-1 : Int32)), (0, .ref a0), (1, .int v1), (2, .int v2), (3, .int v3), (4, .int v4)]) hx hb dX4_divides_21 hl (by decide) rfl (fun ls hl => ?_)
      exact m_X4_divides_b23 hc hr hin (f_X4_divides_b14 n) ih zFU h a0 v1 v2 v3 v4 (-1 : Int32) _ _ _ _ _ _ hf hq hn _ (lv_sub hl [1, 2, 3, 4, 5, 0] rfl)
set_option maxHeartbeats 4000000 in
set_option maxRecDepth 100000 in
theorem m_X4_divides (l : Launch) (D : va_G) (dA : Nat → ClassId) (b0 : Nat) (gs : Nat → Option Nat) (h : PH) (a0 : Nat) (v1 : Int32) {r : Int32} {hh : PH} {mc ms : Nat} (hf : f_X4_divides h a0 v1 = some (r, hh, mc, ms)) : zMt l D dA b0 gs yX4_divides cX4_divides 10 (some .boolean) 3 107 [.ref a0, .int v1] h (evI r) hh mc ms := by
  unfold f_X4_divides at hf
  refine zMt.of (by decide) (Nat.le_of_ble_eq_true rfl) ?_
  intro p e s m args below meth c hc hr hin hn ls hl
  have hl : lv_has ls 10 [(0, .ref a0), (1, .int v1)] := hl
  have hq : 0 + mc = mc ∧ 0 + ms = ms := ⟨Nat.zero_add _, Nat.zero_add _⟩
  have hx := hc.x
  have hb := hc.b
  refine lv_iload_n hx hb dX4_divides_0 rfl (lv_at hl 1 rfl) ?_
  refine zr_cSI (As := [.int v1]) (rest := []) hc hn hq hd_X4_base (lw_S q2284 q2285 q91 q2286) (Nat.le_of_ble_eq_true rfl) (Nat.le_of_ble_eq_true rfl) (fun _ _ _ _ q => m_X4_base l D dA b0 gs h v1 q) hf dX4_divides_1 hl.1 rfl rfl (zroom (Nat.le_of_ble_eq_true rfl)) (fun x101 h102 H locs cells slots C9 S9 hf hq hn => ?_)
  refine lv_istore_n (i := 2) (lv' := [(2, .int x101), (0, .ref a0), (1, .int v1)]) hx hb dX4_divides_4 rfl hl (by decide) rfl (fun ls hl => ?_)
  refine lv_aload_n (x := a0) hx hb dX4_divides_5 rfl (lv_at hl 1 rfl) ?_
  refine lv_iload_n hx hb dX4_divides_6 rfl (lv_at hl 2 rfl) ?_
  refine zr_cVI (As := [.int v1]) (rest := []) hc hn hq (ci := 3) rfl ⟨rfl, hd_X4_heightOf⟩ (lw_V q2299 q2301 qs50 q91 q2302) (Nat.le_of_ble_eq_true rfl) (Nat.le_of_ble_eq_true rfl) (fun _ _ _ _ q => m_X4_heightOf l D dA b0 gs h102 a0 v1 q) hf dX4_divides_7 hl.1 rfl rfl (zroom (Nat.le_of_ble_eq_true rfl)) (fun x103 h104 H locs cells slots C9 S9 hf hq hn => ?_)
  refine lv_istore_n (i := 3) (lv' := [(3, .int x103), (2, .int x101), (0, .ref a0), (1, .int v1)]) hx hb dX4_divides_10 rfl hl (by decide) rfl (fun ls hl => ?_)
  refine lv_iconst (v := (1 : Int32)) hx hb dX4_divides_11 (by decide) ?_
  refine lv_istore (lv' := [(4, .int (1 : Int32)), (3, .int x103), (2, .int x101), (0, .ref a0), (1, .int v1)]) hx hb dX4_divides_12 hl (by decide) rfl (fun ls hl => ?_)
  exact m_X4_divides_b14 hc hr hin zFU h104 a0 v1 x101 x103 (1 : Int32) _ _ _ _ _ _ hf hq hn _ (lv_sub hl [3, 4, 2, 1, 0] rfl)
theorem hd_X4_ahead : yX4_ahead.cls ≠ "java/lang/invoke/MethodHandle" ∧ yX4_ahead.cls ≠ "java/lang/invoke/VarHandle" ∧ (parseMethodDescriptor yX4_ahead.desc).map (fun d => d.parameters.length) = some 3 := by decide +kernel
def f_X4_ahead_b11 : Nat → PH → Nat → Int32 → Int32 → Int32 → ZR Int32
  | 0 => fun _ _ _ _ _ => none
  | n + 1 => fun h a0 v2 v4 v5 =>
    if v5 < 0 then
      (zret v5 h)
    else
      (zgP h a0 3 1 fun x101 =>
      znm (v4 + (122 : Int32)) fun x102 =>
      znm (x102 + v5) fun x103 =>
      znn x101 fun a104 =>
      zaI h a104 0 x103 fun x105 =>
      if v2 ≤ x105 then
        (zret v5 h)
      else
        (znm (v5 + (-1 : Int32)) fun x106 =>
        f_X4_ahead_b11 n h a0 v2 v4 x106))
def f_X4_ahead (h : PH) (a0 : Nat) (v1 : Int32) (v2 : Int32) (v3 : Int32) : ZR Int32 :=
  zcl (f_X4_base h v1) fun x101 h102 =>
  znm (v3 - (1 : Int32)) fun x103 =>
  f_X4_ahead_b11 zFU h102 a0 v2 x101 x103
set_option maxHeartbeats 4000000 in
set_option maxRecDepth 100000 in
theorem m_X4_ahead_b11 {p : Program} {l : Launch} {e : Env} {s : State} {m : MethodId} {args : Array Value} {below : List Frame} {meth : Method} {c : Code} {D : va_G} {dA : Nat → ClassId} {b0 : Nat} {gs : Nat → Option Nat} (hc : zC D dA b0 gs yX4_ahead.cls cX4_ahead 6 p c s m args meth) (hr : meth.sig.returnType = (some .int)) (hin : meth.name = yX4_ahead.name) {r : Int32} {hh : PH} {mc ms : Nat} : ∀ (n : Nat) (h : PH) (a0 : Nat) (v2 : Int32) (v4 : Int32) (v5 : Int32) (C9 S9 : Nat) (H : Heap) (locs : List Loc) (cells slots : Nat), f_X4_ahead_b11 n h a0 v2 v4 v5 = some (r, hh, C9, S9) → cells + C9 = mc ∧ slots + S9 = ms → zM D dA b0 gs s h H locs → ∀ ls : Array Slot, lv_has ls 6 [(0, .ref a0), (2, .int v2), (4, .int v4), (5, .int v5)] → W p l e ({ frames := 2, cells := mc, slots := ms, locals := 80 } : Room) s m args below meth c H locs cells slots (MQ below (zQ D dA b0 gs (evI r) hh) args s mc ms (zA b0)) (F0 m 11 ls []) := by
  have hx := hc.x
  have hb := hc.b
  intro n
  induction n with
  | zero =>
    intro h a0 v2 v4 v5 C9 S9 H locs cells slots hf hq hn ls hl
    cases hf
  | succ n ih =>
    intro h a0 v2 v4 v5 C9 S9 H locs cells slots hf hq hn ls hl
    unfold f_X4_ahead_b11 at hf
    refine lv_iload hx hb dX4_ahead_11 (lv_at hl 3 rfl) ?_
    refine lv_if_lt (tgt := 39) hx hb dX4_ahead_13 (by decide) (fun c9 => ?_) (fun c9 => ?_)
    · have hf := zif_t c9 hf
      refine lv_iload hx hb dX4_ahead_39 (lv_at hl 3 rfl) ?_
      obtain ⟨rfl, rfl, rfl, rfl⟩ := zret_i hf
      exact zr_iret hc hn hr hq (fun _ _ _ _ q => q) dX4_ahead_41
    · have hf := zif_f c9 hf
      refine lv_aload_n (x := a0) hx hb dX4_ahead_16 rfl (lv_at hl 0 rfl) ?_
      refine zr_gP hc hn (ci := 3) rfl rfl in_X4 1 (by decide) q2100 (fun _ h => h) (fun _ _ _ => rfl) hf dX4_ahead_17 (fun x101 hf => ?_)
      refine lv_iload hx hb dX4_ahead_20 (lv_at hl 2 rfl) ?_
      refine lv_bipush (v := (122 : Int32)) hx hb dX4_ahead_22 (by decide) ?_
      refine lv_iadd hx hb dX4_ahead_24 ?_
      refine zr_nmI hf (fun x102 hf => ?_)
      refine lv_iload hx hb dX4_ahead_25 (lv_at hl 3 rfl) ?_
      refine lv_iadd hx hb dX4_ahead_27 ?_
      refine zr_nmI hf (fun x103 hf => ?_)
      obtain ⟨a104, e9, hf9⟩ := znn_i hf
      subst e9
      have hf := hf9
      clear hf9
      refine zr_aI0 hc hn hf dX4_ahead_28 (fun x105 hf => ?_)
      refine lv_iload_n hx hb dX4_ahead_29 rfl (lv_at hl 1 rfl) ?_
      refine lv_icmp_ge (tgt := 39) hx hb dX4_ahead_30 (by decide) (fun c9 => ?_) (fun c9 => ?_)
      · have hf := zif_t c9 hf
        refine lv_iload hx hb dX4_ahead_39 (lv_at hl 3 rfl) ?_
        obtain ⟨rfl, rfl, rfl, rfl⟩ := zret_i hf
        exact zr_iret hc hn hr hq (fun _ _ _ _ q => q) dX4_ahead_41
      · have hf := zif_f c9 hf
        obtain ⟨x106, ex106, hf⟩ := znm_i hf
        refine lv_iinc (v := x106) (lv' := [(5, .int x106), (0, .ref a0), (2, .int v2), (4, .int v4)]) hx hb dX4_ahead_33 hl (k := 3) rfl (by rw [ex106]; rfl) (by decide) rfl (fun ls hl => ?_)
        refine lv_goto (tgt := 11) hx hb dX4_ahead_36 (by decide) ?_
        exact ih h a0 v2 v4 x106 _ _ _ _ _ _ hf hq hn _ (lv_sub hl [1, 2, 3, 0] rfl)
set_option maxHeartbeats 4000000 in
set_option maxRecDepth 100000 in
theorem m_X4_ahead (l : Launch) (D : va_G) (dA : Nat → ClassId) (b0 : Nat) (gs : Nat → Option Nat) (h : PH) (a0 : Nat) (v1 : Int32) (v2 : Int32) (v3 : Int32) {r : Int32} {hh : PH} {mc ms : Nat} (hf : f_X4_ahead h a0 v1 v2 v3 = some (r, hh, mc, ms)) : zMt l D dA b0 gs yX4_ahead cX4_ahead 6 (some .int) 2 80 [.ref a0, .int v1, .int v2, .int v3] h (evI r) hh mc ms := by
  unfold f_X4_ahead at hf
  refine zMt.of (by decide) (Nat.le_of_ble_eq_true rfl) ?_
  intro p e s m args below meth c hc hr hin hn ls hl
  have hl : lv_has ls 6 [(0, .ref a0), (1, .int v1), (2, .int v2), (3, .int v3)] := hl
  have hq : 0 + mc = mc ∧ 0 + ms = ms := ⟨Nat.zero_add _, Nat.zero_add _⟩
  have hx := hc.x
  have hb := hc.b
  refine lv_iload_n hx hb dX4_ahead_0 rfl (lv_at hl 1 rfl) ?_
  refine zr_cSI (As := [.int v1]) (rest := []) hc hn hq hd_X4_base (lw_S q2284 q2285 q91 q2286) (Nat.le_of_ble_eq_true rfl) (Nat.le_of_ble_eq_true rfl) (fun _ _ _ _ q => m_X4_base l D dA b0 gs h v1 q) hf dX4_ahead_1 hl.1 rfl rfl (zroom (Nat.le_of_ble_eq_true rfl)) (fun x101 h102 H locs cells slots C9 S9 hf hq hn => ?_)
  refine lv_istore (lv' := [(4, .int x101), (0, .ref a0), (1, .int v1), (2, .int v2), (3, .int v3)]) hx hb dX4_ahead_4 hl (by decide) rfl (fun ls hl => ?_)
  refine lv_iload_n hx hb dX4_ahead_6 rfl (lv_at hl 4 rfl) ?_
  refine lv_iconst (v := (1 : Int32)) hx hb dX4_ahead_7 (by decide) ?_
  refine lv_isub hx hb dX4_ahead_8 ?_
  refine zr_nmI hf (fun x103 hf => ?_)
  refine lv_istore (lv' := [(5, .int x103), (4, .int x101), (0, .ref a0), (1, .int v1), (2, .int v2), (3, .int v3)]) hx hb dX4_ahead_9 hl (by decide) rfl (fun ls hl => ?_)
  exact m_X4_ahead_b11 hc hr hin zFU h102 a0 v2 x101 x103 _ _ _ _ _ _ hf hq hn _ (lv_sub hl [2, 4, 1, 0] rfl)
