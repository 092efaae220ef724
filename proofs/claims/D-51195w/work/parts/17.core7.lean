/-! EXCEPTIONS: runs that throw -/
set_option maxRecDepth 100000
def zE (e : Nat) : String := match e with
  | 1 => "java/lang/IndexOutOfBoundsException"
  | 2 => "java/lang/IllegalArgumentException"
  | 3 => "java/lang/IllegalStateException"
  | 4 => "java/util/NoSuchElementException"
  | _ => "CountedSkipLists$TextException"
def zQX {β : Type} (D : va_G) (dA : Nat → ClassId) (b0 : Nat) (gs : Nat → Option Nat) (ev : β → Option Value) (rr : ZX β) (h : PH) : Array Value → State → Outcome → State → Prop := fun a st o t => ∃ r : β, rr = .inl r ∧ zQ D dA b0 gs (ev r) h a st o t
def zXC {β : Type} (D : va_G) (dA : Nat → ClassId) (b0 : Nat) (gs : Nat → Option Nat) (rr : ZX β) (h : PH) : String → Addr → State → State → Prop := fun E q st t => ∃ e : Nat, rr = .inr (e, q) ∧ E = zE e ∧ zW D dA b0 gs h t ∧ va_F (zA b0) st t
def zMx {β : Type} (l : Launch) (D : va_G) (dA : Nat → ClassId) (b0 : Nat) (gs : Nat → Option Nat) (y : MethodName) (ws : List Cond) (fr lo : Nat) (vs : List Value) (h : PH) (ev : β → Option Value) (rr : ZX β) (h1 : PH) (c s : Nat) : Prop :=
  vx_Met l y ws ({ frames := fr, cells := c, slots := s, locals := lo } : Room) (va_Pc vs (zW D dA b0 gs h)) (zQX D dA b0 gs ev rr h1) (zXC D dA b0 gs rr h1) c s (zA b0)
theorem zMx.of {β : Type} {l : Launch} {D : va_G} {dA : Nat → ClassId} {b0 : Nat} {gs : Nat → Option Nat} {y : MethodName} {cc : ByteArray} {nL : Nat} {ret : Option FieldType} {fr lo : Nat} {vs : List Value} {h : PH} {ev : β → Option Value} {rr : ZX β} {h1 : PH} {cn sn : Nat} (hy : plainName y.cls = true) (hl : (lg_sl vs).length ≤ nL)
    (body : ∀ (p : Program) (e : Env) (s : State) (m : MethodId) (args : Array Value) (below : List Frame) (meth : Method) (c : Code), zC D dA b0 gs y.cls cc nL p c s m args meth → meth.sig.returnType = ret → meth.name = y.name → (∀ x ∈ c.exceptionTable.toList, False) → zM D dA b0 gs s h s.heap [] → ∀ ls : Array Slot, lv_has ls nL (lv_args 0 vs) →
      W p l e ({ frames := fr, cells := cn, slots := sn, locals := lo } : Room) s m args below meth c s.heap [] 0 0 (vx_MQ below (zQX D dA b0 gs ev rr h1) (zXC D dA b0 gs rr h1) args s cn sn (zA b0)) (F0 m 0 ls [])) : zMx l D dA b0 gs y (ws_ y cc nL ret) fr lo vs h ev rr h1 cn sn := by
  refine vx_ofW (cc := cc) (maxL := nL) (ret := ret) hy rfl ?_
  intro p e s m args below meth c s₁ B hml ht hv
  obtain ⟨rfl, w1, w2, w3, w4, w5, w6⟩ := hv
  have hts := atoms_spec (ws := ws_ y cc nL ret) B.pre
  have hts : ∀ w ∈ lw_all, w.before _ s = true := fun w h => hts w (List.mem_cons_of_mem _ h)
  have hin : meth.name = y.name := (name_of_methodNamed B.named B.method).1
  have hl0 := lv_entry vs (n := nL) hl
  rw [lg_entry_eq]
  exact body p e s m _ below meth c ⟨⟨B.exec, B.bytes, hml, findClass_of_methodNamed B.named, hts⟩, w4, w5, w6, B.notSynchronized⟩ B.returns hin ht ⟨w1, w2, w3, va_S.rf⟩ _ hl0
/-- a method with handlers -/
theorem zMx.ofH {β : Type} {l : Launch} {D : va_G} {dA : Nat → ClassId} {b0 : Nat} {gs : Nat → Option Nat} {y : MethodName} {cc : ByteArray} {nL : Nat} {ret : Option FieldType} {fr lo : Nat} {vs : List Value} {h : PH} {ev : β → Option Value} {rr : ZX β} {h1 : PH} {cn sn : Nat} {hh : List (Nat × Nat × Nat × Nat)} (hy : plainName y.cls = true) (hl : (lg_sl vs).length ≤ nL)
    (body : ∀ (p : Program) (e : Env) (s : State) (m : MethodId) (args : Array Value) (below : List Frame) (meth : Method) (c : Code), zC D dA b0 gs y.cls cc nL p c s m args meth → meth.sig.returnType = ret → meth.name = y.name → c.exceptionTable.toList = tableOf hh → zM D dA b0 gs s h s.heap [] → ∀ ls : Array Slot, lv_has ls nL (lv_args 0 vs) →
      W p l e ({ frames := fr, cells := cn, slots := sn, locals := lo } : Room) s m args below meth c s.heap [] 0 0 (vx_MQ below (zQX D dA b0 gs ev rr h1) (zXC D dA b0 gs rr h1) args s cn sn (zA b0)) (F0 m 0 ls [])) : zMx l D dA b0 gs y (wsW_ y cc nL ret hh) fr lo vs h ev rr h1 cn sn := by
  refine vx_ofWH (cc := cc) (maxL := nL) (ret := ret) (hh := hh) hy rfl ?_
  intro p e s m args below meth c s₁ B hml hv
  obtain ⟨rfl, w1, w2, w3, w4, w5, w6⟩ := hv
  have hts0 := atoms_spec (ws := wsW_ y cc nL ret hh) B.pre
  have hts : ∀ w ∈ lw_all, w.before _ s = true := fun w h => hts0 w (List.mem_cons_of_mem _ h)
  have ht := vx_table (x := y) B (hts0 _ List.mem_cons_self)
  have hin : meth.name = y.name := (name_of_methodNamed B.named B.method).1
  have hl0 := lv_entry vs (n := nL) hl
  rw [lg_entry_eq]
  exact body p e s m _ below meth c ⟨⟨B.exec, B.bytes, hml, findClass_of_methodNamed B.named, hts⟩, w4, w5, w6, B.notSynchronized⟩ B.returns hin ht ⟨w1, w2, w3, va_S.rf⟩ _ hl0
/-- .. that itself throws nothing -/
theorem zMx.met {β : Type} {l : Launch} {D : va_G} {dA : Nat → ClassId} {b0 : Nat} {gs : Nat → Option Nat} {y : MethodName} {ws : List Cond} {fr lo : Nat} {vs : List Value} {h : PH} {ev : β → Option Value} {r : β} {h1 : PH} {cn sn : Nat} (hM : zMx l D dA b0 gs y ws fr lo vs h ev (.inl r) h1 cn sn) : Met l y ws ({ frames := fr, cells := cn, slots := sn, locals := lo } : Room) (va_Pc vs (zW D dA b0 gs h)) (zQ D dA b0 gs (ev r) h1) cn sn (zA b0) := by
  intro p e ha hc hk s m args below hf hap hP hK
  obtain ⟨k, o, g1, g2, g3, gQ⟩ := hM p e ha hc hk s m args below hf hap hP hK
  refine ⟨k, o, g1, g2, g3, ?_⟩
  rcases gQ with ⟨⟨r9, hr9, hq9⟩, hL⟩ | ⟨q, ho, E, ce, L, ⟨e9, he9, -⟩, -⟩
  · cases hr9
    exact ⟨hq9, hL⟩
  · cases he9
/-- words that hold all through: good ones, casts, declarations -/
def zokW (w : Cond) : Bool := match w with
  | .castable _ _ => true
  | .declares _ => true
  | w => goodWord w
section ZEX
variable {p : Program} {l : Launch} {e : Env} {R : Room} {s : State} {m : MethodId} {args : Array Value} {below : List Frame} {meth : Method} {c : Code} {H : Heap} {locs : List Loc} {cells slots : Nat} {Q : State → Prop}
variable {cc : ByteArray} {pc nL : Nat} {ls : Array Slot} {rest : List Value} {D : va_G} {dA : Nat → ClassId} {b0 : Nat} {gs : Nat → Option Nat} {own : String} {h : PH} {a : Nat}

theorem zC.word (hc : zC D dA b0 gs own cc nL p c s m args meth) {w : Cond} (hw : w ∈ lw_tbl) (hk : zokW w = true) : w.before args s = true := by
  by_cases g : goodWord w = true
  · exact hc.ts w (lw_g hw g)
  · obtain ⟨S0, a0, g1, g2, g3, g4, g5, g6⟩ := hc.g
    unfold zokW at hk
    split at hk
    · exact (va_Nw.warmC g5 (va_Nw.of rfl (g1 _ hw))).use rfl
    · exact (va_Nw.warmD g5 (va_Nw.of rfl (g1 _ hw))).use rfl
    · exact absurd hk g
theorem zC.words (hc : zC D dA b0 gs own cc nL p c s m args meth) (ws : List Cond) (ps : List Nat) (hp : ws = ps.filterMap (fun i => lw_tbl[i]?)) (hg : ws.all zokW = true) : ∀ w ∈ ws, w.before args s = true := by
  intro w h
  have h1 := List.all_eq_true.mp hg w h
  rw [hp] at h
  obtain ⟨i, -, hi⟩ := List.mem_filterMap.mp h
  exact hc.word (List.mem_of_getElem? hi) h1
theorem zC.nNc (hc : zC D dA b0 gs own cc nL p c s m args meth) {C T : String} (hw : (Cond.not (.castable C T)) ∈ flatC zNar) : va_Nc C T s := by
  obtain ⟨S0, a0, g1, g2, g3, g4, g5, g6⟩ := hc.g
  exact va_Nc.moved g5.alike (va_Nc.of (flat_of_before _ g2 _ hw))
theorem zC.xzq (hc : zC D dA b0 gs own cc nL p c s m args meth) {C n d : String} (hl : (Cond.laysStatic C n d) ∈ lw_tbl) (hi : (Cond.initialized C) ∈ lw_all) (hw : (Cond.isRef (.static C n d)) ∈ flatC zNar) : vx_Zq C n d (zA b0) s s.heap := by
  obtain ⟨S0, a0, g1, g2, g3, g4, g5, g6⟩ := hc.g
  have h0 : vx_Zq C n d (zA b0) S0 S0.heap := vx_Zqof (g1 _ hl) (g1 _ (lw_all_tbl hi)) (flat_of_before _ g2 _ hw) (fun a ha => by show ¬ b0 ≤ a; omega)
  exact (h0.moved g5.alike).kept (fun a ha hb => g6 a (Nat.not_le.mp hb))
theorem zth_i {α : Type} {e : Nat} {h hh : PH} {rr : ZX α} {C S : Nat} (q : zth e h = some (rr, hh, C, S)) : rr = .inr (e, zN h) ∧ hh = znx h ∧ C = 1 ∧ S = 6 := by
  cases q
  exact ⟨rfl, rfl, rfl, rfl⟩
theorem zM.xpush (hn : zM D dA b0 gs s h H locs) {H' : Heap} (hs : H'.size = H.size + 1) (ho : ∀ b, b < H.size → H'[b]? = H[b]?) : zM D dA b0 gs s (znx h) H' locs := by
  obtain ⟨n1, n2, n3, n4⟩ := hn
  exact ⟨n1.pushx hs ho, n2, n3, ⟨Nat.le_trans n4.1 (by omega), fun q h1 h2 => (ho q (Nat.lt_of_lt_of_le h1 n4.1)).trans (n4.2.1 q h1 h2), n4.2.2⟩⟩
theorem zxa_1 : vx_at0 "CountedSkipLists" 3 "java/lang/IndexOutOfBoundsException" ["java/lang/RuntimeException", "java/lang/Exception"] = [92, 311, 320, 327, 330, 332, 312, 313, 137, 138, 314, 319, 328, 345, 301, 346, 303, 347, 305, 315, 317, 307, 408, 409, 410, 337, 292, 337, 338, 339, 340, 294, 340, 341, 342, 312, 296, 407, 399, 400, 401, 325, 402, 403, 404, 405, 343, 309, 406].filterMap (fun i => lw_tbl[i]?) := by decide +kernel
theorem zxb_1 : (vx_at0 "CountedSkipLists" 3 "java/lang/IndexOutOfBoundsException" ["java/lang/RuntimeException", "java/lang/Exception"]).all zokW = true := by decide +kernel
theorem zxc_1 : (Cond.classLink "CountedSkipLists" 1 "java/lang/IndexOutOfBoundsException" :: Cond.initialized "java/lang/IndexOutOfBoundsException" :: vx_at0 "CountedSkipLists" 3 "java/lang/IndexOutOfBoundsException" ["java/lang/RuntimeException", "java/lang/Exception"]).all vx_ot = true := by decide +kernel
theorem zr_th1 {β : Type} {ev : β → Option Value} {rr : ZX β} {hh : PH} {C9 S9 fr lo mc ms : Nat} (hl : l.stackTraces = false) (hc : zC D dA b0 gs "CountedSkipLists" cc nL p c s m args meth) (hn : zM D dA b0 gs s h H locs) (hq : cells + C9 = mc ∧ slots + S9 = ms) (hf : zth 1 h = some (rr, hh, C9, S9)) (hout : ∀ x ∈ c.exceptionTable.toList, covers x (pc + 7) = false) (d0 : decode cc pc = .ok (.new 1, 3)) (d3 : decode cc (pc + 3) = .ok (.dup, 1)) (d4 : decode cc (pc + 4) = .ok (.invokespecial 3, 3)) (d7 : decode cc (pc + 7) = .ok (.athrow, 1)) (hls : ls.size = nL) (hrm : (rest.map fun v => v.category).sum ≤ 8) (hfr : 6 ≤ fr) (hlo : 120 ≤ lo) :
    W p l e ({ frames := fr, cells := mc, slots := ms, locals := lo } : Room) s m args below meth c H locs cells slots (vx_MQ below (zQX D dA b0 gs ev rr hh) (zXC D dA b0 gs rr hh) args s mc ms (zA b0)) (F0 m pc ls rest) := by
  obtain ⟨rfl, rfl, rfl, rfl⟩ := zth_i hf
  refine vx_throw0 (names := ["java/lang/RuntimeException", "java/lang/Exception"]) (cls := "java/lang/IndexOutOfBoundsException") (A := zA b0) hc.x hc.b hl hc.ow (by decide +kernel) (by decide +kernel) (hc.ts _ q398) (hc.ts _ q96) (hc.words _ _ zxa_1 zxb_1) (fun w hw => List.all_eq_true.mp zxc_1 w hw) (hc.xzq q316 q92 znr_2) (hc.xzq q318 q92 znr_3) hn.2.2.2 (by rw [hc.ml]; exact hls) d0 d3 d4 d7 hout (by show 5 < fr; omega) (by show _ + 81 ≤ lo; omega) (by show cells + 1 ≤ mc; omega) (by show slots + 6 ≤ ms; omega) hc.lk ?_ hn.2.2.2.2.2 (by omega) (by omega)
  intro t hW g1 g2 g3
  have hn1 : zM D dA b0 gs s (znx h) t.heap locs := hn.xpush g3 g2
  exact ⟨1, by rw [hn.1.1], rfl, hn1.w hc rfl hW, hn1.2.2.2.F rfl⟩
theorem zxa_2 : vx_at0 "CountedSkipLists" 9 "java/lang/IllegalArgumentException" ["java/lang/RuntimeException", "java/lang/Exception"] = [92, 311, 320, 327, 330, 332, 312, 313, 137, 138, 314, 319, 328, 345, 301, 346, 303, 347, 305, 315, 317, 307, 1117, 1118, 1119, 337, 292, 337, 338, 339, 340, 294, 340, 341, 342, 312, 296, 1116, 602, 603, 604, 324, 605, 606, 607, 608, 343, 309, 609].filterMap (fun i => lw_tbl[i]?) := by decide +kernel
theorem zxb_2 : (vx_at0 "CountedSkipLists" 9 "java/lang/IllegalArgumentException" ["java/lang/RuntimeException", "java/lang/Exception"]).all zokW = true := by decide +kernel
theorem zxc_2 : (Cond.classLink "CountedSkipLists" 7 "java/lang/IllegalArgumentException" :: Cond.initialized "java/lang/IllegalArgumentException" :: vx_at0 "CountedSkipLists" 9 "java/lang/IllegalArgumentException" ["java/lang/RuntimeException", "java/lang/Exception"]).all vx_ot = true := by decide +kernel
theorem zr_th2 {β : Type} {ev : β → Option Value} {rr : ZX β} {hh : PH} {C9 S9 fr lo mc ms : Nat} (hl : l.stackTraces = false) (hc : zC D dA b0 gs "CountedSkipLists" cc nL p c s m args meth) (hn : zM D dA b0 gs s h H locs) (hq : cells + C9 = mc ∧ slots + S9 = ms) (hf : zth 2 h = some (rr, hh, C9, S9)) (hout : ∀ x ∈ c.exceptionTable.toList, covers x (pc + 7) = false) (d0 : decode cc pc = .ok (.new 7, 3)) (d3 : decode cc (pc + 3) = .ok (.dup, 1)) (d4 : decode cc (pc + 4) = .ok (.invokespecial 9, 3)) (d7 : decode cc (pc + 7) = .ok (.athrow, 1)) (hls : ls.size = nL) (hrm : (rest.map fun v => v.category).sum ≤ 8) (hfr : 6 ≤ fr) (hlo : 120 ≤ lo) :
    W p l e ({ frames := fr, cells := mc, slots := ms, locals := lo } : Room) s m args below meth c H locs cells slots (vx_MQ below (zQX D dA b0 gs ev rr hh) (zXC D dA b0 gs rr hh) args s mc ms (zA b0)) (F0 m pc ls rest) := by
  obtain ⟨rfl, rfl, rfl, rfl⟩ := zth_i hf
  refine vx_throw0 (names := ["java/lang/RuntimeException", "java/lang/Exception"]) (cls := "java/lang/IllegalArgumentException") (A := zA b0) hc.x hc.b hl hc.ow (by decide +kernel) (by decide +kernel) (hc.ts _ q1115) (hc.ts _ q111) (hc.words _ _ zxa_2 zxb_2) (fun w hw => List.all_eq_true.mp zxc_2 w hw) (hc.xzq q316 q92 znr_2) (hc.xzq q318 q92 znr_3) hn.2.2.2 (by rw [hc.ml]; exact hls) d0 d3 d4 d7 hout (by show 5 < fr; omega) (by show _ + 81 ≤ lo; omega) (by show cells + 1 ≤ mc; omega) (by show slots + 6 ≤ ms; omega) hc.lk ?_ hn.2.2.2.2.2 (by omega) (by omega)
  intro t hW g1 g2 g3
  have hn1 : zM D dA b0 gs s (znx h) t.heap locs := hn.xpush g3 g2
  exact ⟨2, by rw [hn.1.1], rfl, hn1.w hc rfl hW, hn1.2.2.2.F rfl⟩
theorem zxa_3 : vx_at0 "CountedSkipLists" 12 "java/lang/IllegalStateException" ["java/lang/RuntimeException", "java/lang/Exception"] = [92, 311, 320, 327, 330, 332, 312, 313, 137, 138, 314, 319, 328, 345, 301, 346, 303, 347, 305, 315, 317, 307, 334, 335, 336, 337, 292, 337, 338, 339, 340, 294, 340, 341, 342, 312, 296, 333, 290, 291, 298, 299, 300, 302, 304, 306, 343, 309, 308].filterMap (fun i => lw_tbl[i]?) := by decide +kernel
theorem zxb_3 : (vx_at0 "CountedSkipLists" 12 "java/lang/IllegalStateException" ["java/lang/RuntimeException", "java/lang/Exception"]).all zokW = true := by decide +kernel
theorem zxc_3 : (Cond.classLink "CountedSkipLists" 10 "java/lang/IllegalStateException" :: Cond.initialized "java/lang/IllegalStateException" :: vx_at0 "CountedSkipLists" 12 "java/lang/IllegalStateException" ["java/lang/RuntimeException", "java/lang/Exception"]).all vx_ot = true := by decide +kernel
theorem zr_th3 {β : Type} {ev : β → Option Value} {rr : ZX β} {hh : PH} {C9 S9 fr lo mc ms : Nat} (hl : l.stackTraces = false) (hc : zC D dA b0 gs "CountedSkipLists" cc nL p c s m args meth) (hn : zM D dA b0 gs s h H locs) (hq : cells + C9 = mc ∧ slots + S9 = ms) (hf : zth 3 h = some (rr, hh, C9, S9)) (hout : ∀ x ∈ c.exceptionTable.toList, covers x (pc + 7) = false) (d0 : decode cc pc = .ok (.new 10, 3)) (d3 : decode cc (pc + 3) = .ok (.dup, 1)) (d4 : decode cc (pc + 4) = .ok (.invokespecial 12, 3)) (d7 : decode cc (pc + 7) = .ok (.athrow, 1)) (hls : ls.size = nL) (hrm : (rest.map fun v => v.category).sum ≤ 8) (hfr : 6 ≤ fr) (hlo : 120 ≤ lo) :
    W p l e ({ frames := fr, cells := mc, slots := ms, locals := lo } : Room) s m args below meth c H locs cells slots (vx_MQ below (zQX D dA b0 gs ev rr hh) (zXC D dA b0 gs rr hh) args s mc ms (zA b0)) (F0 m pc ls rest) := by
  obtain ⟨rfl, rfl, rfl, rfl⟩ := zth_i hf
  refine vx_throw0 (names := ["java/lang/RuntimeException", "java/lang/Exception"]) (cls := "java/lang/IllegalStateException") (A := zA b0) hc.x hc.b hl hc.ow (by decide +kernel) (by decide +kernel) (hc.ts _ q289) (hc.ts _ q95) (hc.words _ _ zxa_3 zxb_3) (fun w hw => List.all_eq_true.mp zxc_3 w hw) (hc.xzq q316 q92 znr_2) (hc.xzq q318 q92 znr_3) hn.2.2.2 (by rw [hc.ml]; exact hls) d0 d3 d4 d7 hout (by show 5 < fr; omega) (by show _ + 81 ≤ lo; omega) (by show cells + 1 ≤ mc; omega) (by show slots + 6 ≤ ms; omega) hc.lk ?_ hn.2.2.2.2.2 (by omega) (by omega)
  intro t hW g1 g2 g3
  have hn1 : zM D dA b0 gs s (znx h) t.heap locs := hn.xpush g3 g2
  exact ⟨3, by rw [hn.1.1], rfl, hn1.w hc rfl hW, hn1.2.2.2.F rfl⟩
theorem zxa_4 : vx_at0 "CountedSkipLists" 15 "java/util/NoSuchElementException" ["java/lang/RuntimeException", "java/lang/Exception"] = [92, 311, 320, 327, 330, 332, 312, 313, 137, 138, 314, 319, 328, 345, 301, 346, 303, 347, 305, 315, 317, 307, 1158, 1159, 1160, 337, 292, 337, 338, 339, 340, 294, 340, 341, 342, 312, 296, 1157, 1149, 1150, 1151, 326, 1152, 1153, 1154, 1155, 343, 309, 1156].filterMap (fun i => lw_tbl[i]?) := by decide +kernel
theorem zxb_4 : (vx_at0 "CountedSkipLists" 15 "java/util/NoSuchElementException" ["java/lang/RuntimeException", "java/lang/Exception"]).all zokW = true := by decide +kernel
theorem zxc_4 : (Cond.classLink "CountedSkipLists" 13 "java/util/NoSuchElementException" :: Cond.initialized "java/util/NoSuchElementException" :: vx_at0 "CountedSkipLists" 15 "java/util/NoSuchElementException" ["java/lang/RuntimeException", "java/lang/Exception"]).all vx_ot = true := by decide +kernel
theorem zr_th4 {β : Type} {ev : β → Option Value} {rr : ZX β} {hh : PH} {C9 S9 fr lo mc ms : Nat} (hl : l.stackTraces = false) (hc : zC D dA b0 gs "CountedSkipLists" cc nL p c s m args meth) (hn : zM D dA b0 gs s h H locs) (hq : cells + C9 = mc ∧ slots + S9 = ms) (hf : zth 4 h = some (rr, hh, C9, S9)) (hout : ∀ x ∈ c.exceptionTable.toList, covers x (pc + 7) = false) (d0 : decode cc pc = .ok (.new 13, 3)) (d3 : decode cc (pc + 3) = .ok (.dup, 1)) (d4 : decode cc (pc + 4) = .ok (.invokespecial 15, 3)) (d7 : decode cc (pc + 7) = .ok (.athrow, 1)) (hls : ls.size = nL) (hrm : (rest.map fun v => v.category).sum ≤ 8) (hfr : 6 ≤ fr) (hlo : 120 ≤ lo) :
    W p l e ({ frames := fr, cells := mc, slots := ms, locals := lo } : Room) s m args below meth c H locs cells slots (vx_MQ below (zQX D dA b0 gs ev rr hh) (zXC D dA b0 gs rr hh) args s mc ms (zA b0)) (F0 m pc ls rest) := by
  obtain ⟨rfl, rfl, rfl, rfl⟩ := zth_i hf
  refine vx_throw0 (names := ["java/lang/RuntimeException", "java/lang/Exception"]) (cls := "java/util/NoSuchElementException") (A := zA b0) hc.x hc.b hl hc.ow (by decide +kernel) (by decide +kernel) (hc.ts _ q1148) (hc.ts _ q121) (hc.words _ _ zxa_4 zxb_4) (fun w hw => List.all_eq_true.mp zxc_4 w hw) (hc.xzq q316 q92 znr_2) (hc.xzq q318 q92 znr_3) hn.2.2.2 (by rw [hc.ml]; exact hls) d0 d3 d4 d7 hout (by show 5 < fr; omega) (by show _ + 81 ≤ lo; omega) (by show cells + 1 ≤ mc; omega) (by show slots + 6 ≤ ms; omega) hc.lk ?_ hn.2.2.2.2.2 (by omega) (by omega)
  intro t hW g1 g2 g3
  have hn1 : zM D dA b0 gs s (znx h) t.heap locs := hn.xpush g3 g2
  exact ⟨4, by rw [hn.1.1], rfl, hn1.w hc rfl hW, hn1.2.2.2.F rfl⟩
theorem znc_1_2 : (Cond.not (.castable "java/lang/IndexOutOfBoundsException" "java/lang/IllegalArgumentException")) ∈ flatC zNar := by decide +kernel
theorem znc_1_3 : (Cond.not (.castable "java/lang/IndexOutOfBoundsException" "java/lang/IllegalStateException")) ∈ flatC zNar := by decide +kernel
theorem znc_1_4 : (Cond.not (.castable "java/lang/IndexOutOfBoundsException" "java/util/NoSuchElementException")) ∈ flatC zNar := by decide +kernel
theorem znc_2_1 : (Cond.not (.castable "java/lang/IllegalArgumentException" "java/lang/IndexOutOfBoundsException")) ∈ flatC zNar := by decide +kernel
theorem znc_2_3 : (Cond.not (.castable "java/lang/IllegalArgumentException" "java/lang/IllegalStateException")) ∈ flatC zNar := by decide +kernel
theorem znc_2_4 : (Cond.not (.castable "java/lang/IllegalArgumentException" "java/util/NoSuchElementException")) ∈ flatC zNar := by decide +kernel
theorem znc_3_1 : (Cond.not (.castable "java/lang/IllegalStateException" "java/lang/IndexOutOfBoundsException")) ∈ flatC zNar := by decide +kernel
theorem znc_3_2 : (Cond.not (.castable "java/lang/IllegalStateException" "java/lang/IllegalArgumentException")) ∈ flatC zNar := by decide +kernel
theorem znc_3_4 : (Cond.not (.castable "java/lang/IllegalStateException" "java/util/NoSuchElementException")) ∈ flatC zNar := by decide +kernel
theorem znc_4_1 : (Cond.not (.castable "java/util/NoSuchElementException" "java/lang/IndexOutOfBoundsException")) ∈ flatC zNar := by decide +kernel
theorem znc_4_2 : (Cond.not (.castable "java/util/NoSuchElementException" "java/lang/IllegalArgumentException")) ∈ flatC zNar := by decide +kernel
theorem znc_4_3 : (Cond.not (.castable "java/util/NoSuchElementException" "java/lang/IllegalStateException")) ∈ flatC zNar := by decide +kernel
/-- behind a call that may throw -/
theorem zx_back {β : Type} {ev : β → Option Value} {rr : ZX β} {h1 : PH} {mc ms : Nat} {av : Array Value} {st0 : List Value} (hn : zM D dA b0 gs s h H locs) (hr : vx_Run p l e R s m args below meth c H locs cells slots mc ms (F0 m pc ls st0) rest (zQX D dA b0 gs ev rr h1 av) (zXC D dA b0 gs rr h1) (zA b0))
    (k1 : ∀ r : β, rr = .inl r → ∀ (H1 : Heap) (locs1 : List Loc), zM D dA b0 gs s h1 H1 locs1 → W p l e R s m args below meth c H1 locs1 (cells + mc) (slots + ms) Q (F0 m (pc + 3) ls ((ev r).toList ++ rest)))
    (k2 : ∀ (e9 q : Nat) (ce : Cell), rr = .inr (e9, q) → ∀ (H1 : Heap) (locs1 : List Loc), zM D dA b0 gs s h1 H1 locs1 → H1[q]? = some ce → ce.vm = .none → s.vm.findClass (zE e9) = some ce.cls → vx_W p l e R s m args below meth c H1 locs1 (cells + mc) (slots + ms) Q (F0 m pc ls rest) q) : W p l e R s m args below meth c H locs cells slots Q (F0 m pc ls st0) := by
  have mk : ∀ {t T' : State} {L : List Loc}, T'.heap = t.heap → zW D dA b0 gs h1 t → H.size ≤ t.heap.size → (∀ q : Nat, q < H.size → ¬ zA b0 q → t.heap[q]? = H[q]?) → (∀ q ∈ L, zA b0 q.base) → zM D dA b0 gs s h1 T'.heap (locs ++ L) := by
    intro t T' L e1 ww hz hk hL
    obtain ⟨w1, w2, w3, -⟩ := ww
    obtain ⟨-, -, -, n4⟩ := hn
    exact ⟨by rw [e1]; exact w1, w2, w3, Nat.le_trans n4.1 (by rw [e1]; exact hz), fun q g1 g2 => by rw [e1, hk q (Nat.lt_of_lt_of_le g1 n4.1) g2]; exact n4.2.1 q g1 g2, fun q hq => by
      rcases List.mem_append.mp hq with g | g
      · exact n4.2.2 q g
      · exact hL q g⟩
  intro T hT X
  rcases hr T hT X with ⟨v9, st₀, t, T', L, h0, X', hL, e1, e2, ⟨r, hr9, hv, ww, hz, hk⟩, st⟩ | ⟨q, st₀, t, T', L, E, ce, h0, X', hL, e1, e2, ⟨e9, hr9, hE, ww, hz, hk⟩, hce, hcv, hcl, st⟩
  · cases hv
    rw [h0] at hz hk
    obtain ⟨t2, a1, b1⟩ := k1 r hr9 T'.heap (locs ++ L) (mk e1 ww hz hk hL) T' rfl X'
    exact ⟨t2, st t2 a1, b1⟩
  · rw [h0] at hz hk
    subst hE
    obtain ⟨t2, a1, b1⟩ := k2 e9 q ce hr9 T'.heap (locs ++ L) (mk e1 ww hz hk hL) (by rw [e1]; exact hce) hcv hcl T' rfl X'
    exact ⟨t2, st.trans a1, b1⟩
theorem zcx_i {α β : Type} {x : ZR (ZX β)} {k : β → PH → ZR (ZX α)} {rr : ZX α} {hh : PH} {C S : Nat} (q : zcx x k = some (rr, hh, C, S)) : ∃ (r1 : ZX β) (h1 : PH) (c s : Nat), x = some (r1, h1, c, s) ∧ ((∃ r C1 S1, r1 = .inl r ∧ k r h1 = some (rr, hh, C1, S1) ∧ C = c + C1 ∧ S = s + S1) ∨ ∃ e, r1 = .inr e ∧ rr = .inr e ∧ hh = h1 ∧ C = c ∧ S = s) := by
  cases x with
  | none => cases q
  | some z =>
    obtain ⟨r1, h1, c, s⟩ := z
    refine ⟨r1, h1, c, s, rfl, ?_⟩
    cases r1 with
    | inl r =>
      obtain ⟨C1, S1, q1, q2, q3⟩ := zadd_i q
      exact Or.inl ⟨r, C1, S1, rfl, q1, q2, q3⟩
    | inr e =>
      cases q
      exact Or.inr ⟨e, rfl, rfl, rfl, rfl, rfl⟩
theorem zch_i {α β : Type} {x : ZR (ZX β)} {k : β → PH → ZR α} {kx : Nat → Nat → PH → ZR α} {rr : α} {hh : PH} {C S : Nat} (q : zch x k kx = some (rr, hh, C, S)) : ∃ (r1 : ZX β) (h1 : PH) (c s C1 S1 : Nat), x = some (r1, h1, c, s) ∧ C = c + C1 ∧ S = s + S1 ∧ ((∃ r, r1 = .inl r ∧ k r h1 = some (rr, hh, C1, S1)) ∨ ∃ e9 q9, r1 = .inr (e9, q9) ∧ kx e9 q9 h1 = some (rr, hh, C1, S1)) := by
  cases x with
  | none => cases q
  | some z =>
    obtain ⟨r1, h1, c, s⟩ := z
    cases r1 with
    | inl r =>
      obtain ⟨C1, S1, q1, q2, q3⟩ := zadd_i q
      exact ⟨_, h1, c, s, C1, S1, rfl, q2, q3, Or.inl ⟨r, rfl, q1⟩⟩
    | inr e =>
      obtain ⟨e9, q9⟩ := e
      obtain ⟨C1, S1, q1, q2, q3⟩ := zadd_i q
      exact ⟨_, h1, c, s, C1, S1, rfl, q2, q3, Or.inr ⟨e9, q9, rfl, q1⟩⟩
/-- not caught here: on to the caller -/
theorem zx_out {β : Type} {ev : β → Option Value} {rr : ZX β} {e9 q mc ms : Nat} {ce : Cell} (hc : zC D dA b0 gs own cc nL p c s m args meth) (hn : zM D dA b0 gs s h H locs) (hrr : rr = .inr (e9, q)) (hce : H[q]? = some ce) (hcv : ce.vm = .none) (hcl : s.vm.findClass (zE e9) = some ce.cls) (hout : ∀ x ∈ c.exceptionTable.toList, covers x pc = false) (h1 : cells ≤ mc) (h2 : slots ≤ ms) : vx_W p l e R s m args below meth c H locs cells slots (vx_MQ below (zQX D dA b0 gs ev rr h) (zXC D dA b0 gs rr h) args s mc ms (zA b0)) (F0 m pc ls rest) q :=
  vx_out hout hc.lk hce hcv hcl (fun t ht hW => ⟨e9, hrr, rfl, hn.w hc ht hW, hn.2.2.2.F ht⟩) hn.2.2.2.2.2 h1 h2
theorem zx_VI {b ci N : Nat} {C : String} {T : u_T} {α : Type} {ev9 : α → Option Value} {K : Int32 → PH → ZR (ZX α)} {rr : ZX α} {hh : PH} {x : ZR (ZX Int32)} {C9 S9 fr lo mc ms n maxL index fr1 lo1 : Nat} {y : MethodName} {bytes : ByteArray} {ret : Option FieldType} {As : List Value} {st0 : List Value} (hc : zC D dA b0 gs own cc nL p c s m args meth) (hn : zM D dA b0 gs s h H locs) (hq : cells + C9 = mc ∧ slots + S9 = ms) (hout : ∀ x ∈ c.exceptionTable.toList, covers x pc = false) (hcl : vwCl[ci]? = some (C, T, N)) (hd : y.cls = C ∧ y.cls ≠ "java/lang/invoke/MethodHandle" ∧ y.cls ≠ "java/lang/invoke/VarHandle" ∧ (parseMethodDescriptor y.desc).map (fun d => d.parameters.length) = some n) (hw : GoodIn lw_all (wsV own index C y (ws_ y bytes maxL ret))) (hfr : fr1 + 1 ≤ fr) (hlo : 8 + (maxL + 11) + lo1 ≤ lo)
    (hM : ∀ r1 h1 c1 s1, x = some (r1, h1, c1, s1) → zMx l D dA b0 gs y (ws_ y bytes maxL ret) fr1 lo1 (.ref b :: As) h evI r1 h1 c1 s1) (hf : zrc h b ci (zcx x K) = some (rr, hh, C9, S9)) (hdg : decode cc pc = .ok (.invokevirtual index, 3)) (hls : ls.size = nL) (hst : st0 = As.reverse ++ .ref b :: rest) (hnA : As.length = n) (hrm : (rest.map fun v => v.category).sum ≤ 8)
    (kk : ∀ (r1 : Int32) (h1 : PH) (H1 : Heap) (locs1 : List Loc) (cells1 slots1 C1 S1 : Nat), K r1 h1 = some (rr, hh, C1, S1) → cells1 + C1 = mc ∧ slots1 + S1 = ms → zM D dA b0 gs s h1 H1 locs1 → W p l e ({ frames := fr, cells := mc, slots := ms, locals := lo } : Room) s m args below meth c H1 locs1 cells1 slots1 (vx_MQ below (zQX D dA b0 gs ev9 rr hh) (zXC D dA b0 gs rr hh) args s mc ms (zA b0)) (F0 m (pc + 3) ls (.int r1 :: rest))) : W p l e ({ frames := fr, cells := mc, slots := ms, locals := lo } : Room) s m args below meth c H locs cells slots (vx_MQ below (zQX D dA b0 gs ev9 rr hh) (zXC D dA b0 gs rr hh) args s mc ms (zA b0)) (F0 m pc ls st0) := by
  unfold zrc at hf
  split at hf
  · rename_i hb9
    obtain ⟨r9, h1, c1, s1, q1, hcase⟩ := zcx_i hf
    have hle : cells + c1 ≤ mc ∧ slots + s1 ≤ ms := by
      rcases hcase with ⟨r, C1, S1, g1, g2, g3, g4⟩ | ⟨e9, g1, g2, g3, g4, g5⟩
      · omega
      · omega
    refine zx_back hn (vx_runV (As := As) (rest := rest) hc.1 (hM r9 h1 c1 s1 q1) (cwV n hc.ts hw rfl rfl rfl hd ⟨hfr, hlo⟩) ⟨zW_blind, hn.recv hc hcl hb9, hn.pre hc⟩ rfl hnA hls hst (lv_room hrm) hdg ⟨hle.1, hle.2⟩) (fun r hr9 H1 locs1 hn1 => ?_) (fun e9 q ce hr9 H1 locs1 hn1 g5 g6 g7 => ?_)
    · rcases hcase with ⟨r', C1, S1, g1, g2, g3, g4⟩ | ⟨e', g1, -⟩
      · rw [hr9] at g1
        cases g1
        exact kk r h1 H1 locs1 _ _ C1 S1 g2 ⟨by omega, by omega⟩ hn1
      · rw [hr9] at g1
        cases g1
    · rcases hcase with ⟨r', C1, S1, g1, -⟩ | ⟨e', g1, g2, g3, g4, g8⟩
      · rw [hr9] at g1
        cases g1
      · rw [hr9] at g1
        cases g1
        subst g3
        exact zx_out hc hn1 g2 g5 g6 g7 hout hle.1 hle.2
  · cases hf
theorem zx_SI {α : Type} {ev9 : α → Option Value} {K : Int32 → PH → ZR (ZX α)} {rr : ZX α} {hh : PH} {x : ZR (ZX Int32)} {C9 S9 fr lo mc ms n maxL index fr1 lo1 : Nat} {y : MethodName} {bytes : ByteArray} {ret : Option FieldType} {As : List Value} {st0 : List Value} (hc : zC D dA b0 gs own cc nL p c s m args meth) (hn : zM D dA b0 gs s h H locs) (hq : cells + C9 = mc ∧ slots + S9 = ms) (hout : ∀ x ∈ c.exceptionTable.toList, covers x pc = false) (hd : y.cls ≠ "java/lang/invoke/MethodHandle" ∧ y.cls ≠ "java/lang/invoke/VarHandle" ∧ (parseMethodDescriptor y.desc).map (fun d => d.parameters.length) = some n) (hw : GoodIn lw_all (va_wsS own index y (ws_ y bytes maxL ret))) (hfr : fr1 + 1 ≤ fr) (hlo : 8 + (maxL + 11) + lo1 ≤ lo)
    (hM : ∀ r1 h1 c1 s1, x = some (r1, h1, c1, s1) → zMx l D dA b0 gs y (ws_ y bytes maxL ret) fr1 lo1 As h evI r1 h1 c1 s1) (hf : (zcx x K) = some (rr, hh, C9, S9)) (hdg : decode cc pc = .ok (.invokestatic index, 3)) (hls : ls.size = nL) (hst : st0 = As.reverse ++ rest) (hnA : As.length = n) (hrm : (rest.map fun v => v.category).sum ≤ 8)
    (kk : ∀ (r1 : Int32) (h1 : PH) (H1 : Heap) (locs1 : List Loc) (cells1 slots1 C1 S1 : Nat), K r1 h1 = some (rr, hh, C1, S1) → cells1 + C1 = mc ∧ slots1 + S1 = ms → zM D dA b0 gs s h1 H1 locs1 → W p l e ({ frames := fr, cells := mc, slots := ms, locals := lo } : Room) s m args below meth c H1 locs1 cells1 slots1 (vx_MQ below (zQX D dA b0 gs ev9 rr hh) (zXC D dA b0 gs rr hh) args s mc ms (zA b0)) (F0 m (pc + 3) ls (.int r1 :: rest))) : W p l e ({ frames := fr, cells := mc, slots := ms, locals := lo } : Room) s m args below meth c H locs cells slots (vx_MQ below (zQX D dA b0 gs ev9 rr hh) (zXC D dA b0 gs rr hh) args s mc ms (zA b0)) (F0 m pc ls st0) := by
  obtain ⟨r9, h1, c1, s1, q1, hcase⟩ := zcx_i hf
  have hle : cells + c1 ≤ mc ∧ slots + s1 ≤ ms := by
    rcases hcase with ⟨r, C1, S1, g1, g2, g3, g4⟩ | ⟨e9, g1, g2, g3, g4, g5⟩
    · omega
    · omega
  refine zx_back hn (vx_runS (As := As) (rest := rest) hc.1 (hM r9 h1 c1 s1 q1) (va_cwS n hc.ts hw rfl rfl rfl hd ⟨hfr, hlo⟩) ⟨zW_blind, hn.pre hc⟩ rfl hnA hls hst (lv_room hrm) hdg ⟨hle.1, hle.2⟩) (fun r hr9 H1 locs1 hn1 => ?_) (fun e9 q ce hr9 H1 locs1 hn1 g5 g6 g7 => ?_)
  · rcases hcase with ⟨r', C1, S1, g1, g2, g3, g4⟩ | ⟨e', g1, -⟩
    · rw [hr9] at g1
      cases g1
      exact kk r h1 H1 locs1 _ _ C1 S1 g2 ⟨by omega, by omega⟩ hn1
    · rw [hr9] at g1
      cases g1
  · rcases hcase with ⟨r', C1, S1, g1, -⟩ | ⟨e', g1, g2, g3, g4, g8⟩
    · rw [hr9] at g1
      cases g1
    · rw [hr9] at g1
      cases g1
      subst g3
      exact zx_out hc hn1 g2 g5 g6 g7 hout hle.1 hle.2
theorem zh_VI {b ci N : Nat} {C : String} {T : u_T} {α : Type} {K : Int32 → PH → ZR α} {Kx : Nat → Nat → PH → ZR α} {rr : α} {hh : PH} {x : ZR (ZX Int32)} {C9 S9 fr lo mc ms n maxL index fr1 lo1 : Nat} {y : MethodName} {bytes : ByteArray} {ret : Option FieldType} {As : List Value} {st0 : List Value} (hc : zC D dA b0 gs own cc nL p c s m args meth) (hn : zM D dA b0 gs s h H locs) (hq : cells + C9 = mc ∧ slots + S9 = ms)  (hcl : vwCl[ci]? = some (C, T, N)) (hd : y.cls = C ∧ y.cls ≠ "java/lang/invoke/MethodHandle" ∧ y.cls ≠ "java/lang/invoke/VarHandle" ∧ (parseMethodDescriptor y.desc).map (fun d => d.parameters.length) = some n) (hw : GoodIn lw_all (wsV own index C y (ws_ y bytes maxL ret))) (hfr : fr1 + 1 ≤ fr) (hlo : 8 + (maxL + 11) + lo1 ≤ lo)
    (hM : ∀ r1 h1 c1 s1, x = some (r1, h1, c1, s1) → zMx l D dA b0 gs y (ws_ y bytes maxL ret) fr1 lo1 (.ref b :: As) h evI r1 h1 c1 s1) (hf : zrc h b ci (zch x K Kx) = some (rr, hh, C9, S9)) (hdg : decode cc pc = .ok (.invokevirtual index, 3)) (hls : ls.size = nL) (hst : st0 = As.reverse ++ .ref b :: rest) (hnA : As.length = n) (hrm : (rest.map fun v => v.category).sum ≤ 8)
    (kk : ∀ (r1 : Int32) (h1 : PH) (H1 : Heap) (locs1 : List Loc) (cells1 slots1 C1 S1 : Nat), K r1 h1 = some (rr, hh, C1, S1) → cells1 + C1 = mc ∧ slots1 + S1 = ms → zM D dA b0 gs s h1 H1 locs1 → W p l e ({ frames := fr, cells := mc, slots := ms, locals := lo } : Room) s m args below meth c H1 locs1 cells1 slots1 Q (F0 m (pc + 3) ls (.int r1 :: rest)))
    (kx : ∀ (e9 q9 : Nat) (ce : Cell) (h1 : PH) (H1 : Heap) (locs1 : List Loc) (cells1 slots1 C1 S1 : Nat), Kx e9 q9 h1 = some (rr, hh, C1, S1) → cells1 + C1 = mc ∧ slots1 + S1 = ms → zM D dA b0 gs s h1 H1 locs1 → H1[q9]? = some ce → ce.vm = .none → s.vm.findClass (zE e9) = some ce.cls → vx_W p l e ({ frames := fr, cells := mc, slots := ms, locals := lo } : Room) s m args below meth c H1 locs1 cells1 slots1 Q (F0 m pc ls rest) q9) : W p l e ({ frames := fr, cells := mc, slots := ms, locals := lo } : Room) s m args below meth c H locs cells slots Q (F0 m pc ls st0) := by
  unfold zrc at hf
  split at hf
  · rename_i hb9
    obtain ⟨r9, h1, c1, s1, C1, S1, q1, q2, q3, hcase⟩ := zch_i hf
    have hle : cells + c1 ≤ mc ∧ slots + s1 ≤ ms := by omega
    refine zx_back hn (vx_runV (As := As) (rest := rest) hc.1 (hM r9 h1 c1 s1 q1) (cwV n hc.ts hw rfl rfl rfl hd ⟨hfr, hlo⟩) ⟨zW_blind, hn.recv hc hcl hb9, hn.pre hc⟩ rfl hnA hls hst (lv_room hrm) hdg ⟨hle.1, hle.2⟩) (fun r hr9 H1 locs1 hn1 => ?_) (fun e9 q ce hr9 H1 locs1 hn1 g5 g6 g7 => ?_)
    · rcases hcase with ⟨r', g1, g2⟩ | ⟨e', q', g1, -⟩
      · rw [hr9] at g1
        cases g1
        exact kk r h1 H1 locs1 _ _ C1 S1 g2 ⟨by omega, by omega⟩ hn1
      · rw [hr9] at g1
        cases g1
    · rcases hcase with ⟨r', g1, -⟩ | ⟨e', q', g1, g2⟩
      · rw [hr9] at g1
        cases g1
      · rw [hr9] at g1
        cases g1
        exact kx e9 q ce h1 H1 locs1 _ _ C1 S1 g2 ⟨by omega, by omega⟩ hn1 g5 g6 g7
  · cases hf
theorem zh_SI {α : Type} {K : Int32 → PH → ZR α} {Kx : Nat → Nat → PH → ZR α} {rr : α} {hh : PH} {x : ZR (ZX Int32)} {C9 S9 fr lo mc ms n maxL index fr1 lo1 : Nat} {y : MethodName} {bytes : ByteArray} {ret : Option FieldType} {As : List Value} {st0 : List Value} (hc : zC D dA b0 gs own cc nL p c s m args meth) (hn : zM D dA b0 gs s h H locs) (hq : cells + C9 = mc ∧ slots + S9 = ms)  (hd : y.cls ≠ "java/lang/invoke/MethodHandle" ∧ y.cls ≠ "java/lang/invoke/VarHandle" ∧ (parseMethodDescriptor y.desc).map (fun d => d.parameters.length) = some n) (hw : GoodIn lw_all (va_wsS own index y (ws_ y bytes maxL ret))) (hfr : fr1 + 1 ≤ fr) (hlo : 8 + (maxL + 11) + lo1 ≤ lo)
    (hM : ∀ r1 h1 c1 s1, x = some (r1, h1, c1, s1) → zMx l D dA b0 gs y (ws_ y bytes maxL ret) fr1 lo1 As h evI r1 h1 c1 s1) (hf : (zch x K Kx) = some (rr, hh, C9, S9)) (hdg : decode cc pc = .ok (.invokestatic index, 3)) (hls : ls.size = nL) (hst : st0 = As.reverse ++ rest) (hnA : As.length = n) (hrm : (rest.map fun v => v.category).sum ≤ 8)
    (kk : ∀ (r1 : Int32) (h1 : PH) (H1 : Heap) (locs1 : List Loc) (cells1 slots1 C1 S1 : Nat), K r1 h1 = some (rr, hh, C1, S1) → cells1 + C1 = mc ∧ slots1 + S1 = ms → zM D dA b0 gs s h1 H1 locs1 → W p l e ({ frames := fr, cells := mc, slots := ms, locals := lo } : Room) s m args below meth c H1 locs1 cells1 slots1 Q (F0 m (pc + 3) ls (.int r1 :: rest)))
    (kx : ∀ (e9 q9 : Nat) (ce : Cell) (h1 : PH) (H1 : Heap) (locs1 : List Loc) (cells1 slots1 C1 S1 : Nat), Kx e9 q9 h1 = some (rr, hh, C1, S1) → cells1 + C1 = mc ∧ slots1 + S1 = ms → zM D dA b0 gs s h1 H1 locs1 → H1[q9]? = some ce → ce.vm = .none → s.vm.findClass (zE e9) = some ce.cls → vx_W p l e ({ frames := fr, cells := mc, slots := ms, locals := lo } : Room) s m args below meth c H1 locs1 cells1 slots1 Q (F0 m pc ls rest) q9) : W p l e ({ frames := fr, cells := mc, slots := ms, locals := lo } : Room) s m args below meth c H locs cells slots Q (F0 m pc ls st0) := by
  obtain ⟨r9, h1, c1, s1, C1, S1, q1, q2, q3, hcase⟩ := zch_i hf
  have hle : cells + c1 ≤ mc ∧ slots + s1 ≤ ms := by omega
  refine zx_back hn (vx_runS (As := As) (rest := rest) hc.1 (hM r9 h1 c1 s1 q1) (va_cwS n hc.ts hw rfl rfl rfl hd ⟨hfr, hlo⟩) ⟨zW_blind, hn.pre hc⟩ rfl hnA hls hst (lv_room hrm) hdg ⟨hle.1, hle.2⟩) (fun r hr9 H1 locs1 hn1 => ?_) (fun e9 q ce hr9 H1 locs1 hn1 g5 g6 g7 => ?_)
  · rcases hcase with ⟨r', g1, g2⟩ | ⟨e', q', g1, -⟩
    · rw [hr9] at g1
      cases g1
      exact kk r h1 H1 locs1 _ _ C1 S1 g2 ⟨by omega, by omega⟩ hn1
    · rw [hr9] at g1
      cases g1
  · rcases hcase with ⟨r', g1, -⟩ | ⟨e', q', g1, g2⟩
    · rw [hr9] at g1
      cases g1
    · rw [hr9] at g1
      cases g1
      exact kx e9 q ce h1 H1 locs1 _ _ C1 S1 g2 ⟨by omega, by omega⟩ hn1 g5 g6 g7
theorem zh_VWI {b ci N : Nat} {C : String} {T : u_T} {ht9 : List (Nat × Nat × Nat × Nat)} {α : Type} {K : Int32 → PH → ZR α} {Kx : Nat → Nat → PH → ZR α} {rr : α} {hh : PH} {x : ZR (ZX Int32)} {C9 S9 fr lo mc ms n maxL index fr1 lo1 : Nat} {y : MethodName} {bytes : ByteArray} {ret : Option FieldType} {As : List Value} {st0 : List Value} (hc : zC D dA b0 gs own cc nL p c s m args meth) (hn : zM D dA b0 gs s h H locs) (hq : cells + C9 = mc ∧ slots + S9 = ms)  (hcl : vwCl[ci]? = some (C, T, N)) (hd : y.cls = C ∧ y.cls ≠ "java/lang/invoke/MethodHandle" ∧ y.cls ≠ "java/lang/invoke/VarHandle" ∧ (parseMethodDescriptor y.desc).map (fun d => d.parameters.length) = some n) (hw : GoodIn lw_all (wsV own index C y (wsW_ y bytes maxL ret ht9))) (hfr : fr1 + 1 ≤ fr) (hlo : 8 + (maxL + 11) + lo1 ≤ lo)
    (hM : ∀ r1 h1 c1 s1, x = some (r1, h1, c1, s1) → zMx l D dA b0 gs y (wsW_ y bytes maxL ret ht9) fr1 lo1 (.ref b :: As) h evI r1 h1 c1 s1) (hf : zrc h b ci (zch x K Kx) = some (rr, hh, C9, S9)) (hdg : decode cc pc = .ok (.invokevirtual index, 3)) (hls : ls.size = nL) (hst : st0 = As.reverse ++ .ref b :: rest) (hnA : As.length = n) (hrm : (rest.map fun v => v.category).sum ≤ 8)
    (kk : ∀ (r1 : Int32) (h1 : PH) (H1 : Heap) (locs1 : List Loc) (cells1 slots1 C1 S1 : Nat), K r1 h1 = some (rr, hh, C1, S1) → cells1 + C1 = mc ∧ slots1 + S1 = ms → zM D dA b0 gs s h1 H1 locs1 → W p l e ({ frames := fr, cells := mc, slots := ms, locals := lo } : Room) s m args below meth c H1 locs1 cells1 slots1 Q (F0 m (pc + 3) ls (.int r1 :: rest)))
    (kx : ∀ (e9 q9 : Nat) (ce : Cell) (h1 : PH) (H1 : Heap) (locs1 : List Loc) (cells1 slots1 C1 S1 : Nat), Kx e9 q9 h1 = some (rr, hh, C1, S1) → cells1 + C1 = mc ∧ slots1 + S1 = ms → zM D dA b0 gs s h1 H1 locs1 → H1[q9]? = some ce → ce.vm = .none → s.vm.findClass (zE e9) = some ce.cls → vx_W p l e ({ frames := fr, cells := mc, slots := ms, locals := lo } : Room) s m args below meth c H1 locs1 cells1 slots1 Q (F0 m pc ls rest) q9) : W p l e ({ frames := fr, cells := mc, slots := ms, locals := lo } : Room) s m args below meth c H locs cells slots Q (F0 m pc ls st0) := by
  unfold zrc at hf
  split at hf
  · rename_i hb9
    obtain ⟨r9, h1, c1, s1, C1, S1, q1, q2, q3, hcase⟩ := zch_i hf
    have hle : cells + c1 ≤ mc ∧ slots + s1 ≤ ms := by omega
    refine zx_back hn (vx_runVX (As := As) (rest := rest) hc.1 (hM r9 h1 c1 s1 q1) (vx_cwVW n hc.ts hw rfl rfl rfl hd ⟨hfr, hlo⟩) ⟨zW_blind, hn.recv hc hcl hb9, hn.pre hc⟩ rfl hnA hls hst (lv_room hrm) hdg ⟨hle.1, hle.2⟩) (fun r hr9 H1 locs1 hn1 => ?_) (fun e9 q ce hr9 H1 locs1 hn1 g5 g6 g7 => ?_)
    · rcases hcase with ⟨r', g1, g2⟩ | ⟨e', q', g1, -⟩
      · rw [hr9] at g1
        cases g1
        exact kk r h1 H1 locs1 _ _ C1 S1 g2 ⟨by omega, by omega⟩ hn1
      · rw [hr9] at g1
        cases g1
    · rcases hcase with ⟨r', g1, -⟩ | ⟨e', q', g1, g2⟩
      · rw [hr9] at g1
        cases g1
      · rw [hr9] at g1
        cases g1
        exact kx e9 q ce h1 H1 locs1 _ _ C1 S1 g2 ⟨by omega, by omega⟩ hn1 g5 g6 g7
  · cases hf
theorem zx_VP {b ci N : Nat} {C : String} {T : u_T} {α : Type} {ev9 : α → Option Value} {K : Option Nat → PH → ZR (ZX α)} {rr : ZX α} {hh : PH} {x : ZR (ZX (Option Nat))} {C9 S9 fr lo mc ms n maxL index fr1 lo1 : Nat} {y : MethodName} {bytes : ByteArray} {ret : Option FieldType} {As : List Value} {st0 : List Value} (hc : zC D dA b0 gs own cc nL p c s m args meth) (hn : zM D dA b0 gs s h H locs) (hq : cells + C9 = mc ∧ slots + S9 = ms) (hout : ∀ x ∈ c.exceptionTable.toList, covers x pc = false) (hcl : vwCl[ci]? = some (C, T, N)) (hd : y.cls = C ∧ y.cls ≠ "java/lang/invoke/MethodHandle" ∧ y.cls ≠ "java/lang/invoke/VarHandle" ∧ (parseMethodDescriptor y.desc).map (fun d => d.parameters.length) = some n) (hw : GoodIn lw_all (wsV own index C y (ws_ y bytes maxL ret))) (hfr : fr1 + 1 ≤ fr) (hlo : 8 + (maxL + 11) + lo1 ≤ lo)
    (hM : ∀ r1 h1 c1 s1, x = some (r1, h1, c1, s1) → zMx l D dA b0 gs y (ws_ y bytes maxL ret) fr1 lo1 (.ref b :: As) h evP r1 h1 c1 s1) (hf : zrc h b ci (zcx x K) = some (rr, hh, C9, S9)) (hdg : decode cc pc = .ok (.invokevirtual index, 3)) (hls : ls.size = nL) (hst : st0 = As.reverse ++ .ref b :: rest) (hnA : As.length = n) (hrm : (rest.map fun v => v.category).sum ≤ 8)
    (kk : ∀ (r1 : Option Nat) (h1 : PH) (H1 : Heap) (locs1 : List Loc) (cells1 slots1 C1 S1 : Nat), K r1 h1 = some (rr, hh, C1, S1) → cells1 + C1 = mc ∧ slots1 + S1 = ms → zM D dA b0 gs s h1 H1 locs1 → W p l e ({ frames := fr, cells := mc, slots := ms, locals := lo } : Room) s m args below meth c H1 locs1 cells1 slots1 (vx_MQ below (zQX D dA b0 gs ev9 rr hh) (zXC D dA b0 gs rr hh) args s mc ms (zA b0)) (F0 m (pc + 3) ls (va_rf r1 :: rest))) : W p l e ({ frames := fr, cells := mc, slots := ms, locals := lo } : Room) s m args below meth c H locs cells slots (vx_MQ below (zQX D dA b0 gs ev9 rr hh) (zXC D dA b0 gs rr hh) args s mc ms (zA b0)) (F0 m pc ls st0) := by
  unfold zrc at hf
  split at hf
  · rename_i hb9
    obtain ⟨r9, h1, c1, s1, q1, hcase⟩ := zcx_i hf
    have hle : cells + c1 ≤ mc ∧ slots + s1 ≤ ms := by
      rcases hcase with ⟨r, C1, S1, g1, g2, g3, g4⟩ | ⟨e9, g1, g2, g3, g4, g5⟩
      · omega
      · omega
    refine zx_back hn (vx_runV (As := As) (rest := rest) hc.1 (hM r9 h1 c1 s1 q1) (cwV n hc.ts hw rfl rfl rfl hd ⟨hfr, hlo⟩) ⟨zW_blind, hn.recv hc hcl hb9, hn.pre hc⟩ rfl hnA hls hst (lv_room hrm) hdg ⟨hle.1, hle.2⟩) (fun r hr9 H1 locs1 hn1 => ?_) (fun e9 q ce hr9 H1 locs1 hn1 g5 g6 g7 => ?_)
    · rcases hcase with ⟨r', C1, S1, g1, g2, g3, g4⟩ | ⟨e', g1, -⟩
      · rw [hr9] at g1
        cases g1
        exact kk r h1 H1 locs1 _ _ C1 S1 g2 ⟨by omega, by omega⟩ hn1
      · rw [hr9] at g1
        cases g1
    · rcases hcase with ⟨r', C1, S1, g1, -⟩ | ⟨e', g1, g2, g3, g4, g8⟩
      · rw [hr9] at g1
        cases g1
      · rw [hr9] at g1
        cases g1
        subst g3
        exact zx_out hc hn1 g2 g5 g6 g7 hout hle.1 hle.2
  · cases hf
theorem zx_SP {α : Type} {ev9 : α → Option Value} {K : Option Nat → PH → ZR (ZX α)} {rr : ZX α} {hh : PH} {x : ZR (ZX (Option Nat))} {C9 S9 fr lo mc ms n maxL index fr1 lo1 : Nat} {y : MethodName} {bytes : ByteArray} {ret : Option FieldType} {As : List Value} {st0 : List Value} (hc : zC D dA b0 gs own cc nL p c s m args meth) (hn : zM D dA b0 gs s h H locs) (hq : cells + C9 = mc ∧ slots + S9 = ms) (hout : ∀ x ∈ c.exceptionTable.toList, covers x pc = false) (hd : y.cls ≠ "java/lang/invoke/MethodHandle" ∧ y.cls ≠ "java/lang/invoke/VarHandle" ∧ (parseMethodDescriptor y.desc).map (fun d => d.parameters.length) = some n) (hw : GoodIn lw_all (va_wsS own index y (ws_ y bytes maxL ret))) (hfr : fr1 + 1 ≤ fr) (hlo : 8 + (maxL + 11) + lo1 ≤ lo)
    (hM : ∀ r1 h1 c1 s1, x = some (r1, h1, c1, s1) → zMx l D dA b0 gs y (ws_ y bytes maxL ret) fr1 lo1 As h evP r1 h1 c1 s1) (hf : (zcx x K) = some (rr, hh, C9, S9)) (hdg : decode cc pc = .ok (.invokestatic index, 3)) (hls : ls.size = nL) (hst : st0 = As.reverse ++ rest) (hnA : As.length = n) (hrm : (rest.map fun v => v.category).sum ≤ 8)
    (kk : ∀ (r1 : Option Nat) (h1 : PH) (H1 : Heap) (locs1 : List Loc) (cells1 slots1 C1 S1 : Nat), K r1 h1 = some (rr, hh, C1, S1) → cells1 + C1 = mc ∧ slots1 + S1 = ms → zM D dA b0 gs s h1 H1 locs1 → W p l e ({ frames := fr, cells := mc, slots := ms, locals := lo } : Room) s m args below meth c H1 locs1 cells1 slots1 (vx_MQ below (zQX D dA b0 gs ev9 rr hh) (zXC D dA b0 gs rr hh) args s mc ms (zA b0)) (F0 m (pc + 3) ls (va_rf r1 :: rest))) : W p l e ({ frames := fr, cells := mc, slots := ms, locals := lo } : Room) s m args below meth c H locs cells slots (vx_MQ below (zQX D dA b0 gs ev9 rr hh) (zXC D dA b0 gs rr hh) args s mc ms (zA b0)) (F0 m pc ls st0) := by
  obtain ⟨r9, h1, c1, s1, q1, hcase⟩ := zcx_i hf
  have hle : cells + c1 ≤ mc ∧ slots + s1 ≤ ms := by
    rcases hcase with ⟨r, C1, S1, g1, g2, g3, g4⟩ | ⟨e9, g1, g2, g3, g4, g5⟩
    · omega
    · omega
  refine zx_back hn (vx_runS (As := As) (rest := rest) hc.1 (hM r9 h1 c1 s1 q1) (va_cwS n hc.ts hw rfl rfl rfl hd ⟨hfr, hlo⟩) ⟨zW_blind, hn.pre hc⟩ rfl hnA hls hst (lv_room hrm) hdg ⟨hle.1, hle.2⟩) (fun r hr9 H1 locs1 hn1 => ?_) (fun e9 q ce hr9 H1 locs1 hn1 g5 g6 g7 => ?_)
  · rcases hcase with ⟨r', C1, S1, g1, g2, g3, g4⟩ | ⟨e', g1, -⟩
    · rw [hr9] at g1
      cases g1
      exact kk r h1 H1 locs1 _ _ C1 S1 g2 ⟨by omega, by omega⟩ hn1
    · rw [hr9] at g1
      cases g1
  · rcases hcase with ⟨r', C1, S1, g1, -⟩ | ⟨e', g1, g2, g3, g4, g8⟩
    · rw [hr9] at g1
      cases g1
    · rw [hr9] at g1
      cases g1
      subst g3
      exact zx_out hc hn1 g2 g5 g6 g7 hout hle.1 hle.2
theorem zh_VP {b ci N : Nat} {C : String} {T : u_T} {α : Type} {K : Option Nat → PH → ZR α} {Kx : Nat → Nat → PH → ZR α} {rr : α} {hh : PH} {x : ZR (ZX (Option Nat))} {C9 S9 fr lo mc ms n maxL index fr1 lo1 : Nat} {y : MethodName} {bytes : ByteArray} {ret : Option FieldType} {As : List Value} {st0 : List Value} (hc : zC D dA b0 gs own cc nL p c s m args meth) (hn : zM D dA b0 gs s h H locs) (hq : cells + C9 = mc ∧ slots + S9 = ms)  (hcl : vwCl[ci]? = some (C, T, N)) (hd : y.cls = C ∧ y.cls ≠ "java/lang/invoke/MethodHandle" ∧ y.cls ≠ "java/lang/invoke/VarHandle" ∧ (parseMethodDescriptor y.desc).map (fun d => d.parameters.length) = some n) (hw : GoodIn lw_all (wsV own index C y (ws_ y bytes maxL ret))) (hfr : fr1 + 1 ≤ fr) (hlo : 8 + (maxL + 11) + lo1 ≤ lo)
    (hM : ∀ r1 h1 c1 s1, x = some (r1, h1, c1, s1) → zMx l D dA b0 gs y (ws_ y bytes maxL ret) fr1 lo1 (.ref b :: As) h evP r1 h1 c1 s1) (hf : zrc h b ci (zch x K Kx) = some (rr, hh, C9, S9)) (hdg : decode cc pc = .ok (.invokevirtual index, 3)) (hls : ls.size = nL) (hst : st0 = As.reverse ++ .ref b :: rest) (hnA : As.length = n) (hrm : (rest.map fun v => v.category).sum ≤ 8)
    (kk : ∀ (r1 : Option Nat) (h1 : PH) (H1 : Heap) (locs1 : List Loc) (cells1 slots1 C1 S1 : Nat), K r1 h1 = some (rr, hh, C1, S1) → cells1 + C1 = mc ∧ slots1 + S1 = ms → zM D dA b0 gs s h1 H1 locs1 → W p l e ({ frames := fr, cells := mc, slots := ms, locals := lo } : Room) s m args below meth c H1 locs1 cells1 slots1 Q (F0 m (pc + 3) ls (va_rf r1 :: rest)))
    (kx : ∀ (e9 q9 : Nat) (ce : Cell) (h1 : PH) (H1 : Heap) (locs1 : List Loc) (cells1 slots1 C1 S1 : Nat), Kx e9 q9 h1 = some (rr, hh, C1, S1) → cells1 + C1 = mc ∧ slots1 + S1 = ms → zM D dA b0 gs s h1 H1 locs1 → H1[q9]? = some ce → ce.vm = .none → s.vm.findClass (zE e9) = some ce.cls → vx_W p l e ({ frames := fr, cells := mc, slots := ms, locals := lo } : Room) s m args below meth c H1 locs1 cells1 slots1 Q (F0 m pc ls rest) q9) : W p l e ({ frames := fr, cells := mc, slots := ms, locals := lo } : Room) s m args below meth c H locs cells slots Q (F0 m pc ls st0) := by
  unfold zrc at hf
  split at hf
  · rename_i hb9
    obtain ⟨r9, h1, c1, s1, C1, S1, q1, q2, q3, hcase⟩ := zch_i hf
    have hle : cells + c1 ≤ mc ∧ slots + s1 ≤ ms := by omega
    refine zx_back hn (vx_runV (As := As) (rest := rest) hc.1 (hM r9 h1 c1 s1 q1) (cwV n hc.ts hw rfl rfl rfl hd ⟨hfr, hlo⟩) ⟨zW_blind, hn.recv hc hcl hb9, hn.pre hc⟩ rfl hnA hls hst (lv_room hrm) hdg ⟨hle.1, hle.2⟩) (fun r hr9 H1 locs1 hn1 => ?_) (fun e9 q ce hr9 H1 locs1 hn1 g5 g6 g7 => ?_)
    · rcases hcase with ⟨r', g1, g2⟩ | ⟨e', q', g1, -⟩
      · rw [hr9] at g1
        cases g1
        exact kk r h1 H1 locs1 _ _ C1 S1 g2 ⟨by omega, by omega⟩ hn1
      · rw [hr9] at g1
        cases g1
    · rcases hcase with ⟨r', g1, -⟩ | ⟨e', q', g1, g2⟩
      · rw [hr9] at g1
        cases g1
      · rw [hr9] at g1
        cases g1
        exact kx e9 q ce h1 H1 locs1 _ _ C1 S1 g2 ⟨by omega, by omega⟩ hn1 g5 g6 g7
  · cases hf
theorem zh_SP {α : Type} {K : Option Nat → PH → ZR α} {Kx : Nat → Nat → PH → ZR α} {rr : α} {hh : PH} {x : ZR (ZX (Option Nat))} {C9 S9 fr lo mc ms n maxL index fr1 lo1 : Nat} {y : MethodName} {bytes : ByteArray} {ret : Option FieldType} {As : List Value} {st0 : List Value} (hc : zC D dA b0 gs own cc nL p c s m args meth) (hn : zM D dA b0 gs s h H locs) (hq : cells + C9 = mc ∧ slots + S9 = ms)  (hd : y.cls ≠ "java/lang/invoke/MethodHandle" ∧ y.cls ≠ "java/lang/invoke/VarHandle" ∧ (parseMethodDescriptor y.desc).map (fun d => d.parameters.length) = some n) (hw : GoodIn lw_all (va_wsS own index y (ws_ y bytes maxL ret))) (hfr : fr1 + 1 ≤ fr) (hlo : 8 + (maxL + 11) + lo1 ≤ lo)
    (hM : ∀ r1 h1 c1 s1, x = some (r1, h1, c1, s1) → zMx l D dA b0 gs y (ws_ y bytes maxL ret) fr1 lo1 As h evP r1 h1 c1 s1) (hf : (zch x K Kx) = some (rr, hh, C9, S9)) (hdg : decode cc pc = .ok (.invokestatic index, 3)) (hls : ls.size = nL) (hst : st0 = As.reverse ++ rest) (hnA : As.length = n) (hrm : (rest.map fun v => v.category).sum ≤ 8)
    (kk : ∀ (r1 : Option Nat) (h1 : PH) (H1 : Heap) (locs1 : List Loc) (cells1 slots1 C1 S1 : Nat), K r1 h1 = some (rr, hh, C1, S1) → cells1 + C1 = mc ∧ slots1 + S1 = ms → zM D dA b0 gs s h1 H1 locs1 → W p l e ({ frames := fr, cells := mc, slots := ms, locals := lo } : Room) s m args below meth c H1 locs1 cells1 slots1 Q (F0 m (pc + 3) ls (va_rf r1 :: rest)))
    (kx : ∀ (e9 q9 : Nat) (ce : Cell) (h1 : PH) (H1 : Heap) (locs1 : List Loc) (cells1 slots1 C1 S1 : Nat), Kx e9 q9 h1 = some (rr, hh, C1, S1) → cells1 + C1 = mc ∧ slots1 + S1 = ms → zM D dA b0 gs s h1 H1 locs1 → H1[q9]? = some ce → ce.vm = .none → s.vm.findClass (zE e9) = some ce.cls → vx_W p l e ({ frames := fr, cells := mc, slots := ms, locals := lo } : Room) s m args below meth c H1 locs1 cells1 slots1 Q (F0 m pc ls rest) q9) : W p l e ({ frames := fr, cells := mc, slots := ms, locals := lo } : Room) s m args below meth c H locs cells slots Q (F0 m pc ls st0) := by
  obtain ⟨r9, h1, c1, s1, C1, S1, q1, q2, q3, hcase⟩ := zch_i hf
  have hle : cells + c1 ≤ mc ∧ slots + s1 ≤ ms := by omega
  refine zx_back hn (vx_runS (As := As) (rest := rest) hc.1 (hM r9 h1 c1 s1 q1) (va_cwS n hc.ts hw rfl rfl rfl hd ⟨hfr, hlo⟩) ⟨zW_blind, hn.pre hc⟩ rfl hnA hls hst (lv_room hrm) hdg ⟨hle.1, hle.2⟩) (fun r hr9 H1 locs1 hn1 => ?_) (fun e9 q ce hr9 H1 locs1 hn1 g5 g6 g7 => ?_)
  · rcases hcase with ⟨r', g1, g2⟩ | ⟨e', q', g1, -⟩
    · rw [hr9] at g1
      cases g1
      exact kk r h1 H1 locs1 _ _ C1 S1 g2 ⟨by omega, by omega⟩ hn1
    · rw [hr9] at g1
      cases g1
  · rcases hcase with ⟨r', g1, -⟩ | ⟨e', q', g1, g2⟩
    · rw [hr9] at g1
      cases g1
    · rw [hr9] at g1
      cases g1
      exact kx e9 q ce h1 H1 locs1 _ _ C1 S1 g2 ⟨by omega, by omega⟩ hn1 g5 g6 g7
theorem zh_VWP {b ci N : Nat} {C : String} {T : u_T} {ht9 : List (Nat × Nat × Nat × Nat)} {α : Type} {K : Option Nat → PH → ZR α} {Kx : Nat → Nat → PH → ZR α} {rr : α} {hh : PH} {x : ZR (ZX (Option Nat))} {C9 S9 fr lo mc ms n maxL index fr1 lo1 : Nat} {y : MethodName} {bytes : ByteArray} {ret : Option FieldType} {As : List Value} {st0 : List Value} (hc : zC D dA b0 gs own cc nL p c s m args meth) (hn : zM D dA b0 gs s h H locs) (hq : cells + C9 = mc ∧ slots + S9 = ms)  (hcl : vwCl[ci]? = some (C, T, N)) (hd : y.cls = C ∧ y.cls ≠ "java/lang/invoke/MethodHandle" ∧ y.cls ≠ "java/lang/invoke/VarHandle" ∧ (parseMethodDescriptor y.desc).map (fun d => d.parameters.length) = some n) (hw : GoodIn lw_all (wsV own index C y (wsW_ y bytes maxL ret ht9))) (hfr : fr1 + 1 ≤ fr) (hlo : 8 + (maxL + 11) + lo1 ≤ lo)
    (hM : ∀ r1 h1 c1 s1, x = some (r1, h1, c1, s1) → zMx l D dA b0 gs y (wsW_ y bytes maxL ret ht9) fr1 lo1 (.ref b :: As) h evP r1 h1 c1 s1) (hf : zrc h b ci (zch x K Kx) = some (rr, hh, C9, S9)) (hdg : decode cc pc = .ok (.invokevirtual index, 3)) (hls : ls.size = nL) (hst : st0 = As.reverse ++ .ref b :: rest) (hnA : As.length = n) (hrm : (rest.map fun v => v.category).sum ≤ 8)
    (kk : ∀ (r1 : Option Nat) (h1 : PH) (H1 : Heap) (locs1 : List Loc) (cells1 slots1 C1 S1 : Nat), K r1 h1 = some (rr, hh, C1, S1) → cells1 + C1 = mc ∧ slots1 + S1 = ms → zM D dA b0 gs s h1 H1 locs1 → W p l e ({ frames := fr, cells := mc, slots := ms, locals := lo } : Room) s m args below meth c H1 locs1 cells1 slots1 Q (F0 m (pc + 3) ls (va_rf r1 :: rest)))
    (kx : ∀ (e9 q9 : Nat) (ce : Cell) (h1 : PH) (H1 : Heap) (locs1 : List Loc) (cells1 slots1 C1 S1 : Nat), Kx e9 q9 h1 = some (rr, hh, C1, S1) → cells1 + C1 = mc ∧ slots1 + S1 = ms → zM D dA b0 gs s h1 H1 locs1 → H1[q9]? = some ce → ce.vm = .none → s.vm.findClass (zE e9) = some ce.cls → vx_W p l e ({ frames := fr, cells := mc, slots := ms, locals := lo } : Room) s m args below meth c H1 locs1 cells1 slots1 Q (F0 m pc ls rest) q9) : W p l e ({ frames := fr, cells := mc, slots := ms, locals := lo } : Room) s m args below meth c H locs cells slots Q (F0 m pc ls st0) := by
  unfold zrc at hf
  split at hf
  · rename_i hb9
    obtain ⟨r9, h1, c1, s1, C1, S1, q1, q2, q3, hcase⟩ := zch_i hf
    have hle : cells + c1 ≤ mc ∧ slots + s1 ≤ ms := by omega
    refine zx_back hn (vx_runVX (As := As) (rest := rest) hc.1 (hM r9 h1 c1 s1 q1) (vx_cwVW n hc.ts hw rfl rfl rfl hd ⟨hfr, hlo⟩) ⟨zW_blind, hn.recv hc hcl hb9, hn.pre hc⟩ rfl hnA hls hst (lv_room hrm) hdg ⟨hle.1, hle.2⟩) (fun r hr9 H1 locs1 hn1 => ?_) (fun e9 q ce hr9 H1 locs1 hn1 g5 g6 g7 => ?_)
    · rcases hcase with ⟨r', g1, g2⟩ | ⟨e', q', g1, -⟩
      · rw [hr9] at g1
        cases g1
        exact kk r h1 H1 locs1 _ _ C1 S1 g2 ⟨by omega, by omega⟩ hn1
      · rw [hr9] at g1
        cases g1
    · rcases hcase with ⟨r', g1, -⟩ | ⟨e', q', g1, g2⟩
      · rw [hr9] at g1
        cases g1
      · rw [hr9] at g1
        cases g1
        exact kx e9 q ce h1 H1 locs1 _ _ C1 S1 g2 ⟨by omega, by omega⟩ hn1 g5 g6 g7
  · cases hf
theorem zx_VN {b ci N : Nat} {C : String} {T : u_T} {α : Type} {ev9 : α → Option Value} {K : Nat → PH → ZR (ZX α)} {rr : ZX α} {hh : PH} {x : ZR (ZX Nat)} {C9 S9 fr lo mc ms n maxL index fr1 lo1 : Nat} {y : MethodName} {bytes : ByteArray} {ret : Option FieldType} {As : List Value} {st0 : List Value} (hc : zC D dA b0 gs own cc nL p c s m args meth) (hn : zM D dA b0 gs s h H locs) (hq : cells + C9 = mc ∧ slots + S9 = ms) (hout : ∀ x ∈ c.exceptionTable.toList, covers x pc = false) (hcl : vwCl[ci]? = some (C, T, N)) (hd : y.cls = C ∧ y.cls ≠ "java/lang/invoke/MethodHandle" ∧ y.cls ≠ "java/lang/invoke/VarHandle" ∧ (parseMethodDescriptor y.desc).map (fun d => d.parameters.length) = some n) (hw : GoodIn lw_all (wsV own index C y (ws_ y bytes maxL ret))) (hfr : fr1 + 1 ≤ fr) (hlo : 8 + (maxL + 11) + lo1 ≤ lo)
    (hM : ∀ r1 h1 c1 s1, x = some (r1, h1, c1, s1) → zMx l D dA b0 gs y (ws_ y bytes maxL ret) fr1 lo1 (.ref b :: As) h evN r1 h1 c1 s1) (hf : zrc h b ci (zcx x K) = some (rr, hh, C9, S9)) (hdg : decode cc pc = .ok (.invokevirtual index, 3)) (hls : ls.size = nL) (hst : st0 = As.reverse ++ .ref b :: rest) (hnA : As.length = n) (hrm : (rest.map fun v => v.category).sum ≤ 8)
    (kk : ∀ (r1 : Nat) (h1 : PH) (H1 : Heap) (locs1 : List Loc) (cells1 slots1 C1 S1 : Nat), K r1 h1 = some (rr, hh, C1, S1) → cells1 + C1 = mc ∧ slots1 + S1 = ms → zM D dA b0 gs s h1 H1 locs1 → W p l e ({ frames := fr, cells := mc, slots := ms, locals := lo } : Room) s m args below meth c H1 locs1 cells1 slots1 (vx_MQ below (zQX D dA b0 gs ev9 rr hh) (zXC D dA b0 gs rr hh) args s mc ms (zA b0)) (F0 m (pc + 3) ls (.ref r1 :: rest))) : W p l e ({ frames := fr, cells := mc, slots := ms, locals := lo } : Room) s m args below meth c H locs cells slots (vx_MQ below (zQX D dA b0 gs ev9 rr hh) (zXC D dA b0 gs rr hh) args s mc ms (zA b0)) (F0 m pc ls st0) := by
  unfold zrc at hf
  split at hf
  · rename_i hb9
    obtain ⟨r9, h1, c1, s1, q1, hcase⟩ := zcx_i hf
    have hle : cells + c1 ≤ mc ∧ slots + s1 ≤ ms := by
      rcases hcase with ⟨r, C1, S1, g1, g2, g3, g4⟩ | ⟨e9, g1, g2, g3, g4, g5⟩
      · omega
      · omega
    refine zx_back hn (vx_runV (As := As) (rest := rest) hc.1 (hM r9 h1 c1 s1 q1) (cwV n hc.ts hw rfl rfl rfl hd ⟨hfr, hlo⟩) ⟨zW_blind, hn.recv hc hcl hb9, hn.pre hc⟩ rfl hnA hls hst (lv_room hrm) hdg ⟨hle.1, hle.2⟩) (fun r hr9 H1 locs1 hn1 => ?_) (fun e9 q ce hr9 H1 locs1 hn1 g5 g6 g7 => ?_)
    · rcases hcase with ⟨r', C1, S1, g1, g2, g3, g4⟩ | ⟨e', g1, -⟩
      · rw [hr9] at g1
        cases g1
        exact kk r h1 H1 locs1 _ _ C1 S1 g2 ⟨by omega, by omega⟩ hn1
      · rw [hr9] at g1
        cases g1
    · rcases hcase with ⟨r', C1, S1, g1, -⟩ | ⟨e', g1, g2, g3, g4, g8⟩
      · rw [hr9] at g1
        cases g1
      · rw [hr9] at g1
        cases g1
        subst g3
        exact zx_out hc hn1 g2 g5 g6 g7 hout hle.1 hle.2
  · cases hf
theorem zx_SN {α : Type} {ev9 : α → Option Value} {K : Nat → PH → ZR (ZX α)} {rr : ZX α} {hh : PH} {x : ZR (ZX Nat)} {C9 S9 fr lo mc ms n maxL index fr1 lo1 : Nat} {y : MethodName} {bytes : ByteArray} {ret : Option FieldType} {As : List Value} {st0 : List Value} (hc : zC D dA b0 gs own cc nL p c s m args meth) (hn : zM D dA b0 gs s h H locs) (hq : cells + C9 = mc ∧ slots + S9 = ms) (hout : ∀ x ∈ c.exceptionTable.toList, covers x pc = false) (hd : y.cls ≠ "java/lang/invoke/MethodHandle" ∧ y.cls ≠ "java/lang/invoke/VarHandle" ∧ (parseMethodDescriptor y.desc).map (fun d => d.parameters.length) = some n) (hw : GoodIn lw_all (va_wsS own index y (ws_ y bytes maxL ret))) (hfr : fr1 + 1 ≤ fr) (hlo : 8 + (maxL + 11) + lo1 ≤ lo)
    (hM : ∀ r1 h1 c1 s1, x = some (r1, h1, c1, s1) → zMx l D dA b0 gs y (ws_ y bytes maxL ret) fr1 lo1 As h evN r1 h1 c1 s1) (hf : (zcx x K) = some (rr, hh, C9, S9)) (hdg : decode cc pc = .ok (.invokestatic index, 3)) (hls : ls.size = nL) (hst : st0 = As.reverse ++ rest) (hnA : As.length = n) (hrm : (rest.map fun v => v.category).sum ≤ 8)
    (kk : ∀ (r1 : Nat) (h1 : PH) (H1 : Heap) (locs1 : List Loc) (cells1 slots1 C1 S1 : Nat), K r1 h1 = some (rr, hh, C1, S1) → cells1 + C1 = mc ∧ slots1 + S1 = ms → zM D dA b0 gs s h1 H1 locs1 → W p l e ({ frames := fr, cells := mc, slots := ms, locals := lo } : Room) s m args below meth c H1 locs1 cells1 slots1 (vx_MQ below (zQX D dA b0 gs ev9 rr hh) (zXC D dA b0 gs rr hh) args s mc ms (zA b0)) (F0 m (pc + 3) ls (.ref r1 :: rest))) : W p l e ({ frames := fr, cells := mc, slots := ms, locals := lo } : Room) s m args below meth c H locs cells slots (vx_MQ below (zQX D dA b0 gs ev9 rr hh) (zXC D dA b0 gs rr hh) args s mc ms (zA b0)) (F0 m pc ls st0) := by
  obtain ⟨r9, h1, c1, s1, q1, hcase⟩ := zcx_i hf
  have hle : cells + c1 ≤ mc ∧ slots + s1 ≤ ms := by
    rcases hcase with ⟨r, C1, S1, g1, g2, g3, g4⟩ | ⟨e9, g1, g2, g3, g4, g5⟩
    · omega
    · omega
  refine zx_back hn (vx_runS (As := As) (rest := rest) hc.1 (hM r9 h1 c1 s1 q1) (va_cwS n hc.ts hw rfl rfl rfl hd ⟨hfr, hlo⟩) ⟨zW_blind, hn.pre hc⟩ rfl hnA hls hst (lv_room hrm) hdg ⟨hle.1, hle.2⟩) (fun r hr9 H1 locs1 hn1 => ?_) (fun e9 q ce hr9 H1 locs1 hn1 g5 g6 g7 => ?_)
  · rcases hcase with ⟨r', C1, S1, g1, g2, g3, g4⟩ | ⟨e', g1, -⟩
    · rw [hr9] at g1
      cases g1
      exact kk r h1 H1 locs1 _ _ C1 S1 g2 ⟨by omega, by omega⟩ hn1
    · rw [hr9] at g1
      cases g1
  · rcases hcase with ⟨r', C1, S1, g1, -⟩ | ⟨e', g1, g2, g3, g4, g8⟩
    · rw [hr9] at g1
      cases g1
    · rw [hr9] at g1
      cases g1
      subst g3
      exact zx_out hc hn1 g2 g5 g6 g7 hout hle.1 hle.2
theorem zh_VN {b ci N : Nat} {C : String} {T : u_T} {α : Type} {K : Nat → PH → ZR α} {Kx : Nat → Nat → PH → ZR α} {rr : α} {hh : PH} {x : ZR (ZX Nat)} {C9 S9 fr lo mc ms n maxL index fr1 lo1 : Nat} {y : MethodName} {bytes : ByteArray} {ret : Option FieldType} {As : List Value} {st0 : List Value} (hc : zC D dA b0 gs own cc nL p c s m args meth) (hn : zM D dA b0 gs s h H locs) (hq : cells + C9 = mc ∧ slots + S9 = ms)  (hcl : vwCl[ci]? = some (C, T, N)) (hd : y.cls = C ∧ y.cls ≠ "java/lang/invoke/MethodHandle" ∧ y.cls ≠ "java/lang/invoke/VarHandle" ∧ (parseMethodDescriptor y.desc).map (fun d => d.parameters.length) = some n) (hw : GoodIn lw_all (wsV own index C y (ws_ y bytes maxL ret))) (hfr : fr1 + 1 ≤ fr) (hlo : 8 + (maxL + 11) + lo1 ≤ lo)
    (hM : ∀ r1 h1 c1 s1, x = some (r1, h1, c1, s1) → zMx l D dA b0 gs y (ws_ y bytes maxL ret) fr1 lo1 (.ref b :: As) h evN r1 h1 c1 s1) (hf : zrc h b ci (zch x K Kx) = some (rr, hh, C9, S9)) (hdg : decode cc pc = .ok (.invokevirtual index, 3)) (hls : ls.size = nL) (hst : st0 = As.reverse ++ .ref b :: rest) (hnA : As.length = n) (hrm : (rest.map fun v => v.category).sum ≤ 8)
    (kk : ∀ (r1 : Nat) (h1 : PH) (H1 : Heap) (locs1 : List Loc) (cells1 slots1 C1 S1 : Nat), K r1 h1 = some (rr, hh, C1, S1) → cells1 + C1 = mc ∧ slots1 + S1 = ms → zM D dA b0 gs s h1 H1 locs1 → W p l e ({ frames := fr, cells := mc, slots := ms, locals := lo } : Room) s m args below meth c H1 locs1 cells1 slots1 Q (F0 m (pc + 3) ls (.ref r1 :: rest)))
    (kx : ∀ (e9 q9 : Nat) (ce : Cell) (h1 : PH) (H1 : Heap) (locs1 : List Loc) (cells1 slots1 C1 S1 : Nat), Kx e9 q9 h1 = some (rr, hh, C1, S1) → cells1 + C1 = mc ∧ slots1 + S1 = ms → zM D dA b0 gs s h1 H1 locs1 → H1[q9]? = some ce → ce.vm = .none → s.vm.findClass (zE e9) = some ce.cls → vx_W p l e ({ frames := fr, cells := mc, slots := ms, locals := lo } : Room) s m args below meth c H1 locs1 cells1 slots1 Q (F0 m pc ls rest) q9) : W p l e ({ frames := fr, cells := mc, slots := ms, locals := lo } : Room) s m args below meth c H locs cells slots Q (F0 m pc ls st0) := by
  unfold zrc at hf
  split at hf
  · rename_i hb9
    obtain ⟨r9, h1, c1, s1, C1, S1, q1, q2, q3, hcase⟩ := zch_i hf
    have hle : cells + c1 ≤ mc ∧ slots + s1 ≤ ms := by omega
    refine zx_back hn (vx_runV (As := As) (rest := rest) hc.1 (hM r9 h1 c1 s1 q1) (cwV n hc.ts hw rfl rfl rfl hd ⟨hfr, hlo⟩) ⟨zW_blind, hn.recv hc hcl hb9, hn.pre hc⟩ rfl hnA hls hst (lv_room hrm) hdg ⟨hle.1, hle.2⟩) (fun r hr9 H1 locs1 hn1 => ?_) (fun e9 q ce hr9 H1 locs1 hn1 g5 g6 g7 => ?_)
    · rcases hcase with ⟨r', g1, g2⟩ | ⟨e', q', g1, -⟩
      · rw [hr9] at g1
        cases g1
        exact kk r h1 H1 locs1 _ _ C1 S1 g2 ⟨by omega, by omega⟩ hn1
      · rw [hr9] at g1
        cases g1
    · rcases hcase with ⟨r', g1, -⟩ | ⟨e', q', g1, g2⟩
      · rw [hr9] at g1
        cases g1
      · rw [hr9] at g1
        cases g1
        exact kx e9 q ce h1 H1 locs1 _ _ C1 S1 g2 ⟨by omega, by omega⟩ hn1 g5 g6 g7
  · cases hf
theorem zh_SN {α : Type} {K : Nat → PH → ZR α} {Kx : Nat → Nat → PH → ZR α} {rr : α} {hh : PH} {x : ZR (ZX Nat)} {C9 S9 fr lo mc ms n maxL index fr1 lo1 : Nat} {y : MethodName} {bytes : ByteArray} {ret : Option FieldType} {As : List Value} {st0 : List Value} (hc : zC D dA b0 gs own cc nL p c s m args meth) (hn : zM D dA b0 gs s h H locs) (hq : cells + C9 = mc ∧ slots + S9 = ms)  (hd : y.cls ≠ "java/lang/invoke/MethodHandle" ∧ y.cls ≠ "java/lang/invoke/VarHandle" ∧ (parseMethodDescriptor y.desc).map (fun d => d.parameters.length) = some n) (hw : GoodIn lw_all (va_wsS own index y (ws_ y bytes maxL ret))) (hfr : fr1 + 1 ≤ fr) (hlo : 8 + (maxL + 11) + lo1 ≤ lo)
    (hM : ∀ r1 h1 c1 s1, x = some (r1, h1, c1, s1) → zMx l D dA b0 gs y (ws_ y bytes maxL ret) fr1 lo1 As h evN r1 h1 c1 s1) (hf : (zch x K Kx) = some (rr, hh, C9, S9)) (hdg : decode cc pc = .ok (.invokestatic index, 3)) (hls : ls.size = nL) (hst : st0 = As.reverse ++ rest) (hnA : As.length = n) (hrm : (rest.map fun v => v.category).sum ≤ 8)
    (kk : ∀ (r1 : Nat) (h1 : PH) (H1 : Heap) (locs1 : List Loc) (cells1 slots1 C1 S1 : Nat), K r1 h1 = some (rr, hh, C1, S1) → cells1 + C1 = mc ∧ slots1 + S1 = ms → zM D dA b0 gs s h1 H1 locs1 → W p l e ({ frames := fr, cells := mc, slots := ms, locals := lo } : Room) s m args below meth c H1 locs1 cells1 slots1 Q (F0 m (pc + 3) ls (.ref r1 :: rest)))
    (kx : ∀ (e9 q9 : Nat) (ce : Cell) (h1 : PH) (H1 : Heap) (locs1 : List Loc) (cells1 slots1 C1 S1 : Nat), Kx e9 q9 h1 = some (rr, hh, C1, S1) → cells1 + C1 = mc ∧ slots1 + S1 = ms → zM D dA b0 gs s h1 H1 locs1 → H1[q9]? = some ce → ce.vm = .none → s.vm.findClass (zE e9) = some ce.cls → vx_W p l e ({ frames := fr, cells := mc, slots := ms, locals := lo } : Room) s m args below meth c H1 locs1 cells1 slots1 Q (F0 m pc ls rest) q9) : W p l e ({ frames := fr, cells := mc, slots := ms, locals := lo } : Room) s m args below meth c H locs cells slots Q (F0 m pc ls st0) := by
  obtain ⟨r9, h1, c1, s1, C1, S1, q1, q2, q3, hcase⟩ := zch_i hf
  have hle : cells + c1 ≤ mc ∧ slots + s1 ≤ ms := by omega
  refine zx_back hn (vx_runS (As := As) (rest := rest) hc.1 (hM r9 h1 c1 s1 q1) (va_cwS n hc.ts hw rfl rfl rfl hd ⟨hfr, hlo⟩) ⟨zW_blind, hn.pre hc⟩ rfl hnA hls hst (lv_room hrm) hdg ⟨hle.1, hle.2⟩) (fun r hr9 H1 locs1 hn1 => ?_) (fun e9 q ce hr9 H1 locs1 hn1 g5 g6 g7 => ?_)
  · rcases hcase with ⟨r', g1, g2⟩ | ⟨e', q', g1, -⟩
    · rw [hr9] at g1
      cases g1
      exact kk r h1 H1 locs1 _ _ C1 S1 g2 ⟨by omega, by omega⟩ hn1
    · rw [hr9] at g1
      cases g1
  · rcases hcase with ⟨r', g1, -⟩ | ⟨e', q', g1, g2⟩
    · rw [hr9] at g1
      cases g1
    · rw [hr9] at g1
      cases g1
      exact kx e9 q ce h1 H1 locs1 _ _ C1 S1 g2 ⟨by omega, by omega⟩ hn1 g5 g6 g7
theorem zh_VWN {b ci N : Nat} {C : String} {T : u_T} {ht9 : List (Nat × Nat × Nat × Nat)} {α : Type} {K : Nat → PH → ZR α} {Kx : Nat → Nat → PH → ZR α} {rr : α} {hh : PH} {x : ZR (ZX Nat)} {C9 S9 fr lo mc ms n maxL index fr1 lo1 : Nat} {y : MethodName} {bytes : ByteArray} {ret : Option FieldType} {As : List Value} {st0 : List Value} (hc : zC D dA b0 gs own cc nL p c s m args meth) (hn : zM D dA b0 gs s h H locs) (hq : cells + C9 = mc ∧ slots + S9 = ms)  (hcl : vwCl[ci]? = some (C, T, N)) (hd : y.cls = C ∧ y.cls ≠ "java/lang/invoke/MethodHandle" ∧ y.cls ≠ "java/lang/invoke/VarHandle" ∧ (parseMethodDescriptor y.desc).map (fun d => d.parameters.length) = some n) (hw : GoodIn lw_all (wsV own index C y (wsW_ y bytes maxL ret ht9))) (hfr : fr1 + 1 ≤ fr) (hlo : 8 + (maxL + 11) + lo1 ≤ lo)
    (hM : ∀ r1 h1 c1 s1, x = some (r1, h1, c1, s1) → zMx l D dA b0 gs y (wsW_ y bytes maxL ret ht9) fr1 lo1 (.ref b :: As) h evN r1 h1 c1 s1) (hf : zrc h b ci (zch x K Kx) = some (rr, hh, C9, S9)) (hdg : decode cc pc = .ok (.invokevirtual index, 3)) (hls : ls.size = nL) (hst : st0 = As.reverse ++ .ref b :: rest) (hnA : As.length = n) (hrm : (rest.map fun v => v.category).sum ≤ 8)
    (kk : ∀ (r1 : Nat) (h1 : PH) (H1 : Heap) (locs1 : List Loc) (cells1 slots1 C1 S1 : Nat), K r1 h1 = some (rr, hh, C1, S1) → cells1 + C1 = mc ∧ slots1 + S1 = ms → zM D dA b0 gs s h1 H1 locs1 → W p l e ({ frames := fr, cells := mc, slots := ms, locals := lo } : Room) s m args below meth c H1 locs1 cells1 slots1 Q (F0 m (pc + 3) ls (.ref r1 :: rest)))
    (kx : ∀ (e9 q9 : Nat) (ce : Cell) (h1 : PH) (H1 : Heap) (locs1 : List Loc) (cells1 slots1 C1 S1 : Nat), Kx e9 q9 h1 = some (rr, hh, C1, S1) → cells1 + C1 = mc ∧ slots1 + S1 = ms → zM D dA b0 gs s h1 H1 locs1 → H1[q9]? = some ce → ce.vm = .none → s.vm.findClass (zE e9) = some ce.cls → vx_W p l e ({ frames := fr, cells := mc, slots := ms, locals := lo } : Room) s m args below meth c H1 locs1 cells1 slots1 Q (F0 m pc ls rest) q9) : W p l e ({ frames := fr, cells := mc, slots := ms, locals := lo } : Room) s m args below meth c H locs cells slots Q (F0 m pc ls st0) := by
  unfold zrc at hf
  split at hf
  · rename_i hb9
    obtain ⟨r9, h1, c1, s1, C1, S1, q1, q2, q3, hcase⟩ := zch_i hf
    have hle : cells + c1 ≤ mc ∧ slots + s1 ≤ ms := by omega
    refine zx_back hn (vx_runVX (As := As) (rest := rest) hc.1 (hM r9 h1 c1 s1 q1) (vx_cwVW n hc.ts hw rfl rfl rfl hd ⟨hfr, hlo⟩) ⟨zW_blind, hn.recv hc hcl hb9, hn.pre hc⟩ rfl hnA hls hst (lv_room hrm) hdg ⟨hle.1, hle.2⟩) (fun r hr9 H1 locs1 hn1 => ?_) (fun e9 q ce hr9 H1 locs1 hn1 g5 g6 g7 => ?_)
    · rcases hcase with ⟨r', g1, g2⟩ | ⟨e', q', g1, -⟩
      · rw [hr9] at g1
        cases g1
        exact kk r h1 H1 locs1 _ _ C1 S1 g2 ⟨by omega, by omega⟩ hn1
      · rw [hr9] at g1
        cases g1
    · rcases hcase with ⟨r', g1, -⟩ | ⟨e', q', g1, g2⟩
      · rw [hr9] at g1
        cases g1
      · rw [hr9] at g1
        cases g1
        exact kx e9 q ce h1 H1 locs1 _ _ C1 S1 g2 ⟨by omega, by omega⟩ hn1 g5 g6 g7
  · cases hf
theorem zx_VL {b ci N : Nat} {C : String} {T : u_T} {α : Type} {ev9 : α → Option Value} {K : Int64 → PH → ZR (ZX α)} {rr : ZX α} {hh : PH} {x : ZR (ZX Int64)} {C9 S9 fr lo mc ms n maxL index fr1 lo1 : Nat} {y : MethodName} {bytes : ByteArray} {ret : Option FieldType} {As : List Value} {st0 : List Value} (hc : zC D dA b0 gs own cc nL p c s m args meth) (hn : zM D dA b0 gs s h H locs) (hq : cells + C9 = mc ∧ slots + S9 = ms) (hout : ∀ x ∈ c.exceptionTable.toList, covers x pc = false) (hcl : vwCl[ci]? = some (C, T, N)) (hd : y.cls = C ∧ y.cls ≠ "java/lang/invoke/MethodHandle" ∧ y.cls ≠ "java/lang/invoke/VarHandle" ∧ (parseMethodDescriptor y.desc).map (fun d => d.parameters.length) = some n) (hw : GoodIn lw_all (wsV own index C y (ws_ y bytes maxL ret))) (hfr : fr1 + 1 ≤ fr) (hlo : 8 + (maxL + 11) + lo1 ≤ lo)
    (hM : ∀ r1 h1 c1 s1, x = some (r1, h1, c1, s1) → zMx l D dA b0 gs y (ws_ y bytes maxL ret) fr1 lo1 (.ref b :: As) h evL r1 h1 c1 s1) (hf : zrc h b ci (zcx x K) = some (rr, hh, C9, S9)) (hdg : decode cc pc = .ok (.invokevirtual index, 3)) (hls : ls.size = nL) (hst : st0 = As.reverse ++ .ref b :: rest) (hnA : As.length = n) (hrm : (rest.map fun v => v.category).sum ≤ 8)
    (kk : ∀ (r1 : Int64) (h1 : PH) (H1 : Heap) (locs1 : List Loc) (cells1 slots1 C1 S1 : Nat), K r1 h1 = some (rr, hh, C1, S1) → cells1 + C1 = mc ∧ slots1 + S1 = ms → zM D dA b0 gs s h1 H1 locs1 → W p l e ({ frames := fr, cells := mc, slots := ms, locals := lo } : Room) s m args below meth c H1 locs1 cells1 slots1 (vx_MQ below (zQX D dA b0 gs ev9 rr hh) (zXC D dA b0 gs rr hh) args s mc ms (zA b0)) (F0 m (pc + 3) ls (.long r1 :: rest))) : W p l e ({ frames := fr, cells := mc, slots := ms, locals := lo } : Room) s m args below meth c H locs cells slots (vx_MQ below (zQX D dA b0 gs ev9 rr hh) (zXC D dA b0 gs rr hh) args s mc ms (zA b0)) (F0 m pc ls st0) := by
  unfold zrc at hf
  split at hf
  · rename_i hb9
    obtain ⟨r9, h1, c1, s1, q1, hcase⟩ := zcx_i hf
    have hle : cells + c1 ≤ mc ∧ slots + s1 ≤ ms := by
      rcases hcase with ⟨r, C1, S1, g1, g2, g3, g4⟩ | ⟨e9, g1, g2, g3, g4, g5⟩
      · omega
      · omega
    refine zx_back hn (vx_runV (As := As) (rest := rest) hc.1 (hM r9 h1 c1 s1 q1) (cwV n hc.ts hw rfl rfl rfl hd ⟨hfr, hlo⟩) ⟨zW_blind, hn.recv hc hcl hb9, hn.pre hc⟩ rfl hnA hls hst (lv_room hrm) hdg ⟨hle.1, hle.2⟩) (fun r hr9 H1 locs1 hn1 => ?_) (fun e9 q ce hr9 H1 locs1 hn1 g5 g6 g7 => ?_)
    · rcases hcase with ⟨r', C1, S1, g1, g2, g3, g4⟩ | ⟨e', g1, -⟩
      · rw [hr9] at g1
        cases g1
        exact kk r h1 H1 locs1 _ _ C1 S1 g2 ⟨by omega, by omega⟩ hn1
      · rw [hr9] at g1
        cases g1
    · rcases hcase with ⟨r', C1, S1, g1, -⟩ | ⟨e', g1, g2, g3, g4, g8⟩
      · rw [hr9] at g1
        cases g1
      · rw [hr9] at g1
        cases g1
        subst g3
        exact zx_out hc hn1 g2 g5 g6 g7 hout hle.1 hle.2
  · cases hf
theorem zx_SL {α : Type} {ev9 : α → Option Value} {K : Int64 → PH → ZR (ZX α)} {rr : ZX α} {hh : PH} {x : ZR (ZX Int64)} {C9 S9 fr lo mc ms n maxL index fr1 lo1 : Nat} {y : MethodName} {bytes : ByteArray} {ret : Option FieldType} {As : List Value} {st0 : List Value} (hc : zC D dA b0 gs own cc nL p c s m args meth) (hn : zM D dA b0 gs s h H locs) (hq : cells + C9 = mc ∧ slots + S9 = ms) (hout : ∀ x ∈ c.exceptionTable.toList, covers x pc = false) (hd : y.cls ≠ "java/lang/invoke/MethodHandle" ∧ y.cls ≠ "java/lang/invoke/VarHandle" ∧ (parseMethodDescriptor y.desc).map (fun d => d.parameters.length) = some n) (hw : GoodIn lw_all (va_wsS own index y (ws_ y bytes maxL ret))) (hfr : fr1 + 1 ≤ fr) (hlo : 8 + (maxL + 11) + lo1 ≤ lo)
    (hM : ∀ r1 h1 c1 s1, x = some (r1, h1, c1, s1) → zMx l D dA b0 gs y (ws_ y bytes maxL ret) fr1 lo1 As h evL r1 h1 c1 s1) (hf : (zcx x K) = some (rr, hh, C9, S9)) (hdg : decode cc pc = .ok (.invokestatic index, 3)) (hls : ls.size = nL) (hst : st0 = As.reverse ++ rest) (hnA : As.length = n) (hrm : (rest.map fun v => v.category).sum ≤ 8)
    (kk : ∀ (r1 : Int64) (h1 : PH) (H1 : Heap) (locs1 : List Loc) (cells1 slots1 C1 S1 : Nat), K r1 h1 = some (rr, hh, C1, S1) → cells1 + C1 = mc ∧ slots1 + S1 = ms → zM D dA b0 gs s h1 H1 locs1 → W p l e ({ frames := fr, cells := mc, slots := ms, locals := lo } : Room) s m args below meth c H1 locs1 cells1 slots1 (vx_MQ below (zQX D dA b0 gs ev9 rr hh) (zXC D dA b0 gs rr hh) args s mc ms (zA b0)) (F0 m (pc + 3) ls (.long r1 :: rest))) : W p l e ({ frames := fr, cells := mc, slots := ms, locals := lo } : Room) s m args below meth c H locs cells slots (vx_MQ below (zQX D dA b0 gs ev9 rr hh) (zXC D dA b0 gs rr hh) args s mc ms (zA b0)) (F0 m pc ls st0) := by
  obtain ⟨r9, h1, c1, s1, q1, hcase⟩ := zcx_i hf
  have hle : cells + c1 ≤ mc ∧ slots + s1 ≤ ms := by
    rcases hcase with ⟨r, C1, S1, g1, g2, g3, g4⟩ | ⟨e9, g1, g2, g3, g4, g5⟩
    · omega
    · omega
  refine zx_back hn (vx_runS (As := As) (rest := rest) hc.1 (hM r9 h1 c1 s1 q1) (va_cwS n hc.ts hw rfl rfl rfl hd ⟨hfr, hlo⟩) ⟨zW_blind, hn.pre hc⟩ rfl hnA hls hst (lv_room hrm) hdg ⟨hle.1, hle.2⟩) (fun r hr9 H1 locs1 hn1 => ?_) (fun e9 q ce hr9 H1 locs1 hn1 g5 g6 g7 => ?_)
  · rcases hcase with ⟨r', C1, S1, g1, g2, g3, g4⟩ | ⟨e', g1, -⟩
    · rw [hr9] at g1
      cases g1
      exact kk r h1 H1 locs1 _ _ C1 S1 g2 ⟨by omega, by omega⟩ hn1
    · rw [hr9] at g1
      cases g1
  · rcases hcase with ⟨r', C1, S1, g1, -⟩ | ⟨e', g1, g2, g3, g4, g8⟩
    · rw [hr9] at g1
      cases g1
    · rw [hr9] at g1
      cases g1
      subst g3
      exact zx_out hc hn1 g2 g5 g6 g7 hout hle.1 hle.2
theorem zh_VL {b ci N : Nat} {C : String} {T : u_T} {α : Type} {K : Int64 → PH → ZR α} {Kx : Nat → Nat → PH → ZR α} {rr : α} {hh : PH} {x : ZR (ZX Int64)} {C9 S9 fr lo mc ms n maxL index fr1 lo1 : Nat} {y : MethodName} {bytes : ByteArray} {ret : Option FieldType} {As : List Value} {st0 : List Value} (hc : zC D dA b0 gs own cc nL p c s m args meth) (hn : zM D dA b0 gs s h H locs) (hq : cells + C9 = mc ∧ slots + S9 = ms)  (hcl : vwCl[ci]? = some (C, T, N)) (hd : y.cls = C ∧ y.cls ≠ "java/lang/invoke/MethodHandle" ∧ y.cls ≠ "java/lang/invoke/VarHandle" ∧ (parseMethodDescriptor y.desc).map (fun d => d.parameters.length) = some n) (hw : GoodIn lw_all (wsV own index C y (ws_ y bytes maxL ret))) (hfr : fr1 + 1 ≤ fr) (hlo : 8 + (maxL + 11) + lo1 ≤ lo)
    (hM : ∀ r1 h1 c1 s1, x = some (r1, h1, c1, s1) → zMx l D dA b0 gs y (ws_ y bytes maxL ret) fr1 lo1 (.ref b :: As) h evL r1 h1 c1 s1) (hf : zrc h b ci (zch x K Kx) = some (rr, hh, C9, S9)) (hdg : decode cc pc = .ok (.invokevirtual index, 3)) (hls : ls.size = nL) (hst : st0 = As.reverse ++ .ref b :: rest) (hnA : As.length = n) (hrm : (rest.map fun v => v.category).sum ≤ 8)
    (kk : ∀ (r1 : Int64) (h1 : PH) (H1 : Heap) (locs1 : List Loc) (cells1 slots1 C1 S1 : Nat), K r1 h1 = some (rr, hh, C1, S1) → cells1 + C1 = mc ∧ slots1 + S1 = ms → zM D dA b0 gs s h1 H1 locs1 → W p l e ({ frames := fr, cells := mc, slots := ms, locals := lo } : Room) s m args below meth c H1 locs1 cells1 slots1 Q (F0 m (pc + 3) ls (.long r1 :: rest)))
    (kx : ∀ (e9 q9 : Nat) (ce : Cell) (h1 : PH) (H1 : Heap) (locs1 : List Loc) (cells1 slots1 C1 S1 : Nat), Kx e9 q9 h1 = some (rr, hh, C1, S1) → cells1 + C1 = mc ∧ slots1 + S1 = ms → zM D dA b0 gs s h1 H1 locs1 → H1[q9]? = some ce → ce.vm = .none → s.vm.findClass (zE e9) = some ce.cls → vx_W p l e ({ frames := fr, cells := mc, slots := ms, locals := lo } : Room) s m args below meth c H1 locs1 cells1 slots1 Q (F0 m pc ls rest) q9) : W p l e ({ frames := fr, cells := mc, slots := ms, locals := lo } : Room) s m args below meth c H locs cells slots Q (F0 m pc ls st0) := by
  unfold zrc at hf
  split at hf
  · rename_i hb9
    obtain ⟨r9, h1, c1, s1, C1, S1, q1, q2, q3, hcase⟩ := zch_i hf
    have hle : cells + c1 ≤ mc ∧ slots + s1 ≤ ms := by omega
    refine zx_back hn (vx_runV (As := As) (rest := rest) hc.1 (hM r9 h1 c1 s1 q1) (cwV n hc.ts hw rfl rfl rfl hd ⟨hfr, hlo⟩) ⟨zW_blind, hn.recv hc hcl hb9, hn.pre hc⟩ rfl hnA hls hst (lv_room hrm) hdg ⟨hle.1, hle.2⟩) (fun r hr9 H1 locs1 hn1 => ?_) (fun e9 q ce hr9 H1 locs1 hn1 g5 g6 g7 => ?_)
    · rcases hcase with ⟨r', g1, g2⟩ | ⟨e', q', g1, -⟩
      · rw [hr9] at g1
        cases g1
        exact kk r h1 H1 locs1 _ _ C1 S1 g2 ⟨by omega, by omega⟩ hn1
      · rw [hr9] at g1
        cases g1
    · rcases hcase with ⟨r', g1, -⟩ | ⟨e', q', g1, g2⟩
      · rw [hr9] at g1
        cases g1
      · rw [hr9] at g1
        cases g1
        exact kx e9 q ce h1 H1 locs1 _ _ C1 S1 g2 ⟨by omega, by omega⟩ hn1 g5 g6 g7
  · cases hf
theorem zh_SL {α : Type} {K : Int64 → PH → ZR α} {Kx : Nat → Nat → PH → ZR α} {rr : α} {hh : PH} {x : ZR (ZX Int64)} {C9 S9 fr lo mc ms n maxL index fr1 lo1 : Nat} {y : MethodName} {bytes : ByteArray} {ret : Option FieldType} {As : List Value} {st0 : List Value} (hc : zC D dA b0 gs own cc nL p c s m args meth) (hn : zM D dA b0 gs s h H locs) (hq : cells + C9 = mc ∧ slots + S9 = ms)  (hd : y.cls ≠ "java/lang/invoke/MethodHandle" ∧ y.cls ≠ "java/lang/invoke/VarHandle" ∧ (parseMethodDescriptor y.desc).map (fun d => d.parameters.length) = some n) (hw : GoodIn lw_all (va_wsS own index y (ws_ y bytes maxL ret))) (hfr : fr1 + 1 ≤ fr) (hlo : 8 + (maxL + 11) + lo1 ≤ lo)
    (hM : ∀ r1 h1 c1 s1, x = some (r1, h1, c1, s1) → zMx l D dA b0 gs y (ws_ y bytes maxL ret) fr1 lo1 As h evL r1 h1 c1 s1) (hf : (zch x K Kx) = some (rr, hh, C9, S9)) (hdg : decode cc pc = .ok (.invokestatic index, 3)) (hls : ls.size = nL) (hst : st0 = As.reverse ++ rest) (hnA : As.length = n) (hrm : (rest.map fun v => v.category).sum ≤ 8)
    (kk : ∀ (r1 : Int64) (h1 : PH) (H1 : Heap) (locs1 : List Loc) (cells1 slots1 C1 S1 : Nat), K r1 h1 = some (rr, hh, C1, S1) → cells1 + C1 = mc ∧ slots1 + S1 = ms → zM D dA b0 gs s h1 H1 locs1 → W p l e ({ frames := fr, cells := mc, slots := ms, locals := lo } : Room) s m args below meth c H1 locs1 cells1 slots1 Q (F0 m (pc + 3) ls (.long r1 :: rest)))
    (kx : ∀ (e9 q9 : Nat) (ce : Cell) (h1 : PH) (H1 : Heap) (locs1 : List Loc) (cells1 slots1 C1 S1 : Nat), Kx e9 q9 h1 = some (rr, hh, C1, S1) → cells1 + C1 = mc ∧ slots1 + S1 = ms → zM D dA b0 gs s h1 H1 locs1 → H1[q9]? = some ce → ce.vm = .none → s.vm.findClass (zE e9) = some ce.cls → vx_W p l e ({ frames := fr, cells := mc, slots := ms, locals := lo } : Room) s m args below meth c H1 locs1 cells1 slots1 Q (F0 m pc ls rest) q9) : W p l e ({ frames := fr, cells := mc, slots := ms, locals := lo } : Room) s m args below meth c H locs cells slots Q (F0 m pc ls st0) := by
  obtain ⟨r9, h1, c1, s1, C1, S1, q1, q2, q3, hcase⟩ := zch_i hf
  have hle : cells + c1 ≤ mc ∧ slots + s1 ≤ ms := by omega
  refine zx_back hn (vx_runS (As := As) (rest := rest) hc.1 (hM r9 h1 c1 s1 q1) (va_cwS n hc.ts hw rfl rfl rfl hd ⟨hfr, hlo⟩) ⟨zW_blind, hn.pre hc⟩ rfl hnA hls hst (lv_room hrm) hdg ⟨hle.1, hle.2⟩) (fun r hr9 H1 locs1 hn1 => ?_) (fun e9 q ce hr9 H1 locs1 hn1 g5 g6 g7 => ?_)
  · rcases hcase with ⟨r', g1, g2⟩ | ⟨e', q', g1, -⟩
    · rw [hr9] at g1
      cases g1
      exact kk r h1 H1 locs1 _ _ C1 S1 g2 ⟨by omega, by omega⟩ hn1
    · rw [hr9] at g1
      cases g1
  · rcases hcase with ⟨r', g1, -⟩ | ⟨e', q', g1, g2⟩
    · rw [hr9] at g1
      cases g1
    · rw [hr9] at g1
      cases g1
      exact kx e9 q ce h1 H1 locs1 _ _ C1 S1 g2 ⟨by omega, by omega⟩ hn1 g5 g6 g7
theorem zh_VWL {b ci N : Nat} {C : String} {T : u_T} {ht9 : List (Nat × Nat × Nat × Nat)} {α : Type} {K : Int64 → PH → ZR α} {Kx : Nat → Nat → PH → ZR α} {rr : α} {hh : PH} {x : ZR (ZX Int64)} {C9 S9 fr lo mc ms n maxL index fr1 lo1 : Nat} {y : MethodName} {bytes : ByteArray} {ret : Option FieldType} {As : List Value} {st0 : List Value} (hc : zC D dA b0 gs own cc nL p c s m args meth) (hn : zM D dA b0 gs s h H locs) (hq : cells + C9 = mc ∧ slots + S9 = ms)  (hcl : vwCl[ci]? = some (C, T, N)) (hd : y.cls = C ∧ y.cls ≠ "java/lang/invoke/MethodHandle" ∧ y.cls ≠ "java/lang/invoke/VarHandle" ∧ (parseMethodDescriptor y.desc).map (fun d => d.parameters.length) = some n) (hw : GoodIn lw_all (wsV own index C y (wsW_ y bytes maxL ret ht9))) (hfr : fr1 + 1 ≤ fr) (hlo : 8 + (maxL + 11) + lo1 ≤ lo)
    (hM : ∀ r1 h1 c1 s1, x = some (r1, h1, c1, s1) → zMx l D dA b0 gs y (wsW_ y bytes maxL ret ht9) fr1 lo1 (.ref b :: As) h evL r1 h1 c1 s1) (hf : zrc h b ci (zch x K Kx) = some (rr, hh, C9, S9)) (hdg : decode cc pc = .ok (.invokevirtual index, 3)) (hls : ls.size = nL) (hst : st0 = As.reverse ++ .ref b :: rest) (hnA : As.length = n) (hrm : (rest.map fun v => v.category).sum ≤ 8)
    (kk : ∀ (r1 : Int64) (h1 : PH) (H1 : Heap) (locs1 : List Loc) (cells1 slots1 C1 S1 : Nat), K r1 h1 = some (rr, hh, C1, S1) → cells1 + C1 = mc ∧ slots1 + S1 = ms → zM D dA b0 gs s h1 H1 locs1 → W p l e ({ frames := fr, cells := mc, slots := ms, locals := lo } : Room) s m args below meth c H1 locs1 cells1 slots1 Q (F0 m (pc + 3) ls (.long r1 :: rest)))
    (kx : ∀ (e9 q9 : Nat) (ce : Cell) (h1 : PH) (H1 : Heap) (locs1 : List Loc) (cells1 slots1 C1 S1 : Nat), Kx e9 q9 h1 = some (rr, hh, C1, S1) → cells1 + C1 = mc ∧ slots1 + S1 = ms → zM D dA b0 gs s h1 H1 locs1 → H1[q9]? = some ce → ce.vm = .none → s.vm.findClass (zE e9) = some ce.cls → vx_W p l e ({ frames := fr, cells := mc, slots := ms, locals := lo } : Room) s m args below meth c H1 locs1 cells1 slots1 Q (F0 m pc ls rest) q9) : W p l e ({ frames := fr, cells := mc, slots := ms, locals := lo } : Room) s m args below meth c H locs cells slots Q (F0 m pc ls st0) := by
  unfold zrc at hf
  split at hf
  · rename_i hb9
    obtain ⟨r9, h1, c1, s1, C1, S1, q1, q2, q3, hcase⟩ := zch_i hf
    have hle : cells + c1 ≤ mc ∧ slots + s1 ≤ ms := by omega
    refine zx_back hn (vx_runVX (As := As) (rest := rest) hc.1 (hM r9 h1 c1 s1 q1) (vx_cwVW n hc.ts hw rfl rfl rfl hd ⟨hfr, hlo⟩) ⟨zW_blind, hn.recv hc hcl hb9, hn.pre hc⟩ rfl hnA hls hst (lv_room hrm) hdg ⟨hle.1, hle.2⟩) (fun r hr9 H1 locs1 hn1 => ?_) (fun e9 q ce hr9 H1 locs1 hn1 g5 g6 g7 => ?_)
    · rcases hcase with ⟨r', g1, g2⟩ | ⟨e', q', g1, -⟩
      · rw [hr9] at g1
        cases g1
        exact kk r h1 H1 locs1 _ _ C1 S1 g2 ⟨by omega, by omega⟩ hn1
      · rw [hr9] at g1
        cases g1
    · rcases hcase with ⟨r', g1, -⟩ | ⟨e', q', g1, g2⟩
      · rw [hr9] at g1
        cases g1
      · rw [hr9] at g1
        cases g1
        exact kx e9 q ce h1 H1 locs1 _ _ C1 S1 g2 ⟨by omega, by omega⟩ hn1 g5 g6 g7
  · cases hf
theorem zx_VD {b ci N : Nat} {C : String} {T : u_T} {α : Type} {ev9 : α → Option Value} {K : UInt64 → PH → ZR (ZX α)} {rr : ZX α} {hh : PH} {x : ZR (ZX UInt64)} {C9 S9 fr lo mc ms n maxL index fr1 lo1 : Nat} {y : MethodName} {bytes : ByteArray} {ret : Option FieldType} {As : List Value} {st0 : List Value} (hc : zC D dA b0 gs own cc nL p c s m args meth) (hn : zM D dA b0 gs s h H locs) (hq : cells + C9 = mc ∧ slots + S9 = ms) (hout : ∀ x ∈ c.exceptionTable.toList, covers x pc = false) (hcl : vwCl[ci]? = some (C, T, N)) (hd : y.cls = C ∧ y.cls ≠ "java/lang/invoke/MethodHandle" ∧ y.cls ≠ "java/lang/invoke/VarHandle" ∧ (parseMethodDescriptor y.desc).map (fun d => d.parameters.length) = some n) (hw : GoodIn lw_all (wsV own index C y (ws_ y bytes maxL ret))) (hfr : fr1 + 1 ≤ fr) (hlo : 8 + (maxL + 11) + lo1 ≤ lo)
    (hM : ∀ r1 h1 c1 s1, x = some (r1, h1, c1, s1) → zMx l D dA b0 gs y (ws_ y bytes maxL ret) fr1 lo1 (.ref b :: As) h evD r1 h1 c1 s1) (hf : zrc h b ci (zcx x K) = some (rr, hh, C9, S9)) (hdg : decode cc pc = .ok (.invokevirtual index, 3)) (hls : ls.size = nL) (hst : st0 = As.reverse ++ .ref b :: rest) (hnA : As.length = n) (hrm : (rest.map fun v => v.category).sum ≤ 8)
    (kk : ∀ (r1 : UInt64) (h1 : PH) (H1 : Heap) (locs1 : List Loc) (cells1 slots1 C1 S1 : Nat), K r1 h1 = some (rr, hh, C1, S1) → cells1 + C1 = mc ∧ slots1 + S1 = ms → zM D dA b0 gs s h1 H1 locs1 → W p l e ({ frames := fr, cells := mc, slots := ms, locals := lo } : Room) s m args below meth c H1 locs1 cells1 slots1 (vx_MQ below (zQX D dA b0 gs ev9 rr hh) (zXC D dA b0 gs rr hh) args s mc ms (zA b0)) (F0 m (pc + 3) ls (.double r1 :: rest))) : W p l e ({ frames := fr, cells := mc, slots := ms, locals := lo } : Room) s m args below meth c H locs cells slots (vx_MQ below (zQX D dA b0 gs ev9 rr hh) (zXC D dA b0 gs rr hh) args s mc ms (zA b0)) (F0 m pc ls st0) := by
  unfold zrc at hf
  split at hf
  · rename_i hb9
    obtain ⟨r9, h1, c1, s1, q1, hcase⟩ := zcx_i hf
    have hle : cells + c1 ≤ mc ∧ slots + s1 ≤ ms := by
      rcases hcase with ⟨r, C1, S1, g1, g2, g3, g4⟩ | ⟨e9, g1, g2, g3, g4, g5⟩
      · omega
      · omega
    refine zx_back hn (vx_runV (As := As) (rest := rest) hc.1 (hM r9 h1 c1 s1 q1) (cwV n hc.ts hw rfl rfl rfl hd ⟨hfr, hlo⟩) ⟨zW_blind, hn.recv hc hcl hb9, hn.pre hc⟩ rfl hnA hls hst (lv_room hrm) hdg ⟨hle.1, hle.2⟩) (fun r hr9 H1 locs1 hn1 => ?_) (fun e9 q ce hr9 H1 locs1 hn1 g5 g6 g7 => ?_)
    · rcases hcase with ⟨r', C1, S1, g1, g2, g3, g4⟩ | ⟨e', g1, -⟩
      · rw [hr9] at g1
        cases g1
        exact kk r h1 H1 locs1 _ _ C1 S1 g2 ⟨by omega, by omega⟩ hn1
      · rw [hr9] at g1
        cases g1
    · rcases hcase with ⟨r', C1, S1, g1, -⟩ | ⟨e', g1, g2, g3, g4, g8⟩
      · rw [hr9] at g1
        cases g1
      · rw [hr9] at g1
        cases g1
        subst g3
        exact zx_out hc hn1 g2 g5 g6 g7 hout hle.1 hle.2
  · cases hf
theorem zx_SD {α : Type} {ev9 : α → Option Value} {K : UInt64 → PH → ZR (ZX α)} {rr : ZX α} {hh : PH} {x : ZR (ZX UInt64)} {C9 S9 fr lo mc ms n maxL index fr1 lo1 : Nat} {y : MethodName} {bytes : ByteArray} {ret : Option FieldType} {As : List Value} {st0 : List Value} (hc : zC D dA b0 gs own cc nL p c s m args meth) (hn : zM D dA b0 gs s h H locs) (hq : cells + C9 = mc ∧ slots + S9 = ms) (hout : ∀ x ∈ c.exceptionTable.toList, covers x pc = false) (hd : y.cls ≠ "java/lang/invoke/MethodHandle" ∧ y.cls ≠ "java/lang/invoke/VarHandle" ∧ (parseMethodDescriptor y.desc).map (fun d => d.parameters.length) = some n) (hw : GoodIn lw_all (va_wsS own index y (ws_ y bytes maxL ret))) (hfr : fr1 + 1 ≤ fr) (hlo : 8 + (maxL + 11) + lo1 ≤ lo)
    (hM : ∀ r1 h1 c1 s1, x = some (r1, h1, c1, s1) → zMx l D dA b0 gs y (ws_ y bytes maxL ret) fr1 lo1 As h evD r1 h1 c1 s1) (hf : (zcx x K) = some (rr, hh, C9, S9)) (hdg : decode cc pc = .ok (.invokestatic index, 3)) (hls : ls.size = nL) (hst : st0 = As.reverse ++ rest) (hnA : As.length = n) (hrm : (rest.map fun v => v.category).sum ≤ 8)
    (kk : ∀ (r1 : UInt64) (h1 : PH) (H1 : Heap) (locs1 : List Loc) (cells1 slots1 C1 S1 : Nat), K r1 h1 = some (rr, hh, C1, S1) → cells1 + C1 = mc ∧ slots1 + S1 = ms → zM D dA b0 gs s h1 H1 locs1 → W p l e ({ frames := fr, cells := mc, slots := ms, locals := lo } : Room) s m args below meth c H1 locs1 cells1 slots1 (vx_MQ below (zQX D dA b0 gs ev9 rr hh) (zXC D dA b0 gs rr hh) args s mc ms (zA b0)) (F0 m (pc + 3) ls (.double r1 :: rest))) : W p l e ({ frames := fr, cells := mc, slots := ms, locals := lo } : Room) s m args below meth c H locs cells slots (vx_MQ below (zQX D dA b0 gs ev9 rr hh) (zXC D dA b0 gs rr hh) args s mc ms (zA b0)) (F0 m pc ls st0) := by
  obtain ⟨r9, h1, c1, s1, q1, hcase⟩ := zcx_i hf
  have hle : cells + c1 ≤ mc ∧ slots + s1 ≤ ms := by
    rcases hcase with ⟨r, C1, S1, g1, g2, g3, g4⟩ | ⟨e9, g1, g2, g3, g4, g5⟩
    · omega
    · omega
  refine zx_back hn (vx_runS (As := As) (rest := rest) hc.1 (hM r9 h1 c1 s1 q1) (va_cwS n hc.ts hw rfl rfl rfl hd ⟨hfr, hlo⟩) ⟨zW_blind, hn.pre hc⟩ rfl hnA hls hst (lv_room hrm) hdg ⟨hle.1, hle.2⟩) (fun r hr9 H1 locs1 hn1 => ?_) (fun e9 q ce hr9 H1 locs1 hn1 g5 g6 g7 => ?_)
  · rcases hcase with ⟨r', C1, S1, g1, g2, g3, g4⟩ | ⟨e', g1, -⟩
    · rw [hr9] at g1
      cases g1
      exact kk r h1 H1 locs1 _ _ C1 S1 g2 ⟨by omega, by omega⟩ hn1
    · rw [hr9] at g1
      cases g1
  · rcases hcase with ⟨r', C1, S1, g1, -⟩ | ⟨e', g1, g2, g3, g4, g8⟩
    · rw [hr9] at g1
      cases g1
    · rw [hr9] at g1
      cases g1
      subst g3
      exact zx_out hc hn1 g2 g5 g6 g7 hout hle.1 hle.2
theorem zh_VD {b ci N : Nat} {C : String} {T : u_T} {α : Type} {K : UInt64 → PH → ZR α} {Kx : Nat → Nat → PH → ZR α} {rr : α} {hh : PH} {x : ZR (ZX UInt64)} {C9 S9 fr lo mc ms n maxL index fr1 lo1 : Nat} {y : MethodName} {bytes : ByteArray} {ret : Option FieldType} {As : List Value} {st0 : List Value} (hc : zC D dA b0 gs own cc nL p c s m args meth) (hn : zM D dA b0 gs s h H locs) (hq : cells + C9 = mc ∧ slots + S9 = ms)  (hcl : vwCl[ci]? = some (C, T, N)) (hd : y.cls = C ∧ y.cls ≠ "java/lang/invoke/MethodHandle" ∧ y.cls ≠ "java/lang/invoke/VarHandle" ∧ (parseMethodDescriptor y.desc).map (fun d => d.parameters.length) = some n) (hw : GoodIn lw_all (wsV own index C y (ws_ y bytes maxL ret))) (hfr : fr1 + 1 ≤ fr) (hlo : 8 + (maxL + 11) + lo1 ≤ lo)
    (hM : ∀ r1 h1 c1 s1, x = some (r1, h1, c1, s1) → zMx l D dA b0 gs y (ws_ y bytes maxL ret) fr1 lo1 (.ref b :: As) h evD r1 h1 c1 s1) (hf : zrc h b ci (zch x K Kx) = some (rr, hh, C9, S9)) (hdg : decode cc pc = .ok (.invokevirtual index, 3)) (hls : ls.size = nL) (hst : st0 = As.reverse ++ .ref b :: rest) (hnA : As.length = n) (hrm : (rest.map fun v => v.category).sum ≤ 8)
    (kk : ∀ (r1 : UInt64) (h1 : PH) (H1 : Heap) (locs1 : List Loc) (cells1 slots1 C1 S1 : Nat), K r1 h1 = some (rr, hh, C1, S1) → cells1 + C1 = mc ∧ slots1 + S1 = ms → zM D dA b0 gs s h1 H1 locs1 → W p l e ({ frames := fr, cells := mc, slots := ms, locals := lo } : Room) s m args below meth c H1 locs1 cells1 slots1 Q (F0 m (pc + 3) ls (.double r1 :: rest)))
    (kx : ∀ (e9 q9 : Nat) (ce : Cell) (h1 : PH) (H1 : Heap) (locs1 : List Loc) (cells1 slots1 C1 S1 : Nat), Kx e9 q9 h1 = some (rr, hh, C1, S1) → cells1 + C1 = mc ∧ slots1 + S1 = ms → zM D dA b0 gs s h1 H1 locs1 → H1[q9]? = some ce → ce.vm = .none → s.vm.findClass (zE e9) = some ce.cls → vx_W p l e ({ frames := fr, cells := mc, slots := ms, locals := lo } : Room) s m args below meth c H1 locs1 cells1 slots1 Q (F0 m pc ls rest) q9) : W p l e ({ frames := fr, cells := mc, slots := ms, locals := lo } : Room) s m args below meth c H locs cells slots Q (F0 m pc ls st0) := by
  unfold zrc at hf
  split at hf
  · rename_i hb9
    obtain ⟨r9, h1, c1, s1, C1, S1, q1, q2, q3, hcase⟩ := zch_i hf
    have hle : cells + c1 ≤ mc ∧ slots + s1 ≤ ms := by omega
    refine zx_back hn (vx_runV (As := As) (rest := rest) hc.1 (hM r9 h1 c1 s1 q1) (cwV n hc.ts hw rfl rfl rfl hd ⟨hfr, hlo⟩) ⟨zW_blind, hn.recv hc hcl hb9, hn.pre hc⟩ rfl hnA hls hst (lv_room hrm) hdg ⟨hle.1, hle.2⟩) (fun r hr9 H1 locs1 hn1 => ?_) (fun e9 q ce hr9 H1 locs1 hn1 g5 g6 g7 => ?_)
    · rcases hcase with ⟨r', g1, g2⟩ | ⟨e', q', g1, -⟩
      · rw [hr9] at g1
        cases g1
        exact kk r h1 H1 locs1 _ _ C1 S1 g2 ⟨by omega, by omega⟩ hn1
      · rw [hr9] at g1
        cases g1
    · rcases hcase with ⟨r', g1, -⟩ | ⟨e', q', g1, g2⟩
      · rw [hr9] at g1
        cases g1
      · rw [hr9] at g1
        cases g1
        exact kx e9 q ce h1 H1 locs1 _ _ C1 S1 g2 ⟨by omega, by omega⟩ hn1 g5 g6 g7
  · cases hf
theorem zh_SD {α : Type} {K : UInt64 → PH → ZR α} {Kx : Nat → Nat → PH → ZR α} {rr : α} {hh : PH} {x : ZR (ZX UInt64)} {C9 S9 fr lo mc ms n maxL index fr1 lo1 : Nat} {y : MethodName} {bytes : ByteArray} {ret : Option FieldType} {As : List Value} {st0 : List Value} (hc : zC D dA b0 gs own cc nL p c s m args meth) (hn : zM D dA b0 gs s h H locs) (hq : cells + C9 = mc ∧ slots + S9 = ms)  (hd : y.cls ≠ "java/lang/invoke/MethodHandle" ∧ y.cls ≠ "java/lang/invoke/VarHandle" ∧ (parseMethodDescriptor y.desc).map (fun d => d.parameters.length) = some n) (hw : GoodIn lw_all (va_wsS own index y (ws_ y bytes maxL ret))) (hfr : fr1 + 1 ≤ fr) (hlo : 8 + (maxL + 11) + lo1 ≤ lo)
    (hM : ∀ r1 h1 c1 s1, x = some (r1, h1, c1, s1) → zMx l D dA b0 gs y (ws_ y bytes maxL ret) fr1 lo1 As h evD r1 h1 c1 s1) (hf : (zch x K Kx) = some (rr, hh, C9, S9)) (hdg : decode cc pc = .ok (.invokestatic index, 3)) (hls : ls.size = nL) (hst : st0 = As.reverse ++ rest) (hnA : As.length = n) (hrm : (rest.map fun v => v.category).sum ≤ 8)
    (kk : ∀ (r1 : UInt64) (h1 : PH) (H1 : Heap) (locs1 : List Loc) (cells1 slots1 C1 S1 : Nat), K r1 h1 = some (rr, hh, C1, S1) → cells1 + C1 = mc ∧ slots1 + S1 = ms → zM D dA b0 gs s h1 H1 locs1 → W p l e ({ frames := fr, cells := mc, slots := ms, locals := lo } : Room) s m args below meth c H1 locs1 cells1 slots1 Q (F0 m (pc + 3) ls (.double r1 :: rest)))
    (kx : ∀ (e9 q9 : Nat) (ce : Cell) (h1 : PH) (H1 : Heap) (locs1 : List Loc) (cells1 slots1 C1 S1 : Nat), Kx e9 q9 h1 = some (rr, hh, C1, S1) → cells1 + C1 = mc ∧ slots1 + S1 = ms → zM D dA b0 gs s h1 H1 locs1 → H1[q9]? = some ce → ce.vm = .none → s.vm.findClass (zE e9) = some ce.cls → vx_W p l e ({ frames := fr, cells := mc, slots := ms, locals := lo } : Room) s m args below meth c H1 locs1 cells1 slots1 Q (F0 m pc ls rest) q9) : W p l e ({ frames := fr, cells := mc, slots := ms, locals := lo } : Room) s m args below meth c H locs cells slots Q (F0 m pc ls st0) := by
  obtain ⟨r9, h1, c1, s1, C1, S1, q1, q2, q3, hcase⟩ := zch_i hf
  have hle : cells + c1 ≤ mc ∧ slots + s1 ≤ ms := by omega
  refine zx_back hn (vx_runS (As := As) (rest := rest) hc.1 (hM r9 h1 c1 s1 q1) (va_cwS n hc.ts hw rfl rfl rfl hd ⟨hfr, hlo⟩) ⟨zW_blind, hn.pre hc⟩ rfl hnA hls hst (lv_room hrm) hdg ⟨hle.1, hle.2⟩) (fun r hr9 H1 locs1 hn1 => ?_) (fun e9 q ce hr9 H1 locs1 hn1 g5 g6 g7 => ?_)
  · rcases hcase with ⟨r', g1, g2⟩ | ⟨e', q', g1, -⟩
    · rw [hr9] at g1
      cases g1
      exact kk r h1 H1 locs1 _ _ C1 S1 g2 ⟨by omega, by omega⟩ hn1
    · rw [hr9] at g1
      cases g1
  · rcases hcase with ⟨r', g1, -⟩ | ⟨e', q', g1, g2⟩
    · rw [hr9] at g1
      cases g1
    · rw [hr9] at g1
      cases g1
      exact kx e9 q ce h1 H1 locs1 _ _ C1 S1 g2 ⟨by omega, by omega⟩ hn1 g5 g6 g7
theorem zh_VWD {b ci N : Nat} {C : String} {T : u_T} {ht9 : List (Nat × Nat × Nat × Nat)} {α : Type} {K : UInt64 → PH → ZR α} {Kx : Nat → Nat → PH → ZR α} {rr : α} {hh : PH} {x : ZR (ZX UInt64)} {C9 S9 fr lo mc ms n maxL index fr1 lo1 : Nat} {y : MethodName} {bytes : ByteArray} {ret : Option FieldType} {As : List Value} {st0 : List Value} (hc : zC D dA b0 gs own cc nL p c s m args meth) (hn : zM D dA b0 gs s h H locs) (hq : cells + C9 = mc ∧ slots + S9 = ms)  (hcl : vwCl[ci]? = some (C, T, N)) (hd : y.cls = C ∧ y.cls ≠ "java/lang/invoke/MethodHandle" ∧ y.cls ≠ "java/lang/invoke/VarHandle" ∧ (parseMethodDescriptor y.desc).map (fun d => d.parameters.length) = some n) (hw : GoodIn lw_all (wsV own index C y (wsW_ y bytes maxL ret ht9))) (hfr : fr1 + 1 ≤ fr) (hlo : 8 + (maxL + 11) + lo1 ≤ lo)
    (hM : ∀ r1 h1 c1 s1, x = some (r1, h1, c1, s1) → zMx l D dA b0 gs y (wsW_ y bytes maxL ret ht9) fr1 lo1 (.ref b :: As) h evD r1 h1 c1 s1) (hf : zrc h b ci (zch x K Kx) = some (rr, hh, C9, S9)) (hdg : decode cc pc = .ok (.invokevirtual index, 3)) (hls : ls.size = nL) (hst : st0 = As.reverse ++ .ref b :: rest) (hnA : As.length = n) (hrm : (rest.map fun v => v.category).sum ≤ 8)
    (kk : ∀ (r1 : UInt64) (h1 : PH) (H1 : Heap) (locs1 : List Loc) (cells1 slots1 C1 S1 : Nat), K r1 h1 = some (rr, hh, C1, S1) → cells1 + C1 = mc ∧ slots1 + S1 = ms → zM D dA b0 gs s h1 H1 locs1 → W p l e ({ frames := fr, cells := mc, slots := ms, locals := lo } : Room) s m args below meth c H1 locs1 cells1 slots1 Q (F0 m (pc + 3) ls (.double r1 :: rest)))
    (kx : ∀ (e9 q9 : Nat) (ce : Cell) (h1 : PH) (H1 : Heap) (locs1 : List Loc) (cells1 slots1 C1 S1 : Nat), Kx e9 q9 h1 = some (rr, hh, C1, S1) → cells1 + C1 = mc ∧ slots1 + S1 = ms → zM D dA b0 gs s h1 H1 locs1 → H1[q9]? = some ce → ce.vm = .none → s.vm.findClass (zE e9) = some ce.cls → vx_W p l e ({ frames := fr, cells := mc, slots := ms, locals := lo } : Room) s m args below meth c H1 locs1 cells1 slots1 Q (F0 m pc ls rest) q9) : W p l e ({ frames := fr, cells := mc, slots := ms, locals := lo } : Room) s m args below meth c H locs cells slots Q (F0 m pc ls st0) := by
  unfold zrc at hf
  split at hf
  · rename_i hb9
    obtain ⟨r9, h1, c1, s1, C1, S1, q1, q2, q3, hcase⟩ := zch_i hf
    have hle : cells + c1 ≤ mc ∧ slots + s1 ≤ ms := by omega
    refine zx_back hn (vx_runVX (As := As) (rest := rest) hc.1 (hM r9 h1 c1 s1 q1) (vx_cwVW n hc.ts hw rfl rfl rfl hd ⟨hfr, hlo⟩) ⟨zW_blind, hn.recv hc hcl hb9, hn.pre hc⟩ rfl hnA hls hst (lv_room hrm) hdg ⟨hle.1, hle.2⟩) (fun r hr9 H1 locs1 hn1 => ?_) (fun e9 q ce hr9 H1 locs1 hn1 g5 g6 g7 => ?_)
    · rcases hcase with ⟨r', g1, g2⟩ | ⟨e', q', g1, -⟩
      · rw [hr9] at g1
        cases g1
        exact kk r h1 H1 locs1 _ _ C1 S1 g2 ⟨by omega, by omega⟩ hn1
      · rw [hr9] at g1
        cases g1
    · rcases hcase with ⟨r', g1, -⟩ | ⟨e', q', g1, g2⟩
      · rw [hr9] at g1
        cases g1
      · rw [hr9] at g1
        cases g1
        exact kx e9 q ce h1 H1 locs1 _ _ C1 S1 g2 ⟨by omega, by omega⟩ hn1 g5 g6 g7
  · cases hf
theorem zx_VU {b ci N : Nat} {C : String} {T : u_T} {α : Type} {ev9 : α → Option Value} {K : Unit → PH → ZR (ZX α)} {rr : ZX α} {hh : PH} {x : ZR (ZX Unit)} {C9 S9 fr lo mc ms n maxL index fr1 lo1 : Nat} {y : MethodName} {bytes : ByteArray} {ret : Option FieldType} {As : List Value} {st0 : List Value} (hc : zC D dA b0 gs own cc nL p c s m args meth) (hn : zM D dA b0 gs s h H locs) (hq : cells + C9 = mc ∧ slots + S9 = ms) (hout : ∀ x ∈ c.exceptionTable.toList, covers x pc = false) (hcl : vwCl[ci]? = some (C, T, N)) (hd : y.cls = C ∧ y.cls ≠ "java/lang/invoke/MethodHandle" ∧ y.cls ≠ "java/lang/invoke/VarHandle" ∧ (parseMethodDescriptor y.desc).map (fun d => d.parameters.length) = some n) (hw : GoodIn lw_all (wsV own index C y (ws_ y bytes maxL ret))) (hfr : fr1 + 1 ≤ fr) (hlo : 8 + (maxL + 11) + lo1 ≤ lo)
    (hM : ∀ r1 h1 c1 s1, x = some (r1, h1, c1, s1) → zMx l D dA b0 gs y (ws_ y bytes maxL ret) fr1 lo1 (.ref b :: As) h evU r1 h1 c1 s1) (hf : zrc h b ci (zcx x K) = some (rr, hh, C9, S9)) (hdg : decode cc pc = .ok (.invokevirtual index, 3)) (hls : ls.size = nL) (hst : st0 = As.reverse ++ .ref b :: rest) (hnA : As.length = n) (hrm : (rest.map fun v => v.category).sum ≤ 8)
    (kk : ∀ (r1 : Unit) (h1 : PH) (H1 : Heap) (locs1 : List Loc) (cells1 slots1 C1 S1 : Nat), K r1 h1 = some (rr, hh, C1, S1) → cells1 + C1 = mc ∧ slots1 + S1 = ms → zM D dA b0 gs s h1 H1 locs1 → W p l e ({ frames := fr, cells := mc, slots := ms, locals := lo } : Room) s m args below meth c H1 locs1 cells1 slots1 (vx_MQ below (zQX D dA b0 gs ev9 rr hh) (zXC D dA b0 gs rr hh) args s mc ms (zA b0)) (F0 m (pc + 3) ls (rest))) : W p l e ({ frames := fr, cells := mc, slots := ms, locals := lo } : Room) s m args below meth c H locs cells slots (vx_MQ below (zQX D dA b0 gs ev9 rr hh) (zXC D dA b0 gs rr hh) args s mc ms (zA b0)) (F0 m pc ls st0) := by
  unfold zrc at hf
  split at hf
  · rename_i hb9
    obtain ⟨r9, h1, c1, s1, q1, hcase⟩ := zcx_i hf
    have hle : cells + c1 ≤ mc ∧ slots + s1 ≤ ms := by
      rcases hcase with ⟨r, C1, S1, g1, g2, g3, g4⟩ | ⟨e9, g1, g2, g3, g4, g5⟩
      · omega
      · omega
    refine zx_back hn (vx_runV (As := As) (rest := rest) hc.1 (hM r9 h1 c1 s1 q1) (cwV n hc.ts hw rfl rfl rfl hd ⟨hfr, hlo⟩) ⟨zW_blind, hn.recv hc hcl hb9, hn.pre hc⟩ rfl hnA hls hst (lv_room hrm) hdg ⟨hle.1, hle.2⟩) (fun r hr9 H1 locs1 hn1 => ?_) (fun e9 q ce hr9 H1 locs1 hn1 g5 g6 g7 => ?_)
    · rcases hcase with ⟨r', C1, S1, g1, g2, g3, g4⟩ | ⟨e', g1, -⟩
      · rw [hr9] at g1
        cases g1
        exact kk r h1 H1 locs1 _ _ C1 S1 g2 ⟨by omega, by omega⟩ hn1
      · rw [hr9] at g1
        cases g1
    · rcases hcase with ⟨r', C1, S1, g1, -⟩ | ⟨e', g1, g2, g3, g4, g8⟩
      · rw [hr9] at g1
        cases g1
      · rw [hr9] at g1
        cases g1
        subst g3
        exact zx_out hc hn1 g2 g5 g6 g7 hout hle.1 hle.2
  · cases hf
theorem zx_SU {α : Type} {ev9 : α → Option Value} {K : Unit → PH → ZR (ZX α)} {rr : ZX α} {hh : PH} {x : ZR (ZX Unit)} {C9 S9 fr lo mc ms n maxL index fr1 lo1 : Nat} {y : MethodName} {bytes : ByteArray} {ret : Option FieldType} {As : List Value} {st0 : List Value} (hc : zC D dA b0 gs own cc nL p c s m args meth) (hn : zM D dA b0 gs s h H locs) (hq : cells + C9 = mc ∧ slots + S9 = ms) (hout : ∀ x ∈ c.exceptionTable.toList, covers x pc = false) (hd : y.cls ≠ "java/lang/invoke/MethodHandle" ∧ y.cls ≠ "java/lang/invoke/VarHandle" ∧ (parseMethodDescriptor y.desc).map (fun d => d.parameters.length) = some n) (hw : GoodIn lw_all (va_wsS own index y (ws_ y bytes maxL ret))) (hfr : fr1 + 1 ≤ fr) (hlo : 8 + (maxL + 11) + lo1 ≤ lo)
    (hM : ∀ r1 h1 c1 s1, x = some (r1, h1, c1, s1) → zMx l D dA b0 gs y (ws_ y bytes maxL ret) fr1 lo1 As h evU r1 h1 c1 s1) (hf : (zcx x K) = some (rr, hh, C9, S9)) (hdg : decode cc pc = .ok (.invokestatic index, 3)) (hls : ls.size = nL) (hst : st0 = As.reverse ++ rest) (hnA : As.length = n) (hrm : (rest.map fun v => v.category).sum ≤ 8)
    (kk : ∀ (r1 : Unit) (h1 : PH) (H1 : Heap) (locs1 : List Loc) (cells1 slots1 C1 S1 : Nat), K r1 h1 = some (rr, hh, C1, S1) → cells1 + C1 = mc ∧ slots1 + S1 = ms → zM D dA b0 gs s h1 H1 locs1 → W p l e ({ frames := fr, cells := mc, slots := ms, locals := lo } : Room) s m args below meth c H1 locs1 cells1 slots1 (vx_MQ below (zQX D dA b0 gs ev9 rr hh) (zXC D dA b0 gs rr hh) args s mc ms (zA b0)) (F0 m (pc + 3) ls (rest))) : W p l e ({ frames := fr, cells := mc, slots := ms, locals := lo } : Room) s m args below meth c H locs cells slots (vx_MQ below (zQX D dA b0 gs ev9 rr hh) (zXC D dA b0 gs rr hh) args s mc ms (zA b0)) (F0 m pc ls st0) := by
  obtain ⟨r9, h1, c1, s1, q1, hcase⟩ := zcx_i hf
  have hle : cells + c1 ≤ mc ∧ slots + s1 ≤ ms := by
    rcases hcase with ⟨r, C1, S1, g1, g2, g3, g4⟩ | ⟨e9, g1, g2, g3, g4, g5⟩
    · omega
    · omega
  refine zx_back hn (vx_runS (As := As) (rest := rest) hc.1 (hM r9 h1 c1 s1 q1) (va_cwS n hc.ts hw rfl rfl rfl hd ⟨hfr, hlo⟩) ⟨zW_blind, hn.pre hc⟩ rfl hnA hls hst (lv_room hrm) hdg ⟨hle.1, hle.2⟩) (fun r hr9 H1 locs1 hn1 => ?_) (fun e9 q ce hr9 H1 locs1 hn1 g5 g6 g7 => ?_)
  · rcases hcase with ⟨r', C1, S1, g1, g2, g3, g4⟩ | ⟨e', g1, -⟩
    · rw [hr9] at g1
      cases g1
      exact kk r h1 H1 locs1 _ _ C1 S1 g2 ⟨by omega, by omega⟩ hn1
    · rw [hr9] at g1
      cases g1
  · rcases hcase with ⟨r', C1, S1, g1, -⟩ | ⟨e', g1, g2, g3, g4, g8⟩
    · rw [hr9] at g1
      cases g1
    · rw [hr9] at g1
      cases g1
      subst g3
      exact zx_out hc hn1 g2 g5 g6 g7 hout hle.1 hle.2
theorem zh_VU {b ci N : Nat} {C : String} {T : u_T} {α : Type} {K : Unit → PH → ZR α} {Kx : Nat → Nat → PH → ZR α} {rr : α} {hh : PH} {x : ZR (ZX Unit)} {C9 S9 fr lo mc ms n maxL index fr1 lo1 : Nat} {y : MethodName} {bytes : ByteArray} {ret : Option FieldType} {As : List Value} {st0 : List Value} (hc : zC D dA b0 gs own cc nL p c s m args meth) (hn : zM D dA b0 gs s h H locs) (hq : cells + C9 = mc ∧ slots + S9 = ms)  (hcl : vwCl[ci]? = some (C, T, N)) (hd : y.cls = C ∧ y.cls ≠ "java/lang/invoke/MethodHandle" ∧ y.cls ≠ "java/lang/invoke/VarHandle" ∧ (parseMethodDescriptor y.desc).map (fun d => d.parameters.length) = some n) (hw : GoodIn lw_all (wsV own index C y (ws_ y bytes maxL ret))) (hfr : fr1 + 1 ≤ fr) (hlo : 8 + (maxL + 11) + lo1 ≤ lo)
    (hM : ∀ r1 h1 c1 s1, x = some (r1, h1, c1, s1) → zMx l D dA b0 gs y (ws_ y bytes maxL ret) fr1 lo1 (.ref b :: As) h evU r1 h1 c1 s1) (hf : zrc h b ci (zch x K Kx) = some (rr, hh, C9, S9)) (hdg : decode cc pc = .ok (.invokevirtual index, 3)) (hls : ls.size = nL) (hst : st0 = As.reverse ++ .ref b :: rest) (hnA : As.length = n) (hrm : (rest.map fun v => v.category).sum ≤ 8)
    (kk : ∀ (r1 : Unit) (h1 : PH) (H1 : Heap) (locs1 : List Loc) (cells1 slots1 C1 S1 : Nat), K r1 h1 = some (rr, hh, C1, S1) → cells1 + C1 = mc ∧ slots1 + S1 = ms → zM D dA b0 gs s h1 H1 locs1 → W p l e ({ frames := fr, cells := mc, slots := ms, locals := lo } : Room) s m args below meth c H1 locs1 cells1 slots1 Q (F0 m (pc + 3) ls (rest)))
    (kx : ∀ (e9 q9 : Nat) (ce : Cell) (h1 : PH) (H1 : Heap) (locs1 : List Loc) (cells1 slots1 C1 S1 : Nat), Kx e9 q9 h1 = some (rr, hh, C1, S1) → cells1 + C1 = mc ∧ slots1 + S1 = ms → zM D dA b0 gs s h1 H1 locs1 → H1[q9]? = some ce → ce.vm = .none → s.vm.findClass (zE e9) = some ce.cls → vx_W p l e ({ frames := fr, cells := mc, slots := ms, locals := lo } : Room) s m args below meth c H1 locs1 cells1 slots1 Q (F0 m pc ls rest) q9) : W p l e ({ frames := fr, cells := mc, slots := ms, locals := lo } : Room) s m args below meth c H locs cells slots Q (F0 m pc ls st0) := by
  unfold zrc at hf
  split at hf
  · rename_i hb9
    obtain ⟨r9, h1, c1, s1, C1, S1, q1, q2, q3, hcase⟩ := zch_i hf
    have hle : cells + c1 ≤ mc ∧ slots + s1 ≤ ms := by omega
    refine zx_back hn (vx_runV (As := As) (rest := rest) hc.1 (hM r9 h1 c1 s1 q1) (cwV n hc.ts hw rfl rfl rfl hd ⟨hfr, hlo⟩) ⟨zW_blind, hn.recv hc hcl hb9, hn.pre hc⟩ rfl hnA hls hst (lv_room hrm) hdg ⟨hle.1, hle.2⟩) (fun r hr9 H1 locs1 hn1 => ?_) (fun e9 q ce hr9 H1 locs1 hn1 g5 g6 g7 => ?_)
    · rcases hcase with ⟨r', g1, g2⟩ | ⟨e', q', g1, -⟩
      · rw [hr9] at g1
        cases g1
        exact kk r h1 H1 locs1 _ _ C1 S1 g2 ⟨by omega, by omega⟩ hn1
      · rw [hr9] at g1
        cases g1
    · rcases hcase with ⟨r', g1, -⟩ | ⟨e', q', g1, g2⟩
      · rw [hr9] at g1
        cases g1
      · rw [hr9] at g1
        cases g1
        exact kx e9 q ce h1 H1 locs1 _ _ C1 S1 g2 ⟨by omega, by omega⟩ hn1 g5 g6 g7
  · cases hf
theorem zh_SU {α : Type} {K : Unit → PH → ZR α} {Kx : Nat → Nat → PH → ZR α} {rr : α} {hh : PH} {x : ZR (ZX Unit)} {C9 S9 fr lo mc ms n maxL index fr1 lo1 : Nat} {y : MethodName} {bytes : ByteArray} {ret : Option FieldType} {As : List Value} {st0 : List Value} (hc : zC D dA b0 gs own cc nL p c s m args meth) (hn : zM D dA b0 gs s h H locs) (hq : cells + C9 = mc ∧ slots + S9 = ms)  (hd : y.cls ≠ "java/lang/invoke/MethodHandle" ∧ y.cls ≠ "java/lang/invoke/VarHandle" ∧ (parseMethodDescriptor y.desc).map (fun d => d.parameters.length) = some n) (hw : GoodIn lw_all (va_wsS own index y (ws_ y bytes maxL ret))) (hfr : fr1 + 1 ≤ fr) (hlo : 8 + (maxL + 11) + lo1 ≤ lo)
    (hM : ∀ r1 h1 c1 s1, x = some (r1, h1, c1, s1) → zMx l D dA b0 gs y (ws_ y bytes maxL ret) fr1 lo1 As h evU r1 h1 c1 s1) (hf : (zch x K Kx) = some (rr, hh, C9, S9)) (hdg : decode cc pc = .ok (.invokestatic index, 3)) (hls : ls.size = nL) (hst : st0 = As.reverse ++ rest) (hnA : As.length = n) (hrm : (rest.map fun v => v.category).sum ≤ 8)
    (kk : ∀ (r1 : Unit) (h1 : PH) (H1 : Heap) (locs1 : List Loc) (cells1 slots1 C1 S1 : Nat), K r1 h1 = some (rr, hh, C1, S1) → cells1 + C1 = mc ∧ slots1 + S1 = ms → zM D dA b0 gs s h1 H1 locs1 → W p l e ({ frames := fr, cells := mc, slots := ms, locals := lo } : Room) s m args below meth c H1 locs1 cells1 slots1 Q (F0 m (pc + 3) ls (rest)))
    (kx : ∀ (e9 q9 : Nat) (ce : Cell) (h1 : PH) (H1 : Heap) (locs1 : List Loc) (cells1 slots1 C1 S1 : Nat), Kx e9 q9 h1 = some (rr, hh, C1, S1) → cells1 + C1 = mc ∧ slots1 + S1 = ms → zM D dA b0 gs s h1 H1 locs1 → H1[q9]? = some ce → ce.vm = .none → s.vm.findClass (zE e9) = some ce.cls → vx_W p l e ({ frames := fr, cells := mc, slots := ms, locals := lo } : Room) s m args below meth c H1 locs1 cells1 slots1 Q (F0 m pc ls rest) q9) : W p l e ({ frames := fr, cells := mc, slots := ms, locals := lo } : Room) s m args below meth c H locs cells slots Q (F0 m pc ls st0) := by
  obtain ⟨r9, h1, c1, s1, C1, S1, q1, q2, q3, hcase⟩ := zch_i hf
  have hle : cells + c1 ≤ mc ∧ slots + s1 ≤ ms := by omega
  refine zx_back hn (vx_runS (As := As) (rest := rest) hc.1 (hM r9 h1 c1 s1 q1) (va_cwS n hc.ts hw rfl rfl rfl hd ⟨hfr, hlo⟩) ⟨zW_blind, hn.pre hc⟩ rfl hnA hls hst (lv_room hrm) hdg ⟨hle.1, hle.2⟩) (fun r hr9 H1 locs1 hn1 => ?_) (fun e9 q ce hr9 H1 locs1 hn1 g5 g6 g7 => ?_)
  · rcases hcase with ⟨r', g1, g2⟩ | ⟨e', q', g1, -⟩
    · rw [hr9] at g1
      cases g1
      exact kk r h1 H1 locs1 _ _ C1 S1 g2 ⟨by omega, by omega⟩ hn1
    · rw [hr9] at g1
      cases g1
  · rcases hcase with ⟨r', g1, -⟩ | ⟨e', q', g1, g2⟩
    · rw [hr9] at g1
      cases g1
    · rw [hr9] at g1
      cases g1
      exact kx e9 q ce h1 H1 locs1 _ _ C1 S1 g2 ⟨by omega, by omega⟩ hn1 g5 g6 g7
theorem zh_VWU {b ci N : Nat} {C : String} {T : u_T} {ht9 : List (Nat × Nat × Nat × Nat)} {α : Type} {K : Unit → PH → ZR α} {Kx : Nat → Nat → PH → ZR α} {rr : α} {hh : PH} {x : ZR (ZX Unit)} {C9 S9 fr lo mc ms n maxL index fr1 lo1 : Nat} {y : MethodName} {bytes : ByteArray} {ret : Option FieldType} {As : List Value} {st0 : List Value} (hc : zC D dA b0 gs own cc nL p c s m args meth) (hn : zM D dA b0 gs s h H locs) (hq : cells + C9 = mc ∧ slots + S9 = ms)  (hcl : vwCl[ci]? = some (C, T, N)) (hd : y.cls = C ∧ y.cls ≠ "java/lang/invoke/MethodHandle" ∧ y.cls ≠ "java/lang/invoke/VarHandle" ∧ (parseMethodDescriptor y.desc).map (fun d => d.parameters.length) = some n) (hw : GoodIn lw_all (wsV own index C y (wsW_ y bytes maxL ret ht9))) (hfr : fr1 + 1 ≤ fr) (hlo : 8 + (maxL + 11) + lo1 ≤ lo)
    (hM : ∀ r1 h1 c1 s1, x = some (r1, h1, c1, s1) → zMx l D dA b0 gs y (wsW_ y bytes maxL ret ht9) fr1 lo1 (.ref b :: As) h evU r1 h1 c1 s1) (hf : zrc h b ci (zch x K Kx) = some (rr, hh, C9, S9)) (hdg : decode cc pc = .ok (.invokevirtual index, 3)) (hls : ls.size = nL) (hst : st0 = As.reverse ++ .ref b :: rest) (hnA : As.length = n) (hrm : (rest.map fun v => v.category).sum ≤ 8)
    (kk : ∀ (r1 : Unit) (h1 : PH) (H1 : Heap) (locs1 : List Loc) (cells1 slots1 C1 S1 : Nat), K r1 h1 = some (rr, hh, C1, S1) → cells1 + C1 = mc ∧ slots1 + S1 = ms → zM D dA b0 gs s h1 H1 locs1 → W p l e ({ frames := fr, cells := mc, slots := ms, locals := lo } : Room) s m args below meth c H1 locs1 cells1 slots1 Q (F0 m (pc + 3) ls (rest)))
    (kx : ∀ (e9 q9 : Nat) (ce : Cell) (h1 : PH) (H1 : Heap) (locs1 : List Loc) (cells1 slots1 C1 S1 : Nat), Kx e9 q9 h1 = some (rr, hh, C1, S1) → cells1 + C1 = mc ∧ slots1 + S1 = ms → zM D dA b0 gs s h1 H1 locs1 → H1[q9]? = some ce → ce.vm = .none → s.vm.findClass (zE e9) = some ce.cls → vx_W p l e ({ frames := fr, cells := mc, slots := ms, locals := lo } : Room) s m args below meth c H1 locs1 cells1 slots1 Q (F0 m pc ls rest) q9) : W p l e ({ frames := fr, cells := mc, slots := ms, locals := lo } : Room) s m args below meth c H locs cells slots Q (F0 m pc ls st0) := by
  unfold zrc at hf
  split at hf
  · rename_i hb9
    obtain ⟨r9, h1, c1, s1, C1, S1, q1, q2, q3, hcase⟩ := zch_i hf
    have hle : cells + c1 ≤ mc ∧ slots + s1 ≤ ms := by omega
    refine zx_back hn (vx_runVX (As := As) (rest := rest) hc.1 (hM r9 h1 c1 s1 q1) (vx_cwVW n hc.ts hw rfl rfl rfl hd ⟨hfr, hlo⟩) ⟨zW_blind, hn.recv hc hcl hb9, hn.pre hc⟩ rfl hnA hls hst (lv_room hrm) hdg ⟨hle.1, hle.2⟩) (fun r hr9 H1 locs1 hn1 => ?_) (fun e9 q ce hr9 H1 locs1 hn1 g5 g6 g7 => ?_)
    · rcases hcase with ⟨r', g1, g2⟩ | ⟨e', q', g1, -⟩
      · rw [hr9] at g1
        cases g1
        exact kk r h1 H1 locs1 _ _ C1 S1 g2 ⟨by omega, by omega⟩ hn1
      · rw [hr9] at g1
        cases g1
    · rcases hcase with ⟨r', g1, -⟩ | ⟨e', q', g1, g2⟩
      · rw [hr9] at g1
        cases g1
      · rw [hr9] at g1
        cases g1
        exact kx e9 q ce h1 H1 locs1 _ _ C1 S1 g2 ⟨by omega, by omega⟩ hn1 g5 g6 g7
  · cases hf
/-- a static call of a method with handlers that lets nothing out -/
theorem zr_cSWI {α : Type} {x : ZR Int32} {K : Int32 → PH → ZR α} {r : α} {hh : PH} {C9 S9 fr lo mc ms n maxL index fr1 lo1 : Nat} {y : MethodName} {bytes : ByteArray} {ret : Option FieldType} {ht9 : List (Nat × Nat × Nat × Nat)} {As : List Value} {st0 : List Value} (hc : zC D dA b0 gs own cc nL p c s m args meth) (hn : zM D dA b0 gs s h H locs) (hq : cells + C9 = mc ∧ slots + S9 = ms) (hd : y.cls ≠ "java/lang/invoke/MethodHandle" ∧ y.cls ≠ "java/lang/invoke/VarHandle" ∧ (parseMethodDescriptor y.desc).map (fun d => d.parameters.length) = some n) (hw : GoodIn lw_all (va_wsS own index y (wsW_ y bytes maxL ret ht9))) (hfr : fr1 + 1 ≤ fr) (hlo : 8 + (maxL + 11) + lo1 ≤ lo)
    (hM : ∀ r1 h1 c1 s1, x = some (r1, h1, c1, s1) → zMx l D dA b0 gs y (wsW_ y bytes maxL ret ht9) fr1 lo1 As h evI (.inl r1) h1 c1 s1) (hf : zcl x K = some (r, hh, C9, S9)) (hdg : decode cc pc = .ok (.invokestatic index, 3)) (hls : ls.size = nL) (hst : st0 = As.reverse ++ rest) (hnA : As.length = n) (hrm : (rest.map fun v => v.category).sum ≤ 8)
    (kk : ∀ (r1 : Int32) (h1 : PH) (H1 : Heap) (locs1 : List Loc) (cells1 slots1 C1 S1 : Nat), K r1 h1 = some (r, hh, C1, S1) → cells1 + C1 = mc ∧ slots1 + S1 = ms → zM D dA b0 gs s h1 H1 locs1 → W p l e ({ frames := fr, cells := mc, slots := ms, locals := lo } : Room) s m args below meth c H1 locs1 cells1 slots1 Q (F0 m (pc + 3) ls (.int r1 :: rest))) : W p l e ({ frames := fr, cells := mc, slots := ms, locals := lo } : Room) s m args below meth c H locs cells slots Q (F0 m pc ls st0) := by
  obtain ⟨r1, h1, c1, s1, C1, S1, q1, q2, q3, q4⟩ := zcl_i hf
  exact zr_back hn (vx_runSW (As := As) (rest := rest) hc.1 (hM r1 h1 c1 s1 q1).met (vx_cwSW n hc.ts hw rfl rfl rfl hd ⟨hfr, hlo⟩) ⟨zW_blind, hn.pre hc⟩ rfl hnA hls hst (lv_room hrm) hdg ⟨by show cells + c1 ≤ mc; omega, by show slots + s1 ≤ ms; omega⟩) (fun H1 locs1 hn1 => kk r1 h1 H1 locs1 _ _ C1 S1 q2 ⟨by omega, by omega⟩ hn1)
/-- the end of a method that may throw -/
theorem zx_ret {β : Type} {ev : β → Option Value} {rr : ZX β} {hh : PH} {mc ms : Nat} {g : JFrame} {XC : String → Addr → State → State → Prop} (k : W p l e R s m args below meth c H locs cells slots (MQ below (zQX D dA b0 gs ev rr hh) args s mc ms (zA b0)) g) : W p l e R s m args below meth c H locs cells slots (vx_MQ below (zQX D dA b0 gs ev rr hh) XC args s mc ms (zA b0)) g := vx_ret k
theorem zretx_i {α : Type} {r : α} {rr : ZX α} {h hh : PH} {C S : Nat} (q : zret (Sum.inl r : ZX α) h = some (rr, hh, C, S)) : rr = .inl r ∧ hh = h ∧ C = 0 ∧ S = 0 := by
  cases q
  exact ⟨rfl, rfl, rfl, rfl⟩
end ZEX
