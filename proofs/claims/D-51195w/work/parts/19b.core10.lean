/-! ENUMS, methods that others override, calls by an interface -/
set_option maxRecDepth 100000
theorem z_eqi {args : Array Value} {s : State} {t : Term} {z : Int32} (h : (Cond.eq t (.int z)).before args s = true) : t.eval args s none [] s = some (.int z) := by
  cases hv : t.eval args s none [] s with
  | none => simp [Cond.before, Cond.holds, Cond.value, hv] at h
  | some w =>
    have hz : (Term.int z).eval args s none [] s = some (.int z) := rfl
    simp only [Cond.before, Cond.holds, Cond.value, hv, hz] at h
    cases w <;> simp_all
theorem z_gs {a0 : Array Value} {S0 : State} {k b : Nat} (hk : k < 26) (h : zgs a0 S0 k = some b) : (zTm k).eval a0 S0 none [] S0 = some (.ref b) := by
  unfold zgs at h
  split at h
  · omega
  · omega
  · omega
  split at h
  · rename_i a hv; cases h; exact hv
  · cases h
/-- the answer by which of the three mends it is -/
def zmv {α : Type} (h : PH) (b : Nat) (X5 X6 X7 : ZR α) : ZR α := if zS h 5 = some b then X5 else if zS h 6 = some b then X6 else if zS h 7 = some b then X7 else none
def zord {α : Type} (h : PH) (b : Nat) (K : Int32 → ZR α) : ZR α := if zS h 5 = some b then K 0 else if zS h 6 = some b then K 1 else if zS h 7 = some b then K 2 else none
theorem zno_0 : (Cond.eq (.field (.static "CountedSkipLists$Mend" "DIVIDED" "LCountedSkipLists$Mend;") "java/lang/Enum" "ordinal" "I") (.int 0)) ∈ flatC zNar := by decide +kernel
theorem zno_1 : (Cond.eq (.field (.static "CountedSkipLists$Mend" "SHIFTED" "LCountedSkipLists$Mend;") "java/lang/Enum" "ordinal" "I") (.int 1)) ∈ flatC zNar := by decide +kernel
theorem zno_2 : (Cond.eq (.field (.static "CountedSkipLists$Mend" "MERGED" "LCountedSkipLists$Mend;") "java/lang/Enum" "ordinal" "I") (.int 2)) ∈ flatC zNar := by decide +kernel
section ZL
variable {p : Program} {l : Launch} {e : Env} {R : Room} {s : State} {m : MethodId} {args : Array Value} {below : List Frame} {meth : Method} {c : Code} {H : Heap} {locs : List Loc} {cells slots : Nat} {Q : State → Prop}
variable {cc : ByteArray} {pc nL : Nat} {ls : Array Slot} {rest : List Value} {D : va_G} {dA : Nat → ClassId} {b0 : Nat} {gs : Nat → Option Nat} {own : String} {h : PH} {a : Nat}
theorem zC.mo0 (hc : zC D dA b0 gs own cc nL p c s m args meth) {b : Nat} (hb : gs 5 = some b) : va_O "CountedSkipLists$Mend$1" b (zA b0) s s.heap ∧ va_OF "java/lang/Enum" "ordinal" "I" (.int 0) b (zA b0) s s.heap := by
  obtain ⟨S0, a0, g1, g2, g3, g4, g5, g6⟩ := hc.g
  rw [g4] at hb
  have ht := z_gs (by decide) hb
  have hA : ∀ a : Nat, a < S0.heap.size → ¬ zA b0 a := fun a ha => by show ¬ b0 ≤ a; omega
  have hK : ∀ a : Nat, a < S0.heap.size → ¬ zA b0 a → s.heap[a]? = S0.heap[a]? := fun a ha hb => g6 a (Nat.not_le.mp hb)
  exact ⟨((va_Oof (flat_of_before _ g2 _ znr_5) ht hA).moved g5.alike).kept hK, ((vk_OFof ht (z_eqi (flat_of_before _ g2 _ zno_0)) hA).moved g5.alike).kept hK⟩
theorem zC.mo1 (hc : zC D dA b0 gs own cc nL p c s m args meth) {b : Nat} (hb : gs 6 = some b) : va_O "CountedSkipLists$Mend$2" b (zA b0) s s.heap ∧ va_OF "java/lang/Enum" "ordinal" "I" (.int 1) b (zA b0) s s.heap := by
  obtain ⟨S0, a0, g1, g2, g3, g4, g5, g6⟩ := hc.g
  rw [g4] at hb
  have ht := z_gs (by decide) hb
  have hA : ∀ a : Nat, a < S0.heap.size → ¬ zA b0 a := fun a ha => by show ¬ b0 ≤ a; omega
  have hK : ∀ a : Nat, a < S0.heap.size → ¬ zA b0 a → s.heap[a]? = S0.heap[a]? := fun a ha hb => g6 a (Nat.not_le.mp hb)
  exact ⟨((va_Oof (flat_of_before _ g2 _ znr_6) ht hA).moved g5.alike).kept hK, ((vk_OFof ht (z_eqi (flat_of_before _ g2 _ zno_1)) hA).moved g5.alike).kept hK⟩
theorem zC.mo2 (hc : zC D dA b0 gs own cc nL p c s m args meth) {b : Nat} (hb : gs 7 = some b) : va_O "CountedSkipLists$Mend$3" b (zA b0) s s.heap ∧ va_OF "java/lang/Enum" "ordinal" "I" (.int 2) b (zA b0) s s.heap := by
  obtain ⟨S0, a0, g1, g2, g3, g4, g5, g6⟩ := hc.g
  rw [g4] at hb
  have ht := z_gs (by decide) hb
  have hA : ∀ a : Nat, a < S0.heap.size → ¬ zA b0 a := fun a ha => by show ¬ b0 ≤ a; omega
  have hK : ∀ a : Nat, a < S0.heap.size → ¬ zA b0 a → s.heap[a]? = S0.heap[a]? := fun a ha hb => g6 a (Nat.not_le.mp hb)
  exact ⟨((va_Oof (flat_of_before _ g2 _ znr_7) ht hA).moved g5.alike).kept hK, ((vk_OFof ht (z_eqi (flat_of_before _ g2 _ zno_2)) hA).moved g5.alike).kept hK⟩
theorem zC.dec (hc : zC D dA b0 gs own cc nL p c s m args meth) {x : MethodName} (hw : (.declares x) ∈ lw_tbl) : va_Decl s x := by
  obtain ⟨S0, a0, g1, g2, g3, g4, g5, g6⟩ := hc.g
  exact va_Decl.abs (va_Nw.warmD g5 (va_Nw.of rfl (g1 _ hw)))
theorem zC.fw (hc : zC D dA b0 gs own cc nL p c s m args meth) {C : String} {x y : MethodName} (hx : x.cls ≠ "java/lang/invoke/MethodHandle" ∧ x.cls ≠ "java/lang/invoke/VarHandle") (h1 : (.declares x) ∈ lw_tbl) (h2 : (.interfaceMethod x.cls x.cls x.name x.desc) ∈ lw_tbl) (h3 : (.publicMethod y) ∈ lw_tbl) (h4 : (.unhidden C x.name x.desc) ∈ lw_tbl) (h5 : (.castable C x.cls) ∈ lw_tbl) : va_Fw C x y s := by
  obtain ⟨S0, a0, g1, g2, g3, g4, g5, g6⟩ := hc.g
  exact va_Fw.moved hx g5.alike (va_Fw.of (g1 _ h1) (g1 _ h2) (g1 _ h3) (g1 _ h4) (g1 _ h5))
theorem zr_gsN {α : Type} {K : Option Nat → ZR α} {z : α × PH × Nat × Nat} {k : Nat} (hc : zC D dA b0 gs own cc nL p c s m args meth) (hn : zM D dA b0 gs s h H locs) {C n d ref host : String} {index : Nat} (hZ : va_Z C n d (va_rf (gs k)) (zA b0) s s.heap) (hlink : (Cond.fieldLinkNest own index ref n d host) ∈ lw_tbl) (hsame : ∀ x, s.fieldFound? C n d = some x → s.fieldFound? ref n d = some x) (hf : znm (zS h k) K = some z) (hdg : decode cc pc = .ok (.getstatic index, 3))
    (kk : ∀ o : Option Nat, K o = some z → W p l e R s m args below meth c H locs cells slots Q (F0 m (pc + 3) ls (va_rf o :: rest))) : W p l e R s m args below meth c H locs cells slots Q (F0 m pc ls rest) := by
  refine va_getsN hc.x hc.b hZ hn.2.2.2 hc.ow ((hc.nF hlink).use rfl) hsame hdg ?_
  have h3 : zS h = gs := hn.2.2.1
  rw [← h3]
  exact kk _ hf
theorem z_cwD {own C owner : String} {index maxL mc ms : Nat} {x y : MethodName} {bytes : ByteArray} {ret : Option FieldType} {Ts ws ws' : List Cond} {rm : Room} (n : Nat) (ht : ∀ w ∈ Ts, w.before args s = true) (hT : GoodIn Ts (va_wsU own index C owner x y ws)) (hw : ws = Cond.code y bytes maxL ret :: ws') (hrc : rm.cells = mc) (hrs : rm.slots = ms)
    (hdec : va_Decl s ⟨owner, x.name, x.desc⟩) (hd : owner ≠ "java/lang/invoke/MethodHandle" ∧ owner ≠ "java/lang/invoke/VarHandle" ∧ (parseMethodDescriptor x.desc).map (fun d => d.parameters.length) = some n) (hR : rm.frames + 1 ≤ R.frames ∧ 8 + (maxL + 11) + rm.locals ≤ R.locals) : va_CU R s args own C owner index x y bytes maxL ret ws rm mc ms n := by
  have ok : ∀ w ∈ va_wsU own index C owner x y ws, w.before args s = true := fun w h => ht w (hT w h).1
  have hG : GoodIn Ts ws := fun w h => hT w (by unfold va_wsU; exact List.mem_append_right _ h)
  have hc : Cond.code y bytes maxL ret ∈ ws := by rw [hw]; exact List.mem_cons_self
  refine ⟨⟨hrc, hrs, hR.1, hR.2, pay_in ht hG, hc⟩, ht _ (hG _ hc).1, ok _ (by simp [va_wsU]), ⟨hd.1, hd.2.1⟩, fun sig h => ?_, ok _ (by simp [va_wsU]), ok _ (by simp [va_wsU]), hdec, ok _ (by simp [va_wsU]), ok _ (by simp [va_wsU])⟩
  have h2 := hd.2.2
  rw [h] at h2
  exact (Option.some.inj h2).symm
theorem lw_F {own : String} {idx : Nat} {C : String} {x y : MethodName} {b : ByteArray} {L : Nat} {r : Option FieldType} (h1 : Cond.methodLink own idx x ∈ lw_all) (h3 : Cond.selects C x y ∈ lw_all) (h4 : Cond.instanceMethod y ∈ lw_all) (h5 : Cond.initialized y.cls ∈ lw_all) (h6 : Cond.code y b L r ∈ lw_all) : GoodIn lw_all (va_wsF own idx C x y (ws_ y b L r)) := by
  refine lw_app ?_ (lw_meth h6)
  intro w hw
  simp only [List.mem_cons, List.not_mem_nil, or_false] at hw
  rcases hw with e | e | e | e
  · rw [e]; exact h1
  · rw [e]; exact h3
  · rw [e]; exact h4
  · rw [e]; exact h5
theorem zr_back5 {h1 : PH} {v : Option Value} {mc ms : Nat} {av : Array Value} {st0 : List Value} (hn : zM D dA b0 gs s h H locs) (hr : va_Run5 p l e R s m args below meth c H locs cells slots mc ms (F0 m pc ls st0) rest (zQ D dA b0 gs v h1 av) (zA b0))
    (kk : ∀ (H1 : Heap) (locs1 : List Loc), zM D dA b0 gs s h1 H1 locs1 → W p l e R s m args below meth c H1 locs1 (cells + mc) (slots + ms) Q (F0 m (pc + 5) ls (v.toList ++ rest))) : W p l e R s m args below meth c H locs cells slots Q (F0 m pc ls st0) := by
  intro T hT X
  obtain ⟨v9, st₀, t, T', L, h0, X', hL, e1, e2, ⟨hv, ⟨w1, w2, w3, -⟩, hz, hk⟩, st⟩ := hr T hT X
  cases hv
  rw [h0] at hz hk
  obtain ⟨-, -, -, n4⟩ := hn
  obtain ⟨t2, a1, b1⟩ := kk T'.heap (locs ++ L) ⟨by rw [e1]; exact w1, w2, w3, Nat.le_trans n4.1 (by rw [e1]; exact hz), fun q g1 g2 => by rw [e1, hk q (Nat.lt_of_lt_of_le g1 n4.1) g2]; exact n4.2.1 q g1 g2, fun q hq => by
      rcases List.mem_append.mp hq with g | g
      · exact n4.2.2 q g
      · exact hL q g⟩ T' rfl X'
  exact ⟨t2, st t2 a1, b1⟩
theorem zr_cDI {b : Nat} {C owner : String} {x y : MethodName} {X9 : ZR Int32} {maxL fr1 lo1 : Nat} {bytes : ByteArray} {ret : Option FieldType} {α : Type} {K : Int32 → PH → ZR α} {r : α} {hh : PH} {C9 S9 fr lo mc ms n index : Nat} {As : List Value} {st0 : List Value} (hc : zC D dA b0 gs own cc nL p c s m args meth) (hn : zM D dA b0 gs s h H locs) (hq : cells + C9 = mc ∧ slots + S9 = ms) (hrec : ∃ cell : Cell, H[b]? = some cell ∧ cell.vm.isStatics = false ∧ s.vm.findClass C = some cell.cls) (hdec : va_Decl s ⟨owner, x.name, x.desc⟩) (hd : owner ≠ "java/lang/invoke/MethodHandle" ∧ owner ≠ "java/lang/invoke/VarHandle" ∧ (parseMethodDescriptor x.desc).map (fun d => d.parameters.length) = some n) (hw : GoodIn lw_all (va_wsU own index C owner x y (ws_ y bytes maxL ret))) (hfr : fr1 + 1 ≤ fr) (hlo : 8 + (maxL + 11) + lo1 ≤ lo)
    (hM : ∀ r1 h1 c1 s1, X9 = some (r1, h1, c1, s1) → zMt l D dA b0 gs y bytes maxL ret fr1 lo1 (.ref b :: As) h (evI r1) h1 c1 s1) (hf : zcl X9 K = some (r, hh, C9, S9)) (hdg : decode cc pc = .ok (.invokevirtual index, 3)) (hls : ls.size = nL) (hst : st0 = As.reverse ++ .ref b :: rest) (hnA : As.length = n) (hrm : (rest.map fun v => v.category).sum ≤ 8)
    (kk : ∀ (r1 : Int32) (h1 : PH) (H1 : Heap) (locs1 : List Loc) (cells1 slots1 C1 S1 : Nat), K r1 h1 = some (r, hh, C1, S1) → cells1 + C1 = mc ∧ slots1 + S1 = ms → zM D dA b0 gs s h1 H1 locs1 → W p l e ({ frames := fr, cells := mc, slots := ms, locals := lo } : Room) s m args below meth c H1 locs1 cells1 slots1 Q (F0 m (pc + 3) ls (.int r1 :: rest))) : W p l e ({ frames := fr, cells := mc, slots := ms, locals := lo } : Room) s m args below meth c H locs cells slots Q (F0 m pc ls st0) := by
  obtain ⟨r1, h1, c1, s1, C1, S1, q1, q2, q3, q4⟩ := zcl_i hf
  exact zr_back hn (va_runU (As := As) (rest := rest) hc.1 (hM r1 h1 c1 s1 q1) (z_cwD n hc.ts hw rfl rfl rfl hdec hd ⟨hfr, hlo⟩) ⟨zW_blind, hrec, hn.pre hc⟩ rfl hnA hls hst (lv_room hrm) hdg ⟨by show cells + c1 ≤ mc; omega, by show slots + s1 ≤ ms; omega⟩) (fun H1 locs1 hn1 => kk r1 h1 H1 locs1 _ _ C1 S1 q2 ⟨by omega, by omega⟩ hn1)
/-- what another class's method overrides -/
theorem zr_cOI {b ci N : Nat} {C owner : String} {T : u_T} {x y : MethodName} {X9 : ZR Int32} {maxL fr1 lo1 : Nat} {bytes : ByteArray} {ret : Option FieldType} {α : Type} {K : Int32 → PH → ZR α} {r : α} {hh : PH} {C9 S9 fr lo mc ms n index : Nat} {As : List Value} {st0 : List Value} (hc : zC D dA b0 gs own cc nL p c s m args meth) (hn : zM D dA b0 gs s h H locs) (hq : cells + C9 = mc ∧ slots + S9 = ms) (hcl : vwCl[ci]? = some (C, T, N)) {b9 : ByteArray} {m9 : Nat} {r9 : Option FieldType} (hi9 : Cond.instanceMethod ⟨owner, x.name, x.desc⟩ ∈ lw_all) (hc9 : Cond.code ⟨owner, x.name, x.desc⟩ b9 m9 r9 ∈ lw_all) (hd : owner ≠ "java/lang/invoke/MethodHandle" ∧ owner ≠ "java/lang/invoke/VarHandle" ∧ (parseMethodDescriptor x.desc).map (fun d => d.parameters.length) = some n) (hw : GoodIn lw_all (va_wsU own index C owner x y (ws_ y bytes maxL ret))) (hfr : fr1 + 1 ≤ fr) (hlo : 8 + (maxL + 11) + lo1 ≤ lo)
    (hM : ∀ r1 h1 c1 s1, X9 = some (r1, h1, c1, s1) → zMt l D dA b0 gs y bytes maxL ret fr1 lo1 (.ref b :: As) h (evI r1) h1 c1 s1) (hf : zrc h b ci (zcl X9 K) = some (r, hh, C9, S9)) (hdg : decode cc pc = .ok (.invokevirtual index, 3)) (hls : ls.size = nL) (hst : st0 = As.reverse ++ .ref b :: rest) (hnA : As.length = n) (hrm : (rest.map fun v => v.category).sum ≤ 8)
    (kk : ∀ (r1 : Int32) (h1 : PH) (H1 : Heap) (locs1 : List Loc) (cells1 slots1 C1 S1 : Nat), K r1 h1 = some (r, hh, C1, S1) → cells1 + C1 = mc ∧ slots1 + S1 = ms → zM D dA b0 gs s h1 H1 locs1 → W p l e ({ frames := fr, cells := mc, slots := ms, locals := lo } : Room) s m args below meth c H1 locs1 cells1 slots1 Q (F0 m (pc + 3) ls (.int r1 :: rest))) : W p l e ({ frames := fr, cells := mc, slots := ms, locals := lo } : Room) s m args below meth c H locs cells slots Q (F0 m pc ls st0) := by
  unfold zrc at hf
  split at hf
  · rename_i hb9
    exact zr_cDI hc hn hq (hn.recv hc hcl hb9) (va_Decl.of (hc.ts _ hi9) (hc.ts _ hc9)) hd hw hfr hlo hM hf hdg hls hst hnA hrm kk
  · cases hf
/-- by an interface -/
theorem zr_cFI {b ci N count : Nat} {C : String} {T : u_T} {x y : MethodName} {X9 : ZR Int32} {maxL fr1 lo1 : Nat} {bytes : ByteArray} {ret : Option FieldType} {α : Type} {K : Int32 → PH → ZR α} {r : α} {hh : PH} {C9 S9 fr lo mc ms n index : Nat} {As : List Value} {st0 : List Value} (hc : zC D dA b0 gs own cc nL p c s m args meth) (hn : zM D dA b0 gs s h H locs) (hq : cells + C9 = mc ∧ slots + S9 = ms) (hcl : vwCl[ci]? = some (C, T, N)) (hF : va_Fw C x y s) (hd : x.cls ≠ "java/lang/invoke/MethodHandle" ∧ x.cls ≠ "java/lang/invoke/VarHandle" ∧ (parseMethodDescriptor x.desc).map (fun d => d.parameters.length) = some n) (hw : GoodIn lw_all (va_wsF own index C x y (ws_ y bytes maxL ret))) (hfr : fr1 + 1 ≤ fr) (hlo : 8 + (maxL + 11) + lo1 ≤ lo)
    (hM : ∀ r1 h1 c1 s1, X9 = some (r1, h1, c1, s1) → zMt l D dA b0 gs y bytes maxL ret fr1 lo1 (.ref b :: As) h (evI r1) h1 c1 s1) (hf : zrc h b ci (zcl X9 K) = some (r, hh, C9, S9)) (hdg : decode cc pc = .ok (.invokeinterface index count, 5)) (hls : ls.size = nL) (hst : st0 = As.reverse ++ .ref b :: rest) (hnA : As.length = n) (hrm : (rest.map fun v => v.category).sum ≤ 8)
    (kk : ∀ (r1 : Int32) (h1 : PH) (H1 : Heap) (locs1 : List Loc) (cells1 slots1 C1 S1 : Nat), K r1 h1 = some (r, hh, C1, S1) → cells1 + C1 = mc ∧ slots1 + S1 = ms → zM D dA b0 gs s h1 H1 locs1 → W p l e ({ frames := fr, cells := mc, slots := ms, locals := lo } : Room) s m args below meth c H1 locs1 cells1 slots1 Q (F0 m (pc + 5) ls (.int r1 :: rest))) : W p l e ({ frames := fr, cells := mc, slots := ms, locals := lo } : Room) s m args below meth c H locs cells slots Q (F0 m pc ls st0) := by
  unfold zrc at hf
  split at hf
  · rename_i hb9
    obtain ⟨r1, h1, c1, s1, C1, S1, q1, q2, q3, q4⟩ := zcl_i hf
    exact zr_back5 hn (va_runF (As := As) (rest := rest) (hc.k.1 ci _ hcl).2 hc.1 (hM r1 h1 c1 s1 q1) (va_cwF n hc.ts hw rfl rfl rfl hF hd ⟨hfr, hlo⟩) ⟨zW_blind, hn.recv hc hcl hb9, hn.pre hc⟩ rfl hnA hls hst (lv_room hrm) hdg ⟨by show cells + c1 ≤ mc; omega, by show slots + s1 ≤ ms; omega⟩) (fun H1 locs1 hn1 => kk r1 h1 H1 locs1 _ _ C1 S1 q2 ⟨by omega, by omega⟩ hn1)
  · cases hf
theorem zu_run {x y : MethodName} {bytes : ByteArray} {maxL mc ms n index : Nat} {ret : Option FieldType} {ws : List Cond} {rm : Room} {Pc : Array Value → State → Prop} {Qc : Array Value → State → Outcome → State → Prop} {free : Addr → Prop} {Ts : List Cond} {C owner : String} {b : Addr} {As rest : List Value} {g : JFrame}
    (S : CallFix p m c cc nL s args Ts own) (hM : zuMet l y ws rm Pc Qc mc ms free) (hrc : rm.cells = mc) (hrs : rm.slots = ms) (hfr : rm.frames + 1 ≤ R.frames) (hlo : 8 + (maxL + 11) + rm.locals ≤ R.locals) (hws : ∀ w ∈ ws, ∀ (a' : Array Value) (U : State), s.WarmedH U.vm → w.before a' U = true) (hcw : Cond.code y bytes maxL ret ∈ ws)
    (hlink : (Cond.methodLink own index x).before args s = true) (hsame : (Cond.sameMethod x.cls owner x.name x.desc).before args s = true) (hdec : va_Decl s ⟨owner, x.name, x.desc⟩) (hmh : owner ≠ "java/lang/invoke/MethodHandle" ∧ owner ≠ "java/lang/invoke/VarHandle") (hsel : (Cond.selects C x y).before args s = true) (hinst : (Cond.instanceMethod y).before args s = true) (hcode : (Cond.code y bytes maxL ret).before args s = true) (hlen : ∀ sig, parseMethodDescriptor x.desc = some sig → n = sig.parameters.length)
    (hp : PreV s H C b Pc As)
    (hg : g.method = m) (hn : As.length = n) (hsize : g.locals.size = nL) (hstack : g.stack = As.reverse ++ .ref b :: rest) (hW : 2 * g.monitorRoom + (rest.map fun v => v.category).sum ≤ 8) (hdg : decode cc g.pc = .ok (.invokevirtual index, 3)) (hf : cells + mc ≤ R.cells ∧ slots + ms ≤ R.slots) :
    va_Run p l e R s m args below meth c H locs cells slots mc ms g rest (Qc (Value.ref b :: As).toArray) (free) := by
  have hK : Back l R p e below s args y 3 8 (PreOf R mc ms Pc) (PostOf Qc mc ms free) := zu_back (bytes := bytes) (maxL := maxL) (ret := ret) hM hp.1 hrc hrs hfr hlo hws hcw
  obtain ⟨hx, hb, hml, ho, -⟩ := S
  obtain ⟨-, ⟨cellB, hcB, hoB, hclB⟩, hPc⟩ := hp
  intro T hT X
  obtain ⟨v, vm₁, ⟨U', l2, c2, s2⟩, hW₁, X', ⟨g', mk, t, L, e1, e2, hq, h1, hL, h2, h3⟩, st⟩ := va_callVU X hx (C := C) (owner := owner) (bytes := bytes) (maxL := maxL) (ret := ret) ho hlink hsame hdec hmh hsel hinst hcode hK (by rw [hT]; exact hcB) hoB hclB hg (hsize.trans hml.symm) (argsL := As) (rest := rest) (fun sig h => hn.trans (hlen sig h)) hstack hW (by rw [hb]; exact hdg)
    (fun vm₁ hW₁ => ⟨hf.1, hf.2, hPc (T.setVm vm₁) hT hW₁⟩)
  dsimp only [Pt.U, Pt.locs, Pt.cells, Pt.slots] at X' e1 e2 h1 h2 h3 st
  subst h1; subst h2; subst h3
  exact ⟨v, (T.setVm vm₁).calling g' mk (Value.ref b :: As).toArray, t, U', L, hT, X', hL, e1, e2, hq, st⟩
theorem zr_cXI {b : Nat} {C owner : String} {x y : MethodName} {X9 : ZR Int32} {maxL fr1 lo1 : Nat} {bytes : ByteArray} {ret : Option FieldType} {α : Type} {K : Int32 → PH → ZR α} {r : α} {hh : PH} {C9 S9 fr lo mc ms n index : Nat} {As : List Value} {st0 : List Value} (hc : zC D dA b0 gs own cc nL p c s m args meth) (hn : zM D dA b0 gs s h H locs) (hq : cells + C9 = mc ∧ slots + S9 = ms) (hrec : ∃ cell : Cell, H[b]? = some cell ∧ cell.vm.isStatics = false ∧ s.vm.findClass C = some cell.cls) (hdec : va_Decl s ⟨owner, x.name, x.desc⟩) (hd : owner ≠ "java/lang/invoke/MethodHandle" ∧ owner ≠ "java/lang/invoke/VarHandle" ∧ (parseMethodDescriptor x.desc).map (fun d => d.parameters.length) = some n) (hl9 : Cond.methodLink own index x ∈ lw_all) (hs9 : Cond.sameMethod x.cls owner x.name x.desc ∈ lw_all) (he9 : Cond.selects C x y ∈ lw_all) (hi9 : Cond.instanceMethod y ∈ lw_all) (hc9 : Cond.code y bytes maxL ret ∈ lw_all) (hfr : fr1 + 1 ≤ fr) (hlo : 8 + (maxL + 11) + lo1 ≤ lo)
    (hM : ∀ r1 h1 c1 s1, X9 = some (r1, h1, c1, s1) → zUt l D dA b0 gs y bytes maxL ret fr1 lo1 (.ref b :: As) h (evI r1) h1 c1 s1) (hf : zcl X9 K = some (r, hh, C9, S9)) (hdg : decode cc pc = .ok (.invokevirtual index, 3)) (hls : ls.size = nL) (hst : st0 = As.reverse ++ .ref b :: rest) (hnA : As.length = n) (hrm : (rest.map fun v => v.category).sum ≤ 8)
    (kk : ∀ (r1 : Int32) (h1 : PH) (H1 : Heap) (locs1 : List Loc) (cells1 slots1 C1 S1 : Nat), K r1 h1 = some (r, hh, C1, S1) → cells1 + C1 = mc ∧ slots1 + S1 = ms → zM D dA b0 gs s h1 H1 locs1 → W p l e ({ frames := fr, cells := mc, slots := ms, locals := lo } : Room) s m args below meth c H1 locs1 cells1 slots1 Q (F0 m (pc + 3) ls (.int r1 :: rest))) : W p l e ({ frames := fr, cells := mc, slots := ms, locals := lo } : Room) s m args below meth c H locs cells slots Q (F0 m pc ls st0) := by
  obtain ⟨r1, h1, c1, s1, C1, S1, q1, q2, q3, q4⟩ := zcl_i hf
  refine zr_back hn (zu_run (As := As) (rest := rest) (C := C) (owner := owner) (x := x) (n := n) hc.1 (hM r1 h1 c1 s1 q1) rfl rfl hfr hlo (pay_in hc.ts (lw_meth hc9)) List.mem_cons_self (hc.ts _ hl9) (hc.ts _ hs9) hdec ⟨hd.1, hd.2.1⟩ (hc.ts _ he9) (hc.ts _ hi9) (hc.ts _ hc9) (fun sig h => ?_) ⟨zW_blind, hrec, hn.pre hc⟩ rfl hnA hls hst (lv_room hrm) hdg ⟨by show cells + c1 ≤ mc; omega, by show slots + s1 ≤ ms; omega⟩) (fun H1 locs1 hn1 => kk r1 h1 H1 locs1 _ _ C1 S1 q2 ⟨by omega, by omega⟩ hn1)
  have h2 := hd.2.2
  rw [h] at h2
  exact (Option.some.inj h2).symm
theorem zr_mv {b : Nat} {X0 X1 X2 : ZR Int32} {fr1 lo1 : Nat} {α : Type} {K : Int32 → PH → ZR α} {r : α} {hh : PH} {C9 S9 fr lo mc ms n index : Nat} {As : List Value} {st0 : List Value} (hc : zC D dA b0 gs own cc nL p c s m args meth) (hn : zM D dA b0 gs s h H locs) (hq : cells + C9 = mc ∧ slots + S9 = ms) (hl9 : Cond.methodLink own index ⟨"CountedSkipLists$Mend", "moves", "(LCountedSkipLists$SkipList;LCountedSkipLists$Gap;)I"⟩ ∈ lw_all) (hn9 : n = 2) (hfr : fr1 + 1 ≤ fr) (hlo : 8 + (5 + 11) + lo1 ≤ lo)
    (hM0 : ∀ r1 h1 c1 s1, X0 = some (r1, h1, c1, s1) → zUt l D dA b0 gs yX15_moves cX15_moves 4 (some .int) fr1 lo1 (.ref b :: As) h (evI r1) h1 c1 s1) (hM1 : ∀ r1 h1 c1 s1, X1 = some (r1, h1, c1, s1) → zUt l D dA b0 gs yX16_moves cX16_moves 5 (some .int) fr1 lo1 (.ref b :: As) h (evI r1) h1 c1 s1) (hM2 : ∀ r1 h1 c1 s1, X2 = some (r1, h1, c1, s1) → zUt l D dA b0 gs yX14_moves cX14_moves 4 (some .int) fr1 lo1 (.ref b :: As) h (evI r1) h1 c1 s1) (hf : zcl (zmv h b X0 X1 X2) K = some (r, hh, C9, S9)) (hdg : decode cc pc = .ok (.invokevirtual index, 3)) (hls : ls.size = nL) (hst : st0 = As.reverse ++ .ref b :: rest) (hnA : As.length = n) (hrm : (rest.map fun v => v.category).sum ≤ 8)
    (kk : ∀ (r1 : Int32) (h1 : PH) (H1 : Heap) (locs1 : List Loc) (cells1 slots1 C1 S1 : Nat), K r1 h1 = some (r, hh, C1, S1) → cells1 + C1 = mc ∧ slots1 + S1 = ms → zM D dA b0 gs s h1 H1 locs1 → W p l e ({ frames := fr, cells := mc, slots := ms, locals := lo } : Room) s m args below meth c H1 locs1 cells1 slots1 Q (F0 m (pc + 3) ls (.int r1 :: rest))) : W p l e ({ frames := fr, cells := mc, slots := ms, locals := lo } : Room) s m args below meth c H locs cells slots Q (F0 m pc ls st0) := by
  have h3 : zS h = gs := hn.2.2.1
  subst hn9
  unfold zmv at hf
  rw [h3] at hf
  split at hf
  · rename_i g9
    exact zr_cXI (y := yX15_moves) hc hn hq (va_Orecv (hc.mo0 g9).1 hn.2.2.2) (hc.dec q995) (by decide +kernel) hl9 q996 q997 q998 q999 hfr (by omega) hM0 hf hdg hls hst hnA hrm kk
  split at hf
  · rename_i g9
    exact zr_cXI (y := yX16_moves) hc hn hq (va_Orecv (hc.mo1 g9).1 hn.2.2.2) (hc.dec q995) (by decide +kernel) hl9 q996 q1012 q1013 q1014 hfr (by omega) hM1 hf hdg hls hst hnA hrm kk
  split at hf
  · rename_i g9
    exact zr_cXI (y := yX14_moves) hc hn hq (va_Orecv (hc.mo2 g9).1 hn.2.2.2) (hc.dec q995) (by decide +kernel) hl9 q996 q1028 q1029 q1030 hfr (by omega) hM2 hf hdg hls hst hnA hrm kk
  obtain ⟨r1, h1, c1, s1, C1, S1, q1, q2, q3, q4⟩ := zcl_i hf
  cases q1
theorem zC.priv (hc : zC D dA b0 gs own cc nL p c s m args meth) {y : MethodName} (hw : (.privateMethod y) ∈ lw_tbl) : s.PrivateAt y := by
  obtain ⟨S0, a0, g1, g2, g3, g4, g5, g6⟩ := hc.g
  have h9 : (Cond.privateMethod y).before a0 (S0.setVm s.vm) = true := by rw [Cond.privateMethod_setVm g5.alike]; exact g1 _ hw
  have h8 : (S0.setVm s.vm).PrivateAt y := Cond.privateMethod_at h9
  exact h8
/-- a private method of a class above -/
theorem zp_run {y : MethodName} {bytes : ByteArray} {maxL mc ms n index : Nat} {ret : Option FieldType} {ws : List Cond} {rm : Room} {Pc : Array Value → State → Prop} {Qc : Array Value → State → Outcome → State → Prop} {free : Addr → Prop} {Ts : List Cond} {C : String} {b : Addr} {As rest : List Value} {g : JFrame}
    (S : CallFix p m c cc nL s args Ts own) (hM : Met l y ws rm Pc Qc mc ms free) (hrc : rm.cells = mc) (hrs : rm.slots = ms) (hfr : rm.frames + 1 ≤ R.frames) (hlo : 8 + (maxL + 11) + rm.locals ≤ R.locals) (hws : ∀ w ∈ ws, ∀ (a' : Array Value) (U : State), s.WarmedH U.vm → w.before a' U = true) (hcw : Cond.code y bytes maxL ret ∈ ws) (hini : (Cond.initialized y.cls).before args s = true)
    (hlink : (Cond.methodLink own index y).before args s = true) (hsame : (Cond.sameMethod y.cls y.cls y.name y.desc).before args s = true) (hmh : y.cls ≠ "java/lang/invoke/MethodHandle" ∧ y.cls ≠ "java/lang/invoke/VarHandle") (hpriv : s.PrivateAt y) (hinst : (Cond.instanceMethod y).before args s = true) (hcode : (Cond.code y bytes maxL ret).before args s = true) (hlen : ∀ sig, parseMethodDescriptor y.desc = some sig → n = sig.parameters.length)
    (hp : PreV s H C b Pc As)
    (hg : g.method = m) (hn : As.length = n) (hsize : g.locals.size = nL) (hstack : g.stack = As.reverse ++ .ref b :: rest) (hW : 2 * g.monitorRoom + (rest.map fun v => v.category).sum ≤ 8) (hdg : decode cc g.pc = .ok (.invokevirtual index, 3)) (hf : cells + mc ≤ R.cells ∧ slots + ms ≤ R.slots) :
    va_Run p l e R s m args below meth c H locs cells slots mc ms g rest (Qc (Value.ref b :: As).toArray) (free) := by
  have hK : Back l R p e below s args y 3 8 (PreOf R mc ms Pc) (PostOf Qc mc ms free) := back_of (bytes := bytes) (maxL := maxL) (ret := ret) hM hp.1 hrc hrs hfr hlo hws hcw (fun a' U hW => word_at hW (Or.inl (by first | rfl | simp [Cond.onTables, Cond.keeps, Cond.steady])) hini)
  obtain ⟨hx, hb, hml, ho, -⟩ := S
  obtain ⟨-, ⟨cellB, hcB, hoB, hclB⟩, hPc⟩ := hp
  have hd0 : va_Decl s ⟨y.cls, y.name, y.desc⟩ := va_Decl.of hinst hcode
  obtain ⟨r0, r, hn0, hrm, hstR, hsigR⟩ := hd0
  obtain ⟨cn, ck, r1, hcn, hck, hni, hfd, hn1⟩ := Cond.sameMethod_found hsame
  cases hn0.symm.trans hn1
  obtain ⟨mk, methM, hnamed, hmethM, -, habM⟩ := Cond.instanceMethod_spec hinst
  cases hn0.symm.trans hnamed
  cases hcn.symm.trans (findClass_of_methodNamed hnamed)
  intro T hT X
  have hselP : selectMethod e.platform s.vm cellB.cls r0 = .method r0 := selectMethod_private hmethM (hpriv r0 methM hnamed hmethM)
  obtain ⟨vm₁, X₁, hstep₁⟩ := X.invokevirtualUp hx ho hlink hsame hmh hn0 hrm hstR (a := b) (cell := cellB) (by rw [hT]; exact hcB)
    (fun z h => by rw [h] at hoB; cases hoB) hselP hmethM habM hck hni (g := g) hg (argsL := As) (rest := rest) (hn.trans (hlen _ hsigR)) hstack (by rw [hb]; exact hdg)
  obtain ⟨v, ⟨U', l2, c2, s2⟩, X', ⟨g', mk, t, L, e1, e2, hq, h1, hL, h2, h3⟩, hsteps⟩ := hK m meth c ⟨T.setVm vm₁, locs, cells, slots⟩ { g with stack := rest } (.invokevirtual index) r0 (Value.ref b :: As).toArray X₁ hg (hsize.trans hml.symm) (by rw [hb]; exact hdg) hW (X₁.named hnamed) ⟨hf.1, hf.2, hPc (T.setVm vm₁) hT X₁.warmed⟩
  dsimp only [Pt.U, Pt.locs, Pt.cells, Pt.slots] at X' e1 e2 h1 h2 h3 hsteps
  subst h1; subst h2; subst h3
  exact ⟨v, (T.setVm vm₁).calling g' mk (Value.ref b :: As).toArray, t, U', L, hT, X', hL, e1, e2, hq, fun target h => hstep₁ _ fun acts => by rw [doInvoke_state]; exact hsteps.trans h⟩
theorem zr_cPU {b ci N : Nat} {C : String} {T : u_T} {y : MethodName} {X9 : ZR Unit} {maxL fr1 lo1 : Nat} {bytes : ByteArray} {ret : Option FieldType} {α : Type} {K : Unit → PH → ZR α} {r : α} {hh : PH} {C9 S9 fr lo mc ms n index : Nat} {As : List Value} {st0 : List Value} (hc : zC D dA b0 gs own cc nL p c s m args meth) (hn : zM D dA b0 gs s h H locs) (hq : cells + C9 = mc ∧ slots + S9 = ms) (hcl : vwCl[ci]? = some (C, T, N)) (hd : y.cls ≠ "java/lang/invoke/MethodHandle" ∧ y.cls ≠ "java/lang/invoke/VarHandle" ∧ (parseMethodDescriptor y.desc).map (fun d => d.parameters.length) = some n) (hl9 : Cond.methodLink own index y ∈ lw_all) (hs9 : Cond.sameMethod y.cls y.cls y.name y.desc ∈ lw_all) (hp9 : (.privateMethod y) ∈ lw_tbl) (hi9 : Cond.instanceMethod y ∈ lw_all) (hn9 : Cond.initialized y.cls ∈ lw_all) (hc9 : Cond.code y bytes maxL ret ∈ lw_all) (hfr : fr1 + 1 ≤ fr) (hlo : 8 + (maxL + 11) + lo1 ≤ lo)
    (hM : ∀ r1 h1 c1 s1, X9 = some (r1, h1, c1, s1) → zMt l D dA b0 gs y bytes maxL ret fr1 lo1 (.ref b :: As) h (evU r1) h1 c1 s1) (hf : zrc h b ci (zcl X9 K) = some (r, hh, C9, S9)) (hdg : decode cc pc = .ok (.invokevirtual index, 3)) (hls : ls.size = nL) (hst : st0 = As.reverse ++ .ref b :: rest) (hnA : As.length = n) (hrm : (rest.map fun v => v.category).sum ≤ 8)
    (kk : ∀ (r1 : Unit) (h1 : PH) (H1 : Heap) (locs1 : List Loc) (cells1 slots1 C1 S1 : Nat), K r1 h1 = some (r, hh, C1, S1) → cells1 + C1 = mc ∧ slots1 + S1 = ms → zM D dA b0 gs s h1 H1 locs1 → W p l e ({ frames := fr, cells := mc, slots := ms, locals := lo } : Room) s m args below meth c H1 locs1 cells1 slots1 Q (F0 m (pc + 3) ls (rest))) : W p l e ({ frames := fr, cells := mc, slots := ms, locals := lo } : Room) s m args below meth c H locs cells slots Q (F0 m pc ls st0) := by
  unfold zrc at hf
  split at hf
  · rename_i hb9
    obtain ⟨r1, h1, c1, s1, C1, S1, q1, q2, q3, q4⟩ := zcl_i hf
    refine zr_back hn (zp_run (As := As) (rest := rest) (C := C) (n := n) hc.1 (hM r1 h1 c1 s1 q1) rfl rfl hfr hlo (pay_in hc.ts (lw_meth hc9)) List.mem_cons_self (hc.ts _ hn9) (hc.ts _ hl9) (hc.ts _ hs9) ⟨hd.1, hd.2.1⟩ (hc.priv hp9) (hc.ts _ hi9) (hc.ts _ hc9) (fun sig h => ?_) ⟨zW_blind, hn.recv hc hcl hb9, hn.pre hc⟩ rfl hnA hls hst (lv_room hrm) hdg ⟨by show cells + c1 ≤ mc; omega, by show slots + s1 ≤ ms; omega⟩) (fun H1 locs1 hn1 => kk r1 h1 H1 locs1 _ _ C1 S1 q2 ⟨by omega, by omega⟩ hn1)
    have h2 := hd.2.2
    rw [h] at h2
    exact (Option.some.inj h2).symm
  · cases hf
theorem m_ord0 {b : Nat} (hb : gs 5 = some b) : zMt l D dA b0 gs yJ11_ordinal cJ11_ordinal 1 (some .int) 1 60 [.ref b] h (evI 0) h 0 0 := by
  refine zMt.of (by decide) (Nat.le_of_ble_eq_true rfl) ?_
  intro p e s m args below meth c hc hr hin hn ls hl
  have hl : lv_has ls 1 [(0, .ref b)] := hl
  refine lv_aload_n (x := b) hc.x hc.b dJ11_ordinal_0 rfl (lv_at hl 0 rfl) ?_
  refine vk_getf hc.x hc.b (hc.mo0 hb).2 hn.2.2.2 hc.ow (hc.ts _ q2705) (fun _ h => h) dJ11_ordinal_1 ?_
  exact zr_iret hc hn hr ⟨rfl, rfl⟩ (fun _ _ _ _ q => q) dJ11_ordinal_4
theorem m_ord1 {b : Nat} (hb : gs 6 = some b) : zMt l D dA b0 gs yJ11_ordinal cJ11_ordinal 1 (some .int) 1 60 [.ref b] h (evI 1) h 0 0 := by
  refine zMt.of (by decide) (Nat.le_of_ble_eq_true rfl) ?_
  intro p e s m args below meth c hc hr hin hn ls hl
  have hl : lv_has ls 1 [(0, .ref b)] := hl
  refine lv_aload_n (x := b) hc.x hc.b dJ11_ordinal_0 rfl (lv_at hl 0 rfl) ?_
  refine vk_getf hc.x hc.b (hc.mo1 hb).2 hn.2.2.2 hc.ow (hc.ts _ q2705) (fun _ h => h) dJ11_ordinal_1 ?_
  exact zr_iret hc hn hr ⟨rfl, rfl⟩ (fun _ _ _ _ q => q) dJ11_ordinal_4
theorem m_ord2 {b : Nat} (hb : gs 7 = some b) : zMt l D dA b0 gs yJ11_ordinal cJ11_ordinal 1 (some .int) 1 60 [.ref b] h (evI 2) h 0 0 := by
  refine zMt.of (by decide) (Nat.le_of_ble_eq_true rfl) ?_
  intro p e s m args below meth c hc hr hin hn ls hl
  have hl : lv_has ls 1 [(0, .ref b)] := hl
  refine lv_aload_n (x := b) hc.x hc.b dJ11_ordinal_0 rfl (lv_at hl 0 rfl) ?_
  refine vk_getf hc.x hc.b (hc.mo2 hb).2 hn.2.2.2 hc.ow (hc.ts _ q2705) (fun _ h => h) dJ11_ordinal_1 ?_
  exact zr_iret hc hn hr ⟨rfl, rfl⟩ (fun _ _ _ _ q => q) dJ11_ordinal_4
theorem zr_ord {b : Nat} {α : Type} {K : Int32 → ZR α} {r : α} {hh : PH} {C9 S9 fr lo mc ms index : Nat} {st0 : List Value} (hc : zC D dA b0 gs own cc nL p c s m args meth) (hn : zM D dA b0 gs s h H locs) (hq : cells + C9 = mc ∧ slots + S9 = ms) (hl9 : Cond.methodLink own index ⟨"CountedSkipLists$Mend", "ordinal", "()I"⟩ ∈ lw_all) (hfr : 1 + 1 ≤ fr) (hlo : 8 + (1 + 11) + 60 ≤ lo) (hf : zord h b K = some (r, hh, C9, S9)) (hdg : decode cc pc = .ok (.invokevirtual index, 3)) (hls : ls.size = nL) (hst : st0 = .ref b :: rest) (hrm : (rest.map fun v => v.category).sum ≤ 8)
    (kk : ∀ (r1 : Int32) (H1 : Heap) (locs1 : List Loc), K r1 = some (r, hh, C9, S9) → zM D dA b0 gs s h H1 locs1 → W p l e ({ frames := fr, cells := mc, slots := ms, locals := lo } : Room) s m args below meth c H1 locs1 cells slots Q (F0 m (pc + 3) ls (.int r1 :: rest))) : W p l e ({ frames := fr, cells := mc, slots := ms, locals := lo } : Room) s m args below meth c H locs cells slots Q (F0 m pc ls st0) := by
  have h3 : zS h = gs := hn.2.2.1
  unfold zord at hf
  rw [h3] at hf
  split at hf
  · rename_i g9
    exact zr_back hn (va_runU (As := []) (rest := rest) (n := 0) (Pc := va_Pc [.ref b] (zW D dA b0 gs h)) hc.1 (m_ord0 (l := l) (D := D) (dA := dA) (b0 := b0) (gs := gs) (h := h) g9) (z_cwD (s := s) (args := args) 0 hc.ts (lw_U hl9 q1834 q1836 q1839 q100 q1840) rfl rfl rfl (hc.dec q1835) (by decide +kernel) ⟨hfr, hlo⟩) ⟨zW_blind, va_Orecv (hc.mo0 g9).1 hn.2.2.2, hn.pre hc⟩ (g := F0 m pc ls st0) rfl rfl hls hst (lv_room hrm) hdg ⟨by show cells + 0 ≤ mc; omega, by show slots + 0 ≤ ms; omega⟩) (fun H1 locs1 hn1 => kk 0 H1 locs1 hf hn1)
  split at hf
  · rename_i g9
    exact zr_back hn (va_runU (As := []) (rest := rest) (n := 0) (Pc := va_Pc [.ref b] (zW D dA b0 gs h)) hc.1 (m_ord1 (l := l) (D := D) (dA := dA) (b0 := b0) (gs := gs) (h := h) g9) (z_cwD (s := s) (args := args) 0 hc.ts (lw_U hl9 q1834 q1837 q1839 q100 q1840) rfl rfl rfl (hc.dec q1835) (by decide +kernel) ⟨hfr, hlo⟩) ⟨zW_blind, va_Orecv (hc.mo1 g9).1 hn.2.2.2, hn.pre hc⟩ (g := F0 m pc ls st0) rfl rfl hls hst (lv_room hrm) hdg ⟨by show cells + 0 ≤ mc; omega, by show slots + 0 ≤ ms; omega⟩) (fun H1 locs1 hn1 => kk 1 H1 locs1 hf hn1)
  split at hf
  · rename_i g9
    exact zr_back hn (va_runU (As := []) (rest := rest) (n := 0) (Pc := va_Pc [.ref b] (zW D dA b0 gs h)) hc.1 (m_ord2 (l := l) (D := D) (dA := dA) (b0 := b0) (gs := gs) (h := h) g9) (z_cwD (s := s) (args := args) 0 hc.ts (lw_U hl9 q1834 q1838 q1839 q100 q1840) rfl rfl rfl (hc.dec q1835) (by decide +kernel) ⟨hfr, hlo⟩) ⟨zW_blind, va_Orecv (hc.mo2 g9).1 hn.2.2.2, hn.pre hc⟩ (g := F0 m pc ls st0) rfl rfl hls hst (lv_room hrm) hdg ⟨by show cells + 0 ≤ mc; omega, by show slots + 0 ≤ ms; omega⟩) (fun H1 locs1 hn1 => kk 2 H1 locs1 hf hn1)
  cases hf
end ZL
