/-! THE ROW OF A RULE's CALL -/
set_option maxRecDepth 100000
section ZLE
variable {p : Program} {l : Launch} {e : Env} {R : Room} {s : State} {m : MethodId} {args : Array Value} {below : List Frame} {meth : Method} {c : Code} {H : Heap} {locs : List Loc} {cells slots : Nat} {Q : State → Prop}
variable {cc : ByteArray} {pc nL : Nat} {ls : Array Slot} {rest : List Value} {D : va_G} {dA : Nat → ClassId} {b0 : Nat} {gs : Nat → Option Nat} {own : String} {h : PH} {a : Nat}
abbrev zGT : Option FieldType := some (.object "CountedSkipLists$Gap")
theorem zf_slot {f0 : Field} (h : zL1.1[0]? = some f0) : f0.isStatic = false ∧ f0.slot = 0 := by
  have h1 := zE1F.2.2.2.1
  rw [h] at h1
  simpa using h1
theorem zl_one {b sl : Nat} {index count fr lo fr1 lo1 mc ms c1 s1 : Nat} {v : Int32} {r1 : Option Nat} {h1 : PH} {av : Array Value} (hc : zC D dA b0 gs own cc nL p c s m args meth) (hn : zM D dA b0 gs s h H locs) (hb : zT h b = some (.inl 30)) (hv : zI h b 0 = v)
    (hM : zMt l D dA b0 gs yX1_lambda_repairs_0 cX1_lambda_repairs_0 2 zGT fr1 lo1 [.int v, .ref sl] h (evP r1) h1 c1 s1) (hlink : Cond.methodLink own index zFN ∈ lw_all) (hls : ls.size = nL) (hdg : decode cc pc = .ok (.invokeinterface index count, 5)) (hrm : (rest.map fun v => v.category).sum ≤ 8)
    (hfr : fr1 + 2 ≤ fr) (hlo : 50 + lo1 ≤ lo) (hcl : cells + c1 ≤ mc) (hsl : slots + s1 ≤ ms) :
    va_Run5 p l e ({ frames := fr, cells := mc, slots := ms, locals := lo } : Room) s m args below meth c H locs cells slots c1 s1 (F0 m pc ls (.ref sl :: .ref b :: rest)) rest (zQ D dA b0 gs (some (va_rf r1)) h1 av) (zA b0) := by
  obtain ⟨cell, g1, g2, g3', g4⟩ := hn.ob hb
  have g3 := g3'.2.2 (Or.inr (by decide))
  have g5 := g4 0 (by decide)
  rw [hc.gL.2.1] at g5
  have g6 : cell.slots[0]? = some (.int v) := by rw [← hv]; exact g5
  obtain ⟨mR, k, cf, i0, p0, q1, q2, q3, q4, q5, q6, q7, q8⟩ := hc.l1
  obtain ⟨kK, tk, file, methk, ck, toy, t, k1, k2, k3, k4, k5, k6, k7, k8, k9, k10, k11, -⟩ := z_made q2 q3 q7 (hc.ts _ q2706) zD1_is zF1_is zL1_is zF1_code zF1_fl rfl rfl (by decide +kernel) rfl zE1M zE1C
  refine zl_run (R' := { frames := fr1 + 1, cells := c1, slots := s1, locals := 8 + (2 + 11) + lo1 }) hc g1 g3 g2 k1 k2 k5 k6 k8 k9 k10 k11 q7 q8 ⟨rfl, rfl, by decide +kernel⟩ hlink hls hdg hrm hfr (by show 8 + (2 + 11) + (8 + (2 + 11) + lo1) ≤ lo; omega) hcl hsl ?_
  intro s' U₀ bl hW hsH hvm hUH Y
  have hWU : s.WarmedH U₀.vm := by rw [hvm]; exact hW
  obtain ⟨k', hk', he'⟩ := hWU.alike.2.2 _ _ q2
  have hO : (Cond.instantiable "java/lang/Object" 0).before #[] U₀ = true := pay_in hc.ts (lw_meth q923) _ (List.mem_cons_of_mem _ q2706) _ _ hWU
  obtain ⟨kK', tk', file', methk', ck', toy', t', j1, j2, j3, j4, j5, j6, j7, j8, j9, j10, j11, j12, j13, j14, j15, j16, j17, j18, j19, j20⟩ := z_made (s := U₀) hk' (by rw [he']; exact q3) (Lambda.isMade_warmer hWU q7) hO zD1_is zF1_is zL1_is zF1_code zF1_fl rfl rfl (by decide +kernel) rfl zE1M zE1C
  obtain ⟨f0, hf0⟩ : ∃ f0, zL1.1[0]? = some f0 := by
    have h1 := zE1F.2.2.2.1
    cases hz : zL1.1[0]? with
    | none => rw [hz] at h1; cases h1
    | some x => exact ⟨x, rfl⟩
  have hfs := zf_slot hf0
  have hfR := j20 15 14 0 "arg$1" "I" f0 zE1F.1 zE1F.2.1 zE1F.2.2.1 hf0
  have hws : ∀ w ∈ ws_ yX1_lambda_repairs_0 cX1_lambda_repairs_0 2 zGT, ∀ (a' : Array Value) (U : State), s.WarmedH U.vm → w.before a' U = true := pay_in hc.ts (lw_meth q923)
  have hK : Back l ({ frames := fr1 + 1, cells := c1, slots := s1, locals := 8 + (2 + 11) + lo1 } : Room) p e bl s' #[.ref b, .ref sl] yX1_lambda_repairs_0 3 8 (PreOf ({ frames := fr1 + 1, cells := c1, slots := s1, locals := 8 + (2 + 11) + lo1 } : Room) c1 s1 (va_Pc [.int v, .ref sl] (zW D dA b0 gs h))) (PostOf (zQ D dA b0 gs (evP r1) h1) c1 s1 (zA b0)) :=
    back_of (bytes := cX1_lambda_repairs_0) (maxL := 2) (ret := zGT) hM zW_blind rfl rfl (Nat.le_refl _) (Nat.le_refl _) (fun w hw a' U hU => hws w hw a' U (State.WarmedH.trans hW hU)) List.mem_cons_self (fun a' U hU => hws _ (List.mem_cons_of_mem _ q84) a' U (State.WarmedH.trans hW hU))
  have hpc : ck.code = zB1 := k7
  obtain ⟨v9, ⟨U₁, L₁, c9, s9⟩, Y₁, ⟨g', mk, t9, L, e1, e2, hq, z1, hL, z2, z3⟩, st9⟩ := zl_static Y hc.x (g := { method := ⟨D.1 30, 1⟩, pc := 5, locals := #[.val (.ref b), .val (.ref sl)], stack := [.ref sl, .int v], locked := none }) rfl (by rw [k8]; rfl) (argsL := [.int v, .ref sl]) (rest := []) (n := 2) (y := yX1_lambda_repairs_0) j1 j3 (by rw [j4]; exact zE1M.1) (by rw [j4]; exact zE1M.2.2) j16 j17 j12 j13 j15 (by decide) (hws _ List.mem_cons_self _ _ hWU) (hws _ (List.mem_cons_of_mem _ q922) _ _ hWU) (hws _ (List.mem_cons_of_mem _ q84) _ _ hWU) (by decide +kernel) rfl rfl (by rw [hpc]; exact zd1_5) hK (by show 2 * 0 + 0 ≤ 8; decide) ⟨by show 0 + c1 ≤ c1; omega, by show 0 + s1 ≤ s1; omega, hn.pre hc U₀ hUH hWU⟩
  dsimp only [Pt.U, Pt.locs, Pt.cells, Pt.slots] at Y₁ e1 e2 z1 z2 z3 st9
  have e9 : v9 = some (va_rf r1) := by
    have := hq.1
    cases this
    rfl
  subst e9
  have z1' : L₁ = L := by rw [z1]; rfl
  subst z1'
  have z2' : c9 = c1 := by omega
  have z3' : s9 = s1 := by omega
  subst z2'; subst z3'
  refine ⟨U₁, L₁, _, t9, Y₁, ?_, e1, e2, hq, hL, fun fs hleave => ?_⟩
  · exact hUH
  · have hloc : entryFrame ⟨D.1 30, 1⟩ #[.ref b, .ref sl] ck.maxLocals = { method := ⟨D.1 30, 1⟩, pc := 0, locals := #[.val (.ref b), .val (.ref sl)], stack := [], locked := none } := by rw [k8]; rfl
    rw [hloc]
    jvm_step Y.here [hc.x, hpc, zd1_0, Value.isRef]
    jvm_step Y.here [hc.x, hpc, zd1_1, getfield.wp_ready (e := e) (s := U₀) (c := D.1 30) (field := f0) (a := b) (rest := []) (cell := cell) (v := .int v)
      (f := { method := ⟨D.1 30, 1⟩, pc := 1, locals := #[.val (.ref b), .val (.ref sl)], stack := [.ref b], locked := none }) Y.here.top hfR hfs.1 rfl (by rw [hUH]; exact g1) (by rw [g3]; exact fun h => by cases h) (by rw [hfs.2]; exact g6)]
    jvm_step Y.here [hc.x, hpc, zd1_4, Value.isRef]
    exact st9.trans (zl_ret Y₁ hc.x k11 rfl (by rw [hpc]; exact zd1_8) hleave)
theorem zl_two {b sl : Nat} {index count fr lo fr1 lo1 mc ms c1 s1 : Nat} {r1 : Option Nat} {h1 : PH} {av : Array Value} (hc : zC D dA b0 gs own cc nL p c s m args meth) (hn : zM D dA b0 gs s h H locs) (hb : zT h b = some (.inl 31))
    (hM : zMt l D dA b0 gs yX1_lambda_repairs_1 cX1_lambda_repairs_1 1 zGT fr1 lo1 [.ref sl] h (evP r1) h1 c1 s1) (hlink : Cond.methodLink own index zFN ∈ lw_all) (hls : ls.size = nL) (hdg : decode cc pc = .ok (.invokeinterface index count, 5)) (hrm : (rest.map fun v => v.category).sum ≤ 8)
    (hfr : fr1 + 2 ≤ fr) (hlo : 50 + lo1 ≤ lo) (hcl : cells + c1 ≤ mc) (hsl : slots + s1 ≤ ms) :
    va_Run5 p l e ({ frames := fr, cells := mc, slots := ms, locals := lo } : Room) s m args below meth c H locs cells slots c1 s1 (F0 m pc ls (.ref sl :: .ref b :: rest)) rest (zQ D dA b0 gs (some (va_rf r1)) h1 av) (zA b0) := by
  obtain ⟨cell, g1, g2, g3', g4⟩ := hn.ob hb
  have g3 := g3'.2.2 (Or.inr (by decide))
  obtain ⟨mR, k, cf, i0, p0, a9, q1, q2, q3, q4, q5, q6, -, q7, q8⟩ := hc.l2
  obtain ⟨kK, tk, file, methk, ck, toy, t, k1, k2, k3, k4, k5, k6, k7, k8, k9, k10, k11, -⟩ := z_made q2 q3 q7 (hc.ts _ q2706) zD2_is zF2_is zL2_is zF2_code zF2_fl rfl rfl (by decide +kernel) rfl zE2M zE2C
  refine zl_run (R' := { frames := fr1 + 1, cells := c1, slots := s1, locals := 8 + (1 + 11) + lo1 }) hc g1 g3 g2 k1 k2 k5 k6 k8 k9 k10 k11 q7 q8 ⟨rfl, rfl, by decide +kernel⟩ hlink hls hdg hrm hfr (by show 8 + (2 + 11) + (8 + (1 + 11) + lo1) ≤ lo; omega) hcl hsl ?_
  intro s' U₀ bl hW hsH hvm hUH Y
  have hWU : s.WarmedH U₀.vm := by rw [hvm]; exact hW
  obtain ⟨k', hk', he'⟩ := hWU.alike.2.2 _ _ q2
  have hO : (Cond.instantiable "java/lang/Object" 0).before #[] U₀ = true := pay_in hc.ts (lw_meth q962) _ (List.mem_cons_of_mem _ q2706) _ _ hWU
  obtain ⟨kK', tk', file', methk', ck', toy', t', j1, j2, j3, j4, j5, j6, j7, j8, j9, j10, j11, j12, j13, j14, j15, j16, j17, j18, j19, j20⟩ := z_made (s := U₀) hk' (by rw [he']; exact q3) (Lambda.isMade_warmer hWU q7) hO zD2_is zF2_is zL2_is zF2_code zF2_fl rfl rfl (by decide +kernel) rfl zE2M zE2C
  have hws : ∀ w ∈ ws_ yX1_lambda_repairs_1 cX1_lambda_repairs_1 1 zGT, ∀ (a' : Array Value) (U : State), s.WarmedH U.vm → w.before a' U = true := pay_in hc.ts (lw_meth q962)
  have hK : Back l ({ frames := fr1 + 1, cells := c1, slots := s1, locals := 8 + (1 + 11) + lo1 } : Room) p e bl s' #[.ref b, .ref sl] yX1_lambda_repairs_1 3 8 (PreOf ({ frames := fr1 + 1, cells := c1, slots := s1, locals := 8 + (1 + 11) + lo1 } : Room) c1 s1 (va_Pc [.ref sl] (zW D dA b0 gs h))) (PostOf (zQ D dA b0 gs (evP r1) h1) c1 s1 (zA b0)) :=
    back_of (bytes := cX1_lambda_repairs_1) (maxL := 1) (ret := zGT) hM zW_blind rfl rfl (Nat.le_refl _) (Nat.le_refl _) (fun w hw a' U hU => hws w hw a' U (State.WarmedH.trans hW hU)) List.mem_cons_self (fun a' U hU => hws _ (List.mem_cons_of_mem _ q84) a' U (State.WarmedH.trans hW hU))
  have hpc : ck.code = zB2 := k7
  obtain ⟨v9, ⟨U₁, L₁, c9, s9⟩, Y₁, ⟨g', mk, t9, L, e1, e2, hq, z1, hL, z2, z3⟩, st9⟩ := zl_static Y hc.x (g := { method := ⟨D.1 31, 1⟩, pc := 1, locals := #[.val (.ref b), .val (.ref sl)], stack := [.ref sl], locked := none }) rfl (by rw [k8]; rfl) (argsL := [.ref sl]) (rest := []) (n := 1) (y := yX1_lambda_repairs_1) j1 j3 (by rw [j4]; exact zE2M.1) (by rw [j4]; exact zE2M.2.2) j16 j17 j12 j13 j15 (by decide) (hws _ List.mem_cons_self _ _ hWU) (hws _ (List.mem_cons_of_mem _ q961) _ _ hWU) (hws _ (List.mem_cons_of_mem _ q84) _ _ hWU) (by decide +kernel) rfl rfl (by rw [hpc]; exact zd2_1) hK (by show 2 * 0 + 0 ≤ 8; decide) ⟨by show 0 + c1 ≤ c1; omega, by show 0 + s1 ≤ s1; omega, hn.pre hc U₀ hUH hWU⟩
  dsimp only [Pt.U, Pt.locs, Pt.cells, Pt.slots] at Y₁ e1 e2 z1 z2 z3 st9
  have e9 : v9 = some (va_rf r1) := by
    have := hq.1
    cases this
    rfl
  subst e9
  have z1' : L₁ = L := by rw [z1]; rfl
  subst z1'
  have z2' : c9 = c1 := by omega
  have z3' : s9 = s1 := by omega
  subst z2'; subst z3'
  refine ⟨U₁, L₁, _, t9, Y₁, ?_, e1, e2, hq, hL, fun fs hleave => ?_⟩
  · exact hUH
  · have hloc : entryFrame ⟨D.1 31, 1⟩ #[.ref b, .ref sl] ck.maxLocals = { method := ⟨D.1 31, 1⟩, pc := 0, locals := #[.val (.ref b), .val (.ref sl)], stack := [], locked := none } := by rw [k8]; rfl
    rw [hloc]
    jvm_step Y.here [hc.x, hpc, zd2_0, Value.isRef]
    exact st9.trans (zl_ret Y₁ hc.x k11 rfl (by rw [hpc]; exact zd2_4) hleave)
/-- 'finds' of a rule -/
theorem zr_fd {b sl : Nat} {X0 : Int32 → ZR (Option Nat)} {X1 : ZR (Option Nat)} {α : Type} {K : Option Nat → PH → ZR α} {r : α} {hh : PH} {C9 S9 fr lo mc ms index count fr1 lo1 : Nat} (hc : zC D dA b0 gs own cc nL p c s m args meth) (hn : zM D dA b0 gs s h H locs) (hq : cells + C9 = mc ∧ slots + S9 = ms) (hlink : Cond.methodLink own index zFN ∈ lw_all) (hfr : fr1 + 2 ≤ fr) (hlo : 50 + lo1 ≤ lo)
    (hM0 : ∀ v r1 h1 c1 s1, X0 v = some (r1, h1, c1, s1) → zMt l D dA b0 gs yX1_lambda_repairs_0 cX1_lambda_repairs_0 2 zGT fr1 lo1 [.int v, .ref sl] h (evP r1) h1 c1 s1) (hM1 : ∀ r1 h1 c1 s1, X1 = some (r1, h1, c1, s1) → zMt l D dA b0 gs yX1_lambda_repairs_1 cX1_lambda_repairs_1 1 zGT fr1 lo1 [.ref sl] h (evP r1) h1 c1 s1)
    (hf : zcl (zfd h b X0 X1) K = some (r, hh, C9, S9)) (hdg : decode cc pc = .ok (.invokeinterface index count, 5)) (hls : ls.size = nL) (hrm : (rest.map fun v => v.category).sum ≤ 8)
    (kk : ∀ (r1 : Option Nat) (h1 : PH) (H1 : Heap) (locs1 : List Loc) (cells1 slots1 C1 S1 : Nat), K r1 h1 = some (r, hh, C1, S1) → cells1 + C1 = mc ∧ slots1 + S1 = ms → zM D dA b0 gs s h1 H1 locs1 → W p l e ({ frames := fr, cells := mc, slots := ms, locals := lo } : Room) s m args below meth c H1 locs1 cells1 slots1 Q (F0 m (pc + 5) ls (va_rf r1 :: rest))) : W p l e ({ frames := fr, cells := mc, slots := ms, locals := lo } : Room) s m args below meth c H locs cells slots Q (F0 m pc ls (.ref sl :: .ref b :: rest)) := by
  obtain ⟨r1, h1, c1, s1, C1, S1, q1, q2, q3, q4⟩ := zcl_i hf
  unfold zfd at q1
  split at q1
  · rename_i hb
    exact zr_back5 hn (zl_one (av := #[]) hc hn hb rfl (hM0 _ r1 h1 c1 s1 q1) hlink hls hdg hrm hfr hlo (by omega) (by omega)) (fun H1 locs1 hn1 => kk r1 h1 H1 locs1 _ _ C1 S1 q2 ⟨by omega, by omega⟩ hn1)
  · rename_i hb
    exact zr_back5 hn (zl_two (av := #[]) hc hn hb (hM1 r1 h1 c1 s1 q1) hlink hls hdg hrm hfr hlo (by omega) (by omega)) (fun H1 locs1 hn1 => kk r1 h1 H1 locs1 _ _ C1 S1 q2 ⟨by omega, by omega⟩ hn1)
  · cases q1
end ZLE
/-- as zMt.of, the method's name handed on -/
theorem zMt.ofN {l : Launch} {D : va_G} {dA : Nat → ClassId} {b0 : Nat} {gs : Nat → Option Nat} {y : MethodName} {cc : ByteArray} {nL : Nat} {ret : Option FieldType} {fr lo : Nat} {vs : List Value} {h : PH} {v : Option Value} {h1 : PH} {cn sn : Nat} (hy : plainName y.cls = true) (hl : (lg_sl vs).length ≤ nL)
    (body : ∀ (p : Program) (e : Env) (s : State) (m : MethodId) (args : Array Value) (below : List Frame) (meth : Method) (c : Code), zC D dA b0 gs y.cls cc nL p c s m args meth → meth.sig.returnType = ret → meth.name = y.name → s.methodNamed? y = some m → zM D dA b0 gs s h s.heap [] → ∀ ls : Array Slot, lv_has ls nL (lv_args 0 vs) →
      W p l e ({ frames := fr, cells := cn, slots := sn, locals := lo } : Room) s m args below meth c s.heap [] 0 0 (MQ below (zQ D dA b0 gs v h1) args s cn sn (zA b0)) (F0 m 0 ls [])) : zMt l D dA b0 gs y cc nL ret fr lo vs h v h1 cn sn := by
  refine Met.ofW (cc := cc) (maxL := nL) (ret := ret) hy rfl ?_
  intro p e s m args below meth c s₁ B hml hv
  obtain ⟨rfl, w1, w2, w3, w4, w5, w6⟩ := hv
  have hts := atoms_spec (ws := ws_ y cc nL ret) B.pre
  have hts : ∀ w ∈ lw_all, w.before _ s = true := fun w h => hts w (List.mem_cons_of_mem _ h)
  have hin : meth.name = y.name := (name_of_methodNamed B.named B.method).1
  have hl0 := lv_entry vs (n := nL) hl
  rw [lg_entry_eq]
  exact body p e s m _ below meth c ⟨⟨B.exec, B.bytes, hml, findClass_of_methodNamed B.named, hts⟩, w4, w5, w6, B.notSynchronized⟩ B.returns hin B.named ⟨w1, w2, w3, va_S.rf⟩ _ hl0
/-- the script's elements -/
def zaX {α : Type} (L : Nat) (xs : Nat → Int32) (i : Int32) (K : Int32 → ZR α) : ZR α := if zin i (some L) = true then K (xs (zix i)) else none
section ZSCR
variable {p : Program} {l : Launch} {e : Env} {R : Room} {s : State} {m : MethodId} {args : Array Value} {below : List Frame} {meth : Method} {c : Code} {H : Heap} {locs : List Loc} {cells slots : Nat} {Q : State → Prop}
variable {cc : ByteArray} {pc nL : Nat} {ls : Array Slot} {rest : List Value} {D : va_G} {dA : Nat → ClassId} {b0 : Nat} {gs : Nat → Option Nat} {own : String} {h : PH} {a : Nat}
theorem zr_xld {α : Type} {K : Int32 → ZR α} {z : α × PH × Nat × Nat} {L : Nat} {xs : Nat → Int32} {i : Int32} (hc : zC D dA b0 gs own cc nL p c s m args meth) (hn : zM D dA b0 gs s h H locs) (hX : va_X a L xs s s.heap ∧ a < b0) (hf : zaX L xs i K = some z) (hdg : decode cc pc = .ok (.iaload, 1))
    (kk : ∀ x : Int32, K x = some z → W p l e R s m args below meth c H locs cells slots Q (F0 m (pc + 1) ls (.int x :: rest))) : W p l e R s m args below meth c H locs cells slots Q (F0 m pc ls (.int i :: .ref a :: rest)) := by
  unfold zaX at hf
  split at hf
  · rename_i hi
    obtain ⟨n, hn9, hin⟩ := zin_vp hi
    cases hn9
    exact va_sld hc.x hc.b hX.1 (Nat.lt_of_lt_of_le hX.2 hc.le) (Nat.not_le.mpr hX.2) hn.2.2.2 hin hdg (kk _ hf)
  · cases hf
theorem zr_xlen {α : Type} {K : Int32 → ZR α} {z : α × PH × Nat × Nat} {L : Nat} {xs : Nat → Int32} (hc : zC D dA b0 gs own cc nL p c s m args meth) (hn : zM D dA b0 gs s h H locs) (hX : va_X a L xs s s.heap ∧ a < b0) (hf : znm (nI L) K = some z) (hdg : decode cc pc = .ok (.arraylength, 1))
    (kk : ∀ x : Int32, K x = some z → W p l e R s m args below meth c H locs cells slots Q (F0 m (pc + 1) ls (.int x :: rest))) : W p l e R s m args below meth c H locs cells slots Q (F0 m pc ls (.ref a :: rest)) := by
  exact va_slen hc.x hc.b hX.1 (Nat.lt_of_lt_of_le hX.2 hc.le) (Nat.not_le.mpr hX.2) hn.2.2.2 hdg (kk _ hf)
end ZSCR
