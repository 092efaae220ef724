/-! THE RULES' OBJECTS -/
set_option maxRecDepth 100000
section ZSH
variable {α : Type}
theorem zi19 {x : Option CpInfo} {f : Nat → Nat → Option α} {r : α} (h : Lambda.shapeOf?.match_19 (fun _ => Option α) x f (fun _ => none) = some r) : ∃ b nt, x = some (.invokeDynamic b nt) ∧ f b nt = some r := by
  split at h
  · exact ⟨_, _, rfl, h⟩
  · cases h
theorem zi17 {x : Option CpInfo} {f : Nat → Option α} {r : α} (h : Lambda.shapeOf?.match_17 (fun _ => Option α) x f (fun _ => none) = some r) : ∃ y, f y = some r := by
  split at h
  · exact ⟨_, h⟩
  · cases h
theorem zi15 {x : Array Nat} {f : Nat → Nat → Nat → Option α} {r : α} (h : Lambda.shapeOf?.match_15 (fun _ => Option α) x f (fun _ => none) = some r) : ∃ a0 a1 a2, f a0 a1 a2 = some r := by
  rcases x with ⟨L⟩
  match L, h with
  | [], h => cases h
  | [_], h => cases h
  | [_, _], h => cases h
  | [a, b, c], h => exact ⟨a, b, c, h⟩
  | _ :: _ :: _ :: _ :: _, h => cases h
theorem zi9 {x : Option CpInfo} {f : Nat → Option α} {r : α} (h : Lambda.shapeOf?.match_9 (fun _ => Option α) x f (fun _ => none) = some r) : ∃ y, f y = some r := by
  split at h
  · exact ⟨_, h⟩
  · cases h
theorem zi12 {x : Option CpInfo} {f : Nat → Nat → Option α} {r : α} (h : Lambda.shapeOf?.match_12 (fun _ => Option α) x f (fun _ => none) = some r) : ∃ y z, f y z = some r := by
  split at h
  · exact ⟨_, _, h⟩
  · cases h
theorem zi6 {x : Option FieldType} {f : String → Option α} {r : α} (h : Lambda.shapeOf?.match_6 (fun _ => Option α) x f (fun _ => none) = some r) : ∃ y, f y = some r := by
  split at h
  · exact ⟨_, h⟩
  · cases h
end ZSH
theorem z_shape {cf : ClassFile} {index : Nat} {σ : Lambda.Shape} (h : Lambda.shapeOf? cf index = some σ) : ∃ (b nt : Nat) (desc : String) (site : MethodDescriptor), cf.constantPool[index]? = some (.invokeDynamic b nt) ∧ cf.constantPool.nameAndType? nt = some (σ.name, desc) ∧ parseMethodDescriptor desc = some site ∧ site.parameters = σ.captured := by
  unfold Lambda.shapeOf? at h
  obtain ⟨b, nt, hc, h⟩ := zi19 h
  obtain ⟨entries, -, h⟩ := Option.bind_eq_some_iff.mp h
  obtain ⟨bm, -, h⟩ := Option.bind_eq_some_iff.mp h
  obtain ⟨r, h⟩ := zi17 h
  obtain ⟨_, -, h⟩ := Option.bind_eq_some_iff.mp h
  obtain ⟨a0, a1, a2, h⟩ := zi15 h
  obtain ⟨d0, h⟩ := zi9 h
  obtain ⟨kind, r1, h⟩ := zi12 h
  obtain ⟨d2, h⟩ := zi9 h
  obtain ⟨⟨name, desc⟩, hnt, h⟩ := Option.bind_eq_some_iff.mp h
  obtain ⟨site, hsite, h⟩ := Option.bind_eq_some_iff.mp h
  obtain ⟨iface, h⟩ := zi6 h
  obtain ⟨⟨implClass, implName, implDesc, implItf⟩, -, h⟩ := Option.bind_eq_some_iff.mp h
  obtain ⟨x1, -, h⟩ := Option.bind_eq_some_iff.mp h
  obtain ⟨x2, -, h⟩ := Option.bind_eq_some_iff.mp h
  obtain ⟨x3, -, h⟩ := Option.bind_eq_some_iff.mp h
  obtain ⟨x4, -, h⟩ := Option.bind_eq_some_iff.mp h
  obtain ⟨x5, -, h⟩ := Option.bind_eq_some_iff.mp h
  cases h
  exact ⟨b, nt, desc, site, hc, hnt, hsite, rfl⟩
theorem z_plong {d : String} {sig : MethodDescriptor} (h : parseMethodDescriptor d = some sig) : parseLongMethodDescriptor d = some sig := parseLong_of_parse h
/-- what the made class is -/
theorem z_made {s : State} {args : Array Value} {d cK : ClassId} {σ : Lambda.Shape} {dk : Class} {DF : ClassFile} {fw : Method} {lay : Array Field × Array FieldType × Array FieldType} {code : ByteArray} {tN tD : String} {mi ci nt cn : Nat} (hd : s.vm.classes[d]? = some dk) (hname : dk.name = "CountedSkipLists") (h : Lambda.isMade { classPath := fun _ => none } s.vm d σ cK = true)
    (hO : (Cond.instantiable "java/lang/Object" 0).before args s = true) (hDF : σ.file "CountedSkipLists" = some DF) (hfw : ∀ ms, layoutMethods DF = some ms → ms[1]? = some fw) (hlay : layoutFields DF 0 = some lay)
    (hcode : (fw.code.map fun c => (c.code.data, c.maxLocals)) = some (code.data, 2)) (hfl : (fw.accessFlags, fw.sig.returnType) = (0x0001, some (.object "CountedSkipLists$Gap")))
    (hic : σ.implClass = "CountedSkipLists") (hin : σ.implName = tN) (hid : σ.implDesc.toString = tD) (hii : σ.implItf = false)
    (eM : DF.constantPool[mi]? = some (.methodref ci nt) ∧ DF.constantPool.className? ci = some "CountedSkipLists" ∧ DF.constantPool.nameAndType? nt = some (tN, tD)) (eC : DF.constantPool[ci]? = some (.class_ cn) ∧ DF.constantPool.string? cn = some "CountedSkipLists" ∧ ci ≠ DF.thisClass) :
    ∃ (k tk : Class) (file : ClassFile) (methk : Method) (ck : Code) (toy : ClassId) (t : MethodId),
      s.vm.classes[cK]? = some k ∧ k.name = "CountedSkipLists$$Lambda" ∧ k.cf = some file ∧ file.constantPool = DF.constantPool ∧
      s.vm.method? ⟨cK, 1⟩ = some methk ∧ methk.code = some ck ∧ ck.code = code ∧ ck.maxLocals = 2 ∧ methk.locks = false ∧ methk.accessFlags = 0x0001 ∧ methk.sig.returnType = some (.object "CountedSkipLists$Gap") ∧
      s.vm.findClass "CountedSkipLists" = some toy ∧ s.vm.classes[toy]? = some tk ∧ tk.isInterface = false ∧ ((methodIn toy tN tD tk.isInterface none).ask { classPath := fun _ => none } s.vm).1 = .ok t ∧
      s.vm.methodReady cK mi t ∧ s.vm.classReady cK ci toy ∧ k.kind = .ordinary ∧ k.instanceTypes = lay.2.1 ∧
      (∀ (fi fn fj : Nat) (n dsc : String) (f0 : Field), DF.constantPool[fi]? = some (.fieldref 2 fn) → DF.constantPool.nameAndType? fn = some (n, dsc) → lay.1.findIdx? (·.name == n) = some fj → lay.1[fj]? = some f0 → s.vm.fieldReady cK fi cK f0) := by
  obtain ⟨dk', k, ok, tk, file, cf, object, iface, toy, lay', methods, target, found, hd', hk, hfile, hcf, hobj, -, hok, hlay', hms, ht, htk, hg, -, hrec, -, -, -, hitf, hpool, hmeth, hfields, hty, hres, -⟩ := Lambda.isMade_spec h
  cases hd.symm.trans hd'
  rw [hname, hDF] at hcf
  cases hcf
  obtain ⟨cO, kO, hfO, hkO, -, -, -, hsz⟩ := Cond.instantiable_spec hO
  cases hfO.symm.trans hobj
  cases hkO.symm.trans hok
  have hemp : ok.instanceTypes = #[] := Array.eq_empty_of_size_eq_zero hsz
  rw [hsz, hlay] at hlay'
  cases hlay'
  obtain ⟨b, hb, hsame⟩ := hmeth 1 fw (hfw methods hms)
  simp only [Lambda.sameMethod, Bool.and_eq_true, decide_eq_true_eq] at hsame
  obtain ⟨⟨hn, -, hsig, hfl'⟩, hcode'⟩ := hsame
  simp only [Prod.mk.injEq] at hfl
  rw [hic] at ht
  rw [hin, hid] at hg
  have hitf' : tk.isInterface = false := hitf.trans hii
  cases hfc : fw.code with
  | none => rw [hfc] at hcode; cases hcode
  | some x =>
    cases hbc : b.code with
    | none => simp [hfc, hbc] at hcode'
    | some y =>
      simp only [hfc, hbc, Bool.and_eq_true, decide_eq_true_eq] at hcode'
      simp only [hfc, Option.map_some, Option.some.injEq, Prod.mk.injEq] at hcode
      refine ⟨k, tk, file, b, y, toy, target, hk, by rw [hrec.1, hname]; rfl, hfile, hpool.2.1, by simp [Vm.method?, hk, hb], hbc, ?_, by rw [← hcode'.1.1.1.1.2.1]; exact hcode.2, ?_, by rw [← hfl']; exact hfl.1, by rw [← hsig]; exact hfl.2, ht, htk, hitf', hg,
        ⟨k, hk, hres mi _ (Lambda.resolvedOf_method eM.1 eM.2.1 ht htk eM.2.2 hg)⟩, ⟨k, hk, hres ci _ (Lambda.resolvedOf_class eC.1 eC.2.2 eC.2.1 ht)⟩, hrec.2.1, by rw [hty.1, hemp]; simp, ?_⟩
      · rw [← hcode'.1.1.1.1.2.2]
        exact ByteArray.ext hcode.1
      · simp [Method.locks, Method.isSynchronized, ← hfl', hfl.1, hasFlag, Acc.synchronized]
      · intro fi fn fj n dsc f0 e1 e2 e3 e4
        exact ⟨k, fj, k, hk, hres fi _ (Lambda.resolvedOf_field e1 e2 e3), hk, hfields fj _ e4⟩
theorem znr_l1 : (Cond.lambdaSite zRN 1 54 zσ1) ∈ flatC zNar := by decide +kernel
theorem znr_l2 : (Cond.lambdaSite zRN 7 57 zσ2) ∈ flatC zNar := by decide +kernel
section ZLA
variable {p : Program} {l : Launch} {e : Env} {R : Room} {s : State} {m : MethodId} {args : Array Value} {below : List Frame} {meth : Method} {c : Code} {H : Heap} {locs : List Loc} {cells slots : Nat} {Q : State → Prop}
variable {cc : ByteArray} {pc nL : Nat} {ls : Array Slot} {rest : List Value} {D : va_G} {dA : Nat → ClassId} {b0 : Nat} {gs : Nat → Option Nat} {own : String} {h : PH} {a : Nat}
theorem z_rides {S0 s : State} (hW : S0.WarmedH s.vm) {pc index : Nat} {σ : Lambda.Shape} {cK : ClassId} {one : Option Addr} (h : S0.lambdaAt? zRN pc index σ = some (cK, one)) :
    ∃ (mR : MethodId) (k : Class) (cf : ClassFile) (i0 p0 : Nat) (lk : Linked), s.methodNamed? zRN = some mR ∧ s.vm.classes[mR.cls]? = some k ∧ k.name = "CountedSkipLists" ∧ k.cf = some cf ∧ Lambda.shapeOf? cf index = some σ ∧
      (k.callSites.find? fun y => y.1 == mR.idx && y.2.1 == pc) = some (i0, p0, lk) ∧ Lambda.isMade { classPath := fun _ => none } s.vm mR.cls σ cK = true ∧ s.lambdaCallable σ cK = true ∧
      ((∃ a cell, lk = .constant a ∧ one = some a ∧ σ.captured = [] ∧ S0.heap[a]? = some cell ∧ cell.cls = cK ∧ cell.vm = .none ∧ cell.slots = #[]) ∨ (lk = .makes cK ∧ one = none ∧ σ.captured ≠ [])) := by
  obtain ⟨m, kc, cf, i0, p0, lk, hm, hk, hcf, hsh, hin, hfind, hmade, hcall, hl⟩ := State.lambdaAt?_spec h
  have hcall' : s.lambdaCallable σ cK = true := by
    have hA := hW.alike
    simp only [State.lambdaCallable, hA.findClass, hA.assignable, hA.superclasses, hA.declaredIn] at hcall ⊢
    exact hcall
  obtain ⟨kc', hk', he⟩ := hW.alike.2.2 _ _ hk
  have hm' : s.methodNamed? zRN = some m := by
    have := State.methodNamed?_setVm (s := S0) hW.alike zRN
    rw [hm] at this
    exact this
  obtain ⟨kn, hkn, hnm⟩ := className_of_methodNamed hm'
  cases hk'.symm.trans hkn
  exact ⟨m, kc', cf, i0, p0, lk, hm', hk', hnm, by rw [he]; exact hcf, hsh, by rw [he]; exact hfind, Lambda.isMade_warmer hW hmade, hcall', hl⟩
theorem zC.l1 (hc : zC D dA b0 gs own cc nL p c s m args meth) : ∃ (mR : MethodId) (k : Class) (cf : ClassFile) (i0 p0 : Nat), s.methodNamed? zRN = some mR ∧ s.vm.classes[mR.cls]? = some k ∧ k.name = "CountedSkipLists" ∧ k.cf = some cf ∧ Lambda.shapeOf? cf 54 = some zσ1 ∧
      (k.callSites.find? fun y => y.1 == mR.idx && y.2.1 == 1) = some (i0, p0, .makes (D.1 30)) ∧ Lambda.isMade { classPath := fun _ => none } s.vm mR.cls zσ1 (D.1 30) = true ∧ s.lambdaCallable zσ1 (D.1 30) = true := by
  obtain ⟨S0, a0, g1, g2, g3, g4, g5, g6⟩ := hc.g
  obtain ⟨e1, -, -⟩ := hc.gL
  have hs : (Cond.lambdaSite zRN 1 54 zσ1).before a0 S0 = true := flat_of_before _ g2 _ znr_l1
  obtain ⟨cK, one, hat⟩ := Cond.lambdaSite_spec hs
  have e2 : gs 27 = some cK := by
    rw [g4]
    show (S0.lambdaAt? zRN 1 54 zσ1).map (·.1) = some cK
    rw [hat]; rfl
  cases e1.symm.trans e2
  obtain ⟨mR, k, cf, i0, p0, lk, q1, q2, q3, q4, q5, q6, q7, q8, q9⟩ := z_rides g5 hat
  rcases q9 with ⟨a, cell, -, -, h9, -⟩ | ⟨rfl, -, -⟩
  · exact absurd h9 (by decide)
  · exact ⟨mR, k, cf, i0, p0, q1, q2, q3, q4, q5, q6, q7, q8⟩
theorem zC.l2 (hc : zC D dA b0 gs own cc nL p c s m args meth) : ∃ (mR : MethodId) (k : Class) (cf : ClassFile) (i0 p0 : Nat) (a : Nat), s.methodNamed? zRN = some mR ∧ s.vm.classes[mR.cls]? = some k ∧ k.name = "CountedSkipLists" ∧ k.cf = some cf ∧ Lambda.shapeOf? cf 57 = some zσ2 ∧
      (k.callSites.find? fun y => y.1 == mR.idx && y.2.1 == 7) = some (i0, p0, .constant a) ∧ gs 26 = some a ∧ Lambda.isMade { classPath := fun _ => none } s.vm mR.cls zσ2 (D.1 31) = true ∧ s.lambdaCallable zσ2 (D.1 31) = true := by
  obtain ⟨S0, a0, g1, g2, g3, g4, g5, g6⟩ := hc.g
  obtain ⟨-, -, e1⟩ := hc.gL
  have hs : (Cond.lambdaSite zRN 7 57 zσ2).before a0 S0 = true := flat_of_before _ g2 _ znr_l2
  obtain ⟨cK, one, hat⟩ := Cond.lambdaSite_spec hs
  have e2 : gs 28 = some cK := by
    rw [g4]
    show (S0.lambdaAt? zRN 7 57 zσ2).map (·.1) = some cK
    rw [hat]; rfl
  cases e1.symm.trans e2
  obtain ⟨mR, k, cf, i0, p0, lk, q1, q2, q3, q4, q5, q6, q7, q8, q9⟩ := z_rides g5 hat
  rcases q9 with ⟨a, cell, rfl, rfl, -, -⟩ | ⟨-, -, h9⟩
  · refine ⟨mR, k, cf, i0, p0, a, q1, q2, q3, q4, q5, q6, ?_, q7, q8⟩
    rw [g4]
    show (S0.lambdaAt? zRN 7 57 zσ2).bind (·.2) = some a
    rw [hat]; rfl
  · exact absurd rfl h9
end ZLA
def zdf : ClassFile := { minorVersion := 0, majorVersion := 0, constantPool := #[], accessFlags := 0, thisClass := 0, superClass := 0, interfaces := #[], fields := #[], methods := #[], attributes := #[] }
def zD1 : ClassFile := (zσ1.file "CountedSkipLists").getD zdf
def zD2 : ClassFile := (zσ2.file "CountedSkipLists").getD zdf
def zF1 : Method := ((layoutMethods zD1).bind (·[1]?)).getD default
def zF2 : Method := ((layoutMethods zD2).bind (·[1]?)).getD default
def zL1 : Array Field × Array FieldType × Array FieldType := (layoutFields zD1 0).getD (#[], #[], #[])
def zL2 : Array Field × Array FieldType × Array FieldType := (layoutFields zD2 0).getD (#[], #[], #[])
def zB1 : ByteArray := ⟨#[0x2a, 0xb4, 0, 15, 0x2b, 0xb8, 0, 23, 0xb0]⟩
def zB2 : ByteArray := ⟨#[0x2b, 0xb8, 0, 17, 0xb0]⟩
theorem z_getD {α : Type} {o : Option α} {d : α} (h : o.isSome = true) : o = some (o.getD d) := by
  cases o with
  | none => cases h
  | some x => rfl
theorem z_second {DF : ClassFile} {fw : Method} (hf : fw = ((layoutMethods DF).bind (·[1]?)).getD default) (h : ((layoutMethods DF).bind (·[1]?)).isSome = true) : ∀ ms, layoutMethods DF = some ms → ms[1]? = some fw := by
  intro ms hms
  obtain ⟨x, hx⟩ := Option.isSome_iff_exists.mp h
  have hf2 : fw = x := by rw [hf, hx]; rfl
  rw [hms] at hx
  rw [hf2]
  exact hx
theorem zD1_is : zσ1.file "CountedSkipLists" = some zD1 := z_getD (by decide +kernel)
theorem zD2_is : zσ2.file "CountedSkipLists" = some zD2 := z_getD (by decide +kernel)
theorem zF1_is : ∀ ms, layoutMethods zD1 = some ms → ms[1]? = some zF1 := z_second rfl (by decide +kernel)
theorem zF2_is : ∀ ms, layoutMethods zD2 = some ms → ms[1]? = some zF2 := z_second rfl (by decide +kernel)
theorem zL1_is : layoutFields zD1 0 = some zL1 := z_getD (by decide +kernel)
theorem zL2_is : layoutFields zD2 0 = some zL2 := z_getD (by decide +kernel)
theorem zF1_code : (zF1.code.map fun c => (c.code.data, c.maxLocals)) = some (zB1.data, 2) := by decide +kernel
theorem zF2_code : (zF2.code.map fun c => (c.code.data, c.maxLocals)) = some (zB2.data, 2) := by decide +kernel
theorem zF1_fl : (zF1.accessFlags, zF1.sig.returnType) = (0x0001, some (.object "CountedSkipLists$Gap")) := by decide +kernel
theorem zF2_fl : (zF2.accessFlags, zF2.sig.returnType) = (0x0001, some (.object "CountedSkipLists$Gap")) := by decide +kernel
theorem zE1M : zD1.constantPool[23]? = some (.methodref 19 22) ∧ zD1.constantPool.className? 19 = some "CountedSkipLists" ∧ zD1.constantPool.nameAndType? 22 = some ("lambda$repairs$0", "(ILCountedSkipLists$SkipList;)LCountedSkipLists$Gap;") := by decide +kernel
theorem zE1C : zD1.constantPool[19]? = some (.class_ 18) ∧ zD1.constantPool.string? 18 = some "CountedSkipLists" ∧ 19 ≠ zD1.thisClass := by decide +kernel
theorem zE1F : zD1.constantPool[15]? = some (.fieldref 2 14) ∧ zD1.constantPool.nameAndType? 14 = some ("arg$1", "I") ∧ zL1.1.findIdx? (·.name == "arg$1") = some 0 ∧ (zL1.1[0]?).map (fun f => (f.isStatic, f.slot)) = some (false, 0) ∧ zL1.2.1 = #[.int] := by decide +kernel
theorem zE2M : zD2.constantPool[17]? = some (.methodref 14 16) ∧ zD2.constantPool.className? 14 = some "CountedSkipLists" ∧ zD2.constantPool.nameAndType? 16 = some ("lambda$repairs$1", "(LCountedSkipLists$SkipList;)LCountedSkipLists$Gap;") := by decide +kernel
theorem zE2C : zD2.constantPool[14]? = some (.class_ 13) ∧ zD2.constantPool.string? 13 = some "CountedSkipLists" ∧ 14 ≠ zD2.thisClass := by decide +kernel
/-- a rule's new object; the other rule's one object -/
def zlm {α : Type} (h : PH) (v : Int32) (K : Nat → PH → ZR α) : ZR α := zadd 1 1 (K (zN h) (zwI (znw h (.inl 30)) (zN h) 0 v))
section ZLB
variable {p : Program} {l : Launch} {e : Env} {R : Room} {s : State} {m : MethodId} {args : Array Value} {below : List Frame} {meth : Method} {c : Code} {H : Heap} {locs : List Loc} {cells slots : Nat} {Q : State → Prop}
variable {cc : ByteArray} {pc nL : Nat} {ls : Array Slot} {rest : List Value} {D : va_G} {dA : Nat → ClassId} {b0 : Nat} {gs : Nat → Option Nat} {own : String} {h : PH} {a : Nat}
theorem zM.plam (hc : zC D dA b0 gs own cc nL p c s m args meth) (hn : zM D dA b0 gs s h H locs) {v : Int32} {cell : Cell} (h1 : cell.cls = D.1 30) (h2 : cell.vm = .none) (h3 : cell.slots = #[.int v]) : zM D dA b0 gs s (zwI (znw h (.inl 30)) (zN h) 0 v) (H.push cell) locs := by
  obtain ⟨n1, n2, n3, n4⟩ := hn
  have hsz : (H.push cell).size = H.size + 1 := Array.size_push _
  have ho : ∀ b, b < H.size → (H.push cell)[b]? = H[b]? := fun b hb => by rw [Array.getElem?_push_lt hb, Array.getElem?_eq_getElem hb]
  refine ⟨⟨by rw [zN_wI, zN_nw, hsz, n1.1], fun b u hb => ?_⟩, n2, n3, ⟨Nat.le_trans n4.1 (by omega), fun q h1 h2 => (ho q (Nat.lt_of_lt_of_le h1 n4.1)).trans (n4.2.1 q h1 h2), n4.2.2⟩⟩
  rw [zT_wI, zT_nw] at hb
  by_cases e : b = zN h
  · subst e
    rw [up0_s] at hb
    cases hb
    refine ⟨cell, by rw [n1.1]; exact Array.getElem?_push_size, h1, ⟨by rw [h2]; exact fun e => (by cases e), by rw [h2]; rfl, fun _ => h2⟩, fun k hk => ?_⟩
    have hk0 : k = 0 := by have : k < 1 := hk; omega
    subst hk0
    rw [hc.gL.2.1, h3]
    show some (Value.int v) = some (Value.int (zI (zwI (znw h (.inl 30)) (zN h) 0 v) (zN h) 0))
    rw [zI_wI, up2_s]
  · rw [up0_n _ _ e] at hb
    have h1 := n1.2 b u hb
    refine h1.kept (ho b h1.lt) rfl (fun ty k => ?_)
    rw [zV_wI e]
    unfold zV
    rw [zI_nw, zP_nw, zL_nw, up1_n _ _ e, up1_n _ _ e, up1_n _ _ e]
theorem zr_lam1 {α : Type} {K : Nat → PH → ZR α} {v : Int32} {r : α} {hh : PH} {C9 S9 fr lo mc ms : Nat} (hc : zC D dA b0 gs own cc nL p c s m args meth) (hn : zM D dA b0 gs s h H locs) (hq : cells + C9 = mc ∧ slots + S9 = ms) (hnm : s.methodNamed? zRN = some m) (hlo : 3090 ≤ lo) (hls : ls.size = nL) (hrm : (rest.map fun v => v.category).sum ≤ 8) (hf : zlm h v K = some (r, hh, C9, S9)) (hdg : decode cc 1 = .ok (.invokedynamic 54, 5))
    (kk : ∀ (a2 : Nat) (h2 : PH) (H1 : Heap) (cells1 slots1 C1 S1 : Nat), K a2 h2 = some (r, hh, C1, S1) → cells1 + C1 = mc ∧ slots1 + S1 = ms → zM D dA b0 gs s h2 H1 locs → W p l e ({ frames := fr, cells := mc, slots := ms, locals := lo } : Room) s m args below meth c H1 locs cells1 slots1 Q (F0 m 6 ls (.ref a2 :: rest))) : W p l e ({ frames := fr, cells := mc, slots := ms, locals := lo } : Room) s m args below meth c H locs cells slots Q (F0 m 1 ls (.int v :: rest)) := by
  obtain ⟨C1, S1, hf1, e1, e2⟩ := zadd_i hf
  obtain ⟨mR, k, cf, i0, p0, q1, q2, q3, q4, q5, q6, q7, q8⟩ := hc.l1
  cases hnm.symm.trans q1
  obtain ⟨bsm, nt, desc, site, w1, w2, w3, w4⟩ := z_shape q5
  obtain ⟨kK, tk, file, methk, ck, toy, t, k1, k2, k3, k4, -, -, -, -, -, -, -, -, -, -, -, -, -, k5, k6, -⟩ := z_made q2 q3 q7 (hc.ts _ q2706) zD1_is zF1_is zL1_is zF1_code zF1_fl rfl rfl (by decide +kernel) rfl zE1M zE1C
  have hsl : ((kK.instanceTypes.toList.zip [(.int v : Value)]).map fun (t, v) => narrow t v) = [.int v] := by
    rw [k6, zE1F.2.2.2.2]
    simp [narrow]
  intro T hT X
  obtain ⟨X₁, st1⟩ := X.lambdaMakes hc.x (g := F0 m 1 ls (.int v :: rest)) rfl (hls.trans hc.ml.symm) (by rw [hc.b]; exact hdg) (vals := [.int v]) (rest := rest)
    q2 q6 q4 w1 w2 (z_plong w3) (by rw [w4]; rfl) rfl k1
    (by rw [X.admits.platform]; show 2 * 0 + (1 + (rest.map fun v => v.category).sum) + 3072 ≤ lo; omega) (by show cells + 1 ≤ mc; omega) (by rw [hsl]; show slots + 1 ≤ ms; omega)
    (fun i v hv => by
      rw [hsl] at hv
      match i with
      | 0 => simp at hv; subst hv; simp [State.fitsSlot, State.slotType?, k1, k5, k6, zE1F.2.2.2.2, fits]
      | j + 1 => simp at hv)
  rw [hsl] at X₁ st1
  have hTz : T.heap.size = zN h := by rw [hT]; exact hn.1.1.symm
  obtain ⟨t, a1, b1⟩ := kk (zN h) (zwI (znw h (.inl 30)) (zN h) 0 v) (H.push { cls := D.1 30, slots := [Value.int v].toArray, vm := .none }) (cells + 1) (slots + 1) C1 S1 hf1 ⟨by omega, by omega⟩ (hn.plam hc rfl rfl rfl) (T.pushCell { cls := D.1 30, slots := [Value.int v].toArray, vm := .none }) (by rw [← hT]; rfl) X₁
  rw [hTz] at st1
  exact ⟨t, st1 t a1, b1⟩
theorem zr_lam2 {α : Type} {K : Option Nat → ZR α} {z : α × PH × Nat × Nat} {fr lo mc ms : Nat} (hc : zC D dA b0 gs own cc nL p c s m args meth) (hn : zM D dA b0 gs s h H locs) (hnm : s.methodNamed? zRN = some m) (hlo : 3090 ≤ lo) (hls : ls.size = nL) (hrm : (rest.map fun v => v.category).sum ≤ 8) (hf : znm (zS h 26) K = some z) (hdg : decode cc 7 = .ok (.invokedynamic 57, 5))
    (kk : ∀ o : Option Nat, K o = some z → W p l e ({ frames := fr, cells := mc, slots := ms, locals := lo } : Room) s m args below meth c H locs cells slots Q (F0 m 12 ls (va_rf o :: rest))) : W p l e ({ frames := fr, cells := mc, slots := ms, locals := lo } : Room) s m args below meth c H locs cells slots Q (F0 m 7 ls rest) := by
  obtain ⟨mR, k, cf, i0, p0, a, q1, q2, q3, q4, q5, q6, q7, q8, q9⟩ := hc.l2
  cases hnm.symm.trans q1
  intro T hT X
  have h3 : zS h 26 = some a := by rw [hn.2.2.1]; exact q7
  rw [h3] at hf
  obtain ⟨t, a1, b1⟩ := kk (some a) hf T hT X
  exact ⟨t, X.lambdaConstant hc.x (g := F0 m 7 ls rest) rfl (hls.trans hc.ml.symm) (by rw [hc.b]; exact hdg) q2 q6 (by rw [X.admits.platform]; show 2 * 0 + (rest.map fun v => v.category).sum + 3072 ≤ lo; omega) a1, b1⟩
end ZLB
