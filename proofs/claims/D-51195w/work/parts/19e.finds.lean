/-! A CALL OF A RULE's OBJECT -/
set_option maxRecDepth 100000
def zFN : MethodName := ⟨"CountedSkipLists$Rule", "finds", "(LCountedSkipLists$SkipList;)LCountedSkipLists$Gap;"⟩
section ZLD
variable {p : Program} {l : Launch} {e : Env} {R : Room} {s : State} {m : MethodId} {args : Array Value} {below : List Frame} {meth : Method} {c : Code} {H : Heap} {locs : List Loc} {cells slots : Nat} {Q : State → Prop}
variable {cc : ByteArray} {pc nL : Nat} {ls : Array Slot} {rest : List Value} {D : va_G} {dA : Nat → ClassId} {b0 : Nat} {gs : Nat → Option Nat} {own : String} {h : PH} {a : Nat}
theorem zl_run {cK : ClassId} {kK : Class} {methk : Method} {ck : Code} {b sl : Nat} {cell : Cell} {index count mc ms : Nat} {R' : Room} {h1 : PH} {v : Option Nat} {av : Array Value} {d : ClassId} {σ : Lambda.Shape} (hc : zC D dA b0 gs own cc nL p c s m args meth)
    (hcell : H[b]? = some cell) (hcv : cell.vm = .none) (hcc : cell.cls = cK) (hk : s.vm.classes[cK]? = some kK) (hname : kK.name = "CountedSkipLists$$Lambda") (hmk : s.vm.method? ⟨cK, 1⟩ = some methk) (hck : methk.code = some ck) (hml : ck.maxLocals = 2) (hlk : methk.locks = false) (hfl : methk.accessFlags = 0x0001) (hret : methk.sig.returnType = some (.object "CountedSkipLists$Gap"))
    (hmade : Lambda.isMade { classPath := fun _ => none } s.vm d σ cK = true) (hcall : s.lambdaCallable σ cK = true) (hσ : σ.iface = "CountedSkipLists$Rule" ∧ σ.name = "finds" ∧ σ.sam.toString = "(LCountedSkipLists$SkipList;)LCountedSkipLists$Gap;")
    (hlink : Cond.methodLink own index zFN ∈ lw_all) (hls : ls.size = nL) (hdg : decode cc pc = .ok (.invokeinterface index count, 5)) (hrm : (rest.map fun v => v.category).sum ≤ 8)
    (hfr : R'.frames + 1 ≤ R.frames) (hlo : 8 + (2 + 11) + R'.locals ≤ R.locals) (hcl : cells + R'.cells ≤ R.cells) (hsl : slots + R'.slots ≤ R.slots)
    (body : ∀ (s' U₀ : State) (bl : List Frame), s.WarmedH s'.vm → s'.heap = H → U₀.vm = s'.vm → U₀.heap = H → Stand p l e R' s' ⟨cK, 1⟩ #[.ref b, .ref sl] bl methk ck U₀ [] 0 0 → ∃ (U₁ : State) (L₁ : List Loc) (st t : State), Stand p l e R' s' ⟨cK, 1⟩ #[.ref b, .ref sl] bl methk ck U₁ L₁ mc ms ∧ st.heap = H ∧ U₁.heap = t.heap ∧ U₁.vm = t.vm ∧ zQ D dA b0 gs (some (va_rf v)) h1 av st (.returned (some (va_rf v))) t ∧ (∀ q ∈ L₁, zA b0 q.base) ∧
      ∀ fs, (∀ (f : JFrame) (acts : List Action), f.method = ⟨cK, 1⟩ → f.locked = none → f.entered = [] → (doReturn e (U₁.setTop f) acts (some (va_rf v))).1 = U₁.setFrames fs) → Steps p.tables e bl (U₀.setTop (entryFrame ⟨cK, 1⟩ #[.ref b, .ref sl] ck.maxLocals)) (U₁.setFrames fs)) :
    va_Run5 p l e R s m args below meth c H locs cells slots mc ms (F0 m pc ls (.ref sl :: .ref b :: rest)) rest (zQ D dA b0 gs (some (va_rf v)) h1 av) (zA b0) := by
  obtain ⟨S0, a0, y1, y2, y3, y4, y5, y6⟩ := hc.g
  have hdec : (Cond.declares zFN).before #[] s = true := va_Nw.warmD y5 (va_Nw.of rfl (y1 _ q975))
  have hface : (Cond.interfaceMethod zFN.cls zFN.cls zFN.name zFN.desc).before #[] s = true := by
    obtain ⟨r9, r8, z1, -⟩ := Cond.declares_spec (y1 _ q975 : (Cond.declares zFN).before a0 S0 = true)
    show (Cond.interfaceMethod "CountedSkipLists$Rule" "CountedSkipLists$Rule" "finds" "(LCountedSkipLists$SkipList;)LCountedSkipLists$Gap;").before #[] s = true
    exact va_tabs rfl (rfl : (S0.setVm s.vm).vm = s.vm) (by rw [Cond.interfaceMethod_setVm y5.alike (r := r9) z1 (by decide)]; exact y1 _ q974)
  obtain ⟨r0, r, hn, hrm0, hstR, hsigR⟩ := Cond.declares_spec hdec
  obtain ⟨cL, kL, r1, hcL, hkL, hiL, hfoundL, hn1⟩ := Cond.interfaceMethod_spec hface
  cases hn.symm.trans hn1
  have hr0cls : r0.cls = cL := Option.some.inj ((findClass_of_methodNamed hn).symm.trans hcL)
  obtain ⟨hnameR, hdescR⟩ := name_of_methodNamed hn hrm0
  obtain ⟨-, -, -, -, -, -, -, iface', -, -, -, -, found, -, -, -, -, -, hi', -, -, -, -, -, -, hfound', -, -, -, -, -, -, -, -, -, -, hsel⟩ := Lambda.isMade_spec hmade
  rw [hσ.1] at hi'
  cases (show s.vm.findClass "CountedSkipLists$Rule" = some cL from hcL).symm.trans hi'
  have hfr0 : found = r0 := by
    have g1 : s.methodFound? "CountedSkipLists$Rule" "finds" "(LCountedSkipLists$SkipList;)LCountedSkipLists$Gap;" = some r0 := hfoundL
    have g0 : s.vm.findClass "CountedSkipLists$Rule" = some cL := hcL
    simp only [State.methodFound?, g0, hkL, hiL, Option.bind_eq_bind, Option.bind_some] at g1
    rw [hσ.2.1, hσ.2.2] at hfound'
    rw [hfound'] at g1
    exact Option.some.inj g1
  subst hfr0
  obtain ⟨i2, hi2, hasg, hway⟩ := State.lambdaCallable_spec hcall
  rw [hσ.1] at hi2
  cases (show s.vm.findClass "CountedSkipLists$Rule" = some cL from hcL).symm.trans hi2
  rw [hσ.2.1, hσ.2.2] at hway
  subst hcc
  intro T hT X
  have hselP : selectMethod e.platform s.vm cell.cls found = .method ⟨cell.cls, 1⟩ := by rw [Launch.admits_selectMethod X.admits]; exact hsel
  have hsigL : (1 : Nat) = r.sig.parameters.length := by
    have g : parseMethodDescriptor zFN.desc = some ⟨[.object "CountedSkipLists$SkipList"], some (.object "CountedSkipLists$Gap")⟩ := by decide +kernel
    have e9 := Option.some.inj (g.symm.trans hsigR)
    rw [← e9]
    rfl
  obtain ⟨vm₁, X₁, hstep₁⟩ := X.invokeinterface hc.x hc.ow (hc.ts _ hlink) hn hrm0 hstR (by rw [hr0cls]; exact hkL) hiL (by decide) (a := b) (cell := cell) (kcell := kK) (by rw [hT]; exact hcell)
    (fun z h => by rw [hcv] at h; cases h) hk (by rw [hr0cls]; exact hasg) hselP hmk (by rw [hnameR, hdescR]; exact hway) (by rw [hfl]; decide) (by simp [Method.isAbstract, hfl, hasFlag, Acc.abstract]) (g := F0 m pc ls (.ref sl :: .ref b :: rest)) rfl (argsL := [.ref sl]) (rest := rest) hsigL rfl (by rw [hc.b]; exact hdg)
  have hal : s.vm.Alike vm₁ := X₁.warmed.alike
  obtain ⟨Y₀, hin⟩ := X₁.into (g := F0 m pc ls rest) rfl (hls.trans hc.ml.symm) (by rw [hc.b]; exact hdg) (mk := ⟨cell.cls, 1⟩) (methk := methk) (ck := ck) #[.ref b, .ref sl] (R' := R') (by show vm₁.method? _ = _; rw [hal.method?]; exact hmk) hck hlk
    (State.plainMethod.of_name (fun k' hk' => by
      obtain ⟨k2, hk2, he2⟩ := hal.2.2 _ _ hk
      cases hk2.symm.trans hk'
      rw [he2]
      show plainName kK.name = true
      rw [hname]; decide)) hfr (by rw [hml]; show 2 * 0 + (rest.map fun v => v.category).sum + (2 + 11) + R'.locals ≤ R.locals; omega) hcl hsl
  obtain ⟨U₁, L₁, st, t, Y₁, b1, b2, b3, b4, b5, b6⟩ := body ((T.setVm vm₁).calling (F0 m pc ls rest) ⟨cell.cls, 1⟩ #[.ref b, .ref sl]) (((T.setVm vm₁).setTop (F0 m pc ls rest)).pushFrame (.java (entryFrame ⟨cell.cls, 1⟩ #[.ref b, .ref sl] ck.maxLocals))) (.java (F0 m pc ls rest) :: below) X₁.warmed hT rfl hT Y₀
  obtain ⟨fs, hleave, -, hended, hWe, hsame⟩ := Y₁.leave (v := some (va_rf v)) (fun h => by rw [hret] at h; cases h) hlk
  obtain ⟨T', X', hW', -, ht⟩ := X₁.outOf (g := F0 m pc ls rest) rfl (by rw [hc.b]; exact hdg) hended hWe hsame
  have hth : T'.heap = U₁.heap := (congrArg State.heap ht).symm
  have htv : T'.vm = U₁.vm := (congrArg State.vm ht).symm
  refine ⟨some (va_rf v), st, t, T', L₁, b1, X', b5, hth.trans b2, htv.trans b3, b4, fun tg htg => hstep₁ _ fun acts => ?_⟩
  rw [hin acts]
  refine (Steps.weaken (mid := [.java _]) (b6 fs hleave)).trans ?_
  rw [ht]
  exact htg
/-- a static method of the class itself, called by its class entry, as a made class has it -/
theorem zl_static {R' : Room} {s' U₀ : State} {mk : MethodId} {a' : Array Value} {bl : List Frame} {methk : Method} {ck : Code} (Y : Stand p l e R' s' mk a' bl methk ck U₀ [] 0 0) (hx : p.tables.exec = Jvm.exec) {g : JFrame} (hg : g.method = mk) (hsize : g.locals.size = ck.maxLocals) {mi ci nt n : Nat} {y : MethodName} {kK tk : Class} {file : ClassFile} {toy : ClassId} {t : MethodId} {bytes : ByteArray} {maxL : Nat} {ret : Option FieldType} {argsL rest : List Value}
    (hkK : U₀.vm.classes[mk.cls]? = some kK) (hfile : kK.cf = some file) (hM : file.constantPool[mi]? = some (.methodref ci nt)) (hnt : file.constantPool.nameAndType? nt = some (y.name, y.desc))
    (hready : U₀.vm.methodReady mk.cls mi t) (hclsR : U₀.vm.classReady mk.cls ci toy) (htoy : U₀.vm.findClass y.cls = some toy) (htk : U₀.vm.classes[toy]? = some tk)
    (hlook : ((methodIn toy y.name y.desc tk.isInterface none).ask { classPath := fun _ => none } U₀.vm).1 = .ok t)
    (hy : y.cls ≠ "java/lang/invoke/MethodHandle" ∧ y.cls ≠ "java/lang/invoke/VarHandle")
    (hcode : (Cond.code y bytes maxL ret).before #[] U₀ = true) (hst : (Cond.static y).before #[] U₀ = true) (hini : (Cond.initialized y.cls).before #[] U₀ = true)
    (hsig : (parseMethodDescriptor y.desc).map (fun d => d.parameters.length) = some n) (hn : argsL.length = n) (hstack : g.stack = argsL.reverse ++ rest) (hdg : decode ck.code g.pc = .ok (.invokestatic mi, 3))
    {Pre : Pt → Array Value → Prop} {Post : Pt → Array Value → Option Value → Pt → Prop} (hK : Back l R' p e bl s' a' y 3 8 Pre Post) (hW : 2 * g.monitorRoom + (rest.map fun v => v.category).sum ≤ 8) (hpre : Pre ⟨U₀, [], 0, 0⟩ argsL.toArray) :
    ∃ (v : Option Value) (B : Pt), Stand p l e R' s' mk a' bl methk ck B.U B.locs B.cells B.slots ∧ Post ⟨U₀, [], 0, 0⟩ argsL.toArray v B ∧ Steps p.tables e bl (U₀.setTop g) (B.U.setTop { g with pc := g.pc + 3, stack := v.toList ++ rest }) := by
  cases hnB : U₀.methodNamed? y with
  | none => simp [Cond.before, Cond.holds, Cond.value, hnB] at hcode
  | some mB =>
  obtain ⟨methB, cB, hmB, -, -, -, -, -, -, hsigB⟩ := Cond.code_spec hnB hcode
  have hstaticB : methB.isStatic = true := Cond.static_spec hnB hmB hst
  have hfT : U₀.vm.findClass y.cls = some mB.cls := findClass_of_methodNamed hnB
  cases htoy.symm.trans hfT
  have hinitK : tk.init = .initialized := Cond.initialized_spec hfT htk hini
  obtain ⟨kT', hkT', hnameT⟩ := className_of_methodNamed hnB
  cases htk.symm.trans hkT'
  have htB : t = mB := by
    have h1 : U₀.methodFound? y.cls y.name y.desc = some mB := State.methodFound?_of_named hnB hy
    simp only [State.methodFound?, hfT, htk, Option.bind_eq_bind, Option.bind_some] at h1
    rw [hlook] at h1
    exact Option.some.inj h1
  subst htB
  have hsp : ∀ z : Method, signaturePolymorphic tk z = false := fun z => by simp [signaturePolymorphic, hnameT, hy.1, hy.2]
  obtain ⟨b, hmem⟩ := memberRef_ask' (e := e) (vm := U₀.vm) (d := mk.cls) (index := mi) hkK hfile (Or.inl hM) hnt
  have hlen : argsL.length = methB.sig.parameters.length := by
    rw [hsigB] at hsig
    rw [hn]
    exact (Option.some.inj hsig).symm
  subst hg
  obtain ⟨v, B, Y', hpost, hsteps⟩ := hK g.method methk ck ⟨U₀, [], 0, 0⟩ { g with stack := rest } (.invokestatic mi) t argsL.toArray Y rfl hsize hdg hW hnB hpre
  refine ⟨v, B, Y', hpost, Steps.trans ?_ hsteps⟩
  jvm_step Y.here [hx, hdg, invokestatic.wp_ready (e := e) (s := U₀) (m := t) (k := tk) (meth := methB) (args := argsL) (rest := rest) (f := g) Y.here.top ⟨ci, _, _, b, t.cls, tk, hmem, hclsR, htk, by simp [hsp]⟩ hready htk hmB (hsp _) hstaticB hinitK hlen hstack]
  intro acts
  rw [doInvoke_state]
  exact Steps.refl _
/-- what is returned -/
theorem zl_ret {R' : Room} {s' U₁ : State} {mk : MethodId} {a' : Array Value} {bl : List Frame} {methk : Method} {ck : Code} {L : List Loc} {c1 n1 : Nat} (Y : Stand p l e R' s' mk a' bl methk ck U₁ L c1 n1) (hx : p.tables.exec = Jvm.exec) {pc : Nat} {Ls : Array Slot} {v : Option Nat} {t : FieldType} (hret : methk.sig.returnType = some t) (ht : t.isReference = true)
    (hdg : decode ck.code pc = .ok (.areturn, 1)) {fs : List Frame} (hleave : ∀ (f : JFrame) (acts : List Action), f.method = mk → f.locked = none → f.entered = [] → (doReturn e (U₁.setTop f) acts (some (va_rf v))).1 = U₁.setFrames fs) :
    Steps p.tables e bl (U₁.setTop { method := mk, pc := pc, locals := Ls, stack := [va_rf v], locked := none }) (U₁.setFrames fs) := by
  have hm' : U₁.vm.method? mk = some methk := Y.method'
  cases v
  · show Steps p.tables e bl (U₁.setTop { method := mk, pc := pc, locals := Ls, stack := [Value.null], locked := none }) (U₁.setFrames fs)
    jvm_step Y.here [Y.here.top, hx, hdg, hm', hret, narrow, Value.isRef, ht]
    (try refine ⟨rfl, ?_⟩); (try refine ⟨rfl, ?_⟩)
    first | (intro acts; rw [show doReturn e _ acts (some Value.null) = doReturn e _ acts (some (va_rf none)) from rfl, hleave _ acts rfl rfl rfl]) | rw [hleave _ _ rfl rfl rfl]
    exact Steps.refl _
  · rename_i q
    show Steps p.tables e bl (U₁.setTop { method := mk, pc := pc, locals := Ls, stack := [Value.ref q], locked := none }) (U₁.setFrames fs)
    jvm_step Y.here [Y.here.top, hx, hdg, hm', hret, narrow, Value.isRef, ht]
    (try refine ⟨rfl, ?_⟩); (try refine ⟨rfl, ?_⟩)
    first | (intro acts; rw [show doReturn e _ acts (some (Value.ref q)) = doReturn e _ acts (some (va_rf (some q))) from rfl, hleave _ acts rfl rfl rfl]) | rw [hleave _ _ rfl rfl rfl]
    exact Steps.refl _
end ZLD
