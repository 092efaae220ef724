/-! THE JDK's: inherited calls, copies, clones, classes -/
set_option maxRecDepth 100000
theorem lw_U {own : String} {idx : Nat} {C owner : String} {x y : MethodName} {b : ByteArray} {L : Nat} {r : Option FieldType} (h1 : Cond.methodLink own idx x ∈ lw_all) (h2 : Cond.sameMethod x.cls owner x.name x.desc ∈ lw_all) (h3 : Cond.selects C x y ∈ lw_all) (h4 : Cond.instanceMethod y ∈ lw_all) (h5 : Cond.initialized y.cls ∈ lw_all) (h6 : Cond.code y b L r ∈ lw_all) : GoodIn lw_all (va_wsU own idx C owner x y (ws_ y b L r)) := by
  refine lw_app ?_ (lw_meth h6)
  intro w hw
  simp only [List.mem_cons, List.not_mem_nil, or_false] at hw
  rcases hw with e | e | e | e | e
  · rw [e]; exact h1
  · rw [e]; exact h2
  · rw [e]; exact h3
  · rw [e]; exact h4
  · rw [e]; exact h5
theorem lw_SU {own : String} {idx : Nat} {y : MethodName} {b : ByteArray} {L : Nat} {r : Option FieldType} (h1 : Cond.methodLink own idx y ∈ lw_all) (h2 : Cond.sameMethod y.cls y.cls y.name y.desc ∈ lw_all) (h3 : Cond.superclass own y.cls ∈ lw_all) (h4 : Cond.instanceMethod y ∈ lw_all) (h5 : Cond.initialized y.cls ∈ lw_all) (h6 : Cond.code y b L r ∈ lw_all) : GoodIn lw_all (va_wsSU own idx y (ws_ y b L r)) := by
  refine lw_app ?_ (lw_meth h6)
  intro w hw
  simp only [List.mem_cons, List.not_mem_nil, or_false] at hw
  rcases hw with e | e | e | e | e
  · rw [e]; exact h1
  · rw [e]; exact h2
  · rw [e]; exact h3
  · rw [e]; exact h4
  · rw [e]; exact h5
/-- copies from one array to another -/
def zwcI (h : PH) (a a' sp dp n : Nat) : PH := (zT h, up1 (zI h) a' (va_cpy (zI h a) (zI h a') sp dp n), zP h, zL h, zN h, zS h, zB h)
def zwcP (h : PH) (a a' sp dp n : Nat) : PH := (zT h, zI h, up1 (zP h) a' (va_cpy (zP h a) (zP h a') sp dp n), zL h, zN h, zS h, zB h)
def zcpg (h : PH) (a a' ai : Nat) (sp dp n : Int32) : Bool := decide (0 ≤ sp) && decide (0 ≤ dp) && decide (0 ≤ n) && (match zln h a ai with
  | some n0 => decide (zix sp + zix n ≤ n0)
  | none => false) && (match zln h a' ai with
  | some n1 => decide (zix dp + zix n ≤ n1)
  | none => false) && decide (zB h ≤ a) && decide (zB h ≤ a')
def zcpI {α : Type} (h : PH) (a a' ai : Nat) (sp dp n : Int32) (K : PH → ZR α) : ZR α := if zcpg h a a' ai sp dp n = true ∧ (List.range (zix n)).all (fun i => fits (zEt ai) (.int (zI h a (zix sp + i)))) = true then K (zwcI h a a' (zix sp) (zix dp) (zix n)) else none
def zcpP {α : Type} (h : PH) (a a' ai ci : Nat) (sp dp n : Int32) (K : PH → ZR α) : ZR α := if zcpg h a a' ai sp dp n = true ∧ zcas ci ai = true ∧ (List.range (zix n)).all (fun i => match zP h a (zix sp + i) with
  | none => true
  | some y => decide (zT h y = some (.inl ci))) = true then K (zwcP h a a' (zix sp) (zix dp) (zix n)) else none
/-- a copy of an array as a new one -/
def zwcl (h : PH) (a ai n : Nat) : PH := (up0 (zT h) (zN h) (some (.inr (ai, n))), up1 (zI h) (zN h) (zI h a), up1 (zP h) (zN h) (zP h a), up1 (zL h) (zN h) (zL h a), zN h + 1, zS h, zB h)
def zcln {α : Type} (h : PH) (a ai : Nat) (K : Nat → PH → ZR α) : ZR α := match zln h a ai with
  | some n => if (List.range n).all (fun i => fits (zEt ai) (zV (zEt ai) h a i)) = true then zadd 1 n (K (zN h) (zwcl h a ai n)) else none
  | none => none
theorem zcpg_i {h : PH} {a a' ai : Nat} {sp dp n : Int32} (q : zcpg h a a' ai sp dp n = true) : ∃ n0 n1, zln h a ai = some n0 ∧ zln h a' ai = some n1 ∧ ¬ sp < 0 ∧ ¬ dp < 0 ∧ ¬ n < 0 ∧ zix sp + zix n ≤ n0 ∧ zix dp + zix n ≤ n1 ∧ zB h ≤ a ∧ zB h ≤ a' := by
  unfold zcpg at q
  simp only [Bool.and_eq_true, decide_eq_true_eq] at q
  obtain ⟨⟨⟨⟨⟨⟨q1, q2⟩, q3⟩, q4⟩, q5⟩, q6⟩, q7⟩ := q
  split at q4
  · rename_i n0 e0
    split at q5
    · rename_i n1 e1
      exact ⟨n0, n1, e0, e1, Int32.not_lt.mpr q1, Int32.not_lt.mpr q2, Int32.not_lt.mpr q3, by simpa using q4, by simpa using q5, q6, q7⟩
    · cases q5
  · cases q4
theorem zI_cI (h : PH) (a a' sp dp n : Nat) : zI (zwcI h a a' sp dp n) = up1 (zI h) a' (va_cpy (zI h a) (zI h a') sp dp n) := rfl
theorem zP_cI (h : PH) (a a' sp dp n : Nat) : zP (zwcI h a a' sp dp n) = zP h := rfl
theorem zL_cI (h : PH) (a a' sp dp n : Nat) : zL (zwcI h a a' sp dp n) = zL h := rfl
theorem zT_cI (h : PH) (a a' sp dp n : Nat) : zT (zwcI h a a' sp dp n) = zT h := rfl
theorem zN_cI (h : PH) (a a' sp dp n : Nat) : zN (zwcI h a a' sp dp n) = zN h := rfl
theorem zB_cI (h : PH) (a a' sp dp n : Nat) : zB (zwcI h a a' sp dp n) = zB h := rfl
theorem zS_cI (h : PH) (a a' sp dp n : Nat) : zS (zwcI h a a' sp dp n) = zS h := rfl
theorem zI_cP (h : PH) (a a' sp dp n : Nat) : zI (zwcP h a a' sp dp n) = zI h := rfl
theorem zP_cP (h : PH) (a a' sp dp n : Nat) : zP (zwcP h a a' sp dp n) = up1 (zP h) a' (va_cpy (zP h a) (zP h a') sp dp n) := rfl
theorem zL_cP (h : PH) (a a' sp dp n : Nat) : zL (zwcP h a a' sp dp n) = zL h := rfl
theorem zT_cP (h : PH) (a a' sp dp n : Nat) : zT (zwcP h a a' sp dp n) = zT h := rfl
theorem zN_cP (h : PH) (a a' sp dp n : Nat) : zN (zwcP h a a' sp dp n) = zN h := rfl
theorem zB_cP (h : PH) (a a' sp dp n : Nat) : zB (zwcP h a a' sp dp n) = zB h := rfl
theorem zS_cP (h : PH) (a a' sp dp n : Nat) : zS (zwcP h a a' sp dp n) = zS h := rfl
theorem zI_cl (h : PH) (a ai n : Nat) : zI (zwcl h a ai n) = up1 (zI h) (zN h) (zI h a) := rfl
theorem zP_cl (h : PH) (a ai n : Nat) : zP (zwcl h a ai n) = up1 (zP h) (zN h) (zP h a) := rfl
theorem zL_cl (h : PH) (a ai n : Nat) : zL (zwcl h a ai n) = up1 (zL h) (zN h) (zL h a) := rfl
theorem zT_cl (h : PH) (a ai n : Nat) : zT (zwcl h a ai n) = up0 (zT h) (zN h) (some (.inr (ai, n))) := rfl
theorem zN_cl (h : PH) (a ai n : Nat) : zN (zwcl h a ai n) = zN h + 1 := rfl
theorem zB_cl (h : PH) (a ai n : Nat) : zB (zwcl h a ai n) = zB h := rfl
theorem zS_cl (h : PH) (a ai n : Nat) : zS (zwcl h a ai n) = zS h := rfl
/-- an object's class asked -/
def zinst {α : Type} (h : PH) (a ci : Nat) (K : ZR α) : ZR α := if zT h a = some (.inl ci) then K else none
def zgcl {α : Type} (h : PH) (a ai : Nat) (K : Option Nat → ZR α) : ZR α := match zln h a ai with
  | some _ => K (zS h 25)
  | none => none
section ZJ
variable {p : Program} {l : Launch} {e : Env} {R : Room} {s : State} {m : MethodId} {args : Array Value} {below : List Frame} {meth : Method} {c : Code} {H : Heap} {locs : List Loc} {cells slots : Nat} {Q : State → Prop}
variable {cc : ByteArray} {pc nL : Nat} {ls : Array Slot} {rest : List Value} {D : va_G} {dA : Nat → ClassId} {b0 : Nat} {gs : Nat → Option Nat} {own : String} {h : PH} {a : Nat}

theorem zr_inst {α : Type} {K : ZR α} {z : α × PH × Nat × Nat} {nm : String} {T : u_T} {N ci index : Nat} (hc : zC D dA b0 gs own cc nL p c s m args meth) (hn : zM D dA b0 gs s h H locs) (hcl : vwCl[ci]? = some (nm, T, N)) (hlink : (Cond.classLink own index nm) ∈ lw_all) (hf : zinst h a ci K = some z) (hdg : decode cc pc = .ok (.instanceof index, 3))
    (kk : K = some z → W p l e R s m args below meth c H locs cells slots Q (F0 m (pc + 3) ls (.int 1 :: rest))) : W p l e R s m args below meth c H locs cells slots Q (F0 m pc ls (.ref a :: rest)) := by
  unfold zinst at hf
  split at hf
  · rename_i ht
    exact va_instS hc.x hc.b hc.ow (hc.ts _ hlink) (hc.k.1 ci _ hcl).2 (hn.recv hc hcl ht) hdg (kk hf)
  · cases hf
/-- the cell of an array that is ours -/
theorem zM.P1 (hc : zC D dA b0 gs own cc nL p c s m args meth) (hn : zM D dA b0 gs s h H locs) {ai n : Nat} (ha : zln h a ai = some n) (hB : zB h ≤ a) : H[a]? = some (arrV (dA ai) n (fun j => zV (zEt ai) h a j)) := by
  obtain ⟨cell, q1, q2, q3, q4, q5, q6⟩ := hn.arr hc ha
  rw [← q6 hB]
  exact q1
theorem zr_nn (z : Int32) (hz : ¬ z < 0) : z.toInt = (z.toNatClampNeg : Int) := by
  have hz0 : (0 : Int) ≤ z.toInt := by
    have := Int32.not_lt.mp hz
    simpa using Int32.le_iff_toInt_le.mp this
  show z.toInt = ((z.toInt.toNat : Nat) : Int)
  omega
theorem zr_cpWI {own : String} {a' index : Nat} {c0 : ClassId} {ty : FieldType} {n0 n1 : Nat} {f g : Nat → Int32} {sp dp n : Int32} (hc : zC D dA b0 gs own cc nL p c s m args meth) (hls : ls.size = nL) (hlink : (Cond.methodLink own index arraycopyName) ∈ lw_all) (hnat : (Cond.native arraycopyName) ∈ lw_all) (hstat : (Cond.static arraycopyName) ∈ lw_all) (hini : (Cond.initialized "java/lang/System") ∈ lw_all)
    (hc0 : H[a]? = some (vp_cell c0 (n0, .inl f))) (hc1 : H[a']? = some (vp_cell c0 (n1, .inl g))) (hA : ArrOfT s c0 ty) (hprim : refKind ty = false) (h1 : ¬ sp < 0) (h2 : ¬ dp < 0) (h3 : ¬ n < 0) (h4 : sp.toNatClampNeg + n.toNatClampNeg ≤ n0) (h5 : dp.toNatClampNeg + n.toNatClampNeg ≤ n1) (hfit : ∀ i, i < n.toNatClampNeg → fits ty (.int (f (sp.toNatClampNeg + i))) = true) (hframes : 1 ≤ R.frames) (hlocals : (rest.map fun v => v.category).sum + (nativeFrameWords "java/lang/System" "arraycopy" 5 + 11) ≤ R.locals) (hdg : decode cc pc = .ok (.invokestatic index, 3))
    (kk : ∀ (H1 : Heap) (L : List Loc), H1[a']? = some (vp_cell c0 (n1, .inl (va_cpy f g sp.toNatClampNeg dp.toNatClampNeg n.toNatClampNeg))) → H1.size = H.size → (∀ q, q ≠ a' → H1[q]? = H[q]?) → (∀ q ∈ L, q.base = a') → W p l e R s m args below meth c H1 (locs ++ L) cells slots Q (F0 m (pc + 3) ls rest)) : W p l e R s m args below meth c H locs cells slots Q (F0 m pc ls (.int n :: .int dp :: .ref a' :: .int sp :: .ref a :: rest)) := by
  have nn := zr_nn
  intro T hT X
  obtain ⟨-, k0, hk0, cm0, hkk0⟩ := hA n0 (fun j => .int (f j))
  obtain ⟨vm', X', step⟩ := X.arraycopy hc.x hc.ow (hc.ts _ hlink) (hc.ts _ hnat) (hc.ts _ hstat) (hc.ts _ hini) (src := a) (dst := a') (cs := vp_cell c0 (n0, .inl f)) (cd := vp_cell c0 (n1, .inl g)) (srcPos := sp) (destPos := dp) (n := n) (by rw [hT]; exact hc0) (by rw [hT]; exact hc1)
    (fun _ h => by cases h) (fun _ h => by cases h) (fun h => by cases h) (fun h => by cases h) hk0 hk0 hkk0 hkk0 (by simp [hprim]) h1 h2 h3
    (by rw [nn sp h1, nn n h3]; show ¬ _ > ((arrV c0 n0 (fun j => .int (f j))).slots.size : Int); rw [arrV_size]; omega)
    (by rw [nn dp h2, nn n h3]; show ¬ _ > ((arrV c0 n1 (fun j => .int (g j))).slots.size : Int); rw [arrV_size]; omega)
    (fun vm₁ _ i hi => by
      have e : (vp_cell c0 (n0, .inl f)).slots.getD (sp.toNatClampNeg + i) .null = .int (f (sp.toNatClampNeg + i)) := by
        show (arrV c0 n0 (fun j => .int (f j))).slots.getD _ _ = _
        rw [Array.getD_eq_getD_getElem?, arrV_read _ _ (by omega)]
        rfl
      refine ⟨?_, ?_⟩
      · rw [e]
        exact hfit i hi
      · rw [e]
        exact trivial)
    (g := F0 m pc ls (.int n :: .int dp :: .ref a' :: .int sp :: .ref a :: rest)) rfl (by rw [hc.ml]; exact hls) (rest := rest) rfl (by rw [hc.b]; exact hdg) hframes (by show 2 * 0 + _ + _ ≤ _; omega)
  have e1 : copied (vp_cell c0 (n0, .inl f)) (vp_cell c0 (n1, .inl g)) sp dp n = vp_cell c0 (n1, .inl (va_cpy f g sp.toNatClampNeg dp.toNatClampNeg n.toNatClampNeg)) := va_copied (fun z => .int z) c0 c0 f g h4
  rw [e1] at X' step
  have hl : a' < H.size := (Array.getElem?_eq_some_iff.mp hc1).1
  have hheap : ((T.setVm vm').setCell a' (vp_cell c0 (n1, .inl (va_cpy f g sp.toNatClampNeg dp.toNatClampNeg n.toNatClampNeg)))).heap = H.setIfInBounds a' (vp_cell c0 (n1, .inl (va_cpy f g sp.toNatClampNeg dp.toNatClampNeg n.toNatClampNeg))) := by rw [← hT]; rfl
  obtain ⟨t, a1, b1⟩ := kk _ _ (show (H.setIfInBounds a' _)[a']? = some _ by simp [Array.getElem?_setIfInBounds, hl]) (by simp) (fun q hq => by simp [Array.getElem?_setIfInBounds, Ne.symm hq]) (fun q hq => by
      obtain ⟨z, -, hz⟩ := List.mem_map.mp hq
      rw [← hz]) _ hheap X'
  exact ⟨t, step t a1, b1⟩
theorem zr_cpWP {own E C : String} {a' index : Nat} {c0 : ClassId} {n0 n1 : Nat} {f g : Nat → Option Nat} {sp dp n : Int32} (hc : zC D dA b0 gs own cc nL p c s m args meth) (hls : ls.size = nL) (hlink : (Cond.methodLink own index arraycopyName) ∈ lw_all) (hnat : (Cond.native arraycopyName) ∈ lw_all) (hstat : (Cond.static arraycopyName) ∈ lw_all) (hini : (Cond.initialized "java/lang/System") ∈ lw_all)
    (hc0 : H[a]? = some (vp_cell c0 (n0, .inr (.inr (.inr (.inr f)))))) (hc1 : H[a']? = some (vp_cell c0 (n1, .inr (.inr (.inr (.inr g)))))) (hA : ArrOfT s c0 (.object E)) (hRA : va_RA s c0 (.object E)) (h1 : ¬ sp < 0) (h2 : ¬ dp < 0) (h3 : ¬ n < 0) (h4 : sp.toNatClampNeg + n.toNatClampNeg ≤ n0) (h5 : dp.toNatClampNeg + n.toNatClampNeg ≤ n1) (hel : ∀ i : Nat, i < n.toNatClampNeg → ∀ y : Nat, f (sp.toNatClampNeg + i) = some y → ∃ cellV : Cell, H[y]? = some cellV ∧ cellV.vm.isStatics = false ∧ s.vm.findClass C = some cellV.cls) (hasg : ∀ comp c0 : ClassId, s.vm.findClass E = some comp → s.vm.findClass C = some c0 → s.vm.assignable c0 comp = true) (hframes : 1 ≤ R.frames) (hlocals : (rest.map fun v => v.category).sum + (nativeFrameWords "java/lang/System" "arraycopy" 5 + 11) ≤ R.locals) (hdg : decode cc pc = .ok (.invokestatic index, 3))
    (kk : ∀ (H1 : Heap) (L : List Loc), H1[a']? = some (vp_cell c0 (n1, .inr (.inr (.inr (.inr (va_cpy f g sp.toNatClampNeg dp.toNatClampNeg n.toNatClampNeg)))))) → H1.size = H.size → (∀ q, q ≠ a' → H1[q]? = H[q]?) → (∀ q ∈ L, q.base = a') → W p l e R s m args below meth c H1 (locs ++ L) cells slots Q (F0 m (pc + 3) ls rest)) : W p l e R s m args below meth c H locs cells slots Q (F0 m pc ls (.int n :: .int dp :: .ref a' :: .int sp :: .ref a :: rest)) := by
  have nn := zr_nn
  intro T hT X
  obtain ⟨-, k0, hk0, cm0, hkk0⟩ := hA n0 (fun j => va_rf (f j))
  obtain ⟨vm', X', step⟩ := X.arraycopy hc.x hc.ow (hc.ts _ hlink) (hc.ts _ hnat) (hc.ts _ hstat) (hc.ts _ hini) (src := a) (dst := a') (cs := vp_cell c0 (n0, .inr (.inr (.inr (.inr f))))) (cd := vp_cell c0 (n1, .inr (.inr (.inr (.inr g))))) (srcPos := sp) (destPos := dp) (n := n) (by rw [hT]; exact hc0) (by rw [hT]; exact hc1)
    (fun _ h => by cases h) (fun _ h => by cases h) (fun h => by cases h) (fun h => by cases h) hk0 hk0 hkk0 hkk0 rfl h1 h2 h3
    (by rw [nn sp h1, nn n h3]; show ¬ _ > ((arrV c0 n0 (fun j => va_rf (f j))).slots.size : Int); rw [arrV_size]; omega)
    (by rw [nn dp h2, nn n h3]; show ¬ _ > ((arrV c0 n1 (fun j => va_rf (g j))).slots.size : Int); rw [arrV_size]; omega)
    (fun vm₁ hal i hi => by
      have e : (vp_cell c0 (n0, .inr (.inr (.inr (.inr f))))).slots.getD (sp.toNatClampNeg + i) .null = va_rf (f (sp.toNatClampNeg + i)) := by
        show (arrV c0 n0 (fun j => va_rf (f j))).slots.getD _ _ = _
        rw [Array.getD_eq_getD_getElem?, arrV_read _ _ (by omega)]
        rfl
      rw [e]
      cases hy : f (sp.toNatClampNeg + i) with
      | none => exact ⟨rfl, trivial⟩
      | some y =>
        obtain ⟨cellV, g1, g2, g3⟩ := hel i hi y hy
        obtain ⟨kA, comp, r1, r2, r3, -⟩ := hRA
        cases hk0.symm.trans r1
        cases hkk0.symm.trans r2
        obtain ⟨kC, hkC, -⟩ := Vm.findClass_spec g3
        obtain ⟨kE, hkE, -⟩ := Vm.findClass_spec r3
        obtain ⟨kC', hkC', -⟩ := hal.2.2 _ _ hkC
        obtain ⟨kE', hkE', -⟩ := hal.2.2 _ _ hkE
        refine ⟨rfl, cellV, (show T.heap[y]? = some cellV by rw [hT]; exact g1), (fun q h => by rw [h] at g2; cases g2), ⟨kC', hkC'⟩, ?_, ?_⟩
        · exact ⟨kE', hkE'⟩
        · show vm₁.assignable _ _ = true
          rw [hal.assignable]
          exact hasg _ _ r3 g3)
    (g := F0 m pc ls (.int n :: .int dp :: .ref a' :: .int sp :: .ref a :: rest)) rfl (by rw [hc.ml]; exact hls) (rest := rest) rfl (by rw [hc.b]; exact hdg) hframes (by show 2 * 0 + _ + _ ≤ _; omega)
  have e1 : copied (vp_cell c0 (n0, .inr (.inr (.inr (.inr f))))) (vp_cell c0 (n1, .inr (.inr (.inr (.inr g))))) sp dp n = vp_cell c0 (n1, .inr (.inr (.inr (.inr (va_cpy f g sp.toNatClampNeg dp.toNatClampNeg n.toNatClampNeg))))) := by
    rw [vp_cell_q, vp_cell_q, vp_cell_q]
    exact va_copied (fun z => va_rf z) c0 c0 f g h4
  rw [e1] at X' step
  have hl : a' < H.size := (Array.getElem?_eq_some_iff.mp hc1).1
  have hheap : ((T.setVm vm').setCell a' (vp_cell c0 (n1, .inr (.inr (.inr (.inr (va_cpy f g sp.toNatClampNeg dp.toNatClampNeg n.toNatClampNeg))))))).heap = H.setIfInBounds a' (vp_cell c0 (n1, .inr (.inr (.inr (.inr (va_cpy f g sp.toNatClampNeg dp.toNatClampNeg n.toNatClampNeg)))))) := by rw [← hT]; rfl
  obtain ⟨t, a1, b1⟩ := kk _ _ (show (H.setIfInBounds a' _)[a']? = some _ by simp [Array.getElem?_setIfInBounds, hl]) (by simp) (fun q hq => by simp [Array.getElem?_setIfInBounds, Ne.symm hq]) (fun q hq => by
      obtain ⟨z, -, hz⟩ := List.mem_map.mp hq
      rw [← hz]) _ hheap X'
  exact ⟨t, step t a1, b1⟩
theorem zcas_ok (hc : zC D dA b0 gs own cc nL p c s m args meth) {ci ai : Nat} {E : String} (hx : zcas ci ai = true) (hE : zEt ai = .object E) : ∃ r : vw_C, vwCl[ci]? = some r ∧ ∀ comp : ClassId, s.vm.findClass E = some comp → s.vm.assignable (D.1 ci) comp = true := by
  have hm : (ci, ai) ∈ [(7, 5), (6, 6), (1, 7), (11, 9), (9, 9), (1, 9)] := of_decide_eq_true hx
  have own9 : ∀ r : vw_C, vwCl[ci]? = some r → r.1 = E → ∀ comp : ClassId, s.vm.findClass E = some comp → s.vm.assignable (D.1 ci) comp = true := fun r hr hrC comp hcomp => by
    have hk := (hc.k.1 ci r hr).2
    have e1 : comp = D.1 ci := by
      have h2 := hk.1
      rw [hrC, hcomp] at h2
      exact Option.some.inj h2
    rw [e1]
    exact va_assign hk
  have oth9 : ∀ r : vw_C, vwCl[ci]? = some r → va_Nw (.castable r.1 E) s → ∀ comp : ClassId, s.vm.findClass E = some comp → s.vm.assignable (D.1 ci) comp = true := fun r hr hw comp hcomp => by
    have hk := (hc.k.1 ci r hr).2
    obtain ⟨c0, t1, f1, f2, f3⟩ := Cond.castable_spec (va_Nw.use (A := args) rfl hw)
    cases hk.1.symm.trans f1
    cases hcomp.symm.trans f2
    exact f3
  simp only [List.mem_cons, Prod.mk.injEq, List.not_mem_nil, or_false] at hm
  rcases hm with ⟨rfl, rfl⟩ | ⟨rfl, rfl⟩ | ⟨rfl, rfl⟩ | ⟨rfl, rfl⟩ | ⟨rfl, rfl⟩ | ⟨rfl, rfl⟩ <;> cases hE
  · exact ⟨_, rfl, own9 _ rfl rfl⟩
  · exact ⟨_, rfl, own9 _ rfl rfl⟩
  · exact ⟨_, rfl, own9 _ rfl rfl⟩
  · exact ⟨_, rfl, oth9 _ rfl (hc.nC q2685)⟩
  · exact ⟨_, rfl, oth9 _ rfl (hc.nC q2680)⟩
  · exact ⟨_, rfl, oth9 _ rfl (hc.nC q2658)⟩
/-- the heap behind a copy -/
theorem zM.cpy (hc : zC D dA b0 gs own cc nL p c s m args meth) (hn : zM D dA b0 gs s h H locs) {h' : PH} {a' ai n1 : Nat} {H' : Heap} {L : List Loc} (hB : zB h ≤ a') (eT : zT h' = zT h) (eN : zN h' = zN h) (eB : zB h' = zB h) (eS : zS h' = zS h) (ev : ∀ b, b ≠ a' → ∀ ty j, zV ty h' b j = zV ty h b j) (ha : zln h a' ai = some n1) (e1 : H'[a']? = some (arrV (dA ai) n1 (fun j => zV (zEt ai) h' a' j))) (e2 : H'.size = H.size) (e3 : ∀ q, q ≠ a' → H'[q]? = H[q]?) (hL : ∀ q ∈ L, q.base = a') : zM D dA b0 gs s h' H' (locs ++ L) := by
  have h0 := (hn.ar (zln_i ha)).1
  obtain ⟨n1', n2, n3, n4⟩ := hn
  refine ⟨n1'.upd a' e2 e3 eT eN eB ev (fun t ht => ?_), by rw [eB]; exact n2, by rw [eS]; exact n3, Nat.le_trans n4.1 (by rw [e2]; exact Nat.le_refl _), fun q g1 g2 => ?_, fun q hq => ?_⟩
  · rw [zln_i ha] at ht
    cases ht
    exact ⟨h0, _, e1, rfl, ⟨fun e => (by cases e), rfl⟩, arrV_size _ _ _, fun j hj => arrV_read _ _ hj, fun _ => rfl⟩
  · rw [e3 q (fun e => g2 (by rw [e]; show b0 ≤ a'; rw [← n2]; exact hB))]
    exact n4.2.1 q g1 g2
  · rcases List.mem_append.mp hq with g | g
    · exact n4.2.2 q g
    · rw [hL q g]
      show b0 ≤ a'
      rw [← n2]
      exact hB
theorem zr_cpI {α : Type} {K : PH → ZR α} {z : α × PH × Nat × Nat} {a' ai index : Nat} {sp dp n : Int32} {fr lo mc ms : Nat} (hc : zC D dA b0 gs own cc nL p c s m args meth) (hn : zM D dA b0 gs s h H locs) (h3 : ai < 3) (hls : ls.size = nL) (hlink : (Cond.methodLink own index arraycopyName) ∈ lw_all) (hnat : (Cond.native arraycopyName) ∈ lw_all) (hstat : (Cond.static arraycopyName) ∈ lw_all) (hini : (Cond.initialized "java/lang/System") ∈ lw_all) (hf : zcpI h a a' ai sp dp n K = some z) (hrm : (rest.map fun v => v.category).sum ≤ 8) (hfr : 1 ≤ fr) (hlo : 60 ≤ lo) (hdg : decode cc pc = .ok (.invokestatic index, 3))
    (kk : ∀ (h2 : PH) (H1 : Heap) (locs1 : List Loc), K h2 = some z → zM D dA b0 gs s h2 H1 locs1 → W p l e ({ frames := fr, cells := mc, slots := ms, locals := lo } : Room) s m args below meth c H1 locs1 cells slots Q (F0 m (pc + 3) ls rest)) : W p l e ({ frames := fr, cells := mc, slots := ms, locals := lo } : Room) s m args below meth c H locs cells slots Q (F0 m pc ls (.int n :: .int dp :: .ref a' :: .int sp :: .ref a :: rest)) := by
  unfold zcpI at hf
  split at hf
  · rename_i hg
    obtain ⟨n0, n1, e0, e1, g1, g2, g3, g4, g5, g6, g7⟩ := zcpg_i hg.1
    have hint : ∀ (h : PH) (a j : Nat), zV (zEt ai) h a j = .int (zI h a j) := by
      intro h a j
      match ai, h3 with
      | 0, _ => rfl
      | 1, _ => rfl
      | 2, _ => rfl
    have hprim : refKind (zEt ai) = false := by
      match ai, h3 with
      | 0, _ => rfl
      | 1, _ => rfl
      | 2, _ => rfl
    have hai := (hn.ar (zln_i e0)).1
    have cellof : ∀ (h : PH) (a n0 : Nat), arrV (dA ai) n0 (fun j => zV (zEt ai) h a j) = vp_cell (dA ai) (n0, .inl (zI h a)) := by
      intro h a n0
      show _ = arrV (dA ai) n0 (fun j => .int (zI h a j))
      congr 1
      funext j
      exact hint h a j
    refine zr_cpWI hc hls hlink hnat hstat hini (by rw [← cellof]; exact hn.P1 hc e0 g6) (by rw [← cellof]; exact hn.P1 hc e1 g7) (hc.k.2 ai _ (zTys_at dA ai hai)).1 hprim g1 g2 g3 g4 g5 (fun i hi => List.all_eq_true.mp hg.2 i (List.mem_range.mpr hi)) hfr (by have hw : nativeFrameWords "java/lang/System" "arraycopy" 5 ≤ 30 := (by decide); show _ + (_ + 11) ≤ lo; omega) hdg (fun H1 L q1 q2 q3 q4 => ?_)
    refine kk _ H1 _ hf (hn.cpy hc (h' := zwcI h a a' (zix sp) (zix dp) (zix n)) g7 rfl rfl rfl rfl (fun b hb ty j => ?_) e1 ?_ q2 q3 q4)
    · unfold zV
      rw [zI_cI, zP_cI, zL_cI, up1_n _ _ hb]
    · rw [cellof, q1, zI_cI, up1_s]
      rfl
  · cases hf
theorem zr_cpP {α : Type} {K : PH → ZR α} {z : α × PH × Nat × Nat} {a' ai ci index : Nat} {sp dp n : Int32} {fr lo mc ms : Nat} (hc : zC D dA b0 gs own cc nL p c s m args meth) (hn : zM D dA b0 gs s h H locs) (h5 : 5 ≤ ai) (hls : ls.size = nL) (hlink : (Cond.methodLink own index arraycopyName) ∈ lw_all) (hnat : (Cond.native arraycopyName) ∈ lw_all) (hstat : (Cond.static arraycopyName) ∈ lw_all) (hini : (Cond.initialized "java/lang/System") ∈ lw_all) (hf : zcpP h a a' ai ci sp dp n K = some z) (hrm : (rest.map fun v => v.category).sum ≤ 8) (hfr : 1 ≤ fr) (hlo : 60 ≤ lo) (hdg : decode cc pc = .ok (.invokestatic index, 3))
    (kk : ∀ (h2 : PH) (H1 : Heap) (locs1 : List Loc), K h2 = some z → zM D dA b0 gs s h2 H1 locs1 → W p l e ({ frames := fr, cells := mc, slots := ms, locals := lo } : Room) s m args below meth c H1 locs1 cells slots Q (F0 m (pc + 3) ls rest)) : W p l e ({ frames := fr, cells := mc, slots := ms, locals := lo } : Room) s m args below meth c H locs cells slots Q (F0 m pc ls (.int n :: .int dp :: .ref a' :: .int sp :: .ref a :: rest)) := by
  unfold zcpP at hf
  split at hf
  · rename_i hg
    obtain ⟨n0, n1, e0, e1, g1, g2, g3, g4, g5, g6, g7⟩ := zcpg_i hg.1
    have hai := (hn.ar (zln_i e0)).1
    obtain ⟨E, hE⟩ := zEt_obj h5
    have cellof : ∀ (h : PH) (a n0 : Nat), arrV (dA ai) n0 (fun j => zV (zEt ai) h a j) = vp_cell (dA ai) (n0, .inr (.inr (.inr (.inr (zP h a))))) := by
      intro h a n0
      rw [hE]
      rfl
    have hkA := hc.k.2 ai _ (zTys_at dA ai hai)
    obtain ⟨r, hr, hca⟩ := zcas_ok hc hg.2.1 hE
    refine zr_cpWP (E := E) (C := r.1) hc hls hlink hnat hstat hini (by rw [← cellof]; exact hn.P1 hc e0 g6) (by rw [← cellof]; exact hn.P1 hc e1 g7) (by rw [← hE]; exact hkA.1) (by rw [← hE]; exact hkA.2) g1 g2 g3 g4 g5 (fun i hi y hy => ?_) (fun comp c9 f1 f2 => ?_) hfr (by have hw : nativeFrameWords "java/lang/System" "arraycopy" 5 ≤ 30 := (by decide); show _ + (_ + 11) ≤ lo; omega) hdg (fun H1 L q1 q2 q3 q4 => ?_)
    · have h9 := List.all_eq_true.mp hg.2.2 i (List.mem_range.mpr hi)
      have hy' : zP h a (zix sp + i) = some y := hy
      rw [hy'] at h9
      have h9 := of_decide_eq_true h9
      obtain ⟨cell, q1, q2, q3, -⟩ := hn.ob h9
      exact ⟨cell, q1, q3.2.1, by rw [q2]; exact (hc.k.1 ci r hr).2.1⟩
    · have h9 := (hc.k.1 ci r hr).2.1
      cases h9.symm.trans f2
      exact hca comp f1
    · refine kk _ H1 _ hf (hn.cpy hc (h' := zwcP h a a' (zix sp) (zix dp) (zix n)) g7 rfl rfl rfl rfl (fun b hb ty j => ?_) e1 ?_ q2 q3 q4)
      · unfold zV
        rw [zI_cP, zP_cP, zL_cP, up1_n _ _ hb]
      · rw [cellof, q1, zP_cP, up1_s]
        rfl
  · cases hf
/-- a clone of an array -/
theorem zr_cln {α : Type} {K : Nat → PH → ZR α} {r : α} {hh : PH} {C9 S9 fr lo mc ms ai index : Nat} {ad : String} (hc : zC D dA b0 gs own cc nL p c s m args meth) (hn : zM D dA b0 gs s h H locs) (hq : cells + C9 = mc ∧ slots + S9 = ms) (hls : ls.size = nL) (hlink : (Cond.methodLink own index ⟨ad, "clone", "()Ljava/lang/Object;"⟩) ∈ lw_all) (hsame : (Cond.sameMethod ad "java/lang/Object" "clone" "()Ljava/lang/Object;") ∈ lw_all) (hnat : (Cond.native ⟨"java/lang/Object", "clone", "()Ljava/lang/Object;"⟩) ∈ lw_all) (hinst : (Cond.instanceMethod ⟨"java/lang/Object", "clone", "()Ljava/lang/Object;"⟩) ∈ lw_all) (hsel : (Cond.selects ad ⟨ad, "clone", "()Ljava/lang/Object;"⟩ ⟨"java/lang/Object", "clone", "()Ljava/lang/Object;"⟩) ∈ lw_all) (hcl : (Cond.castable ad "java/lang/Cloneable") ∈ lw_tbl) (hnm : s.vm.findClass ad = some (dA ai)) (hf : zcln h a ai K = some (r, hh, C9, S9)) (hrm : (rest.map fun v => v.category).sum ≤ 8) (hfr : 1 ≤ fr) (hlo : 60 ≤ lo) (hdg : decode cc pc = .ok (.invokevirtual index, 3))
    (kk : ∀ (a2 : Nat) (h2 : PH) (H1 : Heap) (cells1 slots1 C1 S1 : Nat), K a2 h2 = some (r, hh, C1, S1) → cells1 + C1 = mc ∧ slots1 + S1 = ms → zM D dA b0 gs s h2 H1 locs → W p l e ({ frames := fr, cells := mc, slots := ms, locals := lo } : Room) s m args below meth c H1 locs cells1 slots1 Q (F0 m (pc + 3) ls (.ref a2 :: rest))) : W p l e ({ frames := fr, cells := mc, slots := ms, locals := lo } : Room) s m args below meth c H locs cells slots Q (F0 m pc ls (.ref a :: rest)) := by
  unfold zcln at hf
  split at hf
  · rename_i n hn9
    split at hf
    · rename_i hfit
      obtain ⟨C1, S1, hf1, z1, z2⟩ := zadd_i hf
      obtain ⟨h0, cell, q1, q2, q3, q4, q5, q6⟩ := hn.ar (zln_i hn9)
      have hcellE : ({ cls := cell.cls, slots := cell.slots } : Cell) = arrV (dA ai) n (fun j => zV (zEt ai) h a j) := by
        have hs : cell.slots = (arrV (dA ai) n (fun j => zV (zEt ai) h a j)).slots := by
          apply Array.ext_getElem?
          intro i
          by_cases hi : i < n
          · rw [q5 i hi, arrV_read _ _ hi]
          · rw [Array.getElem?_eq_none (by omega), Array.getElem?_eq_none (by rw [arrV_size]; omega)]
        rw [q2, hs]
        rfl
      obtain ⟨c0, t0', f1, f2, f3⟩ := Cond.castable_spec ((hc.nC hcl).use (A := args) rfl)
      cases hnm.symm.trans f1
      intro T hT X
      have hkA0 := (hc.k.2 ai _ (zTys_at dA ai h0)).1
      obtain ⟨-, kA, hkA, comp, hkind⟩ := State.isArrayOf_alike X.warmed.alike (hkA0 0 (fun _ => .null))
      obtain ⟨-, kS, hkS, compS, hkindS⟩ := hkA0 0 (fun _ => .null)
      obtain ⟨vm', X', st⟩ := X.cloneArray hc.x hc.ow (hc.ts _ hlink) (hc.ts _ hsame) (hc.ts _ hnat) (hc.ts _ hinst) (hc.ts _ hsel) (a := a) (cell := cell) (by rw [hT]; exact q1) (z_nst q3.2) q3.1 (by rw [q2]; exact hnm) f2 (by rw [q2]; exact f3)
        (fun i v hv => by
          rw [q2]
          have hk' : T.vm.classes[dA ai]? = some kA := hkA
          have hi : i < n := by
            have := (Array.getElem?_eq_some_iff.mp hv).1
            omega
          rw [q5 i hi] at hv
          cases hv
          have h9 := List.all_eq_true.mp hfit i (List.mem_range.mpr hi)
          simpa [State.fitsSlot, State.slotType?, hk', hkind] using h9)
        (g := F0 m pc ls (.ref a :: rest)) rfl (by rw [hc.ml]; exact hls) rfl (by rw [hc.b]; exact hdg) hfr (by show 2 * 0 + _ + 14 ≤ lo; omega) (by show cells + 1 ≤ mc; omega) (by rw [q4]; show slots + n ≤ ms; omega) (hloader := by rw [q2]; exact Vm.clonesLoader_of_array hkS hkindS)
      rw [hcellE, q4] at X'
      generalize hH1 : H.push (arrV (dA ai) n (fun j => zV (zEt ai) h a j)) = H1
      have y1 : H1.size = H.size + 1 := by rw [← hH1, Array.size_push]
      have e1 : H1[H.size]? = some (arrV (dA ai) n (fun j => zV (zEt ai) h a j)) := by rw [← hH1, Array.getElem?_push_size]
      have o1 : ∀ q : Nat, q < H.size → H1[q]? = H[q]? := fun q hq => by rw [← hH1, Array.getElem?_push, if_neg (Nat.ne_of_lt hq)]
      have hsz : H.size = zN h := hn.1.1.symm
      have hn1 : zM D dA b0 gs s (zwcl h a ai n) H1 locs := by
        obtain ⟨n1, n2, n3, n4⟩ := hn
        refine ⟨⟨by show zN h + 1 = _; rw [y1, n1.1], fun b t hb => ?_⟩, n2, n3, ⟨Nat.le_trans n4.1 (by omega), fun q g1 g2 => (o1 q (Nat.lt_of_lt_of_le g1 n4.1)).trans (n4.2.1 q g1 g2), n4.2.2⟩⟩
        have hb : up0 (zT h) (zN h) (some (.inr (ai, n))) b = some t := hb
        by_cases e : b = zN h
        · subst e
          rw [up0_s] at hb
          cases hb
          have ef : (fun j => zV (zEt ai) h a j) = fun j => zV (zEt ai) (zwcl h a ai n) (zN h) j := by
            funext j
            unfold zV
            rw [zI_cl, zP_cl, zL_cl, up1_s, up1_s, up1_s]
          rw [ef, hsz] at e1
          exact ⟨h0, _, e1, rfl, ⟨fun e => (by cases e), rfl⟩, arrV_size _ _ _, fun j hj => arrV_read _ _ hj, fun _ => rfl⟩
        · rw [up0_n _ _ e] at hb
          have h1 := n1.2 b t hb
          refine h1.kept (o1 b h1.lt) rfl (fun ty k => ?_)
          unfold zV
          rw [zI_cl, zP_cl, zL_cl, up1_n _ _ e, up1_n _ _ e, up1_n _ _ e]
      obtain ⟨t, b1, b2⟩ := kk (zN h) (zwcl h a ai n) H1 (cells + 1) (slots + n) C1 S1 hf1 ⟨by omega, by omega⟩ hn1 ((T.setVm vm').pushCell (arrV (dA ai) n (fun j => zV (zEt ai) h a j))) (by rw [← hH1, ← hT]; rfl) X'
      refine ⟨t, st t ?_, b2⟩
      rw [hcellE, hT, hsz]
      exact b1
    · cases hf
  · cases hf
/-- names of array classes -/
theorem zC.nmB (hc : zC D dA b0 gs own cc nL p c s m args meth) : s.vm.findClass "[B" = some (dA 2) := va_nm_byte (hc.k.2 2 _ (zTys_at dA 2 (by decide))).2
theorem zC.nmM (hc : zC D dA b0 gs own cc nL p c s m args meth) : s.vm.findClass "[LCountedSkipLists$Mend;" = some (dA 10) := va_nmO (hc.k.2 10 _ (zTys_at dA 10 (by decide))).2 (by decide +kernel)
theorem zC.nmO (hc : zC D dA b0 gs own cc nL p c s m args meth) : s.vm.findClass "[Ljava/lang/Object;" = some (dA 9) := va_nmO (hc.k.2 9 _ (zTys_at dA 9 (by decide))).2 (by decide +kernel)
/-- Math.min, Math.max -/
theorem zr_mmin {x y : Int32} {fr lo mc ms index : Nat} {C9 S9 : Nat} (hc : zC D dA b0 gs own cc nL p c s m args meth) (hq : cells + C9 = mc ∧ slots + S9 = ms) (hls : ls.size = nL) (hlink : (Cond.methodLink own index Lib.Math.min.name) ∈ lw_all) (hstat : (Cond.static Lib.Math.min.name) ∈ lw_all) (hini : (Cond.initialized "java/lang/Math") ∈ lw_all) (hcode : (Cond.code Lib.Math.min.name Lib.Math.min.code 2 (some .int)) ∈ lw_all) (hrm : (rest.map fun v => v.category).sum ≤ 8) (hfr : 1 ≤ fr) (hlo : 60 ≤ lo) (hdg : decode cc pc = .ok (.invokestatic index, 3))
    (kk : W p l e ({ frames := fr, cells := mc, slots := ms, locals := lo } : Room) s m args below meth c H locs cells slots Q (F0 m (pc + 3) ls (.int (if y < x then y else x) :: rest))) : W p l e ({ frames := fr, cells := mc, slots := ms, locals := lo } : Room) s m args below meth c H locs cells slots Q (F0 m pc ls (.int y :: .int x :: rest)) :=
  va_mmin hc.x hc.b (by rw [hc.ml]; exact hls.symm) hc.ow (hc.ts _ hlink) (hc.ts _ hstat) (hc.ts _ hini) (hc.ts _ hcode) hfr (by show _ + 13 ≤ lo; omega) (by show cells ≤ mc; omega) (by show slots ≤ ms; omega) hdg kk
theorem zr_mmax {x y : Int32} {fr lo mc ms index : Nat} {C9 S9 : Nat} (hc : zC D dA b0 gs own cc nL p c s m args meth) (hq : cells + C9 = mc ∧ slots + S9 = ms) (hls : ls.size = nL) (hlink : (Cond.methodLink own index Lib.Math.max.name) ∈ lw_all) (hstat : (Cond.static Lib.Math.max.name) ∈ lw_all) (hini : (Cond.initialized "java/lang/Math") ∈ lw_all) (hcode : (Cond.code Lib.Math.max.name Lib.Math.max.code 2 (some .int)) ∈ lw_all) (hrm : (rest.map fun v => v.category).sum ≤ 8) (hfr : 1 ≤ fr) (hlo : 60 ≤ lo) (hdg : decode cc pc = .ok (.invokestatic index, 3))
    (kk : W p l e ({ frames := fr, cells := mc, slots := ms, locals := lo } : Room) s m args below meth c H locs cells slots Q (F0 m (pc + 3) ls (.int (if x < y then y else x) :: rest))) : W p l e ({ frames := fr, cells := mc, slots := ms, locals := lo } : Room) s m args below meth c H locs cells slots Q (F0 m pc ls (.int y :: .int x :: rest)) :=
  va_mmax hc.x hc.b (by rw [hc.ml]; exact hls.symm) hc.ow (hc.ts _ hlink) (hc.ts _ hstat) (hc.ts _ hini) (hc.ts _ hcode) hfr (by show _ + 13 ≤ lo; omega) (by show cells ≤ mc; omega) (by show slots ≤ ms; omega) hdg kk
/-- the class object of Object[], as the start has it -/
theorem znr_25 : (Cond.isRef (.mirror "[Ljava/lang/Object;")) ∈ flatC zNar := by decide +kernel
theorem zM.mi (hc : zC D dA b0 gs own cc nL p c s m args meth) (hn : zM D dA b0 gs s h H locs) : ∃ mi : Nat, va_Mi "[Ljava/lang/Object;" mi s ∧ zS h 25 = some mi := by
  obtain ⟨S0, a0, g1, g2, g3, g4, g5, g6⟩ := hc.g
  obtain ⟨mi, hmi⟩ := va_Mi.of (flat_of_before _ g2 _ znr_25)
  refine ⟨mi, hmi.moved g5.alike, ?_⟩
  obtain ⟨c0, k0, h1, h2, h3⟩ := hmi
  rw [hn.2.2.1, g4]
  show (match (Term.mirror "[Ljava/lang/Object;").eval a0 S0 none [] S0 with
    | some (.ref a) => some a
    | _ => none) = some mi
  have hv : (Term.mirror "[Ljava/lang/Object;").eval a0 S0 none [] S0 = some (.ref mi) := by simp [Term.eval, h1, h2, h3]
  rw [hv]
theorem zr_gcl {α : Type} {K : Option Nat → ZR α} {z : α × PH × Nat × Nat} {index fr lo mc ms : Nat} (hc : zC D dA b0 gs own cc nL p c s m args meth) (hn : zM D dA b0 gs s h H locs) (hls : ls.size = nL) (hlink : (Cond.methodLink own index ⟨"java/lang/Object", "getClass", "()Ljava/lang/Class;"⟩) ∈ lw_all) (hdecl : (Cond.declares ⟨"java/lang/Object", "getClass", "()Ljava/lang/Class;"⟩) ∈ lw_tbl) (hsel : (Cond.selects "[Ljava/lang/Object;" ⟨"java/lang/Object", "getClass", "()Ljava/lang/Class;"⟩ ⟨"java/lang/Object", "getClass", "()Ljava/lang/Class;"⟩) ∈ lw_all) (hinst : (Cond.instanceMethod ⟨"java/lang/Object", "getClass", "()Ljava/lang/Class;"⟩) ∈ lw_all) (hnat : (Cond.native ⟨"java/lang/Object", "getClass", "()Ljava/lang/Class;"⟩) ∈ lw_all) (hf : zgcl h a 9 K = some z) (hrm : (rest.map fun v => v.category).sum ≤ 8) (hfr : 1 ≤ fr) (hlo : 60 ≤ lo) (hdg : decode cc pc = .ok (.invokevirtual index, 3))
    (kk : ∀ o : Option Nat, K o = some z → W p l e ({ frames := fr, cells := mc, slots := ms, locals := lo } : Room) s m args below meth c H locs cells slots Q (F0 m (pc + 3) ls (va_rf o :: rest))) : W p l e ({ frames := fr, cells := mc, slots := ms, locals := lo } : Room) s m args below meth c H locs cells slots Q (F0 m pc ls (.ref a :: rest)) := by
  unfold zgcl at hf
  split at hf
  · rename_i n hn9
    obtain ⟨mi, hmi, hS⟩ := hn.mi hc
    obtain ⟨cell, q1, q2, q3, q4, q5, q6⟩ := hn.arr hc hn9
    obtain ⟨-, cell', p1, p2, p3, -⟩ := hn.ar (zln_i hn9)
    rw [hS] at hf
    exact va_getC hc.x hc.b (by rw [hc.ml]; exact hls.symm) hc.ow (hc.ts _ hlink) (hc.word hdecl rfl) (hc.ts _ hsel) (hc.ts _ hinst) (hc.ts _ hnat) hmi ⟨cell', p1, p3.2, by rw [p2]; exact hc.nmO⟩ hfr (by show _ + 14 ≤ lo; omega) hdg (kk _ hf)
  · cases hf
theorem zr_ldm {α : Type} {K : Option Nat → ZR α} {z : α × PH × Nat × Nat} {index : Nat} (hc : zC D dA b0 gs own cc nL p c s m args meth) (hn : zM D dA b0 gs s h H locs) (hlink : (Cond.classLink own index "[Ljava/lang/Object;") ∈ lw_all) (hf : znm (zS h 25) K = some z) (hdg : decode cc pc = .ok (.ldc index, 2))
    (kk : ∀ o : Option Nat, K o = some z → W p l e R s m args below meth c H locs cells slots Q (F0 m (pc + 2) ls (va_rf o :: rest))) : W p l e R s m args below meth c H locs cells slots Q (F0 m pc ls rest) := by
  obtain ⟨mi, hmi, hS⟩ := hn.mi hc
  rw [hS] at hf
  exact va_ldcM hc.x hc.b hc.ow (hc.ts _ hlink) hmi hdg (kk _ hf)
theorem zr_cUI {b ci N : Nat} {C owner : String} {T : u_T} {x y : MethodName} {α : Type} {X9 : ZR Int32} {K : Int32 → PH → ZR α} {r : α} {hh : PH} {C9 S9 fr lo mc ms n maxL index fr1 lo1 : Nat} {bytes : ByteArray} {ret : Option FieldType} {As : List Value} {st0 : List Value} (hc : zC D dA b0 gs own cc nL p c s m args meth) (hn : zM D dA b0 gs s h H locs) (hq : cells + C9 = mc ∧ slots + S9 = ms) (hcl : vwCl[ci]? = some (C, T, N)) (hyx : y = ⟨owner, x.name, x.desc⟩) (hd : owner ≠ "java/lang/invoke/MethodHandle" ∧ owner ≠ "java/lang/invoke/VarHandle" ∧ (parseMethodDescriptor x.desc).map (fun d => d.parameters.length) = some n) (hw : GoodIn lw_all (va_wsU own index C owner x y (ws_ y bytes maxL ret))) (hfr : fr1 + 1 ≤ fr) (hlo : 8 + (maxL + 11) + lo1 ≤ lo)
    (hM : ∀ r1 h1 c1 s1, X9 = some (r1, h1, c1, s1) → zMt l D dA b0 gs y bytes maxL ret fr1 lo1 (.ref b :: As) h (evI r1) h1 c1 s1) (hf : zrc h b ci (zcl X9 K) = some (r, hh, C9, S9)) (hdg : decode cc pc = .ok (.invokevirtual index, 3)) (hls : ls.size = nL) (hst : st0 = As.reverse ++ .ref b :: rest) (hnA : As.length = n) (hrm : (rest.map fun v => v.category).sum ≤ 8)
    (kk : ∀ (r1 : Int32) (h1 : PH) (H1 : Heap) (locs1 : List Loc) (cells1 slots1 C1 S1 : Nat), K r1 h1 = some (r, hh, C1, S1) → cells1 + C1 = mc ∧ slots1 + S1 = ms → zM D dA b0 gs s h1 H1 locs1 → W p l e ({ frames := fr, cells := mc, slots := ms, locals := lo } : Room) s m args below meth c H1 locs1 cells1 slots1 Q (F0 m (pc + 3) ls (.int r1 :: rest))) : W p l e ({ frames := fr, cells := mc, slots := ms, locals := lo } : Room) s m args below meth c H locs cells slots Q (F0 m pc ls st0) := by
  unfold zrc at hf
  split at hf
  · rename_i hb9
    obtain ⟨r1, h1, c1, s1, C1, S1, q1, q2, q3, q4⟩ := zcl_i hf
    exact zr_back hn (va_runU (As := As) (rest := rest) hc.1 (hM r1 h1 c1 s1 q1) (va_cwU n hc.ts hw rfl rfl rfl hyx hd ⟨hfr, hlo⟩) ⟨zW_blind, hn.recv hc hcl hb9, hn.pre hc⟩ rfl hnA hls hst (lv_room hrm) hdg ⟨by show cells + c1 ≤ mc; omega, by show slots + s1 ≤ ms; omega⟩) (fun H1 locs1 hn1 => kk r1 h1 H1 locs1 _ _ C1 S1 q2 ⟨by omega, by omega⟩ hn1)
  · cases hf
theorem zr_cSUI {b ci N : Nat} {C : String} {T : u_T} {y : MethodName} {α : Type} {X9 : ZR Int32} {K : Int32 → PH → ZR α} {r : α} {hh : PH} {C9 S9 fr lo mc ms n maxL index fr1 lo1 : Nat} {bytes : ByteArray} {ret : Option FieldType} {As : List Value} {st0 : List Value} (hc : zC D dA b0 gs own cc nL p c s m args meth) (hn : zM D dA b0 gs s h H locs) (hq : cells + C9 = mc ∧ slots + S9 = ms) (hcl : vwCl[ci]? = some (C, T, N)) (hd : y.name ≠ "<init>" ∧ (parseMethodDescriptor y.desc).map (fun d => d.parameters.length) = some n) (hw : GoodIn lw_all (va_wsSU own index y (ws_ y bytes maxL ret))) (hfr : fr1 + 1 ≤ fr) (hlo : 8 + (maxL + 11) + lo1 ≤ lo)
    (hM : ∀ r1 h1 c1 s1, X9 = some (r1, h1, c1, s1) → zMt l D dA b0 gs y bytes maxL ret fr1 lo1 (.ref b :: As) h (evI r1) h1 c1 s1) (hf : zrc h b ci (zcl X9 K) = some (r, hh, C9, S9)) (hdg : decode cc pc = .ok (.invokespecial index, 3)) (hls : ls.size = nL) (hst : st0 = As.reverse ++ .ref b :: rest) (hnA : As.length = n) (hrm : (rest.map fun v => v.category).sum ≤ 8)
    (kk : ∀ (r1 : Int32) (h1 : PH) (H1 : Heap) (locs1 : List Loc) (cells1 slots1 C1 S1 : Nat), K r1 h1 = some (r, hh, C1, S1) → cells1 + C1 = mc ∧ slots1 + S1 = ms → zM D dA b0 gs s h1 H1 locs1 → W p l e ({ frames := fr, cells := mc, slots := ms, locals := lo } : Room) s m args below meth c H1 locs1 cells1 slots1 Q (F0 m (pc + 3) ls (.int r1 :: rest))) : W p l e ({ frames := fr, cells := mc, slots := ms, locals := lo } : Room) s m args below meth c H locs cells slots Q (F0 m pc ls st0) := by
  unfold zrc at hf
  split at hf
  · rename_i hb9
    obtain ⟨r1, h1, c1, s1, C1, S1, q1, q2, q3, q4⟩ := zcl_i hf
    exact zr_back hn (va_runSU (As := As) (rest := rest) (hc.k.1 ci _ hcl).2 hc.1 (hM r1 h1 c1 s1 q1) (va_cwSU n hc.ts hw rfl rfl rfl hd ⟨hfr, hlo⟩) ⟨zW_blind, hn.recv hc hcl hb9, hn.pre hc⟩ rfl hnA hls hst (lv_room hrm) hdg ⟨by show cells + c1 ≤ mc; omega, by show slots + s1 ≤ ms; omega⟩) (fun H1 locs1 hn1 => kk r1 h1 H1 locs1 _ _ C1 S1 q2 ⟨by omega, by omega⟩ hn1)
  · cases hf
theorem zr_cUP {b ci N : Nat} {C owner : String} {T : u_T} {x y : MethodName} {α : Type} {X9 : ZR (Option Nat)} {K : Option Nat → PH → ZR α} {r : α} {hh : PH} {C9 S9 fr lo mc ms n maxL index fr1 lo1 : Nat} {bytes : ByteArray} {ret : Option FieldType} {As : List Value} {st0 : List Value} (hc : zC D dA b0 gs own cc nL p c s m args meth) (hn : zM D dA b0 gs s h H locs) (hq : cells + C9 = mc ∧ slots + S9 = ms) (hcl : vwCl[ci]? = some (C, T, N)) (hyx : y = ⟨owner, x.name, x.desc⟩) (hd : owner ≠ "java/lang/invoke/MethodHandle" ∧ owner ≠ "java/lang/invoke/VarHandle" ∧ (parseMethodDescriptor x.desc).map (fun d => d.parameters.length) = some n) (hw : GoodIn lw_all (va_wsU own index C owner x y (ws_ y bytes maxL ret))) (hfr : fr1 + 1 ≤ fr) (hlo : 8 + (maxL + 11) + lo1 ≤ lo)
    (hM : ∀ r1 h1 c1 s1, X9 = some (r1, h1, c1, s1) → zMt l D dA b0 gs y bytes maxL ret fr1 lo1 (.ref b :: As) h (evP r1) h1 c1 s1) (hf : zrc h b ci (zcl X9 K) = some (r, hh, C9, S9)) (hdg : decode cc pc = .ok (.invokevirtual index, 3)) (hls : ls.size = nL) (hst : st0 = As.reverse ++ .ref b :: rest) (hnA : As.length = n) (hrm : (rest.map fun v => v.category).sum ≤ 8)
    (kk : ∀ (r1 : Option Nat) (h1 : PH) (H1 : Heap) (locs1 : List Loc) (cells1 slots1 C1 S1 : Nat), K r1 h1 = some (r, hh, C1, S1) → cells1 + C1 = mc ∧ slots1 + S1 = ms → zM D dA b0 gs s h1 H1 locs1 → W p l e ({ frames := fr, cells := mc, slots := ms, locals := lo } : Room) s m args below meth c H1 locs1 cells1 slots1 Q (F0 m (pc + 3) ls (va_rf r1 :: rest))) : W p l e ({ frames := fr, cells := mc, slots := ms, locals := lo } : Room) s m args below meth c H locs cells slots Q (F0 m pc ls st0) := by
  unfold zrc at hf
  split at hf
  · rename_i hb9
    obtain ⟨r1, h1, c1, s1, C1, S1, q1, q2, q3, q4⟩ := zcl_i hf
    exact zr_back hn (va_runU (As := As) (rest := rest) hc.1 (hM r1 h1 c1 s1 q1) (va_cwU n hc.ts hw rfl rfl rfl hyx hd ⟨hfr, hlo⟩) ⟨zW_blind, hn.recv hc hcl hb9, hn.pre hc⟩ rfl hnA hls hst (lv_room hrm) hdg ⟨by show cells + c1 ≤ mc; omega, by show slots + s1 ≤ ms; omega⟩) (fun H1 locs1 hn1 => kk r1 h1 H1 locs1 _ _ C1 S1 q2 ⟨by omega, by omega⟩ hn1)
  · cases hf
theorem zr_cSUP {b ci N : Nat} {C : String} {T : u_T} {y : MethodName} {α : Type} {X9 : ZR (Option Nat)} {K : Option Nat → PH → ZR α} {r : α} {hh : PH} {C9 S9 fr lo mc ms n maxL index fr1 lo1 : Nat} {bytes : ByteArray} {ret : Option FieldType} {As : List Value} {st0 : List Value} (hc : zC D dA b0 gs own cc nL p c s m args meth) (hn : zM D dA b0 gs s h H locs) (hq : cells + C9 = mc ∧ slots + S9 = ms) (hcl : vwCl[ci]? = some (C, T, N)) (hd : y.name ≠ "<init>" ∧ (parseMethodDescriptor y.desc).map (fun d => d.parameters.length) = some n) (hw : GoodIn lw_all (va_wsSU own index y (ws_ y bytes maxL ret))) (hfr : fr1 + 1 ≤ fr) (hlo : 8 + (maxL + 11) + lo1 ≤ lo)
    (hM : ∀ r1 h1 c1 s1, X9 = some (r1, h1, c1, s1) → zMt l D dA b0 gs y bytes maxL ret fr1 lo1 (.ref b :: As) h (evP r1) h1 c1 s1) (hf : zrc h b ci (zcl X9 K) = some (r, hh, C9, S9)) (hdg : decode cc pc = .ok (.invokespecial index, 3)) (hls : ls.size = nL) (hst : st0 = As.reverse ++ .ref b :: rest) (hnA : As.length = n) (hrm : (rest.map fun v => v.category).sum ≤ 8)
    (kk : ∀ (r1 : Option Nat) (h1 : PH) (H1 : Heap) (locs1 : List Loc) (cells1 slots1 C1 S1 : Nat), K r1 h1 = some (r, hh, C1, S1) → cells1 + C1 = mc ∧ slots1 + S1 = ms → zM D dA b0 gs s h1 H1 locs1 → W p l e ({ frames := fr, cells := mc, slots := ms, locals := lo } : Room) s m args below meth c H1 locs1 cells1 slots1 Q (F0 m (pc + 3) ls (va_rf r1 :: rest))) : W p l e ({ frames := fr, cells := mc, slots := ms, locals := lo } : Room) s m args below meth c H locs cells slots Q (F0 m pc ls st0) := by
  unfold zrc at hf
  split at hf
  · rename_i hb9
    obtain ⟨r1, h1, c1, s1, C1, S1, q1, q2, q3, q4⟩ := zcl_i hf
    exact zr_back hn (va_runSU (As := As) (rest := rest) (hc.k.1 ci _ hcl).2 hc.1 (hM r1 h1 c1 s1 q1) (va_cwSU n hc.ts hw rfl rfl rfl hd ⟨hfr, hlo⟩) ⟨zW_blind, hn.recv hc hcl hb9, hn.pre hc⟩ rfl hnA hls hst (lv_room hrm) hdg ⟨by show cells + c1 ≤ mc; omega, by show slots + s1 ≤ ms; omega⟩) (fun H1 locs1 hn1 => kk r1 h1 H1 locs1 _ _ C1 S1 q2 ⟨by omega, by omega⟩ hn1)
  · cases hf
theorem zr_cUN {b ci N : Nat} {C owner : String} {T : u_T} {x y : MethodName} {α : Type} {X9 : ZR Nat} {K : Nat → PH → ZR α} {r : α} {hh : PH} {C9 S9 fr lo mc ms n maxL index fr1 lo1 : Nat} {bytes : ByteArray} {ret : Option FieldType} {As : List Value} {st0 : List Value} (hc : zC D dA b0 gs own cc nL p c s m args meth) (hn : zM D dA b0 gs s h H locs) (hq : cells + C9 = mc ∧ slots + S9 = ms) (hcl : vwCl[ci]? = some (C, T, N)) (hyx : y = ⟨owner, x.name, x.desc⟩) (hd : owner ≠ "java/lang/invoke/MethodHandle" ∧ owner ≠ "java/lang/invoke/VarHandle" ∧ (parseMethodDescriptor x.desc).map (fun d => d.parameters.length) = some n) (hw : GoodIn lw_all (va_wsU own index C owner x y (ws_ y bytes maxL ret))) (hfr : fr1 + 1 ≤ fr) (hlo : 8 + (maxL + 11) + lo1 ≤ lo)
    (hM : ∀ r1 h1 c1 s1, X9 = some (r1, h1, c1, s1) → zMt l D dA b0 gs y bytes maxL ret fr1 lo1 (.ref b :: As) h (evN r1) h1 c1 s1) (hf : zrc h b ci (zcl X9 K) = some (r, hh, C9, S9)) (hdg : decode cc pc = .ok (.invokevirtual index, 3)) (hls : ls.size = nL) (hst : st0 = As.reverse ++ .ref b :: rest) (hnA : As.length = n) (hrm : (rest.map fun v => v.category).sum ≤ 8)
    (kk : ∀ (r1 : Nat) (h1 : PH) (H1 : Heap) (locs1 : List Loc) (cells1 slots1 C1 S1 : Nat), K r1 h1 = some (r, hh, C1, S1) → cells1 + C1 = mc ∧ slots1 + S1 = ms → zM D dA b0 gs s h1 H1 locs1 → W p l e ({ frames := fr, cells := mc, slots := ms, locals := lo } : Room) s m args below meth c H1 locs1 cells1 slots1 Q (F0 m (pc + 3) ls (.ref r1 :: rest))) : W p l e ({ frames := fr, cells := mc, slots := ms, locals := lo } : Room) s m args below meth c H locs cells slots Q (F0 m pc ls st0) := by
  unfold zrc at hf
  split at hf
  · rename_i hb9
    obtain ⟨r1, h1, c1, s1, C1, S1, q1, q2, q3, q4⟩ := zcl_i hf
    exact zr_back hn (va_runU (As := As) (rest := rest) hc.1 (hM r1 h1 c1 s1 q1) (va_cwU n hc.ts hw rfl rfl rfl hyx hd ⟨hfr, hlo⟩) ⟨zW_blind, hn.recv hc hcl hb9, hn.pre hc⟩ rfl hnA hls hst (lv_room hrm) hdg ⟨by show cells + c1 ≤ mc; omega, by show slots + s1 ≤ ms; omega⟩) (fun H1 locs1 hn1 => kk r1 h1 H1 locs1 _ _ C1 S1 q2 ⟨by omega, by omega⟩ hn1)
  · cases hf
theorem zr_cSUN {b ci N : Nat} {C : String} {T : u_T} {y : MethodName} {α : Type} {X9 : ZR Nat} {K : Nat → PH → ZR α} {r : α} {hh : PH} {C9 S9 fr lo mc ms n maxL index fr1 lo1 : Nat} {bytes : ByteArray} {ret : Option FieldType} {As : List Value} {st0 : List Value} (hc : zC D dA b0 gs own cc nL p c s m args meth) (hn : zM D dA b0 gs s h H locs) (hq : cells + C9 = mc ∧ slots + S9 = ms) (hcl : vwCl[ci]? = some (C, T, N)) (hd : y.name ≠ "<init>" ∧ (parseMethodDescriptor y.desc).map (fun d => d.parameters.length) = some n) (hw : GoodIn lw_all (va_wsSU own index y (ws_ y bytes maxL ret))) (hfr : fr1 + 1 ≤ fr) (hlo : 8 + (maxL + 11) + lo1 ≤ lo)
    (hM : ∀ r1 h1 c1 s1, X9 = some (r1, h1, c1, s1) → zMt l D dA b0 gs y bytes maxL ret fr1 lo1 (.ref b :: As) h (evN r1) h1 c1 s1) (hf : zrc h b ci (zcl X9 K) = some (r, hh, C9, S9)) (hdg : decode cc pc = .ok (.invokespecial index, 3)) (hls : ls.size = nL) (hst : st0 = As.reverse ++ .ref b :: rest) (hnA : As.length = n) (hrm : (rest.map fun v => v.category).sum ≤ 8)
    (kk : ∀ (r1 : Nat) (h1 : PH) (H1 : Heap) (locs1 : List Loc) (cells1 slots1 C1 S1 : Nat), K r1 h1 = some (r, hh, C1, S1) → cells1 + C1 = mc ∧ slots1 + S1 = ms → zM D dA b0 gs s h1 H1 locs1 → W p l e ({ frames := fr, cells := mc, slots := ms, locals := lo } : Room) s m args below meth c H1 locs1 cells1 slots1 Q (F0 m (pc + 3) ls (.ref r1 :: rest))) : W p l e ({ frames := fr, cells := mc, slots := ms, locals := lo } : Room) s m args below meth c H locs cells slots Q (F0 m pc ls st0) := by
  unfold zrc at hf
  split at hf
  · rename_i hb9
    obtain ⟨r1, h1, c1, s1, C1, S1, q1, q2, q3, q4⟩ := zcl_i hf
    exact zr_back hn (va_runSU (As := As) (rest := rest) (hc.k.1 ci _ hcl).2 hc.1 (hM r1 h1 c1 s1 q1) (va_cwSU n hc.ts hw rfl rfl rfl hd ⟨hfr, hlo⟩) ⟨zW_blind, hn.recv hc hcl hb9, hn.pre hc⟩ rfl hnA hls hst (lv_room hrm) hdg ⟨by show cells + c1 ≤ mc; omega, by show slots + s1 ≤ ms; omega⟩) (fun H1 locs1 hn1 => kk r1 h1 H1 locs1 _ _ C1 S1 q2 ⟨by omega, by omega⟩ hn1)
  · cases hf
theorem zr_cUL {b ci N : Nat} {C owner : String} {T : u_T} {x y : MethodName} {α : Type} {X9 : ZR Int64} {K : Int64 → PH → ZR α} {r : α} {hh : PH} {C9 S9 fr lo mc ms n maxL index fr1 lo1 : Nat} {bytes : ByteArray} {ret : Option FieldType} {As : List Value} {st0 : List Value} (hc : zC D dA b0 gs own cc nL p c s m args meth) (hn : zM D dA b0 gs s h H locs) (hq : cells + C9 = mc ∧ slots + S9 = ms) (hcl : vwCl[ci]? = some (C, T, N)) (hyx : y = ⟨owner, x.name, x.desc⟩) (hd : owner ≠ "java/lang/invoke/MethodHandle" ∧ owner ≠ "java/lang/invoke/VarHandle" ∧ (parseMethodDescriptor x.desc).map (fun d => d.parameters.length) = some n) (hw : GoodIn lw_all (va_wsU own index C owner x y (ws_ y bytes maxL ret))) (hfr : fr1 + 1 ≤ fr) (hlo : 8 + (maxL + 11) + lo1 ≤ lo)
    (hM : ∀ r1 h1 c1 s1, X9 = some (r1, h1, c1, s1) → zMt l D dA b0 gs y bytes maxL ret fr1 lo1 (.ref b :: As) h (evL r1) h1 c1 s1) (hf : zrc h b ci (zcl X9 K) = some (r, hh, C9, S9)) (hdg : decode cc pc = .ok (.invokevirtual index, 3)) (hls : ls.size = nL) (hst : st0 = As.reverse ++ .ref b :: rest) (hnA : As.length = n) (hrm : (rest.map fun v => v.category).sum ≤ 8)
    (kk : ∀ (r1 : Int64) (h1 : PH) (H1 : Heap) (locs1 : List Loc) (cells1 slots1 C1 S1 : Nat), K r1 h1 = some (r, hh, C1, S1) → cells1 + C1 = mc ∧ slots1 + S1 = ms → zM D dA b0 gs s h1 H1 locs1 → W p l e ({ frames := fr, cells := mc, slots := ms, locals := lo } : Room) s m args below meth c H1 locs1 cells1 slots1 Q (F0 m (pc + 3) ls (.long r1 :: rest))) : W p l e ({ frames := fr, cells := mc, slots := ms, locals := lo } : Room) s m args below meth c H locs cells slots Q (F0 m pc ls st0) := by
  unfold zrc at hf
  split at hf
  · rename_i hb9
    obtain ⟨r1, h1, c1, s1, C1, S1, q1, q2, q3, q4⟩ := zcl_i hf
    exact zr_back hn (va_runU (As := As) (rest := rest) hc.1 (hM r1 h1 c1 s1 q1) (va_cwU n hc.ts hw rfl rfl rfl hyx hd ⟨hfr, hlo⟩) ⟨zW_blind, hn.recv hc hcl hb9, hn.pre hc⟩ rfl hnA hls hst (lv_room hrm) hdg ⟨by show cells + c1 ≤ mc; omega, by show slots + s1 ≤ ms; omega⟩) (fun H1 locs1 hn1 => kk r1 h1 H1 locs1 _ _ C1 S1 q2 ⟨by omega, by omega⟩ hn1)
  · cases hf
theorem zr_cSUL {b ci N : Nat} {C : String} {T : u_T} {y : MethodName} {α : Type} {X9 : ZR Int64} {K : Int64 → PH → ZR α} {r : α} {hh : PH} {C9 S9 fr lo mc ms n maxL index fr1 lo1 : Nat} {bytes : ByteArray} {ret : Option FieldType} {As : List Value} {st0 : List Value} (hc : zC D dA b0 gs own cc nL p c s m args meth) (hn : zM D dA b0 gs s h H locs) (hq : cells + C9 = mc ∧ slots + S9 = ms) (hcl : vwCl[ci]? = some (C, T, N)) (hd : y.name ≠ "<init>" ∧ (parseMethodDescriptor y.desc).map (fun d => d.parameters.length) = some n) (hw : GoodIn lw_all (va_wsSU own index y (ws_ y bytes maxL ret))) (hfr : fr1 + 1 ≤ fr) (hlo : 8 + (maxL + 11) + lo1 ≤ lo)
    (hM : ∀ r1 h1 c1 s1, X9 = some (r1, h1, c1, s1) → zMt l D dA b0 gs y bytes maxL ret fr1 lo1 (.ref b :: As) h (evL r1) h1 c1 s1) (hf : zrc h b ci (zcl X9 K) = some (r, hh, C9, S9)) (hdg : decode cc pc = .ok (.invokespecial index, 3)) (hls : ls.size = nL) (hst : st0 = As.reverse ++ .ref b :: rest) (hnA : As.length = n) (hrm : (rest.map fun v => v.category).sum ≤ 8)
    (kk : ∀ (r1 : Int64) (h1 : PH) (H1 : Heap) (locs1 : List Loc) (cells1 slots1 C1 S1 : Nat), K r1 h1 = some (r, hh, C1, S1) → cells1 + C1 = mc ∧ slots1 + S1 = ms → zM D dA b0 gs s h1 H1 locs1 → W p l e ({ frames := fr, cells := mc, slots := ms, locals := lo } : Room) s m args below meth c H1 locs1 cells1 slots1 Q (F0 m (pc + 3) ls (.long r1 :: rest))) : W p l e ({ frames := fr, cells := mc, slots := ms, locals := lo } : Room) s m args below meth c H locs cells slots Q (F0 m pc ls st0) := by
  unfold zrc at hf
  split at hf
  · rename_i hb9
    obtain ⟨r1, h1, c1, s1, C1, S1, q1, q2, q3, q4⟩ := zcl_i hf
    exact zr_back hn (va_runSU (As := As) (rest := rest) (hc.k.1 ci _ hcl).2 hc.1 (hM r1 h1 c1 s1 q1) (va_cwSU n hc.ts hw rfl rfl rfl hd ⟨hfr, hlo⟩) ⟨zW_blind, hn.recv hc hcl hb9, hn.pre hc⟩ rfl hnA hls hst (lv_room hrm) hdg ⟨by show cells + c1 ≤ mc; omega, by show slots + s1 ≤ ms; omega⟩) (fun H1 locs1 hn1 => kk r1 h1 H1 locs1 _ _ C1 S1 q2 ⟨by omega, by omega⟩ hn1)
  · cases hf
theorem zr_cUU {b ci N : Nat} {C owner : String} {T : u_T} {x y : MethodName} {α : Type} {X9 : ZR Unit} {K : Unit → PH → ZR α} {r : α} {hh : PH} {C9 S9 fr lo mc ms n maxL index fr1 lo1 : Nat} {bytes : ByteArray} {ret : Option FieldType} {As : List Value} {st0 : List Value} (hc : zC D dA b0 gs own cc nL p c s m args meth) (hn : zM D dA b0 gs s h H locs) (hq : cells + C9 = mc ∧ slots + S9 = ms) (hcl : vwCl[ci]? = some (C, T, N)) (hyx : y = ⟨owner, x.name, x.desc⟩) (hd : owner ≠ "java/lang/invoke/MethodHandle" ∧ owner ≠ "java/lang/invoke/VarHandle" ∧ (parseMethodDescriptor x.desc).map (fun d => d.parameters.length) = some n) (hw : GoodIn lw_all (va_wsU own index C owner x y (ws_ y bytes maxL ret))) (hfr : fr1 + 1 ≤ fr) (hlo : 8 + (maxL + 11) + lo1 ≤ lo)
    (hM : ∀ r1 h1 c1 s1, X9 = some (r1, h1, c1, s1) → zMt l D dA b0 gs y bytes maxL ret fr1 lo1 (.ref b :: As) h (evU r1) h1 c1 s1) (hf : zrc h b ci (zcl X9 K) = some (r, hh, C9, S9)) (hdg : decode cc pc = .ok (.invokevirtual index, 3)) (hls : ls.size = nL) (hst : st0 = As.reverse ++ .ref b :: rest) (hnA : As.length = n) (hrm : (rest.map fun v => v.category).sum ≤ 8)
    (kk : ∀ (r1 : Unit) (h1 : PH) (H1 : Heap) (locs1 : List Loc) (cells1 slots1 C1 S1 : Nat), K r1 h1 = some (r, hh, C1, S1) → cells1 + C1 = mc ∧ slots1 + S1 = ms → zM D dA b0 gs s h1 H1 locs1 → W p l e ({ frames := fr, cells := mc, slots := ms, locals := lo } : Room) s m args below meth c H1 locs1 cells1 slots1 Q (F0 m (pc + 3) ls (rest))) : W p l e ({ frames := fr, cells := mc, slots := ms, locals := lo } : Room) s m args below meth c H locs cells slots Q (F0 m pc ls st0) := by
  unfold zrc at hf
  split at hf
  · rename_i hb9
    obtain ⟨r1, h1, c1, s1, C1, S1, q1, q2, q3, q4⟩ := zcl_i hf
    exact zr_back hn (va_runU (As := As) (rest := rest) hc.1 (hM r1 h1 c1 s1 q1) (va_cwU n hc.ts hw rfl rfl rfl hyx hd ⟨hfr, hlo⟩) ⟨zW_blind, hn.recv hc hcl hb9, hn.pre hc⟩ rfl hnA hls hst (lv_room hrm) hdg ⟨by show cells + c1 ≤ mc; omega, by show slots + s1 ≤ ms; omega⟩) (fun H1 locs1 hn1 => kk r1 h1 H1 locs1 _ _ C1 S1 q2 ⟨by omega, by omega⟩ hn1)
  · cases hf
theorem zr_cSUU {b ci N : Nat} {C : String} {T : u_T} {y : MethodName} {α : Type} {X9 : ZR Unit} {K : Unit → PH → ZR α} {r : α} {hh : PH} {C9 S9 fr lo mc ms n maxL index fr1 lo1 : Nat} {bytes : ByteArray} {ret : Option FieldType} {As : List Value} {st0 : List Value} (hc : zC D dA b0 gs own cc nL p c s m args meth) (hn : zM D dA b0 gs s h H locs) (hq : cells + C9 = mc ∧ slots + S9 = ms) (hcl : vwCl[ci]? = some (C, T, N)) (hd : y.name ≠ "<init>" ∧ (parseMethodDescriptor y.desc).map (fun d => d.parameters.length) = some n) (hw : GoodIn lw_all (va_wsSU own index y (ws_ y bytes maxL ret))) (hfr : fr1 + 1 ≤ fr) (hlo : 8 + (maxL + 11) + lo1 ≤ lo)
    (hM : ∀ r1 h1 c1 s1, X9 = some (r1, h1, c1, s1) → zMt l D dA b0 gs y bytes maxL ret fr1 lo1 (.ref b :: As) h (evU r1) h1 c1 s1) (hf : zrc h b ci (zcl X9 K) = some (r, hh, C9, S9)) (hdg : decode cc pc = .ok (.invokespecial index, 3)) (hls : ls.size = nL) (hst : st0 = As.reverse ++ .ref b :: rest) (hnA : As.length = n) (hrm : (rest.map fun v => v.category).sum ≤ 8)
    (kk : ∀ (r1 : Unit) (h1 : PH) (H1 : Heap) (locs1 : List Loc) (cells1 slots1 C1 S1 : Nat), K r1 h1 = some (r, hh, C1, S1) → cells1 + C1 = mc ∧ slots1 + S1 = ms → zM D dA b0 gs s h1 H1 locs1 → W p l e ({ frames := fr, cells := mc, slots := ms, locals := lo } : Room) s m args below meth c H1 locs1 cells1 slots1 Q (F0 m (pc + 3) ls (rest))) : W p l e ({ frames := fr, cells := mc, slots := ms, locals := lo } : Room) s m args below meth c H locs cells slots Q (F0 m pc ls st0) := by
  unfold zrc at hf
  split at hf
  · rename_i hb9
    obtain ⟨r1, h1, c1, s1, C1, S1, q1, q2, q3, q4⟩ := zcl_i hf
    exact zr_back hn (va_runSU (As := As) (rest := rest) (hc.k.1 ci _ hcl).2 hc.1 (hM r1 h1 c1 s1 q1) (va_cwSU n hc.ts hw rfl rfl rfl hd ⟨hfr, hlo⟩) ⟨zW_blind, hn.recv hc hcl hb9, hn.pre hc⟩ rfl hnA hls hst (lv_room hrm) hdg ⟨by show cells + c1 ≤ mc; omega, by show slots + s1 ≤ ms; omega⟩) (fun H1 locs1 hn1 => kk r1 h1 H1 locs1 _ _ C1 S1 q2 ⟨by omega, by omega⟩ hn1)
  · cases hf
end ZJ
