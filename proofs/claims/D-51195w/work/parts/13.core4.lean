/-! MORE ROWS: references that may be null, new cells, calls, ends -/
set_option maxRecDepth 100000
theorem zcat_rf (o : Option Nat) : (va_rf o).category = 1 := by cases o <;> rfl
theorem zroom : ∀ {rest : List Value}, rest.length ≤ 4 → (rest.map fun v => v.category).sum ≤ 8
  | [], _ => by simp
  | [a], _ => by
    have h1 := lv_cat a
    simp
    omega
  | [a, b], _ => by
    have h1 := lv_cat a
    have h2 := lv_cat b
    simp
    omega
  | [a, b, c], _ => by
    have h1 := lv_cat a
    have h2 := lv_cat b
    have h3 := lv_cat c
    simp
    omega
  | [a, b, c, d], _ => by
    have h1 := lv_cat a
    have h2 := lv_cat b
    have h3 := lv_cat c
    have h4 := lv_cat d
    simp
    omega
  | a :: b :: c :: d :: e :: r, h => by simp at h
/-- which objects may stand in which arrays -/
def zcas (ci ai : Nat) : Bool := decide ((ci, ai) ∈ [(7, 5), (6, 6), (1, 7), (11, 9), (9, 9), (1, 9)])
def zokc (h : PH) (ai : Nat) (x : Option Nat) : Bool := match x with
  | none => true
  | some v => match zT h v with
    | some (.inl ci) => zcas ci ai
    | _ => false
def zsO {α : Type} (h : PH) (a ai : Nat) (i : Int32) (x : Option Nat) (K : PH → ZR α) : ZR α := if zokc h ai x = true then zsP h a ai i x K else none
/-- a cast of an object of the class ci -/
def zcast {α : Type} (h : PH) (ci : Nat) (o : Option Nat) (K : ZR α) : ZR α := match o with
  | none => K
  | some v => if zT h v = some (.inl ci) then K else none
/-- the receiver's class -/
def zrc {α : Type} (h : PH) (b ci : Nat) (x : ZR α) : ZR α := if zT h b = some (.inl ci) then x else none
section ZROW2
variable {p : Program} {l : Launch} {e : Env} {R : Room} {s : State} {m : MethodId} {args : Array Value} {below : List Frame} {meth : Method} {c : Code} {H : Heap} {locs : List Loc} {cells slots : Nat} {Q : State → Prop}
variable {cc : ByteArray} {pc nL : Nat} {ls : Array Slot} {rest : List Value} {D : va_G} {dA : Nat → ClassId} {b0 : Nat} {gs : Nat → Option Nat} {own : String} {h : PH} {a : Nat}

theorem zr_aload_n (hexec : p.tables.exec = Jvm.exec) (hb : c.code = cc) {k : Fin 4} {i : Nat} {x : Option Nat} (hdg : decode cc pc = .ok (.aload_n k, 1)) (hi : (k : Nat) = i) (hl : ls[i]? = some (.val (va_rf x)))
    (k : W p l e R s m args below meth c H locs cells slots Q (F0 m (pc + 1) ls (va_rf x :: rest))) : W p l e R s m args below meth c H locs cells slots Q (F0 m pc ls rest) := by
  cases x with
  | none => exact lv_aload_nN hexec hb hdg hi hl k
  | some a => exact lv_aload_n hexec hb hdg hi hl k
theorem zr_aload (hexec : p.tables.exec = Jvm.exec) (hb : c.code = cc) {i : Nat} {x : Option Nat} (hdg : decode cc pc = .ok (.aload i, 2)) (hl : ls[i]? = some (.val (va_rf x)))
    (k : W p l e R s m args below meth c H locs cells slots Q (F0 m (pc + 2) ls (va_rf x :: rest))) : W p l e R s m args below meth c H locs cells slots Q (F0 m pc ls rest) := by
  cases x with
  | none => exact lv_aloadN hexec hb hdg hl k
  | some a => exact lv_aload hexec hb hdg hl k
theorem zr_astore_n (hexec : p.tables.exec = Jvm.exec) (hb : c.code = cc) {k : Fin 4} {i nL : Nat} {x : Option Nat} {lv lv' : List (Nat × Value)} (hdg : decode cc pc = .ok (.astore_n k, 1)) (hi : (k : Nat) = i) (h : lv_has ls nL lv) (hn : i < nL) (hl : (i, va_rf x) :: lv.filter (fun q => !(q.1 == i) && !(q.1 + 1 == i && q.2.category == 2)) = lv')
    (kk : ∀ ls' : Array Slot, lv_has ls' nL lv' → W p l e R s m args below meth c H locs cells slots Q (F0 m (pc + 1) ls' rest)) : W p l e R s m args below meth c H locs cells slots Q (F0 m pc ls (va_rf x :: rest)) := by
  cases x with
  | none => exact lv_astore_nN hexec hb hdg hi h hn hl kk
  | some a => exact lv_astore_n hexec hb hdg hi h hn hl kk
theorem zr_astore (hexec : p.tables.exec = Jvm.exec) (hb : c.code = cc) {i nL : Nat} {x : Option Nat} {lv lv' : List (Nat × Value)} (hdg : decode cc pc = .ok (.astore i, 2)) (h : lv_has ls nL lv) (hn : i < nL) (hl : (i, va_rf x) :: lv.filter (fun q => !(q.1 == i) && !(q.1 + 1 == i && q.2.category == 2)) = lv')
    (kk : ∀ ls' : Array Slot, lv_has ls' nL lv' → W p l e R s m args below meth c H locs cells slots Q (F0 m (pc + 2) ls' rest)) : W p l e R s m args below meth c H locs cells slots Q (F0 m pc ls (va_rf x :: rest)) := by
  cases x with
  | none => exact lv_astoreN hexec hb hdg h hn hl kk
  | some a => exact lv_astore hexec hb hdg h hn hl kk
/-- null or not: the run's own branch -/
theorem zr_ifnull {α : Type} {o : Option Nat} {X : ZR α} {K : Nat → ZR α} {z : α × PH × Nat × Nat} (hexec : p.tables.exec = Jvm.exec) (hb : c.code = cc) {off : Int} {tgt : Nat} (hf : znul o X K = some z) (hdg : decode cc pc = .ok (.ifnull off, 3)) (ht : (pc : Int) + off = (tgt : Int))
    (kt : o = none → X = some z → W p l e R s m args below meth c H locs cells slots Q (F0 m tgt ls rest)) (kf : ∀ a, o = some a → K a = some z → W p l e R s m args below meth c H locs cells slots Q (F0 m (pc + 3) ls rest)) : W p l e R s m args below meth c H locs cells slots Q (F0 m pc ls (va_rf o :: rest)) := by
  cases o with
  | none => exact lv_ifnullN hexec hb hdg ht (kt rfl hf)
  | some a => exact lv_ifnull hexec hb hdg (kf a rfl hf)
theorem zr_ifnonnull {α : Type} {o : Option Nat} {X : ZR α} {K : Nat → ZR α} {z : α × PH × Nat × Nat} (hexec : p.tables.exec = Jvm.exec) (hb : c.code = cc) {off : Int} {tgt : Nat} (hf : znul o X K = some z) (hdg : decode cc pc = .ok (.ifnonnull off, 3)) (ht : (pc : Int) + off = (tgt : Int))
    (kt : o = none → X = some z → W p l e R s m args below meth c H locs cells slots Q (F0 m (pc + 3) ls rest)) (kf : ∀ a, o = some a → K a = some z → W p l e R s m args below meth c H locs cells slots Q (F0 m tgt ls rest)) : W p l e R s m args below meth c H locs cells slots Q (F0 m pc ls (va_rf o :: rest)) := by
  cases o with
  | none => exact lv_ifnonnullN hexec hb hdg (kt rfl hf)
  | some a => exact lv_ifnonnull hexec hb hdg ht (kf a rfl hf)
/-- an element of an array of references is written -/
theorem zr_sO {α : Type} {K : PH → ZR α} {z : α × PH × Nat × Nat} {i : Int32} {x : Option Nat} {ai : Nat} (h5 : 5 ≤ ai) (hc : zC D dA b0 gs own cc nL p c s m args meth) (hn : zM D dA b0 gs s h H locs) (hf : zsO h a ai i x K = some z) (hdg : decode cc pc = .ok (.aastore, 1))
    (kk : ∀ (h2 : PH) (H1 : Heap) (locs1 : List Loc), K h2 = some z → zM D dA b0 gs s h2 H1 locs1 → W p l e R s m args below meth c H1 locs1 cells slots Q (F0 m (pc + 1) ls rest)) : W p l e R s m args below meth c H locs cells slots Q (F0 m pc ls (va_rf x :: .int i :: .ref a :: rest)) := by
  unfold zsO at hf
  split at hf
  · rename_i hx
    unfold zsP at hf
    split at hf
    · rename_i hi
      obtain ⟨n, hn9, hin⟩ := zin_vp hi.1
      obtain ⟨cell, q1, q2, q3, q4, q5, q6⟩ := hn.arr hc hn9
      have q6 := q6 hi.2
      obtain ⟨C, hC⟩ := zEt_obj h5
      have hlt : i.toNatClampNeg < n := Nat.not_le.mp fun q => hin (Or.inr q)
      have fin : ∀ H1 : Heap, H1[a]? = some (cell.setSlot i.toNatClampNeg (va_rf x)) → H1.size = H.size → (∀ q, q ≠ a → H1[q]? = H[q]?) → zM D dA b0 gs s (zwP h a (zix i) x) H1 (locs ++ [⟨a, i.toNatClampNeg⟩]) := fun H1 e zz oq => by
        rw [q6] at e
        refine hn.ast hc (v := va_rf x) hi.2 rfl rfl rfl rfl (fun b hb ty j => zV_wP hb j) (fun j => ?_) hlt hn9 e zz oq
        by_cases hj : j = zix i
        · have hj2 : j = i.toNatClampNeg := hj
          rw [if_pos hj2, hj, hC]
          show va_rf (zP (zwP h a (zix i) x) a (zix i)) = _
          rw [zP_wP, up2_s]
        · have hj2 : ¬ j = i.toNatClampNeg := hj
          rw [if_neg hj2, zVk_wP hj]
      cases x with
      | none =>
        rw [hC] at q2
        exact va_WaastN (C := C) hc.x hc.b q1 q2 q3 (by rw [q4]; exact hin) rfl rfl hdg fun H1 e zz oq => kk _ H1 _ hf (fin H1 e zz oq)
      | some v =>
        have hx : (match zT h v with
          | some (.inl ci) => zcas ci ai
          | _ => false) = true := hx
        split at hx
        · rename_i ci hci
          obtain ⟨r, hr, hca⟩ : ∃ r : vw_C, vwCl[ci]? = some r ∧ ∀ comp : ClassId, s.vm.findClass C = some comp → s.vm.assignable (D.1 ci) comp = true := by
            have hm : (ci, ai) ∈ [(7, 5), (6, 6), (1, 7), (11, 9), (9, 9), (1, 9)] := of_decide_eq_true hx
            have own9 : ∀ r : vw_C, vwCl[ci]? = some r → r.1 = C → ∀ comp : ClassId, s.vm.findClass C = some comp → s.vm.assignable (D.1 ci) comp = true := fun r hr hrC comp hcomp => by
              have hk := (hc.k.1 ci r hr).2
              have e1 : comp = D.1 ci := by
                have h2 := hk.1
                rw [hrC, hcomp] at h2
                exact Option.some.inj h2
              rw [e1]
              exact va_assign hk
            have oth9 : ∀ r : vw_C, vwCl[ci]? = some r → va_Nw (.castable r.1 C) s → ∀ comp : ClassId, s.vm.findClass C = some comp → s.vm.assignable (D.1 ci) comp = true := fun r hr hw comp hcomp => by
              have hk := (hc.k.1 ci r hr).2
              obtain ⟨c0, t1, f1, f2, f3⟩ := Cond.castable_spec (va_Nw.use (A := args) rfl hw)
              cases hk.1.symm.trans f1
              cases hcomp.symm.trans f2
              exact f3
            simp only [List.mem_cons, Prod.mk.injEq, List.not_mem_nil, or_false] at hm
            rcases hm with ⟨rfl, rfl⟩ | ⟨rfl, rfl⟩ | ⟨rfl, rfl⟩ | ⟨rfl, rfl⟩ | ⟨rfl, rfl⟩ | ⟨rfl, rfl⟩ <;> cases hC
            · exact ⟨_, rfl, own9 _ rfl rfl⟩
            · exact ⟨_, rfl, own9 _ rfl rfl⟩
            · exact ⟨_, rfl, own9 _ rfl rfl⟩
            · exact ⟨_, rfl, oth9 _ rfl (hc.nC q2685)⟩
            · exact ⟨_, rfl, oth9 _ rfl (hc.nC q2680)⟩
            · exact ⟨_, rfl, oth9 _ rfl (hc.nC q2658)⟩
          obtain ⟨cellV, g1, g2, g3, -⟩ := hn.ob hci
          obtain ⟨-, -, kC, hkC, -⟩ := hc.k.1 ci r hr
          have hra := (hc.k.2 ai _ (zTys_at dA ai (hn.ar (zln_i hn9)).1)).2
          rw [hC] at hra
          obtain ⟨kA, comp, k1, k2, k3, -⟩ := hra
          obtain ⟨kE, hkE, -⟩ := Vm.findClass_spec k3
          obtain ⟨-, -, q7, q8, -⟩ := hn.ar (zln_i hn9)
          refine W.aast hc.x hc.b q1 (fun q hq => by rw [q6] at hq; cases hq) q3 (by rw [q6]; exact k1) k2 rfl hkE ⟨fun q => hin (Or.inl q), by rw [q4]; exact hlt⟩ g1 (z_nst g3.2.1) (by rw [g2]; exact hkC) (by rw [g2]; exact hca comp k3) rfl rfl hdg fun H1 e zz oq => kk _ H1 _ hf (fin H1 e zz oq)
        · cases hx
    · cases hf
  · cases hf
/-- the heap behind a new cell -/
theorem zM.push (hc : zC D dA b0 gs own cc nL p c s m args meth) (hn : zM D dA b0 gs s h H locs) {t : ZTy} {H' : Heap} (hs : H'.size = H.size + 1) (ho : ∀ b, b < H.size → H'[b]? = H[b]?) (hk : zOk D dA (znw h t) (zN h) t H') : zM D dA b0 gs s (znw h t) H' locs := by
  obtain ⟨n1, n2, n3, n4⟩ := hn
  exact ⟨n1.push t hs ho hk, n2, n3, ⟨Nat.le_trans n4.1 (by omega), fun q h1 h2 => (ho q (Nat.lt_of_lt_of_le h1 n4.1)).trans (n4.2.1 q h1 h2), n4.2.2⟩⟩
theorem zr_new {α : Type} {K : Nat → PH → ZR α} {r : α} {hh : PH} {C9 S9 fr lo mc ms : Nat} (hc : zC D dA b0 gs own cc nL p c s m args meth) (hn : zM D dA b0 gs s h H locs) (hq : cells + C9 = mc ∧ slots + S9 = ms) {C : String} {T : u_T} {N n9 ci index : Nat} (hcl : vwCl[ci]? = some (C, T, N)) (hN : zCn ci = N) (hin : ∀ w ∈ u_ws C T N, w ∈ lw_all) (hty : ∀ k, k < N → parseFieldDescriptor (T k).2.2.1 = some (zFt ci k)) (hlink : (Cond.classLink own index C) ∈ lw_all) (hinst : (Cond.instantiable C n9) ∈ lw_all) (hini : (Cond.initialized C) ∈ lw_all)
    (hz : ∀ k, k < N → ∀ h : PH, ∀ a : Nat, zI h a k = 0 → zP h a k = none → zL h a k = 0 → zV (zFt ci k) h a k = defaultValue (zFt ci k)) (hf : zno h ci n9 K = some (r, hh, C9, S9)) (hdg : decode cc pc = .ok (.new index, 3))
    (kk : ∀ (a2 : Nat) (h2 : PH) (H1 : Heap) (cells1 slots1 C1 S1 : Nat), K a2 h2 = some (r, hh, C1, S1) → cells1 + C1 = mc ∧ slots1 + S1 = ms → zM D dA b0 gs s h2 H1 locs → W p l e ({ frames := fr, cells := mc, slots := ms, locals := lo } : Room) s m args below meth c H1 locs cells1 slots1 Q (F0 m (pc + 3) ls (.ref a2 :: rest))) : W p l e ({ frames := fr, cells := mc, slots := ms, locals := lo } : Room) s m args below meth c H locs cells slots Q (F0 m pc ls rest) := by
  obtain ⟨C1, S1, hf1, e1, e2⟩ := zadd_i hf
  have hKn := hc.k.1 ci _ hcl
  refine W.newcK hc.x hc.b hc.ow (hc.ts _ hlink) (hc.ts _ hinst) (hc.ts _ hini) rfl hdg (by show cells + 1 ≤ mc; omega) (by show slots + n9 ≤ ms; omega) hKn.2.1 hn.1.1.symm fun H1 kC hkC e3 z1 o1 => ?_
  refine kk _ _ H1 _ _ C1 S1 hf1 ⟨by omega, by omega⟩ (hn.push hc (by rw [z1, hn.1.1]) (fun b hb => o1 b (by rw [hn.1.1]; exact hb)) ?_)
  refine zOB.of ((hN ▸ u_born (zFt ci) hc.ts hin hKn hkC e3 hty : t_OB (zN h) (D.1 ci) (zCn ci) (D.2 ci) H1 (fun k => defaultValue (zFt ci k))).to (fun k hk => (hz k (by rw [← hN]; exact hk) _ _ ?_ ?_ ?_).symm))
  · rw [zI_nw, up1_s]
  · rw [zP_nw, up1_s]
  · rw [zL_nw, up1_s]
theorem zV0 {h0 : PH} {ai : Nat} {a j : Nat} {ty : FieldType} (h : zEt ai = ty) (hi : zI h0 a j = 0) (hp : zP h0 a j = none) (hl : zL h0 a j = 0) : zV ty h0 a j = defaultValue ty := by
  subst h
  match ai with
  | 0 => show Value.int _ = _; rw [hi]; rfl
  | 1 => show Value.int _ = _; rw [hi]; rfl
  | 2 => show Value.int _ = _; rw [hi]; rfl
  | 3 => show Value.long _ = _; rw [hl]; rfl
  | 4 => show Value.double _ = _; rw [hl]; rfl
  | 5 => show va_rf _ = _; rw [hp]; rfl
  | 6 => show va_rf _ = _; rw [hp]; rfl
  | 7 => show va_rf _ = _; rw [hp]; rfl
  | 8 => show va_rf _ = _; rw [hp]; rfl
  | 9 => show va_rf _ = _; rw [hp]; rfl
  | n + 10 => show va_rf _ = _; rw [hp]; rfl
theorem zr_na0 {α : Type} {n : Int32} {K : Nat → PH → ZR α} {r : α} {hh : PH} {C9 S9 fr lo mc ms : Nat} (hc : zC D dA b0 gs own cc nL p c s m args meth) (hn : zM D dA b0 gs s h H locs) (hq : cells + C9 = mc ∧ slots + S9 = ms) (harr : (Cond.arrayClass FieldType.int) ∈ lw_all) (hf : zna h 0 n K = some (r, hh, C9, S9)) (hdg : decode cc pc = .ok (.newarray .int, 2))
    (kk : ∀ (a2 : Nat) (h2 : PH) (H1 : Heap) (cells1 slots1 C1 S1 : Nat), K a2 h2 = some (r, hh, C1, S1) → cells1 + C1 = mc ∧ slots1 + S1 = ms → zM D dA b0 gs s h2 H1 locs → W p l e ({ frames := fr, cells := mc, slots := ms, locals := lo } : Room) s m args below meth c H1 locs cells1 slots1 Q (F0 m (pc + 2) ls (.ref a2 :: rest))) : W p l e ({ frames := fr, cells := mc, slots := ms, locals := lo } : Room) s m args below meth c H locs cells slots Q (F0 m pc ls (.int n :: rest)) := by
  unfold zna at hf
  split at hf
  · rename_i hb
    obtain ⟨C1, S1, hf1, e1, e2⟩ := zadd_i hf
    have hz : zix n = n.toNatClampNeg := rfl
    refine va_newaK (atype := .int) hc.x hc.b (hc.ts _ harr) rfl hdg rfl (Int32.not_lt.mpr hb.1) rfl (Nat.le_trans (Nat.mul_le_mul_right _ hb.2) (by decide)) (by show cells + 1 ≤ mc; omega) (by show slots + _ ≤ ms; omega) hn.1.1.symm fun H1 cA e3 z1 o1 hAr hNm => ?_
    have hcA : cA = dA 0 := by
      have h1 := (hc.k.2 0 _ (zTys_at dA 0 (by decide))).2
      exact Option.some.inj (Eq.trans (Eq.symm hNm) h1)
    refine kk _ _ H1 _ _ C1 S1 hf1 ⟨by omega, by omega⟩ (hn.push hc (by rw [z1, hn.1.1]) (fun b hb => o1 b (by rw [hn.1.1]; exact hb)) ?_)
    rw [hcA] at e3
    have ef : (fun _ : Nat => defaultValue (newarray.typeOf .int)) = fun j => zV (zEt 0) (znw h (.inr (0, zix n))) (zN h) j := by
      funext j
      exact (zV0 (ai := 0) rfl (by rw [zI_nw, up1_s]) (by rw [zP_nw, up1_s]) (by rw [zL_nw, up1_s])).symm
    rw [ef] at e3
    exact ⟨by decide, _, e3, rfl, ⟨fun e => (by cases e), rfl⟩, arrV_size _ _ _, fun j hj => arrV_read _ _ hj, fun _ => rfl⟩
  · cases hf
theorem zr_na1 {α : Type} {n : Int32} {K : Nat → PH → ZR α} {r : α} {hh : PH} {C9 S9 fr lo mc ms : Nat} (hc : zC D dA b0 gs own cc nL p c s m args meth) (hn : zM D dA b0 gs s h H locs) (hq : cells + C9 = mc ∧ slots + S9 = ms) (harr : (Cond.arrayClass FieldType.boolean) ∈ lw_all) (hf : zna h 1 n K = some (r, hh, C9, S9)) (hdg : decode cc pc = .ok (.newarray .boolean, 2))
    (kk : ∀ (a2 : Nat) (h2 : PH) (H1 : Heap) (cells1 slots1 C1 S1 : Nat), K a2 h2 = some (r, hh, C1, S1) → cells1 + C1 = mc ∧ slots1 + S1 = ms → zM D dA b0 gs s h2 H1 locs → W p l e ({ frames := fr, cells := mc, slots := ms, locals := lo } : Room) s m args below meth c H1 locs cells1 slots1 Q (F0 m (pc + 2) ls (.ref a2 :: rest))) : W p l e ({ frames := fr, cells := mc, slots := ms, locals := lo } : Room) s m args below meth c H locs cells slots Q (F0 m pc ls (.int n :: rest)) := by
  unfold zna at hf
  split at hf
  · rename_i hb
    obtain ⟨C1, S1, hf1, e1, e2⟩ := zadd_i hf
    have hz : zix n = n.toNatClampNeg := rfl
    refine va_newaK (atype := .boolean) hc.x hc.b (hc.ts _ harr) rfl hdg rfl (Int32.not_lt.mpr hb.1) rfl (Nat.le_trans (Nat.mul_le_mul_right _ hb.2) (by decide)) (by show cells + 1 ≤ mc; omega) (by show slots + _ ≤ ms; omega) hn.1.1.symm fun H1 cA e3 z1 o1 hAr hNm => ?_
    have hcA : cA = dA 1 := by
      have h1 := (hc.k.2 1 _ (zTys_at dA 1 (by decide))).2
      exact Option.some.inj (Eq.trans (Eq.symm hNm) h1)
    refine kk _ _ H1 _ _ C1 S1 hf1 ⟨by omega, by omega⟩ (hn.push hc (by rw [z1, hn.1.1]) (fun b hb => o1 b (by rw [hn.1.1]; exact hb)) ?_)
    rw [hcA] at e3
    have ef : (fun _ : Nat => defaultValue (newarray.typeOf .boolean)) = fun j => zV (zEt 1) (znw h (.inr (1, zix n))) (zN h) j := by
      funext j
      exact (zV0 (ai := 1) rfl (by rw [zI_nw, up1_s]) (by rw [zP_nw, up1_s]) (by rw [zL_nw, up1_s])).symm
    rw [ef] at e3
    exact ⟨by decide, _, e3, rfl, ⟨fun e => (by cases e), rfl⟩, arrV_size _ _ _, fun j hj => arrV_read _ _ hj, fun _ => rfl⟩
  · cases hf
theorem zr_na2 {α : Type} {n : Int32} {K : Nat → PH → ZR α} {r : α} {hh : PH} {C9 S9 fr lo mc ms : Nat} (hc : zC D dA b0 gs own cc nL p c s m args meth) (hn : zM D dA b0 gs s h H locs) (hq : cells + C9 = mc ∧ slots + S9 = ms) (harr : (Cond.arrayClass FieldType.byte) ∈ lw_all) (hf : zna h 2 n K = some (r, hh, C9, S9)) (hdg : decode cc pc = .ok (.newarray .byte, 2))
    (kk : ∀ (a2 : Nat) (h2 : PH) (H1 : Heap) (cells1 slots1 C1 S1 : Nat), K a2 h2 = some (r, hh, C1, S1) → cells1 + C1 = mc ∧ slots1 + S1 = ms → zM D dA b0 gs s h2 H1 locs → W p l e ({ frames := fr, cells := mc, slots := ms, locals := lo } : Room) s m args below meth c H1 locs cells1 slots1 Q (F0 m (pc + 2) ls (.ref a2 :: rest))) : W p l e ({ frames := fr, cells := mc, slots := ms, locals := lo } : Room) s m args below meth c H locs cells slots Q (F0 m pc ls (.int n :: rest)) := by
  unfold zna at hf
  split at hf
  · rename_i hb
    obtain ⟨C1, S1, hf1, e1, e2⟩ := zadd_i hf
    have hz : zix n = n.toNatClampNeg := rfl
    refine va_newaK (atype := .byte) hc.x hc.b (hc.ts _ harr) rfl hdg rfl (Int32.not_lt.mpr hb.1) rfl (Nat.le_trans (Nat.mul_le_mul_right _ hb.2) (by decide)) (by show cells + 1 ≤ mc; omega) (by show slots + _ ≤ ms; omega) hn.1.1.symm fun H1 cA e3 z1 o1 hAr hNm => ?_
    have hcA : cA = dA 2 := by
      have h1 := (hc.k.2 2 _ (zTys_at dA 2 (by decide))).2
      exact Option.some.inj (Eq.trans (Eq.symm hNm) h1)
    refine kk _ _ H1 _ _ C1 S1 hf1 ⟨by omega, by omega⟩ (hn.push hc (by rw [z1, hn.1.1]) (fun b hb => o1 b (by rw [hn.1.1]; exact hb)) ?_)
    rw [hcA] at e3
    have ef : (fun _ : Nat => defaultValue (newarray.typeOf .byte)) = fun j => zV (zEt 2) (znw h (.inr (2, zix n))) (zN h) j := by
      funext j
      exact (zV0 (ai := 2) rfl (by rw [zI_nw, up1_s]) (by rw [zP_nw, up1_s]) (by rw [zL_nw, up1_s])).symm
    rw [ef] at e3
    exact ⟨by decide, _, e3, rfl, ⟨fun e => (by cases e), rfl⟩, arrV_size _ _ _, fun j hj => arrV_read _ _ hj, fun _ => rfl⟩
  · cases hf
theorem zr_na3 {α : Type} {n : Int32} {K : Nat → PH → ZR α} {r : α} {hh : PH} {C9 S9 fr lo mc ms : Nat} (hc : zC D dA b0 gs own cc nL p c s m args meth) (hn : zM D dA b0 gs s h H locs) (hq : cells + C9 = mc ∧ slots + S9 = ms) (harr : (Cond.arrayClass FieldType.long) ∈ lw_all) (hf : zna h 3 n K = some (r, hh, C9, S9)) (hdg : decode cc pc = .ok (.newarray .long, 2))
    (kk : ∀ (a2 : Nat) (h2 : PH) (H1 : Heap) (cells1 slots1 C1 S1 : Nat), K a2 h2 = some (r, hh, C1, S1) → cells1 + C1 = mc ∧ slots1 + S1 = ms → zM D dA b0 gs s h2 H1 locs → W p l e ({ frames := fr, cells := mc, slots := ms, locals := lo } : Room) s m args below meth c H1 locs cells1 slots1 Q (F0 m (pc + 2) ls (.ref a2 :: rest))) : W p l e ({ frames := fr, cells := mc, slots := ms, locals := lo } : Room) s m args below meth c H locs cells slots Q (F0 m pc ls (.int n :: rest)) := by
  unfold zna at hf
  split at hf
  · rename_i hb
    obtain ⟨C1, S1, hf1, e1, e2⟩ := zadd_i hf
    have hz : zix n = n.toNatClampNeg := rfl
    refine va_newaK (atype := .long) hc.x hc.b (hc.ts _ harr) rfl hdg rfl (Int32.not_lt.mpr hb.1) rfl (Nat.le_trans (Nat.mul_le_mul_right _ hb.2) (by decide)) (by show cells + 1 ≤ mc; omega) (by show slots + _ ≤ ms; omega) hn.1.1.symm fun H1 cA e3 z1 o1 hAr hNm => ?_
    have hcA : cA = dA 3 := by
      have h1 := (hc.k.2 3 _ (zTys_at dA 3 (by decide))).2
      exact Option.some.inj (Eq.trans (Eq.symm hNm) h1)
    refine kk _ _ H1 _ _ C1 S1 hf1 ⟨by omega, by omega⟩ (hn.push hc (by rw [z1, hn.1.1]) (fun b hb => o1 b (by rw [hn.1.1]; exact hb)) ?_)
    rw [hcA] at e3
    have ef : (fun _ : Nat => defaultValue (newarray.typeOf .long)) = fun j => zV (zEt 3) (znw h (.inr (3, zix n))) (zN h) j := by
      funext j
      exact (zV0 (ai := 3) rfl (by rw [zI_nw, up1_s]) (by rw [zP_nw, up1_s]) (by rw [zL_nw, up1_s])).symm
    rw [ef] at e3
    exact ⟨by decide, _, e3, rfl, ⟨fun e => (by cases e), rfl⟩, arrV_size _ _ _, fun j hj => arrV_read _ _ hj, fun _ => rfl⟩
  · cases hf
theorem zr_na4 {α : Type} {n : Int32} {K : Nat → PH → ZR α} {r : α} {hh : PH} {C9 S9 fr lo mc ms : Nat} (hc : zC D dA b0 gs own cc nL p c s m args meth) (hn : zM D dA b0 gs s h H locs) (hq : cells + C9 = mc ∧ slots + S9 = ms) (harr : (Cond.arrayClass FieldType.double) ∈ lw_all) (hf : zna h 4 n K = some (r, hh, C9, S9)) (hdg : decode cc pc = .ok (.newarray .double, 2))
    (kk : ∀ (a2 : Nat) (h2 : PH) (H1 : Heap) (cells1 slots1 C1 S1 : Nat), K a2 h2 = some (r, hh, C1, S1) → cells1 + C1 = mc ∧ slots1 + S1 = ms → zM D dA b0 gs s h2 H1 locs → W p l e ({ frames := fr, cells := mc, slots := ms, locals := lo } : Room) s m args below meth c H1 locs cells1 slots1 Q (F0 m (pc + 2) ls (.ref a2 :: rest))) : W p l e ({ frames := fr, cells := mc, slots := ms, locals := lo } : Room) s m args below meth c H locs cells slots Q (F0 m pc ls (.int n :: rest)) := by
  unfold zna at hf
  split at hf
  · rename_i hb
    obtain ⟨C1, S1, hf1, e1, e2⟩ := zadd_i hf
    have hz : zix n = n.toNatClampNeg := rfl
    refine va_newaK (atype := .double) hc.x hc.b (hc.ts _ harr) rfl hdg rfl (Int32.not_lt.mpr hb.1) rfl (Nat.le_trans (Nat.mul_le_mul_right _ hb.2) (by decide)) (by show cells + 1 ≤ mc; omega) (by show slots + _ ≤ ms; omega) hn.1.1.symm fun H1 cA e3 z1 o1 hAr hNm => ?_
    have hcA : cA = dA 4 := by
      have h1 := (hc.k.2 4 _ (zTys_at dA 4 (by decide))).2
      exact Option.some.inj (Eq.trans (Eq.symm hNm) h1)
    refine kk _ _ H1 _ _ C1 S1 hf1 ⟨by omega, by omega⟩ (hn.push hc (by rw [z1, hn.1.1]) (fun b hb => o1 b (by rw [hn.1.1]; exact hb)) ?_)
    rw [hcA] at e3
    have ef : (fun _ : Nat => defaultValue (newarray.typeOf .double)) = fun j => zV (zEt 4) (znw h (.inr (4, zix n))) (zN h) j := by
      funext j
      exact (zV0 (ai := 4) rfl (by rw [zI_nw, up1_s]) (by rw [zP_nw, up1_s]) (by rw [zL_nw, up1_s])).symm
    rw [ef] at e3
    exact ⟨by decide, _, e3, rfl, ⟨fun e => (by cases e), rfl⟩, arrV_size _ _ _, fun j hj => arrV_read _ _ hj, fun _ => rfl⟩
  · cases hf
theorem zr_nq {α : Type} {n : Int32} {K : Nat → PH → ZR α} {r : α} {hh : PH} {C9 S9 fr lo mc ms ai index : Nat} {C : String} (hc : zC D dA b0 gs own cc nL p c s m args meth) (hn : zM D dA b0 gs s h H locs) (hq : cells + C9 = mc ∧ slots + S9 = ms) (hai : ai < 11) (hC : zEt ai = .object C) (hlink : (Cond.classLink own index C) ∈ lw_all) (hover : (Cond.arrayOver (.object C)) ∈ lw_tbl) (hf : zna h ai n K = some (r, hh, C9, S9)) (hdg : decode cc pc = .ok (.anewarray index, 3))
    (kk : ∀ (a2 : Nat) (h2 : PH) (H1 : Heap) (cells1 slots1 C1 S1 : Nat), K a2 h2 = some (r, hh, C1, S1) → cells1 + C1 = mc ∧ slots1 + S1 = ms → zM D dA b0 gs s h2 H1 locs → W p l e ({ frames := fr, cells := mc, slots := ms, locals := lo } : Room) s m args below meth c H1 locs cells1 slots1 Q (F0 m (pc + 3) ls (.ref a2 :: rest))) : W p l e ({ frames := fr, cells := mc, slots := ms, locals := lo } : Room) s m args below meth c H locs cells slots Q (F0 m pc ls (.int n :: rest)) := by
  unfold zna at hf
  split at hf
  · rename_i hb
    obtain ⟨C1, S1, hf1, e1, e2⟩ := zadd_i hf
    have hz : zix n = n.toNatClampNeg := rfl
    refine W.anew hc.x hc.b hc.ow (hc.ts _ hlink) (va_AO.use (hc.nO hover)) rfl hdg rfl (Int32.not_lt.mpr hb.1) (Nat.le_trans (Nat.mul_le_mul_right _ hb.2) (by decide)) (by show cells + 1 ≤ mc; omega) (by show slots + _ ≤ ms; omega) fun cA kA comp f1 f2 f3 f4 => ?_
    have hcA : cA = dA ai := by
      have h1 := (hc.k.2 ai _ (zTys_at dA ai hai)).2
      rw [hC] at h1
      obtain ⟨kA9, comp9, k1, k2, k3, k4⟩ := h1
      exact Option.some.inj (f1.symm.trans k4)
    generalize hH1 : H.push ({ cls := cA, slots := Array.replicate n.toNatClampNeg .null, vm := .none } : Cell) = H1
    have z1 : H1.size = H.size + 1 := by rw [← hH1, Array.size_push]
    have e3 : H1[H.size]? = some (arrV cA n.toNatClampNeg (fun _ => .null)) := by rw [← hH1, Array.getElem?_push_size, ← arrV_new]
    have o1 : ∀ q : Nat, q < H.size → H1[q]? = H[q]? := fun q hq => by rw [← hH1, Array.getElem?_push, if_neg (Nat.ne_of_lt hq)]
    have hsz : H.size = zN h := hn.1.1.symm
    rw [hsz] at e3 ⊢
    refine kk _ _ H1 _ _ C1 S1 hf1 ⟨by omega, by omega⟩ (hn.push hc z1 o1 ?_)
    rw [hcA] at e3
    have ef : (fun _ : Nat => Value.null) = fun j => zV (zEt ai) (znw h (.inr (ai, zix n))) (zN h) j := by
      funext j
      refine Eq.trans ?_ (zV0 (ai := ai) rfl (by rw [zI_nw, up1_s]) (by rw [zP_nw, up1_s]) (by rw [zL_nw, up1_s])).symm
      rw [hC]
      rfl
    rw [ef] at e3
    exact ⟨hai, _, e3, rfl, ⟨fun e => (by cases e), rfl⟩, arrV_size _ _ _, fun j hj => arrV_read _ _ hj, fun _ => rfl⟩
  · cases hf
/-- casts -/
theorem zr_cast {α : Type} {K : ZR α} {z : α × PH × Nat × Nat} {o : Option Nat} {C nm : String} {T : u_T} {N ci index : Nat} (hc : zC D dA b0 gs own cc nL p c s m args meth) (hn : zM D dA b0 gs s h H locs) (hcl : vwCl[ci]? = some (C, T, N)) (hlink : (Cond.classLink own index nm) ∈ lw_all) (hok : nm = C ∨ (Cond.castable C nm) ∈ lw_tbl) (hf : zcast h ci o K = some z) (hdg : decode cc pc = .ok (.checkcast index, 3))
    (kk : K = some z → W p l e R s m args below meth c H locs cells slots Q (F0 m (pc + 3) ls (va_rf o :: rest))) : W p l e R s m args below meth c H locs cells slots Q (F0 m pc ls (va_rf o :: rest)) := by
  cases o with
  | none => exact lv_castN hc.x hc.b hdg (kk hf)
  | some v =>
    unfold zcast at hf
    simp only at hf
    split at hf
    · rename_i ht
      obtain ⟨cell, q1, q2, q3, -⟩ := hn.ob ht
      have hKn := (hc.k.1 ci _ hcl).2
      have hr : ∃ cell : Cell, H[v]? = some cell ∧ cell.vm.isStatics = false ∧ s.vm.findClass C = some cell.cls := ⟨cell, q1, q3.2.1, by rw [q2]; exact hKn.1⟩
      rcases hok with e | hw
      · subst e
        exact va_castS hc.x hc.b hc.ow (hc.ts _ hlink) hKn hr hdg (kk hf)
      · exact va_castY hc.x hc.b hc.ow (hc.ts _ hlink) (hc.nC hw) hr hdg (kk hf)
    · cases hf
/-! calls -/
theorem zW_blind {vs : List Value} : FrameBlind (va_Pc vs (zW D dA b0 gs h)) := fun a U g mk q => by
  obtain ⟨q0, w1, w2, w3, w4, w5, w6⟩ := q
  exact ⟨q0, w1, w2, w3, va_K.moved (u := U) (U := U.calling g mk a) (Vm.Alike.refl U.vm) w4, w5, w6⟩
theorem zM.pre {vs : List Value} (hc : zC D dA b0 gs own cc nL p c s m args meth) (hn : zM D dA b0 gs s h H locs) : ∀ U : State, U.heap = H → s.WarmedH U.vm → va_Pc vs (zW D dA b0 gs h) vs.toArray U := fun U hU hW => ⟨rfl, hn.w hc hU hW⟩
theorem zM.recv (hc : zC D dA b0 gs own cc nL p c s m args meth) (hn : zM D dA b0 gs s h H locs) {C : String} {T : u_T} {N ci b : Nat} (hcl : vwCl[ci]? = some (C, T, N)) (hb : zT h b = some (.inl ci)) : ∃ cell : Cell, H[b]? = some cell ∧ cell.vm.isStatics = false ∧ s.vm.findClass C = some cell.cls := by
  obtain ⟨cell, q1, q2, q3, -⟩ := hn.ob hb
  exact ⟨cell, q1, q3.2.1, by rw [q2]; exact (hc.k.1 ci _ hcl).2.1⟩
/-- behind a call -/
theorem zr_back {h1 : PH} {v : Option Value} {mc ms : Nat} {av : Array Value} {st0 : List Value} (hn : zM D dA b0 gs s h H locs) (hr : va_Run p l e R s m args below meth c H locs cells slots mc ms (F0 m pc ls st0) rest (zQ D dA b0 gs v h1 av) (zA b0))
    (kk : ∀ (H1 : Heap) (locs1 : List Loc), zM D dA b0 gs s h1 H1 locs1 → W p l e R s m args below meth c H1 locs1 (cells + mc) (slots + ms) Q (F0 m (pc + 3) ls (v.toList ++ rest))) : W p l e R s m args below meth c H locs cells slots Q (F0 m pc ls st0) := by
  intro T hT X
  obtain ⟨v9, st₀, t, T', L, h0, X', hL, e1, e2, ⟨hv, ⟨w1, w2, w3, -⟩, hz, hk⟩, st⟩ := hr T hT X
  cases hv
  rw [h0] at hz hk
  obtain ⟨-, -, -, n4⟩ := hn
  obtain ⟨t2, a1, b1⟩ := kk T'.heap (locs ++ L) ⟨by rw [e1]; exact w1, w2, w3, Nat.le_trans n4.1 (by rw [e1]; exact hz), fun q g1 g2 => by rw [e1, hk q (Nat.lt_of_lt_of_le g1 n4.1) g2]; exact n4.2.1 q g1 g2, fun q hq => by
      rcases List.mem_append.mp hq with g | g
      · exact n4.2.2 q g
      · exact hL q g⟩ T' rfl X'
  exact ⟨t2, st t2 a1, b1⟩
theorem zr_cVI {b ci N : Nat} {C : String} {T : u_T} {α : Type} {x : ZR Int32} {K : Int32 → PH → ZR α} {r : α} {hh : PH} {C9 S9 fr lo mc ms n maxL index fr1 lo1 : Nat} {y : MethodName} {bytes : ByteArray} {ret : Option FieldType} {As : List Value} {st0 : List Value} (hc : zC D dA b0 gs own cc nL p c s m args meth) (hn : zM D dA b0 gs s h H locs) (hq : cells + C9 = mc ∧ slots + S9 = ms) (hcl : vwCl[ci]? = some (C, T, N)) (hd : y.cls = C ∧ y.cls ≠ "java/lang/invoke/MethodHandle" ∧ y.cls ≠ "java/lang/invoke/VarHandle" ∧ (parseMethodDescriptor y.desc).map (fun d => d.parameters.length) = some n) (hw : GoodIn lw_all (wsV own index C y (ws_ y bytes maxL ret))) (hfr : fr1 + 1 ≤ fr) (hlo : 8 + (maxL + 11) + lo1 ≤ lo)
    (hM : ∀ r1 h1 c1 s1, x = some (r1, h1, c1, s1) → zMt l D dA b0 gs y bytes maxL ret fr1 lo1 (.ref b :: As) h (evI r1) h1 c1 s1) (hf : zrc h b ci (zcl x K) = some (r, hh, C9, S9)) (hdg : decode cc pc = .ok (.invokevirtual index, 3)) (hls : ls.size = nL) (hst : st0 = As.reverse ++ .ref b :: rest) (hnA : As.length = n) (hrm : (rest.map fun v => v.category).sum ≤ 8)
    (kk : ∀ (r1 : Int32) (h1 : PH) (H1 : Heap) (locs1 : List Loc) (cells1 slots1 C1 S1 : Nat), K r1 h1 = some (r, hh, C1, S1) → cells1 + C1 = mc ∧ slots1 + S1 = ms → zM D dA b0 gs s h1 H1 locs1 → W p l e ({ frames := fr, cells := mc, slots := ms, locals := lo } : Room) s m args below meth c H1 locs1 cells1 slots1 Q (F0 m (pc + 3) ls (.int r1 :: rest))) : W p l e ({ frames := fr, cells := mc, slots := ms, locals := lo } : Room) s m args below meth c H locs cells slots Q (F0 m pc ls st0) := by
  unfold zrc at hf
  split at hf
  · rename_i hb9
    obtain ⟨r1, h1, c1, s1, C1, S1, q1, q2, q3, q4⟩ := zcl_i hf
    exact zr_back hn (va_runV (As := As) (rest := rest) hc.1 (hM r1 h1 c1 s1 q1) (cwV n hc.ts hw rfl rfl rfl hd ⟨hfr, hlo⟩) ⟨zW_blind, hn.recv hc hcl hb9, hn.pre hc⟩ rfl hnA hls hst (lv_room hrm) hdg ⟨by show cells + c1 ≤ mc; omega, by show slots + s1 ≤ ms; omega⟩) (fun H1 locs1 hn1 => kk r1 h1 H1 locs1 _ _ C1 S1 q2 ⟨by omega, by omega⟩ hn1)
  · cases hf
theorem zr_cVNI {b ci N : Nat} {C host : String} {T : u_T} {α : Type} {x : ZR Int32} {K : Int32 → PH → ZR α} {r : α} {hh : PH} {C9 S9 fr lo mc ms n maxL index fr1 lo1 : Nat} {y : MethodName} {bytes : ByteArray} {ret : Option FieldType} {As : List Value} {st0 : List Value} (hc : zC D dA b0 gs own cc nL p c s m args meth) (hn : zM D dA b0 gs s h H locs) (hq : cells + C9 = mc ∧ slots + S9 = ms) (hcl : vwCl[ci]? = some (C, T, N)) (hd : y.cls ≠ "java/lang/invoke/MethodHandle" ∧ y.cls ≠ "java/lang/invoke/VarHandle" ∧ (parseMethodDescriptor y.desc).map (fun d => d.parameters.length) = some n) (hwm : GoodIn lw_all (ws_ y bytes maxL ret)) (hwl : (Cond.methodLinkNest own index y host) ∈ lw_tbl) (hwi : (Cond.instanceMethod y) ∈ lw_all) (hws : (Cond.selects C y y) ∈ lw_all) (hini : (Cond.initialized y.cls) ∈ lw_all) (hfr : fr1 + 1 ≤ fr) (hlo : 8 + (maxL + 11) + lo1 ≤ lo)
    (hM : ∀ r1 h1 c1 s1, x = some (r1, h1, c1, s1) → zMt l D dA b0 gs y bytes maxL ret fr1 lo1 (.ref b :: As) h (evI r1) h1 c1 s1) (hf : zrc h b ci (zcl x K) = some (r, hh, C9, S9)) (hdg : decode cc pc = .ok (.invokevirtual index, 3)) (hls : ls.size = nL) (hst : st0 = As.reverse ++ .ref b :: rest) (hnA : As.length = n) (hrm : (rest.map fun v => v.category).sum ≤ 8)
    (kk : ∀ (r1 : Int32) (h1 : PH) (H1 : Heap) (locs1 : List Loc) (cells1 slots1 C1 S1 : Nat), K r1 h1 = some (r, hh, C1, S1) → cells1 + C1 = mc ∧ slots1 + S1 = ms → zM D dA b0 gs s h1 H1 locs1 → W p l e ({ frames := fr, cells := mc, slots := ms, locals := lo } : Room) s m args below meth c H1 locs1 cells1 slots1 Q (F0 m (pc + 3) ls (.int r1 :: rest))) : W p l e ({ frames := fr, cells := mc, slots := ms, locals := lo } : Room) s m args below meth c H locs cells slots Q (F0 m pc ls st0) := by
  unfold zrc at hf
  split at hf
  · rename_i hb9
    obtain ⟨r1, h1, c1, s1, C1, S1, q1, q2, q3, q4⟩ := zcl_i hf
    exact zr_back hn (va_runVN (As := As) (rest := rest) hc.1 (hM r1 h1 c1 s1 q1) ⟨va_cnB n hc.ts hwm rfl rfl rfl (hc.nM hwl) (hc.ts _ hini) hd ⟨hfr, hlo⟩, hc.ts _ hwi, hc.ts _ hws⟩ ⟨zW_blind, hn.recv hc hcl hb9, hn.pre hc⟩ rfl hnA hls hst (lv_room hrm) hdg ⟨by show cells + c1 ≤ mc; omega, by show slots + s1 ≤ ms; omega⟩) (fun H1 locs1 hn1 => kk r1 h1 H1 locs1 _ _ C1 S1 q2 ⟨by omega, by omega⟩ hn1)
  · cases hf
theorem zr_cSI {α : Type} {x : ZR Int32} {K : Int32 → PH → ZR α} {r : α} {hh : PH} {C9 S9 fr lo mc ms n maxL index fr1 lo1 : Nat} {y : MethodName} {bytes : ByteArray} {ret : Option FieldType} {As : List Value} {st0 : List Value} (hc : zC D dA b0 gs own cc nL p c s m args meth) (hn : zM D dA b0 gs s h H locs) (hq : cells + C9 = mc ∧ slots + S9 = ms) (hd : y.cls ≠ "java/lang/invoke/MethodHandle" ∧ y.cls ≠ "java/lang/invoke/VarHandle" ∧ (parseMethodDescriptor y.desc).map (fun d => d.parameters.length) = some n) (hw : GoodIn lw_all (va_wsS own index y (ws_ y bytes maxL ret))) (hfr : fr1 + 1 ≤ fr) (hlo : 8 + (maxL + 11) + lo1 ≤ lo)
    (hM : ∀ r1 h1 c1 s1, x = some (r1, h1, c1, s1) → zMt l D dA b0 gs y bytes maxL ret fr1 lo1 As h (evI r1) h1 c1 s1) (hf : zcl x K = some (r, hh, C9, S9)) (hdg : decode cc pc = .ok (.invokestatic index, 3)) (hls : ls.size = nL) (hst : st0 = As.reverse ++ rest) (hnA : As.length = n) (hrm : (rest.map fun v => v.category).sum ≤ 8)
    (kk : ∀ (r1 : Int32) (h1 : PH) (H1 : Heap) (locs1 : List Loc) (cells1 slots1 C1 S1 : Nat), K r1 h1 = some (r, hh, C1, S1) → cells1 + C1 = mc ∧ slots1 + S1 = ms → zM D dA b0 gs s h1 H1 locs1 → W p l e ({ frames := fr, cells := mc, slots := ms, locals := lo } : Room) s m args below meth c H1 locs1 cells1 slots1 Q (F0 m (pc + 3) ls (.int r1 :: rest))) : W p l e ({ frames := fr, cells := mc, slots := ms, locals := lo } : Room) s m args below meth c H locs cells slots Q (F0 m pc ls st0) := by
  obtain ⟨r1, h1, c1, s1, C1, S1, q1, q2, q3, q4⟩ := zcl_i hf
  exact zr_back hn (va_runS (As := As) (rest := rest) hc.1 (hM r1 h1 c1 s1 q1) (va_cwS n hc.ts hw rfl rfl rfl hd ⟨hfr, hlo⟩) ⟨zW_blind, hn.pre hc⟩ rfl hnA hls hst (lv_room hrm) hdg ⟨by show cells + c1 ≤ mc; omega, by show slots + s1 ≤ ms; omega⟩) (fun H1 locs1 hn1 => kk r1 h1 H1 locs1 _ _ C1 S1 q2 ⟨by omega, by omega⟩ hn1)
theorem zr_cSNI {host : String} {α : Type} {x : ZR Int32} {K : Int32 → PH → ZR α} {r : α} {hh : PH} {C9 S9 fr lo mc ms n maxL index fr1 lo1 : Nat} {y : MethodName} {bytes : ByteArray} {ret : Option FieldType} {As : List Value} {st0 : List Value} (hc : zC D dA b0 gs own cc nL p c s m args meth) (hn : zM D dA b0 gs s h H locs) (hq : cells + C9 = mc ∧ slots + S9 = ms) (hd : y.cls ≠ "java/lang/invoke/MethodHandle" ∧ y.cls ≠ "java/lang/invoke/VarHandle" ∧ (parseMethodDescriptor y.desc).map (fun d => d.parameters.length) = some n) (hwm : GoodIn lw_all (ws_ y bytes maxL ret)) (hwl : (Cond.methodLinkNest own index y host) ∈ lw_tbl) (hws : (Cond.static y) ∈ lw_all) (hini : (Cond.initialized y.cls) ∈ lw_all) (hfr : fr1 + 1 ≤ fr) (hlo : 8 + (maxL + 11) + lo1 ≤ lo)
    (hM : ∀ r1 h1 c1 s1, x = some (r1, h1, c1, s1) → zMt l D dA b0 gs y bytes maxL ret fr1 lo1 As h (evI r1) h1 c1 s1) (hf : zcl x K = some (r, hh, C9, S9)) (hdg : decode cc pc = .ok (.invokestatic index, 3)) (hls : ls.size = nL) (hst : st0 = As.reverse ++ rest) (hnA : As.length = n) (hrm : (rest.map fun v => v.category).sum ≤ 8)
    (kk : ∀ (r1 : Int32) (h1 : PH) (H1 : Heap) (locs1 : List Loc) (cells1 slots1 C1 S1 : Nat), K r1 h1 = some (r, hh, C1, S1) → cells1 + C1 = mc ∧ slots1 + S1 = ms → zM D dA b0 gs s h1 H1 locs1 → W p l e ({ frames := fr, cells := mc, slots := ms, locals := lo } : Room) s m args below meth c H1 locs1 cells1 slots1 Q (F0 m (pc + 3) ls (.int r1 :: rest))) : W p l e ({ frames := fr, cells := mc, slots := ms, locals := lo } : Room) s m args below meth c H locs cells slots Q (F0 m pc ls st0) := by
  obtain ⟨r1, h1, c1, s1, C1, S1, q1, q2, q3, q4⟩ := zcl_i hf
  exact zr_back hn (va_runSN (As := As) (rest := rest) hc.1 (hM r1 h1 c1 s1 q1) ⟨va_cnB n hc.ts hwm rfl rfl rfl (hc.nM hwl) (hc.ts _ hini) hd ⟨hfr, hlo⟩, hc.ts _ hws, trivial⟩ ⟨zW_blind, hn.pre hc⟩ rfl hnA hls hst (lv_room hrm) hdg ⟨by show cells + c1 ≤ mc; omega, by show slots + s1 ≤ ms; omega⟩) (fun H1 locs1 hn1 => kk r1 h1 H1 locs1 _ _ C1 S1 q2 ⟨by omega, by omega⟩ hn1)
theorem zr_cVP {b ci N : Nat} {C : String} {T : u_T} {α : Type} {x : ZR (Option Nat)} {K : Option Nat → PH → ZR α} {r : α} {hh : PH} {C9 S9 fr lo mc ms n maxL index fr1 lo1 : Nat} {y : MethodName} {bytes : ByteArray} {ret : Option FieldType} {As : List Value} {st0 : List Value} (hc : zC D dA b0 gs own cc nL p c s m args meth) (hn : zM D dA b0 gs s h H locs) (hq : cells + C9 = mc ∧ slots + S9 = ms) (hcl : vwCl[ci]? = some (C, T, N)) (hd : y.cls = C ∧ y.cls ≠ "java/lang/invoke/MethodHandle" ∧ y.cls ≠ "java/lang/invoke/VarHandle" ∧ (parseMethodDescriptor y.desc).map (fun d => d.parameters.length) = some n) (hw : GoodIn lw_all (wsV own index C y (ws_ y bytes maxL ret))) (hfr : fr1 + 1 ≤ fr) (hlo : 8 + (maxL + 11) + lo1 ≤ lo)
    (hM : ∀ r1 h1 c1 s1, x = some (r1, h1, c1, s1) → zMt l D dA b0 gs y bytes maxL ret fr1 lo1 (.ref b :: As) h (evP r1) h1 c1 s1) (hf : zrc h b ci (zcl x K) = some (r, hh, C9, S9)) (hdg : decode cc pc = .ok (.invokevirtual index, 3)) (hls : ls.size = nL) (hst : st0 = As.reverse ++ .ref b :: rest) (hnA : As.length = n) (hrm : (rest.map fun v => v.category).sum ≤ 8)
    (kk : ∀ (r1 : Option Nat) (h1 : PH) (H1 : Heap) (locs1 : List Loc) (cells1 slots1 C1 S1 : Nat), K r1 h1 = some (r, hh, C1, S1) → cells1 + C1 = mc ∧ slots1 + S1 = ms → zM D dA b0 gs s h1 H1 locs1 → W p l e ({ frames := fr, cells := mc, slots := ms, locals := lo } : Room) s m args below meth c H1 locs1 cells1 slots1 Q (F0 m (pc + 3) ls (va_rf r1 :: rest))) : W p l e ({ frames := fr, cells := mc, slots := ms, locals := lo } : Room) s m args below meth c H locs cells slots Q (F0 m pc ls st0) := by
  unfold zrc at hf
  split at hf
  · rename_i hb9
    obtain ⟨r1, h1, c1, s1, C1, S1, q1, q2, q3, q4⟩ := zcl_i hf
    exact zr_back hn (va_runV (As := As) (rest := rest) hc.1 (hM r1 h1 c1 s1 q1) (cwV n hc.ts hw rfl rfl rfl hd ⟨hfr, hlo⟩) ⟨zW_blind, hn.recv hc hcl hb9, hn.pre hc⟩ rfl hnA hls hst (lv_room hrm) hdg ⟨by show cells + c1 ≤ mc; omega, by show slots + s1 ≤ ms; omega⟩) (fun H1 locs1 hn1 => kk r1 h1 H1 locs1 _ _ C1 S1 q2 ⟨by omega, by omega⟩ hn1)
  · cases hf
theorem zr_cVNP {b ci N : Nat} {C host : String} {T : u_T} {α : Type} {x : ZR (Option Nat)} {K : Option Nat → PH → ZR α} {r : α} {hh : PH} {C9 S9 fr lo mc ms n maxL index fr1 lo1 : Nat} {y : MethodName} {bytes : ByteArray} {ret : Option FieldType} {As : List Value} {st0 : List Value} (hc : zC D dA b0 gs own cc nL p c s m args meth) (hn : zM D dA b0 gs s h H locs) (hq : cells + C9 = mc ∧ slots + S9 = ms) (hcl : vwCl[ci]? = some (C, T, N)) (hd : y.cls ≠ "java/lang/invoke/MethodHandle" ∧ y.cls ≠ "java/lang/invoke/VarHandle" ∧ (parseMethodDescriptor y.desc).map (fun d => d.parameters.length) = some n) (hwm : GoodIn lw_all (ws_ y bytes maxL ret)) (hwl : (Cond.methodLinkNest own index y host) ∈ lw_tbl) (hwi : (Cond.instanceMethod y) ∈ lw_all) (hws : (Cond.selects C y y) ∈ lw_all) (hini : (Cond.initialized y.cls) ∈ lw_all) (hfr : fr1 + 1 ≤ fr) (hlo : 8 + (maxL + 11) + lo1 ≤ lo)
    (hM : ∀ r1 h1 c1 s1, x = some (r1, h1, c1, s1) → zMt l D dA b0 gs y bytes maxL ret fr1 lo1 (.ref b :: As) h (evP r1) h1 c1 s1) (hf : zrc h b ci (zcl x K) = some (r, hh, C9, S9)) (hdg : decode cc pc = .ok (.invokevirtual index, 3)) (hls : ls.size = nL) (hst : st0 = As.reverse ++ .ref b :: rest) (hnA : As.length = n) (hrm : (rest.map fun v => v.category).sum ≤ 8)
    (kk : ∀ (r1 : Option Nat) (h1 : PH) (H1 : Heap) (locs1 : List Loc) (cells1 slots1 C1 S1 : Nat), K r1 h1 = some (r, hh, C1, S1) → cells1 + C1 = mc ∧ slots1 + S1 = ms → zM D dA b0 gs s h1 H1 locs1 → W p l e ({ frames := fr, cells := mc, slots := ms, locals := lo } : Room) s m args below meth c H1 locs1 cells1 slots1 Q (F0 m (pc + 3) ls (va_rf r1 :: rest))) : W p l e ({ frames := fr, cells := mc, slots := ms, locals := lo } : Room) s m args below meth c H locs cells slots Q (F0 m pc ls st0) := by
  unfold zrc at hf
  split at hf
  · rename_i hb9
    obtain ⟨r1, h1, c1, s1, C1, S1, q1, q2, q3, q4⟩ := zcl_i hf
    exact zr_back hn (va_runVN (As := As) (rest := rest) hc.1 (hM r1 h1 c1 s1 q1) ⟨va_cnB n hc.ts hwm rfl rfl rfl (hc.nM hwl) (hc.ts _ hini) hd ⟨hfr, hlo⟩, hc.ts _ hwi, hc.ts _ hws⟩ ⟨zW_blind, hn.recv hc hcl hb9, hn.pre hc⟩ rfl hnA hls hst (lv_room hrm) hdg ⟨by show cells + c1 ≤ mc; omega, by show slots + s1 ≤ ms; omega⟩) (fun H1 locs1 hn1 => kk r1 h1 H1 locs1 _ _ C1 S1 q2 ⟨by omega, by omega⟩ hn1)
  · cases hf
theorem zr_cSP {α : Type} {x : ZR (Option Nat)} {K : Option Nat → PH → ZR α} {r : α} {hh : PH} {C9 S9 fr lo mc ms n maxL index fr1 lo1 : Nat} {y : MethodName} {bytes : ByteArray} {ret : Option FieldType} {As : List Value} {st0 : List Value} (hc : zC D dA b0 gs own cc nL p c s m args meth) (hn : zM D dA b0 gs s h H locs) (hq : cells + C9 = mc ∧ slots + S9 = ms) (hd : y.cls ≠ "java/lang/invoke/MethodHandle" ∧ y.cls ≠ "java/lang/invoke/VarHandle" ∧ (parseMethodDescriptor y.desc).map (fun d => d.parameters.length) = some n) (hw : GoodIn lw_all (va_wsS own index y (ws_ y bytes maxL ret))) (hfr : fr1 + 1 ≤ fr) (hlo : 8 + (maxL + 11) + lo1 ≤ lo)
    (hM : ∀ r1 h1 c1 s1, x = some (r1, h1, c1, s1) → zMt l D dA b0 gs y bytes maxL ret fr1 lo1 As h (evP r1) h1 c1 s1) (hf : zcl x K = some (r, hh, C9, S9)) (hdg : decode cc pc = .ok (.invokestatic index, 3)) (hls : ls.size = nL) (hst : st0 = As.reverse ++ rest) (hnA : As.length = n) (hrm : (rest.map fun v => v.category).sum ≤ 8)
    (kk : ∀ (r1 : Option Nat) (h1 : PH) (H1 : Heap) (locs1 : List Loc) (cells1 slots1 C1 S1 : Nat), K r1 h1 = some (r, hh, C1, S1) → cells1 + C1 = mc ∧ slots1 + S1 = ms → zM D dA b0 gs s h1 H1 locs1 → W p l e ({ frames := fr, cells := mc, slots := ms, locals := lo } : Room) s m args below meth c H1 locs1 cells1 slots1 Q (F0 m (pc + 3) ls (va_rf r1 :: rest))) : W p l e ({ frames := fr, cells := mc, slots := ms, locals := lo } : Room) s m args below meth c H locs cells slots Q (F0 m pc ls st0) := by
  obtain ⟨r1, h1, c1, s1, C1, S1, q1, q2, q3, q4⟩ := zcl_i hf
  exact zr_back hn (va_runS (As := As) (rest := rest) hc.1 (hM r1 h1 c1 s1 q1) (va_cwS n hc.ts hw rfl rfl rfl hd ⟨hfr, hlo⟩) ⟨zW_blind, hn.pre hc⟩ rfl hnA hls hst (lv_room hrm) hdg ⟨by show cells + c1 ≤ mc; omega, by show slots + s1 ≤ ms; omega⟩) (fun H1 locs1 hn1 => kk r1 h1 H1 locs1 _ _ C1 S1 q2 ⟨by omega, by omega⟩ hn1)
theorem zr_cSNP {host : String} {α : Type} {x : ZR (Option Nat)} {K : Option Nat → PH → ZR α} {r : α} {hh : PH} {C9 S9 fr lo mc ms n maxL index fr1 lo1 : Nat} {y : MethodName} {bytes : ByteArray} {ret : Option FieldType} {As : List Value} {st0 : List Value} (hc : zC D dA b0 gs own cc nL p c s m args meth) (hn : zM D dA b0 gs s h H locs) (hq : cells + C9 = mc ∧ slots + S9 = ms) (hd : y.cls ≠ "java/lang/invoke/MethodHandle" ∧ y.cls ≠ "java/lang/invoke/VarHandle" ∧ (parseMethodDescriptor y.desc).map (fun d => d.parameters.length) = some n) (hwm : GoodIn lw_all (ws_ y bytes maxL ret)) (hwl : (Cond.methodLinkNest own index y host) ∈ lw_tbl) (hws : (Cond.static y) ∈ lw_all) (hini : (Cond.initialized y.cls) ∈ lw_all) (hfr : fr1 + 1 ≤ fr) (hlo : 8 + (maxL + 11) + lo1 ≤ lo)
    (hM : ∀ r1 h1 c1 s1, x = some (r1, h1, c1, s1) → zMt l D dA b0 gs y bytes maxL ret fr1 lo1 As h (evP r1) h1 c1 s1) (hf : zcl x K = some (r, hh, C9, S9)) (hdg : decode cc pc = .ok (.invokestatic index, 3)) (hls : ls.size = nL) (hst : st0 = As.reverse ++ rest) (hnA : As.length = n) (hrm : (rest.map fun v => v.category).sum ≤ 8)
    (kk : ∀ (r1 : Option Nat) (h1 : PH) (H1 : Heap) (locs1 : List Loc) (cells1 slots1 C1 S1 : Nat), K r1 h1 = some (r, hh, C1, S1) → cells1 + C1 = mc ∧ slots1 + S1 = ms → zM D dA b0 gs s h1 H1 locs1 → W p l e ({ frames := fr, cells := mc, slots := ms, locals := lo } : Room) s m args below meth c H1 locs1 cells1 slots1 Q (F0 m (pc + 3) ls (va_rf r1 :: rest))) : W p l e ({ frames := fr, cells := mc, slots := ms, locals := lo } : Room) s m args below meth c H locs cells slots Q (F0 m pc ls st0) := by
  obtain ⟨r1, h1, c1, s1, C1, S1, q1, q2, q3, q4⟩ := zcl_i hf
  exact zr_back hn (va_runSN (As := As) (rest := rest) hc.1 (hM r1 h1 c1 s1 q1) ⟨va_cnB n hc.ts hwm rfl rfl rfl (hc.nM hwl) (hc.ts _ hini) hd ⟨hfr, hlo⟩, hc.ts _ hws, trivial⟩ ⟨zW_blind, hn.pre hc⟩ rfl hnA hls hst (lv_room hrm) hdg ⟨by show cells + c1 ≤ mc; omega, by show slots + s1 ≤ ms; omega⟩) (fun H1 locs1 hn1 => kk r1 h1 H1 locs1 _ _ C1 S1 q2 ⟨by omega, by omega⟩ hn1)
theorem zr_cVN {b ci N : Nat} {C : String} {T : u_T} {α : Type} {x : ZR Nat} {K : Nat → PH → ZR α} {r : α} {hh : PH} {C9 S9 fr lo mc ms n maxL index fr1 lo1 : Nat} {y : MethodName} {bytes : ByteArray} {ret : Option FieldType} {As : List Value} {st0 : List Value} (hc : zC D dA b0 gs own cc nL p c s m args meth) (hn : zM D dA b0 gs s h H locs) (hq : cells + C9 = mc ∧ slots + S9 = ms) (hcl : vwCl[ci]? = some (C, T, N)) (hd : y.cls = C ∧ y.cls ≠ "java/lang/invoke/MethodHandle" ∧ y.cls ≠ "java/lang/invoke/VarHandle" ∧ (parseMethodDescriptor y.desc).map (fun d => d.parameters.length) = some n) (hw : GoodIn lw_all (wsV own index C y (ws_ y bytes maxL ret))) (hfr : fr1 + 1 ≤ fr) (hlo : 8 + (maxL + 11) + lo1 ≤ lo)
    (hM : ∀ r1 h1 c1 s1, x = some (r1, h1, c1, s1) → zMt l D dA b0 gs y bytes maxL ret fr1 lo1 (.ref b :: As) h (evN r1) h1 c1 s1) (hf : zrc h b ci (zcl x K) = some (r, hh, C9, S9)) (hdg : decode cc pc = .ok (.invokevirtual index, 3)) (hls : ls.size = nL) (hst : st0 = As.reverse ++ .ref b :: rest) (hnA : As.length = n) (hrm : (rest.map fun v => v.category).sum ≤ 8)
    (kk : ∀ (r1 : Nat) (h1 : PH) (H1 : Heap) (locs1 : List Loc) (cells1 slots1 C1 S1 : Nat), K r1 h1 = some (r, hh, C1, S1) → cells1 + C1 = mc ∧ slots1 + S1 = ms → zM D dA b0 gs s h1 H1 locs1 → W p l e ({ frames := fr, cells := mc, slots := ms, locals := lo } : Room) s m args below meth c H1 locs1 cells1 slots1 Q (F0 m (pc + 3) ls (.ref r1 :: rest))) : W p l e ({ frames := fr, cells := mc, slots := ms, locals := lo } : Room) s m args below meth c H locs cells slots Q (F0 m pc ls st0) := by
  unfold zrc at hf
  split at hf
  · rename_i hb9
    obtain ⟨r1, h1, c1, s1, C1, S1, q1, q2, q3, q4⟩ := zcl_i hf
    exact zr_back hn (va_runV (As := As) (rest := rest) hc.1 (hM r1 h1 c1 s1 q1) (cwV n hc.ts hw rfl rfl rfl hd ⟨hfr, hlo⟩) ⟨zW_blind, hn.recv hc hcl hb9, hn.pre hc⟩ rfl hnA hls hst (lv_room hrm) hdg ⟨by show cells + c1 ≤ mc; omega, by show slots + s1 ≤ ms; omega⟩) (fun H1 locs1 hn1 => kk r1 h1 H1 locs1 _ _ C1 S1 q2 ⟨by omega, by omega⟩ hn1)
  · cases hf
theorem zr_cVNN {b ci N : Nat} {C host : String} {T : u_T} {α : Type} {x : ZR Nat} {K : Nat → PH → ZR α} {r : α} {hh : PH} {C9 S9 fr lo mc ms n maxL index fr1 lo1 : Nat} {y : MethodName} {bytes : ByteArray} {ret : Option FieldType} {As : List Value} {st0 : List Value} (hc : zC D dA b0 gs own cc nL p c s m args meth) (hn : zM D dA b0 gs s h H locs) (hq : cells + C9 = mc ∧ slots + S9 = ms) (hcl : vwCl[ci]? = some (C, T, N)) (hd : y.cls ≠ "java/lang/invoke/MethodHandle" ∧ y.cls ≠ "java/lang/invoke/VarHandle" ∧ (parseMethodDescriptor y.desc).map (fun d => d.parameters.length) = some n) (hwm : GoodIn lw_all (ws_ y bytes maxL ret)) (hwl : (Cond.methodLinkNest own index y host) ∈ lw_tbl) (hwi : (Cond.instanceMethod y) ∈ lw_all) (hws : (Cond.selects C y y) ∈ lw_all) (hini : (Cond.initialized y.cls) ∈ lw_all) (hfr : fr1 + 1 ≤ fr) (hlo : 8 + (maxL + 11) + lo1 ≤ lo)
    (hM : ∀ r1 h1 c1 s1, x = some (r1, h1, c1, s1) → zMt l D dA b0 gs y bytes maxL ret fr1 lo1 (.ref b :: As) h (evN r1) h1 c1 s1) (hf : zrc h b ci (zcl x K) = some (r, hh, C9, S9)) (hdg : decode cc pc = .ok (.invokevirtual index, 3)) (hls : ls.size = nL) (hst : st0 = As.reverse ++ .ref b :: rest) (hnA : As.length = n) (hrm : (rest.map fun v => v.category).sum ≤ 8)
    (kk : ∀ (r1 : Nat) (h1 : PH) (H1 : Heap) (locs1 : List Loc) (cells1 slots1 C1 S1 : Nat), K r1 h1 = some (r, hh, C1, S1) → cells1 + C1 = mc ∧ slots1 + S1 = ms → zM D dA b0 gs s h1 H1 locs1 → W p l e ({ frames := fr, cells := mc, slots := ms, locals := lo } : Room) s m args below meth c H1 locs1 cells1 slots1 Q (F0 m (pc + 3) ls (.ref r1 :: rest))) : W p l e ({ frames := fr, cells := mc, slots := ms, locals := lo } : Room) s m args below meth c H locs cells slots Q (F0 m pc ls st0) := by
  unfold zrc at hf
  split at hf
  · rename_i hb9
    obtain ⟨r1, h1, c1, s1, C1, S1, q1, q2, q3, q4⟩ := zcl_i hf
    exact zr_back hn (va_runVN (As := As) (rest := rest) hc.1 (hM r1 h1 c1 s1 q1) ⟨va_cnB n hc.ts hwm rfl rfl rfl (hc.nM hwl) (hc.ts _ hini) hd ⟨hfr, hlo⟩, hc.ts _ hwi, hc.ts _ hws⟩ ⟨zW_blind, hn.recv hc hcl hb9, hn.pre hc⟩ rfl hnA hls hst (lv_room hrm) hdg ⟨by show cells + c1 ≤ mc; omega, by show slots + s1 ≤ ms; omega⟩) (fun H1 locs1 hn1 => kk r1 h1 H1 locs1 _ _ C1 S1 q2 ⟨by omega, by omega⟩ hn1)
  · cases hf
theorem zr_cSN {α : Type} {x : ZR Nat} {K : Nat → PH → ZR α} {r : α} {hh : PH} {C9 S9 fr lo mc ms n maxL index fr1 lo1 : Nat} {y : MethodName} {bytes : ByteArray} {ret : Option FieldType} {As : List Value} {st0 : List Value} (hc : zC D dA b0 gs own cc nL p c s m args meth) (hn : zM D dA b0 gs s h H locs) (hq : cells + C9 = mc ∧ slots + S9 = ms) (hd : y.cls ≠ "java/lang/invoke/MethodHandle" ∧ y.cls ≠ "java/lang/invoke/VarHandle" ∧ (parseMethodDescriptor y.desc).map (fun d => d.parameters.length) = some n) (hw : GoodIn lw_all (va_wsS own index y (ws_ y bytes maxL ret))) (hfr : fr1 + 1 ≤ fr) (hlo : 8 + (maxL + 11) + lo1 ≤ lo)
    (hM : ∀ r1 h1 c1 s1, x = some (r1, h1, c1, s1) → zMt l D dA b0 gs y bytes maxL ret fr1 lo1 As h (evN r1) h1 c1 s1) (hf : zcl x K = some (r, hh, C9, S9)) (hdg : decode cc pc = .ok (.invokestatic index, 3)) (hls : ls.size = nL) (hst : st0 = As.reverse ++ rest) (hnA : As.length = n) (hrm : (rest.map fun v => v.category).sum ≤ 8)
    (kk : ∀ (r1 : Nat) (h1 : PH) (H1 : Heap) (locs1 : List Loc) (cells1 slots1 C1 S1 : Nat), K r1 h1 = some (r, hh, C1, S1) → cells1 + C1 = mc ∧ slots1 + S1 = ms → zM D dA b0 gs s h1 H1 locs1 → W p l e ({ frames := fr, cells := mc, slots := ms, locals := lo } : Room) s m args below meth c H1 locs1 cells1 slots1 Q (F0 m (pc + 3) ls (.ref r1 :: rest))) : W p l e ({ frames := fr, cells := mc, slots := ms, locals := lo } : Room) s m args below meth c H locs cells slots Q (F0 m pc ls st0) := by
  obtain ⟨r1, h1, c1, s1, C1, S1, q1, q2, q3, q4⟩ := zcl_i hf
  exact zr_back hn (va_runS (As := As) (rest := rest) hc.1 (hM r1 h1 c1 s1 q1) (va_cwS n hc.ts hw rfl rfl rfl hd ⟨hfr, hlo⟩) ⟨zW_blind, hn.pre hc⟩ rfl hnA hls hst (lv_room hrm) hdg ⟨by show cells + c1 ≤ mc; omega, by show slots + s1 ≤ ms; omega⟩) (fun H1 locs1 hn1 => kk r1 h1 H1 locs1 _ _ C1 S1 q2 ⟨by omega, by omega⟩ hn1)
theorem zr_cSNN {host : String} {α : Type} {x : ZR Nat} {K : Nat → PH → ZR α} {r : α} {hh : PH} {C9 S9 fr lo mc ms n maxL index fr1 lo1 : Nat} {y : MethodName} {bytes : ByteArray} {ret : Option FieldType} {As : List Value} {st0 : List Value} (hc : zC D dA b0 gs own cc nL p c s m args meth) (hn : zM D dA b0 gs s h H locs) (hq : cells + C9 = mc ∧ slots + S9 = ms) (hd : y.cls ≠ "java/lang/invoke/MethodHandle" ∧ y.cls ≠ "java/lang/invoke/VarHandle" ∧ (parseMethodDescriptor y.desc).map (fun d => d.parameters.length) = some n) (hwm : GoodIn lw_all (ws_ y bytes maxL ret)) (hwl : (Cond.methodLinkNest own index y host) ∈ lw_tbl) (hws : (Cond.static y) ∈ lw_all) (hini : (Cond.initialized y.cls) ∈ lw_all) (hfr : fr1 + 1 ≤ fr) (hlo : 8 + (maxL + 11) + lo1 ≤ lo)
    (hM : ∀ r1 h1 c1 s1, x = some (r1, h1, c1, s1) → zMt l D dA b0 gs y bytes maxL ret fr1 lo1 As h (evN r1) h1 c1 s1) (hf : zcl x K = some (r, hh, C9, S9)) (hdg : decode cc pc = .ok (.invokestatic index, 3)) (hls : ls.size = nL) (hst : st0 = As.reverse ++ rest) (hnA : As.length = n) (hrm : (rest.map fun v => v.category).sum ≤ 8)
    (kk : ∀ (r1 : Nat) (h1 : PH) (H1 : Heap) (locs1 : List Loc) (cells1 slots1 C1 S1 : Nat), K r1 h1 = some (r, hh, C1, S1) → cells1 + C1 = mc ∧ slots1 + S1 = ms → zM D dA b0 gs s h1 H1 locs1 → W p l e ({ frames := fr, cells := mc, slots := ms, locals := lo } : Room) s m args below meth c H1 locs1 cells1 slots1 Q (F0 m (pc + 3) ls (.ref r1 :: rest))) : W p l e ({ frames := fr, cells := mc, slots := ms, locals := lo } : Room) s m args below meth c H locs cells slots Q (F0 m pc ls st0) := by
  obtain ⟨r1, h1, c1, s1, C1, S1, q1, q2, q3, q4⟩ := zcl_i hf
  exact zr_back hn (va_runSN (As := As) (rest := rest) hc.1 (hM r1 h1 c1 s1 q1) ⟨va_cnB n hc.ts hwm rfl rfl rfl (hc.nM hwl) (hc.ts _ hini) hd ⟨hfr, hlo⟩, hc.ts _ hws, trivial⟩ ⟨zW_blind, hn.pre hc⟩ rfl hnA hls hst (lv_room hrm) hdg ⟨by show cells + c1 ≤ mc; omega, by show slots + s1 ≤ ms; omega⟩) (fun H1 locs1 hn1 => kk r1 h1 H1 locs1 _ _ C1 S1 q2 ⟨by omega, by omega⟩ hn1)
theorem zr_cVL {b ci N : Nat} {C : String} {T : u_T} {α : Type} {x : ZR Int64} {K : Int64 → PH → ZR α} {r : α} {hh : PH} {C9 S9 fr lo mc ms n maxL index fr1 lo1 : Nat} {y : MethodName} {bytes : ByteArray} {ret : Option FieldType} {As : List Value} {st0 : List Value} (hc : zC D dA b0 gs own cc nL p c s m args meth) (hn : zM D dA b0 gs s h H locs) (hq : cells + C9 = mc ∧ slots + S9 = ms) (hcl : vwCl[ci]? = some (C, T, N)) (hd : y.cls = C ∧ y.cls ≠ "java/lang/invoke/MethodHandle" ∧ y.cls ≠ "java/lang/invoke/VarHandle" ∧ (parseMethodDescriptor y.desc).map (fun d => d.parameters.length) = some n) (hw : GoodIn lw_all (wsV own index C y (ws_ y bytes maxL ret))) (hfr : fr1 + 1 ≤ fr) (hlo : 8 + (maxL + 11) + lo1 ≤ lo)
    (hM : ∀ r1 h1 c1 s1, x = some (r1, h1, c1, s1) → zMt l D dA b0 gs y bytes maxL ret fr1 lo1 (.ref b :: As) h (evL r1) h1 c1 s1) (hf : zrc h b ci (zcl x K) = some (r, hh, C9, S9)) (hdg : decode cc pc = .ok (.invokevirtual index, 3)) (hls : ls.size = nL) (hst : st0 = As.reverse ++ .ref b :: rest) (hnA : As.length = n) (hrm : (rest.map fun v => v.category).sum ≤ 8)
    (kk : ∀ (r1 : Int64) (h1 : PH) (H1 : Heap) (locs1 : List Loc) (cells1 slots1 C1 S1 : Nat), K r1 h1 = some (r, hh, C1, S1) → cells1 + C1 = mc ∧ slots1 + S1 = ms → zM D dA b0 gs s h1 H1 locs1 → W p l e ({ frames := fr, cells := mc, slots := ms, locals := lo } : Room) s m args below meth c H1 locs1 cells1 slots1 Q (F0 m (pc + 3) ls (.long r1 :: rest))) : W p l e ({ frames := fr, cells := mc, slots := ms, locals := lo } : Room) s m args below meth c H locs cells slots Q (F0 m pc ls st0) := by
  unfold zrc at hf
  split at hf
  · rename_i hb9
    obtain ⟨r1, h1, c1, s1, C1, S1, q1, q2, q3, q4⟩ := zcl_i hf
    exact zr_back hn (va_runV (As := As) (rest := rest) hc.1 (hM r1 h1 c1 s1 q1) (cwV n hc.ts hw rfl rfl rfl hd ⟨hfr, hlo⟩) ⟨zW_blind, hn.recv hc hcl hb9, hn.pre hc⟩ rfl hnA hls hst (lv_room hrm) hdg ⟨by show cells + c1 ≤ mc; omega, by show slots + s1 ≤ ms; omega⟩) (fun H1 locs1 hn1 => kk r1 h1 H1 locs1 _ _ C1 S1 q2 ⟨by omega, by omega⟩ hn1)
  · cases hf
theorem zr_cVNL {b ci N : Nat} {C host : String} {T : u_T} {α : Type} {x : ZR Int64} {K : Int64 → PH → ZR α} {r : α} {hh : PH} {C9 S9 fr lo mc ms n maxL index fr1 lo1 : Nat} {y : MethodName} {bytes : ByteArray} {ret : Option FieldType} {As : List Value} {st0 : List Value} (hc : zC D dA b0 gs own cc nL p c s m args meth) (hn : zM D dA b0 gs s h H locs) (hq : cells + C9 = mc ∧ slots + S9 = ms) (hcl : vwCl[ci]? = some (C, T, N)) (hd : y.cls ≠ "java/lang/invoke/MethodHandle" ∧ y.cls ≠ "java/lang/invoke/VarHandle" ∧ (parseMethodDescriptor y.desc).map (fun d => d.parameters.length) = some n) (hwm : GoodIn lw_all (ws_ y bytes maxL ret)) (hwl : (Cond.methodLinkNest own index y host) ∈ lw_tbl) (hwi : (Cond.instanceMethod y) ∈ lw_all) (hws : (Cond.selects C y y) ∈ lw_all) (hini : (Cond.initialized y.cls) ∈ lw_all) (hfr : fr1 + 1 ≤ fr) (hlo : 8 + (maxL + 11) + lo1 ≤ lo)
    (hM : ∀ r1 h1 c1 s1, x = some (r1, h1, c1, s1) → zMt l D dA b0 gs y bytes maxL ret fr1 lo1 (.ref b :: As) h (evL r1) h1 c1 s1) (hf : zrc h b ci (zcl x K) = some (r, hh, C9, S9)) (hdg : decode cc pc = .ok (.invokevirtual index, 3)) (hls : ls.size = nL) (hst : st0 = As.reverse ++ .ref b :: rest) (hnA : As.length = n) (hrm : (rest.map fun v => v.category).sum ≤ 8)
    (kk : ∀ (r1 : Int64) (h1 : PH) (H1 : Heap) (locs1 : List Loc) (cells1 slots1 C1 S1 : Nat), K r1 h1 = some (r, hh, C1, S1) → cells1 + C1 = mc ∧ slots1 + S1 = ms → zM D dA b0 gs s h1 H1 locs1 → W p l e ({ frames := fr, cells := mc, slots := ms, locals := lo } : Room) s m args below meth c H1 locs1 cells1 slots1 Q (F0 m (pc + 3) ls (.long r1 :: rest))) : W p l e ({ frames := fr, cells := mc, slots := ms, locals := lo } : Room) s m args below meth c H locs cells slots Q (F0 m pc ls st0) := by
  unfold zrc at hf
  split at hf
  · rename_i hb9
    obtain ⟨r1, h1, c1, s1, C1, S1, q1, q2, q3, q4⟩ := zcl_i hf
    exact zr_back hn (va_runVN (As := As) (rest := rest) hc.1 (hM r1 h1 c1 s1 q1) ⟨va_cnB n hc.ts hwm rfl rfl rfl (hc.nM hwl) (hc.ts _ hini) hd ⟨hfr, hlo⟩, hc.ts _ hwi, hc.ts _ hws⟩ ⟨zW_blind, hn.recv hc hcl hb9, hn.pre hc⟩ rfl hnA hls hst (lv_room hrm) hdg ⟨by show cells + c1 ≤ mc; omega, by show slots + s1 ≤ ms; omega⟩) (fun H1 locs1 hn1 => kk r1 h1 H1 locs1 _ _ C1 S1 q2 ⟨by omega, by omega⟩ hn1)
  · cases hf
theorem zr_cSL {α : Type} {x : ZR Int64} {K : Int64 → PH → ZR α} {r : α} {hh : PH} {C9 S9 fr lo mc ms n maxL index fr1 lo1 : Nat} {y : MethodName} {bytes : ByteArray} {ret : Option FieldType} {As : List Value} {st0 : List Value} (hc : zC D dA b0 gs own cc nL p c s m args meth) (hn : zM D dA b0 gs s h H locs) (hq : cells + C9 = mc ∧ slots + S9 = ms) (hd : y.cls ≠ "java/lang/invoke/MethodHandle" ∧ y.cls ≠ "java/lang/invoke/VarHandle" ∧ (parseMethodDescriptor y.desc).map (fun d => d.parameters.length) = some n) (hw : GoodIn lw_all (va_wsS own index y (ws_ y bytes maxL ret))) (hfr : fr1 + 1 ≤ fr) (hlo : 8 + (maxL + 11) + lo1 ≤ lo)
    (hM : ∀ r1 h1 c1 s1, x = some (r1, h1, c1, s1) → zMt l D dA b0 gs y bytes maxL ret fr1 lo1 As h (evL r1) h1 c1 s1) (hf : zcl x K = some (r, hh, C9, S9)) (hdg : decode cc pc = .ok (.invokestatic index, 3)) (hls : ls.size = nL) (hst : st0 = As.reverse ++ rest) (hnA : As.length = n) (hrm : (rest.map fun v => v.category).sum ≤ 8)
    (kk : ∀ (r1 : Int64) (h1 : PH) (H1 : Heap) (locs1 : List Loc) (cells1 slots1 C1 S1 : Nat), K r1 h1 = some (r, hh, C1, S1) → cells1 + C1 = mc ∧ slots1 + S1 = ms → zM D dA b0 gs s h1 H1 locs1 → W p l e ({ frames := fr, cells := mc, slots := ms, locals := lo } : Room) s m args below meth c H1 locs1 cells1 slots1 Q (F0 m (pc + 3) ls (.long r1 :: rest))) : W p l e ({ frames := fr, cells := mc, slots := ms, locals := lo } : Room) s m args below meth c H locs cells slots Q (F0 m pc ls st0) := by
  obtain ⟨r1, h1, c1, s1, C1, S1, q1, q2, q3, q4⟩ := zcl_i hf
  exact zr_back hn (va_runS (As := As) (rest := rest) hc.1 (hM r1 h1 c1 s1 q1) (va_cwS n hc.ts hw rfl rfl rfl hd ⟨hfr, hlo⟩) ⟨zW_blind, hn.pre hc⟩ rfl hnA hls hst (lv_room hrm) hdg ⟨by show cells + c1 ≤ mc; omega, by show slots + s1 ≤ ms; omega⟩) (fun H1 locs1 hn1 => kk r1 h1 H1 locs1 _ _ C1 S1 q2 ⟨by omega, by omega⟩ hn1)
theorem zr_cSNL {host : String} {α : Type} {x : ZR Int64} {K : Int64 → PH → ZR α} {r : α} {hh : PH} {C9 S9 fr lo mc ms n maxL index fr1 lo1 : Nat} {y : MethodName} {bytes : ByteArray} {ret : Option FieldType} {As : List Value} {st0 : List Value} (hc : zC D dA b0 gs own cc nL p c s m args meth) (hn : zM D dA b0 gs s h H locs) (hq : cells + C9 = mc ∧ slots + S9 = ms) (hd : y.cls ≠ "java/lang/invoke/MethodHandle" ∧ y.cls ≠ "java/lang/invoke/VarHandle" ∧ (parseMethodDescriptor y.desc).map (fun d => d.parameters.length) = some n) (hwm : GoodIn lw_all (ws_ y bytes maxL ret)) (hwl : (Cond.methodLinkNest own index y host) ∈ lw_tbl) (hws : (Cond.static y) ∈ lw_all) (hini : (Cond.initialized y.cls) ∈ lw_all) (hfr : fr1 + 1 ≤ fr) (hlo : 8 + (maxL + 11) + lo1 ≤ lo)
    (hM : ∀ r1 h1 c1 s1, x = some (r1, h1, c1, s1) → zMt l D dA b0 gs y bytes maxL ret fr1 lo1 As h (evL r1) h1 c1 s1) (hf : zcl x K = some (r, hh, C9, S9)) (hdg : decode cc pc = .ok (.invokestatic index, 3)) (hls : ls.size = nL) (hst : st0 = As.reverse ++ rest) (hnA : As.length = n) (hrm : (rest.map fun v => v.category).sum ≤ 8)
    (kk : ∀ (r1 : Int64) (h1 : PH) (H1 : Heap) (locs1 : List Loc) (cells1 slots1 C1 S1 : Nat), K r1 h1 = some (r, hh, C1, S1) → cells1 + C1 = mc ∧ slots1 + S1 = ms → zM D dA b0 gs s h1 H1 locs1 → W p l e ({ frames := fr, cells := mc, slots := ms, locals := lo } : Room) s m args below meth c H1 locs1 cells1 slots1 Q (F0 m (pc + 3) ls (.long r1 :: rest))) : W p l e ({ frames := fr, cells := mc, slots := ms, locals := lo } : Room) s m args below meth c H locs cells slots Q (F0 m pc ls st0) := by
  obtain ⟨r1, h1, c1, s1, C1, S1, q1, q2, q3, q4⟩ := zcl_i hf
  exact zr_back hn (va_runSN (As := As) (rest := rest) hc.1 (hM r1 h1 c1 s1 q1) ⟨va_cnB n hc.ts hwm rfl rfl rfl (hc.nM hwl) (hc.ts _ hini) hd ⟨hfr, hlo⟩, hc.ts _ hws, trivial⟩ ⟨zW_blind, hn.pre hc⟩ rfl hnA hls hst (lv_room hrm) hdg ⟨by show cells + c1 ≤ mc; omega, by show slots + s1 ≤ ms; omega⟩) (fun H1 locs1 hn1 => kk r1 h1 H1 locs1 _ _ C1 S1 q2 ⟨by omega, by omega⟩ hn1)
theorem zr_cVD {b ci N : Nat} {C : String} {T : u_T} {α : Type} {x : ZR UInt64} {K : UInt64 → PH → ZR α} {r : α} {hh : PH} {C9 S9 fr lo mc ms n maxL index fr1 lo1 : Nat} {y : MethodName} {bytes : ByteArray} {ret : Option FieldType} {As : List Value} {st0 : List Value} (hc : zC D dA b0 gs own cc nL p c s m args meth) (hn : zM D dA b0 gs s h H locs) (hq : cells + C9 = mc ∧ slots + S9 = ms) (hcl : vwCl[ci]? = some (C, T, N)) (hd : y.cls = C ∧ y.cls ≠ "java/lang/invoke/MethodHandle" ∧ y.cls ≠ "java/lang/invoke/VarHandle" ∧ (parseMethodDescriptor y.desc).map (fun d => d.parameters.length) = some n) (hw : GoodIn lw_all (wsV own index C y (ws_ y bytes maxL ret))) (hfr : fr1 + 1 ≤ fr) (hlo : 8 + (maxL + 11) + lo1 ≤ lo)
    (hM : ∀ r1 h1 c1 s1, x = some (r1, h1, c1, s1) → zMt l D dA b0 gs y bytes maxL ret fr1 lo1 (.ref b :: As) h (evD r1) h1 c1 s1) (hf : zrc h b ci (zcl x K) = some (r, hh, C9, S9)) (hdg : decode cc pc = .ok (.invokevirtual index, 3)) (hls : ls.size = nL) (hst : st0 = As.reverse ++ .ref b :: rest) (hnA : As.length = n) (hrm : (rest.map fun v => v.category).sum ≤ 8)
    (kk : ∀ (r1 : UInt64) (h1 : PH) (H1 : Heap) (locs1 : List Loc) (cells1 slots1 C1 S1 : Nat), K r1 h1 = some (r, hh, C1, S1) → cells1 + C1 = mc ∧ slots1 + S1 = ms → zM D dA b0 gs s h1 H1 locs1 → W p l e ({ frames := fr, cells := mc, slots := ms, locals := lo } : Room) s m args below meth c H1 locs1 cells1 slots1 Q (F0 m (pc + 3) ls (.double r1 :: rest))) : W p l e ({ frames := fr, cells := mc, slots := ms, locals := lo } : Room) s m args below meth c H locs cells slots Q (F0 m pc ls st0) := by
  unfold zrc at hf
  split at hf
  · rename_i hb9
    obtain ⟨r1, h1, c1, s1, C1, S1, q1, q2, q3, q4⟩ := zcl_i hf
    exact zr_back hn (va_runV (As := As) (rest := rest) hc.1 (hM r1 h1 c1 s1 q1) (cwV n hc.ts hw rfl rfl rfl hd ⟨hfr, hlo⟩) ⟨zW_blind, hn.recv hc hcl hb9, hn.pre hc⟩ rfl hnA hls hst (lv_room hrm) hdg ⟨by show cells + c1 ≤ mc; omega, by show slots + s1 ≤ ms; omega⟩) (fun H1 locs1 hn1 => kk r1 h1 H1 locs1 _ _ C1 S1 q2 ⟨by omega, by omega⟩ hn1)
  · cases hf
theorem zr_cVND {b ci N : Nat} {C host : String} {T : u_T} {α : Type} {x : ZR UInt64} {K : UInt64 → PH → ZR α} {r : α} {hh : PH} {C9 S9 fr lo mc ms n maxL index fr1 lo1 : Nat} {y : MethodName} {bytes : ByteArray} {ret : Option FieldType} {As : List Value} {st0 : List Value} (hc : zC D dA b0 gs own cc nL p c s m args meth) (hn : zM D dA b0 gs s h H locs) (hq : cells + C9 = mc ∧ slots + S9 = ms) (hcl : vwCl[ci]? = some (C, T, N)) (hd : y.cls ≠ "java/lang/invoke/MethodHandle" ∧ y.cls ≠ "java/lang/invoke/VarHandle" ∧ (parseMethodDescriptor y.desc).map (fun d => d.parameters.length) = some n) (hwm : GoodIn lw_all (ws_ y bytes maxL ret)) (hwl : (Cond.methodLinkNest own index y host) ∈ lw_tbl) (hwi : (Cond.instanceMethod y) ∈ lw_all) (hws : (Cond.selects C y y) ∈ lw_all) (hini : (Cond.initialized y.cls) ∈ lw_all) (hfr : fr1 + 1 ≤ fr) (hlo : 8 + (maxL + 11) + lo1 ≤ lo)
    (hM : ∀ r1 h1 c1 s1, x = some (r1, h1, c1, s1) → zMt l D dA b0 gs y bytes maxL ret fr1 lo1 (.ref b :: As) h (evD r1) h1 c1 s1) (hf : zrc h b ci (zcl x K) = some (r, hh, C9, S9)) (hdg : decode cc pc = .ok (.invokevirtual index, 3)) (hls : ls.size = nL) (hst : st0 = As.reverse ++ .ref b :: rest) (hnA : As.length = n) (hrm : (rest.map fun v => v.category).sum ≤ 8)
    (kk : ∀ (r1 : UInt64) (h1 : PH) (H1 : Heap) (locs1 : List Loc) (cells1 slots1 C1 S1 : Nat), K r1 h1 = some (r, hh, C1, S1) → cells1 + C1 = mc ∧ slots1 + S1 = ms → zM D dA b0 gs s h1 H1 locs1 → W p l e ({ frames := fr, cells := mc, slots := ms, locals := lo } : Room) s m args below meth c H1 locs1 cells1 slots1 Q (F0 m (pc + 3) ls (.double r1 :: rest))) : W p l e ({ frames := fr, cells := mc, slots := ms, locals := lo } : Room) s m args below meth c H locs cells slots Q (F0 m pc ls st0) := by
  unfold zrc at hf
  split at hf
  · rename_i hb9
    obtain ⟨r1, h1, c1, s1, C1, S1, q1, q2, q3, q4⟩ := zcl_i hf
    exact zr_back hn (va_runVN (As := As) (rest := rest) hc.1 (hM r1 h1 c1 s1 q1) ⟨va_cnB n hc.ts hwm rfl rfl rfl (hc.nM hwl) (hc.ts _ hini) hd ⟨hfr, hlo⟩, hc.ts _ hwi, hc.ts _ hws⟩ ⟨zW_blind, hn.recv hc hcl hb9, hn.pre hc⟩ rfl hnA hls hst (lv_room hrm) hdg ⟨by show cells + c1 ≤ mc; omega, by show slots + s1 ≤ ms; omega⟩) (fun H1 locs1 hn1 => kk r1 h1 H1 locs1 _ _ C1 S1 q2 ⟨by omega, by omega⟩ hn1)
  · cases hf
theorem zr_cSD {α : Type} {x : ZR UInt64} {K : UInt64 → PH → ZR α} {r : α} {hh : PH} {C9 S9 fr lo mc ms n maxL index fr1 lo1 : Nat} {y : MethodName} {bytes : ByteArray} {ret : Option FieldType} {As : List Value} {st0 : List Value} (hc : zC D dA b0 gs own cc nL p c s m args meth) (hn : zM D dA b0 gs s h H locs) (hq : cells + C9 = mc ∧ slots + S9 = ms) (hd : y.cls ≠ "java/lang/invoke/MethodHandle" ∧ y.cls ≠ "java/lang/invoke/VarHandle" ∧ (parseMethodDescriptor y.desc).map (fun d => d.parameters.length) = some n) (hw : GoodIn lw_all (va_wsS own index y (ws_ y bytes maxL ret))) (hfr : fr1 + 1 ≤ fr) (hlo : 8 + (maxL + 11) + lo1 ≤ lo)
    (hM : ∀ r1 h1 c1 s1, x = some (r1, h1, c1, s1) → zMt l D dA b0 gs y bytes maxL ret fr1 lo1 As h (evD r1) h1 c1 s1) (hf : zcl x K = some (r, hh, C9, S9)) (hdg : decode cc pc = .ok (.invokestatic index, 3)) (hls : ls.size = nL) (hst : st0 = As.reverse ++ rest) (hnA : As.length = n) (hrm : (rest.map fun v => v.category).sum ≤ 8)
    (kk : ∀ (r1 : UInt64) (h1 : PH) (H1 : Heap) (locs1 : List Loc) (cells1 slots1 C1 S1 : Nat), K r1 h1 = some (r, hh, C1, S1) → cells1 + C1 = mc ∧ slots1 + S1 = ms → zM D dA b0 gs s h1 H1 locs1 → W p l e ({ frames := fr, cells := mc, slots := ms, locals := lo } : Room) s m args below meth c H1 locs1 cells1 slots1 Q (F0 m (pc + 3) ls (.double r1 :: rest))) : W p l e ({ frames := fr, cells := mc, slots := ms, locals := lo } : Room) s m args below meth c H locs cells slots Q (F0 m pc ls st0) := by
  obtain ⟨r1, h1, c1, s1, C1, S1, q1, q2, q3, q4⟩ := zcl_i hf
  exact zr_back hn (va_runS (As := As) (rest := rest) hc.1 (hM r1 h1 c1 s1 q1) (va_cwS n hc.ts hw rfl rfl rfl hd ⟨hfr, hlo⟩) ⟨zW_blind, hn.pre hc⟩ rfl hnA hls hst (lv_room hrm) hdg ⟨by show cells + c1 ≤ mc; omega, by show slots + s1 ≤ ms; omega⟩) (fun H1 locs1 hn1 => kk r1 h1 H1 locs1 _ _ C1 S1 q2 ⟨by omega, by omega⟩ hn1)
theorem zr_cSND {host : String} {α : Type} {x : ZR UInt64} {K : UInt64 → PH → ZR α} {r : α} {hh : PH} {C9 S9 fr lo mc ms n maxL index fr1 lo1 : Nat} {y : MethodName} {bytes : ByteArray} {ret : Option FieldType} {As : List Value} {st0 : List Value} (hc : zC D dA b0 gs own cc nL p c s m args meth) (hn : zM D dA b0 gs s h H locs) (hq : cells + C9 = mc ∧ slots + S9 = ms) (hd : y.cls ≠ "java/lang/invoke/MethodHandle" ∧ y.cls ≠ "java/lang/invoke/VarHandle" ∧ (parseMethodDescriptor y.desc).map (fun d => d.parameters.length) = some n) (hwm : GoodIn lw_all (ws_ y bytes maxL ret)) (hwl : (Cond.methodLinkNest own index y host) ∈ lw_tbl) (hws : (Cond.static y) ∈ lw_all) (hini : (Cond.initialized y.cls) ∈ lw_all) (hfr : fr1 + 1 ≤ fr) (hlo : 8 + (maxL + 11) + lo1 ≤ lo)
    (hM : ∀ r1 h1 c1 s1, x = some (r1, h1, c1, s1) → zMt l D dA b0 gs y bytes maxL ret fr1 lo1 As h (evD r1) h1 c1 s1) (hf : zcl x K = some (r, hh, C9, S9)) (hdg : decode cc pc = .ok (.invokestatic index, 3)) (hls : ls.size = nL) (hst : st0 = As.reverse ++ rest) (hnA : As.length = n) (hrm : (rest.map fun v => v.category).sum ≤ 8)
    (kk : ∀ (r1 : UInt64) (h1 : PH) (H1 : Heap) (locs1 : List Loc) (cells1 slots1 C1 S1 : Nat), K r1 h1 = some (r, hh, C1, S1) → cells1 + C1 = mc ∧ slots1 + S1 = ms → zM D dA b0 gs s h1 H1 locs1 → W p l e ({ frames := fr, cells := mc, slots := ms, locals := lo } : Room) s m args below meth c H1 locs1 cells1 slots1 Q (F0 m (pc + 3) ls (.double r1 :: rest))) : W p l e ({ frames := fr, cells := mc, slots := ms, locals := lo } : Room) s m args below meth c H locs cells slots Q (F0 m pc ls st0) := by
  obtain ⟨r1, h1, c1, s1, C1, S1, q1, q2, q3, q4⟩ := zcl_i hf
  exact zr_back hn (va_runSN (As := As) (rest := rest) hc.1 (hM r1 h1 c1 s1 q1) ⟨va_cnB n hc.ts hwm rfl rfl rfl (hc.nM hwl) (hc.ts _ hini) hd ⟨hfr, hlo⟩, hc.ts _ hws, trivial⟩ ⟨zW_blind, hn.pre hc⟩ rfl hnA hls hst (lv_room hrm) hdg ⟨by show cells + c1 ≤ mc; omega, by show slots + s1 ≤ ms; omega⟩) (fun H1 locs1 hn1 => kk r1 h1 H1 locs1 _ _ C1 S1 q2 ⟨by omega, by omega⟩ hn1)
theorem zr_cVU {b ci N : Nat} {C : String} {T : u_T} {α : Type} {x : ZR Unit} {K : Unit → PH → ZR α} {r : α} {hh : PH} {C9 S9 fr lo mc ms n maxL index fr1 lo1 : Nat} {y : MethodName} {bytes : ByteArray} {ret : Option FieldType} {As : List Value} {st0 : List Value} (hc : zC D dA b0 gs own cc nL p c s m args meth) (hn : zM D dA b0 gs s h H locs) (hq : cells + C9 = mc ∧ slots + S9 = ms) (hcl : vwCl[ci]? = some (C, T, N)) (hd : y.cls = C ∧ y.cls ≠ "java/lang/invoke/MethodHandle" ∧ y.cls ≠ "java/lang/invoke/VarHandle" ∧ (parseMethodDescriptor y.desc).map (fun d => d.parameters.length) = some n) (hw : GoodIn lw_all (wsV own index C y (ws_ y bytes maxL ret))) (hfr : fr1 + 1 ≤ fr) (hlo : 8 + (maxL + 11) + lo1 ≤ lo)
    (hM : ∀ r1 h1 c1 s1, x = some (r1, h1, c1, s1) → zMt l D dA b0 gs y bytes maxL ret fr1 lo1 (.ref b :: As) h (evU r1) h1 c1 s1) (hf : zrc h b ci (zcl x K) = some (r, hh, C9, S9)) (hdg : decode cc pc = .ok (.invokevirtual index, 3)) (hls : ls.size = nL) (hst : st0 = As.reverse ++ .ref b :: rest) (hnA : As.length = n) (hrm : (rest.map fun v => v.category).sum ≤ 8)
    (kk : ∀ (r1 : Unit) (h1 : PH) (H1 : Heap) (locs1 : List Loc) (cells1 slots1 C1 S1 : Nat), K r1 h1 = some (r, hh, C1, S1) → cells1 + C1 = mc ∧ slots1 + S1 = ms → zM D dA b0 gs s h1 H1 locs1 → W p l e ({ frames := fr, cells := mc, slots := ms, locals := lo } : Room) s m args below meth c H1 locs1 cells1 slots1 Q (F0 m (pc + 3) ls (rest))) : W p l e ({ frames := fr, cells := mc, slots := ms, locals := lo } : Room) s m args below meth c H locs cells slots Q (F0 m pc ls st0) := by
  unfold zrc at hf
  split at hf
  · rename_i hb9
    obtain ⟨r1, h1, c1, s1, C1, S1, q1, q2, q3, q4⟩ := zcl_i hf
    exact zr_back hn (va_runV (As := As) (rest := rest) hc.1 (hM r1 h1 c1 s1 q1) (cwV n hc.ts hw rfl rfl rfl hd ⟨hfr, hlo⟩) ⟨zW_blind, hn.recv hc hcl hb9, hn.pre hc⟩ rfl hnA hls hst (lv_room hrm) hdg ⟨by show cells + c1 ≤ mc; omega, by show slots + s1 ≤ ms; omega⟩) (fun H1 locs1 hn1 => kk r1 h1 H1 locs1 _ _ C1 S1 q2 ⟨by omega, by omega⟩ hn1)
  · cases hf
theorem zr_cVNU {b ci N : Nat} {C host : String} {T : u_T} {α : Type} {x : ZR Unit} {K : Unit → PH → ZR α} {r : α} {hh : PH} {C9 S9 fr lo mc ms n maxL index fr1 lo1 : Nat} {y : MethodName} {bytes : ByteArray} {ret : Option FieldType} {As : List Value} {st0 : List Value} (hc : zC D dA b0 gs own cc nL p c s m args meth) (hn : zM D dA b0 gs s h H locs) (hq : cells + C9 = mc ∧ slots + S9 = ms) (hcl : vwCl[ci]? = some (C, T, N)) (hd : y.cls ≠ "java/lang/invoke/MethodHandle" ∧ y.cls ≠ "java/lang/invoke/VarHandle" ∧ (parseMethodDescriptor y.desc).map (fun d => d.parameters.length) = some n) (hwm : GoodIn lw_all (ws_ y bytes maxL ret)) (hwl : (Cond.methodLinkNest own index y host) ∈ lw_tbl) (hwi : (Cond.instanceMethod y) ∈ lw_all) (hws : (Cond.selects C y y) ∈ lw_all) (hini : (Cond.initialized y.cls) ∈ lw_all) (hfr : fr1 + 1 ≤ fr) (hlo : 8 + (maxL + 11) + lo1 ≤ lo)
    (hM : ∀ r1 h1 c1 s1, x = some (r1, h1, c1, s1) → zMt l D dA b0 gs y bytes maxL ret fr1 lo1 (.ref b :: As) h (evU r1) h1 c1 s1) (hf : zrc h b ci (zcl x K) = some (r, hh, C9, S9)) (hdg : decode cc pc = .ok (.invokevirtual index, 3)) (hls : ls.size = nL) (hst : st0 = As.reverse ++ .ref b :: rest) (hnA : As.length = n) (hrm : (rest.map fun v => v.category).sum ≤ 8)
    (kk : ∀ (r1 : Unit) (h1 : PH) (H1 : Heap) (locs1 : List Loc) (cells1 slots1 C1 S1 : Nat), K r1 h1 = some (r, hh, C1, S1) → cells1 + C1 = mc ∧ slots1 + S1 = ms → zM D dA b0 gs s h1 H1 locs1 → W p l e ({ frames := fr, cells := mc, slots := ms, locals := lo } : Room) s m args below meth c H1 locs1 cells1 slots1 Q (F0 m (pc + 3) ls (rest))) : W p l e ({ frames := fr, cells := mc, slots := ms, locals := lo } : Room) s m args below meth c H locs cells slots Q (F0 m pc ls st0) := by
  unfold zrc at hf
  split at hf
  · rename_i hb9
    obtain ⟨r1, h1, c1, s1, C1, S1, q1, q2, q3, q4⟩ := zcl_i hf
    exact zr_back hn (va_runVN (As := As) (rest := rest) hc.1 (hM r1 h1 c1 s1 q1) ⟨va_cnB n hc.ts hwm rfl rfl rfl (hc.nM hwl) (hc.ts _ hini) hd ⟨hfr, hlo⟩, hc.ts _ hwi, hc.ts _ hws⟩ ⟨zW_blind, hn.recv hc hcl hb9, hn.pre hc⟩ rfl hnA hls hst (lv_room hrm) hdg ⟨by show cells + c1 ≤ mc; omega, by show slots + s1 ≤ ms; omega⟩) (fun H1 locs1 hn1 => kk r1 h1 H1 locs1 _ _ C1 S1 q2 ⟨by omega, by omega⟩ hn1)
  · cases hf
theorem zr_cSU {α : Type} {x : ZR Unit} {K : Unit → PH → ZR α} {r : α} {hh : PH} {C9 S9 fr lo mc ms n maxL index fr1 lo1 : Nat} {y : MethodName} {bytes : ByteArray} {ret : Option FieldType} {As : List Value} {st0 : List Value} (hc : zC D dA b0 gs own cc nL p c s m args meth) (hn : zM D dA b0 gs s h H locs) (hq : cells + C9 = mc ∧ slots + S9 = ms) (hd : y.cls ≠ "java/lang/invoke/MethodHandle" ∧ y.cls ≠ "java/lang/invoke/VarHandle" ∧ (parseMethodDescriptor y.desc).map (fun d => d.parameters.length) = some n) (hw : GoodIn lw_all (va_wsS own index y (ws_ y bytes maxL ret))) (hfr : fr1 + 1 ≤ fr) (hlo : 8 + (maxL + 11) + lo1 ≤ lo)
    (hM : ∀ r1 h1 c1 s1, x = some (r1, h1, c1, s1) → zMt l D dA b0 gs y bytes maxL ret fr1 lo1 As h (evU r1) h1 c1 s1) (hf : zcl x K = some (r, hh, C9, S9)) (hdg : decode cc pc = .ok (.invokestatic index, 3)) (hls : ls.size = nL) (hst : st0 = As.reverse ++ rest) (hnA : As.length = n) (hrm : (rest.map fun v => v.category).sum ≤ 8)
    (kk : ∀ (r1 : Unit) (h1 : PH) (H1 : Heap) (locs1 : List Loc) (cells1 slots1 C1 S1 : Nat), K r1 h1 = some (r, hh, C1, S1) → cells1 + C1 = mc ∧ slots1 + S1 = ms → zM D dA b0 gs s h1 H1 locs1 → W p l e ({ frames := fr, cells := mc, slots := ms, locals := lo } : Room) s m args below meth c H1 locs1 cells1 slots1 Q (F0 m (pc + 3) ls (rest))) : W p l e ({ frames := fr, cells := mc, slots := ms, locals := lo } : Room) s m args below meth c H locs cells slots Q (F0 m pc ls st0) := by
  obtain ⟨r1, h1, c1, s1, C1, S1, q1, q2, q3, q4⟩ := zcl_i hf
  exact zr_back hn (va_runS (As := As) (rest := rest) hc.1 (hM r1 h1 c1 s1 q1) (va_cwS n hc.ts hw rfl rfl rfl hd ⟨hfr, hlo⟩) ⟨zW_blind, hn.pre hc⟩ rfl hnA hls hst (lv_room hrm) hdg ⟨by show cells + c1 ≤ mc; omega, by show slots + s1 ≤ ms; omega⟩) (fun H1 locs1 hn1 => kk r1 h1 H1 locs1 _ _ C1 S1 q2 ⟨by omega, by omega⟩ hn1)
theorem zr_cSNU {host : String} {α : Type} {x : ZR Unit} {K : Unit → PH → ZR α} {r : α} {hh : PH} {C9 S9 fr lo mc ms n maxL index fr1 lo1 : Nat} {y : MethodName} {bytes : ByteArray} {ret : Option FieldType} {As : List Value} {st0 : List Value} (hc : zC D dA b0 gs own cc nL p c s m args meth) (hn : zM D dA b0 gs s h H locs) (hq : cells + C9 = mc ∧ slots + S9 = ms) (hd : y.cls ≠ "java/lang/invoke/MethodHandle" ∧ y.cls ≠ "java/lang/invoke/VarHandle" ∧ (parseMethodDescriptor y.desc).map (fun d => d.parameters.length) = some n) (hwm : GoodIn lw_all (ws_ y bytes maxL ret)) (hwl : (Cond.methodLinkNest own index y host) ∈ lw_tbl) (hws : (Cond.static y) ∈ lw_all) (hini : (Cond.initialized y.cls) ∈ lw_all) (hfr : fr1 + 1 ≤ fr) (hlo : 8 + (maxL + 11) + lo1 ≤ lo)
    (hM : ∀ r1 h1 c1 s1, x = some (r1, h1, c1, s1) → zMt l D dA b0 gs y bytes maxL ret fr1 lo1 As h (evU r1) h1 c1 s1) (hf : zcl x K = some (r, hh, C9, S9)) (hdg : decode cc pc = .ok (.invokestatic index, 3)) (hls : ls.size = nL) (hst : st0 = As.reverse ++ rest) (hnA : As.length = n) (hrm : (rest.map fun v => v.category).sum ≤ 8)
    (kk : ∀ (r1 : Unit) (h1 : PH) (H1 : Heap) (locs1 : List Loc) (cells1 slots1 C1 S1 : Nat), K r1 h1 = some (r, hh, C1, S1) → cells1 + C1 = mc ∧ slots1 + S1 = ms → zM D dA b0 gs s h1 H1 locs1 → W p l e ({ frames := fr, cells := mc, slots := ms, locals := lo } : Room) s m args below meth c H1 locs1 cells1 slots1 Q (F0 m (pc + 3) ls (rest))) : W p l e ({ frames := fr, cells := mc, slots := ms, locals := lo } : Room) s m args below meth c H locs cells slots Q (F0 m pc ls st0) := by
  obtain ⟨r1, h1, c1, s1, C1, S1, q1, q2, q3, q4⟩ := zcl_i hf
  exact zr_back hn (va_runSN (As := As) (rest := rest) hc.1 (hM r1 h1 c1 s1 q1) ⟨va_cnB n hc.ts hwm rfl rfl rfl (hc.nM hwl) (hc.ts _ hini) hd ⟨hfr, hlo⟩, hc.ts _ hws, trivial⟩ ⟨zW_blind, hn.pre hc⟩ rfl hnA hls hst (lv_room hrm) hdg ⟨by show cells + c1 ≤ mc; omega, by show slots + s1 ≤ ms; omega⟩) (fun H1 locs1 hn1 => kk r1 h1 H1 locs1 _ _ C1 S1 q2 ⟨by omega, by omega⟩ hn1)
theorem zr_cI {b : Nat} {α : Type} {x : ZR Unit} {K : Unit → PH → ZR α} {r : α} {hh : PH} {C9 S9 fr lo mc ms n maxL index fr1 lo1 : Nat} {y : MethodName} {bytes : ByteArray} {As : List Value} {st0 : List Value} (hc : zC D dA b0 gs own cc nL p c s m args meth) (hn : zM D dA b0 gs s h H locs) (hq : cells + C9 = mc ∧ slots + S9 = ms) (hy : y.name = "<init>") (hd : y.cls ≠ "java/lang/invoke/MethodHandle" ∧ y.cls ≠ "java/lang/invoke/VarHandle" ∧ (parseMethodDescriptor y.desc).map (fun d => d.parameters.length) = some n) (hw : GoodIn lw_all (ws_ y bytes maxL none)) (hwl : (Cond.methodLink own index y) ∈ lw_all) (hwi : (Cond.instanceMethod y) ∈ lw_all) (hini : (Cond.initialized y.cls) ∈ lw_all) (hfr : fr1 + 1 ≤ fr) (hlo : 8 + (maxL + 11) + lo1 ≤ lo)
    (hM : ∀ r1 h1 c1 s1, x = some (r1, h1, c1, s1) → zMt l D dA b0 gs y bytes maxL none fr1 lo1 (.ref b :: As) h (evU r1) h1 c1 s1) (hf : zcl x K = some (r, hh, C9, S9)) (hdg : decode cc pc = .ok (.invokespecial index, 3)) (hls : ls.size = nL) (hst : st0 = As.reverse ++ .ref b :: rest) (hnA : As.length = n) (hrm : (rest.map fun v => v.category).sum ≤ 8)
    (kk : ∀ (r1 : Unit) (h1 : PH) (H1 : Heap) (locs1 : List Loc) (cells1 slots1 C1 S1 : Nat), K r1 h1 = some (r, hh, C1, S1) → cells1 + C1 = mc ∧ slots1 + S1 = ms → zM D dA b0 gs s h1 H1 locs1 → W p l e ({ frames := fr, cells := mc, slots := ms, locals := lo } : Room) s m args below meth c H1 locs1 cells1 slots1 Q (F0 m (pc + 3) ls (rest))) : W p l e ({ frames := fr, cells := mc, slots := ms, locals := lo } : Room) s m args below meth c H locs cells slots Q (F0 m pc ls st0) := by
  obtain ⟨r1, h1, c1, s1, C1, S1, q1, q2, q3, q4⟩ := zcl_i hf
  exact zr_back hn (va_runI (As := As) (rest := rest) hc.1 (hM r1 h1 c1 s1 q1) (cwI n hc.ts hw rfl rfl rfl (hc.ts _ hini) (hc.ts _ hwl) (hc.ts _ hwi) hy hd ⟨hfr, hlo⟩) ⟨zW_blind, hn.pre hc⟩ rfl hnA hls hst (lv_room hrm) hdg ⟨by show cells + c1 ≤ mc; omega, by show slots + s1 ≤ ms; omega⟩) (fun H1 locs1 hn1 => kk r1 h1 H1 locs1 _ _ C1 S1 q2 ⟨by omega, by omega⟩ hn1)
theorem zr_cIN {b : Nat} {host : String} {α : Type} {x : ZR Unit} {K : Unit → PH → ZR α} {r : α} {hh : PH} {C9 S9 fr lo mc ms n maxL index fr1 lo1 : Nat} {y : MethodName} {bytes : ByteArray} {As : List Value} {st0 : List Value} (hc : zC D dA b0 gs own cc nL p c s m args meth) (hn : zM D dA b0 gs s h H locs) (hq : cells + C9 = mc ∧ slots + S9 = ms) (hy : y.name = "<init>") (hd : y.cls ≠ "java/lang/invoke/MethodHandle" ∧ y.cls ≠ "java/lang/invoke/VarHandle" ∧ (parseMethodDescriptor y.desc).map (fun d => d.parameters.length) = some n) (hw : GoodIn lw_all (ws_ y bytes maxL none)) (hwl : (Cond.methodLinkNest own index y host) ∈ lw_tbl) (hwi : (Cond.instanceMethod y) ∈ lw_all) (hini : (Cond.initialized y.cls) ∈ lw_all) (hfr : fr1 + 1 ≤ fr) (hlo : 8 + (maxL + 11) + lo1 ≤ lo)
    (hM : ∀ r1 h1 c1 s1, x = some (r1, h1, c1, s1) → zMt l D dA b0 gs y bytes maxL none fr1 lo1 (.ref b :: As) h (evU r1) h1 c1 s1) (hf : zcl x K = some (r, hh, C9, S9)) (hdg : decode cc pc = .ok (.invokespecial index, 3)) (hls : ls.size = nL) (hst : st0 = As.reverse ++ .ref b :: rest) (hnA : As.length = n) (hrm : (rest.map fun v => v.category).sum ≤ 8)
    (kk : ∀ (r1 : Unit) (h1 : PH) (H1 : Heap) (locs1 : List Loc) (cells1 slots1 C1 S1 : Nat), K r1 h1 = some (r, hh, C1, S1) → cells1 + C1 = mc ∧ slots1 + S1 = ms → zM D dA b0 gs s h1 H1 locs1 → W p l e ({ frames := fr, cells := mc, slots := ms, locals := lo } : Room) s m args below meth c H1 locs1 cells1 slots1 Q (F0 m (pc + 3) ls (rest))) : W p l e ({ frames := fr, cells := mc, slots := ms, locals := lo } : Room) s m args below meth c H locs cells slots Q (F0 m pc ls st0) := by
  obtain ⟨r1, h1, c1, s1, C1, S1, q1, q2, q3, q4⟩ := zcl_i hf
  exact zr_back hn (va_runIN (As := As) (rest := rest) hc.1 (hM r1 h1 c1 s1 q1) ⟨va_cnB n hc.ts hw rfl rfl rfl (hc.nM hwl) (hc.ts _ hini) hd ⟨hfr, hlo⟩, hy, hc.ts _ hwi⟩ ⟨zW_blind, hn.pre hc⟩ rfl hnA hls hst (lv_room hrm) hdg ⟨by show cells + c1 ≤ mc; omega, by show slots + s1 ≤ ms; omega⟩) (fun H1 locs1 hn1 => kk r1 h1 H1 locs1 _ _ C1 S1 q2 ⟨by omega, by omega⟩ hn1)
/-! ends -/
theorem zM.q (hc : zC D dA b0 gs own cc nL p c s m args meth) (hn : zM D dA b0 gs s h H locs) {v : Option Value} (t : State) (ht : t.heap = H) (hW : s.WarmedH t.vm) (a : Array Value) : zQ D dA b0 gs v h a s (.returned v) t := ⟨rfl, hn.w hc ht hW, hn.2.2.2.F ht⟩
variable {Qc : Array Value → State → Outcome → State → Prop} {mc ms : Nat}
theorem zr_iret {x : Int32} (hc : zC D dA b0 gs own cc nL p c s m args meth) (hn : zM D dA b0 gs s h H locs) (hr : meth.sig.returnType = some .int) (hq : cells + 0 = mc ∧ slots + 0 = ms) (hQ : ∀ a st o t, zQ D dA b0 gs (evI x) h a st o t → Qc a st o t) (hdg : decode cc pc = .ok (.ireturn, 1)) : W p l e R s m args below meth c H locs cells slots (MQ below Qc args s mc ms (zA b0)) (F0 m pc ls [.int x]) := by
  obtain ⟨h1, h2⟩ := hq
  have h1 : cells = mc := h1
  have h2 : slots = ms := h2
  subst h1
  subst h2
  exact W.iret hc.x hc.b hr (fun t ht hW => hQ _ _ _ _ (hn.q hc t ht hW _)) hn.2.2.2.2.2 hdg hc.lk
theorem zr_zret {x : Int32} {ty : FieldType} (hc : zC D dA b0 gs own cc nL p c s m args meth) (hn : zM D dA b0 gs s h H locs) (hr : meth.sig.returnType = some ty) (hx : narrow ty (.int x) = .int x) (hq : cells + 0 = mc ∧ slots + 0 = ms) (hQ : ∀ a st o t, zQ D dA b0 gs (evI x) h a st o t → Qc a st o t) (hdg : decode cc pc = .ok (.ireturn, 1)) : W p l e R s m args below meth c H locs cells slots (MQ below Qc args s mc ms (zA b0)) (F0 m pc ls [.int x]) := by
  obtain ⟨h1, h2⟩ := hq
  have h1 : cells = mc := h1
  have h2 : slots = ms := h2
  subst h1
  subst h2
  exact W.zret hc.x hc.b hr hx (fun t ht hW => hQ _ _ _ _ (hn.q hc t ht hW _)) hn.2.2.2.2.2 hdg hc.lk
theorem zr_lret {x : Int64} (hc : zC D dA b0 gs own cc nL p c s m args meth) (hn : zM D dA b0 gs s h H locs) (hr : meth.sig.returnType = some .long) (hq : cells + 0 = mc ∧ slots + 0 = ms) (hQ : ∀ a st o t, zQ D dA b0 gs (evL x) h a st o t → Qc a st o t) (hdg : decode cc pc = .ok (.lreturn, 1)) : W p l e R s m args below meth c H locs cells slots (MQ below Qc args s mc ms (zA b0)) (F0 m pc ls [.long x]) := by
  obtain ⟨h1, h2⟩ := hq
  have h1 : cells = mc := h1
  have h2 : slots = ms := h2
  subst h1
  subst h2
  exact W.lret hc.x hc.b hr (fun t ht hW => hQ _ _ _ _ (hn.q hc t ht hW _)) hn.2.2.2.2.2 hdg hc.lk
theorem zr_dret {x : UInt64} (hc : zC D dA b0 gs own cc nL p c s m args meth) (hn : zM D dA b0 gs s h H locs) (hr : meth.sig.returnType = some .double) (hq : cells + 0 = mc ∧ slots + 0 = ms) (hQ : ∀ a st o t, zQ D dA b0 gs (evD x) h a st o t → Qc a st o t) (hdg : decode cc pc = .ok (.dreturn, 1)) : W p l e R s m args below meth c H locs cells slots (MQ below Qc args s mc ms (zA b0)) (F0 m pc ls [.double x]) := by
  obtain ⟨h1, h2⟩ := hq
  have h1 : cells = mc := h1
  have h2 : slots = ms := h2
  subst h1
  subst h2
  exact W.dret hc.x hc.b hr (fun t ht hW => hQ _ _ _ _ (hn.q hc t ht hW _)) hn.2.2.2.2.2 hdg hc.lk
theorem zr_vret (hc : zC D dA b0 gs own cc nL p c s m args meth) (hn : zM D dA b0 gs s h H locs) (hr : meth.sig.returnType = none) (hq : cells + 0 = mc ∧ slots + 0 = ms) (hQ : ∀ a st o t, zQ D dA b0 gs (none) h a st o t → Qc a st o t) (hdg : decode cc pc = .ok (.return_, 1)) : W p l e R s m args below meth c H locs cells slots (MQ below Qc args s mc ms (zA b0)) (F0 m pc ls []) := by
  obtain ⟨h1, h2⟩ := hq
  have h1 : cells = mc := h1
  have h2 : slots = ms := h2
  subst h1
  subst h2
  exact W.vret hc.x hc.b hr (fun t ht hW => hQ _ _ _ _ (hn.q hc t ht hW _)) hn.2.2.2.2.2 hdg hc.lk
theorem zr_aret {x : Option Nat} {rt : FieldType} (hc : zC D dA b0 gs own cc nL p c s m args meth) (hn : zM D dA b0 gs s h H locs) (hr : meth.sig.returnType = some rt) (hrt : (∃ n, rt = .object n) ∨ ∃ t, rt = .array t) (hq : cells + 0 = mc ∧ slots + 0 = ms) (hQ : ∀ a st o t, zQ D dA b0 gs (evP x) h a st o t → Qc a st o t) (hdg : decode cc pc = .ok (.areturn, 1)) : W p l e R s m args below meth c H locs cells slots (MQ below Qc args s mc ms (zA b0)) (F0 m pc ls [va_rf x]) := by
  obtain ⟨h1, h2⟩ := hq
  have h1 : cells = mc := h1
  have h2 : slots = ms := h2
  subst h1
  subst h2
  exact W.aret hc.x hc.b hr hrt (by cases x with | none => exact Or.inl rfl | some a => exact Or.inr ⟨a, rfl⟩) (fun t ht hW => hQ _ _ _ _ (hn.q hc t ht hW _)) hn.2.2.2.2.2 hdg hc.lk
theorem zr_nret {x : Nat} {rt : FieldType} (hc : zC D dA b0 gs own cc nL p c s m args meth) (hn : zM D dA b0 gs s h H locs) (hr : meth.sig.returnType = some rt) (hrt : (∃ n, rt = .object n) ∨ ∃ t, rt = .array t) (hq : cells + 0 = mc ∧ slots + 0 = ms) (hQ : ∀ a st o t, zQ D dA b0 gs (evN x) h a st o t → Qc a st o t) (hdg : decode cc pc = .ok (.areturn, 1)) : W p l e R s m args below meth c H locs cells slots (MQ below Qc args s mc ms (zA b0)) (F0 m pc ls [.ref x]) := by
  obtain ⟨h1, h2⟩ := hq
  have h1 : cells = mc := h1
  have h2 : slots = ms := h2
  subst h1
  subst h2
  exact W.aret hc.x hc.b hr hrt (Or.inr ⟨x, rfl⟩) (fun t ht hW => hQ _ _ _ _ (hn.q hc t ht hW _)) hn.2.2.2.2.2 hdg hc.lk
end ZROW2
