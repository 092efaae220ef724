/-! A CALL OF A RULE's OBJECT; a rule stored in an array -/
set_option maxRecDepth 100000
def zokR (h : PH) (x : Option Nat) : Bool := match x with
  | none => true
  | some v => match zT h v with
    | some (.inl 30) => true
    | some (.inl 31) => true
    | _ => false
def zsR {α : Type} (h : PH) (a : Nat) (i : Int32) (x : Option Nat) (K : PH → ZR α) : ZR α := if zokR h x = true then zsP h a 8 i x K else none
def zfd (h : PH) (b : Nat) (X0 : Int32 → ZR (Option Nat)) (X1 : ZR (Option Nat)) : ZR (Option Nat) := match zT h b with
  | some (.inl 30) => X0 (zI h b 0)
  | some (.inl 31) => X1
  | _ => none
theorem zd1_0 : decode zB1 0 = .ok (.aload_n 0, 1) := by decide +kernel
theorem zd1_1 : decode zB1 1 = .ok (.getfield 15, 3) := by decide +kernel
theorem zd1_4 : decode zB1 4 = .ok (.aload_n 1, 1) := by decide +kernel
theorem zd1_5 : decode zB1 5 = .ok (.invokestatic 23, 3) := by decide +kernel
theorem zd1_8 : decode zB1 8 = .ok (.areturn, 1) := by decide +kernel
theorem zd2_0 : decode zB2 0 = .ok (.aload_n 1, 1) := by decide +kernel
theorem zd2_1 : decode zB2 1 = .ok (.invokestatic 17, 3) := by decide +kernel
theorem zd2_4 : decode zB2 4 = .ok (.areturn, 1) := by decide +kernel
section ZLC
variable {p : Program} {l : Launch} {e : Env} {R : Room} {s : State} {m : MethodId} {args : Array Value} {below : List Frame} {meth : Method} {c : Code} {H : Heap} {locs : List Loc} {cells slots : Nat} {Q : State → Prop}
variable {cc : ByteArray} {pc nL : Nat} {ls : Array Slot} {rest : List Value} {D : va_G} {dA : Nat → ClassId} {b0 : Nat} {gs : Nat → Option Nat} {own : String} {h : PH} {a : Nat}
theorem zC.lr (hc : zC D dA b0 gs own cc nL p c s m args meth) {ci : Nat} (h9 : ci = 30 ∨ ci = 31) : ∃ kC, s.vm.classes[D.1 ci]? = some kC ∧ ∀ comp : ClassId, s.vm.findClass "CountedSkipLists$Rule" = some comp → s.vm.assignable (D.1 ci) comp = true := by
  rcases h9 with rfl | rfl
  · obtain ⟨mR, k, cf, i0, p0, q1, q2, q3, q4, q5, q6, q7, q8⟩ := hc.l1
    obtain ⟨kK, tk, file, methk, ck, toy, t, k1, -⟩ := z_made q2 q3 q7 (hc.ts _ q2706) zD1_is zF1_is zL1_is zF1_code zF1_fl rfl rfl (by decide +kernel) rfl zE1M zE1C
    obtain ⟨i, w1, w2, -⟩ := State.lambdaCallable_spec q8
    exact ⟨kK, k1, fun comp hcomp => by cases (show s.vm.findClass "CountedSkipLists$Rule" = some i from w1).symm.trans hcomp; exact w2⟩
  · obtain ⟨mR, k, cf, i0, p0, a, q1, q2, q3, q4, q5, q6, q7, q8, q9⟩ := hc.l2
    obtain ⟨kK, tk, file, methk, ck, toy, t, k1, -⟩ := z_made q2 q3 q8 (hc.ts _ q2706) zD2_is zF2_is zL2_is zF2_code zF2_fl rfl rfl (by decide +kernel) rfl zE2M zE2C
    obtain ⟨i, w1, w2, -⟩ := State.lambdaCallable_spec q9
    exact ⟨kK, k1, fun comp hcomp => by cases (show s.vm.findClass "CountedSkipLists$Rule" = some i from w1).symm.trans hcomp; exact w2⟩
theorem zr_sR {α : Type} {K : PH → ZR α} {z : α × PH × Nat × Nat} {i : Int32} {x : Option Nat} (hc : zC D dA b0 gs own cc nL p c s m args meth) (hn : zM D dA b0 gs s h H locs) (hf : zsR h a i x K = some z) (hdg : decode cc pc = .ok (.aastore, 1))
    (kk : ∀ (h2 : PH) (H1 : Heap) (locs1 : List Loc), K h2 = some z → zM D dA b0 gs s h2 H1 locs1 → W p l e R s m args below meth c H1 locs1 cells slots Q (F0 m (pc + 1) ls rest)) : W p l e R s m args below meth c H locs cells slots Q (F0 m pc ls (va_rf x :: .int i :: .ref a :: rest)) := by
  unfold zsR at hf
  split at hf
  · rename_i hx
    unfold zsP at hf
    split at hf
    · rename_i hi
      obtain ⟨n, hn9, hin⟩ := zin_vp hi.1
      obtain ⟨cell, q1, q2, q3, q4, q5, q6⟩ := hn.arr hc hn9
      have q6 := q6 hi.2
      have hC : zEt 8 = .object "CountedSkipLists$Rule" := rfl
      have hlt : i.toNatClampNeg < n := Nat.not_le.mp fun q => hin (Or.inr q)
      have fin : ∀ H1 : Heap, H1[a]? = some (cell.setSlot i.toNatClampNeg (va_rf x)) → H1.size = H.size → (∀ q, q ≠ a → H1[q]? = H[q]?) → zM D dA b0 gs s (zwP h a (zix i) x) H1 (locs ++ [⟨a, i.toNatClampNeg⟩]) := fun H1 e zz oq => by
        rw [q6] at e
        refine hn.ast hc (v := va_rf x) hi.2 rfl rfl rfl rfl (fun b hb ty j => zV_wP hb j) (fun j => ?_) hlt hn9 e zz oq
        by_cases hj : j = zix i
        · have hj2 : j = i.toNatClampNeg := hj
          rw [if_pos hj2, hj, hC]
          show va_rf (zP (zwP h a (zix i) x) a (zix i)) = _
          rw [zP_wP, up2_s]
        · have hj2 : ¬ j = i.toNatClampNeg := hj
          rw [if_neg hj2, zVk_wP hj]
      cases x with
      | none =>
        rw [hC] at q2
        exact va_WaastN (C := "CountedSkipLists$Rule") hc.x hc.b q1 q2 q3 (by rw [q4]; exact hin) rfl rfl hdg fun H1 e zz oq => kk _ H1 _ hf (fin H1 e zz oq)
      | some v =>
        obtain ⟨ci, h9, hci⟩ : ∃ ci, (ci = 30 ∨ ci = 31) ∧ zT h v = some (.inl ci) := by
          unfold zokR at hx
          split at hx
          · rename_i e9; cases e9
          · rename_i v9 e9
            cases e9
            split at hx
            · rename_i g9; exact ⟨30, Or.inl rfl, g9⟩
            · rename_i g9; exact ⟨31, Or.inr rfl, g9⟩
            · cases hx
        obtain ⟨kC, hkC, hca⟩ := hc.lr h9
        obtain ⟨cellV, g1, g2, g3, -⟩ := hn.ob hci
        have hra := (hc.k.2 8 _ (zTys_at dA 8 (hn.ar (zln_i hn9)).1)).2
        rw [hC] at hra
        obtain ⟨kA, comp, k1, k2, k3, -⟩ := hra
        obtain ⟨kE, hkE, -⟩ := Vm.findClass_spec k3
        refine W.aast hc.x hc.b q1 (fun q hq => by rw [q6] at hq; cases hq) q3 (by rw [q6]; exact k1) k2 rfl hkE ⟨fun q => hin (Or.inl q), by rw [q4]; exact hlt⟩ g1 (z_nst g3.2.1) (by rw [g2]; exact hkC) (by rw [g2]; exact hca comp k3) rfl rfl hdg fun H1 e zz oq => kk _ H1 _ hf (fin H1 e zz oq)
    · cases hf
  · cases hf
end ZLC
