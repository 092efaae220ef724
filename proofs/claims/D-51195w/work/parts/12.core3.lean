/-! ROWS: an instruction of the machine against one step of the run -/
set_option maxRecDepth 100000
section ZROW
variable {p : Program} {l : Launch} {e : Env} {R : Room} {s : State} {m : MethodId} {args : Array Value} {below : List Frame} {meth : Method} {c : Code} {H : Heap} {locs : List Loc} {cells slots : Nat} {Q : State → Prop}
variable {cc : ByteArray} {pc nL : Nat} {ls : Array Slot} {rest : List Value} {D : va_G} {dA : Nat → ClassId} {b0 : Nat} {gs : Nat → Option Nat} {own : String} {h : PH} {a : Nat}
theorem zC.x (hc : zC D dA b0 gs own cc nL p c s m args meth) : p.tables.exec = Jvm.exec := hc.1.1
theorem zC.b (hc : zC D dA b0 gs own cc nL p c s m args meth) : c.code = cc := hc.1.2.1
theorem zC.ml (hc : zC D dA b0 gs own cc nL p c s m args meth) : c.maxLocals = nL := hc.1.2.2.1
theorem zC.ow (hc : zC D dA b0 gs own cc nL p c s m args meth) : s.vm.findClass own = some m.cls := hc.1.2.2.2.1
theorem zC.ts (hc : zC D dA b0 gs own cc nL p c s m args meth) : ∀ w ∈ lw_all, w.before args s = true := hc.1.2.2.2.2
theorem zC.k (hc : zC D dA b0 gs own cc nL p c s m args meth) : va_K D vwCl (zTys dA) s := hc.2.1
theorem zC.g (hc : zC D dA b0 gs own cc nL p c s m args meth) : zG0 b0 gs s s.heap := hc.2.2.1.1
theorem zC.gL (hc : zC D dA b0 gs own cc nL p c s m args meth) : gs 27 = some (D.1 30) ∧ D.2 30 = (fun k => k) ∧ gs 28 = some (D.1 31) := hc.2.2.1.2
theorem zC.le (hc : zC D dA b0 gs own cc nL p c s m args meth) : b0 ≤ s.heap.size := hc.2.2.2.1
theorem zC.lk (hc : zC D dA b0 gs own cc nL p c s m args meth) : meth.locks = false := hc.2.2.2.2
theorem zC.nF (hc : zC D dA b0 gs own cc nL p c s m args meth) {C n d ref host : String} {i : Nat} (hw : (.fieldLinkNest C i ref n d host) ∈ lw_tbl) : va_Nw (.fieldLinkNest C i ref n d host) s := by
  obtain ⟨S0, a0, g1, g2, g3, g4, g5, g6⟩ := hc.g
  exact va_Nw.warmF g5 (va_Nw.of rfl (g1 _ hw))
theorem zC.nM (hc : zC D dA b0 gs own cc nL p c s m args meth) {C host : String} {i : Nat} {y : MethodName} (hw : (.methodLinkNest C i y host) ∈ lw_tbl) : va_Nw (.methodLinkNest C i y host) s := by
  obtain ⟨S0, a0, g1, g2, g3, g4, g5, g6⟩ := hc.g
  exact va_Nw.warmM g5 (va_Nw.of rfl (g1 _ hw))
theorem zC.nC (hc : zC D dA b0 gs own cc nL p c s m args meth) {C T : String} (hw : (.castable C T) ∈ lw_tbl) : va_Nw (.castable C T) s := by
  obtain ⟨S0, a0, g1, g2, g3, g4, g5, g6⟩ := hc.g
  exact va_Nw.warmC g5 (va_Nw.of rfl (g1 _ hw))
theorem zC.nO (hc : zC D dA b0 gs own cc nL p c s m args meth) {C : String} (hw : (.arrayOver (.object C)) ∈ lw_tbl) : va_AO C s := by
  obtain ⟨S0, a0, g1, g2, g3, g4, g5, g6⟩ := hc.g
  exact va_AO.moved g5.alike (va_AO.of (g1 _ hw))
/-- the object's cell of a type -/
theorem zM.ob (hn : zM D dA b0 gs s h H locs) {ci : Nat} (ha : zT h a = some (.inl ci)) : zOB (zEx h a ci) a (D.1 ci) (zCn ci) (D.2 ci) H (fun k => zV (zFt ci k) h a k) := hn.1.2 a _ ha
theorem zM.ar (hn : zM D dA b0 gs s h H locs) {ai n : Nat} (ha : zT h a = some (.inr (ai, n))) : ai < 11 ∧ zAr dA h a ai n H := hn.1.2 a _ ha
theorem zArr_of {U : State} {cA : ClassId} {ty : FieldType} {cell : Cell} (h : ArrOfT U cA ty) (h1 : cell.cls = cA) (h2 : cell.vm.isStatics = false) : U.isArrayOf cell ty := by
  obtain ⟨-, k, hk, hkind⟩ := h 0 (fun _ => .null)
  exact ⟨z_nst h2, k, by (rw [h1]; exact hk), hkind⟩
/-- a field is read -/
theorem zr_get (hc : zC D dA b0 gs own cc nL p c s m args meth) (hn : zM D dA b0 gs s h H locs) {ref C : String} {T : u_T} {N ci index : Nat} (hcl : vwCl[ci]? = some (C, T, N)) (hN : zCn ci = N) (hin : ∀ w ∈ u_ws C T N, w ∈ lw_all) (k : Nat) (hk : k < N) (hlink : (Cond.fieldLink own index ref (T k).2.1 (T k).2.2.1).before args s = true) (hsame : ∀ x, s.fieldFound? (T k).1 (T k).2.1 (T k).2.2.1 = some x → s.fieldFound? ref (T k).2.1 (T k).2.2.1 = some x)
    (ha : zT h a = some (.inl ci)) (hdg : decode cc pc = .ok (.getfield index, 3)) (kk : W p l e R s m args below meth c H locs cells slots Q (F0 m (pc + 3) ls (zV (zFt ci k) h a k :: rest))) : W p l e R s m args below meth c H locs cells slots Q (F0 m pc ls (.ref a :: rest)) := by
  obtain ⟨cell, q1, q2, q3, q4⟩ := hn.ob ha
  obtain ⟨hS, hfc, kC, hkC, hkind⟩ := hc.k.1 ci _ hcl
  obtain ⟨cf, kf, fi, f, hi, hsl⟩ := hS k hk
  refine W.getf hc.x hc.b hc.ow hlink (hsame _ hi) (u_facts hfc hkC (u_lays hc.ts hin hk) hi).1 q1 q3.1 (v := zV (zFt ci k) h a k) ?_ rfl rfl hdg kk
  rw [hsl, q4 k (by rw [hN]; exact hk)]
theorem zr_getN (hc : zC D dA b0 gs own cc nL p c s m args meth) (hn : zM D dA b0 gs s h H locs) {ref C host : String} {T : u_T} {N ci index : Nat} (hcl : vwCl[ci]? = some (C, T, N)) (hN : zCn ci = N) (hin : ∀ w ∈ u_ws C T N, w ∈ lw_all) (k : Nat) (hk : k < N) (hlink : (Cond.fieldLinkNest own index ref (T k).2.1 (T k).2.2.1 host).before args s = true) (hsame : ∀ x, s.fieldFound? (T k).1 (T k).2.1 (T k).2.2.1 = some x → s.fieldFound? ref (T k).2.1 (T k).2.2.1 = some x)
    (ha : zT h a = some (.inl ci)) (hdg : decode cc pc = .ok (.getfield index, 3)) (kk : W p l e R s m args below meth c H locs cells slots Q (F0 m (pc + 3) ls (zV (zFt ci k) h a k :: rest))) (h14 : ci ≠ 14 ∧ ci ≠ 16 := by decide) : W p l e R s m args below meth c H locs cells slots Q (F0 m pc ls (.ref a :: rest)) := by
  have hP : va_P D vwCl [(a, .inr (ci, (List.range N).map (fun k => zV (zFt ci k) h a k)))] H := by
    intro j q hq
    match j, hq with
    | 0, hq =>
      cases hq
      refine ⟨_, hcl, (hN ▸ (hn.ob ha).tob (Or.inr h14)).to (fun k hk => ?_)⟩
      show _ = vp_V _ k
      simp [vp_V, hk]
    | j + 1, hq => simp at hq
  exact va_getN hc.x hc.b hc.ts hin hc.ow hc.k hP 0 rfl hcl k hk hlink hsame (v := zV (zFt ci k) h a k) (by simp [hk]) hdg kk
/-- the heap behind a field's write -/
theorem zM.put (hc : zC D dA b0 gs own cc nL p c s m args meth) (hn : zM D dA b0 gs s h H locs) {h' : PH} {ci k : Nat} {v : Value} {cell : Cell} {H' : Heap} {i : Nat} (hB : zB h ≤ a) (eT : zT h' = zT h) (eN : zN h' = zN h) (eB : zB h' = zB h) (eS : zS h' = zS h) (ev : ∀ b, b ≠ a → ∀ ty j, zV ty h' b j = zV ty h b j) (ek : ∀ j, zV (zFt ci j) h' a j = if j = k then v else zV (zFt ci j) h a j)
    (hap : ∀ x y, x < zCn ci → y < zCn ci → x ≠ y → (D.2 ci) x ≠ (D.2 ci) y) (hk : k < zCn ci) (ha : zT h a = some (.inl ci)) (hcell : H[a]? = some cell) (q2 : cell.cls = D.1 ci) (q3 : cell.vm ≠ .unknown ∧ cell.vm.isStatics = false ∧ (zEx h a ci → cell.vm = .none)) (q4 : ∀ k, k < zCn ci → cell.slots[D.2 ci k]? = some (zV (zFt ci k) h a k))
    (e1 : H'[a]? = some (cell.setSlot (D.2 ci k) v)) (e2 : H'.size = H.size) (e3 : ∀ q, q ≠ a → H'[q]? = H[q]?) : zM D dA b0 gs s h' H' (locs ++ [⟨a, i⟩]) := by
  obtain ⟨n1, n2, n3, n4⟩ := hn
  refine ⟨n1.upd a e2 e3 eT eN eB ev (fun t ht => ?_), by rw [eB]; exact n2, by rw [eS]; exact n3, n4.put e2 e3 (by show b0 ≤ a; rw [← n2]; exact hB)⟩
  rw [ha] at ht
  cases ht
  exact zOB.to (E := zEx h a ci) (V := updV (fun k => zV (zFt ci k) h a k) k v) ⟨_, e1, q2, q3, t_set q4 hap hk v⟩ (fun j _ => (ek j).symm) (fun e => by rw [zEx, eB] at e; exact e)
/-- a field is written -/
theorem zr_put (hc : zC D dA b0 gs own cc nL p c s m args meth) (hn : zM D dA b0 gs s h H locs) {h' : PH} {ref C : String} {T : u_T} {N ci index : Nat} (hcl : vwCl[ci]? = some (C, T, N)) (hN : zCn ci = N) (hin : ∀ w ∈ u_ws C T N, w ∈ lw_all) (ty0 : Nat → FieldType) (hty : ∀ k, k < N → parseFieldDescriptor (T k).2.2.1 = some (ty0 k)) (hnm : ∀ a, a < N → ∀ b, b < N → a ≠ b → (T a).2.1 ≠ (T b).2.1) (k : Nat) (hk : k < N) (hlink : (Cond.fieldLink own index ref (T k).2.1 (T k).2.2.1).before args s = true) (hsame : ∀ x, s.fieldFound? (T k).1 (T k).2.1 (T k).2.2.1 = some x → s.fieldFound? ref (T k).2.1 (T k).2.2.1 = some x)
    (hfin : (T k).2.2.2 = false ∨ ((T k).2.2.2 = true ∧ meth.name = "<init>" ∧ (T k).1 = own)) {v : Value} (hn1 : narrow (ty0 k) v = v) (hfit : fits (ty0 k) v = true) (hB : zB h ≤ a) (eT : zT h' = zT h) (eN : zN h' = zN h) (eB : zB h' = zB h) (eS : zS h' = zS h) (ev : ∀ b, b ≠ a → ∀ ty j, zV ty h' b j = zV ty h b j) (ek : ∀ j, zV (zFt ci j) h' a j = if j = k then v else zV (zFt ci j) h a j)
    (ha : zT h a = some (.inl ci)) (hdg : decode cc pc = .ok (.putfield index, 3)) (kk : ∀ (H1 : Heap) (locs1 : List Loc), zM D dA b0 gs s h' H1 locs1 → W p l e R s m args below meth c H1 locs1 cells slots Q (F0 m (pc + 3) ls rest)) : W p l e R s m args below meth c H locs cells slots Q (F0 m pc ls (v :: .ref a :: rest)) := by
  have hap := va_apart (own := own) hc.ts hin ty0 hty hnm hc.k hcl
  obtain ⟨cell, q1, q2, q3, q4⟩ := hn.ob ha
  obtain ⟨hS, hfc, kC, hkC, hkind⟩ := hc.k.1 ci _ hcl
  obtain ⟨cf, kf, fi, f, hi, hsl⟩ := hS k hk
  have hst := (u_facts hfc hkC (u_lays hc.ts hin hk) hi).1
  rcases hfin with hfin | ⟨hfin, hin2, hdecl⟩
  · have hlay := hc.ts _ (hin _ (u_in_lay hk))
    unfold u_lay at hlay
    rw [if_neg (by rw [hfin]; decide)] at hlay
    have h6 := u_store hfc hkC hkind hlay hi (hty k hk) hn1 hfit
    refine W.putK hc.x hc.b (f := f) ⟨hc.ow, hlink, ⟨_, _, _, hsame _ hi⟩, hst⟩ (by rw [q2]; exact h6) q1 (q3.2.2 (Or.inl hB)) (by rw [hsl]; exact k2_hasslot (q4 k (by rw [hN]; exact hk))) rfl rfl hdg fun H' e1 e2 e3 => ?_
    rw [hsl] at e1 ⊢
    exact kk H' _ (hn.put hc hB eT eN eB eS ev ek (by rw [hN]; exact hap) (by rw [hN]; exact hk) ha q1 q2 q3 q4 e1 e2 e3)
  · have hlay := hc.ts _ (hin _ (u_in_lay hk))
    unfold u_lay at hlay
    rw [if_pos hfin] at hlay
    have hcf : m.cls = cf := by
      obtain ⟨_, _, c', _, _, _, -, -, hf', -, -, -, hown2, -⟩ := Cond.laysFinal_spec hlay
      have e1 : c' = cf := by have := hi.symm.trans hf'; simp at this; exact this.1.symm
      rw [hdecl] at hown2
      rw [← e1]; exact Option.some.inj (hc.ow.symm.trans hown2)
    have h6 := u_fits hfc hkC hkind (Or.inr hlay) hi (hty k hk) hn1 hfit
    refine W.putFinK hc.x hc.b hc.ow hlink (hsame _ hi) hst hcf hin2 (by rw [q2]; exact h6) q1 (q3.2.2 (Or.inl hB)) (by rw [hsl]; exact k2_hasslot (q4 k (by rw [hN]; exact hk))) rfl rfl hdg fun H' e1 e2 e3 => ?_
    rw [hsl] at e1 ⊢
    exact kk H' _ (hn.put hc hB eT eN eB eS ev ek (by rw [hN]; exact hap) (by rw [hN]; exact hk) ha q1 q2 q3 q4 e1 e2 e3)
/-- a nest mate's field is written -/
theorem zr_putN (hc : zC D dA b0 gs own cc nL p c s m args meth) (hn : zM D dA b0 gs s h H locs) {h' : PH} {ref C host : String} {T : u_T} {N ci index : Nat} (hcl : vwCl[ci]? = some (C, T, N)) (hN : zCn ci = N) (hin : ∀ w ∈ u_ws C T N, w ∈ lw_all) (ty0 : Nat → FieldType) (hty : ∀ k, k < N → parseFieldDescriptor (T k).2.2.1 = some (ty0 k)) (hnm : ∀ a, a < N → ∀ b, b < N → a ≠ b → (T a).2.1 ≠ (T b).2.1) (k : Nat) (hk : k < N) (hlink : (Cond.fieldLinkNest own index ref (T k).2.1 (T k).2.2.1 host).before args s = true) (hsame : ∀ x, s.fieldFound? (T k).1 (T k).2.1 (T k).2.2.1 = some x → s.fieldFound? ref (T k).2.1 (T k).2.2.1 = some x)
    (hfin : (T k).2.2.2 = false) {v : Value} (hn1 : narrow (ty0 k) v = v) (hfit : fits (ty0 k) v = true) (hB : zB h ≤ a) (eT : zT h' = zT h) (eN : zN h' = zN h) (eB : zB h' = zB h) (eS : zS h' = zS h) (ev : ∀ b, b ≠ a → ∀ ty j, zV ty h' b j = zV ty h b j) (ek : ∀ j, zV (zFt ci j) h' a j = if j = k then v else zV (zFt ci j) h a j)
    (ha : zT h a = some (.inl ci)) (hdg : decode cc pc = .ok (.putfield index, 3)) (kk : ∀ (H1 : Heap) (locs1 : List Loc), zM D dA b0 gs s h' H1 locs1 → W p l e R s m args below meth c H1 locs1 cells slots Q (F0 m (pc + 3) ls rest)) : W p l e R s m args below meth c H locs cells slots Q (F0 m pc ls (v :: .ref a :: rest)) := by
  have hap := va_apart (own := own) hc.ts hin ty0 hty hnm hc.k hcl
  obtain ⟨cell, q1, q2, q3, q4⟩ := hn.ob ha
  obtain ⟨hS, hfc, kC, hkC, hkind⟩ := hc.k.1 ci _ hcl
  obtain ⟨cf, kf, fi, f, hi, hsl⟩ := hS k hk
  have hst := (u_facts hfc hkC (u_lays hc.ts hin hk) hi).1
  have hlay := hc.ts _ (hin _ (u_in_lay hk))
  unfold u_lay at hlay
  rw [if_neg (by rw [hfin]; decide)] at hlay
  have h6 := u_store hfc hkC hkind hlay hi (hty k hk) hn1 hfit
  refine va_WputK hc.x hc.b (f := f) hc.ow hlink (hsame _ hi) hst (by rw [q2]; exact h6) q1 (q3.2.2 (Or.inl hB)) (by rw [hsl]; exact k2_hasslot (q4 k (by rw [hN]; exact hk))) rfl rfl hdg fun H' e1 e2 e3 => ?_
  rw [hsl] at e1 ⊢
  exact kk H' _ (hn.put hc hB eT eN eB eS ev ek (by rw [hN]; exact hap) (by rw [hN]; exact hk) ha q1 q2 q3 q4 e1 e2 e3)
theorem zr_gI {α : Type} {K : Int32 → ZR α} {z : α × PH × Nat × Nat} (hc : zC D dA b0 gs own cc nL p c s m args meth) (hn : zM D dA b0 gs s h H locs) {ref C : String} {T : u_T} {N ci index : Nat} (hcl : vwCl[ci]? = some (C, T, N)) (hN : zCn ci = N) (hin : ∀ w ∈ u_ws C T N, w ∈ lw_all) (k : Nat) (hk : k < N) (hlink : (Cond.fieldLink own index ref (T k).2.1 (T k).2.2.1) ∈ lw_all) (hsame : ∀ x, s.fieldFound? (T k).1 (T k).2.1 (T k).2.2.1 = some x → s.fieldFound? ref (T k).2.1 (T k).2.2.1 = some x) (hkd : (∀ (h : PH) (a j : Nat), zV (zFt ci k) h a j = .int (zI h a j))) (hf : zgI h a ci k K = some z) (hdg : decode cc pc = .ok (.getfield index, 3))
    (kk : ∀ x : Int32, K x = some z → W p l e R s m args below meth c H locs cells slots Q (F0 m (pc + 3) ls (.int x :: rest))) : W p l e R s m args below meth c H locs cells slots Q (F0 m pc ls (.ref a :: rest)) := by
  unfold zgI at hf
  split at hf
  · rename_i ha
    refine zr_get hc hn hcl hN hin k hk (hc.ts _ hlink) hsame ha hdg ?_
    rw [hkd]
    exact kk _ hf
  · cases hf
theorem zr_gIN {α : Type} {K : Int32 → ZR α} {z : α × PH × Nat × Nat} (hc : zC D dA b0 gs own cc nL p c s m args meth) (hn : zM D dA b0 gs s h H locs) {ref C : String} {T : u_T} {N ci index : Nat} (hcl : vwCl[ci]? = some (C, T, N)) (hN : zCn ci = N) (hin : ∀ w ∈ u_ws C T N, w ∈ lw_all) (k : Nat) (hk : k < N) {host : String} (hlink : (Cond.fieldLinkNest own index ref (T k).2.1 (T k).2.2.1 host) ∈ lw_tbl) (hsame : ∀ x, s.fieldFound? (T k).1 (T k).2.1 (T k).2.2.1 = some x → s.fieldFound? ref (T k).2.1 (T k).2.2.1 = some x) (hkd : (∀ (h : PH) (a j : Nat), zV (zFt ci k) h a j = .int (zI h a j))) (hf : zgI h a ci k K = some z) (hdg : decode cc pc = .ok (.getfield index, 3))
    (kk : ∀ x : Int32, K x = some z → W p l e R s m args below meth c H locs cells slots Q (F0 m (pc + 3) ls (.int x :: rest))) (h14 : ci ≠ 14 ∧ ci ≠ 16 := by decide) : W p l e R s m args below meth c H locs cells slots Q (F0 m pc ls (.ref a :: rest)) := by
  unfold zgI at hf
  split at hf
  · rename_i ha
    refine zr_getN hc hn hcl hN hin k hk ((hc.nF hlink).use rfl) hsame ha hdg ?_ h14
    rw [hkd]
    exact kk _ hf
  · cases hf
theorem zr_gP {α : Type} {K : Option Nat → ZR α} {z : α × PH × Nat × Nat} (hc : zC D dA b0 gs own cc nL p c s m args meth) (hn : zM D dA b0 gs s h H locs) {ref C : String} {T : u_T} {N ci index : Nat} (hcl : vwCl[ci]? = some (C, T, N)) (hN : zCn ci = N) (hin : ∀ w ∈ u_ws C T N, w ∈ lw_all) (k : Nat) (hk : k < N) (hlink : (Cond.fieldLink own index ref (T k).2.1 (T k).2.2.1) ∈ lw_all) (hsame : ∀ x, s.fieldFound? (T k).1 (T k).2.1 (T k).2.2.1 = some x → s.fieldFound? ref (T k).2.1 (T k).2.2.1 = some x) (hkd : (∀ (h : PH) (a j : Nat), zV (zFt ci k) h a j = va_rf (zP h a j))) (hf : zgP h a ci k K = some z) (hdg : decode cc pc = .ok (.getfield index, 3))
    (kk : ∀ x : Option Nat, K x = some z → W p l e R s m args below meth c H locs cells slots Q (F0 m (pc + 3) ls (va_rf x :: rest))) : W p l e R s m args below meth c H locs cells slots Q (F0 m pc ls (.ref a :: rest)) := by
  unfold zgP at hf
  split at hf
  · rename_i ha
    refine zr_get hc hn hcl hN hin k hk (hc.ts _ hlink) hsame ha hdg ?_
    rw [hkd]
    exact kk _ hf
  · cases hf
theorem zr_gPN {α : Type} {K : Option Nat → ZR α} {z : α × PH × Nat × Nat} (hc : zC D dA b0 gs own cc nL p c s m args meth) (hn : zM D dA b0 gs s h H locs) {ref C : String} {T : u_T} {N ci index : Nat} (hcl : vwCl[ci]? = some (C, T, N)) (hN : zCn ci = N) (hin : ∀ w ∈ u_ws C T N, w ∈ lw_all) (k : Nat) (hk : k < N) {host : String} (hlink : (Cond.fieldLinkNest own index ref (T k).2.1 (T k).2.2.1 host) ∈ lw_tbl) (hsame : ∀ x, s.fieldFound? (T k).1 (T k).2.1 (T k).2.2.1 = some x → s.fieldFound? ref (T k).2.1 (T k).2.2.1 = some x) (hkd : (∀ (h : PH) (a j : Nat), zV (zFt ci k) h a j = va_rf (zP h a j))) (hf : zgP h a ci k K = some z) (hdg : decode cc pc = .ok (.getfield index, 3))
    (kk : ∀ x : Option Nat, K x = some z → W p l e R s m args below meth c H locs cells slots Q (F0 m (pc + 3) ls (va_rf x :: rest))) (h14 : ci ≠ 14 ∧ ci ≠ 16 := by decide) : W p l e R s m args below meth c H locs cells slots Q (F0 m pc ls (.ref a :: rest)) := by
  unfold zgP at hf
  split at hf
  · rename_i ha
    refine zr_getN hc hn hcl hN hin k hk ((hc.nF hlink).use rfl) hsame ha hdg ?_ h14
    rw [hkd]
    exact kk _ hf
  · cases hf
theorem zr_gL {α : Type} {K : Int64 → ZR α} {z : α × PH × Nat × Nat} (hc : zC D dA b0 gs own cc nL p c s m args meth) (hn : zM D dA b0 gs s h H locs) {ref C : String} {T : u_T} {N ci index : Nat} (hcl : vwCl[ci]? = some (C, T, N)) (hN : zCn ci = N) (hin : ∀ w ∈ u_ws C T N, w ∈ lw_all) (k : Nat) (hk : k < N) (hlink : (Cond.fieldLink own index ref (T k).2.1 (T k).2.2.1) ∈ lw_all) (hsame : ∀ x, s.fieldFound? (T k).1 (T k).2.1 (T k).2.2.1 = some x → s.fieldFound? ref (T k).2.1 (T k).2.2.1 = some x) (hkd : (∀ (h : PH) (a j : Nat), zV (zFt ci k) h a j = .long (zL h a j))) (hf : zgL h a ci k K = some z) (hdg : decode cc pc = .ok (.getfield index, 3))
    (kk : ∀ x : Int64, K x = some z → W p l e R s m args below meth c H locs cells slots Q (F0 m (pc + 3) ls (.long x :: rest))) : W p l e R s m args below meth c H locs cells slots Q (F0 m pc ls (.ref a :: rest)) := by
  unfold zgL at hf
  split at hf
  · rename_i ha
    refine zr_get hc hn hcl hN hin k hk (hc.ts _ hlink) hsame ha hdg ?_
    rw [hkd]
    exact kk _ hf
  · cases hf
theorem zr_gLN {α : Type} {K : Int64 → ZR α} {z : α × PH × Nat × Nat} (hc : zC D dA b0 gs own cc nL p c s m args meth) (hn : zM D dA b0 gs s h H locs) {ref C : String} {T : u_T} {N ci index : Nat} (hcl : vwCl[ci]? = some (C, T, N)) (hN : zCn ci = N) (hin : ∀ w ∈ u_ws C T N, w ∈ lw_all) (k : Nat) (hk : k < N) {host : String} (hlink : (Cond.fieldLinkNest own index ref (T k).2.1 (T k).2.2.1 host) ∈ lw_tbl) (hsame : ∀ x, s.fieldFound? (T k).1 (T k).2.1 (T k).2.2.1 = some x → s.fieldFound? ref (T k).2.1 (T k).2.2.1 = some x) (hkd : (∀ (h : PH) (a j : Nat), zV (zFt ci k) h a j = .long (zL h a j))) (hf : zgL h a ci k K = some z) (hdg : decode cc pc = .ok (.getfield index, 3))
    (kk : ∀ x : Int64, K x = some z → W p l e R s m args below meth c H locs cells slots Q (F0 m (pc + 3) ls (.long x :: rest))) (h14 : ci ≠ 14 ∧ ci ≠ 16 := by decide) : W p l e R s m args below meth c H locs cells slots Q (F0 m pc ls (.ref a :: rest)) := by
  unfold zgL at hf
  split at hf
  · rename_i ha
    refine zr_getN hc hn hcl hN hin k hk ((hc.nF hlink).use rfl) hsame ha hdg ?_ h14
    rw [hkd]
    exact kk _ hf
  · cases hf
theorem zr_pI {α : Type} {x : Int32} {K : PH → ZR α} {z : α × PH × Nat × Nat} (hc : zC D dA b0 gs own cc nL p c s m args meth) (hn : zM D dA b0 gs s h H locs) {ref C : String} {T : u_T} {N ci index : Nat} (hcl : vwCl[ci]? = some (C, T, N)) (hN : zCn ci = N) (hin : ∀ w ∈ u_ws C T N, w ∈ lw_all) (k : Nat) (hk : k < N) (ty0 : Nat → FieldType) (hty : ∀ k, k < N → parseFieldDescriptor (T k).2.2.1 = some (ty0 k)) (hnm : ∀ a, a < N → ∀ b, b < N → a ≠ b → (T a).2.1 ≠ (T b).2.1) (hlink : (Cond.fieldLink own index ref (T k).2.1 (T k).2.2.1) ∈ lw_all) (hsame : ∀ x, s.fieldFound? (T k).1 (T k).2.1 (T k).2.2.1 = some x → s.fieldFound? ref (T k).2.1 (T k).2.2.1 = some x) (hfin : (T k).2.2.2 = false ∨ ((T k).2.2.2 = true ∧ meth.name = "<init>" ∧ (T k).1 = own)) (hkd : (∀ (h : PH) (a j : Nat), zV (zFt ci k) h a j = .int (zI h a j))) (hn1 : narrow (ty0 k) (.int x) = .int x) (hfit : fits (ty0 k) (.int x) = true) (hf : zpI h a ci k x K = some z) (hdg : decode cc pc = .ok (.putfield index, 3))
    (kk : ∀ (h2 : PH) (H1 : Heap) (locs1 : List Loc), K h2 = some z → zM D dA b0 gs s h2 H1 locs1 → W p l e R s m args below meth c H1 locs1 cells slots Q (F0 m (pc + 3) ls rest)) : W p l e R s m args below meth c H locs cells slots Q (F0 m pc ls (.int x :: .ref a :: rest)) := by
  unfold zpI at hf
  split at hf
  · rename_i ha
    refine zr_put (h' := zwI h a k x) hc hn hcl hN hin ty0 hty hnm k hk (hc.ts _ hlink) hsame hfin hn1 hfit ha.2 rfl rfl rfl rfl (fun b hb ty j => zV_wI hb j) (fun j => ?_) ha.1 hdg (fun H1 locs1 q => kk _ H1 locs1 hf q)
    by_cases hj : j = k
    · rw [if_pos hj, hj, hkd]
      show _ = _
      simp only [zI_wI, up2_s]
    · rw [if_neg hj, zVk_wI hj]
  · cases hf
theorem zr_pIN {α : Type} {x : Int32} {K : PH → ZR α} {z : α × PH × Nat × Nat} (hc : zC D dA b0 gs own cc nL p c s m args meth) (hn : zM D dA b0 gs s h H locs) {ref C : String} {T : u_T} {N ci index : Nat} (hcl : vwCl[ci]? = some (C, T, N)) (hN : zCn ci = N) (hin : ∀ w ∈ u_ws C T N, w ∈ lw_all) (k : Nat) (hk : k < N) (ty0 : Nat → FieldType) (hty : ∀ k, k < N → parseFieldDescriptor (T k).2.2.1 = some (ty0 k)) (hnm : ∀ a, a < N → ∀ b, b < N → a ≠ b → (T a).2.1 ≠ (T b).2.1) {host : String} (hlink : (Cond.fieldLinkNest own index ref (T k).2.1 (T k).2.2.1 host) ∈ lw_tbl) (hsame : ∀ x, s.fieldFound? (T k).1 (T k).2.1 (T k).2.2.1 = some x → s.fieldFound? ref (T k).2.1 (T k).2.2.1 = some x) (hfin : (T k).2.2.2 = false) (hkd : (∀ (h : PH) (a j : Nat), zV (zFt ci k) h a j = .int (zI h a j))) (hn1 : narrow (ty0 k) (.int x) = .int x) (hfit : fits (ty0 k) (.int x) = true) (hf : zpI h a ci k x K = some z) (hdg : decode cc pc = .ok (.putfield index, 3))
    (kk : ∀ (h2 : PH) (H1 : Heap) (locs1 : List Loc), K h2 = some z → zM D dA b0 gs s h2 H1 locs1 → W p l e R s m args below meth c H1 locs1 cells slots Q (F0 m (pc + 3) ls rest)) : W p l e R s m args below meth c H locs cells slots Q (F0 m pc ls (.int x :: .ref a :: rest)) := by
  unfold zpI at hf
  split at hf
  · rename_i ha
    refine zr_putN (h' := zwI h a k x) hc hn hcl hN hin ty0 hty hnm k hk ((hc.nF hlink).use rfl) hsame hfin hn1 hfit ha.2 rfl rfl rfl rfl (fun b hb ty j => zV_wI hb j) (fun j => ?_) ha.1 hdg (fun H1 locs1 q => kk _ H1 locs1 hf q)
    by_cases hj : j = k
    · rw [if_pos hj, hj, hkd]
      show _ = _
      simp only [zI_wI, up2_s]
    · rw [if_neg hj, zVk_wI hj]
  · cases hf
theorem zr_pP {α : Type} {x : Option Nat} {K : PH → ZR α} {z : α × PH × Nat × Nat} (hc : zC D dA b0 gs own cc nL p c s m args meth) (hn : zM D dA b0 gs s h H locs) {ref C : String} {T : u_T} {N ci index : Nat} (hcl : vwCl[ci]? = some (C, T, N)) (hN : zCn ci = N) (hin : ∀ w ∈ u_ws C T N, w ∈ lw_all) (k : Nat) (hk : k < N) (ty0 : Nat → FieldType) (hty : ∀ k, k < N → parseFieldDescriptor (T k).2.2.1 = some (ty0 k)) (hnm : ∀ a, a < N → ∀ b, b < N → a ≠ b → (T a).2.1 ≠ (T b).2.1) (hlink : (Cond.fieldLink own index ref (T k).2.1 (T k).2.2.1) ∈ lw_all) (hsame : ∀ x, s.fieldFound? (T k).1 (T k).2.1 (T k).2.2.1 = some x → s.fieldFound? ref (T k).2.1 (T k).2.2.1 = some x) (hfin : (T k).2.2.2 = false ∨ ((T k).2.2.2 = true ∧ meth.name = "<init>" ∧ (T k).1 = own)) (hkd : (∀ (h : PH) (a j : Nat), zV (zFt ci k) h a j = va_rf (zP h a j))) (hn1 : narrow (ty0 k) (va_rf x) = va_rf x) (hfit : fits (ty0 k) (va_rf x) = true) (hf : zpP h a ci k x K = some z) (hdg : decode cc pc = .ok (.putfield index, 3))
    (kk : ∀ (h2 : PH) (H1 : Heap) (locs1 : List Loc), K h2 = some z → zM D dA b0 gs s h2 H1 locs1 → W p l e R s m args below meth c H1 locs1 cells slots Q (F0 m (pc + 3) ls rest)) : W p l e R s m args below meth c H locs cells slots Q (F0 m pc ls (va_rf x :: .ref a :: rest)) := by
  unfold zpP at hf
  split at hf
  · rename_i ha
    refine zr_put (h' := zwP h a k x) hc hn hcl hN hin ty0 hty hnm k hk (hc.ts _ hlink) hsame hfin hn1 hfit ha.2 rfl rfl rfl rfl (fun b hb ty j => zV_wP hb j) (fun j => ?_) ha.1 hdg (fun H1 locs1 q => kk _ H1 locs1 hf q)
    by_cases hj : j = k
    · rw [if_pos hj, hj, hkd]
      show _ = _
      simp only [zP_wP, up2_s]
    · rw [if_neg hj, zVk_wP hj]
  · cases hf
theorem zr_pPN {α : Type} {x : Option Nat} {K : PH → ZR α} {z : α × PH × Nat × Nat} (hc : zC D dA b0 gs own cc nL p c s m args meth) (hn : zM D dA b0 gs s h H locs) {ref C : String} {T : u_T} {N ci index : Nat} (hcl : vwCl[ci]? = some (C, T, N)) (hN : zCn ci = N) (hin : ∀ w ∈ u_ws C T N, w ∈ lw_all) (k : Nat) (hk : k < N) (ty0 : Nat → FieldType) (hty : ∀ k, k < N → parseFieldDescriptor (T k).2.2.1 = some (ty0 k)) (hnm : ∀ a, a < N → ∀ b, b < N → a ≠ b → (T a).2.1 ≠ (T b).2.1) {host : String} (hlink : (Cond.fieldLinkNest own index ref (T k).2.1 (T k).2.2.1 host) ∈ lw_tbl) (hsame : ∀ x, s.fieldFound? (T k).1 (T k).2.1 (T k).2.2.1 = some x → s.fieldFound? ref (T k).2.1 (T k).2.2.1 = some x) (hfin : (T k).2.2.2 = false) (hkd : (∀ (h : PH) (a j : Nat), zV (zFt ci k) h a j = va_rf (zP h a j))) (hn1 : narrow (ty0 k) (va_rf x) = va_rf x) (hfit : fits (ty0 k) (va_rf x) = true) (hf : zpP h a ci k x K = some z) (hdg : decode cc pc = .ok (.putfield index, 3))
    (kk : ∀ (h2 : PH) (H1 : Heap) (locs1 : List Loc), K h2 = some z → zM D dA b0 gs s h2 H1 locs1 → W p l e R s m args below meth c H1 locs1 cells slots Q (F0 m (pc + 3) ls rest)) : W p l e R s m args below meth c H locs cells slots Q (F0 m pc ls (va_rf x :: .ref a :: rest)) := by
  unfold zpP at hf
  split at hf
  · rename_i ha
    refine zr_putN (h' := zwP h a k x) hc hn hcl hN hin ty0 hty hnm k hk ((hc.nF hlink).use rfl) hsame hfin hn1 hfit ha.2 rfl rfl rfl rfl (fun b hb ty j => zV_wP hb j) (fun j => ?_) ha.1 hdg (fun H1 locs1 q => kk _ H1 locs1 hf q)
    by_cases hj : j = k
    · rw [if_pos hj, hj, hkd]
      show _ = _
      simp only [zP_wP, up2_s]
    · rw [if_neg hj, zVk_wP hj]
  · cases hf
theorem zr_pL {α : Type} {x : Int64} {K : PH → ZR α} {z : α × PH × Nat × Nat} (hc : zC D dA b0 gs own cc nL p c s m args meth) (hn : zM D dA b0 gs s h H locs) {ref C : String} {T : u_T} {N ci index : Nat} (hcl : vwCl[ci]? = some (C, T, N)) (hN : zCn ci = N) (hin : ∀ w ∈ u_ws C T N, w ∈ lw_all) (k : Nat) (hk : k < N) (ty0 : Nat → FieldType) (hty : ∀ k, k < N → parseFieldDescriptor (T k).2.2.1 = some (ty0 k)) (hnm : ∀ a, a < N → ∀ b, b < N → a ≠ b → (T a).2.1 ≠ (T b).2.1) (hlink : (Cond.fieldLink own index ref (T k).2.1 (T k).2.2.1) ∈ lw_all) (hsame : ∀ x, s.fieldFound? (T k).1 (T k).2.1 (T k).2.2.1 = some x → s.fieldFound? ref (T k).2.1 (T k).2.2.1 = some x) (hfin : (T k).2.2.2 = false ∨ ((T k).2.2.2 = true ∧ meth.name = "<init>" ∧ (T k).1 = own)) (hkd : (∀ (h : PH) (a j : Nat), zV (zFt ci k) h a j = .long (zL h a j))) (hn1 : narrow (ty0 k) (.long x) = .long x) (hfit : fits (ty0 k) (.long x) = true) (hf : zpL h a ci k x K = some z) (hdg : decode cc pc = .ok (.putfield index, 3))
    (kk : ∀ (h2 : PH) (H1 : Heap) (locs1 : List Loc), K h2 = some z → zM D dA b0 gs s h2 H1 locs1 → W p l e R s m args below meth c H1 locs1 cells slots Q (F0 m (pc + 3) ls rest)) : W p l e R s m args below meth c H locs cells slots Q (F0 m pc ls (.long x :: .ref a :: rest)) := by
  unfold zpL at hf
  split at hf
  · rename_i ha
    refine zr_put (h' := zwL h a k x) hc hn hcl hN hin ty0 hty hnm k hk (hc.ts _ hlink) hsame hfin hn1 hfit ha.2 rfl rfl rfl rfl (fun b hb ty j => zV_wL hb j) (fun j => ?_) ha.1 hdg (fun H1 locs1 q => kk _ H1 locs1 hf q)
    by_cases hj : j = k
    · rw [if_pos hj, hj, hkd]
      show _ = _
      simp only [zL_wL, up2_s]
    · rw [if_neg hj, zVk_wL hj]
  · cases hf
theorem zr_pLN {α : Type} {x : Int64} {K : PH → ZR α} {z : α × PH × Nat × Nat} (hc : zC D dA b0 gs own cc nL p c s m args meth) (hn : zM D dA b0 gs s h H locs) {ref C : String} {T : u_T} {N ci index : Nat} (hcl : vwCl[ci]? = some (C, T, N)) (hN : zCn ci = N) (hin : ∀ w ∈ u_ws C T N, w ∈ lw_all) (k : Nat) (hk : k < N) (ty0 : Nat → FieldType) (hty : ∀ k, k < N → parseFieldDescriptor (T k).2.2.1 = some (ty0 k)) (hnm : ∀ a, a < N → ∀ b, b < N → a ≠ b → (T a).2.1 ≠ (T b).2.1) {host : String} (hlink : (Cond.fieldLinkNest own index ref (T k).2.1 (T k).2.2.1 host) ∈ lw_tbl) (hsame : ∀ x, s.fieldFound? (T k).1 (T k).2.1 (T k).2.2.1 = some x → s.fieldFound? ref (T k).2.1 (T k).2.2.1 = some x) (hfin : (T k).2.2.2 = false) (hkd : (∀ (h : PH) (a j : Nat), zV (zFt ci k) h a j = .long (zL h a j))) (hn1 : narrow (ty0 k) (.long x) = .long x) (hfit : fits (ty0 k) (.long x) = true) (hf : zpL h a ci k x K = some z) (hdg : decode cc pc = .ok (.putfield index, 3))
    (kk : ∀ (h2 : PH) (H1 : Heap) (locs1 : List Loc), K h2 = some z → zM D dA b0 gs s h2 H1 locs1 → W p l e R s m args below meth c H1 locs1 cells slots Q (F0 m (pc + 3) ls rest)) : W p l e R s m args below meth c H locs cells slots Q (F0 m pc ls (.long x :: .ref a :: rest)) := by
  unfold zpL at hf
  split at hf
  · rename_i ha
    refine zr_putN (h' := zwL h a k x) hc hn hcl hN hin ty0 hty hnm k hk ((hc.nF hlink).use rfl) hsame hfin hn1 hfit ha.2 rfl rfl rfl rfl (fun b hb ty j => zV_wL hb j) (fun j => ?_) ha.1 hdg (fun H1 locs1 q => kk _ H1 locs1 hf q)
    by_cases hj : j = k
    · rw [if_pos hj, hj, hkd]
      show _ = _
      simp only [zL_wL, up2_s]
    · rw [if_neg hj, zVk_wL hj]
  · cases hf
theorem zM.arr (hc : zC D dA b0 gs own cc nL p c s m args meth) (hn : zM D dA b0 gs s h H locs) {ai n : Nat} (ha : zln h a ai = some n) : ∃ cell : Cell, H[a]? = some cell ∧ s.isArrayOf cell (zEt ai) ∧ cell.vm ≠ .unknown ∧ cell.slots.size = n ∧ (∀ j, j < n → cell.slots[j]? = some (zV (zEt ai) h a j)) ∧ (zB h ≤ a → cell = arrV (dA ai) n (fun j => zV (zEt ai) h a j)) := by
  obtain ⟨h0, cell, q1, q2, q3, q4, q5, q6⟩ := hn.ar (zln_i ha)
  exact ⟨cell, q1, zArr_of (hc.k.2 ai _ (zTys_at dA ai h0)).1 q2 q3.2, q3.1, q4, q5, q6⟩
theorem zr_len {α : Type} {K : Int32 → ZR α} {z : α × PH × Nat × Nat} {ai : Nat} (hc : zC D dA b0 gs own cc nL p c s m args meth) (hn : zM D dA b0 gs s h H locs) (hf : zlen h a ai K = some z) (hdg : decode cc pc = .ok (.arraylength, 1)) (kk : ∀ x : Int32, K x = some z → W p l e R s m args below meth c H locs cells slots Q (F0 m (pc + 1) ls (.int x :: rest))) : W p l e R s m args below meth c H locs cells slots Q (F0 m pc ls (.ref a :: rest)) := by
  unfold zlen at hf
  split at hf
  · rename_i n hn9
    obtain ⟨cell, q1, q2, q3, q4, q5, q6⟩ := hn.arr hc hn9
    exact W.alen (n := nI n) hc.x hc.b q1 q2 (by rw [q4]; rfl) rfl rfl hdg (kk _ hf)
  · cases hf
theorem zr_aI0 {α : Type} {K : Int32 → ZR α} {z : α × PH × Nat × Nat} {i : Int32} (hc : zC D dA b0 gs own cc nL p c s m args meth) (hn : zM D dA b0 gs s h H locs) (hf : zaI h a 0 i K = some z) (hdg : decode cc pc = .ok (.iaload, 1)) (kk : ∀ x : Int32, K x = some z → W p l e R s m args below meth c H locs cells slots Q (F0 m (pc + 1) ls (.int x :: rest))) : W p l e R s m args below meth c H locs cells slots Q (F0 m pc ls (.int i :: .ref a :: rest)) := by
  unfold zaI at hf
  split at hf
  · rename_i hi
    obtain ⟨n, hn9, hin⟩ := zin_vp hi
    obtain ⟨cell, q1, q2, q3, q4, q5, q6⟩ := hn.arr hc hn9
    exact W.iald (v := .int (zI h a (zix i))) hc.x hc.b q1 q2 q3 (by rw [q4]; exact hin) (q5 _ (Nat.not_le.mp fun q => hin (Or.inr q))) rfl rfl hdg (kk _ hf)
  · cases hf
theorem zr_aI1 {α : Type} {K : Int32 → ZR α} {z : α × PH × Nat × Nat} {i : Int32} (hc : zC D dA b0 gs own cc nL p c s m args meth) (hn : zM D dA b0 gs s h H locs) (hf : zaI h a 1 i K = some z) (hdg : decode cc pc = .ok (.baload, 1)) (kk : ∀ x : Int32, K x = some z → W p l e R s m args below meth c H locs cells slots Q (F0 m (pc + 1) ls (.int x :: rest))) : W p l e R s m args below meth c H locs cells slots Q (F0 m pc ls (.int i :: .ref a :: rest)) := by
  unfold zaI at hf
  split at hf
  · rename_i hi
    obtain ⟨n, hn9, hin⟩ := zin_vp hi
    obtain ⟨cell, q1, q2, q3, q4, q5, q6⟩ := hn.arr hc hn9
    exact W.zald (v := .int (zI h a (zix i))) hc.x hc.b q1 q2 q3 (by rw [q4]; exact hin) (q5 _ (Nat.not_le.mp fun q => hin (Or.inr q))) rfl rfl hdg (kk _ hf)
  · cases hf
theorem zr_aI2 {α : Type} {K : Int32 → ZR α} {z : α × PH × Nat × Nat} {i : Int32} (hc : zC D dA b0 gs own cc nL p c s m args meth) (hn : zM D dA b0 gs s h H locs) (hf : zaI h a 2 i K = some z) (hdg : decode cc pc = .ok (.baload, 1)) (kk : ∀ x : Int32, K x = some z → W p l e R s m args below meth c H locs cells slots Q (F0 m (pc + 1) ls (.int x :: rest))) : W p l e R s m args below meth c H locs cells slots Q (F0 m pc ls (.int i :: .ref a :: rest)) := by
  unfold zaI at hf
  split at hf
  · rename_i hi
    obtain ⟨n, hn9, hin⟩ := zin_vp hi
    obtain ⟨cell, q1, q2, q3, q4, q5, q6⟩ := hn.arr hc hn9
    exact W.bald (v := .int (zI h a (zix i))) hc.x hc.b q1 q2 q3 (by rw [q4]; exact hin) (q5 _ (Nat.not_le.mp fun q => hin (Or.inr q))) rfl rfl hdg (kk _ hf)
  · cases hf
theorem zEt_obj {ai : Nat} (h : 5 ≤ ai) : ∃ C, zEt ai = .object C := by
  match ai, h with
  | 5, _ => exact ⟨_, rfl⟩
  | 6, _ => exact ⟨_, rfl⟩
  | 7, _ => exact ⟨_, rfl⟩
  | 8, _ => exact ⟨_, rfl⟩
  | 9, _ => exact ⟨_, rfl⟩
  | n + 10, _ => exact ⟨_, rfl⟩
theorem zr_aL {α : Type} {K : Int64 → ZR α} {z : α × PH × Nat × Nat} {i : Int32} (hc : zC D dA b0 gs own cc nL p c s m args meth) (hn : zM D dA b0 gs s h H locs) (hf : zaL h a 3 i K = some z) (hdg : decode cc pc = .ok (.laload, 1)) (kk : ∀ x : Int64, K x = some z → W p l e R s m args below meth c H locs cells slots Q (F0 m (pc + 1) ls (.long x :: rest))) : W p l e R s m args below meth c H locs cells slots Q (F0 m pc ls (.int i :: .ref a :: rest)) := by
  unfold zaL at hf
  split at hf
  · rename_i hi
    obtain ⟨n, hn9, hin⟩ := zin_vp hi
    obtain ⟨cell, q1, q2, q3, q4, q5, q6⟩ := hn.arr hc hn9
    exact W.lald (v := .long (zL h a (zix i))) hc.x hc.b q1 q2 q3 (by rw [q4]; exact hin) (q5 _ (Nat.not_le.mp fun q => hin (Or.inr q))) rfl rfl hdg (kk _ hf)
  · cases hf
theorem zr_aD {α : Type} {K : UInt64 → ZR α} {z : α × PH × Nat × Nat} {i : Int32} (hc : zC D dA b0 gs own cc nL p c s m args meth) (hn : zM D dA b0 gs s h H locs) (hf : zaD h a i K = some z) (hdg : decode cc pc = .ok (.daload, 1)) (kk : ∀ x : UInt64, K x = some z → W p l e R s m args below meth c H locs cells slots Q (F0 m (pc + 1) ls (.double x :: rest))) : W p l e R s m args below meth c H locs cells slots Q (F0 m pc ls (.int i :: .ref a :: rest)) := by
  unfold zaD zaL at hf
  split at hf
  · rename_i hi
    obtain ⟨n, hn9, hin⟩ := zin_vp hi
    obtain ⟨cell, q1, q2, q3, q4, q5, q6⟩ := hn.arr hc hn9
    exact W.dald (v := .double (zL h a (zix i)).toUInt64) hc.x hc.b q1 q2 q3 (by rw [q4]; exact hin) (q5 _ (Nat.not_le.mp fun q => hin (Or.inr q))) rfl rfl hdg (kk _ hf)
  · cases hf
theorem zr_aP {α : Type} {K : Option Nat → ZR α} {z : α × PH × Nat × Nat} {i : Int32} {ai : Nat} (h5 : 5 ≤ ai) (hc : zC D dA b0 gs own cc nL p c s m args meth) (hn : zM D dA b0 gs s h H locs) (hf : zaP h a ai i K = some z) (hdg : decode cc pc = .ok (.aaload, 1)) (kk : ∀ x : Option Nat, K x = some z → W p l e R s m args below meth c H locs cells slots Q (F0 m (pc + 1) ls (va_rf x :: rest))) : W p l e R s m args below meth c H locs cells slots Q (F0 m pc ls (.int i :: .ref a :: rest)) := by
  unfold zaP at hf
  split at hf
  · rename_i hi
    obtain ⟨n, hn9, hin⟩ := zin_vp hi
    obtain ⟨cell, q1, q2, q3, q4, q5, q6⟩ := hn.arr hc hn9
    obtain ⟨C, hC⟩ := zEt_obj h5
    have hv := q5 _ (Nat.not_le.mp fun q => hin (Or.inr q))
    rw [hC] at hv q2
    exact W.aald (ty := .object C) (v := va_rf (zP h a (zix i))) hc.x hc.b q1 q2 rfl q3 (by rw [q4]; exact hin) hv rfl rfl hdg (kk _ hf)
  · cases hf
/-- the heap behind an element's write -/
theorem zM.ast (hc : zC D dA b0 gs own cc nL p c s m args meth) (hn : zM D dA b0 gs s h H locs) {h' : PH} {ai n k : Nat} {v : Value} {H' : Heap} {i : Nat} (hB : zB h ≤ a) (eT : zT h' = zT h) (eN : zN h' = zN h) (eB : zB h' = zB h) (eS : zS h' = zS h) (ev : ∀ b, b ≠ a → ∀ ty j, zV ty h' b j = zV ty h b j) (ek : ∀ j, zV (zEt ai) h' a j = if j = k then v else zV (zEt ai) h a j)
    (hlt : k < n) (ha : zln h a ai = some n) (e1 : H'[a]? = some ((arrV (dA ai) n (fun j => zV (zEt ai) h a j)).setSlot k v)) (e2 : H'.size = H.size) (e3 : ∀ q, q ≠ a → H'[q]? = H[q]?) : zM D dA b0 gs s h' H' (locs ++ [⟨a, i⟩]) := by
  have h0 := (hn.ar (zln_i ha)).1
  obtain ⟨n1, n2, n3, n4⟩ := hn
  refine ⟨n1.upd a e2 e3 eT eN eB ev (fun t ht => ?_), by rw [eB]; exact n2, by rw [eS]; exact n3, n4.put e2 e3 (by show b0 ≤ a; rw [← n2]; exact hB)⟩
  rw [zln_i ha] at ht
  cases ht
  rw [arrV_store] at e1
  have ef : updV (fun j => zV (zEt ai) h a j) k v = fun j => zV (zEt ai) h' a j := by
    funext j
    rw [ek j]
    rfl
  rw [ef] at e1
  exact ⟨h0, _, e1, rfl, ⟨fun e => (by cases e), rfl⟩, arrV_size _ _ _, fun j hj => arrV_read _ _ hj, fun _ => rfl⟩
theorem zr_sI {α : Type} {K : PH → ZR α} {z : α × PH × Nat × Nat} {i : Int32} {x : Int32} (hc : zC D dA b0 gs own cc nL p c s m args meth) (hn : zM D dA b0 gs s h H locs) (hf : zsI h a 0 i x K = some z) (hdg : decode cc pc = .ok (.iastore, 1)) (kk : ∀ (h2 : PH) (H1 : Heap) (locs1 : List Loc), K h2 = some z → zM D dA b0 gs s h2 H1 locs1 → W p l e R s m args below meth c H1 locs1 cells slots Q (F0 m (pc + 1) ls rest)) : W p l e R s m args below meth c H locs cells slots Q (F0 m pc ls (.int x :: .int i :: .ref a :: rest)) := by
  unfold zsI at hf
  split at hf
  · rename_i hi
    obtain ⟨n, hn9, hin⟩ := zin_vp hi.1
    obtain ⟨cell, q1, q2, q3, q4, q5, q6⟩ := hn.arr hc hn9
    have q6 := q6 hi.2
    refine W.iast hc.x hc.b q1 q2 q3 (by rw [q4]; exact hin) rfl rfl hdg fun H1 e z oq => ?_
    rw [q6] at e
    refine kk _ H1 _ hf (hn.ast hc (v := .int x) hi.2 rfl rfl rfl rfl (fun b hb ty j => zV_wI hb j) (fun j => ?_) (Nat.not_le.mp fun q => hin (Or.inr q)) hn9 e z oq)
    by_cases hj : j = zix i
    · have hj2 : j = i.toNatClampNeg := hj
      rw [if_pos hj2, hj]
      show Value.int (zI (zwI h a (zix i) x) a (zix i)) = _
      rw [zI_wI, up2_s]
    · have hj2 : ¬ j = i.toNatClampNeg := hj
      rw [if_neg hj2, zVk_wI hj]
  · cases hf
theorem zr_sZ {α : Type} {K : PH → ZR α} {z : α × PH × Nat × Nat} {i : Int32} {x : Int32} (hc : zC D dA b0 gs own cc nL p c s m args meth) (hn : zM D dA b0 gs s h H locs) (hf : zsZ h a i x K = some z) (hdg : decode cc pc = .ok (.bastore, 1)) (kk : ∀ (h2 : PH) (H1 : Heap) (locs1 : List Loc), K h2 = some z → zM D dA b0 gs s h2 H1 locs1 → W p l e R s m args below meth c H1 locs1 cells slots Q (F0 m (pc + 1) ls rest)) : W p l e R s m args below meth c H locs cells slots Q (F0 m pc ls (.int x :: .int i :: .ref a :: rest)) := by
  unfold zsZ zsI at hf
  split at hf
  · rename_i hi
    obtain ⟨n, hn9, hin⟩ := zin_vp hi.1
    obtain ⟨cell, q1, q2, q3, q4, q5, q6⟩ := hn.arr hc hn9
    have q6 := q6 hi.2
    refine W.zast hc.x hc.b q1 q2 q3 (by rw [q4]; exact hin) rfl rfl hdg fun H1 e z oq => ?_
    rw [q6] at e
    refine kk _ H1 _ hf (hn.ast hc (v := narrow .boolean (.int x)) hi.2 rfl rfl rfl rfl (fun b hb ty j => zV_wI hb j) (fun j => ?_) (Nat.not_le.mp fun q => hin (Or.inr q)) hn9 e z oq)
    by_cases hj : j = zix i
    · have hj2 : j = i.toNatClampNeg := hj
      rw [if_pos hj2, hj]
      show Value.int (zI (zwI h a (zix i) (vp_nar .boolean x)) a (zix i)) = _
      rw [zI_wI, up2_s]
      rfl
    · have hj2 : ¬ j = i.toNatClampNeg := hj
      rw [if_neg hj2, zVk_wI hj]
  · cases hf
theorem zr_sY {α : Type} {K : PH → ZR α} {z : α × PH × Nat × Nat} {i : Int32} {x : Int32} (hc : zC D dA b0 gs own cc nL p c s m args meth) (hn : zM D dA b0 gs s h H locs) (hf : zsY h a i x K = some z) (hdg : decode cc pc = .ok (.bastore, 1)) (kk : ∀ (h2 : PH) (H1 : Heap) (locs1 : List Loc), K h2 = some z → zM D dA b0 gs s h2 H1 locs1 → W p l e R s m args below meth c H1 locs1 cells slots Q (F0 m (pc + 1) ls rest)) : W p l e R s m args below meth c H locs cells slots Q (F0 m pc ls (.int x :: .int i :: .ref a :: rest)) := by
  unfold zsY zsI at hf
  split at hf
  · rename_i hi
    obtain ⟨n, hn9, hin⟩ := zin_vp hi.1
    obtain ⟨cell, q1, q2, q3, q4, q5, q6⟩ := hn.arr hc hn9
    have q6 := q6 hi.2
    refine W.bast hc.x hc.b q1 q2 q3 (by rw [q4]; exact hin) rfl rfl hdg fun H1 e z oq => ?_
    rw [q6] at e
    refine kk _ H1 _ hf (hn.ast hc (v := narrow .byte (.int x)) hi.2 rfl rfl rfl rfl (fun b hb ty j => zV_wI hb j) (fun j => ?_) (Nat.not_le.mp fun q => hin (Or.inr q)) hn9 e z oq)
    by_cases hj : j = zix i
    · have hj2 : j = i.toNatClampNeg := hj
      rw [if_pos hj2, hj]
      show Value.int (zI (zwI h a (zix i) (vp_nar .byte x)) a (zix i)) = _
      rw [zI_wI, up2_s]
      rfl
    · have hj2 : ¬ j = i.toNatClampNeg := hj
      rw [if_neg hj2, zVk_wI hj]
  · cases hf
theorem zr_sL {α : Type} {K : PH → ZR α} {z : α × PH × Nat × Nat} {i : Int32} {x : Int64} (hc : zC D dA b0 gs own cc nL p c s m args meth) (hn : zM D dA b0 gs s h H locs) (hf : zsL h a 3 i x K = some z) (hdg : decode cc pc = .ok (.lastore, 1)) (kk : ∀ (h2 : PH) (H1 : Heap) (locs1 : List Loc), K h2 = some z → zM D dA b0 gs s h2 H1 locs1 → W p l e R s m args below meth c H1 locs1 cells slots Q (F0 m (pc + 1) ls rest)) : W p l e R s m args below meth c H locs cells slots Q (F0 m pc ls (.long x :: .int i :: .ref a :: rest)) := by
  unfold zsL at hf
  split at hf
  · rename_i hi
    obtain ⟨n, hn9, hin⟩ := zin_vp hi.1
    obtain ⟨cell, q1, q2, q3, q4, q5, q6⟩ := hn.arr hc hn9
    have q6 := q6 hi.2
    refine W.last hc.x hc.b q1 q2 q3 (by rw [q4]; exact hin) rfl rfl hdg fun H1 e z oq => ?_
    rw [q6] at e
    refine kk _ H1 _ hf (hn.ast hc (v := .long x) hi.2 rfl rfl rfl rfl (fun b hb ty j => zV_wL hb j) (fun j => ?_) (Nat.not_le.mp fun q => hin (Or.inr q)) hn9 e z oq)
    by_cases hj : j = zix i
    · have hj2 : j = i.toNatClampNeg := hj
      rw [if_pos hj2, hj]
      show Value.long (zL (zwL h a (zix i) x) a (zix i)) = _
      rw [zL_wL, up2_s]
    · have hj2 : ¬ j = i.toNatClampNeg := hj
      rw [if_neg hj2, zVk_wL hj]
  · cases hf
theorem zr_sD {α : Type} {K : PH → ZR α} {z : α × PH × Nat × Nat} {i : Int32} {x : UInt64} (hc : zC D dA b0 gs own cc nL p c s m args meth) (hn : zM D dA b0 gs s h H locs) (hf : zsD h a i x K = some z) (hdg : decode cc pc = .ok (.dastore, 1)) (kk : ∀ (h2 : PH) (H1 : Heap) (locs1 : List Loc), K h2 = some z → zM D dA b0 gs s h2 H1 locs1 → W p l e R s m args below meth c H1 locs1 cells slots Q (F0 m (pc + 1) ls rest)) : W p l e R s m args below meth c H locs cells slots Q (F0 m pc ls (.double x :: .int i :: .ref a :: rest)) := by
  unfold zsD zsL at hf
  split at hf
  · rename_i hi
    obtain ⟨n, hn9, hin⟩ := zin_vp hi.1
    obtain ⟨cell, q1, q2, q3, q4, q5, q6⟩ := hn.arr hc hn9
    have q6 := q6 hi.2
    refine W.dast hc.x hc.b q1 q2 q3 (by rw [q4]; exact hin) rfl rfl hdg fun H1 e z oq => ?_
    rw [q6] at e
    refine kk _ H1 _ hf (hn.ast hc (v := .double x) hi.2 rfl rfl rfl rfl (fun b hb ty j => zV_wL hb j) (fun j => ?_) (Nat.not_le.mp fun q => hin (Or.inr q)) hn9 e z oq)
    by_cases hj : j = zix i
    · have hj2 : j = i.toNatClampNeg := hj
      rw [if_pos hj2, hj]
      show Value.double (zL (zwL h a (zix i) x.toInt64) a (zix i)).toUInt64 = _
      rw [zL_wL, up2_s]
      simp
    · have hj2 : ¬ j = i.toNatClampNeg := hj
      rw [if_neg hj2, zVk_wL hj]
  · cases hf
end ZROW
