/-! THE MACHINE's HEAP HELD BY A PURE ONE -/
set_option maxRecDepth 100000
def zEt : Nat → FieldType := fun k => match k with
  | 0 => .int
  | 1 => .boolean
  | 2 => .byte
  | 3 => .long
  | 4 => .double
  | 5 => .object "CountedSkipLists$Node"
  | 6 => .object "CountedSkipLists$SkipList"
  | 7 => .object "CountedSkipLists$State"
  | 8 => .object "CountedSkipLists$Rule"
  | 9 => .object "java/lang/Object"
  | _ => .object "CountedSkipLists$Mend"
def zTys (dA : Nat → ClassId) : List (ClassId × FieldType) := [(dA 0, zEt 0), (dA 1, zEt 1), (dA 2, zEt 2), (dA 3, zEt 3), (dA 4, zEt 4), (dA 5, zEt 5), (dA 6, zEt 6), (dA 7, zEt 7), (dA 8, zEt 8), (dA 9, zEt 9), (dA 10, zEt 10)]
theorem zTys_at (dA : Nat → ClassId) (ai : Nat) (h : ai < 11) : (zTys dA)[ai]? = some (dA ai, zEt ai) := by
  match ai, h with
  | 0, _ => rfl
  | 1, _ => rfl
  | 2, _ => rfl
  | 3, _ => rfl
  | 4, _ => rfl
  | 5, _ => rfl
  | 6, _ => rfl
  | 7, _ => rfl
  | 8, _ => rfl
  | 9, _ => rfl
  | 10, _ => rfl
  | n + 11, h => omega
def vwCl : List vw_C := [(RX1, TX1, 7), (RX2, TX2, 4), (RX3, TX3, 1), (RX4, TX4, 31), (RX5, TX5, 8), (RX6, TX6, 8), (RX7, TX7, 4), (RX8, TX8, 6), (RX9, TX9, 5), (RX11, TX11, 3), (RX12, TX12, 5), (RX13, TX13, 2), (RJ2, TJ2, 3), (RJ3, TJ3, 3), (RJ10, TJ10, 2), (RJ13, TJ13, 4), (RJ24, TJ24, 1), (RJ27, TJ27, 4)]
def zFt (ci : Nat) : Nat → FieldType := match ci with
  | 0 => tyX1
  | 1 => tyX2
  | 2 => tyX3
  | 3 => tyX4
  | 4 => tyX5
  | 5 => tyX6
  | 6 => tyX7
  | 7 => tyX8
  | 8 => tyX9
  | 9 => tyX11
  | 10 => tyX12
  | 11 => tyX13
  | 12 => tyJ2
  | 13 => tyJ3
  | 14 => tyJ10
  | 15 => tyJ13
  | 16 => tyJ24
  | 17 => tyJ27
  | _ => fun _ => .int
/-- fields of the objects of a class -/
def zCn (ci : Nat) : Nat := match ci with
  | 0 => 7
  | 1 => 4
  | 2 => 1
  | 3 => 31
  | 4 => 8
  | 5 => 8
  | 6 => 4
  | 7 => 6
  | 8 => 5
  | 9 => 3
  | 10 => 5
  | 11 => 2
  | 12 => 3
  | 13 => 3
  | 14 => 2
  | 15 => 4
  | 16 => 1
  | 17 => 4
  | 30 => 1
  | _ => 0
def zV (ty : FieldType) (h : PH) (a k : Nat) : Value := match ty with
  | .long => .long (zL h a k)
  | .double => .double (zL h a k).toUInt64
  | .object _ => va_rf (zP h a k)
  | .array _ => va_rf (zP h a k)
  | _ => .int (zI h a k)
/-- an object of which less is said if it is old -/
def zOB (E : Prop) (o : Nat) (cC : ClassId) (N : Nat) (iS : Nat → Nat) (H : Heap) (V : Nat → Value) : Prop :=
  ∃ cell : Cell, H[o]? = some cell ∧ cell.cls = cC ∧ (cell.vm ≠ .unknown ∧ cell.vm.isStatics = false ∧ (E → cell.vm = .none)) ∧ ∀ k, k < N → cell.slots[iS k]? = some (V k)
theorem zOB.kept {E : Prop} {o : Nat} {cC : ClassId} {N : Nat} {iS : Nat → Nat} {H H1 : Heap} {V : Nat → Value} (h : zOB E o cC N iS H V) (h1 : H1[o]? = H[o]?) : zOB E o cC N iS H1 V := by
  obtain ⟨cell, q, r⟩ := h
  exact ⟨cell, by rw [h1]; exact q, r⟩
theorem zOB.to {E E' : Prop} {o : Nat} {cC : ClassId} {N : Nat} {iS : Nat → Nat} {H : Heap} {V V' : Nat → Value} (h : zOB E o cC N iS H V) (hv : ∀ k, k < N → V k = V' k) (hE : E' → E) : zOB E' o cC N iS H V' := by
  obtain ⟨cell, q, r1, r2, r3⟩ := h
  exact ⟨cell, q, r1, ⟨r2.1, r2.2.1, fun e => r2.2.2 (hE e)⟩, fun k hk => by rw [← hv k hk]; exact r3 k hk⟩
theorem zOB.of {E : Prop} {o : Nat} {cC : ClassId} {N : Nat} {iS : Nat → Nat} {H : Heap} {V : Nat → Value} (h : t_OB o cC N iS H V) : zOB E o cC N iS H V := by
  obtain ⟨cell, q, r1, r2, r3⟩ := h
  exact ⟨cell, q, r1, ⟨by rw [r2]; exact fun e => (by cases e), by rw [r2]; rfl, fun _ => r2⟩, r3⟩
theorem zOB.tob {E : Prop} {o : Nat} {cC : ClassId} {N : Nat} {iS : Nat → Nat} {H : Heap} {V : Nat → Value} (h : zOB E o cC N iS H V) (e : E) : t_OB o cC N iS H V := by
  obtain ⟨cell, q, r1, r2, r3⟩ := h
  exact ⟨cell, q, r1, r2.2.2 e, r3⟩
theorem z_nst {c : Cell} (h : c.vm.isStatics = false) : ∀ q, c.vm ≠ .statics q := fun q e => by rw [e] at h; cases h
/-- what is new, or of a class of which nothing old stands -/
abbrev zEx (h : PH) (a ci : Nat) : Prop := zB h ≤ a ∨ (ci ≠ 14 ∧ ci ≠ 16)
def zAr (dA : Nat → ClassId) (h : PH) (a ai n : Nat) (H : Heap) : Prop := ∃ cell : Cell, H[a]? = some cell ∧ cell.cls = dA ai ∧ (cell.vm ≠ .unknown ∧ cell.vm.isStatics = false) ∧ cell.slots.size = n ∧ (∀ j, j < n → cell.slots[j]? = some (zV (zEt ai) h a j)) ∧ (zB h ≤ a → cell = arrV (dA ai) n (fun j => zV (zEt ai) h a j))
def zOk (D : va_G) (dA : Nat → ClassId) (h : PH) (a : Nat) (t : ZTy) (H : Heap) : Prop := match t with
  | .inl ci => zOB (zEx h a ci) a (D.1 ci) (zCn ci) (D.2 ci) H (fun k => zV (zFt ci k) h a k)
  | .inr (ai, n) => ai < 11 ∧ zAr dA h a ai n H
def zRp (D : va_G) (dA : Nat → ClassId) (h : PH) (H : Heap) : Prop := zN h = H.size ∧ ∀ (a : Nat) (t : ZTy), zT h a = some t → zOk D dA h a t H
theorem zOk.kept {D : va_G} {dA : Nat → ClassId} {h h' : PH} {a : Nat} {t : ZTy} {H H' : Heap} (q : zOk D dA h a t H) (hq : H'[a]? = H[a]?) (hB : zB h' = zB h) (hv : ∀ ty k, zV ty h' a k = zV ty h a k) : zOk D dA h' a t H' := by
  match t, q with
  | .inl ci, q => exact (zOB.kept q hq).to (fun k _ => (hv _ k).symm) (fun e => by rw [zEx, hB] at e; exact e)
  | .inr (ai, n), q =>
    obtain ⟨q0, cell, q1, q2, q3, q4, q5, q6⟩ := q
    refine ⟨q0, cell, by rw [hq]; exact q1, q2, q3, q4, fun j hj => by rw [hv]; exact q5 j hj, fun hb => ?_⟩
    rw [q6 (by rw [← hB]; exact hb)]
    congr 1
    funext j
    exact (hv _ j).symm
theorem zOk.lt {D : va_G} {dA : Nat → ClassId} {h : PH} {a : Nat} {t : ZTy} {H : Heap} (q : zOk D dA h a t H) : a < H.size := by
  match t, q with
  | .inl ci, q =>
    obtain ⟨cell, q1, -⟩ := q
    exact (Array.getElem?_eq_some_iff.mp q1).1
  | .inr (ai, n), q =>
    obtain ⟨q0, cell, q1, -⟩ := q
    exact (Array.getElem?_eq_some_iff.mp q1).1
theorem zRp.upd {D : va_G} {dA : Nat → ClassId} {h h' : PH} {H H' : Heap} (q : zRp D dA h H) (a : Nat) (hs : H'.size = H.size) (ho : ∀ b, b ≠ a → H'[b]? = H[b]?) (eT : zT h' = zT h) (eN : zN h' = zN h) (eB : zB h' = zB h)
    (ev : ∀ b, b ≠ a → ∀ ty k, zV ty h' b k = zV ty h b k) (hk : ∀ t, zT h a = some t → zOk D dA h' a t H') : zRp D dA h' H' := by
  refine ⟨by rw [eN, hs]; exact q.1, fun b t hb => ?_⟩
  rw [eT] at hb
  by_cases e : b = a
  · subst e
    exact hk t hb
  · exact (q.2 b t hb).kept (ho b e) eB (ev b e)
theorem zRp.push {D : va_G} {dA : Nat → ClassId} {h : PH} {H H' : Heap} (q : zRp D dA h H) (t : ZTy) (hs : H'.size = H.size + 1) (ho : ∀ b, b < H.size → H'[b]? = H[b]?) (hk : zOk D dA (znw h t) (zN h) t H') : zRp D dA (znw h t) H' := by
  refine ⟨by rw [zN_nw, hs, q.1], fun b u hb => ?_⟩
  rw [zT_nw] at hb
  by_cases e : b = zN h
  · subst e
    rw [up0_s] at hb
    cases hb
    exact hk
  · rw [up0_n _ _ e] at hb
    have h1 := q.2 b u hb
    refine h1.kept (ho b h1.lt) rfl (fun ty k => ?_)
    unfold zV
    rw [zI_nw, zP_nw, zL_nw, up1_n _ _ e, up1_n _ _ e, up1_n _ _ e]
theorem zRp.pushx {D : va_G} {dA : Nat → ClassId} {h : PH} {H H' : Heap} (q : zRp D dA h H) (hs : H'.size = H.size + 1) (ho : ∀ b, b < H.size → H'[b]? = H[b]?) : zRp D dA (znx h) H' := by
  refine ⟨by rw [zN_nx, hs, q.1], fun b u hb => ?_⟩
  rw [zT_nx] at hb
  have h1 := q.2 b u hb
  exact h1.kept (ho b h1.lt) rfl (fun ty k => rfl)
theorem zV_wI {ty : FieldType} {h : PH} {a k b : Nat} {x : Int32} (e : b ≠ a) (j : Nat) : zV ty (zwI h a k x) b j = zV ty h b j := by
  unfold zV
  rw [zI_wI, zP_wI, zL_wI, up2_na _ _ e]
theorem zV_wP {ty : FieldType} {h : PH} {a k b : Nat} {x : Option Nat} (e : b ≠ a) (j : Nat) : zV ty (zwP h a k x) b j = zV ty h b j := by
  unfold zV
  rw [zI_wP, zP_wP, zL_wP, up2_na _ _ e]
theorem zV_wL {ty : FieldType} {h : PH} {a k b : Nat} {x : Int64} (e : b ≠ a) (j : Nat) : zV ty (zwL h a k x) b j = zV ty h b j := by
  unfold zV
  rw [zI_wL, zP_wL, zL_wL, up2_na _ _ e]
theorem zVk_wI {ty : FieldType} {h : PH} {a k j : Nat} {x : Int32} (e : j ≠ k) : zV ty (zwI h a k x) a j = zV ty h a j := by
  unfold zV
  rw [zI_wI, zP_wI, zL_wI, up2_nk _ _ e]
theorem zVk_wP {ty : FieldType} {h : PH} {a k j : Nat} {x : Option Nat} (e : j ≠ k) : zV ty (zwP h a k x) a j = zV ty h a j := by
  unfold zV
  rw [zI_wP, zP_wP, zL_wP, up2_nk _ _ e]
theorem zVk_wL {ty : FieldType} {h : PH} {a k j : Nat} {x : Int64} (e : j ≠ k) : zV ty (zwL h a k x) a j = zV ty h a j := by
  unfold zV
  rw [zI_wL, zP_wL, zL_wL, up2_nk _ _ e]
/-! WHAT STANDS SINCE THE LAW's START -/
def zTm (k : Nat) : Term := match k with
  | 0 => .static "java/util/ArrayList" "DEFAULTCAPACITY_EMPTY_ELEMENTDATA" "[Ljava/lang/Object;"
  | 1 => .static "java/util/Optional" "EMPTY" "Ljava/util/Optional;"
  | 2 => .static "java/lang/Throwable" "UNASSIGNED_STACK" "[Ljava/lang/StackTraceElement;"
  | 3 => .static "java/lang/Throwable" "SUPPRESSED_SENTINEL" "Ljava/util/List;"
  | 4 => .static "CountedSkipLists" "TWOS" "[I"
  | 5 => .static "CountedSkipLists$Mend" "DIVIDED" "LCountedSkipLists$Mend;"
  | 6 => .static "CountedSkipLists$Mend" "SHIFTED" "LCountedSkipLists$Mend;"
  | 7 => .static "CountedSkipLists$Mend" "MERGED" "LCountedSkipLists$Mend;"
  | 8 => .static "CountedSkipLists$Mend" "$VALUES" "[LCountedSkipLists$Mend;"
  | 9 => .static "CountedSkipLists$Token" "END" "LCountedSkipLists$Token;"
  | 10 => .static "CountedSkipLists$Token" "WORD" "LCountedSkipLists$Token;"
  | 11 => .static "CountedSkipLists$Token" "BAD" "LCountedSkipLists$Token;"
  | 12 => .static "CountedSkipLists$Token" "NUMBER" "LCountedSkipLists$Token;"
  | 13 => .static "CountedSkipLists$Token" "SEMICOLON" "LCountedSkipLists$Token;"
  | 14 => .static "CountedSkipLists$Token" "COLON" "LCountedSkipLists$Token;"
  | 15 => .static "CountedSkipLists$Token" "MINUS" "LCountedSkipLists$Token;"
  | 20 => .string "CountedSkipLists$Parser" 15
  | 21 => .string "CountedSkipLists$Parser" 144
  | 22 => .string "CountedSkipLists$Parser" 151
  | 23 => .string "CountedSkipLists$SkipList" 30
  | 25 => .mirror "[Ljava/lang/Object;"
  | _ => .null
def zgs (a0 : Array Value) (S0 : State) : Nat → Option Nat := fun k => match k with
  | 26 => (S0.lambdaAt? zRN 7 57 zσ2).bind (·.2)
  | 27 => (S0.lambdaAt? zRN 1 54 zσ1).map (·.1)
  | 28 => (S0.lambdaAt? zRN 7 57 zσ2).map (·.1)
  | k => match (zTm k).eval a0 S0 none [] S0 with
    | some (.ref a) => some a
    | _ => none
def zG0 (b0 : Nat) (gs : Nat → Option Nat) (U : State) (H : Heap) : Prop := ∃ (S0 : State) (a0 : Array Value), (∀ w ∈ lw_tbl, w.before a0 S0 = true) ∧ (Jvm.Cond.and given_1 narrow_1).before a0 S0 = true ∧ S0.heap.size = b0 ∧ gs = zgs a0 S0 ∧ S0.WarmedH U.vm ∧ ∀ q, q < b0 → H[q]? = S0.heap[q]?
theorem zG0.go {b0 : Nat} {gs : Nat → Option Nat} {U U' : State} {H H' : Heap} (g : zG0 b0 gs U H) (hvm : U.WarmedH U'.vm) (hh : ∀ q, q < b0 → H'[q]? = H[q]?) : zG0 b0 gs U' H' := by
  obtain ⟨S0, a0, g1, g2, g3, g4, g5, g6⟩ := g
  exact ⟨S0, a0, g1, g2, g3, g4, State.WarmedH.trans g5 hvm, fun q hq => (hh q hq).trans (g6 q hq)⟩
/-- and which classes the rules' objects are of -/
def zG (D : va_G) (b0 : Nat) (gs : Nat → Option Nat) (U : State) (H : Heap) : Prop := zG0 b0 gs U H ∧ gs 27 = some (D.1 30) ∧ D.2 30 = (fun k => k) ∧ gs 28 = some (D.1 31)
theorem zG.go {D : va_G} {b0 : Nat} {gs : Nat → Option Nat} {U U' : State} {H H' : Heap} (g : zG D b0 gs U H) (hvm : U.WarmedH U'.vm) (hh : ∀ q, q < b0 → H'[q]? = H[q]?) : zG D b0 gs U' H' := ⟨g.1.go hvm hh, g.2⟩
abbrev zA (b0 : Nat) : Nat → Prop := fun q => b0 ≤ q
def zW (D : va_G) (dA : Nat → ClassId) (b0 : Nat) (gs : Nat → Option Nat) (h : PH) (U : State) : Prop := zRp D dA h U.heap ∧ zB h = b0 ∧ zS h = gs ∧ va_K D vwCl (zTys dA) U ∧ zG D b0 gs U U.heap ∧ b0 ≤ U.heap.size
def zC (D : va_G) (dA : Nat → ClassId) (b0 : Nat) (gs : Nat → Option Nat) (own : String) (cc : ByteArray) (nL : Nat) (p : Program) (c : Code) (s : State) (m : MethodId) (args : Array Value) (meth : Method) : Prop :=
  (p.tables.exec = Jvm.exec ∧ c.code = cc ∧ c.maxLocals = nL ∧ s.vm.findClass own = some m.cls ∧ ∀ w ∈ lw_all, w.before args s = true) ∧ va_K D vwCl (zTys dA) s ∧ zG D b0 gs s s.heap ∧ b0 ≤ s.heap.size ∧ meth.locks = false
def zM (D : va_G) (dA : Nat → ClassId) (b0 : Nat) (gs : Nat → Option Nat) (s : State) (h : PH) (H : Heap) (locs : List Loc) : Prop := zRp D dA h H ∧ zB h = b0 ∧ zS h = gs ∧ va_S (zA b0) s.heap H locs
theorem zM.w {D : va_G} {dA : Nat → ClassId} {b0 : Nat} {gs : Nat → Option Nat} {own : String} {cc : ByteArray} {nL : Nat} {p : Program} {c : Code} {s : State} {m : MethodId} {args : Array Value} {meth : Method} {h : PH} {H : Heap} {locs : List Loc} (hc : zC D dA b0 gs own cc nL p c s m args meth) (hn : zM D dA b0 gs s h H locs) {U : State} (hU : U.heap = H) (hv : s.WarmedH U.vm) : zW D dA b0 gs h U := by
  obtain ⟨-, c1, c2, c3, -⟩ := hc
  obtain ⟨n1, n2, n3, n4⟩ := hn
  refine ⟨by rw [hU]; exact n1, n2, n3, va_K.moved hv.alike c1, c2.go hv (fun q hq => by rw [hU]; exact n4.2.1 q (Nat.lt_of_lt_of_le hq c3) (Nat.not_le.mpr hq)), by rw [hU]; exact Nat.le_trans c3 n4.1⟩
/-! ANSWERS -/
def evU (_ : Unit) : Option Value := none
def evI (x : Int32) : Option Value := some (.int x)
def evP (o : Option Nat) : Option Value := some (va_rf o)
def evN (a : Nat) : Option Value := some (.ref a)
def evL (x : Int64) : Option Value := some (.long x)
def evD (x : UInt64) : Option Value := some (.double x)
def zQ (D : va_G) (dA : Nat → ClassId) (b0 : Nat) (gs : Nat → Option Nat) (v : Option Value) (h : PH) : Array Value → State → Outcome → State → Prop := fun _ st o t => o = .returned v ∧ zW D dA b0 gs h t ∧ va_F (zA b0) st t
def zMt (l : Launch) (D : va_G) (dA : Nat → ClassId) (b0 : Nat) (gs : Nat → Option Nat) (y : MethodName) (cc : ByteArray) (nL : Nat) (ret : Option FieldType) (fr lo : Nat) (vs : List Value) (h : PH) (v : Option Value) (h1 : PH) (c s : Nat) : Prop :=
  Met l y (ws_ y cc nL ret) ({ frames := fr, cells := c, slots := s, locals := lo } : Room) (va_Pc vs (zW D dA b0 gs h)) (zQ D dA b0 gs v h1) c s (zA b0)
/-- a method's proof: its body, from its entry -/
theorem zMt.of {l : Launch} {D : va_G} {dA : Nat → ClassId} {b0 : Nat} {gs : Nat → Option Nat} {y : MethodName} {cc : ByteArray} {nL : Nat} {ret : Option FieldType} {fr lo : Nat} {vs : List Value} {h : PH} {v : Option Value} {h1 : PH} {cn sn : Nat} (hy : plainName y.cls = true) (hl : (lg_sl vs).length ≤ nL)
    (body : ∀ (p : Program) (e : Env) (s : State) (m : MethodId) (args : Array Value) (below : List Frame) (meth : Method) (c : Code), zC D dA b0 gs y.cls cc nL p c s m args meth → meth.sig.returnType = ret → meth.name = y.name → zM D dA b0 gs s h s.heap [] → ∀ ls : Array Slot, lv_has ls nL (lv_args 0 vs) →
      W p l e ({ frames := fr, cells := cn, slots := sn, locals := lo } : Room) s m args below meth c s.heap [] 0 0 (MQ below (zQ D dA b0 gs v h1) args s cn sn (zA b0)) (F0 m 0 ls [])) : zMt l D dA b0 gs y cc nL ret fr lo vs h v h1 cn sn := by
  refine Met.ofW (cc := cc) (maxL := nL) (ret := ret) hy rfl ?_
  intro p e s m args below meth c s₁ B hml hv
  obtain ⟨rfl, w1, w2, w3, w4, w5, w6⟩ := hv
  have hts := atoms_spec (ws := ws_ y cc nL ret) B.pre
  have hts : ∀ w ∈ lw_all, w.before _ s = true := fun w h => hts w (List.mem_cons_of_mem _ h)
  have hin : meth.name = y.name := (name_of_methodNamed B.named B.method).1
  have hl0 := lv_entry vs (n := nL) hl
  rw [lg_entry_eq]
  exact body p e s m _ below meth c ⟨⟨B.exec, B.bytes, hml, findClass_of_methodNamed B.named, hts⟩, w4, w5, w6, B.notSynchronized⟩ B.returns hin ⟨w1, w2, w3, va_S.rf⟩ _ hl0
