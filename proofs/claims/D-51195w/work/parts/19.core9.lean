/-! casts of arrays; a made exception thrown -/
set_option maxRecDepth 100000
def zcastA {α : Type} (h : PH) (a ai : Nat) (K : ZR α) : ZR α := match zln h a ai with
  | some _ => if zB h ≤ a then K else none
  | none => none
/-- the class of what an array of objects holds, by its first element -/
def zecl (h : PH) (a : Nat) (sp : Int32) : Nat := match zP h a (zix sp) with
  | some y => (match zT h y with
    | some (.inl c) => c
    | _ => 9)
  | none => 9
def zthr {α : Type} (h : PH) (e a : Nat) : ZR (ZX α) := if zT h a = some (.inl e) then some (.inr (e, a), h, 0, 0) else none
section ZK
variable {p : Program} {l : Launch} {e : Env} {R : Room} {s : State} {m : MethodId} {args : Array Value} {below : List Frame} {meth : Method} {c : Code} {H : Heap} {locs : List Loc} {cells slots : Nat} {Q : State → Prop}
variable {cc : ByteArray} {pc nL : Nat} {ls : Array Slot} {rest : List Value} {D : va_G} {dA : Nat → ClassId} {b0 : Nat} {gs : Nat → Option Nat} {own : String} {h : PH} {a : Nat}
theorem zr_castA2 {α : Type} {K : ZR α} {z : α × PH × Nat × Nat} {index : Nat} (hc : zC D dA b0 gs own cc nL p c s m args meth) (hn : zM D dA b0 gs s h H locs) (hlink : (Cond.classLink own index "[B") ∈ lw_all) (hf : zcastA h a 2 K = some z) (hdg : decode cc pc = .ok (.checkcast index, 3))
    (kk : K = some z → W p l e R s m args below meth c H locs cells slots Q (F0 m (pc + 3) ls (.ref a :: rest))) : W p l e R s m args below meth c H locs cells slots Q (F0 m pc ls (.ref a :: rest)) := by
  unfold zcastA at hf
  split at hf
  · rename_i n hn9
    split at hf
    · rename_i hB
      have hP : va_P D vwCl [(a, .inl (dA 2, n, .inl (zI h a)))] H := by
        intro k q hq
        match k, hq with
        | 0, hq => cases hq; exact hn.P1 hc hn9 hB
        | k + 1, hq => simp at hq
      exact va_castA hc.x hc.b hc.ow (hc.ts _ hlink) hP 0 rfl hc.nmB hdg (kk hf)
    · cases hf
  · cases hf
theorem zr_castA10 {α : Type} {K : ZR α} {z : α × PH × Nat × Nat} {index : Nat} (hc : zC D dA b0 gs own cc nL p c s m args meth) (hn : zM D dA b0 gs s h H locs) (hlink : (Cond.classLink own index "[LCountedSkipLists$Mend;") ∈ lw_all) (hf : zcastA h a 10 K = some z) (hdg : decode cc pc = .ok (.checkcast index, 3))
    (kk : K = some z → W p l e R s m args below meth c H locs cells slots Q (F0 m (pc + 3) ls (.ref a :: rest))) : W p l e R s m args below meth c H locs cells slots Q (F0 m pc ls (.ref a :: rest)) := by
  unfold zcastA at hf
  split at hf
  · rename_i n hn9
    split at hf
    · rename_i hB
      have hP : va_P D vwCl [(a, .inl (dA 10, n, .inr (.inr (.inr (.inr (zP h a))))))] H := by
        intro k q hq
        match k, hq with
        | 0, hq => cases hq; exact hn.P1 hc hn9 hB
        | k + 1, hq => simp at hq
      exact va_castA hc.x hc.b hc.ow (hc.ts _ hlink) hP 0 rfl hc.nmM hdg (kk hf)
    · cases hf
  · cases hf
theorem zr_athrow {β : Type} {ev : β → Option Value} {rr : ZX β} {hh : PH} {C9 S9 mc ms : Nat} (hc : zC D dA b0 gs own cc nL p c s m args meth) (hn : zM D dA b0 gs s h H locs) (hq : cells + C9 = mc ∧ slots + S9 = ms) (hout : ∀ x ∈ c.exceptionTable.toList, covers x pc = false) (hf : zthr h 5 a = some (rr, hh, C9, S9)) (hdg : decode cc pc = .ok (.athrow, 1)) : W p l e R s m args below meth c H locs cells slots (vx_MQ below (zQX D dA b0 gs ev rr hh) (zXC D dA b0 gs rr hh) args s mc ms (zA b0)) (F0 m pc ls (.ref a :: rest)) := by
  unfold zthr at hf
  split at hf
  · rename_i ht
    cases hf
    obtain ⟨cell, q1, q2, q3, -⟩ := hn.ob ht
    refine vx_athrow (rest := rest) hc.x hc.b hdg ?_
    exact zx_out hc hn rfl q1 (q3.2.2 (Or.inr (by decide))) (by rw [q2]; exact (hc.k.1 5 _ rfl).2.1) hout (by omega) (by omega)
  · cases hf
end ZK
