/-! STATICS AND STRING CONSTANTS, as they stand since the law's start -/
set_option maxRecDepth 100000
theorem zeval_isRef {args : Array Value} {s : State} {t : Term} (h : (Cond.isRef t).before args s = true) : t.eval args s none [] s = some (va_rf (match t.eval args s none [] s with
  | some (.ref a) => some a
  | _ => none)) := by
  cases hv : t.eval args s none [] s with
  | none => simp [Cond.before, Cond.holds, Cond.value, hv] at h
  | some w =>
    simp only [Cond.before, Cond.holds, Cond.value, hv] at h
    cases w with
    | null => rfl
    | ref a => rfl
    | _ => simp at h
theorem zeval_ex {args : Array Value} {s : State} {t : Term} {C : String} (h : (Cond.exactly t C).before args s = true) : t.eval args s none [] s = some (va_rf (match t.eval args s none [] s with
  | some (.ref a) => some a
  | _ => none)) := by
  cases hv : t.eval args s none [] s with
  | none => simp [Cond.before, Cond.holds, Cond.value, hv] at h
  | some w =>
    simp only [Cond.before, Cond.holds, Cond.value, hv] at h
    cases w with
    | ref a => rfl
    | null => cases hc : s.vm.findClass C <;> simp [hc] at h
    | _ => simp at h
def zNar : Cond := Jvm.Cond.and given_1 narrow_1
theorem znr_0 : (Cond.isRef (.static "java/util/ArrayList" "DEFAULTCAPACITY_EMPTY_ELEMENTDATA" "[Ljava/lang/Object;")) ∈ flatC zNar := by decide +kernel
theorem znr_1 : (Cond.exactly (.static "java/util/Optional" "EMPTY" "Ljava/util/Optional;") "java/util/Optional") ∈ flatC zNar := by decide +kernel
theorem znr_2 : (Cond.isRef (.static "java/lang/Throwable" "UNASSIGNED_STACK" "[Ljava/lang/StackTraceElement;")) ∈ flatC zNar := by decide +kernel
theorem znr_3 : (Cond.isRef (.static "java/lang/Throwable" "SUPPRESSED_SENTINEL" "Ljava/util/List;")) ∈ flatC zNar := by decide +kernel
theorem znr_4 : (Cond.isRef (.static "CountedSkipLists" "TWOS" "[I")) ∈ flatC zNar := by decide +kernel
theorem znr_5 : (Cond.exactly (.static "CountedSkipLists$Mend" "DIVIDED" "LCountedSkipLists$Mend;") "CountedSkipLists$Mend$1") ∈ flatC zNar := by decide +kernel
theorem znr_6 : (Cond.exactly (.static "CountedSkipLists$Mend" "SHIFTED" "LCountedSkipLists$Mend;") "CountedSkipLists$Mend$2") ∈ flatC zNar := by decide +kernel
theorem znr_7 : (Cond.exactly (.static "CountedSkipLists$Mend" "MERGED" "LCountedSkipLists$Mend;") "CountedSkipLists$Mend$3") ∈ flatC zNar := by decide +kernel
theorem znr_8 : (Cond.isRef (.static "CountedSkipLists$Mend" "$VALUES" "[LCountedSkipLists$Mend;")) ∈ flatC zNar := by decide +kernel
theorem znr_9 : (Cond.exactly (.static "CountedSkipLists$Token" "END" "LCountedSkipLists$Token;") "CountedSkipLists$Token") ∈ flatC zNar := by decide +kernel
theorem znr_10 : (Cond.exactly (.static "CountedSkipLists$Token" "WORD" "LCountedSkipLists$Token;") "CountedSkipLists$Token") ∈ flatC zNar := by decide +kernel
theorem znr_11 : (Cond.exactly (.static "CountedSkipLists$Token" "BAD" "LCountedSkipLists$Token;") "CountedSkipLists$Token") ∈ flatC zNar := by decide +kernel
theorem znr_12 : (Cond.exactly (.static "CountedSkipLists$Token" "NUMBER" "LCountedSkipLists$Token;") "CountedSkipLists$Token") ∈ flatC zNar := by decide +kernel
theorem znr_13 : (Cond.exactly (.static "CountedSkipLists$Token" "SEMICOLON" "LCountedSkipLists$Token;") "CountedSkipLists$Token") ∈ flatC zNar := by decide +kernel
theorem znr_14 : (Cond.exactly (.static "CountedSkipLists$Token" "COLON" "LCountedSkipLists$Token;") "CountedSkipLists$Token") ∈ flatC zNar := by decide +kernel
theorem znr_15 : (Cond.exactly (.static "CountedSkipLists$Token" "MINUS" "LCountedSkipLists$Token;") "CountedSkipLists$Token") ∈ flatC zNar := by decide +kernel
theorem znr_cs : (Cond.eq (.static "java/lang/String" "COMPACT_STRINGS" "Z") (.int 1)) ∈ flatC zNar := by decide +kernel
section ZST
variable {p : Program} {l : Launch} {e : Env} {R : Room} {s : State} {m : MethodId} {args : Array Value} {below : List Frame} {meth : Method} {c : Code} {H : Heap} {locs : List Loc} {cells slots : Nat} {Q : State → Prop}
variable {cc : ByteArray} {pc nL : Nat} {ls : Array Slot} {rest : List Value} {D : va_G} {dA : Nat → ClassId} {b0 : Nat} {gs : Nat → Option Nat} {own : String} {h : PH} {a : Nat}
/-- a static of the start, still -/
theorem zC.zst (hc : zC D dA b0 gs own cc nL p c s m args meth) {C n d : String} {v : (Nat → Option Nat) → Value} (hl : (Cond.laysStatic C n d) ∈ lw_tbl) (hi : (Cond.initialized C) ∈ lw_all) (hv : ∀ (S0 : State) (a0 : Array Value), zNar.before a0 S0 = true → (Term.static C n d).eval a0 S0 none [] S0 = some (v (zgs a0 S0))) : va_Z C n d (v gs) (zA b0) s s.heap := by
  obtain ⟨S0, a0, g1, g2, g3, g4, g5, g6⟩ := hc.g
  have h0 : va_Z C n d (v gs) (zA b0) S0 S0.heap := va_Zof (g1 _ hl) (g1 _ (lw_all_tbl hi)) (by rw [g4]; exact hv S0 a0 g2) (fun a ha => by show ¬ b0 ≤ a; omega)
  exact (h0.moved g5.alike).kept (fun a ha hb => g6 a (Nat.not_le.mp hb))
theorem zr_gs {α : Type} {K : Option Nat → ZR α} {z : α × PH × Nat × Nat} {k : Nat} (hc : zC D dA b0 gs own cc nL p c s m args meth) (hn : zM D dA b0 gs s h H locs) {C n d ref : String} {index : Nat} (hZ : va_Z C n d (va_rf (gs k)) (zA b0) s s.heap) (hlink : (Cond.fieldLink own index ref n d) ∈ lw_all) (hsame : ∀ x, s.fieldFound? C n d = some x → s.fieldFound? ref n d = some x) (hf : znm (zS h k) K = some z) (hdg : decode cc pc = .ok (.getstatic index, 3))
    (kk : ∀ o : Option Nat, K o = some z → W p l e R s m args below meth c H locs cells slots Q (F0 m (pc + 3) ls (va_rf o :: rest))) : W p l e R s m args below meth c H locs cells slots Q (F0 m pc ls rest) := by
  refine va_gets hc.x hc.b hZ hn.2.2.2 hc.ow (hc.ts _ hlink) hsame hdg ?_
  have h3 : zS h = gs := hn.2.2.1
  rw [← h3]
  exact kk _ hf
theorem zr_gsI (hc : zC D dA b0 gs own cc nL p c s m args meth) (hn : zM D dA b0 gs s h H locs) {C n d ref : String} {index : Nat} {v : Value} (hZ : va_Z C n d v (zA b0) s s.heap) (hlink : (Cond.fieldLink own index ref n d) ∈ lw_all) (hsame : ∀ x, s.fieldFound? C n d = some x → s.fieldFound? ref n d = some x) (hdg : decode cc pc = .ok (.getstatic index, 3))
    (kk : W p l e R s m args below meth c H locs cells slots Q (F0 m (pc + 3) ls (v :: rest))) : W p l e R s m args below meth c H locs cells slots Q (F0 m pc ls rest) := va_gets hc.x hc.b hZ hn.2.2.2 hc.ow (hc.ts _ hlink) hsame hdg kk
theorem zC.st0 (hc : zC D dA b0 gs own cc nL p c s m args meth) : va_Z "java/util/ArrayList" "DEFAULTCAPACITY_EMPTY_ELEMENTDATA" "[Ljava/lang/Object;" (va_rf (gs 0)) (zA b0) s s.heap := hc.zst (v := fun g => va_rf (g 0)) q166 q89 (fun S0 a0 g2 => zeval_isRef (flat_of_before _ g2 _ znr_0))
theorem zC.st1 (hc : zC D dA b0 gs own cc nL p c s m args meth) : va_Z "java/util/Optional" "EMPTY" "Ljava/util/Optional;" (va_rf (gs 1)) (zA b0) s s.heap := hc.zst (v := fun g => va_rf (g 1)) q1256 q122 (fun S0 a0 g2 => zeval_ex (flat_of_before _ g2 _ znr_1))
theorem zC.st2 (hc : zC D dA b0 gs own cc nL p c s m args meth) : va_Z "java/lang/Throwable" "UNASSIGNED_STACK" "[Ljava/lang/StackTraceElement;" (va_rf (gs 2)) (zA b0) s s.heap := hc.zst (v := fun g => va_rf (g 2)) q316 q92 (fun S0 a0 g2 => zeval_isRef (flat_of_before _ g2 _ znr_2))
theorem zC.st3 (hc : zC D dA b0 gs own cc nL p c s m args meth) : va_Z "java/lang/Throwable" "SUPPRESSED_SENTINEL" "Ljava/util/List;" (va_rf (gs 3)) (zA b0) s s.heap := hc.zst (v := fun g => va_rf (g 3)) q318 q92 (fun S0 a0 g2 => zeval_isRef (flat_of_before _ g2 _ znr_3))
theorem zC.st4 (hc : zC D dA b0 gs own cc nL p c s m args meth) : va_Z "CountedSkipLists" "TWOS" "[I" (va_rf (gs 4)) (zA b0) s s.heap := hc.zst (v := fun g => va_rf (g 4)) q915 q84 (fun S0 a0 g2 => zeval_isRef (flat_of_before _ g2 _ znr_4))
theorem zC.st5 (hc : zC D dA b0 gs own cc nL p c s m args meth) : va_Z "CountedSkipLists$Mend" "DIVIDED" "LCountedSkipLists$Mend;" (va_rf (gs 5)) (zA b0) s s.heap := hc.zst (v := fun g => va_rf (g 5)) q980 q118 (fun S0 a0 g2 => zeval_ex (flat_of_before _ g2 _ znr_5))
theorem zC.st6 (hc : zC D dA b0 gs own cc nL p c s m args meth) : va_Z "CountedSkipLists$Mend" "SHIFTED" "LCountedSkipLists$Mend;" (va_rf (gs 6)) (zA b0) s s.heap := hc.zst (v := fun g => va_rf (g 6)) q991 q118 (fun S0 a0 g2 => zeval_ex (flat_of_before _ g2 _ znr_6))
theorem zC.st7 (hc : zC D dA b0 gs own cc nL p c s m args meth) : va_Z "CountedSkipLists$Mend" "MERGED" "LCountedSkipLists$Mend;" (va_rf (gs 7)) (zA b0) s s.heap := hc.zst (v := fun g => va_rf (g 7)) q993 q118 (fun S0 a0 g2 => zeval_ex (flat_of_before _ g2 _ znr_7))
theorem zC.st8 (hc : zC D dA b0 gs own cc nL p c s m args meth) : va_Z "CountedSkipLists$Mend" "$VALUES" "[LCountedSkipLists$Mend;" (va_rf (gs 8)) (zA b0) s s.heap := hc.zst (v := fun g => va_rf (g 8)) q1949 q118 (fun S0 a0 g2 => zeval_isRef (flat_of_before _ g2 _ znr_8))
theorem zC.st9 (hc : zC D dA b0 gs own cc nL p c s m args meth) : va_Z "CountedSkipLists$Token" "END" "LCountedSkipLists$Token;" (va_rf (gs 9)) (zA b0) s s.heap := hc.zst (v := fun g => va_rf (g 9)) q438 q101 (fun S0 a0 g2 => zeval_ex (flat_of_before _ g2 _ znr_9))
theorem zC.st10 (hc : zC D dA b0 gs own cc nL p c s m args meth) : va_Z "CountedSkipLists$Token" "WORD" "LCountedSkipLists$Token;" (va_rf (gs 10)) (zA b0) s s.heap := hc.zst (v := fun g => va_rf (g 10)) q715 q101 (fun S0 a0 g2 => zeval_ex (flat_of_before _ g2 _ znr_10))
theorem zC.st11 (hc : zC D dA b0 gs own cc nL p c s m args meth) : va_Z "CountedSkipLists$Token" "BAD" "LCountedSkipLists$Token;" (va_rf (gs 11)) (zA b0) s s.heap := hc.zst (v := fun g => va_rf (g 11)) q717 q101 (fun S0 a0 g2 => zeval_ex (flat_of_before _ g2 _ znr_11))
theorem zC.st12 (hc : zC D dA b0 gs own cc nL p c s m args meth) : va_Z "CountedSkipLists$Token" "NUMBER" "LCountedSkipLists$Token;" (va_rf (gs 12)) (zA b0) s s.heap := hc.zst (v := fun g => va_rf (g 12)) q719 q101 (fun S0 a0 g2 => zeval_ex (flat_of_before _ g2 _ znr_12))
theorem zC.st13 (hc : zC D dA b0 gs own cc nL p c s m args meth) : va_Z "CountedSkipLists$Token" "SEMICOLON" "LCountedSkipLists$Token;" (va_rf (gs 13)) (zA b0) s s.heap := hc.zst (v := fun g => va_rf (g 13)) q721 q101 (fun S0 a0 g2 => zeval_ex (flat_of_before _ g2 _ znr_13))
theorem zC.st14 (hc : zC D dA b0 gs own cc nL p c s m args meth) : va_Z "CountedSkipLists$Token" "COLON" "LCountedSkipLists$Token;" (va_rf (gs 14)) (zA b0) s s.heap := hc.zst (v := fun g => va_rf (g 14)) q723 q101 (fun S0 a0 g2 => zeval_ex (flat_of_before _ g2 _ znr_14))
theorem zC.st15 (hc : zC D dA b0 gs own cc nL p c s m args meth) : va_Z "CountedSkipLists$Token" "MINUS" "LCountedSkipLists$Token;" (va_rf (gs 15)) (zA b0) s s.heap := hc.zst (v := fun g => va_rf (g 15)) q725 q101 (fun S0 a0 g2 => zeval_ex (flat_of_before _ g2 _ znr_15))
theorem zC.stCS (hc : zC D dA b0 gs own cc nL p c s m args meth) : va_Z "java/lang/String" "COMPACT_STRINGS" "Z" (.int 1) (zA b0) s s.heap := hc.zst (v := fun _ => .int 1) q450 q98 (fun S0 a0 g2 => va_eqi (flat_of_before _ g2 _ znr_cs))
theorem znr_20 : (Cond.exactly (.string "CountedSkipLists$Parser" 15) "java/lang/String") ∈ flatC zNar := by decide +kernel
theorem znr_21 : (Cond.exactly (.string "CountedSkipLists$Parser" 144) "java/lang/String") ∈ flatC zNar := by decide +kernel
theorem znr_22 : (Cond.exactly (.string "CountedSkipLists$Parser" 151) "java/lang/String") ∈ flatC zNar := by decide +kernel
theorem znr_23 : (Cond.exactly (.string "CountedSkipLists$SkipList" 30) "java/lang/String") ∈ flatC zNar := by decide +kernel
theorem zr_lds {α : Type} {K : Option Nat → ZR α} {z : α × PH × Nat × Nat} {k : Nat} (hc : zC D dA b0 gs own cc nL p c s m args meth) (hn : zM D dA b0 gs s h H locs) {tx : String} {index : Nat} (htm : zTm k = .string own index) (hq : (Cond.stringRef own index tx) ∈ lw_tbl) (hx : (Cond.exactly (.string own index) "java/lang/String") ∈ flatC zNar) (hf : znm (zS h k) K = some z) (hdg : decode cc pc = .ok (.ldc index, 2))
    (kk : ∀ o : Option Nat, K o = some z → W p l e R s m args below meth c H locs cells slots Q (F0 m (pc + 2) ls (va_rf o :: rest))) : W p l e R s m args below meth c H locs cells slots Q (F0 m pc ls rest) := by
  obtain ⟨S0, a0, g1, g2, g3, g4, g5, g6⟩ := hc.g
  have h1 := flat_of_before _ g2 _ hx
  have h3 : zS h k = zgs a0 S0 k := by rw [hn.2.2.1, g4]
  cases hv : (Term.string own index).eval a0 S0 none [] S0 with
  | none => simp [Cond.before, Cond.holds, Cond.value, hv] at h1
  | some w =>
    cases w with
    | ref q =>
      have h4 : zS h k = some q := by
        rw [h3]
        unfold zgs
        split
        · exact nomatch (htm : Term.null = Term.string own index)
        · exact nomatch (htm : Term.null = Term.string own index)
        · exact nomatch (htm : Term.null = Term.string own index)
        · rw [htm, hv]
      exact va_ldcS hc.x hc.b hc.ow (vk_R.warm g5 (vk_R.of (g1 _ hq) hv)) hdg (by
        have h5 := kk (some q) (by rw [← h4]; exact hf)
        exact h5)
    | null => cases hc9 : S0.vm.findClass "java/lang/String" <;> simp [Cond.before, Cond.holds, Cond.value, hv, hc9] at h1
    | _ => simp [Cond.before, Cond.holds, Cond.value, hv] at h1
end ZST
