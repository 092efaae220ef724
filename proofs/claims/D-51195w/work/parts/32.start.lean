/-! THE LAW's START -/
set_option maxRecDepth 100000
theorem z_arrP {s : State} {args : Array Value} {ty : FieldType} (h : (Cond.arrayClass ty).before args s = true) (hty : ∀ cA, s.vm.findClass ("[" ++ ty.toString) = some cA → va_RA s cA ty) : ∃ cA, ArrOfT s cA ty ∧ va_RA s cA ty := by
  obtain ⟨c, k, comp, h1, h2, h3⟩ := Cond.arrayClass_spec h
  exact ⟨c, fun n z => ⟨fun k h => (by cases h), k, h2, comp, h3⟩, hty c h1⟩
theorem z_arrO {s : State} {args : Array Value} {C : String} (h : (Cond.arrayOver (.object C)).before args s = true) : ∃ cA, ArrOfT s cA (.object C) ∧ va_RA s cA (.object C) := by
  obtain ⟨comp, c, k, h1, -, h2, h3, h4⟩ := Cond.arrayOver_spec h
  exact ⟨c, fun n z => ⟨fun k h => (by cases h), k, h2, comp, h3⟩, k, comp, h2, h3, h1, h4⟩
theorem z_known {s : State} {a0 : Array Value} (ht : ∀ w ∈ lw_tbl, w.before a0 s = true) (hg : (Jvm.Cond.and given_1 narrow_1).before a0 s = true) : ∃ (D : va_G) (dA : Nat → ClassId), va_K D vwCl (zTys dA) s ∧ zgs a0 s 27 = some (D.1 30) ∧ D.2 30 = (fun k => k) ∧ zgs a0 s 28 = some (D.1 31) := by
  have ha : ∀ w ∈ lw_all, w.before a0 s = true := fun w hw => ht w (lw_all_tbl hw)
  obtain ⟨e0, eA0, eR0⟩ := z_arrP (ha _ q180) (fun cA h => h)
  obtain ⟨e1, eA1, eR1⟩ := z_arrP (ha _ q2194) (fun cA h => h)
  obtain ⟨e2, eA2, eR2⟩ := z_arrP (ha _ q179) (fun cA h => h)
  obtain ⟨e3, eA3, eR3⟩ := z_arrP (ha _ q2193) (fun cA h => h)
  obtain ⟨e4, eA4, eR4⟩ := z_arrP (ha _ q2637) (fun cA h => h)
  obtain ⟨e5, eA5, eR5⟩ := z_arrO (ht _ q828)
  obtain ⟨e6, eA6, eR6⟩ := z_arrO (ht _ q146)
  obtain ⟨e7, eA7, eR7⟩ := z_arrO (ht _ q223)
  obtain ⟨e8, eA8, eR8⟩ := z_arrO (ht _ q968)
  obtain ⟨e9, eA9, eR9⟩ := z_arrO (ht _ q212)
  obtain ⟨e10, eA10, eR10⟩ := z_arrO (ht _ q1954)
  obtain ⟨c0, i0, hK0⟩ := u_known (C := RX1) (T := TX1) (N := 7) (n := 7) ha in_X1 (ha _ q132)
  obtain ⟨c1, i1, hK1⟩ := u_known (C := RX2) (T := TX2) (N := 4) (n := 4) ha in_X2 (ha _ q140)
  obtain ⟨c2, i2, hK2⟩ := u_known (C := RX3) (T := TX3) (N := 1) (n := 1) ha in_X3 (ha _ q148)
  obtain ⟨c3, i3, hK3⟩ := u_known (C := RX4) (T := TX4) (N := 31) (n := 31) ha in_X4 (ha _ q2093)
  obtain ⟨c4, i4, hK4⟩ := u_known (C := RX5) (T := TX5) (N := 8) (n := 8) ha in_X5 (ha _ q423)
  obtain ⟨c5, i5, hK5⟩ := u_known (C := RX6) (T := TX6) (N := 8) (n := 8) ha in_X6 (ha _ q777)
  obtain ⟨c6, i6, hK6⟩ := u_known (C := RX7) (T := TX7) (N := 4) (n := 4) ha in_X7 (ha _ q813)
  obtain ⟨c7, i7, hK7⟩ := u_known (C := RX8) (T := TX8) (N := 6) (n := 6) ha in_X8 (ha _ q819)
  obtain ⟨c8, i8, hK8⟩ := u_known (C := RX9) (T := TX9) (N := 5) (n := 5) ha in_X9 (ha _ q937)
  obtain ⟨c9, i9, hK9⟩ := u_known (C := RX11) (T := TX11) (N := 3) (n := 3) ha in_X11 (ha _ q1038)
  obtain ⟨c10, i10, hK10⟩ := u_known (C := RX12) (T := TX12) (N := 5) (n := 5) ha in_X12 (ha _ q1359)
  obtain ⟨c11, i11, hK11⟩ := u_known (C := RX13) (T := TX13) (N := 2) (n := 2) ha in_X13 (ha _ q1454)
  obtain ⟨c12, i12, hK12⟩ := u_known (C := RJ2) (T := TJ2) (N := 3) (n := 3) ha in_J2 (ha _ q154)
  obtain ⟨c13, i13, hK13⟩ := u_known (C := RJ3) (T := TJ3) (N := 3) (n := 3) ha in_J3 (ha _ q205)
  obtain ⟨c14, i14, hK14⟩ := u_known (C := RJ10) (T := TJ10) (N := 2) (n := 4) ha in_J10s (ha _ q386)
  obtain ⟨c15, i15, hK15⟩ := u_known (C := RJ13) (T := TJ13) (N := 4) (n := 4) ha in_J13 (ha _ q441)
  obtain ⟨c16, i16, hK16⟩ := u_known (C := RJ24) (T := TJ24) (N := 1) (n := 1) ha in_J24 (ha _ q1240)
  obtain ⟨c17, i17, hK17⟩ := u_known (C := RJ27) (T := TJ27) (N := 4) (n := 4) ha in_J27 (ha _ q1426)
  obtain ⟨cK1, one1, hat1⟩ := Cond.lambdaSite_spec (flat_of_before _ hg _ znr_l1 : (Cond.lambdaSite zRN 1 54 zσ1).before a0 s = true)
  obtain ⟨cK2, one2, hat2⟩ := Cond.lambdaSite_spec (flat_of_before _ hg _ znr_l2 : (Cond.lambdaSite zRN 7 57 zσ2).before a0 s = true)
  refine ⟨(fun k => if k = 0 then c0 else if k = 1 then c1 else if k = 2 then c2 else if k = 3 then c3 else if k = 4 then c4 else if k = 5 then c5 else if k = 6 then c6 else if k = 7 then c7 else if k = 8 then c8 else if k = 9 then c9 else if k = 10 then c10 else if k = 11 then c11 else if k = 12 then c12 else if k = 13 then c13 else if k = 14 then c14 else if k = 15 then c15 else if k = 16 then c16 else if k = 17 then c17 else if k = 30 then cK1 else cK2, fun k => if k = 0 then i0 else if k = 1 then i1 else if k = 2 then i2 else if k = 3 then i3 else if k = 4 then i4 else if k = 5 then i5 else if k = 6 then i6 else if k = 7 then i7 else if k = 8 then i8 else if k = 9 then i9 else if k = 10 then i10 else if k = 11 then i11 else if k = 12 then i12 else if k = 13 then i13 else if k = 14 then i14 else if k = 15 then i15 else if k = 16 then i16 else if k = 17 then i17 else fun j => j), fun k => if k = 0 then e0 else if k = 1 then e1 else if k = 2 then e2 else if k = 3 then e3 else if k = 4 then e4 else if k = 5 then e5 else if k = 6 then e6 else if k = 7 then e7 else if k = 8 then e8 else if k = 9 then e9 else e10, ⟨fun k q hq => ?_, fun k q hq => ?_⟩, ?_, rfl, ?_⟩
  · match k, hq with
    | 0, hq => cases hq; exact hK0
    | 1, hq => cases hq; exact hK1
    | 2, hq => cases hq; exact hK2
    | 3, hq => cases hq; exact hK3
    | 4, hq => cases hq; exact hK4
    | 5, hq => cases hq; exact hK5
    | 6, hq => cases hq; exact hK6
    | 7, hq => cases hq; exact hK7
    | 8, hq => cases hq; exact hK8
    | 9, hq => cases hq; exact hK9
    | 10, hq => cases hq; exact hK10
    | 11, hq => cases hq; exact hK11
    | 12, hq => cases hq; exact hK12
    | 13, hq => cases hq; exact hK13
    | 14, hq => cases hq; exact hK14
    | 15, hq => cases hq; exact hK15
    | 16, hq => cases hq; exact hK16
    | 17, hq => cases hq; exact hK17
    | k + 18, hq => simp [vwCl] at hq
  · match k, hq with
    | 0, hq => cases hq; exact ⟨eA0, eR0⟩
    | 1, hq => cases hq; exact ⟨eA1, eR1⟩
    | 2, hq => cases hq; exact ⟨eA2, eR2⟩
    | 3, hq => cases hq; exact ⟨eA3, eR3⟩
    | 4, hq => cases hq; exact ⟨eA4, eR4⟩
    | 5, hq => cases hq; exact ⟨eA5, eR5⟩
    | 6, hq => cases hq; exact ⟨eA6, eR6⟩
    | 7, hq => cases hq; exact ⟨eA7, eR7⟩
    | 8, hq => cases hq; exact ⟨eA8, eR8⟩
    | 9, hq => cases hq; exact ⟨eA9, eR9⟩
    | 10, hq => cases hq; exact ⟨eA10, eR10⟩
    | k + 11, hq => simp [zTys] at hq
  · show (s.lambdaAt? zRN 1 54 zσ1).map (·.1) = some cK1
    rw [hat1]; rfl
  · show (s.lambdaAt? zRN 7 57 zσ2).map (·.1) = some cK2
    rw [hat2]; rfl
