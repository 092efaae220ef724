/-! FROM THE PURE LAW TO THE LAW's WALK -/
set_option maxRecDepth 100000
theorem zroomM {p : Program} {l : Launch} {e : Env} {R R' : Room} {s : State} {m : MethodId} {args : Array Value} {below : List Frame} {meth : Method} {c : Code} {T : State} {locs : List Loc} {cells slots : Nat} (X : Stand p l e R s m args below meth c T locs cells slots) (h : s.hasRoom e.platform R' = true) : Stand p l e R' s m args below meth c T locs cells slots :=
  ⟨X.admits, X.cas, X.clock, X.frames, h, X.hears, X.method, X.code, X.here, X.tail, X.warmed, X.limits, X.bytes, X.same⟩
theorem z_room {s : State} {pl : Platform} {R R' : Room} (h : s.hasRoom pl R = true) (h1 : R'.frames ≤ R.frames) (h2 : R'.cells ≤ R.cells) (h3 : R'.slots ≤ R.slots) (h4 : R'.locals ≤ R.locals) : s.hasRoom pl R' = true := by
  unfold State.hasRoom at h ⊢
  simp only [Bool.and_eq_true, decide_eq_true_eq] at h ⊢
  obtain ⟨⟨⟨⟨a1, a2, a3, a4, a5, a6⟩, a7⟩, a8⟩, a9⟩ := h
  exact ⟨⟨⟨⟨by omega, by omega, by omega, by omega, by omega, a6⟩, by omega⟩, by omega⟩, a9⟩
theorem whole_from {p : Program} {e : Env} {s : State} {m : MethodId} {below : List Frame} {meth : Method} {c : Code} (l : Launch) (hflags : l.flags = flags0) {b L : Nat} {xs : Nat → Int32} (C0 : lw_At p s m meth c b L xs) {D : va_G} {dA : Nat → ClassId} {gs : Nat → Option Nat} {h hh : PH} {mc ms : Nat} (hin : meth.name = x.name)
    (hc : zC D dA s.heap.size gs x.cls cL_law 9 p c s m #[.ref b] meth) (hn : zM D dA s.heap.size gs s h s.heap []) (hf : f_L_law L xs h b = some (1, hh, mc, ms)) (hmc : mc ≤ 1200144) (hms : ms ≤ 5494522) :
    W p l e room_1 s m #[Value.ref b] below meth c s.heap [] 0 0 (lw_Z below #[Value.ref b] s) (entryFrame m ([Value.ref b] : List Value).toArray 9) := by
  obtain ⟨hx, hb, hr, hml, hown, hts, hX, hbl, hlocks, hgv⟩ := id C0
  have hl := lv_entry ([.ref b]) (n := 9) (Nat.le_of_ble_eq_true rfl)
  rw [lg_entry_eq]
  generalize (lg_sl ([.ref b]) ++ List.replicate (9 - (lg_sl ([.ref b])).length) Slot.unset).toArray = ls at hl ⊢
  have hl : lv_has ls 9 [(0, .ref b)] := hl
  have hl0 : l.stackTraces = false := by
    unfold Launch.stackTraces
    rw [hflags]
    decide
  intro T hT X
  have hbig := X.room
  refine m_L_law b hc hr hin (L := L) (xs := xs) hl0 (Q := lw_Z below #[Value.ref b] s) (fun pc ls2 H2 locs2 hdg hn2 T2 hT2 X2 => ?_) ⟨hX, hbl⟩ hf hn ls hl T hT (zroomM X ?_)
  · have X3 : Stand p l e room_1 s m #[Value.ref b] below meth c T2 locs2 mc ms := zroomM X2 hbig
    have X4 : Stand p l e room_1 s m #[Value.ref b] below meth c T2 [] mc ms := Jvm.Stand.forget (locs := []) (extra := locs2) X3 (fun y hy => hn2.2.2.2.2.2 y hy)
    exact W.widen (k := 1200144) (n := 5494522) hmc hms (lw_ret hx hb hr hlocks hdg) T2 hT2 X4
  · exact z_room hbig (show 16 ≤ 8192 by decide) hmc hms (Nat.le_of_ble_eq_true rfl)
