/-! the start's facts, at a later state: statics, casts that fail -/
set_option maxRecDepth 100000
theorem g_K.stat {D : va_G} {dT : Nat → ClassId} {A : Nat → Prop} {t0 : Nat × Nat} {U : State} {args : Array Value} {o n d : String} (h : g_K D dT A t0 U) (hl : Cond.laysStatic o n d ∈ lw_tbl) : (Cond.laysStatic o n d).before args U = true := by
  obtain ⟨-, s0, a0, h2, -, -, h4, h5⟩ := h
  obtain ⟨c, k, i, f, a, cell, hc, hi, hst, ha, hcell, hs, hcls, hlt, hty⟩ := Cond.laysStatic_spec (h2.1 _ hl)
  obtain ⟨k', hi', hek⟩ := State.fieldFound?_setVm h4.alike hi
  exact Cond.laysStatic_of (s := U) (by rw [h4.alike.findClass]; exact hc) hi' hst (by rw [hek]; exact ha) (by rw [(h5 a (Array.getElem?_eq_some_iff.mp hcell).1).1]; exact hcell) hs hcls hlt (by rw [hek]; exact hty)
theorem g_K.statRef {D : va_G} {dT : Nat → ClassId} {A : Nat → Prop} {t0 : Nat × Nat} {U : State} {args : Array Value} {o n d : String} (h : g_K D dT A t0 U) (hl : Cond.laysStatic o n d ∈ lw_tbl) (hr : Cond.isRef (.static o n d) ∈ flatC (Jvm.Cond.and given_1 narrow_1)) : (Cond.isRef (.static o n d)).before args U = true := by
  obtain ⟨-, s0, a0, h2, -, -, h4, h5⟩ := h
  obtain ⟨c, k, i, f, a, cell, hc, hi, hst, ha, hcell, hs, hcls, hlt, hty⟩ := Cond.laysStatic_spec (h2.1 _ hl)
  obtain ⟨v, hv, hvr⟩ := Cond.isRef_spec (flat_of_before _ h2.2.1 _ hr)
  obtain ⟨hst', a', cell', ha', hcell', -, hslot⟩ := Term.static_spec hi hv
  cases ha.symm.trans ha'
  cases hcell.symm.trans hcell'
  obtain ⟨k', hi', hek⟩ := State.fieldFound?_setVm h4.alike hi
  have hi2 : U.fieldFound? o n d = some (c, k', i, f) := hi'
  have e1 : U.heap[a]? = some cell := by rw [(h5 a (Array.getElem?_eq_some_iff.mp hcell).1).1]; exact hcell
  have e2 : k'.statics = some a := by rw [hek]; exact ha
  have ev : (Term.static o n d).eval args U none [] U = some v := by
    simp [Term.eval, State.fieldNamed?, hi2, hst, e2, e1, hs, hslot]
  simp only [Cond.before, Cond.holds, Cond.value, ev]
  cases v <;> first | rfl | exact absurd hvr Bool.false_ne_true
/-- a cast that fails -/
theorem g_K.noCast {D : va_G} {dT : Nat → ClassId} {A : Nat → Prop} {t0 : Nat × Nat} {U : State} {X Y : String} {cX cY : ClassId} (h : g_K D dT A t0 U) (hr : Cond.not (.castable X Y) ∈ flatC (Jvm.Cond.and given_1 narrow_1)) (hX : U.vm.findClass X = some cX) (hY : U.vm.findClass Y = some cY) : U.vm.assignable cX cY = false := by
  obtain ⟨-, s0, a0, h2, -, -, h4, -⟩ := h
  have h9 := flat_of_before _ h2.2.1 _ hr
  have al := h4.alike
  rw [al.findClass] at hX hY
  rw [al.assignable]
  simp only [Cond.before, Cond.holds, Cond.value, hX, hY] at h9
  simpa using h9
theorem g_K.yesCast {D : va_G} {dT : Nat → ClassId} {A : Nat → Prop} {t0 : Nat × Nat} {U : State} {X Y : String} {cX cY : ClassId} (h : g_K D dT A t0 U) (hr : Cond.castable X Y ∈ lw_tbl) (hX : U.vm.findClass X = some cX) (hY : U.vm.findClass Y = some cY) : U.vm.assignable cX cY = true := by
  obtain ⟨c0, t1, f1, f2, f3⟩ := Cond.castable_spec (va_Nw.use (A := #[]) rfl (h.cast hr))
  cases f1.symm.trans hX
  cases f2.symm.trans hY
  exact f3
