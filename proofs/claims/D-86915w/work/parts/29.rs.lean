/-! the steps that throw: null, a place out of bounds, a negative length, a failing cast -/
set_option maxRecDepth 100000
section RS
variable {M : gM} {d mc ms uc us pc n : Nat} {lv : List (Nat × Value)} {st rest : List Value} {σ : gH}
theorem rs_alenN (hd : decode M.2.1 pc = .ok (.arraylength, 1)) : g_RsN M d mc ms uc us pc lv (.null :: rest) rest σ := by
  intro p l e s m args below meth c D dT A T locs ls C P S L X
  exact ⟨T.vm, X.warmed, X.arraylengthNull C.1 (g := F0 m pc ls (.null :: rest)) rfl rfl (by rw [C.2.1]; exact hd)⟩
theorem rs_ialdN {i : Int32} (hd : decode M.2.1 pc = .ok (.iaload, 1)) : g_RsN M d mc ms uc us pc lv (.int i :: .null :: rest) rest σ := by
  intro p l e s m args below meth c D dT A T locs ls C P S L X
  exact ⟨T.vm, X.warmed, X.ialoadNull C.1 (g := F0 m pc ls (.int i :: .null :: rest)) rfl rfl (by rw [C.2.1]; exact hd)⟩
/-- a nest mate's final field of null -/
theorem rs_getN {idx : Nat} {own nm ds host : String} (hl : Cond.fieldLinkNest M.1.cls idx own nm ds host ∈ lw_tbl) (hf : Cond.laysFinal own own nm ds ∈ lw_all) (hd : decode M.2.1 pc = .ok (.getfield idx, 3)) : g_RsN M d mc ms uc us pc lv (.null :: rest) rest σ := by
  intro p l e s m args below meth c D dT A T locs ls C P S L X
  have hpl : e.platform.magicAccessors = ({} : Platform).magicAccessors := by rw [X.admits.platform]
  obtain ⟨e1, e2, e1', e2', j1, fv, q1, q2, hfV, hsV, -⟩ := Cond.laysFinal_spec (C.2.2.2.2.2.1 _ hf)
  obtain ⟨ci', cfl, k', i', f', hh, -, hi', hlinks, hright⟩ := Cond.fieldLinkNest_spec C.2.2.2.2.1 (C.2.2.2.2.2.2.1.nestF (args := args) hl) e.platform hpl
  cases hfV.symm.trans hi'
  obtain ⟨hk, hf⟩ := State.fieldFound?_spec hfV
  obtain ⟨vm', hgives, hW', hready, hfi⟩ := State.fieldEntryNest (e := e) X.warmed hlinks hright hk hf
  have hdg : decode c.code pc = .ok (.getfield idx, 3) := by rw [C.2.1]; exact hd
  refine ⟨vm', hW', fun target hrest => ?_⟩
  jvm_step X.here [C.1, hdg, getfield.wp_cold (e := e) (s := T) (f := F0 m pc ls (.null :: rest)) X.here.top hgives hready hfi,
    getfield.wp_readyNull (e := e) (s := T.setVm vm') (f := F0 m pc ls (.null :: rest)) X.here.top hready hsV rfl, nullPointer]
  exact hrest
theorem rs_iout {a N : Nat} {f : Nat → Int32} {i : Int32} (ha : σ.2 a = some (.inl (0, N, .inl f))) (hi : ¬ vp_in i N) (hN : N < 2147483648) (hd : decode M.2.1 pc = .ok (.iaload, 1)) : g_RsM M d mc ms uc us pc lv (.int i :: .ref a :: rest) rest σ "java/lang/ArrayIndexOutOfBoundsException" 212 := by
  intro p l e s m args below meth c D dT A T locs ls C P S L X
  have hc := g_arr P ha
  have hz : (vp_cell (dT 0) (N, .inl f)).slots.size = N := by show (Array.ofFn _).size = N; simp
  have hof : s.isArrayOf (vp_cell (dT 0) (N, .inl f)) .int := (C.2.2.2.2.2.2.1.1.2 0 (dT 0, .int) rfl).1 N _
  have h1 := X.ialoadOut C.1 hc hof (by rw [hz]; unfold vp_in at hi; exact Classical.not_not.mp hi) (g := F0 m pc ls (.int i :: .ref a :: rest)) rfl rfl (by rw [C.2.1]; exact hd)
  rw [hz] at h1
  exact ⟨T.vm, _, X.warmed, index_text_modelled i N, index_text_bytes i hN, h1⟩
theorem rs_neg {z : Int32} {at_ : ArrayType} (hz : z < 0) (hd : decode M.2.1 pc = .ok (.newarray at_, 2)) : g_RsM M d mc ms uc us pc lv (.int z :: rest) rest σ "java/lang/NegativeArraySizeException" 44 := by
  intro p l e s m args below meth c D dT A T locs ls C P S L X
  exact ⟨T.vm, _, X.warmed, negative_text_modelled hz, negative_text_bytes z, X.newarrayNegative C.1 (g := F0 m pc ls (.int z :: rest)) rfl hz rfl (by rw [C.2.1]; exact hd)⟩
theorem g_home {V0 V : Vm} (hal : V0.Alike V) (hm : (V0.modules.all fun m => m.loader.isSome || m.name == "java.base" || !(castPackages_1.any fun p => m.packages.contains p)) = true) {k : Class} (hl : k.loader = none) (hp : packageOf k.name = "") : V.home k = "module java.base of loader 'bootstrap'" ∨ V.home k = "unnamed module of loader 'bootstrap'" := by
  have hmod : V.modules = V0.modules := by
    have h := congrArg (fun v : Vm => v.modules) hal.1
    exact h
  unfold Vm.home
  cases h : V.moduleOf k with
  | none => right; rw [hl]; rfl
  | some x =>
    left
    have hn : x.name = "java.base" := by
      unfold Vm.moduleOf at h
      split at h
      · have := List.find?_some h
        simpa using this
      · have h1 := List.find?_some h
        have h2 := List.mem_of_find?_eq_some h
        rw [hmod] at h2
        have h3 := List.all_eq_true.mp hm x h2
        rw [hl, hp] at h1
        simp only [Bool.and_eq_true, beq_iff_eq] at h1
        simp only [castPackages_1, List.any_cons, h1.2, Bool.true_or, h1.1, Option.isSome_none, Bool.false_or, Bool.not_true, Bool.or_false] at h3
        simpa using h3
    show "module " ++ x.name ++ " of loader " ++ V.loaderName k.loader = _
    rw [hn, hl]
    rfl
theorem g_castText {V : Vm} {a b : Class} {x y : String} (ha : a.shown = x) (hb : b.shown = y) (hx : x.toList.length ≤ 20) (hy : y.toList.length ≤ 20) (h1 : V.home a = "module java.base of loader 'bootstrap'" ∨ V.home a = "unnamed module of loader 'bootstrap'") (h2 : V.home b = "module java.base of loader 'bootstrap'" ∨ V.home b = "unnamed module of loader 'bootstrap'") : ((checkcast.message V a b) == notModelled) = false ∧ (stringBytes (stringToUtf16 (checkcast.message V a b))).size ≤ 1000 := by
  have e1 : checkcast.message V a b = "class " ++ x ++ " cannot be cast to class " ++ y ++ " (" ++ V.homes a b ++ ")" := by
    unfold checkcast.message
    rw [ha, hb]
    rfl
  have hh : ∀ {z : String}, z = "module java.base of loader 'bootstrap'" ∨ z = "unnamed module of loader 'bootstrap'" → z.toList.length ≤ 40 := by
    intro z hz
    rcases hz with rfl | rfl <;> decide
  have l1 := hh h1
  have l2 := hh h2
  have c5 : " and ".toList.length = 5 := by decide
  have c6 : " are in ".toList.length = 8 := by decide
  have c7 : " is in ".toList.length = 7 := by decide
  have c8 : "; ".toList.length = 2 := by decide
  have len : (V.homes a b).toList.length ≤ 150 := by
    by_cases hs : V.sameModule a b = true
    · have e2 : V.homes a b = x ++ " and " ++ y ++ " are in " ++ V.home a := by
        unfold Vm.homes
        rw [if_pos hs, ha, hb]
        rfl
      rw [e2]
      simp only [String.toList_append, List.length_append]
      omega
    · have e2 : V.homes a b = x ++ " is in " ++ V.home a ++ "; " ++ y ++ " is in " ++ V.home b := by
        unfold Vm.homes
        rw [if_neg hs, ha, hb]
        rfl
      rw [e2]
      simp only [String.toList_append, List.length_append]
      omega
  constructor
  · rw [beq_eq_false_iff_ne]
    intro h
    have h3 := congrArg String.toList h
    rw [e1] at h3
    simp [String.toList_append, notModelled] at h3
  · have b1 := stringBytes_size_le (stringToUtf16 (checkcast.message V a b))
    have b2 := utf16_size_le (checkcast.message V a b)
    have b3 : (checkcast.message V a b).toList.length ≤ 240 := by
      rw [e1]
      simp only [String.toList_append, List.length_append]
      have c1 : "class ".toList.length = 6 := by decide
      have c2 : " cannot be cast to class ".toList.length = 25 := by decide
      have c3 : " (".toList.length = 2 := by decide
      have c4 : ")".toList.length = 1 := by decide
      omega
    omega
theorem rs_cast {a idx : Nat} {X Y x y : String} (hX : ∀ {D : va_G} {dT : Nat → ClassId} {A : Nat → Prop} {t0 : Nat × Nat} {s : State} {H : Heap}, g_K D dT A t0 s → g_Pic D dT A σ H → ∃ cell, H[a]? = some cell ∧ cell.vm = .none ∧ s.vm.findClass X = some cell.cls) (hl : Cond.classLink M.1.cls idx Y ∈ lw_all) (hno : Cond.not (.castable X Y) ∈ flatC (Jvm.Cond.and given_1 narrow_1)) (hx : dotted X = x) (hy : dotted Y = y) (hpx : packageOf X = "") (hpy : packageOf Y = "") (lx : x.toList.length ≤ 20) (ly : y.toList.length ≤ 20) (hd : decode M.2.1 pc = .ok (.checkcast idx, 3)) : g_RsM M d mc ms uc us pc lv (.ref a :: rest) (.ref a :: rest) σ "java/lang/ClassCastException" 1000 := by
  intro p l e s m args below meth c D dT A T locs ls C P S L X'
  obtain ⟨cell, hc, hv, hf⟩ := hX C.2.2.2.2.2.2.1 P
  have hpl : e.platform.magicAccessors = ({} : Platform).magicAccessors := by rw [X'.admits.platform]
  obtain ⟨cY, hfY, hcl⟩ := Cond.classLink_spec C.2.2.2.2.1 (C.2.2.2.2.2.1 _ hl) e.platform hpl
  obtain ⟨hg1, hw1, hr1⟩ := State.classEntry (e := e) X'.warmed hcl
  generalize T.vm.noted m.cls idx (.cls cY) = vm1 at hg1 hw1 hr1
  have hal := hw1.alike
  have hfX1 : vm1.findClass X = some cell.cls := by rw [hal.findClass]; exact hf
  have hfY1 : vm1.findClass Y = some cY := by rw [hal.findClass]; exact hfY
  obtain ⟨kx, kx1, kx2, kx3, kx4⟩ := g_fc hfX1
  obtain ⟨ky, ky1, ky2, ky3, ky4⟩ := g_fc hfY1
  have hasg : vm1.assignable cell.cls cY = false := by rw [hal.assignable]; exact C.2.2.2.2.2.2.1.noCast hno hf hfY
  have hmods : ∃ V0 : Vm, V0.Alike vm1 ∧ (V0.modules.all fun m => m.loader.isSome || m.name == "java.base" || !(castPackages_1.any fun p => m.packages.contains p)) = true := by
    obtain ⟨-, s0, a0, h2, -, -, h4, -⟩ := C.2.2.2.2.2.2.1
    exact ⟨s0.vm, (h4.trans hw1).alike, h2.2.2⟩
  obtain ⟨V0, hal0, hm0⟩ := hmods
  have sx : kx.shown = x := by unfold Class.shown; rw [kx3, kx2]; exact hx
  have sy : ky.shown = y := by unfold Class.shown; rw [ky3, ky2]; exact hy
  obtain ⟨t1, t2⟩ := g_castText (V := vm1) sx sy lx ly (g_home hal0 hm0 kx4 (by rw [kx2]; exact hpx)) (g_home hal0 hm0 ky4 (by rw [ky2]; exact hpy))
  have hdg : decode c.code pc = .ok (.checkcast idx, 3) := by rw [C.2.1]; exact hd
  refine ⟨vm1, _, hw1, t1, t2, fun target hrest => ?_⟩
  jvm_step X'.here [C.1, hdg, checkcast.wp_cold (e := e) (s := T) (f := F0 m pc ls (.ref a :: rest)) X'.here.top rfl hg1 hr1,
    checkcast.wp_ready (e := e) (s := T.setVm vm1) (f := F0 m pc ls (.ref a :: rest)) X'.here.top hr1 rfl]
  refine ⟨cell, hc, (by rw [hv]; exact fun k z => (by cases z)), kx, kx1, ky, ky1, ?_⟩
  rw [if_neg (by rw [hasg]; decide)]
  exact hrest
end RS
