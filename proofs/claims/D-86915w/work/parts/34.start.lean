/-! the law's start and its own rows -/
set_option maxRecDepth 100000
theorem g_clAll {s : State} {a : Array Value} (hts : ∀ w ∈ lw_all, w.before a s = true) : ∀ c : Nat, ∃ x : ClassId × (Nat → Nat), ∀ q, g_cl[c]? = some q → u_Kn s q.1 q.2.1 q.2.2 x.1 x.2 := by
  intro c
  have one : ∀ {C : String} {T : u_T} {N : Nat}, g_cl[c]? = some (C, T, N) → (∀ w ∈ u_ws C T N, w ∈ lw_all) → Cond.instantiable C N ∈ lw_all → ∃ x : ClassId × (Nat → Nat), ∀ q, g_cl[c]? = some q → u_Kn s q.1 q.2.1 q.2.2 x.1 x.2 := by
    intro C T N h1 h2 h3
    obtain ⟨cC, iS, h⟩ := u_known hts h2 (hts _ h3)
    refine ⟨(cC, iS), fun q hq => ?_⟩
    cases h1.symm.trans hq
    exact h
  by_cases h : c < 19
  · have : c = 0 ∨ c = 1 ∨ c = 2 ∨ c = 3 ∨ c = 4 ∨ c = 5 ∨ c = 6 ∨ c = 7 ∨ c = 8 ∨ c = 9 ∨ c = 10 ∨ c = 11 ∨ c = 12 ∨ c = 13 ∨ c = 14 ∨ c = 15 ∨ c = 16 ∨ c = 17 ∨ c = 18 := by omega
    rcases this with rfl | rfl | rfl | rfl | rfl | rfl | rfl | rfl | rfl | rfl | rfl | rfl | rfl | rfl | rfl | rfl | rfl | rfl | rfl
    · exact one rfl in_X0 q94
    · exact one rfl in_X1 q135
    · exact one rfl in_X2 q154
    · exact one rfl in_X3 q1328
    · exact one rfl in_X4 q293
    · exact one rfl in_X5 q442
    · exact one rfl in_X6 q495
    · exact one rfl in_X7 q517
    · exact one rfl in_X8 q747
    · exact one rfl in_X9 q539
    · exact one rfl in_X10 q757
    · exact one rfl in_X11 q773
    · exact one rfl in_X12 q796
    · exact one rfl in_X13 q812
    · exact one rfl in_X14 q836
    · exact one rfl in_X15 q853
    · exact one rfl in_X16 q1008
    · exact one rfl in_X17 q1128
    · exact one rfl in_J2 q104
  · refine ⟨(0, fun _ => 0), fun q hq => ?_⟩
    exact absurd (List.getElem?_eq_some_iff.mp hq).1 h
abbrev g_tyL : List FieldType := [.int, .long, .boolean, .array .int, .array .long, .array (.array .long), .object "MendReader$Shelf", .object "MendReader$Step", .array (.object "MendReader$Step"), .object "java/lang/Object"]
theorem g_tyAll {s : State} {a : Array Value} (hts : ∀ w ∈ lw_tbl, w.before a s = true) : ∀ k : Nat, ∃ c : ClassId, ∀ ty, g_tyL[k]? = some ty → ArrOfT s c ty ∧ va_RA s c ty := by
  have pr : ∀ ty, Cond.arrayClass ty ∈ lw_tbl → (∀ C, ty ≠ .object C) → ∃ c : ClassId, ArrOfT s c ty ∧ va_RA s c ty := by
    intro ty h hob
    obtain ⟨c, k, comp, h1, h2, h3⟩ := Cond.arrayClass_spec (hts _ h)
    refine ⟨c, fun n z => ⟨fun k h => (by cases h), k, h2, comp, h3⟩, ?_⟩
    cases ty with
    | object C => exact absurd rfl (hob C)
    | _ => exact h1
  have ar : ∀ t, Cond.arrayOver (.array t) ∈ lw_tbl → ∃ c : ClassId, ArrOfT s c (.array t) ∧ va_RA s c (.array t) := by
    intro t h
    obtain ⟨comp, c, k, -, h2, h3, h4⟩ := g_over (hts _ h)
    exact ⟨c, fun n z => ⟨fun k h => (by cases h), k, h2, comp, h3⟩, h4⟩
  have ob : ∀ C, Cond.arrayOver (.object C) ∈ lw_tbl → ∃ c : ClassId, ArrOfT s c (.object C) ∧ va_RA s c (.object C) := by
    intro C h
    obtain ⟨comp, c, k, h1, -, h2, h3, h4⟩ := Cond.arrayOver_spec (hts _ h)
    exact ⟨c, fun n z => ⟨fun k h => (by cases h), k, h2, comp, h3⟩, k, comp, h2, h3, h1, h4⟩
  intro k
  have one : ∀ {t : FieldType}, g_tyL[k]? = some t → (∃ c : ClassId, ArrOfT s c t ∧ va_RA s c t) → ∃ c : ClassId, ∀ ty, g_tyL[k]? = some ty → ArrOfT s c ty ∧ va_RA s c ty := by
    intro t h1 ⟨c, h2⟩
    refine ⟨c, fun ty h => ?_⟩
    cases h1.symm.trans h
    exact h2
  by_cases h : k < 10
  · have : k = 0 ∨ k = 1 ∨ k = 2 ∨ k = 3 ∨ k = 4 ∨ k = 5 ∨ k = 6 ∨ k = 7 ∨ k = 8 ∨ k = 9 := by omega
    rcases this with rfl | rfl | rfl | rfl | rfl | rfl | rfl | rfl | rfl | rfl
    · exact one rfl (pr _ (lw_all_tbl q130) (fun C z => by cases z))
    · exact one rfl (pr _ (lw_all_tbl q152) (fun C z => by cases z))
    · exact one rfl (pr _ (lw_all_tbl q129) (fun C z => by cases z))
    · exact one rfl (ar _ q102)
    · exact one rfl (ar _ q133)
    · exact one rfl (ar _ q132)
    · exact one rfl (ob _ q166)
    · exact one rfl (ob _ q526)
    · exact one rfl (ar _ q525)
    · exact one rfl (ob _ q390)
  · refine ⟨0, fun ty hq => ?_⟩
    exact absurd (List.getElem?_eq_some_iff.mp hq).1 h
theorem g_begin {s : State} {a : Array Value} (hts : ∀ w ∈ lw_tbl, w.before a s = true) (hgv : (Jvm.Cond.and given_1 narrow_1).before a s = true) (hmod : modulesRight_1 s = true) : ∃ (D : va_G) (dT : Nat → ClassId) (t0 : Nat × Nat), g_K D dT (fun q => s.heap.size ≤ q) t0 s := by
  obtain ⟨f, hf⟩ := Classical.axiomOfChoice (g_clAll (fun w h => hts w (lw_all_tbl h)))
  obtain ⟨dT, hdT⟩ := Classical.axiomOfChoice (g_tyAll hts)
  have fl := flat_of_before _ hgv
  obtain ⟨t1, -, -, -, hev, -⟩ := Cond.exactly_spec (fl (Cond.exactly (.static "java/util/ArrayList" "DEFAULTCAPACITY_EMPTY_ELEMENTDATA" "[Ljava/lang/Object;") "[Ljava/lang/Object;") (by decide +kernel))
  obtain ⟨t2, ht2⟩ := va_Mi.of (fl (Cond.isRef (.mirror "[Ljava/lang/Object;")) (by decide +kernel))
  refine ⟨(fun c => (f c).1, fun c => (f c).2), dT, (t1, t2), ⟨fun c q hq => hf c q hq, fun k q hk => ?_⟩, s, a, ⟨hts, hgv, hmod⟩, va_Zof (hts _ q116) (hts _ (lw_all_tbl q60)) hev (fun a h z => by omega), ht2, State.WarmedH.refl s, fun q hq => ⟨rfl, fun z => by omega⟩⟩
  have h : k < 10 := (List.getElem?_eq_some_iff.mp hk).1
  have : k = 0 ∨ k = 1 ∨ k = 2 ∨ k = 3 ∨ k = 4 ∨ k = 5 ∨ k = 6 ∨ k = 7 ∨ k = 8 ∨ k = 9 := by omega
  rcases this with rfl | rfl | rfl | rfl | rfl | rfl | rfl | rfl | rfl | rfl <;> (cases hk; exact hdT _ _ rfl)
/-! the law's own end and rows: the script is a cell of the start, which is never written -/
def g_scr (b L : Nat) (xs : Nat → Int32) (A : Nat → Prop) (s : State) : Prop := va_X b L xs s s.heap ∧ b < s.heap.size ∧ ¬ A b ∧ ∀ q, A q → s.heap.size ≤ q
def lw_Qq (_ : Array Value) (s : State) (o : Outcome) (t : State) : Prop := o = .returned (some (.int 1)) ∧ Framed s o t [] 603072 7262314
def lw_Zz (below : List Frame) (a : Array Value) (s : State) : State → Prop := fun t => ∃ o, t.status = .running ∧ Ended t below o ∧ lw_Qq a s o t
def g_lz (b L : Nat) (xs : Nat → Int32) : gZ := fun below _ _ _ A args s _ _ t => g_scr b L xs A s → lw_Zz below args s t
abbrev mL : gM := (x, code, 4, ret)
section LROWS
variable {d mc ms uc us pc n b L : Nat} {xs : Nat → Int32} {lv : List (Nat × Value)} {st : List Value} {σ : gH} {M : gM}
theorem e_scr {c0 : gH → Prop} (k : ∀ (p : Program) (l : gL) (e : Env) (s : State) (m : MethodId) (args : Array Value) (below : List Frame) (meth : Method) (c : Code) (D : va_G) (dT : Nat → ClassId) (A : Nat → Prop) (H : Heap) (locs : List Loc) (ls : Array Slot), g_Cx M D dT σ.1 p s m args meth c A → g_Pic D dT A σ H → va_S A s.heap H locs → lv_has ls M.2.2.1 lv → g_scr b L xs A s →
    W p l.1 e (g_R d mc ms) s m args below meth c H locs uc us ((g_lz b L xs).ap below D dT σ.1 A args s mc ms) (F0 m pc ls st)) : E M d mc ms (g_lz b L xs) uc us pc lv st σ := by
  intro p l e s m args below meth c D dT A H locs ls C P S LL
  by_cases h : g_scr b L xs A s
  · exact k p l e s m args below meth c D dT A H locs ls C P S LL h
  · intro T hT X
    exact ⟨_, Steps.refl _, fun z => absurd z h⟩
theorem e_sld {i : Int32} (hi : vp_in i L) (hd : decode M.2.1 pc = .ok (.iaload, 1)) (hp : pc + 1 = n) (k : E M d mc ms (g_lz b L xs) uc us n lv (.int (xs i.toNatClampNeg) :: st) σ) : E M d mc ms (g_lz b L xs) uc us pc lv (.int i :: .ref b :: st) σ := by
  refine e_scr (c0 := fun _ => True) fun p l e s m args below meth c D dT A H locs ls C P S LL h => ?_
  subst hp
  exact va_sld C.1 C.2.1 h.1 h.2.1 h.2.2.1 S hi hd (k p l e s m args below meth c D dT A H locs ls C P S LL)
theorem e_slen (hd : decode M.2.1 pc = .ok (.arraylength, 1)) (hp : pc + 1 = n) (k : E M d mc ms (g_lz b L xs) uc us n lv (.int (Int32.ofNat L) :: st) σ) : E M d mc ms (g_lz b L xs) uc us pc lv (.ref b :: st) σ := by
  refine e_scr (c0 := fun _ => True) fun p l e s m args below meth c D dT A H locs ls C P S LL h => ?_
  subst hp
  exact va_slen C.1 C.2.1 h.1 h.2.1 h.2.2.1 S hd (k p l e s m args below meth c D dT A H locs ls C P S LL)
theorem e_lend (h1 : uc ≤ 603072) (h2 : us ≤ 7262314) (hd : decode code pc = .ok (.ireturn, 1)) : E mL d mc ms (g_lz b L xs) uc us pc lv [.int 1] σ := by
  refine e_scr (c0 := fun _ => True) fun p l e s m args below meth c D dT A H locs ls C P S LL h => ?_
  intro T hT X
  have hr : meth.sig.returnType = some .boolean := C.2.2.1
  have hb : c.code = code := C.2.1
  obtain ⟨fs, hret, hrun, hended, hW, hframe⟩ := X.leave (v := some (.int 1)) (hlocks := C.2.2.2.2.2.2.2.1) (fun h => by rw [hr] at h; cases h)
  have hmeth' : T.vm.method? m = some meth := X.method'
  refine ⟨T.setFrames fs, ?_, fun _ => ⟨.returned (some (.int 1)), hrun, hended, rfl, ⟨_, rfl⟩, hW, hframe.weaken (fun y hy hlt => ?_) h1 h2⟩⟩
  · jvm_step X.here [X.here.top, C.1, hb, hd, hmeth', hr, narrow_b1]
    (try refine ⟨rfl, ?_⟩); (try refine ⟨rfl, ?_⟩)
    first | (intro acts; rw [hret _ acts rfl rfl rfl]) | rw [hret _ _ rfl rfl rfl]
    exact Steps.refl _
  · exact absurd hlt (Nat.not_lt.mpr (h.2.2.2 _ (S.2.2 y hy)))
end LROWS
theorem g_shrink {p : Program} {l : Launch} {e : Env} {R R' : Room} {s : State} {m : MethodId} {args : Array Value} {below : List Frame} {meth : Method} {c : Code} {T : State} {locs : List Loc} {cells slots : Nat} (X : Stand p l e R s m args below meth c T locs cells slots) (h1 : R'.frames ≤ R.frames) (h2 : R'.cells ≤ R.cells) (h3 : R'.slots ≤ R.slots) (h4 : R'.locals ≤ R.locals) : Stand p l e R' s m args below meth c T locs cells slots := by
  refine ⟨X.admits, X.cas, X.clock, X.frames, ?_, X.hears, X.method, X.code, X.here, X.tail, X.warmed, X.limits, X.bytes, X.same⟩
  have hr := X.room
  simp only [State.hasRoom, Bool.and_eq_true, decide_eq_true_eq] at hr ⊢
  obtain ⟨⟨⟨⟨r1, r2, r3, r4, r5, r6⟩, r7⟩, r8⟩, r9⟩ := hr
  exact ⟨⟨⟨⟨by omega, by omega, by omega, by omega, by omega, r6⟩, by omega⟩, by omega⟩, r9⟩
/-- the law's walk, from its entry over the empty world -/
theorem g_law {p : Program} {e : Env} {s : State} {m : MethodId} {below : List Frame} {meth : Method} {c : Code} (l : gL) {b L : Nat} {xs : Nat → Int32} (hx : p.tables.exec = Jvm.exec) (hc : c.code = code) (hr : meth.sig.returnType = ret) (hm : c.maxLocals = 4) (hown : s.vm.findClass x.cls = some m.cls) (hts : ∀ w ∈ lw_tbl, w.before #[Value.ref b] s = true) (hX : va_X b L xs s s.heap) (hbl : b < s.heap.size) (hlocks : meth.locks = false) (hgv : (Jvm.Cond.and given_1 narrow_1).before #[Value.ref b] s = true) (hmod : modulesRight_1 s = true) (hname : meth.name = x.name) (hnamed : s.methodNamed? x = some m)
    (k : ∀ t0 : Nat × Nat, E mL 2048 603072 7262314 (g_lz b L xs) 0 0 0 [(0, .ref b)] [] (t0, fun _ => none)) : W p l.1 e room_1 s m #[Value.ref b] below meth c s.heap [] 0 0 (lw_Zz below #[Value.ref b] s) (entryFrame m ([Value.ref b] : List Value).toArray 4) := by
  obtain ⟨D, dT, t0, hK⟩ := g_begin hts hgv hmod
  have hP : g_Pic D dT (fun q => s.heap.size ≤ q) (t0, fun _ => none) s.heap := by
    refine ⟨[], ?_, ⟨?_, ?_⟩, ?_, ?_⟩
    · intro k q hk
      simp at hk
    · intro i j p q hi
      simp at hi
    · intro k q hk
      simp at hk
    · intro a e h
      cases h
    · intro k q hk
      simp at hk
  have hlv := lv_entry [Value.ref b] (n := 4) (Nat.le_of_ble_eq_true rfl)
  have w := k t0 p l e s m #[Value.ref b] below meth c D dT (fun q => s.heap.size ≤ q) s.heap [] _ ⟨hx, hc, hr, hm, hown, fun w h => hts w (lw_all_tbl h), hK, hlocks, hname, fun q h => h, hnamed, fun q cell hq hc => absurd (Array.getElem?_eq_some_iff.mp hc).1 (by omega)⟩ hP va_S.rf hlv
  rw [lg_entry_eq]
  intro T hT X
  obtain ⟨t, a1, b1⟩ := w T hT (g_shrink X (by decide) (by decide) (by decide) (by decide))
  exact ⟨t, a1, b1 ⟨hX, hbl, fun z => by omega, fun q h => h⟩⟩
