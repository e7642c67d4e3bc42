/-! exceptions that the machine throws, up to the note that one is being thrown over the frame; the search for a handler whose class may not be resolved yet -/
set_option maxRecDepth 100000
section THROW
variable {p : Program} {l : Launch} {e : Env} {R : Room} {s : State} {m : MethodId} {args : Array Value} {below : List Frame} {meth : Method} {c : Code} {T' : State} {locs : List Loc} {cells slots : Nat}
/-- the state in which an exception at address a is being thrown over the frame g -/
abbrev g_thr (U : State) (g : JFrame) (a : Nat) : State := (U.setTop g).pushFrame (.throwing a)
theorem g_thr_eq (X : Stand p l e R s m args below meth c T' locs cells slots) (g : JFrame) (a : Nat) : g_thr T' g a = T'.setFrames (.throwing a :: .java g :: below) := by
  obtain ⟨g1, hf⟩ := X.frames_eq
  unfold g_thr
  rw [State.pushFrame, State.frames_setTop _ hf, State.setTop_of_frames _ hf, State.setFrames_setFrames]
/-- a bare NullPointerException -/
theorem g_npeAt (X : Stand p l e R s m args below meth c T' locs cells slots) (hexec : p.tables.exec = Jvm.exec) (htr : e.platform.stackTraces = false) (h : ∀ a ∈ Bundle.npeArmAtoms 8, a.before args s = true) (hlocs : ∀ x ∈ locs, ∀ cell, s.heap[x.base]? = some cell → cell.vm.isStatics = false) {g : JFrame} (hg : g.method = m) (hsize : g.locals.size = c.maxLocals) (hRframes : 7 < R.frames) (hRlocals : 2 * g.monitorRoom + (g.stack.map fun v => v.category).sum + 10240 ≤ R.locals) (hRcells : cells + 1 ≤ R.cells) (hRslots : slots + 8 ≤ R.slots) :
    ∃ (U : State) (L : List Loc) (cell : Cell), Stand p l e R s m args below meth c U (locs ++ L) (cells + 1) (slots + 8) ∧ (∀ y ∈ L, y.base = T'.heap.size) ∧ (∀ q, q < T'.heap.size → U.heap[q]? = T'.heap[q]?) ∧ U.heap[T'.heap.size]? = some cell ∧ s.vm.findClass "java/lang/NullPointerException" = some cell.cls ∧ cell.vm = .none ∧ Steps p.tables e below ((T'.setTop g).pushFrame (.throwNew "java/lang/NullPointerException" none none)) (g_thr U g T'.heap.size) := by
  have hw : ∀ x, x ∈ Bundle.npeArmAtoms 8 → x.holds args s none s [] = true := fun x hx => h x hx
  have pO : e.platform.frameOwnsMonitors = true := by rw [X.admits.platform]
  have pF : e.platform.finalization = false := by rw [X.admits.platform]
  have pM : e.platform.magicAccessors = ({} : Platform).magicAccessors := by rw [X.admits.platform]
  have pC : e.platform.arrayCloneIsPublic = true := by rw [X.admits.platform]
  obtain ⟨T, Z, L, LZ, Y⟩ := ThrowableC.of_atoms (args := args) pO pF pM (fun x hx => h x (by simp [Bundle.npeArmAtoms, hx]))
  obtain ⟨N, LN, hcN, hnf, hordN, hffS⟩ := NpeC.of_atoms (args := args) pM pC L Y (fun x hx => h x (by simp [Bundle.npeArmAtoms, hx]))
  obtain ⟨P1, L1, m1, s1⟩ := PassC.of_atoms (args := args) (s := s) pM (X := Bundle.nN) (Y := Bundle.rN) (by decide) (by decide) LibCode.NullPointerException.Init0.at_0 LibCode.NullPointerException.Init0.at_1 LibCode.NullPointerException.Init0.at_4 (fun x hx => h x (by simp [Bundle.npeArmAtoms, hx]))
  obtain ⟨P2, L2, m2, s2⟩ := PassC.of_atoms (args := args) (s := s) pM (X := Bundle.rN) (Y := Bundle.eN) (by decide) (by decide) LibCode.RuntimeException.Init0.at_0 LibCode.RuntimeException.Init0.at_1 LibCode.RuntimeException.Init0.at_4 (fun x hx => h x (by simp [Bundle.npeArmAtoms, hx]))
  obtain ⟨P3, L3, m3, s3⟩ := PassC.of_atoms (args := args) (s := s) pM (X := Bundle.eN) (Y := Bundle.tN) (by decide) (by decide) LibCode.Exception.Init0.at_0 LibCode.Exception.Init0.at_1 LibCode.Exception.Init0.at_4 (fun x hx => h x (by simp [Bundle.npeArmAtoms, hx]))
  have fX : s.vm.findClass Bundle.nN = some P1.m.cls := findClass_of_methodNamed m1
  have eX : N.cN = P1.m.cls := Option.some.inj (hcN.symm.trans fX)
  have kX : s.vm.classes[P1.m.cls]? = some N.kN := by rw [← eX]; exact LN.cls
  have iX := Cond.initialized_spec fX kX (hw (.initialized Bundle.nN) (by simp [Bundle.npeArmAtoms]))
  have cX : N.kN.findMethod "<init>" "()V" = some P1.m.idx := findMethod_of_methodNamed m1 kX
  obtain ⟨c1, k1, hc1, hk1, -, -, -, hn⟩ := Cond.instantiable_spec (hw (.instantiable Bundle.nN 8) (by simp [Bundle.npeArmAtoms]))
  cases Option.some.inj (hc1.symm.trans fX)
  cases Option.some.inj (hk1.symm.trans kX)
  have k12 : P1.sup = P2.m := Option.some.inj (s1.symm.trans m2)
  have k23 : P2.sup = P3.m := Option.some.inj (s2.symm.trans m3)
  have k3T : P3.sup = Z.m T.toThrowableT := Option.some.inj (s3.symm.trans Y.init0)
  have sel0 : selectMethod e.platform s.vm P1.m.cls T.fill0 = .method T.fill0 := by
    obtain ⟨c2, r2, m2, q1, q2, q3, q4, -⟩ := Cond.selects_spec (hw (.selects Bundle.nN Bundle.tFill0 Bundle.tFill0) (by simp [Bundle.npeArmAtoms]))
    cases Option.some.inj (q1.symm.trans fX)
    cases Option.some.inj (q2.symm.trans (State.methodFound?_of_named Y.fill0 (by decide)))
    cases Option.some.inj (q3.symm.trans Y.fill0)
    rw [Launch.admits_selectMethod X.admits]; exact q4
  have selF : selectMethod e.platform s.vm P1.m.cls T.fill = .method N.fill := by
    obtain ⟨c2, r2, m2, q1, q2, q3, q4, -⟩ := Cond.selects_spec (hw (.selects Bundle.nN Bundle.tFill Bundle.nFill) (by simp [Bundle.npeArmAtoms]))
    cases Option.some.inj (q1.symm.trans fX)
    cases Option.some.inj (q2.symm.trans (State.methodFound?_of_named Y.fill (by decide)))
    cases Option.some.inj (q3.symm.trans hnf)
    rw [Launch.admits_selectMethod X.admits]; exact q4
  obtain ⟨cs0, hcs0, his⟩ := Y.statics
  obtain ⟨u0, hu0⟩ := Cond.staticRefV Y.unassigned L.unassignedStatic L.statics hcs0 his (hw (.isRef (.static Bundle.tN "UNASSIGNED_STACK" Bundle.steD)) (by simp [Bundle.npeArmAtoms]))
  obtain ⟨sen, hsen⟩ := Cond.staticRefV Y.sentinel L.sentinelStatic L.statics hcs0 his (hw (.isRef (.static Bundle.tN "SUPPRESSED_SENTINEL" Bundle.listD)) (by simp [Bundle.npeArmAtoms]))
  obtain ⟨ci9, i9, fB, hk9, hg9, ha9, hsB, -, hnB, htB, hffB⟩ := Cond.ownField (t := .object "java/lang/Object") Y.found L.cls (by decide +kernel) (hw (.fieldLink Bundle.tN 198 Bundle.tN "backtrace" Bundle.objD) (by simp [Bundle.npeArmAtoms])) (hw (.lays Bundle.tN Bundle.tN "backtrace" Bundle.objD) (by simp [Bundle.npeArmAtoms])) e.platform pM
  obtain ⟨cs, hcs, hvm, -, hkeep⟩ := X.same.2.2.2.2.2 T.aS cs0 hcs0
  have out : ∀ i, (⟨T.aS, i⟩ : Loc) ∉ locs := fun i hm => by
    have := hlocs _ hm cs0 hcs0
    rw [his] at this; cases this
  have known : cs.vm ≠ .unknown := by
    rw [hvm]; intro hu
    rw [show cs0.vm = .unknown from hu] at his
    cases his
  obtain ⟨tyC, dC, hdC, nC⟩ := Cond.laysAt fX kX Y.cause (hw (.lays Bundle.nN Bundle.tN "cause" "Ljava/lang/Throwable;") (by simp [Bundle.npeArmAtoms]))
  obtain ⟨tyS, dS, hdS, nS⟩ := Cond.laysAt fX kX Y.stack (hw (.lays Bundle.nN Bundle.tN "stackTrace" Bundle.steD) (by simp [Bundle.npeArmAtoms]))
  obtain ⟨tyP, dP, hdP, nP⟩ := Cond.laysAt fX kX Y.supp (hw (.lays Bundle.nN Bundle.tN "suppressedExceptions" Bundle.listD) (by simp [Bundle.npeArmAtoms]))
  obtain ⟨tyX, dX, hdX, nX⟩ := Cond.laysAt fX kX hffS (hw (.lays Bundle.nN Bundle.nN "extendedMessageState" "I") (by simp [Bundle.npeArmAtoms, Bundle.npeAtoms]))
  have nmX : N.fState.name = "extendedMessageState" := (State.fieldFound?_type hffS (t := .int) (by decide +kernel)).1
  obtain ⟨tyB, dB, hdB, nB⟩ := Cond.laysAt fX kX hffB (hw (.lays Bundle.nN Bundle.tN "backtrace" Bundle.objD) (by simp [Bundle.npeArmAtoms]))
  have bC := Cond.laysApart hdB hdC nB nC (by rw [hnB, Y.causeName]; decide)
  have bS := Cond.laysApart hdB hdS nB nS (by rw [hnB, Y.stackName]; decide)
  have bP := Cond.laysApart hdB hdP nB nP (by rw [hnB, Y.suppName]; decide)
  have bX := Cond.laysApart hdB hdX nB nX (by rw [hnB, nmX]; decide)
  have skip : SkipFacts T e.platform s (fun u => u) u0 ((npeCell N.toNpeT (preparedCellV T.toThrowableT (freshCell P1.m.cls N.kN) T'.heap.size u0 sen) T'.cur).withEntry T'.cur) :=
    ⟨{ ci198 := ci9, i198 := i9, fBack := fB }, ⟨hk9, hg9, ha9, hsB⟩, by
      have := fresh_default (c := P1.m.cls) tyB
      rw [htB] at this
      simpa [npeCell, preparedCellV, Cell.setSlot, Cell.withEntry, Array.getElem?_setIfInBounds, bC, bS, bP, bX, bC.symm, bS.symm, bP.symm, bX.symm, defaultValue] using this, fun _ _ => rfl⟩
  have hat : At T' g.method c below := by rw [hg]; exact X.here
  obtain ⟨hbey, hfree⟩ := X.vmMayThrow hsize (.throwNew "java/lang/NullPointerException" none none) (fun f hf => by cases hf) rfl hRlocals
  have hfr : T'.frames.length + [P2, P3].length + 5 < (e.platform.stackLimits T'.me).1 := by
    have := X.framesAbove hRframes
    simp only [List.length_cons, List.length_nil]
    omega
  have hwd : (stackUse (.java g :: T'.frames.tail)).2 + 13 * [P2, P3].length + 68 ≤ (e.platform.stackLimits T'.me).2 := by
    have := X.stackAbove hsize (K := 13 * 2 + 68) (by omega)
    simp only [List.length_cons, List.length_nil]
    omega
  obtain ⟨vm', hW', st⟩ := Steps.vmThrowsNpeColdByV p (s₀ := s) (S := T') (g := g) hat hexec T L Z LZ N LN X.warmed (t := T'.cur) rfl P1 L1 [P2, P3] (fun P hP => by
      simp only [List.mem_cons, List.not_mem_nil, or_false] at hP
      rcases hP with rfl | rfl
      · exact L2
      · exact L3) k12 ⟨k23, k3T, trivial⟩ fX kX iX hordN cX
    (Launch.admits_hotImplicitExceptions X.admits) hbey hfree (X.cellsAbove hRcells) (X.slotsAbove (by rw [hn]; exact hRslots))
    (Nn := fun u => u) heapOnly_id (fun _ _ => rfl) (fun _ => rfl) (fun u x y => setCell_twice _ _ _ _) (fun _ => Nat.le_refl _) (cN := ((npeCell N.toNpeT (preparedCellV T.toThrowableT (freshCell P1.m.cls N.kN) T'.heap.size u0 sen) T'.cur).withEntry T'.cur))
    sel0 (show T'.heap[T.aS]? = some cs from hcs) known (by rw [hkeep _ (out _)]; exact hu0) (by rw [fresh_default tyX, LN.stateInt]; rfl)
    (Cond.laysApart hdC hdX nC nX (by rw [Y.causeName, nmX]; decide)) (Cond.laysApart hdS hdX nS nX (by rw [Y.stackName, nmX]; decide)) (Cond.laysApart hdP hdX nP nX (by rw [Y.suppName, nmX]; decide))
    (Takes.of_laid kX hordN tyS (by rw [Y.stackType]; exact fits_refV_array _ u0)) (Takes.of_laid kX hordN tyX (by rw [LN.stateInt]; rfl)) (fun _ hu => hu) (fun _ hu => hu) rfl rfl rfl (by simp [npeCell, preparedCellV, Cell.setSlot, Cell.withEntry]) skip
    (fun _ _ hA hW _ hroom _ hrest => L.nativeOff p htr hA hW hroom hrest) selF (by rw [hkeep _ (out _)]; exact hsen)
    (Takes.of_laid kX hordN tyC (by rw [Y.causeType]; rfl)) (Takes.of_laid kX hordN tyP (by rw [Y.suppType]; exact fits_refV_object _ sen)) Y.objLocals rfl hfr hwd
  rw [npeBareV_eq T.toThrowableT N.toNpeT T'.heap.size u0 sen T'.cur rfl rfl, X.tail] at st
  have X2 := (X.pushed (freshCell P1.m.cls N.kN)).noted hW'
  have ha : T'.heap.size < ((T'.pushCell (freshCell P1.m.cls N.kN)).setVm vm').heap.size := by
    rw [show ((T'.pushCell (freshCell P1.m.cls N.kN)).setVm vm').heap.size = T'.heap.size + 1 from State.heap_size_pushCell _ _]; omega
  have X3 := ((((X2.stored (State.heap_pushCell_size T' (freshCell P1.m.cls N.kN)) T.fCause.slot (.ref T'.heap.size)).storedAgain ha T.fStack.slot u0.v).storedAgain ha T.fSupp.slot sen.v).storedAgain ha N.fState.slot (.int 1)).storedAgain ha T.fStack.slot u0.v
  simp only [List.append_assoc, List.cons_append, List.nil_append] at X3
  have z8 : (freshCell P1.m.cls N.kN).slots.size = 8 := by simp [hn]
  rw [z8] at X3
  refine ⟨_, _, _, X3, ?_, ?_, heapAt_setCell_self (s := (T'.pushCell (freshCell P1.m.cls N.kN)).setVm vm') _ ha, fX, rfl, ?_⟩
  · intro y hy
    simp only [List.mem_cons, List.not_mem_nil, or_false] at hy
    rcases hy with rfl | rfl | rfl | rfl | rfl <;> rfl
  · intro q hq
    rw [State.heap_setCell_other (Nat.ne_of_gt hq)]
    exact State.heap_pushCell_of_lt _ _ hq
  · rw [g_thr_eq X3]
    exact st _ (Steps.refl _)
/-- an exception with a message -/
theorem g_msgAt (X : Stand p l e R s m args below meth c T' locs cells slots) (hexec : p.tables.exec = Jvm.exec) (htr : e.platform.stackTraces = false) {cls : String} {names : List String} {text : String} (hcls : Bundle.fit cls = true) (hnames : ∀ n ∈ names, Bundle.fit n = true) (hsoe : (cls == "java/lang/StackOverflowError") = false) (hoom : (cls == "java/lang/OutOfMemoryError") = false)
    (h : ∀ a ∈ Bundle.messageArmAtoms cls names, a.before args s = true) (hlocs : ∀ x ∈ locs, ∀ cell, s.heap[x.base]? = some cell → cell.vm.isStatics = false) (htext : (text == notModelled) = false) (hbytes : (stringBytes (stringToUtf16 text)).size ≤ 536870912) {g : JFrame} (hg : g.method = m) (hsize : g.locals.size = c.maxLocals)
    (hRframes : names.length + 4 < R.frames) (hRlocals : 2 * g.monitorRoom + (g.stack.map fun v => v.category).sum + 10240 ≤ R.locals) (hshort : 13 * names.length + 55 ≤ 10240) (hRcells : cells + 3 ≤ R.cells) (hRslots : slots + ((stringBytes (stringToUtf16 text)).size + 4 + 6) ≤ R.slots) :
    ∃ (U : State) (L : List Loc) (cell : Cell), Stand p l e R s m args below meth c U (locs ++ L) (cells + 3) (slots + ((stringBytes (stringToUtf16 text)).size + 4 + 6)) ∧ (∀ y ∈ L, y.base = T'.heap.size + 2) ∧ (∀ q, q < T'.heap.size → U.heap[q]? = T'.heap[q]?) ∧ U.heap[T'.heap.size + 2]? = some cell ∧ s.vm.findClass cls = some cell.cls ∧ cell.vm = .none ∧ Steps p.tables e below ((T'.setTop g).pushFrame (.throwNew cls (some text) none)) (g_thr U g (T'.heap.size + 2)) := by
  have hw : ∀ x, x ∈ Bundle.messageArmAtoms cls names → x.holds args s none s [] = true := fun x hx => h x hx
  have pO : e.platform.frameOwnsMonitors = true := by rw [X.admits.platform]
  have pF : e.platform.finalization = false := by rw [X.admits.platform]
  have pM : e.platform.magicAccessors = ({} : Platform).magicAccessors := by rw [X.admits.platform]
  obtain ⟨T, Z0, L, -, Y⟩ := ThrowableC.of_atoms (args := args) pO pF pM (fun x hx => h x (by simp [Bundle.messageArmAtoms, hx]))
  obtain ⟨Z, M, LZ, LM, hnZ⟩ := Init0T.ofS_atoms (args := args) pM L Y (fun x hx => h x (by simp [Bundle.messageArmAtoms, hx]))
  obtain ⟨P1, Ps, hlen, L1, hL, m1, hl1, hl⟩ := Bundle.chainS (args := args) pM hnZ names cls hcls hnames (fun x hx => h x (by simp [Bundle.messageArmAtoms, hx]))
  obtain ⟨Zs, LZs, hn4, hfitv, hfitc⟩ := StringT.of_atoms (args := args) (fun x hx => h x (by simp [Bundle.messageArmAtoms, hx]))
  have fX : s.vm.findClass cls = some P1.m.cls := findClass_of_methodNamed m1
  obtain ⟨c1, kX, hc1, kX', hord, -, -, hn6⟩ := Cond.instantiable_spec (hw (.instantiable cls 6) (by simp [Bundle.messageArmAtoms]))
  cases Option.some.inj (hc1.symm.trans fX)
  have iX := Cond.initialized_spec fX kX' (hw (.initialized cls) (by simp [Bundle.messageArmAtoms]))
  have cX : kX.findMethod "<init>" "(Ljava/lang/String;)V" = some P1.m.idx := findMethod_of_methodNamed m1 kX'
  have sel0 : selectMethod e.platform s.vm P1.m.cls T.fill0 = .method T.fill0 := by
    obtain ⟨c2, r2, m2, q1, q2, q3, q4, -⟩ := Cond.selects_spec (hw (.selects cls Bundle.tFill0 Bundle.tFill0) (by simp [Bundle.messageArmAtoms]))
    cases Option.some.inj (q1.symm.trans fX)
    cases Option.some.inj (q2.symm.trans (State.methodFound?_of_named Y.fill0 (by decide)))
    cases Option.some.inj (q3.symm.trans Y.fill0)
    rw [Launch.admits_selectMethod X.admits]; exact q4
  have selF : selectMethod e.platform s.vm P1.m.cls T.fill = .method T.fill := by
    obtain ⟨c2, r2, m2, q1, q2, q3, q4, -⟩ := Cond.selects_spec (hw (.selects cls Bundle.tFill Bundle.tFill) (by simp [Bundle.messageArmAtoms]))
    cases Option.some.inj (q1.symm.trans fX)
    cases Option.some.inj (q2.symm.trans (State.methodFound?_of_named Y.fill (by decide)))
    cases Option.some.inj (q3.symm.trans Y.fill)
    rw [Launch.admits_selectMethod X.admits]; exact q4
  obtain ⟨cs0, hcs0, his⟩ := Y.statics
  obtain ⟨u0, hu0⟩ := Cond.staticRefV Y.unassigned L.unassignedStatic L.statics hcs0 his (hw (.isRef (.static Bundle.tN "UNASSIGNED_STACK" Bundle.steD)) (by simp [Bundle.messageArmAtoms]))
  obtain ⟨sen, hsen⟩ := Cond.staticRefV Y.sentinel L.sentinelStatic L.statics hcs0 his (hw (.isRef (.static Bundle.tN "SUPPRESSED_SENTINEL" Bundle.listD)) (by simp [Bundle.messageArmAtoms]))
  obtain ⟨ci9, i9, fB, hk9, hg9, ha9, hsB, -, hnB, htB, hffB⟩ := Cond.ownField (t := .object "java/lang/Object") Y.found L.cls (by decide +kernel) (hw (.fieldLink Bundle.tN 198 Bundle.tN "backtrace" "Ljava/lang/Object;") (by simp [Bundle.messageArmAtoms])) (hw (.lays Bundle.tN Bundle.tN "backtrace" "Ljava/lang/Object;") (by simp [Bundle.messageArmAtoms])) e.platform pM
  obtain ⟨cs, hcs, hvm, -, hkeep⟩ := X.same.2.2.2.2.2 T.aS cs0 hcs0
  have out : ∀ i, (⟨T.aS, i⟩ : Loc) ∉ locs := fun i hm => by
    have := hlocs _ hm cs0 hcs0
    rw [his] at this; cases this
  have known : cs.vm ≠ .unknown := by
    rw [hvm]; intro hu
    rw [show cs0.vm = .unknown from hu] at his
    cases his
  obtain ⟨iM, hffM⟩ := Y.msg
  obtain ⟨tyC, dC, hdC, nC⟩ := Cond.laysAt fX kX' Y.cause (hw (.lays cls Bundle.tN "cause" "Ljava/lang/Throwable;") (by simp [Bundle.messageArmAtoms]))
  obtain ⟨tyS, dS, hdS, nS⟩ := Cond.laysAt fX kX' Y.stack (hw (.lays cls Bundle.tN "stackTrace" Bundle.steD) (by simp [Bundle.messageArmAtoms]))
  obtain ⟨tyP, dP, hdP, nP⟩ := Cond.laysAt fX kX' Y.supp (hw (.lays cls Bundle.tN "suppressedExceptions" Bundle.listD) (by simp [Bundle.messageArmAtoms]))
  obtain ⟨tyM, dM, hdM, nM⟩ := Cond.laysAt fX kX' hffM (hw (.lays cls Bundle.tN "detailMessage" "Ljava/lang/String;") (by simp [Bundle.messageArmAtoms]))
  obtain ⟨tyB, dB, hdB, nB⟩ := Cond.laysAt fX kX' hffB (hw (.lays cls Bundle.tN "backtrace" "Ljava/lang/Object;") (by simp [Bundle.messageArmAtoms]))
  have bC := Cond.laysApart hdB hdC nB nC (by rw [hnB, Y.causeName]; decide)
  have bS := Cond.laysApart hdB hdS nB nS (by rw [hnB, Y.stackName]; decide)
  have bP := Cond.laysApart hdB hdP nB nP (by rw [hnB, Y.suppName]; decide)
  have skip : SkipFacts T e.platform s (fun u => u) u0 ((preparedCellV T.toThrowableT (freshCell P1.m.cls kX) (T'.heap.size + 2) u0 sen).withEntry T'.cur) :=
    ⟨{ ci198 := ci9, i198 := i9, fBack := fB }, ⟨hk9, hg9, ha9, hsB⟩, by
      have := fresh_default (c := P1.m.cls) tyB
      rw [htB] at this
      simpa [preparedCellV, Cell.setSlot, Cell.withEntry, Array.getElem?_setIfInBounds, bC, bS, bP, bC.symm, bS.symm, bP.symm, defaultValue] using this, fun _ _ => rfl⟩
  have hat : At T' g.method c below := by rw [hg]; exact X.here
  obtain ⟨hbey, hfree⟩ := X.vmMayThrow hsize (.throwNew cls (some text) none) (fun f hf => by cases hf) rfl hRlocals
  have hfr : T'.frames.length + Ps.length + 4 < (e.platform.stackLimits T'.me).1 := by
    have := X.framesAbove hRframes
    omega
  have hwd : (stackUse (.java g :: T'.frames.tail)).2 + 13 * Ps.length + 55 ≤ (e.platform.stackLimits T'.me).2 := by
    have := X.stackAbove hsize (K := 13 * Ps.length + 55) (by omega)
    omega
  have hsl : T'.slotsUsed + (stringBytes (stringToUtf16 text)).size + Zs.kS.instanceTypes.size + kX.instanceTypes.size ≤ e.platform.maxSlots := by
    have := X.slotsAbove hRslots
    omega
  obtain ⟨vm', hW', st⟩ := Steps.vmThrowsMessageColdByV p (s₀ := s) (S := T') (g := g) hat hexec T L Z LZ M LM X.warmed (t := T'.cur) rfl Zs LZs P1 L1 Ps hL hl1 hl hsoe hoom fX kX' iX hord cX
    (Launch.admits_hotImplicitExceptions X.admits) hbey hfree htext (by rw [Launch.admits_arrayLengthLimit X.admits]; omega) (by rw [Launch.admits_maxHeapBytes X.admits]; show ¬ _ * 1 > _; omega) (X.cellsAbove hRcells) hsl (hfitv _) (hfitc _)
    (Nn := fun u => u) heapOnly_id (fun _ _ => rfl) (fun _ => rfl) (fun u x y => setCell_twice _ _ _ _) (fun _ => Nat.le_refl _) (cN := ((preparedCellV T.toThrowableT (freshCell P1.m.cls kX) (T'.heap.size + 2) u0 sen).withEntry T'.cur))
    sel0 (show T'.heap[T.aS]? = some cs from hcs) known (by rw [hkeep _ (out _)]; exact hu0) (Takes.of_laid kX' hord tyS (by rw [Y.stackType]; exact fits_refV_array _ u0)) (fun _ hu => hu) (fun _ hu => hu) rfl rfl rfl (by simp [preparedCellV, Cell.setSlot, Cell.withEntry]) skip
    (fun _ _ hA hW _ hroom _ hrest => L.nativeOff p htr hA hW hroom hrest) selF (by rw [hkeep _ (out _)]; exact hsen)
    (Takes.of_laid kX' hord tyC (by rw [Y.causeType]; rfl)) (Takes.of_laid kX' hord tyP (by rw [Y.suppType]; exact fits_refV_object _ sen)) (Takes.of_laid kX' hord tyM (by rw [Y.msgType]; rfl)) Y.objLocals rfl hfr hwd
  rw [plainBareV_eq T.toThrowableT (T'.heap.size + 2) u0 sen (.ref (T'.heap.size + 1)) T'.cur rfl rfl, X.tail] at st
  obtain ⟨-, -, w3, w4, w5, -, -⟩ := withThrown_facts e.platform T' Zs text P1.m.cls kX
  have X3 := ((X.pushed (bytesOf Zs.cB (stringToUtf16 text))).pushed (stringAt Zs.cS Zs.kS Zs.fv Zs.fc (stringToUtf16 text) T'.heap.size)).pushed (freshCell P1.m.cls kX)
  rw [← withString_eq] at X3
  have X4 := X3.noted hW'
  have ha : (T'.heap.size + 2) < ((withThrown T' Zs text P1.m.cls kX).setVm vm').heap.size := by show _ < (withThrown T' Zs text P1.m.cls kX).heap.size; rw [w3]; omega
  have hcell : ((withThrown T' Zs text P1.m.cls kX).setVm vm').heap[(T'.heap.size + 2)]? = some (freshCell P1.m.cls kX) := w4
  have X5 := ((((X4.stored hcell T.fCause.slot (.ref (T'.heap.size + 2))).storedAgain ha T.fStack.slot u0.v).storedAgain ha T.fSupp.slot sen.v).storedAgain ha T.fStack.slot u0.v).storedAgain ha T.fMsg.slot (.ref (T'.heap.size + 1))
  simp only [List.append_assoc, List.cons_append, List.nil_append] at X5
  have b1 : (bytesOf Zs.cB (stringToUtf16 text)).slots.size = (stringBytes (stringToUtf16 text)).size := by
    rw [(Cell.writeAll_facts _ _).2.2]; simp [bytes0]
  have b2 : (stringAt Zs.cS Zs.kS Zs.fv Zs.fc (stringToUtf16 text) T'.heap.size).slots.size = 4 := by simp [string0, Cell.setSlot, hn4]
  have b3 : (freshCell P1.m.cls kX).slots.size = 6 := by simp [hn6]
  rw [b1, b2, b3, Nat.add_assoc slots, Nat.add_assoc slots] at X5
  refine ⟨_, _, _, X5, ?_, ?_, heapAt_setCell_self (s := (withThrown T' Zs text P1.m.cls kX).setVm vm') _ ha, fX, rfl, ?_⟩
  · intro y hy
    simp only [List.mem_cons, List.not_mem_nil, or_false] at hy
    rcases hy with rfl | rfl | rfl | rfl | rfl <;> rfl
  · intro q hq
    rw [State.heap_setCell_other (by omega : T'.heap.size + 2 ≠ q)]
    exact w5 q hq
  · rw [g_thr_eq X5]
    exact st _ (Steps.refl _)
end THROW
