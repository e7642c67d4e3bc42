/-! an exception with a message, made and thrown over any frames 'base' (as a native's frame on its caller's) -/
set_option maxRecDepth 100000
def g_Ov (W : State) (base below : List Frame) : Prop := W.cur < W.threads.size ∧ W.status = .running ∧ W.curStatus? = some .runnable ∧ W.alone = true ∧ ∃ mid, base = mid ++ below
theorem g_Ov.vm {W : State} {base below : List Frame} (h : g_Ov W base below) (v : Vm) : g_Ov (W.setVm v) base below := h
theorem ov_inside {below base : List Frame} {W : State} (h : g_Ov W base below) (a str : Nat) {m : MethodId} {meth : Method} {code : Code} (hm : W.vm.method? m = some meth) (hc : meth.code = some code) (hp : W.plainMethod m) :
    (W.setFrames (.thenThrow a :: base)).frames = .thenThrow a :: base ∧ At ((W.setFrames (.thenThrow a :: base)).pushFrame (.java (passJ m a (.ref str) 0 []))) m code below ∧ ((W.setFrames (.thenThrow a :: base)).pushFrame (.java (passJ m a (.ref str) 0 []))).frames = .java (passJ m a (.ref str) 0 []) :: .thenThrow a :: base := by
  obtain ⟨h1, h2, h3, h4, mid, h5⟩ := h
  have f1 : (W.setFrames (.thenThrow a :: base)).frames = .thenThrow a :: base := State.frames_setFrames _ h1
  have c1 := State.cur_lt_of_frames f1
  refine ⟨f1, At.pushOn _ ⟨h2, by simpa using h3, by simpa using h4⟩ c1 ⟨.thenThrow a :: mid, by rw [f1, h5]; rfl⟩ hm hc hp, ?_⟩
  rw [show ((W.setFrames (.thenThrow a :: base)).pushFrame (.java (passJ m a (.ref str) 0 []))).frames = .java (passJ m a (.ref str) 0 []) :: (W.setFrames (.thenThrow a :: base)).frames from State.frames_setFrames _ c1, f1]
theorem ov_return {tb : Tables} [Ours tb] {e : Env} {below base : List Frame} {W target : State} (h : g_Ov W base below) (hexec : tb.exec = Jvm.exec) {H : State → State} (hH : HeapOnly H) (a str : Nat) {m : MethodId} {meth : Method} {code : Code} (hm : W.vm.method? m = some meth) (hc : meth.code = some code) (hp : W.plainMethod m) (hl : meth.locks = false) (h5 : decode code.code 5 = .ok (.return_, 1))
    (hrest : Steps tb e below ((H W).setFrames (.throwing a :: base)) target) : Steps tb e below ((H ((W.setFrames (.thenThrow a :: base)).pushFrame (.java (passJ m a (.ref str) 0 [])))).setTop (passJ m a (.ref str) 5 [])) target := by
  obtain ⟨f1, hI, fI⟩ := ov_inside h a str hm hc hp
  obtain ⟨h1, h2, h3, h4, mid, h6⟩ := h
  have hB := hH.at_ hI
  jvm_step hB [hexec, h5, return_.wp_sem]
  intro acts2
  have fH : (H ((W.setFrames (.thenThrow a :: base)).pushFrame (.java (passJ m a (.ref str) 0 [])))).frames = .java (passJ m a (.ref str) 0 []) :: .thenThrow a :: base := by rw [hH.frames]; exact fI
  rw [ret_to (t := H ((W.setFrames (.thenThrow a :: base)).pushFrame (.java (passJ m a (.ref str) 0 [])))) (f := passJ m a (.ref str) 5 []) (f₀ := passJ m a (.ref str) 0 []) (below := .thenThrow a :: base) (fs := .thenThrow a :: base) (meth := meth) fH (by rw [hH.vm]; exact hm) hl rfl rfl rfl acts2]
  have eF : ∀ F, (H ((W.setFrames (.thenThrow a :: base)).pushFrame (.java (passJ m a (.ref str) 0 [])))).setFrames F = (H W).setFrames F := by
    intro F
    rw [State.pushFrame, hH.setFrames, hH.setFrames, State.setFrames_setFrames, State.setFrames_setFrames]
  rw [eF]
  have cH : ((H W).setFrames (.thenThrow a :: base)).frames = .thenThrow a :: base := by
    rw [← hH.setFrames, hH.frames]
    exact f1
  have g1 : ((H W).setFrames (.thenThrow a :: base)).goesOn := by
    have hAt := hB
    have r1 := hAt.running
    have r2 := hAt.runnable
    have r3 := hAt.alone
    rw [State.pushFrame, hH.setFrames, hH.setFrames, State.setFrames_setFrames] at r1 r2 r3
    exact ⟨r1, by simpa using r2, by simpa using r3⟩
  refine Steps.head g1 ⟨.thenThrow a :: mid, by rw [cH, h6]; rfl, by simp, by simp⟩ ?_
  rw [stepThread_thenThrow cH]
  show Steps tb e below (((H W).setFrames (.thenThrow a :: base)).setFrames (.throwing a :: base)) target
  rw [State.setFrames_setFrames]
  exact hrest
theorem ov_cold {tb : Tables} [Ours tb] {e : Env} {below base : List Frame} {s₀ W : State} (h : g_Ov W base below) (hexec : tb.exec = Jvm.exec) {H : State → State} (hH : HeapOnly H) (P1 : PassC) (L1 : P1.LinksS e.platform s₀) (hW : s₀.WarmedH W.vm) (a str : Nat)
    (hroom : e.platform.stackFull (((W.setFrames (.thenThrow a :: base)).threads[(W.setFrames (.thenThrow a :: base)).cur]?).getD { frames := [] }) (W.setFrames (.thenThrow a :: base)).frames 2 = false)
    (hsup : ∀ vm1, s₀.WarmedH vm1 → At (((W.setVm vm1).setFrames (.thenThrow a :: base)).pushFrame (.java (passJ P1.m a (.ref str) 0 []))) P1.m P1.code below → ∃ vm2, s₀.WarmedH vm2 ∧ ∀ t' : State,
      Steps tb e below ((H (((W.setVm vm2).setFrames (.thenThrow a :: base)).pushFrame (.java (passJ P1.m a (.ref str) 0 [])))).setTop (passJ P1.m a (.ref str) 5 [])) t' →
      Steps tb e below (doInvoke e ((((W.setVm vm1).setFrames (.thenThrow a :: base)).pushFrame (.java (passJ P1.m a (.ref str) 0 []))).setTop (passJ P1.m a (.ref str) 2 [])) [] P1.sup #[.ref a, .ref str]).1 t') :
    ∃ vm', s₀.WarmedH vm' ∧ ∀ target, Steps tb e below ((H (W.setVm vm')).setFrames (.throwing a :: base)) target → Steps tb e below (doInvoke e (W.setFrames (.thenThrow a :: base)) [] P1.m #[.ref a, .ref str]).1 target := by
  have hmW := hW.methodAt L1.method
  obtain ⟨f1, hI, fI⟩ := ov_inside h a str hmW L1.code (hW.plainAt L1.plain)
  obtain ⟨vm1, hW1, st1⟩ := Steps.invokeInitCold (tb := tb) (s₀ := s₀) (U := ((W.setFrames (.thenThrow a :: base)).pushFrame (.java (passJ P1.m a (.ref str) 0 [])))) (f := passJ P1.m a (.ref str) 2 [.ref str, .ref a]) (args := [.ref str]) (rest := []) (a := a) hI hexec L1.at2 hW L1.links L1.right L1.notHandle L1.cls L1.file L1.pool L1.supClass L1.supMethod L1.supName L1.supStatic L1.supAbstract L1.supFound L1.supParams.symm rfl
  obtain ⟨vm2, hW2, st2⟩ := hsup vm1 hW1 (hI.setVm (hW.alike.symm.trans hW1.alike))
  refine ⟨vm2, hW2, fun target hrest => ?_⟩
  rw [(doInvoke_java (s := (W.setFrames (.thenThrow a :: base))) (e := e) (acts := []) (args := #[.ref a, .ref str]) (meth := P1.meth) (code := P1.code) hmW L1.code L1.locks (by rw [L1.locals]; exact hroom)).1, L1.locals]
  show Steps tb e below ((W.setFrames (.thenThrow a :: base)).pushFrame (.java (passJ P1.m a (.ref str) 0 []))) target
  rw [← State.setTop_self (s := ((W.setFrames (.thenThrow a :: base)).pushFrame (.java (passJ P1.m a (.ref str) 0 [])))) (State.topJava?_of_frames fI)]
  jvm_step hI [hexec, L1.at0, Value.isRef]
  jvm_step hI [hexec, L1.at1, Value.isRef]
  refine st1 target (st2 target ?_)
  exact ov_return (W := W.setVm vm2) h hexec hH a str (hW2.methodAt L1.method) L1.code (hW2.plainAt (U := W.setVm vm2) L1.plain) L1.locks L1.at5 hrest
section OVER
variable {p : Program} {l : Launch} {e : Env} {R : Room} {s : State} {m : MethodId} {args : Array Value} {below base : List Frame} {meth : Method} {c : Code} {T' : State} {locs : List Loc} {cells slots : Nat}
/-- an exception with a message, thrown in a native's frame -/
theorem g_msgNat (X : Stand p l e R s m args below meth c T' locs cells slots) (hexec : p.tables.exec = Jvm.exec) (htr : e.platform.stackTraces = false) {cls : String} {names : List String} {text : String} (hcls : Bundle.fit cls = true) (hnames : ∀ n ∈ names, Bundle.fit n = true) (hsoe : (cls == "java/lang/StackOverflowError") = false) (hoom : (cls == "java/lang/OutOfMemoryError") = false)
    (h : ∀ a ∈ Bundle.messageArmAtoms cls names, a.before args s = true) (hlocs : ∀ x ∈ locs, ∀ cell, s.heap[x.base]? = some cell → cell.vm.isStatics = false) (htext : (text == notModelled) = false) (hbytes : (stringBytes (stringToUtf16 text)).size ≤ 536870912) {g : JFrame} (hg : g.method = m) (hsize : g.locals.size = c.maxLocals) {nf : NFrame} (hnf : nf.words = 0) (hbase : base = .native nf :: .java g :: below)
    (hRframes : names.length + 5 < R.frames) (hRlocals : 2 * g.monitorRoom + (g.stack.map fun v => v.category).sum + 10240 ≤ R.locals) (hshort : 13 * names.length + 55 ≤ 10240) (hRcells : cells + 3 ≤ R.cells) (hRslots : slots + ((stringBytes (stringToUtf16 text)).size + 4 + 6) ≤ R.slots) :
    ∃ (U : State) (L : List Loc) (cell : Cell), Stand p l e R s m args below meth c U (locs ++ L) (cells + 3) (slots + ((stringBytes (stringToUtf16 text)).size + 4 + 6)) ∧ (∀ y ∈ L, y.base = T'.heap.size + 2) ∧ (∀ q, q < T'.heap.size → U.heap[q]? = T'.heap[q]?) ∧ U.heap[T'.heap.size + 2]? = some cell ∧ s.vm.findClass cls = some cell.cls ∧ cell.vm = .none ∧ Steps p.tables e below (T'.setFrames (.throwNew cls (some text) none :: base)) (U.setFrames (.throwing (T'.heap.size + 2) :: base)) := by
  have hw : ∀ x, x ∈ Bundle.messageArmAtoms cls names → x.holds args s none s [] = true := fun x hx => h x hx
  have pO : e.platform.frameOwnsMonitors = true := by rw [X.admits.platform]
  have pF : e.platform.finalization = false := by rw [X.admits.platform]
  have pM : e.platform.magicAccessors = ({} : Platform).magicAccessors := by rw [X.admits.platform]
  obtain ⟨T, Z0, L, -, Y⟩ := ThrowableC.of_atoms (args := args) pO pF pM (fun x hx => h x (by simp [Bundle.messageArmAtoms, hx]))
  obtain ⟨Z, M, LZ, LM, hnZ⟩ := Init0T.ofS_atoms (args := args) pM L Y (fun x hx => h x (by simp [Bundle.messageArmAtoms, hx]))
  obtain ⟨P1, Ps, hlen, L1, hL, m1, hl1, hl⟩ := Bundle.chainS (args := args) pM hnZ names cls hcls hnames (fun x hx => h x (by simp [Bundle.messageArmAtoms, hx]))
  obtain ⟨Zs, LZs, hn4, hfitv, hfitc⟩ := StringT.of_atoms (args := args) (fun x hx => h x (by simp [Bundle.messageArmAtoms, hx]))
  have fX : s.vm.findClass cls = some P1.m.cls := findClass_of_methodNamed m1
  obtain ⟨c1, kX, hc1, kX', hord, -, -, hn6⟩ := Cond.instantiable_spec (hw (.instantiable cls 6) (by simp [Bundle.messageArmAtoms]))
  cases Option.some.inj (hc1.symm.trans fX)
  have iX := Cond.initialized_spec fX kX' (hw (.initialized cls) (by simp [Bundle.messageArmAtoms]))
  have cX : kX.findMethod "<init>" "(Ljava/lang/String;)V" = some P1.m.idx := findMethod_of_methodNamed m1 kX'
  have sel0 : selectMethod e.platform s.vm P1.m.cls T.fill0 = .method T.fill0 := by
    obtain ⟨c2, r2, m2, q1, q2, q3, q4, -⟩ := Cond.selects_spec (hw (.selects cls Bundle.tFill0 Bundle.tFill0) (by simp [Bundle.messageArmAtoms]))
    cases Option.some.inj (q1.symm.trans fX)
    cases Option.some.inj (q2.symm.trans (State.methodFound?_of_named Y.fill0 (by decide)))
    cases Option.some.inj (q3.symm.trans Y.fill0)
    rw [Launch.admits_selectMethod X.admits]; exact q4
  have selF : selectMethod e.platform s.vm P1.m.cls T.fill = .method T.fill := by
    obtain ⟨c2, r2, m2, q1, q2, q3, q4, -⟩ := Cond.selects_spec (hw (.selects cls Bundle.tFill Bundle.tFill) (by simp [Bundle.messageArmAtoms]))
    cases Option.some.inj (q1.symm.trans fX)
    cases Option.some.inj (q2.symm.trans (State.methodFound?_of_named Y.fill (by decide)))
    cases Option.some.inj (q3.symm.trans Y.fill)
    rw [Launch.admits_selectMethod X.admits]; exact q4
  obtain ⟨cs0, hcs0, his⟩ := Y.statics
  obtain ⟨u0, hu0⟩ := Cond.staticRefV Y.unassigned L.unassignedStatic L.statics hcs0 his (hw (.isRef (.static Bundle.tN "UNASSIGNED_STACK" Bundle.steD)) (by simp [Bundle.messageArmAtoms]))
  obtain ⟨sen, hsen⟩ := Cond.staticRefV Y.sentinel L.sentinelStatic L.statics hcs0 his (hw (.isRef (.static Bundle.tN "SUPPRESSED_SENTINEL" Bundle.listD)) (by simp [Bundle.messageArmAtoms]))
  obtain ⟨ci9, i9, fB, hk9, hg9, ha9, hsB, -, hnB, htB, hffB⟩ := Cond.ownField (t := .object "java/lang/Object") Y.found L.cls (by decide +kernel) (hw (.fieldLink Bundle.tN 198 Bundle.tN "backtrace" "Ljava/lang/Object;") (by simp [Bundle.messageArmAtoms])) (hw (.lays Bundle.tN Bundle.tN "backtrace" "Ljava/lang/Object;") (by simp [Bundle.messageArmAtoms])) e.platform pM
  obtain ⟨cs, hcs, hvm, -, hkeep⟩ := X.same.2.2.2.2.2 T.aS cs0 hcs0
  have out : ∀ i, (⟨T.aS, i⟩ : Loc) ∉ locs := fun i hm => by
    have := hlocs _ hm cs0 hcs0
    rw [his] at this; cases this
  have known : cs.vm ≠ .unknown := by
    rw [hvm]; intro hu
    rw [show cs0.vm = .unknown from hu] at his
    cases his
  obtain ⟨iM, hffM⟩ := Y.msg
  obtain ⟨tyC, dC, hdC, nC⟩ := Cond.laysAt fX kX' Y.cause (hw (.lays cls Bundle.tN "cause" "Ljava/lang/Throwable;") (by simp [Bundle.messageArmAtoms]))
  obtain ⟨tyS, dS, hdS, nS⟩ := Cond.laysAt fX kX' Y.stack (hw (.lays cls Bundle.tN "stackTrace" Bundle.steD) (by simp [Bundle.messageArmAtoms]))
  obtain ⟨tyP, dP, hdP, nP⟩ := Cond.laysAt fX kX' Y.supp (hw (.lays cls Bundle.tN "suppressedExceptions" Bundle.listD) (by simp [Bundle.messageArmAtoms]))
  obtain ⟨tyM, dM, hdM, nM⟩ := Cond.laysAt fX kX' hffM (hw (.lays cls Bundle.tN "detailMessage" "Ljava/lang/String;") (by simp [Bundle.messageArmAtoms]))
  obtain ⟨tyB, dB, hdB, nB⟩ := Cond.laysAt fX kX' hffB (hw (.lays cls Bundle.tN "backtrace" "Ljava/lang/Object;") (by simp [Bundle.messageArmAtoms]))
  have bC := Cond.laysApart hdB hdC nB nC (by rw [hnB, Y.causeName]; decide)
  have bS := Cond.laysApart hdB hdS nB nS (by rw [hnB, Y.stackName]; decide)
  have bP := Cond.laysApart hdB hdP nB nP (by rw [hnB, Y.suppName]; decide)
  have skip : SkipFacts T e.platform s (fun u => u) u0 ((preparedCellV T.toThrowableT (freshCell P1.m.cls kX) (T'.heap.size + 2) u0 sen).withEntry T'.cur) :=
    ⟨{ ci198 := ci9, i198 := i9, fBack := fB }, ⟨hk9, hg9, ha9, hsB⟩, by
      have := fresh_default (c := P1.m.cls) tyB
      rw [htB] at this
      simpa [preparedCellV, Cell.setSlot, Cell.withEntry, Array.getElem?_setIfInBounds, bC, bS, bP, bC.symm, bS.symm, bP.symm, defaultValue] using this, fun _ _ => rfl⟩
  obtain ⟨g0, hfr0⟩ := X.frames_eq
  have hcur : T'.cur < T'.threads.size := State.cur_lt_of_frames hfr0
  have hov : g_Ov T' base below := ⟨hcur, X.here.running, X.here.runnable, X.here.alone, .native nf :: [.java g], by rw [hbase]; rfl⟩
  have hsa := X.stackAbove hsize hRlocals
  rw [X.tail] at hsa
  have hub : (stackUse base).2 = (stackUse (.java g :: below)).2 := by rw [hbase, stackUse_light (.native nf) _ (fun f hf => by cases hf) hnf]
  have hlen : base.length = T'.frames.length + 1 := by rw [hbase, hfr0]; rfl
  have hme : ((((T'.setFrames (.throwNew cls (some text) none :: base)).threads[T'.cur]?).map (fun t => t.stackBytes)).getD 0) = T'.me.stackBytes := by
    rw [← State.stackBytes_setFrames T' (.throwNew cls (some text) none :: base)]
    exact State.stackBytes_me (T'.setFrames (.throwNew cls (some text) none :: base))
  have hlimE : e.platform.stackLimits T'.me = e.platform.stackLimits T'.me := rfl
  have hF := X.framesAbove hRframes
  obtain ⟨kX1, hk1, he1⟩ := X.warmed.alike.2.2 _ _ kX'
  have hty : kX1.instanceTypes = kX.instanceTypes := by rw [he1]
  have hfresh : freshCell P1.m.cls kX1 = freshCell P1.m.cls kX := by
    show ({ cls := P1.m.cls, slots := kX1.instanceTypes.map defaultValue, vm := .none } : Cell) = _
    rw [hty]
  obtain ⟨kS', kB', LZ', htyS⟩ := LZs.warmer X.warmed.alike
  have hsame : withThrown T' { Zs with kS := kS', kB := kB' } text P1.m.cls kX1 = withThrown T' Zs text P1.m.cls kX := by
    rw [← withThrown_warmer T' Zs (kB' := kB') htyS text P1.m.cls kX]
    show (withString T' _ _ _ _ _ _).pushCell (freshCell P1.m.cls kX1) = (withString T' _ _ _ _ _ _).pushCell (freshCell P1.m.cls kX)
    rw [hfresh]
  have hfs : T'.fitsSlot = s.fitsSlot := (show T'.fitsSlot = (s.setVm T'.vm).fitsSlot from rfl).trans (State.fitsSlot_setVm X.warmed.alike)
  obtain ⟨w1, w2, w3, w4, w5, -, w7⟩ := withThrown_facts e.platform T' Zs text P1.m.cls kX
  have hltS : T.aS < T'.heap.size := (Array.getElem?_eq_some_iff.mp (show T'.heap[T.aS]? = some cs from hcs)).1
  have hovW : g_Ov (withThrown T' Zs text P1.m.cls kX) base below := hov
  have hWW : s.WarmedH (withThrown T' Zs text P1.m.cls kX).vm := by rw [w1]; exact X.warmed
  have hWcur : (withThrown T' Zs text P1.m.cls kX).cur = T'.cur := rfl
  have hWlim : e.platform.stackLimits (withThrown T' Zs text P1.m.cls kX).me = e.platform.stackLimits T'.me := w7
  have hWc : (withThrown T' Zs text P1.m.cls kX).heap[T'.heap.size + 2]? = some (freshCell P1.m.cls kX) := w4
  have hWS : (withThrown T' Zs text P1.m.cls kX).heap[T.aS]? = some cs := (w5 _ hltS).trans hcs
  have main : ∃ vm', s.WarmedH vm' ∧ ∀ target, Steps p.tables e below ((((withThrown T' Zs text P1.m.cls kX).setVm vm').setCell (T'.heap.size + 2) ((((preparedCellV T.toThrowableT (freshCell P1.m.cls kX) (T'.heap.size + 2) u0 sen).withEntry T'.cur).setSlot T.fStack.slot u0.v).left.setSlot T.fMsg.slot (.ref (T'.heap.size + 1)))).setFrames (.throwing (T'.heap.size + 2) :: base)) target →
      Steps p.tables e below (doInvoke e ((withThrown T' Zs text P1.m.cls kX).setFrames (.thenThrow (T'.heap.size + 2) :: base)) [] P1.m #[.ref (T'.heap.size + 2), .ref (T'.heap.size + 1)]).1 target := by
    generalize withThrown T' Zs text P1.m.cls kX = W at hovW hWW hWcur hWlim hWc hWS
    obtain ⟨hfN, -, -⟩ := ov_inside hovW (T'.heap.size + 2) (T'.heap.size + 1) (hWW.methodAt L1.method) L1.code (hWW.plainAt L1.plain)
    have hlimN : e.platform.stackLimits (W.setFrames (.thenThrow (T'.heap.size + 2) :: base)).me = e.platform.stackLimits T'.me := by rw [State.stackLimits_setFrames]; exact hWlim
    have hroom := roomAbove (pl := e.platform) (u := W.setFrames (.thenThrow (T'.heap.size + 2) :: base)) (vars := 2) (pushed := [.thenThrow (T'.heap.size + 2)]) (base := base) (free := 13 * Ps.length + 55) (lim := e.platform.stackLimits T'.me) hfN hlimN
      (by simp only [List.length_cons, List.length_nil]; omega) (by rw [hub]; omega) (by rw [stackUse_light _ _ (fun f hf => by cases hf) rfl, stackUse_nil]; show 0 + 2 + 11 ≤ _; omega)
    refine ov_cold hovW hexec (H := fun u => u.setCell (T'.heap.size + 2) ((((preparedCellV T.toThrowableT (freshCell P1.m.cls kX) (T'.heap.size + 2) u0 sen).withEntry T'.cur).setSlot T.fStack.slot u0.v).left.setSlot T.fMsg.slot (.ref (T'.heap.size + 1)))) (heapOnly_id.thenSetCell (T'.heap.size + 2) _) P1 L1 hWW (T'.heap.size + 2) (T'.heap.size + 1) hroom (fun vm1 hW1 hI1 => ?_)
    rw [hl1]
    obtain ⟨-, -, hXfr⟩ := ov_inside (hovW.vm vm1) (T'.heap.size + 2) (T'.heap.size + 1) (hW1.methodAt L1.method) L1.code (hW1.plainAt (U := W.setVm vm1) L1.plain)
    have hXvm : ∀ w, (((W.setVm vm1).setFrames (.thenThrow (T'.heap.size + 2) :: base)).pushFrame (.java (passJ P1.m (T'.heap.size + 2) (.ref (T'.heap.size + 1)) 0 []))).setVm w = (((W.setVm w).setFrames (.thenThrow (T'.heap.size + 2) :: base)).pushFrame (.java (passJ P1.m (T'.heap.size + 2) (.ref (T'.heap.size + 1)) 0 []))) := fun w => by rw [State.pushFrame_setVm, State.setFrames_setVm, State.setVm_twice]
    have hXc : (((W.setVm vm1).setFrames (.thenThrow (T'.heap.size + 2) :: base)).pushFrame (.java (passJ P1.m (T'.heap.size + 2) (.ref (T'.heap.size + 1)) 0 []))).heap[T'.heap.size + 2]? = some (freshCell P1.m.cls kX) := hWc
    have hXS : (((W.setVm vm1).setFrames (.thenThrow (T'.heap.size + 2) :: base)).pushFrame (.java (passJ P1.m (T'.heap.size + 2) (.ref (T'.heap.size + 1)) 0 []))).heap[T.aS]? = some cs := hWS
    have hXcur : (((W.setVm vm1).setFrames (.thenThrow (T'.heap.size + 2) :: base)).pushFrame (.java (passJ P1.m (T'.heap.size + 2) (.ref (T'.heap.size + 1)) 0 []))).cur = T'.cur := hWcur
    have hXW : s.WarmedH (((W.setVm vm1).setFrames (.thenThrow (T'.heap.size + 2) :: base)).pushFrame (.java (passJ P1.m (T'.heap.size + 2) (.ref (T'.heap.size + 1)) 0 []))).vm := hW1
    have hXlim : e.platform.stackLimits (((W.setVm vm1).setFrames (.thenThrow (T'.heap.size + 2) :: base)).pushFrame (.java (passJ P1.m (T'.heap.size + 2) (.ref (T'.heap.size + 1)) 0 []))).me = e.platform.stackLimits T'.me := by rw [State.stackLimits_pushFrame, State.stackLimits_setFrames]; exact hWlim
    suffices hs : ∃ vm2, s.WarmedH vm2 ∧ ∀ t' : State, Steps p.tables e below (((((W.setVm vm1).setFrames (.thenThrow (T'.heap.size + 2) :: base)).pushFrame (.java (passJ P1.m (T'.heap.size + 2) (.ref (T'.heap.size + 1)) 0 []))).setVm vm2).setCell (T'.heap.size + 2) ((((preparedCellV T.toThrowableT (freshCell P1.m.cls kX) (T'.heap.size + 2) u0 sen).withEntry T'.cur).setSlot T.fStack.slot u0.v).left.setSlot T.fMsg.slot (.ref (T'.heap.size + 1))) |>.setTop (passJ P1.m (T'.heap.size + 2) (.ref (T'.heap.size + 1)) 5 [])) t' →
        Steps p.tables e below (doInvoke e ((((W.setVm vm1).setFrames (.thenThrow (T'.heap.size + 2) :: base)).pushFrame (.java (passJ P1.m (T'.heap.size + 2) (.ref (T'.heap.size + 1)) 0 []))).setTop (passJ P1.m (T'.heap.size + 2) (.ref (T'.heap.size + 1)) 2 [])) [] (firstOf (Z.m T.toThrowableT) (Ps.map (·.toPassT))) #[.ref (T'.heap.size + 2), .ref (T'.heap.size + 1)]).1 t' by
      obtain ⟨vm2, hW2, st⟩ := hs
      exact ⟨vm2, hW2, fun t' h' => st t' (by rw [hXvm]; exact h')⟩
    clear hXvm
    generalize (((W.setVm vm1).setFrames (.thenThrow (T'.heap.size + 2) :: base)).pushFrame (.java (passJ P1.m (T'.heap.size + 2) (.ref (T'.heap.size + 1)) 0 []))) = XX at hI1 hXfr hXc hXS hXcur hXW hXlim ⊢
    exact Steps.initThrowableSColdByV p (V := XX) (g := passJ P1.m (T'.heap.size + 2) (.ref (T'.heap.size + 1)) 2 []) (c := P1.code) (self := T'.heap.size + 2) hI1 hexec T L Z LZ M LM hXW hXcur (Nn := fun u => u) heapOnly_id (fun _ _ => rfl) (fun _ => rfl) (fun u x y => setCell_twice _ _ _ _) (fun _ => Nat.le_refl _) (msg := .ref (T'.heap.size + 1)) rfl hXc (by intro k hk'; cases hk') (by intro hk'; cases hk') rfl sel0 hXS (Nat.ne_of_lt (Nat.lt_of_lt_of_le hltS (Nat.le_add_right _ 2))) known (by rw [hkeep _ (out _)]; exact hu0) (Takes.of_laid kX' hord tyS (by rw [Y.stackType]; exact fits_refV_array _ u0))
      (cN := ((preparedCellV T.toThrowableT (freshCell P1.m.cls kX) (T'.heap.size + 2) u0 sen).withEntry T'.cur)) (fun _ hu => hu) (fun _ hu => hu) rfl rfl rfl (by simp [preparedCellV, Cell.setSlot, Cell.withEntry]) skip (fun _ _ hA hW _ hroom _ hrest => L.nativeOff p htr hA hW hroom hrest) selF (by rw [hkeep _ (out _)]; exact hsen)
      (Takes.of_laid kX' hord tyC (by rw [Y.causeType]; rfl)) (Takes.of_laid kX' hord tyP (by rw [Y.suppType]; exact fits_refV_object _ sen)) (Takes.of_laid kX' hord tyM (by rw [Y.msgType]; rfl)) Y.objLocals Ps hL hl (ig := .invokespecial P1.index) (len := 3) [] hXlim
      (by rw [hXfr]; simp only [List.length_cons]; omega)
      (by rw [hXfr, List.tail_cons, stackUse_java, stackUse_light _ _ (fun f hf => by cases hf) rfl]
          show (stackUse base).2 + (2 + 11 + 2 * 0 + operandWords []) + 13 * Ps.length + 42 ≤ (e.platform.stackLimits T'.me).2
          simp only [operandWords, List.foldl_nil]
          omega)
      L1.at2
  obtain ⟨vm', hW', st⟩ := main
  rw [plainBareV_eq T.toThrowableT (T'.heap.size + 2) u0 sen (.ref (T'.heap.size + 1)) T'.cur rfl rfl] at st
  have hsl : T'.slotsUsed + (stringBytes (stringToUtf16 text)).size + Zs.kS.instanceTypes.size + kX.instanceTypes.size ≤ e.platform.maxSlots := by
    have := X.slotsAbove hRslots
    omega
  have X3 := ((X.pushed (bytesOf Zs.cB (stringToUtf16 text))).pushed (stringAt Zs.cS Zs.kS Zs.fv Zs.fc (stringToUtf16 text) T'.heap.size)).pushed (freshCell P1.m.cls kX)
  rw [← withString_eq] at X3
  have X4 := X3.noted hW'
  have ha : (T'.heap.size + 2) < ((withThrown T' Zs text P1.m.cls kX).setVm vm').heap.size := by show _ < (withThrown T' Zs text P1.m.cls kX).heap.size; rw [w3]; omega
  have hcell : ((withThrown T' Zs text P1.m.cls kX).setVm vm').heap[(T'.heap.size + 2)]? = some (freshCell P1.m.cls kX) := w4
  have X5 := ((((X4.stored hcell T.fCause.slot (.ref (T'.heap.size + 2))).storedAgain ha T.fStack.slot u0.v).storedAgain ha T.fSupp.slot sen.v).storedAgain ha T.fStack.slot u0.v).storedAgain ha T.fMsg.slot (.ref (T'.heap.size + 1))
  simp only [List.append_assoc, List.cons_append, List.nil_append] at X5
  have b1 : (bytesOf Zs.cB (stringToUtf16 text)).slots.size = (stringBytes (stringToUtf16 text)).size := by
    rw [(Cell.writeAll_facts _ _).2.2]; simp [bytes0]
  have b2 : (stringAt Zs.cS Zs.kS Zs.fv Zs.fc (stringToUtf16 text) T'.heap.size).slots.size = 4 := by simp [string0, Cell.setSlot, hn4]
  have b3 : (freshCell P1.m.cls kX).slots.size = 6 := by simp [hn6]
  rw [b1, b2, b3, Nat.add_assoc slots, Nat.add_assoc slots] at X5
  refine ⟨_, _, _, X5, ?_, ?_, heapAt_setCell_self (s := (withThrown T' Zs text P1.m.cls kX).setVm vm') _ ha, fX, rfl, ?_⟩
  · intro y hy
    simp only [List.mem_cons, List.not_mem_nil, or_false] at hy
    rcases hy with rfl | rfl | rfl | rfl | rfl <;> rfl
  · intro q hq
    rw [State.heap_setCell_other (by omega : T'.heap.size + 2 ≠ q)]
    exact w5 q hq
  · have hf0 : (T'.setFrames (.throwNew cls (some text) none :: base)).frames = .throwNew cls (some text) none :: base := State.frames_setFrames _ hcur
    obtain ⟨mid, hmid⟩ := hov.2.2.2.2
    have hgo : (T'.setFrames (.throwNew cls (some text) none :: base)).goesOn := ⟨hov.2.1, by simpa using hov.2.2.1, by simpa using hov.2.2.2.1⟩
    refine Steps.head hgo ⟨.throwNew cls (some text) none :: mid, by rw [hf0, hmid]; rfl, by simp, by simp⟩ ?_
    have hbey : e.platform.stackBeyond ((((T'.setFrames (.throwNew cls (some text) none :: base)).threads[T'.cur]?).map (fun t => t.stackBytes)).getD 0) (T'.setFrames (.throwNew cls (some text) none :: base)).frames = false ∧ e.platform.vmThrowRoom ≤ e.platform.stackFree ((((T'.setFrames (.throwNew cls (some text) none :: base)).threads[T'.cur]?).map (fun t => t.stackBytes)).getD 0) (T'.setFrames (.throwNew cls (some text) none :: base)).frames := by
      have hlimit : (e.platform.stackLimits T'.me).2 = (e.platform.limitsFor T'.me.stackBytes).2 := rfl
      rw [hme, hf0, Launch.admits_vmThrowRoom X.admits]
      unfold Platform.stackBeyond Platform.stackFree
      rw [stackUse_light _ _ (fun f hf => by cases hf) rfl, hub]
      exact ⟨decide_eq_false (by omega), by omega⟩
    have hfs2 : (T'.setFrames (.throwNew cls (some text) none :: base)).fitsSlot = s.fitsSlot := (show (T'.setFrames (.throwNew cls (some text) none :: base)).fitsSlot = (s.setVm T'.vm).fitsSlot from rfl).trans (State.fitsSlot_setVm X.warmed.alike)
    rw [stepThread_throwNew hf0, stepThrowNew_message (s := T'.setFrames (.throwNew cls (some text) none :: base)) (c := P1.m.cls) (k := kX1) (i := P1.m.idx) { Zs with kS := kS', kB := kB' } LZ' hsoe hoom (by show T'.vm.findClass cls = _; rw [X.warmed.alike.findClass]; exact fX) hk1 (by rw [he1]; exact iX) (by rw [he1]; exact hord)
      (Launch.admits_hotImplicitExceptions X.admits) hbey.1 hbey.2 htext (by rw [he1]; exact cX) (by rw [Launch.admits_arrayLengthLimit X.admits]; omega) (by rw [Launch.admits_maxHeapBytes X.admits]; show ¬ _ * 1 > _; omega) (X.cellsAbove hRcells) (by show T'.slotsUsed + _ + kS'.instanceTypes.size + kX1.instanceTypes.size ≤ _; rw [htyS, hty]; exact hsl) (by rw [hfs2]; exact hfitv _) (by rw [hfs2]; exact hfitc _)]
    have hN : (withThrown (T'.setFrames (.throwNew cls (some text) none :: base)) { Zs with kS := kS', kB := kB' } text P1.m.cls kX1).setFrames (.thenThrow ((T'.setFrames (.throwNew cls (some text) none :: base)).heap.size + 2) :: base) = (withThrown T' Zs text P1.m.cls kX).setFrames (.thenThrow (T'.heap.size + 2) :: base) := by
      rw [withThrown_setFrames, State.setFrames_setFrames, hsame]
      rfl
    rw [hN]
    exact st _ (Steps.refl _)
end OVER
