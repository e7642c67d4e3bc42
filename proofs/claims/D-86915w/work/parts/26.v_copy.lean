/-! System.arraycopy that finds its source's places out of bounds -/
set_option maxRecDepth 100000
theorem g_toStrInt {x : Int} (h0 : 0 ≤ x) (h1 : x < 10 ^ 10) : (toString x).toList.length ≤ 10 := by
  obtain ⟨n, rfl⟩ := Int.eq_ofNat_of_zero_le h0
  exact nat_print (n := n) (by omega)
theorem g_pre_ne {x y : String} (h : (x ++ y) = notModelled) (hx : x = "arraycopy: ") : False := by
  have h3 := congrArg String.toList h
  rw [hx] at h3
  simp [String.toList_append, notModelled] at h3
section COPYOUT
variable {p : Program} {l : Launch} {e : Env} {R : Room} {s : State} {m : MethodId} {args : Array Value} {below : List Frame} {meth : Method} {c : Code} {T : State} {locs : List Loc} {cells slots : Nat}
def g_cw (sp n : Int32) (N : Nat) : Option String := if sp < 0 then some ("source index " ++ toString sp ++ " out of bounds for " ++ ("int[" ++ toString N ++ "]")) else if sp.toInt + n.toInt > N then some ("last source index " ++ toString (sp.toInt + n.toInt) ++ " out of bounds for " ++ ("int[" ++ toString N ++ "]")) else none
theorem g_copyText {sp n : Int32} {N : Nat} (hn : ¬ n < 0) (hN : N < 2147483648) (hout : sp < 0 ∨ (N : Int) < sp.toInt + n.toInt) : ∃ text, (text == notModelled) = false ∧ (stringBytes (stringToUtf16 text)).size ≤ 400 ∧ (g_cw sp n N).map (fun w => "arraycopy: " ++ w) = some text := by
  have bnd : ∀ text : String, text.toList.length ≤ 100 → (stringBytes (stringToUtf16 text)).size ≤ 400 := by
    intro text h
    have b1 := stringBytes_size_le (stringToUtf16 text)
    have b2 := utf16_size_le text
    omega
  have a1 := int32_print sp
  have a2 := nat_print (n := N) (by omega)
  have c0 : "arraycopy: ".toList.length = 11 := by decide
  have c1 : "source index ".toList.length = 13 := by decide
  have c2 : " out of bounds for ".toList.length = 19 := by decide
  have c3 : "int[".toList.length = 4 := by decide
  have c4 : "]".toList.length = 1 := by decide
  have c5 : "last source index ".toList.length = 18 := by decide
  by_cases h : sp < 0
  · refine ⟨"arraycopy: " ++ ("source index " ++ toString sp ++ " out of bounds for " ++ ("int[" ++ toString N ++ "]")), ?_, ?_, ?_⟩
    · exact beq_eq_false_iff_ne.mpr (fun z => g_pre_ne z rfl)
    · apply bnd
      simp only [String.toList_append, List.length_append]
      omega
    · unfold g_cw
      rw [if_pos h]
      rfl
  · have h2 : (N : Int) < sp.toInt + n.toInt := by
      rcases hout with z | z
      · exact absurd z h
      · exact z
    have a3 : (toString (sp.toInt + n.toInt)).toList.length ≤ 10 := by
      apply g_toStrInt
      · omega
      · have := sp.toInt_lt
        have := n.toInt_lt
        omega
    refine ⟨"arraycopy: " ++ ("last source index " ++ toString (sp.toInt + n.toInt) ++ " out of bounds for " ++ ("int[" ++ toString N ++ "]")), ?_, ?_, ?_⟩
    · exact beq_eq_false_iff_ne.mpr (fun z => g_pre_ne z rfl)
    · apply bnd
      simp only [String.toList_append, List.length_append]
      omega
    · unfold g_cw
      rw [if_neg h, if_pos h2]
      rfl
theorem g_copyOut (X : Stand p l e R s m args below meth c T locs cells slots) (hexec : p.tables.exec = Jvm.exec) (htr : e.platform.stackTraces = false) {names : List String} (hcls : Bundle.fit "java/lang/ArrayIndexOutOfBoundsException" = true) (hnames : ∀ n ∈ names, Bundle.fit n = true) (hat : ∀ a ∈ Bundle.messageArmAtoms "java/lang/ArrayIndexOutOfBoundsException" names, a.before args s = true) (hlocs : ∀ x ∈ locs, ∀ cell, s.heap[x.base]? = some cell → cell.vm.isStatics = false)
    {own : String} {index : Nat} (hown : s.vm.findClass own = some m.cls) (hlink : (Cond.methodLink own index arraycopyName).before args s = true) (hnat : (Cond.native arraycopyName).before args s = true) (hstat : (Cond.static arraycopyName).before args s = true) (hinit : (Cond.initialized "java/lang/System").before args s = true)
    {src dst : Nat} {sp dp n : Int32} {cs cd : Cell} {ks kd : Class} {sComp dComp : ClassId} (hs : T.heap[src]? = some cs) (hd : T.heap[dst]? = some cd) (hsobj : cs.vm = .none) (hdobj : cd.vm = .none) (hks : s.vm.classes[cs.cls]? = some ks) (hkd : s.vm.classes[cd.cls]? = some kd) (hsk : ks.kind = .array sComp .int) (hdk : kd.kind = .array dComp .int)
    (h2 : ¬ dp < 0) (h3 : ¬ n < 0) (hN : cs.slots.size < 2147483648) (hout : sp < 0 ∨ (cs.slots.size : Int) < sp.toInt + n.toInt)
    {pc : Nat} {ls : Array Slot} (hsize : ls.size = c.maxLocals) {rest : List Value} (hdg : decode c.code pc = .ok (.invokestatic index, 3))
    (hlen : names.length ≤ 10) (hRframes : 40 ≤ R.frames) (hRlocals : (rest.map fun v => v.category).sum + 10240 ≤ R.locals) (hRcells : cells + 3 ≤ R.cells) (hRslots : slots + 410 ≤ R.slots) :
    ∃ (U : State) (L : List Loc) (cell : Cell) (k : Nat), k ≤ 410 ∧ Stand p l e R s m args below meth c U (locs ++ L) (cells + 3) (slots + k) ∧ (∀ y ∈ L, y.base = T.heap.size + 2) ∧ (∀ q, q < T.heap.size → U.heap[q]? = T.heap[q]?) ∧ U.heap[T.heap.size + 2]? = some cell ∧ s.vm.findClass "java/lang/ArrayIndexOutOfBoundsException" = some cell.cls ∧ cell.vm = .none ∧
      Steps p.tables e below (T.setTop (F0 m pc ls (.int n :: .int dp :: .ref dst :: .int sp :: .ref src :: rest))) (g_thr U (F0 m pc ls rest) (T.heap.size + 2)) := by
  obtain ⟨r, kS, methS, hnS, hmS, hkS, N⟩ := NativeOf.of_static hnat hstat (ps := [.object "java/lang/Object", .int, .object "java/lang/Object", .int, .int]) (ret := none) (by decide +kernel)
  have hinitS : kS.init = .initialized := Cond.initialized_spec (findClass_of_methodNamed hnS) hkS hinit
  obtain ⟨vm', X', step⟩ := X.invokestatic hexec hown hlink hnS hmS N.static hkS hinitS (by decide) (g := F0 m pc ls (.int n :: .int dp :: .ref dst :: .int sp :: .ref src :: rest)) rfl (argsL := [.ref src, .int sp, .ref dst, .int dp, .int n]) (rest := rest) (by rw [N.sig]; rfl) rfl hdg
  have hA' : s.vm.Alike vm' := X'.warmed.alike
  obtain ⟨kS', N'⟩ := N.alike hA'
  obtain ⟨ks', hks', hes⟩ := hA'.2.2 _ _ hks
  obtain ⟨kd', hkd', hed⟩ := hA'.2.2 _ _ hkd
  obtain ⟨text, htx, hbt, hmap⟩ := g_copyText (sp := sp) (n := n) (N := cs.slots.size) h3 hN hout
  obtain ⟨what, hwhat, hwt⟩ := Option.map_eq_some_iff.mp hmap
  have hseen : seenByNative methS #[.ref src, .int sp, .ref dst, .int dp, .int n] = #[.ref src, .int sp, .ref dst, .int dp, .int n] := by
    simp [seenByNative, N'.static, N'.sig, narrow]
  obtain ⟨U, L, cell, X5, hL, hold, hcell, hfc, hvm, hst⟩ := g_msgNat X' hexec htr (cls := "java/lang/ArrayIndexOutOfBoundsException") (names := names) (text := text) hcls hnames rfl rfl hat hlocs htx (by omega) (g := F0 m pc ls rest) rfl hsize (nf := { method := r, args := #[.ref src, .int sp, .ref dst, .int dp, .int n], locked := none }) rfl rfl (by omega) (by show 2 * 0 + (rest.map fun v => v.category).sum + 10240 ≤ R.locals; omega) (by omega) hRcells (by omega)
  refine ⟨U, L, cell, _, ?_, X5, hL, hold, hcell, hfc, hvm, step _ fun acts => ?_⟩
  · omega
  have hTop := X'.here
  obtain ⟨g0, hfr⟩ := X'.frames_eq
  have hcur : (T.setVm vm').cur < (T.setVm vm').threads.size := State.cur_lt_of_frames hfr
  have hm' : ((T.setVm vm').setTop (F0 m pc ls rest)).vm.method? r = some methS := by
    show (T.setVm vm').vm.method? r = some methS
    simp [Vm.method?, N'.cls, N'.meth]
  have hroom' : e.platform.stackFull ((((T.setVm vm').setTop (F0 m pc ls rest)).threads[((T.setVm vm').setTop (F0 m pc ls rest)).cur]?).getD { frames := [] }) ((T.setVm vm').setTop (F0 m pc ls rest)).frames (nativeFrameWords (((((T.setVm vm').setTop (F0 m pc ls rest)).vm.classes[r.cls]?).map (·.name)).getD "") methS.name (operandWords [.ref src, .int sp, .ref dst, .int dp, .int n])) = false := by
    have hcn : ((((T.setVm vm').setTop (F0 m pc ls rest)).vm.classes[r.cls]?).map (·.name)).getD "" = "java/lang/System" := by
      have h9 : vm'.classes[r.cls]? = some kS' := N'.cls
      show ((vm'.classes[r.cls]?).map (·.name)).getD "" = _
      rw [h9]
      exact N'.className
    rw [hcn, N'.name]
    refine X'.notFull (g := F0 m pc ls rest) hsize (vars := nativeFrameWords "java/lang/System" "arraycopy" 5) (by omega) ?_
    have hw : nativeFrameWords "java/lang/System" "arraycopy" 5 ≤ 20 := by decide
    show 2 * 0 + (rest.map fun v => v.category).sum + _ ≤ _
    omega
  rw [(Fast.doInvoke_native (s := (T.setVm vm').setTop (F0 m pc ls rest)) (e := e) (acts := acts) (args := #[.ref src, .int sp, .ref dst, .int dp, .int n]) hm' N'.native N'.noCode N'.noLock hroom').1, hseen]
  have hfe := frames_entered (g := F0 m pc ls rest) hTop.top (.native { method := r, args := #[.ref src, .int sp, .ref dst, .int dp, .int n], locked := none })
  obtain ⟨mid, hmid⟩ := hTop.above
  refine Steps.head ⟨hTop.running, by simpa using hTop.runnable, by simpa using hTop.alone⟩ ⟨.native { method := r, args := #[.ref src, .int sp, .ref dst, .int dp, .int n], locked := none } :: .java (F0 m pc ls rest) :: mid, by rw [hfe, hmid]; rfl, by simp, by simp⟩ ?_
  rw [stepThread_native (f := { method := r, args := #[.ref src, .int sp, .ref dst, .int dp, .int n], locked := none }) (k := kS') (x := methS) (row := arraycopyRow) hfe N'.cls N'.meth N'.boot (by rw [N'.className, N'.name, N'.desc]; exact arraycopy_row p) rfl]
  generalize hSS : ((T.setVm vm').setTop (F0 m pc ls rest)).pushFrame (.native { method := r, args := #[.ref src, .int sp, .ref dst, .int dp, .int n], locked := none }) = SS at hfe ⊢
  have hSh : SS.heap = T.heap := by rw [← hSS]; simp [State.pushFrame]
  have hSv : SS.vm = vm' := by rw [← hSS]; simp [State.pushFrame]
  have hsem : wpRun (arraycopyRow.sem #[.ref src, .int sp, .ref dst, .int dp, .int n]) (fun _ _ _ => False) (fun c' s'' as => c' = .throwNew "java/lang/ArrayIndexOutOfBoundsException" (some text) ∧ s'' = SS ∧ as = []) e SS := by
    rw [arraycopyRow_sem, Native.java_lang_System.arraycopy.sem_refs]
    have e1 : SS.heap[src]? = some cs := by rw [hSh]; exact hs
    have e2 : SS.heap[dst]? = some cd := by rw [hSh]; exact hd
    have e3 : SS.vm.classes[cs.cls]? = some ks' := by rw [hSv]; exact hks'
    have e4 : SS.vm.classes[cd.cls]? = some kd' := by rw [hSv]; exact hkd'
    have e5 : ks'.kind = .array sComp .int := by rw [hes]; exact hsk
    have e6 : kd'.kind = .array dComp .int := by rw [hed]; exact hdk
    have e7 : ∀ k, cs.vm ≠ .statics k := by rw [hsobj]; exact fun k z => by cases z
    have e8 : ∀ k, cd.vm ≠ .statics k := by rw [hdobj]; exact fun k z => by cases z
    have e9 : (Native.java_lang_System.arraycopy.kindName .int) = "int" := rfl
    unfold g_cw at hwhat
    by_cases h : sp < 0
    · rw [if_pos h] at hwhat
      cases hwhat
      simp [wpRun, Native.java_lang_System.arraycopy.behind, e1, e2, e3, e4, e5, e6, e7, e8, h]
      exact hwt
    · rw [if_neg h] at hwhat
      have h9 : sp.toInt + n.toInt > cs.slots.size := by
        rcases hout with z | z
        · exact absurd z h
        · exact z
      rw [if_pos h9] at hwhat
      cases hwhat
      simp [wpRun, Native.java_lang_System.arraycopy.behind, e1, e2, e3, e4, e5, e6, e7, e8, h, h2, h3, h9]
      exact hwt
  obtain ⟨as, hrun, -⟩ := Sem.run_eq_ctl hsem
  rw [hrun]
  show Steps p.tables e below (SS.pushFrame (.throwNew "java/lang/ArrayIndexOutOfBoundsException" (some text) none)) _
  have hSF : SS.pushFrame (.throwNew "java/lang/ArrayIndexOutOfBoundsException" (some text) none) = (T.setVm vm').setFrames (.throwNew "java/lang/ArrayIndexOutOfBoundsException" (some text) none :: .native { method := r, args := #[.ref src, .int sp, .ref dst, .int dp, .int n], locked := none } :: .java (F0 m pc ls rest) :: below) := by
    rw [State.pushFrame, hfe, X'.tail, ← hSS, State.pushFrame, State.setTop_of_frames _ hfr, State.setFrames_setFrames, State.setFrames_setFrames]
  rw [hSF]
  refine hst.trans ?_
  obtain ⟨g9, hfrU⟩ := X5.frames_eq
  have hcurU : U.cur < U.threads.size := State.cur_lt_of_frames hfrU
  have hfU : (U.setFrames (.throwing (T.heap.size + 2) :: .native { method := r, args := #[.ref src, .int sp, .ref dst, .int dp, .int n], locked := none } :: .java (F0 m pc ls rest) :: below)).frames = .throwing (T.heap.size + 2) :: .native { method := r, args := #[.ref src, .int sp, .ref dst, .int dp, .int n], locked := none } :: .java (F0 m pc ls rest) :: below := State.frames_setFrames _ hcurU
  refine Steps.head ⟨X5.here.running, by simpa using X5.here.runnable, by simpa using X5.here.alone⟩ ⟨[.throwing (T.heap.size + 2), .native { method := r, args := #[.ref src, .int sp, .ref dst, .int dp, .int n], locked := none }, .java (F0 m pc ls rest)], hfU, by simp, by simp⟩ ?_
  rw [show (T.setVm vm').heap.size = T.heap.size from rfl, stepThread_throwing hfU, g_thr_eq X5]
  simp only [stepThrowing, vmDo]
  generalize hr9 : Sem.go _ e false _ _ = res
  obtain ⟨as9, rfl, -⟩ := Sem.eq_ok_of hr9 (a := true) (s' := U.setFrames (.throwing (T.heap.size + 2) :: .native { method := r, args := #[.ref src, .int sp, .ref dst, .int dp, .int n], locked := none } :: .java (F0 m pc ls rest) :: below)) (acts' := []) (by simp [leaveIfLocked])
  show Steps p.tables e below ((U.setFrames _).setFrames _) _
  rw [State.setFrames_setFrames]
  exact Steps.refl _
end COPYOUT
