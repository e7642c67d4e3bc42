/-! the search for a handler, whose classes may not be resolved yet; the exception is caught in the method's own frame -/
set_option maxRecDepth 100000
theorem g_fc {V : Vm} {nm : String} {c : ClassId} (h : V.findClass nm = some c) : ∃ k, V.classes[c]? = some k ∧ k.name = nm ∧ k.hidden = none ∧ k.loader = none := by
  unfold Vm.findClass at h
  obtain ⟨hlt, hp, -⟩ := Array.findIdx?_eq_some_iff_getElem.mp h
  refine ⟨_, Array.getElem?_eq_getElem hlt, ?_⟩
  simp only [Bool.and_eq_true, beq_iff_eq, Option.isNone_iff_eq_none] at hp
  exact ⟨hp.1.1.1, hp.1.1.2, hp.2⟩
section CATCH
variable {p : Program} {l : Launch} {e : Env} {R : Room} {s : State} {m : MethodId} {args : Array Value} {below : List Frame} {meth : Method} {c : Code} {T' : State} {locs : List Loc} {cells slots : Nat}
theorem g_goHit {Q : Handler → Pre} {Ex : CtlPost} {d : Bool} {acts : List Action} {S : State} {f : JFrame} {a : Nat} {x : ExceptionTableEntry} {t : List ExceptionTableEntry} {cT : ClassId} {cell : Cell} {vm' : Vm} (hx : covers x f.pc = true) (h0 : x.catchType ≠ 0) (hg : (resolveClass f.method.cls x.catchType).Gives e.toSetting S.vm (.ok cT) vm') (hsz : vm'.classes.size ≤ S.vm.classes.size) (hcell : S.heap[a]? = some cell) (hobj : ∀ k, cell.vm ≠ .statics k) (hk : ∃ k, vm'.classes[cell.cls]? = some k) (hc : ∃ k, vm'.classes[cT]? = some k) :
    wp (findHandler.go f a (x :: t)) Q Ex e d acts S ↔ if vm'.assignable cell.cls cT = true then Q (.found x.handlerPc) d acts (S.setVm vm') else wp (findHandler.go f a t) Q Ex e d acts (S.setVm vm') := by
  obtain ⟨ha, ht⟩ := hg.op (op := VmOp.resolveClass f.method.cls x.catchType) rfl
  simp only [covers] at hx
  have hcell' : (S.setVm vm').heap[a]? = some cell := hcell
  cases hfit : vm'.assignable cell.cls cT <;>
    simp [findHandler.go, hx, h0, Jvm.W.vmOp_same (VmOp.resolveClass f.method.cls x.catchType) (by rw [ht]; exact hsz), ha, ht, hcell, hcell', hobj, hk, hc, hfit, VmOp.dirties, VmOp.acts]
theorem g_find {own : String} (hown : s.vm.findClass own = some m.cls) (hpl : e.platform.magicAccessors = ({} : Platform).magicAccessors) {g : JFrame} (hg : g.method = m) {a : Nat} {cell : Cell} (hvm0 : cell.vm = .none) (hkX : ∃ k, s.vm.classes[cell.cls]? = some k) (rest : List ExceptionTableEntry) (hit : ExceptionTableEntry × String) (hhit : covers hit.1 g.pc = true ∧ hit.1.catchType ≠ 0 ∧ (Cond.classLink own hit.1.catchType hit.2).before args s = true ∧ ∀ c, s.vm.findClass hit.2 = some c → s.vm.assignable cell.cls c = true) :
    ∀ (pre : List (ExceptionTableEntry × String)) (S : State), s.WarmedH S.vm → S.heap[a]? = some cell → (∀ q ∈ pre, covers q.1 g.pc = true ∧ q.1.catchType ≠ 0 ∧ (Cond.classLink own q.1.catchType q.2).before args s = true ∧ ∀ c, s.vm.findClass q.2 = some c → s.vm.assignable cell.cls c = false) →
    ∃ vm', s.WarmedH vm' ∧ ∀ (Q : Handler → Pre) (Ex : CtlPost) (d : Bool) (acts : List Action), Q (.found hit.1.handlerPc) d acts (S.setVm vm') → wp (findHandler.go g a (pre.map (fun q => q.1) ++ hit.1 :: rest)) Q Ex e d acts S := by
  subst hg
  have one : ∀ (x : ExceptionTableEntry) (nm : String) (S : State), (Cond.classLink own x.catchType nm).before args s = true → s.WarmedH S.vm → ∃ (cT : ClassId) (vm' : Vm), s.vm.findClass nm = some cT ∧ s.WarmedH vm' ∧ (resolveClass g.method.cls x.catchType).Gives e.toSetting S.vm (.ok cT) vm' ∧ vm'.classes.size ≤ S.vm.classes.size ∧ (∃ k, vm'.classes[cell.cls]? = some k) ∧ (∃ k, vm'.classes[cT]? = some k) ∧ vm'.assignable cell.cls cT = s.vm.assignable cell.cls cT := by
    intro x nm S hl hW
    obtain ⟨cT, hf, hcl⟩ := Cond.classLink_spec hown hl e.platform hpl
    obtain ⟨hg1, hw1, -⟩ := State.classEntry (e := e) hW hcl
    have hal := hw1.alike
    obtain ⟨kX, hkX⟩ := hkX
    obtain ⟨k1, hk1, -⟩ := hal.2.2 _ _ hkX
    obtain ⟨kT, hkT⟩ : ∃ k, s.vm.classes[cT]? = some k := by
      obtain ⟨k, hk, -⟩ := g_fc hf
      exact ⟨k, hk⟩
    obtain ⟨k2, hk2, -⟩ := hal.2.2 _ _ hkT
    exact ⟨cT, _, hf, hw1, hg1, by no_record, ⟨k1, hk1⟩, ⟨k2, hk2⟩, by rw [hal.assignable]⟩
  intro pre
  induction pre with
  | nil =>
    intro S hW hcell _
    obtain ⟨h1, h2, h3, h4⟩ := hhit
    obtain ⟨cT, vm', f1, f2, f3, f4, f5, f6, f7⟩ := one hit.1 hit.2 S h3 hW
    refine ⟨vm', f2, fun Q Ex d acts hq => ?_⟩
    show wp (findHandler.go g a (hit.1 :: rest)) Q Ex e d acts S
    rw [g_goHit h1 h2 f3 f4 hcell (by rw [hvm0]; exact fun k z => by cases z) f5 f6, f7, if_pos (h4 cT f1)]
    exact hq
  | cons q pre ih =>
    intro S hW hcell hpre
    obtain ⟨h1, h2, h3, h4⟩ := hpre q List.mem_cons_self
    obtain ⟨cT, vm', f1, f2, f3, f4, f5, f6, f7⟩ := one q.1 q.2 S h3 hW
    obtain ⟨vm2, g1, g2⟩ := ih (S.setVm vm') f2 hcell (fun y hy => hpre y (List.mem_cons_of_mem _ hy))
    refine ⟨vm2, g1, fun Q Ex d acts hq => ?_⟩
    show wp (findHandler.go g a (q.1 :: (pre.map (fun q => q.1) ++ hit.1 :: rest))) Q Ex e d acts S
    rw [g_goHit h1 h2 f3 f4 hcell (by rw [hvm0]; exact fun k z => by cases z) f5 f6, f7, if_neg (by rw [h4 cT f1]; decide)]
    exact g2 Q Ex d acts hq
/-- caught: the walk goes on at the handler, the reference alone on the stack -/
theorem g_caught (X : Stand p l e R s m args below meth c T' locs cells slots) {own : String} (hown : s.vm.findClass own = some m.cls) {g : JFrame} (hg : g.method = m) {a : Nat} {cell : Cell} (hcell : T'.heap[a]? = some cell) (hvm0 : cell.vm = .none) (hkX : ∃ k, s.vm.classes[cell.cls]? = some k) (pre : List (ExceptionTableEntry × String)) (hit : ExceptionTableEntry × String) (rest : List ExceptionTableEntry) (htab : c.exceptionTable.toList = pre.map (fun q => q.1) ++ hit.1 :: rest) (hhit : covers hit.1 g.pc = true ∧ hit.1.catchType ≠ 0 ∧ (Cond.classLink own hit.1.catchType hit.2).before args s = true ∧ ∀ c, s.vm.findClass hit.2 = some c → s.vm.assignable cell.cls c = true)
    (hpre : ∀ q ∈ pre, covers q.1 g.pc = true ∧ q.1.catchType ≠ 0 ∧ (Cond.classLink own q.1.catchType q.2).before args s = true ∧ ∀ c, s.vm.findClass q.2 = some c → s.vm.assignable cell.cls c = false) :
    ∃ vm', s.WarmedH vm' ∧ ∀ target, Steps p.tables e below ((T'.setVm vm').setTop { g with pc := hit.1.handlerPc, stack := [.ref a] }) target → Steps p.tables e below (g_thr T' g a) target := by
  have hpl : e.platform.magicAccessors = ({} : Platform).magicAccessors := by rw [X.admits.platform]
  have hvm : (g_thr T' g a).vm = T'.vm := Stand.throwing_vm T' g a
  have hhp : (g_thr T' g a).heap = T'.heap := Stand.throwing_heap T' g a
  obtain ⟨vm', hW', hf⟩ := g_find (args := args) (e := e) hown hpl hg hvm0 hkX rest hit hhit pre (g_thr T' g a) (by rw [hvm]; exact X.warmed) (by rw [hhp]; exact hcell) hpre
  refine ⟨vm', hW', fun target hrest => ?_⟩
  have hat : At T' g.method c below := by rw [hg]; exact X.here
  obtain ⟨hgo, hw⟩ := hat.throwing a
  refine Steps.head hgo hw ?_
  rw [stepThread_throwing (frames_entered hat.top _)]
  have hm : (g_thr T' g a).vm.method? g.method = some meth := by rw [hvm, hg]; exact X.method'
  simp only [stepThrowing, searchFrame, vmDo]
  generalize hr : Sem.go _ e false [] _ = res
  obtain ⟨as, rfl, ha⟩ := Sem.eq_ok_of hr (a := Handler.found hit.1.handlerPc) (s' := (g_thr T' g a).setVm vm') (acts' := []) (by
    simp only [wp_bind']
    rw [Jvm.W.findHandler_eq hm X.code, htab]
    refine hf _ _ _ _ ?_
    simp)
  obtain ⟨g₀, hr⟩ := X.frames_eq
  have e1 : ((g_thr T' g a).setVm vm').setFrames (.java { g with pc := hit.1.handlerPc, stack := [.ref a] } :: T'.frames.tail) = (T'.setVm vm').setTop { g with pc := hit.1.handlerPc, stack := [.ref a] } := by
    have hr' : (T'.setVm vm').frames = .java g₀ :: below := hr
    rw [State.setTop_of_frames _ hr', g_thr_eq X, hr]
    show ((T'.setVm vm').setFrames _).setFrames _ = _
    rw [State.setFrames_setFrames]
    rfl
  show Steps p.tables e below (((g_thr T' g a).setVm vm').setFrames _) target
  rw [e1]
  exact hrest
end CATCH
