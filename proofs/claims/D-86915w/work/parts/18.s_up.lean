/-! a super call whose method is declared further up: ref to X.m, declared in Y, X's superclass -/
set_option maxRecDepth 100000
theorem g_isSub {s : State} {c t : ClassId} {k : Class} {kt : Class} (hk : s.vm.classes[c]? = some k) (hs : k.super = some t) (hkt : s.vm.classes[t]? = some kt) : s.vm.isSubclass c t = true := by
  have hsz : 1 ≤ s.vm.classes.size := by
    have := (Array.getElem?_eq_some_iff.mp hk).1
    omega
  obtain ⟨f, hf⟩ : ∃ f, s.vm.classes.size = f + 1 := ⟨s.vm.classes.size - 1, by omega⟩
  unfold Vm.isSubclass
  rw [hf]
  simp [Vm.isSubclassAux, hk, hs]
section VSU2
variable {p : Program} {l : Launch} {e : Env} {R : Room} {s : State} {m : MethodId} {args : Array Value} {below : List Frame} {meth : Method} {c : Code}
theorem g_callSU2 {T : State} {locs : List Loc} {cells slots : Nat} (X : Stand p l e R s m args below meth c T locs cells slots) (hexec : p.tables.exec = Jvm.exec) {own xc : String} {index : Nat} {y : MethodName} {bytes : ByteArray} {maxL : Nat} {ret : Option FieldType}
    (hown : s.vm.findClass own = some m.cls) (hlink : (Cond.methodLink own index ⟨xc, y.name, y.desc⟩).before args s = true) (hsame : (Cond.sameMethod xc y.cls y.name y.desc).before args s = true) (hsup : (Cond.superclass own xc).before args s = true) (hsup2 : (Cond.superclass xc y.cls).before args s = true)
    (hinst : (Cond.instanceMethod y).before args s = true) (hcode : (Cond.code y bytes maxL ret).before args s = true) (hno : y.name ≠ "<init>")
    {W : Nat} {Pre : Pt → Array Value → Prop} {Post : Pt → Array Value → Option Value → Pt → Prop} (hK : Back l R p e below s args y 3 W Pre Post)
    {b : Addr} {cellB : Cell} {kB : Class} (hcell : T.heap[b]? = some cellB) (hobj : cellB.vm.isStatics = false) (hkB : s.vm.classes[cellB.cls]? = some kB)
    {g : JFrame} (hg : g.method = m) (hsize : g.locals.size = c.maxLocals) {argsL rest : List Value} (hlen : ∀ sig, parseMethodDescriptor y.desc = some sig → argsL.length = sig.parameters.length)
    (hstack : g.stack = argsL.reverse ++ .ref b :: rest) (hW : 2 * g.monitorRoom + (rest.map fun v => v.category).sum ≤ W) (hdg : decode c.code g.pc = .ok (.invokespecial index, 3))
    (hpre : ∀ vm₁, s.WarmedH vm₁ → Pre ⟨T.setVm vm₁, locs, cells, slots⟩ (Value.ref b :: argsL).toArray) :
    ∃ (v : Option Value) (vm₁ : Vm) (B : Pt), s.WarmedH vm₁ ∧ Stand p l e R s m args below meth c B.U B.locs B.cells B.slots ∧ Post ⟨T.setVm vm₁, locs, cells, slots⟩ (Value.ref b :: argsL).toArray v B ∧
      ∀ target, Steps p.tables e below (B.U.setTop { g with pc := g.pc + 3, stack := v.toList ++ rest }) target → Steps p.tables e below (T.setTop g) target := by
  obtain ⟨mk, methM, hnamed, hmethM, hstM, habM⟩ := Cond.instanceMethod_spec hinst
  obtain ⟨methM', cM, hmethM', -, -, -, -, -, -, hsigM⟩ := Cond.code_spec hnamed hcode
  cases hmethM.symm.trans hmethM'
  obtain ⟨ps, dk, kp, hps, hdk, hkp, hsuper, -, -, hnid⟩ := Cond.superclass_spec hown hsup
  obtain ⟨pt, dx, kt, hpt, hdx, hkt, hsuper2, -, -, -⟩ := Cond.superclass_spec hps hsup2
  have hn : s.methodNamed? ⟨y.cls, y.name, y.desc⟩ = some mk := hnamed
  have hpm : pt = mk.cls := Option.some.inj (hpt.symm.trans (findClass_of_methodNamed hnamed))
  have hsub : s.vm.isSubclass ps mk.cls = true := by rw [← hpm]; exact g_isSub hdx hsuper2 hkt
  obtain ⟨vm₁, X₁, hstep₁⟩ := X.invokespecialUp hexec (x := ⟨xc, y.name, y.desc⟩) hown hlink hsame hn hmethM hstM habM hno hdk hnid hps hsuper hsub (a := b) (cell := cellB) hcell
    (fun z h => by rw [h] at hobj; cases hobj) hkB (g := g) hg (argsL := argsL) (rest := rest) (hlen _ hsigM) hstack hdg
  obtain ⟨v, B, X', hpost, hsteps⟩ := hK m meth c ⟨T.setVm vm₁, locs, cells, slots⟩ { g with stack := rest } (.invokespecial index) mk (Value.ref b :: argsL).toArray X₁ hg hsize hdg hW (X₁.named hnamed) (hpre vm₁ X₁.warmed)
  exact ⟨v, vm₁, B, X₁.warmed, X', hpost, fun target h => hstep₁ _ (by rw [doInvoke_state]; exact hsteps.trans h)⟩
def g_wsSU2 (own xc : String) (idx : Nat) (y : MethodName) (ws : List Cond) : List Cond := ([.methodLink own idx ⟨xc, y.name, y.desc⟩, .sameMethod xc y.cls y.name y.desc, .superclass own xc, .superclass xc y.cls, .instanceMethod y, .initialized y.cls] : List Cond) ++ ws
abbrev g_CS2 (R : Room) (s : State) (args : Array Value) (own xc : String) (index : Nat) (y : MethodName) (bytes : ByteArray) (maxL : Nat) (ret : Option FieldType) (ws : List Cond) (rm : Room) (mc ms n : Nat) : Prop :=
  (rm.cells = mc ∧ rm.slots = ms ∧ rm.frames + 1 ≤ R.frames ∧ 8 + (maxL + 11) + rm.locals ≤ R.locals ∧ (∀ w ∈ ws, ∀ (a' : Array Value) (U : State), s.WarmedH U.vm → w.before a' U = true) ∧ Cond.code y bytes maxL ret ∈ ws) ∧
  (Cond.methodLink own index ⟨xc, y.name, y.desc⟩).before args s = true ∧ (Cond.sameMethod xc y.cls y.name y.desc).before args s = true ∧ (Cond.superclass own xc).before args s = true ∧ (Cond.superclass xc y.cls).before args s = true ∧ (Cond.instanceMethod y).before args s = true ∧ (Cond.initialized y.cls).before args s = true ∧ (Cond.code y bytes maxL ret).before args s = true ∧ y.name ≠ "<init>" ∧ (∀ sig, parseMethodDescriptor y.desc = some sig → n = sig.parameters.length)
theorem g_cwSU2 {own xc : String} {index maxL mc ms : Nat} {y : MethodName} {bytes : ByteArray} {ret : Option FieldType} {Ts ws ws' : List Cond} {rm : Room} (n : Nat) (ht : ∀ w ∈ Ts, w.before args s = true) (hT : GoodIn Ts (g_wsSU2 own xc index y ws)) (hw : ws = Cond.code y bytes maxL ret :: ws') (hrc : rm.cells = mc) (hrs : rm.slots = ms)
    (hd : y.name ≠ "<init>" ∧ (parseMethodDescriptor y.desc).map (fun d => d.parameters.length) = some n) (hR : rm.frames + 1 ≤ R.frames ∧ 8 + (maxL + 11) + rm.locals ≤ R.locals) : g_CS2 R s args own xc index y bytes maxL ret ws rm mc ms n := by
  have ok : ∀ w ∈ g_wsSU2 own xc index y ws, w.before args s = true := fun w h => ht w (hT w h).1
  have hG : GoodIn Ts ws := fun w h => hT w (by unfold g_wsSU2; exact List.mem_append_right _ h)
  have hc : Cond.code y bytes maxL ret ∈ ws := by rw [hw]; exact List.mem_cons_self
  refine ⟨⟨hrc, hrs, hR.1, hR.2, pay_in ht hG, hc⟩, ok _ (by simp [g_wsSU2]), ok _ (by simp [g_wsSU2]), ok _ (by simp [g_wsSU2]), ok _ (by simp [g_wsSU2]), ok _ (by simp [g_wsSU2]), ok _ (by simp [g_wsSU2]), ht _ (hG _ hc).1, hd.1, fun sig h => ?_⟩
  have h2 := hd.2
  rw [h] at h2
  exact (Option.some.inj h2).symm
variable {H : Heap} {locs : List Loc} {cells slots : Nat}
theorem g_runSU2 {y : MethodName} {bytes cc : ByteArray} {maxL nL mc ms n index : Nat} {ret : Option FieldType} {ws : List Cond} {rm : Room} {Pc : Array Value → State → Prop} {Qc : Array Value → State → Outcome → State → Prop} {free : Addr → Prop} {Ts : List Cond} {own xc C : String} {cC : ClassId} {b : Addr} {As rest : List Value} {g : JFrame}
    (hat : ClassAt s C cC) (S : CallFix p m c cc nL s args Ts own) (hM : Met l y ws rm Pc Qc mc ms free) (cw : g_CS2 R s args own xc index y bytes maxL ret ws rm mc ms n) (hp : PreV s H C b Pc As)
    (hg : g.method = m) (hn : As.length = n) (hsize : g.locals.size = nL) (hstack : g.stack = As.reverse ++ .ref b :: rest) (hW : 2 * g.monitorRoom + (rest.map fun v => v.category).sum ≤ 8) (hdg : decode cc g.pc = .ok (.invokespecial index, 3)) (hf : cells + mc ≤ R.cells ∧ slots + ms ≤ R.slots) :
    va_Run p l e R s m args below meth c H locs cells slots mc ms g rest (Qc (Value.ref b :: As).toArray) (free) := by
  obtain ⟨⟨hrc, hrs, hfr, hlo, hws, hcw⟩, hl1, hl2, hl3, hl3b, hl4, hini, hcode, hno, hlen⟩ := cw
  have hK : Back l R p e below s args y 3 8 (PreOf R mc ms Pc) (PostOf Qc mc ms free) := back_of (bytes := bytes) (maxL := maxL) (ret := ret) hM hp.1 hrc hrs hfr hlo hws hcw (fun a' U hW => word_at hW (Or.inl (by first | rfl | simp [Cond.onTables, Cond.keeps, Cond.steady])) hini)
  obtain ⟨hx, hb, hml, ho, -⟩ := S
  obtain ⟨-, ⟨cellB, hcB, hoB, hclB⟩, hPc⟩ := hp
  obtain ⟨hfc, kB, hkB, -⟩ := hat
  cases hfc.symm.trans hclB
  intro T hT X
  obtain ⟨v, vm₁, ⟨U', l2, c2, s2⟩, hW₁, X', ⟨g', mk, t, L, e1, e2, hq, h1, hL, h2, h3⟩, st⟩ := g_callSU2 X hx (bytes := bytes) (maxL := maxL) (ret := ret) ho hl1 hl2 hl3 hl3b hl4 hcode hno hK (by rw [hT]; exact hcB) hoB hkB hg (hsize.trans hml.symm) (argsL := As) (rest := rest) (fun sig h => hn.trans (hlen sig h)) hstack hW (by rw [hb]; exact hdg)
    (fun vm₁ hW₁ => ⟨hf.1, hf.2, hPc (T.setVm vm₁) hT hW₁⟩)
  dsimp only [Pt.U, Pt.locs, Pt.cells, Pt.slots] at X' e1 e2 h1 h2 h3 st
  subst h1; subst h2; subst h3
  exact ⟨v, (T.setVm vm₁).calling g' mk (Value.ref b :: As).toArray, t, U', L, hT, X', hL, e1, e2, hq, st⟩
end VSU2
section ROWS7B
variable {M : gM} {d mc ms uc us pc n : Nat} {K : gZ} {lv : List (Nat × Value)} {st : List Value} {σ : gH}
theorem e_callSU2 {M' : gM} {d' mc' ms' idx na b ci N : Nat} {T : u_T} {C xc : String} {K' : Option Value → gH → Prop} {As st0 : List Value} {fs : List Value} (ok : g_ok M' na) (h1 : Cond.methodLink M.1.cls idx ⟨xc, M'.1.name, M'.1.desc⟩ ∈ lw_all) (h2 : Cond.sameMethod xc M'.1.cls M'.1.name M'.1.desc ∈ lw_all) (h3 : Cond.superclass M.1.cls xc ∈ lw_all) (h4 : Cond.superclass xc M'.1.cls ∈ lw_all) (h5 : Cond.instanceMethod M'.1 ∈ lw_all) (h6 : Cond.initialized M'.1.cls ∈ lw_all) (h7 : Cond.code M'.1 M'.2.1 M'.2.2.1 M'.2.2.2 ∈ lw_all) (hnm : M'.1.name ≠ "<init>")
    (hb : σ.2 b = some (.inr (ci, fs))) (hc : g_cl[ci]? = some (C, T, N)) (hdep : d' + 1 ≤ d) (hu1 : uc + mc' ≤ mc) (hu2 : us + ms' ≤ ms) (hna : As.length = na) (hst : As.reverse ++ .ref b :: st = st0) (hroom : Nat.ble (st.map fun v => v.category).sum 8 = true) (hd : decode M.2.1 pc = .ok (.invokespecial idx, 3)) (hp : pc + 3 = n)
    (hM : CT M' d' mc' ms' (.ref b :: As) σ K') (kk : ∀ (r : Option Value) (σ' : gH), K' r σ' → E M d mc ms K (uc + mc') (us + ms') n lv (r.toList ++ st) σ') : E M d mc ms K uc us pc lv st0 σ := by
  intro p l e s m args below meth c D dT A H locs ls C' P S L
  subst hp
  subst hst
  have hT : GoodIn lw_all (g_wsSU2 M.1.cls xc idx M'.1 (g_ws M')) := by
    refine lw_app ?_ (lw_meth h7)
    intro w hw
    simp only [List.mem_cons, List.not_mem_nil, or_false] at hw
    rcases hw with e | e | e | e | e | e
    · rw [e]; exact h1
    · rw [e]; exact h2
    · rw [e]; exact h3
    · rw [e]; exact h4
    · rw [e]; exact h5
    · rw [e]; exact h6
  refine g_call (g_runSU2 (As := As) (rest := st) (C'.2.2.2.2.2.2.1.1.1 ci _ hc).2 ⟨C'.1, C'.2.1, C'.2.2.2.1, C'.2.2.2.2.1, C'.2.2.2.2.2.1⟩ (hM l D dT H.size) (g_cwSU2 na C'.2.2.2.2.2.1 hT rfl rfl rfl ⟨hnm, ok.2.2.2.1⟩ (g_room hdep ok.2.2.2.2)) ⟨g_blind, g_obj C'.2.2.2.2.2.2.1.1 P hb hc, g_pre P S C'.2.2.2.2.2.2.1⟩ rfl hna L.1 rfl (lv_room (Nat.le_of_ble_eq_true hroom)) hd ⟨hu1, hu2⟩) P S C'.2.2.2.2.2.2.2.2.2.1 (fun r σ' H1 locs1 q1 q0 q2 q3 => by rw [← q0]; rw [← q0] at C'; exact kk r σ' q1 p l e s m args below meth c D dT A H1 locs1 ls C' q2 q3 L)
end ROWS7B
