/-! a call through an interface with up to 16 words below on the stack -/
set_option maxRecDepth 100000
section VIFW
variable {p : Program} {l : Launch} {e : Env} {R : Room} {s : State} {m : MethodId} {args : Array Value} {below : List Frame} {meth : Method} {c : Code} {H : Heap} {locs : List Loc} {cells slots : Nat} {Q : State → Prop}
theorem g_runF {x y : MethodName} {bytes cc : ByteArray} {maxL nL mc ms n index count : Nat} {ret : Option FieldType} {ws : List Cond} {rm : Room} {Pc : Array Value → State → Prop} {Qc : Array Value → State → Outcome → State → Prop} {free : Addr → Prop} {Ts : List Cond} {own C : String} {cC : ClassId} {b : Addr} {As rest : List Value} {g : JFrame}
    (hat : ClassAt s C cC) (S : CallFix p m c cc nL s args Ts own) (hM : Met l y ws rm Pc Qc mc ms free) (cw : va_CI R s args own C index x y bytes maxL ret ws rm mc ms n) (hlo : 16 + (maxL + 11) + rm.locals ≤ R.locals) (hp : PreV s H C b Pc As)
    (hg : g.method = m) (hn : As.length = n) (hsize : g.locals.size = nL) (hstack : g.stack = As.reverse ++ .ref b :: rest) (hW : 2 * g.monitorRoom + (rest.map fun v => v.category).sum ≤ 16) (hdg : decode cc g.pc = .ok (.invokeinterface index count, 5)) (hf : cells + mc ≤ R.cells ∧ slots + ms ≤ R.slots) :
    va_Run5 p l e R s m args below meth c H locs cells slots mc ms g rest (Qc (Value.ref b :: As).toArray) (free) := by
  obtain ⟨hrc, hrs, hfr, -, hws, hcw⟩ := cw.back
  have hini := cw.init
  have hK : Back l R p e below s args y 5 16 (PreOf R mc ms Pc) (PostOf Qc mc ms free) := back_of (bytes := bytes) (maxL := maxL) (ret := ret) hM hp.1 hrc hrs hfr hlo hws hcw (fun a' U hW => word_at hW (Or.inl (by first | rfl | simp [Cond.onTables, Cond.keeps, Cond.steady])) hini)
  obtain ⟨hx, hb, hml, ho, -⟩ := S
  obtain ⟨-, ⟨cellB, hcB, hoB, hclB⟩, hPc⟩ := hp
  obtain ⟨hfc, kB, hkB, -⟩ := hat
  cases hfc.symm.trans hclB
  intro T hT X
  obtain ⟨v, vm₁, ⟨U', l2, c2, s2⟩, hW₁, X', ⟨g', mk, t, L, e1, e2, hq, h1, hL, h2, h3⟩, st⟩ := va_callIF X hx (C := C) (bytes := bytes) (maxL := maxL) (ret := ret) ho cw.link cw.decl cw.face cw.sel cw.inst cw.pub cw.unh cw.cast cw.code cw.notMH hK (by rw [hT]; exact hcB) hoB hclB hkB hg (hsize.trans hml.symm) (argsL := As) (rest := rest) (fun sig h => hn.trans (cw.len sig h)) hstack hW (by rw [hb]; exact hdg)
    (fun vm₁ hW₁ => ⟨hf.1, hf.2, hPc (T.setVm vm₁) hT hW₁⟩)
  dsimp only [Pt.U, Pt.locs, Pt.cells, Pt.slots] at X' e1 e2 h1 h2 h3 st
  subst h1; subst h2; subst h3
  exact ⟨v, (T.setVm vm₁).calling g' mk (Value.ref b :: As).toArray, t, U', L, hT, X', hL, e1, e2, hq, st⟩
theorem lv_roomW {pc : Nat} {ls : Array Slot} {rest st : List Value} (h : (st.map fun v => v.category).sum ≤ 16) : 2 * (F0 m pc ls rest).monitorRoom + (st.map fun v => v.category).sum ≤ 16 := by
  have : (F0 m pc ls rest).monitorRoom = 0 := rfl
  omega
theorem g_roomW {d d' mc ms mc' ms' k : Nat} (h : d' + 1 ≤ d) (hk : k ≤ 13) : 16 + (k + 11) + (g_R d' mc' ms').locals ≤ (g_R d mc ms).locals := by
  show 16 + (k + 11) + 40 * d' ≤ 40 * d
  omega
end VIFW
section ROWSW
variable {M : gM} {d mc ms uc us pc n : Nat} {K : gZ} {lv : List (Nat × Value)} {st : List Value} {σ : gH}
/-- a call through an interface -/
theorem e_callFW {M' : gM} {d' mc' ms' idx cnt na b ci N : Nat} {T : u_T} {C : String} {x : MethodName} {K' : Option Value → gH → Prop} {As st0 : List Value} {fs : List Value} (ok : g_ok M' na) (h1 : Cond.methodLink M.1.cls idx x ∈ lw_all) (h3 : Cond.selects C x M'.1 ∈ lw_all) (h2 : Cond.instanceMethod M'.1 ∈ lw_all) (h4 : Cond.initialized M'.1.cls ∈ lw_all) (h5 : Cond.code M'.1 M'.2.1 M'.2.2.1 M'.2.2.2 ∈ lw_all) (w1 : Cond.declares x ∈ lw_tbl) (w2 : Cond.interfaceMethod x.cls x.cls x.name x.desc ∈ lw_tbl) (w3 : Cond.publicMethod M'.1 ∈ lw_tbl) (w4 : Cond.unhidden C x.name x.desc ∈ lw_tbl) (w5 : Cond.castable C x.cls ∈ lw_tbl) (hx : x.desc = M'.1.desc) (hxm : x.cls ≠ "java/lang/invoke/MethodHandle" ∧ x.cls ≠ "java/lang/invoke/VarHandle")
    (hb : σ.2 b = some (.inr (ci, fs))) (hc : g_cl[ci]? = some (C, T, N)) (hdep : d' + 1 ≤ d) (hu1 : uc + mc' ≤ mc) (hu2 : us + ms' ≤ ms) (hna : As.length = na) (hst : As.reverse ++ .ref b :: st = st0) (hroom : Nat.ble (st.map fun v => v.category).sum 16 = true) (hsmall : M'.2.2.1 ≤ 13) (hd : decode M.2.1 pc = .ok (.invokeinterface idx cnt, 5)) (hp : pc + 5 = n)
    (hM : CT M' d' mc' ms' (.ref b :: As) σ K') (kk : ∀ (r : Option Value) (σ' : gH), K' r σ' → E M d mc ms K (uc + mc') (us + ms') n lv (r.toList ++ st) σ') : E M d mc ms K uc us pc lv st0 σ := by
  intro p l e s m args below meth c D dT A H locs ls C' P S L
  subst hp
  subst hst
  have hT : GoodIn lw_all (va_wsF M.1.cls idx C x M'.1 (g_ws M')) := by
    refine lw_app ?_ (lw_meth h5)
    intro w hw
    simp only [List.mem_cons, List.not_mem_nil, or_false] at hw
    rcases hw with e | e | e | e
    · rw [e]; exact h1
    · rw [e]; exact h3
    · rw [e]; exact h2
    · rw [e]; exact h4
  refine g_call5 (g_runF (As := As) (rest := st) (C'.2.2.2.2.2.2.1.1.1 ci _ hc).2 ⟨C'.1, C'.2.1, C'.2.2.2.1, C'.2.2.2.2.1, C'.2.2.2.2.2.1⟩ (hM l D dT H.size) (va_cwF na C'.2.2.2.2.2.1 hT rfl rfl rfl (C'.2.2.2.2.2.2.1.face hxm w1 w2 w3 w4 w5) ⟨hxm.1, hxm.2, by rw [hx]; exact ok.2.2.2.1⟩ (g_room hdep ok.2.2.2.2)) (g_roomW hdep hsmall) ⟨g_blind, g_obj C'.2.2.2.2.2.2.1.1 P hb hc, g_pre P S C'.2.2.2.2.2.2.1⟩ rfl hna L.1 rfl (lv_roomW (Nat.le_of_ble_eq_true hroom)) hd ⟨hu1, hu2⟩) P S C'.2.2.2.2.2.2.2.2.2.1 (fun r σ' H1 locs1 q1 q0 q2 q3 => by rw [← q0]; rw [← q0] at C'; exact kk r σ' q1 p l e s m args below meth c D dT A H1 locs1 ls C' q2 q3 L)
end ROWSW
