/-! a call of a method that may throw, from a method with handlers -/
set_option maxRecDepth 100000
section CALLX
variable {M : gM} {d mc ms uc us pc n : Nat} {K : gZ} {lv : List (Nat × Value)} {st : List Value} {σ : gH}
/-- the handlers hh of M take an exception of class cls, thrown at pc, to hpc -/
def g_Hd (M : gM) (hh : List gHd) (pc : Nat) (cls : String) (hpc : Nat) : Prop := ∃ (pre : List (gHd × String)) (hit : gHd × String) (post : List gHd), hh = pre.map (fun q => q.1) ++ hit.1 :: post ∧ hit.1.2.2.1 = hpc ∧ (∀ q ∈ pre, covers (g_ent q.1) pc = true ∧ q.1.2.2.2 ≠ 0 ∧ Cond.classLink M.1.cls q.1.2.2.2 q.2 ∈ lw_all ∧ Cond.not (.castable cls q.2) ∈ flatC (Jvm.Cond.and given_1 narrow_1)) ∧ covers (g_ent hit.1) pc = true ∧ hit.1.2.2.2 ≠ 0 ∧ Cond.classLink M.1.cls hit.1.2.2.2 hit.2 ∈ lw_all ∧ Cond.castable cls hit.2 ∈ lw_tbl
theorem e_callX {M' : gM} {d' mc' ms' idx na b ci N : Nat} {T : u_T} {C : String} {K' : Option Value → gH → Prop} {Th : String → gH → Prop} {hh : List gHd} {As st0 : List Value} {fs : List Value} (ok : g_ok M' na) (h1 : Cond.methodLink M.1.cls idx M'.1 ∈ lw_all) (h2 : Cond.instanceMethod M'.1 ∈ lw_all) (h3 : Cond.selects C M'.1 M'.1 ∈ lw_all) (h4 : Cond.initialized C ∈ lw_all) (h5 : Cond.code M'.1 M'.2.1 M'.2.2.1 M'.2.2.2 ∈ lw_all) (hC : M'.1.cls = C) (hcw : Cond.codeWith M.1 M.2.1 M.2.2.1 M.2.2.2 hh ∈ lw_all)
    (hb : σ.2 b = some (.inr (ci, fs))) (hc : g_cl[ci]? = some (C, T, N)) (hdep : d' + 1 ≤ d) (hu1 : uc + mc' ≤ mc) (hu2 : us + ms' ≤ ms) (hna : As.length = na) (hst : As.reverse ++ .ref b :: st = st0) (hroom : (st.map fun v => v.category).sum ≤ 8) (hd : decode M.2.1 pc = .ok (.invokevirtual idx, 3)) (hp : pc + 3 = n)
    (hM : CTX M' d' mc' ms' (.ref b :: As) σ K' Th) (kk : ∀ (r : Option Value) (σ' : gH), K' r σ' → E M d mc ms K (uc + mc') (us + ms') n lv (r.toList ++ st) σ') (kt : ∀ (cls : String) (σ' : gH), Th cls σ' → ∃ hpc, g_Hd M hh pc cls hpc ∧ ∀ q : Nat, E M d mc ms K (uc + mc') (us + ms') hpc lv [.ref q] σ') : E M d mc ms K uc us pc lv st0 σ := by
  intro p l e s m args below meth c D dT A H locs ls C' P S L T0 hT X
  subst hT
  subst hp
  subst hst
  have hts := C'.2.2.2.2.2.1
  obtain ⟨mk, methM, hnamed, hmethM, hstM, habM⟩ := Cond.instanceMethod_spec (hts _ h2)
  obtain ⟨methM', cM, hmethM', hcodeM, -, hlocM, -, -, -, hsigM⟩ := Cond.code_spec hnamed (hts _ h5)
  cases hmethM.symm.trans hmethM'
  have hrecv : ∃ cell : Cell, T0.heap[b]? = some cell ∧ cell.vm.isStatics = false ∧ s.vm.findClass C = some cell.cls := by
    obtain ⟨ws, g1, g2, g3, g4⟩ := P
    obtain ⟨q0, he⟩ := g3 b _ hb
    exact va_recv C'.2.2.2.2.2.2.1.1 g1 hc he
  obtain ⟨cellB, hcell, hobj, hcls⟩ := hrecv
  obtain ⟨c2, r2, m2, q1, q2, q3, q4, kP, hkP, hkPi⟩ := Cond.selects_spec (hts _ h3)
  cases hcls.symm.trans q1
  cases (State.methodFound?_of_named hnamed ⟨ok.2.1, ok.2.2.1⟩).symm.trans q2
  cases hnamed.symm.trans q3
  have hselP : selectMethod e.platform s.vm cellB.cls mk = .method mk := by rw [Launch.admits_selectMethod X.admits]; exact q4
  have hlenA : As.length = methM.sig.parameters.length := by
    have h9 := ok.2.2.2.1
    rw [hsigM] at h9
    exact hna.trans (Option.some.inj h9).symm
  have hdg : decode c.code pc = .ok (.invokevirtual idx, 3) := by rw [C'.2.1]; exact hd
  have hsz : ls.size = c.maxLocals := L.1.trans C'.2.2.2.1.symm
  obtain ⟨vm₁, X₁, hstep₁⟩ := X.invokevirtual C'.1 C'.2.2.2.2.1 (hts _ h1) hnamed hmethM hstM hkP hkPi ⟨ok.2.1, ok.2.2.1⟩ (a := b) (cell := cellB) hcell (fun z h => by rw [h] at hobj; cases hobj) hselP hmethM habM hkP hkPi (g := F0 m pc ls (As.reverse ++ .ref b :: st)) rfl (argsL := As) (rest := st) hlenA rfl hdg
  have hW1 := X₁.warmed
  have hws : ∀ w ∈ g_ws M', ∀ (a' : Array Value) (U : State), s.WarmedH U.vm → w.before a' U = true := pay_in hts (lw_meth h5)
  have hini : (Cond.initialized M'.1.cls).before #[] (T0.setVm vm₁) = true := word_at hW1 (Or.inl (by rw [hC]; rfl)) (by rw [hC]; exact hts _ h4)
  have hn1 : (T0.setVm vm₁).methodNamed? M'.1 = some mk := X₁.named hnamed
  have hal := hW1.alike
  obtain ⟨kY, hkY, -⟩ := className_of_methodNamed hn1
  have hinitY : kY.init = .initialized := Cond.initialized_spec (findClass_of_methodNamed hn1) hkY hini
  have hmY : (T0.setVm vm₁).vm.method? mk = some methM := by rw [hal.method?]; exact hmethM
  have hat : At (T0.setVm vm₁) (F0 m pc ls st).method c below := X₁.here
  have hfit : 8 + (M'.2.2.1 + 11) + (g_R d' mc' ms').locals ≤ (g_R d mc ms).locals := (g_room hdep ok.2.2.2.2).2
  have happ : (headSpec (g_ws M') (g_R d' mc' ms')).appliesLoose M'.1 e.platform ((T0.setVm vm₁).calling (F0 m pc ls st) mk (.ref b :: As).toArray) = true :=
    Spec.appliesLoose_calling (g := F0 m pc ls st) hat hdg hn1 hkY hinitY (X₁.room_calling (g := F0 m pc ls st) (R' := g_R d' mc' ms') hsz hmY hcodeM hdep (by rw [hlocM]; show 2 * 0 + (st.map fun v => v.category).sum + _ + _ ≤ _; omega) hu1 hu2) (atoms_intro fun w hw => hws w hw _ _ hW1)
  obtain ⟨mid, hmid⟩ := hat.above
  have hfr : ((T0.setVm vm₁).setTop (F0 m pc ls st)).frames = (.java (F0 m pc ls st) :: mid) ++ below := by rw [State.frames_setTop' _ hat.top, hmid]; rfl
  have hPc : va_Pc (.ref b :: As) (fun U => U.heap.size = T0.heap.size ∧ g_Pic D dT (g_A σ T0.heap.size) σ U.heap ∧ g_K D dT (g_A σ T0.heap.size) σ.1 U) (.ref b :: As).toArray ((T0.setVm vm₁).calling (F0 m pc ls st) mk (.ref b :: As).toArray) := g_blind _ _ _ _ (g_pre P S C'.2.2.2.2.2.2.1 (T0.setVm vm₁) rfl hW1)
  obtain ⟨o, s₂, hsteps, -, hend, hq⟩ := Steps.callFree (hM l D dT T0.heap.size) p X.admits X.cas X.clock (acts := []) hfr happ hPc trivial
  rw [State.frames_setTop' _ hat.top, X₁.tail] at hend
  have hsub : ∀ q, g_A σ T0.heap.size q → A q := by
    intro q h
    rcases h with h | h
    · exact (P.in h).1
    · exact C'.2.2.2.2.2.2.2.2.2.1 q (Nat.le_trans S.1 h)
  have grow : ∀ {σ' : gH} {t : State} {LL : List Loc}, g_Pic D dT (g_A σ T0.heap.size) σ' t.heap → va_F (g_A σ T0.heap.size) ((T0.setVm vm₁).calling (F0 m pc ls st) mk (.ref b :: As).toArray) t → (∀ q ∈ LL, g_A σ T0.heap.size q.base) → g_Pic D dT A σ' t.heap ∧ va_S A s.heap t.heap (locs ++ LL) := by
    intro σ' t LL hp2 hf hl
    obtain ⟨hz, hk⟩ := hf
    have hz' : T0.heap.size ≤ t.heap.size := hz
    refine ⟨hp2.weaken (fun q _ h => hsub q h), Nat.le_trans S.1 hz', fun q h1 h2 => ?_, fun q hq => ?_⟩
    · have h3 : t.heap[q]? = T0.heap[q]? := hk q (Nat.lt_of_lt_of_le h1 S.1) (fun z => h2 (hsub q z))
      rw [h3]
      exact S.2.1 q h1 h2
    · rcases List.mem_append.mp hq with h | h
      · exact S.2.2 q h
      · exact hsub _ (hl q h)
  rcases hq with ⟨⟨⟨r, σ', rfl, hK, h01, hp2⟩, hfF⟩, LL, hF, hL⟩ | ⟨x, rfl, hWt, ⟨LL, hsame, hL⟩, hfF, cls, cell, σ', hth, h01, hp2, hc2, hv2, hfc2⟩
  · obtain ⟨-, hWt, hsame⟩ := hF
    obtain ⟨T2, X2, -, -, ht⟩ := X₁.outOf (g := F0 m pc ls st) rfl hdg hend hWt hsame
    subst ht
    have e1 : (T2.setTop { F0 m pc ls st with pc := pc + 3, stack := r.toList ++ st }).heap = T2.heap := State.heap_setTop _ _
    obtain ⟨hp3, hs3⟩ := grow (LL := LL) hp2 hfF hL
    rw [e1] at hp3 hs3
    have C2 := C'
    rw [← h01] at C2
    obtain ⟨t, a1, b1⟩ := kk r σ' hK p l e s m args below meth c D dT A T2.heap (locs ++ LL) ls C2 hp3 hs3 L T2 rfl X2
    rw [h01] at b1
    exact ⟨t, hstep₁ _ fun acts => by rw [doInvoke_state]; exact hsteps.trans a1, b1⟩
  · obtain ⟨T2, X2, -, -, ht⟩ := X₁.outOfThrown (g := F0 m pc ls st) rfl hend hWt hsame
    subst ht
    have e1 : (g_thr T2 (F0 m pc ls st) x).heap = T2.heap := Stand.throwing_heap T2 _ x
    have hc3 : T2.heap[x]? = some cell := by rw [← e1]; exact hc2
    obtain ⟨hp3, hs3⟩ := grow (LL := LL) hp2 hfF hL
    rw [e1] at hp3 hs3
    obtain ⟨hpc, ⟨pre, hit, post, k1, k2, k3, k4⟩, kE⟩ := kt cls σ' hth
    subst k2
    have hfc3 : s.vm.findClass cls = some cell.cls := by
      have h9 : (T0.setVm vm₁).vm.findClass cls = some cell.cls := hfc2
      rw [hal.findClass] at h9
      exact h9
    obtain ⟨kk0, hkk0, -⟩ := g_fc hfc3
    obtain ⟨vm2, hW2, st2⟩ := g_caught X2 C'.2.2.2.2.1 (g := F0 m pc ls st) rfl hc3 hv2 ⟨kk0, hkk0⟩ (pre.map (fun q => (g_ent q.1, q.2))) (g_ent hit.1, hit.2) (post.map g_ent) (by rw [g_table C' X hcw, k1]; simp)
      ⟨k4.1, k4.2.1, hts _ k4.2.2.1, fun cY hY => C'.2.2.2.2.2.2.1.yesCast k4.2.2.2 hfc3 hY⟩ (fun q hq => by
        obtain ⟨y, hy, rfl⟩ := List.mem_map.mp hq
        obtain ⟨a1, a2, a3, a4⟩ := k3 y hy
        exact ⟨a1, a2, hts _ a3, fun cY hY => C'.2.2.2.2.2.2.1.noCast a4 hfc3 hY⟩)
    have C2 := C'
    rw [← h01] at C2
    obtain ⟨t, a1, b1⟩ := kE x p l e s m args below meth c D dT A T2.heap (locs ++ LL) ls C2 hp3 hs3 L (T2.setVm vm2) rfl (X2.noted hW2)
    rw [h01] at b1
    exact ⟨t, hstep₁ _ fun acts => by rw [doInvoke_state]; exact hsteps.trans (st2 t a1), b1⟩
/-- the contract of a method with handlers, out of which nothing is thrown -/
def CTW (M : gM) (hh : List gHd) (d mc ms : Nat) (args : List Value) (σ : gH) (K : Option Value → gH → Prop) : Prop :=
  ∀ (l : gL) (D : va_G) (dT : Nat → ClassId) (sz : Nat), Met l.1 M.1 (wsW_ M.1 M.2.1 M.2.2.1 M.2.2.2 hh) (g_R d mc ms) (va_Pc args (fun U => U.heap.size = sz ∧ g_Pic D dT (g_A σ sz) σ U.heap ∧ g_K D dT (g_A σ sz) σ.1 U)) (g_Q D dT σ.1 K (g_A σ sz)) mc ms (g_A σ sz)
theorem CTW.of {M : gM} {hh : List gHd} {d mc ms : Nat} {args : List Value} {σ : gH} {K : Option Value → gH → Prop} {lv : List (Nat × Value)} (hp : plainName M.1.cls = true) (hn : Nat.ble (lg_sl args).length M.2.2.1 = true) (hl : lv_args 0 args = lv) (k : E M d mc ms (g_z K) 0 0 0 lv [] σ) : CTW M hh d mc ms args σ K := by
  intro l D dT sz
  refine va_MetW (cc := M.2.1) (maxL := M.2.2.1) (ret := M.2.2.2) (hh := hh) hp rfl ?_
  intro p e s m args' below meth c s₁ B hml hv
  obtain ⟨rfl, hsz, hP, hK⟩ := hv
  have hts := atoms_spec (ws := wsW_ M.1 M.2.1 M.2.2.1 M.2.2.2 hh) B.pre
  have hts : ∀ w ∈ lw_all, w.before _ s = true := fun w h => hts w (List.mem_cons_of_mem _ h)
  have hin : meth.name = M.1.name := (name_of_methodNamed B.named B.method).1
  have hlv := lv_entry args (n := M.2.2.1) (Nat.le_of_ble_eq_true hn)
  rw [lg_entry_eq]
  subst hl
  exact k p l e s m args.toArray below meth c D dT (g_A σ sz) s.heap [] _ ⟨B.exec, B.bytes, B.returns, hml, findClass_of_methodNamed B.named, hts, hK, B.notSynchronized, hin, fun q h => Or.inr (by omega), B.named, fun q cell hq hc => hP.plain (by
    rcases hq with h | h
    · exact h
    · exact absurd (Array.getElem?_eq_some_iff.mp hc).1 (by omega)) hc⟩ hP va_S.rf hlv
theorem e_callW {M' : gM} {d' mc' ms' idx na b ci N : Nat} {T : u_T} {C : String} {K' : Option Value → gH → Prop} {hh : List gHd} {As st0 : List Value} {fs : List Value} (ok : g_ok M' na) (h1 : Cond.methodLink M.1.cls idx M'.1 ∈ lw_all) (h2 : Cond.instanceMethod M'.1 ∈ lw_all) (h3 : Cond.selects C M'.1 M'.1 ∈ lw_all) (h4 : Cond.initialized C ∈ lw_all) (h5 : Cond.codeWith M'.1 M'.2.1 M'.2.2.1 M'.2.2.2 hh ∈ lw_all) (hC : M'.1.cls = C)
    (hb : σ.2 b = some (.inr (ci, fs))) (hc : g_cl[ci]? = some (C, T, N)) (hdep : d' + 1 ≤ d) (hu1 : uc + mc' ≤ mc) (hu2 : us + ms' ≤ ms) (hna : As.length = na) (hst : As.reverse ++ .ref b :: st = st0) (hroom : (st.map fun v => v.category).sum ≤ 8) (hd : decode M.2.1 pc = .ok (.invokevirtual idx, 3)) (hp : pc + 3 = n)
    (hM : CTW M' hh d' mc' ms' (.ref b :: As) σ K') (kk : ∀ (r : Option Value) (σ' : gH), K' r σ' → E M d mc ms K (uc + mc') (us + ms') n lv (r.toList ++ st) σ') : E M d mc ms K uc us pc lv st0 σ := by
  intro p l e s m args below meth c D dT A H locs ls C' P S L T0 hT X
  subst hT
  subst hp
  subst hst
  have hts := C'.2.2.2.2.2.1
  obtain ⟨mk, methM, hnamed, hmethM, hstM, habM⟩ := Cond.instanceMethod_spec (hts _ h2)
  obtain ⟨mk9, methM', cM, hn9, hmethM', hcodeM, -, hlocM, -, -, -, hsigM⟩ := Cond.codeWith_spec (hts _ h5)
  cases hnamed.symm.trans hn9
  cases hmethM.symm.trans hmethM'
  have hrecv : ∃ cell : Cell, T0.heap[b]? = some cell ∧ cell.vm.isStatics = false ∧ s.vm.findClass C = some cell.cls := by
    obtain ⟨ws, g1, g2, g3, g4⟩ := P
    obtain ⟨q0, he⟩ := g3 b _ hb
    exact va_recv C'.2.2.2.2.2.2.1.1 g1 hc he
  obtain ⟨cellB, hcell, hobj, hcls⟩ := hrecv
  obtain ⟨c2, r2, m2, q1, q2, q3, q4, kP, hkP, hkPi⟩ := Cond.selects_spec (hts _ h3)
  cases hcls.symm.trans q1
  cases (State.methodFound?_of_named hnamed ⟨ok.2.1, ok.2.2.1⟩).symm.trans q2
  cases hnamed.symm.trans q3
  have hselP : selectMethod e.platform s.vm cellB.cls mk = .method mk := by rw [Launch.admits_selectMethod X.admits]; exact q4
  have hlenA : As.length = methM.sig.parameters.length := by
    have h9 := ok.2.2.2.1
    rw [hsigM] at h9
    exact hna.trans (Option.some.inj h9).symm
  have hdg : decode c.code pc = .ok (.invokevirtual idx, 3) := by rw [C'.2.1]; exact hd
  have hsz : ls.size = c.maxLocals := L.1.trans C'.2.2.2.1.symm
  obtain ⟨vm₁, X₁, hstep₁⟩ := X.invokevirtual C'.1 C'.2.2.2.2.1 (hts _ h1) hnamed hmethM hstM hkP hkPi ⟨ok.2.1, ok.2.2.1⟩ (a := b) (cell := cellB) hcell (fun z h => by rw [h] at hobj; cases hobj) hselP hmethM habM hkP hkPi (g := F0 m pc ls (As.reverse ++ .ref b :: st)) rfl (argsL := As) (rest := st) hlenA rfl hdg
  have hW1 := X₁.warmed
  have hws : ∀ w ∈ wsW_ M'.1 M'.2.1 M'.2.2.1 M'.2.2.2 hh, ∀ (a' : Array Value) (U : State), s.WarmedH U.vm → w.before a' U = true := pay_in hts (lw_methW h5)
  have hini : (Cond.initialized M'.1.cls).before #[] (T0.setVm vm₁) = true := word_at hW1 (Or.inl (by rw [hC]; rfl)) (by rw [hC]; exact hts _ h4)
  have hn1 : (T0.setVm vm₁).methodNamed? M'.1 = some mk := X₁.named hnamed
  have hal := hW1.alike
  obtain ⟨kY, hkY, -⟩ := className_of_methodNamed hn1
  have hinitY : kY.init = .initialized := Cond.initialized_spec (findClass_of_methodNamed hn1) hkY hini
  have hmY : (T0.setVm vm₁).vm.method? mk = some methM := by rw [hal.method?]; exact hmethM
  have hat : At (T0.setVm vm₁) (F0 m pc ls st).method c below := X₁.here
  have hfit : 8 + (M'.2.2.1 + 11) + (g_R d' mc' ms').locals ≤ (g_R d mc ms).locals := (g_room hdep ok.2.2.2.2).2
  have happ : (headSpec (wsW_ M'.1 M'.2.1 M'.2.2.1 M'.2.2.2 hh) (g_R d' mc' ms')).appliesLoose M'.1 e.platform ((T0.setVm vm₁).calling (F0 m pc ls st) mk (.ref b :: As).toArray) = true :=
    Spec.appliesLoose_calling (g := F0 m pc ls st) hat hdg hn1 hkY hinitY (X₁.room_calling (g := F0 m pc ls st) (R' := g_R d' mc' ms') hsz hmY hcodeM hdep (by rw [hlocM]; show 2 * 0 + (st.map fun v => v.category).sum + _ + _ ≤ _; omega) hu1 hu2) (atoms_intro fun w hw => hws w hw _ _ hW1)
  obtain ⟨mid, hmid⟩ := hat.above
  have hfr : ((T0.setVm vm₁).setTop (F0 m pc ls st)).frames = (.java (F0 m pc ls st) :: mid) ++ below := by rw [State.frames_setTop' _ hat.top, hmid]; rfl
  have hPc : va_Pc (.ref b :: As) (fun U => U.heap.size = T0.heap.size ∧ g_Pic D dT (g_A σ T0.heap.size) σ U.heap ∧ g_K D dT (g_A σ T0.heap.size) σ.1 U) (.ref b :: As).toArray ((T0.setVm vm₁).calling (F0 m pc ls st) mk (.ref b :: As).toArray) := g_blind _ _ _ _ (g_pre P S C'.2.2.2.2.2.2.1 (T0.setVm vm₁) rfl hW1)
  obtain ⟨o, s₂, hsteps, -, hend, hq⟩ := Steps.callFree (hM l D dT T0.heap.size) p X.admits X.cas X.clock (acts := []) hfr happ hPc trivial
  rw [State.frames_setTop' _ hat.top, X₁.tail] at hend
  have hsub : ∀ q, g_A σ T0.heap.size q → A q := by
    intro q h
    rcases h with h | h
    · exact (P.in h).1
    · exact C'.2.2.2.2.2.2.2.2.2.1 q (Nat.le_trans S.1 h)
  have grow : ∀ {σ' : gH} {t : State} {LL : List Loc}, g_Pic D dT (g_A σ T0.heap.size) σ' t.heap → va_F (g_A σ T0.heap.size) ((T0.setVm vm₁).calling (F0 m pc ls st) mk (.ref b :: As).toArray) t → (∀ q ∈ LL, g_A σ T0.heap.size q.base) → g_Pic D dT A σ' t.heap ∧ va_S A s.heap t.heap (locs ++ LL) := by
    intro σ' t LL hp2 hf hl
    obtain ⟨hz, hk⟩ := hf
    have hz' : T0.heap.size ≤ t.heap.size := hz
    refine ⟨hp2.weaken (fun q _ h => hsub q h), Nat.le_trans S.1 hz', fun q h1 h2 => ?_, fun q hq => ?_⟩
    · have h3 : t.heap[q]? = T0.heap[q]? := hk q (Nat.lt_of_lt_of_le h1 S.1) (fun z => h2 (hsub q z))
      rw [h3]
      exact S.2.1 q h1 h2
    · rcases List.mem_append.mp hq with h | h
      · exact S.2.2 q h
      · exact hsub _ (hl q h)
  obtain ⟨⟨⟨r, σ', rfl, hK, h01, hp2⟩, hfF⟩, LL, hF, hL⟩ := hq
  obtain ⟨-, hWt, hsame⟩ := hF
  obtain ⟨T2, X2, -, -, ht⟩ := X₁.outOf (g := F0 m pc ls st) rfl hdg hend hWt hsame
  subst ht
  have e1 : (T2.setTop { F0 m pc ls st with pc := pc + 3, stack := r.toList ++ st }).heap = T2.heap := State.heap_setTop _ _
  obtain ⟨hp3, hs3⟩ := grow (LL := LL) hp2 hfF hL
  rw [e1] at hp3 hs3
  have C2 := C'
  rw [← h01] at C2
  obtain ⟨t, a1, b1⟩ := kk r σ' hK p l e s m args below meth c D dT A T2.heap (locs ++ LL) ls C2 hp3 hs3 L T2 rfl X2
  rw [h01] at b1
  exact ⟨t, hstep₁ _ fun acts => by rw [doInvoke_state]; exact hsteps.trans a1, b1⟩
end CALLX
