/-! BASE: final fields in constructors (also where two classes above each other have a field of one name); calls of other kinds; copies -/
set_option maxRecDepth 100000
theorem g_lf {args : Array Value} {s : State} {C O f d : String} (h : (Cond.laysFinal C O f d).before args s = true) {cf : Nat} {kf : Class} {fi : Nat} {fd : Field} (hi : s.fieldFound? O f d = some (cf, kf, fi, fd)) : ∃ a dd, s.vm.findClass C = some a ∧ Jmm.declares? s.vm fd.slot (a + 1) a = some dd ∧ dd.1.name = O := by
  obtain ⟨c, k, c', k', i, f', h1, h2, h3, h4, h5, h6, h7, h8, dd, h9, h10, h11, h12⟩ := Cond.laysFinal_spec h
  cases hi.symm.trans h3
  obtain ⟨k2, g1, g2⟩ := Vm.findClass_spec h7
  have hk : s.vm.classes[cf]? = some kf := by
    simp only [State.fieldFound?, Option.bind_eq_bind, Option.bind_eq_some_iff] at h3
    obtain ⟨ty, -, c0, -, ⟨c1, i1⟩, -, k1, q1, f1, q2, q3⟩ := h3
    simp only [Option.pure_def, Option.some.injEq, Prod.mk.injEq] at q3
    obtain ⟨rfl, rfl, -⟩ := q3
    exact q1
  cases hk.symm.trans g1
  exact ⟨c, dd, h1, h9, h10.trans g2⟩
/-- the fields of a class are apart: by their names, or, where these are one, by their owners -/
def g_nm (T : u_T) (N : Nat) : Prop := ∀ a, a < N → ∀ b, b < N → a ≠ b → (T a).2.1 ≠ (T b).2.1 ∨ ((T a).1 ≠ (T b).1 ∧ (T a).2.2.2 = true ∧ (T b).2.2.2 = true)
theorem g_apart {s : State} {args : Array Value} {D : va_G} {cl : List vw_C} {tys : List (ClassId × FieldType)} {C : String} {T : u_T} {N ci : Nat} {Ts : List Cond} (hts : ∀ w ∈ Ts, w.before args s = true) (hin : ∀ w ∈ u_ws C T N, w ∈ Ts) (ty : Nat → FieldType) (hty : ∀ k, k < N → parseFieldDescriptor (T k).2.2.1 = some (ty k)) (hnm : g_nm T N) (hK : va_K D cl tys s) (hc : cl[ci]? = some (C, T, N)) : ∀ x y, x < N → y < N → x ≠ y → (D.2 ci) x ≠ (D.2 ci) y := by
  intro x y hx hy hne
  obtain ⟨hS, -⟩ := hK.1 ci _ hc
  obtain ⟨_, _, _, fa, hia, ea⟩ := hS x hx
  obtain ⟨_, _, _, fb, hib, eb⟩ := hS y hy
  rw [← ea, ← eb]
  rcases hnm x hx y hy hne with z | ⟨z1, z2, z3⟩
  · refine u_apart (u_lays hts hin hx) (u_lays hts hin hy) hia hib ?_
    rw [(State.fieldFound?_type hia (hty x hx)).1, (State.fieldFound?_type hib (hty y hy)).1]
    exact z
  · have lx := hts _ (hin _ (u_in_lay hx))
    have ly := hts _ (hin _ (u_in_lay hy))
    unfold u_lay at lx ly
    rw [if_pos z2] at lx
    rw [if_pos z3] at ly
    obtain ⟨a, da, p1, p2, p3⟩ := g_lf lx hia
    obtain ⟨b, db, r1, r2, r3⟩ := g_lf ly hib
    cases p1.symm.trans r1
    intro hs
    rw [hs] at p2
    cases p2.symm.trans r2
    exact z1 (p3.symm.trans r3)
section ROWS7
variable {M : gM} {d mc ms uc us pc n : Nat} {K : gZ} {lv : List (Nat × Value)} {st : List Value} {σ : gH}
/-- a final field of the constructor's own class -/
theorem e_putF {C ref : String} {T : u_T} {N ci idx a : Nat} {fs : List Value} {v : Value} {ty : FieldType} (k : Nat) (ty0 : Nat → FieldType) (hty : ∀ k, k < N → parseFieldDescriptor (T k).2.2.1 = some (ty0 k)) (hnm : g_nm T N) (hin : ∀ w ∈ u_ws C T N, w ∈ lw_all) (hc : g_cl[ci]? = some (C, T, N)) (hk : Nat.ble (k + 1) N = true) (hlink : Cond.fieldLink M.1.cls idx ref (T k).2.1 (T k).2.2.1 ∈ lw_all) (hsame : ref = (T k).1) (hfin : (T k).2.2.2 = true) (hinit : M.1.name = "<init>") (hdecl : (T k).1 = M.1.cls)
    (hty1 : ty0 k = ty) (hn : narrow ty v = v) (hfit : fits ty v = true) (ha : σ.2 a = some (.inr (ci, fs))) (hl : k < fs.length) (hd : decode M.2.1 pc = .ok (.putfield idx, 3)) (hp : pc + 3 = n) (kk : E M d mc ms K uc us n lv st (g_up σ a (.inr (ci, fs.set k v)))) : E M d mc ms K uc us pc lv (v :: .ref a :: st) σ := by
  intro p l e s m args below meth c D dT A H locs ls C' P S L
  subst hp
  subst hty1
  have hk := Nat.le_of_ble_eq_true hk
  obtain ⟨ws, h1, h2, h3, h4⟩ := P
  obtain ⟨q0, he⟩ := h3 a _ ha
  have hts := C'.2.2.2.2.2.1
  have hown := C'.2.2.2.2.1
  have hK := C'.2.2.2.2.2.2.1.1
  have hap := g_apart hts hin ty0 hty hnm hK hc
  obtain ⟨r, g1, cell, q1, q2, q3, q4⟩ := h1 q0 _ he
  have hr : r = (C, T, N) := Option.some.inj (g1.symm.trans hc)
  subst hr
  obtain ⟨hS, hfc, kC, hkC, hkind⟩ := hK.1 ci _ hc
  obtain ⟨cf, kf, fi, f, hi, hsl⟩ := hS k hk
  have hlay := hts _ (hin _ (u_in_lay hk))
  unfold u_lay at hlay
  rw [if_pos hfin] at hlay
  have hst := (u_facts hfc hkC (u_lays hts hin hk) hi).1
  have hcf : m.cls = cf := by
    obtain ⟨_, _, c', _, _, _, -, -, hf', -, -, -, hown2, -⟩ := Cond.laysFinal_spec hlay
    have e1 : c' = cf := by have := hi.symm.trans hf'; simp at this; exact this.1.symm
    rw [hdecl] at hown2
    rw [← e1]; exact Option.some.inj (hown.symm.trans hown2)
  have h6 := u_fits hfc hkC hkind (Or.inr hlay) hi (hty k hk) hn hfit
  refine W.putFinK C'.1 C'.2.1 hown (hts _ hlink) (by rw [hsame]; exact hi) hst hcf (C'.2.2.2.2.2.2.2.2.1.trans hinit) (by rw [q2]; exact h6) q1 q3 (by rw [hsl]; exact k2_hasslot (q4 k hk)) rfl rfl hd fun H' e1 e2 e3 => ?_
  rw [hsl] at e1 ⊢
  refine kk p l e s m args below meth c D dT A H' _ ls C' (g_Pic.set (e := .inr (ci, fs.set k v)) he h2 h3 h4 (h1.set h2 he ⟨_, hc, t_OB.to (V := updV (vp_V fs) k v) ⟨_, e1, q2, q3, t_set q4 hap hk v⟩ (fun j _ => vp_updV_set hl v j)⟩ e3) (h2.set he)) (S.put e2 e3 (h2.2 q0 _ he)) L
/-- a call of an overridden method: x as named (of class owner), y as selected for the receiver's class C -/
theorem e_callO {M' : gM} {d' mc' ms' idx na b ci N : Nat} {T : u_T} {C : String} {x : MethodName} {b0 : ByteArray} {m0 : Nat} {r0 : Option FieldType} {K' : Option Value → gH → Prop} {As st0 : List Value} {fs : List Value} (ok : g_ok M' na) (h1 : Cond.methodLink M.1.cls idx x ∈ lw_all) (h2 : Cond.sameMethod x.cls x.cls x.name x.desc ∈ lw_all) (h3 : Cond.instanceMethod x ∈ lw_all) (h4 : Cond.selects C x M'.1 ∈ lw_all) (h5 : Cond.instanceMethod M'.1 ∈ lw_all) (h6 : Cond.initialized M'.1.cls ∈ lw_all) (h7 : Cond.code M'.1 M'.2.1 M'.2.2.1 M'.2.2.2 ∈ lw_all) (h8 : Cond.code x b0 m0 r0 ∈ lw_all) (hx : x.desc = M'.1.desc) (hxm : x.cls ≠ "java/lang/invoke/MethodHandle" ∧ x.cls ≠ "java/lang/invoke/VarHandle")
    (hb : σ.2 b = some (.inr (ci, fs))) (hc : g_cl[ci]? = some (C, T, N)) (hdep : d' + 1 ≤ d) (hu1 : uc + mc' ≤ mc) (hu2 : us + ms' ≤ ms) (hna : As.length = na) (hst : As.reverse ++ .ref b :: st = st0) (hroom : Nat.ble (st.map fun v => v.category).sum 8 = true) (hd : decode M.2.1 pc = .ok (.invokevirtual idx, 3)) (hp : pc + 3 = n)
    (hM : CT M' d' mc' ms' (.ref b :: As) σ K') (kk : ∀ (r : Option Value) (σ' : gH), K' r σ' → E M d mc ms K (uc + mc') (us + ms') n lv (r.toList ++ st) σ') : E M d mc ms K uc us pc lv st0 σ := by
  intro p l e s m args below meth c D dT A H locs ls C' P S L
  subst hp
  subst hst
  have hT : GoodIn lw_all (va_wsO M.1.cls idx C x.cls x M'.1 (g_ws M')) := by
    refine lw_app ?_ (lw_meth h7)
    intro w hw
    simp only [List.mem_cons, List.not_mem_nil, or_false] at hw
    rcases hw with e | e | e | e | e | e
    · rw [e]; exact h1
    · rw [e]; exact h2
    · rw [e]; exact h3
    · rw [e]; exact h4
    · rw [e]; exact h5
    · rw [e]; exact h6
  refine g_call (va_runU (As := As) (rest := st) ⟨C'.1, C'.2.1, C'.2.2.2.1, C'.2.2.2.2.1, C'.2.2.2.2.2.1⟩ (hM l D dT H.size) (va_cwO na C'.2.2.2.2.2.1 hT rfl rfl rfl h8 ⟨hxm.1, hxm.2, by rw [hx]; exact ok.2.2.2.1⟩ (g_room hdep ok.2.2.2.2)) ⟨g_blind, g_obj C'.2.2.2.2.2.2.1.1 P hb hc, g_pre P S C'.2.2.2.2.2.2.1⟩ rfl hna L.1 rfl (lv_room (Nat.le_of_ble_eq_true hroom)) hd ⟨hu1, hu2⟩) P S C'.2.2.2.2.2.2.2.2.2.1 (fun r σ' H1 locs1 q1 q0 q2 q3 => by rw [← q0]; rw [← q0] at C'; exact kk r σ' q1 p l e s m args below meth c D dT A H1 locs1 ls C' q2 q3 L)
/-- super.y(..) -/
theorem e_callSU {M' : gM} {d' mc' ms' idx na b ci N : Nat} {T : u_T} {C : String} {K' : Option Value → gH → Prop} {As st0 : List Value} {fs : List Value} (ok : g_ok M' na) (h1 : Cond.methodLink M.1.cls idx M'.1 ∈ lw_all) (h2 : Cond.sameMethod M'.1.cls M'.1.cls M'.1.name M'.1.desc ∈ lw_all) (h3 : Cond.superclass M.1.cls M'.1.cls ∈ lw_all) (h5 : Cond.instanceMethod M'.1 ∈ lw_all) (h6 : Cond.initialized M'.1.cls ∈ lw_all) (h7 : Cond.code M'.1 M'.2.1 M'.2.2.1 M'.2.2.2 ∈ lw_all) (hnm : M'.1.name ≠ "<init>")
    (hb : σ.2 b = some (.inr (ci, fs))) (hc : g_cl[ci]? = some (C, T, N)) (hdep : d' + 1 ≤ d) (hu1 : uc + mc' ≤ mc) (hu2 : us + ms' ≤ ms) (hna : As.length = na) (hst : As.reverse ++ .ref b :: st = st0) (hroom : Nat.ble (st.map fun v => v.category).sum 8 = true) (hd : decode M.2.1 pc = .ok (.invokespecial idx, 3)) (hp : pc + 3 = n)
    (hM : CT M' d' mc' ms' (.ref b :: As) σ K') (kk : ∀ (r : Option Value) (σ' : gH), K' r σ' → E M d mc ms K (uc + mc') (us + ms') n lv (r.toList ++ st) σ') : E M d mc ms K uc us pc lv st0 σ := by
  intro p l e s m args below meth c D dT A H locs ls C' P S L
  subst hp
  subst hst
  have hT : GoodIn lw_all (va_wsSU M.1.cls idx M'.1 (g_ws M')) := by
    refine lw_app ?_ (lw_meth h7)
    intro w hw
    simp only [List.mem_cons, List.not_mem_nil, or_false] at hw
    rcases hw with e | e | e | e | e
    · rw [e]; exact h1
    · rw [e]; exact h2
    · rw [e]; exact h3
    · rw [e]; exact h5
    · rw [e]; exact h6
  refine g_call (va_runSU (As := As) (rest := st) (C'.2.2.2.2.2.2.1.1.1 ci _ hc).2 ⟨C'.1, C'.2.1, C'.2.2.2.1, C'.2.2.2.2.1, C'.2.2.2.2.2.1⟩ (hM l D dT H.size) (va_cwSU na C'.2.2.2.2.2.1 hT rfl rfl rfl ⟨hnm, ok.2.2.2.1⟩ (g_room hdep ok.2.2.2.2)) ⟨g_blind, g_obj C'.2.2.2.2.2.2.1.1 P hb hc, g_pre P S C'.2.2.2.2.2.2.1⟩ rfl hna L.1 rfl (lv_room (Nat.le_of_ble_eq_true hroom)) hd ⟨hu1, hu2⟩) P S C'.2.2.2.2.2.2.2.2.2.1 (fun r σ' H1 locs1 q1 q0 q2 q3 => by rw [← q0]; rw [← q0] at C'; exact kk r σ' q1 p l e s m args below meth c D dT A H1 locs1 ls C' q2 q3 L)
/-- a nest mate's private method -/
theorem e_callVN {M' : gM} {d' mc' ms' idx na b ci N : Nat} {T : u_T} {C host : String} {K' : Option Value → gH → Prop} {As st0 : List Value} {fs : List Value} (ok : g_ok M' na) (h1 : Cond.methodLinkNest M.1.cls idx M'.1 host ∈ lw_tbl) (h2 : Cond.instanceMethod M'.1 ∈ lw_all) (h3 : Cond.selects C M'.1 M'.1 ∈ lw_all) (h4 : Cond.initialized M'.1.cls ∈ lw_all) (h5 : Cond.code M'.1 M'.2.1 M'.2.2.1 M'.2.2.2 ∈ lw_all)
    (hb : σ.2 b = some (.inr (ci, fs))) (hc : g_cl[ci]? = some (C, T, N)) (hdep : d' + 1 ≤ d) (hu1 : uc + mc' ≤ mc) (hu2 : us + ms' ≤ ms) (hna : As.length = na) (hst : As.reverse ++ .ref b :: st = st0) (hroom : Nat.ble (st.map fun v => v.category).sum 8 = true) (hd : decode M.2.1 pc = .ok (.invokevirtual idx, 3)) (hp : pc + 3 = n)
    (hM : CT M' d' mc' ms' (.ref b :: As) σ K') (kk : ∀ (r : Option Value) (σ' : gH), K' r σ' → E M d mc ms K (uc + mc') (us + ms') n lv (r.toList ++ st) σ') : E M d mc ms K uc us pc lv st0 σ := by
  intro p l e s m args below meth c D dT A H locs ls C' P S L
  subst hp
  subst hst
  refine g_call (va_runVN (As := As) (rest := st) ⟨C'.1, C'.2.1, C'.2.2.2.1, C'.2.2.2.2.1, C'.2.2.2.2.2.1⟩ (hM l D dT H.size) ⟨va_cnB na C'.2.2.2.2.2.1 (lw_meth h5) rfl rfl rfl (C'.2.2.2.2.2.2.1.nestM h1) (C'.2.2.2.2.2.1 _ h4) ⟨ok.2.1, ok.2.2.1, ok.2.2.2.1⟩ (g_room hdep ok.2.2.2.2), C'.2.2.2.2.2.1 _ h2, C'.2.2.2.2.2.1 _ h3⟩ ⟨g_blind, g_obj C'.2.2.2.2.2.2.1.1 P hb hc, g_pre P S C'.2.2.2.2.2.2.1⟩ rfl hna L.1 rfl (lv_room (Nat.le_of_ble_eq_true hroom)) hd ⟨hu1, hu2⟩) P S C'.2.2.2.2.2.2.2.2.2.1 (fun r σ' H1 locs1 q1 q0 q2 q3 => by rw [← q0]; rw [← q0] at C'; exact kk r σ' q1 p l e s m args below meth c D dT A H1 locs1 ls C' q2 q3 L)
theorem e_callSN {M' : gM} {d' mc' ms' idx na : Nat} {host : String} {K' : Option Value → gH → Prop} {As st0 : List Value} (ok : g_ok M' na) (h1 : Cond.methodLinkNest M.1.cls idx M'.1 host ∈ lw_tbl) (h2 : Cond.static M'.1 ∈ lw_all) (h4 : Cond.initialized M'.1.cls ∈ lw_all) (h5 : Cond.code M'.1 M'.2.1 M'.2.2.1 M'.2.2.2 ∈ lw_all)
    (hdep : d' + 1 ≤ d) (hu1 : uc + mc' ≤ mc) (hu2 : us + ms' ≤ ms) (hna : As.length = na) (hst : As.reverse ++ st = st0) (hroom : Nat.ble (st.map fun v => v.category).sum 8 = true) (hd : decode M.2.1 pc = .ok (.invokestatic idx, 3)) (hp : pc + 3 = n)
    (hM : CT M' d' mc' ms' As σ K') (kk : ∀ (r : Option Value) (σ' : gH), K' r σ' → E M d mc ms K (uc + mc') (us + ms') n lv (r.toList ++ st) σ') : E M d mc ms K uc us pc lv st0 σ := by
  intro p l e s m args below meth c D dT A H locs ls C' P S L
  subst hp
  subst hst
  refine g_call (va_runSN (As := As) (rest := st) ⟨C'.1, C'.2.1, C'.2.2.2.1, C'.2.2.2.2.1, C'.2.2.2.2.2.1⟩ (hM l D dT H.size) ⟨va_cnB na C'.2.2.2.2.2.1 (lw_meth h5) rfl rfl rfl (C'.2.2.2.2.2.2.1.nestM h1) (C'.2.2.2.2.2.1 _ h4) ⟨ok.2.1, ok.2.2.1, ok.2.2.2.1⟩ (g_room hdep ok.2.2.2.2), C'.2.2.2.2.2.1 _ h2, trivial⟩ ⟨g_blind, g_pre P S C'.2.2.2.2.2.2.1⟩ rfl hna L.1 rfl (lv_room (Nat.le_of_ble_eq_true hroom)) hd ⟨hu1, hu2⟩) P S C'.2.2.2.2.2.2.2.2.2.1 (fun r σ' H1 locs1 q1 q0 q2 q3 => by rw [← q0]; rw [← q0] at C'; exact kk r σ' q1 p l e s m args below meth c D dT A H1 locs1 ls C' q2 q3 L)
theorem e_callIN {M' : gM} {d' mc' ms' idx na b : Nat} {host : String} {K' : Option Value → gH → Prop} {As st0 : List Value} (ok : g_ok M' na) (hy : M'.1.name = "<init>") (hret : M'.2.2.2 = none) (h1 : Cond.methodLinkNest M.1.cls idx M'.1 host ∈ lw_tbl) (h2 : Cond.instanceMethod M'.1 ∈ lw_all) (h4 : Cond.initialized M'.1.cls ∈ lw_all) (h5 : Cond.code M'.1 M'.2.1 M'.2.2.1 M'.2.2.2 ∈ lw_all)
    (hdep : d' + 1 ≤ d) (hu1 : uc + mc' ≤ mc) (hu2 : us + ms' ≤ ms) (hna : As.length = na) (hst : As.reverse ++ .ref b :: st = st0) (hroom : Nat.ble (st.map fun v => v.category).sum 8 = true) (hd : decode M.2.1 pc = .ok (.invokespecial idx, 3)) (hp : pc + 3 = n)
    (hM : CT M' d' mc' ms' (.ref b :: As) σ K') (kk : ∀ (r : Option Value) (σ' : gH), K' r σ' → E M d mc ms K (uc + mc') (us + ms') n lv (r.toList ++ st) σ') : E M d mc ms K uc us pc lv st0 σ := by
  intro p l e s m args below meth c D dT A H locs ls C' P S L
  subst hp
  subst hst
  obtain ⟨y, bt, L', rt⟩ := M'
  subst hret
  refine g_call (va_runIN (As := As) (rest := st) ⟨C'.1, C'.2.1, C'.2.2.2.1, C'.2.2.2.2.1, C'.2.2.2.2.2.1⟩ (hM l D dT H.size) ⟨va_cnB na C'.2.2.2.2.2.1 (lw_meth h5) rfl rfl rfl (C'.2.2.2.2.2.2.1.nestM h1) (C'.2.2.2.2.2.1 _ h4) ⟨ok.2.1, ok.2.2.1, ok.2.2.2.1⟩ (g_room hdep ok.2.2.2.2), hy, C'.2.2.2.2.2.1 _ h2⟩ ⟨g_blind, g_pre P S C'.2.2.2.2.2.2.1⟩ rfl hna L.1 rfl (lv_room (Nat.le_of_ble_eq_true hroom)) hd ⟨hu1, hu2⟩) P S C'.2.2.2.2.2.2.2.2.2.1 (fun r σ' H1 locs1 q1 q0 q2 q3 => by rw [← q0]; rw [← q0] at C'; exact kk r σ' q1 p l e s m args below meth c D dT A H1 locs1 ls C' q2 q3 L)
/-- a call through an interface -/
theorem e_callF {M' : gM} {d' mc' ms' idx cnt na b ci N : Nat} {T : u_T} {C : String} {x : MethodName} {K' : Option Value → gH → Prop} {As st0 : List Value} {fs : List Value} (ok : g_ok M' na) (h1 : Cond.methodLink M.1.cls idx x ∈ lw_all) (h3 : Cond.selects C x M'.1 ∈ lw_all) (h2 : Cond.instanceMethod M'.1 ∈ lw_all) (h4 : Cond.initialized M'.1.cls ∈ lw_all) (h5 : Cond.code M'.1 M'.2.1 M'.2.2.1 M'.2.2.2 ∈ lw_all) (w1 : Cond.declares x ∈ lw_tbl) (w2 : Cond.interfaceMethod x.cls x.cls x.name x.desc ∈ lw_tbl) (w3 : Cond.publicMethod M'.1 ∈ lw_tbl) (w4 : Cond.unhidden C x.name x.desc ∈ lw_tbl) (w5 : Cond.castable C x.cls ∈ lw_tbl) (hx : x.desc = M'.1.desc) (hxm : x.cls ≠ "java/lang/invoke/MethodHandle" ∧ x.cls ≠ "java/lang/invoke/VarHandle")
    (hb : σ.2 b = some (.inr (ci, fs))) (hc : g_cl[ci]? = some (C, T, N)) (hdep : d' + 1 ≤ d) (hu1 : uc + mc' ≤ mc) (hu2 : us + ms' ≤ ms) (hna : As.length = na) (hst : As.reverse ++ .ref b :: st = st0) (hroom : Nat.ble (st.map fun v => v.category).sum 8 = true) (hd : decode M.2.1 pc = .ok (.invokeinterface idx cnt, 5)) (hp : pc + 5 = n)
    (hM : CT M' d' mc' ms' (.ref b :: As) σ K') (kk : ∀ (r : Option Value) (σ' : gH), K' r σ' → E M d mc ms K (uc + mc') (us + ms') n lv (r.toList ++ st) σ') : E M d mc ms K uc us pc lv st0 σ := by
  intro p l e s m args below meth c D dT A H locs ls C' P S L
  subst hp
  subst hst
  have hT : GoodIn lw_all (va_wsF M.1.cls idx C x M'.1 (g_ws M')) := by
    refine lw_app ?_ (lw_meth h5)
    intro w hw
    simp only [List.mem_cons, List.not_mem_nil, or_false] at hw
    rcases hw with e | e | e | e
    · rw [e]; exact h1
    · rw [e]; exact h3
    · rw [e]; exact h2
    · rw [e]; exact h4
  refine g_call5 (va_runF (As := As) (rest := st) (C'.2.2.2.2.2.2.1.1.1 ci _ hc).2 ⟨C'.1, C'.2.1, C'.2.2.2.1, C'.2.2.2.2.1, C'.2.2.2.2.2.1⟩ (hM l D dT H.size) (va_cwF na C'.2.2.2.2.2.1 hT rfl rfl rfl (C'.2.2.2.2.2.2.1.face hxm w1 w2 w3 w4 w5) ⟨hxm.1, hxm.2, by rw [hx]; exact ok.2.2.2.1⟩ (g_room hdep ok.2.2.2.2)) ⟨g_blind, g_obj C'.2.2.2.2.2.2.1.1 P hb hc, g_pre P S C'.2.2.2.2.2.2.1⟩ rfl hna L.1 rfl (lv_room (Nat.le_of_ble_eq_true hroom)) hd ⟨hu1, hu2⟩) P S C'.2.2.2.2.2.2.2.2.2.1 (fun r σ' H1 locs1 q1 q0 q2 q3 => by rw [← q0]; rw [← q0] at C'; exact kk r σ' q1 p l e s m args below meth c D dT A H1 locs1 ls C' q2 q3 L)
/-- System.arraycopy between two int arrays that are not one -/
theorem e_copyi {idx a0 a n0 n1 : Nat} {f g : Nat → Int32} {sp dp z : Int32} (h1 : Cond.methodLink M.1.cls idx arraycopyName ∈ lw_all) (hq1 : Cond.native arraycopyName ∈ lw_all) (hq2 : Cond.static arraycopyName ∈ lw_all) (hq3 : Cond.initialized "java/lang/System" ∈ lw_all) (ha0 : σ.2 a0 = some (.inl (0, n0, .inl f))) (ha1 : σ.2 a = some (.inl (0, n1, .inl g))) (g1 : ¬ sp < 0) (g2 : ¬ dp < 0) (g3 : ¬ z < 0) (g4 : sp.toNatClampNeg + z.toNatClampNeg ≤ n0) (g5 : dp.toNatClampNeg + z.toNatClampNeg ≤ n1)
    (hdep : 1 ≤ d) (hroom : Nat.ble (st.map fun v => v.category).sum 8 = true) (hd : decode M.2.1 pc = .ok (.invokestatic idx, 3)) (hp : pc + 3 = n) (kk : E M d mc ms K uc us n lv st (g_up σ a (.inl (0, n1, .inl (va_cpy f g sp.toNatClampNeg dp.toNatClampNeg z.toNatClampNeg))))) : E M d mc ms K uc us pc lv (.int z :: .int dp :: .ref a :: .int sp :: .ref a0 :: st) σ := by
  intro p l e s m args below meth c D dT A H locs ls C P S L
  subst hp
  obtain ⟨ws, p1, p2, p3, p4⟩ := P
  obtain ⟨q0, he0⟩ := p3 a0 _ ha0
  obtain ⟨q1, he1⟩ := p3 a _ ha1
  refine va_copyi (ty := .int) C.1 C.2.1 (C.2.2.2.1.trans L.1.symm) C.2.2.2.2.1 (C.2.2.2.2.2.1 _ h1) (C.2.2.2.2.2.1 _ hq1) (C.2.2.2.2.2.1 _ hq2) (C.2.2.2.2.2.1 _ hq3) C.2.2.2.2.2.2.1.1 p1 p2 S q0 q1 0 0 he0 he1 rfl rfl rfl g1 g2 g3 g4 g5 (fun i _ => rfl) (by show 1 ≤ d; exact hdep) ?_ hd (fun H1 locs1 k1 k2 k3 => kk p l e s m args below meth c D dT A H1 locs1 ls C (g_Pic.set (e := .inl (0, n1, .inl (va_cpy f g sp.toNatClampNeg dp.toNatClampNeg z.toNatClampNeg))) he1 p2 p3 p4 k1 k2) k3 L)
  have := Nat.le_of_ble_eq_true hroom
  show _ + (nativeFrameWords "java/lang/System" "arraycopy" 5 + 11) ≤ 40 * d
  have hw : nativeFrameWords "java/lang/System" "arraycopy" 5 ≤ 20 := by decide
  omega
/-- System.arraycopy between two Object arrays: the elements are objects of our classes, each castable to Object -/
theorem e_copyq {idx a0 a n0 n1 : Nat} {f g : Nat → Option Nat} {sp dp z : Int32} (h1 : Cond.methodLink M.1.cls idx arraycopyName ∈ lw_all) (hq1 : Cond.native arraycopyName ∈ lw_all) (hq2 : Cond.static arraycopyName ∈ lw_all) (hq3 : Cond.initialized "java/lang/System" ∈ lw_all) (ha0 : σ.2 a0 = some (.inl (9, n0, .inr (.inr (.inr (.inr f)))))) (ha1 : σ.2 a = some (.inl (9, n1, .inr (.inr (.inr (.inr g)))))) (hel : ∀ i y : Nat, i < z.toNatClampNeg → f (sp.toNatClampNeg + i) = some y → ∃ (ci : Nat) (q : vw_C) (fs : List Value), σ.2 y = some (.inr (ci, fs)) ∧ g_cl[ci]? = some q ∧ Cond.castable q.1 "java/lang/Object" ∈ lw_tbl) (g1 : ¬ sp < 0) (g2 : ¬ dp < 0) (g3 : ¬ z < 0) (g4 : sp.toNatClampNeg + z.toNatClampNeg ≤ n0) (g5 : dp.toNatClampNeg + z.toNatClampNeg ≤ n1)
    (hdep : 1 ≤ d) (hroom : Nat.ble (st.map fun v => v.category).sum 8 = true) (hd : decode M.2.1 pc = .ok (.invokestatic idx, 3)) (hp : pc + 3 = n) (kk : E M d mc ms K uc us n lv st (g_up σ a (.inl (9, n1, .inr (.inr (.inr (.inr (va_cpy f g sp.toNatClampNeg dp.toNatClampNeg z.toNatClampNeg)))))))) : E M d mc ms K uc us pc lv (.int z :: .int dp :: .ref a :: .int sp :: .ref a0 :: st) σ := by
  intro p l e s m args below meth c D dT A H locs ls C P S L
  subst hp
  have P' := P
  obtain ⟨ws, p1, p2, p3, p4⟩ := P
  obtain ⟨q0, he0⟩ := p3 a0 _ ha0
  obtain ⟨q1, he1⟩ := p3 a _ ha1
  refine va_copyM (E0 := "java/lang/Object") (E1 := "java/lang/Object") C.1 C.2.1 (C.2.2.2.1.trans L.1.symm) C.2.2.2.2.1 (C.2.2.2.2.2.1 _ h1) (C.2.2.2.2.2.1 _ hq1) (C.2.2.2.2.2.1 _ hq2) (C.2.2.2.2.2.1 _ hq3) C.2.2.2.2.2.2.1.1 p1 p2 S q0 q1 9 9 he0 he1 rfl rfl g1 g2 g3 g4 g5 ?_ (by show 1 ≤ d; exact hdep) ?_ hd (fun H1 locs1 k1 k2 k3 => kk p l e s m args below meth c D dT A H1 locs1 ls C (g_Pic.set (e := .inl (9, n1, .inr (.inr (.inr (.inr (va_cpy f g sp.toNatClampNeg dp.toNatClampNeg z.toNatClampNeg)))))) he1 p2 p3 p4 k1 k2) k3 L)
  · intro i hi y hy
    obtain ⟨ci, q, fs, e1, e2, e3⟩ := hel i y hi hy
    obtain ⟨cell, c1, c2, c3⟩ := g_obj C.2.2.2.2.2.2.1.1 P' e1 e2
    obtain ⟨hfc, kC, hkC, -⟩ := (C.2.2.2.2.2.2.1.1.1 ci q e2).2
    have ec : cell.cls = D.1 ci := (Option.some.inj (hfc.symm.trans c3)).symm
    refine ⟨cell, c1, c2, ⟨kC, by rw [ec]; exact hkC⟩, fun comp hcomp => ?_⟩
    obtain ⟨c0, t0, f1, f2, f3⟩ := Cond.castable_spec (va_Nw.use (A := #[]) rfl (C.2.2.2.2.2.2.1.cast e3))
    have e4 : c0 = D.1 ci := Option.some.inj (f1.symm.trans hfc)
    have e5 : t0 = comp := Option.some.inj (f2.symm.trans hcomp)
    rw [ec, ← e4, ← e5]
    exact f3
  · have := Nat.le_of_ble_eq_true hroom
    show _ + (nativeFrameWords "java/lang/System" "arraycopy" 5 + 11) ≤ 40 * d
    have hw : nativeFrameWords "java/lang/System" "arraycopy" 5 ≤ 20 := by decide
    omega
end ROWS7
