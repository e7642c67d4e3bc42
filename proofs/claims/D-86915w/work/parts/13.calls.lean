/-! BASE, calls -/
set_option maxRecDepth 100000
/-- what a call asks of a method's name: plain, na parameters, few locals -/
def g_ok (M : gM) (na : Nat) : Prop := plainFor M.1 = true ∧ M.1.cls ≠ "java/lang/invoke/MethodHandle" ∧ M.1.cls ≠ "java/lang/invoke/VarHandle" ∧ (parseMethodDescriptor M.1.desc).map (fun d => d.parameters.length) = some na ∧ M.2.2.1 ≤ 21
theorem g_blind {D : va_G} {dT : Nat → ClassId} {σ : gH} {sz : Nat} {args : List Value} : FrameBlind (va_Pc args (fun U => U.heap.size = sz ∧ g_Pic D dT (g_A σ sz) σ U.heap ∧ g_K D dT (g_A σ sz) σ.1 U)) := by
  intro a U g mk q
  obtain ⟨q0, q1, qP, qK⟩ := q
  exact ⟨q0, q1, qP, g_K.calling g mk a qK⟩
theorem g_pre {D : va_G} {dT : Nat → ClassId} {A : Nat → Prop} {σ : gH} {args : List Value} {H : Heap} {s : State} {locs : List Loc} (P : g_Pic D dT A σ H) (S : va_S A s.heap H locs) (hK : g_K D dT A σ.1 s) : ∀ U : State, U.heap = H → s.WarmedH U.vm → va_Pc args (fun U => U.heap.size = H.size ∧ g_Pic D dT (g_A σ H.size) σ U.heap ∧ g_K D dT (g_A σ H.size) σ.1 U) args.toArray U := by
  intro U hU hW
  exact ⟨rfl, by rw [hU], by rw [hU]; exact P.weaken (fun q hq _ => Or.inl hq), hK.callee P S hU hW⟩
section CALLS
variable {p : Program} {l : Launch} {e : Env} {R : Room} {s : State} {m : MethodId} {args : Array Value} {below : List Frame} {meth : Method} {c : Code} {H : Heap} {locs : List Loc} {cells slots : Nat} {Q : State → Prop}
theorem g_call {D : va_G} {dT : Nat → ClassId} {A : Nat → Prop} {σ : gH} {K' : Option Value → gH → Prop} {pc mc' ms' : Nat} {ls : Array Slot} {st0 rest : List Value} {a : Array Value}
    (hr : va_Run p l e R s m args below meth c H locs cells slots mc' ms' (F0 m pc ls st0) rest (g_Q D dT σ.1 K' (g_A σ H.size) a) (g_A σ H.size)) (P : g_Pic D dT A σ H) (S : va_S A s.heap H locs) (hA : ∀ q, s.heap.size ≤ q → A q)
    (kk : ∀ (r : Option Value) (σ' : gH) (H1 : Heap) (locs1 : List Loc), K' r σ' → σ'.1 = σ.1 → g_Pic D dT A σ' H1 → va_S A s.heap H1 locs1 → W p l e R s m args below meth c H1 locs1 (cells + mc') (slots + ms') Q (F0 m (pc + 3) ls (r.toList ++ rest))) : W p l e R s m args below meth c H locs cells slots Q (F0 m pc ls st0) := by
  have hsub : ∀ q, g_A σ H.size q → A q := by
    intro q h
    rcases h with h | h
    · exact (P.in h).1
    · exact hA q (Nat.le_trans S.1 h)
  intro T hT X
  obtain ⟨v, st₀, t, T', L, h0, X', hL, e1, e2, ⟨⟨r, σ', hv, hp, h01, hb⟩, hz, hk⟩, st⟩ := hr T hT X
  cases hv
  rw [h0] at hz hk
  obtain ⟨t2, a1, b1⟩ := kk v σ' T'.heap (locs ++ L) hp h01 (by rw [e1]; exact hb.weaken (fun q _ h => hsub q h))
    ⟨Nat.le_trans S.1 (by rw [e1]; exact hz), fun q h1 h2 => by rw [e1, hk q (Nat.lt_of_lt_of_le h1 S.1) (fun z => h2 (hsub q z))]; exact S.2.1 q h1 h2, fun q hq => by
      rcases List.mem_append.mp hq with h | h
      · exact S.2.2 q h
      · exact hsub _ (hL q h)⟩ T' rfl X'
  exact ⟨t2, st t2 a1, b1⟩
end CALLS
section ROWS4
variable {M : gM} {d mc ms uc us pc n : Nat} {K : gZ} {lv : List (Nat × Value)} {st : List Value} {σ : gH}
theorem g_room {d d' mc ms mc' ms' k : Nat} (h : d' + 1 ≤ d) (hk : k ≤ 21) : (g_R d' mc' ms').frames + 1 ≤ (g_R d mc ms).frames ∧ 8 + (k + 11) + (g_R d' mc' ms').locals ≤ (g_R d mc ms).locals := by
  refine ⟨h, ?_⟩
  show 8 + (k + 11) + 40 * d' ≤ 40 * d
  omega
/-- a call of an instance method of the receiver's own class -/
theorem e_callV {M' : gM} {d' mc' ms' idx na b ci N : Nat} {T : u_T} {C : String} {K' : Option Value → gH → Prop} {As st0 : List Value} {fs : List Value} (ok : g_ok M' na) (h1 : Cond.methodLink M.1.cls idx M'.1 ∈ lw_all) (h2 : Cond.instanceMethod M'.1 ∈ lw_all) (h3 : Cond.selects C M'.1 M'.1 ∈ lw_all) (h4 : Cond.initialized C ∈ lw_all) (h5 : Cond.code M'.1 M'.2.1 M'.2.2.1 M'.2.2.2 ∈ lw_all) (hC : M'.1.cls = C)
    (hb : σ.2 b = some (.inr (ci, fs))) (hc : g_cl[ci]? = some (C, T, N)) (hdep : d' + 1 ≤ d) (hu1 : uc + mc' ≤ mc) (hu2 : us + ms' ≤ ms) (hna : As.length = na) (hst : As.reverse ++ .ref b :: st = st0) (hroom : (st.map fun v => v.category).sum ≤ 8) (hd : decode M.2.1 pc = .ok (.invokevirtual idx, 3)) (hp : pc + 3 = n)
    (hM : CT M' d' mc' ms' (.ref b :: As) σ K') (kk : ∀ (r : Option Value) (σ' : gH), K' r σ' → E M d mc ms K (uc + mc') (us + ms') n lv (r.toList ++ st) σ') : E M d mc ms K uc us pc lv st0 σ := by
  intro p l e s m args below meth c D dT A H locs ls C' P S L
  subst hp
  subst hst
  have hrecv : ∃ cell : Cell, H[b]? = some cell ∧ cell.vm.isStatics = false ∧ s.vm.findClass C = some cell.cls := by
    obtain ⟨ws, g1, g2, g3, g4⟩ := P
    obtain ⟨q0, he⟩ := g3 b _ hb
    exact va_recv C'.2.2.2.2.2.2.1.1 g1 hc he
  refine g_call (va_runV (As := As) (rest := st) ⟨C'.1, C'.2.1, C'.2.2.2.1, C'.2.2.2.2.1, C'.2.2.2.2.2.1⟩ (hM l D dT H.size) (cwV na C'.2.2.2.2.2.1 (lw_V h1 h2 h3 h4 h5) rfl rfl rfl ⟨hC, ok.2.1, ok.2.2.1, ok.2.2.2.1⟩ (g_room hdep ok.2.2.2.2)) ⟨g_blind, hrecv, g_pre P S C'.2.2.2.2.2.2.1⟩ rfl hna L.1 rfl (lv_room hroom) hd ⟨hu1, hu2⟩) P S C'.2.2.2.2.2.2.2.2.2.1 (fun r σ' H1 locs1 q1 q0 q2 q3 => by rw [← q0]; rw [← q0] at C'; exact kk r σ' q1 p l e s m args below meth c D dT A H1 locs1 ls C' q2 q3 L)
/-- a call of a static method -/
theorem e_callS {M' : gM} {d' mc' ms' idx na : Nat} {K' : Option Value → gH → Prop} {As st0 : List Value} (ok : g_ok M' na) (h1 : Cond.methodLink M.1.cls idx M'.1 ∈ lw_all) (h2 : Cond.static M'.1 ∈ lw_all) (h4 : Cond.initialized M'.1.cls ∈ lw_all) (h5 : Cond.code M'.1 M'.2.1 M'.2.2.1 M'.2.2.2 ∈ lw_all)
    (hdep : d' + 1 ≤ d) (hu1 : uc + mc' ≤ mc) (hu2 : us + ms' ≤ ms) (hna : As.length = na) (hst : As.reverse ++ st = st0) (hroom : (st.map fun v => v.category).sum ≤ 8) (hd : decode M.2.1 pc = .ok (.invokestatic idx, 3)) (hp : pc + 3 = n)
    (hM : CT M' d' mc' ms' As σ K') (kk : ∀ (r : Option Value) (σ' : gH), K' r σ' → E M d mc ms K (uc + mc') (us + ms') n lv (r.toList ++ st) σ') : E M d mc ms K uc us pc lv st0 σ := by
  intro p l e s m args below meth c D dT A H locs ls C' P S L
  subst hp
  subst hst
  refine g_call (va_runS (As := As) (rest := st) ⟨C'.1, C'.2.1, C'.2.2.2.1, C'.2.2.2.2.1, C'.2.2.2.2.2.1⟩ (hM l D dT H.size) (va_cwS na C'.2.2.2.2.2.1 (lw_S h1 h2 h4 h5) rfl rfl rfl ⟨ok.2.1, ok.2.2.1, ok.2.2.2.1⟩ (g_room hdep ok.2.2.2.2)) ⟨g_blind, g_pre P S C'.2.2.2.2.2.2.1⟩ rfl hna L.1 rfl (lv_room hroom) hd ⟨hu1, hu2⟩) P S C'.2.2.2.2.2.2.2.2.2.1 (fun r σ' H1 locs1 q1 q0 q2 q3 => by rw [← q0]; rw [← q0] at C'; exact kk r σ' q1 p l e s m args below meth c D dT A H1 locs1 ls C' q2 q3 L)
/-- a constructor's call (new, or the superclass's) -/
theorem e_callI {M' : gM} {d' mc' ms' idx na b : Nat} {K' : Option Value → gH → Prop} {As st0 : List Value} (ok : g_ok M' na) (hy : M'.1.name = "<init>") (hret : M'.2.2.2 = none) (h1 : Cond.methodLink M.1.cls idx M'.1 ∈ lw_all) (h2 : Cond.instanceMethod M'.1 ∈ lw_all) (h4 : Cond.initialized M'.1.cls ∈ lw_all) (h5 : Cond.code M'.1 M'.2.1 M'.2.2.1 M'.2.2.2 ∈ lw_all)
    (hdep : d' + 1 ≤ d) (hu1 : uc + mc' ≤ mc) (hu2 : us + ms' ≤ ms) (hna : As.length = na) (hst : As.reverse ++ .ref b :: st = st0) (hroom : (st.map fun v => v.category).sum ≤ 8) (hd : decode M.2.1 pc = .ok (.invokespecial idx, 3)) (hp : pc + 3 = n)
    (hM : CT M' d' mc' ms' (.ref b :: As) σ K') (kk : ∀ (r : Option Value) (σ' : gH), K' r σ' → E M d mc ms K (uc + mc') (us + ms') n lv (r.toList ++ st) σ') : E M d mc ms K uc us pc lv st0 σ := by
  intro p l e s m args below meth c D dT A H locs ls C' P S L
  subst hp
  subst hst
  obtain ⟨y, bt, L', rt⟩ := M'
  subst hret
  refine g_call (va_runI (As := As) (rest := st) ⟨C'.1, C'.2.1, C'.2.2.2.1, C'.2.2.2.2.1, C'.2.2.2.2.2.1⟩ (hM l D dT H.size) (cwI na C'.2.2.2.2.2.1 (lw_meth h5) rfl rfl rfl (C'.2.2.2.2.2.1 _ h4) (C'.2.2.2.2.2.1 _ h1) (C'.2.2.2.2.2.1 _ h2) hy ⟨ok.2.1, ok.2.2.1, ok.2.2.2.1⟩ (g_room hdep ok.2.2.2.2)) ⟨g_blind, g_pre P S C'.2.2.2.2.2.2.1⟩ rfl hna L.1 rfl (lv_room hroom) hd ⟨hu1, hu2⟩) P S C'.2.2.2.2.2.2.2.2.2.1 (fun r σ' H1 locs1 q1 q0 q2 q3 => by rw [← q0]; rw [← q0] at C'; exact kk r σ' q1 p l e s m args below meth c D dT A H1 locs1 ls C' q2 q3 L)
/-- Object's constructor -/
theorem e_objInit {idx a : Nat} (h1 : Cond.methodLink M.1.cls idx Lib.objectInit ∈ lw_all) (h2 : Cond.instanceMethod Lib.objectInit ∈ lw_all) (h3 : Cond.code Lib.objectInit ⟨#[0xb1]⟩ 1 none ∈ lw_all) (hdep : 1 ≤ d) (hroom : (st.map fun v => v.category).sum ≤ 8) (hd : decode M.2.1 pc = .ok (.invokespecial idx, 3)) (hp : pc + 3 = n) (k : E M d mc ms K uc us n lv st σ) : E M d mc ms K uc us pc lv (.ref a :: st) σ := by
  intro p l e s m args below meth c D dT A H locs ls C P S L
  subst hp
  refine W.objInit C.1 C.2.1 C.2.2.2.2.1 (C.2.2.2.2.2.1 _ h1) (C.2.2.2.2.2.1 _ h2) (C.2.2.2.2.2.1 _ h3) rfl (L.1.trans C.2.2.2.1.symm) rfl hd (by show 1 ≤ d; exact hdep) ?_ (k p l e s m args below meth c D dT A H locs ls C P S L)
  have h := lv_room (m := m) (pc := pc) (ls := ls) (rest := .ref a :: st) hroom
  show _ + 12 ≤ 40 * d
  omega
theorem e_newa {at_ : ArrayType} {z : Int32} {t N : Nat} {a0 : vp_A} {ty : FieldType} (hq : Cond.arrayClass (newarray.typeOf at_) ∈ lw_all) (hty : newarray.typeOf at_ = ty) (ht : ∀ dT : Nat → ClassId, (g_tys dT)[t]? = some (dT t, ty)) (hob : ∀ C, ty ≠ .object C) (ha : ∀ cA : ClassId, vp_cell cA a0 = arrV cA N (fun _ => defaultValue ty)) (hn : ¬ z < 0) (hN : z.toNatClampNeg = N) (hbytes : N * componentBytes ty ≤ 536870912) (hu1 : uc + 1 ≤ mc) (hu2 : us + N ≤ ms) (hd : decode M.2.1 pc = .ok (.newarray at_, 2)) (hp : pc + 2 = n)
    (k : ∀ q : Nat, σ.2 q = none → E M d mc ms K (uc + 1) (us + N) n lv (.ref q :: st) (g_up σ q (.inl (t, a0)))) : E M d mc ms K uc us pc lv (.int z :: st) σ := by
  intro p l e s m args below meth c D dT A H locs ls C P S L
  subst hp
  obtain ⟨ws, g1, g2, g3, g4⟩ := P
  refine va_newa C.1 C.2.1 (C.2.2.2.2.2.1 _ hq) hty C.2.2.2.2.2.2.1.1 g1 g2 S C.2.2.2.2.2.2.2.2.2.1 ha hn hN hbytes hu1 hu2 hd (fun q cA H1 k1 k2 k3 k4 => ?_)
  have e1 : cA = dT t := by
    have a1 := (k1.2 (g_tys dT).length (cA, ty) (by simp)).2
    have a2 := (C.2.2.2.2.2.2.1.1.2 t (dT t, ty) (ht dT)).2
    cases ty with
    | object C => exact absurd rfl (hob C)
    | _ => exact Option.some.inj (a1.symm.trans a2)
  subst e1
  obtain ⟨f1, f2⟩ := g_Pic.push (e := .inl (t, a0)) g3 g4 k2 k3
  exact k q f1 p l e s m args below meth c D dT A H1 locs ls C f2 k4 L
theorem e_new {C : String} {T : u_T} {N ci idx : Nat} {fs : List Value} (ty : Nat → FieldType) (hty : ∀ k, k < N → parseFieldDescriptor (T k).2.2.1 = some (ty k)) (hin : ∀ w ∈ u_ws C T N, w ∈ lw_all) (hc : g_cl[ci]? = some (C, T, N)) (h1 : Cond.classLink M.1.cls idx C ∈ lw_all) (h2 : Cond.instantiable C N ∈ lw_all) (h3 : Cond.initialized C ∈ lw_all) (hfs : ∀ j, j < N → defaultValue (ty j) = vp_V fs j) (hu1 : uc + 1 ≤ mc) (hu2 : us + N ≤ ms) (hd : decode M.2.1 pc = .ok (.new idx, 3)) (hp : pc + 3 = n)
    (k : ∀ q : Nat, σ.2 q = none → E M d mc ms K (uc + 1) (us + N) n lv (.ref q :: st) (g_up σ q (.inr (ci, fs)))) : E M d mc ms K uc us pc lv st σ := by
  intro p l e s m args below meth c D dT A H locs ls C' P S L
  subst hp
  obtain ⟨ws, g1, g2, g3, g4⟩ := P
  refine va_new C'.1 C'.2.1 C'.2.2.2.2.2.1 hin ty hty C'.2.2.2.2.1 (C'.2.2.2.2.2.1 _ h1) (C'.2.2.2.2.2.1 _ h2) (C'.2.2.2.2.2.1 _ h3) C'.2.2.2.2.2.2.1.1 g1 g2 S C'.2.2.2.2.2.2.2.2.2.1 hc hfs hu1 hu2 hd (fun q H1 k2 k3 k4 => ?_)
  obtain ⟨f1, f2⟩ := g_Pic.push (e := .inr (ci, fs)) g3 g4 k2 k3
  exact k q f1 p l e s m args below meth c D dT A H1 locs ls C' f2 k4 L
theorem e_widen {uc' us' : Nat} (h1 : uc ≤ uc') (h2 : us ≤ us') (k : E M d mc ms K uc' us' pc lv st σ) : E M d mc ms K uc us pc lv st σ := by
  intro p l e s m args below meth c D dT A H locs ls C P S L
  exact W.widen h1 h2 (k p l e s m args below meth c D dT A H locs ls C P S L)
theorem e_tableIn {dflt lo hi : Int} {offs : Array Int} {len tgt : Nat} {x : Int32} {off : Int} (hd : decode M.2.1 pc = .ok (.tableswitch dflt lo hi offs, len)) (h1 : ¬ x.toInt < lo) (h2 : ¬ hi < x.toInt) (ho : offs[(x.toInt - lo).toNat]? = some off) (ht : (pc : Int) + off = (tgt : Int)) (k : E M d mc ms K uc us tgt lv st σ) : E M d mc ms K uc us pc lv (.int x :: st) σ := by
  intro p l e s m args below meth c D dT A H locs ls C P S L
  exact lv_tableIn C.1 C.2.1 hd h1 h2 ho ht (k p l e s m args below meth c D dT A H locs ls C P S L)
theorem e_tableOut {dflt lo hi : Int} {offs : Array Int} {len tgt : Nat} {x : Int32} (hd : decode M.2.1 pc = .ok (.tableswitch dflt lo hi offs, len)) (h : x.toInt < lo ∨ hi < x.toInt) (ht : (pc : Int) + dflt = (tgt : Int)) (k : E M d mc ms K uc us tgt lv st σ) : E M d mc ms K uc us pc lv (.int x :: st) σ := by
  intro p l e s m args below meth c D dT A H locs ls C P S L
  exact lv_tableOut C.1 C.2.1 hd h ht (k p l e s m args below meth c D dT A H locs ls C P S L)
end ROWS4
