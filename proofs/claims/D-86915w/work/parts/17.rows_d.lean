/-! BASE, rows for the component: stores of references, casts, calls of other kinds, the JDK's natives -/
set_option maxRecDepth 100000
section CALLS5
variable {p : Program} {l : Launch} {e : Env} {R : Room} {s : State} {m : MethodId} {args : Array Value} {below : List Frame} {meth : Method} {c : Code} {H : Heap} {locs : List Loc} {cells slots : Nat} {Q : State → Prop}
theorem g_call5 {D : va_G} {dT : Nat → ClassId} {A : Nat → Prop} {σ : gH} {K' : Option Value → gH → Prop} {pc mc' ms' : Nat} {ls : Array Slot} {st0 rest : List Value} {a : Array Value}
    (hr : va_Run5 p l e R s m args below meth c H locs cells slots mc' ms' (F0 m pc ls st0) rest (g_Q D dT σ.1 K' (g_A σ H.size) a) (g_A σ H.size)) (P : g_Pic D dT A σ H) (S : va_S A s.heap H locs) (hA : ∀ q, s.heap.size ≤ q → A q)
    (kk : ∀ (r : Option Value) (σ' : gH) (H1 : Heap) (locs1 : List Loc), K' r σ' → σ'.1 = σ.1 → g_Pic D dT A σ' H1 → va_S A s.heap H1 locs1 → W p l e R s m args below meth c H1 locs1 (cells + mc') (slots + ms') Q (F0 m (pc + 5) ls (r.toList ++ rest))) : W p l e R s m args below meth c H locs cells slots Q (F0 m pc ls st0) := by
  have hsub : ∀ q, g_A σ H.size q → A q := by
    intro q h
    rcases h with h | h
    · exact (P.in h).1
    · exact hA q (Nat.le_trans S.1 h)
  intro T hT X
  obtain ⟨v, st₀, t, T', L, h0, X', hL, e1, e2, ⟨⟨r, σ', hv, hp, h01, hb⟩, hz, hk⟩, st⟩ := hr T hT X
  cases hv
  rw [h0] at hz hk
  obtain ⟨t2, a1, b1⟩ := kk v σ' T'.heap (locs ++ L) hp h01 (by rw [e1]; exact hb.weaken (fun q _ h => hsub q h))
    ⟨Nat.le_trans S.1 (by rw [e1]; exact hz), fun q h1 h2 => by rw [e1, hk q (Nat.lt_of_lt_of_le h1 S.1) (fun z => h2 (hsub q z))]; exact S.2.1 q h1 h2, fun q hq => by
      rcases List.mem_append.mp hq with h | h
      · exact S.2.2 q h
      · exact hsub _ (hL q h)⟩ T' rfl X'
  exact ⟨t2, st t2 a1, b1⟩
end CALLS5
section ROWS6
variable {M : gM} {d mc ms uc us pc n : Nat} {K : gZ} {lv : List (Nat × Value)} {st : List Value} {σ : gH}
theorem e_gets {idx : Nat} (hlink : Cond.fieldLink M.1.cls idx "java/util/ArrayList" "DEFAULTCAPACITY_EMPTY_ELEMENTDATA" "[Ljava/lang/Object;" ∈ lw_all) (hd : decode M.2.1 pc = .ok (.getstatic idx, 3)) (hp : pc + 3 = n) (k : E M d mc ms K uc us n lv (.ref σ.1.1 :: st) σ) : E M d mc ms K uc us pc lv st σ := by
  intro p l e s m args below meth c D dT A H locs ls C P S L
  subst hp
  exact va_gets C.1 C.2.1 C.2.2.2.2.2.2.1.empty S C.2.2.2.2.1 (C.2.2.2.2.2.1 _ hlink) (fun x h => h) hd (k p l e s m args below meth c D dT A H locs ls C P S L)
theorem e_ldcM {idx : Nat} (hlink : Cond.classLink M.1.cls idx "[Ljava/lang/Object;" ∈ lw_all) (hd : decode M.2.1 pc = .ok (.ldc idx, 2)) (hp : pc + 2 = n) (k : E M d mc ms K uc us n lv (.ref σ.1.2 :: st) σ) : E M d mc ms K uc us pc lv st σ := by
  intro p l e s m args below meth c D dT A H locs ls C P S L
  subst hp
  exact va_ldcM C.1 C.2.1 C.2.2.2.2.1 (C.2.2.2.2.2.1 _ hlink) C.2.2.2.2.2.2.1.mirror hd (k p l e s m args below meth c D dT A H locs ls C P S L)
/-- an array's cell at the machine -/
theorem g_arr {D : va_G} {dT : Nat → ClassId} {A : Nat → Prop} {H : Heap} {a t : Nat} {x : vp_A} (P : g_Pic D dT A σ H) (ha : σ.2 a = some (.inl (t, x))) : H[a]? = some (vp_cell (dT t) x) := by
  obtain ⟨ws, h1, h2, h3, h4⟩ := P
  obtain ⟨q0, he⟩ := h3 a _ ha
  exact h1 q0 _ he
theorem g_obj {D : va_G} {dT : Nat → ClassId} {A : Nat → Prop} {H : Heap} {s : State} {a ci : Nat} {fs : List Value} {q : vw_C} (hK : va_K D g_cl (g_tys dT) s) (P : g_Pic D dT A σ H) (ha : σ.2 a = some (.inr (ci, fs))) (hc : g_cl[ci]? = some q) : ∃ cell : Cell, H[a]? = some cell ∧ cell.vm.isStatics = false ∧ s.vm.findClass q.1 = some cell.cls := by
  obtain ⟨ws, g1, g2, g3, g4⟩ := P
  obtain ⟨q0, he⟩ := g3 a _ ha
  exact va_recv hK g1 hc he
theorem g_cellcls (cA : ClassId) (x : vp_A) : (vp_cell cA x).cls = cA ∧ (vp_cell cA x).vm = .none := by
  obtain ⟨N, x⟩ := x
  rcases x with f | f | f | f | f <;> exact ⟨rfl, rfl⟩
theorem e_getC {idx a N : Nat} {x : (Nat → Int32) ⊕ (Nat → Int64) ⊕ (Nat → UInt32) ⊕ (Nat → UInt64) ⊕ (Nat → Option Nat)} (ha : σ.2 a = some (.inl (9, N, x))) (h1 : Cond.methodLink M.1.cls idx ⟨"java/lang/Object", "getClass", "()Ljava/lang/Class;"⟩ ∈ lw_all) (h2 : Cond.declares ⟨"java/lang/Object", "getClass", "()Ljava/lang/Class;"⟩ ∈ lw_tbl) (h3 : Cond.selects "[Ljava/lang/Object;" ⟨"java/lang/Object", "getClass", "()Ljava/lang/Class;"⟩ ⟨"java/lang/Object", "getClass", "()Ljava/lang/Class;"⟩ ∈ lw_all) (h4 : Cond.instanceMethod ⟨"java/lang/Object", "getClass", "()Ljava/lang/Class;"⟩ ∈ lw_all) (h5 : Cond.native ⟨"java/lang/Object", "getClass", "()Ljava/lang/Class;"⟩ ∈ lw_all)
    (hdep : 1 ≤ d) (hroom : Nat.ble (st.map fun v => v.category).sum 8 = true) (hd : decode M.2.1 pc = .ok (.invokevirtual idx, 3)) (hp : pc + 3 = n) (k : E M d mc ms K uc us n lv (.ref σ.1.2 :: st) σ) : E M d mc ms K uc us pc lv (.ref a :: st) σ := by
  intro p l e s m args below meth c D dT A H locs ls C P S L
  subst hp
  have hm := C.2.2.2.2.2.2.1.mirror
  refine va_getC C.1 C.2.1 (C.2.2.2.1.trans L.1.symm) C.2.2.2.2.1 (C.2.2.2.2.2.1 _ h1) (va_Nw.use rfl (C.2.2.2.2.2.2.1.decl h2)) (C.2.2.2.2.2.1 _ h3) (C.2.2.2.2.2.1 _ h4) (C.2.2.2.2.2.1 _ h5) hm ⟨_, g_arr P ha, by rw [(g_cellcls _ _).2]; rfl, ?_⟩ (by show 1 ≤ d; exact hdep) ?_ hd (k p l e s m args below meth c D dT A H locs ls C P S L)
  · rw [(g_cellcls _ _).1]
    exact va_nmO (C.2.2.2.2.2.2.1.1.2 9 (dT 9, .object "java/lang/Object") rfl).2 (by decide)
  · have := Nat.le_of_ble_eq_true hroom
    show _ + 14 ≤ 40 * d
    omega
theorem e_newq {C : String} {idx t N : Nat} {z : Int32} (hq : Cond.classLink M.1.cls idx C ∈ lw_all) (ho : Cond.arrayOver (.object C) ∈ lw_tbl) (ht : ∀ dT : Nat → ClassId, (g_tys dT)[t]? = some (dT t, .object C)) (hn : ¬ z < 0) (hN : z.toNatClampNeg = N) (hbytes : N * 4 ≤ 536870912) (hu1 : uc + 1 ≤ mc) (hu2 : us + N ≤ ms) (hd : decode M.2.1 pc = .ok (.anewarray idx, 3)) (hp : pc + 3 = n)
    (k : ∀ q : Nat, σ.2 q = none → E M d mc ms K (uc + 1) (us + N) n lv (.ref q :: st) (g_up σ q (.inl (t, N, .inr (.inr (.inr (.inr (fun _ => none)))))))) : E M d mc ms K uc us pc lv (.int z :: st) σ := by
  intro p l e s m args below meth c D dT A H locs ls C' P S L
  subst hp
  obtain ⟨ws, g1, g2, g3, g4⟩ := P
  refine va_newq C'.1 C'.2.1 C'.2.2.2.2.1 (C'.2.2.2.2.2.1 _ hq) (C'.2.2.2.2.2.2.1.over ho) C'.2.2.2.2.2.2.1.1 g1 g2 S C'.2.2.2.2.2.2.2.2.2.1 hn hN hbytes hu1 hu2 hd (fun q cA H1 k1 k2 k3 k4 => ?_)
  have e1 : cA = dT t := by
    obtain ⟨_, _, -, -, -, a1⟩ := (k1.2 (g_tys dT).length (cA, .object C) (by simp)).2
    obtain ⟨_, _, -, -, -, a2⟩ := (C'.2.2.2.2.2.2.1.1.2 t (dT t, .object C) (ht dT)).2
    exact Option.some.inj (a1.symm.trans a2)
  subst e1
  obtain ⟨f1, f2⟩ := g_Pic.push (e := .inl (t, N, .inr (.inr (.inr (.inr (fun _ => none)))))) g3 g4 k2 k3
  exact k q f1 p l e s m args below meth c D dT A H1 locs ls C' f2 k4 L
/-- a reference, or null, into an array of objects -/
theorem e_aastN {a t N : Nat} {f : Nat → Option Nat} {i : Int32} {C : String} (ht : ∀ dT : Nat → ClassId, (g_tys dT)[t]? = some (dT t, .object C)) (ha : σ.2 a = some (.inl (t, N, .inr (.inr (.inr (.inr f)))))) (hi : vp_in i N) (hd : decode M.2.1 pc = .ok (.aastore, 1)) (hp : pc + 1 = n) (kk : E M d mc ms K uc us n lv st (g_up σ a (.inl (t, N, .inr (.inr (.inr (.inr (va_up f i.toNatClampNeg none)))))))) : E M d mc ms K uc us pc lv (.null :: .int i :: .ref a :: st) σ := by
  intro p l e s m args below meth c D dT A H locs ls C' P S L
  subst hp
  obtain ⟨ws, h1, h2, h3, h4⟩ := P
  obtain ⟨q0, he⟩ := h3 a _ ha
  exact va_astqN C'.1 C'.2.1 C'.2.2.2.2.2.2.1.1 h1 h2 S q0 t he (ht dT) hi hd (fun H1 locs1 g1 g2 g3 => kk p l e s m args below meth c D dT A H1 locs1 ls C' (g_Pic.set (e := .inl (t, N, .inr (.inr (.inr (.inr (va_up f i.toNatClampNeg none)))))) he h2 h3 h4 g1 g2) g3 L)
theorem e_aastO {a t N v ci : Nat} {f : Nat → Option Nat} {i : Int32} {C : String} {q : vw_C} {vs : List Value} (ht : ∀ dT : Nat → ClassId, (g_tys dT)[t]? = some (dT t, .object C)) (hc : g_cl[ci]? = some q) (hw : q.1 = C ∨ Cond.castable q.1 C ∈ lw_tbl) (hv : σ.2 v = some (.inr (ci, vs))) (ha : σ.2 a = some (.inl (t, N, .inr (.inr (.inr (.inr f)))))) (hi : vp_in i N) (hd : decode M.2.1 pc = .ok (.aastore, 1)) (hp : pc + 1 = n) (kk : E M d mc ms K uc us n lv st (g_up σ a (.inl (t, N, .inr (.inr (.inr (.inr (va_up f i.toNatClampNeg (some v))))))))) : E M d mc ms K uc us pc lv (.ref v :: .int i :: .ref a :: st) σ := by
  intro p l e s m args below meth c D dT A H locs ls C' P S L
  subst hp
  obtain ⟨ws, h1, h2, h3, h4⟩ := P
  obtain ⟨q0, he⟩ := h3 a _ ha
  obtain ⟨q1, hv1⟩ := h3 v _ hv
  rcases hw with z | z
  · subst z
    exact va_astq C'.1 C'.2.1 C'.2.2.2.2.2.2.1.1 h1 h2 S q0 t q1 ci he (ht dT) hv1 hc hi hd (fun H1 locs1 g1 g2 g3 => kk p l e s m args below meth c D dT A H1 locs1 ls C' (g_Pic.set (e := .inl (t, N, .inr (.inr (.inr (.inr (va_up f i.toNatClampNeg (some v))))))) he h2 h3 h4 g1 g2) g3 L)
  · exact va_astqO C'.1 C'.2.1 C'.2.2.2.2.2.2.1.1 h1 h2 S q0 t q1 ci he (ht dT) (C'.2.2.2.2.2.2.1.cast z) hv1 hc hi hd (fun H1 locs1 g1 g2 g3 => kk p l e s m args below meth c D dT A H1 locs1 ls C' (g_Pic.set (e := .inl (t, N, .inr (.inr (.inr (.inr (va_up f i.toNatClampNeg (some v))))))) he h2 h3 h4 g1 g2) g3 L)
/-! casts -/
theorem e_castN {idx : Nat} (hd : decode M.2.1 pc = .ok (.checkcast idx, 3)) (hp : pc + 3 = n) (k : E M d mc ms K uc us n lv (.null :: st) σ) : E M d mc ms K uc us pc lv (.null :: st) σ := by
  intro p l e s m args below meth c D dT A H locs ls C P S L
  subst hp
  exact lv_castN C.1 C.2.1 hd (k p l e s m args below meth c D dT A H locs ls C P S L)
theorem e_castO {idx a ci : Nat} {nm : String} {q : vw_C} {fs : List Value} (hq : Cond.classLink M.1.cls idx nm ∈ lw_all) (hc : g_cl[ci]? = some q) (hw : q.1 = nm ∨ Cond.castable q.1 nm ∈ lw_tbl) (ha : σ.2 a = some (.inr (ci, fs))) (hd : decode M.2.1 pc = .ok (.checkcast idx, 3)) (hp : pc + 3 = n) (k : E M d mc ms K uc us n lv (.ref a :: st) σ) : E M d mc ms K uc us pc lv (.ref a :: st) σ := by
  intro p l e s m args below meth c D dT A H locs ls C P S L
  subst hp
  have hr := g_obj C.2.2.2.2.2.2.1.1 P ha hc
  rcases hw with z | z
  · subst z
    exact va_castS C.1 C.2.1 C.2.2.2.2.1 (C.2.2.2.2.2.1 _ hq) (C.2.2.2.2.2.2.1.1.1 ci q hc).2 hr hd (k p l e s m args below meth c D dT A H locs ls C P S L)
  · exact va_castY C.1 C.2.1 C.2.2.2.2.1 (C.2.2.2.2.2.1 _ hq) (C.2.2.2.2.2.2.1.cast z) hr hd (k p l e s m args below meth c D dT A H locs ls C P S L)
/-- an int array is an int array -/
theorem e_castI {idx a : Nat} {x : vp_A} (hq : Cond.classLink M.1.cls idx "[I" ∈ lw_all) (ha : σ.2 a = some (.inl (0, x))) (hd : decode M.2.1 pc = .ok (.checkcast idx, 3)) (hp : pc + 3 = n) (k : E M d mc ms K uc us n lv (.ref a :: st) σ) : E M d mc ms K uc us pc lv (.ref a :: st) σ := by
  intro p l e s m args below meth c D dT A H locs ls C P S L
  subst hp
  have P' := P
  obtain ⟨ws, h1, h2, h3, h4⟩ := P
  obtain ⟨q0, he⟩ := h3 a _ ha
  exact va_castA C.1 C.2.1 C.2.2.2.2.1 (C.2.2.2.2.2.1 _ hq) h1 q0 he (va_nm_int (C.2.2.2.2.2.2.1.1.2 0 (dT 0, .int) rfl).2) hd (k p l e s m args below meth c D dT A H locs ls C P' S L)
end ROWS6
