/-! methods that throw out: their ends, their contracts, the throwing rows, and a call of such a method -/
set_option maxRecDepth 100000
/-- the method threw the exception at a; of its class and of the world then, Th -/
def g_Tw (D : va_G) (dT : Nat → ClassId) (t0 : Nat × Nat) (A : Nat → Prop) (Th : String → gH → Prop) (s t : State) (a mc ms : Nat) : Prop :=
  s.WarmedH t.vm ∧ (∃ L : List Loc, s.sameButNew ({ t with vm := s.vm } : State) L mc ms ∧ ∀ q ∈ L, A q.base) ∧ va_F A s t ∧ ∃ (cls : String) (cell : Cell) (σ' : gH), Th cls σ' ∧ σ'.1 = t0 ∧ g_Pic D dT A σ' t.heap ∧ t.heap[a]? = some cell ∧ cell.vm = .none ∧ s.vm.findClass cls = some cell.cls
def g_zt (K : Option Value → gH → Prop) (Th : String → gH → Prop) : gZ := fun below D dT t0 A args s mc ms t => MQ below (g_Q D dT t0 K A) args s mc ms A t ∨ ∃ a, t.status = .running ∧ Ended t below (.threw a) ∧ g_Tw D dT t0 A Th s t a mc ms
def CTX (M : gM) (d mc ms : Nat) (args : List Value) (σ : gH) (K : Option Value → gH → Prop) (Th : String → gH → Prop) : Prop :=
  ∀ (l : gL) (D : va_G) (dT : Nat → ClassId) (sz : Nat), MetFree l.1 M.1 (headSpec (g_ws M) (g_R d mc ms)) (va_Pc args (fun U => U.heap.size = sz ∧ g_Pic D dT (g_A σ sz) σ U.heap ∧ g_K D dT (g_A σ sz) σ.1 U)) (fun _ _ _ _ _ => True)
    (fun a st o t => (g_Q D dT σ.1 K (g_A σ sz) a st o t ∧ ∃ L, FrameEnd st o t L mc ms ∧ ∀ q ∈ L, g_A σ sz q.base) ∨ ∃ x, o = .threw x ∧ g_Tw D dT σ.1 (g_A σ sz) Th st t x mc ms)
theorem CTX.of {M : gM} {d mc ms : Nat} {args : List Value} {σ : gH} {K : Option Value → gH → Prop} {Th : String → gH → Prop} {lv : List (Nat × Value)} (hp : plainFor M.1 = true) (hn : Nat.ble (lg_sl args).length M.2.2.1 = true) (hl : lv_args 0 args = lv) (k : E M d mc ms (g_zt K Th) 0 0 0 lv [] σ) : CTX M d mc ms args σ K Th := by
  intro l D dT sz
  refine MetFree.of_bodySF (code := M.2.1) (maxLocals := M.2.2.1) (ret := M.2.2.2) hp ?_ ?_
  · intro args s m h hn
    obtain ⟨meth, c, h1, h2, h3, h4, h5, h6, -, -⟩ := Cond.code_spec hn (atoms_spec (ws := g_ws M) h _ List.mem_cons_self)
    exact ⟨meth, c, h1, h2, h3, h4, h5, h6⟩
  · intro p e s m args' below meth c s₁ B hml hP0 _
    obtain ⟨rfl, hsz, hP, hK⟩ := hP0
    have hh0 : s₁.heap = s.heap := by rw [B.state]; rfl
    have hts := atoms_spec (ws := g_ws M) B.pre
    have hts : ∀ w ∈ lw_all, w.before _ s = true := fun w h => hts w (List.mem_cons_of_mem _ h)
    have hin : meth.name = M.1.name := (name_of_methodNamed B.named B.method).1
    have hlv := lv_entry args (n := M.2.2.1) (Nat.le_of_ble_eq_true hn)
    subst hl
    have k2 := k p l e s m args.toArray below meth c D dT (g_A σ sz) s.heap [] _ ⟨B.exec, B.bytes, B.returns, hml, findClass_of_methodNamed B.named, hts, hK, B.notSynchronized, hin, fun q h => Or.inr (by omega), B.named, fun q cell hq hc => hP.plain (by
      rcases hq with h | h
      · exact h
      · exact absurd (Array.getElem?_eq_some_iff.mp hc).1 (by omega)) hc⟩ hP va_S.rf hlv
    rw [← lg_entry_eq] at k2
    obtain ⟨t, a1, b1⟩ := k2 s₁ hh0 (Stand.of_body B)
    rcases b1 with ⟨o, b1, b2, b3, b4⟩ | ⟨a, b1, b2, b3⟩
    · exact ⟨t, o, a1, b1, b2, Or.inl ⟨b3, b4⟩⟩
    · exact ⟨t, _, a1, b1, b2, Or.inr ⟨a, rfl, b3⟩⟩
section THR
variable {M : gM} {d mc ms uc us pc n : Nat} {K : Option Value → gH → Prop} {Th : String → gH → Prop} {lv : List (Nat × Value)} {st rest : List Value} {σ : gH}
theorem e_mono {K1 K2 : gZ} (h : ∀ below D dT t0 A args s mc ms t, K1.ap below D dT t0 A args s mc ms t → K2.ap below D dT t0 A args s mc ms t) (k : E M d mc ms K1 uc us pc lv st σ) : E M d mc ms K2 uc us pc lv st σ := by
  intro p l e s m args below meth c D dT A H locs ls C P S L T hT X
  obtain ⟨t, a1, b1⟩ := k p l e s m args below meth c D dT A H locs ls C P S L T hT X
  exact ⟨t, a1, h _ _ _ _ _ _ _ _ _ _ b1⟩
theorem e_ret (k : E M d mc ms (g_z K) uc us pc lv st σ) : E M d mc ms (g_zt K Th) uc us pc lv st σ := e_mono (fun _ _ _ _ _ _ _ _ _ _ h => Or.inl h) k
theorem g_gone {p : Program} {l : Launch} {e : Env} {s : State} {m : MethodId} {args : Array Value} {below : List Frame} {meth : Method} {c : Code} {D : va_G} {dT : Nat → ClassId} {A : Nat → Prop} {U : State} {locs : List Loc} {ls : Array Slot} {cells slots a : Nat} {cls : String} {cell : Cell} (C : g_Cx M D dT σ.1 p s m args meth c A) (X : Stand p l e (g_R d mc ms) s m args below meth c U locs cells slots) (hcode : Cond.code M.1 M.2.1 M.2.2.1 M.2.2.2 ∈ lw_all) (P : g_Pic D dT A σ U.heap) (S : va_S A s.heap U.heap locs) (hcell : U.heap[a]? = some cell) (hvm : cell.vm = .none) (hfc : s.vm.findClass cls = some cell.cls) (hth : Th cls σ) (h1 : cells ≤ mc) (h2 : slots ≤ ms) :
    ∃ t, Steps p.tables e below (g_thr U (F0 m pc ls rest) a) t ∧ (g_zt K Th).ap below D dT σ.1 A args s mc ms t := by
  obtain ⟨meth', c', h3, h4, -, -, -, -, hemp, -⟩ := Cond.code_spec C.2.2.2.2.2.2.2.2.2.2.1 (C.2.2.2.2.2.1 _ hcode)
  cases h3.symm.trans X.method
  cases h4.symm.trans X.code
  have hem : c.exceptionTable.toList = [] := by
    rw [Array.isEmpty_iff] at hemp
    rw [hemp]
  obtain ⟨w1, w2, w3, w4, w5⟩ := X.leaveThrown a (g := F0 m pc ls rest) rfl rfl rfl (by rw [hem]; intro x hx; cases hx) C.2.2.2.2.2.2.2.1
  refine ⟨_, w1, Or.inr ⟨a, w2, w3, w4, ⟨locs, w5.weaken (fun y hy _ => hy) h1 h2, S.2.2⟩, S.F rfl, cls, cell, σ, hth, rfl, P, hcell, hvm, hfc⟩⟩
theorem e_throwN (hcode : Cond.code M.1 M.2.1 M.2.2.1 M.2.2.2 ∈ lw_all) (R : g_RsN M d mc ms uc us pc lv st rest σ) (hu1 : uc + 1 ≤ mc) (hu2 : us + 8 ≤ ms) (hd : 300 ≤ d) (hroom : (rest.map fun v => v.category).sum ≤ 8) (hth : Th "java/lang/NullPointerException" σ) : E M d mc ms (g_zt K Th) uc us pc lv st σ := by
  intro p l e s m args below meth c D dT A H locs ls C P S L T hT X
  subst hT
  obtain ⟨vm', hW', st'⟩ := R p l e s m args below meth c D dT A T locs ls C P S L X
  have htr : e.platform.stackTraces = false := by rw [X.admits.platform]; exact l.2
  have X1 := X.noted hW'
  obtain ⟨U, LL, cell, X2, hL, hold, hcell, hfc, hvm, hst⟩ := g_npeAt X1 C.1 htr (g_atN C.2.2.2.2.2.1 C.2.2.2.2.2.2.1) (fun x hx cell hc => C.2.2.2.2.2.2.2.2.2.2.2 x.base cell (S.2.2 x hx) hc) (g := F0 m pc ls rest) rfl (L.1.trans C.2.2.2.1.symm) (by show 7 < d; omega) (by show 2 * 0 + (rest.map fun v => v.category).sum + 10240 ≤ 40 * d; omega) hu1 hu2
  have hz : T.heap.size ≤ U.heap.size := Nat.le_of_lt (Array.getElem?_eq_some_iff.mp hcell).1
  obtain ⟨t, a1, b1⟩ := g_gone (K := K) (Th := Th) (pc := pc) (ls := ls) (rest := rest) C X2 hcode (P.old hold) (S.grown C.2.2.2.2.2.2.2.2.2.1 hold hz (fun y hy => by rw [hL y hy]; exact Nat.le_refl _)) hcell hvm hfc hth hu1 hu2
  exact ⟨t, st' t (hst.trans a1), b1⟩
theorem e_throwM {cls : String} {names : List String} {B : Nat} (hat : ∀ {D : va_G} {dT : Nat → ClassId} {A : Nat → Prop} {t0 : Nat × Nat} {s : State} {args : Array Value}, (∀ w ∈ lw_all, w.before args s = true) → g_K D dT A t0 s → ∀ a ∈ Bundle.messageArmAtoms cls names, a.before args s = true) (hcls : Bundle.fit cls = true) (hnames : ∀ n ∈ names, Bundle.fit n = true) (hsoe : (cls == "java/lang/StackOverflowError") = false) (hoom : (cls == "java/lang/OutOfMemoryError") = false) (hlen : names.length ≤ 10) (hB : B ≤ 536870912)
    (hcode : Cond.code M.1 M.2.1 M.2.2.1 M.2.2.2 ∈ lw_all) (R : g_RsM M d mc ms uc us pc lv st rest σ cls B) (hu1 : uc + 3 ≤ mc) (hu2 : us + (B + 10) ≤ ms) (hd : 300 ≤ d) (hroom : (rest.map fun v => v.category).sum ≤ 8) (hth : Th cls σ) : E M d mc ms (g_zt K Th) uc us pc lv st σ := by
  intro p l e s m args below meth c D dT A H locs ls C P S L T hT X
  subst hT
  obtain ⟨vm', text, hW', htx, hsz, st'⟩ := R p l e s m args below meth c D dT A T locs ls C P S L X
  have htr : e.platform.stackTraces = false := by rw [X.admits.platform]; exact l.2
  have X1 := X.noted hW'
  obtain ⟨U, LL, cell, X2, hL, hold, hcell, hfc, hvm, hst⟩ := g_msgAt X1 C.1 htr hcls hnames hsoe hoom (hat C.2.2.2.2.2.1 C.2.2.2.2.2.2.1) (fun x hx cell hc => C.2.2.2.2.2.2.2.2.2.2.2 x.base cell (S.2.2 x hx) hc) htx (by omega) (g := F0 m pc ls rest) rfl (L.1.trans C.2.2.2.1.symm) (by show _ < d; omega) (by show 2 * 0 + (rest.map fun v => v.category).sum + 10240 ≤ 40 * d; omega) (by omega) hu1 (by show _ ≤ ms; omega)
  have hz : T.heap.size ≤ U.heap.size := by
    have h2 : T.heap.size + 2 < U.heap.size := (Array.getElem?_eq_some_iff.mp hcell).1
    omega
  obtain ⟨t, a1, b1⟩ := g_gone (K := K) (Th := Th) (pc := pc) (ls := ls) (rest := rest) C X2 hcode (P.old hold) (S.grown C.2.2.2.2.2.2.2.2.2.1 hold hz (fun y hy => by rw [hL y hy]; exact Nat.le_add_right _ _)) hcell hvm hfc hth hu1 (by omega)
  exact ⟨t, st' t (hst.trans a1), b1⟩
/-- System.arraycopy of int arrays that finds its source's places out of bounds -/
theorem e_throwC {idx a0 a n0 n1 : Nat} {f g : Nat → Int32} {sp dp z : Int32} (hcode : Cond.code M.1 M.2.1 M.2.2.1 M.2.2.2 ∈ lw_all) (h1 : Cond.methodLink M.1.cls idx arraycopyName ∈ lw_all) (hq1 : Cond.native arraycopyName ∈ lw_all) (hq2 : Cond.static arraycopyName ∈ lw_all) (hq3 : Cond.initialized "java/lang/System" ∈ lw_all) (ha0 : σ.2 a0 = some (.inl (0, n0, .inl f))) (ha1 : σ.2 a = some (.inl (0, n1, .inl g))) (g2 : ¬ dp < 0) (g3 : ¬ z < 0) (hN : n0 < 2147483648) (hout : sp < 0 ∨ (n0 : Int) < sp.toInt + z.toInt)
    (hd : decode M.2.1 pc = .ok (.invokestatic idx, 3)) (hu1 : uc + 3 ≤ mc) (hu2 : us + 410 ≤ ms) (hdd : 300 ≤ d) (hroom : (rest.map fun v => v.category).sum ≤ 8) (hth : Th "java/lang/ArrayIndexOutOfBoundsException" σ) : E M d mc ms (g_zt K Th) uc us pc lv (.int z :: .int dp :: .ref a :: .int sp :: .ref a0 :: rest) σ := by
  intro p l e s m args below meth c D dT A H locs ls C P S L T hT X
  subst hT
  have htr : e.platform.stackTraces = false := by rw [X.admits.platform]; exact l.2
  have hc0 := g_arr P ha0
  have hc1 := g_arr P ha1
  obtain ⟨k0, comp0, hk0, hk0'⟩ := (C.2.2.2.2.2.2.1.ty (t := 0) (ty := .int) rfl).2
  have hz0 : (vp_cell (dT 0) (n0, .inl f)).slots.size = n0 := by show (Array.ofFn _).size = n0; simp
  obtain ⟨U, LL, cell, k, hk, X2, hL, hold, hcell, hfc, hvm, hst⟩ := g_copyOut X C.1 htr (names := ["java/lang/IndexOutOfBoundsException", "java/lang/RuntimeException", "java/lang/Exception"]) (by decide) (by decide) (g_atI C.2.2.2.2.2.1 C.2.2.2.2.2.2.1) (fun x hx cell hc => C.2.2.2.2.2.2.2.2.2.2.2 x.base cell (S.2.2 x hx) hc) C.2.2.2.2.1 (C.2.2.2.2.2.1 _ h1) (C.2.2.2.2.2.1 _ hq1) (C.2.2.2.2.2.1 _ hq2) (C.2.2.2.2.2.1 _ hq3) (sp := sp) (dp := dp) (n := z) hc0 hc1 (g_cellcls _ _).2 (g_cellcls _ _).2 (by rw [(g_cellcls _ _).1]; exact hk0) (by rw [(g_cellcls _ _).1]; exact hk0) hk0' hk0' g2 g3 (by rw [hz0]; exact hN) (by rw [hz0]; exact hout) (pc := pc) (ls := ls) (L.1.trans C.2.2.2.1.symm) (rest := rest) (by rw [C.2.1]; exact hd) (by decide) (by show 40 ≤ d; omega) (by show _ ≤ 40 * d; omega) hu1 hu2
  have hz : T.heap.size ≤ U.heap.size := by
    have h2 : T.heap.size + 2 < U.heap.size := (Array.getElem?_eq_some_iff.mp hcell).1
    omega
  obtain ⟨t, a1, b1⟩ := g_gone (K := K) (Th := Th) (pc := pc) (ls := ls) (rest := rest) C X2 hcode (P.old hold) (S.grown C.2.2.2.2.2.2.2.2.2.1 hold hz (fun y hy => by rw [hL y hy]; exact Nat.le_add_right _ _)) hcell hvm hfc hth hu1 (by omega)
  exact ⟨t, hst.trans a1, b1⟩
end THR
