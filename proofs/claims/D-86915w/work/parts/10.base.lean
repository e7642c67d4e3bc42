/-! BASE: a method's world as a map from addresses to pure cells (gH); the judgement E of a walk over such a map, free of the machine's names; contracts CT -/
set_option maxRecDepth 100000
/-- a pure cell: an array (number of its type in g_tys, length and contents), or an object (number of its class in g_cl, fields) -/
abbrev gCell : Type := (Nat × vp_A) ⊕ (Nat × List Value)
/-- a world: the addresses of ArrayList's own empty array and of the class object of Object[] (they never change), and the cells -/
abbrev gH : Type := (Nat × Nat) × (Nat → Option gCell)
abbrev g_up (σ : gH) (a : Nat) (e : gCell) : gH := (σ.1, va_up σ.2 a (some e))
def g_e (dT : Nat → ClassId) (e : gCell) : va_E := match e with
  | .inl x => .inl (dT x.1, x.2)
  | .inr o => .inr o
abbrev g_cl : List vw_C := [(RX0, TX0, 24), (RX1, TX1, 2), (RX2, TX2, 1), (RX3, TX3, 56), (RX4, TX4, 5), (RX5, TX5, 4), (RX6, TX6, 4), (RX7, TX7, 13), (RX8, TX8, 6), (RX9, TX9, 7), (RX10, TX10, 8), (RX11, TX11, 11), (RX12, TX12, 8), (RX13, TX13, 10), (RX14, TX14, 9), (RX15, TX15, 12), (RX16, TX16, 2), (RX17, TX17, 1), (RJ2, TJ2, 3)]
abbrev g_tys (dT : Nat → ClassId) : List (ClassId × FieldType) := [(dT 0, .int), (dT 1, .long), (dT 2, .boolean), (dT 3, .array .int), (dT 4, .array .long), (dT 5, .array (.array .long)), (dT 6, .object "MendReader$Shelf"), (dT 7, .object "MendReader$Step"), (dT 8, .array (.object "MendReader$Step")), (dT 9, .object "java/lang/Object")]
/-- the heap holds the cells of σ, which are apart and of the kind A; no more is told -/
def g_Pic (D : va_G) (dT : Nat → ClassId) (A : Nat → Prop) (σ : gH) (H : Heap) : Prop :=
  ∃ ws : va_W, va_P D g_cl ws H ∧ va_D A ws ∧ (∀ (a : Nat) (e : gCell), σ.2 a = some e → ∃ k : Nat, ws[k]? = some (a, g_e dT e)) ∧ ∀ (k : Nat) (q : Nat × va_E), ws[k]? = some q → σ.2 q.1 ≠ none
def g_A (σ : gH) (sz : Nat) : Nat → Prop := fun q => σ.2 q ≠ none ∨ sz ≤ q
/-- what the Statement gives of the law's start: the tables' words, the premises -/
def g_S0 (s0 : State) (a0 : Array Value) : Prop := (∀ w ∈ lw_tbl, w.before a0 s0 = true) ∧ (Jvm.Cond.and given_1 narrow_1).before a0 s0 = true ∧ modulesRight_1 s0 = true
/-- what holds at every method's start: the classes' numbers; the law's start s0, since when no old cell has changed -/
def g_K (D : va_G) (dT : Nat → ClassId) (A : Nat → Prop) (t0 : Nat × Nat) (U : State) : Prop := va_K D g_cl (g_tys dT) U ∧
  ∃ (s0 : State) (a0 : Array Value), g_S0 s0 a0 ∧ va_Z "java/util/ArrayList" "DEFAULTCAPACITY_EMPTY_ELEMENTDATA" "[Ljava/lang/Object;" (.ref t0.1) (fun q => s0.heap.size ≤ q) s0 s0.heap ∧ va_Mi "[Ljava/lang/Object;" t0.2 s0 ∧ s0.WarmedH U.vm ∧ ∀ q : Nat, q < s0.heap.size → U.heap[q]? = s0.heap[q]? ∧ ¬ A q
abbrev gM : Type := MethodName × ByteArray × Nat × Option FieldType
def g_R (d mc ms : Nat) : Room := { frames := d, cells := mc, slots := ms, locals := 40 * d }
def g_Cx (M : gM) (D : va_G) (dT : Nat → ClassId) (t0 : Nat × Nat) (p : Program) (s : State) (m : MethodId) (args : Array Value) (meth : Method) (c : Code) (A : Nat → Prop) : Prop :=
  p.tables.exec = Jvm.exec ∧ c.code = M.2.1 ∧ meth.sig.returnType = M.2.2.2 ∧ c.maxLocals = M.2.2.1 ∧ s.vm.findClass M.1.cls = some m.cls ∧ (∀ w ∈ lw_all, w.before args s = true) ∧ g_K D dT A t0 s ∧ meth.locks = false ∧ meth.name = M.1.name ∧ (∀ q, s.heap.size ≤ q → A q) ∧ s.methodNamed? M.1 = some m ∧ ∀ (q : Nat) (cell : Cell), A q → s.heap[q]? = some cell → cell.vm.isStatics = false
def g_Q (D : va_G) (dT : Nat → ClassId) (t0 : Nat × Nat) (K : Option Value → gH → Prop) (A : Nat → Prop) : Array Value → State → Outcome → State → Prop :=
  fun _ st oc t => (∃ (r : Option Value) (σ : gH), oc = .returned r ∧ K r σ ∧ σ.1 = t0 ∧ g_Pic D dT A σ t.heap) ∧ va_F A st t
/-- launches without stack traces -/
abbrev gL : Type := { l : Launch // l.stackTraces = false }
/-- what a method's end is to be -/
def gZ : Type := List Frame → va_G → (Nat → ClassId) → Nat × Nat → (Nat → Prop) → Array Value → State → Nat → Nat → State → Prop
def g_z (K : Option Value → gH → Prop) : gZ := fun below D dT t0 A args s mc ms => MQ below (g_Q D dT t0 K A) args s mc ms A
def gZ.ap (K : gZ) (below : List Frame) (D : va_G) (dT : Nat → ClassId) (t0 : Nat × Nat) (A : Nat → Prop) (args : Array Value) (s : State) (mc ms : Nat) (t : State) : Prop := K below D dT t0 A args s mc ms t
/-- from the point pc of method M (locals lv, operands st, world σ; uc cells of us slots made so far, of at most mc and ms) the method comes to its end, with K of its answer and of the world then -/
def E (M : gM) (d mc ms : Nat) (K : gZ) (uc us pc : Nat) (lv : List (Nat × Value)) (st : List Value) (σ : gH) : Prop :=
  ∀ (p : Program) (l : gL) (e : Env) (s : State) (m : MethodId) (args : Array Value) (below : List Frame) (meth : Method) (c : Code) (D : va_G) (dT : Nat → ClassId) (A : Nat → Prop) (H : Heap) (locs : List Loc) (ls : Array Slot),
    g_Cx M D dT σ.1 p s m args meth c A → g_Pic D dT A σ H → va_S A s.heap H locs → lv_has ls M.2.2.1 lv →
    W p l.1 e (g_R d mc ms) s m args below meth c H locs uc us (K.ap below D dT σ.1 A args s mc ms) (F0 m pc ls st)
abbrev g_ws (M : gM) : List Cond := ws_ M.1 M.2.1 M.2.2.1 M.2.2.2
/-- a method's contract: called with args in any heap that holds σ, it returns, with K of its answer and of the world then; nothing else is changed -/
def CT (M : gM) (d mc ms : Nat) (args : List Value) (σ : gH) (K : Option Value → gH → Prop) : Prop :=
  ∀ (l : gL) (D : va_G) (dT : Nat → ClassId) (sz : Nat), Met l.1 M.1 (g_ws M) (g_R d mc ms) (va_Pc args (fun U => U.heap.size = sz ∧ g_Pic D dT (g_A σ sz) σ U.heap ∧ g_K D dT (g_A σ sz) σ.1 U)) (g_Q D dT σ.1 K (g_A σ sz)) mc ms (g_A σ sz)
theorem g_K.calling {D : va_G} {dT : Nat → ClassId} {A : Nat → Prop} {t0 : Nat × Nat} {U : State} (g : JFrame) (mk : MethodId) (a : Array Value) (h : g_K D dT A t0 U) : g_K D dT A t0 (U.calling g mk a) := ⟨va_K.moved (u := U) (U := U.calling g mk a) (Vm.Alike.refl U.vm) h.1, h.2⟩
theorem g_Pic.weaken {D : va_G} {dT : Nat → ClassId} {A B : Nat → Prop} {σ : gH} {H : Heap} (h : g_Pic D dT A σ H) (hAB : ∀ q, σ.2 q ≠ none → A q → B q) : g_Pic D dT B σ H := by
  obtain ⟨ws, h1, h2, h3, h4⟩ := h
  exact ⟨ws, h1, h2.weaken (fun k q hk hq => hAB q.1 (h4 k q hk) hq), h3, h4⟩
theorem g_Pic.in {D : va_G} {dT : Nat → ClassId} {A : Nat → Prop} {σ : gH} {H : Heap} (h : g_Pic D dT A σ H) {q : Nat} (hq : σ.2 q ≠ none) : A q ∧ q < H.size := by
  obtain ⟨ws, h1, h2, h3, h4⟩ := h
  cases he : σ.2 q with
  | none => exact absurd he hq
  | some e =>
    obtain ⟨k, hk⟩ := h3 q e he
    exact ⟨h2.2 k _ hk, (h1 k _ hk).lt⟩
theorem g_Pic.plain {D : va_G} {dT : Nat → ClassId} {A : Nat → Prop} {σ : gH} {H : Heap} (h : g_Pic D dT A σ H) {q : Nat} {cell : Cell} (hq : σ.2 q ≠ none) (hc : H[q]? = some cell) : cell.vm.isStatics = false := by
  obtain ⟨ws, h1, h2, h3, h4⟩ := h
  cases he : σ.2 q with
  | none => exact absurd he hq
  | some e =>
    obtain ⟨k, hk⟩ := h3 q e he
    have := h1 k _ hk
    cases e with
    | inl x =>
      have h5 : H[q]? = some (vp_cell (dT x.1) x.2) := this
      rw [h5] at hc
      cases hc
      obtain ⟨_, N, y⟩ := x
      rcases y with f | f | f | f | f <;> rfl
    | inr o =>
      obtain ⟨r, -, cell', g1, g2, g3, -⟩ := this
      rw [g1] at hc
      cases hc
      rw [g3]
      rfl
theorem g_K.callee {D : va_G} {dT : Nat → ClassId} {A : Nat → Prop} {σ : gH} {t0 : Nat × Nat} {s U : State} {H : Heap} {locs : List Loc} (h : g_K D dT A t0 s) (P : g_Pic D dT A σ H) (S : va_S A s.heap H locs) (hU : U.heap = H) (hW : s.WarmedH U.vm) : g_K D dT (g_A σ H.size) t0 U := by
  obtain ⟨h1, s0, a0, h2, h3, h6, h4, h5⟩ := h
  refine ⟨va_K.moved hW.alike h1, s0, a0, h2, h3, h6, h4.trans hW, fun q hq => ?_⟩
  obtain ⟨e1, e2⟩ := h5 q hq
  have hs : q < s.heap.size := by
    have : s0.heap[q]? = some s0.heap[q] := Array.getElem?_eq_getElem hq
    rw [this] at e1
    exact (Array.getElem?_eq_some_iff.mp e1).1
  refine ⟨by rw [hU, S.2.1 q hs e2]; exact e1, fun z => ?_⟩
  rcases z with z | z
  · exact e2 (P.in z).1
  · exact absurd (Nat.le_trans S.1 z) (by omega)
/-- a walk from the entry gives the contract -/
theorem CT.of {M : gM} {d mc ms : Nat} {args : List Value} {σ : gH} {K : Option Value → gH → Prop} {lv : List (Nat × Value)} (hp : plainFor M.1 = true) (hn : Nat.ble (lg_sl args).length M.2.2.1 = true) (hl : lv_args 0 args = lv)
    (k : E M d mc ms (g_z K) 0 0 0 lv [] σ) : CT M d mc ms args σ K := by
  intro l D dT sz
  refine va_MetF (cc := M.2.1) (maxL := M.2.2.1) (ret := M.2.2.2) hp rfl ?_
  intro p e s m args' below meth c s₁ B hml hv
  obtain ⟨rfl, hsz, hP, hK⟩ := hv
  have hts := atoms_spec (ws := g_ws M) B.pre
  have hts : ∀ w ∈ lw_all, w.before _ s = true := fun w h => hts w (List.mem_cons_of_mem _ h)
  have hin : meth.name = M.1.name := (name_of_methodNamed B.named B.method).1
  have hlv := lv_entry args (n := M.2.2.1) (Nat.le_of_ble_eq_true hn)
  rw [lg_entry_eq]
  subst hl
  exact k p l e s m args.toArray below meth c D dT (g_A σ sz) s.heap [] _ ⟨B.exec, B.bytes, B.returns, hml, findClass_of_methodNamed B.named, hts, hK, B.notSynchronized, hin, fun q h => Or.inr (by omega), B.named, fun q cell hq hc => hP.plain (by
    rcases hq with h | h
    · exact h
    · exact absurd (Array.getElem?_eq_some_iff.mp hc).1 (by omega)) hc⟩ hP va_S.rf hlv
section ROWS
variable {M : gM} {d mc ms uc us pc n : Nat} {K : gZ} {lv : List (Nat × Value)} {st : List Value} {σ : gH}
theorem e_iconst {z : Int} {v : Int32} (hd : decode M.2.1 pc = .ok (.iconst z, 1)) (hp : pc + 1 = n) (hv : Int32.ofInt z = v) (k : E M d mc ms K uc us n lv (.int v :: st) σ) : E M d mc ms K uc us pc lv st σ := by
  intro p l e s m args below meth c D dT A H locs ls C P S L
  subst hp
  exact lv_iconst C.1 C.2.1 hd hv (k p l e s m args below meth c D dT A H locs ls C P S L)
theorem e_bipush {z : Int} {v : Int32} (hd : decode M.2.1 pc = .ok (.bipush z, 2)) (hp : pc + 2 = n) (hv : (Int8.ofInt z).toInt32 = v) (k : E M d mc ms K uc us n lv (.int v :: st) σ) : E M d mc ms K uc us pc lv st σ := by
  intro p l e s m args below meth c D dT A H locs ls C P S L
  subst hp
  exact lv_bipush C.1 C.2.1 hd hv (k p l e s m args below meth c D dT A H locs ls C P S L)
theorem e_sipush {z : Int} {v : Int32} (hd : decode M.2.1 pc = .ok (.sipush z, 3)) (hp : pc + 3 = n) (hv : (Int16.ofInt z).toInt32 = v) (k : E M d mc ms K uc us n lv (.int v :: st) σ) : E M d mc ms K uc us pc lv st σ := by
  intro p l e s m args below meth c D dT A H locs ls C P S L
  subst hp
  exact lv_sipush C.1 C.2.1 hd hv (k p l e s m args below meth c D dT A H locs ls C P S L)
theorem e_lconst {z : Fin 2} {v : Int64} (hd : decode M.2.1 pc = .ok (.lconst z, 1)) (hp : pc + 1 = n) (hv : Int64.ofNat (z : Nat) = v) (k : E M d mc ms K uc us n lv (.long v :: st) σ) : E M d mc ms K uc us pc lv st σ := by
  intro p l e s m args below meth c D dT A H locs ls C P S L
  subst hp
  exact lv_lconst C.1 C.2.1 hd hv (k p l e s m args below meth c D dT A H locs ls C P S L)
theorem e_ldc {idx : Nat} {v : Int32} (hq : Jvm.Cond.constant M.1.cls idx v ∈ lw_all) (hd : decode M.2.1 pc = .ok (.ldc idx, 2)) (hp : pc + 2 = n) (k : E M d mc ms K uc us n lv (.int v :: st) σ) : E M d mc ms K uc us pc lv st σ := by
  intro p l e s m args below meth c D dT A H locs ls C P S L
  subst hp
  exact lv_ldc C.1 C.2.1 C.2.2.2.2.1 (C.2.2.2.2.2.1 _ hq) hd (k p l e s m args below meth c D dT A H locs ls C P S L)
theorem e_ldc2 {idx : Nat} {v : Int64} (hq : Jvm.Cond.constantLong M.1.cls idx v ∈ lw_all) (hd : decode M.2.1 pc = .ok (.ldc2_w idx, 3)) (hp : pc + 3 = n) (k : E M d mc ms K uc us n lv (.long v :: st) σ) : E M d mc ms K uc us pc lv st σ := by
  intro p l e s m args below meth c D dT A H locs ls C P S L
  subst hp
  exact lv_ldc2 C.1 C.2.1 C.2.2.2.2.1 (C.2.2.2.2.2.1 _ hq) hd (k p l e s m args below meth c D dT A H locs ls C P S L)
theorem e_null (hd : decode M.2.1 pc = .ok (.aconst_null, 1)) (hp : pc + 1 = n) (k : E M d mc ms K uc us n lv (.null :: st) σ) : E M d mc ms K uc us pc lv st σ := by
  intro p l e s m args below meth c D dT A H locs ls C P S L
  subst hp
  exact lv_null C.1 C.2.1 hd (k p l e s m args below meth c D dT A H locs ls C P S L)
theorem e_iload_n {z : Fin 4} {x : Int32} (hd : decode M.2.1 pc = .ok (.iload_n z, 1)) (hp : pc + 1 = n) (j : Nat) (hl : lv[j]? = some ((z : Nat), .int x)) (k : E M d mc ms K uc us n lv (.int x :: st) σ) : E M d mc ms K uc us pc lv st σ := by
  intro p l e s m args below meth c D dT A H locs ls C P S L
  subst hp
  exact lv_iload_n C.1 C.2.1 hd rfl (lv_at L j hl) (k p l e s m args below meth c D dT A H locs ls C P S L)
theorem e_iload {i : Nat} {x : Int32} (hd : decode M.2.1 pc = .ok (.iload i, 2)) (hp : pc + 2 = n) (j : Nat) (hl : lv[j]? = some (i, .int x)) (k : E M d mc ms K uc us n lv (.int x :: st) σ) : E M d mc ms K uc us pc lv st σ := by
  intro p l e s m args below meth c D dT A H locs ls C P S L
  subst hp
  exact lv_iload C.1 C.2.1 hd (lv_at L j hl) (k p l e s m args below meth c D dT A H locs ls C P S L)
theorem e_lload_n {z : Fin 4} {x : Int64} (hd : decode M.2.1 pc = .ok (.lload_n z, 1)) (hp : pc + 1 = n) (j : Nat) (hl : lv[j]? = some ((z : Nat), .long x)) (k : E M d mc ms K uc us n lv (.long x :: st) σ) : E M d mc ms K uc us pc lv st σ := by
  intro p l e s m args below meth c D dT A H locs ls C P S L
  subst hp
  exact lv_lload_n C.1 C.2.1 hd rfl (lv_at L j hl) (k p l e s m args below meth c D dT A H locs ls C P S L)
theorem e_lload {i : Nat} {x : Int64} (hd : decode M.2.1 pc = .ok (.lload i, 2)) (hp : pc + 2 = n) (j : Nat) (hl : lv[j]? = some (i, .long x)) (k : E M d mc ms K uc us n lv (.long x :: st) σ) : E M d mc ms K uc us pc lv st σ := by
  intro p l e s m args below meth c D dT A H locs ls C P S L
  subst hp
  exact lv_lload C.1 C.2.1 hd (lv_at L j hl) (k p l e s m args below meth c D dT A H locs ls C P S L)
theorem e_aload_n {z : Fin 4} {x : Nat} (hd : decode M.2.1 pc = .ok (.aload_n z, 1)) (hp : pc + 1 = n) (j : Nat) (hl : lv[j]? = some ((z : Nat), .ref x)) (k : E M d mc ms K uc us n lv (.ref x :: st) σ) : E M d mc ms K uc us pc lv st σ := by
  intro p l e s m args below meth c D dT A H locs ls C P S L
  subst hp
  exact lv_aload_n C.1 C.2.1 hd rfl (lv_at L j hl) (k p l e s m args below meth c D dT A H locs ls C P S L)
theorem e_aload {i : Nat} {x : Nat} (hd : decode M.2.1 pc = .ok (.aload i, 2)) (hp : pc + 2 = n) (j : Nat) (hl : lv[j]? = some (i, .ref x)) (k : E M d mc ms K uc us n lv (.ref x :: st) σ) : E M d mc ms K uc us pc lv st σ := by
  intro p l e s m args below meth c D dT A H locs ls C P S L
  subst hp
  exact lv_aload C.1 C.2.1 hd (lv_at L j hl) (k p l e s m args below meth c D dT A H locs ls C P S L)
/-- what a store leaves of the listed locals: one slot, two slots -/
abbrev g_s1 (i : Nat) (v : Value) (lv : List (Nat × Value)) : List (Nat × Value) := (i, v) :: lv.filter (fun q => !(q.1 == i) && !(q.1 + 1 == i && q.2.category == 2))
abbrev g_s2 (i : Nat) (v : Value) (lv : List (Nat × Value)) : List (Nat × Value) := (i, v) :: lv.filter (fun q => !(q.1 == i) && (!(q.1 == i + 1) && !(q.1 + 1 == i && q.2.category == 2)))
theorem e_istore_n {z : Fin 4} {x : Int32} {lv' : List (Nat × Value)} (ks : List Nat) (hd : decode M.2.1 pc = .ok (.istore_n z, 1)) (hp : pc + 1 = n) (hn : Nat.ble ((z : Nat) + 1) M.2.2.1 = true) (hl : lv_pick (g_s1 z (.int x) lv) ks = lv') (k : E M d mc ms K uc us n lv' st σ) : E M d mc ms K uc us pc lv (.int x :: st) σ := by
  intro p l e s m args below meth c D dT A H locs ls C P S L
  subst hp
  exact lv_istore_n C.1 C.2.1 hd rfl L (Nat.le_of_ble_eq_true hn) rfl (fun ls' L' => k p l e s m args below meth c D dT A H locs ls' C P S (lv_sub L' ks hl))
theorem e_istore {i : Nat} {x : Int32} {lv' : List (Nat × Value)} (ks : List Nat) (hd : decode M.2.1 pc = .ok (.istore i, 2)) (hp : pc + 2 = n) (hn : Nat.ble (i + 1) M.2.2.1 = true) (hl : lv_pick (g_s1 i (.int x) lv) ks = lv') (k : E M d mc ms K uc us n lv' st σ) : E M d mc ms K uc us pc lv (.int x :: st) σ := by
  intro p l e s m args below meth c D dT A H locs ls C P S L
  subst hp
  exact lv_istore C.1 C.2.1 hd L (Nat.le_of_ble_eq_true hn) rfl (fun ls' L' => k p l e s m args below meth c D dT A H locs ls' C P S (lv_sub L' ks hl))
theorem e_astore_n {z : Fin 4} {x : Nat} {lv' : List (Nat × Value)} (ks : List Nat) (hd : decode M.2.1 pc = .ok (.astore_n z, 1)) (hp : pc + 1 = n) (hn : Nat.ble ((z : Nat) + 1) M.2.2.1 = true) (hl : lv_pick (g_s1 z (.ref x) lv) ks = lv') (k : E M d mc ms K uc us n lv' st σ) : E M d mc ms K uc us pc lv (.ref x :: st) σ := by
  intro p l e s m args below meth c D dT A H locs ls C P S L
  subst hp
  exact lv_astore_n C.1 C.2.1 hd rfl L (Nat.le_of_ble_eq_true hn) rfl (fun ls' L' => k p l e s m args below meth c D dT A H locs ls' C P S (lv_sub L' ks hl))
theorem e_astore {i : Nat} {x : Nat} {lv' : List (Nat × Value)} (ks : List Nat) (hd : decode M.2.1 pc = .ok (.astore i, 2)) (hp : pc + 2 = n) (hn : Nat.ble (i + 1) M.2.2.1 = true) (hl : lv_pick (g_s1 i (.ref x) lv) ks = lv') (k : E M d mc ms K uc us n lv' st σ) : E M d mc ms K uc us pc lv (.ref x :: st) σ := by
  intro p l e s m args below meth c D dT A H locs ls C P S L
  subst hp
  exact lv_astore C.1 C.2.1 hd L (Nat.le_of_ble_eq_true hn) rfl (fun ls' L' => k p l e s m args below meth c D dT A H locs ls' C P S (lv_sub L' ks hl))
theorem e_lstore_n {z : Fin 4} {x : Int64} {lv' : List (Nat × Value)} (ks : List Nat) (hd : decode M.2.1 pc = .ok (.lstore_n z, 1)) (hp : pc + 1 = n) (hn : Nat.ble ((z : Nat) + 2) M.2.2.1 = true) (hl : lv_pick (g_s2 z (.long x) lv) ks = lv') (k : E M d mc ms K uc us n lv' st σ) : E M d mc ms K uc us pc lv (.long x :: st) σ := by
  intro p l e s m args below meth c D dT A H locs ls C P S L
  subst hp
  exact lv_lstore_n C.1 C.2.1 hd rfl L (Nat.le_of_ble_eq_true hn) rfl (fun ls' L' => k p l e s m args below meth c D dT A H locs ls' C P S (lv_sub L' ks hl))
theorem e_lstore {i : Nat} {x : Int64} {lv' : List (Nat × Value)} (ks : List Nat) (hd : decode M.2.1 pc = .ok (.lstore i, 2)) (hp : pc + 2 = n) (hn : Nat.ble (i + 2) M.2.2.1 = true) (hl : lv_pick (g_s2 i (.long x) lv) ks = lv') (k : E M d mc ms K uc us n lv' st σ) : E M d mc ms K uc us pc lv (.long x :: st) σ := by
  intro p l e s m args below meth c D dT A H locs ls C P S L
  subst hp
  exact lv_lstore C.1 C.2.1 hd L (Nat.le_of_ble_eq_true hn) rfl (fun ls' L' => k p l e s m args below meth c D dT A H locs ls' C P S (lv_sub L' ks hl))
theorem e_iinc {i : Nat} {z : Int} {x v : Int32} {lv' : List (Nat × Value)} (ks : List Nat) (hd : decode M.2.1 pc = .ok (.iinc i z, 3)) (hp : pc + 3 = n) (j : Nat) (hj : lv[j]? = some (i, .int x)) (hv : x + Int32.ofInt z = v) (hn : Nat.ble (i + 1) M.2.2.1 = true) (hl : lv_pick (g_s1 i (.int v) lv) ks = lv') (k : E M d mc ms K uc us n lv' st σ) : E M d mc ms K uc us pc lv st σ := by
  intro p l e s m args below meth c D dT A H locs ls C P S L
  subst hp
  exact lv_iinc C.1 C.2.1 hd L hj hv (Nat.le_of_ble_eq_true hn) rfl (fun ls' L' => k p l e s m args below meth c D dT A H locs ls' C P S (lv_sub L' ks hl))
theorem e_sub {lv' : List (Nat × Value)} (ks : List Nat) (hl : lv_pick lv ks = lv') (k : E M d mc ms K uc us pc lv' st σ) : E M d mc ms K uc us pc lv st σ := by
  intro p l e s m args below meth c D dT A H locs ls C P S L
  exact k p l e s m args below meth c D dT A H locs ls C P S (lv_sub L ks hl)
theorem e_goto {off : Int} (hd : decode M.2.1 pc = .ok (.goto off, 3)) (hp : (pc : Int) + off = (n : Int)) (k : E M d mc ms K uc us n lv st σ) : E M d mc ms K uc us pc lv st σ := by
  intro p l e s m args below meth c D dT A H locs ls C P S L
  exact lv_goto C.1 C.2.1 hd hp (k p l e s m args below meth c D dT A H locs ls C P S L)
theorem e_dup {v : Value} (hd : decode M.2.1 pc = .ok (.dup, 1)) (hp : pc + 1 = n) (hv : v.category = 1) (k : E M d mc ms K uc us n lv (v :: v :: st) σ) : E M d mc ms K uc us pc lv (v :: st) σ := by
  intro p l e s m args below meth c D dT A H locs ls C P S L
  subst hp
  exact lv_dup C.1 C.2.1 hd hv (k p l e s m args below meth c D dT A H locs ls C P S L)
theorem e_pop {v : Value} (hd : decode M.2.1 pc = .ok (.pop, 1)) (hp : pc + 1 = n) (hv : v.category = 1) (k : E M d mc ms K uc us n lv st σ) : E M d mc ms K uc us pc lv (v :: st) σ := by
  intro p l e s m args below meth c D dT A H locs ls C P S L
  subst hp
  exact lv_pop C.1 C.2.1 hd hv (k p l e s m args below meth c D dT A H locs ls C P S L)
theorem e_dup2_11 {v w : Value} (hd : decode M.2.1 pc = .ok (.dup2, 1)) (hp : pc + 1 = n) (hv : v.category = 1) (hw : w.category = 1) (k : E M d mc ms K uc us n lv (v :: w :: v :: w :: st) σ) : E M d mc ms K uc us pc lv (v :: w :: st) σ := by
  intro p l e s m args below meth c D dT A H locs ls C P S L
  subst hp
  exact lv_dup2_11 C.1 C.2.1 hd hv hw (k p l e s m args below meth c D dT A H locs ls C P S L)
theorem e_dup_x1 {v w : Value} (hd : decode M.2.1 pc = .ok (.dup_x1, 1)) (hp : pc + 1 = n) (hv : v.category = 1) (hw : w.category = 1) (k : E M d mc ms K uc us n lv (v :: w :: v :: st) σ) : E M d mc ms K uc us pc lv (v :: w :: st) σ := by
  intro p l e s m args below meth c D dT A H locs ls C P S L
  subst hp
  exact lv_dup_x1 C.1 C.2.1 hd hv hw (k p l e s m args below meth c D dT A H locs ls C P S L)
theorem e_topi {x : Int32} (k : ∀ y : Int32, y = x → E M d mc ms K uc us pc lv (.int y :: st) σ) : E M d mc ms K uc us pc lv (.int x :: st) σ := k x rfl
theorem e_topl {x : Int64} (k : ∀ y : Int64, y = x → E M d mc ms K uc us pc lv (.long y :: st) σ) : E M d mc ms K uc us pc lv (.long x :: st) σ := k x rfl
theorem e_lcmp {x y : Int64} (hd : decode M.2.1 pc = .ok (.lcmp, 1)) (hp : pc + 1 = n) (k : E M d mc ms K uc us n lv (.int (lg_cmp x y) :: st) σ) : E M d mc ms K uc us pc lv (.long y :: .long x :: st) σ := by
  intro p l e s m args below meth c D dT A H locs ls C P S L
  subst hp
  exact W.lcmp C.1 C.2.1 hd (k p l e s m args below meth c D dT A H locs ls C P S L)
theorem e_i2l {x : Int32} (hd : decode M.2.1 pc = .ok (.i2l, 1)) (hp : pc + 1 = n) (k : E M d mc ms K uc us n lv (.long x.toInt64 :: st) σ) : E M d mc ms K uc us pc lv (.int x :: st) σ := by
  intro p l e s m args below meth c D dT A H locs ls C P S L
  subst hp
  exact lv_i2l C.1 C.2.1 hd rfl (k p l e s m args below meth c D dT A H locs ls C P S L)
theorem e_l2i {x : Int64} (hd : decode M.2.1 pc = .ok (.l2i, 1)) (hp : pc + 1 = n) (k : E M d mc ms K uc us n lv (.int x.toInt32 :: st) σ) : E M d mc ms K uc us pc lv (.long x :: st) σ := by
  intro p l e s m args below meth c D dT A H locs ls C P S L
  subst hp
  exact lv_l2i C.1 C.2.1 hd rfl (k p l e s m args below meth c D dT A H locs ls C P S L)
end ROWS
