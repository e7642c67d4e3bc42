/-! rows of E: a step that throws, caught by a handler of the method's own -/
set_option maxRecDepth 100000
theorem g_Pic.old {D : va_G} {dT : Nat → ClassId} {A : Nat → Prop} {σ : gH} {H H1 : Heap} (P : g_Pic D dT A σ H) (h : ∀ q, q < H.size → H1[q]? = H[q]?) : g_Pic D dT A σ H1 := by
  obtain ⟨ws, g1, g2, g3, g4⟩ := P
  exact ⟨ws, fun k q hk => (g1 k q hk).kept (h q.1 (g1 k q hk).lt), g2, g3, g4⟩
theorem va_S.grown {A : Nat → Prop} {H0 H H1 : Heap} {locs L : List Loc} (S : va_S A H0 H locs) (hA : ∀ q, H0.size ≤ q → A q) (h : ∀ q, q < H.size → H1[q]? = H[q]?) (hz : H.size ≤ H1.size) (hL : ∀ y ∈ L, H.size ≤ y.base) : va_S A H0 H1 (locs ++ L) :=
  ⟨Nat.le_trans S.1 hz, fun q h1 h2 => (h q (Nat.lt_of_lt_of_le h1 S.1)).trans (S.2.1 q h1 h2), fun y hy => by
    rcases List.mem_append.mp hy with h | h
    · exact S.2.2 y h
    · exact hA _ (Nat.le_trans S.1 (hL y h))⟩
abbrev gHd : Type := Nat × Nat × Nat × Nat
abbrev g_ent (q : gHd) : ExceptionTableEntry := ⟨q.1, q.2.1, q.2.2.1, q.2.2.2⟩
/-- how the step at pc throws a NullPointerException -/
def g_RsN (M : gM) (d mc ms uc us pc : Nat) (lv : List (Nat × Value)) (st rest : List Value) (σ : gH) : Prop :=
  ∀ (p : Program) (l : gL) (e : Env) (s : State) (m : MethodId) (args : Array Value) (below : List Frame) (meth : Method) (c : Code) (D : va_G) (dT : Nat → ClassId) (A : Nat → Prop) (T : State) (locs : List Loc) (ls : Array Slot),
    g_Cx M D dT σ.1 p s m args meth c A → g_Pic D dT A σ T.heap → va_S A s.heap T.heap locs → lv_has ls M.2.2.1 lv → Stand p l.1 e (g_R d mc ms) s m args below meth c T locs uc us →
    ∃ vm' : Vm, s.WarmedH vm' ∧ ∀ target, Steps p.tables e below (((T.setVm vm').setTop (F0 m pc ls rest)).pushFrame (.throwNew "java/lang/NullPointerException" none none)) target → Steps p.tables e below (T.setTop (F0 m pc ls st)) target
/-- how the step at pc throws an exception with a message of at most B bytes -/
def g_RsM (M : gM) (d mc ms uc us pc : Nat) (lv : List (Nat × Value)) (st rest : List Value) (σ : gH) (cls : String) (B : Nat) : Prop :=
  ∀ (p : Program) (l : gL) (e : Env) (s : State) (m : MethodId) (args : Array Value) (below : List Frame) (meth : Method) (c : Code) (D : va_G) (dT : Nat → ClassId) (A : Nat → Prop) (T : State) (locs : List Loc) (ls : Array Slot),
    g_Cx M D dT σ.1 p s m args meth c A → g_Pic D dT A σ T.heap → va_S A s.heap T.heap locs → lv_has ls M.2.2.1 lv → Stand p l.1 e (g_R d mc ms) s m args below meth c T locs uc us →
    ∃ (vm' : Vm) (text : String), s.WarmedH vm' ∧ (text == notModelled) = false ∧ (stringBytes (stringToUtf16 text)).size ≤ B ∧ ∀ target, Steps p.tables e below (((T.setVm vm').setTop (F0 m pc ls rest)).pushFrame (.throwNew cls (some text) none)) target → Steps p.tables e below (T.setTop (F0 m pc ls st)) target
theorem g_table {M : gM} {hh : List gHd} {D : va_G} {dT : Nat → ClassId} {t0 : Nat × Nat} {p : Program} {l : Launch} {e : Env} {R : Room} {s : State} {m : MethodId} {args : Array Value} {below : List Frame} {meth : Method} {c : Code} {A : Nat → Prop} {T : State} {locs : List Loc} {cells slots : Nat} (C : g_Cx M D dT t0 p s m args meth c A) (X : Stand p l e R s m args below meth c T locs cells slots) (hcw : Cond.codeWith M.1 M.2.1 M.2.2.1 M.2.2.2 hh ∈ lw_all) : c.exceptionTable.toList = hh.map g_ent := by
  obtain ⟨m9, meth9, c9, h1, h2, h3, -, -, h4, -⟩ := Cond.codeWith_spec (C.2.2.2.2.2.1 _ hcw)
  cases h1.symm.trans C.2.2.2.2.2.2.2.2.2.2.1
  cases h2.symm.trans X.method
  cases h3.symm.trans X.code
  rw [← h4, List.map_map]
  exact (List.map_id' _).symm.trans (List.map_congr_left (fun x _ => by cases x; rfl))
section RAISE
variable {M : gM} {d mc ms uc us pc n : Nat} {K : gZ} {lv : List (Nat × Value)} {st rest : List Value} {σ : gH}
theorem e_catchN {hh : List gHd} {pre : List (gHd × String)} {hit : gHd × String} {post : List gHd} (hcw : Cond.codeWith M.1 M.2.1 M.2.2.1 M.2.2.2 hh ∈ lw_all) (hsp : hh = pre.map (fun q => q.1) ++ hit.1 :: post)
    (hpre : ∀ q ∈ pre, covers (g_ent q.1) pc = true ∧ q.1.2.2.2 ≠ 0 ∧ Cond.classLink M.1.cls q.1.2.2.2 q.2 ∈ lw_all ∧ Cond.not (.castable "java/lang/NullPointerException" q.2) ∈ flatC (Jvm.Cond.and given_1 narrow_1)) (hhit : covers (g_ent hit.1) pc = true ∧ hit.1.2.2.2 ≠ 0 ∧ Cond.classLink M.1.cls hit.1.2.2.2 hit.2 ∈ lw_all ∧ Cond.castable "java/lang/NullPointerException" hit.2 ∈ lw_tbl)
    (R : g_RsN M d mc ms uc us pc lv st rest σ) (hu1 : uc + 1 ≤ mc) (hu2 : us + 8 ≤ ms) (hd : 300 ≤ d) (hroom : (rest.map fun v => v.category).sum ≤ 8) (kk : ∀ q : Nat, E M d mc ms K (uc + 1) (us + 8) hit.1.2.2.1 lv [.ref q] σ) : E M d mc ms K uc us pc lv st σ := by
  intro p l e s m args below meth c D dT A H locs ls C P S L T hT X
  subst hT
  obtain ⟨vm', hW', st'⟩ := R p l e s m args below meth c D dT A T locs ls C P S L X
  have htr : e.platform.stackTraces = false := by rw [X.admits.platform]; exact l.2
  have X1 := X.noted hW'
  obtain ⟨U, LL, cell, X2, hL, hold, hcell, hfc, hvm, hst⟩ := g_npeAt X1 C.1 htr (g_atN C.2.2.2.2.2.1 C.2.2.2.2.2.2.1) (fun x hx cell hc => C.2.2.2.2.2.2.2.2.2.2.2 x.base cell (S.2.2 x hx) hc) (g := F0 m pc ls rest) rfl (L.1.trans C.2.2.2.1.symm) (by show 7 < d; omega) (by show 2 * 0 + (rest.map fun v => v.category).sum + 10240 ≤ 40 * d; omega) hu1 hu2
  obtain ⟨k0, hk0, -⟩ := g_fc hfc
  obtain ⟨vm2, hW2, st2⟩ := g_caught X2 C.2.2.2.2.1 (g := F0 m pc ls rest) rfl hcell hvm ⟨k0, hk0⟩ (pre.map (fun q => (g_ent q.1, q.2))) (g_ent hit.1, hit.2) (post.map g_ent) (by rw [g_table C X hcw, hsp]; simp)
    ⟨hhit.1, hhit.2.1, C.2.2.2.2.2.1 _ hhit.2.2.1, fun cY hY => C.2.2.2.2.2.2.1.yesCast hhit.2.2.2 hfc hY⟩ (fun q hq => by
      obtain ⟨y, hy, rfl⟩ := List.mem_map.mp hq
      obtain ⟨a1, a2, a3, a4⟩ := hpre y hy
      exact ⟨a1, a2, C.2.2.2.2.2.1 _ a3, fun cY hY => C.2.2.2.2.2.2.1.noCast a4 hfc hY⟩)
  have hz : T.heap.size ≤ U.heap.size := Nat.le_of_lt (Array.getElem?_eq_some_iff.mp hcell).1
  obtain ⟨t, a1, b1⟩ := kk T.heap.size p l e s m args below meth c D dT A U.heap (locs ++ LL) ls C (P.old hold) (S.grown C.2.2.2.2.2.2.2.2.2.1 hold hz (fun y hy => by rw [hL y hy]; exact Nat.le_refl _)) L (U.setVm vm2) rfl (X2.noted hW2)
  exact ⟨t, st' t (hst.trans (st2 t a1)), b1⟩
theorem e_catchM {cls : String} {names : List String} {B : Nat} {hh : List gHd} {pre : List (gHd × String)} {hit : gHd × String} {post : List gHd} (hat : ∀ {D : va_G} {dT : Nat → ClassId} {A : Nat → Prop} {t0 : Nat × Nat} {s : State} {args : Array Value}, (∀ w ∈ lw_all, w.before args s = true) → g_K D dT A t0 s → ∀ a ∈ Bundle.messageArmAtoms cls names, a.before args s = true) (hcls : Bundle.fit cls = true) (hnames : ∀ n ∈ names, Bundle.fit n = true) (hsoe : (cls == "java/lang/StackOverflowError") = false) (hoom : (cls == "java/lang/OutOfMemoryError") = false) (hlen : names.length ≤ 10) (hB : B ≤ 536870912)
    (hcw : Cond.codeWith M.1 M.2.1 M.2.2.1 M.2.2.2 hh ∈ lw_all) (hsp : hh = pre.map (fun q => q.1) ++ hit.1 :: post)
    (hpre : ∀ q ∈ pre, covers (g_ent q.1) pc = true ∧ q.1.2.2.2 ≠ 0 ∧ Cond.classLink M.1.cls q.1.2.2.2 q.2 ∈ lw_all ∧ Cond.not (.castable cls q.2) ∈ flatC (Jvm.Cond.and given_1 narrow_1)) (hhit : covers (g_ent hit.1) pc = true ∧ hit.1.2.2.2 ≠ 0 ∧ Cond.classLink M.1.cls hit.1.2.2.2 hit.2 ∈ lw_all ∧ Cond.castable cls hit.2 ∈ lw_tbl)
    (R : g_RsM M d mc ms uc us pc lv st rest σ cls B) (hu1 : uc + 3 ≤ mc) (hu2 : us + (B + 10) ≤ ms) (hd : 300 ≤ d) (hroom : (rest.map fun v => v.category).sum ≤ 8) (kk : ∀ q : Nat, E M d mc ms K (uc + 3) (us + (B + 10)) hit.1.2.2.1 lv [.ref q] σ) : E M d mc ms K uc us pc lv st σ := by
  intro p l e s m args below meth c D dT A H locs ls C P S L T hT X
  subst hT
  obtain ⟨vm', text, hW', htx, hsz, st'⟩ := R p l e s m args below meth c D dT A T locs ls C P S L X
  have htr : e.platform.stackTraces = false := by rw [X.admits.platform]; exact l.2
  have X1 := X.noted hW'
  obtain ⟨U, LL, cell, X2, hL, hold, hcell, hfc, hvm, hst⟩ := g_msgAt X1 C.1 htr hcls hnames hsoe hoom (hat C.2.2.2.2.2.1 C.2.2.2.2.2.2.1) (fun x hx cell hc => C.2.2.2.2.2.2.2.2.2.2.2 x.base cell (S.2.2 x hx) hc) htx (by omega) (g := F0 m pc ls rest) rfl (L.1.trans C.2.2.2.1.symm) (by show _ < d; omega) (by show 2 * 0 + (rest.map fun v => v.category).sum + 10240 ≤ 40 * d; omega) (by omega) hu1 (by show _ ≤ ms; omega)
  obtain ⟨k0, hk0, -⟩ := g_fc hfc
  obtain ⟨vm2, hW2, st2⟩ := g_caught X2 C.2.2.2.2.1 (g := F0 m pc ls rest) rfl hcell hvm ⟨k0, hk0⟩ (pre.map (fun q => (g_ent q.1, q.2))) (g_ent hit.1, hit.2) (post.map g_ent) (by rw [g_table C X hcw, hsp]; simp)
    ⟨hhit.1, hhit.2.1, C.2.2.2.2.2.1 _ hhit.2.2.1, fun cY hY => C.2.2.2.2.2.2.1.yesCast hhit.2.2.2 hfc hY⟩ (fun q hq => by
      obtain ⟨y, hy, rfl⟩ := List.mem_map.mp hq
      obtain ⟨a1, a2, a3, a4⟩ := hpre y hy
      exact ⟨a1, a2, C.2.2.2.2.2.1 _ a3, fun cY hY => C.2.2.2.2.2.2.1.noCast a4 hfc hY⟩)
  have hz : T.heap.size ≤ U.heap.size := by
    have := (Array.getElem?_eq_some_iff.mp hcell).1
    have h2 : T.heap.size + 2 < U.heap.size := this
    omega
  obtain ⟨t, a1, b1⟩ := W.widen (Nat.le_refl _) (show us + ((stringBytes (stringToUtf16 text)).size + 4 + 6) ≤ us + (B + 10) by omega) (kk (T.heap.size + 2) p l e s m args below meth c D dT A U.heap (locs ++ LL) ls C (P.old hold) (S.grown C.2.2.2.2.2.2.2.2.2.1 hold hz (fun y hy => by rw [hL y hy]; exact Nat.le_add_right _ _)) L) (U.setVm vm2) rfl (X2.noted hW2)
  exact ⟨t, st' t (hst.trans (st2 t a1)), b1⟩
end RAISE
