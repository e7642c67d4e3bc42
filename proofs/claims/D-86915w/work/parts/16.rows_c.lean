/-! BASE, rows that the component and the JDK's methods need besides -/
set_option maxRecDepth 100000
/-- a word of the start that isn't carried by the lists, at a later state -/
theorem g_K.nestF {D : va_G} {dT : Nat → ClassId} {A : Nat → Prop} {t0 : Nat × Nat} {s : State} (h : g_K D dT A t0 s) {a : String} {i : Nat} {b n d hh : String} (hw : Cond.fieldLinkNest a i b n d hh ∈ lw_tbl) {args : Array Value} : (Cond.fieldLinkNest a i b n d hh).before args s = true := by
  obtain ⟨-, s0, a0, h2, -, -, h4, -⟩ := h
  exact va_Nw.use rfl (va_Nw.warmF h4 (va_Nw.of rfl (h2.1 _ hw)))
theorem g_K.nestM {D : va_G} {dT : Nat → ClassId} {A : Nat → Prop} {t0 : Nat × Nat} {s : State} (h : g_K D dT A t0 s) {a : String} {i : Nat} {x : MethodName} {hh : String} (hw : Cond.methodLinkNest a i x hh ∈ lw_tbl) : va_Nw (Cond.methodLinkNest a i x hh) s := by
  obtain ⟨-, s0, a0, h2, -, -, h4, -⟩ := h
  exact va_Nw.warmM h4 (va_Nw.of rfl (h2.1 _ hw))
theorem g_K.cast {D : va_G} {dT : Nat → ClassId} {A : Nat → Prop} {t0 : Nat × Nat} {s : State} (h : g_K D dT A t0 s) {C T : String} (hw : Cond.castable C T ∈ lw_tbl) : va_Nw (Cond.castable C T) s := by
  obtain ⟨-, s0, a0, h2, -, -, h4, -⟩ := h
  exact va_Nw.warmC h4 (va_Nw.of rfl (h2.1 _ hw))
theorem g_K.decl {D : va_G} {dT : Nat → ClassId} {A : Nat → Prop} {t0 : Nat × Nat} {s : State} (h : g_K D dT A t0 s) {x : MethodName} (hw : Cond.declares x ∈ lw_tbl) : va_Nw (Cond.declares x) s := by
  obtain ⟨-, s0, a0, h2, -, -, h4, -⟩ := h
  exact va_Nw.warmD h4 (va_Nw.of rfl (h2.1 _ hw))
theorem g_K.over {D : va_G} {dT : Nat → ClassId} {A : Nat → Prop} {t0 : Nat × Nat} {s : State} (h : g_K D dT A t0 s) {C : String} (hw : Cond.arrayOver (.object C) ∈ lw_tbl) : va_AO C s := by
  obtain ⟨-, s0, a0, h2, -, -, h4, -⟩ := h
  exact va_AO.moved h4.alike (va_AO.of (h2.1 _ hw))
theorem g_K.face {D : va_G} {dT : Nat → ClassId} {A : Nat → Prop} {t0 : Nat × Nat} {s : State} (h : g_K D dT A t0 s) {C : String} {x y : MethodName} (hx : x.cls ≠ "java/lang/invoke/MethodHandle" ∧ x.cls ≠ "java/lang/invoke/VarHandle") (w1 : Cond.declares x ∈ lw_tbl) (w2 : Cond.interfaceMethod x.cls x.cls x.name x.desc ∈ lw_tbl) (w3 : Cond.publicMethod y ∈ lw_tbl) (w4 : Cond.unhidden C x.name x.desc ∈ lw_tbl) (w5 : Cond.castable C x.cls ∈ lw_tbl) : va_Fw C x y s := by
  obtain ⟨-, s0, a0, h2, -, -, h4, -⟩ := h
  exact va_Fw.moved hx h4.alike (va_Fw.of (h2.1 _ w1) (h2.1 _ w2) (h2.1 _ w3) (h2.1 _ w4) (h2.1 _ w5))
theorem g_K.empty {D : va_G} {dT : Nat → ClassId} {A : Nat → Prop} {t0 : Nat × Nat} {s : State} (h : g_K D dT A t0 s) : va_Z "java/util/ArrayList" "DEFAULTCAPACITY_EMPTY_ELEMENTDATA" "[Ljava/lang/Object;" (.ref t0.1) A s s.heap := by
  obtain ⟨-, s0, a0, -, h3, -, h4, h5⟩ := h
  obtain ⟨cf, kf, fi, f, a, cell, z1, z2, z3, z4, z5, z6, z7, z8⟩ := va_Z.moved h4.alike h3
  have ha : a < s0.heap.size := (Array.getElem?_eq_some_iff.mp z5).1
  exact ⟨cf, kf, fi, f, a, cell, z1, z2, z3, z4, by rw [(h5 a ha).1]; exact z5, z6, z7, (h5 a ha).2⟩
theorem g_K.mirror {D : va_G} {dT : Nat → ClassId} {A : Nat → Prop} {t0 : Nat × Nat} {s : State} (h : g_K D dT A t0 s) : va_Mi "[Ljava/lang/Object;" t0.2 s := by
  obtain ⟨-, s0, a0, -, -, h6, h4, -⟩ := h
  exact va_Mi.moved h4.alike h6
section ROWS5
variable {M : gM} {d mc ms uc us pc n : Nat} {K : gZ} {lv : List (Nat × Value)} {st : List Value} {σ : gH}
theorem e_aloadr_n {z : Fin 4} {r : Option Nat} (hd : decode M.2.1 pc = .ok (.aload_n z, 1)) (hp : pc + 1 = n) (j : Nat) (hl : lv[j]? = some ((z : Nat), va_rf r)) (k : E M d mc ms K uc us n lv (va_rf r :: st) σ) : E M d mc ms K uc us pc lv st σ := by
  intro p l e s m args below meth c D dT A H locs ls C P S L
  subst hp
  cases r with
  | none => exact lv_aload_nN C.1 C.2.1 hd rfl (lv_at L j hl) (k p l e s m args below meth c D dT A H locs ls C P S L)
  | some x => exact lv_aload_n C.1 C.2.1 hd rfl (lv_at L j hl) (k p l e s m args below meth c D dT A H locs ls C P S L)
theorem e_aloadr {i : Nat} {r : Option Nat} (hd : decode M.2.1 pc = .ok (.aload i, 2)) (hp : pc + 2 = n) (j : Nat) (hl : lv[j]? = some (i, va_rf r)) (k : E M d mc ms K uc us n lv (va_rf r :: st) σ) : E M d mc ms K uc us pc lv st σ := by
  intro p l e s m args below meth c D dT A H locs ls C P S L
  subst hp
  cases r with
  | none => exact lv_aloadN C.1 C.2.1 hd (lv_at L j hl) (k p l e s m args below meth c D dT A H locs ls C P S L)
  | some x => exact lv_aload C.1 C.2.1 hd (lv_at L j hl) (k p l e s m args below meth c D dT A H locs ls C P S L)
theorem e_astorer_n {z : Fin 4} {r : Option Nat} {lv' : List (Nat × Value)} (ks : List Nat) (hd : decode M.2.1 pc = .ok (.astore_n z, 1)) (hp : pc + 1 = n) (hn : Nat.ble ((z : Nat) + 1) M.2.2.1 = true) (hl : lv_pick (g_s1 z (va_rf r) lv) ks = lv') (k : E M d mc ms K uc us n lv' st σ) : E M d mc ms K uc us pc lv (va_rf r :: st) σ := by
  intro p l e s m args below meth c D dT A H locs ls C P S L
  subst hp
  cases r with
  | none => exact lv_astore_nN C.1 C.2.1 hd rfl L (Nat.le_of_ble_eq_true hn) rfl (fun ls' L' => k p l e s m args below meth c D dT A H locs ls' C P S (lv_sub L' ks hl))
  | some x => exact lv_astore_n C.1 C.2.1 hd rfl L (Nat.le_of_ble_eq_true hn) rfl (fun ls' L' => k p l e s m args below meth c D dT A H locs ls' C P S (lv_sub L' ks hl))
theorem e_astorer {i : Nat} {r : Option Nat} {lv' : List (Nat × Value)} (ks : List Nat) (hd : decode M.2.1 pc = .ok (.astore i, 2)) (hp : pc + 2 = n) (hn : Nat.ble (i + 1) M.2.2.1 = true) (hl : lv_pick (g_s1 i (va_rf r) lv) ks = lv') (k : E M d mc ms K uc us n lv' st σ) : E M d mc ms K uc us pc lv (va_rf r :: st) σ := by
  intro p l e s m args below meth c D dT A H locs ls C P S L
  subst hp
  cases r with
  | none => exact lv_astoreN C.1 C.2.1 hd L (Nat.le_of_ble_eq_true hn) rfl (fun ls' L' => k p l e s m args below meth c D dT A H locs ls' C P S (lv_sub L' ks hl))
  | some x => exact lv_astore C.1 C.2.1 hd L (Nat.le_of_ble_eq_true hn) rfl (fun ls' L' => k p l e s m args below meth c D dT A H locs ls' C P S (lv_sub L' ks hl))
theorem e_ifnull {r : Option Nat} {off : Int} {tgt : Nat} (hd : decode M.2.1 pc = .ok (.ifnull off, 3)) (hp : pc + 3 = n) (ht : (pc : Int) + off = (tgt : Int)) (kt : r = none → E M d mc ms K uc us tgt lv st σ) (kf : ¬ r = none → E M d mc ms K uc us n lv st σ) : E M d mc ms K uc us pc lv (va_rf r :: st) σ := by
  intro p l e s m args below meth c D dT A H locs ls C P S L
  subst hp
  cases r with
  | none => exact lv_ifnullN C.1 C.2.1 hd ht (kt rfl p l e s m args below meth c D dT A H locs ls C P S L)
  | some x => exact lv_ifnull C.1 C.2.1 hd (kf (fun z => by cases z) p l e s m args below meth c D dT A H locs ls C P S L)
theorem e_ifnonnull {r : Option Nat} {off : Int} {tgt : Nat} (hd : decode M.2.1 pc = .ok (.ifnonnull off, 3)) (hp : pc + 3 = n) (ht : (pc : Int) + off = (tgt : Int)) (kt : ¬ r = none → E M d mc ms K uc us tgt lv st σ) (kf : r = none → E M d mc ms K uc us n lv st σ) : E M d mc ms K uc us pc lv (va_rf r :: st) σ := by
  intro p l e s m args below meth c D dT A H locs ls C P S L
  subst hp
  cases r with
  | none => exact lv_ifnonnullN C.1 C.2.1 hd (kf rfl p l e s m args below meth c D dT A H locs ls C P S L)
  | some x => exact lv_ifnonnull C.1 C.2.1 hd ht (kt (fun z => by cases z) p l e s m args below meth c D dT A H locs ls C P S L)
theorem e_acmp_eq {rx ry : Option Nat} {off : Int} {tgt : Nat} (hd : decode M.2.1 pc = .ok (.if_acmp .eq off, 3)) (hp : pc + 3 = n) (ht : (pc : Int) + off = (tgt : Int)) (kt : rx = ry → E M d mc ms K uc us tgt lv st σ) (kf : ¬ rx = ry → E M d mc ms K uc us n lv st σ) : E M d mc ms K uc us pc lv (va_rf ry :: va_rf rx :: st) σ := by
  intro p l e s m args below meth c D dT A H locs ls C P S L
  subst hp
  exact lv_acmp_eq C.1 C.2.1 hd ht (fun h => kt h p l e s m args below meth c D dT A H locs ls C P S L) (fun h => kf h p l e s m args below meth c D dT A H locs ls C P S L)
theorem e_acmp_ne {rx ry : Option Nat} {off : Int} {tgt : Nat} (hd : decode M.2.1 pc = .ok (.if_acmp .ne off, 3)) (hp : pc + 3 = n) (ht : (pc : Int) + off = (tgt : Int)) (kt : ¬ rx = ry → E M d mc ms K uc us tgt lv st σ) (kf : rx = ry → E M d mc ms K uc us n lv st σ) : E M d mc ms K uc us pc lv (va_rf ry :: va_rf rx :: st) σ := by
  intro p l e s m args below meth c D dT A H locs ls C P S L
  subst hp
  exact lv_acmp_ne C.1 C.2.1 hd ht (fun h => kt h p l e s m args below meth c D dT A H locs ls C P S L) (fun h => kf h p l e s m args below meth c D dT A H locs ls C P S L)
theorem e_ishr {x y : Int32} (hd : decode M.2.1 pc = .ok (.ishr, 1)) (hp : pc + 1 = n) (k : E M d mc ms K uc us n lv (.int (x >>> (y &&& 31)) :: st) σ) : E M d mc ms K uc us pc lv (.int y :: .int x :: st) σ := by
  intro p l e s m args below meth c D dT A H locs ls C P S L
  subst hp
  exact lv_ishr C.1 C.2.1 hd (k p l e s m args below meth c D dT A H locs ls C P S L)
theorem e_getN {C ref host : String} {T : u_T} {N ci idx a : Nat} {fs : List Value} {v : Value} (k : Nat) (hin : ∀ w ∈ u_ws C T N, w ∈ lw_all) (hc : g_cl[ci]? = some (C, T, N)) (hk : Nat.ble (k + 1) N = true) (hlink : Cond.fieldLinkNest M.1.cls idx ref (T k).2.1 (T k).2.2.1 host ∈ lw_tbl) (hsame : ref = (T k).1)
    (ha : σ.2 a = some (.inr (ci, fs))) (hv : fs[k]? = some v) (hd : decode M.2.1 pc = .ok (.getfield idx, 3)) (hp : pc + 3 = n) (kk : E M d mc ms K uc us n lv (v :: st) σ) : E M d mc ms K uc us pc lv (.ref a :: st) σ := by
  intro p l e s m args below meth c D dT A H locs ls C' P S L
  subst hp
  obtain ⟨ws, h1, h2, h3, h4⟩ := P
  obtain ⟨q0, he⟩ := h3 a _ ha
  exact va_getN C'.1 C'.2.1 C'.2.2.2.2.2.1 hin C'.2.2.2.2.1 C'.2.2.2.2.2.2.1.1 h1 q0 he hc k (Nat.le_of_ble_eq_true hk) (C'.2.2.2.2.2.2.1.nestF hlink) (fun x h => by rw [hsame]; exact h) hv hd (kk p l e s m args below meth c D dT A H locs ls C' ⟨ws, h1, h2, h3, h4⟩ S L)
theorem e_putN {C ref host : String} {T : u_T} {N ci idx a : Nat} {fs : List Value} {v : Value} {ty : FieldType} (k : Nat) (ty0 : Nat → FieldType) (hty : ∀ k, k < N → parseFieldDescriptor (T k).2.2.1 = some (ty0 k)) (hnm : ∀ a, a < N → ∀ b, b < N → a ≠ b → (T a).2.1 ≠ (T b).2.1) (hin : ∀ w ∈ u_ws C T N, w ∈ lw_all) (hc : g_cl[ci]? = some (C, T, N)) (hk : Nat.ble (k + 1) N = true) (hlink : Cond.fieldLinkNest M.1.cls idx ref (T k).2.1 (T k).2.2.1 host ∈ lw_tbl) (hsame : ref = (T k).1) (hfin : (T k).2.2.2 = false)
    (hty1 : ty0 k = ty) (hn : narrow ty v = v) (hfit : fits ty v = true) (ha : σ.2 a = some (.inr (ci, fs))) (hl : k < fs.length) (hd : decode M.2.1 pc = .ok (.putfield idx, 3)) (hp : pc + 3 = n) (kk : E M d mc ms K uc us n lv st (g_up σ a (.inr (ci, fs.set k v)))) : E M d mc ms K uc us pc lv (v :: .ref a :: st) σ := by
  intro p l e s m args below meth c D dT A H locs ls C' P S L
  subst hp
  subst hty1
  obtain ⟨ws, h1, h2, h3, h4⟩ := P
  obtain ⟨q0, he⟩ := h3 a _ ha
  exact va_putN C'.1 C'.2.1 C'.2.2.2.2.2.1 hin ty0 hty hnm C'.2.2.2.2.1 C'.2.2.2.2.2.2.1.1 h1 h2 S q0 he hc k (Nat.le_of_ble_eq_true hk) (C'.2.2.2.2.2.2.1.nestF hlink) (fun x h => by rw [hsame]; exact h) hfin (hty k (Nat.le_of_ble_eq_true hk)) hn hfit hl hd (fun H1 locs1 g1 g2 g3 => kk p l e s m args below meth c D dT A H1 locs1 ls C' (g_Pic.set (e := .inr (ci, fs.set k v)) he h2 h3 h4 g1 g2) g3 L)
theorem e_alen {a t N : Nat} {x : (Nat → Int32) ⊕ (Nat → Int64) ⊕ (Nat → UInt32) ⊕ (Nat → UInt64) ⊕ (Nat → Option Nat)} {ty : FieldType} (ht : ∀ dT : Nat → ClassId, (g_tys dT)[t]? = some (dT t, ty)) (ha : σ.2 a = some (.inl (t, N, x))) (hd : decode M.2.1 pc = .ok (.arraylength, 1)) (hp : pc + 1 = n) (kk : E M d mc ms K uc us n lv (.int (nI N) :: st) σ) : E M d mc ms K uc us pc lv (.ref a :: st) σ := by
  intro p l e s m args below meth c D dT A H locs ls C' P S L
  subst hp
  obtain ⟨ws, h1, h2, h3, h4⟩ := P
  obtain ⟨q0, he⟩ := h3 a _ ha
  exact va_alen (v := nI N) C'.1 C'.2.1 C'.2.2.2.2.2.2.1.1 h1 q0 t he (ht dT) rfl hd (kk p l e s m args below meth c D dT A H locs ls C' ⟨ws, h1, h2, h3, h4⟩ S L)
theorem e_aald {a t N : Nat} {f : Nat → Option Nat} {i : Int32} {ty : FieldType} (ht : ∀ dT : Nat → ClassId, (g_tys dT)[t]? = some (dT t, ty)) (hr : ty.isReference = true) (ha : σ.2 a = some (.inl (t, N, .inr (.inr (.inr (.inr f)))))) (hi : vp_in i N) (hd : decode M.2.1 pc = .ok (.aaload, 1)) (hp : pc + 1 = n) (kk : E M d mc ms K uc us n lv (va_rf (f i.toNatClampNeg) :: st) σ) : E M d mc ms K uc us pc lv (.int i :: .ref a :: st) σ := by
  intro p l e s m args below meth c D dT A H locs ls C' P S L
  subst hp
  have P' := P
  obtain ⟨ws, h1, h2, h3, h4⟩ := P
  obtain ⟨q0, he⟩ := h3 a _ ha
  have hlt : i.toNatClampNeg < N := Nat.not_le.mp fun q => hi (Or.inr q)
  have hcell := h1 q0 _ he
  refine W.aald (v := va_rf (f i.toNatClampNeg)) C'.1 C'.2.1 hcell ((C'.2.2.2.2.2.2.1.1.2 t _ (ht dT)).1 N (fun j => va_rf (f j))) hr ?_ ?_ ?_ rfl rfl hd (kk p l e s m args below meth c D dT A H locs ls C' P' S L)
  · exact fun h => by cases h
  · show ¬ (i < 0 ∨ (vp_cell (dT t) (N, .inr (.inr (.inr (.inr f))))).slots.size ≤ i.toNatClampNeg)
    rw [vp_cell_q, arrV_size]
    exact hi
  · show (vp_cell (dT t) (N, .inr (.inr (.inr (.inr f))))).slots[i.toNatClampNeg]? = _
    rw [vp_cell_q]
    exact arrV_read _ _ hlt
end ROWS5
