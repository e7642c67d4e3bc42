/-! BASE, rows of the heap, calls, ends -/
set_option maxRecDepth 100000
/-- one cell of the world changes -/
theorem g_Pic.set {D : va_G} {dT : Nat → ClassId} {A : Nat → Prop} {σ : gH} {H1 : Heap} {ws : va_W} {a k : Nat} {e0 : va_E} {e : gCell} (hk : ws[k]? = some (a, e0)) (hD : va_D A ws) (h3 : ∀ (a : Nat) (e : gCell), σ.2 a = some e → ∃ k : Nat, ws[k]? = some (a, g_e dT e)) (h4 : ∀ (k : Nat) (q : Nat × va_E), ws[k]? = some q → σ.2 q.1 ≠ none)
    (hP1 : va_P D g_cl (ws.set k (a, g_e dT e)) H1) (hD1 : va_D A (ws.set k (a, g_e dT e))) : g_Pic D dT A (g_up σ a e) H1 := by
  have hl := (List.getElem?_eq_some_iff.mp hk).1
  refine ⟨_, hP1, hD1, fun b f hf => ?_, fun j q hj => ?_⟩
  · change va_up σ.2 a (some e) b = some f at hf
    by_cases hb : b = a
    · subst hb
      rw [va_up_self] at hf
      cases hf
      exact ⟨k, List.getElem?_set_self hl⟩
    · rw [va_up_ne _ _ hb] at hf
      obtain ⟨j, hj⟩ := h3 b f hf
      have hjk : j ≠ k := fun z => hb (by rw [z, hk] at hj; cases hj; rfl)
      exact ⟨j, by rw [List.getElem?_set_ne (Ne.symm hjk)]; exact hj⟩
  · by_cases hjk : j = k
    · subst hjk
      rw [List.getElem?_set_self hl] at hj
      cases hj
      show va_up σ.2 a (some e) a ≠ none
      rw [va_up_self]
      exact fun z => by cases z
    · rw [List.getElem?_set_ne (Ne.symm hjk)] at hj
      have hq := h4 j q hj
      show va_up σ.2 a (some e) q.1 ≠ none
      by_cases hb : q.1 = a
      · rw [hb, va_up_self]
        exact fun z => by cases z
      · rw [va_up_ne _ _ hb]
        exact hq
/-- a new cell -/
theorem g_Pic.push {D : va_G} {dT : Nat → ClassId} {A : Nat → Prop} {σ : gH} {H1 : Heap} {ws : va_W} {a : Nat} {e : gCell} (h3 : ∀ (a : Nat) (e : gCell), σ.2 a = some e → ∃ k : Nat, ws[k]? = some (a, g_e dT e)) (h4 : ∀ (k : Nat) (q : Nat × va_E), ws[k]? = some q → σ.2 q.1 ≠ none)
    (hP1 : va_P D g_cl (ws ++ [(a, g_e dT e)]) H1) (hD1 : va_D A (ws ++ [(a, g_e dT e)])) : σ.2 a = none ∧ g_Pic D dT A (g_up σ a e) H1 := by
  have hn : σ.2 a = none := by
    cases he : σ.2 a with
    | none => rfl
    | some f =>
      obtain ⟨k, hk⟩ := h3 a f he
      have hl := (List.getElem?_eq_some_iff.mp hk).1
      have := hD1.1 k ws.length (a, g_e dT f) (a, g_e dT e) (by rw [List.getElem?_append_left hl]; exact hk) (by simp) rfl
      omega
  refine ⟨hn, _, hP1, hD1, fun b f hf => ?_, fun j q hj => ?_⟩
  · change va_up σ.2 a (some e) b = some f at hf
    by_cases hb : b = a
    · subst hb
      rw [va_up_self] at hf
      cases hf
      exact ⟨ws.length, by simp⟩
    · rw [va_up_ne _ _ hb] at hf
      obtain ⟨j, hj⟩ := h3 b f hf
      exact ⟨j, by rw [List.getElem?_append_left (List.getElem?_eq_some_iff.mp hj).1]; exact hj⟩
  · by_cases hl : j < ws.length
    · rw [List.getElem?_append_left hl] at hj
      have hq := h4 j q hj
      show va_up σ.2 a (some e) q.1 ≠ none
      by_cases hb : q.1 = a
      · rw [hb, va_up_self]
        exact fun z => by cases z
      · rw [va_up_ne _ _ hb]
        exact hq
    · rw [List.getElem?_append_right (by omega)] at hj
      have hz : j - ws.length < 1 := (List.getElem?_eq_some_iff.mp hj).1
      rw [show j - ws.length = 0 by omega] at hj
      cases hj
      show va_up σ.2 a (some e) a ≠ none
      rw [va_up_self]
      exact fun z => by cases z
section ROWS3
variable {M : gM} {d mc ms uc us pc n : Nat} {K : gZ} {lv : List (Nat × Value)} {st : List Value} {σ : gH}
/-- the class's words, and its field k under the name ref -/
theorem e_get {C ref : String} {T : u_T} {N ci idx a : Nat} {fs : List Value} {v : Value} (k : Nat) (hin : ∀ w ∈ u_ws C T N, w ∈ lw_all) (hc : g_cl[ci]? = some (C, T, N)) (hk : Nat.ble (k + 1) N = true) (hlink : Cond.fieldLink M.1.cls idx ref (T k).2.1 (T k).2.2.1 ∈ lw_all) (hsame : ref = (T k).1 ∨ Cond.sameField ref (T k).1 (T k).2.1 (T k).2.2.1 ∈ lw_all)
    (ha : σ.2 a = some (.inr (ci, fs))) (hv : fs[k]? = some v) (hd : decode M.2.1 pc = .ok (.getfield idx, 3)) (hp : pc + 3 = n) (kk : E M d mc ms K uc us n lv (v :: st) σ) : E M d mc ms K uc us pc lv (.ref a :: st) σ := by
  intro p l e s m args below meth c D dT A H locs ls C' P S L
  subst hp
  obtain ⟨ws, h1, h2, h3, h4⟩ := P
  obtain ⟨q0, he⟩ := h3 a _ ha
  refine va_get C'.1 C'.2.1 C'.2.2.2.2.2.1 hin C'.2.2.2.2.1 C'.2.2.2.2.2.2.1.1 h1 q0 he hc k (Nat.le_of_ble_eq_true hk) (C'.2.2.2.2.2.1 _ hlink) ?_ hv hd (kk p l e s m args below meth c D dT A H locs ls C' ⟨ws, h1, h2, h3, h4⟩ S L)
  rcases hsame with z | z
  · intro x h
    rw [z]
    exact h
  · exact fun x h => u_same (C'.2.2.2.2.2.1 _ z) x h
theorem e_put {C ref : String} {T : u_T} {N ci idx a : Nat} {fs : List Value} {v : Value} {ty : FieldType} (k : Nat) (ty0 : Nat → FieldType) (hty : ∀ k, k < N → parseFieldDescriptor (T k).2.2.1 = some (ty0 k)) (hnm : ∀ a, a < N → ∀ b, b < N → a ≠ b → (T a).2.1 ≠ (T b).2.1) (hin : ∀ w ∈ u_ws C T N, w ∈ lw_all) (hc : g_cl[ci]? = some (C, T, N)) (hk : Nat.ble (k + 1) N = true) (hlink : Cond.fieldLink M.1.cls idx ref (T k).2.1 (T k).2.2.1 ∈ lw_all) (hsame : ref = (T k).1 ∨ Cond.sameField ref (T k).1 (T k).2.1 (T k).2.2.1 ∈ lw_all) (hfin : (T k).2.2.2 = false)
    (hty1 : ty0 k = ty) (hn : narrow ty v = v) (hfit : fits ty v = true) (ha : σ.2 a = some (.inr (ci, fs))) (hl : k < fs.length) (hd : decode M.2.1 pc = .ok (.putfield idx, 3)) (hp : pc + 3 = n) (kk : E M d mc ms K uc us n lv st (g_up σ a (.inr (ci, fs.set k v)))) : E M d mc ms K uc us pc lv (v :: .ref a :: st) σ := by
  intro p l e s m args below meth c D dT A H locs ls C' P S L
  subst hp
  subst hty1
  obtain ⟨ws, h1, h2, h3, h4⟩ := P
  obtain ⟨q0, he⟩ := h3 a _ ha
  refine va_put C'.1 C'.2.1 C'.2.2.2.2.2.1 hin ty0 hty hnm C'.2.2.2.2.1 C'.2.2.2.2.2.2.1.1 h1 h2 S q0 he hc k (Nat.le_of_ble_eq_true hk) (C'.2.2.2.2.2.1 _ hlink) ?_ hfin (hty k (Nat.le_of_ble_eq_true hk)) hn hfit hl hd (fun H1 locs1 g1 g2 g3 => kk p l e s m args below meth c D dT A H1 locs1 ls C' (g_Pic.set (e := .inr (ci, fs.set k v)) he h2 h3 h4 g1 g2) g3 L)
  rcases hsame with z | z
  · intro x h
    rw [z]
    exact h
  · exact fun x h => u_same (C'.2.2.2.2.2.1 _ z) x h
theorem e_iald {a N : Nat} {f : Nat → Int32} {i : Int32} (ha : σ.2 a = some (.inl (0, N, .inl f))) (hi : vp_in i N) (hd : decode M.2.1 pc = .ok (.iaload, 1)) (hp : pc + 1 = n) (kk : E M d mc ms K uc us n lv (.int (f i.toNatClampNeg) :: st) σ) : E M d mc ms K uc us pc lv (.int i :: .ref a :: st) σ := by
  intro p l e s m args below meth c D dT A H locs ls C' P S L
  subst hp
  obtain ⟨ws, h1, h2, h3, h4⟩ := P
  obtain ⟨q0, he⟩ := h3 a _ ha
  exact va_iald C'.1 C'.2.1 C'.2.2.2.2.2.2.1.1 h1 q0 0 he rfl hi hd (kk p l e s m args below meth c D dT A H locs ls C' ⟨ws, h1, h2, h3, h4⟩ S L)
theorem e_zald {a N : Nat} {f : Nat → Int32} {i : Int32} (ha : σ.2 a = some (.inl (2, N, .inl f))) (hi : vp_in i N) (hd : decode M.2.1 pc = .ok (.baload, 1)) (hp : pc + 1 = n) (kk : E M d mc ms K uc us n lv (.int (f i.toNatClampNeg) :: st) σ) : E M d mc ms K uc us pc lv (.int i :: .ref a :: st) σ := by
  intro p l e s m args below meth c D dT A H locs ls C' P S L
  subst hp
  obtain ⟨ws, h1, h2, h3, h4⟩ := P
  obtain ⟨q0, he⟩ := h3 a _ ha
  exact va_zald C'.1 C'.2.1 C'.2.2.2.2.2.2.1.1 h1 q0 2 he rfl hi hd (kk p l e s m args below meth c D dT A H locs ls C' ⟨ws, h1, h2, h3, h4⟩ S L)
theorem e_lald {a N : Nat} {f : Nat → Int64} {i : Int32} (ha : σ.2 a = some (.inl (1, N, .inr (.inl f)))) (hi : vp_in i N) (hd : decode M.2.1 pc = .ok (.laload, 1)) (hp : pc + 1 = n) (kk : E M d mc ms K uc us n lv (.long (f i.toNatClampNeg) :: st) σ) : E M d mc ms K uc us pc lv (.int i :: .ref a :: st) σ := by
  intro p l e s m args below meth c D dT A H locs ls C' P S L
  subst hp
  obtain ⟨ws, h1, h2, h3, h4⟩ := P
  obtain ⟨q0, he⟩ := h3 a _ ha
  exact va_lald C'.1 C'.2.1 C'.2.2.2.2.2.2.1.1 h1 q0 1 he rfl hi hd (kk p l e s m args below meth c D dT A H locs ls C' ⟨ws, h1, h2, h3, h4⟩ S L)
theorem e_iast {a N : Nat} {f : Nat → Int32} {i x : Int32} (ha : σ.2 a = some (.inl (0, N, .inl f))) (hi : vp_in i N) (hd : decode M.2.1 pc = .ok (.iastore, 1)) (hp : pc + 1 = n) (kk : E M d mc ms K uc us n lv st (g_up σ a (.inl (0, N, .inl (upd f i.toNatClampNeg x))))) : E M d mc ms K uc us pc lv (.int x :: .int i :: .ref a :: st) σ := by
  intro p l e s m args below meth c D dT A H locs ls C' P S L
  subst hp
  obtain ⟨ws, h1, h2, h3, h4⟩ := P
  obtain ⟨q0, he⟩ := h3 a _ ha
  exact va_iast C'.1 C'.2.1 C'.2.2.2.2.2.2.1.1 h1 h2 S q0 0 he rfl hi hd (fun H1 locs1 g1 g2 g3 => kk p l e s m args below meth c D dT A H1 locs1 ls C' (g_Pic.set (e := .inl (0, N, .inl (upd f i.toNatClampNeg x))) he h2 h3 h4 g1 g2) g3 L)
theorem e_zast {a N : Nat} {f : Nat → Int32} {i x : Int32} (hx : vp_nar .boolean x = x) (ha : σ.2 a = some (.inl (2, N, .inl f))) (hi : vp_in i N) (hd : decode M.2.1 pc = .ok (.bastore, 1)) (hp : pc + 1 = n) (kk : E M d mc ms K uc us n lv st (g_up σ a (.inl (2, N, .inl (upd f i.toNatClampNeg x))))) : E M d mc ms K uc us pc lv (.int x :: .int i :: .ref a :: st) σ := by
  intro p l e s m args below meth c D dT A H locs ls C' P S L
  subst hp
  obtain ⟨ws, h1, h2, h3, h4⟩ := P
  obtain ⟨q0, he⟩ := h3 a _ ha
  exact va_zast C'.1 C'.2.1 C'.2.2.2.2.2.2.1.1 h1 h2 S q0 2 he rfl hi hd (fun H1 locs1 g1 g2 g3 => kk p l e s m args below meth c D dT A H1 locs1 ls C' (by rw [hx] at g1 g2; exact g_Pic.set (e := .inl (2, N, .inl (upd f i.toNatClampNeg x))) he h2 h3 h4 g1 g2) g3 L)
theorem e_last {a N : Nat} {f : Nat → Int64} {i : Int32} {x : Int64} (ha : σ.2 a = some (.inl (1, N, .inr (.inl f)))) (hi : vp_in i N) (hd : decode M.2.1 pc = .ok (.lastore, 1)) (hp : pc + 1 = n) (kk : E M d mc ms K uc us n lv st (g_up σ a (.inl (1, N, .inr (.inl (vp_updL f i.toNatClampNeg x)))))) : E M d mc ms K uc us pc lv (.long x :: .int i :: .ref a :: st) σ := by
  intro p l e s m args below meth c D dT A H locs ls C' P S L
  subst hp
  obtain ⟨ws, h1, h2, h3, h4⟩ := P
  obtain ⟨q0, he⟩ := h3 a _ ha
  exact va_last C'.1 C'.2.1 C'.2.2.2.2.2.2.1.1 h1 h2 S q0 1 he rfl hi hd (fun H1 locs1 g1 g2 g3 => kk p l e s m args below meth c D dT A H1 locs1 ls C' (g_Pic.set (e := .inl (1, N, .inr (.inl (vp_updL f i.toNatClampNeg x)))) he h2 h3 h4 g1 g2) g3 L)
/-! ends -/
theorem g_end {K : Option Value → gH → Prop} {D : va_G} {dT : Nat → ClassId} {A : Nat → Prop} {H : Heap} {s t : State} {locs : List Loc} {a : Array Value} {r : Option Value} (hk : K r σ) (P : g_Pic D dT A σ H) (S : va_S A s.heap H locs) (ht : t.heap = H) : g_Q D dT σ.1 K A a s (.returned r) t :=
  ⟨⟨r, σ, rfl, hk, rfl, by rw [ht]; exact P⟩, S.F ht⟩
theorem e_iret {K : Option Value → gH → Prop} {x : Int32} (hr : M.2.2.2 = some .int) (h1 : uc ≤ mc) (h2 : us ≤ ms) (hk : K (some (.int x)) σ) (hd : decode M.2.1 pc = .ok (.ireturn, 1)) : E M d mc ms (g_z K) uc us pc lv [.int x] σ := by
  intro p l e s m args below meth c D dT A H locs ls C P S L
  exact W.widen h1 h2 (W.iret C.1 C.2.1 (C.2.2.1.trans hr) (fun t ht _ => g_end hk P S ht) S.2.2 hd C.2.2.2.2.2.2.2.1)
theorem e_zret {K : Option Value → gH → Prop} {x : Int32} (hr : M.2.2.2 = some .boolean) (hx : narrow .boolean (.int x) = .int x) (h1 : uc ≤ mc) (h2 : us ≤ ms) (hk : K (some (.int x)) σ) (hd : decode M.2.1 pc = .ok (.ireturn, 1)) : E M d mc ms (g_z K) uc us pc lv [.int x] σ := by
  intro p l e s m args below meth c D dT A H locs ls C P S L
  exact W.widen h1 h2 (W.zret C.1 C.2.1 (C.2.2.1.trans hr) hx (fun t ht _ => g_end hk P S ht) S.2.2 hd C.2.2.2.2.2.2.2.1)
theorem e_lret {K : Option Value → gH → Prop} {x : Int64} (hr : M.2.2.2 = some .long) (h1 : uc ≤ mc) (h2 : us ≤ ms) (hk : K (some (.long x)) σ) (hd : decode M.2.1 pc = .ok (.lreturn, 1)) : E M d mc ms (g_z K) uc us pc lv [.long x] σ := by
  intro p l e s m args below meth c D dT A H locs ls C P S L
  exact W.widen h1 h2 (W.lret C.1 C.2.1 (C.2.2.1.trans hr) (fun t ht _ => g_end hk P S ht) S.2.2 hd C.2.2.2.2.2.2.2.1)
theorem e_vret {K : Option Value → gH → Prop} (hr : M.2.2.2 = none) (h1 : uc ≤ mc) (h2 : us ≤ ms) (hk : K none σ) (hd : decode M.2.1 pc = .ok (.return_, 1)) : E M d mc ms (g_z K) uc us pc lv [] σ := by
  intro p l e s m args below meth c D dT A H locs ls C P S L
  exact W.widen h1 h2 (W.vret C.1 C.2.1 (C.2.2.1.trans hr) (fun t ht _ => g_end hk P S ht) S.2.2 hd C.2.2.2.2.2.2.2.1)
theorem e_aret {K : Option Value → gH → Prop} {v : Value} {rt : FieldType} (hr : M.2.2.2 = some rt) (hrt : (∃ n, rt = .object n) ∨ ∃ t, rt = .array t) (hv : v = .null ∨ ∃ a, v = .ref a) (h1 : uc ≤ mc) (h2 : us ≤ ms) (hk : K (some v) σ) (hd : decode M.2.1 pc = .ok (.areturn, 1)) : E M d mc ms (g_z K) uc us pc lv [v] σ := by
  intro p l e s m args below meth c D dT A H locs ls C P S L
  exact W.widen h1 h2 (W.aret C.1 C.2.1 (C.2.2.1.trans hr) hrt hv (fun t ht _ => g_end hk P S ht) S.2.2 hd C.2.2.2.2.2.2.2.1)
end ROWS3
