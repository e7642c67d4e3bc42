/-! two worlds side by side: a method's contract over its own world holds beside another -/
set_option maxRecDepth 100000
def g_mg (ρ τ : gH) : gH := (τ.1, fun a => match τ.2 a with
  | some e => some e
  | none => ρ.2 a)
def g_dj (ρ τ : gH) : Prop := ρ.1 = τ.1 ∧ ∀ a, ρ.2 a ≠ none → τ.2 a = none
theorem g_mg_r {ρ τ : gH} {a : Nat} {e : gCell} (h : τ.2 a = some e) : (g_mg ρ τ).2 a = some e := by
  show (match τ.2 a with | some e => some e | none => ρ.2 a) = _
  rw [h]
theorem g_mg_n {ρ τ : gH} {a : Nat} (h : τ.2 a = none) : (g_mg ρ τ).2 a = ρ.2 a := by
  show (match τ.2 a with | some e => some e | none => ρ.2 a) = _
  rw [h]
theorem g_mg_l {ρ τ : gH} (dj : g_dj ρ τ) {a : Nat} {e : gCell} (h : ρ.2 a = some e) : (g_mg ρ τ).2 a = some e := by
  rw [g_mg_n (dj.2 a (by rw [h]; exact fun z => by cases z))]
  exact h
theorem g_mg_or {ρ τ : gH} {a : Nat} {e : gCell} (h : (g_mg ρ τ).2 a = some e) : τ.2 a = some e ∨ ρ.2 a = some e := by
  cases ht : τ.2 a with
  | none => rw [g_mg_n ht] at h; exact Or.inr h
  | some f => rw [g_mg_r ht] at h; exact Or.inl h
theorem g_dj.symm {ρ τ : gH} (h : g_dj ρ τ) : g_dj τ ρ := ⟨h.1.symm, fun a ha => by
  cases hr : ρ.2 a with
  | none => rfl
  | some e => exact absurd (h.2 a (by rw [hr]; exact fun z => by cases z)) ha⟩
theorem g_mg_comm {ρ τ : gH} (h : g_dj ρ τ) : g_mg ρ τ = g_mg τ ρ := by
  refine Prod.ext h.1.symm ?_
  funext a
  cases ht : τ.2 a with
  | none =>
    rw [g_mg_n ht]
    cases hr : ρ.2 a with
    | none => rw [g_mg_n hr]; exact ht.symm
    | some e => rw [g_mg_r hr]
  | some f =>
    rw [g_mg_r ht, g_mg_n (h.symm.2 a (by rw [ht]; exact fun z => by cases z))]
    exact ht.symm
theorem va_D.nd {A : Nat → Prop} {ws : va_W} (h : va_D A ws) : (ws.map (fun q => q.1)).Nodup := by
  rw [List.nodup_iff_pairwise_ne, List.pairwise_iff_getElem]
  intro i j hi hj hij he
  simp only [List.length_map] at hi hj
  simp only [List.getElem_map] at he
  have := h.1 i j ws[i] ws[j] (List.getElem?_eq_getElem hi) (List.getElem?_eq_getElem hj) he
  omega
theorem va_D.mk {A : Nat → Prop} {ws : va_W} (h : (ws.map (fun q => q.1)).Nodup) (h2 : ∀ q ∈ ws, A q.1) : va_D A ws := by
  refine ⟨fun i j p q hi hj he => ?_, fun k q hk => h2 q (List.mem_of_getElem? hk)⟩
  obtain ⟨li, hi'⟩ := List.getElem?_eq_some_iff.mp hi
  obtain ⟨lj, hj'⟩ := List.getElem?_eq_some_iff.mp hj
  have e1 : (ws.map (fun q => q.1))[i]'(by simpa using li) = (ws.map (fun q => q.1))[j]'(by simpa using lj) := by
    simp only [List.getElem_map]
    rw [hi', hj']
    exact he
  have pw := List.pairwise_iff_getElem.mp (List.nodup_iff_pairwise_ne.mp h)
  rcases Nat.lt_trichotomy i j with z | z | z
  · exact absurd e1 (pw i j (by simpa using li) (by simpa using lj) z)
  · exact z
  · exact absurd e1.symm (pw j i (by simpa using lj) (by simpa using li) z)
theorem g_Pic.restrict {D : va_G} {dT : Nat → ClassId} {A B : Nat → Prop} {σ τ : gH} {H : Heap} (P : g_Pic D dT A σ H) (h : ∀ a e, τ.2 a = some e → σ.2 a = some e) (hB : ∀ a, τ.2 a ≠ none → A a → B a) : g_Pic D dT B τ H := by
  obtain ⟨ws, g1, g2, g3, g4⟩ := P
  refine ⟨ws.filter (fun q => (τ.2 q.1).isSome), ?_, va_D.mk (List.Nodup.sublist ((List.filter_sublist (p := fun q : Nat × va_E => (τ.2 q.1).isSome)).map _) g2.nd) ?_, ?_, ?_⟩
  · intro k q hk
    obtain ⟨i, hi⟩ := List.getElem?_of_mem ((List.mem_filter.mp (List.mem_of_getElem? hk)).1)
    exact g1 i q hi
  · intro q hq
    obtain ⟨h1, h2⟩ := List.mem_filter.mp hq
    obtain ⟨i, hi⟩ := List.getElem?_of_mem h1
    exact hB _ (by intro z; rw [z] at h2; cases h2) (g2.2 i q hi)
  · intro a e ha
    obtain ⟨k, hk⟩ := g3 a e (h a e ha)
    have : (a, g_e dT e) ∈ ws.filter (fun q => (τ.2 q.1).isSome) := List.mem_filter.mpr ⟨List.mem_of_getElem? hk, by show (τ.2 a).isSome = true; rw [ha]; rfl⟩
    exact List.getElem?_of_mem this
  · intro k q hk z
    have h2 := (List.mem_filter.mp (List.mem_of_getElem? hk)).2
    rw [z] at h2
    cases h2
theorem g_Pic.keep {D : va_G} {dT : Nat → ClassId} {A : Nat → Prop} {σ : gH} {H H1 : Heap} (P : g_Pic D dT A σ H) (h : ∀ q, σ.2 q ≠ none → H1[q]? = H[q]?) : g_Pic D dT A σ H1 := by
  obtain ⟨ws, g1, g2, g3, g4⟩ := P
  exact ⟨ws, fun k q hk => (g1 k q hk).kept (h q.1 (g4 k q hk)), g2, g3, g4⟩
theorem g_Pic.join {D : va_G} {dT : Nat → ClassId} {A : Nat → Prop} {ρ τ : gH} {H : Heap} (P1 : g_Pic D dT A ρ H) (P2 : g_Pic D dT A τ H) (dj : g_dj ρ τ) : g_Pic D dT A (g_mg ρ τ) H := by
  obtain ⟨ws, g1, g2, g3, g4⟩ := P1
  obtain ⟨vs, f1, f2, f3, f4⟩ := P2
  refine ⟨ws ++ vs, ?_, va_D.mk ?_ ?_, ?_, ?_⟩
  · intro k q hk
    rcases List.mem_append.mp (List.mem_of_getElem? hk) with h | h
    · obtain ⟨i, hi⟩ := List.getElem?_of_mem h
      exact g1 i q hi
    · obtain ⟨i, hi⟩ := List.getElem?_of_mem h
      exact f1 i q hi
  · rw [List.map_append, List.nodup_append]
    refine ⟨g2.nd, f2.nd, ?_⟩
    intro a ha b hb hab
    subst hab
    obtain ⟨q, hq, rfl⟩ := List.mem_map.mp ha
    obtain ⟨q', hq', e'⟩ := List.mem_map.mp hb
    obtain ⟨i, hi⟩ := List.getElem?_of_mem hq
    obtain ⟨j, hj⟩ := List.getElem?_of_mem hq'
    have z1 := dj.2 _ (g4 i q hi)
    have z2 := f4 j q' hj
    rw [e'] at z2
    exact z2 z1
  · intro q hq
    rcases List.mem_append.mp hq with h | h
    · obtain ⟨i, hi⟩ := List.getElem?_of_mem h
      exact g2.2 i q hi
    · obtain ⟨i, hi⟩ := List.getElem?_of_mem h
      exact f2.2 i q hi
  · intro a e h
    rcases g_mg_or h with h | h
    · obtain ⟨k, hk⟩ := f3 a e h
      exact List.getElem?_of_mem (List.mem_append_right _ (List.mem_of_getElem? hk))
    · obtain ⟨k, hk⟩ := g3 a e h
      exact List.getElem?_of_mem (List.mem_append_left _ (List.mem_of_getElem? hk))
  · intro k q hk
    rcases List.mem_append.mp (List.mem_of_getElem? hk) with h | h
    · obtain ⟨i, hi⟩ := List.getElem?_of_mem h
      cases he : ρ.2 q.1 with
      | none => exact absurd he (g4 i q hi)
      | some e => rw [g_mg_l dj he]; exact fun z => by cases z
    · obtain ⟨i, hi⟩ := List.getElem?_of_mem h
      cases he : τ.2 q.1 with
      | none => exact absurd he (f4 i q hi)
      | some e => rw [g_mg_r he]; exact fun z => by cases z
theorem g_K.less {D : va_G} {dT : Nat → ClassId} {A B : Nat → Prop} {t0 : Nat × Nat} {U : State} (h : g_K D dT A t0 U) (hAB : ∀ q, B q → A q) : g_K D dT B t0 U := by
  obtain ⟨h1, s0, a0, h2, h3, h6, h4, h5⟩ := h
  exact ⟨h1, s0, a0, h2, h3, h6, h4, fun q hq => ⟨(h5 q hq).1, fun z => (h5 q hq).2 (hAB q z)⟩⟩
/-- what a call leaves, beside ρ -/
def g_be (ρ : gH) (K : Option Value → gH → Prop) : Option Value → gH → Prop := fun r σ' => ∃ τ', K r τ' ∧ g_dj ρ τ' ∧ σ' = g_mg ρ τ'
section FRAME
variable {M : gM} {d mc ms : Nat} {args : List Value} {ρ τ : gH} {K : Option Value → gH → Prop}
theorem g_beside {D : va_G} {dT : Nat → ClassId} {sz : Nat} {s t : State} {τ' : gH} (dj : g_dj ρ τ) (hsz : s.heap.size = sz) (hPic : g_Pic D dT (g_A (g_mg ρ τ) sz) (g_mg ρ τ) s.heap) (h01 : τ'.1 = τ.1) (hp2 : g_Pic D dT (g_A τ sz) τ' t.heap) (hF : va_F (g_A τ sz) s t) : g_dj ρ τ' ∧ g_Pic D dT (g_A (g_mg ρ τ) sz) (g_mg ρ τ') t.heap := by
  have sub : ∀ q, g_A τ sz q → g_A (g_mg ρ τ) sz q := by
    intro q hq
    rcases hq with h | h
    · refine Or.inl ?_
      cases he : τ.2 q with
      | none => exact absurd he h
      | some e => rw [g_mg_r he]; exact fun z => by cases z
    · exact Or.inr h
  have Pρ : g_Pic D dT (g_A (g_mg ρ τ) sz) ρ s.heap := hPic.restrict (fun a e h => g_mg_l dj h) (fun _ _ h => h)
  have out : ∀ a, ρ.2 a ≠ none → a < s.heap.size ∧ ¬ g_A τ sz a := by
    intro a ha
    have h1 := (Pρ.in ha).2
    refine ⟨h1, fun z => ?_⟩
    rcases z with z | z
    · exact z (dj.2 a ha)
    · omega
  have dj' : g_dj ρ τ' := ⟨dj.1.trans h01.symm, fun a ha => by
    cases he : τ'.2 a with
    | none => rfl
    | some e => exact absurd (hp2.in (by rw [he]; exact fun z => by cases z)).1 (out a ha).2⟩
  exact ⟨dj', (Pρ.keep (fun q hq => hF.2 q (out q hq).1 (out q hq).2)).join (hp2.weaken (fun q _ h => sub q h)) dj'⟩
theorem CT.frame (dj : g_dj ρ τ) (h : CT M d mc ms args τ K) : CT M d mc ms args (g_mg ρ τ) (g_be ρ K) := by
  intro l D dT sz p e ha hc hk s m a below hf happ hP hK
  obtain ⟨rfl, hsz, hPic, hKK⟩ := hP
  have sub : ∀ q, g_A τ sz q → g_A (g_mg ρ τ) sz q := by
    intro q hq
    rcases hq with h | h
    · refine Or.inl ?_
      cases he : τ.2 q with
      | none => exact absurd he h
      | some e => rw [g_mg_r he]; exact fun z => by cases z
    · exact Or.inr h
  have Pτ : g_Pic D dT (g_A τ sz) τ s.heap := hPic.restrict (fun a e h => g_mg_r h) (fun a ha _ => Or.inl ha)
  obtain ⟨n, o, h1, h2, h3, ⟨⟨r, τ', ho, hKr, h01, hp2⟩, hF⟩, L, hE, hL⟩ := h l D dT sz p e ha hc hk s m _ below hf happ ⟨rfl, hsz, Pτ, hKK.less sub⟩ trivial
  obtain ⟨dj', hp3⟩ := g_beside dj hsz hPic h01 hp2 hF
  exact ⟨n, o, h1, h2, h3, ⟨⟨r, g_mg ρ τ', ho, ⟨τ', hKr, dj', rfl⟩, h01, hp3⟩, hF.1, fun q hq hA => hF.2 q hq (fun z => hA (sub q z))⟩, L, hE, fun q hq => sub _ (hL q hq)⟩
theorem CTW.frame {hh : List gHd} (dj : g_dj ρ τ) (h : CTW M hh d mc ms args τ K) : CTW M hh d mc ms args (g_mg ρ τ) (g_be ρ K) := by
  intro l D dT sz p e ha hc hk s m a below hf happ hP hK
  obtain ⟨rfl, hsz, hPic, hKK⟩ := hP
  have sub : ∀ q, g_A τ sz q → g_A (g_mg ρ τ) sz q := by
    intro q hq
    rcases hq with h | h
    · refine Or.inl ?_
      cases he : τ.2 q with
      | none => exact absurd he h
      | some e => rw [g_mg_r he]; exact fun z => by cases z
    · exact Or.inr h
  have Pτ : g_Pic D dT (g_A τ sz) τ s.heap := hPic.restrict (fun a e h => g_mg_r h) (fun a ha _ => Or.inl ha)
  obtain ⟨n, o, h1, h2, h3, ⟨⟨r, τ', ho, hKr, h01, hp2⟩, hF⟩, L, hE, hL⟩ := h l D dT sz p e ha hc hk s m _ below hf happ ⟨rfl, hsz, Pτ, hKK.less sub⟩ trivial
  obtain ⟨dj', hp3⟩ := g_beside dj hsz hPic h01 hp2 hF
  exact ⟨n, o, h1, h2, h3, ⟨⟨r, g_mg ρ τ', ho, ⟨τ', hKr, dj', rfl⟩, h01, hp3⟩, hF.1, fun q hq hA => hF.2 q hq (fun z => hA (sub q z))⟩, L, hE, fun q hq => sub _ (hL q hq)⟩
end FRAME
