/-! PLAIN LAW, the component: what a chart stands on; new steps -/
set_option maxRecDepth 100000
/-- the object's fields that a chart looks at -/
def oF (C : Cf) (kk : Nat → Nat) (fs : List Value) : Prop := (fs[0]? = some (.int (nI (C.1 0))) ∧ fs[1]? = some (.ref (kk 1)) ∧ fs[2]? = some (.ref (kk 2)) ∧ fs[3]? = some (.int (nI (C.1 3))) ∧ fs[4]? = some (.int (nI (C.1 4))) ∧ fs[10]? = some (.int (nI (C.1 13)))) ∧ (fs[5]? = some (.int (nI (C.1 5))) ∧ fs[6]? = some (.int (nI (C.1 6))) ∧ fs[7]? = some (.ref (kk 7)) ∧ fs[8]? = some (.ref (kk 8)) ∧ fs[9]? = some (.ref (kk 9))) ∧ (fs[13]? = some (.ref (kk 13)) ∧ fs[14]? = some (.ref (kk 14)) ∧ fs[15]? = some (.ref (kk 15)))
def fCell (C : Cf) (w fo : Nat) : gCell := cO 5 [.int (nI (C.2 12 (12 * w + 4 * fo))), .int (nI (C.2 12 (12 * w + 4 * fo + 1))), .int (nI (C.2 12 (12 * w + 4 * fo + 2))), .int (nI (C.2 12 (12 * w + 4 * fo + 3)))]
def eWo (C : Cf) (ow : Nat → Nat) (σ : gH) (wy : Nat) : Prop := (C.1 18 < 1000000 ∧ C.1 19 < 1000000 ∧ C.1 36 < 1000000 ∧ C.1 37 < 1000000 ∧ C.1 35 < 1000000) ∧ ∃ fr to wo, hat ow σ wy 0 (cO 6 [.int (nI (C.1 33)), .int fr, .int to, va_rf wo]) ∧ (C.1 33 = 1 → fr = nI (C.1 18) ∧ to = nI (C.1 19)) ∧ ((wo = none ∧ C.1 35 = 0) ∨ ∃ w0 ci fs, wo = some w0 ∧ hat ow σ w0 0 (cO ci fs) ∧ 9 ≤ ci ∧ ci ≤ 15 ∧ k_kind ci = nI (C.1 35) ∧ fs[1]? = some (.int (nI (C.1 36))) ∧ (if ci = 12 ∨ ci = 14 then nI (C.1 37) = 0 else fs[if ci = 13 then 8 else if ci = 11 ∨ ci = 15 then 9 else 4]? = some (.int (nI (C.1 37)))))
/-- the object, its tables, the text and the way -/
def cE (C : Cf) (ow : Nat → Nat) (σ : gH) (x0 : Nat) (kk kc : Nat → Nat) : Prop :=
  C.1 13 < 2 ∧ (∃ fs, hat ow σ x0 1 (cO 0 fs) ∧ oF C kk fs) ∧
  (∃ f, hat ow σ (kk 1) 2 (cZ 12 f) ∧ ∀ t, t < C.1 0 → f t = nI (C.2 1 t) ∧ C.2 1 t < 2) ∧
  (∃ pf, hat ow σ (kk 2) 3 (cQ 3 3 pf) ∧ ∀ w, w < 3 → ∃ b g, pf w = some b ∧ hat ow σ b (4 + w) (cI 12 g) ∧ ∀ t, t < C.1 0 → g t = nI (C.2 2 (12 * w + t))) ∧
  (∀ w, w < 2 → ∃ N fo, N < 100000 ∧ r_lsN ow σ (kk (8 + w)) (11 + w) (15 + w) N (C.2 11 w) fo ∧ ∀ i, i < C.2 11 w → hat ow σ (fo i) 0 (fCell C w i)) ∧
  (∃ f, hat ow σ (kc 1) 0 (cI (C.1 34) f) ∧ ∀ i, i < C.1 34 → f i = nI (C.2 15 i)) ∧ eWo C ow σ (kc 2)
theorem eWo.mv {C : Cf} {T : List Nat} {ow ow' : Nat → Nat} {σ σ' : gH} {wy : Nat} (h : eWo C ow σ wy) (m : hmv T ow σ ow' σ') (ht : 0 ∉ T) : eWo C ow' σ' wy := by
  obtain ⟨h0, fr, to, wo, h1, h2, h3⟩ := h
  refine ⟨h0, fr, to, wo, h1.mv m ht, h2, ?_⟩
  rcases h3 with h3 | ⟨w0, ci, fs, a1, a2, a3⟩
  · exact Or.inl h3
  · exact Or.inr ⟨w0, ci, fs, a1, a2.mv m ht, a3⟩
theorem eWo.raw {C : Cf} {ow : Nat → Nat} {σ : gH} {wy : Nat} (h : eWo C ow σ wy) : eW C σ wy := by
  obtain ⟨h0, fr, to, wo, h1, h2, h3⟩ := h
  refine ⟨h0, fr, to, wo, h1.1, h2, ?_⟩
  rcases h3 with h3 | ⟨w0, ci, fs, a1, a2, a3⟩
  · exact Or.inl h3
  · exact Or.inr ⟨w0, ci, fs, a1, a2.1, a3⟩
theorem cE.mv {C : Cf} {T : List Nat} {ow ow' : Nat → Nat} {σ σ' : gH} {x0 : Nat} {kk kc : Nat → Nat} (h : cE C ow σ x0 kk kc) (m : hmv T ow σ ow' σ') (ht : ∀ t ∈ T, 200 ≤ t) : cE C ow' σ' x0 kk kc := by
  have h0 : ∀ n, n < 200 → n ∉ T := fun n h1 q => by have := ht n q; omega
  obtain ⟨a0, ⟨fs, a1, a2⟩, ⟨f, b1, b2⟩, ⟨pf, c1, c2⟩, d, ⟨g, e1, e2⟩, w⟩ := h
  refine ⟨a0, ⟨fs, a1.mv m (h0 _ (by decide)), a2⟩, ⟨f, b1.mv m (h0 _ (by decide)), b2⟩, ⟨pf, c1.mv m (h0 _ (by decide)), fun w hw => ?_⟩, fun w hw => ?_, ⟨g, e1.mv m (h0 _ (by decide)), e2⟩, w.mv m (h0 _ (by decide))⟩
  · obtain ⟨b, g, p1, p2, p3⟩ := c2 w hw
    exact ⟨b, g, p1, p2.mv m (h0 _ (by omega)), p3⟩
  · obtain ⟨N, fo, n1, n2, n3⟩ := d w hw
    exact ⟨N, fo, n1, n2.mv m (h0 _ (by omega)) (h0 _ (by omega)), fun i hi => (n3 i hi).mv m (h0 _ (by decide))⟩
/-- the chart's fields -/
def cFs (C : Cf) (kk kc : Nat → Nat) (x0 N : Nat) : List Value := [.ref (kc 1), .int (nI (C.1 34)), .ref (kc 2), .ref (kc 3), .ref (kc 4), .int (nI N), .ref (kc 6), .ref (kc 7), .ref (kc 8), .ref (kk 13), .ref (kk 14), .ref (kk 15), .ref x0]
theorem cE.raw {C : Cf} {ow : Nat → Nat} {σ : gH} {x0 N : Nat} {kk kc : Nat → Nat} (h : cE C ow σ x0 kk kc) (hc : σ.2 (kc 0) = some (cO 7 (cFs C kk kc x0 N))) : eR C σ x0 (kc 0) kk kc := by
  obtain ⟨a0, ⟨fs, a1, a2, a3, a4⟩, ⟨f, b1, b2⟩, ⟨pf, c1, c2⟩, d, ⟨g, e1, e2⟩, w⟩ := h
  refine ⟨⟨fs, a1.1, a2⟩, ⟨f, b1.1, b2⟩, ⟨pf, c1.1, fun w hw => ?_⟩, ⟨_, hc, rfl, rfl, rfl, rfl⟩, ⟨g, e1.1, e2⟩⟩
  obtain ⟨b, g, p1, p2, p3⟩ := c2 w hw
  exact ⟨b, g, p1, p2.1, p3⟩
/-! constructors -/
section CTOR
variable {σ : gH} {Q : gH → Prop} {q ci : Nat} {fs : List Value}
theorem ctor8 {x1 x2 : Option Nat} {x3 x4 x5 x6 : Int32} (c' : gCell) (hL : ci ∈ [8, 9, 10, 11, 12, 13, 14, 15]) (hl : 6 ≤ fs.length) (hc : cO ci ((((((fs.set 5 (va_rf x1)).set 0 (va_rf x2)).set 1 (.int x3)).set 2 (.int x4)).set 3 (.int x5)).set 4 (.int x6)) = c') (w : Q (g_up σ q c')) : wX8_init Q q x1 x2 x3 x4 x5 x6 (g_up σ q (cO ci fs)) := by
  refine i_P (g_up_same _ _ _) hL (by omega) ?_
  rw [g_up_up]
  refine i_P (g_up_same _ _ _) hL (by rw [List.length_set]; omega) ?_
  rw [g_up_up]
  refine i_P (g_up_same _ _ _) hL (by rw [List.length_set, List.length_set]; omega) ?_
  rw [g_up_up]
  refine i_P (g_up_same _ _ _) hL (by rw [List.length_set, List.length_set, List.length_set]; omega) ?_
  rw [g_up_up]
  refine i_P (g_up_same _ _ _) hL (by rw [List.length_set, List.length_set, List.length_set, List.length_set]; omega) ?_
  rw [g_up_up]
  refine i_P (g_up_same _ _ _) hL (by rw [List.length_set, List.length_set, List.length_set, List.length_set, List.length_set]; omega) ?_
  rw [g_up_up, hc]
  exact w
theorem ctor9 {x1 x2 : Option Nat} {x3 x4 x5 x6 : Int32} (c' : gCell) (hL : ci ∈ [9, 10, 11, 12, 13, 14, 15]) (hl : 7 ≤ fs.length) (hc : cO ci (((((((fs.set 6 (va_rf x1)).set 5 (va_rf x1)).set 0 (va_rf x2)).set 1 (.int x3)).set 2 (.int x4)).set 3 (.int x5)).set 4 (.int x6)) = c') (w : Q (g_up σ q c')) : wX9_init Q q x1 x2 x3 x4 x5 x6 (g_up σ q (cO ci fs)) := by
  refine i_P (g_up_same _ _ _) hL (by omega) ?_
  rw [g_up_up]
  exact ctor8 c' (by simp only [List.mem_cons, List.not_mem_nil, or_false] at hL ⊢; omega) (by rw [List.length_set]; omega) hc w
theorem ctor10 {x1 x2 : Option Nat} {x3 x4 x5 x6 : Int32} (c' : gCell) (hL : ci ∈ [10, 11, 14, 15]) (hl : 8 ≤ fs.length) (hc : cO ci ((((((((fs.set 7 (va_rf x1)).set 6 (va_rf x1)).set 5 (va_rf x1)).set 0 (va_rf x2)).set 1 (.int x3)).set 2 (.int x4)).set 3 (.int x5)).set 4 (.int x6)) = c') (w : Q (g_up σ q c')) : wX10_init Q q x1 x2 x3 x4 x5 x6 (g_up σ q (cO ci fs)) := by
  refine i_P (g_up_same _ _ _) hL (by omega) ?_
  rw [g_up_up]
  exact ctor9 c' (by simp only [List.mem_cons, List.not_mem_nil, or_false] at hL ⊢; omega) (by rw [List.length_set]; omega) hc w
theorem ctor11 {x1 x2 x7 : Option Nat} {x3 x4 x5 x6 x8 : Int32} (c' : gCell) (hL : ci ∈ [11, 15]) (hl : 11 ≤ fs.length) (hc : cO ci (((((((((((fs.set 10 (va_rf x1)).set 7 (va_rf x1)).set 6 (va_rf x1)).set 5 (va_rf x1)).set 0 (va_rf x2)).set 1 (.int x3)).set 2 (.int x4)).set 3 (.int x5)).set 4 (.int x6)).set 8 (va_rf x7)).set 9 (.int x8)) = c') (w : Q (g_up σ q c')) : wX11_init Q q x1 x2 x3 x4 x5 x6 x7 x8 (g_up σ q (cO ci fs)) := by
  refine i_P (g_up_same _ _ _) hL (by omega) ?_
  rw [g_up_up]
  refine ctor10 _ (by simp only [List.mem_cons, List.not_mem_nil, or_false] at hL ⊢; omega) (by rw [List.length_set]; omega) rfl ?_
  refine i_P (g_up_same _ _ _) hL (by simp only [List.length_set]; omega) ?_
  rw [g_up_up]
  refine i_P (g_up_same _ _ _) hL (by simp only [List.length_set]; omega) ?_
  rw [g_up_up, hc]
  exact w
end CTOR
/-! a step is added, if it may be -/
theorem c_add {C : Cf} {ow : Nat → Nat} {σ : gH} {x0 N Nk ns a mc ms : Nat} {kk kc xs : Nat → Nat} {Q : gH → Prop} {A : Prop} (he : cE C ow σ x0 kk kc) (hc : hat ow σ (kc 0) 200 (cO 7 (cFs C kk kc x0 Nk))) (hl : r_lsN ow σ (kc 6) 203 204 N ns xs) (hN : N < 100000) (hxs : ∀ i, i < ns → ∃ ci fs, ci < 19 ∧ σ.2 (xs i) = some (.inr (ci, fs))) (ha : ∃ ci fs, ci < 19 ∧ σ.2 a = some (.inr (ci, fs)))
    (hmay : ∀ Q : Int32 → Prop, (A → Q 1) → (¬ A → Q 0) → wX0_may Q σ x0 (some (kc 2)) (some a) (nI (C.1 34))) (hmc : A → ns = N → 1 ≤ mc) (hms : A → ns = N → lsN N ns ≤ ms)
    (q1 : A → ∀ ow' σ', hmv [203, 204] ow σ ow' σ' → r_lsN ow' σ' (kc 6) 203 204 (lsN N ns) (ns + 1) (va_up xs ns a) → Q σ') (q0 : ¬ A → Q σ) : wX7_add Q mc ms (kc 0) (some a) σ := by
  obtain ⟨ci, fs, h1, h2⟩ := ha
  obtain ⟨gs, g1, -⟩ := he.2.1
  refine i_R hc.1 (by decide) rfl (i_R hc.1 (by decide) rfl (i_I hc.1 (by decide) rfl ⟨_, rfl, _, g1.1, hmay _ (fun hA => br_n (by decide) (i_R hc.1 (by decide) rfl ⟨_, rfl, ?_⟩)) (fun hA => br_p rfl (q0 hA))⟩))
  have hl' := hl
  obtain ⟨m, e, l1, -⟩ := hl'
  exact ⟨_, l1.1, mc, ms, by omega, by omega, ln_add hl (by decide) hN (hmc hA) (hms hA) h2 h1 hxs (q1 hA)⟩
