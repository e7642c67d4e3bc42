/-! PLAIN LAW, the component: the object while it reads -/
set_option maxRecDepth 100000
/-- the object's fields, by number -/
def oL (g : Nat → Value) : List Value := [g 0, g 1, g 2, g 3, g 4, g 5, g 6, g 7, g 8, g 9, g 10, g 11, g 12, g 13, g 14, g 15, g 16, g 17, g 18, g 19, g 20, g 21, g 22, g 23]
def vU (g : Nat → Value) (k : Nat) (v : Value) : Nat → Value := fun j => if j = k then v else g j
theorem vU_s (g : Nat → Value) (k : Nat) (v : Value) : vU g k v k = v := by unfold vU; rw [if_pos rfl]
theorem vU_n (g : Nat → Value) {k j : Nat} (v : Value) (h : j ≠ k) : vU g k v j = g j := by unfold vU; rw [if_neg h]
theorem oL_at (g : Nat → Value) {k : Nat} (h : k < 24) : (oL g)[k]? = some (g k) := by
  match k, h with
  | 0, _ => rfl | 1, _ => rfl | 2, _ => rfl | 3, _ => rfl | 4, _ => rfl | 5, _ => rfl | 6, _ => rfl | 7, _ => rfl
  | 8, _ => rfl | 9, _ => rfl | 10, _ => rfl | 11, _ => rfl | 12, _ => rfl | 13, _ => rfl | 14, _ => rfl | 15, _ => rfl
  | 16, _ => rfl | 17, _ => rfl | 18, _ => rfl | 19, _ => rfl | 20, _ => rfl | 21, _ => rfl | 22, _ => rfl | 23, _ => rfl
  | _ + 24, h => exact absurd h (by omega)
theorem oL_set (g : Nat → Value) {k : Nat} (v : Value) (h : k < 24) : (oL g).set k v = oL (vU g k v) := by
  refine List.ext_getElem? (fun i => ?_)
  by_cases e : i = k
  · subst e
    rw [List.getElem?_set_self (by exact h), oL_at _ h, vU_s]
  · rw [List.getElem?_set_ne (fun z => e z.symm)]
    by_cases hi : i < 24
    · rw [oL_at _ hi, oL_at _ hi, vU_n _ _ e]
    · rw [List.getElem?_eq_none (by show 24 ≤ i; omega), List.getElem?_eq_none (by show 24 ≤ i; omega)]
section OBJ
variable {C : Cf} {ow ow' : Nat → Nat} {σ σ' : gH} {x0 : Nat} {kk kk' kc ru xs : Nat → Nat} {X2 X3 : cX} {Nc ns : Nat} {g : Nat → Value}
theorem i_Po {P : gH → Prop} {k : Nat} {v : Value} (hx : hat ow σ x0 1 (cO 0 (oL g))) (hk : k < 24) (w : ∀ σ', hmv [1] ow σ ow σ' → hat ow σ' x0 1 (cO 0 (oL (vU g k v))) → P σ') : c_P σ [0] x0 k v P :=
  i_Pf (oL (vU g k v)) hx.1 (by decide) (oL_set g v hk) hk (w _ (hmv.rf.up hx (by decide) rfl) hx.set)
theorem i_Io {P : Int32 → Prop} {k : Nat} {v : Int32} (hx : hat ow σ x0 1 (cO 0 (oL g))) (hk : k < 24) (e : g k = .int v) (w : P v) : c_I σ [0] x0 k P := i_I hx.1 (by decide) (by rw [oL_at g hk, e]) w
theorem i_Ro {P : Option Nat → Prop} {k a : Nat} (hx : hat ow σ x0 1 (cO 0 (oL g))) (hk : k < 24) (e : g k = .ref a) (w : P (some a)) : c_R σ [0] x0 k P := i_R hx.1 (by decide) (by rw [oL_at g hk, e]) w
/-- the fields' values -/
def oG (C : Cf) (kk : Nat → Nat) (g : Nat → Value) : Prop := (g 0 = .int (nI (C.1 0)) ∧ g 1 = .ref (kk 1) ∧ g 2 = .ref (kk 2) ∧ g 3 = .int (nI (C.1 3)) ∧ g 4 = .int (nI (C.1 4)) ∧ g 10 = .int (nI (C.1 13))) ∧ (g 5 = .int (nI (C.1 5)) ∧ g 6 = .int (nI (C.1 6)) ∧ g 7 = .ref (kk 7) ∧ g 8 = .ref (kk 8) ∧ g 9 = .ref (kk 9)) ∧ (g 13 = .ref (kk 13) ∧ g 14 = .ref (kk 14) ∧ g 15 = .ref (kk 15)) ∧ g 11 = .ref (kk 11) ∧ g 19 = .ref (kk 19) ∧ g 21 = .ref (kk 21)
theorem oG.F (h : oG C kk g) : oF C kk (oL g) := by
  obtain ⟨⟨a1, a2, a3, a4, a5, a6⟩, ⟨b1, b2, b3, b4, b5⟩, ⟨c1, c2, c3⟩, -⟩ := h
  refine ⟨⟨?_, ?_, ?_, ?_, ?_, ?_⟩, ⟨?_, ?_, ?_, ?_, ?_⟩, ?_, ?_, ?_⟩ <;> rw [oL_at g (by decide)] <;> simp only [*]
theorem oG.set (h : oG C kk g) {k : Nat} (v : Value) (hk : k = 12 ∨ k = 16 ∨ k = 17 ∨ k = 18 ∨ k = 20 ∨ k = 22) : oG C kk (vU g k v) := by
  obtain ⟨⟨a1, a2, a3, a4, a5, a6⟩, ⟨b1, b2, b3, b4, b5⟩, ⟨c1, c2, c3⟩, d1, d2, d3⟩ := h
  refine ⟨⟨?_, ?_, ?_, ?_, ?_, ?_⟩, ⟨?_, ?_, ?_, ?_, ?_⟩, ⟨?_, ?_, ?_⟩, ?_, ?_, ?_⟩ <;> rw [vU_n _ _ (by omega)] <;> assumption
theorem oG.ka (h : oG C kk g) (e : ∀ j, j ≠ 18 → j ≠ 20 → kk' j = kk j) : oG C kk' g := by
  obtain ⟨⟨a1, a2, a3, a4, a5, a6⟩, ⟨b1, b2, b3, b4, b5⟩, ⟨c1, c2, c3⟩, d1, d2, d3⟩ := h
  refine ⟨⟨a1, ?_, ?_, a4, a5, a6⟩, ⟨b1, b2, ?_, ?_, ?_⟩, ⟨?_, ?_, ?_⟩, ?_, ?_, ?_⟩ <;> rw [e _ (by decide) (by decide)] <;> assumption
/-- what a chart stands on, but for the object, the text and the way -/
def cEv (C : Cf) (ow : Nat → Nat) (σ : gH) (kk : Nat → Nat) : Prop := C.1 13 < 2 ∧
  (∃ f, hat ow σ (kk 1) 2 (cZ 12 f) ∧ ∀ t, t < C.1 0 → f t = nI (C.2 1 t) ∧ C.2 1 t < 2) ∧
  (∃ pf, hat ow σ (kk 2) 3 (cQ 3 3 pf) ∧ ∀ w, w < 3 → ∃ b g, pf w = some b ∧ hat ow σ b (4 + w) (cI 12 g) ∧ ∀ t, t < C.1 0 → g t = nI (C.2 2 (12 * w + t))) ∧
  (∀ w, w < 2 → ∃ N fo, N < 100000 ∧ r_lsN ow σ (kk (8 + w)) (11 + w) (15 + w) N (C.2 11 w) fo ∧ ∀ i, i < C.2 11 w → hat ow σ (fo i) 0 (fCell C w i))
def cTx (C : Cf) (ow : Nat → Nat) (σ : gH) (tx : Nat) : Prop := ∃ f, hat ow σ tx 0 (cI (C.1 34) f) ∧ ∀ i, i < C.1 34 → f i = nI (C.2 15 i)
theorem cEv.mv {T : List Nat} (h : cEv C ow σ kk) (m : hmv T ow σ ow' σ') (ht : ∀ t ∈ T, t = 1 ∨ t = 7 ∨ t = 13 ∨ t = 17 ∨ 120 ≤ t) : cEv C ow' σ' kk := by
  have nt : ∀ n, n ≠ 1 → n ≠ 7 → n ≠ 13 → n ≠ 17 → n < 120 → n ∉ T := fun n h1 h2 h3 h4 h5 z => by have := ht n z; omega
  obtain ⟨a0, ⟨f, b1, b2⟩, ⟨pf, c1, c2⟩, d⟩ := h
  refine ⟨a0, ⟨f, b1.mv m (nt _ (by decide) (by decide) (by decide) (by decide) (by decide)), b2⟩, ⟨pf, c1.mv m (nt _ (by decide) (by decide) (by decide) (by decide) (by decide)), fun w hw => ?_⟩, fun w hw => ?_⟩
  · obtain ⟨b, g, p1, p2, p3⟩ := c2 w hw
    exact ⟨b, g, p1, p2.mv m (nt _ (by omega) (by omega) (by omega) (by omega) (by omega)), p3⟩
  · obtain ⟨N, fo, n1, n2, n3⟩ := d w hw
    exact ⟨N, fo, n1, n2.mv m (nt _ (by omega) (by omega) (by omega) (by omega) (by omega)) (nt _ (by omega) (by omega) (by omega) (by omega) (by omega)), fun i hi => (n3 i hi).mv m (nt _ (by decide) (by decide) (by decide) (by decide) (by decide))⟩
theorem cTx.mv {T : List Nat} {tx : Nat} (h : cTx C ow σ tx) (m : hmv T ow σ ow' σ') (ht : 0 ∉ T) : cTx C ow' σ' tx := by
  obtain ⟨f, h1, h2⟩ := h
  exact ⟨f, h1.mv m ht, h2⟩
theorem cEv.E {tx wy : Nat} (h : cEv C ow σ kk) (hx : hat ow σ x0 1 (cO 0 (oL g))) (hg : oG C kk g) (ht : cTx C ow σ tx) (hw : eWo C ow σ wy) : cE C ow σ x0 kk (fun k => if k = 1 then tx else wy) := ⟨h.1, ⟨_, hx, hg.F⟩, h.2.1, h.2.2.1, h.2.2.2, ht, hw⟩
theorem cFu.ka (h : cFu C ow σ x0 kk kc Nc ns xs ru X2 X3) (e : ∀ j, j ≠ 18 → j ≠ 20 → kk' j = kk j) : cFu C ow σ x0 kk' kc Nc ns xs ru X2 X3 := by
  obtain ⟨⟨⟨⟨a0, ⟨fs, x1, x2⟩, hf, hp, hfo, ht, hw⟩, hch, hk⟩, hMo, hL, hSk, hSg, hX⟩, ⟨hRl, hRu⟩, ⟨hC2, hC3⟩, hG⟩ := h
  have e1 := e 1 (by decide) (by decide)
  have e2 := e 2 (by decide) (by decide)
  have e7 := e 7 (by decide) (by decide)
  have e8 := e 8 (by decide) (by decide)
  have e9 := e 9 (by decide) (by decide)
  have e13 := e 13 (by decide) (by decide)
  have e14 := e 14 (by decide) (by decide)
  have e15 := e 15 (by decide) (by decide)
  refine ⟨⟨⟨⟨a0, ⟨fs, x1, ?_⟩, by rw [e1]; exact hf, by rw [e2]; exact hp, fun w hw' => ?_, ht, hw⟩, ?_, hk⟩, hMo, hL, hSk, hSg, by rw [e13]; exact hX⟩, ⟨by rw [e7]; exact hRl, hRu⟩, ⟨by rw [e14]; exact hC2, by rw [e15]; exact hC3⟩, hG⟩
  · unfold oF at x2 ⊢
    rw [e1, e2, e7, e8, e9, e13, e14, e15]
    exact x2
  · rw [e (8 + w) (by omega) (by omega)]
    exact hfo w hw'
  · unfold cFs at hch ⊢
    rw [e13, e14, e15]
    exact hch
end OBJ
