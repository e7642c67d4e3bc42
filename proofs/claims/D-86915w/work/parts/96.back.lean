/-! PLAIN LAW: after reads both sides are alike again -/
set_option maxRecDepth 100000
abbrev LR : List Nat := 18 :: 19 :: LM
section BK
variable {C : Cf} {ow ow' : Nat → Nat} {σ σ' : gH} {x0 : Nat} {k : Nat → Nat} {s s' : TS} {ch : Int32} {wy : Option Nat}
theorem k_kind_nI {k ch x0 i f q t fm nu : Nat} (h1 : 1 ≤ k) (h2 : k ≤ 7) : ∃ ci fs, sC k ch x0 i f q t fm nu = cO ci fs ∧ 9 ≤ ci ∧ ci ≤ 15 ∧ k_kind ci = nI k ∧ fs[1]? = some (.int (nI i)) ∧ (if ci = 12 ∨ ci = 14 then nI (sTold k t nu) = 0 else fs[if ci = 13 then 8 else if ci = 11 ∨ ci = 15 then 9 else 4]? = some (.int (nI (sTold k t nu)))) := by
  have e : k = 1 ∨ k = 2 ∨ k = 3 ∨ k = 4 ∨ k = 5 ∨ k = 6 ∨ k = 7 := by omega
  rcases e with rfl | rfl | rfl | rfl | rfl | rfl | rfl
  · exact ⟨_, _, rfl, by decide, by decide, rfl, rfl, rfl⟩
  · exact ⟨_, _, rfl, by decide, by decide, rfl, rfl, rfl⟩
  · exact ⟨_, _, rfl, by decide, by decide, rfl, rfl, rfl⟩
  · exact ⟨_, _, rfl, by decide, by decide, rfl, rfl, rfl⟩
  · exact ⟨_, _, rfl, by decide, by decide, rfl, rfl, rfl⟩
  · exact ⟨_, _, rfl, by decide, by decide, rfl, rfl, rfl⟩
  · exact ⟨_, _, rfl, by decide, by decide, rfl, rfl, rfl⟩
/-- a slip of the list is told -/
theorem cSl.told {kc : Nat → Nat} {a kd i w pr : Nat} (h : cSl C ow σ kc x0 a kd i w pr) : r_slip ow σ a (nI kd) (nI i) (nI w) := by
  obtain ⟨f, q, t, fm, nu, h1, h2, h3, h4, h5, h6, h7, h8⟩ := h
  obtain ⟨ci, fs, e, e1, e2, e3, e4, e5⟩ := k_kind_nI (ch := kc 0) (x0 := x0) (i := i) (f := f) (q := q) (t := t) (fm := fm) (nu := nu) h2.1 h2.2
  rw [e] at h1
  rw [← h7.1] at e5
  exact ⟨ci, fs, h1, e1, e2, e3, e4, e5, vp_nI (by omega) (by decide), vp_nI (by omega) (by decide)⟩
theorem wL.told {kc : Nat → Nat} {N : Nat} {st : St} {g : Nat → Int32} (h : wL C ow σ x0 k kc N st) (hN : N ≤ 1000) (hg : ∀ i, i < 4 * st.1.1 → st.2.1 i = g i) : r_told ow σ (k 19) st.1.1 g := by
  obtain ⟨l0, l1, xl, l2, l3⟩ := h
  refine ⟨xl, l2.list hN, fun i hi => ?_⟩
  obtain ⟨kd, pl, w, pr, s1, s2, s3, s4, s5⟩ := l3 i hi
  rw [← hg (4 * i) (by omega), ← hg (4 * i + 1) (by omega), ← hg (4 * i + 2) (by omega), s2, s3, s4]
  exact s1.told
theorem r_slips.cg {a n : Nat} {g g' : Nat → Int32} (h : r_slips ow σ a n g) (hg : ∀ i, i < 4 * n → g i = g' i) : r_slips ow σ a n g' := by
  obtain ⟨tc, f, h1, h2, h3⟩ := h
  refine ⟨tc, f, h1, h2, fun w hw => ?_⟩
  obtain ⟨b, h, q1, q2, q3⟩ := h3 w hw
  exact ⟨b, h, q1, q2, fun i hi => by rw [q3 i hi, hg _ (by omega)]⟩
theorem wT.tree {st : St} {g : Nat → Int32} (h : wT ow σ k st) (hn : st.1.2.2 ≤ 100) (hg : ∀ i w, i < st.1.2.2 → w < 5 → st.2.2.2 (5 * i + w) = g (5 * i + w)) : r_tree ow σ (k 18) 120 st.1.2.2 100 g := by
  obtain ⟨-, tc, f, h1, h2, h3⟩ := h
  refine ⟨tc, f, h1, h2, fun w hw => ?_⟩
  obtain ⟨b, hh, q1, q2, q3⟩ := h3 w hw
  exact ⟨b, hh, q1, q2, fun i hi => by rw [q3 i (by omega), hg i w hi hw]⟩
theorem wT.wds {st : St} {g : Nat → Int32} (h : wT ow σ k st) (hg : ∀ i, i < st.1.2.1 → st.2.2.1 i = g i) : r_words ow σ (k 21) st.1.2.1 g := by
  obtain ⟨⟨f, f1, f2⟩, -⟩ := h
  exact ⟨f, f1, fun i hi => by rw [f2 i hi, hg i hi]⟩
end BK
