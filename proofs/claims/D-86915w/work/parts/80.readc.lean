/-! PLAIN LAW, the component: a token is read -/
set_option maxRecDepth 100000
theorem st_fo {C : Cf} {k i fl tl t pr fo : Nat} (h : z_st C k i fl tl t pr fo) (h4 : ¬ (k = 4 ∨ k = 5)) : fo = 0 := by
  rcases h with h | h | h | h | h | h | h | h
  · exact h.2.2.2.2.2.1
  · exact h.2.2.2.2.2.1
  · exact h.2.2.2.2.2.2.1
  · exact absurd (Or.inl h.1) h4
  · exact h.2.2.2.2.1
  · exact h.2.2.2.2.2.2.1
  · exact h.2.2.2.2.2.2.1
  · exact absurd (Or.inr h.1) h4
section RDC
variable {C : Cf} {ow ow' : Nat → Nat} {σ σ' : gH} {x0 : Nat} {kk kc ru xs : Nat → Nat} {X2 X3 : cX} {Nc ns gw N : Nat} {fs0 : List Value} {st : St}
theorem sP.det2 (ok : z_ok C) {a k i f q t pr fo k' i' f' q' t' pr' fo' : Nat} (h : sP C ow σ kc x0 a k i f q t pr fo) (h' : sP C ow σ kc x0 a k' i' f' q' t' pr' fo') : k = k' ∧ fo = fo' := by
  obtain ⟨fm, nu, h1, h2, h3, h4, h5, h6, h7⟩ := h
  obtain ⟨fm', nu', g1, g2, g3, g4, g5, g6, g7⟩ := h'
  have b := z_st_pl ok h5
  have b' := z_st_pl ok g5
  have e := h1.1.symm.trans g1.1
  obtain ⟨e1, e2, e3, e4, e5, e6⟩ := sC_inj h4 g4 (Option.some.inj e)
  subst e1
  refine ⟨rfl, ?_⟩
  by_cases z : k = 4 ∨ k = 5
  · have y := e6 z
    have n1 : nu = fo := by
      rcases z with z | z
      · exact (h6 z).1
      · exact (h7 z).1
    have n2 : nu' = fo' := by
      rcases z with z | z
      · exact (g6 z).1
      · exact (g7 z).1
    have := nI_inj (by omega) (by omega) y
    omega
  · rw [st_fo h5 z, st_fo g5 z]
theorem sP.form (ok : z_ok C) {Q : Int32 → Prop} {a k i f q t pr fo : Nat} (h : sP C ow σ kc x0 a k i f q t pr fo) (w : Q (nI fo)) : vX8_form σ Q a := by
  obtain ⟨fm, nu, h1, h2, h3, h4, h5, h6, h7⟩ := h
  refine hv_form (by omega) h1.1 ?_
  by_cases z : k = 4 ∨ k = 5
  · rw [if_pos z]
    have n1 : nu = fo := by
      rcases z with z | z
      · exact (h6 z).1
      · exact (h7 z).1
    rw [n1]; exact w
  · rw [if_neg z, ← st_fo h5 z]; exact w
theorem sP.kind {Q : Int32 → Prop} {a k i f q t pr fo : Nat} (h : sP C ow σ kc x0 a k i f q t pr fo) (w : Q (nI k)) : vX8_kind σ Q a := by
  obtain ⟨fm, nu, h1, h2, h3, h4, h5, h6, h7⟩ := h
  exact hv_kind (by omega) h1.1 w
theorem sP.fr {Q : Int32 → Prop} {a k i f q t pr fo : Nat} (h : sP C ow σ kc x0 a k i f q t pr fo) (w : Q (nI f)) : c_I σ [8, 9, 10, 11, 12, 13, 14, 15] a 2 Q := by
  obtain ⟨fm, nu, h1, h2, h3, h4, h5, h6, h7⟩ := h
  exact hv_fr h1.1 w
theorem sP.to {Q : Int32 → Prop} {a k i f q t pr fo : Nat} (h : sP C ow σ kc x0 a k i f q t pr fo) (w : Q (nI q)) : c_I σ [8, 9, 10, 11, 12, 13, 14, 15] a 3 Q := by
  obtain ⟨fm, nu, h1, h2, h3, h4, h5, h6, h7⟩ := h
  exact hv_to h1.1 w
theorem sP.tk {Q : Int32 → Prop} {a k i f q t pr fo : Nat} (h : sP C ow σ kc x0 a k i f q t pr fo) (w : Q (nI t)) : c_I σ [8, 9, 10, 11, 12, 13, 14, 15] a 4 Q := by
  obtain ⟨fm, nu, h1, h2, h3, h4, h5, h6, h7⟩ := h
  exact hv_tk h1.1 w
/-- one step is ahead of another -/
theorem c_ahead {Q : Int32 → Prop} {a b k i f q t pr fo k' i' f' q' t' pr' fo' : Nat} (ok : z_ok C) (h : sP C ow σ kc x0 a k i f q t pr fo) (h' : sP C ow σ kc x0 b k' i' f' q' t' pr' fo') (w1 : (f < f' ∨ (f = f' ∧ (k < k' ∨ (k = k' ∧ fo < fo')))) → Q 1) (w0 : ¬ (f < f' ∨ (f = f' ∧ (k < k' ∨ (k = k' ∧ fo < fo')))) → Q 0) : wX16_isAhead Q σ gw (some a) (some b) := by
  have nk := nK_le ok
  obtain ⟨fm, nu, -, b2, b3, b4, b5, -⟩ := id h
  obtain ⟨fm', nu', -, g2, g3, g4, g5, -⟩ := id h'
  have p1 := z_st_pl ok b5
  have p2 := z_st_pl ok g5
  unfold wX16_isAhead
  refine ⟨_, rfl, h.fr ⟨_, rfl, h'.fr ?_⟩⟩
  refine pk_eq f f' (fun e => ?_) (fun e => ?_) rfl rfl (by omega) (by omega)
  · refine h.kind (h'.kind ?_)
    refine pk_eq k k' (fun e2 => ?_) (fun e2 => ?_) rfl rfl (by omega) (by omega)
    · refine h.form ok (h'.form ok ?_)
      refine pk_le fo' fo (fun e3 => w0 (by omega)) (fun e3 => w1 (by omega)) rfl rfl (by omega) (by omega)
    · refine h.kind (h'.kind ?_)
      refine pk_le k' k (fun e3 => w0 (by omega)) (fun e3 => w1 (by omega)) rfl rfl (by omega) (by omega)
  · refine h.fr (h'.fr ?_)
    refine pk_le f' f (fun e3 => w0 (by omega)) (fun e3 => w1 (by omega)) rfl rfl (by omega) (by omega)
/-- a word is written -/
theorem c_word {Q : gH → Prop} {mc ms uc us t : Nat} (ok : z_ok C) (hF : cFu C ow σ x0 kk kc Nc ns xs ru X2 X3) (hW : wS C ow σ x0 kk kc gw fs0 N st) (hn : st.1.2.1 < 300) (w : ∀ ow' σ', hmv TW ow σ ow' σ' → cFu C ow' σ' x0 kk kc Nc ns xs ru X2 X3 → wS C ow' σ' x0 kk kc gw fs0 N (y_wd t st) → Q σ') : wX16_read_213 Q mc ms uc us gw (nI t) σ := by
  obtain ⟨w0, w1, w2, w3, ⟨f, f1, f2⟩, tc, ft, t1, t2, t3⟩ := hW
  have ww := w0.set (.int (nI st.1.2.1))
  have hlen : 22 < (fs0.set 22 (.int (nI st.1.2.1))).length := by rw [List.length_set, w0.1]; decide
  have e22 : (fs0.set 22 (.int (nI st.1.2.1)))[22]? = some (.int (nI st.1.2.1)) := by
    rw [List.getElem?_set_self (by rw [w0.1]; decide)]
  unfold wX16_read_213
  refine i_R w1.1 (by decide) rfl ⟨_, rfl, i_R w2.1 (by decide) ww.2.2.2.2 (i_R w1.1 (by decide) rfl ⟨_, rfl, i_I w2.1 (by decide) e22 ⟨_, rfl, i_sI f1.1 rfl hn (by decide) ?_⟩⟩)⟩
  have m1 : hmv TW ow σ ow (g_up σ (kk 21) (cI 300 (upd f st.1.2.1 (nI t)))) := hmv.rf.up f1 (by decide) rfl
  have w1' := w1.up f1 (x := cI 300 (upd f st.1.2.1 (nI t))) (by decide)
  have w2' := w2.up f1 (x := cI 300 (upd f st.1.2.1 (nI t))) (by decide)
  obtain ⟨σ1, hσ1⟩ : ∃ σ1, σ1 = g_up σ (kk 21) (cI 300 (upd f st.1.2.1 (nI t))) := ⟨_, rfl⟩
  have f1' := f1.set (x := cI 300 (upd f st.1.2.1 (nI t)))
  rw [← hσ1] at m1 w1' w2' f1' ⊢
  refine i_R w1'.1 (by decide) rfl ⟨_, rfl, i_I w2'.1 (by decide) e22 (i_Pf (fs0.set 22 (.int (nI (st.1.2.1 + 1)))) w2'.1 (by decide) (by rw [nI_1, List.set_set]) hlen ?_)⟩
  have m2 : hmv TW ow σ1 ow (g_up σ1 x0 (cO 0 (fs0.set 22 (.int (nI (st.1.2.1 + 1)))))) := hmv.rf.up w2' (by decide) rfl
  have m2' : hmv [1] ow σ1 ow (g_up σ1 x0 (cO 0 (fs0.set 22 (.int (nI (st.1.2.1 + 1)))))) := hmv.rf.up w2' (by decide) rfl
  have m1' : hmv [7] ow σ ow σ1 := by rw [hσ1]; exact hmv.rf.up f1 (by decide) rfl
  have x2 := w2'.set (x := cO 0 (fs0.set 22 (.int (nI (st.1.2.1 + 1)))))
  have m12 := m1.tr m2
  refine w ow _ m12 (hF.mvW ok m12 ⟨_, x2, (w0.set _).2.1⟩) ⟨w0, w1'.mv m2' (by decide), x2, ?_, ⟨_, f1'.mv m2' (by decide), fun i hi => ?_⟩, tc, ft, (t1.mv m1' (by decide)).mv m2' (by decide), (t2.mv m1' (by decide)).mv m2' (by decide), fun w hw => ?_⟩
  · obtain ⟨l0, l1, xl, l2, l3⟩ := w3
    refine ⟨l0, l1, xl, (l2.mv m1' (by decide) (by decide)).mv m2' (by decide) (by decide), fun j hj => ?_⟩
    obtain ⟨k, i, w, pr, s1, s2⟩ := l3 j hj
    exact ⟨k, i, w, pr, (s1.mv m1' (by decide)).mv m2' (by decide), s2⟩
  · show upd f st.1.2.1 (nI t) i = va_up st.2.2.1 st.1.2.1 (nI t) i
    have hi' : i < st.1.2.1 + 1 := hi
    by_cases e : i = st.1.2.1
    · subst e; rw [upd_s, va_up_self]
    · rw [upd_n _ _ e, va_up_ne _ _ e]; exact f2 i (by omega)
  · obtain ⟨b, h, q1, q2, q3⟩ := t3 w hw
    exact ⟨b, h, q1, (q2.mv m1' (by simp only [List.mem_singleton]; omega)).mv m2' (by simp only [List.mem_singleton]; omega), q3⟩
end RDC
