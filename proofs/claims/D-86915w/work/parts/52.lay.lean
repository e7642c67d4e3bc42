/-! PLAIN LAW, the twin: layReads -/
set_option maxRecDepth 100000
def tDi (C : Cf) (s : TS) (i : Nat) : Prop := ∀ k f q t pr fo, f < nT C → q < nT C → z_st C k i (kT C f) (kT C q) t pr fo → tDn C s k f q t pr fo
theorem tDi.le {C : Cf} {s s' : TS} {i : Nat} (h : tDi C s i) (m : tle s s') : tDi C s' i := fun k f q t pr fo h1 h2 h3 => (h k f q t pr fo h1 h2 h3).le m
theorem tw_laySteps {C : Cf} {Q : TS → Prop} {s : TS} {i : Nat} (ok : z_ok C) (h : tG C s) (hi : i ≤ C.1 34) (w : ∀ s', tB C s s' → tDi C s' i → Q s') : wX3_laySteps Q (nI i) s := by
  have o := ok.1
  obtain ⟨p, hp, hp1, hp2⟩ := h.2.1.re hi
  have inj := fun {a b : Nat} (h1 : a < nT C) (h2 : b < nT C) (e : kT C a = kT C b) => (kT_kn ok).inj h1 h2 e
  unfold wX3_laySteps
  rw [nI_clamp (by omega), hp1]
  refine ⟨vp_nI (by omega) (by decide), al_eq (tw_ls9 ok h hi hp hp2 (fun s1 m1 d1 => ?_))⟩
  have h1 := h.mv m1
  rw [h1.1.i 34]
  refine pk_eq i (C.1 34) (fun e => w s1 m1 ?_) (fun e => ?_) rfl rfl (by omega) (by omega)
  · intro k f q t pr fo hf hq hst
    rcases hst with g | g | g | g | g | g | g | g
    · obtain ⟨rfl, g2, g3, g4, g5, rfl, g7, g8⟩ := g
      have := inj hf hp (by omega)
      subst this
      have := inj hq hp (by omega)
      subst this
      rw [← g7] at g8 ⊢
      exact d1 t g5 g8
    all_goals omega
  have hi2 : i < C.1 34 := by omega
  obtain ⟨p1, hq, hq1, hq2⟩ := h.2.1.re (i := i + 1) (by omega)
  have bt := ok.2.2.2.1 i hi2
  rw [nI_clamp (by omega), h1.1.tx hi2]
  refine ⟨vp_nI (by omega) (by decide), al_eq ?_⟩
  rw [show nI i + 1 = nI (i + 1) from nI_1 i]
  refine ⟨vp_nI (by omega) (by decide), ?_⟩
  rw [nI_clamp (by omega), m1.1.a 32, hq1]
  have st2 := tw_step' (Q := fun s_6 => ∃ fu, wX3_laySteps_85 Q (fun (x1_7 : Int32) (x2_8 : Int32) (x3_9 : Int32) (s_10 : TS) => ∃ fu : Nat, wX3_laySteps_156 Q (fun (x1_11 : Int32) (x2_12 : Int32) (x3_13 : Int32) (s_14 : TS) => (x1_11 + 1 = s_14.1 34 → (Q s_14)) ∧ (¬ x1_11 + 1 = s_14.1 34 → (vp_in (x1_11 + 1) 11 ∧ (∀ x4_15 : Int32, x4_15 = s_14.2.1 15 (x1_11 + 1).toNatClampNeg → ((x4_15 = x3_13 → (wX3_laySteps_385 Q x1_11 x2_12 x3_13 x4_15 s_14)) ∧ (¬ x4_15 = x3_13 → (wX3_mayBe (fun (r_28 : Int32) (s_27 : TS) => (r_28 = 0 → (wX3_laySteps_385 Q x1_11 x2_12 x3_13 x4_15 s_27)) ∧ (¬ r_28 = 0 → (wX3_specialAt (fun (r_30 : Int32) (s_29 : TS) => wX3_step (fun (s_31 : TS) => wX3_laySteps_385 Q x1_11 x2_12 x3_13 x4_15 s_31) x4_15 x2_12 r_30 (s_29.1 3) 3 0 s_29) 1 x1_11 0 s_27))) 3 x1_11 2 0 s_14))))))) fu x1_7 x2_8 x3_9 0 s_10) fu (nI i) (nI p) (nI (C.2 15 i)) 0 s_6) ok h1 (k := 0) (i := i) (f := p) (q := p1) (t := C.2 15 i) (pr := 0) (fo := 0) hp hq (Or.inr (Or.inl ⟨rfl, hi2, hp2, by omega, rfl, rfl, rfl⟩)) (fun s2 m2 d2 => ?_)
  · rw [nI_0] at st2
    exact st2
  have h2 := h1.mv m2
  refine tw_ls85 ok h2 hi2 hp hp2 hq (by omega) (by rw [m2.1.a 32, m1.1.a 32]; exact hq1) (fun s3 m3 d3 => ?_)
  have h3 := h2.mv m3
  refine tw_ls156 ok h3 hi2 hp hp2 hq (by omega) (by rw [m3.1.a 32, m2.1.a 32, m1.1.a 32]; exact hq1) (fun s4 m4 d4 => ?_)
  have h4 := h3.mv m4
  -- what is done of one place
  have part : ∀ s', tle s4 s' → ∀ k f q t pr fo, f < nT C → q < nT C → z_st C k i (kT C f) (kT C q) t pr fo → (i + 1 < C.1 34 ∧ C.2 15 (i + 1) ≠ C.2 15 i ∧ (z_may C 3 i 2 0 = true → ∀ q, q < nT C → kT C q = 5 * i + 1 → tDn C s' 3 p q (C.2 15 (i + 1)) (C.1 3) 0) ∧ (∀ f q, f < nT C → q < nT C → kT C f = 5 * i + 1 → kT C q = 5 * i + 10 → tDn C s' 0 f q (C.2 15 i) 0 0) ∨ ¬ (i + 1 < C.1 34 ∧ C.2 15 (i + 1) ≠ C.2 15 i)) → (∀ f, i + 1 < C.1 34 → f < C.2 11 1 → C.2 12 (12 + 4 * f) = C.2 15 i → C.2 12 (12 + 4 * f + 1) = C.2 15 (i + 1) → z_fen C (C.2 12 (12 + 4 * f + 2)) = false → z_may C 5 i 2 f = true → ∀ q, q < nT C → kT C q = 5 * i + 10 → tDn C s' 5 p q (C.2 12 (12 + 4 * f + 2)) (C.2 12 (12 + 4 * f + 3)) f) → tDn C s' k f q t pr fo := by
    intro s' ml k f q t pr fo hf hq' hst dT dP
    rcases hst with g | g | g | g | g | g | g | g
    · obtain ⟨rfl, g2, g3, g4, g5, rfl, g7, g8⟩ := g
      have := inj hf hp (by omega)
      subst this
      have := inj hq' hp (by omega)
      subst this
      rw [← g7] at g8 ⊢
      exact ((((d1 t g5 g8).le m2.2.2).le m3.2.2).le m4.2.2).le ml
    · obtain ⟨rfl, g2, g3, g4, rfl, rfl, rfl⟩ := g
      have := inj hf hp (by omega)
      subst this
      have := inj hq' hq (by omega)
      subst this
      exact ((d2.le m3.2.2).le m4.2.2).le ml
    · obtain ⟨rfl, g2, g3, g4, g5, g6, rfl, g8, g9, rfl⟩ := g
      have := inj hf hp (by omega)
      subst this
      have := inj hq' hq (by omega)
      subst this
      exact ((d3 t g6 g5 g8 g9).le m4.2.2).le ml
    · obtain ⟨rfl, g2, g3, g4, g5, g6, rfl, g8, g9, g10, rfl⟩ := g
      have := inj hf hp (by omega)
      subst this
      exact ((d4 fo q g3 hq' g6 g4).1 g8 g9 g10).le ml
    · obtain ⟨rfl, g2, ⟨f', g3, g4, g5, rfl⟩, g6, rfl, rfl⟩ := g
      have := inj hq' hq (by omega)
      subst this
      exact (d4 f' f g3 hf g5 g4).2.le ml
    · obtain ⟨rfl, g2, g3, g4, g5, rfl, rfl, g8, rfl⟩ := g
      have := inj hf hp (by omega)
      subst this
      rcases dT with dT | dT
      · exact dT.2.2.1 g8 q hq' g5
      · exact absurd ⟨g2, g3⟩ dT
    · obtain ⟨rfl, g2, g3, g4, g5, rfl, rfl, rfl⟩ := g
      rcases dT with dT | dT
      · exact dT.2.2.2 f q hf hq' g4 g5
      · exact absurd ⟨g2, g3⟩ dT
    · obtain ⟨rfl, g2, g3, g4, g5, g6, g7, rfl, g9, g10, rfl⟩ := g
      have := inj hf hp (by omega)
      subst this
      exact dP fo g2 g3 g4 g5 g9 g10 q hq' g7
  rw [show nI i + 1 = nI (i + 1) from nI_1 i, h4.1.i 34]
  refine pk_eq (i + 1) (C.1 34) (fun e1 => w s4 (((m1.tr m2).tr m3).tr m4) (fun k f q t pr fo a b c => part s4 (fun _ _ _ _ _ w => w) k f q t pr fo a b c (Or.inr (by omega)) (fun f z => by omega))) (fun e1 => ?_) rfl rfl (by omega) (by omega)
  have hi3 : i + 1 < C.1 34 := by omega
  have bt1 := ok.2.2.2.1 (i + 1) hi3
  obtain ⟨p2, hr, hr1, hr2⟩ := h.2.1.re (i := i + 2) (by omega)
  rw [nI_clamp (by omega), h4.1.tx hi3]
  refine ⟨vp_nI (by omega) (by decide), al_eq ?_⟩
  have hm4 := ((m1.tr m2).tr m3).tr m4
  -- from the second half of a turning on
  have rest : ∀ s5, tB C s4 s5 → (C.2 15 (i + 1) ≠ C.2 15 i → (z_may C 3 i 2 0 = true → ∀ q, q < nT C → kT C q = 5 * i + 1 → tDn C s5 3 p q (C.2 15 (i + 1)) (C.1 3) 0)) → wX3_laySteps_385 Q (nI i) (nI p) (nI (C.2 15 i)) (nI (C.2 15 (i + 1))) s5 := by
    intro s5 m5 d5
    have h5 := h4.mv m5
    have last : ∀ s6, tB C s5 s6 → (C.2 15 (i + 1) ≠ C.2 15 i → ∀ f q, f < nT C → q < nT C → kT C f = 5 * i + 1 → kT C q = 5 * i + 10 → tDn C s6 0 f q (C.2 15 i) 0 0) → wX3_laySteps_430 Q (nI i) (nI p) (nI (C.2 15 i)) (nI (C.2 15 (i + 1))) s6 := by
      intro s6 m6 d6
      have h6 := h5.mv m6
      unfold wX3_laySteps_430
      refine tw_ls433 ok h6 hi3 hp hp2 hr (by omega) (by rw [m6.1.a 32, m5.1.a 32, hm4.1.a 32]; exact hr1) (fun s7 m7 d7 => w s7 ((hm4.tr m5).tr (m6.tr m7)) (fun k f q t pr fo a b c => part s7 ((m5.tr (m6.tr m7)).2.2) k f q t pr fo a b c ?_ ?_))
      · by_cases e : C.2 15 (i + 1) = C.2 15 i
        · exact Or.inr (fun z => z.2 e)
        · exact Or.inl ⟨hi3, e, fun z q a b => ((d5 e z q a b).le m6.2.2).le m7.2.2, fun f q a b a1 b1 => (d6 e f q a b a1 b1).le m7.2.2⟩
      · intro f _ g1 g2 g3 g4 g5 q g6 g7
        have := inj g6 hr (by omega)
        subst this
        exact d7 f g1 g2 g3 g4 g5
    have no : z_pl C = true ∨ C.2 15 (i + 1) = C.2 15 i → wX3_laySteps_430 Q (nI i) (nI p) (nI (C.2 15 i)) (nI (C.2 15 (i + 1))) s5 := by
      intro hn
      refine last s5 (tB.rf h5) (fun hne f q a b a1 _ => ?_)
      rcases hn with hn | hn
      · exfalso
        have := z_at_mem a
        unfold z_kl at this
        obtain ⟨i', c1, c2⟩ := z_kp_mem.mp this
        have g2' : z_at (z_kp C (z_pl C) (C.1 34 + 1)) f = 5 * i + 1 := a1
        rcases c2 with c2 | c2 | c2
        · omega
        · have := (z_kt_mem.mp c2).2.2; rw [hn] at this; cases this
        · obtain ⟨_, _, _, _, this, _⟩ := z_kf1_mem.mp c2; rw [hn] at this; cases this
      · exact absurd hn hne
    have plT : C.1 33 = 2 ∨ C.1 33 = 4 → z_pl C = true := by
      intro z
      unfold z_pl
      rcases z with e | e <;> rw [e] <;> rfl
    have b33 := h.1.b 33
    unfold wX3_laySteps_385
    rw [h5.1.i 33]
    refine pk_eq (C.2 15 (i + 1)) (C.2 15 i) (fun e => no (Or.inr e)) (fun e => ?_) rfl rfl (by omega) (by omega)
    refine pk_eq (C.1 33) 2 (fun e2 => no (Or.inl (plT (Or.inl e2)))) (fun e2 => ?_) rfl rfl (by omega) (by decide)
    refine pk_eq (C.1 33) 4 (fun e3 => no (Or.inl (plT (Or.inr e3)))) (fun e3 => ?_) rfl rfl (by omega) (by decide)
    have pl : z_pl C = false := by unfold z_pl; simp [e2, e3]
    obtain ⟨q, q1, q2⟩ := z_at_of (L := z_kl C (z_pl C)) (l := 5 * i + 1) (by
      unfold z_kl
      exact z_kp_mem.mpr ⟨i, by omega, Or.inr (Or.inl (z_kt_mem.mpr ⟨rfl, hi3, pl⟩))⟩)
    have q2' : kT C q = 5 * i + 1 := q2
    have sp := tw_specialAt (Q := fun (r_25 : Int32) (s_24 : TS) => vp_in (nI i + 2) 12 ∧ (wX3_step (fun (s_26 : TS) => wX3_laySteps_430 Q (nI i) (nI p) (nI (C.2 15 i)) (nI (C.2 15 (i + 1))) s_26) (nI (C.2 15 i)) r_25 (s_24.2.1 32 (nI i + 2).toNatClampNeg) 0 0 0 s_24)) ok h5.2.1 (p := q) (a := 1) (b := i) (c := 0) q1 (by unfold z_srt; rw [if_neg (by omega), if_pos (by omega)]) (by omega) (by omega) ?_
    · rw [nI_0] at sp
      exact sp
    · rw [show nI i + 2 = nI (i + 2) from nI_add _ 2]
      refine ⟨vp_nI (by omega) (by decide), ?_⟩
      rw [nI_clamp (by omega), m5.1.a 32, hm4.1.a 32, hr1]
      have := tw_step' (Q := fun s_26 => wX3_laySteps_430 Q (nI i) (nI p) (nI (C.2 15 i)) (nI (C.2 15 (i + 1))) s_26) ok h5 (k := 0) (i := i) (f := q) (q := p2) (t := C.2 15 i) (pr := 0) (fo := 0) q1 hr (Or.inr (Or.inr (Or.inr (Or.inr (Or.inr (Or.inr (Or.inl ⟨rfl, hi3, e, q2', by omega, rfl, rfl, rfl⟩))))))) (fun s6 m6 d6 => last s6 m6 (fun _ f' q' a b a1 b1 => ?_))
      · rw [nI_0] at this
        exact this
      · have := inj a q1 (by omega)
        subst this
        have := inj b hr (by omega)
        subst this
        exact d6
  refine pk_eq (C.2 15 (i + 1)) (C.2 15 i) (fun e => rest s4 (tB.rf h4) (fun z => absurd e z)) (fun e => ?_) rfl rfl (by omega) (by omega)
  have mb := tw_may (Q := fun (r_28 : Int32) (s_27 : TS) => (r_28 = 0 → (wX3_laySteps_385 Q (nI i) (nI p) (nI (C.2 15 i)) (nI (C.2 15 (i + 1))) s_27)) ∧ (¬ r_28 = 0 → (wX3_specialAt (fun (r_30 : Int32) (s_29 : TS) => wX3_step (fun (s_31 : TS) => wX3_laySteps_385 Q (nI i) (nI p) (nI (C.2 15 i)) (nI (C.2 15 (i + 1))) s_31) (nI (C.2 15 (i + 1))) (nI p) r_30 (s_29.1 3) 3 0 s_29) 1 (nI i) 0 s_27))) ok h4.1 (k := 3) (i := i) (m := 2) (w := 0) (by decide) (by decide) (by decide) (by omega) (fun hm => br_p rfl (rest s4 (tB.rf h4) (fun _ z => by rw [hm] at z; cases z))) (fun hm => br_n (by decide) ?_)
  · rw [nI_0] at mb
    exact mb
  · have pl := (z_may_iff.mp hm).1
    obtain ⟨q, q1, q2⟩ := z_at_of (L := z_kl C (z_pl C)) (l := 5 * i + 1) (by
      unfold z_kl
      exact z_kp_mem.mpr ⟨i, by omega, Or.inr (Or.inl (z_kt_mem.mpr ⟨rfl, hi3, pl⟩))⟩)
    have q2' : kT C q = 5 * i + 1 := q2
    have sp := tw_specialAt (Q := fun (r_30 : Int32) (s_29 : TS) => wX3_step (fun (s_31 : TS) => wX3_laySteps_385 Q (nI i) (nI p) (nI (C.2 15 i)) (nI (C.2 15 (i + 1))) s_31) (nI (C.2 15 (i + 1))) (nI p) r_30 (s_29.1 3) 3 0 s_29) ok h4.2.1 (p := q) (a := 1) (b := i) (c := 0) q1 (by unfold z_srt; rw [if_neg (by omega), if_pos (by omega)]) (by omega) (by omega) ?_
    · rw [nI_0] at sp
      exact sp
    · rw [h4.1.i 3]
      have := tw_step' (Q := fun (s_31 : TS) => wX3_laySteps_385 Q (nI i) (nI p) (nI (C.2 15 i)) (nI (C.2 15 (i + 1))) s_31) ok h4 (k := 3) (i := i) (f := p) (q := q) (t := C.2 15 (i + 1)) (pr := C.1 3) (fo := 0) hp q1 (Or.inr (Or.inr (Or.inr (Or.inr (Or.inr (Or.inl ⟨rfl, hi3, e, hp2, q2', rfl, rfl, hm, rfl⟩)))))) (fun s5 m5 d5 => rest s5 m5 (fun _ _ q' a b => ?_))
      · rw [nI_0] at this
        exact this
      · have := inj a q1 (by omega)
        subst this
        exact d5
/-! the best step -/
noncomputable def z_b1 (C : Cf) (t l q : Nat) : Nat := z_lst (fun fl => ∃ k i pr fo, z_st C k i fl q t pr fo ∧ z_up C l fl ≠ 1000000000 ∧ z_up C l fl + pr = z_R C t l q) 0
noncomputable def z_b2 (C : Cf) (t l q : Nat) : Nat := z_lst (fun k => ∃ i pr fo, z_st C k i (z_b1 C t l q) q t pr fo ∧ z_up C l (z_b1 C t l q) + pr = z_R C t l q) 0
noncomputable def z_b3 (C : Cf) (t l q : Nat) : Nat := z_lst (fun fo => ∃ i pr, z_st C (z_b2 C t l q) i (z_b1 C t l q) q t pr fo ∧ z_up C l (z_b1 C t l q) + pr = z_R C t l q) 0
/-- how the best step is known: the least of all -/
theorem z_b_eq {C : Cf} {t l q k i fl pr fo : Nat} (h1 : z_st C k i fl q t pr fo) (h2 : z_up C l fl ≠ 1000000000) (h3 : z_up C l fl + pr = z_R C t l q)
    (hm : ∀ k' i' fl' pr' fo', z_st C k' i' fl' q t pr' fo' → z_up C l fl' ≠ 1000000000 → z_up C l fl' + pr' = z_R C t l q → fl < fl' ∨ (fl = fl' ∧ (k < k' ∨ (k = k' ∧ fo ≤ fo')))) : z_b1 C t l q = fl ∧ z_b2 C t l q = k ∧ z_b3 C t l q = fo := by
  have e1 : z_b1 C t l q = fl := z_lst_eq ⟨k, i, pr, fo, h1, h2, h3⟩ (by
    rintro j hj ⟨k', i', pr', fo', g1, g2, g3⟩
    have := hm k' i' j pr' fo' g1 g2 g3
    omega)
  have e2 : z_b2 C t l q = k := z_lst_eq ⟨i, pr, fo, by rw [e1]; exact h1, by rw [e1]; exact h3⟩ (by
    rintro j hj ⟨i', pr', fo', g1, g3⟩
    rw [e1] at g1 g3
    have := hm j i' fl pr' fo' g1 h2 g3
    omega)
  refine ⟨e1, e2, z_lst_eq ⟨i, pr, by rw [e1, e2]; exact h1, by rw [e1]; exact h3⟩ ?_⟩
  rintro j hj ⟨i', pr', g1, g3⟩
  rw [e1, e2] at g1
  rw [e1] at g3
  have := hm k i' fl pr' j g1 h2 g3
  omega
/-- the twin's reads, when all is laid -/
def tRd (C : Cf) (s : TS) : Prop := ∀ t p q, t < C.1 0 → p < nT C → q < nT C → s.2.1 40 (2704 * t + 52 * p + q) = nI (z_R C t (kT C p) (kT C q)) ∧ (z_R C t (kT C p) (kT C q) ≠ 1000000000 → ∃ f, f < nT C ∧ s.2.1 41 (2704 * t + 52 * p + q) = nI f ∧ kT C f = z_b1 C t (kT C p) (kT C q) ∧ s.2.1 42 (2704 * t + 52 * p + q) = nI (z_b2 C t (kT C p) (kT C q)) ∧ s.2.1 43 (2704 * t + 52 * p + q) = nI (z_b3 C t (kT C p) (kT C q)) ∧ ∃ i pr, z_st C (z_b2 C t (kT C p) (kT C q)) i (kT C f) (kT C q) t pr (z_b3 C t (kT C p) (kT C q)) ∧ z_up C (kT C p) (kT C f) ≠ 1000000000 ∧ z_R C t (kT C p) (kT C q) = z_up C (kT C p) (kT C f) + pr)
theorem kT_main {C : Cf} {i : Nat} (hi : i ≤ C.1 34) : ∃ p, p < nT C ∧ kT C p = 5 * i := by
  obtain ⟨p, h1, h2⟩ := z_at_of (L := z_kl C (z_pl C)) (l := 5 * i) (by unfold z_kl; exact z_kp_mem.mpr ⟨i, by omega, Or.inl rfl⟩)
  exact ⟨p, h1, h2⟩
theorem tRd_of {C : Cf} {s : TS} (ok : z_ok C) (hR : tR C s) (hD : ∀ i, i ≤ C.1 34 → tDi C s i) : tRd C s := by
  intro t p q ht hp hq
  -- any step is behind what is there
  have all : ∀ k i fl pr fo, z_st C k i fl (kT C q) t pr fo → z_up C (kT C p) fl ≠ 1000000000 → ∃ f, f < nT C ∧ kT C f = fl ∧ tLe s (2704 * t + 52 * p + q) (z_up C (kT C p) fl + pr) f k fo := by
    intro k i fl pr fo hst hu
    have b := z_st_pl ok hst
    obtain ⟨f, hf, e⟩ : ∃ f, f < nT C ∧ kT C f = fl := by
      rcases z_up_main hu with z | z
      · exact ⟨p, hp, z⟩
      · obtain ⟨f, hf, e⟩ := kT_main (C := C) (i := fl / 5) (by omega)
        exact ⟨f, hf, by omega⟩
    subst e
    exact ⟨f, hf, rfl, hD i b.1 k f q t pr fo hf hq hst p hp hu⟩
  rcases hR t p q ht hp hq with h | ⟨v, f, k, fo, h1, hf, i, pr, h2, h3, h4⟩
  · have none : z_R C t (kT C p) (kT C q) = 1000000000 := by
      refine Classical.byContradiction fun hne => ?_
      obtain ⟨k, i, fl, pr, fo, g1, g2, g3⟩ := z_R_at hne
      obtain ⟨f, hf, -, v, f', k', fo', l1, l2⟩ := all k i fl pr fo g1 g2
      have := nI_inj (by decide) (by have := l1.2.2.2.2.1; omega) (h.symm.trans l1.1)
      have := l1.2.2.2.2.1
      omega
    exact ⟨by rw [none]; exact h, fun z => absurd none z⟩
  · have hv := h1.2.2.2.2.1
    have eR : z_R C t (kT C p) (kT C q) = v := by
      refine z_lst_eq ⟨k, i, kT C f, pr, fo, h2, h3, h4⟩ ?_
      rintro j hj ⟨k', i', fl', pr', fo', g1, g2, g3⟩
      obtain ⟨f', hf', -, v2, f2, k2, fo2, l1, l2⟩ := all k' i' fl' pr' fo' g1 g2
      have := (h1.un l1).1
      omega
    have key := z_b_eq (C := C) (t := t) (l := kT C p) (q := kT C q) h2 h3 (by rw [eR]; exact h4.symm) (by
      intro k' i' fl' pr' fo' g1 g2 g3
      obtain ⟨f', hf', rfl, v2, f2, k2, fo2, l1, l2⟩ := all k' i' fl' pr' fo' g1 g2
      obtain ⟨rfl, rfl, rfl, rfl⟩ := h1.un l1
      rw [eR] at g3
      have : f < f' ∨ (f = f' ∧ (k < k' ∨ (k = k' ∧ fo ≤ fo'))) := by omega
      rcases this with z | ⟨z, z2⟩
      · exact Or.inl ((kT_kn ok).1 f f' z hf')
      · exact Or.inr ⟨by rw [z], z2⟩)
    rw [eR]
    refine ⟨h1.1, fun _ => ⟨f, hf, h1.2.1, key.1.symm, by rw [key.2.1]; exact h1.2.2.1, by rw [key.2.2]; exact h1.2.2.2.1, i, pr, by rw [key.2.1, key.2.2]; exact h2, h3, h4⟩⟩
theorem tw_layReads {C : Cf} {Q : TS → Prop} {s : TS} (ok : z_ok C) (h : tC C (tI s 34 (nI (C.1 34)))) (q : ∀ s', tfr [28, 29, 30, 31, 32, 34, 38, 39, 40, 41, 42, 43] s s' → tC C s' → tKn C s' → tSkA C s' → tRd C s' → Q s') : wX3_layReads Q (nI (C.1 34)) s := by
  have o := ok.1
  have n51 := nT_le ok
  unfold wX3_layReads
  refine al_eq (tw_layKnots ok h (fun s1 m1 hk => ?_))
  have h1 := h.mv m1 (by decide)
  refine tw_laySkips ok h1 (fun s2 m2 hs => ?_)
  have h2 := h1.mv m2 (by decide)
  have hk2 := hk.mv m2 (by decide)
  refine pk_loop (σ := TS) (fun n x s' => wX3_layReads_16 Q _ n (nI (C.1 34)) (nI x) s') (fun x s' => tfr [40] s2 s' ∧ ∀ j, j < x → s'.2.1 40 j = nI 1000000000) (2704 * C.1 0) 0 s2 (by omega) ⟨tfr.rf, fun j hj => by omega⟩ ?_ ?_
  · rintro n s3 ⟨m3, d3⟩
    simp only [wX3_layReads_16]
    have h3 := h2.mv m3 (by decide)
    rw [h3.i 0, k2704, pk_mul]
    refine br_p (nI_le (Nat.le_refl _) (by omega)) ?_
    have g3 : tG C s3 := ⟨h3, hk2.mv m3 (by decide), hs.mv m3 (by decide) (by decide), fun t p q ht hp hq => Or.inl (d3 _ (by omega))⟩
    refine pk_loop (σ := TS) (fun n i s' => wX3_layReads_44 Q _ n (nI (C.1 34)) (nI i) s') (fun i s' => tB C s3 s' ∧ ∀ i', i' < i → tDi C s' i') (C.1 34 + 1) 0 s3 (by omega) ⟨tB.rf g3, fun i hi => by omega⟩ ?_ ?_
    · rintro n s4 ⟨m4, d4⟩
      simp only [wX3_layReads_44]
      have g4 := g3.mv m4
      refine br_p (nI_lt (by omega) (by omega)) (q s4 ?_ g4.1 g4.2.1 g4.2.2.1 (tRd_of ok g4.2.2.2 (fun i hi => d4 i (by omega))))
      exact ((((tfr.rf.I (by decide) _).tr (m1.sub (by decide))).tr (m2.sub (by decide))).tr (m3.sub (by decide))).tr (m4.1.sub (by decide))
    · rintro n i s4 hi ⟨m4, d4⟩ hs4
      simp only [wX3_layReads_44]
      refine br_n (nI_nlt (by omega) (by omega)) (tw_laySteps ok (g3.mv m4) (by omega) (fun s5 m5 d5 => ?_))
      rw [nI_1]
      refine al_eq (hs4 s5 ⟨m4.tr m5, fun i' hi' => ?_⟩)
      by_cases e : i' = i
      · subst e; exact d5
      · exact (d4 i' (by omega)).le m5.2.2
  · rintro n x s3 hx ⟨m3, d3⟩ hs3
    simp only [wX3_layReads_16]
    rw [(h2.mv m3 (by decide)).i 0, k2704, pk_mul, nI_1]
    refine br_n (nI_ge hx (by omega)) ⟨vp_nI (by omega) (by decide), al_eq (al_eq (hs3 _ ⟨m3.A (by decide) _ _, fun j hj => ?_⟩))⟩
    rw [tA_a, nI_clamp (by omega)]
    by_cases e : j = x
    · subst e; rw [va_up_self]; rfl
    · rw [va_up_ne _ _ e]; exact d3 j (by omega)
