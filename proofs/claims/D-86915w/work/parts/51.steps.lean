/-! PLAIN LAW, the twin: all steps are laid -/
set_option maxRecDepth 100000
def tB (C : Cf) (s s' : TS) : Prop := tfr [40, 41, 42, 43] s s' ∧ tR C s' ∧ tle s s'
theorem tB.tr {C : Cf} {s s1 s2 : TS} (h : tB C s s1) (g : tB C s1 s2) : tB C s s2 := ⟨h.1.tr g.1, g.2.1, h.2.2.tr g.2.2⟩
def tG (C : Cf) (s : TS) : Prop := tC C s ∧ tKn C s ∧ tSkA C s ∧ tR C s
theorem tB.rf {C : Cf} {s : TS} (h : tG C s) : tB C s s := ⟨tfr.rf, h.2.2.2, fun _ _ _ _ _ w => w⟩
theorem tG.mv {C : Cf} {s s' : TS} (h : tG C s) (m : tB C s s') : tG C s' := ⟨h.1.mv m.1 (by decide), h.2.1.mv m.1 (by decide), h.2.2.1.mv m.1 (by decide) (by decide), m.2.1⟩
theorem tw_step' {C : Cf} {Q : TS → Prop} {s : TS} (ok : z_ok C) (h : tG C s) {k i f q t pr fo : Nat} (hf : f < nT C) (hq : q < nT C) (hst : z_st C k i (kT C f) (kT C q) t pr fo)
    (w : ∀ s', tB C s s' → tDn C s' k f q t pr fo → Q s') : wX3_step Q (nI t) (nI f) (nI q) (nI pr) (nI k) (nI fo) s :=
  tw_step ok h.1 h.2.1 h.2.2.1 h.2.2.2 hf hq hst (fun s' a b c d => w s' ⟨a, b, c⟩ d)
section STEPS
variable {C : Cf} {Q : TS → Prop} {s : TS} {i p : Nat}
/-- lost -/
theorem tw_ls9 {K : Int32 → Int32 → TS → Prop} (ok : z_ok C) (h : tG C s) (hi : i ≤ C.1 34) (hp : p < nT C) (hp2 : kT C p = 5 * i) (w : ∀ s', tB C s s' → (∀ t, t < C.1 0 → z_lp C i t ≠ 1000000000 → tDn C s' 1 p p t (z_lp C i t) 0) → K (nI i) (nI p) s') : ∃ fu, wX3_laySteps_9 Q K fu (nI i) (nI p) 0 s := by
  have o := ok.1
  refine pk_loop (σ := TS) (fun n t s' => wX3_laySteps_9 Q K n (nI i) (nI p) (nI t) s') (fun t s' => tB C s s' ∧ ∀ t', t' < t → z_lp C i t' ≠ 1000000000 → tDn C s' 1 p p t' (z_lp C i t') 0) (C.1 0) 0 s (by omega) ⟨tB.rf h, fun t ht => by omega⟩ ?_ ?_
  · rintro n s1 ⟨m1, m2⟩
    simp only [wX3_laySteps_9]
    rw [(h.mv m1).1.i 0]
    exact br_p (nI_le (Nat.le_refl _) (by omega)) (w s1 m1 m2)
  · rintro n t s1 ht ⟨m1, m2⟩ hs
    simp only [wX3_laySteps_9]
    have h1 := h.mv m1
    rw [h1.1.i 0]
    refine br_n (nI_ge ht (by omega)) (tw_lostPrice ok h1.1 hi ht ?_)
    have nx : ∀ s2, tB C s1 s2 → (z_lp C i t ≠ 1000000000 → tDn C s2 1 p p t (z_lp C i t) 0) → wX3_laySteps_43 Q (wX3_laySteps_9 Q K n) K (nI i) (nI p) (nI t) s2 := by
      intro s2 l1 l2
      unfold wX3_laySteps_43
      rw [nI_1]
      refine al_eq (hs s2 ⟨m1.tr l1, fun t' ht' hne => ?_⟩)
      by_cases e : t' = t
      · subst e; exact l2 hne
      · exact (m2 t' (by omega) hne).le l1.2.2
    have lb : z_lp C i t = 1000000000 ∨ z_lp C i t ≤ 100 := by
      by_cases e : z_lp C i t = 1000000000
      · exact Or.inl e
      · have := z_st_pl ok (show z_st C 1 i (5 * i) (5 * i) t (z_lp C i t) 0 from Or.inl ⟨rfl, hi, rfl, rfl, ht, rfl, rfl, e⟩)
        omega
    rw [k1e9]
    refine pk_eq (z_lp C i t) 1000000000 (fun e => nx s1 (tB.rf h1) (fun z => absurd e z)) (fun e => ?_) rfl rfl (by omega) (by decide)
    have := tw_step' (Q := fun s2 => wX3_laySteps_43 Q (wX3_laySteps_9 Q K n) K (nI i) (nI p) (nI t) s2) ok h1 (k := 1) (i := i) hp hp (show z_st C 1 i (kT C p) (kT C p) t (z_lp C i t) 0 from Or.inl ⟨rfl, hi, hp2, hp2, ht, rfl, rfl, e⟩) (fun s2 l1 l2 => nx s2 l1 (fun _ => l2))
    rw [nI_0] at this
    exact this
/-- another one -/
theorem tw_ls85 {K : Int32 → Int32 → Int32 → TS → Prop} {p1 : Nat} (ok : z_ok C) (h : tG C s) (hi : i < C.1 34) (hp : p < nT C) (hp2 : kT C p = 5 * i) (hq : p1 < nT C) (hq2 : kT C p1 = 5 * i + 5) (hq3 : s.2.1 32 (i + 1) = nI p1) (w : ∀ s', tB C s s' → (∀ t, t < C.1 0 → t ≠ C.2 15 i → z_fen C t = false → z_may C 2 i 1 t = true → tDn C s' 2 p p1 t (C.2 2 (24 + C.2 15 i)) 0) → K (nI i) (nI p) (nI (C.2 15 i)) s') : ∃ fu, wX3_laySteps_85 Q K fu (nI i) (nI p) (nI (C.2 15 i)) 0 s := by
  have o := ok.1
  have bt := ok.2.2.2.1 i hi
  refine pk_loop (σ := TS) (fun n t s' => wX3_laySteps_85 Q K n (nI i) (nI p) (nI (C.2 15 i)) (nI t) s') (fun t s' => tB C s s' ∧ ∀ t', t' < t → t' ≠ C.2 15 i → z_fen C t' = false → z_may C 2 i 1 t' = true → tDn C s' 2 p p1 t' (C.2 2 (24 + C.2 15 i)) 0) (C.1 0) 0 s (by omega) ⟨tB.rf h, fun t ht => by omega⟩ ?_ ?_
  · rintro n s1 ⟨m1, m2⟩
    simp only [wX3_laySteps_85]
    rw [(h.mv m1).1.i 0]
    exact br_p (nI_le (Nat.le_refl _) (by omega)) (w s1 m1 m2)
  · rintro n t s1 ht ⟨m1, m2⟩ hs
    simp only [wX3_laySteps_85]
    have h1 := h.mv m1
    rw [h1.1.i 0]
    have nx : ∀ s2, tB C s1 s2 → (t ≠ C.2 15 i → z_fen C t = false → z_may C 2 i 1 t = true → tDn C s2 2 p p1 t (C.2 2 (24 + C.2 15 i)) 0) → wX3_laySteps_147 Q (wX3_laySteps_85 Q K n) K (nI i) (nI p) (nI (C.2 15 i)) (nI t) s2 := by
      intro s2 l1 l2
      unfold wX3_laySteps_147
      rw [nI_1]
      refine al_eq (hs s2 ⟨m1.tr l1, fun t' ht' g1 g2 g3 => ?_⟩)
      by_cases e : t' = t
      · subst e; exact l2 g1 g2 g3
      · exact (m2 t' (by omega) g1 g2 g3).le l1.2.2
    refine br_n (nI_ge ht (by omega)) ?_
    refine pk_eq t (C.2 15 i) (fun e => nx s1 (tB.rf h1) (fun z => absurd e z)) (fun e => ?_) rfl rfl (by omega) (by omega)
    refine tw_fen ok h1.1 ht (fun hf => br_p rfl ?_) (fun hf => br_n (by decide) (nx s1 (tB.rf h1) (fun _ z => by rw [hf] at z; cases z)))
    have := tw_may (Q := fun (r_51 : Int32) (s_50 : TS) => (r_51 = 0 → (wX3_laySteps_147 Q (wX3_laySteps_85 Q K n) K (nI i) (nI p) (nI (C.2 15 i)) (nI t) s_50)) ∧ (¬ r_51 = 0 → (vp_in (nI i + 1) 12 ∧ (vp_in (24 + nI (C.2 15 i)) 36 ∧ (wX3_step (fun (s_52 : TS) => wX3_laySteps_147 Q (wX3_laySteps_85 Q K n) K (nI i) (nI p) (nI (C.2 15 i)) (nI t) s_52) (nI t) (nI p) (s_50.2.1 32 (nI i + 1).toNatClampNeg) (s_50.2.1 2 (24 + nI (C.2 15 i)).toNatClampNeg) 2 0 s_50))))) ok h1.1 (k := 2) (i := i) (m := 1) (w := t) (by decide) (by decide) (by omega) (by omega) (fun hm => br_p rfl (nx s1 (tB.rf h1) (fun _ _ z => by rw [hm] at z; cases z))) (fun hm => br_n (by decide) ?_)
    · exact this
    · simp only [k24, nI_add, nI_1]
      refine ⟨vp_nI (by omega) (by decide), vp_nI (by omega) (by decide), ?_⟩
      rw [nI_clamp (by omega), nI_clamp (by omega), m1.1.a 32, hq3]
      have hpr := h1.1.pr (w := 2) (t := C.2 15 i) (by decide) bt
      rw [show 12 * 2 + C.2 15 i = 24 + C.2 15 i by omega] at hpr
      rw [hpr]
      have := tw_step' (Q := fun s2 => wX3_laySteps_147 Q (wX3_laySteps_85 Q K n) K (nI i) (nI p) (nI (C.2 15 i)) (nI t) s2) ok h1 (k := 2) (i := i) (f := p) (q := p1) (t := t) (pr := C.2 2 (24 + C.2 15 i)) (fo := 0) hp hq (Or.inr (Or.inr (Or.inl ⟨rfl, hi, hp2, hq2, e, ht, rfl, hf, hm, rfl⟩))) (fun s2 l1 l2 => nx s2 l1 (fun _ _ _ => l2))
      rw [nI_0] at this
      exact this
/-- stuck -/
theorem tw_ls156 {K : Int32 → Int32 → Int32 → TS → Prop} {p1 : Nat} (ok : z_ok C) (h : tG C s) (hi : i < C.1 34) (hp : p < nT C) (hp2 : kT C p = 5 * i) (hq : p1 < nT C) (hq2 : kT C p1 = 5 * i + 5) (hq3 : s.2.1 32 (i + 1) = nI p1) (w : ∀ s', tB C s s' → (∀ f q, f < C.2 11 0 → q < nT C → kT C q = 5 * i + 2 + f → C.2 12 (4 * f + 2) = C.2 15 i → (z_fen C (C.2 12 (4 * f)) = false → z_fen C (C.2 12 (4 * f + 1)) = false → z_may C 4 i 1 f = true → tDn C s' 4 p q (C.2 12 (4 * f)) (C.2 12 (4 * f + 3)) f) ∧ tDn C s' 0 q p1 (C.2 12 (4 * f + 1)) 0 0) → K (nI i) (nI p) (nI (C.2 15 i)) s') : ∃ fu, wX3_laySteps_156 Q K fu (nI i) (nI p) (nI (C.2 15 i)) 0 s := by
  have o := ok.1
  have bt := ok.2.2.2.1 i hi
  have b33 := h.1.b 33
  refine pk_loop (σ := TS) (fun n t s' => wX3_laySteps_156 Q K n (nI i) (nI p) (nI (C.2 15 i)) (nI t) s') (fun F s' => tB C s s' ∧ ∀ f q, f < F → q < nT C → kT C q = 5 * i + 2 + f → C.2 12 (4 * f + 2) = C.2 15 i → (z_fen C (C.2 12 (4 * f)) = false → z_fen C (C.2 12 (4 * f + 1)) = false → z_may C 4 i 1 f = true → tDn C s' 4 p q (C.2 12 (4 * f)) (C.2 12 (4 * f + 3)) f) ∧ tDn C s' 0 q p1 (C.2 12 (4 * f + 1)) 0 0) (C.2 11 0) 0 s (by omega) ⟨tB.rf h, fun t _ ht => by omega⟩ ?_ ?_
  · rintro n s1 ⟨m1, m2⟩
    simp only [wX3_laySteps_156]
    rw [(h.mv m1).1.fn (by decide)]
    exact ⟨vp_nI (n := 0) (by decide) (by decide), br_p (nI_le (Nat.le_refl _) (by omega)) (w s1 m1 m2)⟩
  · rintro n f s1 hf ⟨m1, m2⟩ hs
    simp only [wX3_laySteps_156]
    have h1 := h.mv m1
    have e0 := h1.1.fo (w := 0) (f := f) (j := 0) (by decide) hf (by decide)
    have e1 := h1.1.fo (w := 0) (f := f) (j := 1) (by decide) hf (by decide)
    have e2 := h1.1.fo (w := 0) (f := f) (j := 2) (by decide) hf (by decide)
    have ob := ok.2.2.2.2.2 0 f (by decide) hf
    have ob0 := ob.1 0 (by decide)
    have ob1 := ob.1 1 (by decide)
    have ob2 := ob.1 2 (by decide)
    have ob3 := ob.2
    rw [show 12 * 0 + 4 * f + 0 = 4 * f by omega] at e0 ob0
    rw [show 12 * 0 + 4 * f + 1 = 4 * f + 1 by omega] at e1 ob1
    rw [show 12 * 0 + 4 * f + 2 = 4 * f + 2 by omega] at e2 ob2
    rw [show 12 * 0 + 4 * f + 3 = 4 * f + 3 by omega] at ob3
    rw [h1.1.fn (by decide)]
    refine ⟨vp_nI (n := 0) (by decide) (by decide), br_n (nI_ge hf (by omega)) ?_⟩
    simp only [k4, k2, pk_mul, nI_add, nI_1]
    refine ⟨vp_nI (by omega) (by decide), al_eq ⟨vp_nI (by omega) (by decide), al_eq ⟨vp_nI (by omega) (by decide), ?_⟩⟩⟩
    rw [nI_clamp (by omega), nI_clamp (by omega), nI_clamp (by omega), e0, e1, e2]
    -- the next one
    have nx : ∀ s2, tB C s1 s2 → (∀ q, q < nT C → kT C q = 5 * i + 2 + f → C.2 12 (4 * f + 2) = C.2 15 i → (z_fen C (C.2 12 (4 * f)) = false → z_fen C (C.2 12 (4 * f + 1)) = false → z_may C 4 i 1 f = true → tDn C s2 4 p q (C.2 12 (4 * f)) (C.2 12 (4 * f + 3)) f) ∧ tDn C s2 0 q p1 (C.2 12 (4 * f + 1)) 0 0) → wX3_laySteps_321 Q (wX3_laySteps_156 Q K n) K (nI i) (nI p) (nI (C.2 15 i)) (nI f) s2 := by
      intro s2 l1 l2
      unfold wX3_laySteps_321
      rw [nI_1]
      refine al_eq (hs s2 ⟨m1.tr l1, fun f' q hf' g1 g2 g3 => ?_⟩)
      by_cases e : f' = f
      · subst e; exact l2 q g1 g2 g3
      · have := m2 f' q (by omega) g1 g2 g3
        exact ⟨fun a b c => (this.1 a b c).le l1.2.2, this.2.le l1.2.2⟩
    -- the second half
    have half : ∀ s2, tB C s1 s2 → (∀ q, q < nT C → kT C q = 5 * i + 2 + f → C.2 12 (4 * f + 2) = C.2 15 i → z_fen C (C.2 12 (4 * f)) = false → z_fen C (C.2 12 (4 * f + 1)) = false → z_may C 4 i 1 f = true → tDn C s2 4 p q (C.2 12 (4 * f)) (C.2 12 (4 * f + 3)) f) → wX3_laySteps_265 Q (wX3_laySteps_156 Q K n) K (nI i) (nI p) (nI (C.2 15 i)) (nI f) (nI (C.2 12 (4 * f + 1))) s2 := by
      intro s2 l1 l2
      have h2 := h1.mv l1
      unfold wX3_laySteps_265
      have e2' := h2.1.fo (w := 0) (f := f) (j := 2) (by decide) hf (by decide)
      rw [show 12 * 0 + 4 * f + 2 = 4 * f + 2 by omega] at e2'
      have nok : (z_pl C = true ∨ C.2 12 (4 * f + 2) ≠ C.2 15 i) → wX3_laySteps_321 Q (wX3_laySteps_156 Q K n) K (nI i) (nI p) (nI (C.2 15 i)) (nI f) s2 := by
        intro hn
        refine nx s2 l1 (fun q g1 g2 g3 => ?_)
        exfalso
        rcases hn with hn | hn
        · have := z_at_mem g1
          unfold z_kl at this
          obtain ⟨i', a1, a2⟩ := z_kp_mem.mp this
          have g2' : z_at (z_kp C (z_pl C) (C.1 34 + 1)) q = 5 * i + 2 + f := g2
          rcases a2 with a2 | a2 | a2
          · omega
          · have := (z_kt_mem.mp a2).2.2; rw [hn] at this; cases this
          · obtain ⟨_, _, _, _, this, _⟩ := z_kf1_mem.mp a2; rw [hn] at this; cases this
        · exact hn g3
      have plT : C.1 33 = 2 ∨ C.1 33 = 4 → z_pl C = true := by
        intro z
        unfold z_pl
        rcases z with e | e <;> rw [e] <;> rfl
      simp only [k4, pk_mul]
      rw [show nI (4 * f) + 2 = nI (4 * f + 2) from nI_add _ 2, show nI i + 1 = nI (i + 1) from nI_1 i]
      refine ⟨vp_nI (by omega) (by decide), ?_⟩
      rw [nI_clamp (by omega), e2', h2.1.i 33]
      refine pk_eq (C.2 12 (4 * f + 2)) (C.2 15 i) (fun g => ?_) (fun g => nok (Or.inr g)) rfl rfl (by omega) (by omega)
      refine pk_eq (C.1 33) 2 (fun g2 => nok (Or.inl (plT (Or.inl g2)))) (fun g2 => ?_) rfl rfl (by omega) (by decide)
      refine pk_eq (C.1 33) 4 (fun g3 => nok (Or.inl (plT (Or.inr g3)))) (fun g3 => ?_) rfl (by rfl) (by omega) (by decide)
      have pl : z_pl C = false := by unfold z_pl; simp [g2, g3]
      obtain ⟨q, q1, q2⟩ := z_at_of (L := z_kl C (z_pl C)) (l := 5 * i + 2 + f) (by
        unfold z_kl
        exact z_kp_mem.mpr ⟨i, by omega, Or.inr (Or.inr (z_kf1_mem.mpr ⟨f, hf, rfl, hi, pl, g⟩))⟩)
      have q2' : kT C q = 5 * i + 2 + f := q2
      refine tw_specialAt ok h2.2.1 (p := q) q1 (by unfold z_srt; rw [if_neg (by omega), if_neg (by omega)]) (by omega) (by omega) ⟨vp_nI (by omega) (by decide), ?_⟩
      rw [nI_clamp (by omega), (m1.tr l1).1.a 32, hq3]
      have := tw_step' (Q := fun s2 => wX3_laySteps_321 Q (wX3_laySteps_156 Q K n) K (nI i) (nI p) (nI (C.2 15 i)) (nI f) s2) ok h2 (k := 0) (i := i) (f := q) (q := p1) (t := C.2 12 (4 * f + 1)) (pr := 0) (fo := 0) q1 hq (Or.inr (Or.inr (Or.inr (Or.inr (Or.inl ⟨rfl, hi, ⟨f, hf, g, q2', rfl⟩, hq2, rfl, rfl⟩))))) (fun s3 k1 k2 => nx s3 (l1.tr k1) (fun q' a1 a2 a3 => ?_))
      · rw [nI_0] at this
        exact this
      · have := (kT_kn ok).inj a1 q1 (by omega)
        subst this
        exact ⟨fun b1 b2 b3 => (l2 q' a1 a2 a3 b1 b2 b3).le k1.2.2, k2⟩
    refine pk_eq (C.2 12 (4 * f + 2)) (C.2 15 i) (fun g => ?_) (fun g => half s1 (tB.rf h1) (fun _ _ _ z => absurd z g)) rfl rfl (by omega) (by omega)
    refine tw_fen ok h1.1 ob0 (fun fa => br_p rfl ?_) (fun fa => br_n (by decide) (half s1 (tB.rf h1) (fun _ _ _ _ z => by rw [fa] at z; cases z)))
    refine tw_fen ok h1.1 ob1 (fun fb => br_p rfl ?_) (fun fb => br_n (by decide) (half s1 (tB.rf h1) (fun _ _ _ _ _ z => by rw [fb] at z; cases z)))
    refine tw_may ok h1.1 (k := 4) (i := i) (m := 1) (w := f) (by decide) (by decide) (by omega) (by omega) (fun hm => br_p rfl (half s1 (tB.rf h1) (fun _ _ _ _ _ _ z => by rw [hm] at z; cases z))) (fun hm => br_n (by decide) ?_)
    have pl := (z_may_iff.mp hm).1
    obtain ⟨q, q1, q2⟩ := z_at_of (L := z_kl C (z_pl C)) (l := 5 * i + 2 + f) (by
      unfold z_kl
      exact z_kp_mem.mpr ⟨i, by omega, Or.inr (Or.inr (z_kf1_mem.mpr ⟨f, hf, rfl, hi, pl, g⟩))⟩)
    have q2' : kT C q = 5 * i + 2 + f := q2
    refine tw_specialAt ok h1.2.1 (p := q) q1 (by unfold z_srt; rw [if_neg (by omega), if_neg (by omega)]) (by omega) (by omega) ?_
    have e3 := h1.1.fo (w := 0) (f := f) (j := 3) (by decide) hf (by decide)
    rw [show 12 * 0 + 4 * f + 3 = 4 * f + 3 by omega] at e3
    rw [show nI (4 * f) + 3 = nI (4 * f + 3) from nI_add _ 3]
    refine ⟨vp_nI (by omega) (by decide), ?_⟩
    rw [nI_clamp (by omega), e3]
    refine tw_step' ok h1 (k := 4) (i := i) (f := p) (q := q) (t := C.2 12 (4 * f)) (pr := C.2 12 (4 * f + 3)) (fo := f) hp q1 (Or.inr (Or.inr (Or.inr (Or.inl ⟨rfl, hi, hf, g, hp2, q2', rfl, fa, fb, hm, rfl⟩)))) (fun s3 k1 k2 => half s3 k1 (fun q' a1 a2 a3 _ _ _ => ?_))
    have := (kT_kn ok).inj a1 q1 (by omega)
    subst this
    exact k2
/-- parted -/
theorem tw_ls433 {K : TS → Prop} {p2 : Nat} (ok : z_ok C) (h : tG C s) (hi : i + 1 < C.1 34) (hp : p < nT C) (hp2 : kT C p = 5 * i) (hq : p2 < nT C) (hq2 : kT C p2 = 5 * i + 10) (hq3 : s.2.1 32 (i + 2) = nI p2) (w : ∀ s', tB C s s' → (∀ f, f < C.2 11 1 → C.2 12 (12 + 4 * f) = C.2 15 i → C.2 12 (12 + 4 * f + 1) = C.2 15 (i + 1) → z_fen C (C.2 12 (12 + 4 * f + 2)) = false → z_may C 5 i 2 f = true → tDn C s' 5 p p2 (C.2 12 (12 + 4 * f + 2)) (C.2 12 (12 + 4 * f + 3)) f) → K s') : ∃ fu, wX3_laySteps_433 Q K fu (nI i) (nI p) (nI (C.2 15 i)) (nI (C.2 15 (i + 1))) 0 s := by
  have o := ok.1
  have bt := ok.2.2.2.1 i (by omega)
  have bt1 := ok.2.2.2.1 (i + 1) hi
  refine pk_loop (σ := TS) (fun n t s' => wX3_laySteps_433 Q K n (nI i) (nI p) (nI (C.2 15 i)) (nI (C.2 15 (i + 1))) (nI t) s') (fun F s' => tB C s s' ∧ ∀ f, f < F → C.2 12 (12 + 4 * f) = C.2 15 i → C.2 12 (12 + 4 * f + 1) = C.2 15 (i + 1) → z_fen C (C.2 12 (12 + 4 * f + 2)) = false → z_may C 5 i 2 f = true → tDn C s' 5 p p2 (C.2 12 (12 + 4 * f + 2)) (C.2 12 (12 + 4 * f + 3)) f) (C.2 11 1) 0 s (by omega) ⟨tB.rf h, fun t ht => by omega⟩ ?_ ?_
  · rintro n s1 ⟨m1, m2⟩
    simp only [wX3_laySteps_433]
    rw [(h.mv m1).1.fn (by decide)]
    exact ⟨vp_nI (n := 1) (by decide) (by decide), br_p (nI_le (Nat.le_refl _) (by omega)) (w s1 m1 m2)⟩
  · rintro n f s1 hf ⟨m1, m2⟩ hs
    simp only [wX3_laySteps_433]
    have h1 := h.mv m1
    have e0 := h1.1.fo (w := 1) (f := f) (j := 0) (by decide) hf (by decide)
    have e1 := h1.1.fo (w := 1) (f := f) (j := 1) (by decide) hf (by decide)
    have e2 := h1.1.fo (w := 1) (f := f) (j := 2) (by decide) hf (by decide)
    have e3 := h1.1.fo (w := 1) (f := f) (j := 3) (by decide) hf (by decide)
    have ob := ok.2.2.2.2.2 1 f (by decide) hf
    have ob0 := ob.1 0 (by decide)
    have ob1 := ob.1 1 (by decide)
    have ob2 := ob.1 2 (by decide)
    have ob3 := ob.2
    rw [show 12 * 1 + 4 * f + 0 = 12 + 4 * f by omega] at e0 ob0
    rw [show 12 * 1 + 4 * f + 1 = 12 + 4 * f + 1 by omega] at e1 ob1
    rw [show 12 * 1 + 4 * f + 2 = 12 + 4 * f + 2 by omega] at e2 ob2
    rw [show 12 * 1 + 4 * f + 3 = 12 + 4 * f + 3 by omega] at e3 ob3
    rw [h1.1.fn (by decide)]
    refine ⟨vp_nI (n := 1) (by decide) (by decide), br_n (nI_ge hf (by omega)) ?_⟩
    simp only [k4, k12, pk_mul, nI_add]
    refine al_eq ?_
    have nx : ∀ s2, tB C s1 s2 → (C.2 12 (12 + 4 * f) = C.2 15 i → C.2 12 (12 + 4 * f + 1) = C.2 15 (i + 1) → z_fen C (C.2 12 (12 + 4 * f + 2)) = false → z_may C 5 i 2 f = true → tDn C s2 5 p p2 (C.2 12 (12 + 4 * f + 2)) (C.2 12 (12 + 4 * f + 3)) f) → wX3_laySteps_540 Q (wX3_laySteps_433 Q K n) K (nI i) (nI p) (nI (C.2 15 i)) (nI (C.2 15 (i + 1))) (nI f) s2 := by
      intro s2 l1 l2
      unfold wX3_laySteps_540
      rw [nI_1]
      refine al_eq (hs s2 ⟨m1.tr l1, fun f' hf' g1 g2 g3 g4 => ?_⟩)
      by_cases e : f' = f
      · subst e; exact l2 g1 g2 g3 g4
      · exact (m2 f' (by omega) g1 g2 g3 g4).le l1.2.2
    rw [show nI (12 + 4 * f) + 1 = nI (12 + 4 * f + 1) from nI_1 _, show nI (12 + 4 * f) + 2 = nI (12 + 4 * f + 2) from nI_add _ 2, show nI (12 + 4 * f) + 3 = nI (12 + 4 * f + 3) from nI_add _ 3, show nI i + 2 = nI (i + 2) from nI_add _ 2]
    refine ⟨vp_nI (by omega) (by decide), ?_⟩
    rw [nI_clamp (by omega), nI_clamp (by omega), nI_clamp (by omega), nI_clamp (by omega), nI_clamp (by omega), e0, e1, e2]
    refine pk_eq (C.2 12 (12 + 4 * f)) (C.2 15 i) (fun g => ⟨vp_nI (by omega) (by decide), ?_⟩) (fun g => nx s1 (tB.rf h1) (fun z => absurd z g)) rfl rfl (by omega) (by omega)
    refine pk_eq (C.2 12 (12 + 4 * f + 1)) (C.2 15 (i + 1)) (fun g2 => ⟨vp_nI (by omega) (by decide), ?_⟩) (fun g2 => nx s1 (tB.rf h1) (fun _ z => absurd z g2)) rfl rfl (by omega) (by omega)
    refine tw_fen ok h1.1 ob2 (fun fa => br_p rfl ?_) (fun fa => br_n (by decide) (nx s1 (tB.rf h1) (fun _ _ z => by rw [fa] at z; cases z)))
    refine tw_may ok h1.1 (k := 5) (i := i) (m := 2) (w := f) (by decide) (by decide) (by omega) (by omega) (fun hm => br_p rfl (nx s1 (tB.rf h1) (fun _ _ _ z => by rw [hm] at z; cases z))) (fun hm => br_n (by decide) ?_)
    refine ⟨vp_nI (by omega) (by decide), vp_nI (by omega) (by decide), vp_nI (by omega) (by decide), ?_⟩
    rw [e2, e3, m1.1.a 32, hq3]
    exact tw_step' ok h1 (k := 5) (i := i) (f := p) (q := p2) (t := C.2 12 (12 + 4 * f + 2)) (pr := C.2 12 (12 + 4 * f + 3)) (fo := f) hp hq (Or.inr (Or.inr (Or.inr (Or.inr (Or.inr (Or.inr (Or.inr ⟨rfl, hi, hf, g, g2, hp2, hq2, rfl, fa, hm, rfl⟩))))))) (fun s3 k1 k2 => nx s3 k1 (fun _ _ _ _ => k2))
end STEPS
