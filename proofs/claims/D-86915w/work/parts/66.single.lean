/-! PLAIN LAW, the component: the steps of one place -/
set_option maxRecDepth 100000
theorem kK_main {C : Cf} {i : Nat} (hi : i ≤ C.1 34) : ∃ p, p < nK C ∧ kK C p = 5 * i := by
  obtain ⟨p, h1, h2⟩ := z_at_of (L := z_kl C false) (l := 5 * i) (by unfold z_kl; exact z_kp_mem.mpr ⟨i, by omega, Or.inl rfl⟩)
  exact ⟨p, h1, h2⟩
/-- where a loop of additions stands -/
def cQs (C : Cf) (x0 : Nat) (kk kc : Nat → Nat) (T : List Nat) (ow : Nat → Nat) (σ : gH) (N ns : Nat) (xs : Nat → Nat) (uc us a b : Nat) (u s : Nat) (ow' : Nat → Nat) (σ' : gH) (N' ns' : Nat) (xs' : Nat → Nat) : Prop := hmv T ow σ ow' σ' ∧ cM C ow' σ' x0 kk kc ∧ cL C ow' σ' kc x0 N' ns' xs' ∧ cGr C kc x0 ow σ ns xs ow' σ' ns' xs' ∧ u ≤ uc + 2 * a ∧ s + 4 * N ≤ us + b + 4 * N' ∧ ns' ≤ ns + a
section SINGLE
variable {C : Cf} {Q : gH → Prop} {ow : Nat → Nat} {σ : gH} {x0 N ns mc ms : Nat} {kk kc xs : Nat → Nat} {i : Nat}
/-- lost ones -/
theorem c_lost {K : Nat → Nat → Nat → Nat → Nat → Int32 → gH → Prop} {uc us a1 a2 : Nat} (ok : z_ok C) (hM : cM C ow σ x0 kk kc) (hL : cL C ow σ kc x0 N ns xs) (hi : i ≤ C.1 34) (hn : ns ≤ 1000) (hu : uc + 24 ≤ mc) (hs : us + 4 * (10 + 2 * (ns + 12)) + 144 ≤ ms + 4 * N)
    (w : ∀ u s ow' σ' N' ns' xs', cQs C x0 kk kc [203, 204] ow σ N ns xs uc us 12 144 u s ow' σ' N' ns' xs' → (∀ t p, t < C.1 0 → p < nK C → kK C p = 5 * i → z_lp C i t ≠ 1000000000 → cIn C ow' σ' kc x0 ns' xs' 1 i p p t (z_lp C i t) 0) → K u s (kc 0) a1 a2 (nI i) σ') : ∃ fu, wX7_knots_204 Q mc ms K fu uc us (kc 0) a1 a2 (nI i) 0 σ := by
  have o := ok.1
  refine pk_loop (σ := Nat × Nat × gH) (fun n t st => wX7_knots_204 Q mc ms K n st.1 st.2.1 (kc 0) a1 a2 (nI i) (nI t) st.2.2) (fun t st => ∃ ow' N' ns' xs', cQs C x0 kk kc [203, 204] ow σ N ns xs uc us t (12 * t) st.1 st.2.1 ow' st.2.2 N' ns' xs' ∧ ∀ t' p, t' < t → p < nK C → kK C p = 5 * i → z_lp C i t' ≠ 1000000000 → cIn C ow' st.2.2 kc x0 ns' xs' 1 i p p t' (z_lp C i t') 0) (C.1 0) 0 (uc, us, σ) (by omega) ⟨ow, N, ns, xs, ⟨hmv.rf, hM, hL, ⟨Nat.le_refl _, fun _ _ _ _ _ _ _ w => w⟩, Nat.le_refl _, Nat.le_refl _, Nat.le_refl _⟩, fun t _ ht => by omega⟩ ?_ ?_
  · rintro n ⟨u, s, σ1⟩ ⟨ow1, N1, ns1, xs1, hq, hd⟩
    obtain ⟨m1, hM1, hL1, g1, b1, b2, b3⟩ := hq
    simp only at *
    obtain ⟨he, hch, fk, hk, hk2⟩ := hM1
    obtain ⟨gs, hx, hF⟩ := he.2.1
    simp only [wX7_knots_204]
    refine i_R hch.1 (by decide) rfl ⟨_, rfl, i_I hx.1 (by decide) hF.1.1 (br_p (nI_le (Nat.le_refl _) (by omega)) (w u s ow1 σ1 N1 ns1 xs1 ⟨m1, ⟨he, hch, fk, hk, hk2⟩, hL1, g1, by omega, by omega, by omega⟩ hd))⟩
  · rintro n t ⟨u, s, σ1⟩ ht ⟨ow1, N1, ns1, xs1, hq, hd⟩ hs1
    obtain ⟨m1, hM1, hL1, g1, b1, b2, b3⟩ := hq
    simp only at *
    have hM1' := hM1
    obtain ⟨he, hch, fk, hk, hk2⟩ := hM1
    obtain ⟨gs, hx, hF⟩ := he.2.1
    obtain ⟨p, hp, ep, kp⟩ := hk2 i hi
    have lb := hL1.2.1
    simp only [wX7_knots_204]
    refine i_R hch.1 (by decide) rfl ⟨_, rfl, i_I hx.1 (by decide) hF.1.1 (br_n (nI_ge ht (by omega)) ⟨by omega, by omega, c_new_i fun q hq => ?_⟩)⟩
    have hch1 := fun c => (hch.fresh (u := 0) (x := c) hq).1
    have hk1 := fun c => (hk.fresh (u := 0) (x := c) hq).1
    refine i_R (hch1 _) (by decide) rfl (i_R (hch1 _) (by decide) rfl ⟨_, rfl, i_aI (hk1 _) rfl (by omega) (by decide) (i_R (hch1 _) (by decide) rfl ⟨_, rfl, i_aI (hk1 _) rfl (by omega) (by decide) ?_⟩)⟩)
    rw [ep]
    refine ctor9 (sC 1 (kc 0) x0 i p p t 0 0) (by decide) (by simp) rfl ⟨_, hch1 _, ?_⟩
    obtain ⟨c, b, N2, ns2, c1, c2, c3, c4, hadd⟩ := c_addE (k := 1) (i := i) (f := p) (q := p) (t := t) (pr := z_lp C i t) (fo := 0) (fm := 0) (nu := 0) ok hM1' hL1 (by omega) hq hp hp (by decide) (fun z => by omega) (fun z => by omega) (fun ow' σ' hM' ha' _ _ Q q1 q0 => by
      refine hm_k1 ok hM'.1.1 (hM'.1.raw hM'.2.1.1) hM'.1.2.2.2.2.2.2.raw ha'.1 hi ht (fun z => q1 (Or.inl ⟨rfl, hi, kp, kp, ht, rfl, rfl, z⟩)) (fun z => q0 ?_)
      rintro (y | y | y | y | y | y | y | y)
      · exact y.2.2.2.2.2.2.2 z
      all_goals (have := y.1; omega))
    refine ⟨c, b, by omega, by omega, hadd _ (fun ow' σ' xs' n1 n2 n3 n4 n5 => ?_) c b (Nat.le_refl _) (Nat.le_refl _)⟩
    rw [nI_1]
    refine al_eq (hs1 (u + 1 + c, s + 7 + b, σ') ⟨ow', N2, ns2, xs', ⟨m1.tr n1, n2, n3, g1.tr n4, ?_, ?_, ?_⟩, fun t' p' h1 h2 h3 h4 => ?_⟩)
    · show u + 1 + c ≤ _; omega
    · show s + 7 + b + 4 * N ≤ _; omega
    · omega
    · by_cases e : t' = t
      · subst e
        have := (kK_kn ok).inj h2 hp (by omega)
        subst this
        exact n5 (Or.inl ⟨rfl, hi, kp, kp, ht, rfl, rfl, h4⟩)
      · exact n4.2 _ _ _ _ _ _ _ (hd t' p' (by omega) h2 h3 h4)
/-- as it is, or another one -/
theorem c_s2 {K : Nat → Nat → Nat → Int32 → Option Nat → gH → Prop} {r2 : Option Nat} (ok : z_ok C) (hM : cM C ow σ x0 kk kc) (hL : cL C ow σ kc x0 N ns xs) (hi : i < C.1 34) (hn : ns ≤ 1000) (hu : 24 ≤ mc) (hs : 4 * (10 + 2 * (ns + 12)) + 144 ≤ ms + 4 * N)
    (w : ∀ u s ow' σ' N' ns' xs', cQs C x0 kk kc [203, 204] ow σ N ns xs 0 0 12 144 u s ow' σ' N' ns' xs' → (∀ t p p1, t < C.1 0 → p < nK C → kK C p = 5 * i → p1 < nK C → kK C p1 = 5 * i + 5 → (t = C.2 15 i → cIn C ow' σ' kc x0 ns' xs' 0 i p p1 t 0 0) ∧ (t ≠ C.2 15 i → z_fen C t = false → z_may C 2 i 1 t = true → cIn C ow' σ' kc x0 ns' xs' 2 i p p1 t (C.2 2 (24 + C.2 15 i)) 0)) → K u s (kc 0) (nI i) r2 σ') : ∃ fu, wX7_single_2 Q mc ms K fu 0 0 (kc 0) (nI i) r2 0 σ := by
  have o := ok.1
  have bt := ok.2.2.2.1 i hi
  refine pk_loop (σ := Nat × Nat × gH) (fun n t st => wX7_single_2 Q mc ms K n st.1 st.2.1 (kc 0) (nI i) r2 (nI t) st.2.2) (fun t st => ∃ ow' N' ns' xs', cQs C x0 kk kc [203, 204] ow σ N ns xs 0 0 t (12 * t) st.1 st.2.1 ow' st.2.2 N' ns' xs' ∧ ∀ t' p p1, t' < t → p < nK C → kK C p = 5 * i → p1 < nK C → kK C p1 = 5 * i + 5 → (t' = C.2 15 i → cIn C ow' st.2.2 kc x0 ns' xs' 0 i p p1 t' 0 0) ∧ (t' ≠ C.2 15 i → z_fen C t' = false → z_may C 2 i 1 t' = true → cIn C ow' st.2.2 kc x0 ns' xs' 2 i p p1 t' (C.2 2 (24 + C.2 15 i)) 0)) (C.1 0) 0 (0, 0, σ) (by omega) ⟨ow, N, ns, xs, ⟨hmv.rf, hM, hL, ⟨Nat.le_refl _, fun _ _ _ _ _ _ _ w => w⟩, Nat.le_refl _, Nat.le_refl _, Nat.le_refl _⟩, fun t _ _ ht => by omega⟩ ?_ ?_
  · rintro n ⟨u, s, σ1⟩ ⟨ow1, N1, ns1, xs1, hq, hd⟩
    obtain ⟨m1, hM1, hL1, g1, b1, b2, b3⟩ := hq
    simp only at *
    obtain ⟨he, hch, fk, hk, hk2⟩ := hM1
    obtain ⟨gs, hx, hF⟩ := he.2.1
    simp only [wX7_single_2]
    refine i_R hch.1 (by decide) rfl ⟨_, rfl, i_I hx.1 (by decide) hF.1.1 (br_p (nI_le (Nat.le_refl _) (by omega)) (w u s ow1 σ1 N1 ns1 xs1 ⟨m1, ⟨he, hch, fk, hk, hk2⟩, hL1, g1, by omega, by omega, by omega⟩ hd))⟩
  · rintro n t ⟨u, s, σ1⟩ ht ⟨ow1, N1, ns1, xs1, hq, hd⟩ hs1
    obtain ⟨m1, hM1, hL1, g1, b1, b2, b3⟩ := hq
    simp only at *
    have hM1' := hM1
    obtain ⟨he, hch, fk, hk, hk2⟩ := hM1
    obtain ⟨gs, hx, hF⟩ := he.2.1
    obtain ⟨p, hp, ep, kp⟩ := hk2 i (by omega)
    obtain ⟨p1, hp1, ep1, kp1⟩ := hk2 (i + 1) (by omega)
    obtain ⟨ft, ht1, ht2⟩ := he.2.2.2.2.2.1
    have lb := hL1.2.1
    have inj := fun {a b : Nat} (h1 : a < nK C) (h2 : b < nK C) (e : kK C a = kK C b) => (kK_kn ok).inj h1 h2 e
    simp only [wX7_single_2]
    refine i_R hch.1 (by decide) rfl ⟨_, rfl, i_I hx.1 (by decide) hF.1.1 (br_n (nI_ge ht (by omega)) (i_R hch.1 (by decide) rfl ⟨_, rfl, i_aI ht1.1 rfl hi (by omega) ?_⟩))⟩
    rw [ht2 i hi]
    -- what follows an addition
    have fin : ∀ c b N2 ns2 ow' σ' xs', c ≤ 1 → b + 4 * N1 ≤ 4 * N2 → ns2 ≤ ns1 + 1 → hmv [203, 204] ow1 σ1 ow' σ' → cM C ow' σ' x0 kk kc → cL C ow' σ' kc x0 N2 ns2 xs' → cGr C kc x0 ow1 σ1 ns1 xs1 ow' σ' ns2 xs' → ((t = C.2 15 i → cIn C ow' σ' kc x0 ns2 xs' 0 i p p1 t 0 0) ∧ (t ≠ C.2 15 i → z_fen C t = false → z_may C 2 i 1 t = true → cIn C ow' σ' kc x0 ns2 xs' 2 i p p1 t (C.2 2 (24 + C.2 15 i)) 0)) → ∀ sz, sz ≤ 8 → ∀ x3_124 : Int32, x3_124 = nI t + 1 → wX7_single_2 Q mc ms K n (u + 1 + c) (s + sz + b) (kc 0) (nI i) r2 x3_124 σ' := by
      intro c b N2 ns2 ow' σ' xs' c1 c2 c4 n1 n2 n3 n4 n5 sz hsz
      rw [nI_1]
      refine al_eq (hs1 (u + 1 + c, s + sz + b, σ') ⟨ow', N2, ns2, xs', ⟨m1.tr n1, n2, n3, g1.tr n4, ?_, ?_, ?_⟩, fun t' p' p1' h1 h2 h3 h4 h5 => ?_⟩)
      · show u + 1 + c ≤ _; omega
      · show s + sz + b + 4 * N ≤ _; omega
      · omega
      · by_cases e : t' = t
        · subst e
          have := inj h2 hp (by omega)
          subst this
          have := inj h4 hp1 (by omega)
          subst this
          exact n5
        · have := hd t' p' p1' (by omega) h2 h3 h4 h5
          exact ⟨fun a => n4.2 _ _ _ _ _ _ _ (this.1 a), fun a b c => n4.2 _ _ _ _ _ _ _ (this.2 a b c)⟩
    refine pk_eq t (C.2 15 i) (fun e => ⟨by omega, by omega, c_new_i fun q hq => ?_⟩) (fun e => ⟨by omega, by omega, c_new_i fun q hq => ?_⟩) rfl rfl (by omega) (by omega)
    · have hch1 := fun c => (hch.fresh (u := 0) (x := c) hq).1
      have hk1 := fun c => (hk.fresh (u := 0) (x := c) hq).1
      refine i_R (hch1 _) (by decide) rfl (i_R (hch1 _) (by decide) rfl ⟨_, rfl, i_aI (hk1 _) rfl (by omega) (by decide) (i_R (hch1 _) (by decide) rfl ⟨_, rfl, i_aI (hk1 _) (nI_1 i) (by omega) (by decide) ?_⟩)⟩)
      rw [ep, ep1]
      refine ctor8 (sC 0 (kc 0) x0 i p p1 t 0 0) (by decide) (by simp) rfl ⟨_, hch1 _, ?_⟩
      have hst : z_st C 0 i (kK C p) (kK C p1) t 0 0 := Or.inr (Or.inl ⟨rfl, hi, kp, by omega, e, rfl, rfl⟩)
      obtain ⟨c, b, N2, ns2, c1, c2, c3, c4, hadd⟩ := c_addE (k := 0) (i := i) (f := p) (q := p1) (t := t) (pr := 0) (fo := 0) (fm := 0) (nu := 0) ok hM1' hL1 (by omega) hq hp hp1 (by decide) (fun z => by omega) (fun z => by omega) (fun ow' σ' hM' ha' _ _ Q q1 q0 => hm_k0 ok hM'.1.1 (hM'.1.raw hM'.2.1.1) hM'.1.2.2.2.2.2.2.raw ha'.1 (by omega) (q1 hst))
      refine ⟨c, b, by omega, by omega, hadd _ (fun ow' σ' xs' n1 n2 n3 n4 n5 => fin c b N2 ns2 ow' σ' xs' c1 c2 c4 n1 n2 n3 n4 ⟨fun _ => n5 hst, fun z => absurd e z⟩ 6 (by decide)) c b (Nat.le_refl _) (Nat.le_refl _)⟩
    · have hch1 := fun c => (hch.fresh (u := 0) (x := c) hq).1
      have hk1 := fun c => (hk.fresh (u := 0) (x := c) hq).1
      refine i_R (hch1 _) (by decide) rfl (i_R (hch1 _) (by decide) rfl ⟨_, rfl, i_aI (hk1 _) rfl (by omega) (by decide) (i_R (hch1 _) (by decide) rfl ⟨_, rfl, i_aI (hk1 _) (nI_1 i) (by omega) (by decide) ?_⟩)⟩)
      rw [ep, ep1]
      refine ctor10 (sC 2 (kc 0) x0 i p p1 t 0 0) (by decide) (by simp) rfl ⟨_, hch1 _, ?_⟩
      have hst : z_fen C t = false ∧ z_may C 2 i 1 t = true → z_st C 2 i (kK C p) (kK C p1) t (C.2 2 (24 + C.2 15 i)) 0 := fun z => Or.inr (Or.inr (Or.inl ⟨rfl, hi, kp, by omega, e, ht, rfl, z.1, z.2, rfl⟩))
      obtain ⟨c, b, N2, ns2, c1, c2, c3, c4, hadd⟩ := c_addE (k := 2) (i := i) (f := p) (q := p1) (t := t) (pr := C.2 2 (24 + C.2 15 i)) (fo := 0) (fm := 0) (nu := 0) ok hM1' hL1 (by omega) hq hp hp1 (by decide) (fun z => by omega) (fun z => by omega) (fun ow' σ' hM' ha' _ _ Q q1 q0 => by
        refine hm_k2 ok hM'.1.1 (hM'.1.raw hM'.2.1.1) hM'.1.2.2.2.2.2.2.raw ha'.1 hi ht (fun z => q1 (hst z)) (fun z => q0 ?_)
        rintro (y | y | y | y | y | y | y | y)
        · have := y.1; omega
        · have := y.1; omega
        · exact z ⟨y.2.2.2.2.2.2.2.1, y.2.2.2.2.2.2.2.2.1⟩
        all_goals (have := y.1; omega))
      refine ⟨c, b, by omega, by omega, hadd _ (fun ow' σ' xs' n1 n2 n3 n4 n5 => fin c b N2 ns2 ow' σ' xs' c1 c2 c4 n1 n2 n3 n4 ⟨fun z => absurd z e, fun _ z1 z2 => n5 (hst ⟨z1, z2⟩)⟩ 8 (by decide)) c b (Nat.le_refl _) (Nat.le_refl _)⟩
end SINGLE
