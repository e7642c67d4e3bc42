/-! PLAIN LAW, the component: single and pair as a whole -/
set_option maxRecDepth 100000
/-- all steps of one place that are no lost ones, of the first kind: single -/
def dSi (C : Cf) (ow : Nat → Nat) (σ : gH) (kc : Nat → Nat) (x0 ns : Nat) (xs : Nat → Nat) (i : Nat) : Prop := ∀ k f q t pr fo, f < nK C → q < nK C → z_st C k i (kK C f) (kK C q) t pr fo → i < C.1 34 → (k = 2 ∨ k = 4 ∨ (k = 0 ∧ kK C q = 5 * i + 5)) → cIn C ow σ kc x0 ns xs k i f q t pr fo
def dPa (C : Cf) (ow : Nat → Nat) (σ : gH) (kc : Nat → Nat) (x0 ns : Nat) (xs : Nat → Nat) (i : Nat) : Prop := ∀ k f q t pr fo, f < nK C → q < nK C → z_st C k i (kK C f) (kK C q) t pr fo → i + 1 < C.1 34 → (k = 3 ∨ k = 5 ∨ (k = 0 ∧ kK C q = 5 * i + 10)) → cIn C ow σ kc x0 ns xs k i f q t pr fo
section PAIR
variable {C : Cf} {Q : gH → Prop} {ow : Nat → Nat} {σ : gH} {x0 N ns mc ms : Nat} {kk kc xs : Nat → Nat} {i : Nat}
theorem c_single {rw : Nat} {g : Nat → Int32} {s7 : Nat → Option Nat} {b7 : Nat} {g7 : Nat → Option Nat} (ok : z_ok C) (hM : cM C ow σ x0 kk kc) (hL : cL C ow σ kc x0 N ns xs) (hi : i < C.1 34) (hn : ns ≤ 900) (hu : 100 ≤ mc) (hs : 8 * ns + 1000 ≤ ms + 4 * N) (hr : hat ow σ rw (250 + i) (cI 3 g)) (hg : ∀ f, f < C.2 11 0 → C.2 12 (4 * f + 2) = C.2 15 i → ∃ q, q < nK C ∧ g f = nI q ∧ kK C q = 5 * i + 2 + f) (h7 : hat ow σ (kc 7) 0 (cQ 8 12 s7)) (e7 : s7 i = some b7) (hb : hat ow σ b7 (210 + i) (cQ 7 12 g7))
    (w : ∀ ow' σ' N' ns' xs' g', hmv [203, 204, 210 + i] ow σ ow' σ' → cM C ow' σ' x0 kk kc → cL C ow' σ' kc x0 N' ns' xs' → cGr C kc x0 ow σ ns xs ow' σ' ns' xs' → ns' ≤ ns + 18 → dSi C ow' σ' kc x0 ns' xs' i → hat ow' σ' b7 (210 + i) (cQ 7 12 g') → (∀ m, 1 ≤ m → i + m ≤ C.1 34 → sKp C ow' σ' kc x0 i m (g' m)) → Q σ') : wX7_single Q mc ms (kc 0) (nI i) (some rw) σ := by
  have o := ok.1
  have bt := ok.2.2.2.1 i hi
  have lb := hL.2.1
  unfold wX7_single
  refine c_s2 ok hM hL hi (by omega) (by omega) (by omega) (fun u s ow1 σ1 N1 ns1 xs1 h1 d1 => ?_)
  obtain ⟨m1, hM1, hL1, g1, b1, b2, b3⟩ := h1
  have lb1 := hL1.2.1
  refine c_s94 ok hM1 hL1 hi (by omega) (by omega) (by omega) (hr.mv m1 (by simp only [List.mem_cons, List.not_mem_nil, or_false]; omega)) hg (fun u2 s2 ow2 σ2 N2 ns2 xs2 h2 d2 => ?_)
  obtain ⟨m2, hM2, hL2, g2, c1, c2, c3⟩ := h2
  have lb2 := hL2.2.1
  have hM2' := hM2
  obtain ⟨he, hch, fk, hk, hk2⟩ := hM2
  obtain ⟨p, hp, ep, kp⟩ := hk2 i (by omega)
  obtain ⟨p1, hp1, ep1, kp1⟩ := hk2 (i + 1) (by omega)
  obtain ⟨ft, ht1, ht2⟩ := he.2.2.2.2.2.1
  have m12 := m1.tr m2
  refine ⟨by omega, by omega, c_new_i fun q hq => ?_⟩
  have hch1 := fun c => (hch.fresh (u := 0) (x := c) hq).1
  have hk1 := fun c => (hk.fresh (u := 0) (x := c) hq).1
  refine i_R (hch1 _) (by decide) rfl (i_R (hch1 _) (by decide) rfl ⟨_, rfl, i_aI (hk1 _) rfl (by omega) (by decide) (i_R (hch1 _) (by decide) rfl ⟨_, rfl, i_aI (hk1 _) (nI_1 i) (by omega) (by decide) ?_⟩)⟩)
  rw [ep, ep1]
  refine ctor12 (sC 6 (kc 0) x0 i p p1 (C.2 15 i) 0 1) (by decide) (by simp) hch1 rfl (fun c => (ht1.fresh (u := 0) (x := c) hq).1) rfl hi (by omega) (ht2 i hi) rfl ?_
  have m0 : hmv [] ow2 σ2 (va_up ow2 q 0) (g_up σ2 q (sC 6 (kc 0) x0 i p p1 (C.2 15 i) 0 1)) := hmv.rf.new 0 hq
  have hq2 : hat (va_up ow2 q 0) (g_up σ2 q (sC 6 (kc 0) x0 i p p1 (C.2 15 i) 0 1)) q 0 (sC 6 (kc 0) x0 i p p1 (C.2 15 i) 0 1) := hat.nw 0
  obtain ⟨σ3, hσ3⟩ : ∃ σ3, σ3 = g_up σ2 q (sC 6 (kc 0) x0 i p p1 (C.2 15 i) 0 1) := ⟨_, rfl⟩
  obtain ⟨ow3, how3⟩ : ∃ ow3, ow3 = va_up ow2 q 0 := ⟨_, rfl⟩
  rw [← hσ3, ← how3] at m0 hq2
  rw [← hσ3]
  have hM3 := hM2'.mv m0 (by simp)
  have hL3 := hL2.mv m0 (by simp) (by simp) (by simp)
  have m3 : hmv [203, 204] ow σ ow3 σ3 := m12.tr (m0.sub (by simp))
  have h73 := h7.mv m3 (by decide)
  have hb3 := hb.mv m3 (by simp only [List.mem_cons, List.not_mem_nil, or_false]; omega)
  obtain ⟨gs3, hx3, hF3⟩ := hM3.1.2.1
  refine i_R hM3.2.1.1 (by decide) rfl ⟨_, rfl, i_aR h73.1 rfl (by omega) (by decide) (i_R hM3.2.1.1 (by decide) rfl (i_R hM3.2.1.1 (by decide) rfl (i_I hM3.2.1.1 (by decide) rfl ⟨_, rfl, _, hx3.1, ?_⟩)))⟩
  rw [e7]
  have T0 : 0 ∉ [210 + i] := by simp only [List.mem_cons, List.not_mem_nil, or_false]; omega
  have T1 : ∀ t ∈ [210 + i], 202 ≤ t := by intro t ht; simp only [List.mem_cons, List.not_mem_nil, or_false] at ht; omega
  have inj := fun {a b : Nat} (h1 : a < nK C) (h2 : b < nK C) (e : kK C a = kK C b) => (kK_kn ok).inj h1 h2 e
  have fin : ∀ r, sKp C ow3 σ3 kc x0 i 1 r → (∀ v, r = some v → ∃ ci fs, ci ∈ [8, 9, 10, 11, 12, 13, 14, 15] ∧ σ3.2 v = some (cO ci fs)) → wX7_single_274 Q mc ms (u2 + 1) (s2 + 8) (some b7) 1 r (kc 0) (nI i) σ3 := by
    intro r hr' hr2
    refine ⟨_, rfl, i_sR hb3.1 (j := 1) rfl (by decide) (by decide) hr2 ?_⟩
    have m34 : hmv [210 + i] ow3 σ3 ow3 (g_up σ3 b7 (cQ 7 12 (va_up g7 1 r))) := hmv.rf.up hb3 (by simp) rfl
    refine c_s278 (s7 := s7) (g7 := va_up g7 1 r) ok (hM3.mv m34 T1) (hL3.mv m34 T0 (by simp only [List.mem_cons, List.not_mem_nil, or_false]; omega) (by simp only [List.mem_cons, List.not_mem_nil, or_false]; omega)) hi (by omega) (by omega) (h73.mv m34 T0) e7 hb3.set (by rw [va_up_self]; exact hr'.mv m34 T0) (fun ow5 σ5 g5 n1 n2 n3 => ?_)
    have m35 := m34.tr n1
    have n203 : 203 ∉ [210 + i] := by simp only [List.mem_cons, List.not_mem_nil, or_false]; omega
    have n204 : 204 ∉ [210 + i] := by simp only [List.mem_cons, List.not_mem_nil, or_false]; omega
    have G : cGr C kc x0 ow2 σ2 ns2 xs2 ow5 σ5 ns2 xs2 := (cGr.mv m0 (by simp)).tr (cGr.mv m35 T0)
    refine w ow5 σ5 N2 ns2 xs2 g5 ?_ (hM3.mv m35 T1) (hL3.mv m35 T0 n203 n204) ((g1.tr g2).tr G) (by omega) ?_ n2 n3
    · refine (m3.sub ?_).tr (m35.sub ?_)
      · intro t ht; simp only [List.mem_cons, List.not_mem_nil, or_false] at ht ⊢; omega
      · intro t ht; simp only [List.mem_cons, List.not_mem_nil, or_false] at ht ⊢; omega
    · intro k f q' t pr fo hf hq' hst _ hkk
      rcases hst with y | y | y | y | y | y | y | y
      · have := y.1; omega
      · obtain ⟨rfl, y2, y3, y4, rfl, rfl, rfl⟩ := y
        exact G.2 _ _ _ _ _ _ _ (g2.2 _ _ _ _ _ _ _ ((d1 _ f q' bt hf y3 hq' (by omega)).1 rfl))
      · obtain ⟨rfl, y2, y3, y4, y5, y6, rfl, y8, y9, rfl⟩ := y
        exact G.2 _ _ _ _ _ _ _ (g2.2 _ _ _ _ _ _ _ ((d1 _ f q' y6 hf y3 hq' (by omega)).2 y5 y8 y9))
      · obtain ⟨rfl, y2, y3, y4, y5, y6, rfl, y8, y9, y10, rfl⟩ := y
        exact G.2 _ _ _ _ _ _ _ ((d2 fo f p1 q' y3 hf y5 hp1 (by omega) hq' y6 y4).1 y8 y9 y10)
      · obtain ⟨rfl, y2, ⟨f', y3, y4, y5, rfl⟩, y6, rfl, rfl⟩ := y
        exact G.2 _ _ _ _ _ _ _ ((d2 f' p q' f y3 hp (by omega) hq' (by omega) hf y5 y4).2)
      · have := y.1; omega
      · obtain ⟨rfl, y2, y3, y4, y5, -⟩ := y
        omega
      · have := y.1; omega
  have spk := sp_ok ok (i := i) (m := 1) hi (by decide)
  rw [if_pos rfl, if_pos rfl] at spk
  exact hm_k6 ok hM3.1.1 (hM3.1.raw hM3.2.1.1) hM3.1.2.2.2.2.2.2.raw hq2.1 hi rfl (fun z => br_n (by decide) (fin _ (Or.inr ⟨q, p, p1, rfl, spk.mpr z, by rw [if_pos rfl]; exact hq2⟩) (fun v hv => by cases hv; exact ⟨12, _, by decide, hq2.1⟩))) (fun z => br_p rfl (fin _ (Or.inl ⟨rfl, Classical.byContradiction fun y => z (spk.mp y)⟩) (fun v hv => by cases hv)))
theorem c_pair {tu : Nat} (ok : z_ok C) (hM : cM C ow σ x0 kk kc) (hL : cL C ow σ kc x0 N ns xs) (hi : i + 1 < C.1 34) (hn : ns ≤ 900) (hu : 20 ≤ mc) (hs : 8 * ns + 500 ≤ ms + 4 * N) (htu : tu < nK C) (ktu : kK C tu = 5 * i + 1)
    (w : ∀ ow' σ' N' ns' xs', hmv [203, 204] ow σ ow' σ' → cM C ow' σ' x0 kk kc → cL C ow' σ' kc x0 N' ns' xs' → cGr C kc x0 ow σ ns xs ow' σ' ns' xs' → ns' ≤ ns + 5 → dPa C ow' σ' kc x0 ns' xs' i → Q σ') : wX7_pair Q mc ms (kc 0) (nI i) (nI tu) σ := by
  have o := ok.1
  have bt := ok.2.2.2.1 i (by omega)
  have bt1 := ok.2.2.2.1 (i + 1) hi
  have lb := hL.2.1
  have inj := fun {a b : Nat} (h1 : a < nK C) (h2 : b < nK C) (e : kK C a = kK C b) => (kK_kn ok).inj h1 h2 e
  -- the parted ones
  have parted : ∀ uc us ow1 σ1 N1 ns1 xs1, cQs C x0 kk kc [203, 204] ow σ N ns xs 0 0 2 24 uc us ow1 σ1 N1 ns1 xs1 → (C.2 15 (i + 1) ≠ C.2 15 i → ∀ p p2, p < nK C → kK C p = 5 * i → p2 < nK C → kK C p2 = 5 * i + 10 → (z_may C 3 i 2 0 = true → cIn C ow1 σ1 kc x0 ns1 xs1 3 i p tu (C.2 15 (i + 1)) (C.1 3) 0) ∧ cIn C ow1 σ1 kc x0 ns1 xs1 0 i tu p2 (C.2 15 i) 0 0) → wX7_pair_73 Q mc ms uc us (kc 0) (nI i) σ1 := by
    intro uc us ow1 σ1 N1 ns1 xs1 h1 d1
    obtain ⟨m1, hM1, hL1, g1, b1, b2, b3⟩ := h1
    have lb1 := hL1.2.1
    unfold wX7_pair_73
    refine pk_loop (σ := Nat × Nat × gH) (fun n t st => wX7_pair_75 Q mc ms _ n st.1 st.2.1 (kc 0) (nI i) (nI t) st.2.2) (fun F st => ∃ ow' N' ns' xs', cQs C x0 kk kc [203, 204] ow1 σ1 N1 ns1 xs1 uc us F (12 * F) st.1 st.2.1 ow' st.2.2 N' ns' xs' ∧ ∀ f p p2, f < F → p < nK C → kK C p = 5 * i → p2 < nK C → kK C p2 = 5 * i + 10 → C.2 12 (12 + 4 * f) = C.2 15 i → C.2 12 (12 + 4 * f + 1) = C.2 15 (i + 1) → z_fen C (C.2 12 (12 + 4 * f + 2)) = false → z_may C 5 i 2 f = true → cIn C ow' st.2.2 kc x0 ns' xs' 5 i p p2 (C.2 12 (12 + 4 * f + 2)) (C.2 12 (12 + 4 * f + 3)) f) (C.2 11 1) 0 (uc, us, σ1) (by omega) ⟨ow1, N1, ns1, xs1, ⟨hmv.rf, hM1, hL1, ⟨Nat.le_refl _, fun _ _ _ _ _ _ _ w => w⟩, Nat.le_refl _, Nat.le_refl _, Nat.le_refl _⟩, fun f _ _ hf => by omega⟩ ?_ ?_
    · rintro n ⟨u, s, σ2⟩ ⟨ow2, N2, ns2, xs2, hq, hd⟩
      obtain ⟨m2, hM2, hL2, g2, c1, c2, c3⟩ := hq
      simp only at *
      have hM2' := hM2
      obtain ⟨he, hch, fk, hk, hk2⟩ := hM2
      obtain ⟨gs, hx, hF⟩ := he.2.1
      obtain ⟨Nf, fo, nf1, nf2, nf3⟩ := he.2.2.2.2.1 1 (by decide)
      simp only [wX7_pair_75]
      refine i_R hch.1 (by decide) rfl ⟨_, rfl, i_R hx.1 (by decide) hF.2.1.2.2.2.2 ⟨_, rfl, ln_size nf2 (br_p (nI_le (Nat.le_refl _) (by omega)) (w ow2 σ2 N2 ns2 xs2 (m1.tr m2) hM2' hL2 (g1.tr g2) (by omega) ?_))⟩⟩
      intro k f q' t pr fo hf hq' hst _ hkk
      obtain ⟨p, hp, ep, kp⟩ := hk2 i (by omega)
      obtain ⟨p2, hp2, ep2, kp2⟩ := hk2 (i + 2) (by omega)
      rcases hst with y | y | y | y | y | y | y | y
      · have := y.1; omega
      · obtain ⟨rfl, y2, y3, y4, -⟩ := y; omega
      · have := y.1; omega
      · have := y.1; omega
      · obtain ⟨rfl, y2, -, y6, -⟩ := y; omega
      · obtain ⟨rfl, y2, y3, y4, y5, rfl, rfl, y8, rfl⟩ := y
        have := inj hq' htu (by omega)
        subst this
        exact g2.2 _ _ _ _ _ _ _ ((d1 y3 f p2 hf y4 hp2 (by omega)).1 y8)
      · obtain ⟨rfl, y2, y3, y4, y5, rfl, rfl, rfl⟩ := y
        have := inj hf htu (by omega)
        subst this
        exact g2.2 _ _ _ _ _ _ _ ((d1 y3 p q' hp (by omega) hq' y5).2)
      · obtain ⟨rfl, y2, y3, y4, y5, y6, y7, rfl, y9, y10, rfl⟩ := y
        exact hd fo f q' y3 hf y6 hq' y7 y4 y5 y9 y10
    · rintro n f ⟨u, s, σ2⟩ hf ⟨ow2, N2, ns2, xs2, hq, hd⟩ hs1
      obtain ⟨m2, hM2, hL2, g2, c1, c2, c3⟩ := hq
      simp only at *
      have hM2' := hM2
      obtain ⟨he, hch, fk, hk, hk2⟩ := hM2
      obtain ⟨gs, hx, hF⟩ := he.2.1
      obtain ⟨Nf, fo, nf1, nf2, nf3⟩ := he.2.2.2.2.1 1 (by decide)
      obtain ⟨p, hp, ep, kp⟩ := hk2 i (by omega)
      obtain ⟨p2, hp2, ep2, kp2⟩ := hk2 (i + 2) (by omega)
      obtain ⟨ft, ht1, ht2⟩ := he.2.2.2.2.2.1
      have hfm := nf3 f hf
      have lb2 := hL2.2.1
      have ob := (ok.2.2.2.2.2 1 f (by decide) hf).1
      have ob0 := ob 0 (by decide)
      have ob1 := ob 1 (by decide)
      rw [show 12 * 1 + 4 * f + 0 = 12 + 4 * f by omega] at ob0
      rw [show 12 * 1 + 4 * f + 1 = 12 + 4 * f + 1 by omega] at ob1
      have hfc := hfm.1
      unfold fCell at hfc
      rw [show 12 * 1 + 4 * f = 12 + 4 * f by omega] at hfc
      simp only [wX7_pair_75]
      refine i_R hch.1 (by decide) rfl ⟨_, rfl, i_R hx.1 (by decide) hF.2.1.2.2.2.2 ⟨_, rfl, ln_size nf2 (br_n (nI_ge hf (by omega)) (i_R hch.1 (by decide) rfl ⟨_, rfl, i_R hx.1 (by decide) hF.2.1.2.2.2.2 ⟨_, rfl, ln_get nf2 rfl hf (by omega) ⟨fun a ha => by cases ha; exact ⟨_, _, by decide, hfm.1⟩, _, rfl, i_I hfc (by decide) rfl (i_R hch.1 (by decide) rfl ⟨_, rfl, i_aI ht1.1 rfl (by omega) (by omega) ?_⟩)⟩⟩⟩))⟩⟩
      rw [ht2 i (by omega)]
      have skip : ¬ (C.2 12 (12 + 4 * f) = C.2 15 i ∧ C.2 12 (12 + 4 * f + 1) = C.2 15 (i + 1)) → wX7_pair_173 Q mc ms (wX7_pair_75 Q mc ms (fun (uc_8 : Nat) (us_9 : Nat) (σ_7 : gH) => Q σ_7) n) (fun (uc_8 : Nat) (us_9 : Nat) (σ_7 : gH) => Q σ_7) u s (kc 0) (nI i) (nI f) σ2 := by
        intro hne
        unfold wX7_pair_173
        rw [nI_1]
        refine al_eq (hs1 (u, s, σ2) ⟨ow2, N2, ns2, xs2, ⟨m2, hM2', hL2, g2, ?_, ?_, ?_⟩, fun f' p' p2' h1 h2 h3 h4 h5 h6 h7 h8 h9 => ?_⟩)
        · show u ≤ _; omega
        · show s + 4 * N1 ≤ _; omega
        · omega
        · by_cases e9 : f' = f
          · subst e9; exact absurd ⟨h6, h7⟩ hne
          · exact hd f' p' p2' (by omega) h2 h3 h4 h5 h6 h7 h8 h9
      refine pk_eq (C.2 12 (12 + 4 * f)) (C.2 15 i) (fun e => i_I hfc (by decide) rfl (i_R hch.1 (by decide) rfl ⟨_, rfl, i_aI ht1.1 (nI_1 i) hi (by omega) ?_⟩)) (fun e => skip (fun z => e z.1)) rfl rfl (by omega) (by omega)
      rw [ht2 (i + 1) hi]
      refine pk_eq (C.2 12 (12 + 4 * f + 1)) (C.2 15 (i + 1)) (fun e2 => ⟨by omega, by omega, c_new_i fun q hq => ?_⟩) (fun e2 => skip (fun z => e2 z.2)) rfl rfl (by omega) (by omega)
      have hch1 := fun c => (hch.fresh (u := 0) (x := c) hq).1
      have hk1 := fun c => (hk.fresh (u := 0) (x := c) hq).1
      have hf2 : ∀ c, (g_up σ2 q c).2 (fo f) = some (cO 5 [.int (nI (C.2 12 (12 + 4 * f))), .int (nI (C.2 12 (12 + 4 * f + 1))), .int (nI (C.2 12 (12 + 4 * f + 2))), .int (nI (C.2 12 (12 + 4 * f + 3)))]) := fun c => (hat.fresh (u := 0) (x := c) ⟨hfc, hfm.2⟩ hq).1
      refine i_R (hch1 _) (by decide) rfl (i_R (hch1 _) (by decide) rfl ⟨_, rfl, i_aI (hk1 _) rfl (by omega) (by decide) (i_R (hch1 _) (by decide) rfl ⟨_, rfl, i_aI (hk1 _) (nI_add i 2) (by omega) (by decide) ?_⟩)⟩)
      rw [ep, ep2]
      refine ctor15 (sC 5 (kc 0) x0 i p p2 (C.2 12 (12 + 4 * f + 2)) (fo f) f) (by decide) (by simp) hf2 rfl rfl ⟨_, hch1 _, ?_⟩
      have hst : z_fen C (C.2 12 (12 + 4 * f + 2)) = false ∧ z_may C 5 i 2 f = true → z_st C 5 i (kK C p) (kK C p2) (C.2 12 (12 + 4 * f + 2)) (C.2 12 (12 + 4 * f + 3)) f := fun z => Or.inr (Or.inr (Or.inr (Or.inr (Or.inr (Or.inr (Or.inr ⟨rfl, hi, hf, e, e2, kp, by omega, rfl, z.1, z.2, rfl⟩))))))
      obtain ⟨c, b, N3, ns3, d1', d2', d3, d4, hadd⟩ := c_addE (k := 5) (i := i) (f := p) (q := p2) (t := C.2 12 (12 + 4 * f + 2)) (pr := C.2 12 (12 + 4 * f + 3)) (fo := f) (fm := fo f) (nu := f) ok hM2' hL2 (by omega) hq hp hp2 (by decide) (fun z => by omega) (fun _ => ⟨rfl, hfm⟩) (fun ow' σ' hM' ha' _ h5' Q q1 q0 => by
        refine hm_k5 ok hM'.1.1 (hM'.1.raw hM'.2.1.1) hM'.1.2.2.2.2.2.2.raw ha'.1 hi hf rfl (fun z => q1 (hst z)) (fun z => q0 ?_)
        rintro (y | y | y | y | y | y | y | y)
        · have := y.1; omega
        · have := y.1; omega
        · have := y.1; omega
        · have := y.1; omega
        · have := y.1; omega
        · have := y.1; omega
        · have := y.1; omega
        · exact z ⟨y.2.2.2.2.2.2.2.2.1, y.2.2.2.2.2.2.2.2.2.1⟩)
      refine ⟨c, b, by omega, by omega, hadd _ (fun ow3 σ3 xs3 o1 o2 o3 o4 o5 => ?_) c b (Nat.le_refl _) (Nat.le_refl _)⟩
      unfold wX7_pair_173
      rw [nI_1]
      refine al_eq (hs1 (u + 1 + c, s + 12 + b, σ3) ⟨ow3, N3, ns3, xs3, ⟨m2.tr o1, o2, o3, g2.tr o4, ?_, ?_, ?_⟩, fun f' p' p2' h1 h2 h3 h4 h5 h6 h7 h8 h9 => ?_⟩)
      · show u + 1 + c ≤ _; omega
      · show s + 12 + b + 4 * N1 ≤ _; omega
      · omega
      · by_cases e9 : f' = f
        · subst e9
          have := inj h2 hp (by omega)
          subst this
          have := inj h4 hp2 (by omega)
          subst this
          exact o5 (hst ⟨h8, h9⟩)
        · exact o4.2 _ _ _ _ _ _ _ (hd f' p' p2' (by omega) h2 h3 h4 h5 h6 h7 h8 h9)
  have hM' := hM
  obtain ⟨he, hch, fk, hk, hk2⟩ := hM
  obtain ⟨p, hp, ep, kp⟩ := hk2 i (by omega)
  obtain ⟨ft, ht1, ht2⟩ := he.2.2.2.2.2.1
  unfold wX7_pair
  refine i_R hch.1 (by decide) rfl ⟨_, rfl, i_aI ht1.1 rfl (by omega) (by omega) (i_R hch.1 (by decide) rfl ⟨_, rfl, i_aI ht1.1 (nI_1 i) hi (by omega) ?_⟩)⟩
  rw [ht2 i (by omega), ht2 (i + 1) hi]
  refine pk_eq (C.2 15 i) (C.2 15 (i + 1)) (fun e => parted 0 0 ow σ N ns xs ⟨hmv.rf, hM', hL, ⟨Nat.le_refl _, fun _ _ _ _ _ _ _ w => w⟩, by omega, by omega, by omega⟩ (fun z => absurd e.symm z)) (fun e => ⟨by omega, by omega, c_new_i fun q hq => ?_⟩) rfl rfl (by omega) (by omega)
  have hch1 := fun c => (hch.fresh (u := 0) (x := c) hq).1
  have hk1 := fun c => (hk.fresh (u := 0) (x := c) hq).1
  refine i_R (hch1 _) (by decide) rfl (i_R (hch1 _) (by decide) rfl ⟨_, rfl, i_aI (hk1 _) rfl (by omega) (by decide) ?_⟩)
  rw [ep]
  refine ctor14 (sC 3 (kc 0) x0 i p tu (C.2 15 (i + 1)) 0 0) (by decide) (by simp) hch1 rfl (fun c => (ht1.fresh (u := 0) (x := c) hq).1) (nI_1 i) hi (by omega) (ht2 (i + 1) hi) rfl ⟨_, hch1 _, ?_⟩
  have hst : z_may C 3 i 2 0 = true → z_st C 3 i (kK C p) (kK C tu) (C.2 15 (i + 1)) (C.1 3) 0 := fun z => Or.inr (Or.inr (Or.inr (Or.inr (Or.inr (Or.inl ⟨rfl, hi, Ne.symm e, kp, ktu, rfl, rfl, z, rfl⟩)))))
  obtain ⟨c, b, N1, ns1, c1, c2, c3, c4, hadd⟩ := c_addE (k := 3) (i := i) (f := p) (q := tu) (t := C.2 15 (i + 1)) (pr := C.1 3) (fo := 0) (fm := 0) (nu := 0) ok hM' hL (by omega) hq hp htu (by decide) (fun z => by omega) (fun z => by omega) (fun ow' σ' hM'' ha' _ _ Q q1 q0 => by
    refine hm_k3 ok hM''.1.1 (hM''.1.raw hM''.2.1.1) hM''.1.2.2.2.2.2.2.raw ha'.1 hi rfl (fun z => q1 (hst z)) (fun z => q0 ?_)
    rintro (y | y | y | y | y | y | y | y)
    · have := y.1; omega
    · have := y.1; omega
    · have := y.1; omega
    · have := y.1; omega
    · have := y.1; omega
    · exact z y.2.2.2.2.2.2.2.1
    · have := y.1; omega
    · have := y.1; omega)
  refine ⟨c, b, by omega, by omega, hadd _ (fun ow1 σ1 xs1 n1 n2 n3 n4 n5 => ?_) c b (Nat.le_refl _) (Nat.le_refl _)⟩
  have hM1' := n2
  obtain ⟨he1, hch2, fk2, hk3, hk4⟩ := n2
  obtain ⟨p2, hp2, ep2, kp2⟩ := hk4 (i + 2) (by omega)
  obtain ⟨ft1, ht3, ht4⟩ := he1.2.2.2.2.2.1
  have lb1 := n3.2.1
  refine ⟨by omega, by omega, c_new_i fun q' hq' => ?_⟩
  have hch5 := fun c => (hch2.fresh (u := 0) (x := c) hq').1
  have hk5 := fun c => (hk3.fresh (u := 0) (x := c) hq').1
  refine i_R (hch5 _) (by decide) rfl (i_R (hch5 _) (by decide) rfl ⟨_, rfl, i_aI (hk5 _) (nI_add i 2) (by omega) (by decide) (i_R (hch5 _) (by decide) rfl ⟨_, rfl, i_aI (ht3.fresh (u := 0) hq').1 rfl (by omega) (by omega) ?_⟩)⟩)
  rw [ep2, ht4 i (by omega)]
  refine ctor8 (sC 0 (kc 0) x0 i tu p2 (C.2 15 i) 0 0) (by decide) (by simp) rfl ⟨_, hch5 _, ?_⟩
  have hst2 : z_st C 0 i (kK C tu) (kK C p2) (C.2 15 i) 0 0 := Or.inr (Or.inr (Or.inr (Or.inr (Or.inr (Or.inr (Or.inl ⟨rfl, hi, Ne.symm e, ktu, by omega, rfl, rfl, rfl⟩))))))
  obtain ⟨c', b', N2, ns2, d1, d2, d3, d4, hadd2⟩ := c_addE (k := 0) (i := i) (f := tu) (q := p2) (t := C.2 15 i) (pr := 0) (fo := 0) (fm := 0) (nu := 0) ok hM1' n3 (by omega) hq' htu hp2 (by decide) (fun z => by omega) (fun z => by omega) (fun ow' σ' hM'' ha' _ _ Q q1 q0 => hm_k0 ok hM''.1.1 (hM''.1.raw hM''.2.1.1) hM''.1.2.2.2.2.2.2.raw ha'.1 (by omega) (q1 hst2))
  refine ⟨c', b', by omega, by omega, hadd2 _ (fun ow2 σ2 xs2 o1 o2 o3 o4 o5 => ?_) c' b' (Nat.le_refl _) (Nat.le_refl _)⟩
  refine parted _ _ ow2 σ2 N2 ns2 xs2 ⟨n1.tr o1, o2, o3, n4.tr o4, by omega, by omega, by omega⟩ (fun _ p' p2' h1 h2 h3 h4 => ?_)
  have := inj h1 hp (by omega)
  subst this
  have := inj h3 hp2 (by omega)
  subst this
  exact ⟨fun z => o4.2 _ _ _ _ _ _ _ (n5 (hst z)), o5 hst2⟩
end PAIR
