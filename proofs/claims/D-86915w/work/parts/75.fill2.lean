/-! PLAIN LAW, the component: fill, its outer loops -/
set_option maxRecDepth 100000
def fB (C : Cf) (X3 : cX) (p q r j : Nat) : Prop := ∀ r' j', r' < C.1 7 → j' ≤ C.2 9 r' → (r' < r ∨ (r' = r ∧ j' < j)) → X3 (4 * r' + j') p q = lN (if j' = C.2 9 r' ∧ p = q then 0 else 1152921504606846976)
section FIL2
variable {C : Cf} {ow : Nat → Nat} {σ : gH} {x0 : Nat} {kk kc ru : Nat → Nat} {X2 X3 X2' X3' : cX} {p q : Nat}
theorem c_f92 {Q : gH → Prop} {K : Nat → Int32 → Int32 → Int32 → gH → Prop} {r : Nat} {σ1 : gH} {Y3 : cX} (ok : z_ok C) (hE : lE C ow σ x0 kk kc ru) (hpq : p ≤ q) (hq : q < nK C) (hr : r < C.1 7) (m1 : hmv TFi ow σ ow σ1) (c1 : lC ow σ1 kk X2 Y3) (o1 : fO p q X2 X3 X2 Y3) (b1 : fB C Y3 p q r 0)
    (w : ∀ σ' X3', hmv TFi ow σ ow σ' → lC ow σ' kk X2 X3' → fO p q X2 X3 X2 X3' → fB C X3' p q (r + 1) 0 → K (kc 0) (nI p) (nI q) (nI r) σ') : ∃ fu, wX7_fill_92 Q K fu (kc 0) (nI p) (nI q) (nI r) (some (ru r)) 0 σ1 := by
  have o := ok.1
  have nk := nK_le ok
  obtain ⟨or1, or2, or3⟩ := ok.2.2.2.2.1 r hr
  refine pk_loop (σ := gH) (fun n j σ' => wX7_fill_92 Q K n (kc 0) (nI p) (nI q) (nI r) (some (ru r)) (nI j) σ') (fun j σ' => ∃ X3', hmv TFi ow σ ow σ' ∧ lC ow σ' kk X2 X3' ∧ fO p q X2 X3 X2 X3' ∧ fB C X3' p q r j) (C.2 9 r + 1) 0 σ1 (by omega) ⟨Y3, m1, c1, o1, b1⟩ ?_ ?_
  · rintro n σ2 ⟨Z3, m2, c2, o2, b2⟩
    obtain ⟨hM, ⟨hRl, hRu⟩, X1, h1, h1d⟩ := hE.mv ok m2
    obtain ⟨so, wh, f0, g0, rc, -⟩ := hRu r hr
    simp only [wX7_fill_92]
    exact ⟨_, rfl, i_I rc.1 (by decide) rfl (br_p (nI_lt (by omega) (by omega)) (w σ2 Z3 m2 c2 o2 (fun r' j' h2 h3 h4 => b2 r' j' h2 h3 (by
      rcases h4 with h4 | h4
      · by_cases e : r' = r
        · subst e; exact Or.inr ⟨rfl, by omega⟩
        · exact Or.inl (by omega)
      · exact absurd h4.2 (by omega)))))⟩
  · rintro n j σ2 hj ⟨Z3, m2, c2, o2, b2⟩ hs
    obtain ⟨hM, ⟨hRl, hRu⟩, X1, h1, h1d⟩ := hE.mv ok m2
    have hR := hRu r hr
    obtain ⟨so, wh, f0, g0, rc, -⟩ := id hR
    obtain ⟨f1, c, g1, d, hat1⟩ := c2.2.at (i := 4 * r + j) (p := p) (by omega) (by omega)
    obtain ⟨x1, x2, x3, x4, x5⟩ := id hat1
    have fin : ∀ v, v = lN (if j = C.2 9 r ∧ p = q then 0 else 1152921504606846976) → wX7_fill_135 Q (wX7_fill_92 Q K n) K (some d) (nI q) v (kc 0) (nI p) (nI q) (nI r) (some (ru r)) (nI j) σ2 := by
      intro v hv
      unfold wX7_fill_135
      refine ⟨d, rfl, i_sJ x5.1 rfl (by omega) (by decide) ?_⟩
      obtain ⟨p1, p2⟩ := c2.put3 q v (by omega) (by omega) hat1
      rw [nI_1]
      refine al_eq (hs _ ⟨_, m2.tr p1, p2, fun k p' q' hn => ⟨rfl, by rw [cuX_n _ _ (fun z => hn z.2)]; exact (o2 k p' q' hn).2⟩, fun r' j' h2 h3 h4 => ?_⟩)
      by_cases e : r' = r ∧ j' = j
      · obtain ⟨rfl, rfl⟩ := e
        rw [cuX_s]; exact hv
      · have or' := (ok.2.2.2.2.1 r' h2).2.1
        rw [cuX_n _ _ (by omega)]
        exact b2 r' j' h2 h3 (by omega)
    simp only [wX7_fill_92]
    refine ⟨_, rfl, i_I rc.1 (by decide) rfl (br_n (nI_nlt (by omega) (by omega)) ⟨_, hM.2.1.1, c_rest hM hR x1 (by omega) (by omega) rfl ⟨c, x2, i_aR x3 rfl (by omega) (by decide) (i_I rc.1 (by decide) rfl ?_)⟩⟩)⟩
    rw [x4]
    refine pk_eq j (C.2 9 r) (fun e => ?_) (fun e => ?_) rfl rfl (by omega) (by omega)
    · refine pk_eq p q (fun e2 => ?_) (fun e2 => ?_) rfl rfl (by omega) (by omega)
      · exact fin 0 (by rw [if_pos ⟨e, e2⟩]; exact l0)
      · unfold wX7_fill_132
        exact fin _ (by rw [if_neg (fun z => e2 z.2)]; exact lF)
    · unfold wX7_fill_132
      exact fin _ (by rw [if_neg (fun z => e z.1)]; exact lF)
theorem c_f55 {Q : gH → Prop} {K : Nat → Int32 → Int32 → gH → Prop} (ok : z_ok C) (hE : lE C ow σ x0 kk kc ru) (hC : lC ow σ kk X2 X3) (hpq : p ≤ q) (hq : q < nK C)
    (w : ∀ σ' X3', hmv TFi ow σ ow σ' → lC ow σ' kk X2 X3' → fO p q X2 X3 X2 X3' → fB C X3' p q (C.1 7) 0 → K (kc 0) (nI p) (nI q) σ') : ∃ fu, wX7_fill_55 Q K fu (kc 0) (nI p) (nI q) 0 σ := by
  have o := ok.1
  refine pk_loop (σ := gH) (fun n r σ' => wX7_fill_55 Q K n (kc 0) (nI p) (nI q) (nI r) σ') (fun r σ' => ∃ X3', hmv TFi ow σ ow σ' ∧ lC ow σ' kk X2 X3' ∧ fO p q X2 X3 X2 X3' ∧ fB C X3' p q r 0) (C.1 7) 0 σ (by omega) ⟨X3, hmv.rf, hC, fO.rf, fun r' j' _ _ h => by omega⟩ ?_ ?_
  · rintro n σ1 ⟨Y3, m1, c1, o1, b1⟩
    obtain ⟨hM, ⟨⟨N, hN, hRl⟩, hRu⟩, X1, h1, h1d⟩ := hE.mv ok m1
    obtain ⟨fs, hf, hof⟩ := hM.1.2.1
    simp only [wX7_fill_55]
    exact i_R hM.2.1.1 (by decide) rfl ⟨_, rfl, i_R hf.1 (by decide) hof.2.1.2.2.1 ⟨_, rfl, ln_size hRl (br_p (nI_le (by omega) (by omega)) (w σ1 Y3 m1 c1 o1 b1))⟩⟩
  · rintro n r σ1 hr ⟨Y3, m1, c1, o1, b1⟩ hs
    obtain ⟨hM, ⟨⟨N, hN, hRl⟩, hRu⟩, X1, h1, h1d⟩ := hE.mv ok m1
    obtain ⟨fs, hf, hof⟩ := hM.1.2.1
    simp only [wX7_fill_55]
    refine i_R hM.2.1.1 (by decide) rfl ⟨_, rfl, i_R hf.1 (by decide) hof.2.1.2.2.1 ⟨_, rfl, ln_size hRl (br_n (nI_nle2 (by omega) (by omega)) (i_R hM.2.1.1 (by decide) rfl ⟨_, rfl, i_R hf.1 (by decide) hof.2.1.2.2.1 ⟨_, rfl, ln_get hRl rfl hr (by omega) ⟨fun a ha => ?_, ?_⟩⟩⟩))⟩⟩
    · cases ha
      obtain ⟨so, wh, f0, g0, rc, -⟩ := hRu r hr
      exact ⟨4, _, by decide, rc.1⟩
    · refine c_f92 ok hE hpq hq hr m1 c1 o1 b1 (fun σ2 Z3 m2 c2 o2 b2 => ?_)
      rw [nI_1]
      exact al_eq (hs σ2 ⟨Z3, m2, c2, o2, b2⟩)
theorem c_f23 {Q : gH → Prop} {K : Nat → Int32 → Int32 → gH → Prop} (ok : z_ok C) (hE : lE C ow σ x0 kk kc ru) (hC : lC ow σ kk X2 X3) (hpq : p ≤ q) (hq : q < nK C)
    (w : ∀ σ' X2', hmv TFi ow σ ow σ' → lC ow σ' kk X2' X3 → fO p q X2 X3 X2' X3 → (∀ x, x < C.1 5 → X2' x p q = lN 1152921504606846976) → K (kc 0) (nI p) (nI q) σ') : ∃ fu, wX7_fill_23 Q K fu (kc 0) (nI p) (nI q) 0 σ := by
  have o := ok.1
  have nk := nK_le ok
  refine pk_loop (σ := gH) (fun n r σ' => wX7_fill_23 Q K n (kc 0) (nI p) (nI q) (nI r) σ') (fun x σ' => ∃ X2', hmv TFi ow σ ow σ' ∧ lC ow σ' kk X2' X3 ∧ fO p q X2 X3 X2' X3 ∧ ∀ x', x' < x → X2' x' p q = lN 1152921504606846976) (C.1 5) 0 σ (by omega) ⟨X2, hmv.rf, hC, fO.rf, fun x' h => by omega⟩ ?_ ?_
  · rintro n σ1 ⟨Y2, m1, c1, o1, b1⟩
    obtain ⟨hM, hRR⟩ := hE.mv ok m1
    obtain ⟨fs, hf, hof⟩ := hM.1.2.1
    simp only [wX7_fill_23]
    exact i_R hM.2.1.1 (by decide) rfl ⟨_, rfl, i_I hf.1 (by decide) hof.2.1.1 (br_p (nI_le (by omega) (by omega)) (w σ1 Y2 m1 c1 o1 b1))⟩
  · rintro n x σ1 hx ⟨Y2, m1, c1, o1, b1⟩ hs
    obtain ⟨hM, hRR⟩ := hE.mv ok m1
    obtain ⟨fs, hf, hof⟩ := hM.1.2.1
    obtain ⟨f1, c, g1, d, hat1⟩ := c1.1.at (i := x) (p := p) (by omega) (by omega)
    obtain ⟨x1, x2, x3, x4, x5⟩ := id hat1
    simp only [wX7_fill_23]
    refine i_R hM.2.1.1 (by decide) rfl ⟨_, rfl, i_I hf.1 (by decide) hof.2.1.1 (br_n (nI_nle2 (by omega) (by omega)) (i_R hM.2.1.1 (by decide) rfl ⟨_, rfl, i_aR x1 rfl (by omega) (by decide) ⟨c, x2, i_aR x3 rfl (by omega) (by decide) ⟨d, x4, i_sJ x5.1 rfl (by omega) (by decide) ?_⟩⟩⟩))⟩
    obtain ⟨p1, p2⟩ := c1.put2 q 1152921504606846976 (by omega) (by omega) hat1
    rw [nI_1]
    refine al_eq (hs _ ⟨_, m1.tr p1, p2, fun k p' q' hn => ⟨by rw [cuX_n _ _ (fun z => hn z.2)]; exact (o1 k p' q' hn).1, rfl⟩, fun x' hx' => ?_⟩)
    by_cases e : x' = x
    · subst e; rw [cuX_s]; exact lF
    · rw [cuX_n _ _ (fun z => e z.1)]; exact b1 x' (by omega)
def fI (C : Cf) (ow : Nat → Nat) (σ : gH) (kk : Nat → Nat) (D : Nat → Nat → Prop) (σ' : gH) : Prop := ∃ X2 X3, hmv TFi ow σ ow σ' ∧ lC ow σ' kk X2 X3 ∧ ∀ p q, D p q → fG C X2 X3 p q
theorem c_fill {Q : gH → Prop} (ok : z_ok C) (hE : lE C ow σ x0 kk kc ru) (hC : lC ow σ kk X2 X3) (w : ∀ σ' X2' X3', hmv TFi ow σ ow σ' → lC ow σ' kk X2' X3' → (∀ p q, p ≤ q → q < nK C → fG C X2' X3' p q) → Q σ') : wX7_fill Q (kc 0) σ := by
  have o := ok.1
  have nk := nK_le ok
  unfold wX7_fill
  refine i_I hE.1.2.1.1 (by decide) rfl (al_eq ⟨nK C + 1, pk_loopD (σ := gH) (fun n e σ' => wX7_fill_7 Q _ n (kc 0) (nI e - 1) σ') (fun e σ' => e ≤ nK C ∧ fI C ow σ kk (fun p q => p ≤ q ∧ q < nK C ∧ e ≤ p) σ') ?_ ?_ (nK C) σ ⟨Nat.le_refl _, X2, X3, hmv.rf, hC, fun p q h => by omega⟩⟩)
  · rintro n σ1 ⟨-, Y2, Y3, m1, c1, d1⟩
    simp only [wX7_fill_7]
    rw [nI_0m1]
    exact br_p (by decide) (w σ1 Y2 Y3 m1 c1 (fun p q h1 h2 => d1 p q ⟨h1, h2, by omega⟩))
  · rintro n p σ1 ⟨hp, Y2, Y3, m1, c1, d1⟩ hs
    simp only [wX7_fill_7]
    rw [nI_pred]
    refine br_n (nI_pos (by omega)) ?_
    refine pk_loop (σ := gH) (fun n q σ' => wX7_fill_13 Q _ n (kc 0) (nI p) (nI q) σ') (fun q σ' => p ≤ q ∧ fI C ow σ kk (fun p' q' => fa C p q p' q') σ') (nK C) p σ1 (by omega) ⟨Nat.le_refl _, Y2, Y3, m1, c1, fun p' q' h => d1 p' q' (by unfold fa at h; omega)⟩ ?_ ?_
    · rintro n σ2 ⟨-, Z2, Z3, m2, c2, d2⟩
      have hM := (hE.mv ok m2).1
      simp only [wX7_fill_13]
      refine i_I hM.2.1.1 (by decide) rfl (br_p (nI_le (by omega) (by omega)) ?_)
      rw [nI_m1]
      exact al_eq (hs σ2 ⟨by omega, Z2, Z3, m2, c2, fun p' q' h => d2 p' q' (by unfold fa; omega)⟩)
    · rintro n q σ2 hq ⟨hpq, Z2, Z3, m2, c2, d2⟩ hs2
      have hE2 := hE.mv ok m2
      have hM := hE2.1
      simp only [wX7_fill_13]
      refine i_I hM.2.1.1 (by decide) rfl (br_n (nI_nle2 (by omega) (by omega)) ?_)
      refine c_f23 ok hE2 c2 hpq hq (fun σ3 V2 m3 c3 o3 b3 => ?_)
      refine c_f55 ok (hE2.mv ok m3) c3 hpq hq (fun σ4 V3 m4 c4 o4 b4 => ?_)
      have o34 := o3.tr o4
      have D4 : ∀ p' q', fa C p q p' q' → fG C V2 V3 p' q' := fun p' q' z => (d2 p' q' z).O o34 (by unfold fa at z; omega) z.1
      have P4 : fP C V2 V3 p q := by
        refine ⟨fun x hx => by rw [b3 x hx]; exact gd_lN (Nat.le_refl _), fun r hr j hj => ⟨_, b4 r j hr hj (Or.inl hr), ?_⟩, fun x hx hl => ?_⟩
        · by_cases e : j = C.2 9 r ∧ p = q
          · rw [if_pos e]
            have e0 : z_rs (cc C V2) [] p q = 0 := by unfold z_rs; rw [if_pos e.2]
            refine ⟨?_, by omega, fun _ => e0.symm⟩
            rw [z_yl_end (by omega), e0]
            exact Nat.le_refl _
          · rw [if_neg e]
            refine ⟨z_rs_le _ _ _ _, Nat.le_refl _, fun z => ?_⟩
            unfold z_rs
            rw [if_neg (fun y => e ⟨z, y⟩)]
        · rw [b3 x hx, vL_lN (by decide)] at hl
          omega
      refine c_f150 ok ((hE2.mv ok m3).mv ok m4) c4 hpq hq D4 P4 (fun σ5 U2 U3 m5 c5 o5 g5 => ?_)
      rw [nI_1]
      refine al_eq (hs2 σ5 ⟨by omega, U2, U3, ((m2.tr m3).tr m4).tr m5, c5, fun p' q' h => ?_⟩)
      by_cases e : p' = p ∧ q' = q
      · obtain ⟨rfl, rfl⟩ := e; exact g5
      · unfold fa at h
        exact (D4 p' q' (by unfold fa; omega)).O o5 (by omega) h.1
theorem fG.tb (h : ∀ p q, p ≤ q → q < nK C → fG C X2 X3 p q) : z_tb C 16777216 (kK C) (nK C) (fun x p q => vL (X2 x p q)) := ⟨fun x p q hx h1 h2 => ((h p q h1 h2).1 x hx).2, fun r p q hr h1 h2 => (h p q h1 h2).2.1 r hr, fun x p q hx h1 h2 h3 => (h p q h1 h2).2.2.1 x hx h3⟩
end FIL2
