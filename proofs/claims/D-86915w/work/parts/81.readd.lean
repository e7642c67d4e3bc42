/-! PLAIN LAW, the component: a token is read, the search -/
set_option maxRecDepth 100000
section RDD
variable {C : Cf} {ow ow' : Nat → Nat} {σ σ' : gH} {x0 : Nat} {kk kc ru xs : Nat → Nat} {X2 X3 : cX} {Nc ns gw N : Nat} {fs0 : List Value} {st : St}
/-- a is a step by which t is read from p to q at the least price -/
def rCd (C : Cf) (ow : Nat → Nat) (σ : gH) (kc : Nat → Nat) (x0 t p q a k f fo : Nat) : Prop := ∃ i pr, sP C ow σ kc x0 a k i f q t pr fo ∧ z_up C (kK C p) (kK C f) ≠ 1000000000 ∧ z_up C (kK C p) (kK C f) + pr = z_R C t (kK C p) (kK C q)
def rIn (C : Cf) (ow : Nat → Nat) (σ : gH) (kc : Nat → Nat) (x0 t p q j : Nat) (xs : Nat → Nat) (r : Option Nat) : Prop := (r = none ∧ ∀ j' k f fo, j' < j → ¬ rCd C ow σ kc x0 t p q (xs j') k f fo) ∨ ∃ a k f fo, r = some a ∧ rCd C ow σ kc x0 t p q a k f fo ∧ ∀ j' k' f' fo', j' < j → rCd C ow σ kc x0 t p q (xs j') k' f' fo' → f < f' ∨ (f = f' ∧ (k < k' ∨ (k = k' ∧ fo ≤ fo')))
theorem rCd.un (ok : z_ok C) {t p q a k f fo k' f' fo' : Nat} (h : rCd C ow σ kc x0 t p q a k f fo) (g : rCd C ow σ kc x0 t p q a k' f' fo') : f = f' ∧ k = k' ∧ fo = fo' := by
  obtain ⟨i, pr, h1, -⟩ := h
  obtain ⟨i', pr', g1, -⟩ := g
  exact ⟨(h1.det ok g1).1, h1.det2 ok g1⟩
theorem c_rd6 {Q : gH → Prop} {K : Nat → Nat → Nat → Int32 → Int32 → Option Nat → gH → Prop} {mc ms t p q : Nat} (ok : z_ok C) (hF : cFu C ow σ x0 kk kc Nc ns xs ru X2 X3) (hg : hat ow σ gw 206 (cO 16 [.ref (kc 0), .ref x0])) (ht : t < C.1 0) (hp : p < nK C) (hq : q < nK C) (hR : z_R C t (kK C p) (kK C q) ≠ 1000000000)
    (w : ∀ a k f fo, rCd C ow σ kc x0 t p q a k f fo → z_b1 C t (kK C p) (kK C q) = kK C f → z_b2 C t (kK C p) (kK C q) = k → z_b3 C t (kK C p) (kK C q) = fo → K 0 0 gw (nI t) (nI p) (some a) σ) : ∃ fu, wX16_read_6 Q mc ms K fu 0 0 gw (nI t) (nI p) (nI q) none 0 σ := by
  have o := ok.1
  have nk := nK_le ok
  obtain ⟨⟨hM, hMo, ⟨hL, hns, hd⟩, hSk, hSg, X1, hX1, hRd⟩, hRu, hC, hG⟩ := id hF
  have NN := hL.2.1
  have Rb := z_R_bd ok (t := t) (p := kK C p) (q := kK C q)
  refine pk_loop (σ := Option Nat) (fun n j r => wX16_read_6 Q mc ms K n 0 0 gw (nI t) (nI p) (nI q) r (nI j) σ) (fun j r => rIn C ow σ kc x0 t p q j xs r) ns 0 none (by omega) (Or.inl ⟨rfl, fun j' k f fo h => by omega⟩) ?_ ?_
  · rintro n r hr
    simp only [wX16_read_6]
    refine i_R hg.1 (by decide) rfl ⟨_, rfl, i_R hM.2.1.1 (by decide) rfl ⟨_, rfl, ln_size hL.1 (br_p (nI_le (by omega) (by omega)) ?_)⟩⟩
    -- any step is in the list
    have all : ∀ k i fl pr fo, z_st C k i fl (kK C q) t pr fo → z_up C (kK C p) fl ≠ 1000000000 → z_up C (kK C p) fl + pr = z_R C t (kK C p) (kK C q) → ∃ f j, f < nK C ∧ kK C f = fl ∧ j < ns ∧ rCd C ow σ kc x0 t p q (xs j) k f fo := by
      intro k i fl pr fo hst hu he
      have b := z_st_pl ok hst
      obtain ⟨f, hf, ef⟩ : ∃ f, f < nK C ∧ kK C f = fl := by
        rcases z_up_main hu with z | z
        · exact ⟨p, hp, z⟩
        · obtain ⟨f, hf, e⟩ := kK_main (C := C) (i := fl / 5) (by omega)
          exact ⟨f, hf, by omega⟩
      subst ef
      obtain ⟨j, hj, hs⟩ := hd i b.1 k f q t pr fo hf hq hst
      exact ⟨f, j, hf, rfl, hj, i, pr, hs, hu, he⟩
    rcases hr with ⟨rfl, no⟩ | ⟨a, k, f, fo, rfl, cd, mn⟩
    · obtain ⟨k, i, fl, pr, fo, g1, g2, g3⟩ := z_R_at hR
      obtain ⟨f, j, hf, ef, hj, hc⟩ := all k i fl pr fo g1 g2 g3.symm
      exact absurd hc (no j k f fo hj)
    · obtain ⟨i, pr, c1, c2, c3⟩ := id cd
      obtain ⟨fm, nu, d1, d2, d3, d4, d5, -⟩ := id c1
      have key := z_b_eq (C := C) (t := t) (l := kK C p) (q := kK C q) d5 c2 c3 (by
        intro k' i' fl' pr' fo' g1 g2 g3
        obtain ⟨f', j, hf', ef, hj, hc⟩ := all k' i' fl' pr' fo' g1 g2 g3
        rcases mn j k' f' fo' hj hc with z | ⟨z, z2⟩
        · exact Or.inl (by rw [← ef]; exact (kK_kn ok).1 f f' z hf')
        · exact Or.inr ⟨by rw [← ef, z], z2⟩)
      exact w a k f fo cd key.1 key.2.1 key.2.2
  · rintro n j r hj hr hs
    obtain ⟨k, i, f, q1, t1, pr, fo, hsp⟩ := hL.2.2 j hj
    obtain ⟨fm, nu, p1, p2, p3, p4, p5, p6, p7⟩ := id hsp
    have b := z_st_pl ok p5
    have skip : (∀ k f fo, ¬ rCd C ow σ kc x0 t p q (xs j) k f fo) → wX16_read_149 Q mc ms (wX16_read_6 Q mc ms K n) K 0 0 gw (nI t) (nI p) (nI q) r (nI j) σ := by
      intro no
      unfold wX16_read_149
      rw [nI_1]
      refine al_eq (hs r ?_)
      rcases hr with ⟨e, no2⟩ | ⟨a, k, f, fo, e, cd, mn⟩
      · refine Or.inl ⟨e, fun j' k f fo h => ?_⟩
        by_cases ej : j' = j
        · subst ej; exact no k f fo
        · exact no2 j' k f fo (by omega)
      · refine Or.inr ⟨a, k, f, fo, e, cd, fun j' k' f' fo' h hc => ?_⟩
        by_cases ej : j' = j
        · subst ej; exact absurd hc (no k' f' fo')
        · exact mn j' k' f' fo' (by omega) hc
    have skip0 : (∀ k f fo, ¬ rCd C ow σ kc x0 t p q (xs j) k f fo) → wX16_read_121 Q mc ms (wX16_read_6 Q mc ms K n) K 0 0 gw (nI t) (nI p) (nI q) r (nI j) (some (xs j)) σ := by
      intro no
      unfold wX16_read_121 wX16_read_122
      exact br_p rfl (skip no)
    simp only [wX16_read_6]
    refine i_R hg.1 (by decide) rfl ⟨_, rfl, i_R hM.2.1.1 (by decide) rfl ⟨_, rfl, ln_size hL.1 (br_n (nI_nle2 (by omega) (by omega)) (i_R hg.1 (by decide) rfl ⟨_, rfl, i_R hM.2.1.1 (by decide) rfl ⟨_, rfl, ln_get hL.1 rfl hj (by omega) ⟨fun a ha => ?_, _, rfl, hsp.tk ?_⟩⟩⟩))⟩⟩
    · cases ha
      obtain ⟨ci, fs, e, hc, -⟩ := sC_at k (kc 0) x0 i f q1 t1 fm nu
      exact ⟨ci, fs, hc, by rw [p1.1, e]⟩
    refine pk_eq t1 t (fun e1 => ?_) (fun e1 => skip0 (fun k' f' fo' hc => by
      obtain ⟨i', pr', c1, -⟩ := hc
      exact e1 (hsp.det ok c1).2.2.1)) rfl rfl (by omega) (by omega)
    refine hsp.to ?_
    refine pk_eq q1 q (fun e2 => ?_) (fun e2 => skip0 (fun k' f' fo' hc => by
      obtain ⟨i', pr', c1, -⟩ := hc
      exact e2 (hsp.det ok c1).2.1)) rfl rfl (by omega) (by omega)
    subst e1 e2
    refine hsp.fr ?_
    refine pk_lt f p (fun e3 => ?_) (fun e3 => ?_) rfl rfl (by omega) (by omega)
    · refine skip0 (fun k' f' fo' hc => ?_)
      obtain ⟨i', pr', c1, c2, c3⟩ := hc
      obtain ⟨rfl, -, -, -⟩ := hsp.det ok c1
      have := (kK_lt ok p2 hp).mpr e3
      rcases z_up_main c2 with z | z <;> omega
    obtain ⟨f9, c9, g9, d9, x1, x2, x3, x4, x5⟩ := hX1.at (i := t1) (p := p) (by omega) (by omega)
    have e2 := hM.1.raw hM.2.1.1
    have ub := z_up_bd ok (p := kK C p) (fl := kK C f) (kK_bd ok p2)
    have zb : zc (z_up C (kK C p) (kK C f)) ≤ 1152921504606846976 := by
      unfold zc
      by_cases z : z_up C (kK C p) (kK C f) = 1000000000
      · rw [if_pos z]; omega
      · rw [if_neg z]; omega
    have hi2 : k = 2 → i < C.1 34 := fun z => by
      subst z
      rcases p5 with h | h | h | h | h | h | h | h <;> omega
    have nf : k = 4 ∨ k = 5 → nu = fo := fun z => by
      rcases z with z | z
      · exact (p6 z).1
      · exact (p7 z).1
    refine i_R hg.1 (by decide) rfl ⟨_, rfl, _, hM.2.1.1, c_upTo ok hM hMo hSg hp p2 p1.1 (i_R hg.1 (by decide) rfl ⟨_, rfl, i_R hM.2.1.1 (by decide) rfl (i_R hg.1 (by decide) rfl ⟨_, rfl, i_I hM.2.1.1 (by decide) rfl (hp_of ok e2 hM.1.2.2.2.2.2.2.raw (by omega) p1.1 (by omega) b.1 hi2 ⟨fun z => ?_, fun z => ?_⟩ ?_)⟩)⟩)⟩
    · rw [(p6 z).1]; exact (p6 z).2.1
    · rw [(p7 z).1]; exact (p7 z).2.1
    rw [← st_price p5 nf, nI_l (by omega)]
    refine i_R hg.1 (by decide) rfl ⟨_, rfl, i_R hM.2.1.1 (by decide) rfl ⟨_, rfl, i_aR x1 rfl (by omega) (by decide) ⟨c9, x2, i_aR x3 rfl (by omega) (by decide) ⟨d9, x4, i_aJ x5.1 rfl (by omega) (by decide) ?_⟩⟩⟩⟩
    rw [hRd t1 p q1 ht hp hq, zc_ne hR, lN_add]
    by_cases e4 : zc (z_up C (kK C p) (kK C f)) + pr = z_R C t1 (kK C p) (kK C q1)
    · have une : z_up C (kK C p) (kK C f) ≠ 1000000000 := by
        intro z
        rw [z, zc_I] at e4
        omega
      rw [zc_ne une] at e4
      have cd : rCd C ow σ kc x0 t1 p q1 (xs j) k f fo := ⟨i, pr, hsp, une, e4⟩
      refine br_p (by rw [zc_ne une, e4]) ?_
      unfold wX16_read_122
      refine br_n (by decide) ?_
      have take : (∀ j' k' f' fo', j' < j → rCd C ow σ kc x0 t1 p q1 (xs j') k' f' fo' → f < f' ∨ (f = f' ∧ (k < k' ∨ (k = k' ∧ fo ≤ fo')))) → wX16_read_145 Q mc ms (wX16_read_6 Q mc ms K n) K 0 0 gw (nI t1) (nI p) (nI q1) (nI j) (some (xs j)) σ := by
        intro mn
        unfold wX16_read_145 wX16_read_149
        rw [nI_1]
        refine al_eq (hs _ (Or.inr ⟨xs j, k, f, fo, rfl, cd, fun j' k' f' fo' h hc => ?_⟩))
        by_cases ej : j' = j
        · subst ej
          obtain ⟨rfl, rfl, rfl⟩ := cd.un ok hc
          exact Or.inr ⟨rfl, Or.inr ⟨rfl, Nat.le_refl _⟩⟩
        · exact mn j' k' f' fo' (by omega) hc
      rcases hr with ⟨rfl, no2⟩ | ⟨a, k0, f0, fo0, rfl, cd0, mn⟩
      · exact br_p rfl (take (fun j' k' f' fo' h hc => absurd hc (no2 j' k' f' fo' h)))
      · refine br_n (by simp) ⟨_, hg.1, ?_⟩
        obtain ⟨i0, pr0, y1, y2, y3⟩ := id cd0
        refine c_ahead ok hsp y1 (fun z => br_n (by decide) (take (fun j' k' f' fo' h hc => by
          have := mn j' k' f' fo' h hc
          omega))) (fun z => br_p rfl ?_)
        unfold wX16_read_149
        rw [nI_1]
        refine al_eq (hs _ (Or.inr ⟨a, k0, f0, fo0, rfl, cd0, fun j' k' f' fo' h hc => ?_⟩))
        by_cases ej : j' = j
        · subst ej
          obtain ⟨rfl, rfl, rfl⟩ := cd.un ok hc
          omega
        · exact mn j' k' f' fo' (by omega) hc
    · refine br_n (fun z => e4 ((lEq2 (by omega) (by omega)).mp z)) (skip0 (fun k' f' fo' hc => ?_))
      obtain ⟨i', pr', c1, c2, c3⟩ := hc
      obtain ⟨rfl, -, -, rfl⟩ := hsp.det ok c1
      rw [zc_ne c2] at e4
      exact e4 c3
end RDD
