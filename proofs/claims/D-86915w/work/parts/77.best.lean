/-! PLAIN LAW, the component: the best end -/
set_option maxRecDepth 100000
/-- the start, read to place i, and the rest skipped: price a, size b -/
def z_bp (C : Cf) (i a b : Nat) : Prop := ∃ pr, z_Mb C (z_tk C) 16777216 (C.1 6) 0 (5 * i) pr b ∧ z_k C i (C.1 34) ≠ 1000000000 ∧ a = pr + z_k C i (C.1 34)
/-- the first least one -/
def z_bst (C : Cf) (i a b : Nat) : Prop := i ≤ C.1 34 ∧ z_bp C i a b ∧ (∀ i' a' b', i' ≤ C.1 34 → z_bp C i' a' b' → a * 16777216 + b ≤ a' * 16777216 + b') ∧ ∀ i' a' b', i' < i → z_bp C i' a' b' → a * 16777216 + b < a' * 16777216 + b'
def z_nob (C : Cf) : Prop := ∀ i a b, i ≤ C.1 34 → ¬ z_bp C i a b
theorem z_bp_un {C : Cf} (ok : z_ok C) {i a b a' b' : Nat} (h : z_bp C i a b) (g : z_bp C i a' b') : a = a' ∧ b = b' := by
  obtain ⟨pr, h1, h2, h3⟩ := h
  obtain ⟨pr', g1, g2, g3⟩ := g
  obtain ⟨e1, e2⟩ := z_Mb_un ok h1 g1
  exact ⟨by omega, e2⟩
theorem z_bp_bd {C : Cf} (ok : z_ok C) {i a b : Nat} (hi : i ≤ C.1 34) (h : z_bp C i a b) : a ≤ 235399017 + 1221 ∧ b ≤ 2398411 := by
  obtain ⟨pr, h1, h2, h3⟩ := h
  have k := z_k_bd2 ok hi (Nat.le_refl _)
  have p := z_price ok (B := 16777216) (x := C.1 6) (i := 0) (j := i) (by decide) h1
  have s := z_Mb_sz ok h1
  omega
theorem lLE2 {u v : Nat} (hu : u ≤ 1152921504606846976) (hv : v ≤ 1152921504606846976) : lN u ≤ lN v ↔ u ≤ v := pk_lLE (by omega) (by omega)
section BEST
variable {C : Cf} {ow : Nat → Nat} {σ : gH} {x0 : Nat} {kk kc ru : Nat → Nat} {X2 X3 : cX}
/-- the chart, filled -/
def cFu (C : Cf) (ow : Nat → Nat) (σ : gH) (x0 : Nat) (kk kc : Nat → Nat) (N ns : Nat) (xs ru : Nat → Nat) (X2 X3 : cX) : Prop := cCh C ow σ x0 kk kc N ns xs ∧ cRu C ow σ kk ru ∧ lC ow σ kk X2 X3 ∧ ∀ p q, p ≤ q → q < nK C → fG C X2 X3 p q
theorem kK_le (ok : z_ok C) {p q : Nat} (hp : p < nK C) (hq : q < nK C) (h : kK C p ≤ kK C q) : p ≤ q := by
  rcases Nat.lt_or_ge q p with z | z
  · have := (kK_lt ok hq hp).mpr z; omega
  · exact z
theorem c_best {Q : Int32 → Prop} {N ns : Nat} {xs : Nat → Nat} (ok : z_ok C) (hF : cFu C ow σ x0 kk kc N ns xs ru X2 X3) (h6 : C.1 6 < C.1 5) (w0 : z_nob C → Q (-4)) (w1 : ∀ i a b, z_bst C i a b → Q (nI i)) : wX7_best Q σ (kc 0) := by
  have o := ok.1
  have nk := nK_le ok
  obtain ⟨⟨hM, hMo, hL, hSk, hSg, hRd⟩, hRu, hC, hG⟩ := hF
  have tb := fG.tb hG
  obtain ⟨fs, hf, hof⟩ := hM.1.2.1
  obtain ⟨hE, hch, fk, hk1, hk2⟩ := hM
  obtain ⟨p0, hp0, ep0, ek0⟩ := hk2 0 (by omega)
  unfold wX7_best
  refine pk_loop (σ := Int32 × Int64) (fun n i s => wX7_best_10 Q σ _ n (kc 0) s.1 s.2 (nI i)) (fun i s => (s.1 = -4 ∧ s.2 = lN 1152921504606846976 ∧ ∀ i' a b, i' < i → ¬ z_bp C i' a b) ∨ (∃ b0 a b, b0 < i ∧ s.1 = nI b0 ∧ s.2 = lN (a * 16777216 + b) ∧ z_bp C b0 a b ∧ (∀ i' a' b', i' < i → z_bp C i' a' b' → a * 16777216 + b ≤ a' * 16777216 + b') ∧ ∀ i' a' b', i' < b0 → z_bp C i' a' b' → a * 16777216 + b < a' * 16777216 + b')) (C.1 34 + 1) 0 (-4, 1152921504606846976) (by omega) (Or.inl ⟨rfl, lF, fun i' a b h => by omega⟩) ?_ ?_
  · rintro n ⟨x1, x2⟩ h
    simp only [wX7_best_10]
    refine i_I hch.1 (by decide) rfl (br_p (nI_lt (by omega) (by omega)) ?_)
    rcases h with ⟨e1, e2, e3⟩ | ⟨b0, a, b, e1, e2, e3, e4, e5, e6⟩
    · obtain rfl : x1 = -4 := e1
      exact w0 (fun i a b hi => e3 i a b (by omega))
    · obtain rfl : x1 = nI b0 := e2
      exact w1 b0 a b ⟨by omega, e4, fun i' a' b' hi => e5 i' a' b' (by omega), e6⟩
  · rintro n i ⟨x1, x2⟩ hi h hs
    obtain ⟨pi, hpi, epi, eki⟩ := hk2 i (by omega)
    have hle : p0 ≤ pi := kK_le ok hp0 hpi (by omega)
    obtain ⟨f1, c, g1, d, y1, y2, y3, y4, y5⟩ := hC.1.at (i := C.1 6) (p := p0) (by omega) (by omega)
    obtain ⟨s8, s1, s2⟩ := hSg
    obtain ⟨b8, g8, s3, s4, s5⟩ := s2 i (by omega)
    have gdV := (hG p0 pi hle hpi).1 (C.1 6) h6
    have kb := z_k_bd2 ok (i := i) (j := C.1 34) (by omega) (Nat.le_refl _)
    simp only [wX7_best_10]
    refine i_I hch.1 (by decide) rfl (br_n (nI_nlt (by omega) (by omega)) (i_R hch.1 (by decide) rfl (i_R hch.1 (by decide) rfl ⟨_, rfl, i_I hf.1 (by decide) hof.2.1.2.1 ⟨_, rfl, i_aR y1 rfl (by omega) (by decide) (i_R hch.1 (by decide) rfl ⟨_, rfl, i_aI hk1.1 nI_0.symm (by omega) (by decide) ?_⟩)⟩⟩)))
    rw [ep0]
    refine ⟨c, y2, i_aR y3 rfl (by omega) (by decide) (i_R hch.1 (by decide) rfl ⟨_, rfl, i_aI hk1.1 rfl (by omega) (by decide) ?_⟩)⟩
    rw [epi]
    refine ⟨d, y4, i_aJ y5.1 rfl (by omega) (by decide) ?_⟩
    rw [gdV.1, lF]
    have gb := gdV.2
    -- what holds when i is not one
    have skip : (∀ a b, ¬ z_bp C i a b) → wX7_best_123 Q σ (wX7_best_10 Q σ (fun x1_1 => Q x1_1) n) (fun x1_1 => Q x1_1) (kc 0) x1 x2 (nI i) := by
      intro no
      unfold wX7_best_123
      rw [nI_1]
      refine al_eq (hs (x1, x2) ?_)
      rcases h with ⟨e1, e2, e3⟩ | ⟨b0, a, b, e1, e2, e3, e4, e5, e6⟩
      · refine Or.inl ⟨e1, e2, fun i' a b h' => ?_⟩
        by_cases e : i' = i
        · subst e; exact no a b
        · exact e3 i' a b (by omega)
      · refine Or.inr ⟨b0, a, b, by omega, e2, e3, e4, fun i' a' b' h' g => ?_, e6⟩
        by_cases e : i' = i
        · subst e; exact absurd g (no a' b')
        · exact e5 i' a' b' (by omega) g
    rw [pk_lLE (by decide) (by omega)]
    refine ⟨fun z => skip ?_, fun z => ?_⟩
    · rintro a b ⟨pr, q1, q2, q3⟩
      have bb := z_bp_bd ok (i := i) (by omega) ⟨pr, q1, q2, q3⟩
      have := (z_T_of (T := fun x p q => vL (X2 x p q)) ok (kK_kn ok) tb (by decide) (p := p0) (q := pi) hp0 hpi (by rw [ek0, eki]; exact q1) (by omega)).2
      omega
    obtain ⟨pr, sz, m1, m2, m3⟩ := z_T_fin (T := fun x p q => vL (X2 x p q)) ok (kK_kn ok) tb (by decide) h6 hle hpi (by omega)
    rw [ek0, eki] at m1
    have pb := z_price ok (B := 16777216) (x := C.1 6) (i := 0) (j := i) (by decide) m1
    refine i_R hch.1 (by decide) rfl ⟨_, rfl, i_aR s1.1 rfl (by omega) (by decide) (i_I hch.1 (by decide) rfl ⟨b8, s3, i_aJ s4.1 rfl (by omega) (by decide) ?_⟩)⟩
    rw [s5 (C.1 34) ⟨by omega, Nat.le_refl _⟩]
    by_cases ek : z_k C i (C.1 34) = 1000000000
    · rw [ek, zc_I]
      exact br_p ((pk_lLE (by decide) (by decide)).mpr (Nat.le_refl _)) (skip (fun a b g => by
        obtain ⟨pr', q1, q2, q3⟩ := g
        exact q2 ek))
    rw [zc_ne ek]
    refine br_n (fun y => by have := (pk_lLE (by decide) (by omega)).mp y; omega) (i_R hch.1 (by decide) rfl ⟨_, rfl, i_aR s1.1 rfl (by omega) (by decide) (i_I hch.1 (by decide) rfl ⟨b8, s3, i_aJ s4.1 rfl (by omega) (by decide) ?_⟩)⟩)
    rw [s5 (C.1 34) ⟨by omega, Nat.le_refl _⟩, zc_ne ek, lB, lN_mul, lN_add]
    have me : z_bp C i (pr + z_k C i (C.1 34)) sz := ⟨pr, m1, ek, rfl⟩
    have ev : vL (X2 (C.1 6) p0 pi) + z_k C i (C.1 34) * 16777216 = (pr + z_k C i (C.1 34)) * 16777216 + sz := by
      rw [m3, Nat.add_mul]; omega
    rw [ev]
    have cb : (pr + z_k C i (C.1 34)) * 16777216 + sz < 1152921504606846976 := by omega
    have take : (∀ i' a' b', i' < i → z_bp C i' a' b' → (pr + z_k C i (C.1 34)) * 16777216 + sz < a' * 16777216 + b') → c_R σ [7] (kc 0) 8 (fun r_32 => ∃ a_33 : Nat, r_32 = some a_33 ∧ (c_aR 4 σ a_33 (nI i) (fun r_34 => c_I σ [7] (kc 0) 1 (fun v_35 => ∃ a_36 : Nat, r_34 = some a_36 ∧ (c_aJ σ a_36 v_35 (fun v_37 => ∀ x2_38 : Int64, x2_38 = lN (vL (X2 (C.1 6) p0 pi)) + (v_37 * lN 16777216) → (wX7_best_123 Q σ (wX7_best_10 Q σ (fun x1_1 => Q x1_1) n) (fun x1_1 => Q x1_1) (kc 0) (nI i) x2_38 (nI i)))))))) := by
      intro lt
      refine i_R hch.1 (by decide) rfl ⟨_, rfl, i_aR s1.1 rfl (by omega) (by decide) (i_I hch.1 (by decide) rfl ⟨b8, s3, i_aJ s4.1 rfl (by omega) (by decide) ?_⟩)⟩
      rw [s5 (C.1 34) ⟨by omega, Nat.le_refl _⟩, zc_ne ek, lN_mul, lN_add, ev]
      unfold wX7_best_123
      rw [nI_1]
      refine al_eq (al_eq (hs (_, _) (Or.inr ⟨i, _, _, by omega, rfl, rfl, me, fun i' a' b' h' g => ?_, lt⟩)))
      by_cases e : i' = i
      · subst e
        obtain ⟨r1, r2⟩ := z_bp_un ok me g
        rw [r1, r2]; exact Nat.le_refl _
      · exact Nat.le_of_lt (lt i' a' b' (by omega) g)
    rcases h with ⟨e1, e2, e3⟩ | ⟨b0, a, b, e1, e2, e3, e4, e5, e6⟩
    · obtain rfl : x2 = lN 1152921504606846976 := e2
      refine br_n (fun y => by have := (pk_lLE (by decide) (by omega)).mp y; omega) (take (fun i' a' b' h' g => absurd g (e3 i' a' b' h')))
    · obtain rfl : x2 = lN (a * 16777216 + b) := e3
      have ab := z_bp_bd ok (i := b0) (by omega) e4
      have key : lN (a * 16777216 + b) ≤ lN ((pr + z_k C i (C.1 34)) * 16777216 + sz) ↔ a * 16777216 + b ≤ (pr + z_k C i (C.1 34)) * 16777216 + sz := lLE2 (by omega) (by omega)
      refine ⟨fun y0 => ?_, fun y0 => take (fun i' a' b' h' g => by
        have := e5 i' a' b' h' g
        have y : ¬ (a * 16777216 + b ≤ (pr + z_k C i (C.1 34)) * 16777216 + sz) := fun z => y0 (key.mpr z)
        omega)⟩
      have y := key.mp y0
      unfold wX7_best_123
      rw [nI_1]
      refine al_eq (hs (_, _) (Or.inr ⟨b0, a, b, by omega, e2, rfl, e4, fun i' a' b' h' g => ?_, e6⟩))
      by_cases e : i' = i
      · subst e
        obtain ⟨r1, r2⟩ := z_bp_un ok me g
        rw [← r1, ← r2]; exact y
      · exact e5 i' a' b' (by omega) g
end BEST
