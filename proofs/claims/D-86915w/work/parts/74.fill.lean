/-! PLAIN LAW, the component: fill -/
set_option maxRecDepth 100000
def fa (C : Cf) (p q p' q' : Nat) : Prop := p' ≤ q' ∧ q' < nK C ∧ (p < p' ∨ (p' = p ∧ q' < q))
abbrev cX : Type := Nat → Nat → Nat → Int64
def fX3 (C : Cf) (X2 X3 : cX) (r p q : Nat) : Prop := ∀ j, j ≤ C.2 9 r → X3 (4 * r + j) p q = lN (z_rs (cc C X2) ((z_yl C r).drop j) p q)
def fG (C : Cf) (X2 X3 : cX) (p q : Nat) : Prop := (∀ x, x < C.1 5 → gd (X2 x p q)) ∧ (∀ r, r < C.1 7 → vL (X2 (C.2 8 r) p q) ≤ z_rs (cc C X2) (z_yl C r) p q + 1) ∧ (∀ x, x < C.1 5 → vL (X2 x p q) < 1152921504606846976 → ∃ r, r < C.1 7 ∧ C.2 8 r = x ∧ vL (X2 x p q) = z_rs (cc C X2) (z_yl C r) p q + 1) ∧ ∀ r, r < C.1 7 → fX3 C X2 X3 r p q
def fO (p q : Nat) (X2 X3 X2' X3' : cX) : Prop := ∀ k p' q', ¬ (p' = p ∧ q' = q) → X2' k p' q' = X2 k p' q' ∧ X3' k p' q' = X3 k p' q'
def fP (C : Cf) (X2 X3 : cX) (p q : Nat) : Prop := (∀ x, x < C.1 5 → gd (X2 x p q)) ∧ (∀ r, r < C.1 7 → ∀ j, j ≤ C.2 9 r → ∃ u, X3 (4 * r + j) p q = lN u ∧ z_rs (cc C X2) ((z_yl C r).drop j) p q ≤ u ∧ u ≤ 1152921504606846976 ∧ (j = C.2 9 r → u = z_rs (cc C X2) [] p q)) ∧ ∀ x, x < C.1 5 → vL (X2 x p q) < 1152921504606846976 → ∃ r, r < C.1 7 ∧ C.2 8 r = x ∧ z_rs (cc C X2) (z_yl C r) p q + 1 ≤ vL (X2 x p q)
section FILL
variable {C : Cf} {ow : Nat → Nat} {σ : gH} {x0 : Nat} {kk kc ru : Nat → Nat} {X2 X3 X2' X3' : cX} {p q : Nat}
theorem fO.rf : fO p q X2 X3 X2 X3 := fun _ _ _ _ => ⟨rfl, rfl⟩
theorem fO.tr {X2'' X3'' : cX} (h : fO p q X2 X3 X2' X3') (g : fO p q X2' X3' X2'' X3'') : fO p q X2 X3 X2'' X3'' := fun k p' q' n => ⟨(g k p' q' n).1.trans (h k p' q' n).1, (g k p' q' n).2.trans (h k p' q' n).2⟩
theorem fO.rs (h : fO p q X2 X3 X2' X3') (ys : List Nat) {p' q' : Nat} (hn : ¬ (p' ≤ p ∧ q ≤ q')) : z_rs (cc C X2') ys p' q' = z_rs (cc C X2) ys p' q' := z_rs_congr ys p' q' (fun y m m' h1 h2 h3 => by
  unfold cc z_c
  by_cases e : y < 100
  · rw [if_pos e, if_pos e]
  · rw [if_neg e, if_neg e]
    simp only
    rw [(h (y - 100) m m' (by omega)).1])
theorem fG.O (h : fO p q X2 X3 X2' X3') {p' q' : Nat} (hn : ¬ (p' ≤ p ∧ q ≤ q')) (hpq : p' ≤ q') (f : fG C X2 X3 p' q') : fG C X2' X3' p' q' := by
  have hx : ∀ x, X2' x p' q' = X2 x p' q' := fun x => (h x p' q' (by omega)).1
  have h3 : ∀ x, X3' x p' q' = X3 x p' q' := fun x => (h x p' q' (by omega)).2
  have hr : ∀ ys, z_rs (cc C X2') ys p' q' = z_rs (cc C X2) ys p' q' := fun ys => h.rs ys hn
  obtain ⟨f1, f2, f3, f4⟩ := f
  refine ⟨fun x a => ?_, fun r a => ?_, fun x a b => ?_, fun r a j b => ?_⟩
  · rw [hx]; exact f1 x a
  · rw [hx, hr]; exact f2 r a
  · rw [hx] at b ⊢
    obtain ⟨r, r1, r2, r3⟩ := f3 x a b
    exact ⟨r, r1, r2, by rw [hr]; exact r3⟩
  · rw [h3, hr]; exact f4 r a j b
/-- less in one place -/
theorem cc_put {x v : Nat} (hv : v < vL (X2 x p q)) (hb : v ≤ 1152921504606846976) : (∀ x', vL (cuX X2 x p q (lN v) x' p q) ≤ vL (X2 x' p q)) ∧ vL (cuX X2 x p q (lN v) x p q) = v ∧ ∀ ys, z_rs (cc C (cuX X2 x p q (lN v))) ys p q ≤ z_rs (cc C X2) ys p q := by
  have le : ∀ x' p' q', vL (cuX X2 x p q (lN v) x' p' q') ≤ vL (X2 x' p' q') := by
    intro x' p' q'
    by_cases e : x' = x ∧ p' = p ∧ q' = q
    · obtain ⟨rfl, rfl, rfl⟩ := e
      rw [cuX_s, vL_lN (by omega)]; omega
    · rw [cuX_n _ _ e]; exact Nat.le_refl _
  refine ⟨fun x' => le x' p q, by rw [cuX_s, vL_lN (by omega)], fun ys => z_rs_mono ys p q (fun y m m' _ _ _ => ?_)⟩
  unfold cc z_c
  by_cases e : y < 100
  · rw [if_pos e, if_pos e]; exact Nat.le_refl _
  · rw [if_neg e, if_neg e]; exact le _ _ _
theorem nil_rs (c c' : Nat → Nat → Nat → Nat) : z_rs c [] p q = z_rs c' [] p q := by unfold z_rs; rfl
theorem or_f (a b : Nat) (ha : a < 2) (hb : b < 2) : nI a ||| nI b = nI (if a = 0 ∧ b = 0 then 0 else 1) := or_bit a b ha hb
/-- one round over the rules -/
theorem c_f159 {Q : gH → Prop} {K : Nat → Int32 → Int32 → Int32 → gH → Prop} (ok : z_ok C) (hE : lE C ow σ x0 kk kc ru) (hC : lC ow σ kk X2 X3) (hpq : p ≤ q) (hq : q < nK C) (hD : ∀ p' q', fa C p q p' q' → fG C X2 X3 p' q') (hP : fP C X2 X3 p q)
    (w0 : ∀ σ' X2' X3', hmv TFi ow σ ow σ' → lC ow σ' kk X2' X3' → fO p q X2 X3 X2' X3' → fG C X2' X3' p q → K (kc 0) (nI p) (nI q) 0 σ')
    (w1 : ∀ σ' X2' X3', hmv TFi ow σ ow σ' → lC ow σ' kk X2' X3' → fO p q X2 X3 X2' X3' → fP C X2' X3' p q → z_su (fun x => vL (X2' x p q)) (C.1 5) < z_su (fun x => vL (X2 x p q)) (C.1 5) → K (kc 0) (nI p) (nI q) 1 σ') : ∃ fu, wX7_fill_159 Q K fu (kc 0) (nI p) (nI q) 0 0 σ := by
  have o := ok.1
  have nk := nK_le ok
  refine pk_loop (σ := Int32 × gH) (fun n r s => wX7_fill_159 Q K n (kc 0) (nI p) (nI q) s.1 (nI r) s.2) (fun r s => ∃ X2' X3', hmv TFi ow σ ow s.2 ∧ lC ow s.2 kk X2' X3' ∧ fO p q X2 X3 X2' X3' ∧ fP C X2' X3' p q ∧ (∀ x, x < C.1 5 → vL (X2' x p q) ≤ vL (X2 x p q)) ∧ ((s.1 = 0 ∧ ∀ r', r' < r → vL (X2' (C.2 8 r') p q) ≤ z_rs (cc C X2') (z_yl C r') p q + 1 ∧ fX3 C X2' X3' r' p q) ∨ (s.1 = 1 ∧ ∃ x, x < C.1 5 ∧ vL (X2' x p q) < vL (X2 x p q)))) (C.1 7) 0 (0, σ) (by omega) ⟨X2, X3, hmv.rf, hC, fO.rf, hP, fun _ _ => Nat.le_refl _, Or.inl ⟨rfl, fun r hr => by omega⟩⟩ ?_ ?_
  · rintro n ⟨fl, σ1⟩ ⟨Y2, Y3, m1, c1, o1, p1, l1, d1⟩
    simp only at m1 c1 d1
    have hE1 := hE.mv ok m1
    obtain ⟨hM, ⟨⟨N, hN, hRl⟩, hRu⟩, X1, h1, h1d⟩ := hE1
    obtain ⟨fs, hf, hof⟩ := hM.1.2.1
    simp only [wX7_fill_159]
    refine i_R hM.2.1.1 (by decide) rfl ⟨_, rfl, i_R hf.1 (by decide) hof.2.1.2.2.1 ⟨_, rfl, ln_size hRl (br_p (nI_le (by omega) (by omega)) ?_)⟩⟩
    rcases d1 with ⟨e, d1⟩ | ⟨e, d1⟩
    · obtain rfl : fl = 0 := e
      refine w0 σ1 Y2 Y3 m1 c1 o1 ⟨p1.1, fun r hr => (d1 r hr).1, fun x hx hl => ?_, fun r hr => (d1 r hr).2⟩
      obtain ⟨r, a, b, c⟩ := p1.2.2 x hx hl
      refine ⟨r, a, b, ?_⟩
      have := (d1 r a).1
      rw [b] at this
      omega
    · obtain rfl : fl = 1 := e
      exact w1 σ1 Y2 Y3 m1 c1 o1 p1 (z_su_lt _ l1 d1)
  · rintro n r ⟨fl, σ1⟩ hr ⟨Y2, Y3, m1, c1, o1, p1, l1, d1⟩ hs
    simp only at m1 c1 d1
    have hE1 := hE.mv ok m1
    obtain ⟨hM, ⟨⟨N, hN, hRl⟩, hRu⟩, X1, h1, h1d⟩ := id hE1
    obtain ⟨fs, hf, hof⟩ := hM.1.2.1
    have D1 : ∀ p' q', fa C p q p' q' → fG C Y2 Y3 p' q' := fun p' q' z => (hD p' q' z).O o1 (by unfold fa at z; omega) z.1
    have hx := (ok.2.2.2.2.1 r hr).1
    simp only [wX7_fill_159]
    refine i_R hM.2.1.1 (by decide) rfl ⟨_, rfl, i_R hf.1 (by decide) hof.2.1.2.2.1 ⟨_, rfl, ln_size hRl (br_n (nI_nle2 (by omega) (by omega)) (i_R hM.2.1.1 (by decide) rfl ⟨_, rfl, i_R hf.1 (by decide) hof.2.1.2.2.1 ⟨_, rfl, ln_get hRl rfl hr (by omega) ⟨fun a ha => ?_, _, hM.2.1.1, ?_⟩⟩⟩))⟩⟩
    · cases ha
      obtain ⟨so, wh, f0, g0, rc, -⟩ := hRu r hr
      exact ⟨4, _, by decide, rc.1⟩
    refine c_lessens ok hE1 c1 hr hpq hq (fun x m h2 h3 h4 => ?_) (fun j m h2 h3 h4 => (D1 m q ⟨by omega, hq, Or.inl h3⟩).2.2.2 r hr j h2) (fun j h2 => p1.2.1 r hr j h2) (fun σ2 Z3 m2 c2 a1 a2 a3 => ?_) (fun σ2 Z3 m2 a0 c2 a1 a2 => ?_)
    · by_cases e : m = q
      · subst e; exact p1.1 x h2
      · exact (D1 p m ⟨h3, by omega, Or.inr ⟨rfl, by omega⟩⟩).1 x h2
    · rw [nI_1]
      have o2 : fO p q Y2 Y3 Y2 Z3 := fun k p' q' hn => ⟨rfl, a1 k p' q' (fun z => hn z.2)⟩
      have P2 : fP C Y2 Z3 p q := by
        refine ⟨p1.1, fun r' hr' j hj => ?_, p1.2.2⟩
        by_cases e : r' = r
        · subst e
          refine ⟨_, a2 j hj, Nat.le_refl _, z_rs_le _ _ _ _, fun z => ?_⟩
          rw [z_yl_end (by omega)]
        · have or := (ok.2.2.2.2.1 r' hr').2.1
          rw [a1 (4 * r' + j) p q (by omega)]
          exact p1.2.1 r' hr' j hj
      rcases d1 with ⟨e, d1⟩ | ⟨e, d1⟩
      · obtain rfl : fl = 0 := e
        refine al_eq (al_eq (hs (0, σ2) ⟨Y2, Z3, m1.tr m2, c2, o1.tr o2, P2, l1, Or.inl ⟨rfl, fun r' hr' => ?_⟩⟩))
        by_cases e : r' = r
        · subst e; exact ⟨a3, a2⟩
        · refine ⟨(d1 r' (by omega)).1, fun j hj => ?_⟩
          have or := (ok.2.2.2.2.1 r' (by omega)).2.1
          rw [a1 (4 * r' + j) p q (by omega)]
          exact (d1 r' (by omega)).2 j hj
      · obtain rfl : fl = 1 := e
        exact al_eq (al_eq (hs (1, σ2) ⟨Y2, Z3, m1.tr m2, c2, o1.tr o2, P2, l1, Or.inr ⟨rfl, d1⟩⟩))
    · rw [nI_1]
      have gb := (p1.1 _ hx).2
      obtain ⟨z1, z2, z3⟩ := cc_put (C := C) (X2 := Y2) (p := p) (q := q) a0 (by omega)
      obtain ⟨W2, hW⟩ : ∃ W2, W2 = cuX Y2 (C.2 8 r) p q (lN (z_rs (cc C Y2) (z_yl C r) p q + 1)) := ⟨_, rfl⟩
      rw [← hW] at z1 z2 z3 c2
      have o2 : fO p q Y2 Y3 W2 Z3 := fun k p' q' hn => ⟨by rw [hW, cuX_n _ _ (fun z => hn z.2)], a1 k p' q' (fun z => hn z.2)⟩
      have P2 : fP C W2 Z3 p q := by
        refine ⟨fun x h2 => ?_, fun r' hr' j hj => ?_, fun x h2 h3 => ?_⟩
        · rw [hW]
          by_cases e : x = C.2 8 r
          · subst e
            rw [cuX_s]; exact gd_lN (by omega)
          · rw [cuX_n _ _ (fun z => e z.1)]; exact p1.1 x h2
        · by_cases e : r' = r
          · subst e
            refine ⟨_, a2 j hj, z3 _, z_rs_le _ _ _ _, fun z => ?_⟩
            rw [z_yl_end (by omega)]
            exact nil_rs _ _
          · have or := (ok.2.2.2.2.1 r' hr').2.1
            rw [a1 (4 * r' + j) p q (by omega)]
            obtain ⟨u, u1, u2, u3, u4⟩ := p1.2.1 r' hr' j hj
            exact ⟨u, u1, Nat.le_trans (z3 _) u2, u3, fun z => (u4 z).trans (nil_rs _ _)⟩
        · by_cases e : x = C.2 8 r
          · subst e
            exact ⟨r, hr, rfl, by rw [z2]; have := z3 (z_yl C r); omega⟩
          · have ex : W2 x p q = Y2 x p q := by rw [hW, cuX_n _ _ (fun z => e z.1)]
            rw [ex] at h3 ⊢
            obtain ⟨r', b1, b2, b3⟩ := p1.2.2 x h2 h3
            exact ⟨r', b1, b2, by have := z3 (z_yl C r'); omega⟩
      have L2 : ∀ x, x < C.1 5 → vL (W2 x p q) ≤ vL (X2 x p q) := fun x h2 => Nat.le_trans (z1 x) (l1 x h2)
      have St : ∃ x, x < C.1 5 ∧ vL (W2 x p q) < vL (X2 x p q) := ⟨C.2 8 r, hx, by rw [z2]; have := l1 _ hx; omega⟩
      have fo : ∀ fl' : Int32, fl' = fl ||| 1 → fl' = 1 := by
        intro fl' e
        rcases d1 with ⟨e1, -⟩ | ⟨e1, -⟩
        · rw [e, e1]; rfl
        · rw [e, e1]; rfl
      intro fl' efl
      obtain rfl := fo fl' efl
      exact al_eq (hs (1, σ2) ⟨W2, Z3, m1.tr m2, c2, o1.tr o2, P2, L2, Or.inr ⟨rfl, St⟩⟩)
theorem c_f150 {Q : gH → Prop} {K : Nat → Int32 → Int32 → gH → Prop} (ok : z_ok C) (hE : lE C ow σ x0 kk kc ru) (hC : lC ow σ kk X2 X3) (hpq : p ≤ q) (hq : q < nK C) (hD : ∀ p' q', fa C p q p' q' → fG C X2 X3 p' q') (hP : fP C X2 X3 p q)
    (w : ∀ σ' X2' X3', hmv TFi ow σ ow σ' → lC ow σ' kk X2' X3' → fO p q X2 X3 X2' X3' → fG C X2' X3' p q → K (kc 0) (nI p) (nI q) σ') : ∃ fu, wX7_fill_150 Q K fu (kc 0) (nI p) (nI q) 1 σ := by
  have key : ∀ n σ1 Y2 Y3, hmv TFi ow σ ow σ1 → lC ow σ1 kk Y2 Y3 → fO p q X2 X3 Y2 Y3 → fP C Y2 Y3 p q → z_su (fun x => vL (Y2 x p q)) (C.1 5) + 1 < n → wX7_fill_150 Q K n (kc 0) (nI p) (nI q) 1 σ1 := by
    intro n
    induction n with
    | zero => intro σ1 Y2 Y3 _ _ _ _ hm; omega
    | succ n ih =>
      intro σ1 Y2 Y3 m1 c1 o1 p1 hm
      simp only [wX7_fill_150]
      refine br_n (by decide) (c_f159 ok (hE.mv ok m1) c1 hpq hq (fun p' q' z => (hD p' q' z).O o1 (by unfold fa at z; omega) z.1) p1 (fun σ2 Z2 Z3 m2 c2 o2 g2 => ?_) (fun σ2 Z2 Z3 m2 c2 o2 p2 l2 => ih σ2 Z2 Z3 (m1.tr m2) c2 (o1.tr o2) p2 (by omega)))
      cases n with
      | zero => omega
      | succ n =>
        simp only [wX7_fill_150]
        exact br_p (by trivial) (w σ2 Z2 Z3 (m1.tr m2) c2 (o1.tr o2) g2)
  exact ⟨_, key (z_su (fun x => vL (X2 x p q)) (C.1 5) + 2) σ X2 X3 hmv.rf hC fO.rf hP (by omega)⟩
end FILL
