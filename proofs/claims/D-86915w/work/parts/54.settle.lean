/-! PLAIN LAW, the twin: settle, layCosts, layAll -/
set_option maxRecDepth 100000
def z_su (f : Nat → Nat) : Nat → Nat
  | 0 => 0
  | n + 1 => z_su f n + f n
theorem z_su_le {f g : Nat → Nat} : ∀ n : Nat, (∀ x, x < n → f x ≤ g x) → z_su f n ≤ z_su g n := by
  intro n
  induction n with
  | zero => intro _; exact Nat.le_refl _
  | succ n ih =>
    intro h
    have := ih (fun x hx => h x (by omega))
    have := h n (by omega)
    unfold z_su; omega
theorem z_su_lt {f g : Nat → Nat} : ∀ n : Nat, (∀ x, x < n → f x ≤ g x) → (∃ x, x < n ∧ f x < g x) → z_su f n < z_su g n := by
  intro n
  induction n with
  | zero => intro _ ⟨x, hx, _⟩; omega
  | succ n ih =>
    intro h ⟨x, hx, hl⟩
    unfold z_su
    by_cases e : x = n
    · subst e
      have := z_su_le x (fun y hy => h y (by omega))
      omega
    · have := ih (fun y hy => h y (by omega)) ⟨x, by omega, hl⟩
      have := h n (by omega)
      omega
/-- only the stretch (p, q) is touched -/
def tO (p q : Nat) (s s' : TS) : Prop := tfr [44, 45] s s' ∧ ∀ a p' q', ¬ (p' = p ∧ q' = q) → p' < 52 → q' < 52 → s'.2.2 44 (2704 * a + 52 * p' + q') = s.2.2 44 (2704 * a + 52 * p' + q') ∧ s'.2.2 45 (2704 * a + 52 * p' + q') = s.2.2 45 (2704 * a + 52 * p' + q')
theorem tO.rf {p q : Nat} {s : TS} : tO p q s s := ⟨tfr.rf, fun _ _ _ _ _ _ => ⟨rfl, rfl⟩⟩
theorem tO.tr {p q : Nat} {s s1 s2 : TS} (h : tO p q s s1) (g : tO p q s1 s2) : tO p q s s2 := ⟨h.1.tr g.1, fun a p' q' h1 h2 h3 => ⟨(g.2 a p' q' h1 h2 h3).1.trans (h.2 a p' q' h1 h2 h3).1, (g.2 a p' q' h1 h2 h3).2.trans (h.2 a p' q' h1 h2 h3).2⟩⟩
theorem tO.ett {p q : Nat} {s s' : TS} (h : tO p q s s') {x p' q' : Nat} (hn : ¬ (p' = p ∧ q' = q)) (h1 : p' < 52) (h2 : q' < 52) : tt s' x p' q' = tt s x p' q' := by
  unfold tt
  rw [(h.2 x p' q' hn h1 h2).1]
theorem tO.etc {C : Cf} {p q : Nat} {s s' : TS} (h : tO p q s s') {y p' q' : Nat} (hn : ¬ (p' = p ∧ q' = q)) (h1 : p' < 52) (h2 : q' < 52) : tc C s' y p' q' = tc C s y p' q' := by
  unfold tc z_c
  rw [h.ett hn h1 h2]
theorem tO.rs {C : Cf} {p q : Nat} {s s' : TS} (h : tO p q s s') {ys : List Nat} {p' q' : Nat} (hn : ¬ (p' ≤ p ∧ q ≤ q')) (h2 : q' < 52) : z_rs (tc C s') ys p' q' = z_rs (tc C s) ys p' q' :=
  z_rs_congr ys p' q' (fun y m m' h1 h3 h4 => h.etc (by omega) (by omega) (by omega))
theorem tO.f1 {C : Cf} {p q : Nat} {s s' : TS} (h : tO p q s s') {r p' q' : Nat} (hn : ¬ (p' ≤ p ∧ q ≤ q')) (h1 : p' ≤ q') (h2 : q' < 52) (f : tF1 C s r p' q') : tF1 C s' r p' q' := by
  intro e
  rw [(h.2 r p' q' (by omega) (by omega) h2).2, h.rs hn h2]
  exact f e
def tDone (C : Cf) (s : TS) (p q : Nat) : Prop := (∀ r, r < C.1 7 → tt s (C.2 8 r) p q ≤ z_rs (tc C s) (z_yl C r) p q + 1) ∧ (∀ x, x < C.1 5 → tt s x p q < 1152921504606846976 → ∃ r, r < C.1 7 ∧ C.2 8 r = x ∧ tt s x p q = z_rs (tc C s) (z_yl C r) p q + 1) ∧ ∀ r, r < C.1 7 → tF1 C s r p q
theorem tDone.O {C : Cf} {p q : Nat} {s s' : TS} (h : tO p q s s') {p' q' : Nat} (hn : ¬ (p' ≤ p ∧ q ≤ q')) (h1 : p' ≤ q') (h2 : q' < 52) (f : tDone C s p' q') : tDone C s' p' q' := by
  have ht : ∀ x, tt s' x p' q' = tt s x p' q' := fun x => h.ett (by omega) (by omega) h2
  have hr : ∀ ys, z_rs (tc C s') ys p' q' = z_rs (tc C s) ys p' q' := fun ys => h.rs hn h2
  refine ⟨fun r hr' => ?_, fun x hx hl => ?_, fun r hr' => h.f1 hn h1 h2 (f.2.2 r hr')⟩
  · rw [ht, hr]; exact f.1 r hr'
  · rw [ht] at hl ⊢
    obtain ⟨r, a, b, c⟩ := f.2.1 x hx hl
    exact ⟨r, a, b, by rw [hr]; exact c⟩
def tA1 (C : Cf) (s : TS) (p q : Nat) : Prop := ∀ x, x < C.1 5 → tt s x p q < 1152921504606846976 → ∃ r, r < C.1 7 ∧ C.2 8 r = x ∧ z_rs (tc C s) (z_yl C r) p q + 1 ≤ tt s x p q
section SETTLE
variable {C : Cf} {Q : TS → Prop}
/-- one round over the rules -/
theorem tw_set11 {K : Int32 → Int32 → Int32 → TS → Prop} {s1 : TS} (ok : z_ok C) {p q : Nat} (hpq : p ≤ q) (hq : q < nT C) (h : tH C s1) (hv : tTv C s1) (hf : ∀ r, r < C.1 7 → ∀ m, p ≤ m → m < q → tF1 C s1 r p m) (hA : tA1 C s1 p q)
    (w0 : ∀ s2, tO p q s1 s2 → tTv C s2 → tDone C s2 p q → K (nI p) (nI q) 0 s2) (w1 : ∀ s2, tO p q s1 s2 → tTv C s2 → tA1 C s2 p q → z_su (fun x => tt s2 x p q) (C.1 5) < z_su (fun x => tt s1 x p q) (C.1 5) → K (nI p) (nI q) 1 s2) : ∃ fu, wX3_settle_11 Q K fu (nI p) (nI q) 0 0 s1 := by
  have o := ok.1
  have n51 := nT_le ok
  refine pk_loop (σ := Int32 × TS) (fun n r σ => wX3_settle_11 Q K n (nI p) (nI q) σ.1 (nI r) σ.2) (fun r σ => tO p q s1 σ.2 ∧ tTv C σ.2 ∧ tA1 C σ.2 p q ∧ (∀ x, x < C.1 5 → tt σ.2 x p q ≤ tt s1 x p q) ∧ ((σ.1 = 0 ∧ ∀ r', r' < r → tt σ.2 (C.2 8 r') p q ≤ z_rs (tc C σ.2) (z_yl C r') p q + 1 ∧ tF1 C σ.2 r' p q) ∨ (σ.1 = 1 ∧ ∃ x, x < C.1 5 ∧ tt σ.2 x p q < tt s1 x p q))) (C.1 7) 0 (0, s1) (by omega) ⟨tO.rf, hv, hA, fun _ _ => Nat.le_refl _, Or.inl ⟨rfl, fun r hr => by omega⟩⟩ ?_ ?_
  · rintro n ⟨fl, s2⟩ ⟨m1, m2, m3, m4, m5⟩
    simp only [wX3_settle_11]
    have h2 := h.mv m1.1 (by decide)
    rw [h2.1.i 7]
    refine br_p (nI_le (Nat.le_refl _) (by omega)) ?_
    rcases m5 with ⟨e, m5⟩ | ⟨e, m5⟩
    · obtain rfl : fl = 0 := e
      refine w0 s2 m1 m2 ⟨fun r hr => (m5 r hr).1, fun x hx hl => ?_, fun r hr => (m5 r hr).2⟩
      obtain ⟨r, a, b, c⟩ := m3 x hx hl
      refine ⟨r, a, b, ?_⟩
      have := (m5 r a).1
      rw [b] at this
      simp only at *
      omega
    · obtain rfl : fl = 1 := e
      exact w1 s2 m1 m2 m3 (z_su_lt _ m4 m5)
  · rintro n r ⟨fl, s2⟩ hr ⟨m1, m2, m3, m4, m5⟩ hs
    simp only at m1 m2 m3 m4 m5
    simp only [wX3_settle_11]
    have h2 := h.mv m1.1 (by decide)
    rw [h2.1.i 7]
    refine br_n (nI_ge hr (by omega)) (tw_ruleCost ok h2 m2 hr hpq hq (fun m a b => m1.f1 (by omega) a (by omega) (hf r hr m a b)) (fun s3 l1 l2 l3 => ?_))
    have rb := z_rs_le (tc C s2) (z_yl C r) p q
    rw [show (1 : Int64) = lN 1 from rfl]
    refine tw_sum rb (by decide) ?_
    have t3 : tt s3 = tt s2 := by funext x p q; unfold tt; rw [l1.l 44]
    have c3 : tc C s3 = tc C s2 := by unfold tc; rw [t3]
    have h3 := h2.mv l1 (by decide)
    have v3 : tTv C s3 := fun x p q a b c => by rw [t3, l1.l 44]; exact m2 x p q a b c
    have o23 : tO p q s2 s3 := ⟨l1.sub (by decide), fun a p' q' hn h1 h4 => ⟨by rw [l1.l 44], l2 _ (by omega)⟩⟩
    have hx := (ok.2.2.2.2.1 r hr).1
    have hp : p < nT C := by omega
    simp only [k2704, k52, pk_mul, nI_add]
    rw [nI_clamp (by omega), h3.1.rn hr]
    simp only [pk_mul, nI_add]
    refine ⟨vp_nI (by omega) (by decide), al_eq ⟨vp_nI (by omega) (by decide), ?_⟩⟩
    rw [nI_clamp (by omega), (v3 _ p q hx hp hq).1, t3]
    have tb := (m2 _ p q hx hp hq).2
    have sb : z_sum (z_rs (tc C s2) (z_yl C r) p q) 1 = if z_rs (tc C s2) (z_yl C r) p q < 1152921504606846976 then z_rs (tc C s2) (z_yl C r) p q + 1 else 1152921504606846976 := by
      unfold z_sum
      by_cases e : z_rs (tc C s2) (z_yl C r) p q < 1152921504606846976
      · rw [if_pos e, if_neg (by omega)]
      · rw [if_neg e, if_pos (by omega)]
    rw [sb]
    have A3 : tA1 C s3 p q := by
      unfold tA1
      rw [t3, c3]; exact m3
    by_cases eV : z_rs (tc C s2) (z_yl C r) p q < 1152921504606846976
    · rw [if_pos eV, pk_lLE (by omega) (by omega)]
      refine ⟨fun e => ?_, fun e => ⟨vp_nI (by omega) (by decide), al_eq ?_⟩⟩
      · unfold wX3_settle_78
        rw [nI_1]
        refine al_eq (hs (fl, s3) ⟨m1.tr o23, v3, A3, fun x hx' => by rw [t3]; exact m4 x hx', ?_⟩)
        rcases m5 with ⟨e5, m5⟩ | ⟨e5, m5⟩
        · refine Or.inl ⟨e5, fun r' hr' => ?_⟩
          simp only
          rw [t3, c3]
          by_cases e9 : r' = r
          · subst e9; exact ⟨e, l3⟩
          · have := m5 r' (by omega)
            refine ⟨this.1, fun e8 => ?_⟩
            rw [l2 _ (by omega), c3]
            exact this.2 e8
        · exact Or.inr ⟨e5, by simp only; rw [t3]; exact m5⟩
      · unfold wX3_settle_78
        rw [nI_1]
        obtain ⟨s4, hs4⟩ : ∃ s4, s4 = tL s3 44 (2704 * C.2 8 r + 52 * p + q) (lN (z_rs (tc C s2) (z_yl C r) p q + 1)) := ⟨_, rfl⟩
        rw [← hs4]
        have o34 : tO p q s3 s4 := by
          refine ⟨by rw [hs4]; exact tfr.rf.L (by decide) _ _, fun a p' q' hn h1 h4 => ?_⟩
          rw [hs4]
          exact ⟨by rw [tL_a, va_up_ne _ _ (by omega)], by rw [tL_ne _ _ _ (by decide)]⟩
        have tnew : tt s4 (C.2 8 r) p q = z_rs (tc C s2) (z_yl C r) p q + 1 := tt_of (by rw [hs4, tL_a, va_up_self]) (by omega)
        have told : ∀ x p' q', ¬ (x = C.2 8 r ∧ p' = p ∧ q' = q) → p' < 52 → q' < 52 → s4.2.2 44 (2704 * x + 52 * p' + q') = s3.2.2 44 (2704 * x + 52 * p' + q') := by
          intro x p' q' hn h1 h4
          rw [hs4, tL_a, va_up_ne _ _ (by omega)]
        have told' : ∀ x p' q', ¬ (x = C.2 8 r ∧ p' = p ∧ q' = q) → p' < 52 → q' < 52 → tt s4 x p' q' = tt s2 x p' q' := by
          intro x p' q' hn h1 h4
          have : tt s4 x p' q' = tt s3 x p' q' := by unfold tt; rw [told x p' q' hn h1 h4]
          rw [this, t3]
        have tle : ∀ x p' q', p' < 52 → q' < 52 → tt s4 x p' q' ≤ tt s2 x p' q' := by
          intro x p' q' h1 h4
          by_cases e8 : x = C.2 8 r ∧ p' = p ∧ q' = q
          · obtain ⟨rfl, rfl, rfl⟩ := e8
            rw [tnew]; omega
          · rw [told' x p' q' e8 h1 h4]; exact Nat.le_refl _
        have rle : ∀ ys, z_rs (tc C s4) ys p q ≤ z_rs (tc C s2) ys p q := fun ys => z_rs_mono ys p q (fun y m m' a b c => by
          unfold tc z_c
          by_cases e8 : y < 100
          · rw [if_pos e8, if_pos e8]; exact Nat.le_refl _
          · rw [if_neg e8, if_neg e8]; exact tle _ _ _ (by omega) (by omega))
        refine al_eq (hs (1, s4) ⟨(m1.tr o23).tr o34, fun x p' q' a b c => ?_, fun x hx' hl => ?_, fun x hx' => Nat.le_trans (tle x p q (by omega) (by omega)) (m4 x hx'), Or.inr ⟨rfl, C.2 8 r, hx, ?_⟩⟩)
        · by_cases e8 : x = C.2 8 r ∧ p' = p ∧ q' = q
          · obtain ⟨rfl, rfl, rfl⟩ := e8
            show s4.2.2 44 _ = _ ∧ tt s4 _ _ _ ≤ _
            rw [tnew]
            exact ⟨by rw [hs4, tL_a, va_up_self], by omega⟩
          · show s4.2.2 44 _ = lN (tt s4 x p' q') ∧ tt s4 x p' q' ≤ _
            rw [told x p' q' e8 (by omega) (by omega), told' x p' q' e8 (by omega) (by omega), ← t3]
            exact v3 x p' q' a b c
        · simp only at hl ⊢
          by_cases e8 : x = C.2 8 r
          · subst e8
            exact ⟨r, hr, rfl, by have := rle (z_yl C r); omega⟩
          · rw [told' x p q (fun z => e8 z.1) (by omega) (by omega)] at hl ⊢
            obtain ⟨r', a, b, c⟩ := m3 x hx' hl
            exact ⟨r', a, b, by have := rle (z_yl C r'); omega⟩
        · simp only
          have := m4 _ hx
          omega
    · rw [if_neg eV]
      refine br_p ((pk_lLE (by omega) (by decide)).mpr tb) ?_
      unfold wX3_settle_78
      rw [nI_1]
      refine al_eq (hs (fl, s3) ⟨m1.tr o23, v3, A3, fun x hx' => by rw [t3]; exact m4 x hx', ?_⟩)
      rcases m5 with ⟨e5, m5⟩ | ⟨e5, m5⟩
      · refine Or.inl ⟨e5, fun r' hr' => ?_⟩
        simp only
        rw [t3, c3]
        by_cases e9 : r' = r
        · subst e9; exact ⟨by omega, l3⟩
        · have := m5 r' (by omega)
          refine ⟨this.1, fun e8 => ?_⟩
          rw [l2 _ (by omega), c3]
          exact this.2 e8
      · exact Or.inr ⟨e5, by simp only; rw [t3]; exact m5⟩
theorem tw_settle {s : TS} (ok : z_ok C) {p q : Nat} (hpq : p ≤ q) (hq : q < nT C) (h : tH C s) (hv : tTv C s) (hf : ∀ r, r < C.1 7 → ∀ m, p ≤ m → m < q → tF1 C s r p m) (h0 : ∀ x, x < C.1 5 → tt s x p q = 1152921504606846976)
    (w : ∀ s', tO p q s s' → tTv C s' → tDone C s' p q → Q s') : wX3_settle Q (nI p) (nI q) s := by
  have n51 := nT_le ok
  unfold wX3_settle
  have key : ∀ n s1, tO p q s s1 → tTv C s1 → tA1 C s1 p q → z_su (fun x => tt s1 x p q) (C.1 5) + 1 < n → wX3_settle_2 Q (fun s_1 => Q s_1) n (nI p) (nI q) 1 s1 := by
    intro n
    induction n with
    | zero => intro s1 _ _ _ hm; omega
    | succ n ih =>
      intro s1 m1 m2 m3 hm
      simp only [wX3_settle_2]
      refine br_n (by decide) (tw_set11 ok hpq hq (h.mv m1.1 (by decide)) m2 (fun r hr m a b => m1.f1 (by omega) a (by omega) (hf r hr m a b)) m3 (fun s2 l1 l2 l3 => ?_) (fun s2 l1 l2 l3 l4 => ih s2 (m1.tr l1) l2 l3 (by omega)))
      cases n with
      | zero => omega
      | succ n =>
        simp only [wX3_settle_2]
        exact br_p (by trivial) (w s2 (m1.tr l1) l2 l3)
  exact ⟨_, key (z_su (fun x => tt s x p q) (C.1 5) + 2) s tO.rf hv (fun x hx hl => by rw [h0 x hx] at hl; omega) (by omega)⟩
/-- the twin's table, full -/
def tFull (C : Cf) (s : TS) : Prop := tTv C s ∧ ∀ p q, p ≤ q → q < nT C → tDone C s p q
theorem tFull.tb {s : TS} (h : tFull C s) (ok : z_ok C) : z_tb C 4294967296 (kT C) (nT C) (tt s) := by
  refine ⟨fun x p q hx h1 h2 => (h.1 x p q hx (by omega) h2).2, fun r p q hr h1 h2 => (h.2 p q h1 h2).1 r hr, fun x p q hx h1 h2 h3 => (h.2 p q h1 h2).2.1 x hx h3⟩
theorem tw_layCosts {s : TS} (ok : z_ok C) (h : tH C s) (w : ∀ s', tfr [44, 45] s s' → tFull C s' → Q s') : wX3_layCosts Q s := by
  have o := ok.1
  have n51 := nT_le ok
  unfold wX3_layCosts
  refine pk_loop (σ := TS) (fun n x s' => wX3_layCosts_2 Q _ n (nI x) s') (fun x s' => tfr [44, 45] s s' ∧ ∀ j, j < x → s'.2.2 44 j = lN 1152921504606846976) (2704 * C.1 5) 0 s (by omega) ⟨tfr.rf, fun j hj => by omega⟩ ?_ ?_
  · rintro n s1 ⟨m1, d1⟩
    simp only [wX3_layCosts_2]
    have h1 := h.mv m1 (by decide)
    rw [h1.1.i 5, k2704, pk_mul]
    refine br_p (nI_le (Nat.le_refl _) (by omega)) ?_
    have z1 : ∀ x p q, x < C.1 5 → p < nT C → q < nT C → s1.2.2 44 (2704 * x + 52 * p + q) = lN 1152921504606846976 := fun x p q a b c => d1 _ (by omega)
    refine pk_loop (σ := TS) (fun n d s' => wX3_layCosts_31 Q _ n (nI d) s') (fun d s' => tfr [44, 45] s s' ∧ tTv C s' ∧ (∀ p q, p ≤ q → q < nT C → q - p < d → tDone C s' p q) ∧ ∀ x p q, x < C.1 5 → p ≤ q → q < nT C → d ≤ q - p → tt s' x p q = 1152921504606846976) (nT C) 0 s1 (by omega) ⟨m1, fun x p q a b c => ?_, fun p q _ _ z => by omega, fun x p q a b c _ => tt_of (z1 x p q a (by omega) c) (by decide)⟩ ?_ ?_
    · rw [tt_of (z1 x p q a b c) (by decide)]
      exact ⟨z1 x p q a b c, by omega⟩
    · rintro n s2 ⟨m2, v2, d2, -⟩
      simp only [wX3_layCosts_31]
      rw [(h.mv m2 (by decide)).2.1.n]
      exact br_p (nI_le (Nat.le_refl _) (by omega)) (w s2 m2 ⟨v2, fun p q a b => d2 p q a b (by omega)⟩)
    · rintro n d s2 hd ⟨m2, v2, d2, z2⟩ hs2
      simp only [wX3_layCosts_31]
      rw [(h.mv m2 (by decide)).2.1.n]
      refine br_n (nI_ge hd (by omega)) ?_
      refine pk_loop (σ := TS) (fun n p s' => wX3_layCosts_41 Q _ n (nI d) (nI p) s') (fun p s' => tfr [44, 45] s s' ∧ tTv C s' ∧ (∀ p' q', p' ≤ q' → q' < nT C → q' - p' < d ∨ (q' - p' = d ∧ p' < p) → tDone C s' p' q') ∧ ∀ x p' q', x < C.1 5 → p' ≤ q' → q' < nT C → d < q' - p' ∨ (q' - p' = d ∧ p ≤ p') → tt s' x p' q' = 1152921504606846976) (nT C - d) 0 s2 (by omega) ⟨m2, v2, fun p' q' a b c => d2 p' q' a b (by omega), fun x p' q' a b c e => z2 x p' q' a b c (by omega)⟩ ?_ ?_
      · rintro n s3 ⟨m3, v3, d3, z3⟩
        simp only [wX3_layCosts_41]
        rw [(h.mv m3 (by decide)).2.1.n, nI_add]
        refine br_p (nI_le (by omega) (by omega)) ?_
        rw [nI_1]
        exact al_eq (hs2 s3 ⟨m3, v3, fun p' q' a b c => d3 p' q' a b (by omega), fun x p' q' a b c e => z3 x p' q' a b c (by omega)⟩)
      · rintro n p s3 hp ⟨m3, v3, d3, z3⟩ hs3
        simp only [wX3_layCosts_41]
        rw [(h.mv m3 (by decide)).2.1.n, nI_add]
        refine br_n (nI_ge (by omega) (by omega)) ?_
        refine tw_settle ok (by omega) (by omega) (h.mv m3 (by decide)) v3 (fun r hr m a b => (d3 p m a (by omega) (by omega)).2.2 r hr) (fun x hx => z3 x p (p + d) hx (by omega) (by omega) (by omega)) (fun s4 l1 l2 l3 => ?_)
        rw [nI_1]
        refine al_eq (hs3 s4 ⟨m3.tr l1.1, l2, fun p' q' a b c => ?_, fun x p' q' a b c e => ?_⟩)
        · by_cases e : p' = p ∧ q' = p + d
          · obtain ⟨rfl, rfl⟩ := e; exact l3
          · exact tDone.O l1 (by omega) a (by omega) (d3 p' q' a b (by omega))
        · rw [l1.ett (by omega) (by omega) (by omega)]
          exact z3 x p' q' a b c (by omega)
  · rintro n x s1 hx ⟨m1, d1⟩ hs1
    simp only [wX3_layCosts_2]
    rw [(h.mv m1 (by decide)).1.i 5, k2704, pk_mul, nI_1]
    refine br_n (nI_ge hx (by omega)) ⟨vp_nI (by omega) (by decide), al_eq (al_eq (hs1 _ ⟨m1.L (by decide) _ _, fun j hj => ?_⟩))⟩
    rw [tL_a, nI_clamp (by omega)]
    by_cases e : j = x
    · subst e; rw [va_up_self]; rfl
    · rw [va_up_ne _ _ e]; exact d1 j (by omega)
/-- all is laid -/
theorem tw_layAll {s : TS} (ok : z_ok C) (h : tC C (tI (tI s 33 (nI (C.1 33))) 34 (nI (C.1 34)))) (w : ∀ s', tfr [28, 29, 30, 31, 32, 33, 34, 38, 39, 40, 41, 42, 43, 44, 45] s s' → tH C s' → tFull C s' → Q s') : wX3_layAll Q (nI (C.1 33)) (nI (C.1 34)) s := by
  unfold wX3_layAll
  refine al_eq (tw_layReads ok h (fun s1 m1 h1 h2 h3 h4 => tw_layCosts ok ⟨h1, h2, h3, h4⟩ (fun s2 m2 h5 => w s2 ?_ (tH.mv ⟨h1, h2, h3, h4⟩ m2 (by decide)) h5)))
  exact ((tfr.rf.I (by decide) _).tr (m1.sub (by decide))).tr (m2.sub (by decide))
end SETTLE
