/-! PLAIN LAW, the twin: its table of costs -/
set_option maxRecDepth 100000
theorem lF : (1152921504606846976 : Int64) = lN 1152921504606846976 := rfl
theorem lW : (4294967296 : Int64) = lN 4294967296 := rfl
theorem l1 : (1 : Int64) = lN 1 := rfl
theorem l0 : (0 : Int64) = lN 0 := rfl
theorem nI_subk (a b : Nat) : nI (a + b) - nI b = nI a := by rw [← nI_add]; simp
/-- a cost as a natural -/
def tt (s : TS) (x p q : Nat) : Nat := (s.2.2 44 (2704 * x + 52 * p + q)).toInt.toNat
def tTv (C : Cf) (s : TS) : Prop := ∀ x p q, x < C.1 5 → p < nT C → q < nT C → s.2.2 44 (2704 * x + 52 * p + q) = lN (tt s x p q) ∧ tt s x p q ≤ 1152921504606846976
theorem tt_of {s : TS} {x p q v : Nat} (h : s.2.2 44 (2704 * x + 52 * p + q) = lN v) (hv : v < 9223372036854775808) : tt s x p q = v := by
  unfold tt
  rw [h, pk_lT (by omega)]
  simp
/-- what a symbol costs in the twin -/
noncomputable def tc (C : Cf) (s : TS) : Nat → Nat → Nat → Nat := z_c C 4294967296 (kT C) (tt s)
theorem tc_le {C : Cf} {s : TS} (ok : z_ok C) (hv : tTv C s) {y p q : Nat} (hy : y < 100 ∨ (100 ≤ y ∧ y < 100 + C.1 5)) (hp : p < nT C) (hq : q < nT C) : tc C s y p q ≤ 1152921504606846976 := by
  unfold tc z_c
  by_cases e : y < 100
  · rw [if_pos e]
    by_cases e2 : z_R C y (kT C p) (kT C q) = 1000000000
    · rw [if_pos e2]; omega
    · rw [if_neg e2]
      have := z_R_bd ok (t := y) (p := kT C p) (q := kT C q)
      omega
  · rw [if_neg e]
    exact (hv (y - 100) p q (by omega) hp hq).2
def tH (C : Cf) (s : TS) : Prop := tC C s ∧ tKn C s ∧ tSkA C s ∧ tRd C s
theorem tH.mv {C : Cf} {s s' : TS} {L : List Nat} (h : tH C s) (m : tfr L s s') (hL : ∀ k ∈ [0, 3, 4, 5, 6, 7, 13, 18, 19, 33, 34, 36, 37, 35, 1, 2, 8, 9, 10, 11, 12, 15, 28, 29, 30, 31, 32, 38, 39, 40, 41, 42, 43], k ∉ L) : tH C s' := by
  refine ⟨h.1.mv m (fun k hk => hL k ?_), h.2.1.mv m (fun k hk => hL k ?_), h.2.2.1.mv m (hL _ (by decide)) (hL _ (by decide)), ?_⟩
  · simp only [List.mem_cons, List.not_mem_nil, or_false] at hk ⊢; omega
  · simp only [List.mem_cons, List.not_mem_nil, or_false] at hk ⊢; omega
  · have := h.2.2.2
    unfold tRd at *
    rw [m.a 40 (hL _ (by decide)), m.a 41 (hL _ (by decide)), m.a 42 (hL _ (by decide)), m.a 43 (hL _ (by decide))]
    exact this
section COSTS
variable {C : Cf} {s : TS}
theorem tw_cost {Q : Int64 → TS → Prop} (ok : z_ok C) (h : tH C s) (hv : tTv C s) {y p q : Nat} (hy : y < C.1 0 ∨ (100 ≤ y ∧ y < 100 + C.1 5)) (hp : p < nT C) (hq : q < nT C) (w : Q (lN (tc C s y p q)) s) : wX3_cost Q (nI y) (nI p) (nI q) s := by
  have o := ok.1
  have n51 := nT_le ok
  unfold tc z_c at w
  unfold wX3_cost
  simp only [k100, k2704, k52]
  refine pk_lt y 100 (fun e => ?_) (fun e => ?_) rfl rfl (by omega) (by decide)
  · rw [if_pos e] at w
    simp only [pk_mul, nI_add]
    refine ⟨vp_nI (by omega) (by decide), al_eq ?_⟩
    rw [nI_clamp (by omega), (h.2.2.2 y p q (by omega) hp hq).1, k1e9]
    have rb := z_R_bd ok (t := y) (p := kT C p) (q := kT C q)
    refine pk_eq (z_R C y (kT C p) (kT C q)) 1000000000 (fun e2 => ?_) (fun e2 => ?_) rfl rfl (by omega) (by decide)
    · rw [if_pos e2] at w; exact w
    · rw [if_neg e2] at w
      rw [nI_l (by omega), lW, lN_mul]
      exact w
  · rw [if_neg (by omega)] at w
    rw [show nI y - nI 100 = nI (y - 100) by rw [← nI_subk (y - 100) 100, show y - 100 + 100 = y by omega]]
    simp only [pk_mul, nI_add]
    refine ⟨vp_nI (by omega) (by decide), ?_⟩
    rw [nI_clamp (by omega), (hv (y - 100) p q (by omega) hp hq).1]
    exact w
def z_sum (a b : Nat) : Nat := if 1152921504606846976 ≤ a ∨ 1152921504606846976 ≤ b then 1152921504606846976 else a + b
theorem z_sum_min {a b c : Nat} (h : c ≤ 1152921504606846976) : min c (z_sum a b) = min c (min 1152921504606846976 (a + b)) := by
  unfold z_sum
  by_cases e : 1152921504606846976 ≤ a ∨ 1152921504606846976 ≤ b
  · rw [if_pos e]; omega
  · rw [if_neg e]; omega
theorem tw_sum {Q : Int64 → Prop} {a b : Nat} (ha : a ≤ 1152921504606846976) (hb : b ≤ 1152921504606846976) (w : Q (lN (z_sum a b))) : wX3_sum Q (lN a) (lN b) := by
  unfold z_sum at w
  unfold wX3_sum
  rw [lF]
  by_cases e : 1152921504606846976 ≤ a
  · rw [if_pos (Or.inl e)] at w
    exact br_p ((pk_lLE (by decide) (by omega)).mpr e) (by unfold wX3_sum_16; exact w)
  · refine br_n (fun z => e ((pk_lLE (by decide) (by omega)).mp z)) ?_
    by_cases e2 : 1152921504606846976 ≤ b
    · rw [if_pos (Or.inr e2)] at w
      exact br_n (fun z => by have := (pk_lLT (by omega) (by decide)).mp z; omega) (by unfold wX3_sum_16; exact w)
    · rw [if_neg (by omega)] at w
      exact br_p ((pk_lLT (by omega) (by decide)).mpr (by omega)) (by rw [lN_add]; exact w)
/-- two symbols -/
def z_tw (c : Nat → Nat → Nat → Nat) (a b p q d : Nat) : Nat := min 1152921504606846976 (c a p (p + d) + c b (p + d) q)
theorem tw_both {Q : Int64 → TS → Prop} (ok : z_ok C) (h : tH C s) (hv : tTv C s) {a b p q : Nat} (ha : a < C.1 0 ∨ (100 ≤ a ∧ a < 100 + C.1 5)) (hb : b < C.1 0 ∨ (100 ≤ b ∧ b < 100 + C.1 5)) (hpq : p ≤ q) (hq : q < nT C) (w : Q (lN (z_mn (z_tw (tc C s) a b p q) 1152921504606846976 (q + 1 - p))) s) : wX3_both Q (nI a) (nI b) (nI p) (nI q) s := by
  have o := ok.1
  have n51 := nT_le ok
  unfold wX3_both
  refine pk_loop (σ := Int64 × TS) (fun n m σ => wX3_both_8 Q _ n (nI a) (nI b) (nI p) (nI q) σ.1 (nI m) σ.2) (fun m σ => p ≤ m ∧ σ.2 = s ∧ σ.1 = lN (z_mn (z_tw (tc C s) a b p q) 1152921504606846976 (m - p))) (q + 1) p (_, s) (by omega) ⟨Nat.le_refl _, rfl, by rw [show p - p = 0 by omega]; rfl⟩ ?_ ?_
  · rintro n ⟨v, s1⟩ ⟨-, hh1, hh2⟩
    obtain rfl : s1 = s := hh1
    obtain rfl : v = lN (z_mn (z_tw (tc C s1) a b p q) 1152921504606846976 (q + 1 - p)) := hh2
    simp only [wX3_both_8]
    exact br_p (nI_lt (by omega) (by omega)) w
  · rintro n m ⟨v, s1⟩ hm ⟨hpm, hh1, hh2⟩ hs
    obtain rfl : s1 = s := hh1
    obtain rfl : v = lN (z_mn (z_tw (tc C s1) a b p q) 1152921504606846976 (m - p)) := hh2
    simp only [wX3_both_8]
    refine br_n (nI_nlt (by omega) (by omega)) (tw_cost ok h hv ha (by omega) (by omega) (tw_cost ok h hv hb (by omega) hq ?_))
    have c1 := tc_le ok hv (y := a) (p := p) (q := m) (by omega) (by omega) (by omega)
    have c2 := tc_le ok hv (y := b) (p := m) (q := q) (by omega) (by omega) hq
    refine tw_sum c1 c2 ?_
    have bm := z_mn_b (z_tw (tc C s1) a b p q) 1152921504606846976 (m - p)
    have e0 : z_mn (z_tw (tc C s1) a b p q) 1152921504606846976 (m + 1 - p) = min (z_mn (z_tw (tc C s1) a b p q) 1152921504606846976 (m - p)) (z_sum (tc C s1 a p m) (tc C s1 b m q)) := by
      have e1 : z_tw (tc C s1) a b p q (m - p) = min 1152921504606846976 (tc C s1 a p m + tc C s1 b m q) := by unfold z_tw; rw [show p + (m - p) = m by omega]
      rw [show m + 1 - p = (m - p) + 1 by omega, z_sum_min bm, ← e1]
      rfl
    have sb : z_sum (tc C s1 a p m) (tc C s1 b m q) < 4611686018427387904 := by
      unfold z_sum
      by_cases e : 1152921504606846976 ≤ tc C s1 a p m ∨ 1152921504606846976 ≤ tc C s1 b m q
      · rw [if_pos e]; omega
      · rw [if_neg e]; omega
    unfold wX3_both_52
    rw [nI_1, pk_lLE (by omega) (by omega)]
    refine ⟨fun e => al_eq (hs (_, s1) ⟨by omega, rfl, ?_⟩), fun e => al_eq (hs (_, s1) ⟨by omega, rfl, ?_⟩)⟩
    · show lN _ = lN _
      rw [e0]; congr 1; omega
    · show lN _ = lN _
      rw [e0]; congr 1; omega
theorem z_rs_1 {c : Nat → Nat → Nat → Nat} {b m q : Nat} (h : m ≤ q) (hc : c b m q ≤ 1152921504606846976) (hc2 : ∀ m', c b m m' ≤ 1152921504606846976 ∨ True) : z_rs c [b] m q = c b m q := by
  refine Nat.le_antisymm ?_ ?_
  · have := z_rs_one (c := c) (y := b) (ys := []) h (Nat.le_refl q)
    have e : z_rs c [] q q = 0 := by unfold z_rs; rw [if_pos rfl]
    omega
  · by_cases e : z_rs c [b] m q < 1152921504606846976
    · obtain ⟨m', g1, g2, g3⟩ := z_rs_at e
      have : m' = q := by
        refine Classical.byContradiction fun hne => ?_
        have : z_rs c [] m' q = 1152921504606846976 := by unfold z_rs; rw [if_neg hne]
        omega
      subst this
      omega
    · omega
theorem z_rs_2 {c : Nat → Nat → Nat → Nat} {a b p q : Nat} (hc : ∀ m, p ≤ m → m ≤ q → c b m q ≤ 1152921504606846976) : z_rs c [a, b] p q = z_mn (z_tw c a b p q) 1152921504606846976 (q + 1 - p) := by
  conv => lhs; unfold z_rs
  refine z_mn_congr (fun k hk => ?_)
  unfold z_tw
  rw [z_rs_1 (by omega) (hc _ (by omega) (by omega)) (fun _ => Or.inr trivial)]
/-- three symbols, the first two ahead -/
theorem z_rs_3 {c : Nat → Nat → Nat → Nat} {a b e p q : Nat} (hb : ∀ m m', p ≤ m → m ≤ m' → m' ≤ q → c b m m' ≤ 1152921504606846976) (he : ∀ m, p ≤ m → m ≤ q → c e m q ≤ 1152921504606846976) : z_rs c [a, b, e] p q = z_mn (fun d => min 1152921504606846976 (z_rs c [a, b] p (p + d) + c e (p + d) q)) 1152921504606846976 (q + 1 - p) := by
  have one : ∀ m, p ≤ m → m ≤ q → z_rs c [e] m q = c e m q := fun m h1 h2 => z_rs_1 h2 (he m h1 h2) (fun _ => Or.inr trivial)
  have oneb : ∀ m m', p ≤ m → m ≤ m' → m' ≤ q → z_rs c [b] m m' = c b m m' := fun m m' h1 h2 h3 => z_rs_1 h2 (hb m m' h1 h2 h3) (fun _ => Or.inr trivial)
  refine Nat.le_antisymm ?_ ?_
  · refine z_mn_ge (z_rs_le _ _ _ _) (fun k hk => ?_)
    have hle := z_rs_le c [a, b, e] p q
    by_cases z : z_rs c [a, b] p (p + k) < 1152921504606846976
    · obtain ⟨m, g1, g2, g3⟩ := z_rs_at z
      rw [oneb m (p + k) g1 g2 (by omega)] at g3
      have h1 := z_rs_one (c := c) (y := a) (ys := [b, e]) g1 (show m ≤ q by omega)
      have h2 := z_rs_one (c := c) (y := b) (ys := [e]) g2 (show p + k ≤ q by omega)
      rw [one (p + k) (by omega) (by omega)] at h2
      omega
    · omega
  · by_cases z : z_rs c [a, b, e] p q < 1152921504606846976
    · obtain ⟨m, g1, g2, g3⟩ := z_rs_at z
      obtain ⟨m', g4, g5, g6⟩ := z_rs_at (c := c) (y := b) (ys := [e]) (p := m) (q := q) (by omega)
      rw [one m' (by omega) g5] at g6
      have h1 := z_mn_le (f := fun d => min 1152921504606846976 (z_rs c [a, b] p (p + d) + c e (p + d) q)) (b := 1152921504606846976) (n := q + 1 - p) (k := m' - p) (by omega)
      simp only [show p + (m' - p) = m' by omega] at h1
      have h2 := z_rs_one (c := c) (y := a) (ys := [b]) g1 g4
      rw [oneb m m' g1 g4 g5] at h2
      omega
    · have := z_mn_b (fun d => min 1152921504606846976 (z_rs c [a, b] p (p + d) + c e (p + d) q)) 1152921504606846976 (q + 1 - p)
      omega
/-- the first two symbols of a rule of three, from p to q -/
def tF1 (C : Cf) (s : TS) (r p q : Nat) : Prop := C.2 9 r = 3 → s.2.2 45 (2704 * r + 52 * p + q) = lN (z_rs (tc C s) [C.2 10 (3 * r), C.2 10 (3 * r + 1)] p q)
theorem z_yl_0 {C : Cf} {r : Nat} (h : C.2 9 r = 0) : z_yl C r = [] := by unfold z_yl; rw [h]; rfl
theorem z_yl_1 {C : Cf} {r : Nat} (h : C.2 9 r = 1) : z_yl C r = [C.2 10 (3 * r)] := by unfold z_yl; rw [h]; rfl
theorem z_yl_2 {C : Cf} {r : Nat} (h : C.2 9 r = 2) : z_yl C r = [C.2 10 (3 * r), C.2 10 (3 * r + 1)] := by unfold z_yl; rw [h]; rfl
theorem z_yl_3 {C : Cf} {r : Nat} (h : C.2 9 r = 3) : z_yl C r = [C.2 10 (3 * r), C.2 10 (3 * r + 1), C.2 10 (3 * r + 2)] := by unfold z_yl; rw [h]; rfl
theorem tw_ruleCost {Q : Int64 → TS → Prop} (ok : z_ok C) (h : tH C s) (hv : tTv C s) {r p q : Nat} (hr : r < C.1 7) (hpq : p ≤ q) (hq : q < nT C) (hf : ∀ m, p ≤ m → m < q → tF1 C s r p m)
    (w : ∀ s', tfr [45] s s' → (∀ j, j ≠ 2704 * r + 52 * p + q → s'.2.2 45 j = s.2.2 45 j) → tF1 C s' r p q → Q (lN (z_rs (tc C s) (z_yl C r) p q)) s') : wX3_ruleCost Q (nI r) (nI p) (nI q) s := by
  have o := ok.1
  have n51 := nT_le ok
  obtain ⟨or1, or2, or3⟩ := ok.2.2.2.2.1 r hr
  have hcb : ∀ y m m', (y < C.1 0 ∨ (100 ≤ y ∧ y < 100 + C.1 5)) → m < nT C → m' < nT C → tc C s y m m' ≤ 1152921504606846976 := fun y m m' h1 h2 h3 => tc_le ok hv (by omega) h2 h3
  unfold wX3_ruleCost
  rw [nI_clamp (by omega), h.1.rm hr]
  refine ⟨vp_nI (by omega) (by decide), al_eq ?_⟩
  refine pk_eq (C.2 9 r) 0 (fun e => ?_) (fun e => ?_) rfl nI_0.symm (by omega) (by decide)
  · have hw := fun s' a b c => w s' a b c
    rw [z_yl_0 e] at hw
    have w0 := hw s tfr.rf (fun _ _ => rfl) (fun z => by omega)
    unfold z_rs at w0
    refine pk_eq p q (fun e2 => ?_) (fun e2 => ?_) rfl rfl (by omega) (by omega)
    · rw [if_pos e2] at w0; exact w0
    · rw [if_neg e2] at w0; exact w0
  refine pk_eq (C.2 9 r) 1 (fun e1 => ?_) (fun e1 => ?_) rfl rfl (by omega) (by decide)
  · simp only [k3, pk_mul]
    refine ⟨vp_nI (by omega) (by decide), ?_⟩
    have y0 := or3 0 (by omega)
    have hy0 := h.1.ys hr (j := 0) (by omega)
    rw [Nat.add_zero] at y0 hy0
    rw [nI_clamp (by omega), hy0]
    refine tw_cost ok h hv y0 (by omega) hq ?_
    have w0 := w s tfr.rf (fun _ _ => rfl) (fun z => by omega)
    rw [z_yl_1 e1, z_rs_1 hpq (hcb _ _ _ y0 (by omega) hq) (fun _ => Or.inr trivial)] at w0
    exact w0
  simp only [k3, pk_mul]
  rw [show nI (3 * r) + 1 = nI (3 * r + 1) from nI_1 _]
  have y0 := or3 0 (by omega)
  have hy0 := h.1.ys hr (j := 0) (by omega)
  rw [Nat.add_zero] at y0 hy0
  have y1 := or3 1 (by omega)
  have hy1 := h.1.ys hr (j := 1) (by omega)
  refine ⟨vp_nI (by omega) (by decide), vp_nI (by omega) (by decide), ?_⟩
  rw [nI_clamp (by omega), nI_clamp (by omega), hy0, hy1]
  have two : z_rs (tc C s) [C.2 10 (3 * r), C.2 10 (3 * r + 1)] p q = z_mn (z_tw (tc C s) (C.2 10 (3 * r)) (C.2 10 (3 * r + 1)) p q) 1152921504606846976 (q + 1 - p) := z_rs_2 (fun m h1 h2 => hcb _ _ _ y1 (by omega) hq)
  refine tw_both ok h hv y0 y1 hpq hq ?_
  rw [← two]
  refine pk_eq (C.2 9 r) 2 (fun e2 => ?_) (fun e2 => ?_) rfl rfl (by omega) (by decide)
  · have w0 := w s tfr.rf (fun _ _ => rfl) (fun z => by omega)
    rw [z_yl_2 e2] at w0
    exact w0
  have e3 : C.2 9 r = 3 := by omega
  have y2 := or3 2 (by omega)
  have hy2 := h.1.ys hr (j := 2) (by omega)
  simp only [k2704, k52, pk_mul, nI_add]
  refine ⟨vp_nI (by omega) (by decide), al_eq ?_⟩
  rw [nI_clamp (by omega)]
  have mS : tfr [45] s (tL s 45 (2704 * r + 52 * p + q) (lN (z_rs (tc C s) [C.2 10 (3 * r), C.2 10 (3 * r + 1)] p q))) := tfr.rf.L (by decide) _ _
  obtain ⟨s2, hs2⟩ : ∃ s2, s2 = tL s 45 (2704 * r + 52 * p + q) (lN (z_rs (tc C s) [C.2 10 (3 * r), C.2 10 (3 * r + 1)] p q)) := ⟨_, rfl⟩
  rw [← hs2] at mS ⊢
  have t2 : tt s2 = tt s := by funext x p q; unfold tt; rw [mS.l 44]
  have c2 : tc C s2 = tc C s := by unfold tc; rw [t2]
  have h2 := h.mv mS (by decide)
  have hv2 : tTv C s2 := fun x p q a b c => by rw [t2, mS.l 44]; exact hv x p q a b c
  have f2 : ∀ m, p ≤ m → m ≤ q → s2.2.2 45 (2704 * r + 52 * p + m) = lN (z_rs (tc C s) [C.2 10 (3 * r), C.2 10 (3 * r + 1)] p m) := by
    intro m h1 h2
    rw [hs2, tL_a]
    by_cases e : m = q
    · subst e; rw [va_up_self]
    · rw [va_up_ne _ _ (by omega)]
      exact hf m h1 (by omega) e3
  have three : z_rs (tc C s) (z_yl C r) p q = z_mn (fun d => min 1152921504606846976 (z_rs (tc C s) [C.2 10 (3 * r), C.2 10 (3 * r + 1)] p (p + d) + tc C s (C.2 10 (3 * r + 2)) (p + d) q)) 1152921504606846976 (q + 1 - p) := by
    rw [z_yl_3 e3]
    exact z_rs_3 (fun m m' h1 h2 h3 => hcb _ _ _ y1 (by omega) (by omega)) (fun m h1 h2 => hcb _ _ _ y2 (by omega) hq)
  refine pk_loop (σ := Int64 × TS) (fun n m σ => wX3_ruleCost_109 Q _ n (nI r) (nI p) (nI q) σ.1 (nI m) σ.2) (fun m σ => p ≤ m ∧ σ.2 = s2 ∧ σ.1 = lN (z_mn (fun d => min 1152921504606846976 (z_rs (tc C s) [C.2 10 (3 * r), C.2 10 (3 * r + 1)] p (p + d) + tc C s (C.2 10 (3 * r + 2)) (p + d) q)) 1152921504606846976 (m - p))) (q + 1) p (_, s2) (by omega) ⟨Nat.le_refl _, rfl, by rw [show p - p = 0 by omega]; rfl⟩ ?_ ?_
  · rintro n ⟨v, s3⟩ ⟨-, hh1, hh2⟩
    obtain rfl : s3 = s2 := hh1
    obtain rfl : v = lN (z_mn (fun d => min 1152921504606846976 (z_rs (tc C s) [C.2 10 (3 * r), C.2 10 (3 * r + 1)] p (p + d) + tc C s (C.2 10 (3 * r + 2)) (p + d) q)) 1152921504606846976 (q + 1 - p)) := hh2
    simp only [wX3_ruleCost_109]
    refine br_p (nI_lt (by omega) (by omega)) ?_
    rw [← three]
    refine w s3 mS (fun j hj => by rw [hs2, tL_a, va_up_ne _ _ hj]) (fun _ => ?_)
    rw [f2 q hpq (Nat.le_refl _), c2]
  · rintro n m ⟨v, s3⟩ hm ⟨hpm, hh1, hh2⟩ hs
    obtain rfl : s3 = s2 := hh1
    obtain rfl : v = lN (z_mn (fun d => min 1152921504606846976 (z_rs (tc C s) [C.2 10 (3 * r), C.2 10 (3 * r + 1)] p (p + d) + tc C s (C.2 10 (3 * r + 2)) (p + d) q)) 1152921504606846976 (m - p)) := hh2
    simp only [wX3_ruleCost_109]
    simp only [k2704, k52, k3, pk_mul, nI_add]
    rw [show nI (3 * r) + 2 = nI (3 * r + 2) from nI_add _ 2]
    refine br_n (nI_nlt (by omega) (by omega)) ⟨vp_nI (by omega) (by decide), vp_nI (by omega) (by decide), ?_⟩
    rw [nI_clamp (by omega), nI_clamp (by omega), f2 m hpm (by omega), mS.a 10, hy2]
    refine tw_cost ok h2 hv2 y2 (by omega) hq ?_
    rw [c2]
    have b1 := z_rs_le (tc C s) [C.2 10 (3 * r), C.2 10 (3 * r + 1)] p m
    have b2 := hcb _ m q y2 (by omega) hq
    refine tw_sum b1 b2 ?_
    have bm := z_mn_b (fun d => min 1152921504606846976 (z_rs (tc C s) [C.2 10 (3 * r), C.2 10 (3 * r + 1)] p (p + d) + tc C s (C.2 10 (3 * r + 2)) (p + d) q)) 1152921504606846976 (m - p)
    have e0 : z_mn (fun d => min 1152921504606846976 (z_rs (tc C s) [C.2 10 (3 * r), C.2 10 (3 * r + 1)] p (p + d) + tc C s (C.2 10 (3 * r + 2)) (p + d) q)) 1152921504606846976 (m + 1 - p) = min (z_mn (fun d => min 1152921504606846976 (z_rs (tc C s) [C.2 10 (3 * r), C.2 10 (3 * r + 1)] p (p + d) + tc C s (C.2 10 (3 * r + 2)) (p + d) q)) 1152921504606846976 (m - p)) (z_sum (z_rs (tc C s) [C.2 10 (3 * r), C.2 10 (3 * r + 1)] p m) (tc C s (C.2 10 (3 * r + 2)) m q)) := by
      rw [show m + 1 - p = (m - p) + 1 by omega]
      show min _ (min _ (z_rs _ _ _ (p + (m - p)) + tc C s _ (p + (m - p)) q)) = _
      rw [show p + (m - p) = m by omega, z_sum_min bm]
    have sb : z_sum (z_rs (tc C s) [C.2 10 (3 * r), C.2 10 (3 * r + 1)] p m) (tc C s (C.2 10 (3 * r + 2)) m q) < 4611686018427387904 := by
      unfold z_sum
      by_cases e : 1152921504606846976 ≤ z_rs (tc C s) [C.2 10 (3 * r), C.2 10 (3 * r + 1)] p m ∨ 1152921504606846976 ≤ tc C s (C.2 10 (3 * r + 2)) m q
      · rw [if_pos e]; omega
      · rw [if_neg e]; omega
    unfold wX3_ruleCost_170
    rw [nI_1, pk_lLE (by omega) (by omega)]
    refine ⟨fun e => al_eq (hs (_, s3) ⟨by omega, rfl, ?_⟩), fun e => al_eq (hs (_, s3) ⟨by omega, rfl, ?_⟩)⟩
    · show lN _ = lN _
      rw [e0]; congr 1; omega
    · show lN _ = lN _
      rw [e0]; congr 1; omega
end COSTS
