/-! PLAIN LAW, the component: rest, symbol, lessens -/
set_option maxRecDepth 100000
def vL (v : Int64) : Nat := v.toInt.toNat
def gd (v : Int64) : Prop := v = lN (vL v) ∧ vL v ≤ 1152921504606846976
theorem vL_lN {v : Nat} (h : v < 9223372036854775808) : vL (lN v) = v := by
  unfold vL
  rw [show (lN v).toInt = (v : Int) from lg_ofNat_toInt (by omega)]
  rfl
theorem gd_lN {v : Nat} (h : v ≤ 1152921504606846976) : gd (lN v) := by
  unfold gd
  rw [vL_lN (by omega)]
  exact ⟨rfl, h⟩
/-- what a symbol costs in the component -/
noncomputable def cc (C : Cf) (X : Nat → Nat → Nat → Int64) : Nat → Nat → Nat → Nat := z_c C 16777216 (kK C) (fun x p q => vL (X x p q))
def rC (C : Cf) (r so wh : Nat) : gCell := cO 4 [.int (nI r), .int (nI (C.2 8 r)), .ref so, .ref wh, .int (nI (C.2 9 r))]
def cRuR (C : Cf) (ow : Nat → Nat) (σ : gH) (r a : Nat) : Prop := ∃ so wh f g, hat ow σ a (20 + r) (rC C r so wh) ∧ hat ow σ so (50 + r) (cI 3 f) ∧ hat ow σ wh (80 + r) (cI 3 g) ∧ ∀ j, j < C.2 9 r → (f j = 0 ∧ g j = nI (C.2 10 (3 * r + j)) ∧ C.2 10 (3 * r + j) < C.1 0) ∨ (f j = 1 ∧ 100 ≤ C.2 10 (3 * r + j) ∧ C.2 10 (3 * r + j) < 100 + C.1 5 ∧ g j = nI (C.2 10 (3 * r + j) - 100))
def cRu (C : Cf) (ow : Nat → Nat) (σ : gH) (kk ru : Nat → Nat) : Prop := (∃ N, N < 100000 ∧ r_lsN ow σ (kk 7) 10 14 N (C.1 7) ru) ∧ ∀ r, r < C.1 7 → cRuR C ow σ r (ru r)
theorem cRuR.mv {C : Cf} {T : List Nat} {ow ow' : Nat → Nat} {σ σ' : gH} {r a : Nat} (h : cRuR C ow σ r a) (m : hmv T ow σ ow' σ') (hr : r < 24) (ht : ∀ t ∈ T, 200 ≤ t) : cRuR C ow' σ' r a := by
  obtain ⟨so, wh, f, g, h1, h2, h3, h4⟩ := h
  exact ⟨so, wh, f, g, h1.mv m (fun z => by have := ht _ z; omega), h2.mv m (fun z => by have := ht _ z; omega), h3.mv m (fun z => by have := ht _ z; omega), h4⟩
theorem cRu.mv {C : Cf} {T : List Nat} {ow ow' : Nat → Nat} {σ σ' : gH} {kk ru : Nat → Nat} (ok : z_ok C) (h : cRu C ow σ kk ru) (m : hmv T ow σ ow' σ') (ht : ∀ t ∈ T, 200 ≤ t) : cRu C ow' σ' kk ru := by
  obtain ⟨⟨N, h1, h2⟩, h3⟩ := h
  have o := ok.1
  exact ⟨⟨N, h1, h2.mv m (fun z => by have := ht _ z; omega) (fun z => by have := ht _ z; omega)⟩, fun r hr => (h3 r hr).mv m (by omega) ht⟩
abbrev TFi : List Nat := List.range' 2000 (55 * 8) ++ List.range' 3000 (55 * 96)
theorem memFi {t : Nat} : t ∈ TFi ↔ (2000 ≤ t ∧ t < 2440) ∨ (3000 ≤ t ∧ t < 8280) := by
  simp only [TFi, List.mem_append, List.mem_range'_1]
theorem z_yl_drop {C : Cf} {r j : Nat} (h : j < C.2 9 r) : (z_yl C r).drop j = C.2 10 (3 * r + j) :: (z_yl C r).drop (j + 1) := by
  have hl : (z_yl C r).length = C.2 9 r := by unfold z_yl; simp
  rw [List.drop_eq_getElem_cons (by omega)]
  congr 1
  unfold z_yl
  simp
theorem z_yl_end {C : Cf} {r j : Nat} (h : C.2 9 r ≤ j) : (z_yl C r).drop j = [] := by
  have hl : (z_yl C r).length = C.2 9 r := by unfold z_yl; simp
  exact List.drop_eq_nil_of_le (by omega)
section LESS
variable {C : Cf} {ow : Nat → Nat} {σ : gH} {x0 : Nat} {kk kc : Nat → Nat}
theorem c_rest {Q : Option Nat → Prop} {f : Nat → Option Nat} {r a j : Nat} {v : Int32} (hM : cM C ow σ x0 kk kc) (hR : cRuR C ow σ r a) (h15 : σ.2 (kk 15) = some (cQ 5 96 f)) (hr : r < 24) (hj : j ≤ 3) (hv : v = nI j) (w : Q (f (4 * r + j))) : wX7_rest Q σ (kc 0) (some a) v := by
  obtain ⟨so, wh, g, g', h1, -⟩ := hR
  unfold wX7_rest
  refine i_R hM.2.1.1 (by decide) rfl ⟨_, rfl, i_I h1.1 (by decide) rfl ⟨_, rfl, i_aR h15 (j := 4 * r + j) (by rw [hv, k4, pk_mul, nI_add]) (by omega) (by decide) w⟩⟩
theorem lB : (16777216 : Int64) = lN 16777216 := rfl
theorem cc_tok {X : Nat → Nat → Nat → Int64} {y p q : Nat} (h : y < 100) : cc C X y p q = if z_R C y (kK C p) (kK C q) = 1000000000 then 1152921504606846976 else 16777216 * z_R C y (kK C p) (kK C q) := by
  unfold cc z_c
  rw [if_pos h]
theorem cc_nam {X : Nat → Nat → Nat → Int64} {y p q : Nat} (h : ¬ y < 100) : cc C X y p q = vL (X (y - 100) p q) := by
  unfold cc z_c
  rw [if_neg h]
theorem cc_le (ok : z_ok C) {X : Nat → Nat → Nat → Int64} {y p q : Nat} (hg : 100 ≤ y → gd (X (y - 100) p q)) : cc C X y p q ≤ 1152921504606846976 := by
  by_cases e : y < 100
  · rw [cc_tok e]
    by_cases e2 : z_R C y (kK C p) (kK C q) = 1000000000
    · rw [if_pos e2]; omega
    · rw [if_neg e2]
      have := z_R_bd ok (t := y) (p := kK C p) (q := kK C q)
      omega
  · rw [cc_nam e]
    exact (hg (by omega)).2
theorem c_symbol {Q : Int64 → Prop} {r a j p q : Nat} {X1 X2 : Nat → Nat → Nat → Int64} (ok : z_ok C) (hM : cM C ow σ x0 kk kc) (hR : cRuR C ow σ r a) (h1 : r_cube ow σ (kk 13) 12 1000 X1) (hd : cRd C X1) (h2 : r_cube ow σ (kk 14) 8 2000 X2) (hj : j < C.2 9 r) (hr : r < C.1 7) (hp : p < nK C) (hq : q < nK C) (hg : ∀ x, x < C.1 5 → gd (X2 x p q)) (w : Q (lN (cc C X2 (C.2 10 (3 * r + j)) p q))) : wX7_symbol Q σ (kc 0) (some a) (nI j) (nI p) (nI q) := by
  have o := ok.1
  have nk := nK_le ok
  have or := ok.2.2.2.2.1 r hr
  obtain ⟨so, wh, f, g, r1, r2, r3, r4⟩ := hR
  unfold wX7_symbol
  refine ⟨_, rfl, i_R r1.1 (by decide) rfl ⟨_, rfl, i_aI r2.1 rfl (by omega) (by decide) ?_⟩⟩
  rcases r4 j hj with ⟨a1, a2, a3⟩ | ⟨a1, a2, a3, a4⟩
  · rw [a1]
    refine br_n (by decide) (i_R hM.2.1.1 (by decide) rfl (i_R r1.1 (by decide) rfl ⟨_, rfl, i_aI r3.1 rfl (by omega) (by decide) ?_⟩))
    obtain ⟨f1, c, g1, d, x1, x2, x3, x4, x5⟩ := h1.at (i := C.2 10 (3 * r + j)) (p := p) (by omega) (by omega)
    rw [a2]
    refine ⟨_, rfl, i_aR x1 rfl (by omega) (by decide) ⟨c, x2, i_aR x3 rfl (by omega) (by decide) ⟨d, x4, i_aJ x5.1 rfl (by omega) (by decide) ?_⟩⟩⟩
    rw [hd _ p q a3 hp hq]
    rw [cc_tok (by omega)] at w
    have rb := z_R_bd ok (t := C.2 10 (3 * r + j)) (p := kK C p) (q := kK C q)
    by_cases e : z_R C (C.2 10 (3 * r + j)) (kK C p) (kK C q) = 1000000000
    · rw [if_pos e] at w
      rw [e, zc_I, lF]
      exact br_n (fun z => by have := (pk_lLT (by decide) (by decide)).mp z; omega) w
    · rw [if_neg e] at w
      rw [zc_ne e, lF, lB, lN_mul]
      refine br_p ((pk_lLT (by omega) (by decide)).mpr (by omega)) ?_
      rw [Nat.mul_comm]; exact w
  · rw [a1]
    refine br_p rfl (i_R hM.2.1.1 (by decide) rfl (i_R r1.1 (by decide) rfl ⟨_, rfl, i_aI r3.1 rfl (by omega) (by decide) ?_⟩))
    obtain ⟨f1, c, g1, d, x1, x2, x3, x4, x5⟩ := h2.at (i := C.2 10 (3 * r + j) - 100) (p := p) (by omega) (by omega)
    rw [a4]
    refine ⟨_, rfl, i_aR x1 rfl (by omega) (by decide) ⟨c, x2, i_aR x3 rfl (by omega) (by decide) ⟨d, x4, i_aJ x5.1 rfl (by omega) (by decide) ?_⟩⟩⟩
    rw [cc_nam (by omega)] at w
    rw [(hg (C.2 10 (3 * r + j) - 100) (by omega)).1]
    exact w
/-- what lessens stands on -/
def lE (C : Cf) (ow : Nat → Nat) (σ : gH) (x0 : Nat) (kk kc ru : Nat → Nat) : Prop := cM C ow σ x0 kk kc ∧ cRu C ow σ kk ru ∧ ∃ X1, r_cube ow σ (kk 13) 12 1000 X1 ∧ cRd C X1
theorem lE.mv {ru : Nat → Nat} {σ' : gH} {ow' : Nat → Nat} (ok : z_ok C) (h : lE C ow σ x0 kk kc ru) (m : hmv TFi ow σ ow' σ') : lE C ow' σ' x0 kk kc ru := by
  obtain ⟨h1, h2, X1, h3, h4⟩ := h
  have T2 : ∀ t ∈ TFi, 202 ≤ t := by intro t ht; rw [memFi] at ht; omega
  exact ⟨h1.mv m T2, h2.mv ok m (fun t ht => by have := T2 t ht; omega), X1, h3.mv m (by rw [memFi]; omega) (by intro t ht; rw [memFi] at ht; omega), h4⟩
/-- the two tables -/
def lC (ow : Nat → Nat) (σ : gH) (kk : Nat → Nat) (X2 X3 : Nat → Nat → Nat → Int64) : Prop := r_cube ow σ (kk 14) 8 2000 X2 ∧ r_cube ow σ (kk 15) 96 3000 X3
theorem lC.put3 {X2 X3 : Nat → Nat → Nat → Int64} {i p c d : Nat} {f g : Nat → Option Nat} (h : lC ow σ kk X2 X3) (q : Nat) (v : Int64) (hi : i < 96) (hp : p < 55) (e : rcAt ow σ (kk 15) 96 3000 X3 i p f c g d) : hmv TFi ow σ ow (g_up σ d (cJ 55 (vp_updL (X3 i p) q v))) ∧ lC ow (g_up σ d (cJ 55 (vp_updL (X3 i p) q v))) kk X2 (cuX X3 i p q v) := by
  obtain ⟨y1, y2⟩ := h.2.put q v hi hp (by decide) e
  exact ⟨y1.sub (fun t ht => List.mem_append.mpr (Or.inr ht)), h.1.mv y1 (by rw [List.mem_range'_1]; omega) (by intro t ht; rw [List.mem_range'_1] at ht; omega), y2⟩
theorem lC.put2 {X2 X3 : Nat → Nat → Nat → Int64} {i p c d : Nat} {f g : Nat → Option Nat} (h : lC ow σ kk X2 X3) (q : Nat) (v : Int64) (hi : i < 8) (hp : p < 55) (e : rcAt ow σ (kk 14) 8 2000 X2 i p f c g d) : hmv TFi ow σ ow (g_up σ d (cJ 55 (vp_updL (X2 i p) q v))) ∧ lC ow (g_up σ d (cJ 55 (vp_updL (X2 i p) q v))) kk (cuX X2 i p q v) X3 := by
  obtain ⟨y1, y2⟩ := h.1.put q v hi hp (by decide) e
  exact ⟨y1.sub (fun t ht => List.mem_append.mpr (Or.inl ht)), y2, h.2.mv y1 (by rw [List.mem_range'_1]; omega) (by intro t ht; rw [List.mem_range'_1] at ht; omega)⟩
/-- the inner loop of lessens -/
theorem c_les29 {Q : Int32 → gH → Prop} {K : Nat → Option Nat → Int32 → Int32 → Int32 → Int64 → gH → Prop} {ru : Nat → Nat} {X2 X3 : Nat → Nat → Nat → Int64} {r p q j u : Nat} (ok : z_ok C) (hE : lE C ow σ x0 kk kc ru) (hC : lC ow σ kk X2 X3) (hr : r < C.1 7) (hpq : p ≤ q) (hq : q < nK C) (hj : j < C.2 9 r) (hg : ∀ x m, x < C.1 5 → p ≤ m → m ≤ q → gd (X2 x p m)) (hb : ∀ m, p ≤ m → m ≤ q → X3 (4 * r + (j + 1)) m q = lN (z_rs (cc C X2) ((z_yl C r).drop (j + 1)) m q)) (hu1 : z_rs (cc C X2) ((z_yl C r).drop j) p q ≤ u) (hu2 : u ≤ 1152921504606846976)
    (w : K (kc 0) (some (ru r)) (nI p) (nI q) (nI j) (lN (z_rs (cc C X2) ((z_yl C r).drop j) p q)) σ) : ∃ fu, wX7_lessens_29 Q K fu (kc 0) (some (ru r)) (nI p) (nI q) (nI j) (lN u) (nI p) σ := by
  have o := ok.1
  have nk := nK_le ok
  obtain ⟨or1, or2, or3⟩ := ok.2.2.2.2.1 r hr
  have hd := z_yl_drop hj
  obtain ⟨hM, ⟨hRl, hRu⟩, X1, h1, h1d⟩ := hE
  have hR := hRu r hr
  have e0 : z_rs (cc C X2) ((z_yl C r).drop j) p q = z_mn (fun d => min 1152921504606846976 (cc C X2 (C.2 10 (3 * r + j)) p (p + d) + z_rs (cc C X2) ((z_yl C r).drop (j + 1)) (p + d) q)) 1152921504606846976 (q + 1 - p) := by
    rw [hd]; conv => lhs; unfold z_rs
  refine pk_loop (σ := Int64) (fun n m v => wX7_lessens_29 Q K n (kc 0) (some (ru r)) (nI p) (nI q) (nI j) v (nI m) σ) (fun m v => p ≤ m ∧ v = lN (min u (z_mn (fun d => min 1152921504606846976 (cc C X2 (C.2 10 (3 * r + j)) p (p + d) + z_rs (cc C X2) ((z_yl C r).drop (j + 1)) (p + d) q)) 1152921504606846976 (m - p)))) (q + 1) p (lN u) (by omega) ⟨Nat.le_refl _, by
      rw [show p - p = 0 by omega]
      show lN u = lN (min u 1152921504606846976)
      congr 1
      omega⟩ ?_ ?_
  · rintro n v ⟨-, rfl⟩
    simp only [wX7_lessens_29]
    refine br_p (nI_lt (by omega) (by omega)) ?_
    rw [← e0, show min u (z_rs (cc C X2) ((z_yl C r).drop j) p q) = z_rs (cc C X2) ((z_yl C r).drop j) p q by omega]
    exact w
  · rintro n m v hm ⟨hpm, rfl⟩ hs
    simp only [wX7_lessens_29]
    obtain ⟨f1, c, g1, d, x1, x2, x3, x4, x5⟩ := hC.2.at (i := 4 * r + (j + 1)) (p := m) (by omega) (by omega)
    refine br_n (nI_nlt (by omega) (by omega)) ⟨_, hM.2.1.1, c_symbol ok hM hR h1 h1d hC.1 hj hr (by omega) (by omega) (fun x hx => hg x m hx hpm (by omega)) ⟨_, hM.2.1.1, c_rest hM hR x1 (by omega) (by omega) (nI_1 j) ⟨c, x2, i_aR x3 rfl (by omega) (by decide) ⟨d, x4, i_aJ x5.1 rfl (by omega) (by decide) ?_⟩⟩⟩⟩
    rw [hb m hpm (by omega), lN_add, nI_1]
    have b1 := cc_le ok (X := X2) (y := C.2 10 (3 * r + j)) (p := p) (q := m) (fun h => hg _ m (by have := or3 j hj; omega) hpm (by omega))
    have b2 := z_rs_le (cc C X2) ((z_yl C r).drop (j + 1)) m q
    have e1 : z_mn (fun d => min 1152921504606846976 (cc C X2 (C.2 10 (3 * r + j)) p (p + d) + z_rs (cc C X2) ((z_yl C r).drop (j + 1)) (p + d) q)) 1152921504606846976 (m + 1 - p) = min (z_mn (fun d => min 1152921504606846976 (cc C X2 (C.2 10 (3 * r + j)) p (p + d) + z_rs (cc C X2) ((z_yl C r).drop (j + 1)) (p + d) q)) 1152921504606846976 (m - p)) (min 1152921504606846976 (cc C X2 (C.2 10 (3 * r + j)) p m + z_rs (cc C X2) ((z_yl C r).drop (j + 1)) m q)) := by
      rw [show m + 1 - p = (m - p) + 1 by omega]
      conv => lhs; unfold z_mn
      simp only [show p + (m - p) = m by omega]
    have bm := z_mn_b (fun d => min 1152921504606846976 (cc C X2 (C.2 10 (3 * r + j)) p (p + d) + z_rs (cc C X2) ((z_yl C r).drop (j + 1)) (p + d) q)) 1152921504606846976 (m - p)
    unfold wJ4_min_2
    rw [pk_lLT (by omega) (by omega)]
    refine ⟨fun z => al_eq (hs _ ⟨by omega, ?_⟩), fun z => al_eq (hs _ ⟨by omega, ?_⟩)⟩
    · rw [e1]; congr 1; omega
    · rw [e1]; congr 1; omega
/-- what lessens does -/
theorem c_lessens {Q : Int32 → gH → Prop} {ru : Nat → Nat} {X2 X3 : Nat → Nat → Nat → Int64} {r p q : Nat} (ok : z_ok C) (hE : lE C ow σ x0 kk kc ru) (hC : lC ow σ kk X2 X3) (hr : r < C.1 7) (hpq : p ≤ q) (hq : q < nK C) (hg : ∀ x m, x < C.1 5 → p ≤ m → m ≤ q → gd (X2 x p m)) (hb : ∀ j m, j ≤ C.2 9 r → p < m → m ≤ q → X3 (4 * r + j) m q = lN (z_rs (cc C X2) ((z_yl C r).drop j) m q)) (hd : ∀ j, j ≤ C.2 9 r → ∃ u, X3 (4 * r + j) p q = lN u ∧ z_rs (cc C X2) ((z_yl C r).drop j) p q ≤ u ∧ u ≤ 1152921504606846976 ∧ (j = C.2 9 r → u = z_rs (cc C X2) [] p q))
    (w0 : ∀ σ' X3', hmv TFi ow σ ow σ' → lC ow σ' kk X2 X3' → (∀ k p' q', ¬ (k / 4 = r ∧ p' = p ∧ q' = q) → X3' k p' q' = X3 k p' q') → (∀ j, j ≤ C.2 9 r → X3' (4 * r + j) p q = lN (z_rs (cc C X2) ((z_yl C r).drop j) p q)) → vL (X2 (C.2 8 r) p q) ≤ z_rs (cc C X2) (z_yl C r) p q + 1 → Q 0 σ')
    (w1 : ∀ σ' X3', hmv TFi ow σ ow σ' → z_rs (cc C X2) (z_yl C r) p q + 1 < vL (X2 (C.2 8 r) p q) → lC ow σ' kk (cuX X2 (C.2 8 r) p q (lN (z_rs (cc C X2) (z_yl C r) p q + 1))) X3' → (∀ k p' q', ¬ (k / 4 = r ∧ p' = p ∧ q' = q) → X3' k p' q' = X3 k p' q') → (∀ j, j ≤ C.2 9 r → X3' (4 * r + j) p q = lN (z_rs (cc C X2) ((z_yl C r).drop j) p q)) → Q 1 σ') : wX7_lessens Q (kc 0) (some (ru r)) (nI p) (nI q) σ := by
  have o := ok.1
  have nk := nK_le ok
  obtain ⟨or1, or2, or3⟩ := ok.2.2.2.2.1 r hr
  unfold wX7_lessens
  obtain ⟨so, wh, f0, g0, rc0, -⟩ := hE.2.1.2 r hr
  refine ⟨_, rfl, i_I rc0.1 (by decide) rfl (al_eq ⟨C.2 9 r + 1, pk_loopD (σ := gH) (fun n e σ' => wX7_lessens_8 Q _ n (kc 0) (some (ru r)) (nI p) (nI q) (nI e - 1) σ') (fun e σ' => e ≤ C.2 9 r ∧ hmv TFi ow σ ow σ' ∧ ∃ X3', lC ow σ' kk X2 X3' ∧ (∀ k p' q', ¬ (k / 4 = r ∧ p' = p ∧ q' = q) → X3' k p' q' = X3 k p' q') ∧ (∀ j, j ≤ C.2 9 r → e ≤ j → X3' (4 * r + j) p q = lN (z_rs (cc C X2) ((z_yl C r).drop j) p q)) ∧ ∀ j, j < e → X3' (4 * r + j) p q = X3 (4 * r + j) p q) ?_ ?_ (C.2 9 r) σ ⟨Nat.le_refl _, hmv.rf, X3, hC, fun _ _ _ _ => rfl, fun j h1 h2 => ?_, fun _ _ => rfl⟩⟩)⟩
  · rintro n σ1 ⟨-, m1, X3', c1, c2, c3, -⟩
    simp only [wX7_lessens_8]
    rw [nI_0m1]
    refine br_p (by decide) ?_
    have hE1 := hE.mv ok m1
    obtain ⟨hM, ⟨hRl, hRu⟩, X1, h1, h1d⟩ := hE1
    have hR := hRu r hr
    obtain ⟨f1, c, g1, d, x1, x2, x3, x4, x5⟩ := c1.2.at (i := 4 * r + 0) (p := p) (by omega) (by omega)
    obtain ⟨f2, c', g2, d', hat2⟩ := c1.1.at (i := C.2 8 r) (p := p) (by omega) (by omega)
    obtain ⟨y1, y2, y3, y4, y5⟩ := id hat2
    obtain ⟨so, wh, f0, g0, rc, -⟩ := id hR
    refine ⟨_, hM.2.1.1, c_rest hM hR x1 (by omega) (by omega) nI_0.symm ⟨c, x2, i_aR x3 rfl (by omega) (by decide) ⟨d, x4, i_aJ x5.1 rfl (by omega) (by decide) ?_⟩⟩⟩
    rw [c3 0 (by omega) (by omega), List.drop_zero, lN_1]
    have rb := z_rs_le (cc C X2) (z_yl C r) p q
    have hgx := hg (C.2 8 r) q or1 hpq (Nat.le_refl _)
    refine al_eq (i_R hM.2.1.1 (by decide) rfl ⟨_, rfl, i_I rc.1 (by decide) rfl ⟨_, rfl, i_aR y1 rfl (by omega) (by decide) ⟨c', y2, i_aR y3 rfl (by omega) (by decide) ⟨d', y4, i_aJ y5.1 rfl (by omega) (by decide) ?_⟩⟩⟩⟩)
    have hgb := hgx.2
    rw [hgx.1]
    rw [pk_lLE (by omega) (by omega), lF, pk_lLE (by omega) (by omega)]
    have no : vL (X2 (C.2 8 r) p q) ≤ z_rs (cc C X2) (z_yl C r) p q + 1 → wX7_lessens_144 Q (kc 0) (some (ru r)) (nI p) (nI q) (lN (z_rs (cc C X2) (z_yl C r) p q + 1)) σ1 := by
      intro z
      unfold wX7_lessens_144 wX7_lessens_145
      refine br_p rfl ?_
      unfold wX7_lessens_167
      exact ⟨Or.inl rfl, w0 σ1 X3' m1 c1 c2 (fun j hj => c3 j hj (by omega)) z⟩
    refine ⟨fun z => no z, fun z => ⟨fun z2 => no (by omega), fun z2 => ?_⟩⟩
    unfold wX7_lessens_145
    refine br_n (by decide) (i_R hM.2.1.1 (by decide) rfl ⟨_, rfl, i_I rc.1 (by decide) rfl ⟨_, rfl, i_aR y1 rfl (by omega) (by decide) ⟨c', y2, i_aR y3 rfl (by omega) (by decide) ⟨d', y4, i_sJ y5.1 rfl (by omega) (by decide) ?_⟩⟩⟩⟩)
    obtain ⟨p1, p2⟩ := c1.put2 q (lN (z_rs (cc C X2) (z_yl C r) p q + 1)) (by omega) (by omega) hat2
    unfold wX7_lessens_167
    exact ⟨Or.inr rfl, w1 _ X3' (m1.tr p1) (by omega) p2 c2 (fun j hj => c3 j hj (by omega))⟩
  · rintro n j σ1 ⟨hj, m1, X3', c1, c2, c3, c4⟩ hs
    simp only [wX7_lessens_8]
    rw [nI_pred]
    have hE1 := hE.mv ok m1
    obtain ⟨hM, ⟨hRl, hRu⟩, X1, h1, h1d⟩ := id hE1
    have hR := hRu r hr
    obtain ⟨f1, c, g1, d, hat1⟩ := c1.2.at (i := 4 * r + j) (p := p) (by omega) (by omega)
    obtain ⟨x1, x2, x3, x4, x5⟩ := id hat1
    obtain ⟨u, u1, u2, u3, u4⟩ := hd j (by omega)
    refine br_n (nI_pos (by omega)) ⟨_, hM.2.1.1, c_rest hM hR x1 (by omega) (by omega) rfl ⟨c, x2, i_aR x3 rfl (by omega) (by decide) ⟨d, x4, i_aJ x5.1 rfl (by omega) (by decide) ?_⟩⟩⟩
    rw [c4 j (by omega), u1]
    refine c_les29 ok hE1 c1 hr hpq hq (by omega) hg (fun m h3 h4 => ?_) u2 u3 ?_
    · by_cases e : m = p
      · subst e
        exact c3 (j + 1) (by omega) (Nat.le_refl _)
      · rw [c2 _ _ _ (by omega)]
        exact hb (j + 1) m (by omega) (by omega) h4
    · refine ⟨_, hM.2.1.1, c_rest hM hR x1 (by omega) (by omega) rfl ⟨c, x2, i_aR x3 rfl (by omega) (by decide) ?_⟩⟩
      have rb := z_rs_le (cc C X2) ((z_yl C r).drop j) p q
      unfold wJ4_min_2
      rw [lF, pk_lLT (by omega) (by omega)]
      refine br_n (by omega) ⟨d, x4, i_sJ x5.1 rfl (by omega) (by decide) ?_⟩
      obtain ⟨p1, p2⟩ := c1.put3 q (lN (z_rs (cc C X2) ((z_yl C r).drop j) p q)) (by omega) (by omega) hat1
      rw [nI_m1]
      refine al_eq (hs _ ⟨by omega, m1.tr p1, _, p2, fun k p' q' hn => ?_, fun j' h5 h6 => ?_, fun j' h5 => ?_⟩)
      · rw [cuX_n _ _ (by omega)]
        exact c2 k p' q' hn
      · by_cases e : j' = j
        · subst e
          rw [cuX_s]
        · rw [cuX_n _ _ (by omega)]
          exact c3 j' h5 (by omega)
      · rw [cuX_n _ _ (by omega)]
        exact c4 j' (by omega)
  · obtain rfl : j = C.2 9 r := by omega
    obtain ⟨u, u1, u2, u3, u4⟩ := hd _ (Nat.le_refl _)
    rw [u1, u4 rfl, z_yl_end (Nat.le_refl _)]
end LESS
