/-! PLAIN LAW, the component: the list of steps grows -/
set_option maxRecDepth 100000
def kK (C : Cf) (p : Nat) : Nat := z_at (z_kl C false) p
def nK (C : Cf) : Nat := (z_kl C false).length
theorem nK_le {C : Cf} (ok : z_ok C) : nK C ≤ 55 := by
  have o := ok.1
  unfold nK z_kl
  simp only [z_kp, List.length_append, List.length_singleton]
  have a := z_kt_len C false (C.1 34)
  have b := z_kf1_len C false (C.1 34) (C.2 11 0)
  rw [if_neg (by omega)] at a b
  have := z_kp_len ok false (C.1 34) (Nat.le_refl _)
  omega
theorem kK_kn {C : Cf} (ok : z_ok C) : z_kn C (kK C) (nK C) := z_kl_kn ok (Or.inl rfl)
theorem kK_bd {C : Cf} (ok : z_ok C) {p : Nat} (h : p < nK C) : kK C p ≤ 5 * C.1 34 := by
  have := z_at_mem h
  obtain ⟨i, hi, e⟩ := z_kp_mem.mp this
  have o := ok.1
  unfold kK
  rcases e with e | e | e
  · omega
  · have := z_kt_mem.mp e; omega
  · obtain ⟨f, h1, h2, h3, -⟩ := z_kf1_mem.mp e; omega
/-- a step of the chart, with what it is -/
def sP (C : Cf) (ow : Nat → Nat) (σ : gH) (kc : Nat → Nat) (x0 a k i f q t pr fo : Nat) : Prop := ∃ fm nu, hat ow σ a 0 (sC k (kc 0) x0 i f q t fm nu) ∧ f < nK C ∧ q < nK C ∧ k ≤ 5 ∧ z_st C k i (kK C f) (kK C q) t pr fo ∧ (k = 4 → nu = fo ∧ hat ow σ fm 0 (fCell C 0 fo)) ∧ (k = 5 → nu = fo ∧ hat ow σ fm 0 (fCell C 1 fo))
theorem sP.mv {C : Cf} {T : List Nat} {ow ow' : Nat → Nat} {σ σ' : gH} {kc : Nat → Nat} {x0 a k i f q t pr fo : Nat} (h : sP C ow σ kc x0 a k i f q t pr fo) (m : hmv T ow σ ow' σ') (ht : 0 ∉ T) : sP C ow' σ' kc x0 a k i f q t pr fo := by
  obtain ⟨fm, nu, h1, h2, h3, h4, h5, h6, h7⟩ := h
  exact ⟨fm, nu, h1.mv m ht, h2, h3, h4, h5, fun e => ⟨(h6 e).1, (h6 e).2.mv m ht⟩, fun e => ⟨(h7 e).1, (h7 e).2.mv m ht⟩⟩
theorem sP.obj {C : Cf} {ow : Nat → Nat} {σ : gH} {kc : Nat → Nat} {x0 a k i f q t pr fo : Nat} (h : sP C ow σ kc x0 a k i f q t pr fo) : ∃ ci fs, ci < 19 ∧ σ.2 a = some (.inr (ci, fs)) := by
  obtain ⟨fm, nu, h1, -⟩ := h
  obtain ⟨ci, fs, e, h2, -⟩ := sC_at k (kc 0) x0 i f q t fm nu
  refine ⟨ci, fs, ?_, ?_⟩
  · simp only [List.mem_cons, List.not_mem_nil, or_false] at h2; omega
  · rw [h1.1, e]
/-- the list of steps: N places, ns steps xs -/
def cL (C : Cf) (ow : Nat → Nat) (σ : gH) (kc : Nat → Nat) (x0 N ns : Nat) (xs : Nat → Nat) : Prop := r_lsN ow σ (kc 6) 203 204 N ns xs ∧ N ≤ 10 + 2 * ns ∧ ∀ j, j < ns → ∃ k i f q t pr fo, sP C ow σ kc x0 (xs j) k i f q t pr fo
def cIn (C : Cf) (ow : Nat → Nat) (σ : gH) (kc : Nat → Nat) (x0 ns : Nat) (xs : Nat → Nat) (k i f q t pr fo : Nat) : Prop := ∃ j, j < ns ∧ sP C ow σ kc x0 (xs j) k i f q t pr fo
/-- the chart while steps are added -/
def cM (C : Cf) (ow : Nat → Nat) (σ : gH) (x0 : Nat) (kk kc : Nat → Nat) : Prop := cE C ow σ x0 kk kc ∧ hat ow σ (kc 0) 200 (cO 7 (cFs C kk kc x0 (nK C))) ∧ ∃ fk, hat ow σ (kc 3) 201 (cI 12 fk) ∧ ∀ i, i ≤ C.1 34 → ∃ p, p < nK C ∧ fk i = nI p ∧ kK C p = 5 * i
theorem cM.mv {C : Cf} {T : List Nat} {ow ow' : Nat → Nat} {σ σ' : gH} {x0 : Nat} {kk kc : Nat → Nat} (h : cM C ow σ x0 kk kc) (m : hmv T ow σ ow' σ') (ht : ∀ t ∈ T, 202 ≤ t) : cM C ow' σ' x0 kk kc := by
  obtain ⟨h1, h2, fk, h3, h4⟩ := h
  exact ⟨h1.mv m (fun t q => by have := ht t q; omega), h2.mv m (fun q => by have := ht _ q; omega), fk, h3.mv m (fun q => by have := ht _ q; omega), h4⟩
theorem cL.mv {C : Cf} {T : List Nat} {ow ow' : Nat → Nat} {σ σ' : gH} {kc : Nat → Nat} {x0 N ns : Nat} {xs : Nat → Nat} (h : cL C ow σ kc x0 N ns xs) (m : hmv T ow σ ow' σ') (h0 : 0 ∉ T) (h1 : 203 ∉ T) (h2 : 204 ∉ T) : cL C ow' σ' kc x0 N ns xs := ⟨h.1.mv m h1 h2, h.2.1, fun j hj => by
  obtain ⟨k, i, f, q, t, pr, fo, w⟩ := h.2.2 j hj
  exact ⟨k, i, f, q, t, pr, fo, w.mv m h0⟩⟩
theorem cIn.mv {C : Cf} {T : List Nat} {ow ow' : Nat → Nat} {σ σ' : gH} {kc : Nat → Nat} {x0 ns k i f q t pr fo : Nat} {xs : Nat → Nat} (h : cIn C ow σ kc x0 ns xs k i f q t pr fo) (m : hmv T ow σ ow' σ') (h0 : 0 ∉ T) : cIn C ow' σ' kc x0 ns xs k i f q t pr fo := by
  obtain ⟨j, h1, h2⟩ := h
  exact ⟨j, h1, h2.mv m h0⟩
/-- nothing of what is in the list is lost -/
def cGr (C : Cf) (kc : Nat → Nat) (x0 : Nat) (ow : Nat → Nat) (σ : gH) (ns : Nat) (xs : Nat → Nat) (ow' : Nat → Nat) (σ' : gH) (ns' : Nat) (xs' : Nat → Nat) : Prop := ns ≤ ns' ∧ ∀ k i f q t pr fo, cIn C ow σ kc x0 ns xs k i f q t pr fo → cIn C ow' σ' kc x0 ns' xs' k i f q t pr fo
theorem cGr.tr {C : Cf} {kc : Nat → Nat} {x0 : Nat} {ow ow1 ow2 : Nat → Nat} {σ σ1 σ2 : gH} {ns ns1 ns2 : Nat} {xs xs1 xs2 : Nat → Nat} (h : cGr C kc x0 ow σ ns xs ow1 σ1 ns1 xs1) (g : cGr C kc x0 ow1 σ1 ns1 xs1 ow2 σ2 ns2 xs2) : cGr C kc x0 ow σ ns xs ow2 σ2 ns2 xs2 := ⟨Nat.le_trans h.1 g.1, fun k i f q t pr fo w => g.2 _ _ _ _ _ _ _ (h.2 _ _ _ _ _ _ _ w)⟩
theorem cGr.mv {C : Cf} {T : List Nat} {kc : Nat → Nat} {x0 : Nat} {ow ow' : Nat → Nat} {σ σ' : gH} {ns : Nat} {xs : Nat → Nat} (m : hmv T ow σ ow' σ') (h0 : 0 ∉ T) : cGr C kc x0 ow σ ns xs ow' σ' ns xs := ⟨Nat.le_refl _, fun _ _ _ _ _ _ _ w => w.mv m h0⟩
/-- a new step, and what becomes of it -/
theorem c_addE {C : Cf} (ok : z_ok C) {ow : Nat → Nat} {σ : gH} {x0 N ns a : Nat} {kk kc xs : Nat → Nat} {k i f q t pr fo fm nu : Nat} (hM : cM C ow σ x0 kk kc) (hL : cL C ow σ kc x0 N ns xs) (hns : ns < 5000) (ha : σ.2 a = none) (hf : f < nK C) (hq : q < nK C) (hk : k ≤ 5) (h4 : k = 4 → nu = fo ∧ hat ow σ fm 0 (fCell C 0 fo)) (h5 : k = 5 → nu = fo ∧ hat ow σ fm 0 (fCell C 1 fo))
    (hmay : ∀ ow' σ', cM C ow' σ' x0 kk kc → hat ow' σ' a 0 (sC k (kc 0) x0 i f q t fm nu) → (k = 4 → hat ow' σ' fm 0 (fCell C 0 fo)) → (k = 5 → hat ow' σ' fm 0 (fCell C 1 fo)) → ∀ Q : Int32 → Prop, (z_st C k i (kK C f) (kK C q) t pr fo → Q 1) → (¬ z_st C k i (kK C f) (kK C q) t pr fo → Q 0) → wX0_may Q σ' x0 (some (kc 2)) (some a) (nI (C.1 34))) :
    ∃ c b N' ns', c ≤ 1 ∧ b + 4 * N ≤ 4 * N' ∧ N' ≤ 10 + 2 * ns' ∧ ns' ≤ ns + 1 ∧ ∀ (Q : gH → Prop), (∀ ow' σ' xs', hmv [203, 204] ow σ ow' σ' → cM C ow' σ' x0 kk kc → cL C ow' σ' kc x0 N' ns' xs' → cGr C kc x0 ow σ ns xs ow' σ' ns' xs' → (z_st C k i (kK C f) (kK C q) t pr fo → cIn C ow' σ' kc x0 ns' xs' k i f q t pr fo) → Q σ') → ∀ mc ms, c ≤ mc → b ≤ ms → wX7_add Q mc ms (kc 0) (some a) (g_up σ a (sC k (kc 0) x0 i f q t fm nu)) := by
  have m1 : hmv [203, 204] ow σ (va_up ow a 0) (g_up σ a (sC k (kc 0) x0 i f q t fm nu)) := hmv.rf.new 0 ha
  have m0 : hmv [] ow σ (va_up ow a 0) (g_up σ a (sC k (kc 0) x0 i f q t fm nu)) := hmv.rf.new 0 ha
  have hM1 := hM.mv m0 (by simp)
  have hL1 := hL.mv m0 (by simp) (by simp) (by simp)
  have ha1 : hat (va_up ow a 0) (g_up σ a (sC k (kc 0) x0 i f q t fm nu)) a 0 (sC k (kc 0) x0 i f q t fm nu) := hat.nw 0
  have f4 : k = 4 → hat (va_up ow a 0) (g_up σ a (sC k (kc 0) x0 i f q t fm nu)) fm 0 (fCell C 0 fo) := fun e => (h4 e).2.mv m0 (by simp)
  have f5 : k = 5 → hat (va_up ow a 0) (g_up σ a (sC k (kc 0) x0 i f q t fm nu)) fm 0 (fCell C 1 fo) := fun e => (h5 e).2.mv m0 (by simp)
  obtain ⟨σ1, hσ1⟩ : ∃ σ1, σ1 = g_up σ a (sC k (kc 0) x0 i f q t fm nu) := ⟨_, rfl⟩
  obtain ⟨ow1, how1⟩ : ∃ ow1, ow1 = va_up ow a 0 := ⟨_, rfl⟩
  rw [← hσ1, ← how1] at m0 m1 hM1 hL1 ha1 f4 f5
  rw [← hσ1]
  have hN : N < 100000 := by have := hL.2.1; omega
  have hxs : ∀ j, j < ns → ∃ ci fs, ci < 19 ∧ σ1.2 (xs j) = some (.inr (ci, fs)) := fun j hj => by
    obtain ⟨k, i, f, q, t, pr, fo, w⟩ := hL1.2.2 j hj
    exact w.obj
  have hao : ∃ ci fs, ci < 19 ∧ σ1.2 a = some (.inr (ci, fs)) := by
    obtain ⟨ci, fs, e, h2, -⟩ := sC_at k (kc 0) x0 i f q t fm nu
    refine ⟨ci, fs, ?_, ?_⟩
    · simp only [List.mem_cons, List.not_mem_nil, or_false] at h2; omega
    · rw [ha1.1, e]
  have hnN : ns ≤ N := by
    obtain ⟨m, e, -, h2⟩ := hL.1
    rcases h2 with ⟨a, b, c⟩ | ⟨a, f, b, c, d⟩ <;> omega
  have hN10 : N = 0 ∨ 10 ≤ N := by
    obtain ⟨m, e, -, h2⟩ := hL.1
    rcases h2 with ⟨a, b, c⟩ | ⟨a, f, b, c, d⟩ <;> omega
  have hLb := hL.2.1
  by_cases A : z_st C k i (kK C f) (kK C q) t pr fo
  · have key : ∀ (Q : gH → Prop), (∀ ow' σ' xs', hmv [203, 204] ow σ ow' σ' → cM C ow' σ' x0 kk kc → r_lsN ow' σ' (kc 6) 203 204 (lsN N ns) (ns + 1) xs' → (∀ j, j < ns + 1 → ∃ k i f q t pr fo, sP C ow' σ' kc x0 (xs' j) k i f q t pr fo) → cGr C kc x0 ow σ ns xs ow' σ' (ns + 1) xs' → cIn C ow' σ' kc x0 (ns + 1) xs' k i f q t pr fo → Q σ') → ∀ mc ms, (ns = N → 1 ≤ mc) → (ns = N → lsN N ns ≤ ms) → wX7_add Q mc ms (kc 0) (some a) σ1 := by
      intro Q hQ mc ms e1 e2
      refine c_add (A := z_st C k i (kK C f) (kK C q) t pr fo) hM1.1 hM1.2.1 hL1.1 hN hxs hao (hmay ow1 σ1 hM1 ha1 f4 f5) (fun _ => e1) (fun _ => e2) (fun _ ow' σ' n1 n2 => ?_) (fun z => absurd A z)
      have m2 := m1.tr n1
      have sp : sP C ow' σ' kc x0 a k i f q t pr fo := ⟨fm, nu, ha1.mv n1 (by decide), hf, hq, hk, A, fun e => ⟨(h4 e).1, (f4 e).mv n1 (by decide)⟩, fun e => ⟨(h5 e).1, (f5 e).mv n1 (by decide)⟩⟩
      refine hQ ow' σ' _ m2 (hM1.mv n1 (by decide)) n2 (fun j hj => ?_) ⟨by omega, fun k' i' f' q' t' pr' fo' w => ?_⟩ ⟨ns, by omega, by rw [va_up_self]; exact sp⟩
      · by_cases e : j = ns
        · subst e; rw [va_up_self]; exact ⟨k, i, f, q, t, pr, fo, sp⟩
        · rw [va_up_ne _ _ e]
          obtain ⟨k', i', f', q', t', pr', fo', w⟩ := hL.2.2 j (by omega)
          exact ⟨k', i', f', q', t', pr', fo', w.mv m2 (by decide)⟩
      · obtain ⟨j, j1, j2⟩ := w
        exact ⟨j, by omega, by rw [va_up_ne _ _ (by omega)]; exact j2.mv m2 (by decide)⟩
    by_cases eN : ns = N
    · refine ⟨1, lsN N ns, lsN N ns, ns + 1, Nat.le_refl _, ?_, ?_, Nat.le_refl _, fun Q hQ mc ms e1 e2 => key Q (fun ow' σ' xs' a1 a2 a3 a4 a5 a6 => hQ ow' σ' xs' a1 a2 ⟨a3, ?_, a4⟩ a5 (fun _ => a6)) mc ms (fun _ => e1) (fun _ => e2)⟩
      · unfold lsN
        rw [if_neg (by omega)]
        by_cases z : N = 0
        · rw [if_pos z]; omega
        · rw [if_neg z]; omega
      · unfold lsN
        rw [if_neg (by omega)]
        by_cases z : N = 0
        · rw [if_pos z]; omega
        · rw [if_neg z]; omega
      · unfold lsN
        rw [if_neg (by omega)]
        by_cases z : N = 0
        · rw [if_pos z]; omega
        · rw [if_neg z]; omega
    · have e9 : lsN N ns = N := by unfold lsN; rw [if_pos (by omega)]
      rw [e9] at key
      exact ⟨0, 0, N, ns + 1, by omega, by omega, by omega, Nat.le_refl _, fun Q hQ mc ms e1 e2 => key Q (fun ow' σ' xs' a1 a2 a3 a4 a5 a6 => hQ ow' σ' xs' a1 a2 ⟨a3, by omega, a4⟩ a5 (fun _ => a6)) mc ms (fun z => absurd z eN) (fun z => absurd z eN)⟩
  · refine ⟨0, 0, N, ns, by omega, by omega, by omega, by omega, fun Q hQ mc ms e1 e2 => ?_⟩
    refine c_add (A := z_st C k i (kK C f) (kK C q) t pr fo) hM1.1 hM1.2.1 hL1.1 hN hxs hao (hmay ow1 σ1 hM1 ha1 f4 f5) (fun z => absurd z A) (fun z => absurd z A) (fun z => absurd z A) (fun _ => hQ ow1 σ1 xs m1 hM1 hL1 (cGr.mv m0 (by simp)) (fun z => absurd z A))
