/-! PLAIN LAW, the component: all steps -/
set_option maxRecDepth 100000
def cSkR (C : Cf) (ow : Nat → Nat) (σ : gH) (kc : Nat → Nat) (x0 J : Nat) : Prop := ∃ s7, hat ow σ (kc 7) 0 (cQ 8 12 s7) ∧ ∀ i, i < 12 → ∃ b g, s7 i = some b ∧ hat ow σ b (210 + i) (cQ 7 12 g) ∧ (i < J → ∀ m, 1 ≤ m → i + m ≤ C.1 34 → sKp C ow σ kc x0 i m (g m))
theorem cSkR.mv {C : Cf} {T : List Nat} {ow ow' : Nat → Nat} {σ σ' : gH} {kc : Nat → Nat} {x0 J : Nat} (h : cSkR C ow σ kc x0 J) (m : hmv T ow σ ow' σ') (h0 : 0 ∉ T) (ht : ∀ t ∈ T, t < 210 ∨ 222 ≤ t) : cSkR C ow' σ' kc x0 J := by
  obtain ⟨s7, h1, h2⟩ := h
  refine ⟨s7, h1.mv m h0, fun i hi => ?_⟩
  obtain ⟨b, g, a1, a2, a3⟩ := h2 i hi
  exact ⟨b, g, a1, a2.mv m (fun q => by have := ht _ q; omega), fun hJ k k1 k2 => (a3 hJ k k1 k2).mv m h0⟩
/-- the local tables: turning, sticking -/
def cTu (C : Cf) (ow : Nat → Nat) (σ : gH) (a1 a2 : Nat) : Prop := (∃ ft, hat ow σ a1 205 (cI 12 ft) ∧ ∀ i, i + 1 < C.1 34 → ∃ p, p < nK C ∧ ft i = nI p ∧ kK C p = 5 * i + 1) ∧ ∃ fs, hat ow σ a2 0 (cQ 3 12 fs) ∧ ∀ i, i < 12 → ∃ r g, fs i = some r ∧ hat ow σ r (250 + i) (cI 3 g) ∧ (i < C.1 34 → ∀ f, f < C.2 11 0 → C.2 12 (4 * f + 2) = C.2 15 i → ∃ q, q < nK C ∧ g f = nI q ∧ kK C q = 5 * i + 2 + f)
theorem cTu.mv {C : Cf} {T : List Nat} {ow ow' : Nat → Nat} {σ σ' : gH} {a1 a2 : Nat} (h : cTu C ow σ a1 a2) (m : hmv T ow σ ow' σ') (h0 : 0 ∉ T) (h5 : 205 ∉ T) (ht : ∀ t ∈ T, t < 250 ∨ 262 ≤ t) : cTu C ow' σ' a1 a2 := by
  obtain ⟨⟨ft, h1, h2⟩, fs, h3, h4⟩ := h
  refine ⟨⟨ft, h1.mv m h5, h2⟩, fs, h3.mv m h0, fun i hi => ?_⟩
  obtain ⟨r, g, b1, b2, b3⟩ := h4 i hi
  exact ⟨r, g, b1, b2.mv m (fun q => by have := ht _ q; omega), b3⟩
def dLo (C : Cf) (ow : Nat → Nat) (σ : gH) (kc : Nat → Nat) (x0 ns : Nat) (xs : Nat → Nat) (i : Nat) : Prop := ∀ k f q t pr fo, f < nK C → q < nK C → z_st C k i (kK C f) (kK C q) t pr fo → cIn C ow σ kc x0 ns xs k i f q t pr fo
abbrev T34 : List Nat := 203 :: 204 :: List.range' 210 12
theorem memT {t : Nat} : t ∈ T34 ↔ t = 203 ∨ t = 204 ∨ (210 ≤ t ∧ t < 222) := by
  rw [List.mem_cons, List.mem_cons, List.mem_range'_1]
/-- what the steps may take -/
def zU (i : Nat) : Nat := z_su (fun j => 2300 + 560 * j) i
theorem zU_le {i : Nat} (h : i ≤ 12) : zU i ≤ 64560 := by
  have : ∀ n m, n ≤ m → zU n ≤ zU m := by
    intro n m hnm
    induction hnm with
    | refl => exact Nat.le_refl _
    | step _ ih =>
      refine Nat.le_trans ih ?_
      show _ ≤ z_su _ _ + _
      exact Nat.le_add_right _ _
  have e : zU 12 = 64560 := by decide
  rw [← e]
  exact this i 12 h
theorem ln_le {ow : Nat → Nat} {σ : gH} {l tl te N n : Nat} {x : Nat → Nat} (h : r_lsN ow σ l tl te N n x) : n ≤ N := by
  obtain ⟨m, e, -, h2⟩ := h
  rcases h2 with ⟨a, b, c⟩ | ⟨a, f, b, c, d⟩ <;> omega
section K2
variable {C : Cf} {Q : gH → Prop} {ow : Nat → Nat} {σ : gH} {x0 mc ms : Nat} {kk kc xs : Nat → Nat}
theorem c_knots2 {a1 a2 uc us N ns : Nat} (ok : z_ok C) (hM : cM C ow σ x0 kk kc) (hL : cL C ow σ kc x0 N ns xs) (hns : ns = 0) (hS : cSkR C ow σ kc x0 0) (hT : cTu C ow σ a1 a2) (hu : uc + 1800 ≤ mc) (hs : us + 65000 ≤ ms)
    (w : ∀ ow' σ' N' ns' xs', hmv T34 ow σ ow' σ' → cM C ow' σ' x0 kk kc → cL C ow' σ' kc x0 N' ns' xs' → ns' ≤ 420 → (∀ i, i ≤ C.1 34 → dLo C ow' σ' kc x0 ns' xs' i) → cSkR C ow' σ' kc x0 (C.1 34) → Q σ') : ∃ fu, wX7_knots_193 Q mc ms (fun (uc_12 : Nat) (us_13 : Nat) (σ_11 : gH) => Q σ_11) fu uc us (kc 0) a1 a2 0 σ := by
  have o := ok.1
  refine pk_loop (σ := Nat × Nat × gH) (fun n i st => wX7_knots_193 Q mc ms _ n st.1 st.2.1 (kc 0) a1 a2 (nI i) st.2.2) (fun i st => ∃ ow' N' ns' xs', hmv T34 ow σ ow' st.2.2 ∧ cM C ow' st.2.2 x0 kk kc ∧ cL C ow' st.2.2 kc x0 N' ns' xs' ∧ ns' ≤ 35 * i ∧ (∀ i', i' < i → dLo C ow' st.2.2 kc x0 ns' xs' i') ∧ cSkR C ow' st.2.2 kc x0 i ∧ st.1 ≤ uc + 150 * i ∧ st.2.1 ≤ us + zU i) (C.1 34 + 1) 0 (uc, us, σ) (by omega) ⟨ow, N, ns, xs, hmv.rf, hM, hL, by omega, fun i hi => by omega, hS, Nat.le_refl _, Nat.le_refl _⟩ ?_ ?_
  · rintro n ⟨u, s, σ1⟩ ⟨ow1, N1, ns1, xs1, m1, hM1, hL1, b1, d1, k1, -, -⟩
    simp only at *
    have hM1' := hM1
    obtain ⟨he, hch, -⟩ := hM1
    simp only [wX7_knots_193]
    refine i_I hch.1 (by decide) rfl (br_p (nI_lt (by omega) (by omega)) (w ow1 σ1 N1 ns1 xs1 m1 hM1' hL1 (by omega) (fun i hi => d1 i (by omega)) ?_))
    obtain ⟨s7, c1, c2⟩ := k1
    refine ⟨s7, c1, fun i hi => ?_⟩
    obtain ⟨b, g, e1, e2, e3⟩ := c2 i hi
    exact ⟨b, g, e1, e2, fun h => e3 (by omega)⟩
  · rintro n i ⟨u, s, σ1⟩ hi ⟨ow1, N1, ns1, xs1, m1, hM1, hL1, b1, d1, k1, bu, bs⟩ hs1
    simp only at *
    have hch := hM1.2.1
    have uB := zU_le (i := i) (by omega)
    have uB2 := zU_le (i := i + 1) (by omega)
    have uE : zU (i + 1) = zU i + (2300 + 560 * i) := rfl
    have lb1 := hL1.2.1
    have ln1 := ln_le hL1.1
    simp only [wX7_knots_193]
    refine i_I hch.1 (by decide) rfl (br_n (nI_nlt (by omega) (by omega)) (c_lost ok hM1 hL1 (by omega) (by omega) (by omega) (by omega) (fun u2 s2 ow2 σ2 N2 ns2 xs2 h2 d2 => ?_)))
    obtain ⟨m2, hM2, hL2, g2, c1, c2, c3⟩ := h2
    have lb2 := hL2.2.1
    have ln2 := ln_le hL2.1
    have t2 : ∀ t ∈ [203, 204], t ∈ T34 := by intro t ht; rw [memT]; simp only [List.mem_cons, List.not_mem_nil, or_false] at ht; omega
    have k2 := k1.mv m2 (by decide) (by decide)
    have m12 := m1.tr (m2.sub t2)
    have hT2 := hT.mv m12 (by rw [memT]; omega) (by rw [memT]; omega) (by intro t ht; rw [memT] at ht; omega)
    -- the end of a place
    have fin : ∀ u4 s4 ow4 σ4 N4 ns4 xs4, hmv T34 ow σ ow4 σ4 → cM C ow4 σ4 x0 kk kc → cL C ow4 σ4 kc x0 N4 ns4 xs4 → cGr C kc x0 ow2 σ2 ns2 xs2 ow4 σ4 ns4 xs4 → (i < C.1 34 → dSi C ow4 σ4 kc x0 ns4 xs4 i) → (i + 1 < C.1 34 → dPa C ow4 σ4 kc x0 ns4 xs4 i) → cSkR C ow4 σ4 kc x0 (i + 1) → ns4 ≤ ns1 + 35 → u4 ≤ u + 150 → s4 ≤ us + zU (i + 1) → wX7_knots_287 Q mc ms (wX7_knots_193 Q mc ms (fun (uc_12 : Nat) (us_13 : Nat) (σ_11 : gH) => Q σ_11) n) (fun (uc_12 : Nat) (us_13 : Nat) (σ_11 : gH) => Q σ_11) u4 s4 (kc 0) a1 a2 (nI i) σ4 := by
      intro u4 s4 ow4 σ4 N4 ns4 xs4 n1 n2 n3 n4 n5 n6 n7 n8 n9 n10
      unfold wX7_knots_287
      rw [nI_1]
      refine al_eq (hs1 (u4, s4, σ4) ⟨ow4, N4, ns4, xs4, n1, n2, n3, by omega, fun i' hi' => ?_, n7, by show u4 ≤ _; omega, n10⟩)
      by_cases e : i' = i
      · subst e
        intro k f q t pr fo hf hq hst
        have hst' := hst
        rcases hst with y | y | y | y | y | y | y | y
        · obtain ⟨rfl, y2, y3, y4, y5, rfl, y7, y8⟩ := y
          have := (kK_kn ok).inj hf hq (by omega)
          subst this
          rw [← y7] at y8 ⊢
          exact n4.2 _ _ _ _ _ _ _ (d2 t f y5 hf y3 y8)
        · exact n5 y.2.1 k f q t pr fo hf hq hst' y.2.1 (Or.inr (Or.inr ⟨y.1, y.2.2.2.1⟩))
        · exact n5 y.2.1 k f q t pr fo hf hq hst' y.2.1 (Or.inl y.1)
        · exact n5 y.2.1 k f q t pr fo hf hq hst' y.2.1 (Or.inr (Or.inl y.1))
        · exact n5 y.2.1 k f q t pr fo hf hq hst' y.2.1 (Or.inr (Or.inr ⟨y.1, y.2.2.2.1⟩))
        · exact n6 y.2.1 k f q t pr fo hf hq hst' y.2.1 (Or.inl y.1)
        · exact n6 y.2.1 k f q t pr fo hf hq hst' y.2.1 (Or.inr (Or.inr ⟨y.1, y.2.2.2.2.1⟩))
        · exact n6 y.2.1 k f q t pr fo hf hq hst' y.2.1 (Or.inr (Or.inl y.1))
      · intro k f q t pr fo hf hq hst
        exact n4.2 _ _ _ _ _ _ _ (g2.2 _ _ _ _ _ _ _ (d1 i' (by omega) k f q t pr fo hf hq hst))
    -- from the pairs on
    have pairs : ∀ u3 s3 ow3 σ3 N3 ns3 xs3, hmv T34 ow σ ow3 σ3 → cM C ow3 σ3 x0 kk kc → cL C ow3 σ3 kc x0 N3 ns3 xs3 → cGr C kc x0 ow2 σ2 ns2 xs2 ow3 σ3 ns3 xs3 → (i < C.1 34 → dSi C ow3 σ3 kc x0 ns3 xs3 i) → cSkR C ow3 σ3 kc x0 (i + 1) → ns3 ≤ ns1 + 30 → u3 ≤ u + 124 → s3 + 4 * ns3 + 500 ≤ us + zU (i + 1) → wX7_knots_269 Q mc ms (wX7_knots_193 Q mc ms (fun (uc_12 : Nat) (us_13 : Nat) (σ_11 : gH) => Q σ_11) n) (fun (uc_12 : Nat) (us_13 : Nat) (σ_11 : gH) => Q σ_11) u3 s3 (kc 0) a1 a2 (nI i) σ3 := by
      intro u3 s3 ow3 σ3 N3 ns3 xs3 n1 n2 n3 n4 n5 n6 n7 n8 n9
      unfold wX7_knots_269
      rw [show nI i + 1 = nI (i + 1) from nI_1 i]
      refine i_I n2.2.1.1 (by decide) rfl ?_
      refine pk_le (C.1 34) (i + 1) (fun e => fin u3 s3 ow3 σ3 N3 ns3 xs3 n1 n2 n3 n4 n5 (fun z => by omega) n6 (by omega) (by omega) (by omega)) (fun e => ?_) rfl rfl (by omega) (by omega)
      have hT3 := hT.mv n1 (by rw [memT]; omega) (by rw [memT]; omega) (by intro t ht; rw [memT] at ht; omega)
      obtain ⟨⟨ft, f1, f2⟩, -⟩ := hT3
      obtain ⟨tu, tu1, tu2, tu3⟩ := f2 i e
      have ln3 := ln_le n3.1
      refine i_aI f1.1 rfl (by omega) (by decide) ⟨_, n2.2.1.1, 20, 8 * ns3 + 500 - 4 * N3, by omega, by omega, ?_⟩
      rw [tu2]
      refine c_pair ok n2 n3 e (by omega) (Nat.le_refl _) (by omega) tu1 tu3 (fun ow4 σ4 N4 ns4 xs4 o1 o2 o3 o4 o5 o6 => ?_)
      refine fin _ _ ow4 σ4 N4 ns4 xs4 (n1.tr (o1.sub t2)) o2 o3 (n4.tr o4) (fun h => ?_) (fun _ => o6) (n6.mv o1 (by decide) (by decide)) (by omega) (by omega) (by omega)
      intro k f q t pr fo hf hq hst h1 h2
      exact o4.2 _ _ _ _ _ _ _ (n5 h k f q t pr fo hf hq hst h1 h2)
    refine i_I hM2.2.1.1 (by decide) rfl ?_
    refine pk_le (C.1 34) i (fun e => pairs u2 s2 ow2 σ2 N2 ns2 xs2 m12 hM2 hL2 ⟨Nat.le_refl _, fun _ _ _ _ _ _ _ w => w⟩ (fun z => by omega) ?_ (by omega) (by omega) (by omega)) (fun e => ?_) rfl rfl (by omega) (by omega)
    · obtain ⟨s7, e1, e2⟩ := k2
      refine ⟨s7, e1, fun j hj => ?_⟩
      obtain ⟨b, g, e3, e4, e5⟩ := e2 j hj
      refine ⟨b, g, e3, e4, fun h m hm1 hm2 => ?_⟩
      by_cases ej : j < i
      · exact e5 ej m hm1 hm2
      · omega
    · obtain ⟨-, fs, f1, f2⟩ := hT2
      obtain ⟨r, g, r1, r2, r3⟩ := f2 i (by omega)
      have k2' := k2
      obtain ⟨s7, e1, e2⟩ := k2'
      obtain ⟨b7, g7, e3, e4, e5⟩ := e2 i (by omega)
      refine i_aR f1.1 rfl (by omega) (by decide) ⟨_, hM2.2.1.1, 100, 8 * ns2 + 1000 - 4 * N2, by omega, by omega, ?_⟩
      rw [r1]
      refine c_single ok hM2 hL2 e (by omega) (Nat.le_refl _) (by omega) r2 (r3 e) e1 e3 e4 (fun ow3 σ3 N3 ns3 xs3 g3 o1 o2 o3 o4 o5 o6 o7 o8 => ?_)
      have ti : ∀ t ∈ [203, 204, 210 + i], t ∈ T34 := by intro t ht; rw [memT]; simp only [List.mem_cons, List.not_mem_nil, or_false] at ht; omega
      have n0 : 0 ∉ [203, 204, 210 + i] := by simp only [List.mem_cons, List.not_mem_nil, or_false]; omega
      refine pairs _ _ ow3 σ3 N3 ns3 xs3 (m12.tr (o1.sub ti)) o2 o3 o4 (fun _ => o6) ?_ (by omega) (by omega) (by omega)
      refine ⟨s7, e1.mv o1 n0, fun j hj => ?_⟩
      by_cases ej : j = i
      · subst ej
        exact ⟨b7, g3, e3, o7, fun _ => o8⟩
      · obtain ⟨b, g, e6, e7, e8⟩ := e2 j hj
        exact ⟨b, g, e6, e7.mv o1 (by simp only [List.mem_cons, List.not_mem_nil, or_false]; omega), fun h m hm1 hm2 => (e8 (by omega) m hm1 hm2).mv o1 n0⟩
end K2
