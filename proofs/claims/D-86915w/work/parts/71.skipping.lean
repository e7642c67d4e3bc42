/-! PLAIN LAW, the component: skipping -/
set_option maxRecDepth 100000
theorem zmk (I F x s k : Nat) (hF : I ≤ F) (hx : x ≤ I) (hk : k ≠ I → s + k < I) : min (if x = I then F else x) (s + (if k = I then F else k)) = (if min x (min I (s + k)) = I then F else min x (min I (s + k))) := by
  by_cases z : k = I
  · rw [if_pos z, z, show min x (min I (s + I)) = x by omega]
    by_cases z2 : x = I
    · rw [if_pos z2]; omega
    · rw [if_neg z2]; omega
  · have := hk z
    rw [if_neg z]
    by_cases z2 : x = I
    · rw [if_pos z2, if_neg (by omega)]; omega
    · rw [if_neg z2, if_neg (by omega)]; omega
/-- a price as a long: never is 2^60 -/
def zc (v : Nat) : Nat := if v = 1000000000 then 1152921504606846976 else v
theorem zc_0 : zc 0 = 0 := by unfold zc; rw [if_neg (by decide)]
theorem zc_I : zc 1000000000 = 1152921504606846976 := by unfold zc; rw [if_pos rfl]
def cSg (C : Cf) (ow : Nat → Nat) (σ : gH) (kc : Nat → Nat) (D : Nat → Nat → Prop) : Prop := ∃ s8, hat ow σ (kc 8) 0 (cQ 4 12 s8) ∧ ∀ i, i < 12 → ∃ b g, s8 i = some b ∧ hat ow σ b (230 + i) (cJ 12 g) ∧ ∀ j, D i j → g j = lN (zc (z_k C i j))
theorem cSg.mv {C : Cf} {T : List Nat} {ow ow' : Nat → Nat} {σ σ' : gH} {kc : Nat → Nat} {D : Nat → Nat → Prop} (h : cSg C ow σ kc D) (m : hmv T ow σ ow' σ') (h0 : 0 ∉ T) (ht : ∀ t ∈ T, t < 230 ∨ 242 ≤ t) : cSg C ow' σ' kc D := by
  obtain ⟨s8, h1, h2⟩ := h
  refine ⟨s8, h1.mv m h0, fun i hi => ?_⟩
  obtain ⟨b, g, a1, a2, a3⟩ := h2 i hi
  exact ⟨b, g, a1, a2.mv m (fun q => by have := ht _ q; omega), a3⟩
theorem cSg.sub {C : Cf} {ow : Nat → Nat} {σ : gH} {kc : Nat → Nat} {D D' : Nat → Nat → Prop} (h : cSg C ow σ kc D) (hd : ∀ i j, D' i j → D i j) : cSg C ow σ kc D' := by
  obtain ⟨s8, h1, h2⟩ := h
  refine ⟨s8, h1, fun i hi => ?_⟩
  obtain ⟨b, g, a1, a2, a3⟩ := h2 i hi
  exact ⟨b, g, a1, a2, fun j hj => a3 j (hd i j hj)⟩
abbrev TSg : List Nat := List.range' 230 12
theorem memSg {t : Nat} : t ∈ TSg ↔ 230 ≤ t ∧ t < 242 := by rw [List.mem_range'_1]
/-- a place of the table is written -/
theorem cSg.put {C : Cf} {ow : Nat → Nat} {σ : gH} {kc : Nat → Nat} {D D' : Nat → Nat → Prop} {s8 : Nat → Option Nat} {i b j : Nat} {g : Nat → Int64} {v : Int64} (h : cSg C ow σ kc D) (h1 : hat ow σ (kc 8) 0 (cQ 4 12 s8)) (hi : i < 12) (hb : s8 i = some b) (hg : hat ow σ b (230 + i) (cJ 12 g)) (hD : ∀ i' j', D' i' j' → (i' = i ∧ j' = j ∧ v = lN (zc (z_k C i j))) ∨ (¬ (i' = i ∧ j' = j) ∧ D i' j')) : hmv TSg ow σ ow (g_up σ b (cJ 12 (vp_updL g j v))) ∧ cSg C ow (g_up σ b (cJ 12 (vp_updL g j v))) kc D' := by
  obtain ⟨s8', k1, k2⟩ := h
  have e := k1.1.symm.trans h1.1
  have es : s8' = s8 := by
    simp at e
    exact e
  subst es
  refine ⟨hmv.rf.up hg (by rw [memSg]; omega) rfl, s8', k1.up hg (by omega), fun i' hi' => ?_⟩
  obtain ⟨b', g', a1, a2, a3⟩ := k2 i' hi'
  by_cases e : i' = i
  · subst e
    have eb : b' = b := by rw [a1] at hb; cases hb; rfl
    subst eb
    have eg : g' = g := by
      have := a2.1.symm.trans hg.1
      simp at this
      exact this
    subst eg
    refine ⟨b', _, a1, hg.set, fun j' hj' => ?_⟩
    by_cases ej : j' = j
    · subst ej
      rw [updL_s]
      rcases hD _ _ hj' with z | z
      · exact z.2.2
      · exact absurd ⟨rfl, rfl⟩ z.1
    · rw [updL_n _ _ ej]
      rcases hD _ _ hj' with z | z
      · exact absurd z.2.1 ej
      · exact a3 j' z.2
  · refine ⟨b', g', a1, a2.up hg (by omega), fun j' hj' => ?_⟩
    rcases hD _ _ hj' with z | z
    · exact absurd z.1 e
    · exact a3 j' z.2
theorem cSg.rd {C : Cf} {ow : Nat → Nat} {σ : gH} {kc : Nat → Nat} {D : Nat → Nat → Prop} (h : cSg C ow σ kc D) {s8 : Nat → Option Nat} (h1 : σ.2 (kc 8) = some (cQ 4 12 s8)) {i : Nat} (hi : i < 12) : ∃ b g, s8 i = some b ∧ hat ow σ b (230 + i) (cJ 12 g) ∧ ∀ j, D i j → g j = lN (zc (z_k C i j)) := by
  obtain ⟨s8', k1, k2⟩ := h
  have e := k1.1.symm.trans h1
  have es : s8' = s8 := by
    simp at e
    exact e
  subst es
  exact k2 i hi
section SKP
variable {C : Cf} {Q : gH → Prop} {ow : Nat → Nat} {σ : gH} {x0 : Nat} {kk kc : Nat → Nat}
theorem sp_price {i m : Nat} (h : z_sp C i m ≠ 1000000000) : z_sp C i m = sPr C (if m = 1 then 6 else 7) i (C.2 15 i) m := by
  unfold z_sp at h ⊢
  by_cases e : z_may C (if m = 1 then 6 else 7) i m (if m = 1 then 0 else m) = true
  · rw [if_pos e]
    by_cases e2 : m = 1
    · rw [if_pos e2, if_pos e2]; rfl
    · rw [if_neg e2, if_neg e2]; rfl
  · rw [if_neg e] at h; exact absurd rfl h
/-- the price of a skip -/
theorem skp_price {Q : Int32 → Prop} {i m a f q : Nat} (ok : z_ok C) (hM : cM C ow σ x0 kk kc) (hi : i < C.1 34) (h : hat ow σ a 0 (sC (if m = 1 then 6 else 7) (kc 0) x0 i f q (C.2 15 i) 0 m)) (hp : z_sp C i m ≠ 1000000000) (w : Q (nI (z_sp C i m))) : vX8_price σ Q a := by
  rw [sp_price hp] at w
  have bt := ok.2.2.2.1 i hi
  by_cases e : m = 1
  · rw [if_pos e] at h w
    exact hp_price ok (hM.1.raw hM.2.1.1) (by decide) h.1 bt (fun z => by omega) ⟨fun z => by omega, fun z => by omega⟩ w
  · rw [if_neg e] at h w
    exact hp_price ok (hM.1.raw hM.2.1.1) (by decide) h.1 bt (fun z => by omega) ⟨fun z => by omega, fun z => by omega⟩ w
theorem c_sk40 {K : Nat → Int32 → Int32 → gH → Prop} {i j : Nat} (ok : z_ok C) (hM : cM C ow σ x0 kk kc) (hR : cSkR C ow σ kc x0 (C.1 34)) {D : Nat → Nat → Prop} (hij : i < j) (hj : j ≤ C.1 34) (hS : cSg C ow σ kc D) (hD : ∀ m, i < m → m ≤ j → D m j) (hD2 : ∀ i' j', D i' j' → ¬ (i' = i ∧ j' = j)) {s8 : Nat → Option Nat} {b : Nat} {g : Nat → Int64} (h8 : hat ow σ (kc 8) 0 (cQ 4 12 s8)) (hb : s8 i = some b) (hg : hat ow σ b (230 + i) (cJ 12 g)) (hg0 : g j = lN 1152921504606846976)
    (w : ∀ ow' σ', hmv TSg ow σ ow' σ' → cSg C ow' σ' kc (fun i' j' => D i' j' ∨ (i' = i ∧ j' = j)) → K (kc 0) (nI j) (nI i) σ') : ∃ fu, wX7_skipping_40 Q K fu (kc 0) (nI j) (nI i) 1 σ := by
  have o := ok.1
  refine pk_loop (σ := gH) (fun n d σ' => wX7_skipping_40 Q K n (kc 0) (nI j) (nI i) (nI (d + 1)) σ') (fun d σ' => hmv TSg ow σ ow σ' ∧ cSg C ow σ' kc D ∧ ∃ g', hat ow σ' b (230 + i) (cJ 12 g') ∧ g' j = lN (zc (z_mn (z_kF C i j) 1000000000 d))) (j - i) 0 σ (by omega) ⟨hmv.rf, hS, g, hg, by rw [hg0, show z_mn (z_kF C i j) 1000000000 0 = 1000000000 from rfl, zc_I]⟩ ?_ ?_
  · rintro n σ1 ⟨m1, hS1, g1, hg1, eg1⟩
    simp only [wX7_skipping_40]
    rw [show nI i + nI (j - i + 1) = nI (j + 1) by rw [nI_add]; congr 1; omega]
    refine br_p (nI_lt (by omega) (by omega)) (w ow σ1 m1 ?_)
    rw [← z_k_eqF C hij] at eg1
    have h81 := h8.mv m1 (by rw [memSg]; omega)
    obtain ⟨s8', k1, k2⟩ := hS1
    have es : s8' = s8 := by
      have e := k1.1.symm.trans h81.1
      simp at e
      exact e
    subst es
    refine ⟨s8', k1, fun i' hi' => ?_⟩
    obtain ⟨b', g', c1, c2, c3⟩ := k2 i' hi'
    refine ⟨b', g', c1, c2, fun j' hj' => ?_⟩
    rcases hj' with z | ⟨rfl, rfl⟩
    · exact c3 j' z
    · have eb : b' = b := by rw [c1] at hb; cases hb; rfl
      subst eb
      have eg : g' = g1 := by
        have := c2.1.symm.trans hg1.1
        simp at this
        exact this
      subst eg
      exact eg1
  · rintro n d σ1 hd ⟨m1, hS1, g1, hg1, eg1⟩ hs1
    have hM1 := hM.mv m1 (by intro t ht; rw [memSg] at ht; omega)
    have hR1 := hR.mv m1 (by rw [memSg]; omega) (by intro t ht; rw [memSg] at ht; omega)
    have h81 := h8.mv m1 (by rw [memSg]; omega)
    obtain ⟨s7, r1, r2⟩ := hR1
    obtain ⟨b7, g7, r3, r4, r5⟩ := r2 i (by omega)
    have sk := r5 (by omega) (d + 1) (by omega) (by omega)
    simp only [wX7_skipping_40]
    rw [show nI i + nI (d + 1) = nI (i + (d + 1)) from nI_add _ _]
    have e0 : z_mn (z_kF C i j) 1000000000 (d + 1) = min (z_mn (z_kF C i j) 1000000000 d) (z_kF C i j d) := rfl
    have e1 : z_kF C i j d = min 1000000000 (z_sp C i (d + 1) + z_k C (i + (d + 1)) j) := rfl
    have bm := z_mn_b (z_kF C i j) 1000000000 d
    have kb := z_k_bd2 ok (i := i + (d + 1)) (j := j) (by omega) hj
    have sb := z_sp_bd ok (i := i) (m := d + 1) (by omega) (by omega)
    refine br_n (nI_nlt (by omega) (by omega)) (i_R hM1.2.1.1 (by decide) rfl ⟨_, rfl, i_aR r1.1 rfl (by omega) (by decide) ⟨b7, r3, i_aR r4.1 rfl (by omega) (by decide) ?_⟩⟩)
    rcases sk with ⟨k1, k2⟩ | ⟨a, f, q, k1, k2, k3⟩
    · refine br_p k1 ?_
      unfold wX7_skipping_100
      rw [nI_1]
      exact al_eq (hs1 σ1 ⟨m1, hS1, g1, hg1, by rw [eg1]; congr 2; omega⟩)
    · refine br_n (by rw [k1]; simp) ?_
      obtain ⟨b2, g2, c1, c2, c3⟩ := hS1.rd h81.1 (i := i + (d + 1)) (by omega)
      have v2 := c3 j (hD _ (by omega) (by omega))
      refine i_R hM1.2.1.1 (by decide) rfl ⟨_, rfl, i_aR h81.1 rfl (by omega) (by decide) (i_R hM1.2.1.1 (by decide) rfl ⟨_, rfl, i_aR h81.1 rfl (by omega) (by decide) ⟨b, hb, i_aJ hg1.1 rfl (by omega) (by decide) (i_R hM1.2.1.1 (by decide) rfl ⟨_, rfl, i_aR r1.1 rfl (by omega) (by decide) ⟨b7, r3, i_aR r4.1 rfl (by omega) (by decide) ⟨a, k1, skp_price ok hM1 (by omega) k3 k2 (i_R hM1.2.1.1 (by decide) rfl ⟨_, rfl, i_aR h81.1 rfl (by omega) (by decide) ⟨b2, c1, i_aJ c2.1 rfl (by omega) (by decide) ?_⟩⟩)⟩⟩⟩)⟩⟩)⟩
      rw [eg1, v2, nI_l (by omega), lN_add, hb]
      have fin : ∀ v, v = zc (z_mn (z_kF C i j) 1000000000 (d + 1)) → c_sJ σ1 b (nI j) (lN v) (fun σ_51 => wX7_skipping_100 Q (wX7_skipping_40 Q K n) K (kc 0) (nI j) (nI i) (nI (d + 1)) σ_51) := by
        intro v hv
        refine i_sJ hg1.1 rfl (by omega) (by decide) ?_
        obtain ⟨p1, p2⟩ := hS1.put (v := lN v) (j := j) (D' := D) h81 (by omega) hb hg1 (fun i' j' h => Or.inr ⟨hD2 i' j' h, h⟩)
        unfold wX7_skipping_100
        rw [nI_1]
        exact al_eq (hs1 _ ⟨m1.tr p1, p2, _, hg1.set, by rw [updL_s, hv]⟩)
      have hz : zc (z_mn (z_kF C i j) 1000000000 d) ≤ 1152921504606846976 := by
        unfold zc
        by_cases z : z_mn (z_kF C i j) 1000000000 d = 1000000000
        · rw [if_pos z]; omega
        · rw [if_neg z]; omega
      have key : min (zc (z_mn (z_kF C i j) 1000000000 d)) (z_sp C i (d + 1) + zc (z_k C (i + (d + 1)) j)) = zc (z_mn (z_kF C i j) 1000000000 (d + 1)) := by
        rw [e0, e1]
        exact zmk 1000000000 1152921504606846976 _ _ _ (by omega) (by omega) (by omega)
      have zb : z_sp C i (d + 1) + zc (z_k C (i + (d + 1)) j) < 4611686018427387904 := by
        unfold zc
        by_cases z : z_k C (i + (d + 1)) j = 1000000000
        · rw [if_pos z]; omega
        · rw [if_neg z]; omega
      unfold wJ4_min_2
      rw [pk_lLT (by omega) (by omega)]
      exact ⟨fun z => ⟨b, rfl, fin _ (by omega)⟩, fun z => ⟨b, rfl, fin _ (by omega)⟩⟩
theorem c_skipping (ok : z_ok C) (hM : cM C ow σ x0 kk kc) (hR : cSkR C ow σ kc x0 (C.1 34)) (hS : cSg C ow σ kc (fun _ _ => False)) (w : ∀ ow' σ', hmv TSg ow σ ow' σ' → cSg C ow' σ' kc (fun i j => i ≤ j ∧ j ≤ C.1 34) → Q σ') : wX7_skipping Q (kc 0) σ := by
  have o := ok.1
  have T2 : ∀ t ∈ TSg, 202 ≤ t := by intro t ht; rw [memSg] at ht; omega
  have T3 : ∀ t ∈ TSg, t < 210 ∨ 222 ≤ t := by intro t ht; rw [memSg] at ht; omega
  have T0 : 0 ∉ TSg := by rw [memSg]; omega
  unfold wX7_skipping
  refine pk_loop (σ := gH) (fun n j σ' => wX7_skipping_2 Q _ n (kc 0) (nI j) σ') (fun j σ' => ∃ ow', hmv TSg ow σ ow' σ' ∧ cSg C ow' σ' kc (fun i' j' => i' ≤ j' ∧ j' < j)) (C.1 34 + 1) 0 σ (by omega) ⟨ow, hmv.rf, hS.sub (fun i j h => by omega)⟩ ?_ ?_
  · rintro n σ1 ⟨ow1, m1, hS1⟩
    have hM1 := hM.mv m1 T2
    simp only [wX7_skipping_2]
    exact i_I hM1.2.1.1 (by decide) rfl (br_p (nI_lt (by omega) (by omega)) (w ow1 σ1 m1 (hS1.sub (fun i j h => by omega))))
  · rintro n j σ1 hj ⟨ow1, m1, hS1⟩ hs1
    have hM1 := hM.mv m1 T2
    have hS1' := hS1
    obtain ⟨s8, k1, k2⟩ := hS1
    obtain ⟨b, g, c1, c2, c3⟩ := k2 j (by omega)
    simp only [wX7_skipping_2]
    refine i_I hM1.2.1.1 (by decide) rfl (br_n (nI_nlt (by omega) (by omega)) (i_R hM1.2.1.1 (by decide) rfl ⟨_, rfl, i_aR k1.1 rfl (by omega) (by decide) ⟨b, c1, i_sJ c2.1 rfl (by omega) (by decide) ?_⟩⟩))
    obtain ⟨p1, p2⟩ := hS1'.put (v := 0) (j := j) (D' := fun i' j' => (i' ≤ j' ∧ j' < j) ∨ (j' = j ∧ j ≤ i' ∧ i' ≤ j)) k1 (by omega) c1 c2 (fun i' j' h => by
      rcases h with h | h
      · exact Or.inr ⟨by omega, h⟩
      · refine Or.inl ⟨by omega, by omega, ?_⟩
        rw [z_k_self, zc_0]; exact l0)
    refine al_eq ⟨j + 1, pk_loopD (σ := gH) (fun n e σ' => wX7_skipping_23 Q _ n (kc 0) (nI j) (nI e - 1) σ') (fun e σ' => e ≤ j ∧ ∃ ow', hmv TSg ow σ ow' σ' ∧ cSg C ow' σ' kc (fun i' j' => (i' ≤ j' ∧ j' < j) ∨ (j' = j ∧ e ≤ i' ∧ i' ≤ j))) ?_ ?_ j _ ⟨Nat.le_refl _, ow1, m1.tr p1, p2⟩⟩
    · rintro n σ2 ⟨-, ow2, m2, hS2⟩
      simp only [wX7_skipping_23]
      rw [nI_0m1]
      refine br_p (by decide) ?_
      rw [nI_1]
      exact al_eq (hs1 σ2 ⟨ow2, m2, hS2.sub (fun i' j' h => by omega)⟩)
    · rintro n i σ2 ⟨hij, ow2, m2, hS2⟩ hs2
      have hM2 := hM.mv m2 T2
      have hR2 := hR.mv m2 T0 T3
      have hS2' := hS2
      obtain ⟨s8', k1', k2'⟩ := hS2
      obtain ⟨b', g', c1', c2', c3'⟩ := k2' i (by omega)
      simp only [wX7_skipping_23]
      rw [nI_pred]
      refine br_n (nI_pos (by omega)) (i_R hM2.2.1.1 (by decide) rfl ⟨_, rfl, i_aR k1'.1 rfl (by omega) (by decide) ⟨b', c1', i_sJ c2'.1 rfl (by omega) (by decide) ?_⟩⟩)
      obtain ⟨q1, q2⟩ := hS2'.put (v := 1152921504606846976) (j := j) (D' := fun i' j' => (i' ≤ j' ∧ j' < j) ∨ (j' = j ∧ i + 1 ≤ i' ∧ i' ≤ j)) k1' (by omega) c1' c2' (fun i' j' h => Or.inr ⟨by omega, h⟩)
      refine c_sk40 ok (hM2.mv q1 T2) (hR2.mv q1 T0 T3) (by omega) (by omega) q2 (fun m a b => Or.inr ⟨rfl, by omega, b⟩) (fun i' j' h => by omega) (k1'.mv q1 T0) c1' c2'.set (by rw [updL_s]; exact lF) (fun ow3 σ3 n1 n2 => ?_)
      rw [nI_m1]
      exact al_eq (hs2 σ3 ⟨by omega, ow3, (m2.tr q1).tr n1, n2.sub (fun i' j' h => by omega)⟩)
end SKP
