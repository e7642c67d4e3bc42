/-! PLAIN LAW, the component: what reads makes anew -/
set_option maxRecDepth 100000
section HLP
variable {C : Cf} {ow ow' : Nat → Nat} {σ σ' : gH} {x0 : Nat} {kk kc : Nat → Nat} {N : Nat} {st : St}
/-- a list is cleared -/
theorem ln_clear {Q : gH → Prop} {l tl te n : Nat} {x : Nat → Nat} (h : r_lsN ow σ l tl te N n x) (ht : tl ≠ te) (hN : N < 100000) (w : ∀ σ', hmv [tl, te] ow σ ow σ' → r_lsN ow σ' l tl te N 0 (fun _ => 0) → Q σ') : ∃ fs : List Value, σ.2 l = some (.inr (18, fs)) ∧ wJ2_clear Q l σ := by
  obtain ⟨m, e, h1, h2⟩ := h
  refine ⟨_, h1.1, ?_⟩
  unfold wJ2_clear
  refine i_I h1.1 (by decide) rfl (i_Pf [.int (m + 1), .ref e, .int (nI n)] h1.1 (by decide) rfl (by simp) ?_)
  have k1 := h1.set (x := cO 18 [.int (m + 1), .ref e, .int (nI n)])
  refine i_R k1.1 (by decide) rfl (i_I k1.1 (by decide) rfl (i_Pf [.int (m + 1), .ref e, .int 0] k1.1 (by decide) rfl (by simp) ?_))
  rw [g_up_up]
  have m1 : hmv [tl, te] ow σ ow (g_up σ l (cO 18 [.int (m + 1), .ref e, .int 0])) := hmv.rf.up h1 (by simp) rfl
  have k2 := h1.set (x := cO 18 [.int (m + 1), .ref e, .int 0])
  rcases h2 with ⟨e1, e2, e3⟩ | ⟨e1, f, e2, e3, e4⟩
  · subst e3
    refine ⟨1, ?_⟩
    simp only [wJ2_clear_27]
    exact br_p (nI_le (Nat.le_refl _) (by decide)) (w _ m1 ⟨m + 1, e, k2, Or.inl ⟨e1, e2, rfl⟩⟩)
  · have e2' := e2.up h1 (x := cO 18 [.int (m + 1), .ref e, .int 0]) (fun z => ht z.symm)
    obtain ⟨σ1, hσ1⟩ : ∃ σ1, σ1 = g_up σ l (cO 18 [.int (m + 1), .ref e, .int 0]) := ⟨_, rfl⟩
    rw [← hσ1] at m1 k2 e2' ⊢
    refine pk_loop (σ := gH) (fun k i σ' => wJ2_clear_27 Q _ k (some e) (nI n) (nI i) σ') (fun i σ' => ∃ f', hmv [tl, te] ow σ ow σ' ∧ hat ow σ' l tl (cO 18 [.int (m + 1), .ref e, .int 0]) ∧ hat ow σ' e te (cQ 9 N f')) n 0 σ1 (by omega) ⟨f, m1, k2, e2'⟩ ?_ ?_
    · rintro k σ2 ⟨f', m2, q1, q2⟩
      simp only [wJ2_clear_27]
      exact br_p (nI_le (Nat.le_refl _) (by omega)) (w σ2 m2 ⟨m + 1, e, q1, Or.inr ⟨e1, f', q2, by omega, fun i hi => by omega⟩⟩)
    · rintro k i σ2 hi ⟨f', m2, q1, q2⟩ hs
      simp only [wJ2_clear_27]
      refine br_n (nI_nle2 hi (by omega)) ⟨_, rfl, i_sR q2.1 rfl (by omega) (by omega) (fun v hv => by cases hv) ?_⟩
      rw [nI_1]
      exact al_eq (hs _ ⟨_, m2.up q2 (by simp) rfl, q1.up q2 ht, q2.set⟩)
/-- a way is made -/
theorem i_way {Q0 : Nat → gH → Prop} {x1 x2 x3 : Int32} {x4 : Option Nat} (w : ∀ q ow' σ', hmv [] ow σ ow' σ' → hat ow' σ' q 0 (cO 6 [.int x1, .int x2, .int x3, va_rf x4]) → Q0 q σ') : c_new σ (.inr (6, [.int 0, .int 0, .int 0, .null])) (fun q σ' => wX6_init (fun σ2 => Q0 q σ2) q x1 x2 x3 x4 σ') := by
  intro q σ' hq e
  subst e
  have k1 : hat (va_up ow q 0) (g_up σ q (cO 6 [.int 0, .int 0, .int 0, .null])) q 0 (cO 6 [.int 0, .int 0, .int 0, .null]) := hat.nw 0
  unfold wX6_init
  refine i_Pf [.int x1, .int 0, .int 0, .null] k1.1 (by decide) rfl (by simp) ?_
  rw [g_up_up]
  have k2 : hat (va_up ow q 0) (g_up σ q (cO 6 [.int x1, .int 0, .int 0, .null])) q 0 (cO 6 [.int x1, .int 0, .int 0, .null]) := hat.nw 0
  refine i_Pf [.int x1, .int x2, .int 0, .null] k2.1 (by decide) rfl (by simp) ?_
  rw [g_up_up]
  have k3 : hat (va_up ow q 0) (g_up σ q (cO 6 [.int x1, .int x2, .int 0, .null])) q 0 (cO 6 [.int x1, .int x2, .int 0, .null]) := hat.nw 0
  refine i_Pf [.int x1, .int x2, .int x3, .null] k3.1 (by decide) rfl (by simp) ?_
  rw [g_up_up]
  have k4 : hat (va_up ow q 0) (g_up σ q (cO 6 [.int x1, .int x2, .int x3, .null])) q 0 (cO 6 [.int x1, .int x2, .int x3, .null]) := hat.nw 0
  refine i_Pf [.int x1, .int x2, .int x3, va_rf x4] k4.1 (by decide) rfl (by simp) ?_
  rw [g_up_up]
  exact w q (va_up ow q 0) _ (hmv.rf.new 0 hq) (hat.nw 0)
/-- an empty tree is made -/
theorem i_tree {mc ms uc us : Nat} {Q0 : Nat → Nat → Nat → gH → Prop} (hmc : uc + 7 ≤ mc) (hms : us + 507 ≤ ms) (w : ∀ q tc f ow' σ', hmv [120] ow σ ow' σ' → hat ow' σ' q 120 (cO 1 [.ref tc, .int 0]) → hat ow' σ' tc 121 (cQ 3 5 f) → (∀ k, k < 5 → ∃ b, f k = some b ∧ hat ow' σ' b (122 + k) (cI 100 (fun _ => 0))) → Q0 6 505 q σ') : uc + 1 ≤ mc ∧ us + 2 ≤ ms ∧ c_new σ (.inr (1, [.null, .int 0])) (fun q σ' => ∃ c b : Nat, (uc + 1) + c ≤ mc ∧ (us + 2) + b ≤ ms ∧ wX1_init (fun σ2 => Q0 c b q σ2) c b q σ') := by
  have c5 : (5 : Int32).toNatClampNeg = 5 := rfl
  have c100 : (100 : Int32).toNatClampNeg = 100 := rfl
  refine ⟨by omega, by omega, i_new (ow := ow) 120 (fun q ow1 σ1 m1 k1 => ⟨6, 505, by omega, by omega, ?_⟩)⟩
  unfold wX1_init
  rw [c5, c100]
  refine ⟨by omega, by omega, c_m2_i (ow := ow1) 121 122 (fun tc ow2 σ2 m2 k2 k2' => ?_)⟩
  have k1' := k1.mv m2 (by simp)
  refine i_Pf [.ref tc, .int 0] k1'.1 (by decide) rfl (by simp) ?_
  have m3 : hmv [120] ow2 σ2 ow2 (g_up σ2 q (cO 1 [.ref tc, .int 0])) := hmv.rf.up k1' (by decide) rfl
  exact w q tc _ ow2 _ (((m1.sub (by simp)).tr (m2.sub (by simp))).tr m3) k1'.set (k2.mv m3 (by decide)) (fun k hk => ⟨_, rfl, (k2' k hk).mv m3 (by rw [List.mem_singleton]; omega)⟩)
theorem c_m2_g {N1 N2 t : Nat} {P : Nat → gH → Prop} (T0 base : Nat) (k : ∀ q ow' σ', (∀ a, q ≤ a → σ.2 a = none) → hmv [] ow σ ow' σ' → hat ow' σ' q T0 (cQ t N1 (fun j => some (q + 1 + j))) → (∀ i, i < N1 → hat ow' σ' (q + 1 + i) (base + i) (g_in t N2)) → P q σ') : c_m2 N1 N2 σ t P := by
  intro q σ' hq e
  exact c_m2_i (P := fun q σ' => (∀ a, q ≤ a → σ.2 a = none) → P q σ') (ow := ow) T0 base (fun q ow' σ' m h1 h2 hn => k q ow' σ' hn m h1 h2) q σ' hq e hq
/-- no slips -/
theorem i_noslips {mc ms uc us : Nat} {Q0 : Nat → Nat → Nat → gH → Prop} (hmc : uc + 6 ≤ mc) (hms : us + 5 ≤ ms) (w : ∀ q ow' σ', hmv [] ow σ ow' σ' → (∀ g, r_slips ow' σ' q 0 g) → Q0 5 4 q σ') : uc + 1 ≤ mc ∧ us + 1 ≤ ms ∧ c_new σ (.inr (2, [.null])) (fun q σ' => ∃ c b : Nat, (uc + 1) + c ≤ mc ∧ (us + 1) + b ≤ ms ∧ wX2_init (fun σ2 => Q0 c b q σ2) c b q σ') := by
  have c4 : (4 : Int32).toNatClampNeg = 4 := rfl
  have c0 : (0 : Int32).toNatClampNeg = 0 := rfl
  refine ⟨by omega, by omega, i_newF (ow := ow) 0 (fun q ow1 σ1 hq m1 k1 => ⟨5, 4, by omega, by omega, ?_⟩)⟩
  unfold wX2_init
  rw [c4, c0]
  refine ⟨by omega, by omega, c_m2_g (ow := ow1) 0 222 (fun tc ow2 σ2 hfr m2 k2 k2' => ?_)⟩
  have k1' := k1.mv m2 (by simp)
  refine i_Pf [.ref tc] k1'.1 (by decide) rfl (by simp) ?_
  have hne : ∀ b c, σ.2 b = some c → b ≠ q := fun b c hb e => by rw [e, hq] at hb; cases hb
  have m12 : hmv [] ow σ ow2 σ2 := m1.tr m2
  have m13 : hmv [] ow σ ow2 (g_up σ2 q (cO 2 [.ref tc])) := by
    refine ⟨m12.1, fun b c hb => ?_⟩
    obtain ⟨a1, ⟨c', a2, a3⟩, a4⟩ := m12.2 b c hb
    have := hne b c hb
    refine ⟨a1, ⟨c', by rw [g_up_ne this]; exact a2, a3⟩, fun hn => by rw [g_up_ne this]; exact a4 hn⟩
  have tcq : tc ≠ q := fun e => by
    have h2 := k2.1
    rw [e] at h2
    rw [k1'.1] at h2
    cases h2
  have kt : hat (rtg σ ow2) (g_up σ2 q (cO 2 [.ref tc])) tc 0 (cQ 3 4 (fun j => some (tc + 1 + j))) := by
    refine ⟨by rw [g_up_ne tcq]; exact k2.1, ?_⟩
    unfold rtg
    by_cases e : (σ.2 tc).isNone = true
    · rw [if_pos e]
    · rw [if_neg e]; exact k2.2
  refine w q (rtg σ ow2) _ m13.retag (fun g => ⟨tc, _, k1'.set.retag hq, kt, fun k hk => ?_⟩)
  have kk9 := k2' k hk
  have rne : tc + 1 + k ≠ q := fun e => by
    have h2 := kk9.1
    rw [e] at h2
    rw [k1'.1] at h2
    cases h2
  have fr := m1.none (hfr (tc + 1 + k) (by omega))
  exact ⟨_, fun _ => 0, rfl, ⟨by rw [g_up_ne rne]; exact kk9.1, by unfold rtg; rw [fr]; rfl⟩, fun i hi => by omega⟩
end HLP
