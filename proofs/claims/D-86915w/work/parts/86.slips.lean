/-! PLAIN LAW, the component: the rows of slips -/
set_option maxRecDepth 100000
def rtg (σ : gH) (ow : Nat → Nat) : Nat → Nat := fun a => if (σ.2 a).isNone = true then 0 else ow a
theorem hmv.retag {T : List Nat} {ow ow1 : Nat → Nat} {σ σ1 : gH} (m : hmv T ow σ ow1 σ1) : hmv T ow σ (rtg σ ow1) σ1 := by
  refine ⟨m.1, fun b c hb => ?_⟩
  obtain ⟨h1, h2, h3⟩ := m.2 b c hb
  refine ⟨?_, h2, h3⟩
  unfold rtg
  rw [hb]
  exact h1
theorem hat.retag {ow : Nat → Nat} {σ σ1 : gH} {a t : Nat} {c : gCell} (h : hat ow σ1 a t c) (hn : σ.2 a = none) : hat (rtg σ ow) σ1 a 0 c := ⟨h.1, by unfold rtg; rw [hn]; rfl⟩
theorem hat.retag2 {T : List Nat} {ow ow1 : Nat → Nat} {σ σ1 : gH} {a t : Nat} {c c0 : gCell} (h : hat ow1 σ1 a t c) (hs : σ.2 a = some c0) : hat (rtg σ ow1) σ1 a t c := ⟨h.1, by unfold rtg; rw [hs]; exact h.2⟩
theorem hmv.none {T : List Nat} {ow ow' : Nat → Nat} {σ σ' : gH} (m : hmv T ow σ ow' σ') {q : Nat} (h : σ'.2 q = none) : σ.2 q = none := by
  cases e : σ.2 q with
  | none => rfl
  | some c =>
    obtain ⟨-, ⟨c', h2, -⟩, -⟩ := m.2 q c e
    rw [h] at h2
    cases h2
theorem i_newF {ow : Nat → Nat} {σ : gH} {P : Nat → gH → Prop} {e : gCell} (t : Nat) (w : ∀ q ow' σ', σ.2 q = none → hmv [] ow σ ow' σ' → hat ow' σ' q t e → P q σ') : c_new σ e P := by
  intro q σ' hq e
  subst e
  exact w q (va_up ow q t) _ hq (hmv.rf.new t hq) (hat.nw t)
theorem c_m2_f {N1 N2 t : Nat} {ow : Nat → Nat} {σ : gH} {P : Nat → gH → Prop} (T0 base : Nat) (k : ∀ q ow' σ', σ.2 q = none → hmv [] ow σ ow' σ' → hat ow' σ' q T0 (cQ t N1 (fun j => some (q + 1 + j))) → (∀ i, i < N1 → hat ow' σ' (q + 1 + i) (base + i) (g_in t N2)) → P q σ') : c_m2 N1 N2 σ t P := by
  intro q σ' hq e
  exact c_m2_i (P := fun q σ' => σ.2 q = none → P q σ') (ow := ow) T0 base (fun q ow' σ' m h1 h2 hn => k q ow' σ' hn m h1 h2) q σ' hq e (hq q (Nat.le_refl _))
abbrev TSl : List Nat := [207, 208] ++ List.range' 222 8
theorem memSl {t : Nat} : t ∈ TSl ↔ t = 207 ∨ t = 208 ∨ (222 ≤ t ∧ t < 230) := by
  simp only [TSl, List.mem_append, List.mem_range'_1, List.mem_cons, List.not_mem_nil, or_false]
  omega
section SLP
variable {C : Cf} {ow ow' : Nat → Nat} {σ σ' : gH} {x0 : Nat} {kk kc : Nat → Nat} {N : Nat} {fs : List Value} {st : St}
/-- what slipRows stands on -/
def sE (C : Cf) (ow : Nat → Nat) (σ : gH) (x0 : Nat) (kk kc : Nat → Nat) (fs : List Value) (N : Nat) (st : St) : Prop := cM C ow σ x0 kk kc ∧ hat ow σ x0 1 (cO 0 fs) ∧ fs[19]? = some (.ref (kk 19)) ∧ wL C ow σ x0 kk kc N st
theorem sE.mv (h : sE C ow σ x0 kk kc fs N st) (m : hmv TSl ow σ ow' σ') : sE C ow' σ' x0 kk kc fs N st := by
  obtain ⟨h1, h2, h3, l0, l1, xl, l2, l3⟩ := h
  refine ⟨h1.mv m (by intro t ht; rw [memSl] at ht; omega), h2.mv m (by decide), h3, l0, l1, xl, l2.mv m (by decide) (by decide), fun j hj => ?_⟩
  obtain ⟨k, i, w, pr, s1, s2⟩ := l3 j hj
  exact ⟨k, i, w, pr, s1.mv m (by decide), s2⟩
theorem cSl.pr {Q : Int32 → Prop} {a k i w pr : Nat} (ok : z_ok C) (hM : cM C ow σ x0 kk kc) (h : cSl C ow σ kc x0 a k i w pr) (wq : Q (nI pr)) : wX0_priceOf Q σ (some (kc 2)) (some a) (nI (C.1 34)) := by
  obtain ⟨f, q, t, fm, nu, h1, h2, h3, h4, h5, h6, h7, h8⟩ := h
  rw [h8] at wq
  exact hp_of ok (hM.1.raw hM.2.1.1) hM.1.2.2.2.2.2.2.raw h2.2 h1.1 h3 h4 h5 ⟨fun e => (h6.1 e).1, fun e => (h6.2 e).1⟩ wq
theorem c_sr35 {Q : Option Nat → gH → Prop} {K : Nat → Nat → Nat → Option Nat → Nat → Int32 → gH → Prop} {mc ms uc us q2 tc w b : Nat} {f : Nat → Option Nat} (ok : z_ok C) (hS : sE C ow σ x0 kk kc fs N st) (hn : st.1.1 < 30000) (hw : w < 4) (ho : hat ow σ q2 207 (cO 2 [.ref tc])) (ht : hat ow σ tc 208 (cQ 3 4 f)) (hf : f w = some b) (hb : hat ow σ b (226 + w) (cI st.1.1 (fun _ => 0)))
    (wk : ∀ σ' h, hmv [226 + w] ow σ ow σ' → hat ow σ' b (226 + w) (cI st.1.1 h) → (∀ i, i < st.1.1 → h i = st.2.1 (4 * i + w)) → K uc us x0 (some (kc 0)) q2 (nI w) σ') : ∃ fu, wX0_slipRows_35 Q mc ms K fu uc us x0 (some (kc 0)) q2 (nI w) 0 σ := by
  have sub : ∀ t ∈ [226 + w], t ∈ TSl := by intro t ht; rw [List.mem_singleton] at ht; rw [memSl]; omega
  have l1 := hS.2.2.2.2.1
  refine pk_loop (σ := gH) (fun n i σ' => wX0_slipRows_35 Q mc ms K n uc us x0 (some (kc 0)) q2 (nI w) (nI i) σ') (fun i σ' => ∃ h, hmv [226 + w] ow σ ow σ' ∧ hat ow σ' b (226 + w) (cI st.1.1 h) ∧ ∀ i', i' < i → h i' = st.2.1 (4 * i' + w)) st.1.1 0 σ (by omega) ⟨_, hmv.rf, hb, fun i' hi => by omega⟩ ?_ ?_
  · rintro n σ1 ⟨h, m1, h1, h2⟩
    obtain ⟨s1, s2, s3, s4, s5, xl, s6, s7⟩ := hS.mv (m1.sub sub)
    simp only [wX0_slipRows_35]
    exact i_R s2.1 (by decide) s3 ⟨_, rfl, ln_size s6 (br_p (nI_le (Nat.le_refl _) (by omega)) (wk σ1 h m1 h1 h2))⟩
  · rintro n i σ1 hi ⟨h, m1, h1, h2⟩ hs
    obtain ⟨s1, s2, s3, s4, s5, xl, s6, s7⟩ := hS.mv (m1.sub sub)
    have ho1 := ho.mv m1 (by rw [List.mem_singleton]; omega)
    have ht1 := ht.mv m1 (by rw [List.mem_singleton]; omega)
    obtain ⟨k, pl, tl, pr, c1, c2, c3, c4, c5⟩ := s7 i hi
    obtain ⟨ff, fq, t, fm, nu, d1, d2, d3, d4, d5, d6, d7, d8⟩ := id c1
    have fin : ∀ v, v = st.2.1 (4 * i + w) → wX0_slipRows_124 Q mc ms (wX0_slipRows_35 Q mc ms K n) K uc us (some b) (nI i) v x0 (some (kc 0)) q2 (nI w) (nI i) σ1 := by
      intro v hv
      unfold wX0_slipRows_124
      refine ⟨b, rfl, i_sI h1.1 rfl hi (by omega) ?_⟩
      rw [nI_1]
      refine al_eq (hs _ ⟨_, m1.tr (hmv.rf.up h1 (by simp) rfl), h1.set, fun i' hi' => ?_⟩)
      by_cases e : i' = i
      · subst e; rw [upd_s]; exact hv
      · rw [upd_n _ _ e]; exact h2 i' (by omega)
    simp only [wX0_slipRows_35]
    refine i_R s2.1 (by decide) s3 ⟨_, rfl, ln_size s6 (br_n (nI_nle2 hi (by omega)) (i_R s2.1 (by decide) s3 ⟨_, rfl, ln_get s6 rfl hi (by omega) ⟨fun a ha => ?_, i_R ho1.1 (by decide) rfl ⟨_, rfl, i_aR ht1.1 rfl hw (by decide) ?_⟩⟩⟩))⟩
    · cases ha
      obtain ⟨ci, fs', e, hc, -⟩ := sC_at k (kc 0) x0 pl ff fq t fm nu
      exact ⟨ci, fs', hc, by rw [d1.1, e]⟩
    rw [hf]
    have e4 : w = 0 ∨ w = 1 ∨ w = 2 ∨ w = 3 := by omega
    rcases e4 with rfl | rfl | rfl | rfl
    · exact br_p rfl ⟨_, rfl, hv_kind (by omega) d1.1 (fin _ c2.symm)⟩
    · exact br_n (by decide) (br_p rfl ⟨_, rfl, hv_pl d1.1 (fin _ c3.symm)⟩)
    · exact br_n (by decide) (br_n (by decide) (br_p rfl ⟨_, rfl, hv_told (by omega) d1.1 (fin _ (by rw [c4, d7.1]))⟩))
    · exact br_n (by decide) (br_n (by decide) (br_n (by decide) ⟨_, rfl, i_R s1.2.1.1 (by decide) rfl (i_I s1.2.1.1 (by decide) rfl (c1.pr ok s1 (fin _ c5.symm)))⟩))
theorem c_slipRows {Q : Option Nat → gH → Prop} {mc ms : Nat} (ok : z_ok C) (hS : sE C ow σ x0 kk kc fs N st) (hn : st.1.1 < 30000) (hmc : 10 ≤ mc) (hms : 5 + 4 * st.1.1 ≤ ms) (w : ∀ a ow' σ', hmv TSl ow σ ow' σ' → r_slips ow' σ' a st.1.1 st.2.1 → Q (some a) σ') : wX0_slipRows Q mc ms x0 (some (kc 0)) σ := by
  have c4 : (4 : Int32).toNatClampNeg = 4 := rfl
  have c0 : (0 : Int32).toNatClampNeg = 0 := rfl
  have l1 := hS.2.2.2.2.1
  unfold wX0_slipRows
  refine ⟨by omega, by omega, i_newF (ow := ow) 207 (fun q2 ow1 σ1 hq2 m1 k1 => ⟨5, 4, by omega, by omega, ?_⟩)⟩
  unfold wX2_init
  rw [c4, c0]
  refine ⟨by omega, by omega, c_m2_f (ow := ow1) 208 222 (fun tc ow2 σ2 htc m2 k2 k2' => ?_)⟩
  have k1' := k1.mv m2 (by simp)
  refine i_Pf [.ref tc] k1'.1 (by decide) rfl (by simp) ?_
  have m3 : hmv [207] ow2 σ2 ow2 (g_up σ2 q2 (cO 2 [.ref tc])) := hmv.rf.up k1' (by decide) rfl
  have k3 := k1'.set (x := cO 2 [.ref tc])
  have k2s := k2.mv m3 (by decide)
  obtain ⟨σ3, hσ3⟩ : ∃ σ3, σ3 = g_up σ2 q2 (cO 2 [.ref tc]) := ⟨_, rfl⟩
  rw [← hσ3] at m3 k3 k2s ⊢
  have s0 : ∀ t ∈ ([] : List Nat), t ∈ TSl := by simp
  have M3 : hmv TSl ow σ ow2 σ3 := ((m1.sub s0).tr (m2.sub s0)).tr (m3.sub (by decide))
  have ftc := m1.none htc
  refine pk_loop (σ := (Nat × Nat) × gH) (fun n x s => wX0_slipRows_10 Q mc ms _ n s.1.1 s.1.2 x0 (some (kc 0)) q2 (nI x) s.2) (fun x s => s.1.1 ≤ 6 + x ∧ s.1.2 ≤ 5 + x * st.1.1 ∧ ∃ ow' f, hmv TSl ow σ ow' s.2 ∧ hat ow' s.2 q2 207 (cO 2 [.ref tc]) ∧ hat ow' s.2 tc 208 (cQ 3 4 f) ∧ ∀ w', w' < x → ∃ b h, f w' = some b ∧ σ.2 b = none ∧ hat ow' s.2 b (226 + w') (cI st.1.1 h) ∧ ∀ i, i < st.1.1 → h i = st.2.1 (4 * i + w')) 4 0 ((0 + 1 + 5, 0 + 1 + 4), σ3) (by omega) ⟨by simp, by simp, ow2, _, M3, k3, k2s, fun w' h => by omega⟩ ?_ ?_
  · rintro n ⟨⟨uc, us⟩, σ4⟩ ⟨-, -, ow4, f, m4, h1, h2, h3⟩
    simp only at m4 h1 h2 h3
    simp only [wX0_slipRows_10]
    refine br_p (by decide) (w q2 (rtg σ ow4) σ4 m4.retag ⟨tc, f, h1.retag hq2, h2.retag ftc, fun w' hw' => ?_⟩)
    obtain ⟨b, h, b1, b2, b3, b4⟩ := h3 w' hw'
    exact ⟨b, h, b1, b3.retag b2, b4⟩
  · rintro n x ⟨⟨uc, us⟩, σ4⟩ hx ⟨hu, hus, ow4, f, m4, h1, h2, h3⟩ hs
    simp only at hu hus m4 h1 h2 h3
    have hmul : x * st.1.1 + st.1.1 ≤ 4 * st.1.1 := by
      have := Nat.mul_le_mul_right st.1.1 (show x + 1 ≤ 4 by omega)
      rw [Nat.add_mul] at this
      omega
    simp only [wX0_slipRows_10]
    obtain ⟨s1, s2, s3, s4, s5, xl, s6, s7⟩ := hS.mv m4
    refine br_n (by have : x = 0 ∨ x = 1 ∨ x = 2 ∨ x = 3 := by omega
                    rcases this with rfl | rfl | rfl | rfl <;> decide) (i_R h1.1 (by decide) rfl (i_R s2.1 (by decide) s3 ⟨_, rfl, ln_size s6 ?_⟩))
    rw [nI_clamp (by omega)]
    refine ⟨by omega, by omega, nI_pos (by omega), by omega, i_newF (ow := ow4) (226 + x) (fun b ow5 σ5 hb m5 k5 => ⟨_, rfl, ?_⟩)⟩
    have h1' := h1.mv m5 (by simp)
    have h2' := h2.mv m5 (by simp)
    refine ⟨4, f, _, h2'.1, vp_nI hx (by decide), k5.1, al_eq ?_⟩
    rw [nI_clamp (by omega)]
    have m6 : hmv [208] ow5 σ5 ow5 (g_up σ5 tc (cQ 3 4 (va_up f x (some b)))) := hmv.rf.up h2' (by decide) rfl
    have k6 := h2'.set (x := cQ 3 4 (va_up f x (some b)))
    obtain ⟨σ6, hσ6⟩ : ∃ σ6, σ6 = g_up σ5 tc (cQ 3 4 (va_up f x (some b))) := ⟨_, rfl⟩
    rw [← hσ6] at m6 k6
    rw [show g_up σ5 tc (.inl (3, 4, .inr (.inr (.inr (.inr (va_up f x (some b))))))) = σ6 from hσ6.symm]
    have M6 : hmv TSl ow σ ow5 σ6 := (m4.tr (m5.sub s0)).tr (m6.sub (by decide))
    refine c_sr35 ok (hS.mv M6) hn hx (h1'.mv m6 (by decide)) k6 (va_up_self _ _ _) (k5.mv m6 (by rw [List.mem_singleton]; omega)) (fun σ7 h m7 h7 h7' => ?_)
    have sub7 : ∀ t ∈ [226 + x], t ∈ TSl := by intro t ht; rw [List.mem_singleton] at ht; rw [memSl]; omega
    rw [nI_1]
    refine al_eq (hs ((uc + 1, us + st.1.1), σ7) ⟨by simp only; omega, by simp only; rw [Nat.add_mul]; omega, ow5, _, M6.tr (m7.sub sub7), (h1'.mv m6 (by decide)).mv m7 (by rw [List.mem_singleton]; omega), k6.mv m7 (by rw [List.mem_singleton]; omega), fun w' hw' => ?_⟩)
    by_cases e : w' = x
    · subst e
      exact ⟨b, h, va_up_self _ _ _, m4.none hb, h7, h7'⟩
    · obtain ⟨b', h', b1, b2, b3, b4⟩ := h3 w' (by omega)
      exact ⟨b', h', by rw [va_up_ne _ _ e]; exact b1, b2, (((b3.mv m5 (by simp)).mv m6 (by rw [List.mem_singleton]; omega)).mv m7 (by rw [List.mem_singleton]; omega)), b4⟩
end SLP
