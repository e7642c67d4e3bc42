/-! PLAIN LAW, the twin: its table of skips -/
set_option maxRecDepth 100000
theorem k12 : (12 : Int32) = nI 12 := rfl
theorem k2704 : (2704 : Int32) = nI 2704 := rfl
theorem k52 : (52 : Int32) = nI 52 := rfl
theorem k4 : (4 : Int32) = nI 4 := rfl
theorem k24 : (24 : Int32) = nI 24 := rfl
theorem k3 : (3 : Int32) = nI 3 := rfl
theorem k5 : (5 : Int32) = nI 5 := rfl
theorem k2 : (2 : Int32) = nI 2 := rfl
theorem k1600 : (1600 : Int32) = nI 1600 := rfl
theorem k100 : (100 : Int32) = nI 100 := rfl
theorem k1e9 : (1000000000 : Int32) = nI 1000000000 := rfl
theorem nI_m1 (n : Nat) : nI n + (-1) = nI n - 1 := by rw [Int32.sub_eq_add_neg]
theorem nI_0m1 : nI 0 - 1 = -1 := by decide
/-- the least first skip -/
noncomputable def z_bm (C : Cf) (i j : Nat) : Nat := z_lst (fun m => 1 ≤ m ∧ i + m ≤ j ∧ z_sp C i m + z_k C (i + m) j = z_k C i j) 0
def tSk (C : Cf) (s : TS) (i j : Nat) : Prop := s.2.1 38 (12 * i + j) = nI (z_k C i j) ∧ (i < j → z_k C i j ≠ 1000000000 → s.2.1 39 (12 * i + j) = nI (z_bm C i j))
def tSkA (C : Cf) (s : TS) : Prop := ∀ i j, i ≤ j → j ≤ C.1 34 → tSk C s i j
theorem tSkA.mv {C : Cf} {s s' : TS} {L : List Nat} (h : tSkA C s) (m : tfr L s s') (h1 : 38 ∉ L) (h2 : 39 ∉ L) : tSkA C s' := fun i j hi hj => by
  have := h i j hi hj
  unfold tSk at *
  rw [m.a 38 h1, m.a 39 h2]
  exact this
theorem tSkA.at {C : Cf} {s : TS} (h : tSkA C s) {i j : Nat} (hi : i ≤ j) (hj : j ≤ C.1 34) : s.2.1 38 (12 * i + j) = nI (z_k C i j) := (h i j hi hj).1
def z_kF (C : Cf) (i j m : Nat) : Nat := min 1000000000 (z_sp C i (m + 1) + z_k C (i + (m + 1)) j)
theorem z_k_eqF (C : Cf) {i j : Nat} (h : i < j) : z_k C i j = z_mn (z_kF C i j) 1000000000 (j - i) := z_k_eq C h
def tBy (C : Cf) (i j d : Nat) (v : Int32) : Prop := z_mn (z_kF C i j) 1000000000 d ≠ 1000000000 → ∃ e, e < d ∧ v = nI (e + 1) ∧ z_kF C i j e = z_mn (z_kF C i j) 1000000000 d ∧ ∀ e', e' < e → z_mn (z_kF C i j) 1000000000 d < z_kF C i j e'
theorem tBy.no {C : Cf} {i j d : Nat} {v : Int32} (h : tBy C i j d v) (e : z_mn (z_kF C i j) 1000000000 (d + 1) = z_mn (z_kF C i j) 1000000000 d) : tBy C i j (d + 1) v := by
  unfold tBy at *
  rw [e]
  intro hne
  obtain ⟨e, e1, e2, e3, e4⟩ := h hne
  exact ⟨e, by omega, e2, e3, e4⟩
theorem tBy.yes {C : Cf} {i j d : Nat} {v : Int32} (hv : v = nI (d + 1)) (e : z_mn (z_kF C i j) 1000000000 (d + 1) = z_kF C i j d) (h : z_kF C i j d < z_mn (z_kF C i j) 1000000000 d) : tBy C i j (d + 1) v := by
  unfold tBy
  rw [e]
  intro _
  refine ⟨d, by omega, hv, rfl, fun e' he' => ?_⟩
  have := z_mn_le (f := z_kF C i j) (b := 1000000000) he'
  omega
theorem tBy.end {C : Cf} {i j : Nat} {v : Int32} (hij : i < j) (h : tBy C i j (j - i) v) (hne : z_k C i j ≠ 1000000000) : v = nI (z_bm C i j) := by
  unfold tBy at h
  rw [← z_k_eqF C hij] at h
  obtain ⟨e, e1, e2, e3, e4⟩ := h hne
  have hk := z_k_le C (Nat.le_of_lt hij)
  rw [e2, show z_bm C i j = e + 1 from z_lst_eq ⟨by omega, by omega, by unfold z_kF at e3; omega⟩ (fun e' he' hc => by
    have := e4 (e' - 1) (by omega)
    unfold z_kF at this
    rw [show e' - 1 + 1 = e' by omega] at this
    omega)]
/-- one pair -/
theorem tw_skip1 {C : Cf} {Q : TS → Prop} {K : Int32 → Int32 → TS → Prop} {s : TS} (ok : z_ok C) (h : tC C s) {i j : Nat} (hij : i < j) (hj : j ≤ C.1 34) (hr : ∀ m, i < m → m ≤ j → s.2.1 38 (12 * m + j) = nI (z_k C m j)) (h0 : s.2.1 38 (12 * i + j) = nI 1000000000)
    (hK : ∀ s', tfr [38, 39] s s' → (∀ k, k ≠ 12 * i + j → s'.2.1 38 k = s.2.1 38 k ∧ s'.2.1 39 k = s.2.1 39 k) → tSk C s' i j → K (nI j) (nI i) s') : ∃ fu, wX3_laySkips_62 Q K fu (nI j) (nI i) 1 s := by
  have o := ok.1
  refine pk_loop (σ := TS) (fun n d s' => wX3_laySkips_62 Q K n (nI j) (nI i) (nI (d + 1)) s') (fun d s' => tfr [38, 39] s s' ∧ (∀ k, k ≠ 12 * i + j → s'.2.1 38 k = s.2.1 38 k ∧ s'.2.1 39 k = s.2.1 39 k) ∧ s'.2.1 38 (12 * i + j) = nI (z_mn (z_kF C i j) 1000000000 d) ∧ tBy C i j d (s'.2.1 39 (12 * i + j))) (j - i) 0 s (by omega) ⟨tfr.rf, fun k _ => ⟨rfl, rfl⟩, h0, fun n => absurd rfl n⟩ ?_ ?_
  · rintro n s' ⟨m1, m2, m3, m4⟩
    simp only [wX3_laySkips_62]
    rw [nI_add]
    refine br_p (nI_lt (by omega) (by omega)) (hK s' m1 m2 ?_)
    rw [← z_k_eqF C hij] at m3
    exact ⟨m3, fun _ hne => m4.end hij hne⟩
  · rintro n d s' hd ⟨m1, m2, m3, m4⟩ hs
    simp only [wX3_laySkips_62]
    simp only [nI_add, k12, pk_mul]
    refine br_n (nI_nlt (by omega) (by omega)) ⟨vp_nI (by omega) (by decide), al_eq ?_⟩
    rw [nI_clamp (by omega), (m2 _ (by omega)).1, hr (i + (d + 1)) (by omega) (by omega)]
    have b1 := z_k_bd2 ok (i := i + (d + 1)) (j := j) (by omega) hj
    have b2 := z_sp_bd ok (i := i) (m := d + 1) (by omega) (by omega)
    have bm := z_mn_b (z_kF C i j) 1000000000 d
    have e0 : z_mn (z_kF C i j) 1000000000 (d + 1) = min (z_mn (z_kF C i j) 1000000000 d) (z_kF C i j d) := rfl
    have e1 : z_kF C i j d = min 1000000000 (z_sp C i (d + 1) + z_k C (i + (d + 1)) j) := rfl
    have h' := h.mv m1 (by decide)
    have sk : z_mn (z_kF C i j) 1000000000 (d + 1) = z_mn (z_kF C i j) 1000000000 d → wX3_laySkips_158 Q (wX3_laySkips_62 Q K n) K (nI j) (nI i) (nI (d + 1)) s' := by
      intro hz
      unfold wX3_laySkips_158
      rw [nI_1]
      exact al_eq (hs s' ⟨m1, m2, by rw [m3, hz], m4.no hz⟩)
    rw [k1e9]
    refine pk_eq (z_k C (i + (d + 1)) j) 1000000000 (fun e => ?_) (fun e => ?_) rfl rfl (by omega) (by decide)
    · unfold wX3_laySkips_102
      rw [k1e9]
      exact br_p rfl (sk (by omega))
    · refine tw_skipPrice ok h' (by omega) (by omega) ?_
      unfold wX3_laySkips_102
      rw [k1e9]
      refine pk_eq (z_sp C i (d + 1)) 1000000000 (fun e2 => sk (by omega)) (fun e2 => ?_) rfl rfl (by omega) (by decide)
      simp only [nI_add, k12, pk_mul]
      refine ⟨vp_nI (by omega) (by decide), ?_⟩
      rw [nI_clamp (by omega), m3]
      refine pk_le (z_mn (z_kF C i j) 1000000000 d) (z_sp C i (d + 1) + z_k C (i + (d + 1)) j) (fun e3 => sk (by omega)) (fun e3 => ?_) rfl rfl (by omega) (by omega)
      refine ⟨vp_nI (by omega) (by decide), al_eq ⟨vp_nI (by omega) (by decide), al_eq ?_⟩⟩
      unfold wX3_laySkips_158
      rw [nI_1]
      refine al_eq (hs _ ⟨(m1.A (by decide) _ _).A (by decide) _ _, fun k hk => ?_, ?_, ?_⟩)
      · rw [tA_ne _ _ _ (by decide), tA_a, tA_a, tA_ne _ _ _ (by decide), va_up_ne _ _ hk, va_up_ne _ _ hk]
        exact m2 k hk
      · rw [tA_ne _ _ _ (by decide), tA_a, va_up_self, show z_mn (z_kF C i j) 1000000000 (d + 1) = z_sp C i (d + 1) + z_k C (i + (d + 1)) j by omega]
      · exact tBy.yes (by rw [tA_a, va_up_self]) (by omega) (by omega)
theorem tw_laySkips {C : Cf} {Q : TS → Prop} {s : TS} (ok : z_ok C) (h : tC C s) (q : ∀ s', tfr [38, 39] s s' → tSkA C s' → Q s') : wX3_laySkips Q s := by
  have o := ok.1
  unfold wX3_laySkips
  refine pk_loop (σ := TS) (fun n k s' => wX3_laySkips_2 Q _ n (nI k) s') (fun k s' => tfr [38, 39] s s' ∧ ∀ x, x < k → s'.2.1 38 x = nI 1000000000) 144 0 s (by omega) ⟨tfr.rf, fun x hx => by omega⟩ ?_ ?_
  · rintro n s1 ⟨m1, m2⟩
    simp only [wX3_laySkips_2]
    refine br_p (by decide) ?_
    refine pk_loop (σ := TS) (fun n j s' => wX3_laySkips_32 Q _ n (nI j) s') (fun j s' => tfr [38, 39] s s' ∧ (∀ i' j', i' ≤ j' → j' < j → tSk C s' i' j') ∧ ∀ i' j', j ≤ j' → j' ≤ C.1 34 → i' ≤ j' → s'.2.1 38 (12 * i' + j') = nI 1000000000) (C.1 34 + 1) 0 s1 (by omega) ⟨m1, fun i' j' _ z => by omega, fun i' j' _ _ _ => m2 _ (by omega)⟩ ?_ ?_
    · rintro n s2 ⟨g1, g2, g3⟩
      simp only [wX3_laySkips_32]
      rw [(h.mv g1 (by decide)).i 34]
      exact br_p (nI_lt (by omega) (by omega)) (q s2 g1 (fun i j hi hj => g2 i j hi (by omega)))
    · rintro n j s2 hj ⟨g1, g2, g3⟩ hs
      simp only [wX3_laySkips_32]
      rw [(h.mv g1 (by decide)).i 34]
      simp only [nI_add, k12, pk_mul]
      refine br_n (nI_nlt (by omega) (by omega)) ⟨vp_nI (by omega) (by decide), al_eq (al_eq ?_)⟩
      rw [nI_clamp (by omega)]
      refine ⟨j + 1, pk_loopD (σ := TS) (fun n e s' => wX3_laySkips_56 Q _ n (nI j) (nI e - 1) s') (fun e s' => e ≤ j ∧ tfr [38, 39] s s' ∧ (∀ i' j', i' ≤ j' → j' < j → tSk C s' i' j') ∧ (∀ i', e ≤ i' → i' ≤ j → tSk C s' i' j) ∧ (∀ i', i' < e → s'.2.1 38 (12 * i' + j) = nI 1000000000) ∧ ∀ i' j', j < j' → j' ≤ C.1 34 → i' ≤ j' → s'.2.1 38 (12 * i' + j') = nI 1000000000) ?_ ?_ j _ ⟨Nat.le_refl _, g1.A (by decide) _ _, ?_, ?_, ?_, ?_⟩⟩
      · rintro n s3 ⟨-, f1, f2, f3, -, f4⟩
        simp only [wX3_laySkips_56]
        rw [nI_0m1]
        refine br_p (by decide) ?_
        rw [nI_1]
        refine al_eq (hs s3 ⟨f1, fun i' j' h1 h2 => ?_, fun i' j' h1 h2 h3 => f4 i' j' (by omega) h2 h3⟩)
        by_cases e : j' = j
        · subst e; exact f3 i' (by omega) h1
        · exact f2 i' j' h1 (by omega)
      · rintro n i s3 ⟨f0, f1, f2, f3, f5, f4⟩ hs3
        simp only [wX3_laySkips_56]
        rw [nI_pred]
        refine br_n (nI_pos (by omega)) ?_
        refine tw_skip1 ok (h.mv f1 (by decide)) (by omega) (by omega) (fun m h1 h2 => (f3 m (by omega) h2).1) (f5 i (by omega)) (fun s4 l1 l2 l3 => ?_)
        rw [nI_m1]
        refine al_eq (hs3 s4 ⟨by omega, f1.tr l1, fun i' j' h1 h2 => ?_, fun i' h1 h2 => ?_, fun i' h1 => ?_, fun i' j' h1 h2 h3 => ?_⟩)
        · have := f2 i' j' h1 h2
          unfold tSk at *
          rw [(l2 (12 * i' + j') (by omega)).1, (l2 (12 * i' + j') (by omega)).2]
          exact this
        · by_cases e : i' = i
          · subst e; exact l3
          · have := f3 i' (by omega) h2
            unfold tSk at *
            rw [(l2 (12 * i' + j) (by omega)).1, (l2 (12 * i' + j) (by omega)).2]
            exact this
        · rw [(l2 (12 * i' + j) (by omega)).1]
          exact f5 i' (by omega)
        · rw [(l2 (12 * i' + j') (by omega)).1]
          exact f4 i' j' h1 h2 h3
      · intro i' j' h1 h2
        have := g2 i' j' h1 h2
        unfold tSk at *
        rw [tA_a, tA_ne _ _ _ (by decide), va_up_ne _ _ (by omega)]
        exact this
      · intro i' h1 h2
        have : i' = j := by omega
        subst this
        unfold tSk
        rw [tA_a, va_up_self, z_k_self]
        exact ⟨nI_0.symm, fun z => by omega⟩
      · intro i' h1
        rw [tA_a, va_up_ne _ _ (by omega)]
        exact g3 i' j (by omega) (by omega) (by omega)
      · intro i' j' h1 h2 h3
        rw [tA_a, va_up_ne _ _ (by omega)]
        exact g3 i' j' (by omega) h2 h3
  · rintro n k s1 hk ⟨m1, m2⟩ hs
    simp only [wX3_laySkips_2]
    rw [show (144 : Int32) = nI 144 from rfl, nI_1]
    refine br_n (nI_ge hk (by decide)) ⟨vp_nI hk (by decide), al_eq ⟨vp_nI hk (by decide), al_eq (al_eq (hs _ ⟨(m1.A (by decide) _ _).A (by decide) _ _, fun x hx => ?_⟩))⟩⟩
    rw [tA_ne _ _ _ (by decide), tA_a, nI_clamp (by omega)]
    by_cases e : x = k
    · subst e; rw [va_up_self]; rfl
    · rw [va_up_ne _ _ e]; exact m2 x (by omega)
