/-! PLAIN LAW, the twin: its table of reads -/
set_option maxRecDepth 100000
/-- an entry of the four rows -/
def tE4 (s : TS) (j v f k fo : Nat) : Prop := s.2.1 40 j = nI v ∧ s.2.1 41 j = nI f ∧ s.2.1 42 j = nI k ∧ s.2.1 43 j = nI fo ∧ v < 1000000000 ∧ f < 52 ∧ k < 8 ∧ fo < 4
/-- what is there is as good as (V, F, K, O) -/
def tLe (s : TS) (j V F K O : Nat) : Prop := ∃ v f k fo, tE4 s j v f k fo ∧ (v < V ∨ (v = V ∧ (f < F ∨ (f = F ∧ (k < K ∨ (k = K ∧ fo ≤ O))))))
def tSo (s : TS) (j : Nat) (P : Nat → Nat → Nat → Nat → Prop) : Prop := s.2.1 40 j = nI 1000000000 ∨ ∃ v f k fo, tE4 s j v f k fo ∧ P v f k fo
theorem nI_inj {a b : Nat} (ha : a < 2147483648) (hb : b < 2147483648) (h : nI a = nI b) : a = b := (nI_eq ha hb).mp h
theorem tE4.un {s : TS} {j v f k fo v' f' k' fo' : Nat} (h : tE4 s j v f k fo) (g : tE4 s j v' f' k' fo') : v = v' ∧ f = f' ∧ k = k' ∧ fo = fo' := by
  obtain ⟨a1, a2, a3, a4, a5, a6, a7, a8⟩ := h
  obtain ⟨b1, b2, b3, b4, b5, b6, b7, b8⟩ := g
  exact ⟨nI_inj (by omega) (by omega) (a1.symm.trans b1), nI_inj (by omega) (by omega) (a2.symm.trans b2), nI_inj (by omega) (by omega) (a3.symm.trans b3), nI_inj (by omega) (by omega) (a4.symm.trans b4)⟩
theorem tE4.cg {s s' : TS} {j v f k fo : Nat} (h : tE4 s j v f k fo) (e : s'.2.1 40 j = s.2.1 40 j ∧ s'.2.1 41 j = s.2.1 41 j ∧ s'.2.1 42 j = s.2.1 42 j ∧ s'.2.1 43 j = s.2.1 43 j) : tE4 s' j v f k fo := by
  unfold tE4 at *
  rw [e.1, e.2.1, e.2.2.1, e.2.2.2]
  exact h
theorem tLe.cg {s s' : TS} {j V F K O : Nat} (h : tLe s j V F K O) (e : s'.2.1 40 j = s.2.1 40 j ∧ s'.2.1 41 j = s.2.1 41 j ∧ s'.2.1 42 j = s.2.1 42 j ∧ s'.2.1 43 j = s.2.1 43 j) : tLe s' j V F K O := by
  obtain ⟨v, f, k, fo, h1, h2⟩ := h
  exact ⟨v, f, k, fo, h1.cg e, h2⟩
theorem tSo.cg {s s' : TS} {j : Nat} {P : Nat → Nat → Nat → Nat → Prop} (h : tSo s j P) (e : s'.2.1 40 j = s.2.1 40 j ∧ s'.2.1 41 j = s.2.1 41 j ∧ s'.2.1 42 j = s.2.1 42 j ∧ s'.2.1 43 j = s.2.1 43 j) : tSo s' j P := by
  rcases h with h | ⟨v, f, k, fo, h1, h2⟩
  · exact Or.inl (by rw [e.1]; exact h)
  · exact Or.inr ⟨v, f, k, fo, h1.cg e, h2⟩
def tle (s s' : TS) : Prop := ∀ j V F K O, tLe s j V F K O → tLe s' j V F K O
theorem tle.tr {s s1 s2 : TS} (h : tle s s1) (g : tle s1 s2) : tle s s2 := fun j V F K O w => g _ _ _ _ _ (h _ _ _ _ _ w)
theorem tw_readBy {Q : TS → Prop} {s : TS} {t p q j V F K O : Nat} {P : Nat → Nat → Nat → Nat → Prop} (hj : j = 2704 * t + 52 * p + q) (hj2 : j < 32448) (h : tSo s j P) (hP : P V F K O) (hV : V < 1000000000) (hF : F < 52) (hK : K < 8) (hO : O < 4)
    (hq : ∀ s', tfr [40, 41, 42, 43] s s' → (∀ i, i ≠ j → s'.2.1 40 i = s.2.1 40 i ∧ s'.2.1 41 i = s.2.1 41 i ∧ s'.2.1 42 i = s.2.1 42 i ∧ s'.2.1 43 i = s.2.1 43 i) → tSo s' j P → tLe s' j V F K O → tle s s' → Q s') : wX3_readBy Q (nI t) (nI p) (nI F) (nI q) (nI V) (nI K) (nI O) s := by
  have same : tLe s j V F K O → Q s := fun hl => hq s tfr.rf (fun i _ => ⟨rfl, rfl, rfl, rfl⟩) h hl (fun _ _ _ _ _ w => w)
  -- the new entry
  have put : (∀ V2 F2 K2 O2, tLe s j V2 F2 K2 O2 → V < V2 ∨ (V = V2 ∧ (F < F2 ∨ (F = F2 ∧ (K < K2 ∨ (K = K2 ∧ O ≤ O2)))))) → ∀ x9 : Int32, ¬ x9 = 0 → wX3_readBy_111 Q (nI F) (nI V) (nI K) (nI O) (nI j) x9 s := by
    intro hm x9 h9
    unfold wX3_readBy_111
    refine br_n h9 ⟨vp_nI hj2 (by decide), al_eq ⟨vp_nI hj2 (by decide), al_eq ⟨vp_nI hj2 (by decide), al_eq ⟨vp_nI hj2 (by decide), al_eq ?_⟩⟩⟩⟩
    rw [nI_clamp (by omega)]
    have e40 : (tA (tA (tA (tA s 40 j (nI V)) 41 j (nI F)) 42 j (nI K)) 43 j (nI O)).2.1 40 = va_up (s.2.1 40) j (nI V) := rfl
    have e41 : (tA (tA (tA (tA s 40 j (nI V)) 41 j (nI F)) 42 j (nI K)) 43 j (nI O)).2.1 41 = va_up (s.2.1 41) j (nI F) := rfl
    have e42 : (tA (tA (tA (tA s 40 j (nI V)) 41 j (nI F)) 42 j (nI K)) 43 j (nI O)).2.1 42 = va_up (s.2.1 42) j (nI K) := rfl
    have e43 : (tA (tA (tA (tA s 40 j (nI V)) 41 j (nI F)) 42 j (nI K)) 43 j (nI O)).2.1 43 = va_up (s.2.1 43) j (nI O) := rfl
    have new : tE4 (tA (tA (tA (tA s 40 j (nI V)) 41 j (nI F)) 42 j (nI K)) 43 j (nI O)) j V F K O := by
      unfold tE4
      rw [e40, e41, e42, e43, va_up_self, va_up_self, va_up_self, va_up_self]
      exact ⟨rfl, rfl, rfl, rfl, hV, hF, hK, hO⟩
    have oth : ∀ i, i ≠ j → (tA (tA (tA (tA s 40 j (nI V)) 41 j (nI F)) 42 j (nI K)) 43 j (nI O)).2.1 40 i = s.2.1 40 i ∧ (tA (tA (tA (tA s 40 j (nI V)) 41 j (nI F)) 42 j (nI K)) 43 j (nI O)).2.1 41 i = s.2.1 41 i ∧ (tA (tA (tA (tA s 40 j (nI V)) 41 j (nI F)) 42 j (nI K)) 43 j (nI O)).2.1 42 i = s.2.1 42 i ∧ (tA (tA (tA (tA s 40 j (nI V)) 41 j (nI F)) 42 j (nI K)) 43 j (nI O)).2.1 43 i = s.2.1 43 i := by
      intro i hi
      rw [e40, e41, e42, e43, va_up_ne _ _ hi, va_up_ne _ _ hi, va_up_ne _ _ hi, va_up_ne _ _ hi]
      exact ⟨rfl, rfl, rfl, rfl⟩
    refine hq _ ((((tfr.rf.A (by decide) _ _).A (by decide) _ _).A (by decide) _ _).A (by decide) _ _) oth (Or.inr ⟨V, F, K, O, new, hP⟩) ⟨V, F, K, O, new, Or.inr ⟨rfl, Or.inr ⟨rfl, Or.inr ⟨rfl, Nat.le_refl _⟩⟩⟩⟩ ?_
    intro i V2 F2 K2 O2 w
    by_cases e : i = j
    · subst e
      exact ⟨V, F, K, O, new, hm _ _ _ _ w⟩
    · exact w.cg (oth i e)
  unfold wX3_readBy
  simp only [k2704, k52, pk_mul, nI_add]
  rw [← hj]
  refine al_eq ⟨vp_nI hj2 (by decide), ?_⟩
  rw [nI_clamp (by omega)]
  rcases h with h | ⟨v, f, k, fo, h1, h2⟩
  · have nl : ∀ V2 F2 K2 O2, ¬ tLe s j V2 F2 K2 O2 := by
      rintro V2 F2 K2 O2 ⟨v, f, k, fo, h1, h2⟩
      have := nI_inj (by decide) (by have := h1.2.2.2.2.1; omega) (h.symm.trans h1.1)
      have := h1.2.2.2.2.1
      omega
    rw [h]
    refine br_n (nI_ge (by omega) (by decide)) ?_
    unfold wX3_readBy_32
    rw [nI_clamp (by omega), h]
    refine ⟨vp_nI hj2 (by decide), br_n (fun z => ?_) (put (fun _ _ _ _ w => absurd w (nl _ _ _ _)) 1 (by decide))⟩
    have := nI_inj (by omega) (by decide) z
    omega
  · obtain ⟨a1, a2, a3, a4, a5, a6, a7, a8⟩ := h1
    have h1 : tE4 s j v f k fo := ⟨a1, a2, a3, a4, a5, a6, a7, a8⟩
    have ge : (V < v ∨ (V = v ∧ (F < f ∨ (F = f ∧ (K < k ∨ (K = k ∧ O ≤ fo)))))) → ∀ V2 F2 K2 O2, tLe s j V2 F2 K2 O2 → V < V2 ∨ (V = V2 ∧ (F < F2 ∨ (F = F2 ∧ (K < K2 ∨ (K = K2 ∧ O ≤ O2))))) := by
      rintro hlt V2 F2 K2 O2 ⟨v', f', k', fo', g1, g2⟩
      obtain ⟨rfl, rfl, rfl, rfl⟩ := h1.un g1
      omega
    have no : ∀ hle : (v < V ∨ (v = V ∧ (f < F ∨ (f = F ∧ (k < K ∨ (k = K ∧ fo ≤ O)))))), wX3_readBy_111 Q (nI F) (nI V) (nI K) (nI O) (nI j) 0 s := by
      intro hle
      unfold wX3_readBy_111
      exact br_p rfl (same ⟨v, f, k, fo, h1, hle⟩)
    rw [a1]
    have b32 : ∀ t0 : Int32, (V < v → t0 = 1) → (v < V → t0 = 0) → wX3_readBy_32 Q t0 (nI F) (nI V) (nI K) (nI O) (nI j) s := by
      intro t0 h10 h00
      unfold wX3_readBy_32
      rw [nI_clamp (by omega), a1, a2, a3, a4]
      refine ⟨vp_nI hj2 (by decide), pk_eq V v (fun e => ⟨vp_nI hj2 (by decide), ?_⟩) (fun e => ?_) rfl rfl (by omega) (by omega)⟩
      · refine pk_lt F f (fun e2 => ?_) (fun e2 => ⟨vp_nI hj2 (by decide), ?_⟩) rfl rfl (by omega) (by omega)
        · unfold wX3_readBy_104 wX3_readBy_109
          exact put (ge (by omega)) 1 (by decide)
        refine pk_eq F f (fun e3 => ⟨vp_nI hj2 (by decide), ?_⟩) (fun e3 => ?_) rfl rfl (by omega) (by omega)
        · refine pk_lt K k (fun e4 => ?_) (fun e4 => ⟨vp_nI hj2 (by decide), ?_⟩) rfl rfl (by omega) (by omega)
          · unfold wX3_readBy_104 wX3_readBy_109
            exact put (ge (by omega)) 1 (by decide)
          refine pk_eq K k (fun e5 => ⟨vp_nI hj2 (by decide), ?_⟩) (fun e5 => ?_) rfl rfl (by omega) (by omega)
          · refine pk_le fo O (fun e6 => ?_) (fun e6 => ?_) rfl rfl (by omega) (by omega)
            · unfold wX3_readBy_108 wX3_readBy_109
              exact no (by omega)
            · unfold wX3_readBy_104 wX3_readBy_109
              exact put (ge (by omega)) 1 (by decide)
          · unfold wX3_readBy_108 wX3_readBy_109
            exact no (by omega)
        · unfold wX3_readBy_108 wX3_readBy_109
          exact no (by omega)
      · rcases Nat.lt_or_ge V v with z | z
        · rw [h10 z]
          exact put (ge (by omega)) 1 (by decide)
        · rw [h00 (by omega)]
          exact no (by omega)
    refine pk_le v V (fun e => b32 0 (fun z => by omega) (fun _ => rfl)) (fun e => b32 1 (fun _ => rfl) (fun z => by omega)) rfl rfl (by omega) (by omega)
/-! over the knots -/
def kT (C : Cf) (p : Nat) : Nat := z_at (z_kl C (z_pl C)) p
def nT (C : Cf) : Nat := (z_kl C (z_pl C)).length
theorem tKn.at {C : Cf} {s : TS} (h : tKn C s) {p : Nat} (hp : p < nT C) : s.2.1 29 p = nI (z_srt (kT C p)) ∧ s.2.1 30 p = nI (kT C p / 5) ∧ s.2.1 31 p = nI (kT C p % 5 - 2) := h.2.1 p hp
theorem tKn.re {C : Cf} {s : TS} (h : tKn C s) {i : Nat} (hi : i ≤ C.1 34) : ∃ p, p < nT C ∧ s.2.1 32 i = nI p ∧ kT C p = 5 * i := h.2.2 i (by omega)
theorem tKn.n {C : Cf} {s : TS} (h : tKn C s) : s.1 28 = nI (nT C) := h.1
theorem tKn.mv {C : Cf} {s s' : TS} {T : List Nat} (h : tKn C s) (m : tfr T s s') (hT : ∀ k ∈ [28, 29, 30, 31, 32], k ∉ T) : tKn C s' := tKp.mv h m hT
def tPs (C : Cf) (t p q v f k fo : Nat) : Prop := f < nT C ∧ ∃ i pr, z_st C k i (kT C f) (kT C q) t pr fo ∧ z_up C (kT C p) (kT C f) ≠ 1000000000 ∧ v = z_up C (kT C p) (kT C f) + pr
def tR (C : Cf) (s : TS) : Prop := ∀ t p q, t < C.1 0 → p < nT C → q < nT C → tSo s (2704 * t + 52 * p + q) (tPs C t p q)
def tDn (C : Cf) (s : TS) (k f q t pr fo : Nat) : Prop := ∀ p, p < nT C → z_up C (kT C p) (kT C f) ≠ 1000000000 → tLe s (2704 * t + 52 * p + q) (z_up C (kT C p) (kT C f) + pr) f k fo
theorem tDn.le {C : Cf} {s s' : TS} {k f q t pr fo : Nat} (h : tDn C s k f q t pr fo) (m : tle s s') : tDn C s' k f q t pr fo := fun p hp hu => m _ _ _ _ _ (h p hp hu)
theorem nT_le {C : Cf} (ok : z_ok C) : nT C ≤ 51 := by
  have o := ok.1
  unfold nT z_kl
  simp only [z_kp, List.length_append, List.length_singleton]
  have a := z_kt_len C (z_pl C) (C.1 34)
  have b := z_kf1_len C (z_pl C) (C.1 34) (C.2 11 0)
  rw [if_neg (by omega)] at a b
  cases e : z_pl C with
  | true =>
    rw [e] at a b
    have := z_kl_pl (C := C) true rfl (C.1 34)
    omega
  | false =>
    rw [e] at a b
    have := z_kp_len ok false (C.1 34) (Nat.le_refl _)
    have := o.2.2.2.2.2.2.2 e
    omega
theorem kT_kn {C : Cf} (ok : z_ok C) : z_kn C (kT C) (nT C) := z_kl_kn ok (Or.inr rfl)
theorem kT_bd {C : Cf} (ok : z_ok C) {p : Nat} (h : p < nT C) : kT C p ≤ 5 * C.1 34 := by
  have := z_at_mem h
  obtain ⟨i, hi, e⟩ := z_kp_mem.mp this
  have o := ok.1
  unfold kT
  rcases e with e | e | e
  · omega
  · have := z_kt_mem.mp e; omega
  · obtain ⟨f, h1, h2, h3, -⟩ := z_kf1_mem.mp e; omega
theorem tw_step {C : Cf} {Q : TS → Prop} {s : TS} (ok : z_ok C) (h : tC C s) (hk : tKn C s) (hs : tSkA C s) (hR : tR C s) {k i f q t pr fo : Nat} (hf : f < nT C) (hq : q < nT C) (hst : z_st C k i (kT C f) (kT C q) t pr fo)
    (w : ∀ s', tfr [40, 41, 42, 43] s s' → tR C s' → tle s s' → tDn C s' k f q t pr fo → Q s') : wX3_step Q (nI t) (nI f) (nI q) (nI pr) (nI k) (nI fo) s := by
  have o := ok.1
  have n51 := nT_le ok
  have b := z_st_pl ok hst
  have fb := kT_bd ok hf
  unfold wX3_step
  rw [nI_clamp (by omega), (hk.at hf).1]
  -- one place
  have one : ∀ (Q : TS → Prop) (s1 : TS) (p : Nat), p < nT C → z_up C (kT C p) (kT C f) ≠ 1000000000 → tR C s1 → (∀ s', tfr [40, 41, 42, 43] s1 s' → tR C s' → tle s1 s' → tLe s' (2704 * t + 52 * p + q) (z_up C (kT C p) (kT C f) + pr) f k fo → Q s') → wX3_readBy Q (nI t) (nI p) (nI f) (nI q) (nI (z_up C (kT C p) (kT C f) + pr)) (nI k) (nI fo) s1 := by
    intro Q s1 p hp hu hR1 hQ
    have ub := z_up_bd ok (p := kT C p) fb
    refine tw_readBy (P := tPs C t p q) rfl (by omega) (hR1 t p q b.2.2.2.2.2.2.2.1 hp hq) ⟨hf, i, pr, hst, hu, rfl⟩ (by omega) (by omega) (by omega) (by omega) (fun s' m1 m2 m3 m4 m5 => hQ s' m1 (fun t' p' q' ht' hp' hq' => ?_) m5 m4)
    by_cases e : 2704 * t' + 52 * p' + q' = 2704 * t + 52 * p + q
    · have e1 : t' = t := by omega
      have e2 : p' = p := by omega
      have e3 : q' = q := by omega
      subst e1; subst e2; subst e3
      exact m3
    · exact (hR1 t' p' q' ht' hp' hq').cg (m2 _ e)
  have srt : z_srt (kT C f) = 0 ↔ kT C f % 5 = 0 := by
    unfold z_srt
    by_cases e : kT C f % 5 = 0
    · rw [if_pos e]; simp [e]
    · rw [if_neg e]
      by_cases e2 : kT C f % 5 = 1
      · rw [if_pos e2]; simp [e]
      · rw [if_neg e2]; simp [e]
  have srt3 : z_srt (kT C f) < 3 := by
    unfold z_srt
    by_cases e : kT C f % 5 = 0
    · rw [if_pos e]; decide
    · rw [if_neg e]
      by_cases e2 : kT C f % 5 = 1
      · rw [if_pos e2]; decide
      · rw [if_neg e2]; decide
  refine ⟨vp_nI (by omega) (by decide), ?_⟩
  by_cases e0 : kT C f % 5 = 0
  · refine br_p (by show nI (z_srt (kT C f)) ≤ 0; rw [srt.mpr e0, nI_0]; decide) ?_
    refine pk_loop (σ := TS) (fun n x s' => wX3_step_27 Q _ n (nI t) (nI f) (nI q) (nI pr) (nI k) (nI fo) (nI x) s') (fun x s' => tfr [40, 41, 42, 43] s s' ∧ tR C s' ∧ tle s s' ∧ ∀ p, p < nT C → kT C p < 5 * x → z_up C (kT C p) (kT C f) ≠ 1000000000 → tLe s' (2704 * t + 52 * p + q) (z_up C (kT C p) (kT C f) + pr) f k fo) (kT C f / 5 + 1) 0 s (by omega) ⟨tfr.rf, hR, fun _ _ _ _ _ w => w, fun p _ hp => by omega⟩ ?_ ?_
    · rintro n s1 ⟨m1, m2, m3, m4⟩
      simp only [wX3_step_27]
      rw [nI_clamp (by omega), m1.a 30, (hk.at hf).2.1]
      refine ⟨vp_nI (by omega) (by decide), br_p (nI_lt (by show kT C f / 5 < kT C f / 5 + 1; omega) (by omega)) (w s1 m1 m2 m3 (fun p hp hu => m4 p hp ?_ hu))⟩
      have := z_up_main hu
      omega
    · rintro n x s1 hx ⟨m1, m2, m3, m4⟩ hs1
      simp only [wX3_step_27]
      rw [nI_clamp (by omega), m1.a 30, (hk.at hf).2.1, m1.a 38, m1.a 32]
      have hx2 : x ≤ kT C f / 5 := by omega
      have hi : i = kT C f / 5 := b.2.1.symm
      simp only [k12, pk_mul, nI_add]
      refine ⟨vp_nI (by omega) (by decide), br_n (nI_nlt hx2 (by omega)) ⟨vp_nI (by omega) (by decide), vp_nI (by show 12 * x + kT C f / 5 < 144; omega) (by decide), al_eq ?_⟩⟩
      rw [nI_clamp (by show 12 * x + kT C f / 5 < _; omega), hs.at (i := x) (j := kT C f / 5) hx2 (by omega)]
      have kb := z_k_bd2 ok (i := x) (j := kT C f / 5) hx2 (by omega)
      obtain ⟨p0, hp0, hp1, hp2⟩ := hk.re (i := x) (by omega)
      have up0 : z_up C (kT C p0) (kT C f) = z_k C x (kT C f / 5) := by
        unfold z_up
        rw [show kT C p0 = 5 * x from hp2]
        by_cases e : 5 * x = kT C f
        · rw [if_pos e, show kT C f / 5 = x by omega, z_k_self]
        · rw [if_neg e, if_pos (by omega), show 5 * x / 5 = x by omega]
      have nx : ∀ s2, tfr [40, 41, 42, 43] s1 s2 → tR C s2 → tle s1 s2 → (z_up C (kT C p0) (kT C f) ≠ 1000000000 → tLe s2 (2704 * t + 52 * p0 + q) (z_up C (kT C p0) (kT C f) + pr) f k fo) → wX3_step_87 Q (wX3_step_27 Q (fun s_1 => Q s_1) n) (fun s_1 => Q s_1) (nI t) (nI f) (nI q) (nI pr) (nI k) (nI fo) (nI x) s2 := by
        intro s2 l1 l2 l3 l4
        unfold wX3_step_87
        rw [nI_1]
        refine al_eq (hs1 s2 ⟨m1.tr l1, l2, m3.tr l3, fun p hp hpx hu => ?_⟩)
        by_cases e : kT C p < 5 * x
        · exact l3 _ _ _ _ _ (m4 p hp e hu)
        · have := z_up_main hu
          have e2 : kT C p = kT C p0 := by
            have : kT C p0 = 5 * x := hp2
            omega
          have e3 := (kT_kn ok).inj hp hp0 e2
          subst e3
          exact l4 hu
      rw [k1e9]
      refine pk_eq (z_k C x (kT C f / 5)) 1000000000 (fun e => nx s1 tfr.rf m2 (fun _ _ _ _ _ w => w) (fun z => absurd (up0.trans e) z)) (fun e => ⟨vp_nI (by omega) (by decide), ?_⟩) rfl rfl (by omega) (by decide)
      rw [nI_clamp (by omega), hp1, ← up0, nI_add]
      exact one _ s1 p0 hp0 (by rw [up0]; exact e) m2 (fun s2 l1 l2 l3 l4 => nx s2 l1 l2 l3 (fun _ => l4))
  · refine br_n (by
      show ¬ nI (z_srt (kT C f)) ≤ 0
      have : z_srt (kT C f) ≠ 0 := fun z => e0 (srt.mp z)
      exact nI_nle (by omega) (by omega)) ?_
    have u0 : z_up C (kT C f) (kT C f) = 0 := by unfold z_up; rw [if_pos rfl]
    have := one Q s f hf (z_up_self C _) hR (fun s' m1 m2 m3 m4 => w s' m1 m2 m3 (fun p hp hu => by
      have := z_up_main hu
      have e3 := (kT_kn ok).inj hp hf (by omega)
      subst e3
      exact m4))
    rw [u0, Nat.zero_add] at this
    exact this
theorem tw_specialAt {C : Cf} {Q : Int32 → TS → Prop} {s : TS} (ok : z_ok C) (hk : tKn C s) {p a b c : Nat} (hp : p < nT C) (ha : a = z_srt (kT C p)) (hb : b = kT C p / 5) (hc : c = kT C p % 5 - 2) (q : Q (nI p) s) : wX3_specialAt Q (nI a) (nI b) (nI c) s := by
  have n51 := nT_le ok
  have o := ok.1
  have pb := kT_bd ok hp
  have sb : ∀ l, z_srt l < 3 := by
    intro l
    unfold z_srt
    by_cases e : l % 5 = 0
    · rw [if_pos e]; decide
    · rw [if_neg e]
      by_cases e2 : l % 5 = 1
      · rw [if_pos e2]; decide
      · rw [if_neg e2]; decide
  unfold wX3_specialAt
  refine pk_loop (σ := TS) (fun n x s' => wX3_specialAt_3 Q _ n (nI a) (nI b) (nI c) (nI x) s') (fun x s' => s' = s) p 0 s (by omega) rfl ?_ ?_
  · rintro n s1 rfl
    simp only [wX3_specialAt_3]
    rw [nI_clamp (by omega), (hk.at hp).1, (hk.at hp).2.1, (hk.at hp).2.2, ha, hb, hc]
    exact ⟨vp_nI (by omega) (by decide), br_p rfl ⟨vp_nI (by omega) (by decide), br_p rfl ⟨vp_nI (by omega) (by decide), br_p rfl q⟩⟩⟩
  · rintro n x s1 hx rfl hs1
    simp only [wX3_specialAt_3]
    have hx2 : x < nT C := by omega
    have xb := kT_bd ok hx2
    rw [nI_clamp (by omega), (hk.at hx2).1, (hk.at hx2).2.1, (hk.at hx2).2.2]
    have nx : wX3_specialAt_36 Q (wX3_specialAt_3 Q (fun x4_1 s_2 => Q x4_1 s_2) n) (fun x4_1 s_2 => Q x4_1 s_2) (nI a) (nI b) (nI c) (nI x) s1 := by
      unfold wX3_specialAt_36
      rw [nI_1]
      exact al_eq (hs1 s1 rfl)
    have ne : kT C x < kT C p := (kT_kn ok).1 x p hx hp
    have s1' := sb (kT C x)
    have s2' := sb (kT C p)
    refine ⟨vp_nI (by omega) (by decide), pk_eq (z_srt (kT C x)) a (fun e1 => ⟨vp_nI (by omega) (by decide), ?_⟩) (fun _ => nx) rfl rfl (by omega) (by omega)⟩
    refine pk_eq (kT C x / 5) b (fun e2 => ⟨vp_nI (by omega) (by decide), ?_⟩) (fun _ => nx) rfl rfl (by omega) (by omega)
    refine pk_eq (kT C x % 5 - 2) c (fun e3 => ?_) (fun _ => nx) rfl rfl (by omega) (by omega)
    exfalso
    rw [ha] at e1
    unfold z_srt at e1
    by_cases d1 : kT C x % 5 = 0
    · rw [if_pos d1] at e1
      by_cases d2 : kT C p % 5 = 0
      · omega
      · rw [if_neg d2] at e1
        by_cases d3 : kT C p % 5 = 1
        · rw [if_pos d3] at e1; omega
        · rw [if_neg d3] at e1; omega
    · rw [if_neg d1] at e1
      by_cases d2 : kT C p % 5 = 0
      · rw [if_pos d2] at e1
        by_cases d3 : kT C x % 5 = 1
        · rw [if_pos d3] at e1; omega
        · rw [if_neg d3] at e1; omega
      · rw [if_neg d2] at e1
        by_cases d3 : kT C x % 5 = 1
        · rw [if_pos d3] at e1
          by_cases d4 : kT C p % 5 = 1
          · omega
          · rw [if_neg d4] at e1; omega
        · rw [if_neg d3] at e1
          by_cases d4 : kT C p % 5 = 1
          · rw [if_pos d4] at e1; omega
          · omega
