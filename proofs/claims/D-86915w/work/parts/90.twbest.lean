/-! PLAIN LAW, the twin: the best end -/
set_option maxRecDepth 100000
theorem lexB {B a b a' b' : Nat} (hb : b < B) (hb' : b' < B) : a * B + b ≤ a' * B + b' ↔ a < a' ∨ (a = a' ∧ b ≤ b') := by
  rcases Nat.lt_trichotomy a a' with z | z | z
  · have := Nat.mul_le_mul_right B (show a + 1 ≤ a' from z)
    rw [Nat.add_mul] at this
    constructor
    · intro _; exact Or.inl z
    · intro _; omega
  · subst z
    constructor
    · intro h; exact Or.inr ⟨rfl, by omega⟩
    · intro h; omega
  · have := Nat.mul_le_mul_right B (show a' + 1 ≤ a from z)
    rw [Nat.add_mul] at this
    constructor
    · intro h; omega
    · intro h; omega
theorem lexW {a b a' b' : Nat} (hb : b ≤ 2398411) (hb' : b' ≤ 2398411) : a * 4294967296 + b ≤ a' * 4294967296 + b' ↔ a * 16777216 + b ≤ a' * 16777216 + b' := by
  rw [lexB (B := 4294967296) (by omega) (by omega), lexB (B := 16777216) (by omega) (by omega)]
theorem cstW {a b : Nat} (ha : a ≤ 235399017 + 1221) (hb : b ≤ 2398411) : a * 4294967296 + b < 1152921504606846976 := by
  have : a * 4294967296 ≤ (235399017 + 1221) * 4294967296 := Nat.mul_le_mul_right _ ha
  have e : (235399017 + 1221) * 4294967296 + 2398411 < 1152921504606846976 := by decide
  exact Nat.lt_of_le_of_lt (Nat.add_le_add this hb) e
section TWB
variable {C : Cf} {s : TS}
theorem tw_mendingTo {Q : Int32 → TS → Prop} (ok : z_ok C) (hV : tV C s) (h6 : C.1 6 < C.1 5) (w0 : z_nob C → Q (-4) s) (w1 : ∀ i a b q, z_bst C i a b → q < nT C → kT C q = 5 * i → Q (nI q) s) : wX3_mendingTo Q s := by
  have o := ok.1
  have n51 := nT_le ok
  obtain ⟨⟨hC, hK, hS, hR⟩, hF⟩ := id hV
  have tb := hF.tb ok
  obtain ⟨z0, k0⟩ := kT_0 ok
  unfold wX3_mendingTo
  refine pk_loop (σ := Int32 × Int64) (fun n i x => wX3_mendingTo_10 Q _ n x.1 x.2 (nI i) s) (fun i x => (x.1 = -4 ∧ x.2 = lN 1152921504606846976 ∧ ∀ i' a b, i' < i → ¬ z_bp C i' a b) ∨ (∃ b0 q a b, b0 < i ∧ q < nT C ∧ kT C q = 5 * b0 ∧ x.1 = nI q ∧ x.2 = lN (a * 4294967296 + b) ∧ z_bp C b0 a b ∧ (∀ i' a' b', i' < i → z_bp C i' a' b' → a * 16777216 + b ≤ a' * 16777216 + b') ∧ ∀ i' a' b', i' < b0 → z_bp C i' a' b' → a * 16777216 + b < a' * 16777216 + b')) (C.1 34 + 1) 0 (-4, 1152921504606846976) (by omega) (Or.inl ⟨rfl, lF, fun i' a b h => by omega⟩) ?_ ?_
  · rintro n ⟨x1, x2⟩ h
    simp only [wX3_mendingTo_10]
    rw [hC.i 34]
    refine br_p (nI_lt (by omega) (by omega)) ?_
    rcases h with ⟨e1, e2, e3⟩ | ⟨b0, q, a, b, e1, eq1, eq2, e2, e3, e4, e5, e6⟩
    · obtain rfl : x1 = -4 := e1
      exact w0 (fun i a b hi => e3 i a b (by omega))
    · obtain rfl : x1 = nI q := e2
      exact w1 b0 a b q ⟨by omega, e4, fun i' a' b' hi => e5 i' a' b' (by omega), e6⟩ eq1 eq2
  · rintro n i ⟨x1, x2⟩ hi h hs
    obtain ⟨q, hq, eq, ekq⟩ := hK.re (i := i) (by omega)
    have hsk := (hS i (C.1 34) (by omega) (Nat.le_refl _)).1
    have kb := z_k_bd2 ok (i := i) (j := C.1 34) (by omega) (Nat.le_refl _)
    have x2b : ∃ v, x2 = lN v ∧ v ≤ 1152921504606846976 := by
      rcases h with ⟨e1, e2, e3⟩ | ⟨b0, q, a, b, e1, eq1, eq2, e2, e3, e4, e5, e6⟩
      · exact ⟨1152921504606846976, e2, Nat.le_refl _⟩
      · have ab := z_bp_bd ok (i := b0) (by omega) e4
        exact ⟨_, e3, Nat.le_of_lt (cstW ab.1 ab.2)⟩
    have skip : (∀ a b, ¬ z_bp C i a b) → wX3_mendingTo_80 Q (wX3_mendingTo_10 Q (fun x1_1 s_2 => Q x1_1 s_2) n) (fun x1_1 s_2 => Q x1_1 s_2) (lN 1152921504606846976) x1 x2 (nI i) s := by
      intro no
      unfold wX3_mendingTo_80 wX3_mendingTo_100
      rw [nI_1]
      obtain ⟨v, ev, hv⟩ := x2b
      refine br_p (by rw [ev]; exact (lLE2 hv (Nat.le_refl _)).mpr hv) (al_eq (hs (x1, x2) ?_))
      rcases h with ⟨e1, e2, e3⟩ | ⟨b0, q, a, b, e1, eq1, eq2, e2, e3, e4, e5, e6⟩
      · refine Or.inl ⟨e1, e2, fun i' a b h' => ?_⟩
        by_cases e : i' = i
        · subst e; exact no a b
        · exact e3 i' a b (by omega)
      · refine Or.inr ⟨b0, q, a, b, by omega, eq1, eq2, e2, e3, e4, fun i' a' b' h' g => ?_, e6⟩
        by_cases e : i' = i
        · subst e; exact absurd g (no a' b')
        · exact e5 i' a' b' (by omega) g
    simp only [wX3_mendingTo_10]
    rw [hC.i 34, hC.i 6, k12, pk_mul, nI_add, nI_clamp (by omega), hsk, lF]
    refine br_n (nI_nlt (by omega) (by omega)) ⟨vp_nI (by omega) (by decide), al_eq ?_⟩
    refine pk_eq (z_k C i (C.1 34)) 1000000000 (fun e => ?_) (fun e => ?_) rfl rfl (by omega) (by decide)
    · exact skip (fun a b g => by
        obtain ⟨pr', q1, q2, q3⟩ := g
        exact q2 e)
    rw [nI_clamp (by omega), eq, k2704, pk_mul, nI_add, nI_clamp (by omega)]
    refine ⟨vp_nI (by omega) (by decide), vp_nI (by omega) (by decide), ?_⟩
    have ev := hF.1 (C.1 6) 0 q h6 z0 hq
    rw [show 2704 * C.1 6 + 52 * 0 + q = 2704 * C.1 6 + q by omega] at ev
    rw [ev.1, nI_l (by omega), lW, lN_mul]
    have kk1 : 4294967296 * z_k C i (C.1 34) < 1152921504606846976 := by omega
    refine tw_sum ev.2 (Nat.le_of_lt kk1) ?_
    by_cases eV : 1152921504606846976 ≤ tt s (C.1 6) 0 q
    · rw [show z_sum (tt s (C.1 6) 0 q) (4294967296 * z_k C i (C.1 34)) = 1152921504606846976 by unfold z_sum; rw [if_pos (Or.inl eV)]]
      refine skip ?_
      rintro a b ⟨pr, q1, q2, q3⟩
      have bb := z_bp_bd ok (i := i) (by omega) ⟨pr, q1, q2, q3⟩
      have fin := cstW (a := pr) (b := b) (by omega) bb.2
      have := (z_T_of (T := tt s) ok (kT_kn ok) tb (by decide) (p := 0) (q := q) z0 hq (by rw [k0, ekq]; exact q1) fin).2
      omega
    obtain ⟨pr, sz, m1, m2, m3⟩ := z_T_fin (T := tt s) ok (kT_kn ok) tb (by decide) h6 (Nat.zero_le q) hq (by omega)
    rw [k0, ekq] at m1
    have me : z_bp C i (pr + z_k C i (C.1 34)) sz := ⟨pr, m1, e, rfl⟩
    have mb := z_bp_bd ok (i := i) (by omega) me
    have ez : z_sum (tt s (C.1 6) 0 q) (4294967296 * z_k C i (C.1 34)) = (pr + z_k C i (C.1 34)) * 4294967296 + sz := by
      unfold z_sum
      rw [if_neg (by omega), m3, Nat.add_mul]
      omega
    rw [ez]
    have cb := cstW mb.1 mb.2
    unfold wX3_mendingTo_80
    have take : (∀ i' a' b', i' < i → z_bp C i' a' b' → (pr + z_k C i (C.1 34)) * 16777216 + sz < a' * 16777216 + b') → vp_in (nI i) 12 ∧ (∀ x1_6 : Int32, x1_6 = s.2.1 32 (nI i).toNatClampNeg → wX3_mendingTo_100 Q (wX3_mendingTo_10 Q (fun x1_1 s_2 => Q x1_1 s_2) n) (fun x1_1 s_2 => Q x1_1 s_2) x1_6 (lN ((pr + z_k C i (C.1 34)) * 4294967296 + sz)) (nI i) s) := by
      intro lt
      refine ⟨vp_nI (by omega) (by decide), ?_⟩
      rw [nI_clamp (by omega), eq]
      unfold wX3_mendingTo_100
      rw [nI_1]
      refine al_eq (al_eq (hs (_, _) (Or.inr ⟨i, q, _, _, by omega, hq, ekq, rfl, rfl, me, fun i' a' b' h' g => ?_, lt⟩)))
      by_cases e : i' = i
      · subst e
        obtain ⟨r1, r2⟩ := z_bp_un ok me g
        rw [r1, r2]; exact Nat.le_refl _
      · exact Nat.le_of_lt (lt i' a' b' (by omega) g)
    rcases h with ⟨e1, e2, e3⟩ | ⟨b0, q', a, b, e1, eq1, eq2, e2, e3, e4, e5, e6⟩
    · obtain rfl : x2 = lN 1152921504606846976 := e2
      refine br_n (fun y => by have := (lLE2 (Nat.le_refl _) (Nat.le_of_lt cb)).mp y; omega) (take (fun i' a' b' h' g => absurd g (e3 i' a' b' h')))
    · obtain rfl : x2 = lN (a * 4294967296 + b) := e3
      have ab := z_bp_bd ok (i := b0) (by omega) e4
      have key : lN (a * 4294967296 + b) ≤ lN ((pr + z_k C i (C.1 34)) * 4294967296 + sz) ↔ a * 4294967296 + b ≤ (pr + z_k C i (C.1 34)) * 4294967296 + sz := lLE2 (Nat.le_of_lt (cstW ab.1 ab.2)) (Nat.le_of_lt cb)
      rw [lexW ab.2 mb.2] at key
      refine ⟨fun y0 => ?_, fun y0 => take (fun i' a' b' h' g => by
        have := e5 i' a' b' h' g
        have y : ¬ (a * 16777216 + b ≤ (pr + z_k C i (C.1 34)) * 16777216 + sz) := fun z => y0 (key.mpr z)
        exact Nat.lt_of_lt_of_le (Nat.not_le.mp y) this)⟩
      have y := key.mp y0
      unfold wX3_mendingTo_100
      rw [nI_1]
      refine al_eq (hs (_, _) (Or.inr ⟨b0, q', a, b, by omega, eq1, eq2, e2, rfl, e4, fun i' a' b' h' g => ?_, e6⟩))
      by_cases e : i' = i
      · subst e
        obtain ⟨r1, r2⟩ := z_bp_un ok me g
        rw [← r1, ← r2]; exact y
      · exact e5 i' a' b' (by omega) g
end TWB
