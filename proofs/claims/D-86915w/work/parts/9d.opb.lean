/-! PLAIN LAW: calls 5, 2 -/
set_option maxRecDepth 100000
section OPB
variable {σ : gH} {x0 CB SB : Nat} {s : TS} {a1 a2 a3 a4 a5 : Int32}
theorem pr_ok {x : Int32} (h : 1 ≤ x.toInt64 ∧ x.toInt64 ≤ 100) : vp_in x 101 ∧ x ≠ 0 := by
  rw [Int64.le_iff_toInt_le, Int64.le_iff_toInt_le, Int32.toInt_toInt64, show (1 : Int64).toInt = 1 from rfl, show (100 : Int64).toInt = 100 from rfl] at h
  refine ⟨by rw [vp_in_iff]; omega, fun e => ?_⟩
  rw [e, Int32.toInt_zero] at h
  omega
theorem t_price {Q : Int32 → TS → Prop} {n : Nat} (en : s.1 0 = nI n) (hn : n < 2 ^ 30) (h0 : ¬ ((1 ≤ a3.toInt64 ∧ a3.toInt64 ≤ 100) ∧ vp_in a1 5 ∧ (3 ≤ a1 → a2 = 0) ∧ (¬ 3 ≤ a1 → vp_in a2 n)) → Q (-1) s) (h1 : (1 ≤ a3.toInt64 ∧ a3.toInt64 ≤ 100) → vp_in a1 5 → (3 ≤ a1 → a2 = 0) → (¬ 3 ≤ a1 → vp_in a2 n) → wX3_price_46 Q a1 a2 a3 s) : wX3_price Q a1 a2 a3 s := by
  unfold wX3_price
  refine in_any3 (fun z1 => br_n (by decide) (in_c3 4 (by decide) rfl (fun z2 => br_n (by decide) ⟨fun z3 => ⟨fun z4 => ?_, fun z4 => ?_⟩, fun z3 => ?_⟩) (fun z2 => br_p rfl (h0 (fun y => z2 y.2.1))))) (fun z1 => br_p rfl (h0 (fun y => z1 y.1)))
  · exact h1 z1 z2 (fun _ => z4) (fun y => absurd z3 y)
  · exact h0 (fun y => z4 (y.2.2.1 z3))
  · exact t_isToken en hn (fun z4 => br_n (by decide) (h1 z1 z2 (fun y => absurd y z3) (fun _ => z4))) (fun z4 => br_p rfl (h0 (fun y => z4 (y.2.2.2 z3))))
theorem op_5 (h : JJ x0 σ s) : l_op 5 a1 a2 a3 a4 a5 (JJ x0) CB SB x0 σ s := by
  refine l_op_of fun Q hQ => ?_
  have h' := h
  obtain ⟨ow, k, ch, wy, hx, ha, hv, hc, he⟩ := h
  rw [← gF_oL] at hx
  obtain ⟨n, hn, en, en'⟩ := vp_i hv.1.1.1 (by decide)
  have bad : ¬ ((1 ≤ a3.toInt64 ∧ a3.toInt64 ≤ 100) ∧ vp_in a1 5 ∧ (3 ≤ a1 → a2 = 0) ∧ (¬ 3 ≤ a1 → vp_in a2 n)) → Q (-1) σ := fun y => hQ _ _ s (fun Q hq => t_price en (by omega) (fun _ => hq) (fun z1 z2 z3 z4 => absurd ⟨z1, z2, z3, z4⟩ y)) h'
  have tw : ∀ v s', (1 ≤ a3.toInt64 ∧ a3.toInt64 ≤ 100) → vp_in a1 5 → (3 ≤ a1 → a2 = 0) → (¬ 3 ≤ a1 → vp_in a2 n) → (∀ Q : Int32 → TS → Prop, Q v s' → wX3_price_46 Q a1 a2 a3 s) → l_tw 5 a1 a2 a3 a4 a5 s v s' := fun v s' z1 z2 z3 z4 hh Q hq => t_price en (by omega) (fun y => absurd ⟨z1, z2, z3, z4⟩ y) (fun _ _ _ _ => hh Q hq)
  have p32 : vp_in a1 5 → (3 ≤ a1 → a2 = 0) → (¬ 3 ≤ a1 → vp_in a2 n) → wX0_price_32 Q x0 a1 a2 a3 σ := by
    intro z2 z3 z4
    unfold wX0_price_32
    refine in_any (fun z1 => br_n (by decide) ?_) (fun z1 => br_p rfl (bad (fun y => z1 y.1)))
    obtain ⟨pv1, pv2⟩ := pr_ok z1
    obtain ⟨w, hw, ew, ew'⟩ := vp_i z2 (by decide)
    refine ⟨fun y3 => ⟨fun y4 => ?_, fun y4 => ?_⟩, fun y3 => ?_⟩
    · refine i_Io hx (by decide) (v := s.1 3) rfl (br_p y3 (br_p y4 (i_Po hx (by decide) (fun σ1 m1 x1 => ⟨tb1, i_Po x1 (by decide) (fun σ2 m2 x2 => ?_)⟩))))
      refine hQ _ _ (tI (tI s 16 0) 3 a3) (tw _ _ z1 z2 z3 z4 (fun Q hq => ⟨tb0, al_eq (br_p y3 (br_p y4 (al_eq (al_eq hq))))⟩)) ?_
      have ra := ha.mv hv (m1.tr m2) (by decide)
      obtain ⟨⟨v1, v2, v3, v4, v5, v6, v7⟩, ⟨v8, v9⟩, v10⟩ := hv
      exact JJ_mk (k' := k) (ch' := 1) (wy' := wy) x2 rfl ra ⟨⟨v1, ⟨⟨pv1, pv2⟩, v2.2⟩, v3, v4, v5, v6, v7⟩, ⟨v8, v9⟩, v10⟩ hc.set he
    · refine i_Io hx (by decide) (v := s.1 4) rfl (br_p y3 (br_n y4 (i_Po hx (by decide) (fun σ1 m1 x1 => ⟨tb1, i_Po x1 (by decide) (fun σ2 m2 x2 => ?_)⟩))))
      refine hQ _ _ (tI (tI s 16 0) 4 a3) (tw _ _ z1 z2 z3 z4 (fun Q hq => ⟨tb0, al_eq (br_p y3 (br_n y4 (al_eq (al_eq hq))))⟩)) ?_
      have ra := ha.mv hv (m1.tr m2) (by decide)
      obtain ⟨⟨v1, v2, v3, v4, v5, v6, v7⟩, ⟨v8, v9⟩, v10⟩ := hv
      exact JJ_mk (k' := k) (ch' := 1) (wy' := wy) x2 rfl ra ⟨⟨v1, ⟨v2.1, pv1, pv2⟩, v3, v4, v5, v6, v7⟩, ⟨v8, v9⟩, v10⟩ hc.set he
    · have hw3 : w < 3 := by
        rcases Nat.lt_or_ge w 3 with z | z
        · exact z
        · exact absurd (by rw [ew]; exact nI_le (a := 3) z (by omega)) y3
      obtain ⟨j, hj, ej, ej'⟩ := vp_i (z4 y3) (by omega)
      obtain ⟨⟨q1, ⟨pf, p1, p2⟩, q3, q4, q5, q6⟩, rtl⟩ := ha
      obtain ⟨b, gg, pe, ph, pg⟩ := p2 w hw3
      refine i_Ro hx (by decide) rfl ⟨_, rfl, i_aR p1.1 ew hw3 (by decide) ⟨b, pe, i_aI ph.1 ej (by omega) (by decide) ?_⟩⟩
      refine br_n y3 (i_Ro hx (by decide) rfl ⟨_, rfl, i_aR p1.1 ew hw3 (by decide) ⟨b, pe, i_sIo ph ej (by omega) (by decide) (fun σ1 m1 ph' => ?_)⟩⟩)
      have s1 : ∀ t ∈ [4 + w], t ∈ [1, 4, 5, 6] := by
        intro t ht
        rw [List.mem_singleton] at ht
        simp only [List.mem_cons, List.not_mem_nil, or_false]
        omega
      have x1 := hx.mv m1 (by rw [List.mem_singleton]; omega)
      refine ⟨tb1, i_Po x1 (by decide) (fun σ2 m2 x2 => ?_)⟩
      rw [pg j (by omega)]
      have ec : (12 * a1 + a2).toNatClampNeg = 12 * w + j := by rw [ew, ej, k12, pk_mul, nI_add, nI_clamp (by omega)]
      have vi : vp_in (12 * a1 + a2) 36 := by rw [ew, ej, k12, pk_mul, nI_add]; exact vp_nI (by omega) (by decide)
      refine hQ _ _ (tA (tI s 16 0) 2 (12 * a1 + a2).toNatClampNeg a3) (tw _ _ z1 z2 z3 z4 (fun Q hq => ⟨tb0, al_eq (br_n y3 ⟨vi, al_eq ⟨vi, al_eq ?_⟩⟩)⟩)) ?_
      · show Q (s.2.1 2 (12 * a1 + a2).toNatClampNeg) (tA (tI s 16 0) 2 (12 * a1 + a2).toNatClampNeg a3)
        rw [ec] at hq ⊢
        exact hq
      · rw [ec]
        have M : hmv [1, 4, 5, 6] ow σ ow σ2 := (m1.sub s1).tr (m2.sub (by decide))
        have rt : r_tail ow σ2 s k wy := r_tail.mv rtl M (by decide)
        obtain ⟨⟨v1, v2, v3, v4, v5, v6, v7⟩, ⟨v8, v9⟩, v10⟩ := hv
        obtain ⟨ru, q3⟩ := q3
        obtain ⟨fo0, q4⟩ := q4
        obtain ⟨fo1, q5⟩ := q5
        refine JJ_mk (k' := k) (ch' := 1) (wy' := wy) x2 rfl ⟨⟨q1.mv M (by decide), ⟨pf, p1.mv M (by decide), fun w' hw' => ?_⟩, ⟨ru, q3.mv M v4.le (by decide) (by decide) (by decide)⟩, ⟨fo0, q4.mv M (by decide) (by decide) (by decide)⟩, ⟨fo1, q5.mv M (by decide) (by decide) (by decide)⟩, q6.mv M (by decide)⟩, rt⟩ ⟨⟨⟨v1.1, fun t ht => ⟨(v1.2 t ht).1, fun w' hw' => ?_⟩⟩, v2, v3, v4, v5, v6, v7⟩, ⟨v8, v9⟩, v10⟩ hc.set he
        · by_cases e : w' = w
          · subst e
            refine ⟨b, upd gg j a3, pe, ph'.mv m2 (by rw [List.mem_singleton]; omega), fun t ht => ?_⟩
            show upd gg j a3 t = va_up (s.2.1 2) (12 * w' + j) a3 (12 * w' + t)
            by_cases e2 : t = j
            · rw [e2, upd_s, va_up_self]
            · rw [upd_n _ _ e2, va_up_ne _ _ (by omega)]; exact pg t ht
          · obtain ⟨b', g', pe', ph2, pg'⟩ := p2 w' hw'
            refine ⟨b', g', pe', (ph2.mv m1 (by rw [List.mem_singleton]; omega)).mv m2 (by rw [List.mem_singleton]; omega), fun t ht => ?_⟩
            show g' t = va_up (s.2.1 2) (12 * w + j) a3 (12 * w' + t)
            rw [va_up_ne _ _ (by omega)]; exact pg' t ht
        · show vp_in (va_up (s.2.1 2) (12 * w + j) a3 (12 * w' + t)) 101 ∧ va_up (s.2.1 2) (12 * w + j) a3 (12 * w' + t) ≠ 0
          by_cases e : 12 * w' + t = 12 * w + j
          · rw [e, va_up_self]; exact ⟨pv1, pv2⟩
          · rw [va_up_ne _ _ e]; exact (v1.2 t ht).2 w' hw'
  show wX0_price Q x0 a1 a2 a3 σ
  unfold wX0_price
  refine in_c 4 (by decide) rfl (fun z2 => br_n (by decide) ⟨fun z3 => ⟨fun z4 => ?_, fun z4 => ?_⟩, fun z3 => ?_⟩) (fun z2 => br_p rfl (bad (fun y => z2 y.2.1)))
  · exact p32 z2 (fun _ => z4) (fun y => absurd z3 y)
  · exact bad (fun y => z4 (y.2.2.1 z3))
  · exact c_isToken hx (congrArg Value.int en) (by omega) (fun z4 => br_n (by decide) (p32 z2 (fun y => absurd y z3) (fun _ => z4))) (fun z4 => br_p rfl (bad (fun y => z4 (y.2.2.2 z3))))
/-- a rule is made -/
theorem c_rule {ow : Nat → Nat} {mc ms q : Nat} {ow1 : Nat → Nat} {σ1 : gH} {Q : gH → Prop} {x1 x2 : Int32} {r : Nat} (hq : σ.2 q = none) (m1 : hmv [] ow σ ow1 σ1) (k1 : hat ow1 σ1 q (20 + r) (cO 4 [.int 0, .int 0, .null, .null, .int 0])) (hmc : 2 ≤ mc) (hms : 6 ≤ ms) (w : ∀ so wh ow' σ', hmv [] ow σ ow' σ' → hat ow' σ' q (20 + r) (cO 4 [.int x1, .int x2, .ref so, .ref wh, .int 0]) → hat ow' σ' so (50 + r) (cI 3 (fun _ => 0)) → hat ow' σ' wh (80 + r) (cI 3 (fun _ => 0)) → Q σ') : wX4_init Q mc ms q x1 x2 σ1 := by
  have c3 : (3 : Int32).toNatClampNeg = 3 := rfl
  unfold wX4_init
  rw [c3]
  refine ⟨by omega, by omega, by decide, by decide, i_newF (ow := ow1) (50 + r) (fun so ow2 σ2 hso m2 kso => ?_)⟩
  have k2 := k1.mv m2 (by simp)
  refine i_Pf [.int 0, .int 0, .ref so, .null, .int 0] k2.1 (by decide) rfl (by simp) ?_
  have k3 := k2.set (x := cO 4 [.int 0, .int 0, .ref so, .null, .int 0])
  have n3 : so ≠ q := kso.ne2 k2 (by simp [ck])
  have so3 : hat ow2 (g_up σ2 q (cO 4 [.int 0, .int 0, .ref so, .null, .int 0])) so (50 + r) (cI 3 (fun _ => 0)) := kso.up2 k2 (by simp [ck])
  have M3 : hmv [] ow σ ow2 (g_up σ2 q (cO 4 [.int 0, .int 0, .ref so, .null, .int 0])) := (m1.tr m2).fr hq
  obtain ⟨σ3, hσ3⟩ : ∃ σ3, σ3 = g_up σ2 q (cO 4 [.int 0, .int 0, .ref so, .null, .int 0]) := ⟨_, rfl⟩
  rw [← hσ3] at k3 so3 M3 ⊢
  refine ⟨by omega, by omega, by decide, by decide, i_newF (ow := ow2) (80 + r) (fun wh ow4 σ4 hwh m4 kwh => ?_)⟩
  have k4 := k3.mv m4 (by simp)
  have so4 := so3.mv m4 (by simp)
  have M4 := M3.tr m4
  refine i_Pf [.int 0, .int 0, .ref so, .ref wh, .int 0] k4.1 (by decide) rfl (by simp) ?_
  refine i_Pf [.int x1, .int 0, .ref so, .ref wh, .int 0] k4.set.1 (by decide) rfl (by simp) ?_
  rw [g_up_up]
  refine i_Pf [.int x1, .int x2, .ref so, .ref wh, .int 0] k4.set.1 (by decide) rfl (by simp) ?_
  rw [g_up_up]
  exact w so wh ow4 _ (M4.fr hq) k4.set (so4.up2 k4 (by simp [ck])) (kwh.up2 k4 (by simp [ck]))
theorem op_2 (h : JJ x0 σ s) (hcb : 4 ≤ CB) (hsb : 200 ≤ SB) : l_op 2 a1 a2 a3 a4 a5 (JJ x0) CB SB x0 σ s := by
  refine l_op_of fun Q hQ => ?_
  have h' := h
  obtain ⟨ow, k, ch, wy, hx, ha, hv, hc, he⟩ := h
  rw [← gF_oL] at hx
  obtain ⟨m, hm, em, em'⟩ := vp_i hv.1.2.2.1.1 (by decide)
  obtain ⟨r, hr, er, er'⟩ := vp_i hv.1.2.2.2.1.1 (by decide)
  obtain ⟨⟨q1, q2, ⟨ru, q3, q3'⟩, q4, q5, q6⟩, rtl⟩ := ha
  rw [er'] at q3 q3'
  obtain ⟨N, hN, hl⟩ := q3.N
  show wX0_rule Q CB SB x0 a1 σ
  unfold wX0_rule
  refine c_isName hx (congrArg Value.int em) (by omega) (fun z => br_n (by decide) ?_) (fun z => br_p rfl (hQ _ _ s (fun Q hq => ?_) h'))
  rotate_left
  · show wX3_rule Q a1 s
    exact t_isName em (by omega) (fun y => absurd y z) (fun _ => br_p rfl hq)
  refine i_Ro hx (by decide) rfl ⟨_, rfl, ln_size hl ⟨fun e => hQ _ _ s (fun Q hq => ?_) h', fun e => ?_⟩⟩
  · show wX3_rule Q a1 s
    exact t_isName em (by omega) (fun _ => br_n (by decide) (br_p (er.trans e) hq)) (fun y => absurd z y)
  have hr' : r < 24 := by
    rcases Nat.lt_or_ge r 24 with z | z
    · exact z
    · exact absurd (by rw [show r = 24 by omega]; rfl) e
  refine i_Ro hx (by decide) rfl ⟨by omega, by omega, i_newF (ow := ow) (20 + r) (fun q ow1 σ1 hq m1 k1 => ?_)⟩
  have x1 := hx.mv m1 (by simp)
  have l1 := hl.mv m1 (by simp) (by simp)
  refine i_Ro x1 (by decide) rfl ⟨_, rfl, ln_size l1 ⟨2, 6, by omega, by omega, c_rule hq m1 k1 (Nat.le_refl _) (Nat.le_refl _) (fun so wh ow2 σ2 m2 k2 ks kw => ?_)⟩⟩
  have x2 := hx.mv m2 (by simp)
  have l2 := hl.mv m2 (by simp) (by simp)
  have lo : ∃ fs : List Value, σ2.2 (k 7) = some (.inr (18, fs)) := by
    obtain ⟨m, e, l, -⟩ := l2
    exact ⟨_, l.1⟩
  obtain ⟨lf, lo⟩ := lo
  have rc : ∀ i, i < r → ∃ ci fs, ci < 19 ∧ σ2.2 (ru i) = some (.inr (ci, fs)) := fun i hi => by
    obtain ⟨so, wh, f, g, c1, -⟩ := q3' i hi
    exact ⟨4, _, by decide, (c1.mv m2 (by simp)).1⟩
  have hNn : N = 0 ∨ r ≤ N := by
    obtain ⟨_, _, _, z⟩ := hl
    rcases z with z | z
    · exact Or.inl z.1
    · obtain ⟨_, _, _, z, _⟩ := z; exact Or.inr z
  have cap : r = N → lsN N r ≤ 100 := fun e => by
    unfold lsN
    rw [if_neg (by omega)]
    by_cases e0 : N = 0
    · rw [if_pos e0]; decide
    · rw [if_neg e0]; omega
  have cap2 : lsN N r ≤ 100 := by
    by_cases e : r < N
    · unfold lsN; rw [if_pos e]; exact hN
    · unfold lsN
      rw [if_neg e]
      by_cases e0 : N = 0
      · rw [if_pos e0]; decide
      · rw [if_neg e0]; omega
  refine ⟨_, rfl, _, lo, 1, 100, by omega, by omega, ln_add l2 (by decide) (by omega) (fun _ => Nat.le_refl _) cap k2.1 (by decide) rc (fun ow3 σ3 m3 l3 => ?_)⟩
  have x3 := x2.mv m3 (by decide)
  refine ⟨tb1, i_Po x3 (by decide) (fun σ4 m4 x4 => ?_)⟩
  have l4 := l3.mv m4 (by decide) (by decide)
  refine i_Ro x4 (by decide) rfl ⟨_, rfl, ln_size l4 ?_⟩
  rw [nI_pred]
  refine hQ _ _ (tI (tI (tA (tA s 8 (s.1 7).toNatClampNeg a1) 9 (s.1 7).toNatClampNeg 0) 7 (s.1 7 + 1)) 16 0) (fun Q hq => ?_) ?_
  · show wX3_rule Q a1 s
    have vi : vp_in (s.1 7) 24 := by rw [er]; exact vp_nI hr' (by decide)
    refine t_isName em (by omega) (fun _ => br_n (by decide) (br_n (fun y => e (er.symm.trans y)) ⟨vi, al_eq ⟨vi, al_eq (al_eq ⟨tb0, al_eq ?_⟩)⟩⟩)) (fun y => absurd z y)
    show Q (s.1 7 + 1 - 1) (tI (tI (tA (tA s 8 (s.1 7).toNatClampNeg a1) 9 (s.1 7).toNatClampNeg 0) 7 (s.1 7 + 1)) 16 0)
    rw [add_sub1]
    rw [← er] at hq
    exact hq
  · rw [er']
    have M : hmv [1, 10, 14] ow σ ow3 σ4 := ((m2.sub (by simp)).tr (m3.sub (by decide))).tr (m4.sub (by decide))
    have M24 : hmv [1, 10, 14] ow2 σ2 ow3 σ4 := (m3.sub (by decide)).tr (m4.sub (by decide))
    have rt : r_tail ow3 σ4 s k wy := r_tail.mv rtl M (by decide)
    obtain ⟨⟨v1, v2, v3, v4, v5, v6, v7⟩, ⟨v8, v9⟩, v10⟩ := hv
    obtain ⟨fo0, q4⟩ := q4
    obtain ⟨fo1, q5⟩ := q5
    have e7 : (s.1 7 + 1).toNatClampNeg = r + 1 := by rw [er, nI_1, nI_clamp (by omega)]
    refine JJ_mk (k' := k) (ch' := 1) (wy' := wy) x4 rfl ⟨⟨q1.mv M (by decide), q2.mv M (by decide), ⟨va_up ru r q, ?_, ?_⟩, ⟨fo0, q4.mv M (by decide) (by decide) (by decide)⟩, ⟨fo1, q5.mv M (by decide) (by decide) (by decide)⟩, q6.mv M (by decide)⟩, rt⟩ ⟨⟨v1, v2, v3, ⟨?_, ?_⟩, v5, v6, v7⟩, ⟨v8, v9⟩, v10⟩ hc.set he
    · show r_list ow3 σ4 (k 7) 10 14 100 (s.1 7 + 1).toNatClampNeg (va_up ru r q)
      rw [e7]; exact l4.list cap2
    · show ∀ i, i < (s.1 7 + 1).toNatClampNeg → r_rule ow3 σ4 (va_up (s.2.1 8) r a1) (va_up (s.2.1 9) r 0) (s.2.1 10) i (va_up ru r q i)
      rw [e7]
      intro i hi
      by_cases e : i = r
      · subst e
        rw [va_up_self]
        refine ⟨so, wh, _, _, ?_, ks.mv M24 (by simp only [List.mem_cons, List.not_mem_nil, or_false]; omega), kw.mv M24 (by simp only [List.mem_cons, List.not_mem_nil, or_false]; omega), fun j hj => ?_⟩
        · rw [va_up_self, va_up_self]
          exact k2.mv M24 (by simp only [List.mem_cons, List.not_mem_nil, or_false]; omega)
        · rw [va_up_self] at hj
          exact absurd hj (by show ¬ j < 0; omega)
      · rw [va_up_ne _ _ e]
        obtain ⟨so', wh', f, g, c1, c2, c3, c4⟩ := q3' i (by omega)
        refine ⟨so', wh', f, g, ?_, c2.mv M (by simp only [List.mem_cons, List.not_mem_nil, or_false]; omega), c3.mv M (by simp only [List.mem_cons, List.not_mem_nil, or_false]; omega), ?_⟩
        · rw [va_up_ne _ _ e, va_up_ne _ _ e]
          exact c1.mv M (by simp only [List.mem_cons, List.not_mem_nil, or_false]; omega)
        · rw [va_up_ne _ _ e]; exact c4
    · show vp_in (s.1 7 + 1) 25
      rw [er, nI_1]; exact vp_nI (by omega) (by decide)
    · show ∀ i, i < (s.1 7 + 1).toNatClampNeg → vp_in (va_up (s.2.1 8) r a1 i) (s.1 5).toNatClampNeg ∧ vp_in (va_up (s.2.1 9) r 0 i) 4 ∧ ∀ j, j < (va_up (s.2.1 9) r 0 i).toNatClampNeg → _
      rw [e7]
      intro i hi
      by_cases e : i = r
      · subst e
        rw [va_up_self, va_up_self, em']
        exact ⟨z, vp_nI (n := 0) (by decide) (by decide), fun j hj => absurd hj (by show ¬ j < 0; omega)⟩
      · rw [va_up_ne _ _ e, va_up_ne _ _ e]
        exact v4.2 i (by omega)
end OPB
