/-! PLAIN LAW: calls 0, 1, 4, 7, 10 -/
set_option maxRecDepth 100000
section OPA
variable {σ : gH} {x0 CB SB : Nat} {s : TS} {a1 a2 a3 a4 a5 : Int32}
theorem op_1 (h : JJ x0 σ s) : l_op 1 a1 a2 a3 a4 a5 (JJ x0) CB SB x0 σ s := by
  refine l_op_of fun Q hQ => ?_
  have h' := h
  obtain ⟨ow, k, ch, wy, hx, ha, hv, hc, he⟩ := h
  rw [← gF_oL] at hx
  show wX0_name Q x0 σ
  unfold wX0_name
  refine i_Io hx (by decide) (v := s.1 5) rfl ⟨fun e => hQ _ _ s (fun Q hq => ⟨fun _ => hq, fun n => absurd e n⟩) h', fun e => i_Io hx (by decide) (v := s.1 5) rfl (i_Po hx (by decide) (fun σ1 m1 x1 => ⟨tb1, i_Po x1 (by decide) (fun σ2 m2 x2 => i_Io x2 (by decide) (v := s.1 5 + 1) rfl ?_)⟩))⟩
  refine hQ _ _ (tI (tI s 5 (s.1 5 + 1)) 16 0) (fun Q hq => ⟨fun n => absurd n e, fun _ => al_eq ⟨tb0, al_eq hq⟩⟩) ?_
  have ra := ha.mv hv (m1.tr m2) (by decide)
  obtain ⟨⟨v1, v2, v3, v4, v5, v6, v7⟩, ⟨v8, v9⟩, v10⟩ := hv
  refine JJ_mk (k' := k) (ch' := 1) (wy' := wy) x2 rfl ra ⟨⟨v1, v2, v3.add e, v4.nm (Nat.le_refl _) (cl_1le v3.1 (by decide)), v5, v6, v7⟩, ⟨v8.nn (fun _ => ?_), v9⟩, v10⟩ hc.set he
  obtain ⟨j, hj, e1, h4⟩ := vp_i v3.1 (by decide)
  show ¬ s.1 5 + 1 = 0
  rw [e1, nI_1]
  exact nI_ne0 (by omega) (by omega)
theorem op_4 (h : JJ x0 σ s) : l_op 4 a1 a2 a3 a4 a5 (JJ x0) CB SB x0 σ s := by
  refine l_op_of fun Q hQ => ?_
  have h' := h
  obtain ⟨ow, k, ch, wy, hx, ha, hv, hc, he⟩ := h
  rw [← gF_oL] at hx
  obtain ⟨m, hm, em, em'⟩ := vp_i hv.1.2.2.1.1 (by decide)
  show wX0_start Q x0 a1 σ
  unfold wX0_start
  refine c_isName hx (congrArg Value.int em) (by omega) (fun z => br_n (by decide) ?_) (fun z => br_p rfl (hQ _ _ s (fun Q hq => ?_) h'))
  · refine i_Io hx (by decide) (v := s.1 6) rfl (i_Po hx (by decide) (fun σ1 m1 x1 => ⟨tb1, i_Po x1 (by decide) (fun σ2 m2 x2 => ?_)⟩))
    refine hQ _ _ (tI (tI s 6 a1) 16 0) (fun Q hq => ?_) ?_
    · show wX3_start Q a1 s
      exact t_isName em (by omega) (fun _ => br_n (by decide) (al_eq (al_eq ⟨tb0, al_eq hq⟩))) (fun y => absurd z y)
    · have ra := ha.mv hv (m1.tr m2) (by decide)
      obtain ⟨⟨v1, v2, v3, v4, v5, v6, v7⟩, ⟨v8, v9⟩, v10⟩ := hv
      refine JJ_mk (k' := k) (ch' := 1) (wy' := wy) x2 rfl ra ⟨⟨v1, v2, ⟨v3.1, fun e => ?_, fun _ => ?_⟩, v4, v5, v6, v7⟩, ⟨v8, v9⟩, v10⟩ hc.set he
      · have e' : s.1 5 = 0 := e
        rw [em] at e'
        have : m = 0 := nI_inj (b := 0) (by omega) (by decide) e'
        subst this
        exact absurd z (by rw [vp_in_iff]; omega)
      · show vp_in a1 (s.1 5).toNatClampNeg
        rw [em']; exact z
  · show wX3_start Q a1 s
    exact t_isName em (by omega) (fun y => absurd y z) (fun _ => br_p rfl hq)
theorem op_7 (h : JJ x0 σ s) : l_op 7 a1 a2 a3 a4 a5 (JJ x0) CB SB x0 σ s := by
  refine l_op_of fun Q hQ => ?_
  obtain ⟨ow, k, ch, wy, hx, ha, hv, hc, he⟩ := h
  rw [← gF_oL] at hx
  show wX0_fences Q x0 (if a1 = 0 then 0 else 1) σ
  have tb := tb_if a1
  obtain ⟨v, hv1⟩ : ∃ v, v = (if a1 = 0 then (0 : Int32) else 1) := ⟨_, rfl⟩
  have key : ∀ t0 σ2, (s.1 13 = 0 → t0 = 0) → (¬ s.1 13 = 0 → t0 = 1) → hmv [1] ow σ ow σ2 → hat ow σ2 x0 1 (cO 0 (oL (vU (vU (gF s k ch wy) 10 (.int v)) 12 (.int 1)))) → Q t0 σ2 := by
    intro t0 σ2 y1 y2 m2 x2
    refine hQ _ _ (tI (tI s 13 v) 16 0) (fun Q hq => ?_) ?_
    · show wX3_fences Q (if a1 = 0 then 0 else 1) s
      rw [← hv1] at tb ⊢
      refine ⟨fun e => ?_, fun e => ?_⟩
      · rw [y1 e] at hq; exact ⟨tb, al_eq ⟨tb0, al_eq hq⟩⟩
      · rw [y2 e] at hq; exact ⟨tb, al_eq ⟨tb0, al_eq hq⟩⟩
    · have ra := ha.mv hv m2 (by decide)
      obtain ⟨⟨v1, v2, v3, v4, v5, v6, v7⟩, ⟨v8, v9⟩, v10⟩ := hv
      rw [← hv1] at tb
      exact JJ_mk (k' := k) (ch' := 1) (wy' := wy) x2 rfl ra ⟨⟨v1, v2, v3, v4, v5, tb, v7⟩, ⟨v8, v9⟩, v10⟩ hc.set he
  rw [← hv1] at tb ⊢
  unfold wX0_fences
  refine i_Io hx (by decide) (v := s.1 13) rfl ⟨fun e => ⟨tb, i_Po hx (by decide) (fun σ1 m1 x1 => ⟨tb1, i_Po x1 (by decide) (fun σ2 m2 x2 => ?_)⟩)⟩, fun e => ⟨tb, i_Po hx (by decide) (fun σ1 m1 x1 => ⟨tb1, i_Po x1 (by decide) (fun σ2 m2 x2 => ?_)⟩)⟩⟩
  · exact key 0 σ2 (fun _ => rfl) (fun y => absurd e y) (m1.tr m2) x2
  · exact key 1 σ2 (fun y => absurd y e) (fun _ => rfl) (m1.tr m2) x2
theorem op_10 (h : JJ x0 σ s) : l_op 10 a1 a2 a3 a4 a5 (JJ x0) CB SB x0 σ s := by
  refine l_op_of fun Q hQ => ?_
  have h' := h
  obtain ⟨ow, k, ch, wy, hx, ha, hv, hc, he⟩ := h
  rw [← gF_oL] at hx
  obtain ⟨m, hm, em, em'⟩ := vp_i hv.1.2.2.2.2.2.2.1 (by decide)
  obtain ⟨tf, t1, t2⟩ := ha.1.2.2.2.2.2
  rw [em'] at t1 t2
  show wX0_at (fun v => Q v σ) σ x0 a1
  unfold wX0_at
  refine i_Ro hx (by decide) rfl ⟨_, rfl, c_len_at (t := 0) (by decide) t1.1 ?_⟩
  dsimp only
  refine in_vp (by omega) (fun z => br_n (by decide) ?_) (fun z => br_p rfl (hQ _ _ s (fun Q hq => ?_) h'))
  · obtain ⟨i, hi, ei, -⟩ := vp_i z (by omega)
    refine i_Ro hx (by decide) rfl ⟨_, rfl, i_aI t1.1 ei hi (by omega) (hQ _ _ s (fun Q hq => ?_) h')⟩
    show wX3_at Q a1 s
    unfold wX3_at
    rw [em]
    refine in_vp3 (by omega) (fun _ => br_n (by decide) ⟨vp_le z (by omega), ?_⟩) (fun y => absurd z y)
    rw [t2 i hi] at hq
    rw [ei, nI_clamp (by omega)]
    exact hq
  · show wX3_at Q a1 s
    unfold wX3_at
    rw [em]
    exact in_vp3 (by omega) (fun y => absurd y z) (fun _ => br_p rfl hq)
/-- one token more: the fences, the prices -/
theorem v_tok.add {F P : Nat → Int32} {n : Nat} {v : Int32} (h : v_tok (nI n) F P) (hn : n < 12) (tb : t_b v) : v_tok (nI (n + 1)) (va_up F n v) (va_up (va_up (va_up P n 10) (12 + n) 10) (24 + n) 12) := by
  obtain ⟨h1, h2⟩ := h
  rw [nI_clamp (by omega)] at h2
  refine ⟨vp_nI (by omega) (by decide), fun t ht => ?_⟩
  rw [nI_clamp (by omega)] at ht
  by_cases e : t = n
  · subst e
    refine ⟨by rw [va_up_self]; exact tb, fun w hw => ?_⟩
    have : w = 0 ∨ w = 1 ∨ w = 2 := by omega
    rcases this with rfl | rfl | rfl
    · rw [va_up_ne _ _ (by omega), va_up_ne _ _ (by omega), show 12 * 0 + t = t by omega, va_up_self]; exact ⟨vp_nI (n := 10) (by decide) (by decide), by decide⟩
    · rw [va_up_ne _ _ (by omega), show 12 * 1 + t = 12 + t by omega, va_up_self]; exact ⟨vp_nI (n := 10) (by decide) (by decide), by decide⟩
    · rw [show 12 * 2 + t = 24 + t by omega, va_up_self]; exact ⟨vp_nI (n := 12) (by decide) (by decide), by decide⟩
  · rw [va_up_ne _ _ e]
    obtain ⟨g1, g2⟩ := h2 t (by omega)
    refine ⟨g1, fun w hw => ?_⟩
    rw [va_up_ne _ _ (by omega), va_up_ne _ _ (by omega), va_up_ne _ _ (by omega)]
    exact g2 w hw
theorem op_0 (h : JJ x0 σ s) : l_op 0 a1 a2 a3 a4 a5 (JJ x0) CB SB x0 σ s := by
  refine l_op_of fun Q hQ => ?_
  have h' := h
  obtain ⟨ow, k, ch, wy, hx, ha, hv, hc, he⟩ := h
  rw [← gF_oL] at hx
  obtain ⟨n, hn, en, en'⟩ := vp_i hv.1.1.1 (by decide)
  show wX0_token Q x0 (if a1 = 0 then 0 else 1) σ
  have tb := tb_if a1
  obtain ⟨v, hv1⟩ : ∃ v, v = (if a1 = 0 then (0 : Int32) else 1) := ⟨_, rfl⟩
  rw [← hv1] at tb ⊢
  unfold wX0_token
  refine i_Io hx (by decide) (v := s.1 0) rfl ⟨fun e => hQ _ _ s (fun Q hq => ⟨fun _ => hq, fun n => absurd e n⟩) h', fun e => ?_⟩
  have hn' : n < 12 := by
    rcases Nat.lt_or_ge n 12 with z | z
    · exact z
    · exact absurd (by rw [en, show n = 12 by omega]; rfl) e
  obtain ⟨⟨⟨ff, f1, f2⟩, ⟨pf, p1, p2⟩, q3, q4, q5, q6⟩, rtl⟩ := ha
  obtain ⟨b0, g0, pe0, ph0, pg0⟩ := p2 0 (by decide)
  obtain ⟨b1, g1, pe1, ph1, pg1⟩ := p2 1 (by decide)
  obtain ⟨b2, g2, pe2, ph2, pg2⟩ := p2 2 (by decide)
  refine i_Ro hx (by decide) rfl (i_Io hx (by decide) (v := s.1 0) rfl ⟨_, rfl, i_sZo f1 tb en hn' (by decide) (fun σ1 m1 f1' => ?_)⟩)
  have x1 := hx.mv m1 (by decide)
  have p11 := p1.mv m1 (by decide)
  refine i_Ro x1 (by decide) rfl ⟨_, rfl, i_aR p11.1 nI_0.symm (by decide) (by decide) (i_Io x1 (by decide) (v := s.1 0) rfl ⟨b0, pe0, i_sIo (ph0.mv m1 (by decide)) en hn' (by decide) (fun σ2 m2 h0' => ?_)⟩)⟩
  have x2 := x1.mv m2 (by decide)
  have p12 := p11.mv m2 (by decide)
  refine i_Ro x2 (by decide) rfl ⟨_, rfl, i_aR p12.1 (j := 1) rfl (by decide) (by decide) (i_Io x2 (by decide) (v := s.1 0) rfl ⟨b1, pe1, i_sIo ((ph1.mv m1 (by decide)).mv m2 (by decide)) en hn' (by decide) (fun σ3 m3 h1' => ?_)⟩)⟩
  have x3 := x2.mv m3 (by decide)
  have p13 := p12.mv m3 (by decide)
  refine i_Ro x3 (by decide) rfl ⟨_, rfl, i_aR p13.1 (j := 2) rfl (by decide) (by decide) (i_Io x3 (by decide) (v := s.1 0) rfl ⟨b2, pe2, i_sIo (((ph2.mv m1 (by decide)).mv m2 (by decide)).mv m3 (by decide)) en hn' (by decide) (fun σ4 m4 h2' => ?_)⟩)⟩
  have x4 := x3.mv m4 (by decide)
  refine i_Io x4 (by decide) (v := s.1 0) rfl (i_Po x4 (by decide) (fun σ5 m5 x5 => ⟨tb1, i_Po x5 (by decide) (fun σ6 m6 x6 => i_Io x6 (by decide) (v := s.1 0 + 1) rfl ?_)⟩))
  refine hQ _ _ (tI (tI (tA (tA (tA (tA s 1 (s.1 0).toNatClampNeg v) 2 (s.1 0).toNatClampNeg 10) 2 (12 + s.1 0).toNatClampNeg 10) 2 (24 + s.1 0).toNatClampNeg 12) 0 (s.1 0 + 1)) 16 0) (fun Q hq => ?_) ?_
  · show wX3_token Q (if a1 = 0 then 0 else 1) s
    rw [← hv1]
    have i12 : vp_in (12 + s.1 0) 36 := by rw [en, show (12 : Int32) = nI 12 from rfl, nI_add]; exact vp_nI (by omega) (by decide)
    have i24 : vp_in (24 + s.1 0) 36 := by rw [en, show (24 : Int32) = nI 24 from rfl, nI_add]; exact vp_nI (by omega) (by decide)
    have i0 : ∀ N, 12 ≤ N → N < 100 → vp_in (s.1 0) N := fun N h1 h2 => by rw [en]; exact vp_nI (by omega) (by omega)
    exact ⟨fun z => absurd z e, fun _ => ⟨tb, i0 12 (by decide) (by decide), al_eq ⟨i0 36 (by decide) (by decide), al_eq ⟨i12, al_eq ⟨i24, al_eq (al_eq ⟨tb0, al_eq hq⟩)⟩⟩⟩⟩⟩
  · have c12 : (12 + s.1 0).toNatClampNeg = 12 + n := by rw [en, show (12 : Int32) = nI 12 from rfl, nI_add, nI_clamp (by omega)]
    have c24 : (24 + s.1 0).toNatClampNeg = 24 + n := by rw [en, show (24 : Int32) = nI 24 from rfl, nI_add, nI_clamp (by omega)]
    rw [en', c12, c24]
    have M16 : hmv [1, 2, 3, 4, 5, 6] ow σ ow σ6 := (((((m1.sub (by decide)).tr (m2.sub (by decide))).tr (m3.sub (by decide))).tr (m4.sub (by decide))).tr (m5.sub (by decide))).tr (m6.sub (by decide))
    have M56 : hmv [1] ow σ4 ow σ6 := m5.tr m6
    have rt : r_tail ow σ6 s k wy := r_tail.mv rtl M16 (by decide)
    obtain ⟨⟨v1, v2, v3, v4, v5, v6, v7⟩, ⟨v8, v9⟩, v10⟩ := hv
    have le1 := cl_1le v1.1 (by decide)
    obtain ⟨ru, q3⟩ := q3
    obtain ⟨fo0, q4⟩ := q4
    obtain ⟨fo1, q5⟩ := q5
    refine JJ_mk (k' := k) (ch' := 1) (wy' := wy) x6 rfl ⟨⟨⟨upd ff n v, ?_, fun t ht => ?_⟩, ⟨pf, ?_, fun w hw => ?_⟩, ⟨ru, q3.mv M16 v4.le (by decide) (by decide) (by decide)⟩, ⟨fo0, q4.mv M16 (by decide) (by decide) (by decide)⟩, ⟨fo1, q5.mv M16 (by decide) (by decide) (by decide)⟩, q6.mv M16 (by decide)⟩, rt⟩ ⟨⟨?_, v2, v3, v4.nm le1 (Nat.le_refl _), v5.nm le1, v6, v7.nm le1⟩, ⟨v8, v9.nm le1⟩, v10.nm le1⟩ hc.set he
    · exact (((f1'.mv m2 (by decide)).mv m3 (by decide)).mv m4 (by decide)).mv M56 (by decide)
    · show upd ff n v t = va_up (s.2.1 1) n v t
      exact upd_q (fun _ => f2 t ht)
    · exact (p13.mv m4 (by decide)).mv M56 (by decide)
    · have : w = 0 ∨ w = 1 ∨ w = 2 := by omega
      rcases this with rfl | rfl | rfl
      · refine ⟨b0, upd g0 n 10, pe0, ((h0'.mv m3 (by decide)).mv m4 (by decide)).mv M56 (by decide), fun t ht => ?_⟩
        show upd g0 n 10 t = va_up (va_up (va_up (s.2.1 2) n 10) (12 + n) 10) (24 + n) 12 (12 * 0 + t)
        rw [va_up_ne _ _ (by omega), va_up_ne _ _ (by omega), show 12 * 0 + t = t by omega]
        refine upd_q (fun _ => ?_)
        have := pg0 t ht
        rwa [show 12 * 0 + t = t by omega] at this
      · refine ⟨b1, upd g1 n 10, pe1, (h1'.mv m4 (by decide)).mv M56 (by decide), fun t ht => ?_⟩
        show upd g1 n 10 t = va_up (va_up (va_up (s.2.1 2) n 10) (12 + n) 10) (24 + n) 12 (12 * 1 + t)
        rw [va_up_ne _ _ (by omega)]
        by_cases e2 : t = n
        · rw [e2, upd_s, show 12 * 1 + n = 12 + n by omega, va_up_self]
        · rw [upd_n _ _ e2, va_up_ne _ _ (by omega), va_up_ne _ _ (by omega)]; exact pg1 t ht
      · refine ⟨b2, upd g2 n 12, pe2, h2'.mv M56 (by decide), fun t ht => ?_⟩
        show upd g2 n 12 t = va_up (va_up (va_up (s.2.1 2) n 10) (12 + n) 10) (24 + n) 12 (12 * 2 + t)
        by_cases e2 : t = n
        · rw [e2, upd_s, show 12 * 2 + n = 24 + n by omega, va_up_self]
        · rw [upd_n _ _ e2, va_up_ne _ _ (by omega), va_up_ne _ _ (by omega), va_up_ne _ _ (by omega)]; exact pg2 t ht
    · show v_tok (s.1 0 + 1) (va_up (s.2.1 1) n v) (va_up (va_up (va_up (s.2.1 2) n 10) (12 + n) 10) (24 + n) 12)
      rw [en] at v1 ⊢
      rw [nI_1]
      exact v1.add hn' tb
end OPA
