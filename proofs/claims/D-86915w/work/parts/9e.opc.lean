/-! PLAIN LAW: calls 3, 6 -/
set_option maxRecDepth 100000
section OPC
variable {σ : gH} {x0 CB SB : Nat} {s : TS} {a1 a2 a3 a4 a5 : Int32}
theorem vp_2 {x : Int32} (h : vp_in x 2) : x = 0 ∨ x = 1 := by
  obtain ⟨j, hj, e, -⟩ := vp_i h (by decide)
  have : j = 0 ∨ j = 1 := by omega
  rcases this with rfl | rfl
  · exact Or.inl e
  · exact Or.inr e
theorem vp_20 : vp_in 0 2 := vp_nI (n := 0) (by decide) (by decide)
theorem vp_21 : vp_in 1 2 := vp_nI (n := 1) (by decide) (by decide)
theorem t_symbol {Q : Int32 → TS → Prop} {r n m : Nat} (er : s.1 7 = nI r) (hr : r < 2 ^ 30) (en : s.1 0 = nI n) (hn : n < 2 ^ 30) (em : s.1 5 = nI m) (hm : m < 2 ^ 30) (h0 : ¬ (vp_in a1 r ∧ vp_in a2 2 ∧ (a2 = 0 → vp_in a3 n) ∧ (¬ a2 = 0 → vp_in a3 m)) → Q (-1) s) (h1 : vp_in a1 r → vp_in a2 2 → (a2 = 0 → vp_in a3 n) → (¬ a2 = 0 → vp_in a3 m) → wX3_symbol_50 Q a1 a2 a3 s) : wX3_symbol Q a1 a2 a3 s := by
  unfold wX3_symbol
  rw [er]
  have k25 : vp_in a1 r → vp_in a2 2 → wX3_symbol_25 Q a1 a2 a3 s := by
    intro z1 z2
    refine ⟨fun e => t_isToken en hn (fun z3 => br_n (by decide) (h1 z1 z2 (fun _ => z3) (fun y => absurd e y))) (fun z3 => br_p rfl (h0 (fun y => z3 (y.2.2.1 e)))), fun e => t_isName em hm (fun z3 => br_n (by decide) (h1 z1 z2 (fun y => absurd y e) (fun _ => z3))) (fun z3 => br_p rfl (h0 (fun y => z3 (y.2.2.2 e))))⟩
  refine in_vp3 hr (fun z1 => br_n (by decide) ⟨fun e => k25 z1 (by rw [e]; exact vp_20), fun e => ⟨fun e1 => k25 z1 (by rw [e1]; exact vp_21), fun e1 => h0 (fun y => ?_)⟩⟩) (fun z1 => br_p rfl (h0 (fun y => z1 y.1)))
  rcases vp_2 y.2.1 with z | z
  · exact e z
  · exact e1 z
theorem op_3 (h : JJ x0 σ s) : l_op 3 a1 a2 a3 a4 a5 (JJ x0) CB SB x0 σ s := by
  refine l_op_of fun Q hQ => ?_
  have h' := h
  obtain ⟨ow, k, ch, wy, hx, ha, hv, hc, he⟩ := h
  rw [← gF_oL] at hx
  obtain ⟨n, hn, en, en'⟩ := vp_i hv.1.1.1 (by decide)
  obtain ⟨m, hm, em, em'⟩ := vp_i hv.1.2.2.1.1 (by decide)
  obtain ⟨r, hr, er, er'⟩ := vp_i hv.1.2.2.2.1.1 (by decide)
  obtain ⟨⟨q1, q2, ⟨ru, q3, q3'⟩, q4, q5, q6⟩, rtl⟩ := ha
  rw [er'] at q3 q3'
  obtain ⟨N, hN, hl⟩ := q3.N
  have bad : ¬ (vp_in a1 r ∧ vp_in a2 2 ∧ (a2 = 0 → vp_in a3 n) ∧ (¬ a2 = 0 → vp_in a3 m)) → Q (-1) σ := fun y => hQ _ _ s (fun Q hq => t_symbol er (by omega) en (by omega) em (by omega) (fun _ => hq) (fun z1 z2 z3 z4 => absurd ⟨z1, z2, z3, z4⟩ y)) h'
  have tw : ∀ v s', vp_in a1 r → vp_in a2 2 → (a2 = 0 → vp_in a3 n) → (¬ a2 = 0 → vp_in a3 m) → (∀ Q : Int32 → TS → Prop, Q v s' → wX3_symbol_50 Q a1 a2 a3 s) → l_tw 3 a1 a2 a3 a4 a5 s v s' := fun v s' z1 z2 z3 z4 hh Q hq => t_symbol er (by omega) en (by omega) em (by omega) (fun y => absurd ⟨z1, z2, z3, z4⟩ y) (fun _ _ _ _ => hh Q hq)
  have p56 : vp_in a1 r → vp_in a2 2 → (a2 = 0 → vp_in a3 n) → (¬ a2 = 0 → vp_in a3 m) → wX0_symbol_56 Q x0 a1 a2 a3 σ := by
    intro z1 z2 z3 z4
    obtain ⟨i, hi, ei, ei'⟩ := vp_i z1 (by omega)
    obtain ⟨so, wh, f, g, c1, c2, c3, c4⟩ := q3' i hi
    obtain ⟨l, hl4, el, el'⟩ := vp_i (hv.1.2.2.2.1.2 i (by omega)).2.1 (by decide)
    rw [el] at c1
    rw [el'] at c4
    have vi : vp_in a1 24 := vp_le z1 (by omega)
    unfold wX0_symbol_56
    refine i_Ro hx (by decide) rfl ⟨_, rfl, ln_get hl ei hi (by omega) ⟨fun a e => ?_, _, rfl, i_I c1.1 (by decide) rfl ⟨fun e => ?_, fun e => ?_⟩⟩⟩
    · cases e; exact ⟨4, _, by decide, c1.1⟩
    · refine hQ _ _ s (tw _ _ z1 z2 z3 z4 (fun Q hq => ⟨vi, br_p ?_ hq⟩)) h'
      rw [ei', el]; exact e
    · have hl3 : l < 3 := by
        rcases Nat.lt_or_ge l 3 with z | z
        · exact z
        · exact absurd (by rw [show l = 3 by omega]; rfl) e
      refine i_R c1.1 (by decide) rfl (i_I c1.1 (by decide) rfl ⟨_, rfl, i_sIo c2 rfl hl3 (by decide) (fun σ1 m1 c2' => ?_)⟩)
      have c11 := c1.mv m1 (by rw [List.mem_singleton]; omega)
      have c31 := c3.mv m1 (by rw [List.mem_singleton]; omega)
      refine i_R c11.1 (by decide) rfl (i_I c11.1 (by decide) rfl ⟨_, rfl, i_sIo c31 rfl hl3 (by decide) (fun σ2 m2 c3' => ?_)⟩)
      have c12 := c11.mv m2 (by rw [List.mem_singleton]; omega)
      refine i_I c12.1 (by decide) rfl (i_Pf [.int (nI i), .int (s.2.1 8 i), .ref so, .ref wh, .int (nI l + 1)] c12.1 (by decide) rfl (by simp) ⟨tb1, ?_⟩)
      have c13 := c12.set (x := cO 4 [.int (nI i), .int (s.2.1 8 i), .ref so, .ref wh, .int (nI l + 1)])
      have m3 : hmv [20 + i] ow σ2 ow (g_up σ2 (ru i) (cO 4 [.int (nI i), .int (s.2.1 8 i), .ref so, .ref wh, .int (nI l + 1)])) := hmv.rf.up c12 (by simp) rfl
      obtain ⟨σ3, hσ3⟩ : ∃ σ3, σ3 = g_up σ2 (ru i) (cO 4 [.int (nI i), .int (s.2.1 8 i), .ref so, .ref wh, .int (nI l + 1)]) := ⟨_, rfl⟩
      rw [← hσ3] at c13 m3 ⊢
      have x3 := ((hx.mv m1 (by rw [List.mem_singleton]; omega)).mv m2 (by rw [List.mem_singleton]; omega)).mv m3 (by rw [List.mem_singleton]; omega)
      refine i_Po x3 (by decide) (fun σ4 m4 x4 => i_I (c13.mv m4 (by rw [List.mem_singleton]; omega)).1 (by decide) rfl ?_)
      obtain ⟨t2, ht2⟩ : ∃ t2 : Int32, t2 = if a2 = 0 then a3 else 100 + a3 := ⟨_, rfl⟩
      have ec : (3 * a1 + s.2.1 9 i).toNatClampNeg = 3 * i + l := by rw [ei, el, k3, pk_mul, nI_add, nI_clamp (by omega)]
      have vc : vp_in (3 * a1 + s.2.1 9 i) 72 := by rw [ei, el, k3, pk_mul, nI_add]; exact vp_nI (by omega) (by decide)
      refine hQ _ _ (tI (tA (tA s 10 (3 * i + l) t2) 9 i (s.2.1 9 i + 1)) 16 0) (tw _ _ z1 z2 z3 z4 (fun Q hq => ⟨vi, br_n ?_ ⟨vi, ?_⟩⟩)) ?_
      · rw [ei', el]; exact e
      · have k89 : wX3_symbol_89 Q (3 * a1 + s.2.1 9 i) t2 a1 s := by
          unfold wX3_symbol_89
          rw [ec, ei']
          refine ⟨vc, al_eq ⟨vi, vi, al_eq ⟨tb0, al_eq ⟨vi, ?_⟩⟩⟩⟩
          show Q (va_up (s.2.1 9) i (s.2.1 9 i + 1) i) (tI (tA (tA s 10 (3 * i + l) t2) 9 i (s.2.1 9 i + 1)) 16 0)
          rw [va_up_self]
          rw [← el] at hq
          exact hq
        rw [ei']
        refine ⟨fun z => ?_, fun z => ?_⟩
        · rw [if_pos z] at ht2; rw [← ht2]; exact k89
        · rw [if_neg z] at ht2; rw [← ht2]; exact k89
      · have tg : ∀ t ∈ [1, 20 + i, 50 + i, 80 + i], t = 1 ∨ t = 20 + i ∨ t = 50 + i ∨ t = 80 + i := by
          intro t ht
          simp only [List.mem_cons, List.not_mem_nil, or_false] at ht
          exact ht
        have M : hmv [1, 20 + i, 50 + i, 80 + i] ow σ ow σ4 := (((m1.sub (by simp)).tr (m2.sub (by simp))).tr (m3.sub (by simp))).tr (m4.sub (by simp))
        have nt : ∀ t, t < 20 → t ≠ 1 → t ∉ [1, 20 + i, 50 + i, 80 + i] := fun t h1 h2 z => by have := tg t z; omega
        have rt : r_tail ow σ4 s k wy := r_tail.mv rtl M (fun t z => by have := tg t z; omega)
        obtain ⟨⟨v1, v2, v3, v4, v5, v6, v7⟩, ⟨v8, v9⟩, v10⟩ := hv
        obtain ⟨fo0, q4⟩ := q4
        obtain ⟨fo1, q5⟩ := q5
        have SYne : ∀ r' j, r' < r → j < (s.2.1 9 r').toNatClampNeg → (r' ≠ i ∨ j ≠ l) → va_up (s.2.1 10) (3 * i + l) t2 (3 * r' + j) = s.2.1 10 (3 * r' + j) := by
          intro r' j hr' hj hne
          have b := vp_cl (v4.2 r' (by omega)).2.1 (by decide)
          exact va_up_ne _ _ (by omega)
        refine JJ_mk (k' := k) (ch' := 1) (wy' := wy) x4 rfl ⟨⟨q1.mv M (nt 2 (by decide) (by decide)), q2.mv M (fun w hw => nt _ (by omega) (by omega)), ⟨ru, ?_, ?_⟩, ⟨fo0, q4.mv M (nt _ (by decide) (by decide)) (nt _ (by decide) (by decide)) (nt _ (by decide) (by decide))⟩, ⟨fo1, q5.mv M (nt _ (by decide) (by decide)) (nt _ (by decide) (by decide)) (nt _ (by decide) (by decide))⟩, q6.mv M (nt _ (by decide) (by decide))⟩, rt⟩ ⟨⟨v1, v2, v3, ⟨v4.1, ?_⟩, v5, v6, v7⟩, ⟨v8, v9⟩, v10⟩ hc.set he
        · show r_list ow σ4 (k 7) 10 14 100 (s.1 7).toNatClampNeg ru
          rw [er']; exact q3.mv M (nt _ (by decide) (by decide)) (nt _ (by decide) (by decide))
        · show ∀ r', r' < (s.1 7).toNatClampNeg → r_rule ow σ4 (s.2.1 8) (va_up (s.2.1 9) i (s.2.1 9 i + 1)) (va_up (s.2.1 10) (3 * i + l) t2) r' (ru r')
          rw [er']
          intro r' hr'
          by_cases e2 : r' = i
          · subst e2
            refine ⟨so, wh, upd f l a2, upd g l a3, ?_, ((c2'.mv m2 (by rw [List.mem_singleton]; omega)).mv m3 (by rw [List.mem_singleton]; omega)).mv m4 (by rw [List.mem_singleton]; omega), (c3'.mv m3 (by rw [List.mem_singleton]; omega)).mv m4 (by rw [List.mem_singleton]; omega), fun j hj => ?_⟩
            · rw [va_up_self, el]; exact c13.mv m4 (by rw [List.mem_singleton]; omega)
            · rw [va_up_self, el, nI_1, nI_clamp (by omega)] at hj
              by_cases e3 : j = l
              · subst e3
                rw [upd_s, upd_s, va_up_self, ht2]
                rcases vp_2 z2 with z | z
                · rw [if_pos z]
                  obtain ⟨y, hy, ey, -⟩ := vp_i (z3 z) (by omega)
                  exact Or.inl ⟨z, rfl, by rw [ey]; exact nI_lt (b := 100) (by omega) (by decide)⟩
                · have z0 : ¬ a2 = 0 := by rw [z]; decide
                  rw [if_neg z0]
                  obtain ⟨y, hy, ey, -⟩ := vp_i (z4 z0) (by omega)
                  refine Or.inr ⟨z, rfl, ?_⟩
                  rw [ey, k100, nI_add]
                  exact nI_nlt (by omega) (by omega)
              · rw [upd_n _ _ e3, upd_n _ _ e3, va_up_ne _ _ (by omega)]
                exact c4 j (by omega)
          · obtain ⟨so', wh', f', g', d1, d2, d3, d4⟩ := q3' r' hr'
            have ntr : ∀ b, b = 20 ∨ b = 50 ∨ b = 80 → b + r' ∉ [1, 20 + i, 50 + i, 80 + i] := fun b hb z => by have := tg _ z; omega
            refine ⟨so', wh', f', g', ?_, d2.mv M (ntr 50 (by omega)), d3.mv M (ntr 80 (by omega)), fun j hj => ?_⟩
            · rw [va_up_ne _ _ e2]; exact d1.mv M (ntr 20 (by omega))
            · rw [va_up_ne _ _ e2] at hj
              rw [SYne r' j hr' hj (Or.inl e2)]
              exact d4 j hj
        · show ∀ r', r' < (s.1 7).toNatClampNeg → vp_in (s.2.1 8 r') (s.1 5).toNatClampNeg ∧ vp_in (va_up (s.2.1 9) i (s.2.1 9 i + 1) r') 4 ∧ ∀ j, j < (va_up (s.2.1 9) i (s.2.1 9 i + 1) r').toNatClampNeg → vp_in (va_up (s.2.1 10) (3 * i + l) t2 (3 * r' + j)) (s.1 0).toNatClampNeg ∨ ∃ y, vp_in y (s.1 5).toNatClampNeg ∧ va_up (s.2.1 10) (3 * i + l) t2 (3 * r' + j) = 100 + y
          intro r' hr'
          obtain ⟨w1, w2, w3⟩ := v4.2 r' hr'
          by_cases e2 : r' = i
          · subst e2
            refine ⟨w1, by rw [va_up_self, el, nI_1]; exact vp_nI (by omega) (by decide), fun j hj => ?_⟩
            rw [va_up_self, el, nI_1, nI_clamp (by omega)] at hj
            by_cases e3 : j = l
            · subst e3
              rw [va_up_self, ht2, en', em']
              by_cases z : a2 = 0
              · rw [if_pos z]; exact Or.inl (z3 z)
              · rw [if_neg z]; exact Or.inr ⟨a3, z4 z, rfl⟩
            · rw [va_up_ne _ _ (by omega)]
              exact w3 j (by rw [el']; omega)
          · rw [va_up_ne _ _ e2]
            refine ⟨w1, w2, fun j hj => ?_⟩
            rw [SYne r' j (by omega) hj (Or.inl e2)]
            exact w3 j hj
  show wX0_symbol Q x0 a1 a2 a3 σ
  unfold wX0_symbol
  refine i_Ro hx (by decide) rfl ⟨_, rfl, ln_size hl (in_vp (by omega) (fun z1 => br_n (by decide) (in_c 1 (by decide) rfl (fun z2 => br_n (by decide) ⟨fun e => ?_, fun e => ?_⟩) (fun z2 => br_p rfl (bad (fun y => z2 y.2.1))))) (fun z1 => br_p rfl (bad (fun y => z1 y.1))))⟩
  · exact c_isToken hx (congrArg Value.int en) (by omega) (fun z3 => br_n (by decide) (p56 z1 z2 (fun _ => z3) (fun y => absurd e y))) (fun z3 => br_p rfl (bad (fun y => z3 (y.2.2.1 e))))
  · exact c_isName hx (congrArg Value.int em) (by omega) (fun z3 => br_n (by decide) (p56 z1 z2 (fun y => absurd y e) (fun _ => z3))) (fun z3 => br_p rfl (bad (fun y => z3 (y.2.2.2 e))))
end OPC
