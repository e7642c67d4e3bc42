/-! PLAIN LAW: call 6 -/
set_option maxRecDepth 100000
section OPD
variable {σ : gH} {x0 CB SB : Nat} {s : TS} {a1 a2 a3 a4 a5 : Int32}
def fOk (n : Nat) (a1 a2 a3 a4 a5 : Int32) : Prop := vp_in a1 2 ∧ vp_in a2 n ∧ vp_in a3 n ∧ vp_in a4 n ∧ (1 ≤ a5.toInt64 ∧ a5.toInt64 ≤ 100)
def w9 (Q : Int32 → TS → Prop) (x1 x2 x3 x4 x5 : Int32) (s_5 : TS) : Prop := vp_in x1 2 ∧ ((s_5.2.1 11 x1.toNatClampNeg = 3 → (Q (-2) s_5)) ∧ (¬ s_5.2.1 11 x1.toNatClampNeg = 3 → (vp_in x1 2 ∧ (∀ x6_8 : Int32, x6_8 = (12 * x1) + (4 * (s_5.2.1 11 x1.toNatClampNeg)) → (vp_in x6_8 24 ∧ ∀ s_9 : TS, s_9 = tA s_5 12 x6_8.toNatClampNeg x2 → (vp_in (x6_8 + 1) 24 ∧ ∀ s_10 : TS, s_10 = tA s_9 12 (x6_8 + 1).toNatClampNeg x3 → (vp_in (x6_8 + 2) 24 ∧ ∀ s_11 : TS, s_11 = tA s_10 12 (x6_8 + 2).toNatClampNeg x4 → (vp_in (x6_8 + 3) 24 ∧ ∀ s_12 : TS, s_12 = tA s_11 12 (x6_8 + 3).toNatClampNeg x5 → (vp_in x1 2 ∧ (vp_in x1 2 ∧ ∀ s_13 : TS, s_13 = tA s_12 11 x1.toNatClampNeg ((s_12.2.1 11 x1.toNatClampNeg) + 1) → (t_b 0 ∧ ∀ s_14 : TS, s_14 = tI s_13 16 0 → (vp_in x1 2 ∧ (Q ((s_14.2.1 11 x1.toNatClampNeg) - 1) s_14)))))))))))))
theorem t_form {Q : Int32 → TS → Prop} {n : Nat} (en : s.1 0 = nI n) (hn : n < 2 ^ 30) (h0 : ¬ fOk n a1 a2 a3 a4 a5 → Q (-1) s) (h1 : fOk n a1 a2 a3 a4 a5 → w9 Q a1 a2 a3 a4 a5 s) : wX3_form Q a1 a2 a3 a4 a5 s := by
  have k9 : vp_in a1 2 → wX3_form_9 Q a1 a2 a3 a4 a5 s := fun z1 =>
    t_isToken en hn (fun z2 => br_n (by decide) (t_isToken en hn (fun z3 => br_n (by decide) (t_isToken en hn (fun z4 => br_n (by decide) (in_any3 (fun z5 => br_n (by decide) (h1 ⟨z1, z2, z3, z4, z5⟩)) (fun z5 => br_p rfl (h0 (fun y => z5 y.2.2.2.2))))) (fun z4 => br_p rfl (h0 (fun y => z4 y.2.2.2.1))))) (fun z3 => br_p rfl (h0 (fun y => z3 y.2.2.1))))) (fun z2 => br_p rfl (h0 (fun y => z2 y.2.1)))
  refine ⟨fun e => k9 (by rw [e]; exact vp_20), fun e => ⟨fun e1 => k9 (by rw [e1]; exact vp_21), fun e1 => h0 (fun y => ?_)⟩⟩
  rcases vp_2 y.1 with z | z
  · exact e z
  · exact e1 z
/-- the row of forms with one more -/
def fUp (FR : Nat → Int32) (b : Nat) (a2 a3 a4 a5 : Int32) : Nat → Int32 := va_up (va_up (va_up (va_up FR b a2) (b + 1) a3) (b + 2) a4) (b + 3) a5
theorem fUp_ne {FR : Nat → Int32} {b j : Nat} (h : j < b ∨ b + 4 ≤ j) : fUp FR b a2 a3 a4 a5 j = FR j := by
  unfold fUp
  rw [va_up_ne _ _ (by omega), va_up_ne _ _ (by omega), va_up_ne _ _ (by omega), va_up_ne _ _ (by omega)]
theorem fUp_0 {FR : Nat → Int32} {b : Nat} : fUp FR b a2 a3 a4 a5 b = a2 := by
  unfold fUp
  rw [va_up_ne _ _ (by omega), va_up_ne _ _ (by omega), va_up_ne _ _ (by omega), va_up_self]
theorem fUp_1 {FR : Nat → Int32} {b : Nat} : fUp FR b a2 a3 a4 a5 (b + 1) = a3 := by
  unfold fUp
  rw [va_up_ne _ _ (by omega), va_up_ne _ _ (by omega), va_up_self]
theorem fUp_2 {FR : Nat → Int32} {b : Nat} : fUp FR b a2 a3 a4 a5 (b + 2) = a4 := by
  unfold fUp
  rw [va_up_ne _ _ (by omega), va_up_self]
theorem fUp_3 {FR : Nat → Int32} {b : Nat} : fUp FR b a2 a3 a4 a5 (b + 3) = a5 := by
  unfold fUp
  rw [va_up_self]
theorem v_for.add {nt : Int32} {FN FR : Nat → Int32} {w l : Nat} (h : v_for nt FN FR) (hw : w < 2) (hl : l < 3) (el : FN w = nI l) (g2 : vp_in a2 nt.toNatClampNeg) (g3 : vp_in a3 nt.toNatClampNeg) (g4 : vp_in a4 nt.toNatClampNeg) (g5 : vp_in a5 101 ∧ a5 ≠ 0) : v_for nt (va_up FN w (FN w + 1)) (fUp FR (12 * w + 4 * l) a2 a3 a4 a5) := by
  have old : ∀ w' i, w' < 2 → i < (FN w').toNatClampNeg → (w' ≠ w ∨ i ≠ l) → (∀ j, j < 3 → vp_in (fUp FR (12 * w + 4 * l) a2 a3 a4 a5 (12 * w' + 4 * i + j)) nt.toNatClampNeg) ∧ vp_in (fUp FR (12 * w + 4 * l) a2 a3 a4 a5 (12 * w' + 4 * i + 3)) 101 ∧ fUp FR (12 * w + 4 * l) a2 a3 a4 a5 (12 * w' + 4 * i + 3) ≠ 0 := by
    intro w' i hw' hi hne
    obtain ⟨b1, b2⟩ := h w' hw'
    have b3 := vp_cl b1 (by decide)
    obtain ⟨b4, b5, b6⟩ := b2 i hi
    refine ⟨fun j hj => ?_, ?_, ?_⟩
    · rw [fUp_ne (by omega)]; exact b4 j hj
    · rw [fUp_ne (by omega)]; exact b5
    · rw [fUp_ne (by omega)]; exact b6
  intro w' hw'
  by_cases e : w' = w
  · subst e
    rw [va_up_self, el, nI_1]
    refine ⟨vp_nI (by omega) (by decide), fun i hi => ?_⟩
    rw [nI_clamp (by omega)] at hi
    by_cases e2 : i = l
    · subst e2
      refine ⟨fun j hj => ?_, ?_⟩
      · have : j = 0 ∨ j = 1 ∨ j = 2 := by omega
        rcases this with rfl | rfl | rfl
        · rw [Nat.add_zero, fUp_0]; exact g2
        · rw [fUp_1]; exact g3
        · rw [fUp_2]; exact g4
      · rw [fUp_3]; exact g5
    · exact old w' i hw' (by rw [el, nI_clamp (by omega)]; omega) (Or.inr e2)
  · rw [va_up_ne _ _ e]
    exact ⟨(h w' hw').1, fun i hi => old w' i hw' hi (Or.inl e)⟩
theorem op_6 (h : JJ x0 σ s) (hcb : 4 ≤ CB) (hsb : 200 ≤ SB) : l_op 6 a1 a2 a3 a4 a5 (JJ x0) CB SB x0 σ s := by
  refine l_op_of fun Q hQ => ?_
  have h' := h
  obtain ⟨ow, k, ch, wy, hx, ha, hv, hc, he⟩ := h
  rw [← gF_oL] at hx
  obtain ⟨n, hn, en, en'⟩ := vp_i hv.1.1.1 (by decide)
  obtain ⟨⟨q1, q2, q3, q4, q5, q6⟩, rtl⟩ := ha
  have qf : ∀ w, w < 2 → ∃ fo, r_forms ow σ (s.2.1 11 w).toNatClampNeg (s.2.1 12) (k (8 + w)) w fo := by
    intro w hw
    have : w = 0 ∨ w = 1 := by omega
    rcases this with rfl | rfl
    · exact q4
    · exact q5
  have bad : ¬ fOk n a1 a2 a3 a4 a5 → Q (-1) σ := fun y => hQ _ _ s (fun Q hq => t_form en (by omega) (fun _ => hq) (fun z => absurd z y)) h'
  have tw : ∀ v s', fOk n a1 a2 a3 a4 a5 → (∀ Q : Int32 → TS → Prop, Q v s' → w9 Q a1 a2 a3 a4 a5 s) → l_tw 6 a1 a2 a3 a4 a5 s v s' := fun v s' z hh Q hq => t_form en (by omega) (fun y => absurd z y) (fun _ => hh Q hq)
  have body : fOk n a1 a2 a3 a4 a5 → ∀ w, w < 2 → a1 = nI w → wX0_form_65 Q CB SB 0 0 (some (k (8 + w))) x0 a2 a3 a4 a5 σ := by
    intro ok w hw ew
    obtain ⟨fo, fl, fc⟩ := qf w hw
    obtain ⟨l, hl4, el, el'⟩ := vp_i (hv.1.2.2.2.2.1 w hw).1 (by decide)
    have ew' : a1.toNatClampNeg = w := by rw [ew, nI_clamp (by omega)]
    have v2 : vp_in a1 2 := ok.1
    rw [el'] at fl fc
    obtain ⟨N, hN, hl⟩ := fl.N
    unfold wX0_form_65
    refine ⟨_, rfl, ln_size hl ⟨fun e => ?_, fun e => ?_⟩⟩
    · refine hQ _ _ s (tw _ _ ok (fun Q hq => ⟨v2, br_p ?_ hq⟩)) h'
      rw [ew', el]; exact e
    have hl3 : l < 3 := by
      rcases Nat.lt_or_ge l 3 with z | z
      · exact z
      · exact absurd (by rw [show l = 3 by omega]; rfl) e
    refine ⟨by omega, by omega, i_newF (ow := ow) 0 (fun q ow1 σ1 hq m1 k1 => ?_)⟩
    unfold wX5_init
    refine i_Pf [.int a2, .int 0, .int 0, .int 0] k1.1 (by decide) rfl (by simp) ?_
    refine i_Pf [.int a2, .int a3, .int 0, .int 0] k1.set.1 (by decide) rfl (by simp) ?_
    rw [g_up_up]
    refine i_Pf [.int a2, .int a3, .int a4, .int 0] k1.set.1 (by decide) rfl (by simp) ?_
    rw [g_up_up]
    refine i_Pf [.int a2, .int a3, .int a4, .int a5] k1.set.1 (by decide) rfl (by simp) ?_
    rw [g_up_up]
    have k2 := k1.set (x := cO 5 [.int a2, .int a3, .int a4, .int a5])
    have m2 : hmv [] ow σ ow1 (g_up σ1 q (cO 5 [.int a2, .int a3, .int a4, .int a5])) := m1.fr hq
    obtain ⟨σ2, hσ2⟩ : ∃ σ2, σ2 = g_up σ1 q (cO 5 [.int a2, .int a3, .int a4, .int a5]) := ⟨_, rfl⟩
    rw [← hσ2] at k2 m2 ⊢
    have x2 := hx.mv m2 (by simp)
    have l2 := hl.mv m2 (by simp) (by simp)
    have lo : ∃ fs : List Value, σ2.2 (k (8 + w)) = some (.inr (18, fs)) := by
      obtain ⟨m, e, l, -⟩ := l2
      exact ⟨_, l.1⟩
    obtain ⟨lf, lo⟩ := lo
    have rc : ∀ i, i < l → ∃ ci fs, ci < 19 ∧ σ2.2 (fo i) = some (.inr (ci, fs)) := fun i hi => ⟨5, _, by decide, ((fc i hi).mv m2 (by simp)).1⟩
    have hNn : N = 0 ∨ l ≤ N := by
      obtain ⟨_, _, _, z⟩ := hl
      rcases z with z | z
      · exact Or.inl z.1
      · obtain ⟨_, _, _, z, _⟩ := z; exact Or.inr z
    have cap2 : lsN N l ≤ 100 := by
      by_cases e : l < N
      · unfold lsN; rw [if_pos e]; exact hN
      · unfold lsN
        rw [if_neg e]
        by_cases e0 : N = 0
        · rw [if_pos e0]; decide
        · rw [if_neg e0]; omega
    refine ⟨_, lo, 1, 100, by omega, by omega, ln_add l2 (by omega) (by omega) (fun _ => Nat.le_refl _) (fun _ => cap2) k2.1 (by decide) rc (fun ow3 σ3 m3 l3 => ?_)⟩
    have x3 := x2.mv m3 (by simp only [List.mem_cons, List.not_mem_nil, or_false]; omega)
    refine ⟨tb1, i_Po x3 (by decide) (fun σ4 m4 x4 => ?_)⟩
    have l4 := l3.mv m4 (by rw [List.mem_singleton]; omega) (by rw [List.mem_singleton]; omega)
    refine ln_size l4 ?_
    rw [nI_pred]
    have e0 : (12 * a1 + 4 * s.2.1 11 a1.toNatClampNeg) = nI (12 * w + 4 * l) := by rw [ew', ew, el, k12, k4, pk_mul, pk_mul, nI_add]
    refine hQ _ _ (tI (tA (tA (tA (tA (tA s 12 (12 * w + 4 * l) a2) 12 (12 * w + 4 * l + 1) a3) 12 (12 * w + 4 * l + 2) a4) 12 (12 * w + 4 * l + 3) a5) 11 w (s.2.1 11 w + 1)) 16 0) (tw _ _ ok (fun Q hq => ?_)) ?_
    · unfold w9
      rw [e0, ew']
      refine ⟨v2, br_n (by rw [el]; exact e) ⟨v2, al_eq ?_⟩⟩
      rw [nI_1, show nI (12 * w + 4 * l) + 2 = nI (12 * w + 4 * l + 2) from nI_add _ 2, show nI (12 * w + 4 * l) + 3 = nI (12 * w + 4 * l + 3) from nI_add _ 3, nI_clamp (by omega), nI_clamp (by omega), nI_clamp (by omega), nI_clamp (by omega)]
      refine ⟨vp_nI (by omega) (by decide), al_eq ⟨vp_nI (by omega) (by decide), al_eq ⟨vp_nI (by omega) (by decide), al_eq ⟨vp_nI (by omega) (by decide), al_eq ⟨v2, v2, al_eq ⟨tb0, al_eq ⟨v2, ?_⟩⟩⟩⟩⟩⟩⟩
      show Q (va_up (s.2.1 11) w (s.2.1 11 w + 1) w - 1) (tI (tA (tA (tA (tA (tA s 12 (12 * w + 4 * l) a2) 12 (12 * w + 4 * l + 1) a3) 12 (12 * w + 4 * l + 2) a4) 12 (12 * w + 4 * l + 3) a5) 11 w (s.2.1 11 w + 1)) 16 0)
      rw [va_up_self, add_sub1]
      rw [← el] at hq
      exact hq
    · have tg : ∀ t ∈ [1, 11 + w, 15 + w], t = 1 ∨ t = 11 + w ∨ t = 15 + w := by
        intro t ht
        simp only [List.mem_cons, List.not_mem_nil, or_false] at ht
        exact ht
      have M : hmv [1, 11 + w, 15 + w] ow σ ow3 σ4 := ((m2.sub (by simp)).tr (m3.sub (by simp))).tr (m4.sub (by simp))
      have M24 : hmv [1, 11 + w, 15 + w] ow1 σ2 ow3 σ4 := (m3.sub (by simp)).tr (m4.sub (by simp))
      have nt : ∀ t, t ≠ 1 → t ≠ 11 → t ≠ 12 → t ≠ 15 → t ≠ 16 → t ∉ [1, 11 + w, 15 + w] := fun t h1 h2 h3 h4 h5 z => by have := tg t z; omega
      have rt : r_tail ow3 σ4 s k wy := r_tail.mv rtl M (fun t z => by have := tg t z; omega)
      obtain ⟨⟨v1, v2', v3, v4, v5, v6, v7⟩, ⟨v8, v9⟩, v10⟩ := hv
      obtain ⟨ru, q3⟩ := q3
      have nf : ∀ w', w' < 2 → ∃ fo', r_forms ow3 σ4 (va_up (s.2.1 11) w (s.2.1 11 w + 1) w').toNatClampNeg (fUp (s.2.1 12) (12 * w + 4 * l) a2 a3 a4 a5) (k (8 + w')) w' fo' := by
        intro w' hw'
        by_cases e2 : w' = w
        · subst e2
          refine ⟨va_up fo l q, ?_, ?_⟩
          · rw [va_up_self, el, nI_1, nI_clamp (by omega)]
            exact l4.list cap2
          · rw [va_up_self, el, nI_1, nI_clamp (by omega)]
            intro i hi
            unfold r_form
            by_cases e3 : i = l
            · subst e3
              rw [va_up_self, fUp_0, fUp_1, fUp_2, fUp_3]
              exact k2.mv M24 (nt 0 (by decide) (by decide) (by decide) (by decide) (by decide))
            · rw [va_up_ne _ _ e3, fUp_ne (by omega), fUp_ne (by omega), fUp_ne (by omega), fUp_ne (by omega)]
              exact (fc i (by omega)).mv M (nt 0 (by decide) (by decide) (by decide) (by decide) (by decide))
        · obtain ⟨fo', g1, g2⟩ := qf w' hw'
          have b3 := vp_cl (v5 w' hw').1 (by decide)
          refine ⟨fo', ?_, ?_⟩
          · rw [va_up_ne _ _ e2]
            exact g1.mv M (fun z => by have := tg _ z; omega) (fun z => by have := tg _ z; omega)
          · rw [va_up_ne _ _ e2]
            intro i hi
            unfold r_form
            rw [fUp_ne (by omega), fUp_ne (by omega), fUp_ne (by omega), fUp_ne (by omega)]
            exact (g2 i hi).mv M (nt 0 (by decide) (by decide) (by decide) (by decide) (by decide))
      refine JJ_mk (k' := k) (ch' := 1) (wy' := wy) x4 rfl ⟨⟨q1.mv M (nt 2 (by decide) (by decide) (by decide) (by decide) (by decide)), q2.mv M (fun w hw => nt _ (by omega) (by omega) (by omega) (by omega) (by omega)), ⟨ru, q3.mv M v4.le (nt _ (by decide) (by decide) (by decide) (by decide) (by decide)) (nt _ (by decide) (by decide) (by decide) (by decide) (by decide)) (fun t z => by have := tg t z; omega)⟩, ?_, ?_, q6.mv M (nt _ (by decide) (by decide) (by decide) (by decide) (by decide))⟩, rt⟩ ⟨⟨v1, v2', v3, v4, ?_, v6, v7⟩, ⟨v8, v9⟩, v10⟩ hc.set he
      · exact nf 0 (by decide)
      · exact nf 1 (by decide)
      · obtain ⟨-, o2, o3, o4, o5⟩ := ok
        rw [← en'] at o2 o3 o4
        exact v5.add hw hl3 el o2 o3 o4 (pr_ok o5)
  show wX0_form Q CB SB x0 a1 a2 a3 a4 a5 σ
  unfold wX0_form
  have eg : gF s k ch wy 0 = .int (nI n) := congrArg Value.int en
  refine in_c 1 (by decide) rfl (fun z1 => br_n (by decide) (c_isToken hx eg (by omega) (fun z2 => br_n (by decide) (c_isToken hx eg (by omega) (fun z3 => br_n (by decide) (c_isToken hx eg (by omega) (fun z4 => br_n (by decide) (in_any (fun z5 => br_n (by decide) ⟨fun e => ?_, fun e => ?_⟩) (fun z5 => br_p rfl (bad (fun y => z5 y.2.2.2.2))))) (fun z4 => br_p rfl (bad (fun y => z4 y.2.2.2.1))))) (fun z3 => br_p rfl (bad (fun y => z3 y.2.2.1))))) (fun z2 => br_p rfl (bad (fun y => z2 y.2.1))))) (fun z1 => br_p rfl (bad (fun y => z1 y.1)))
  · exact i_Ro hx (by decide) rfl (body ⟨z1, z2, z3, z4, z5⟩ 0 (by decide) e)
  · exact i_Ro hx (by decide) rfl (body ⟨z1, z2, z3, z4, z5⟩ 1 (by decide) ((vp_2 z1).resolve_left e))
end OPD
