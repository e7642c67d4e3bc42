/-! PLAIN LAW: call 27 -/
set_option maxRecDepth 100000
section OPH
variable {σ : gH} {x0 CB SB : Nat} {s : TS} {a1 a2 a3 a4 a5 : Int32}
theorem op_27 (h : JJ x0 σ s) (hcb : 20 ≤ CB) (hsb : 2000 ≤ SB) : l_op 27 a1 a2 a3 a4 a5 (JJ x0) CB SB x0 σ s := by
  refine l_op_of2 fun Q hQ => ?_
  have h' := h
  obtain ⟨ow, k, ch, wy, hx0, ha, hv, hc, he⟩ := h
  have hx := hx0
  rw [← gF_oL] at hx
  show wX0_paste Q CB SB x0 a1 a2 a3 σ
  unfold wX0_paste
  refine ⟨_, hx.1, in_c 5 (by decide) rfl (fun z1 => ⟨tb1, br_n (by decide) ⟨fun z2 => ⟨_, hx.1, CB, SB, by omega, by omega, ?_⟩, fun z2 => hQ _ _ h'.obj ?_⟩⟩) (fun z1 => ⟨tb0, br_p rfl (hQ _ _ h'.obj ?_)⟩)⟩
  rotate_left
  · simp only [opT]
    unfold wX3_paste
    exact t_isShelf (fun _ => br_n (by decide) (br_n z2 ⟨rfl, h'⟩)) (fun y => absurd z1 y)
  · simp only [opT]
    unfold wX3_paste
    exact t_isShelf (fun y => absurd y z1) (fun _ => br_p rfl ⟨rfl, h'⟩)
  obtain ⟨j, hj, ej, ej'⟩ := vp_i z1 (by decide)
  unfold wX0_act
  refine ⟨_, hx.1, 1, 1, by omega, by omega, c_shelf hx rfl ha.2.2.2 ej hj (Nat.le_refl _) (Nat.le_refl _) (fun b th f' ow1 σ1 m1 s1 s2 s3 s4 s5 => ⟨b, rfl, i_Rr s4.1 (by decide) rfl (br_n (by decide) (br_n (by decide) (br_n (by decide) ?_)))⟩)⟩
  have hx1 := hx0.mv m1 (by decide)
  have ra1 : r_all ow1 σ1 s k wy := ha.mvS hv m1 (by decide) ⟨f', s1, s2⟩
  have J1 : JJ x0 σ1 s := ⟨ow1, k, ch, wy, hx1, ra1, hv, hc, he⟩
  have tw : ∀ (v : Int32) σ9, (∃ fs : List Value, σ9.2 x0 = some (.inr (0, fs))) → wX3_against (fun (r_3 : Int32) (s_2 : TS) => (0 ≤ r_3 → ((0 ≤ a3 → ((a2 < 0 → (v = -12 ∧ JJ x0 σ9 s_2)) ∧ (¬ a2 < 0 → (vp_in a1 6 ∧ ((a2 ≤ (s_2.2.1 52 a1.toNatClampNeg) - a3 → (∀ s_4 : TS, s_4 = tI s_2 14 a3 → (∃ fu : Nat, wX3_paste_68 (fun v' s' => v = v' ∧ JJ x0 σ9 s') (fun (x3_5 : Int32) (s_6 : TS) => t_b 0 ∧ ∀ s_7 : TS, s_7 = tI s_6 16 0 → (v = x3_5 ∧ JJ x0 σ9 s_7)) fu a1 a2 a3 0 s_4))) ∧ (¬ a2 ≤ (s_2.2.1 52 a1.toNatClampNeg) - a3 → (v = -12 ∧ JJ x0 σ9 s_2))))))) ∧ (¬ 0 ≤ a3 → (v = -14 ∧ JJ x0 σ9 s_2)))) ∧ (¬ 0 ≤ r_3 → (v = r_3 ∧ JJ x0 σ9 s_2))) a1 1 s → Q v σ9 := fun v σ9 ho hh => hQ _ _ ho (by simp only [opT]; unfold wX3_paste; exact t_isShelf (fun _ => br_n (by decide) (br_p z2 hh)) (fun y => absurd z1 y))
  refine c_castT s5 0 (by decide) (by omega) (by omega) (fun e1 e2 => ?_) (fun _ a e1 e2 hr => ?_) (fun e => absurd e (by decide)) (fun e => absurd e (by decide)) (fun e1 e2 => ?_)
  · rw [e1]
    exact ⟨1, 8, _, by omega, by omega, hx1.1, c_nul_n (Nat.le_refl _) (Nat.le_refl _) (Or.inl ⟨rfl, tw _ _ J1.obj (t_against ej hj (fun _ => br_n (by decide) ⟨rfl, J1⟩) (fun _ y => absurd e2 y) (fun y => absurd e2 y))⟩)⟩
  · rw [e1]
    obtain ⟨f, r1, r2⟩ := hr
    have vs := (hv.2.2 j hj).2.2.1 e2
    obtain ⟨m, hm, em, em'⟩ := vp_i vs.1 (by decide)
    rw [em'] at r1 r2
    have vi : vp_in a1 6 := z1
    refine ⟨4, 500, _, by omega, by omega, hx1.1, c_nul_s ⟨_, f, r1.1, by omega, nI_pos' (by omega), fun z => ⟨by omega, by omega, Or.inr (Or.inr ⟨rfl, tw _ _ J1.obj (t_against ej hj (fun y => absurd (y.symm.trans e2) (by decide)) (fun _ _ => br_p (by decide) (br_n (by rw [Int32.not_le]; exact z) ⟨rfl, J1⟩)) (fun _ y => absurd e2 y))⟩)⟩, fun z => ?_⟩⟩
    obtain ⟨l, hl, el⟩ := nI_of2 (n := 10) (M := 10) rfl z z2
    have el' : a3.toNatClampNeg = l := by rw [el, nI_clamp (by omega)]
    have li : a3.toInt = l := by rw [el, nI_toInt (by omega)]
    have cond : a2 ≤ nI m - a3 ↔ a2.toInt ≤ (m : Int) - l := by rw [Int32.le_iff_toInt_le, el, pk_sub_toInt (by omega) (by omega)]
    have p0 : (0 : Int32) ≤ a3 := by rw [el]; exact nI_pos' (by omega)
    rw [el', li]
    refine ⟨by omega, by omega, by omega, i_newF (ow := ow1) 0 (fun q ow2 σ2 hq m2 k2 => ⟨fun bad => ⟨by omega, by omega, Or.inr (Or.inl ⟨rfl, ?_⟩)⟩, fun good => al_eq ?_⟩)⟩
    · have J2 : JJ x0 σ2 s := ⟨ow2, k, ch, wy, hx1.mv m2 (by simp), ra1.mv hv m2 (by simp), hv, hc, he⟩
      refine tw _ _ J2.obj (t_against ej hj (fun y => absurd (y.symm.trans e2) (by decide)) (fun _ _ => br_p (by decide) (br_p p0 ⟨fun _ => ⟨rfl, J2⟩, fun y0 => ⟨vi, ?_⟩⟩)) (fun _ y => absurd e2 y))
      rw [ej', em]
      refine br_n (fun y => ?_) ⟨rfl, J2⟩
      rw [cond] at y
      rcases bad with z | z
      · exact y0 z
      · omega
    · have g0 : ¬ a2 < 0 := fun z => good (Or.inl z)
      have g1 : ¬ (m : Int) < a2.toInt + l := fun z => good (Or.inr z)
      obtain ⟨i, hi, ei⟩ := nI_of g0
      have ei' : a2.toNatClampNeg = i := by rw [ei, nI_clamp (by omega)]
      have ii : a2.toInt = i := by rw [ei, nI_toInt (by omega)]
      have him : i + l ≤ m := by omega
      rw [ei']
      have m3 : hmv [] ow1 σ1 ow2 (g_up σ2 q (cI l (va_cpy f (fun _ => 0) i 0 l))) := m2.fr hq
      have k3 := k2.set (x := cI l (va_cpy f (fun _ => 0) i 0 l))
      obtain ⟨σ3, hσ3⟩ : ∃ σ3, σ3 = g_up σ2 q (cI l (va_cpy f (fun _ => 0) i 0 l)) := ⟨_, rfl⟩
      rw [← hσ3] at m3 k3
      show c_P (g_up σ2 q (cI l (va_cpy f (fun _ => 0) i 0 l))) [0] x0 11 (va_rf (some q)) _
      rw [← hσ3]
      have x3 := hx1.mv m3 (by simp)
      rw [← gF_oL] at x3
      refine i_Po x3 (by decide) (fun σ4 m4 x4 => i_Po x4 (by decide) (fun σ5 m5 x5 => ?_))
      have M35 : hmv [1] ow2 σ3 ow2 σ5 := m4.tr m5
      have M : hmv [1] ow1 σ1 ow2 σ5 := (m3.sub (by simp)).tr M35
      have k5 := k3.mv M35 (by decide)
      refine tw _ _ ⟨_, x5.1⟩ (t_against ej hj (fun y => absurd (y.symm.trans e2) (by decide)) (fun _ _ => br_p (by decide) (br_p p0 (br_n g0 ⟨vi, ?_⟩))) (fun _ y => absurd e2 y))
      rw [ej', em]
      refine br_p (cond.mpr (by omega)) (al_eq ?_)
      rw [el]
      refine pk_loop (σ := TS) (fun fu c s' => wX3_paste_68 _ _ fu a1 a2 (nI l) (nI c) s') (fun c s' => ∃ T, s' = tT (tI s 14 (nI l)) 15 T ∧ ∀ t, t < c → T t = s.2.1 53 (1600 * j + (i + t))) l 0 (tI s 14 (nI l)) (by omega) ⟨s.2.1 15, (tT_id (tI s 14 (nI l)) 15).symm, fun t ht => by omega⟩ ?_ ?_
      · rintro fu s' ⟨T, rfl, hT⟩
        simp only [wX3_paste_68]
        refine br_p (nI_le (Nat.le_refl _) (by omega)) ⟨tb0, al_eq ⟨by first | trivial | rfl | exact el | exact el.symm, ?_⟩⟩
        obtain ⟨⟨q1, q2, ⟨ru, q3⟩, ⟨fo0, q4⟩, ⟨fo1, q5⟩, q6⟩, rtl⟩ := ra1
        have rt : r_tail ow2 σ5 s k wy := r_tail.mv rtl M (by decide)
        obtain ⟨⟨v1, v2, v3, v4, v5, v6, v7⟩, ⟨v8, v9⟩, v10⟩ := hv
        refine JJ_mk (k' := fun j => if j = 11 then q else k j) (ch' := 1) (wy' := wy) x5 rfl ⟨⟨q1.mv M (by decide), q2.mv M (by decide), ⟨ru, q3.mv M v4.le (by decide) (by decide) (by decide)⟩, ⟨fo0, q4.mv M (by decide) (by decide) (by decide)⟩, ⟨fo1, q5.mv M (by decide) (by decide) (by decide)⟩, ⟨va_cpy f (fun _ => 0) i 0 l, ?_, ?_⟩⟩, rt⟩ ⟨⟨v1, v2, v3, v4, v5, v6, ⟨?_, ?_⟩⟩, ⟨v8, v9⟩, v10⟩ hc.set he
        · show hat ow2 σ5 q 0 (cI (nI l).toNatClampNeg (va_cpy f (fun _ => 0) i 0 l))
          rw [nI_clamp (by omega)]; exact k5
        · show ∀ t, t < (nI l).toNatClampNeg → va_cpy f (fun _ => 0) i 0 l t = T t
          rw [nI_clamp (by omega)]
          intro t ht
          rw [pk_cpy_in (by omega) (by omega), hT t ht, Nat.sub_zero]
          exact r2 (i + t) (by omega)
        · show vp_in (nI l) 11
          exact vp_nI (by omega) (by decide)
        · show ∀ t, t < (nI l).toNatClampNeg → vp_in (T t) (s.1 0).toNatClampNeg
          rw [nI_clamp (by omega)]
          intro t ht
          rw [hT t ht]
          exact vs.2 (i + t) (by rw [em']; omega)
      · rintro fu c s' hcl ⟨T, rfl, hT⟩ hs
        simp only [wX3_paste_68]
        have ec : 1600 * a1 + a2 + nI c = nI (1600 * j + (i + c)) := by rw [ej, ei, k1600, pk_mul, nI_add, nI_add, Nat.add_assoc]
        rw [ec, nI_1, nI_clamp (n := c) (by omega), nI_clamp (n := 1600 * j + (i + c)) (by omega)]
        refine br_n (nI_nle2 hcl (by omega)) ⟨vp_nI (by omega) (by decide), vp_nI (by omega) (by decide), al_eq (al_eq (hs _ ⟨_, tT_up (tI s 14 (nI l)) 15 T _ _, fun t ht => ?_⟩))⟩
        by_cases e : t = c
        · rw [e, va_up_self]; rfl
        · rw [va_up_ne _ _ e]; exact hT t (by omega)
  · exact tw _ _ J1.obj (t_against ej hj (fun y => absurd y e1) (fun y => absurd y e2) (fun _ _ => br_n (by decide) ⟨rfl, J1⟩))
end OPH
