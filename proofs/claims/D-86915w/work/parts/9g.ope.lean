/-! PLAIN LAW: calls 8, 9 -/
set_option maxRecDepth 100000
/-- a state with another array a -/
def tT (s : TS) (a : Nat) (T : Nat → Int32) : TS := (s.1, va_up s.2.1 a T, s.2.2)
theorem tT_up (s : TS) (a : Nat) (T : Nat → Int32) (j : Nat) (v : Int32) : tA (tT s a T) a j v = tT s a (va_up T j v) := by
  show (s.1, va_up (va_up s.2.1 a T) a (va_up (va_up s.2.1 a T a) j v), s.2.2) = (s.1, va_up s.2.1 a (va_up T j v), s.2.2)
  rw [va_up_self, bx_uu]
theorem tT_at (s : TS) (a : Nat) (T : Nat → Int32) : (tT s a T).2.1 a = T := va_up_self _ _ _
theorem tT_id (s : TS) (a : Nat) : tT s a (s.2.1 a) = s := by
  have : va_up s.2.1 a (s.2.1 a) = s.2.1 := by
    funext j
    by_cases e : j = a
    · rw [e, va_up_self]
    · rw [va_up_ne _ _ e]
  show (s.1, va_up s.2.1 a (s.2.1 a), s.2.2) = s
  rw [this]
section OPE
variable {σ : gH} {x0 CB SB : Nat} {s : TS} {a1 a2 a3 a4 a5 : Int32}
theorem op_8 (h : JJ x0 σ s) (hcb : 4 ≤ CB) (hsb : 200 ≤ SB) : l_op 8 a1 a2 a3 a4 a5 (JJ x0) CB SB x0 σ s := by
  refine l_op_of2 fun Q hQ => ?_
  have h' := h
  obtain ⟨ow, k, ch, wy, hx, ha, hv, hc, he⟩ := h
  rw [← gF_oL] at hx
  obtain ⟨t, ht, et, et'⟩ := vp_i hv.1.1.1 (by decide)
  obtain ⟨n, hn, en, en'⟩ := vp_i hv.1.2.2.2.2.2.2.1 (by decide)
  obtain ⟨⟨q1, q2, q3, q4, q5, tf, t1, t2⟩, rtl⟩ := ha
  rw [en'] at t1 t2
  show wX0_put Q CB SB x0 a1 a2 σ
  unfold wX0_put
  refine i_Ro hx (by decide) rfl ⟨_, rfl, c_len_at (t := 0) (by decide) t1.1 ?_⟩
  dsimp only
  refine in_vn (by omega) (fun z1 => br_n (by decide) (c_isToken hx (congrArg Value.int et) (by omega) (fun z2 => br_n (by decide) ?_) (fun z2 => br_p rfl (hQ _ _ h'.obj ?_)))) (fun z1 => br_p rfl (hQ _ _ h'.obj ?_))
  rotate_left
  · simp only [opT]
    unfold wX3_put
    rw [en]
    exact in_vn3 (by omega) (fun _ => br_n (by decide) (t_isToken et (by omega) (fun y => absurd y z2) (fun _ => br_p rfl ⟨rfl, h'⟩))) (fun y => absurd z1 y)
  · simp only [opT]
    unfold wX3_put
    rw [en]
    exact in_vn3 (by omega) (fun y => absurd y z1) (fun _ => br_p rfl ⟨rfl, h'⟩)
  refine i_Ro hx (by decide) rfl ⟨_, rfl, c_len_at (t := 0) (by decide) t1.1 ?_⟩
  dsimp only
  refine ⟨fun e => hQ _ _ h'.obj ?_, fun e => ?_⟩
  · simp only [opT]
    unfold wX3_put
    rw [en]
    exact in_vn3 (by omega) (fun _ => br_n (by decide) (t_isToken et (by omega) (fun _ => br_n (by decide) (br_p (en.trans e) ⟨rfl, h'⟩)) (fun y => absurd z2 y))) (fun y => absurd z1 y)
  have hn' : n < 10 := by
    rcases Nat.lt_or_ge n 10 with z | z
    · exact z
    · exact absurd (by rw [show n = 10 by omega]; rfl) e
  obtain ⟨i, hi, ei, ei'⟩ := vp_i z1 (by omega)
  refine i_Ro hx (by decide) rfl ⟨1, 11, by omega, by omega, c_with t1 ei (by omega) (by omega) (Nat.le_refl _) (by omega) (fun q ow1 σ1 f' m1 k1 hf' => ?_)⟩
  have x1 := hx.mv m1 (by simp)
  refine i_Po x1 (by decide) (fun σ2 m2 x2 => ⟨tb1, i_Po x2 (by decide) (fun σ3 m3 x3 => ?_)⟩)
  have M13 : hmv [1] ow1 σ1 ow1 σ3 := m2.tr m3
  have M : hmv [1] ow σ ow1 σ3 := (m1.sub (by simp)).tr M13
  have k3 := k1.mv M13 (by decide)
  refine i_Ro x3 (by decide) rfl ⟨_, rfl, c_len_at (t := 0) (by decide) k3.1 ?_⟩
  dsimp only
  refine hQ _ _ ⟨_, x3.1⟩ ?_
  simp only [opT]
  unfold wX3_put
  rw [en]
  refine in_vn3 (by omega) (fun _ => br_n (by decide) (t_isToken et (by omega) (fun _ => br_n (by decide) (br_n (by rw [en]; exact e) (al_eq ?_))) (fun y => absurd z2 y))) (fun y => absurd z1 y)
  have fin : ∀ T : Nat → Int32, (∀ j, j ≤ n → T j = if i < j then s.2.1 15 (j - 1) else s.2.1 15 j) → vp_in a1 11 ∧ ∀ s_8 : TS, s_8 = tA (tT s 15 T) 15 a1.toNatClampNeg a2 → (∀ s_9 : TS, s_9 = tI s_8 14 ((s_8.1 14) + 1) → (t_b 0 ∧ ∀ s_10 : TS, s_10 = tI s_9 16 0 → (nI (n + 1) = s_10.1 14 ∧ JJ x0 σ3 s_10))) := by
    intro T hT
    rw [ei', tT_up]
    refine ⟨vp_le z1 (by omega), al_eq (al_eq ⟨tb0, al_eq ⟨?_, ?_⟩⟩)⟩
    · show nI (n + 1) = s.1 14 + 1
      rw [en, nI_1]
    · have rt : r_tail ow1 σ3 s k wy := r_tail.mv rtl M (by decide)
      obtain ⟨⟨v1, v2, v3, v4, v5, v6, v7⟩, ⟨v8, v9⟩, v10⟩ := hv
      obtain ⟨ru, q3⟩ := q3
      obtain ⟨fo0, q4⟩ := q4
      obtain ⟨fo1, q5⟩ := q5
      have e14 : (s.1 14 + 1).toNatClampNeg = n + 1 := by rw [en, nI_1, nI_clamp (by omega)]
      have tval : ∀ j, j < n + 1 → va_up T i a2 j = if j < i then s.2.1 15 j else if j = i then a2 else s.2.1 15 (j - 1) := by
        intro j hj
        by_cases e1 : j = i
        · rw [e1, va_up_self, if_neg (by omega), if_pos rfl]
        · rw [va_up_ne _ _ e1, hT j (by omega)]
          by_cases e2 : j < i
          · rw [if_neg (by omega), if_pos e2]
          · rw [if_pos (by omega), if_neg e2, if_neg e1]
      refine JJ_mk (k' := fun j => if j = 11 then q else k j) (ch' := 1) (wy' := wy) x3 rfl ⟨⟨q1.mv M (by decide), q2.mv M (by decide), ⟨ru, q3.mv M v4.le (by decide) (by decide) (by decide)⟩, ⟨fo0, q4.mv M (by decide) (by decide) (by decide)⟩, ⟨fo1, q5.mv M (by decide) (by decide) (by decide)⟩, ⟨f', ?_, ?_⟩⟩, rt⟩ ⟨⟨v1, v2, v3, v4, v5, v6, ⟨?_, ?_⟩⟩, ⟨v8, v9⟩, v10⟩ hc.set he
      · show hat ow1 σ3 q 0 (cI (s.1 14 + 1).toNatClampNeg f')
        rw [e14]; exact k3
      · show ∀ j, j < (s.1 14 + 1).toNatClampNeg → f' j = va_up T i a2 j
        rw [e14]
        intro j hj
        rw [hf' j hj, tval j hj]
        by_cases e1 : j < i
        · rw [if_pos e1, if_pos e1]; exact t2 j (by omega)
        · rw [if_neg e1, if_neg e1]
          by_cases e2 : j = i
          · rw [if_pos e2, if_pos e2]
          · rw [if_neg e2, if_neg e2]; exact t2 (j - 1) (by omega)
      · show vp_in (s.1 14 + 1) 11
        rw [en, nI_1]; exact vp_nI (by omega) (by decide)
      · show ∀ j, j < (s.1 14 + 1).toNatClampNeg → vp_in (va_up T i a2 j) (s.1 0).toNatClampNeg
        rw [e14]
        intro j hj
        rw [tval j hj]
        by_cases e1 : j < i
        · rw [if_pos e1]; exact v7.2 j (by omega)
        · rw [if_neg e1]
          by_cases e2 : j = i
          · rw [if_pos e2, et']; exact z2
          · rw [if_neg e2]; exact v7.2 (j - 1) (by omega)
  have lp := pk_loopD (σ := TS) (fun f m s' => wX3_put_41 (fun v' s' => nI (n + 1) = v' ∧ JJ x0 σ3 s') (fun (x1_5 : Int32) (x2_6 : Int32) (s_7 : TS) => vp_in x1_5 11 ∧ ∀ s_8 : TS, s_8 = tA s_7 15 x1_5.toNatClampNeg x2_6 → (∀ s_9 : TS, s_9 = tI s_8 14 ((s_8.1 14) + 1) → (t_b 0 ∧ ∀ s_10 : TS, s_10 = tI s_9 16 0 → (nI (n + 1) = s_10.1 14 ∧ JJ x0 σ3 s_10)))) f a1 a2 (nI (i + m)) s') (fun m s' => i + m ≤ n ∧ ∃ T, s' = tT s 15 T ∧ ∀ j, j ≤ n → T j = if i + m < j then s.2.1 15 (j - 1) else s.2.1 15 j) ?_ ?_ (n - i) s ⟨by omega, s.2.1 15, (tT_id s 15).symm, fun j hj => by rw [if_neg (by omega)]⟩
  · rw [show i + (n - i) = n by omega, ← en] at lp
    exact ⟨_, lp⟩
  · rintro f s' ⟨-, T, rfl, hT⟩
    simp only [wX3_put_41]
    refine br_p (by rw [ei]; exact nI_le (by omega) (by omega)) (fin T (fun j hj => ?_))
    rw [hT j hj]; rfl
  · rintro f m s' ⟨hm, T, rfl, hT⟩ hs
    simp only [wX3_put_41]
    rw [show nI (i + (m + 1)) - 1 = nI (i + m) from nI_pred (i + m), show nI (i + (m + 1)) + (-1) = nI (i + m) from pk_m1 (i + m), nI_clamp (n := i + (m + 1)) (by omega), nI_clamp (n := i + m) (by omega), tT_at]
    refine br_n (by rw [ei]; exact nI_nle2 (by omega) (by omega)) ⟨vp_nI (by omega) (by decide), vp_nI (by omega) (by decide), al_eq (al_eq (hs _ ⟨by omega, _, tT_up s 15 T _ _, fun j hj => ?_⟩))⟩
    by_cases e1 : j = i + (m + 1)
    · rw [e1, va_up_self, hT (i + m) (by omega), if_neg (by omega), if_pos (by omega)]
      rfl
    · rw [va_up_ne _ _ e1, hT j hj]
      by_cases e2 : i + (m + 1) < j
      · rw [if_pos e2, if_pos (by omega)]
      · rw [if_neg e2, if_neg (by omega)]
theorem op_9 (h : JJ x0 σ s) (hcb : 4 ≤ CB) (hsb : 200 ≤ SB) : l_op 9 a1 a2 a3 a4 a5 (JJ x0) CB SB x0 σ s := by
  refine l_op_of2 fun Q hQ => ?_
  have h' := h
  obtain ⟨ow, k, ch, wy, hx, ha, hv, hc, he⟩ := h
  rw [← gF_oL] at hx
  obtain ⟨n, hn, en, en'⟩ := vp_i hv.1.2.2.2.2.2.2.1 (by decide)
  obtain ⟨⟨q1, q2, q3, q4, q5, tf, t1, t2⟩, rtl⟩ := ha
  rw [en'] at t1 t2
  show wX0_take Q CB SB x0 a1 σ
  unfold wX0_take
  refine i_Ro hx (by decide) rfl ⟨_, rfl, c_len_at (t := 0) (by decide) t1.1 ?_⟩
  dsimp only
  refine in_vp (by omega) (fun z1 => br_n (by decide) ?_) (fun z1 => br_p rfl (hQ _ _ h'.obj ?_))
  rotate_left
  · simp only [opT]
    unfold wX3_take
    rw [en]
    exact in_vp3 (by omega) (fun y => absurd y z1) (fun _ => br_p rfl ⟨rfl, h'⟩)
  obtain ⟨i, hi, ei, ei'⟩ := vp_i z1 (by omega)
  obtain ⟨n', rfl⟩ : ∃ n', n = n' + 1 := ⟨n - 1, by omega⟩
  refine i_Ro hx (by decide) rfl ⟨_, rfl, c_len_at (t := 0) (by decide) t1.1 ?_⟩
  dsimp only
  rw [nI_pred, nI_clamp (by omega)]
  refine ⟨by omega, by omega, nI_pos (by omega), by omega, i_newF (ow := ow) 0 (fun q ow1 σ1 hq m1 k1 => ?_)⟩
  have x1 := hx.mv m1 (by simp)
  have t11 := t1.mv m1 (by simp)
  refine i_Ro x1 (by decide) rfl ⟨_, rfl, i_cpy (sp := 0) (dp := 0) (z := i) t11.1 k1.1 rfl rfl ei (by omega) (by omega) (by omega) ?_⟩
  have m2 := m1.fr (e := cI n' (va_cpy tf (fun _ => 0) 0 0 i)) hq
  have k2 := k1.set (x := cI n' (va_cpy tf (fun _ => 0) 0 0 i))
  obtain ⟨σ2, hσ2⟩ : ∃ σ2, σ2 = g_up σ1 q (cI n' (va_cpy tf (fun _ => 0) 0 0 i)) := ⟨_, rfl⟩
  rw [← hσ2] at m2 k2 ⊢
  have x2 := hx.mv m2 (by simp)
  have t12 := t1.mv m2 (by simp)
  refine i_Ro x2 (by decide) rfl (c_len_at (t := 0) (by decide) k2.1 ⟨_, rfl, ?_⟩)
  dsimp only
  refine i_cpy (sp := i + 1) (dp := i) (z := n' - i) t12.1 k2.1 (by rw [ei, nI_1]) ei (by rw [ei, pk_sub (by omega)]) (by omega) (by omega) (by omega) ?_
  have m3 := m2.fr (e := cI n' (va_cpy tf (va_cpy tf (fun _ => 0) 0 0 i) (i + 1) i (n' - i))) hq
  have k3 := k2.set (x := cI n' (va_cpy tf (va_cpy tf (fun _ => 0) 0 0 i) (i + 1) i (n' - i)))
  obtain ⟨σ3, hσ3⟩ : ∃ σ3, σ3 = g_up σ2 q (cI n' (va_cpy tf (va_cpy tf (fun _ => 0) 0 0 i) (i + 1) i (n' - i))) := ⟨_, rfl⟩
  rw [← hσ3] at m3 k3 ⊢
  have x3 := hx.mv m3 (by simp)
  have hf' : ∀ j, j < n' → va_cpy tf (va_cpy tf (fun _ => 0) 0 0 i) (i + 1) i (n' - i) j = if i ≤ j then tf (j + 1) else tf j := by
    intro j hj
    by_cases e1 : i ≤ j
    · rw [if_pos e1, pk_cpy_in e1 (by omega)]
      congr 1; omega
    · rw [if_neg e1, pk_cpy_out (Or.inl (by omega)), pk_cpy_in (by omega) (by omega)]
      congr 1; omega
  obtain ⟨f', ef'⟩ : ∃ f', f' = va_cpy tf (va_cpy tf (fun _ => 0) 0 0 i) (i + 1) i (n' - i) := ⟨_, rfl⟩
  rw [← ef'] at hf' k3
  refine i_Po x3 (by decide) (fun σ4 m4 x4 => ⟨tb1, i_Po x4 (by decide) (fun σ5 m5 x5 => ?_)⟩)
  have M35 : hmv [1] ow1 σ3 ow1 σ5 := m4.tr m5
  have M : hmv [1] ow σ ow1 σ5 := (m3.sub (by simp)).tr M35
  have k5 := k3.mv M35 (by decide)
  refine i_Ro x5 (by decide) rfl ⟨_, rfl, c_len_at (t := 0) (by decide) k5.1 ?_⟩
  dsimp only
  refine hQ _ _ ⟨_, x5.1⟩ ?_
  simp only [opT]
  unfold wX3_take
  rw [en, nI_pred]
  rw [show nI n' = nI (n' + 1) - 1 from (nI_pred n').symm]
  refine in_vp3 (by omega) (fun _ => br_n (by decide) (al_eq ?_)) (fun y => absurd z1 y)
  rw [nI_pred]
  have fin : ∀ T : Nat → Int32, (∀ j, j < n' → T j = if i ≤ j then s.2.1 15 (j + 1) else s.2.1 15 j) → t_b 0 ∧ ∀ s_4 : TS, s_4 = tI (tT (tI s 14 (nI n')) 15 T) 16 0 → (nI n' = s_4.1 14 ∧ JJ x0 σ5 s_4) := by
    intro T hT
    refine ⟨tb0, al_eq ⟨rfl, ?_⟩⟩
    have rt : r_tail ow1 σ5 s k wy := r_tail.mv rtl M (by decide)
    obtain ⟨⟨v1, v2, v3, v4, v5, v6, v7⟩, ⟨v8, v9⟩, v10⟩ := hv
    rw [en] at v7
    obtain ⟨ru, q3⟩ := q3
    obtain ⟨fo0, q4⟩ := q4
    obtain ⟨fo1, q5⟩ := q5
    refine JJ_mk (k' := fun j => if j = 11 then q else k j) (ch' := 1) (wy' := wy) x5 rfl ⟨⟨q1.mv M (by decide), q2.mv M (by decide), ⟨ru, q3.mv M v4.le (by decide) (by decide) (by decide)⟩, ⟨fo0, q4.mv M (by decide) (by decide) (by decide)⟩, ⟨fo1, q5.mv M (by decide) (by decide) (by decide)⟩, ⟨f', ?_, ?_⟩⟩, rt⟩ ⟨⟨v1, v2, v3, v4, v5, v6, ⟨?_, ?_⟩⟩, ⟨v8, v9⟩, v10⟩ hc.set he
    · show hat ow1 σ5 q 0 (cI (nI n').toNatClampNeg f')
      rw [nI_clamp (by omega)]; exact k5
    · show ∀ j, j < (nI n').toNatClampNeg → f' j = T j
      rw [nI_clamp (by omega)]
      intro j hj
      rw [hf' j hj, hT j hj]
      by_cases e1 : i ≤ j
      · rw [if_pos e1, if_pos e1]; exact t2 (j + 1) (by omega)
      · rw [if_neg e1, if_neg e1]; exact t2 j (by omega)
    · show vp_in (nI n') 11
      exact vp_nI (by omega) (by decide)
    · show ∀ j, j < (nI n').toNatClampNeg → vp_in (T j) (s.1 0).toNatClampNeg
      rw [nI_clamp (by omega)]
      have v7' := v7.2
      rw [nI_clamp (by omega)] at v7'
      intro j hj
      rw [hT j hj]
      by_cases e1 : i ≤ j
      · rw [if_pos e1]; exact v7' (j + 1) (by omega)
      · rw [if_neg e1]; exact v7' j (by omega)
  rw [ei]
  refine pk_loop (σ := TS) (fun f m s' => wX3_take_30 _ _ f (nI m) s') (fun m s' => i ≤ m ∧ ∃ T, s' = tT (tI s 14 (nI n')) 15 T ∧ ∀ j, T j = if i ≤ j ∧ j < m then s.2.1 15 (j + 1) else s.2.1 15 j) n' i (tI s 14 (nI n')) (by omega) ⟨Nat.le_refl _, s.2.1 15, (tT_id (tI s 14 (nI n')) 15).symm, fun j => by rw [if_neg (by omega)]⟩ ?_ ?_
  · rintro f s' ⟨-, T, rfl, hT⟩
    simp only [wX3_take_30]
    refine br_p (show nI n' ≤ nI n' from nI_le (Nat.le_refl _) (by omega)) (fin T (fun j hj => ?_))
    rw [hT j]
    by_cases e1 : i ≤ j
    · rw [if_pos ⟨e1, hj⟩, if_pos e1]
    · rw [if_neg (by omega), if_neg e1]
  · rintro f m s' hm ⟨him, T, rfl, hT⟩ hs
    simp only [wX3_take_30]
    rw [nI_1, nI_clamp (n := m) (by omega), nI_clamp (n := m + 1) (by omega), tT_at]
    refine br_n (show ¬ nI n' ≤ nI m from nI_nle2 hm (by omega)) ⟨vp_nI (by omega) (by decide), vp_nI (by omega) (by decide), al_eq (al_eq (hs _ ⟨by omega, _, tT_up (tI s 14 (nI n')) 15 T _ _, fun j => ?_⟩))⟩
    by_cases e1 : j = m
    · rw [e1, va_up_self, hT (m + 1), if_neg (by omega), if_pos ⟨him, by omega⟩]
    · rw [va_up_ne _ _ e1, hT j]
      by_cases e2 : i ≤ j ∧ j < m
      · rw [if_pos e2, if_pos (by omega)]
      · rw [if_neg e2, if_neg (by omega)]
end OPE
