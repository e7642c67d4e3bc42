/-! PLAIN LAW: call 23, joined -/
set_option maxRecDepth 100000
section OPJ
variable {T : List Nat} {ow ow' : Nat → Nat} {σ σ' : gH} {x0 CB SB : Nat} {s : TS} {a1 a2 a3 a4 a5 : Int32} {k : Nat → Nat} {wy : Option Nat}
def r_top (ow : Nat → Nat) (σ : gH) (s : TS) (k : Nat → Nat) (wy : Option Nat) : Prop :=
  (r_fence ow σ (s.2.1 1) (k 1) ∧ r_price ow σ (s.2.1 2) (k 2) ∧ (∃ ru, r_rules ow σ (s.1 7).toNatClampNeg (s.2.1 8) (s.2.1 9) (s.2.1 10) (k 7) ru) ∧ (∃ fo, r_forms ow σ (s.2.1 11 0).toNatClampNeg (s.2.1 12) (k 8) 0 fo) ∧ (∃ fo, r_forms ow σ (s.2.1 11 1).toNatClampNeg (s.2.1 12) (k 9) 1 fo) ∧ r_row ow σ (k 11) 0 (s.1 14).toNatClampNeg (s.2.1 15)) ∧
  ((∃ X, r_cube ow σ (k 13) 12 1000 X) ∧ (∃ X, r_cube ow σ (k 14) 8 2000 X) ∧ (∃ X, r_cube ow σ (k 15) 96 3000 X)) ∧
  (r_way ow σ (s.1 17) (s.1 18) (s.1 19) wy ∧ r_tree ow σ (k 18) 120 (s.1 26).toNatClampNeg 100 (s.2.1 27) ∧ r_told ow σ (k 19) (s.1 22).toNatClampNeg (s.2.1 23) ∧ r_slips ow σ (k 20) (s.1 22).toNatClampNeg (s.2.1 23) ∧ r_words ow σ (k 21) (s.1 24).toNatClampNeg (s.2.1 25))
theorem r_all.top (h : r_all ow σ s k wy) (v : v_all s) (m : hmv T ow σ ow' σ') (ht : ∀ t ∈ T, t = 1 ∨ (110 ≤ t ∧ t < 117) ∨ 9000 ≤ t) : r_top ow' σ' s k wy := by
  have h0 : ∀ n, ¬ (n = 1 ∨ (110 ≤ n ∧ n < 117) ∨ 9000 ≤ n) → n ∉ T := fun n h1 q => h1 (ht n q)
  obtain ⟨⟨a1, a2, ⟨ru, a3⟩, ⟨fo, a4⟩, ⟨fo2, a5⟩, a6⟩, ⟨⟨X1, b1⟩, ⟨X2, b2⟩, ⟨X3, b3⟩⟩, ⟨c1, c2, c3, c4, c5⟩, d⟩ := h
  exact ⟨⟨a1.mv m (h0 _ (by decide)), a2.mv m (fun w hw => h0 _ (by omega)), ⟨ru, a3.mv m v.1.2.2.2.1.le (h0 _ (by decide)) (h0 _ (by decide)) (fun t q => by have := ht t q; omega)⟩, ⟨fo, a4.mv m (h0 _ (by decide)) (h0 _ (by decide)) (h0 _ (by decide))⟩, ⟨fo2, a5.mv m (h0 _ (by decide)) (h0 _ (by decide)) (h0 _ (by decide))⟩, a6.mv m (h0 _ (by decide))⟩, ⟨⟨X1, b1.mv m (h0 _ (by decide)) (fun t q => by have := ht t q; omega)⟩, ⟨X2, b2.mv m (h0 _ (by decide)) (fun t q => by have := ht t q; omega)⟩, ⟨X3, b3.mv m (h0 _ (by decide)) (fun t q => by have := ht t q; omega)⟩⟩, ⟨c1.mv m (h0 _ (by decide)), c2.mv m (h0 _ (by decide)) (fun _ w hw => h0 _ (by omega)), c3.mv m (h0 _ (by decide)) (h0 _ (by decide)) (h0 _ (by decide)), c4.mv m (h0 _ (by decide)), c5.mv m (h0 _ (by decide))⟩⟩
theorem op_23 (h : JJ x0 σ s) (hcb : 40 ≤ CB) (hsb : 2000 ≤ SB) : l_op 23 a1 a2 a3 a4 a5 (JJ x0) CB SB x0 σ s := by
  refine l_op_of2 fun Q hQ => ?_
  have h' := h
  obtain ⟨ow, k, ch, wy, hx0, ha, hv, hc, he⟩ := h
  have hx := hx0
  rw [← gF_oL] at hx
  show wX0_shelve Q CB SB x0 a1 a2 σ
  unfold wX0_shelve
  have red := hv.2.1.1
  have body : vp_in a1 6 → vp_in a2 5 → ((1 ≤ a2.toInt64 ∧ a2.toInt64 ≤ 3) → ¬ s.1 20 = 0) → wX0_shelve_46 Q CB SB 0 0 x0 a1 a2 σ := by
    intro z1 z2 gd
    have tw : ∀ σ9 : gH, (∃ fs : List Value, σ9.2 x0 = some (.inr (0, fs))) → wX3_shelve_43 (fun v' s' => (1 : Int32) = v' ∧ JJ x0 σ9 s') a1 a2 s → Q 1 σ9 := fun σ9 ho hh => hQ _ _ ho (by simp only [opT]; unfold wX3_shelve; exact t_isShelf (fun _ => br_n (by decide) (in_c3 4 (by decide) rfl (fun _ => br_n (by decide) (in_any3 (fun z3 => br_n (by decide) (br_n (gd z3) hh)) (fun z3 => br_p rfl hh))) (fun y => absurd z2 y))) (fun y => absurd z1 y))
    obtain ⟨j, hj, ej, ej'⟩ := vp_i z1 (by decide)
    obtain ⟨w, hw, ew, ew'⟩ := vp_i z2 (by decide)
    unfold wX0_shelve_46
    refine ⟨_, hx.1, 1, 1, by omega, by omega, c_shelf hx rfl ha.2.2.2 ej hj (Nat.le_refl _) (Nat.le_refl _) (fun b th f' ow1 σ1 m1 s1 s2 s3 s4 s5 => ?_)⟩
    have hx1 := hx.mv m1 (by decide)
    obtain ⟨tp1, tp2, tp3⟩ := ha.top hv m1 (by decide)
    have fin : ∀ (n : Nat) (th2 : Option Nat) (ow2 : Nat → Nat) (σ2 : gH) (uc us : Nat), shN s w = nI n → ((w = 1 → n ≤ 300) ∧ (w = 2 → n ≤ 100) ∧ (w = 3 → n ≤ 319) ∧ (w = 4 → n ≤ 10) ∧ (w = 0 → n = 0)) → hmv [] ow1 σ1 ow2 σ2 → r_thing ow2 σ2 th2 (shK w) n (s.2.1 (shA w)) → wX0_shelve_109 Q CB SB uc us (some b) th2 σ2 := by
      intro n th2 ow2 σ2 uc us en hn m2 rth
      have s42 := s4.mv m2 (by simp)
      unfold wX0_shelve_109
      refine ⟨b, rfl, i_Pf [va_rf th2] s42.1 (by decide) rfl (by simp) ?_⟩
      have k3 := s42.set (x := cO 17 [va_rf th2])
      have m3 : hmv [111 + j] ow2 σ2 ow2 (g_up σ2 b (cO 17 [va_rf th2])) := hmv.rf.up s42 (by simp) rfl
      obtain ⟨σ3, hσ3⟩ : ∃ σ3, σ3 = g_up σ2 b (cO 17 [va_rf th2]) := ⟨_, rfl⟩
      rw [← hσ3] at k3 m3 ⊢
      have m23 : hmv [111 + j] ow1 σ1 ow2 σ3 := (m2.sub (by simp)).tr m3
      have tg : ∀ t ∈ [110, 111 + j], t = 110 ∨ t = 111 + j := by
        intro t ht
        simp only [List.mem_cons, List.not_mem_nil, or_false] at ht
        exact ht
      have M : hmv [110, 111 + j] ow σ ow2 σ3 := (m1.sub (by simp)).tr (m23.sub (by simp))
      have hx3 := hx0.mv M (fun z => by have := tg _ z; omega)
      refine tw σ3 ⟨_, hx3.1⟩ ?_
      rw [ej, ew]
      refine t_shelve hj hw en hn (fun R hR => ⟨rfl, ?_⟩)
      obtain ⟨t1, t2, t3⟩ := ha.top hv M (fun t z => by have := tg t z; omega)
      have Rin : ∀ i, i < shC w n → R (1600 * j + i) = s.2.1 (shA w) i := by
        intro i hi
        rw [hR, if_pos ⟨by omega, by omega⟩, Nat.add_sub_cancel_left]
      have Rout : ∀ j' i, j' ≠ j → i < 1600 → R (1600 * j' + i) = s.2.1 53 (1600 * j' + i) := by
        intro j' i hj' hi
        have : shC w n ≤ 1600 := by
          unfold shC
          have : w = 0 ∨ w = 1 ∨ w = 2 ∨ w = 3 ∨ w = 4 := by omega
          rcases this with rfl | rfl | rfl | rfl | rfl <;> simp <;> simp at hn <;> omega
        rw [hR, if_neg (by omega)]
      have n1 : (shN s w).toNatClampNeg = n := by
        rw [en, nI_clamp]
        have : w = 0 ∨ w = 1 ∨ w = 2 ∨ w = 3 ∨ w = 4 := by omega
        rcases this with rfl | rfl | rfl | rfl | rfl <;> simp at hn <;> omega
      have she : r_shelves ow2 σ3 (va_up (s.2.1 51) j (shK w)) (va_up (s.2.1 52) j (shN s w)) R (k 23) := by
        refine ⟨f', s1.mv m23 (by rw [List.mem_singleton]; omega), fun j' hj' => ?_⟩
        by_cases e : j' = j
        · subst e
          rw [s3]
          refine Or.inr ⟨b, th2, rfl, k3, ?_⟩
          rw [va_up_self, va_up_self, n1]
          refine (rth.mv m3 (by rw [List.mem_singleton]; omega)).cg (fun e i hi => (Rin i ?_).symm) (fun e i hi => (Rin i ?_).symm) (fun e i hi => (Rin i ?_).symm)
          all_goals
            have : w = 0 ∨ w = 1 ∨ w = 2 ∨ w = 3 ∨ w = 4 := by omega
            rcases this with rfl | rfl | rfl | rfl | rfl
            all_goals first | exact absurd e (by decide) | (show i < 5 * n; omega) | (show i < 4 * n; omega) | (show i < n; omega)
        · rcases s2 j' hj' with ⟨y1, y2⟩ | ⟨b', th', y1, y2, y3⟩
          · exact Or.inl ⟨y1, by rw [va_up_ne _ _ e]; exact y2⟩
          · refine Or.inr ⟨b', th', y1, y2.mv m23 (by rw [List.mem_singleton]; omega), ?_⟩
            rw [va_up_ne _ _ e, va_up_ne _ _ e]
            obtain ⟨w1, w2, w3, w4, w5⟩ := hv.2.2 j' hj'
            refine (y3.mv m23 (by rw [List.mem_singleton]; omega)).cg (fun e1 i hi => (Rout j' i e ?_).symm) (fun e1 i hi => (Rout j' i e ?_).symm) (fun e1 i hi => (Rout j' i e ?_).symm)
            · have := vp_cl (w3 e1).1 (by decide); omega
            · have := vp_cl (w4 e1) (by decide); omega
            · have := vp_cl (w5 e1) (by decide); omega
      refine ⟨ow2, k, ch, wy, hx3, ⟨t1, t2, t3, she⟩, ⟨hv.1, hv.2.1, ?_⟩, hc, he⟩
      show v_she (s.1 0) (va_up (s.2.1 51) j (shK w)) (va_up (s.2.1 52) j (shN s w)) R
      intro j' hj'
      by_cases e : j' = j
      · subst e
        rw [va_up_self, va_up_self]
        have rowR : ∀ m, v_row (s.1 0) (shN s w) m (s.2.1 (shA w)) → m ≤ 301 → shC w n = n → v_row (s.1 0) (shN s w) 301 (fun i => R (1600 * j' + i)) := by
          intro m hr hm hcn
          refine ⟨vp_le hr.1 hm, fun i hi => ?_⟩
          show vp_in (R (1600 * j' + i)) _
          have hr2 := hr.2 i hi
          rw [n1] at hi
          rw [Rin i (by omega)]
          exact hr2
        have : w = 0 ∨ w = 1 ∨ w = 2 ∨ w = 3 ∨ w = 4 := by omega
        rcases this with rfl | rfl | rfl | rfl | rfl
        · exact ⟨vp_nI (n := 0) (by decide) (by decide), fun _ => rfl, fun y => absurd y (by decide), fun y => absurd y (by decide), fun y => absurd y (by decide)⟩
        · exact ⟨vp_nI (n := 1) (by decide) (by decide), fun y => absurd y (by decide), fun _ => rowR 301 hv.2.1.2 (Nat.le_refl _) rfl, fun y => absurd y (by decide), fun y => absurd y (by decide)⟩
        · exact ⟨vp_nI (n := 2) (by decide) (by decide), fun y => absurd y (by decide), fun y => absurd y (by decide), fun _ => red.2.2.2.2.2.2, fun y => absurd y (by decide)⟩
        · exact ⟨vp_nI (n := 3) (by decide) (by decide), fun y => absurd y (by decide), fun y => absurd y (by decide), fun y => absurd y (by decide), fun _ => red.2.2.2.2.1⟩
        · exact ⟨vp_nI (n := 1) (by decide) (by decide), fun y => absurd y (by decide), fun _ => rowR 11 hv.1.2.2.2.2.2.2 (by decide) rfl, fun y => absurd y (by decide), fun y => absurd y (by decide)⟩
      · rw [va_up_ne _ _ e, va_up_ne _ _ e]
        obtain ⟨w1, w2, w3, w4, w5⟩ := hv.2.2 j' hj'
        refine ⟨w1, w2, fun e1 => ⟨(w3 e1).1, fun i hi => ?_⟩, w4, w5⟩
        show vp_in (R (1600 * j' + i)) _
        have := vp_cl (w3 e1).1 (by decide)
        rw [Rout j' i e (by omega)]
        exact (w3 e1).2 i hi
    have w5 : w = 0 ∨ w = 1 ∨ w = 2 ∨ w = 3 ∨ w = 4 := by omega
    rcases w5 with rfl | rfl | rfl | rfl | rfl
    · exact br_p ew (fin 0 none ow1 σ1 _ _ rfl (by simp) hmv.rf (Or.inl ⟨rfl, rfl⟩))
    · refine br_n (by rw [ew]; decide) (br_p ew ?_)
      obtain ⟨n, hn, en, en'⟩ := vp_i hv.2.1.2.1 (by decide)
      obtain ⟨wf, g1, g2⟩ := tp3.2.2.2.2
      rw [en'] at g2
      refine i_Ro hx1 (by decide) rfl (i_Io hx1 (by decide) (v := nI n) (congrArg Value.int en) ⟨1, n, by omega, by omega, c_cut g1 rfl (by omega) (by decide) (Nat.le_refl _) (Nat.le_refl _) (fun q ow2 σ2 f2 hq m2 k2 hf2 => fin n (some q) ow2 σ2 _ _ en (by simp; omega) m2 (Or.inr ⟨q, rfl, Or.inl ⟨rfl, f2, k2, fun i hi => ?_⟩⟩))⟩)
      rw [hf2 i hi]; exact g2 i hi
    · refine br_n (by rw [ew]; decide) (br_n (by rw [ew]; decide) (br_p ew ?_))
      obtain ⟨n, hn, en, en'⟩ := vp_i red.2.2.2.2.2.2 (by decide)
      have rt := tp3.2.1
      rw [en'] at rt
      refine i_Ro hx1 (by decide) rfl ⟨_, rfl, ?_⟩
      obtain ⟨fs, h1, h2⟩ := c_twin (mc := 20) (ms := 1100) rt (by omega) (Nat.le_refl _) (Nat.le_refl _) (fun q ow2 σ2 m2 k2 => fin n (some q) ow2 σ2 ((0 + 1) + 20) ((0 + 1) + 1100) en (by simp; omega) m2 (Or.inr ⟨q, rfl, Or.inr (Or.inl ⟨rfl, k2⟩)⟩))
      exact ⟨fs, h1, 20, 1100, by omega, by omega, h2⟩
    · refine br_n (by rw [ew]; decide) (br_n (by rw [ew]; decide) (br_n (by rw [ew]; decide) (br_p ew ?_)))
      obtain ⟨n, hn, en, en'⟩ := vp_i red.2.2.2.2.1 (by decide)
      have rs := tp3.2.2.2.1
      rw [en'] at rs
      exact i_Ro hx1 (by decide) rfl (fin n (some (k 20)) ow1 σ1 _ _ en (by simp; omega) hmv.rf (Or.inr ⟨_, rfl, Or.inr (Or.inr ⟨rfl, rs⟩)⟩))
    · refine br_n (by rw [ew]; decide) (br_n (by rw [ew]; decide) (br_n (by rw [ew]; decide) (br_n (by rw [ew]; decide) ?_)))
      obtain ⟨n, hn, en, en'⟩ := vp_i hv.1.2.2.2.2.2.2.1 (by decide)
      have rr := tp1.2.2.2.2.2
      rw [en'] at rr
      exact i_Ro hx1 (by decide) rfl (fin n (some (k 11)) ow1 σ1 _ _ en (by simp; omega) hmv.rf (Or.inr ⟨_, rfl, Or.inl ⟨rfl, rr⟩⟩))
  refine ⟨_, hx.1, in_c 5 (by decide) rfl (fun z1 => ⟨tb1, br_n (by decide) (in_c 4 (by decide) rfl (fun z2 => br_n (by decide) (in_any (fun z3 => br_n (by decide) (i_Io hx (by decide) (v := s.1 21) rfl ⟨fun e => hQ _ _ h'.obj ?_, fun e => body z1 z2 (fun _ y => e (red.2.1 y))⟩)) (fun z3 => br_p rfl (body z1 z2 (fun y => absurd y z3))))) (fun z2 => br_p rfl (hQ _ _ h'.obj ?_)))⟩) (fun z1 => ⟨tb0, br_p rfl (hQ _ _ h'.obj ?_)⟩)⟩
  · simp only [opT]
    unfold wX3_shelve
    have e20 : s.1 20 = 0 := by
      rcases red.1 with y | y
      · exact y
      · exact absurd (by rw [e]; decide) (red.2.2.1 y)
    exact t_isShelf (fun _ => br_n (by decide) (in_c3 4 (by decide) rfl (fun _ => br_n (by decide) (in_any3 (fun _ => br_n (by decide) (br_p e20 ⟨rfl, h'⟩)) (fun y => absurd z3 y))) (fun y => absurd z2 y))) (fun y => absurd z1 y)
  · simp only [opT]
    unfold wX3_shelve
    exact t_isShelf (fun _ => br_n (by decide) (in_c3 4 (by decide) rfl (fun y => absurd y z2) (fun _ => br_p rfl ⟨rfl, h'⟩))) (fun y => absurd z1 y)
  · simp only [opT]
    unfold wX3_shelve
    exact t_isShelf (fun y => absurd y z1) (fun _ => br_p rfl ⟨rfl, h'⟩)
end OPJ
