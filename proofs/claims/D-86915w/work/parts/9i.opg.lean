/-! PLAIN LAW: calls 24, 25, 26 -/
set_option maxRecDepth 100000
section OPG
variable {T : List Nat} {ow ow' : Nat → Nat} {σ σ' : gH} {x0 CB SB : Nat} {s : TS} {a1 a2 a3 a4 a5 : Int32} {k : Nat → Nat} {wy : Option Nat} {ch : Int32} {g : Nat → Value}
/-- the shelves alone may be touched -/
theorem r_all.mvS (h : r_all ow σ s k wy) (v : v_all s) (m : hmv T ow σ ow' σ') (ht : ∀ t ∈ T, t = 1 ∨ (110 ≤ t ∧ t < 117) ∨ 9000 ≤ t) (hs : r_shelves ow' σ' (s.2.1 51) (s.2.1 52) (s.2.1 53) (k 23)) : r_all ow' σ' s k wy := by
  have h0 : ∀ n, ¬ (n = 1 ∨ (110 ≤ n ∧ n < 117) ∨ 9000 ≤ n) → n ∉ T := fun n h1 q => h1 (ht n q)
  obtain ⟨⟨a1, a2, ⟨ru, a3⟩, ⟨fo, a4⟩, ⟨fo2, a5⟩, a6⟩, ⟨⟨X1, b1⟩, ⟨X2, b2⟩, ⟨X3, b3⟩⟩, ⟨c1, c2, c3, c4, c5⟩, d⟩ := h
  exact ⟨⟨a1.mv m (h0 _ (by decide)), a2.mv m (fun w hw => h0 _ (by omega)), ⟨ru, a3.mv m v.1.2.2.2.1.le (h0 _ (by decide)) (h0 _ (by decide)) (fun t q => by have := ht t q; omega)⟩, ⟨fo, a4.mv m (h0 _ (by decide)) (h0 _ (by decide)) (h0 _ (by decide))⟩, ⟨fo2, a5.mv m (h0 _ (by decide)) (h0 _ (by decide)) (h0 _ (by decide))⟩, a6.mv m (h0 _ (by decide))⟩, ⟨⟨X1, b1.mv m (h0 _ (by decide)) (fun t q => by have := ht t q; omega)⟩, ⟨X2, b2.mv m (h0 _ (by decide)) (fun t q => by have := ht t q; omega)⟩, ⟨X3, b3.mv m (h0 _ (by decide)) (fun t q => by have := ht t q; omega)⟩⟩, ⟨c1.mv m (h0 _ (by decide)), c2.mv m (h0 _ (by decide)) (fun _ w hw => h0 _ (by omega)), c3.mv m (h0 _ (by decide)) (h0 _ (by decide)) (h0 _ (by decide)), c4.mv m (h0 _ (by decide)), c5.mv m (h0 _ (by decide))⟩, hs⟩
theorem i_sRo {a t j N t9 : Nat} {L : List Nat} {f : Nat → Option Nat} {i : Int32} {r : Option Nat} {P : gH → Prop} (h : hat ow σ a t9 (cQ t N f)) (hi : i = nI j) (hj : j < N) (hN : N < 2147483648) (hr : ∀ v, r = some v → ∃ (ci : Nat) (fs : List Value), ci ∈ L ∧ σ.2 v = some (cO ci fs)) (w : ∀ σ', hmv [t9] ow σ ow σ' → hat ow σ' a t9 (cQ t N (va_up f j r)) → P σ') : c_sR t L σ a i r P :=
  i_sR h.1 hi hj hN hr (w _ (hmv.rf.up h (by simp) rfl) h.set)
/-- a shelf, made if need be -/
theorem c_shelf {Q : Option Nat → gH → Prop} {SK SM SR : Nat → Int32} {mc ms a j : Nat} {x1 : Int32} (hx : hat ow σ x0 1 (cO 0 (oL g))) (eg : g 23 = .ref a) (hs : r_shelves ow σ SK SM SR a) (ej : x1 = nI j) (hj : j < 6) (hmc : 1 ≤ mc) (hms : 1 ≤ ms)
    (w : ∀ b th f' ow' σ', hmv [110] ow σ ow' σ' → hat ow' σ' a 110 (cQ 6 6 f') → (∀ j', j' < 6 → r_shelf ow' σ' SK SM SR j' (f' j')) → f' j = some b → hat ow' σ' b (111 + j) (cO 17 [va_rf th]) → r_thing ow' σ' th (SK j) (SM j).toNatClampNeg (fun i => SR (1600 * j + i)) → Q (some b) σ') : wX0_shelf Q mc ms x0 x1 σ := by
  obtain ⟨f, h1, h2⟩ := hs
  unfold wX0_shelf
  refine i_Ro hx (by decide) eg ⟨a, rfl, i_aR h1.1 ej hj (by decide) ⟨fun e => ?_, fun e => ?_⟩⟩
  · refine i_Ro hx (by decide) eg ⟨by omega, by omega, i_newF (ow := ow) (111 + j) (fun q ow1 σ1 hq m1 k1 => ?_)⟩
    have x1' := hx.mv m1 (by simp)
    refine ⟨a, rfl, i_sRo (h1.mv m1 (by simp)) ej hj (by decide) (fun v hv => ?_) (fun σ2 m2 h2' => ?_)⟩
    · cases hv; exact ⟨17, _, by decide, k1.1⟩
    have x2 := x1'.mv m2 (by decide)
    have k2 := k1.mv m2 (by rw [List.mem_singleton]; omega)
    unfold wX0_shelf_22
    refine i_Ro x2 (by decide) eg ⟨a, rfl, i_aR h2'.1 ej hj (by decide) ?_⟩
    rw [va_up_self]
    have M : hmv [110] ow σ ow1 σ2 := (m1.sub (by simp)).tr m2
    have sk0 : SK j = 0 := by
      rcases h2 j hj with ⟨-, z⟩ | ⟨a', th, z, -⟩
      · exact z
      · rw [e] at z; cases z
    refine w q none _ ow1 σ2 M h2' (fun j' hj' => ?_) (va_up_self _ _ _) k2 (Or.inl ⟨rfl, sk0⟩)
    by_cases e2 : j' = j
    · subst e2
      rw [va_up_self]
      exact Or.inr ⟨q, none, rfl, k2, Or.inl ⟨rfl, sk0⟩⟩
    · rw [va_up_ne _ _ e2]
      exact (h2 j' hj').mv M (by decide) (by rw [List.mem_singleton]; omega)
  · rcases h2 j hj with ⟨z, -⟩ | ⟨b, th, z, z1, z2⟩
    · exact absurd z e
    · unfold wX0_shelf_22
      refine i_Ro hx (by decide) eg ⟨a, rfl, i_aR h1.1 ej hj (by decide) ?_⟩
      rw [z]
      exact w b th f ow σ hmv.rf h1 h2 z z1 z2
/-- a thing is cast -/
theorem c_castT {th : Option Nat} {kd : Int32} {n : Nat} {gg : Nat → Int32} (h : r_thing ow σ th kd n gg) (t : Nat) (ht : t < 3) {uc us mc ms : Nat} {P Ph : Prop} (hu : uc + 3 ≤ mc) (hs : us + 1010 ≤ ms) (w0 : th = none → kd = 0 → P) (w1 : t = 0 → ∀ a, th = some a → kd = 1 → r_row ow σ a 0 n gg → P) (w2 : t = 1 → ∀ a, th = some a → kd = 2 → r_tree ow σ a 0 n n gg → P) (w3 : t = 2 → ∀ a, th = some a → kd = 3 → r_slips ow σ a n gg → P) (wx : ¬ kd = 0 → ¬ kd = nI (t + 1) → Ph) : c_castX σ t th uc us mc ms P Ph := by
  have t3 : t = 0 ∨ t = 1 ∨ t = 2 := by omega
  rcases h with ⟨h1, h2⟩ | ⟨a, h1, h⟩
  · exact ⟨fun _ => w0 h1 h2, fun a e => by rw [h1] at e; cases e⟩
  refine ⟨fun e => (by rw [h1] at e; cases e), fun a' e => ?_⟩
  rw [h1] at e
  cases e
  rcases h with ⟨k1, h⟩ | ⟨k1, h⟩ | ⟨k1, h⟩
  · refine ⟨0, Or.inl ⟨rfl, ?_⟩, fun e => w1 e.symm a h1 k1 h, fun e => ⟨hu, hs, wx (by rw [k1]; decide) ?_⟩⟩
    · obtain ⟨f, f1, -⟩ := h
      exact ⟨_, f, f1.1⟩
    · rw [k1]
      rcases t3 with rfl | rfl | rfl
      · exact absurd rfl e
      · decide
      · decide
  · refine ⟨1, Or.inr (Or.inl ⟨rfl, ?_⟩), fun e => w2 e.symm a h1 k1 h, fun e => ⟨hu, hs, wx (by rw [k1]; decide) ?_⟩⟩
    · obtain ⟨tc, f, f1, -⟩ := h
      exact ⟨_, f1.1⟩
    · rw [k1]
      rcases t3 with rfl | rfl | rfl
      · decide
      · exact absurd rfl e
      · decide
  · refine ⟨2, Or.inr (Or.inr ⟨rfl, ?_⟩), fun e => w3 e.symm a h1 k1 h, fun e => ⟨hu, hs, wx (by rw [k1]; decide) ?_⟩⟩
    · obtain ⟨tc, f, f1, -⟩ := h
      exact ⟨_, f1.1⟩
    · rw [k1]
      rcases t3 with rfl | rfl | rfl
      · decide
      · decide
      · exact absurd rfl e
theorem t_against {Q : Int32 → TS → Prop} {x1 kd : Int32} {j : Nat} (ej : x1 = nI j) (hj : j < 6) (w0 : s.2.1 51 j = 0 → Q (-11) s) (w1 : s.2.1 51 j = kd → ¬ s.2.1 51 j = 0 → Q 0 s) (w2 : ¬ s.2.1 51 j = 0 → ¬ s.2.1 51 j = kd → Q (-13) s) : wX3_against Q x1 kd s := by
  have vi : vp_in x1 6 := by rw [ej]; exact vp_nI hj (by decide)
  unfold wX3_against
  rw [show x1.toNatClampNeg = j by rw [ej, nI_clamp (by omega)]]
  exact ⟨vi, w0, fun z => ⟨vi, fun y => w1 y z, fun y => w2 z y⟩⟩
theorem c_nul_s {a : Nat} {uc us mc ms : Nat} {P : Nat → Prop} {Ph : Prop} (w : P a) : c_nul (some a) uc us mc ms P Ph := ⟨fun e => (by cases e), fun a' e => (by cases e; exact w)⟩
theorem c_nul_n {uc us mc ms : Nat} {P : Nat → Prop} {Ph : Prop} (h1 : uc + 1 ≤ mc) (h2 : us + 8 ≤ ms) (w : Ph) : c_nul none uc us mc ms P Ph := ⟨fun _ => ⟨h1, h2, w⟩, fun a' e => (by cases e)⟩
theorem t_isShelf {Q : Int32 → Prop} {x : Int32} (w1 : vp_in x 6 → Q 1) (w0 : ¬ vp_in x 6 → Q 0) : wX3_isShelf Q x := in_c3 5 (by decide) rfl (fun z => ⟨tb1, w1 z⟩) (fun z => ⟨tb0, w0 z⟩)
theorem op_24 (h : JJ x0 σ s) (hcb : 20 ≤ CB) (hsb : 2000 ≤ SB) : l_op 24 a1 a2 a3 a4 a5 (JJ x0) CB SB x0 σ s := by
  refine l_op_of fun Q hQ => ?_
  have h' := h
  obtain ⟨ow, k, ch, wy, hx0, ha, hv, hc, he⟩ := h
  have hx := hx0
  rw [← gF_oL] at hx
  show wX0_rowAt Q CB SB x0 a1 a2 σ
  unfold wX0_rowAt
  refine ⟨_, hx.1, in_c 5 (by decide) rfl (fun z1 => ⟨tb1, br_n (by decide) ⟨_, hx.1, CB, SB, by omega, by omega, ?_⟩⟩) (fun z1 => ⟨tb0, br_p rfl (hQ _ _ s (fun Q hq => ?_) h')⟩)⟩
  rotate_left
  · show wX3_rowAt Q a1 a2 s
    unfold wX3_rowAt
    exact t_isShelf (fun y => absurd y z1) (fun _ => br_p rfl hq)
  obtain ⟨j, hj, ej, ej'⟩ := vp_i z1 (by decide)
  unfold wX0_act
  refine ⟨_, hx.1, 1, 1, by omega, by omega, c_shelf hx rfl ha.2.2.2 ej hj (Nat.le_refl _) (Nat.le_refl _) (fun b th f' ow1 σ1 m1 s1 s2 s3 s4 s5 => ⟨b, rfl, i_Rr s4.1 (by decide) rfl (br_p rfl ?_)⟩)⟩
  have J1 : JJ x0 σ1 s := ⟨ow1, k, ch, wy, hx0.mv m1 (by decide), ha.mvS hv m1 (by decide) ⟨f', s1, s2⟩, hv, hc, he⟩
  have tw : ∀ v, (∀ Q : Int32 → TS → Prop, Q v s → wX3_against (fun (r_3 : Int32) (s_2 : TS) => (0 ≤ r_3 → (vp_in a1 6 ∧ (wX3_in (fun (r_4 : Int32) => (r_4 = 0 → (Q (-12) s_2)) ∧ (¬ r_4 = 0 → (vp_in ((1600 * a1) + a2) 9600 ∧ (Q (s_2.2.1 53 ((1600 * a1) + a2).toNatClampNeg) s_2)))) (a2.toInt64) 0 (((s_2.2.1 52 a1.toNatClampNeg) - 1).toInt64)))) ∧ (¬ 0 ≤ r_3 → (Q r_3 s_2))) a1 1 s) → Q v σ1 := fun v hh => hQ _ _ s (fun Q hq => (by simp only [opT]; unfold wX3_rowAt; exact t_isShelf (fun _ => br_n (by decide) (hh Q hq)) (fun y => absurd z1 y))) J1
  refine c_castT s5 0 (by decide) (by omega) (by omega) (fun e1 e2 => ?_) (fun _ a e1 e2 hr => ?_) (fun e => absurd e (by decide)) (fun e => absurd e (by decide)) (fun e1 e2 => ?_)
  · rw [e1]
    exact c_nul_n (by omega) (by omega) (tw _ (fun Q hq => t_against ej hj (fun _ => br_n (by decide) hq) (fun _ y => absurd e2 y) (fun y => absurd e2 y)))
  · rw [e1]
    obtain ⟨f, r1, r2⟩ := hr
    have vs := (hv.2.2 j hj).2.2.1 e2
    obtain ⟨m, hm, em, em'⟩ := vp_i vs.1 (by decide)
    rw [em'] at r1 r2
    have vi : vp_in a1 6 := z1
    refine c_nul_s ⟨_, f, r1.1, by omega, fun z => tw _ (fun Q hq => ?_), fun z => ⟨by omega, by omega, tw _ (fun Q hq => ?_)⟩⟩
    · obtain ⟨i, hi, ei, ei'⟩ := vp_i z (by omega)
      refine t_against ej hj (fun y => absurd (y.symm.trans e2) (by decide)) (fun _ _ => br_p (by decide) ⟨vi, ?_⟩) (fun _ y => absurd e2 y)
      rw [ej', em]
      refine in_vp3 (by omega) (fun _ => br_n (by decide) ?_) (fun y => absurd z y)
      rw [ei', r2 i hi] at hq
      rw [ej, ei, k1600, pk_mul, nI_add, nI_clamp (by omega)]
      exact ⟨vp_nI (by omega) (by decide), hq⟩
    · refine t_against ej hj (fun y => absurd (y.symm.trans e2) (by decide)) (fun _ _ => br_p (by decide) ⟨vi, ?_⟩) (fun _ y => absurd e2 y)
      rw [ej', em]
      exact in_vp3 (by omega) (fun y => absurd y z) (fun _ => br_p rfl hq)
  · exact tw _ (fun Q hq => t_against ej hj (fun y => absurd y e1) (fun y => absurd y e2) (fun _ _ => br_n (by decide) hq))
theorem op_25 (h : JJ x0 σ s) (hcb : 20 ≤ CB) (hsb : 2000 ≤ SB) : l_op 25 a1 a2 a3 a4 a5 (JJ x0) CB SB x0 σ s := by
  refine l_op_of fun Q hQ => ?_
  have h' := h
  obtain ⟨ow, k, ch, wy, hx0, ha, hv, hc, he⟩ := h
  have hx := hx0
  rw [← gF_oL] at hx
  show wX0_treeAt Q CB SB x0 a1 a2 a3 σ
  unfold wX0_treeAt
  refine ⟨_, hx.1, in_c 5 (by decide) rfl (fun z1 => ⟨tb1, br_n (by decide) (in_c 4 (by decide) rfl (fun z2 => br_n (by decide) ⟨_, hx.1, CB, SB, by omega, by omega, ?_⟩) (fun z2 => br_p rfl (hQ _ _ s (fun Q hq => ?_) h')))⟩) (fun z1 => ⟨tb0, br_p rfl (hQ _ _ s (fun Q hq => ?_) h')⟩)⟩
  rotate_left
  · show wX3_treeAt Q a1 a2 a3 s
    unfold wX3_treeAt
    exact t_isShelf (fun _ => br_n (by decide) (in_c3 4 (by decide) rfl (fun y => absurd y z2) (fun _ => br_p rfl hq))) (fun y => absurd z1 y)
  · show wX3_treeAt Q a1 a2 a3 s
    unfold wX3_treeAt
    exact t_isShelf (fun y => absurd y z1) (fun _ => br_p rfl hq)
  obtain ⟨j, hj, ej, ej'⟩ := vp_i z1 (by decide)
  obtain ⟨w, hw, ew, ew'⟩ := vp_i z2 (by decide)
  unfold wX0_act
  refine ⟨_, hx.1, 1, 1, by omega, by omega, c_shelf hx rfl ha.2.2.2 ej hj (Nat.le_refl _) (Nat.le_refl _) (fun b th f' ow1 σ1 m1 s1 s2 s3 s4 s5 => ⟨b, rfl, i_Rr s4.1 (by decide) rfl (br_n (by decide) (br_p rfl ?_))⟩)⟩
  have J1 : JJ x0 σ1 s := ⟨ow1, k, ch, wy, hx0.mv m1 (by decide), ha.mvS hv m1 (by decide) ⟨f', s1, s2⟩, hv, hc, he⟩
  have tw : ∀ v, (∀ Q : Int32 → TS → Prop, Q v s → wX3_against (fun (r_4 : Int32) (s_3 : TS) => (0 ≤ r_4 → (vp_in a1 6 ∧ (wX3_in (fun (r_5 : Int32) => (r_5 = 0 → (Q (-12) s_3)) ∧ (¬ r_5 = 0 → (vp_in (((1600 * a1) + (5 * a2)) + a3) 9600 ∧ (Q (s_3.2.1 53 (((1600 * a1) + (5 * a2)) + a3).toNatClampNeg) s_3)))) (a2.toInt64) 0 (((s_3.2.1 52 a1.toNatClampNeg) - 1).toInt64)))) ∧ (¬ 0 ≤ r_4 → (Q r_4 s_3))) a1 2 s) → Q v σ1 := fun v hh => hQ _ _ s (fun Q hq => (by simp only [opT]; unfold wX3_treeAt; exact t_isShelf (fun _ => br_n (by decide) (in_c3 4 (by decide) rfl (fun _ => br_n (by decide) (hh Q hq)) (fun y => absurd z2 y))) (fun y => absurd z1 y))) J1
  refine c_castT s5 1 (by decide) (by omega) (by omega) (fun e1 e2 => ?_) (fun e => absurd e (by decide)) (fun _ a e1 e2 hr => ?_) (fun e => absurd e (by decide)) (fun e1 e2 => ?_)
  · rw [e1]
    exact c_nul_n (by omega) (by omega) (tw _ (fun Q hq => t_against ej hj (fun _ => br_n (by decide) hq) (fun _ y => absurd e2 y) (fun y => absurd e2 y)))
  · rw [e1]
    obtain ⟨tc, f, r0, r1, r2⟩ := hr
    have vs := (hv.2.2 j hj).2.2.2.1 e2
    obtain ⟨m, hm, em, em'⟩ := vp_i vs (by decide)
    rw [em'] at r0 r2
    obtain ⟨bw, hh, r3, r4, r5⟩ := r2 w hw
    have vi : vp_in a1 6 := z1
    refine c_nul_s (i_R r0.1 (by decide) rfl ⟨tc, rfl, i_aR r1.1 ew hw (by decide) ⟨bw, r3, _, hh, r4.1, by omega, fun z => tw _ (fun Q hq => ?_), fun z => ⟨by omega, by omega, tw _ (fun Q hq => ?_)⟩⟩⟩)
    · obtain ⟨i, hi, ei, ei'⟩ := vp_i z (by omega)
      refine t_against ej hj (fun y => absurd (y.symm.trans e2) (by decide)) (fun _ _ => br_p (by decide) ⟨vi, ?_⟩) (fun _ y => absurd e2 y)
      rw [ej', em]
      refine in_vp3 (by omega) (fun _ => br_n (by decide) ?_) (fun y => absurd z y)
      rw [ei', r5 i hi] at hq
      rw [ej, ei, ew, k1600, k5, pk_mul, pk_mul, nI_add, nI_add, nI_clamp (by omega), Nat.add_assoc]
      exact ⟨vp_nI (by omega) (by decide), hq⟩
    · refine t_against ej hj (fun y => absurd (y.symm.trans e2) (by decide)) (fun _ _ => br_p (by decide) ⟨vi, ?_⟩) (fun _ y => absurd e2 y)
      rw [ej', em]
      exact in_vp3 (by omega) (fun y => absurd y z) (fun _ => br_p rfl hq)
  · exact tw _ (fun Q hq => t_against ej hj (fun y => absurd y e1) (fun y => absurd y e2) (fun _ _ => br_n (by decide) hq))
theorem op_26 (h : JJ x0 σ s) (hcb : 20 ≤ CB) (hsb : 2000 ≤ SB) : l_op 26 a1 a2 a3 a4 a5 (JJ x0) CB SB x0 σ s := by
  refine l_op_of fun Q hQ => ?_
  have h' := h
  obtain ⟨ow, k, ch, wy, hx0, ha, hv, hc, he⟩ := h
  have hx := hx0
  rw [← gF_oL] at hx
  show wX0_slipAt Q CB SB x0 a1 a2 a3 σ
  unfold wX0_slipAt
  refine ⟨_, hx.1, in_c 5 (by decide) rfl (fun z1 => ⟨tb1, br_n (by decide) (in_c 3 (by decide) rfl (fun z2 => br_n (by decide) ⟨_, hx.1, CB, SB, by omega, by omega, ?_⟩) (fun z2 => br_p rfl (hQ _ _ s (fun Q hq => ?_) h')))⟩) (fun z1 => ⟨tb0, br_p rfl (hQ _ _ s (fun Q hq => ?_) h')⟩)⟩
  rotate_left
  · show wX3_slipAt Q a1 a2 a3 s
    unfold wX3_slipAt
    exact t_isShelf (fun _ => br_n (by decide) (in_c3 3 (by decide) rfl (fun y => absurd y z2) (fun _ => br_p rfl hq))) (fun y => absurd z1 y)
  · show wX3_slipAt Q a1 a2 a3 s
    unfold wX3_slipAt
    exact t_isShelf (fun y => absurd y z1) (fun _ => br_p rfl hq)
  obtain ⟨j, hj, ej, ej'⟩ := vp_i z1 (by decide)
  obtain ⟨w, hw, ew, ew'⟩ := vp_i z2 (by decide)
  unfold wX0_act
  refine ⟨_, hx.1, 1, 1, by omega, by omega, c_shelf hx rfl ha.2.2.2 ej hj (Nat.le_refl _) (Nat.le_refl _) (fun b th f' ow1 σ1 m1 s1 s2 s3 s4 s5 => ⟨b, rfl, i_Rr s4.1 (by decide) rfl (br_n (by decide) (br_n (by decide) (br_p rfl ?_)))⟩)⟩
  have J1 : JJ x0 σ1 s := ⟨ow1, k, ch, wy, hx0.mv m1 (by decide), ha.mvS hv m1 (by decide) ⟨f', s1, s2⟩, hv, hc, he⟩
  have tw : ∀ v, (∀ Q : Int32 → TS → Prop, Q v s → wX3_against (fun (r_4 : Int32) (s_3 : TS) => (0 ≤ r_4 → (vp_in a1 6 ∧ (wX3_in (fun (r_5 : Int32) => (r_5 = 0 → (Q (-12) s_3)) ∧ (¬ r_5 = 0 → (vp_in (((1600 * a1) + (4 * a2)) + a3) 9600 ∧ (Q (s_3.2.1 53 (((1600 * a1) + (4 * a2)) + a3).toNatClampNeg) s_3)))) (a2.toInt64) 0 (((s_3.2.1 52 a1.toNatClampNeg) - 1).toInt64)))) ∧ (¬ 0 ≤ r_4 → (Q r_4 s_3))) a1 3 s) → Q v σ1 := fun v hh => hQ _ _ s (fun Q hq => (by simp only [opT]; unfold wX3_slipAt; exact t_isShelf (fun _ => br_n (by decide) (in_c3 3 (by decide) rfl (fun _ => br_n (by decide) (hh Q hq)) (fun y => absurd z2 y))) (fun y => absurd z1 y))) J1
  refine c_castT s5 2 (by decide) (by omega) (by omega) (fun e1 e2 => ?_) (fun e => absurd e (by decide)) (fun e => absurd e (by decide)) (fun _ a e1 e2 hr => ?_) (fun e1 e2 => ?_)
  · rw [e1]
    exact c_nul_n (by omega) (by omega) (tw _ (fun Q hq => t_against ej hj (fun _ => br_n (by decide) hq) (fun _ y => absurd e2 y) (fun y => absurd e2 y)))
  · rw [e1]
    obtain ⟨tc, f, r0, r1, r2⟩ := hr
    have vs := (hv.2.2 j hj).2.2.2.2 e2
    obtain ⟨m, hm, em, em'⟩ := vp_i vs (by decide)
    rw [em'] at r2
    obtain ⟨bw, hh, r3, r4, r5⟩ := r2 w hw
    have vi : vp_in a1 6 := z1
    refine c_nul_s (i_R r0.1 (by decide) rfl ⟨tc, rfl, i_aR r1.1 ew hw (by decide) ⟨bw, r3, _, hh, r4.1, by omega, fun z => tw _ (fun Q hq => ?_), fun z => ⟨by omega, by omega, tw _ (fun Q hq => ?_)⟩⟩⟩)
    · obtain ⟨i, hi, ei, ei'⟩ := vp_i z (by omega)
      refine t_against ej hj (fun y => absurd (y.symm.trans e2) (by decide)) (fun _ _ => br_p (by decide) ⟨vi, ?_⟩) (fun _ y => absurd e2 y)
      rw [ej', em]
      refine in_vp3 (by omega) (fun _ => br_n (by decide) ?_) (fun y => absurd z y)
      rw [ei', r5 i hi] at hq
      rw [ej, ei, ew, k1600, k4, pk_mul, pk_mul, nI_add, nI_add, nI_clamp (by omega), Nat.add_assoc]
      exact ⟨vp_nI (by omega) (by decide), hq⟩
    · refine t_against ej hj (fun y => absurd (y.symm.trans e2) (by decide)) (fun _ _ => br_p (by decide) ⟨vi, ?_⟩) (fun _ y => absurd e2 y)
      rw [ej', em]
      exact in_vp3 (by omega) (fun y => absurd y z) (fun _ => br_p rfl hq)
  · exact tw _ (fun Q hq => t_against ej hj (fun y => absurd y e1) (fun y => absurd y e2) (fun _ _ => br_n (by decide) hq))
end OPG
