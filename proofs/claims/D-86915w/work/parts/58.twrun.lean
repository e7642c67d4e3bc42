/-! PLAIN LAW, the twin: layTree -/
set_option maxRecDepth 100000
noncomputable def y_is (C : Cf) (g : Nat → Nat → Nat → Nat) : List Nat → Nat → Nat → Nat
  | [], _, _ => 0
  | y :: ys, l, q => y_is C g ys (z_sl C y ys l q) q + (if y < 100 then 1 else g (y - 100) l (z_sl C y ys l q))
noncomputable def y_it (C : Cf) : Nat → Nat → Nat → Nat → Nat
  | 0 => fun _ _ _ => 0
  | f + 1 => fun x l q => y_is C (y_it C f) (z_yl C (z_ru C x l q)) l q + 2
section RUN
variable {C : Cf} {Q : TS → Prop} {K : Int32 → TS → Prop} {to : Int32}
theorem tw_pop {n h : Nat} {s : TS} {a b c d : Int32} (hh : h < 700) (h46 : s.1 46 = nI (h + 1)) (e : tPe s h a b c d)
    (w : (a = 200 → (vp_in ((5 * d) + 3) 520 ∧ (vp_in ((5 * d) + 4) 520 ∧ wX3_layTree_35 Q K n to (tA (tI s 46 (nI h)) 27 ((5 * d) + 4).toNatClampNeg ((s.1 24) - (s.2.1 27 ((5 * d) + 3).toNatClampNeg)))))) ∧ (¬ a = 200 → ((a < 100 → (wX3_layToken (fun (s_14 : TS) => wX3_layTree_35 Q K n to s_14) a b c (tI s 46 (nI h)))) ∧ (¬ a < 100 → (wX3_layName (fun (s_15 : TS) => wX3_layTree_35 Q K n to s_15) (a - 100) b c d (tI s 46 (nI h))))))) : wX3_layTree_35 Q K (n + 1) to s := by
  obtain ⟨e1, e2, e3, e4⟩ := e
  simp only [wX3_layTree_35, wX3_layTree_161]
  rw [h46]
  refine br_n (nI_nle (by omega) (by omega)) ?_
  rw [nI_pred]
  refine al_eq ?_
  rw [tI_i, nI_clamp (by omega), tI_a, e1, e2, e3, e4]
  refine ⟨vp_nI hh (by decide), al_eq ⟨vp_nI hh (by decide), al_eq ⟨vp_nI hh (by decide), al_eq ⟨vp_nI hh (by decide), al_eq ?_⟩⟩⟩⟩
  refine ⟨fun z => ?_, w.2⟩
  obtain ⟨w1, w2, w3⟩ := w.1 z
  exact ⟨w1, w2, al_eq w3⟩
theorem tw_run (ok : z_ok C) : ∀ f x p q par st pr sz h n s, sz ≤ f → tV C s → p < nT C → q < nT C → z_Mb C (z_tk C) 16777216 x (kT C p) (kT C q) pr sz → pr * 4294967296 + sz < 1152921504606846976 → tSt s st → st.1.1 ≤ st.1.2.1 + kT C p / 5 → st.1.2.2 + sz ≤ 100 → st.1.2.1 + 3 * sz ≤ 300 → h + 4 * sz ≤ 696 → s.1 46 = nI (h + 1) → tPe s h (nI (100 + x)) (nI p) (nI q) par →
    (∀ s', tfr wF s s' → tV C s' → s'.1 46 = nI h → tLo h s s' → tSt s' (y_nm C f x (kT C p) (kT C q) par st) → wX3_layTree_35 Q K n to s') → wX3_layTree_35 Q K (n + y_it C f x (kT C p) (kT C q)) to s := by
  have o := ok.1
  intro f
  induction f with
  | zero =>
    intro x p q par st pr sz h n s h1 _ _ _ h2
    have := (z_D_nm ok h2.1).2
    omega
  | succ f ih =>
    intro x p q par st pr sz h n s hsz hV hp hq hM hfin hst hns hnn hnw hh h46 he w
    obtain ⟨r1, r2, z, rfl, hMs⟩ := z_ru_at ok hM
    have hx := (z_D_nm ok hM.1).1
    have seq : ∀ (ys : List Nat) p q node st pr z h n s, ys.length ≤ 3 → (∀ y ∈ ys, y < C.1 0 ∨ (100 ≤ y ∧ y < 100 + C.1 5)) → z ≤ f → tV C s → p < nT C → q < nT C → z_Ms C (z_tk C) 16777216 ys (kT C p) (kT C q) pr z → pr * 4294967296 + z < 1152921504606846976 → tSt s st → st.1.1 ≤ st.1.2.1 + kT C p / 5 → st.1.2.2 + z ≤ 100 → st.1.2.1 + ys.length + 3 * z ≤ 300 → h + ys.length + 4 * z ≤ 696 → s.1 46 = nI (h + ys.length) → tIt C s h node ys p q →
        (∀ s', tfr wF s s' → tV C s' → s'.1 46 = nI h → tLo h s s' → tSt s' (y_sq C (y_nm C f) node ys (kT C p) (kT C q) st) → wX3_layTree_35 Q K n to s') → wX3_layTree_35 Q K (n + y_is C (y_it C f) ys (kT C p) (kT C q)) to s := by
      intro ys
      induction ys with
      | nil =>
        intro p q node st pr z h n s _ _ _ hV _ _ _ _ hst _ _ _ _ h46 _ w
        exact w s tfr.rf hV h46 tLo.rf hst
      | cons y ys ihy =>
        intro p q node st pr z h n s hl hy hz hV hp hq hMs hfin hst hns hnn hnw hh h46 hit w
        obtain ⟨a, b, c, d, w1, w2, rfl, rfl⟩ := z_sl_at ok hl hMs
        obtain ⟨m, hm, em, e1, e2⟩ := hit
        rw [List.length_cons] at hl hnw hh h46
        rw [← em] at w1 w2
        have hfa : a * 4294967296 + b < 1152921504606846976 := Nat.lt_of_le_of_lt (Nat.add_le_add (Nat.mul_le_mul_right 4294967296 (Nat.le_add_right a c)) (Nat.le_add_right b d)) hfin
        have hfc : c * 4294967296 + d < 1152921504606846976 := Nat.lt_of_le_of_lt (Nat.add_le_add (Nat.mul_le_mul_right 4294967296 (Nat.le_add_left c a)) (Nat.le_add_left d b)) hfin
        have hy0 := hy y List.mem_cons_self
        simp only [y_is]
        rw [← em]
        have w' := w
        simp only [y_sq] at w'
        rw [← em] at w'
        by_cases e : y < 100
        · rw [if_pos e]
          rw [if_pos e] at w'
          obtain ⟨hR, rfl⟩ := z_My_R e w1 ok
          rw [← Nat.add_assoc]
          refine tw_pop (h := h + ys.length) (by omega) (by rw [h46]; rfl) e1 (br_n (fun z => ?_) (br_p (nI_lt e (by decide)) ?_))
          · have := nI_inj (b := 200) (by omega) (by decide) z
            omega
          · have m1 : tfr [46] s (tI s 46 (nI (h + ys.length))) := tfr.rf.I (by decide) _
            refine tw_layToken ok (hV.mv m1 (by decide)) (by omega) hp hm hR (hst.mv m1 (by decide)) hns (by omega) (fun s2 m2 h2 => ?_)
            have ct := y_tk_cnt ok hR st hns
            have m12 : tfr wF s s2 := (m1.sub (by decide)).tr (m2.sub (by decide))
            have l2 : ∀ g, tLo g s s2 := fun g => (tLo.of m1 (by decide)).tr (tLo.of m2 (by decide)) (Nat.le_refl g)
            refine ihy m q node _ c d h n s2 (by omega) (fun y' hy' => hy y' (List.mem_cons_of_mem _ hy')) (by omega) ((hV.mv m1 (by decide)).mv m2 (by decide)) hm hq w2 hfc h2 ct.1 (by rw [ct.2.2.1]; omega) (by rw [ct.2.1]; omega) (by omega) (by rw [m2.i 46, tI_i]) (e2.lo (l2 _)) (fun s3 m3 v3 p3 l3 h3 => w' s3 (m12.tr m3) v3 p3 ((l2 h).tr l3 (Nat.le_refl _)) h3)
        · rw [if_neg e]
          rw [if_neg e] at w'
          rw [← Nat.add_assoc]
          have w1' := ((z_My_nm w1).resolve_left (fun z => e z.1)).2
          have e1' : tPe s (h + ys.length) (nI (100 + (y - 100))) (nI p) (nI m) (nI node) := by rw [show 100 + (y - 100) = y by omega]; exact e1
          refine ih (y - 100) p m (nI node) st a b (h + ys.length) _ s (by omega) hV hp hm w1' hfa hst hns (by omega) (by omega) (by omega) (by rw [h46]; rfl) e1' (fun s2 m2 v2 p2 l2 h2 => ?_)
          have ct := y_nm_cnt ok f (y - 100) (kT C p) (kT C m) (nI node) st a b (by omega) w1' hns
          exact ihy m q node _ c d h n s2 (by omega) (fun y' hy' => hy y' (List.mem_cons_of_mem _ hy')) (by omega) v2 hm hq w2 hfc h2 ct.1 (by rw [ct.2.1]; omega) (by omega) (by omega) p2 (e2.lo l2) (fun s3 m3 v3 p3 l3 h3 => w' s3 (m2.tr m3) v3 p3 (tLo.tr (fun j hj => l2 j (by omega)) l3 (Nat.le_refl _)) h3)
    simp only [y_it]
    rw [show n + (y_is C (y_it C f) (z_yl C (z_ru C x (kT C p) (kT C q))) (kT C p) (kT C q) + 2) = ((n + 1) + y_is C (y_it C f) (z_yl C (z_ru C x (kT C p) (kT C q))) (kT C p) (kT C q)) + 1 by omega]
    refine tw_pop (h := h) (by omega) h46 he (br_n (fun z => ?_) (br_n (fun z => ?_) ?_))
    · have := nI_inj (b := 200) (by omega) (by decide) z
      omega
    · exact nI_nlt (b := 100) (by omega) (by omega) z
    rw [show nI (100 + x) - 100 = nI x by rw [Nat.add_comm]; exact nI_subk x 100]
    have m1 : tfr [46] s (tI s 46 (nI h)) := tfr.rf.I (by decide) _
    refine tw_layName ok (hV.mv m1 (by decide)) hp hq hM hfin (hst.mv m1 (by decide)) (by omega) (tI_i _ _ _) (by omega) (fun s2 m2 v2 p2 l2 e2 i2 h2 => ?_)
    have hl3 := (z_yl_ok ok r1).1
    have hyo : ∀ y ∈ z_yl C (z_ru C x (kT C p) (kT C q)), y < C.1 0 ∨ (100 ≤ y ∧ y < 100 + C.1 5) := by
      intro y hy
      obtain ⟨j, hj, rfl⟩ := List.mem_map.mp hy
      exact (ok.2.2.2.2.1 _ r1).2.2 j (List.mem_range.mp hj)
    refine seq (z_yl C (z_ru C x (kT C p) (kT C q))) p q st.1.2.2 (y_no x (z_ru C x (kT C p) (kT C q)) par st) pr z (h + 1) (n + 1) s2 hl3 hyo (by omega) v2 hp hq hMs (by omega) h2 hns (by show st.1.2.2 + 1 + z ≤ 100; omega) (by show st.1.2.1 + _ + 3 * z ≤ 300; omega) (by omega) p2 i2 (fun s3 m3 v3 p3 l3 h3 => ?_)
    have e3 := e2.lo l3 (by omega)
    refine tw_pop (h := h) (by omega) p3 e3 (br_p rfl ?_)
    have nb : st.1.2.2 < 100 := by omega
    simp only [k5, pk_mul]
    rw [show nI (5 * st.1.2.2) + 3 = nI (5 * st.1.2.2 + 3) from nI_add _ 3, show nI (5 * st.1.2.2) + 4 = nI (5 * st.1.2.2 + 4) from nI_add _ 4, nI_clamp (by omega), nI_clamp (by omega)]
    refine ⟨vp_nI (by omega) (by decide), vp_nI (by omega) (by decide), ?_⟩
    have m4 : tfr [46, 27] s3 (tA (tI s3 46 (nI h)) 27 (5 * st.1.2.2 + 4) (s3.1 24 - s3.2.1 27 (5 * st.1.2.2 + 3))) := (tfr.rf.I (by decide) _).A (by decide) _ _
    refine w _ (((m1.sub (by decide)).tr m2).tr (m3.tr (m4.sub (by decide)))) (v3.mv m4 (by decide)) (by rw [tA_i, tI_i]) ?_ ?_
    · exact (((tLo.of m1 (by decide)).tr l2 (Nat.le_refl h)).tr l3 (by omega)).tr (tLo.of (h := h) m4 (by decide)) (Nat.le_refl h)
    · obtain ⟨⟨g1, g2, g3⟩, g4, g5, g6⟩ := h3
      refine ⟨⟨by rw [m4.i 22]; exact g1, by rw [m4.i 24]; exact g2, by rw [m4.i 26]; exact g3⟩, by rw [m4.a 23]; exact g4, by rw [m4.a 25]; exact g5, ?_⟩
      rw [tA_a, tI_a, g6, g2]
      rfl
end RUN
theorem kT_0 {C : Cf} (ok : z_ok C) : 0 < nT C ∧ kT C 0 = 0 := by
  obtain ⟨p, hp, e⟩ := kT_main (C := C) (i := 0) (Nat.zero_le _)
  refine ⟨by omega, ?_⟩
  rcases Nat.eq_zero_or_pos p with z | z
  · rw [z] at e; exact e
  · have := (kT_kn ok).1 0 p z hp; omega
theorem tw_layTree {C : Cf} {Q : TS → Prop} {s : TS} (ok : z_ok C) (hV : tV C s) {q i pr sz : Nat} (hq : q < nT C) (eq : kT C q = 5 * i) (hi : i ≤ C.1 34) (hM : z_Mb C (z_tk C) 16777216 (C.1 6) 0 (5 * i) pr sz) (hfin : pr * 4294967296 + sz < 1152921504606846976) (hsz : sz ≤ 100) (hk : z_k C i (C.1 34) ≠ 1000000000)
    (w : ∀ s', tfr wF s s' → tV C s' → tSt s' (y_sk C (C.1 34) 12 i (y_nm C 100 (C.1 6) 0 (5 * i) (-4) ((0, 0, 0), s.2.1 23, s.2.1 25, s.2.1 27))) → Q s') : wX3_layTree Q (nI q) s := by
  have o := ok.1
  have n51 := nT_le ok
  obtain ⟨z0, k0⟩ := kT_0 ok
  have hx := (z_D_nm ok hM.1).1
  unfold wX3_layTree
  refine al_eq (al_eq (al_eq (al_eq ?_)))
  obtain ⟨s1, hs1⟩ : ∃ s1, s1 = tI (tI (tI (tI s 22 0) 24 0) 26 0) 46 0 := ⟨_, rfl⟩
  rw [← hs1]
  have m1 : tfr [22, 24, 26, 46] s s1 := by rw [hs1]; exact (((tfr.rf.I (by decide) _).I (by decide) _).I (by decide) _).I (by decide) _
  have V1 := hV.mv m1 (by decide)
  have st1 : tSt s1 ((0, 0, 0), s.2.1 23, s.2.1 25, s.2.1 27) := by
    refine ⟨⟨?_, ?_, ?_⟩, m1.a 23, m1.a 25, m1.a 27⟩
    · rw [hs1]; rfl
    · rw [hs1]; rfl
    · rw [hs1]; rfl
  rw [V1.1.1.i 6, show (100 : Int32) + nI (C.1 6) = nI (100 + C.1 6) from nI_add 100 _, ← nI_0]
  refine tw_push (h := 0) (by rw [hs1]; rfl) (by decide) (fun s2 m2 p2 e2 l2 => ?_)
  have V2 := V1.mv m2 (by decide)
  have run := tw_run (C := C) (Q := Q) (K := fun (x1_6 : Int32) (s_7 : TS) => vp_in x1_6 52 ∧ (wX3_laySkipping (fun (s_8 : TS) => Q s_8) (s_7.2.1 30 x1_6.toNatClampNeg) (s_7.1 34) s_7)) (to := nI q) ok 100 (C.1 6) 0 q (-4) ((0, 0, 0), s.2.1 23, s.2.1 25, s.2.1 27) pr sz 0 1 s2 hsz V2 z0 hq (by rw [k0, eq]; exact hM) hfin (st1.mv m2 (by decide)) (Nat.zero_le _) (by show 0 + sz ≤ 100; omega) (by show 0 + 3 * sz ≤ 300; omega) (by omega) p2 e2 (fun s3 m3 v3 p3 l3 h3 => ?_)
  · exact ⟨_, run⟩
  · simp only [wX3_layTree_35]
    rw [p3, nI_0]
    refine br_p (by decide) ⟨vp_nI (by omega) (by decide), ?_⟩
    rw [nI_clamp (by omega), (v3.1.2.1.at hq).2.1, eq, v3.1.1.i 34, show 5 * i / 5 = i by omega]
    rw [k0, eq] at h3
    have ct := y_nm_cnt ok 100 (C.1 6) 0 (5 * i) (-4) ((0, 0, 0), s.2.1 23, s.2.1 25, s.2.1 27) pr sz hsz hM (Nat.zero_le _)
    have ct4 : _ ≤ 0 + 3 * sz := ct.2.2.2
    refine tw_laySkipping ok v3 (Nat.le_refl _) i s3 _ _ v3 hi hk h3 (by have := ct.1; omega) (fun s4 m4 h4 => w s4 ?_ (v3.mv m4 (by decide)) h4)
    exact (((m1.sub (by decide)).tr (m2.sub (by decide))).tr m3).tr (m4.sub (by decide))
