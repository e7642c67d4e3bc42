/-! PLAIN LAW, the twin: its walk -/
set_option maxRecDepth 100000
def tV (C : Cf) (s : TS) : Prop := tH C s ∧ tFull C s
theorem tFull.mv {C : Cf} {s s' : TS} {L : List Nat} (h : tFull C s) (m : tfr L s s') (h1 : 44 ∉ L) (h2 : 45 ∉ L) : tFull C s' := by
  have t : tt s' = tt s := by funext x p q; unfold tt; rw [m.l 44 h1]
  have c : tc C s' = tc C s := by unfold tc; rw [t]
  obtain ⟨v, d⟩ := h
  refine ⟨fun x p q a b e => by rw [t, m.l 44 h1]; exact v x p q a b e, fun p q a b => ?_⟩
  have := d p q a b
  unfold tDone tF1 at *
  rw [t, c, m.l 45 h2]
  exact this
theorem tV.mv {C : Cf} {s s' : TS} {L : List Nat} (h : tV C s) (m : tfr L s s') (hL : ∀ k ∈ [0, 3, 4, 5, 6, 7, 13, 18, 19, 33, 34, 36, 37, 35, 1, 2, 8, 9, 10, 11, 12, 15, 28, 29, 30, 31, 32, 38, 39, 40, 41, 42, 43, 44, 45], k ∉ L) : tV C s' := by
  refine ⟨h.1.mv m (fun k hk => hL k ?_), h.2.mv m (hL _ (by decide)) (hL _ (by decide))⟩
  simp only [List.mem_cons, List.not_mem_nil, or_false] at hk ⊢; omega
/-- what was walked, in the twin's state -/
def tSt (s : TS) (st : St) : Prop := (s.1 22 = nI st.1.1 ∧ s.1 24 = nI st.1.2.1 ∧ s.1 26 = nI st.1.2.2) ∧ s.2.1 23 = st.2.1 ∧ s.2.1 25 = st.2.2.1 ∧ s.2.1 27 = st.2.2.2
theorem tSt.mv {s s' : TS} {st : St} {L : List Nat} (h : tSt s st) (m : tfr L s s') (hL : ∀ k ∈ [22, 23, 24, 25, 26, 27], k ∉ L) : tSt s' st := by
  unfold tSt at *
  rw [m.i 22 (hL _ (by decide)), m.i 24 (hL _ (by decide)), m.i 26 (hL _ (by decide)), m.a 23 (hL _ (by decide)), m.a 25 (hL _ (by decide)), m.a 27 (hL _ (by decide))]
  exact h
theorem nI_sub {a b : Nat} (h : b ≤ a) : nI a - nI b = nI (a - b) := by rw [← nI_subk (a - b) b, show a - b + b = a by omega]
theorem tI_a (s : TS) (k : Nat) (v : Int32) : (tI s k v).2.1 = s.2.1 := rfl
theorem tI_l (s : TS) (k : Nat) (v : Int32) : (tI s k v).2.2 = s.2.2 := rfl
theorem tA_i (s : TS) (k i : Nat) (v : Int32) : (tA s k i v).1 = s.1 := rfl
theorem tA_l (s : TS) (k i : Nat) (v : Int32) : (tA s k i v).2.2 = s.2.2 := rfl
section TWW
variable {C : Cf} {Q : TS → Prop} {s : TS} {st : St}
theorem tw_slip {k i w pr : Nat} (h : tSt s st) (hn : st.1.1 < 400) (q : ∀ s', tfr [22, 23] s s' → tSt s' (y_sl k i w pr st) → Q s') : wX3_slip Q (nI k) (nI i) (nI w) (nI pr) s := by
  obtain ⟨⟨h1, h2, h3⟩, h4, h5, h6⟩ := h
  unfold wX3_slip
  have e1 : ∀ (a : Nat) (v : Int32) (s' : TS), (tA s' 23 a v).1 22 = s'.1 22 := fun _ _ _ => rfl
  simp only [forall_eq, e1, h1, k4, pk_mul]
  rw [show nI (4 * st.1.1) + 1 = nI (4 * st.1.1 + 1) from nI_1 _, show nI (4 * st.1.1) + 2 = nI (4 * st.1.1 + 2) from nI_add _ 2, show nI (4 * st.1.1) + 3 = nI (4 * st.1.1 + 3) from nI_add _ 3, nI_1, nI_clamp (by omega), nI_clamp (by omega), nI_clamp (by omega), nI_clamp (by omega)]
  refine ⟨vp_nI (by omega) (by decide), vp_nI (by omega) (by decide), vp_nI (by omega) (by decide), vp_nI (by omega) (by decide), q _ (((((tfr.rf.A (by decide) _ _).A (by decide) _ _).A (by decide) _ _).A (by decide) _ _).I (by decide) _) ⟨⟨tI_i _ _ _, h2, h3⟩, ?_, h5, h6⟩⟩
  rw [tI_a, tA_a, tA_a, tA_a, tA_a, h4]
  rfl
theorem tw_laySkipping (ok : z_ok C) (hV : tV C s) {j : Nat} (hj : j ≤ C.1 34) : ∀ i (s : TS) (st : St) (Q : TS → Prop), tV C s → i ≤ j → z_k C i j ≠ 1000000000 → tSt s st → st.1.1 + j ≤ 399 + i → (∀ s', tfr [22, 23] s s' → tSt s' (y_sk C j 12 i st) → Q s') → wX3_laySkipping Q (nI i) (nI j) s := by
  intro i s st Q hV hij hk h hn q
  have o := ok.1
  unfold wX3_laySkipping
  have key : ∀ n i (s1 : TS) (st : St), j - i < n → tV C s1 → i ≤ j → z_k C i j ≠ 1000000000 → tSt s1 st → st.1.1 + j ≤ 399 + i → (∀ s', tfr [22, 23] s1 s' → tSt s' (y_sk C j 12 i st) → Q s') → wX3_laySkipping_2 Q (fun s_1 => Q s_1) n (nI j) (nI i) s1 := by
    intro n
    induction n with
    | zero => intro i s1 st h1; omega
    | succ n ih =>
      intro i s1 st h1 hV hij hk h hn q
      simp only [wX3_laySkipping_2]
      by_cases e : j ≤ i
      · have : i = j := by omega
        subst this
        refine br_p (nI_le (Nat.le_refl _) (by omega)) (q s1 tfr.rf ?_)
        rw [y_sk_end]; exact h
      · refine br_n (nI_ge (by omega) (by omega)) ?_
        obtain ⟨b1, b2, b3, b4, b5⟩ := z_bm_at ok (by omega : i < j) hj hk
        simp only [k12, pk_mul, nI_add]
        refine ⟨vp_nI (by omega) (by decide), al_eq ?_⟩
        rw [nI_clamp (by omega), (hV.1.2.2.1 i j hij hj).2 (by omega) hk]
        have one := y_sk_one ok (by omega : i < j) hj hk st
        have slip : ∀ k w, k = (if z_bm C i j = 1 then 6 else 7) → w = (if z_bm C i j = 1 then 0 else z_bm C i j) → wX3_laySkipping_77 Q (wX3_laySkipping_2 Q (fun s_1 => Q s_1) n) (fun s_1 => Q s_1) (nI k) (nI i) (nI w) (nI (z_sp C i (z_bm C i j))) (nI j) (nI i) (nI (z_bm C i j)) s1 := by
          intro k w hk' hw'
          unfold wX3_laySkipping_77
          refine tw_slip h (by omega) (fun s2 m2 h2 => ?_)
          rw [nI_add]
          refine al_eq (ih (i + z_bm C i j) s2 _ (by omega) (hV.mv m2 (by decide)) b2 b4 h2 (by show st.1.1 + 1 + j ≤ _; omega) (fun s3 m3 h3 => q s3 (m2.tr m3) ?_))
          rw [one, ← hk', ← hw']
          exact h3
        have sp : z_sp C i (z_bm C i j) = (if z_bm C i j = 1 then C.2 2 (12 + C.2 15 i) else C.1 4 + z_bm C i j) := by
          unfold z_sp at b5 ⊢
          by_cases e2 : z_may C (if z_bm C i j = 1 then 6 else 7) i (z_bm C i j) (if z_bm C i j = 1 then 0 else z_bm C i j) = true
          · rw [if_pos e2]
          · rw [if_neg e2] at b5; omega
        have price : ∀ k w, k = (if z_bm C i j = 1 then 6 else 7) → w = (if z_bm C i j = 1 then 0 else z_bm C i j) → wX3_laySkipping_47 Q (wX3_laySkipping_2 Q (fun s_1 => Q s_1) n) (fun s_1 => Q s_1) (nI k) (nI i) (nI w) (nI j) (nI i) (nI (z_bm C i j)) s1 := by
          intro k w hk' hw'
          unfold wX3_laySkipping_47
          have bt := ok.2.2.2.1 i (by omega)
          have sl := slip k w hk' hw'
          refine pk_eq (z_bm C i j) 1 (fun e2 => ⟨vp_nI (by omega) (by decide), ?_⟩) (fun e2 => ?_) rfl rfl (by omega) (by decide)
          · rw [nI_clamp (by omega), hV.1.1.tx (by omega)]
            simp only [k12, nI_add]
            refine ⟨vp_nI (by omega) (by decide), ?_⟩
            have := hV.1.1.pr (w := 1) (t := C.2 15 i) (by decide) bt
            rw [show 12 * 1 + C.2 15 i = 12 + C.2 15 i by omega] at this
            rw [nI_clamp (by omega), this]
            rw [sp, if_pos e2] at sl
            exact sl
          · rw [hV.1.1.i 4, nI_add]
            rw [sp, if_neg e2] at sl
            exact sl
        unfold wX3_laySkipping_34
        refine pk_eq (z_bm C i j) 1 (fun e2 => ?_) (fun e2 => ?_) rfl rfl (by omega) (by decide)
        · refine br_p (by rw [e2]; rfl) ?_
          have := price 6 0 (by rw [if_pos e2]) (by rw [if_pos e2])
          rw [nI_0] at this
          exact this
        · refine br_n (fun z => e2 ((nI_eq (b := 1) (by omega) (by decide)).mp z)) ?_
          exact price 7 (z_bm C i j) (by rw [if_neg e2]) (by rw [if_neg e2])
  exact ⟨j - i + 1, key _ i s st (by omega) hV hij hk h hn q⟩
theorem tw_layToken (ok : z_ok C) (hV : tV C s) {t p q : Nat} (ht : t < C.1 0) (hp : p < nT C) (hq : q < nT C) (hR : z_R C t (kT C p) (kT C q) ≠ 1000000000) (h : tSt s st) (hn : st.1.1 ≤ st.1.2.1 + kT C p / 5) (hw : st.1.2.1 < 300) (w : ∀ s', tfr [22, 23, 24, 25] s s' → tSt s' (y_tk C t (kT C p) (kT C q) st) → Q s') : wX3_layToken Q (nI t) (nI p) (nI q) s := by
  have o := ok.1
  have n51 := nT_le ok
  obtain ⟨r1, r2⟩ := hV.1.2.2.2 t p q ht hp hq
  obtain ⟨f, hf, f1, f2, f3, f4, i, pr, f5, f6, f7⟩ := r2 hR
  have b := z_st_pl ok f5
  have pb := kT_bd ok hp
  have qb := kT_bd ok hq
  have ub := z_up_bd ok (p := kT C p) (fl := kT C f) (kT_bd ok hf)
  have srt0 : z_srt (kT C p) = 0 ↔ kT C p % 5 = 0 := by
    unfold z_srt
    by_cases e : kT C p % 5 = 0
    · rw [if_pos e]; simp [e]
    · rw [if_neg e]
      by_cases e2 : kT C p % 5 = 1
      · rw [if_pos e2]; simp [e]
      · rw [if_neg e2]; simp [e]
  have srt3 : z_srt (kT C p) < 3 := by
    unfold z_srt
    by_cases e : kT C p % 5 = 0
    · rw [if_pos e]; decide
    · rw [if_neg e]
      by_cases e2 : kT C p % 5 = 1
      · rw [if_pos e2]; decide
      · rw [if_neg e2]; decide
  -- the word
  have word : ∀ s1 (st1 : St), tfr [22, 23] s s1 → tSt s1 st1 → st1.1.2.1 = st.1.2.1 → y_wd t st1 = y_tk C t (kT C p) (kT C q) st → wX3_layToken_149 Q (nI t) s1 := by
    intro s1 st1 m1 h1 e1 e2
    obtain ⟨⟨g1, g2, g3⟩, g4, g5, g6⟩ := h1
    unfold wX3_layToken_149
    simp only [forall_eq]
    rw [show (tA s1 25 (s1.1 24).toNatClampNeg (nI t)).1 24 = s1.1 24 from rfl, g2, nI_clamp (by omega), nI_1]
    refine ⟨vp_nI (by omega) (by decide), w _ (((m1.sub (by decide)).A (by decide) _ _).I (by decide) _) ?_⟩
    rw [← e2]
    refine ⟨⟨g1, tI_i _ _ _, g3⟩, g4, ?_, g6⟩
    rw [tI_a, tA_a, g5]
    rfl
  -- the slip
  have slip : ∀ s1 (st1 : St), tfr [22, 23] s s1 → tSt s1 st1 → st1.1.2 = st.1.2 → st1.1.1 < 400 → st1 = (if kT C p = z_b1 C t (kT C p) (kT C q) then st else y_sk C (z_b1 C t (kT C p) (kT C q) / 5) 12 (kT C p / 5) st) → wX3_layToken_49 Q (nI t) (nI p) (nI (2704 * t + 52 * p + q)) (nI f) s1 := by
    intro s1 st1 m1 h1 e1 e2 e3
    have V1 := hV.mv m1 (by decide)
    unfold wX3_layToken_49
    rw [nI_clamp (by omega), nI_clamp (by omega), nI_clamp (by omega), m1.a 42, m1.a 40, f3, r1, (V1.1.2.1.at hf).2.1, (V1.1.2.1.at hp).1, (V1.1.2.1.at hp).2.1]
    refine ⟨vp_nI (by omega) (by decide), al_eq ⟨vp_nI (by omega) (by decide), al_eq ⟨vp_nI (by omega) (by decide), vp_nI (by omega) (by decide), ?_⟩⟩⟩
    have fin : ∀ u, u = z_up C (kT C p) (kT C f) → wX3_layToken_104 Q (nI (z_R C t (kT C p) (kT C q))) (nI u) (nI t) (nI (2704 * t + 52 * p + q)) (nI (z_b2 C t (kT C p) (kT C q))) (nI (kT C f / 5)) s1 := by
      intro u hu
      unfold wX3_layToken_104
      rw [nI_sub (by omega)]
      refine al_eq ?_
      have e144 : ∀ x, (x = if z_b2 C t (kT C p) (kT C q) < 3 then t else if z_b2 C t (kT C p) (kT C q) = 3 then 0 else z_b3 C t (kT C p) (kT C q)) → ¬ z_b2 C t (kT C p) (kT C q) = 0 → wX3_layToken_144 Q (nI (z_b2 C t (kT C p) (kT C q))) (nI (kT C f / 5)) (nI x) (nI t) (nI (z_R C t (kT C p) (kT C q) - u)) s1 := by
        intro x hx h0
        unfold wX3_layToken_144
        refine tw_slip h1 e2 (fun s2 m2 h2 => word s2 _ (m1.tr m2) h2 (by show st1.1.2.1 = _; rw [e1]) ?_)
        unfold y_tk
        rw [if_neg h0, ← e3, ← f2, ← hx, hu]
      have hb2 : z_b2 C t (kT C p) (kT C q) ≤ 5 := by omega
      refine pk_le (z_b2 C t (kT C p) (kT C q)) 0 (fun e0 => ?_) (fun e0 => ?_) rfl nI_0.symm (by omega) (by decide)
      · refine word s1 st1 m1 h1 (by rw [e1]) ?_
        unfold y_tk
        rw [if_pos (by omega), ← e3]
      · simp only [k3]
        refine pk_le 3 (z_b2 C t (kT C p) (kT C q)) (fun e4 => ?_) (fun e4 => ?_) rfl rfl (by decide) (by omega)
        · refine pk_eq (z_b2 C t (kT C p) (kT C q)) 3 (fun e5 => ?_) (fun e5 => ⟨vp_nI (by omega) (by decide), ?_⟩) rfl rfl (by omega) (by decide)
          · have := e144 0 (by rw [if_neg (by omega), if_pos e5]) (by omega)
            rw [nI_0] at this
            exact this
          · rw [nI_clamp (by omega), m1.a 43, f4]
            exact e144 _ (by rw [if_neg (by omega), if_neg e5]) (by omega)
        · exact e144 t (by rw [if_pos e4]) (by omega)
    refine pk_eq (z_srt (kT C p)) 0 (fun e4 => ⟨vp_nI (by omega) (by decide), ?_⟩) (fun e4 => ?_) rfl nI_0.symm (by omega) (by decide)
    · have mp := srt0.mp e4
      have hu := z_up_main f6
      have ff : kT C p / 5 ≤ kT C f / 5 := by omega
      have fb := kT_bd ok hf
      simp only [k12, pk_mul, nI_add]
      refine ⟨vp_nI (by omega) (by decide), ?_⟩
      rw [nI_clamp (by omega), V1.1.2.2.1.at ff (by omega)]
      refine fin _ ?_
      unfold z_up
      by_cases e5 : kT C p = kT C f
      · rw [if_pos e5, e5, z_k_self]
      · rw [if_neg e5, if_pos (by omega)]
    · have : kT C p = kT C f := by
        have hu := z_up_main f6
        have : ¬ kT C p % 5 = 0 := fun z => e4 (srt0.mpr z)
        omega
      have := fin 0 (by unfold z_up; rw [if_pos this])
      rw [nI_0] at this
      exact this
  unfold wX3_layToken
  simp only [k2704, k52, pk_mul, nI_add]
  refine al_eq ⟨vp_nI (by omega) (by decide), al_eq ⟨vp_nI (by omega) (by decide), ?_⟩⟩
  rw [nI_clamp (n := 2704 * t + 52 * p + q) (by omega), f1, nI_clamp (by omega), nI_clamp (by omega), (hV.1.2.1.at hp).1, (hV.1.2.1.at hp).2.1, (hV.1.2.1.at hf).2.1]
  refine pk_eq (z_srt (kT C p)) 0 (fun e4 => ⟨vp_nI (by omega) (by decide), vp_nI (by omega) (by decide), ?_⟩) (fun e4 => ?_) rfl nI_0.symm (by omega) (by decide)
  · have mp := srt0.mp e4
    have hu := z_up_main f6
    have fb := kT_bd ok hf
    have hk : z_k C (kT C p / 5) (kT C f / 5) ≠ 1000000000 := by
      by_cases e5 : kT C p = kT C f
      · rw [e5, z_k_self]; decide
      · obtain ⟨_, _, _, c4⟩ := z_up_k f6 e5
        rw [← c4]; exact f6
    refine tw_laySkipping ok hV (by omega) (kT C p / 5) s st _ hV (by omega) hk h (by omega) (fun s1 m1 h1 => ?_)
    have ct := y_sk_cnt ok (j := kT C f / 5) (by omega) 12 (kT C p / 5) st (by omega) (by omega) hk
    refine slip s1 _ m1 h1 ct.2.2.1 (by omega) ?_
    rw [← f2]
    by_cases e5 : kT C p = kT C f
    · rw [if_pos e5, e5, y_sk_end]
    · rw [if_neg e5]
  · have : kT C p = kT C f := by
      have hu := z_up_main f6
      have : ¬ kT C p % 5 = 0 := fun z => e4 (srt0.mpr z)
      omega
    refine slip s st tfr.rf h rfl (by omega) ?_
    rw [← f2, if_pos this]
end TWW
