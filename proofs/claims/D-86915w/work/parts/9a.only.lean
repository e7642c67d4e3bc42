/-! PLAIN LAW: the reading call only -/
set_option maxRecDepth 100000
/-- two configurations with one grammar -/
def cQ2 (C C' : Cf) : Prop := (∀ k, k ∈ [0, 3, 4, 5, 6, 7, 13] → C'.1 k = C.1 k) ∧ ∀ k, k ∈ [1, 2, 8, 9, 10, 11, 12] → C'.2 k = C.2 k
section CG
variable {C C' : Cf} {ow : Nat → Nat} {σ : gH} {x0 : Nat} {kk ru : Nat → Nat} {g : Nat → Value}
theorem oG.cg (q : cQ2 C C') (h : oG C kk g) : oG C' kk g := by
  unfold oG at h ⊢
  rw [q.1 0 (by decide), q.1 3 (by decide), q.1 4 (by decide), q.1 5 (by decide), q.1 6 (by decide), q.1 13 (by decide)]
  exact h
theorem cEv.cg (q : cQ2 C C') (h : cEv C ow σ kk) : cEv C' ow σ kk := by
  unfold cEv fCell at h ⊢
  rw [q.1 0 (by decide), q.1 13 (by decide), q.2 1 (by decide), q.2 2 (by decide), q.2 11 (by decide), q.2 12 (by decide)]
  exact h
theorem cRu.cg (q : cQ2 C C') (h : cRu C ow σ kk ru) : cRu C' ow σ kk ru := by
  unfold cRu cRuR rC at h ⊢
  rw [q.1 0 (by decide), q.1 5 (by decide), q.1 7 (by decide), q.2 8 (by decide), q.2 9 (by decide), q.2 10 (by decide)]
  exact h
theorem cTx.cg {tx : Nat} (e34 : C'.1 34 = C.1 34) (e15 : C'.2 15 = C.2 15) (h : cTx C ow σ tx) : cTx C' ow σ tx := by
  unfold cTx at h ⊢
  rw [e34, e15]
  exact h
theorem rI.cg {N n : Nat} {xl : Nat → Nat} (q : cQ2 C C') (e34 : C'.1 34 = C.1 34) (e15 : C'.2 15 = C.2 15) (h : rI C ow σ x0 kk ru g N n xl) : rI C' ow σ x0 kk ru g N n xl := by
  obtain ⟨h1, h2, h3, h4, h5, h6⟩ := h
  exact ⟨h1, h2.cg q, h3.cg q, h4.cg e34 e15, h5.cg q, h6⟩
theorem cf_q {s s1 : TS} {wh n o p w wh' n' o' p' w' : Nat} {tx tx' : Nat → Nat} (h : ∀ k, k ∈ [0, 3, 4, 5, 6, 7, 13] → s1.1 k = s.1 k) (h2 : ∀ k, k ∈ [1, 2, 8, 9, 10, 11, 12] → s1.2.1 k = s.2.1 k) : cQ2 (cf s wh n o p w tx) (cf s1 wh' n' o' p' w' tx') := by
  refine ⟨fun k hk => ?_, fun k hk => ?_⟩
  · have e := h k hk
    simp only [List.mem_cons, List.not_mem_nil, or_false] at hk
    rcases hk with rfl | rfl | rfl | rfl | rfl | rfl | rfl <;> exact congrArg Int32.toNatClampNeg e
  · have e := h2 k hk
    funext i
    have e' := congrFun e i
    simp only [List.mem_cons, List.not_mem_nil, or_false] at hk
    rcases hk with rfl | rfl | rfl | rfl | rfl | rfl | rfl <;> exact congrArg Int32.toNatClampNeg e'
theorem cf_15 {s : TS} {wh n o p w : Nat} {tx : Nat → Nat} : (cf s wh n o p w tx).2 15 = tx := by
  funext i
  show (if 15 = 15 then tx i else (s.2.1 15 i).toNatClampNeg) = tx i
  rw [if_pos rfl]
theorem cf_34 {s : TS} {wh n o p w : Nat} {tx : Nat → Nat} : (cf s wh n o p w tx).1 34 = n := rfl
end CG
section OPO
variable {σ : gH} {x0 : Nat} {s : TS}
theorem rd_only {wh mc ms : Nat} {x2 x3 : Int32} {s1 : TS} {Q : Int32 → gH → Prop} (hs1 : s1 = tI (tI s 18 x2) 19 x3) (h2 : vp_in x2 1000000) (h3 : vp_in x3 1000000) (hw : wh = 1) (h : JJ x0 σ s) (hmc : 2400 ≤ mc) (hms : 71000 ≤ ms) (w : ∀ v σ', (∃ fs : List Value, σ'.2 x0 = some (.inr (0, fs))) → ((s.1 5 = 0 → v = -3 ∧ JJ x0 σ' s) ∧ (¬ s.1 5 = 0 → wX3_mends (fun v' s' => v = v' ∧ JJ x0 σ' s') (nI wh) s1)) → Q v σ') : wX0_reads Q mc ms x0 (nI wh) x2 x3 σ := by
  have h0 := h
  obtain ⟨ow, k, ch, wy, hx, ha, hv, hch, he⟩ := h
  have a5 := vp_cl hv.1.2.2.1.1 (by decide)
  have a14 := vp_cl hv.1.2.2.2.2.2.2.1 (by decide)
  have a36 := vp_cl he.2.1 (by decide)
  have a37 := vp_cl he.2.2 (by decide)
  have s18 : s1.1 18 = x2 := by rw [hs1, tI_ne _ _ (by decide), tI_i]
  have s19 : s1.1 19 = x3 := by rw [hs1, tI_i]
  have a18 := vp_cl h2 (by decide)
  have a19 := vp_cl h3 (by decide)
  have hv1 : v_all s1 := by rw [hs1]; exact hv
  have t1 : tfr LR s s1 := by rw [hs1]; exact (tfr.rf.I (by decide) _).I (by decide) _
  have v1 : v_18 s1 := by unfold v_18; rw [s18, s19]; exact ⟨h2, h3⟩
  have g14 : (s.1 14).toNatClampNeg < 11 := a14.1
  have g0 : (s.1 0).toNatClampNeg < 13 := (vp_cl hv.1.1.1 (by decide)).1
  have ok : z_ok (cf s1 wh (s.1 14).toNatClampNeg 0 (s.1 36).toNatClampNeg (s.1 37).toNatClampNeg (fun i => (s.2.1 15 i).toNatClampNeg)) := cf_ok hv1 (by omega) (by omega) (fun _ => by omega) (fun i hi => by rw [hs1]; exact (vp_cl (hv.1.2.2.2.2.2.2.2 i hi) (by omega)).1)
  obtain ⟨ru, N, m, xl, hI⟩ := rI_of (wh := wh) (o := 0) (p := (s.1 36).toNatClampNeg) (w := (s.1 37).toNatClampNeg) (tx := fun i => (s.2.1 15 i).toNatClampNeg) hx ha hv rfl (fun i hi => rfl)
  have hI : rI (cf s1 wh (s.1 14).toNatClampNeg 0 (s.1 36).toNatClampNeg (s.1 37).toNatClampNeg (fun i => (s.2.1 15 i).toNatClampNeg)) ow σ x0 k ru (gF s k ch wy) N m xl := hI.cg (cf_q (fun k hk => t1.i k (by simp only [List.mem_cons, List.not_mem_nil, or_false] at hk ⊢; omega)) (fun k hk => t1.a k (by simp only [List.mem_cons, List.not_mem_nil, or_false] at hk ⊢; omega))) (by rw [cf_34, cf_34]) (by rw [cf_15, cf_15])
  have htC : tC (cf s1 wh (s.1 14).toNatClampNeg 0 (s.1 36).toNatClampNeg (s.1 37).toNatClampNeg (fun i => (s.2.1 15 i).toNatClampNeg)) (tI (tI (tI s1 35 (-4)) 33 (nI wh)) 34 (nI (s.1 14).toNatClampNeg)) := by
    refine cf_tC (L := [33, 34, 35]) hv1 v1 (((tfr.rf.I (by decide) _).I (by decide) _).I (by decide) _) (by decide) ?_ ?_ ?_ ?_ ?_ ⟨by omega, by omega, by omega, a36.1, a37.1⟩ (fun i hi => ?_)
    · rw [tI_ne _ _ (by decide), tI_i]
    · rw [tI_i]
    · right; rw [tI_ne _ _ (by decide), tI_ne _ _ (by decide), tI_i]; exact ⟨rfl, rfl⟩
    · rw [tI_ne _ _ (by decide), tI_ne _ _ (by decide), tI_ne _ _ (by decide), t1.i 36]; exact a36.2
    · rw [tI_ne _ _ (by decide), tI_ne _ _ (by decide), tI_ne _ _ (by decide), t1.i 37]; exact a37.2
    · rw [hs1]; exact (vp_cl (hv.1.2.2.2.2.2.2.2 i hi) (by omega)).2
  obtain ⟨C, hC⟩ : ∃ C, C = cf s1 wh (s.1 14).toNatClampNeg 0 (s.1 36).toNatClampNeg (s.1 37).toNatClampNeg (fun i => (s.2.1 15 i).toNatClampNeg) := ⟨_, rfl⟩
  have c33 : C.1 33 = wh := by rw [hC]; rfl
  have c34 : C.1 34 = (s.1 14).toNatClampNeg := by rw [hC]; rfl
  have c5 : C.1 5 = (s.1 5).toNatClampNeg := by rw [hC, hs1]; rfl
  have c6 : C.1 6 = (s.1 6).toNatClampNeg := by rw [hC, hs1]; rfl
  have c0 : C.1 0 = (s.1 0).toNatClampNeg := by rw [hC, hs1]; rfl
  rw [← hC] at ok hI htC
  have ne5 : C.1 5 ≠ 0 ↔ ¬ s.1 5 = 0 := by
    rw [c5]
    constructor
    · intro z e; rw [e] at z; exact z rfl
    · intro z e; rw [e] at a5; exact z a5.2
  have h56 : C.1 5 ≠ 0 → C.1 6 < C.1 5 := fun z => by
    rw [c6, c5]; exact (vp_cl (hv.1.2.2.1.2.2 (ne5.mp z)) (by omega)).1
  have c18 : C.1 18 = x2.toNatClampNeg := by rw [hC, hs1]; rfl
  have c19 : C.1 19 = x3.toNatClampNeg := by rw [hC, hs1]; rfl
  have c36 : C.1 36 = (s.1 36).toNatClampNeg := by rw [hC]; rfl
  have c37 : C.1 37 = (s.1 37).toNatClampNeg := by rw [hC]; rfl
  have c35 : C.1 35 = 0 := by rw [hC]; rfl
  have hNN : N ≤ 1000 := hI.2.2.2.2.2.2.2.1.2
  have htC' : tC C (tI (tI (tI s1 35 (-4)) 33 (nI (C.1 33))) 34 (nI (C.1 34))) := by rw [c33, c34]; exact htC
  have h14 : s1.1 14 = nI (C.1 34) := by rw [c34, t1.i 14]; exact a14.2
  have npos : ¬ nI wh < 0 := nI_pos (by omega)
  have w4 : vp_in (nI wh) 4 := vp_nI (by omega) (by decide)
  have y0 : ∀ A, yQ (fun _ => False) st0 ((0, 0, 0), A) := fun A => ⟨rfl, fun i hi => absurd hi (by show ¬ i < 4 * 0; omega), fun i hi => absurd hi (by show ¬ i < 0; omega), fun i w hi => absurd hi (by show ¬ i < 0; omega)⟩
  have v18' : ∀ s', tfr LM s1 s' → v_18 s' := fun s' tm => by
    unfold v_18
    rw [tm.i 18, tm.i 19]; exact v1
  have obj : ∀ ow' σ' price N st, rE C ow' σ' x0 k (gF s k ch wy) (nI wh) x2 x3 price N st → ∃ fs : List Value, σ'.2 x0 = some (.inr (0, fs)) := by
    rintro ow' σ' price N st ⟨g', wy', tr, sl, kc, x', -⟩
    exact ⟨_, x'.1⟩
  have vw0 : ∀ s' : TS, s'.1 24 = nI 0 → v_row (s'.1 0) (s'.1 24) 301 (s'.2.1 25) := fun s' e => by
    rw [e]
    exact ⟨vp_nI (by decide) (by decide), fun i hi => absurd hi (by rw [nI_clamp (by decide)]; omega)⟩
  refine c_reads1 ok hI h56 ⟨by rw [c18]; exact a18.1, by rw [c19]; exact a19.1, by rw [c36]; exact a36.1, by rw [c37]; exact a37.1, c35⟩ (by rw [c33]) (fun _ => ⟨by rw [c18]; exact a18.2, by rw [c19]; exact a19.2⟩) hmc hms (fun e => ?_) (fun e5 nob ow' σ' m' hE => ?_) (fun e5 i a b hb hlt ow' σ' m' hE => ?_) (fun e5 i a b hb hle ow' σ' N' m' hN' hE => ?_)
  · exact w (-3) σ ⟨_, hx.1⟩ ⟨fun _ => ⟨rfl, h0⟩, fun ne => absurd e (ne5.mpr ne)⟩
  · refine w (-4) σ' (obj _ _ _ _ _ hE) ⟨fun z => absurd z (ne5.mp e5), fun _ => ?_⟩
    rw [← c33]
    refine tw_mends ok htC' h14 (h56 e5) (fun _ s' tm hm => ⟨rfl, ?_⟩) (fun i a b hb => absurd hb.2.1 (nob i a b hb.1)) (fun i a b hb => absurd hb.2.1 (nob i a b hb.1))
    obtain ⟨e17, e16, e20, e21, ts⟩ := hm
    rw [c33] at e17
    refine JJ_back ha hv he m' hE hNN (t1.tr (tm.sub (by decide))) e17 e16 e21 ts (y0 _) npos (fun _ => ⟨by rw [tm.i 18, s18], by rw [tm.i 19, s19]⟩) ⟨by decide, by decide, by decide⟩ ?_ (vw0 s' ts.1.2.1) (v18' s' tm)
    rw [e20, e21, e17, ts.1.1, ts.1.2.2]
    exact ⟨Or.inl rfl, fun _ => rfl, fun z => absurd z (by decide), Or.inr w4, (show vp_in (nI 0) 320 from vp_nI (by decide) (by decide)), fun z => absurd rfl z, (show vp_in (nI 0) 101 from vp_nI (by decide) (by decide))⟩
  · have bd := z_bp_bd ok hb.1 hb.2.1
    refine w (nI a) σ' (obj _ _ _ _ _ hE) ⟨fun z => absurd z (ne5.mp e5), fun _ => ?_⟩
    rw [← c33]
    refine tw_mends ok htC' h14 (h56 e5) (fun nob => absurd hb.2.1 (nob i a b hb.1)) (fun i' a' b' hb' _ s' tm hm => ?_) (fun i' a' b' hb' hle' => absurd hle' (by have := (z_bst_un ok hb hb').2.2; omega))
    obtain ⟨rfl, rfl, rfl⟩ := z_bst_un ok hb hb'
    obtain ⟨e17, e16, e20, e21, ts⟩ := hm
    rw [c33] at e17
    refine ⟨rfl, JJ_back ha hv he m' hE hNN (t1.tr (tm.sub (by decide))) e17 e16 e21 ts (y0 _) npos (fun _ => ⟨by rw [tm.i 18, s18], by rw [tm.i 19, s19]⟩) ⟨by decide, by decide, by decide⟩ ?_ (vw0 s' ts.1.2.1) (v18' s' tm)⟩
    rw [e20, e21, e17, ts.1.1, ts.1.2.2]
    exact ⟨Or.inr rfl, fun z => absurd z (by decide), fun _ => nI_pos (by omega), Or.inr w4, (show vp_in (nI 0) 320 from vp_nI (by decide) (by decide)), fun z => absurd rfl z, (show vp_in (nI 0) 101 from vp_nI (by decide) (by decide))⟩
  · have bd := z_bp_bd ok hb.1 hb.2.1
    refine w (nI a) σ' (obj _ _ _ _ _ hE) ⟨fun z => absurd z (ne5.mp e5), fun _ => ?_⟩
    rw [← c33]
    refine tw_mends ok htC' h14 (h56 e5) (fun nob => absurd hb.2.1 (nob i a b hb.1)) (fun i' a' b' hb' hlt' => absurd hlt' (by have := (z_bst_un ok hb hb').2.2; omega)) (fun i' a' b' hb' _ s' tm hm => ?_)
    obtain ⟨rfl, rfl, rfl⟩ := z_bst_un ok hb hb'
    obtain ⟨e17, e16, e20, e21, ts⟩ := hm
    rw [c33] at e17
    obtain ⟨hi, ⟨pr, hMb, hkne, ea⟩, -⟩ := id hb
    have yq := y_par C 100 (C.1 6) 0 (5 * i) i (C.1 34) (-4) st0.2 (s1.2.1 23, s1.2.1 25, s1.2.1 27)
    have cn := y_nm_cnt ok 100 (C.1 6) 0 (5 * i) (-4) ((0, 0, 0), s1.2.1 23, s1.2.1 25, s1.2.1 27) pr b hle hMb (by show 0 ≤ 0 + 0 / 5; omega)
    have wds : yWd C (y_nm C 100 (C.1 6) 0 (5 * i) (-4) ((0, 0, 0), s1.2.1 23, s1.2.1 25, s1.2.1 27)) := yWd.nm ok 100 (C.1 6) 0 (5 * i) (-4) _ pr b hle hMb (fun j hj => absurd hj (by show ¬ j < 0; omega))
    have wds2 := wds.sk (C.1 34) 12 i
    obtain ⟨S1, hS1⟩ : ∃ S1, S1 = y_nm C 100 (C.1 6) 0 (5 * i) (-4) ((0, 0, 0), s1.2.1 23, s1.2.1 25, s1.2.1 27) := ⟨_, rfl⟩
    rw [← hS1] at cn wds2 ts yq
    have o34 := ok.1
    have sk := y_sk_cnt ok (Nat.le_refl (C.1 34)) 12 i S1 hi (by omega) hkne
    obtain ⟨S2, hS2⟩ : ∃ S2, S2 = y_sk C (C.1 34) 12 i S1 := ⟨_, rfl⟩
    rw [← hS2] at sk wds2 ts yq
    obtain ⟨k1, k2, k3, -⟩ := sk
    obtain ⟨n1', n2', n3', n4'⟩ := cn
    have q1 : S1.1.2.2 = b := by
      have : S1.1.2.2 = 0 + b := n2'
      omega
    have q2 : S1.1.2.1 ≤ 3 * b := by
      have : S1.1.2.1 ≤ 0 + 3 * b := n4'
      omega
    have q3 : S2.1.2.1 = S1.1.2.1 := by rw [k3]
    have q4 : S2.1.2.2 = S1.1.2.2 := by rw [k3]
    have q5 : S2.1.1 < 320 := by omega
    refine ⟨rfl, JJ_back ha hv he m' hE hN' (t1.tr (tm.sub (by decide))) e17 e16 e21 ts yq npos (fun _ => ⟨by rw [tm.i 18, s18], by rw [tm.i 19, s19]⟩) ⟨?_, ?_, ?_⟩ ?_ ?_ (v18' s' tm)⟩
    · rw [yq.1]; omega
    · rw [yq.1]; omega
    · rw [yq.1]; omega
    · rw [e20, e21, e17, ts.1.1, ts.1.2.2, tm.i 5, t1.i 5]
      exact ⟨Or.inr rfl, fun z => absurd z (by decide), fun _ => nI_pos (by omega), Or.inr w4, vp_nI q5 (by decide), fun _ => ⟨npos, rfl, ne5.mp e5⟩, vp_nI (by omega) (by decide)⟩
    · rw [ts.1.2.1, ts.2.2.1, tm.i 0, t1.i 0]
      refine ⟨vp_nI (by omega) (by decide), fun j hj => ?_⟩
      rw [nI_clamp (by omega)] at hj
      obtain ⟨t, t1, t2⟩ := wds2 j hj
      rw [t2]
      exact vp_nI (by rw [← c0]; exact t1) (by omega)
variable {CB SB : Nat} {a1 a2 a3 a4 a5 : Int32}
theorem op_12 (h : JJ x0 σ s) (hcb : 2400 ≤ CB) (hsb : 71000 ≤ SB) : l_op 12 a1 a2 a3 a4 a5 (JJ x0) CB SB x0 σ s := by
  have h' := h
  obtain ⟨ow, k, ch, wy, hx, ha, hv, hc, he⟩ := h
  have hx' := hx
  rw [← gF_oL] at hx
  obtain ⟨n, hn, en, en'⟩ := vp_i hv.1.2.2.2.2.2.2.1 (by decide)
  obtain ⟨tf, t1, t2⟩ := ha.1.2.2.2.2.2
  rw [en'] at t1 t2
  unfold l_op
  simp only [opC, opT]
  unfold wX0_only
  have hob : ∃ fs : List Value, σ.2 x0 = some (.inr (0, fs)) := ⟨_, hx.1⟩
  unfold wX0_in
  rw [i64_0, i64_lt, i64_lt, ← Int32.lt_iff_toInt_lt, ← Int32.lt_iff_toInt_lt]
  refine ⟨fun e => br_p rfl ⟨hob, br_p e ⟨rfl, h'⟩⟩, fun e1 => ⟨fun e2 => br_p rfl ⟨hob, br_n e1 (br_p e2 ⟨rfl, h'⟩)⟩, fun e2 => br_n (by decide) ?_⟩⟩
  refine i_Ro hx (by decide) rfl ⟨_, rfl, c_len_at (t := 0) (by decide) t1.1 ⟨fun e3 => ⟨hob, br_n e1 (br_n e2 (br_n ?_ ⟨rfl, h'⟩))⟩, fun e3 => ?_⟩⟩
  · rw [en, Int32.not_le]; exact e3
  · have e4 : a2 ≤ s.1 14 := by rw [en]; exact Int32.not_lt.mp e3
    have f1 : ¬ a1.toInt < 0 := fun z => e1 (Int32.lt_iff_toInt_lt.mpr z)
    have f2 : ¬ a2.toInt < a1.toInt := fun z => e2 (Int32.lt_iff_toInt_lt.mpr z)
    have f4 : a2.toInt ≤ n := by
      have := Int32.le_iff_toInt_le.mp e4
      rw [en, nI_toInt (by omega)] at this
      exact this
    have b1 : vp_in a1 1000000 := by rw [vp_in_iff]; omega
    have b2 : vp_in a2 1000000 := by rw [vp_in_iff]; omega
    exact ⟨_, hx.1, CB, SB, by omega, by omega, rd_only (wh := 1) rfl b1 b2 rfl h' hcb hsb (fun v σ' ho hh => ⟨ho, br_n e1 (br_n e2 (br_p e4 ⟨fun z => hh.1 z, fun z => al_eq (al_eq (hh.2 z))⟩))⟩)⟩
end OPO
