/-! PLAIN LAW: the reading calls -/
set_option maxRecDepth 100000
theorem z_bst_un {C : Cf} (ok : z_ok C) {i a b i' a' b' : Nat} (h : z_bst C i a b) (g : z_bst C i' a' b') : i = i' ∧ a = a' ∧ b = b' := by
  obtain ⟨h1, h2, h3, h4⟩ := h
  obtain ⟨g1, g2, g3, g4⟩ := g
  have e : i = i' := by
    rcases Nat.lt_trichotomy i i' with z | z | z
    · exact absurd (g4 i a b z h2) (Nat.not_lt.mpr (h3 i' a' b' g1 g2))
    · exact z
    · exact absurd (h4 i' a' b' z g2) (Nat.not_lt.mpr (g3 i a b h1 h2))
  subst e
  exact ⟨rfl, z_bp_un ok h2 g2⟩
section OPR
variable {σ : gH} {x0 : Nat} {s : TS}
theorem rd_join {wh mc ms : Nat} {Q : Int32 → gH → Prop} (hw : wh = 0 ∨ wh = 2 ∨ wh = 3) (h : JJ x0 σ s) (hmc : 2400 ≤ mc) (hms : 71000 ≤ ms) (w : ∀ v σ', (∃ fs : List Value, σ'.2 x0 = some (.inr (0, fs))) → ((s.1 5 = 0 → v = -3 ∧ JJ x0 σ' s) ∧ (¬ s.1 5 = 0 → wX3_mends (fun v' s' => v = v' ∧ JJ x0 σ' s') (nI wh) s)) → Q v σ') : wX0_reads Q mc ms x0 (nI wh) 0 0 σ := by
  have h0 := h
  obtain ⟨ow, k, ch, wy, hx, ha, hv, hch, he⟩ := h
  have a5 := vp_cl hv.1.2.2.1.1 (by decide)
  have a14 := vp_cl hv.1.2.2.2.2.2.2.1 (by decide)
  have a36 := vp_cl he.2.1 (by decide)
  have a37 := vp_cl he.2.2 (by decide)
  have a18 := vp_cl he.1.1 (by decide)
  have a19 := vp_cl he.1.2 (by decide)
  have g14 : (s.1 14).toNatClampNeg < 11 := a14.1
  have g0 : (s.1 0).toNatClampNeg < 13 := (vp_cl hv.1.1.1 (by decide)).1
  have ok : z_ok (cf s wh (s.1 14).toNatClampNeg 0 (s.1 36).toNatClampNeg (s.1 37).toNatClampNeg (fun i => (s.2.1 15 i).toNatClampNeg)) := cf_ok hv (by omega) (by omega) (fun _ => by omega) (fun i hi => (vp_cl (hv.1.2.2.2.2.2.2.2 i hi) (by omega)).1)
  obtain ⟨ru, N, m, xl, hI⟩ := rI_of (wh := wh) (o := 0) (p := (s.1 36).toNatClampNeg) (w := (s.1 37).toNatClampNeg) (tx := fun i => (s.2.1 15 i).toNatClampNeg) hx ha hv rfl (fun i hi => rfl)
  have htC : tC (cf s wh (s.1 14).toNatClampNeg 0 (s.1 36).toNatClampNeg (s.1 37).toNatClampNeg (fun i => (s.2.1 15 i).toNatClampNeg)) (tI (tI (tI s 35 (-4)) 33 (nI wh)) 34 (nI (s.1 14).toNatClampNeg)) := by
    refine cf_tC (L := [33, 34, 35]) hv he.1 (((tfr.rf.I (by decide) _).I (by decide) _).I (by decide) _) (by decide) ?_ ?_ ?_ ?_ ?_ ⟨by omega, by omega, by omega, a36.1, a37.1⟩ (fun i hi => ?_)
    · rw [tI_ne _ _ (by decide), tI_i]
    · rw [tI_i]
    · right; rw [tI_ne _ _ (by decide), tI_ne _ _ (by decide), tI_i]; exact ⟨rfl, rfl⟩
    · rw [tI_ne _ _ (by decide), tI_ne _ _ (by decide), tI_ne _ _ (by decide)]; exact a36.2
    · rw [tI_ne _ _ (by decide), tI_ne _ _ (by decide), tI_ne _ _ (by decide)]; exact a37.2
    · exact (vp_cl (hv.1.2.2.2.2.2.2.2 i hi) (by omega)).2
  obtain ⟨C, hC⟩ : ∃ C, C = cf s wh (s.1 14).toNatClampNeg 0 (s.1 36).toNatClampNeg (s.1 37).toNatClampNeg (fun i => (s.2.1 15 i).toNatClampNeg) := ⟨_, rfl⟩
  have c33 : C.1 33 = wh := by rw [hC]; rfl
  have c34 : C.1 34 = (s.1 14).toNatClampNeg := by rw [hC]; rfl
  have c5 : C.1 5 = (s.1 5).toNatClampNeg := by rw [hC]; rfl
  have c6 : C.1 6 = (s.1 6).toNatClampNeg := by rw [hC]; rfl
  have c0 : C.1 0 = (s.1 0).toNatClampNeg := by rw [hC]; rfl
  rw [← hC] at ok hI htC
  have ne5 : C.1 5 ≠ 0 ↔ ¬ s.1 5 = 0 := by
    rw [c5]
    constructor
    · intro z e; rw [e] at z; exact z rfl
    · intro z e; rw [e] at a5; exact z a5.2
  have h56 : C.1 5 ≠ 0 → C.1 6 < C.1 5 := fun z => by
    rw [c6, c5]; exact (vp_cl (hv.1.2.2.1.2.2 (ne5.mp z)) (by omega)).1
  have c18 : C.1 18 = (s.1 18).toNatClampNeg := by rw [hC]; rfl
  have c19 : C.1 19 = (s.1 19).toNatClampNeg := by rw [hC]; rfl
  have c36 : C.1 36 = (s.1 36).toNatClampNeg := by rw [hC]; rfl
  have c37 : C.1 37 = (s.1 37).toNatClampNeg := by rw [hC]; rfl
  have c35 : C.1 35 = 0 := by rw [hC]; rfl
  have hNN : N ≤ 1000 := hI.2.2.2.2.2.2.2.1.2
  have htC' : tC C (tI (tI (tI s 35 (-4)) 33 (nI (C.1 33))) 34 (nI (C.1 34))) := by rw [c33, c34]; exact htC
  have h14 : s.1 14 = nI (C.1 34) := by rw [c34]; exact a14.2
  have npos : ¬ nI wh < 0 := nI_pos (by omega)
  have n1 : nI wh = 1 → False := fun z => by
    have := nI_inj (a := wh) (b := 1) (by omega) (by decide) z
    omega
  have w4 : vp_in (nI wh) 4 := vp_nI (by omega) (by decide)
  have y0 : ∀ A, yQ (fun _ => False) st0 ((0, 0, 0), A) := fun A => ⟨rfl, fun i hi => absurd hi (by show ¬ i < 4 * 0; omega), fun i hi => absurd hi (by show ¬ i < 0; omega), fun i w hi => absurd hi (by show ¬ i < 0; omega)⟩
  have v18' : ∀ s', tfr LM s s' → v_18 s' := fun s' tm => by
    unfold v_18
    rw [tm.i 18, tm.i 19]; exact he.1
  have obj : ∀ ow' σ' price N st, rE C ow' σ' x0 k (gF s k ch wy) (nI wh) 0 0 price N st → ∃ fs : List Value, σ'.2 x0 = some (.inr (0, fs)) := by
    rintro ow' σ' price N st ⟨g', wy', tr, sl, kc, x', -⟩
    exact ⟨_, x'.1⟩
  have vw0 : ∀ s' : TS, s'.1 24 = nI 0 → v_row (s'.1 0) (s'.1 24) 301 (s'.2.1 25) := fun s' e => by
    rw [e]
    exact ⟨vp_nI (by decide) (by decide), fun i hi => absurd hi (by rw [nI_clamp (by decide)]; omega)⟩
  refine c_reads1 ok hI h56 ⟨by rw [c18]; exact a18.1, by rw [c19]; exact a19.1, by rw [c36]; exact a36.1, by rw [c37]; exact a37.1, c35⟩ (by rw [c33]) (fun z => by rw [c33] at z; omega) hmc hms (fun e => ?_) (fun e5 nob ow' σ' m' hE => ?_) (fun e5 i a b hb hlt ow' σ' m' hE => ?_) (fun e5 i a b hb hle ow' σ' N' m' hN' hE => ?_)
  · exact w (-3) σ ⟨_, hx.1⟩ ⟨fun _ => ⟨rfl, h0⟩, fun ne => absurd e (ne5.mpr ne)⟩
  · refine w (-4) σ' (obj _ _ _ _ _ hE) ⟨fun z => absurd z (ne5.mp e5), fun _ => ?_⟩
    rw [← c33]
    refine tw_mends ok htC' h14 (h56 e5) (fun _ s' tm hm => ⟨rfl, ?_⟩) (fun i a b hb => absurd hb.2.1 (nob i a b hb.1)) (fun i a b hb => absurd hb.2.1 (nob i a b hb.1))
    obtain ⟨e17, e16, e20, e21, ts⟩ := hm
    rw [c33] at e17
    refine JJ_back ha hv he m' hE hNN (tm.sub (by decide)) e17 e16 e21 ts (y0 _) npos (fun z => absurd z (fun q => n1 q)) ⟨by decide, by decide, by decide⟩ ?_ (vw0 s' ts.1.2.1) (v18' s' tm)
    rw [e20, e21, e17, ts.1.1, ts.1.2.2]
    exact ⟨Or.inl rfl, fun _ => rfl, fun z => absurd z (by decide), Or.inr w4, (show vp_in (nI 0) 320 from vp_nI (by decide) (by decide)), fun z => absurd rfl z, (show vp_in (nI 0) 101 from vp_nI (by decide) (by decide))⟩
  · have bd := z_bp_bd ok hb.1 hb.2.1
    refine w (nI a) σ' (obj _ _ _ _ _ hE) ⟨fun z => absurd z (ne5.mp e5), fun _ => ?_⟩
    rw [← c33]
    refine tw_mends ok htC' h14 (h56 e5) (fun nob => absurd hb.2.1 (nob i a b hb.1)) (fun i' a' b' hb' _ s' tm hm => ?_) (fun i' a' b' hb' hle' => absurd hle' (by have := (z_bst_un ok hb hb').2.2; omega))
    obtain ⟨rfl, rfl, rfl⟩ := z_bst_un ok hb hb'
    obtain ⟨e17, e16, e20, e21, ts⟩ := hm
    rw [c33] at e17
    refine ⟨rfl, JJ_back ha hv he m' hE hNN (tm.sub (by decide)) e17 e16 e21 ts (y0 _) npos (fun z => absurd z (fun q => n1 q)) ⟨by decide, by decide, by decide⟩ ?_ (vw0 s' ts.1.2.1) (v18' s' tm)⟩
    rw [e20, e21, e17, ts.1.1, ts.1.2.2]
    exact ⟨Or.inr rfl, fun z => absurd z (by decide), fun _ => nI_pos (by omega), Or.inr w4, (show vp_in (nI 0) 320 from vp_nI (by decide) (by decide)), fun z => absurd rfl z, (show vp_in (nI 0) 101 from vp_nI (by decide) (by decide))⟩
  · have bd := z_bp_bd ok hb.1 hb.2.1
    refine w (nI a) σ' (obj _ _ _ _ _ hE) ⟨fun z => absurd z (ne5.mp e5), fun _ => ?_⟩
    rw [← c33]
    refine tw_mends ok htC' h14 (h56 e5) (fun nob => absurd hb.2.1 (nob i a b hb.1)) (fun i' a' b' hb' hlt' => absurd hlt' (by have := (z_bst_un ok hb hb').2.2; omega)) (fun i' a' b' hb' _ s' tm hm => ?_)
    obtain ⟨rfl, rfl, rfl⟩ := z_bst_un ok hb hb'
    obtain ⟨e17, e16, e20, e21, ts⟩ := hm
    rw [c33] at e17
    obtain ⟨hi, ⟨pr, hMb, hkne, ea⟩, -⟩ := id hb
    have yq := y_par C 100 (C.1 6) 0 (5 * i) i (C.1 34) (-4) st0.2 (s.2.1 23, s.2.1 25, s.2.1 27)
    have cn := y_nm_cnt ok 100 (C.1 6) 0 (5 * i) (-4) ((0, 0, 0), s.2.1 23, s.2.1 25, s.2.1 27) pr b hle hMb (by show 0 ≤ 0 + 0 / 5; omega)
    have wds : yWd C (y_nm C 100 (C.1 6) 0 (5 * i) (-4) ((0, 0, 0), s.2.1 23, s.2.1 25, s.2.1 27)) := yWd.nm ok 100 (C.1 6) 0 (5 * i) (-4) _ pr b hle hMb (fun j hj => absurd hj (by show ¬ j < 0; omega))
    have wds2 := wds.sk (C.1 34) 12 i
    obtain ⟨S1, hS1⟩ : ∃ S1, S1 = y_nm C 100 (C.1 6) 0 (5 * i) (-4) ((0, 0, 0), s.2.1 23, s.2.1 25, s.2.1 27) := ⟨_, rfl⟩
    rw [← hS1] at cn wds2 ts yq
    have o34 := ok.1
    have sk := y_sk_cnt ok (Nat.le_refl (C.1 34)) 12 i S1 hi (by omega) hkne
    obtain ⟨S2, hS2⟩ : ∃ S2, S2 = y_sk C (C.1 34) 12 i S1 := ⟨_, rfl⟩
    rw [← hS2] at sk wds2 ts yq
    obtain ⟨k1, k2, k3, -⟩ := sk
    obtain ⟨n1', n2', n3', n4'⟩ := cn
    have q1 : S1.1.2.2 = b := by
      have : S1.1.2.2 = 0 + b := n2'
      omega
    have q2 : S1.1.2.1 ≤ 3 * b := by
      have : S1.1.2.1 ≤ 0 + 3 * b := n4'
      omega
    have q3 : S2.1.2.1 = S1.1.2.1 := by rw [k3]
    have q4 : S2.1.2.2 = S1.1.2.2 := by rw [k3]
    have q5 : S2.1.1 < 320 := by omega
    refine ⟨rfl, JJ_back ha hv he m' hE hN' (tm.sub (by decide)) e17 e16 e21 ts yq npos (fun z => absurd z (fun q => n1 q)) ⟨?_, ?_, ?_⟩ ?_ ?_ (v18' s' tm)⟩
    · rw [yq.1]; omega
    · rw [yq.1]; omega
    · rw [yq.1]; omega
    · rw [e20, e21, e17, ts.1.1, ts.1.2.2, tm.i 5]
      exact ⟨Or.inr rfl, fun z => absurd z (by decide), fun _ => nI_pos (by omega), Or.inr w4, vp_nI q5 (by decide), fun _ => ⟨npos, rfl, ne5.mp e5⟩, vp_nI (by omega) (by decide)⟩
    · rw [ts.1.2.1, ts.2.2.1, tm.i 0]
      refine ⟨vp_nI (by omega) (by decide), fun j hj => ?_⟩
      rw [nI_clamp (by omega)] at hj
      obtain ⟨t, t1, t2⟩ := wds2 j hj
      rw [t2]
      exact vp_nI (by rw [← c0]; exact t1) (by omega)
end OPR
