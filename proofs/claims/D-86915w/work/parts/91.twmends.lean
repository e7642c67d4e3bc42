/-! PLAIN LAW, the twin: mends -/
set_option maxRecDepth 100000
abbrev LM : List Nat := [16, 17, 20, 21, 22, 23, 24, 25, 26, 27, 28, 29, 30, 31, 32, 33, 34, 35, 38, 39, 40, 41, 42, 43, 44, 45, 46, 47, 48, 49, 50]
section TWM
variable {C : Cf} {s : TS}
theorem tw_costOf {Q : Int64 → TS → Prop} {q i pr b : Nat} (ok : z_ok C) (hV : tV C s) (h6 : C.1 6 < C.1 5) (hq : q < nT C) (eq : kT C q = 5 * i) (hi : i ≤ C.1 34) (hM : z_Mb C (z_tk C) 16777216 (C.1 6) 0 (5 * i) pr b) (hk : z_k C i (C.1 34) ≠ 1000000000) (w : Q (lN ((pr + z_k C i (C.1 34)) * 4294967296 + b)) s) : wX3_costOf Q (nI q) s := by
  have o := ok.1
  have n51 := nT_le ok
  obtain ⟨⟨hC, hK, hS, hR⟩, hF⟩ := id hV
  have tb := hF.tb ok
  obtain ⟨z0, k0⟩ := kT_0 ok
  have hsk := (hS i (C.1 34) hi (Nat.le_refl _)).1
  have kb := z_k_bd2 ok (i := i) (j := C.1 34) hi (Nat.le_refl _)
  have ev := (hF.1 (C.1 6) 0 q h6 z0 hq).1
  rw [show 2704 * C.1 6 + 52 * 0 + q = 2704 * C.1 6 + q by omega] at ev
  have mb := z_bp_bd ok (i := i) hi ⟨pr, hM, hk, rfl⟩
  have et := (z_T_of (T := tt s) ok (kT_kn ok) tb (by decide) (p := 0) (q := q) z0 hq (by rw [k0, eq]; exact hM) (cstW (by omega) mb.2)).2
  have ek := (hK.at hq).2.1
  rw [eq, show 5 * i / 5 = i by omega] at ek
  unfold wX3_costOf
  rw [hC.i 6, hC.i 34, k2704, k12, pk_mul, nI_add, nI_clamp (n := q) (by omega), ek, pk_mul, nI_add, nI_clamp (by omega), nI_clamp (by omega), hsk, ev, et, nI_l (by omega), lW, lN_mul, lN_add]
  refine ⟨vp_nI (by omega) (by decide), vp_nI (by omega) (by decide), vp_nI (by omega) (by decide), ?_⟩
  have e : pr * 4294967296 + b + 4294967296 * z_k C i (C.1 34) = (pr + z_k C i (C.1 34)) * 4294967296 + b := by
    rw [Nat.add_mul, Nat.mul_comm 4294967296]; omega
  rw [e]
  exact w
/-- the twin after mends -/
def mE (C : Cf) (s : TS) (is price : Int32) (st : St) : Prop := s.1 17 = nI (C.1 33) ∧ s.1 16 = 1 ∧ s.1 20 = is ∧ s.1 21 = price ∧ tSt s st
theorem tw_mends {Q : Int32 → TS → Prop} (ok : z_ok C) (h : tC C (tI (tI (tI s 35 (-4)) 33 (nI (C.1 33))) 34 (nI (C.1 34)))) (h14 : s.1 14 = nI (C.1 34)) (h6 : C.1 6 < C.1 5)
    (w1 : z_nob C → ∀ s', tfr LM s s' → mE C s' 0 (-4) ((0, 0, 0), s.2.1 23, s.2.1 25, s.2.1 27) → Q (-4) s')
    (w2 : ∀ i a b, z_bst C i a b → 100 < b → ∀ s', tfr LM s s' → mE C s' 1 (nI a) ((0, 0, 0), s.2.1 23, s.2.1 25, s.2.1 27) → Q (nI a) s')
    (w3 : ∀ i a b, z_bst C i a b → b ≤ 100 → ∀ s', tfr LM s s' → mE C s' 1 (nI a) (y_sk C (C.1 34) 12 i (y_nm C 100 (C.1 6) 0 (5 * i) (-4) ((0, 0, 0), s.2.1 23, s.2.1 25, s.2.1 27))) → Q (nI a) s') : wX3_mends Q (nI (C.1 33)) s := by
  have o := ok.1
  unfold wX3_mends
  refine al_eq ?_
  rw [tI_ne _ _ (by decide), h14]
  refine tw_layAll ok h (fun s2 m2 h2 hf2 => al_eq (al_eq (al_eq (al_eq ⟨Or.inr rfl, al_eq ?_⟩))))
  obtain ⟨s7, hs7⟩ : ∃ s7, s7 = tI (tI (tI (tI (tI s2 17 (nI (C.1 33))) 22 0) 24 0) 26 0) 16 1 := ⟨_, rfl⟩
  rw [← hs7]
  have m27 : tfr [17, 22, 24, 26, 16] s2 s7 := by rw [hs7]; exact ((((tfr.rf.I (by decide) _).I (by decide) _).I (by decide) _).I (by decide) _).I (by decide) _
  have m2' : tfr LM s s2 := (tfr.rf.I (by decide) _).tr (m2.sub (by decide))
  have m7 : tfr LM s s7 := m2'.tr (m27.sub (by decide))
  have v7 : tV C s7 := tV.mv ⟨h2, hf2⟩ m27 (by decide)
  have a17 : s7.1 17 = nI (C.1 33) := by rw [hs7, tI_ne _ _ (by decide), tI_ne _ _ (by decide), tI_ne _ _ (by decide), tI_ne _ _ (by decide), tI_i]
  have a16 : s7.1 16 = 1 := by rw [hs7, tI_i]
  have a22 : s7.1 22 = nI 0 := by rw [hs7, tI_ne _ _ (by decide), tI_ne _ _ (by decide), tI_ne _ _ (by decide), tI_i]; rfl
  have a24 : s7.1 24 = nI 0 := by rw [hs7, tI_ne _ _ (by decide), tI_ne _ _ (by decide), tI_i]; rfl
  have a26 : s7.1 26 = nI 0 := by rw [hs7, tI_ne _ _ (by decide), tI_i]; rfl
  have r2 : s7.2.1 23 = s.2.1 23 ∧ s7.2.1 25 = s.2.1 25 ∧ s7.2.1 27 = s.2.1 27 := by
    have e : ∀ k, k = 23 ∨ k = 25 ∨ k = 27 → s7.2.1 k = s.2.1 k := by
      intro k hk
      have k1 : k ∉ [17, 22, 24, 26, 16] := by simp only [List.mem_cons, List.not_mem_nil, or_false]; omega
      have k2 : k ∉ [28, 29, 30, 31, 32, 33, 34, 38, 39, 40, 41, 42, 43, 44, 45] := by simp only [List.mem_cons, List.not_mem_nil, or_false]; omega
      rw [m27.a k k1, m2.a k k2]; rfl
    exact ⟨e 23 (by omega), e 25 (by omega), e 27 (by omega)⟩
  have st7 : ∀ s', tfr [20, 21] s7 s' → tSt s' ((0, 0, 0), s.2.1 23, s.2.1 25, s.2.1 27) := fun s' m => ⟨⟨by rw [m.i 22]; exact a22, by rw [m.i 24]; exact a24, by rw [m.i 26]; exact a26⟩, by rw [m.a 23]; exact r2.1, by rw [m.a 25]; exact r2.2.1, by rw [m.a 27]; exact r2.2.2⟩
  have n51 := nT_le ok
  refine tw_mendingTo ok v7 h6 (fun nob => br_p rfl ?_) (fun i a b q hb hq eq => br_n (nI_ne4 (by omega)) ?_)
  · unfold wX3_mends_57
    refine ⟨Or.inl rfl, al_eq (al_eq ?_)⟩
    rw [tI_ne _ _ (by decide), tI_i]
    have m : tfr [20, 21] s7 (tI (tI s7 20 0) 21 (-4)) := (tfr.rf.I (by decide) _).I (by decide) _
    exact br_p rfl (w1 nob _ (m7.tr (m.sub (by decide))) ⟨by rw [m.i 17]; exact a17, by rw [m.i 16]; exact a16, by rw [tI_ne _ _ (by decide), tI_i], tI_i _ _ _, st7 _ m⟩)
  · obtain ⟨hi, ⟨pr, hMb, hkne, ea⟩, -⟩ := id hb
    have bd := z_bp_bd ok hi ⟨pr, hMb, hkne, ea⟩
    unfold wX3_mends_57
    refine ⟨Or.inr rfl, al_eq (al_eq ?_)⟩
    rw [tI_ne _ _ (by decide), tI_i]
    have m : tfr [20, 21] s7 (tI (tI s7 20 1) 21 (-4)) := (tfr.rf.I (by decide) _).I (by decide) _
    have v9 := v7.mv m (by decide)
    obtain ⟨s9, hs9⟩ : ∃ s9, s9 = tI (tI s7 20 1) 21 (-4) := ⟨_, rfl⟩
    have a20 : s9.1 20 = 1 := by rw [hs9, tI_ne _ _ (by decide), tI_i]
    rw [← hs9] at m v9 ⊢
    refine br_n (by decide) (tw_costOf ok v9 h6 hq eq hi hMb hkne (al_eq ?_))
    rw [← ea]
    have clt := cstW bd.1 bd.2
    have clt2 : a * 4294967296 + b < 2 ^ 63 := Nat.lt_trans clt (by decide)
    have bS : b ≤ 2398411 := bd.2
    have hdiv : (a * 4294967296 + b) / 4294967296 = a := by
      rw [Nat.add_comm, Nat.add_mul_div_right _ _ (by decide), Nat.div_eq_of_lt (by omega)]; omega
    rw [lW, pk_lDiv clt2 (by decide) (by decide), hdiv, lN_i, lN_mul, lN_sub (Nat.le_add_right _ _), Nat.add_sub_cancel_left, show (100 : Int64) = lN 100 from rfl]
    have cmp : lN 100 < lN b ↔ 100 < b := pk_lLT (by decide) (by omega)
    have mx : tfr [20, 21] s7 (tI s9 21 (nI a)) := m.I (by decide) _
    have b20 : (tI s9 21 (nI a)).1 20 = 1 := by rw [tI_ne _ _ (by decide)]; exact a20
    have vx := v7.mv mx (by decide)
    have sx := st7 _ mx
    have b21 : (tI s9 21 (nI a)).1 21 = nI a := tI_i _ _ _
    have b17 : (tI s9 21 (nI a)).1 17 = nI (C.1 33) := by rw [mx.i 17]; exact a17
    have b16 : (tI s9 21 (nI a)).1 16 = 1 := by rw [mx.i 16]; exact a16
    obtain ⟨s10, hs10⟩ : ∃ s10, s10 = tI s9 21 (nI a) := ⟨_, rfl⟩
    rw [← hs10] at mx b20 vx sx b21 b17 b16 ⊢
    refine ⟨fun z => ?_, fun z => ?_⟩
    · unfold wX3_mends_109
      rw [b21]
      exact w2 i a b hb (cmp.mp z) s10 (m7.tr (mx.sub (by decide))) ⟨b17, b16, b20, b21, sx⟩
    · have hb100 : b ≤ 100 := by
        have : ¬ 100 < b := fun y => z (cmp.mpr y)
        omega
      refine tw_layTree ok vx hq eq hi hMb (cstW (by omega) bS) hb100 hkne (fun s11 m11 v11 st11 => ?_)
      unfold wX3_mends_109
      rw [m11.i 21, b21]
      rw [sx.2.1, sx.2.2.1, sx.2.2.2] at st11
      exact w3 i a b hb hb100 s11 ((m7.tr (mx.sub (by decide))).tr (m11.sub (by decide))) ⟨by rw [m11.i 17]; exact b17, by rw [m11.i 16]; exact b16, by rw [m11.i 20]; exact b20, by rw [m11.i 21]; exact b21, st11⟩
end TWM
