/-! PLAIN LAW, the component: which steps may be, at which price -/
set_option maxRecDepth 100000
/-- the way, and the slip that is not there -/
def eW (C : Cf) (σ : gH) (wy : Nat) : Prop := (C.1 18 < 1000000 ∧ C.1 19 < 1000000 ∧ C.1 36 < 1000000 ∧ C.1 37 < 1000000 ∧ C.1 35 < 1000000) ∧ ∃ fr to wo, σ.2 wy = some (cO 6 [.int (nI (C.1 33)), .int fr, .int to, va_rf wo]) ∧ (C.1 33 = 1 → fr = nI (C.1 18) ∧ to = nI (C.1 19)) ∧ ((wo = none ∧ C.1 35 = 0) ∨ ∃ w0 ci fs, wo = some w0 ∧ σ.2 w0 = some (cO ci fs) ∧ 9 ≤ ci ∧ ci ≤ 15 ∧ k_kind ci = nI (C.1 35) ∧ fs[1]? = some (.int (nI (C.1 36))) ∧ (if ci = 12 ∨ ci = 14 then nI (C.1 37) = 0 else fs[if ci = 13 then 8 else if ci = 11 ∨ ci = 15 then 9 else 4]? = some (.int (nI (C.1 37)))))
def cOk (C : Cf) (k i w : Nat) (tf : Prop) (b : Nat) : Prop := k = 0 ∨ (1 < C.1 33 ∧ k = 1 ∧ i = C.1 34) ∨ (z_pl C = false ∧ ¬ (C.1 13 ≠ 0 ∧ tf) ∧ z_out C k i w = false ∧ z_rg C i b = true)
section MAY
variable {C : Cf} {σ : gH} {a k ch x0 i f q t fm nu wy : Nat} {Q : Int32 → Prop} {kk kc : Nat → Nat}
theorem hm_without (e : eW C σ wy) (hk : k ≤ 7) (hk1 : 1 ≤ k) (h : σ.2 a = some (sC k ch x0 i f q t fm nu)) (hi : i < 1000000) (ht : sTold k t nu < 1000000) (q1 : z_out C k i (sTold k t nu) = true → Q 1) (q0 : z_out C k i (sTold k t nu) = false → Q 0) : wX6_isWithout Q σ wy (some a) := by
  obtain ⟨⟨b18, b19, b36, b37, b35⟩, fr, to, wo, h1, -, h3⟩ := e
  rcases h3 with ⟨rfl, h3⟩ | ⟨w0, ci, fs, rfl, g1, g2, g3, g4, g5, g6⟩
  · refine i_Rr h1 (by decide) rfl (br_p rfl (q0 (bool_f (fun z => ?_))))
    have := (z_out_iff.mp z).1
    omega
  · have h1' : σ.2 wy = some (cO 6 [.int (nI (C.1 33)), .int fr, .int to, .ref w0]) := h1
    have no : ∀ hn : ¬ (k = C.1 35 ∧ i = C.1 36 ∧ sTold k t nu = C.1 37), Q 0 := fun hn => q0 (bool_f (fun z => hn (z_out_iff.mp z)))
    refine i_R h1' (by decide) rfl (br_n (by simp) ⟨_, rfl, hv_kind hk h (i_R h1' (by decide) rfl ⟨_, rfl, hv_kindG g1 (by omega) g3 ?_⟩)⟩)
    rw [g4]
    refine pk_eq k (C.1 35) (fun e1 => ?_) (fun e1 => no (by omega)) rfl rfl (by omega) (by omega)
    refine hv_pl h (i_R h1' (by decide) rfl ⟨_, rfl, i_I g1 (by simp only [List.mem_cons, List.not_mem_nil, or_false]; omega) g5 ?_⟩)
    refine pk_eq i (C.1 36) (fun e2 => ?_) (fun e2 => no (by omega)) rfl rfl (by omega) (by omega)
    refine hv_told hk h (i_R h1' (by decide) rfl ⟨_, rfl, hv_toldG g1 g2 g3 g6 ?_⟩)
    exact pk_eq (sTold k t nu) (C.1 37) (fun e3 => q1 (z_out_iff.mpr ⟨e1, e2, e3⟩)) (fun e3 => no (by omega)) rfl rfl (by omega) (by omega)
theorem hm_may (ok : z_ok C) (h13 : C.1 13 < 2) (e : eR C σ x0 ch kk kc) (e' : eW C σ wy) (hk : k ≤ 7) (h : σ.2 a = some (sC k ch x0 i f q t fm nu)) (hi : i ≤ C.1 34) (ht : sTold k t nu < 1000000) (hb : sBeh k i nu < 1000000) {tf : Prop} (htouch : 1 ≤ k → ∀ Q : Int32 → Prop, (tf → Q 1) → (¬ tf → Q 0) → vX8_touchesFence σ Q a)
    (q1 : cOk C k i (sTold k t nu) tf (sBeh k i nu) → Q 1) (q0 : ¬ cOk C k i (sTold k t nu) tf (sBeh k i nu) → Q 0) : wX0_may Q σ x0 (some wy) (some a) (nI (C.1 34)) := by
  have o := ok.1
  have e'2 := e'
  obtain ⟨⟨b18, b19, b36, b37, b35⟩, fr, to, wo, h1, h2, -⟩ := e'2
  obtain ⟨gs, g1, -, -, -, -, -, g10⟩ := e.1

  -- from 75 on
  have m75 : 1 ≤ k → ¬ (1 < C.1 33 ∧ k = 1 ∧ i = C.1 34) → z_pl C = false → ¬ (C.1 13 ≠ 0 ∧ tf) → wX0_may_75 Q σ (some wy) (some a) := by
    intro hk1 hne pl nf
    refine ⟨_, rfl, _, h1, hm_without e' hk hk1 h (by omega) ht (fun ho => br_n (by decide) (q0 ?_)) (fun ho => br_p rfl (i_I h1 (by decide) rfl ?_))⟩
    · rintro (z | z | z)
      · omega
      · exact hne z
      · rw [ho] at z; exact absurd z.2.2.1 (by decide)
    · refine pk_eq (C.1 33) 1 (fun e1 => ?_) (fun e1 => ?_) rfl rfl (by omega) (by decide)
      · obtain ⟨rfl, rfl⟩ := h2 e1
        refine ⟨_, rfl, hv_first hk h (i_I h1 (by decide) rfl ?_)⟩
        refine pk_lt i (C.1 18) (fun e2 => q0 ?_) (fun e2 => hv_behind hk h (i_I h1 (by decide) rfl ?_)) rfl rfl (by omega) (by omega)
        · rintro (z | z | z)
          · omega
          · exact hne z
          · have := z_rg_iff.mp z.2.2.2 e1; omega
        · refine pk_lt (C.1 19) (sBeh k i nu) (fun e3 => q0 ?_) (fun e3 => q1 (Or.inr (Or.inr ⟨pl, nf, ho, z_rg_iff.mpr (fun _ => ⟨e2, e3⟩)⟩))) rfl rfl (by omega) (by omega)
          rintro (z | z | z)
          · omega
          · exact hne z
          · have := z_rg_iff.mp z.2.2.2 e1; omega
      · exact q1 (Or.inr (Or.inr ⟨pl, nf, ho, z_rg_iff.mpr (fun z => absurd z e1)⟩))
  have m45 : 1 ≤ k → ¬ (1 < C.1 33 ∧ k = 1 ∧ i = C.1 34) → wX0_may_45 Q σ x0 (some wy) (some a) := by
    intro hk1 hne
    have nopl : z_pl C = true → Q 0 := fun hp => q0 (by
      rintro (z | z | z)
      · omega
      · exact hne z
      · rw [hp] at z; exact absurd z.1 (by decide))
    refine ⟨_, rfl, i_I h1 (by decide) rfl ?_⟩
    refine pk_eq (C.1 33) 2 (fun e1 => nopl (by unfold z_pl; rw [e1]; rfl)) (fun e1 => i_I h1 (by decide) rfl ?_) rfl rfl (by omega) (by decide)
    refine pk_eq (C.1 33) 4 (fun e2 => nopl (by unfold z_pl; rw [e2]; rfl)) (fun e2 => i_I g1 (by decide) g10 ?_) rfl rfl (by omega) (by decide)
    have pl : z_pl C = false := by unfold z_pl; simp [e1, e2]
    refine ⟨fun e3 => m75 hk1 hne pl (fun z => ?_), fun e3 => ⟨_, rfl, htouch hk1 _ (fun ht => br_n (by decide) (q0 ?_)) (fun ht => br_p rfl (m75 hk1 hne pl (fun z => ht z.2)))⟩⟩
    · by_cases hz : C.1 13 = 0
      · exact z.1 hz
      · by_cases hb : C.1 13 < 2147483648
        · exact nI_ne0 (by omega) hb e3
        · omega
    · rintro (z | z | z)
      · omega
      · exact hne z
      · refine z.2.1 ⟨fun z0 => e3 ?_, ht⟩
        rw [z0]; rfl
  have m21 : ∀ t0 : Int32, (t0 = 1 ∧ k = 1 ∧ i = C.1 34 ∨ t0 = 0 ∧ ¬ (k = 1 ∧ i = C.1 34)) → wX0_may_21 Q σ t0 x0 (some wy) (some a) := by
    intro t0 ht0
    refine ⟨_, rfl, hv_kind hk h ?_⟩
    refine pk_eq k 0 (fun e1 => q1 (Or.inl e1)) (fun e1 => ⟨_, rfl, i_I h1 (by decide) rfl ?_⟩) rfl nI_0.symm (by omega) (by decide)
    refine pk_le (C.1 33) 1 (fun e2 => m45 (by omega) (by omega)) (fun e2 => ?_) rfl rfl (by omega) (by decide)
    rcases ht0 with ⟨rfl, a1, a2⟩ | ⟨rfl, a1⟩
    · exact br_n (by decide) (q1 (Or.inr (Or.inl ⟨e2, a1, a2⟩)))
    · exact br_p rfl (m45 (by omega) (fun z => a1 z.2))
  refine ⟨_, rfl, hv_kind hk h ?_⟩
  refine pk_eq k 1 (fun e1 => hv_pl h ?_) (fun e1 => m21 0 (Or.inr ⟨rfl, fun z => e1 z.1⟩)) rfl rfl (by omega) (by decide)
  exact pk_eq i (C.1 34) (fun e2 => m21 1 (Or.inl ⟨rfl, e1, e2⟩)) (fun e2 => m21 0 (Or.inr ⟨rfl, fun z => e2 z.2⟩)) rfl rfl (by omega) (by omega)
end MAY
