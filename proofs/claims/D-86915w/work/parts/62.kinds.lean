/-! PLAIN LAW, the component: kind by kind -/
set_option maxRecDepth 100000
theorem fen_iff {C : Cf} {t : Nat} : z_fen C t = true ↔ C.1 13 ≠ 0 ∧ C.2 1 t ≠ 0 := by
  unfold z_fen
  simp
theorem fen_f {C : Cf} {t : Nat} : z_fen C t = false ↔ ¬ (C.1 13 ≠ 0 ∧ C.2 1 t ≠ 0) := by
  rw [← fen_iff]; simp
/-- a form as it lies in the world -/
def hF (C : Cf) (σ : gH) (fm w fo : Nat) : Prop := σ.2 fm = some (cO 5 [.int (nI (C.2 12 (12 * w + 4 * fo))), .int (nI (C.2 12 (12 * w + 4 * fo + 1))), .int (nI (C.2 12 (12 * w + 4 * fo + 2))), .int (nI (C.2 12 (12 * w + 4 * fo + 3)))])
section KINDS
variable {C : Cf} {σ : gH} {a k ch x0 i f q t fm nu wy : Nat} {Q : Int32 → Prop} {kk kc : Nat → Nat}
theorem hm_k0 (ok : z_ok C) (h13 : C.1 13 < 2) (e : eR C σ x0 ch kk kc) (e' : eW C σ wy) (h : σ.2 a = some (sC 0 ch x0 i f q t fm nu)) (hi : i ≤ C.1 34) (q1 : Q 1) : wX0_may Q σ x0 (some wy) (some a) (nI (C.1 34)) := by
  have o := ok.1
  exact hm_may (tf := False) ok h13 e e' (by decide) h hi (by show 0 < _; decide) (by show i < _; omega) (fun z => by omega) (fun _ => q1) (fun n => absurd (Or.inl rfl) n)
theorem hm_k1 (ok : z_ok C) (h13 : C.1 13 < 2) (e : eR C σ x0 ch kk kc) (e' : eW C σ wy) (h : σ.2 a = some (sC 1 ch x0 i f q t fm nu)) (hi : i ≤ C.1 34) (ht : t < C.1 0) (q1 : z_lp C i t ≠ 1000000000 → Q 1) (q0 : z_lp C i t = 1000000000 → Q 0) : wX0_may Q σ x0 (some wy) (some a) (nI (C.1 34)) := by
  have o := ok.1
  have fb := ht_fb e ht
  have pb := (ok.2.1 0 t (by decide) ht).2
  rw [show 12 * 0 + t = t by omega] at pb
  have key : cOk C 1 i t (C.2 1 t ≠ 0) i ↔ z_lp C i t ≠ 1000000000 := by
    unfold cOk z_lp
    by_cases h1 : i = C.1 34 ∧ 1 < C.1 33
    · rw [if_pos h1]
      refine ⟨fun _ => ?_, fun _ => Or.inr (Or.inl ⟨h1.2, rfl, h1.1⟩)⟩
      by_cases h2 : C.1 33 = 2
      · rw [if_pos h2]; decide
      · rw [if_neg h2]; decide
    · rw [if_neg h1]
      by_cases h2 : (!z_pl C && !z_fen C t && (z_rg C i i && !z_out C 1 i t)) = true
      · rw [if_pos h2]
        refine ⟨fun _ => by omega, fun _ => Or.inr (Or.inr ?_)⟩
        simp only [Bool.and_eq_true, Bool.not_eq_true'] at h2
        exact ⟨h2.1.1, fen_f.mp h2.1.2, h2.2.2, h2.2.1⟩
      · rw [if_neg h2]
        refine ⟨fun z => ?_, fun z => absurd rfl z⟩
        exfalso
        rcases z with z | z | z
        · omega
        · exact h1 ⟨z.2.2, z.1⟩
        · refine h2 ?_
          simp only [Bool.and_eq_true, Bool.not_eq_true']
          exact ⟨⟨z.1, fen_f.mpr z.2.1⟩, z.2.2.2, z.2.2.1⟩
  refine hm_may (tf := C.2 1 t ≠ 0) ok h13 e e' (by decide) h hi (by show t < _; omega) (by show i < _; omega) (fun _ Q w1 w0 => ⟨_, _, h, Or.inr (Or.inl ⟨rfl, ht_9 ok e h (by decide) rfl rfl ht ?_⟩)⟩) (fun z => q1 (key.mp z)) (fun z => q0 (Classical.byContradiction fun y => z (key.mpr y)))
  by_cases e0 : C.2 1 t = 0
  · rw [e0]; exact w0 (fun z => z e0)
  · rw [show C.2 1 t = 1 by omega]; exact w1 e0
theorem key_may {k w m : Nat} {tf : Prop} (hk : 2 ≤ k) (htf : (C.1 13 ≠ 0 ∧ tf) ↔ ∃ d, d < m ∧ z_fen C (C.2 15 (i + d)) = true) : cOk C k i w tf (i + m) ↔ z_may C k i m w = true := by
  rw [z_may_iff]
  unfold cOk
  constructor
  · rintro (z | z | ⟨z1, z2, z3, z4⟩)
    · omega
    · omega
    · exact ⟨z1, z3, fun d hd => bool_f (fun y => z2 (htf.mpr ⟨d, hd, y⟩)), z4⟩
  · rintro ⟨z1, z2, z3, z4⟩
    refine Or.inr (Or.inr ⟨z1, fun y => ?_, z2, z4⟩)
    obtain ⟨d, hd, y⟩ := htf.mp y
    rw [z3 d hd] at y
    cases y
theorem key_may2 {k w m : Nat} {tf : Prop} {F : Prop} (hk : 2 ≤ k) (htf : (C.1 13 ≠ 0 ∧ tf) ↔ F ∨ ∃ d, d < m ∧ z_fen C (C.2 15 (i + d)) = true) : cOk C k i w tf (i + m) ↔ ¬ F ∧ z_may C k i m w = true := by
  rw [z_may_iff]
  unfold cOk
  constructor
  · rintro (z | z | ⟨z1, z2, z3, z4⟩)
    · omega
    · omega
    · exact ⟨fun y => z2 (htf.mpr (Or.inl y)), z1, z3, fun d hd => bool_f (fun y => z2 (htf.mpr (Or.inr ⟨d, hd, y⟩))), z4⟩
  · rintro ⟨z0, z1, z2, z3, z4⟩
    refine Or.inr (Or.inr ⟨z1, fun y => ?_, z2, z4⟩)
    rcases htf.mp y with y | ⟨d, hd, y⟩
    · exact z0 y
    · rw [z3 d hd] at y
      cases y
theorem ex_1 {P : Nat → Prop} : (∃ d, d < 1 ∧ P d) ↔ P 0 := by
  constructor
  · rintro ⟨d, h1, h2⟩
    have e : d = 0 := by omega
    rw [← e]; exact h2
  · intro h; exact ⟨0, by decide, h⟩
theorem ex_2 {P : Nat → Prop} : (∃ d, d < 2 ∧ P d) ↔ P 0 ∨ P 1 := ⟨fun ⟨d, h1, h2⟩ => by
    have : d = 0 ∨ d = 1 := by omega
    rcases this with e | e
    · exact Or.inl (by rw [← e]; exact h2)
    · exact Or.inr (by rw [← e]; exact h2), fun h => by
    rcases h with h | h
    · exact ⟨0, by decide, h⟩
    · exact ⟨1, by decide, h⟩⟩
theorem hm_k2 (ok : z_ok C) (h13 : C.1 13 < 2) (e : eR C σ x0 ch kk kc) (e' : eW C σ wy) (h : σ.2 a = some (sC 2 ch x0 i f q t fm nu)) (hi : i < C.1 34) (ht : t < C.1 0) (q1 : z_fen C t = false ∧ z_may C 2 i 1 t = true → Q 1) (q0 : ¬ (z_fen C t = false ∧ z_may C 2 i 1 t = true) → Q 0) : wX0_may Q σ x0 (some wy) (some a) (nI (C.1 34)) := by
  have o := ok.1
  have key := key_may2 (C := C) (i := i) (k := 2) (w := t) (m := 1) (tf := ¬ (C.2 1 t = 0 ∧ C.2 1 (C.2 15 i) = 0)) (F := z_fen C t = true) (by decide) (by
    rw [ex_1, fen_iff, Nat.add_zero, fen_iff]
    constructor
    · rintro ⟨a1, a2⟩
      by_cases z : C.2 1 t = 0
      · exact Or.inr ⟨a1, fun y => a2 ⟨z, y⟩⟩
      · exact Or.inl ⟨a1, z⟩
    · rintro (z | z)
      · exact ⟨z.1, fun y => z.2 y.1⟩
      · exact ⟨z.1, fun y => z.2 y.2⟩)
  have hf : z_fen C t = false ↔ ¬ z_fen C t = true := by simp
  rw [← hf] at key
  refine hm_may ok h13 e e' (by decide) h (by omega) (by show t < _; omega) (by show i + 1 < _; omega) (fun _ Q w1 w0 => ⟨_, _, h, Or.inr (Or.inr (Or.inl ⟨rfl, ht_10 ok e h (by decide) rfl rfl rfl rfl rfl ht hi ?_⟩))⟩) (fun z => q1 (key.mp z)) (fun z => q0 (fun y => z (key.mpr y)))
  by_cases e0 : C.2 1 t = 0 ∧ C.2 1 (C.2 15 i) = 0
  · rw [if_pos e0]; exact w0 (fun z => z e0)
  · rw [if_neg e0]; exact w1 e0
theorem hm_k3 (ok : z_ok C) (h13 : C.1 13 < 2) (e : eR C σ x0 ch kk kc) (e' : eW C σ wy) (h : σ.2 a = some (sC 3 ch x0 i f q t fm nu)) (hi : i + 1 < C.1 34) (et : t = C.2 15 (i + 1)) (q1 : z_may C 3 i 2 0 = true → Q 1) (q0 : ¬ z_may C 3 i 2 0 = true → Q 0) : wX0_may Q σ x0 (some wy) (some a) (nI (C.1 34)) := by
  have o := ok.1
  have ht : t < C.1 0 := by rw [et]; exact ok.2.2.2.1 _ hi
  have key := key_may (C := C) (i := i) (k := 3) (w := 0) (m := 2) (tf := ¬ (C.2 1 t = 0 ∧ C.2 1 (C.2 15 i) = 0)) (by decide) (by
    rw [ex_2, Nat.add_zero, fen_iff, fen_iff, ← et]
    constructor
    · rintro ⟨a1, a2⟩
      by_cases z : C.2 1 t = 0
      · exact Or.inl ⟨a1, fun y => a2 ⟨z, y⟩⟩
      · exact Or.inr ⟨a1, z⟩
    · rintro (z | z)
      · exact ⟨z.1, fun y => z.2 y.2⟩
      · exact ⟨z.1, fun y => z.2 y.1⟩)
  refine hm_may ok h13 e e' (by decide) h (by omega) (by show 0 < _; decide) (by show i + 2 < _; omega) (fun _ Q w1 w0 => ⟨_, _, h, Or.inr (Or.inr (Or.inr (Or.inr (Or.inr (Or.inr (Or.inl ⟨rfl, ht_10 ok e h (by decide) rfl rfl rfl rfl rfl ht (by omega) ?_⟩))))))⟩) (fun z => q1 (key.mp z)) (fun z => q0 (fun y => z (key.mpr y)))
  by_cases e0 : C.2 1 t = 0 ∧ C.2 1 (C.2 15 i) = 0
  · rw [if_pos e0]; exact w0 (fun z => z e0)
  · rw [if_neg e0]; exact w1 e0
theorem hm_k4 (ok : z_ok C) (h13 : C.1 13 < 2) (e : eR C σ x0 ch kk kc) (e' : eW C σ wy) (h : σ.2 a = some (sC 4 ch x0 i f q t fm nu)) (hi : i < C.1 34) (hn : nu < C.2 11 0) (hfm : hF C σ fm 0 nu) (et : t = C.2 12 (4 * nu)) (q1 : z_fen C (C.2 12 (4 * nu)) = false ∧ z_fen C (C.2 12 (4 * nu + 1)) = false ∧ z_may C 4 i 1 nu = true → Q 1) (q0 : ¬ (z_fen C (C.2 12 (4 * nu)) = false ∧ z_fen C (C.2 12 (4 * nu + 1)) = false ∧ z_may C 4 i 1 nu = true) → Q 0) : wX0_may Q σ x0 (some wy) (some a) (nI (C.1 34)) := by
  have o := ok.1
  have ob := (ok.2.2.2.2.2 0 nu (by decide) hn).1
  have ob0 := ob 0 (by decide)
  have ob1 := ob 1 (by decide)
  rw [show 12 * 0 + 4 * nu + 0 = 4 * nu by omega] at ob0
  rw [show 12 * 0 + 4 * nu + 1 = 4 * nu + 1 by omega] at ob1
  unfold hF at hfm
  rw [show 12 * 0 + 4 * nu = 4 * nu by omega] at hfm
  have key := key_may2 (C := C) (i := i) (k := 4) (w := nu) (m := 1) (tf := ¬ ((C.2 1 t = 0 ∧ C.2 1 (C.2 15 i) = 0) ∧ C.2 1 (C.2 12 (4 * nu + 1)) = 0)) (F := z_fen C t = true ∨ z_fen C (C.2 12 (4 * nu + 1)) = true) (by decide) (by
    rw [ex_1, fen_iff, fen_iff, Nat.add_zero, fen_iff]
    constructor
    · rintro ⟨a1, a2⟩
      by_cases z : C.2 1 t = 0
      · by_cases z2 : C.2 1 (C.2 15 i) = 0
        · exact Or.inl (Or.inr ⟨a1, fun y => a2 ⟨⟨z, z2⟩, y⟩⟩)
        · exact Or.inr ⟨a1, z2⟩
      · exact Or.inl (Or.inl ⟨a1, z⟩)
    · rintro ((z | z) | z)
      · exact ⟨z.1, fun y => z.2 y.1.1⟩
      · exact ⟨z.1, fun y => z.2 y.2⟩
      · exact ⟨z.1, fun y => z.2 y.1.2⟩)
  have key2 : cOk C 4 i nu (¬ ((C.2 1 t = 0 ∧ C.2 1 (C.2 15 i) = 0) ∧ C.2 1 (C.2 12 (4 * nu + 1)) = 0)) (i + 1) ↔ z_fen C (C.2 12 (4 * nu)) = false ∧ z_fen C (C.2 12 (4 * nu + 1)) = false ∧ z_may C 4 i 1 nu = true := by
    rw [key, et]
    simp [and_assoc]
  refine hm_may ok h13 e e' (by decide) h (by omega) (by show nu < _; omega) (by show i + 1 < _; omega) (fun _ Q w1 w0 => ⟨_, _, h, Or.inr (Or.inr (Or.inr (Or.inl ⟨rfl, ht_11 ok e h (by decide) rfl rfl rfl rfl rfl rfl (by rw [et]; exact ob0) hi ob1 (fun P p => ⟨_, _, h, Or.inl ⟨rfl, i_R h (by decide) rfl ⟨_, rfl, i_I hfm (by decide) rfl p⟩⟩⟩) ?_⟩)))⟩) (fun z => q1 (key2.mp z)) (fun z => q0 (fun y => z (key2.mpr y)))
  by_cases e0 : (C.2 1 t = 0 ∧ C.2 1 (C.2 15 i) = 0) ∧ C.2 1 (C.2 12 (4 * nu + 1)) = 0
  · rw [if_pos e0]; exact w0 (fun z => z e0)
  · rw [if_neg e0]; exact w1 e0
theorem hm_k5 (ok : z_ok C) (h13 : C.1 13 < 2) (e : eR C σ x0 ch kk kc) (e' : eW C σ wy) (h : σ.2 a = some (sC 5 ch x0 i f q t fm nu)) (hi : i + 1 < C.1 34) (hn : nu < C.2 11 1) (et : t = C.2 12 (12 + 4 * nu + 2)) (q1 : z_fen C (C.2 12 (12 + 4 * nu + 2)) = false ∧ z_may C 5 i 2 nu = true → Q 1) (q0 : ¬ (z_fen C (C.2 12 (12 + 4 * nu + 2)) = false ∧ z_may C 5 i 2 nu = true) → Q 0) : wX0_may Q σ x0 (some wy) (some a) (nI (C.1 34)) := by
  have o := ok.1
  have ob2 := (ok.2.2.2.2.2 1 nu (by decide) hn).1 2 (by decide)
  rw [show 12 * 1 + 4 * nu + 2 = 12 + 4 * nu + 2 by omega] at ob2
  have bt1 := ok.2.2.2.1 (i + 1) hi
  have key := key_may2 (C := C) (i := i) (k := 5) (w := nu) (m := 2) (tf := ¬ ((C.2 1 t = 0 ∧ C.2 1 (C.2 15 i) = 0) ∧ C.2 1 (C.2 15 (i + 1)) = 0)) (F := z_fen C t = true) (by decide) (by
    rw [ex_2, fen_iff, Nat.add_zero, fen_iff, fen_iff]
    constructor
    · rintro ⟨a1, a2⟩
      by_cases z : C.2 1 t = 0
      · by_cases z2 : C.2 1 (C.2 15 i) = 0
        · exact Or.inr (Or.inr ⟨a1, fun y => a2 ⟨⟨z, z2⟩, y⟩⟩)
        · exact Or.inr (Or.inl ⟨a1, z2⟩)
      · exact Or.inl ⟨a1, z⟩
    · rintro (z | z | z)
      · exact ⟨z.1, fun y => z.2 y.1.1⟩
      · exact ⟨z.1, fun y => z.2 y.1.2⟩
      · exact ⟨z.1, fun y => z.2 y.2⟩)
  have hf : z_fen C t = false ↔ ¬ z_fen C t = true := by simp
  rw [← hf, et] at key
  refine hm_may ok h13 e e' (by decide) h (by omega) (by show nu < _; omega) (by show i + 2 < _; omega) (fun _ Q w1 w0 => ⟨_, _, h, Or.inr (Or.inr (Or.inr (Or.inr (Or.inr (Or.inr (Or.inr ⟨rfl, ht_11 ok e h (by decide) rfl rfl rfl rfl rfl rfl (by rw [et]; exact ob2) (by omega) bt1 (fun P p => ⟨_, _, h, Or.inr ⟨rfl, hv_ch h ⟨_, rfl, ?_⟩⟩⟩) ?_⟩))))))⟩) (fun z => q1 (key.mp (by rw [← et]; exact z))) (fun z => q0 (fun y => z (by rw [et]; exact key.mpr y)))
  · obtain ⟨cs, c1, c2, -⟩ := e.2.2.2.1
    obtain ⟨fx, x1, x2⟩ := e.2.2.2.2
    refine i_R c1 (by decide) c2 (hv_pl h ⟨_, rfl, i_aI x1 (nI_1 i) hi (by omega) ?_⟩)
    rw [x2 (i + 1) hi]; exact p
  · by_cases e0 : (C.2 1 t = 0 ∧ C.2 1 (C.2 15 i) = 0) ∧ C.2 1 (C.2 15 (i + 1)) = 0
    · rw [if_pos e0]; exact w0 (fun z => z e0)
    · rw [if_neg e0]; exact w1 e0
theorem hm_k6 (ok : z_ok C) (h13 : C.1 13 < 2) (e : eR C σ x0 ch kk kc) (e' : eW C σ wy) (h : σ.2 a = some (sC 6 ch x0 i f q t fm nu)) (hi : i < C.1 34) (et : t = C.2 15 i) (q1 : z_may C 6 i 1 0 = true → Q 1) (q0 : ¬ z_may C 6 i 1 0 = true → Q 0) : wX0_may Q σ x0 (some wy) (some a) (nI (C.1 34)) := by
  have o := ok.1
  have ht : t < C.1 0 := by rw [et]; exact ok.2.2.2.1 _ hi
  have fb := ht_fb e ht
  have key := key_may (C := C) (i := i) (k := 6) (w := 0) (m := 1) (tf := C.2 1 t ≠ 0) (by decide) (by
    rw [ex_1, Nat.add_zero, fen_iff, ← et])
  refine hm_may ok h13 e e' (by decide) h (by omega) (by show 0 < _; decide) (by show i + 1 < _; omega) (fun _ Q w1 w0 => ⟨_, _, h, Or.inr (Or.inr (Or.inr (Or.inr (Or.inl ⟨rfl, ht_9 ok e h (by decide) rfl rfl ht ?_⟩))))⟩) (fun z => q1 (key.mp z)) (fun z => q0 (fun y => z (key.mpr y)))
  by_cases e0 : C.2 1 t = 0
  · rw [e0]; exact w0 (fun z => z e0)
  · rw [show C.2 1 t = 1 by omega]; exact w1 e0
theorem hm_k7 (ok : z_ok C) (h13 : C.1 13 < 2) (e : eR C σ x0 ch kk kc) (e' : eW C σ wy) (h : σ.2 a = some (sC 7 ch x0 i f q t fm nu)) (h1 : 1 ≤ nu) (hi : i + nu ≤ C.1 34) (et : t = C.2 15 i) (q1 : z_may C 7 i nu nu = true → Q 1) (q0 : ¬ z_may C 7 i nu nu = true → Q 0) : wX0_may Q σ x0 (some wy) (some a) (nI (C.1 34)) := by
  have o := ok.1
  have key := key_may (C := C) (i := i) (k := 7) (w := nu) (m := nu) (tf := ∃ d, d < nu ∧ C.2 1 (C.2 15 (i + d)) ≠ 0) (by decide) (by
    constructor
    · rintro ⟨a1, d, a2, a3⟩
      exact ⟨d, a2, fen_iff.mpr ⟨a1, a3⟩⟩
    · rintro ⟨d, a2, a3⟩
      exact ⟨(fen_iff.mp a3).1, d, a2, (fen_iff.mp a3).2⟩)
  refine hm_may ok h13 e e' (by decide) h (by omega) (by show nu < _; omega) (by show i + nu < _; omega) (fun _ Q w1 w0 => ⟨_, _, h, Or.inr (Or.inr (Or.inr (Or.inr (Or.inr (Or.inl ⟨rfl, ht_13 ok e h et h1 hi (fun z => w0 (fun ⟨d, a, b⟩ => b (z d a))) (fun z => w1 z)⟩)))))⟩) (fun z => q1 (key.mp z)) (fun z => q0 (fun y => z (key.mpr y)))
/-! prices -/
theorem hp_tab (ok : z_ok C) (e : eR C σ x0 ch kk kc) {w t : Nat} (hw : w < 3) (ht : t < C.1 0) {v u : Int32} (hv : v = nI w) (hu : u = nI t) (p : Q (nI (C.2 2 (12 * w + t)))) : c_R σ [0] x0 2 (fun r => ∃ a, r = some a ∧ c_aR 3 σ a v (fun r => ∃ a, r = some a ∧ c_aI σ a u Q)) := by
  have o := ok.1
  obtain ⟨gs, g1, -, -, g3, -⟩ := e.1
  obtain ⟨pf, p1, p2⟩ := e.2.2.1
  obtain ⟨b, g, p3, p4, p5⟩ := p2 w hw
  refine i_R g1 (by decide) g3 ⟨_, rfl, i_aR p1 hv hw (by decide) ⟨b, p3, i_aI p4 hu (by omega) (by decide) ?_⟩⟩
  rw [p5 t ht]; exact p
/-- what a step costs, but for lost ones at the end -/
def sPr (C : Cf) (k i t nu : Nat) : Nat := match k with
  | 0 => 0 | 1 => C.2 2 t | 2 => C.2 2 (24 + C.2 15 i) | 3 => C.1 3 | 4 => C.2 12 (4 * nu + 3) | 5 => C.2 12 (12 + 4 * nu + 3) | 6 => C.2 2 (12 + t) | _ => C.1 4 + nu
theorem hp_price (ok : z_ok C) (e : eR C σ x0 ch kk kc) (hk : k ≤ 7) (h : σ.2 a = some (sC k ch x0 i f q t fm nu)) (ht : t < C.1 0) (hi : k = 2 → i < C.1 34) (hfm : (k = 4 → hF C σ fm 0 nu) ∧ (k = 5 → hF C σ fm 1 nu)) (w : Q (nI (sPr C k i t nu))) : vX8_price σ Q a := by
  have o := ok.1
  obtain ⟨gs, g1, g0, g11, g2, g3, g4, -⟩ := e.1
  obtain ⟨pf, p1, p2⟩ := e.2.2.1
  match k with
  | 0 => exact ⟨_, _, h, Or.inl ⟨rfl, w⟩⟩
  | 1 =>
    obtain ⟨b, g, p3, p4, p5⟩ := p2 0 (by decide)
    refine ⟨_, _, h, Or.inr (Or.inl ⟨rfl, i_R h (by decide) rfl ⟨_, rfl, i_R g1 (by decide) g2 ⟨_, rfl, i_aR p1 (j := 0) rfl (by decide) (by decide) (i_I h (by decide) rfl ⟨b, p3, i_aI p4 rfl (by omega) (by decide) ?_⟩)⟩⟩⟩)⟩
    rw [p5 t ht, show 12 * 0 + t = t by omega]; exact w
  | 2 =>
    have hi := hi rfl
    have bt := ok.2.2.2.1 i hi
    obtain ⟨b, g, p3, p4, p5⟩ := p2 2 (by decide)
    obtain ⟨cs, c1, c2, -⟩ := e.2.2.2.1
    obtain ⟨fx, x1, x2⟩ := e.2.2.2.2
    refine ⟨_, _, h, Or.inr (Or.inr (Or.inl ⟨rfl, i_R h (by decide) rfl ⟨_, rfl, i_R g1 (by decide) g2 ⟨_, rfl, i_aR p1 (j := 2) rfl (by decide) (by decide) (i_R h (by decide) rfl ⟨_, rfl, i_R c1 (by decide) c2 (i_I h (by decide) rfl ⟨_, rfl, i_aI x1 rfl hi (by omega) ⟨b, p3, i_aI p4 (x2 i hi) (by omega) (by decide) ?_⟩⟩)⟩)⟩⟩⟩))⟩
    rw [p5 _ bt, show 12 * 2 + C.2 15 i = 24 + C.2 15 i by omega]; exact w
  | 3 => exact ⟨_, _, h, Or.inr (Or.inr (Or.inr (Or.inr (Or.inr (Or.inr (Or.inl ⟨rfl, i_R h (by decide) rfl ⟨_, rfl, i_I g1 (by decide) g3 w⟩⟩))))))⟩
  | 4 =>
    have hf := hfm.1 rfl
    unfold hF at hf
    rw [show 12 * 0 + 4 * nu = 4 * nu by omega] at hf
    exact ⟨_, _, h, Or.inr (Or.inr (Or.inr (Or.inl ⟨rfl, i_R h (by decide) rfl ⟨_, rfl, i_I hf (by decide) rfl w⟩⟩)))⟩
  | 5 =>
    have hf := hfm.2 rfl
    unfold hF at hf
    rw [show 12 * 1 + 4 * nu = 12 + 4 * nu by omega] at hf
    exact ⟨_, _, h, Or.inr (Or.inr (Or.inr (Or.inr (Or.inr (Or.inr (Or.inr ⟨rfl, i_R h (by decide) rfl ⟨_, rfl, i_I hf (by decide) rfl w⟩⟩))))))⟩
  | 6 =>
    obtain ⟨b, g, p3, p4, p5⟩ := p2 1 (by decide)
    refine ⟨_, _, h, Or.inr (Or.inr (Or.inr (Or.inr (Or.inl ⟨rfl, i_R h (by decide) rfl ⟨_, rfl, i_R g1 (by decide) g2 ⟨_, rfl, i_aR p1 (j := 1) rfl (by decide) (by decide) (i_I h (by decide) rfl ⟨b, p3, i_aI p4 rfl (by omega) (by decide) ?_⟩)⟩⟩⟩))))⟩
    rw [p5 t ht, show 12 * 1 + t = 12 + t by omega]; exact w
  | 7 => exact ⟨_, _, h, Or.inr (Or.inr (Or.inr (Or.inr (Or.inr (Or.inl ⟨rfl, i_R h (by decide) rfl ⟨_, rfl, i_I g1 (by decide) g4 (i_I h (by decide) rfl (by rw [nI_add]; exact w))⟩⟩)))))⟩
  | k + 8 => omega
/-- with the price at the end -/
theorem hp_of (ok : z_ok C) (e : eR C σ x0 ch kk kc) (e' : eW C σ wy) (hk : k ≤ 7) (h : σ.2 a = some (sC k ch x0 i f q t fm nu)) (ht : t < C.1 0) (hi : i ≤ C.1 34) (hi2 : k = 2 → i < C.1 34) (hfm : (k = 4 → hF C σ fm 0 nu) ∧ (k = 5 → hF C σ fm 1 nu)) (w : Q (nI (if k = 1 ∧ i = C.1 34 ∧ 1 < C.1 33 then (if C.1 33 = 2 then 1 else 0) else sPr C k i t nu))) : wX0_priceOf Q σ (some wy) (some a) (nI (C.1 34)) := by
  have o := ok.1
  obtain ⟨-, fr, to, wo, h1, h2, -⟩ := e'
  have p34 : ¬ (k = 1 ∧ i = C.1 34 ∧ 1 < C.1 33) → wX0_priceOf_34 Q σ (some a) := by
    intro hn
    rw [if_neg hn] at w
    exact ⟨_, rfl, hp_price ok e hk h ht hi2 hfm w⟩
  have p20 : ¬ (k = 1 ∧ i = C.1 34) → wX0_priceOf_20 Q σ (some wy) (some a) := by
    intro hn
    exact br_p rfl (p34 (fun z => hn ⟨z.1, z.2.1⟩))
  refine ⟨_, rfl, hv_kind hk h ?_⟩
  refine pk_eq k 1 (fun e1 => hv_pl h ?_) (fun e1 => p20 (fun z => e1 z.1)) rfl rfl (by omega) (by decide)
  refine pk_eq i (C.1 34) (fun e2 => ?_) (fun e2 => p20 (fun z => e2 z.2)) rfl rfl (by omega) (by omega)
  refine br_n (by decide) ⟨_, rfl, i_I h1 (by decide) rfl ?_⟩
  refine pk_lt 1 (C.1 33) (fun e3 => i_I h1 (by decide) rfl ?_) (fun e3 => p34 (by omega)) rfl rfl (by decide) (by omega)
  rw [if_pos ⟨e1, e2, e3⟩] at w
  refine pk_eq (C.1 33) 2 (fun e4 => ?_) (fun e4 => ?_) rfl rfl (by omega) (by decide)
  · rw [if_pos e4] at w; exact w
  · rw [if_neg e4] at w; exact w
end KINDS
