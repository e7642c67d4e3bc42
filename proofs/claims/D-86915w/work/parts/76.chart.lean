/-! PLAIN LAW, the component: a chart is made -/
set_option maxRecDepth 100000
theorem cE.kc {C : Cf} {ow : Nat → Nat} {σ : gH} {x0 : Nat} {kk kc kc' : Nat → Nat} (h : cE C ow σ x0 kk kc) (h1 : kc' 1 = kc 1) (h2 : kc' 2 = kc 2) : cE C ow σ x0 kk kc' := by
  unfold cE at h ⊢
  rw [h1, h2]
  exact h
theorem i_Pc {ow : Nat → Nat} {σ : gH} {P : gH → Prop} {ch k : Nat} {fs fs' : List Value} {v : Value} (hc : hat ow σ ch 200 (cO 7 fs)) (hs : fs.set k v = fs') (hk : k < fs.length) (w : ∀ σ', hmv [200] ow σ ow σ' → hat ow σ' ch 200 (cO 7 fs') → P σ') : c_P σ [7] ch k v P := by
  refine i_Pf fs' hc.1 (by decide) hs hk ?_
  exact w _ (hmv.rf.up hc (by decide) rfl) hc.set
theorem i_new {ow : Nat → Nat} {σ : gH} {P : Nat → gH → Prop} {e : gCell} (t : Nat) (w : ∀ q ow' σ', hmv [] ow σ ow' σ' → hat ow' σ' q t e → P q σ') : c_new σ e P := by
  intro q σ' hq e
  subst e
  exact w q (va_up ow q t) _ (hmv.rf.new t hq) (hat.nw t)
abbrev TIn : List Nat := List.range' 200 62 ++ List.range' 1000 660
theorem memIn {t : Nat} : t ∈ TIn ↔ (200 ≤ t ∧ t < 262) ∨ (1000 ≤ t ∧ t < 1660) := by
  simp only [TIn, List.mem_append, List.mem_range'_1]
abbrev TI2 : List Nat := List.range' 200 62
theorem memI2 {t : Nat} : t ∈ TI2 ↔ 200 ≤ t ∧ t < 262 := by rw [List.mem_range'_1]
def kcOf (ch tx wy a3 a4 a6 a7 a8 : Nat) : Nat → Nat := fun k => if k = 0 then ch else if k = 1 then tx else if k = 2 then wy else if k = 3 then a3 else if k = 4 then a4 else if k = 6 then a6 else if k = 7 then a7 else a8
/-- the chart, made -/
def cCh (C : Cf) (ow : Nat → Nat) (σ : gH) (x0 : Nat) (kk kc : Nat → Nat) (N ns : Nat) (xs : Nat → Nat) : Prop := cM C ow σ x0 kk kc ∧ cMo C ow σ kc ∧ (cL C ow σ kc x0 N ns xs ∧ ns ≤ 420 ∧ ∀ i, i ≤ C.1 34 → dLo C ow σ kc x0 ns xs i) ∧ cSkR C ow σ kc x0 (C.1 34) ∧ cSg C ow σ kc (fun i j => i ≤ j ∧ j ≤ C.1 34) ∧ ∃ X1, r_cube ow σ (kk 13) 12 1000 X1 ∧ cRd C X1
theorem c_init {C : Cf} {ow : Nat → Nat} {σ : gH} {x0 ch tx wy mc ms : Nat} {kk : Nat → Nat} {Q : gH → Prop} {X : Nat → Nat → Nat → Int64} (ok : z_ok C) (hE : cE C ow σ x0 kk (fun k => if k = 1 then tx else wy)) (hch : hat ow σ ch 200 (cO 7 [.null, .int 0, .null, .null, .null, .int 0, .null, .null, .null, .null, .null, .null, .null])) (hX : r_cube ow σ (kk 13) 12 1000 X) (hmc : 1929 ≤ mc) (hms : 65600 ≤ ms)
    (w : ∀ kc ow' σ' N ns xs, kc 0 = ch → kc 1 = tx → kc 2 = wy → hmv TIn ow σ ow' σ' → cCh C ow' σ' x0 kk kc N ns xs → Q σ') : wX7_init Q mc ms ch (some x0) (some tx) (some wy) σ := by
  have o := ok.1
  have c12 : (12 : Int32).toNatClampNeg = 12 := rfl
  have c55 : (55 : Int32).toNatClampNeg = 55 := rfl
  obtain ⟨fs, hf, hof⟩ := hE.2.1
  obtain ⟨ft, hft, -⟩ := hE.2.2.2.2.2.1
  unfold wX7_init
  rw [c12, c55]
  refine i_Pc hch rfl (by simp) (fun σ1 m1 h1 => ⟨by omega, by omega, by decide, by decide, i_new (ow := ow) 201 (fun a3 ow2 σ2 m2 k3 => ?_)⟩)
  refine i_Pc (h1.mv m2 (by simp)) rfl (by simp) (fun σ3 m3 h3 => ⟨by omega, by omega, by decide, by decide, i_new (ow := ow2) 202 (fun a4 ow4 σ4 m4 k4 => ?_)⟩)
  refine i_Pc (h3.mv m4 (by simp)) rfl (by simp) (fun σ5 m5 h5 => ⟨by omega, by omega, i_new (ow := ow4) 203 (fun a6 ow6 σ6 m6 k6 => ?_)⟩)
  unfold wJ2_init wJ1_init wJ0_init
  refine i_Pf [.int 0, .null, .int 0] k6.1 (by decide) rfl (by decide) ?_
  refine i_Pf [.int 0, .ref σ6.1.1, .int 0] k6.set.1 (by decide) rfl (by decide) ?_
  rw [g_up_up]
  have m7 : hmv [203] ow6 σ6 ow6 (g_up σ6 a6 (cO 18 [.int 0, .ref σ6.1.1, .int 0])) := hmv.rf.up k6 (by decide) rfl
  have k7 := k6.set (x := cO 18 [.int 0, .ref σ6.1.1, .int 0])
  have e7 : (g_up σ6 a6 (cO 18 [.int 0, .ref σ6.1.1, .int 0])).1.1 = σ6.1.1 := rfl
  obtain ⟨σ7, hσ7⟩ : ∃ σ7, σ7 = g_up σ6 a6 (cO 18 [.int 0, .ref σ6.1.1, .int 0]) := ⟨_, rfl⟩
  rw [← hσ7] at m7 k7 e7 ⊢
  refine i_Pc ((h5.mv m6 (by simp)).mv m7 (by decide)) rfl (by simp) (fun σ8 m8 h8 => ⟨by omega, by omega, c_m2_i (ow := ow6) 0 210 (fun a7 ow9 σ9 m9 k9 k9' => ?_)⟩)
  refine i_Pc (h8.mv m9 (by simp)) rfl (by simp) (fun σ10 m10 h10 => ⟨by omega, by omega, c_m2_i (ow := ow9) 0 230 (fun a8 ow11 σ11 m11 k11 k11' => ?_)⟩)
  have M11 : hmv TI2 ow σ ow11 σ11 := by
    have s0 : ∀ t ∈ ([] : List Nat), t ∈ TI2 := by simp
    have s1 : ∀ t ∈ [200], t ∈ TI2 := by intro t ht; rw [List.mem_singleton] at ht; rw [memI2]; omega
    have s2 : ∀ t ∈ [203], t ∈ TI2 := by intro t ht; rw [List.mem_singleton] at ht; rw [memI2]; omega
    exact ((((((((((m1.sub s1).tr (m2.sub s0)).tr (m3.sub s1)).tr (m4.sub s0)).tr (m5.sub s1)).tr (m6.sub s0)).tr (m7.sub s2)).tr (m8.sub s1)).tr (m9.sub s0)).tr (m10.sub s1)).tr (m11.sub s0)
  refine i_Pc (h10.mv m11 (by simp)) rfl (by simp) (fun σ12 m12 h12 => ?_)
  have s1 : ∀ t ∈ [200], t ∈ TI2 := by intro t ht; rw [List.mem_singleton] at ht; rw [memI2]; omega
  have f12 := (hf.mv M11 (by rw [memI2]; omega)).mv m12 (by decide)
  refine i_R h12.1 (by decide) rfl ⟨_, rfl, i_R f12.1 (by decide) hof.2.2.1 (i_Pc h12 rfl (by simp) (fun σ13 m13 h13 => ?_))⟩
  have f13 := f12.mv m13 (by decide)
  refine i_R h13.1 (by decide) rfl ⟨_, rfl, i_R f13.1 (by decide) hof.2.2.2.1 (i_Pc h13 rfl (by simp) (fun σ14 m14 h14 => ?_))⟩
  have f14 := f13.mv m14 (by decide)
  refine i_R h14.1 (by decide) rfl ⟨_, rfl, i_R f14.1 (by decide) hof.2.2.2.2 (i_Pc h14 rfl (by simp) (fun σ15 m15 h15 => i_Pc h15 rfl (by simp) (fun σ16 m16 h16 => i_Pc h16 rfl (by simp) (fun σ17 m17 h17 => ?_))))⟩
  have M17 : hmv [200] ow11 σ11 ow11 σ17 := ((((m12.tr m13).tr m14).tr m15).tr m16).tr m17
  have ft17 := (hft.mv M11 (by rw [memI2]; omega)).mv M17 (by decide)
  refine ⟨tx, rfl, Or.inl ⟨0, _, by decide, ft17.1, i_Pc h17 rfl (by simp) (fun σ18 m18 h18 => ⟨_, h18.1, 1900, 65200, by omega, by omega, ?_⟩)⟩⟩
  have M18 := M17.tr m18
  have MM : hmv TI2 ow σ ow11 σ18 := M11.tr (M18.sub s1)
  have hE18 : cE C ow11 σ18 x0 kk (kcOf ch tx wy a3 a4 a6 a7 a8) := (((hE.mv M11 (by intro t ht; rw [memI2] at ht; omega)).mv M18 (by intro t ht; rw [List.mem_singleton] at ht; omega))).kc rfl rfl
  have K3 : hat ow11 σ18 a3 201 (cI 12 (fun _ => 0)) := ((((((((k3.mv m3 (by decide)).mv m4 (by simp)).mv m5 (by decide)).mv m6 (by simp)).mv m7 (by decide)).mv m8 (by decide)).mv m9 (by simp)).mv m10 (by decide)).mv m11 (by simp) |>.mv M18 (by decide)
  have K4 : hat ow11 σ18 a4 202 (cI 55 (fun _ => 0)) := ((((((k4.mv m5 (by decide)).mv m6 (by simp)).mv m7 (by decide)).mv m8 (by decide)).mv m9 (by simp)).mv m10 (by decide)).mv m11 (by simp) |>.mv M18 (by decide)
  have m8s : hmv [200] ow6 σ7 ow11 σ18 := (((m8.tr (m9.sub (by simp))).tr m10).tr (m11.sub (by simp))).tr M18
  have K6 : r_lsN ow11 σ18 a6 203 204 0 0 (fun _ => 0) := ⟨0, σ6.1.1, k7.mv m8s (by decide), Or.inl ⟨rfl, by rw [m8s.1, e7], rfl⟩⟩
  have m10s : hmv [200] ow9 σ9 ow11 σ18 := (m10.tr (m11.sub (by simp))).tr M18
  have K7 : cSkR C ow11 σ18 (kcOf ch tx wy a3 a4 a6 a7 a8) x0 0 := ⟨_, k9.mv m10s (by decide), fun i hi => ⟨_, fun _ => none, rfl, (k9' i hi).mv m10s (by rw [List.mem_singleton]; omega), fun z => by omega⟩⟩
  have K8 : cSg C ow11 σ18 (kcOf ch tx wy a3 a4 a6 a7 a8) (fun _ _ => False) := ⟨_, k11.mv M18 (by decide), fun i hi => ⟨_, fun _ => 0, rfl, (k11' i hi).mv M18 (by rw [List.mem_singleton]; omega), fun j z => z.elim⟩⟩
  refine c_knots (kc := kcOf ch tx wy a3 a4 a6 a7 a8) ok hE18 h18 K3 K4 K6 K7 (Nat.le_refl _) (Nat.le_refl _) (fun ow19 σ19 N ns xs m19 hM hMo hL hns hd hR => ⟨_, hM.2.1.1, ?_⟩)
  have K8' := K8.mv m19 (by rw [memTKK]; omega) (by intro t ht; rw [memTKK] at ht; omega)
  have X19 := (hX.mv MM (by rw [memI2]; omega) (by intro t ht; rw [memI2] at ht; omega))
  have X20 := X19.mv m19 (by rw [memTKK]; omega) (by intro t ht; rw [memTKK] at ht; omega)
  refine c_skipping ok hM hR K8' (fun ow20 σ20 m20 hS => ?_)
  have hM20 := hM.mv m20 (by intro t ht; rw [memSg] at ht; omega)
  have hMo20 := hMo.mv m20 (by rw [memSg]; omega)
  have hL20 := hL.mv m20 (by rw [memSg]; omega) (by rw [memSg]; omega) (by rw [memSg]; omega)
  have hR20 := hR.mv m20 (by rw [memSg]; omega) (by intro t ht; rw [memSg] at ht; omega)
  have hd20 : ∀ i, i ≤ C.1 34 → dLo C ow20 σ20 (kcOf ch tx wy a3 a4 a6 a7 a8) x0 ns xs i := fun i hi k f q t pr fo a b c => (hd i hi k f q t pr fo a b c).mv m20 (by rw [memSg]; omega)
  have XX := X20.mv m20 (by rw [memSg]; omega) (by intro t ht; rw [memSg] at ht; omega)
  refine ⟨_, hM20.2.1.1, c_reading ok hM20 hMo20 hL20 hns hd20 hS XX (fun σ21 X1 m21 x21 d21 => ?_)⟩
  refine w (kcOf ch tx wy a3 a4 a6 a7 a8) ow20 σ21 N ns xs rfl rfl rfl ?_ ⟨hM20.mv m21 (by intro t ht; rw [memRd] at ht; omega), hMo20.mv m21 (by rw [memRd]; omega), ⟨hL20.mv m21 (by rw [memRd]; omega) (by rw [memRd]; omega) (by rw [memRd]; omega), hns, fun i hi k f q t pr fo a b c => (hd20 i hi k f q t pr fo a b c).mv m21 (by rw [memRd]; omega)⟩, hR20.mv m21 (by rw [memRd]; omega) (by intro t ht; rw [memRd] at ht; omega), hS.mv m21 (by rw [memRd]; omega) (by intro t ht; rw [memRd] at ht; omega), X1, x21, d21⟩
  refine (((MM.sub (fun t ht => List.mem_append.mpr (Or.inl ht))).tr (m19.sub ?_)).tr (m20.sub ?_)).tr (m21.sub ?_)
  · intro t ht; rw [memTKK] at ht; rw [memIn]; omega
  · intro t ht; rw [memSg] at ht; rw [memIn]; omega
  · intro t ht; rw [memRd] at ht; rw [memIn]; omega
