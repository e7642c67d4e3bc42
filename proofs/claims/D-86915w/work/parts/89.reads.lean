/-! PLAIN LAW, the component: reads -/
set_option maxRecDepth 100000
abbrev TRs : List Nat := [1, 7, 13, 17] ++ List.range' 120 7 ++ List.range' 200 62 ++ List.range' 1000 660 ++ List.range' 2000 440 ++ List.range' 3000 5280
theorem memRs {t : Nat} : t ∈ TRs ↔ t = 1 ∨ t = 7 ∨ t = 13 ∨ t = 17 ∨ (120 ≤ t ∧ t < 127) ∨ (200 ≤ t ∧ t < 262) ∨ (1000 ≤ t ∧ t < 1660) ∨ (2000 ≤ t ∧ t < 2440) ∨ (3000 ≤ t ∧ t < 8280) := by
  simp only [TRs, List.mem_append, List.mem_range'_1, List.mem_cons, List.not_mem_nil, or_false]
  omega
abbrev st0 : St := ((0, 0, 0), (fun _ => 0), (fun _ => 0), (fun _ => 0))
theorem vU_id (g : Nat → Value) {k : Nat} {v : Value} (h : g k = v) : vU g k v = g := by
  funext j
  unfold vU
  by_cases e : j = k
  · rw [if_pos e, e, h]
  · rw [if_neg e]
def kkT (kk : Nat → Nat) (tr : Nat) : Nat → Nat := fun j => if j = 18 then tr else kk j
/-- the object after reads -/
def rE (C : Cf) (ow : Nat → Nat) (σ : gH) (x0 : Nat) (kk : Nat → Nat) (g : Nat → Value) (x1 x2 x3 price : Int32) (N : Nat) (st : St) : Prop := ∃ g' wy tr sl kc, hat ow σ x0 1 (cO 0 (oL g')) ∧ (g' 17 = .ref wy ∧ g' 18 = .ref tr ∧ g' 12 = .int 0 ∧ g' 20 = .ref sl ∧ g' 16 = .int price ∧ g' 22 = .int (nI st.1.2.1) ∧ ∀ j, j ≠ 12 → j ≠ 16 → j ≠ 17 → j ≠ 18 → j ≠ 20 → j ≠ 22 → g' j = g j) ∧ hat ow σ wy 0 (cO 6 [.int x1, .int x2, .int x3, .null]) ∧ r_slips ow σ sl st.1.1 st.2.1 ∧ wL C ow σ x0 kk kc N st ∧ wT ow σ (kkT kk tr) st ∧ (∃ X1, r_cube ow σ (kk 13) 12 1000 X1) ∧ ∃ X2 X3, lC ow σ kk X2 X3
section RDS
variable {C : Cf} {ow ow' : Nat → Nat} {σ σ' : gH} {x0 : Nat} {kk ru : Nat → Nat} {g : Nat → Value}
/-- what reads stands on -/
def rI (C : Cf) (ow : Nat → Nat) (σ : gH) (x0 : Nat) (kk ru : Nat → Nat) (g : Nat → Value) (N n : Nat) (xl : Nat → Nat) : Prop := hat ow σ x0 1 (cO 0 (oL g)) ∧ oG C kk g ∧ cEv C ow σ kk ∧ cTx C ow σ (kk 11) ∧ cRu C ow σ kk ru ∧ (∃ X1, r_cube ow σ (kk 13) 12 1000 X1) ∧ (∃ X2 X3, lC ow σ kk X2 X3) ∧ (r_lsN ow σ (kk 19) 13 17 N n xl ∧ N ≤ 1000) ∧ ∃ f, hat ow σ (kk 21) 7 (cI 300 f)
theorem wL.mv {T : List Nat} {kc : Nat → Nat} {N : Nat} {st : St} (h : wL C ow σ x0 kk kc N st) (m : hmv T ow σ ow' σ') (t0 : 0 ∉ T) (t1 : 13 ∉ T) (t2 : 17 ∉ T) : wL C ow' σ' x0 kk kc N st := by
  obtain ⟨l0, l1, xl, l2, l3⟩ := h
  refine ⟨l0, l1, xl, l2.mv m t1 t2, fun j hj => ?_⟩
  obtain ⟨k, i, w, pr, s1, s2⟩ := l3 j hj
  exact ⟨k, i, w, pr, s1.mv m t0, s2⟩
theorem wT.mv {T : List Nat} {st : St} (h : wT ow σ kk st) (m : hmv T ow σ ow' σ') (t0 : 7 ∉ T) (t1 : ∀ t ∈ T, t < 120 ∨ 127 ≤ t) : wT ow' σ' kk st := by
  obtain ⟨⟨f, f1, f2⟩, tc, f', h1, h2, h3⟩ := h
  refine ⟨⟨f, f1.mv m t0, f2⟩, tc, f', h1.mv m (fun z => by have := t1 _ z; omega), h2.mv m (fun z => by have := t1 _ z; omega), fun w hw => ?_⟩
  obtain ⟨b, h, q1, q2, q3⟩ := h3 w hw
  exact ⟨b, h, q1, q2.mv m (fun z => by have := t1 _ z; omega), q3⟩
theorem i_gr {Q0 : Nat → gH → Prop} {a b : Option Nat} (w : ∀ q ow' σ', hmv [] ow σ ow' σ' → hat ow' σ' q 206 (cO 16 [va_rf b, va_rf a]) → Q0 q σ') : c_new σ (.inr (16, [.null, .null])) (fun q σ' => wX16_init (fun σ2 => Q0 q σ2) q a b σ') := by
  intro q σ' hq e
  subst e
  have k1 : hat (va_up ow q 206) (g_up σ q (cO 16 [.null, .null])) q 206 (cO 16 [.null, .null]) := hat.nw 206
  unfold wX16_init
  refine i_Pf [.null, va_rf a] k1.1 (by decide) rfl (by simp) ?_
  rw [g_up_up]
  have k2 : hat (va_up ow q 206) (g_up σ q (cO 16 [.null, va_rf a])) q 206 (cO 16 [.null, va_rf a]) := hat.nw 206
  refine i_Pf [va_rf b, va_rf a] k2.1 (by decide) rfl (by simp) ?_
  rw [g_up_up]
  exact w q (va_up ow q 206) _ (hmv.rf.new 206 hq) (hat.nw 206)
theorem vU_vU (g : Nat → Value) (k : Nat) (v v' : Value) : vU (vU g k v) k v' = vU g k v' := by
  funext j
  unfold vU
  by_cases e : j = k
  · rw [if_pos e, if_pos e]
  · rw [if_neg e, if_neg e, if_neg e]
/-- reads, up to the best end -/
theorem c_reads1 {Q : Int32 → gH → Prop} {mc ms N n : Nat} {xl : Nat → Nat} {x1 x2 x3 : Int32} (ok : z_ok C) (h : rI C ow σ x0 kk ru g N n xl) (h56 : C.1 5 ≠ 0 → C.1 6 < C.1 5) (hb : C.1 18 < 1000000 ∧ C.1 19 < 1000000 ∧ C.1 36 < 1000000 ∧ C.1 37 < 1000000 ∧ C.1 35 = 0) (e33 : x1 = nI (C.1 33)) (e18 : C.1 33 = 1 → x2 = nI (C.1 18) ∧ x3 = nI (C.1 19)) (hmc : 2400 ≤ mc) (hms : 71000 ≤ ms)
    (w0 : C.1 5 = 0 → Q (-3) σ)
    (w1 : C.1 5 ≠ 0 → z_nob C → ∀ ow' σ', hmv TRs ow σ ow' σ' → rE C ow' σ' x0 kk g x1 x2 x3 (-4) N st0 → Q (-4) σ')
    (w2 : C.1 5 ≠ 0 → ∀ i a b, z_bst C i a b → 100 < b → ∀ ow' σ', hmv TRs ow σ ow' σ' → rE C ow' σ' x0 kk g x1 x2 x3 (nI a) N st0 → Q (nI a) σ')
    (w3 : C.1 5 ≠ 0 → ∀ i a b, z_bst C i a b → b ≤ 100 → ∀ ow' σ' N', hmv TRs ow σ ow' σ' → N' ≤ 1000 → rE C ow' σ' x0 kk g x1 x2 x3 (nI a) N' (y_sk C (C.1 34) 12 i (y_nm C 100 (C.1 6) 0 (5 * i) (-4) st0)) → Q (nI a) σ') : wX0_reads Q mc ms x0 x1 x2 x3 σ := by
  have o := ok.1
  have nk := nK_le ok
  obtain ⟨hx, hg, hv, ht, hRu, ⟨X1, hX1⟩, ⟨X2, X3, hC⟩, ⟨hl, hN⟩, ff, hwd⟩ := h
  unfold wX0_reads
  refine i_Io hx (by decide) hg.2.1.1 ?_
  refine pk_eq (C.1 5) 0 (fun e => w0 e) (fun e5 => ?_) rfl nI_0.symm (by omega) (by decide)
  have h6 := h56 e5
  refine ⟨by omega, by omega, i_way (ow := ow) (fun q3 ow1 σ1 m1 k1 => ?_)⟩
  have s0 : ∀ t ∈ ([] : List Nat), t ∈ TRs := by simp
  have s1 : ∀ t ∈ [1], t ∈ TRs := by intro t ht; rw [List.mem_singleton] at ht; rw [memRs]; omega
  have s120 : ∀ t ∈ [120], t ∈ TRs := by intro t ht; rw [List.mem_singleton] at ht; rw [memRs]; omega
  have sIn : ∀ t ∈ TIn, t ∈ TRs := by intro t ht; rw [memIn] at ht; rw [memRs]; omega
  have sFi : ∀ t ∈ TFi, t ∈ TRs := by intro t ht; rw [memFi] at ht; rw [memRs]; omega
  have sL : ∀ t ∈ [13, 17], t ∈ TRs := by intro t ht; simp only [List.mem_cons, List.not_mem_nil, or_false] at ht; rw [memRs]; omega
  refine i_Po (hx.mv m1 (by simp)) (by decide) (fun σ2 m2 x2' => ⟨by omega, by omega, i_new (ow := ow1) 200 (fun q7 ow3 σ3 m3 k3 => ?_)⟩)
  have M3 : hmv [1] ow σ ow3 σ3 := ((m1.sub (by simp)).tr m2).tr (m3.sub (by simp))
  have x3' := x2'.mv m3 (by simp)
  have g1 := hg.set (k := 17) (.ref q3) (by omega)
  refine i_Ro x3' (by decide) g1.2.2.2.1 (i_Ro x3' (by decide) (vU_s _ _ _) ⟨1929, 65600, by omega, by omega, ?_⟩)
  have hW3 : eWo C ow3 σ3 q3 := ⟨⟨hb.1, hb.2.1, hb.2.2.1, hb.2.2.2.1, by omega⟩, x2, x3, none, by rw [← e33]; exact (k1.mv m2 (by decide)).mv m3 (by simp), e18, Or.inl ⟨rfl, hb.2.2.2.2⟩⟩
  have hE3 := (hv.mv M3 (by intro t ht; rw [List.mem_singleton] at ht; omega)).E x3' g1 (ht.mv M3 (by decide)) hW3
  refine c_init ok hE3 k3 (hX1.mv M3 (by decide) (by intro t ht; rw [List.mem_singleton] at ht; omega)) (Nat.le_refl _) (Nat.le_refl _) (fun kc ow4 σ4 Nc ns xs kc0 kc1 kc2 m4 hCh => ?_)
  subst kc0
  have M4 : hmv TRs ow σ ow4 σ4 := (M3.sub s1).tr (m4.sub sIn)
  obtain ⟨hM4, hMo4, hL4, hSk4, hSg4, Y1, hY1, hRd⟩ := id hCh
  have m34 : hmv (1 :: TIn) ow σ ow4 σ4 := (M3.sub (by intro t ht; rw [List.mem_singleton] at ht; rw [ht]; exact List.mem_cons_self)).tr (m4.sub (fun t ht => List.mem_cons_of_mem _ ht))
  have mem34 : ∀ t ∈ 1 :: TIn, t = 1 ∨ (200 ≤ t ∧ t < 262) ∨ (1000 ≤ t ∧ t < 1660) := by
    intro t ht
    rcases List.mem_cons.mp ht with z | z
    · exact Or.inl z
    · exact Or.inr (memIn.mp z)
  have hRu4 : cRu C ow4 σ4 kk ru := by
    obtain ⟨⟨NN, r1, r2⟩, r3⟩ := hRu
    refine ⟨⟨NN, r1, r2.mv m34 (fun z => by have := mem34 _ z; omega) (fun z => by have := mem34 _ z; omega)⟩, fun r hr => ?_⟩
    obtain ⟨so, wh, f, g, a1, a2, a3, a4⟩ := r3 r hr
    exact ⟨so, wh, f, g, a1.mv m34 (fun z => by have := mem34 _ z; omega), a2.mv m34 (fun z => by have := mem34 _ z; omega), a3.mv m34 (fun z => by have := mem34 _ z; omega), a4⟩
  have hC4 : lC ow4 σ4 kk X2 X3 := ⟨hC.1.mv m34 (fun z => by have := mem34 _ z; omega) (fun t z => by have := mem34 _ z; omega), hC.2.mv m34 (fun z => by have := mem34 _ z; omega) (fun t z => by have := mem34 _ z; omega)⟩
  refine ⟨_, hM4.2.1.1, c_fill ok ⟨hM4, hRu4, Y1, hY1, hRd⟩ hC4 (fun σ5 Y2 Y3 m5 hC5 hG5 => ?_)⟩
  have M5 : hmv TRs ow σ ow4 σ5 := M4.tr (m5.sub sFi)
  have tFi : ∀ t ∈ TFi, 2000 ≤ t := by intro t ht; rw [memFi] at ht; omega
  have hF5 : cFu C ow4 σ5 x0 kk kc Nc ns xs ru Y2 Y3 := ⟨⟨hM4.mv m5 (fun t z => by have := tFi t z; omega), hMo4.mv m5 (fun z => by have := tFi _ z; omega), ⟨hL4.1.mv m5 (fun z => by have := tFi _ z; omega) (fun z => by have := tFi _ z; omega) (fun z => by have := tFi _ z; omega), hL4.2.1, fun i hi k f q t pr fo a b c => (hL4.2.2 i hi k f q t pr fo a b c).mv m5 (fun z => by have := tFi _ z; omega)⟩, hSk4.mv m5 (fun z => by have := tFi _ z; omega) (fun t z => by have := tFi _ z; omega), hSg4.mv m5 (fun z => by have := tFi _ z; omega) (fun t z => by have := tFi _ z; omega), Y1, hY1.mv m5 (fun z => by have := tFi _ z; omega) (fun t z => by have := tFi _ z; omega), hRd⟩, hRu4.mv ok m5 (fun t z => by have := tFi _ z; omega), hC5, hG5⟩
  have x5 := (x3'.mv m4 (by rw [memIn]; omega)).mv m5 (fun z => by have := tFi _ z; omega)
  have l5 := (hl.mv m34 (fun z => by have := mem34 _ z; omega) (fun z => by have := mem34 _ z; omega)).mv m5 (fun z => by have := tFi _ z; omega) (fun z => by have := tFi _ z; omega)
  refine i_Ro x5 (by decide) g1.2.2.2.2.1 ⟨_, rfl, ln_clear l5 (by decide) (by omega) (fun σ6 m6 l6 => ?_)⟩
  have x6 := x5.mv m6 (by decide)
  refine i_Po x6 (by decide) (fun σ7 m7 x7 => ?_)
  have g2 := g1.set (k := 22) (.int 0) (by omega)
  refine (i_tree (ow := ow4) (by omega) (by omega) (fun q21 tc ft ow8 σ8 m8 t1 t2 t3 => ?_))
  have x8 := x7.mv m8 (by decide)
  refine i_Po x8 (by decide) (fun σ9 m9 x9 => ⟨Or.inl rfl, i_Po x9 (by decide) (fun σ10 m10 x10 => ?_)⟩)
  refine (i_noslips (ow := ow8) (by omega) (by omega) (fun q28 ow11 σ11 m11 sl11 => ?_))
  have x11 := x10.mv m11 (by simp)
  refine i_Po x11 (by decide) (fun σ12 m12 x12 => ?_)
  obtain ⟨g5, hg5⟩ : ∃ g5, g5 = vU (vU (vU (vU (vU g 17 (va_rf (some q3))) 22 (.int 0)) 18 (va_rf (some q21))) 12 (.int 0)) 20 (va_rf (some q28)) := ⟨_, rfl⟩
  have G5 : oG C kk g5 := by
    rw [hg5]
    exact ((g2.set (k := 18) (va_rf (some q21)) (by omega)).set (k := 12) (.int 0) (by omega)).set (k := 20) (va_rf (some q28)) (by omega)
  rw [← hg5] at x12
  have M612 : hmv [1, 13, 17, 120] ow4 σ5 ow11 σ12 := (((((m6.sub (by decide)).tr (m7.sub (by decide))).tr (m8.sub (by decide))).tr ((m9.tr m10).sub (by decide))).tr (m11.sub (by simp))).tr (m12.sub (by decide))
  have M612' : hmv TW ow4 σ5 ow11 σ12 := M612.sub (by decide)
  have M12 : hmv TRs ow σ ow11 σ12 := M5.tr (M612.sub (by intro t ht; simp only [List.mem_cons, List.not_mem_nil, or_false] at ht; rw [memRs]; omega))
  have hF12 := hF5.mvW ok M612' ⟨_, x12, G5.F⟩
  have m712 : hmv [1, 120] ow4 σ6 ow11 σ12 := ((((m7.sub (by decide)).tr (m8.sub (by decide))).tr ((m9.tr m10).sub (by decide))).tr (m11.sub (by simp))).tr (m12.sub (by decide))
  have l12 := l6.mv m712 (by decide) (by decide)
  have m912 : hmv [1] ow8 σ8 ow11 σ12 := ((m9.tr m10).tr (m11.sub (by simp))).tr m12
  have t1' := t1.mv m912 (by decide)
  have t2' := t2.mv m912 (by decide)
  have wd12 := ((hwd.mv m34 (fun z => by have := mem34 _ z; omega)).mv m5 (fun z => by have := tFi _ z; omega)).mv M612 (by decide)
  have wy12 : hat ow11 σ12 q3 0 (cO 6 [.int x1, .int x2, .int x3, .null]) := ((((k1.mv m2 (by decide)).mv m3 (by simp)).mv m4 (by rw [memIn]; omega)).mv m5 (fun z => by have := tFi _ z; omega)).mv M612 (by decide)
  have rm0 : rmN N 0 := by
    obtain ⟨m, e, -, z⟩ := l12
    rcases z with z | z
    · exact Or.inl ⟨z.1, rfl⟩
    · exact Or.inr ⟨z.1, Nat.zero_le _⟩
  have kkE : ∀ j, j ≠ 18 → kkT kk q21 j = kk j := fun j h => by unfold kkT; rw [if_neg h]
  have wL0 : ∀ σ', hmv [1] ow11 σ12 ow11 σ' → wL C ow11 σ' x0 kk kc N st0 := fun σ' m => ⟨rm0, by omega, fun _ => 0, l12.mv m (by decide) (by decide), fun j hj => absurd hj (by show ¬ j < 0; omega)⟩
  have wT0 : ∀ σ', hmv [1] ow11 σ12 ow11 σ' → wT ow11 σ' (kkT kk q21) st0 := fun σ' m => by
    refine ⟨⟨ff, by rw [kkE 21 (by decide)]; exact wd12.mv m (by decide), fun i hi => absurd hi (by show ¬ i < 0; omega)⟩, tc, ft, t1'.mv m (by decide), t2'.mv m (by decide), fun k hk => ?_⟩
    obtain ⟨b, b1, b2⟩ := t3 k hk
    exact ⟨b, fun _ => 0, b1, (b2.mv m912 (by rw [List.mem_singleton]; omega)).mv m (by rw [List.mem_singleton]; omega), fun i hi => rfl⟩
  have rest5 : ∀ price j, j ≠ 12 → j ≠ 16 → j ≠ 17 → j ≠ 18 → j ≠ 20 → j ≠ 22 → vU g5 16 (.int price) j = g j := by
    intro price j a1 a2 a3 a4 a5 a6
    rw [vU_n _ _ a2, hg5, vU_n _ _ a5, vU_n _ _ a1, vU_n _ _ a4, vU_n _ _ a6, vU_n _ _ a3]
  have rE0 : ∀ price σ', hmv [1] ow11 σ12 ow11 σ' → hat ow11 σ' x0 1 (cO 0 (oL (vU g5 16 (.int price)))) → rE C ow11 σ' x0 kk g x1 x2 x3 price N st0 := by
    intro price σ' m hx'
    refine ⟨vU g5 16 (.int price), q3, q21, q28, kc, hx', ⟨by rw [hg5]; rfl, by rw [hg5]; rfl, by rw [hg5]; rfl, by rw [hg5]; rfl, rfl, by rw [hg5]; rfl, rest5 price⟩, wy12.mv m (by decide), (sl11 _).mv (m12.tr m) (by decide), wL0 σ' m, wT0 σ' m, ?_, Y2, Y3, hF12.2.2.1.1.mv m (by decide) (by intro t ht; rw [List.mem_singleton] at ht; omega), hF12.2.2.1.2.mv m (by decide) (by intro t ht; rw [List.mem_singleton] at ht; omega)⟩
    obtain ⟨-, -, -, -, -, X, hX, -⟩ := hF12.1
    exact ⟨X, hX.mv m (by decide) (by intro t ht; rw [List.mem_singleton] at ht; omega)⟩
  refine ⟨_, hF12.1.1.2.1.1, c_best ok hF12 h6 (fun nob => i_Po x12 (by decide) (fun σ13 m13 x13 => br_p rfl (w1 e5 nob ow11 σ13 (M12.tr (m13.sub s1)) (rE0 _ σ13 m13 x13)))) (fun i a b hbst => i_Po x12 (by decide) (fun σ13 m13 x13 => ?_))⟩
  obtain ⟨hi, ⟨pr, hMb, hkne, ea⟩, -⟩ := id hbst
  refine br_n (nI_ne4 (by omega)) ?_
  have G13 := G5.set (k := 16) (.int (-4)) (by omega)
  have hF13 := hF12.mvW ok (m13.sub (by decide)) ⟨_, x13, G13.F⟩
  obtain ⟨⟨hM, hMo, hL, hSk, ⟨s8, s81, s82⟩, hRd'⟩, hRu', hC', hG'⟩ := id hF13
  obtain ⟨hEE, hch, fk, hk1, hk2⟩ := id hM
  obtain ⟨p0, hp0, ep0, ek0⟩ := hk2 0 (by omega)
  obtain ⟨pi, hpi, epi, eki⟩ := hk2 i hi
  have hle : p0 ≤ pi := kK_le ok hp0 hpi (by omega)
  obtain ⟨f1, c, gg1, d, y1, y2, y3, y4, y5⟩ := hC'.1.at (i := C.1 6) (p := p0) (by omega) (by omega)
  obtain ⟨b8, g8, s83, s84, s85⟩ := s82 i (by omega)
  have gdV := (hG' p0 pi hle hpi).1 (C.1 6) h6
  have tb := fG.tb hG'
  have bd := z_bp_bd ok hi ⟨pr, hMb, hkne, ea⟩
  have pb : pr ≤ 235399017 + 1221 := by omega
  have vlt : pr * 16777216 + b < 1152921504606846976 := by
    have : pr * 16777216 ≤ (235399017 + 1221) * 16777216 := Nat.mul_le_mul_right _ pb
    omega
  have eV : vL (Y2 (C.1 6) p0 pi) = pr * 16777216 + b := (z_T_of (T := fun x p q => vL (Y2 x p q)) ok (kK_kn ok) tb (by decide) (p := p0) (q := pi) hp0 hpi (by rw [ek0, eki]; exact hMb) vlt).2
  obtain ⟨ftx, htx1, htx2⟩ := hEE.2.2.2.2.2.1
  rw [kc1] at htx1
  refine i_R hch.1 (by decide) rfl (i_Io x13 (by decide) G13.2.1.2.1 ⟨_, rfl, i_aR y1 rfl (by omega) (by decide) (i_R hch.1 (by decide) rfl ⟨_, rfl, i_aI hk1.1 nI_0.symm (by omega) (by decide) ?_⟩)⟩)
  rw [ep0]
  refine ⟨c, y2, i_aR y3 rfl (by omega) (by decide) (i_R hch.1 (by decide) rfl ⟨_, rfl, i_aI hk1.1 rfl (by omega) (by decide) ?_⟩)⟩
  rw [epi]
  refine ⟨d, y4, i_aJ y5.1 rfl (by omega) (by decide) (i_R hch.1 (by decide) rfl ⟨_, rfl, i_aR s81.1 rfl (by omega) (by decide) (i_Ro x13 (by decide) G13.2.2.2.1 ⟨_, rfl, Or.inl ⟨0, _, by decide, htx1.1, b8, s83, i_aJ s84.1 rfl (by omega) (by decide) ?_⟩⟩)⟩)⟩
  have bS : b ≤ 2398411 := bd.2
  have hdiv : (pr * 16777216 + b) / 16777216 = pr := by
    rw [Nat.add_comm, Nat.add_mul_div_right _ _ (by decide), Nat.div_eq_of_lt (by omega)]; omega
  have vlt2 : pr * 16777216 + b < 2 ^ 63 := Nat.lt_trans vlt (by decide)
  rw [s85 (C.1 34) ⟨by omega, Nat.le_refl _⟩, zc_ne hkne, gdV.1, eV, lB, pk_lDiv vlt2 (by decide) (by decide), hdiv, lN_add, lN_i, ← ea, lN_mul, lN_sub (Nat.le_add_right _ _), Nat.add_sub_cancel_left]
  refine i_Po x13 (by decide) (fun σ14 m14 x14 => ?_)
  rw [vU_vU] at x14
  have m1314 := m13.tr m14
  have G14 := G5.set (k := 16) (.int (nI a)) (by omega)
  rw [show (100 : Int64) = lN 100 from rfl]
  have cmp : lN 100 < lN b ↔ 100 < b := pk_lLT (by decide) (by omega)
  refine ⟨fun z => ?_, fun z => ?_⟩
  · unfold wX0_reads_240
    exact i_Io x14 (by decide) (vU_s _ _ _) (w2 e5 i a b hbst (cmp.mp z) ow11 σ14 (M12.tr (m1314.sub s1)) (rE0 _ σ14 m1314 x14))
  have hb100 : b ≤ 100 := by
    have : ¬ 100 < b := fun y => z (cmp.mpr y)
    omega
  refine ⟨by omega, by omega, i_gr (ow := ow11) (fun q61 ow15 σ15 m15 k15 => ?_)⟩
  have x15 := x14.mv m15 (by simp)
  have M1215 : hmv [1] ow11 σ12 ow15 σ15 := m1314.tr (m15.sub (by simp))
  have hF15 : cFu C ow15 σ15 x0 (kkT kk q21) kc Nc ns xs ru Y2 Y3 := (hF12.mvW ok (M1215.sub (by decide)) ⟨_, x15, G14.F⟩).ka (fun j h _ => kkE j h)
  have G14' : oG C (kkT kk q21) (vU g5 16 (.int (nI a))) := G14.ka (fun j h _ => kkE j h)
  have hk15 : hat ow15 σ15 (kc 3) 201 (cI 12 fk) := (hk1.mv m14 (by decide)).mv m15 (by simp)
  have hch15 := hF15.1.1.2.1
  refine i_Io x15 (by decide) G14.2.1.2.1 (i_R hch15.1 (by decide) rfl ⟨_, rfl, i_aI hk15.1 nI_0.symm (by omega) (by decide) (i_R hch15.1 (by decide) rfl ⟨_, rfl, i_aI hk15.1 rfl (by omega) (by decide) ⟨_, k15.1, ?_⟩⟩)⟩)
  rw [ep0, epi]
  have oW15 : oW C (kkT kk q21) (oL (vU g5 16 (.int (nI a)))) := ⟨rfl, G14'.F, by rw [oL_at _ (by decide), hg5]; rfl, by rw [oL_at _ (by decide)]; exact congrArg some G14'.2.2.2.2.1, by rw [oL_at _ (by decide)]; exact congrArg some G14'.2.2.2.2.2⟩
  have e22 : (oL (vU g5 16 (.int (nI a)))).set 22 (.int (nI st0.1.2.1)) = oL (vU g5 16 (.int (nI a))) := by
    rw [oL_set _ _ (by decide), vU_id]
    rw [hg5]; rfl
  have hW15 : wS C ow15 σ15 x0 (kkT kk q21) kc q61 (oL (vU g5 16 (.int (nI a)))) N st0 := by
    refine ⟨oW15, k15, by rw [e22]; exact x15, ?_, ?_⟩
    · exact (wL0 σ14 m1314).mv m15 (by simp) (by simp) (by simp)
    · exact (wT0 σ14 m1314).mv m15 (by simp) (by simp)
  have hMb' : z_Mb C (z_tk C) 16777216 (C.1 6) (kK C p0) (kK C pi) pr b := by rw [ek0, eki]; exact hMb
  have cn := y_nm_cnt ok 100 (C.1 6) 0 (5 * i) (-4) st0 pr b hb100 hMb (by show 0 ≤ 0 + 0 / 5; omega)
  obtain ⟨S1, hS1⟩ : ∃ S1, S1 = y_nm C 100 (C.1 6) 0 (5 * i) (-4) st0 := ⟨_, rfl⟩
  rw [← hS1] at cn
  obtain ⟨cn1, cn2, cn3, cn4⟩ := cn
  have cn4' : S1.1.2.1 ≤ 3 * b := by
    have : S1.1.2.1 ≤ 0 + 3 * b := cn4
    omega
  have sk := y_sk_cnt ok (Nat.le_refl (C.1 34)) 12 i S1 hi (by omega) hkne
  obtain ⟨k2, ek2⟩ : ∃ k2, (y_sk C (C.1 34) 12 i S1).1.1 = S1.1.1 + k2 := ⟨(y_sk C (C.1 34) 12 i S1).1.1 - S1.1.1, by omega⟩
  have b1 := cpN_bd S1.1.1 N 0 rm0
  have b2 := cpN_bd (S1.1.1 + k2) N 0 rm0
  have ge1 := cpN_ge S1.1.1 N 0
  have ecp : cpN N 0 (S1.1.1 + k2) = cpN (cpN N 0 S1.1.1) (0 + S1.1.1) k2 := cpN_add _ _ _ _
  rw [Nat.zero_add] at ecp
  have ge2 := cpN_ge k2 (cpN N 0 S1.1.1) S1.1.1
  refine ⟨S1.1.1, 4 * cpN N 0 S1.1.1 - 4 * N, by omega, by omega, 100, by decide, ?_⟩
  refine c_grow ok 100 (C.1 6) p0 pi (-4) ow15 σ15 N st0 _ _ _ S1.1.1 pr b hb100 h6 hle hpi hMb' vlt hF15 hW15 ?_ ?_ ?_ ?_ (Nat.le_refl _) ?_ (fun ow16 σ16 m16 hF16 hW16 => ?_)
  · show 0 + b ≤ 100; omega
  · show 0 + 3 * b ≤ 300; omega
  · show 0 ≤ 0 + kK C p0 / 5; omega
  · rw [ek0, eki, ← hS1]; show S1.1.1 = 0 + S1.1.1; omega
  · show 4 * cpN N 0 S1.1.1 ≤ 4 * cpN N 0 S1.1.1 - 4 * N + 4 * N; omega
  rw [ek0, eki, ← hS1] at hW16
  have x16 := hW16.2.2.1
  rw [oL_set _ _ (by decide)] at x16
  have G16 : oG C kk (vU (vU g5 16 (.int (nI a))) 22 (.int (nI S1.1.2.1))) := G14.set (k := 22) _ (by omega)
  obtain ⟨ftx6, htx6, -⟩ := hF16.1.1.1.2.2.2.2.2.1
  rw [kc1] at htx6
  refine i_Ro x16 (by decide) G16.2.2.2.1 ⟨_, rfl, Or.inl ⟨0, _, by decide, htx6.1, _, hW16.2.1.1, k2, 4 * cpN N 0 (S1.1.1 + k2) - 4 * cpN N 0 S1.1.1, by omega, by omega, ?_⟩⟩
  have hW16' : wS C ow16 σ16 x0 (kkT kk q21) kc q61 (oL (vU g5 16 (.int (nI a)))) (cpN N 0 S1.1.1) S1 := hW16
  refine c_skip ok hF16 hW16' hi (Nat.le_refl _) hkne (by omega) ek2 (Nat.le_refl _) (by rw [← ecp]; omega) (fun ow17 σ17 m17 hF17 hW17 => ?_)
  rw [← ecp] at hW17
  obtain ⟨S2, hS2⟩ : ∃ S2, S2 = y_sk C (C.1 34) 12 i S1 := ⟨_, rfl⟩
  rw [← hS2] at hW17 ek2 sk
  have x17 := hW17.2.2.1
  have w19 : ((oL (vU g5 16 (.int (nI a)))).set 22 (.int (nI S2.1.2.1)))[19]? = some (.ref (kkT kk q21 19)) := (oW15.set _).2.2.2.1
  refine ⟨_, x17.1, 10, 5 + 4 * S2.1.1, by omega, by omega, ?_⟩
  refine c_slipRows (fs := (oL (vU g5 16 (.int (nI a)))).set 22 (.int (nI S2.1.2.1))) ok ⟨hF17.1.1, x17, w19, hW17.2.2.2.1⟩ (by omega) (Nat.le_refl _) (Nat.le_refl _) (fun sl2 ow18 σ18 m18 r18 => ?_)
  have x18 := x17.mv m18 (by decide)
  rw [oL_set _ _ (by decide)] at x18
  refine i_Po x18 (by decide) (fun σ19 m19 x19 => ?_)
  unfold wX0_reads_240
  have sSl : ∀ t ∈ TSl, t ∈ TRs := by intro t ht; rw [memSl] at ht; rw [memRs]; omega
  have sW : ∀ t ∈ TW, t ∈ TRs := by intro t ht; rw [memW] at ht; rw [memRs]; omega
  have MM : hmv TRs ow σ ow18 σ19 := ((((M12.tr (M1215.sub s1)).tr (m16.sub sW)).tr (m17.sub sW)).tr (m18.sub sSl)).tr (m19.sub s1)
  refine i_Io x19 (by decide) (by rw [vU_n _ _ (by decide), vU_n _ _ (by decide), vU_s]) (w3 e5 i a b hbst hb100 ow18 σ19 (cpN N 0 (S1.1.1 + k2)) MM (by omega) ?_)
  rw [← hS1, ← hS2]
  have n0 : 0 ∉ TSl := by decide
  refine ⟨_, q3, q21, sl2, kc, x19, ⟨by rw [hg5]; rfl, by rw [hg5]; rfl, by rw [hg5]; rfl, rfl, rfl, by rw [vU_n _ _ (by decide), vU_s], fun j a1 a2 a3 a4 a5 a6 => ?_⟩, ?_, r18.mv m19 (by decide), ?_, ?_, ?_, Y2, Y3, ?_⟩
  · rw [vU_n _ _ a5, vU_n _ _ a6]
    exact rest5 _ j a1 a2 a3 a4 a5 a6
  · exact ((((wy12.mv M1215 (by decide)).mv m16 (by decide)).mv m17 (by decide)).mv m18 n0).mv m19 (by decide)
  · exact (hW17.2.2.2.1.mv m18 n0 (by decide) (by decide)).mv m19 (by decide) (by decide) (by decide)
  · exact (hW17.2.2.2.2.mv m18 (by decide) (by intro t ht; rw [memSl] at ht; omega)).mv m19 (by decide) (by intro t ht; rw [List.mem_singleton] at ht; omega)
  · obtain ⟨-, -, -, -, -, X, hX, -⟩ := hF17.1
    exact ⟨X, (hX.mv m18 n0 (by intro t ht; rw [memSl] at ht; omega)).mv m19 (by decide) (by intro t ht; rw [List.mem_singleton] at ht; omega)⟩
  · exact ⟨(hF17.2.2.1.1.mv m18 n0 (by intro t ht; rw [memSl] at ht; omega)).mv m19 (by decide) (by intro t ht; rw [List.mem_singleton] at ht; omega), (hF17.2.2.1.2.mv m18 n0 (by intro t ht; rw [memSl] at ht; omega)).mv m19 (by decide) (by intro t ht; rw [List.mem_singleton] at ht; omega)⟩
end RDS
