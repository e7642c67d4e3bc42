/-! PLAIN LAW, the component: the knots -/
set_option maxRecDepth 100000
theorem c_m2_i {N1 N2 t : Nat} {ow : Nat → Nat} {σ : gH} {P : Nat → gH → Prop} (T0 base : Nat) (k : ∀ q ow' σ', hmv [] ow σ ow' σ' → hat ow' σ' q T0 (cQ t N1 (fun j => some (q + 1 + j))) → (∀ i, i < N1 → hat ow' σ' (q + 1 + i) (base + i) (g_in t N2)) → P q σ') : c_m2 N1 N2 σ t P := by
  intro q σ' hq e
  refine k q (fun a => if a = q then T0 else if q < a ∧ a ≤ q + N1 then base + (a - q - 1) else ow a) σ' ⟨by rw [e]; rfl, fun b c hb => ?_⟩ ⟨?_, ?_⟩ (fun i hi => ⟨?_, ?_⟩)
  · have hlt : b < q := by
      rcases Nat.lt_or_ge b q with z | z
      · exact z
      · rw [hq b z] at hb; cases hb
    have h1 : ¬ b = q := by omega
    have h2 : ¬ (q < b ∧ b ≤ q + N1) := by omega
    have : σ'.2 b = some c := by
      rw [e]
      show (if b = q then _ else if q < b ∧ b ≤ q + N1 then _ else σ.2 b) = _
      rw [if_neg h1, if_neg h2]; exact hb
    exact ⟨by simp only; rw [if_neg h1, if_neg h2], ⟨c, this, rfl⟩, fun _ => this⟩
  · rw [e]
    show (if q = q then _ else _) = _
    rw [if_pos rfl]
  · show (if q = q then T0 else _) = T0
    rw [if_pos rfl]
  · rw [e]
    show (if q + 1 + i = q then _ else if q < q + 1 + i ∧ q + 1 + i ≤ q + N1 then some (g_in t N2) else _) = _
    rw [if_neg (by omega), if_pos (by omega)]
  · simp only
    rw [if_neg (by omega), if_pos (by omega)]
    omega
/-- the knots so far: L -/
def kI (C : Cf) (ow : Nat → Nat) (σ : gH) (x0 : Nat) (kk kc : Nat → Nat) (a1 a2 : Nat) (L : List Nat) : Prop := hat ow σ (kc 0) 200 (cO 7 (cFs C kk kc x0 L.length)) ∧
  (∃ fk, hat ow σ (kc 3) 201 (cI 12 fk) ∧ ∀ i, 5 * i ∈ L → ∃ p, p < L.length ∧ fk i = nI p ∧ z_at L p = 5 * i) ∧
  (∃ fm, hat ow σ (kc 4) 202 (cI 55 fm) ∧ ∀ p, p < L.length → fm p = if z_at L p % 5 = 0 then nI (z_at L p / 5) else -4) ∧
  (∃ ft, hat ow σ a1 205 (cI 12 ft) ∧ ∀ i, 5 * i + 1 ∈ L → ∃ p, p < L.length ∧ ft i = nI p ∧ z_at L p = 5 * i + 1) ∧
  ∃ fs, hat ow σ a2 0 (cQ 3 12 fs) ∧ ∀ i, i < 12 → ∃ r g, fs i = some r ∧ hat ow σ r (250 + i) (cI 3 g) ∧ ∀ f, f < 3 → 5 * i + 2 + f ∈ L → ∃ p, p < L.length ∧ g f = nI p ∧ z_at L p = 5 * i + 2 + f
theorem kI_up {L : List Nat} {l m : Nat} {v : Int32} (h : ∃ p, p < L.length ∧ v = nI p ∧ z_at L p = m) : ∃ p, p < (L ++ [l]).length ∧ v = nI p ∧ z_at (L ++ [l]) p = m := by
  obtain ⟨p, h1, h2, h3⟩ := h
  exact ⟨p, by rw [List.length_append, List.length_singleton]; omega, h2, by rw [z_at_app h1]; exact h3⟩
abbrev TK : List Nat := 200 :: 201 :: 202 :: 205 :: List.range' 250 12
theorem memTK {t : Nat} : t ∈ TK ↔ t = 200 ∨ t = 201 ∨ t = 202 ∨ t = 205 ∨ (250 ≤ t ∧ t < 262) := by
  rw [List.mem_cons, List.mem_cons, List.mem_cons, List.mem_cons, List.mem_range'_1]
section K1
variable {C : Cf} {Q : gH → Prop} {ow : Nat → Nat} {σ : gH} {x0 mc ms : Nat} {kk kc : Nat → Nat} {a1 a2 : Nat}
theorem app_len (L : List Nat) (l : Nat) : (L ++ [l]).length = L.length + 1 := by simp
/-- the count of knots and the row of main ones, one more -/
theorem kI_fm {L : List Nat} {l : Nat} {fm : Nat → Int32} {v : Int32} (h : ∀ p, p < L.length → fm p = if z_at L p % 5 = 0 then nI (z_at L p / 5) else -4) (hv : v = if l % 5 = 0 then nI (l / 5) else -4) : ∀ p, p < (L ++ [l]).length → upd fm L.length v p = if z_at (L ++ [l]) p % 5 = 0 then nI (z_at (L ++ [l]) p / 5) else -4 := by
  intro p hp
  rw [app_len] at hp
  by_cases e : p = L.length
  · subst e; rw [upd_s, z_at_new]; exact hv
  · rw [upd_n _ _ e, z_at_app (by omega)]; exact h p (by omega)
theorem c_k94 {K : Nat → Nat → Nat → Nat → Nat → Int32 → gH → Prop} {uc us i : Nat} {L : List Nat} (ok : z_ok C) (hE : cE C ow σ x0 kk kc) (hI : kI C ow σ x0 kk kc a1 a2 L) (hi : i ≤ C.1 34) (hL : L.length + (if i < C.1 34 then 3 else 0) ≤ 55) (hlt : ∀ l ∈ L, l < 5 * i + 2)
    (w : ∀ ow' σ', hmv TK ow σ ow' σ' → kI C ow' σ' x0 kk kc a1 a2 (L ++ z_kf1 C false i (C.2 11 0)) → K uc us (kc 0) a1 a2 (nI i) σ') : ∃ fu, wX7_knots_94 Q mc ms K fu uc us (kc 0) a1 a2 (nI i) 0 σ := by
  have o := ok.1
  have e0 : z_kf1 C false i 0 = [] := by unfold z_kf1; rfl
  refine pk_loop (σ := gH) (fun n f σ' => wX7_knots_94 Q mc ms K n uc us (kc 0) a1 a2 (nI i) (nI f) σ') (fun f σ' => ∃ ow', hmv TK ow σ ow' σ' ∧ kI C ow' σ' x0 kk kc a1 a2 (L ++ z_kf1 C false i f)) (C.2 11 0) 0 σ (by omega) ⟨ow, hmv.rf, by rw [e0, List.append_nil]; exact hI⟩ ?_ ?_
  · rintro n σ1 ⟨ow1, m1, hI1⟩
    have hE1 := hE.mv m1 (by intro t ht; rw [memTK] at ht; omega)
    obtain ⟨gs, hx, hF⟩ := hE1.2.1
    obtain ⟨Nf, fo, nf1, nf2, nf3⟩ := hE1.2.2.2.2.1 0 (by decide)
    simp only [wX7_knots_94]
    exact i_R hI1.1.1 (by decide) rfl ⟨_, rfl, i_R hx.1 (by decide) hF.2.1.2.2.2.1 ⟨_, rfl, ln_size nf2 (br_p (nI_le (Nat.le_refl _) (by omega)) (w ow1 σ1 m1 hI1))⟩⟩
  · rintro n f σ1 hf ⟨ow1, m1, hI1⟩ hs1
    have hE1 := hE.mv m1 (by intro t ht; rw [memTK] at ht; omega)
    obtain ⟨gs, hx, hF⟩ := hE1.2.1
    obtain ⟨Nf, fo, nf1, nf2, nf3⟩ := hE1.2.2.2.2.1 0 (by decide)
    obtain ⟨ft, ht1, ht2⟩ := hE1.2.2.2.2.2.1
    have hfm := nf3 f hf
    have hfc := hfm.1
    unfold fCell at hfc
    rw [show 12 * 0 + 4 * f = 4 * f by omega] at hfc
    have ob2 := (ok.2.2.2.2.2 0 f (by decide) hf).1 2 (by decide)
    rw [show 12 * 0 + 4 * f + 2 = 4 * f + 2 by omega] at ob2
    have hI1' := hI1
    obtain ⟨hch, ⟨fk, hk1, hk2⟩, ⟨fm, hm1, hm2⟩, ⟨fu, hu1, hu2⟩, fs, hs2, hs3⟩ := hI1
    simp only [wX7_knots_94]
    refine i_R hch.1 (by decide) rfl ⟨_, rfl, i_R hx.1 (by decide) hF.2.1.2.2.2.1 ⟨_, rfl, ln_size nf2 (br_n (nI_ge hf (by omega)) (i_I hch.1 (by decide) rfl ?_))⟩⟩
    refine pk_le (C.1 34) i (fun e => w ow1 σ1 m1 ?_) (fun e => i_R hch.1 (by decide) rfl ⟨_, rfl, i_R hx.1 (by decide) hF.2.1.2.2.2.1 ⟨_, rfl, ln_get nf2 rfl hf (by omega) ⟨fun a ha => by cases ha; exact ⟨_, _, by decide, hfm.1⟩, _, rfl, i_I hfc (by decide) rfl (i_R hch.1 (by decide) rfl ⟨_, rfl, i_aI ht1.1 rfl e (by omega) ?_⟩)⟩⟩⟩) rfl rfl (by omega) (by omega)
    · have e1 : ∀ F, z_kf1 C false i F = [] := fun F => List.eq_nil_iff_forall_not_mem.mpr (fun l hl => by
        obtain ⟨f, -, -, b1, -⟩ := z_kf1_mem.mp hl
        omega)
      rw [e1]
      rw [e1] at hI1'
      exact hI1'
    rw [ht2 i e]
    have bt := ok.2.2.2.1 i e
    have nx : ∀ ow2 σ2, hmv TK ow1 σ1 ow2 σ2 → kI C ow2 σ2 x0 kk kc a1 a2 (L ++ z_kf1 C false i (f + 1)) → wX7_knots_179 Q mc ms (wX7_knots_94 Q mc ms K n) K uc us (kc 0) a1 a2 (nI i) (nI f) σ2 := by
      intro ow2 σ2 m2 hI2
      unfold wX7_knots_179
      rw [nI_1]
      exact al_eq (hs1 σ2 ⟨ow2, m1.tr m2, hI2⟩)
    refine pk_eq (C.2 12 (4 * f + 2)) (C.2 15 i) (fun e2 => ?_) (fun e2 => nx ow1 σ1 hmv.rf ?_) rfl rfl (by omega) (by omega)
    · obtain ⟨L1, hL1⟩ : ∃ L1, L1 = L ++ z_kf1 C false i f := ⟨_, rfl⟩
      have len1 : L1.length ≤ L.length + f := by
        rw [hL1, List.length_append]
        have := z_kf1_len C false i f
        rw [if_pos e] at this
        omega
      rw [if_pos e] at hL
      have ef : f < 3 := by omega
      rw [← hL1] at hch hk2 hm2 hu2 hs3
      obtain ⟨r, g, r1, r2, r3⟩ := hs3 i (by omega)
      have enew : L ++ z_kf1 C false i (f + 1) = L1 ++ [5 * i + 2 + f] := by rw [z_kf1_s, if_pos ⟨e, rfl, e2⟩, ← List.append_assoc, ← hL1]
      refine i_aR hs2.1 rfl (by omega) (by decide) (i_I hch.1 (by decide) rfl ⟨r, r1, i_sI r2.1 rfl ef (by decide) ?_⟩)
      have hch2 := hch.up r2 (by omega) (x := cI 3 (upd g f (nI L1.length)))
      have hm3 := hm1.up r2 (by omega) (x := cI 3 (upd g f (nI L1.length)))
      have q1 := (hmv.rf (T := TK)).up r2 (e := cI 3 (upd g f (nI L1.length))) (by rw [memTK]; omega) rfl
      refine i_R hch2.1 (by decide) rfl (i_I hch2.1 (by decide) rfl ⟨_, rfl, i_sI hm3.1 rfl (by omega) (by decide) ?_⟩)
      have hch3 := hch2.up hm3 (by decide) (x := cI 55 (upd fm L1.length (-4)))
      have q2 := q1.up hm3 (e := cI 55 (upd fm L1.length (-4))) (by rw [memTK]; omega) rfl
      refine i_I hch3.1 (by decide) rfl (i_Pf (cFs C kk kc x0 (L1.length + 1)) hch3.1 (by decide) (by rw [nI_1]; rfl) (by simp [cFs]) ?_)
      refine nx ow1 _ (q2.up hch3 (by rw [memTK]; omega) rfl) ?_
      rw [enew]
      refine ⟨by rw [app_len]; exact hch3.set, ⟨fk, ((hk1.up r2 (by omega)).up hm3 (by decide)).up hch3 (by decide), fun j hj => ?_⟩, ⟨upd fm L1.length (-4), (hm3.set).up hch3 (by decide), kI_fm hm2 (by rw [if_neg (by omega)])⟩, ⟨fu, ((hu1.up r2 (by omega)).up hm3 (by decide)).up hch3 (by decide), fun j hj => ?_⟩, fs, ((hs2.up r2 (by omega)).up hm3 (by decide)).up hch3 (by decide), fun j hj => ?_⟩
      · rcases List.mem_append.mp hj with z | z
        · exact kI_up (hk2 j z)
        · simp at z; omega
      · rcases List.mem_append.mp hj with z | z
        · exact kI_up (hu2 j z)
        · simp at z; omega
      · by_cases ej : j = i
        · subst ej
          refine ⟨r, upd g f (nI L1.length), r1, ((r2.set).up hm3 (by omega)).up hch3 (by omega), fun f' hf' hm => ?_⟩
          by_cases e9 : f' = f
          · subst e9
            exact ⟨L1.length, by rw [app_len]; omega, upd_s _ _ _, z_at_new⟩
          · rw [upd_n _ _ e9]
            rcases List.mem_append.mp hm with z | z
            · exact kI_up (r3 f' hf' z)
            · simp at z; omega
        · obtain ⟨r', g', r1', r2', r3'⟩ := hs3 j hj
          refine ⟨r', g', r1', ((r2'.up r2 (by omega)).up hm3 (by omega)).up hch3 (by omega), fun f' hf' hm => ?_⟩
          rcases List.mem_append.mp hm with z | z
          · exact kI_up (r3' f' hf' z)
          · simp at z; omega
    · rw [z_kf1_s, if_neg (fun z => e2 z.2.2), List.append_nil]
      exact hI1'
theorem c_k15 {K : Nat → Nat → Nat → Nat → Nat → gH → Prop} {uc us : Nat} (ok : z_ok C) (hE : cE C ow σ x0 kk kc) (hI : kI C ow σ x0 kk kc a1 a2 [])
    (w : ∀ ow' σ', hmv TK ow σ ow' σ' → kI C ow' σ' x0 kk kc a1 a2 (z_kl C false) → K uc us (kc 0) a1 a2 σ') : ∃ fu, wX7_knots_15 Q mc ms K fu uc us (kc 0) a1 a2 0 σ := by
  have o := ok.1
  refine pk_loop (σ := gH) (fun n i σ' => wX7_knots_15 Q mc ms K n uc us (kc 0) a1 a2 (nI i) σ') (fun i σ' => ∃ ow', hmv TK ow σ ow' σ' ∧ kI C ow' σ' x0 kk kc a1 a2 (z_kp C false i)) (C.1 34 + 1) 0 σ (by omega) ⟨ow, hmv.rf, hI⟩ ?_ ?_
  · rintro n σ1 ⟨ow1, m1, hI1⟩
    simp only [wX7_knots_15]
    exact i_I hI1.1.1 (by decide) rfl (br_p (nI_lt (by omega) (by omega)) (w ow1 σ1 m1 hI1))
  · rintro n i σ1 hi ⟨ow1, m1, hI1⟩ hs1
    have hlen := z_kp_len ok false i (by omega)
    have hlt : ∀ l ∈ z_kp C false i, l < 5 * i := fun l hl => z_kp_lt ok hl
    obtain ⟨L0, hL0⟩ : ∃ L0, L0 = z_kp C false i := ⟨_, rfl⟩
    rw [← hL0] at hI1 hlen hlt
    obtain ⟨hch, ⟨fk, hk1, hk2⟩, ⟨fm, hm1, hm2⟩, ⟨fu, hu1, hu2⟩, fs, hs2, hs3⟩ := hI1
    simp only [wX7_knots_15]
    refine i_I hch.1 (by decide) rfl (br_n (nI_nlt (by omega) (by omega)) (i_R hch.1 (by decide) rfl (i_I hch.1 (by decide) rfl ⟨_, rfl, i_sI hk1.1 rfl (by omega) (by decide) ?_⟩)))
    have hch2 := hch.up hk1 (by decide) (x := cI 12 (upd fk i (nI L0.length)))
    have hm3 := hm1.up hk1 (by decide) (x := cI 12 (upd fk i (nI L0.length)))
    have q1 := (hmv.rf (T := TK)).up hk1 (e := cI 12 (upd fk i (nI L0.length))) (by rw [memTK]; omega) rfl
    refine i_R hch2.1 (by decide) rfl (i_I hch2.1 (by decide) rfl ⟨_, rfl, i_sI hm3.1 rfl (by omega) (by decide) ?_⟩)
    have hch3 := hch2.up hm3 (by decide) (x := cI 55 (upd fm L0.length (nI i)))
    have q2 := q1.up hm3 (e := cI 55 (upd fm L0.length (nI i))) (by rw [memTK]; omega) rfl
    refine i_I hch3.1 (by decide) rfl (i_Pf (cFs C kk kc x0 (L0.length + 1)) hch3.1 (by decide) (by rw [nI_1]; rfl) (by simp [cFs]) ?_)
    have q3 := q2.up hch3 (e := cO 7 (cFs C kk kc x0 (L0.length + 1))) (by rw [memTK]; omega) rfl
    have hI2 : kI C ow1 (g_up (g_up (g_up σ1 (kc 3) (cI 12 (upd fk i (nI L0.length)))) (kc 4) (cI 55 (upd fm L0.length (nI i)))) (kc 0) (cO 7 (cFs C kk kc x0 (L0.length + 1)))) x0 kk kc a1 a2 (L0 ++ [5 * i]) := by
      refine ⟨by rw [app_len]; exact hch3.set, ⟨upd fk i (nI L0.length), ((hk1.set).up hm3 (by decide)).up hch3 (by decide), fun j hj => ?_⟩, ⟨upd fm L0.length (nI i), (hm3.set).up hch3 (by decide), kI_fm hm2 (by rw [if_pos (by omega), show 5 * i / 5 = i by omega])⟩, ⟨fu, ((hu1.up hk1 (by decide)).up hm3 (by decide)).up hch3 (by decide), fun j hj => ?_⟩, fs, ((hs2.up hk1 (by decide)).up hm3 (by decide)).up hch3 (by decide), fun j hj => ?_⟩
      · by_cases ej : j = i
        · subst ej
          exact ⟨L0.length, by rw [app_len]; omega, upd_s _ _ _, z_at_new⟩
        · rw [upd_n _ _ ej]
          rcases List.mem_append.mp hj with z | z
          · exact kI_up (hk2 j z)
          · simp at z; omega
      · rcases List.mem_append.mp hj with z | z
        · exact kI_up (hu2 j z)
        · simp at z; omega
      · obtain ⟨r', g', r1', r2', r3'⟩ := hs3 j hj
        refine ⟨r', g', r1', ((r2'.up hk1 (by omega)).up hm3 (by omega)).up hch3 (by omega), fun f' hf' hm => ?_⟩
        rcases List.mem_append.mp hm with z | z
        · exact kI_up (r3' f' hf' z)
        · simp at z; omega
    obtain ⟨σ2, hσ2⟩ : ∃ σ2, σ2 = g_up (g_up (g_up σ1 (kc 3) (cI 12 (upd fk i (nI L0.length)))) (kc 4) (cI 55 (upd fm L0.length (nI i)))) (kc 0) (cO 7 (cFs C kk kc x0 (L0.length + 1))) := ⟨_, rfl⟩
    rw [← hσ2] at hI2 q3
    rw [← hσ2]
    have m2 := m1.tr q3
    -- the forms
    have forms : ∀ ow3 σ3 L3, hmv TK ow σ ow3 σ3 → kI C ow3 σ3 x0 kk kc a1 a2 L3 → L3 = L0 ++ [5 * i] ++ z_kt C false i → wX7_knots_91 Q mc ms (wX7_knots_15 Q mc ms K n) K uc us (kc 0) a1 a2 (nI i) σ3 := by
      intro ow3 σ3 L3 m3 hI3 e3
      unfold wX7_knots_91
      have kl := z_kt_len C false i
      have l3 : L3.length ≤ L0.length + 1 + (if i + 1 < C.1 34 then 1 else 0) := by
        rw [e3, List.length_append, app_len]; omega
      refine c_k94 ok (hE.mv m3 (by intro t ht; rw [memTK] at ht; omega)) hI3 (by omega) ?_ (fun l hl => ?_) (fun ow4 σ4 m4 hI4 => ?_)
      · by_cases e1 : i < C.1 34
        · rw [if_pos e1]
          by_cases e2 : i + 1 < C.1 34
          · rw [if_pos e2] at l3; omega
          · rw [if_neg e2] at l3; omega
        · rw [if_neg e1]
          rw [if_neg (by omega)] at l3
          omega
      · rw [e3] at hl
        rcases List.mem_append.mp hl with z | z
        · rcases List.mem_append.mp z with z | z
          · have := hlt l z; omega
          · simp at z; omega
        · have := (z_kt_mem.mp z).1; omega
      · rw [nI_1]
        refine al_eq (hs1 σ4 ⟨ow4, m3.tr m4, ?_⟩)
        simp only [z_kp]
        rw [← hL0, ← e3]
        exact hI4
    obtain ⟨hch4, ⟨fk4, hk4, hk5⟩, ⟨fm4, hm4, hm5⟩, ⟨fu4, hu4, hu5⟩, fs4, hs4, hs5⟩ := hI2
    refine i_I hch4.1 (by decide) rfl ?_
    rw [show nI i + 1 = nI (i + 1) from nI_1 i]
    refine pk_le (C.1 34) (i + 1) (fun e => forms ow1 σ2 _ m2 ⟨hch4, ⟨fk4, hk4, hk5⟩, ⟨fm4, hm4, hm5⟩, ⟨fu4, hu4, hu5⟩, fs4, hs4, hs5⟩ (by unfold z_kt; rw [if_neg (by omega), List.append_nil])) (fun e => ?_) rfl rfl (by omega) (by omega)
    obtain ⟨L1, hL1⟩ : ∃ L1, L1 = L0 ++ [5 * i] := ⟨_, rfl⟩
    rw [← hL1] at hch4 hk5 hm5 hu5 hs5
    have len1 : L1.length = L0.length + 1 := by rw [hL1, app_len]
    refine i_I hch4.1 (by decide) rfl (i_sI hu4.1 rfl (by omega) (by decide) ?_)
    have hch5 := hch4.up hu4 (by decide) (x := cI 12 (upd fu4 i (nI L1.length)))
    have hm6 := hm4.up hu4 (by decide) (x := cI 12 (upd fu4 i (nI L1.length)))
    have q4 := (hmv.rf (T := TK)).up hu4 (e := cI 12 (upd fu4 i (nI L1.length))) (by rw [memTK]; omega) rfl
    refine i_R hch5.1 (by decide) rfl (i_I hch5.1 (by decide) rfl ⟨_, rfl, i_sI hm6.1 rfl (by omega) (by decide) ?_⟩)
    have hch6 := hch5.up hm6 (by decide) (x := cI 55 (upd fm4 L1.length (-4)))
    have q5 := q4.up hm6 (e := cI 55 (upd fm4 L1.length (-4))) (by rw [memTK]; omega) rfl
    refine i_I hch6.1 (by decide) rfl (i_Pf (cFs C kk kc x0 (L1.length + 1)) hch6.1 (by decide) (by rw [nI_1]; rfl) (by simp [cFs]) ?_)
    have q6 := q5.up hch6 (e := cO 7 (cFs C kk kc x0 (L1.length + 1))) (by rw [memTK]; omega) rfl
    refine forms ow1 _ (L1 ++ [5 * i + 1]) (m2.tr q6) ?_ (by unfold z_kt; rw [if_pos ⟨e, rfl⟩, hL1])
    refine ⟨by rw [app_len]; exact hch6.set, ⟨fk4, ((hk4.up hu4 (by decide)).up hm6 (by decide)).up hch6 (by decide), fun j hj => ?_⟩, ⟨upd fm4 L1.length (-4), (hm6.set).up hch6 (by decide), kI_fm hm5 (by rw [if_neg (by omega)])⟩, ⟨upd fu4 i (nI L1.length), ((hu4.set).up hm6 (by decide)).up hch6 (by decide), fun j hj => ?_⟩, fs4, ((hs4.up hu4 (by decide)).up hm6 (by decide)).up hch6 (by decide), fun j hj => ?_⟩
    · rcases List.mem_append.mp hj with z | z
      · exact kI_up (hk5 j z)
      · simp at z; omega
    · by_cases ej : j = i
      · subst ej
        exact ⟨L1.length, by rw [app_len]; omega, upd_s _ _ _, z_at_new⟩
      · rw [upd_n _ _ ej]
        rcases List.mem_append.mp hj with z | z
        · exact kI_up (hu5 j z)
        · simp at z; omega
    · obtain ⟨r', g', r1', r2', r3'⟩ := hs5 j hj
      refine ⟨r', g', r1', ((r2'.up hu4 (by omega)).up hm6 (by omega)).up hch6 (by omega), fun f' hf' hm => ?_⟩
      rcases List.mem_append.mp hm with z | z
      · exact kI_up (r3' f' hf' z)
      · simp at z; omega
/-- the row of main knots -/
def cMo (C : Cf) (ow : Nat → Nat) (σ : gH) (kc : Nat → Nat) : Prop := ∃ fm, hat ow σ (kc 4) 202 (cI 55 fm) ∧ ∀ p, p < nK C → fm p = if kK C p % 5 = 0 then nI (kK C p / 5) else -4
theorem cMo.mv {T : List Nat} {ow' : Nat → Nat} {σ' : gH} (h : cMo C ow σ kc) (m : hmv T ow σ ow' σ') (ht : 202 ∉ T) : cMo C ow' σ' kc := by
  obtain ⟨fm, h1, h2⟩ := h
  exact ⟨fm, h1.mv m ht, h2⟩
abbrev TKK : List Nat := 200 :: 201 :: 202 :: 203 :: 204 :: 205 :: (List.range' 210 12 ++ List.range' 250 12)
theorem memTKK {t : Nat} : t ∈ TKK ↔ (200 ≤ t ∧ t ≤ 205) ∨ (210 ≤ t ∧ t < 222) ∨ (250 ≤ t ∧ t < 262) := by
  simp only [TKK, List.mem_cons, List.mem_append, List.mem_range'_1]
  omega
theorem c_knots (ok : z_ok C) (hE : cE C ow σ x0 kk kc) (hch : hat ow σ (kc 0) 200 (cO 7 (cFs C kk kc x0 0))) {fk fm : Nat → Int32} (hk : hat ow σ (kc 3) 201 (cI 12 fk)) (hm : hat ow σ (kc 4) 202 (cI 55 fm)) (hl : r_lsN ow σ (kc 6) 203 204 0 0 (fun _ => 0)) (hS : cSkR C ow σ kc x0 0) (hu : 1900 ≤ mc) (hs : 65200 ≤ ms)
    (w : ∀ ow' σ' N' ns' xs', hmv TKK ow σ ow' σ' → cM C ow' σ' x0 kk kc → cMo C ow' σ' kc → cL C ow' σ' kc x0 N' ns' xs' → ns' ≤ 420 → (∀ i, i ≤ C.1 34 → dLo C ow' σ' kc x0 ns' xs' i) → cSkR C ow' σ' kc x0 (C.1 34) → Q σ') : wX7_knots Q mc ms (kc 0) σ := by
  have o := ok.1
  have c12 : (12 : Int32).toNatClampNeg = 12 := rfl
  have c3 : (3 : Int32).toNatClampNeg = 3 := rfl
  unfold wX7_knots
  rw [c12, c3]
  refine ⟨by omega, by omega, by decide, by decide, c_new_i fun q hq => ⟨by omega, by omega, ?_⟩⟩
  have m1 : hmv [] ow σ (va_up ow q 205) (g_up σ q (cI 12 (fun _ => 0))) := hmv.rf.new 205 hq
  have hq1 : hat (va_up ow q 205) (g_up σ q (cI 12 (fun _ => 0))) q 205 (cI 12 (fun _ => 0)) := hat.nw 205
  refine c_m2_i (ow := va_up ow q 205) 0 250 (fun q2 ow2 σ2 m2 h2 h3 => ?_)
  have m12 : hmv [] ow σ ow2 σ2 := m1.tr m2
  have hE2 := hE.mv m12 (by simp)
  refine c_k15 (a1 := q) (a2 := q2) ok hE2 ⟨hch.mv m12 (by simp), ⟨fk, hk.mv m12 (by simp), fun i hi => by cases hi⟩, ⟨fm, hm.mv m12 (by simp), fun p hp => by simp at hp⟩, ⟨_, hq1.mv m2 (by simp), fun i hi => by cases hi⟩, _, h2, fun i hi => ⟨q2 + 1 + i, fun _ => 0, rfl, h3 i hi, fun f _ hf => by cases hf⟩⟩ (fun ow3 σ3 m3 hI3 => ?_)
  have hE3 := hE2.mv m3 (by intro t ht; rw [memTK] at ht; omega)
  have hS3 := (hS.mv m12 (by simp) (by simp)).mv m3 (by rw [memTK]; omega) (by intro t ht; rw [memTK] at ht; omega)
  have hl3 := (hl.mv m12 (by simp) (by simp)).mv m3 (by rw [memTK]; omega) (by rw [memTK]; omega)
  obtain ⟨i1, ⟨fk3, i2, i3⟩, ⟨fm3, i4, i5⟩, ⟨fu3, i6, i7⟩, fs3, i8, i9⟩ := hI3
  have hM3 : cM C ow3 σ3 x0 kk kc := ⟨hE3, i1, fk3, i2, fun i hi => i3 i (by unfold z_kl; exact z_kp_mem.mpr ⟨i, by omega, Or.inl rfl⟩)⟩
  have hT3 : cTu C ow3 σ3 q q2 := ⟨⟨fu3, i6, fun i hi => i7 i (by unfold z_kl; exact z_kp_mem.mpr ⟨i, by omega, Or.inr (Or.inl (z_kt_mem.mpr ⟨rfl, hi, rfl⟩))⟩)⟩, fs3, i8, fun i hi => by
    obtain ⟨r, g, r1, r2, r3⟩ := i9 i hi
    exact ⟨r, g, r1, r2, fun h f hf hc => r3 f (by omega) (by unfold z_kl; exact z_kp_mem.mpr ⟨i, by omega, Or.inr (Or.inr (z_kf1_mem.mpr ⟨f, hf, rfl, h, rfl, hc⟩))⟩)⟩⟩
  refine c_knots2 ok hM3 (N := 0) (ns := 0) (xs := fun _ => 0) ⟨hl3, by omega, fun j hj => by omega⟩ rfl hS3 hT3 (by omega) (by omega) (fun ow4 σ4 N4 ns4 xs4 m4 n1 n2 n3 n4 n5 => ?_)
  refine w ow4 σ4 N4 ns4 xs4 ?_ n1 ?_ n2 n3 n4 n5
  · refine ((m12.sub (by simp)).tr (m3.sub ?_)).tr (m4.sub ?_)
    · intro t ht; rw [memTK] at ht; rw [memTKK]; omega
    · intro t ht; rw [memT] at ht; rw [memTKK]; omega
  · exact ⟨fm3, i4.mv m4 (by rw [memT]; omega), i5⟩
end K1
