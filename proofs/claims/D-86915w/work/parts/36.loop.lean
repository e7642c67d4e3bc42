/-! the law: its loop over an invariant J of the two worlds, and its start. Printed by tools/genl2.py -/
set_option maxRecDepth 100000
theorem l_cmp {m L : Nat} (hm : m ≤ 400) (hL : L ≤ 384) : nI L - 6 < nI m ↔ L < m + 6 := by
  have h6 : ((6 : Int32)).toInt = 6 := by decide
  have e1 : (nI L).toInt = (L : Int) := nI_toInt (by omega)
  have e2 : (nI m).toInt = (m : Int) := nI_toInt (by omega)
  rw [Int32.lt_iff_toInt_lt, Int32.toInt_sub, e1, e2, h6, Int.bmod_eq_of_le (by omega) (by omega)]
  omega
theorem l_add {m : Nat} (hm : m ≤ 400) {j : Int32} (h0 : 0 ≤ j) (h5 : j ≤ 5) : ∃ k : Nat, k ≤ 5 ∧ nI m + j = nI (m + k) := by
  have a0 : 0 ≤ j.toInt := Int32.le_iff_toInt_le.mp h0
  have a5 : j.toInt ≤ 5 := Int32.le_iff_toInt_le.mp h5
  refine ⟨j.toInt.toNat, by omega, ?_⟩
  apply Int32.toInt_inj.mp
  have e2 : (nI m).toInt = (m : Int) := nI_toInt (by omega)
  have e3 : (nI (m + j.toInt.toNat)).toInt = ((m + j.toInt.toNat : Nat) : Int) := nI_toInt (by omega)
  rw [Int32.toInt_add, e2, e3, Int.bmod_eq_of_le (by omega) (by omega)]
  omega
theorem l_in {m L : Nat} (h : m + 6 ≤ L) (hL : L ≤ 384) {j : Int32} (h0 : 0 ≤ j) (h5 : j ≤ 5) : vp_in (nI m + j) L := by
  obtain ⟨k, hk, e⟩ := l_add (m := m) (by omega) h0 h5
  rw [e]
  rintro (z | z)
  · exact nI_pos (by omega) z
  · rw [nI_clamp (by omega)] at z
    omega
theorem l_six {m : Nat} (hm : m ≤ 400) : nI m + 6 = nI (m + 6) := by
  apply Int32.toInt_inj.mp
  have h6 : ((6 : Int32)).toInt = 6 := by decide
  have e2 : (nI m).toInt = (m : Int) := nI_toInt (by omega)
  have e3 : (nI (m + 6)).toInt = ((m + 6 : Nat) : Int) := nI_toInt (by omega)
  rw [Int32.toInt_add, e2, e3, h6, Int.bmod_eq_of_le (by omega) (by omega)]
  omega
/-- the loop, with n calls still to come at most -/
theorem l_loop {b L x0 o CB SB : Nat} {xs : Nat → Int32} {ad : Nat → Nat} {J : Nat → gH → TS → Prop} (hL : L ≤ 384) (ok : t_ok o ad) (hstep : ∀ (σ : gH) (s : TS) (k : Nat) (a1 a2 a3 a4 a5 : Int32), J x0 σ s → k ≤ 28 → l_op k a1 a2 a3 a4 a5 (J x0) CB SB x0 σ s) :
    ∀ (n m uc us : Nat) (σ : gH) (s : TS), L ≤ m + 6 * n → m ≤ 390 → uc + n * CB ≤ 603072 → us + n * SB ≤ 7262314 → g_dj (t_map o ad s) σ → (∃ fs, σ.2 x0 = some (.inr (0, fs))) → J x0 σ s → E mL 2048 603072 7262314 (g_lz b L xs) uc us 18 [(0, .ref b), (1, .ref x0), (2, .ref o), (3, .int (nI m))] [] (g_mg (t_map o ad s) σ) := by
  intro n
  induction n with
  | zero =>
    intro m uc us σ s hm hm2 hu1 hu2 dj hx hJ
    refine e_iload_n (n := 19) dL_law_18 rfl 3 rfl ?_
    refine e_aload_n (n := 20) dL_law_19 rfl 0 rfl ?_
    refine e_slen (n := 21) dL_law_20 rfl ?_
    refine e_bipush (n := 23) (v := 6) dL_law_21 rfl (by decide) ?_
    refine e_isub (n := 24) dL_law_23 rfl ?_
    refine e_icmp_gt (n := 27) (tgt := 1049) dL_law_24 rfl (by decide) (fun h => ?_) (fun h => absurd ((l_cmp (by omega) hL).mpr (by omega)) h)
    refine e_iconst (n := 1050) (v := 1) dL_law_1049 rfl (by decide) ?_
    exact e_lend (by omega) (by omega) dL_law_1050
  | succ n ih =>
    intro m uc us σ s hm hm2 hu1 hu2 dj hx hJ
    rw [Nat.succ_mul] at hu1 hu2
    refine e_iload_n (n := 19) dL_law_18 rfl 3 rfl ?_
    refine e_aload_n (n := 20) dL_law_19 rfl 0 rfl ?_
    refine e_slen (n := 21) dL_law_20 rfl ?_
    refine e_bipush (n := 23) (v := 6) dL_law_21 rfl (by decide) ?_
    refine e_isub (n := 24) dL_law_23 rfl ?_
    refine e_icmp_gt (n := 27) (tgt := 1049) dL_law_24 rfl (by decide) (fun h => ?_) (fun h => ?_)
    · refine e_iconst (n := 1050) (v := 1) dL_law_1049 rfl (by decide) ?_
      exact e_lend (by omega) (by omega) dL_law_1050
    have hin : m + 6 ≤ L := by
      rcases Nat.lt_or_ge L (m + 6) with z | z
      · exact absurd ((l_cmp (by omega) hL).mpr z) h
      · exact z
    have hi : ∀ j : Int32, 0 ≤ j → j ≤ 5 → vp_in (nI m + j) L := fun j h0 h5 => l_in hin hL h0 h5
    have hi0 : vp_in (nI m) L := by
      have h9 := hi 0 (by decide) (by decide)
      rw [show nI m + 0 = nI m from Int32.add_zero _] at h9
      exact h9
    have next : ∀ (σ' : gH) (s' : TS), g_dj (t_map o ad s') σ' → (∃ fs, σ'.2 x0 = some (.inr (0, fs))) → J x0 σ' s' → E mL 2048 603072 7262314 (g_lz b L xs) (uc + CB) (us + SB) 1043 [(0, .ref b), (1, .ref x0), (2, .ref o), (3, .int (nI m))] [] (g_mg (t_map o ad s') σ') := by
      intro σ' s' dj' hx' hJ'
      refine e_iinc (n := 1046) (v := nI (m + 6)) (lv' := [(0, .ref b), (1, .ref x0), (2, .ref o), (3, .int (nI (m + 6)))]) [1, 2, 3, 0] dL_law_1043 rfl 3 rfl (l_six (by omega)) rfl rfl ?_
      refine e_goto (n := 18) dL_law_1046 (by decide) ?_
      exact ih (m + 6) (uc + CB) (us + SB) σ' s' (by omega) (by omega) (by omega) (by omega) dj' hx' hJ'
    obtain ⟨fs, hxf⟩ := hx
    refine e_aload_n (n := 28) dL_law_27 rfl 0 rfl ?_
    refine e_iload_n (n := 29) dL_law_28 rfl 3 rfl ?_
    refine e_sld (n := 30) hi0 dL_law_29 rfl ?_
    refine e_bipush (n := 32) (v := 31) dL_law_30 rfl (by decide) ?_
    refine e_iand (n := 33) dL_law_32 rfl ?_
    generalize xs (nI m).toNatClampNeg &&& 31 = X
    by_cases h0 : X = 0
    · refine e_tableIn (tgt := 164) dL_law_33 (by rw [h0]; decide) (by rw [h0]; decide) (by rw [h0]; rfl) (by decide) ?_
      exact lk_0 ok dj hxf hi (by omega) (by omega) (hstep σ s 0 _ _ _ _ _ hJ (by decide)) next
    by_cases h1 : X = 1
    · refine e_tableIn (tgt := 203) dL_law_33 (by rw [h1]; decide) (by rw [h1]; decide) (by rw [h1]; rfl) (by decide) ?_
      exact lk_1 ok dj hxf hi (by omega) (by omega) (hstep σ s 1 _ _ _ _ _ hJ (by decide)) next
    by_cases h2 : X = 2
    · refine e_tableIn (tgt := 216) dL_law_33 (by rw [h2]; decide) (by rw [h2]; decide) (by rw [h2]; rfl) (by decide) ?_
      exact lk_2 ok dj hxf hi (by omega) (by omega) (hstep σ s 2 _ _ _ _ _ hJ (by decide)) next
    by_cases h3 : X = 3
    · refine e_tableIn (tgt := 239) dL_law_33 (by rw [h3]; decide) (by rw [h3]; decide) (by rw [h3]; rfl) (by decide) ?_
      exact lk_3 ok dj hxf hi (by omega) (by omega) (hstep σ s 3 _ _ _ _ _ hJ (by decide)) next
    by_cases h4 : X = 4
    · refine e_tableIn (tgt := 282) dL_law_33 (by rw [h4]; decide) (by rw [h4]; decide) (by rw [h4]; rfl) (by decide) ?_
      exact lk_4 ok dj hxf hi (by omega) (by omega) (hstep σ s 4 _ _ _ _ _ hJ (by decide)) next
    by_cases h5 : X = 5
    · refine e_tableIn (tgt := 305) dL_law_33 (by rw [h5]; decide) (by rw [h5]; decide) (by rw [h5]; rfl) (by decide) ?_
      exact lk_5 ok dj hxf hi (by omega) (by omega) (hstep σ s 5 _ _ _ _ _ hJ (by decide)) next
    by_cases h6 : X = 6
    · refine e_tableIn (tgt := 348) dL_law_33 (by rw [h6]; decide) (by rw [h6]; decide) (by rw [h6]; rfl) (by decide) ?_
      exact lk_6 ok dj hxf hi (by omega) (by omega) (hstep σ s 6 _ _ _ _ _ hJ (by decide)) next
    by_cases h7 : X = 7
    · refine e_tableIn (tgt := 411) dL_law_33 (by rw [h7]; decide) (by rw [h7]; decide) (by rw [h7]; rfl) (by decide) ?_
      exact lk_7 ok dj hxf hi (by omega) (by omega) (hstep σ s 7 _ _ _ _ _ hJ (by decide)) next
    by_cases h8 : X = 8
    · refine e_tableIn (tgt := 450) dL_law_33 (by rw [h8]; decide) (by rw [h8]; decide) (by rw [h8]; rfl) (by decide) ?_
      exact lk_8 ok dj hxf hi (by omega) (by omega) (hstep σ s 8 _ _ _ _ _ hJ (by decide)) next
    by_cases h9 : X = 9
    · refine e_tableIn (tgt := 483) dL_law_33 (by rw [h9]; decide) (by rw [h9]; decide) (by rw [h9]; rfl) (by decide) ?_
      exact lk_9 ok dj hxf hi (by omega) (by omega) (hstep σ s 9 _ _ _ _ _ hJ (by decide)) next
    by_cases h10 : X = 10
    · refine e_tableIn (tgt := 506) dL_law_33 (by rw [h10]; decide) (by rw [h10]; decide) (by rw [h10]; rfl) (by decide) ?_
      exact lk_10 ok dj hxf hi (by omega) (by omega) (hstep σ s 10 _ _ _ _ _ hJ (by decide)) next
    by_cases h11 : X = 11
    · refine e_tableIn (tgt := 529) dL_law_33 (by rw [h11]; decide) (by rw [h11]; decide) (by rw [h11]; rfl) (by decide) ?_
      exact lk_11 ok dj hxf hi (by omega) (by omega) (hstep σ s 11 _ _ _ _ _ hJ (by decide)) next
    by_cases h12 : X = 12
    · refine e_tableIn (tgt := 542) dL_law_33 (by rw [h12]; decide) (by rw [h12]; decide) (by rw [h12]; rfl) (by decide) ?_
      exact lk_12 ok dj hxf hi (by omega) (by omega) (hstep σ s 12 _ _ _ _ _ hJ (by decide)) next
    by_cases h13 : X = 13
    · refine e_tableIn (tgt := 575) dL_law_33 (by rw [h13]; decide) (by rw [h13]; decide) (by rw [h13]; rfl) (by decide) ?_
      exact lk_13 ok dj hxf hi (by omega) (by omega) (hstep σ s 13 _ _ _ _ _ hJ (by decide)) next
    by_cases h14 : X = 14
    · refine e_tableIn (tgt := 588) dL_law_33 (by rw [h14]; decide) (by rw [h14]; decide) (by rw [h14]; rfl) (by decide) ?_
      exact lk_14 ok dj hxf hi (by omega) (by omega) (hstep σ s 14 _ _ _ _ _ hJ (by decide)) next
    by_cases h15 : X = 15
    · refine e_tableIn (tgt := 601) dL_law_33 (by rw [h15]; decide) (by rw [h15]; decide) (by rw [h15]; rfl) (by decide) ?_
      exact lk_15 ok dj hxf hi (by omega) (by omega) (hstep σ s 15 _ _ _ _ _ hJ (by decide)) next
    by_cases h16 : X = 16
    · refine e_tableIn (tgt := 624) dL_law_33 (by rw [h16]; decide) (by rw [h16]; decide) (by rw [h16]; rfl) (by decide) ?_
      exact lk_16 ok dj hxf hi (by omega) (by omega) (hstep σ s 16 _ _ _ _ _ hJ (by decide)) next
    by_cases h17 : X = 17
    · refine e_tableIn (tgt := 667) dL_law_33 (by rw [h17]; decide) (by rw [h17]; decide) (by rw [h17]; rfl) (by decide) ?_
      exact lk_17 ok dj hxf hi (by omega) (by omega) (hstep σ s 17 _ _ _ _ _ hJ (by decide)) next
    by_cases h18 : X = 18
    · refine e_tableIn (tgt := 690) dL_law_33 (by rw [h18]; decide) (by rw [h18]; decide) (by rw [h18]; rfl) (by decide) ?_
      exact lk_18 ok dj hxf hi (by omega) (by omega) (hstep σ s 18 _ _ _ _ _ hJ (by decide)) next
    by_cases h19 : X = 19
    · refine e_tableIn (tgt := 713) dL_law_33 (by rw [h19]; decide) (by rw [h19]; decide) (by rw [h19]; rfl) (by decide) ?_
      exact lk_19 ok dj hxf hi (by omega) (by omega) (hstep σ s 19 _ _ _ _ _ hJ (by decide)) next
    by_cases h20 : X = 20
    · refine e_tableIn (tgt := 746) dL_law_33 (by rw [h20]; decide) (by rw [h20]; decide) (by rw [h20]; rfl) (by decide) ?_
      exact lk_20 ok dj hxf hi (by omega) (by omega) (hstep σ s 20 _ _ _ _ _ hJ (by decide)) next
    by_cases h21 : X = 21
    · refine e_tableIn (tgt := 769) dL_law_33 (by rw [h21]; decide) (by rw [h21]; decide) (by rw [h21]; rfl) (by decide) ?_
      exact lk_21 ok dj hxf hi (by omega) (by omega) (hstep σ s 21 _ _ _ _ _ hJ (by decide)) next
    by_cases h22 : X = 22
    · refine e_tableIn (tgt := 802) dL_law_33 (by rw [h22]; decide) (by rw [h22]; decide) (by rw [h22]; rfl) (by decide) ?_
      exact lk_22 ok dj hxf hi (by omega) (by omega) (hstep σ s 22 _ _ _ _ _ hJ (by decide)) next
    by_cases h23 : X = 23
    · refine e_tableIn (tgt := 825) dL_law_33 (by rw [h23]; decide) (by rw [h23]; decide) (by rw [h23]; rfl) (by decide) ?_
      exact lk_23 ok dj hxf hi (by omega) (by omega) (hstep σ s 23 _ _ _ _ _ hJ (by decide)) next
    by_cases h24 : X = 24
    · refine e_tableIn (tgt := 858) dL_law_33 (by rw [h24]; decide) (by rw [h24]; decide) (by rw [h24]; rfl) (by decide) ?_
      exact lk_24 ok dj hxf hi (by omega) (by omega) (hstep σ s 24 _ _ _ _ _ hJ (by decide)) next
    by_cases h25 : X = 25
    · refine e_tableIn (tgt := 891) dL_law_33 (by rw [h25]; decide) (by rw [h25]; decide) (by rw [h25]; rfl) (by decide) ?_
      exact lk_25 ok dj hxf hi (by omega) (by omega) (hstep σ s 25 _ _ _ _ _ hJ (by decide)) next
    by_cases h26 : X = 26
    · refine e_tableIn (tgt := 934) dL_law_33 (by rw [h26]; decide) (by rw [h26]; decide) (by rw [h26]; rfl) (by decide) ?_
      exact lk_26 ok dj hxf hi (by omega) (by omega) (hstep σ s 26 _ _ _ _ _ hJ (by decide)) next
    by_cases h27 : X = 27
    · refine e_tableIn (tgt := 977) dL_law_33 (by rw [h27]; decide) (by rw [h27]; decide) (by rw [h27]; rfl) (by decide) ?_
      exact lk_27 ok dj hxf hi (by omega) (by omega) (hstep σ s 27 _ _ _ _ _ hJ (by decide)) next
    by_cases h28 : X = 28
    · refine e_tableIn (tgt := 1020) dL_law_33 (by rw [h28]; decide) (by rw [h28]; decide) (by rw [h28]; rfl) (by decide) ?_
      exact lk_28 ok dj hxf hi (by omega) (by omega) (hstep σ s 28 _ _ _ _ _ hJ (by decide)) next
    have g0 : ¬ X.toInt = 0 := fun z => h0 (Int32.toInt_inj.mp (z.trans (by decide)))
    have g1 : ¬ X.toInt = 1 := fun z => h1 (Int32.toInt_inj.mp (z.trans (by decide)))
    have g2 : ¬ X.toInt = 2 := fun z => h2 (Int32.toInt_inj.mp (z.trans (by decide)))
    have g3 : ¬ X.toInt = 3 := fun z => h3 (Int32.toInt_inj.mp (z.trans (by decide)))
    have g4 : ¬ X.toInt = 4 := fun z => h4 (Int32.toInt_inj.mp (z.trans (by decide)))
    have g5 : ¬ X.toInt = 5 := fun z => h5 (Int32.toInt_inj.mp (z.trans (by decide)))
    have g6 : ¬ X.toInt = 6 := fun z => h6 (Int32.toInt_inj.mp (z.trans (by decide)))
    have g7 : ¬ X.toInt = 7 := fun z => h7 (Int32.toInt_inj.mp (z.trans (by decide)))
    have g8 : ¬ X.toInt = 8 := fun z => h8 (Int32.toInt_inj.mp (z.trans (by decide)))
    have g9 : ¬ X.toInt = 9 := fun z => h9 (Int32.toInt_inj.mp (z.trans (by decide)))
    have g10 : ¬ X.toInt = 10 := fun z => h10 (Int32.toInt_inj.mp (z.trans (by decide)))
    have g11 : ¬ X.toInt = 11 := fun z => h11 (Int32.toInt_inj.mp (z.trans (by decide)))
    have g12 : ¬ X.toInt = 12 := fun z => h12 (Int32.toInt_inj.mp (z.trans (by decide)))
    have g13 : ¬ X.toInt = 13 := fun z => h13 (Int32.toInt_inj.mp (z.trans (by decide)))
    have g14 : ¬ X.toInt = 14 := fun z => h14 (Int32.toInt_inj.mp (z.trans (by decide)))
    have g15 : ¬ X.toInt = 15 := fun z => h15 (Int32.toInt_inj.mp (z.trans (by decide)))
    have g16 : ¬ X.toInt = 16 := fun z => h16 (Int32.toInt_inj.mp (z.trans (by decide)))
    have g17 : ¬ X.toInt = 17 := fun z => h17 (Int32.toInt_inj.mp (z.trans (by decide)))
    have g18 : ¬ X.toInt = 18 := fun z => h18 (Int32.toInt_inj.mp (z.trans (by decide)))
    have g19 : ¬ X.toInt = 19 := fun z => h19 (Int32.toInt_inj.mp (z.trans (by decide)))
    have g20 : ¬ X.toInt = 20 := fun z => h20 (Int32.toInt_inj.mp (z.trans (by decide)))
    have g21 : ¬ X.toInt = 21 := fun z => h21 (Int32.toInt_inj.mp (z.trans (by decide)))
    have g22 : ¬ X.toInt = 22 := fun z => h22 (Int32.toInt_inj.mp (z.trans (by decide)))
    have g23 : ¬ X.toInt = 23 := fun z => h23 (Int32.toInt_inj.mp (z.trans (by decide)))
    have g24 : ¬ X.toInt = 24 := fun z => h24 (Int32.toInt_inj.mp (z.trans (by decide)))
    have g25 : ¬ X.toInt = 25 := fun z => h25 (Int32.toInt_inj.mp (z.trans (by decide)))
    have g26 : ¬ X.toInt = 26 := fun z => h26 (Int32.toInt_inj.mp (z.trans (by decide)))
    have g27 : ¬ X.toInt = 27 := fun z => h27 (Int32.toInt_inj.mp (z.trans (by decide)))
    have g28 : ¬ X.toInt = 28 := fun z => h28 (Int32.toInt_inj.mp (z.trans (by decide)))
    refine e_tableOut (tgt := 1043) dL_law_33 (by omega) (by decide) ?_
    exact e_widen (by omega) (by omega) (next σ s dj ⟨fs, hxf⟩ hJ)
theorem g_defX0' : ∀ j, j < 24 → defaultValue (tyX0 j) = vp_V [.int 0, .null, .null, .int 0, .int 0, .int 0, .int 0, .null, .null, .null, .int 0, .null, .int 0, .null, .null, .null, .int 0, .null, .null, .null, .null, .null, .int 0, .null] j := by decide +kernel
theorem g_defX3' : ∀ j, j < 56 → defaultValue (tyX3 j) = vp_V [.int 0, .null, .null, .int 0, .int 0, .int 0, .int 0, .int 0, .null, .null, .null, .null, .null, .int 0, .int 0, .null, .int 0, .int 0, .int 0, .int 0, .int 0, .int 0, .int 0, .null, .int 0, .null, .int 0, .null, .int 0, .null, .null, .null, .null, .int 0, .int 0, .int 0, .int 0, .int 0, .null, .null, .null, .null, .null, .null, .null, .null, .int 0, .null, .null, .null, .null, .null, .null, .null, .null, .null] j := by decide +kernel
/-- what is owed in plain: the constructors' worlds, and that one step keeps J -/
def l_owed (CB SB C0 S0 C1 S1 : Nat) (J : Nat → gH → TS → Prop) : Prop :=
  (∀ (t0 : Nat × Nat) (x0 : Nat), wX0_init (fun σ => σ.1 = t0 ∧ (∃ fs, σ.2 x0 = some (.inr (0, fs))) ∧ ∀ (o : Nat) (t : Nat × Nat), wX3_init (fun τ => ∃ (ad : Nat → Nat) (s : TS), t_ok o ad ∧ τ = t_map o ad s ∧ J x0 σ s) C1 S1 o (g_up (t, fun _ => none) o (.inr (3, [.int 0, .null, .null, .int 0, .int 0, .int 0, .int 0, .int 0, .null, .null, .null, .null, .null, .int 0, .int 0, .null, .int 0, .int 0, .int 0, .int 0, .int 0, .int 0, .int 0, .null, .int 0, .null, .int 0, .null, .int 0, .null, .null, .null, .null, .int 0, .int 0, .int 0, .int 0, .int 0, .null, .null, .null, .null, .null, .null, .null, .null, .int 0, .null, .null, .null, .null, .null, .null, .null, .null, .null])))) C0 S0 x0 (g_up (t0, fun _ => none) x0 (.inr (0, [.int 0, .null, .null, .int 0, .int 0, .int 0, .int 0, .null, .null, .null, .int 0, .null, .int 0, .null, .null, .null, .int 0, .null, .null, .null, .null, .null, .int 0, .null])))) ∧
  (∀ (x0 : Nat) (σ : gH) (s : TS) (k : Nat) (a1 a2 a3 a4 a5 : Int32), J x0 σ s → k ≤ 28 → l_op k a1 a2 a3 a4 a5 (J x0) CB SB x0 σ s) ∧ 2 + C0 + C1 + 64 * CB ≤ 603072 ∧ 80 + S0 + S1 + 64 * SB ≤ 7262314
theorem l_start {b L CB SB C0 S0 C1 S1 : Nat} {xs : Nat → Int32} {J : Nat → gH → TS → Prop} (hL : L ≤ 384) (w : l_owed CB SB C0 S0 C1 S1 J) (t0 : Nat × Nat) : E mL 2048 603072 7262314 (g_lz b L xs) 0 0 0 [(0, .ref b)] [] (t0, fun _ => none) := by
  obtain ⟨w1, w2, w3, w4⟩ := w
  have c1 : c_new (t0, fun _ => none) (.inr (0, [.int 0, .null, .null, .int 0, .int 0, .int 0, .int 0, .null, .null, .null, .int 0, .null, .int 0, .null, .null, .null, .int 0, .null, .null, .null, .null, .null, .int 0, .null])) (fun q σ => σ = g_up (t0, fun _ => none) q (.inr (0, [.int 0, .null, .null, .int 0, .int 0, .int 0, .int 0, .null, .null, .null, .int 0, .null, .int 0, .null, .null, .null, .int 0, .null, .null, .null, .null, .null, .int 0, .null]))) := fun q σ _ h => h
  refine e_cnew (n := 3) c1 tyX0 tyX0_ok in_X0 rfl q93 q94 q57 (fun j hj => g_defX0' j hj) (by omega) (by omega) dL_law_0 rfl (fun x0 σ hσ => ?_)
  subst hσ
  refine e_dup (n := 4) dL_law_3 rfl rfl ?_
  refine e_callI (n := 7) (As := []) (st := [.ref x0]) okX0_init rfl rfl q95 q96 q57 q97 (by decide) (mc' := C0) (ms' := S0) (by omega) (by omega) rfl rfl (Nat.le_of_ble_eq_true rfl) dL_law_4 rfl (ctX0_init (w1 t0 x0)) (fun r9 σ hk => ?_)
  obtain ⟨rfl, h01, hx, w5⟩ := hk
  refine e_astore_n (n := 8) (lv' := [(0, .ref b), (1, .ref x0)]) [1, 0] dL_law_7 rfl rfl rfl ?_
  have c2 : c_new σ (.inr (3, [.int 0, .null, .null, .int 0, .int 0, .int 0, .int 0, .int 0, .null, .null, .null, .null, .null, .int 0, .int 0, .null, .int 0, .int 0, .int 0, .int 0, .int 0, .int 0, .int 0, .null, .int 0, .null, .int 0, .null, .int 0, .null, .null, .null, .null, .int 0, .int 0, .int 0, .int 0, .int 0, .null, .null, .null, .null, .null, .null, .null, .null, .int 0, .null, .null, .null, .null, .null, .null, .null, .null, .null])) (fun q σ' => σ.2 q = none ∧ σ' = g_up σ q (.inr (3, [.int 0, .null, .null, .int 0, .int 0, .int 0, .int 0, .int 0, .null, .null, .null, .null, .null, .int 0, .int 0, .null, .int 0, .int 0, .int 0, .int 0, .int 0, .int 0, .int 0, .null, .int 0, .null, .int 0, .null, .int 0, .null, .null, .null, .null, .int 0, .int 0, .int 0, .int 0, .int 0, .null, .null, .null, .null, .null, .null, .null, .null, .int 0, .null, .null, .null, .null, .null, .null, .null, .null, .null]))) := fun q σ' h1 h2 => ⟨h1, h2⟩
  refine e_cnew (n := 11) c2 tyX3 tyX3_ok in_X3 rfl q1327 q1328 q63 (fun j hj => g_defX3' j hj) (by omega) (by omega) dL_law_8 rfl (fun o σ2 hσ2 => ?_)
  obtain ⟨hfree, hσ2⟩ := hσ2
  have dj : g_dj σ (g_up (t0, fun _ => none) o (.inr (3, [.int 0, .null, .null, .int 0, .int 0, .int 0, .int 0, .int 0, .null, .null, .null, .null, .null, .int 0, .int 0, .null, .int 0, .int 0, .int 0, .int 0, .int 0, .int 0, .int 0, .null, .int 0, .null, .int 0, .null, .int 0, .null, .null, .null, .null, .int 0, .int 0, .int 0, .int 0, .int 0, .null, .null, .null, .null, .null, .null, .null, .null, .int 0, .null, .null, .null, .null, .null, .null, .null, .null, .null]))) := ⟨h01, fun a ha => by
    by_cases e : a = o
    · rw [e] at ha; exact absurd hfree ha
    · show va_up _ _ _ _ = _
      rw [va_up_ne _ _ e]⟩
  have hmg : σ2 = g_mg σ (g_up (t0, fun _ => none) o (.inr (3, [.int 0, .null, .null, .int 0, .int 0, .int 0, .int 0, .int 0, .null, .null, .null, .null, .null, .int 0, .int 0, .null, .int 0, .int 0, .int 0, .int 0, .int 0, .int 0, .int 0, .null, .int 0, .null, .int 0, .null, .int 0, .null, .null, .null, .null, .int 0, .int 0, .int 0, .int 0, .int 0, .null, .null, .null, .null, .null, .null, .null, .null, .int 0, .null, .null, .null, .null, .null, .null, .null, .null, .null]))) := by
    rw [hσ2]
    refine Prod.ext h01 ?_
    funext a
    by_cases e : a = o
    · rw [e]
      rw [g_mg_r (e := .inr (3, [.int 0, .null, .null, .int 0, .int 0, .int 0, .int 0, .int 0, .null, .null, .null, .null, .null, .int 0, .int 0, .null, .int 0, .int 0, .int 0, .int 0, .int 0, .int 0, .int 0, .null, .int 0, .null, .int 0, .null, .int 0, .null, .null, .null, .null, .int 0, .int 0, .int 0, .int 0, .int 0, .null, .null, .null, .null, .null, .null, .null, .null, .int 0, .null, .null, .null, .null, .null, .null, .null, .null, .null])) (by show va_up _ _ _ _ = _; rw [va_up_self])]
      show va_up _ _ _ _ = _
      rw [va_up_self]
    · rw [g_mg_n (by show va_up _ _ _ _ = _; rw [va_up_ne _ _ e])]
      show va_up _ _ _ _ = _
      rw [va_up_ne _ _ e]
  rw [hmg]
  refine e_dup (n := 12) dL_law_11 rfl rfl ?_
  refine e_callI (n := 15) (As := []) (st := [.ref o]) okX3_init rfl rfl q1329 q1330 q63 q1331 (by decide) (mc' := C1) (ms' := S1) (by omega) (by omega) rfl rfl (Nat.le_of_ble_eq_true rfl) dL_law_12 rfl (CT.frame dj (ctX3_init (w5 o t0))) (fun r9 σ3 hk => ?_)
  obtain ⟨τ9, ⟨rfl, ad, s, ok, rfl, hJ⟩, dj2, rfl⟩ := hk
  rw [g_mg_comm dj2]
  refine e_astore_n (n := 16) (lv' := [(0, .ref b), (1, .ref x0), (2, .ref o)]) [1, 2, 0] dL_law_15 rfl rfl rfl ?_
  refine e_iconst (n := 17) (v := 0) dL_law_16 rfl (by decide) ?_
  refine e_istore_n (n := 18) (lv' := [(0, .ref b), (1, .ref x0), (2, .ref o), (3, .int 0)]) [1, 2, 3, 0] dL_law_17 rfl rfl rfl ?_
  exact l_loop hL ok (fun σ s k a1 a2 a3 a4 a5 h hk => w2 x0 σ s k a1 a2 a3 a4 a5 h hk) 64 0 _ _ σ s (by omega) (by omega) (by omega) (by omega) dj2.symm hx hJ
