/-! PLAIN LAW, the component: skip -/
set_option maxRecDepth 100000
theorem z_bm_lt {C : Cf} {i j m : Nat} (ok : z_ok C) (hij : i < j) (hj : j ≤ C.1 34) (h : z_k C i j ≠ 1000000000) (h1 : 1 ≤ m) (h2 : m < z_bm C i j) : z_sp C i m + z_k C (i + m) j ≠ z_k C i j := by
  obtain ⟨b1, b2, b3, -⟩ := z_bm_at ok hij hj h
  have := (z_lst_at (d := 0) (P := fun m => 1 ≤ m ∧ i + m ≤ j ∧ z_sp C i m + z_k C (i + m) j = z_k C i j) ⟨z_bm C i j, b1, b2, b3⟩).2 m h2
  intro e
  exact this ⟨h1, by omega, e⟩
section SKC
variable {C : Cf} {ow ow' : Nat → Nat} {σ σ' : gH} {x0 : Nat} {kk kc ru xs : Nat → Nat} {X2 X3 : cX} {Nc ns gw N : Nat} {fs0 : List Value} {st : St}
theorem lEq2 {u v : Nat} (hu : u < 4611686018427387904) (hv : v < 4611686018427387904) : lN u = lN v ↔ u = v := by
  constructor
  · intro e
    have h1 : lN u ≤ lN v := by rw [e]; exact Int64.le_refl _
    have h2 : lN v ≤ lN u := by rw [e]; exact Int64.le_refl _
    have := (pk_lLE (by omega) (by omega)).mp h1
    have := (pk_lLE (by omega) (by omega)).mp h2
    omega
  · intro e; rw [e]
/-- the first skip is found -/
theorem c_sk10 {Q : gH → Prop} {K : Nat → Nat → Nat → Int32 → Int32 → Int32 → gH → Prop} {mc ms uc us i j : Nat} (ok : z_ok C) (hF : cFu C ow σ x0 kk kc Nc ns xs ru X2 X3) (hg : hat ow σ gw 206 (cO 16 [.ref (kc 0), .ref x0])) (hij : i < j) (hj : j ≤ C.1 34) (hk : z_k C i j ≠ 1000000000) (w : K uc us gw (nI j) (nI i) (nI (z_bm C i j)) σ) : ∃ fu, wX16_skip_10 Q mc ms K fu uc us gw (nI j) (nI i) 1 σ := by
  have o := ok.1
  obtain ⟨⟨hM, hMo, hL, ⟨s7, r1, r2⟩, ⟨s8, k1, k2⟩, hRd⟩, hRu, hC, hG⟩ := hF
  obtain ⟨b1, b2, b3, b4, b5⟩ := z_bm_at ok hij hj hk
  obtain ⟨b7, g7, r3, r4, r5⟩ := r2 i (by omega)
  obtain ⟨b8, g8, c1, c2, c3⟩ := k2 i (by omega)
  have kb := z_k_bd2 ok (i := i) (j := j) (by omega) hj
  refine pk_loop (σ := gH) (fun n d σ' => wX16_skip_10 Q mc ms K n uc us gw (nI j) (nI i) (nI (d + 1)) σ') (fun d σ' => σ' = σ) (z_bm C i j - 1) 0 σ (by omega) rfl ?_ ?_
  · rintro n σ1 rfl
    have sk := r5 (by omega) (z_bm C i j) (by omega) (by omega)
    obtain ⟨b9, g9, d1, d2, d3⟩ := k2 (i + z_bm C i j) (by omega)
    simp only [wX16_skip_10]
    rw [show z_bm C i j - 1 + 1 = z_bm C i j by omega]
    rcases sk with ⟨k0, k2⟩ | ⟨a, f, q, q1, q2, q3⟩
    · omega
    refine i_R hg.1 (by decide) rfl ⟨_, rfl, i_R hM.2.1.1 (by decide) rfl ⟨_, rfl, i_aR r1.1 rfl (by omega) (by decide) ⟨b7, r3, i_aR r4.1 rfl (by omega) (by decide) (br_n (by rw [q1]; simp) (i_R hg.1 (by decide) rfl ⟨_, rfl, i_R hM.2.1.1 (by decide) rfl ⟨_, rfl, i_aR r1.1 rfl (by omega) (by decide) ⟨b7, r3, i_aR r4.1 rfl (by omega) (by decide) ⟨a, q1, skp_price ok hM (by omega) q3 q2 (i_R hg.1 (by decide) rfl ⟨_, rfl, i_R hM.2.1.1 (by decide) rfl ⟨_, rfl, i_aR k1.1 (nI_add _ _) (by omega) (by decide) ⟨b9, d1, i_aJ d2.1 rfl (by omega) (by decide) (i_R hg.1 (by decide) rfl ⟨_, rfl, i_R hM.2.1.1 (by decide) rfl ⟨_, rfl, i_aR k1.1 rfl (by omega) (by decide) ⟨b8, c1, i_aJ c2.1 rfl (by omega) (by decide) ?_⟩⟩⟩)⟩⟩⟩)⟩⟩⟩⟩))⟩⟩⟩
    rw [d3 j ⟨by omega, hj⟩, c3 j ⟨by omega, hj⟩, zc_ne b4, zc_ne hk, nI_l (by omega), lN_add, b3]
    exact br_p rfl w
  · rintro n d σ1 hd rfl hs
    have sk := r5 (by omega) (d + 1) (by omega) (by omega)
    obtain ⟨b9, g9, d1, d2, d3⟩ := k2 (i + (d + 1)) (by omega)
    have sb := z_sp_bd ok (i := i) (m := d + 1) (by omega) (by omega)
    have kb2 := z_k_bd2 ok (i := i + (d + 1)) (j := j) (by omega) hj
    have nx : wX16_skip_71 Q mc ms (wX16_skip_10 Q mc ms K n) K uc us gw (nI j) (nI i) (nI (d + 1)) σ1 := by
      unfold wX16_skip_71
      rw [nI_1]
      exact al_eq (hs σ1 rfl)
    simp only [wX16_skip_10]
    refine i_R hg.1 (by decide) rfl ⟨_, rfl, i_R hM.2.1.1 (by decide) rfl ⟨_, rfl, i_aR r1.1 rfl (by omega) (by decide) ⟨b7, r3, i_aR r4.1 rfl (by omega) (by decide) ?_⟩⟩⟩
    rcases sk with ⟨k0, k2⟩ | ⟨a, f, q, q1, q2, q3⟩
    · exact br_p k0 nx
    refine br_n (by rw [q1]; simp) (i_R hg.1 (by decide) rfl ⟨_, rfl, i_R hM.2.1.1 (by decide) rfl ⟨_, rfl, i_aR r1.1 rfl (by omega) (by decide) ⟨b7, r3, i_aR r4.1 rfl (by omega) (by decide) ⟨a, q1, skp_price ok hM (by omega) q3 q2 (i_R hg.1 (by decide) rfl ⟨_, rfl, i_R hM.2.1.1 (by decide) rfl ⟨_, rfl, i_aR k1.1 (nI_add _ _) (by omega) (by decide) ⟨b9, d1, i_aJ d2.1 rfl (by omega) (by decide) (i_R hg.1 (by decide) rfl ⟨_, rfl, i_R hM.2.1.1 (by decide) rfl ⟨_, rfl, i_aR k1.1 rfl (by omega) (by decide) ⟨b8, c1, i_aJ c2.1 rfl (by omega) (by decide) ?_⟩⟩⟩)⟩⟩⟩)⟩⟩⟩⟩)
    rw [d3 j ⟨by omega, hj⟩, c3 j ⟨by omega, hj⟩, zc_ne hk, nI_l (by omega), lN_add]
    refine br_n (fun z => ?_) nx
    have lt := z_bm_lt ok hij hj hk (m := d + 1) (by omega) (by omega)
    by_cases e : z_k C (i + (d + 1)) j = 1000000000
    · rw [e, zc_I] at z
      have := (lEq2 (by omega) (by omega)).mp z
      omega
    · rw [zc_ne e] at z
      have := (lEq2 (by omega) (by omega)).mp z
      omega
theorem y_sl_n (k i w pr : Nat) (st : St) : (y_sl k i w pr st).1.1 = st.1.1 + 1 := rfl
/-- skips from i to j -/
theorem c_sk2 {Q : gH → Prop} {K : Nat → Nat → gH → Prop} {mc ms j : Nat} (ok : z_ok C) (hj : j ≤ C.1 34) : ∀ (d i : Nat) (ow : Nat → Nat) (σ : gH) (N : Nat) (st : St) (uc us k : Nat), j - i ≤ d → i ≤ j → z_k C i j ≠ 1000000000 → cFu C ow σ x0 kk kc Nc ns xs ru X2 X3 → wS C ow σ x0 kk kc gw fs0 N st → st.1.1 + j < 30000 + i → (y_sk C j 12 i st).1.1 = st.1.1 + k → uc + k ≤ mc → us + 4 * cpN N st.1.1 k ≤ ms + 4 * N →
    (∀ ow' σ' uc' us', hmv TW ow σ ow' σ' → cFu C ow' σ' x0 kk kc Nc ns xs ru X2 X3 → wS C ow' σ' x0 kk kc gw fs0 (cpN N st.1.1 k) (y_sk C j 12 i st) → uc' ≤ uc + k → us' + 4 * N ≤ us + 4 * cpN N st.1.1 k → K uc' us' σ') → wX16_skip_2 Q mc ms K (d + 1) uc us gw (nI j) (nI i) σ := by
  have o := ok.1
  intro d
  induction d with
  | zero =>
    intro i ow σ N st uc us k hd hij hk hF hW hn ek hu hs w
    obtain rfl : i = j := by omega
    rw [y_sk_end] at ek w
    obtain rfl : k = 0 := by omega
    simp only [wX16_skip_2]
    exact br_p (nI_le (by omega) (by omega)) (w ow σ uc us hmv.rf hF hW (by omega) (Nat.le_refl _))
  | succ d ih =>
    intro i ow σ N st uc us k hd hij hk hF hW hn ek hu hs w
    by_cases e : i = j
    · subst e
      rw [y_sk_end] at ek w
      obtain rfl : k = 0 := by omega
      simp only [wX16_skip_2]
      exact br_p (nI_le (by omega) (by omega)) (w ow σ uc us hmv.rf hF hW (by omega) (Nat.le_refl _))
    · have hlt : i < j := by omega
      obtain ⟨b1, b2, b3, b4, b5⟩ := z_bm_at ok hlt hj hk
      rw [y_sk_one ok hlt hj hk] at ek w
      have cn := y_sk_cnt ok hj 12 (i + z_bm C i j) (y_sl (if z_bm C i j = 1 then 6 else 7) i (if z_bm C i j = 1 then 0 else z_bm C i j) (z_sp C i (z_bm C i j)) st) b2 (by omega) b4
      rw [y_sl_n] at cn
      obtain ⟨k', rfl⟩ : ∃ k', k = k' + 1 := ⟨k - 1, by omega⟩
      simp only [wX16_skip_2]
      refine br_n (nI_nle2 (by omega) (by omega)) (c_sk10 ok hF hW.2.1 hlt hj hk ?_)
      obtain ⟨⟨hM, hMo, hL, ⟨s7, r1, r2⟩, hSg, hRd⟩, hRu, hC, hG⟩ := id hF
      obtain ⟨b7, g7, r3, r4, r5⟩ := r2 i (by omega)
      rcases r5 (by omega) (z_bm C i j) (by omega) (by omega) with ⟨q0, q2⟩ | ⟨a, f, q, q1, q2, q3⟩
      · omega
      obtain ⟨w0, w1, w2, w3, w4⟩ := id hW
      have ww := w0.set (.int (nI st.1.2.1))
      refine i_R w1.1 (by decide) rfl ⟨_, rfl, i_R w2.1 (by decide) ww.2.2.2.1 (i_R w1.1 (by decide) rfl ⟨_, rfl, i_R hM.2.1.1 (by decide) rfl ⟨_, rfl, i_aR r1.1 rfl (by omega) (by decide) ⟨b7, r3, i_aR r4.1 rfl (by omega) (by decide) ⟨_, rfl, ?_⟩⟩⟩⟩)⟩
      rw [q1]
      have sl : cSl C ow σ kc x0 a (if z_bm C i j = 1 then 6 else 7) i (if z_bm C i j = 1 then 0 else z_bm C i j) (z_sp C i (z_bm C i j)) := by
        have ht := ok.2.2.2.1 i (by omega)
        have sp := sp_price q2
        by_cases em : z_bm C i j = 1
        · rw [if_pos em] at q3 sp ⊢
          rw [if_pos em]
          exact ⟨f, q, C.2 15 i, 0, z_bm C i j, q3, ⟨by omega, by omega⟩, ht, by omega, fun z => by omega, ⟨fun z => by omega, fun z => by omega⟩, ⟨rfl, by omega, by omega⟩, by rw [if_neg (by omega)]; exact sp⟩
        · rw [if_neg em] at q3 sp ⊢
          rw [if_neg em]
          exact ⟨f, q, C.2 15 i, 0, z_bm C i j, q3, ⟨by omega, by omega⟩, ht, by omega, fun z => by omega, ⟨fun z => by omega, fun z => by omega⟩, ⟨rfl, by omega, by omega⟩, by rw [if_neg (by omega)]; exact sp⟩
      have ecp : cpN N st.1.1 (k' + 1) = cpN (lsN N st.1.1) (st.1.1 + 1) k' := rfl
      have ge := cpN_ge k' (lsN N st.1.1) (st.1.1 + 1)
      rw [ecp] at hs w
      refine w_add (R := fun uc us σ' => ∀ x3_27 : Int32, x3_27 = nI i + nI (z_bm C i j) → wX16_skip_2 Q mc ms K (d + 1) uc us gw (nI j) x3_27 σ') ok hF hW sl (by omega) (by omega) (by omega) (fun ow1 σ1 uc1 us1 m1 hF1 hW1 hu1 hs1 => ?_)
      rw [nI_add]
      refine al_eq (ih (i + z_bm C i j) ow1 σ1 (lsN N st.1.1) _ uc1 us1 k' (by omega) b2 b4 hF1 hW1 (by rw [y_sl_n]; omega) (by rw [y_sl_n]; omega) (by omega) (by rw [y_sl_n]; omega) (fun ow2 σ2 uc2 us2 m2 hF2 hW2 hu2 hs2 => w ow2 σ2 uc2 us2 (m1.tr m2) hF2 hW2 (by omega) (by rw [y_sl_n] at hs2; omega)))
theorem c_skip {Q : gH → Prop} {mc ms i j k : Nat} (ok : z_ok C) (hF : cFu C ow σ x0 kk kc Nc ns xs ru X2 X3) (hW : wS C ow σ x0 kk kc gw fs0 N st) (hij : i ≤ j) (hj : j ≤ C.1 34) (hk : z_k C i j ≠ 1000000000) (hn : st.1.1 < 20000) (ek : (y_sk C j 12 i st).1.1 = st.1.1 + k) (hu : k ≤ mc) (hs : 4 * cpN N st.1.1 k ≤ ms + 4 * N)
    (w : ∀ ow' σ', hmv TW ow σ ow' σ' → cFu C ow' σ' x0 kk kc Nc ns xs ru X2 X3 → wS C ow' σ' x0 kk kc gw fs0 (cpN N st.1.1 k) (y_sk C j 12 i st) → Q σ') : wX16_skip Q mc ms gw (nI i) (nI j) σ := by
  unfold wX16_skip
  exact ⟨_, c_sk2 ok hj (j - i) i ow σ N st 0 0 k (Nat.le_refl _) hij hk hF hW (by have := ok.1; omega) ek (by omega) (by omega) (fun ow' σ' uc' us' m1 h1 h2 _ _ => w ow' σ' m1 h1 h2)⟩
end SKC
