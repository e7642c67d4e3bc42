/-! PLAIN LAW, the component: grow -/
set_option maxRecDepth 100000
def wR (ow : Nat → Nat) (σ : gH) (kk : Nat → Nat) (nodes tc : Nat) (f : Nat → Option Nat) (B : Nat → Nat) (H : Nat → Nat → Int32) : Prop := hat ow σ (kk 18) 120 (cO 1 [.ref tc, .int (nI nodes)]) ∧ hat ow σ tc 121 (cQ 3 5 f) ∧ ∀ w, w < 5 → f w = some (B w) ∧ hat ow σ (B w) (122 + w) (cI 100 (H w))
def hU (H : Nat → Nat → Int32) (w i : Nat) (v : Int32) : Nat → Nat → Int32 := fun w' => if w' = w then upd (H w) i v else H w'
theorem hU_s (H : Nat → Nat → Int32) (w i : Nat) (v : Int32) : hU H w i v w i = v := by unfold hU; rw [if_pos rfl, upd_s]
theorem hU_n (H : Nat → Nat → Int32) {w i w' i' : Nat} (v : Int32) (h : ¬ (w' = w ∧ i' = i)) : hU H w i v w' i' = H w' i' := by
  unfold hU
  by_cases e : w' = w
  · rw [if_pos e, upd_n _ _ (fun z => h ⟨e, z⟩), e]
  · rw [if_neg e]
section GRB
variable {C : Cf} {ow ow' : Nat → Nat} {σ σ' : gH} {x0 : Nat} {kk kc ru xs : Nat → Nat} {X2 X3 : cX} {Nc ns gw N : Nat} {fs0 : List Value} {st : St}
theorem i_row {nodes tc w i : Nat} {f : Nat → Option Nat} {B : Nat → Nat} {H : Nat → Nat → Int32} {v : Int32} {P : gH → Prop} (hR : wR ow σ kk nodes tc f B H) (hw : w < 5) (hi : i < 100) (hh : ∀ σ', hmv [122 + w] ow σ ow σ' → wR ow σ' kk nodes tc f B (hU H w i v) → P σ') : c_sI σ (B w) (nI i) v P := by
  obtain ⟨h1, h2, h3⟩ := hR
  obtain ⟨h4, h5⟩ := h3 w hw
  refine i_sI h5.1 rfl hi (by decide) ?_
  refine hh _ (hmv.rf.up h5 (by simp) rfl) ⟨h1.up h5 (by omega), h2.up h5 (by omega), fun w' hw' => ?_⟩
  obtain ⟨h6, h7⟩ := h3 w' hw'
  refine ⟨h6, ?_⟩
  by_cases e : w' = w
  · subst e
    rw [show hU H w' i v w' = upd (H w') i v by unfold hU; rw [if_pos rfl]]
    exact h5.set
  · rw [show hU H w i v w' = H w' by unfold hU; rw [if_neg e]]
    exact h7.up h5 (by omega)
theorem wT.row (h : wT ow σ kk st) : ∃ tc f B H, wR ow σ kk st.1.2.2 tc f B H ∧ ∀ w i, w < 5 → i < 100 → H w i = st.2.2.2 (5 * i + w) := by
  obtain ⟨-, tc, f, h1, h2, h3⟩ := h
  refine ⟨tc, f, fun w => if h : w < 5 then (h3 w h).choose else 0, fun w => if h : w < 5 then (h3 w h).choose_spec.choose else fun _ => 0, ⟨h1, h2, fun w hw => ?_⟩, fun w i hw hi => ?_⟩
  · simp only [dif_pos hw]
    exact ⟨(h3 w hw).choose_spec.choose_spec.1, (h3 w hw).choose_spec.choose_spec.2.1⟩
  · simp only [dif_pos hw]
    exact (h3 w hw).choose_spec.choose_spec.2.2 i hi
theorem wR.tr {nodes tc : Nat} {f : Nat → Option Nat} {B : Nat → Nat} {H : Nat → Nat → Int32} (h : wR ow σ kk nodes tc f B H) (g : Nat → Int32) (hg : ∀ w i, w < 5 → i < 100 → H w i = g (5 * i + w)) : ∃ tc f, hat ow σ (kk 18) 120 (cO 1 [.ref tc, .int (nI nodes)]) ∧ hat ow σ tc 121 (cQ 3 5 f) ∧ ∀ w, w < 5 → ∃ b h, f w = some b ∧ hat ow σ b (122 + w) (cI 100 h) ∧ ∀ i, i < 100 → h i = g (5 * i + w) :=
  ⟨tc, f, h.1, h.2.1, fun w hw => ⟨B w, H w, (h.2.2 w hw).1, (h.2.2 w hw).2, fun i hi => hg w i hw hi⟩⟩
/-- what is to be shown of grow -/
def gRw (C : Cf) (x0 : Nat) (kk kc ru xs : Nat → Nat) (X2 X3 : cX) (Nc ns gw : Nat) (fs0 : List Value) (F : Nat) : Prop := ∀ (x p q : Nat) (par : Int32) (ow : Nat → Nat) (σ : gH) (N : Nat) (st : St) (Q : gH → Prop) (mc ms k pr sz : Nat), sz ≤ F → x < C.1 5 → p ≤ q → q < nK C → z_Mb C (z_tk C) 16777216 x (kK C p) (kK C q) pr sz → pr * 16777216 + sz < 1152921504606846976 → cFu C ow σ x0 kk kc Nc ns xs ru X2 X3 → wS C ow σ x0 kk kc gw fs0 N st → st.1.2.2 + sz ≤ 100 → st.1.2.1 + 3 * sz ≤ 300 → st.1.1 ≤ st.1.2.1 + kK C p / 5 → (y_nm C F x (kK C p) (kK C q) par st).1.1 = st.1.1 + k → k ≤ mc → 4 * cpN N st.1.1 k ≤ ms + 4 * N →
  (∀ ow' σ', hmv TW ow σ ow' σ' → cFu C ow' σ' x0 kk kc Nc ns xs ru X2 X3 → wS C ow' σ' x0 kk kc gw fs0 (cpN N st.1.1 k) (y_nm C F x (kK C p) (kK C q) par st) → Q σ') → wX16_grow_n F Q mc ms gw (nI x) (nI p) (nI q) par σ
theorem c_g206 {F r q node mc ms : Nat} {Q : gH → Prop} {K : Nat → Nat → Nat → Int32 → gH → Prop} (ok : z_ok C) (hgR : gRw C x0 kk kc ru xs X2 X3 Nc ns gw fs0 F) (hr : r < C.1 7) (hq : q < nK C) : ∀ (d j p : Nat) (ow : Nat → Nat) (σ : gH) (N : Nat) (st : St) (uc us k pr z : Nat), C.2 9 r - j ≤ d → j ≤ C.2 9 r → p ≤ q → z_Ms C (z_tk C) 16777216 ((z_yl C r).drop j) (kK C p) (kK C q) pr z → pr * 16777216 + z < 1152921504606846976 → z ≤ F → cFu C ow σ x0 kk kc Nc ns xs ru X2 X3 → wS C ow σ x0 kk kc gw fs0 N st → st.1.2.2 + z ≤ 100 → st.1.2.1 + (C.2 9 r - j) + 3 * z ≤ 300 → st.1.1 ≤ st.1.2.1 + kK C p / 5 → (y_sq C (y_nm C F) node ((z_yl C r).drop j) (kK C p) (kK C q) st).1.1 = st.1.1 + k → uc + k ≤ mc → us + 4 * cpN N st.1.1 k ≤ ms + 4 * N →
    (∀ ow' σ' uc' us', hmv TW ow σ ow' σ' → cFu C ow' σ' x0 kk kc Nc ns xs ru X2 X3 → wS C ow' σ' x0 kk kc gw fs0 (cpN N st.1.1 k) (y_sq C (y_nm C F) node ((z_yl C r).drop j) (kK C p) (kK C q) st) → K uc' us' gw (nI node) σ') → wX16_grow_206 (wX16_grow_n F) Q mc ms K (d + 1) uc us gw (nI q) (some (ru r)) (nI node) (nI p) (nI j) σ := by
  have o := ok.1
  have nk := nK_le ok
  obtain ⟨or1, or2, or3⟩ := ok.2.2.2.2.1 r hr
  have fin : ∀ (n j p : Nat) (ow : Nat → Nat) (σ : gH) (N : Nat) (st : St) (uc us k : Nat), C.2 9 r ≤ j → j ≤ C.2 9 r → cFu C ow σ x0 kk kc Nc ns xs ru X2 X3 → wS C ow σ x0 kk kc gw fs0 N st → (y_sq C (y_nm C F) node ((z_yl C r).drop j) (kK C p) (kK C q) st).1.1 = st.1.1 + k → (∀ ow' σ' uc' us', hmv TW ow σ ow' σ' → cFu C ow' σ' x0 kk kc Nc ns xs ru X2 X3 → wS C ow' σ' x0 kk kc gw fs0 (cpN N st.1.1 k) (y_sq C (y_nm C F) node ((z_yl C r).drop j) (kK C p) (kK C q) st) → K uc' us' gw (nI node) σ') → wX16_grow_206 (wX16_grow_n F) Q mc ms K (n + 1) uc us gw (nI q) (some (ru r)) (nI node) (nI p) (nI j) σ := by
    intro n j p ow σ N st uc us k h1 h2 hF hW ek w
    obtain ⟨so, wh, f0, g0, rc, -⟩ := hF.2.1.2 r hr
    rw [z_yl_end h1] at ek w
    have e0 : y_sq C (y_nm C F) node [] (kK C p) (kK C q) st = st := by unfold y_sq; rfl
    rw [e0] at ek w
    obtain rfl : k = 0 := by omega
    simp only [wX16_grow_206]
    exact ⟨_, rfl, i_I rc.1 (by decide) rfl (br_p (nI_le (by omega) (by omega)) (w ow σ uc us hmv.rf hF hW))⟩
  intro d
  induction d with
  | zero =>
    intro j p ow σ N st uc us k pr z hd hj hpq hMs h3 hzF hF hW hn1 hn2 hn3 ek hu hs w
    exact fin 0 j p ow σ N st uc us k (by omega) hj hF hW ek w
  | succ d ih =>
    intro j p ow σ N st uc us k pr z hd hj hpq hMs h3 hzF hF hW hn1 hn2 hn3 ek hu hs w
    by_cases ej : C.2 9 r ≤ j
    · exact fin (d + 1) j p ow σ N st uc us k ej hj hF hW ek w
    have hj' : j < C.2 9 r := by omega
    have hd' := z_yl_drop hj'
    have hl := (z_yl_ok ok hr).1
    have bp := kK_bd ok (p := p) (by omega)
    obtain ⟨w0, w1, w2, w3, w4⟩ := id hW
    obtain ⟨so, wh, f0, g0, rc, r2, r3, r4⟩ := hF.2.1.2 r hr
    simp only [wX16_grow_206]
    refine ⟨_, rfl, i_I rc.1 (by decide) rfl (br_n (nI_nle2 (by omega) (by omega)) (c_g220 ok hF w1 hr hj' hpq hq hMs h3 (fun m hm1 hm2 esl => ?_)))⟩
    rw [hd'] at hMs ek w
    obtain ⟨a, b, c, d9, s1, s2, rfl, rfl⟩ := z_sl_at ok (by rw [← hd', List.length_drop]; omega) hMs
    rw [esl] at s1 s2
    have h3' : a * 16777216 + c * 16777216 + (b + d9) < 1152921504606846976 := by rw [← Nat.add_mul]; exact h3
    have h3a : a * 16777216 + b < 1152921504606846976 := Nat.lt_of_le_of_lt (Nat.add_le_add (Nat.le_add_right _ _) (Nat.le_add_right _ _)) h3'
    have h3c : c * 16777216 + d9 < 1152921504606846976 := Nat.lt_of_le_of_lt (Nat.add_le_add (Nat.le_add_left _ _) (Nat.le_add_left _ _)) h3'
    clear h3 h3'
    have bm := kK_bd ok (p := m) (by omega)
    -- what comes after this symbol
    have nx : ∀ (S : St) (k1 : Nat) (ow1 : Nat → Nat) (σ1 : gH) (uc1 us1 : Nat), S = (if C.2 10 (3 * r + j) < 100 then y_tk C (C.2 10 (3 * r + j)) (kK C p) (kK C m) st else y_nm C F (C.2 10 (3 * r + j) - 100) (kK C p) (kK C m) (nI node) st) → S.1.1 = st.1.1 + k1 → hmv TW ow σ ow1 σ1 → cFu C ow1 σ1 x0 kk kc Nc ns xs ru X2 X3 → wS C ow1 σ1 x0 kk kc gw fs0 (cpN N st.1.1 k1) S → S.1.2.2 + d9 ≤ 100 → S.1.2.1 + (C.2 9 r - (j + 1)) + 3 * d9 ≤ 300 → S.1.1 ≤ S.1.2.1 + kK C m / 5 → uc1 ≤ uc + k1 → us1 + 4 * N ≤ us + 4 * cpN N st.1.1 k1 → wX16_grow_328 (wX16_grow_n F) Q mc ms (wX16_grow_206 (wX16_grow_n F) Q mc ms K (d + 1)) K uc1 us1 gw (nI q) (some (ru r)) (nI node) (nI j) (nI m) σ1 := by
      intro S k1 ow1 σ1 uc1 us1 eS eS1 m1 hF1 hW1 c1 c2 c3 c4 c5
      unfold wX16_grow_328
      rw [nI_1]
      have ey : y_sq C (y_nm C F) node (C.2 10 (3 * r + j) :: (z_yl C r).drop (j + 1)) (kK C p) (kK C q) st = y_sq C (y_nm C F) node ((z_yl C r).drop (j + 1)) (kK C m) (kK C q) S := by
        rw [eS]
        conv => lhs; unfold y_sq
        rw [esl]
      rw [ey] at ek w
      have mono := y_sq_mono C (y_nm_mono C F) node ((z_yl C r).drop (j + 1)) (kK C m) (kK C q) S
      obtain ⟨k2, rfl⟩ : ∃ k2, k = k1 + k2 := ⟨k - k1, by omega⟩
      rw [cpN_add] at hs w
      refine al_eq (ih (j + 1) m ow1 σ1 (cpN N st.1.1 k1) S uc1 us1 k2 c d9 (by omega) (by omega) hm2 s2 h3c (by omega) hF1 hW1 c1 c2 c3 (by omega) (by omega) (by rw [eS1]; omega) (fun ow2 σ2 uc2 us2 m2 hF2 hW2 => w ow2 σ2 uc2 us2 (m1.tr m2) hF2 (by rw [eS1] at hW2; exact hW2)))
    have mono : ∀ S : St, S = (if C.2 10 (3 * r + j) < 100 then y_tk C (C.2 10 (3 * r + j)) (kK C p) (kK C m) st else y_nm C F (C.2 10 (3 * r + j) - 100) (kK C p) (kK C m) (nI node) st) → st.1.1 ≤ S.1.1 ∧ S.1.1 ≤ st.1.1 + k := by
      intro S eS
      have ey : y_sq C (y_nm C F) node (C.2 10 (3 * r + j) :: (z_yl C r).drop (j + 1)) (kK C p) (kK C q) st = y_sq C (y_nm C F) node ((z_yl C r).drop (j + 1)) (kK C m) (kK C q) S := by
        rw [eS]
        conv => lhs; unfold y_sq
        rw [esl]
      have mo := y_sq_mono C (y_nm_mono C F) node ((z_yl C r).drop (j + 1)) (kK C m) (kK C q) S
      rw [← ey, ek] at mo
      refine ⟨?_, mo⟩
      rw [eS]
      by_cases e : C.2 10 (3 * r + j) < 100
      · rw [if_pos e]; exact y_tk_mono C _ _ _ _
      · rw [if_neg e]; exact y_nm_mono C F _ _ _ _ _
    refine ⟨_, rfl, i_R rc.1 (by decide) rfl ⟨_, rfl, i_aI r2.1 rfl (by omega) (by decide) ?_⟩⟩
    rcases r4 j hj' with ⟨a1, a2, a3⟩ | ⟨a1, a2, a3, a4⟩
    · have e100 : C.2 10 (3 * r + j) < 100 := by omega
      rw [a1]
      obtain ⟨hRne, rfl⟩ := z_My_R e100 s1 ok
      obtain ⟨t1, t2, t3, t4⟩ := y_tk_cnt ok hRne st hn3
      obtain ⟨m1, m2⟩ := mono (y_tk C (C.2 10 (3 * r + j)) (kK C p) (kK C m) st) (by rw [if_pos e100])
      obtain ⟨k1, ek1⟩ : ∃ k1, (y_tk C (C.2 10 (3 * r + j)) (kK C p) (kK C m) st).1.1 = st.1.1 + k1 := ⟨(y_tk C (C.2 10 (3 * r + j)) (kK C p) (kK C m) st).1.1 - st.1.1, by omega⟩
      have ge := cpN_ge k1 N st.1.1
      have le : cpN N st.1.1 k1 ≤ cpN N st.1.1 k := by
        rw [show k = k1 + (k - k1) by omega, cpN_add]; exact cpN_ge _ _ _
      refine br_p rfl (i_R rc.1 (by decide) rfl ⟨_, rfl, i_aI r3.1 rfl (by omega) (by decide) ⟨_, w1.1, k1, 4 * cpN N st.1.1 k1 - 4 * N, by omega, by omega, ?_⟩⟩)
      rw [a2]
      refine c_read ok hF hW a3 (by omega) (by omega) hRne (by omega) (by omega) ek1 (Nat.le_refl _) (by omega) (fun ow1 σ1 n1 hF1 hW1 => ?_)
      exact nx _ k1 ow1 σ1 _ _ (by rw [if_pos e100]) ek1 n1 hF1 hW1 (by omega) (by omega) t1 (Nat.le_refl _) (by omega)
    · have e100 : ¬ C.2 10 (3 * r + j) < 100 := by omega
      rw [a1]
      have s1' := ((z_My_nm s1).resolve_left (fun z => e100 z.1)).2
      obtain ⟨t1, t2, t3, t4⟩ := y_nm_cnt ok F (C.2 10 (3 * r + j) - 100) (kK C p) (kK C m) (nI node) st a b (by omega) s1' hn3
      obtain ⟨m1, m2⟩ := mono (y_nm C F (C.2 10 (3 * r + j) - 100) (kK C p) (kK C m) (nI node) st) (by rw [if_neg e100])
      obtain ⟨k1, ek1⟩ : ∃ k1, (y_nm C F (C.2 10 (3 * r + j) - 100) (kK C p) (kK C m) (nI node) st).1.1 = st.1.1 + k1 := ⟨(y_nm C F (C.2 10 (3 * r + j) - 100) (kK C p) (kK C m) (nI node) st).1.1 - st.1.1, by omega⟩
      have ge := cpN_ge k1 N st.1.1
      have le : cpN N st.1.1 k1 ≤ cpN N st.1.1 k := by
        rw [show k = k1 + (k - k1) by omega, cpN_add]; exact cpN_ge _ _ _
      refine br_n (by decide) (i_R rc.1 (by decide) rfl ⟨_, rfl, i_aI r3.1 rfl (by omega) (by decide) ⟨_, w1.1, k1, 4 * cpN N st.1.1 k1 - 4 * N, by omega, by omega, ?_⟩⟩)
      rw [a4]
      refine hgR (C.2 10 (3 * r + j) - 100) p m (nI node) ow σ N st _ _ _ k1 a b (by omega) (by omega) hm1 (by omega) s1' h3a hF hW (by omega) (by omega) hn3 ek1 (Nat.le_refl _) (by omega) (fun ow1 σ1 n1 hF1 hW1 => ?_)
      exact nx _ k1 ow1 σ1 _ _ (by rw [if_neg e100]) ek1 n1 hF1 hW1 (by omega) (by omega) t1 (Nat.le_refl _) (by omega)
end GRB
