/-! PLAIN LAW, the component: a token is read, whole -/
set_option maxRecDepth 100000
section RDE
variable {C : Cf} {ow ow' : Nat → Nat} {σ σ' : gH} {x0 : Nat} {kk kc ru xs : Nat → Nat} {X2 X3 : cX} {Nc ns gw N : Nat} {fs0 : List Value} {st : St}
theorem c_r190 {Q : gH → Prop} {mc ms uc us t p q a kd f fo : Nat} (ok : z_ok C) (hF : cFu C ow σ x0 kk kc Nc ns xs ru X2 X3) (hW : wS C ow σ x0 kk kc gw fs0 N st) (cd : rCd C ow σ kc x0 t p q a kd f fo) (hn : st.1.2.1 < 300) (hn2 : st.1.1 < 30000) (hu : uc + (if kd = 0 then 0 else 1) ≤ mc) (hs : us + 4 * cpN N st.1.1 (if kd = 0 then 0 else 1) ≤ ms + 4 * N)
    (w : ∀ ow' σ', hmv TW ow σ ow' σ' → cFu C ow' σ' x0 kk kc Nc ns xs ru X2 X3 → wS C ow' σ' x0 kk kc gw fs0 (cpN N st.1.1 (if kd = 0 then 0 else 1)) (y_wd t (if kd = 0 then st else y_sl kd (kK C f / 5) (if kd < 3 then t else if kd = 3 then 0 else fo) (z_R C t (kK C p) (kK C q) - z_up C (kK C p) (kK C f)) st)) → Q σ') : wX16_read_190 Q mc ms uc us gw (nI t) (some a) σ := by
  have o := ok.1
  obtain ⟨i, pr, hsp, c2, c3⟩ := cd
  obtain ⟨fm, nu, p1, p2, p3, p4, p5, p6, p7⟩ := id hsp
  have b := z_st_pl ok p5
  unfold wX16_read_190
  refine ⟨_, rfl, hsp.kind ?_⟩
  refine pk_le kd 0 (fun e => ?_) (fun e => ?_) rfl nI_0.symm (by omega) (by decide)
  · obtain rfl : kd = 0 := by omega
    rw [if_pos rfl] at hu hs
    simp only [if_true] at w
    exact c_word ok hF hW hn w
  · have ne : ¬ kd = 0 := by omega
    rw [if_neg ne] at hu hs
    simp only [if_neg ne] at w
    obtain ⟨w0, w1, w2, w3, w4⟩ := id hW
    have ww := w0.set (.int (nI st.1.2.1))
    refine i_R w1.1 (by decide) rfl ⟨_, rfl, i_R w2.1 (by decide) ww.2.2.2.1 ⟨_, rfl, ?_⟩⟩
    have nf : kd = 4 ∨ kd = 5 → nu = fo := fun z => by
      rcases z with z | z
      · exact (p6 z).1
      · exact (p7 z).1
    have hi2 : kd = 2 → i < C.1 34 := fun z => by
      subst z
      rcases p5 with h | h | h | h | h | h | h | h <;> omega
    have sl : cSl C ow σ kc x0 a kd i (if kd < 3 then t else if kd = 3 then 0 else fo) pr := by
      refine ⟨f, q, t, fm, nu, p1, ⟨by omega, by omega⟩, b.2.2.2.2.2.2.2.1, b.1, hi2, ⟨fun z => ?_, fun z => ?_⟩, ⟨?_, ?_, by omega⟩, st_price p5 nf⟩
      · rw [(p6 z).1]; exact (p6 z).2
      · rw [(p7 z).1]; exact (p7 z).2
      · have e : kd = 1 ∨ kd = 2 ∨ kd = 3 ∨ kd = 4 ∨ kd = 5 := by omega
        rcases e with rfl | rfl | rfl | rfl | rfl
        · rfl
        · rfl
        · rfl
        · rw [if_neg (by omega), if_neg (by omega)]; exact (nf (Or.inl rfl)).symm
        · rw [if_neg (by omega), if_neg (by omega)]; exact (nf (Or.inr rfl)).symm
      · have e1 := b.2.2.2.2.2.2.2.1
        have e2 := b.2.2.2.2.2.2.2.2
        by_cases z1 : kd < 3
        · rw [if_pos z1]; omega
        · rw [if_neg z1]
          by_cases z2 : kd = 3
          · rw [if_pos z2]; omega
          · rw [if_neg z2]; omega
    have e1 : kK C f / 5 = i := b.2.1
    have e2 : z_R C t (kK C p) (kK C q) - z_up C (kK C p) (kK C f) = pr := by omega
    rw [e1, e2] at w
    have ecp : cpN N st.1.1 1 = lsN N st.1.1 := rfl
    rw [ecp] at hs w
    refine w_add (R := fun uc us σ' => wX16_read_213 Q mc ms uc us gw (nI t) σ') ok hF hW sl (by omega) hu hs (fun ow1 σ1 uc1 us1 m1 hF1 hW1 _ _ => ?_)
    exact c_word ok hF1 hW1 hn (fun ow2 σ2 m2 hF2 hW2 => w ow2 σ2 (m1.tr m2) hF2 hW2)
theorem c_read {Q : gH → Prop} {mc ms t p q k : Nat} (ok : z_ok C) (hF : cFu C ow σ x0 kk kc Nc ns xs ru X2 X3) (hW : wS C ow σ x0 kk kc gw fs0 N st) (ht : t < C.1 0) (hp : p < nK C) (hq : q < nK C) (hR : z_R C t (kK C p) (kK C q) ≠ 1000000000) (hn : st.1.2.1 < 300) (hn2 : st.1.1 < 10000) (ek : (y_tk C t (kK C p) (kK C q) st).1.1 = st.1.1 + k) (hu : k ≤ mc) (hs : 4 * cpN N st.1.1 k ≤ ms + 4 * N)
    (w : ∀ ow' σ', hmv TW ow σ ow' σ' → cFu C ow' σ' x0 kk kc Nc ns xs ru X2 X3 → wS C ow' σ' x0 kk kc gw fs0 (cpN N st.1.1 k) (y_tk C t (kK C p) (kK C q) st) → Q σ') : wX16_read Q mc ms gw (nI t) (nI p) (nI q) σ := by
  have o := ok.1
  have nk := nK_le ok
  unfold wX16_read
  refine c_rd6 ok hF hW.2.1 ht hp hq hR (fun a kd f fo cd e1 e2 e3 => ?_)
  obtain ⟨i, pr, hsp, c2, c3⟩ := id cd
  obtain ⟨fm, nu, p1, p2, p3, p4, p5, p6, p7⟩ := id hsp
  have bf := kK_bd ok p2
  refine ⟨_, rfl, hsp.fr ?_⟩
  have ey : ∀ S, S = (if kK C p = kK C f then st else y_sk C (kK C f / 5) 12 (kK C p / 5) st) → y_tk C t (kK C p) (kK C q) st = y_wd t (if kd = 0 then S else y_sl kd (kK C f / 5) (if kd < 3 then t else if kd = 3 then 0 else fo) (z_R C t (kK C p) (kK C q) - z_up C (kK C p) (kK C f)) S) := by
    intro S hS
    unfold y_tk
    rw [e1, e2, e3, ← hS]
  have cnt : ∀ S : St, (y_wd t (if kd = 0 then S else y_sl kd (kK C f / 5) (if kd < 3 then t else if kd = 3 then 0 else fo) (z_R C t (kK C p) (kK C q) - z_up C (kK C p) (kK C f)) S)).1.1 = S.1.1 + (if kd = 0 then 0 else 1) := by
    intro S
    by_cases z : kd = 0
    · rw [if_pos z, if_pos z]; rfl
    · rw [if_neg z, if_neg z]; rfl
  refine pk_eq f p (fun e => ?_) (fun e => ?_) rfl rfl (by omega) (by omega)
  · subst e
    have y := ey st (by rw [if_pos rfl])
    rw [y] at ek w
    rw [cnt] at ek
    obtain rfl : k = (if kd = 0 then 0 else 1) := by omega
    exact c_r190 ok hF hW cd hn (by omega) (by omega) (by omega) w
  · have ne : kK C p ≠ kK C f := fun z => e (kK_inj ok hp p2 z).symm
    obtain ⟨u1, u2, u3, u4⟩ := z_up_k c2 ne
    have y := ey (y_sk C (kK C f / 5) 12 (kK C p / 5) st) (by rw [if_neg ne])
    rw [y] at ek w
    rw [cnt] at ek
    have kne : z_k C (kK C p / 5) (kK C f / 5) ≠ 1000000000 := by rw [← u4]; exact c2
    obtain ⟨d1, d2, d3, d4⟩ := y_sk_cnt ok (j := kK C f / 5) (by omega) 12 (kK C p / 5) st (by omega) (by omega) kne
    obtain ⟨k1, ek1⟩ : ∃ k1, (y_sk C (kK C f / 5) 12 (kK C p / 5) st).1.1 = st.1.1 + k1 := ⟨(y_sk C (kK C f / 5) 12 (kK C p / 5) st).1.1 - st.1.1, by omega⟩
    have ekk : k = k1 + (if kd = 0 then 0 else 1) := by omega
    have ge1 := cpN_ge k1 N st.1.1
    have eadd : cpN N st.1.1 k = cpN (cpN N st.1.1 k1) (st.1.1 + k1) (if kd = 0 then 0 else 1) := by rw [ekk]; exact cpN_add _ _ _ _
    have ge2 := cpN_ge (if kd = 0 then 0 else 1) (cpN N st.1.1 k1) (st.1.1 + k1)
    obtain ⟨⟨hM, ⟨fmo, m1, m2⟩, hL, hSk, hSg, hRd⟩, hRu, hC, hG⟩ := id hF
    obtain ⟨w0, w1, w2, w3, w4⟩ := id hW
    refine i_R w1.1 (by decide) rfl ⟨_, rfl, i_R hM.2.1.1 (by decide) rfl ⟨_, rfl, i_aI m1.1 rfl (by omega) (by decide) (i_R w1.1 (by decide) rfl ⟨_, rfl, i_R hM.2.1.1 (by decide) rfl (hsp.fr ⟨_, rfl, i_aI m1.1 rfl (by omega) (by decide) ⟨_, w1.1, k1, 4 * cpN N st.1.1 k1 - 4 * N, by omega, by omega, ?_⟩⟩)⟩)⟩⟩
    rw [m2 p hp, m2 f p2, if_pos u1, if_pos u2]
    refine c_skip ok hF hW (by omega) (by omega) kne (by omega) ek1 (Nat.le_refl _) (by omega) (fun ow1 σ1 n1 hF1 hW1 => ?_)
    have wd : (y_sk C (kK C f / 5) 12 (kK C p / 5) st).1.2.1 = st.1.2.1 := by rw [d3]
    have cd1 : rCd C ow1 σ1 kc x0 t p q a kd f fo := ⟨i, pr, hsp.mv n1 (by decide), c2, c3⟩
    refine c_r190 ok hF1 hW1 cd1 (by omega) (by omega) (by omega) (by rw [ek1]; omega) (fun ow2 σ2 n2 hF2 hW2 => ?_)
    rw [ek1] at hW2
    rw [eadd] at w
    exact w ow2 σ2 (n1.tr n2) hF2 hW2
end RDE
