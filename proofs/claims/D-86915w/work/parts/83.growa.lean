/-! PLAIN LAW, the component: grow, its searches -/
set_option maxRecDepth 100000
theorem se_search (W : Nat → Nat → Prop) (P : Nat → Prop) {p q : Nat} (ex : ∃ m, p ≤ m ∧ m ≤ q ∧ P m) (hx : ∀ n m, p ≤ m → m ≤ q → P m → (∀ j, p ≤ j → j < m → ¬ P j) → W (n + 1) m) (hs : ∀ n m, p ≤ m → m ≤ q → ¬ P m → W n (m + 1) → W (n + 1) m) : ∃ fu, W fu p := by
  obtain ⟨m, ⟨m1, m2, m3⟩, m4⟩ := pk_least (fun m => p ≤ m ∧ m ≤ q ∧ P m) ex
  refine pk_loop (σ := Unit) (fun n i _ => W n i) (fun i _ => p ≤ i) m p () m1 (Nat.le_refl _) ?_ ?_
  · rintro n s1 -
    exact hx n m m1 m2 m3 (fun j h1 h2 h3 => m4 j h2 ⟨h1, by omega, h3⟩)
  · rintro n i s1 hi h1 hh
    exact hs n i h1 (by omega) (fun h3 => m4 i hi ⟨h1, by omega, h3⟩) (hh () (by omega))
theorem y_sk_mono (C : Cf) (j : Nat) : ∀ (f i : Nat) (st : St), st.1.1 ≤ (y_sk C j f i st).1.1 := by
  intro f
  induction f with
  | zero => intro i st; exact Nat.le_refl _
  | succ f ih =>
    intro i st
    unfold y_sk
    by_cases e : i < j
    · rw [if_pos e]
      have := ih (i + z_bm C i j) (y_sl (if z_bm C i j = 1 then 6 else 7) i (if z_bm C i j = 1 then 0 else z_bm C i j) (z_sp C i (z_bm C i j)) st)
      rw [y_sl_n] at this
      omega
    · rw [if_neg e]; exact Nat.le_refl _
theorem y_tk_mono (C : Cf) (t l q : Nat) (st : St) : st.1.1 ≤ (y_tk C t l q st).1.1 := by
  have key : st.1.1 ≤ (if l = z_b1 C t l q then st else y_sk C (z_b1 C t l q / 5) 12 (l / 5) st).1.1 := by
    by_cases e : l = z_b1 C t l q
    · rw [if_pos e]; exact Nat.le_refl _
    · rw [if_neg e]; exact y_sk_mono C _ _ _ _
  unfold y_tk
  generalize (if l = z_b1 C t l q then st else y_sk C (z_b1 C t l q / 5) 12 (l / 5) st) = S at key ⊢
  by_cases e : z_b2 C t l q = 0
  · rw [if_pos e]; exact key
  · rw [if_neg e]
    show st.1.1 ≤ S.1.1 + 1
    omega
theorem y_sq_mono (C : Cf) {g : Nat → Nat → Nat → Int32 → St → St} (hg : ∀ x l q par st, st.1.1 ≤ (g x l q par st).1.1) (node : Nat) : ∀ (ys : List Nat) (l q : Nat) (st : St), st.1.1 ≤ (y_sq C g node ys l q st).1.1 := by
  intro ys
  induction ys with
  | nil => intro l q st; exact Nat.le_refl _
  | cons y ys ih =>
    intro l q st
    unfold y_sq
    by_cases e : y < 100
    · rw [if_pos e]
      exact Nat.le_trans (y_tk_mono C _ _ _ _) (ih _ _ _)
    · rw [if_neg e]
      exact Nat.le_trans (hg _ _ _ _ _) (ih _ _ _)
theorem y_nm_mono (C : Cf) : ∀ (f x l q : Nat) (par : Int32) (st : St), st.1.1 ≤ (y_nm C f x l q par st).1.1 := by
  intro f
  induction f with
  | zero => intro x l q par st; exact Nat.le_refl _
  | succ f ih =>
    intro x l q par st
    simp only [y_nm]
    exact y_sq_mono C ih st.1.2.2 (z_yl C (z_ru C x l q)) l q (y_no x (z_ru C x l q) par st)
section GRA
variable {C : Cf} {ow ow' : Nat → Nat} {σ σ' : gH} {x0 : Nat} {kk kc ru xs : Nat → Nat} {X2 X3 : cX} {Nc ns gw N : Nat} {fs0 : List Value} {st : St}
variable {g : (gH → Prop) → Nat → Nat → Nat → Int32 → Int32 → Int32 → Int32 → gH → Prop}
/-- the rule is found -/
theorem c_g3 {Q : gH → Prop} {K : Nat → Nat → Nat → Int32 → Int32 → Int32 → Int32 → Int32 → gH → Prop} {mc ms uc us x p q pr sz : Nat} {par : Int32} (ok : z_ok C) (hF : cFu C ow σ x0 kk kc Nc ns xs ru X2 X3) (hg : hat ow σ gw 206 (cO 16 [.ref (kc 0), .ref x0])) (hx : x < C.1 5) (hpq : p ≤ q) (hq : q < nK C) (hMb : z_Mb C (z_tk C) 16777216 x (kK C p) (kK C q) pr sz) (h3 : pr * 16777216 + sz < 1152921504606846976)
    (w : K uc us gw (nI x) (nI p) (nI q) par (nI (z_ru C x (kK C p) (kK C q))) σ) : ∃ fu, wX16_grow_3 g Q mc ms K fu uc us gw (nI x) (nI p) (nI q) par 0 σ := by
  have o := ok.1
  have nk := nK_le ok
  obtain ⟨⟨hM, hMo, hL, hSk, hSg, hRd⟩, ⟨⟨NN, hN, hRl⟩, hRu⟩, hC, hG⟩ := id hF
  have tb := fG.tb hG
  have fg := hG p q hpq hq
  obtain ⟨fs, hf, hof⟩ := hM.1.2.1
  obtain ⟨r9, e91, e92, e93⟩ := z_ru_ex ok (kK_kn ok) tb (by decide) hpq hq hMb h3
  refine se_search (fun n r => wX16_grow_3 g Q mc ms K n uc us gw (nI x) (nI p) (nI q) par (nI r) σ) (fun r => C.2 8 r = x ∧ z_rs (cc C X2) (z_yl C r) p q + 1 = vL (X2 x p q)) (p := 0) (q := C.1 7 - 1) ⟨r9, by omega, by omega, e92, e93⟩ ?_ ?_
  · intro n r _ hr hP hN2
    have hr : r < C.1 7 := by omega
    obtain ⟨so, wh, f0, g0, rc, -⟩ := hRu r hr
    have cst : ∀ a, some (ru r) = some a → ∃ ci fs, ci ∈ [4] ∧ σ.2 a = some (.inr (ci, fs)) := fun a ha => by cases ha; exact ⟨4, _, by decide, rc.1⟩
    obtain ⟨f1, c, g1, d, x1, x2, x3, x4, x5⟩ := hC.2.at (i := 4 * r + 0) (p := p) (by omega) (by omega)
    obtain ⟨f2, c', g2, d', y1, y2, y3, y4, y5⟩ := hC.1.at (i := x) (p := p) (by omega) (by omega)
    have er := z_ru_eq ok (kK_kn ok) tb (by decide) hpq hq hMb h3 hr hP.1 hP.2 (fun j hj => hN2 j (by omega) hj)
    simp only [wX16_grow_3]
    refine i_R hg.1 (by decide) rfl ⟨_, rfl, i_R hf.1 (by decide) hof.2.1.2.2.1 ⟨_, rfl, ln_get hRl rfl hr (by omega) ⟨cst, _, rfl, i_I rc.1 (by decide) rfl (br_p (by rw [hP.1]) (i_R hg.1 (by decide) rfl (i_R hg.1 (by decide) rfl ⟨_, rfl, i_R hf.1 (by decide) hof.2.1.2.2.1 ⟨_, rfl, ln_get hRl rfl hr (by omega) ⟨cst, _, rfl, _, hM.2.1.1, c_rest hM (hRu r hr) x1 (by omega) (by omega) nI_0.symm ⟨c, x2, i_aR x3 rfl (by omega) (by decide) ⟨d, x4, i_aJ x5.1 rfl (by omega) (by decide) (i_R hg.1 (by decide) rfl ⟨_, rfl, i_R hM.2.1.1 (by decide) rfl ⟨_, rfl, i_aR y1 rfl (by omega) (by decide) ⟨c', y2, i_aR y3 rfl (by omega) (by decide) ⟨d', y4, i_aJ y5.1 rfl (by omega) (by decide) ?_⟩⟩⟩⟩)⟩⟩⟩⟩⟩)))⟩⟩⟩
    rw [fg.2.2.2 r hr 0 (by omega), List.drop_zero, lN_1, (fg.1 x hx).1, hP.2]
    refine br_p rfl ?_
    rw [← er.1]; exact w
  · intro n r _ hr hP hn
    have hr : r < C.1 7 := by omega
    obtain ⟨so, wh, f0, g0, rc, -⟩ := hRu r hr
    have or1 := (ok.2.2.2.2.1 r hr).1
    have cst : ∀ a, some (ru r) = some a → ∃ ci fs, ci ∈ [4] ∧ σ.2 a = some (.inr (ci, fs)) := fun a ha => by cases ha; exact ⟨4, _, by decide, rc.1⟩
    obtain ⟨f1, c, g1, d, x1, x2, x3, x4, x5⟩ := hC.2.at (i := 4 * r + 0) (p := p) (by omega) (by omega)
    obtain ⟨f2, c', g2, d', y1, y2, y3, y4, y5⟩ := hC.1.at (i := x) (p := p) (by omega) (by omega)
    have nx : wX16_grow_75 g Q mc ms (wX16_grow_3 g Q mc ms K n) K uc us gw (nI x) (nI p) (nI q) par (nI r) σ := by
      unfold wX16_grow_75
      rw [nI_1]
      exact al_eq hn
    simp only [wX16_grow_3]
    refine i_R hg.1 (by decide) rfl ⟨_, rfl, i_R hf.1 (by decide) hof.2.1.2.2.1 ⟨_, rfl, ln_get hRl rfl hr (by omega) ⟨cst, _, rfl, i_I rc.1 (by decide) rfl ?_⟩⟩⟩
    refine pk_eq (C.2 8 r) x (fun e => ?_) (fun e => nx) rfl rfl (by omega) (by omega)
    refine i_R hg.1 (by decide) rfl (i_R hg.1 (by decide) rfl ⟨_, rfl, i_R hf.1 (by decide) hof.2.1.2.2.1 ⟨_, rfl, ln_get hRl rfl hr (by omega) ⟨cst, _, rfl, _, hM.2.1.1, c_rest hM (hRu r hr) x1 (by omega) (by omega) nI_0.symm ⟨c, x2, i_aR x3 rfl (by omega) (by decide) ⟨d, x4, i_aJ x5.1 rfl (by omega) (by decide) (i_R hg.1 (by decide) rfl ⟨_, rfl, i_R hM.2.1.1 (by decide) rfl ⟨_, rfl, i_aR y1 rfl (by omega) (by decide) ⟨c', y2, i_aR y3 rfl (by omega) (by decide) ⟨d', y4, i_aJ y5.1 rfl (by omega) (by decide) ?_⟩⟩⟩⟩)⟩⟩⟩⟩⟩)
    have rb := z_rs_le (cc C X2) (z_yl C r) p q
    have vb := (fg.1 x hx).2
    rw [fg.2.2.2 r hr 0 (by omega), List.drop_zero, lN_1, (fg.1 x hx).1]
    exact br_n (fun z => hP ⟨e, (lEq2 (by omega) (by omega)).mp z⟩) nx
/-- the cut is found -/
theorem c_g220 {Q : gH → Prop} {K : Nat → Nat → Nat → Int32 → Option Nat → Int32 → Int32 → Int32 → Int32 → gH → Prop} {mc ms uc us r j p q pr sz : Nat} {node : Int32} (ok : z_ok C) (hF : cFu C ow σ x0 kk kc Nc ns xs ru X2 X3) (hg : hat ow σ gw 206 (cO 16 [.ref (kc 0), .ref x0])) (hr : r < C.1 7) (hj : j < C.2 9 r) (hpq : p ≤ q) (hq : q < nK C) (hMs : z_Ms C (z_tk C) 16777216 ((z_yl C r).drop j) (kK C p) (kK C q) pr sz) (h3 : pr * 16777216 + sz < 1152921504606846976)
    (w : ∀ m, p ≤ m → m ≤ q → z_sl C (C.2 10 (3 * r + j)) ((z_yl C r).drop (j + 1)) (kK C p) (kK C q) = kK C m → K uc us gw (nI q) (some (ru r)) node (nI p) (nI j) (nI m) σ) : ∃ fu, wX16_grow_220 g Q mc ms K fu uc us gw (nI q) (some (ru r)) node (nI p) (nI j) (nI p) σ := by
  have o := ok.1
  have nk := nK_le ok
  obtain ⟨or1, or2, or3⟩ := ok.2.2.2.2.1 r hr
  obtain ⟨⟨hM, hMo, hL, hSk, hSg, X1, hX1, hRd⟩, ⟨⟨NN, hN, hRl⟩, hRu⟩, hC, hG⟩ := id hF
  have tb := fG.tb hG
  have hl := (z_yl_ok ok hr).1
  have hd := z_yl_drop hj
  have hlen : (C.2 10 (3 * r + j) :: (z_yl C r).drop (j + 1)).length ≤ 3 := by rw [← hd, List.length_drop]; omega
  have hyl : ∀ z ∈ C.2 10 (3 * r + j) :: (z_yl C r).drop (j + 1), z < 100 ∨ (100 ≤ z ∧ z < 100 + C.1 5) := by
    intro z hz
    rw [← hd] at hz
    exact (z_yl_ok ok hr).2 z (List.mem_of_mem_drop hz)
  rw [hd] at hMs
  refine se_search (fun n m => wX16_grow_220 g Q mc ms K n uc us gw (nI q) (some (ru r)) node (nI p) (nI j) (nI m) σ) (fun m => cc C X2 (C.2 10 (3 * r + j)) p m + z_rs (cc C X2) ((z_yl C r).drop (j + 1)) m q = z_rs (cc C X2) (C.2 10 (3 * r + j) :: (z_yl C r).drop (j + 1)) p q) (p := p) (q := q) (z_sl_ex ok (kK_kn ok) tb (by decide) hlen hyl (by omega) hq hMs h3) ?_ ?_
  · intro n m h1 h2 hP hN2
    have es := z_sl_eq ok (kK_kn ok) tb (by decide) hlen hyl h1 h2 hq hMs h3 hP hN2
    obtain ⟨f1, c, g1, d, x1, x2, x3, x4, x5⟩ := hC.2.at (i := 4 * r + (j + 1)) (p := m) (by omega) (by omega)
    obtain ⟨f2, c', g2, d', y1, y2, y3, y4, y5⟩ := hC.2.at (i := 4 * r + j) (p := p) (by omega) (by omega)
    simp only [wX16_grow_220]
    refine i_R hg.1 (by decide) rfl ⟨_, rfl, _, hM.2.1.1, c_symbol ok hM (hRu r hr) hX1 hRd hC.1 hj hr (by omega) (by omega) (fun x hx => (hG p m h1 (by omega)).1 x hx) (i_R hg.1 (by decide) rfl ⟨_, rfl, _, hM.2.1.1, c_rest hM (hRu r hr) x1 (by omega) (by omega) (nI_1 j) ⟨c, x2, i_aR x3 rfl (by omega) (by decide) ⟨d, x4, i_aJ x5.1 rfl (by omega) (by decide) (i_R hg.1 (by decide) rfl ⟨_, rfl, _, hM.2.1.1, c_rest hM (hRu r hr) y1 (by omega) (by omega) rfl ⟨c', y2, i_aR y3 rfl (by omega) (by decide) ⟨d', y4, i_aJ y5.1 rfl (by omega) (by decide) ?_⟩⟩⟩)⟩⟩⟩)⟩
    rw [(hG m q h2 hq).2.2.2 r hr (j + 1) (by omega), (hG p q hpq hq).2.2.2 r hr j (by omega), lN_add, hP, ← hd]
    exact br_p rfl (w m h1 h2 es.1)
  · intro n m h1 h2 hP hn
    obtain ⟨f1, c, g1, d, x1, x2, x3, x4, x5⟩ := hC.2.at (i := 4 * r + (j + 1)) (p := m) (by omega) (by omega)
    obtain ⟨f2, c', g2, d', y1, y2, y3, y4, y5⟩ := hC.2.at (i := 4 * r + j) (p := p) (by omega) (by omega)
    simp only [wX16_grow_220]
    refine i_R hg.1 (by decide) rfl ⟨_, rfl, _, hM.2.1.1, c_symbol ok hM (hRu r hr) hX1 hRd hC.1 hj hr (by omega) (by omega) (fun x hx => (hG p m h1 (by omega)).1 x hx) (i_R hg.1 (by decide) rfl ⟨_, rfl, _, hM.2.1.1, c_rest hM (hRu r hr) x1 (by omega) (by omega) (nI_1 j) ⟨c, x2, i_aR x3 rfl (by omega) (by decide) ⟨d, x4, i_aJ x5.1 rfl (by omega) (by decide) (i_R hg.1 (by decide) rfl ⟨_, rfl, _, hM.2.1.1, c_rest hM (hRu r hr) y1 (by omega) (by omega) rfl ⟨c', y2, i_aR y3 rfl (by omega) (by decide) ⟨d', y4, i_aJ y5.1 rfl (by omega) (by decide) ?_⟩⟩⟩)⟩⟩⟩)⟩
    have b1 := cc_le ok (X := X2) (y := C.2 10 (3 * r + j)) (p := p) (q := m) (fun h => (hG p m h1 (by omega)).1 _ (by have := or3 j hj; omega))
    have b2 := z_rs_le (cc C X2) ((z_yl C r).drop (j + 1)) m q
    have b3 := z_rs_le (cc C X2) ((z_yl C r).drop j) p q
    rw [(hG m q h2 hq).2.2.2 r hr (j + 1) (by omega), (hG p q hpq hq).2.2.2 r hr j (by omega), lN_add, nI_1]
    refine br_n (fun z => hP ?_) (al_eq hn)
    rw [← hd]
    exact (lEq2 (by omega) (by omega)).mp z
end GRA
