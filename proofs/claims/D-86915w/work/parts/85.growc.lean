/-! PLAIN LAW, the component: grow, whole -/
set_option maxRecDepth 100000
section GRC
variable {C : Cf} {ow ow' : Nat → Nat} {σ σ' : gH} {x0 : Nat} {kk kc ru xs : Nat → Nat} {X2 X3 : cX} {Nc ns gw N : Nat} {fs0 : List Value} {st : St}
theorem i_nod {nodes tc : Nat} {f : Nat → Option Nat} {B : Nat → Nat} {H : Nat → Nat → Int32} {P : gH → Prop} (hR : wR ow σ kk nodes tc f B H) (hh : ∀ σ', hmv [120] ow σ ow σ' → wR ow σ' kk (nodes + 1) tc f B H → P σ') : c_P σ [1] (kk 18) 1 (.int (nI nodes + 1)) P := by
  obtain ⟨h1, h2, h3⟩ := hR
  refine i_Pf [.ref tc, .int (nI (nodes + 1))] h1.1 (by decide) (by rw [nI_1]; rfl) (by simp) ?_
  refine hh _ (hmv.rf.up h1 (by decide) rfl) ⟨h1.set, h2.up h1 (by decide), fun w hw => ⟨(h3 w hw).1, (h3 w hw).2.up h1 (by omega)⟩⟩
theorem i_row4 {nodes tc w i : Nat} {f : Nat → Option Nat} {B : Nat → Nat} {H : Nat → Nat → Int32} {v wv : Int32} {P : gH → Prop} {fs : List Value} (hg : hat ow σ gw 206 (cO 16 [.ref (kc 0), .ref x0])) (hx : hat ow σ x0 1 (cO 0 fs)) (h18 : fs[18]? = some (.ref (kk 18))) (hR : wR ow σ kk nodes tc f B H) (hw : w < 5) (hwv : wv = nI w) (hi : i < 100) (hh : ∀ σ', hmv [122 + w] ow σ ow σ' → wR ow σ' kk nodes tc f B (hU H w i v) → P σ') : c_R σ [16] gw 1 (fun r => ∃ a, r = some a ∧ c_R σ [0] a 18 (fun r => ∃ a, r = some a ∧ c_R σ [1] a 0 (fun r => ∃ a, r = some a ∧ c_aR 3 σ a wv (fun r => ∃ a, r = some a ∧ c_sI σ a (nI i) v P)))) :=
  i_R hg.1 (by decide) rfl ⟨_, rfl, i_R hx.1 (by decide) h18 ⟨_, rfl, i_R hR.1.1 (by decide) rfl ⟨_, rfl, i_aR hR.2.1.1 hwv hw (by decide) ⟨B w, (hR.2.2 w hw).1, i_row hR hw hi hh⟩⟩⟩⟩
theorem wS.tree {T : List Nat} {st' : St} (hW : wS C ow σ x0 kk kc gw fs0 N st) (m : hmv T ow σ ow' σ') (ht : ∀ t ∈ T, 120 ≤ t ∧ t < 127) (e1 : st'.1.1 = st.1.1) (e2 : st'.1.2.1 = st.1.2.1) (e3 : st'.2.1 = st.2.1) (e4 : st'.2.2.1 = st.2.2.1) (hr : ∃ tc f, hat ow' σ' (kk 18) 120 (cO 1 [.ref tc, .int (nI st'.1.2.2)]) ∧ hat ow' σ' tc 121 (cQ 3 5 f) ∧ ∀ w, w < 5 → ∃ b h, f w = some b ∧ hat ow' σ' b (122 + w) (cI 100 h) ∧ ∀ i, i < 100 → h i = st'.2.2.2 (5 * i + w)) : wS C ow' σ' x0 kk kc gw fs0 N st' := by
  obtain ⟨w0, w1, w2, ⟨l0, l1, xl, l2, l3⟩, ⟨f, f1, f2⟩, -⟩ := hW
  have nt : ∀ n, n < 120 ∨ 127 ≤ n → n ∉ T := fun n h z => by have := ht n z; omega
  refine ⟨w0, w1.mv m (nt _ (by decide)), by rw [e2]; exact w2.mv m (nt _ (by decide)), ⟨by rw [e1]; exact l0, l1, xl, by rw [e1]; exact l2.mv m (nt _ (by decide)) (nt _ (by decide)), fun j hj => ?_⟩, ⟨f, f1.mv m (nt _ (by decide)), fun i hi => by rw [e4]; exact f2 i (by omega)⟩, hr⟩
  rw [e3]
  obtain ⟨k, i, w, pr, s1, s2⟩ := l3 j (by omega)
  exact ⟨k, i, w, pr, s1.mv m (nt _ (by decide)), s2⟩
theorem c_grow (ok : z_ok C) : ∀ F, gRw C x0 kk kc ru xs X2 X3 Nc ns gw fs0 F := by
  have o := ok.1
  have nk := nK_le ok
  intro F
  induction F with
  | zero =>
    intro x p q par ow σ N st Q mc ms k pr sz hsz hx hpq hq hMb h3 hF hW hn1 hn2 hn3 ek hu hs w
    obtain ⟨r1, r2, z, e, r3⟩ := z_ru_at ok hMb
    omega
  | succ F ih =>
    intro x p q par ow σ N st Q mc ms k pr sz hsz hx hpq hq hMb h3 hF hW hn1 hn2 hn3 ek hu hs w
    obtain ⟨r1, r2, z, rfl, r3⟩ := z_ru_at ok hMb
    simp only [wX16_grow_n, wX16_grow_body]
    refine c_g3 ok hF hW.2.1 hx hpq hq hMb h3 ?_
    obtain ⟨r, hrr⟩ : ∃ r, r = z_ru C x (kK C p) (kK C q) := ⟨_, rfl⟩
    have ey : y_nm C (F + 1) x (kK C p) (kK C q) par st = y_ne st.1.2.2 (y_sq C (y_nm C F) st.1.2.2 (z_yl C r) (kK C p) (kK C q) (y_no x r par st)) := by rw [hrr]; rfl
    rw [← hrr] at r1 r2 r3 ⊢
    rw [ey] at ek w
    obtain ⟨or1, or2, or3⟩ := ok.2.2.2.2.1 r r1
    obtain ⟨w0, w1, w2, w3, w4⟩ := id hW
    obtain ⟨⟨NN, hN, hRl⟩, hRu⟩ := hF.2.1
    obtain ⟨so, wh, f0, g0, rc, -⟩ := hRu r r1
    have cst : ∀ a, some (ru r) = some a → ∃ ci fs, ci ∈ [4] ∧ σ.2 a = some (.inr (ci, fs)) := fun a ha => by cases ha; exact ⟨4, _, by decide, rc.1⟩
    have ww := w0.set (.int (nI st.1.2.1))
    have e22 : (fs0.set 22 (.int (nI st.1.2.1)))[22]? = some (.int (nI st.1.2.1)) := by
      rw [List.getElem?_set_self (by rw [w0.1]; decide)]
    obtain ⟨tc, ft, B, H, hR, hH⟩ := w4.row
    refine i_R w1.1 (by decide) rfl ⟨_, rfl, i_R w2.1 (by decide) ww.2.1.2.1.2.2.1 ⟨_, rfl, ln_get hRl rfl r1 (by omega) ⟨cst, i_R w1.1 (by decide) rfl ⟨_, rfl, i_R w2.1 (by decide) ww.2.2.1 ⟨_, rfl, i_I hR.1.1 (by decide) rfl (i_R w1.1 (by decide) rfl ⟨_, rfl, i_R w2.1 (by decide) ww.2.2.1 ⟨_, rfl, i_I hR.1.1 (by decide) rfl (i_nod hR (fun σ1 m1 hR1 => ?_))⟩⟩)⟩⟩⟩⟩⟩
    have a1 := w1.mv m1 (by decide)
    have b1 := w2.mv m1 (by decide)
    refine i_row4 a1 b1 ww.2.2.1 hR1 (w := 0) (by decide) nI_0.symm (by omega) (fun σ2 m2 hR2 => ?_)
    have a2 := a1.mv m2 (by decide)
    have b2 := b1.mv m2 (by decide)
    refine i_row4 a2 b2 ww.2.2.1 hR2 (w := 1) (by decide) rfl (by omega) (fun σ3 m3 hR3 => ?_)
    have a3 := a2.mv m3 (by decide)
    have b3 := b2.mv m3 (by decide)
    refine i_row4 a3 b3 ww.2.2.1 hR3 (w := 2) (by decide) rfl (by omega) (fun σ4 m4 hR4 => ?_)
    have a4 := a3.mv m4 (by decide)
    have b4 := b3.mv m4 (by decide)
    refine i_R a4.1 (by decide) rfl ⟨_, rfl, i_R b4.1 (by decide) ww.2.2.1 ⟨_, rfl, i_R hR4.1.1 (by decide) rfl ⟨_, rfl, i_aR hR4.2.1.1 (j := 3) rfl (by decide) (by decide) (i_R a4.1 (by decide) rfl ⟨_, rfl, i_I b4.1 (by decide) e22 ⟨B 3, (hR4.2.2 3 (by decide)).1, i_row hR4 (w := 3) (by decide) (by omega) (fun σ5 m5 hR5 => ?_)⟩⟩)⟩⟩⟩
    have M5 : hmv [120, 122, 123, 124, 125] ow σ ow σ5 := ((((m1.sub (by decide)).tr (m2.sub (by decide))).tr (m3.sub (by decide))).tr (m4.sub (by decide))).tr (m5.sub (by decide))
    have M5' : hmv TW ow σ ow σ5 := M5.sub (by decide)
    have tr5 := hR5.tr (y_no x r par st).2.2.2 (fun w i hw hi => by
      show _ = va_up (va_up (va_up (va_up st.2.2.2 (5 * st.1.2.2) (nI x)) (5 * st.1.2.2 + 1) (nI r)) (5 * st.1.2.2 + 2) par) (5 * st.1.2.2 + 3) (nI st.1.2.1) (5 * i + w)
      by_cases e : i = st.1.2.2
      · subst e
        have e5 : w = 0 ∨ w = 1 ∨ w = 2 ∨ w = 3 ∨ w = 4 := by omega
        rcases e5 with rfl | rfl | rfl | rfl | rfl
        · rw [hU_n _ _ (by omega), hU_n _ _ (by omega), hU_n _ _ (by omega), hU_s, va_up_ne _ _ (by omega), va_up_ne _ _ (by omega), va_up_ne _ _ (by omega), Nat.add_zero, va_up_self]
        · rw [hU_n _ _ (by omega), hU_n _ _ (by omega), hU_s, va_up_ne _ _ (by omega), va_up_ne _ _ (by omega), va_up_self]
        · rw [hU_n _ _ (by omega), hU_s, va_up_ne _ _ (by omega), va_up_self]
        · rw [hU_s, va_up_self]
        · rw [hU_n _ _ (by omega), hU_n _ _ (by omega), hU_n _ _ (by omega), hU_n _ _ (by omega), va_up_ne _ _ (by omega), va_up_ne _ _ (by omega), va_up_ne _ _ (by omega), va_up_ne _ _ (by omega)]
          exact hH 4 _ hw hi
      · rw [hU_n _ _ (by omega), hU_n _ _ (by omega), hU_n _ _ (by omega), hU_n _ _ (by omega), va_up_ne _ _ (by omega), va_up_ne _ _ (by omega), va_up_ne _ _ (by omega), va_up_ne _ _ (by omega)]
        exact hH w i hw hi)
    have hW5 : wS C ow σ5 x0 kk kc gw fs0 N (y_no x r par st) := hW.tree M5 (by intro t ht; simp only [List.mem_cons, List.not_mem_nil, or_false] at ht; omega) rfl rfl rfl rfl tr5
    have hF5 := hF.mvW ok M5' ⟨_, hW5.2.2.1, (w0.set _).2.1⟩
    have h3z : pr * 16777216 + z < 1152921504606846976 := Nat.lt_of_le_of_lt (Nat.add_le_add_left (Nat.le_succ z) _) h3
    refine ⟨C.2 9 r + 1, c_g206 ok ih r1 hq (C.2 9 r) 0 p ow σ5 N (y_no x r par st) 0 0 k pr z (by omega) (by omega) hpq (by rw [List.drop_zero]; exact r3) h3z (by omega) hF5 hW5 ?_ ?_ hn3 (by rw [List.drop_zero]; exact ek) (by omega) ?_ (fun ow6 σ6 uc6 us6 m6 hF6 hW6 => ?_)⟩
    · show st.1.2.2 + 1 + z ≤ 100
      omega
    · show st.1.2.1 + (C.2 9 r - 0) + 3 * z ≤ 300
      omega
    · show 0 + 4 * cpN N st.1.1 k ≤ ms + 4 * N
      omega
    rw [List.drop_zero] at hW6
    obtain ⟨S, hS⟩ : ∃ S, S = y_sq C (y_nm C F) st.1.2.2 (z_yl C r) (kK C p) (kK C q) (y_no x r par st) := ⟨_, rfl⟩
    rw [← hS] at hW6 w
    obtain ⟨v0, v1, v2, v3, v4⟩ := id hW6
    have vw := v0.set (.int (nI S.1.2.1))
    have f22 : (fs0.set 22 (.int (nI S.1.2.1)))[22]? = some (.int (nI S.1.2.1)) := by
      rw [List.getElem?_set_self (by rw [v0.1]; decide)]
    obtain ⟨tc6, ft6, B6, H6, hR6, hH6⟩ := v4.row
    refine i_R v1.1 (by decide) rfl ⟨_, rfl, i_R v2.1 (by decide) vw.2.2.1 ⟨_, rfl, i_R hR6.1.1 (by decide) rfl ⟨_, rfl, i_aR hR6.2.1.1 (j := 4) rfl (by decide) (by decide) (i_R v1.1 (by decide) rfl ⟨_, rfl, i_I v2.1 (by decide) f22 (i_R v1.1 (by decide) rfl ⟨_, rfl, i_R v2.1 (by decide) vw.2.2.1 ⟨_, rfl, i_R hR6.1.1 (by decide) rfl ⟨_, rfl, i_aR hR6.2.1.1 (j := 3) rfl (by decide) (by decide) ⟨B6 3, (hR6.2.2 3 (by decide)).1, i_aI (hR6.2.2 3 (by decide)).2.1 rfl (by omega) (by decide) ⟨B6 4, (hR6.2.2 4 (by decide)).1, i_row hR6 (w := 4) (by decide) (by omega) (fun σ7 m7 hR7 => ?_)⟩⟩⟩⟩⟩)⟩)⟩⟩⟩
    have tr7 := hR7.tr (y_ne st.1.2.2 S).2.2.2 (fun w i hw hi => by
      show _ = va_up S.2.2.2 (5 * st.1.2.2 + 4) (nI S.1.2.1 - S.2.2.2 (5 * st.1.2.2 + 3)) (5 * i + w)
      by_cases e : i = st.1.2.2 ∧ w = 4
      · obtain ⟨rfl, rfl⟩ := e
        rw [hU_s, va_up_self, hH6 3 _ (by decide) hi]
      · rw [hU_n _ _ (fun z => e ⟨z.2, z.1⟩), va_up_ne _ _ (by omega)]
        exact hH6 w i hw hi)
    have hW7 : wS C ow6 σ7 x0 kk kc gw fs0 (cpN N st.1.1 k) (y_ne st.1.2.2 S) := hW6.tree m7 (by intro t ht; rw [List.mem_singleton] at ht; omega) rfl rfl rfl rfl tr7
    have m7' : hmv TW ow6 σ6 ow6 σ7 := m7.sub (by decide)
    exact w ow6 σ7 ((M5'.tr m6).tr m7') (hF6.mvW ok m7' ⟨_, hW7.2.2.1, (w0.set _).2.1⟩) hW7
end GRC
