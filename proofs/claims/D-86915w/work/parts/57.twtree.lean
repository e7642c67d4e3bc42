/-! PLAIN LAW, the twin: the tree from its pile -/
set_option maxRecDepth 100000
def tPe (s : TS) (j : Nat) (a b c d : Int32) : Prop := s.2.1 47 j = a ∧ s.2.1 48 j = b ∧ s.2.1 49 j = c ∧ s.2.1 50 j = d
def tLo (h : Nat) (s s' : TS) : Prop := ∀ j, j < h → s'.2.1 47 j = s.2.1 47 j ∧ s'.2.1 48 j = s.2.1 48 j ∧ s'.2.1 49 j = s.2.1 49 j ∧ s'.2.1 50 j = s.2.1 50 j
theorem tLo.rf {h : Nat} {s : TS} : tLo h s s := fun _ _ => ⟨rfl, rfl, rfl, rfl⟩
theorem tLo.tr {h h' : Nat} {s s1 s2 : TS} (a : tLo h s s1) (b : tLo h' s1 s2) (hh : h ≤ h') : tLo h s s2 := fun j hj => by
  obtain ⟨a1, a2, a3, a4⟩ := a j hj
  obtain ⟨b1, b2, b3, b4⟩ := b j (by omega)
  exact ⟨b1.trans a1, b2.trans a2, b3.trans a3, b4.trans a4⟩
theorem tLo.of {h : Nat} {s s' : TS} {L : List Nat} (m : tfr L s s') (hL : ∀ k ∈ [47, 48, 49, 50], k ∉ L) : tLo h s s' := fun j _ => by
  rw [m.a 47 (hL _ (by decide)), m.a 48 (hL _ (by decide)), m.a 49 (hL _ (by decide)), m.a 50 (hL _ (by decide))]
  exact ⟨rfl, rfl, rfl, rfl⟩
theorem tPe.lo {h j : Nat} {s s' : TS} {a b c d : Int32} (e : tPe s j a b c d) (l : tLo h s s') (hj : j < h) : tPe s' j a b c d := by
  obtain ⟨e1, e2, e3, e4⟩ := e
  obtain ⟨l1, l2, l3, l4⟩ := l j hj
  exact ⟨l1.trans e1, l2.trans e2, l3.trans e3, l4.trans e4⟩
theorem tw_push {Q : TS → Prop} {s : TS} {h : Nat} {a b c d : Int32} (h46 : s.1 46 = nI h) (hh : h < 700) (q : ∀ s', tfr [46, 47, 48, 49, 50] s s' → s'.1 46 = nI (h + 1) → tPe s' h a b c d → tLo h s s' → Q s') : wX3_push Q a b c d s := by
  unfold wX3_push
  simp only [forall_eq, tA_i, h46, nI_1]
  rw [nI_clamp (by omega)]
  refine ⟨vp_nI hh (by decide), vp_nI hh (by decide), vp_nI hh (by decide), vp_nI hh (by decide), q _ (((((tfr.rf.A (by decide) _ _).A (by decide) _ _).A (by decide) _ _).A (by decide) _ _).I (by decide) _) (tI_i _ _ _) ?_ ?_⟩
  · refine ⟨?_, ?_, ?_, ?_⟩
    · rw [tI_a, tA_ne _ _ _ (by decide), tA_ne _ _ _ (by decide), tA_ne _ _ _ (by decide), tA_a, va_up_self]
    · rw [tI_a, tA_ne _ _ _ (by decide), tA_ne _ _ _ (by decide), tA_a, va_up_self]
    · rw [tI_a, tA_ne _ _ _ (by decide), tA_a, va_up_self]
    · rw [tI_a, tA_a, va_up_self]
  · intro j hj
    have hne : j ≠ h := by omega
    refine ⟨?_, ?_, ?_, ?_⟩
    · rw [tI_a, tA_ne _ _ _ (by decide), tA_ne _ _ _ (by decide), tA_ne _ _ _ (by decide), tA_a, va_up_ne _ _ hne]
    · rw [tI_a, tA_ne _ _ _ (by decide), tA_ne _ _ _ (by decide), tA_a, va_up_ne _ _ hne, tA_ne _ _ _ (by decide)]
    · rw [tI_a, tA_ne _ _ _ (by decide), tA_a, va_up_ne _ _ hne, tA_ne _ _ _ (by decide), tA_ne _ _ _ (by decide)]
    · rw [tI_a, tA_a, va_up_ne _ _ hne, tA_ne _ _ _ (by decide), tA_ne _ _ _ (by decide), tA_ne _ _ _ (by decide)]
/-- the parts of a node on the pile, the first on top; h: how high it is below them -/
def tIt (C : Cf) (s : TS) (h node : Nat) : List Nat → Nat → Nat → Prop
  | [], _, _ => True
  | y :: ys, p, q => ∃ m, m < nT C ∧ kT C m = z_sl C y ys (kT C p) (kT C q) ∧ tPe s (h + ys.length) (nI y) (nI p) (nI m) (nI node) ∧ tIt C s h node ys m q
theorem tIt.lo {C : Cf} {s s' : TS} {h node : Nat} : ∀ {ys : List Nat} {p q : Nat}, tIt C s h node ys p q → tLo (h + ys.length) s s' → tIt C s' h node ys p q := by
  intro ys
  induction ys with
  | nil => intro p q _ _; trivial
  | cons y ys ih =>
    intro p q w l
    obtain ⟨m, m1, m2, m3, m4⟩ := w
    exact ⟨m, m1, m2, m3.lo l (by rw [List.length_cons]; omega), ih m4 (fun j hj => l j (by rw [List.length_cons]; omega))⟩
theorem z_sum_eq {a b w : Nat} (hw : w < 1152921504606846976) : z_sum a b = w ↔ a + b = w := by
  unfold z_sum
  by_cases e : 1152921504606846976 ≤ a ∨ 1152921504606846976 ≤ b
  · rw [if_pos e]; omega
  · rw [if_neg e]
theorem z_sum_lt (a b : Nat) : z_sum a b < 4611686018427387904 := by
  unfold z_sum
  by_cases e : 1152921504606846976 ≤ a ∨ 1152921504606846976 ≤ b
  · rw [if_pos e]; omega
  · rw [if_neg e]; omega
theorem tFull.rc {C : Cf} {s s' : TS} (ok : z_ok C) (h : tFull C s) {r p q : Nat} (m : tfr [45] s s') (hj : ∀ j, j ≠ 2704 * r + 52 * p + q → s'.2.2 45 j = s.2.2 45 j) (f : tF1 C s' r p q) (hq : q < nT C) (hp : p ≤ q) : tFull C s' := by
  have n51 := nT_le ok
  have t : tt s' = tt s := by funext x p q; unfold tt; rw [m.l 44]
  have c : tc C s' = tc C s := by unfold tc; rw [t]
  obtain ⟨v, d⟩ := h
  refine ⟨fun x p q a b e => by rw [t, m.l 44]; exact v x p q a b e, fun p' q' a b => ?_⟩
  have := d p' q' a b
  refine ⟨by rw [t, c]; exact this.1, by rw [t, c]; exact this.2.1, fun r' hr' => ?_⟩
  by_cases e : r' = r ∧ p' = p ∧ q' = q
  · obtain ⟨rfl, rfl, rfl⟩ := e; exact f
  · intro e3
    rw [hj _ (by omega), c]
    exact this.2.2 r' hr' e3
abbrev wF : List Nat := [22, 23, 24, 25, 26, 27, 45, 46, 47, 48, 49, 50]
theorem tH.w {C : Cf} {s s' : TS} (h : tH C s) (m : tfr wF s s') : tH C s' := h.mv m (by decide)
section TWT
variable {C : Cf} {Q : TS → Prop} {s : TS} {st : St}
/-- the least m at which a row is cut, found by going up -/
theorem tw_search (W : Nat → Nat → TS → Prop) (P : Nat → Prop) {p q : Nat} {s : TS} (ex : ∃ m, p ≤ m ∧ m ≤ q ∧ P m) (hx : ∀ n m, p ≤ m → m ≤ q → P m → (∀ j, p ≤ j → j < m → ¬ P j) → W (n + 1) m s) (hs : ∀ n m, p ≤ m → m ≤ q → ¬ P m → W n (m + 1) s → W (n + 1) m s) : ∃ fu, W fu p s := by
  obtain ⟨m, ⟨m1, m2, m3⟩, m4⟩ := pk_least (fun m => p ≤ m ∧ m ≤ q ∧ P m) ex
  refine pk_loop (σ := TS) W (fun i s' => p ≤ i ∧ s' = s) m p s m1 ⟨Nat.le_refl _, rfl⟩ ?_ ?_
  · rintro n s1 ⟨-, rfl⟩
    exact hx n m m1 m2 m3 (fun j h1 h2 h3 => m4 j h2 ⟨h1, by omega, h3⟩)
  · rintro n i s1 hi ⟨h1, rfl⟩ hn
    exact hs n i h1 (by omega) (fun h3 => m4 i hi ⟨h1, by omega, h3⟩) (hn s1 ⟨by omega, rfl⟩)
theorem tw_ln24 {K : Int32 → Int32 → Int32 → Int32 → Int64 → Int32 → TS → Prop} (ok : z_ok C) (hV : tV C s) {x p q r0 V : Nat} {par : Int32} (hpq : p ≤ q) (hq : q < nT C) (hx : x < C.1 5) (r1 : r0 < C.1 7) (r2 : C.2 8 r0 = x) (r3 : z_rs (tc C s) (z_yl C r0) p q = V) (r4 : ∀ j, j < r0 → ¬ (C.2 8 j = x ∧ z_rs (tc C s) (z_yl C j) p q = V))
    (w : ∀ s', tfr [45] s s' → tFull C s' → K (nI x) (nI p) (nI q) par (lN V) (nI r0) s') : ∃ fu, wX3_layName_24 Q K fu (nI x) (nI p) (nI q) par (lN V) 0 s := by
  have o := ok.1
  have n51 := nT_le ok
  have vb := z_rs_le (tc C s) (z_yl C r0) p q
  refine pk_loop (σ := TS) (fun n r s' => wX3_layName_24 Q K n (nI x) (nI p) (nI q) par (lN V) (nI r) s') (fun r s' => tfr [45] s s' ∧ tFull C s') r0 0 s (by omega) ⟨tfr.rf, hV.2⟩ ?_ ?_
  · rintro n s1 ⟨m1, f1⟩
    have t1 : tt s1 = tt s := by funext x p q; unfold tt; rw [m1.l 44]
    have c1 : tc C s1 = tc C s := by unfold tc; rw [t1]
    have h1 := hV.1.mv m1 (by decide)
    simp only [wX3_layName_24]
    rw [nI_clamp (by omega), h1.1.rn r1, r2]
    refine ⟨vp_nI (by omega) (by decide), br_p rfl (tw_ruleCost ok h1 f1.1 r1 hpq hq (fun m a b => (f1.2 p m a (by omega)).2.2 r0 r1) (fun s2 m2 j2 g2 => ?_))⟩
    rw [c1]
    exact br_p (by rw [r3]) (w s2 (m1.tr m2) (f1.rc ok m2 j2 g2 hq hpq))
  · rintro n r s1 hr ⟨m1, f1⟩ hs1
    have t1 : tt s1 = tt s := by funext x p q; unfold tt; rw [m1.l 44]
    have c1 : tc C s1 = tc C s := by unfold tc; rw [t1]
    have h1 := hV.1.mv m1 (by decide)
    simp only [wX3_layName_24]
    have hr7 : r < C.1 7 := by omega
    have rn := (ok.2.2.2.2.1 r hr7).1
    rw [nI_clamp (by omega), h1.1.rn hr7]
    have nx : ∀ s2, tfr [45] s1 s2 → tFull C s2 → wX3_layName_49 Q (wX3_layName_24 Q K n) K (nI x) (nI p) (nI q) par (lN V) (nI r) s2 := by
      intro s2 m2 f2
      unfold wX3_layName_49
      rw [nI_1]
      exact al_eq (hs1 s2 ⟨m1.tr m2, f2⟩)
    refine ⟨vp_nI (by omega) (by decide), pk_eq (C.2 8 r) x (fun e => tw_ruleCost ok h1 f1.1 hr7 hpq hq (fun m a b => (f1.2 p m a (by omega)).2.2 r hr7) (fun s2 m2 j2 g2 => ?_)) (fun e => nx s1 tfr.rf f1) rfl rfl (by omega) (by omega)⟩
    rw [c1]
    have rl := z_rs_le (tc C s) (z_yl C r) p q
    refine br_n (fun z' => r4 r hr ⟨e, ?_⟩) (nx s2 m2 (f1.rc ok m2 j2 g2 hq hpq))
    exact (pk_lEQ (by omega) (by omega)).mp z'
theorem tw_layName (ok : z_ok C) (hV : tV C s) {x p q pr sz h : Nat} {par : Int32} (hp : p < nT C) (hq : q < nT C) (hM : z_Mb C (z_tk C) 16777216 x (kT C p) (kT C q) pr sz) (hfin : pr * 4294967296 + sz < 1152921504606846976) (hst : tSt s st) (hn : st.1.2.2 < 100) (h46 : s.1 46 = nI h) (hh : h + 4 ≤ 700)
    (w : ∀ s', tfr wF s s' → tV C s' → s'.1 46 = nI (h + 1 + (z_yl C (z_ru C x (kT C p) (kT C q))).length) → tLo h s s' → tPe s' h 200 0 0 (nI st.1.2.2) → tIt C s' (h + 1) st.1.2.2 (z_yl C (z_ru C x (kT C p) (kT C q))) p q → tSt s' (y_no x (z_ru C x (kT C p) (kT C q)) par st) → Q s') : wX3_layName Q (nI x) (nI p) (nI q) par s := by
  have o := ok.1
  have n51 := nT_le ok
  have kn := kT_kn ok
  have tb := hV.2.tb ok
  have hW : 4 * 2398411 < 4294967296 := by decide
  obtain ⟨hpq, eT⟩ := z_T_of ok kn tb hW hp hq hM hfin
  have hx := (z_D_nm ok hM.1).1
  have hsz := (z_D_nm ok hM.1).2
  unfold wX3_layName
  simp only [k2704, k52, pk_mul, nI_add]
  refine ⟨vp_nI (by omega) (by decide), al_eq ?_⟩
  rw [nI_clamp (by omega), (hV.2.1 x p q hx hp hq).1, eT, show (1 : Int64) = lN 1 from rfl, lN_sub (by omega)]
  -- the rule
  obtain ⟨r0, ⟨r1, r2, r3⟩, r4⟩ := pk_least (fun r => r < C.1 7 ∧ C.2 8 r = x ∧ z_rs (tc C s) (z_yl C r) p q + 1 = tt s x p q) (z_ru_ex ok kn tb hW hpq hq hM hfin)
  obtain ⟨er, z, rfl, hMs⟩ := z_ru_eq ok kn tb hW hpq hq hM hfin r1 r2 r3 (fun j hj hc => r4 j hj ⟨by omega, hc.1, hc.2⟩)
  rw [er] at w
  rw [show pr * 4294967296 + (z + 1) - 1 = pr * 4294967296 + z by omega]
  have hl3 := (z_yl_ok ok r1).1
  have hyl := (z_yl_ok ok r1).2
  have hfin' : pr * 4294967296 + z < 1152921504606846976 := by omega
  refine tw_ln24 ok hV hpq hq hx r1 r2 (by rw [eT] at r3; omega) (fun j hj hc => r4 j hj ⟨by omega, hc.1, by rw [eT, hc.2]; omega⟩) (fun s2 m12 f2 => ?_)
  have h2 := hV.1.mv m12 (by decide)
  have hst2 := hst.mv m12 (by decide)
  obtain ⟨⟨g1, g2', g3⟩, g4, g5, g6⟩ := hst2
  simp only [forall_eq, tA_i, tI_a, g2', g3, k5, pk_mul, nI_add]
  rw [show nI (5 * st.1.2.2) + 1 = nI (5 * st.1.2.2 + 1) from nI_1 _, show nI (5 * st.1.2.2) + 2 = nI (5 * st.1.2.2 + 2) from nI_add _ 2, show nI (5 * st.1.2.2) + 3 = nI (5 * st.1.2.2 + 3) from nI_add _ 3, nI_1, nI_clamp (n := 5 * st.1.2.2) (by omega), nI_clamp (n := 5 * st.1.2.2 + 1) (by omega), nI_clamp (n := 5 * st.1.2.2 + 2) (by omega), nI_clamp (n := 5 * st.1.2.2 + 3) (by omega), nI_clamp (n := r0) (by omega)]
  refine ⟨vp_nI (by omega) (by decide), vp_nI (by omega) (by decide), vp_nI (by omega) (by decide), vp_nI (by omega) (by decide), ?_⟩
  obtain ⟨s3, hs3⟩ : ∃ s3, s3 = tI (tA (tA (tA (tA s2 27 (5 * st.1.2.2) (nI x)) 27 (5 * st.1.2.2 + 1) (nI r0)) 27 (5 * st.1.2.2 + 2) par) 27 (5 * st.1.2.2 + 3) (nI st.1.2.1)) 26 (nI (st.1.2.2 + 1)) := ⟨_, rfl⟩
  rw [← hs3]
  have m3 : tfr [26, 27] s2 s3 := by
    rw [hs3]
    exact ((((tfr.rf.A (by decide) _ _).A (by decide) _ _).A (by decide) _ _).A (by decide) _ _).I (by decide) _
  have st3 : tSt s3 (y_no x r0 par st) := by
    refine ⟨⟨by rw [m3.i 22]; exact g1, by rw [m3.i 24]; exact g2', by rw [hs3, tI_i]; rfl⟩, by rw [m3.a 23]; exact g4, by rw [m3.a 25]; exact g5, ?_⟩
    rw [hs3, tI_a, tA_a, tA_a, tA_a, tA_a, g6]
    rfl
  have h3 := h2.mv m3 (by decide)
  have f3 := f2.mv m3 (by decide) (by decide)
  have t3 : tt s3 = tt s := by funext x p q; unfold tt; rw [m3.l 44, m12.l 44]
  have c3 : tc C s3 = tc C s := by unfold tc; rw [t3]
  refine tw_push (h := h) (by rw [m3.i 46, m12.i 46]; exact h46) (by omega) (fun s4 m4 p4 e4 l4 => ?_)
  have h4 := h3.mv m4 (by decide)
  have f4 := f3.mv m4 (by decide) (by decide)
  have t4 : tt s4 = tt s := by rw [← t3]; funext x p q; unfold tt; rw [m4.l 44]
  have c4 : tc C s4 = tc C s := by unfold tc; rw [t4]
  have st4 := st3.mv m4 (by decide)
  have M4 : tfr wF s s4 := ((m12.sub (by decide)).tr (m3.sub (by decide))).tr (m4.sub (by decide))
  have L4 : tLo h s s4 := ((tLo.of m12 (by decide)).tr (tLo.of m3 (by decide)) (Nat.le_refl h)).tr l4 (Nat.le_refl h)
  have rb := ok.2.2.2.2.1 r0 r1
  simp only [k3, pk_mul]
  rw [show nI (3 * r0) + 1 = nI (3 * r0 + 1) from nI_1 _, nI_clamp (n := 3 * r0) (by omega), nI_clamp (n := 3 * r0 + 1) (by omega), h4.1.rm r1]
  refine ⟨vp_nI (by omega) (by decide), vp_nI (by omega) (by decide), vp_nI (by omega) (by decide), ?_⟩
  -- what is pushed behind
  have fin : ∀ s5, tfr [46, 47, 48, 49, 50] s4 s5 → tLo (h + 1) s4 s5 → s5.1 46 = nI (h + 1 + (z_yl C r0).length) → tIt C s5 (h + 1) st.1.2.2 (z_yl C r0) p q → Q s5 := by
    intro s5 m5 l5 p5 i5
    exact w s5 (M4.tr (m5.sub (by decide))) ⟨h4.mv m5 (by decide), f4.mv m5 (by decide) (by decide)⟩ p5 (L4.tr l5 (by omega)) (e4.lo l5 (by omega)) i5 (st4.mv m5 (by decide))
  have cb : ∀ y m m', (y < C.1 0 ∨ (100 ≤ y ∧ y < 100 + C.1 5)) → m < nT C → m' < nT C → tc C s y m m' ≤ 1152921504606846976 := fun y m m' a b c => tc_le ok hV.2.1 (by omega) b c
  refine pk_eq (C.2 9 r0) 1 (fun e1 => ?_) (fun e1 => ?_) rfl rfl (by omega) (by decide)
  · have y0 := h4.1.ys r1 (j := 0) (by omega)
    rw [Nat.add_zero] at y0
    rw [y0]
    refine tw_push p4 (by omega) (fun s5 m5 p5 e5 l5 => fin s5 m5 l5 (by rw [z_yl_1 e1]; exact p5) ?_)
    rw [z_yl_1 e1] at hMs ⊢
    exact ⟨q, hq, (z_sl_nil ok hMs).symm, e5, trivial⟩
  refine pk_eq (C.2 9 r0) 2 (fun e2 => ?_) (fun e2 => ?_) rfl rfl (by omega) (by decide)
  · have y0 := h4.1.ys r1 (j := 0) (by omega)
    have y1 := h4.1.ys r1 (j := 1) (by omega)
    have b0 := rb.2.2 0 (by omega)
    have b1 := rb.2.2 1 (by omega)
    rw [Nat.add_zero] at y0 b0
    rw [y0, y1]
    rw [z_yl_2 e2] at hMs hl3 hyl fin
    have one : ∀ m, m ≤ q → z_rs (tc C s) [C.2 10 (3 * r0 + 1)] m q = tc C s (C.2 10 (3 * r0 + 1)) m q := fun m a => z_rs_1 a (cb _ _ _ b1 (by omega) hq) (fun _ => Or.inr trivial)
    obtain ⟨-, eR⟩ := z_rs_of ok kn tb hW hl3 hyl hp hq hMs hfin'
    refine tw_search (fun n m s' => wX3_layName_194 Q _ n (nI p) (nI q) (lN (pr * 4294967296 + z)) (nI st.1.2.2) (nI (C.2 10 (3 * r0))) (nI (C.2 10 (3 * r0 + 1))) (nI m) s') (fun m => tc C s (C.2 10 (3 * r0)) p m + z_rs (tc C s) [C.2 10 (3 * r0 + 1)] m q = z_rs (tc C s) [C.2 10 (3 * r0), C.2 10 (3 * r0 + 1)] p q) (z_sl_ex ok kn tb hW hl3 hyl hp hq hMs hfin') ?_ ?_
    · intro n m a1 a2 a3 a4
      simp only [wX3_layName_194]
      refine tw_cost ok h4 f4.1 b0 hp (by omega) (tw_cost ok h4 f4.1 b1 (by omega) hq ?_)
      rw [c4]
      refine tw_sum (cb _ _ _ b0 hp (by omega)) (cb _ _ _ b1 (by omega) hq) ?_
      have e9 : z_sum (tc C s (C.2 10 (3 * r0)) p m) (tc C s (C.2 10 (3 * r0 + 1)) m q) = pr * 4294967296 + z := (z_sum_eq hfin').mpr (by rw [← one m a2]; exact a3.trans eR)
      refine br_p (by rw [e9]) ?_
      obtain ⟨es, -⟩ := z_sl_eq ok kn tb hW hl3 hyl a1 a2 hq hMs hfin' a3 a4
      refine tw_push p4 (by omega) (fun s5 m5 p5 e5 l5 => tw_push p5 (by omega) (fun s6 m6 p6 e6 l6 => fin s6 (m5.tr m6) (l5.tr l6 (by omega)) p6 ⟨m, by omega, es.symm, e6, q, hq, ?_, e5.lo l6 (by omega), trivial⟩))
      obtain ⟨_, _, c, d, _, hb, _⟩ := z_sl_at ok hl3 hMs
      rw [es] at hb
      exact (z_sl_nil ok hb).symm
    · intro n m a1 a2 a3 a4
      simp only [wX3_layName_194]
      refine tw_cost ok h4 f4.1 b0 hp (by omega) (tw_cost ok h4 f4.1 b1 (by omega) hq ?_)
      rw [c4]
      refine tw_sum (cb _ _ _ b0 hp (by omega)) (cb _ _ _ b1 (by omega) hq) ?_
      have sl := z_sum_lt (tc C s (C.2 10 (3 * r0)) p m) (tc C s (C.2 10 (3 * r0 + 1)) m q)
      refine br_n (fun z' => a3 ?_) ?_
      · have := (z_sum_eq hfin').mp ((pk_lEQ (by omega) (by omega)).mp z')
        rw [one m a2, this]; exact eR.symm
      · rw [nI_1]
        exact al_eq a4
  refine pk_eq (C.2 9 r0) 3 (fun e3 => ?_) (fun e3 => ?_) rfl rfl (by omega) (by decide)
  · have y0 := h4.1.ys r1 (j := 0) (by omega)
    have y1 := h4.1.ys r1 (j := 1) (by omega)
    have y2 := h4.1.ys r1 (j := 2) (by omega)
    have b0 := rb.2.2 0 (by omega)
    have b1 := rb.2.2 1 (by omega)
    have b2 := rb.2.2 2 (by omega)
    rw [Nat.add_zero] at y0 b0
    rw [show nI (3 * r0) + 2 = nI (3 * r0 + 2) from nI_add _ 2, nI_clamp (by omega), y0, y1, y2]
    refine ⟨vp_nI (by omega) (by decide), ?_⟩
    rw [z_yl_3 e3] at hMs hl3 hyl fin
    have one : ∀ m, m ≤ q → z_rs (tc C s) [C.2 10 (3 * r0 + 2)] m q = tc C s (C.2 10 (3 * r0 + 2)) m q := fun m a => z_rs_1 a (cb _ _ _ b2 (by omega) hq) (fun _ => Or.inr trivial)
    have two : ∀ m, m ≤ q → z_rs (tc C s) [C.2 10 (3 * r0 + 1), C.2 10 (3 * r0 + 2)] m q = z_mn (z_tw (tc C s) (C.2 10 (3 * r0 + 1)) (C.2 10 (3 * r0 + 2)) m q) 1152921504606846976 (q + 1 - m) := fun m a => z_rs_2 (fun m' c d => cb _ _ _ b2 (by omega) hq)
    obtain ⟨-, eR⟩ := z_rs_of ok kn tb hW hl3 hyl hp hq hMs hfin'
    have hl2 : [C.2 10 (3 * r0 + 1), C.2 10 (3 * r0 + 2)].length ≤ 3 := by simp
    have hy2 : ∀ y ∈ [C.2 10 (3 * r0 + 1), C.2 10 (3 * r0 + 2)], y < 100 ∨ (100 ≤ y ∧ y < 100 + C.1 5) := fun y hy => hyl y (List.mem_cons_of_mem _ hy)
    refine tw_search (fun n m s' => wX3_layName_274 Q _ n (nI p) (nI q) (lN (pr * 4294967296 + z)) (nI st.1.2.2) (nI (C.2 10 (3 * r0))) (nI (C.2 10 (3 * r0 + 1))) (nI (C.2 10 (3 * r0 + 2))) (nI m) s') (fun m => tc C s (C.2 10 (3 * r0)) p m + z_rs (tc C s) [C.2 10 (3 * r0 + 1), C.2 10 (3 * r0 + 2)] m q = z_rs (tc C s) [C.2 10 (3 * r0), C.2 10 (3 * r0 + 1), C.2 10 (3 * r0 + 2)] p q) (z_sl_ex ok kn tb hW hl3 hyl hp hq hMs hfin') ?_ ?_
    · intro n m a1 a2 a3 a4
      simp only [wX3_layName_274]
      have tl := z_rs_le (tc C s) [C.2 10 (3 * r0 + 1), C.2 10 (3 * r0 + 2)] m q
      refine tw_cost ok h4 f4.1 b0 hp (by omega) (tw_both ok h4 f4.1 b1 b2 a2 hq ?_)
      rw [c4, ← two m a2]
      refine tw_sum (cb _ _ _ b0 hp (by omega)) tl ?_
      have e9 : z_sum (tc C s (C.2 10 (3 * r0)) p m) (z_rs (tc C s) [C.2 10 (3 * r0 + 1), C.2 10 (3 * r0 + 2)] m q) = pr * 4294967296 + z := (z_sum_eq hfin').mpr (a3.trans eR)
      refine br_p (by rw [e9]) ?_
      obtain ⟨es, a, b, c, d, hA, hB, ec1, ec2⟩ := z_sl_eq ok kn tb hW hl3 hyl a1 a2 hq hMs hfin' a3 a4
      refine tw_both ok h4 f4.1 b1 b2 a2 hq ?_
      rw [c4, ← two m a2]
      have hfin2 : c * 4294967296 + d < 1152921504606846976 := Nat.lt_of_le_of_lt (Nat.add_le_add (Nat.mul_le_mul_right 4294967296 (by rw [ec1]; exact Nat.le_add_left c a)) (by rw [ec2]; exact Nat.le_add_left d b)) hfin'
      have eR2 : z_rs (tc C s) [C.2 10 (3 * r0 + 1), C.2 10 (3 * r0 + 2)] m q = c * 4294967296 + d := (z_rs_of ok kn tb hW hl2 hy2 (by omega) hq hB hfin2).2
      refine tw_search (fun n k s' => wX3_layName_326 Q _ n (nI p) (nI q) (nI st.1.2.2) (nI (C.2 10 (3 * r0))) (nI (C.2 10 (3 * r0 + 1))) (nI (C.2 10 (3 * r0 + 2))) (nI m) (lN (z_rs (tc C s) [C.2 10 (3 * r0 + 1), C.2 10 (3 * r0 + 2)] m q)) (nI k) s') (fun k => tc C s (C.2 10 (3 * r0 + 1)) m k + z_rs (tc C s) [C.2 10 (3 * r0 + 2)] k q = z_rs (tc C s) [C.2 10 (3 * r0 + 1), C.2 10 (3 * r0 + 2)] m q) (z_sl_ex ok kn tb hW hl2 hy2 (by omega) hq hB hfin2) ?_ ?_
      · intro n k a5 a6 a7 a8
        simp only [wX3_layName_326]
        refine tw_cost ok h4 f4.1 b1 (by omega) (by omega) (tw_cost ok h4 f4.1 b2 (by omega) hq ?_)
        rw [c4]
        refine tw_sum (cb _ _ _ b1 (by omega) (by omega)) (cb _ _ _ b2 (by omega) hq) ?_
        have e8 : z_sum (tc C s (C.2 10 (3 * r0 + 1)) m k) (tc C s (C.2 10 (3 * r0 + 2)) k q) = z_rs (tc C s) [C.2 10 (3 * r0 + 1), C.2 10 (3 * r0 + 2)] m q := (z_sum_eq (by omega)).mpr (by rw [← one k a6]; exact a7)
        refine br_p (by rw [e8]) ?_
        obtain ⟨es2, _, _, c2, d2, _, hB2, _⟩ := z_sl_eq ok kn tb hW hl2 hy2 a5 a6 hq hB hfin2 a7 a8
        refine tw_push p4 (by omega) (fun s5 m5 p5 e5 l5 => tw_push p5 (by omega) (fun s6 m6 p6 e6 l6 => tw_push p6 (by omega) (fun s7 m7 p7 e7 l7 => fin s7 ((m5.tr m6).tr m7) ((l5.tr l6 (by omega)).tr l7 (by omega)) p7 ⟨m, by omega, es.symm, e7, k, by omega, es2.symm, e6.lo l7 (by omega), q, hq, (z_sl_nil ok hB2).symm, (e5.lo l6 (by omega)).lo l7 (by omega), trivial⟩)))
      · intro n k a5 a6 a7 a8
        simp only [wX3_layName_326]
        refine tw_cost ok h4 f4.1 b1 (by omega) (by omega) (tw_cost ok h4 f4.1 b2 (by omega) hq ?_)
        rw [c4]
        refine tw_sum (cb _ _ _ b1 (by omega) (by omega)) (cb _ _ _ b2 (by omega) hq) ?_
        have sl := z_sum_lt (tc C s (C.2 10 (3 * r0 + 1)) m k) (tc C s (C.2 10 (3 * r0 + 2)) k q)
        refine br_n (fun z' => a7 ?_) ?_
        · have := (z_sum_eq (by omega)).mp ((pk_lEQ (by omega) (by omega)).mp z')
          rw [one k a6, this]
        · rw [nI_1]
          exact al_eq a8
    · intro n m a1 a2 a3 a4
      simp only [wX3_layName_274]
      have tl := z_rs_le (tc C s) [C.2 10 (3 * r0 + 1), C.2 10 (3 * r0 + 2)] m q
      refine tw_cost ok h4 f4.1 b0 hp (by omega) (tw_both ok h4 f4.1 b1 b2 a2 hq ?_)
      rw [c4, ← two m a2]
      refine tw_sum (cb _ _ _ b0 hp (by omega)) tl ?_
      have sl := z_sum_lt (tc C s (C.2 10 (3 * r0)) p m) (z_rs (tc C s) [C.2 10 (3 * r0 + 1), C.2 10 (3 * r0 + 2)] m q)
      refine br_n (fun z' => a3 ?_) ?_
      · have := (z_sum_eq hfin').mp ((pk_lEQ (by omega) (by omega)).mp z')
        rw [this]; exact eR.symm
      · rw [nI_1]
        exact al_eq a4
  · have e0 : C.2 9 r0 = 0 := by omega
    rw [z_yl_0 e0] at fin
    exact fin s4 tfr.rf tLo.rf p4 trivial
end TWT
