/-! PLAIN LAW, what the walk through the least tree lays: slips, words, nodes -/
set_option maxRecDepth 100000
abbrev St : Type := (Nat × Nat × Nat) × (Nat → Int32) × (Nat → Int32) × (Nat → Int32)
def y_sl (k i w pr : Nat) (st : St) : St := ((st.1.1 + 1, st.1.2), va_up (va_up (va_up (va_up st.2.1 (4 * st.1.1) (nI k)) (4 * st.1.1 + 1) (nI i)) (4 * st.1.1 + 2) (nI w)) (4 * st.1.1 + 3) (nI pr), st.2.2)
def y_wd (t : Nat) (st : St) : St := ((st.1.1, st.1.2.1 + 1, st.1.2.2), st.2.1, va_up st.2.2.1 st.1.2.1 (nI t), st.2.2.2)
def y_no (x r : Nat) (par : Int32) (st : St) : St := ((st.1.1, st.1.2.1, st.1.2.2 + 1), st.2.1, st.2.2.1, va_up (va_up (va_up (va_up st.2.2.2 (5 * st.1.2.2) (nI x)) (5 * st.1.2.2 + 1) (nI r)) (5 * st.1.2.2 + 2) par) (5 * st.1.2.2 + 3) (nI st.1.2.1))
def y_ne (node : Nat) (st : St) : St := (st.1, st.2.1, st.2.2.1, va_up st.2.2.2 (5 * node + 4) (nI st.1.2.1 - st.2.2.2 (5 * node + 3)))
noncomputable def y_sk (C : Cf) (j : Nat) : Nat → Nat → St → St
  | 0, _, st => st
  | f + 1, i, st => if i < j then y_sk C j f (i + z_bm C i j) (y_sl (if z_bm C i j = 1 then 6 else 7) i (if z_bm C i j = 1 then 0 else z_bm C i j) (z_sp C i (z_bm C i j)) st) else st
noncomputable def y_tk (C : Cf) (t l q : Nat) (st : St) : St := y_wd t (if z_b2 C t l q = 0 then (if l = z_b1 C t l q then st else y_sk C (z_b1 C t l q / 5) 12 (l / 5) st) else y_sl (z_b2 C t l q) (z_b1 C t l q / 5) (if z_b2 C t l q < 3 then t else if z_b2 C t l q = 3 then 0 else z_b3 C t l q) (z_R C t l q - z_up C l (z_b1 C t l q)) (if l = z_b1 C t l q then st else y_sk C (z_b1 C t l q / 5) 12 (l / 5) st))
noncomputable def y_sq (C : Cf) (g : Nat → Nat → Nat → Int32 → St → St) (node : Nat) : List Nat → Nat → Nat → St → St
  | [], _, _, st => st
  | y :: ys, l, q, st => y_sq C g node ys (z_sl C y ys l q) q (if y < 100 then y_tk C y l (z_sl C y ys l q) st else g (y - 100) l (z_sl C y ys l q) (nI node) st)
noncomputable def y_nm (C : Cf) : Nat → Nat → Nat → Nat → Int32 → St → St
  | 0 => fun _ _ _ _ st => st
  | f + 1 => fun x l q par st => y_ne st.1.2.2 (y_sq C (y_nm C f) st.1.2.2 (z_yl C (z_ru C x l q)) l q (y_no x (z_ru C x l q) par st))
/-! the first skip -/
theorem z_bm_at {C : Cf} (ok : z_ok C) {i j : Nat} (hij : i < j) (hj : j ≤ C.1 34) (h : z_k C i j ≠ 1000000000) : 1 ≤ z_bm C i j ∧ i + z_bm C i j ≤ j ∧ z_sp C i (z_bm C i j) + z_k C (i + z_bm C i j) j = z_k C i j ∧ z_k C (i + z_bm C i j) j ≠ 1000000000 ∧ z_sp C i (z_bm C i j) ≤ 111 := by
  have o := ok.1
  have kb := z_k_bd2 ok (Nat.le_of_lt hij) hj
  have ex : ∃ m, 1 ≤ m ∧ i + m ≤ j ∧ z_sp C i m + z_k C (i + m) j = z_k C i j := by
    rcases z_mn_at (z_kF C i j) 1000000000 (j - i) with e | ⟨d, hd, e⟩
    · rw [← z_k_eqF C hij] at e; exact absurd e h
    · rw [← z_k_eqF C hij] at e
      exact ⟨d + 1, by omega, by omega, by unfold z_kF at e; omega⟩
  obtain ⟨h1, h2, h3⟩ := (z_lst_at (d := 0) ex).1
  have h1 : 1 ≤ z_bm C i j := h1
  have h2 : i + z_bm C i j ≤ j := h2
  have h3 : z_sp C i (z_bm C i j) + z_k C (i + z_bm C i j) j = z_k C i j := h3
  have sb := z_sp_bd ok (i := i) (m := z_bm C i j) (by omega) (by omega)
  have kb2 := z_k_bd2 ok (i := i + z_bm C i j) (j := j) h2 hj
  exact ⟨h1, h2, h3, by omega, by omega⟩
theorem y_sk_fu {C : Cf} (ok : z_ok C) {j : Nat} (hj : j ≤ C.1 34) : ∀ f g i st, j - i ≤ f → j - i ≤ g → i ≤ j → z_k C i j ≠ 1000000000 → y_sk C j f i st = y_sk C j g i st := by
  intro f
  induction f with
  | zero =>
    intro g i st h1 h2 h3 h4
    cases g with
    | zero => rfl
    | succ g => simp only [y_sk]; rw [if_neg (by omega)]
  | succ f ih =>
    intro g i st h1 h2 h3 h4
    cases g with
    | zero => simp only [y_sk]; rw [if_neg (by omega)]
    | succ g =>
      simp only [y_sk]
      by_cases e : i < j
      · rw [if_pos e, if_pos e]
        obtain ⟨b1, b2, -, b4, -⟩ := z_bm_at ok e hj h4
        exact ih g _ _ (by omega) (by omega) b2 b4
      · rw [if_neg e, if_neg e]
/-- one skip -/
theorem y_sk_one {C : Cf} (ok : z_ok C) {i j : Nat} (hij : i < j) (hj : j ≤ C.1 34) (h : z_k C i j ≠ 1000000000) (st : St) : y_sk C j 12 i st = y_sk C j 12 (i + z_bm C i j) (y_sl (if z_bm C i j = 1 then 6 else 7) i (if z_bm C i j = 1 then 0 else z_bm C i j) (z_sp C i (z_bm C i j)) st) := by
  have o := ok.1
  obtain ⟨b1, b2, -, b4, -⟩ := z_bm_at ok hij hj h
  have e : y_sk C j (11 + 1) i st = y_sk C j 11 (i + z_bm C i j) (y_sl (if z_bm C i j = 1 then 6 else 7) i (if z_bm C i j = 1 then 0 else z_bm C i j) (z_sp C i (z_bm C i j)) st) := by
    simp only [y_sk]
    rw [if_pos hij]
  exact e.trans (y_sk_fu ok hj 11 12 _ _ (by omega) (by omega) b2 b4)
theorem y_sk_end (C : Cf) (j : Nat) (st : St) : y_sk C j 12 j st = st := by unfold y_sk; rw [if_neg (by omega)]
theorem y_sk_cnt {C : Cf} (ok : z_ok C) {j : Nat} (hj : j ≤ C.1 34) : ∀ f i st, i ≤ j → j - i ≤ f → z_k C i j ≠ 1000000000 → st.1.1 ≤ (y_sk C j f i st).1.1 ∧ (y_sk C j f i st).1.1 + i ≤ st.1.1 + j ∧ (y_sk C j f i st).1.2 = st.1.2 ∧ (y_sk C j f i st).2.2 = st.2.2 := by
  intro f
  induction f with
  | zero =>
    intro i st h1 h2 h3
    unfold y_sk
    exact ⟨Nat.le_refl _, by omega, rfl, rfl⟩
  | succ f ih =>
    intro i st h1 h2 h3
    simp only [y_sk]
    by_cases e : i < j
    · rw [if_pos e]
      obtain ⟨b1, b2, -, b4, -⟩ := z_bm_at ok e hj h3
      obtain ⟨a1, a2, a3, a4⟩ := ih (i + z_bm C i j) (y_sl (if z_bm C i j = 1 then 6 else 7) i (if z_bm C i j = 1 then 0 else z_bm C i j) (z_sp C i (z_bm C i j)) st) b2 (by omega) b4
      refine ⟨?_, ?_, a3, a4⟩
      · have : st.1.1 + 1 ≤ _ := a1
        omega
      · have : _ ≤ st.1.1 + 1 + j := a2
        omega
    · rw [if_neg e]
      exact ⟨Nat.le_refl _, by omega, rfl, rfl⟩
/-- the best step is one -/
theorem z_b_at {C : Cf} {t l q : Nat} (h : z_R C t l q ≠ 1000000000) : ∃ i pr, z_st C (z_b2 C t l q) i (z_b1 C t l q) q t pr (z_b3 C t l q) ∧ z_up C l (z_b1 C t l q) ≠ 1000000000 ∧ z_R C t l q = z_up C l (z_b1 C t l q) + pr := by
  obtain ⟨k, i, fl, pr, fo, g1, g2, g3⟩ := z_R_at h
  obtain ⟨k1, i1, pr1, fo1, a1, a2, a3⟩ := (z_lst_at (d := 0) (P := fun fl => ∃ k i pr fo, z_st C k i fl q t pr fo ∧ z_up C l fl ≠ 1000000000 ∧ z_up C l fl + pr = z_R C t l q) ⟨fl, k, i, pr, fo, g1, g2, g3.symm⟩).1
  obtain ⟨i2, pr2, fo2, b1, b2⟩ := (z_lst_at (d := 0) (P := fun k => ∃ i pr fo, z_st C k i (z_b1 C t l q) q t pr fo ∧ z_up C l (z_b1 C t l q) + pr = z_R C t l q) ⟨k1, i1, pr1, fo1, a1, a3⟩).1
  obtain ⟨i3, pr3, c1, c2⟩ := (z_lst_at (d := 0) (P := fun fo => ∃ i pr, z_st C (z_b2 C t l q) i (z_b1 C t l q) q t pr fo ∧ z_up C l (z_b1 C t l q) + pr = z_R C t l q) ⟨fo2, i2, pr2, b1, b2⟩).1
  exact ⟨i3, pr3, c1, a2, c2.symm⟩
theorem z_up_k {C : Cf} {l fl : Nat} (h : z_up C l fl ≠ 1000000000) (hne : l ≠ fl) : l % 5 = 0 ∧ fl % 5 = 0 ∧ l < fl ∧ z_up C l fl = z_k C (l / 5) (fl / 5) := by
  rcases z_up_main h with z | z
  · exact absurd z hne
  · refine ⟨z.1, z.2.1, z.2.2, ?_⟩
    unfold z_up
    rw [if_neg hne, if_pos z]
theorem y_tk_cnt {C : Cf} (ok : z_ok C) {t l q : Nat} (h : z_R C t l q ≠ 1000000000) (st : St) (hs : st.1.1 ≤ st.1.2.1 + l / 5) : (y_tk C t l q st).1.1 ≤ (y_tk C t l q st).1.2.1 + q / 5 ∧ (y_tk C t l q st).1.2.1 = st.1.2.1 + 1 ∧ (y_tk C t l q st).1.2.2 = st.1.2.2 ∧ (y_tk C t l q st).2.2.2 = st.2.2.2 := by
  obtain ⟨i, pr, a1, a2, a3⟩ := z_b_at h
  have b := z_st_pl ok a1
  have key : ∃ st1 : St, st1 = (if l = z_b1 C t l q then st else y_sk C (z_b1 C t l q / 5) 12 (l / 5) st) ∧ st1.1.1 ≤ st1.1.2.1 + q / 5 ∧ st1.1.2 = st.1.2 ∧ st1.2.2 = st.2.2 := by
    refine ⟨_, rfl, ?_⟩
    by_cases e : l = z_b1 C t l q
    · rw [if_pos e]
      exact ⟨by omega, rfl, rfl⟩
    · rw [if_neg e]
      obtain ⟨c1, c2, c3, c4⟩ := z_up_k a2 e
      have o := ok.1
      obtain ⟨d1, d2, d3, d4⟩ := y_sk_cnt ok (j := z_b1 C t l q / 5) (by omega) 12 (l / 5) st (by omega) (by omega) (by rw [← c4]; exact a2)
      refine ⟨?_, d3, d4⟩
      rw [d3]
      omega
  obtain ⟨st1, e1, k1, k2, k3⟩ := key
  unfold y_tk
  rw [← e1]
  by_cases e : z_b2 C t l q = 0
  · rw [if_pos e]
    refine ⟨?_, ?_, ?_, ?_⟩
    · show st1.1.1 ≤ st1.1.2.1 + 1 + q / 5
      omega
    · show st1.1.2.1 + 1 = _; rw [k2]
    · show st1.1.2.2 = _; rw [k2]
    · show st1.2.2.2 = _; rw [k3]
  · rw [if_neg e]
    refine ⟨?_, ?_, ?_, ?_⟩
    · show st1.1.1 + 1 ≤ st1.1.2.1 + 1 + q / 5
      omega
    · show st1.1.2.1 + 1 = _; rw [k2]
    · show st1.1.2.2 = _; rw [k2]
    · show st1.2.2.2 = _; rw [k3]
/-! the rule and the cuts are there -/
theorem z_ru_at {C : Cf} (ok : z_ok C) {x l q pr sz : Nat} (h : z_Mb C (z_tk C) 16777216 x l q pr sz) : z_ru C x l q < C.1 7 ∧ C.2 8 (z_ru C x l q) = x ∧ ∃ z, sz = z + 1 ∧ z_Ms C (z_tk C) 16777216 (z_yl C (z_ru C x l q)) l q pr z := by
  obtain ⟨r, z, g1, g2, g3, rfl⟩ := z_Mb_of h
  obtain ⟨a1, a2, pr', z', a3, a4⟩ := (z_lst_at (d := 0) (P := fun r => r < C.1 7 ∧ C.2 8 r = x ∧ ∃ pr z, z_Mb C (z_tk C) 16777216 x l q pr (z + 1) ∧ z_Ms C (z_tk C) 16777216 (z_yl C r) l q pr z) ⟨r, g1, g2, pr, z, h, g3⟩).1
  obtain ⟨rfl, e⟩ := z_Mb_un ok h a3
  exact ⟨a1, a2, z', e, a4⟩
theorem z_sl_at {C : Cf} (ok : z_ok C) {y : Nat} {ys : List Nat} (hy : (y :: ys).length ≤ 3) {l q pr sz : Nat} (h : z_Ms C (z_tk C) 16777216 (y :: ys) l q pr sz) : ∃ a b c d, z_My C (z_tk C) 16777216 y l (z_sl C y ys l q) a b ∧ z_Ms C (z_tk C) 16777216 ys (z_sl C y ys l q) q c d ∧ pr = a + c ∧ sz = b + d := by
  obtain ⟨m, a, b, c, d, g1, g2, rfl, rfl⟩ := z_Ms_cons h
  obtain ⟨a', b', c', d', a1, a2, a3⟩ := (z_lst_at (d := 0) (P := fun m => ∃ a b c d, z_My C (z_tk C) 16777216 y l m a b ∧ z_Ms C (z_tk C) 16777216 ys m q c d ∧ z_Ms C (z_tk C) 16777216 (y :: ys) l q (a + c) (b + d)) ⟨m, a, b, c, d, g1, g2, h⟩).1
  obtain ⟨e1, e2⟩ := z_Ms_un ok hy h a3
  exact ⟨a', b', c', d', a1, a2, e1, e2⟩
theorem z_sl_nil {C : Cf} (ok : z_ok C) {y l q pr sz : Nat} (h : z_Ms C (z_tk C) 16777216 [y] l q pr sz) : z_sl C y [] l q = q := by
  obtain ⟨a, b, c, d, -, h2, -⟩ := z_sl_at ok (by simp) h
  exact h2.1.1
theorem z_My_R {C : Cf} {y l m a b : Nat} (e : y < 100) (h : z_My C (z_tk C) 16777216 y l m a b) (ok : z_ok C) : z_R C y l m ≠ 1000000000 ∧ b = 0 := by
  rcases z_My_nm h with ⟨-, w, rfl⟩ | ⟨w, -⟩
  · have := z_R_le w
    have := (z_tk_bd ok w).2.2.1
    exact ⟨by omega, rfl⟩
  · omega
theorem y_nm_cnt {C : Cf} (ok : z_ok C) : ∀ f x l q par st pr sz, sz ≤ f → z_Mb C (z_tk C) 16777216 x l q pr sz → st.1.1 ≤ st.1.2.1 + l / 5 → (y_nm C f x l q par st).1.1 ≤ (y_nm C f x l q par st).1.2.1 + q / 5 ∧ (y_nm C f x l q par st).1.2.2 = st.1.2.2 + sz ∧ st.1.2.1 ≤ (y_nm C f x l q par st).1.2.1 ∧ (y_nm C f x l q par st).1.2.1 ≤ st.1.2.1 + 3 * sz := by
  intro f
  induction f with
  | zero =>
    intro x l q par st pr sz h1 h2 h3
    have := (z_D_nm ok h2.1).2
    omega
  | succ f ih =>
    intro x l q par st pr sz h1 h2 h3
    obtain ⟨r1, r2, z, rfl, r3⟩ := z_ru_at ok h2
    have key : ∀ (ys : List Nat) l q pr z st, ys.length ≤ 3 → z ≤ f → z_Ms C (z_tk C) 16777216 ys l q pr z → st.1.1 ≤ st.1.2.1 + l / 5 → ∀ node, (y_sq C (y_nm C f) node ys l q st).1.1 ≤ (y_sq C (y_nm C f) node ys l q st).1.2.1 + q / 5 ∧ (y_sq C (y_nm C f) node ys l q st).1.2.2 = st.1.2.2 + z ∧ st.1.2.1 ≤ (y_sq C (y_nm C f) node ys l q st).1.2.1 ∧ (y_sq C (y_nm C f) node ys l q st).1.2.1 ≤ st.1.2.1 + ys.length + 3 * z := by
      intro ys
      induction ys with
      | nil =>
        intro l q pr z st _ _ w hs node
        obtain ⟨rfl, -, rfl⟩ := w.1
        unfold y_sq
        exact ⟨hs, rfl, Nat.le_refl _, by simp⟩
      | cons y ys ihy =>
        intro l q pr z st hl hz w hs node
        obtain ⟨a, b, c, d, w1, w2, rfl, rfl⟩ := z_sl_at ok hl w
        have hl' : ys.length ≤ 3 := by rw [List.length_cons] at hl; omega
        simp only [y_sq]
        by_cases e : y < 100
        · rw [if_pos e]
          obtain ⟨hR, rfl⟩ := z_My_R e w1 ok
          obtain ⟨t1, t2, t3, -⟩ := y_tk_cnt ok hR st hs
          obtain ⟨u1, u2, u3, u4⟩ := ihy (z_sl C y ys l q) q c d (y_tk C y l (z_sl C y ys l q) st) hl' (by omega) w2 t1 node
          rw [List.length_cons]
          exact ⟨u1, by omega, by omega, by omega⟩
        · rw [if_neg e]
          have w1' := (z_My_nm w1).resolve_left (fun z => e z.1)
          obtain ⟨t1, t2, t3, t4⟩ := ih (y - 100) l (z_sl C y ys l q) (nI node) st a b (by omega) w1'.2 hs
          obtain ⟨u1, u2, u3, u4⟩ := ihy (z_sl C y ys l q) q c d (y_nm C f (y - 100) l (z_sl C y ys l q) (nI node) st) hl' (by omega) w2 t1 node
          rw [List.length_cons]
          exact ⟨u1, by omega, by omega, by omega⟩
    obtain ⟨k1, k2, k3, k4⟩ := key (z_yl C (z_ru C x l q)) l q pr z (y_no x (z_ru C x l q) par st) (z_yl_ok ok r1).1 (by omega) r3 h3 st.1.2.2
    have l3 := (z_yl_ok ok r1).1
    simp only [y_nm]
    refine ⟨k1, ?_, k3, ?_⟩
    · have : _ = st.1.2.2 + 1 + z := k2
      show (y_sq C (y_nm C f) st.1.2.2 (z_yl C (z_ru C x l q)) l q (y_no x (z_ru C x l q) par st)).1.2.2 = _
      omega
    · have : _ ≤ st.1.2.1 + (z_yl C (z_ru C x l q)).length + 3 * z := k4
      show (y_sq C (y_nm C f) st.1.2.2 (z_yl C (z_ru C x l q)) l q (y_no x (z_ru C x l q) par st)).1.2.1 ≤ _
      omega
