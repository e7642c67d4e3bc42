/-! PLAIN LAW, the mathematics: trees over main knots alone; the least ones do not hang on the unit -/
set_option maxRecDepth 100000
theorem z_may_iff {C : Cf} {k i m w : Nat} : z_may C k i m w = true ↔ z_pl C = false ∧ z_out C k i w = false ∧ (∀ d, d < m → z_fen C (C.2 15 (i + d)) = false) ∧ z_rg C i (i + m) = true := by
  unfold z_may
  simp only [Bool.and_eq_true, Bool.not_eq_true', List.all_eq_true, List.mem_range]
  exact ⟨fun ⟨⟨a, b⟩, c, d⟩ => ⟨a, b, c, d⟩, fun ⟨a, b, c, d⟩ => ⟨⟨a, b⟩, c, d⟩⟩
theorem z_out_iff {C : Cf} {k i w : Nat} : z_out C k i w = true ↔ k = C.1 35 ∧ i = C.1 36 ∧ w = C.1 37 := by
  unfold z_out
  simp only [Bool.and_eq_true, beq_iff_eq]
theorem z_out_no {C : Cf} {k i w k' i' w' : Nat} (h : z_out C k i w = true) (hn : ¬ (k = k' ∧ i = i' ∧ w = w')) : z_out C k' i' w' = false := by
  rw [z_out_iff] at h
  rw [Bool.eq_false_iff, ne_eq, z_out_iff]
  omega
theorem z_rg_iff {C : Cf} {a b : Nat} : z_rg C a b = true ↔ (C.1 33 = 1 → C.1 18 ≤ a ∧ b ≤ C.1 19) := by
  unfold z_rg
  simp only [Bool.or_eq_true, Bool.not_eq_true', beq_eq_false_iff_ne, ne_eq, Bool.and_eq_true, Nat.ble_eq]
  by_cases e : C.1 33 = 1
  · simp [e]
  · simp [e]
theorem z_rg_in {C : Cf} {a b a' b' : Nat} (h : z_rg C a b = true) (h1 : a ≤ a') (h2 : b' ≤ b) : z_rg C a' b' = true := by
  rw [z_rg_iff] at *
  intro e
  have := h e
  omega
theorem z_lp_ne {C : Cf} (ok : z_ok C) {i t : Nat} (h1 : z_pl C = false) (h2 : z_fen C t = false) (h3 : z_rg C i i = true) (h4 : z_out C 1 i t = false) (ht : t < C.1 0) : z_lp C i t ≠ 1000000000 := by
  unfold z_lp
  by_cases e : i = C.1 34 ∧ 1 < C.1 33
  · rw [if_pos e]
    by_cases e2 : C.1 33 = 2
    · rw [if_pos e2]; decide
    · rw [if_neg e2]; decide
  · rw [if_neg e, h1, h2, h3, h4]
    have := ok.2.1 0 t (by decide) ht
    rw [show 12 * 0 + t = t by omega] at this
    simp only [Bool.not_false, Bool.and_self, if_true]
    omega
theorem z_k_ex {C : Cf} (ok : z_ok C) {i : Nat} (hi : i < C.1 34) (h : z_may C 6 i 1 0 = true) : z_k C i (i + 1) ≠ 1000000000 := by
  have := z_k_one C (i := i) (j := i + 1) (m := 1) (Nat.le_refl _) (Nat.le_refl _)
  rw [z_k_self] at this
  have e : z_sp C i 1 = C.2 2 (12 + C.2 15 i) := by
    unfold z_sp
    simp [h]
  have := ok.2.1 1 (C.2 15 i) (by decide) (ok.2.2.2.1 i hi)
  rw [show 12 * 1 + C.2 15 i = 12 + C.2 15 i by omega] at this
  omega
/-- reading between main knots -/
def z_tm (C : Cf) (t p q v : Nat) : Prop := z_tk C t p q v ∧ p % 5 = 0 ∧ q % 5 = 0
/-- where a knot is put among the main ones -/
def z_ps (C : Cf) (l : Nat) : Nat := if l % 5 = 0 then l else if l % 5 = 1 then (if z_out C 2 (l / 5) (C.2 15 (l / 5 + 1)) = true then 5 * (l / 5) else 5 * (l / 5) + 5) else (if z_out C 1 (l / 5) (C.2 12 (4 * (l % 5 - 2))) = true then 5 * (l / 5) + 5 else 5 * (l / 5))
def z_en (C : Cf) (l : Nat) : Prop := l % 5 = 0 ∨ ∃ k i fl t pr fo, z_st C k i fl l t pr fo
theorem z_ps_m {C : Cf} {l : Nat} (h : l % 5 = 0) : z_ps C l = l := by unfold z_ps; rw [if_pos h]
theorem z_up_main {C : Cf} {p fl : Nat} (h : z_up C p fl ≠ 1000000000) : p = fl ∨ (p % 5 = 0 ∧ fl % 5 = 0 ∧ p < fl) := by
  unfold z_up at h
  by_cases e : p = fl
  · exact Or.inl e
  · rw [if_neg e] at h
    by_cases e2 : p % 5 = 0 ∧ fl % 5 = 0 ∧ p < fl
    · exact Or.inr e2
    · rw [if_neg e2] at h; exact absurd rfl h
theorem z_tk_lost {C : Cf} {i t p : Nat} (hi : i ≤ C.1 34) (ht : t < C.1 0) (h : z_lp C i t ≠ 1000000000) (hu : z_up C p (5 * i) ≠ 1000000000) : ∃ v, z_tk C t p (5 * i) v := ⟨_, 1, i, 5 * i, z_lp C i t, 0, Or.inl ⟨rfl, hi, rfl, rfl, ht, rfl, rfl, h⟩, hu, rfl⟩
theorem z_tk_other {C : Cf} {i t p : Nat} (hi : i < C.1 34) (ht : t < C.1 0) (h1 : z_fen C t = false) (h2 : t = C.2 15 i ∨ z_may C 2 i 1 t = true) (hu : z_up C p (5 * i) ≠ 1000000000) : ∃ v, z_tk C t p (5 * i + 5) v := by
  by_cases e : t = C.2 15 i
  · exact ⟨_, 0, i, 5 * i, 0, 0, Or.inr (Or.inl ⟨rfl, hi, rfl, rfl, e, rfl, rfl⟩), hu, rfl⟩
  · exact ⟨_, 2, i, 5 * i, _, 0, Or.inr (Or.inr (Or.inl ⟨rfl, hi, rfl, rfl, e, ht, rfl, h1, h2.resolve_left e, rfl⟩)), hu, rfl⟩
theorem z_up_self (C : Cf) (p : Nat) : z_up C p p ≠ 1000000000 := by unfold z_up; rw [if_pos rfl]; decide
theorem z_up_next {C : Cf} {i : Nat} (h : z_k C i (i + 1) ≠ 1000000000) : z_up C (5 * i) (5 * (i + 1)) ≠ 1000000000 := by
  unfold z_up
  rw [if_neg (by omega), if_pos (by omega), show 5 * i / 5 = i by omega, show 5 * (i + 1) / 5 = i + 1 by omega]
  exact h
theorem z_tk_main {C : Cf} (ok : z_ok C) {t p q v : Nat} (h : z_tk C t p q v) (hp : z_en C p) : z_en C q ∧ ∃ v', z_tm C t (z_ps C p) (z_ps C q) v' := by
  have h' := h
  obtain ⟨k, i, fl, pr, fo, h1, h2, h3⟩ := h
  refine ⟨Or.inr ⟨k, i, fl, t, pr, fo, h1⟩, ?_⟩
  have hup := z_up_main h2
  have o4 := ok.2.2.2.1
  have o5 := ok.2.2.2.2.2
  have hb := z_st_pl ok h1
  by_cases mp : p % 5 = 0
  · by_cases mq : q % 5 = 0
    · rw [z_ps_m mp, z_ps_m mq]
      exact ⟨v, h', mp, mq⟩
    · -- into a special one
      rw [z_ps_m mp]
      rcases h1 with h1 | h1 | h1 | h1 | h1 | h1 | h1 | h1
      · omega
      · omega
      · omega
      · obtain ⟨-, g2, g3, g4, rfl, rfl, g7, g8, g9, g10, -⟩ := h1
        rw [z_may_iff] at g10
        have ht : t < C.1 0 := hb.2.2.2.2.2.2.2.1
        have e : z_ps C (5 * i + 2 + fo) = if z_out C 1 i t = true then 5 * i + 5 else 5 * i := by
          unfold z_ps
          rw [if_neg (by omega), if_neg (by omega), show (5 * i + 2 + fo) / 5 = i by omega, show (5 * i + 2 + fo) % 5 - 2 = fo by omega, ← g7]
        rw [e]
        rw [← g7] at g8
        by_cases eo : z_out C 1 i t = true
        · rw [if_pos eo]
          obtain ⟨v', w⟩ := z_tk_other (p := p) g2 ht g8 (Or.inr (z_may_iff.mpr ⟨g10.1, z_out_no eo (by omega), g10.2.2.1, g10.2.2.2⟩)) h2
          exact ⟨v', w, mp, by omega⟩
        · rw [if_neg eo]
          obtain ⟨v', w⟩ := z_tk_lost (p := p) (by omega) ht (z_lp_ne ok g10.1 g8 (z_rg_in g10.2.2.2 (Nat.le_refl _) (by omega)) (by simpa using eo) ht) h2
          exact ⟨v', w, mp, by omega⟩
      · omega
      · obtain ⟨-, g2, g3, rfl, rfl, g7, -, g10, -⟩ := h1
        rw [z_may_iff] at g10
        have ht : t < C.1 0 := hb.2.2.2.2.2.2.2.1
        have g8 : z_fen C t = false := by have := g10.2.2.1 1 (by decide); rw [g7]; exact this
        have e : z_ps C (5 * i + 1) = if z_out C 2 i t = true then 5 * i else 5 * i + 5 := by
          unfold z_ps
          rw [if_neg (by omega), if_pos (by omega), show (5 * i + 1) / 5 = i by omega, ← g7]
        rw [e]
        by_cases eo : z_out C 2 i t = true
        · rw [if_pos eo]
          obtain ⟨v', w⟩ := z_tk_lost (p := p) (by omega) ht (z_lp_ne ok g10.1 g8 (z_rg_in g10.2.2.2 (Nat.le_refl _) (by omega)) (z_out_no eo (by omega)) ht) h2
          exact ⟨v', w, mp, by omega⟩
        · rw [if_neg eo]
          obtain ⟨v', w⟩ := z_tk_other (p := p) (by omega) ht g8 (Or.inr (z_may_iff.mpr ⟨g10.1, by simpa using eo, fun d hd => g10.2.2.1 d (by omega), z_rg_in g10.2.2.2 (Nat.le_refl _) (by omega)⟩)) h2
          exact ⟨v', w, mp, by omega⟩
      · omega
      · omega
  · -- from a special one
    have ep : p = fl := by omega
    subst ep
    have hen := hp.resolve_left mp
    have ht : t < C.1 0 := hb.2.2.2.2.2.2.2.1
    rcases h1 with h1 | h1 | h1 | h1 | h1 | h1 | h1 | h1
    · omega
    · omega
    · omega
    · omega
    · obtain ⟨-, g2, ⟨f, g3, g4, rfl, g6⟩, rfl, -, -⟩ := h1
      have f3 : f < 3 := by have := ok.1; omega
      obtain ⟨k', i', fl', t', pr', fo', h5⟩ := hen
      have hb' := z_st_pl ok h5
      have h6 : z_fen C (C.2 12 (4 * f)) = false ∧ z_fen C (C.2 12 (4 * f + 1)) = false ∧ z_may C 4 i 1 f = true := by
        rcases h5 with h5 | h5 | h5 | h5 | h5 | h5 | h5 | h5
        · omega
        · omega
        · omega
        · obtain ⟨-, a2, a3, a4, a5, a6, a7, a8, a9, a10, -⟩ := h5
          have e1 : i' = i := by omega
          subst e1
          have e2 : fo' = f := by omega
          subst e2
          exact ⟨a8, a9, a10⟩
        · omega
        · omega
        · omega
        · omega
      obtain ⟨g7, g8, g10⟩ := h6
      rw [z_may_iff] at g10
      rw [← g6] at g8
      have hT : z_fen C (C.2 15 i) = false := by have := g10.2.2.1 0 (by decide); exact this
      have e : z_ps C (5 * i + 2 + f) = if z_out C 1 i (C.2 12 (4 * f)) = true then 5 * i + 5 else 5 * i := by
        unfold z_ps
        rw [if_neg (by omega), if_neg (by omega), show (5 * i + 2 + f) / 5 = i by omega, show (5 * i + 2 + f) % 5 - 2 = f by omega]
      rw [e, z_ps_m (l := 5 * i + 5) (by omega)]
      by_cases eo : z_out C 1 i (C.2 12 (4 * f)) = true
      · rw [if_pos eo]
        obtain ⟨v', w⟩ := z_tk_lost (C := C) (i := i + 1) (t := t) (p := 5 * i + 5) (by omega) ht (z_lp_ne ok g10.1 g8 (z_rg_in g10.2.2.2 (by omega) (by omega)) (z_out_no eo (by omega)) ht) (z_up_self C _)
        exact ⟨v', w, by omega, by omega⟩
      · rw [if_neg eo]
        by_cases eo2 : t ≠ C.2 15 i ∧ z_out C 2 i t = true
        · have k1 : z_k C i (i + 1) ≠ 1000000000 := z_k_ex ok g2 (z_may_iff.mpr ⟨g10.1, z_out_no eo2.2 (by omega), g10.2.2.1, g10.2.2.2⟩)
          obtain ⟨v', w⟩ := z_tk_lost (C := C) (i := i + 1) (t := t) (p := 5 * i) (by omega) ht (z_lp_ne ok g10.1 g8 (z_rg_in g10.2.2.2 (by omega) (by omega)) (z_out_no eo2.2 (by omega)) ht) (z_up_next k1)
          exact ⟨v', w, by omega, by omega⟩
        · obtain ⟨v', w⟩ := z_tk_other (C := C) (i := i) (t := t) (p := 5 * i) g2 ht g8 (by
            by_cases e3 : t = C.2 15 i
            · exact Or.inl e3
            · refine Or.inr (z_may_iff.mpr ⟨g10.1, ?_, g10.2.2.1, g10.2.2.2⟩)
              have : ¬ z_out C 2 i t = true := fun z => eo2 ⟨e3, z⟩
              simpa using this) (z_up_self C _)
          exact ⟨v', w, by omega, by omega⟩
    · omega
    · obtain ⟨-, g2, g3, rfl, rfl, g6, -, -⟩ := h1
      obtain ⟨k', i', fl', t', pr', fo', h5⟩ := hen
      have hb' := z_st_pl ok h5
      have g10 : z_may C 3 i 2 0 = true := by
        rcases h5 with h5 | h5 | h5 | h5 | h5 | h5 | h5 | h5
        · omega
        · omega
        · omega
        · omega
        · omega
        · obtain ⟨-, a2, a3, a4, a5, a6, a7, a8, a9⟩ := h5
          have e1 : i' = i := by omega
          subst e1
          exact a8
        · omega
        · omega
      rw [z_may_iff] at g10
      have hT0 : z_fen C (C.2 15 i) = false := by have := g10.2.2.1 0 (by decide); exact this
      have hT1 : z_fen C (C.2 15 (i + 1)) = false := by have := g10.2.2.1 1 (by decide); exact this
      rw [← g6] at hT0 g3
      have hm1 : z_out C 2 (i + 1) t = false → z_may C 2 (i + 1) 1 t = true := fun ho => z_may_iff.mpr ⟨g10.1, ho, fun d hd => by
        have : d = 0 := by omega
        subst this
        exact hT1, z_rg_in g10.2.2.2 (by omega) (by omega)⟩
      have e : z_ps C (5 * i + 1) = if z_out C 2 i (C.2 15 (i + 1)) = true then 5 * i else 5 * i + 5 := by
        unfold z_ps
        rw [if_neg (by omega), if_pos (by omega), show (5 * i + 1) / 5 = i by omega]
      rw [e, z_ps_m (l := 5 * i + 10) (by omega)]
      by_cases eo : z_out C 2 i (C.2 15 (i + 1)) = true
      · rw [if_pos eo]
        have k1 : z_k C i (i + 1) ≠ 1000000000 := z_k_ex ok (by omega) (z_may_iff.mpr ⟨g10.1, z_out_no eo (by omega), fun d hd => g10.2.2.1 d (by omega), z_rg_in g10.2.2.2 (by omega) (by omega)⟩)
        obtain ⟨v', w⟩ := z_tk_other (C := C) (i := i + 1) (t := t) (p := 5 * i) g2 ht hT0 (Or.inr (hm1 (z_out_no eo (by omega)))) (z_up_next k1)
        exact ⟨v', w, by omega, by omega⟩
      · rw [if_neg eo]
        by_cases eo2 : z_out C 2 (i + 1) t = true
        · have k1 : z_k C (i + 1) (i + 1 + 1) ≠ 1000000000 := z_k_ex ok g2 (z_may_iff.mpr ⟨g10.1, z_out_no eo2 (by omega), fun d hd => by
            have : d = 0 := by omega
            subst this
            exact hT1, z_rg_in g10.2.2.2 (by omega) (by omega)⟩)
          obtain ⟨v', w⟩ := z_tk_lost (C := C) (i := i + 1 + 1) (t := t) (p := 5 * (i + 1)) (by omega) ht (z_lp_ne ok g10.1 hT0 (z_rg_in g10.2.2.2 (by omega) (by omega)) (z_out_no eo2 (by omega)) ht) (z_up_next k1)
          exact ⟨v', w, by omega, by omega⟩
        · obtain ⟨v', w⟩ := z_tk_other (C := C) (i := i + 1) (t := t) (p := 5 * (i + 1)) g2 ht hT0 (Or.inr (hm1 (by simpa using eo2))) (z_up_self C _)
          exact ⟨v', w, by omega, by omega⟩
    · omega
theorem z_D_main {C : Cf} (ok : z_ok C) {x p q pr sz : Nat} (w : z_D C (z_tk C) x p q pr sz) : z_en C p → z_en C q ∧ ∃ pr' sz', z_D C (z_tm C) x (z_ps C p) (z_ps C q) pr' sz' := by
  refine z_D_ind (P := fun x p q _ _ => z_en C p → z_en C q ∧ ∃ pr' sz', z_D C (z_tm C) x (z_ps C p) (z_ps C q) pr' sz') (fun p q pr z r h1 h2 => ?_) w
  have key : ∀ (ys : List Nat) p q pr z, z_sq (z_tk C) (fun x p q pr sz => z_D C (z_tk C) x p q pr sz ∧ (z_en C p → z_en C q ∧ ∃ pr' sz', z_D C (z_tm C) x (z_ps C p) (z_ps C q) pr' sz')) ys p q pr z → z_en C p → z_en C q ∧ ∃ pr' z', z_sq (z_tm C) (z_D C (z_tm C)) ys (z_ps C p) (z_ps C q) pr' z' := by
    intro ys
    induction ys with
    | nil =>
      intro p q pr z w hp
      obtain ⟨rfl, -, -⟩ := w
      exact ⟨hp, 0, 0, rfl, rfl, rfl⟩
    | cons y ys ih =>
      intro p q pr z w hp
      obtain ⟨m, a, b, c, d, w1, w2, -, -⟩ := w
      have : z_en C m ∧ ∃ a' b', z_sy (z_tm C) (z_D C (z_tm C)) y (z_ps C p) (z_ps C m) a' b' := by
        rcases w1 with ⟨e, w1, -⟩ | ⟨e, -, w1⟩
        · obtain ⟨g1, v', g2⟩ := z_tk_main ok w1 hp
          exact ⟨g1, v', 0, Or.inl ⟨e, g2, rfl⟩⟩
        · obtain ⟨g1, a', b', g2⟩ := w1 hp
          exact ⟨g1, a', b', Or.inr ⟨e, g2⟩⟩
      obtain ⟨hm, a', b', g1⟩ := this
      obtain ⟨hq, c', d', g2⟩ := ih m q c d w2 hm
      exact ⟨hq, a' + c', b' + d', z_ps C m, a', b', c', d', g1, g2, rfl, rfl⟩
  intro hp
  obtain ⟨hq, pr', z', g⟩ := key _ _ _ _ _ h2 hp
  exact ⟨hq, pr', z' + 1, z_D_mk h1 g⟩
/-! the bounds -/
def z_f2 (l : Nat) : Nat := 2 * (l / 5) + (l % 5 + 4) / 5
theorem z_tk_f2 {C : Cf} (ok : z_ok C) {t p q v : Nat} (h : z_tk C t p q v) : z_f2 p ≤ z_f2 q ∧ (z_f2 p = z_f2 q → p = q) := by
  obtain ⟨k, i, fl, pr, fo, h1, h2, h3⟩ := h
  have hup := z_up_main h2
  have o := ok.1
  unfold z_f2
  rcases h1 with h1 | h1 | h1 | h1 | h1 | h1 | h1 | h1
  · omega
  · omega
  · omega
  · omega
  · obtain ⟨-, g2, ⟨f, g3, g4, g5, g6⟩, g7, -, -⟩ := h1
    omega
  · omega
  · omega
  · omega
theorem z_D_q {C : Cf} (ok : z_ok C) {x p q pr sz : Nat} (w : z_D C (z_tk C) x p q pr sz) : q = p ∨ q ≤ 5 * C.1 34 := by
  refine z_D_ind (P := fun x p q _ _ => q = p ∨ q ≤ 5 * C.1 34) (fun p q pr z r h1 h2 => ?_) w
  have key : ∀ (ys : List Nat) p q pr z, z_sq (z_tk C) (fun x p q pr sz => z_D C (z_tk C) x p q pr sz ∧ (q = p ∨ q ≤ 5 * C.1 34)) ys p q pr z → q = p ∨ q ≤ 5 * C.1 34 := by
    intro ys
    induction ys with
    | nil => intro p q pr z w; exact Or.inl w.1.symm
    | cons y ys ih =>
      intro p q pr z w
      obtain ⟨m, a, b, c, d, w1, w2, -, -⟩ := w
      have g := ih m q c d w2
      rcases w1 with ⟨e, w1, -⟩ | ⟨e, -, w1⟩
      · have := (z_tk_bd ok w1).2.1
        omega
      · omega
  exact key _ _ _ _ _ h2
theorem z_Mb_sz {C : Cf} (ok : z_ok C) {B x p q pr sz : Nat} (h : z_Mb C (z_tk C) B x p q pr sz) : sz ≤ 2398411 := by
  have o := ok.1
  have hq := z_D_q ok h.1
  have := z_size (φ := z_f2) (c := 0) (e0 := 0) (A := 3281) (M := 22) ok (fun t p q v h => z_tk_f2 ok h) (fun t p v _ => by omega) (by decide) (fun t p q v _ => by omega) h (by unfold z_f2; omega) (by decide)
  omega
theorem z_uniq {B1 B2 p1 s1 p2 s2 : Nat} (h1 : p1 * B1 + s1 ≤ p2 * B1 + s2) (h2 : p2 * B2 + s2 ≤ p1 * B2 + s1) (a1 : s2 < B1) (a2 : s1 < B2) : p1 = p2 ∧ s1 = s2 := by
  have e : p1 = p2 := by
    rcases Nat.lt_trichotomy p1 p2 with z | z | z
    · have := Nat.mul_le_mul_right B2 (Nat.succ_le_of_lt z)
      rw [Nat.succ_mul] at this
      omega
    · exact z
    · have := Nat.mul_le_mul_right B1 (Nat.succ_le_of_lt z)
      rw [Nat.succ_mul] at this
      omega
  subst e
  exact ⟨rfl, by omega⟩
theorem z_Mb_bri {C : Cf} (ok : z_ok C) {B1 B2 x p q p1 s1 p2 s2 : Nat} (h1 : z_Mb C (z_tk C) B1 x p q p1 s1) (h2 : z_Mb C (z_tk C) B2 x p q p2 s2) (a1 : 2398411 < B1) (a2 : 2398411 < B2) : p1 = p2 ∧ s1 = s2 := by
  have g1 := z_Mb_sz ok h1
  have g2 := z_Mb_sz ok h2
  exact z_uniq (h1.2 _ _ h2.1) (h2.2 _ _ h1.1) (by omega) (by omega)
theorem z_Ms_sz {C : Cf} (ok : z_ok C) {B : Nat} : ∀ {ys : List Nat} {p q pr sz : Nat}, z_Ms C (z_tk C) B ys p q pr sz → sz ≤ ys.length * 2398411 := by
  intro ys
  induction ys with
  | nil => intro p q pr sz h; obtain ⟨⟨-, -, rfl⟩, -⟩ := h; omega
  | cons y ys ih =>
    intro p q pr sz h
    obtain ⟨k, a, b, c, d, w1, w2, rfl, rfl⟩ := z_Ms_cons h
    have := ih w2
    have : b ≤ 2398411 := by
      rcases z_My_nm w1 with w | w
      · omega
      · exact z_Mb_sz ok w.2
    rw [List.length_cons, Nat.succ_mul]
    omega
theorem z_Ms_bri {C : Cf} (ok : z_ok C) {B1 B2 p q p1 s1 p2 s2 : Nat} {ys : List Nat} (hy : ys.length ≤ 3) (h1 : z_Ms C (z_tk C) B1 ys p q p1 s1) (h2 : z_Ms C (z_tk C) B2 ys p q p2 s2) (a1 : 3 * 2398411 < B1) (a2 : 3 * 2398411 < B2) : p1 = p2 ∧ s1 = s2 := by
  have g1 := z_Ms_sz ok h1
  have g2 := z_Ms_sz ok h2
  have := Nat.mul_le_mul_right 2398411 hy
  exact z_uniq (h1.2 _ _ h2.1) (h2.2 _ _ h1.1) (by omega) (by omega)
theorem z_price {C : Cf} (ok : z_ok C) {B x i j pr sz : Nat} (hB : 1 ≤ B) (h : z_Mb C (z_tk C) B x (5 * i) (5 * j) pr sz) : pr ≤ 235399017 := by
  obtain ⟨-, a, b, w⟩ := z_D_main ok h.1 (Or.inl (by omega))
  rw [z_ps_m (by omega), z_ps_m (by omega)] at w
  obtain ⟨p', s', w⟩ := z_Mb_ex B w
  have o := ok.1
  have hq := z_D_q ok h.1
  have b1 := z_size (φ := fun l => l / 5) (c := 1) (e0 := 100) (A := 659381) (M := 11) ok (fun t p q v h => by
    have := (z_tk_bd ok h.1).1
    have := h.2
    omega) (fun t p v h => by have := (z_tk_bd ok h.1).2.2.2.2 rfl; omega) (by decide) (fun t p q v h => by have := (z_tk_bd ok h.1).2.2.1; omega) w (by omega) (by decide)
  have := h.2 _ _ (z_D_lf (fun _ _ _ _ h => h.1) w.1)
  rcases Nat.lt_or_ge 235399017 pr with z | z
  · have h1 : p' + s' + 1 ≤ pr := by omega
    have h2 := Nat.mul_le_mul_right B h1
    rw [Nat.add_mul, Nat.add_mul] at h2
    have h3 := Nat.mul_le_mul_left s' hB
    omega
  · exact z
