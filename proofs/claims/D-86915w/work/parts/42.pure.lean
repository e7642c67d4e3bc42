/-! PLAIN LAW, the mathematics: configuration, skips, steps, derivations -/
set_option maxRecDepth 100000
/-- the configuration: ints and int arrays of the twin's fields, as naturals -/
abbrev Cf : Type := (Nat → Nat) × (Nat → Nat → Nat)
noncomputable def z_lst (P : Nat → Prop) (d : Nat) : Nat := @dite _ (∃ k, P k) (Classical.propDecidable _) (fun h => Classical.choose (pk_least P h)) (fun _ => d)
theorem z_lst_at {P : Nat → Prop} {d : Nat} (h : ∃ k, P k) : P (z_lst P d) ∧ ∀ j, j < z_lst P d → ¬ P j := by
  unfold z_lst
  rw [dif_pos h]
  exact Classical.choose_spec (pk_least P h)
theorem z_lst_no {P : Nat → Prop} {d : Nat} (h : ¬ ∃ k, P k) : z_lst P d = d := by
  unfold z_lst
  rw [dif_neg h]
theorem z_lst_eq {P : Nat → Prop} {d k : Nat} (h : P k) (hj : ∀ j, j < k → ¬ P j) : z_lst P d = k := by
  obtain ⟨h1, h2⟩ := z_lst_at (d := d) ⟨k, h⟩
  rcases Nat.lt_trichotomy (z_lst P d) k with z | z | z
  · exact absurd h1 (hj _ z)
  · exact z
  · exact absurd h (h2 _ z)
/-- the least of b and f 0 .. f (n - 1) -/
def z_mn (f : Nat → Nat) (b : Nat) : Nat → Nat
  | 0 => b
  | n + 1 => min (z_mn f b n) (f n)
theorem z_mn_b (f : Nat → Nat) (b n : Nat) : z_mn f b n ≤ b := by
  induction n with
  | zero => exact Nat.le_refl _
  | succ n ih => unfold z_mn; omega
theorem z_mn_le {f : Nat → Nat} {b n k : Nat} (h : k < n) : z_mn f b n ≤ f k := by
  induction n with
  | zero => omega
  | succ n ih =>
    unfold z_mn
    by_cases e : k = n
    · subst e; omega
    · have := ih (by omega); omega
theorem z_mn_at (f : Nat → Nat) (b n : Nat) : z_mn f b n = b ∨ ∃ k, k < n ∧ z_mn f b n = f k := by
  induction n with
  | zero => exact Or.inl rfl
  | succ n ih =>
    unfold z_mn
    rcases Nat.le_total (z_mn f b n) (f n) with h | h
    · rw [Nat.min_eq_left h]
      rcases ih with e | ⟨k, hk, e⟩
      · exact Or.inl e
      · exact Or.inr ⟨k, by omega, e⟩
    · rw [Nat.min_eq_right h]
      exact Or.inr ⟨n, by omega, rfl⟩
theorem z_mn_ge {f : Nat → Nat} {b n v : Nat} (h0 : v ≤ b) (h : ∀ k, k < n → v ≤ f k) : v ≤ z_mn f b n := by
  rcases z_mn_at f b n with e | ⟨k, hk, e⟩
  · rw [e]; exact h0
  · rw [e]; exact h k hk
theorem z_mn_congr {f g : Nat → Nat} {b n : Nat} (h : ∀ k, k < n → f k = g k) : z_mn f b n = z_mn g b n := by
  induction n with
  | zero => rfl
  | succ n ih => unfold z_mn; rw [ih (fun k hk => h k (by omega)), h n (by omega)]
theorem z_mn_mono {f g : Nat → Nat} {b n : Nat} (h : ∀ k, k < n → f k ≤ g k) : z_mn f b n ≤ z_mn g b n :=
  z_mn_ge (z_mn_b f b n) (fun k hk => Nat.le_trans (z_mn_le hk) (h k hk))
/-! which slips may be -/
def z_fen (C : Cf) (t : Nat) : Bool := !(C.1 13 == 0) && !(C.2 1 t == 0)
def z_pl (C : Cf) : Bool := C.1 33 == 2 || C.1 33 == 4
def z_rg (C : Cf) (a b : Nat) : Bool := !(C.1 33 == 1) || (Nat.ble (C.1 18) a && Nat.ble b (C.1 19))
def z_out (C : Cf) (k i w : Nat) : Bool := k == C.1 35 && (i == C.1 36 && w == C.1 37)
def z_may (C : Cf) (k i m w : Nat) : Bool := (!z_pl C && !z_out C k i w) && ((List.range m).all (fun d => !z_fen C (C.2 15 (i + d))) && z_rg C i (i + m))
/-- the price of skipping m places from i -/
def z_sp (C : Cf) (i m : Nat) : Nat := if z_may C (if m = 1 then 6 else 7) i m (if m = 1 then 0 else m) = true then (if m = 1 then C.2 2 (12 + C.2 15 i) else C.1 4 + m) else 1000000000
def z_kf (C : Cf) (j : Nat) : Nat → Nat → Nat
  | 0, i => if i = j then 0 else 1000000000
  | f + 1, i => if j ≤ i then (if i = j then 0 else 1000000000) else z_mn (fun m => min 1000000000 (z_sp C i (m + 1) + z_kf C j f (i + (m + 1)))) 1000000000 (j - i)
/-- the least price of skipping from i to j -/
def z_k (C : Cf) (i j : Nat) : Nat := z_kf C j j i
theorem z_kf_fu (C : Cf) (j : Nat) : ∀ f g i : Nat, j - i ≤ f → j - i ≤ g → z_kf C j f i = z_kf C j g i := by
  intro f
  induction f with
  | zero =>
    intro g i h1 h2
    cases g with
    | zero => rfl
    | succ g => simp only [z_kf]; rw [if_pos (show j ≤ i by omega)]
  | succ f ih =>
    intro g i h1 h2
    cases g with
    | zero => simp only [z_kf]; rw [if_pos (show j ≤ i by omega)]
    | succ g =>
      unfold z_kf
      by_cases e : j ≤ i
      · rw [if_pos e, if_pos e]
      · rw [if_neg e, if_neg e]
        exact z_mn_congr (fun m hm => by rw [ih g (i + (m + 1)) (by omega) (by omega)])
theorem z_k_self (C : Cf) (j : Nat) : z_k C j j = 0 := by
  unfold z_k
  cases j with
  | zero => simp [z_kf]
  | succ j => unfold z_kf; simp
theorem z_k_eq (C : Cf) {i j : Nat} (h : i < j) : z_k C i j = z_mn (fun m => min 1000000000 (z_sp C i (m + 1) + z_k C (i + (m + 1)) j)) 1000000000 (j - i) := by
  unfold z_k
  cases j with
  | zero => omega
  | succ j =>
    conv => lhs; unfold z_kf
    rw [if_neg (by omega)]
    exact z_mn_congr (fun m hm => by rw [z_kf_fu C (j + 1) j (j + 1) (i + (m + 1)) (by omega) (by omega)])
theorem z_k_le (C : Cf) {i j : Nat} (h : i ≤ j) : z_k C i j ≤ 1000000000 := by
  by_cases e : i = j
  · subst e; rw [z_k_self]; decide
  · rw [z_k_eq C (by omega)]; exact z_mn_b _ _ _
theorem z_k_one (C : Cf) {i j m : Nat} (h1 : 1 ≤ m) (h : i + m ≤ j) : z_k C i j ≤ z_sp C i m + z_k C (i + m) j := by
  have := z_mn_le (f := fun m => min 1000000000 (z_sp C i (m + 1) + z_k C (i + (m + 1)) j)) (b := 1000000000) (n := j - i) (k := m - 1) (by omega)
  rw [← z_k_eq C (by omega)] at this
  rw [show m - 1 + 1 = m by omega] at this
  omega
/-! the configuration is right -/
def z_ok (C : Cf) : Prop := (C.1 0 ≤ 12 ∧ C.1 5 ≤ 8 ∧ C.1 7 ≤ 24 ∧ C.1 34 ≤ 11 ∧ C.1 33 ≤ 4 ∧ C.2 11 0 ≤ 3 ∧ C.2 11 1 ≤ 3 ∧ (z_pl C = false → C.1 34 ≤ 10)) ∧
  (∀ w t, w < 3 → t < C.1 0 → 1 ≤ C.2 2 (12 * w + t) ∧ C.2 2 (12 * w + t) ≤ 100) ∧ (1 ≤ C.1 3 ∧ C.1 3 ≤ 100 ∧ 1 ≤ C.1 4 ∧ C.1 4 ≤ 100) ∧
  (∀ i, i < C.1 34 → C.2 15 i < C.1 0) ∧
  (∀ r, r < C.1 7 → C.2 8 r < C.1 5 ∧ C.2 9 r ≤ 3 ∧ ∀ j, j < C.2 9 r → C.2 10 (3 * r + j) < C.1 0 ∨ (100 ≤ C.2 10 (3 * r + j) ∧ C.2 10 (3 * r + j) < 100 + C.1 5)) ∧
  (∀ w f, w < 2 → f < C.2 11 w → (∀ j, j < 3 → C.2 12 (12 * w + 4 * f + j) < C.1 0) ∧ 1 ≤ C.2 12 (12 * w + 4 * f + 3) ∧ C.2 12 (12 * w + 4 * f + 3) ≤ 100)
theorem z_sp_bd {C : Cf} (ok : z_ok C) {i m : Nat} (hi : i < C.1 34) (hm : m ≤ 11) : z_sp C i m = 1000000000 ∨ (1 ≤ z_sp C i m ∧ z_sp C i m ≤ 111) := by
  unfold z_sp
  by_cases h : z_may C (if m = 1 then 6 else 7) i m (if m = 1 then 0 else m) = true
  · rw [if_pos h]
    refine Or.inr ?_
    by_cases e : m = 1
    · rw [if_pos e]
      have := ok.2.1 1 (C.2 15 i) (by decide) (ok.2.2.2.1 i hi)
      rw [show 12 * 1 + C.2 15 i = 12 + C.2 15 i by omega] at this
      omega
    · rw [if_neg e]
      have := ok.2.2.1
      omega
  · rw [if_neg h]; exact Or.inl rfl
theorem z_k_bd {C : Cf} (ok : z_ok C) : ∀ d i j : Nat, j - i ≤ d → i ≤ j → j ≤ C.1 34 → z_k C i j = 1000000000 ∨ z_k C i j ≤ 111 * (j - i) := by
  intro d
  induction d with
  | zero =>
    intro i j h1 h2 h3
    have : i = j := by omega
    subst this
    rw [z_k_self]; omega
  | succ d ih =>
    intro i j h1 h2 h3
    by_cases e : i = j
    · subst e; rw [z_k_self]; omega
    rw [z_k_eq C (by omega)]
    rcases z_mn_at (fun m => min 1000000000 (z_sp C i (m + 1) + z_k C (i + (m + 1)) j)) 1000000000 (j - i) with h | ⟨k, hk, h⟩
    · exact Or.inl h
    · rw [h]
      have a := z_sp_bd ok (i := i) (m := k + 1) (by omega) (by have := ok.1; omega)
      have b := ih (i + (k + 1)) j (by omega) (by omega) h3
      have e1 : 111 * (j - i) = 111 * (j - (i + (k + 1))) + 111 * (k + 1) := by omega
      rcases a with a | a
      · exact Or.inl (by omega)
      · rcases b with b | b
        · exact Or.inl (by omega)
        · exact Or.inr (by omega)
theorem z_k_bd2 {C : Cf} (ok : z_ok C) {i j : Nat} (h2 : i ≤ j) (h3 : j ≤ C.1 34) : z_k C i j = 1000000000 ∨ z_k C i j ≤ 1221 := by
  have := z_k_bd ok (j - i) i j (Nat.le_refl _) h2 h3
  have := ok.1
  omega
/-! steps -/
def z_lp (C : Cf) (i t : Nat) : Nat := if i = C.1 34 ∧ 1 < C.1 33 then (if C.1 33 = 2 then 1 else 0) else if (!z_pl C && !z_fen C t && (z_rg C i i && !z_out C 1 i t)) = true then C.2 2 t else 1000000000
/-- a step: its kind, place, from and to, the token, the price, the form -/
def z_st (C : Cf) (k i fl tl t pr fo : Nat) : Prop :=
  (k = 1 ∧ i ≤ C.1 34 ∧ fl = 5 * i ∧ tl = 5 * i ∧ t < C.1 0 ∧ fo = 0 ∧ z_lp C i t = pr ∧ pr ≠ 1000000000) ∨
  (k = 0 ∧ i < C.1 34 ∧ fl = 5 * i ∧ tl = 5 * i + 5 ∧ t = C.2 15 i ∧ fo = 0 ∧ pr = 0) ∨
  (k = 2 ∧ i < C.1 34 ∧ fl = 5 * i ∧ tl = 5 * i + 5 ∧ t ≠ C.2 15 i ∧ t < C.1 0 ∧ fo = 0 ∧ z_fen C t = false ∧ z_may C 2 i 1 t = true ∧ pr = C.2 2 (24 + C.2 15 i)) ∨
  (k = 4 ∧ i < C.1 34 ∧ fo < C.2 11 0 ∧ C.2 12 (4 * fo + 2) = C.2 15 i ∧ fl = 5 * i ∧ tl = 5 * i + 2 + fo ∧ t = C.2 12 (4 * fo) ∧ z_fen C (C.2 12 (4 * fo)) = false ∧ z_fen C (C.2 12 (4 * fo + 1)) = false ∧ z_may C 4 i 1 fo = true ∧ pr = C.2 12 (4 * fo + 3)) ∨
  (k = 0 ∧ i < C.1 34 ∧ (∃ f, f < C.2 11 0 ∧ C.2 12 (4 * f + 2) = C.2 15 i ∧ fl = 5 * i + 2 + f ∧ t = C.2 12 (4 * f + 1)) ∧ tl = 5 * i + 5 ∧ fo = 0 ∧ pr = 0) ∨
  (k = 3 ∧ i + 1 < C.1 34 ∧ C.2 15 (i + 1) ≠ C.2 15 i ∧ fl = 5 * i ∧ tl = 5 * i + 1 ∧ t = C.2 15 (i + 1) ∧ fo = 0 ∧ z_may C 3 i 2 0 = true ∧ pr = C.1 3) ∨
  (k = 0 ∧ i + 1 < C.1 34 ∧ C.2 15 (i + 1) ≠ C.2 15 i ∧ fl = 5 * i + 1 ∧ tl = 5 * i + 10 ∧ t = C.2 15 i ∧ fo = 0 ∧ pr = 0) ∨
  (k = 5 ∧ i + 1 < C.1 34 ∧ fo < C.2 11 1 ∧ C.2 12 (12 + 4 * fo) = C.2 15 i ∧ C.2 12 (12 + 4 * fo + 1) = C.2 15 (i + 1) ∧ fl = 5 * i ∧ tl = 5 * i + 10 ∧ t = C.2 12 (12 + 4 * fo + 2) ∧ z_fen C (C.2 12 (12 + 4 * fo + 2)) = false ∧ z_may C 5 i 2 fo = true ∧ pr = C.2 12 (12 + 4 * fo + 3))
/-- the price of coming from p to where a step begins -/
def z_up (C : Cf) (p fl : Nat) : Nat := if p = fl then 0 else if p % 5 = 0 ∧ fl % 5 = 0 ∧ p < fl then z_k C (p / 5) (fl / 5) else 1000000000
/-- token t is read from p to q at the price v -/
def z_tk (C : Cf) (t p q v : Nat) : Prop := ∃ k i fl pr fo, z_st C k i fl q t pr fo ∧ z_up C p fl ≠ 1000000000 ∧ v = z_up C p fl + pr
/-- its least price -/
noncomputable def z_R (C : Cf) (t p q : Nat) : Nat := z_lst (z_tk C t p q) 1000000000
theorem z_st_pl {C : Cf} {k i fl tl t pr fo : Nat} (ok : z_ok C) (h : z_st C k i fl tl t pr fo) : i ≤ C.1 34 ∧ fl / 5 = i ∧ fl ≤ tl ∧ tl ≤ 5 * C.1 34 ∧ (fl = tl → fl % 5 = 0 ∧ k = 1) ∧ pr ≤ 100 ∧ k ≤ 5 ∧ t < C.1 0 ∧ fo < 3 := by
  have o1 := ok.1
  have o2 := ok.2.1
  have o3 := ok.2.2.1
  have o4 := ok.2.2.2.1
  have o5 := ok.2.2.2.2.2
  rcases h with h | h | h | h | h | h | h | h
  · obtain ⟨h1, h2, h3, h4, h5, h6, h7, h8⟩ := h
    have : pr ≤ 100 := by
      rw [← h7] at h8 ⊢
      unfold z_lp at h8 ⊢
      by_cases e : i = C.1 34 ∧ 1 < C.1 33
      · rw [if_pos e]
        by_cases e2 : C.1 33 = 2
        · rw [if_pos e2]; omega
        · rw [if_neg e2]; omega
      · rw [if_neg e] at h8 ⊢
        by_cases e3 : (!z_pl C && !z_fen C t && (z_rg C i i && !z_out C 1 i t)) = true
        · rw [if_pos e3]
          have := o2 0 t (by decide) h5
          rw [show 12 * 0 + t = t by omega] at this
          exact this.2
        · rw [if_neg e3] at h8; exact absurd rfl h8
    omega
  · obtain ⟨h1, h2, h3, h4, h5, h6, h7⟩ := h
    have := o4 i h2
    omega
  · obtain ⟨h1, h2, h3, h4, h5, h6, h7, h8, h9, h10⟩ := h
    have := o2 2 (C.2 15 i) (by decide) (o4 i h2)
    rw [show 12 * 2 + C.2 15 i = 24 + C.2 15 i by omega] at this
    omega
  · obtain ⟨h1, h2, h3, h4, h5, h6, h7, h8, h9, h10, h11⟩ := h
    have := o5 0 fo (by decide) h3
    have a := this.1 0 (by decide)
    rw [show 12 * 0 + 4 * fo + 0 = 4 * fo by omega] at a
    rw [show 12 * 0 + 4 * fo + 3 = 4 * fo + 3 by omega] at this
    omega
  · obtain ⟨h1, h2, ⟨f, h3, h4, h5, h6⟩, h7, h8, h9⟩ := h
    have := (o5 0 f (by decide) h3).1 1 (by decide)
    rw [show 12 * 0 + 4 * f + 1 = 4 * f + 1 by omega] at this
    omega
  · obtain ⟨h1, h2, h3, h4, h5, h6, h7, h8, h9⟩ := h
    have := o4 (i + 1) h2
    omega
  · obtain ⟨h1, h2, h3, h4, h5, h6, h7, h8⟩ := h
    have := o4 i (by omega)
    omega
  · obtain ⟨h1, h2, h3, h4, h5, h6, h7, h8, h9, h10, h11⟩ := h
    have := o5 1 fo (by decide) h3
    have a := this.1 2 (by decide)
    rw [show 12 * 1 + 4 * fo + 2 = 12 + 4 * fo + 2 by omega] at a
    rw [show 12 * 1 + 4 * fo + 3 = 12 + 4 * fo + 3 by omega] at this
    omega
theorem z_up_bd {C : Cf} (ok : z_ok C) {p fl : Nat} (h : fl ≤ 5 * C.1 34) : z_up C p fl = 1000000000 ∨ (z_up C p fl ≤ 1221 ∧ p ≤ fl) := by
  unfold z_up
  by_cases e : p = fl
  · rw [if_pos e]; omega
  · rw [if_neg e]
    by_cases e2 : p % 5 = 0 ∧ fl % 5 = 0 ∧ p < fl
    · rw [if_pos e2]
      have := z_k_bd2 ok (i := p / 5) (j := fl / 5) (by omega) (by omega)
      omega
    · rw [if_neg e2]; exact Or.inl rfl
theorem z_tk_bd {C : Cf} (ok : z_ok C) {t p q v : Nat} (h : z_tk C t p q v) : p ≤ q ∧ q ≤ 5 * C.1 34 ∧ v ≤ 1321 ∧ t < C.1 0 ∧ (p = q → v ≤ 100 ∧ p % 5 = 0) := by
  obtain ⟨k, i, fl, pr, fo, h1, h2, h3⟩ := h
  have a := z_st_pl ok h1
  have b := z_up_bd ok (p := p) (fl := fl) (by omega)
  refine ⟨by omega, by omega, by omega, by omega, fun e => ?_⟩
  have e1 : p = fl := by omega
  have : z_up C p fl = 0 := by unfold z_up; rw [if_pos e1]
  omega
theorem z_R_at {C : Cf} {t p q : Nat} (h : z_R C t p q ≠ 1000000000) : z_tk C t p q (z_R C t p q) := by
  by_cases e : ∃ v, z_tk C t p q v
  · exact (z_lst_at e).1
  · exact absurd (z_lst_no e) h
theorem z_R_le {C : Cf} {t p q v : Nat} (h : z_tk C t p q v) : z_R C t p q ≤ v := by
  rcases Nat.lt_or_ge v (z_R C t p q) with z | z
  · exact absurd h ((z_lst_at (d := 1000000000) ⟨v, h⟩).2 v z)
  · exact z
theorem z_R_bd {C : Cf} (ok : z_ok C) {t p q : Nat} : z_R C t p q = 1000000000 ∨ z_R C t p q ≤ 1321 := by
  by_cases e : z_R C t p q = 1000000000
  · exact Or.inl e
  · exact Or.inr (z_tk_bd ok (z_R_at e)).2.2.1
