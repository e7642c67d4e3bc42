/-! PLAIN LAW, the mathematics: how large a least tree can be -/
set_option maxRecDepth 100000
def z_ct (f : Nat → Nat) (v : Nat) : Nat → Nat
  | 0 => 0
  | n + 1 => z_ct f v n + (if f n < v then 1 else 0)
theorem z_ct_mono {f : Nat → Nat} {v w : Nat} (h : v ≤ w) : ∀ n : Nat, z_ct f v n ≤ z_ct f w n := by
  intro n
  induction n with
  | zero => exact Nat.le_refl _
  | succ n ih =>
    unfold z_ct
    by_cases e : f n < v
    · rw [if_pos e, if_pos (by omega)]; omega
    · rw [if_neg e]; omega
theorem z_ct_lt {f : Nat → Nat} {w y : Nat} (h : f y < w) : ∀ n : Nat, y < n → z_ct f (f y) n < z_ct f w n := by
  intro n
  induction n with
  | zero => intro h; omega
  | succ n ih =>
    intro hy
    unfold z_ct
    by_cases e : y = n
    · subst e
      rw [if_neg (by omega), if_pos h]
      have := z_ct_mono (f := f) (Nat.le_of_lt h) y
      omega
    · have := ih (by omega)
      by_cases e2 : f n < f y
      · rw [if_pos e2, if_pos (by omega)]; omega
      · rw [if_neg e2]; omega
theorem z_ct_le (f : Nat → Nat) (v : Nat) : ∀ n : Nat, z_ct f v n ≤ n := by
  intro n
  induction n with
  | zero => exact Nat.le_refl _
  | succ n ih =>
    unfold z_ct
    by_cases e : f n < v
    · rw [if_pos e]; omega
    · rw [if_neg e]; omega
theorem z_ct_n {f : Nat → Nat} {x : Nat} : ∀ n : Nat, x < n → z_ct f (f x) n < n := by
  intro n
  induction n with
  | zero => intro h; omega
  | succ n ih =>
    intro hx
    unfold z_ct
    by_cases e : x = n
    · subst e
      rw [if_neg (by omega)]
      have := z_ct_le f (f x) x
      omega
    · have := ih (by omega)
      by_cases e2 : f n < f x
      · rw [if_pos e2]; omega
      · rw [if_neg e2]; omega
/-- the least value -/
noncomputable def z_V (C : Cf) (lf : zL) (B x p q : Nat) : Nat := z_lst (fun v => ∃ pr sz, z_D C lf x p q pr sz ∧ v = pr * B + sz) 0
theorem z_V_eq {C : Cf} {lf : zL} {B x p q pr sz : Nat} (h : z_Mb C lf B x p q pr sz) : z_V C lf B x p q = pr * B + sz := by
  refine z_lst_eq ⟨pr, sz, h.1, rfl⟩ ?_
  rintro j hj ⟨a, b, h1, h2⟩
  have := h.2 a b h1
  omega
/-- the rank of a name among those of a stretch -/
noncomputable def z_rk (C : Cf) (lf : zL) (B x p q : Nat) : Nat := z_ct (fun y => z_V C lf B y p q) (z_V C lf B x p q) 8
def z_a (e0 : Nat) : Nat → Nat
  | 0 => 3 * e0 + 1
  | k + 1 => 3 * z_a e0 k + 1
theorem z_a_e (e0 k : Nat) : e0 ≤ z_a e0 k := by
  induction k with
  | zero => unfold z_a; omega
  | succ k ih => unfold z_a; omega
theorem z_a_mono (e0 : Nat) {k l : Nat} (h : k ≤ l) : z_a e0 k ≤ z_a e0 l := by
  induction h with
  | refl => exact Nat.le_refl _
  | step _ ih => exact Nat.le_trans ih (by show _ ≤ 3 * z_a e0 _ + 1; omega)
section RANK
variable {C : Cf} {lf : zL} {B c e0 : Nat} {φ : Nat → Nat}
theorem z_My_nm {y l m a b : Nat} (h : z_My C lf B y l m a b) : (y < 100 ∧ lf y l m a ∧ b = 0) ∨ (100 ≤ y ∧ z_Mb C lf B (y - 100) l m a b) := by
  obtain ⟨h1, h2⟩ := h
  rcases h1 with h1 | ⟨h1, h3⟩
  · exact Or.inl h1
  · exact Or.inr ⟨h1, h3, fun a' b' w => h2 a' b' (Or.inr ⟨h1, w⟩)⟩
theorem z_rk_lt {x y p q a b pr sz : Nat} (ok : z_ok C) (h : z_Mb C lf B y p q a b) (g : z_Mb C lf B x p q pr sz) (hv : a * B + b < pr * B + sz) : z_rk C lf B y p q < z_rk C lf B x p q := by
  have o := ok.1
  have n1 := (z_D_nm ok h.1).1
  refine z_ct_lt (f := fun y => z_V C lf B y p q) (y := y) ?_ 8 (by omega)
  show z_V C lf B y p q < z_V C lf B x p q
  rw [z_V_eq h, z_V_eq g]
  exact hv
theorem z_rk_7 {x p q pr sz : Nat} (ok : z_ok C) (h : z_Mb C lf B x p q pr sz) : z_rk C lf B x p q ≤ 7 := by
  have o := ok.1
  have n1 := (z_D_nm ok h.1).1
  have := z_ct_n (f := fun y => z_V C lf B y p q) (x := x) 8 (by omega)
  unfold z_rk
  omega
theorem z_sq_oe {E : zE} (hl1 : ∀ t p q v, lf t p q v → φ p ≤ φ q ∧ (φ p = φ q → p = q)) (hE : ∀ x p q pr sz, E x p q pr sz → φ p ≤ φ q ∧ (φ p = φ q → p = q)) : ∀ {ys : List Nat} {p q pr sz : Nat}, z_sq lf E ys p q pr sz → φ p ≤ φ q ∧ (φ p = φ q → p = q) := by
  intro ys
  induction ys with
  | nil => intro p q pr sz w; rw [w.1]; exact ⟨Nat.le_refl _, fun _ => rfl⟩
  | cons y ys ih =>
    intro p q pr sz w
    obtain ⟨m, a, b, c, d, w1, w2, w3⟩ := w
    have g := ih w2
    have f : φ p ≤ φ m ∧ (φ p = φ m → p = m) := by
      rcases w1 with w1 | w1
      · exact hl1 _ _ _ _ w1.2.1
      · exact hE _ _ _ _ _ w1.2
    exact ⟨by omega, fun e => (f.2 (by omega)).trans (g.2 (by omega))⟩
theorem z_D_oe (hl1 : ∀ t p q v, lf t p q v → φ p ≤ φ q ∧ (φ p = φ q → p = q)) {x p q pr sz : Nat} (w : z_D C lf x p q pr sz) : φ p ≤ φ q ∧ (φ p = φ q → p = q) := by
  refine z_D_ind (P := fun _ p q _ _ => φ p ≤ φ q ∧ (φ p = φ q → p = q)) (fun p q pr z r h1 h2 => ?_) w
  exact z_sq_oe hl1 (fun _ _ _ _ _ h => h.2) h2
theorem z_My_oe (hl1 : ∀ t p q v, lf t p q v → φ p ≤ φ q ∧ (φ p = φ q → p = q)) {y p q a b : Nat} (w : z_My C lf B y p q a b) : φ p ≤ φ q ∧ (φ p = φ q → p = q) := by
  rcases z_My_nm w with w1 | w1
  · exact hl1 _ _ _ _ w1.2.1
  · exact z_D_oe hl1 w1.2.1
theorem z_emp (ok : z_ok C) (hl1 : ∀ t p q v, lf t p q v → φ p ≤ φ q ∧ (φ p = φ q → p = q)) (hl2 : ∀ t p v, lf t p p v → c * v ≤ e0) : ∀ n x p pr sz, sz ≤ n → z_Mb C lf B x p p pr sz → c * pr + sz ≤ z_a e0 (z_rk C lf B x p p) := by
  intro n
  induction n with
  | zero =>
    intro x p pr sz h1 h2
    have := (z_D_nm ok h2.1).2
    omega
  | succ n ih =>
    intro x p pr sz h1 h2
    obtain ⟨r, z, g1, g2, g3, rfl⟩ := z_Mb_of h2
    obtain ⟨K, hK, hK0, hKn⟩ : ∃ K, 3 * K + 1 ≤ z_a e0 (z_rk C lf B x p p) ∧ e0 ≤ K ∧ ∀ k, k < z_rk C lf B x p p → z_a e0 k ≤ K := by
      cases e : z_rk C lf B x p p with
      | zero => exact ⟨e0, by unfold z_a; omega, Nat.le_refl _, fun k hk => by omega⟩
      | succ k => exact ⟨z_a e0 k, Nat.le_refl _, z_a_e e0 k, fun j hj => z_a_mono e0 (by omega)⟩
    have key : ∀ (ys : List Nat) a b, z_Ms C lf B ys p p a b → b ≤ n → a * B + b < pr * B + (z + 1) → c * a + b ≤ ys.length * K := by
      intro ys
      induction ys with
      | nil =>
        intro a b w _ _
        obtain ⟨⟨-, rfl, rfl⟩, -⟩ := w
        simp
      | cons y ys ihy =>
        intro a b w hb hv
        obtain ⟨k, a1, b1, a2, b2, w1, w2, rfl, rfl⟩ := z_Ms_cons w
        have o1 := z_My_oe hl1 w1
        have o2 := z_sq_oe hl1 (fun _ _ _ _ _ h => z_D_oe hl1 h) w2.1
        have ek : p = k := o1.2 (by omega)
        subst ek
        rw [Nat.add_mul] at hv
        have := ihy a2 b2 w2 (by omega) (by omega)
        have h5 : c * a1 + b1 ≤ K := by
          rcases z_My_nm w1 with ⟨_, w9, rfl⟩ | ⟨_, w9⟩
          · have := hl2 _ _ _ w9
            omega
          · have g := ih (y - 100) p a1 b1 (by omega) w9
            have := hKn _ (z_rk_lt ok w9 h2 (by omega))
            omega
        rw [List.length_cons, Nat.add_mul, Nat.mul_add]
        omega
    have := key (z_yl C r) pr z g3 (by omega) (by omega)
    have l3 := (z_yl_ok ok g1).1
    have := Nat.mul_le_mul_right K l3
    omega
theorem z_rank (ok : z_ok C) (hl1 : ∀ t p q v, lf t p q v → φ p ≤ φ q ∧ (φ p = φ q → p = q)) (hl2 : ∀ t p v, lf t p p v → c * v ≤ e0) {A : Nat} (hA : A = z_a e0 7 + 1) (hl3 : ∀ t p q v, lf t p q v → c * v ≤ A) :
    ∀ n x p q pr sz, sz ≤ n → z_Mb C lf B x p q pr sz → φ p < φ q → c * pr + sz + 34 * A ≤ 34 * (A * (φ q - φ p)) + (3 * A + 2 * (z_rk C lf B x p q * A)) := by
  intro n
  induction n with
  | zero =>
    intro x p q pr sz h1 h2 _
    have := (z_D_nm ok h2.1).2
    omega
  | succ n ih =>
    intro x p q pr sz h1 h2 h3
    obtain ⟨r, z, g1, g2, g3, rfl⟩ := z_Mb_of h2
    obtain ⟨L, hL⟩ : ∃ L, L = φ q - φ p := ⟨_, rfl⟩
    rw [← hL]
    obtain ⟨X, hX⟩ : ∃ X, X = A * L := ⟨_, rfl⟩
    obtain ⟨R, hR⟩ : ∃ R, R = z_rk C lf B x p q * A := ⟨_, rfl⟩
    rw [← hX, ← hR]
    have part : ∀ y k k' a b, z_My C lf B y k k' a b → b ≤ n → a * B + b < pr * B + (z + 1) → φ p ≤ φ k ∧ (φ p = φ k → p = k) → φ k' ≤ φ q ∧ (φ k' = φ q → k' = q) → ∃ l X', φ k' = φ k + l ∧ X' = A * l ∧ ((l = 0 ∧ c * a + b + 1 ≤ A) ∨ (l = L ∧ 0 < l ∧ c * a + b + 34 * A ≤ 34 * X + (A + 2 * R)) ∨ (0 < l ∧ l < L ∧ c * a + b + 17 * A ≤ 34 * X')) := by
      intro y k k' a b w hb hv hp hq
      have o1 := z_My_oe hl1 w
      obtain ⟨l, hl⟩ : ∃ l, φ k' = φ k + l := ⟨φ k' - φ k, by omega⟩
      refine ⟨l, A * l, hl, rfl, ?_⟩
      have hlL : l ≤ L := by omega
      have hA1 : 0 < l → A ≤ A * l := fun h => by
        have := Nat.mul_le_mul_left A h
        omega
      by_cases e0' : l = 0
      · left
        refine ⟨e0', ?_⟩
        have ek := o1.2 (by omega)
        subst ek
        rcases z_My_nm w with ⟨_, w1, hb0⟩ | ⟨_, w1⟩
        · have := hl2 _ _ _ w1
          have := z_a_e e0 7
          omega
        · have := z_emp (c := c) (e0 := e0) ok hl1 hl2 b (y - 100) k a b (Nat.le_refl _) w1
          have := z_a_mono e0 (z_rk_7 ok w1)
          omega
      · right
        by_cases eL : l = L
        · left
          refine ⟨eL, by omega, ?_⟩
          rw [hX, ← eL]
          have := hA1 (by omega)
          have ep := hp.2 (by omega)
          have eq := hq.2 (by omega)
          subst ep
          subst eq
          rcases z_My_nm w with ⟨_, w1, hb0⟩ | ⟨_, w1⟩
          · have := hl3 _ _ _ _ w1
            omega
          · have g := ih (y - 100) p k' a b hb w1 (by omega)
            have rl := z_rk_lt ok w1 h2 hv
            have r7 := Nat.mul_le_mul_right A (Nat.succ_le_of_lt rl)
            rw [Nat.succ_mul] at r7
            rw [show φ k' - φ p = l by omega] at g
            omega
        · right
          refine ⟨by omega, by omega, ?_⟩
          have := hA1 (by omega)
          rcases z_My_nm w with ⟨_, w1, hb0⟩ | ⟨_, w1⟩
          · have := hl3 _ _ _ _ w1
            omega
          · have g := ih (y - 100) k k' a b hb w1 (by omega)
            have r7 := Nat.mul_le_mul_right A (z_rk_7 ok w1)
            rw [show φ k' - φ k = l by omega] at g
            omega
    have l3 := (z_yl_ok ok g1).1
    have A1 : 1 ≤ A := by omega
    have add : ∀ l1 l2, A * (l1 + l2) = A * l1 + A * l2 := fun l1 l2 => Nat.mul_add _ _ _
    cases hys : z_yl C r with
    | nil =>
      rw [hys] at g3
      have := g3.1.1
      subst this
      omega
    | cons y1 ys1 =>
      rw [hys] at g3 l3
      obtain ⟨k1, a1, b1, c1, d1, w1, v1, e1, e2⟩ := z_Ms_cons g3
      have p1 := z_My_oe hl1 w1
      have q1 := z_sq_oe hl1 (fun _ _ _ _ _ h => z_D_oe hl1 h) v1.1
      have m1 : pr * B = a1 * B + c1 * B := by rw [e1, Nat.add_mul]
      obtain ⟨l1, X1, f1, f1', f1''⟩ := part y1 p k1 a1 b1 w1 (by omega) (by omega) ⟨Nat.le_refl _, fun _ => rfl⟩ q1
      have ce1 : c * pr = c * a1 + c * c1 := by rw [e1, Nat.mul_add]
      cases ys1 with
      | nil =>
        obtain ⟨rfl, rfl, rfl⟩ := v1.1
        have : l1 = L := by omega
        rcases f1'' with f | f | f <;> omega
      | cons y2 ys2 =>
        obtain ⟨k2, a2, b2, c2, d2, w2, v2, e3, e4⟩ := z_Ms_cons v1
        have p2 := z_My_oe hl1 w2
        have q2 := z_sq_oe hl1 (fun _ _ _ _ _ h => z_D_oe hl1 h) v2.1
        have m2 : c1 * B = a2 * B + c2 * B := by rw [e3, Nat.add_mul]
        obtain ⟨l2, X2, f2, f2', f2''⟩ := part y2 k1 k2 a2 b2 w2 (by omega) (by omega) p1 q2
        have ce2 : c * c1 = c * a2 + c * c2 := by rw [e3, Nat.mul_add]
        cases ys2 with
        | nil =>
          obtain ⟨rfl, rfl, rfl⟩ := v2.1
          have hs : L = l1 + l2 := by omega
          have hs2 : X = X1 + X2 := by rw [hX, f1', f2', hs, add]
          rcases f1'' with f | f | f <;> rcases f2'' with g | g | g <;> omega
        | cons y3 ys3 =>
          obtain ⟨k3, a3, b3, c3, d3, w3, v3, e5, e6⟩ := z_Ms_cons v2
          have q3 := z_sq_oe hl1 (fun _ _ _ _ _ h => z_D_oe hl1 h) v3.1
          have m3 : c2 * B = a3 * B + c3 * B := by rw [e5, Nat.add_mul]
          obtain ⟨l3', X3, f3, f3', f3''⟩ := part y3 k2 k3 a3 b3 w3 (by omega) (by omega) ⟨by omega, fun e => (p1.2 (by omega)).trans (p2.2 (by omega))⟩ q3
          have ce3 : c * c2 = c * a3 + c * c3 := by rw [e5, Nat.mul_add]
          cases ys3 with
          | nil =>
            obtain ⟨rfl, rfl, rfl⟩ := v3.1
            have hs : L = l1 + (l2 + l3') := by omega
            have hs2 : X = X1 + (X2 + X3) := by rw [hX, f1', f2', f3', hs, add, add]
            rcases f1'' with f | f | f <;> rcases f2'' with g | g | g <;> rcases f3'' with h | h | h <;> omega
          | cons y4 ys4 => simp at l3
/-- in all: empty ones, and others -/
theorem z_size (ok : z_ok C) (hl1 : ∀ t p q v, lf t p q v → φ p ≤ φ q ∧ (φ p = φ q → p = q)) (hl2 : ∀ t p v, lf t p p v → c * v ≤ e0) {A M : Nat} (hA : A = z_a e0 7 + 1) (hl3 : ∀ t p q v, lf t p q v → c * v ≤ A) {x p q pr sz : Nat} (h : z_Mb C lf B x p q pr sz) (hM : φ q - φ p ≤ M) (hM1 : 1 ≤ M) : c * pr + sz + 17 * A ≤ 34 * (A * M) := by
  have o := z_D_oe hl1 h.1
  have h7 := z_rk_7 ok h
  have hAM := Nat.mul_le_mul_left A hM1
  by_cases e : φ p = φ q
  · have := o.2 e
    subst this
    have := z_emp (c := c) (e0 := e0) ok hl1 hl2 sz x p pr sz (Nat.le_refl _) h
    have := z_a_mono e0 h7
    omega
  · have := z_rank (c := c) (e0 := e0) ok hl1 hl2 hA hl3 sz x p q pr sz (Nat.le_refl _) h (by omega)
    have r7 := Nat.mul_le_mul_right A h7
    have := Nat.mul_le_mul_left A hM
    omega
end RANK
