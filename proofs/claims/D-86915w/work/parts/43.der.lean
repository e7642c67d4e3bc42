/-! PLAIN LAW, the mathematics: derivations, tables -/
set_option maxRecDepth 100000
abbrev zL : Type := Nat → Nat → Nat → Nat → Prop
abbrev zE : Type := Nat → Nat → Nat → Nat → Nat → Prop
def z_sy (lf : zL) (E : zE) (y p q pr sz : Nat) : Prop := (y < 100 ∧ lf y p q pr ∧ sz = 0) ∨ (100 ≤ y ∧ E (y - 100) p q pr sz)
def z_sq (lf : zL) (E : zE) : List Nat → Nat → Nat → Nat → Nat → Prop
  | [] => fun p q pr sz => p = q ∧ pr = 0 ∧ sz = 0
  | y :: ys => fun p q pr sz => ∃ m a b c d, z_sy lf E y p m a b ∧ z_sq lf E ys m q c d ∧ pr = a + c ∧ sz = b + d
/-- the symbols of a rule -/
def z_yl (C : Cf) (r : Nat) : List Nat := (List.range (C.2 9 r)).map (fun j => C.2 10 (3 * r + j))
def z_de (C : Cf) (lf : zL) : Nat → zE
  | 0 => fun _ _ _ _ _ => False
  | d + 1 => fun x p q pr sz => ∃ r z, r < C.1 7 ∧ C.2 8 r = x ∧ z_sq lf (z_de C lf d) (z_yl C r) p q pr z ∧ sz = z + 1
/-- a tree of name x from p to q: its price and size -/
def z_D (C : Cf) (lf : zL) : zE := fun x p q pr sz => ∃ d, z_de C lf d x p q pr sz
theorem z_sy_mono {lf lf' : zL} {E E' : zE} (hl : ∀ t p q v, lf t p q v → lf' t p q v) (h : ∀ x p q pr sz, E x p q pr sz → E' x p q pr sz) {y p q pr sz : Nat} (w : z_sy lf E y p q pr sz) : z_sy lf' E' y p q pr sz := by
  rcases w with ⟨a, b, c⟩ | ⟨a, b⟩
  · exact Or.inl ⟨a, hl _ _ _ _ b, c⟩
  · exact Or.inr ⟨a, h _ _ _ _ _ b⟩
theorem z_sq_mono {lf lf' : zL} {E E' : zE} (hl : ∀ t p q v, lf t p q v → lf' t p q v) (h : ∀ x p q pr sz, E x p q pr sz → E' x p q pr sz) : ∀ {ys : List Nat} {p q pr sz : Nat}, z_sq lf E ys p q pr sz → z_sq lf' E' ys p q pr sz := by
  intro ys
  induction ys with
  | nil => intro p q pr sz w; exact w
  | cons y ys ih =>
    intro p q pr sz w
    obtain ⟨m, a, b, c, d, w1, w2, w3⟩ := w
    exact ⟨m, a, b, c, d, z_sy_mono hl h w1, ih w2, w3⟩
theorem z_de_succ {C : Cf} {lf : zL} : ∀ (d : Nat) {x p q pr sz : Nat}, z_de C lf d x p q pr sz → z_de C lf (d + 1) x p q pr sz := by
  intro d
  induction d with
  | zero => intro x p q pr sz h; exact h.elim
  | succ d ih =>
    intro x p q pr sz h
    obtain ⟨r, z, h1, h2, h3, h4⟩ := h
    exact ⟨r, z, h1, h2, z_sq_mono (fun _ _ _ _ h => h) (fun _ _ _ _ _ h => ih h) h3, h4⟩
theorem z_de_le {C : Cf} {lf : zL} {d e x p q pr sz : Nat} (h : d ≤ e) (w : z_de C lf d x p q pr sz) : z_de C lf e x p q pr sz := by
  induction h with
  | refl => exact w
  | step _ ih => exact z_de_succ _ ih
theorem z_sq_D {C : Cf} {lf : zL} : ∀ {ys : List Nat} {p q pr sz : Nat}, z_sq lf (z_D C lf) ys p q pr sz → ∃ d, z_sq lf (z_de C lf d) ys p q pr sz := by
  intro ys
  induction ys with
  | nil => intro p q pr sz w; exact ⟨0, w⟩
  | cons y ys ih =>
    intro p q pr sz w
    obtain ⟨m, a, b, c, d, w1, w2, w3⟩ := w
    obtain ⟨e, w2⟩ := ih w2
    rcases w1 with w1 | ⟨h1, e', w1⟩
    · exact ⟨e, m, a, b, c, d, Or.inl w1, w2, w3⟩
    · exact ⟨max e e', m, a, b, c, d, Or.inr ⟨h1, z_de_le (Nat.le_max_right _ _) w1⟩, z_sq_mono (fun _ _ _ _ h => h) (fun _ _ _ _ _ h => z_de_le (Nat.le_max_left _ _) h) w2, w3⟩
theorem z_D_mk {C : Cf} {lf : zL} {p q pr z r : Nat} (h1 : r < C.1 7) (h3 : z_sq lf (z_D C lf) (z_yl C r) p q pr z) : z_D C lf (C.2 8 r) p q pr (z + 1) := by
  obtain ⟨d, h⟩ := z_sq_D h3
  exact ⟨d + 1, r, z, h1, rfl, h, rfl⟩
theorem z_D_of {C : Cf} {lf : zL} {x p q pr sz : Nat} (h : z_D C lf x p q pr sz) : ∃ r z, r < C.1 7 ∧ C.2 8 r = x ∧ z_sq lf (z_D C lf) (z_yl C r) p q pr z ∧ sz = z + 1 := by
  obtain ⟨d, h⟩ := h
  cases d with
  | zero => exact h.elim
  | succ d =>
    obtain ⟨r, z, h1, h2, h3, h4⟩ := h
    exact ⟨r, z, h1, h2, z_sq_mono (fun _ _ _ _ h => h) (fun _ _ _ _ _ h => ⟨d, h⟩) h3, h4⟩
theorem z_D_ind {C : Cf} {lf : zL} {P : zE} (h : ∀ p q pr z r, r < C.1 7 → z_sq lf (fun x p q pr sz => z_D C lf x p q pr sz ∧ P x p q pr sz) (z_yl C r) p q pr z → P (C.2 8 r) p q pr (z + 1)) {x p q pr sz : Nat} (w : z_D C lf x p q pr sz) : P x p q pr sz := by
  obtain ⟨d, w⟩ := w
  induction d generalizing x p q pr sz with
  | zero => exact w.elim
  | succ d ih =>
    obtain ⟨r, z, h1, rfl, h3, rfl⟩ := w
    exact h p q pr z r h1 (z_sq_mono (fun _ _ _ _ h => h) (fun _ _ _ _ _ h => ⟨⟨d, h⟩, ih h⟩) h3)
theorem z_D_lf {C : Cf} {lf lf' : zL} (hl : ∀ t p q v, lf t p q v → lf' t p q v) {x p q pr sz : Nat} (w : z_D C lf x p q pr sz) : z_D C lf' x p q pr sz := by
  refine z_D_ind (P := fun x p q pr sz => z_D C lf' x p q pr sz) (fun p q pr z r h1 h2 => ?_) w
  exact z_D_mk h1 (z_sq_mono hl (fun _ _ _ _ _ h => h.2) h2)
theorem z_D_nm {C : Cf} {lf : zL} (ok : z_ok C) {x p q pr sz : Nat} (w : z_D C lf x p q pr sz) : x < C.1 5 ∧ 1 ≤ sz := by
  obtain ⟨r, z, h1, rfl, -, rfl⟩ := z_D_of w
  exact ⟨(ok.2.2.2.2.1 r h1).1, by omega⟩
theorem z_yl_ok {C : Cf} (ok : z_ok C) {r : Nat} (h : r < C.1 7) : (z_yl C r).length ≤ 3 ∧ ∀ y ∈ z_yl C r, y < 100 ∨ (100 ≤ y ∧ y < 100 + C.1 5) := by
  obtain ⟨-, h2, h3⟩ := ok.2.2.2.2.1 r h
  have := ok.1
  refine ⟨by simp [z_yl]; exact h2, fun y hy => ?_⟩
  obtain ⟨j, hj, rfl⟩ := List.mem_map.mp hy
  have := h3 j (List.mem_range.mp hj)
  omega
/-! order along derivations -/
theorem z_sq_ord {lf : zL} {E : zE} (φ : Nat → Nat) (hl : ∀ t p q v, lf t p q v → φ p ≤ φ q) (hE : ∀ x p q pr sz, E x p q pr sz → φ p ≤ φ q) : ∀ {ys : List Nat} {p q pr sz : Nat}, z_sq lf E ys p q pr sz → φ p ≤ φ q := by
  intro ys
  induction ys with
  | nil => intro p q pr sz w; rw [w.1]; exact Nat.le_refl _
  | cons y ys ih =>
    intro p q pr sz w
    obtain ⟨m, a, b, c, d, w1, w2, w3⟩ := w
    refine Nat.le_trans ?_ (ih w2)
    rcases w1 with w1 | w1
    · exact hl _ _ _ _ w1.2.1
    · exact hE _ _ _ _ _ w1.2
theorem z_D_ord {C : Cf} {lf : zL} (φ : Nat → Nat) (hl : ∀ t p q v, lf t p q v → φ p ≤ φ q) {x p q pr sz : Nat} (w : z_D C lf x p q pr sz) : φ p ≤ φ q := by
  refine z_D_ind (P := fun _ p q _ _ => φ p ≤ φ q) (fun p q pr z r h1 h2 => ?_) w
  exact z_sq_ord φ hl (fun _ _ _ _ _ h => h.2) h2
/-! tables -/
/-- the least of a row of symbols, as c says what one costs -/
def z_rs (c : Nat → Nat → Nat → Nat) : List Nat → Nat → Nat → Nat
  | [], p, q => if p = q then 0 else 1152921504606846976
  | y :: ys, p, q => z_mn (fun d => min 1152921504606846976 (c y p (p + d) + z_rs c ys (p + d) q)) 1152921504606846976 (q + 1 - p)
theorem z_rs_le (c : Nat → Nat → Nat → Nat) (ys : List Nat) (p q : Nat) : z_rs c ys p q ≤ 1152921504606846976 := by
  cases ys with
  | nil => unfold z_rs; by_cases e : p = q
           · rw [if_pos e]; decide
           · rw [if_neg e]; exact Nat.le_refl _
  | cons y ys => unfold z_rs; exact z_mn_b _ _ _
theorem z_rs_one {c : Nat → Nat → Nat → Nat} {y : Nat} {ys : List Nat} {p m q : Nat} (h1 : p ≤ m) (h2 : m ≤ q) : z_rs c (y :: ys) p q ≤ c y p m + z_rs c ys m q := by
  have := z_mn_le (f := fun d => min 1152921504606846976 (c y p (p + d) + z_rs c ys (p + d) q)) (b := 1152921504606846976) (n := q + 1 - p) (k := m - p) (by omega)
  simp only [show p + (m - p) = m by omega] at this
  conv => lhs; unfold z_rs
  omega
theorem z_rs_at {c : Nat → Nat → Nat → Nat} {y : Nat} {ys : List Nat} {p q : Nat} (h : z_rs c (y :: ys) p q < 1152921504606846976) : ∃ m, p ≤ m ∧ m ≤ q ∧ z_rs c (y :: ys) p q = c y p m + z_rs c ys m q := by
  have e : z_rs c (y :: ys) p q = z_mn (fun d => min 1152921504606846976 (c y p (p + d) + z_rs c ys (p + d) q)) 1152921504606846976 (q + 1 - p) := by
    conv => lhs; unfold z_rs
  rcases z_mn_at (fun d => min 1152921504606846976 (c y p (p + d) + z_rs c ys (p + d) q)) 1152921504606846976 (q + 1 - p) with h1 | ⟨k, hk, h1⟩
  · omega
  · refine ⟨p + k, by omega, by omega, ?_⟩
    omega
theorem z_rs_mono {c c' : Nat → Nat → Nat → Nat} : ∀ (ys : List Nat) (p q : Nat), (∀ y m m', p ≤ m → m ≤ m' → m' ≤ q → c y m m' ≤ c' y m m') → z_rs c ys p q ≤ z_rs c' ys p q := by
  intro ys
  induction ys with
  | nil => intro p q _; exact Nat.le_refl _
  | cons y ys ih =>
    intro p q h
    unfold z_rs
    refine z_mn_mono (fun k hk => ?_)
    have a := h y p (p + k) (Nat.le_refl _) (by omega) (by omega)
    have b := ih (p + k) q (fun y m m' h1 h2 h3 => h y m m' (by omega) h2 h3)
    omega
theorem z_rs_congr {c c' : Nat → Nat → Nat → Nat} (ys : List Nat) (p q : Nat) (h : ∀ y m m', p ≤ m → m ≤ m' → m' ≤ q → c y m m' = c' y m m') : z_rs c ys p q = z_rs c' ys p q :=
  Nat.le_antisymm (z_rs_mono ys p q (fun y m m' h1 h2 h3 => Nat.le_of_eq (h y m m' h1 h2 h3))) (z_rs_mono ys p q (fun y m m' h1 h2 h3 => Nat.le_of_eq (h y m m' h1 h2 h3).symm))
/-- what a symbol costs: kn says which knot a number is -/
noncomputable def z_c (C : Cf) (B : Nat) (kn : Nat → Nat) (T : Nat → Nat → Nat → Nat) (y p q : Nat) : Nat := if y < 100 then (if z_R C y (kn p) (kn q) = 1000000000 then 1152921504606846976 else B * z_R C y (kn p) (kn q)) else T (y - 100) p q
/-- the knots: numbers 0 .. N - 1, in order; all that can be come to is among them -/
def z_kn (C : Cf) (kn : Nat → Nat) (N : Nat) : Prop := (∀ p q, p < q → q < N → kn p < kn q) ∧ ∀ t p m v, p < N → z_tk C t (kn p) m v → ∃ q, q < N ∧ m = kn q
/-- a table that is full -/
def z_tb (C : Cf) (B : Nat) (kn : Nat → Nat) (N : Nat) (T : Nat → Nat → Nat → Nat) : Prop := (∀ x p q, x < C.1 5 → p ≤ q → q < N → T x p q ≤ 1152921504606846976) ∧
  (∀ r p q, r < C.1 7 → p ≤ q → q < N → T (C.2 8 r) p q ≤ z_rs (z_c C B kn T) (z_yl C r) p q + 1) ∧
  (∀ x p q, x < C.1 5 → p ≤ q → q < N → T x p q < 1152921504606846976 → ∃ r, r < C.1 7 ∧ C.2 8 r = x ∧ T x p q = z_rs (z_c C B kn T) (z_yl C r) p q + 1)
theorem z_kn.inj {C : Cf} {kn : Nat → Nat} {N : Nat} (h : z_kn C kn N) {p q : Nat} (hp : p < N) (hq : q < N) (e : kn p = kn q) : p = q := by
  rcases Nat.lt_trichotomy p q with z | z | z
  · have := h.1 p q z hq; omega
  · exact z
  · have := h.1 q p z hp; omega
theorem z_kn.le {C : Cf} {kn : Nat → Nat} {N : Nat} (h : z_kn C kn N) {p q : Nat} (hp : p < N) (e : kn p ≤ kn q) : p ≤ q := by
  rcases Nat.lt_or_ge q p with z | z
  · have := h.1 q p z hp; omega
  · exact z
theorem z_kn.mono {C : Cf} {kn : Nat → Nat} {N : Nat} (h : z_kn C kn N) {p q : Nat} (hq : q < N) (e : p ≤ q) : kn p ≤ kn q := by
  by_cases z : p = q
  · rw [z]; exact Nat.le_refl _
  · exact Nat.le_of_lt (h.1 p q (by omega) hq)
theorem z_rs_sound {C : Cf} (ok : z_ok C) {B : Nat} {kn : Nat → Nat} {N : Nat} {T : Nat → Nat → Nat → Nat} {v : Nat} (hT : ∀ x p q, x < C.1 5 → p ≤ q → q < N → T x p q ≤ v → T x p q < 1152921504606846976 → ∃ pr sz, z_D C (z_tk C) x (kn p) (kn q) pr sz ∧ T x p q = pr * B + sz) :
    ∀ (ys : List Nat), (∀ y ∈ ys, y < 100 ∨ (100 ≤ y ∧ y < 100 + C.1 5)) → ∀ p q, p ≤ q → q < N → z_rs (z_c C B kn T) ys p q < 1152921504606846976 → z_rs (z_c C B kn T) ys p q ≤ v → ∃ pr sz, z_sq (z_tk C) (z_D C (z_tk C)) ys (kn p) (kn q) pr sz ∧ z_rs (z_c C B kn T) ys p q = pr * B + sz := by
  intro ys
  induction ys with
  | nil =>
    intro _ p q h1 h2 h3 h4
    unfold z_rs at h3
    by_cases e : p = q
    · subst e
      exact ⟨0, 0, ⟨rfl, rfl, rfl⟩, by unfold z_rs; rw [if_pos rfl]; omega⟩
    · rw [if_neg e] at h3; omega
  | cons y ys ih =>
    intro hy p q h1 h2 h3 h4
    obtain ⟨m, g1, g2, g3⟩ := z_rs_at h3
    obtain ⟨c, d, g4, g5⟩ := ih (fun y h => hy y (List.mem_cons_of_mem _ h)) m q g2 h2 (by omega) (by omega)
    have : ∃ a b, z_sy (z_tk C) (z_D C (z_tk C)) y (kn p) (kn m) a b ∧ z_c C B kn T y p m = a * B + b := by
      by_cases e : y < 100
      · have e1 : z_c C B kn T y p m = if z_R C y (kn p) (kn m) = 1000000000 then 1152921504606846976 else B * z_R C y (kn p) (kn m) := by unfold z_c; rw [if_pos e]
        by_cases e2 : z_R C y (kn p) (kn m) = 1000000000
        · rw [if_pos e2] at e1; omega
        · rw [if_neg e2] at e1
          exact ⟨z_R C y (kn p) (kn m), 0, Or.inl ⟨e, z_R_at e2, rfl⟩, by rw [e1, Nat.mul_comm]; omega⟩
      · have e1 : z_c C B kn T y p m = T (y - 100) p m := by unfold z_c; rw [if_neg e]
        have e3 := hy y List.mem_cons_self
        obtain ⟨a, b, g6, g7⟩ := hT (y - 100) p m (by omega) g1 (by omega) (by omega) (by omega)
        exact ⟨a, b, Or.inr ⟨by omega, g6⟩, by omega⟩
    obtain ⟨a, b, g6, g7⟩ := this
    exact ⟨a + c, b + d, ⟨kn m, a, b, c, d, g6, g4, rfl, rfl⟩, by rw [g3, g7, g5, Nat.add_mul]; omega⟩
theorem z_tb_sound {C : Cf} (ok : z_ok C) {B : Nat} {kn : Nat → Nat} {N : Nat} {T : Nat → Nat → Nat → Nat} (h : z_tb C B kn N T) : ∀ v x p q, T x p q = v → x < C.1 5 → p ≤ q → q < N → T x p q < 1152921504606846976 → ∃ pr sz, z_D C (z_tk C) x (kn p) (kn q) pr sz ∧ T x p q = pr * B + sz := by
  intro v
  induction v using Nat.strongRecOn with
  | ind v ih =>
    intro x p q e hx h1 h2 h3
    obtain ⟨r, g1, g2, g3⟩ := h.2.2 x p q hx h1 h2 h3
    obtain ⟨pr, sz, g4, g5⟩ := z_rs_sound ok (B := B) (kn := kn) (N := N) (T := T) (v := v - 1) (fun x p q hx h1 h2 h3 h4 => ih (T x p q) (by omega) x p q rfl hx h1 h2 h4) (z_yl C r) (z_yl_ok ok g1).2 p q h1 h2 (by omega) (by omega)
    refine ⟨pr, sz + 1, ?_, by omega⟩
    rw [← g2]
    exact z_D_mk g1 g4
theorem z_rs_comp {C : Cf} {B : Nat} {kn : Nat → Nat} {N : Nat} {T : Nat → Nat → Nat → Nat} (hk : z_kn C kn N) (ok : z_ok C) : ∀ (ys : List Nat) p μ pr z, p < N → z_sq (z_tk C) (fun x l m pr sz => z_D C (z_tk C) x l m pr sz ∧ ∀ p, p < N → l = kn p → ∃ q, p ≤ q ∧ q < N ∧ m = kn q ∧ T x p q ≤ pr * B + sz) ys (kn p) μ pr z →
    ∃ q, p ≤ q ∧ q < N ∧ μ = kn q ∧ z_rs (z_c C B kn T) ys p q ≤ pr * B + z := by
  intro ys
  induction ys with
  | nil =>
    intro p μ pr z hp w
    obtain ⟨rfl, rfl, rfl⟩ := w
    exact ⟨p, Nat.le_refl _, hp, rfl, by unfold z_rs; rw [if_pos rfl]; omega⟩
  | cons y ys ih =>
    intro p μ pr z hp w
    obtain ⟨m, a, b, c, d, w1, w2, rfl, rfl⟩ := w
    have : ∃ m', p ≤ m' ∧ m' < N ∧ m = kn m' ∧ z_c C B kn T y p m' ≤ a * B + b := by
      rcases w1 with ⟨e, w1, rfl⟩ | ⟨e, w1, w3⟩
      · obtain ⟨m', g1, rfl⟩ := hk.2 _ _ _ _ hp w1
        refine ⟨m', hk.le hp (z_tk_bd ok w1).1, g1, rfl, ?_⟩
        unfold z_c
        rw [if_pos e]
        have hle := z_R_le w1
        have hbd := (z_tk_bd ok w1).2.2.1
        rw [if_neg (by omega)]
        have := Nat.mul_le_mul_left B hle
        rw [Nat.mul_comm a B]
        omega
      · obtain ⟨m', g1, g2, rfl, g3⟩ := w3 p hp rfl
        refine ⟨m', g1, g2, rfl, ?_⟩
        unfold z_c
        rw [if_neg (by omega)]
        exact g3
    obtain ⟨m', g1, g2, rfl, g3⟩ := this
    obtain ⟨q, g4, g5, rfl, g6⟩ := ih m' μ c d g2 w2
    refine ⟨q, by omega, g5, rfl, ?_⟩
    have := z_rs_one (c := z_c C B kn T) (y := y) (ys := ys) g1 g4
    rw [Nat.add_mul]
    omega
theorem z_tb_comp {C : Cf} (ok : z_ok C) {B : Nat} {kn : Nat → Nat} {N : Nat} {T : Nat → Nat → Nat → Nat} (hk : z_kn C kn N) (h : z_tb C B kn N T) {x l m pr sz : Nat} (w : z_D C (z_tk C) x l m pr sz) : ∀ p, p < N → l = kn p → ∃ q, p ≤ q ∧ q < N ∧ m = kn q ∧ T x p q ≤ pr * B + sz := by
  refine z_D_ind (P := fun x l m pr sz => ∀ p, p < N → l = kn p → ∃ q, p ≤ q ∧ q < N ∧ m = kn q ∧ T x p q ≤ pr * B + sz) (fun l m pr z r h1 h2 p hp e => ?_) w
  subst e
  obtain ⟨q, g1, g2, g3, g4⟩ := z_rs_comp hk ok (z_yl C r) p m pr z hp h2
  have := h.2.1 r p q h1 g1 g2
  exact ⟨q, g1, g2, g3, by omega⟩
/-! the least ones -/
def z_Mb (C : Cf) (lf : zL) (B x l m pr sz : Nat) : Prop := z_D C lf x l m pr sz ∧ ∀ pr' sz', z_D C lf x l m pr' sz' → pr * B + sz ≤ pr' * B + sz'
def z_My (C : Cf) (lf : zL) (B y l m pr sz : Nat) : Prop := z_sy lf (z_D C lf) y l m pr sz ∧ ∀ pr' sz', z_sy lf (z_D C lf) y l m pr' sz' → pr * B + sz ≤ pr' * B + sz'
def z_Ms (C : Cf) (lf : zL) (B : Nat) (ys : List Nat) (l m pr sz : Nat) : Prop := z_sq lf (z_D C lf) ys l m pr sz ∧ ∀ pr' sz', z_sq lf (z_D C lf) ys l m pr' sz' → pr * B + sz ≤ pr' * B + sz'
theorem z_Ms_cons {C : Cf} {lf : zL} {B y l m pr sz : Nat} {ys : List Nat} (h : z_Ms C lf B (y :: ys) l m pr sz) : ∃ k a b c d, z_My C lf B y l k a b ∧ z_Ms C lf B ys k m c d ∧ pr = a + c ∧ sz = b + d := by
  obtain ⟨⟨k, a, b, c, d, h1, h2, rfl, rfl⟩, h3⟩ := h
  refine ⟨k, a, b, c, d, ⟨h1, fun a' b' w => ?_⟩, ⟨h2, fun c' d' w => ?_⟩, rfl, rfl⟩
  · have := h3 (a' + c) (b' + d) ⟨k, a', b', c, d, w, h2, rfl, rfl⟩
    rw [Nat.add_mul, Nat.add_mul] at this
    omega
  · have := h3 (a + c') (b + d') ⟨k, a, b, c', d', h1, w, rfl, rfl⟩
    rw [Nat.add_mul, Nat.add_mul] at this
    omega
theorem z_Mb_of {C : Cf} {lf : zL} {B x l m pr sz : Nat} (h : z_Mb C lf B x l m pr sz) : ∃ r z, r < C.1 7 ∧ C.2 8 r = x ∧ z_Ms C lf B (z_yl C r) l m pr z ∧ sz = z + 1 := by
  obtain ⟨h1, h2⟩ := h
  obtain ⟨r, z, g1, g2, g3, rfl⟩ := z_D_of h1
  refine ⟨r, z, g1, g2, ⟨g3, fun pr' sz' w => ?_⟩, rfl⟩
  have := h2 pr' (sz' + 1) (by rw [← g2]; exact z_D_mk g1 w)
  omega
theorem z_Mb_ex {C : Cf} {lf : zL} (B : Nat) {x l m pr sz : Nat} (h : z_D C lf x l m pr sz) : ∃ pr sz, z_Mb C lf B x l m pr sz := by
  obtain ⟨v, ⟨pr', sz', h1, h2⟩, h3⟩ := pk_least (fun v => ∃ pr sz, z_D C lf x l m pr sz ∧ v = pr * B + sz) ⟨_, pr, sz, h, rfl⟩
  refine ⟨pr', sz', h1, fun a b w => ?_⟩
  rcases Nat.lt_or_ge (a * B + b) (pr' * B + sz') with z | z
  · exact absurd ⟨a, b, w, rfl⟩ (h3 (a * B + b) (by omega))
  · exact z
theorem z_Ms_ex {C : Cf} {lf : zL} (B : Nat) {ys : List Nat} {l m pr sz : Nat} (h : z_sq lf (z_D C lf) ys l m pr sz) : ∃ pr sz, z_Ms C lf B ys l m pr sz := by
  obtain ⟨v, ⟨pr', sz', h1, h2⟩, h3⟩ := pk_least (fun v => ∃ pr sz, z_sq lf (z_D C lf) ys l m pr sz ∧ v = pr * B + sz) ⟨_, pr, sz, h, rfl⟩
  refine ⟨pr', sz', h1, fun a b w => ?_⟩
  rcases Nat.lt_or_ge (a * B + b) (pr' * B + sz') with z | z
  · exact absurd ⟨a, b, w, rfl⟩ (h3 (a * B + b) (by omega))
  · exact z
