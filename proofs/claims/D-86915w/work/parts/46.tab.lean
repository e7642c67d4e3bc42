/-! PLAIN LAW, the mathematics: full tables hold the least trees, in any unit -/
set_option maxRecDepth 100000
section TAB
variable {C : Cf} {B : Nat} {kn : Nat → Nat} {N : Nat} {T : Nat → Nat → Nat → Nat}
theorem z_T_Mb (ok : z_ok C) (hk : z_kn C kn N) (h : z_tb C B kn N T) {x p q : Nat} (hx : x < C.1 5) (h1 : p ≤ q) (h2 : q < N) (h3 : T x p q < 1152921504606846976) : ∃ pr sz, z_Mb C (z_tk C) B x (kn p) (kn q) pr sz ∧ T x p q = pr * B + sz := by
  obtain ⟨pr, sz, g1, g2⟩ := z_tb_sound ok h _ x p q rfl hx h1 h2 h3
  refine ⟨pr, sz, ⟨g1, fun pr' sz' w => ?_⟩, g2⟩
  obtain ⟨q', e1, e2, e3, e4⟩ := z_tb_comp ok hk h w p (by omega) rfl
  have := hk.inj h2 e2 e3
  subst this
  omega
theorem z_T_fin (ok : z_ok C) (hk : z_kn C kn N) (h : z_tb C B kn N T) (hB : 4 * 2398411 < B) {x p q : Nat} (hx : x < C.1 5) (h1 : p ≤ q) (h2 : q < N) (h3 : T x p q < 1152921504606846976) : ∃ pr sz, z_Mb C (z_tk C) 16777216 x (kn p) (kn q) pr sz ∧ sz ≤ 2398411 ∧ T x p q = pr * B + sz := by
  obtain ⟨pr, sz, g1, g2⟩ := z_T_Mb ok hk h hx h1 h2 h3
  obtain ⟨pr', sz', g3⟩ := z_Mb_ex 16777216 g1.1
  obtain ⟨rfl, rfl⟩ := z_Mb_bri ok g1 g3 (by omega) (by decide)
  exact ⟨pr, sz, g3, z_Mb_sz ok g3, g2⟩
theorem z_T_of (ok : z_ok C) (hk : z_kn C kn N) (h : z_tb C B kn N T) (hB : 4 * 2398411 < B) {x p q pr sz : Nat} (h2 : p < N) (hq : q < N) (w : z_Mb C (z_tk C) 16777216 x (kn p) (kn q) pr sz) (h3 : pr * B + sz < 1152921504606846976) : p ≤ q ∧ T x p q = pr * B + sz := by
  obtain ⟨q', e1, e2, e3, e4⟩ := z_tb_comp ok hk h w.1 p h2 rfl
  have := hk.inj hq e2 e3
  subst this
  obtain ⟨pr', sz', g1, g2, g3⟩ := z_T_fin ok hk h hB (z_D_nm ok w.1).1 e1 hq (by omega)
  obtain ⟨rfl, rfl⟩ := z_Mb_bri ok g1 w (by decide) (by decide)
  exact ⟨e1, g3⟩
theorem z_My_tok (ok : z_ok C) {y l m : Nat} (e : y < 100) (h : z_R C y l m ≠ 1000000000) : z_My C (z_tk C) B y l m (z_R C y l m) 0 := by
  refine ⟨Or.inl ⟨e, z_R_at h, rfl⟩, fun a b w => ?_⟩
  rcases w with ⟨-, w, rfl⟩ | ⟨w, -⟩
  · have := Nat.mul_le_mul_right B (z_R_le w)
    omega
  · omega
theorem z_My_nam {y l m a b : Nat} (e : 100 ≤ y) (h : z_Mb C (z_tk C) B (y - 100) l m a b) : z_My C (z_tk C) B y l m a b := by
  refine ⟨Or.inr ⟨e, h.1⟩, fun a' b' w => ?_⟩
  rcases w with w | w
  · omega
  · exact h.2 _ _ w.2
theorem z_c_fin (ok : z_ok C) (hk : z_kn C kn N) (h : z_tb C B kn N T) (hB : 4 * 2398411 < B) {y p q : Nat} (hy : y < 100 ∨ (100 ≤ y ∧ y < 100 + C.1 5)) (h1 : p ≤ q) (h2 : q < N) (h3 : z_c C B kn T y p q < 1152921504606846976) : ∃ a b, z_My C (z_tk C) 16777216 y (kn p) (kn q) a b ∧ b ≤ 2398411 ∧ z_c C B kn T y p q = a * B + b := by
  unfold z_c at h3 ⊢
  by_cases e : y < 100
  · rw [if_pos e] at h3 ⊢
    by_cases e2 : z_R C y (kn p) (kn q) = 1000000000
    · rw [if_pos e2] at h3; omega
    · rw [if_neg e2]
      exact ⟨_, 0, z_My_tok ok e e2, by omega, by rw [Nat.mul_comm]; omega⟩
  · rw [if_neg e] at h3 ⊢
    obtain ⟨a, b, g1, g2, g3⟩ := z_T_fin ok hk h hB (x := y - 100) (by omega) h1 h2 h3
    exact ⟨a, b, z_My_nam (by omega) g1, g2, g3⟩
theorem z_c_of (ok : z_ok C) (hk : z_kn C kn N) (h : z_tb C B kn N T) (hB : 4 * 2398411 < B) {y p q a b : Nat} (h2 : p < N) (hq : q < N) (w : z_My C (z_tk C) 16777216 y (kn p) (kn q) a b) (h3 : a * B + b < 1152921504606846976) : p ≤ q ∧ z_c C B kn T y p q = a * B + b := by
  rcases z_My_nm w with ⟨e, g, rfl⟩ | ⟨e, g⟩
  · refine ⟨hk.le h2 (z_tk_bd ok g).1, ?_⟩
    unfold z_c
    rw [if_pos e]
    have b1 := (z_tk_bd ok g).2.2.1
    have b2 := z_R_le g
    rw [if_neg (by omega)]
    have hR : z_R C y (kn p) (kn q) ≠ 1000000000 := by omega
    have := w.2 _ 0 (Or.inl ⟨e, z_R_at hR, rfl⟩)
    have e3 : z_R C y (kn p) (kn q) = a := by omega
    rw [e3, Nat.mul_comm]; omega
  · obtain ⟨g1, g2⟩ := z_T_of ok hk h hB h2 hq g h3
    refine ⟨g1, ?_⟩
    unfold z_c
    rw [if_neg (by omega)]
    exact g2
theorem z_rs_Ms (ok : z_ok C) (hk : z_kn C kn N) (h : z_tb C B kn N T) {ys : List Nat} (hy : ∀ y ∈ ys, y < 100 ∨ (100 ≤ y ∧ y < 100 + C.1 5)) {p q : Nat} (h1 : p ≤ q) (h2 : q < N) (h3 : z_rs (z_c C B kn T) ys p q < 1152921504606846976) : ∃ pr sz, z_Ms C (z_tk C) B ys (kn p) (kn q) pr sz ∧ z_rs (z_c C B kn T) ys p q = pr * B + sz := by
  obtain ⟨pr, sz, g1, g2⟩ := z_rs_sound ok (v := 1152921504606846976) (fun x p q hx h1 h2 _ h4 => z_tb_sound ok h _ x p q rfl hx h1 h2 h4) ys hy p q h1 h2 h3 (by omega)
  refine ⟨pr, sz, ⟨g1, fun pr' sz' w => ?_⟩, g2⟩
  obtain ⟨q', e1, e2, e3, e4⟩ := z_rs_comp (B := B) (T := T) hk ok ys p (kn q) pr' sz' (by omega) (z_sq_mono (fun _ _ _ _ h => h) (fun _ _ _ _ _ w => ⟨w, z_tb_comp ok hk h w⟩) w)
  have := hk.inj h2 e2 e3
  subst this
  omega
theorem z_rs_fin (ok : z_ok C) (hk : z_kn C kn N) (h : z_tb C B kn N T) (hB : 4 * 2398411 < B) {ys : List Nat} (hl : ys.length ≤ 3) (hy : ∀ y ∈ ys, y < 100 ∨ (100 ≤ y ∧ y < 100 + C.1 5)) {p q : Nat} (h1 : p ≤ q) (h2 : q < N) (h3 : z_rs (z_c C B kn T) ys p q < 1152921504606846976) : ∃ pr sz, z_Ms C (z_tk C) 16777216 ys (kn p) (kn q) pr sz ∧ sz ≤ 3 * 2398411 ∧ z_rs (z_c C B kn T) ys p q = pr * B + sz := by
  obtain ⟨pr, sz, g1, g2⟩ := z_rs_Ms ok hk h hy h1 h2 h3
  obtain ⟨pr', sz', g3⟩ := z_Ms_ex 16777216 g1.1
  obtain ⟨rfl, rfl⟩ := z_Ms_bri ok hl g1 g3 (by omega) (by decide)
  exact ⟨pr, sz, g3, Nat.le_trans (z_Ms_sz ok g3) (Nat.mul_le_mul_right 2398411 hl), g2⟩
theorem z_rs_of (ok : z_ok C) (hk : z_kn C kn N) (h : z_tb C B kn N T) (hB : 4 * 2398411 < B) {ys : List Nat} (hl : ys.length ≤ 3) (hy : ∀ y ∈ ys, y < 100 ∨ (100 ≤ y ∧ y < 100 + C.1 5)) {p q pr sz : Nat} (h2 : p < N) (hq : q < N) (w : z_Ms C (z_tk C) 16777216 ys (kn p) (kn q) pr sz) (h3 : pr * B + sz < 1152921504606846976) : p ≤ q ∧ z_rs (z_c C B kn T) ys p q = pr * B + sz := by
  obtain ⟨q', e1, e2, e3, e4⟩ := z_rs_comp (B := B) (T := T) hk ok ys p (kn q) pr sz h2 (z_sq_mono (fun _ _ _ _ h => h) (fun _ _ _ _ _ w => ⟨w, z_tb_comp ok hk h w⟩) w.1)
  have := hk.inj hq e2 e3
  subst this
  obtain ⟨pr', sz', g1, g2, g3⟩ := z_rs_fin ok hk h hB hl hy e1 hq (by omega)
  obtain ⟨rfl, rfl⟩ := z_Ms_bri ok hl g1 w (by decide) (by decide)
  exact ⟨e1, g3⟩
theorem z_dig {p1 s1 p2 s2 : Nat} (h : p1 * B + s1 = p2 * B + s2) (a1 : s1 < B) (a2 : s2 < B) : p1 = p2 ∧ s1 = s2 := z_uniq (B1 := B) (B2 := B) (by omega) (by omega) a2 a1
/-- where a row of symbols is cut -/
theorem z_split (ok : z_ok C) (hk : z_kn C kn N) (h : z_tb C B kn N T) (hB : 4 * 2398411 < B) {y : Nat} {ys : List Nat} (hl : (y :: ys).length ≤ 3) (hy : ∀ z ∈ y :: ys, z < 100 ∨ (100 ≤ z ∧ z < 100 + C.1 5)) {p m q pr sz : Nat} (h1 : p ≤ m) (h2 : m ≤ q) (hq : q < N) (w : z_Ms C (z_tk C) 16777216 (y :: ys) (kn p) (kn q) pr sz) (h3 : pr * B + sz < 1152921504606846976) :
    z_c C B kn T y p m + z_rs (z_c C B kn T) ys m q = z_rs (z_c C B kn T) (y :: ys) p q ↔ ∃ a b c d, z_My C (z_tk C) 16777216 y (kn p) (kn m) a b ∧ z_Ms C (z_tk C) 16777216 ys (kn m) (kn q) c d ∧ pr = a + c ∧ sz = b + d := by
  obtain ⟨-, e⟩ := z_rs_of ok hk h hB hl hy (by omega) hq w h3
  have hl' : ys.length ≤ 3 := by rw [List.length_cons] at hl; omega
  have hy' := fun z hz => hy z (List.mem_cons_of_mem y hz)
  rw [e]
  constructor
  · intro he
    obtain ⟨a, b, g1, g2, g3⟩ := z_c_fin ok hk h hB (hy y List.mem_cons_self) h1 (by omega) (by omega : z_c C B kn T y p m < 1152921504606846976)
    obtain ⟨c, d, g4, g5, g6⟩ := z_rs_fin ok hk h hB hl' hy' h2 hq (by omega)
    have hs := z_Ms_sz ok w
    have := Nat.mul_le_mul_right 2398411 hl
    obtain ⟨e1, e2⟩ := z_dig (B := B) (p1 := a + c) (s1 := b + d) (p2 := pr) (s2 := sz) (by rw [Nat.add_mul]; omega) (by omega) (by omega)
    exact ⟨a, b, c, d, g1, g4, e1.symm, e2.symm⟩
  · rintro ⟨a, b, c, d, g1, g2, rfl, rfl⟩
    rw [Nat.add_mul] at h3 ⊢
    have := z_c_of ok hk h hB (by omega) (by omega) g1 (by omega)
    have := z_rs_of ok hk h hB hl' hy' (by omega) hq g2 (by omega)
    omega
/-- by which rule a name is had -/
theorem z_rule (ok : z_ok C) (hk : z_kn C kn N) (h : z_tb C B kn N T) (hB : 4 * 2398411 < B) {x p q pr sz r : Nat} (hp : p ≤ q) (hq : q < N) (w : z_Mb C (z_tk C) 16777216 x (kn p) (kn q) pr sz) (h3 : pr * B + sz < 1152921504606846976) (hr : r < C.1 7) :
    z_rs (z_c C B kn T) (z_yl C r) p q + 1 = T x p q ↔ ∃ z, sz = z + 1 ∧ z_Ms C (z_tk C) 16777216 (z_yl C r) (kn p) (kn q) pr z := by
  obtain ⟨-, e⟩ := z_T_of ok hk h hB (by omega) hq w h3
  obtain ⟨hl, hy⟩ := z_yl_ok ok hr
  rw [e]
  have hs := z_Mb_sz ok w
  have h1 := (z_D_nm ok w.1).2
  constructor
  · intro he
    obtain ⟨c, d, g4, g5, g6⟩ := z_rs_fin ok hk h hB hl hy hp hq (by omega)
    obtain ⟨e1, e2⟩ := z_dig (B := B) (p1 := c) (s1 := d + 1) (p2 := pr) (s2 := sz) (by omega) (by omega) (by omega)
    subst e1
    exact ⟨d, e2.symm, g4⟩
  · rintro ⟨z, rfl, g⟩
    have := z_rs_of ok hk h hB hl hy (by omega) hq g (by omega)
    omega
end TAB
/-- the rule, the cut -/
noncomputable def z_ru (C : Cf) (x l q : Nat) : Nat := z_lst (fun r => r < C.1 7 ∧ C.2 8 r = x ∧ ∃ pr z, z_Mb C (z_tk C) 16777216 x l q pr (z + 1) ∧ z_Ms C (z_tk C) 16777216 (z_yl C r) l q pr z) 0
noncomputable def z_sl (C : Cf) (y : Nat) (ys : List Nat) (l q : Nat) : Nat := z_lst (fun m => ∃ a b c d, z_My C (z_tk C) 16777216 y l m a b ∧ z_Ms C (z_tk C) 16777216 ys m q c d ∧ z_Ms C (z_tk C) 16777216 (y :: ys) l q (a + c) (b + d)) 0
section TAB2
variable {C : Cf} {B : Nat} {kn : Nat → Nat} {N : Nat} {T : Nat → Nat → Nat → Nat}
theorem z_Mb_un (ok : z_ok C) {x l m a b c d : Nat} (h : z_Mb C (z_tk C) 16777216 x l m a b) (g : z_Mb C (z_tk C) 16777216 x l m c d) : a = c ∧ b = d := z_Mb_bri ok h g (by decide) (by decide)
theorem z_Ms_un (ok : z_ok C) {ys : List Nat} (hy : ys.length ≤ 3) {l m a b c d : Nat} (h : z_Ms C (z_tk C) 16777216 ys l m a b) (g : z_Ms C (z_tk C) 16777216 ys l m c d) : a = c ∧ b = d := z_Ms_bri ok hy h g (by decide) (by decide)
/-- the least rule that the table shows is the rule -/
theorem z_ru_eq (ok : z_ok C) (hk : z_kn C kn N) (h : z_tb C B kn N T) (hB : 4 * 2398411 < B) {x p q pr sz r : Nat} (hp : p ≤ q) (hq : q < N) (w : z_Mb C (z_tk C) 16777216 x (kn p) (kn q) pr sz) (h3 : pr * B + sz < 1152921504606846976) (hr : r < C.1 7) (hx : C.2 8 r = x) (he : z_rs (z_c C B kn T) (z_yl C r) p q + 1 = T x p q) (hn : ∀ j, j < r → ¬ (C.2 8 j = x ∧ z_rs (z_c C B kn T) (z_yl C j) p q + 1 = T x p q)) : z_ru C x (kn p) (kn q) = r ∧ ∃ z, sz = z + 1 ∧ z_Ms C (z_tk C) 16777216 (z_yl C r) (kn p) (kn q) pr z := by
  obtain ⟨z, rfl, g⟩ := (z_rule ok hk h hB hp hq w h3 hr).mp he
  refine ⟨z_lst_eq ⟨hr, hx, pr, z, w, g⟩ ?_, z, rfl, g⟩
  rintro j hj ⟨j1, j2, pr', z', j3, j4⟩
  obtain ⟨rfl, e⟩ := z_Mb_un ok w j3
  exact hn j hj ⟨j2, (z_rule ok hk h hB hp hq w h3 j1).mpr ⟨z', e, j4⟩⟩
theorem z_ru_ex (ok : z_ok C) (hk : z_kn C kn N) (h : z_tb C B kn N T) (hB : 4 * 2398411 < B) {x p q pr sz : Nat} (hp : p ≤ q) (hq : q < N) (w : z_Mb C (z_tk C) 16777216 x (kn p) (kn q) pr sz) (h3 : pr * B + sz < 1152921504606846976) : ∃ r, r < C.1 7 ∧ C.2 8 r = x ∧ z_rs (z_c C B kn T) (z_yl C r) p q + 1 = T x p q := by
  obtain ⟨r, z, g1, g2, g3, e⟩ := z_Mb_of w
  exact ⟨r, g1, g2, (z_rule ok hk h hB hp hq w h3 g1).mpr ⟨z, e, g3⟩⟩
/-- the least cut that the table shows is the cut -/
theorem z_sl_eq (ok : z_ok C) (hk : z_kn C kn N) (h : z_tb C B kn N T) (hB : 4 * 2398411 < B) {y : Nat} {ys : List Nat} (hl : (y :: ys).length ≤ 3) (hy : ∀ z ∈ y :: ys, z < 100 ∨ (100 ≤ z ∧ z < 100 + C.1 5)) {p m q pr sz : Nat} (h1 : p ≤ m) (h2 : m ≤ q) (hq : q < N) (w : z_Ms C (z_tk C) 16777216 (y :: ys) (kn p) (kn q) pr sz) (h3 : pr * B + sz < 1152921504606846976) (he : z_c C B kn T y p m + z_rs (z_c C B kn T) ys m q = z_rs (z_c C B kn T) (y :: ys) p q) (hn : ∀ j, p ≤ j → j < m → ¬ z_c C B kn T y p j + z_rs (z_c C B kn T) ys j q = z_rs (z_c C B kn T) (y :: ys) p q) :
    z_sl C y ys (kn p) (kn q) = kn m ∧ ∃ a b c d, z_My C (z_tk C) 16777216 y (kn p) (kn m) a b ∧ z_Ms C (z_tk C) 16777216 ys (kn m) (kn q) c d ∧ pr = a + c ∧ sz = b + d := by
  have hh := (z_split ok hk h hB hl hy h1 h2 hq w h3).mp he
  refine ⟨?_, hh⟩
  obtain ⟨a, b, c, d, g1, g2, rfl, rfl⟩ := hh
  refine z_lst_eq ⟨a, b, c, d, g1, g2, w⟩ ?_
  rintro j hj ⟨a', b', c', d', j1, j2, j3⟩
  obtain ⟨e1, e2⟩ := z_Ms_un ok hl w j3
  have : ∃ m', p ≤ m' ∧ m' < N ∧ j = kn m' := by
    rcases z_My_nm j1 with ⟨-, v, -⟩ | ⟨-, v⟩
    · obtain ⟨m', v1, rfl⟩ := hk.2 _ _ _ _ (by omega) v
      exact ⟨m', hk.le (by omega) (z_tk_bd ok v).1, v1, rfl⟩
    · obtain ⟨m', v1, v2, v3, -⟩ := z_tb_comp ok hk h v.1 p (by omega) rfl
      exact ⟨m', v1, v2, v3⟩
  obtain ⟨m', v1, v2, rfl⟩ := this
  have hm : m' < m := by
    rcases Nat.lt_or_ge m' m with z | z
    · exact z
    · have := hk.mono v2 z; omega
  exact hn m' v1 hm ((z_split ok hk h hB hl hy v1 (by omega) hq w h3).mpr ⟨a', b', c', d', j1, j2, e1, e2⟩)
theorem z_sl_ex (ok : z_ok C) (hk : z_kn C kn N) (h : z_tb C B kn N T) (hB : 4 * 2398411 < B) {y : Nat} {ys : List Nat} (hl : (y :: ys).length ≤ 3) (hy : ∀ z ∈ y :: ys, z < 100 ∨ (100 ≤ z ∧ z < 100 + C.1 5)) {p q pr sz : Nat} (hp : p < N) (hq : q < N) (w : z_Ms C (z_tk C) 16777216 (y :: ys) (kn p) (kn q) pr sz) (h3 : pr * B + sz < 1152921504606846976) : ∃ m, p ≤ m ∧ m ≤ q ∧ z_c C B kn T y p m + z_rs (z_c C B kn T) ys m q = z_rs (z_c C B kn T) (y :: ys) p q := by
  have e := z_rs_of ok hk h hB hl hy hp hq w h3
  obtain ⟨m, g1, g2, g3⟩ := z_rs_at (c := z_c C B kn T) (y := y) (ys := ys) (p := p) (q := q) (by omega)
  exact ⟨m, g1, g2, g3.symm⟩
end TAB2
