/-! PLAIN LAW: the simple calls, helpers -/
set_option maxRecDepth 100000
/-- the twin's call k, from s, answers v and leaves s' -/
def l_tw (k : Nat) (a1 a2 a3 a4 a5 : Int32) (s : TS) (v : Int32) (s' : TS) : Prop := ∀ Q : Int32 → TS → Prop, Q v s' → opT k a1 a2 a3 a4 a5 Q s
theorem JJ.obj {x0 : Nat} {σ : gH} {s : TS} (h : JJ x0 σ s) : ∃ fs : List Value, σ.2 x0 = some (.inr (0, fs)) := by
  obtain ⟨ow, k, ch, wy, hx, -⟩ := h
  exact ⟨_, hx.1⟩
theorem l_op_of {k : Nat} {a1 a2 a3 a4 a5 : Int32} {mc ms x0 : Nat} {σ : gH} {s : TS} (h : ∀ Q : Int32 → gH → Prop, (∀ v σ' s', l_tw k a1 a2 a3 a4 a5 s v s' → JJ x0 σ' s' → Q v σ') → opC k a1 a2 a3 a4 a5 Q mc ms x0 σ) : l_op k a1 a2 a3 a4 a5 (JJ x0) mc ms x0 σ s := by
  refine h _ (fun v σ' s' h1 h2 => ⟨h2.obj, h1 _ ⟨rfl, h2⟩⟩)
theorem l_op_of2 {k : Nat} {a1 a2 a3 a4 a5 : Int32} {mc ms x0 : Nat} {σ : gH} {s : TS} (h : ∀ Q : Int32 → gH → Prop, (∀ v σ', (∃ fs : List Value, σ'.2 x0 = some (.inr (0, fs))) → opT k a1 a2 a3 a4 a5 (fun v' s' => v = v' ∧ JJ x0 σ' s') s → Q v σ') → opC k a1 a2 a3 a4 a5 Q mc ms x0 σ) : l_op k a1 a2 a3 a4 a5 (JJ x0) mc ms x0 σ s := by
  refine h _ (fun v σ' h1 h2 => ⟨h1, h2⟩)
theorem tb_if (a : Int32) : t_b (if a = 0 then 0 else 1) := by
  by_cases h : a = 0
  · rw [if_pos h]; exact tb0
  · rw [if_neg h]; exact tb1
/-- changed -/
theorem v_ch.set {ch fr sl : Int32} (_h : v_ch ch fr sl) : v_ch 1 0 sl := ⟨tb1, tb0, fun _ => by decide⟩
theorem vp_le {x : Int32} {n m : Nat} (h : vp_in x n) (hn : n ≤ m) : vp_in x m := by
  rw [vp_in_iff] at *
  omega
theorem add_sub1 (x : Int32) : x + 1 - 1 = x := by
  rw [Int32.sub_eq_add_neg, Int32.add_assoc]
  simp
theorem cl_1le {n : Int32} {m : Nat} (h : vp_in n m) (hm : m < 2 ^ 30) : n.toNatClampNeg ≤ (n + 1).toNatClampNeg := by
  obtain ⟨j, hj, rfl, h4⟩ := vp_i h (by omega)
  rw [nI_1, h4, nI_clamp (by omega)]
  omega
/-- one name more -/
theorem v_nam.add {n st : Int32} (h : v_nam n st) (hn : ¬ n = 8) : v_nam (n + 1) st := by
  obtain ⟨h1, h2, h3⟩ := h
  obtain ⟨j, hj, rfl, h4⟩ := vp_i h1 (by decide)
  have hj8 : j ≠ 8 := fun e => hn (by rw [e]; rfl)
  rw [nI_1]
  refine ⟨vp_in_nI (by omega) (by decide), fun e => absurd e (nI_ne0 (by omega) (by omega)), fun _ => ?_⟩
  rw [nI_clamp (by omega)]
  by_cases e : j = 0
  · subst e
    rw [h2 rfl]
    exact vp_in_nI (by decide) (by decide)
  · rw [nI_clamp (by omega)] at h3
    exact vp_le (h3 (nI_ne0 (by omega) (by omega))) (by omega)
theorem v_rul.nm {nt nn nt' nn' n : Int32} {RN RM SY : Nat → Int32} (h : v_rul nt nn n RN RM SY) (h1 : nt.toNatClampNeg ≤ nt'.toNatClampNeg) (h2 : nn.toNatClampNeg ≤ nn'.toNatClampNeg) : v_rul nt' nn' n RN RM SY := by
  refine ⟨h.1, fun r hr => ?_⟩
  obtain ⟨a, b, c⟩ := h.2 r hr
  refine ⟨vp_le a h2, b, fun j hj => ?_⟩
  rcases c j hj with d | ⟨y, d, e⟩
  · exact Or.inl (vp_le d h1)
  · exact Or.inr ⟨y, vp_le d h2, e⟩
theorem v_for.nm {nt nt' : Int32} {FN FR : Nat → Int32} (h : v_for nt FN FR) (h1 : nt.toNatClampNeg ≤ nt'.toNatClampNeg) : v_for nt' FN FR := by
  intro w hw
  obtain ⟨a, b⟩ := h w hw
  refine ⟨a, fun i hi => ?_⟩
  obtain ⟨c, d⟩ := b i hi
  exact ⟨fun j hj => vp_le (c j hj) h1, d⟩
theorem v_row.nm {nt nt' n : Int32} {m : Nat} {T : Nat → Int32} (h : v_row nt n m T) (h1 : nt.toNatClampNeg ≤ nt'.toNatClampNeg) : v_row nt' n m T := ⟨h.1, fun i hi => vp_le (h.2 i hi) h1⟩
theorem v_she.nm {nt nt' : Int32} {SK SM SR : Nat → Int32} (h : v_she nt SK SM SR) (h1 : nt.toNatClampNeg ≤ nt'.toNatClampNeg) : v_she nt' SK SM SR := by
  intro j hj
  obtain ⟨a, b, c, d⟩ := h j hj
  exact ⟨a, b, fun e => (c e).nm h1, d⟩
theorem v_red.nn {a b c d n n' e : Int32} (h : v_red a b c d n e) (h1 : n ≠ 0 → n' ≠ 0) : v_red a b c d n' e := by
  obtain ⟨h1', h2, h3, h4, h5, h6, h7⟩ := h
  exact ⟨h1', h2, h3, h4, h5, fun q => ⟨(h6 q).1, (h6 q).2.1, h1 (h6 q).2.2⟩, h7⟩
theorem upd_q {f g : Nat → Int32} {n j : Nat} {v : Int32} (h : j ≠ n → f j = g j) : upd f n v j = va_up g n v j := by
  by_cases e : j = n
  · subst e; rw [upd_s, va_up_self]
  · rw [upd_n _ _ e, va_up_ne _ _ e]; exact h e
section HB
variable {T : List Nat} {ow ow' : Nat → Nat} {σ σ' : gH} {s : TS} {k : Nat → Nat} {wy : Option Nat} {x0 : Nat} {g : Nat → Value}
/-- a cell that was new is written -/
theorem hmv.fr {q : Nat} {e : gCell} (m : hmv T ow σ ow' σ') (hq : σ.2 q = Option.none) : hmv T ow σ ow' (g_up σ' q e) := by
  refine ⟨m.1, fun b c hb => ?_⟩
  obtain ⟨a1, ⟨c', a2, a3⟩, a4⟩ := m.2 b c hb
  have : b ≠ q := fun e => by rw [e, hq] at hb; cases hb
  exact ⟨a1, ⟨c', by rw [g_up_ne this]; exact a2, a3⟩, fun hn => by rw [g_up_ne this]; exact a4 hn⟩
theorem JJ_mk {s' : TS} {k' : Nat → Nat} {ch' : Int32} {wy' : Option Nat} (hx : hat ow' σ' x0 1 (cO 0 (oL g))) (e : oL g = r_fs s' k' ch' wy') (ha : r_all ow' σ' s' k' wy') (hv : v_all s') (hc : v_ch ch' (s'.1 16) (s'.1 22)) (he : v_ext s') : JJ x0 σ' s' := ⟨ow', k', ch', wy', by rw [← e]; exact hx, ha, hv, hc, he⟩
theorem i_sZo {a t j N : Nat} {f : Nat → Int32} {i v : Int32} {P : gH → Prop} (h : hat ow σ a t (cZ N f)) (hv : t_b v) (hi : i = nI j) (hj : j < N) (hN : N < 2147483648) (w : ∀ σ', hmv [t] ow σ ow σ' → hat ow σ' a t (cZ N (upd f j v)) → P σ') : c_sZ σ a i v P :=
  ⟨hv, N, f, h.1, by rw [hi]; exact vp_nI hj hN, fun _ e => by rw [e, hi, nI_clamp (by omega)]; exact w _ (hmv.rf.up h (by simp) rfl) h.set⟩
theorem i_sIo {a t j N : Nat} {f : Nat → Int32} {i v : Int32} {P : gH → Prop} (h : hat ow σ a t (cI N f)) (hi : i = nI j) (hj : j < N) (hN : N < 2147483648) (w : ∀ σ', hmv [t] ow σ ow σ' → hat ow σ' a t (cI N (upd f j v)) → P σ') : c_sI σ a i v P :=
  i_sI h.1 hi hj hN (w _ (hmv.rf.up h (by simp) rfl) h.set)
theorem i_cpy {P : gH → Prop} {a0 a n0 n1 sp dp z : Nat} {f g : Nat → Int32} {sp' dp' z' : Int32} (h0 : σ.2 a0 = some (cI n0 f)) (h1 : σ.2 a = some (cI n1 g)) (e1 : sp' = nI sp) (e2 : dp' = nI dp) (e3 : z' = nI z) (l0 : sp + z ≤ n0) (l1 : dp + z ≤ n1) (hb : n0 < 1000000 ∧ n1 < 1000000) (w : P (g_up σ a (cI n1 (va_cpy f g sp dp z)))) : c_copyI σ a0 sp' a dp' z' P := by
  have c1 : sp'.toNatClampNeg = sp := by rw [e1, nI_clamp (by omega)]
  have c2 : dp'.toNatClampNeg = dp := by rw [e2, nI_clamp (by omega)]
  have c3 : z'.toNatClampNeg = z := by rw [e3, nI_clamp (by omega)]
  refine ⟨n0, n1, f, g, h0, h1, by rw [e1]; exact nI_pos (by omega), by rw [e2]; exact nI_pos (by omega), by rw [e3]; exact nI_pos (by omega), by rw [c1, c3]; exact l0, by rw [c2, c3]; exact l1, fun σ' e => ?_⟩
  rw [e, c1, c2, c3]; exact w
/-- a row with one more -/
theorem c_with {Q : Option Nat → gH → Prop} {mc ms a n i : Nat} {f : Nat → Int32} {v x1 : Int32} (h : hat ow σ a 0 (cI n f)) (ex : x1 = nI i) (hi : i ≤ n) (hn : n ≤ 10) (hmc : 1 ≤ mc) (hms : n + 1 ≤ ms) (w : ∀ q ow' σ' f', hmv [] ow σ ow' σ' → hat ow' σ' q 0 (cI (n + 1) f') → (∀ j, j < n + 1 → f' j = if j < i then f j else if j = i then v else f (j - 1)) → Q (some q) σ') : wX0_with Q mc ms (some a) x1 v σ := by
  subst ex
  unfold wX0_with
  refine ⟨a, rfl, c_len_at (t := 0) (by decide) h.1 ?_⟩
  dsimp only
  rw [nI_1, nI_clamp (by omega)]
  refine ⟨by omega, by omega, nI_pos (by omega), by omega, i_newF (ow := ow) 0 (fun q ow1 σ1 hq m1 k1 => ?_)⟩
  refine i_cpy (sp := 0) (dp := 0) (z := i) (h.mv m1 (by simp)).1 k1.1 rfl rfl rfl (by omega) (by omega) (by omega) ?_
  have k2 := k1.set (x := cI (n + 1) (va_cpy f (fun _ => 0) 0 0 i))
  refine i_sI k2.1 rfl (j := i) (by omega) (by omega) ?_
  rw [g_up_up]
  have k3 := k1.set (x := cI (n + 1) (upd (va_cpy f (fun _ => 0) 0 0 i) i v))
  have m3 := m1.fr (e := cI (n + 1) (upd (va_cpy f (fun _ => 0) 0 0 i) i v)) hq
  have a3 := h.mv m3 (by simp)
  refine c_len_at (t := 0) (by decide) a3.1 ?_
  dsimp only
  rw [nI_1, pk_sub hi]
  refine i_cpy (sp := i) (dp := i + 1) (z := n - i) a3.1 k3.1 rfl rfl rfl (by omega) (by omega) (by omega) ?_
  rw [g_up_up]
  refine w q ow1 _ _ (m1.fr hq) k1.set (fun j hj => ?_)
  by_cases e1 : j < i
  · rw [if_pos e1, pk_cpy_out (Or.inl (by omega)), upd_n _ _ (by omega), pk_cpy_in (by omega) (by omega)]
    congr 1; omega
  · rw [if_neg e1]
    by_cases e2 : j = i
    · rw [if_pos e2, pk_cpy_out (Or.inl (by omega)), e2, upd_s]
    · rw [if_neg e2, pk_cpy_in (by omega) (by omega)]
      congr 1; omega
theorem c_isName {Q : Int32 → Prop} {x : Int32} {m : Nat} (hx : hat ow σ x0 1 (cO 0 (oL g))) (e : g 5 = .int (nI m)) (hm : m < 2 ^ 30) (w1 : vp_in x m → Q 1) (w0 : ¬ vp_in x m → Q 0) : ∃ fs : List Value, σ.2 x0 = some (.inr (0, fs)) ∧ wX0_isName Q σ x0 x :=
  ⟨_, hx.1, i_Io hx (by decide) e (in_vp hm (fun z => ⟨tb1, w1 z⟩) (fun z => ⟨tb0, w0 z⟩))⟩
theorem c_isToken {Q : Int32 → Prop} {x : Int32} {m : Nat} (hx : hat ow σ x0 1 (cO 0 (oL g))) (e : g 0 = .int (nI m)) (hm : m < 2 ^ 30) (w1 : vp_in x m → Q 1) (w0 : ¬ vp_in x m → Q 0) : ∃ fs : List Value, σ.2 x0 = some (.inr (0, fs)) ∧ wX0_isToken Q σ x0 x :=
  ⟨_, hx.1, i_Io hx (by decide) e (in_vp hm (fun z => ⟨tb1, w1 z⟩) (fun z => ⟨tb0, w0 z⟩))⟩
theorem t_isName {Q : Int32 → TS → Prop} {x : Int32} {m : Nat} (e : s.1 5 = nI m) (hm : m < 2 ^ 30) (w1 : vp_in x m → Q 1 s) (w0 : ¬ vp_in x m → Q 0 s) : wX3_isName Q x s := by
  unfold wX3_isName
  rw [e]
  exact in_vp3 hm (fun z => ⟨tb1, w1 z⟩) (fun z => ⟨tb0, w0 z⟩)
theorem t_isToken {Q : Int32 → TS → Prop} {x : Int32} {m : Nat} (e : s.1 0 = nI m) (hm : m < 2 ^ 30) (w1 : vp_in x m → Q 1 s) (w0 : ¬ vp_in x m → Q 0 s) : wX3_isToken Q x s := by
  unfold wX3_isToken
  rw [e]
  exact in_vp3 hm (fun z => ⟨tb1, w1 z⟩) (fun z => ⟨tb0, w0 z⟩)
/-- in(x, 0, N) for a number N that is written -/
theorem in_c {Q : Int32 → Prop} {x : Int32} {hi : Int64} (n : Nat) (hn : n < 2 ^ 30) (e : hi = lN n) (h1 : vp_in x (n + 1) → Q 1) (h0 : ¬ vp_in x (n + 1) → Q 0) : wX0_in Q σ x.toInt64 0 hi := by
  have : hi = (nI n).toInt64 := by rw [e, nI_l (by omega)]
  rw [this]
  exact in_vn hn h1 h0
theorem in_c3 {Q : Int32 → Prop} {x : Int32} {hi : Int64} (n : Nat) (hn : n < 2 ^ 30) (e : hi = lN n) (h1 : vp_in x (n + 1) → Q 1) (h0 : ¬ vp_in x (n + 1) → Q 0) : wX3_in Q x.toInt64 0 hi := by
  have : hi = (nI n).toInt64 := by rw [e, nI_l (by omega)]
  rw [this]
  exact in_vn3 hn h1 h0
/-- what was read, the shelves -/
def r_tail (ow : Nat → Nat) (σ : gH) (s : TS) (k : Nat → Nat) (wy : Option Nat) : Prop :=
  ((∃ X, r_cube ow σ (k 13) 12 1000 X) ∧ (∃ X, r_cube ow σ (k 14) 8 2000 X) ∧ (∃ X, r_cube ow σ (k 15) 96 3000 X)) ∧
  (r_way ow σ (s.1 17) (s.1 18) (s.1 19) wy ∧ r_tree ow σ (k 18) 120 (s.1 26).toNatClampNeg 100 (s.2.1 27) ∧ r_told ow σ (k 19) (s.1 22).toNatClampNeg (s.2.1 23) ∧ r_slips ow σ (k 20) (s.1 22).toNatClampNeg (s.2.1 23) ∧ r_words ow σ (k 21) (s.1 24).toNatClampNeg (s.2.1 25)) ∧
  r_shelves ow σ (s.2.1 51) (s.2.1 52) (s.2.1 53) (k 23)
theorem r_tail.mv (h : r_tail ow σ s k wy) (m : hmv T ow σ ow' σ') (ht : ∀ t ∈ T, (1 ≤ t ∧ t ≤ 6) ∨ (10 ≤ t ∧ t ≤ 12) ∨ (14 ≤ t ∧ t ≤ 16) ∨ (20 ≤ t ∧ t < 110) ∨ 9000 ≤ t) : r_tail ow' σ' s k wy := by
  have h0 : ∀ n, ¬ ((1 ≤ n ∧ n ≤ 6) ∨ (10 ≤ n ∧ n ≤ 12) ∨ (14 ≤ n ∧ n ≤ 16) ∨ (20 ≤ n ∧ n < 110) ∨ 9000 ≤ n) → n ∉ T := fun n h1 q => h1 (ht n q)
  obtain ⟨⟨⟨X1, b1⟩, ⟨X2, b2⟩, ⟨X3, b3⟩⟩, ⟨c1, c2, c3, c4, c5⟩, d⟩ := h
  refine ⟨⟨⟨X1, b1.mv m (h0 _ (by decide)) (fun t q => by have := ht t q; omega)⟩, ⟨X2, b2.mv m (h0 _ (by decide)) (fun t q => by have := ht t q; omega)⟩, ⟨X3, b3.mv m (h0 _ (by decide)) (fun t q => by have := ht t q; omega)⟩⟩, ⟨c1.mv m (h0 _ (by decide)), c2.mv m (h0 _ (by decide)) (fun _ w hw => h0 _ (by omega)), c3.mv m (h0 _ (by decide)) (h0 _ (by decide)) (h0 _ (by decide)), c4.mv m (h0 _ (by decide)), c5.mv m (h0 _ (by decide))⟩, d.mv m (h0 _ (by decide)) (fun t q => by have := ht t q; omega)⟩
end HB
