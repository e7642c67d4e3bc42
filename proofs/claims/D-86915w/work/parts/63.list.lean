/-! PLAIN LAW, lists, with the length of their arrays -/
set_option maxRecDepth 100000
abbrev all19 : List Nat := [0, 1, 2, 3, 4, 5, 6, 7, 8, 9, 10, 11, 12, 13, 14, 15, 16, 17, 18]
theorem mem19 {z : Nat} (h : z < 19) : z ∈ all19 := by
  simp only [all19, List.mem_cons, List.not_mem_nil, or_false]
  omega
theorem i_Pf {σ : gH} {L : List Nat} {a k ci : Nat} {fs : List Value} (fs' : List Value) {v : Value} {P : gH → Prop} (h : σ.2 a = some (cO ci fs)) (hL : ci ∈ L) (hs : fs.set k v = fs') (hk : k < fs.length) (p : P (g_up σ a (cO ci fs'))) : c_P σ L a k v P := i_P h hL hk (by rw [hs]; exact p)
/-- a list at l: n things x, in an array of N places (none: the empty array of all lists) -/
def r_lsN (ow : Nat → Nat) (σ : gH) (l tl te N n : Nat) (x : Nat → Nat) : Prop := ∃ (m : Int32) (e : Nat), hat ow σ l tl (cO 18 [.int m, .ref e, .int (nI n)]) ∧ ((N = 0 ∧ e = σ.1.1 ∧ n = 0) ∨ (10 ≤ N ∧ ∃ f, hat ow σ e te (cQ 9 N f) ∧ n ≤ N ∧ ∀ i, i < n → f i = some (x i)))
theorem r_lsN.of {ow : Nat → Nat} {σ : gH} {l tl te cap n : Nat} {x : Nat → Nat} (h : r_list ow σ l tl te cap n x) : ∃ N, N ≤ cap ∧ r_lsN ow σ l tl te N n x ∨ (n = 0 ∧ N = 0 ∧ r_lsN ow σ l tl te N n x) := by
  obtain ⟨m, e, h1, h2⟩ := h
  rcases h2 with ⟨h2, h3⟩ | ⟨N, f, h2, h3, h4, h5, h6⟩
  · exact ⟨0, Or.inr ⟨h3, rfl, m, e, h1, Or.inl ⟨rfl, h2, h3⟩⟩⟩
  · exact ⟨N, Or.inl ⟨h5, m, e, h1, Or.inr ⟨h4, f, h2, h3, h6⟩⟩⟩
theorem r_lsN.list {ow : Nat → Nat} {σ : gH} {l tl te N n cap : Nat} {x : Nat → Nat} (h : r_lsN ow σ l tl te N n x) (hN : N ≤ cap) : r_list ow σ l tl te cap n x := by
  obtain ⟨m, e, h1, h2⟩ := h
  rcases h2 with ⟨-, h2, h3⟩ | ⟨h4, f, h2, h3, h6⟩
  · exact ⟨m, e, h1, Or.inl ⟨h2, h3⟩⟩
  · exact ⟨m, e, h1, Or.inr ⟨N, f, h2, h3, h4, hN, h6⟩⟩
theorem r_lsN.mv {T : List Nat} {ow ow' : Nat → Nat} {σ σ' : gH} {l tl te N n : Nat} {x : Nat → Nat} (h : r_lsN ow σ l tl te N n x) (m : hmv T ow σ ow' σ') (ht : tl ∉ T) (ht2 : te ∉ T) : r_lsN ow' σ' l tl te N n x := by
  obtain ⟨c, e, h1, h2⟩ := h
  refine ⟨c, e, h1.mv m ht, ?_⟩
  rcases h2 with ⟨a, b, c⟩ | ⟨a, f, h3, h4⟩
  · exact Or.inl ⟨a, by rw [m.1]; exact b, c⟩
  · exact Or.inr ⟨a, f, h3.mv m ht2, h4⟩
/-- how long the array is behind an addition -/
def lsN (N n : Nat) : Nat := if n < N then N else if N = 0 then 10 else N + N / 2
section LISTN
variable {ow : Nat → Nat} {σ : gH} {l tl te N n : Nat} {x : Nat → Nat}
theorem ln_size (h : r_lsN ow σ l tl te N n x) {Q : Int32 → Prop} (q : Q (nI n)) : ∃ fs : List Value, σ.2 l = some (.inr (18, fs)) ∧ wJ2_size Q σ l := by
  obtain ⟨m, e, h1, -⟩ := h
  exact ⟨_, h1.1, i_I h1.1 (by decide) rfl q⟩
theorem ln_get (h : r_lsN ow σ l tl te N n x) {Q : Option Nat → Prop} {i : Nat} {v : Int32} (hv : v = nI i) (hi : i < n) (hN : N < 2147483648) (q : Q (some (x i))) : ∃ fs : List Value, σ.2 l = some (.inr (18, fs)) ∧ wJ2_get Q σ l v := by
  obtain ⟨m, e, h1, h2⟩ := h
  rcases h2 with ⟨-, -, h2⟩ | ⟨h3, f, h2, h4, h5⟩
  · omega
  subst hv
  refine ⟨_, h1.1, i_I h1.1 (by decide) rfl ?_⟩
  refine ⟨fun z => absurd z (nI_pos (by omega)), fun _ => ⟨fun _ => ⟨_, h1.1, i_R h1.1 (by decide) rfl ⟨_, rfl, i_aR h2.1 rfl (by omega) (by omega) (by rw [h5 i hi]; exact q)⟩⟩, fun z => absurd (nI_lt hi (by omega)) z⟩⟩
theorem shr1 {n : Nat} (h : n < 2147483648) : nI n >>> ((1 : Int32) &&& 31) = nI (n / 2) := by
  exact pk_shrN h _ 1 (by decide)
theorem ln_add (h : r_lsN ow σ l tl te N n x) {Q : Int32 → gH → Prop} {mc ms a ci : Nat} {fs : List Value} (ht : tl ≠ te) (hN : N < 100000) (hmc : n = N → 1 ≤ mc) (hms : n = N → lsN N n ≤ ms) (ha : σ.2 a = some (.inr (ci, fs))) (hci : ci < 19) (hxs : ∀ i, i < n → ∃ ci fs, ci < 19 ∧ σ.2 (x i) = some (.inr (ci, fs)))
    (hQ : ∀ ow' σ', hmv [tl, te] ow σ ow' σ' → r_lsN ow' σ' l tl te (lsN N n) (n + 1) (va_up x n a) → Q 1 σ') : wJ2_add Q mc ms l (some a) σ := by
  obtain ⟨m, e, h1, h2⟩ := h
  have hnN : n ≤ N := by
    rcases h2 with ⟨a, b, c⟩ | ⟨a, f, b, c, d⟩ <;> omega
  refine i_I h1.1 (by decide) rfl (i_Pf [.int (m + 1), .ref e, .int (nI n)] h1.1 (by decide) rfl (by simp) ?_)
  -- the count of changes
  have m1 : hmv [tl, te] ow σ ow (g_up σ l (cO 18 [.int (m + 1), .ref e, .int (nI n)])) := hmv.rf.at h1 (by simp) rfl
  have h1' : hat ow (g_up σ l (cO 18 [.int (m + 1), .ref e, .int (nI n)])) l tl (cO 18 [.int (m + 1), .ref e, .int (nI n)]) := h1.set
  obtain ⟨σ1, hσ1⟩ : ∃ σ1, σ1 = g_up σ l (cO 18 [.int (m + 1), .ref e, .int (nI n)]) := ⟨_, rfl⟩
  rw [← hσ1] at m1 h1' ⊢
  have keep : ∀ y c2 f2, σ.2 y = some (.inr (c2, f2)) → c2 < 19 → ∃ c3 f3, c3 < 19 ∧ σ1.2 y = some (.inr (c3, f3)) := by
    intro y c2 f2 hy hc
    rw [hσ1]
    by_cases ey : y = l
    · subst ey; exact ⟨18, _, by decide, g_up_same _ _ _⟩
    · exact ⟨c2, f2, hc, by rw [g_up_ne ey]; exact hy⟩
  obtain ⟨ca, fa, hca, haa⟩ := keep a ci fs ha hci
  have s1 : σ1.1 = σ.1 := by rw [hσ1]
  refine i_R h1'.1 (by decide) rfl (i_I h1'.1 (by decide) rfl ⟨_, h1'.1, mc, ms, by omega, by omega, _, rfl, ?_⟩)
  -- from the store on
  have store : ∀ uc us e' N' (f' : Nat → Option Nat) ow2 σ2, hmv [tl, te] ow σ ow2 σ2 → hat ow2 σ2 l tl (cO 18 [.int (m + 1), .ref e', .int (nI n)]) → hat ow2 σ2 e' te (cQ 9 N' f') → (∃ c3 f3, c3 < 19 ∧ σ2.2 a = some (.inr (c3, f3))) → n < N' → 10 ≤ N' → N' < 2147483648 → (∀ i, i < n → f' i = some (x i)) → N' = lsN N n → wJ2_add_2_11 (fun σ_5 => Q 1 σ_5) mc ms uc us l (some a) (some e') (nI n) σ2 := by
    intro uc us e' N' f' ow2 σ2 g1 g2 g3 g4 g5 g6 g7 g8 g9
    obtain ⟨c3, f3, g4, g4'⟩ := g4
    refine ⟨_, rfl, i_sR g3.1 rfl g5 g7 (fun v hv => by cases hv; exact ⟨c3, f3, mem19 g4, g4'⟩) ?_⟩
    have m2 : hmv [tl, te] ow σ ow2 (g_up σ2 e' (cQ 9 N' (va_up f' n (some a)))) := g1.up g3 (by simp) rfl
    have q2 : hat ow2 (g_up σ2 e' (cQ 9 N' (va_up f' n (some a)))) l tl (cO 18 [.int (m + 1), .ref e', .int (nI n)]) := g2.up g3 ht
    have q3 : hat ow2 (g_up σ2 e' (cQ 9 N' (va_up f' n (some a)))) e' te (cQ 9 N' (va_up f' n (some a))) := g3.set
    refine i_Pf [.int (m + 1), .ref e', .int (nI n + 1)] q2.1 (by decide) rfl (by simp) (hQ ow2 _ (m2.up q2 (by simp) rfl) ?_)
    refine ⟨m + 1, e', ⟨by rw [g_up_same, nI_1], q2.2⟩, Or.inr ⟨by omega, va_up f' n (some a), ?_, by omega, fun i hi => ?_⟩⟩
    · rw [← g9]
      exact q3.up q2 (Ne.symm ht)
    · by_cases e1 : i = n
      · subst e1; rw [va_up_self, va_up_self]
      · rw [va_up_ne _ _ e1, va_up_ne _ _ e1]; exact g8 i (by omega)
  rcases h2 with ⟨e1, e2, e3⟩ | ⟨e1, f, h2, h3, h4⟩
  · -- the first thing
    subst e1
    subst e3
    have es : e = σ1.1.1 := by rw [s1]; exact e2
    have cl : ∀ P : Int32 → Prop, P 0 → c_len σ1 e P := fun P p => by rw [es]; exact c_len_e p
    refine cl _ (br_p nI_0 ⟨_, h1'.1, mc, ms, by omega, by omega, i_I h1'.1 (by decide) rfl ⟨_, h1'.1, mc, ms, by omega, by omega, i_R h1'.1 (by decide) rfl ⟨_, rfl, cl _ (br_n (by decide) (i_R h1'.1 (by decide) rfl (br_p (by rw [es]) ?_)))⟩⟩⟩)
    refine ⟨fun z => absurd z (by decide), fun _ => ?_⟩
    have hm1 := hmc rfl
    have hm2 := hms rfl
    have l10 : lsN 0 0 = 10 := rfl
    refine ⟨by omega, by show 0 + 10 ≤ ms; omega, by decide, by decide, c_new_i fun q hq => ?_⟩
    have hql : hat (va_up ow q te) (g_up σ1 q (cQ 9 10 (fun _ => none))) l tl (cO 18 [.int (m + 1), .ref e, .int (nI 0)]) := h1'.fresh hq
    have hqq : hat (va_up ow q te) (g_up σ1 q (cQ 9 10 (fun _ => none))) q te (cQ 9 10 (fun _ => none)) := hat.nw te
    have m2 := m1.new te (e := cQ 9 10 (fun _ => none)) hq
    refine i_Pf [.int (m + 1), .ref q, .int (nI 0)] hql.1 (by decide) rfl (by simp) ?_
    refine store _ _ q 10 (fun _ => none) (va_up ow q te) _ (m2.up hql (by simp) rfl) hql.set (hqq.up hql (Ne.symm ht)) ?_ (by decide) (by decide) (by decide) (fun i hi => by omega) rfl
    have naq : a ≠ q := fun z => by rw [← z, haa] at hq; cases hq
    by_cases ea : a = l
    · subst ea; exact ⟨18, _, by decide, g_up_same _ _ _⟩
    · exact ⟨ca, fa, hca, by rw [g_up_ne ea, g_up_ne naq]; exact haa⟩
  · have h2' : hat ow σ1 e te (cQ 9 N f) := by rw [hσ1]; exact h2.up h1 (Ne.symm ht)
    refine c_len_at (by decide) h2'.1 ?_
    refine pk_eq n N (fun eN => ?_) (fun eN => store 0 0 e N f ow σ1 m1 h1' h2' ⟨ca, fa, hca, haa⟩ (by omega) e1 (by omega) h4 (by unfold lsN; rw [if_pos (by omega)])) rfl rfl (by omega) (by omega)
    subst eN
    have hm1 := hmc rfl
    have hm2 := hms rfl
    have lg : lsN n n = n + n / 2 := by unfold lsN; rw [if_neg (by omega), if_neg (by omega)]
    refine ⟨_, h1'.1, mc, ms, by omega, by omega, i_I h1'.1 (by decide) rfl ⟨_, h1'.1, mc, ms, by omega, by omega, i_R h1'.1 (by decide) rfl ⟨_, rfl, c_len_at (by decide) h2'.1 (br_p ?_ ?_)⟩⟩⟩
    · rw [← nI_0]; exact nI_lt (by show 0 < n; omega) (by show n < _; omega)
    · show wJ3_newLength _ (nI n) (nI n + 1 - nI n) (nI n >>> ((1 : Int32) &&& 31)) σ1
      rw [shr1 (by omega), nI_1, show nI (n + 1) - nI n = nI 1 by rw [Nat.add_comm]; exact nI_subk 1 n]
      refine pk_lt 1 (n / 2) (fun z => ?_) (fun z => by omega) rfl rfl (by decide) (by omega)
      intro y ey
      rw [nI_add] at ey
      subst ey
      refine (br_n (nI_nle (by omega) (by omega)) (br_n (fun z => ?_) ?_))
      · have := (nI_ltI (a := 2147483639) (b := n + n / 2) (by decide) (by omega)).mp z
        omega
      refine i_R h1'.1 (by decide) rfl ⟨mc, ms, by omega, by omega, _, rfl, ⟨_, _, h2'.1⟩, mc, ms, by omega, by omega, br_p rfl ?_⟩
      rw [nI_clamp (by omega)]
      refine ⟨by omega, by omega, nI_pos (by omega), by omega, c_new_i fun q hq => ⟨_, rfl, ?_⟩⟩
      have hql : hat (va_up ow q te) (g_up σ1 q (cQ 9 (n + n / 2) (fun _ => none))) l tl (cO 18 [.int (m + 1), .ref e, .int (nI n)]) := h1'.fresh hq
      have hqe : hat (va_up ow q te) (g_up σ1 q (cQ 9 (n + n / 2) (fun _ => none))) e te (cQ 9 n f) := h2'.fresh hq
      have hqq : hat (va_up ow q te) (g_up σ1 q (cQ 9 (n + n / 2) (fun _ => none))) q te (cQ 9 (n + n / 2) (fun _ => none)) := hat.nw te
      have m2 := m1.new te (e := cQ 9 (n + n / 2) (fun _ => none)) hq
      refine c_len_at (by decide) hqe.1 ?_
      refine ⟨fun z => absurd z (nI_nlt (by show n ≤ n + n / 2; omega) (by omega)), fun _ => ?_⟩
      refine ⟨n, n + n / 2, f, fun _ => none, hqe.1, hqq.1, fun i y hi hy => ?_, by decide, by decide, nI_pos (by show n < _; omega), ?_, ?_, fun σ3 e3 => ?_⟩
      · rw [nI_clamp (by show n < _; omega)] at hi
        rw [show (0 : Int32).toNatClampNeg + i = i by rw [show (0 : Int32).toNatClampNeg = 0 from rfl]; omega, h4 i hi] at hy
        cases hy
        obtain ⟨c2, f2, a1, a2⟩ := hxs i hi
        obtain ⟨c3, f3, a3, a4⟩ := keep _ c2 f2 a2 a1
        have : x i ≠ q := fun z => by rw [← z, a4] at hq; cases hq
        exact ⟨c3, f3, a3, by rw [g_up_ne this]; exact a4⟩
      · rw [nI_clamp (by show n < _; omega)]; show 0 + n ≤ n; omega
      · rw [nI_clamp (by show n < _; omega)]; show 0 + n ≤ n + n / 2; omega
      · rw [e3, nI_clamp (by show n < _; omega)]
        have hq3 : hat (va_up ow q te) (g_up (g_up σ1 q (cQ 9 (n + n / 2) (fun _ => none))) q (cQ 9 (n + n / 2) (va_cpy f (fun _ => none) (0 : Int32).toNatClampNeg (0 : Int32).toNatClampNeg n))) q te (cQ 9 (n + n / 2) (va_cpy f (fun _ => none) (0 : Int32).toNatClampNeg (0 : Int32).toNatClampNeg n)) := hqq.set
        have hl3 := hql.up hqq ht (x := cQ 9 (n + n / 2) (va_cpy f (fun _ => none) (0 : Int32).toNatClampNeg (0 : Int32).toNatClampNeg n))
        have m3 := m2.up hqq (e := cQ 9 (n + n / 2) (va_cpy f (fun _ => none) (0 : Int32).toNatClampNeg (0 : Int32).toNatClampNeg n)) (by simp) rfl
        refine i_Pf [.int (m + 1), .ref q, .int (nI n)] hl3.1 (by decide) rfl (by simp) ?_
        refine store _ _ q (n + n / 2) _ (va_up ow q te) _ (m3.up hl3 (by simp) rfl) hl3.set (hq3.up hl3 (Ne.symm ht)) ?_ (by omega) (by omega) (by omega) (fun i hi => ?_) lg.symm
        · have naq : a ≠ q := fun z => by rw [← z, haa] at hq; cases hq
          by_cases ea : a = l
          · subst ea; exact ⟨18, _, by decide, g_up_same _ _ _⟩
          · exact ⟨ca, fa, hca, by rw [g_up_ne ea, g_up_ne naq, g_up_ne naq]; exact haa⟩
        · show va_cpy f (fun _ => none) 0 0 n i = _
          rw [pk_cpy_in (by omega) (by omega), show 0 + (i - 0) = i by omega]
          exact h4 i hi
end LISTN
