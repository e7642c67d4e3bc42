/-! PLAIN LAW, the component: what a walk through the chart lays -/
set_option maxRecDepth 100000
abbrev TW : List Nat := [1, 7, 13, 17] ++ List.range' 120 7
theorem memW {t : Nat} : t ∈ TW ↔ t = 1 ∨ t = 7 ∨ t = 13 ∨ t = 17 ∨ (120 ≤ t ∧ t < 127) := by
  simp only [TW, List.mem_append, List.mem_range'_1, List.mem_cons, List.not_mem_nil, or_false]
  omega
/-- room after k more -/
def cpN : Nat → Nat → Nat → Nat
  | N, _, 0 => N
  | N, n, k + 1 => cpN (lsN N n) (n + 1) k
theorem lsN_ge (N n : Nat) : N ≤ lsN N n := by
  unfold lsN
  by_cases e : n < N
  · rw [if_pos e]; omega
  · rw [if_neg e]
    by_cases e2 : N = 0
    · rw [if_pos e2]; omega
    · rw [if_neg e2]; omega
theorem lsN_bd {N n : Nat} (h : n ≤ N) : lsN N n ≤ max N (10 + 2 * n) ∧ n + 1 ≤ lsN N n ∨ N = 1 := by
  unfold lsN
  by_cases e : n < N
  · rw [if_pos e]; omega
  · rw [if_neg e]
    by_cases e2 : N = 0
    · rw [if_pos e2]; omega
    · rw [if_neg e2]; omega
theorem cpN_add : ∀ (k l N n : Nat), cpN N n (k + l) = cpN (cpN N n k) (n + k) l := by
  intro k
  induction k with
  | zero => intro l N n; rw [Nat.zero_add]; rfl
  | succ k ih =>
    intro l N n
    rw [show k + 1 + l = (k + l) + 1 by omega]
    show cpN (lsN N n) (n + 1) (k + l) = cpN (cpN (lsN N n) (n + 1) k) (n + (k + 1)) l
    rw [ih, show n + 1 + k = n + (k + 1) by omega]
theorem cpN_ge : ∀ (k N n : Nat), N ≤ cpN N n k := by
  intro k
  induction k with
  | zero => intro N n; exact Nat.le_refl _
  | succ k ih =>
    intro N n
    have := ih (lsN N n) (n + 1)
    have := lsN_ge N n
    show N ≤ cpN (lsN N n) (n + 1) k
    omega
def rmN (N n : Nat) : Prop := N = 0 ∧ n = 0 ∨ (10 ≤ N ∧ n ≤ N)
theorem rmN.nx {N n : Nat} (h : rmN N n) : rmN (lsN N n) (n + 1) ∧ lsN N n ≤ max N (10 + 2 * n) := by
  unfold rmN at h ⊢
  unfold lsN
  by_cases e : n < N
  · rw [if_pos e]; omega
  · rw [if_neg e]
    by_cases e2 : N = 0
    · rw [if_pos e2]; omega
    · rw [if_neg e2]; omega
theorem cpN_bd : ∀ (k N n : Nat), rmN N n → cpN N n k ≤ max N (10 + 2 * (n + k)) := by
  intro k
  induction k with
  | zero => intro N n h; show N ≤ _; omega
  | succ k ih =>
    intro N n h
    have a := h.nx
    have b := ih (lsN N n) (n + 1) a.1
    show cpN (lsN N n) (n + 1) k ≤ _
    omega
/-- a slip as it lies in the list -/
def cSl (C : Cf) (ow : Nat → Nat) (σ : gH) (kc : Nat → Nat) (x0 a k i w pr : Nat) : Prop := ∃ f q t fm nu, hat ow σ a 0 (sC k (kc 0) x0 i f q t fm nu) ∧ (1 ≤ k ∧ k ≤ 7) ∧ t < C.1 0 ∧ i ≤ C.1 34 ∧ (k = 2 → i < C.1 34) ∧ ((k = 4 → hat ow σ fm 0 (fCell C 0 nu)) ∧ (k = 5 → hat ow σ fm 0 (fCell C 1 nu))) ∧ (w = sTold k t nu ∧ w < 1000 ∧ i < 1000) ∧ pr = if k = 1 ∧ i = C.1 34 ∧ 1 < C.1 33 then (if C.1 33 = 2 then 1 else 0) else sPr C k i t nu
theorem cSl.mv {C : Cf} {T : List Nat} {ow ow' : Nat → Nat} {σ σ' : gH} {kc : Nat → Nat} {x0 a k i w pr : Nat} (h : cSl C ow σ kc x0 a k i w pr) (m : hmv T ow σ ow' σ') (ht : 0 ∉ T) : cSl C ow' σ' kc x0 a k i w pr := by
  obtain ⟨f, q, t, fm, nu, h1, h2, h3, h4, h5, h6, h7⟩ := h
  exact ⟨f, q, t, fm, nu, h1.mv m ht, h2, h3, h4, h5, ⟨fun e => (h6.1 e).mv m ht, fun e => (h6.2 e).mv m ht⟩, h7⟩
theorem cSl.obj {C : Cf} {ow : Nat → Nat} {σ : gH} {kc : Nat → Nat} {x0 a k i w pr : Nat} (h : cSl C ow σ kc x0 a k i w pr) : ∃ ci fs, ci < 19 ∧ σ.2 a = some (.inr (ci, fs)) := by
  obtain ⟨f, q, t, fm, nu, h1, -⟩ := h
  obtain ⟨ci, fs, e, h2, -⟩ := sC_at k (kc 0) x0 i f q t fm nu
  refine ⟨ci, fs, ?_, ?_⟩
  · simp only [List.mem_cons, List.not_mem_nil, or_false] at h2; omega
  · rw [h1.1, e]
/-- the object's fields -/
def oW (C : Cf) (kk : Nat → Nat) (fs : List Value) : Prop := fs.length = 24 ∧ oF C kk fs ∧ fs[18]? = some (.ref (kk 18)) ∧ fs[19]? = some (.ref (kk 19)) ∧ fs[21]? = some (.ref (kk 21))
theorem set_o {fs : List Value} {k j : Nat} {v : Value} (h : k ≠ j) : (fs.set j v)[k]? = fs[k]? := List.getElem?_set_ne (fun e => h e.symm)
theorem oW.set {C : Cf} {kk : Nat → Nat} {fs : List Value} (h : oW C kk fs) (v : Value) : oW C kk (fs.set 22 v) := by
  obtain ⟨h0, ⟨⟨a1, a2, a3, a4, a5, a6⟩, ⟨b1, b2, b3, b4, b5⟩, c1, c2, c3⟩, h1, h2, h3⟩ := h
  refine ⟨by rw [List.length_set]; exact h0, ⟨⟨?_, ?_, ?_, ?_, ?_, ?_⟩, ⟨?_, ?_, ?_, ?_, ?_⟩, ?_, ?_, ?_⟩, ?_, ?_, ?_⟩ <;> rw [set_o (by decide)] <;> assumption
def wL (C : Cf) (ow : Nat → Nat) (σ : gH) (x0 : Nat) (kk kc : Nat → Nat) (N : Nat) (st : St) : Prop := rmN N st.1.1 ∧ N < 90000 ∧ ∃ xs, r_lsN ow σ (kk 19) 13 17 N st.1.1 xs ∧ ∀ j, j < st.1.1 → ∃ k i w pr, cSl C ow σ kc x0 (xs j) k i w pr ∧ st.2.1 (4 * j) = nI k ∧ st.2.1 (4 * j + 1) = nI i ∧ st.2.1 (4 * j + 2) = nI w ∧ st.2.1 (4 * j + 3) = nI pr
def wT (ow : Nat → Nat) (σ : gH) (kk : Nat → Nat) (st : St) : Prop := (∃ f, hat ow σ (kk 21) 7 (cI 300 f) ∧ ∀ i, i < st.1.2.1 → f i = st.2.2.1 i) ∧ ∃ tc f, hat ow σ (kk 18) 120 (cO 1 [.ref tc, .int (nI st.1.2.2)]) ∧ hat ow σ tc 121 (cQ 3 5 f) ∧ ∀ w, w < 5 → ∃ b h, f w = some b ∧ hat ow σ b (122 + w) (cI 100 h) ∧ ∀ i, i < 100 → h i = st.2.2.2 (5 * i + w)
/-- the walk's state -/
def wS (C : Cf) (ow : Nat → Nat) (σ : gH) (x0 : Nat) (kk kc : Nat → Nat) (gw : Nat) (fs0 : List Value) (N : Nat) (st : St) : Prop := oW C kk fs0 ∧ hat ow σ gw 206 (cO 16 [.ref (kc 0), .ref x0]) ∧ hat ow σ x0 1 (cO 0 (fs0.set 22 (.int (nI st.1.2.1)))) ∧ wL C ow σ x0 kk kc N st ∧ wT ow σ kk st
section WLK
variable {C : Cf} {ow ow' : Nat → Nat} {σ σ' : gH} {x0 : Nat} {kk kc ru xs : Nat → Nat} {X2 X3 : cX} {Nc ns gw N : Nat} {fs0 : List Value} {st : St}
theorem cE.mvW (h : cE C ow σ x0 kk kc) (m : hmv TW ow σ ow' σ') (hx : ∃ fs, hat ow' σ' x0 1 (cO 0 fs) ∧ oF C kk fs) : cE C ow' σ' x0 kk kc := by
  obtain ⟨a0, -, ⟨f, b1, b2⟩, ⟨pf, c1, c2⟩, d, ⟨g, e1, e2⟩, w⟩ := h
  refine ⟨a0, hx, ⟨f, b1.mv m (by decide), b2⟩, ⟨pf, c1.mv m (by decide), fun w hw => ?_⟩, fun w hw => ?_, ⟨g, e1.mv m (by decide), e2⟩, w.mv m (by decide)⟩
  · obtain ⟨b, g, p1, p2, p3⟩ := c2 w hw
    exact ⟨b, g, p1, p2.mv m (by rw [memW]; omega), p3⟩
  · obtain ⟨N, fo, n1, n2, n3⟩ := d w hw
    exact ⟨N, fo, n1, n2.mv m (by rw [memW]; omega) (by rw [memW]; omega), fun i hi => (n3 i hi).mv m (by decide)⟩
theorem cFu.mvW (ok : z_ok C) (h : cFu C ow σ x0 kk kc Nc ns xs ru X2 X3) (m : hmv TW ow σ ow' σ') (hx : ∃ fs, hat ow' σ' x0 1 (cO 0 fs) ∧ oF C kk fs) : cFu C ow' σ' x0 kk kc Nc ns xs ru X2 X3 := by
  have o := ok.1
  obtain ⟨⟨⟨hE, hch, fk, hk1, hk2⟩, hMo, ⟨hL, hns, hd⟩, hSk, hSg, X1, hX1, hRd⟩, ⟨⟨NN, hN, hRl⟩, hRu⟩, hC, hG⟩ := h
  refine ⟨⟨⟨hE.mvW m hx, hch.mv m (by decide), fk, hk1.mv m (by decide), hk2⟩, hMo.mv m (by decide), ⟨hL.mv m (by decide) (by decide) (by decide), hns, fun i hi k f q t pr fo a b c => (hd i hi k f q t pr fo a b c).mv m (by decide)⟩, hSk.mv m (by decide) (by intro t ht; rw [memW] at ht; omega), hSg.mv m (by decide) (by intro t ht; rw [memW] at ht; omega), X1, hX1.mv m (by decide) (by intro t ht; rw [memW] at ht; omega), hRd⟩, ⟨⟨NN, hN, hRl.mv m (by decide) (by decide)⟩, fun r hr => ?_⟩, ⟨hC.1.mv m (by decide) (by intro t ht; rw [memW] at ht; omega), hC.2.mv m (by decide) (by intro t ht; rw [memW] at ht; omega)⟩, hG⟩
  obtain ⟨so, wh, f, g, h1, h2, h3, h4⟩ := hRu r hr
  exact ⟨so, wh, f, g, h1.mv m (by rw [memW]; omega), h2.mv m (by rw [memW]; omega), h3.mv m (by rw [memW]; omega), h4⟩
/-- a slip is added to the list -/
theorem w_add {R : Nat → Nat → gH → Prop} {mc ms uc us a k i w pr : Nat} (ok : z_ok C) (hF : cFu C ow σ x0 kk kc Nc ns xs ru X2 X3) (hW : wS C ow σ x0 kk kc gw fs0 N st) (hsl : cSl C ow σ kc x0 a k i w pr) (hn : st.1.1 < 40000) (hu : uc + 1 ≤ mc) (hs : us + 4 * lsN N st.1.1 ≤ ms + 4 * N)
    (hw : ∀ ow' σ' uc' us', hmv TW ow σ ow' σ' → cFu C ow' σ' x0 kk kc Nc ns xs ru X2 X3 → wS C ow' σ' x0 kk kc gw fs0 (lsN N st.1.1) (y_sl k i w pr st) → uc' ≤ uc + 1 → us' + 4 * N ≤ us + 4 * lsN N st.1.1 → R uc' us' σ') : ∃ fs : List Value, σ.2 (kk 19) = some (.inr (18, fs)) ∧ ∃ c b : Nat, uc + c ≤ mc ∧ us + b ≤ ms ∧ wJ2_add (fun _ σ' => R (uc + c) (us + b) σ') c b (kk 19) (some a) σ := by
  obtain ⟨w0, w1, w2, ⟨l0, l1, xl, l2, l3⟩, w4⟩ := hW
  obtain ⟨m, e, hh, hh2⟩ := id l2
  have rm := l0.nx
  have ge := lsN_ge N st.1.1
  have sub : ∀ t ∈ [13, 17], t ∈ TW := by decide
  have fin : ∀ c b, c ≤ 1 → b + 4 * N ≤ 4 * lsN N st.1.1 → ∀ ow' σ', hmv [13, 17] ow σ ow' σ' → r_lsN ow' σ' (kk 19) 13 17 (lsN N st.1.1) (st.1.1 + 1) (va_up xl st.1.1 a) → R (uc + c) (us + b) σ' := by
    intro c b hc hb ow' σ' m1 hr
    have m1' : hmv TW ow σ ow' σ' := m1.sub sub
    have x1 := w2.mv m1 (by decide)
    refine hw ow' σ' (uc + c) (us + b) m1' (hF.mvW ok m1' ⟨_, x1, (w0.set _).2.1⟩) ⟨w0, w1.mv m1 (by decide), x1, ⟨rm.1, by omega, va_up xl st.1.1 a, hr, fun j hj => ?_⟩, ?_⟩ (by omega) (by omega)
    · by_cases ej : j = st.1.1
      · subst ej
        refine ⟨k, i, w, pr, by rw [va_up_self]; exact hsl.mv m1 (by decide), ?_, ?_, ?_, ?_⟩
        · show va_up (va_up (va_up (va_up st.2.1 (4 * st.1.1) (nI k)) (4 * st.1.1 + 1) (nI i)) (4 * st.1.1 + 2) (nI w)) (4 * st.1.1 + 3) (nI pr) (4 * st.1.1) = _
          rw [va_up_ne _ _ (by omega), va_up_ne _ _ (by omega), va_up_ne _ _ (by omega), va_up_self]
        · show va_up (va_up (va_up (va_up st.2.1 (4 * st.1.1) (nI k)) (4 * st.1.1 + 1) (nI i)) (4 * st.1.1 + 2) (nI w)) (4 * st.1.1 + 3) (nI pr) (4 * st.1.1 + 1) = _
          rw [va_up_ne _ _ (by omega), va_up_ne _ _ (by omega), va_up_self]
        · show va_up (va_up (va_up (va_up st.2.1 (4 * st.1.1) (nI k)) (4 * st.1.1 + 1) (nI i)) (4 * st.1.1 + 2) (nI w)) (4 * st.1.1 + 3) (nI pr) (4 * st.1.1 + 2) = _
          rw [va_up_ne _ _ (by omega), va_up_self]
        · show va_up (va_up (va_up (va_up st.2.1 (4 * st.1.1) (nI k)) (4 * st.1.1 + 1) (nI i)) (4 * st.1.1 + 2) (nI w)) (4 * st.1.1 + 3) (nI pr) (4 * st.1.1 + 3) = _
          rw [va_up_self]
      · have hj' : j < st.1.1 := by
          have : j < st.1.1 + 1 := hj
          omega
        obtain ⟨k', i', w', pr', s1, s2, s3, s4, s5⟩ := l3 j hj'
        have eq : ∀ d, d < 4 → (y_sl k i w pr st).2.1 (4 * j + d) = st.2.1 (4 * j + d) := by
          intro d hd
          show va_up (va_up (va_up (va_up st.2.1 (4 * st.1.1) (nI k)) (4 * st.1.1 + 1) (nI i)) (4 * st.1.1 + 2) (nI w)) (4 * st.1.1 + 3) (nI pr) (4 * j + d) = _
          rw [va_up_ne _ _ (by omega), va_up_ne _ _ (by omega), va_up_ne _ _ (by omega), va_up_ne _ _ (by omega)]
        refine ⟨k', i', w', pr', by rw [va_up_ne _ _ ej]; exact s1.mv m1 (by decide), ?_, ?_, ?_, ?_⟩
        · exact (eq 0 (by decide)).trans s2
        · exact (eq 1 (by decide)).trans s3
        · exact (eq 2 (by decide)).trans s4
        · exact (eq 3 (by decide)).trans s5
    · obtain ⟨⟨f, f1, f2⟩, tc, f', t1, t2, t3⟩ := w4
      refine ⟨⟨f, f1.mv m1 (by decide), f2⟩, tc, f', t1.mv m1 (by decide), t2.mv m1 (by decide), fun w hw => ?_⟩
      obtain ⟨b, h, q1, q2, q3⟩ := t3 w hw
      exact ⟨b, h, q1, q2.mv m1 (by simp only [List.mem_cons, List.not_mem_nil, or_false]; omega), q3⟩
  obtain ⟨ci, fs, hci, ha⟩ := hsl.obj
  have hxs : ∀ j, j < st.1.1 → ∃ ci fs, ci < 19 ∧ σ.2 (xl j) = some (.inr (ci, fs)) := fun j hj => by
    obtain ⟨k', i', w', pr', s1, -⟩ := l3 j hj
    exact s1.obj
  by_cases e : st.1.1 = N
  · have c1 : lsN N st.1.1 + 4 * N ≤ 4 * lsN N st.1.1 := by
      unfold rmN at l0
      unfold lsN
      rw [if_neg (by omega)]
      by_cases e2 : N = 0
      · rw [if_pos e2]; omega
      · rw [if_neg e2]; omega
    exact ⟨_, hh.1, 1, lsN N st.1.1, by omega, by omega, ln_add l2 (by decide) (by omega) (fun _ => Nat.le_refl _) (fun _ => Nat.le_refl _) ha hci hxs (fun ow' σ' m1 hr => fin 1 _ (Nat.le_refl _) c1 ow' σ' m1 hr)⟩
  · exact ⟨_, hh.1, 0, 0, by omega, by omega, ln_add l2 (by decide) (by omega) (fun z => absurd z e) (fun z => absurd z e) ha hci hxs (fun ow' σ' m1 hr => fin 0 0 (by omega) (by omega) ow' σ' m1 hr)⟩
end WLK
