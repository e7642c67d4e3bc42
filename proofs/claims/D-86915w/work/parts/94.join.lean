/-! PLAIN LAW: the configuration and both sides -/
set_option maxRecDepth 100000
def v_18 (s : TS) : Prop := vp_in (s.1 18) 1000000 ∧ vp_in (s.1 19) 1000000
theorem cf_tC {s s' : TS} {wh n o p w : Nat} {tx : Nat → Nat} {L : List Nat} (h : v_all s) (h18 : v_18 s) (m : tfr L s s') (hL : ∀ k ∈ [0, 3, 4, 5, 6, 7, 13, 18, 19, 1, 2, 8, 9, 10, 11, 12], k ∉ L) (e33 : s'.1 33 = nI wh) (e34 : s'.1 34 = nI n) (e35 : s'.1 35 = nI o ∨ (s'.1 35 = -4 ∧ o = 0)) (e36 : s'.1 36 = nI p) (e37 : s'.1 37 = nI w) (hb : wh < 1000000 ∧ n < 1000000 ∧ o < 1000000 ∧ p < 1000000 ∧ w < 1000000) (etx : ∀ i, i < n → s'.2.1 15 i = nI (tx i)) : tC (cf s wh n o p w tx) s' := by
  obtain ⟨⟨⟨t1, t2⟩, ⟨⟨p1, p2⟩, p3, p4⟩, ⟨n1, n2, n3⟩, ⟨r1, r2⟩, f, tb13, -⟩, -⟩ := h
  have a0 := vp_cl t1 (by decide)
  have a3 := vp_cl p1 (by decide)
  have a4 := vp_cl p3 (by decide)
  have a5 := vp_cl n1 (by decide)
  have a7 := vp_cl r1 (by decide)
  have a18 := vp_cl h18.1 (by decide)
  have a19 := vp_cl h18.2 (by decide)
  have g0 : (s.1 0).toNatClampNeg < 13 := a0.1
  have g5 : (s.1 5).toNatClampNeg < 9 := a5.1
  have a6 : (s.1 6).toNatClampNeg < 9 ∧ s.1 6 = nI (s.1 6).toNatClampNeg := by
    by_cases e : s.1 5 = 0
    · rw [n2 e]; exact ⟨by decide, rfl⟩
    · have := vp_cl (n3 e) (by omega)
      exact ⟨by omega, this.2⟩
  have a13 : (s.1 13).toNatClampNeg < 2 ∧ s.1 13 = nI (s.1 13).toNatClampNeg := by
    rcases tb13 with e | e <;> rw [e] <;> exact ⟨by decide, rfl⟩
  have I : ∀ k, k ∈ [0, 3, 4, 5, 6, 7, 13, 18, 19] → s'.1 k = s.1 k := fun k hk => m.i k (hL k (by simp only [List.mem_cons, List.not_mem_nil, or_false] at hk ⊢; omega))
  have A : ∀ k, k ∈ [1, 2, 8, 9, 10, 11, 12] → s'.2.1 k = s.2.1 k := fun k hk => m.a k (hL k (by simp only [List.mem_cons, List.not_mem_nil, or_false] at hk ⊢; omega))
  refine ⟨fun k hk => ?_, ⟨e35, hb.2.2.1⟩, fun t ht => ?_, fun w' t hw' ht => ?_, fun r hr => ?_, fun w' hw' => ?_, etx⟩
  · simp only [List.mem_cons, List.not_mem_nil, or_false] at hk
    rcases hk with rfl | rfl | rfl | rfl | rfl | rfl | rfl | rfl | rfl | rfl | rfl | rfl | rfl
    · rw [I 0 (by decide)]; exact ⟨a0.2, by show (s.1 0).toNatClampNeg < _; omega⟩
    · rw [I 3 (by decide)]; exact ⟨a3.2, by show (s.1 3).toNatClampNeg < _; omega⟩
    · rw [I 4 (by decide)]; exact ⟨a4.2, by show (s.1 4).toNatClampNeg < _; omega⟩
    · rw [I 5 (by decide)]; exact ⟨a5.2, by show (s.1 5).toNatClampNeg < _; omega⟩
    · rw [I 6 (by decide)]; exact ⟨a6.2, by show (s.1 6).toNatClampNeg < _; omega⟩
    · rw [I 7 (by decide)]; exact ⟨a7.2, by show (s.1 7).toNatClampNeg < _; omega⟩
    · rw [I 13 (by decide)]; exact ⟨a13.2, by show (s.1 13).toNatClampNeg < _; omega⟩
    · rw [I 18 (by decide)]; exact ⟨a18.2, a18.1⟩
    · rw [I 19 (by decide)]; exact ⟨a19.2, a19.1⟩
    · exact ⟨e33, hb.1⟩
    · exact ⟨e34, hb.2.1⟩
    · exact ⟨e36, hb.2.2.2.1⟩
    · exact ⟨e37, hb.2.2.2.2⟩
  · have ht' : t < (s.1 0).toNatClampNeg := ht
    rw [A 1 (by decide)]
    show s.2.1 1 t = nI (s.2.1 1 t).toNatClampNeg ∧ (s.2.1 1 t).toNatClampNeg < 2
    rcases (t2 t ht').1 with e | e <;> rw [e] <;> exact ⟨rfl, by decide⟩
  · have ht' : t < (s.1 0).toNatClampNeg := ht
    rw [A 2 (by decide)]
    exact (vp_cl ((t2 t ht').2 w' hw').1 (by decide)).2
  · have hr' : r < (s.1 7).toNatClampNeg := hr
    obtain ⟨q1, q2, q3⟩ := r2 r hr'
    rw [A 8 (by decide), A 9 (by decide), A 10 (by decide)]
    refine ⟨(vp_cl q1 (by omega)).2, (vp_cl q2 (by decide)).2, fun j hj => ?_⟩
    show s.2.1 10 (3 * r + j) = nI (s.2.1 10 (3 * r + j)).toNatClampNeg
    rcases q3 j hj with z | ⟨y, z1, z2⟩
    · exact (vp_cl z (by omega)).2
    · obtain ⟨y', h1, h2, h3⟩ := vp_i z1 (by omega)
      rw [z2, h2, show (100 : Int32) = nI 100 from rfl, nI_add, nI_clamp (by omega)]
  · obtain ⟨q1, q2⟩ := f w' hw'
    rw [A 11 (by decide), A 12 (by decide)]
    refine ⟨(vp_cl q1 (by decide)).2, fun i j hi hj => ?_⟩
    obtain ⟨q3, q4, q5⟩ := q2 i hi
    by_cases e : j = 3
    · subst e; exact (vp_cl q4 (by decide)).2
    · exact (vp_cl (q3 j (by omega)) (by omega)).2
def gF (s : TS) (k : Nat → Nat) (ch : Int32) (wy : Option Nat) : Nat → Value := fun j => ((r_fs s k ch wy)[j]?).getD .null
theorem gF_oL (s : TS) (k : Nat → Nat) (ch : Int32) (wy : Option Nat) : oL (gF s k ch wy) = r_fs s k ch wy := rfl
section JN
variable {ow : Nat → Nat} {σ : gH} {x0 : Nat} {k : Nat → Nat} {s : TS} {ch : Int32} {wy : Option Nat}
theorem r_list.N {l tl te cap n : Nat} {x : Nat → Nat} (h : r_list ow σ l tl te cap n x) : ∃ N, N ≤ cap ∧ r_lsN ow σ l tl te N n x := by
  obtain ⟨N, z⟩ := r_lsN.of h
  rcases z with ⟨z1, z2⟩ | ⟨z1, z2, z3⟩
  · exact ⟨N, z1, z2⟩
  · subst z2; exact ⟨0, Nat.zero_le _, z3⟩
theorem rI_of {wh n o p w : Nat} {tx : Nat → Nat} (hx : hat ow σ x0 1 (cO 0 (r_fs s k ch wy))) (ha : r_all ow σ s k wy) (h : v_all s) (en : n = (s.1 14).toNatClampNeg) (et : ∀ i, i < n → tx i = (s.2.1 15 i).toNatClampNeg) : ∃ ru N m xl, rI (cf s wh n o p w tx) ow σ x0 k ru (gF s k ch wy) N m xl := by
  obtain ⟨⟨c1, c2, ⟨ru, c3, c3'⟩, ⟨fo0, c4, c4'⟩, ⟨fo1, c5, c5'⟩, tf, c6, c6'⟩, ⟨⟨X1, d1⟩, ⟨X2, d2⟩, X3, d3⟩, ⟨e1, e2, ⟨xl, e3, e3'⟩, e4, wf, e5, e5'⟩, -⟩ := ha
  obtain ⟨⟨⟨t1, t2⟩, ⟨⟨p1, p2⟩, p3, p4⟩, ⟨n1, n2, n3⟩, ⟨r1, r2⟩, f, tb13, tr1, tr2⟩, -⟩ := h
  have a0 := vp_cl t1 (by decide)
  have a3 := vp_cl p1 (by decide)
  have a4 := vp_cl p3 (by decide)
  have a5 := vp_cl n1 (by decide)
  have a7 := vp_cl r1 (by decide)
  have g0 : (s.1 0).toNatClampNeg < 13 := a0.1
  have g5 : (s.1 5).toNatClampNeg < 9 := a5.1
  have a6 : s.1 6 = nI (s.1 6).toNatClampNeg := by
    by_cases e : s.1 5 = 0
    · rw [n2 e]; rfl
    · exact (vp_cl (n3 e) (by omega)).2
  have a13 : (s.1 13).toNatClampNeg < 2 ∧ s.1 13 = nI (s.1 13).toNatClampNeg := by
    rcases tb13 with e | e <;> rw [e] <;> exact ⟨by decide, rfl⟩
  obtain ⟨N, hN, hl⟩ := e3.N
  obtain ⟨Nr, hNr, hlr⟩ := c3.N
  refine ⟨ru, N, _, xl, hx, ?_, ⟨a13.1, ?_, ?_, ?_⟩, ?_, ⟨⟨Nr, by omega, hlr⟩, fun r hr => ?_⟩, ⟨X1, d1⟩, ⟨X2, X3, d2, d3⟩, ⟨hl, hN⟩, wf, e5⟩
  · refine ⟨⟨?_, rfl, rfl, ?_, ?_, ?_⟩, ⟨?_, ?_, rfl, rfl, rfl⟩, ⟨rfl, rfl, rfl⟩, rfl, rfl, rfl⟩
    · exact congrArg Value.int a0.2
    · exact congrArg Value.int a3.2
    · exact congrArg Value.int a4.2
    · exact congrArg Value.int a13.2
    · exact congrArg Value.int a5.2
    · exact congrArg Value.int a6
  · obtain ⟨ff, f1, f2⟩ := c1
    refine ⟨ff, f1, fun t ht => ?_⟩
    have ht' : t < (s.1 0).toNatClampNeg := ht
    rw [f2 t (by omega)]
    show s.2.1 1 t = nI (s.2.1 1 t).toNatClampNeg ∧ (s.2.1 1 t).toNatClampNeg < 2
    rcases (t2 t ht').1 with e | e <;> rw [e] <;> exact ⟨rfl, by decide⟩
  · obtain ⟨pf, f1, f2⟩ := c2
    refine ⟨pf, f1, fun w' hw' => ?_⟩
    obtain ⟨b, gg, b1, b2, b3⟩ := f2 w' hw'
    refine ⟨b, gg, b1, b2, fun t ht => ?_⟩
    have ht' : t < (s.1 0).toNatClampNeg := ht
    rw [b3 t (by omega)]
    exact (vp_cl ((t2 t ht').2 w' hw').1 (by decide)).2
  · have fc : ∀ w' i, w' < 2 → i < (s.2.1 11 w').toNatClampNeg → ∀ j, j < 4 → s.2.1 12 (12 * w' + 4 * i + j) = nI (s.2.1 12 (12 * w' + 4 * i + j)).toNatClampNeg := by
      intro w' i hw' hi j hj
      obtain ⟨-, q2⟩ := f w' hw'
      obtain ⟨q3, q4, q5⟩ := q2 i hi
      by_cases e : j = 3
      · subst e; exact (vp_cl q4 (by decide)).2
      · exact (vp_cl (q3 j (by omega)) (by omega)).2
    have cell : ∀ w' i a, w' < 2 → i < (s.2.1 11 w').toNatClampNeg → r_form ow σ (s.2.1 12) w' i a → hat ow σ a 0 (fCell (cf s wh n o p w tx) w' i) := by
      intro w' i a hw' hi hfm
      have e0 := fc w' i hw' hi 0 (by decide)
      rw [Nat.add_zero] at e0
      have e1 := fc w' i hw' hi 1 (by decide)
      have e2 := fc w' i hw' hi 2 (by decide)
      have e3 := fc w' i hw' hi 3 (by decide)
      unfold r_form at hfm
      rw [e0, e1, e2, e3] at hfm
      exact hfm
    intro w' hw'
    have : w' = 0 ∨ w' = 1 := by omega
    rcases this with rfl | rfl
    · obtain ⟨N0, hN0, hl0⟩ := c4.N
      exact ⟨N0, fo0, by omega, hl0, fun i hi => cell 0 i _ hw' hi (c4' i hi)⟩
    · obtain ⟨N0, hN0, hl0⟩ := c5.N
      exact ⟨N0, fo1, by omega, hl0, fun i hi => cell 1 i _ hw' hi (c5' i hi)⟩
  · refine ⟨tf, by show hat ow σ (k 11) 0 (cI n tf); rw [en]; exact c6, fun i hi => ?_⟩
    have hi' : i < n := hi
    rw [c6' i (by omega)]
    show s.2.1 15 i = nI (tx i)
    rw [et i hi']
    exact (vp_cl (tr2 i (by omega)) (by omega)).2
  · have hr' : r < (s.1 7).toNatClampNeg := hr
    obtain ⟨so, wh', ff, gg, q1, q2, q3, q4⟩ := c3' r hr'
    obtain ⟨z1, z2, z3⟩ := r2 r hr'
    refine ⟨so, wh', ff, gg, ?_, q2, q3, fun j hj => ?_⟩
    · show hat ow σ (ru r) (20 + r) (cO 4 [.int (nI r), .int (nI (s.2.1 8 r).toNatClampNeg), .ref so, .ref wh', .int (nI (s.2.1 9 r).toNatClampNeg)])
      rw [← (vp_cl z1 (by omega)).2, ← (vp_cl z2 (by decide)).2]
      exact q1
    · have hj' : j < (s.2.1 9 r).toNatClampNeg := hj
      show (ff j = 0 ∧ gg j = nI (s.2.1 10 (3 * r + j)).toNatClampNeg ∧ (s.2.1 10 (3 * r + j)).toNatClampNeg < (s.1 0).toNatClampNeg) ∨ (ff j = 1 ∧ 100 ≤ (s.2.1 10 (3 * r + j)).toNatClampNeg ∧ (s.2.1 10 (3 * r + j)).toNatClampNeg < 100 + (s.1 5).toNatClampNeg ∧ gg j = nI ((s.2.1 10 (3 * r + j)).toNatClampNeg - 100))
      rcases q4 j hj' with ⟨u1, u2, u3⟩ | ⟨u1, u2, u3⟩
      · rcases z3 j hj' with z | ⟨y, y1, y2⟩
        · have := vp_cl z (by omega)
          exact Or.inl ⟨u1, by rw [u2]; exact this.2, this.1⟩
        · obtain ⟨y', h1, h2, h3⟩ := vp_i y1 (by omega)
          rw [y2, h2, show (100 : Int32) = nI 100 from rfl, nI_add] at u3
          exact absurd u3 (nI_nlt (by omega) (by omega))
      · rcases z3 j hj' with z | ⟨y, y1, y2⟩
        · obtain ⟨y', h1, h2, h3⟩ := vp_i z (by omega)
          rw [h2] at u3
          exact absurd (nI_lt (a := y') (b := 100) (by omega) (by decide)) u3
        · obtain ⟨y', h1, h2, h3⟩ := vp_i y1 (by omega)
          have e : (s.2.1 10 (3 * r + j)).toNatClampNeg = 100 + y' := by
            rw [y2, h2, show (100 : Int32) = nI 100 from rfl, nI_add, nI_clamp (by omega)]
          have eg : gg j = y := by
            have u := u2.trans y2
            first | exact (Int32.add_right_inj 100).mp u | exact (Int32.add_left_inj 100).mp u | exact Int32.add_left_cancel u
          exact Or.inr ⟨u1, by omega, by omega, by rw [eg, h2, e]; congr 1; omega⟩
end JN
