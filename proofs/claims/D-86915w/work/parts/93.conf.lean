/-! PLAIN LAW: the configuration out of the twin's state -/
set_option maxRecDepth 100000
theorem vp_i {x : Int32} {n : Nat} (h : vp_in x n) (hn : n < 2 ^ 31) : ∃ j, j < n ∧ x = nI j ∧ x.toNatClampNeg = j := by
  obtain ⟨j, h1, rfl⟩ := vp_in_of h hn
  exact ⟨j, h1, rfl, nI_clamp (by omega)⟩
theorem vp_cl {x : Int32} {n : Nat} (h : vp_in x n) (hn : n < 2 ^ 31) : x.toNatClampNeg < n ∧ x = nI x.toNatClampNeg := by
  obtain ⟨j, h1, h2, h3⟩ := vp_i h hn
  rw [h3]; exact ⟨h1, h2⟩
theorem vp_c0 {x : Int32} {n : Nat} (h : vp_in x n) (hn : n < 2 ^ 31) (h0 : x ≠ 0) : 1 ≤ x.toNatClampNeg := by
  obtain ⟨j, h1, h2, h3⟩ := vp_i h hn
  rw [h3]
  rcases Nat.eq_zero_or_pos j with z | z
  · subst z; exact absurd h2 h0
  · exact z
/-- the configuration: which way, how long a text, the slip that is out, the text -/
def cf (s : TS) (wh n o p w : Nat) (tx : Nat → Nat) : Cf := (fun k => if k = 33 then wh else if k = 34 then n else if k = 35 then o else if k = 36 then p else if k = 37 then w else (s.1 k).toNatClampNeg, fun k i => if k = 15 then tx i else (s.2.1 k i).toNatClampNeg)
theorem cf_ok {s : TS} {wh n o p w : Nat} {tx : Nat → Nat} (h : v_all s) (hw : wh ≤ 4) (hn : n ≤ 11) (hn2 : ¬ (wh = 2 ∨ wh = 4) → n ≤ 10) (ht : ∀ i, i < n → tx i < (s.1 0).toNatClampNeg) : z_ok (cf s wh n o p w tx) := by
  obtain ⟨⟨⟨t1, t2⟩, ⟨⟨p1, p2⟩, p3, p4⟩, ⟨n1, n2, n3⟩, ⟨r1, r2⟩, f, -, -⟩, -⟩ := h
  have a0 := vp_cl t1 (by decide)
  have a3 := vp_cl p1 (by decide)
  have a4 := vp_cl p3 (by decide)
  have b3 := vp_c0 p1 (by decide) p2
  have b4 := vp_c0 p3 (by decide) p4
  have a5 := vp_cl n1 (by decide)
  have a7 := vp_cl r1 (by decide)
  have f0 := vp_cl (f 0 (by decide)).1 (by decide)
  have f1 := vp_cl (f 1 (by decide)).1 (by decide)
  have g0 : (s.1 0).toNatClampNeg < 13 := a0.1
  have g5 : (s.1 5).toNatClampNeg < 9 := a5.1
  refine ⟨⟨?_, ?_, ?_, hn, hw, ?_, ?_, fun z => hn2 (fun y => ?_)⟩, fun w' t hw' hlt => ?_, ⟨b3, ?_, b4, ?_⟩, ht, fun r hr => ?_, fun w' i hw' hi => ?_⟩
  · show (s.1 0).toNatClampNeg ≤ 12; omega
  · show (s.1 5).toNatClampNeg ≤ 8; omega
  · show (s.1 7).toNatClampNeg ≤ 24; omega
  · show (s.2.1 11 0).toNatClampNeg ≤ 3; omega
  · show (s.2.1 11 1).toNatClampNeg ≤ 3; omega
  · unfold z_pl at z
    have e : (cf s wh n o p w tx).1 33 = wh := rfl
    rw [e] at z
    rcases y with y | y <;> subst y <;> simp at z
  · have hlt' : t < (s.1 0).toNatClampNeg := hlt
    obtain ⟨q1, q2⟩ := (t2 t hlt').2 w' hw'
    have := vp_cl q1 (by decide)
    have := vp_c0 q1 (by decide) q2
    show 1 ≤ (s.2.1 2 (12 * w' + t)).toNatClampNeg ∧ (s.2.1 2 (12 * w' + t)).toNatClampNeg ≤ 100
    omega
  · show (s.1 3).toNatClampNeg ≤ 100; omega
  · show (s.1 4).toNatClampNeg ≤ 100; omega
  · have hr' : r < (s.1 7).toNatClampNeg := hr
    obtain ⟨q1, q2, q3⟩ := r2 r hr'
    have c1 := vp_cl q1 (by omega)
    have c2 := vp_cl q2 (by decide)
    refine ⟨c1.1, ?_, fun j hj => ?_⟩
    · show (s.2.1 9 r).toNatClampNeg ≤ 3; omega
    · rcases q3 j hj with z | ⟨y, z1, z2⟩
      · exact Or.inl (vp_cl z (by omega)).1
      · right
        obtain ⟨y', h1, h2, h3⟩ := vp_i z1 (by omega)
        have e : (s.2.1 10 (3 * r + j)).toNatClampNeg = 100 + y' := by
          rw [z2, h2, show (100 : Int32) = nI 100 from rfl, nI_add, nI_clamp (by omega)]
        show 100 ≤ (s.2.1 10 (3 * r + j)).toNatClampNeg ∧ (s.2.1 10 (3 * r + j)).toNatClampNeg < 100 + (s.1 5).toNatClampNeg
        omega
  · obtain ⟨-, q2⟩ := f w' hw'
    obtain ⟨q3, q4, q5⟩ := q2 i hi
    have c1 := vp_cl q4 (by decide)
    have c2 := vp_c0 q4 (by decide) q5
    refine ⟨fun j hj => (vp_cl (q3 j hj) (by omega)).1, c2, ?_⟩
    show (s.2.1 12 (12 * w' + 4 * i + 3)).toNatClampNeg ≤ 100
    omega
