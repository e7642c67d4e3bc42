/-! PLAIN LAW: after reads, JJ again -/
set_option maxRecDepth 100000
section JB
variable {C : Cf} {ow ow' : Nat → Nat} {σ σ' : gH} {x0 : Nat} {k : Nat → Nat} {s s' : TS} {ch : Int32} {wy : Option Nat}
def kB (k : Nat → Nat) (tr sl : Nat) : Nat → Nat := fun j => if j = 18 then tr else if j = 20 then sl else k j
theorem JJ_back {x1 x2 x3 price : Int32} {N : Nat} {st st' : St} (ha : r_all ow σ s k wy) (hv : v_all s) (he : v_ext s) (m : hmv TRs ow σ ow' σ') (hE : rE C ow' σ' x0 k (gF s k ch wy) x1 x2 x3 price N st) (hN : N ≤ 1000) (tm : tfr LR s s') (e17 : s'.1 17 = x1) (e16 : s'.1 16 = 1) (e21 : s'.1 21 = price) (ts : tSt s' st') (yq : yQ (fun _ => False) st st') (h17 : ¬ x1 < 0) (h1 : x1 = 1 → x2 = s'.1 18 ∧ x3 = s'.1 19) (nb : st.1.1 < 1000 ∧ st.1.2.1 < 1000 ∧ st.1.2.2 ≤ 100) (vr : v_red (s'.1 20) (s'.1 21) (s'.1 17) (s'.1 22) (s'.1 5) (s'.1 26)) (vw : v_row (s'.1 0) (s'.1 24) 301 (s'.2.1 25)) (h18 : v_18 s') : JJ x0 σ' s' := by
  obtain ⟨g', wy', tr, sl, kc, x', ⟨g17, g18, g12, g20, g16, g22, gr⟩, q1, q2, q3, q4, ⟨X1, q5⟩, X2, X3, q6, q7⟩ := hE
  obtain ⟨⟨y1, y2, y3⟩, y4, y5, y6⟩ := ts
  obtain ⟨z1, z2, z3, z4⟩ := yq
  obtain ⟨⟨c1, c2, ⟨ru, c3⟩, ⟨fo0, c4⟩, ⟨fo1, c5⟩, c6⟩, -, -, d⟩ := ha
  obtain ⟨⟨a1, a2, a3, a4, a5, a6, a7⟩, -, sh⟩ := hv
  have n22 : (s'.1 22).toNatClampNeg = st.1.1 := by rw [y1, ← z1, nI_clamp (by omega)]
  have n24 : (s'.1 24).toNatClampNeg = st.1.2.1 := by rw [y2, ← z1, nI_clamp (by omega)]
  have n26 : (s'.1 26).toNatClampNeg = st.1.2.2 := by rw [y3, ← z1, nI_clamp (by omega)]
  have nt : ∀ t, t < 110 → t ≠ 1 → t ≠ 7 → t ≠ 13 → t ≠ 17 → t ∉ TRs := fun t b1 b2 b3 b4 b5 z => by rw [memRs] at z; omega
  have a7' : (s.1 7).toNatClampNeg ≤ 24 := by have := (vp_cl a4.1 (by decide)).1; omega
  refine ⟨ow', kB k tr sl, 0, some wy', ?_, ⟨⟨?_, ?_, ⟨ru, ?_⟩, ⟨fo0, ?_⟩, ⟨fo1, ?_⟩, ?_⟩, ⟨⟨X1, q5⟩, ⟨X2, q6⟩, X3, q7⟩, ⟨?_, ?_, ?_, ?_, ?_⟩, ?_⟩, ⟨⟨?_, ?_, ?_, ?_, ?_, ?_, ?_⟩, ⟨vr, vw⟩, ?_⟩, ⟨Or.inl rfl, ?_, ?_⟩, h18, ?_, ?_⟩
  · have eL : oL g' = r_fs s' (kB k tr sl) 0 (some wy') := by
      unfold oL
      rw [g12, g16, g17, g18, g20, g22, gr 0 (by decide) (by decide) (by decide) (by decide) (by decide) (by decide), gr 1 (by decide) (by decide) (by decide) (by decide) (by decide) (by decide), gr 2 (by decide) (by decide) (by decide) (by decide) (by decide) (by decide), gr 3 (by decide) (by decide) (by decide) (by decide) (by decide) (by decide), gr 4 (by decide) (by decide) (by decide) (by decide) (by decide) (by decide), gr 5 (by decide) (by decide) (by decide) (by decide) (by decide) (by decide), gr 6 (by decide) (by decide) (by decide) (by decide) (by decide) (by decide), gr 7 (by decide) (by decide) (by decide) (by decide) (by decide) (by decide), gr 8 (by decide) (by decide) (by decide) (by decide) (by decide) (by decide), gr 9 (by decide) (by decide) (by decide) (by decide) (by decide) (by decide), gr 10 (by decide) (by decide) (by decide) (by decide) (by decide) (by decide), gr 11 (by decide) (by decide) (by decide) (by decide) (by decide) (by decide), gr 13 (by decide) (by decide) (by decide) (by decide) (by decide) (by decide), gr 14 (by decide) (by decide) (by decide) (by decide) (by decide) (by decide), gr 15 (by decide) (by decide) (by decide) (by decide) (by decide) (by decide), gr 19 (by decide) (by decide) (by decide) (by decide) (by decide) (by decide), gr 21 (by decide) (by decide) (by decide) (by decide) (by decide) (by decide), gr 23 (by decide) (by decide) (by decide) (by decide) (by decide) (by decide)]
      unfold r_fs
      rw [tm.i 0, tm.i 3, tm.i 4, tm.i 5, tm.i 6, tm.i 13, e21, y2, ← z1]
      rfl
    rw [← eL]
    exact x'
  · rw [tm.a 1]; exact c1.mv m (nt 2 (by decide) (by decide) (by decide) (by decide) (by decide))
  · rw [tm.a 2]; exact c2.mv m (fun w hw => nt _ (by omega) (by omega) (by omega) (by omega) (by omega))
  · rw [tm.i 7, tm.a 8, tm.a 9, tm.a 10]
    exact c3.mv m a7' (nt _ (by decide) (by decide) (by decide) (by decide) (by decide)) (nt _ (by decide) (by decide) (by decide) (by decide) (by decide)) (by intro t z; rw [memRs] at z; omega)
  · rw [tm.a 11, tm.a 12]
    exact c4.mv m (nt _ (by decide) (by decide) (by decide) (by decide) (by decide)) (nt _ (by decide) (by decide) (by decide) (by decide) (by decide)) (nt _ (by decide) (by decide) (by decide) (by decide) (by decide))
  · rw [tm.a 11, tm.a 12]
    exact c5.mv m (nt _ (by decide) (by decide) (by decide) (by decide) (by decide)) (nt _ (by decide) (by decide) (by decide) (by decide) (by decide)) (nt _ (by decide) (by decide) (by decide) (by decide) (by decide))
  · rw [tm.i 14, tm.a 15]
    exact c6.mv m (nt _ (by decide) (by decide) (by decide) (by decide) (by decide))
  · rw [e17]
    exact Or.inr ⟨wy', x2, x3, rfl, h17, q1, h1⟩
  · rw [n26, y6]
    exact q4.tree nb.2.2 (fun i w hi hw => z4 i w hi hw (fun _ z => z))
  · rw [n22, y4]
    exact q3.told hN z2
  · rw [n22, y4]
    exact q2.cg z2
  · rw [n24, y5]
    exact q4.wds z3
  · rw [tm.a 51, tm.a 52, tm.a 53]
    exact d.mv m (by rw [memRs]; omega) (by intro t z; rw [memRs] at z; omega)
  · rw [tm.i 0, tm.a 1, tm.a 2]; exact a1
  · rw [tm.i 3, tm.i 4]; exact a2
  · rw [tm.i 5, tm.i 6]; exact a3
  · rw [tm.i 0, tm.i 5, tm.i 7, tm.a 8, tm.a 9, tm.a 10]; exact a4
  · rw [tm.i 0, tm.a 11, tm.a 12]; exact a5
  · rw [tm.i 13]; exact a6
  · rw [tm.i 0, tm.i 14, tm.a 15]; exact a7
  · rw [tm.i 0, tm.a 51, tm.a 52, tm.a 53]; exact sh
  · rw [e16]; exact Or.inr rfl
  · intro _
    rw [e16]; decide
  · rw [tm.i 36]; exact he.2.1
  · rw [tm.i 37]; exact he.2.2
end JB
