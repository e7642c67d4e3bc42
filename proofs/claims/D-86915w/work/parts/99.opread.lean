/-! PLAIN LAW: calls 11, 13, 14 -/
set_option maxRecDepth 100000
section OP11
variable {σ : gH} {x0 CB SB : Nat} {s : TS} {a1 a2 a3 a4 a5 : Int32}
theorem op_11 (h : JJ x0 σ s) (hc : 2400 ≤ CB) (hs : 71000 ≤ SB) : l_op 11 a1 a2 a3 a4 a5 (JJ x0) CB SB x0 σ s := by
  obtain ⟨ow, k, ch, wy, hx, -⟩ := id h
  unfold l_op
  simp only [opC, opT]
  unfold wX0_read
  exact ⟨_, hx.1, CB, SB, by omega, by omega, rd_join (wh := 0) (Or.inl rfl) h hc hs (fun v σ' ho hh => ⟨ho, fun e => hh.1 e, fun e => hh.2 e⟩)⟩
theorem op_13 (h : JJ x0 σ s) (hc : 2400 ≤ CB) (hs : 71000 ≤ SB) : l_op 13 a1 a2 a3 a4 a5 (JJ x0) CB SB x0 σ s := by
  obtain ⟨ow, k, ch, wy, hx, -⟩ := id h
  unfold l_op
  simp only [opC, opT]
  unfold wX0_complete
  exact ⟨_, hx.1, CB, SB, by omega, by omega, rd_join (wh := 2) (Or.inr (Or.inl rfl)) h hc hs (fun v σ' ho hh => ⟨ho, fun e => hh.1 e, fun e => hh.2 e⟩)⟩
theorem op_14 (h : JJ x0 σ s) (hc : 2400 ≤ CB) (hs : 71000 ≤ SB) : l_op 14 a1 a2 a3 a4 a5 (JJ x0) CB SB x0 σ s := by
  obtain ⟨ow, k, ch, wy, hx, -⟩ := id h
  unfold l_op
  simp only [opC, opT]
  unfold wX0_begins
  exact ⟨_, hx.1, CB, SB, by omega, by omega, rd_join (wh := 3) (Or.inr (Or.inr rfl)) h hc hs (fun v σ' ho hh => ⟨ho, fun e => hh.1 e, fun e => hh.2 e⟩)⟩
end OP11
