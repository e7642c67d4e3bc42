/-! PLAIN LAW: calls 18, 19, 20, 21 -/
set_option maxRecDepth 100000
section OPF
variable {σ : gH} {x0 CB SB : Nat} {s : TS} {a1 a2 a3 a4 a5 : Int32}
theorem op_18 (h : JJ x0 σ s) : l_op 18 a1 a2 a3 a4 a5 (JJ x0) CB SB x0 σ s := by
  refine l_op_of fun Q hQ => ?_
  have h' := h
  obtain ⟨ow, k, ch, wy, hx, ha, hv, hc, he⟩ := h
  rw [← gF_oL] at hx
  obtain ⟨-, -, ⟨c1, ⟨tc, f, c2, -⟩, ⟨sl, c3, -⟩, c4, c5⟩, -⟩ := ha
  obtain ⟨h1', h2, h3, h4, h5, h6, h7⟩ := hv.2.1.1
  obtain ⟨n22, b22, e22, e22'⟩ := vp_i h5 (by decide)
  obtain ⟨n26, b26, e26, e26'⟩ := vp_i h7 (by decide)
  rw [e22'] at c3
  rw [e26'] at c2
  obtain ⟨N, hN, hl⟩ := c3.N
  have ans : ∀ v, (∀ Q : Int32 → TS → Prop, Q v s → wX3_told Q a1 s) → Q v σ := fun v hh => hQ _ _ s (fun Q hq => hh Q hq) h'
  show wX0_told (fun v => Q v σ) σ x0 a1
  unfold wX0_told
  refine ⟨fun e0 => i_Io hx (by decide) (v := s.1 21) rfl (ans _ (fun Q hq => br_p e0 hq)), fun e0 => ⟨fun e1 => ?_, fun e1 => ⟨fun e2 => ?_, fun e2 => ⟨fun e3 => ?_, fun e3 => ⟨fun e4 => ?_, fun e4 => ans _ (fun Q hq => br_n e0 (br_n e1 (br_n e2 (br_n e3 (br_n e4 hq)))))⟩⟩⟩⟩⟩
  · exact i_Ro hx (by decide) rfl ⟨_, rfl, ln_size hl (by rw [← e22]; exact ans _ (fun Q hq => br_n e0 (br_p e1 hq)))⟩
  · exact i_Io hx (by decide) (v := s.1 24) rfl (ans _ (fun Q hq => br_n e0 (br_n e1 (br_p e2 hq))))
  · exact i_Ro hx (by decide) rfl ⟨_, rfl, i_I c2.1 (by decide) rfl (by rw [← e26]; exact ans _ (fun Q hq => br_n e0 (br_n e1 (br_n e2 (br_p e3 hq)))))⟩
  · have an := fun v (e : s.1 17 = v) => ans v (fun Q hq => br_n e0 (br_n e1 (br_n e2 (br_n e3 (br_p e4 (by rw [e]; exact hq))))))
    have hw : (oL (gF s k ch wy))[17]? = some (va_rf wy) := rfl
    refine i_Rr hx.1 (by decide) hw ?_
    rcases c1 with ⟨y1, y2⟩ | ⟨w, fr, to, y1, y2, y3, y4⟩
    · exact br_p y1 (an _ y2)
    · refine br_n (by rw [y1]; exact fun z => by cases z) (i_Rr hx.1 (by decide) hw ⟨w, y1, i_I y3.1 (by decide) rfl (an _ rfl)⟩)
theorem op_19 (h : JJ x0 σ s) : l_op 19 a1 a2 a3 a4 a5 (JJ x0) CB SB x0 σ s := by
  refine l_op_of fun Q hQ => ?_
  have h' := h
  obtain ⟨ow, k, ch, wy, hx, ha, hv, hc, he⟩ := h
  rw [← gF_oL] at hx
  obtain ⟨-, -, ⟨c1, c2, ⟨sl, c3, -⟩, ⟨tc, f, c4, c4', c4''⟩, c5⟩, -⟩ := ha
  obtain ⟨h1', h2, h3, h4, h5, h6, h7⟩ := hv.2.1.1
  obtain ⟨n, bn, en, en'⟩ := vp_i h5 (by decide)
  rw [en'] at c3 c4''
  obtain ⟨N, hN, hl⟩ := c3.N
  show wX0_slip (fun v => Q v σ) σ x0 a1 a2
  unfold wX0_slip
  refine i_Ro hx (by decide) rfl ⟨_, rfl, ln_size hl (in_vp (by omega) (fun z1 => br_n (by decide) (in_c 3 (by decide) rfl (fun z2 => br_n (by decide) ?_) (fun z2 => br_p rfl (hQ _ _ s (fun Q hq => ?_) h')))) (fun z1 => br_p rfl (hQ _ _ s (fun Q hq => ?_) h')))⟩
  rotate_left
  · show wX3_slip_2 Q a1 a2 s
    unfold wX3_slip_2
    rw [en]
    exact in_vp3 (by omega) (fun _ => br_n (by decide) (in_c3 3 (by decide) rfl (fun y => absurd y z2) (fun _ => br_p rfl hq))) (fun y => absurd z1 y)
  · show wX3_slip_2 Q a1 a2 s
    unfold wX3_slip_2
    rw [en]
    exact in_vp3 (by omega) (fun y => absurd y z1) (fun _ => br_p rfl hq)
  obtain ⟨i, hi, ei, ei'⟩ := vp_i z1 (by omega)
  obtain ⟨w, hw, ew, ew'⟩ := vp_i z2 (by omega)
  obtain ⟨b, hh, d1, d2, d3⟩ := c4'' w (by omega)
  refine i_Ro hx (by decide) rfl ⟨_, rfl, i_R c4.1 (by decide) rfl ⟨_, rfl, i_aR c4'.1 ew (by omega) (by decide) ⟨b, d1, i_aI d2.1 ei hi (by omega) (hQ _ _ s (fun Q hq => ?_) h')⟩⟩⟩
  show wX3_slip_2 Q a1 a2 s
  unfold wX3_slip_2
  rw [en]
  refine in_vp3 (by omega) (fun _ => br_n (by decide) (in_c3 3 (by decide) rfl (fun _ => br_n (by decide) ?_) (fun y => absurd z2 y))) (fun y => absurd z1 y)
  rw [d3 i hi] at hq
  rw [ei, ew, k4, pk_mul, nI_add, nI_clamp (by omega)]
  exact ⟨vp_nI (by omega) (by decide), hq⟩
theorem op_20 (h : JJ x0 σ s) : l_op 20 a1 a2 a3 a4 a5 (JJ x0) CB SB x0 σ s := by
  refine l_op_of fun Q hQ => ?_
  have h' := h
  obtain ⟨ow, k, ch, wy, hx, ha, hv, hc, he⟩ := h
  rw [← gF_oL] at hx
  obtain ⟨-, -, ⟨c1, c2, c3, c4, f, c5, c6⟩, -⟩ := ha
  obtain ⟨n, bn, en, en'⟩ := vp_i hv.2.1.2.1 (by decide)
  rw [en'] at c6
  show wX0_word (fun v => Q v σ) σ x0 a1
  unfold wX0_word
  refine i_Io hx (by decide) (v := nI n) (congrArg Value.int en) (in_vp (by omega) (fun z1 => br_n (by decide) ?_) (fun z1 => br_p rfl (hQ _ _ s (fun Q hq => ?_) h')))
  rotate_left
  · show wX3_word Q a1 s
    unfold wX3_word
    rw [en]
    exact in_vp3 (by omega) (fun y => absurd y z1) (fun _ => br_p rfl hq)
  obtain ⟨i, hi, ei, ei'⟩ := vp_i z1 (by omega)
  refine i_Ro hx (by decide) rfl ⟨_, rfl, i_aI c5.1 ei (by omega) (by decide) (hQ _ _ s (fun Q hq => ?_) h')⟩
  show wX3_word Q a1 s
  unfold wX3_word
  rw [en]
  refine in_vp3 (by omega) (fun _ => br_n (by decide) ⟨vp_le z1 (by omega), ?_⟩) (fun y => absurd z1 y)
  rw [c6 i hi] at hq
  rw [ei']
  exact hq
theorem op_21 (h : JJ x0 σ s) : l_op 21 a1 a2 a3 a4 a5 (JJ x0) CB SB x0 σ s := by
  refine l_op_of fun Q hQ => ?_
  have h' := h
  obtain ⟨ow, k, ch, wy, hx, ha, hv, hc, he⟩ := h
  rw [← gF_oL] at hx
  obtain ⟨-, -, ⟨c1, ⟨tc, f, c4, c4', c4''⟩, c3, c5⟩, -⟩ := ha
  obtain ⟨h1', h2, h3, h4, h5, h6, h7⟩ := hv.2.1.1
  obtain ⟨n, bn, en, en'⟩ := vp_i h7 (by decide)
  rw [en'] at c4 c4''
  show wX0_node (fun v => Q v σ) σ x0 a1 a2
  unfold wX0_node
  refine i_Ro hx (by decide) rfl ⟨_, rfl, i_I c4.1 (by decide) rfl (in_vp (by omega) (fun z1 => br_n (by decide) (in_c 4 (by decide) rfl (fun z2 => br_n (by decide) ?_) (fun z2 => br_p rfl (hQ _ _ s (fun Q hq => ?_) h')))) (fun z1 => br_p rfl (hQ _ _ s (fun Q hq => ?_) h')))⟩
  rotate_left
  · show wX3_node Q a1 a2 s
    unfold wX3_node
    rw [en]
    exact in_vp3 (by omega) (fun _ => br_n (by decide) (in_c3 4 (by decide) rfl (fun y => absurd y z2) (fun _ => br_p rfl hq))) (fun y => absurd z1 y)
  · show wX3_node Q a1 a2 s
    unfold wX3_node
    rw [en]
    exact in_vp3 (by omega) (fun y => absurd y z1) (fun _ => br_p rfl hq)
  obtain ⟨i, hi, ei, ei'⟩ := vp_i z1 (by omega)
  obtain ⟨w, hw, ew, ew'⟩ := vp_i z2 (by omega)
  obtain ⟨b, hh, d1, d2, d3⟩ := c4'' w (by omega)
  refine i_Ro hx (by decide) rfl ⟨_, rfl, i_R c4.1 (by decide) rfl ⟨_, rfl, i_aR c4'.1 ew (by omega) (by decide) ⟨b, d1, i_aI d2.1 ei (by omega) (by decide) (hQ _ _ s (fun Q hq => ?_) h')⟩⟩⟩
  show wX3_node Q a1 a2 s
  unfold wX3_node
  rw [en]
  refine in_vp3 (by omega) (fun _ => br_n (by decide) (in_c3 4 (by decide) rfl (fun _ => br_n (by decide) ?_) (fun y => absurd z2 y))) (fun y => absurd z1 y)
  rw [d3 i hi] at hq
  rw [ei, ew, k5, pk_mul, nI_add, nI_clamp (by omega)]
  exact ⟨vp_nI (by omega) (by decide), hq⟩
end OPF
