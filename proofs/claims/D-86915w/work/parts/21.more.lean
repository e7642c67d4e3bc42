/-! small facts that the printed walks of the component use -/
set_option maxRecDepth 100000
theorem rf_c1 (r : Option Nat) : (va_rf r).category = 1 := by cases r <;> rfl
theorem tk_9 : g_takes 9 [0, 1, 2, 3, 4, 5, 6, 7, 8, 9, 10, 11, 12, 13, 14, 15, 16, 17, 18] := by
  refine ⟨"java/lang/Object", fun _ => rfl, fun ci h => ?_⟩
  have hlt : ci < 19 := by
    simp only [List.mem_cons, List.not_mem_nil, or_false] at h
    omega
  obtain ⟨q, hq⟩ := g_cl_some hlt
  exact ⟨q, hq, Or.inr (g_obAll ci q hq)⟩
theorem g_stepC : ∀ ci ∈ [8, 9, 10, 11, 12, 13, 14, 15], ∃ q, g_cl[ci]? = some q ∧ (q.1 = "MendReader$Step" ∨ Cond.castable q.1 "MendReader$Step" ∈ lw_tbl) := by
  intro ci h
  simp only [List.mem_cons, List.not_mem_nil, or_false] at h
  rcases h with rfl | rfl | rfl | rfl | rfl | rfl | rfl | rfl
  · exact ⟨_, rfl, Or.inl rfl⟩
  · exact ⟨_, rfl, Or.inr q1765⟩
  · exact ⟨_, rfl, Or.inr q1766⟩
  · exact ⟨_, rfl, Or.inr q1769⟩
  · exact ⟨_, rfl, Or.inr q1764⟩
  · exact ⟨_, rfl, Or.inr q1768⟩
  · exact ⟨_, rfl, Or.inr q1770⟩
  · exact ⟨_, rfl, Or.inr q1767⟩
theorem tk_7 : g_takes 7 [8, 9, 10, 11, 12, 13, 14, 15] := ⟨"MendReader$Step", fun _ => rfl, g_stepC⟩
theorem tk_6 : g_takes 6 [17] := ⟨"MendReader$Shelf", fun _ => rfl, fun ci h => by
  simp only [List.mem_cons, List.not_mem_nil, or_false] at h
  subst h
  exact ⟨_, rfl, Or.inl rfl⟩⟩
theorem gc_X8 : g_casts "MendReader$Step" [8, 9, 10, 11, 12, 13, 14, 15] := g_stepC
theorem gc_X4 : g_casts "MendReader$Rule" [4] := fun ci h => by
  simp only [List.mem_cons, List.not_mem_nil, or_false] at h
  subst h
  exact ⟨_, rfl, Or.inl rfl⟩
theorem gc_X5 : g_casts "MendReader$Form" [5] := fun ci h => by
  simp only [List.mem_cons, List.not_mem_nil, or_false] at h
  subst h
  exact ⟨_, rfl, Or.inl rfl⟩
theorem gn_X0 : g_nm TX0 24 := by unfold g_nm; decide +kernel
theorem gn_X1 : g_nm TX1 2 := by unfold g_nm; decide +kernel
theorem gn_X2 : g_nm TX2 1 := by unfold g_nm; decide +kernel
theorem gn_X4 : g_nm TX4 5 := by unfold g_nm; decide +kernel
theorem gn_X5 : g_nm TX5 4 := by unfold g_nm; decide +kernel
theorem gn_X6 : g_nm TX6 4 := by unfold g_nm; decide +kernel
theorem gn_X7 : g_nm TX7 13 := by unfold g_nm; decide +kernel
theorem gn_X8 : g_nm TX8 6 := by unfold g_nm; decide +kernel
theorem gn_X9 : g_nm TX9 7 := by unfold g_nm; decide +kernel
theorem gn_X10 : g_nm TX10 8 := by unfold g_nm; decide +kernel
theorem gn_X11 : g_nm TX11 11 := by unfold g_nm; decide +kernel
theorem gn_X12 : g_nm TX12 8 := by unfold g_nm; decide +kernel
theorem gn_X13 : g_nm TX13 10 := by unfold g_nm; decide +kernel
theorem gn_X14 : g_nm TX14 9 := by unfold g_nm; decide +kernel
theorem gn_X15 : g_nm TX15 12 := by unfold g_nm; decide +kernel
theorem gn_X16 : g_nm TX16 2 := by unfold g_nm; decide +kernel
theorem gn_X17 : g_nm TX17 1 := by unfold g_nm; decide +kernel
theorem g_clS {L : List Nat} (h : ∀ ci ∈ L, ci < 19) {ci : Nat} (hc : ci ∈ L) : ∃ C T N, g_cl[ci]? = some (C, T, N) := by
  obtain ⟨⟨C, T, N⟩, hq⟩ := g_cl_some (h ci hc)
  exact ⟨C, T, N, hq⟩
theorem bs_X9 : ∀ ci ∈ [9, 10, 11, 12, 13, 14, 15], ci < 19 := by decide
theorem bs_X10 : ∀ ci ∈ [10, 11, 14, 15], ci < 19 := by decide
theorem bs_X11 : ∀ ci ∈ [11, 15], ci < 19 := by decide
theorem bs_X12 : ∀ ci ∈ [12, 13], ci < 19 := by decide
theorem bs_X13 : ∀ ci ∈ [13], ci < 19 := by decide
theorem bs_X14 : ∀ ci ∈ [14], ci < 19 := by decide
theorem bs_X15 : ∀ ci ∈ [15], ci < 19 := by decide
