/-! the reference's constructor: printed by tools/genc.py's class G -/
set_option maxRecDepth 100000
theorem gn_X3 : g_nm TX3 56 := by unfold g_nm; decide +kernel
abbrev mX3_init : gM := (yX3_init, cX3_init, 1, none)
theorem okX3_init : g_ok mX3_init 0 := ⟨by decide +kernel, by decide +kernel, by decide +kernel, by decide +kernel, by decide⟩
theorem ff_X3_init_fence : ∀ ci ∈ [3], ∃ (C : String) (T : u_T) (N : Nat) (ty0 : Nat → FieldType), g_cl[ci]? = some (C, T, N) ∧ (∀ k, k < N → parseFieldDescriptor (T k).2.2.1 = some (ty0 k)) ∧ g_nm T N ∧ (∀ w ∈ u_ws C T N, w ∈ lw_all) ∧ Nat.ble (1 + 1) N = true ∧ Cond.fieldLink mX3_init.1.cls 7 (T 1).1 (T 1).2.1 (T 1).2.2.1 ∈ lw_all ∧ (T 1).2.2.2 = true ∧ (T 1).1 = mX3_init.1.cls ∧ ty0 1 = (.array .boolean) := by
  intro ci h
  simp only [List.mem_cons, List.not_mem_nil, or_false] at h
  subst h
  exact ⟨_, _, _, tyX3, rfl, tyX3_ok, gn_X3, in_X3, rfl, q1335, rfl, rfl, rfl⟩
theorem ff_X3_init_prices : ∀ ci ∈ [3], ∃ (C : String) (T : u_T) (N : Nat) (ty0 : Nat → FieldType), g_cl[ci]? = some (C, T, N) ∧ (∀ k, k < N → parseFieldDescriptor (T k).2.2.1 = some (ty0 k)) ∧ g_nm T N ∧ (∀ w ∈ u_ws C T N, w ∈ lw_all) ∧ Nat.ble (2 + 1) N = true ∧ Cond.fieldLink mX3_init.1.cls 13 (T 2).1 (T 2).2.1 (T 2).2.2.1 ∈ lw_all ∧ (T 2).2.2.2 = true ∧ (T 2).1 = mX3_init.1.cls ∧ ty0 2 = (.array .int) := by
  intro ci h
  simp only [List.mem_cons, List.not_mem_nil, or_false] at h
  subst h
  exact ⟨_, _, _, tyX3, rfl, tyX3_ok, gn_X3, in_X3, rfl, q1336, rfl, rfl, rfl⟩
theorem ff_X3_init_ruleName : ∀ ci ∈ [3], ∃ (C : String) (T : u_T) (N : Nat) (ty0 : Nat → FieldType), g_cl[ci]? = some (C, T, N) ∧ (∀ k, k < N → parseFieldDescriptor (T k).2.2.1 = some (ty0 k)) ∧ g_nm T N ∧ (∀ w ∈ u_ws C T N, w ∈ lw_all) ∧ Nat.ble (8 + 1) N = true ∧ Cond.fieldLink mX3_init.1.cls 24 (T 8).1 (T 8).2.1 (T 8).2.2.1 ∈ lw_all ∧ (T 8).2.2.2 = true ∧ (T 8).1 = mX3_init.1.cls ∧ ty0 8 = (.array .int) := by
  intro ci h
  simp only [List.mem_cons, List.not_mem_nil, or_false] at h
  subst h
  exact ⟨_, _, _, tyX3, rfl, tyX3_ok, gn_X3, in_X3, rfl, q1342, rfl, rfl, rfl⟩
theorem ff_X3_init_ruleMany : ∀ ci ∈ [3], ∃ (C : String) (T : u_T) (N : Nat) (ty0 : Nat → FieldType), g_cl[ci]? = some (C, T, N) ∧ (∀ k, k < N → parseFieldDescriptor (T k).2.2.1 = some (ty0 k)) ∧ g_nm T N ∧ (∀ w ∈ u_ws C T N, w ∈ lw_all) ∧ Nat.ble (9 + 1) N = true ∧ Cond.fieldLink mX3_init.1.cls 27 (T 9).1 (T 9).2.1 (T 9).2.2.1 ∈ lw_all ∧ (T 9).2.2.2 = true ∧ (T 9).1 = mX3_init.1.cls ∧ ty0 9 = (.array .int) := by
  intro ci h
  simp only [List.mem_cons, List.not_mem_nil, or_false] at h
  subst h
  exact ⟨_, _, _, tyX3, rfl, tyX3_ok, gn_X3, in_X3, rfl, q1343, rfl, rfl, rfl⟩
theorem ff_X3_init_symbols : ∀ ci ∈ [3], ∃ (C : String) (T : u_T) (N : Nat) (ty0 : Nat → FieldType), g_cl[ci]? = some (C, T, N) ∧ (∀ k, k < N → parseFieldDescriptor (T k).2.2.1 = some (ty0 k)) ∧ g_nm T N ∧ (∀ w ∈ u_ws C T N, w ∈ lw_all) ∧ Nat.ble (10 + 1) N = true ∧ Cond.fieldLink mX3_init.1.cls 30 (T 10).1 (T 10).2.1 (T 10).2.2.1 ∈ lw_all ∧ (T 10).2.2.2 = true ∧ (T 10).1 = mX3_init.1.cls ∧ ty0 10 = (.array .int) := by
  intro ci h
  simp only [List.mem_cons, List.not_mem_nil, or_false] at h
  subst h
  exact ⟨_, _, _, tyX3, rfl, tyX3_ok, gn_X3, in_X3, rfl, q1344, rfl, rfl, rfl⟩
theorem ff_X3_init_forms : ∀ ci ∈ [3], ∃ (C : String) (T : u_T) (N : Nat) (ty0 : Nat → FieldType), g_cl[ci]? = some (C, T, N) ∧ (∀ k, k < N → parseFieldDescriptor (T k).2.2.1 = some (ty0 k)) ∧ g_nm T N ∧ (∀ w ∈ u_ws C T N, w ∈ lw_all) ∧ Nat.ble (11 + 1) N = true ∧ Cond.fieldLink mX3_init.1.cls 33 (T 11).1 (T 11).2.1 (T 11).2.2.1 ∈ lw_all ∧ (T 11).2.2.2 = true ∧ (T 11).1 = mX3_init.1.cls ∧ ty0 11 = (.array .int) := by
  intro ci h
  simp only [List.mem_cons, List.not_mem_nil, or_false] at h
  subst h
  exact ⟨_, _, _, tyX3, rfl, tyX3_ok, gn_X3, in_X3, rfl, q1345, rfl, rfl, rfl⟩
theorem ff_X3_init_formRow : ∀ ci ∈ [3], ∃ (C : String) (T : u_T) (N : Nat) (ty0 : Nat → FieldType), g_cl[ci]? = some (C, T, N) ∧ (∀ k, k < N → parseFieldDescriptor (T k).2.2.1 = some (ty0 k)) ∧ g_nm T N ∧ (∀ w ∈ u_ws C T N, w ∈ lw_all) ∧ Nat.ble (12 + 1) N = true ∧ Cond.fieldLink mX3_init.1.cls 36 (T 12).1 (T 12).2.1 (T 12).2.2.1 ∈ lw_all ∧ (T 12).2.2.2 = true ∧ (T 12).1 = mX3_init.1.cls ∧ ty0 12 = (.array .int) := by
  intro ci h
  simp only [List.mem_cons, List.not_mem_nil, or_false] at h
  subst h
  exact ⟨_, _, _, tyX3, rfl, tyX3_ok, gn_X3, in_X3, rfl, q1346, rfl, rfl, rfl⟩
theorem ff_X3_init_text : ∀ ci ∈ [3], ∃ (C : String) (T : u_T) (N : Nat) (ty0 : Nat → FieldType), g_cl[ci]? = some (C, T, N) ∧ (∀ k, k < N → parseFieldDescriptor (T k).2.2.1 = some (ty0 k)) ∧ g_nm T N ∧ (∀ w ∈ u_ws C T N, w ∈ lw_all) ∧ Nat.ble (15 + 1) N = true ∧ Cond.fieldLink mX3_init.1.cls 39 (T 15).1 (T 15).2.1 (T 15).2.2.1 ∈ lw_all ∧ (T 15).2.2.2 = true ∧ (T 15).1 = mX3_init.1.cls ∧ ty0 15 = (.array .int) := by
  intro ci h
  simp only [List.mem_cons, List.not_mem_nil, or_false] at h
  subst h
  exact ⟨_, _, _, tyX3, rfl, tyX3_ok, gn_X3, in_X3, rfl, q1349, rfl, rfl, rfl⟩
theorem ff_X3_init_slipRow : ∀ ci ∈ [3], ∃ (C : String) (T : u_T) (N : Nat) (ty0 : Nat → FieldType), g_cl[ci]? = some (C, T, N) ∧ (∀ k, k < N → parseFieldDescriptor (T k).2.2.1 = some (ty0 k)) ∧ g_nm T N ∧ (∀ w ∈ u_ws C T N, w ∈ lw_all) ∧ Nat.ble (23 + 1) N = true ∧ Cond.fieldLink mX3_init.1.cls 48 (T 23).1 (T 23).2.1 (T 23).2.2.1 ∈ lw_all ∧ (T 23).2.2.2 = true ∧ (T 23).1 = mX3_init.1.cls ∧ ty0 23 = (.array .int) := by
  intro ci h
  simp only [List.mem_cons, List.not_mem_nil, or_false] at h
  subst h
  exact ⟨_, _, _, tyX3, rfl, tyX3_ok, gn_X3, in_X3, rfl, q1357, rfl, rfl, rfl⟩
theorem ff_X3_init_word : ∀ ci ∈ [3], ∃ (C : String) (T : u_T) (N : Nat) (ty0 : Nat → FieldType), g_cl[ci]? = some (C, T, N) ∧ (∀ k, k < N → parseFieldDescriptor (T k).2.2.1 = some (ty0 k)) ∧ g_nm T N ∧ (∀ w ∈ u_ws C T N, w ∈ lw_all) ∧ Nat.ble (25 + 1) N = true ∧ Cond.fieldLink mX3_init.1.cls 51 (T 25).1 (T 25).2.1 (T 25).2.2.1 ∈ lw_all ∧ (T 25).2.2.2 = true ∧ (T 25).1 = mX3_init.1.cls ∧ ty0 25 = (.array .int) := by
  intro ci h
  simp only [List.mem_cons, List.not_mem_nil, or_false] at h
  subst h
  exact ⟨_, _, _, tyX3, rfl, tyX3_ok, gn_X3, in_X3, rfl, q1359, rfl, rfl, rfl⟩
theorem ff_X3_init_nodeRow : ∀ ci ∈ [3], ∃ (C : String) (T : u_T) (N : Nat) (ty0 : Nat → FieldType), g_cl[ci]? = some (C, T, N) ∧ (∀ k, k < N → parseFieldDescriptor (T k).2.2.1 = some (ty0 k)) ∧ g_nm T N ∧ (∀ w ∈ u_ws C T N, w ∈ lw_all) ∧ Nat.ble (27 + 1) N = true ∧ Cond.fieldLink mX3_init.1.cls 54 (T 27).1 (T 27).2.1 (T 27).2.2.1 ∈ lw_all ∧ (T 27).2.2.2 = true ∧ (T 27).1 = mX3_init.1.cls ∧ ty0 27 = (.array .int) := by
  intro ci h
  simp only [List.mem_cons, List.not_mem_nil, or_false] at h
  subst h
  exact ⟨_, _, _, tyX3, rfl, tyX3_ok, gn_X3, in_X3, rfl, q1361, rfl, rfl, rfl⟩
theorem ff_X3_init_knotSort : ∀ ci ∈ [3], ∃ (C : String) (T : u_T) (N : Nat) (ty0 : Nat → FieldType), g_cl[ci]? = some (C, T, N) ∧ (∀ k, k < N → parseFieldDescriptor (T k).2.2.1 = some (ty0 k)) ∧ g_nm T N ∧ (∀ w ∈ u_ws C T N, w ∈ lw_all) ∧ Nat.ble (29 + 1) N = true ∧ Cond.fieldLink mX3_init.1.cls 57 (T 29).1 (T 29).2.1 (T 29).2.2.1 ∈ lw_all ∧ (T 29).2.2.2 = true ∧ (T 29).1 = mX3_init.1.cls ∧ ty0 29 = (.array .int) := by
  intro ci h
  simp only [List.mem_cons, List.not_mem_nil, or_false] at h
  subst h
  exact ⟨_, _, _, tyX3, rfl, tyX3_ok, gn_X3, in_X3, rfl, q1363, rfl, rfl, rfl⟩
theorem ff_X3_init_knotPlace : ∀ ci ∈ [3], ∃ (C : String) (T : u_T) (N : Nat) (ty0 : Nat → FieldType), g_cl[ci]? = some (C, T, N) ∧ (∀ k, k < N → parseFieldDescriptor (T k).2.2.1 = some (ty0 k)) ∧ g_nm T N ∧ (∀ w ∈ u_ws C T N, w ∈ lw_all) ∧ Nat.ble (30 + 1) N = true ∧ Cond.fieldLink mX3_init.1.cls 60 (T 30).1 (T 30).2.1 (T 30).2.2.1 ∈ lw_all ∧ (T 30).2.2.2 = true ∧ (T 30).1 = mX3_init.1.cls ∧ ty0 30 = (.array .int) := by
  intro ci h
  simp only [List.mem_cons, List.not_mem_nil, or_false] at h
  subst h
  exact ⟨_, _, _, tyX3, rfl, tyX3_ok, gn_X3, in_X3, rfl, q1364, rfl, rfl, rfl⟩
theorem ff_X3_init_knotForm : ∀ ci ∈ [3], ∃ (C : String) (T : u_T) (N : Nat) (ty0 : Nat → FieldType), g_cl[ci]? = some (C, T, N) ∧ (∀ k, k < N → parseFieldDescriptor (T k).2.2.1 = some (ty0 k)) ∧ g_nm T N ∧ (∀ w ∈ u_ws C T N, w ∈ lw_all) ∧ Nat.ble (31 + 1) N = true ∧ Cond.fieldLink mX3_init.1.cls 63 (T 31).1 (T 31).2.1 (T 31).2.2.1 ∈ lw_all ∧ (T 31).2.2.2 = true ∧ (T 31).1 = mX3_init.1.cls ∧ ty0 31 = (.array .int) := by
  intro ci h
  simp only [List.mem_cons, List.not_mem_nil, or_false] at h
  subst h
  exact ⟨_, _, _, tyX3, rfl, tyX3_ok, gn_X3, in_X3, rfl, q1365, rfl, rfl, rfl⟩
theorem ff_X3_init_realAt : ∀ ci ∈ [3], ∃ (C : String) (T : u_T) (N : Nat) (ty0 : Nat → FieldType), g_cl[ci]? = some (C, T, N) ∧ (∀ k, k < N → parseFieldDescriptor (T k).2.2.1 = some (ty0 k)) ∧ g_nm T N ∧ (∀ w ∈ u_ws C T N, w ∈ lw_all) ∧ Nat.ble (32 + 1) N = true ∧ Cond.fieldLink mX3_init.1.cls 66 (T 32).1 (T 32).2.1 (T 32).2.2.1 ∈ lw_all ∧ (T 32).2.2.2 = true ∧ (T 32).1 = mX3_init.1.cls ∧ ty0 32 = (.array .int) := by
  intro ci h
  simp only [List.mem_cons, List.not_mem_nil, or_false] at h
  subst h
  exact ⟨_, _, _, tyX3, rfl, tyX3_ok, gn_X3, in_X3, rfl, q1366, rfl, rfl, rfl⟩
theorem ff_X3_init_skip : ∀ ci ∈ [3], ∃ (C : String) (T : u_T) (N : Nat) (ty0 : Nat → FieldType), g_cl[ci]? = some (C, T, N) ∧ (∀ k, k < N → parseFieldDescriptor (T k).2.2.1 = some (ty0 k)) ∧ g_nm T N ∧ (∀ w ∈ u_ws C T N, w ∈ lw_all) ∧ Nat.ble (38 + 1) N = true ∧ Cond.fieldLink mX3_init.1.cls 69 (T 38).1 (T 38).2.1 (T 38).2.2.1 ∈ lw_all ∧ (T 38).2.2.2 = true ∧ (T 38).1 = mX3_init.1.cls ∧ ty0 38 = (.array .int) := by
  intro ci h
  simp only [List.mem_cons, List.not_mem_nil, or_false] at h
  subst h
  exact ⟨_, _, _, tyX3, rfl, tyX3_ok, gn_X3, in_X3, rfl, q1372, rfl, rfl, rfl⟩
theorem ff_X3_init_skipBy : ∀ ci ∈ [3], ∃ (C : String) (T : u_T) (N : Nat) (ty0 : Nat → FieldType), g_cl[ci]? = some (C, T, N) ∧ (∀ k, k < N → parseFieldDescriptor (T k).2.2.1 = some (ty0 k)) ∧ g_nm T N ∧ (∀ w ∈ u_ws C T N, w ∈ lw_all) ∧ Nat.ble (39 + 1) N = true ∧ Cond.fieldLink mX3_init.1.cls 72 (T 39).1 (T 39).2.1 (T 39).2.2.1 ∈ lw_all ∧ (T 39).2.2.2 = true ∧ (T 39).1 = mX3_init.1.cls ∧ ty0 39 = (.array .int) := by
  intro ci h
  simp only [List.mem_cons, List.not_mem_nil, or_false] at h
  subst h
  exact ⟨_, _, _, tyX3, rfl, tyX3_ok, gn_X3, in_X3, rfl, q1373, rfl, rfl, rfl⟩
theorem ff_X3_init_reads : ∀ ci ∈ [3], ∃ (C : String) (T : u_T) (N : Nat) (ty0 : Nat → FieldType), g_cl[ci]? = some (C, T, N) ∧ (∀ k, k < N → parseFieldDescriptor (T k).2.2.1 = some (ty0 k)) ∧ g_nm T N ∧ (∀ w ∈ u_ws C T N, w ∈ lw_all) ∧ Nat.ble (40 + 1) N = true ∧ Cond.fieldLink mX3_init.1.cls 75 (T 40).1 (T 40).2.1 (T 40).2.2.1 ∈ lw_all ∧ (T 40).2.2.2 = true ∧ (T 40).1 = mX3_init.1.cls ∧ ty0 40 = (.array .int) := by
  intro ci h
  simp only [List.mem_cons, List.not_mem_nil, or_false] at h
  subst h
  exact ⟨_, _, _, tyX3, rfl, tyX3_ok, gn_X3, in_X3, rfl, q1374, rfl, rfl, rfl⟩
theorem ff_X3_init_readFrom : ∀ ci ∈ [3], ∃ (C : String) (T : u_T) (N : Nat) (ty0 : Nat → FieldType), g_cl[ci]? = some (C, T, N) ∧ (∀ k, k < N → parseFieldDescriptor (T k).2.2.1 = some (ty0 k)) ∧ g_nm T N ∧ (∀ w ∈ u_ws C T N, w ∈ lw_all) ∧ Nat.ble (41 + 1) N = true ∧ Cond.fieldLink mX3_init.1.cls 78 (T 41).1 (T 41).2.1 (T 41).2.2.1 ∈ lw_all ∧ (T 41).2.2.2 = true ∧ (T 41).1 = mX3_init.1.cls ∧ ty0 41 = (.array .int) := by
  intro ci h
  simp only [List.mem_cons, List.not_mem_nil, or_false] at h
  subst h
  exact ⟨_, _, _, tyX3, rfl, tyX3_ok, gn_X3, in_X3, rfl, q1375, rfl, rfl, rfl⟩
theorem ff_X3_init_readKind : ∀ ci ∈ [3], ∃ (C : String) (T : u_T) (N : Nat) (ty0 : Nat → FieldType), g_cl[ci]? = some (C, T, N) ∧ (∀ k, k < N → parseFieldDescriptor (T k).2.2.1 = some (ty0 k)) ∧ g_nm T N ∧ (∀ w ∈ u_ws C T N, w ∈ lw_all) ∧ Nat.ble (42 + 1) N = true ∧ Cond.fieldLink mX3_init.1.cls 81 (T 42).1 (T 42).2.1 (T 42).2.2.1 ∈ lw_all ∧ (T 42).2.2.2 = true ∧ (T 42).1 = mX3_init.1.cls ∧ ty0 42 = (.array .int) := by
  intro ci h
  simp only [List.mem_cons, List.not_mem_nil, or_false] at h
  subst h
  exact ⟨_, _, _, tyX3, rfl, tyX3_ok, gn_X3, in_X3, rfl, q1376, rfl, rfl, rfl⟩
theorem ff_X3_init_readForm : ∀ ci ∈ [3], ∃ (C : String) (T : u_T) (N : Nat) (ty0 : Nat → FieldType), g_cl[ci]? = some (C, T, N) ∧ (∀ k, k < N → parseFieldDescriptor (T k).2.2.1 = some (ty0 k)) ∧ g_nm T N ∧ (∀ w ∈ u_ws C T N, w ∈ lw_all) ∧ Nat.ble (43 + 1) N = true ∧ Cond.fieldLink mX3_init.1.cls 84 (T 43).1 (T 43).2.1 (T 43).2.2.1 ∈ lw_all ∧ (T 43).2.2.2 = true ∧ (T 43).1 = mX3_init.1.cls ∧ ty0 43 = (.array .int) := by
  intro ci h
  simp only [List.mem_cons, List.not_mem_nil, or_false] at h
  subst h
  exact ⟨_, _, _, tyX3, rfl, tyX3_ok, gn_X3, in_X3, rfl, q1377, rfl, rfl, rfl⟩
theorem ff_X3_init_costs : ∀ ci ∈ [3], ∃ (C : String) (T : u_T) (N : Nat) (ty0 : Nat → FieldType), g_cl[ci]? = some (C, T, N) ∧ (∀ k, k < N → parseFieldDescriptor (T k).2.2.1 = some (ty0 k)) ∧ g_nm T N ∧ (∀ w ∈ u_ws C T N, w ∈ lw_all) ∧ Nat.ble (44 + 1) N = true ∧ Cond.fieldLink mX3_init.1.cls 87 (T 44).1 (T 44).2.1 (T 44).2.2.1 ∈ lw_all ∧ (T 44).2.2.2 = true ∧ (T 44).1 = mX3_init.1.cls ∧ ty0 44 = (.array .long) := by
  intro ci h
  simp only [List.mem_cons, List.not_mem_nil, or_false] at h
  subst h
  exact ⟨_, _, _, tyX3, rfl, tyX3_ok, gn_X3, in_X3, rfl, q1378, rfl, rfl, rfl⟩
theorem ff_X3_init_firsts : ∀ ci ∈ [3], ∃ (C : String) (T : u_T) (N : Nat) (ty0 : Nat → FieldType), g_cl[ci]? = some (C, T, N) ∧ (∀ k, k < N → parseFieldDescriptor (T k).2.2.1 = some (ty0 k)) ∧ g_nm T N ∧ (∀ w ∈ u_ws C T N, w ∈ lw_all) ∧ Nat.ble (45 + 1) N = true ∧ Cond.fieldLink mX3_init.1.cls 92 (T 45).1 (T 45).2.1 (T 45).2.2.1 ∈ lw_all ∧ (T 45).2.2.2 = true ∧ (T 45).1 = mX3_init.1.cls ∧ ty0 45 = (.array .long) := by
  intro ci h
  simp only [List.mem_cons, List.not_mem_nil, or_false] at h
  subst h
  exact ⟨_, _, _, tyX3, rfl, tyX3_ok, gn_X3, in_X3, rfl, q1379, rfl, rfl, rfl⟩
theorem ff_X3_init_pileSymbol : ∀ ci ∈ [3], ∃ (C : String) (T : u_T) (N : Nat) (ty0 : Nat → FieldType), g_cl[ci]? = some (C, T, N) ∧ (∀ k, k < N → parseFieldDescriptor (T k).2.2.1 = some (ty0 k)) ∧ g_nm T N ∧ (∀ w ∈ u_ws C T N, w ∈ lw_all) ∧ Nat.ble (47 + 1) N = true ∧ Cond.fieldLink mX3_init.1.cls 95 (T 47).1 (T 47).2.1 (T 47).2.2.1 ∈ lw_all ∧ (T 47).2.2.2 = true ∧ (T 47).1 = mX3_init.1.cls ∧ ty0 47 = (.array .int) := by
  intro ci h
  simp only [List.mem_cons, List.not_mem_nil, or_false] at h
  subst h
  exact ⟨_, _, _, tyX3, rfl, tyX3_ok, gn_X3, in_X3, rfl, q1381, rfl, rfl, rfl⟩
theorem ff_X3_init_pileFrom : ∀ ci ∈ [3], ∃ (C : String) (T : u_T) (N : Nat) (ty0 : Nat → FieldType), g_cl[ci]? = some (C, T, N) ∧ (∀ k, k < N → parseFieldDescriptor (T k).2.2.1 = some (ty0 k)) ∧ g_nm T N ∧ (∀ w ∈ u_ws C T N, w ∈ lw_all) ∧ Nat.ble (48 + 1) N = true ∧ Cond.fieldLink mX3_init.1.cls 98 (T 48).1 (T 48).2.1 (T 48).2.2.1 ∈ lw_all ∧ (T 48).2.2.2 = true ∧ (T 48).1 = mX3_init.1.cls ∧ ty0 48 = (.array .int) := by
  intro ci h
  simp only [List.mem_cons, List.not_mem_nil, or_false] at h
  subst h
  exact ⟨_, _, _, tyX3, rfl, tyX3_ok, gn_X3, in_X3, rfl, q1382, rfl, rfl, rfl⟩
theorem ff_X3_init_pileTo : ∀ ci ∈ [3], ∃ (C : String) (T : u_T) (N : Nat) (ty0 : Nat → FieldType), g_cl[ci]? = some (C, T, N) ∧ (∀ k, k < N → parseFieldDescriptor (T k).2.2.1 = some (ty0 k)) ∧ g_nm T N ∧ (∀ w ∈ u_ws C T N, w ∈ lw_all) ∧ Nat.ble (49 + 1) N = true ∧ Cond.fieldLink mX3_init.1.cls 101 (T 49).1 (T 49).2.1 (T 49).2.2.1 ∈ lw_all ∧ (T 49).2.2.2 = true ∧ (T 49).1 = mX3_init.1.cls ∧ ty0 49 = (.array .int) := by
  intro ci h
  simp only [List.mem_cons, List.not_mem_nil, or_false] at h
  subst h
  exact ⟨_, _, _, tyX3, rfl, tyX3_ok, gn_X3, in_X3, rfl, q1383, rfl, rfl, rfl⟩
theorem ff_X3_init_pileNode : ∀ ci ∈ [3], ∃ (C : String) (T : u_T) (N : Nat) (ty0 : Nat → FieldType), g_cl[ci]? = some (C, T, N) ∧ (∀ k, k < N → parseFieldDescriptor (T k).2.2.1 = some (ty0 k)) ∧ g_nm T N ∧ (∀ w ∈ u_ws C T N, w ∈ lw_all) ∧ Nat.ble (50 + 1) N = true ∧ Cond.fieldLink mX3_init.1.cls 104 (T 50).1 (T 50).2.1 (T 50).2.2.1 ∈ lw_all ∧ (T 50).2.2.2 = true ∧ (T 50).1 = mX3_init.1.cls ∧ ty0 50 = (.array .int) := by
  intro ci h
  simp only [List.mem_cons, List.not_mem_nil, or_false] at h
  subst h
  exact ⟨_, _, _, tyX3, rfl, tyX3_ok, gn_X3, in_X3, rfl, q1384, rfl, rfl, rfl⟩
theorem ff_X3_init_shelfKind : ∀ ci ∈ [3], ∃ (C : String) (T : u_T) (N : Nat) (ty0 : Nat → FieldType), g_cl[ci]? = some (C, T, N) ∧ (∀ k, k < N → parseFieldDescriptor (T k).2.2.1 = some (ty0 k)) ∧ g_nm T N ∧ (∀ w ∈ u_ws C T N, w ∈ lw_all) ∧ Nat.ble (51 + 1) N = true ∧ Cond.fieldLink mX3_init.1.cls 107 (T 51).1 (T 51).2.1 (T 51).2.2.1 ∈ lw_all ∧ (T 51).2.2.2 = true ∧ (T 51).1 = mX3_init.1.cls ∧ ty0 51 = (.array .int) := by
  intro ci h
  simp only [List.mem_cons, List.not_mem_nil, or_false] at h
  subst h
  exact ⟨_, _, _, tyX3, rfl, tyX3_ok, gn_X3, in_X3, rfl, q1385, rfl, rfl, rfl⟩
theorem ff_X3_init_shelfMany : ∀ ci ∈ [3], ∃ (C : String) (T : u_T) (N : Nat) (ty0 : Nat → FieldType), g_cl[ci]? = some (C, T, N) ∧ (∀ k, k < N → parseFieldDescriptor (T k).2.2.1 = some (ty0 k)) ∧ g_nm T N ∧ (∀ w ∈ u_ws C T N, w ∈ lw_all) ∧ Nat.ble (52 + 1) N = true ∧ Cond.fieldLink mX3_init.1.cls 110 (T 52).1 (T 52).2.1 (T 52).2.2.1 ∈ lw_all ∧ (T 52).2.2.2 = true ∧ (T 52).1 = mX3_init.1.cls ∧ ty0 52 = (.array .int) := by
  intro ci h
  simp only [List.mem_cons, List.not_mem_nil, or_false] at h
  subst h
  exact ⟨_, _, _, tyX3, rfl, tyX3_ok, gn_X3, in_X3, rfl, q1386, rfl, rfl, rfl⟩
theorem ff_X3_init_shelfRow : ∀ ci ∈ [3], ∃ (C : String) (T : u_T) (N : Nat) (ty0 : Nat → FieldType), g_cl[ci]? = some (C, T, N) ∧ (∀ k, k < N → parseFieldDescriptor (T k).2.2.1 = some (ty0 k)) ∧ g_nm T N ∧ (∀ w ∈ u_ws C T N, w ∈ lw_all) ∧ Nat.ble (53 + 1) N = true ∧ Cond.fieldLink mX3_init.1.cls 113 (T 53).1 (T 53).2.1 (T 53).2.2.1 ∈ lw_all ∧ (T 53).2.2.2 = true ∧ (T 53).1 = mX3_init.1.cls ∧ ty0 53 = (.array .int) := by
  intro ci h
  simp only [List.mem_cons, List.not_mem_nil, or_false] at h
  subst h
  exact ⟨_, _, _, tyX3, rfl, tyX3_ok, gn_X3, in_X3, rfl, q1387, rfl, rfl, rfl⟩
theorem ff_X3_init_reached : ∀ ci ∈ [3], ∃ (C : String) (T : u_T) (N : Nat) (ty0 : Nat → FieldType), g_cl[ci]? = some (C, T, N) ∧ (∀ k, k < N → parseFieldDescriptor (T k).2.2.1 = some (ty0 k)) ∧ g_nm T N ∧ (∀ w ∈ u_ws C T N, w ∈ lw_all) ∧ Nat.ble (54 + 1) N = true ∧ Cond.fieldLink mX3_init.1.cls 116 (T 54).1 (T 54).2.1 (T 54).2.2.1 ∈ lw_all ∧ (T 54).2.2.2 = true ∧ (T 54).1 = mX3_init.1.cls ∧ ty0 54 = (.array .int) := by
  intro ci h
  simp only [List.mem_cons, List.not_mem_nil, or_false] at h
  subst h
  exact ⟨_, _, _, tyX3, rfl, tyX3_ok, gn_X3, in_X3, rfl, q1388, rfl, rfl, rfl⟩
theorem ff_X3_init_next : ∀ ci ∈ [3], ∃ (C : String) (T : u_T) (N : Nat) (ty0 : Nat → FieldType), g_cl[ci]? = some (C, T, N) ∧ (∀ k, k < N → parseFieldDescriptor (T k).2.2.1 = some (ty0 k)) ∧ g_nm T N ∧ (∀ w ∈ u_ws C T N, w ∈ lw_all) ∧ Nat.ble (55 + 1) N = true ∧ Cond.fieldLink mX3_init.1.cls 119 (T 55).1 (T 55).2.1 (T 55).2.2.1 ∈ lw_all ∧ (T 55).2.2.2 = true ∧ (T 55).1 = mX3_init.1.cls ∧ ty0 55 = (.array .int) := by
  intro ci h
  simp only [List.mem_cons, List.not_mem_nil, or_false] at h
  subst h
  exact ⟨_, _, _, tyX3, rfl, tyX3_ok, gn_X3, in_X3, rfl, q1389, rfl, rfl, rfl⟩
def wX3_init (Q : gH → Prop) (mc ms : Nat) (x0 : Nat) (σ : gH) : Prop := 0 + 1 ≤ mc ∧ 0 + (12 : Int32).toNatClampNeg ≤ ms ∧ ¬ (12 : Int32) < 0 ∧ (12 : Int32).toNatClampNeg * 1 ≤ 536870912 ∧ c_new σ (.inl (2, (12 : Int32).toNatClampNeg, .inl (fun _ => 0))) (fun q_2 σ_1 => c_P σ_1 [3] x0 1 (va_rf (some q_2)) (fun σ_3 => (0 + 1) + 1 ≤ mc ∧ (0 + (12 : Int32).toNatClampNeg) + (36 : Int32).toNatClampNeg ≤ ms ∧ ¬ (36 : Int32) < 0 ∧ (36 : Int32).toNatClampNeg * 4 ≤ 536870912 ∧ c_new σ_3 (.inl (0, (36 : Int32).toNatClampNeg, .inl (fun _ => 0))) (fun q_5 σ_4 => c_P σ_4 [3] x0 2 (va_rf (some q_5)) (fun σ_6 => c_P σ_6 [3] x0 3 (.int 10) (fun σ_7 => c_P σ_7 [3] x0 4 (.int 15) (fun σ_8 => ((0 + 1) + 1) + 1 ≤ mc ∧ ((0 + (12 : Int32).toNatClampNeg) + (36 : Int32).toNatClampNeg) + (24 : Int32).toNatClampNeg ≤ ms ∧ ¬ (24 : Int32) < 0 ∧ (24 : Int32).toNatClampNeg * 4 ≤ 536870912 ∧ c_new σ_8 (.inl (0, (24 : Int32).toNatClampNeg, .inl (fun _ => 0))) (fun q_10 σ_9 => c_P σ_9 [3] x0 8 (va_rf (some q_10)) (fun σ_11 => (((0 + 1) + 1) + 1) + 1 ≤ mc ∧ (((0 + (12 : Int32).toNatClampNeg) + (36 : Int32).toNatClampNeg) + (24 : Int32).toNatClampNeg) + (24 : Int32).toNatClampNeg ≤ ms ∧ ¬ (24 : Int32) < 0 ∧ (24 : Int32).toNatClampNeg * 4 ≤ 536870912 ∧ c_new σ_11 (.inl (0, (24 : Int32).toNatClampNeg, .inl (fun _ => 0))) (fun q_13 σ_12 => c_P σ_12 [3] x0 9 (va_rf (some q_13)) (fun σ_14 => ((((0 + 1) + 1) + 1) + 1) + 1 ≤ mc ∧ ((((0 + (12 : Int32).toNatClampNeg) + (36 : Int32).toNatClampNeg) + (24 : Int32).toNatClampNeg) + (24 : Int32).toNatClampNeg) + (72 : Int32).toNatClampNeg ≤ ms ∧ ¬ (72 : Int32) < 0 ∧ (72 : Int32).toNatClampNeg * 4 ≤ 536870912 ∧ c_new σ_14 (.inl (0, (72 : Int32).toNatClampNeg, .inl (fun _ => 0))) (fun q_16 σ_15 => c_P σ_15 [3] x0 10 (va_rf (some q_16)) (fun σ_17 => (((((0 + 1) + 1) + 1) + 1) + 1) + 1 ≤ mc ∧ (((((0 + (12 : Int32).toNatClampNeg) + (36 : Int32).toNatClampNeg) + (24 : Int32).toNatClampNeg) + (24 : Int32).toNatClampNeg) + (72 : Int32).toNatClampNeg) + (2 : Int32).toNatClampNeg ≤ ms ∧ ¬ (2 : Int32) < 0 ∧ (2 : Int32).toNatClampNeg * 4 ≤ 536870912 ∧ c_new σ_17 (.inl (0, (2 : Int32).toNatClampNeg, .inl (fun _ => 0))) (fun q_19 σ_18 => c_P σ_18 [3] x0 11 (va_rf (some q_19)) (fun σ_20 => ((((((0 + 1) + 1) + 1) + 1) + 1) + 1) + 1 ≤ mc ∧ ((((((0 + (12 : Int32).toNatClampNeg) + (36 : Int32).toNatClampNeg) + (24 : Int32).toNatClampNeg) + (24 : Int32).toNatClampNeg) + (72 : Int32).toNatClampNeg) + (2 : Int32).toNatClampNeg) + (24 : Int32).toNatClampNeg ≤ ms ∧ ¬ (24 : Int32) < 0 ∧ (24 : Int32).toNatClampNeg * 4 ≤ 536870912 ∧ c_new σ_20 (.inl (0, (24 : Int32).toNatClampNeg, .inl (fun _ => 0))) (fun q_22 σ_21 => c_P σ_21 [3] x0 12 (va_rf (some q_22)) (fun σ_23 => (((((((0 + 1) + 1) + 1) + 1) + 1) + 1) + 1) + 1 ≤ mc ∧ (((((((0 + (12 : Int32).toNatClampNeg) + (36 : Int32).toNatClampNeg) + (24 : Int32).toNatClampNeg) + (24 : Int32).toNatClampNeg) + (72 : Int32).toNatClampNeg) + (2 : Int32).toNatClampNeg) + (24 : Int32).toNatClampNeg) + (11 : Int32).toNatClampNeg ≤ ms ∧ ¬ (11 : Int32) < 0 ∧ (11 : Int32).toNatClampNeg * 4 ≤ 536870912 ∧ c_new σ_23 (.inl (0, (11 : Int32).toNatClampNeg, .inl (fun _ => 0))) (fun q_25 σ_24 => c_P σ_24 [3] x0 15 (va_rf (some q_25)) (fun σ_26 => c_P σ_26 [3] x0 17 (.int (-4)) (fun σ_27 => c_P σ_27 [3] x0 21 (.int (-4)) (fun σ_28 => ((((((((0 + 1) + 1) + 1) + 1) + 1) + 1) + 1) + 1) + 1 ≤ mc ∧ ((((((((0 + (12 : Int32).toNatClampNeg) + (36 : Int32).toNatClampNeg) + (24 : Int32).toNatClampNeg) + (24 : Int32).toNatClampNeg) + (72 : Int32).toNatClampNeg) + (2 : Int32).toNatClampNeg) + (24 : Int32).toNatClampNeg) + (11 : Int32).toNatClampNeg) + (1600 : Int32).toNatClampNeg ≤ ms ∧ ¬ (1600 : Int32) < 0 ∧ (1600 : Int32).toNatClampNeg * 4 ≤ 536870912 ∧ c_new σ_28 (.inl (0, (1600 : Int32).toNatClampNeg, .inl (fun _ => 0))) (fun q_30 σ_29 => c_P σ_29 [3] x0 23 (va_rf (some q_30)) (fun σ_31 => (((((((((0 + 1) + 1) + 1) + 1) + 1) + 1) + 1) + 1) + 1) + 1 ≤ mc ∧ (((((((((0 + (12 : Int32).toNatClampNeg) + (36 : Int32).toNatClampNeg) + (24 : Int32).toNatClampNeg) + (24 : Int32).toNatClampNeg) + (72 : Int32).toNatClampNeg) + (2 : Int32).toNatClampNeg) + (24 : Int32).toNatClampNeg) + (11 : Int32).toNatClampNeg) + (1600 : Int32).toNatClampNeg) + (320 : Int32).toNatClampNeg ≤ ms ∧ ¬ (320 : Int32) < 0 ∧ (320 : Int32).toNatClampNeg * 4 ≤ 536870912 ∧ c_new σ_31 (.inl (0, (320 : Int32).toNatClampNeg, .inl (fun _ => 0))) (fun q_33 σ_32 => c_P σ_32 [3] x0 25 (va_rf (some q_33)) (fun σ_34 => ((((((((((0 + 1) + 1) + 1) + 1) + 1) + 1) + 1) + 1) + 1) + 1) + 1 ≤ mc ∧ ((((((((((0 + (12 : Int32).toNatClampNeg) + (36 : Int32).toNatClampNeg) + (24 : Int32).toNatClampNeg) + (24 : Int32).toNatClampNeg) + (72 : Int32).toNatClampNeg) + (2 : Int32).toNatClampNeg) + (24 : Int32).toNatClampNeg) + (11 : Int32).toNatClampNeg) + (1600 : Int32).toNatClampNeg) + (320 : Int32).toNatClampNeg) + (520 : Int32).toNatClampNeg ≤ ms ∧ ¬ (520 : Int32) < 0 ∧ (520 : Int32).toNatClampNeg * 4 ≤ 536870912 ∧ c_new σ_34 (.inl (0, (520 : Int32).toNatClampNeg, .inl (fun _ => 0))) (fun q_36 σ_35 => c_P σ_35 [3] x0 27 (va_rf (some q_36)) (fun σ_37 => (((((((((((0 + 1) + 1) + 1) + 1) + 1) + 1) + 1) + 1) + 1) + 1) + 1) + 1 ≤ mc ∧ (((((((((((0 + (12 : Int32).toNatClampNeg) + (36 : Int32).toNatClampNeg) + (24 : Int32).toNatClampNeg) + (24 : Int32).toNatClampNeg) + (72 : Int32).toNatClampNeg) + (2 : Int32).toNatClampNeg) + (24 : Int32).toNatClampNeg) + (11 : Int32).toNatClampNeg) + (1600 : Int32).toNatClampNeg) + (320 : Int32).toNatClampNeg) + (520 : Int32).toNatClampNeg) + (52 : Int32).toNatClampNeg ≤ ms ∧ ¬ (52 : Int32) < 0 ∧ (52 : Int32).toNatClampNeg * 4 ≤ 536870912 ∧ c_new σ_37 (.inl (0, (52 : Int32).toNatClampNeg, .inl (fun _ => 0))) (fun q_39 σ_38 => c_P σ_38 [3] x0 29 (va_rf (some q_39)) (fun σ_40 => ((((((((((((0 + 1) + 1) + 1) + 1) + 1) + 1) + 1) + 1) + 1) + 1) + 1) + 1) + 1 ≤ mc ∧ ((((((((((((0 + (12 : Int32).toNatClampNeg) + (36 : Int32).toNatClampNeg) + (24 : Int32).toNatClampNeg) + (24 : Int32).toNatClampNeg) + (72 : Int32).toNatClampNeg) + (2 : Int32).toNatClampNeg) + (24 : Int32).toNatClampNeg) + (11 : Int32).toNatClampNeg) + (1600 : Int32).toNatClampNeg) + (320 : Int32).toNatClampNeg) + (520 : Int32).toNatClampNeg) + (52 : Int32).toNatClampNeg) + (52 : Int32).toNatClampNeg ≤ ms ∧ ¬ (52 : Int32) < 0 ∧ (52 : Int32).toNatClampNeg * 4 ≤ 536870912 ∧ c_new σ_40 (.inl (0, (52 : Int32).toNatClampNeg, .inl (fun _ => 0))) (fun q_42 σ_41 => c_P σ_41 [3] x0 30 (va_rf (some q_42)) (fun σ_43 => (((((((((((((0 + 1) + 1) + 1) + 1) + 1) + 1) + 1) + 1) + 1) + 1) + 1) + 1) + 1) + 1 ≤ mc ∧ (((((((((((((0 + (12 : Int32).toNatClampNeg) + (36 : Int32).toNatClampNeg) + (24 : Int32).toNatClampNeg) + (24 : Int32).toNatClampNeg) + (72 : Int32).toNatClampNeg) + (2 : Int32).toNatClampNeg) + (24 : Int32).toNatClampNeg) + (11 : Int32).toNatClampNeg) + (1600 : Int32).toNatClampNeg) + (320 : Int32).toNatClampNeg) + (520 : Int32).toNatClampNeg) + (52 : Int32).toNatClampNeg) + (52 : Int32).toNatClampNeg) + (52 : Int32).toNatClampNeg ≤ ms ∧ ¬ (52 : Int32) < 0 ∧ (52 : Int32).toNatClampNeg * 4 ≤ 536870912 ∧ c_new σ_43 (.inl (0, (52 : Int32).toNatClampNeg, .inl (fun _ => 0))) (fun q_45 σ_44 => c_P σ_44 [3] x0 31 (va_rf (some q_45)) (fun σ_46 => ((((((((((((((0 + 1) + 1) + 1) + 1) + 1) + 1) + 1) + 1) + 1) + 1) + 1) + 1) + 1) + 1) + 1 ≤ mc ∧ ((((((((((((((0 + (12 : Int32).toNatClampNeg) + (36 : Int32).toNatClampNeg) + (24 : Int32).toNatClampNeg) + (24 : Int32).toNatClampNeg) + (72 : Int32).toNatClampNeg) + (2 : Int32).toNatClampNeg) + (24 : Int32).toNatClampNeg) + (11 : Int32).toNatClampNeg) + (1600 : Int32).toNatClampNeg) + (320 : Int32).toNatClampNeg) + (520 : Int32).toNatClampNeg) + (52 : Int32).toNatClampNeg) + (52 : Int32).toNatClampNeg) + (52 : Int32).toNatClampNeg) + (12 : Int32).toNatClampNeg ≤ ms ∧ ¬ (12 : Int32) < 0 ∧ (12 : Int32).toNatClampNeg * 4 ≤ 536870912 ∧ c_new σ_46 (.inl (0, (12 : Int32).toNatClampNeg, .inl (fun _ => 0))) (fun q_48 σ_47 => c_P σ_47 [3] x0 32 (va_rf (some q_48)) (fun σ_49 => (((((((((((((((0 + 1) + 1) + 1) + 1) + 1) + 1) + 1) + 1) + 1) + 1) + 1) + 1) + 1) + 1) + 1) + 1 ≤ mc ∧ (((((((((((((((0 + (12 : Int32).toNatClampNeg) + (36 : Int32).toNatClampNeg) + (24 : Int32).toNatClampNeg) + (24 : Int32).toNatClampNeg) + (72 : Int32).toNatClampNeg) + (2 : Int32).toNatClampNeg) + (24 : Int32).toNatClampNeg) + (11 : Int32).toNatClampNeg) + (1600 : Int32).toNatClampNeg) + (320 : Int32).toNatClampNeg) + (520 : Int32).toNatClampNeg) + (52 : Int32).toNatClampNeg) + (52 : Int32).toNatClampNeg) + (52 : Int32).toNatClampNeg) + (12 : Int32).toNatClampNeg) + (144 : Int32).toNatClampNeg ≤ ms ∧ ¬ (144 : Int32) < 0 ∧ (144 : Int32).toNatClampNeg * 4 ≤ 536870912 ∧ c_new σ_49 (.inl (0, (144 : Int32).toNatClampNeg, .inl (fun _ => 0))) (fun q_51 σ_50 => c_P σ_50 [3] x0 38 (va_rf (some q_51)) (fun σ_52 => ((((((((((((((((0 + 1) + 1) + 1) + 1) + 1) + 1) + 1) + 1) + 1) + 1) + 1) + 1) + 1) + 1) + 1) + 1) + 1 ≤ mc ∧ ((((((((((((((((0 + (12 : Int32).toNatClampNeg) + (36 : Int32).toNatClampNeg) + (24 : Int32).toNatClampNeg) + (24 : Int32).toNatClampNeg) + (72 : Int32).toNatClampNeg) + (2 : Int32).toNatClampNeg) + (24 : Int32).toNatClampNeg) + (11 : Int32).toNatClampNeg) + (1600 : Int32).toNatClampNeg) + (320 : Int32).toNatClampNeg) + (520 : Int32).toNatClampNeg) + (52 : Int32).toNatClampNeg) + (52 : Int32).toNatClampNeg) + (52 : Int32).toNatClampNeg) + (12 : Int32).toNatClampNeg) + (144 : Int32).toNatClampNeg) + (144 : Int32).toNatClampNeg ≤ ms ∧ ¬ (144 : Int32) < 0 ∧ (144 : Int32).toNatClampNeg * 4 ≤ 536870912 ∧ c_new σ_52 (.inl (0, (144 : Int32).toNatClampNeg, .inl (fun _ => 0))) (fun q_54 σ_53 => c_P σ_53 [3] x0 39 (va_rf (some q_54)) (fun σ_55 => (((((((((((((((((0 + 1) + 1) + 1) + 1) + 1) + 1) + 1) + 1) + 1) + 1) + 1) + 1) + 1) + 1) + 1) + 1) + 1) + 1 ≤ mc ∧ (((((((((((((((((0 + (12 : Int32).toNatClampNeg) + (36 : Int32).toNatClampNeg) + (24 : Int32).toNatClampNeg) + (24 : Int32).toNatClampNeg) + (72 : Int32).toNatClampNeg) + (2 : Int32).toNatClampNeg) + (24 : Int32).toNatClampNeg) + (11 : Int32).toNatClampNeg) + (1600 : Int32).toNatClampNeg) + (320 : Int32).toNatClampNeg) + (520 : Int32).toNatClampNeg) + (52 : Int32).toNatClampNeg) + (52 : Int32).toNatClampNeg) + (52 : Int32).toNatClampNeg) + (12 : Int32).toNatClampNeg) + (144 : Int32).toNatClampNeg) + (144 : Int32).toNatClampNeg) + (32448 : Int32).toNatClampNeg ≤ ms ∧ ¬ (32448 : Int32) < 0 ∧ (32448 : Int32).toNatClampNeg * 4 ≤ 536870912 ∧ c_new σ_55 (.inl (0, (32448 : Int32).toNatClampNeg, .inl (fun _ => 0))) (fun q_57 σ_56 => c_P σ_56 [3] x0 40 (va_rf (some q_57)) (fun σ_58 => ((((((((((((((((((0 + 1) + 1) + 1) + 1) + 1) + 1) + 1) + 1) + 1) + 1) + 1) + 1) + 1) + 1) + 1) + 1) + 1) + 1) + 1 ≤ mc ∧ ((((((((((((((((((0 + (12 : Int32).toNatClampNeg) + (36 : Int32).toNatClampNeg) + (24 : Int32).toNatClampNeg) + (24 : Int32).toNatClampNeg) + (72 : Int32).toNatClampNeg) + (2 : Int32).toNatClampNeg) + (24 : Int32).toNatClampNeg) + (11 : Int32).toNatClampNeg) + (1600 : Int32).toNatClampNeg) + (320 : Int32).toNatClampNeg) + (520 : Int32).toNatClampNeg) + (52 : Int32).toNatClampNeg) + (52 : Int32).toNatClampNeg) + (52 : Int32).toNatClampNeg) + (12 : Int32).toNatClampNeg) + (144 : Int32).toNatClampNeg) + (144 : Int32).toNatClampNeg) + (32448 : Int32).toNatClampNeg) + (32448 : Int32).toNatClampNeg ≤ ms ∧ ¬ (32448 : Int32) < 0 ∧ (32448 : Int32).toNatClampNeg * 4 ≤ 536870912 ∧ c_new σ_58 (.inl (0, (32448 : Int32).toNatClampNeg, .inl (fun _ => 0))) (fun q_60 σ_59 => c_P σ_59 [3] x0 41 (va_rf (some q_60)) (fun σ_61 => (((((((((((((((((((0 + 1) + 1) + 1) + 1) + 1) + 1) + 1) + 1) + 1) + 1) + 1) + 1) + 1) + 1) + 1) + 1) + 1) + 1) + 1) + 1 ≤ mc ∧ (((((((((((((((((((0 + (12 : Int32).toNatClampNeg) + (36 : Int32).toNatClampNeg) + (24 : Int32).toNatClampNeg) + (24 : Int32).toNatClampNeg) + (72 : Int32).toNatClampNeg) + (2 : Int32).toNatClampNeg) + (24 : Int32).toNatClampNeg) + (11 : Int32).toNatClampNeg) + (1600 : Int32).toNatClampNeg) + (320 : Int32).toNatClampNeg) + (520 : Int32).toNatClampNeg) + (52 : Int32).toNatClampNeg) + (52 : Int32).toNatClampNeg) + (52 : Int32).toNatClampNeg) + (12 : Int32).toNatClampNeg) + (144 : Int32).toNatClampNeg) + (144 : Int32).toNatClampNeg) + (32448 : Int32).toNatClampNeg) + (32448 : Int32).toNatClampNeg) + (32448 : Int32).toNatClampNeg ≤ ms ∧ ¬ (32448 : Int32) < 0 ∧ (32448 : Int32).toNatClampNeg * 4 ≤ 536870912 ∧ c_new σ_61 (.inl (0, (32448 : Int32).toNatClampNeg, .inl (fun _ => 0))) (fun q_63 σ_62 => c_P σ_62 [3] x0 42 (va_rf (some q_63)) (fun σ_64 => ((((((((((((((((((((0 + 1) + 1) + 1) + 1) + 1) + 1) + 1) + 1) + 1) + 1) + 1) + 1) + 1) + 1) + 1) + 1) + 1) + 1) + 1) + 1) + 1 ≤ mc ∧ ((((((((((((((((((((0 + (12 : Int32).toNatClampNeg) + (36 : Int32).toNatClampNeg) + (24 : Int32).toNatClampNeg) + (24 : Int32).toNatClampNeg) + (72 : Int32).toNatClampNeg) + (2 : Int32).toNatClampNeg) + (24 : Int32).toNatClampNeg) + (11 : Int32).toNatClampNeg) + (1600 : Int32).toNatClampNeg) + (320 : Int32).toNatClampNeg) + (520 : Int32).toNatClampNeg) + (52 : Int32).toNatClampNeg) + (52 : Int32).toNatClampNeg) + (52 : Int32).toNatClampNeg) + (12 : Int32).toNatClampNeg) + (144 : Int32).toNatClampNeg) + (144 : Int32).toNatClampNeg) + (32448 : Int32).toNatClampNeg) + (32448 : Int32).toNatClampNeg) + (32448 : Int32).toNatClampNeg) + (32448 : Int32).toNatClampNeg ≤ ms ∧ ¬ (32448 : Int32) < 0 ∧ (32448 : Int32).toNatClampNeg * 4 ≤ 536870912 ∧ c_new σ_64 (.inl (0, (32448 : Int32).toNatClampNeg, .inl (fun _ => 0))) (fun q_66 σ_65 => c_P σ_65 [3] x0 43 (va_rf (some q_66)) (fun σ_67 => (((((((((((((((((((((0 + 1) + 1) + 1) + 1) + 1) + 1) + 1) + 1) + 1) + 1) + 1) + 1) + 1) + 1) + 1) + 1) + 1) + 1) + 1) + 1) + 1) + 1 ≤ mc ∧ (((((((((((((((((((((0 + (12 : Int32).toNatClampNeg) + (36 : Int32).toNatClampNeg) + (24 : Int32).toNatClampNeg) + (24 : Int32).toNatClampNeg) + (72 : Int32).toNatClampNeg) + (2 : Int32).toNatClampNeg) + (24 : Int32).toNatClampNeg) + (11 : Int32).toNatClampNeg) + (1600 : Int32).toNatClampNeg) + (320 : Int32).toNatClampNeg) + (520 : Int32).toNatClampNeg) + (52 : Int32).toNatClampNeg) + (52 : Int32).toNatClampNeg) + (52 : Int32).toNatClampNeg) + (12 : Int32).toNatClampNeg) + (144 : Int32).toNatClampNeg) + (144 : Int32).toNatClampNeg) + (32448 : Int32).toNatClampNeg) + (32448 : Int32).toNatClampNeg) + (32448 : Int32).toNatClampNeg) + (32448 : Int32).toNatClampNeg) + (21632 : Int32).toNatClampNeg ≤ ms ∧ ¬ (21632 : Int32) < 0 ∧ (21632 : Int32).toNatClampNeg * 8 ≤ 536870912 ∧ c_new σ_67 (.inl (1, (21632 : Int32).toNatClampNeg, .inr (.inl (fun _ => 0)))) (fun q_69 σ_68 => c_P σ_68 [3] x0 44 (va_rf (some q_69)) (fun σ_70 => ((((((((((((((((((((((0 + 1) + 1) + 1) + 1) + 1) + 1) + 1) + 1) + 1) + 1) + 1) + 1) + 1) + 1) + 1) + 1) + 1) + 1) + 1) + 1) + 1) + 1) + 1 ≤ mc ∧ ((((((((((((((((((((((0 + (12 : Int32).toNatClampNeg) + (36 : Int32).toNatClampNeg) + (24 : Int32).toNatClampNeg) + (24 : Int32).toNatClampNeg) + (72 : Int32).toNatClampNeg) + (2 : Int32).toNatClampNeg) + (24 : Int32).toNatClampNeg) + (11 : Int32).toNatClampNeg) + (1600 : Int32).toNatClampNeg) + (320 : Int32).toNatClampNeg) + (520 : Int32).toNatClampNeg) + (52 : Int32).toNatClampNeg) + (52 : Int32).toNatClampNeg) + (52 : Int32).toNatClampNeg) + (12 : Int32).toNatClampNeg) + (144 : Int32).toNatClampNeg) + (144 : Int32).toNatClampNeg) + (32448 : Int32).toNatClampNeg) + (32448 : Int32).toNatClampNeg) + (32448 : Int32).toNatClampNeg) + (32448 : Int32).toNatClampNeg) + (21632 : Int32).toNatClampNeg) + (64896 : Int32).toNatClampNeg ≤ ms ∧ ¬ (64896 : Int32) < 0 ∧ (64896 : Int32).toNatClampNeg * 8 ≤ 536870912 ∧ c_new σ_70 (.inl (1, (64896 : Int32).toNatClampNeg, .inr (.inl (fun _ => 0)))) (fun q_72 σ_71 => c_P σ_71 [3] x0 45 (va_rf (some q_72)) (fun σ_73 => (((((((((((((((((((((((0 + 1) + 1) + 1) + 1) + 1) + 1) + 1) + 1) + 1) + 1) + 1) + 1) + 1) + 1) + 1) + 1) + 1) + 1) + 1) + 1) + 1) + 1) + 1) + 1 ≤ mc ∧ (((((((((((((((((((((((0 + (12 : Int32).toNatClampNeg) + (36 : Int32).toNatClampNeg) + (24 : Int32).toNatClampNeg) + (24 : Int32).toNatClampNeg) + (72 : Int32).toNatClampNeg) + (2 : Int32).toNatClampNeg) + (24 : Int32).toNatClampNeg) + (11 : Int32).toNatClampNeg) + (1600 : Int32).toNatClampNeg) + (320 : Int32).toNatClampNeg) + (520 : Int32).toNatClampNeg) + (52 : Int32).toNatClampNeg) + (52 : Int32).toNatClampNeg) + (52 : Int32).toNatClampNeg) + (12 : Int32).toNatClampNeg) + (144 : Int32).toNatClampNeg) + (144 : Int32).toNatClampNeg) + (32448 : Int32).toNatClampNeg) + (32448 : Int32).toNatClampNeg) + (32448 : Int32).toNatClampNeg) + (32448 : Int32).toNatClampNeg) + (21632 : Int32).toNatClampNeg) + (64896 : Int32).toNatClampNeg) + (700 : Int32).toNatClampNeg ≤ ms ∧ ¬ (700 : Int32) < 0 ∧ (700 : Int32).toNatClampNeg * 4 ≤ 536870912 ∧ c_new σ_73 (.inl (0, (700 : Int32).toNatClampNeg, .inl (fun _ => 0))) (fun q_75 σ_74 => c_P σ_74 [3] x0 47 (va_rf (some q_75)) (fun σ_76 => ((((((((((((((((((((((((0 + 1) + 1) + 1) + 1) + 1) + 1) + 1) + 1) + 1) + 1) + 1) + 1) + 1) + 1) + 1) + 1) + 1) + 1) + 1) + 1) + 1) + 1) + 1) + 1) + 1 ≤ mc ∧ ((((((((((((((((((((((((0 + (12 : Int32).toNatClampNeg) + (36 : Int32).toNatClampNeg) + (24 : Int32).toNatClampNeg) + (24 : Int32).toNatClampNeg) + (72 : Int32).toNatClampNeg) + (2 : Int32).toNatClampNeg) + (24 : Int32).toNatClampNeg) + (11 : Int32).toNatClampNeg) + (1600 : Int32).toNatClampNeg) + (320 : Int32).toNatClampNeg) + (520 : Int32).toNatClampNeg) + (52 : Int32).toNatClampNeg) + (52 : Int32).toNatClampNeg) + (52 : Int32).toNatClampNeg) + (12 : Int32).toNatClampNeg) + (144 : Int32).toNatClampNeg) + (144 : Int32).toNatClampNeg) + (32448 : Int32).toNatClampNeg) + (32448 : Int32).toNatClampNeg) + (32448 : Int32).toNatClampNeg) + (32448 : Int32).toNatClampNeg) + (21632 : Int32).toNatClampNeg) + (64896 : Int32).toNatClampNeg) + (700 : Int32).toNatClampNeg) + (700 : Int32).toNatClampNeg ≤ ms ∧ ¬ (700 : Int32) < 0 ∧ (700 : Int32).toNatClampNeg * 4 ≤ 536870912 ∧ c_new σ_76 (.inl (0, (700 : Int32).toNatClampNeg, .inl (fun _ => 0))) (fun q_78 σ_77 => c_P σ_77 [3] x0 48 (va_rf (some q_78)) (fun σ_79 => (((((((((((((((((((((((((0 + 1) + 1) + 1) + 1) + 1) + 1) + 1) + 1) + 1) + 1) + 1) + 1) + 1) + 1) + 1) + 1) + 1) + 1) + 1) + 1) + 1) + 1) + 1) + 1) + 1) + 1 ≤ mc ∧ (((((((((((((((((((((((((0 + (12 : Int32).toNatClampNeg) + (36 : Int32).toNatClampNeg) + (24 : Int32).toNatClampNeg) + (24 : Int32).toNatClampNeg) + (72 : Int32).toNatClampNeg) + (2 : Int32).toNatClampNeg) + (24 : Int32).toNatClampNeg) + (11 : Int32).toNatClampNeg) + (1600 : Int32).toNatClampNeg) + (320 : Int32).toNatClampNeg) + (520 : Int32).toNatClampNeg) + (52 : Int32).toNatClampNeg) + (52 : Int32).toNatClampNeg) + (52 : Int32).toNatClampNeg) + (12 : Int32).toNatClampNeg) + (144 : Int32).toNatClampNeg) + (144 : Int32).toNatClampNeg) + (32448 : Int32).toNatClampNeg) + (32448 : Int32).toNatClampNeg) + (32448 : Int32).toNatClampNeg) + (32448 : Int32).toNatClampNeg) + (21632 : Int32).toNatClampNeg) + (64896 : Int32).toNatClampNeg) + (700 : Int32).toNatClampNeg) + (700 : Int32).toNatClampNeg) + (700 : Int32).toNatClampNeg ≤ ms ∧ ¬ (700 : Int32) < 0 ∧ (700 : Int32).toNatClampNeg * 4 ≤ 536870912 ∧ c_new σ_79 (.inl (0, (700 : Int32).toNatClampNeg, .inl (fun _ => 0))) (fun q_81 σ_80 => c_P σ_80 [3] x0 49 (va_rf (some q_81)) (fun σ_82 => ((((((((((((((((((((((((((0 + 1) + 1) + 1) + 1) + 1) + 1) + 1) + 1) + 1) + 1) + 1) + 1) + 1) + 1) + 1) + 1) + 1) + 1) + 1) + 1) + 1) + 1) + 1) + 1) + 1) + 1) + 1 ≤ mc ∧ ((((((((((((((((((((((((((0 + (12 : Int32).toNatClampNeg) + (36 : Int32).toNatClampNeg) + (24 : Int32).toNatClampNeg) + (24 : Int32).toNatClampNeg) + (72 : Int32).toNatClampNeg) + (2 : Int32).toNatClampNeg) + (24 : Int32).toNatClampNeg) + (11 : Int32).toNatClampNeg) + (1600 : Int32).toNatClampNeg) + (320 : Int32).toNatClampNeg) + (520 : Int32).toNatClampNeg) + (52 : Int32).toNatClampNeg) + (52 : Int32).toNatClampNeg) + (52 : Int32).toNatClampNeg) + (12 : Int32).toNatClampNeg) + (144 : Int32).toNatClampNeg) + (144 : Int32).toNatClampNeg) + (32448 : Int32).toNatClampNeg) + (32448 : Int32).toNatClampNeg) + (32448 : Int32).toNatClampNeg) + (32448 : Int32).toNatClampNeg) + (21632 : Int32).toNatClampNeg) + (64896 : Int32).toNatClampNeg) + (700 : Int32).toNatClampNeg) + (700 : Int32).toNatClampNeg) + (700 : Int32).toNatClampNeg) + (700 : Int32).toNatClampNeg ≤ ms ∧ ¬ (700 : Int32) < 0 ∧ (700 : Int32).toNatClampNeg * 4 ≤ 536870912 ∧ c_new σ_82 (.inl (0, (700 : Int32).toNatClampNeg, .inl (fun _ => 0))) (fun q_84 σ_83 => c_P σ_83 [3] x0 50 (va_rf (some q_84)) (fun σ_85 => (((((((((((((((((((((((((((0 + 1) + 1) + 1) + 1) + 1) + 1) + 1) + 1) + 1) + 1) + 1) + 1) + 1) + 1) + 1) + 1) + 1) + 1) + 1) + 1) + 1) + 1) + 1) + 1) + 1) + 1) + 1) + 1 ≤ mc ∧ (((((((((((((((((((((((((((0 + (12 : Int32).toNatClampNeg) + (36 : Int32).toNatClampNeg) + (24 : Int32).toNatClampNeg) + (24 : Int32).toNatClampNeg) + (72 : Int32).toNatClampNeg) + (2 : Int32).toNatClampNeg) + (24 : Int32).toNatClampNeg) + (11 : Int32).toNatClampNeg) + (1600 : Int32).toNatClampNeg) + (320 : Int32).toNatClampNeg) + (520 : Int32).toNatClampNeg) + (52 : Int32).toNatClampNeg) + (52 : Int32).toNatClampNeg) + (52 : Int32).toNatClampNeg) + (12 : Int32).toNatClampNeg) + (144 : Int32).toNatClampNeg) + (144 : Int32).toNatClampNeg) + (32448 : Int32).toNatClampNeg) + (32448 : Int32).toNatClampNeg) + (32448 : Int32).toNatClampNeg) + (32448 : Int32).toNatClampNeg) + (21632 : Int32).toNatClampNeg) + (64896 : Int32).toNatClampNeg) + (700 : Int32).toNatClampNeg) + (700 : Int32).toNatClampNeg) + (700 : Int32).toNatClampNeg) + (700 : Int32).toNatClampNeg) + (6 : Int32).toNatClampNeg ≤ ms ∧ ¬ (6 : Int32) < 0 ∧ (6 : Int32).toNatClampNeg * 4 ≤ 536870912 ∧ c_new σ_85 (.inl (0, (6 : Int32).toNatClampNeg, .inl (fun _ => 0))) (fun q_87 σ_86 => c_P σ_86 [3] x0 51 (va_rf (some q_87)) (fun σ_88 => ((((((((((((((((((((((((((((0 + 1) + 1) + 1) + 1) + 1) + 1) + 1) + 1) + 1) + 1) + 1) + 1) + 1) + 1) + 1) + 1) + 1) + 1) + 1) + 1) + 1) + 1) + 1) + 1) + 1) + 1) + 1) + 1) + 1 ≤ mc ∧ ((((((((((((((((((((((((((((0 + (12 : Int32).toNatClampNeg) + (36 : Int32).toNatClampNeg) + (24 : Int32).toNatClampNeg) + (24 : Int32).toNatClampNeg) + (72 : Int32).toNatClampNeg) + (2 : Int32).toNatClampNeg) + (24 : Int32).toNatClampNeg) + (11 : Int32).toNatClampNeg) + (1600 : Int32).toNatClampNeg) + (320 : Int32).toNatClampNeg) + (520 : Int32).toNatClampNeg) + (52 : Int32).toNatClampNeg) + (52 : Int32).toNatClampNeg) + (52 : Int32).toNatClampNeg) + (12 : Int32).toNatClampNeg) + (144 : Int32).toNatClampNeg) + (144 : Int32).toNatClampNeg) + (32448 : Int32).toNatClampNeg) + (32448 : Int32).toNatClampNeg) + (32448 : Int32).toNatClampNeg) + (32448 : Int32).toNatClampNeg) + (21632 : Int32).toNatClampNeg) + (64896 : Int32).toNatClampNeg) + (700 : Int32).toNatClampNeg) + (700 : Int32).toNatClampNeg) + (700 : Int32).toNatClampNeg) + (700 : Int32).toNatClampNeg) + (6 : Int32).toNatClampNeg) + (6 : Int32).toNatClampNeg ≤ ms ∧ ¬ (6 : Int32) < 0 ∧ (6 : Int32).toNatClampNeg * 4 ≤ 536870912 ∧ c_new σ_88 (.inl (0, (6 : Int32).toNatClampNeg, .inl (fun _ => 0))) (fun q_90 σ_89 => c_P σ_89 [3] x0 52 (va_rf (some q_90)) (fun σ_91 => (((((((((((((((((((((((((((((0 + 1) + 1) + 1) + 1) + 1) + 1) + 1) + 1) + 1) + 1) + 1) + 1) + 1) + 1) + 1) + 1) + 1) + 1) + 1) + 1) + 1) + 1) + 1) + 1) + 1) + 1) + 1) + 1) + 1) + 1 ≤ mc ∧ (((((((((((((((((((((((((((((0 + (12 : Int32).toNatClampNeg) + (36 : Int32).toNatClampNeg) + (24 : Int32).toNatClampNeg) + (24 : Int32).toNatClampNeg) + (72 : Int32).toNatClampNeg) + (2 : Int32).toNatClampNeg) + (24 : Int32).toNatClampNeg) + (11 : Int32).toNatClampNeg) + (1600 : Int32).toNatClampNeg) + (320 : Int32).toNatClampNeg) + (520 : Int32).toNatClampNeg) + (52 : Int32).toNatClampNeg) + (52 : Int32).toNatClampNeg) + (52 : Int32).toNatClampNeg) + (12 : Int32).toNatClampNeg) + (144 : Int32).toNatClampNeg) + (144 : Int32).toNatClampNeg) + (32448 : Int32).toNatClampNeg) + (32448 : Int32).toNatClampNeg) + (32448 : Int32).toNatClampNeg) + (32448 : Int32).toNatClampNeg) + (21632 : Int32).toNatClampNeg) + (64896 : Int32).toNatClampNeg) + (700 : Int32).toNatClampNeg) + (700 : Int32).toNatClampNeg) + (700 : Int32).toNatClampNeg) + (700 : Int32).toNatClampNeg) + (6 : Int32).toNatClampNeg) + (6 : Int32).toNatClampNeg) + (9600 : Int32).toNatClampNeg ≤ ms ∧ ¬ (9600 : Int32) < 0 ∧ (9600 : Int32).toNatClampNeg * 4 ≤ 536870912 ∧ c_new σ_91 (.inl (0, (9600 : Int32).toNatClampNeg, .inl (fun _ => 0))) (fun q_93 σ_92 => c_P σ_92 [3] x0 53 (va_rf (some q_93)) (fun σ_94 => ((((((((((((((((((((((((((((((0 + 1) + 1) + 1) + 1) + 1) + 1) + 1) + 1) + 1) + 1) + 1) + 1) + 1) + 1) + 1) + 1) + 1) + 1) + 1) + 1) + 1) + 1) + 1) + 1) + 1) + 1) + 1) + 1) + 1) + 1) + 1 ≤ mc ∧ ((((((((((((((((((((((((((((((0 + (12 : Int32).toNatClampNeg) + (36 : Int32).toNatClampNeg) + (24 : Int32).toNatClampNeg) + (24 : Int32).toNatClampNeg) + (72 : Int32).toNatClampNeg) + (2 : Int32).toNatClampNeg) + (24 : Int32).toNatClampNeg) + (11 : Int32).toNatClampNeg) + (1600 : Int32).toNatClampNeg) + (320 : Int32).toNatClampNeg) + (520 : Int32).toNatClampNeg) + (52 : Int32).toNatClampNeg) + (52 : Int32).toNatClampNeg) + (52 : Int32).toNatClampNeg) + (12 : Int32).toNatClampNeg) + (144 : Int32).toNatClampNeg) + (144 : Int32).toNatClampNeg) + (32448 : Int32).toNatClampNeg) + (32448 : Int32).toNatClampNeg) + (32448 : Int32).toNatClampNeg) + (32448 : Int32).toNatClampNeg) + (21632 : Int32).toNatClampNeg) + (64896 : Int32).toNatClampNeg) + (700 : Int32).toNatClampNeg) + (700 : Int32).toNatClampNeg) + (700 : Int32).toNatClampNeg) + (700 : Int32).toNatClampNeg) + (6 : Int32).toNatClampNeg) + (6 : Int32).toNatClampNeg) + (9600 : Int32).toNatClampNeg) + (52 : Int32).toNatClampNeg ≤ ms ∧ ¬ (52 : Int32) < 0 ∧ (52 : Int32).toNatClampNeg * 4 ≤ 536870912 ∧ c_new σ_94 (.inl (0, (52 : Int32).toNatClampNeg, .inl (fun _ => 0))) (fun q_96 σ_95 => c_P σ_95 [3] x0 54 (va_rf (some q_96)) (fun σ_97 => (((((((((((((((((((((((((((((((0 + 1) + 1) + 1) + 1) + 1) + 1) + 1) + 1) + 1) + 1) + 1) + 1) + 1) + 1) + 1) + 1) + 1) + 1) + 1) + 1) + 1) + 1) + 1) + 1) + 1) + 1) + 1) + 1) + 1) + 1) + 1) + 1 ≤ mc ∧ (((((((((((((((((((((((((((((((0 + (12 : Int32).toNatClampNeg) + (36 : Int32).toNatClampNeg) + (24 : Int32).toNatClampNeg) + (24 : Int32).toNatClampNeg) + (72 : Int32).toNatClampNeg) + (2 : Int32).toNatClampNeg) + (24 : Int32).toNatClampNeg) + (11 : Int32).toNatClampNeg) + (1600 : Int32).toNatClampNeg) + (320 : Int32).toNatClampNeg) + (520 : Int32).toNatClampNeg) + (52 : Int32).toNatClampNeg) + (52 : Int32).toNatClampNeg) + (52 : Int32).toNatClampNeg) + (12 : Int32).toNatClampNeg) + (144 : Int32).toNatClampNeg) + (144 : Int32).toNatClampNeg) + (32448 : Int32).toNatClampNeg) + (32448 : Int32).toNatClampNeg) + (32448 : Int32).toNatClampNeg) + (32448 : Int32).toNatClampNeg) + (21632 : Int32).toNatClampNeg) + (64896 : Int32).toNatClampNeg) + (700 : Int32).toNatClampNeg) + (700 : Int32).toNatClampNeg) + (700 : Int32).toNatClampNeg) + (700 : Int32).toNatClampNeg) + (6 : Int32).toNatClampNeg) + (6 : Int32).toNatClampNeg) + (9600 : Int32).toNatClampNeg) + (52 : Int32).toNatClampNeg) + (52 : Int32).toNatClampNeg ≤ ms ∧ ¬ (52 : Int32) < 0 ∧ (52 : Int32).toNatClampNeg * 4 ≤ 536870912 ∧ c_new σ_97 (.inl (0, (52 : Int32).toNatClampNeg, .inl (fun _ => 0))) (fun q_99 σ_98 => c_P σ_98 [3] x0 55 (va_rf (some q_99)) (fun σ_100 => Q σ_100))))))))))))))))))))))))))))))))))))))))))))))))))))))))))))))))))))
set_option maxHeartbeats 4000000 in
theorem ctX3_init {Q : gH → Prop} {mc ms : Nat} {x0 : Nat} {σ : gH} (w : wX3_init Q mc ms x0 σ) : CT mX3_init 1 mc ms [.ref x0] σ (c_Kv Q) := by
  refine CT.of (lv := [(0, .ref x0)]) okX3_init.1 rfl rfl ?_
  unfold wX3_init at w
  refine e_aload_n (n := 1) dX3_init_0 rfl 0 rfl ?_
  refine e_objInit (n := 4) q1332 q99 q100 (by decide) (Nat.le_of_ble_eq_true rfl) dX3_init_1 rfl ?_
  refine e_aload_n (n := 5) dX3_init_4 rfl 0 rfl ?_
  refine e_bipush (n := 7) (v := 12) dX3_init_5 rfl (by decide) ?_
  obtain ⟨hu1, hu2, w⟩ := w
  obtain ⟨wn, wb, w⟩ := w
  refine e_cnewZ (n := 9) (z := 12) w wn wb hu1 hu2 dX3_init_7 rfl (fun q_2 σ_1 w => ?_)
  refine e_cPF (n := 12) (ty := (.array .boolean)) w ff_X3_init_fence rfl (rf_narA _ (some q_2)) dX3_init_9 rfl (fun σ_3 w => ?_)
  refine e_aload_n (n := 13) dX3_init_12 rfl 0 rfl ?_
  refine e_bipush (n := 15) (v := 36) dX3_init_13 rfl (by decide) ?_
  obtain ⟨hu1, hu2, w⟩ := w
  obtain ⟨wn, wb, w⟩ := w
  refine e_cnewI (n := 17) (z := 36) w wn wb hu1 hu2 dX3_init_15 rfl (fun q_5 σ_4 w => ?_)
  refine e_cPF (n := 20) (ty := (.array .int)) w ff_X3_init_prices rfl (rf_narA _ (some q_5)) dX3_init_17 rfl (fun σ_6 w => ?_)
  refine e_aload_n (n := 21) dX3_init_20 rfl 0 rfl ?_
  refine e_bipush (n := 23) (v := 10) dX3_init_21 rfl (by decide) ?_
  refine e_cP (n := 26) (ty := .int) w tyX3 tyX3_ok nmX3 in_X3 rfl rfl (gl_o q1337) rfl rfl ⟨rfl, rfl⟩ dX3_init_23 rfl (fun σ_7 w => ?_)
  refine e_aload_n (n := 27) dX3_init_26 rfl 0 rfl ?_
  refine e_bipush (n := 29) (v := 15) dX3_init_27 rfl (by decide) ?_
  refine e_cP (n := 32) (ty := .int) w tyX3 tyX3_ok nmX3 in_X3 rfl rfl (gl_o q1338) rfl rfl ⟨rfl, rfl⟩ dX3_init_29 rfl (fun σ_8 w => ?_)
  refine e_aload_n (n := 33) dX3_init_32 rfl 0 rfl ?_
  refine e_bipush (n := 35) (v := 24) dX3_init_33 rfl (by decide) ?_
  obtain ⟨hu1, hu2, w⟩ := w
  obtain ⟨wn, wb, w⟩ := w
  refine e_cnewI (n := 37) (z := 24) w wn wb hu1 hu2 dX3_init_35 rfl (fun q_10 σ_9 w => ?_)
  refine e_cPF (n := 40) (ty := (.array .int)) w ff_X3_init_ruleName rfl (rf_narA _ (some q_10)) dX3_init_37 rfl (fun σ_11 w => ?_)
  refine e_aload_n (n := 41) dX3_init_40 rfl 0 rfl ?_
  refine e_bipush (n := 43) (v := 24) dX3_init_41 rfl (by decide) ?_
  obtain ⟨hu1, hu2, w⟩ := w
  obtain ⟨wn, wb, w⟩ := w
  refine e_cnewI (n := 45) (z := 24) w wn wb hu1 hu2 dX3_init_43 rfl (fun q_13 σ_12 w => ?_)
  refine e_cPF (n := 48) (ty := (.array .int)) w ff_X3_init_ruleMany rfl (rf_narA _ (some q_13)) dX3_init_45 rfl (fun σ_14 w => ?_)
  refine e_aload_n (n := 49) dX3_init_48 rfl 0 rfl ?_
  refine e_bipush (n := 51) (v := 72) dX3_init_49 rfl (by decide) ?_
  obtain ⟨hu1, hu2, w⟩ := w
  obtain ⟨wn, wb, w⟩ := w
  refine e_cnewI (n := 53) (z := 72) w wn wb hu1 hu2 dX3_init_51 rfl (fun q_16 σ_15 w => ?_)
  refine e_cPF (n := 56) (ty := (.array .int)) w ff_X3_init_symbols rfl (rf_narA _ (some q_16)) dX3_init_53 rfl (fun σ_17 w => ?_)
  refine e_aload_n (n := 57) dX3_init_56 rfl 0 rfl ?_
  refine e_iconst (n := 58) (v := 2) dX3_init_57 rfl (by decide) ?_
  obtain ⟨hu1, hu2, w⟩ := w
  obtain ⟨wn, wb, w⟩ := w
  refine e_cnewI (n := 60) (z := 2) w wn wb hu1 hu2 dX3_init_58 rfl (fun q_19 σ_18 w => ?_)
  refine e_cPF (n := 63) (ty := (.array .int)) w ff_X3_init_forms rfl (rf_narA _ (some q_19)) dX3_init_60 rfl (fun σ_20 w => ?_)
  refine e_aload_n (n := 64) dX3_init_63 rfl 0 rfl ?_
  refine e_bipush (n := 66) (v := 24) dX3_init_64 rfl (by decide) ?_
  obtain ⟨hu1, hu2, w⟩ := w
  obtain ⟨wn, wb, w⟩ := w
  refine e_cnewI (n := 68) (z := 24) w wn wb hu1 hu2 dX3_init_66 rfl (fun q_22 σ_21 w => ?_)
  refine e_cPF (n := 71) (ty := (.array .int)) w ff_X3_init_formRow rfl (rf_narA _ (some q_22)) dX3_init_68 rfl (fun σ_23 w => ?_)
  refine e_aload_n (n := 72) dX3_init_71 rfl 0 rfl ?_
  refine e_bipush (n := 74) (v := 11) dX3_init_72 rfl (by decide) ?_
  obtain ⟨hu1, hu2, w⟩ := w
  obtain ⟨wn, wb, w⟩ := w
  refine e_cnewI (n := 76) (z := 11) w wn wb hu1 hu2 dX3_init_74 rfl (fun q_25 σ_24 w => ?_)
  refine e_cPF (n := 79) (ty := (.array .int)) w ff_X3_init_text rfl (rf_narA _ (some q_25)) dX3_init_76 rfl (fun σ_26 w => ?_)
  refine e_aload_n (n := 80) dX3_init_79 rfl 0 rfl ?_
  refine e_bipush (n := 82) (v := (-4)) dX3_init_80 rfl (by decide) ?_
  refine e_cP (n := 85) (ty := .int) w tyX3 tyX3_ok nmX3 in_X3 rfl rfl (gl_o q1351) rfl rfl ⟨rfl, rfl⟩ dX3_init_82 rfl (fun σ_27 w => ?_)
  refine e_aload_n (n := 86) dX3_init_85 rfl 0 rfl ?_
  refine e_bipush (n := 88) (v := (-4)) dX3_init_86 rfl (by decide) ?_
  refine e_cP (n := 91) (ty := .int) w tyX3 tyX3_ok nmX3 in_X3 rfl rfl (gl_o q1355) rfl rfl ⟨rfl, rfl⟩ dX3_init_88 rfl (fun σ_28 w => ?_)
  refine e_aload_n (n := 92) dX3_init_91 rfl 0 rfl ?_
  refine e_sipush (n := 95) (v := 1600) dX3_init_92 rfl (by decide) ?_
  obtain ⟨hu1, hu2, w⟩ := w
  obtain ⟨wn, wb, w⟩ := w
  refine e_cnewI (n := 97) (z := 1600) w wn wb hu1 hu2 dX3_init_95 rfl (fun q_30 σ_29 w => ?_)
  refine e_cPF (n := 100) (ty := (.array .int)) w ff_X3_init_slipRow rfl (rf_narA _ (some q_30)) dX3_init_97 rfl (fun σ_31 w => ?_)
  refine e_aload_n (n := 101) dX3_init_100 rfl 0 rfl ?_
  refine e_sipush (n := 104) (v := 320) dX3_init_101 rfl (by decide) ?_
  obtain ⟨hu1, hu2, w⟩ := w
  obtain ⟨wn, wb, w⟩ := w
  refine e_cnewI (n := 106) (z := 320) w wn wb hu1 hu2 dX3_init_104 rfl (fun q_33 σ_32 w => ?_)
  refine e_cPF (n := 109) (ty := (.array .int)) w ff_X3_init_word rfl (rf_narA _ (some q_33)) dX3_init_106 rfl (fun σ_34 w => ?_)
  refine e_aload_n (n := 110) dX3_init_109 rfl 0 rfl ?_
  refine e_sipush (n := 113) (v := 520) dX3_init_110 rfl (by decide) ?_
  obtain ⟨hu1, hu2, w⟩ := w
  obtain ⟨wn, wb, w⟩ := w
  refine e_cnewI (n := 115) (z := 520) w wn wb hu1 hu2 dX3_init_113 rfl (fun q_36 σ_35 w => ?_)
  refine e_cPF (n := 118) (ty := (.array .int)) w ff_X3_init_nodeRow rfl (rf_narA _ (some q_36)) dX3_init_115 rfl (fun σ_37 w => ?_)
  refine e_aload_n (n := 119) dX3_init_118 rfl 0 rfl ?_
  refine e_bipush (n := 121) (v := 52) dX3_init_119 rfl (by decide) ?_
  obtain ⟨hu1, hu2, w⟩ := w
  obtain ⟨wn, wb, w⟩ := w
  refine e_cnewI (n := 123) (z := 52) w wn wb hu1 hu2 dX3_init_121 rfl (fun q_39 σ_38 w => ?_)
  refine e_cPF (n := 126) (ty := (.array .int)) w ff_X3_init_knotSort rfl (rf_narA _ (some q_39)) dX3_init_123 rfl (fun σ_40 w => ?_)
  refine e_aload_n (n := 127) dX3_init_126 rfl 0 rfl ?_
  refine e_bipush (n := 129) (v := 52) dX3_init_127 rfl (by decide) ?_
  obtain ⟨hu1, hu2, w⟩ := w
  obtain ⟨wn, wb, w⟩ := w
  refine e_cnewI (n := 131) (z := 52) w wn wb hu1 hu2 dX3_init_129 rfl (fun q_42 σ_41 w => ?_)
  refine e_cPF (n := 134) (ty := (.array .int)) w ff_X3_init_knotPlace rfl (rf_narA _ (some q_42)) dX3_init_131 rfl (fun σ_43 w => ?_)
  refine e_aload_n (n := 135) dX3_init_134 rfl 0 rfl ?_
  refine e_bipush (n := 137) (v := 52) dX3_init_135 rfl (by decide) ?_
  obtain ⟨hu1, hu2, w⟩ := w
  obtain ⟨wn, wb, w⟩ := w
  refine e_cnewI (n := 139) (z := 52) w wn wb hu1 hu2 dX3_init_137 rfl (fun q_45 σ_44 w => ?_)
  refine e_cPF (n := 142) (ty := (.array .int)) w ff_X3_init_knotForm rfl (rf_narA _ (some q_45)) dX3_init_139 rfl (fun σ_46 w => ?_)
  refine e_aload_n (n := 143) dX3_init_142 rfl 0 rfl ?_
  refine e_bipush (n := 145) (v := 12) dX3_init_143 rfl (by decide) ?_
  obtain ⟨hu1, hu2, w⟩ := w
  obtain ⟨wn, wb, w⟩ := w
  refine e_cnewI (n := 147) (z := 12) w wn wb hu1 hu2 dX3_init_145 rfl (fun q_48 σ_47 w => ?_)
  refine e_cPF (n := 150) (ty := (.array .int)) w ff_X3_init_realAt rfl (rf_narA _ (some q_48)) dX3_init_147 rfl (fun σ_49 w => ?_)
  refine e_aload_n (n := 151) dX3_init_150 rfl 0 rfl ?_
  refine e_sipush (n := 154) (v := 144) dX3_init_151 rfl (by decide) ?_
  obtain ⟨hu1, hu2, w⟩ := w
  obtain ⟨wn, wb, w⟩ := w
  refine e_cnewI (n := 156) (z := 144) w wn wb hu1 hu2 dX3_init_154 rfl (fun q_51 σ_50 w => ?_)
  refine e_cPF (n := 159) (ty := (.array .int)) w ff_X3_init_skip rfl (rf_narA _ (some q_51)) dX3_init_156 rfl (fun σ_52 w => ?_)
  refine e_aload_n (n := 160) dX3_init_159 rfl 0 rfl ?_
  refine e_sipush (n := 163) (v := 144) dX3_init_160 rfl (by decide) ?_
  obtain ⟨hu1, hu2, w⟩ := w
  obtain ⟨wn, wb, w⟩ := w
  refine e_cnewI (n := 165) (z := 144) w wn wb hu1 hu2 dX3_init_163 rfl (fun q_54 σ_53 w => ?_)
  refine e_cPF (n := 168) (ty := (.array .int)) w ff_X3_init_skipBy rfl (rf_narA _ (some q_54)) dX3_init_165 rfl (fun σ_55 w => ?_)
  refine e_aload_n (n := 169) dX3_init_168 rfl 0 rfl ?_
  refine e_sipush (n := 172) (v := 32448) dX3_init_169 rfl (by decide) ?_
  obtain ⟨hu1, hu2, w⟩ := w
  obtain ⟨wn, wb, w⟩ := w
  refine e_cnewI (n := 174) (z := 32448) w wn wb hu1 hu2 dX3_init_172 rfl (fun q_57 σ_56 w => ?_)
  refine e_cPF (n := 177) (ty := (.array .int)) w ff_X3_init_reads rfl (rf_narA _ (some q_57)) dX3_init_174 rfl (fun σ_58 w => ?_)
  refine e_aload_n (n := 178) dX3_init_177 rfl 0 rfl ?_
  refine e_sipush (n := 181) (v := 32448) dX3_init_178 rfl (by decide) ?_
  obtain ⟨hu1, hu2, w⟩ := w
  obtain ⟨wn, wb, w⟩ := w
  refine e_cnewI (n := 183) (z := 32448) w wn wb hu1 hu2 dX3_init_181 rfl (fun q_60 σ_59 w => ?_)
  refine e_cPF (n := 186) (ty := (.array .int)) w ff_X3_init_readFrom rfl (rf_narA _ (some q_60)) dX3_init_183 rfl (fun σ_61 w => ?_)
  refine e_aload_n (n := 187) dX3_init_186 rfl 0 rfl ?_
  refine e_sipush (n := 190) (v := 32448) dX3_init_187 rfl (by decide) ?_
  obtain ⟨hu1, hu2, w⟩ := w
  obtain ⟨wn, wb, w⟩ := w
  refine e_cnewI (n := 192) (z := 32448) w wn wb hu1 hu2 dX3_init_190 rfl (fun q_63 σ_62 w => ?_)
  refine e_cPF (n := 195) (ty := (.array .int)) w ff_X3_init_readKind rfl (rf_narA _ (some q_63)) dX3_init_192 rfl (fun σ_64 w => ?_)
  refine e_aload_n (n := 196) dX3_init_195 rfl 0 rfl ?_
  refine e_sipush (n := 199) (v := 32448) dX3_init_196 rfl (by decide) ?_
  obtain ⟨hu1, hu2, w⟩ := w
  obtain ⟨wn, wb, w⟩ := w
  refine e_cnewI (n := 201) (z := 32448) w wn wb hu1 hu2 dX3_init_199 rfl (fun q_66 σ_65 w => ?_)
  refine e_cPF (n := 204) (ty := (.array .int)) w ff_X3_init_readForm rfl (rf_narA _ (some q_66)) dX3_init_201 rfl (fun σ_67 w => ?_)
  refine e_aload_n (n := 205) dX3_init_204 rfl 0 rfl ?_
  refine e_sipush (n := 208) (v := 21632) dX3_init_205 rfl (by decide) ?_
  obtain ⟨hu1, hu2, w⟩ := w
  obtain ⟨wn, wb, w⟩ := w
  refine e_cnewJ (n := 210) (z := 21632) w wn wb hu1 hu2 dX3_init_208 rfl (fun q_69 σ_68 w => ?_)
  refine e_cPF (n := 213) (ty := (.array .long)) w ff_X3_init_costs rfl (rf_narA _ (some q_69)) dX3_init_210 rfl (fun σ_70 w => ?_)
  refine e_aload_n (n := 214) dX3_init_213 rfl 0 rfl ?_
  refine e_ldc (n := 216) q1333 dX3_init_214 rfl ?_
  obtain ⟨hu1, hu2, w⟩ := w
  obtain ⟨wn, wb, w⟩ := w
  refine e_cnewJ (n := 218) (z := 64896) w wn wb hu1 hu2 dX3_init_216 rfl (fun q_72 σ_71 w => ?_)
  refine e_cPF (n := 221) (ty := (.array .long)) w ff_X3_init_firsts rfl (rf_narA _ (some q_72)) dX3_init_218 rfl (fun σ_73 w => ?_)
  refine e_aload_n (n := 222) dX3_init_221 rfl 0 rfl ?_
  refine e_sipush (n := 225) (v := 700) dX3_init_222 rfl (by decide) ?_
  obtain ⟨hu1, hu2, w⟩ := w
  obtain ⟨wn, wb, w⟩ := w
  refine e_cnewI (n := 227) (z := 700) w wn wb hu1 hu2 dX3_init_225 rfl (fun q_75 σ_74 w => ?_)
  refine e_cPF (n := 230) (ty := (.array .int)) w ff_X3_init_pileSymbol rfl (rf_narA _ (some q_75)) dX3_init_227 rfl (fun σ_76 w => ?_)
  refine e_aload_n (n := 231) dX3_init_230 rfl 0 rfl ?_
  refine e_sipush (n := 234) (v := 700) dX3_init_231 rfl (by decide) ?_
  obtain ⟨hu1, hu2, w⟩ := w
  obtain ⟨wn, wb, w⟩ := w
  refine e_cnewI (n := 236) (z := 700) w wn wb hu1 hu2 dX3_init_234 rfl (fun q_78 σ_77 w => ?_)
  refine e_cPF (n := 239) (ty := (.array .int)) w ff_X3_init_pileFrom rfl (rf_narA _ (some q_78)) dX3_init_236 rfl (fun σ_79 w => ?_)
  refine e_aload_n (n := 240) dX3_init_239 rfl 0 rfl ?_
  refine e_sipush (n := 243) (v := 700) dX3_init_240 rfl (by decide) ?_
  obtain ⟨hu1, hu2, w⟩ := w
  obtain ⟨wn, wb, w⟩ := w
  refine e_cnewI (n := 245) (z := 700) w wn wb hu1 hu2 dX3_init_243 rfl (fun q_81 σ_80 w => ?_)
  refine e_cPF (n := 248) (ty := (.array .int)) w ff_X3_init_pileTo rfl (rf_narA _ (some q_81)) dX3_init_245 rfl (fun σ_82 w => ?_)
  refine e_aload_n (n := 249) dX3_init_248 rfl 0 rfl ?_
  refine e_sipush (n := 252) (v := 700) dX3_init_249 rfl (by decide) ?_
  obtain ⟨hu1, hu2, w⟩ := w
  obtain ⟨wn, wb, w⟩ := w
  refine e_cnewI (n := 254) (z := 700) w wn wb hu1 hu2 dX3_init_252 rfl (fun q_84 σ_83 w => ?_)
  refine e_cPF (n := 257) (ty := (.array .int)) w ff_X3_init_pileNode rfl (rf_narA _ (some q_84)) dX3_init_254 rfl (fun σ_85 w => ?_)
  refine e_aload_n (n := 258) dX3_init_257 rfl 0 rfl ?_
  refine e_bipush (n := 260) (v := 6) dX3_init_258 rfl (by decide) ?_
  obtain ⟨hu1, hu2, w⟩ := w
  obtain ⟨wn, wb, w⟩ := w
  refine e_cnewI (n := 262) (z := 6) w wn wb hu1 hu2 dX3_init_260 rfl (fun q_87 σ_86 w => ?_)
  refine e_cPF (n := 265) (ty := (.array .int)) w ff_X3_init_shelfKind rfl (rf_narA _ (some q_87)) dX3_init_262 rfl (fun σ_88 w => ?_)
  refine e_aload_n (n := 266) dX3_init_265 rfl 0 rfl ?_
  refine e_bipush (n := 268) (v := 6) dX3_init_266 rfl (by decide) ?_
  obtain ⟨hu1, hu2, w⟩ := w
  obtain ⟨wn, wb, w⟩ := w
  refine e_cnewI (n := 270) (z := 6) w wn wb hu1 hu2 dX3_init_268 rfl (fun q_90 σ_89 w => ?_)
  refine e_cPF (n := 273) (ty := (.array .int)) w ff_X3_init_shelfMany rfl (rf_narA _ (some q_90)) dX3_init_270 rfl (fun σ_91 w => ?_)
  refine e_aload_n (n := 274) dX3_init_273 rfl 0 rfl ?_
  refine e_sipush (n := 277) (v := 9600) dX3_init_274 rfl (by decide) ?_
  obtain ⟨hu1, hu2, w⟩ := w
  obtain ⟨wn, wb, w⟩ := w
  refine e_cnewI (n := 279) (z := 9600) w wn wb hu1 hu2 dX3_init_277 rfl (fun q_93 σ_92 w => ?_)
  refine e_cPF (n := 282) (ty := (.array .int)) w ff_X3_init_shelfRow rfl (rf_narA _ (some q_93)) dX3_init_279 rfl (fun σ_94 w => ?_)
  refine e_aload_n (n := 283) dX3_init_282 rfl 0 rfl ?_
  refine e_bipush (n := 285) (v := 52) dX3_init_283 rfl (by decide) ?_
  obtain ⟨hu1, hu2, w⟩ := w
  obtain ⟨wn, wb, w⟩ := w
  refine e_cnewI (n := 287) (z := 52) w wn wb hu1 hu2 dX3_init_285 rfl (fun q_96 σ_95 w => ?_)
  refine e_cPF (n := 290) (ty := (.array .int)) w ff_X3_init_reached rfl (rf_narA _ (some q_96)) dX3_init_287 rfl (fun σ_97 w => ?_)
  refine e_aload_n (n := 291) dX3_init_290 rfl 0 rfl ?_
  refine e_bipush (n := 293) (v := 52) dX3_init_291 rfl (by decide) ?_
  obtain ⟨hu1, hu2, w⟩ := w
  obtain ⟨wn, wb, w⟩ := w
  refine e_cnewI (n := 295) (z := 52) w wn wb hu1 hu2 dX3_init_293 rfl (fun q_99 σ_98 w => ?_)
  refine e_cPF (n := 298) (ty := (.array .int)) w ff_X3_init_next rfl (rf_narA _ (some q_99)) dX3_init_295 rfl (fun σ_100 w => ?_)
  exact e_vret rfl hu1 hu2 ⟨rfl, w⟩ dX3_init_298
